/-! lifted by lift.py -/
def g_X8_thrown (S : AM) : Option (Int) :=
  some (S M_o 0)
set_option maxRecDepth 10000 in
theorem lf_X8_thrown {S : Mem} {S' : AM} (hS : (RT tM) S S') : Lp RI (f_X8_thrown S) (g_X8_thrown S') := by
  unfold f_X8_thrown g_X8_thrown
  exact Lp_val (RI.at hS rfl rfl rfl)
def g_X8_noSide_9 : Option (Int) :=
  some (1)
set_option maxRecDepth 10000 in
theorem lf_X8_noSide_9 : Lp RI (f_X8_noSide_9) (g_X8_noSide_9) := by
  unfold f_X8_noSide_9 g_X8_noSide_9
  exact Lp_val (RI.lit 1 (by decide))
def g_X8_noSide (x0 : Int) : Option (Int) :=
  if x0 < 0 then
    g_X8_noSide_9
  else
    if x0 ≤ 1 then
      some (0)
    else
      g_X8_noSide_9
set_option maxRecDepth 10000 in
theorem lf_X8_noSide {x0 : Int32} {x0' : Int} (hx0 : RI x0 x0') : Lp RI (f_X8_noSide x0) (g_X8_noSide x0') := by
  unfold f_X8_noSide g_X8_noSide
  refine Lp_ite (C_lt hx0 (RI.lit 0 (by decide))) (fun c1 => ?_) (fun c1 => ?_)
  · exact lf_X8_noSide_9
  · refine Lp_ite (C_le hx0 (RI.lit 1 (by decide))) (fun c2 => ?_) (fun c2 => ?_)
    · exact Lp_val (RI.lit 0 (by decide))
    · exact lf_X8_noSide_9
def g_X8_fails_10 (S : AM) (x1 : Int) (y0 : Int) : Option (AM × Int) :=
  gS (uA S M_o 0 y0) fun S1 =>
  hB x1 <|
  some (S1, x1)
set_option maxRecDepth 10000 in
theorem lf_X8_fails_10 {S : Mem} {S' : AM} (hS : (RT tM) S S') {x1 : Int32} {x1' : Int} (hx1 : RI x1 x1') {y0 : Int32} {y0' : Int} (hy0 : RI y0 y0') : Lf (RP (RT tM) RI) (f_X8_fails_10 S x1 y0) (g_X8_fails_10 S' x1' y0') := by
  unfold f_X8_fails_10 g_X8_fails_10
  refine Lf_st (RT.siq hS rfl rfl hy0 rfl) (fun S1 S1' hS1 => ?_)
  refine Lf_hB hx1.1 ?_
  exact Lf_some (RP.mk hS1 hx1)
def g_X8_fails (S : AM) (x1 : Int) (x2 : Int) : Option (AM × Int) :=
  if x1 = 0 then
    g_X8_fails_10 S x1 0
  else
    g_X8_fails_10 S x1 x2
set_option maxRecDepth 10000 in
theorem lf_X8_fails {S : Mem} {S' : AM} (hS : (RT tM) S S') {x1 : Int32} {x1' : Int} (hx1 : RI x1 x1') {x2 : Int32} {x2' : Int} (hx2 : RI x2 x2') : Lf (RP (RT tM) RI) (f_X8_fails S x1 x2) (g_X8_fails S' x1' x2') := by
  unfold f_X8_fails g_X8_fails
  refine Lf_ite (C_eq hx1 (RI.lit 0 (by decide))) (fun c1 => ?_) (fun c1 => ?_)
  · exact lf_X8_fails_10 hS hx1 (RI.lit 0 (by decide))
  · exact lf_X8_fails_10 hS hx1 hx2
def g_X8_grant_90 (S : AM) (x1 : Int) (x2 : Int) (x3 : Int) : Option (AM) :=
  if x2 ≤ 7 then
    some (S)
  else
    hA (((2 * x1) + x2) - 8) 4 <|
    gS (uA S M_granted (((((2 * x1) + x2) - 8) : Int).toNat) x3) fun S1 =>
    some (S1)
set_option maxRecDepth 10000 in
theorem lf_X8_grant_90 {S : Mem} {S' : AM} (hS : (RT tM) S S') {x1 : Int32} {x1' : Int} (hx1 : RI x1 x1') {x2 : Int32} {x2' : Int} (hx2 : RI x2 x2') {x3 : Int32} {x3' : Int} (hx3 : RI x3 x3') : Lf (RT tM) (f_X8_grant_90 S x1 x2 x3) (g_X8_grant_90 S' x1' x2' x3') := by
  unfold f_X8_grant_90 g_X8_grant_90
  refine Lf_ite (C_le hx2 (RI.lit 7 (by decide))) (fun c1 => ?_) (fun c1 => ?_)
  · exact Lf_some hS
  · refine Lf_hA (E_sub (E_add (E_mul (li32 2) hx1.1) hx2.1) (li32 8)) (by decide) (fun b2 => ?_)
    refine Lf_st (RT.siq hS rfl (tnE (E_sub (E_add (E_mul (li32 2) hx1.1) hx2.1) (li32 8)) b2 (by decide)) hx3 rfl) (fun S1 S1' hS1 => ?_)
    exact Lf_some hS1
def g_X8_grant_45 (S : AM) (x1 : Int) (x2 : Int) (x3 : Int) (y0 : Int) : Option (AM) :=
  gB2 (g_X8_fails S y0 1) fun S1 v2 =>
  if v2 ≠ 0 then
    some (S1)
  else
    gB2 (g_X8_fails S1 (S1 M_o 1) 2) fun S3 v4 =>
    if v4 = 0 then
      hA ((16 * x1) + x2) 32 <|
      gS (uA S3 M_grants ((((16 * x1) + x2) : Int).toNat) x3) fun S5 =>
      if x2 ≠ 4 then
        g_X8_grant_90 S5 x1 x2 x3
      else
        hA x1 2 <|
        gS (uA S5 M_dataGrant ((x1 : Int).toNat) x3) fun S6 =>
        g_X8_grant_90 S6 x1 x2 x3
    else
      some (S3)
set_option maxRecDepth 10000 in
theorem lf_X8_grant_45 {S : Mem} {S' : AM} (hS : (RT tM) S S') {x1 : Int32} {x1' : Int} (hx1 : RI x1 x1') {x2 : Int32} {x2' : Int} (hx2 : RI x2 x2') {x3 : Int32} {x3' : Int} (hx3 : RI x3 x3') {y0 : Int32} {y0' : Int} (hy0 : RI y0 y0') : Lf (RT tM) (f_X8_grant_45 S x1 x2 x3 y0) (g_X8_grant_45 S' x1' x2' x3' y0') := by
  unfold f_X8_grant_45 g_X8_grant_45
  refine Lf_gB2 (lf_X8_fails hS hy0 (RI.lit 1 (by decide))) (fun S1 S1' hS1 v2 v2' hv2 => ?_)
  refine Lf_ite (C_ne hv2 (RI.lit 0 (by decide))) (fun c1 => ?_) (fun c1 => ?_)
  · exact Lf_some hS1
  · refine Lf_gB2 (lf_X8_fails hS1 (RI.at hS1 rfl rfl rfl) (RI.lit 2 (by decide))) (fun S3 S3' hS3 v4 v4' hv4 => ?_)
    refine Lf_ite (C_eq hv4 (RI.lit 0 (by decide))) (fun c2 => ?_) (fun c2 => ?_)
    · refine Lf_hA (E_add (E_mul (li32 16) hx1.1) hx2.1) (by decide) (fun b3 => ?_)
      refine Lf_st (RT.siq hS3 rfl (tnE (E_add (E_mul (li32 16) hx1.1) hx2.1) b3 (by decide)) hx3 rfl) (fun S5 S5' hS5 => ?_)
      refine Lf_ite (C_ne hx2 (RI.lit 4 (by decide))) (fun c4 => ?_) (fun c4 => ?_)
      · exact lf_X8_grant_90 hS5 hx1 hx2 hx3
      · refine Lf_hA hx1.1 (by decide) (fun b5 => ?_)
        refine Lf_st (RT.sjq hS5 rfl (tnE hx1.1 b5 (by decide)) (RJ.mk (E_64 hx3) (R_64 hx3.2)) rfl) (fun S6 S6' hS6 => ?_)
        exact lf_X8_grant_90 hS6 hx1 hx2 hx3
    · exact Lf_some hS3
def g_X8_grant_40 (S : AM) (x1 : Int) (x2 : Int) (x3 : Int) : Option (AM) :=
  g_X8_grant_45 S x1 x2 x3 1
set_option maxRecDepth 10000 in
theorem lf_X8_grant_40 {S : Mem} {S' : AM} (hS : (RT tM) S S') {x1 : Int32} {x1' : Int} (hx1 : RI x1 x1') {x2 : Int32} {x2' : Int} (hx2 : RI x2 x2') {x3 : Int32} {x3' : Int} (hx3 : RI x3 x3') : Lf (RT tM) (f_X8_grant_40 S x1 x2 x3) (g_X8_grant_40 S' x1' x2' x3') := by
  unfold f_X8_grant_40 g_X8_grant_40
  exact lf_X8_grant_45 hS hx1 hx2 hx3 (RI.lit 1 (by decide))
def g_X8_grant_37 (S : AM) (x1 : Int) (x2 : Int) (x3 : Int) (y0 : Int) (y1 : Int) : Option (AM) :=
  if y1 ≤ y0 then
    g_X8_grant_45 S x1 x2 x3 0
  else
    g_X8_grant_40 S x1 x2 x3
set_option maxRecDepth 10000 in
theorem lf_X8_grant_37 {S : Mem} {S' : AM} (hS : (RT tM) S S') {x1 : Int32} {x1' : Int} (hx1 : RI x1 x1') {x2 : Int32} {x2' : Int} (hx2 : RI x2 x2') {x3 : Int32} {x3' : Int} (hx3 : RI x3 x3') {y0 : Int32} {y0' : Int} (hy0 : RI y0 y0') {y1 : Int32} {y1' : Int} (hy1 : RI y1 y1') : Lf (RT tM) (f_X8_grant_37 S x1 x2 x3 y0 y1) (g_X8_grant_37 S' x1' x2' x3' y0' y1') := by
  unfold f_X8_grant_37 g_X8_grant_37
  refine Lf_ite (C_le hy1 hy0) (fun c1 => ?_) (fun c1 => ?_)
  · exact lf_X8_grant_45 hS hx1 hx2 hx3 (RI.lit 0 (by decide))
  · exact lf_X8_grant_40 hS hx1 hx2 hx3
def g_X8_grant (S : AM) (x1 : Int) (x2 : Int) (x3 : Int) : Option (AM) :=
  (g_X8_noSide x1).bind fun v1 =>
  if v1 ≠ 0 then
    g_X8_grant_40 S x1 x2 x3
  else
    if x2 < 4 then
      g_X8_grant_40 S x1 x2 x3
    else
      if 9 < x2 then
        g_X8_grant_40 S x1 x2 x3
      else
        if x3 < 0 then
          g_X8_grant_40 S x1 x2 x3
        else
          if x2 ≤ 7 then
            g_X8_grant_37 S x1 x2 x3 65536 x3
          else
            g_X8_grant_37 S x1 x2 x3 64 x3
set_option maxRecDepth 10000 in
theorem lf_X8_grant {S : Mem} {S' : AM} (hS : (RT tM) S S') {x1 : Int32} {x1' : Int} (hx1 : RI x1 x1') {x2 : Int32} {x2' : Int} (hx2 : RI x2 x2') {x3 : Int32} {x3' : Int} (hx3 : RI x3 x3') : Lf (RT tM) (f_X8_grant S x1 x2 x3) (g_X8_grant S' x1' x2' x3') := by
  unfold f_X8_grant g_X8_grant
  refine Lf_gS (lf_X8_noSide hx1) (fun v1 v1' hv1 => ?_)
  refine Lf_ite (C_ne hv1 (RI.lit 0 (by decide))) (fun c1 => ?_) (fun c1 => ?_)
  · exact lf_X8_grant_40 hS hx1 hx2 hx3
  · refine Lf_ite (C_lt hx2 (RI.lit 4 (by decide))) (fun c2 => ?_) (fun c2 => ?_)
    · exact lf_X8_grant_40 hS hx1 hx2 hx3
    · refine Lf_ite (C_lt (RI.lit 9 (by decide)) hx2) (fun c3 => ?_) (fun c3 => ?_)
      · exact lf_X8_grant_40 hS hx1 hx2 hx3
      · refine Lf_ite (C_lt hx3 (RI.lit 0 (by decide))) (fun c4 => ?_) (fun c4 => ?_)
        · exact lf_X8_grant_40 hS hx1 hx2 hx3
        · refine Lf_ite (C_le hx2 (RI.lit 7 (by decide))) (fun c5 => ?_) (fun c5 => ?_)
          · exact lf_X8_grant_37 hS hx1 hx2 hx3 (RI.lit 65536 (by decide)) hx3
          · exact lf_X8_grant_37 hS hx1 hx2 hx3 (RI.lit 64 (by decide)) hx3
def g_X8_join_49_b (k20 : AM → Int → Option (AM)) (k49 : AM → Int → Int → Option (AM)) (S : AM) (x1 : Int) (x2 : Int) : Option (AM) :=
  if 2 ≤ x2 then
    c32 (x1 + 1) <|
    k20 S (x1 + 1)
  else
    hA (((16 * (1 - x1)) + 8) + x2) 32 <|
    hA (((3 * x1) + 1) + x2) 6 <|
    gS (uA S M_limits (((((3 * x1) + 1) + x2) : Int).toNat) (S M_grants ((((16 * (1 - x1)) + 8) + x2) : Int).toNat)) fun S1 =>
    c32 (x2 + 1) <|
    k49 S1 x1 (x2 + 1)
set_option maxRecDepth 10000 in
theorem lf_X8_join_49_b {k20 : Mem → Int32 → Option (Mem)} {k20' : AM → Int → Option (AM)} (hk20 : ∀ {y0 : Mem} {y0' : AM}, (RT tM) y0 y0' → ∀ {y1 : Int32} {y1' : Int}, RI y1 y1' → Lf (RT tM) (k20 y0 y1) (k20' y0' y1')) {k49 : Mem → Int32 → Int32 → Option (Mem)} {k49' : AM → Int → Int → Option (AM)} (hk49 : ∀ {y0 : Mem} {y0' : AM}, (RT tM) y0 y0' → ∀ {y1 : Int32} {y1' : Int}, RI y1 y1' → ∀ {y2 : Int32} {y2' : Int}, RI y2 y2' → Lf (RT tM) (k49 y0 y1 y2) (k49' y0' y1' y2')) {S : Mem} {S' : AM} (hS : (RT tM) S S') {x1 : Int32} {x1' : Int} (hx1 : RI x1 x1') {x2 : Int32} {x2' : Int} (hx2 : RI x2 x2') : Lf (RT tM) (f_X8_join_49_b k20 k49 S x1 x2) (g_X8_join_49_b k20' k49' S' x1' x2') := by
  unfold f_X8_join_49_b g_X8_join_49_b
  refine Lf_ite (C_le (RI.lit 2 (by decide)) hx2) (fun c1 => ?_) (fun c1 => ?_)
  · refine Lf_c32 (fun b2 => ?_)
    exact hk20 hS (RI.mk (E_add hx1.1 (li32 1)) b2)
  · refine Lf_hA (E_add (E_add (E_mul (li32 16) (E_sub (li32 1) hx1.1)) (li32 8)) hx2.1) (by decide) (fun b3 => ?_)
    refine Lf_hA (E_add (E_add (E_mul (li32 3) hx1.1) (li32 1)) hx2.1) (by decide) (fun b4 => ?_)
    refine Lf_st (RT.sjq hS rfl (tnE (E_add (E_add (E_mul (li32 3) hx1.1) (li32 1)) hx2.1) b4 (by decide)) (RJ.mk (E_64 (RI.at hS rfl (tnE (E_add (E_add (E_mul (li32 16) (E_sub (li32 1) hx1.1)) (li32 8)) hx2.1) b3 (by decide)) rfl)) (R_64 (RI.at hS rfl (tnE (E_add (E_add (E_mul (li32 16) (E_sub (li32 1) hx1.1)) (li32 8)) hx2.1) b3 (by decide)) rfl).2)) rfl) (fun S1 S1' hS1 => ?_)
    refine Lf_c32 (fun b5 => ?_)
    exact hk49 hS1 hx1 (RI.mk (E_add hx2.1 (li32 1)) b5)
def g_X8_join_49 (k20 : AM → Int → Option (AM)) : Nat → AM → Int → Int → Option (AM)
  | 0, _, _, _ => none
  | n + 1, S, x1, x2 => g_X8_join_49_b k20 (g_X8_join_49 k20 n) S x1 x2
set_option maxRecDepth 10000 in
theorem lf_X8_join_49 {k20 : Mem → Int32 → Option (Mem)} {k20' : AM → Int → Option (AM)} (hk20 : ∀ {y0 : Mem} {y0' : AM}, (RT tM) y0 y0' → ∀ {y1 : Int32} {y1' : Int}, RI y1 y1' → Lf (RT tM) (k20 y0 y1) (k20' y0' y1')) (n : Nat) : ∀ {S : Mem} {S' : AM}, (RT tM) S S' → ∀ {x1 : Int32} {x1' : Int}, RI x1 x1' → ∀ {x2 : Int32} {x2' : Int}, RI x2 x2' → Lf (RT tM) (f_X8_join_49 k20 n S x1 x2) (g_X8_join_49 k20' n S' x1' x2') := by
  induction n with
  | zero => intros; exact Lf_none
  | succ n ih => intro S S' hS x1 x1' hx1 x2 x2' hx2; exact lf_X8_join_49_b hk20 ih hS hx1 hx2
def g_X8_join_20_b (k20 : AM → Int → Option (AM)) (S : AM) (x1 : Int) : Option (AM) :=
  if 2 ≤ x1 then
    some (S)
  else
    hA ((16 * (1 - x1)) + 4) 32 <|
    hA (3 * x1) 6 <|
    gS (uA S M_limits (((3 * x1) : Int).toNat) (S M_grants (((16 * (1 - x1)) + 4) : Int).toNat)) fun S1 =>
    g_X8_join_49 k20 FU S1 x1 0
set_option maxRecDepth 10000 in
theorem lf_X8_join_20_b {k20 : Mem → Int32 → Option (Mem)} {k20' : AM → Int → Option (AM)} (hk20 : ∀ {y0 : Mem} {y0' : AM}, (RT tM) y0 y0' → ∀ {y1 : Int32} {y1' : Int}, RI y1 y1' → Lf (RT tM) (k20 y0 y1) (k20' y0' y1')) {S : Mem} {S' : AM} (hS : (RT tM) S S') {x1 : Int32} {x1' : Int} (hx1 : RI x1 x1') : Lf (RT tM) (f_X8_join_20_b k20 S x1) (g_X8_join_20_b k20' S' x1') := by
  unfold f_X8_join_20_b g_X8_join_20_b
  refine Lf_ite (C_le (RI.lit 2 (by decide)) hx1) (fun c1 => ?_) (fun c1 => ?_)
  · exact Lf_some hS
  · refine Lf_hA (E_add (E_mul (li32 16) (E_sub (li32 1) hx1.1)) (li32 4)) (by decide) (fun b2 => ?_)
    refine Lf_hA (E_mul (li32 3) hx1.1) (by decide) (fun b3 => ?_)
    refine Lf_st (RT.sjq hS rfl (tnE (E_mul (li32 3) hx1.1) b3 (by decide)) (RJ.mk (E_64 (RI.at hS rfl (tnE (E_add (E_mul (li32 16) (E_sub (li32 1) hx1.1)) (li32 4)) b2 (by decide)) rfl)) (R_64 (RI.at hS rfl (tnE (E_add (E_mul (li32 16) (E_sub (li32 1) hx1.1)) (li32 4)) b2 (by decide)) rfl).2)) rfl) (fun S1 S1' hS1 => ?_)
    exact lf_X8_join_49 hk20 FU hS1 hx1 (RI.lit 0 (by decide))
def g_X8_join_20 : Nat → AM → Int → Option (AM)
  | 0, _, _ => none
  | n + 1, S, x1 => g_X8_join_20_b (g_X8_join_20 n) S x1
set_option maxRecDepth 10000 in
theorem lf_X8_join_20 (n : Nat) : ∀ {S : Mem} {S' : AM}, (RT tM) S S' → ∀ {x1 : Int32} {x1' : Int}, RI x1 x1' → Lf (RT tM) (f_X8_join_20 n S x1) (g_X8_join_20 n S' x1') := by
  induction n with
  | zero => intros; exact Lf_none
  | succ n ih => intro S S' hS x1 x1' hx1; exact lf_X8_join_20_b ih hS hx1
def g_X8_join (S : AM) : Option (AM) :=
  gB2 (g_X8_fails S (S M_o 1) 1) fun S1 v2 =>
  if v2 = 0 then
    gS (uA S1 M_o 1 1) fun S3 =>
    g_X8_join_20 FU S3 0
  else
    some (S1)
set_option maxRecDepth 10000 in
theorem lf_X8_join {S : Mem} {S' : AM} (hS : (RT tM) S S') : Lf (RT tM) (f_X8_join S) (g_X8_join S') := by
  unfold f_X8_join g_X8_join
  refine Lf_gB2 (lf_X8_fails hS (RI.at hS rfl rfl rfl) (RI.lit 1 (by decide))) (fun S1 S1' hS1 v2 v2' hv2 => ?_)
  refine Lf_ite (C_eq hv2 (RI.lit 0 (by decide))) (fun c1 => ?_) (fun c1 => ?_)
  · refine Lf_st (RT.siq hS1 rfl rfl (RI.lit 1 (by decide)) rfl) (fun S3 S3' hS3 => ?_)
    exact lf_X8_join_20 FU hS3 (RI.lit 0 (by decide))
  · exact Lf_some hS1
def g_X8_feed_54_b (k54 : AM → Int → Int → Int → Option (AM × Int)) (S : AM) (x1 : Int) (x2 : Int) (x4 : Int) : Option (AM × Int) :=
  if x1 ≤ x4 then
    c32 ((S M_o 3) + x1) <|
    gS (uA S M_o 3 ((S M_o 3) + x1)) fun S1 =>
    some (S1, (S1 M_o 3))
  else
    hA ((S M_o 3) + x4) 2048 <|
    hA (8 * x4) 64 <|
    c32 ((x2 / 2 ^ ((8 * x4) : Int).toNat) % 256) <|
    gS (uA S M_tape ((((S M_o 3) + x4) : Int).toNat) ((x2 / 2 ^ ((8 * x4) : Int).toNat) % 256)) fun S2 =>
    c32 (x4 + 1) <|
    k54 S2 x1 x2 (x4 + 1)
set_option maxRecDepth 10000 in
theorem lf_X8_feed_54_b {k54 : Mem → Int32 → Int64 → Int32 → Option (Mem × Int32)} {k54' : AM → Int → Int → Int → Option (AM × Int)} (hk54 : ∀ {y0 : Mem} {y0' : AM}, (RT tM) y0 y0' → ∀ {y1 : Int32} {y1' : Int}, RI y1 y1' → ∀ {y2 : Int64} {y2' : Int}, RJ y2 y2' → ∀ {y3 : Int32} {y3' : Int}, RI y3 y3' → Lf (RP (RT tM) RI) (k54 y0 y1 y2 y3) (k54' y0' y1' y2' y3')) {S : Mem} {S' : AM} (hS : (RT tM) S S') {x1 : Int32} {x1' : Int} (hx1 : RI x1 x1') {x2 : Int64} {x2' : Int} (hx2 : RJ x2 x2') {x4 : Int32} {x4' : Int} (hx4 : RI x4 x4') : Lf (RP (RT tM) RI) (f_X8_feed_54_b k54 S x1 x2 x4) (g_X8_feed_54_b k54' S' x1' x2' x4') := by
  unfold f_X8_feed_54_b g_X8_feed_54_b
  refine Lf_ite (C_le hx1 hx4) (fun c1 => ?_) (fun c1 => ?_)
  · refine Lf_c32 (fun b2 => ?_)
    refine Lf_st (RT.siq hS rfl rfl (RI.mk (E_add (RI.at hS rfl rfl rfl).1 hx1.1) b2) rfl) (fun S1 S1' hS1 => ?_)
    exact Lf_some (RP.mk hS1 (RI.at hS1 rfl rfl rfl))
  · refine Lf_hA (E_add (RI.at hS rfl rfl rfl).1 hx4.1) (by decide) (fun b3 => ?_)
    refine Lf_hD (fun b4 => ?_)
    refine Lf_c32 (fun b5 => ?_)
    refine Lf_st (RT.siq hS rfl (tnE (E_add (RI.at hS rfl rfl rfl).1 hx4.1) b3 (by decide)) (RI.mk (F_32 (F_m8 (F_shr hx2 (E_mul (li32 8) hx4.1) b4))) b5) rfl) (fun S2 S2' hS2 => ?_)
    refine Lf_c32 (fun b6 => ?_)
    exact hk54 hS2 hx1 hx2 (RI.mk (E_add hx4.1 (li32 1)) b6)
def g_X8_feed_54 : Nat → AM → Int → Int → Int → Option (AM × Int)
  | 0, _, _, _, _ => none
  | n + 1, S, x1, x2, x4 => g_X8_feed_54_b (g_X8_feed_54 n) S x1 x2 x4
set_option maxRecDepth 10000 in
theorem lf_X8_feed_54 (n : Nat) : ∀ {S : Mem} {S' : AM}, (RT tM) S S' → ∀ {x1 : Int32} {x1' : Int}, RI x1 x1' → ∀ {x2 : Int64} {x2' : Int}, RJ x2 x2' → ∀ {x4 : Int32} {x4' : Int}, RI x4 x4' → Lf (RP (RT tM) RI) (f_X8_feed_54 n S x1 x2 x4) (g_X8_feed_54 n S' x1' x2' x4') := by
  induction n with
  | zero => intros; exact Lf_none
  | succ n ih => intro S S' hS x1 x1' hx1 x2 x2' hx2 x4 x4' hx4; exact lf_X8_feed_54_b ih hS hx1 hx2 hx4
def g_X8_feed_42 (S : AM) (x1 : Int) (x2 : Int) (y0 : Int) : Option (AM × Int) :=
  gB2 (g_X8_fails S y0 2) fun S1 v2 =>
  if v2 = 0 then
    g_X8_feed_54 FU S1 x1 x2 0
  else
    some (S1, 0)
set_option maxRecDepth 10000 in
theorem lf_X8_feed_42 {S : Mem} {S' : AM} (hS : (RT tM) S S') {x1 : Int32} {x1' : Int} (hx1 : RI x1 x1') {x2 : Int64} {x2' : Int} (hx2 : RJ x2 x2') {y0 : Int32} {y0' : Int} (hy0 : RI y0 y0') : Lf (RP (RT tM) RI) (f_X8_feed_42 S x1 x2 y0) (g_X8_feed_42 S' x1' x2' y0') := by
  unfold f_X8_feed_42 g_X8_feed_42
  refine Lf_gB2 (lf_X8_fails hS hy0 (RI.lit 2 (by decide))) (fun S1 S1' hS1 v2 v2' hv2 => ?_)
  refine Lf_ite (C_eq hv2 (RI.lit 0 (by decide))) (fun c1 => ?_) (fun c1 => ?_)
  · exact lf_X8_feed_54 FU hS1 hx1 hx2 (RI.lit 0 (by decide))
  · exact Lf_some (RP.mk hS1 (RI.lit 0 (by decide)))
def g_X8_feed_17 (S : AM) (x1 : Int) (x2 : Int) (y0 : Int) : Option (AM × Int) :=
  gB2 (g_X8_fails S y0 1) fun S1 v2 =>
  if v2 ≠ 0 then
    some (S1, 0)
  else
    c32 ((S1 M_o 3) + x1) <|
    if ((S1 M_o 3) + x1) ≤ 2048 then
      g_X8_feed_42 S1 x1 x2 0
    else
      g_X8_feed_42 S1 x1 x2 1
set_option maxRecDepth 10000 in
theorem lf_X8_feed_17 {S : Mem} {S' : AM} (hS : (RT tM) S S') {x1 : Int32} {x1' : Int} (hx1 : RI x1 x1') {x2 : Int64} {x2' : Int} (hx2 : RJ x2 x2') {y0 : Int32} {y0' : Int} (hy0 : RI y0 y0') : Lf (RP (RT tM) RI) (f_X8_feed_17 S x1 x2 y0) (g_X8_feed_17 S' x1' x2' y0') := by
  unfold f_X8_feed_17 g_X8_feed_17
  refine Lf_gB2 (lf_X8_fails hS hy0 (RI.lit 1 (by decide))) (fun S1 S1' hS1 v2 v2' hv2 => ?_)
  refine Lf_ite (C_ne hv2 (RI.lit 0 (by decide))) (fun c1 => ?_) (fun c1 => ?_)
  · exact Lf_some (RP.mk hS1 (RI.lit 0 (by decide)))
  · refine Lf_c32 (fun b2 => ?_)
    refine Lf_ite (C_le (RI.mk (E_add (RI.at hS1 rfl rfl rfl).1 hx1.1) b2) (RI.lit 2048 (by decide))) (fun c3 => ?_) (fun c3 => ?_)
    · exact lf_X8_feed_42 hS1 hx1 hx2 (RI.lit 0 (by decide))
    · exact lf_X8_feed_42 hS1 hx1 hx2 (RI.lit 1 (by decide))
def g_X8_feed_12 (S : AM) (x1 : Int) (x2 : Int) : Option (AM × Int) :=
  g_X8_feed_17 S x1 x2 1
set_option maxRecDepth 10000 in
theorem lf_X8_feed_12 {S : Mem} {S' : AM} (hS : (RT tM) S S') {x1 : Int32} {x1' : Int} (hx1 : RI x1 x1') {x2 : Int64} {x2' : Int} (hx2 : RJ x2 x2') : Lf (RP (RT tM) RI) (f_X8_feed_12 S x1 x2) (g_X8_feed_12 S' x1' x2') := by
  unfold f_X8_feed_12 g_X8_feed_12
  exact lf_X8_feed_17 hS hx1 hx2 (RI.lit 1 (by decide))
def g_X8_feed (S : AM) (x1 : Int) (x2 : Int) : Option (AM × Int) :=
  if x1 < 1 then
    g_X8_feed_12 S x1 x2
  else
    if x1 ≤ 8 then
      g_X8_feed_17 S x1 x2 0
    else
      g_X8_feed_12 S x1 x2
set_option maxRecDepth 10000 in
theorem lf_X8_feed {S : Mem} {S' : AM} (hS : (RT tM) S S') {x1 : Int32} {x1' : Int} (hx1 : RI x1 x1') {x2 : Int64} {x2' : Int} (hx2 : RJ x2 x2') : Lf (RP (RT tM) RI) (f_X8_feed S x1 x2) (g_X8_feed S' x1' x2') := by
  unfold f_X8_feed g_X8_feed
  refine Lf_ite (C_lt hx1 (RI.lit 1 (by decide))) (fun c1 => ?_) (fun c1 => ?_)
  · exact lf_X8_feed_12 hS hx1 hx2
  · refine Lf_ite (C_le hx1 (RI.lit 8 (by decide))) (fun c2 => ?_) (fun c2 => ?_)
    · exact lf_X8_feed_17 hS hx1 hx2 (RI.lit 0 (by decide))
    · exact lf_X8_feed_12 hS hx1 hx2
def g_X8_at (x0 : Int) (x1 : Int) : Option (Int) :=
  c32 ((256 * x0) + x1) <|
  some ((256 * x0) + x1)
set_option maxRecDepth 10000 in
theorem lf_X8_at {x0 : Int32} {x0' : Int} (hx0 : RI x0 x0') {x1 : Int32} {x1' : Int} (hx1 : RI x1 x1') : Lp RI (f_X8_at x0 x1) (g_X8_at x0' x1') := by
  unfold f_X8_at g_X8_at
  refine Lp_c32 (fun b1 => ?_)
  exact Lp_val (RI.mk (E_add (E_mul (li32 256) hx0.1) hx1.1) b1)
def g_X8_wayOf (x0 : Int) : Option (Int) :=
  hA 1 64 <|
  c32 ((x0 / 2 ^ (1 : Int).toNat) % 2) <|
  some ((x0 / 2 ^ (1 : Int).toNat) % 2)
set_option maxRecDepth 10000 in
theorem lf_X8_wayOf {x0 : Int64} {x0' : Int} (hx0 : RJ x0 x0') : Lp RI (f_X8_wayOf x0) (g_X8_wayOf x0') := by
  unfold f_X8_wayOf g_X8_wayOf
  refine Lp_hD (fun b1 => ?_)
  refine Lp_c32 (fun b2 => ?_)
  exact Lp_val (RI.mk (F_32 (F_m1 (F_shr hx0 (li32 1) b1))) b2)
def g_X8_opens (x0 : Int) (x1 : Int) : Option (Int) :=
  c64 (x1 % 2) <|
  if (x1 % 2) ≠ x0 then
    some (0)
  else
    some (1)
set_option maxRecDepth 10000 in
theorem lf_X8_opens {x0 : Int32} {x0' : Int} (hx0 : RI x0 x0') {x1 : Int64} {x1' : Int} (hx1 : RJ x1 x1') : Lp RI (f_X8_opens x0 x1) (g_X8_opens x0' x1') := by
  unfold f_X8_opens g_X8_opens
  refine Lp_c64 (fun b1 => ?_)
  refine Lp_ite (D_ne (RJ.mk (F_m1 hx1.1) b1) (RJ.mk (E_64 hx0) (R_64 hx0.2))) (fun c2 => ?_) (fun c2 => ?_)
  · exact Lp_val (RI.lit 0 (by decide))
  · exact Lp_val (RI.lit 1 (by decide))
def g_X8_grantOf_37 (S : AM) (y0 : Int) (y1 : Int) : Option (Int) :=
  hA (y1 + y0) 32 <|
  some (S M_grants ((y1 + y0) : Int).toNat)
set_option maxRecDepth 10000 in
theorem lf_X8_grantOf_37 {S : Mem} {S' : AM} (hS : (RT tM) S S') {y0 : Int32} {y0' : Int} (hy0 : RI y0 y0') {y1 : Int32} {y1' : Int} (hy1 : RI y1 y1') : Lf RI (f_X8_grantOf_37 S y0 y1) (g_X8_grantOf_37 S' y0' y1') := by
  unfold f_X8_grantOf_37 g_X8_grantOf_37
  refine Lf_hA (E_add hy1.1 hy0.1) (by decide) (fun b1 => ?_)
  exact Lf_some (RI.at hS rfl (tnE (E_add hy1.1 hy0.1) b1 (by decide)) rfl)
def g_X8_grantOf (S : AM) (x1 : Int) (x2 : Int) : Option (Int) :=
  (g_X8_wayOf x2).bind fun v1 =>
  if v1 ≠ 1 then
    (g_X8_opens x1 x2).bind fun v2 =>
    if v2 = 0 then
      c32 (16 * x1) <|
      g_X8_grantOf_37 S 6 (16 * x1)
    else
      c32 (16 * x1) <|
      g_X8_grantOf_37 S 5 (16 * x1)
  else
    c32 (16 * x1) <|
    g_X8_grantOf_37 S 7 (16 * x1)
set_option maxRecDepth 10000 in
theorem lf_X8_grantOf {S : Mem} {S' : AM} (hS : (RT tM) S S') {x1 : Int32} {x1' : Int} (hx1 : RI x1 x1') {x2 : Int32} {x2' : Int} (hx2 : RI x2 x2') : Lf RI (f_X8_grantOf S x1 x2) (g_X8_grantOf S' x1' x2') := by
  unfold f_X8_grantOf g_X8_grantOf
  refine Lf_gS (lf_X8_wayOf (RJ.mk (E_64 hx2) (R_64 hx2.2))) (fun v1 v1' hv1 => ?_)
  refine Lf_ite (C_ne hv1 (RI.lit 1 (by decide))) (fun c1 => ?_) (fun c1 => ?_)
  · refine Lf_gS (lf_X8_opens hx1 (RJ.mk (E_64 hx2) (R_64 hx2.2))) (fun v2 v2' hv2 => ?_)
    refine Lf_ite (C_eq hv2 (RI.lit 0 (by decide))) (fun c2 => ?_) (fun c2 => ?_)
    · refine Lf_c32 (fun b3 => ?_)
      exact lf_X8_grantOf_37 hS (RI.lit 6 (by decide)) (RI.mk (E_mul (li32 16) hx1.1) b3)
    · refine Lf_c32 (fun b4 => ?_)
      exact lf_X8_grantOf_37 hS (RI.lit 5 (by decide)) (RI.mk (E_mul (li32 16) hx1.1) b4)
  · refine Lf_c32 (fun b5 => ?_)
    exact lf_X8_grantOf_37 hS (RI.lit 7 (by decide)) (RI.mk (E_mul (li32 16) hx1.1) b5)
def g_X8_limitOf (S : AM) (x1 : Int) (x2 : Int) : Option (Int) :=
  c32 (1 - x1) <|
  (g_X8_grantOf S (1 - x1) x2).bind fun v1 =>
  some (v1)
set_option maxRecDepth 10000 in
theorem lf_X8_limitOf {S : Mem} {S' : AM} (hS : (RT tM) S S') {x1 : Int32} {x1' : Int} (hx1 : RI x1 x1') {x2 : Int32} {x2' : Int} (hx2 : RI x2 x2') : Lf RJ (f_X8_limitOf S x1 x2) (g_X8_limitOf S' x1' x2') := by
  unfold f_X8_limitOf g_X8_limitOf
  refine Lf_c32 (fun b1 => ?_)
  refine Lf_bind (lf_X8_grantOf hS (RI.mk (E_sub (li32 1) hx1.1) b1) hx2) (fun v1 v1' hv1 => ?_)
  exact Lf_some (RJ.mk (E_64 hv1) (R_64 hv1.2))
def g_X8_begin (S : AM) (x1 : Int) (x2 : Int) : Option (AM) :=
  (g_X8_at x1 x2).bind fun v1 =>
  hA v1 512 <|
  gS (uA S M_there ((v1 : Int).toNat) 1) fun S2 =>
  (g_X8_grantOf S2 x1 x2).bind fun v3 =>
  hA v1 512 <|
  gS (uA S2 M_grant ((v1 : Int).toNat) v3) fun S4 =>
  (g_X8_limitOf S4 x1 x2).bind fun v5 =>
  hA v1 512 <|
  gS (uA S4 M_limit ((v1 : Int).toNat) v5) fun S6 =>
  some (S6)
set_option maxRecDepth 10000 in
theorem lf_X8_begin {S : Mem} {S' : AM} (hS : (RT tM) S S') {x1 : Int32} {x1' : Int} (hx1 : RI x1 x1') {x2 : Int32} {x2' : Int} (hx2 : RI x2 x2') : Lf (RT tM) (f_X8_begin S x1 x2) (g_X8_begin S' x1' x2') := by
  unfold f_X8_begin g_X8_begin
  refine Lf_gS (lf_X8_at hx1 hx2) (fun v1 v1' hv1 => ?_)
  refine Lf_hA hv1.1 (by decide) (fun b1 => ?_)
  refine Lf_st (RT.siq hS rfl (tnE hv1.1 b1 (by decide)) (RI.mk E_nz1 (RI.lit 1 (by decide)).2) rfl) (fun S2 S2' hS2 => ?_)
  refine Lf_bind (lf_X8_grantOf hS2 hx1 hx2) (fun v3 v3' hv3 => ?_)
  refine Lf_hA hv1.1 (by decide) (fun b2 => ?_)
  refine Lf_st (RT.sjq hS2 rfl (tnE hv1.1 b1 (by decide)) (RJ.mk (E_64 hv3) (R_64 hv3.2)) rfl) (fun S4 S4' hS4 => ?_)
  refine Lf_bind (lf_X8_limitOf hS4 hx1 hx2) (fun v5 v5' hv5 => ?_)
  refine Lf_hA hv1.1 (by decide) (fun b3 => ?_)
  refine Lf_st (RT.sjq hS4 rfl (tnE hv1.1 b1 (by decide)) hv5 rfl) (fun S6 S6' hS6 => ?_)
  exact Lf_some hS6
def g_X8_open_87 (S : AM) (x4 : Int) : Option (AM × Int) :=
  hA x4 4 <|
  gS (uA S M_refused ((x4 : Int).toNat) 1) fun S1 =>
  some (S1, (-1))
set_option maxRecDepth 10000 in
theorem lf_X8_open_87 {S : Mem} {S' : AM} (hS : (RT tM) S S') {x4 : Int32} {x4' : Int} (hx4 : RI x4 x4') : Lf (RP (RT tM) RI) (f_X8_open_87 S x4) (g_X8_open_87 S' x4') := by
  unfold f_X8_open_87 g_X8_open_87
  refine Lf_hA hx4.1 (by decide) (fun b1 => ?_)
  refine Lf_st (RT.siq hS rfl (tnE hx4.1 b1 (by decide)) (RI.mk E_nz1 (RI.lit 1 (by decide)).2) rfl) (fun S1 S1' hS1 => ?_)
  exact Lf_some (RP.mk hS1 RI.m1)
def g_X8_open_43 (S : AM) (x1 : Int) (y0 : Int) : Option (AM × Int) :=
  hA ((2 * x1) + y0) 4 <|
  hA (((3 * x1) + 1) + y0) 6 <|
  if (S M_limits ((((3 * x1) + 1) + y0) : Int).toNat) ≤ (S M_opened (((2 * x1) + y0) : Int).toNat) then
    c32 ((2 * x1) + y0) <|
    g_X8_open_87 S ((2 * x1) + y0)
  else
    hA ((2 * x1) + y0) 4 <|
    if (S M_opened (((2 * x1) + y0) : Int).toNat) ≠ 64 then
      hA ((2 * x1) + y0) 4 <|
      gS (uA S M_refused ((((2 * x1) + y0) : Int).toNat) 0) fun S1 =>
      hA ((2 * x1) + y0) 4 <|
      hA ((2 * x1) + y0) 4 <|
      hA ((2 * x1) + y0) 4 <|
      c32 ((S1 M_opened (((2 * x1) + y0) : Int).toNat) + 1) <|
      gS (uA S1 M_opened ((((2 * x1) + y0) : Int).toNat) ((S1 M_opened (((2 * x1) + y0) : Int).toNat) + 1)) fun S2 =>
      c32 (((4 * (S1 M_opened (((2 * x1) + y0) : Int).toNat)) + (2 * y0)) + x1) <|
      (g_X8_begin S2 x1 (((4 * (S1 M_opened (((2 * x1) + y0) : Int).toNat)) + (2 * y0)) + x1)).bind fun S3 =>
      some (S3, (((4 * (S1 M_opened (((2 * x1) + y0) : Int).toNat)) + (2 * y0)) + x1))
    else
      c32 ((2 * x1) + y0) <|
      g_X8_open_87 S ((2 * x1) + y0)
set_option maxRecDepth 10000 in
theorem lf_X8_open_43 {S : Mem} {S' : AM} (hS : (RT tM) S S') {x1 : Int32} {x1' : Int} (hx1 : RI x1 x1') {y0 : Int32} {y0' : Int} (hy0 : RI y0 y0') : Lf (RP (RT tM) RI) (f_X8_open_43 S x1 y0) (g_X8_open_43 S' x1' y0') := by
  unfold f_X8_open_43 g_X8_open_43
  refine Lf_hA (E_add (E_mul (li32 2) hx1.1) hy0.1) (by decide) (fun b1 => ?_)
  refine Lf_hA (E_add (E_add (E_mul (li32 3) hx1.1) (li32 1)) hy0.1) (by decide) (fun b2 => ?_)
  refine Lf_ite (D_le (RJ.at hS rfl (tnE (E_add (E_add (E_mul (li32 3) hx1.1) (li32 1)) hy0.1) b2 (by decide)) rfl) (RJ.mk (E_64 (RI.at hS rfl (tnE (E_add (E_mul (li32 2) hx1.1) hy0.1) b1 (by decide)) rfl)) (R_64 (RI.at hS rfl (tnE (E_add (E_mul (li32 2) hx1.1) hy0.1) b1 (by decide)) rfl).2))) (fun c3 => ?_) (fun c3 => ?_)
  · refine Lf_c32 (fun b4 => ?_)
    exact lf_X8_open_87 hS (RI.mk (E_add (E_mul (li32 2) hx1.1) hy0.1) b4)
  · refine Lf_hA (E_add (E_mul (li32 2) hx1.1) hy0.1) (by decide) (fun b5 => ?_)
    refine Lf_ite (C_ne (RI.at hS rfl (tnE (E_add (E_mul (li32 2) hx1.1) hy0.1) b1 (by decide)) rfl) (RI.lit 64 (by decide))) (fun c6 => ?_) (fun c6 => ?_)
    · refine Lf_hA (E_add (E_mul (li32 2) hx1.1) hy0.1) (by decide) (fun b7 => ?_)
      refine Lf_st (RT.siq hS rfl (tnE (E_add (E_mul (li32 2) hx1.1) hy0.1) b1 (by decide)) (RI.mk E_nz0 (RI.lit 0 (by decide)).2) rfl) (fun S1 S1' hS1 => ?_)
      refine Lf_hA (E_add (E_mul (li32 2) hx1.1) hy0.1) (by decide) (fun b8 => ?_)
      refine Lf_hA (E_add (E_mul (li32 2) hx1.1) hy0.1) (by decide) (fun b9 => ?_)
      refine Lf_hA (E_add (E_mul (li32 2) hx1.1) hy0.1) (by decide) (fun b10 => ?_)
      refine Lf_c32 (fun b11 => ?_)
      refine Lf_st (RT.siq hS1 rfl (tnE (E_add (E_mul (li32 2) hx1.1) hy0.1) b1 (by decide)) (RI.mk (E_add (RI.at hS1 rfl (tnE (E_add (E_mul (li32 2) hx1.1) hy0.1) b1 (by decide)) rfl).1 (li32 1)) b11) rfl) (fun S2 S2' hS2 => ?_)
      refine Lf_c32 (fun b12 => ?_)
      refine Lf_bind (lf_X8_begin hS2 hx1 (RI.mk (E_add (E_add (E_mul (li32 4) (RI.at hS1 rfl (tnE (E_add (E_mul (li32 2) hx1.1) hy0.1) b1 (by decide)) rfl).1) (E_mul (li32 2) hy0.1)) hx1.1) b12)) (fun S3 S3' hS3 => ?_)
      exact Lf_some (RP.mk hS3 (RI.mk (E_add (E_add (E_mul (li32 4) (RI.at hS1 rfl (tnE (E_add (E_mul (li32 2) hx1.1) hy0.1) b1 (by decide)) rfl).1) (E_mul (li32 2) hy0.1)) hx1.1) b12))
    · refine Lf_c32 (fun b13 => ?_)
      exact lf_X8_open_87 hS (RI.mk (E_add (E_mul (li32 2) hx1.1) hy0.1) b13)
def g_X8_open_25 (S : AM) (x1 : Int) (x2 : Int) (y0 : Int) : Option (AM × Int) :=
  gB2 (g_X8_fails S y0 2) fun S1 v2 =>
  if v2 = 0 then
    if x2 = 0 then
      g_X8_open_43 S1 x1 1
    else
      g_X8_open_43 S1 x1 0
  else
    some (S1, 0)
set_option maxRecDepth 10000 in
theorem lf_X8_open_25 {S : Mem} {S' : AM} (hS : (RT tM) S S') {x1 : Int32} {x1' : Int} (hx1 : RI x1 x1') {x2 : Int32} {x2' : Int} (hx2 : RI x2 x2') {y0 : Int32} {y0' : Int} (hy0 : RI y0 y0') : Lf (RP (RT tM) RI) (f_X8_open_25 S x1 x2 y0) (g_X8_open_25 S' x1' x2' y0') := by
  unfold f_X8_open_25 g_X8_open_25
  refine Lf_gB2 (lf_X8_fails hS hy0 (RI.lit 2 (by decide))) (fun S1 S1' hS1 v2 v2' hv2 => ?_)
  refine Lf_ite (C_eq hv2 (RI.lit 0 (by decide))) (fun c1 => ?_) (fun c1 => ?_)
  · refine Lf_ite (C_eq hx2 (RI.lit 0 (by decide))) (fun c2 => ?_) (fun c2 => ?_)
    · exact lf_X8_open_43 hS1 hx1 (RI.lit 1 (by decide))
    · exact lf_X8_open_43 hS1 hx1 (RI.lit 0 (by decide))
  · exact Lf_some (RP.mk hS1 (RI.lit 0 (by decide)))
def g_X8_open (S : AM) (x1 : Int) (x2 : Int) : Option (AM × Int) :=
  (g_X8_noSide x1).bind fun v1 =>
  gB2 (g_X8_fails S v1 1) fun S2 v3 =>
  if v3 ≠ 0 then
    some (S2, 0)
  else
    if (S2 M_o 1) ≠ 0 then
      g_X8_open_25 S2 x1 x2 0
    else
      g_X8_open_25 S2 x1 x2 1
set_option maxRecDepth 10000 in
theorem lf_X8_open {S : Mem} {S' : AM} (hS : (RT tM) S S') {x1 : Int32} {x1' : Int} (hx1 : RI x1 x1') {x2 : Int32} {x2' : Int} (hx2 : RI x2 x2') : Lf (RP (RT tM) RI) (f_X8_open S x1 x2) (g_X8_open S' x1' x2') := by
  unfold f_X8_open g_X8_open
  refine Lf_gS (lf_X8_noSide hx1) (fun v1 v1' hv1 => ?_)
  refine Lf_gB2 (lf_X8_fails hS hv1 (RI.lit 1 (by decide))) (fun S2 S2' hS2 v3 v3' hv3 => ?_)
  refine Lf_ite (C_ne hv3 (RI.lit 0 (by decide))) (fun c1 => ?_) (fun c1 => ?_)
  · exact Lf_some (RP.mk hS2 (RI.lit 0 (by decide)))
  · refine Lf_ite (C_ne (RI.at hS2 rfl rfl rfl) (RI.lit 0 (by decide))) (fun c2 => ?_) (fun c2 => ?_)
    · exact lf_X8_open_25 hS2 hx1 hx2 (RI.lit 0 (by decide))
    · exact lf_X8_open_25 hS2 hx1 hx2 (RI.lit 1 (by decide))
def g_X8_isThere (S : AM) (x1 : Int) (x2 : Int) : Option (Int) :=
  if x2 < 0 then
    some (0)
  else
    if 256 ≤ x2 then
      some (0)
    else
      (g_X8_at x1 x2).bind fun v1 =>
      hA v1 512 <|
      if (S M_there (v1 : Int).toNat) = 0 then
        some (0)
      else
        some (1)
set_option maxRecDepth 10000 in
theorem lf_X8_isThere {S : Mem} {S' : AM} (hS : (RT tM) S S') {x1 : Int32} {x1' : Int} (hx1 : RI x1 x1') {x2 : Int32} {x2' : Int} (hx2 : RI x2 x2') : Lf RI (f_X8_isThere S x1 x2) (g_X8_isThere S' x1' x2') := by
  unfold f_X8_isThere g_X8_isThere
  refine Lf_ite (C_lt hx2 (RI.lit 0 (by decide))) (fun c1 => ?_) (fun c1 => ?_)
  · exact Lf_some (RI.lit 0 (by decide))
  · refine Lf_ite (C_le (RI.lit 256 (by decide)) hx2) (fun c2 => ?_) (fun c2 => ?_)
    · exact Lf_some (RI.lit 0 (by decide))
    · refine Lf_gS (lf_X8_at hx1 hx2) (fun v1 v1' hv1 => ?_)
      refine Lf_hA hv1.1 (by decide) (fun b3 => ?_)
      refine Lf_ite (C_eq (RI.at hS rfl (tnE hv1.1 b3 (by decide)) rfl) (RI.lit 0 (by decide))) (fun c4 => ?_) (fun c4 => ?_)
      · exact Lf_some (RI.lit 0 (by decide))
      · exact Lf_some (RI.lit 1 (by decide))
def g_X8_sends_15 : Option (Int) :=
  some (1)
set_option maxRecDepth 10000 in
theorem lf_X8_sends_15 : Lp RI (f_X8_sends_15) (g_X8_sends_15) := by
  unfold f_X8_sends_15 g_X8_sends_15
  exact Lp_val (RI.lit 1 (by decide))
def g_X8_sends (x0 : Int) (x1 : Int) : Option (Int) :=
  (g_X8_wayOf x1).bind fun v1 =>
  if v1 = 0 then
    g_X8_sends_15
  else
    (g_X8_opens x0 x1).bind fun v2 =>
    if v2 = 0 then
      some (0)
    else
      g_X8_sends_15
set_option maxRecDepth 10000 in
theorem lf_X8_sends {x0 : Int32} {x0' : Int} (hx0 : RI x0 x0') {x1 : Int64} {x1' : Int} (hx1 : RJ x1 x1') : Lp RI (f_X8_sends x0 x1) (g_X8_sends x0' x1') := by
  unfold f_X8_sends g_X8_sends
  refine Lp_gS (lf_X8_wayOf hx1) (fun v1 v1' hv1 => ?_)
  refine Lp_ite (C_eq hv1 (RI.lit 0 (by decide))) (fun c1 => ?_) (fun c1 => ?_)
  · exact lf_X8_sends_15
  · refine Lp_gS (lf_X8_opens hx0 hx1) (fun v2 v2' hv2 => ?_)
    refine Lp_ite (C_eq hv2 (RI.lit 0 (by decide))) (fun c2 => ?_) (fun c2 => ?_)
    · exact Lp_val (RI.lit 0 (by decide))
    · exact lf_X8_sends_15
def g_X8_hasSending (S : AM) (x1 : Int) (x2 : Int) : Option (Int) :=
  (g_X8_isThere S x1 x2).bind fun v1 =>
  if v1 = 0 then
    some (0)
  else
    (g_X8_sends x1 x2).bind fun v2 =>
    if v2 = 0 then
      some (0)
    else
      some (1)
set_option maxRecDepth 10000 in
theorem lf_X8_hasSending {S : Mem} {S' : AM} (hS : (RT tM) S S') {x1 : Int32} {x1' : Int} (hx1 : RI x1 x1') {x2 : Int32} {x2' : Int} (hx2 : RI x2 x2') : Lf RI (f_X8_hasSending S x1 x2) (g_X8_hasSending S' x1' x2') := by
  unfold f_X8_hasSending g_X8_hasSending
  refine Lf_bind (lf_X8_isThere hS hx1 hx2) (fun v1 v1' hv1 => ?_)
  refine Lf_ite (C_eq hv1 (RI.lit 0 (by decide))) (fun c1 => ?_) (fun c1 => ?_)
  · exact Lf_some (RI.lit 0 (by decide))
  · refine Lf_gS (lf_X8_sends hx1 (RJ.mk (E_64 hx2) (R_64 hx2.2))) (fun v2 v2' hv2 => ?_)
    refine Lf_ite (C_eq hv2 (RI.lit 0 (by decide))) (fun c2 => ?_) (fun c2 => ?_)
    · exact Lf_some (RI.lit 0 (by decide))
    · exact Lf_some (RI.lit 1 (by decide))
def g_X8_count_71 (S : AM) (k9 : Int → Int → Int → Int → Int → Option (Int)) (x1 : Int) (x2 : Int) (x3 : Int) (x4 : Int) (x5 : Int) : Option (Int) :=
  c32 (x5 + 1) <|
  k9 x1 x2 x3 x4 (x5 + 1)
set_option maxRecDepth 10000 in
theorem lf_X8_count_71 {S : Mem} {S' : AM} (hS : (RT tM) S S') {k9 : Int32 → Int32 → Int32 → Int32 → Int32 → Option (Int32)} {k9' : Int → Int → Int → Int → Int → Option (Int)} (hk9 : ∀ {y0 : Int32} {y0' : Int}, RI y0 y0' → ∀ {y1 : Int32} {y1' : Int}, RI y1 y1' → ∀ {y2 : Int32} {y2' : Int}, RI y2 y2' → ∀ {y3 : Int32} {y3' : Int}, RI y3 y3' → ∀ {y4 : Int32} {y4' : Int}, RI y4 y4' → Lf RI (k9 y0 y1 y2 y3 y4) (k9' y0' y1' y2' y3' y4')) {x1 : Int32} {x1' : Int} (hx1 : RI x1 x1') {x2 : Int32} {x2' : Int} (hx2 : RI x2 x2') {x3 : Int32} {x3' : Int} (hx3 : RI x3 x3') {x4 : Int32} {x4' : Int} (hx4 : RI x4 x4') {x5 : Int32} {x5' : Int} (hx5 : RI x5 x5') : Lf RI (f_X8_count_71 S k9 x1 x2 x3 x4 x5) (g_X8_count_71 S' k9' x1' x2' x3' x4' x5') := by
  unfold f_X8_count_71 g_X8_count_71
  refine Lf_c32 (fun b1 => ?_)
  exact hk9 hx1 hx2 hx3 hx4 (RI.mk (E_add hx5.1 (li32 1)) b1)
def g_X8_count_68 (S : AM) (k9 : Int → Int → Int → Int → Int → Option (Int)) (x1 : Int) (x2 : Int) (x3 : Int) (x4 : Int) (x5 : Int) : Option (Int) :=
  c32 (x4 + 1) <|
  g_X8_count_71 S k9 x1 x2 x3 (x4 + 1) x5
set_option maxRecDepth 10000 in
theorem lf_X8_count_68 {S : Mem} {S' : AM} (hS : (RT tM) S S') {k9 : Int32 → Int32 → Int32 → Int32 → Int32 → Option (Int32)} {k9' : Int → Int → Int → Int → Int → Option (Int)} (hk9 : ∀ {y0 : Int32} {y0' : Int}, RI y0 y0' → ∀ {y1 : Int32} {y1' : Int}, RI y1 y1' → ∀ {y2 : Int32} {y2' : Int}, RI y2 y2' → ∀ {y3 : Int32} {y3' : Int}, RI y3 y3' → ∀ {y4 : Int32} {y4' : Int}, RI y4 y4' → Lf RI (k9 y0 y1 y2 y3 y4) (k9' y0' y1' y2' y3' y4')) {x1 : Int32} {x1' : Int} (hx1 : RI x1 x1') {x2 : Int32} {x2' : Int} (hx2 : RI x2 x2') {x3 : Int32} {x3' : Int} (hx3 : RI x3 x3') {x4 : Int32} {x4' : Int} (hx4 : RI x4 x4') {x5 : Int32} {x5' : Int} (hx5 : RI x5 x5') : Lf RI (f_X8_count_68 S k9 x1 x2 x3 x4 x5) (g_X8_count_68 S' k9' x1' x2' x3' x4' x5') := by
  unfold f_X8_count_68 g_X8_count_68
  refine Lf_c32 (fun b1 => ?_)
  exact lf_X8_count_71 hS hk9 hx1 hx2 hx3 (RI.mk (E_add hx4.1 (li32 1)) b1) hx5
def g_X8_count_9_b (S : AM) (k9 : Int → Int → Int → Int → Int → Option (Int)) (x1 : Int) (x2 : Int) (x3 : Int) (x4 : Int) (x5 : Int) : Option (Int) :=
  hA x1 2 <|
  c32 ((65536 * x1) + (S M_total (x1 : Int).toNat)) <|
  if ((65536 * x1) + (S M_total (x1 : Int).toNat)) ≤ x5 then
    some (x4)
  else
    hA x5 131072 <|
    if (S M_of (x5 : Int).toNat) ≠ x2 then
      g_X8_count_71 S k9 x1 x2 x3 x4 x5
    else
      if x3 = (-1) then
        g_X8_count_68 S k9 x1 x2 x3 x4 x5
      else
        hA x5 131072 <|
        if (S M_mark (x5 : Int).toNat) = x3 then
          g_X8_count_68 S k9 x1 x2 x3 x4 x5
        else
          if x3 ≠ (-2) then
            g_X8_count_71 S k9 x1 x2 x3 x4 x5
          else
            hA x5 131072 <|
            if (S M_mark (x5 : Int).toNat) = 0 then
              g_X8_count_71 S k9 x1 x2 x3 x4 x5
            else
              g_X8_count_68 S k9 x1 x2 x3 x4 x5
set_option maxRecDepth 10000 in
theorem lf_X8_count_9_b {S : Mem} {S' : AM} (hS : (RT tM) S S') {k9 : Int32 → Int32 → Int32 → Int32 → Int32 → Option (Int32)} {k9' : Int → Int → Int → Int → Int → Option (Int)} (hk9 : ∀ {y0 : Int32} {y0' : Int}, RI y0 y0' → ∀ {y1 : Int32} {y1' : Int}, RI y1 y1' → ∀ {y2 : Int32} {y2' : Int}, RI y2 y2' → ∀ {y3 : Int32} {y3' : Int}, RI y3 y3' → ∀ {y4 : Int32} {y4' : Int}, RI y4 y4' → Lf RI (k9 y0 y1 y2 y3 y4) (k9' y0' y1' y2' y3' y4')) {x1 : Int32} {x1' : Int} (hx1 : RI x1 x1') {x2 : Int32} {x2' : Int} (hx2 : RI x2 x2') {x3 : Int32} {x3' : Int} (hx3 : RI x3 x3') {x4 : Int32} {x4' : Int} (hx4 : RI x4 x4') {x5 : Int32} {x5' : Int} (hx5 : RI x5 x5') : Lf RI (f_X8_count_9_b S k9 x1 x2 x3 x4 x5) (g_X8_count_9_b S' k9' x1' x2' x3' x4' x5') := by
  unfold f_X8_count_9_b g_X8_count_9_b
  refine Lf_hA hx1.1 (by decide) (fun b1 => ?_)
  refine Lf_c32 (fun b2 => ?_)
  refine Lf_ite (C_le (RI.mk (E_add (E_mul (li32 65536) hx1.1) (RI.at hS rfl (tnE hx1.1 b1 (by decide)) rfl).1) b2) hx5) (fun c3 => ?_) (fun c3 => ?_)
  · exact Lf_some hx4
  · refine Lf_hA hx5.1 (by decide) (fun b4 => ?_)
    refine Lf_ite (C_ne (RI.at hS rfl (tnE hx5.1 b4 (by decide)) rfl) hx2) (fun c5 => ?_) (fun c5 => ?_)
    · exact lf_X8_count_71 hS hk9 hx1 hx2 hx3 hx4 hx5
    · refine Lf_ite (C_eq hx3 RI.m1) (fun c6 => ?_) (fun c6 => ?_)
      · exact lf_X8_count_68 hS hk9 hx1 hx2 hx3 hx4 hx5
      · refine Lf_hA hx5.1 (by decide) (fun b7 => ?_)
        refine Lf_ite (C_eq (RI.at hS rfl (tnE hx5.1 b4 (by decide)) rfl) hx3) (fun c8 => ?_) (fun c8 => ?_)
        · exact lf_X8_count_68 hS hk9 hx1 hx2 hx3 hx4 hx5
        · refine Lf_ite (C_ne hx3 RI.m2) (fun c9 => ?_) (fun c9 => ?_)
          · exact lf_X8_count_71 hS hk9 hx1 hx2 hx3 hx4 hx5
          · refine Lf_hA hx5.1 (by decide) (fun b10 => ?_)
            refine Lf_ite (C_eq (RI.at hS rfl (tnE hx5.1 b4 (by decide)) rfl) (RI.lit 0 (by decide))) (fun c11 => ?_) (fun c11 => ?_)
            · exact lf_X8_count_71 hS hk9 hx1 hx2 hx3 hx4 hx5
            · exact lf_X8_count_68 hS hk9 hx1 hx2 hx3 hx4 hx5
def g_X8_count_9 (S : AM) : Nat → Int → Int → Int → Int → Int → Option (Int)
  | 0, _, _, _, _, _ => none
  | n + 1, x1, x2, x3, x4, x5 => g_X8_count_9_b S (g_X8_count_9 S n) x1 x2 x3 x4 x5
set_option maxRecDepth 10000 in
theorem lf_X8_count_9 {S : Mem} {S' : AM} (hS : (RT tM) S S') (n : Nat) : ∀ {x1 : Int32} {x1' : Int}, RI x1 x1' → ∀ {x2 : Int32} {x2' : Int}, RI x2 x2' → ∀ {x3 : Int32} {x3' : Int}, RI x3 x3' → ∀ {x4 : Int32} {x4' : Int}, RI x4 x4' → ∀ {x5 : Int32} {x5' : Int}, RI x5 x5' → Lf RI (f_X8_count_9 S n x1 x2 x3 x4 x5) (g_X8_count_9 S' n x1' x2' x3' x4' x5') := by
  induction n with
  | zero => intros; exact Lf_none
  | succ n ih => intro x1 x1' hx1 x2 x2' hx2 x3 x3' hx3 x4 x4' hx4 x5 x5' hx5; exact lf_X8_count_9_b hS ih hx1 hx2 hx3 hx4 hx5
def g_X8_count (S : AM) (x1 : Int) (x2 : Int) (x3 : Int) : Option (Int) :=
  c32 (65536 * x1) <|
  g_X8_count_9 S FU x1 x2 x3 0 (65536 * x1)
set_option maxRecDepth 10000 in
theorem lf_X8_count {S : Mem} {S' : AM} (hS : (RT tM) S S') {x1 : Int32} {x1' : Int} (hx1 : RI x1 x1') {x2 : Int32} {x2' : Int} (hx2 : RI x2 x2') {x3 : Int32} {x3' : Int} (hx3 : RI x3 x3') : Lf RI (f_X8_count S x1 x2 x3) (g_X8_count S' x1' x2' x3') := by
  unfold f_X8_count g_X8_count
  refine Lf_c32 (fun b1 => ?_)
  exact lf_X8_count_9 hS FU hx1 hx2 hx3 (RI.lit 0 (by decide)) (RI.mk (E_mul (li32 65536) hx1.1) b1)
def g_X8_written (S : AM) (x1 : Int) (x2 : Int) : Option (Int) :=
  (g_X8_count S x1 x2 (-1)).bind fun v1 =>
  some (v1)
set_option maxRecDepth 10000 in
theorem lf_X8_written {S : Mem} {S' : AM} (hS : (RT tM) S S') {x1 : Int32} {x1' : Int} (hx1 : RI x1 x1') {x2 : Int32} {x2' : Int} (hx2 : RI x2 x2') : Lf RI (f_X8_written S x1 x2) (g_X8_written S' x1' x2') := by
  unfold f_X8_written g_X8_written
  refine Lf_bind (lf_X8_count hS hx1 hx2 RI.m1) (fun v1 v1' hv1 => ?_)
  exact Lf_some hv1
def g_X8_sending (S : AM) (x1 : Int) (x2 : Int) : Option (Int) :=
  (g_X8_at x1 x2).bind fun v1 =>
  hA v1 512 <|
  if (S M_resets (v1 : Int).toNat) ≤ 0 then
    hA v1 512 <|
    if (S M_finished (v1 : Int).toNat) ≠ 0 then
      hA v1 512 <|
      if (S M_end (v1 : Int).toNat) ≠ 3 then
        some (1)
      else
        (g_X8_count S x1 x2 3).bind fun v2 =>
        (g_X8_written S x1 x2).bind fun v3 =>
        if v2 ≠ v3 then
          some (1)
        else
          some (2)
    else
      some (0)
  else
    hA v1 512 <|
    c32 (2 + (S M_resets (v1 : Int).toNat)) <|
    some (2 + (S M_resets (v1 : Int).toNat))
set_option maxRecDepth 10000 in
theorem lf_X8_sending {S : Mem} {S' : AM} (hS : (RT tM) S S') {x1 : Int32} {x1' : Int} (hx1 : RI x1 x1') {x2 : Int32} {x2' : Int} (hx2 : RI x2 x2') : Lf RI (f_X8_sending S x1 x2) (g_X8_sending S' x1' x2') := by
  unfold f_X8_sending g_X8_sending
  refine Lf_gS (lf_X8_at hx1 hx2) (fun v1 v1' hv1 => ?_)
  refine Lf_hA hv1.1 (by decide) (fun b1 => ?_)
  refine Lf_ite (C_le (RI.at hS rfl (tnE hv1.1 b1 (by decide)) rfl) (RI.lit 0 (by decide))) (fun c2 => ?_) (fun c2 => ?_)
  · refine Lf_hA hv1.1 (by decide) (fun b3 => ?_)
    refine Lf_ite (C_ne (RI.at hS rfl (tnE hv1.1 b1 (by decide)) rfl) (RI.lit 0 (by decide))) (fun c4 => ?_) (fun c4 => ?_)
    · refine Lf_hA hv1.1 (by decide) (fun b5 => ?_)
      refine Lf_ite (C_ne (RI.at hS rfl (tnE hv1.1 b1 (by decide)) rfl) (RI.lit 3 (by decide))) (fun c6 => ?_) (fun c6 => ?_)
      · exact Lf_some (RI.lit 1 (by decide))
      · refine Lf_bind (lf_X8_count hS hx1 hx2 (RI.lit 3 (by decide))) (fun v2 v2' hv2 => ?_)
        refine Lf_bind (lf_X8_written hS hx1 hx2) (fun v3 v3' hv3 => ?_)
        refine Lf_ite (C_ne hv2 hv3) (fun c7 => ?_) (fun c7 => ?_)
        · exact Lf_some (RI.lit 1 (by decide))
        · exact Lf_some (RI.lit 2 (by decide))
    · exact Lf_some (RI.lit 0 (by decide))
  · refine Lf_hA hv1.1 (by decide) (fun b8 => ?_)
    refine Lf_c32 (fun b9 => ?_)
    exact Lf_some (RI.mk (E_add (li32 2) (RI.at hS rfl (tnE hv1.1 b1 (by decide)) rfl).1) b9)
def g_X8_write_47_b (k47 : AM → Int → Int → Int → Int → Option (AM × Int)) (S : AM) (x1 : Int) (x2 : Int) (x3 : Int) (x4 : Int) : Option (AM × Int) :=
  if x3 ≤ x4 then
    some (S, x4)
  else
    hA x1 2 <|
    if 65536 ≤ (S M_total (x1 : Int).toNat) then
      some (S, x4)
    else
      hA x1 2 <|
      hA ((65536 * x1) + (S M_total (x1 : Int).toNat)) 131072 <|
      gS (uA S M_of ((((65536 * x1) + (S M_total (x1 : Int).toNat)) : Int).toNat) (s16 (s16 x2))) fun S1 =>
      hA x4 2048 <|
      hA ((65536 * x1) + (S M_total (x1 : Int).toNat)) 131072 <|
      gS (uA S1 M_value ((((65536 * x1) + (S M_total (x1 : Int).toNat)) : Int).toNat) (b8 (b8 (S1 M_tape (x4 : Int).toNat)))) fun S2 =>
      hA ((65536 * x1) + (S M_total (x1 : Int).toNat)) 131072 <|
      gS (uA S2 M_mark ((((65536 * x1) + (S M_total (x1 : Int).toNat)) : Int).toNat) (b8 0)) fun S3 =>
      hA x1 2 <|
      hA x1 2 <|
      c32 ((S3 M_total (x1 : Int).toNat) + 1) <|
      gS (uA S3 M_total ((x1 : Int).toNat) ((S3 M_total (x1 : Int).toNat) + 1)) fun S4 =>
      c32 (x4 + 1) <|
      k47 S4 x1 x2 x3 (x4 + 1)
set_option maxRecDepth 10000 in
theorem lf_X8_write_47_b {k47 : Mem → Int32 → Int32 → Int32 → Int32 → Option (Mem × Int32)} {k47' : AM → Int → Int → Int → Int → Option (AM × Int)} (hk47 : ∀ {y0 : Mem} {y0' : AM}, (RT tM) y0 y0' → ∀ {y1 : Int32} {y1' : Int}, RI y1 y1' → ∀ {y2 : Int32} {y2' : Int}, RI y2 y2' → ∀ {y3 : Int32} {y3' : Int}, RI y3 y3' → ∀ {y4 : Int32} {y4' : Int}, RI y4 y4' → Lf (RP (RT tM) RI) (k47 y0 y1 y2 y3 y4) (k47' y0' y1' y2' y3' y4')) {S : Mem} {S' : AM} (hS : (RT tM) S S') {x1 : Int32} {x1' : Int} (hx1 : RI x1 x1') {x2 : Int32} {x2' : Int} (hx2 : RI x2 x2') {x3 : Int32} {x3' : Int} (hx3 : RI x3 x3') {x4 : Int32} {x4' : Int} (hx4 : RI x4 x4') : Lf (RP (RT tM) RI) (f_X8_write_47_b k47 S x1 x2 x3 x4) (g_X8_write_47_b k47' S' x1' x2' x3' x4') := by
  unfold f_X8_write_47_b g_X8_write_47_b
  refine Lf_ite (C_le hx3 hx4) (fun c1 => ?_) (fun c1 => ?_)
  · exact Lf_some (RP.mk hS hx4)
  · refine Lf_hA hx1.1 (by decide) (fun b2 => ?_)
    refine Lf_ite (C_le (RI.lit 65536 (by decide)) (RI.at hS rfl (tnE hx1.1 b2 (by decide)) rfl)) (fun c3 => ?_) (fun c3 => ?_)
    · exact Lf_some (RP.mk hS hx4)
    · refine Lf_hA hx1.1 (by decide) (fun b4 => ?_)
      refine Lf_hA (E_add (E_mul (li32 65536) hx1.1) (RI.at hS rfl (tnE hx1.1 b2 (by decide)) rfl).1) (by decide) (fun b5 => ?_)
      refine Lf_st (RT.siq hS rfl (tnE (E_add (E_mul (li32 65536) hx1.1) (RI.at hS rfl (tnE hx1.1 b2 (by decide)) rfl).1) b5 (by decide)) (RI.mk (E_ns (RI.mk (E_s16 hx2) (R_sh _))) (R_sh _)) rfl) (fun S1 S1' hS1 => ?_)
      refine Lf_hA hx4.1 (by decide) (fun b6 => ?_)
      refine Lf_hA (E_add (E_mul (li32 65536) hx1.1) (RI.at hS rfl (tnE hx1.1 b2 (by decide)) rfl).1) (by decide) (fun b7 => ?_)
      refine Lf_st (RT.siq hS1 rfl (tnE (E_add (E_mul (li32 65536) hx1.1) (RI.at hS rfl (tnE hx1.1 b2 (by decide)) rfl).1) b5 (by decide)) (RI.mk (E_nb (RI.mk (E_b8 (RI.at hS1 rfl (tnE hx4.1 b6 (by decide)) rfl)) (R_b8 _))) (R_b8 _)) rfl) (fun S2 S2' hS2 => ?_)
      refine Lf_hA (E_add (E_mul (li32 65536) hx1.1) (RI.at hS rfl (tnE hx1.1 b2 (by decide)) rfl).1) (by decide) (fun b8 => ?_)
      refine Lf_st (RT.siq hS2 rfl (tnE (E_add (E_mul (li32 65536) hx1.1) (RI.at hS rfl (tnE hx1.1 b2 (by decide)) rfl).1) b5 (by decide)) (RI.mk (E_nb (RI.lit 0 (by decide))) (R_b8 _)) rfl) (fun S3 S3' hS3 => ?_)
      refine Lf_hA hx1.1 (by decide) (fun b9 => ?_)
      refine Lf_hA hx1.1 (by decide) (fun b10 => ?_)
      refine Lf_c32 (fun b11 => ?_)
      refine Lf_st (RT.siq hS3 rfl (tnE hx1.1 b2 (by decide)) (RI.mk (E_add (RI.at hS3 rfl (tnE hx1.1 b2 (by decide)) rfl).1 (li32 1)) b11) rfl) (fun S4 S4' hS4 => ?_)
      refine Lf_c32 (fun b12 => ?_)
      exact hk47 hS4 hx1 hx2 hx3 (RI.mk (E_add hx4.1 (li32 1)) b12)
def g_X8_write_47 : Nat → AM → Int → Int → Int → Int → Option (AM × Int)
  | 0, _, _, _, _, _ => none
  | n + 1, S, x1, x2, x3, x4 => g_X8_write_47_b (g_X8_write_47 n) S x1 x2 x3 x4
set_option maxRecDepth 10000 in
theorem lf_X8_write_47 (n : Nat) : ∀ {S : Mem} {S' : AM}, (RT tM) S S' → ∀ {x1 : Int32} {x1' : Int}, RI x1 x1' → ∀ {x2 : Int32} {x2' : Int}, RI x2 x2' → ∀ {x3 : Int32} {x3' : Int}, RI x3 x3' → ∀ {x4 : Int32} {x4' : Int}, RI x4 x4' → Lf (RP (RT tM) RI) (f_X8_write_47 n S x1 x2 x3 x4) (g_X8_write_47 n S' x1' x2' x3' x4') := by
  induction n with
  | zero => intros; exact Lf_none
  | succ n ih => intro S S' hS x1 x1' hx1 x2 x2' hx2 x3 x3' hx3 x4 x4' hx4; exact lf_X8_write_47_b ih hS hx1 hx2 hx3 hx4
def g_X8_write (S : AM) (x1 : Int) (x2 : Int) : Option (AM × Int) :=
  (g_X8_noSide x1).bind fun v1 =>
  gB2 (g_X8_fails S v1 1) fun S2 v3 =>
  if v3 = 0 then
    gS (uA S2 M_o 3 0) fun S4 =>
    (g_X8_hasSending S4 x1 x2).bind fun v5 =>
    if v5 = 0 then
      some (S4, (-1))
    else
      (g_X8_sending S4 x1 x2).bind fun v6 =>
      if v6 = 0 then
        g_X8_write_47 FU S4 x1 x2 (S2 M_o 3) 0
      else
        some (S4, (-1))
  else
    some (S2, 0)
set_option maxRecDepth 10000 in
theorem lf_X8_write {S : Mem} {S' : AM} (hS : (RT tM) S S') {x1 : Int32} {x1' : Int} (hx1 : RI x1 x1') {x2 : Int32} {x2' : Int} (hx2 : RI x2 x2') : Lf (RP (RT tM) RI) (f_X8_write S x1 x2) (g_X8_write S' x1' x2') := by
  unfold f_X8_write g_X8_write
  refine Lf_gS (lf_X8_noSide hx1) (fun v1 v1' hv1 => ?_)
  refine Lf_gB2 (lf_X8_fails hS hv1 (RI.lit 1 (by decide))) (fun S2 S2' hS2 v3 v3' hv3 => ?_)
  refine Lf_ite (C_eq hv3 (RI.lit 0 (by decide))) (fun c1 => ?_) (fun c1 => ?_)
  · refine Lf_st (RT.siq hS2 rfl rfl (RI.lit 0 (by decide)) rfl) (fun S4 S4' hS4 => ?_)
    refine Lf_bind (lf_X8_hasSending hS4 hx1 hx2) (fun v5 v5' hv5 => ?_)
    refine Lf_ite (C_eq hv5 (RI.lit 0 (by decide))) (fun c2 => ?_) (fun c2 => ?_)
    · exact Lf_some (RP.mk hS4 RI.m1)
    · refine Lf_bind (lf_X8_sending hS4 hx1 hx2) (fun v6 v6' hv6 => ?_)
      refine Lf_ite (C_eq hv6 (RI.lit 0 (by decide))) (fun c3 => ?_) (fun c3 => ?_)
      · exact lf_X8_write_47 FU hS4 hx1 hx2 (RI.at hS2 rfl rfl rfl) (RI.lit 0 (by decide))
      · exact Lf_some (RP.mk hS4 RI.m1)
  · exact Lf_some (RP.mk hS2 (RI.lit 0 (by decide)))
def g_X8_finish (S : AM) (x1 : Int) (x2 : Int) : Option (AM × Int) :=
  (g_X8_noSide x1).bind fun v1 =>
  gB2 (g_X8_fails S v1 1) fun S2 v3 =>
  if v3 ≠ 0 then
    some (S2, 0)
  else
    (g_X8_hasSending S2 x1 x2).bind fun v4 =>
    if v4 = 0 then
      some (S2, 0)
    else
      (g_X8_sending S2 x1 x2).bind fun v5 =>
      if v5 = 0 then
        (g_X8_at x1 x2).bind fun v6 =>
        hA v6 512 <|
        gS (uA S2 M_finished ((v6 : Int).toNat) 1) fun S7 =>
        (g_X8_at x1 x2).bind fun v8 =>
        hA v8 512 <|
        gS (uA S7 M_end ((v8 : Int).toNat) 0) fun S9 =>
        some (S9, 1)
      else
        some (S2, 0)
set_option maxRecDepth 10000 in
theorem lf_X8_finish {S : Mem} {S' : AM} (hS : (RT tM) S S') {x1 : Int32} {x1' : Int} (hx1 : RI x1 x1') {x2 : Int32} {x2' : Int} (hx2 : RI x2 x2') : Lf (RP (RT tM) RI) (f_X8_finish S x1 x2) (g_X8_finish S' x1' x2') := by
  unfold f_X8_finish g_X8_finish
  refine Lf_gS (lf_X8_noSide hx1) (fun v1 v1' hv1 => ?_)
  refine Lf_gB2 (lf_X8_fails hS hv1 (RI.lit 1 (by decide))) (fun S2 S2' hS2 v3 v3' hv3 => ?_)
  refine Lf_ite (C_ne hv3 (RI.lit 0 (by decide))) (fun c1 => ?_) (fun c1 => ?_)
  · exact Lf_some (RP.mk hS2 (RI.lit 0 (by decide)))
  · refine Lf_bind (lf_X8_hasSending hS2 hx1 hx2) (fun v4 v4' hv4 => ?_)
    refine Lf_ite (C_eq hv4 (RI.lit 0 (by decide))) (fun c2 => ?_) (fun c2 => ?_)
    · exact Lf_some (RP.mk hS2 (RI.lit 0 (by decide)))
    · refine Lf_bind (lf_X8_sending hS2 hx1 hx2) (fun v5 v5' hv5 => ?_)
      refine Lf_ite (C_eq hv5 (RI.lit 0 (by decide))) (fun c3 => ?_) (fun c3 => ?_)
      · refine Lf_gS (lf_X8_at hx1 hx2) (fun v6 v6' hv6 => ?_)
        refine Lf_hA hv6.1 (by decide) (fun b4 => ?_)
        refine Lf_st (RT.siq hS2 rfl (tnE hv6.1 b4 (by decide)) (RI.mk E_nz1 (RI.lit 1 (by decide)).2) rfl) (fun S7 S7' hS7 => ?_)
        refine Lf_gS (lf_X8_at hx1 hx2) (fun v8 v8' hv8 => ?_)
        refine Lf_hA hv8.1 (by decide) (fun b5 => ?_)
        refine Lf_st (RT.siq hS7 rfl (tnE hv8.1 b5 (by decide)) (RI.lit 0 (by decide)) rfl) (fun S9 S9' hS9 => ?_)
        exact Lf_some (RP.mk hS9 (RI.lit 1 (by decide)))
      · exact Lf_some (RP.mk hS2 (RI.lit 0 (by decide)))
def g_X8_isOpenSending (S : AM) (x1 : Int) (x2 : Int) : Option (Int) :=
  (g_X8_hasSending S x1 x2).bind fun v1 =>
  if v1 = 0 then
    some (0)
  else
    (g_X8_sending S x1 x2).bind fun v2 =>
    if 2 ≤ v2 then
      some (0)
    else
      some (1)
set_option maxRecDepth 10000 in
theorem lf_X8_isOpenSending {S : Mem} {S' : AM} (hS : (RT tM) S S') {x1 : Int32} {x1' : Int} (hx1 : RI x1 x1') {x2 : Int32} {x2' : Int} (hx2 : RI x2 x2') : Lf RI (f_X8_isOpenSending S x1 x2) (g_X8_isOpenSending S' x1' x2') := by
  unfold f_X8_isOpenSending g_X8_isOpenSending
  refine Lf_bind (lf_X8_hasSending hS hx1 hx2) (fun v1 v1' hv1 => ?_)
  refine Lf_ite (C_eq hv1 (RI.lit 0 (by decide))) (fun c1 => ?_) (fun c1 => ?_)
  · exact Lf_some (RI.lit 0 (by decide))
  · refine Lf_bind (lf_X8_sending hS hx1 hx2) (fun v2 v2' hv2 => ?_)
    refine Lf_ite (C_le (RI.lit 2 (by decide)) hv2) (fun c2 => ?_) (fun c2 => ?_)
    · exact Lf_some (RI.lit 0 (by decide))
    · exact Lf_some (RI.lit 1 (by decide))
def g_X8_doReset (S : AM) (x1 : Int) (x2 : Int) (x3 : Int) : Option (AM) :=
  (g_X8_at x1 x2).bind fun v1 =>
  hA v1 512 <|
  gS (uA S M_resets ((v1 : Int).toNat) 1) fun S2 =>
  hA v1 512 <|
  gS (uA S2 M_code ((v1 : Int).toNat) x3) fun S3 =>
  hA v1 512 <|
  gS (uA S3 M_tellReset ((v1 : Int).toNat) 1) fun S4 =>
  some (S4)
set_option maxRecDepth 10000 in
theorem lf_X8_doReset {S : Mem} {S' : AM} (hS : (RT tM) S S') {x1 : Int32} {x1' : Int} (hx1 : RI x1 x1') {x2 : Int32} {x2' : Int} (hx2 : RI x2 x2') {x3 : Int64} {x3' : Int} (hx3 : RJ x3 x3') : Lf (RT tM) (f_X8_doReset S x1 x2 x3) (g_X8_doReset S' x1' x2' x3') := by
  unfold f_X8_doReset g_X8_doReset
  refine Lf_gS (lf_X8_at hx1 hx2) (fun v1 v1' hv1 => ?_)
  refine Lf_hA hv1.1 (by decide) (fun b1 => ?_)
  refine Lf_st (RT.siq hS rfl (tnE hv1.1 b1 (by decide)) (RI.lit 1 (by decide)) rfl) (fun S2 S2' hS2 => ?_)
  refine Lf_hA hv1.1 (by decide) (fun b2 => ?_)
  refine Lf_st (RT.sjq hS2 rfl (tnE hv1.1 b1 (by decide)) hx3 rfl) (fun S3 S3' hS3 => ?_)
  refine Lf_hA hv1.1 (by decide) (fun b3 => ?_)
  refine Lf_st (RT.siq hS3 rfl (tnE hv1.1 b1 (by decide)) (RI.mk E_nz1 (RI.lit 1 (by decide)).2) rfl) (fun S4 S4' hS4 => ?_)
  exact Lf_some hS4
def g_X8_reset_27 (S : AM) (x1 : Int) (x2 : Int) (x3 : Int) (y0 : Int) : Option (AM × Int) :=
  gB2 (g_X8_fails S y0 1) fun S1 v2 =>
  if v2 ≠ 0 then
    some (S1, 0)
  else
    (g_X8_isOpenSending S1 x1 x2).bind fun v3 =>
    if v3 ≠ 0 then
      (g_X8_doReset S1 x1 x2 x3).bind fun S4 =>
      some (S4, 1)
    else
      some (S1, 0)
set_option maxRecDepth 10000 in
theorem lf_X8_reset_27 {S : Mem} {S' : AM} (hS : (RT tM) S S') {x1 : Int32} {x1' : Int} (hx1 : RI x1 x1') {x2 : Int32} {x2' : Int} (hx2 : RI x2 x2') {x3 : Int64} {x3' : Int} (hx3 : RJ x3 x3') {y0 : Int32} {y0' : Int} (hy0 : RI y0 y0') : Lf (RP (RT tM) RI) (f_X8_reset_27 S x1 x2 x3 y0) (g_X8_reset_27 S' x1' x2' x3' y0') := by
  unfold f_X8_reset_27 g_X8_reset_27
  refine Lf_gB2 (lf_X8_fails hS hy0 (RI.lit 1 (by decide))) (fun S1 S1' hS1 v2 v2' hv2 => ?_)
  refine Lf_ite (C_ne hv2 (RI.lit 0 (by decide))) (fun c1 => ?_) (fun c1 => ?_)
  · exact Lf_some (RP.mk hS1 (RI.lit 0 (by decide)))
  · refine Lf_bind (lf_X8_isOpenSending hS1 hx1 hx2) (fun v3 v3' hv3 => ?_)
    refine Lf_ite (C_ne hv3 (RI.lit 0 (by decide))) (fun c2 => ?_) (fun c2 => ?_)
    · refine Lf_bind (lf_X8_doReset hS1 hx1 hx2 hx3) (fun S4 S4' hS4 => ?_)
      exact Lf_some (RP.mk hS4 (RI.lit 1 (by decide)))
    · exact Lf_some (RP.mk hS1 (RI.lit 0 (by decide)))
def g_X8_reset_22 (S : AM) (x1 : Int) (x2 : Int) (x3 : Int) : Option (AM × Int) :=
  g_X8_reset_27 S x1 x2 x3 1
set_option maxRecDepth 10000 in
theorem lf_X8_reset_22 {S : Mem} {S' : AM} (hS : (RT tM) S S') {x1 : Int32} {x1' : Int} (hx1 : RI x1 x1') {x2 : Int32} {x2' : Int} (hx2 : RI x2 x2') {x3 : Int64} {x3' : Int} (hx3 : RJ x3 x3') : Lf (RP (RT tM) RI) (f_X8_reset_22 S x1 x2 x3) (g_X8_reset_22 S' x1' x2' x3') := by
  unfold f_X8_reset_22 g_X8_reset_22
  exact lf_X8_reset_27 hS hx1 hx2 hx3 (RI.lit 1 (by decide))
def g_X8_reset (S : AM) (x1 : Int) (x2 : Int) (x3 : Int) : Option (AM × Int) :=
  (g_X8_noSide x1).bind fun v1 =>
  if v1 ≠ 0 then
    g_X8_reset_22 S x1 x2 x3
  else
    if x3 < 0 then
      g_X8_reset_22 S x1 x2 x3
    else
      if x3 ≤ 4611686018427387903 then
        g_X8_reset_27 S x1 x2 x3 0
      else
        g_X8_reset_22 S x1 x2 x3
set_option maxRecDepth 10000 in
theorem lf_X8_reset {S : Mem} {S' : AM} (hS : (RT tM) S S') {x1 : Int32} {x1' : Int} (hx1 : RI x1 x1') {x2 : Int32} {x2' : Int} (hx2 : RI x2 x2') {x3 : Int64} {x3' : Int} (hx3 : RJ x3 x3') : Lf (RP (RT tM) RI) (f_X8_reset S x1 x2 x3) (g_X8_reset S' x1' x2' x3') := by
  unfold f_X8_reset g_X8_reset
  refine Lf_gS (lf_X8_noSide hx1) (fun v1 v1' hv1 => ?_)
  refine Lf_ite (C_ne hv1 (RI.lit 0 (by decide))) (fun c1 => ?_) (fun c1 => ?_)
  · exact lf_X8_reset_22 hS hx1 hx2 hx3
  · refine Lf_ite (D_lt hx3 (RJ.lit 0 (by decide))) (fun c2 => ?_) (fun c2 => ?_)
    · exact lf_X8_reset_22 hS hx1 hx2 hx3
    · refine Lf_ite (D_le hx3 (RJ.lit 4611686018427387903 (by decide))) (fun c3 => ?_) (fun c3 => ?_)
      · exact lf_X8_reset_27 hS hx1 hx2 hx3 (RI.lit 0 (by decide))
      · exact lf_X8_reset_22 hS hx1 hx2 hx3
def g_X8_receives_15 : Option (Int) :=
  some (1)
set_option maxRecDepth 10000 in
theorem lf_X8_receives_15 : Lp RI (f_X8_receives_15) (g_X8_receives_15) := by
  unfold f_X8_receives_15 g_X8_receives_15
  exact Lp_val (RI.lit 1 (by decide))
def g_X8_receives (x0 : Int) (x1 : Int) : Option (Int) :=
  (g_X8_wayOf x1).bind fun v1 =>
  if v1 = 0 then
    g_X8_receives_15
  else
    (g_X8_opens x0 x1).bind fun v2 =>
    if v2 ≠ 0 then
      some (0)
    else
      g_X8_receives_15
set_option maxRecDepth 10000 in
theorem lf_X8_receives {x0 : Int32} {x0' : Int} (hx0 : RI x0 x0') {x1 : Int64} {x1' : Int} (hx1 : RJ x1 x1') : Lp RI (f_X8_receives x0 x1) (g_X8_receives x0' x1') := by
  unfold f_X8_receives g_X8_receives
  refine Lp_gS (lf_X8_wayOf hx1) (fun v1 v1' hv1 => ?_)
  refine Lp_ite (C_eq hv1 (RI.lit 0 (by decide))) (fun c1 => ?_) (fun c1 => ?_)
  · exact lf_X8_receives_15
  · refine Lp_gS (lf_X8_opens hx0 hx1) (fun v2 v2' hv2 => ?_)
    refine Lp_ite (C_ne hv2 (RI.lit 0 (by decide))) (fun c2 => ?_) (fun c2 => ?_)
    · exact Lp_val (RI.lit 0 (by decide))
    · exact lf_X8_receives_15
def g_X8_hasReceiving (S : AM) (x1 : Int) (x2 : Int) : Option (Int) :=
  (g_X8_isThere S x1 x2).bind fun v1 =>
  if v1 = 0 then
    some (0)
  else
    (g_X8_receives x1 x2).bind fun v2 =>
    if v2 = 0 then
      some (0)
    else
      some (1)
set_option maxRecDepth 10000 in
theorem lf_X8_hasReceiving {S : Mem} {S' : AM} (hS : (RT tM) S S') {x1 : Int32} {x1' : Int} (hx1 : RI x1 x1') {x2 : Int32} {x2' : Int} (hx2 : RI x2 x2') : Lf RI (f_X8_hasReceiving S x1 x2) (g_X8_hasReceiving S' x1' x2') := by
  unfold f_X8_hasReceiving g_X8_hasReceiving
  refine Lf_bind (lf_X8_isThere hS hx1 hx2) (fun v1 v1' hv1 => ?_)
  refine Lf_ite (C_eq hv1 (RI.lit 0 (by decide))) (fun c1 => ?_) (fun c1 => ?_)
  · exact Lf_some (RI.lit 0 (by decide))
  · refine Lf_gS (lf_X8_receives hx1 (RJ.mk (E_64 hx2) (R_64 hx2.2))) (fun v2 v2' hv2 => ?_)
    refine Lf_ite (C_eq hv2 (RI.lit 0 (by decide))) (fun c2 => ?_) (fun c2 => ?_)
    · exact Lf_some (RI.lit 0 (by decide))
    · exact Lf_some (RI.lit 1 (by decide))
def g_X8_pieceAt_49 (S : AM) (k7 : Int → Int → Int → Int → Option (Int)) (x1 : Int) (x2 : Int) (x3 : Int) (x4 : Int) : Option (Int) :=
  c32 (x4 + 1) <|
  k7 x1 x2 x3 (x4 + 1)
set_option maxRecDepth 10000 in
theorem lf_X8_pieceAt_49 {S : Mem} {S' : AM} (hS : (RT tM) S S') {k7 : Int32 → Int32 → Int32 → Int32 → Option (Int32)} {k7' : Int → Int → Int → Int → Option (Int)} (hk7 : ∀ {y0 : Int32} {y0' : Int}, RI y0 y0' → ∀ {y1 : Int32} {y1' : Int}, RI y1 y1' → ∀ {y2 : Int32} {y2' : Int}, RI y2 y2' → ∀ {y3 : Int32} {y3' : Int}, RI y3 y3' → Lf RI (k7 y0 y1 y2 y3) (k7' y0' y1' y2' y3')) {x1 : Int32} {x1' : Int} (hx1 : RI x1 x1') {x2 : Int32} {x2' : Int} (hx2 : RI x2 x2') {x3 : Int32} {x3' : Int} (hx3 : RI x3 x3') {x4 : Int32} {x4' : Int} (hx4 : RI x4 x4') : Lf RI (f_X8_pieceAt_49 S k7 x1 x2 x3 x4) (g_X8_pieceAt_49 S' k7' x1' x2' x3' x4') := by
  unfold f_X8_pieceAt_49 g_X8_pieceAt_49
  refine Lf_c32 (fun b1 => ?_)
  exact hk7 hx1 hx2 hx3 (RI.mk (E_add hx4.1 (li32 1)) b1)
def g_X8_pieceAt_7_b (S : AM) (k7 : Int → Int → Int → Int → Option (Int)) (x1 : Int) (x2 : Int) (x3 : Int) (x4 : Int) : Option (Int) :=
  hA x1 2 <|
  c32 ((1408 * x1) + (S M_pieces (x1 : Int).toNat)) <|
  if ((1408 * x1) + (S M_pieces (x1 : Int).toNat)) ≤ x4 then
    some (-1)
  else
    hA x4 2816 <|
    if (S M_pieceOf (x4 : Int).toNat) ≠ x2 then
      g_X8_pieceAt_49 S k7 x1 x2 x3 x4
    else
      hA x4 2816 <|
      if (S M_pieceNumber (x4 : Int).toNat) ≠ x3 then
        g_X8_pieceAt_49 S k7 x1 x2 x3 x4
      else
        some (x4)
set_option maxRecDepth 10000 in
theorem lf_X8_pieceAt_7_b {S : Mem} {S' : AM} (hS : (RT tM) S S') {k7 : Int32 → Int32 → Int32 → Int32 → Option (Int32)} {k7' : Int → Int → Int → Int → Option (Int)} (hk7 : ∀ {y0 : Int32} {y0' : Int}, RI y0 y0' → ∀ {y1 : Int32} {y1' : Int}, RI y1 y1' → ∀ {y2 : Int32} {y2' : Int}, RI y2 y2' → ∀ {y3 : Int32} {y3' : Int}, RI y3 y3' → Lf RI (k7 y0 y1 y2 y3) (k7' y0' y1' y2' y3')) {x1 : Int32} {x1' : Int} (hx1 : RI x1 x1') {x2 : Int32} {x2' : Int} (hx2 : RI x2 x2') {x3 : Int32} {x3' : Int} (hx3 : RI x3 x3') {x4 : Int32} {x4' : Int} (hx4 : RI x4 x4') : Lf RI (f_X8_pieceAt_7_b S k7 x1 x2 x3 x4) (g_X8_pieceAt_7_b S' k7' x1' x2' x3' x4') := by
  unfold f_X8_pieceAt_7_b g_X8_pieceAt_7_b
  refine Lf_hA hx1.1 (by decide) (fun b1 => ?_)
  refine Lf_c32 (fun b2 => ?_)
  refine Lf_ite (C_le (RI.mk (E_add (E_mul (li32 1408) hx1.1) (RI.at hS rfl (tnE hx1.1 b1 (by decide)) rfl).1) b2) hx4) (fun c3 => ?_) (fun c3 => ?_)
  · exact Lf_some RI.m1
  · refine Lf_hA hx4.1 (by decide) (fun b4 => ?_)
    refine Lf_ite (C_ne (RI.at hS rfl (tnE hx4.1 b4 (by decide)) rfl) hx2) (fun c5 => ?_) (fun c5 => ?_)
    · exact lf_X8_pieceAt_49 hS hk7 hx1 hx2 hx3 hx4
    · refine Lf_hA hx4.1 (by decide) (fun b6 => ?_)
      refine Lf_ite (C_ne (RI.at hS rfl (tnE hx4.1 b4 (by decide)) rfl) hx3) (fun c7 => ?_) (fun c7 => ?_)
      · exact lf_X8_pieceAt_49 hS hk7 hx1 hx2 hx3 hx4
      · exact Lf_some hx4
def g_X8_pieceAt_7 (S : AM) : Nat → Int → Int → Int → Int → Option (Int)
  | 0, _, _, _, _ => none
  | n + 1, x1, x2, x3, x4 => g_X8_pieceAt_7_b S (g_X8_pieceAt_7 S n) x1 x2 x3 x4
set_option maxRecDepth 10000 in
theorem lf_X8_pieceAt_7 {S : Mem} {S' : AM} (hS : (RT tM) S S') (n : Nat) : ∀ {x1 : Int32} {x1' : Int}, RI x1 x1' → ∀ {x2 : Int32} {x2' : Int}, RI x2 x2' → ∀ {x3 : Int32} {x3' : Int}, RI x3 x3' → ∀ {x4 : Int32} {x4' : Int}, RI x4 x4' → Lf RI (f_X8_pieceAt_7 S n x1 x2 x3 x4) (g_X8_pieceAt_7 S' n x1' x2' x3' x4') := by
  induction n with
  | zero => intros; exact Lf_none
  | succ n ih => intro x1 x1' hx1 x2 x2' hx2 x3 x3' hx3 x4 x4' hx4; exact lf_X8_pieceAt_7_b hS ih hx1 hx2 hx3 hx4
def g_X8_pieceAt (S : AM) (x1 : Int) (x2 : Int) (x3 : Int) : Option (Int) :=
  c32 (1408 * x1) <|
  g_X8_pieceAt_7 S FU x1 x2 x3 (1408 * x1)
set_option maxRecDepth 10000 in
theorem lf_X8_pieceAt {S : Mem} {S' : AM} (hS : (RT tM) S S') {x1 : Int32} {x1' : Int} (hx1 : RI x1 x1') {x2 : Int32} {x2' : Int} (hx2 : RI x2 x2') {x3 : Int32} {x3' : Int} (hx3 : RI x3 x3') : Lf RI (f_X8_pieceAt S x1 x2 x3) (g_X8_pieceAt S' x1' x2' x3') := by
  unfold f_X8_pieceAt g_X8_pieceAt
  refine Lf_c32 (fun b1 => ?_)
  exact lf_X8_pieceAt_7 hS FU hx1 hx2 hx3 (RI.mk (E_mul (li32 1408) hx1.1) b1)
def g_X8_isHere (S : AM) (x1 : Int) (x2 : Int) (x3 : Int) : Option (Int) :=
  hA x3 9223372036854775808 <|
  c32 (x3 / 64) <|
  (g_X8_pieceAt S x1 x2 (x3 / 64)).bind fun v1 =>
  if v1 < 0 then
    some (0)
  else
    hA ((64 * v1) + (x3 - ((x3 / 64) * 64))) 180224 <|
    if (S M_has (((64 * v1) + (x3 - ((x3 / 64) * 64))) : Int).toNat) = 0 then
      some (0)
    else
      some (1)
set_option maxRecDepth 10000 in
theorem lf_X8_isHere {S : Mem} {S' : AM} (hS : (RT tM) S S') {x1 : Int32} {x1' : Int} (hx1 : RI x1 x1') {x2 : Int32} {x2' : Int} (hx2 : RI x2 x2') {x3 : Int64} {x3' : Int} (hx3 : RJ x3 x3') : Lf RI (f_X8_isHere S x1 x2 x3) (g_X8_isHere S' x1' x2' x3') := by
  unfold f_X8_isHere g_X8_isHere
  refine Lf_hD (fun b1 => ?_)
  refine Lf_c32 (fun b2 => ?_)
  refine Lf_bind (lf_X8_pieceAt hS hx1 hx2 (RI.mk (F_32 (F_div hx3.1 (li64 64) b1 (by decide) (by decide))) b2)) (fun v1 v1' hv1 => ?_)
  refine Lf_ite (C_lt hv1 (RI.lit 0 (by decide))) (fun c3 => ?_) (fun c3 => ?_)
  · exact Lf_some (RI.lit 0 (by decide))
  · refine Lf_hA (E_add (E_mul (li32 64) hv1.1) (F_32 (F_sub hx3.1 (F_mul (F_div hx3.1 (li64 64) b1 (by decide) (by decide)) (li64 64))))) (by decide) (fun b4 => ?_)
    refine Lf_ite (C_eq (RI.at hS rfl (tnE (E_add (E_mul (li32 64) hv1.1) (F_32 (F_sub hx3.1 (F_mul (F_div hx3.1 (li64 64) b1 (by decide) (by decide)) (li64 64))))) b4 (by decide)) rfl) (RI.lit 0 (by decide))) (fun c5 => ?_) (fun c5 => ?_)
    · exact Lf_some (RI.lit 0 (by decide))
    · exact Lf_some (RI.lit 1 (by decide))
def g_X8_readyOf_11_b (S : AM) (k11 : Int → Int → Int → Option (Int)) (x1 : Int) (x2 : Int) (x3 : Int) : Option (Int) :=
  (g_X8_isHere S x1 x2 x3).bind fun v1 =>
  if v1 = 0 then
    some (x3)
  else
    c64 (x3 + 1) <|
    k11 x1 x2 (x3 + 1)
set_option maxRecDepth 10000 in
theorem lf_X8_readyOf_11_b {S : Mem} {S' : AM} (hS : (RT tM) S S') {k11 : Int32 → Int32 → Int64 → Option (Int64)} {k11' : Int → Int → Int → Option (Int)} (hk11 : ∀ {y0 : Int32} {y0' : Int}, RI y0 y0' → ∀ {y1 : Int32} {y1' : Int}, RI y1 y1' → ∀ {y2 : Int64} {y2' : Int}, RJ y2 y2' → Lf RJ (k11 y0 y1 y2) (k11' y0' y1' y2')) {x1 : Int32} {x1' : Int} (hx1 : RI x1 x1') {x2 : Int32} {x2' : Int} (hx2 : RI x2 x2') {x3 : Int64} {x3' : Int} (hx3 : RJ x3 x3') : Lf RJ (f_X8_readyOf_11_b S k11 x1 x2 x3) (g_X8_readyOf_11_b S' k11' x1' x2' x3') := by
  unfold f_X8_readyOf_11_b g_X8_readyOf_11_b
  refine Lf_bind (lf_X8_isHere hS hx1 hx2 hx3) (fun v1 v1' hv1 => ?_)
  refine Lf_ite (C_eq hv1 (RI.lit 0 (by decide))) (fun c1 => ?_) (fun c1 => ?_)
  · exact Lf_some hx3
  · refine Lf_c64 (fun b2 => ?_)
    exact hk11 hx1 hx2 (RJ.mk (F_add hx3.1 (li64 1)) b2)
def g_X8_readyOf_11 (S : AM) : Nat → Int → Int → Int → Option (Int)
  | 0, _, _, _ => none
  | n + 1, x1, x2, x3 => g_X8_readyOf_11_b S (g_X8_readyOf_11 S n) x1 x2 x3
set_option maxRecDepth 10000 in
theorem lf_X8_readyOf_11 {S : Mem} {S' : AM} (hS : (RT tM) S S') (n : Nat) : ∀ {x1 : Int32} {x1' : Int}, RI x1 x1' → ∀ {x2 : Int32} {x2' : Int}, RI x2 x2' → ∀ {x3 : Int64} {x3' : Int}, RJ x3 x3' → Lf RJ (f_X8_readyOf_11 S n x1 x2 x3) (g_X8_readyOf_11 S' n x1' x2' x3') := by
  induction n with
  | zero => intros; exact Lf_none
  | succ n ih => intro x1 x1' hx1 x2 x2' hx2 x3 x3' hx3; exact lf_X8_readyOf_11_b hS ih hx1 hx2 hx3
def g_X8_readyOf (S : AM) (x1 : Int) (x2 : Int) : Option (Int) :=
  (g_X8_at x1 x2).bind fun v1 =>
  hA v1 512 <|
  g_X8_readyOf_11 S FU x1 x2 (S M_read (v1 : Int).toNat)
set_option maxRecDepth 10000 in
theorem lf_X8_readyOf {S : Mem} {S' : AM} (hS : (RT tM) S S') {x1 : Int32} {x1' : Int} (hx1 : RI x1 x1') {x2 : Int32} {x2' : Int} (hx2 : RI x2 x2') : Lf RJ (f_X8_readyOf S x1 x2) (g_X8_readyOf S' x1' x2') := by
  unfold f_X8_readyOf g_X8_readyOf
  refine Lf_gS (lf_X8_at hx1 hx2) (fun v1 v1' hv1 => ?_)
  refine Lf_hA hv1.1 (by decide) (fun b1 => ?_)
  exact lf_X8_readyOf_11 hS FU hx1 hx2 (RJ.at hS rfl (tnE hv1.1 b1 (by decide)) rfl)
def g_X8_receiving (S : AM) (x1 : Int) (x2 : Int) : Option (Int) :=
  (g_X8_at x1 x2).bind fun v1 =>
  hA v1 512 <|
  if (S M_wasReset (v1 : Int).toNat) = 0 then
    hA v1 512 <|
    if 0 ≤ (S M_size (v1 : Int).toNat) then
      hA v1 512 <|
      hA v1 512 <|
      if (S M_read (v1 : Int).toNat) ≠ (S M_size (v1 : Int).toNat) then
        (g_X8_readyOf S x1 x2).bind fun v2 =>
        hA v1 512 <|
        if v2 ≠ (S M_size (v1 : Int).toNat) then
          some (1)
        else
          some (2)
      else
        some (3)
    else
      some (0)
  else
    some (4)
set_option maxRecDepth 10000 in
theorem lf_X8_receiving {S : Mem} {S' : AM} (hS : (RT tM) S S') {x1 : Int32} {x1' : Int} (hx1 : RI x1 x1') {x2 : Int32} {x2' : Int} (hx2 : RI x2 x2') : Lf RI (f_X8_receiving S x1 x2) (g_X8_receiving S' x1' x2') := by
  unfold f_X8_receiving g_X8_receiving
  refine Lf_gS (lf_X8_at hx1 hx2) (fun v1 v1' hv1 => ?_)
  refine Lf_hA hv1.1 (by decide) (fun b1 => ?_)
  refine Lf_ite (C_eq (RI.at hS rfl (tnE hv1.1 b1 (by decide)) rfl) (RI.lit 0 (by decide))) (fun c2 => ?_) (fun c2 => ?_)
  · refine Lf_hA hv1.1 (by decide) (fun b3 => ?_)
    refine Lf_ite (D_le (RJ.lit 0 (by decide)) (RJ.at hS rfl (tnE hv1.1 b1 (by decide)) rfl)) (fun c4 => ?_) (fun c4 => ?_)
    · refine Lf_hA hv1.1 (by decide) (fun b5 => ?_)
      refine Lf_hA hv1.1 (by decide) (fun b6 => ?_)
      refine Lf_ite (D_ne (RJ.at hS rfl (tnE hv1.1 b1 (by decide)) rfl) (RJ.at hS rfl (tnE hv1.1 b1 (by decide)) rfl)) (fun c7 => ?_) (fun c7 => ?_)
      · refine Lf_bind (lf_X8_readyOf hS hx1 hx2) (fun v2 v2' hv2 => ?_)
        refine Lf_hA hv1.1 (by decide) (fun b8 => ?_)
        refine Lf_ite (D_ne hv2 (RJ.at hS rfl (tnE hv1.1 b1 (by decide)) rfl)) (fun c9 => ?_) (fun c9 => ?_)
        · exact Lf_some (RI.lit 1 (by decide))
        · exact Lf_some (RI.lit 2 (by decide))
      · exact Lf_some (RI.lit 3 (by decide))
    · exact Lf_some (RI.lit 0 (by decide))
  · exact Lf_some (RI.lit 4 (by decide))
def g_X8_stop_27 (S : AM) (x1 : Int) (x2 : Int) (x3 : Int) (y0 : Int) : Option (AM × Int) :=
  gB2 (g_X8_fails S y0 1) fun S1 v2 =>
  if v2 ≠ 0 then
    some (S1, 0)
  else
    (g_X8_hasReceiving S1 x1 x2).bind fun v3 =>
    if v3 = 0 then
      some (S1, 0)
    else
      (g_X8_receiving S1 x1 x2).bind fun v4 =>
      if 1 < v4 then
        some (S1, 0)
      else
        (g_X8_at x1 x2).bind fun v5 =>
        hA v5 512 <|
        if (S1 M_stopped (v5 : Int).toNat) = 0 then
          (g_X8_at x1 x2).bind fun v6 =>
          hA v6 512 <|
          gS (uA S1 M_stopped ((v6 : Int).toNat) 1) fun S7 =>
          (g_X8_at x1 x2).bind fun v8 =>
          hA v8 512 <|
          gS (uA S7 M_tellStop ((v8 : Int).toNat) 1) fun S9 =>
          (g_X8_at x1 x2).bind fun v10 =>
          hA v10 512 <|
          gS (uA S9 M_stopCode ((v10 : Int).toNat) x3) fun S11 =>
          some (S11, 1)
        else
          some (S1, 0)
set_option maxRecDepth 10000 in
theorem lf_X8_stop_27 {S : Mem} {S' : AM} (hS : (RT tM) S S') {x1 : Int32} {x1' : Int} (hx1 : RI x1 x1') {x2 : Int32} {x2' : Int} (hx2 : RI x2 x2') {x3 : Int64} {x3' : Int} (hx3 : RJ x3 x3') {y0 : Int32} {y0' : Int} (hy0 : RI y0 y0') : Lf (RP (RT tM) RI) (f_X8_stop_27 S x1 x2 x3 y0) (g_X8_stop_27 S' x1' x2' x3' y0') := by
  unfold f_X8_stop_27 g_X8_stop_27
  refine Lf_gB2 (lf_X8_fails hS hy0 (RI.lit 1 (by decide))) (fun S1 S1' hS1 v2 v2' hv2 => ?_)
  refine Lf_ite (C_ne hv2 (RI.lit 0 (by decide))) (fun c1 => ?_) (fun c1 => ?_)
  · exact Lf_some (RP.mk hS1 (RI.lit 0 (by decide)))
  · refine Lf_bind (lf_X8_hasReceiving hS1 hx1 hx2) (fun v3 v3' hv3 => ?_)
    refine Lf_ite (C_eq hv3 (RI.lit 0 (by decide))) (fun c2 => ?_) (fun c2 => ?_)
    · exact Lf_some (RP.mk hS1 (RI.lit 0 (by decide)))
    · refine Lf_bind (lf_X8_receiving hS1 hx1 hx2) (fun v4 v4' hv4 => ?_)
      refine Lf_ite (C_lt (RI.lit 1 (by decide)) hv4) (fun c3 => ?_) (fun c3 => ?_)
      · exact Lf_some (RP.mk hS1 (RI.lit 0 (by decide)))
      · refine Lf_gS (lf_X8_at hx1 hx2) (fun v5 v5' hv5 => ?_)
        refine Lf_hA hv5.1 (by decide) (fun b4 => ?_)
        refine Lf_ite (C_eq (RI.at hS1 rfl (tnE hv5.1 b4 (by decide)) rfl) (RI.lit 0 (by decide))) (fun c5 => ?_) (fun c5 => ?_)
        · refine Lf_gS (lf_X8_at hx1 hx2) (fun v6 v6' hv6 => ?_)
          refine Lf_hA hv6.1 (by decide) (fun b6 => ?_)
          refine Lf_st (RT.siq hS1 rfl (tnE hv6.1 b6 (by decide)) (RI.mk E_nz1 (RI.lit 1 (by decide)).2) rfl) (fun S7 S7' hS7 => ?_)
          refine Lf_gS (lf_X8_at hx1 hx2) (fun v8 v8' hv8 => ?_)
          refine Lf_hA hv8.1 (by decide) (fun b7 => ?_)
          refine Lf_st (RT.siq hS7 rfl (tnE hv8.1 b7 (by decide)) (RI.mk E_nz1 (RI.lit 1 (by decide)).2) rfl) (fun S9 S9' hS9 => ?_)
          refine Lf_gS (lf_X8_at hx1 hx2) (fun v10 v10' hv10 => ?_)
          refine Lf_hA hv10.1 (by decide) (fun b8 => ?_)
          refine Lf_st (RT.sjq hS9 rfl (tnE hv10.1 b8 (by decide)) hx3 rfl) (fun S11 S11' hS11 => ?_)
          exact Lf_some (RP.mk hS11 (RI.lit 1 (by decide)))
        · exact Lf_some (RP.mk hS1 (RI.lit 0 (by decide)))
def g_X8_stop_22 (S : AM) (x1 : Int) (x2 : Int) (x3 : Int) : Option (AM × Int) :=
  g_X8_stop_27 S x1 x2 x3 1
set_option maxRecDepth 10000 in
theorem lf_X8_stop_22 {S : Mem} {S' : AM} (hS : (RT tM) S S') {x1 : Int32} {x1' : Int} (hx1 : RI x1 x1') {x2 : Int32} {x2' : Int} (hx2 : RI x2 x2') {x3 : Int64} {x3' : Int} (hx3 : RJ x3 x3') : Lf (RP (RT tM) RI) (f_X8_stop_22 S x1 x2 x3) (g_X8_stop_22 S' x1' x2' x3') := by
  unfold f_X8_stop_22 g_X8_stop_22
  exact lf_X8_stop_27 hS hx1 hx2 hx3 (RI.lit 1 (by decide))
def g_X8_stop (S : AM) (x1 : Int) (x2 : Int) (x3 : Int) : Option (AM × Int) :=
  (g_X8_noSide x1).bind fun v1 =>
  if v1 ≠ 0 then
    g_X8_stop_22 S x1 x2 x3
  else
    if x3 < 0 then
      g_X8_stop_22 S x1 x2 x3
    else
      if x3 ≤ 4611686018427387903 then
        g_X8_stop_27 S x1 x2 x3 0
      else
        g_X8_stop_22 S x1 x2 x3
set_option maxRecDepth 10000 in
theorem lf_X8_stop {S : Mem} {S' : AM} (hS : (RT tM) S S') {x1 : Int32} {x1' : Int} (hx1 : RI x1 x1') {x2 : Int32} {x2' : Int} (hx2 : RI x2 x2') {x3 : Int64} {x3' : Int} (hx3 : RJ x3 x3') : Lf (RP (RT tM) RI) (f_X8_stop S x1 x2 x3) (g_X8_stop S' x1' x2' x3') := by
  unfold f_X8_stop g_X8_stop
  refine Lf_gS (lf_X8_noSide hx1) (fun v1 v1' hv1 => ?_)
  refine Lf_ite (C_ne hv1 (RI.lit 0 (by decide))) (fun c1 => ?_) (fun c1 => ?_)
  · exact lf_X8_stop_22 hS hx1 hx2 hx3
  · refine Lf_ite (D_lt hx3 (RJ.lit 0 (by decide))) (fun c2 => ?_) (fun c2 => ?_)
    · exact lf_X8_stop_22 hS hx1 hx2 hx3
    · refine Lf_ite (D_le hx3 (RJ.lit 4611686018427387903 (by decide))) (fun c3 => ?_) (fun c3 => ?_)
      · exact lf_X8_stop_27 hS hx1 hx2 hx3 (RI.lit 0 (by decide))
      · exact lf_X8_stop_22 hS hx1 hx2 hx3
def g_X8_byteAt (S : AM) (x1 : Int) (x2 : Int) (x3 : Int) : Option (Int) :=
  hA x3 9223372036854775808 <|
  c32 (x3 / 64) <|
  (g_X8_pieceAt S x1 x2 (x3 / 64)).bind fun v1 =>
  hA ((64 * v1) + (x3 - ((x3 / 64) * 64))) 180224 <|
  hY8 (S M_came (((64 * v1) + (x3 - ((x3 / 64) * 64))) : Int).toNat) <|
  some (S M_came (((64 * v1) + (x3 - ((x3 / 64) * 64))) : Int).toNat)
set_option maxRecDepth 10000 in
theorem lf_X8_byteAt {S : Mem} {S' : AM} (hS : (RT tM) S S') {x1 : Int32} {x1' : Int} (hx1 : RI x1 x1') {x2 : Int32} {x2' : Int} (hx2 : RI x2 x2') {x3 : Int64} {x3' : Int} (hx3 : RJ x3 x3') : Lf RI (f_X8_byteAt S x1 x2 x3) (g_X8_byteAt S' x1' x2' x3') := by
  unfold f_X8_byteAt g_X8_byteAt
  refine Lf_hD (fun b1 => ?_)
  refine Lf_c32 (fun b2 => ?_)
  refine Lf_bind (lf_X8_pieceAt hS hx1 hx2 (RI.mk (F_32 (F_div hx3.1 (li64 64) b1 (by decide) (by decide))) b2)) (fun v1 v1' hv1 => ?_)
  refine Lf_hA (E_add (E_mul (li32 64) hv1.1) (F_32 (F_sub hx3.1 (F_mul (F_div hx3.1 (li64 64) b1 (by decide) (by decide)) (li64 64))))) (by decide) (fun b3 => ?_)
  refine Lf_hY8 (RI.at hS rfl (tnE (E_add (E_mul (li32 64) hv1.1) (F_32 (F_sub hx3.1 (F_mul (F_div hx3.1 (li64 64) b1 (by decide) (by decide)) (li64 64))))) b3 (by decide)) rfl).1 ?_
  exact Lf_some (RI.at hS rfl (tnE (E_add (E_mul (li32 64) hv1.1) (F_32 (F_sub hx3.1 (F_mul (F_div hx3.1 (li64 64) b1 (by decide) (by decide)) (li64 64))))) b3 (by decide)) rfl)
def g_X8_consumed_53 (S : AM) (k5 : Int → Int → Int → Option (Int)) (x1 : Int) (x4 : Int) (y0 : Int) (y1 : Int) : Option (Int) :=
  c64 (y1 + y0) <|
  c32 (x4 + 1) <|
  k5 x1 (y1 + y0) (x4 + 1)
set_option maxRecDepth 10000 in
theorem lf_X8_consumed_53 {S : Mem} {S' : AM} (hS : (RT tM) S S') {k5 : Int32 → Int64 → Int32 → Option (Int64)} {k5' : Int → Int → Int → Option (Int)} (hk5 : ∀ {y0 : Int32} {y0' : Int}, RI y0 y0' → ∀ {y1 : Int64} {y1' : Int}, RJ y1 y1' → ∀ {y2 : Int32} {y2' : Int}, RI y2 y2' → Lf RJ (k5 y0 y1 y2) (k5' y0' y1' y2')) {x1 : Int32} {x1' : Int} (hx1 : RI x1 x1') {x4 : Int32} {x4' : Int} (hx4 : RI x4 x4') {y0 : Int64} {y0' : Int} (hy0 : RJ y0 y0') {y1 : Int64} {y1' : Int} (hy1 : RJ y1 y1') : Lf RJ (f_X8_consumed_53 S k5 x1 x4 y0 y1) (g_X8_consumed_53 S' k5' x1' x4' y0' y1') := by
  unfold f_X8_consumed_53 g_X8_consumed_53
  refine Lf_c64 (fun b1 => ?_)
  refine Lf_c32 (fun b2 => ?_)
  exact hk5 hx1 (RJ.mk (F_add hy1.1 hy0.1) b1) (RI.mk (E_add hx4.1 (li32 1)) b2)
def g_X8_consumed_5_b (S : AM) (k5 : Int → Int → Int → Option (Int)) (x1 : Int) (x2 : Int) (x4 : Int) : Option (Int) :=
  if 256 ≤ x4 then
    some (x2)
  else
    (g_X8_at x1 x4).bind fun v1 =>
    hA v1 512 <|
    if (S M_wasReset (v1 : Int).toNat) = 0 then
      (g_X8_at x1 x4).bind fun v2 =>
      hA v2 512 <|
      g_X8_consumed_53 S k5 x1 x4 (S M_read (v2 : Int).toNat) x2
    else
      (g_X8_at x1 x4).bind fun v3 =>
      hA v3 512 <|
      g_X8_consumed_53 S k5 x1 x4 (S M_size (v3 : Int).toNat) x2
set_option maxRecDepth 10000 in
theorem lf_X8_consumed_5_b {S : Mem} {S' : AM} (hS : (RT tM) S S') {k5 : Int32 → Int64 → Int32 → Option (Int64)} {k5' : Int → Int → Int → Option (Int)} (hk5 : ∀ {y0 : Int32} {y0' : Int}, RI y0 y0' → ∀ {y1 : Int64} {y1' : Int}, RJ y1 y1' → ∀ {y2 : Int32} {y2' : Int}, RI y2 y2' → Lf RJ (k5 y0 y1 y2) (k5' y0' y1' y2')) {x1 : Int32} {x1' : Int} (hx1 : RI x1 x1') {x2 : Int64} {x2' : Int} (hx2 : RJ x2 x2') {x4 : Int32} {x4' : Int} (hx4 : RI x4 x4') : Lf RJ (f_X8_consumed_5_b S k5 x1 x2 x4) (g_X8_consumed_5_b S' k5' x1' x2' x4') := by
  unfold f_X8_consumed_5_b g_X8_consumed_5_b
  refine Lf_ite (C_le (RI.lit 256 (by decide)) hx4) (fun c1 => ?_) (fun c1 => ?_)
  · exact Lf_some hx2
  · refine Lf_gS (lf_X8_at hx1 hx4) (fun v1 v1' hv1 => ?_)
    refine Lf_hA hv1.1 (by decide) (fun b2 => ?_)
    refine Lf_ite (C_eq (RI.at hS rfl (tnE hv1.1 b2 (by decide)) rfl) (RI.lit 0 (by decide))) (fun c3 => ?_) (fun c3 => ?_)
    · refine Lf_gS (lf_X8_at hx1 hx4) (fun v2 v2' hv2 => ?_)
      refine Lf_hA hv2.1 (by decide) (fun b4 => ?_)
      exact lf_X8_consumed_53 hS hk5 hx1 hx4 (RJ.at hS rfl (tnE hv2.1 b4 (by decide)) rfl) hx2
    · refine Lf_gS (lf_X8_at hx1 hx4) (fun v3 v3' hv3 => ?_)
      refine Lf_hA hv3.1 (by decide) (fun b5 => ?_)
      exact lf_X8_consumed_53 hS hk5 hx1 hx4 (RJ.at hS rfl (tnE hv3.1 b5 (by decide)) rfl) hx2
def g_X8_consumed_5 (S : AM) : Nat → Int → Int → Int → Option (Int)
  | 0, _, _, _ => none
  | n + 1, x1, x2, x4 => g_X8_consumed_5_b S (g_X8_consumed_5 S n) x1 x2 x4
set_option maxRecDepth 10000 in
theorem lf_X8_consumed_5 {S : Mem} {S' : AM} (hS : (RT tM) S S') (n : Nat) : ∀ {x1 : Int32} {x1' : Int}, RI x1 x1' → ∀ {x2 : Int64} {x2' : Int}, RJ x2 x2' → ∀ {x4 : Int32} {x4' : Int}, RI x4 x4' → Lf RJ (f_X8_consumed_5 S n x1 x2 x4) (g_X8_consumed_5 S' n x1' x2' x4') := by
  induction n with
  | zero => intros; exact Lf_none
  | succ n ih => intro x1 x1' hx1 x2 x2' hx2 x4 x4' hx4; exact lf_X8_consumed_5_b hS ih hx1 hx2 hx4
def g_X8_consumed (S : AM) (x1 : Int) : Option (Int) :=
  g_X8_consumed_5 S FU x1 0 0
set_option maxRecDepth 10000 in
theorem lf_X8_consumed {S : Mem} {S' : AM} (hS : (RT tM) S S') {x1 : Int32} {x1' : Int} (hx1 : RI x1 x1') : Lf RJ (f_X8_consumed S x1) (g_X8_consumed S' x1') := by
  unfold f_X8_consumed g_X8_consumed
  exact lf_X8_consumed_5 hS FU hx1 (RJ.lit 0 (by decide)) (RI.lit 0 (by decide))
def g_X8_grows (x0 : Int) (x2 : Int) (x4 : Int) : Option (Int) :=
  c64 (2 * (x0 - x2)) <|
  if (2 * (x0 - x2)) < x4 then
    some (0)
  else
    if x0 ≤ x2 then
      some (0)
    else
      some (1)
set_option maxRecDepth 10000 in
theorem lf_X8_grows {x0 : Int64} {x0' : Int} (hx0 : RJ x0 x0') {x2 : Int64} {x2' : Int} (hx2 : RJ x2 x2') {x4 : Int64} {x4' : Int} (hx4 : RJ x4 x4') : Lp RI (f_X8_grows x0 x2 x4) (g_X8_grows x0' x2' x4') := by
  unfold f_X8_grows g_X8_grows
  refine Lp_c64 (fun b1 => ?_)
  refine Lp_ite (D_lt (RJ.mk (F_mul (li64 2) (F_sub hx0.1 hx2.1)) b1) hx4) (fun c2 => ?_) (fun c2 => ?_)
  · exact Lp_val (RI.lit 0 (by decide))
  · refine Lp_ite (D_le hx0 hx2) (fun c3 => ?_) (fun c3 => ?_)
    · exact Lp_val (RI.lit 0 (by decide))
    · exact Lp_val (RI.lit 1 (by decide))
def g_X8_growData_55 (S : AM) (x1 : Int) (y0 : Int) : Option (AM) :=
  hA x1 2 <|
  if (S M_dataGrant (x1 : Int).toNat) < y0 then
    hA x1 2 <|
    gS (uA S M_dataGrant ((x1 : Int).toNat) y0) fun S1 =>
    hA x1 2 <|
    gS (uA S1 M_tellData ((x1 : Int).toNat) 1) fun S2 =>
    some (S2)
  else
    some (S)
set_option maxRecDepth 10000 in
theorem lf_X8_growData_55 {S : Mem} {S' : AM} (hS : (RT tM) S S') {x1 : Int32} {x1' : Int} (hx1 : RI x1 x1') {y0 : Int64} {y0' : Int} (hy0 : RJ y0 y0') : Lf (RT tM) (f_X8_growData_55 S x1 y0) (g_X8_growData_55 S' x1' y0') := by
  unfold f_X8_growData_55 g_X8_growData_55
  refine Lf_hA hx1.1 (by decide) (fun b1 => ?_)
  refine Lf_ite (D_lt (RJ.at hS rfl (tnE hx1.1 b1 (by decide)) rfl) hy0) (fun c2 => ?_) (fun c2 => ?_)
  · refine Lf_hA hx1.1 (by decide) (fun b3 => ?_)
    refine Lf_st (RT.sjq hS rfl (tnE hx1.1 b1 (by decide)) hy0 rfl) (fun S1 S1' hS1 => ?_)
    refine Lf_hA hx1.1 (by decide) (fun b4 => ?_)
    refine Lf_st (RT.siq hS1 rfl (tnE hx1.1 b1 (by decide)) (RI.mk E_nz1 (RI.lit 1 (by decide)).2) rfl) (fun S2 S2' hS2 => ?_)
    exact Lf_some hS2
  · exact Lf_some hS
def g_X8_growData (S : AM) (x1 : Int) : Option (AM) :=
  hA ((16 * x1) + 4) 32 <|
  (g_X8_consumed S x1).bind fun v1 =>
  hA x1 2 <|
  c64 (v1 + (S M_grants (((16 * x1) + 4) : Int).toNat)) <|
  (g_X8_grows (v1 + (S M_grants (((16 * x1) + 4) : Int).toNat)) (S M_dataGrant (x1 : Int).toNat) (S M_grants (((16 * x1) + 4) : Int).toNat)).bind fun v2 =>
  if v2 ≠ 0 then
    if 65536 ≤ (v1 + (S M_grants (((16 * x1) + 4) : Int).toNat)) then
      g_X8_growData_55 S x1 65536
    else
      g_X8_growData_55 S x1 (v1 + (S M_grants (((16 * x1) + 4) : Int).toNat))
  else
    some (S)
set_option maxRecDepth 10000 in
theorem lf_X8_growData {S : Mem} {S' : AM} (hS : (RT tM) S S') {x1 : Int32} {x1' : Int} (hx1 : RI x1 x1') : Lf (RT tM) (f_X8_growData S x1) (g_X8_growData S' x1') := by
  unfold f_X8_growData g_X8_growData
  refine Lf_hA (E_add (E_mul (li32 16) hx1.1) (li32 4)) (by decide) (fun b1 => ?_)
  refine Lf_bind (lf_X8_consumed hS hx1) (fun v1 v1' hv1 => ?_)
  refine Lf_hA hx1.1 (by decide) (fun b2 => ?_)
  refine Lf_c64 (fun b3 => ?_)
  refine Lf_gS (lf_X8_grows (RJ.mk (F_add hv1.1 (E_64 (RI.at hS rfl (tnE (E_add (E_mul (li32 16) hx1.1) (li32 4)) b1 (by decide)) rfl))) b3) (RJ.at hS rfl (tnE hx1.1 b2 (by decide)) rfl) (RJ.mk (E_64 (RI.at hS rfl (tnE (E_add (E_mul (li32 16) hx1.1) (li32 4)) b1 (by decide)) rfl)) (R_64 (RI.at hS rfl (tnE (E_add (E_mul (li32 16) hx1.1) (li32 4)) b1 (by decide)) rfl).2))) (fun v2 v2' hv2 => ?_)
  refine Lf_ite (C_ne hv2 (RI.lit 0 (by decide))) (fun c4 => ?_) (fun c4 => ?_)
  · refine Lf_ite (D_le (RJ.lit 65536 (by decide)) (RJ.mk (F_add hv1.1 (E_64 (RI.at hS rfl (tnE (E_add (E_mul (li32 16) hx1.1) (li32 4)) b1 (by decide)) rfl))) b3)) (fun c5 => ?_) (fun c5 => ?_)
    · exact lf_X8_growData_55 hS hx1 (RJ.lit 65536 (by decide))
    · exact lf_X8_growData_55 hS hx1 (RJ.mk (F_add hv1.1 (E_64 (RI.at hS rfl (tnE (E_add (E_mul (li32 16) hx1.1) (li32 4)) b1 (by decide)) rfl))) b3)
  · exact Lf_some hS
def g_X8_growStream_60 (S : AM) (x3 : Int) (y0 : Int) : Option (AM) :=
  hA x3 512 <|
  if (S M_grant (x3 : Int).toNat) < y0 then
    hA x3 512 <|
    gS (uA S M_grant ((x3 : Int).toNat) y0) fun S1 =>
    hA x3 512 <|
    gS (uA S1 M_tellGrant ((x3 : Int).toNat) 1) fun S2 =>
    some (S2)
  else
    some (S)
set_option maxRecDepth 10000 in
theorem lf_X8_growStream_60 {S : Mem} {S' : AM} (hS : (RT tM) S S') {x3 : Int32} {x3' : Int} (hx3 : RI x3 x3') {y0 : Int64} {y0' : Int} (hy0 : RJ y0 y0') : Lf (RT tM) (f_X8_growStream_60 S x3 y0) (g_X8_growStream_60 S' x3' y0') := by
  unfold f_X8_growStream_60 g_X8_growStream_60
  refine Lf_hA hx3.1 (by decide) (fun b1 => ?_)
  refine Lf_ite (D_lt (RJ.at hS rfl (tnE hx3.1 b1 (by decide)) rfl) hy0) (fun c2 => ?_) (fun c2 => ?_)
  · refine Lf_hA hx3.1 (by decide) (fun b3 => ?_)
    refine Lf_st (RT.sjq hS rfl (tnE hx3.1 b1 (by decide)) hy0 rfl) (fun S1 S1' hS1 => ?_)
    refine Lf_hA hx3.1 (by decide) (fun b4 => ?_)
    refine Lf_st (RT.siq hS1 rfl (tnE hx3.1 b1 (by decide)) (RI.mk E_nz1 (RI.lit 1 (by decide)).2) rfl) (fun S2 S2' hS2 => ?_)
    exact Lf_some hS2
  · exact Lf_some hS
def g_X8_growStream (S : AM) (x1 : Int) (x2 : Int) : Option (AM) :=
  (g_X8_at x1 x2).bind fun v1 =>
  (g_X8_grantOf S x1 x2).bind fun v2 =>
  hA v1 512 <|
  hA v1 512 <|
  c64 ((S M_read (v1 : Int).toNat) + v2) <|
  (g_X8_grows ((S M_read (v1 : Int).toNat) + v2) (S M_grant (v1 : Int).toNat) v2).bind fun v3 =>
  if v3 ≠ 0 then
    if 65536 ≤ ((S M_read (v1 : Int).toNat) + v2) then
      g_X8_growStream_60 S v1 65536
    else
      g_X8_growStream_60 S v1 ((S M_read (v1 : Int).toNat) + v2)
  else
    some (S)
set_option maxRecDepth 10000 in
theorem lf_X8_growStream {S : Mem} {S' : AM} (hS : (RT tM) S S') {x1 : Int32} {x1' : Int} (hx1 : RI x1 x1') {x2 : Int32} {x2' : Int} (hx2 : RI x2 x2') : Lf (RT tM) (f_X8_growStream S x1 x2) (g_X8_growStream S' x1' x2') := by
  unfold f_X8_growStream g_X8_growStream
  refine Lf_gS (lf_X8_at hx1 hx2) (fun v1 v1' hv1 => ?_)
  refine Lf_bind (lf_X8_grantOf hS hx1 hx2) (fun v2 v2' hv2 => ?_)
  refine Lf_hA hv1.1 (by decide) (fun b1 => ?_)
  refine Lf_hA hv1.1 (by decide) (fun b2 => ?_)
  refine Lf_c64 (fun b3 => ?_)
  refine Lf_gS (lf_X8_grows (RJ.mk (F_add (RJ.at hS rfl (tnE hv1.1 b1 (by decide)) rfl).1 (E_64 hv2)) b3) (RJ.at hS rfl (tnE hv1.1 b1 (by decide)) rfl) (RJ.mk (E_64 hv2) (R_64 hv2.2))) (fun v3 v3' hv3 => ?_)
  refine Lf_ite (C_ne hv3 (RI.lit 0 (by decide))) (fun c4 => ?_) (fun c4 => ?_)
  · refine Lf_ite (D_le (RJ.lit 65536 (by decide)) (RJ.mk (F_add (RJ.at hS rfl (tnE hv1.1 b1 (by decide)) rfl).1 (E_64 hv2)) b3)) (fun c5 => ?_) (fun c5 => ?_)
    · exact lf_X8_growStream_60 hS hv1 (RJ.lit 65536 (by decide))
    · exact lf_X8_growStream_60 hS hv1 (RJ.mk (F_add (RJ.at hS rfl (tnE hv1.1 b1 (by decide)) rfl).1 (E_64 hv2)) b3)
  · exact Lf_some hS
def g_X8_looksOver_94 (S : AM) (x1 : Int) (x2 : Int) (x3 : Int) (x4 : Int) (y0 : Int) : Option (AM) :=
  if x4 = 0 then
    some (S)
  else
    if y0 ≠ 0 then
      hA x3 512 <|
      gS (uA S M_over ((x3 : Int).toNat) 1) fun S1 =>
      (g_X8_wayOf x2).bind fun v2 =>
      hA ((2 * x1) + v2) 4 <|
      if (S1 M_granted (((2 * x1) + v2) : Int).toNat) ≠ 64 then
        hA ((2 * x1) + v2) 4 <|
        hA ((2 * x1) + v2) 4 <|
        c32 ((S1 M_granted (((2 * x1) + v2) : Int).toNat) + 1) <|
        gS (uA S1 M_granted ((((2 * x1) + v2) : Int).toNat) ((S1 M_granted (((2 * x1) + v2) : Int).toNat) + 1)) fun S3 =>
        hA ((2 * x1) + v2) 4 <|
        gS (uA S3 M_tellStreams ((((2 * x1) + v2) : Int).toNat) 1) fun S4 =>
        some (S4)
      else
        some (S1)
    else
      some (S)
set_option maxRecDepth 10000 in
theorem lf_X8_looksOver_94 {S : Mem} {S' : AM} (hS : (RT tM) S S') {x1 : Int32} {x1' : Int} (hx1 : RI x1 x1') {x2 : Int32} {x2' : Int} (hx2 : RI x2 x2') {x3 : Int32} {x3' : Int} (hx3 : RI x3 x3') {x4 : Int32} {x4' : Int} (hx4 : RI x4 x4') {y0 : Int32} {y0' : Int} (hy0 : RI y0 y0') : Lf (RT tM) (f_X8_looksOver_94 S x1 x2 x3 x4 y0) (g_X8_looksOver_94 S' x1' x2' x3' x4' y0') := by
  unfold f_X8_looksOver_94 g_X8_looksOver_94
  refine Lf_ite (C_eq hx4 (RI.lit 0 (by decide))) (fun c1 => ?_) (fun c1 => ?_)
  · exact Lf_some hS
  · refine Lf_ite (C_ne hy0 (RI.lit 0 (by decide))) (fun c2 => ?_) (fun c2 => ?_)
    · refine Lf_hA hx3.1 (by decide) (fun b3 => ?_)
      refine Lf_st (RT.siq hS rfl (tnE hx3.1 b3 (by decide)) (RI.mk E_nz1 (RI.lit 1 (by decide)).2) rfl) (fun S1 S1' hS1 => ?_)
      refine Lf_gS (lf_X8_wayOf (RJ.mk (E_64 hx2) (R_64 hx2.2))) (fun v2 v2' hv2 => ?_)
      refine Lf_hA (E_add (E_mul (li32 2) hx1.1) hv2.1) (by decide) (fun b4 => ?_)
      refine Lf_ite (C_ne (RI.at hS1 rfl (tnE (E_add (E_mul (li32 2) hx1.1) hv2.1) b4 (by decide)) rfl) (RI.lit 64 (by decide))) (fun c5 => ?_) (fun c5 => ?_)
      · refine Lf_hA (E_add (E_mul (li32 2) hx1.1) hv2.1) (by decide) (fun b6 => ?_)
        refine Lf_hA (E_add (E_mul (li32 2) hx1.1) hv2.1) (by decide) (fun b7 => ?_)
        refine Lf_c32 (fun b8 => ?_)
        refine Lf_st (RT.siq hS1 rfl (tnE (E_add (E_mul (li32 2) hx1.1) hv2.1) b4 (by decide)) (RI.mk (E_add (RI.at hS1 rfl (tnE (E_add (E_mul (li32 2) hx1.1) hv2.1) b4 (by decide)) rfl).1 (li32 1)) b8) rfl) (fun S3 S3' hS3 => ?_)
        refine Lf_hA (E_add (E_mul (li32 2) hx1.1) hv2.1) (by decide) (fun b9 => ?_)
        refine Lf_st (RT.siq hS3 rfl (tnE (E_add (E_mul (li32 2) hx1.1) hv2.1) b4 (by decide)) (RI.mk E_nz1 (RI.lit 1 (by decide)).2) rfl) (fun S4 S4' hS4 => ?_)
        exact Lf_some hS4
      · exact Lf_some hS1
    · exact Lf_some hS
def g_X8_looksOver_89 (S : AM) (x1 : Int) (x2 : Int) (x3 : Int) (x4 : Int) : Option (AM) :=
  g_X8_looksOver_94 S x1 x2 x3 x4 1
set_option maxRecDepth 10000 in
theorem lf_X8_looksOver_89 {S : Mem} {S' : AM} (hS : (RT tM) S S') {x1 : Int32} {x1' : Int} (hx1 : RI x1 x1') {x2 : Int32} {x2' : Int} (hx2 : RI x2 x2') {x3 : Int32} {x3' : Int} (hx3 : RI x3 x3') {x4 : Int32} {x4' : Int} (hx4 : RI x4 x4') : Lf (RT tM) (f_X8_looksOver_89 S x1 x2 x3 x4) (g_X8_looksOver_89 S' x1' x2' x3' x4') := by
  unfold f_X8_looksOver_89 g_X8_looksOver_89
  exact lf_X8_looksOver_94 hS hx1 hx2 hx3 hx4 (RI.lit 1 (by decide))
def g_X8_looksOver_58 (S : AM) (x1 : Int) (x2 : Int) (x3 : Int) (y0 : Int) : Option (AM) :=
  (g_X8_sends x1 x2).bind fun v1 =>
  if v1 = 0 then
    g_X8_looksOver_89 S x1 x2 x3 y0
  else
    (g_X8_sending S x1 x2).bind fun v2 =>
    if v2 = 2 then
      g_X8_looksOver_89 S x1 x2 x3 y0
    else
      (g_X8_sending S x1 x2).bind fun v3 =>
      if v3 ≠ 4 then
        g_X8_looksOver_94 S x1 x2 x3 y0 0
      else
        g_X8_looksOver_89 S x1 x2 x3 y0
set_option maxRecDepth 10000 in
theorem lf_X8_looksOver_58 {S : Mem} {S' : AM} (hS : (RT tM) S S') {x1 : Int32} {x1' : Int} (hx1 : RI x1 x1') {x2 : Int32} {x2' : Int} (hx2 : RI x2 x2') {x3 : Int32} {x3' : Int} (hx3 : RI x3 x3') {y0 : Int32} {y0' : Int} (hy0 : RI y0 y0') : Lf (RT tM) (f_X8_looksOver_58 S x1 x2 x3 y0) (g_X8_looksOver_58 S' x1' x2' x3' y0') := by
  unfold f_X8_looksOver_58 g_X8_looksOver_58
  refine Lf_gS (lf_X8_sends hx1 (RJ.mk (E_64 hx2) (R_64 hx2.2))) (fun v1 v1' hv1 => ?_)
  refine Lf_ite (C_eq hv1 (RI.lit 0 (by decide))) (fun c1 => ?_) (fun c1 => ?_)
  · exact lf_X8_looksOver_89 hS hx1 hx2 hx3 hy0
  · refine Lf_bind (lf_X8_sending hS hx1 hx2) (fun v2 v2' hv2 => ?_)
    refine Lf_ite (C_eq hv2 (RI.lit 2 (by decide))) (fun c2 => ?_) (fun c2 => ?_)
    · exact lf_X8_looksOver_89 hS hx1 hx2 hx3 hy0
    · refine Lf_bind (lf_X8_sending hS hx1 hx2) (fun v3 v3' hv3 => ?_)
      refine Lf_ite (C_ne hv3 (RI.lit 4 (by decide))) (fun c3 => ?_) (fun c3 => ?_)
      · exact lf_X8_looksOver_94 hS hx1 hx2 hx3 hy0 (RI.lit 0 (by decide))
      · exact lf_X8_looksOver_89 hS hx1 hx2 hx3 hy0
def g_X8_looksOver_53 (S : AM) (x1 : Int) (x2 : Int) (x3 : Int) : Option (AM) :=
  g_X8_looksOver_58 S x1 x2 x3 1
set_option maxRecDepth 10000 in
theorem lf_X8_looksOver_53 {S : Mem} {S' : AM} (hS : (RT tM) S S') {x1 : Int32} {x1' : Int} (hx1 : RI x1 x1') {x2 : Int32} {x2' : Int} (hx2 : RI x2 x2') {x3 : Int32} {x3' : Int} (hx3 : RI x3 x3') : Lf (RT tM) (f_X8_looksOver_53 S x1 x2 x3) (g_X8_looksOver_53 S' x1' x2' x3') := by
  unfold f_X8_looksOver_53 g_X8_looksOver_53
  exact lf_X8_looksOver_58 hS hx1 hx2 hx3 (RI.lit 1 (by decide))
def g_X8_looksOver (S : AM) (x1 : Int) (x2 : Int) : Option (AM) :=
  (g_X8_at x1 x2).bind fun v1 =>
  (g_X8_opens x1 x2).bind fun v2 =>
  if v2 ≠ 0 then
    some (S)
  else
    hA v1 512 <|
    if (S M_over (v1 : Int).toNat) ≠ 0 then
      some (S)
    else
      hA v1 512 <|
      if (S M_there (v1 : Int).toNat) ≠ 0 then
        (g_X8_receives x1 x2).bind fun v3 =>
        if v3 = 0 then
          g_X8_looksOver_53 S x1 x2 v1
        else
          (g_X8_receiving S x1 x2).bind fun v4 =>
          if v4 ≤ 2 then
            g_X8_looksOver_58 S x1 x2 v1 0
          else
            g_X8_looksOver_53 S x1 x2 v1
      else
        some (S)
set_option maxRecDepth 10000 in
theorem lf_X8_looksOver {S : Mem} {S' : AM} (hS : (RT tM) S S') {x1 : Int32} {x1' : Int} (hx1 : RI x1 x1') {x2 : Int32} {x2' : Int} (hx2 : RI x2 x2') : Lf (RT tM) (f_X8_looksOver S x1 x2) (g_X8_looksOver S' x1' x2') := by
  unfold f_X8_looksOver g_X8_looksOver
  refine Lf_gS (lf_X8_at hx1 hx2) (fun v1 v1' hv1 => ?_)
  refine Lf_gS (lf_X8_opens hx1 (RJ.mk (E_64 hx2) (R_64 hx2.2))) (fun v2 v2' hv2 => ?_)
  refine Lf_ite (C_ne hv2 (RI.lit 0 (by decide))) (fun c1 => ?_) (fun c1 => ?_)
  · exact Lf_some hS
  · refine Lf_hA hv1.1 (by decide) (fun b2 => ?_)
    refine Lf_ite (C_ne (RI.at hS rfl (tnE hv1.1 b2 (by decide)) rfl) (RI.lit 0 (by decide))) (fun c3 => ?_) (fun c3 => ?_)
    · exact Lf_some hS
    · refine Lf_hA hv1.1 (by decide) (fun b4 => ?_)
      refine Lf_ite (C_ne (RI.at hS rfl (tnE hv1.1 b2 (by decide)) rfl) (RI.lit 0 (by decide))) (fun c5 => ?_) (fun c5 => ?_)
      · refine Lf_gS (lf_X8_receives hx1 (RJ.mk (E_64 hx2) (R_64 hx2.2))) (fun v3 v3' hv3 => ?_)
        refine Lf_ite (C_eq hv3 (RI.lit 0 (by decide))) (fun c6 => ?_) (fun c6 => ?_)
        · exact lf_X8_looksOver_53 hS hx1 hx2 hv1
        · refine Lf_bind (lf_X8_receiving hS hx1 hx2) (fun v4 v4' hv4 => ?_)
          refine Lf_ite (C_le hv4 (RI.lit 2 (by decide))) (fun c7 => ?_) (fun c7 => ?_)
          · exact lf_X8_looksOver_58 hS hx1 hx2 hv1 (RI.lit 0 (by decide))
          · exact lf_X8_looksOver_53 hS hx1 hx2 hv1
      · exact Lf_some hS
def g_X8_read_175 (S : AM) (x1 : Int) (x2 : Int) : Option (AM × Int) :=
  (g_X8_looksOver S x1 x2).bind fun S1 =>
  some (S1, (S1 M_o 5))
set_option maxRecDepth 10000 in
theorem lf_X8_read_175 {S : Mem} {S' : AM} (hS : (RT tM) S S') {x1 : Int32} {x1' : Int} (hx1 : RI x1 x1') {x2 : Int32} {x2' : Int} (hx2 : RI x2 x2') : Lf (RP (RT tM) RI) (f_X8_read_175 S x1 x2) (g_X8_read_175 S' x1' x2') := by
  unfold f_X8_read_175 g_X8_read_175
  refine Lf_bind (lf_X8_looksOver hS hx1 hx2) (fun S1 S1' hS1 => ?_)
  exact Lf_some (RP.mk hS1 (RI.at hS1 rfl rfl rfl))
def g_X8_read_148 (S : AM) (x1 : Int) (x2 : Int) : Option (AM × Int) :=
  if (S M_o 5) ≤ 0 then
    g_X8_read_175 S x1 x2
  else
    (g_X8_growData S x1).bind fun S1 =>
    (g_X8_receiving S1 x1 x2).bind fun v2 =>
    if v2 ≠ 0 then
      g_X8_read_175 S1 x1 x2
    else
      (g_X8_growStream S1 x1 x2).bind fun S3 =>
      g_X8_read_175 S3 x1 x2
set_option maxRecDepth 10000 in
theorem lf_X8_read_148 {S : Mem} {S' : AM} (hS : (RT tM) S S') {x1 : Int32} {x1' : Int} (hx1 : RI x1 x1') {x2 : Int32} {x2' : Int} (hx2 : RI x2 x2') : Lf (RP (RT tM) RI) (f_X8_read_148 S x1 x2) (g_X8_read_148 S' x1' x2') := by
  unfold f_X8_read_148 g_X8_read_148
  refine Lf_ite (C_le (RI.at hS rfl rfl rfl) (RI.lit 0 (by decide))) (fun c1 => ?_) (fun c1 => ?_)
  · exact lf_X8_read_175 hS hx1 hx2
  · refine Lf_bind (lf_X8_growData hS hx1) (fun S1 S1' hS1 => ?_)
    refine Lf_bind (lf_X8_receiving hS1 hx1 hx2) (fun v2 v2' hv2 => ?_)
    refine Lf_ite (C_ne hv2 (RI.lit 0 (by decide))) (fun c2 => ?_) (fun c2 => ?_)
    · exact lf_X8_read_175 hS1 hx1 hx2
    · refine Lf_bind (lf_X8_growStream hS1 hx1 hx2) (fun S3 S3' hS3 => ?_)
      exact lf_X8_read_175 hS3 hx1 hx2
def g_X8_read_77_b (k77 : AM → Int → Int → Int → Int → Int → Option (AM × Int)) (S : AM) (x1 : Int) (x2 : Int) (x3 : Int) (x4 : Int) (x5 : Int) : Option (AM × Int) :=
  if x3 ≤ (S M_o 5) then
    g_X8_read_148 S x1 x2
  else
    hA x4 512 <|
    if x5 ≤ (S M_read (x4 : Int).toNat) then
      g_X8_read_148 S x1 x2
    else
      hA x4 512 <|
      (g_X8_byteAt S x1 x2 (S M_read (x4 : Int).toNat)).bind fun v1 =>
      hA (S M_o 5) 2048 <|
      c32 (v1 % 256) <|
      gS (uA S M_out (((S M_o 5) : Int).toNat) (v1 % 256)) fun S2 =>
      c32 ((S2 M_o 5) + 1) <|
      gS (uA S2 M_o 5 ((S2 M_o 5) + 1)) fun S3 =>
      hA x4 512 <|
      hA x4 512 <|
      c64 ((S3 M_read (x4 : Int).toNat) + 1) <|
      gS (uA S3 M_read ((x4 : Int).toNat) ((S3 M_read (x4 : Int).toNat) + 1)) fun S4 =>
      k77 S4 x1 x2 x3 x4 x5
set_option maxRecDepth 10000 in
theorem lf_X8_read_77_b {k77 : Mem → Int32 → Int32 → Int32 → Int32 → Int64 → Option (Mem × Int32)} {k77' : AM → Int → Int → Int → Int → Int → Option (AM × Int)} (hk77 : ∀ {y0 : Mem} {y0' : AM}, (RT tM) y0 y0' → ∀ {y1 : Int32} {y1' : Int}, RI y1 y1' → ∀ {y2 : Int32} {y2' : Int}, RI y2 y2' → ∀ {y3 : Int32} {y3' : Int}, RI y3 y3' → ∀ {y4 : Int32} {y4' : Int}, RI y4 y4' → ∀ {y5 : Int64} {y5' : Int}, RJ y5 y5' → Lf (RP (RT tM) RI) (k77 y0 y1 y2 y3 y4 y5) (k77' y0' y1' y2' y3' y4' y5')) {S : Mem} {S' : AM} (hS : (RT tM) S S') {x1 : Int32} {x1' : Int} (hx1 : RI x1 x1') {x2 : Int32} {x2' : Int} (hx2 : RI x2 x2') {x3 : Int32} {x3' : Int} (hx3 : RI x3 x3') {x4 : Int32} {x4' : Int} (hx4 : RI x4 x4') {x5 : Int64} {x5' : Int} (hx5 : RJ x5 x5') : Lf (RP (RT tM) RI) (f_X8_read_77_b k77 S x1 x2 x3 x4 x5) (g_X8_read_77_b k77' S' x1' x2' x3' x4' x5') := by
  unfold f_X8_read_77_b g_X8_read_77_b
  refine Lf_ite (C_le hx3 (RI.at hS rfl rfl rfl)) (fun c1 => ?_) (fun c1 => ?_)
  · exact lf_X8_read_148 hS hx1 hx2
  · refine Lf_hA hx4.1 (by decide) (fun b2 => ?_)
    refine Lf_ite (D_le hx5 (RJ.at hS rfl (tnE hx4.1 b2 (by decide)) rfl)) (fun c3 => ?_) (fun c3 => ?_)
    · exact lf_X8_read_148 hS hx1 hx2
    · refine Lf_hA hx4.1 (by decide) (fun b4 => ?_)
      refine Lf_bind (lf_X8_byteAt hS hx1 hx2 (RJ.at hS rfl (tnE hx4.1 b2 (by decide)) rfl)) (fun v1 v1' hv1 => ?_)
      refine Lf_hA (RI.at hS rfl rfl rfl).1 (by decide) (fun b5 => ?_)
      refine Lf_c32 (fun b6 => ?_)
      refine Lf_st (RT.siq hS rfl (tnE (RI.at hS rfl rfl rfl).1 b5 (by decide)) (RI.mk (E_255 hv1.1) b6) rfl) (fun S2 S2' hS2 => ?_)
      refine Lf_c32 (fun b7 => ?_)
      refine Lf_st (RT.siq hS2 rfl rfl (RI.mk (E_add (RI.at hS2 rfl rfl rfl).1 (li32 1)) b7) rfl) (fun S3 S3' hS3 => ?_)
      refine Lf_hA hx4.1 (by decide) (fun b8 => ?_)
      refine Lf_hA hx4.1 (by decide) (fun b9 => ?_)
      refine Lf_c64 (fun b10 => ?_)
      refine Lf_st (RT.sjq hS3 rfl (tnE hx4.1 b2 (by decide)) (RJ.mk (F_add (RJ.at hS3 rfl (tnE hx4.1 b2 (by decide)) rfl).1 (li64 1)) b10) rfl) (fun S4 S4' hS4 => ?_)
      exact hk77 hS4 hx1 hx2 hx3 hx4 hx5
def g_X8_read_77 : Nat → AM → Int → Int → Int → Int → Int → Option (AM × Int)
  | 0, _, _, _, _, _, _ => none
  | n + 1, S, x1, x2, x3, x4, x5 => g_X8_read_77_b (g_X8_read_77 n) S x1 x2 x3 x4 x5
set_option maxRecDepth 10000 in
theorem lf_X8_read_77 (n : Nat) : ∀ {S : Mem} {S' : AM}, (RT tM) S S' → ∀ {x1 : Int32} {x1' : Int}, RI x1 x1' → ∀ {x2 : Int32} {x2' : Int}, RI x2 x2' → ∀ {x3 : Int32} {x3' : Int}, RI x3 x3' → ∀ {x4 : Int32} {x4' : Int}, RI x4 x4' → ∀ {x5 : Int64} {x5' : Int}, RJ x5 x5' → Lf (RP (RT tM) RI) (f_X8_read_77 n S x1 x2 x3 x4 x5) (g_X8_read_77 n S' x1' x2' x3' x4' x5') := by
  induction n with
  | zero => intros; exact Lf_none
  | succ n ih => intro S S' hS x1 x1' hx1 x2 x2' hx2 x3 x3' hx3 x4 x4' hx4 x5 x5' hx5; exact lf_X8_read_77_b ih hS hx1 hx2 hx3 hx4 hx5
def g_X8_read_24 (S : AM) (x1 : Int) (x2 : Int) (x3 : Int) (y0 : Int) : Option (AM × Int) :=
  gB2 (g_X8_fails S y0 1) fun S1 v2 =>
  if v2 = 0 then
    gS (uA S1 M_o 5 0) fun S3 =>
    (g_X8_hasReceiving S3 x1 x2).bind fun v4 =>
    if v4 ≠ 0 then
      (g_X8_at x1 x2).bind fun v5 =>
      hA v5 512 <|
      if (S3 M_wasReset (v5 : Int).toNat) = 0 then
        (g_X8_readyOf S3 x1 x2).bind fun v6 =>
        g_X8_read_77 FU S3 x1 x2 x3 v5 v6
      else
        some (S3, (-2))
    else
      some (S3, (-1))
  else
    some (S1, 0)
set_option maxRecDepth 10000 in
theorem lf_X8_read_24 {S : Mem} {S' : AM} (hS : (RT tM) S S') {x1 : Int32} {x1' : Int} (hx1 : RI x1 x1') {x2 : Int32} {x2' : Int} (hx2 : RI x2 x2') {x3 : Int32} {x3' : Int} (hx3 : RI x3 x3') {y0 : Int32} {y0' : Int} (hy0 : RI y0 y0') : Lf (RP (RT tM) RI) (f_X8_read_24 S x1 x2 x3 y0) (g_X8_read_24 S' x1' x2' x3' y0') := by
  unfold f_X8_read_24 g_X8_read_24
  refine Lf_gB2 (lf_X8_fails hS hy0 (RI.lit 1 (by decide))) (fun S1 S1' hS1 v2 v2' hv2 => ?_)
  refine Lf_ite (C_eq hv2 (RI.lit 0 (by decide))) (fun c1 => ?_) (fun c1 => ?_)
  · refine Lf_st (RT.siq hS1 rfl rfl (RI.lit 0 (by decide)) rfl) (fun S3 S3' hS3 => ?_)
    refine Lf_bind (lf_X8_hasReceiving hS3 hx1 hx2) (fun v4 v4' hv4 => ?_)
    refine Lf_ite (C_ne hv4 (RI.lit 0 (by decide))) (fun c2 => ?_) (fun c2 => ?_)
    · refine Lf_gS (lf_X8_at hx1 hx2) (fun v5 v5' hv5 => ?_)
      refine Lf_hA hv5.1 (by decide) (fun b3 => ?_)
      refine Lf_ite (C_eq (RI.at hS3 rfl (tnE hv5.1 b3 (by decide)) rfl) (RI.lit 0 (by decide))) (fun c4 => ?_) (fun c4 => ?_)
      · refine Lf_bind (lf_X8_readyOf hS3 hx1 hx2) (fun v6 v6' hv6 => ?_)
        exact lf_X8_read_77 FU hS3 hx1 hx2 hx3 hv5 hv6
      · exact Lf_some (RP.mk hS3 RI.m2)
    · exact Lf_some (RP.mk hS3 RI.m1)
  · exact Lf_some (RP.mk hS1 (RI.lit 0 (by decide)))
def g_X8_read_19 (S : AM) (x1 : Int) (x2 : Int) (x3 : Int) : Option (AM × Int) :=
  g_X8_read_24 S x1 x2 x3 1
set_option maxRecDepth 10000 in
theorem lf_X8_read_19 {S : Mem} {S' : AM} (hS : (RT tM) S S') {x1 : Int32} {x1' : Int} (hx1 : RI x1 x1') {x2 : Int32} {x2' : Int} (hx2 : RI x2 x2') {x3 : Int32} {x3' : Int} (hx3 : RI x3 x3') : Lf (RP (RT tM) RI) (f_X8_read_19 S x1 x2 x3) (g_X8_read_19 S' x1' x2' x3') := by
  unfold f_X8_read_19 g_X8_read_19
  exact lf_X8_read_24 hS hx1 hx2 hx3 (RI.lit 1 (by decide))
def g_X8_read (S : AM) (x1 : Int) (x2 : Int) (x3 : Int) : Option (AM × Int) :=
  (g_X8_noSide x1).bind fun v1 =>
  if v1 ≠ 0 then
    g_X8_read_19 S x1 x2 x3
  else
    if x3 < 0 then
      g_X8_read_19 S x1 x2 x3
    else
      if x3 ≤ 2048 then
        g_X8_read_24 S x1 x2 x3 0
      else
        g_X8_read_19 S x1 x2 x3
set_option maxRecDepth 10000 in
theorem lf_X8_read {S : Mem} {S' : AM} (hS : (RT tM) S S') {x1 : Int32} {x1' : Int} (hx1 : RI x1 x1') {x2 : Int32} {x2' : Int} (hx2 : RI x2 x2') {x3 : Int32} {x3' : Int} (hx3 : RI x3 x3') : Lf (RP (RT tM) RI) (f_X8_read S x1 x2 x3) (g_X8_read S' x1' x2' x3') := by
  unfold f_X8_read g_X8_read
  refine Lf_gS (lf_X8_noSide hx1) (fun v1 v1' hv1 => ?_)
  refine Lf_ite (C_ne hv1 (RI.lit 0 (by decide))) (fun c1 => ?_) (fun c1 => ?_)
  · exact lf_X8_read_19 hS hx1 hx2 hx3
  · refine Lf_ite (C_lt hx3 (RI.lit 0 (by decide))) (fun c2 => ?_) (fun c2 => ?_)
    · exact lf_X8_read_19 hS hx1 hx2 hx3
    · refine Lf_ite (C_le hx3 (RI.lit 2048 (by decide))) (fun c3 => ?_) (fun c3 => ?_)
      · exact lf_X8_read_24 hS hx1 hx2 hx3 (RI.lit 0 (by decide))
      · exact lf_X8_read_19 hS hx1 hx2 hx3
def g_X8_meant_58 (S : AM) (x1 : Int) (x2 : Int) : Option (Int) :=
  (g_X8_opens x1 x2).bind fun v1 =>
  if v1 ≠ 0 then
    some (0)
  else
    (g_X8_wayOf x2).bind fun v2 =>
    hA ((2 * x1) + v2) 4 <|
    hA x2 9223372036854775808 <|
    c64 (x2 / 4) <|
    if (x2 / 4) < (S M_granted (((2 * x1) + v2) : Int).toNat) then
      some (0)
    else
      some (4)
set_option maxRecDepth 10000 in
theorem lf_X8_meant_58 {S : Mem} {S' : AM} (hS : (RT tM) S S') {x1 : Int32} {x1' : Int} (hx1 : RI x1 x1') {x2 : Int64} {x2' : Int} (hx2 : RJ x2 x2') : Lf RI (f_X8_meant_58 S x1 x2) (g_X8_meant_58 S' x1' x2') := by
  unfold f_X8_meant_58 g_X8_meant_58
  refine Lf_gS (lf_X8_opens hx1 hx2) (fun v1 v1' hv1 => ?_)
  refine Lf_ite (C_ne hv1 (RI.lit 0 (by decide))) (fun c1 => ?_) (fun c1 => ?_)
  · exact Lf_some (RI.lit 0 (by decide))
  · refine Lf_gS (lf_X8_wayOf hx2) (fun v2 v2' hv2 => ?_)
    refine Lf_hA (E_add (E_mul (li32 2) hx1.1) hv2.1) (by decide) (fun b2 => ?_)
    refine Lf_hD (fun b3 => ?_)
    refine Lf_c64 (fun b4 => ?_)
    refine Lf_ite (D_lt (RJ.mk (F_div hx2.1 (li64 4) b3 (by decide) (by decide)) b4) (RJ.mk (E_64 (RI.at hS rfl (tnE (E_add (E_mul (li32 2) hx1.1) hv2.1) b2 (by decide)) rfl)) (R_64 (RI.at hS rfl (tnE (E_add (E_mul (li32 2) hx1.1) hv2.1) b2 (by decide)) rfl).2))) (fun c5 => ?_) (fun c5 => ?_)
    · exact Lf_some (RI.lit 0 (by decide))
    · exact Lf_some (RI.lit 4 (by decide))
def g_X8_meant_32 (S : AM) (x1 : Int) (x2 : Int) (x4 : Int) : Option (Int) :=
  if x4 = 0 then
    (g_X8_receives x1 x2).bind fun v1 =>
    if v1 ≠ 0 then
      g_X8_meant_58 S x1 x2
    else
      some (5)
  else
    (g_X8_sends x1 x2).bind fun v2 =>
    if v2 ≠ 0 then
      g_X8_meant_58 S x1 x2
    else
      some (5)
set_option maxRecDepth 10000 in
theorem lf_X8_meant_32 {S : Mem} {S' : AM} (hS : (RT tM) S S') {x1 : Int32} {x1' : Int} (hx1 : RI x1 x1') {x2 : Int64} {x2' : Int} (hx2 : RJ x2 x2') {x4 : Int32} {x4' : Int} (hx4 : RI x4 x4') : Lf RI (f_X8_meant_32 S x1 x2 x4) (g_X8_meant_32 S' x1' x2' x4') := by
  unfold f_X8_meant_32 g_X8_meant_32
  refine Lf_ite (C_eq hx4 (RI.lit 0 (by decide))) (fun c1 => ?_) (fun c1 => ?_)
  · refine Lf_gS (lf_X8_receives hx1 hx2) (fun v1 v1' hv1 => ?_)
    refine Lf_ite (C_ne hv1 (RI.lit 0 (by decide))) (fun c2 => ?_) (fun c2 => ?_)
    · exact lf_X8_meant_58 hS hx1 hx2
    · exact Lf_some (RI.lit 5 (by decide))
  · refine Lf_gS (lf_X8_sends hx1 hx2) (fun v2 v2' hv2 => ?_)
    refine Lf_ite (C_ne hv2 (RI.lit 0 (by decide))) (fun c3 => ?_) (fun c3 => ?_)
    · exact lf_X8_meant_58 hS hx1 hx2
    · exact Lf_some (RI.lit 5 (by decide))
def g_X8_meant (S : AM) (x1 : Int) (x2 : Int) (x4 : Int) : Option (Int) :=
  (g_X8_opens x1 x2).bind fun v1 =>
  if v1 = 0 then
    g_X8_meant_32 S x1 x2 x4
  else
    if 256 ≤ x2 then
      some (5)
    else
      c32 x2 <|
      (g_X8_at x1 x2).bind fun v2 =>
      hA v2 512 <|
      if (S M_there (v2 : Int).toNat) ≠ 0 then
        g_X8_meant_32 S x1 x2 x4
      else
        some (5)
set_option maxRecDepth 10000 in
theorem lf_X8_meant {S : Mem} {S' : AM} (hS : (RT tM) S S') {x1 : Int32} {x1' : Int} (hx1 : RI x1 x1') {x2 : Int64} {x2' : Int} (hx2 : RJ x2 x2') {x4 : Int32} {x4' : Int} (hx4 : RI x4 x4') : Lf RI (f_X8_meant S x1 x2 x4) (g_X8_meant S' x1' x2' x4') := by
  unfold f_X8_meant g_X8_meant
  refine Lf_gS (lf_X8_opens hx1 hx2) (fun v1 v1' hv1 => ?_)
  refine Lf_ite (C_eq hv1 (RI.lit 0 (by decide))) (fun c1 => ?_) (fun c1 => ?_)
  · exact lf_X8_meant_32 hS hx1 hx2 hx4
  · refine Lf_ite (D_le (RJ.lit 256 (by decide)) hx2) (fun c2 => ?_) (fun c2 => ?_)
    · exact Lf_some (RI.lit 5 (by decide))
    · refine Lf_c32 (fun b3 => ?_)
      refine Lf_gS (lf_X8_at hx1 (RI.mk (F_32 hx2.1) b3)) (fun v2 v2' hv2 => ?_)
      refine Lf_hA hv2.1 (by decide) (fun b4 => ?_)
      refine Lf_ite (C_ne (RI.at hS rfl (tnE hv2.1 b4 (by decide)) rfl) (RI.lit 0 (by decide))) (fun c5 => ?_) (fun c5 => ?_)
      · exact lf_X8_meant_32 hS hx1 hx2 hx4
      · exact Lf_some (RI.lit 5 (by decide))
def g_X8_received_5_b (S : AM) (k5 : Int → Int → Int → Option (Int)) (x1 : Int) (x2 : Int) (x4 : Int) : Option (Int) :=
  if 256 ≤ x4 then
    some (x2)
  else
    (g_X8_at x1 x4).bind fun v1 =>
    hA v1 512 <|
    c64 (x2 + (S M_highest (v1 : Int).toNat)) <|
    c32 (x4 + 1) <|
    k5 x1 (x2 + (S M_highest (v1 : Int).toNat)) (x4 + 1)
set_option maxRecDepth 10000 in
theorem lf_X8_received_5_b {S : Mem} {S' : AM} (hS : (RT tM) S S') {k5 : Int32 → Int64 → Int32 → Option (Int64)} {k5' : Int → Int → Int → Option (Int)} (hk5 : ∀ {y0 : Int32} {y0' : Int}, RI y0 y0' → ∀ {y1 : Int64} {y1' : Int}, RJ y1 y1' → ∀ {y2 : Int32} {y2' : Int}, RI y2 y2' → Lf RJ (k5 y0 y1 y2) (k5' y0' y1' y2')) {x1 : Int32} {x1' : Int} (hx1 : RI x1 x1') {x2 : Int64} {x2' : Int} (hx2 : RJ x2 x2') {x4 : Int32} {x4' : Int} (hx4 : RI x4 x4') : Lf RJ (f_X8_received_5_b S k5 x1 x2 x4) (g_X8_received_5_b S' k5' x1' x2' x4') := by
  unfold f_X8_received_5_b g_X8_received_5_b
  refine Lf_ite (C_le (RI.lit 256 (by decide)) hx4) (fun c1 => ?_) (fun c1 => ?_)
  · exact Lf_some hx2
  · refine Lf_gS (lf_X8_at hx1 hx4) (fun v1 v1' hv1 => ?_)
    refine Lf_hA hv1.1 (by decide) (fun b2 => ?_)
    refine Lf_c64 (fun b3 => ?_)
    refine Lf_c32 (fun b4 => ?_)
    exact hk5 hx1 (RJ.mk (F_add hx2.1 (RJ.at hS rfl (tnE hv1.1 b2 (by decide)) rfl).1) b3) (RI.mk (E_add hx4.1 (li32 1)) b4)
def g_X8_received_5 (S : AM) : Nat → Int → Int → Int → Option (Int)
  | 0, _, _, _ => none
  | n + 1, x1, x2, x4 => g_X8_received_5_b S (g_X8_received_5 S n) x1 x2 x4
set_option maxRecDepth 10000 in
theorem lf_X8_received_5 {S : Mem} {S' : AM} (hS : (RT tM) S S') (n : Nat) : ∀ {x1 : Int32} {x1' : Int}, RI x1 x1' → ∀ {x2 : Int64} {x2' : Int}, RJ x2 x2' → ∀ {x4 : Int32} {x4' : Int}, RI x4 x4' → Lf RJ (f_X8_received_5 S n x1 x2 x4) (g_X8_received_5 S' n x1' x2' x4') := by
  induction n with
  | zero => intros; exact Lf_none
  | succ n ih => intro x1 x1' hx1 x2 x2' hx2 x4 x4' hx4; exact lf_X8_received_5_b hS ih hx1 hx2 hx4
def g_X8_received (S : AM) (x1 : Int) : Option (Int) :=
  g_X8_received_5 S FU x1 0 0
set_option maxRecDepth 10000 in
theorem lf_X8_received {S : Mem} {S' : AM} (hS : (RT tM) S S') {x1 : Int32} {x1' : Int} (hx1 : RI x1 x1') : Lf RJ (f_X8_received S x1) (g_X8_received S' x1') := by
  unfold f_X8_received g_X8_received
  exact lf_X8_received_5 hS FU hx1 (RJ.lit 0 (by decide)) (RI.lit 0 (by decide))
def g_X8_reaches_152 (S : AM) : Option (Int) :=
  some (3)
set_option maxRecDepth 10000 in
theorem lf_X8_reaches_152 {S : Mem} {S' : AM} (hS : (RT tM) S S') : Lf RI (f_X8_reaches_152 S) (g_X8_reaches_152 S') := by
  unfold f_X8_reaches_152 g_X8_reaches_152
  exact Lf_some (RI.lit 3 (by decide))
def g_X8_reaches_125 (S : AM) (x1 : Int) (x3 : Int) (x7 : Int) (y0 : Int) : Option (Int) :=
  if x7 < x3 then
    g_X8_reaches_152 S
  else
    (g_X8_received S x1).bind fun v1 =>
    hA x1 2 <|
    c64 (v1 + y0) <|
    if (v1 + y0) ≤ (S M_dataGrant (x1 : Int).toNat) then
      some (0)
    else
      g_X8_reaches_152 S
set_option maxRecDepth 10000 in
theorem lf_X8_reaches_125 {S : Mem} {S' : AM} (hS : (RT tM) S S') {x1 : Int32} {x1' : Int} (hx1 : RI x1 x1') {x3 : Int64} {x3' : Int} (hx3 : RJ x3 x3') {x7 : Int64} {x7' : Int} (hx7 : RJ x7 x7') {y0 : Int64} {y0' : Int} (hy0 : RJ y0 y0') : Lf RI (f_X8_reaches_125 S x1 x3 x7 y0) (g_X8_reaches_125 S' x1' x3' x7' y0') := by
  unfold f_X8_reaches_125 g_X8_reaches_125
  refine Lf_ite (D_lt hx7 hx3) (fun c1 => ?_) (fun c1 => ?_)
  · exact lf_X8_reaches_152 hS
  · refine Lf_bind (lf_X8_received hS hx1) (fun v1 v1' hv1 => ?_)
    refine Lf_hA hx1.1 (by decide) (fun b2 => ?_)
    refine Lf_c64 (fun b3 => ?_)
    refine Lf_ite (D_le (RJ.mk (F_add hv1.1 hy0.1) b3) (RJ.at hS rfl (tnE hx1.1 b2 (by decide)) rfl)) (fun c4 => ?_) (fun c4 => ?_)
    · exact Lf_some (RI.lit 0 (by decide))
    · exact lf_X8_reaches_152 hS
def g_X8_reaches_98 (S : AM) (x1 : Int) (x3 : Int) (x6 : Int) (y0 : Int) : Option (Int) :=
  hA x6 512 <|
  if x3 ≤ (S M_highest (x6 : Int).toNat) then
    g_X8_reaches_125 S x1 x3 y0 0
  else
    hA x6 512 <|
    c64 (x3 - (S M_highest (x6 : Int).toNat)) <|
    g_X8_reaches_125 S x1 x3 y0 (x3 - (S M_highest (x6 : Int).toNat))
set_option maxRecDepth 10000 in
theorem lf_X8_reaches_98 {S : Mem} {S' : AM} (hS : (RT tM) S S') {x1 : Int32} {x1' : Int} (hx1 : RI x1 x1') {x3 : Int64} {x3' : Int} (hx3 : RJ x3 x3') {x6 : Int32} {x6' : Int} (hx6 : RI x6 x6') {y0 : Int64} {y0' : Int} (hy0 : RJ y0 y0') : Lf RI (f_X8_reaches_98 S x1 x3 x6 y0) (g_X8_reaches_98 S' x1' x3' x6' y0') := by
  unfold f_X8_reaches_98 g_X8_reaches_98
  refine Lf_hA hx6.1 (by decide) (fun b1 => ?_)
  refine Lf_ite (D_le hx3 (RJ.at hS rfl (tnE hx6.1 b1 (by decide)) rfl)) (fun c2 => ?_) (fun c2 => ?_)
  · exact lf_X8_reaches_125 hS hx1 hx3 hy0 (RJ.lit 0 (by decide))
  · refine Lf_hA hx6.1 (by decide) (fun b3 => ?_)
    refine Lf_c64 (fun b4 => ?_)
    exact lf_X8_reaches_125 hS hx1 hx3 hy0 (RJ.mk (F_sub hx3.1 (RJ.at hS rfl (tnE hx6.1 b1 (by decide)) rfl).1) b4)
def g_X8_reaches_71 (S : AM) (x1 : Int) (x2 : Int) (x3 : Int) (x6 : Int) : Option (Int) :=
  hA x6 512 <|
  if (S M_there (x6 : Int).toNat) = 0 then
    (g_X8_grantOf S x1 x2).bind fun v1 =>
    g_X8_reaches_98 S x1 x3 x6 v1
  else
    hA x6 512 <|
    g_X8_reaches_98 S x1 x3 x6 (S M_grant (x6 : Int).toNat)
set_option maxRecDepth 10000 in
theorem lf_X8_reaches_71 {S : Mem} {S' : AM} (hS : (RT tM) S S') {x1 : Int32} {x1' : Int} (hx1 : RI x1 x1') {x2 : Int32} {x2' : Int} (hx2 : RI x2 x2') {x3 : Int64} {x3' : Int} (hx3 : RJ x3 x3') {x6 : Int32} {x6' : Int} (hx6 : RI x6 x6') : Lf RI (f_X8_reaches_71 S x1 x2 x3 x6) (g_X8_reaches_71 S' x1' x2' x3' x6') := by
  unfold f_X8_reaches_71 g_X8_reaches_71
  refine Lf_hA hx6.1 (by decide) (fun b1 => ?_)
  refine Lf_ite (C_eq (RI.at hS rfl (tnE hx6.1 b1 (by decide)) rfl) (RI.lit 0 (by decide))) (fun c2 => ?_) (fun c2 => ?_)
  · refine Lf_bind (lf_X8_grantOf hS hx1 hx2) (fun v1 v1' hv1 => ?_)
    exact lf_X8_reaches_98 hS hx1 hx3 hx6 (RJ.mk (E_64 hv1) (R_64 hv1.2))
  · refine Lf_hA hx6.1 (by decide) (fun b3 => ?_)
    exact lf_X8_reaches_98 hS hx1 hx3 hx6 (RJ.at hS rfl (tnE hx6.1 b1 (by decide)) rfl)
def g_X8_reaches_51 (S : AM) (x1 : Int) (x2 : Int) (x3 : Int) (x5 : Int) (x6 : Int) : Option (Int) :=
  if x5 = 0 then
    g_X8_reaches_71 S x1 x2 x3 x6
  else
    hA x6 512 <|
    if (S M_highest (x6 : Int).toNat) ≤ x3 then
      g_X8_reaches_71 S x1 x2 x3 x6
    else
      some (6)
set_option maxRecDepth 10000 in
theorem lf_X8_reaches_51 {S : Mem} {S' : AM} (hS : (RT tM) S S') {x1 : Int32} {x1' : Int} (hx1 : RI x1 x1') {x2 : Int32} {x2' : Int} (hx2 : RI x2 x2') {x3 : Int64} {x3' : Int} (hx3 : RJ x3 x3') {x5 : Int32} {x5' : Int} (hx5 : RI x5 x5') {x6 : Int32} {x6' : Int} (hx6 : RI x6 x6') : Lf RI (f_X8_reaches_51 S x1 x2 x3 x5 x6) (g_X8_reaches_51 S' x1' x2' x3' x5' x6') := by
  unfold f_X8_reaches_51 g_X8_reaches_51
  refine Lf_ite (C_eq hx5 (RI.lit 0 (by decide))) (fun c1 => ?_) (fun c1 => ?_)
  · exact lf_X8_reaches_71 hS hx1 hx2 hx3 hx6
  · refine Lf_hA hx6.1 (by decide) (fun b2 => ?_)
    refine Lf_ite (D_le (RJ.at hS rfl (tnE hx6.1 b2 (by decide)) rfl) hx3) (fun c3 => ?_) (fun c3 => ?_)
    · exact lf_X8_reaches_71 hS hx1 hx2 hx3 hx6
    · exact Lf_some (RI.lit 6 (by decide))
def g_X8_reaches (S : AM) (x1 : Int) (x2 : Int) (x3 : Int) (x5 : Int) : Option (Int) :=
  (g_X8_at x1 x2).bind fun v1 =>
  hA v1 512 <|
  if (S M_size (v1 : Int).toNat) < 0 then
    g_X8_reaches_51 S x1 x2 x3 x5 v1
  else
    hA v1 512 <|
    if (S M_size (v1 : Int).toNat) < x3 then
      some (6)
    else
      if x5 = 0 then
        g_X8_reaches_51 S x1 x2 x3 x5 v1
      else
        hA v1 512 <|
        if x3 = (S M_size (v1 : Int).toNat) then
          g_X8_reaches_51 S x1 x2 x3 x5 v1
        else
          some (6)
set_option maxRecDepth 10000 in
theorem lf_X8_reaches {S : Mem} {S' : AM} (hS : (RT tM) S S') {x1 : Int32} {x1' : Int} (hx1 : RI x1 x1') {x2 : Int32} {x2' : Int} (hx2 : RI x2 x2') {x3 : Int64} {x3' : Int} (hx3 : RJ x3 x3') {x5 : Int32} {x5' : Int} (hx5 : RI x5 x5') : Lf RI (f_X8_reaches S x1 x2 x3 x5) (g_X8_reaches S' x1' x2' x3' x5') := by
  unfold f_X8_reaches g_X8_reaches
  refine Lf_gS (lf_X8_at hx1 hx2) (fun v1 v1' hv1 => ?_)
  refine Lf_hA hv1.1 (by decide) (fun b1 => ?_)
  refine Lf_ite (D_lt (RJ.at hS rfl (tnE hv1.1 b1 (by decide)) rfl) (RJ.lit 0 (by decide))) (fun c2 => ?_) (fun c2 => ?_)
  · exact lf_X8_reaches_51 hS hx1 hx2 hx3 hx5 hv1
  · refine Lf_hA hv1.1 (by decide) (fun b3 => ?_)
    refine Lf_ite (D_lt (RJ.at hS rfl (tnE hv1.1 b1 (by decide)) rfl) hx3) (fun c4 => ?_) (fun c4 => ?_)
    · exact Lf_some (RI.lit 6 (by decide))
    · refine Lf_ite (C_eq hx5 (RI.lit 0 (by decide))) (fun c5 => ?_) (fun c5 => ?_)
      · exact lf_X8_reaches_51 hS hx1 hx2 hx3 hx5 hv1
      · refine Lf_hA hv1.1 (by decide) (fun b6 => ?_)
        refine Lf_ite (D_eq hx3 (RJ.at hS rfl (tnE hv1.1 b1 (by decide)) rfl)) (fun c7 => ?_) (fun c7 => ?_)
        · exact lf_X8_reaches_51 hS hx1 hx2 hx3 hx5 hv1
        · exact Lf_some (RI.lit 6 (by decide))
def g_X8_comesThere_20_b (k20 : AM → Int → Int → Int → Option (AM)) (S : AM) (x1 : Int) (x2 : Int) (x3 : Int) : Option (AM) :=
  hA x3 4 <|
  hA x2 2147483648 <|
  c32 (x2 / 4) <|
  if (x2 / 4) < (S M_theirs (x3 : Int).toNat) then
    some (S)
  else
    hA x3 4 <|
    c32 ((4 * (S M_theirs (x3 : Int).toNat)) + (x2 - ((x2 / 4) * 4))) <|
    (g_X8_begin S x1 ((4 * (S M_theirs (x3 : Int).toNat)) + (x2 - ((x2 / 4) * 4)))).bind fun S1 =>
    hA x3 4 <|
    hA x3 4 <|
    c32 ((S1 M_theirs (x3 : Int).toNat) + 1) <|
    gS (uA S1 M_theirs ((x3 : Int).toNat) ((S1 M_theirs (x3 : Int).toNat) + 1)) fun S2 =>
    k20 S2 x1 x2 x3
set_option maxRecDepth 10000 in
theorem lf_X8_comesThere_20_b {k20 : Mem → Int32 → Int32 → Int32 → Option (Mem)} {k20' : AM → Int → Int → Int → Option (AM)} (hk20 : ∀ {y0 : Mem} {y0' : AM}, (RT tM) y0 y0' → ∀ {y1 : Int32} {y1' : Int}, RI y1 y1' → ∀ {y2 : Int32} {y2' : Int}, RI y2 y2' → ∀ {y3 : Int32} {y3' : Int}, RI y3 y3' → Lf (RT tM) (k20 y0 y1 y2 y3) (k20' y0' y1' y2' y3')) {S : Mem} {S' : AM} (hS : (RT tM) S S') {x1 : Int32} {x1' : Int} (hx1 : RI x1 x1') {x2 : Int32} {x2' : Int} (hx2 : RI x2 x2') {x3 : Int32} {x3' : Int} (hx3 : RI x3 x3') : Lf (RT tM) (f_X8_comesThere_20_b k20 S x1 x2 x3) (g_X8_comesThere_20_b k20' S' x1' x2' x3') := by
  unfold f_X8_comesThere_20_b g_X8_comesThere_20_b
  refine Lf_hA hx3.1 (by decide) (fun b1 => ?_)
  refine Lf_hD (fun b2 => ?_)
  refine Lf_c32 (fun b3 => ?_)
  refine Lf_ite (C_lt (RI.mk (E_div hx2.1 (li32 4) b2 (by decide) (by decide)) b3) (RI.at hS rfl (tnE hx3.1 b1 (by decide)) rfl)) (fun c4 => ?_) (fun c4 => ?_)
  · exact Lf_some hS
  · refine Lf_hA hx3.1 (by decide) (fun b5 => ?_)
    refine Lf_c32 (fun b6 => ?_)
    refine Lf_bind (lf_X8_begin hS hx1 (RI.mk (E_add (E_mul (li32 4) (RI.at hS rfl (tnE hx3.1 b1 (by decide)) rfl).1) (E_sub hx2.1 (E_mul (E_div hx2.1 (li32 4) b2 (by decide) (by decide)) (li32 4)))) b6)) (fun S1 S1' hS1 => ?_)
    refine Lf_hA hx3.1 (by decide) (fun b7 => ?_)
    refine Lf_hA hx3.1 (by decide) (fun b8 => ?_)
    refine Lf_c32 (fun b9 => ?_)
    refine Lf_st (RT.siq hS1 rfl (tnE hx3.1 b1 (by decide)) (RI.mk (E_add (RI.at hS1 rfl (tnE hx3.1 b1 (by decide)) rfl).1 (li32 1)) b9) rfl) (fun S2 S2' hS2 => ?_)
    exact hk20 hS2 hx1 hx2 hx3
def g_X8_comesThere_20 : Nat → AM → Int → Int → Int → Option (AM)
  | 0, _, _, _, _ => none
  | n + 1, S, x1, x2, x3 => g_X8_comesThere_20_b (g_X8_comesThere_20 n) S x1 x2 x3
set_option maxRecDepth 10000 in
theorem lf_X8_comesThere_20 (n : Nat) : ∀ {S : Mem} {S' : AM}, (RT tM) S S' → ∀ {x1 : Int32} {x1' : Int}, RI x1 x1' → ∀ {x2 : Int32} {x2' : Int}, RI x2 x2' → ∀ {x3 : Int32} {x3' : Int}, RI x3 x3' → Lf (RT tM) (f_X8_comesThere_20 n S x1 x2 x3) (g_X8_comesThere_20 n S' x1' x2' x3') := by
  induction n with
  | zero => intros; exact Lf_none
  | succ n ih => intro S S' hS x1 x1' hx1 x2 x2' hx2 x3 x3' hx3; exact lf_X8_comesThere_20_b ih hS hx1 hx2 hx3
def g_X8_comesThere (S : AM) (x1 : Int) (x2 : Int) : Option (AM) :=
  (g_X8_wayOf x2).bind fun v1 =>
  (g_X8_opens x1 x2).bind fun v2 =>
  if v2 = 0 then
    c32 ((2 * x1) + v1) <|
    g_X8_comesThere_20 FU S x1 x2 ((2 * x1) + v1)
  else
    some (S)
set_option maxRecDepth 10000 in
theorem lf_X8_comesThere {S : Mem} {S' : AM} (hS : (RT tM) S S') {x1 : Int32} {x1' : Int} (hx1 : RI x1 x1') {x2 : Int32} {x2' : Int} (hx2 : RI x2 x2') : Lf (RT tM) (f_X8_comesThere S x1 x2) (g_X8_comesThere S' x1' x2') := by
  unfold f_X8_comesThere g_X8_comesThere
  refine Lf_gS (lf_X8_wayOf (RJ.mk (E_64 hx2) (R_64 hx2.2))) (fun v1 v1' hv1 => ?_)
  refine Lf_gS (lf_X8_opens hx1 (RJ.mk (E_64 hx2) (R_64 hx2.2))) (fun v2 v2' hv2 => ?_)
  refine Lf_ite (C_eq hv2 (RI.lit 0 (by decide))) (fun c1 => ?_) (fun c1 => ?_)
  · refine Lf_c32 (fun b2 => ?_)
    exact lf_X8_comesThere_20 FU hS hx1 hx2 (RI.mk (E_add (E_mul (li32 2) hx1.1) hv1.1) b2)
  · exact Lf_some hS
def g_X8_comes_64 (S : AM) (x3 : Int) (x5 : Int) (x7 : Int) : Option (AM) :=
  hA x3 9223372036854775808 <|
  hA ((64 * x7) + (x3 - ((x3 / 64) * 64))) 180224 <|
  if (S M_has (((64 * x7) + (x3 - ((x3 / 64) * 64))) : Int).toNat) = 0 then
    hA ((64 * x7) + (x3 - ((x3 / 64) * 64))) 180224 <|
    gS (uA S M_has ((((64 * x7) + (x3 - ((x3 / 64) * 64))) : Int).toNat) 1) fun S1 =>
    hA ((64 * x7) + (x3 - ((x3 / 64) * 64))) 180224 <|
    gS (uA S1 M_came ((((64 * x7) + (x3 - ((x3 / 64) * 64))) : Int).toNat) (b8 x5)) fun S2 =>
    some (S2)
  else
    some (S)
set_option maxRecDepth 10000 in
theorem lf_X8_comes_64 {S : Mem} {S' : AM} (hS : (RT tM) S S') {x3 : Int64} {x3' : Int} (hx3 : RJ x3 x3') {x5 : Int32} {x5' : Int} (hx5 : RI x5 x5') {x7 : Int32} {x7' : Int} (hx7 : RI x7 x7') : Lf (RT tM) (f_X8_comes_64 S x3 x5 x7) (g_X8_comes_64 S' x3' x5' x7') := by
  unfold f_X8_comes_64 g_X8_comes_64
  refine Lf_hD (fun b1 => ?_)
  refine Lf_hA (E_add (E_mul (li32 64) hx7.1) (F_32 (F_sub hx3.1 (F_mul (F_div hx3.1 (li64 64) b1 (by decide) (by decide)) (li64 64))))) (by decide) (fun b2 => ?_)
  refine Lf_ite (C_eq (RI.at hS rfl (tnE (E_add (E_mul (li32 64) hx7.1) (F_32 (F_sub hx3.1 (F_mul (F_div hx3.1 (li64 64) b1 (by decide) (by decide)) (li64 64))))) b2 (by decide)) rfl) (RI.lit 0 (by decide))) (fun c3 => ?_) (fun c3 => ?_)
  · refine Lf_hA (E_add (E_mul (li32 64) hx7.1) (F_32 (F_sub hx3.1 (F_mul (F_div hx3.1 (li64 64) b1 (by decide) (by decide)) (li64 64))))) (by decide) (fun b4 => ?_)
    refine Lf_st (RT.siq hS rfl (tnE (E_add (E_mul (li32 64) hx7.1) (F_32 (F_sub hx3.1 (F_mul (F_div hx3.1 (li64 64) b1 (by decide) (by decide)) (li64 64))))) b2 (by decide)) (RI.mk E_nz1 (RI.lit 1 (by decide)).2) rfl) (fun S1 S1' hS1 => ?_)
    refine Lf_hA (E_add (E_mul (li32 64) hx7.1) (F_32 (F_sub hx3.1 (F_mul (F_div hx3.1 (li64 64) b1 (by decide) (by decide)) (li64 64))))) (by decide) (fun b5 => ?_)
    refine Lf_st (RT.siq hS1 rfl (tnE (E_add (E_mul (li32 64) hx7.1) (F_32 (F_sub hx3.1 (F_mul (F_div hx3.1 (li64 64) b1 (by decide) (by decide)) (li64 64))))) b2 (by decide)) (RI.mk (E_nb hx5) (R_b8 _)) rfl) (fun S2 S2' hS2 => ?_)
    exact Lf_some hS2
  · exact Lf_some hS
def g_X8_comes (S : AM) (x1 : Int) (x2 : Int) (x3 : Int) (x5 : Int) : Option (AM) :=
  hA x3 9223372036854775808 <|
  c32 (x3 / 64) <|
  (g_X8_pieceAt S x1 x2 (x3 / 64)).bind fun v1 =>
  if 0 ≤ v1 then
    g_X8_comes_64 S x3 x5 v1
  else
    hA x1 2 <|
    hA x1 2 <|
    hA x1 2 <|
    c32 ((S M_pieces (x1 : Int).toNat) + 1) <|
    gS (uA S M_pieces ((x1 : Int).toNat) ((S M_pieces (x1 : Int).toNat) + 1)) fun S2 =>
    hA ((1408 * x1) + (S M_pieces (x1 : Int).toNat)) 2816 <|
    gS (uA S2 M_pieceOf ((((1408 * x1) + (S M_pieces (x1 : Int).toNat)) : Int).toNat) x2) fun S3 =>
    hA ((1408 * x1) + (S M_pieces (x1 : Int).toNat)) 2816 <|
    gS (uA S3 M_pieceNumber ((((1408 * x1) + (S M_pieces (x1 : Int).toNat)) : Int).toNat) (x3 / 64)) fun S4 =>
    c32 ((1408 * x1) + (S M_pieces (x1 : Int).toNat)) <|
    g_X8_comes_64 S4 x3 x5 ((1408 * x1) + (S M_pieces (x1 : Int).toNat))
set_option maxRecDepth 10000 in
theorem lf_X8_comes {S : Mem} {S' : AM} (hS : (RT tM) S S') {x1 : Int32} {x1' : Int} (hx1 : RI x1 x1') {x2 : Int32} {x2' : Int} (hx2 : RI x2 x2') {x3 : Int64} {x3' : Int} (hx3 : RJ x3 x3') {x5 : Int32} {x5' : Int} (hx5 : RI x5 x5') : Lf (RT tM) (f_X8_comes S x1 x2 x3 x5) (g_X8_comes S' x1' x2' x3' x5') := by
  unfold f_X8_comes g_X8_comes
  refine Lf_hD (fun b1 => ?_)
  refine Lf_c32 (fun b2 => ?_)
  refine Lf_bind (lf_X8_pieceAt hS hx1 hx2 (RI.mk (F_32 (F_div hx3.1 (li64 64) b1 (by decide) (by decide))) b2)) (fun v1 v1' hv1 => ?_)
  refine Lf_ite (C_le (RI.lit 0 (by decide)) hv1) (fun c3 => ?_) (fun c3 => ?_)
  · exact lf_X8_comes_64 hS hx3 hx5 hv1
  · refine Lf_hA hx1.1 (by decide) (fun b4 => ?_)
    refine Lf_hA hx1.1 (by decide) (fun b5 => ?_)
    refine Lf_hA hx1.1 (by decide) (fun b6 => ?_)
    refine Lf_c32 (fun b7 => ?_)
    refine Lf_st (RT.siq hS rfl (tnE hx1.1 b4 (by decide)) (RI.mk (E_add (RI.at hS rfl (tnE hx1.1 b4 (by decide)) rfl).1 (li32 1)) b7) rfl) (fun S2 S2' hS2 => ?_)
    refine Lf_hA (E_add (E_mul (li32 1408) hx1.1) (RI.at hS rfl (tnE hx1.1 b4 (by decide)) rfl).1) (by decide) (fun b8 => ?_)
    refine Lf_st (RT.siq hS2 rfl (tnE (E_add (E_mul (li32 1408) hx1.1) (RI.at hS rfl (tnE hx1.1 b4 (by decide)) rfl).1) b8 (by decide)) hx2 rfl) (fun S3 S3' hS3 => ?_)
    refine Lf_hA (E_add (E_mul (li32 1408) hx1.1) (RI.at hS rfl (tnE hx1.1 b4 (by decide)) rfl).1) (by decide) (fun b9 => ?_)
    refine Lf_st (RT.siq hS3 rfl (tnE (E_add (E_mul (li32 1408) hx1.1) (RI.at hS rfl (tnE hx1.1 b4 (by decide)) rfl).1) b8 (by decide)) (RI.mk (F_32 (F_div hx3.1 (li64 64) b1 (by decide) (by decide))) b2) rfl) (fun S4 S4' hS4 => ?_)
    refine Lf_c32 (fun b10 => ?_)
    exact lf_X8_comes_64 hS4 hx3 hx5 (RI.mk (E_add (E_mul (li32 1408) hx1.1) (RI.at hS rfl (tnE hx1.1 b4 (by decide)) rfl).1) b10)
def g_X8_takeStream_170 (S : AM) (x1 : Int) (x3 : Int) : Option (AM × Int) :=
  (g_X8_looksOver S x1 x3).bind fun S1 =>
  some (S1, 0)
set_option maxRecDepth 10000 in
theorem lf_X8_takeStream_170 {S : Mem} {S' : AM} (hS : (RT tM) S S') {x1 : Int32} {x1' : Int} (hx1 : RI x1 x1') {x3 : Int32} {x3' : Int} (hx3 : RI x3 x3') : Lf (RP (RT tM) RI) (f_X8_takeStream_170 S x1 x3) (g_X8_takeStream_170 S' x1' x3') := by
  unfold f_X8_takeStream_170 g_X8_takeStream_170
  refine Lf_bind (lf_X8_looksOver hS hx1 hx3) (fun S1 S1' hS1 => ?_)
  exact Lf_some (RP.mk hS1 (RI.lit 0 (by decide)))
def g_X8_takeStream_128_b (k128 : AM → Int → Int → Int → Int → Option (AM × Int)) (S : AM) (x1 : Int) (x3 : Int) (x7 : Int) (x8 : Int) : Option (AM × Int) :=
  if (S M_o 49) ≤ x8 then
    g_X8_takeStream_170 S x1 x3
  else
    if 2 ≤ x7 then
      g_X8_takeStream_170 S x1 x3
    else
      hA x8 2048 <|
      c64 ((S M_o 47) + x8) <|
      (g_X8_comes S x1 x3 ((S M_o 47) + x8) (S M_fData (x8 : Int).toNat)).bind fun S1 =>
      c32 (x8 + 1) <|
      k128 S1 x1 x3 x7 (x8 + 1)
set_option maxRecDepth 10000 in
theorem lf_X8_takeStream_128_b {k128 : Mem → Int32 → Int32 → Int32 → Int32 → Option (Mem × Int32)} {k128' : AM → Int → Int → Int → Int → Option (AM × Int)} (hk128 : ∀ {y0 : Mem} {y0' : AM}, (RT tM) y0 y0' → ∀ {y1 : Int32} {y1' : Int}, RI y1 y1' → ∀ {y2 : Int32} {y2' : Int}, RI y2 y2' → ∀ {y3 : Int32} {y3' : Int}, RI y3 y3' → ∀ {y4 : Int32} {y4' : Int}, RI y4 y4' → Lf (RP (RT tM) RI) (k128 y0 y1 y2 y3 y4) (k128' y0' y1' y2' y3' y4')) {S : Mem} {S' : AM} (hS : (RT tM) S S') {x1 : Int32} {x1' : Int} (hx1 : RI x1 x1') {x3 : Int32} {x3' : Int} (hx3 : RI x3 x3') {x7 : Int32} {x7' : Int} (hx7 : RI x7 x7') {x8 : Int32} {x8' : Int} (hx8 : RI x8 x8') : Lf (RP (RT tM) RI) (f_X8_takeStream_128_b k128 S x1 x3 x7 x8) (g_X8_takeStream_128_b k128' S' x1' x3' x7' x8') := by
  unfold f_X8_takeStream_128_b g_X8_takeStream_128_b
  refine Lf_ite (C_le (RI.at hS rfl rfl rfl) hx8) (fun c1 => ?_) (fun c1 => ?_)
  · exact lf_X8_takeStream_170 hS hx1 hx3
  · refine Lf_ite (C_le (RI.lit 2 (by decide)) hx7) (fun c2 => ?_) (fun c2 => ?_)
    · exact lf_X8_takeStream_170 hS hx1 hx3
    · refine Lf_hA hx8.1 (by decide) (fun b3 => ?_)
      refine Lf_c64 (fun b4 => ?_)
      refine Lf_bind (lf_X8_comes hS hx1 hx3 (RJ.mk (F_add (RJ.at hS rfl rfl rfl).1 (E_64 hx8)) b4) (RI.at hS rfl (tnE hx8.1 b3 (by decide)) rfl)) (fun S1 S1' hS1 => ?_)
      refine Lf_c32 (fun b5 => ?_)
      exact hk128 hS1 hx1 hx3 hx7 (RI.mk (E_add hx8.1 (li32 1)) b5)
def g_X8_takeStream_128 : Nat → AM → Int → Int → Int → Int → Option (AM × Int)
  | 0, _, _, _, _, _ => none
  | n + 1, S, x1, x3, x7, x8 => g_X8_takeStream_128_b (g_X8_takeStream_128 n) S x1 x3 x7 x8
set_option maxRecDepth 10000 in
theorem lf_X8_takeStream_128 (n : Nat) : ∀ {S : Mem} {S' : AM}, (RT tM) S S' → ∀ {x1 : Int32} {x1' : Int}, RI x1 x1' → ∀ {x3 : Int32} {x3' : Int}, RI x3 x3' → ∀ {x7 : Int32} {x7' : Int}, RI x7 x7' → ∀ {x8 : Int32} {x8' : Int}, RI x8 x8' → Lf (RP (RT tM) RI) (f_X8_takeStream_128 n S x1 x3 x7 x8) (g_X8_takeStream_128 n S' x1' x3' x7' x8') := by
  induction n with
  | zero => intros; exact Lf_none
  | succ n ih => intro S S' hS x1 x1' hx1 x3 x3' hx3 x7 x7' hx7 x8 x8' hx8; exact lf_X8_takeStream_128_b ih hS hx1 hx3 hx7 hx8
def g_X8_takeStream_125 (S : AM) (x1 : Int) (x3 : Int) (x7 : Int) : Option (AM × Int) :=
  g_X8_takeStream_128 FU S x1 x3 x7 0
set_option maxRecDepth 10000 in
theorem lf_X8_takeStream_125 {S : Mem} {S' : AM} (hS : (RT tM) S S') {x1 : Int32} {x1' : Int} (hx1 : RI x1 x1') {x3 : Int32} {x3' : Int} (hx3 : RI x3 x3') {x7 : Int32} {x7' : Int} (hx7 : RI x7 x7') : Lf (RP (RT tM) RI) (f_X8_takeStream_125 S x1 x3 x7) (g_X8_takeStream_125 S' x1' x3' x7') := by
  unfold f_X8_takeStream_125 g_X8_takeStream_125
  exact lf_X8_takeStream_128 FU hS hx1 hx3 hx7 (RI.lit 0 (by decide))
def g_X8_takeStream_107 (S : AM) (x1 : Int) (x3 : Int) (x4 : Int) (x5 : Int) (x7 : Int) : Option (AM × Int) :=
  if (S M_o 48) ≠ 1 then
    g_X8_takeStream_125 S x1 x3 x7
  else
    hA x4 512 <|
    gS (uA S M_size ((x4 : Int).toNat) x5) fun S1 =>
    g_X8_takeStream_125 S1 x1 x3 x7
set_option maxRecDepth 10000 in
theorem lf_X8_takeStream_107 {S : Mem} {S' : AM} (hS : (RT tM) S S') {x1 : Int32} {x1' : Int} (hx1 : RI x1 x1') {x3 : Int32} {x3' : Int} (hx3 : RI x3 x3') {x4 : Int32} {x4' : Int} (hx4 : RI x4 x4') {x5 : Int64} {x5' : Int} (hx5 : RJ x5 x5') {x7 : Int32} {x7' : Int} (hx7 : RI x7 x7') : Lf (RP (RT tM) RI) (f_X8_takeStream_107 S x1 x3 x4 x5 x7) (g_X8_takeStream_107 S' x1' x3' x4' x5' x7') := by
  unfold f_X8_takeStream_107 g_X8_takeStream_107
  refine Lf_ite (D_ne (RJ.at hS rfl rfl rfl) (RJ.lit 1 (by decide))) (fun c1 => ?_) (fun c1 => ?_)
  · exact lf_X8_takeStream_125 hS hx1 hx3 hx7
  · refine Lf_hA hx4.1 (by decide) (fun b2 => ?_)
    refine Lf_st (RT.sjq hS rfl (tnE hx4.1 b2 (by decide)) hx5 rfl) (fun S1 S1' hS1 => ?_)
    exact lf_X8_takeStream_125 hS1 hx1 hx3 hx7
def g_X8_takeStream_61 (S : AM) (x1 : Int) (x3 : Int) (x4 : Int) (x5 : Int) (y0 : Int) (y1 : Int) (y2 : Int) (y3 : Int) : Option (AM × Int) :=
  (g_X8_reaches S y3 y2 y1 y0).bind fun v1 =>
  if v1 ≤ 0 then
    (g_X8_comesThere S x1 x3).bind fun S2 =>
    (g_X8_receiving S2 x1 x3).bind fun v3 =>
    hA x4 512 <|
    if x5 ≤ (S2 M_highest (x4 : Int).toNat) then
      g_X8_takeStream_107 S2 x1 x3 x4 x5 v3
    else
      hA x4 512 <|
      gS (uA S2 M_highest ((x4 : Int).toNat) x5) fun S4 =>
      g_X8_takeStream_107 S4 x1 x3 x4 x5 v3
  else
    some (S, v1)
set_option maxRecDepth 10000 in
theorem lf_X8_takeStream_61 {S : Mem} {S' : AM} (hS : (RT tM) S S') {x1 : Int32} {x1' : Int} (hx1 : RI x1 x1') {x3 : Int32} {x3' : Int} (hx3 : RI x3 x3') {x4 : Int32} {x4' : Int} (hx4 : RI x4 x4') {x5 : Int64} {x5' : Int} (hx5 : RJ x5 x5') {y0 : Int32} {y0' : Int} (hy0 : RI y0 y0') {y1 : Int64} {y1' : Int} (hy1 : RJ y1 y1') {y2 : Int32} {y2' : Int} (hy2 : RI y2 y2') {y3 : Int32} {y3' : Int} (hy3 : RI y3 y3') : Lf (RP (RT tM) RI) (f_X8_takeStream_61 S x1 x3 x4 x5 y0 y1 y2 y3) (g_X8_takeStream_61 S' x1' x3' x4' x5' y0' y1' y2' y3') := by
  unfold f_X8_takeStream_61 g_X8_takeStream_61
  refine Lf_bind (lf_X8_reaches hS hy3 hy2 hy1 hy0) (fun v1 v1' hv1 => ?_)
  refine Lf_ite (C_le hv1 (RI.lit 0 (by decide))) (fun c1 => ?_) (fun c1 => ?_)
  · refine Lf_bind (lf_X8_comesThere hS hx1 hx3) (fun S2 S2' hS2 => ?_)
    refine Lf_bind (lf_X8_receiving hS2 hx1 hx3) (fun v3 v3' hv3 => ?_)
    refine Lf_hA hx4.1 (by decide) (fun b2 => ?_)
    refine Lf_ite (D_le hx5 (RJ.at hS2 rfl (tnE hx4.1 b2 (by decide)) rfl)) (fun c3 => ?_) (fun c3 => ?_)
    · exact lf_X8_takeStream_107 hS2 hx1 hx3 hx4 hx5 hv3
    · refine Lf_hA hx4.1 (by decide) (fun b4 => ?_)
      refine Lf_st (RT.sjq hS2 rfl (tnE hx4.1 b2 (by decide)) hx5 rfl) (fun S4 S4' hS4 => ?_)
      exact lf_X8_takeStream_107 hS4 hx1 hx3 hx4 hx5 hv3
  · exact Lf_some (RP.mk hS hv1)
def g_X8_takeStream (S : AM) (x1 : Int) : Option (AM × Int) :=
  (g_X8_meant S x1 (S M_o 46) 0).bind fun v1 =>
  if v1 ≤ 0 then
    c32 (S M_o 46) <|
    (g_X8_at x1 (S M_o 46)).bind fun v2 =>
    if (S M_o 48) ≠ 1 then
      c64 ((S M_o 47) + (S M_o 49)) <|
      g_X8_takeStream_61 S x1 (S M_o 46) v2 ((S M_o 47) + (S M_o 49)) 0 ((S M_o 47) + (S M_o 49)) (S M_o 46) x1
    else
      c64 ((S M_o 47) + (S M_o 49)) <|
      g_X8_takeStream_61 S x1 (S M_o 46) v2 ((S M_o 47) + (S M_o 49)) 1 ((S M_o 47) + (S M_o 49)) (S M_o 46) x1
  else
    some (S, v1)
set_option maxRecDepth 10000 in
theorem lf_X8_takeStream {S : Mem} {S' : AM} (hS : (RT tM) S S') {x1 : Int32} {x1' : Int} (hx1 : RI x1 x1') : Lf (RP (RT tM) RI) (f_X8_takeStream S x1) (g_X8_takeStream S' x1') := by
  unfold f_X8_takeStream g_X8_takeStream
  refine Lf_bind (lf_X8_meant hS hx1 (RJ.at hS rfl rfl rfl) (RI.lit 0 (by decide))) (fun v1 v1' hv1 => ?_)
  refine Lf_ite (C_le hv1 (RI.lit 0 (by decide))) (fun c1 => ?_) (fun c1 => ?_)
  · refine Lf_c32 (fun b2 => ?_)
    refine Lf_gS (lf_X8_at hx1 (RI.mk (F_32 (RJ.at hS rfl rfl rfl).1) b2)) (fun v2 v2' hv2 => ?_)
    refine Lf_ite (D_ne (RJ.at hS rfl rfl rfl) (RJ.lit 1 (by decide))) (fun c3 => ?_) (fun c3 => ?_)
    · refine Lf_c64 (fun b4 => ?_)
      exact lf_X8_takeStream_61 hS hx1 (RI.mk (F_32 (RJ.at hS rfl rfl rfl).1) b2) hv2 (RJ.mk (F_add (RJ.at hS rfl rfl rfl).1 (E_64 (RI.at hS rfl rfl rfl))) b4) (RI.lit 0 (by decide)) (RJ.mk (F_add (RJ.at hS rfl rfl rfl).1 (E_64 (RI.at hS rfl rfl rfl))) b4) (RI.mk (F_32 (RJ.at hS rfl rfl rfl).1) b2) hx1
    · refine Lf_c64 (fun b5 => ?_)
      exact lf_X8_takeStream_61 hS hx1 (RI.mk (F_32 (RJ.at hS rfl rfl rfl).1) b2) hv2 (RJ.mk (F_add (RJ.at hS rfl rfl rfl).1 (E_64 (RI.at hS rfl rfl rfl))) b5) (RI.lit 1 (by decide)) (RJ.mk (F_add (RJ.at hS rfl rfl rfl).1 (E_64 (RI.at hS rfl rfl rfl))) b5) (RI.mk (F_32 (RJ.at hS rfl rfl rfl).1) b2) hx1
  · exact Lf_some (RP.mk hS hv1)
def g_X8_takeReset (S : AM) (x1 : Int) : Option (AM × Int) :=
  (g_X8_meant S x1 (S M_o 46) 0).bind fun v1 =>
  if v1 ≤ 0 then
    c32 (S M_o 46) <|
    (g_X8_at x1 (S M_o 46)).bind fun v2 =>
    (g_X8_reaches S x1 (S M_o 46) (S M_o 48) 1).bind fun v3 =>
    if v3 ≤ 0 then
      (g_X8_comesThere S x1 (S M_o 46)).bind fun S4 =>
      (g_X8_receiving S4 x1 (S M_o 46)).bind fun v5 =>
      hA v2 512 <|
      gS (uA S4 M_highest ((v2 : Int).toNat) (S4 M_o 48)) fun S6 =>
      hA v2 512 <|
      gS (uA S6 M_size ((v2 : Int).toNat) (S6 M_o 48)) fun S7 =>
      if v5 ≤ 1 then
        hA v2 512 <|
        gS (uA S7 M_wasReset ((v2 : Int).toNat) 1) fun S8 =>
        hA v2 512 <|
        gS (uA S8 M_theirCode ((v2 : Int).toNat) (S8 M_o 47)) fun S9 =>
        (g_X8_growData S9 x1).bind fun S10 =>
        (g_X8_looksOver S10 x1 (S M_o 46)).bind fun S11 =>
        some (S11, 0)
      else
        some (S7, 0)
    else
      some (S, v3)
  else
    some (S, v1)
set_option maxRecDepth 10000 in
theorem lf_X8_takeReset {S : Mem} {S' : AM} (hS : (RT tM) S S') {x1 : Int32} {x1' : Int} (hx1 : RI x1 x1') : Lf (RP (RT tM) RI) (f_X8_takeReset S x1) (g_X8_takeReset S' x1') := by
  unfold f_X8_takeReset g_X8_takeReset
  refine Lf_bind (lf_X8_meant hS hx1 (RJ.at hS rfl rfl rfl) (RI.lit 0 (by decide))) (fun v1 v1' hv1 => ?_)
  refine Lf_ite (C_le hv1 (RI.lit 0 (by decide))) (fun c1 => ?_) (fun c1 => ?_)
  · refine Lf_c32 (fun b2 => ?_)
    refine Lf_gS (lf_X8_at hx1 (RI.mk (F_32 (RJ.at hS rfl rfl rfl).1) b2)) (fun v2 v2' hv2 => ?_)
    refine Lf_bind (lf_X8_reaches hS hx1 (RI.mk (F_32 (RJ.at hS rfl rfl rfl).1) b2) (RJ.at hS rfl rfl rfl) (RI.lit 1 (by decide))) (fun v3 v3' hv3 => ?_)
    refine Lf_ite (C_le hv3 (RI.lit 0 (by decide))) (fun c3 => ?_) (fun c3 => ?_)
    · refine Lf_bind (lf_X8_comesThere hS hx1 (RI.mk (F_32 (RJ.at hS rfl rfl rfl).1) b2)) (fun S4 S4' hS4 => ?_)
      refine Lf_bind (lf_X8_receiving hS4 hx1 (RI.mk (F_32 (RJ.at hS rfl rfl rfl).1) b2)) (fun v5 v5' hv5 => ?_)
      refine Lf_hA hv2.1 (by decide) (fun b4 => ?_)
      refine Lf_st (RT.sjq hS4 rfl (tnE hv2.1 b4 (by decide)) (RJ.at hS4 rfl rfl rfl) rfl) (fun S6 S6' hS6 => ?_)
      refine Lf_hA hv2.1 (by decide) (fun b5 => ?_)
      refine Lf_st (RT.sjq hS6 rfl (tnE hv2.1 b4 (by decide)) (RJ.at hS6 rfl rfl rfl) rfl) (fun S7 S7' hS7 => ?_)
      refine Lf_ite (C_le hv5 (RI.lit 1 (by decide))) (fun c6 => ?_) (fun c6 => ?_)
      · refine Lf_hA hv2.1 (by decide) (fun b7 => ?_)
        refine Lf_st (RT.siq hS7 rfl (tnE hv2.1 b4 (by decide)) (RI.mk E_nz1 (RI.lit 1 (by decide)).2) rfl) (fun S8 S8' hS8 => ?_)
        refine Lf_hA hv2.1 (by decide) (fun b8 => ?_)
        refine Lf_st (RT.sjq hS8 rfl (tnE hv2.1 b4 (by decide)) (RJ.at hS8 rfl rfl rfl) rfl) (fun S9 S9' hS9 => ?_)
        refine Lf_bind (lf_X8_growData hS9 hx1) (fun S10 S10' hS10 => ?_)
        refine Lf_bind (lf_X8_looksOver hS10 hx1 (RI.mk (F_32 (RJ.at hS rfl rfl rfl).1) b2)) (fun S11 S11' hS11 => ?_)
        exact Lf_some (RP.mk hS11 (RI.lit 0 (by decide)))
      · exact Lf_some (RP.mk hS7 (RI.lit 0 (by decide)))
    · exact Lf_some (RP.mk hS hv3)
  · exact Lf_some (RP.mk hS hv1)
def g_X8_greater (x0 : Int) (x2 : Int) : Option (Int) :=
  if x0 ≤ x2 then
    some (x2)
  else
    some (x0)
set_option maxRecDepth 10000 in
theorem lf_X8_greater {x0 : Int64} {x0' : Int} (hx0 : RJ x0 x0') {x2 : Int64} {x2' : Int} (hx2 : RJ x2 x2') : Lp RJ (f_X8_greater x0 x2) (g_X8_greater x0' x2') := by
  unfold f_X8_greater g_X8_greater
  refine Lp_ite (D_le hx0 hx2) (fun c1 => ?_) (fun c1 => ?_)
  · exact Lp_val hx2
  · exact Lp_val hx0
def g_X8_takeOther_70 (S : AM) (x1 : Int) (x3 : Int) : Option (AM × Int) :=
  if (S M_o 45) ≠ 17 then
    some (S, 0)
  else
    (g_X8_at x1 x3).bind fun v1 =>
    (g_X8_at x1 x3).bind fun v2 =>
    hA v2 512 <|
    (g_X8_greater (S M_limit (v2 : Int).toNat) (S M_o 47)).bind fun v3 =>
    hA v1 512 <|
    gS (uA S M_limit ((v1 : Int).toNat) v3) fun S4 =>
    some (S4, 0)
set_option maxRecDepth 10000 in
theorem lf_X8_takeOther_70 {S : Mem} {S' : AM} (hS : (RT tM) S S') {x1 : Int32} {x1' : Int} (hx1 : RI x1 x1') {x3 : Int32} {x3' : Int} (hx3 : RI x3 x3') : Lf (RP (RT tM) RI) (f_X8_takeOther_70 S x1 x3) (g_X8_takeOther_70 S' x1' x3') := by
  unfold f_X8_takeOther_70 g_X8_takeOther_70
  refine Lf_ite (C_ne (RI.at hS rfl rfl rfl) (RI.lit 17 (by decide))) (fun c1 => ?_) (fun c1 => ?_)
  · exact Lf_some (RP.mk hS (RI.lit 0 (by decide)))
  · refine Lf_gS (lf_X8_at hx1 hx3) (fun v1 v1' hv1 => ?_)
    refine Lf_gS (lf_X8_at hx1 hx3) (fun v2 v2' hv2 => ?_)
    refine Lf_hA hv2.1 (by decide) (fun b2 => ?_)
    refine Lf_gS (lf_X8_greater (RJ.at hS rfl (tnE hv2.1 b2 (by decide)) rfl) (RJ.at hS rfl rfl rfl)) (fun v3 v3' hv3 => ?_)
    refine Lf_hA hv1.1 (by decide) (fun b3 => ?_)
    refine Lf_st (RT.sjq hS rfl (tnE hv1.1 b3 (by decide)) hv3 rfl) (fun S4 S4' hS4 => ?_)
    exact Lf_some (RP.mk hS4 (RI.lit 0 (by decide)))
def g_X8_takeOther_20 (S : AM) (x1 : Int) (y0 : Int) (y1 : Int) (y2 : Int) : Option (AM × Int) :=
  (g_X8_meant S y2 y1 y0).bind fun v1 =>
  if v1 ≤ 0 then
    c32 (S M_o 46) <|
    (g_X8_comesThere S x1 (S M_o 46)).bind fun S2 =>
    if (S2 M_o 45) ≠ 5 then
      g_X8_takeOther_70 S2 x1 (S M_o 46)
    else
      (g_X8_sending S2 x1 (S M_o 46)).bind fun v3 =>
      if 2 ≤ v3 then
        g_X8_takeOther_70 S2 x1 (S M_o 46)
      else
        (g_X8_doReset S2 x1 (S M_o 46) (S2 M_o 47)).bind fun S4 =>
        g_X8_takeOther_70 S4 x1 (S M_o 46)
  else
    some (S, v1)
set_option maxRecDepth 10000 in
theorem lf_X8_takeOther_20 {S : Mem} {S' : AM} (hS : (RT tM) S S') {x1 : Int32} {x1' : Int} (hx1 : RI x1 x1') {y0 : Int32} {y0' : Int} (hy0 : RI y0 y0') {y1 : Int64} {y1' : Int} (hy1 : RJ y1 y1') {y2 : Int32} {y2' : Int} (hy2 : RI y2 y2') : Lf (RP (RT tM) RI) (f_X8_takeOther_20 S x1 y0 y1 y2) (g_X8_takeOther_20 S' x1' y0' y1' y2') := by
  unfold f_X8_takeOther_20 g_X8_takeOther_20
  refine Lf_bind (lf_X8_meant hS hy2 hy1 hy0) (fun v1 v1' hv1 => ?_)
  refine Lf_ite (C_le hv1 (RI.lit 0 (by decide))) (fun c1 => ?_) (fun c1 => ?_)
  · refine Lf_c32 (fun b2 => ?_)
    refine Lf_bind (lf_X8_comesThere hS hx1 (RI.mk (F_32 (RJ.at hS rfl rfl rfl).1) b2)) (fun S2 S2' hS2 => ?_)
    refine Lf_ite (C_ne (RI.at hS2 rfl rfl rfl) (RI.lit 5 (by decide))) (fun c3 => ?_) (fun c3 => ?_)
    · exact lf_X8_takeOther_70 hS2 hx1 (RI.mk (F_32 (RJ.at hS rfl rfl rfl).1) b2)
    · refine Lf_bind (lf_X8_sending hS2 hx1 (RI.mk (F_32 (RJ.at hS rfl rfl rfl).1) b2)) (fun v3 v3' hv3 => ?_)
      refine Lf_ite (C_le (RI.lit 2 (by decide)) hv3) (fun c4 => ?_) (fun c4 => ?_)
      · exact lf_X8_takeOther_70 hS2 hx1 (RI.mk (F_32 (RJ.at hS rfl rfl rfl).1) b2)
      · refine Lf_bind (lf_X8_doReset hS2 hx1 (RI.mk (F_32 (RJ.at hS rfl rfl rfl).1) b2) (RJ.at hS2 rfl rfl rfl)) (fun S4 S4' hS4 => ?_)
        exact lf_X8_takeOther_70 hS4 hx1 (RI.mk (F_32 (RJ.at hS rfl rfl rfl).1) b2)
  · exact Lf_some (RP.mk hS hv1)
def g_X8_takeOther (S : AM) (x1 : Int) : Option (AM × Int) :=
  if (S M_o 45) = 21 then
    g_X8_takeOther_20 S x1 0 (S M_o 46) x1
  else
    g_X8_takeOther_20 S x1 1 (S M_o 46) x1
set_option maxRecDepth 10000 in
theorem lf_X8_takeOther {S : Mem} {S' : AM} (hS : (RT tM) S S') {x1 : Int32} {x1' : Int} (hx1 : RI x1 x1') : Lf (RP (RT tM) RI) (f_X8_takeOther S x1) (g_X8_takeOther S' x1') := by
  unfold f_X8_takeOther g_X8_takeOther
  refine Lf_ite (C_eq (RI.at hS rfl rfl rfl) (RI.lit 21 (by decide))) (fun c1 => ?_) (fun c1 => ?_)
  · exact lf_X8_takeOther_20 hS hx1 (RI.lit 0 (by decide)) (RJ.at hS rfl rfl rfl) hx1
  · exact lf_X8_takeOther_20 hS hx1 (RI.lit 1 (by decide)) (RJ.at hS rfl rfl rfl) hx1
def g_X8_takes_55 (S : AM) (x1 : Int) : Option (AM × Int) :=
  gB2 (g_X8_takeOther S x1) fun S1 v2 =>
  some (S1, v2)
set_option maxRecDepth 10000 in
theorem lf_X8_takes_55 {S : Mem} {S' : AM} (hS : (RT tM) S S') {x1 : Int32} {x1' : Int} (hx1 : RI x1 x1') : Lf (RP (RT tM) RI) (f_X8_takes_55 S x1) (g_X8_takes_55 S' x1') := by
  unfold f_X8_takes_55 g_X8_takes_55
  refine Lf_gB2 (lf_X8_takeOther hS hx1) (fun S1 S1' hS1 v2 v2' hv2 => ?_)
  exact Lf_some (RP.mk hS1 hv2)
def g_X8_takes_155 (S : AM) (y0 : Int) (y1 : Int) (y2 : Int) : Option (AM × Int) :=
  (g_X8_greater y1 y0).bind fun v1 =>
  hA y2 6 <|
  gS (uA S M_limits ((y2 : Int).toNat) v1) fun S2 =>
  some (S2, 0)
set_option maxRecDepth 10000 in
theorem lf_X8_takes_155 {S : Mem} {S' : AM} (hS : (RT tM) S S') {y0 : Int64} {y0' : Int} (hy0 : RJ y0 y0') {y1 : Int64} {y1' : Int} (hy1 : RJ y1 y1') {y2 : Int32} {y2' : Int} (hy2 : RI y2 y2') : Lf (RP (RT tM) RI) (f_X8_takes_155 S y0 y1 y2) (g_X8_takes_155 S' y0' y1' y2') := by
  unfold f_X8_takes_155 g_X8_takes_155
  refine Lf_gS (lf_X8_greater hy1 hy0) (fun v1 v1' hv1 => ?_)
  refine Lf_hA hy2.1 (by decide) (fun b1 => ?_)
  refine Lf_st (RT.sjq hS rfl (tnE hy2.1 b1 (by decide)) hv1 rfl) (fun S2 S2' hS2 => ?_)
  exact Lf_some (RP.mk hS2 (RI.lit 0 (by decide)))
def g_X8_takes_111 (S : AM) (x1 : Int) : Option (AM × Int) :=
  hA (((3 * x1) + (S M_o 45)) - 17) 6 <|
  if 64 ≤ (S M_o 46) then
    c32 (((3 * x1) + (S M_o 45)) - 17) <|
    g_X8_takes_155 S 64 (S M_limits ((((3 * x1) + (S M_o 45)) - 17) : Int).toNat) (((3 * x1) + (S M_o 45)) - 17)
  else
    c32 (((3 * x1) + (S M_o 45)) - 17) <|
    g_X8_takes_155 S (S M_o 46) (S M_limits ((((3 * x1) + (S M_o 45)) - 17) : Int).toNat) (((3 * x1) + (S M_o 45)) - 17)
set_option maxRecDepth 10000 in
theorem lf_X8_takes_111 {S : Mem} {S' : AM} (hS : (RT tM) S S') {x1 : Int32} {x1' : Int} (hx1 : RI x1 x1') : Lf (RP (RT tM) RI) (f_X8_takes_111 S x1) (g_X8_takes_111 S' x1') := by
  unfold f_X8_takes_111 g_X8_takes_111
  refine Lf_hA (E_sub (E_add (E_mul (li32 3) hx1.1) (RI.at hS rfl rfl rfl).1) (li32 17)) (by decide) (fun b1 => ?_)
  refine Lf_ite (D_le (RJ.lit 64 (by decide)) (RJ.at hS rfl rfl rfl)) (fun c2 => ?_) (fun c2 => ?_)
  · refine Lf_c32 (fun b3 => ?_)
    exact lf_X8_takes_155 hS (RJ.lit 64 (by decide)) (RJ.at hS rfl (tnE (E_sub (E_add (E_mul (li32 3) hx1.1) (RI.at hS rfl rfl rfl).1) (li32 17)) b1 (by decide)) rfl) (RI.mk (E_sub (E_add (E_mul (li32 3) hx1.1) (RI.at hS rfl rfl rfl).1) (li32 17)) b3)
  · refine Lf_c32 (fun b4 => ?_)
    exact lf_X8_takes_155 hS (RJ.at hS rfl rfl rfl) (RJ.at hS rfl (tnE (E_sub (E_add (E_mul (li32 3) hx1.1) (RI.at hS rfl rfl rfl).1) (li32 17)) b1 (by decide)) rfl) (RI.mk (E_sub (E_add (E_mul (li32 3) hx1.1) (RI.at hS rfl rfl rfl).1) (li32 17)) b4)
def g_X8_takes_93 (S : AM) (x1 : Int) : Option (AM × Int) :=
  if (S M_o 45) = 18 then
    g_X8_takes_111 S x1
  else
    if (S M_o 45) ≠ 19 then
      some (S, 0)
    else
      g_X8_takes_111 S x1
set_option maxRecDepth 10000 in
theorem lf_X8_takes_93 {S : Mem} {S' : AM} (hS : (RT tM) S S') {x1 : Int32} {x1' : Int} (hx1 : RI x1 x1') : Lf (RP (RT tM) RI) (f_X8_takes_93 S x1) (g_X8_takes_93 S' x1') := by
  unfold f_X8_takes_93 g_X8_takes_93
  refine Lf_ite (C_eq (RI.at hS rfl rfl rfl) (RI.lit 18 (by decide))) (fun c1 => ?_) (fun c1 => ?_)
  · exact lf_X8_takes_111 hS hx1
  · refine Lf_ite (C_ne (RI.at hS rfl rfl rfl) (RI.lit 19 (by decide))) (fun c2 => ?_) (fun c2 => ?_)
    · exact Lf_some (RP.mk hS (RI.lit 0 (by decide)))
    · exact lf_X8_takes_111 hS hx1
def g_X8_takes (S : AM) (x1 : Int) : Option (AM × Int) :=
  if (S M_o 45) ≠ 8 then
    if (S M_o 45) ≠ 4 then
      if (S M_o 45) = 5 then
        g_X8_takes_55 S x1
      else
        if (S M_o 45) = 17 then
          g_X8_takes_55 S x1
        else
          if (S M_o 45) ≠ 21 then
            if (S M_o 45) ≠ 16 then
              g_X8_takes_93 S x1
            else
              hA (3 * x1) 6 <|
              (g_X8_greater (S M_limits ((3 * x1) : Int).toNat) (S M_o 46)).bind fun v1 =>
              hA (3 * x1) 6 <|
              gS (uA S M_limits (((3 * x1) : Int).toNat) v1) fun S2 =>
              g_X8_takes_93 S2 x1
          else
            g_X8_takes_55 S x1
    else
      gB2 (g_X8_takeReset S x1) fun S3 v4 =>
      some (S3, v4)
  else
    gB2 (g_X8_takeStream S x1) fun S5 v6 =>
    some (S5, v6)
set_option maxRecDepth 10000 in
theorem lf_X8_takes {S : Mem} {S' : AM} (hS : (RT tM) S S') {x1 : Int32} {x1' : Int} (hx1 : RI x1 x1') : Lf (RP (RT tM) RI) (f_X8_takes S x1) (g_X8_takes S' x1') := by
  unfold f_X8_takes g_X8_takes
  refine Lf_ite (C_ne (RI.at hS rfl rfl rfl) (RI.lit 8 (by decide))) (fun c1 => ?_) (fun c1 => ?_)
  · refine Lf_ite (C_ne (RI.at hS rfl rfl rfl) (RI.lit 4 (by decide))) (fun c2 => ?_) (fun c2 => ?_)
    · refine Lf_ite (C_eq (RI.at hS rfl rfl rfl) (RI.lit 5 (by decide))) (fun c3 => ?_) (fun c3 => ?_)
      · exact lf_X8_takes_55 hS hx1
      · refine Lf_ite (C_eq (RI.at hS rfl rfl rfl) (RI.lit 17 (by decide))) (fun c4 => ?_) (fun c4 => ?_)
        · exact lf_X8_takes_55 hS hx1
        · refine Lf_ite (C_ne (RI.at hS rfl rfl rfl) (RI.lit 21 (by decide))) (fun c5 => ?_) (fun c5 => ?_)
          · refine Lf_ite (C_ne (RI.at hS rfl rfl rfl) (RI.lit 16 (by decide))) (fun c6 => ?_) (fun c6 => ?_)
            · exact lf_X8_takes_93 hS hx1
            · refine Lf_hA (E_mul (li32 3) hx1.1) (by decide) (fun b7 => ?_)
              refine Lf_gS (lf_X8_greater (RJ.at hS rfl (tnE (E_mul (li32 3) hx1.1) b7 (by decide)) rfl) (RJ.at hS rfl rfl rfl)) (fun v1 v1' hv1 => ?_)
              refine Lf_hA (E_mul (li32 3) hx1.1) (by decide) (fun b8 => ?_)
              refine Lf_st (RT.sjq hS rfl (tnE (E_mul (li32 3) hx1.1) b7 (by decide)) hv1 rfl) (fun S2 S2' hS2 => ?_)
              exact lf_X8_takes_93 hS2 hx1
          · exact lf_X8_takes_55 hS hx1
    · refine Lf_gB2 (lf_X8_takeReset hS hx1) (fun S3 S3' hS3 v4 v4' hv4 => ?_)
      exact Lf_some (RP.mk hS3 hv4)
  · refine Lf_gB2 (lf_X8_takeStream hS hx1) (fun S5 S5' hS5 v6 v6' hv6 => ?_)
    exact Lf_some (RP.mk hS5 hv6)
def g_X8_take_195_b (k195 : AM → Int → Int → Option (AM × Int)) (S : AM) (x1 : Int) (x11 : Int) : Option (AM × Int) :=
  if (S M_o 3) ≤ x11 then
    gS (uA S M_o 3 0) fun S1 =>
    gB2 (g_X8_takes S1 x1) fun S2 v3 =>
    some (S2, v3)
  else
    hA x11 2048 <|
    hA x11 2048 <|
    gS (uA S M_fData ((x11 : Int).toNat) (b8 (b8 (S M_tape (x11 : Int).toNat)))) fun S4 =>
    c32 (x11 + 1) <|
    k195 S4 x1 (x11 + 1)
set_option maxRecDepth 10000 in
theorem lf_X8_take_195_b {k195 : Mem → Int32 → Int32 → Option (Mem × Int32)} {k195' : AM → Int → Int → Option (AM × Int)} (hk195 : ∀ {y0 : Mem} {y0' : AM}, (RT tM) y0 y0' → ∀ {y1 : Int32} {y1' : Int}, RI y1 y1' → ∀ {y2 : Int32} {y2' : Int}, RI y2 y2' → Lf (RP (RT tM) RI) (k195 y0 y1 y2) (k195' y0' y1' y2')) {S : Mem} {S' : AM} (hS : (RT tM) S S') {x1 : Int32} {x1' : Int} (hx1 : RI x1 x1') {x11 : Int32} {x11' : Int} (hx11 : RI x11 x11') : Lf (RP (RT tM) RI) (f_X8_take_195_b k195 S x1 x11) (g_X8_take_195_b k195' S' x1' x11') := by
  unfold f_X8_take_195_b g_X8_take_195_b
  refine Lf_ite (C_le (RI.at hS rfl rfl rfl) hx11) (fun c1 => ?_) (fun c1 => ?_)
  · refine Lf_st (RT.siq hS rfl rfl (RI.lit 0 (by decide)) rfl) (fun S1 S1' hS1 => ?_)
    refine Lf_gB2 (lf_X8_takes hS1 hx1) (fun S2 S2' hS2 v3 v3' hv3 => ?_)
    exact Lf_some (RP.mk hS2 hv3)
  · refine Lf_hA hx11.1 (by decide) (fun b2 => ?_)
    refine Lf_hA hx11.1 (by decide) (fun b3 => ?_)
    refine Lf_st (RT.siq hS rfl (tnE hx11.1 b2 (by decide)) (RI.mk (E_nb (RI.mk (E_b8 (RI.at hS rfl (tnE hx11.1 b2 (by decide)) rfl)) (R_b8 _))) (R_b8 _)) rfl) (fun S4 S4' hS4 => ?_)
    refine Lf_c32 (fun b4 => ?_)
    exact hk195 hS4 hx1 (RI.mk (E_add hx11.1 (li32 1)) b4)
def g_X8_take_195 : Nat → AM → Int → Int → Option (AM × Int)
  | 0, _, _, _ => none
  | n + 1, S, x1, x11 => g_X8_take_195_b (g_X8_take_195 n) S x1 x11
set_option maxRecDepth 10000 in
theorem lf_X8_take_195 (n : Nat) : ∀ {S : Mem} {S' : AM}, (RT tM) S S' → ∀ {x1 : Int32} {x1' : Int}, RI x1 x1' → ∀ {x11 : Int32} {x11' : Int}, RI x11 x11' → Lf (RP (RT tM) RI) (f_X8_take_195 n S x1 x11) (g_X8_take_195 n S' x1' x11') := by
  induction n with
  | zero => intros; exact Lf_none
  | succ n ih => intro S S' hS x1 x1' hx1 x11 x11' hx11; exact lf_X8_take_195_b ih hS hx1 hx11
def g_X8_take_153 (S : AM) (x1 : Int) (x2 : Int) (x3 : Int) (x5 : Int) (x7 : Int) (y0 : Int) : Option (AM × Int) :=
  gB2 (g_X8_fails S y0 2) fun S1 v2 =>
  if v2 = 0 then
    gS (uA S1 M_o 45 x2) fun S3 =>
    gS (uA S3 M_o 46 x3) fun S4 =>
    gS (uA S4 M_o 47 x5) fun S5 =>
    gS (uA S5 M_o 48 x7) fun S6 =>
    gS (uA S6 M_o 49 (S6 M_o 3)) fun S7 =>
    g_X8_take_195 FU S7 x1 0
  else
    some (S1, 0)
set_option maxRecDepth 10000 in
theorem lf_X8_take_153 {S : Mem} {S' : AM} (hS : (RT tM) S S') {x1 : Int32} {x1' : Int} (hx1 : RI x1 x1') {x2 : Int32} {x2' : Int} (hx2 : RI x2 x2') {x3 : Int64} {x3' : Int} (hx3 : RJ x3 x3') {x5 : Int64} {x5' : Int} (hx5 : RJ x5 x5') {x7 : Int64} {x7' : Int} (hx7 : RJ x7 x7') {y0 : Int32} {y0' : Int} (hy0 : RI y0 y0') : Lf (RP (RT tM) RI) (f_X8_take_153 S x1 x2 x3 x5 x7 y0) (g_X8_take_153 S' x1' x2' x3' x5' x7' y0') := by
  unfold f_X8_take_153 g_X8_take_153
  refine Lf_gB2 (lf_X8_fails hS hy0 (RI.lit 2 (by decide))) (fun S1 S1' hS1 v2 v2' hv2 => ?_)
  refine Lf_ite (C_eq hv2 (RI.lit 0 (by decide))) (fun c1 => ?_) (fun c1 => ?_)
  · refine Lf_st (RT.siq hS1 rfl rfl hx2 rfl) (fun S3 S3' hS3 => ?_)
    refine Lf_st (RT.sjq hS3 rfl rfl hx3 rfl) (fun S4 S4' hS4 => ?_)
    refine Lf_st (RT.sjq hS4 rfl rfl hx5 rfl) (fun S5 S5' hS5 => ?_)
    refine Lf_st (RT.sjq hS5 rfl rfl hx7 rfl) (fun S6 S6' hS6 => ?_)
    refine Lf_st (RT.siq hS6 rfl rfl (RI.at hS6 rfl rfl rfl) rfl) (fun S7 S7' hS7 => ?_)
    exact lf_X8_take_195 FU hS7 hx1 (RI.lit 0 (by decide))
  · exact Lf_some (RP.mk hS1 (RI.lit 0 (by decide)))
def g_X8_take_133 (S : AM) (x1 : Int) (x2 : Int) (x3 : Int) (x5 : Int) (x7 : Int) (y0 : Int) : Option (AM × Int) :=
  gB2 (g_X8_fails S y0 1) fun S1 v2 =>
  if v2 ≠ 0 then
    some (S1, 0)
  else
    if (S1 M_o 1) ≠ 0 then
      g_X8_take_153 S1 x1 x2 x3 x5 x7 0
    else
      g_X8_take_153 S1 x1 x2 x3 x5 x7 1
set_option maxRecDepth 10000 in
theorem lf_X8_take_133 {S : Mem} {S' : AM} (hS : (RT tM) S S') {x1 : Int32} {x1' : Int} (hx1 : RI x1 x1') {x2 : Int32} {x2' : Int} (hx2 : RI x2 x2') {x3 : Int64} {x3' : Int} (hx3 : RJ x3 x3') {x5 : Int64} {x5' : Int} (hx5 : RJ x5 x5') {x7 : Int64} {x7' : Int} (hx7 : RJ x7 x7') {y0 : Int32} {y0' : Int} (hy0 : RI y0 y0') : Lf (RP (RT tM) RI) (f_X8_take_133 S x1 x2 x3 x5 x7 y0) (g_X8_take_133 S' x1' x2' x3' x5' x7' y0') := by
  unfold f_X8_take_133 g_X8_take_133
  refine Lf_gB2 (lf_X8_fails hS hy0 (RI.lit 1 (by decide))) (fun S1 S1' hS1 v2 v2' hv2 => ?_)
  refine Lf_ite (C_ne hv2 (RI.lit 0 (by decide))) (fun c1 => ?_) (fun c1 => ?_)
  · exact Lf_some (RP.mk hS1 (RI.lit 0 (by decide)))
  · refine Lf_ite (C_ne (RI.at hS1 rfl rfl rfl) (RI.lit 0 (by decide))) (fun c2 => ?_) (fun c2 => ?_)
    · exact lf_X8_take_153 hS1 hx1 hx2 hx3 hx5 hx7 (RI.lit 0 (by decide))
    · exact lf_X8_take_153 hS1 hx1 hx2 hx3 hx5 hx7 (RI.lit 1 (by decide))
def g_X8_take_128 (S : AM) (x1 : Int) (x2 : Int) (x3 : Int) (x5 : Int) (x7 : Int) : Option (AM × Int) :=
  g_X8_take_133 S x1 x2 x3 x5 x7 1
set_option maxRecDepth 10000 in
theorem lf_X8_take_128 {S : Mem} {S' : AM} (hS : (RT tM) S S') {x1 : Int32} {x1' : Int} (hx1 : RI x1 x1') {x2 : Int32} {x2' : Int} (hx2 : RI x2 x2') {x3 : Int64} {x3' : Int} (hx3 : RJ x3 x3') {x5 : Int64} {x5' : Int} (hx5 : RJ x5 x5') {x7 : Int64} {x7' : Int} (hx7 : RJ x7 x7') : Lf (RP (RT tM) RI) (f_X8_take_128 S x1 x2 x3 x5 x7) (g_X8_take_128 S' x1' x2' x3' x5' x7') := by
  unfold f_X8_take_128 g_X8_take_128
  exact lf_X8_take_133 hS hx1 hx2 hx3 hx5 hx7 (RI.lit 1 (by decide))
def g_X8_take_108 (S : AM) (x1 : Int) (x2 : Int) (x3 : Int) (x5 : Int) (x7 : Int) (x9 : Int) (y0 : Int) : Option (AM × Int) :=
  (g_X8_noSide x1).bind fun v1 =>
  if v1 ≠ 0 then
    g_X8_take_128 S x1 x2 x3 x5 x7
  else
    if x9 = 0 then
      g_X8_take_128 S x1 x2 x3 x5 x7
    else
      if y0 ≠ 0 then
        g_X8_take_133 S x1 x2 x3 x5 x7 0
      else
        g_X8_take_128 S x1 x2 x3 x5 x7
set_option maxRecDepth 10000 in
theorem lf_X8_take_108 {S : Mem} {S' : AM} (hS : (RT tM) S S') {x1 : Int32} {x1' : Int} (hx1 : RI x1 x1') {x2 : Int32} {x2' : Int} (hx2 : RI x2 x2') {x3 : Int64} {x3' : Int} (hx3 : RJ x3 x3') {x5 : Int64} {x5' : Int} (hx5 : RJ x5 x5') {x7 : Int64} {x7' : Int} (hx7 : RJ x7 x7') {x9 : Int32} {x9' : Int} (hx9 : RI x9 x9') {y0 : Int32} {y0' : Int} (hy0 : RI y0 y0') : Lf (RP (RT tM) RI) (f_X8_take_108 S x1 x2 x3 x5 x7 x9 y0) (g_X8_take_108 S' x1' x2' x3' x5' x7' x9' y0') := by
  unfold f_X8_take_108 g_X8_take_108
  refine Lf_gS (lf_X8_noSide hx1) (fun v1 v1' hv1 => ?_)
  refine Lf_ite (C_ne hv1 (RI.lit 0 (by decide))) (fun c1 => ?_) (fun c1 => ?_)
  · exact lf_X8_take_128 hS hx1 hx2 hx3 hx5 hx7
  · refine Lf_ite (C_eq hx9 (RI.lit 0 (by decide))) (fun c2 => ?_) (fun c2 => ?_)
    · exact lf_X8_take_128 hS hx1 hx2 hx3 hx5 hx7
    · refine Lf_ite (C_ne hy0 (RI.lit 0 (by decide))) (fun c3 => ?_) (fun c3 => ?_)
      · exact lf_X8_take_133 hS hx1 hx2 hx3 hx5 hx7 (RI.lit 0 (by decide))
      · exact lf_X8_take_128 hS hx1 hx2 hx3 hx5 hx7
def g_X8_take_107 (S : AM) (x1 : Int) (x2 : Int) (x3 : Int) (x5 : Int) (x7 : Int) (x9 : Int) : Option (AM × Int) :=
  g_X8_take_108 S x1 x2 x3 x5 x7 x9 0
set_option maxRecDepth 10000 in
theorem lf_X8_take_107 {S : Mem} {S' : AM} (hS : (RT tM) S S') {x1 : Int32} {x1' : Int} (hx1 : RI x1 x1') {x2 : Int32} {x2' : Int} (hx2 : RI x2 x2') {x3 : Int64} {x3' : Int} (hx3 : RJ x3 x3') {x5 : Int64} {x5' : Int} (hx5 : RJ x5 x5') {x7 : Int64} {x7' : Int} (hx7 : RJ x7 x7') {x9 : Int32} {x9' : Int} (hx9 : RI x9 x9') : Lf (RP (RT tM) RI) (f_X8_take_107 S x1 x2 x3 x5 x7 x9) (g_X8_take_107 S' x1' x2' x3' x5' x7' x9') := by
  unfold f_X8_take_107 g_X8_take_107
  exact lf_X8_take_108 hS hx1 hx2 hx3 hx5 hx7 hx9 (RI.lit 0 (by decide))
def g_X8_take_99 (S : AM) (x1 : Int) (x2 : Int) (x3 : Int) (x5 : Int) (x7 : Int) (x9 : Int) (y0 : Int) (y1 : Int) : Option (AM × Int) :=
  if y0 < y1 then
    g_X8_take_107 S x1 x2 x3 x5 x7 x9
  else
    g_X8_take_108 S x1 x2 x3 x5 x7 x9 1
set_option maxRecDepth 10000 in
theorem lf_X8_take_99 {S : Mem} {S' : AM} (hS : (RT tM) S S') {x1 : Int32} {x1' : Int} (hx1 : RI x1 x1') {x2 : Int32} {x2' : Int} (hx2 : RI x2 x2') {x3 : Int64} {x3' : Int} (hx3 : RJ x3 x3') {x5 : Int64} {x5' : Int} (hx5 : RJ x5 x5') {x7 : Int64} {x7' : Int} (hx7 : RJ x7 x7') {x9 : Int32} {x9' : Int} (hx9 : RI x9 x9') {y0 : Int64} {y0' : Int} (hy0 : RJ y0 y0') {y1 : Int64} {y1' : Int} (hy1 : RJ y1 y1') : Lf (RP (RT tM) RI) (f_X8_take_99 S x1 x2 x3 x5 x7 x9 y0 y1) (g_X8_take_99 S' x1' x2' x3' x5' x7' x9' y0' y1') := by
  unfold f_X8_take_99 g_X8_take_99
  refine Lf_ite (D_lt hy0 hy1) (fun c1 => ?_) (fun c1 => ?_)
  · exact lf_X8_take_107 hS hx1 hx2 hx3 hx5 hx7 hx9
  · exact lf_X8_take_108 hS hx1 hx2 hx3 hx5 hx7 hx9 (RI.lit 1 (by decide))
def g_X8_take_73 (S : AM) (x1 : Int) (x2 : Int) (x3 : Int) (x5 : Int) (x7 : Int) (x9 : Int) (y0 : Int) (y1 : Int) : Option (AM × Int) :=
  if y0 < y1 then
    g_X8_take_107 S x1 x2 x3 x5 x7 x9
  else
    if x7 < 0 then
      g_X8_take_107 S x1 x2 x3 x5 x7 x9
    else
      if x2 ≠ 8 then
        g_X8_take_99 S x1 x2 x3 x5 x7 x9 4611686018427387903 x7
      else
        g_X8_take_99 S x1 x2 x3 x5 x7 x9 1 x7
set_option maxRecDepth 10000 in
theorem lf_X8_take_73 {S : Mem} {S' : AM} (hS : (RT tM) S S') {x1 : Int32} {x1' : Int} (hx1 : RI x1 x1') {x2 : Int32} {x2' : Int} (hx2 : RI x2 x2') {x3 : Int64} {x3' : Int} (hx3 : RJ x3 x3') {x5 : Int64} {x5' : Int} (hx5 : RJ x5 x5') {x7 : Int64} {x7' : Int} (hx7 : RJ x7 x7') {x9 : Int32} {x9' : Int} (hx9 : RI x9 x9') {y0 : Int64} {y0' : Int} (hy0 : RJ y0 y0') {y1 : Int64} {y1' : Int} (hy1 : RJ y1 y1') : Lf (RP (RT tM) RI) (f_X8_take_73 S x1 x2 x3 x5 x7 x9 y0 y1) (g_X8_take_73 S' x1' x2' x3' x5' x7' x9' y0' y1') := by
  unfold f_X8_take_73 g_X8_take_73
  refine Lf_ite (D_lt hy0 hy1) (fun c1 => ?_) (fun c1 => ?_)
  · exact lf_X8_take_107 hS hx1 hx2 hx3 hx5 hx7 hx9
  · refine Lf_ite (D_lt hx7 (RJ.lit 0 (by decide))) (fun c2 => ?_) (fun c2 => ?_)
    · exact lf_X8_take_107 hS hx1 hx2 hx3 hx5 hx7 hx9
    · refine Lf_ite (C_ne hx2 (RI.lit 8 (by decide))) (fun c3 => ?_) (fun c3 => ?_)
      · exact lf_X8_take_99 hS hx1 hx2 hx3 hx5 hx7 hx9 (RJ.lit 4611686018427387903 (by decide)) hx7
      · exact lf_X8_take_99 hS hx1 hx2 hx3 hx5 hx7 hx9 (RJ.lit 1 (by decide)) hx7
def g_X8_take_33 (S : AM) (x1 : Int) (x2 : Int) (x3 : Int) (x5 : Int) (x7 : Int) (y0 : Int) : Option (AM × Int) :=
  if x3 < 0 then
    g_X8_take_107 S x1 x2 x3 x5 x7 y0
  else
    if 4611686018427387903 < x3 then
      g_X8_take_107 S x1 x2 x3 x5 x7 y0
    else
      if x5 < 0 then
        g_X8_take_107 S x1 x2 x3 x5 x7 y0
      else
        if x2 ≠ 8 then
          g_X8_take_73 S x1 x2 x3 x5 x7 y0 4611686018427387903 x5
        else
          g_X8_take_73 S x1 x2 x3 x5 x7 y0 4611686018427380000 x5
set_option maxRecDepth 10000 in
theorem lf_X8_take_33 {S : Mem} {S' : AM} (hS : (RT tM) S S') {x1 : Int32} {x1' : Int} (hx1 : RI x1 x1') {x2 : Int32} {x2' : Int} (hx2 : RI x2 x2') {x3 : Int64} {x3' : Int} (hx3 : RJ x3 x3') {x5 : Int64} {x5' : Int} (hx5 : RJ x5 x5') {x7 : Int64} {x7' : Int} (hx7 : RJ x7 x7') {y0 : Int32} {y0' : Int} (hy0 : RI y0 y0') : Lf (RP (RT tM) RI) (f_X8_take_33 S x1 x2 x3 x5 x7 y0) (g_X8_take_33 S' x1' x2' x3' x5' x7' y0') := by
  unfold f_X8_take_33 g_X8_take_33
  refine Lf_ite (D_lt hx3 (RJ.lit 0 (by decide))) (fun c1 => ?_) (fun c1 => ?_)
  · exact lf_X8_take_107 hS hx1 hx2 hx3 hx5 hx7 hy0
  · refine Lf_ite (D_lt (RJ.lit 4611686018427387903 (by decide)) hx3) (fun c2 => ?_) (fun c2 => ?_)
    · exact lf_X8_take_107 hS hx1 hx2 hx3 hx5 hx7 hy0
    · refine Lf_ite (D_lt hx5 (RJ.lit 0 (by decide))) (fun c3 => ?_) (fun c3 => ?_)
      · exact lf_X8_take_107 hS hx1 hx2 hx3 hx5 hx7 hy0
      · refine Lf_ite (C_ne hx2 (RI.lit 8 (by decide))) (fun c4 => ?_) (fun c4 => ?_)
        · exact lf_X8_take_73 hS hx1 hx2 hx3 hx5 hx7 hy0 (RJ.lit 4611686018427387903 (by decide)) hx5
        · exact lf_X8_take_73 hS hx1 hx2 hx3 hx5 hx7 hy0 (RJ.lit 4611686018427380000 (by decide)) hx5
def g_X8_take_28 (S : AM) (x1 : Int) (x2 : Int) (x3 : Int) (x5 : Int) (x7 : Int) : Option (AM × Int) :=
  g_X8_take_33 S x1 x2 x3 x5 x7 1
set_option maxRecDepth 10000 in
theorem lf_X8_take_28 {S : Mem} {S' : AM} (hS : (RT tM) S S') {x1 : Int32} {x1' : Int} (hx1 : RI x1 x1') {x2 : Int32} {x2' : Int} (hx2 : RI x2 x2') {x3 : Int64} {x3' : Int} (hx3 : RJ x3 x3') {x5 : Int64} {x5' : Int} (hx5 : RJ x5 x5') {x7 : Int64} {x7' : Int} (hx7 : RJ x7 x7') : Lf (RP (RT tM) RI) (f_X8_take_28 S x1 x2 x3 x5 x7) (g_X8_take_28 S' x1' x2' x3' x5' x7') := by
  unfold f_X8_take_28 g_X8_take_28
  exact lf_X8_take_33 hS hx1 hx2 hx3 hx5 hx7 (RI.lit 1 (by decide))
def g_X8_take_32 (S : AM) (x1 : Int) (x2 : Int) (x3 : Int) (x5 : Int) (x7 : Int) : Option (AM × Int) :=
  g_X8_take_33 S x1 x2 x3 x5 x7 0
set_option maxRecDepth 10000 in
theorem lf_X8_take_32 {S : Mem} {S' : AM} (hS : (RT tM) S S') {x1 : Int32} {x1' : Int} (hx1 : RI x1 x1') {x2 : Int32} {x2' : Int} (hx2 : RI x2 x2') {x3 : Int64} {x3' : Int} (hx3 : RJ x3 x3') {x5 : Int64} {x5' : Int} (hx5 : RJ x5 x5') {x7 : Int64} {x7' : Int} (hx7 : RJ x7 x7') : Lf (RP (RT tM) RI) (f_X8_take_32 S x1 x2 x3 x5 x7) (g_X8_take_32 S' x1' x2' x3' x5' x7') := by
  unfold f_X8_take_32 g_X8_take_32
  exact lf_X8_take_33 hS hx1 hx2 hx3 hx5 hx7 (RI.lit 0 (by decide))
def g_X8_take (S : AM) (x1 : Int) (x2 : Int) (x3 : Int) (x5 : Int) (x7 : Int) : Option (AM × Int) :=
  if x2 = 4 then
    g_X8_take_28 S x1 x2 x3 x5 x7
  else
    if x2 = 5 then
      g_X8_take_28 S x1 x2 x3 x5 x7
    else
      if x2 = 8 then
        g_X8_take_28 S x1 x2 x3 x5 x7
      else
        if x2 < 16 then
          g_X8_take_32 S x1 x2 x3 x5 x7
        else
          if 23 < x2 then
            g_X8_take_32 S x1 x2 x3 x5 x7
          else
            g_X8_take_28 S x1 x2 x3 x5 x7
set_option maxRecDepth 10000 in
theorem lf_X8_take {S : Mem} {S' : AM} (hS : (RT tM) S S') {x1 : Int32} {x1' : Int} (hx1 : RI x1 x1') {x2 : Int32} {x2' : Int} (hx2 : RI x2 x2') {x3 : Int64} {x3' : Int} (hx3 : RJ x3 x3') {x5 : Int64} {x5' : Int} (hx5 : RJ x5 x5') {x7 : Int64} {x7' : Int} (hx7 : RJ x7 x7') : Lf (RP (RT tM) RI) (f_X8_take S x1 x2 x3 x5 x7) (g_X8_take S' x1' x2' x3' x5' x7') := by
  unfold f_X8_take g_X8_take
  refine Lf_ite (C_eq hx2 (RI.lit 4 (by decide))) (fun c1 => ?_) (fun c1 => ?_)
  · exact lf_X8_take_28 hS hx1 hx2 hx3 hx5 hx7
  · refine Lf_ite (C_eq hx2 (RI.lit 5 (by decide))) (fun c2 => ?_) (fun c2 => ?_)
    · exact lf_X8_take_28 hS hx1 hx2 hx3 hx5 hx7
    · refine Lf_ite (C_eq hx2 (RI.lit 8 (by decide))) (fun c3 => ?_) (fun c3 => ?_)
      · exact lf_X8_take_28 hS hx1 hx2 hx3 hx5 hx7
      · refine Lf_ite (C_lt hx2 (RI.lit 16 (by decide))) (fun c4 => ?_) (fun c4 => ?_)
        · exact lf_X8_take_32 hS hx1 hx2 hx3 hx5 hx7
        · refine Lf_ite (C_lt (RI.lit 23 (by decide)) hx2) (fun c5 => ?_) (fun c5 => ?_)
          · exact lf_X8_take_32 hS hx1 hx2 hx3 hx5 hx7
          · exact lf_X8_take_28 hS hx1 hx2 hx3 hx5 hx7
def g_X8_freePlace_2_b (S : AM) (k2 : Int → Option (Int)) (x1 : Int) : Option (Int) :=
  if 64 ≤ x1 then
    some (-1)
  else
    hA x1 64 <|
    if (S M_lineUsed (x1 : Int).toNat) ≠ 0 then
      c32 (x1 + 1) <|
      k2 (x1 + 1)
    else
      some (x1)
set_option maxRecDepth 10000 in
theorem lf_X8_freePlace_2_b {S : Mem} {S' : AM} (hS : (RT tM) S S') {k2 : Int32 → Option (Int32)} {k2' : Int → Option (Int)} (hk2 : ∀ {y0 : Int32} {y0' : Int}, RI y0 y0' → Lf RI (k2 y0) (k2' y0')) {x1 : Int32} {x1' : Int} (hx1 : RI x1 x1') : Lf RI (f_X8_freePlace_2_b S k2 x1) (g_X8_freePlace_2_b S' k2' x1') := by
  unfold f_X8_freePlace_2_b g_X8_freePlace_2_b
  refine Lf_ite (C_le (RI.lit 64 (by decide)) hx1) (fun c1 => ?_) (fun c1 => ?_)
  · exact Lf_some RI.m1
  · refine Lf_hA hx1.1 (by decide) (fun b2 => ?_)
    refine Lf_ite (C_ne (RI.at hS rfl (tnE hx1.1 b2 (by decide)) rfl) (RI.lit 0 (by decide))) (fun c3 => ?_) (fun c3 => ?_)
    · refine Lf_c32 (fun b4 => ?_)
      exact hk2 (RI.mk (E_add hx1.1 (li32 1)) b4)
    · exact Lf_some hx1
def g_X8_freePlace_2 (S : AM) : Nat → Int → Option (Int)
  | 0, _ => none
  | n + 1, x1 => g_X8_freePlace_2_b S (g_X8_freePlace_2 S n) x1
set_option maxRecDepth 10000 in
theorem lf_X8_freePlace_2 {S : Mem} {S' : AM} (hS : (RT tM) S S') (n : Nat) : ∀ {x1 : Int32} {x1' : Int}, RI x1 x1' → Lf RI (f_X8_freePlace_2 S n x1) (g_X8_freePlace_2 S' n x1') := by
  induction n with
  | zero => intros; exact Lf_none
  | succ n ih => intro x1 x1' hx1; exact lf_X8_freePlace_2_b hS ih hx1
def g_X8_freePlace (S : AM) : Option (Int) :=
  g_X8_freePlace_2 S FU 0
set_option maxRecDepth 10000 in
theorem lf_X8_freePlace {S : Mem} {S' : AM} (hS : (RT tM) S S') : Lf RI (f_X8_freePlace S) (g_X8_freePlace S') := by
  unfold f_X8_freePlace g_X8_freePlace
  exact lf_X8_freePlace_2 hS FU (RI.lit 0 (by decide))
def g_X8_sent (S : AM) (x1 : Int) (x2 : Int) : Option (Int) :=
  (g_X8_count S x1 x2 (-2)).bind fun v1 =>
  some (v1)
set_option maxRecDepth 10000 in
theorem lf_X8_sent {S : Mem} {S' : AM} (hS : (RT tM) S S') {x1 : Int32} {x1' : Int} (hx1 : RI x1 x1') {x2 : Int32} {x2' : Int} (hx2 : RI x2 x2') : Lf RI (f_X8_sent S x1 x2) (g_X8_sent S' x1' x2') := by
  unfold f_X8_sent g_X8_sent
  refine Lf_bind (lf_X8_count hS hx1 hx2 RI.m2) (fun v1 v1' hv1 => ?_)
  exact Lf_some hv1
def g_X8_sizeOf (x0 : Int) : Option (Int) :=
  if 64 ≤ x0 then
    if 16384 ≤ x0 then
      if 1073741824 ≤ x0 then
        some (8)
      else
        some (4)
    else
      some (2)
  else
    some (1)
set_option maxRecDepth 10000 in
theorem lf_X8_sizeOf {x0 : Int64} {x0' : Int} (hx0 : RJ x0 x0') : Lp RI (f_X8_sizeOf x0) (g_X8_sizeOf x0') := by
  unfold f_X8_sizeOf g_X8_sizeOf
  refine Lp_ite (D_le (RJ.lit 64 (by decide)) hx0) (fun c1 => ?_) (fun c1 => ?_)
  · refine Lp_ite (D_le (RJ.lit 16384 (by decide)) hx0) (fun c2 => ?_) (fun c2 => ?_)
    · refine Lp_ite (D_le (RJ.lit 1073741824 (by decide)) hx0) (fun c3 => ?_) (fun c3 => ?_)
      · exact Lp_val (RI.lit 8 (by decide))
      · exact Lp_val (RI.lit 4 (by decide))
    · exact Lp_val (RI.lit 2 (by decide))
  · exact Lp_val (RI.lit 1 (by decide))
def g_X8_bytes_38 (S : AM) (y0 : Int) (y1 : Int) : Option (Int) :=
  (g_X8_sizeOf (S M_o 49)).bind fun v1 =>
  c32 (((y1 + y0) + v1) + (S M_o 49)) <|
  some (((y1 + y0) + v1) + (S M_o 49))
set_option maxRecDepth 10000 in
theorem lf_X8_bytes_38 {S : Mem} {S' : AM} (hS : (RT tM) S S') {y0 : Int32} {y0' : Int} (hy0 : RI y0 y0') {y1 : Int32} {y1' : Int} (hy1 : RI y1 y1') : Lp RI (f_X8_bytes_38 S y0 y1) (g_X8_bytes_38 S' y0' y1') := by
  unfold f_X8_bytes_38 g_X8_bytes_38
  refine Lp_gS (lf_X8_sizeOf (RJ.mk (E_64 (RI.at hS rfl rfl rfl)) (R_64 (RI.at hS rfl rfl rfl).2))) (fun v1 v1' hv1 => ?_)
  refine Lp_c32 (fun b1 => ?_)
  exact Lp_val (RI.mk (E_add (E_add (E_add hy1.1 hy0.1) hv1.1) (RI.at hS rfl rfl rfl).1) b1)
def g_X8_bytes_108 (S : AM) (x1 : Int) : Option (Int) :=
  if (S M_o 45) ≠ 4 then
    some (x1)
  else
    (g_X8_sizeOf (S M_o 48)).bind fun v1 =>
    c32 (x1 + v1) <|
    some (x1 + v1)
set_option maxRecDepth 10000 in
theorem lf_X8_bytes_108 {S : Mem} {S' : AM} (hS : (RT tM) S S') {x1 : Int32} {x1' : Int} (hx1 : RI x1 x1') : Lp RI (f_X8_bytes_108 S x1) (g_X8_bytes_108 S' x1') := by
  unfold f_X8_bytes_108 g_X8_bytes_108
  refine Lp_ite (C_ne (RI.at hS rfl rfl rfl) (RI.lit 4 (by decide))) (fun c1 => ?_) (fun c1 => ?_)
  · exact Lp_val hx1
  · refine Lp_gS (lf_X8_sizeOf (RJ.at hS rfl rfl rfl)) (fun v1 v1' hv1 => ?_)
    refine Lp_c32 (fun b2 => ?_)
    exact Lp_val (RI.mk (E_add hx1.1 hv1.1) b2)
def g_X8_bytes_98 (S : AM) (x1 : Int) : Option (Int) :=
  (g_X8_sizeOf (S M_o 47)).bind fun v1 =>
  c32 (x1 + v1) <|
  g_X8_bytes_108 S (x1 + v1)
set_option maxRecDepth 10000 in
theorem lf_X8_bytes_98 {S : Mem} {S' : AM} (hS : (RT tM) S S') {x1 : Int32} {x1' : Int} (hx1 : RI x1 x1') : Lp RI (f_X8_bytes_98 S x1) (g_X8_bytes_98 S' x1') := by
  unfold f_X8_bytes_98 g_X8_bytes_98
  refine Lp_gS (lf_X8_sizeOf (RJ.at hS rfl rfl rfl)) (fun v1 v1' hv1 => ?_)
  refine Lp_c32 (fun b1 => ?_)
  exact lf_X8_bytes_108 hS (RI.mk (E_add hx1.1 hv1.1) b1)
def g_X8_bytes (S : AM) : Option (Int) :=
  if (S M_o 45) ≠ 8 then
    (g_X8_sizeOf (S M_o 46)).bind fun v1 =>
    if (S M_o 45) = 4 then
      c32 (1 + v1) <|
      g_X8_bytes_98 S (1 + v1)
    else
      if (S M_o 45) = 5 then
        c32 (1 + v1) <|
        g_X8_bytes_98 S (1 + v1)
      else
        if (S M_o 45) = 17 then
          c32 (1 + v1) <|
          g_X8_bytes_98 S (1 + v1)
        else
          if (S M_o 45) ≠ 21 then
            c32 (1 + v1) <|
            g_X8_bytes_108 S (1 + v1)
          else
            c32 (1 + v1) <|
            g_X8_bytes_98 S (1 + v1)
  else
    (g_X8_sizeOf (S M_o 46)).bind fun v2 =>
    if (S M_o 47) ≤ 0 then
      c32 (1 + v2) <|
      g_X8_bytes_38 S 0 (1 + v2)
    else
      (g_X8_sizeOf (S M_o 47)).bind fun v3 =>
      c32 (1 + v2) <|
      g_X8_bytes_38 S v3 (1 + v2)
set_option maxRecDepth 10000 in
theorem lf_X8_bytes {S : Mem} {S' : AM} (hS : (RT tM) S S') : Lp RI (f_X8_bytes S) (g_X8_bytes S') := by
  unfold f_X8_bytes g_X8_bytes
  refine Lp_ite (C_ne (RI.at hS rfl rfl rfl) (RI.lit 8 (by decide))) (fun c1 => ?_) (fun c1 => ?_)
  · refine Lp_gS (lf_X8_sizeOf (RJ.at hS rfl rfl rfl)) (fun v1 v1' hv1 => ?_)
    refine Lp_ite (C_eq (RI.at hS rfl rfl rfl) (RI.lit 4 (by decide))) (fun c2 => ?_) (fun c2 => ?_)
    · refine Lp_c32 (fun b3 => ?_)
      exact lf_X8_bytes_98 hS (RI.mk (E_add (li32 1) hv1.1) b3)
    · refine Lp_ite (C_eq (RI.at hS rfl rfl rfl) (RI.lit 5 (by decide))) (fun c4 => ?_) (fun c4 => ?_)
      · refine Lp_c32 (fun b5 => ?_)
        exact lf_X8_bytes_98 hS (RI.mk (E_add (li32 1) hv1.1) b5)
      · refine Lp_ite (C_eq (RI.at hS rfl rfl rfl) (RI.lit 17 (by decide))) (fun c6 => ?_) (fun c6 => ?_)
        · refine Lp_c32 (fun b7 => ?_)
          exact lf_X8_bytes_98 hS (RI.mk (E_add (li32 1) hv1.1) b7)
        · refine Lp_ite (C_ne (RI.at hS rfl rfl rfl) (RI.lit 21 (by decide))) (fun c8 => ?_) (fun c8 => ?_)
          · refine Lp_c32 (fun b9 => ?_)
            exact lf_X8_bytes_108 hS (RI.mk (E_add (li32 1) hv1.1) b9)
          · refine Lp_c32 (fun b10 => ?_)
            exact lf_X8_bytes_98 hS (RI.mk (E_add (li32 1) hv1.1) b10)
  · refine Lp_gS (lf_X8_sizeOf (RJ.at hS rfl rfl rfl)) (fun v2 v2' hv2 => ?_)
    refine Lp_ite (D_le (RJ.at hS rfl rfl rfl) (RJ.lit 0 (by decide))) (fun c11 => ?_) (fun c11 => ?_)
    · refine Lp_c32 (fun b12 => ?_)
      exact lf_X8_bytes_38 hS (RI.lit 0 (by decide)) (RI.mk (E_add (li32 1) hv2.1) b12)
    · refine Lp_gS (lf_X8_sizeOf (RJ.at hS rfl rfl rfl)) (fun v3 v3' hv3 => ?_)
      refine Lp_c32 (fun b13 => ?_)
      exact lf_X8_bytes_38 hS hv3 (RI.mk (E_add (li32 1) hv2.1) b13)
def g_X8_lays (S : AM) (x1 : Int) (x2 : Int) (x4 : Int) (x6 : Int) (x8 : Int) : Option (AM × Int) :=
  gS (uA S M_o 45 x1) fun S1 =>
  gS (uA S1 M_o 46 x2) fun S2 =>
  gS (uA S2 M_o 47 x4) fun S3 =>
  gS (uA S3 M_o 48 x6) fun S4 =>
  gS (uA S4 M_o 49 0) fun S5 =>
  (g_X8_bytes S5).bind fun v6 =>
  if x8 < v6 then
    some (S5, 0)
  else
    some (S5, 1)
set_option maxRecDepth 10000 in
theorem lf_X8_lays {S : Mem} {S' : AM} (hS : (RT tM) S S') {x1 : Int32} {x1' : Int} (hx1 : RI x1 x1') {x2 : Int64} {x2' : Int} (hx2 : RJ x2 x2') {x4 : Int64} {x4' : Int} (hx4 : RJ x4 x4') {x6 : Int64} {x6' : Int} (hx6 : RJ x6 x6') {x8 : Int32} {x8' : Int} (hx8 : RI x8 x8') : Lp (RP (RT tM) RI) (f_X8_lays S x1 x2 x4 x6 x8) (g_X8_lays S' x1' x2' x4' x6' x8') := by
  unfold f_X8_lays g_X8_lays
  refine Lp_st (RT.siq hS rfl rfl hx1 rfl) (fun S1 S1' hS1 => ?_)
  refine Lp_st (RT.sjq hS1 rfl rfl hx2 rfl) (fun S2 S2' hS2 => ?_)
  refine Lp_st (RT.sjq hS2 rfl rfl hx4 rfl) (fun S3 S3' hS3 => ?_)
  refine Lp_st (RT.sjq hS3 rfl rfl hx6 rfl) (fun S4 S4' hS4 => ?_)
  refine Lp_st (RT.siq hS4 rfl rfl (RI.lit 0 (by decide)) rfl) (fun S5 S5' hS5 => ?_)
  refine Lp_gS (lf_X8_bytes hS5) (fun v6 v6' hv6 => ?_)
  refine Lp_ite (C_lt hx8 hv6) (fun c1 => ?_) (fun c1 => ?_)
  · exact Lp_val (RP.mk hS5 (RI.lit 0 (by decide)))
  · exact Lp_val (RP.mk hS5 (RI.lit 1 (by decide)))
def g_X8_fillsResets_72 (k2 : AM → Int → Int → Int → Option (AM × Int)) (S : AM) (x1 : Int) (x2 : Int) (x3 : Int) : Option (AM × Int) :=
  c32 (x3 + 1) <|
  k2 S x1 x2 (x3 + 1)
set_option maxRecDepth 10000 in
theorem lf_X8_fillsResets_72 {k2 : Mem → Int32 → Int32 → Int32 → Option (Mem × Int32)} {k2' : AM → Int → Int → Int → Option (AM × Int)} (hk2 : ∀ {y0 : Mem} {y0' : AM}, (RT tM) y0 y0' → ∀ {y1 : Int32} {y1' : Int}, RI y1 y1' → ∀ {y2 : Int32} {y2' : Int}, RI y2 y2' → ∀ {y3 : Int32} {y3' : Int}, RI y3 y3' → Lf (RP (RT tM) RI) (k2 y0 y1 y2 y3) (k2' y0' y1' y2' y3')) {S : Mem} {S' : AM} (hS : (RT tM) S S') {x1 : Int32} {x1' : Int} (hx1 : RI x1 x1') {x2 : Int32} {x2' : Int} (hx2 : RI x2 x2') {x3 : Int32} {x3' : Int} (hx3 : RI x3 x3') : Lf (RP (RT tM) RI) (f_X8_fillsResets_72 k2 S x1 x2 x3) (g_X8_fillsResets_72 k2' S' x1' x2' x3') := by
  unfold f_X8_fillsResets_72 g_X8_fillsResets_72
  refine Lf_c32 (fun b1 => ?_)
  exact hk2 hS hx1 hx2 (RI.mk (E_add hx3.1 (li32 1)) b1)
def g_X8_fillsResets_143 (k80 : AM → Int → Int → Int → Option (AM × Int)) (S : AM) (x1 : Int) (x2 : Int) (x3 : Int) : Option (AM × Int) :=
  c32 (x3 + 1) <|
  k80 S x1 x2 (x3 + 1)
set_option maxRecDepth 10000 in
theorem lf_X8_fillsResets_143 {k80 : Mem → Int32 → Int32 → Int32 → Option (Mem × Int32)} {k80' : AM → Int → Int → Int → Option (AM × Int)} (hk80 : ∀ {y0 : Mem} {y0' : AM}, (RT tM) y0 y0' → ∀ {y1 : Int32} {y1' : Int}, RI y1 y1' → ∀ {y2 : Int32} {y2' : Int}, RI y2 y2' → ∀ {y3 : Int32} {y3' : Int}, RI y3 y3' → Lf (RP (RT tM) RI) (k80 y0 y1 y2 y3) (k80' y0' y1' y2' y3')) {S : Mem} {S' : AM} (hS : (RT tM) S S') {x1 : Int32} {x1' : Int} (hx1 : RI x1 x1') {x2 : Int32} {x2' : Int} (hx2 : RI x2 x2') {x3 : Int32} {x3' : Int} (hx3 : RI x3 x3') : Lf (RP (RT tM) RI) (f_X8_fillsResets_143 k80 S x1 x2 x3) (g_X8_fillsResets_143 k80' S' x1' x2' x3') := by
  unfold f_X8_fillsResets_143 g_X8_fillsResets_143
  refine Lf_c32 (fun b1 => ?_)
  exact hk80 hS hx1 hx2 (RI.mk (E_add hx3.1 (li32 1)) b1)
def g_X8_fillsResets_80_b (k80 : AM → Int → Int → Int → Option (AM × Int)) (S : AM) (x1 : Int) (x2 : Int) (x3 : Int) : Option (AM × Int) :=
  if 256 ≤ x3 then
    some (S, 0)
  else
    (g_X8_at x1 x3).bind fun v1 =>
    hA v1 512 <|
    if (S M_tellStop (v1 : Int).toNat) = 0 then
      g_X8_fillsResets_143 k80 S x1 x2 x3
    else
      (g_X8_receiving S x1 x3).bind fun v2 =>
      if 2 ≤ v2 then
        g_X8_fillsResets_143 k80 S x1 x2 x3
      else
        hA v1 512 <|
        gB2 (g_X8_lays S 5 x3 (S M_stopCode (v1 : Int).toNat) 0 x2) fun S3 v4 =>
        if v4 = 0 then
          g_X8_fillsResets_143 k80 S3 x1 x2 x3
        else
          hA v1 512 <|
          gS (uA S3 M_tellStop ((v1 : Int).toNat) 0) fun S5 =>
          some (S5, 1)
set_option maxRecDepth 10000 in
theorem lf_X8_fillsResets_80_b {k80 : Mem → Int32 → Int32 → Int32 → Option (Mem × Int32)} {k80' : AM → Int → Int → Int → Option (AM × Int)} (hk80 : ∀ {y0 : Mem} {y0' : AM}, (RT tM) y0 y0' → ∀ {y1 : Int32} {y1' : Int}, RI y1 y1' → ∀ {y2 : Int32} {y2' : Int}, RI y2 y2' → ∀ {y3 : Int32} {y3' : Int}, RI y3 y3' → Lf (RP (RT tM) RI) (k80 y0 y1 y2 y3) (k80' y0' y1' y2' y3')) {S : Mem} {S' : AM} (hS : (RT tM) S S') {x1 : Int32} {x1' : Int} (hx1 : RI x1 x1') {x2 : Int32} {x2' : Int} (hx2 : RI x2 x2') {x3 : Int32} {x3' : Int} (hx3 : RI x3 x3') : Lf (RP (RT tM) RI) (f_X8_fillsResets_80_b k80 S x1 x2 x3) (g_X8_fillsResets_80_b k80' S' x1' x2' x3') := by
  unfold f_X8_fillsResets_80_b g_X8_fillsResets_80_b
  refine Lf_ite (C_le (RI.lit 256 (by decide)) hx3) (fun c1 => ?_) (fun c1 => ?_)
  · exact Lf_some (RP.mk hS (RI.lit 0 (by decide)))
  · refine Lf_gS (lf_X8_at hx1 hx3) (fun v1 v1' hv1 => ?_)
    refine Lf_hA hv1.1 (by decide) (fun b2 => ?_)
    refine Lf_ite (C_eq (RI.at hS rfl (tnE hv1.1 b2 (by decide)) rfl) (RI.lit 0 (by decide))) (fun c3 => ?_) (fun c3 => ?_)
    · exact lf_X8_fillsResets_143 hk80 hS hx1 hx2 hx3
    · refine Lf_bind (lf_X8_receiving hS hx1 hx3) (fun v2 v2' hv2 => ?_)
      refine Lf_ite (C_le (RI.lit 2 (by decide)) hv2) (fun c4 => ?_) (fun c4 => ?_)
      · exact lf_X8_fillsResets_143 hk80 hS hx1 hx2 hx3
      · refine Lf_hA hv1.1 (by decide) (fun b5 => ?_)
        refine Lf_gS2 (lf_X8_lays hS (RI.lit 5 (by decide)) (RJ.mk (E_64 hx3) (R_64 hx3.2)) (RJ.at hS rfl (tnE hv1.1 b2 (by decide)) rfl) (RJ.lit 0 (by decide)) hx2) (fun S3 S3' hS3 v4 v4' hv4 => ?_)
        refine Lf_ite (C_eq hv4 (RI.lit 0 (by decide))) (fun c6 => ?_) (fun c6 => ?_)
        · exact lf_X8_fillsResets_143 hk80 hS3 hx1 hx2 hx3
        · refine Lf_hA hv1.1 (by decide) (fun b7 => ?_)
          refine Lf_st (RT.siq hS3 rfl (tnE hv1.1 b2 (by decide)) (RI.mk E_nz0 (RI.lit 0 (by decide)).2) rfl) (fun S5 S5' hS5 => ?_)
          exact Lf_some (RP.mk hS5 (RI.lit 1 (by decide)))
def g_X8_fillsResets_80 : Nat → AM → Int → Int → Int → Option (AM × Int)
  | 0, _, _, _, _ => none
  | n + 1, S, x1, x2, x3 => g_X8_fillsResets_80_b (g_X8_fillsResets_80 n) S x1 x2 x3
set_option maxRecDepth 10000 in
theorem lf_X8_fillsResets_80 (n : Nat) : ∀ {S : Mem} {S' : AM}, (RT tM) S S' → ∀ {x1 : Int32} {x1' : Int}, RI x1 x1' → ∀ {x2 : Int32} {x2' : Int}, RI x2 x2' → ∀ {x3 : Int32} {x3' : Int}, RI x3 x3' → Lf (RP (RT tM) RI) (f_X8_fillsResets_80 n S x1 x2 x3) (g_X8_fillsResets_80 n S' x1' x2' x3') := by
  induction n with
  | zero => intros; exact Lf_none
  | succ n ih => intro S S' hS x1 x1' hx1 x2 x2' hx2 x3 x3' hx3; exact lf_X8_fillsResets_80_b ih hS hx1 hx2 hx3
def g_X8_fillsResets_2_b (k2 : AM → Int → Int → Int → Option (AM × Int)) (S : AM) (x1 : Int) (x2 : Int) (x3 : Int) : Option (AM × Int) :=
  if 256 ≤ x3 then
    g_X8_fillsResets_80 FU S x1 x2 0
  else
    (g_X8_at x1 x3).bind fun v1 =>
    hA v1 512 <|
    if (S M_tellReset (v1 : Int).toNat) = 0 then
      g_X8_fillsResets_72 k2 S x1 x2 x3
    else
      hA v1 512 <|
      if (S M_resets (v1 : Int).toNat) ≠ 1 then
        g_X8_fillsResets_72 k2 S x1 x2 x3
      else
        hA v1 512 <|
        (g_X8_sent S x1 x3).bind fun v2 =>
        gB2 (g_X8_lays S 4 x3 (S M_code (v1 : Int).toNat) v2 x2) fun S3 v4 =>
        if v4 = 0 then
          g_X8_fillsResets_72 k2 S3 x1 x2 x3
        else
          hA v1 512 <|
          gS (uA S3 M_tellReset ((v1 : Int).toNat) 0) fun S5 =>
          some (S5, 1)
set_option maxRecDepth 10000 in
theorem lf_X8_fillsResets_2_b {k2 : Mem → Int32 → Int32 → Int32 → Option (Mem × Int32)} {k2' : AM → Int → Int → Int → Option (AM × Int)} (hk2 : ∀ {y0 : Mem} {y0' : AM}, (RT tM) y0 y0' → ∀ {y1 : Int32} {y1' : Int}, RI y1 y1' → ∀ {y2 : Int32} {y2' : Int}, RI y2 y2' → ∀ {y3 : Int32} {y3' : Int}, RI y3 y3' → Lf (RP (RT tM) RI) (k2 y0 y1 y2 y3) (k2' y0' y1' y2' y3')) {S : Mem} {S' : AM} (hS : (RT tM) S S') {x1 : Int32} {x1' : Int} (hx1 : RI x1 x1') {x2 : Int32} {x2' : Int} (hx2 : RI x2 x2') {x3 : Int32} {x3' : Int} (hx3 : RI x3 x3') : Lf (RP (RT tM) RI) (f_X8_fillsResets_2_b k2 S x1 x2 x3) (g_X8_fillsResets_2_b k2' S' x1' x2' x3') := by
  unfold f_X8_fillsResets_2_b g_X8_fillsResets_2_b
  refine Lf_ite (C_le (RI.lit 256 (by decide)) hx3) (fun c1 => ?_) (fun c1 => ?_)
  · exact lf_X8_fillsResets_80 FU hS hx1 hx2 (RI.lit 0 (by decide))
  · refine Lf_gS (lf_X8_at hx1 hx3) (fun v1 v1' hv1 => ?_)
    refine Lf_hA hv1.1 (by decide) (fun b2 => ?_)
    refine Lf_ite (C_eq (RI.at hS rfl (tnE hv1.1 b2 (by decide)) rfl) (RI.lit 0 (by decide))) (fun c3 => ?_) (fun c3 => ?_)
    · exact lf_X8_fillsResets_72 hk2 hS hx1 hx2 hx3
    · refine Lf_hA hv1.1 (by decide) (fun b4 => ?_)
      refine Lf_ite (C_ne (RI.at hS rfl (tnE hv1.1 b2 (by decide)) rfl) (RI.lit 1 (by decide))) (fun c5 => ?_) (fun c5 => ?_)
      · exact lf_X8_fillsResets_72 hk2 hS hx1 hx2 hx3
      · refine Lf_hA hv1.1 (by decide) (fun b6 => ?_)
        refine Lf_bind (lf_X8_sent hS hx1 hx3) (fun v2 v2' hv2 => ?_)
        refine Lf_gS2 (lf_X8_lays hS (RI.lit 4 (by decide)) (RJ.mk (E_64 hx3) (R_64 hx3.2)) (RJ.at hS rfl (tnE hv1.1 b2 (by decide)) rfl) (RJ.mk (E_64 hv2) (R_64 hv2.2)) hx2) (fun S3 S3' hS3 v4 v4' hv4 => ?_)
        refine Lf_ite (C_eq hv4 (RI.lit 0 (by decide))) (fun c7 => ?_) (fun c7 => ?_)
        · exact lf_X8_fillsResets_72 hk2 hS3 hx1 hx2 hx3
        · refine Lf_hA hv1.1 (by decide) (fun b8 => ?_)
          refine Lf_st (RT.siq hS3 rfl (tnE hv1.1 b2 (by decide)) (RI.mk E_nz0 (RI.lit 0 (by decide)).2) rfl) (fun S5 S5' hS5 => ?_)
          exact Lf_some (RP.mk hS5 (RI.lit 1 (by decide)))
def g_X8_fillsResets_2 : Nat → AM → Int → Int → Int → Option (AM × Int)
  | 0, _, _, _, _ => none
  | n + 1, S, x1, x2, x3 => g_X8_fillsResets_2_b (g_X8_fillsResets_2 n) S x1 x2 x3
set_option maxRecDepth 10000 in
theorem lf_X8_fillsResets_2 (n : Nat) : ∀ {S : Mem} {S' : AM}, (RT tM) S S' → ∀ {x1 : Int32} {x1' : Int}, RI x1 x1' → ∀ {x2 : Int32} {x2' : Int}, RI x2 x2' → ∀ {x3 : Int32} {x3' : Int}, RI x3 x3' → Lf (RP (RT tM) RI) (f_X8_fillsResets_2 n S x1 x2 x3) (g_X8_fillsResets_2 n S' x1' x2' x3') := by
  induction n with
  | zero => intros; exact Lf_none
  | succ n ih => intro S S' hS x1 x1' hx1 x2 x2' hx2 x3 x3' hx3; exact lf_X8_fillsResets_2_b ih hS hx1 hx2 hx3
def g_X8_fillsResets (S : AM) (x1 : Int) (x2 : Int) : Option (AM × Int) :=
  g_X8_fillsResets_2 FU S x1 x2 0
set_option maxRecDepth 10000 in
theorem lf_X8_fillsResets {S : Mem} {S' : AM} (hS : (RT tM) S S') {x1 : Int32} {x1' : Int} (hx1 : RI x1 x1') {x2 : Int32} {x2' : Int} (hx2 : RI x2 x2') : Lf (RP (RT tM) RI) (f_X8_fillsResets S x1 x2) (g_X8_fillsResets S' x1' x2') := by
  unfold f_X8_fillsResets g_X8_fillsResets
  exact lf_X8_fillsResets_2 FU hS hx1 hx2 (RI.lit 0 (by decide))
def g_X8_fillsGrants_101 (k38 : AM → Int → Int → Int → Option (AM × Int)) (S : AM) (x1 : Int) (x2 : Int) (x3 : Int) : Option (AM × Int) :=
  c32 (x3 + 1) <|
  k38 S x1 x2 (x3 + 1)
set_option maxRecDepth 10000 in
theorem lf_X8_fillsGrants_101 {k38 : Mem → Int32 → Int32 → Int32 → Option (Mem × Int32)} {k38' : AM → Int → Int → Int → Option (AM × Int)} (hk38 : ∀ {y0 : Mem} {y0' : AM}, (RT tM) y0 y0' → ∀ {y1 : Int32} {y1' : Int}, RI y1 y1' → ∀ {y2 : Int32} {y2' : Int}, RI y2 y2' → ∀ {y3 : Int32} {y3' : Int}, RI y3 y3' → Lf (RP (RT tM) RI) (k38 y0 y1 y2 y3) (k38' y0' y1' y2' y3')) {S : Mem} {S' : AM} (hS : (RT tM) S S') {x1 : Int32} {x1' : Int} (hx1 : RI x1 x1') {x2 : Int32} {x2' : Int} (hx2 : RI x2 x2') {x3 : Int32} {x3' : Int} (hx3 : RI x3 x3') : Lf (RP (RT tM) RI) (f_X8_fillsGrants_101 k38 S x1 x2 x3) (g_X8_fillsGrants_101 k38' S' x1' x2' x3') := by
  unfold f_X8_fillsGrants_101 g_X8_fillsGrants_101
  refine Lf_c32 (fun b1 => ?_)
  exact hk38 hS hx1 hx2 (RI.mk (E_add hx3.1 (li32 1)) b1)
def g_X8_fillsGrants_165 (k109 : AM → Int → Int → Int → Option (AM × Int)) (S : AM) (x1 : Int) (x2 : Int) (x3 : Int) : Option (AM × Int) :=
  c32 (x3 + 1) <|
  k109 S x1 x2 (x3 + 1)
set_option maxRecDepth 10000 in
theorem lf_X8_fillsGrants_165 {k109 : Mem → Int32 → Int32 → Int32 → Option (Mem × Int32)} {k109' : AM → Int → Int → Int → Option (AM × Int)} (hk109 : ∀ {y0 : Mem} {y0' : AM}, (RT tM) y0 y0' → ∀ {y1 : Int32} {y1' : Int}, RI y1 y1' → ∀ {y2 : Int32} {y2' : Int}, RI y2 y2' → ∀ {y3 : Int32} {y3' : Int}, RI y3 y3' → Lf (RP (RT tM) RI) (k109 y0 y1 y2 y3) (k109' y0' y1' y2' y3')) {S : Mem} {S' : AM} (hS : (RT tM) S S') {x1 : Int32} {x1' : Int} (hx1 : RI x1 x1') {x2 : Int32} {x2' : Int} (hx2 : RI x2 x2') {x3 : Int32} {x3' : Int} (hx3 : RI x3 x3') : Lf (RP (RT tM) RI) (f_X8_fillsGrants_165 k109 S x1 x2 x3) (g_X8_fillsGrants_165 k109' S' x1' x2' x3') := by
  unfold f_X8_fillsGrants_165 g_X8_fillsGrants_165
  refine Lf_c32 (fun b1 => ?_)
  exact hk109 hS hx1 hx2 (RI.mk (E_add hx3.1 (li32 1)) b1)
def g_X8_fillsGrants_109_b (k109 : AM → Int → Int → Int → Option (AM × Int)) (S : AM) (x1 : Int) (x2 : Int) (x3 : Int) : Option (AM × Int) :=
  if 2 ≤ x3 then
    some (S, 0)
  else
    hA ((2 * x1) + x3) 4 <|
    if (S M_tellStreams (((2 * x1) + x3) : Int).toNat) = 0 then
      g_X8_fillsGrants_165 k109 S x1 x2 x3
    else
      hA ((2 * x1) + x3) 4 <|
      c32 (18 + x3) <|
      gB2 (g_X8_lays S (18 + x3) (S M_granted (((2 * x1) + x3) : Int).toNat) 0 0 x2) fun S1 v2 =>
      if v2 = 0 then
        g_X8_fillsGrants_165 k109 S1 x1 x2 x3
      else
        hA ((2 * x1) + x3) 4 <|
        gS (uA S1 M_tellStreams ((((2 * x1) + x3) : Int).toNat) 0) fun S3 =>
        some (S3, 1)
set_option maxRecDepth 10000 in
theorem lf_X8_fillsGrants_109_b {k109 : Mem → Int32 → Int32 → Int32 → Option (Mem × Int32)} {k109' : AM → Int → Int → Int → Option (AM × Int)} (hk109 : ∀ {y0 : Mem} {y0' : AM}, (RT tM) y0 y0' → ∀ {y1 : Int32} {y1' : Int}, RI y1 y1' → ∀ {y2 : Int32} {y2' : Int}, RI y2 y2' → ∀ {y3 : Int32} {y3' : Int}, RI y3 y3' → Lf (RP (RT tM) RI) (k109 y0 y1 y2 y3) (k109' y0' y1' y2' y3')) {S : Mem} {S' : AM} (hS : (RT tM) S S') {x1 : Int32} {x1' : Int} (hx1 : RI x1 x1') {x2 : Int32} {x2' : Int} (hx2 : RI x2 x2') {x3 : Int32} {x3' : Int} (hx3 : RI x3 x3') : Lf (RP (RT tM) RI) (f_X8_fillsGrants_109_b k109 S x1 x2 x3) (g_X8_fillsGrants_109_b k109' S' x1' x2' x3') := by
  unfold f_X8_fillsGrants_109_b g_X8_fillsGrants_109_b
  refine Lf_ite (C_le (RI.lit 2 (by decide)) hx3) (fun c1 => ?_) (fun c1 => ?_)
  · exact Lf_some (RP.mk hS (RI.lit 0 (by decide)))
  · refine Lf_hA (E_add (E_mul (li32 2) hx1.1) hx3.1) (by decide) (fun b2 => ?_)
    refine Lf_ite (C_eq (RI.at hS rfl (tnE (E_add (E_mul (li32 2) hx1.1) hx3.1) b2 (by decide)) rfl) (RI.lit 0 (by decide))) (fun c3 => ?_) (fun c3 => ?_)
    · exact lf_X8_fillsGrants_165 hk109 hS hx1 hx2 hx3
    · refine Lf_hA (E_add (E_mul (li32 2) hx1.1) hx3.1) (by decide) (fun b4 => ?_)
      refine Lf_c32 (fun b5 => ?_)
      refine Lf_gS2 (lf_X8_lays hS (RI.mk (E_add (li32 18) hx3.1) b5) (RJ.mk (E_64 (RI.at hS rfl (tnE (E_add (E_mul (li32 2) hx1.1) hx3.1) b2 (by decide)) rfl)) (R_64 (RI.at hS rfl (tnE (E_add (E_mul (li32 2) hx1.1) hx3.1) b2 (by decide)) rfl).2)) (RJ.lit 0 (by decide)) (RJ.lit 0 (by decide)) hx2) (fun S1 S1' hS1 v2 v2' hv2 => ?_)
      refine Lf_ite (C_eq hv2 (RI.lit 0 (by decide))) (fun c6 => ?_) (fun c6 => ?_)
      · exact lf_X8_fillsGrants_165 hk109 hS1 hx1 hx2 hx3
      · refine Lf_hA (E_add (E_mul (li32 2) hx1.1) hx3.1) (by decide) (fun b7 => ?_)
        refine Lf_st (RT.siq hS1 rfl (tnE (E_add (E_mul (li32 2) hx1.1) hx3.1) b2 (by decide)) (RI.mk E_nz0 (RI.lit 0 (by decide)).2) rfl) (fun S3 S3' hS3 => ?_)
        exact Lf_some (RP.mk hS3 (RI.lit 1 (by decide)))
def g_X8_fillsGrants_109 : Nat → AM → Int → Int → Int → Option (AM × Int)
  | 0, _, _, _, _ => none
  | n + 1, S, x1, x2, x3 => g_X8_fillsGrants_109_b (g_X8_fillsGrants_109 n) S x1 x2 x3
set_option maxRecDepth 10000 in
theorem lf_X8_fillsGrants_109 (n : Nat) : ∀ {S : Mem} {S' : AM}, (RT tM) S S' → ∀ {x1 : Int32} {x1' : Int}, RI x1 x1' → ∀ {x2 : Int32} {x2' : Int}, RI x2 x2' → ∀ {x3 : Int32} {x3' : Int}, RI x3 x3' → Lf (RP (RT tM) RI) (f_X8_fillsGrants_109 n S x1 x2 x3) (g_X8_fillsGrants_109 n S' x1' x2' x3') := by
  induction n with
  | zero => intros; exact Lf_none
  | succ n ih => intro S S' hS x1 x1' hx1 x2 x2' hx2 x3 x3' hx3; exact lf_X8_fillsGrants_109_b ih hS hx1 hx2 hx3
def g_X8_fillsGrants_38_b (k38 : AM → Int → Int → Int → Option (AM × Int)) (S : AM) (x1 : Int) (x2 : Int) (x3 : Int) : Option (AM × Int) :=
  if 256 ≤ x3 then
    g_X8_fillsGrants_109 FU S x1 x2 0
  else
    (g_X8_at x1 x3).bind fun v1 =>
    hA v1 512 <|
    if (S M_tellGrant (v1 : Int).toNat) = 0 then
      g_X8_fillsGrants_101 k38 S x1 x2 x3
    else
      (g_X8_receiving S x1 x3).bind fun v2 =>
      if v2 ≠ 0 then
        g_X8_fillsGrants_101 k38 S x1 x2 x3
      else
        hA v1 512 <|
        gB2 (g_X8_lays S 17 x3 (S M_grant (v1 : Int).toNat) 0 x2) fun S3 v4 =>
        if v4 = 0 then
          g_X8_fillsGrants_101 k38 S3 x1 x2 x3
        else
          hA v1 512 <|
          gS (uA S3 M_tellGrant ((v1 : Int).toNat) 0) fun S5 =>
          some (S5, 1)
set_option maxRecDepth 10000 in
theorem lf_X8_fillsGrants_38_b {k38 : Mem → Int32 → Int32 → Int32 → Option (Mem × Int32)} {k38' : AM → Int → Int → Int → Option (AM × Int)} (hk38 : ∀ {y0 : Mem} {y0' : AM}, (RT tM) y0 y0' → ∀ {y1 : Int32} {y1' : Int}, RI y1 y1' → ∀ {y2 : Int32} {y2' : Int}, RI y2 y2' → ∀ {y3 : Int32} {y3' : Int}, RI y3 y3' → Lf (RP (RT tM) RI) (k38 y0 y1 y2 y3) (k38' y0' y1' y2' y3')) {S : Mem} {S' : AM} (hS : (RT tM) S S') {x1 : Int32} {x1' : Int} (hx1 : RI x1 x1') {x2 : Int32} {x2' : Int} (hx2 : RI x2 x2') {x3 : Int32} {x3' : Int} (hx3 : RI x3 x3') : Lf (RP (RT tM) RI) (f_X8_fillsGrants_38_b k38 S x1 x2 x3) (g_X8_fillsGrants_38_b k38' S' x1' x2' x3') := by
  unfold f_X8_fillsGrants_38_b g_X8_fillsGrants_38_b
  refine Lf_ite (C_le (RI.lit 256 (by decide)) hx3) (fun c1 => ?_) (fun c1 => ?_)
  · exact lf_X8_fillsGrants_109 FU hS hx1 hx2 (RI.lit 0 (by decide))
  · refine Lf_gS (lf_X8_at hx1 hx3) (fun v1 v1' hv1 => ?_)
    refine Lf_hA hv1.1 (by decide) (fun b2 => ?_)
    refine Lf_ite (C_eq (RI.at hS rfl (tnE hv1.1 b2 (by decide)) rfl) (RI.lit 0 (by decide))) (fun c3 => ?_) (fun c3 => ?_)
    · exact lf_X8_fillsGrants_101 hk38 hS hx1 hx2 hx3
    · refine Lf_bind (lf_X8_receiving hS hx1 hx3) (fun v2 v2' hv2 => ?_)
      refine Lf_ite (C_ne hv2 (RI.lit 0 (by decide))) (fun c4 => ?_) (fun c4 => ?_)
      · exact lf_X8_fillsGrants_101 hk38 hS hx1 hx2 hx3
      · refine Lf_hA hv1.1 (by decide) (fun b5 => ?_)
        refine Lf_gS2 (lf_X8_lays hS (RI.lit 17 (by decide)) (RJ.mk (E_64 hx3) (R_64 hx3.2)) (RJ.at hS rfl (tnE hv1.1 b2 (by decide)) rfl) (RJ.lit 0 (by decide)) hx2) (fun S3 S3' hS3 v4 v4' hv4 => ?_)
        refine Lf_ite (C_eq hv4 (RI.lit 0 (by decide))) (fun c6 => ?_) (fun c6 => ?_)
        · exact lf_X8_fillsGrants_101 hk38 hS3 hx1 hx2 hx3
        · refine Lf_hA hv1.1 (by decide) (fun b7 => ?_)
          refine Lf_st (RT.siq hS3 rfl (tnE hv1.1 b2 (by decide)) (RI.mk E_nz0 (RI.lit 0 (by decide)).2) rfl) (fun S5 S5' hS5 => ?_)
          exact Lf_some (RP.mk hS5 (RI.lit 1 (by decide)))
def g_X8_fillsGrants_38 : Nat → AM → Int → Int → Int → Option (AM × Int)
  | 0, _, _, _, _ => none
  | n + 1, S, x1, x2, x3 => g_X8_fillsGrants_38_b (g_X8_fillsGrants_38 n) S x1 x2 x3
set_option maxRecDepth 10000 in
theorem lf_X8_fillsGrants_38 (n : Nat) : ∀ {S : Mem} {S' : AM}, (RT tM) S S' → ∀ {x1 : Int32} {x1' : Int}, RI x1 x1' → ∀ {x2 : Int32} {x2' : Int}, RI x2 x2' → ∀ {x3 : Int32} {x3' : Int}, RI x3 x3' → Lf (RP (RT tM) RI) (f_X8_fillsGrants_38 n S x1 x2 x3) (g_X8_fillsGrants_38 n S' x1' x2' x3') := by
  induction n with
  | zero => intros; exact Lf_none
  | succ n ih => intro S S' hS x1 x1' hx1 x2 x2' hx2 x3 x3' hx3; exact lf_X8_fillsGrants_38_b ih hS hx1 hx2 hx3
def g_X8_fillsGrants_36 (S : AM) (x1 : Int) (x2 : Int) : Option (AM × Int) :=
  g_X8_fillsGrants_38 FU S x1 x2 0
set_option maxRecDepth 10000 in
theorem lf_X8_fillsGrants_36 {S : Mem} {S' : AM} (hS : (RT tM) S S') {x1 : Int32} {x1' : Int} (hx1 : RI x1 x1') {x2 : Int32} {x2' : Int} (hx2 : RI x2 x2') : Lf (RP (RT tM) RI) (f_X8_fillsGrants_36 S x1 x2) (g_X8_fillsGrants_36 S' x1' x2') := by
  unfold f_X8_fillsGrants_36 g_X8_fillsGrants_36
  exact lf_X8_fillsGrants_38 FU hS hx1 hx2 (RI.lit 0 (by decide))
def g_X8_fillsGrants (S : AM) (x1 : Int) (x2 : Int) : Option (AM × Int) :=
  hA x1 2 <|
  if (S M_tellData (x1 : Int).toNat) = 0 then
    g_X8_fillsGrants_36 S x1 x2
  else
    hA x1 2 <|
    gB2 (g_X8_lays S 16 (S M_dataGrant (x1 : Int).toNat) 0 0 x2) fun S1 v2 =>
    if v2 = 0 then
      g_X8_fillsGrants_36 S1 x1 x2
    else
      hA x1 2 <|
      gS (uA S1 M_tellData ((x1 : Int).toNat) 0) fun S3 =>
      some (S3, 1)
set_option maxRecDepth 10000 in
theorem lf_X8_fillsGrants {S : Mem} {S' : AM} (hS : (RT tM) S S') {x1 : Int32} {x1' : Int} (hx1 : RI x1 x1') {x2 : Int32} {x2' : Int} (hx2 : RI x2 x2') : Lf (RP (RT tM) RI) (f_X8_fillsGrants S x1 x2) (g_X8_fillsGrants S' x1' x2') := by
  unfold f_X8_fillsGrants g_X8_fillsGrants
  refine Lf_hA hx1.1 (by decide) (fun b1 => ?_)
  refine Lf_ite (C_eq (RI.at hS rfl (tnE hx1.1 b1 (by decide)) rfl) (RI.lit 0 (by decide))) (fun c2 => ?_) (fun c2 => ?_)
  · exact lf_X8_fillsGrants_36 hS hx1 hx2
  · refine Lf_hA hx1.1 (by decide) (fun b3 => ?_)
    refine Lf_gS2 (lf_X8_lays hS (RI.lit 16 (by decide)) (RJ.at hS rfl (tnE hx1.1 b1 (by decide)) rfl) (RJ.lit 0 (by decide)) (RJ.lit 0 (by decide)) hx2) (fun S1 S1' hS1 v2 v2' hv2 => ?_)
    refine Lf_ite (C_eq hv2 (RI.lit 0 (by decide))) (fun c4 => ?_) (fun c4 => ?_)
    · exact lf_X8_fillsGrants_36 hS1 hx1 hx2
    · refine Lf_hA hx1.1 (by decide) (fun b5 => ?_)
      refine Lf_st (RT.siq hS1 rfl (tnE hx1.1 b1 (by decide)) (RI.mk E_nz0 (RI.lit 0 (by decide)).2) rfl) (fun S3 S3' hS3 => ?_)
      exact Lf_some (RP.mk hS3 (RI.lit 1 (by decide)))
def g_X8_waits (S : AM) (x1 : Int) (x2 : Int) : Option (Int) :=
  (g_X8_isOpenSending S x1 x2).bind fun v1 =>
  if v1 = 0 then
    some (0)
  else
    (g_X8_sent S x1 x2).bind fun v2 =>
    (g_X8_written S x1 x2).bind fun v3 =>
    if v3 ≤ v2 then
      some (0)
    else
      some (1)
set_option maxRecDepth 10000 in
theorem lf_X8_waits {S : Mem} {S' : AM} (hS : (RT tM) S S') {x1 : Int32} {x1' : Int} (hx1 : RI x1 x1') {x2 : Int32} {x2' : Int} (hx2 : RI x2 x2') : Lf RI (f_X8_waits S x1 x2) (g_X8_waits S' x1' x2') := by
  unfold f_X8_waits g_X8_waits
  refine Lf_bind (lf_X8_isOpenSending hS hx1 hx2) (fun v1 v1' hv1 => ?_)
  refine Lf_ite (C_eq hv1 (RI.lit 0 (by decide))) (fun c1 => ?_) (fun c1 => ?_)
  · exact Lf_some (RI.lit 0 (by decide))
  · refine Lf_bind (lf_X8_sent hS hx1 hx2) (fun v2 v2' hv2 => ?_)
    refine Lf_bind (lf_X8_written hS hx1 hx2) (fun v3 v3' hv3 => ?_)
    refine Lf_ite (C_le hv3 hv2) (fun c2 => ?_) (fun c2 => ?_)
    · exact Lf_some (RI.lit 0 (by decide))
    · exact Lf_some (RI.lit 1 (by decide))
def g_X8_allSent_37 (S : AM) (k7 : Int → Int → Int → Option (Int)) (x1 : Int) (x3 : Int) (y0 : Int) (y1 : Int) : Option (Int) :=
  c32 (y1 + y0) <|
  c32 (x3 + 1) <|
  k7 x1 (y1 + y0) (x3 + 1)
set_option maxRecDepth 10000 in
theorem lf_X8_allSent_37 {S : Mem} {S' : AM} (hS : (RT tM) S S') {k7 : Int32 → Int32 → Int32 → Option (Int32)} {k7' : Int → Int → Int → Option (Int)} (hk7 : ∀ {y0 : Int32} {y0' : Int}, RI y0 y0' → ∀ {y1 : Int32} {y1' : Int}, RI y1 y1' → ∀ {y2 : Int32} {y2' : Int}, RI y2 y2' → Lf RI (k7 y0 y1 y2) (k7' y0' y1' y2')) {x1 : Int32} {x1' : Int} (hx1 : RI x1 x1') {x3 : Int32} {x3' : Int} (hx3 : RI x3 x3') {y0 : Int32} {y0' : Int} (hy0 : RI y0 y0') {y1 : Int32} {y1' : Int} (hy1 : RI y1 y1') : Lf RI (f_X8_allSent_37 S k7 x1 x3 y0 y1) (g_X8_allSent_37 S' k7' x1' x3' y0' y1') := by
  unfold f_X8_allSent_37 g_X8_allSent_37
  refine Lf_c32 (fun b1 => ?_)
  refine Lf_c32 (fun b2 => ?_)
  exact hk7 hx1 (RI.mk (E_add hy1.1 hy0.1) b1) (RI.mk (E_add hx3.1 (li32 1)) b2)
def g_X8_allSent_7_b (S : AM) (k7 : Int → Int → Int → Option (Int)) (x1 : Int) (x2 : Int) (x3 : Int) : Option (Int) :=
  hA x1 2 <|
  c32 ((65536 * x1) + (S M_total (x1 : Int).toNat)) <|
  if ((65536 * x1) + (S M_total (x1 : Int).toNat)) ≤ x3 then
    some (x2)
  else
    hA x3 131072 <|
    if (S M_mark (x3 : Int).toNat) = 0 then
      g_X8_allSent_37 S k7 x1 x3 0 x2
    else
      g_X8_allSent_37 S k7 x1 x3 1 x2
set_option maxRecDepth 10000 in
theorem lf_X8_allSent_7_b {S : Mem} {S' : AM} (hS : (RT tM) S S') {k7 : Int32 → Int32 → Int32 → Option (Int32)} {k7' : Int → Int → Int → Option (Int)} (hk7 : ∀ {y0 : Int32} {y0' : Int}, RI y0 y0' → ∀ {y1 : Int32} {y1' : Int}, RI y1 y1' → ∀ {y2 : Int32} {y2' : Int}, RI y2 y2' → Lf RI (k7 y0 y1 y2) (k7' y0' y1' y2')) {x1 : Int32} {x1' : Int} (hx1 : RI x1 x1') {x2 : Int32} {x2' : Int} (hx2 : RI x2 x2') {x3 : Int32} {x3' : Int} (hx3 : RI x3 x3') : Lf RI (f_X8_allSent_7_b S k7 x1 x2 x3) (g_X8_allSent_7_b S' k7' x1' x2' x3') := by
  unfold f_X8_allSent_7_b g_X8_allSent_7_b
  refine Lf_hA hx1.1 (by decide) (fun b1 => ?_)
  refine Lf_c32 (fun b2 => ?_)
  refine Lf_ite (C_le (RI.mk (E_add (E_mul (li32 65536) hx1.1) (RI.at hS rfl (tnE hx1.1 b1 (by decide)) rfl).1) b2) hx3) (fun c3 => ?_) (fun c3 => ?_)
  · exact Lf_some hx2
  · refine Lf_hA hx3.1 (by decide) (fun b4 => ?_)
    refine Lf_ite (C_eq (RI.at hS rfl (tnE hx3.1 b4 (by decide)) rfl) (RI.lit 0 (by decide))) (fun c5 => ?_) (fun c5 => ?_)
    · exact lf_X8_allSent_37 hS hk7 hx1 hx3 (RI.lit 0 (by decide)) hx2
    · exact lf_X8_allSent_37 hS hk7 hx1 hx3 (RI.lit 1 (by decide)) hx2
def g_X8_allSent_7 (S : AM) : Nat → Int → Int → Int → Option (Int)
  | 0, _, _, _ => none
  | n + 1, x1, x2, x3 => g_X8_allSent_7_b S (g_X8_allSent_7 S n) x1 x2 x3
set_option maxRecDepth 10000 in
theorem lf_X8_allSent_7 {S : Mem} {S' : AM} (hS : (RT tM) S S') (n : Nat) : ∀ {x1 : Int32} {x1' : Int}, RI x1 x1' → ∀ {x2 : Int32} {x2' : Int}, RI x2 x2' → ∀ {x3 : Int32} {x3' : Int}, RI x3 x3' → Lf RI (f_X8_allSent_7 S n x1 x2 x3) (g_X8_allSent_7 S' n x1' x2' x3') := by
  induction n with
  | zero => intros; exact Lf_none
  | succ n ih => intro x1 x1' hx1 x2 x2' hx2 x3 x3' hx3; exact lf_X8_allSent_7_b hS ih hx1 hx2 hx3
def g_X8_allSent (S : AM) (x1 : Int) : Option (Int) :=
  c32 (65536 * x1) <|
  g_X8_allSent_7 S FU x1 0 (65536 * x1)
set_option maxRecDepth 10000 in
theorem lf_X8_allSent {S : Mem} {S' : AM} (hS : (RT tM) S S') {x1 : Int32} {x1' : Int} (hx1 : RI x1 x1') : Lf RI (f_X8_allSent S x1) (g_X8_allSent S' x1') := by
  unfold f_X8_allSent g_X8_allSent
  refine Lf_c32 (fun b1 => ?_)
  exact lf_X8_allSent_7 hS FU hx1 (RI.lit 0 (by decide)) (RI.mk (E_mul (li32 65536) hx1.1) b1)
def g_X8_fillsBlocked_214 (k114 : AM → Int → Int → Int → Option (AM × Int)) (S : AM) (x1 : Int) (x2 : Int) (x4 : Int) : Option (AM × Int) :=
  c32 (x4 + 1) <|
  k114 S x1 x2 (x4 + 1)
set_option maxRecDepth 10000 in
theorem lf_X8_fillsBlocked_214 {k114 : Mem → Int32 → Int32 → Int32 → Option (Mem × Int32)} {k114' : AM → Int → Int → Int → Option (AM × Int)} (hk114 : ∀ {y0 : Mem} {y0' : AM}, (RT tM) y0 y0' → ∀ {y1 : Int32} {y1' : Int}, RI y1 y1' → ∀ {y2 : Int32} {y2' : Int}, RI y2 y2' → ∀ {y3 : Int32} {y3' : Int}, RI y3 y3' → Lf (RP (RT tM) RI) (k114 y0 y1 y2 y3) (k114' y0' y1' y2' y3')) {S : Mem} {S' : AM} (hS : (RT tM) S S') {x1 : Int32} {x1' : Int} (hx1 : RI x1 x1') {x2 : Int32} {x2' : Int} (hx2 : RI x2 x2') {x4 : Int32} {x4' : Int} (hx4 : RI x4 x4') : Lf (RP (RT tM) RI) (f_X8_fillsBlocked_214 k114 S x1 x2 x4) (g_X8_fillsBlocked_214 k114' S' x1' x2' x4') := by
  unfold f_X8_fillsBlocked_214 g_X8_fillsBlocked_214
  refine Lf_c32 (fun b1 => ?_)
  exact hk114 hS hx1 hx2 (RI.mk (E_add hx4.1 (li32 1)) b1)
def g_X8_fillsBlocked_332 (k223 : AM → Int → Int → Int → Option (AM × Int)) (S : AM) (x1 : Int) (x2 : Int) (x4 : Int) : Option (AM × Int) :=
  c32 (x4 + 1) <|
  k223 S x1 x2 (x4 + 1)
set_option maxRecDepth 10000 in
theorem lf_X8_fillsBlocked_332 {k223 : Mem → Int32 → Int32 → Int32 → Option (Mem × Int32)} {k223' : AM → Int → Int → Int → Option (AM × Int)} (hk223 : ∀ {y0 : Mem} {y0' : AM}, (RT tM) y0 y0' → ∀ {y1 : Int32} {y1' : Int}, RI y1 y1' → ∀ {y2 : Int32} {y2' : Int}, RI y2 y2' → ∀ {y3 : Int32} {y3' : Int}, RI y3 y3' → Lf (RP (RT tM) RI) (k223 y0 y1 y2 y3) (k223' y0' y1' y2' y3')) {S : Mem} {S' : AM} (hS : (RT tM) S S') {x1 : Int32} {x1' : Int} (hx1 : RI x1 x1') {x2 : Int32} {x2' : Int} (hx2 : RI x2 x2') {x4 : Int32} {x4' : Int} (hx4 : RI x4 x4') : Lf (RP (RT tM) RI) (f_X8_fillsBlocked_332 k223 S x1 x2 x4) (g_X8_fillsBlocked_332 k223' S' x1' x2' x4') := by
  unfold f_X8_fillsBlocked_332 g_X8_fillsBlocked_332
  refine Lf_c32 (fun b1 => ?_)
  exact hk223 hS hx1 hx2 (RI.mk (E_add hx4.1 (li32 1)) b1)
def g_X8_fillsBlocked_223_b (k223 : AM → Int → Int → Int → Option (AM × Int)) (S : AM) (x1 : Int) (x2 : Int) (x4 : Int) : Option (AM × Int) :=
  if 2 ≤ x4 then
    some (S, 0)
  else
    hA ((2 * x1) + x4) 4 <|
    if (S M_refused (((2 * x1) + x4) : Int).toNat) = 0 then
      g_X8_fillsBlocked_332 k223 S x1 x2 x4
    else
      hA ((2 * x1) + x4) 4 <|
      hA (((3 * x1) + 1) + x4) 6 <|
      if (S M_opened (((2 * x1) + x4) : Int).toNat) < (S M_limits ((((3 * x1) + 1) + x4) : Int).toNat) then
        g_X8_fillsBlocked_332 k223 S x1 x2 x4
      else
        hA (((3 * x1) + 1) + x4) 6 <|
        hA (((3 * x1) + 1) + x4) 6 <|
        if (S M_toldBlocked ((((3 * x1) + 1) + x4) : Int).toNat) = (S M_limits ((((3 * x1) + 1) + x4) : Int).toNat) then
          g_X8_fillsBlocked_332 k223 S x1 x2 x4
        else
          hA (((3 * x1) + 1) + x4) 6 <|
          c32 (22 + x4) <|
          gB2 (g_X8_lays S (22 + x4) (S M_limits ((((3 * x1) + 1) + x4) : Int).toNat) 0 0 x2) fun S1 v2 =>
          if v2 = 0 then
            g_X8_fillsBlocked_332 k223 S1 x1 x2 x4
          else
            hA (((3 * x1) + 1) + x4) 6 <|
            hA (((3 * x1) + 1) + x4) 6 <|
            gS (uA S1 M_toldBlocked (((((3 * x1) + 1) + x4) : Int).toNat) (S1 M_limits ((((3 * x1) + 1) + x4) : Int).toNat)) fun S3 =>
            some (S3, 1)
set_option maxRecDepth 10000 in
theorem lf_X8_fillsBlocked_223_b {k223 : Mem → Int32 → Int32 → Int32 → Option (Mem × Int32)} {k223' : AM → Int → Int → Int → Option (AM × Int)} (hk223 : ∀ {y0 : Mem} {y0' : AM}, (RT tM) y0 y0' → ∀ {y1 : Int32} {y1' : Int}, RI y1 y1' → ∀ {y2 : Int32} {y2' : Int}, RI y2 y2' → ∀ {y3 : Int32} {y3' : Int}, RI y3 y3' → Lf (RP (RT tM) RI) (k223 y0 y1 y2 y3) (k223' y0' y1' y2' y3')) {S : Mem} {S' : AM} (hS : (RT tM) S S') {x1 : Int32} {x1' : Int} (hx1 : RI x1 x1') {x2 : Int32} {x2' : Int} (hx2 : RI x2 x2') {x4 : Int32} {x4' : Int} (hx4 : RI x4 x4') : Lf (RP (RT tM) RI) (f_X8_fillsBlocked_223_b k223 S x1 x2 x4) (g_X8_fillsBlocked_223_b k223' S' x1' x2' x4') := by
  unfold f_X8_fillsBlocked_223_b g_X8_fillsBlocked_223_b
  refine Lf_ite (C_le (RI.lit 2 (by decide)) hx4) (fun c1 => ?_) (fun c1 => ?_)
  · exact Lf_some (RP.mk hS (RI.lit 0 (by decide)))
  · refine Lf_hA (E_add (E_mul (li32 2) hx1.1) hx4.1) (by decide) (fun b2 => ?_)
    refine Lf_ite (C_eq (RI.at hS rfl (tnE (E_add (E_mul (li32 2) hx1.1) hx4.1) b2 (by decide)) rfl) (RI.lit 0 (by decide))) (fun c3 => ?_) (fun c3 => ?_)
    · exact lf_X8_fillsBlocked_332 hk223 hS hx1 hx2 hx4
    · refine Lf_hA (E_add (E_mul (li32 2) hx1.1) hx4.1) (by decide) (fun b4 => ?_)
      refine Lf_hA (E_add (E_add (E_mul (li32 3) hx1.1) (li32 1)) hx4.1) (by decide) (fun b5 => ?_)
      refine Lf_ite (D_lt (RJ.mk (E_64 (RI.at hS rfl (tnE (E_add (E_mul (li32 2) hx1.1) hx4.1) b2 (by decide)) rfl)) (R_64 (RI.at hS rfl (tnE (E_add (E_mul (li32 2) hx1.1) hx4.1) b2 (by decide)) rfl).2)) (RJ.at hS rfl (tnE (E_add (E_add (E_mul (li32 3) hx1.1) (li32 1)) hx4.1) b5 (by decide)) rfl)) (fun c6 => ?_) (fun c6 => ?_)
      · exact lf_X8_fillsBlocked_332 hk223 hS hx1 hx2 hx4
      · refine Lf_hA (E_add (E_add (E_mul (li32 3) hx1.1) (li32 1)) hx4.1) (by decide) (fun b7 => ?_)
        refine Lf_hA (E_add (E_add (E_mul (li32 3) hx1.1) (li32 1)) hx4.1) (by decide) (fun b8 => ?_)
        refine Lf_ite (D_eq (RJ.at hS rfl (tnE (E_add (E_add (E_mul (li32 3) hx1.1) (li32 1)) hx4.1) b5 (by decide)) rfl) (RJ.at hS rfl (tnE (E_add (E_add (E_mul (li32 3) hx1.1) (li32 1)) hx4.1) b5 (by decide)) rfl)) (fun c9 => ?_) (fun c9 => ?_)
        · exact lf_X8_fillsBlocked_332 hk223 hS hx1 hx2 hx4
        · refine Lf_hA (E_add (E_add (E_mul (li32 3) hx1.1) (li32 1)) hx4.1) (by decide) (fun b10 => ?_)
          refine Lf_c32 (fun b11 => ?_)
          refine Lf_gS2 (lf_X8_lays hS (RI.mk (E_add (li32 22) hx4.1) b11) (RJ.at hS rfl (tnE (E_add (E_add (E_mul (li32 3) hx1.1) (li32 1)) hx4.1) b5 (by decide)) rfl) (RJ.lit 0 (by decide)) (RJ.lit 0 (by decide)) hx2) (fun S1 S1' hS1 v2 v2' hv2 => ?_)
          refine Lf_ite (C_eq hv2 (RI.lit 0 (by decide))) (fun c12 => ?_) (fun c12 => ?_)
          · exact lf_X8_fillsBlocked_332 hk223 hS1 hx1 hx2 hx4
          · refine Lf_hA (E_add (E_add (E_mul (li32 3) hx1.1) (li32 1)) hx4.1) (by decide) (fun b13 => ?_)
            refine Lf_hA (E_add (E_add (E_mul (li32 3) hx1.1) (li32 1)) hx4.1) (by decide) (fun b14 => ?_)
            refine Lf_st (RT.sjq hS1 rfl (tnE (E_add (E_add (E_mul (li32 3) hx1.1) (li32 1)) hx4.1) b5 (by decide)) (RJ.at hS1 rfl (tnE (E_add (E_add (E_mul (li32 3) hx1.1) (li32 1)) hx4.1) b5 (by decide)) rfl) rfl) (fun S3 S3' hS3 => ?_)
            exact Lf_some (RP.mk hS3 (RI.lit 1 (by decide)))
def g_X8_fillsBlocked_223 : Nat → AM → Int → Int → Int → Option (AM × Int)
  | 0, _, _, _, _ => none
  | n + 1, S, x1, x2, x4 => g_X8_fillsBlocked_223_b (g_X8_fillsBlocked_223 n) S x1 x2 x4
set_option maxRecDepth 10000 in
theorem lf_X8_fillsBlocked_223 (n : Nat) : ∀ {S : Mem} {S' : AM}, (RT tM) S S' → ∀ {x1 : Int32} {x1' : Int}, RI x1 x1' → ∀ {x2 : Int32} {x2' : Int}, RI x2 x2' → ∀ {x4 : Int32} {x4' : Int}, RI x4 x4' → Lf (RP (RT tM) RI) (f_X8_fillsBlocked_223 n S x1 x2 x4) (g_X8_fillsBlocked_223 n S' x1' x2' x4') := by
  induction n with
  | zero => intros; exact Lf_none
  | succ n ih => intro S S' hS x1 x1' hx1 x2 x2' hx2 x4 x4' hx4; exact lf_X8_fillsBlocked_223_b ih hS hx1 hx2 hx4
def g_X8_fillsBlocked_114_b (k114 : AM → Int → Int → Int → Option (AM × Int)) (S : AM) (x1 : Int) (x2 : Int) (x4 : Int) : Option (AM × Int) :=
  if 256 ≤ x4 then
    g_X8_fillsBlocked_223 FU S x1 x2 0
  else
    (g_X8_at x1 x4).bind fun v1 =>
    (g_X8_waits S x1 x4).bind fun v2 =>
    if v2 = 0 then
      g_X8_fillsBlocked_214 k114 S x1 x2 x4
    else
      (g_X8_sent S x1 x4).bind fun v3 =>
      hA v1 512 <|
      if v3 ≠ (S M_limit (v1 : Int).toNat) then
        g_X8_fillsBlocked_214 k114 S x1 x2 x4
      else
        hA v1 512 <|
        hA v1 512 <|
        if (S M_toldLimit (v1 : Int).toNat) = (S M_limit (v1 : Int).toNat) then
          g_X8_fillsBlocked_214 k114 S x1 x2 x4
        else
          hA v1 512 <|
          gB2 (g_X8_lays S 21 x4 (S M_limit (v1 : Int).toNat) 0 x2) fun S4 v5 =>
          if v5 = 0 then
            g_X8_fillsBlocked_214 k114 S4 x1 x2 x4
          else
            hA v1 512 <|
            hA v1 512 <|
            gS (uA S4 M_toldLimit ((v1 : Int).toNat) (S4 M_limit (v1 : Int).toNat)) fun S6 =>
            some (S6, 1)
set_option maxRecDepth 10000 in
theorem lf_X8_fillsBlocked_114_b {k114 : Mem → Int32 → Int32 → Int32 → Option (Mem × Int32)} {k114' : AM → Int → Int → Int → Option (AM × Int)} (hk114 : ∀ {y0 : Mem} {y0' : AM}, (RT tM) y0 y0' → ∀ {y1 : Int32} {y1' : Int}, RI y1 y1' → ∀ {y2 : Int32} {y2' : Int}, RI y2 y2' → ∀ {y3 : Int32} {y3' : Int}, RI y3 y3' → Lf (RP (RT tM) RI) (k114 y0 y1 y2 y3) (k114' y0' y1' y2' y3')) {S : Mem} {S' : AM} (hS : (RT tM) S S') {x1 : Int32} {x1' : Int} (hx1 : RI x1 x1') {x2 : Int32} {x2' : Int} (hx2 : RI x2 x2') {x4 : Int32} {x4' : Int} (hx4 : RI x4 x4') : Lf (RP (RT tM) RI) (f_X8_fillsBlocked_114_b k114 S x1 x2 x4) (g_X8_fillsBlocked_114_b k114' S' x1' x2' x4') := by
  unfold f_X8_fillsBlocked_114_b g_X8_fillsBlocked_114_b
  refine Lf_ite (C_le (RI.lit 256 (by decide)) hx4) (fun c1 => ?_) (fun c1 => ?_)
  · exact lf_X8_fillsBlocked_223 FU hS hx1 hx2 (RI.lit 0 (by decide))
  · refine Lf_gS (lf_X8_at hx1 hx4) (fun v1 v1' hv1 => ?_)
    refine Lf_bind (lf_X8_waits hS hx1 hx4) (fun v2 v2' hv2 => ?_)
    refine Lf_ite (C_eq hv2 (RI.lit 0 (by decide))) (fun c2 => ?_) (fun c2 => ?_)
    · exact lf_X8_fillsBlocked_214 hk114 hS hx1 hx2 hx4
    · refine Lf_bind (lf_X8_sent hS hx1 hx4) (fun v3 v3' hv3 => ?_)
      refine Lf_hA hv1.1 (by decide) (fun b3 => ?_)
      refine Lf_ite (D_ne (RJ.mk (E_64 hv3) (R_64 hv3.2)) (RJ.at hS rfl (tnE hv1.1 b3 (by decide)) rfl)) (fun c4 => ?_) (fun c4 => ?_)
      · exact lf_X8_fillsBlocked_214 hk114 hS hx1 hx2 hx4
      · refine Lf_hA hv1.1 (by decide) (fun b5 => ?_)
        refine Lf_hA hv1.1 (by decide) (fun b6 => ?_)
        refine Lf_ite (D_eq (RJ.at hS rfl (tnE hv1.1 b3 (by decide)) rfl) (RJ.at hS rfl (tnE hv1.1 b3 (by decide)) rfl)) (fun c7 => ?_) (fun c7 => ?_)
        · exact lf_X8_fillsBlocked_214 hk114 hS hx1 hx2 hx4
        · refine Lf_hA hv1.1 (by decide) (fun b8 => ?_)
          refine Lf_gS2 (lf_X8_lays hS (RI.lit 21 (by decide)) (RJ.mk (E_64 hx4) (R_64 hx4.2)) (RJ.at hS rfl (tnE hv1.1 b3 (by decide)) rfl) (RJ.lit 0 (by decide)) hx2) (fun S4 S4' hS4 v5 v5' hv5 => ?_)
          refine Lf_ite (C_eq hv5 (RI.lit 0 (by decide))) (fun c9 => ?_) (fun c9 => ?_)
          · exact lf_X8_fillsBlocked_214 hk114 hS4 hx1 hx2 hx4
          · refine Lf_hA hv1.1 (by decide) (fun b10 => ?_)
            refine Lf_hA hv1.1 (by decide) (fun b11 => ?_)
            refine Lf_st (RT.sjq hS4 rfl (tnE hv1.1 b3 (by decide)) (RJ.at hS4 rfl (tnE hv1.1 b3 (by decide)) rfl) rfl) (fun S6 S6' hS6 => ?_)
            exact Lf_some (RP.mk hS6 (RI.lit 1 (by decide)))
def g_X8_fillsBlocked_114 : Nat → AM → Int → Int → Int → Option (AM × Int)
  | 0, _, _, _, _ => none
  | n + 1, S, x1, x2, x4 => g_X8_fillsBlocked_114_b (g_X8_fillsBlocked_114 n) S x1 x2 x4
set_option maxRecDepth 10000 in
theorem lf_X8_fillsBlocked_114 (n : Nat) : ∀ {S : Mem} {S' : AM}, (RT tM) S S' → ∀ {x1 : Int32} {x1' : Int}, RI x1 x1' → ∀ {x2 : Int32} {x2' : Int}, RI x2 x2' → ∀ {x4 : Int32} {x4' : Int}, RI x4 x4' → Lf (RP (RT tM) RI) (f_X8_fillsBlocked_114 n S x1 x2 x4) (g_X8_fillsBlocked_114 n S' x1' x2' x4') := by
  induction n with
  | zero => intros; exact Lf_none
  | succ n ih => intro S S' hS x1 x1' hx1 x2 x2' hx2 x4 x4' hx4; exact lf_X8_fillsBlocked_114_b ih hS hx1 hx2 hx4
def g_X8_fillsBlocked_111 (S : AM) (x1 : Int) (x2 : Int) : Option (AM × Int) :=
  g_X8_fillsBlocked_114 FU S x1 x2 0
set_option maxRecDepth 10000 in
theorem lf_X8_fillsBlocked_111 {S : Mem} {S' : AM} (hS : (RT tM) S S') {x1 : Int32} {x1' : Int} (hx1 : RI x1 x1') {x2 : Int32} {x2' : Int} (hx2 : RI x2 x2') : Lf (RP (RT tM) RI) (f_X8_fillsBlocked_111 S x1 x2) (g_X8_fillsBlocked_111 S' x1' x2') := by
  unfold f_X8_fillsBlocked_111 g_X8_fillsBlocked_111
  exact lf_X8_fillsBlocked_114 FU hS hx1 hx2 (RI.lit 0 (by decide))
def g_X8_fillsBlocked_31 (S : AM) (x1 : Int) (x2 : Int) (x3 : Int) : Option (AM × Int) :=
  if x3 = 0 then
    g_X8_fillsBlocked_111 S x1 x2
  else
    (g_X8_allSent S x1).bind fun v1 =>
    hA (3 * x1) 6 <|
    if v1 ≠ (S M_limits ((3 * x1) : Int).toNat) then
      g_X8_fillsBlocked_111 S x1 x2
    else
      hA (3 * x1) 6 <|
      hA (3 * x1) 6 <|
      if (S M_toldBlocked ((3 * x1) : Int).toNat) = (S M_limits ((3 * x1) : Int).toNat) then
        g_X8_fillsBlocked_111 S x1 x2
      else
        hA (3 * x1) 6 <|
        gB2 (g_X8_lays S 20 (S M_limits ((3 * x1) : Int).toNat) 0 0 x2) fun S2 v3 =>
        if v3 = 0 then
          g_X8_fillsBlocked_111 S2 x1 x2
        else
          hA (3 * x1) 6 <|
          hA (3 * x1) 6 <|
          gS (uA S2 M_toldBlocked (((3 * x1) : Int).toNat) (S2 M_limits ((3 * x1) : Int).toNat)) fun S4 =>
          some (S4, 1)
set_option maxRecDepth 10000 in
theorem lf_X8_fillsBlocked_31 {S : Mem} {S' : AM} (hS : (RT tM) S S') {x1 : Int32} {x1' : Int} (hx1 : RI x1 x1') {x2 : Int32} {x2' : Int} (hx2 : RI x2 x2') {x3 : Int32} {x3' : Int} (hx3 : RI x3 x3') : Lf (RP (RT tM) RI) (f_X8_fillsBlocked_31 S x1 x2 x3) (g_X8_fillsBlocked_31 S' x1' x2' x3') := by
  unfold f_X8_fillsBlocked_31 g_X8_fillsBlocked_31
  refine Lf_ite (C_eq hx3 (RI.lit 0 (by decide))) (fun c1 => ?_) (fun c1 => ?_)
  · exact lf_X8_fillsBlocked_111 hS hx1 hx2
  · refine Lf_bind (lf_X8_allSent hS hx1) (fun v1 v1' hv1 => ?_)
    refine Lf_hA (E_mul (li32 3) hx1.1) (by decide) (fun b2 => ?_)
    refine Lf_ite (D_ne (RJ.mk (E_64 hv1) (R_64 hv1.2)) (RJ.at hS rfl (tnE (E_mul (li32 3) hx1.1) b2 (by decide)) rfl)) (fun c3 => ?_) (fun c3 => ?_)
    · exact lf_X8_fillsBlocked_111 hS hx1 hx2
    · refine Lf_hA (E_mul (li32 3) hx1.1) (by decide) (fun b4 => ?_)
      refine Lf_hA (E_mul (li32 3) hx1.1) (by decide) (fun b5 => ?_)
      refine Lf_ite (D_eq (RJ.at hS rfl (tnE (E_mul (li32 3) hx1.1) b2 (by decide)) rfl) (RJ.at hS rfl (tnE (E_mul (li32 3) hx1.1) b2 (by decide)) rfl)) (fun c6 => ?_) (fun c6 => ?_)
      · exact lf_X8_fillsBlocked_111 hS hx1 hx2
      · refine Lf_hA (E_mul (li32 3) hx1.1) (by decide) (fun b7 => ?_)
        refine Lf_gS2 (lf_X8_lays hS (RI.lit 20 (by decide)) (RJ.at hS rfl (tnE (E_mul (li32 3) hx1.1) b2 (by decide)) rfl) (RJ.lit 0 (by decide)) (RJ.lit 0 (by decide)) hx2) (fun S2 S2' hS2 v3 v3' hv3 => ?_)
        refine Lf_ite (C_eq hv3 (RI.lit 0 (by decide))) (fun c8 => ?_) (fun c8 => ?_)
        · exact lf_X8_fillsBlocked_111 hS2 hx1 hx2
        · refine Lf_hA (E_mul (li32 3) hx1.1) (by decide) (fun b9 => ?_)
          refine Lf_hA (E_mul (li32 3) hx1.1) (by decide) (fun b10 => ?_)
          refine Lf_st (RT.sjq hS2 rfl (tnE (E_mul (li32 3) hx1.1) b2 (by decide)) (RJ.at hS2 rfl (tnE (E_mul (li32 3) hx1.1) b2 (by decide)) rfl) rfl) (fun S4 S4' hS4 => ?_)
          exact Lf_some (RP.mk hS4 (RI.lit 1 (by decide)))
def g_X8_fillsBlocked_5_b (k5 : AM → Int → Int → Int → Int → Option (AM × Int)) (S : AM) (x1 : Int) (x2 : Int) (x3 : Int) (x4 : Int) : Option (AM × Int) :=
  if 256 ≤ x4 then
    g_X8_fillsBlocked_31 S x1 x2 x3
  else
    if x3 ≠ 0 then
      g_X8_fillsBlocked_31 S x1 x2 x3
    else
      (g_X8_waits S x1 x4).bind fun v1 =>
      c32 (x4 + 1) <|
      k5 S x1 x2 v1 (x4 + 1)
set_option maxRecDepth 10000 in
theorem lf_X8_fillsBlocked_5_b {k5 : Mem → Int32 → Int32 → Int32 → Int32 → Option (Mem × Int32)} {k5' : AM → Int → Int → Int → Int → Option (AM × Int)} (hk5 : ∀ {y0 : Mem} {y0' : AM}, (RT tM) y0 y0' → ∀ {y1 : Int32} {y1' : Int}, RI y1 y1' → ∀ {y2 : Int32} {y2' : Int}, RI y2 y2' → ∀ {y3 : Int32} {y3' : Int}, RI y3 y3' → ∀ {y4 : Int32} {y4' : Int}, RI y4 y4' → Lf (RP (RT tM) RI) (k5 y0 y1 y2 y3 y4) (k5' y0' y1' y2' y3' y4')) {S : Mem} {S' : AM} (hS : (RT tM) S S') {x1 : Int32} {x1' : Int} (hx1 : RI x1 x1') {x2 : Int32} {x2' : Int} (hx2 : RI x2 x2') {x3 : Int32} {x3' : Int} (hx3 : RI x3 x3') {x4 : Int32} {x4' : Int} (hx4 : RI x4 x4') : Lf (RP (RT tM) RI) (f_X8_fillsBlocked_5_b k5 S x1 x2 x3 x4) (g_X8_fillsBlocked_5_b k5' S' x1' x2' x3' x4') := by
  unfold f_X8_fillsBlocked_5_b g_X8_fillsBlocked_5_b
  refine Lf_ite (C_le (RI.lit 256 (by decide)) hx4) (fun c1 => ?_) (fun c1 => ?_)
  · exact lf_X8_fillsBlocked_31 hS hx1 hx2 hx3
  · refine Lf_ite (C_ne hx3 (RI.lit 0 (by decide))) (fun c2 => ?_) (fun c2 => ?_)
    · exact lf_X8_fillsBlocked_31 hS hx1 hx2 hx3
    · refine Lf_bind (lf_X8_waits hS hx1 hx4) (fun v1 v1' hv1 => ?_)
      refine Lf_c32 (fun b3 => ?_)
      exact hk5 hS hx1 hx2 hv1 (RI.mk (E_add hx4.1 (li32 1)) b3)
def g_X8_fillsBlocked_5 : Nat → AM → Int → Int → Int → Int → Option (AM × Int)
  | 0, _, _, _, _, _ => none
  | n + 1, S, x1, x2, x3, x4 => g_X8_fillsBlocked_5_b (g_X8_fillsBlocked_5 n) S x1 x2 x3 x4
set_option maxRecDepth 10000 in
theorem lf_X8_fillsBlocked_5 (n : Nat) : ∀ {S : Mem} {S' : AM}, (RT tM) S S' → ∀ {x1 : Int32} {x1' : Int}, RI x1 x1' → ∀ {x2 : Int32} {x2' : Int}, RI x2 x2' → ∀ {x3 : Int32} {x3' : Int}, RI x3 x3' → ∀ {x4 : Int32} {x4' : Int}, RI x4 x4' → Lf (RP (RT tM) RI) (f_X8_fillsBlocked_5 n S x1 x2 x3 x4) (g_X8_fillsBlocked_5 n S' x1' x2' x3' x4') := by
  induction n with
  | zero => intros; exact Lf_none
  | succ n ih => intro S S' hS x1 x1' hx1 x2 x2' hx2 x3 x3' hx3 x4 x4' hx4; exact lf_X8_fillsBlocked_5_b ih hS hx1 hx2 hx3 hx4
def g_X8_fillsBlocked (S : AM) (x1 : Int) (x2 : Int) : Option (AM × Int) :=
  g_X8_fillsBlocked_5 FU S x1 x2 0 0
set_option maxRecDepth 10000 in
theorem lf_X8_fillsBlocked {S : Mem} {S' : AM} (hS : (RT tM) S S') {x1 : Int32} {x1' : Int} (hx1 : RI x1 x1') {x2 : Int32} {x2' : Int} (hx2 : RI x2 x2') : Lf (RP (RT tM) RI) (f_X8_fillsBlocked S x1 x2) (g_X8_fillsBlocked S' x1' x2') := by
  unfold f_X8_fillsBlocked g_X8_fillsBlocked
  exact lf_X8_fillsBlocked_5 FU hS hx1 hx2 (RI.lit 0 (by decide)) (RI.lit 0 (by decide))
def g_X8_firstIn_56 (S : AM) (k9 : Int → Int → Int → Int → Int → Option (Int)) (x1 : Int) (x2 : Int) (x3 : Int) (x4 : Int) (x5 : Int) : Option (Int) :=
  c32 (x5 + 1) <|
  k9 x1 x2 x3 x4 (x5 + 1)
set_option maxRecDepth 10000 in
theorem lf_X8_firstIn_56 {S : Mem} {S' : AM} (hS : (RT tM) S S') {k9 : Int32 → Int32 → Int32 → Int32 → Int32 → Option (Int32)} {k9' : Int → Int → Int → Int → Int → Option (Int)} (hk9 : ∀ {y0 : Int32} {y0' : Int}, RI y0 y0' → ∀ {y1 : Int32} {y1' : Int}, RI y1 y1' → ∀ {y2 : Int32} {y2' : Int}, RI y2 y2' → ∀ {y3 : Int32} {y3' : Int}, RI y3 y3' → ∀ {y4 : Int32} {y4' : Int}, RI y4 y4' → Lf RI (k9 y0 y1 y2 y3 y4) (k9' y0' y1' y2' y3' y4')) {x1 : Int32} {x1' : Int} (hx1 : RI x1 x1') {x2 : Int32} {x2' : Int} (hx2 : RI x2 x2') {x3 : Int32} {x3' : Int} (hx3 : RI x3 x3') {x4 : Int32} {x4' : Int} (hx4 : RI x4 x4') {x5 : Int32} {x5' : Int} (hx5 : RI x5 x5') : Lf RI (f_X8_firstIn_56 S k9 x1 x2 x3 x4 x5) (g_X8_firstIn_56 S' k9' x1' x2' x3' x4' x5') := by
  unfold f_X8_firstIn_56 g_X8_firstIn_56
  refine Lf_c32 (fun b1 => ?_)
  exact hk9 hx1 hx2 hx3 hx4 (RI.mk (E_add hx5.1 (li32 1)) b1)
def g_X8_firstIn_9_b (S : AM) (k9 : Int → Int → Int → Int → Int → Option (Int)) (x1 : Int) (x2 : Int) (x3 : Int) (x4 : Int) (x5 : Int) : Option (Int) :=
  hA x1 2 <|
  c32 ((65536 * x1) + (S M_total (x1 : Int).toNat)) <|
  if ((65536 * x1) + (S M_total (x1 : Int).toNat)) ≤ x5 then
    some (-1)
  else
    hA x5 131072 <|
    if (S M_of (x5 : Int).toNat) = x2 then
      hA x5 131072 <|
      if (S M_mark (x5 : Int).toNat) ≠ x3 then
        c32 (x4 + 1) <|
        g_X8_firstIn_56 S k9 x1 x2 x3 (x4 + 1) x5
      else
        some (x4)
    else
      g_X8_firstIn_56 S k9 x1 x2 x3 x4 x5
set_option maxRecDepth 10000 in
theorem lf_X8_firstIn_9_b {S : Mem} {S' : AM} (hS : (RT tM) S S') {k9 : Int32 → Int32 → Int32 → Int32 → Int32 → Option (Int32)} {k9' : Int → Int → Int → Int → Int → Option (Int)} (hk9 : ∀ {y0 : Int32} {y0' : Int}, RI y0 y0' → ∀ {y1 : Int32} {y1' : Int}, RI y1 y1' → ∀ {y2 : Int32} {y2' : Int}, RI y2 y2' → ∀ {y3 : Int32} {y3' : Int}, RI y3 y3' → ∀ {y4 : Int32} {y4' : Int}, RI y4 y4' → Lf RI (k9 y0 y1 y2 y3 y4) (k9' y0' y1' y2' y3' y4')) {x1 : Int32} {x1' : Int} (hx1 : RI x1 x1') {x2 : Int32} {x2' : Int} (hx2 : RI x2 x2') {x3 : Int32} {x3' : Int} (hx3 : RI x3 x3') {x4 : Int32} {x4' : Int} (hx4 : RI x4 x4') {x5 : Int32} {x5' : Int} (hx5 : RI x5 x5') : Lf RI (f_X8_firstIn_9_b S k9 x1 x2 x3 x4 x5) (g_X8_firstIn_9_b S' k9' x1' x2' x3' x4' x5') := by
  unfold f_X8_firstIn_9_b g_X8_firstIn_9_b
  refine Lf_hA hx1.1 (by decide) (fun b1 => ?_)
  refine Lf_c32 (fun b2 => ?_)
  refine Lf_ite (C_le (RI.mk (E_add (E_mul (li32 65536) hx1.1) (RI.at hS rfl (tnE hx1.1 b1 (by decide)) rfl).1) b2) hx5) (fun c3 => ?_) (fun c3 => ?_)
  · exact Lf_some RI.m1
  · refine Lf_hA hx5.1 (by decide) (fun b4 => ?_)
    refine Lf_ite (C_eq (RI.at hS rfl (tnE hx5.1 b4 (by decide)) rfl) hx2) (fun c5 => ?_) (fun c5 => ?_)
    · refine Lf_hA hx5.1 (by decide) (fun b6 => ?_)
      refine Lf_ite (C_ne (RI.at hS rfl (tnE hx5.1 b4 (by decide)) rfl) hx3) (fun c7 => ?_) (fun c7 => ?_)
      · refine Lf_c32 (fun b8 => ?_)
        exact lf_X8_firstIn_56 hS hk9 hx1 hx2 hx3 (RI.mk (E_add hx4.1 (li32 1)) b8) hx5
      · exact Lf_some hx4
    · exact lf_X8_firstIn_56 hS hk9 hx1 hx2 hx3 hx4 hx5
def g_X8_firstIn_9 (S : AM) : Nat → Int → Int → Int → Int → Int → Option (Int)
  | 0, _, _, _, _, _ => none
  | n + 1, x1, x2, x3, x4, x5 => g_X8_firstIn_9_b S (g_X8_firstIn_9 S n) x1 x2 x3 x4 x5
set_option maxRecDepth 10000 in
theorem lf_X8_firstIn_9 {S : Mem} {S' : AM} (hS : (RT tM) S S') (n : Nat) : ∀ {x1 : Int32} {x1' : Int}, RI x1 x1' → ∀ {x2 : Int32} {x2' : Int}, RI x2 x2' → ∀ {x3 : Int32} {x3' : Int}, RI x3 x3' → ∀ {x4 : Int32} {x4' : Int}, RI x4 x4' → ∀ {x5 : Int32} {x5' : Int}, RI x5 x5' → Lf RI (f_X8_firstIn_9 S n x1 x2 x3 x4 x5) (g_X8_firstIn_9 S' n x1' x2' x3' x4' x5') := by
  induction n with
  | zero => intros; exact Lf_none
  | succ n ih => intro x1 x1' hx1 x2 x2' hx2 x3 x3' hx3 x4 x4' hx4 x5 x5' hx5; exact lf_X8_firstIn_9_b hS ih hx1 hx2 hx3 hx4 hx5
def g_X8_firstIn (S : AM) (x1 : Int) (x2 : Int) (x3 : Int) : Option (Int) :=
  c32 (65536 * x1) <|
  g_X8_firstIn_9 S FU x1 x2 x3 0 (65536 * x1)
set_option maxRecDepth 10000 in
theorem lf_X8_firstIn {S : Mem} {S' : AM} (hS : (RT tM) S S') {x1 : Int32} {x1' : Int} (hx1 : RI x1 x1') {x2 : Int32} {x2' : Int} (hx2 : RI x2 x2') {x3 : Int32} {x3' : Int} (hx3 : RI x3 x3') : Lf RI (f_X8_firstIn S x1 x2 x3) (g_X8_firstIn S' x1' x2' x3') := by
  unfold f_X8_firstIn g_X8_firstIn
  refine Lf_c32 (fun b1 => ?_)
  exact lf_X8_firstIn_9 hS FU hx1 hx2 hx3 (RI.lit 0 (by decide)) (RI.mk (E_mul (li32 65536) hx1.1) b1)
def g_X8_allowed_49 (S : AM) (y0 : Int) : Option (Int) :=
  if 0 ≤ y0 then
    some (y0)
  else
    some (0)
set_option maxRecDepth 10000 in
theorem lf_X8_allowed_49 {S : Mem} {S' : AM} (hS : (RT tM) S S') {y0 : Int64} {y0' : Int} (hy0 : RJ y0 y0') : Lf RJ (f_X8_allowed_49 S y0) (g_X8_allowed_49 S' y0') := by
  unfold f_X8_allowed_49 g_X8_allowed_49
  refine Lf_ite (D_le (RJ.lit 0 (by decide)) hy0) (fun c1 => ?_) (fun c1 => ?_)
  · exact Lf_some hy0
  · exact Lf_some (RJ.lit 0 (by decide))
def g_X8_allowed (S : AM) (x1 : Int) (x2 : Int) : Option (Int) :=
  (g_X8_at x1 x2).bind fun v1 =>
  hA v1 512 <|
  (g_X8_sent S x1 x2).bind fun v2 =>
  hA (3 * x1) 6 <|
  (g_X8_allSent S x1).bind fun v3 =>
  c64 ((S M_limits ((3 * x1) : Int).toNat) - v3) <|
  c64 ((S M_limit (v1 : Int).toNat) - v2) <|
  if ((S M_limits ((3 * x1) : Int).toNat) - v3) ≤ ((S M_limit (v1 : Int).toNat) - v2) then
    g_X8_allowed_49 S ((S M_limits ((3 * x1) : Int).toNat) - v3)
  else
    g_X8_allowed_49 S ((S M_limit (v1 : Int).toNat) - v2)
set_option maxRecDepth 10000 in
theorem lf_X8_allowed {S : Mem} {S' : AM} (hS : (RT tM) S S') {x1 : Int32} {x1' : Int} (hx1 : RI x1 x1') {x2 : Int32} {x2' : Int} (hx2 : RI x2 x2') : Lf RJ (f_X8_allowed S x1 x2) (g_X8_allowed S' x1' x2') := by
  unfold f_X8_allowed g_X8_allowed
  refine Lf_gS (lf_X8_at hx1 hx2) (fun v1 v1' hv1 => ?_)
  refine Lf_hA hv1.1 (by decide) (fun b1 => ?_)
  refine Lf_bind (lf_X8_sent hS hx1 hx2) (fun v2 v2' hv2 => ?_)
  refine Lf_hA (E_mul (li32 3) hx1.1) (by decide) (fun b2 => ?_)
  refine Lf_bind (lf_X8_allSent hS hx1) (fun v3 v3' hv3 => ?_)
  refine Lf_c64 (fun b3 => ?_)
  refine Lf_c64 (fun b4 => ?_)
  refine Lf_ite (D_le (RJ.mk (F_sub (RJ.at hS rfl (tnE (E_mul (li32 3) hx1.1) b2 (by decide)) rfl).1 (E_64 hv3)) b3) (RJ.mk (F_sub (RJ.at hS rfl (tnE hv1.1 b1 (by decide)) rfl).1 (E_64 hv2)) b4)) (fun c5 => ?_) (fun c5 => ?_)
  · exact lf_X8_allowed_49 hS (RJ.mk (F_sub (RJ.at hS rfl (tnE (E_mul (li32 3) hx1.1) b2 (by decide)) rfl).1 (E_64 hv3)) b3)
  · exact lf_X8_allowed_49 hS (RJ.mk (F_sub (RJ.at hS rfl (tnE hv1.1 b1 (by decide)) rfl).1 (E_64 hv2)) b4)
def g_X8_endAlone (S : AM) (x1 : Int) (x2 : Int) (x3 : Int) : Option (AM × Int) :=
  gS (uA S M_o 48 1) fun S1 =>
  (g_X8_bytes S1).bind fun v2 =>
  if v2 ≤ x3 then
    (g_X8_at x1 x2).bind fun v3 =>
    hA v3 512 <|
    gS (uA S1 M_end ((v3 : Int).toNat) 1) fun S4 =>
    some (S4, 1)
  else
    some (S1, 0)
set_option maxRecDepth 10000 in
theorem lf_X8_endAlone {S : Mem} {S' : AM} (hS : (RT tM) S S') {x1 : Int32} {x1' : Int} (hx1 : RI x1 x1') {x2 : Int32} {x2' : Int} (hx2 : RI x2 x2') {x3 : Int32} {x3' : Int} (hx3 : RI x3 x3') : Lf (RP (RT tM) RI) (f_X8_endAlone S x1 x2 x3) (g_X8_endAlone S' x1' x2' x3') := by
  unfold f_X8_endAlone g_X8_endAlone
  refine Lf_st (RT.sjq hS rfl rfl (RJ.lit 1 (by decide)) rfl) (fun S1 S1' hS1 => ?_)
  refine Lf_gS (lf_X8_bytes hS1) (fun v2 v2' hv2 => ?_)
  refine Lf_ite (C_le hv2 hx3) (fun c1 => ?_) (fun c1 => ?_)
  · refine Lf_gS (lf_X8_at hx1 hx2) (fun v3 v3' hv3 => ?_)
    refine Lf_hA hv3.1 (by decide) (fun b2 => ?_)
    refine Lf_st (RT.siq hS1 rfl (tnE hv3.1 b2 (by decide)) (RI.lit 1 (by decide)) rfl) (fun S4 S4' hS4 => ?_)
    exact Lf_some (RP.mk hS4 (RI.lit 1 (by decide)))
  · exact Lf_some (RP.mk hS1 (RI.lit 0 (by decide)))
def g_X8_placeOf_43 (S : AM) (k9 : Int → Int → Int → Option (Int)) (x2 : Int) (x5 : Int) (y0 : Int) (y1 : Int) : Option (Int) :=
  c32 (y1 - y0) <|
  c32 (x5 + 1) <|
  k9 x2 (y1 - y0) (x5 + 1)
set_option maxRecDepth 10000 in
theorem lf_X8_placeOf_43 {S : Mem} {S' : AM} (hS : (RT tM) S S') {k9 : Int32 → Int32 → Int32 → Option (Int32)} {k9' : Int → Int → Int → Option (Int)} (hk9 : ∀ {y0 : Int32} {y0' : Int}, RI y0 y0' → ∀ {y1 : Int32} {y1' : Int}, RI y1 y1' → ∀ {y2 : Int32} {y2' : Int}, RI y2 y2' → Lf RI (k9 y0 y1 y2) (k9' y0' y1' y2')) {x2 : Int32} {x2' : Int} (hx2 : RI x2 x2') {x5 : Int32} {x5' : Int} (hx5 : RI x5 x5') {y0 : Int32} {y0' : Int} (hy0 : RI y0 y0') {y1 : Int32} {y1' : Int} (hy1 : RI y1 y1') : Lf RI (f_X8_placeOf_43 S k9 x2 x5 y0 y1) (g_X8_placeOf_43 S' k9' x2' x5' y0' y1') := by
  unfold f_X8_placeOf_43 g_X8_placeOf_43
  refine Lf_c32 (fun b1 => ?_)
  refine Lf_c32 (fun b2 => ?_)
  exact hk9 hx2 (RI.mk (E_sub hy1.1 hy0.1) b1) (RI.mk (E_add hx5.1 (li32 1)) b2)
def g_X8_placeOf_25 (S : AM) (k9 : Int → Int → Int → Option (Int)) (x2 : Int) (x4 : Int) (x5 : Int) : Option (Int) :=
  hA x5 131072 <|
  if (S M_of (x5 : Int).toNat) ≠ x2 then
    g_X8_placeOf_43 S k9 x2 x5 0 x4
  else
    g_X8_placeOf_43 S k9 x2 x5 1 x4
set_option maxRecDepth 10000 in
theorem lf_X8_placeOf_25 {S : Mem} {S' : AM} (hS : (RT tM) S S') {k9 : Int32 → Int32 → Int32 → Option (Int32)} {k9' : Int → Int → Int → Option (Int)} (hk9 : ∀ {y0 : Int32} {y0' : Int}, RI y0 y0' → ∀ {y1 : Int32} {y1' : Int}, RI y1 y1' → ∀ {y2 : Int32} {y2' : Int}, RI y2 y2' → Lf RI (k9 y0 y1 y2) (k9' y0' y1' y2')) {x2 : Int32} {x2' : Int} (hx2 : RI x2 x2') {x4 : Int32} {x4' : Int} (hx4 : RI x4 x4') {x5 : Int32} {x5' : Int} (hx5 : RI x5 x5') : Lf RI (f_X8_placeOf_25 S k9 x2 x4 x5) (g_X8_placeOf_25 S' k9' x2' x4' x5') := by
  unfold f_X8_placeOf_25 g_X8_placeOf_25
  refine Lf_hA hx5.1 (by decide) (fun b1 => ?_)
  refine Lf_ite (C_ne (RI.at hS rfl (tnE hx5.1 b1 (by decide)) rfl) hx2) (fun c2 => ?_) (fun c2 => ?_)
  · exact lf_X8_placeOf_43 hS hk9 hx2 hx5 (RI.lit 0 (by decide)) hx4
  · exact lf_X8_placeOf_43 hS hk9 hx2 hx5 (RI.lit 1 (by decide)) hx4
def g_X8_placeOf_9_b (S : AM) (k9 : Int → Int → Int → Option (Int)) (x2 : Int) (x4 : Int) (x5 : Int) : Option (Int) :=
  hA x5 131072 <|
  if (S M_of (x5 : Int).toNat) ≠ x2 then
    g_X8_placeOf_25 S k9 x2 x4 x5
  else
    if x4 ≤ 0 then
      some (x5)
    else
      g_X8_placeOf_25 S k9 x2 x4 x5
set_option maxRecDepth 10000 in
theorem lf_X8_placeOf_9_b {S : Mem} {S' : AM} (hS : (RT tM) S S') {k9 : Int32 → Int32 → Int32 → Option (Int32)} {k9' : Int → Int → Int → Option (Int)} (hk9 : ∀ {y0 : Int32} {y0' : Int}, RI y0 y0' → ∀ {y1 : Int32} {y1' : Int}, RI y1 y1' → ∀ {y2 : Int32} {y2' : Int}, RI y2 y2' → Lf RI (k9 y0 y1 y2) (k9' y0' y1' y2')) {x2 : Int32} {x2' : Int} (hx2 : RI x2 x2') {x4 : Int32} {x4' : Int} (hx4 : RI x4 x4') {x5 : Int32} {x5' : Int} (hx5 : RI x5 x5') : Lf RI (f_X8_placeOf_9_b S k9 x2 x4 x5) (g_X8_placeOf_9_b S' k9' x2' x4' x5') := by
  unfold f_X8_placeOf_9_b g_X8_placeOf_9_b
  refine Lf_hA hx5.1 (by decide) (fun b1 => ?_)
  refine Lf_ite (C_ne (RI.at hS rfl (tnE hx5.1 b1 (by decide)) rfl) hx2) (fun c2 => ?_) (fun c2 => ?_)
  · exact lf_X8_placeOf_25 hS hk9 hx2 hx4 hx5
  · refine Lf_ite (C_le hx4 (RI.lit 0 (by decide))) (fun c3 => ?_) (fun c3 => ?_)
    · exact Lf_some hx5
    · exact lf_X8_placeOf_25 hS hk9 hx2 hx4 hx5
def g_X8_placeOf_9 (S : AM) : Nat → Int → Int → Int → Option (Int)
  | 0, _, _, _ => none
  | n + 1, x2, x4, x5 => g_X8_placeOf_9_b S (g_X8_placeOf_9 S n) x2 x4 x5
set_option maxRecDepth 10000 in
theorem lf_X8_placeOf_9 {S : Mem} {S' : AM} (hS : (RT tM) S S') (n : Nat) : ∀ {x2 : Int32} {x2' : Int}, RI x2 x2' → ∀ {x4 : Int32} {x4' : Int}, RI x4 x4' → ∀ {x5 : Int32} {x5' : Int}, RI x5 x5' → Lf RI (f_X8_placeOf_9 S n x2 x4 x5) (g_X8_placeOf_9 S' n x2' x4' x5') := by
  induction n with
  | zero => intros; exact Lf_none
  | succ n ih => intro x2 x2' hx2 x4 x4' hx4 x5 x5' hx5; exact lf_X8_placeOf_9_b hS ih hx2 hx4 hx5
def g_X8_placeOf (S : AM) (x1 : Int) (x2 : Int) (x3 : Int) : Option (Int) :=
  c32 (65536 * x1) <|
  g_X8_placeOf_9 S FU x2 x3 (65536 * x1)
set_option maxRecDepth 10000 in
theorem lf_X8_placeOf {S : Mem} {S' : AM} (hS : (RT tM) S S') {x1 : Int32} {x1' : Int} (hx1 : RI x1 x1') {x2 : Int32} {x2' : Int} (hx2 : RI x2 x2') {x3 : Int32} {x3' : Int} (hx3 : RI x3 x3') : Lf RI (f_X8_placeOf S x1 x2 x3) (g_X8_placeOf S' x1' x2' x3') := by
  unfold f_X8_placeOf g_X8_placeOf
  refine Lf_c32 (fun b1 => ?_)
  exact lf_X8_placeOf_9 hS FU hx2 hx3 (RI.mk (E_mul (li32 65536) hx1.1) b1)
def g_X8_fillsStream_288 (k207 : AM → Int → Int → Int → Int → Int → Int → Int → Int → Int → Int → Option (AM × Int)) (S : AM) (x1 : Int) (x2 : Int) (x3 : Int) (x4 : Int) (x5 : Int) (x6 : Int) (x7 : Int) (x9 : Int) (x12 : Int) (y0 : Int) : Option (AM × Int) :=
  if y0 = 0 then
    k207 S x1 x2 x3 x4 x5 x6 x7 x9 x12 y0
  else
    c32 (x12 + 1) <|
    k207 S x1 x2 x3 x4 x5 x6 x7 x9 (x12 + 1) y0
set_option maxRecDepth 10000 in
theorem lf_X8_fillsStream_288 {k207 : Mem → Int32 → Int32 → Int32 → Int32 → Int32 → Int32 → Int64 → Int32 → Int32 → Int32 → Option (Mem × Int32)} {k207' : AM → Int → Int → Int → Int → Int → Int → Int → Int → Int → Int → Option (AM × Int)} (hk207 : ∀ {y0 : Mem} {y0' : AM}, (RT tM) y0 y0' → ∀ {y1 : Int32} {y1' : Int}, RI y1 y1' → ∀ {y2 : Int32} {y2' : Int}, RI y2 y2' → ∀ {y3 : Int32} {y3' : Int}, RI y3 y3' → ∀ {y4 : Int32} {y4' : Int}, RI y4 y4' → ∀ {y5 : Int32} {y5' : Int}, RI y5 y5' → ∀ {y6 : Int32} {y6' : Int}, RI y6 y6' → ∀ {y7 : Int64} {y7' : Int}, RJ y7 y7' → ∀ {y8 : Int32} {y8' : Int}, RI y8 y8' → ∀ {y9 : Int32} {y9' : Int}, RI y9 y9' → ∀ {y10 : Int32} {y10' : Int}, RI y10 y10' → Lf (RP (RT tM) RI) (k207 y0 y1 y2 y3 y4 y5 y6 y7 y8 y9 y10) (k207' y0' y1' y2' y3' y4' y5' y6' y7' y8' y9' y10')) {S : Mem} {S' : AM} (hS : (RT tM) S S') {x1 : Int32} {x1' : Int} (hx1 : RI x1 x1') {x2 : Int32} {x2' : Int} (hx2 : RI x2 x2') {x3 : Int32} {x3' : Int} (hx3 : RI x3 x3') {x4 : Int32} {x4' : Int} (hx4 : RI x4 x4') {x5 : Int32} {x5' : Int} (hx5 : RI x5 x5') {x6 : Int32} {x6' : Int} (hx6 : RI x6 x6') {x7 : Int64} {x7' : Int} (hx7 : RJ x7 x7') {x9 : Int32} {x9' : Int} (hx9 : RI x9 x9') {x12 : Int32} {x12' : Int} (hx12 : RI x12 x12') {y0 : Int32} {y0' : Int} (hy0 : RI y0 y0') : Lf (RP (RT tM) RI) (f_X8_fillsStream_288 k207 S x1 x2 x3 x4 x5 x6 x7 x9 x12 y0) (g_X8_fillsStream_288 k207' S' x1' x2' x3' x4' x5' x6' x7' x9' x12' y0') := by
  unfold f_X8_fillsStream_288 g_X8_fillsStream_288
  refine Lf_ite (C_eq hy0 (RI.lit 0 (by decide))) (fun c1 => ?_) (fun c1 => ?_)
  · exact hk207 hS hx1 hx2 hx3 hx4 hx5 hx6 hx7 hx9 hx12 hy0
  · refine Lf_c32 (fun b2 => ?_)
    exact hk207 hS hx1 hx2 hx3 hx4 hx5 hx6 hx7 hx9 (RI.mk (E_add hx12.1 (li32 1)) b2) hy0
def g_X8_fillsStream_257 (k207 : AM → Int → Int → Int → Int → Int → Int → Int → Int → Int → Int → Option (AM × Int)) (S : AM) (x1 : Int) (x2 : Int) (x3 : Int) (x4 : Int) (x5 : Int) (x6 : Int) (x7 : Int) (x9 : Int) (x12 : Int) (y0 : Int) : Option (AM × Int) :=
  if y0 ≠ 0 then
    c32 (x12 + 1) <|
    gS (uA S M_o 49 (x12 + 1)) fun S1 =>
    (g_X8_bytes S1).bind fun v2 =>
    if x3 < v2 then
      g_X8_fillsStream_288 k207 S1 x1 x2 x3 x4 x5 x6 x7 x9 x12 0
    else
      g_X8_fillsStream_288 k207 S1 x1 x2 x3 x4 x5 x6 x7 x9 x12 1
  else
    k207 S x1 x2 x3 x4 x5 x6 x7 x9 x12 y0
set_option maxRecDepth 10000 in
theorem lf_X8_fillsStream_257 {k207 : Mem → Int32 → Int32 → Int32 → Int32 → Int32 → Int32 → Int64 → Int32 → Int32 → Int32 → Option (Mem × Int32)} {k207' : AM → Int → Int → Int → Int → Int → Int → Int → Int → Int → Int → Option (AM × Int)} (hk207 : ∀ {y0 : Mem} {y0' : AM}, (RT tM) y0 y0' → ∀ {y1 : Int32} {y1' : Int}, RI y1 y1' → ∀ {y2 : Int32} {y2' : Int}, RI y2 y2' → ∀ {y3 : Int32} {y3' : Int}, RI y3 y3' → ∀ {y4 : Int32} {y4' : Int}, RI y4 y4' → ∀ {y5 : Int32} {y5' : Int}, RI y5 y5' → ∀ {y6 : Int32} {y6' : Int}, RI y6 y6' → ∀ {y7 : Int64} {y7' : Int}, RJ y7 y7' → ∀ {y8 : Int32} {y8' : Int}, RI y8 y8' → ∀ {y9 : Int32} {y9' : Int}, RI y9 y9' → ∀ {y10 : Int32} {y10' : Int}, RI y10 y10' → Lf (RP (RT tM) RI) (k207 y0 y1 y2 y3 y4 y5 y6 y7 y8 y9 y10) (k207' y0' y1' y2' y3' y4' y5' y6' y7' y8' y9' y10')) {S : Mem} {S' : AM} (hS : (RT tM) S S') {x1 : Int32} {x1' : Int} (hx1 : RI x1 x1') {x2 : Int32} {x2' : Int} (hx2 : RI x2 x2') {x3 : Int32} {x3' : Int} (hx3 : RI x3 x3') {x4 : Int32} {x4' : Int} (hx4 : RI x4 x4') {x5 : Int32} {x5' : Int} (hx5 : RI x5 x5') {x6 : Int32} {x6' : Int} (hx6 : RI x6 x6') {x7 : Int64} {x7' : Int} (hx7 : RJ x7 x7') {x9 : Int32} {x9' : Int} (hx9 : RI x9 x9') {x12 : Int32} {x12' : Int} (hx12 : RI x12 x12') {y0 : Int32} {y0' : Int} (hy0 : RI y0 y0') : Lf (RP (RT tM) RI) (f_X8_fillsStream_257 k207 S x1 x2 x3 x4 x5 x6 x7 x9 x12 y0) (g_X8_fillsStream_257 k207' S' x1' x2' x3' x4' x5' x6' x7' x9' x12' y0') := by
  unfold f_X8_fillsStream_257 g_X8_fillsStream_257
  refine Lf_ite (C_ne hy0 (RI.lit 0 (by decide))) (fun c1 => ?_) (fun c1 => ?_)
  · refine Lf_c32 (fun b2 => ?_)
    refine Lf_st (RT.siq hS rfl rfl (RI.mk (E_add hx12.1 (li32 1)) b2) rfl) (fun S1 S1' hS1 => ?_)
    refine Lf_gS (lf_X8_bytes hS1) (fun v2 v2' hv2 => ?_)
    refine Lf_ite (C_lt hx3 hv2) (fun c3 => ?_) (fun c3 => ?_)
    · exact lf_X8_fillsStream_288 hk207 hS1 hx1 hx2 hx3 hx4 hx5 hx6 hx7 hx9 hx12 (RI.lit 0 (by decide))
    · exact lf_X8_fillsStream_288 hk207 hS1 hx1 hx2 hx3 hx4 hx5 hx6 hx7 hx9 hx12 (RI.lit 1 (by decide))
  · exact hk207 hS hx1 hx2 hx3 hx4 hx5 hx6 hx7 hx9 hx12 hy0
def g_X8_fillsStream_256 (k207 : AM → Int → Int → Int → Int → Int → Int → Int → Int → Int → Int → Option (AM × Int)) (S : AM) (x1 : Int) (x2 : Int) (x3 : Int) (x4 : Int) (x5 : Int) (x6 : Int) (x7 : Int) (x9 : Int) (x12 : Int) : Option (AM × Int) :=
  g_X8_fillsStream_257 k207 S x1 x2 x3 x4 x5 x6 x7 x9 x12 0
set_option maxRecDepth 10000 in
theorem lf_X8_fillsStream_256 {k207 : Mem → Int32 → Int32 → Int32 → Int32 → Int32 → Int32 → Int64 → Int32 → Int32 → Int32 → Option (Mem × Int32)} {k207' : AM → Int → Int → Int → Int → Int → Int → Int → Int → Int → Int → Option (AM × Int)} (hk207 : ∀ {y0 : Mem} {y0' : AM}, (RT tM) y0 y0' → ∀ {y1 : Int32} {y1' : Int}, RI y1 y1' → ∀ {y2 : Int32} {y2' : Int}, RI y2 y2' → ∀ {y3 : Int32} {y3' : Int}, RI y3 y3' → ∀ {y4 : Int32} {y4' : Int}, RI y4 y4' → ∀ {y5 : Int32} {y5' : Int}, RI y5 y5' → ∀ {y6 : Int32} {y6' : Int}, RI y6 y6' → ∀ {y7 : Int64} {y7' : Int}, RJ y7 y7' → ∀ {y8 : Int32} {y8' : Int}, RI y8 y8' → ∀ {y9 : Int32} {y9' : Int}, RI y9 y9' → ∀ {y10 : Int32} {y10' : Int}, RI y10 y10' → Lf (RP (RT tM) RI) (k207 y0 y1 y2 y3 y4 y5 y6 y7 y8 y9 y10) (k207' y0' y1' y2' y3' y4' y5' y6' y7' y8' y9' y10')) {S : Mem} {S' : AM} (hS : (RT tM) S S') {x1 : Int32} {x1' : Int} (hx1 : RI x1 x1') {x2 : Int32} {x2' : Int} (hx2 : RI x2 x2') {x3 : Int32} {x3' : Int} (hx3 : RI x3 x3') {x4 : Int32} {x4' : Int} (hx4 : RI x4 x4') {x5 : Int32} {x5' : Int} (hx5 : RI x5 x5') {x6 : Int32} {x6' : Int} (hx6 : RI x6 x6') {x7 : Int64} {x7' : Int} (hx7 : RJ x7 x7') {x9 : Int32} {x9' : Int} (hx9 : RI x9 x9') {x12 : Int32} {x12' : Int} (hx12 : RI x12 x12') : Lf (RP (RT tM) RI) (f_X8_fillsStream_256 k207 S x1 x2 x3 x4 x5 x6 x7 x9 x12) (g_X8_fillsStream_256 k207' S' x1' x2' x3' x4' x5' x6' x7' x9' x12') := by
  unfold f_X8_fillsStream_256 g_X8_fillsStream_256
  exact lf_X8_fillsStream_257 hk207 hS hx1 hx2 hx3 hx4 hx5 hx6 hx7 hx9 hx12 (RI.lit 0 (by decide))
def g_X8_fillsStream_317_b (k317 : AM → Int → Int → Int → Int → Int → Int → Int → Option (AM × Int)) (S : AM) (x1 : Int) (x2 : Int) (x4 : Int) (x5 : Int) (x9 : Int) (x12 : Int) (x14 : Int) : Option (AM × Int) :=
  if x12 ≤ x14 then
    c32 (x5 + x12) <|
    if (x5 + x12) ≠ x9 then
      some (S, 1)
    else
      hA x4 512 <|
      if (S M_finished (x4 : Int).toNat) = 0 then
        some (S, 1)
      else
        gS (uA S M_o 48 1) fun S1 =>
        hA x4 512 <|
        if (S1 M_end (x4 : Int).toNat) = 3 then
          some (S1, 1)
        else
          hA x4 512 <|
          gS (uA S1 M_end ((x4 : Int).toNat) 1) fun S2 =>
          some (S2, 1)
  else
    c32 (x5 + x14) <|
    (g_X8_placeOf S x1 x2 (x5 + x14)).bind fun v3 =>
    hA v3 131072 <|
    hA x14 2048 <|
    gS (uA S M_fData ((x14 : Int).toNat) (b8 (S M_value (v3 : Int).toNat))) fun S4 =>
    hA v3 131072 <|
    gS (uA S4 M_mark ((v3 : Int).toNat) (b8 1)) fun S5 =>
    c32 (x14 + 1) <|
    k317 S5 x1 x2 x4 x5 x9 x12 (x14 + 1)
set_option maxRecDepth 10000 in
theorem lf_X8_fillsStream_317_b {k317 : Mem → Int32 → Int32 → Int32 → Int32 → Int32 → Int32 → Int32 → Option (Mem × Int32)} {k317' : AM → Int → Int → Int → Int → Int → Int → Int → Option (AM × Int)} (hk317 : ∀ {y0 : Mem} {y0' : AM}, (RT tM) y0 y0' → ∀ {y1 : Int32} {y1' : Int}, RI y1 y1' → ∀ {y2 : Int32} {y2' : Int}, RI y2 y2' → ∀ {y3 : Int32} {y3' : Int}, RI y3 y3' → ∀ {y4 : Int32} {y4' : Int}, RI y4 y4' → ∀ {y5 : Int32} {y5' : Int}, RI y5 y5' → ∀ {y6 : Int32} {y6' : Int}, RI y6 y6' → ∀ {y7 : Int32} {y7' : Int}, RI y7 y7' → Lf (RP (RT tM) RI) (k317 y0 y1 y2 y3 y4 y5 y6 y7) (k317' y0' y1' y2' y3' y4' y5' y6' y7')) {S : Mem} {S' : AM} (hS : (RT tM) S S') {x1 : Int32} {x1' : Int} (hx1 : RI x1 x1') {x2 : Int32} {x2' : Int} (hx2 : RI x2 x2') {x4 : Int32} {x4' : Int} (hx4 : RI x4 x4') {x5 : Int32} {x5' : Int} (hx5 : RI x5 x5') {x9 : Int32} {x9' : Int} (hx9 : RI x9 x9') {x12 : Int32} {x12' : Int} (hx12 : RI x12 x12') {x14 : Int32} {x14' : Int} (hx14 : RI x14 x14') : Lf (RP (RT tM) RI) (f_X8_fillsStream_317_b k317 S x1 x2 x4 x5 x9 x12 x14) (g_X8_fillsStream_317_b k317' S' x1' x2' x4' x5' x9' x12' x14') := by
  unfold f_X8_fillsStream_317_b g_X8_fillsStream_317_b
  refine Lf_ite (C_le hx12 hx14) (fun c1 => ?_) (fun c1 => ?_)
  · refine Lf_c32 (fun b2 => ?_)
    refine Lf_ite (C_ne (RI.mk (E_add hx5.1 hx12.1) b2) hx9) (fun c3 => ?_) (fun c3 => ?_)
    · exact Lf_some (RP.mk hS (RI.lit 1 (by decide)))
    · refine Lf_hA hx4.1 (by decide) (fun b4 => ?_)
      refine Lf_ite (C_eq (RI.at hS rfl (tnE hx4.1 b4 (by decide)) rfl) (RI.lit 0 (by decide))) (fun c5 => ?_) (fun c5 => ?_)
      · exact Lf_some (RP.mk hS (RI.lit 1 (by decide)))
      · refine Lf_st (RT.sjq hS rfl rfl (RJ.lit 1 (by decide)) rfl) (fun S1 S1' hS1 => ?_)
        refine Lf_hA hx4.1 (by decide) (fun b6 => ?_)
        refine Lf_ite (C_eq (RI.at hS1 rfl (tnE hx4.1 b4 (by decide)) rfl) (RI.lit 3 (by decide))) (fun c7 => ?_) (fun c7 => ?_)
        · exact Lf_some (RP.mk hS1 (RI.lit 1 (by decide)))
        · refine Lf_hA hx4.1 (by decide) (fun b8 => ?_)
          refine Lf_st (RT.siq hS1 rfl (tnE hx4.1 b4 (by decide)) (RI.lit 1 (by decide)) rfl) (fun S2 S2' hS2 => ?_)
          exact Lf_some (RP.mk hS2 (RI.lit 1 (by decide)))
  · refine Lf_c32 (fun b9 => ?_)
    refine Lf_bind (lf_X8_placeOf hS hx1 hx2 (RI.mk (E_add hx5.1 hx14.1) b9)) (fun v3 v3' hv3 => ?_)
    refine Lf_hA hv3.1 (by decide) (fun b10 => ?_)
    refine Lf_hA hx14.1 (by decide) (fun b11 => ?_)
    refine Lf_st (RT.siq hS rfl (tnE hx14.1 b11 (by decide)) (RI.mk (E_nb (RI.at hS rfl (tnE hv3.1 b10 (by decide)) rfl)) (R_b8 _)) rfl) (fun S4 S4' hS4 => ?_)
    refine Lf_hA hv3.1 (by decide) (fun b12 => ?_)
    refine Lf_st (RT.siq hS4 rfl (tnE hv3.1 b10 (by decide)) (RI.mk (E_nb (RI.lit 1 (by decide))) (R_b8 _)) rfl) (fun S5 S5' hS5 => ?_)
    refine Lf_c32 (fun b13 => ?_)
    exact hk317 hS5 hx1 hx2 hx4 hx5 hx9 hx12 (RI.mk (E_add hx14.1 (li32 1)) b13)
def g_X8_fillsStream_317 : Nat → AM → Int → Int → Int → Int → Int → Int → Int → Option (AM × Int)
  | 0, _, _, _, _, _, _, _, _ => none
  | n + 1, S, x1, x2, x4, x5, x9, x12, x14 => g_X8_fillsStream_317_b (g_X8_fillsStream_317 n) S x1 x2 x4 x5 x9 x12 x14
set_option maxRecDepth 10000 in
theorem lf_X8_fillsStream_317 (n : Nat) : ∀ {S : Mem} {S' : AM}, (RT tM) S S' → ∀ {x1 : Int32} {x1' : Int}, RI x1 x1' → ∀ {x2 : Int32} {x2' : Int}, RI x2 x2' → ∀ {x4 : Int32} {x4' : Int}, RI x4 x4' → ∀ {x5 : Int32} {x5' : Int}, RI x5 x5' → ∀ {x9 : Int32} {x9' : Int}, RI x9 x9' → ∀ {x12 : Int32} {x12' : Int}, RI x12 x12' → ∀ {x14 : Int32} {x14' : Int}, RI x14 x14' → Lf (RP (RT tM) RI) (f_X8_fillsStream_317 n S x1 x2 x4 x5 x9 x12 x14) (g_X8_fillsStream_317 n S' x1' x2' x4' x5' x9' x12' x14') := by
  induction n with
  | zero => intros; exact Lf_none
  | succ n ih => intro S S' hS x1 x1' hx1 x2 x2' hx2 x4 x4' hx4 x5 x5' hx5 x9 x9' hx9 x12 x12' hx12 x14 x14' hx14; exact lf_X8_fillsStream_317_b ih hS hx1 hx2 hx4 hx5 hx9 hx12 hx14
def g_X8_fillsStream_207_b (k207 : AM → Int → Int → Int → Int → Int → Int → Int → Int → Int → Int → Option (AM × Int)) (S : AM) (x1 : Int) (x2 : Int) (x3 : Int) (x4 : Int) (x5 : Int) (x6 : Int) (x7 : Int) (x9 : Int) (x12 : Int) (x13 : Int) : Option (AM × Int) :=
  if x13 = 0 then
    gS (uA S M_o 49 x12) fun S1 =>
    if x12 ≠ 0 then
      g_X8_fillsStream_317 FU S1 x1 x2 x4 x5 x9 x12 0
    else
      some (S1, 0)
  else
    if x7 ≤ x12 then
      g_X8_fillsStream_256 k207 S x1 x2 x3 x4 x5 x6 x7 x9 x12
    else
      c32 (x5 + x12) <|
      if x9 ≤ (x5 + x12) then
        g_X8_fillsStream_256 k207 S x1 x2 x3 x4 x5 x6 x7 x9 x12
      else
        (g_X8_placeOf S x1 x2 (x5 + x12)).bind fun v2 =>
        hA v2 131072 <|
        if (S M_mark (v2 : Int).toNat) ≠ x6 then
          g_X8_fillsStream_256 k207 S x1 x2 x3 x4 x5 x6 x7 x9 x12
        else
          g_X8_fillsStream_257 k207 S x1 x2 x3 x4 x5 x6 x7 x9 x12 1
set_option maxRecDepth 10000 in
theorem lf_X8_fillsStream_207_b {k207 : Mem → Int32 → Int32 → Int32 → Int32 → Int32 → Int32 → Int64 → Int32 → Int32 → Int32 → Option (Mem × Int32)} {k207' : AM → Int → Int → Int → Int → Int → Int → Int → Int → Int → Int → Option (AM × Int)} (hk207 : ∀ {y0 : Mem} {y0' : AM}, (RT tM) y0 y0' → ∀ {y1 : Int32} {y1' : Int}, RI y1 y1' → ∀ {y2 : Int32} {y2' : Int}, RI y2 y2' → ∀ {y3 : Int32} {y3' : Int}, RI y3 y3' → ∀ {y4 : Int32} {y4' : Int}, RI y4 y4' → ∀ {y5 : Int32} {y5' : Int}, RI y5 y5' → ∀ {y6 : Int32} {y6' : Int}, RI y6 y6' → ∀ {y7 : Int64} {y7' : Int}, RJ y7 y7' → ∀ {y8 : Int32} {y8' : Int}, RI y8 y8' → ∀ {y9 : Int32} {y9' : Int}, RI y9 y9' → ∀ {y10 : Int32} {y10' : Int}, RI y10 y10' → Lf (RP (RT tM) RI) (k207 y0 y1 y2 y3 y4 y5 y6 y7 y8 y9 y10) (k207' y0' y1' y2' y3' y4' y5' y6' y7' y8' y9' y10')) {S : Mem} {S' : AM} (hS : (RT tM) S S') {x1 : Int32} {x1' : Int} (hx1 : RI x1 x1') {x2 : Int32} {x2' : Int} (hx2 : RI x2 x2') {x3 : Int32} {x3' : Int} (hx3 : RI x3 x3') {x4 : Int32} {x4' : Int} (hx4 : RI x4 x4') {x5 : Int32} {x5' : Int} (hx5 : RI x5 x5') {x6 : Int32} {x6' : Int} (hx6 : RI x6 x6') {x7 : Int64} {x7' : Int} (hx7 : RJ x7 x7') {x9 : Int32} {x9' : Int} (hx9 : RI x9 x9') {x12 : Int32} {x12' : Int} (hx12 : RI x12 x12') {x13 : Int32} {x13' : Int} (hx13 : RI x13 x13') : Lf (RP (RT tM) RI) (f_X8_fillsStream_207_b k207 S x1 x2 x3 x4 x5 x6 x7 x9 x12 x13) (g_X8_fillsStream_207_b k207' S' x1' x2' x3' x4' x5' x6' x7' x9' x12' x13') := by
  unfold f_X8_fillsStream_207_b g_X8_fillsStream_207_b
  refine Lf_ite (C_eq hx13 (RI.lit 0 (by decide))) (fun c1 => ?_) (fun c1 => ?_)
  · refine Lf_st (RT.siq hS rfl rfl hx12 rfl) (fun S1 S1' hS1 => ?_)
    refine Lf_ite (C_ne hx12 (RI.lit 0 (by decide))) (fun c2 => ?_) (fun c2 => ?_)
    · exact lf_X8_fillsStream_317 FU hS1 hx1 hx2 hx4 hx5 hx9 hx12 (RI.lit 0 (by decide))
    · exact Lf_some (RP.mk hS1 (RI.lit 0 (by decide)))
  · refine Lf_ite (D_le hx7 (RJ.mk (E_64 hx12) (R_64 hx12.2))) (fun c3 => ?_) (fun c3 => ?_)
    · exact lf_X8_fillsStream_256 hk207 hS hx1 hx2 hx3 hx4 hx5 hx6 hx7 hx9 hx12
    · refine Lf_c32 (fun b4 => ?_)
      refine Lf_ite (C_le hx9 (RI.mk (E_add hx5.1 hx12.1) b4)) (fun c5 => ?_) (fun c5 => ?_)
      · exact lf_X8_fillsStream_256 hk207 hS hx1 hx2 hx3 hx4 hx5 hx6 hx7 hx9 hx12
      · refine Lf_bind (lf_X8_placeOf hS hx1 hx2 (RI.mk (E_add hx5.1 hx12.1) b4)) (fun v2 v2' hv2 => ?_)
        refine Lf_hA hv2.1 (by decide) (fun b6 => ?_)
        refine Lf_ite (C_ne (RI.at hS rfl (tnE hv2.1 b6 (by decide)) rfl) hx6) (fun c7 => ?_) (fun c7 => ?_)
        · exact lf_X8_fillsStream_256 hk207 hS hx1 hx2 hx3 hx4 hx5 hx6 hx7 hx9 hx12
        · exact lf_X8_fillsStream_257 hk207 hS hx1 hx2 hx3 hx4 hx5 hx6 hx7 hx9 hx12 (RI.lit 1 (by decide))
def g_X8_fillsStream_207 : Nat → AM → Int → Int → Int → Int → Int → Int → Int → Int → Int → Int → Option (AM × Int)
  | 0, _, _, _, _, _, _, _, _, _, _, _ => none
  | n + 1, S, x1, x2, x3, x4, x5, x6, x7, x9, x12, x13 => g_X8_fillsStream_207_b (g_X8_fillsStream_207 n) S x1 x2 x3 x4 x5 x6 x7 x9 x12 x13
set_option maxRecDepth 10000 in
theorem lf_X8_fillsStream_207 (n : Nat) : ∀ {S : Mem} {S' : AM}, (RT tM) S S' → ∀ {x1 : Int32} {x1' : Int}, RI x1 x1' → ∀ {x2 : Int32} {x2' : Int}, RI x2 x2' → ∀ {x3 : Int32} {x3' : Int}, RI x3 x3' → ∀ {x4 : Int32} {x4' : Int}, RI x4 x4' → ∀ {x5 : Int32} {x5' : Int}, RI x5 x5' → ∀ {x6 : Int32} {x6' : Int}, RI x6 x6' → ∀ {x7 : Int64} {x7' : Int}, RJ x7 x7' → ∀ {x9 : Int32} {x9' : Int}, RI x9 x9' → ∀ {x12 : Int32} {x12' : Int}, RI x12 x12' → ∀ {x13 : Int32} {x13' : Int}, RI x13 x13' → Lf (RP (RT tM) RI) (f_X8_fillsStream_207 n S x1 x2 x3 x4 x5 x6 x7 x9 x12 x13) (g_X8_fillsStream_207 n S' x1' x2' x3' x4' x5' x6' x7' x9' x12' x13') := by
  induction n with
  | zero => intros; exact Lf_none
  | succ n ih => intro S S' hS x1 x1' hx1 x2 x2' hx2 x3 x3' hx3 x4 x4' hx4 x5 x5' hx5 x6 x6' hx6 x7 x7' hx7 x9 x9' hx9 x12 x12' hx12 x13 x13' hx13; exact lf_X8_fillsStream_207_b ih hS hx1 hx2 hx3 hx4 hx5 hx6 hx7 hx9 hx12 hx13
def g_X8_fillsStream_180 (S : AM) (x1 : Int) (x2 : Int) (x3 : Int) (x4 : Int) (x5 : Int) (x6 : Int) (x7 : Int) (x9 : Int) (x11 : Int) (y0 : Int) : Option (AM × Int) :=
  gS (uA S M_o 47 y0) fun S1 =>
  gS (uA S1 M_o 48 0) fun S2 =>
  if x11 = 0 then
    g_X8_fillsStream_207 FU S2 x1 x2 x3 x4 x5 x6 x7 x9 0 1
  else
    gB2 (g_X8_endAlone S2 x1 x2 x3) fun S3 v4 =>
    hB v4 <|
    some (S3, v4)
set_option maxRecDepth 10000 in
theorem lf_X8_fillsStream_180 {S : Mem} {S' : AM} (hS : (RT tM) S S') {x1 : Int32} {x1' : Int} (hx1 : RI x1 x1') {x2 : Int32} {x2' : Int} (hx2 : RI x2 x2') {x3 : Int32} {x3' : Int} (hx3 : RI x3 x3') {x4 : Int32} {x4' : Int} (hx4 : RI x4 x4') {x5 : Int32} {x5' : Int} (hx5 : RI x5 x5') {x6 : Int32} {x6' : Int} (hx6 : RI x6 x6') {x7 : Int64} {x7' : Int} (hx7 : RJ x7 x7') {x9 : Int32} {x9' : Int} (hx9 : RI x9 x9') {x11 : Int32} {x11' : Int} (hx11 : RI x11 x11') {y0 : Int64} {y0' : Int} (hy0 : RJ y0 y0') : Lf (RP (RT tM) RI) (f_X8_fillsStream_180 S x1 x2 x3 x4 x5 x6 x7 x9 x11 y0) (g_X8_fillsStream_180 S' x1' x2' x3' x4' x5' x6' x7' x9' x11' y0') := by
  unfold f_X8_fillsStream_180 g_X8_fillsStream_180
  refine Lf_st (RT.sjq hS rfl rfl hy0 rfl) (fun S1 S1' hS1 => ?_)
  refine Lf_st (RT.sjq hS1 rfl rfl (RJ.lit 0 (by decide)) rfl) (fun S2 S2' hS2 => ?_)
  refine Lf_ite (C_eq hx11 (RI.lit 0 (by decide))) (fun c1 => ?_) (fun c1 => ?_)
  · exact lf_X8_fillsStream_207 FU hS2 hx1 hx2 hx3 hx4 hx5 hx6 hx7 hx9 (RI.lit 0 (by decide)) (RI.lit 1 (by decide))
  · refine Lf_gB2 (lf_X8_endAlone hS2 hx1 hx2 hx3) (fun S3 S3' hS3 v4 v4' hv4 => ?_)
    refine Lf_hB hv4.1 ?_
    exact Lf_some (RP.mk hS3 hv4)
def g_X8_fillsStream_148 (S : AM) (x1 : Int) (x2 : Int) (x3 : Int) (x4 : Int) (x5 : Int) (x6 : Int) (x7 : Int) (x9 : Int) (x11 : Int) : Option (AM × Int) :=
  gS (uA S M_o 49 0) fun S1 =>
  gS (uA S1 M_o 45 8) fun S2 =>
  gS (uA S2 M_o 46 x2) fun S3 =>
  if x11 = 0 then
    g_X8_fillsStream_180 S3 x1 x2 x3 x4 x5 x6 x7 x9 x11 x5
  else
    g_X8_fillsStream_180 S3 x1 x2 x3 x4 x5 x6 x7 x9 x11 x9
set_option maxRecDepth 10000 in
theorem lf_X8_fillsStream_148 {S : Mem} {S' : AM} (hS : (RT tM) S S') {x1 : Int32} {x1' : Int} (hx1 : RI x1 x1') {x2 : Int32} {x2' : Int} (hx2 : RI x2 x2') {x3 : Int32} {x3' : Int} (hx3 : RI x3 x3') {x4 : Int32} {x4' : Int} (hx4 : RI x4 x4') {x5 : Int32} {x5' : Int} (hx5 : RI x5 x5') {x6 : Int32} {x6' : Int} (hx6 : RI x6 x6') {x7 : Int64} {x7' : Int} (hx7 : RJ x7 x7') {x9 : Int32} {x9' : Int} (hx9 : RI x9 x9') {x11 : Int32} {x11' : Int} (hx11 : RI x11 x11') : Lf (RP (RT tM) RI) (f_X8_fillsStream_148 S x1 x2 x3 x4 x5 x6 x7 x9 x11) (g_X8_fillsStream_148 S' x1' x2' x3' x4' x5' x6' x7' x9' x11') := by
  unfold f_X8_fillsStream_148 g_X8_fillsStream_148
  refine Lf_st (RT.siq hS rfl rfl (RI.lit 0 (by decide)) rfl) (fun S1 S1' hS1 => ?_)
  refine Lf_st (RT.siq hS1 rfl rfl (RI.lit 8 (by decide)) rfl) (fun S2 S2' hS2 => ?_)
  refine Lf_st (RT.sjq hS2 rfl rfl (RJ.mk (E_64 hx2) (R_64 hx2.2)) rfl) (fun S3 S3' hS3 => ?_)
  refine Lf_ite (C_eq hx11 (RI.lit 0 (by decide))) (fun c1 => ?_) (fun c1 => ?_)
  · exact lf_X8_fillsStream_180 hS3 hx1 hx2 hx3 hx4 hx5 hx6 hx7 hx9 hx11 (RJ.mk (E_64 hx5) (R_64 hx5.2))
  · exact lf_X8_fillsStream_180 hS3 hx1 hx2 hx3 hx4 hx5 hx6 hx7 hx9 hx11 (RJ.mk (E_64 hx9) (R_64 hx9.2))
def g_X8_fillsStream_134 (S : AM) (x1 : Int) (x2 : Int) (x3 : Int) (x4 : Int) (x5 : Int) (x6 : Int) (x7 : Int) (x9 : Int) (x11 : Int) : Option (AM × Int) :=
  if x11 ≠ 0 then
    g_X8_fillsStream_148 S x1 x2 x3 x4 x5 x6 x7 x9 x11
  else
    if x7 ≠ 0 then
      g_X8_fillsStream_148 S x1 x2 x3 x4 x5 x6 x7 x9 x11
    else
      some (S, 0)
set_option maxRecDepth 10000 in
theorem lf_X8_fillsStream_134 {S : Mem} {S' : AM} (hS : (RT tM) S S') {x1 : Int32} {x1' : Int} (hx1 : RI x1 x1') {x2 : Int32} {x2' : Int} (hx2 : RI x2 x2') {x3 : Int32} {x3' : Int} (hx3 : RI x3 x3') {x4 : Int32} {x4' : Int} (hx4 : RI x4 x4') {x5 : Int32} {x5' : Int} (hx5 : RI x5 x5') {x6 : Int32} {x6' : Int} (hx6 : RI x6 x6') {x7 : Int64} {x7' : Int} (hx7 : RJ x7 x7') {x9 : Int32} {x9' : Int} (hx9 : RI x9 x9') {x11 : Int32} {x11' : Int} (hx11 : RI x11 x11') : Lf (RP (RT tM) RI) (f_X8_fillsStream_134 S x1 x2 x3 x4 x5 x6 x7 x9 x11) (g_X8_fillsStream_134 S' x1' x2' x3' x4' x5' x6' x7' x9' x11') := by
  unfold f_X8_fillsStream_134 g_X8_fillsStream_134
  refine Lf_ite (C_ne hx11 (RI.lit 0 (by decide))) (fun c1 => ?_) (fun c1 => ?_)
  · exact lf_X8_fillsStream_148 hS hx1 hx2 hx3 hx4 hx5 hx6 hx7 hx9 hx11
  · refine Lf_ite (D_ne hx7 (RJ.lit 0 (by decide))) (fun c2 => ?_) (fun c2 => ?_)
    · exact lf_X8_fillsStream_148 hS hx1 hx2 hx3 hx4 hx5 hx6 hx7 hx9 hx11
    · exact Lf_some (RP.mk hS (RI.lit 0 (by decide)))
def g_X8_fillsStream_122 (S : AM) (x1 : Int) (x2 : Int) (x3 : Int) (x4 : Int) (x5 : Int) (x6 : Int) (x7 : Int) (x9 : Int) (x10 : Int) (y0 : Int) : Option (AM × Int) :=
  if y0 = 0 then
    g_X8_fillsStream_134 S x1 x2 x3 x4 x5 x6 x7 x9 y0
  else
    if x10 = 0 then
      some (S, 0)
    else
      g_X8_fillsStream_134 S x1 x2 x3 x4 x5 x6 x7 x9 y0
set_option maxRecDepth 10000 in
theorem lf_X8_fillsStream_122 {S : Mem} {S' : AM} (hS : (RT tM) S S') {x1 : Int32} {x1' : Int} (hx1 : RI x1 x1') {x2 : Int32} {x2' : Int} (hx2 : RI x2 x2') {x3 : Int32} {x3' : Int} (hx3 : RI x3 x3') {x4 : Int32} {x4' : Int} (hx4 : RI x4 x4') {x5 : Int32} {x5' : Int} (hx5 : RI x5 x5') {x6 : Int32} {x6' : Int} (hx6 : RI x6 x6') {x7 : Int64} {x7' : Int} (hx7 : RJ x7 x7') {x9 : Int32} {x9' : Int} (hx9 : RI x9 x9') {x10 : Int32} {x10' : Int} (hx10 : RI x10 x10') {y0 : Int32} {y0' : Int} (hy0 : RI y0 y0') : Lf (RP (RT tM) RI) (f_X8_fillsStream_122 S x1 x2 x3 x4 x5 x6 x7 x9 x10 y0) (g_X8_fillsStream_122 S' x1' x2' x3' x4' x5' x6' x7' x9' x10' y0') := by
  unfold f_X8_fillsStream_122 g_X8_fillsStream_122
  refine Lf_ite (C_eq hy0 (RI.lit 0 (by decide))) (fun c1 => ?_) (fun c1 => ?_)
  · exact lf_X8_fillsStream_134 hS hx1 hx2 hx3 hx4 hx5 hx6 hx7 hx9 hy0
  · refine Lf_ite (C_eq hx10 (RI.lit 0 (by decide))) (fun c2 => ?_) (fun c2 => ?_)
    · exact Lf_some (RP.mk hS (RI.lit 0 (by decide)))
    · exact lf_X8_fillsStream_134 hS hx1 hx2 hx3 hx4 hx5 hx6 hx7 hx9 hy0
def g_X8_fillsStream_110 (S : AM) (x1 : Int) (x2 : Int) (x3 : Int) (x4 : Int) (x5 : Int) (x6 : Int) (x7 : Int) (x9 : Int) (y0 : Int) : Option (AM × Int) :=
  if 0 ≤ x5 then
    g_X8_fillsStream_122 S x1 x2 x3 x4 x5 x6 x7 x9 y0 0
  else
    g_X8_fillsStream_122 S x1 x2 x3 x4 x5 x6 x7 x9 y0 1
set_option maxRecDepth 10000 in
theorem lf_X8_fillsStream_110 {S : Mem} {S' : AM} (hS : (RT tM) S S') {x1 : Int32} {x1' : Int} (hx1 : RI x1 x1') {x2 : Int32} {x2' : Int} (hx2 : RI x2 x2') {x3 : Int32} {x3' : Int} (hx3 : RI x3 x3') {x4 : Int32} {x4' : Int} (hx4 : RI x4 x4') {x5 : Int32} {x5' : Int} (hx5 : RI x5 x5') {x6 : Int32} {x6' : Int} (hx6 : RI x6 x6') {x7 : Int64} {x7' : Int} (hx7 : RJ x7 x7') {x9 : Int32} {x9' : Int} (hx9 : RI x9 x9') {y0 : Int32} {y0' : Int} (hy0 : RI y0 y0') : Lf (RP (RT tM) RI) (f_X8_fillsStream_110 S x1 x2 x3 x4 x5 x6 x7 x9 y0) (g_X8_fillsStream_110 S' x1' x2' x3' x4' x5' x6' x7' x9' y0') := by
  unfold f_X8_fillsStream_110 g_X8_fillsStream_110
  refine Lf_ite (C_le (RI.lit 0 (by decide)) hx5) (fun c1 => ?_) (fun c1 => ?_)
  · exact lf_X8_fillsStream_122 hS hx1 hx2 hx3 hx4 hx5 hx6 hx7 hx9 hy0 (RI.lit 0 (by decide))
  · exact lf_X8_fillsStream_122 hS hx1 hx2 hx3 hx4 hx5 hx6 hx7 hx9 hy0 (RI.lit 1 (by decide))
def g_X8_fillsStream_105 (S : AM) (x1 : Int) (x2 : Int) (x3 : Int) (x4 : Int) (x5 : Int) (x6 : Int) (x7 : Int) (x9 : Int) : Option (AM × Int) :=
  g_X8_fillsStream_110 S x1 x2 x3 x4 x5 x6 x7 x9 1
set_option maxRecDepth 10000 in
theorem lf_X8_fillsStream_105 {S : Mem} {S' : AM} (hS : (RT tM) S S') {x1 : Int32} {x1' : Int} (hx1 : RI x1 x1') {x2 : Int32} {x2' : Int} (hx2 : RI x2 x2') {x3 : Int32} {x3' : Int} (hx3 : RI x3 x3') {x4 : Int32} {x4' : Int} (hx4 : RI x4 x4') {x5 : Int32} {x5' : Int} (hx5 : RI x5 x5') {x6 : Int32} {x6' : Int} (hx6 : RI x6 x6') {x7 : Int64} {x7' : Int} (hx7 : RJ x7 x7') {x9 : Int32} {x9' : Int} (hx9 : RI x9 x9') : Lf (RP (RT tM) RI) (f_X8_fillsStream_105 S x1 x2 x3 x4 x5 x6 x7 x9) (g_X8_fillsStream_105 S' x1' x2' x3' x4' x5' x6' x7' x9') := by
  unfold f_X8_fillsStream_105 g_X8_fillsStream_105
  exact lf_X8_fillsStream_110 hS hx1 hx2 hx3 hx4 hx5 hx6 hx7 hx9 (RI.lit 1 (by decide))
def g_X8_fillsStream_109 (S : AM) (x1 : Int) (x2 : Int) (x3 : Int) (x4 : Int) (x5 : Int) (x6 : Int) (x7 : Int) (x9 : Int) : Option (AM × Int) :=
  g_X8_fillsStream_110 S x1 x2 x3 x4 x5 x6 x7 x9 0
set_option maxRecDepth 10000 in
theorem lf_X8_fillsStream_109 {S : Mem} {S' : AM} (hS : (RT tM) S S') {x1 : Int32} {x1' : Int} (hx1 : RI x1 x1') {x2 : Int32} {x2' : Int} (hx2 : RI x2 x2') {x3 : Int32} {x3' : Int} (hx3 : RI x3 x3') {x4 : Int32} {x4' : Int} (hx4 : RI x4 x4') {x5 : Int32} {x5' : Int} (hx5 : RI x5 x5') {x6 : Int32} {x6' : Int} (hx6 : RI x6 x6') {x7 : Int64} {x7' : Int} (hx7 : RJ x7 x7') {x9 : Int32} {x9' : Int} (hx9 : RI x9 x9') : Lf (RP (RT tM) RI) (f_X8_fillsStream_109 S x1 x2 x3 x4 x5 x6 x7 x9) (g_X8_fillsStream_109 S' x1' x2' x3' x4' x5' x6' x7' x9') := by
  unfold f_X8_fillsStream_109 g_X8_fillsStream_109
  exact lf_X8_fillsStream_110 hS hx1 hx2 hx3 hx4 hx5 hx6 hx7 hx9 (RI.lit 0 (by decide))
def g_X8_fillsStream_66 (S : AM) (x1 : Int) (x2 : Int) (x3 : Int) (x4 : Int) (x5 : Int) (x6 : Int) (x7 : Int) : Option (AM × Int) :=
  (g_X8_written S x1 x2).bind fun v1 =>
  hA x4 512 <|
  if (S M_finished (x4 : Int).toNat) = 0 then
    g_X8_fillsStream_109 S x1 x2 x3 x4 x5 x6 x7 v1
  else
    hA x4 512 <|
    if (S M_end (x4 : Int).toNat) = 0 then
      g_X8_fillsStream_105 S x1 x2 x3 x4 x5 x6 x7 v1
    else
      hA x4 512 <|
      if (S M_end (x4 : Int).toNat) ≠ 2 then
        g_X8_fillsStream_109 S x1 x2 x3 x4 x5 x6 x7 v1
      else
        g_X8_fillsStream_105 S x1 x2 x3 x4 x5 x6 x7 v1
set_option maxRecDepth 10000 in
theorem lf_X8_fillsStream_66 {S : Mem} {S' : AM} (hS : (RT tM) S S') {x1 : Int32} {x1' : Int} (hx1 : RI x1 x1') {x2 : Int32} {x2' : Int} (hx2 : RI x2 x2') {x3 : Int32} {x3' : Int} (hx3 : RI x3 x3') {x4 : Int32} {x4' : Int} (hx4 : RI x4 x4') {x5 : Int32} {x5' : Int} (hx5 : RI x5 x5') {x6 : Int32} {x6' : Int} (hx6 : RI x6 x6') {x7 : Int64} {x7' : Int} (hx7 : RJ x7 x7') : Lf (RP (RT tM) RI) (f_X8_fillsStream_66 S x1 x2 x3 x4 x5 x6 x7) (g_X8_fillsStream_66 S' x1' x2' x3' x4' x5' x6' x7') := by
  unfold f_X8_fillsStream_66 g_X8_fillsStream_66
  refine Lf_bind (lf_X8_written hS hx1 hx2) (fun v1 v1' hv1 => ?_)
  refine Lf_hA hx4.1 (by decide) (fun b1 => ?_)
  refine Lf_ite (C_eq (RI.at hS rfl (tnE hx4.1 b1 (by decide)) rfl) (RI.lit 0 (by decide))) (fun c2 => ?_) (fun c2 => ?_)
  · exact lf_X8_fillsStream_109 hS hx1 hx2 hx3 hx4 hx5 hx6 hx7 hv1
  · refine Lf_hA hx4.1 (by decide) (fun b3 => ?_)
    refine Lf_ite (C_eq (RI.at hS rfl (tnE hx4.1 b1 (by decide)) rfl) (RI.lit 0 (by decide))) (fun c4 => ?_) (fun c4 => ?_)
    · exact lf_X8_fillsStream_105 hS hx1 hx2 hx3 hx4 hx5 hx6 hx7 hv1
    · refine Lf_hA hx4.1 (by decide) (fun b5 => ?_)
      refine Lf_ite (C_ne (RI.at hS rfl (tnE hx4.1 b1 (by decide)) rfl) (RI.lit 2 (by decide))) (fun c6 => ?_) (fun c6 => ?_)
      · exact lf_X8_fillsStream_109 hS hx1 hx2 hx3 hx4 hx5 hx6 hx7 hv1
      · exact lf_X8_fillsStream_105 hS hx1 hx2 hx3 hx4 hx5 hx6 hx7 hv1
def g_X8_fillsStream_37 (S : AM) (x1 : Int) (x2 : Int) (x3 : Int) (x4 : Int) (x5 : Int) (y0 : Int) : Option (AM × Int) :=
  if 0 ≤ x5 then
    g_X8_fillsStream_66 S x1 x2 x3 x4 x5 y0 65536
  else
    (g_X8_firstIn S x1 x2 0).bind fun v1 =>
    (g_X8_allowed S x1 x2).bind fun v2 =>
    g_X8_fillsStream_66 S x1 x2 x3 x4 v1 y0 v2
set_option maxRecDepth 10000 in
theorem lf_X8_fillsStream_37 {S : Mem} {S' : AM} (hS : (RT tM) S S') {x1 : Int32} {x1' : Int} (hx1 : RI x1 x1') {x2 : Int32} {x2' : Int} (hx2 : RI x2 x2') {x3 : Int32} {x3' : Int} (hx3 : RI x3 x3') {x4 : Int32} {x4' : Int} (hx4 : RI x4 x4') {x5 : Int32} {x5' : Int} (hx5 : RI x5 x5') {y0 : Int32} {y0' : Int} (hy0 : RI y0 y0') : Lf (RP (RT tM) RI) (f_X8_fillsStream_37 S x1 x2 x3 x4 x5 y0) (g_X8_fillsStream_37 S' x1' x2' x3' x4' x5' y0') := by
  unfold f_X8_fillsStream_37 g_X8_fillsStream_37
  refine Lf_ite (C_le (RI.lit 0 (by decide)) hx5) (fun c1 => ?_) (fun c1 => ?_)
  · exact lf_X8_fillsStream_66 hS hx1 hx2 hx3 hx4 hx5 hy0 (RJ.lit 65536 (by decide))
  · refine Lf_bind (lf_X8_firstIn hS hx1 hx2 (RI.lit 0 (by decide))) (fun v1 v1' hv1 => ?_)
    refine Lf_bind (lf_X8_allowed hS hx1 hx2) (fun v2 v2' hv2 => ?_)
    exact lf_X8_fillsStream_66 hS hx1 hx2 hx3 hx4 hv1 hy0 hv2
def g_X8_fillsStream (S : AM) (x1 : Int) (x2 : Int) (x3 : Int) : Option (AM × Int) :=
  (g_X8_isOpenSending S x1 x2).bind fun v1 =>
  if v1 ≠ 0 then
    (g_X8_at x1 x2).bind fun v2 =>
    (g_X8_firstIn S x1 x2 2).bind fun v3 =>
    if v3 < 0 then
      g_X8_fillsStream_37 S x1 x2 x3 v2 v3 0
    else
      g_X8_fillsStream_37 S x1 x2 x3 v2 v3 2
  else
    some (S, 0)
set_option maxRecDepth 10000 in
theorem lf_X8_fillsStream {S : Mem} {S' : AM} (hS : (RT tM) S S') {x1 : Int32} {x1' : Int} (hx1 : RI x1 x1') {x2 : Int32} {x2' : Int} (hx2 : RI x2 x2') {x3 : Int32} {x3' : Int} (hx3 : RI x3 x3') : Lf (RP (RT tM) RI) (f_X8_fillsStream S x1 x2 x3) (g_X8_fillsStream S' x1' x2' x3') := by
  unfold f_X8_fillsStream g_X8_fillsStream
  refine Lf_bind (lf_X8_isOpenSending hS hx1 hx2) (fun v1 v1' hv1 => ?_)
  refine Lf_ite (C_ne hv1 (RI.lit 0 (by decide))) (fun c1 => ?_) (fun c1 => ?_)
  · refine Lf_gS (lf_X8_at hx1 hx2) (fun v2 v2' hv2 => ?_)
    refine Lf_bind (lf_X8_firstIn hS hx1 hx2 (RI.lit 2 (by decide))) (fun v3 v3' hv3 => ?_)
    refine Lf_ite (C_lt hv3 (RI.lit 0 (by decide))) (fun c2 => ?_) (fun c2 => ?_)
    · exact lf_X8_fillsStream_37 hS hx1 hx2 hx3 hv2 hv3 (RI.lit 0 (by decide))
    · exact lf_X8_fillsStream_37 hS hx1 hx2 hx3 hv2 hv3 (RI.lit 2 (by decide))
  · exact Lf_some (RP.mk hS (RI.lit 0 (by decide)))
def g_X8_fills_31_b (k31 : AM → Int → Int → Int → Option (AM × Int)) (S : AM) (x1 : Int) (x2 : Int) (x3 : Int) : Option (AM × Int) :=
  if 256 < x3 then
    some (S, 0)
  else
    hA x1 2 <|
    hA (((S M_lastStream (x1 : Int).toNat) + x3) + 256) 2147483648 <|
    c32 ((((S M_lastStream (x1 : Int).toNat) + x3) + 256) - (((((S M_lastStream (x1 : Int).toNat) + x3) + 256) / 256) * 256)) <|
    gB2 (g_X8_fillsStream S x1 ((((S M_lastStream (x1 : Int).toNat) + x3) + 256) - (((((S M_lastStream (x1 : Int).toNat) + x3) + 256) / 256) * 256)) x2) fun S1 v2 =>
    if v2 = 0 then
      c32 (x3 + 1) <|
      k31 S1 x1 x2 (x3 + 1)
    else
      hA x1 2 <|
      gS (uA S1 M_lastStream ((x1 : Int).toNat) ((((S M_lastStream (x1 : Int).toNat) + x3) + 256) - (((((S M_lastStream (x1 : Int).toNat) + x3) + 256) / 256) * 256))) fun S3 =>
      some (S3, 1)
set_option maxRecDepth 10000 in
theorem lf_X8_fills_31_b {k31 : Mem → Int32 → Int32 → Int32 → Option (Mem × Int32)} {k31' : AM → Int → Int → Int → Option (AM × Int)} (hk31 : ∀ {y0 : Mem} {y0' : AM}, (RT tM) y0 y0' → ∀ {y1 : Int32} {y1' : Int}, RI y1 y1' → ∀ {y2 : Int32} {y2' : Int}, RI y2 y2' → ∀ {y3 : Int32} {y3' : Int}, RI y3 y3' → Lf (RP (RT tM) RI) (k31 y0 y1 y2 y3) (k31' y0' y1' y2' y3')) {S : Mem} {S' : AM} (hS : (RT tM) S S') {x1 : Int32} {x1' : Int} (hx1 : RI x1 x1') {x2 : Int32} {x2' : Int} (hx2 : RI x2 x2') {x3 : Int32} {x3' : Int} (hx3 : RI x3 x3') : Lf (RP (RT tM) RI) (f_X8_fills_31_b k31 S x1 x2 x3) (g_X8_fills_31_b k31' S' x1' x2' x3') := by
  unfold f_X8_fills_31_b g_X8_fills_31_b
  refine Lf_ite (C_lt (RI.lit 256 (by decide)) hx3) (fun c1 => ?_) (fun c1 => ?_)
  · exact Lf_some (RP.mk hS (RI.lit 0 (by decide)))
  · refine Lf_hA hx1.1 (by decide) (fun b2 => ?_)
    refine Lf_hD (fun b3 => ?_)
    refine Lf_c32 (fun b4 => ?_)
    refine Lf_gB2 (lf_X8_fillsStream hS hx1 (RI.mk (E_sub (E_add (E_add (RI.at hS rfl (tnE hx1.1 b2 (by decide)) rfl).1 hx3.1) (li32 256)) (E_mul (E_div (E_add (E_add (RI.at hS rfl (tnE hx1.1 b2 (by decide)) rfl).1 hx3.1) (li32 256)) (li32 256) b3 (by decide) (by decide)) (li32 256))) b4) hx2) (fun S1 S1' hS1 v2 v2' hv2 => ?_)
    refine Lf_ite (C_eq hv2 (RI.lit 0 (by decide))) (fun c5 => ?_) (fun c5 => ?_)
    · refine Lf_c32 (fun b6 => ?_)
      exact hk31 hS1 hx1 hx2 (RI.mk (E_add hx3.1 (li32 1)) b6)
    · refine Lf_hA hx1.1 (by decide) (fun b7 => ?_)
      refine Lf_st (RT.siq hS1 rfl (tnE hx1.1 b2 (by decide)) (RI.mk (E_sub (E_add (E_add (RI.at hS rfl (tnE hx1.1 b2 (by decide)) rfl).1 hx3.1) (li32 256)) (E_mul (E_div (E_add (E_add (RI.at hS rfl (tnE hx1.1 b2 (by decide)) rfl).1 hx3.1) (li32 256)) (li32 256) b3 (by decide) (by decide)) (li32 256))) b4) rfl) (fun S3 S3' hS3 => ?_)
      exact Lf_some (RP.mk hS3 (RI.lit 1 (by decide)))
def g_X8_fills_31 : Nat → AM → Int → Int → Int → Option (AM × Int)
  | 0, _, _, _, _ => none
  | n + 1, S, x1, x2, x3 => g_X8_fills_31_b (g_X8_fills_31 n) S x1 x2 x3
set_option maxRecDepth 10000 in
theorem lf_X8_fills_31 (n : Nat) : ∀ {S : Mem} {S' : AM}, (RT tM) S S' → ∀ {x1 : Int32} {x1' : Int}, RI x1 x1' → ∀ {x2 : Int32} {x2' : Int}, RI x2 x2' → ∀ {x3 : Int32} {x3' : Int}, RI x3 x3' → Lf (RP (RT tM) RI) (f_X8_fills_31 n S x1 x2 x3) (g_X8_fills_31 n S' x1' x2' x3') := by
  induction n with
  | zero => intros; exact Lf_none
  | succ n ih => intro S S' hS x1 x1' hx1 x2 x2' hx2 x3 x3' hx3; exact lf_X8_fills_31_b ih hS hx1 hx2 hx3
def g_X8_fills (S : AM) (x1 : Int) (x2 : Int) : Option (AM × Int) :=
  gB2 (g_X8_fillsResets S x1 x2) fun S1 v2 =>
  if v2 ≠ 0 then
    some (S1, 1)
  else
    gB2 (g_X8_fillsGrants S1 x1 x2) fun S3 v4 =>
    if v4 ≠ 0 then
      some (S3, 1)
    else
      gB2 (g_X8_fillsBlocked S3 x1 x2) fun S5 v6 =>
      if v6 = 0 then
        g_X8_fills_31 FU S5 x1 x2 1
      else
        some (S5, 1)
set_option maxRecDepth 10000 in
theorem lf_X8_fills {S : Mem} {S' : AM} (hS : (RT tM) S S') {x1 : Int32} {x1' : Int} (hx1 : RI x1 x1') {x2 : Int32} {x2' : Int} (hx2 : RI x2 x2') : Lf (RP (RT tM) RI) (f_X8_fills S x1 x2) (g_X8_fills S' x1' x2') := by
  unfold f_X8_fills g_X8_fills
  refine Lf_gB2 (lf_X8_fillsResets hS hx1 hx2) (fun S1 S1' hS1 v2 v2' hv2 => ?_)
  refine Lf_ite (C_ne hv2 (RI.lit 0 (by decide))) (fun c1 => ?_) (fun c1 => ?_)
  · exact Lf_some (RP.mk hS1 (RI.lit 1 (by decide)))
  · refine Lf_gB2 (lf_X8_fillsGrants hS1 hx1 hx2) (fun S3 S3' hS3 v4 v4' hv4 => ?_)
    refine Lf_ite (C_ne hv4 (RI.lit 0 (by decide))) (fun c2 => ?_) (fun c2 => ?_)
    · exact Lf_some (RP.mk hS3 (RI.lit 1 (by decide)))
    · refine Lf_gB2 (lf_X8_fillsBlocked hS3 hx1 hx2) (fun S5 S5' hS5 v6 v6' hv6 => ?_)
      refine Lf_ite (C_eq hv6 (RI.lit 0 (by decide))) (fun c3 => ?_) (fun c3 => ?_)
      · exact lf_X8_fills_31 FU hS5 hx1 hx2 (RI.lit 1 (by decide))
      · exact Lf_some (RP.mk hS5 (RI.lit 1 (by decide)))
def g_X8_fill_161_b (k161 : AM → Int → Int → Option (AM × Int)) (S : AM) (x3 : Int) (x4 : Int) : Option (AM × Int) :=
  if (S M_o 49) ≤ x4 then
    some (S, x3)
  else
    hA x4 2048 <|
    hA ((1200 * x3) + x4) 76800 <|
    gS (uA S M_lineData ((((1200 * x3) + x4) : Int).toNat) (b8 (S M_fData (x4 : Int).toNat))) fun S1 =>
    c32 (x4 + 1) <|
    k161 S1 x3 (x4 + 1)
set_option maxRecDepth 10000 in
theorem lf_X8_fill_161_b {k161 : Mem → Int32 → Int32 → Option (Mem × Int32)} {k161' : AM → Int → Int → Option (AM × Int)} (hk161 : ∀ {y0 : Mem} {y0' : AM}, (RT tM) y0 y0' → ∀ {y1 : Int32} {y1' : Int}, RI y1 y1' → ∀ {y2 : Int32} {y2' : Int}, RI y2 y2' → Lf (RP (RT tM) RI) (k161 y0 y1 y2) (k161' y0' y1' y2')) {S : Mem} {S' : AM} (hS : (RT tM) S S') {x3 : Int32} {x3' : Int} (hx3 : RI x3 x3') {x4 : Int32} {x4' : Int} (hx4 : RI x4 x4') : Lf (RP (RT tM) RI) (f_X8_fill_161_b k161 S x3 x4) (g_X8_fill_161_b k161' S' x3' x4') := by
  unfold f_X8_fill_161_b g_X8_fill_161_b
  refine Lf_ite (C_le (RI.at hS rfl rfl rfl) hx4) (fun c1 => ?_) (fun c1 => ?_)
  · exact Lf_some (RP.mk hS hx3)
  · refine Lf_hA hx4.1 (by decide) (fun b2 => ?_)
    refine Lf_hA (E_add (E_mul (li32 1200) hx3.1) hx4.1) (by decide) (fun b3 => ?_)
    refine Lf_st (RT.siq hS rfl (tnE (E_add (E_mul (li32 1200) hx3.1) hx4.1) b3 (by decide)) (RI.mk (E_nb (RI.at hS rfl (tnE hx4.1 b2 (by decide)) rfl)) (R_b8 _)) rfl) (fun S1 S1' hS1 => ?_)
    refine Lf_c32 (fun b4 => ?_)
    exact hk161 hS1 hx3 (RI.mk (E_add hx4.1 (li32 1)) b4)
def g_X8_fill_161 : Nat → AM → Int → Int → Option (AM × Int)
  | 0, _, _, _ => none
  | n + 1, S, x3, x4 => g_X8_fill_161_b (g_X8_fill_161 n) S x3 x4
set_option maxRecDepth 10000 in
theorem lf_X8_fill_161 (n : Nat) : ∀ {S : Mem} {S' : AM}, (RT tM) S S' → ∀ {x3 : Int32} {x3' : Int}, RI x3 x3' → ∀ {x4 : Int32} {x4' : Int}, RI x4 x4' → Lf (RP (RT tM) RI) (f_X8_fill_161 n S x3 x4) (g_X8_fill_161 n S' x3' x4') := by
  induction n with
  | zero => intros; exact Lf_none
  | succ n ih => intro S S' hS x3 x3' hx3 x4 x4' hx4; exact lf_X8_fill_161_b ih hS hx3 hx4
def g_X8_fill_52 (S : AM) (x1 : Int) (x2 : Int) (y0 : Int) : Option (AM × Int) :=
  gB2 (g_X8_fails S y0 2) fun S1 v2 =>
  if v2 = 0 then
    gB2 (g_X8_fills S1 x1 x2) fun S3 v4 =>
    if v4 ≠ 0 then
      (g_X8_freePlace S3).bind fun v5 =>
      hA v5 64 <|
      gS (uA S3 M_lineUsed ((v5 : Int).toNat) 1) fun S6 =>
      hA v5 64 <|
      gS (uA S6 M_lineSide ((v5 : Int).toNat) x1) fun S7 =>
      hA v5 64 <|
      gS (uA S7 M_lineKind ((v5 : Int).toNat) (S7 M_o 45)) fun S8 =>
      hA v5 64 <|
      gS (uA S8 M_lineA ((v5 : Int).toNat) (S8 M_o 46)) fun S9 =>
      hA v5 64 <|
      gS (uA S9 M_lineB ((v5 : Int).toNat) (S9 M_o 47)) fun S10 =>
      hA v5 64 <|
      gS (uA S10 M_lineC ((v5 : Int).toNat) (S10 M_o 48)) fun S11 =>
      hA v5 64 <|
      gS (uA S11 M_lineSize ((v5 : Int).toNat) (S11 M_o 49)) fun S12 =>
      (g_X8_bytes S12).bind fun v13 =>
      hA v5 64 <|
      gS (uA S12 M_lineBytes ((v5 : Int).toNat) v13) fun S14 =>
      hA v5 64 <|
      gS (uA S14 M_delivered ((v5 : Int).toNat) 0) fun S15 =>
      g_X8_fill_161 FU S15 v5 0
    else
      some (S3, (-1))
  else
    some (S1, 0)
set_option maxRecDepth 10000 in
theorem lf_X8_fill_52 {S : Mem} {S' : AM} (hS : (RT tM) S S') {x1 : Int32} {x1' : Int} (hx1 : RI x1 x1') {x2 : Int32} {x2' : Int} (hx2 : RI x2 x2') {y0 : Int32} {y0' : Int} (hy0 : RI y0 y0') : Lf (RP (RT tM) RI) (f_X8_fill_52 S x1 x2 y0) (g_X8_fill_52 S' x1' x2' y0') := by
  unfold f_X8_fill_52 g_X8_fill_52
  refine Lf_gB2 (lf_X8_fails hS hy0 (RI.lit 2 (by decide))) (fun S1 S1' hS1 v2 v2' hv2 => ?_)
  refine Lf_ite (C_eq hv2 (RI.lit 0 (by decide))) (fun c1 => ?_) (fun c1 => ?_)
  · refine Lf_gB2 (lf_X8_fills hS1 hx1 hx2) (fun S3 S3' hS3 v4 v4' hv4 => ?_)
    refine Lf_ite (C_ne hv4 (RI.lit 0 (by decide))) (fun c2 => ?_) (fun c2 => ?_)
    · refine Lf_bind (lf_X8_freePlace hS3) (fun v5 v5' hv5 => ?_)
      refine Lf_hA hv5.1 (by decide) (fun b3 => ?_)
      refine Lf_st (RT.siq hS3 rfl (tnE hv5.1 b3 (by decide)) (RI.mk E_nz1 (RI.lit 1 (by decide)).2) rfl) (fun S6 S6' hS6 => ?_)
      refine Lf_hA hv5.1 (by decide) (fun b4 => ?_)
      refine Lf_st (RT.siq hS6 rfl (tnE hv5.1 b3 (by decide)) hx1 rfl) (fun S7 S7' hS7 => ?_)
      refine Lf_hA hv5.1 (by decide) (fun b5 => ?_)
      refine Lf_st (RT.siq hS7 rfl (tnE hv5.1 b3 (by decide)) (RI.at hS7 rfl rfl rfl) rfl) (fun S8 S8' hS8 => ?_)
      refine Lf_hA hv5.1 (by decide) (fun b6 => ?_)
      refine Lf_st (RT.sjq hS8 rfl (tnE hv5.1 b3 (by decide)) (RJ.at hS8 rfl rfl rfl) rfl) (fun S9 S9' hS9 => ?_)
      refine Lf_hA hv5.1 (by decide) (fun b7 => ?_)
      refine Lf_st (RT.sjq hS9 rfl (tnE hv5.1 b3 (by decide)) (RJ.at hS9 rfl rfl rfl) rfl) (fun S10 S10' hS10 => ?_)
      refine Lf_hA hv5.1 (by decide) (fun b8 => ?_)
      refine Lf_st (RT.sjq hS10 rfl (tnE hv5.1 b3 (by decide)) (RJ.at hS10 rfl rfl rfl) rfl) (fun S11 S11' hS11 => ?_)
      refine Lf_hA hv5.1 (by decide) (fun b9 => ?_)
      refine Lf_st (RT.siq hS11 rfl (tnE hv5.1 b3 (by decide)) (RI.at hS11 rfl rfl rfl) rfl) (fun S12 S12' hS12 => ?_)
      refine Lf_gS (lf_X8_bytes hS12) (fun v13 v13' hv13 => ?_)
      refine Lf_hA hv5.1 (by decide) (fun b10 => ?_)
      refine Lf_st (RT.siq hS12 rfl (tnE hv5.1 b3 (by decide)) hv13 rfl) (fun S14 S14' hS14 => ?_)
      refine Lf_hA hv5.1 (by decide) (fun b11 => ?_)
      refine Lf_st (RT.siq hS14 rfl (tnE hv5.1 b3 (by decide)) (RI.lit 0 (by decide)) rfl) (fun S15 S15' hS15 => ?_)
      exact lf_X8_fill_161 FU hS15 hv5 (RI.lit 0 (by decide))
    · exact Lf_some (RP.mk hS3 RI.m1)
  · exact Lf_some (RP.mk hS1 (RI.lit 0 (by decide)))
def g_X8_fill_47 (S : AM) (x1 : Int) (x2 : Int) : Option (AM × Int) :=
  g_X8_fill_52 S x1 x2 1
set_option maxRecDepth 10000 in
theorem lf_X8_fill_47 {S : Mem} {S' : AM} (hS : (RT tM) S S') {x1 : Int32} {x1' : Int} (hx1 : RI x1 x1') {x2 : Int32} {x2' : Int} (hx2 : RI x2 x2') : Lf (RP (RT tM) RI) (f_X8_fill_47 S x1 x2) (g_X8_fill_47 S' x1' x2') := by
  unfold f_X8_fill_47 g_X8_fill_47
  exact lf_X8_fill_52 hS hx1 hx2 (RI.lit 1 (by decide))
def g_X8_fill_25 (S : AM) (x1 : Int) (x2 : Int) (y0 : Int) : Option (AM × Int) :=
  gB2 (g_X8_fails S y0 1) fun S1 v2 =>
  if v2 ≠ 0 then
    some (S1, 0)
  else
    (g_X8_freePlace S1).bind fun v3 =>
    if v3 < 0 then
      g_X8_fill_47 S1 x1 x2
    else
      if (S1 M_o 1) ≠ 0 then
        g_X8_fill_52 S1 x1 x2 0
      else
        g_X8_fill_47 S1 x1 x2
set_option maxRecDepth 10000 in
theorem lf_X8_fill_25 {S : Mem} {S' : AM} (hS : (RT tM) S S') {x1 : Int32} {x1' : Int} (hx1 : RI x1 x1') {x2 : Int32} {x2' : Int} (hx2 : RI x2 x2') {y0 : Int32} {y0' : Int} (hy0 : RI y0 y0') : Lf (RP (RT tM) RI) (f_X8_fill_25 S x1 x2 y0) (g_X8_fill_25 S' x1' x2' y0') := by
  unfold f_X8_fill_25 g_X8_fill_25
  refine Lf_gB2 (lf_X8_fails hS hy0 (RI.lit 1 (by decide))) (fun S1 S1' hS1 v2 v2' hv2 => ?_)
  refine Lf_ite (C_ne hv2 (RI.lit 0 (by decide))) (fun c1 => ?_) (fun c1 => ?_)
  · exact Lf_some (RP.mk hS1 (RI.lit 0 (by decide)))
  · refine Lf_bind (lf_X8_freePlace hS1) (fun v3 v3' hv3 => ?_)
    refine Lf_ite (C_lt hv3 (RI.lit 0 (by decide))) (fun c2 => ?_) (fun c2 => ?_)
    · exact lf_X8_fill_47 hS1 hx1 hx2
    · refine Lf_ite (C_ne (RI.at hS1 rfl rfl rfl) (RI.lit 0 (by decide))) (fun c3 => ?_) (fun c3 => ?_)
      · exact lf_X8_fill_52 hS1 hx1 hx2 (RI.lit 0 (by decide))
      · exact lf_X8_fill_47 hS1 hx1 hx2
def g_X8_fill_20 (S : AM) (x1 : Int) (x2 : Int) : Option (AM × Int) :=
  g_X8_fill_25 S x1 x2 1
set_option maxRecDepth 10000 in
theorem lf_X8_fill_20 {S : Mem} {S' : AM} (hS : (RT tM) S S') {x1 : Int32} {x1' : Int} (hx1 : RI x1 x1') {x2 : Int32} {x2' : Int} (hx2 : RI x2 x2') : Lf (RP (RT tM) RI) (f_X8_fill_20 S x1 x2) (g_X8_fill_20 S' x1' x2') := by
  unfold f_X8_fill_20 g_X8_fill_20
  exact lf_X8_fill_25 hS hx1 hx2 (RI.lit 1 (by decide))
def g_X8_fill (S : AM) (x1 : Int) (x2 : Int) : Option (AM × Int) :=
  (g_X8_noSide x1).bind fun v1 =>
  if v1 ≠ 0 then
    g_X8_fill_20 S x1 x2
  else
    if x2 < 1 then
      g_X8_fill_20 S x1 x2
    else
      if x2 ≤ 1200 then
        g_X8_fill_25 S x1 x2 0
      else
        g_X8_fill_20 S x1 x2
set_option maxRecDepth 10000 in
theorem lf_X8_fill {S : Mem} {S' : AM} (hS : (RT tM) S S') {x1 : Int32} {x1' : Int} (hx1 : RI x1 x1') {x2 : Int32} {x2' : Int} (hx2 : RI x2 x2') : Lf (RP (RT tM) RI) (f_X8_fill S x1 x2) (g_X8_fill S' x1' x2') := by
  unfold f_X8_fill g_X8_fill
  refine Lf_gS (lf_X8_noSide hx1) (fun v1 v1' hv1 => ?_)
  refine Lf_ite (C_ne hv1 (RI.lit 0 (by decide))) (fun c1 => ?_) (fun c1 => ?_)
  · exact lf_X8_fill_20 hS hx1 hx2
  · refine Lf_ite (C_lt hx2 (RI.lit 1 (by decide))) (fun c2 => ?_) (fun c2 => ?_)
    · exact lf_X8_fill_20 hS hx1 hx2
    · refine Lf_ite (C_le hx2 (RI.lit 1200 (by decide))) (fun c3 => ?_) (fun c3 => ?_)
      · exact lf_X8_fill_25 hS hx1 hx2 (RI.lit 0 (by decide))
      · exact lf_X8_fill_20 hS hx1 hx2
def g_X8_noPlace_19 (S : AM) : Option (Int) :=
  some (1)
set_option maxRecDepth 10000 in
theorem lf_X8_noPlace_19 {S : Mem} {S' : AM} (hS : (RT tM) S S') : Lf RI (f_X8_noPlace_19 S) (g_X8_noPlace_19 S') := by
  unfold f_X8_noPlace_19 g_X8_noPlace_19
  exact Lf_some (RI.lit 1 (by decide))
def g_X8_noPlace (S : AM) (x1 : Int) : Option (Int) :=
  if x1 < 0 then
    g_X8_noPlace_19 S
  else
    if 63 < x1 then
      g_X8_noPlace_19 S
    else
      hA x1 64 <|
      if (S M_lineUsed (x1 : Int).toNat) ≠ 0 then
        some (0)
      else
        g_X8_noPlace_19 S
set_option maxRecDepth 10000 in
theorem lf_X8_noPlace {S : Mem} {S' : AM} (hS : (RT tM) S S') {x1 : Int32} {x1' : Int} (hx1 : RI x1 x1') : Lf RI (f_X8_noPlace S x1) (g_X8_noPlace S' x1') := by
  unfold f_X8_noPlace g_X8_noPlace
  refine Lf_ite (C_lt hx1 (RI.lit 0 (by decide))) (fun c1 => ?_) (fun c1 => ?_)
  · exact lf_X8_noPlace_19 hS
  · refine Lf_ite (C_lt (RI.lit 63 (by decide)) hx1) (fun c2 => ?_) (fun c2 => ?_)
    · exact lf_X8_noPlace_19 hS
    · refine Lf_hA hx1.1 (by decide) (fun b3 => ?_)
      refine Lf_ite (C_ne (RI.at hS rfl (tnE hx1.1 b3 (by decide)) rfl) (RI.lit 0 (by decide))) (fun c4 => ?_) (fun c4 => ?_)
      · exact Lf_some (RI.lit 0 (by decide))
      · exact lf_X8_noPlace_19 hS
def g_X8_deliver_67_b (k67 : AM → Int → Int → Option (AM × Int)) (S : AM) (x1 : Int) (x2 : Int) : Option (AM × Int) :=
  if (S M_o 49) ≤ x2 then
    hA x1 64 <|
    c32 (1 - (S M_lineSide (x1 : Int).toNat)) <|
    gB2 (g_X8_takes S (1 - (S M_lineSide (x1 : Int).toNat))) fun S1 v2 =>
    if v2 ≠ 0 then
      some (S1, v2)
    else
      hA x1 64 <|
      gS (uA S1 M_delivered ((x1 : Int).toNat) 1) fun S3 =>
      some (S3, v2)
  else
    hA ((1200 * x1) + x2) 76800 <|
    hA x2 2048 <|
    gS (uA S M_fData ((x2 : Int).toNat) (b8 (S M_lineData (((1200 * x1) + x2) : Int).toNat))) fun S4 =>
    c32 (x2 + 1) <|
    k67 S4 x1 (x2 + 1)
set_option maxRecDepth 10000 in
theorem lf_X8_deliver_67_b {k67 : Mem → Int32 → Int32 → Option (Mem × Int32)} {k67' : AM → Int → Int → Option (AM × Int)} (hk67 : ∀ {y0 : Mem} {y0' : AM}, (RT tM) y0 y0' → ∀ {y1 : Int32} {y1' : Int}, RI y1 y1' → ∀ {y2 : Int32} {y2' : Int}, RI y2 y2' → Lf (RP (RT tM) RI) (k67 y0 y1 y2) (k67' y0' y1' y2')) {S : Mem} {S' : AM} (hS : (RT tM) S S') {x1 : Int32} {x1' : Int} (hx1 : RI x1 x1') {x2 : Int32} {x2' : Int} (hx2 : RI x2 x2') : Lf (RP (RT tM) RI) (f_X8_deliver_67_b k67 S x1 x2) (g_X8_deliver_67_b k67' S' x1' x2') := by
  unfold f_X8_deliver_67_b g_X8_deliver_67_b
  refine Lf_ite (C_le (RI.at hS rfl rfl rfl) hx2) (fun c1 => ?_) (fun c1 => ?_)
  · refine Lf_hA hx1.1 (by decide) (fun b2 => ?_)
    refine Lf_c32 (fun b3 => ?_)
    refine Lf_gB2 (lf_X8_takes hS (RI.mk (E_sub (li32 1) (RI.at hS rfl (tnE hx1.1 b2 (by decide)) rfl).1) b3)) (fun S1 S1' hS1 v2 v2' hv2 => ?_)
    refine Lf_ite (C_ne hv2 (RI.lit 0 (by decide))) (fun c4 => ?_) (fun c4 => ?_)
    · exact Lf_some (RP.mk hS1 hv2)
    · refine Lf_hA hx1.1 (by decide) (fun b5 => ?_)
      refine Lf_st (RT.siq hS1 rfl (tnE hx1.1 b2 (by decide)) (RI.lit 1 (by decide)) rfl) (fun S3 S3' hS3 => ?_)
      exact Lf_some (RP.mk hS3 hv2)
  · refine Lf_hA (E_add (E_mul (li32 1200) hx1.1) hx2.1) (by decide) (fun b6 => ?_)
    refine Lf_hA hx2.1 (by decide) (fun b7 => ?_)
    refine Lf_st (RT.siq hS rfl (tnE hx2.1 b7 (by decide)) (RI.mk (E_nb (RI.at hS rfl (tnE (E_add (E_mul (li32 1200) hx1.1) hx2.1) b6 (by decide)) rfl)) (R_b8 _)) rfl) (fun S4 S4' hS4 => ?_)
    refine Lf_c32 (fun b8 => ?_)
    exact hk67 hS4 hx1 (RI.mk (E_add hx2.1 (li32 1)) b8)
def g_X8_deliver_67 : Nat → AM → Int → Int → Option (AM × Int)
  | 0, _, _, _ => none
  | n + 1, S, x1, x2 => g_X8_deliver_67_b (g_X8_deliver_67 n) S x1 x2
set_option maxRecDepth 10000 in
theorem lf_X8_deliver_67 (n : Nat) : ∀ {S : Mem} {S' : AM}, (RT tM) S S' → ∀ {x1 : Int32} {x1' : Int}, RI x1 x1' → ∀ {x2 : Int32} {x2' : Int}, RI x2 x2' → Lf (RP (RT tM) RI) (f_X8_deliver_67 n S x1 x2) (g_X8_deliver_67 n S' x1' x2') := by
  induction n with
  | zero => intros; exact Lf_none
  | succ n ih => intro S S' hS x1 x1' hx1 x2 x2' hx2; exact lf_X8_deliver_67_b ih hS hx1 hx2
def g_X8_deliver (S : AM) (x1 : Int) : Option (AM × Int) :=
  (g_X8_noPlace S x1).bind fun v1 =>
  gB2 (g_X8_fails S v1 1) fun S2 v3 =>
  if v3 = 0 then
    hA x1 64 <|
    gS (uA S2 M_o 45 (S2 M_lineKind (x1 : Int).toNat)) fun S4 =>
    hA x1 64 <|
    gS (uA S4 M_o 46 (S4 M_lineA (x1 : Int).toNat)) fun S5 =>
    hA x1 64 <|
    gS (uA S5 M_o 47 (S5 M_lineB (x1 : Int).toNat)) fun S6 =>
    hA x1 64 <|
    gS (uA S6 M_o 48 (S6 M_lineC (x1 : Int).toNat)) fun S7 =>
    hA x1 64 <|
    gS (uA S7 M_o 49 (S7 M_lineSize (x1 : Int).toNat)) fun S8 =>
    g_X8_deliver_67 FU S8 x1 0
  else
    some (S2, 0)
set_option maxRecDepth 10000 in
theorem lf_X8_deliver {S : Mem} {S' : AM} (hS : (RT tM) S S') {x1 : Int32} {x1' : Int} (hx1 : RI x1 x1') : Lf (RP (RT tM) RI) (f_X8_deliver S x1) (g_X8_deliver S' x1') := by
  unfold f_X8_deliver g_X8_deliver
  refine Lf_bind (lf_X8_noPlace hS hx1) (fun v1 v1' hv1 => ?_)
  refine Lf_gB2 (lf_X8_fails hS hv1 (RI.lit 1 (by decide))) (fun S2 S2' hS2 v3 v3' hv3 => ?_)
  refine Lf_ite (C_eq hv3 (RI.lit 0 (by decide))) (fun c1 => ?_) (fun c1 => ?_)
  · refine Lf_hA hx1.1 (by decide) (fun b2 => ?_)
    refine Lf_st (RT.siq hS2 rfl rfl (RI.at hS2 rfl (tnE hx1.1 b2 (by decide)) rfl) rfl) (fun S4 S4' hS4 => ?_)
    refine Lf_hA hx1.1 (by decide) (fun b3 => ?_)
    refine Lf_st (RT.sjq hS4 rfl rfl (RJ.at hS4 rfl (tnE hx1.1 b2 (by decide)) rfl) rfl) (fun S5 S5' hS5 => ?_)
    refine Lf_hA hx1.1 (by decide) (fun b4 => ?_)
    refine Lf_st (RT.sjq hS5 rfl rfl (RJ.at hS5 rfl (tnE hx1.1 b2 (by decide)) rfl) rfl) (fun S6 S6' hS6 => ?_)
    refine Lf_hA hx1.1 (by decide) (fun b5 => ?_)
    refine Lf_st (RT.sjq hS6 rfl rfl (RJ.at hS6 rfl (tnE hx1.1 b2 (by decide)) rfl) rfl) (fun S7 S7' hS7 => ?_)
    refine Lf_hA hx1.1 (by decide) (fun b6 => ?_)
    refine Lf_st (RT.siq hS7 rfl rfl (RI.at hS7 rfl (tnE hx1.1 b2 (by decide)) rfl) rfl) (fun S8 S8' hS8 => ?_)
    exact lf_X8_deliver_67 FU hS8 hx1 (RI.lit 0 (by decide))
  · exact Lf_some (RP.mk hS2 (RI.lit 0 (by decide)))
def g_X8_goneStream_78 (k20 : AM → Int → Int → Int → Int → Int → Int → Option (AM)) (S : AM) (x1 : Int) (x2 : Int) (x3 : Int) (x4 : Int) (x5 : Int) (x6 : Int) : Option (AM) :=
  c32 (x6 + 1) <|
  k20 S x1 x2 x3 x4 x5 (x6 + 1)
set_option maxRecDepth 10000 in
theorem lf_X8_goneStream_78 {k20 : Mem → Int32 → Int32 → Int32 → Int32 → Int32 → Int32 → Option (Mem)} {k20' : AM → Int → Int → Int → Int → Int → Int → Option (AM)} (hk20 : ∀ {y0 : Mem} {y0' : AM}, (RT tM) y0 y0' → ∀ {y1 : Int32} {y1' : Int}, RI y1 y1' → ∀ {y2 : Int32} {y2' : Int}, RI y2 y2' → ∀ {y3 : Int32} {y3' : Int}, RI y3 y3' → ∀ {y4 : Int32} {y4' : Int}, RI y4 y4' → ∀ {y5 : Int32} {y5' : Int}, RI y5 y5' → ∀ {y6 : Int32} {y6' : Int}, RI y6 y6' → Lf (RT tM) (k20 y0 y1 y2 y3 y4 y5 y6) (k20' y0' y1' y2' y3' y4' y5' y6')) {S : Mem} {S' : AM} (hS : (RT tM) S S') {x1 : Int32} {x1' : Int} (hx1 : RI x1 x1') {x2 : Int32} {x2' : Int} (hx2 : RI x2 x2') {x3 : Int32} {x3' : Int} (hx3 : RI x3 x3') {x4 : Int32} {x4' : Int} (hx4 : RI x4 x4') {x5 : Int32} {x5' : Int} (hx5 : RI x5 x5') {x6 : Int32} {x6' : Int} (hx6 : RI x6 x6') : Lf (RT tM) (f_X8_goneStream_78 k20 S x1 x2 x3 x4 x5 x6) (g_X8_goneStream_78 k20' S' x1' x2' x3' x4' x5' x6') := by
  unfold f_X8_goneStream_78 g_X8_goneStream_78
  refine Lf_c32 (fun b1 => ?_)
  exact hk20 hS hx1 hx2 hx3 hx4 hx5 (RI.mk (E_add hx6.1 (li32 1)) b1)
def g_X8_goneStream_76 (k20 : AM → Int → Int → Int → Int → Int → Int → Option (AM)) (S : AM) (x1 : Int) (x2 : Int) (x3 : Int) (x4 : Int) (x5 : Int) (x6 : Int) (y0 : Int) (y1 : Int) : Option (AM) :=
  hA y1 131072 <|
  gS (uA S M_mark ((y1 : Int).toNat) (b8 (b8 y0))) fun S1 =>
  g_X8_goneStream_78 k20 S1 x1 x2 x3 x4 x5 x6
set_option maxRecDepth 10000 in
theorem lf_X8_goneStream_76 {k20 : Mem → Int32 → Int32 → Int32 → Int32 → Int32 → Int32 → Option (Mem)} {k20' : AM → Int → Int → Int → Int → Int → Int → Option (AM)} (hk20 : ∀ {y0 : Mem} {y0' : AM}, (RT tM) y0 y0' → ∀ {y1 : Int32} {y1' : Int}, RI y1 y1' → ∀ {y2 : Int32} {y2' : Int}, RI y2 y2' → ∀ {y3 : Int32} {y3' : Int}, RI y3 y3' → ∀ {y4 : Int32} {y4' : Int}, RI y4 y4' → ∀ {y5 : Int32} {y5' : Int}, RI y5 y5' → ∀ {y6 : Int32} {y6' : Int}, RI y6 y6' → Lf (RT tM) (k20 y0 y1 y2 y3 y4 y5 y6) (k20' y0' y1' y2' y3' y4' y5' y6')) {S : Mem} {S' : AM} (hS : (RT tM) S S') {x1 : Int32} {x1' : Int} (hx1 : RI x1 x1') {x2 : Int32} {x2' : Int} (hx2 : RI x2 x2') {x3 : Int32} {x3' : Int} (hx3 : RI x3 x3') {x4 : Int32} {x4' : Int} (hx4 : RI x4 x4') {x5 : Int32} {x5' : Int} (hx5 : RI x5 x5') {x6 : Int32} {x6' : Int} (hx6 : RI x6 x6') {y0 : Int32} {y0' : Int} (hy0 : RI y0 y0') {y1 : Int32} {y1' : Int} (hy1 : RI y1 y1') : Lf (RT tM) (f_X8_goneStream_76 k20 S x1 x2 x3 x4 x5 x6 y0 y1) (g_X8_goneStream_76 k20' S' x1' x2' x3' x4' x5' x6' y0' y1') := by
  unfold f_X8_goneStream_76 g_X8_goneStream_76
  refine Lf_hA hy1.1 (by decide) (fun b1 => ?_)
  refine Lf_st (RT.siq hS rfl (tnE hy1.1 b1 (by decide)) (RI.mk (E_nb (RI.mk (E_b8 hy0) (R_b8 _))) (R_b8 _)) rfl) (fun S1 S1' hS1 => ?_)
  exact lf_X8_goneStream_78 hk20 hS1 hx1 hx2 hx3 hx4 hx5 hx6
def g_X8_goneStream_122 (S : AM) (x1 : Int) (x4 : Int) : Option (AM) :=
  (g_X8_looksOver S x1 x4).bind fun S1 =>
  some (S1)
set_option maxRecDepth 10000 in
theorem lf_X8_goneStream_122 {S : Mem} {S' : AM} (hS : (RT tM) S S') {x1 : Int32} {x1' : Int} (hx1 : RI x1 x1') {x4 : Int32} {x4' : Int} (hx4 : RI x4 x4') : Lf (RT tM) (f_X8_goneStream_122 S x1 x4) (g_X8_goneStream_122 S' x1' x4') := by
  unfold f_X8_goneStream_122 g_X8_goneStream_122
  refine Lf_bind (lf_X8_looksOver hS hx1 hx4) (fun S1 S1' hS1 => ?_)
  exact Lf_some hS1
def g_X8_goneStream_121 (S : AM) (x1 : Int) (x4 : Int) (y0 : Int) (y1 : Int) : Option (AM) :=
  hA y1 512 <|
  gS (uA S M_end ((y1 : Int).toNat) y0) fun S1 =>
  g_X8_goneStream_122 S1 x1 x4
set_option maxRecDepth 10000 in
theorem lf_X8_goneStream_121 {S : Mem} {S' : AM} (hS : (RT tM) S S') {x1 : Int32} {x1' : Int} (hx1 : RI x1 x1') {x4 : Int32} {x4' : Int} (hx4 : RI x4 x4') {y0 : Int32} {y0' : Int} (hy0 : RI y0 y0') {y1 : Int32} {y1' : Int} (hy1 : RI y1 y1') : Lf (RT tM) (f_X8_goneStream_121 S x1 x4 y0 y1) (g_X8_goneStream_121 S' x1' x4' y0' y1') := by
  unfold f_X8_goneStream_121 g_X8_goneStream_121
  refine Lf_hA hy1.1 (by decide) (fun b1 => ?_)
  refine Lf_st (RT.siq hS rfl (tnE hy1.1 b1 (by decide)) hy0 rfl) (fun S1 S1' hS1 => ?_)
  exact lf_X8_goneStream_122 hS1 hx1 hx4
def g_X8_goneStream_20_b (k20 : AM → Int → Int → Int → Int → Int → Int → Option (AM)) (S : AM) (x1 : Int) (x2 : Int) (x3 : Int) (x4 : Int) (x5 : Int) (x6 : Int) : Option (AM) :=
  hA x2 64 <|
  if (S M_lineSize (x2 : Int).toNat) ≤ x6 then
    hA x2 64 <|
    if (S M_lineC (x2 : Int).toNat) ≠ 1 then
      g_X8_goneStream_122 S x1 x4
    else
      hA x5 512 <|
      if (S M_end (x5 : Int).toNat) = 3 then
        g_X8_goneStream_122 S x1 x4
      else
        if x3 = 0 then
          g_X8_goneStream_121 S x1 x4 2 x5
        else
          g_X8_goneStream_121 S x1 x4 3 x5
  else
    hA x2 64 <|
    c32 ((S M_lineB (x2 : Int).toNat) + x6) <|
    (g_X8_placeOf S x1 x4 ((S M_lineB (x2 : Int).toNat) + x6)).bind fun v1 =>
    hA v1 131072 <|
    if (S M_mark (v1 : Int).toNat) = 3 then
      g_X8_goneStream_78 k20 S x1 x2 x3 x4 x5 x6
    else
      if x3 = 0 then
        g_X8_goneStream_76 k20 S x1 x2 x3 x4 x5 x6 2 v1
      else
        g_X8_goneStream_76 k20 S x1 x2 x3 x4 x5 x6 3 v1
set_option maxRecDepth 10000 in
theorem lf_X8_goneStream_20_b {k20 : Mem → Int32 → Int32 → Int32 → Int32 → Int32 → Int32 → Option (Mem)} {k20' : AM → Int → Int → Int → Int → Int → Int → Option (AM)} (hk20 : ∀ {y0 : Mem} {y0' : AM}, (RT tM) y0 y0' → ∀ {y1 : Int32} {y1' : Int}, RI y1 y1' → ∀ {y2 : Int32} {y2' : Int}, RI y2 y2' → ∀ {y3 : Int32} {y3' : Int}, RI y3 y3' → ∀ {y4 : Int32} {y4' : Int}, RI y4 y4' → ∀ {y5 : Int32} {y5' : Int}, RI y5 y5' → ∀ {y6 : Int32} {y6' : Int}, RI y6 y6' → Lf (RT tM) (k20 y0 y1 y2 y3 y4 y5 y6) (k20' y0' y1' y2' y3' y4' y5' y6')) {S : Mem} {S' : AM} (hS : (RT tM) S S') {x1 : Int32} {x1' : Int} (hx1 : RI x1 x1') {x2 : Int32} {x2' : Int} (hx2 : RI x2 x2') {x3 : Int32} {x3' : Int} (hx3 : RI x3 x3') {x4 : Int32} {x4' : Int} (hx4 : RI x4 x4') {x5 : Int32} {x5' : Int} (hx5 : RI x5 x5') {x6 : Int32} {x6' : Int} (hx6 : RI x6 x6') : Lf (RT tM) (f_X8_goneStream_20_b k20 S x1 x2 x3 x4 x5 x6) (g_X8_goneStream_20_b k20' S' x1' x2' x3' x4' x5' x6') := by
  unfold f_X8_goneStream_20_b g_X8_goneStream_20_b
  refine Lf_hA hx2.1 (by decide) (fun b1 => ?_)
  refine Lf_ite (C_le (RI.at hS rfl (tnE hx2.1 b1 (by decide)) rfl) hx6) (fun c2 => ?_) (fun c2 => ?_)
  · refine Lf_hA hx2.1 (by decide) (fun b3 => ?_)
    refine Lf_ite (D_ne (RJ.at hS rfl (tnE hx2.1 b1 (by decide)) rfl) (RJ.lit 1 (by decide))) (fun c4 => ?_) (fun c4 => ?_)
    · exact lf_X8_goneStream_122 hS hx1 hx4
    · refine Lf_hA hx5.1 (by decide) (fun b5 => ?_)
      refine Lf_ite (C_eq (RI.at hS rfl (tnE hx5.1 b5 (by decide)) rfl) (RI.lit 3 (by decide))) (fun c6 => ?_) (fun c6 => ?_)
      · exact lf_X8_goneStream_122 hS hx1 hx4
      · refine Lf_ite (C_eq hx3 (RI.lit 0 (by decide))) (fun c7 => ?_) (fun c7 => ?_)
        · exact lf_X8_goneStream_121 hS hx1 hx4 (RI.lit 2 (by decide)) hx5
        · exact lf_X8_goneStream_121 hS hx1 hx4 (RI.lit 3 (by decide)) hx5
  · refine Lf_hA hx2.1 (by decide) (fun b8 => ?_)
    refine Lf_c32 (fun b9 => ?_)
    refine Lf_bind (lf_X8_placeOf hS hx1 hx4 (RI.mk (E_add (F_32 (RJ.at hS rfl (tnE hx2.1 b1 (by decide)) rfl).1) hx6.1) b9)) (fun v1 v1' hv1 => ?_)
    refine Lf_hA hv1.1 (by decide) (fun b10 => ?_)
    refine Lf_ite (C_eq (RI.at hS rfl (tnE hv1.1 b10 (by decide)) rfl) (RI.lit 3 (by decide))) (fun c11 => ?_) (fun c11 => ?_)
    · exact lf_X8_goneStream_78 hk20 hS hx1 hx2 hx3 hx4 hx5 hx6
    · refine Lf_ite (C_eq hx3 (RI.lit 0 (by decide))) (fun c12 => ?_) (fun c12 => ?_)
      · exact lf_X8_goneStream_76 hk20 hS hx1 hx2 hx3 hx4 hx5 hx6 (RI.lit 2 (by decide)) hv1
      · exact lf_X8_goneStream_76 hk20 hS hx1 hx2 hx3 hx4 hx5 hx6 (RI.lit 3 (by decide)) hv1
def g_X8_goneStream_20 : Nat → AM → Int → Int → Int → Int → Int → Int → Option (AM)
  | 0, _, _, _, _, _, _, _ => none
  | n + 1, S, x1, x2, x3, x4, x5, x6 => g_X8_goneStream_20_b (g_X8_goneStream_20 n) S x1 x2 x3 x4 x5 x6
set_option maxRecDepth 10000 in
theorem lf_X8_goneStream_20 (n : Nat) : ∀ {S : Mem} {S' : AM}, (RT tM) S S' → ∀ {x1 : Int32} {x1' : Int}, RI x1 x1' → ∀ {x2 : Int32} {x2' : Int}, RI x2 x2' → ∀ {x3 : Int32} {x3' : Int}, RI x3 x3' → ∀ {x4 : Int32} {x4' : Int}, RI x4 x4' → ∀ {x5 : Int32} {x5' : Int}, RI x5 x5' → ∀ {x6 : Int32} {x6' : Int}, RI x6 x6' → Lf (RT tM) (f_X8_goneStream_20 n S x1 x2 x3 x4 x5 x6) (g_X8_goneStream_20 n S' x1' x2' x3' x4' x5' x6') := by
  induction n with
  | zero => intros; exact Lf_none
  | succ n ih => intro S S' hS x1 x1' hx1 x2 x2' hx2 x3 x3' hx3 x4 x4' hx4 x5 x5' hx5 x6 x6' hx6; exact lf_X8_goneStream_20_b ih hS hx1 hx2 hx3 hx4 hx5 hx6
def g_X8_goneStream (S : AM) (x1 : Int) (x2 : Int) (x3 : Int) : Option (AM) :=
  hA x2 64 <|
  c32 (S M_lineA (x2 : Int).toNat) <|
  (g_X8_at x1 (S M_lineA (x2 : Int).toNat)).bind fun v1 =>
  g_X8_goneStream_20 FU S x1 x2 x3 (S M_lineA (x2 : Int).toNat) v1 0
set_option maxRecDepth 10000 in
theorem lf_X8_goneStream {S : Mem} {S' : AM} (hS : (RT tM) S S') {x1 : Int32} {x1' : Int} (hx1 : RI x1 x1') {x2 : Int32} {x2' : Int} (hx2 : RI x2 x2') {x3 : Int32} {x3' : Int} (hx3 : RI x3 x3') : Lf (RT tM) (f_X8_goneStream S x1 x2 x3) (g_X8_goneStream S' x1' x2' x3') := by
  unfold f_X8_goneStream g_X8_goneStream
  refine Lf_hA hx2.1 (by decide) (fun b1 => ?_)
  refine Lf_c32 (fun b2 => ?_)
  refine Lf_gS (lf_X8_at hx1 (RI.mk (F_32 (RJ.at hS rfl (tnE hx2.1 b1 (by decide)) rfl).1) b2)) (fun v1 v1' hv1 => ?_)
  exact lf_X8_goneStream_20 FU hS hx1 hx2 hx3 (RI.mk (F_32 (RJ.at hS rfl (tnE hx2.1 b1 (by decide)) rfl).1) b2) hv1 (RI.lit 0 (by decide))
def g_X8_gone_235 (S : AM) (x3 : Int) (x4 : Int) : Option (AM) :=
  c32 x4 <|
  (g_X8_looksOver S x3 x4).bind fun S1 =>
  some (S1)
set_option maxRecDepth 10000 in
theorem lf_X8_gone_235 {S : Mem} {S' : AM} (hS : (RT tM) S S') {x3 : Int32} {x3' : Int} (hx3 : RI x3 x3') {x4 : Int64} {x4' : Int} (hx4 : RJ x4 x4') : Lf (RT tM) (f_X8_gone_235 S x3 x4) (g_X8_gone_235 S' x3' x4') := by
  unfold f_X8_gone_235 g_X8_gone_235
  refine Lf_c32 (fun b1 => ?_)
  refine Lf_bind (lf_X8_looksOver hS hx3 (RI.mk (F_32 hx4.1) b1)) (fun S1 S1' hS1 => ?_)
  exact Lf_some hS1
def g_X8_gone_212 (S : AM) (x2 : Int) (x3 : Int) (x4 : Int) (x6 : Int) : Option (AM) :=
  if x2 ≠ 0 then
    g_X8_gone_235 S x3 x4
  else
    hA x6 512 <|
    if (S M_resets (x6 : Int).toNat) ≠ 1 then
      g_X8_gone_235 S x3 x4
    else
      hA x6 512 <|
      gS (uA S M_tellReset ((x6 : Int).toNat) 1) fun S1 =>
      g_X8_gone_235 S1 x3 x4
set_option maxRecDepth 10000 in
theorem lf_X8_gone_212 {S : Mem} {S' : AM} (hS : (RT tM) S S') {x2 : Int32} {x2' : Int} (hx2 : RI x2 x2') {x3 : Int32} {x3' : Int} (hx3 : RI x3 x3') {x4 : Int64} {x4' : Int} (hx4 : RJ x4 x4') {x6 : Int32} {x6' : Int} (hx6 : RI x6 x6') : Lf (RT tM) (f_X8_gone_212 S x2 x3 x4 x6) (g_X8_gone_212 S' x2' x3' x4' x6') := by
  unfold f_X8_gone_212 g_X8_gone_212
  refine Lf_ite (C_ne hx2 (RI.lit 0 (by decide))) (fun c1 => ?_) (fun c1 => ?_)
  · exact lf_X8_gone_235 hS hx3 hx4
  · refine Lf_hA hx6.1 (by decide) (fun b2 => ?_)
    refine Lf_ite (C_ne (RI.at hS rfl (tnE hx6.1 b2 (by decide)) rfl) (RI.lit 1 (by decide))) (fun c3 => ?_) (fun c3 => ?_)
    · exact lf_X8_gone_235 hS hx3 hx4
    · refine Lf_hA hx6.1 (by decide) (fun b4 => ?_)
      refine Lf_st (RT.siq hS rfl (tnE hx6.1 b2 (by decide)) (RI.mk E_nz1 (RI.lit 1 (by decide)).2) rfl) (fun S1 S1' hS1 => ?_)
      exact lf_X8_gone_235 hS1 hx3 hx4
def g_X8_gone_80 (S : AM) (x1 : Int) (x2 : Int) (x3 : Int) (x4 : Int) (y0 : Int) (y1 : Int) : Option (AM) :=
  (g_X8_at y1 y0).bind fun v1 =>
  hA x1 64 <|
  if (S M_lineKind (x1 : Int).toNat) = 4 then
    if x2 = 0 then
      g_X8_gone_212 S x2 x3 x4 v1
    else
      hA v1 512 <|
      if (S M_resets (v1 : Int).toNat) ≠ 1 then
        g_X8_gone_212 S x2 x3 x4 v1
      else
        hA v1 512 <|
        gS (uA S M_resets ((v1 : Int).toNat) 2) fun S2 =>
        g_X8_gone_235 S2 x3 x4
  else
    if (S M_lineKind (x1 : Int).toNat) = 5 then
      if x2 ≠ 0 then
        some (S)
      else
        hA v1 512 <|
        gS (uA S M_tellStop ((v1 : Int).toNat) 1) fun S3 =>
        some (S3)
    else
      if (S M_lineKind (x1 : Int).toNat) = 8 then
        (g_X8_goneStream S x3 x1 x2).bind fun S4 =>
        some (S4)
      else
        if (S M_lineKind (x1 : Int).toNat) = 16 then
          if x2 ≠ 0 then
            some (S)
          else
            hA x3 2 <|
            if x4 ≠ (S M_dataGrant (x3 : Int).toNat) then
              some (S)
            else
              hA x3 2 <|
              gS (uA S M_tellData ((x3 : Int).toNat) 1) fun S5 =>
              some (S5)
        else
          if (S M_lineKind (x1 : Int).toNat) = 17 then
            if x2 ≠ 0 then
              some (S)
            else
              hA x1 64 <|
              hA v1 512 <|
              if (S M_lineB (x1 : Int).toNat) ≠ (S M_grant (v1 : Int).toNat) then
                some (S)
              else
                hA v1 512 <|
                gS (uA S M_tellGrant ((v1 : Int).toNat) 1) fun S6 =>
                some (S6)
          else
            if (S M_lineKind (x1 : Int).toNat) = 18 then
              hA x1 64 <|
              if x2 ≠ 0 then
                some (S)
              else
                hA (((2 * x3) + (S M_lineKind (x1 : Int).toNat)) - 18) 4 <|
                if x4 ≠ (S M_granted ((((2 * x3) + (S M_lineKind (x1 : Int).toNat)) - 18) : Int).toNat) then
                  some (S)
                else
                  hA (((2 * x3) + (S M_lineKind (x1 : Int).toNat)) - 18) 4 <|
                  gS (uA S M_tellStreams (((((2 * x3) + (S M_lineKind (x1 : Int).toNat)) - 18) : Int).toNat) 1) fun S7 =>
                  some (S7)
            else
              if (S M_lineKind (x1 : Int).toNat) = 19 then
                hA x1 64 <|
                if x2 ≠ 0 then
                  some (S)
                else
                  hA (((2 * x3) + (S M_lineKind (x1 : Int).toNat)) - 18) 4 <|
                  if x4 ≠ (S M_granted ((((2 * x3) + (S M_lineKind (x1 : Int).toNat)) - 18) : Int).toNat) then
                    some (S)
                  else
                    hA (((2 * x3) + (S M_lineKind (x1 : Int).toNat)) - 18) 4 <|
                    gS (uA S M_tellStreams (((((2 * x3) + (S M_lineKind (x1 : Int).toNat)) - 18) : Int).toNat) 1) fun S8 =>
                    some (S8)
              else
                if (S M_lineKind (x1 : Int).toNat) = 20 then
                  if x2 ≠ 0 then
                    some (S)
                  else
                    hA (3 * x3) 6 <|
                    if (S M_toldBlocked ((3 * x3) : Int).toNat) ≠ x4 then
                      some (S)
                    else
                      hA (3 * x3) 6 <|
                      gS (uA S M_toldBlocked (((3 * x3) : Int).toNat) (-1)) fun S9 =>
                      some (S9)
                else
                  if (S M_lineKind (x1 : Int).toNat) = 21 then
                    if x2 ≠ 0 then
                      some (S)
                    else
                      hA v1 512 <|
                      hA x1 64 <|
                      if (S M_toldLimit (v1 : Int).toNat) ≠ (S M_lineB (x1 : Int).toNat) then
                        some (S)
                      else
                        hA v1 512 <|
                        gS (uA S M_toldLimit ((v1 : Int).toNat) (-1)) fun S10 =>
                        some (S10)
                  else
                    hA x1 64 <|
                    if x2 ≠ 0 then
                      some (S)
                    else
                      hA ((((3 * x3) + 1) + (S M_lineKind (x1 : Int).toNat)) - 22) 6 <|
                      if (S M_toldBlocked (((((3 * x3) + 1) + (S M_lineKind (x1 : Int).toNat)) - 22) : Int).toNat) ≠ x4 then
                        some (S)
                      else
                        hA ((((3 * x3) + 1) + (S M_lineKind (x1 : Int).toNat)) - 22) 6 <|
                        gS (uA S M_toldBlocked ((((((3 * x3) + 1) + (S M_lineKind (x1 : Int).toNat)) - 22) : Int).toNat) (-1)) fun S11 =>
                        some (S11)
set_option maxRecDepth 10000 in
theorem lf_X8_gone_80 {S : Mem} {S' : AM} (hS : (RT tM) S S') {x1 : Int32} {x1' : Int} (hx1 : RI x1 x1') {x2 : Int32} {x2' : Int} (hx2 : RI x2 x2') {x3 : Int32} {x3' : Int} (hx3 : RI x3 x3') {x4 : Int64} {x4' : Int} (hx4 : RJ x4 x4') {y0 : Int32} {y0' : Int} (hy0 : RI y0 y0') {y1 : Int32} {y1' : Int} (hy1 : RI y1 y1') : Lf (RT tM) (f_X8_gone_80 S x1 x2 x3 x4 y0 y1) (g_X8_gone_80 S' x1' x2' x3' x4' y0' y1') := by
  unfold f_X8_gone_80 g_X8_gone_80
  refine Lf_gS (lf_X8_at hy1 hy0) (fun v1 v1' hv1 => ?_)
  refine Lf_hA hx1.1 (by decide) (fun b1 => ?_)
  refine Lf_ite (C_eq (RI.at hS rfl (tnE hx1.1 b1 (by decide)) rfl) (RI.lit 4 (by decide))) (fun c2 => ?_) (fun c2 => ?_)
  · refine Lf_ite (C_eq hx2 (RI.lit 0 (by decide))) (fun c3 => ?_) (fun c3 => ?_)
    · exact lf_X8_gone_212 hS hx2 hx3 hx4 hv1
    · refine Lf_hA hv1.1 (by decide) (fun b4 => ?_)
      refine Lf_ite (C_ne (RI.at hS rfl (tnE hv1.1 b4 (by decide)) rfl) (RI.lit 1 (by decide))) (fun c5 => ?_) (fun c5 => ?_)
      · exact lf_X8_gone_212 hS hx2 hx3 hx4 hv1
      · refine Lf_hA hv1.1 (by decide) (fun b6 => ?_)
        refine Lf_st (RT.siq hS rfl (tnE hv1.1 b4 (by decide)) (RI.lit 2 (by decide)) rfl) (fun S2 S2' hS2 => ?_)
        exact lf_X8_gone_235 hS2 hx3 hx4
  · refine Lf_ite (C_eq (RI.at hS rfl (tnE hx1.1 b1 (by decide)) rfl) (RI.lit 5 (by decide))) (fun c7 => ?_) (fun c7 => ?_)
    · refine Lf_ite (C_ne hx2 (RI.lit 0 (by decide))) (fun c8 => ?_) (fun c8 => ?_)
      · exact Lf_some hS
      · refine Lf_hA hv1.1 (by decide) (fun b9 => ?_)
        refine Lf_st (RT.siq hS rfl (tnE hv1.1 b9 (by decide)) (RI.mk E_nz1 (RI.lit 1 (by decide)).2) rfl) (fun S3 S3' hS3 => ?_)
        exact Lf_some hS3
    · refine Lf_ite (C_eq (RI.at hS rfl (tnE hx1.1 b1 (by decide)) rfl) (RI.lit 8 (by decide))) (fun c10 => ?_) (fun c10 => ?_)
      · refine Lf_bind (lf_X8_goneStream hS hx3 hx1 hx2) (fun S4 S4' hS4 => ?_)
        exact Lf_some hS4
      · refine Lf_ite (C_eq (RI.at hS rfl (tnE hx1.1 b1 (by decide)) rfl) (RI.lit 16 (by decide))) (fun c11 => ?_) (fun c11 => ?_)
        · refine Lf_ite (C_ne hx2 (RI.lit 0 (by decide))) (fun c12 => ?_) (fun c12 => ?_)
          · exact Lf_some hS
          · refine Lf_hA hx3.1 (by decide) (fun b13 => ?_)
            refine Lf_ite (D_ne hx4 (RJ.at hS rfl (tnE hx3.1 b13 (by decide)) rfl)) (fun c14 => ?_) (fun c14 => ?_)
            · exact Lf_some hS
            · refine Lf_hA hx3.1 (by decide) (fun b15 => ?_)
              refine Lf_st (RT.siq hS rfl (tnE hx3.1 b13 (by decide)) (RI.mk E_nz1 (RI.lit 1 (by decide)).2) rfl) (fun S5 S5' hS5 => ?_)
              exact Lf_some hS5
        · refine Lf_ite (C_eq (RI.at hS rfl (tnE hx1.1 b1 (by decide)) rfl) (RI.lit 17 (by decide))) (fun c16 => ?_) (fun c16 => ?_)
          · refine Lf_ite (C_ne hx2 (RI.lit 0 (by decide))) (fun c17 => ?_) (fun c17 => ?_)
            · exact Lf_some hS
            · refine Lf_hA hx1.1 (by decide) (fun b18 => ?_)
              refine Lf_hA hv1.1 (by decide) (fun b19 => ?_)
              refine Lf_ite (D_ne (RJ.at hS rfl (tnE hx1.1 b1 (by decide)) rfl) (RJ.at hS rfl (tnE hv1.1 b19 (by decide)) rfl)) (fun c20 => ?_) (fun c20 => ?_)
              · exact Lf_some hS
              · refine Lf_hA hv1.1 (by decide) (fun b21 => ?_)
                refine Lf_st (RT.siq hS rfl (tnE hv1.1 b19 (by decide)) (RI.mk E_nz1 (RI.lit 1 (by decide)).2) rfl) (fun S6 S6' hS6 => ?_)
                exact Lf_some hS6
          · refine Lf_ite (C_eq (RI.at hS rfl (tnE hx1.1 b1 (by decide)) rfl) (RI.lit 18 (by decide))) (fun c22 => ?_) (fun c22 => ?_)
            · refine Lf_hA hx1.1 (by decide) (fun b23 => ?_)
              refine Lf_ite (C_ne hx2 (RI.lit 0 (by decide))) (fun c24 => ?_) (fun c24 => ?_)
              · exact Lf_some hS
              · refine Lf_hA (E_sub (E_add (E_mul (li32 2) hx3.1) (RI.at hS rfl (tnE hx1.1 b1 (by decide)) rfl).1) (li32 18)) (by decide) (fun b25 => ?_)
                refine Lf_ite (D_ne hx4 (RJ.mk (E_64 (RI.at hS rfl (tnE (E_sub (E_add (E_mul (li32 2) hx3.1) (RI.at hS rfl (tnE hx1.1 b1 (by decide)) rfl).1) (li32 18)) b25 (by decide)) rfl)) (R_64 (RI.at hS rfl (tnE (E_sub (E_add (E_mul (li32 2) hx3.1) (RI.at hS rfl (tnE hx1.1 b1 (by decide)) rfl).1) (li32 18)) b25 (by decide)) rfl).2))) (fun c26 => ?_) (fun c26 => ?_)
                · exact Lf_some hS
                · refine Lf_hA (E_sub (E_add (E_mul (li32 2) hx3.1) (RI.at hS rfl (tnE hx1.1 b1 (by decide)) rfl).1) (li32 18)) (by decide) (fun b27 => ?_)
                  refine Lf_st (RT.siq hS rfl (tnE (E_sub (E_add (E_mul (li32 2) hx3.1) (RI.at hS rfl (tnE hx1.1 b1 (by decide)) rfl).1) (li32 18)) b25 (by decide)) (RI.mk E_nz1 (RI.lit 1 (by decide)).2) rfl) (fun S7 S7' hS7 => ?_)
                  exact Lf_some hS7
            · refine Lf_ite (C_eq (RI.at hS rfl (tnE hx1.1 b1 (by decide)) rfl) (RI.lit 19 (by decide))) (fun c28 => ?_) (fun c28 => ?_)
              · refine Lf_hA hx1.1 (by decide) (fun b29 => ?_)
                refine Lf_ite (C_ne hx2 (RI.lit 0 (by decide))) (fun c30 => ?_) (fun c30 => ?_)
                · exact Lf_some hS
                · refine Lf_hA (E_sub (E_add (E_mul (li32 2) hx3.1) (RI.at hS rfl (tnE hx1.1 b1 (by decide)) rfl).1) (li32 18)) (by decide) (fun b31 => ?_)
                  refine Lf_ite (D_ne hx4 (RJ.mk (E_64 (RI.at hS rfl (tnE (E_sub (E_add (E_mul (li32 2) hx3.1) (RI.at hS rfl (tnE hx1.1 b1 (by decide)) rfl).1) (li32 18)) b31 (by decide)) rfl)) (R_64 (RI.at hS rfl (tnE (E_sub (E_add (E_mul (li32 2) hx3.1) (RI.at hS rfl (tnE hx1.1 b1 (by decide)) rfl).1) (li32 18)) b31 (by decide)) rfl).2))) (fun c32 => ?_) (fun c32 => ?_)
                  · exact Lf_some hS
                  · refine Lf_hA (E_sub (E_add (E_mul (li32 2) hx3.1) (RI.at hS rfl (tnE hx1.1 b1 (by decide)) rfl).1) (li32 18)) (by decide) (fun b33 => ?_)
                    refine Lf_st (RT.siq hS rfl (tnE (E_sub (E_add (E_mul (li32 2) hx3.1) (RI.at hS rfl (tnE hx1.1 b1 (by decide)) rfl).1) (li32 18)) b31 (by decide)) (RI.mk E_nz1 (RI.lit 1 (by decide)).2) rfl) (fun S8 S8' hS8 => ?_)
                    exact Lf_some hS8
              · refine Lf_ite (C_eq (RI.at hS rfl (tnE hx1.1 b1 (by decide)) rfl) (RI.lit 20 (by decide))) (fun c34 => ?_) (fun c34 => ?_)
                · refine Lf_ite (C_ne hx2 (RI.lit 0 (by decide))) (fun c35 => ?_) (fun c35 => ?_)
                  · exact Lf_some hS
                  · refine Lf_hA (E_mul (li32 3) hx3.1) (by decide) (fun b36 => ?_)
                    refine Lf_ite (D_ne (RJ.at hS rfl (tnE (E_mul (li32 3) hx3.1) b36 (by decide)) rfl) hx4) (fun c37 => ?_) (fun c37 => ?_)
                    · exact Lf_some hS
                    · refine Lf_hA (E_mul (li32 3) hx3.1) (by decide) (fun b38 => ?_)
                      refine Lf_st (RT.sjq hS rfl (tnE (E_mul (li32 3) hx3.1) b36 (by decide)) RJ.m1 rfl) (fun S9 S9' hS9 => ?_)
                      exact Lf_some hS9
                · refine Lf_ite (C_eq (RI.at hS rfl (tnE hx1.1 b1 (by decide)) rfl) (RI.lit 21 (by decide))) (fun c39 => ?_) (fun c39 => ?_)
                  · refine Lf_ite (C_ne hx2 (RI.lit 0 (by decide))) (fun c40 => ?_) (fun c40 => ?_)
                    · exact Lf_some hS
                    · refine Lf_hA hv1.1 (by decide) (fun b41 => ?_)
                      refine Lf_hA hx1.1 (by decide) (fun b42 => ?_)
                      refine Lf_ite (D_ne (RJ.at hS rfl (tnE hv1.1 b41 (by decide)) rfl) (RJ.at hS rfl (tnE hx1.1 b1 (by decide)) rfl)) (fun c43 => ?_) (fun c43 => ?_)
                      · exact Lf_some hS
                      · refine Lf_hA hv1.1 (by decide) (fun b44 => ?_)
                        refine Lf_st (RT.sjq hS rfl (tnE hv1.1 b41 (by decide)) RJ.m1 rfl) (fun S10 S10' hS10 => ?_)
                        exact Lf_some hS10
                  · refine Lf_hA hx1.1 (by decide) (fun b45 => ?_)
                    refine Lf_ite (C_ne hx2 (RI.lit 0 (by decide))) (fun c46 => ?_) (fun c46 => ?_)
                    · exact Lf_some hS
                    · refine Lf_hA (E_sub (E_add (E_add (E_mul (li32 3) hx3.1) (li32 1)) (RI.at hS rfl (tnE hx1.1 b1 (by decide)) rfl).1) (li32 22)) (by decide) (fun b47 => ?_)
                      refine Lf_ite (D_ne (RJ.at hS rfl (tnE (E_sub (E_add (E_add (E_mul (li32 3) hx3.1) (li32 1)) (RI.at hS rfl (tnE hx1.1 b1 (by decide)) rfl).1) (li32 22)) b47 (by decide)) rfl) hx4) (fun c48 => ?_) (fun c48 => ?_)
                      · exact Lf_some hS
                      · refine Lf_hA (E_sub (E_add (E_add (E_mul (li32 3) hx3.1) (li32 1)) (RI.at hS rfl (tnE hx1.1 b1 (by decide)) rfl).1) (li32 22)) (by decide) (fun b49 => ?_)
                        refine Lf_st (RT.sjq hS rfl (tnE (E_sub (E_add (E_add (E_mul (li32 3) hx3.1) (li32 1)) (RI.at hS rfl (tnE hx1.1 b1 (by decide)) rfl).1) (li32 22)) b47 (by decide)) RJ.m1 rfl) (fun S11 S11' hS11 => ?_)
                        exact Lf_some hS11
def g_X8_gone_33 (S : AM) (x1 : Int) (x2 : Int) (y0 : Int) : Option (AM) :=
  gB2 (g_X8_fails S y0 2) fun S1 v2 =>
  if v2 = 0 then
    hA x1 64 <|
    gS (uA S1 M_lineUsed ((x1 : Int).toNat) 0) fun S3 =>
    hA x1 64 <|
    hA x1 64 <|
    if 256 ≤ (S3 M_lineA (x1 : Int).toNat) then
      g_X8_gone_80 S3 x1 x2 (S3 M_lineSide (x1 : Int).toNat) (S3 M_lineA (x1 : Int).toNat) 0 (S3 M_lineSide (x1 : Int).toNat)
    else
      c32 (S3 M_lineA (x1 : Int).toNat) <|
      g_X8_gone_80 S3 x1 x2 (S3 M_lineSide (x1 : Int).toNat) (S3 M_lineA (x1 : Int).toNat) (S3 M_lineA (x1 : Int).toNat) (S3 M_lineSide (x1 : Int).toNat)
  else
    some (S1)
set_option maxRecDepth 10000 in
theorem lf_X8_gone_33 {S : Mem} {S' : AM} (hS : (RT tM) S S') {x1 : Int32} {x1' : Int} (hx1 : RI x1 x1') {x2 : Int32} {x2' : Int} (hx2 : RI x2 x2') {y0 : Int32} {y0' : Int} (hy0 : RI y0 y0') : Lf (RT tM) (f_X8_gone_33 S x1 x2 y0) (g_X8_gone_33 S' x1' x2' y0') := by
  unfold f_X8_gone_33 g_X8_gone_33
  refine Lf_gB2 (lf_X8_fails hS hy0 (RI.lit 2 (by decide))) (fun S1 S1' hS1 v2 v2' hv2 => ?_)
  refine Lf_ite (C_eq hv2 (RI.lit 0 (by decide))) (fun c1 => ?_) (fun c1 => ?_)
  · refine Lf_hA hx1.1 (by decide) (fun b2 => ?_)
    refine Lf_st (RT.siq hS1 rfl (tnE hx1.1 b2 (by decide)) (RI.mk E_nz0 (RI.lit 0 (by decide)).2) rfl) (fun S3 S3' hS3 => ?_)
    refine Lf_hA hx1.1 (by decide) (fun b3 => ?_)
    refine Lf_hA hx1.1 (by decide) (fun b4 => ?_)
    refine Lf_ite (D_le (RJ.lit 256 (by decide)) (RJ.at hS3 rfl (tnE hx1.1 b2 (by decide)) rfl)) (fun c5 => ?_) (fun c5 => ?_)
    · exact lf_X8_gone_80 hS3 hx1 hx2 (RI.at hS3 rfl (tnE hx1.1 b2 (by decide)) rfl) (RJ.at hS3 rfl (tnE hx1.1 b2 (by decide)) rfl) (RI.lit 0 (by decide)) (RI.at hS3 rfl (tnE hx1.1 b2 (by decide)) rfl)
    · refine Lf_c32 (fun b6 => ?_)
      exact lf_X8_gone_80 hS3 hx1 hx2 (RI.at hS3 rfl (tnE hx1.1 b2 (by decide)) rfl) (RJ.at hS3 rfl (tnE hx1.1 b2 (by decide)) rfl) (RI.mk (F_32 (RJ.at hS3 rfl (tnE hx1.1 b2 (by decide)) rfl).1) b6) (RI.at hS3 rfl (tnE hx1.1 b2 (by decide)) rfl)
  · exact Lf_some hS1
def g_X8_gone_32 (S : AM) (x1 : Int) (x2 : Int) : Option (AM) :=
  g_X8_gone_33 S x1 x2 0
set_option maxRecDepth 10000 in
theorem lf_X8_gone_32 {S : Mem} {S' : AM} (hS : (RT tM) S S') {x1 : Int32} {x1' : Int} (hx1 : RI x1 x1') {x2 : Int32} {x2' : Int} (hx2 : RI x2 x2') : Lf (RT tM) (f_X8_gone_32 S x1 x2) (g_X8_gone_32 S' x1' x2') := by
  unfold f_X8_gone_32 g_X8_gone_32
  exact lf_X8_gone_33 hS hx1 hx2 (RI.lit 0 (by decide))
def g_X8_gone (S : AM) (x1 : Int) (x2 : Int) : Option (AM) :=
  (g_X8_noPlace S x1).bind fun v1 =>
  gB2 (g_X8_fails S v1 1) fun S2 v3 =>
  if v3 ≠ 0 then
    some (S2)
  else
    if x2 = 0 then
      g_X8_gone_32 S2 x1 x2
    else
      hA x1 64 <|
      if (S2 M_delivered (x1 : Int).toNat) = 1 then
        g_X8_gone_32 S2 x1 x2
      else
        g_X8_gone_33 S2 x1 x2 1
set_option maxRecDepth 10000 in
theorem lf_X8_gone {S : Mem} {S' : AM} (hS : (RT tM) S S') {x1 : Int32} {x1' : Int} (hx1 : RI x1 x1') {x2 : Int32} {x2' : Int} (hx2 : RI x2 x2') : Lf (RT tM) (f_X8_gone S x1 x2) (g_X8_gone S' x1' x2') := by
  unfold f_X8_gone g_X8_gone
  refine Lf_bind (lf_X8_noPlace hS hx1) (fun v1 v1' hv1 => ?_)
  refine Lf_gB2 (lf_X8_fails hS hv1 (RI.lit 1 (by decide))) (fun S2 S2' hS2 v3 v3' hv3 => ?_)
  refine Lf_ite (C_ne hv3 (RI.lit 0 (by decide))) (fun c1 => ?_) (fun c1 => ?_)
  · exact Lf_some hS2
  · refine Lf_ite (C_eq hx2 (RI.lit 0 (by decide))) (fun c2 => ?_) (fun c2 => ?_)
    · exact lf_X8_gone_32 hS2 hx1 hx2
    · refine Lf_hA hx1.1 (by decide) (fun b3 => ?_)
      refine Lf_ite (C_eq (RI.at hS2 rfl (tnE hx1.1 b3 (by decide)) rfl) (RI.lit 1 (by decide))) (fun c4 => ?_) (fun c4 => ?_)
      · exact lf_X8_gone_32 hS2 hx1 hx2
      · exact lf_X8_gone_33 hS2 hx1 hx2 (RI.lit 1 (by decide))
def g_X8_line_24 (S : AM) (x1 : Int) (x2 : Int) (y0 : Int) : Option (AM × Int) :=
  gB2 (g_X8_fails S y0 1) fun S1 v2 =>
  if v2 = 0 then
    if x2 = 0 then
      hA x1 64 <|
      some (S1, (S1 M_lineSide (x1 : Int).toNat))
    else
      if x2 = 1 then
        hA x1 64 <|
        some (S1, (S1 M_lineKind (x1 : Int).toNat))
      else
        if x2 = 2 then
          hA x1 64 <|
          some (S1, (S1 M_lineA (x1 : Int).toNat))
        else
          if x2 = 3 then
            hA x1 64 <|
            some (S1, (S1 M_lineB (x1 : Int).toNat))
          else
            if x2 = 4 then
              hA x1 64 <|
              some (S1, (S1 M_lineC (x1 : Int).toNat))
            else
              if x2 = 5 then
                hA x1 64 <|
                some (S1, (S1 M_lineSize (x1 : Int).toNat))
              else
                hA x1 64 <|
                some (S1, (S1 M_lineBytes (x1 : Int).toNat))
  else
    some (S1, 0)
set_option maxRecDepth 10000 in
theorem lf_X8_line_24 {S : Mem} {S' : AM} (hS : (RT tM) S S') {x1 : Int32} {x1' : Int} (hx1 : RI x1 x1') {x2 : Int32} {x2' : Int} (hx2 : RI x2 x2') {y0 : Int32} {y0' : Int} (hy0 : RI y0 y0') : Lf (RP (RT tM) RJ) (f_X8_line_24 S x1 x2 y0) (g_X8_line_24 S' x1' x2' y0') := by
  unfold f_X8_line_24 g_X8_line_24
  refine Lf_gB2 (lf_X8_fails hS hy0 (RI.lit 1 (by decide))) (fun S1 S1' hS1 v2 v2' hv2 => ?_)
  refine Lf_ite (C_eq hv2 (RI.lit 0 (by decide))) (fun c1 => ?_) (fun c1 => ?_)
  · refine Lf_ite (C_eq hx2 (RI.lit 0 (by decide))) (fun c2 => ?_) (fun c2 => ?_)
    · refine Lf_hA hx1.1 (by decide) (fun b3 => ?_)
      exact Lf_some (RP.mk hS1 (RJ.mk (E_64 (RI.at hS1 rfl (tnE hx1.1 b3 (by decide)) rfl)) (R_64 (RI.at hS1 rfl (tnE hx1.1 b3 (by decide)) rfl).2)))
    · refine Lf_ite (C_eq hx2 (RI.lit 1 (by decide))) (fun c4 => ?_) (fun c4 => ?_)
      · refine Lf_hA hx1.1 (by decide) (fun b5 => ?_)
        exact Lf_some (RP.mk hS1 (RJ.mk (E_64 (RI.at hS1 rfl (tnE hx1.1 b5 (by decide)) rfl)) (R_64 (RI.at hS1 rfl (tnE hx1.1 b5 (by decide)) rfl).2)))
      · refine Lf_ite (C_eq hx2 (RI.lit 2 (by decide))) (fun c6 => ?_) (fun c6 => ?_)
        · refine Lf_hA hx1.1 (by decide) (fun b7 => ?_)
          exact Lf_some (RP.mk hS1 (RJ.at hS1 rfl (tnE hx1.1 b7 (by decide)) rfl))
        · refine Lf_ite (C_eq hx2 (RI.lit 3 (by decide))) (fun c8 => ?_) (fun c8 => ?_)
          · refine Lf_hA hx1.1 (by decide) (fun b9 => ?_)
            exact Lf_some (RP.mk hS1 (RJ.at hS1 rfl (tnE hx1.1 b9 (by decide)) rfl))
          · refine Lf_ite (C_eq hx2 (RI.lit 4 (by decide))) (fun c10 => ?_) (fun c10 => ?_)
            · refine Lf_hA hx1.1 (by decide) (fun b11 => ?_)
              exact Lf_some (RP.mk hS1 (RJ.at hS1 rfl (tnE hx1.1 b11 (by decide)) rfl))
            · refine Lf_ite (C_eq hx2 (RI.lit 5 (by decide))) (fun c12 => ?_) (fun c12 => ?_)
              · refine Lf_hA hx1.1 (by decide) (fun b13 => ?_)
                exact Lf_some (RP.mk hS1 (RJ.mk (E_64 (RI.at hS1 rfl (tnE hx1.1 b13 (by decide)) rfl)) (R_64 (RI.at hS1 rfl (tnE hx1.1 b13 (by decide)) rfl).2)))
              · refine Lf_hA hx1.1 (by decide) (fun b14 => ?_)
                exact Lf_some (RP.mk hS1 (RJ.mk (E_64 (RI.at hS1 rfl (tnE hx1.1 b14 (by decide)) rfl)) (R_64 (RI.at hS1 rfl (tnE hx1.1 b14 (by decide)) rfl).2)))
  · exact Lf_some (RP.mk hS1 (RJ.lit 0 (by decide)))
def g_X8_line_19 (S : AM) (x1 : Int) (x2 : Int) : Option (AM × Int) :=
  g_X8_line_24 S x1 x2 1
set_option maxRecDepth 10000 in
theorem lf_X8_line_19 {S : Mem} {S' : AM} (hS : (RT tM) S S') {x1 : Int32} {x1' : Int} (hx1 : RI x1 x1') {x2 : Int32} {x2' : Int} (hx2 : RI x2 x2') : Lf (RP (RT tM) RJ) (f_X8_line_19 S x1 x2) (g_X8_line_19 S' x1' x2') := by
  unfold f_X8_line_19 g_X8_line_19
  exact lf_X8_line_24 hS hx1 hx2 (RI.lit 1 (by decide))
def g_X8_line (S : AM) (x1 : Int) (x2 : Int) : Option (AM × Int) :=
  (g_X8_noPlace S x1).bind fun v1 =>
  if v1 ≠ 0 then
    g_X8_line_19 S x1 x2
  else
    if x2 < 0 then
      g_X8_line_19 S x1 x2
    else
      if x2 ≤ 6 then
        g_X8_line_24 S x1 x2 0
      else
        g_X8_line_19 S x1 x2
set_option maxRecDepth 10000 in
theorem lf_X8_line {S : Mem} {S' : AM} (hS : (RT tM) S S') {x1 : Int32} {x1' : Int} (hx1 : RI x1 x1') {x2 : Int32} {x2' : Int} (hx2 : RI x2 x2') : Lf (RP (RT tM) RJ) (f_X8_line S x1 x2) (g_X8_line S' x1' x2') := by
  unfold f_X8_line g_X8_line
  refine Lf_bind (lf_X8_noPlace hS hx1) (fun v1 v1' hv1 => ?_)
  refine Lf_ite (C_ne hv1 (RI.lit 0 (by decide))) (fun c1 => ?_) (fun c1 => ?_)
  · exact lf_X8_line_19 hS hx1 hx2
  · refine Lf_ite (C_lt hx2 (RI.lit 0 (by decide))) (fun c2 => ?_) (fun c2 => ?_)
    · exact lf_X8_line_19 hS hx1 hx2
    · refine Lf_ite (C_le hx2 (RI.lit 6 (by decide))) (fun c3 => ?_) (fun c3 => ?_)
      · exact lf_X8_line_24 hS hx1 hx2 (RI.lit 0 (by decide))
      · exact lf_X8_line_19 hS hx1 hx2
def g_X8_data_33 (S : AM) (x1 : Int) (x2 : Int) (y0 : Int) : Option (AM × Int) :=
  gB2 (g_X8_fails S y0 1) fun S1 v2 =>
  if v2 = 0 then
    hA ((1200 * x1) + x2) 76800 <|
    c32 ((S1 M_lineData (((1200 * x1) + x2) : Int).toNat) % 256) <|
    some (S1, ((S1 M_lineData (((1200 * x1) + x2) : Int).toNat) % 256))
  else
    some (S1, 0)
set_option maxRecDepth 10000 in
theorem lf_X8_data_33 {S : Mem} {S' : AM} (hS : (RT tM) S S') {x1 : Int32} {x1' : Int} (hx1 : RI x1 x1') {x2 : Int32} {x2' : Int} (hx2 : RI x2 x2') {y0 : Int32} {y0' : Int} (hy0 : RI y0 y0') : Lf (RP (RT tM) RI) (f_X8_data_33 S x1 x2 y0) (g_X8_data_33 S' x1' x2' y0') := by
  unfold f_X8_data_33 g_X8_data_33
  refine Lf_gB2 (lf_X8_fails hS hy0 (RI.lit 1 (by decide))) (fun S1 S1' hS1 v2 v2' hv2 => ?_)
  refine Lf_ite (C_eq hv2 (RI.lit 0 (by decide))) (fun c1 => ?_) (fun c1 => ?_)
  · refine Lf_hA (E_add (E_mul (li32 1200) hx1.1) hx2.1) (by decide) (fun b2 => ?_)
    refine Lf_c32 (fun b3 => ?_)
    exact Lf_some (RP.mk hS1 (RI.mk (E_255 (RI.at hS1 rfl (tnE (E_add (E_mul (li32 1200) hx1.1) hx2.1) b2 (by decide)) rfl).1) b3))
  · exact Lf_some (RP.mk hS1 (RI.lit 0 (by decide)))
def g_X8_data_28 (S : AM) (x1 : Int) (x2 : Int) : Option (AM × Int) :=
  g_X8_data_33 S x1 x2 1
set_option maxRecDepth 10000 in
theorem lf_X8_data_28 {S : Mem} {S' : AM} (hS : (RT tM) S S') {x1 : Int32} {x1' : Int} (hx1 : RI x1 x1') {x2 : Int32} {x2' : Int} (hx2 : RI x2 x2') : Lf (RP (RT tM) RI) (f_X8_data_28 S x1 x2) (g_X8_data_28 S' x1' x2') := by
  unfold f_X8_data_28 g_X8_data_28
  exact lf_X8_data_33 hS hx1 hx2 (RI.lit 1 (by decide))
def g_X8_data (S : AM) (x1 : Int) (x2 : Int) : Option (AM × Int) :=
  (g_X8_noPlace S x1).bind fun v1 =>
  gB2 (g_X8_fails S v1 1) fun S2 v3 =>
  if v3 ≠ 0 then
    some (S2, 0)
  else
    if x2 < 0 then
      g_X8_data_28 S2 x1 x2
    else
      hA x1 64 <|
      if x2 < (S2 M_lineSize (x1 : Int).toNat) then
        g_X8_data_33 S2 x1 x2 0
      else
        g_X8_data_28 S2 x1 x2
set_option maxRecDepth 10000 in
theorem lf_X8_data {S : Mem} {S' : AM} (hS : (RT tM) S S') {x1 : Int32} {x1' : Int} (hx1 : RI x1 x1') {x2 : Int32} {x2' : Int} (hx2 : RI x2 x2') : Lf (RP (RT tM) RI) (f_X8_data S x1 x2) (g_X8_data S' x1' x2') := by
  unfold f_X8_data g_X8_data
  refine Lf_bind (lf_X8_noPlace hS hx1) (fun v1 v1' hv1 => ?_)
  refine Lf_gB2 (lf_X8_fails hS hv1 (RI.lit 1 (by decide))) (fun S2 S2' hS2 v3 v3' hv3 => ?_)
  refine Lf_ite (C_ne hv3 (RI.lit 0 (by decide))) (fun c1 => ?_) (fun c1 => ?_)
  · exact Lf_some (RP.mk hS2 (RI.lit 0 (by decide)))
  · refine Lf_ite (C_lt hx2 (RI.lit 0 (by decide))) (fun c2 => ?_) (fun c2 => ?_)
    · exact lf_X8_data_28 hS2 hx1 hx2
    · refine Lf_hA hx1.1 (by decide) (fun b3 => ?_)
      refine Lf_ite (C_lt hx2 (RI.at hS2 rfl (tnE hx1.1 b3 (by decide)) rfl)) (fun c4 => ?_) (fun c4 => ?_)
      · exact lf_X8_data_33 hS2 hx1 hx2 (RI.lit 0 (by decide))
      · exact lf_X8_data_28 hS2 hx1 hx2
def g_X8_outs_32_b (k32 : AM → Int → Int → Int → Option (AM × Int)) (S : AM) (x1 : Int) (x2 : Int) (x4 : Int) : Option (AM × Int) :=
  if 8 ≤ x4 then
    some (S, x2)
  else
    c32 (x1 + x4) <|
    if (S M_o 5) ≤ (x1 + x4) then
      some (S, x2)
    else
      hA (x1 + x4) 2048 <|
      c32 (x4 + 1) <|
      k32 S x1 (j2 (x2) ||| j2 ((j2 (S M_out ((x1 + x4) : Int).toNat) <<< (Int32.toInt64 (i2 (8 * x4)) &&& 63)).toInt)).toInt (x4 + 1)
set_option maxRecDepth 10000 in
theorem lf_X8_outs_32_b {k32 : Mem → Int32 → Int64 → Int32 → Option (Mem × Int64)} {k32' : AM → Int → Int → Int → Option (AM × Int)} (hk32 : ∀ {y0 : Mem} {y0' : AM}, (RT tM) y0 y0' → ∀ {y1 : Int32} {y1' : Int}, RI y1 y1' → ∀ {y2 : Int64} {y2' : Int}, RJ y2 y2' → ∀ {y3 : Int32} {y3' : Int}, RI y3 y3' → Lf (RP (RT tM) RJ) (k32 y0 y1 y2 y3) (k32' y0' y1' y2' y3')) {S : Mem} {S' : AM} (hS : (RT tM) S S') {x1 : Int32} {x1' : Int} (hx1 : RI x1 x1') {x2 : Int64} {x2' : Int} (hx2 : RJ x2 x2') {x4 : Int32} {x4' : Int} (hx4 : RI x4 x4') : Lf (RP (RT tM) RJ) (f_X8_outs_32_b k32 S x1 x2 x4) (g_X8_outs_32_b k32' S' x1' x2' x4') := by
  unfold f_X8_outs_32_b g_X8_outs_32_b
  refine Lf_ite (C_le (RI.lit 8 (by decide)) hx4) (fun c1 => ?_) (fun c1 => ?_)
  · exact Lf_some (RP.mk hS hx2)
  · refine Lf_c32 (fun b2 => ?_)
    refine Lf_ite (C_le (RI.at hS rfl rfl rfl) (RI.mk (E_add hx1.1 hx4.1) b2)) (fun c3 => ?_) (fun c3 => ?_)
    · exact Lf_some (RP.mk hS hx2)
    · refine Lf_hA (E_add hx1.1 hx4.1) (by decide) (fun b4 => ?_)
      refine Lf_c32 (fun b5 => ?_)
      exact hk32 hS hx1 (RJ.mk (F_or hx2.1 (F_shl (E_64 (RI.at hS rfl (tnE (E_add hx1.1 hx4.1) b4 (by decide)) rfl)) (E_mul (li32 8) hx4.1))) (R_self _)) (RI.mk (E_add hx4.1 (li32 1)) b5)
def g_X8_outs_32 : Nat → AM → Int → Int → Int → Option (AM × Int)
  | 0, _, _, _, _ => none
  | n + 1, S, x1, x2, x4 => g_X8_outs_32_b (g_X8_outs_32 n) S x1 x2 x4
set_option maxRecDepth 10000 in
theorem lf_X8_outs_32 (n : Nat) : ∀ {S : Mem} {S' : AM}, (RT tM) S S' → ∀ {x1 : Int32} {x1' : Int}, RI x1 x1' → ∀ {x2 : Int64} {x2' : Int}, RJ x2 x2' → ∀ {x4 : Int32} {x4' : Int}, RI x4 x4' → Lf (RP (RT tM) RJ) (f_X8_outs_32 n S x1 x2 x4) (g_X8_outs_32 n S' x1' x2' x4') := by
  induction n with
  | zero => intros; exact Lf_none
  | succ n ih => intro S S' hS x1 x1' hx1 x2 x2' hx2 x4 x4' hx4; exact lf_X8_outs_32_b ih hS hx1 hx2 hx4
def g_X8_outs_18 (S : AM) (x1 : Int) (y0 : Int) : Option (AM × Int) :=
  gB2 (g_X8_fails S y0 1) fun S1 v2 =>
  if v2 = 0 then
    g_X8_outs_32 FU S1 x1 0 0
  else
    some (S1, 0)
set_option maxRecDepth 10000 in
theorem lf_X8_outs_18 {S : Mem} {S' : AM} (hS : (RT tM) S S') {x1 : Int32} {x1' : Int} (hx1 : RI x1 x1') {y0 : Int32} {y0' : Int} (hy0 : RI y0 y0') : Lf (RP (RT tM) RJ) (f_X8_outs_18 S x1 y0) (g_X8_outs_18 S' x1' y0') := by
  unfold f_X8_outs_18 g_X8_outs_18
  refine Lf_gB2 (lf_X8_fails hS hy0 (RI.lit 1 (by decide))) (fun S1 S1' hS1 v2 v2' hv2 => ?_)
  refine Lf_ite (C_eq hv2 (RI.lit 0 (by decide))) (fun c1 => ?_) (fun c1 => ?_)
  · exact lf_X8_outs_32 FU hS1 hx1 (RJ.lit 0 (by decide)) (RI.lit 0 (by decide))
  · exact Lf_some (RP.mk hS1 (RJ.lit 0 (by decide)))
def g_X8_outs_13 (S : AM) (x1 : Int) : Option (AM × Int) :=
  g_X8_outs_18 S x1 1
set_option maxRecDepth 10000 in
theorem lf_X8_outs_13 {S : Mem} {S' : AM} (hS : (RT tM) S S') {x1 : Int32} {x1' : Int} (hx1 : RI x1 x1') : Lf (RP (RT tM) RJ) (f_X8_outs_13 S x1) (g_X8_outs_13 S' x1') := by
  unfold f_X8_outs_13 g_X8_outs_13
  exact lf_X8_outs_18 hS hx1 (RI.lit 1 (by decide))
def g_X8_outs (S : AM) (x1 : Int) : Option (AM × Int) :=
  if x1 < 0 then
    g_X8_outs_13 S x1
  else
    if x1 < (S M_o 5) then
      g_X8_outs_18 S x1 0
    else
      g_X8_outs_13 S x1
set_option maxRecDepth 10000 in
theorem lf_X8_outs {S : Mem} {S' : AM} (hS : (RT tM) S S') {x1 : Int32} {x1' : Int} (hx1 : RI x1 x1') : Lf (RP (RT tM) RJ) (f_X8_outs S x1) (g_X8_outs S' x1') := by
  unfold f_X8_outs g_X8_outs
  refine Lf_ite (C_lt hx1 (RI.lit 0 (by decide))) (fun c1 => ?_) (fun c1 => ?_)
  · exact lf_X8_outs_13 hS hx1
  · refine Lf_ite (C_lt hx1 (RI.at hS rfl rfl rfl)) (fun c2 => ?_) (fun c2 => ?_)
    · exact lf_X8_outs_18 hS hx1 (RI.lit 0 (by decide))
    · exact lf_X8_outs_13 hS hx1
def g_X8_endOf (S : AM) (x1 : Int) : Option (Int) :=
  hA x1 512 <|
  if (S M_finished (x1 : Int).toNat) ≠ 0 then
    hA x1 512 <|
    c32 (1 + (S M_end (x1 : Int).toNat)) <|
    some (1 + (S M_end (x1 : Int).toNat))
  else
    some (0)
set_option maxRecDepth 10000 in
theorem lf_X8_endOf {S : Mem} {S' : AM} (hS : (RT tM) S S') {x1 : Int32} {x1' : Int} (hx1 : RI x1 x1') : Lf RI (f_X8_endOf S x1) (g_X8_endOf S' x1') := by
  unfold f_X8_endOf g_X8_endOf
  refine Lf_hA hx1.1 (by decide) (fun b1 => ?_)
  refine Lf_ite (C_ne (RI.at hS rfl (tnE hx1.1 b1 (by decide)) rfl) (RI.lit 0 (by decide))) (fun c2 => ?_) (fun c2 => ?_)
  · refine Lf_hA hx1.1 (by decide) (fun b3 => ?_)
    refine Lf_c32 (fun b4 => ?_)
    exact Lf_some (RI.mk (E_add (li32 1) (RI.at hS rfl (tnE hx1.1 b1 (by decide)) rfl).1) b4)
  · exact Lf_some (RI.lit 0 (by decide))
def g_X8_sendingLook (S : AM) (x1 : Int) (x2 : Int) (x3 : Int) : Option (Int) :=
  (g_X8_at x1 x2).bind fun v1 =>
  if x3 = 0 then
    (g_X8_sending S x1 x2).bind fun v2 =>
    some (v2)
  else
    if x3 = 1 then
      (g_X8_written S x1 x2).bind fun v3 =>
      some (v3)
    else
      if x3 = 2 then
        (g_X8_sent S x1 x2).bind fun v4 =>
        some (v4)
      else
        if x3 = 3 then
          hA v1 512 <|
          some (S M_limit (v1 : Int).toNat)
        else
          if x3 = 4 then
            hA v1 512 <|
            if (S M_resets (v1 : Int).toNat) ≤ 0 then
              some (0)
            else
              hA v1 512 <|
              some (S M_code (v1 : Int).toNat)
          else
            if x3 = 5 then
              (g_X8_count S x1 x2 2).bind fun v5 =>
              some (v5)
            else
              if x3 = 6 then
                (g_X8_count S x1 x2 3).bind fun v6 =>
                some (v6)
              else
                (g_X8_endOf S v1).bind fun v7 =>
                some (v7)
set_option maxRecDepth 10000 in
theorem lf_X8_sendingLook {S : Mem} {S' : AM} (hS : (RT tM) S S') {x1 : Int32} {x1' : Int} (hx1 : RI x1 x1') {x2 : Int32} {x2' : Int} (hx2 : RI x2 x2') {x3 : Int32} {x3' : Int} (hx3 : RI x3 x3') : Lf RJ (f_X8_sendingLook S x1 x2 x3) (g_X8_sendingLook S' x1' x2' x3') := by
  unfold f_X8_sendingLook g_X8_sendingLook
  refine Lf_gS (lf_X8_at hx1 hx2) (fun v1 v1' hv1 => ?_)
  refine Lf_ite (C_eq hx3 (RI.lit 0 (by decide))) (fun c1 => ?_) (fun c1 => ?_)
  · refine Lf_bind (lf_X8_sending hS hx1 hx2) (fun v2 v2' hv2 => ?_)
    exact Lf_some (RJ.mk (E_64 hv2) (R_64 hv2.2))
  · refine Lf_ite (C_eq hx3 (RI.lit 1 (by decide))) (fun c2 => ?_) (fun c2 => ?_)
    · refine Lf_bind (lf_X8_written hS hx1 hx2) (fun v3 v3' hv3 => ?_)
      exact Lf_some (RJ.mk (E_64 hv3) (R_64 hv3.2))
    · refine Lf_ite (C_eq hx3 (RI.lit 2 (by decide))) (fun c3 => ?_) (fun c3 => ?_)
      · refine Lf_bind (lf_X8_sent hS hx1 hx2) (fun v4 v4' hv4 => ?_)
        exact Lf_some (RJ.mk (E_64 hv4) (R_64 hv4.2))
      · refine Lf_ite (C_eq hx3 (RI.lit 3 (by decide))) (fun c4 => ?_) (fun c4 => ?_)
        · refine Lf_hA hv1.1 (by decide) (fun b5 => ?_)
          exact Lf_some (RJ.at hS rfl (tnE hv1.1 b5 (by decide)) rfl)
        · refine Lf_ite (C_eq hx3 (RI.lit 4 (by decide))) (fun c6 => ?_) (fun c6 => ?_)
          · refine Lf_hA hv1.1 (by decide) (fun b7 => ?_)
            refine Lf_ite (C_le (RI.at hS rfl (tnE hv1.1 b7 (by decide)) rfl) (RI.lit 0 (by decide))) (fun c8 => ?_) (fun c8 => ?_)
            · exact Lf_some (RJ.lit 0 (by decide))
            · refine Lf_hA hv1.1 (by decide) (fun b9 => ?_)
              exact Lf_some (RJ.at hS rfl (tnE hv1.1 b7 (by decide)) rfl)
          · refine Lf_ite (C_eq hx3 (RI.lit 5 (by decide))) (fun c10 => ?_) (fun c10 => ?_)
            · refine Lf_bind (lf_X8_count hS hx1 hx2 (RI.lit 2 (by decide))) (fun v5 v5' hv5 => ?_)
              exact Lf_some (RJ.mk (E_64 hv5) (R_64 hv5.2))
            · refine Lf_ite (C_eq hx3 (RI.lit 6 (by decide))) (fun c11 => ?_) (fun c11 => ?_)
              · refine Lf_bind (lf_X8_count hS hx1 hx2 (RI.lit 3 (by decide))) (fun v6 v6' hv6 => ?_)
                exact Lf_some (RJ.mk (E_64 hv6) (R_64 hv6.2))
              · refine Lf_bind (lf_X8_endOf hS hv1) (fun v7 v7' hv7 => ?_)
                exact Lf_some (RJ.mk (E_64 hv7) (R_64 hv7.2))
def g_X8_receivingLook (S : AM) (x1 : Int) (x2 : Int) (x3 : Int) : Option (Int) :=
  (g_X8_at x1 x2).bind fun v1 =>
  if x3 = 8 then
    (g_X8_receiving S x1 x2).bind fun v2 =>
    some (v2)
  else
    if x3 = 9 then
      hA v1 512 <|
      some (S M_read (v1 : Int).toNat)
    else
      if x3 = 10 then
        (g_X8_readyOf S x1 x2).bind fun v3 =>
        some (v3)
      else
        if x3 = 11 then
          hA v1 512 <|
          some (S M_highest (v1 : Int).toNat)
        else
          if x3 = 12 then
            hA v1 512 <|
            some (S M_size (v1 : Int).toNat)
          else
            if x3 = 13 then
              hA v1 512 <|
              some (S M_grant (v1 : Int).toNat)
            else
              hA v1 512 <|
              if (S M_wasReset (v1 : Int).toNat) = 0 then
                some (0)
              else
                hA v1 512 <|
                some (S M_theirCode (v1 : Int).toNat)
set_option maxRecDepth 10000 in
theorem lf_X8_receivingLook {S : Mem} {S' : AM} (hS : (RT tM) S S') {x1 : Int32} {x1' : Int} (hx1 : RI x1 x1') {x2 : Int32} {x2' : Int} (hx2 : RI x2 x2') {x3 : Int32} {x3' : Int} (hx3 : RI x3 x3') : Lf RJ (f_X8_receivingLook S x1 x2 x3) (g_X8_receivingLook S' x1' x2' x3') := by
  unfold f_X8_receivingLook g_X8_receivingLook
  refine Lf_gS (lf_X8_at hx1 hx2) (fun v1 v1' hv1 => ?_)
  refine Lf_ite (C_eq hx3 (RI.lit 8 (by decide))) (fun c1 => ?_) (fun c1 => ?_)
  · refine Lf_bind (lf_X8_receiving hS hx1 hx2) (fun v2 v2' hv2 => ?_)
    exact Lf_some (RJ.mk (E_64 hv2) (R_64 hv2.2))
  · refine Lf_ite (C_eq hx3 (RI.lit 9 (by decide))) (fun c2 => ?_) (fun c2 => ?_)
    · refine Lf_hA hv1.1 (by decide) (fun b3 => ?_)
      exact Lf_some (RJ.at hS rfl (tnE hv1.1 b3 (by decide)) rfl)
    · refine Lf_ite (C_eq hx3 (RI.lit 10 (by decide))) (fun c4 => ?_) (fun c4 => ?_)
      · refine Lf_bind (lf_X8_readyOf hS hx1 hx2) (fun v3 v3' hv3 => ?_)
        exact Lf_some hv3
      · refine Lf_ite (C_eq hx3 (RI.lit 11 (by decide))) (fun c5 => ?_) (fun c5 => ?_)
        · refine Lf_hA hv1.1 (by decide) (fun b6 => ?_)
          exact Lf_some (RJ.at hS rfl (tnE hv1.1 b6 (by decide)) rfl)
        · refine Lf_ite (C_eq hx3 (RI.lit 12 (by decide))) (fun c7 => ?_) (fun c7 => ?_)
          · refine Lf_hA hv1.1 (by decide) (fun b8 => ?_)
            exact Lf_some (RJ.at hS rfl (tnE hv1.1 b8 (by decide)) rfl)
          · refine Lf_ite (C_eq hx3 (RI.lit 13 (by decide))) (fun c9 => ?_) (fun c9 => ?_)
            · refine Lf_hA hv1.1 (by decide) (fun b10 => ?_)
              exact Lf_some (RJ.at hS rfl (tnE hv1.1 b10 (by decide)) rfl)
            · refine Lf_hA hv1.1 (by decide) (fun b11 => ?_)
              refine Lf_ite (C_eq (RI.at hS rfl (tnE hv1.1 b11 (by decide)) rfl) (RI.lit 0 (by decide))) (fun c12 => ?_) (fun c12 => ?_)
              · exact Lf_some (RJ.lit 0 (by decide))
              · refine Lf_hA hv1.1 (by decide) (fun b13 => ?_)
                exact Lf_some (RJ.at hS rfl (tnE hv1.1 b11 (by decide)) rfl)
def g_X8_stream_23 (S : AM) (x1 : Int) (x2 : Int) (x3 : Int) (y0 : Int) : Option (AM × Int) :=
  gB2 (g_X8_fails S y0 1) fun S1 v2 =>
  if v2 = 0 then
    if 8 ≤ x3 then
      (g_X8_hasReceiving S1 x1 x2).bind fun v3 =>
      if v3 = 0 then
        some (S1, (-1))
      else
        (g_X8_receivingLook S1 x1 x2 x3).bind fun v4 =>
        some (S1, v4)
    else
      (g_X8_hasSending S1 x1 x2).bind fun v5 =>
      if v5 = 0 then
        some (S1, (-1))
      else
        (g_X8_sendingLook S1 x1 x2 x3).bind fun v6 =>
        some (S1, v6)
  else
    some (S1, 0)
set_option maxRecDepth 10000 in
theorem lf_X8_stream_23 {S : Mem} {S' : AM} (hS : (RT tM) S S') {x1 : Int32} {x1' : Int} (hx1 : RI x1 x1') {x2 : Int32} {x2' : Int} (hx2 : RI x2 x2') {x3 : Int32} {x3' : Int} (hx3 : RI x3 x3') {y0 : Int32} {y0' : Int} (hy0 : RI y0 y0') : Lf (RP (RT tM) RJ) (f_X8_stream_23 S x1 x2 x3 y0) (g_X8_stream_23 S' x1' x2' x3' y0') := by
  unfold f_X8_stream_23 g_X8_stream_23
  refine Lf_gB2 (lf_X8_fails hS hy0 (RI.lit 1 (by decide))) (fun S1 S1' hS1 v2 v2' hv2 => ?_)
  refine Lf_ite (C_eq hv2 (RI.lit 0 (by decide))) (fun c1 => ?_) (fun c1 => ?_)
  · refine Lf_ite (C_le (RI.lit 8 (by decide)) hx3) (fun c2 => ?_) (fun c2 => ?_)
    · refine Lf_bind (lf_X8_hasReceiving hS1 hx1 hx2) (fun v3 v3' hv3 => ?_)
      refine Lf_ite (C_eq hv3 (RI.lit 0 (by decide))) (fun c3 => ?_) (fun c3 => ?_)
      · exact Lf_some (RP.mk hS1 RJ.m1)
      · refine Lf_bind (lf_X8_receivingLook hS1 hx1 hx2 hx3) (fun v4 v4' hv4 => ?_)
        exact Lf_some (RP.mk hS1 hv4)
    · refine Lf_bind (lf_X8_hasSending hS1 hx1 hx2) (fun v5 v5' hv5 => ?_)
      refine Lf_ite (C_eq hv5 (RI.lit 0 (by decide))) (fun c4 => ?_) (fun c4 => ?_)
      · exact Lf_some (RP.mk hS1 RJ.m1)
      · refine Lf_bind (lf_X8_sendingLook hS1 hx1 hx2 hx3) (fun v6 v6' hv6 => ?_)
        exact Lf_some (RP.mk hS1 hv6)
  · exact Lf_some (RP.mk hS1 (RJ.lit 0 (by decide)))
def g_X8_stream_18 (S : AM) (x1 : Int) (x2 : Int) (x3 : Int) : Option (AM × Int) :=
  g_X8_stream_23 S x1 x2 x3 1
set_option maxRecDepth 10000 in
theorem lf_X8_stream_18 {S : Mem} {S' : AM} (hS : (RT tM) S S') {x1 : Int32} {x1' : Int} (hx1 : RI x1 x1') {x2 : Int32} {x2' : Int} (hx2 : RI x2 x2') {x3 : Int32} {x3' : Int} (hx3 : RI x3 x3') : Lf (RP (RT tM) RJ) (f_X8_stream_18 S x1 x2 x3) (g_X8_stream_18 S' x1' x2' x3') := by
  unfold f_X8_stream_18 g_X8_stream_18
  exact lf_X8_stream_23 hS hx1 hx2 hx3 (RI.lit 1 (by decide))
def g_X8_stream (S : AM) (x1 : Int) (x2 : Int) (x3 : Int) : Option (AM × Int) :=
  (g_X8_noSide x1).bind fun v1 =>
  if v1 ≠ 0 then
    g_X8_stream_18 S x1 x2 x3
  else
    if x3 < 0 then
      g_X8_stream_18 S x1 x2 x3
    else
      if x3 ≤ 14 then
        g_X8_stream_23 S x1 x2 x3 0
      else
        g_X8_stream_18 S x1 x2 x3
set_option maxRecDepth 10000 in
theorem lf_X8_stream {S : Mem} {S' : AM} (hS : (RT tM) S S') {x1 : Int32} {x1' : Int} (hx1 : RI x1 x1') {x2 : Int32} {x2' : Int} (hx2 : RI x2 x2') {x3 : Int32} {x3' : Int} (hx3 : RI x3 x3') : Lf (RP (RT tM) RJ) (f_X8_stream S x1 x2 x3) (g_X8_stream S' x1' x2' x3') := by
  unfold f_X8_stream g_X8_stream
  refine Lf_gS (lf_X8_noSide hx1) (fun v1 v1' hv1 => ?_)
  refine Lf_ite (C_ne hv1 (RI.lit 0 (by decide))) (fun c1 => ?_) (fun c1 => ?_)
  · exact lf_X8_stream_18 hS hx1 hx2 hx3
  · refine Lf_ite (C_lt hx3 (RI.lit 0 (by decide))) (fun c2 => ?_) (fun c2 => ?_)
    · exact lf_X8_stream_18 hS hx1 hx2 hx3
    · refine Lf_ite (C_le hx3 (RI.lit 14 (by decide))) (fun c3 => ?_) (fun c3 => ?_)
      · exact lf_X8_stream_23 hS hx1 hx2 hx3 (RI.lit 0 (by decide))
      · exact lf_X8_stream_18 hS hx1 hx2 hx3
def g_X8_side_23 (S : AM) (x1 : Int) (x2 : Int) (y0 : Int) : Option (AM × Int) :=
  gB2 (g_X8_fails S y0 1) fun S1 v2 =>
  if v2 = 0 then
    if x2 = 0 then
      (g_X8_allSent S1 x1).bind fun v3 =>
      some (S1, v3)
    else
      if x2 = 1 then
        hA (3 * x1) 6 <|
        some (S1, (S1 M_limits ((3 * x1) : Int).toNat))
      else
        if x2 = 2 then
          (g_X8_received S1 x1).bind fun v4 =>
          some (S1, v4)
        else
          if x2 = 3 then
            (g_X8_consumed S1 x1).bind fun v5 =>
            some (S1, v5)
          else
            if x2 = 4 then
              hA x1 2 <|
              some (S1, (S1 M_dataGrant (x1 : Int).toNat))
            else
              if x2 = 5 then
                hA (((2 * x1) + x2) - 5) 4 <|
                some (S1, (S1 M_opened ((((2 * x1) + x2) - 5) : Int).toNat))
              else
                if x2 = 6 then
                  hA (((2 * x1) + x2) - 5) 4 <|
                  some (S1, (S1 M_opened ((((2 * x1) + x2) - 5) : Int).toNat))
                else
                  if x2 = 7 then
                    hA (((3 * x1) + x2) - 6) 6 <|
                    some (S1, (S1 M_limits ((((3 * x1) + x2) - 6) : Int).toNat))
                  else
                    if x2 = 8 then
                      hA (((3 * x1) + x2) - 6) 6 <|
                      some (S1, (S1 M_limits ((((3 * x1) + x2) - 6) : Int).toNat))
                    else
                      if x2 = 9 then
                        hA (((2 * x1) + x2) - 9) 4 <|
                        some (S1, (S1 M_theirs ((((2 * x1) + x2) - 9) : Int).toNat))
                      else
                        if x2 = 10 then
                          hA (((2 * x1) + x2) - 9) 4 <|
                          some (S1, (S1 M_theirs ((((2 * x1) + x2) - 9) : Int).toNat))
                        else
                          if x2 = 11 then
                            hA (((2 * x1) + x2) - 11) 4 <|
                            some (S1, (S1 M_granted ((((2 * x1) + x2) - 11) : Int).toNat))
                          else
                            if x2 = 12 then
                              hA (((2 * x1) + x2) - 11) 4 <|
                              some (S1, (S1 M_granted ((((2 * x1) + x2) - 11) : Int).toNat))
                            else
                              hA x1 2 <|
                              some (S1, (S1 M_total (x1 : Int).toNat))
  else
    some (S1, 0)
set_option maxRecDepth 10000 in
theorem lf_X8_side_23 {S : Mem} {S' : AM} (hS : (RT tM) S S') {x1 : Int32} {x1' : Int} (hx1 : RI x1 x1') {x2 : Int32} {x2' : Int} (hx2 : RI x2 x2') {y0 : Int32} {y0' : Int} (hy0 : RI y0 y0') : Lf (RP (RT tM) RJ) (f_X8_side_23 S x1 x2 y0) (g_X8_side_23 S' x1' x2' y0') := by
  unfold f_X8_side_23 g_X8_side_23
  refine Lf_gB2 (lf_X8_fails hS hy0 (RI.lit 1 (by decide))) (fun S1 S1' hS1 v2 v2' hv2 => ?_)
  refine Lf_ite (C_eq hv2 (RI.lit 0 (by decide))) (fun c1 => ?_) (fun c1 => ?_)
  · refine Lf_ite (C_eq hx2 (RI.lit 0 (by decide))) (fun c2 => ?_) (fun c2 => ?_)
    · refine Lf_bind (lf_X8_allSent hS1 hx1) (fun v3 v3' hv3 => ?_)
      exact Lf_some (RP.mk hS1 (RJ.mk (E_64 hv3) (R_64 hv3.2)))
    · refine Lf_ite (C_eq hx2 (RI.lit 1 (by decide))) (fun c3 => ?_) (fun c3 => ?_)
      · refine Lf_hA (E_mul (li32 3) hx1.1) (by decide) (fun b4 => ?_)
        exact Lf_some (RP.mk hS1 (RJ.at hS1 rfl (tnE (E_mul (li32 3) hx1.1) b4 (by decide)) rfl))
      · refine Lf_ite (C_eq hx2 (RI.lit 2 (by decide))) (fun c5 => ?_) (fun c5 => ?_)
        · refine Lf_bind (lf_X8_received hS1 hx1) (fun v4 v4' hv4 => ?_)
          exact Lf_some (RP.mk hS1 hv4)
        · refine Lf_ite (C_eq hx2 (RI.lit 3 (by decide))) (fun c6 => ?_) (fun c6 => ?_)
          · refine Lf_bind (lf_X8_consumed hS1 hx1) (fun v5 v5' hv5 => ?_)
            exact Lf_some (RP.mk hS1 hv5)
          · refine Lf_ite (C_eq hx2 (RI.lit 4 (by decide))) (fun c7 => ?_) (fun c7 => ?_)
            · refine Lf_hA hx1.1 (by decide) (fun b8 => ?_)
              exact Lf_some (RP.mk hS1 (RJ.at hS1 rfl (tnE hx1.1 b8 (by decide)) rfl))
            · refine Lf_ite (C_eq hx2 (RI.lit 5 (by decide))) (fun c9 => ?_) (fun c9 => ?_)
              · refine Lf_hA (E_sub (E_add (E_mul (li32 2) hx1.1) hx2.1) (li32 5)) (by decide) (fun b10 => ?_)
                exact Lf_some (RP.mk hS1 (RJ.mk (E_64 (RI.at hS1 rfl (tnE (E_sub (E_add (E_mul (li32 2) hx1.1) hx2.1) (li32 5)) b10 (by decide)) rfl)) (R_64 (RI.at hS1 rfl (tnE (E_sub (E_add (E_mul (li32 2) hx1.1) hx2.1) (li32 5)) b10 (by decide)) rfl).2)))
              · refine Lf_ite (C_eq hx2 (RI.lit 6 (by decide))) (fun c11 => ?_) (fun c11 => ?_)
                · refine Lf_hA (E_sub (E_add (E_mul (li32 2) hx1.1) hx2.1) (li32 5)) (by decide) (fun b12 => ?_)
                  exact Lf_some (RP.mk hS1 (RJ.mk (E_64 (RI.at hS1 rfl (tnE (E_sub (E_add (E_mul (li32 2) hx1.1) hx2.1) (li32 5)) b12 (by decide)) rfl)) (R_64 (RI.at hS1 rfl (tnE (E_sub (E_add (E_mul (li32 2) hx1.1) hx2.1) (li32 5)) b12 (by decide)) rfl).2)))
                · refine Lf_ite (C_eq hx2 (RI.lit 7 (by decide))) (fun c13 => ?_) (fun c13 => ?_)
                  · refine Lf_hA (E_sub (E_add (E_mul (li32 3) hx1.1) hx2.1) (li32 6)) (by decide) (fun b14 => ?_)
                    exact Lf_some (RP.mk hS1 (RJ.at hS1 rfl (tnE (E_sub (E_add (E_mul (li32 3) hx1.1) hx2.1) (li32 6)) b14 (by decide)) rfl))
                  · refine Lf_ite (C_eq hx2 (RI.lit 8 (by decide))) (fun c15 => ?_) (fun c15 => ?_)
                    · refine Lf_hA (E_sub (E_add (E_mul (li32 3) hx1.1) hx2.1) (li32 6)) (by decide) (fun b16 => ?_)
                      exact Lf_some (RP.mk hS1 (RJ.at hS1 rfl (tnE (E_sub (E_add (E_mul (li32 3) hx1.1) hx2.1) (li32 6)) b16 (by decide)) rfl))
                    · refine Lf_ite (C_eq hx2 (RI.lit 9 (by decide))) (fun c17 => ?_) (fun c17 => ?_)
                      · refine Lf_hA (E_sub (E_add (E_mul (li32 2) hx1.1) hx2.1) (li32 9)) (by decide) (fun b18 => ?_)
                        exact Lf_some (RP.mk hS1 (RJ.mk (E_64 (RI.at hS1 rfl (tnE (E_sub (E_add (E_mul (li32 2) hx1.1) hx2.1) (li32 9)) b18 (by decide)) rfl)) (R_64 (RI.at hS1 rfl (tnE (E_sub (E_add (E_mul (li32 2) hx1.1) hx2.1) (li32 9)) b18 (by decide)) rfl).2)))
                      · refine Lf_ite (C_eq hx2 (RI.lit 10 (by decide))) (fun c19 => ?_) (fun c19 => ?_)
                        · refine Lf_hA (E_sub (E_add (E_mul (li32 2) hx1.1) hx2.1) (li32 9)) (by decide) (fun b20 => ?_)
                          exact Lf_some (RP.mk hS1 (RJ.mk (E_64 (RI.at hS1 rfl (tnE (E_sub (E_add (E_mul (li32 2) hx1.1) hx2.1) (li32 9)) b20 (by decide)) rfl)) (R_64 (RI.at hS1 rfl (tnE (E_sub (E_add (E_mul (li32 2) hx1.1) hx2.1) (li32 9)) b20 (by decide)) rfl).2)))
                        · refine Lf_ite (C_eq hx2 (RI.lit 11 (by decide))) (fun c21 => ?_) (fun c21 => ?_)
                          · refine Lf_hA (E_sub (E_add (E_mul (li32 2) hx1.1) hx2.1) (li32 11)) (by decide) (fun b22 => ?_)
                            exact Lf_some (RP.mk hS1 (RJ.mk (E_64 (RI.at hS1 rfl (tnE (E_sub (E_add (E_mul (li32 2) hx1.1) hx2.1) (li32 11)) b22 (by decide)) rfl)) (R_64 (RI.at hS1 rfl (tnE (E_sub (E_add (E_mul (li32 2) hx1.1) hx2.1) (li32 11)) b22 (by decide)) rfl).2)))
                          · refine Lf_ite (C_eq hx2 (RI.lit 12 (by decide))) (fun c23 => ?_) (fun c23 => ?_)
                            · refine Lf_hA (E_sub (E_add (E_mul (li32 2) hx1.1) hx2.1) (li32 11)) (by decide) (fun b24 => ?_)
                              exact Lf_some (RP.mk hS1 (RJ.mk (E_64 (RI.at hS1 rfl (tnE (E_sub (E_add (E_mul (li32 2) hx1.1) hx2.1) (li32 11)) b24 (by decide)) rfl)) (R_64 (RI.at hS1 rfl (tnE (E_sub (E_add (E_mul (li32 2) hx1.1) hx2.1) (li32 11)) b24 (by decide)) rfl).2)))
                            · refine Lf_hA hx1.1 (by decide) (fun b25 => ?_)
                              exact Lf_some (RP.mk hS1 (RJ.mk (E_64 (RI.at hS1 rfl (tnE hx1.1 b25 (by decide)) rfl)) (R_64 (RI.at hS1 rfl (tnE hx1.1 b25 (by decide)) rfl).2)))
  · exact Lf_some (RP.mk hS1 (RJ.lit 0 (by decide)))
def g_X8_side_18 (S : AM) (x1 : Int) (x2 : Int) : Option (AM × Int) :=
  g_X8_side_23 S x1 x2 1
set_option maxRecDepth 10000 in
theorem lf_X8_side_18 {S : Mem} {S' : AM} (hS : (RT tM) S S') {x1 : Int32} {x1' : Int} (hx1 : RI x1 x1') {x2 : Int32} {x2' : Int} (hx2 : RI x2 x2') : Lf (RP (RT tM) RJ) (f_X8_side_18 S x1 x2) (g_X8_side_18 S' x1' x2') := by
  unfold f_X8_side_18 g_X8_side_18
  exact lf_X8_side_23 hS hx1 hx2 (RI.lit 1 (by decide))
def g_X8_side (S : AM) (x1 : Int) (x2 : Int) : Option (AM × Int) :=
  (g_X8_noSide x1).bind fun v1 =>
  if v1 ≠ 0 then
    g_X8_side_18 S x1 x2
  else
    if x2 < 0 then
      g_X8_side_18 S x1 x2
    else
      if x2 ≤ 13 then
        g_X8_side_23 S x1 x2 0
      else
        g_X8_side_18 S x1 x2
set_option maxRecDepth 10000 in
theorem lf_X8_side {S : Mem} {S' : AM} (hS : (RT tM) S S') {x1 : Int32} {x1' : Int} (hx1 : RI x1 x1') {x2 : Int32} {x2' : Int} (hx2 : RI x2 x2') : Lf (RP (RT tM) RJ) (f_X8_side S x1 x2) (g_X8_side S' x1' x2') := by
  unfold f_X8_side g_X8_side
  refine Lf_gS (lf_X8_noSide hx1) (fun v1 v1' hv1 => ?_)
  refine Lf_ite (C_ne hv1 (RI.lit 0 (by decide))) (fun c1 => ?_) (fun c1 => ?_)
  · exact lf_X8_side_18 hS hx1 hx2
  · refine Lf_ite (C_lt hx2 (RI.lit 0 (by decide))) (fun c2 => ?_) (fun c2 => ?_)
    · exact lf_X8_side_18 hS hx1 hx2
    · refine Lf_ite (C_le hx2 (RI.lit 13 (by decide))) (fun c3 => ?_) (fun c3 => ?_)
      · exact lf_X8_side_23 hS hx1 hx2 (RI.lit 0 (by decide))
      · exact lf_X8_side_18 hS hx1 hx2
