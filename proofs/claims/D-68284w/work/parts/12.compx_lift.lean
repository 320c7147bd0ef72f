/-! lifted by lift.py -/
def g_X1_need (x0 : Int) : Option (Nat ⊕ Unit) :=
  if x0 ≠ 0 then
    some (.inr ())
  else
    some (.inl 1)
set_option maxRecDepth 10000 in
theorem lf_X1_need {x0 : Int32} {x0' : Int} (hx0 : RI x0 x0') : Lp (RX RQ) (f_X1_need x0) (g_X1_need x0') := by
  unfold f_X1_need g_X1_need
  refine Lp_ite (C_ne hx0 (RI.lit 0 (by decide))) (fun c1 => ?_) (fun c1 => ?_)
  · exact Lp_val (RX.r (RQ.rfl))
  · exact Lp_val RX.l
def g_X1_ready (x0 : Int) : Option (Nat ⊕ Unit) :=
  if x0 ≠ 0 then
    some (.inr ())
  else
    some (.inl 2)
set_option maxRecDepth 10000 in
theorem lf_X1_ready {x0 : Int32} {x0' : Int} (hx0 : RI x0 x0') : Lp (RX RQ) (f_X1_ready x0) (g_X1_ready x0') := by
  unfold f_X1_ready g_X1_ready
  refine Lp_ite (C_ne hx0 (RI.lit 0 (by decide))) (fun c1 => ?_) (fun c1 => ?_)
  · exact Lp_val (RX.r (RQ.rfl))
  · exact Lp_val RX.l
def g_X1_there (x0 : Int) : Option (Nat ⊕ Unit) :=
  if x0 ≠ 0 then
    some (.inr ())
  else
    some (.inl 3)
set_option maxRecDepth 10000 in
theorem lf_X1_there {x0 : Int32} {x0' : Int} (hx0 : RI x0 x0') : Lp (RX RQ) (f_X1_there x0) (g_X1_there x0') := by
  unfold f_X1_there g_X1_there
  refine Lp_ite (C_ne hx0 (RI.lit 0 (by decide))) (fun c1 => ?_) (fun c1 => ?_)
  · exact Lp_val (RX.r (RQ.rfl))
  · exact Lp_val RX.l
def g_X1_hall (S : AM) (x1 : Int) : Option (Nat ⊕ Nat) :=
  (g_X1_in x1 0 1).bind fun v1 =>
  (g_X1_need v1).bind fun qq => gX qq fun _ =>
  hA x1 2 <|
  some (.inr (x1 : Int).toNat)
set_option maxRecDepth 10000 in
theorem lf_X1_hall {S : Mem} {S' : AM} (hS : (RT tC) S S') {x1 : Int32} {x1' : Int} (hx1 : RI x1 x1') : Lf (RX RQ) (f_X1_hall S x1) (g_X1_hall S' x1') := by
  unfold f_X1_hall g_X1_hall
  refine Lf_gS (lf_X1_in (RJ.mk (E_64 hx1) (R_64 hx1.2)) (RJ.lit 0 (by decide)) (RJ.lit 1 (by decide))) (fun v1 v1' hv1 => ?_)
  refine Lf_gXp (lf_X1_need hv1) (fun un un' hun => ?_)
  obtain rfl : un = un' := hun
  refine Lf_hA hx1.1 (by decide) (fun b1 => ?_)
  exact Lf_some (RX.r (RQ.of (tnE hx1.1 b1 (by decide))))
def g_X1_at_29 (S : AM) (x1 : Int) (y0 : Int) : Option (Nat ⊕ Nat) :=
  (g_X1_there y0).bind fun qq => gX qq fun _ =>
  hA x1 64 <|
  some (.inr (x1 : Int).toNat)
set_option maxRecDepth 10000 in
theorem lf_X1_at_29 {S : Mem} {S' : AM} (hS : (RT tC) S S') {x1 : Int32} {x1' : Int} (hx1 : RI x1 x1') {y0 : Int32} {y0' : Int} (hy0 : RI y0 y0') : Lf (RX RQ) (f_X1_at_29 S x1 y0) (g_X1_at_29 S' x1' y0') := by
  unfold f_X1_at_29 g_X1_at_29
  refine Lf_gXp (lf_X1_there hy0) (fun un un' hun => ?_)
  obtain rfl : un = un' := hun
  refine Lf_hA hx1.1 (by decide) (fun b1 => ?_)
  exact Lf_some (RX.r (RQ.of (tnE hx1.1 b1 (by decide))))
def g_X1_at_28 (S : AM) (x1 : Int) : Option (Nat ⊕ Nat) :=
  g_X1_at_29 S x1 0
set_option maxRecDepth 10000 in
theorem lf_X1_at_28 {S : Mem} {S' : AM} (hS : (RT tC) S S') {x1 : Int32} {x1' : Int} (hx1 : RI x1 x1') : Lf (RX RQ) (f_X1_at_28 S x1) (g_X1_at_28 S' x1') := by
  unfold f_X1_at_28 g_X1_at_28
  exact lf_X1_at_29 hS hx1 (RI.lit 0 (by decide))
def g_X1_at (S : AM) (x1 : Int) : Option (Nat ⊕ Nat) :=
  (g_X1_in x1 0 63).bind fun v1 =>
  if v1 = 0 then
    g_X1_at_28 S x1
  else
    hA x1 64 <|
    if (S (L_o (x1 : Int).toNat) 0) = 0 then
      g_X1_at_28 S x1
    else
      g_X1_at_29 S x1 1
set_option maxRecDepth 10000 in
theorem lf_X1_at {S : Mem} {S' : AM} (hS : (RT tC) S S') {x1 : Int32} {x1' : Int} (hx1 : RI x1 x1') : Lf (RX RQ) (f_X1_at S x1) (g_X1_at S' x1') := by
  unfold f_X1_at g_X1_at
  refine Lf_gS (lf_X1_in (RJ.mk (E_64 hx1) (R_64 hx1.2)) (RJ.lit 0 (by decide)) (RJ.lit 63 (by decide))) (fun v1 v1' hv1 => ?_)
  refine Lf_ite (C_eq hv1 (RI.lit 0 (by decide))) (fun c1 => ?_) (fun c1 => ?_)
  · exact lf_X1_at_28 hS hx1
  · refine Lf_hA hx1.1 (by decide) (fun b2 => ?_)
    refine Lf_ite (C_eq (RI.at hS (congrArg L_o (tnE hx1.1 b2 (by decide))) rfl rfl) (RI.lit 0 (by decide))) (fun c3 => ?_) (fun c3 => ?_)
    · exact lf_X1_at_28 hS hx1
    · exact lf_X1_at_29 hS hx1 (RI.lit 1 (by decide))
def g_X1_grant_68 (S : AM) (x1 : Int) (x2 : Int) (x3 : Int) (y0 : Int) : Option (AM × (Nat ⊕ Unit)) :=
  (g_X1_ready y0).bind fun qq => hXW S qq fun _ =>
  hA x1 2 <|
  hA (x2 - 4) 6 <|
  gS (uA S (C_grow (x1 : Int).toNat) (((x2 - 4) : Int).toNat) x3) fun S3 =>
  (g_X1_allow S3 x1).bind fun S4 =>
  some (S4, (.inr ()))
set_option maxRecDepth 10000 in
theorem lf_X1_grant_68 {S : Mem} {S' : AM} (hS : (RT tC) S S') {x1 : Int32} {x1' : Int} (hx1 : RI x1 x1') {x2 : Int32} {x2' : Int} (hx2 : RI x2 x2') {x3 : Int32} {x3' : Int} (hx3 : RI x3 x3') {y0 : Int32} {y0' : Int} (hy0 : RI y0 y0') : Lf (RP (RT tC) (RX RQ)) (f_X1_grant_68 S x1 x2 x3 y0) (g_X1_grant_68 S' x1' x2' x3' y0') := by
  unfold f_X1_grant_68 g_X1_grant_68
  refine Lf_gXWp hS (lf_X1_ready hy0) (fun un un' hun => ?_)
  obtain rfl : un = un' := hun
  refine Lf_hA hx1.1 (by decide) (fun b1 => ?_)
  refine Lf_hA (E_sub hx2.1 (li32 4)) (by decide) (fun b2 => ?_)
  refine Lf_st (RT.siq hS (congrArg C_grow (tnE hx1.1 b1 (by decide))) (tnE (E_sub hx2.1 (li32 4)) b2 (by decide)) hx3 rfl) (fun S3 S3' hS3 => ?_)
  refine Lf_bind (lf_X1_allow hS3 hx1) (fun S4 S4' hS4 => ?_)
  exact Lf_some (RP.mk hS4 (RX.r (RQ.rfl)))
def g_X1_grant_53 (S : AM) (x1 : Int) (x2 : Int) (x3 : Int) (y0 : Int) : Option (AM × (Nat ⊕ Unit)) :=
  (g_X1_need y0).bind fun qq => hXW S qq fun _ =>
  if (S C_o 7) ≠ 0 then
    g_X1_grant_68 S x1 x2 x3 0
  else
    g_X1_grant_68 S x1 x2 x3 1
set_option maxRecDepth 10000 in
theorem lf_X1_grant_53 {S : Mem} {S' : AM} (hS : (RT tC) S S') {x1 : Int32} {x1' : Int} (hx1 : RI x1 x1') {x2 : Int32} {x2' : Int} (hx2 : RI x2 x2') {x3 : Int32} {x3' : Int} (hx3 : RI x3 x3') {y0 : Int32} {y0' : Int} (hy0 : RI y0 y0') : Lf (RP (RT tC) (RX RQ)) (f_X1_grant_53 S x1 x2 x3 y0) (g_X1_grant_53 S' x1' x2' x3' y0') := by
  unfold f_X1_grant_53 g_X1_grant_53
  refine Lf_gXWp hS (lf_X1_need hy0) (fun un un' hun => ?_)
  obtain rfl : un = un' := hun
  refine Lf_ite (C_ne (RI.at hS rfl rfl rfl) (RI.lit 0 (by decide))) (fun c1 => ?_) (fun c1 => ?_)
  · exact lf_X1_grant_68 hS hx1 hx2 hx3 (RI.lit 0 (by decide))
  · exact lf_X1_grant_68 hS hx1 hx2 hx3 (RI.lit 1 (by decide))
def g_X1_grant_52 (S : AM) (x1 : Int) (x2 : Int) (x3 : Int) : Option (AM × (Nat ⊕ Unit)) :=
  g_X1_grant_53 S x1 x2 x3 0
set_option maxRecDepth 10000 in
theorem lf_X1_grant_52 {S : Mem} {S' : AM} (hS : (RT tC) S S') {x1 : Int32} {x1' : Int} (hx1 : RI x1 x1') {x2 : Int32} {x2' : Int} (hx2 : RI x2 x2') {x3 : Int32} {x3' : Int} (hx3 : RI x3 x3') : Lf (RP (RT tC) (RX RQ)) (f_X1_grant_52 S x1 x2 x3) (g_X1_grant_52 S' x1' x2' x3') := by
  unfold f_X1_grant_52 g_X1_grant_52
  exact lf_X1_grant_53 hS hx1 hx2 hx3 (RI.lit 0 (by decide))
def g_X1_grant_42 (S : AM) (x1 : Int) (x2 : Int) (x3 : Int) (y0 : Int) (y1 : Int) (y2 : Int) : Option (AM × (Nat ⊕ Unit)) :=
  (g_X1_in y2 y1 y0).bind fun v1 =>
  if v1 = 0 then
    g_X1_grant_52 S x1 x2 x3
  else
    g_X1_grant_53 S x1 x2 x3 1
set_option maxRecDepth 10000 in
theorem lf_X1_grant_42 {S : Mem} {S' : AM} (hS : (RT tC) S S') {x1 : Int32} {x1' : Int} (hx1 : RI x1 x1') {x2 : Int32} {x2' : Int} (hx2 : RI x2 x2') {x3 : Int32} {x3' : Int} (hx3 : RI x3 x3') {y0 : Int64} {y0' : Int} (hy0 : RJ y0 y0') {y1 : Int64} {y1' : Int} (hy1 : RJ y1 y1') {y2 : Int64} {y2' : Int} (hy2 : RJ y2 y2') : Lf (RP (RT tC) (RX RQ)) (f_X1_grant_42 S x1 x2 x3 y0 y1 y2) (g_X1_grant_42 S' x1' x2' x3' y0' y1' y2') := by
  unfold f_X1_grant_42 g_X1_grant_42
  refine Lf_gS (lf_X1_in hy2 hy1 hy0) (fun v1 v1' hv1 => ?_)
  refine Lf_ite (C_eq hv1 (RI.lit 0 (by decide))) (fun c1 => ?_) (fun c1 => ?_)
  · exact lf_X1_grant_52 hS hx1 hx2 hx3
  · exact lf_X1_grant_53 hS hx1 hx2 hx3 (RI.lit 1 (by decide))
def g_X1_grant (S : AM) (x1 : Int) (x2 : Int) (x3 : Int) : Option (AM × (Nat ⊕ Unit)) :=
  (g_X1_in x1 0 1).bind fun v1 =>
  if v1 = 0 then
    g_X1_grant_52 S x1 x2 x3
  else
    (g_X1_in x2 4 9).bind fun v2 =>
    if v2 = 0 then
      g_X1_grant_52 S x1 x2 x3
    else
      if 8 ≤ x2 then
        g_X1_grant_42 S x1 x2 x3 64 0 x3
      else
        g_X1_grant_42 S x1 x2 x3 65536 0 x3
set_option maxRecDepth 10000 in
theorem lf_X1_grant {S : Mem} {S' : AM} (hS : (RT tC) S S') {x1 : Int32} {x1' : Int} (hx1 : RI x1 x1') {x2 : Int32} {x2' : Int} (hx2 : RI x2 x2') {x3 : Int32} {x3' : Int} (hx3 : RI x3 x3') : Lf (RP (RT tC) (RX RQ)) (f_X1_grant S x1 x2 x3) (g_X1_grant S' x1' x2' x3') := by
  unfold f_X1_grant g_X1_grant
  refine Lf_gS (lf_X1_in (RJ.mk (E_64 hx1) (R_64 hx1.2)) (RJ.lit 0 (by decide)) (RJ.lit 1 (by decide))) (fun v1 v1' hv1 => ?_)
  refine Lf_ite (C_eq hv1 (RI.lit 0 (by decide))) (fun c1 => ?_) (fun c1 => ?_)
  · exact lf_X1_grant_52 hS hx1 hx2 hx3
  · refine Lf_gS (lf_X1_in (RJ.mk (E_64 hx2) (R_64 hx2.2)) (RJ.lit 4 (by decide)) (RJ.lit 9 (by decide))) (fun v2 v2' hv2 => ?_)
    refine Lf_ite (C_eq hv2 (RI.lit 0 (by decide))) (fun c2 => ?_) (fun c2 => ?_)
    · exact lf_X1_grant_52 hS hx1 hx2 hx3
    · refine Lf_ite (C_le (RI.lit 8 (by decide)) hx2) (fun c3 => ?_) (fun c3 => ?_)
      · exact lf_X1_grant_42 hS hx1 hx2 hx3 (RJ.lit 64 (by decide)) (RJ.lit 0 (by decide)) (RJ.mk (E_64 hx3) (R_64 hx3.2))
      · exact lf_X1_grant_42 hS hx1 hx2 hx3 (RJ.lit 65536 (by decide)) (RJ.lit 0 (by decide)) (RJ.mk (E_64 hx3) (R_64 hx3.2))
def g_X1_join_22_b (k22 : AM → Int → Option (AM × (Nat ⊕ Unit))) (S : AM) (x1 : Int) : Option (AM × (Nat ⊕ Unit)) :=
  if 2 ≤ x1 then
    some (S, (.inr ()))
  else
    hA x1 2 <|
    hA (1 - x1) 2 <|
    hA 0 6 <|
    hA 1 6 <|
    hA 2 6 <|
    hA 3 6 <|
    hA 4 6 <|
    hA 5 6 <|
    (g_X2_limits ((1 - x1) : Int).toNat S (S (C_grow (x1 : Int).toNat) (0 : Int).toNat) (S (C_grow (x1 : Int).toNat) (1 : Int).toNat) (S (C_grow (x1 : Int).toNat) (2 : Int).toNat) (S (C_grow (x1 : Int).toNat) (3 : Int).toNat) (S (C_grow (x1 : Int).toNat) (4 : Int).toNat) (S (C_grow (x1 : Int).toNat) (5 : Int).toNat)).bind fun S3 =>
    c32 (x1 + 1) <|
    k22 S3 (x1 + 1)
set_option maxRecDepth 10000 in
theorem lf_X1_join_22_b {k22 : Mem → Int32 → Option (Mem × (Nat ⊕ Unit))} {k22' : AM → Int → Option (AM × (Nat ⊕ Unit))} (hk22 : ∀ {y0 : Mem} {y0' : AM}, (RT tC) y0 y0' → ∀ {y1 : Int32} {y1' : Int}, RI y1 y1' → Lf (RP (RT tC) (RX RQ)) (k22 y0 y1) (k22' y0' y1')) {S : Mem} {S' : AM} (hS : (RT tC) S S') {x1 : Int32} {x1' : Int} (hx1 : RI x1 x1') : Lf (RP (RT tC) (RX RQ)) (f_X1_join_22_b k22 S x1) (g_X1_join_22_b k22' S' x1') := by
  unfold f_X1_join_22_b g_X1_join_22_b
  refine Lf_ite (C_le (RI.lit 2 (by decide)) hx1) (fun c1 => ?_) (fun c1 => ?_)
  · exact Lf_some (RP.mk hS (RX.r (RQ.rfl)))
  · refine Lf_hA hx1.1 (by decide) (fun b2 => ?_)
    refine Lf_hA (E_sub (li32 1) hx1.1) (by decide) (fun b3 => ?_)
    refine Lf_hA (li32 0) (by decide) (fun b4 => ?_)
    refine Lf_hA (li32 1) (by decide) (fun b5 => ?_)
    refine Lf_hA (li32 2) (by decide) (fun b6 => ?_)
    refine Lf_hA (li32 3) (by decide) (fun b7 => ?_)
    refine Lf_hA (li32 4) (by decide) (fun b8 => ?_)
    refine Lf_hA (li32 5) (by decide) (fun b9 => ?_)
    refine Lf_bind (lf_X2_limits (tnE (E_sub (li32 1) hx1.1) b3 (by decide)) hS (RJ.mk (E_64 (RI.at hS (congrArg C_grow (tnE hx1.1 b2 (by decide))) (tnE (li32 0) b4 (by decide)) rfl)) (R_64 (RI.at hS (congrArg C_grow (tnE hx1.1 b2 (by decide))) (tnE (li32 0) b4 (by decide)) rfl).2)) (RJ.mk (E_64 (RI.at hS (congrArg C_grow (tnE hx1.1 b2 (by decide))) (tnE (li32 1) b5 (by decide)) rfl)) (R_64 (RI.at hS (congrArg C_grow (tnE hx1.1 b2 (by decide))) (tnE (li32 1) b5 (by decide)) rfl).2)) (RJ.mk (E_64 (RI.at hS (congrArg C_grow (tnE hx1.1 b2 (by decide))) (tnE (li32 2) b6 (by decide)) rfl)) (R_64 (RI.at hS (congrArg C_grow (tnE hx1.1 b2 (by decide))) (tnE (li32 2) b6 (by decide)) rfl).2)) (RJ.mk (E_64 (RI.at hS (congrArg C_grow (tnE hx1.1 b2 (by decide))) (tnE (li32 3) b7 (by decide)) rfl)) (R_64 (RI.at hS (congrArg C_grow (tnE hx1.1 b2 (by decide))) (tnE (li32 3) b7 (by decide)) rfl).2)) (RJ.mk (E_64 (RI.at hS (congrArg C_grow (tnE hx1.1 b2 (by decide))) (tnE (li32 4) b8 (by decide)) rfl)) (R_64 (RI.at hS (congrArg C_grow (tnE hx1.1 b2 (by decide))) (tnE (li32 4) b8 (by decide)) rfl).2)) (RJ.mk (E_64 (RI.at hS (congrArg C_grow (tnE hx1.1 b2 (by decide))) (tnE (li32 5) b9 (by decide)) rfl)) (R_64 (RI.at hS (congrArg C_grow (tnE hx1.1 b2 (by decide))) (tnE (li32 5) b9 (by decide)) rfl).2))) (fun S3 S3' hS3 => ?_)
    refine Lf_c32 (fun b10 => ?_)
    exact hk22 hS3 (RI.mk (E_add hx1.1 (li32 1)) b10)
def g_X1_join_22 : Nat → AM → Int → Option (AM × (Nat ⊕ Unit))
  | 0, _, _ => none
  | n + 1, S, x1 => g_X1_join_22_b (g_X1_join_22 n) S x1
set_option maxRecDepth 10000 in
theorem lf_X1_join_22 (n : Nat) : ∀ {S : Mem} {S' : AM}, (RT tC) S S' → ∀ {x1 : Int32} {x1' : Int}, RI x1 x1' → Lf (RP (RT tC) (RX RQ)) (f_X1_join_22 n S x1) (g_X1_join_22 n S' x1') := by
  induction n with
  | zero => intros; exact Lf_none
  | succ n ih => intro S S' hS x1 x1' hx1; exact lf_X1_join_22_b ih hS hx1
def g_X1_join_12 (S : AM) (y0 : Int) : Option (AM × (Nat ⊕ Unit)) :=
  (g_X1_ready y0).bind fun qq => hXW S qq fun _ =>
  gS (uA S C_o 7 1) fun S2 =>
  g_X1_join_22 FU S2 0
set_option maxRecDepth 10000 in
theorem lf_X1_join_12 {S : Mem} {S' : AM} (hS : (RT tC) S S') {y0 : Int32} {y0' : Int} (hy0 : RI y0 y0') : Lf (RP (RT tC) (RX RQ)) (f_X1_join_12 S y0) (g_X1_join_12 S' y0') := by
  unfold f_X1_join_12 g_X1_join_12
  refine Lf_gXWp hS (lf_X1_ready hy0) (fun un un' hun => ?_)
  obtain rfl : un = un' := hun
  refine Lf_st (RT.siq hS rfl rfl (RI.lit 1 (by decide)) rfl) (fun S2 S2' hS2 => ?_)
  exact lf_X1_join_22 FU hS2 (RI.lit 0 (by decide))
def g_X1_join (S : AM) : Option (AM × (Nat ⊕ Unit)) :=
  if (S C_o 7) ≠ 0 then
    g_X1_join_12 S 0
  else
    g_X1_join_12 S 1
set_option maxRecDepth 10000 in
theorem lf_X1_join {S : Mem} {S' : AM} (hS : (RT tC) S S') : Lf (RP (RT tC) (RX RQ)) (f_X1_join S) (g_X1_join S') := by
  unfold f_X1_join g_X1_join
  refine Lf_ite (C_ne (RI.at hS rfl rfl rfl) (RI.lit 0 (by decide))) (fun c1 => ?_) (fun c1 => ?_)
  · exact lf_X1_join_12 hS (RI.lit 0 (by decide))
  · exact lf_X1_join_12 hS (RI.lit 1 (by decide))
def g_X1_feed_35_b (k35 : AM → Int → Int → Int → Option (AM × (Nat ⊕ Int))) (S : AM) (x1 : Int) (x2 : Int) (x4 : Int) : Option (AM × (Nat ⊕ Int)) :=
  if x1 ≤ x4 then
    some (S, (.inr (S C_o 5)))
  else
    c32 ((S C_o 5) + 1) <|
    gS (uA S C_o 5 ((S C_o 5) + 1)) fun S1 =>
    hA (S C_o 5) 2048 <|
    hA (8 * x4) 64 <|
    gS (uA S1 C_tape (((S C_o 5) : Int).toNat) (b8 (b8 (x2 / 2 ^ ((8 * x4) : Int).toNat)))) fun S2 =>
    c32 (x4 + 1) <|
    k35 S2 x1 x2 (x4 + 1)
set_option maxRecDepth 10000 in
theorem lf_X1_feed_35_b {k35 : Mem → Int32 → Int64 → Int32 → Option (Mem × (Nat ⊕ Int32))} {k35' : AM → Int → Int → Int → Option (AM × (Nat ⊕ Int))} (hk35 : ∀ {y0 : Mem} {y0' : AM}, (RT tC) y0 y0' → ∀ {y1 : Int32} {y1' : Int}, RI y1 y1' → ∀ {y2 : Int64} {y2' : Int}, RJ y2 y2' → ∀ {y3 : Int32} {y3' : Int}, RI y3 y3' → Lf (RP (RT tC) (RX RI)) (k35 y0 y1 y2 y3) (k35' y0' y1' y2' y3')) {S : Mem} {S' : AM} (hS : (RT tC) S S') {x1 : Int32} {x1' : Int} (hx1 : RI x1 x1') {x2 : Int64} {x2' : Int} (hx2 : RJ x2 x2') {x4 : Int32} {x4' : Int} (hx4 : RI x4 x4') : Lf (RP (RT tC) (RX RI)) (f_X1_feed_35_b k35 S x1 x2 x4) (g_X1_feed_35_b k35' S' x1' x2' x4') := by
  unfold f_X1_feed_35_b g_X1_feed_35_b
  refine Lf_ite (C_le hx1 hx4) (fun c1 => ?_) (fun c1 => ?_)
  · exact Lf_some (RP.mk hS (RX.r (RI.at hS rfl rfl rfl)))
  · refine Lf_c32 (fun b2 => ?_)
    refine Lf_st (RT.siq hS rfl rfl (RI.mk (E_add (RI.at hS rfl rfl rfl).1 (li32 1)) b2) rfl) (fun S1 S1' hS1 => ?_)
    refine Lf_hA (RI.at hS rfl rfl rfl).1 (by decide) (fun b3 => ?_)
    refine Lf_hD (fun b4 => ?_)
    refine Lf_st (RT.siq hS1 rfl (tnE (RI.at hS rfl rfl rfl).1 b3 (by decide)) (RI.mk (E_nb (RI.mk (E_b864 (F_shr hx2 (E_mul (li32 8) hx4.1) b4)) (R_b8 _))) (R_b8 _)) rfl) (fun S2 S2' hS2 => ?_)
    refine Lf_c32 (fun b5 => ?_)
    exact hk35 hS2 hx1 hx2 (RI.mk (E_add hx4.1 (li32 1)) b5)
def g_X1_feed_35 : Nat → AM → Int → Int → Int → Option (AM × (Nat ⊕ Int))
  | 0, _, _, _, _ => none
  | n + 1, S, x1, x2, x4 => g_X1_feed_35_b (g_X1_feed_35 n) S x1 x2 x4
set_option maxRecDepth 10000 in
theorem lf_X1_feed_35 (n : Nat) : ∀ {S : Mem} {S' : AM}, (RT tC) S S' → ∀ {x1 : Int32} {x1' : Int}, RI x1 x1' → ∀ {x2 : Int64} {x2' : Int}, RJ x2 x2' → ∀ {x4 : Int32} {x4' : Int}, RI x4 x4' → Lf (RP (RT tC) (RX RI)) (f_X1_feed_35 n S x1 x2 x4) (g_X1_feed_35 n S' x1' x2' x4') := by
  induction n with
  | zero => intros; exact Lf_none
  | succ n ih => intro S S' hS x1 x1' hx1 x2 x2' hx2 x4 x4' hx4; exact lf_X1_feed_35_b ih hS hx1 hx2 hx4
def g_X1_feed_29 (S : AM) (x1 : Int) (x2 : Int) (y0 : Int) : Option (AM × (Nat ⊕ Int)) :=
  (g_X1_ready y0).bind fun qq => hXW S qq fun _ =>
  g_X1_feed_35 FU S x1 x2 0
set_option maxRecDepth 10000 in
theorem lf_X1_feed_29 {S : Mem} {S' : AM} (hS : (RT tC) S S') {x1 : Int32} {x1' : Int} (hx1 : RI x1 x1') {x2 : Int64} {x2' : Int} (hx2 : RJ x2 x2') {y0 : Int32} {y0' : Int} (hy0 : RI y0 y0') : Lf (RP (RT tC) (RX RI)) (f_X1_feed_29 S x1 x2 y0) (g_X1_feed_29 S' x1' x2' y0') := by
  unfold f_X1_feed_29 g_X1_feed_29
  refine Lf_gXWp hS (lf_X1_ready hy0) (fun un un' hun => ?_)
  obtain rfl : un = un' := hun
  exact lf_X1_feed_35 FU hS hx1 hx2 (RI.lit 0 (by decide))
def g_X1_feed (S : AM) (x1 : Int) (x2 : Int) : Option (AM × (Nat ⊕ Int)) :=
  (g_X1_in x1 1 8).bind fun v1 =>
  (g_X1_need v1).bind fun qq => hXW S qq fun _ =>
  c32 ((S C_o 5) + x1) <|
  if 2048 < ((S C_o 5) + x1) then
    g_X1_feed_29 S x1 x2 0
  else
    g_X1_feed_29 S x1 x2 1
set_option maxRecDepth 10000 in
theorem lf_X1_feed {S : Mem} {S' : AM} (hS : (RT tC) S S') {x1 : Int32} {x1' : Int} (hx1 : RI x1 x1') {x2 : Int64} {x2' : Int} (hx2 : RJ x2 x2') : Lf (RP (RT tC) (RX RI)) (f_X1_feed S x1 x2) (g_X1_feed S' x1' x2') := by
  unfold f_X1_feed g_X1_feed
  refine Lf_gS (lf_X1_in (RJ.mk (E_64 hx1) (R_64 hx1.2)) (RJ.lit 1 (by decide)) (RJ.lit 8 (by decide))) (fun v1 v1' hv1 => ?_)
  refine Lf_gXWp hS (lf_X1_need hv1) (fun un un' hun => ?_)
  obtain rfl : un = un' := hun
  refine Lf_c32 (fun b1 => ?_)
  refine Lf_ite (C_lt (RI.lit 2048 (by decide)) (RI.mk (E_add (RI.at hS rfl rfl rfl).1 hx1.1) b1)) (fun c2 => ?_) (fun c2 => ?_)
  · exact lf_X1_feed_29 hS hx1 hx2 (RI.lit 0 (by decide))
  · exact lf_X1_feed_29 hS hx1 hx2 (RI.lit 1 (by decide))
def g_X1_write (E : L3 → Bool) (S : AM) (x1 : Int) (x2 : Int) : Option (AM × (Nat ⊕ Int)) :=
  (g_X1_hall S x1).bind fun q1 =>
  hXW S q1 fun v2 =>
  gB2 (g_X2_write E v2 S x2 0 (S C_o 5)) fun S4 v5 =>
  gS (uA S4 C_o 5 0) fun S6 =>
  some (S6, (.inr v5))
set_option maxRecDepth 10000 in
theorem lf_X1_write (E : L3 → Bool) {S : Mem} {S' : AM} (hS : (RT tC) S S') {x1 : Int32} {x1' : Int} (hx1 : RI x1 x1') {x2 : Int32} {x2' : Int} (hx2 : RI x2 x2') : Lf (RP (RT tC) (RX RI)) (f_X1_write E S x1 x2) (g_X1_write E S' x1' x2') := by
  unfold f_X1_write g_X1_write
  refine Lf_bind (lf_X1_hall hS hx1) (fun q1 q1' hq1 => ?_)
  refine Lf_gXW hS hq1 (fun v2 v2' hv2 => ?_)
  obtain rfl : v2 = v2' := hv2
  refine Lf_gB2 (lf_X2_write E rfl hS hx2 (RI.lit 0 (by decide)) (RI.at hS rfl rfl rfl)) (fun S4 S4' hS4 v5 v5' hv5 => ?_)
  refine Lf_st (RT.siq hS4 rfl rfl (RI.lit 0 (by decide)) rfl) (fun S6 S6' hS6 => ?_)
  exact Lf_some (RP.mk hS6 (RX.r hv5))
def g_X1_finish (E : L3 → Bool) (S : AM) (x1 : Int) (x2 : Int) : Option (AM × (Nat ⊕ Int)) :=
  (g_X1_hall S x1).bind fun q1 =>
  hXW S q1 fun v2 =>
  gB2 (g_X2_finish E v2 S x2) fun S4 v5 =>
  hB v5 <|
  some (S4, (.inr v5))
set_option maxRecDepth 10000 in
theorem lf_X1_finish (E : L3 → Bool) {S : Mem} {S' : AM} (hS : (RT tC) S S') {x1 : Int32} {x1' : Int} (hx1 : RI x1 x1') {x2 : Int32} {x2' : Int} (hx2 : RI x2 x2') : Lf (RP (RT tC) (RX RI)) (f_X1_finish E S x1 x2) (g_X1_finish E S' x1' x2') := by
  unfold f_X1_finish g_X1_finish
  refine Lf_bind (lf_X1_hall hS hx1) (fun q1 q1' hq1 => ?_)
  refine Lf_gXW hS hq1 (fun v2 v2' hv2 => ?_)
  obtain rfl : v2 = v2' := hv2
  refine Lf_gB2 (lf_X2_finish E rfl hS hx2) (fun S4 S4' hS4 v5 v5' hv5 => ?_)
  refine Lf_hB hv5.1 ?_
  exact Lf_some (RP.mk hS4 (RX.r hv5))
def g_X1_reset (E : L3 → Bool) (S : AM) (x1 : Int) (x2 : Int) (x3 : Int) : Option (AM × (Nat ⊕ Int)) :=
  (g_X1_hall S x1).bind fun q1 =>
  hXW S q1 fun v2 =>
  (g_X1_in x3 0 4611686018427387903).bind fun v4 =>
  (g_X1_need v4).bind fun qq => hXW S qq fun _ =>
  gB2 (g_X2_reset E v2 S x2 x3) fun S6 v7 =>
  hB v7 <|
  some (S6, (.inr v7))
set_option maxRecDepth 10000 in
theorem lf_X1_reset (E : L3 → Bool) {S : Mem} {S' : AM} (hS : (RT tC) S S') {x1 : Int32} {x1' : Int} (hx1 : RI x1 x1') {x2 : Int32} {x2' : Int} (hx2 : RI x2 x2') {x3 : Int64} {x3' : Int} (hx3 : RJ x3 x3') : Lf (RP (RT tC) (RX RI)) (f_X1_reset E S x1 x2 x3) (g_X1_reset E S' x1' x2' x3') := by
  unfold f_X1_reset g_X1_reset
  refine Lf_bind (lf_X1_hall hS hx1) (fun q1 q1' hq1 => ?_)
  refine Lf_gXW hS hq1 (fun v2 v2' hv2 => ?_)
  obtain rfl : v2 = v2' := hv2
  refine Lf_gS (lf_X1_in hx3 (RJ.lit 0 (by decide)) (RJ.lit 4611686018427387903 (by decide))) (fun v4 v4' hv4 => ?_)
  refine Lf_gXWp hS (lf_X1_need hv4) (fun un un' hun => ?_)
  obtain rfl : un = un' := hun
  refine Lf_gB2 (lf_X2_reset E rfl hS hx2 hx3) (fun S6 S6' hS6 v7 v7' hv7 => ?_)
  refine Lf_hB hv7.1 ?_
  exact Lf_some (RP.mk hS6 (RX.r hv7))
def g_X1_stop (E : L3 → Bool) (S : AM) (x1 : Int) (x2 : Int) (x3 : Int) : Option (AM × (Nat ⊕ Int)) :=
  (g_X1_hall S x1).bind fun q1 =>
  hXW S q1 fun v2 =>
  (g_X1_in x3 0 4611686018427387903).bind fun v4 =>
  (g_X1_need v4).bind fun qq => hXW S qq fun _ =>
  gB2 (g_X2_stop E v2 S x2 x3) fun S6 v7 =>
  hB v7 <|
  some (S6, (.inr v7))
set_option maxRecDepth 10000 in
theorem lf_X1_stop (E : L3 → Bool) {S : Mem} {S' : AM} (hS : (RT tC) S S') {x1 : Int32} {x1' : Int} (hx1 : RI x1 x1') {x2 : Int32} {x2' : Int} (hx2 : RI x2 x2') {x3 : Int64} {x3' : Int} (hx3 : RJ x3 x3') : Lf (RP (RT tC) (RX RI)) (f_X1_stop E S x1 x2 x3) (g_X1_stop E S' x1' x2' x3') := by
  unfold f_X1_stop g_X1_stop
  refine Lf_bind (lf_X1_hall hS hx1) (fun q1 q1' hq1 => ?_)
  refine Lf_gXW hS hq1 (fun v2 v2' hv2 => ?_)
  obtain rfl : v2 = v2' := hv2
  refine Lf_gS (lf_X1_in hx3 (RJ.lit 0 (by decide)) (RJ.lit 4611686018427387903 (by decide))) (fun v4 v4' hv4 => ?_)
  refine Lf_gXWp hS (lf_X1_need hv4) (fun un un' hun => ?_)
  obtain rfl : un = un' := hun
  refine Lf_gB2 (lf_X2_stop E rfl hS hx2 hx3) (fun S6 S6' hS6 v7 v7' hv7 => ?_)
  refine Lf_hB hv7.1 ?_
  exact Lf_some (RP.mk hS6 (RX.r hv7))
def g_X1_read (E : L3 → Bool) (S : AM) (x1 : Int) (x2 : Int) (x3 : Int) : Option (AM × (Nat ⊕ Int)) :=
  (g_X1_hall S x1).bind fun q1 =>
  hXW S q1 fun v2 =>
  (g_X1_in x3 0 2048).bind fun v4 =>
  (g_X1_need v4).bind fun qq => hXW S qq fun _ =>
  gB2 (g_X2_read E v2 S x2 0 x3) fun S6 v7 =>
  gS (uA S6 C_o 6 (mxZ v7 0)) fun S8 =>
  some (S8, (.inr v7))
set_option maxRecDepth 10000 in
theorem lf_X1_read (E : L3 → Bool) {S : Mem} {S' : AM} (hS : (RT tC) S S') {x1 : Int32} {x1' : Int} (hx1 : RI x1 x1') {x2 : Int32} {x2' : Int} (hx2 : RI x2 x2') {x3 : Int32} {x3' : Int} (hx3 : RI x3 x3') : Lf (RP (RT tC) (RX RI)) (f_X1_read E S x1 x2 x3) (g_X1_read E S' x1' x2' x3') := by
  unfold f_X1_read g_X1_read
  refine Lf_bind (lf_X1_hall hS hx1) (fun q1 q1' hq1 => ?_)
  refine Lf_gXW hS hq1 (fun v2 v2' hv2 => ?_)
  obtain rfl : v2 = v2' := hv2
  refine Lf_gS (lf_X1_in (RJ.mk (E_64 hx3) (R_64 hx3.2)) (RJ.lit 0 (by decide)) (RJ.lit 2048 (by decide))) (fun v4 v4' hv4 => ?_)
  refine Lf_gXWp hS (lf_X1_need hv4) (fun un un' hun => ?_)
  obtain rfl : un = un' := hun
  refine Lf_gB2 (lf_X2_read E rfl hS hx2 (RI.lit 0 (by decide)) hx3) (fun S6 S6' hS6 v7 v7' hv7 => ?_)
  refine Lf_st (RT.siq hS6 rfl rfl (RI.mx hv7 (RI.lit 0 (by decide))) rfl) (fun S8 S8' hS8 => ?_)
  exact Lf_some (RP.mk hS8 (RX.r hv7))
def g_X1_fill_66 (E : L3 → Bool) (S : AM) (x1 : Int) (x2 : Int) (x3 : Nat) (x4 : Int) (y0 : Int) : Option (AM × (Nat ⊕ Int)) :=
  (g_X1_ready y0).bind fun qq => hXW S qq fun _ =>
  gB2 (g_X2_fill E x3 S x2) fun S2 v3 =>
  if v3 ≠ 0 then
    hA x4 64 <|
    gS (uA S2 (L_o (x4 : Int).toNat) 0 1) fun S5 =>
    gS (uA S5 (L_o (x4 : Int).toNat) 1 0) fun S6 =>
    gS (uA S6 (L_o (x4 : Int).toNat) 2 x1) fun S7 =>
    gS (uA S7 (L_o (x4 : Int).toNat) 3 (S7 (H_o x3) 17)) fun S8 =>
    gS (uA S8 (L_o (x4 : Int).toNat) 6 (S8 (H_o x3) 19)) fun S9 =>
    gS (uA S9 (L_o (x4 : Int).toNat) 7 (S9 (H_o x3) 20)) fun S10 =>
    gS (uA S10 (L_o (x4 : Int).toNat) 8 (S10 (H_o x3) 21)) fun S11 =>
    gS (uA S11 (L_o (x4 : Int).toNat) 4 (S11 (H_o x3) 18)) fun S12 =>
    (g_X2_bytes x3 S12).bind fun v13 =>
    gS (uA S12 (L_o (x4 : Int).toNat) 5 v13) fun S14 =>
    hY S14 (H_row x3) 0 1200 (L_row (x4 : Int).toNat) 0 1200 (S14 (H_o x3) 18) fun S15 =>
    some (S15, (.inr x4))
  else
    some (S2, (.inr (-1)))
set_option maxRecDepth 10000 in
theorem lf_X1_fill_66 (E : L3 → Bool) {S : Mem} {S' : AM} (hS : (RT tC) S S') {x1 : Int32} {x1' : Int} (hx1 : RI x1 x1') {x2 : Int32} {x2' : Int} (hx2 : RI x2 x2') {x3 x3' : Nat} (hx3 : x3 = x3') {x4 : Int32} {x4' : Int} (hx4 : RI x4 x4') {y0 : Int32} {y0' : Int} (hy0 : RI y0 y0') : Lf (RP (RT tC) (RX RI)) (f_X1_fill_66 E S x1 x2 x3 x4 y0) (g_X1_fill_66 E S' x1' x2' x3' x4' y0') := by
  subst hx3
  unfold f_X1_fill_66 g_X1_fill_66
  refine Lf_gXWp hS (lf_X1_ready hy0) (fun un un' hun => ?_)
  obtain rfl : un = un' := hun
  refine Lf_gB2 (lf_X2_fill E rfl hS hx2) (fun S2 S2' hS2 v3 v3' hv3 => ?_)
  refine Lf_ite (C_ne hv3 (RI.lit 0 (by decide))) (fun c1 => ?_) (fun c1 => ?_)
  · refine Lf_hA hx4.1 (by decide) (fun b2 => ?_)
    refine Lf_st (RT.siq hS2 (congrArg L_o (tnE hx4.1 b2 (by decide))) rfl (RI.lit 1 (by decide)) rfl) (fun S5 S5' hS5 => ?_)
    refine Lf_st (RT.siq hS5 (congrArg L_o (tnE hx4.1 b2 (by decide))) rfl (RI.lit 0 (by decide)) rfl) (fun S6 S6' hS6 => ?_)
    refine Lf_st (RT.siq hS6 (congrArg L_o (tnE hx4.1 b2 (by decide))) rfl hx1 rfl) (fun S7 S7' hS7 => ?_)
    refine Lf_st (RT.siq hS7 (congrArg L_o (tnE hx4.1 b2 (by decide))) rfl (RI.at hS7 rfl rfl rfl) rfl) (fun S8 S8' hS8 => ?_)
    refine Lf_st (RT.sjq hS8 (congrArg L_o (tnE hx4.1 b2 (by decide))) rfl (RJ.at hS8 rfl rfl rfl) rfl) (fun S9 S9' hS9 => ?_)
    refine Lf_st (RT.sjq hS9 (congrArg L_o (tnE hx4.1 b2 (by decide))) rfl (RJ.at hS9 rfl rfl rfl) rfl) (fun S10 S10' hS10 => ?_)
    refine Lf_st (RT.sjq hS10 (congrArg L_o (tnE hx4.1 b2 (by decide))) rfl (RJ.at hS10 rfl rfl rfl) rfl) (fun S11 S11' hS11 => ?_)
    refine Lf_st (RT.siq hS11 (congrArg L_o (tnE hx4.1 b2 (by decide))) rfl (RI.at hS11 rfl rfl rfl) rfl) (fun S12 S12' hS12 => ?_)
    refine Lf_gS (lf_X2_bytes rfl hS12) (fun v13 v13' hv13 => ?_)
    refine Lf_st (RT.siq hS12 (congrArg L_o (tnE hx4.1 b2 (by decide))) rfl hv13 rfl) (fun S14 S14' hS14 => ?_)
    refine Lf_gYq hS14 rfl (congrArg L_row (tnE hx4.1 b2 (by decide))) (RI.lit 0 (by decide)) (RI.lit 0 (by decide)) (RI.at hS14 rfl rfl rfl) (fun _ => rfl) (fun _ => rfl) (fun S15 S15' hS15 => ?_)
    exact Lf_some (RP.mk hS15 (RX.r hx4))
  · exact Lf_some (RP.mk hS2 (RX.r RI.m1))
def g_X1_fill_65 (E : L3 → Bool) (S : AM) (x1 : Int) (x2 : Int) (x3 : Nat) (x4 : Int) : Option (AM × (Nat ⊕ Int)) :=
  g_X1_fill_66 E S x1 x2 x3 x4 0
set_option maxRecDepth 10000 in
theorem lf_X1_fill_65 (E : L3 → Bool) {S : Mem} {S' : AM} (hS : (RT tC) S S') {x1 : Int32} {x1' : Int} (hx1 : RI x1 x1') {x2 : Int32} {x2' : Int} (hx2 : RI x2 x2') {x3 x3' : Nat} (hx3 : x3 = x3') {x4 : Int32} {x4' : Int} (hx4 : RI x4 x4') : Lf (RP (RT tC) (RX RI)) (f_X1_fill_65 E S x1 x2 x3 x4) (g_X1_fill_65 E S' x1' x2' x3' x4') := by
  subst hx3
  unfold f_X1_fill_65 g_X1_fill_65
  exact lf_X1_fill_66 E hS hx1 hx2 rfl hx4 (RI.lit 0 (by decide))
def g_X1_fill_47 (E : L3 → Bool) (S : AM) (x1 : Int) (x2 : Int) (x3 : Nat) (x4 : Int) : Option (AM × (Nat ⊕ Int)) :=
  if (S C_o 7) = 0 then
    g_X1_fill_65 E S x1 x2 x3 x4
  else
    if 64 ≤ x4 then
      g_X1_fill_65 E S x1 x2 x3 x4
    else
      g_X1_fill_66 E S x1 x2 x3 x4 1
set_option maxRecDepth 10000 in
theorem lf_X1_fill_47 (E : L3 → Bool) {S : Mem} {S' : AM} (hS : (RT tC) S S') {x1 : Int32} {x1' : Int} (hx1 : RI x1 x1') {x2 : Int32} {x2' : Int} (hx2 : RI x2 x2') {x3 x3' : Nat} (hx3 : x3 = x3') {x4 : Int32} {x4' : Int} (hx4 : RI x4 x4') : Lf (RP (RT tC) (RX RI)) (f_X1_fill_47 E S x1 x2 x3 x4) (g_X1_fill_47 E S' x1' x2' x3' x4') := by
  subst hx3
  unfold f_X1_fill_47 g_X1_fill_47
  refine Lf_ite (C_eq (RI.at hS rfl rfl rfl) (RI.lit 0 (by decide))) (fun c1 => ?_) (fun c1 => ?_)
  · exact lf_X1_fill_65 E hS hx1 hx2 rfl hx4
  · refine Lf_ite (C_le (RI.lit 64 (by decide)) hx4) (fun c2 => ?_) (fun c2 => ?_)
    · exact lf_X1_fill_65 E hS hx1 hx2 rfl hx4
    · exact lf_X1_fill_66 E hS hx1 hx2 rfl hx4 (RI.lit 1 (by decide))
def g_X1_fill_21_b (E : L3 → Bool) (k21 : AM → Int → Int → Nat → Int → Option (AM × (Nat ⊕ Int))) (S : AM) (x1 : Int) (x2 : Int) (x3 : Nat) (x4 : Int) : Option (AM × (Nat ⊕ Int)) :=
  if 64 ≤ x4 then
    g_X1_fill_47 E S x1 x2 x3 x4
  else
    hA x4 64 <|
    if (S (L_o (x4 : Int).toNat) 0) = 0 then
      g_X1_fill_47 E S x1 x2 x3 x4
    else
      c32 (x4 + 1) <|
      k21 S x1 x2 x3 (x4 + 1)
set_option maxRecDepth 10000 in
theorem lf_X1_fill_21_b (E : L3 → Bool) {k21 : Mem → Int32 → Int32 → Nat → Int32 → Option (Mem × (Nat ⊕ Int32))} {k21' : AM → Int → Int → Nat → Int → Option (AM × (Nat ⊕ Int))} (hk21 : ∀ {y0 : Mem} {y0' : AM}, (RT tC) y0 y0' → ∀ {y1 : Int32} {y1' : Int}, RI y1 y1' → ∀ {y2 : Int32} {y2' : Int}, RI y2 y2' → ∀ {y3 : Nat} {y3' : Nat}, (y3 = y3') → ∀ {y4 : Int32} {y4' : Int}, RI y4 y4' → Lf (RP (RT tC) (RX RI)) (k21 y0 y1 y2 y3 y4) (k21' y0' y1' y2' y3' y4')) {S : Mem} {S' : AM} (hS : (RT tC) S S') {x1 : Int32} {x1' : Int} (hx1 : RI x1 x1') {x2 : Int32} {x2' : Int} (hx2 : RI x2 x2') {x3 x3' : Nat} (hx3 : x3 = x3') {x4 : Int32} {x4' : Int} (hx4 : RI x4 x4') : Lf (RP (RT tC) (RX RI)) (f_X1_fill_21_b E k21 S x1 x2 x3 x4) (g_X1_fill_21_b E k21' S' x1' x2' x3' x4') := by
  subst hx3
  unfold f_X1_fill_21_b g_X1_fill_21_b
  refine Lf_ite (C_le (RI.lit 64 (by decide)) hx4) (fun c1 => ?_) (fun c1 => ?_)
  · exact lf_X1_fill_47 E hS hx1 hx2 rfl hx4
  · refine Lf_hA hx4.1 (by decide) (fun b2 => ?_)
    refine Lf_ite (C_eq (RI.at hS (congrArg L_o (tnE hx4.1 b2 (by decide))) rfl rfl) (RI.lit 0 (by decide))) (fun c3 => ?_) (fun c3 => ?_)
    · exact lf_X1_fill_47 E hS hx1 hx2 rfl hx4
    · refine Lf_c32 (fun b4 => ?_)
      exact hk21 hS hx1 hx2 rfl (RI.mk (E_add hx4.1 (li32 1)) b4)
def g_X1_fill_21 (E : L3 → Bool) : Nat → AM → Int → Int → Nat → Int → Option (AM × (Nat ⊕ Int))
  | 0, _, _, _, _, _ => none
  | n + 1, S, x1, x2, x3, x4 => g_X1_fill_21_b E (g_X1_fill_21 E n) S x1 x2 x3 x4
set_option maxRecDepth 10000 in
theorem lf_X1_fill_21 (E : L3 → Bool) (n : Nat) : ∀ {S : Mem} {S' : AM}, (RT tC) S S' → ∀ {x1 : Int32} {x1' : Int}, RI x1 x1' → ∀ {x2 : Int32} {x2' : Int}, RI x2 x2' → ∀ {x3 : Nat} {x3' : Nat}, (x3 = x3') → ∀ {x4 : Int32} {x4' : Int}, RI x4 x4' → Lf (RP (RT tC) (RX RI)) (f_X1_fill_21 E n S x1 x2 x3 x4) (g_X1_fill_21 E n S' x1' x2' x3' x4') := by
  induction n with
  | zero => intros; exact Lf_none
  | succ n ih => intro S S' hS x1 x1' hx1 x2 x2' hx2 x3 x3' hx3 x4 x4' hx4; exact lf_X1_fill_21_b E ih hS hx1 hx2 hx3 hx4
def g_X1_fill (E : L3 → Bool) (S : AM) (x1 : Int) (x2 : Int) : Option (AM × (Nat ⊕ Int)) :=
  (g_X1_hall S x1).bind fun q1 =>
  hXW S q1 fun v2 =>
  (g_X1_in x2 1 1200).bind fun v4 =>
  (g_X1_need v4).bind fun qq => hXW S qq fun _ =>
  g_X1_fill_21 E FU S x1 x2 v2 0
set_option maxRecDepth 10000 in
theorem lf_X1_fill (E : L3 → Bool) {S : Mem} {S' : AM} (hS : (RT tC) S S') {x1 : Int32} {x1' : Int} (hx1 : RI x1 x1') {x2 : Int32} {x2' : Int} (hx2 : RI x2 x2') : Lf (RP (RT tC) (RX RI)) (f_X1_fill E S x1 x2) (g_X1_fill E S' x1' x2') := by
  unfold f_X1_fill g_X1_fill
  refine Lf_bind (lf_X1_hall hS hx1) (fun q1 q1' hq1 => ?_)
  refine Lf_gXW hS hq1 (fun v2 v2' hv2 => ?_)
  obtain rfl : v2 = v2' := hv2
  refine Lf_gS (lf_X1_in (RJ.mk (E_64 hx2) (R_64 hx2.2)) (RJ.lit 1 (by decide)) (RJ.lit 1200 (by decide))) (fun v4 v4' hv4 => ?_)
  refine Lf_gXWp hS (lf_X1_need hv4) (fun un un' hun => ?_)
  obtain rfl : un = un' := hun
  exact lf_X1_fill_21 E FU hS hx1 hx2 rfl (RI.lit 0 (by decide))
def g_X1_gone_22 (E : L3 → Bool) (S : AM) (x2 : Int) (x3 : Nat) (y0 : Int) : Option (AM × (Nat ⊕ Unit)) :=
  (g_X1_ready y0).bind fun qq => hXW S qq fun _ =>
  gS (uA S (L_o x3) 0 0) fun S2 =>
  hA (S2 (L_o x3) 2) 2 <|
  (g_X2_gone E ((S2 (L_o x3) 2) : Int).toNat S2 (S2 (L_o x3) 3) (S2 (L_o x3) 6) (S2 (L_o x3) 7) (S2 (L_o x3) 4) (S2 (L_o x3) 8) x2).bind fun S4 =>
  some (S4, (.inr ()))
set_option maxRecDepth 10000 in
theorem lf_X1_gone_22 (E : L3 → Bool) {S : Mem} {S' : AM} (hS : (RT tC) S S') {x2 : Int32} {x2' : Int} (hx2 : RI x2 x2') {x3 x3' : Nat} (hx3 : x3 = x3') {y0 : Int32} {y0' : Int} (hy0 : RI y0 y0') : Lf (RP (RT tC) (RX RQ)) (f_X1_gone_22 E S x2 x3 y0) (g_X1_gone_22 E S' x2' x3' y0') := by
  subst hx3
  unfold f_X1_gone_22 g_X1_gone_22
  refine Lf_gXWp hS (lf_X1_ready hy0) (fun un un' hun => ?_)
  obtain rfl : un = un' := hun
  refine Lf_st (RT.siq hS rfl rfl (RI.lit 0 (by decide)) rfl) (fun S2 S2' hS2 => ?_)
  refine Lf_hA (RI.at hS2 rfl rfl rfl).1 (by decide) (fun b1 => ?_)
  refine Lf_bind (lf_X2_gone E (tnE (RI.at hS2 rfl rfl rfl).1 b1 (by decide)) hS2 (RI.at hS2 rfl rfl rfl) (RJ.at hS2 rfl rfl rfl) (RJ.at hS2 rfl rfl rfl) (RI.at hS2 rfl rfl rfl) (RJ.at hS2 rfl rfl rfl) hx2) (fun S4 S4' hS4 => ?_)
  exact Lf_some (RP.mk hS4 (RX.r (RQ.rfl)))
def g_X1_gone_17 (E : L3 → Bool) (S : AM) (x2 : Int) (x3 : Nat) : Option (AM × (Nat ⊕ Unit)) :=
  g_X1_gone_22 E S x2 x3 1
set_option maxRecDepth 10000 in
theorem lf_X1_gone_17 (E : L3 → Bool) {S : Mem} {S' : AM} (hS : (RT tC) S S') {x2 : Int32} {x2' : Int} (hx2 : RI x2 x2') {x3 x3' : Nat} (hx3 : x3 = x3') : Lf (RP (RT tC) (RX RQ)) (f_X1_gone_17 E S x2 x3) (g_X1_gone_17 E S' x2' x3') := by
  subst hx3
  unfold f_X1_gone_17 g_X1_gone_17
  exact lf_X1_gone_22 E hS hx2 rfl (RI.lit 1 (by decide))
def g_X1_gone (E : L3 → Bool) (S : AM) (x1 : Int) (x2 : Int) : Option (AM × (Nat ⊕ Unit)) :=
  (g_X1_at S x1).bind fun q1 =>
  hXW S q1 fun v2 =>
  if x2 = 0 then
    g_X1_gone_17 E S x2 v2
  else
    if (S (L_o v2) 1) = 0 then
      g_X1_gone_22 E S x2 v2 0
    else
      g_X1_gone_17 E S x2 v2
set_option maxRecDepth 10000 in
theorem lf_X1_gone (E : L3 → Bool) {S : Mem} {S' : AM} (hS : (RT tC) S S') {x1 : Int32} {x1' : Int} (hx1 : RI x1 x1') {x2 : Int32} {x2' : Int} (hx2 : RI x2 x2') : Lf (RP (RT tC) (RX RQ)) (f_X1_gone E S x1 x2) (g_X1_gone E S' x1' x2') := by
  unfold f_X1_gone g_X1_gone
  refine Lf_bind (lf_X1_at hS hx1) (fun q1 q1' hq1 => ?_)
  refine Lf_gXW hS hq1 (fun v2 v2' hv2 => ?_)
  obtain rfl : v2 = v2' := hv2
  refine Lf_ite (C_eq hx2 (RI.lit 0 (by decide))) (fun c1 => ?_) (fun c1 => ?_)
  · exact lf_X1_gone_17 E hS hx2 rfl
  · refine Lf_ite (C_eq (RI.at hS rfl rfl rfl) (RI.lit 0 (by decide))) (fun c2 => ?_) (fun c2 => ?_)
    · exact lf_X1_gone_22 E hS hx2 rfl (RI.lit 0 (by decide))
    · exact lf_X1_gone_17 E hS hx2 rfl
def g_X1_line (S : AM) (x1 : Int) (x2 : Int) : Option (Nat ⊕ Int) :=
  (g_X1_at S x1).bind fun q1 =>
  gX q1 fun v2 =>
  (g_X1_in x2 0 6).bind fun v4 =>
  (g_X1_there v4).bind fun qq => gX qq fun _ =>
  if x2 = 0 then
    some (.inr (S (L_o v2) 2))
  else
    if x2 = 1 then
      some (.inr (S (L_o v2) 3))
    else
      if x2 = 2 then
        some (.inr (S (L_o v2) 6))
      else
        if x2 = 3 then
          some (.inr (S (L_o v2) 7))
        else
          if x2 = 4 then
            some (.inr (S (L_o v2) 8))
          else
            if x2 = 5 then
              some (.inr (S (L_o v2) 4))
            else
              some (.inr (S (L_o v2) 5))
set_option maxRecDepth 10000 in
theorem lf_X1_line {S : Mem} {S' : AM} (hS : (RT tC) S S') {x1 : Int32} {x1' : Int} (hx1 : RI x1 x1') {x2 : Int32} {x2' : Int} (hx2 : RI x2 x2') : Lf (RX RJ) (f_X1_line S x1 x2) (g_X1_line S' x1' x2') := by
  unfold f_X1_line g_X1_line
  refine Lf_bind (lf_X1_at hS hx1) (fun q1 q1' hq1 => ?_)
  refine Lf_gX hq1 (fun v2 v2' hv2 => ?_)
  obtain rfl : v2 = v2' := hv2
  refine Lf_gS (lf_X1_in (RJ.mk (E_64 hx2) (R_64 hx2.2)) (RJ.lit 0 (by decide)) (RJ.lit 6 (by decide))) (fun v4 v4' hv4 => ?_)
  refine Lf_gXp (lf_X1_there hv4) (fun un un' hun => ?_)
  obtain rfl : un = un' := hun
  refine Lf_ite (C_eq hx2 (RI.lit 0 (by decide))) (fun c1 => ?_) (fun c1 => ?_)
  · exact Lf_some (RX.r (RJ.mk (E_64 (RI.at hS rfl rfl rfl)) (R_64 (RI.at hS rfl rfl rfl).2)))
  · refine Lf_ite (C_eq hx2 (RI.lit 1 (by decide))) (fun c2 => ?_) (fun c2 => ?_)
    · exact Lf_some (RX.r (RJ.mk (E_64 (RI.at hS rfl rfl rfl)) (R_64 (RI.at hS rfl rfl rfl).2)))
    · refine Lf_ite (C_eq hx2 (RI.lit 2 (by decide))) (fun c3 => ?_) (fun c3 => ?_)
      · exact Lf_some (RX.r (RJ.at hS rfl rfl rfl))
      · refine Lf_ite (C_eq hx2 (RI.lit 3 (by decide))) (fun c4 => ?_) (fun c4 => ?_)
        · exact Lf_some (RX.r (RJ.at hS rfl rfl rfl))
        · refine Lf_ite (C_eq hx2 (RI.lit 4 (by decide))) (fun c5 => ?_) (fun c5 => ?_)
          · exact Lf_some (RX.r (RJ.at hS rfl rfl rfl))
          · refine Lf_ite (C_eq hx2 (RI.lit 5 (by decide))) (fun c6 => ?_) (fun c6 => ?_)
            · exact Lf_some (RX.r (RJ.mk (E_64 (RI.at hS rfl rfl rfl)) (R_64 (RI.at hS rfl rfl rfl).2)))
            · exact Lf_some (RX.r (RJ.mk (E_64 (RI.at hS rfl rfl rfl)) (R_64 (RI.at hS rfl rfl rfl).2)))
def g_X1_data (S : AM) (x1 : Int) (x2 : Int) : Option (Nat ⊕ Int) :=
  (g_X1_at S x1).bind fun q1 =>
  gX q1 fun v2 =>
  c64 ((S (L_o v2) 4) - 1) <|
  (g_X1_in x2 0 ((S (L_o v2) 4) - 1)).bind fun v4 =>
  (g_X1_there v4).bind fun qq => gX qq fun _ =>
  hA x2 1200 <|
  c32 ((S (L_row v2) (x2 : Int).toNat) % 256) <|
  some (.inr ((S (L_row v2) (x2 : Int).toNat) % 256))
set_option maxRecDepth 10000 in
theorem lf_X1_data {S : Mem} {S' : AM} (hS : (RT tC) S S') {x1 : Int32} {x1' : Int} (hx1 : RI x1 x1') {x2 : Int32} {x2' : Int} (hx2 : RI x2 x2') : Lf (RX RI) (f_X1_data S x1 x2) (g_X1_data S' x1' x2') := by
  unfold f_X1_data g_X1_data
  refine Lf_bind (lf_X1_at hS hx1) (fun q1 q1' hq1 => ?_)
  refine Lf_gX hq1 (fun v2 v2' hv2 => ?_)
  obtain rfl : v2 = v2' := hv2
  refine Lf_c64 (fun b1 => ?_)
  refine Lf_gS (lf_X1_in (RJ.mk (E_64 hx2) (R_64 hx2.2)) (RJ.lit 0 (by decide)) (RJ.mk (F_sub (E_64 (RI.at hS rfl rfl rfl)) (li64 1)) b1)) (fun v4 v4' hv4 => ?_)
  refine Lf_gXp (lf_X1_there hv4) (fun un un' hun => ?_)
  obtain rfl : un = un' := hun
  refine Lf_hA hx2.1 (by decide) (fun b2 => ?_)
  refine Lf_c32 (fun b3 => ?_)
  exact Lf_some (RX.r (RI.mk (E_255 (RI.at hS rfl (tnE hx2.1 b2 (by decide)) rfl).1) b3))
def g_X1_outs_33_b (S : AM) (k33 : Int → Int → Int → Option (Nat ⊕ Int)) (x1 : Int) (x2 : Int) (x4 : Int) : Option (Nat ⊕ Int) :=
  if x4 < 0 then
    some (.inr x2)
  else
    hA (x1 + x4) 2048 <|
    c32 (x4 + (-1)) <|
    k33 x1 (j2 ((j2 x2 <<< (Int32.toInt64 (i2 8) &&& 63)).toInt) ||| j2 (((S C_out ((x1 + x4) : Int).toNat) % 256))).toInt (x4 + (-1))
set_option maxRecDepth 10000 in
theorem lf_X1_outs_33_b {S : Mem} {S' : AM} (hS : (RT tC) S S') {k33 : Int32 → Int64 → Int32 → Option (Nat ⊕ Int64)} {k33' : Int → Int → Int → Option (Nat ⊕ Int)} (hk33 : ∀ {y0 : Int32} {y0' : Int}, RI y0 y0' → ∀ {y1 : Int64} {y1' : Int}, RJ y1 y1' → ∀ {y2 : Int32} {y2' : Int}, RI y2 y2' → Lf (RX RJ) (k33 y0 y1 y2) (k33' y0' y1' y2')) {x1 : Int32} {x1' : Int} (hx1 : RI x1 x1') {x2 : Int64} {x2' : Int} (hx2 : RJ x2 x2') {x4 : Int32} {x4' : Int} (hx4 : RI x4 x4') : Lf (RX RJ) (f_X1_outs_33_b S k33 x1 x2 x4) (g_X1_outs_33_b S' k33' x1' x2' x4') := by
  unfold f_X1_outs_33_b g_X1_outs_33_b
  refine Lf_ite (C_lt hx4 (RI.lit 0 (by decide))) (fun c1 => ?_) (fun c1 => ?_)
  · exact Lf_some (RX.r hx2)
  · refine Lf_hA (E_add hx1.1 hx4.1) (by decide) (fun b2 => ?_)
    refine Lf_c32 (fun b3 => ?_)
    exact hk33 hx1 (RJ.mk (F_or (F_shl hx2.1 (li32 8)) (F_m8 (E_64 (RI.at hS rfl (tnE (E_add hx1.1 hx4.1) b2 (by decide)) rfl)))) (R_self _)) (RI.mk (E_add hx4.1 RI.m1.1) b3)
def g_X1_outs_33 (S : AM) : Nat → Int → Int → Int → Option (Nat ⊕ Int)
  | 0, _, _, _ => none
  | n + 1, x1, x2, x4 => g_X1_outs_33_b S (g_X1_outs_33 S n) x1 x2 x4
set_option maxRecDepth 10000 in
theorem lf_X1_outs_33 {S : Mem} {S' : AM} (hS : (RT tC) S S') (n : Nat) : ∀ {x1 : Int32} {x1' : Int}, RI x1 x1' → ∀ {x2 : Int64} {x2' : Int}, RJ x2 x2' → ∀ {x4 : Int32} {x4' : Int}, RI x4 x4' → Lf (RX RJ) (f_X1_outs_33 S n x1 x2 x4) (g_X1_outs_33 S' n x1' x2' x4') := by
  induction n with
  | zero => intros; exact Lf_none
  | succ n ih => intro x1 x1' hx1 x2 x2' hx2 x4 x4' hx4; exact lf_X1_outs_33_b hS ih hx1 hx2 hx4
def g_X1_outs (S : AM) (x1 : Int) : Option (Nat ⊕ Int) :=
  c64 ((S C_o 6) - 1) <|
  (g_X1_in x1 0 ((S C_o 6) - 1)).bind fun v1 =>
  (g_X1_there v1).bind fun qq => gX qq fun _ =>
  c32 ((S C_o 6) - x1) <|
  c32 ((mnZ ((S C_o 6) - x1) 8) - 1) <|
  g_X1_outs_33 S FU x1 0 ((mnZ ((S C_o 6) - x1) 8) - 1)
set_option maxRecDepth 10000 in
theorem lf_X1_outs {S : Mem} {S' : AM} (hS : (RT tC) S S') {x1 : Int32} {x1' : Int} (hx1 : RI x1 x1') : Lf (RX RJ) (f_X1_outs S x1) (g_X1_outs S' x1') := by
  unfold f_X1_outs g_X1_outs
  refine Lf_c64 (fun b1 => ?_)
  refine Lf_gS (lf_X1_in (RJ.mk (E_64 hx1) (R_64 hx1.2)) (RJ.lit 0 (by decide)) (RJ.mk (F_sub (E_64 (RI.at hS rfl rfl rfl)) (li64 1)) b1)) (fun v1 v1' hv1 => ?_)
  refine Lf_gXp (lf_X1_there hv1) (fun un un' hun => ?_)
  obtain rfl : un = un' := hun
  refine Lf_c32 (fun b2 => ?_)
  refine Lf_c32 (fun b3 => ?_)
  exact lf_X1_outs_33 hS FU hx1 (RJ.lit 0 (by decide)) (RI.mk (E_sub (RI.mn (RI.mk (E_sub (RI.at hS rfl rfl rfl).1 hx1.1) b2) (RI.lit 8 (by decide))).1 (li32 1)) b3)
def g_X1_stream (E : L3 → Bool) (S : AM) (x1 : Int) (x2 : Int) (x3 : Int) : Option (Nat ⊕ Int) :=
  (g_X1_hall S x1).bind fun q1 =>
  gX q1 fun v2 =>
  (g_X1_in x3 0 14).bind fun v4 =>
  (g_X1_need v4).bind fun qq => gX qq fun _ =>
  (g_X2_look E v2 S x2 x3).bind fun v6 =>
  some (.inr v6)
set_option maxRecDepth 10000 in
theorem lf_X1_stream (E : L3 → Bool) {S : Mem} {S' : AM} (hS : (RT tC) S S') {x1 : Int32} {x1' : Int} (hx1 : RI x1 x1') {x2 : Int32} {x2' : Int} (hx2 : RI x2 x2') {x3 : Int32} {x3' : Int} (hx3 : RI x3 x3') : Lf (RX RJ) (f_X1_stream E S x1 x2 x3) (g_X1_stream E S' x1' x2' x3') := by
  unfold f_X1_stream g_X1_stream
  refine Lf_bind (lf_X1_hall hS hx1) (fun q1 q1' hq1 => ?_)
  refine Lf_gX hq1 (fun v2 v2' hv2 => ?_)
  obtain rfl : v2 = v2' := hv2
  refine Lf_gS (lf_X1_in (RJ.mk (E_64 hx3) (R_64 hx3.2)) (RJ.lit 0 (by decide)) (RJ.lit 14 (by decide))) (fun v4 v4' hv4 => ?_)
  refine Lf_gXp (lf_X1_need hv4) (fun un un' hun => ?_)
  obtain rfl : un = un' := hun
  refine Lf_bind (lf_X2_look E rfl hS hx2 hx3) (fun v6 v6' hv6 => ?_)
  exact Lf_some (RX.r hv6)
def g_X1_side (S : AM) (x1 : Int) (x2 : Int) : Option (Nat ⊕ Int) :=
  (g_X1_hall S x1).bind fun q1 =>
  gX q1 fun v2 =>
  (g_X1_in x2 0 13).bind fun v4 =>
  (g_X1_need v4).bind fun qq => gX qq fun _ =>
  (g_X2_look_2 v2 S x2).bind fun v6 =>
  some (.inr v6)
set_option maxRecDepth 10000 in
theorem lf_X1_side {S : Mem} {S' : AM} (hS : (RT tC) S S') {x1 : Int32} {x1' : Int} (hx1 : RI x1 x1') {x2 : Int32} {x2' : Int} (hx2 : RI x2 x2') : Lf (RX RJ) (f_X1_side S x1 x2) (g_X1_side S' x1' x2') := by
  unfold f_X1_side g_X1_side
  refine Lf_bind (lf_X1_hall hS hx1) (fun q1 q1' hq1 => ?_)
  refine Lf_gX hq1 (fun v2 v2' hv2 => ?_)
  obtain rfl : v2 = v2' := hv2
  refine Lf_gS (lf_X1_in (RJ.mk (E_64 hx2) (R_64 hx2.2)) (RJ.lit 0 (by decide)) (RJ.lit 13 (by decide))) (fun v4 v4' hv4 => ?_)
  refine Lf_gXp (lf_X1_need hv4) (fun un un' hun => ?_)
  obtain rfl : un = un' := hun
  refine Lf_bind (lf_X2_look_2 rfl hS hx2) (fun v6 v6' hv6 => ?_)
  exact Lf_some (RX.r hv6)
