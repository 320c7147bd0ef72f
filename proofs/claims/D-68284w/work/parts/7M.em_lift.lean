/-! lifted by lift.py -/
section LFE
variable {α β γ δ : Type} {ρ : α → β → Prop} {σ : γ → δ → Prop} {tj : L3 → Nat → Bool} {S : Mem} {A : AM} {E : L3 → Bool}
theorem Lf_gE {r r' : L3} {k : (L3 → Bool) → Option α} {k' : (L3 → Bool) → Option β} (hr : r = r') (g : ∀ E1, Lf ρ (k E1) (k' E1)) : Lf ρ (gE E r k) (gE E r' k') := by
  subst hr
  exact g _
theorem Lf_gB3 {o : Option ((L3 → Bool) × Mem × γ)} {o' : Option ((L3 → Bool) × AM × δ)} {k : (L3 → Bool) → Mem → γ → Option α} {k' : (L3 → Bool) → AM → δ → Option β} (h : Lf (RP RQ (RP (RT tj) σ)) o o') (g : ∀ E1 u v, RT tj u v → ∀ u2 v2, σ u2 v2 → Lf ρ (k E1 u u2) (k' E1 v v2)) : Lf ρ (gB3 o k) (gB3 o' k') := by
  intro w e
  cases o' with
  | none => cases e
  | some q =>
    obtain ⟨u, e1, e2, e3, e4⟩ := h q rfl
    obtain ⟨E1, u1, u2⟩ := u
    obtain ⟨E2, v1, v2⟩ := q
    obtain rfl : E1 = E2 := e2
    rw [e1]
    exact g E1 u1 v1 e3 u2 v2 e4 w e
theorem Lf_gXE {x : Nat ⊕ γ} {x' : Nat ⊕ δ} {k : γ → Option ((L3 → Bool) × Mem × (Nat ⊕ α))} {k' : δ → Option ((L3 → Bool) × AM × (Nat ⊕ β))} (hS : RT tj S A) (h : RX σ x x') (g : ∀ u v, σ u v → Lf (RP RQ (RP (RT tj) (RX ρ))) (k u) (k' v)) : Lf (RP RQ (RP (RT tj) (RX ρ))) (gXE E S x k) (gXE E A x' k') := by
  cases x with
  | inl c => cases x' with
    | inl d => cases h; exact Lf_some ⟨rfl, hS, (show RX ρ (.inl _) (.inl _) from rfl)⟩
    | inr v => exact absurd h (fun z => z)
  | inr u => cases x' with
    | inl d => exact absurd h (fun z => z)
    | inr v => exact g u v h
theorem Lf_gXEp {x : Nat ⊕ γ} {o' : Option (Nat ⊕ δ)} {k : γ → Option ((L3 → Bool) × Mem × (Nat ⊕ α))} {k' : δ → Option ((L3 → Bool) × AM × (Nat ⊕ β))} (hS : RT tj S A) (h : Lp (RX σ) x o') (g : ∀ u v, σ u v → Lf (RP RQ (RP (RT tj) (RX ρ))) (k u) (k' v)) : Lf (RP RQ (RP (RT tj) (RX ρ))) (gXE E S x k) (o'.bind fun q => gXE E A q k') := by
  intro w e
  cases o' with
  | none => cases e
  | some q => exact Lf_gXE hS (h q rfl) g w e
end LFE
def g_X2_begin_59 (k : Nat) (E : L3 → Bool) (S : AM) (x1 : Int) : Option ((L3 → Bool) × (AM × Unit)) :=
  (g_X2_rule k S x1 0).bind fun v2 =>
  hA v2 6 <|
  hA x1 256 <|
  gS (uA S (R_o k (x1 : Int).toNat) 0 (S (H_grants k) (v2 : Int).toNat)) fun T0 =>
  gS (uA T0 (R_o k (x1 : Int).toNat) 1 0) fun T1 =>
  gS (uA T1 (R_o k (x1 : Int).toNat) 2 0) fun T2 =>
  gS (uA T2 (R_o k (x1 : Int).toNat) 3 0) fun T3 =>
  gS (uA T3 (R_o k (x1 : Int).toNat) 4 0) fun T4 =>
  gS (uA T4 (R_o k (x1 : Int).toNat) 5 (-1)) fun T5 =>
  gS (uA T5 (R_o k (x1 : Int).toNat) 6 (S (H_grants k) (v2 : Int).toNat)) fun T6 =>
  gS (uA T6 (R_o k (x1 : Int).toNat) 7 (-1)) fun T7 =>
  gS (uA T7 (R_o k (x1 : Int).toNat) 8 0) fun T8 =>
  gS (uA T8 (R_o k (x1 : Int).toNat) 9 0) fun T9 =>
  gS (uA T9 (R_o k (x1 : Int).toNat) 10 0) fun T10 =>
  gS (uA T10 (R_o k (x1 : Int).toNat) 11 0) fun T11 =>
  gS (uA T11 (R_o k (x1 : Int).toNat) 12 0) fun T12 =>
  gE E (R_o k (x1 : Int).toNat) fun E1 =>
  some (E1, (T12, ()))
set_option maxRecDepth 10000 in
theorem lf_X2_begin_59 {k k' : Nat} (hk : k = k') (E : L3 → Bool) {S : Mem} {S' : AM} (hS : (RT tC) S S') {x1 : Int32} {x1' : Int} (hx1 : RI x1 x1') : Lf (RP RQ (RP (RT tC) RQ)) (f_X2_begin_59 k E S x1) (g_X2_begin_59 k' E S' x1') := by
  subst hk
  unfold f_X2_begin_59 g_X2_begin_59
  refine Lf_gS (lf_X2_rule rfl hS (RJ.mk (E_64 hx1) (R_64 hx1.2)) (RI.lit 0 (by decide))) (fun v2 v2' hv2 => ?_)
  refine Lf_hA hv2.1 (by decide) (fun b1 => ?_)
  refine Lf_hA hx1.1 (by decide) (fun b2 => ?_)
  refine Lf_st (RT.siq hS (congrArg (R_o k) (tnE hx1.1 b2 (by decide))) rfl (RI.at hS rfl (tnE hv2.1 b1 (by decide)) rfl) rfl) (fun T0 T0' hT0 => ?_)
  refine Lf_st (RT.siq hT0 (congrArg (R_o k) (tnE hx1.1 b2 (by decide))) rfl (RI.lit 0 (by decide)) rfl) (fun T1 T1' hT1 => ?_)
  refine Lf_st (RT.siq hT1 (congrArg (R_o k) (tnE hx1.1 b2 (by decide))) rfl (RI.lit 0 (by decide)) rfl) (fun T2 T2' hT2 => ?_)
  refine Lf_st (RT.siq hT2 (congrArg (R_o k) (tnE hx1.1 b2 (by decide))) rfl (RI.lit 0 (by decide)) rfl) (fun T3 T3' hT3 => ?_)
  refine Lf_st (RT.siq hT3 (congrArg (R_o k) (tnE hx1.1 b2 (by decide))) rfl (RI.lit 0 (by decide)) rfl) (fun T4 T4' hT4 => ?_)
  refine Lf_st (RT.siq hT4 (congrArg (R_o k) (tnE hx1.1 b2 (by decide))) rfl RI.m1 rfl) (fun T5 T5' hT5 => ?_)
  refine Lf_st (RT.siq hT5 (congrArg (R_o k) (tnE hx1.1 b2 (by decide))) rfl (RI.at hS rfl (tnE hv2.1 b1 (by decide)) rfl) rfl) (fun T6 T6' hT6 => ?_)
  refine Lf_st (RT.siq hT6 (congrArg (R_o k) (tnE hx1.1 b2 (by decide))) rfl RI.m1 rfl) (fun T7 T7' hT7 => ?_)
  refine Lf_st (RT.sjq hT7 (congrArg (R_o k) (tnE hx1.1 b2 (by decide))) rfl (RJ.lit 0 (by decide)) rfl) (fun T8 T8' hT8 => ?_)
  refine Lf_st (RT.sjq hT8 (congrArg (R_o k) (tnE hx1.1 b2 (by decide))) rfl (RJ.lit 0 (by decide)) rfl) (fun T9 T9' hT9 => ?_)
  refine Lf_st (RT.siq hT9 (congrArg (R_o k) (tnE hx1.1 b2 (by decide))) rfl (RI.lit 0 (by decide)) rfl) (fun T10 T10' hT10 => ?_)
  refine Lf_st (RT.siq hT10 (congrArg (R_o k) (tnE hx1.1 b2 (by decide))) rfl (RI.lit 0 (by decide)) rfl) (fun T11 T11' hT11 => ?_)
  refine Lf_st (RT.siq hT11 (congrArg (R_o k) (tnE hx1.1 b2 (by decide))) rfl (RI.lit 0 (by decide)) rfl) (fun T12 T12' hT12 => ?_)
  refine Lf_gE (congrArg (R_o k) (tnE hx1.1 b2 (by decide))) (fun E1 => ?_)
  exact Lf_some (RP.mk RQ.rfl (RP.mk hT12 (RQ.rfl)))
def g_X2_begin_42 (k : Nat) (E : L3 → Bool) (S : AM) (x1 : Int) : Option ((L3 → Bool) × (AM × Unit)) :=
  (g_X2_isOneWay x1).bind fun v1 =>
  if v1 = 0 then
    g_X2_begin_59 k E S x1
  else
    (g_X2_isOwn k S x1).bind fun v2 =>
    if v2 ≠ 0 then
      some (E, (S, ()))
    else
      g_X2_begin_59 k E S x1
set_option maxRecDepth 10000 in
theorem lf_X2_begin_42 {k k' : Nat} (hk : k = k') (E : L3 → Bool) {S : Mem} {S' : AM} (hS : (RT tC) S S') {x1 : Int32} {x1' : Int} (hx1 : RI x1 x1') : Lf (RP RQ (RP (RT tC) RQ)) (f_X2_begin_42 k E S x1) (g_X2_begin_42 k' E S' x1') := by
  subst hk
  unfold f_X2_begin_42 g_X2_begin_42
  refine Lf_gS (lf_X2_isOneWay (RJ.mk (E_64 hx1) (R_64 hx1.2))) (fun v1 v1' hv1 => ?_)
  refine Lf_ite (C_eq hv1 (RI.lit 0 (by decide))) (fun c1 => ?_) (fun c1 => ?_)
  · exact lf_X2_begin_59 rfl E hS hx1
  · refine Lf_gS (lf_X2_isOwn rfl hS (RJ.mk (E_64 hx1) (R_64 hx1.2))) (fun v2 v2' hv2 => ?_)
    refine Lf_ite (C_ne hv2 (RI.lit 0 (by decide))) (fun c2 => ?_) (fun c2 => ?_)
    · exact Lf_some (RP.mk RQ.rfl (RP.mk hS (RQ.rfl)))
    · exact lf_X2_begin_59 rfl E hS hx1
def g_X2_begin_17 (k : Nat) (E : L3 → Bool) (S : AM) (x1 : Int) : Option ((L3 → Bool) × (AM × Unit)) :=
  (g_X2_rule k S x1 1).bind fun v2 =>
  hA v2 6 <|
  hA x1 256 <|
  gS (uA S (S_o k (x1 : Int).toNat) 0 0) fun T0 =>
  gS (uA T0 (S_o k (x1 : Int).toNat) 1 0) fun T1 =>
  gS (uA T1 (S_o k (x1 : Int).toNat) 2 0) fun T2 =>
  gS (uA T2 (S_o k (x1 : Int).toNat) 3 0) fun T3 =>
  gS (uA T3 (S_o k (x1 : Int).toNat) 4 (-1)) fun T4 =>
  gS (uA T4 (S_o k (x1 : Int).toNat) 5 (-1)) fun T5 =>
  gS (uA T5 (S_o k (x1 : Int).toNat) 6 (-1)) fun T6 =>
  gS (uA T6 (S_o k (x1 : Int).toNat) 7 (-1)) fun T7 =>
  gS (uA T7 (S_o k (x1 : Int).toNat) 8 (S (H_limits k) (v2 : Int).toNat)) fun T8 =>
  gS (uA T8 (S_o k (x1 : Int).toNat) 9 0) fun T9 =>
  gS (uA T9 (S_o k (x1 : Int).toNat) 10 (-1)) fun T10 =>
  gS (uA T10 (S_o k (x1 : Int).toNat) 11 0) fun T11 =>
  gE E (S_o k (x1 : Int).toNat) fun E1 =>
  g_X2_begin_42 k E1 T11 x1
set_option maxRecDepth 10000 in
theorem lf_X2_begin_17 {k k' : Nat} (hk : k = k') (E : L3 → Bool) {S : Mem} {S' : AM} (hS : (RT tC) S S') {x1 : Int32} {x1' : Int} (hx1 : RI x1 x1') : Lf (RP RQ (RP (RT tC) RQ)) (f_X2_begin_17 k E S x1) (g_X2_begin_17 k' E S' x1') := by
  subst hk
  unfold f_X2_begin_17 g_X2_begin_17
  refine Lf_gS (lf_X2_rule rfl hS (RJ.mk (E_64 hx1) (R_64 hx1.2)) (RI.lit 1 (by decide))) (fun v2 v2' hv2 => ?_)
  refine Lf_hA hv2.1 (by decide) (fun b1 => ?_)
  refine Lf_hA hx1.1 (by decide) (fun b2 => ?_)
  refine Lf_st (RT.siq hS (congrArg (S_o k) (tnE hx1.1 b2 (by decide))) rfl (RI.lit 0 (by decide)) rfl) (fun T0 T0' hT0 => ?_)
  refine Lf_st (RT.siq hT0 (congrArg (S_o k) (tnE hx1.1 b2 (by decide))) rfl (RI.lit 0 (by decide)) rfl) (fun T1 T1' hT1 => ?_)
  refine Lf_st (RT.siq hT1 (congrArg (S_o k) (tnE hx1.1 b2 (by decide))) rfl (RI.lit 0 (by decide)) rfl) (fun T2 T2' hT2 => ?_)
  refine Lf_st (RT.siq hT2 (congrArg (S_o k) (tnE hx1.1 b2 (by decide))) rfl (RI.lit 0 (by decide)) rfl) (fun T3 T3' hT3 => ?_)
  refine Lf_st (RT.siq hT3 (congrArg (S_o k) (tnE hx1.1 b2 (by decide))) rfl RI.m1 rfl) (fun T4 T4' hT4 => ?_)
  refine Lf_st (RT.siq hT4 (congrArg (S_o k) (tnE hx1.1 b2 (by decide))) rfl RI.m1 rfl) (fun T5 T5' hT5 => ?_)
  refine Lf_st (RT.siq hT5 (congrArg (S_o k) (tnE hx1.1 b2 (by decide))) rfl RI.m1 rfl) (fun T6 T6' hT6 => ?_)
  refine Lf_st (RT.siq hT6 (congrArg (S_o k) (tnE hx1.1 b2 (by decide))) rfl RI.m1 rfl) (fun T7 T7' hT7 => ?_)
  refine Lf_st (RT.sjq hT7 (congrArg (S_o k) (tnE hx1.1 b2 (by decide))) rfl (RJ.at hS rfl (tnE hv2.1 b1 (by decide)) rfl) rfl) (fun T8 T8' hT8 => ?_)
  refine Lf_st (RT.sjq hT8 (congrArg (S_o k) (tnE hx1.1 b2 (by decide))) rfl (RJ.lit 0 (by decide)) rfl) (fun T9 T9' hT9 => ?_)
  refine Lf_st (RT.sjq hT9 (congrArg (S_o k) (tnE hx1.1 b2 (by decide))) rfl RJ.m1 rfl) (fun T10 T10' hT10 => ?_)
  refine Lf_st (RT.siq hT10 (congrArg (S_o k) (tnE hx1.1 b2 (by decide))) rfl (RI.lit 0 (by decide)) rfl) (fun T11 T11' hT11 => ?_)
  refine Lf_gE (congrArg (S_o k) (tnE hx1.1 b2 (by decide))) (fun E1 => ?_)
  exact lf_X2_begin_42 rfl E1 hT11 hx1
def g_X2_begin (k : Nat) (E : L3 → Bool) (S : AM) (x1 : Int) : Option ((L3 → Bool) × (AM × Unit)) :=
  (g_X2_isOneWay x1).bind fun v1 =>
  if v1 = 0 then
    g_X2_begin_17 k E S x1
  else
    (g_X2_isOwn k S x1).bind fun v2 =>
    if v2 = 0 then
      g_X2_begin_42 k E S x1
    else
      g_X2_begin_17 k E S x1
set_option maxRecDepth 10000 in
theorem lf_X2_begin {k k' : Nat} (hk : k = k') (E : L3 → Bool) {S : Mem} {S' : AM} (hS : (RT tC) S S') {x1 : Int32} {x1' : Int} (hx1 : RI x1 x1') : Lf (RP RQ (RP (RT tC) RQ)) (f_X2_begin k E S x1) (g_X2_begin k' E S' x1') := by
  subst hk
  unfold f_X2_begin g_X2_begin
  refine Lf_gS (lf_X2_isOneWay (RJ.mk (E_64 hx1) (R_64 hx1.2))) (fun v1 v1' hv1 => ?_)
  refine Lf_ite (C_eq hv1 (RI.lit 0 (by decide))) (fun c1 => ?_) (fun c1 => ?_)
  · exact lf_X2_begin_17 rfl E hS hx1
  · refine Lf_gS (lf_X2_isOwn rfl hS (RJ.mk (E_64 hx1) (R_64 hx1.2))) (fun v2 v2' hv2 => ?_)
    refine Lf_ite (C_eq hv2 (RI.lit 0 (by decide))) (fun c2 => ?_) (fun c2 => ?_)
    · exact lf_X2_begin_42 rfl E hS hx1
    · exact lf_X2_begin_17 rfl E hS hx1
def g_X2_open_75 (k : Nat) (E : L3 → Bool) (S : AM) (x3 : Int) : Option ((L3 → Bool) × (AM × Int)) :=
  some (E, (S, x3))
set_option maxRecDepth 10000 in
theorem lf_X2_open_75 {k k' : Nat} (hk : k = k') (E : L3 → Bool) {S : Mem} {S' : AM} (hS : (RT tC) S S') {x3 : Int32} {x3' : Int} (hx3 : RI x3 x3') : Lf (RP RQ (RP (RT tC) RI)) (f_X2_open_75 k E S x3) (g_X2_open_75 k' E S' x3') := by
  subst hk
  unfold f_X2_open_75 g_X2_open_75
  exact Lf_some (RP.mk RQ.rfl (RP.mk hS hx3))
def g_X2_open_53 (k : Nat) (E : L3 → Bool) (S : AM) (x2 : Nat) (y0 : Int) (y1 : Int) : Option ((L3 → Bool) × (AM × Int)) :=
  c32 ((S (W_o k x2) 0) + 1) <|
  gS (uA S (W_o k x2) 0 ((S (W_o k x2) 0) + 1)) fun S1 =>
  c32 ((y1 + y0) + (S (H_o k) 0)) <|
  gB3 (g_X2_begin k E S1 ((y1 + y0) + (S (H_o k) 0))) fun E3 S2 v4 =>
  g_X2_open_75 k E3 S2 ((y1 + y0) + (S (H_o k) 0))
set_option maxRecDepth 10000 in
theorem lf_X2_open_53 {k k' : Nat} (hk : k = k') (E : L3 → Bool) {S : Mem} {S' : AM} (hS : (RT tC) S S') {x2 x2' : Nat} (hx2 : x2 = x2') {y0 : Int32} {y0' : Int} (hy0 : RI y0 y0') {y1 : Int32} {y1' : Int} (hy1 : RI y1 y1') : Lf (RP RQ (RP (RT tC) RI)) (f_X2_open_53 k E S x2 y0 y1) (g_X2_open_53 k' E S' x2' y0' y1') := by
  subst hk
  subst hx2
  unfold f_X2_open_53 g_X2_open_53
  refine Lf_c32 (fun b1 => ?_)
  refine Lf_st (RT.siq hS rfl rfl (RI.mk (E_add (RI.at hS rfl rfl rfl).1 (li32 1)) b1) rfl) (fun S1 S1' hS1 => ?_)
  refine Lf_c32 (fun b2 => ?_)
  refine Lf_gB3 (lf_X2_begin rfl E hS1 (RI.mk (E_add (E_add hy1.1 hy0.1) (RI.at hS rfl rfl rfl).1) b2)) (fun E3 S2 S2' hS2 v4 v4' hv4 => ?_)
  obtain rfl : v4 = v4' := hv4
  exact lf_X2_open_75 rfl E3 hS2 (RI.mk (E_add (E_add hy1.1 hy0.1) (RI.at hS rfl rfl rfl).1) b2)
def g_X2_open_13 (k : Nat) (E : L3 → Bool) (S : AM) (x1 : Int) (y0 : Int) : Option ((L3 → Bool) × (AM × Int)) :=
  hA y0 2 <|
  if (S (W_o k (y0 : Int).toNat) 0) < (S (W_o k (y0 : Int).toNat) 3) then
    if x1 = 0 then
      c32 (4 * (S (W_o k (y0 : Int).toNat) 0)) <|
      g_X2_open_53 k E S (y0 : Int).toNat 2 (4 * (S (W_o k (y0 : Int).toNat) 0))
    else
      c32 (4 * (S (W_o k (y0 : Int).toNat) 0)) <|
      g_X2_open_53 k E S (y0 : Int).toNat 0 (4 * (S (W_o k (y0 : Int).toNat) 0))
  else
    gS (uA S (W_o k (y0 : Int).toNat) 4 (S (W_o k (y0 : Int).toNat) 3)) fun S2 =>
    some (E, (S2, (-1)))
set_option maxRecDepth 10000 in
theorem lf_X2_open_13 {k k' : Nat} (hk : k = k') (E : L3 → Bool) {S : Mem} {S' : AM} (hS : (RT tC) S S') {x1 : Int32} {x1' : Int} (hx1 : RI x1 x1') {y0 : Int32} {y0' : Int} (hy0 : RI y0 y0') : Lf (RP RQ (RP (RT tC) RI)) (f_X2_open_13 k E S x1 y0) (g_X2_open_13 k' E S' x1' y0') := by
  subst hk
  unfold f_X2_open_13 g_X2_open_13
  refine Lf_hA hy0.1 (by decide) (fun b1 => ?_)
  refine Lf_ite (D_lt (RJ.mk (E_64 (RI.at hS (congrArg (W_o k) (tnE hy0.1 b1 (by decide))) rfl rfl)) (R_64 (RI.at hS (congrArg (W_o k) (tnE hy0.1 b1 (by decide))) rfl rfl).2)) (RJ.at hS (congrArg (W_o k) (tnE hy0.1 b1 (by decide))) rfl rfl)) (fun c2 => ?_) (fun c2 => ?_)
  · refine Lf_ite (C_eq hx1 (RI.lit 0 (by decide))) (fun c3 => ?_) (fun c3 => ?_)
    · refine Lf_c32 (fun b4 => ?_)
      exact lf_X2_open_53 rfl E hS (tnE hy0.1 b1 (by decide)) (RI.lit 2 (by decide)) (RI.mk (E_mul (li32 4) (RI.at hS (congrArg (W_o k) (tnE hy0.1 b1 (by decide))) rfl rfl).1) b4)
    · refine Lf_c32 (fun b5 => ?_)
      exact lf_X2_open_53 rfl E hS (tnE hy0.1 b1 (by decide)) (RI.lit 0 (by decide)) (RI.mk (E_mul (li32 4) (RI.at hS (congrArg (W_o k) (tnE hy0.1 b1 (by decide))) rfl rfl).1) b5)
  · refine Lf_st (RT.sjq hS (congrArg (W_o k) (tnE hy0.1 b1 (by decide))) rfl (RJ.at hS (congrArg (W_o k) (tnE hy0.1 b1 (by decide))) rfl rfl) rfl) (fun S2 S2' hS2 => ?_)
    exact Lf_some (RP.mk RQ.rfl (RP.mk hS2 RI.m1))
def g_X2_open (k : Nat) (E : L3 → Bool) (S : AM) (x1 : Int) : Option ((L3 → Bool) × (AM × Int)) :=
  if x1 = 0 then
    g_X2_open_13 k E S x1 1
  else
    g_X2_open_13 k E S x1 0
set_option maxRecDepth 10000 in
theorem lf_X2_open {k k' : Nat} (hk : k = k') (E : L3 → Bool) {S : Mem} {S' : AM} (hS : (RT tC) S S') {x1 : Int32} {x1' : Int} (hx1 : RI x1 x1') : Lf (RP RQ (RP (RT tC) RI)) (f_X2_open k E S x1) (g_X2_open k' E S' x1') := by
  subst hk
  unfold f_X2_open g_X2_open
  refine Lf_ite (C_eq hx1 (RI.lit 0 (by decide))) (fun c1 => ?_) (fun c1 => ?_)
  · exact lf_X2_open_13 rfl E hS hx1 (RI.lit 1 (by decide))
  · exact lf_X2_open_13 rfl E hS hx1 (RI.lit 0 (by decide))
def g_X2_come_31 (k : Nat) (k7 : (L3 → Bool) → AM → Int → Nat → Option ((L3 → Bool) × (AM × Unit))) (E : L3 → Bool) (S : AM) (x1 : Int) (x2 : Nat) : Option ((L3 → Bool) × (AM × Unit)) :=
  c32 ((S (W_o k x2) 1) + 1) <|
  gS (uA S (W_o k x2) 1 ((S (W_o k x2) 1) + 1)) fun S1 =>
  k7 E S1 x1 x2
set_option maxRecDepth 10000 in
theorem lf_X2_come_31 {k k' : Nat} (hk : k = k') {k7 : (L3 → Bool) → Mem → Int32 → Nat → Option ((L3 → Bool) × (Mem × Unit))} {k7' : (L3 → Bool) → AM → Int → Nat → Option ((L3 → Bool) × (AM × Unit))} (hk7 : ∀ {y0 : L3 → Bool} {y0' : L3 → Bool}, (y0 = y0') → ∀ {y1 : Mem} {y1' : AM}, (RT tC) y1 y1' → ∀ {y2 : Int32} {y2' : Int}, RI y2 y2' → ∀ {y3 : Nat} {y3' : Nat}, (y3 = y3') → Lf (RP RQ (RP (RT tC) RQ)) (k7 y0 y1 y2 y3) (k7' y0' y1' y2' y3')) (E : L3 → Bool) {S : Mem} {S' : AM} (hS : (RT tC) S S') {x1 : Int32} {x1' : Int} (hx1 : RI x1 x1') {x2 x2' : Nat} (hx2 : x2 = x2') : Lf (RP RQ (RP (RT tC) RQ)) (f_X2_come_31 k k7 E S x1 x2) (g_X2_come_31 k' k7' E S' x1' x2') := by
  subst hk
  subst hx2
  unfold f_X2_come_31 g_X2_come_31
  refine Lf_c32 (fun b1 => ?_)
  refine Lf_st (RT.siq hS rfl rfl (RI.mk (E_add (RI.at hS rfl rfl rfl).1 (li32 1)) b1) rfl) (fun S1 S1' hS1 => ?_)
  exact hk7 rfl hS1 hx1 rfl
def g_X2_come_7_b (k : Nat) (k7 : (L3 → Bool) → AM → Int → Nat → Option ((L3 → Bool) × (AM × Unit))) (E : L3 → Bool) (S : AM) (x1 : Int) (x2 : Nat) : Option ((L3 → Bool) × (AM × Unit)) :=
  hA x1 2147483648 <|
  c32 (x1 / 4) <|
  if (x1 / 4) < (S (W_o k x2) 1) then
    some (E, (S, ()))
  else
    c32 ((4 * (S (W_o k x2) 1)) + (x1 - ((x1 / 4) * 4))) <|
    gB3 (g_X2_begin k E S ((4 * (S (W_o k x2) 1)) + (x1 - ((x1 / 4) * 4)))) fun E2 S1 v3 =>
    g_X2_come_31 k k7 E2 S1 x1 x2
set_option maxRecDepth 10000 in
theorem lf_X2_come_7_b {k k' : Nat} (hk : k = k') {k7 : (L3 → Bool) → Mem → Int32 → Nat → Option ((L3 → Bool) × (Mem × Unit))} {k7' : (L3 → Bool) → AM → Int → Nat → Option ((L3 → Bool) × (AM × Unit))} (hk7 : ∀ {y0 : L3 → Bool} {y0' : L3 → Bool}, (y0 = y0') → ∀ {y1 : Mem} {y1' : AM}, (RT tC) y1 y1' → ∀ {y2 : Int32} {y2' : Int}, RI y2 y2' → ∀ {y3 : Nat} {y3' : Nat}, (y3 = y3') → Lf (RP RQ (RP (RT tC) RQ)) (k7 y0 y1 y2 y3) (k7' y0' y1' y2' y3')) (E : L3 → Bool) {S : Mem} {S' : AM} (hS : (RT tC) S S') {x1 : Int32} {x1' : Int} (hx1 : RI x1 x1') {x2 x2' : Nat} (hx2 : x2 = x2') : Lf (RP RQ (RP (RT tC) RQ)) (f_X2_come_7_b k k7 E S x1 x2) (g_X2_come_7_b k' k7' E S' x1' x2') := by
  subst hk
  subst hx2
  unfold f_X2_come_7_b g_X2_come_7_b
  refine Lf_hD (fun b1 => ?_)
  refine Lf_c32 (fun b2 => ?_)
  refine Lf_ite (C_lt (RI.mk (E_div hx1.1 (li32 4) b1 (by decide) (by decide)) b2) (RI.at hS rfl rfl rfl)) (fun c3 => ?_) (fun c3 => ?_)
  · exact Lf_some (RP.mk RQ.rfl (RP.mk hS (RQ.rfl)))
  · refine Lf_c32 (fun b4 => ?_)
    refine Lf_gB3 (lf_X2_begin rfl E hS (RI.mk (E_add (E_mul (li32 4) (RI.at hS rfl rfl rfl).1) (E_sub hx1.1 (E_mul (E_div hx1.1 (li32 4) b1 (by decide) (by decide)) (li32 4)))) b4)) (fun E2 S1 S1' hS1 v3 v3' hv3 => ?_)
    obtain rfl : v3 = v3' := hv3
    exact lf_X2_come_31 rfl hk7 E2 hS1 hx1 rfl
def g_X2_come_7 (k : Nat) : Nat → (L3 → Bool) → AM → Int → Nat → Option ((L3 → Bool) × (AM × Unit))
  | 0, _, _, _, _ => none
  | n + 1, E, S, x1, x2 => g_X2_come_7_b k (g_X2_come_7 k n) E S x1 x2
set_option maxRecDepth 10000 in
theorem lf_X2_come_7 {k k' : Nat} (hk : k = k') (n : Nat) : ∀ {E : L3 → Bool} {E' : L3 → Bool}, (E = E') → ∀ {S : Mem} {S' : AM}, (RT tC) S S' → ∀ {x1 : Int32} {x1' : Int}, RI x1 x1' → ∀ {x2 : Nat} {x2' : Nat}, (x2 = x2') → Lf (RP RQ (RP (RT tC) RQ)) (f_X2_come_7 k n E S x1 x2) (g_X2_come_7 k' n E' S' x1' x2') := by
  subst hk
  induction n with
  | zero => intros; exact Lf_none
  | succ n ih => intro E E' hE S S' hS x1 x1' hx1 x2 x2' hx2; subst hE; exact lf_X2_come_7_b rfl ih E hS hx1 hx2
def g_X2_come (k : Nat) (E : L3 → Bool) (S : AM) (x1 : Int) : Option ((L3 → Bool) × (AM × Unit)) :=
  (g_X2_way k S x1).bind fun v1 =>
  g_X2_come_7 k 65 E S x1 v1
set_option maxRecDepth 10000 in
theorem lf_X2_come {k k' : Nat} (hk : k = k') (E : L3 → Bool) {S : Mem} {S' : AM} (hS : (RT tC) S S') {x1 : Int32} {x1' : Int} (hx1 : RI x1 x1') : Lf (RP RQ (RP (RT tC) RQ)) (f_X2_come k E S x1) (g_X2_come k' E S' x1') := by
  subst hk
  unfold f_X2_come g_X2_come
  refine Lf_bind (lf_X2_way rfl hS (RJ.mk (E_64 hx1) (R_64 hx1.2))) (fun v1 v1' hv1 => ?_)
  obtain rfl : v1 = v1' := hv1
  exact lf_X2_come_7 rfl 65 rfl hS hx1 rfl
def g_X2_take_329 (k : Nat) (E : L3 → Bool) (S : AM) (x12 : Int) (x13 : Int) : Option ((L3 → Bool) × (AM × Int)) :=
  (g_X2_mayBeOver E k S x12 x13).bind fun S1 =>
  some (E, (S1, 0))
set_option maxRecDepth 10000 in
theorem lf_X2_take_329 {k k' : Nat} (hk : k = k') (E : L3 → Bool) {S : Mem} {S' : AM} (hS : (RT tC) S S') {x12 : Int32} {x12' : Int} (hx12 : RI x12 x12') {x13 : Int32} {x13' : Int} (hx13 : RI x13 x13') : Lf (RP RQ (RP (RT tC) RI)) (f_X2_take_329 k E S x12 x13) (g_X2_take_329 k' E S' x12' x13') := by
  subst hk
  unfold f_X2_take_329 g_X2_take_329
  refine Lf_bind (lf_X2_mayBeOver E rfl hS hx12 hx13) (fun S1 S1' hS1 => ?_)
  exact Lf_some (RP.mk RQ.rfl (RP.mk hS1 (RI.lit 0 (by decide))))
def g_X2_take_308 (k : Nat) (E : L3 → Bool) (S : AM) (x1 : Int) (x4 : Int) (x6 : Int) (x12 : Int) (x13 : Int) : Option ((L3 → Bool) × (AM × Int)) :=
  if x1 ≠ 4 then
    g_X2_take_329 k E S x12 x13
  else
    hA x12 256 <|
    if E (R_o k (x12 : Int).toNat) = true then
      c32 x6 <|
      (g_X2_isReset k S (x12 : Int).toNat x4 x6).bind fun S2 =>
      g_X2_take_329 k E S2 x12 x13
    else
      none
set_option maxRecDepth 10000 in
theorem lf_X2_take_308 {k k' : Nat} (hk : k = k') (E : L3 → Bool) {S : Mem} {S' : AM} (hS : (RT tC) S S') {x1 : Int32} {x1' : Int} (hx1 : RI x1 x1') {x4 : Int64} {x4' : Int} (hx4 : RJ x4 x4') {x6 : Int64} {x6' : Int} (hx6 : RJ x6 x6') {x12 : Int32} {x12' : Int} (hx12 : RI x12 x12') {x13 : Int32} {x13' : Int} (hx13 : RI x13 x13') : Lf (RP RQ (RP (RT tC) RI)) (f_X2_take_308 k E S x1 x4 x6 x12 x13) (g_X2_take_308 k' E S' x1' x4' x6' x12' x13') := by
  subst hk
  unfold f_X2_take_308 g_X2_take_308
  refine Lf_ite (C_ne hx1 (RI.lit 4 (by decide))) (fun c1 => ?_) (fun c1 => ?_)
  · exact lf_X2_take_329 rfl E hS hx12 hx13
  · refine Lf_hA hx12.1 (by decide) (fun b2 => ?_)
    refine Lf_ite (iff_of_eq (congrArg (fun q => E q = true) (congrArg (R_o k) (tnE hx12.1 b2 (by decide))))) (fun c3 => ?_) (fun c3 => ?_)
    · refine Lf_c32 (fun b4 => ?_)
      refine Lf_bind (lf_X2_isReset rfl hS (tnE hx12.1 b2 (by decide)) hx4 (RI.mk (F_32 hx6.1) b4)) (fun S2 S2' hS2 => ?_)
      exact lf_X2_take_329 rfl E hS2 hx12 hx13
    · exact Lf_none
def g_X2_take_299 (k : Nat) (E : L3 → Bool) (S : AM) (x1 : Int) (x4 : Int) (x6 : Int) (x8 : L3) (x9 : Int) (x10 : Int) (x12 : Int) (x13 : Int) (y0 : Int) (y1 : Int) (y2 : Option (Nat)) : Option ((L3 → Bool) × (AM × Int)) :=
  gM y2 (
    none) fun js2 =>
    (g_X2_comes k S js2 y1 y0 x8 x9 x10).bind fun S1 =>
    g_X2_take_308 k E S1 x1 x4 x6 x12 x13
set_option maxRecDepth 10000 in
theorem lf_X2_take_299 {k k' : Nat} (hk : k = k') (E : L3 → Bool) {S : Mem} {S' : AM} (hS : (RT tC) S S') {x1 : Int32} {x1' : Int} (hx1 : RI x1 x1') {x4 : Int64} {x4' : Int} (hx4 : RJ x4 x4') {x6 : Int64} {x6' : Int} (hx6 : RJ x6 x6') {x8 x8' : L3} (hx8 : x8 = x8') (qx8 : ∀ f, tC x8 f = false) {x9 : Int32} {x9' : Int} (hx9 : RI x9 x9') {x10 : Int32} {x10' : Int} (hx10 : RI x10 x10') {x12 : Int32} {x12' : Int} (hx12 : RI x12 x12') {x13 : Int32} {x13' : Int} (hx13 : RI x13 x13') {y0 : Int32} {y0' : Int} (hy0 : RI y0 y0') {y1 : Int32} {y1' : Int} (hy1 : RI y1 y1') {y2 y2' : Option (Nat)} (hy2 : y2 = y2') : Lf (RP RQ (RP (RT tC) RI)) (f_X2_take_299 k E S x1 x4 x6 x8 x9 x10 x12 x13 y0 y1 y2) (g_X2_take_299 k' E S' x1' x4' x6' x8' x9' x10' x12' x13' y0' y1' y2') := by
  subst hk
  subst hx8
  subst hy2
  unfold f_X2_take_299 g_X2_take_299
  refine Lf_gM (fun _ => ?_) (fun js2 _ => ?_)
  · exact Lf_none
  · refine Lf_bind (lf_X2_comes rfl hS rfl hy1 hy0 rfl qx8 hx9 hx10) (fun S1 S1' hS1 => ?_)
    exact lf_X2_take_308 rfl E hS1 hx1 hx4 hx6 hx12 hx13
def g_X2_take_270 (k : Nat) (E : L3 → Bool) (S : AM) (x1 : Int) (x4 : Int) (x6 : Int) (x8 : L3) (x9 : Int) (x10 : Int) (x12 : Int) (x13 : Int) : Option ((L3 → Bool) × (AM × Int)) :=
  if x1 ≠ 8 then
    g_X2_take_308 k E S x1 x4 x6 x12 x13
  else
    hA x12 256 <|
    if E (R_o k (x12 : Int).toNat) = true then
      if x6 ≠ 1 then
        c32 x4 <|
        g_X2_take_299 k E S x1 x4 x6 x8 x9 x10 x12 x13 0 x4 (some (x12 : Int).toNat)
      else
        c32 x4 <|
        g_X2_take_299 k E S x1 x4 x6 x8 x9 x10 x12 x13 1 x4 (some (x12 : Int).toNat)
    else
      if x6 ≠ 1 then
        c32 x4 <|
        g_X2_take_299 k E S x1 x4 x6 x8 x9 x10 x12 x13 0 x4 none
      else
        c32 x4 <|
        g_X2_take_299 k E S x1 x4 x6 x8 x9 x10 x12 x13 1 x4 none
set_option maxRecDepth 10000 in
theorem lf_X2_take_270 {k k' : Nat} (hk : k = k') (E : L3 → Bool) {S : Mem} {S' : AM} (hS : (RT tC) S S') {x1 : Int32} {x1' : Int} (hx1 : RI x1 x1') {x4 : Int64} {x4' : Int} (hx4 : RJ x4 x4') {x6 : Int64} {x6' : Int} (hx6 : RJ x6 x6') {x8 x8' : L3} (hx8 : x8 = x8') (qx8 : ∀ f, tC x8 f = false) {x9 : Int32} {x9' : Int} (hx9 : RI x9 x9') {x10 : Int32} {x10' : Int} (hx10 : RI x10 x10') {x12 : Int32} {x12' : Int} (hx12 : RI x12 x12') {x13 : Int32} {x13' : Int} (hx13 : RI x13 x13') : Lf (RP RQ (RP (RT tC) RI)) (f_X2_take_270 k E S x1 x4 x6 x8 x9 x10 x12 x13) (g_X2_take_270 k' E S' x1' x4' x6' x8' x9' x10' x12' x13') := by
  subst hk
  subst hx8
  unfold f_X2_take_270 g_X2_take_270
  refine Lf_ite (C_ne hx1 (RI.lit 8 (by decide))) (fun c1 => ?_) (fun c1 => ?_)
  · exact lf_X2_take_308 rfl E hS hx1 hx4 hx6 hx12 hx13
  · refine Lf_hA hx12.1 (by decide) (fun b2 => ?_)
    refine Lf_ite (iff_of_eq (congrArg (fun q => E q = true) (congrArg (R_o k) (tnE hx12.1 b2 (by decide))))) (fun c3 => ?_) (fun c3 => ?_)
    · refine Lf_ite (D_ne hx6 (RJ.lit 1 (by decide))) (fun c4 => ?_) (fun c4 => ?_)
      · refine Lf_c32 (fun b5 => ?_)
        exact lf_X2_take_299 rfl E hS hx1 hx4 hx6 rfl qx8 hx9 hx10 hx12 hx13 (RI.lit 0 (by decide)) (RI.mk (F_32 hx4.1) b5) (congrArg some (tnE hx12.1 b2 (by decide)))
      · refine Lf_c32 (fun b6 => ?_)
        exact lf_X2_take_299 rfl E hS hx1 hx4 hx6 rfl qx8 hx9 hx10 hx12 hx13 (RI.lit 1 (by decide)) (RI.mk (F_32 hx4.1) b6) (congrArg some (tnE hx12.1 b2 (by decide)))
    · refine Lf_ite (D_ne hx6 (RJ.lit 1 (by decide))) (fun c7 => ?_) (fun c7 => ?_)
      · refine Lf_c32 (fun b8 => ?_)
        exact lf_X2_take_299 rfl E hS hx1 hx4 hx6 rfl qx8 hx9 hx10 hx12 hx13 (RI.lit 0 (by decide)) (RI.mk (F_32 hx4.1) b8) rfl
      · refine Lf_c32 (fun b9 => ?_)
        exact lf_X2_take_299 rfl E hS hx1 hx4 hx6 rfl qx8 hx9 hx10 hx12 hx13 (RI.lit 1 (by decide)) (RI.mk (F_32 hx4.1) b9) rfl
def g_X2_take_240 (k : Nat) (E : L3 → Bool) (S : AM) (x1 : Int) (x4 : Int) (x6 : Int) (x8 : L3) (x9 : Int) (x10 : Int) (x12 : Int) (x13 : Int) : Option ((L3 → Bool) × (AM × Int)) :=
  if x1 ≠ 5 then
    g_X2_take_270 k E S x1 x4 x6 x8 x9 x10 x12 x13
  else
    hA x12 256 <|
    if E (S_o k (x12 : Int).toNat) = true then
      (g_X9_isLive k (x12 : Int).toNat S).bind fun v2 =>
      if v2 = 0 then
        g_X2_take_270 k E S x1 x4 x6 x8 x9 x10 x12 x13
      else
        hA x12 256 <|
        if E (S_o k (x12 : Int).toNat) = true then
          (g_X9_reset k (x12 : Int).toNat S x4).bind fun S4 =>
          g_X2_take_270 k E S4 x1 x4 x6 x8 x9 x10 x12 x13
        else
          none
    else
      none
set_option maxRecDepth 10000 in
theorem lf_X2_take_240 {k k' : Nat} (hk : k = k') (E : L3 → Bool) {S : Mem} {S' : AM} (hS : (RT tC) S S') {x1 : Int32} {x1' : Int} (hx1 : RI x1 x1') {x4 : Int64} {x4' : Int} (hx4 : RJ x4 x4') {x6 : Int64} {x6' : Int} (hx6 : RJ x6 x6') {x8 x8' : L3} (hx8 : x8 = x8') (qx8 : ∀ f, tC x8 f = false) {x9 : Int32} {x9' : Int} (hx9 : RI x9 x9') {x10 : Int32} {x10' : Int} (hx10 : RI x10 x10') {x12 : Int32} {x12' : Int} (hx12 : RI x12 x12') {x13 : Int32} {x13' : Int} (hx13 : RI x13 x13') : Lf (RP RQ (RP (RT tC) RI)) (f_X2_take_240 k E S x1 x4 x6 x8 x9 x10 x12 x13) (g_X2_take_240 k' E S' x1' x4' x6' x8' x9' x10' x12' x13') := by
  subst hk
  subst hx8
  unfold f_X2_take_240 g_X2_take_240
  refine Lf_ite (C_ne hx1 (RI.lit 5 (by decide))) (fun c1 => ?_) (fun c1 => ?_)
  · exact lf_X2_take_270 rfl E hS hx1 hx4 hx6 rfl qx8 hx9 hx10 hx12 hx13
  · refine Lf_hA hx12.1 (by decide) (fun b2 => ?_)
    refine Lf_ite (iff_of_eq (congrArg (fun q => E q = true) (congrArg (S_o k) (tnE hx12.1 b2 (by decide))))) (fun c3 => ?_) (fun c3 => ?_)
    · refine Lf_gS (lf_X9_isLive rfl (tnE hx12.1 b2 (by decide)) hS) (fun v2 v2' hv2 => ?_)
      refine Lf_ite (C_eq hv2 (RI.lit 0 (by decide))) (fun c4 => ?_) (fun c4 => ?_)
      · exact lf_X2_take_270 rfl E hS hx1 hx4 hx6 rfl qx8 hx9 hx10 hx12 hx13
      · refine Lf_hA hx12.1 (by decide) (fun b5 => ?_)
        refine Lf_ite (iff_of_eq (congrArg (fun q => E q = true) (congrArg (S_o k) (tnE hx12.1 b2 (by decide))))) (fun c6 => ?_) (fun c6 => ?_)
        · refine Lf_bind (lf_X9_reset rfl (tnE hx12.1 b2 (by decide)) hS hx4) (fun S4 S4' hS4 => ?_)
          exact lf_X2_take_270 rfl E hS4 hx1 hx4 hx6 rfl qx8 hx9 hx10 hx12 hx13
        · exact Lf_none
    · exact Lf_none
def g_X2_take_201 (k : Nat) (E : L3 → Bool) (S : AM) (x1 : Int) (x4 : Int) (x6 : Int) (x8 : L3) (x9 : Int) (x10 : Int) (x12 : Int) : Option ((L3 → Bool) × (AM × Int)) :=
  (g_X2_isOver E k S x12).bind fun v1 =>
  if x1 ≠ 17 then
    g_X2_take_240 k E S x1 x4 x6 x8 x9 x10 x12 v1
  else
    hA x12 256 <|
    if E (S_o k (x12 : Int).toNat) = true then
      hA x12 256 <|
      if E (S_o k (x12 : Int).toNat) = true then
        gS (uA S (S_o k (x12 : Int).toNat) 8 (mxZ (S (S_o k (x12 : Int).toNat) 8) x4)) fun S4 =>
        g_X2_take_240 k E S4 x1 x4 x6 x8 x9 x10 x12 v1
      else
        none
    else
      hA x12 256 <|
      if E (S_o k (x12 : Int).toNat) = true then
        none
      else
        none
set_option maxRecDepth 10000 in
theorem lf_X2_take_201 {k k' : Nat} (hk : k = k') (E : L3 → Bool) {S : Mem} {S' : AM} (hS : (RT tC) S S') {x1 : Int32} {x1' : Int} (hx1 : RI x1 x1') {x4 : Int64} {x4' : Int} (hx4 : RJ x4 x4') {x6 : Int64} {x6' : Int} (hx6 : RJ x6 x6') {x8 x8' : L3} (hx8 : x8 = x8') (qx8 : ∀ f, tC x8 f = false) {x9 : Int32} {x9' : Int} (hx9 : RI x9 x9') {x10 : Int32} {x10' : Int} (hx10 : RI x10 x10') {x12 : Int32} {x12' : Int} (hx12 : RI x12 x12') : Lf (RP RQ (RP (RT tC) RI)) (f_X2_take_201 k E S x1 x4 x6 x8 x9 x10 x12) (g_X2_take_201 k' E S' x1' x4' x6' x8' x9' x10' x12') := by
  subst hk
  subst hx8
  unfold f_X2_take_201 g_X2_take_201
  refine Lf_bind (lf_X2_isOver E rfl hS hx12) (fun v1 v1' hv1 => ?_)
  refine Lf_ite (C_ne hx1 (RI.lit 17 (by decide))) (fun c1 => ?_) (fun c1 => ?_)
  · exact lf_X2_take_240 rfl E hS hx1 hx4 hx6 rfl qx8 hx9 hx10 hx12 hv1
  · refine Lf_hA hx12.1 (by decide) (fun b2 => ?_)
    refine Lf_ite (iff_of_eq (congrArg (fun q => E q = true) (congrArg (S_o k) (tnE hx12.1 b2 (by decide))))) (fun c3 => ?_) (fun c3 => ?_)
    · refine Lf_hA hx12.1 (by decide) (fun b4 => ?_)
      refine Lf_ite (iff_of_eq (congrArg (fun q => E q = true) (congrArg (S_o k) (tnE hx12.1 b2 (by decide))))) (fun c5 => ?_) (fun c5 => ?_)
      · refine Lf_st (RT.sjq hS (congrArg (S_o k) (tnE hx12.1 b2 (by decide))) rfl (RJ.mx (RJ.at hS (congrArg (S_o k) (tnE hx12.1 b2 (by decide))) rfl rfl) hx4) rfl) (fun S4 S4' hS4 => ?_)
        exact lf_X2_take_240 rfl E hS4 hx1 hx4 hx6 rfl qx8 hx9 hx10 hx12 hv1
      · exact Lf_none
    · refine Lf_hA hx12.1 (by decide) (fun b6 => ?_)
      refine Lf_ite (iff_of_eq (congrArg (fun q => E q = true) (congrArg (S_o k) (tnE hx12.1 b2 (by decide))))) (fun c7 => ?_) (fun c7 => ?_)
      · exact Lf_none
      · exact Lf_none
def g_X2_take_177 (k : Nat) (E : L3 → Bool) (S : AM) (x1 : Int) (x4 : Int) (x6 : Int) (x8 : L3) (x9 : Int) (x10 : Int) (x11 : Int) (x12 : Int) : Option ((L3 → Bool) × (AM × Int)) :=
  if x11 ≤ 0 then
    (g_X2_isOwn k S x12).bind fun v1 =>
    if v1 ≠ 0 then
      g_X2_take_201 k E S x1 x4 x6 x8 x9 x10 x12
    else
      gB3 (g_X2_come k E S x12) fun E3 S2 v4 =>
      g_X2_take_201 k E3 S2 x1 x4 x6 x8 x9 x10 x12
  else
    some (E, (S, x11))
set_option maxRecDepth 10000 in
theorem lf_X2_take_177 {k k' : Nat} (hk : k = k') (E : L3 → Bool) {S : Mem} {S' : AM} (hS : (RT tC) S S') {x1 : Int32} {x1' : Int} (hx1 : RI x1 x1') {x4 : Int64} {x4' : Int} (hx4 : RJ x4 x4') {x6 : Int64} {x6' : Int} (hx6 : RJ x6 x6') {x8 x8' : L3} (hx8 : x8 = x8') (qx8 : ∀ f, tC x8 f = false) {x9 : Int32} {x9' : Int} (hx9 : RI x9 x9') {x10 : Int32} {x10' : Int} (hx10 : RI x10 x10') {x11 : Int32} {x11' : Int} (hx11 : RI x11 x11') {x12 : Int32} {x12' : Int} (hx12 : RI x12 x12') : Lf (RP RQ (RP (RT tC) RI)) (f_X2_take_177 k E S x1 x4 x6 x8 x9 x10 x11 x12) (g_X2_take_177 k' E S' x1' x4' x6' x8' x9' x10' x11' x12') := by
  subst hk
  subst hx8
  unfold f_X2_take_177 g_X2_take_177
  refine Lf_ite (C_le hx11 (RI.lit 0 (by decide))) (fun c1 => ?_) (fun c1 => ?_)
  · refine Lf_gS (lf_X2_isOwn rfl hS (RJ.mk (E_64 hx12) (R_64 hx12.2))) (fun v1 v1' hv1 => ?_)
    refine Lf_ite (C_ne hv1 (RI.lit 0 (by decide))) (fun c2 => ?_) (fun c2 => ?_)
    · exact lf_X2_take_201 rfl E hS hx1 hx4 hx6 rfl qx8 hx9 hx10 hx12
    · refine Lf_gB3 (lf_X2_come rfl E hS hx12) (fun E3 S2 S2' hS2 v4 v4' hv4 => ?_)
      obtain rfl : v4 = v4' := hv4
      exact lf_X2_take_201 rfl E3 hS2 hx1 hx4 hx6 rfl qx8 hx9 hx10 hx12
  · exact Lf_some (RP.mk RQ.rfl (RP.mk hS hx11))
def g_X2_take_161 (k : Nat) (E : L3 → Bool) (S : AM) (x1 : Int) (x4 : Int) (x6 : Int) (x8 : L3) (x9 : Int) (x10 : Int) (x11 : Int) (x12 : Int) : Option ((L3 → Bool) × (AM × Int)) :=
  if x1 ≠ 4 then
    g_X2_take_177 k E S x1 x4 x6 x8 x9 x10 x11 x12
  else
    (g_X2_fits E k S x12 x6 1).bind fun v1 =>
    g_X2_take_177 k E S x1 x4 x6 x8 x9 x10 v1 x12
set_option maxRecDepth 10000 in
theorem lf_X2_take_161 {k k' : Nat} (hk : k = k') (E : L3 → Bool) {S : Mem} {S' : AM} (hS : (RT tC) S S') {x1 : Int32} {x1' : Int} (hx1 : RI x1 x1') {x4 : Int64} {x4' : Int} (hx4 : RJ x4 x4') {x6 : Int64} {x6' : Int} (hx6 : RJ x6 x6') {x8 x8' : L3} (hx8 : x8 = x8') (qx8 : ∀ f, tC x8 f = false) {x9 : Int32} {x9' : Int} (hx9 : RI x9 x9') {x10 : Int32} {x10' : Int} (hx10 : RI x10 x10') {x11 : Int32} {x11' : Int} (hx11 : RI x11 x11') {x12 : Int32} {x12' : Int} (hx12 : RI x12 x12') : Lf (RP RQ (RP (RT tC) RI)) (f_X2_take_161 k E S x1 x4 x6 x8 x9 x10 x11 x12) (g_X2_take_161 k' E S' x1' x4' x6' x8' x9' x10' x11' x12') := by
  subst hk
  subst hx8
  unfold f_X2_take_161 g_X2_take_161
  refine Lf_ite (C_ne hx1 (RI.lit 4 (by decide))) (fun c1 => ?_) (fun c1 => ?_)
  · exact lf_X2_take_177 rfl E hS hx1 hx4 hx6 rfl qx8 hx9 hx10 hx11 hx12
  · refine Lf_bind (lf_X2_fits E rfl hS hx12 hx6 (RI.lit 1 (by decide))) (fun v1 v1' hv1 => ?_)
    exact lf_X2_take_177 rfl E hS hx1 hx4 hx6 rfl qx8 hx9 hx10 hv1 hx12
def g_X2_take_156 (k : Nat) (E : L3 → Bool) (S : AM) (x1 : Int) (x4 : Int) (x6 : Int) (x8 : L3) (x9 : Int) (x10 : Int) (x12 : Int) (y0 : Int) (y1 : Int) (y2 : Int) : Option ((L3 → Bool) × (AM × Int)) :=
  (g_X2_fits E k S y2 y1 y0).bind fun v1 =>
  g_X2_take_161 k E S x1 x4 x6 x8 x9 x10 v1 x12
set_option maxRecDepth 10000 in
theorem lf_X2_take_156 {k k' : Nat} (hk : k = k') (E : L3 → Bool) {S : Mem} {S' : AM} (hS : (RT tC) S S') {x1 : Int32} {x1' : Int} (hx1 : RI x1 x1') {x4 : Int64} {x4' : Int} (hx4 : RJ x4 x4') {x6 : Int64} {x6' : Int} (hx6 : RJ x6 x6') {x8 x8' : L3} (hx8 : x8 = x8') (qx8 : ∀ f, tC x8 f = false) {x9 : Int32} {x9' : Int} (hx9 : RI x9 x9') {x10 : Int32} {x10' : Int} (hx10 : RI x10 x10') {x12 : Int32} {x12' : Int} (hx12 : RI x12 x12') {y0 : Int32} {y0' : Int} (hy0 : RI y0 y0') {y1 : Int64} {y1' : Int} (hy1 : RJ y1 y1') {y2 : Int32} {y2' : Int} (hy2 : RI y2 y2') : Lf (RP RQ (RP (RT tC) RI)) (f_X2_take_156 k E S x1 x4 x6 x8 x9 x10 x12 y0 y1 y2) (g_X2_take_156 k' E S' x1' x4' x6' x8' x9' x10' x12' y0' y1' y2') := by
  subst hk
  subst hx8
  unfold f_X2_take_156 g_X2_take_156
  refine Lf_bind (lf_X2_fits E rfl hS hy2 hy1 hy0) (fun v1 v1' hv1 => ?_)
  exact lf_X2_take_161 rfl E hS hx1 hx4 hx6 rfl qx8 hx9 hx10 hv1 hx12
def g_X2_take_112 (k : Nat) (E : L3 → Bool) (S : AM) (x1 : Int) (x2 : Int) (x4 : Int) (x6 : Int) (x8 : L3) (x9 : Int) (x10 : Int) (y0 : Int) (y1 : Int) : Option ((L3 → Bool) × (AM × Int)) :=
  (g_X2_allowed k S y1 y0).bind fun v1 =>
  if v1 ≤ 0 then
    if x1 ≠ 8 then
      c32 x2 <|
      g_X2_take_161 k E S x1 x4 x6 x8 x9 x10 v1 x2
    else
      if x6 ≠ 1 then
        c32 x2 <|
        c64 (x4 + x10) <|
        g_X2_take_156 k E S x1 x4 x6 x8 x9 x10 x2 0 (x4 + x10) x2
      else
        c32 x2 <|
        c64 (x4 + x10) <|
        g_X2_take_156 k E S x1 x4 x6 x8 x9 x10 x2 1 (x4 + x10) x2
  else
    some (E, (S, v1))
set_option maxRecDepth 10000 in
theorem lf_X2_take_112 {k k' : Nat} (hk : k = k') (E : L3 → Bool) {S : Mem} {S' : AM} (hS : (RT tC) S S') {x1 : Int32} {x1' : Int} (hx1 : RI x1 x1') {x2 : Int64} {x2' : Int} (hx2 : RJ x2 x2') {x4 : Int64} {x4' : Int} (hx4 : RJ x4 x4') {x6 : Int64} {x6' : Int} (hx6 : RJ x6 x6') {x8 x8' : L3} (hx8 : x8 = x8') (qx8 : ∀ f, tC x8 f = false) {x9 : Int32} {x9' : Int} (hx9 : RI x9 x9') {x10 : Int32} {x10' : Int} (hx10 : RI x10 x10') {y0 : Int32} {y0' : Int} (hy0 : RI y0 y0') {y1 : Int64} {y1' : Int} (hy1 : RJ y1 y1') : Lf (RP RQ (RP (RT tC) RI)) (f_X2_take_112 k E S x1 x2 x4 x6 x8 x9 x10 y0 y1) (g_X2_take_112 k' E S' x1' x2' x4' x6' x8' x9' x10' y0' y1') := by
  subst hk
  subst hx8
  unfold f_X2_take_112 g_X2_take_112
  refine Lf_bind (lf_X2_allowed rfl hS hy1 hy0) (fun v1 v1' hv1 => ?_)
  refine Lf_ite (C_le hv1 (RI.lit 0 (by decide))) (fun c1 => ?_) (fun c1 => ?_)
  · refine Lf_ite (C_ne hx1 (RI.lit 8 (by decide))) (fun c2 => ?_) (fun c2 => ?_)
    · refine Lf_c32 (fun b3 => ?_)
      exact lf_X2_take_161 rfl E hS hx1 hx4 hx6 rfl qx8 hx9 hx10 hv1 (RI.mk (F_32 hx2.1) b3)
    · refine Lf_ite (D_ne hx6 (RJ.lit 1 (by decide))) (fun c4 => ?_) (fun c4 => ?_)
      · refine Lf_c32 (fun b5 => ?_)
        refine Lf_c64 (fun b6 => ?_)
        exact lf_X2_take_156 rfl E hS hx1 hx4 hx6 rfl qx8 hx9 hx10 (RI.mk (F_32 hx2.1) b5) (RI.lit 0 (by decide)) (RJ.mk (F_add hx4.1 (E_64 hx10)) b6) (RI.mk (F_32 hx2.1) b5)
      · refine Lf_c32 (fun b7 => ?_)
        refine Lf_c64 (fun b8 => ?_)
        exact lf_X2_take_156 rfl E hS hx1 hx4 hx6 rfl qx8 hx9 hx10 (RI.mk (F_32 hx2.1) b7) (RI.lit 1 (by decide)) (RJ.mk (F_add hx4.1 (E_64 hx10)) b8) (RI.mk (F_32 hx2.1) b7)
  · exact Lf_some (RP.mk RQ.rfl (RP.mk hS hv1))
def g_X2_take_107 (k : Nat) (E : L3 → Bool) (S : AM) (x1 : Int) (x2 : Int) (x4 : Int) (x6 : Int) (x8 : L3) (x9 : Int) (x10 : Int) (y0 : Int) : Option ((L3 → Bool) × (AM × Int)) :=
  g_X2_take_112 k E S x1 x2 x4 x6 x8 x9 x10 1 y0
set_option maxRecDepth 10000 in
theorem lf_X2_take_107 {k k' : Nat} (hk : k = k') (E : L3 → Bool) {S : Mem} {S' : AM} (hS : (RT tC) S S') {x1 : Int32} {x1' : Int} (hx1 : RI x1 x1') {x2 : Int64} {x2' : Int} (hx2 : RJ x2 x2') {x4 : Int64} {x4' : Int} (hx4 : RJ x4 x4') {x6 : Int64} {x6' : Int} (hx6 : RJ x6 x6') {x8 x8' : L3} (hx8 : x8 = x8') (qx8 : ∀ f, tC x8 f = false) {x9 : Int32} {x9' : Int} (hx9 : RI x9 x9') {x10 : Int32} {x10' : Int} (hx10 : RI x10 x10') {y0 : Int64} {y0' : Int} (hy0 : RJ y0 y0') : Lf (RP RQ (RP (RT tC) RI)) (f_X2_take_107 k E S x1 x2 x4 x6 x8 x9 x10 y0) (g_X2_take_107 k' E S' x1' x2' x4' x6' x8' x9' x10' y0') := by
  subst hk
  subst hx8
  unfold f_X2_take_107 g_X2_take_107
  exact lf_X2_take_112 rfl E hS hx1 hx2 hx4 hx6 rfl qx8 hx9 hx10 (RI.lit 1 (by decide)) hy0
def g_X2_take_94 (k : Nat) (E : L3 → Bool) (S : AM) (x1 : Int) (x2 : Int) (x4 : Int) (x6 : Int) (x8 : L3) (x9 : Int) (x10 : Int) : Option ((L3 → Bool) × (AM × Int)) :=
  if x1 = 5 then
    g_X2_take_107 k E S x1 x2 x4 x6 x8 x9 x10 x2
  else
    if x1 ≠ 17 then
      g_X2_take_112 k E S x1 x2 x4 x6 x8 x9 x10 0 x2
    else
      g_X2_take_107 k E S x1 x2 x4 x6 x8 x9 x10 x2
set_option maxRecDepth 10000 in
theorem lf_X2_take_94 {k k' : Nat} (hk : k = k') (E : L3 → Bool) {S : Mem} {S' : AM} (hS : (RT tC) S S') {x1 : Int32} {x1' : Int} (hx1 : RI x1 x1') {x2 : Int64} {x2' : Int} (hx2 : RJ x2 x2') {x4 : Int64} {x4' : Int} (hx4 : RJ x4 x4') {x6 : Int64} {x6' : Int} (hx6 : RJ x6 x6') {x8 x8' : L3} (hx8 : x8 = x8') (qx8 : ∀ f, tC x8 f = false) {x9 : Int32} {x9' : Int} (hx9 : RI x9 x9') {x10 : Int32} {x10' : Int} (hx10 : RI x10 x10') : Lf (RP RQ (RP (RT tC) RI)) (f_X2_take_94 k E S x1 x2 x4 x6 x8 x9 x10) (g_X2_take_94 k' E S' x1' x2' x4' x6' x8' x9' x10') := by
  subst hk
  subst hx8
  unfold f_X2_take_94 g_X2_take_94
  refine Lf_ite (C_eq hx1 (RI.lit 5 (by decide))) (fun c1 => ?_) (fun c1 => ?_)
  · exact lf_X2_take_107 rfl E hS hx1 hx2 hx4 hx6 rfl qx8 hx9 hx10 hx2
  · refine Lf_ite (C_ne hx1 (RI.lit 17 (by decide))) (fun c2 => ?_) (fun c2 => ?_)
    · exact lf_X2_take_112 rfl E hS hx1 hx2 hx4 hx6 rfl qx8 hx9 hx10 (RI.lit 0 (by decide)) hx2
    · exact lf_X2_take_107 rfl E hS hx1 hx2 hx4 hx6 rfl qx8 hx9 hx10 hx2
def g_X2_take_64 (k : Nat) (E : L3 → Bool) (S : AM) (x1 : Int) (x2 : Int) (x4 : Int) (x6 : Int) (x8 : L3) (x9 : Int) (x10 : Int) : Option ((L3 → Bool) × (AM × Int)) :=
  if x1 = 4 then
    g_X2_take_94 k E S x1 x2 x4 x6 x8 x9 x10
  else
    if x1 = 5 then
      g_X2_take_94 k E S x1 x2 x4 x6 x8 x9 x10
    else
      if x1 = 8 then
        g_X2_take_94 k E S x1 x2 x4 x6 x8 x9 x10
      else
        if x1 = 17 then
          g_X2_take_94 k E S x1 x2 x4 x6 x8 x9 x10
        else
          if x1 = 21 then
            g_X2_take_94 k E S x1 x2 x4 x6 x8 x9 x10
          else
            some (E, (S, 0))
set_option maxRecDepth 10000 in
theorem lf_X2_take_64 {k k' : Nat} (hk : k = k') (E : L3 → Bool) {S : Mem} {S' : AM} (hS : (RT tC) S S') {x1 : Int32} {x1' : Int} (hx1 : RI x1 x1') {x2 : Int64} {x2' : Int} (hx2 : RJ x2 x2') {x4 : Int64} {x4' : Int} (hx4 : RJ x4 x4') {x6 : Int64} {x6' : Int} (hx6 : RJ x6 x6') {x8 x8' : L3} (hx8 : x8 = x8') (qx8 : ∀ f, tC x8 f = false) {x9 : Int32} {x9' : Int} (hx9 : RI x9 x9') {x10 : Int32} {x10' : Int} (hx10 : RI x10 x10') : Lf (RP RQ (RP (RT tC) RI)) (f_X2_take_64 k E S x1 x2 x4 x6 x8 x9 x10) (g_X2_take_64 k' E S' x1' x2' x4' x6' x8' x9' x10') := by
  subst hk
  subst hx8
  unfold f_X2_take_64 g_X2_take_64
  refine Lf_ite (C_eq hx1 (RI.lit 4 (by decide))) (fun c1 => ?_) (fun c1 => ?_)
  · exact lf_X2_take_94 rfl E hS hx1 hx2 hx4 hx6 rfl qx8 hx9 hx10
  · refine Lf_ite (C_eq hx1 (RI.lit 5 (by decide))) (fun c2 => ?_) (fun c2 => ?_)
    · exact lf_X2_take_94 rfl E hS hx1 hx2 hx4 hx6 rfl qx8 hx9 hx10
    · refine Lf_ite (C_eq hx1 (RI.lit 8 (by decide))) (fun c3 => ?_) (fun c3 => ?_)
      · exact lf_X2_take_94 rfl E hS hx1 hx2 hx4 hx6 rfl qx8 hx9 hx10
      · refine Lf_ite (C_eq hx1 (RI.lit 17 (by decide))) (fun c4 => ?_) (fun c4 => ?_)
        · exact lf_X2_take_94 rfl E hS hx1 hx2 hx4 hx6 rfl qx8 hx9 hx10
        · refine Lf_ite (C_eq hx1 (RI.lit 21 (by decide))) (fun c5 => ?_) (fun c5 => ?_)
          · exact lf_X2_take_94 rfl E hS hx1 hx2 hx4 hx6 rfl qx8 hx9 hx10
          · exact Lf_some (RP.mk RQ.rfl (RP.mk hS (RI.lit 0 (by decide))))
def g_X2_take_30 (k : Nat) (E : L3 → Bool) (S : AM) (x1 : Int) (x2 : Int) (x4 : Int) (x6 : Int) (x8 : L3) (x9 : Int) (x10 : Int) : Option ((L3 → Bool) × (AM × Int)) :=
  hA (x1 - 18) 2 <|
  hA (x1 - 18) 2 <|
  gS (uA S (W_o k ((x1 - 18) : Int).toNat) 3 (mxZ (S (W_o k ((x1 - 18) : Int).toNat) 3) (mnZ x2 64))) fun S3 =>
  g_X2_take_64 k E S3 x1 x2 x4 x6 x8 x9 x10
set_option maxRecDepth 10000 in
theorem lf_X2_take_30 {k k' : Nat} (hk : k = k') (E : L3 → Bool) {S : Mem} {S' : AM} (hS : (RT tC) S S') {x1 : Int32} {x1' : Int} (hx1 : RI x1 x1') {x2 : Int64} {x2' : Int} (hx2 : RJ x2 x2') {x4 : Int64} {x4' : Int} (hx4 : RJ x4 x4') {x6 : Int64} {x6' : Int} (hx6 : RJ x6 x6') {x8 x8' : L3} (hx8 : x8 = x8') (qx8 : ∀ f, tC x8 f = false) {x9 : Int32} {x9' : Int} (hx9 : RI x9 x9') {x10 : Int32} {x10' : Int} (hx10 : RI x10 x10') : Lf (RP RQ (RP (RT tC) RI)) (f_X2_take_30 k E S x1 x2 x4 x6 x8 x9 x10) (g_X2_take_30 k' E S' x1' x2' x4' x6' x8' x9' x10') := by
  subst hk
  subst hx8
  unfold f_X2_take_30 g_X2_take_30
  refine Lf_hA (E_sub hx1.1 (li32 18)) (by decide) (fun b1 => ?_)
  refine Lf_hA (E_sub hx1.1 (li32 18)) (by decide) (fun b2 => ?_)
  refine Lf_st (RT.sjq hS (congrArg (W_o k) (tnE (E_sub hx1.1 (li32 18)) b1 (by decide))) rfl (RJ.mx (RJ.at hS (congrArg (W_o k) (tnE (E_sub hx1.1 (li32 18)) b1 (by decide))) rfl rfl) (RJ.mn hx2 (RJ.lit 64 (by decide)))) rfl) (fun S3 S3' hS3 => ?_)
  exact lf_X2_take_64 rfl E hS3 hx1 hx2 hx4 hx6 rfl qx8 hx9 hx10
def g_X2_take_18 (k : Nat) (E : L3 → Bool) (S : AM) (x1 : Int) (x2 : Int) (x4 : Int) (x6 : Int) (x8 : L3) (x9 : Int) (x10 : Int) : Option ((L3 → Bool) × (AM × Int)) :=
  if x1 = 18 then
    g_X2_take_30 k E S x1 x2 x4 x6 x8 x9 x10
  else
    if x1 ≠ 19 then
      g_X2_take_64 k E S x1 x2 x4 x6 x8 x9 x10
    else
      g_X2_take_30 k E S x1 x2 x4 x6 x8 x9 x10
set_option maxRecDepth 10000 in
theorem lf_X2_take_18 {k k' : Nat} (hk : k = k') (E : L3 → Bool) {S : Mem} {S' : AM} (hS : (RT tC) S S') {x1 : Int32} {x1' : Int} (hx1 : RI x1 x1') {x2 : Int64} {x2' : Int} (hx2 : RJ x2 x2') {x4 : Int64} {x4' : Int} (hx4 : RJ x4 x4') {x6 : Int64} {x6' : Int} (hx6 : RJ x6 x6') {x8 x8' : L3} (hx8 : x8 = x8') (qx8 : ∀ f, tC x8 f = false) {x9 : Int32} {x9' : Int} (hx9 : RI x9 x9') {x10 : Int32} {x10' : Int} (hx10 : RI x10 x10') : Lf (RP RQ (RP (RT tC) RI)) (f_X2_take_18 k E S x1 x2 x4 x6 x8 x9 x10) (g_X2_take_18 k' E S' x1' x2' x4' x6' x8' x9' x10') := by
  subst hk
  subst hx8
  unfold f_X2_take_18 g_X2_take_18
  refine Lf_ite (C_eq hx1 (RI.lit 18 (by decide))) (fun c1 => ?_) (fun c1 => ?_)
  · exact lf_X2_take_30 rfl E hS hx1 hx2 hx4 hx6 rfl qx8 hx9 hx10
  · refine Lf_ite (C_ne hx1 (RI.lit 19 (by decide))) (fun c2 => ?_) (fun c2 => ?_)
    · exact lf_X2_take_64 rfl E hS hx1 hx2 hx4 hx6 rfl qx8 hx9 hx10
    · exact lf_X2_take_30 rfl E hS hx1 hx2 hx4 hx6 rfl qx8 hx9 hx10
def g_X2_take (k : Nat) (E : L3 → Bool) (S : AM) (x1 : Int) (x2 : Int) (x4 : Int) (x6 : Int) (x8 : L3) (x9 : Int) (x10 : Int) : Option ((L3 → Bool) × (AM × Int)) :=
  if x1 ≠ 16 then
    g_X2_take_18 k E S x1 x2 x4 x6 x8 x9 x10
  else
    gS (uA S (H_o k) 9 (mxZ (S (H_o k) 9) x2)) fun S1 =>
    g_X2_take_18 k E S1 x1 x2 x4 x6 x8 x9 x10
set_option maxRecDepth 10000 in
theorem lf_X2_take {k k' : Nat} (hk : k = k') (E : L3 → Bool) {S : Mem} {S' : AM} (hS : (RT tC) S S') {x1 : Int32} {x1' : Int} (hx1 : RI x1 x1') {x2 : Int64} {x2' : Int} (hx2 : RJ x2 x2') {x4 : Int64} {x4' : Int} (hx4 : RJ x4 x4') {x6 : Int64} {x6' : Int} (hx6 : RJ x6 x6') {x8 x8' : L3} (hx8 : x8 = x8') (qx8 : ∀ f, tC x8 f = false) {x9 : Int32} {x9' : Int} (hx9 : RI x9 x9') {x10 : Int32} {x10' : Int} (hx10 : RI x10 x10') : Lf (RP RQ (RP (RT tC) RI)) (f_X2_take k E S x1 x2 x4 x6 x8 x9 x10) (g_X2_take k' E S' x1' x2' x4' x6' x8' x9' x10') := by
  subst hk
  subst hx8
  unfold f_X2_take g_X2_take
  refine Lf_ite (C_ne hx1 (RI.lit 16 (by decide))) (fun c1 => ?_) (fun c1 => ?_)
  · exact lf_X2_take_18 rfl E hS hx1 hx2 hx4 hx6 rfl qx8 hx9 hx10
  · refine Lf_st (RT.sjq hS rfl rfl (RJ.mx (RJ.at hS rfl rfl rfl) hx2) rfl) (fun S1 S1' hS1 => ?_)
    exact lf_X2_take_18 rfl E hS1 hx1 hx2 hx4 hx6 rfl qx8 hx9 hx10
def g_X1_open_18 (E : L3 → Bool) (S : AM) (y0 : Int) : Option ((L3 → Bool) × (AM × (Nat ⊕ Int))) :=
  some (E, (S, (.inr y0)))
set_option maxRecDepth 10000 in
theorem lf_X1_open_18 (E : L3 → Bool) {S : Mem} {S' : AM} (hS : (RT tC) S S') {y0 : Int32} {y0' : Int} (hy0 : RI y0 y0') : Lf (RP RQ (RP (RT tC) (RX RI))) (f_X1_open_18 E S y0) (g_X1_open_18 E S' y0') := by
  unfold f_X1_open_18 g_X1_open_18
  exact Lf_some (RP.mk RQ.rfl (RP.mk hS (RX.r hy0)))
def g_X1_open (E : L3 → Bool) (S : AM) (x1 : Int) (x2 : Int) : Option ((L3 → Bool) × (AM × (Nat ⊕ Int))) :=
  (g_X1_hall S x1).bind fun q1 =>
  gXE E S q1 fun v2 =>
  (g_X1_ready (S C_o 7)).bind fun qq => gXE E S qq fun _ =>
  gB3 (g_X2_open v2 E S x2) fun E6 S5 v7 =>
  g_X1_open_18 E6 S5 v7
set_option maxRecDepth 10000 in
theorem lf_X1_open (E : L3 → Bool) {S : Mem} {S' : AM} (hS : (RT tC) S S') {x1 : Int32} {x1' : Int} (hx1 : RI x1 x1') {x2 : Int32} {x2' : Int} (hx2 : RI x2 x2') : Lf (RP RQ (RP (RT tC) (RX RI))) (f_X1_open E S x1 x2) (g_X1_open E S' x1' x2') := by
  unfold f_X1_open g_X1_open
  refine Lf_bind (lf_X1_hall hS hx1) (fun q1 q1' hq1 => ?_)
  refine Lf_gXE hS hq1 (fun v2 v2' hv2 => ?_)
  obtain rfl : v2 = v2' := hv2
  refine Lf_gXEp hS (lf_X1_ready (RI.at hS rfl rfl rfl)) (fun un un' hun => ?_)
  obtain rfl : un = un' := hun
  refine Lf_gB3 (lf_X2_open rfl E hS hx2) (fun E6 S5 S5' hS5 v7 v7' hv7 => ?_)
  exact lf_X1_open_18 E6 hS5 hv7
def g_X1_deliver_63 (E : L3 → Bool) (S : AM) (x3 : Int) (y0 : Int) (y1 : Nat) : Option ((L3 → Bool) × (AM × (Nat ⊕ Int))) :=
  hB y0 <|
  gS (uA S (L_o y1) 1 y0) fun S1 =>
  some (E, (S1, (.inr x3)))
set_option maxRecDepth 10000 in
theorem lf_X1_deliver_63 (E : L3 → Bool) {S : Mem} {S' : AM} (hS : (RT tC) S S') {x3 : Int32} {x3' : Int} (hx3 : RI x3 x3') {y0 : Int32} {y0' : Int} (hy0 : RI y0 y0') {y1 y1' : Nat} (hy1 : y1 = y1') : Lf (RP RQ (RP (RT tC) (RX RI))) (f_X1_deliver_63 E S x3 y0 y1) (g_X1_deliver_63 E S' x3' y0' y1') := by
  subst hy1
  unfold f_X1_deliver_63 g_X1_deliver_63
  refine Lf_hB hy0.1 ?_
  refine Lf_st (RT.siq hS rfl rfl hy0 rfl) (fun S1 S1' hS1 => ?_)
  exact Lf_some (RP.mk RQ.rfl (RP.mk hS1 (RX.r hx3)))
def g_X1_deliver_58 (E : L3 → Bool) (S : AM) (x3 : Int) (y0 : Nat) : Option ((L3 → Bool) × (AM × (Nat ⊕ Int))) :=
  g_X1_deliver_63 E S x3 1 y0
set_option maxRecDepth 10000 in
theorem lf_X1_deliver_58 (E : L3 → Bool) {S : Mem} {S' : AM} (hS : (RT tC) S S') {x3 : Int32} {x3' : Int} (hx3 : RI x3 x3') {y0 y0' : Nat} (hy0 : y0 = y0') : Lf (RP RQ (RP (RT tC) (RX RI))) (f_X1_deliver_58 E S x3 y0) (g_X1_deliver_58 E S' x3' y0') := by
  subst hy0
  unfold f_X1_deliver_58 g_X1_deliver_58
  exact lf_X1_deliver_63 E hS hx3 (RI.lit 1 (by decide)) rfl
def g_X1_deliver_45 (E : L3 → Bool) (S : AM) (x2 : Nat) (y0 : Int) : Option ((L3 → Bool) × (AM × (Nat ⊕ Int))) :=
  if (S (L_o x2) 1) ≠ 0 then
    g_X1_deliver_58 E S y0 x2
  else
    if y0 ≠ 0 then
      g_X1_deliver_63 E S y0 0 x2
    else
      g_X1_deliver_58 E S y0 x2
set_option maxRecDepth 10000 in
theorem lf_X1_deliver_45 (E : L3 → Bool) {S : Mem} {S' : AM} (hS : (RT tC) S S') {x2 x2' : Nat} (hx2 : x2 = x2') {y0 : Int32} {y0' : Int} (hy0 : RI y0 y0') : Lf (RP RQ (RP (RT tC) (RX RI))) (f_X1_deliver_45 E S x2 y0) (g_X1_deliver_45 E S' x2' y0') := by
  subst hx2
  unfold f_X1_deliver_45 g_X1_deliver_45
  refine Lf_ite (C_ne (RI.at hS rfl rfl rfl) (RI.lit 0 (by decide))) (fun c1 => ?_) (fun c1 => ?_)
  · exact lf_X1_deliver_58 E hS hy0 rfl
  · refine Lf_ite (C_ne hy0 (RI.lit 0 (by decide))) (fun c2 => ?_) (fun c2 => ?_)
    · exact lf_X1_deliver_63 E hS hy0 (RI.lit 0 (by decide)) rfl
    · exact lf_X1_deliver_58 E hS hy0 rfl
def g_X1_deliver (E : L3 → Bool) (S : AM) (x1 : Int) : Option ((L3 → Bool) × (AM × (Nat ⊕ Int))) :=
  (g_X1_at S x1).bind fun q1 =>
  gXE E S q1 fun v2 =>
  hA (1 - (S (L_o v2) 2)) 2 <|
  gB3 (g_X2_take ((1 - (S (L_o v2) 2)) : Int).toNat E S (S (L_o v2) 3) (S (L_o v2) 6) (S (L_o v2) 7) (S (L_o v2) 8) (L_row v2) 0 (S (L_o v2) 4)) fun E6 S5 v7 =>
  g_X1_deliver_45 E6 S5 v2 v7
set_option maxRecDepth 10000 in
theorem lf_X1_deliver (E : L3 → Bool) {S : Mem} {S' : AM} (hS : (RT tC) S S') {x1 : Int32} {x1' : Int} (hx1 : RI x1 x1') : Lf (RP RQ (RP (RT tC) (RX RI))) (f_X1_deliver E S x1) (g_X1_deliver E S' x1') := by
  unfold f_X1_deliver g_X1_deliver
  refine Lf_bind (lf_X1_at hS hx1) (fun q1 q1' hq1 => ?_)
  refine Lf_gXE hS hq1 (fun v2 v2' hv2 => ?_)
  obtain rfl : v2 = v2' := hv2
  refine Lf_hA (E_sub (li32 1) (RI.at hS rfl rfl rfl).1) (by decide) (fun b1 => ?_)
  refine Lf_gB3 (lf_X2_take (tnE (E_sub (li32 1) (RI.at hS rfl rfl rfl).1) b1 (by decide)) E hS (RI.at hS rfl rfl rfl) (RJ.at hS rfl rfl rfl) (RJ.at hS rfl rfl rfl) (RJ.at hS rfl rfl rfl) rfl (fun _ => rfl) (RI.lit 0 (by decide)) (RI.at hS rfl rfl rfl)) (fun E6 S5 S5' hS5 v7 v7' hv7 => ?_)
  exact lf_X1_deliver_45 E6 hS5 rfl hv7
def g_X1_take_137 (E : L3 → Bool) (S : AM) (y0 : Int) : Option ((L3 → Bool) × (AM × (Nat ⊕ Int))) :=
  gS (uA S C_o 5 0) fun S1 =>
  some (E, (S1, (.inr y0)))
set_option maxRecDepth 10000 in
theorem lf_X1_take_137 (E : L3 → Bool) {S : Mem} {S' : AM} (hS : (RT tC) S S') {y0 : Int32} {y0' : Int} (hy0 : RI y0 y0') : Lf (RP RQ (RP (RT tC) (RX RI))) (f_X1_take_137 E S y0) (g_X1_take_137 E S' y0') := by
  unfold f_X1_take_137 g_X1_take_137
  refine Lf_st (RT.siq hS rfl rfl (RI.lit 0 (by decide)) rfl) (fun S1 S1' hS1 => ?_)
  exact Lf_some (RP.mk RQ.rfl (RP.mk hS1 (RX.r hy0)))
def g_X1_take_107 (E : L3 → Bool) (S : AM) (x2 : Int) (x3 : Int) (x5 : Int) (x7 : Int) (x9 : Nat) (y0 : Int) : Option ((L3 → Bool) × (AM × (Nat ⊕ Int))) :=
  (g_X1_need y0).bind fun qq => gXE E S qq fun _ =>
  (g_X1_ready (S C_o 7)).bind fun qq => gXE E S qq fun _ =>
  gB3 (g_X2_take x9 E S x2 x3 x5 x7 C_tape 0 (S C_o 5)) fun E4 S3 v5 =>
  g_X1_take_137 E4 S3 v5
set_option maxRecDepth 10000 in
theorem lf_X1_take_107 (E : L3 → Bool) {S : Mem} {S' : AM} (hS : (RT tC) S S') {x2 : Int32} {x2' : Int} (hx2 : RI x2 x2') {x3 : Int64} {x3' : Int} (hx3 : RJ x3 x3') {x5 : Int64} {x5' : Int} (hx5 : RJ x5 x5') {x7 : Int64} {x7' : Int} (hx7 : RJ x7 x7') {x9 x9' : Nat} (hx9 : x9 = x9') {y0 : Int32} {y0' : Int} (hy0 : RI y0 y0') : Lf (RP RQ (RP (RT tC) (RX RI))) (f_X1_take_107 E S x2 x3 x5 x7 x9 y0) (g_X1_take_107 E S' x2' x3' x5' x7' x9' y0') := by
  subst hx9
  unfold f_X1_take_107 g_X1_take_107
  refine Lf_gXEp hS (lf_X1_need hy0) (fun un un' hun => ?_)
  obtain rfl : un = un' := hun
  refine Lf_gXEp hS (lf_X1_ready (RI.at hS rfl rfl rfl)) (fun un un' hun => ?_)
  obtain rfl : un = un' := hun
  refine Lf_gB3 (lf_X2_take rfl E hS hx2 hx3 hx5 hx7 rfl (fun _ => rfl) (RI.lit 0 (by decide)) (RI.at hS rfl rfl rfl)) (fun E4 S3 S3' hS3 v5 v5' hv5 => ?_)
  exact lf_X1_take_137 E4 hS3 hv5
def g_X1_take_106 (E : L3 → Bool) (S : AM) (x2 : Int) (x3 : Int) (x5 : Int) (x7 : Int) (x9 : Nat) : Option ((L3 → Bool) × (AM × (Nat ⊕ Int))) :=
  g_X1_take_107 E S x2 x3 x5 x7 x9 0
set_option maxRecDepth 10000 in
theorem lf_X1_take_106 (E : L3 → Bool) {S : Mem} {S' : AM} (hS : (RT tC) S S') {x2 : Int32} {x2' : Int} (hx2 : RI x2 x2') {x3 : Int64} {x3' : Int} (hx3 : RJ x3 x3') {x5 : Int64} {x5' : Int} (hx5 : RJ x5 x5') {x7 : Int64} {x7' : Int} (hx7 : RJ x7 x7') {x9 x9' : Nat} (hx9 : x9 = x9') : Lf (RP RQ (RP (RT tC) (RX RI))) (f_X1_take_106 E S x2 x3 x5 x7 x9) (g_X1_take_106 E S' x2' x3' x5' x7' x9') := by
  subst hx9
  unfold f_X1_take_106 g_X1_take_106
  exact lf_X1_take_107 E hS hx2 hx3 hx5 hx7 rfl (RI.lit 0 (by decide))
def g_X1_take_96 (E : L3 → Bool) (S : AM) (x2 : Int) (x3 : Int) (x5 : Int) (x7 : Int) (x9 : Nat) (y0 : Int) (y1 : Int) (y2 : Int) : Option ((L3 → Bool) × (AM × (Nat ⊕ Int))) :=
  (g_X1_in y2 y1 y0).bind fun v1 =>
  if v1 = 0 then
    g_X1_take_106 E S x2 x3 x5 x7 x9
  else
    g_X1_take_107 E S x2 x3 x5 x7 x9 1
set_option maxRecDepth 10000 in
theorem lf_X1_take_96 (E : L3 → Bool) {S : Mem} {S' : AM} (hS : (RT tC) S S') {x2 : Int32} {x2' : Int} (hx2 : RI x2 x2') {x3 : Int64} {x3' : Int} (hx3 : RJ x3 x3') {x5 : Int64} {x5' : Int} (hx5 : RJ x5 x5') {x7 : Int64} {x7' : Int} (hx7 : RJ x7 x7') {x9 x9' : Nat} (hx9 : x9 = x9') {y0 : Int64} {y0' : Int} (hy0 : RJ y0 y0') {y1 : Int64} {y1' : Int} (hy1 : RJ y1 y1') {y2 : Int64} {y2' : Int} (hy2 : RJ y2 y2') : Lf (RP RQ (RP (RT tC) (RX RI))) (f_X1_take_96 E S x2 x3 x5 x7 x9 y0 y1 y2) (g_X1_take_96 E S' x2' x3' x5' x7' x9' y0' y1' y2') := by
  subst hx9
  unfold f_X1_take_96 g_X1_take_96
  refine Lf_gS (lf_X1_in hy2 hy1 hy0) (fun v1 v1' hv1 => ?_)
  refine Lf_ite (C_eq hv1 (RI.lit 0 (by decide))) (fun c1 => ?_) (fun c1 => ?_)
  · exact lf_X1_take_106 E hS hx2 hx3 hx5 hx7 rfl
  · exact lf_X1_take_107 E hS hx2 hx3 hx5 hx7 rfl (RI.lit 1 (by decide))
def g_X1_take_74 (E : L3 → Bool) (S : AM) (x2 : Int) (x3 : Int) (x5 : Int) (x7 : Int) (x9 : Nat) (y0 : Int) (y1 : Int) (y2 : Int) : Option ((L3 → Bool) × (AM × (Nat ⊕ Int))) :=
  (g_X1_in y2 y1 y0).bind fun v1 =>
  if v1 = 0 then
    g_X1_take_106 E S x2 x3 x5 x7 x9
  else
    if x2 ≠ 8 then
      g_X1_take_96 E S x2 x3 x5 x7 x9 4611686018427387903 0 x7
    else
      g_X1_take_96 E S x2 x3 x5 x7 x9 1 0 x7
set_option maxRecDepth 10000 in
theorem lf_X1_take_74 (E : L3 → Bool) {S : Mem} {S' : AM} (hS : (RT tC) S S') {x2 : Int32} {x2' : Int} (hx2 : RI x2 x2') {x3 : Int64} {x3' : Int} (hx3 : RJ x3 x3') {x5 : Int64} {x5' : Int} (hx5 : RJ x5 x5') {x7 : Int64} {x7' : Int} (hx7 : RJ x7 x7') {x9 x9' : Nat} (hx9 : x9 = x9') {y0 : Int64} {y0' : Int} (hy0 : RJ y0 y0') {y1 : Int64} {y1' : Int} (hy1 : RJ y1 y1') {y2 : Int64} {y2' : Int} (hy2 : RJ y2 y2') : Lf (RP RQ (RP (RT tC) (RX RI))) (f_X1_take_74 E S x2 x3 x5 x7 x9 y0 y1 y2) (g_X1_take_74 E S' x2' x3' x5' x7' x9' y0' y1' y2') := by
  subst hx9
  unfold f_X1_take_74 g_X1_take_74
  refine Lf_gS (lf_X1_in hy2 hy1 hy0) (fun v1 v1' hv1 => ?_)
  refine Lf_ite (C_eq hv1 (RI.lit 0 (by decide))) (fun c1 => ?_) (fun c1 => ?_)
  · exact lf_X1_take_106 E hS hx2 hx3 hx5 hx7 rfl
  · refine Lf_ite (C_ne hx2 (RI.lit 8 (by decide))) (fun c2 => ?_) (fun c2 => ?_)
    · exact lf_X1_take_96 E hS hx2 hx3 hx5 hx7 rfl (RJ.lit 4611686018427387903 (by decide)) (RJ.lit 0 (by decide)) hx7
    · exact lf_X1_take_96 E hS hx2 hx3 hx5 hx7 rfl (RJ.lit 1 (by decide)) (RJ.lit 0 (by decide)) hx7
def g_X1_take_42 (E : L3 → Bool) (S : AM) (x2 : Int) (x3 : Int) (x5 : Int) (x7 : Int) (x9 : Nat) (y0 : Int) : Option ((L3 → Bool) × (AM × (Nat ⊕ Int))) :=
  (g_X1_need y0).bind fun qq => gXE E S qq fun _ =>
  (g_X1_in x3 0 4611686018427387903).bind fun v2 =>
  if v2 = 0 then
    g_X1_take_106 E S x2 x3 x5 x7 x9
  else
    if x2 ≠ 8 then
      g_X1_take_74 E S x2 x3 x5 x7 x9 4611686018427387903 0 x5
    else
      g_X1_take_74 E S x2 x3 x5 x7 x9 4611686018427380000 0 x5
set_option maxRecDepth 10000 in
theorem lf_X1_take_42 (E : L3 → Bool) {S : Mem} {S' : AM} (hS : (RT tC) S S') {x2 : Int32} {x2' : Int} (hx2 : RI x2 x2') {x3 : Int64} {x3' : Int} (hx3 : RJ x3 x3') {x5 : Int64} {x5' : Int} (hx5 : RJ x5 x5') {x7 : Int64} {x7' : Int} (hx7 : RJ x7 x7') {x9 x9' : Nat} (hx9 : x9 = x9') {y0 : Int32} {y0' : Int} (hy0 : RI y0 y0') : Lf (RP RQ (RP (RT tC) (RX RI))) (f_X1_take_42 E S x2 x3 x5 x7 x9 y0) (g_X1_take_42 E S' x2' x3' x5' x7' x9' y0') := by
  subst hx9
  unfold f_X1_take_42 g_X1_take_42
  refine Lf_gXEp hS (lf_X1_need hy0) (fun un un' hun => ?_)
  obtain rfl : un = un' := hun
  refine Lf_gS (lf_X1_in hx3 (RJ.lit 0 (by decide)) (RJ.lit 4611686018427387903 (by decide))) (fun v2 v2' hv2 => ?_)
  refine Lf_ite (C_eq hv2 (RI.lit 0 (by decide))) (fun c1 => ?_) (fun c1 => ?_)
  · exact lf_X1_take_106 E hS hx2 hx3 hx5 hx7 rfl
  · refine Lf_ite (C_ne hx2 (RI.lit 8 (by decide))) (fun c2 => ?_) (fun c2 => ?_)
    · exact lf_X1_take_74 E hS hx2 hx3 hx5 hx7 rfl (RJ.lit 4611686018427387903 (by decide)) (RJ.lit 0 (by decide)) hx5
    · exact lf_X1_take_74 E hS hx2 hx3 hx5 hx7 rfl (RJ.lit 4611686018427380000 (by decide)) (RJ.lit 0 (by decide)) hx5
def g_X1_take_37 (E : L3 → Bool) (S : AM) (x2 : Int) (x3 : Int) (x5 : Int) (x7 : Int) (x9 : Nat) : Option ((L3 → Bool) × (AM × (Nat ⊕ Int))) :=
  g_X1_take_42 E S x2 x3 x5 x7 x9 1
set_option maxRecDepth 10000 in
theorem lf_X1_take_37 (E : L3 → Bool) {S : Mem} {S' : AM} (hS : (RT tC) S S') {x2 : Int32} {x2' : Int} (hx2 : RI x2 x2') {x3 : Int64} {x3' : Int} (hx3 : RJ x3 x3') {x5 : Int64} {x5' : Int} (hx5 : RJ x5 x5') {x7 : Int64} {x7' : Int} (hx7 : RJ x7 x7') {x9 x9' : Nat} (hx9 : x9 = x9') : Lf (RP RQ (RP (RT tC) (RX RI))) (f_X1_take_37 E S x2 x3 x5 x7 x9) (g_X1_take_37 E S' x2' x3' x5' x7' x9') := by
  subst hx9
  unfold f_X1_take_37 g_X1_take_37
  exact lf_X1_take_42 E hS hx2 hx3 hx5 hx7 rfl (RI.lit 1 (by decide))
def g_X1_take (E : L3 → Bool) (S : AM) (x1 : Int) (x2 : Int) (x3 : Int) (x5 : Int) (x7 : Int) : Option ((L3 → Bool) × (AM × (Nat ⊕ Int))) :=
  (g_X1_hall S x1).bind fun q1 =>
  gXE E S q1 fun v2 =>
  if x2 = 4 then
    g_X1_take_37 E S x2 x3 x5 x7 v2
  else
    if x2 = 5 then
      g_X1_take_37 E S x2 x3 x5 x7 v2
    else
      if x2 = 8 then
        g_X1_take_37 E S x2 x3 x5 x7 v2
      else
        (g_X1_in x2 16 23).bind fun v4 =>
        if v4 = 0 then
          g_X1_take_42 E S x2 x3 x5 x7 v2 0
        else
          g_X1_take_37 E S x2 x3 x5 x7 v2
set_option maxRecDepth 10000 in
theorem lf_X1_take (E : L3 → Bool) {S : Mem} {S' : AM} (hS : (RT tC) S S') {x1 : Int32} {x1' : Int} (hx1 : RI x1 x1') {x2 : Int32} {x2' : Int} (hx2 : RI x2 x2') {x3 : Int64} {x3' : Int} (hx3 : RJ x3 x3') {x5 : Int64} {x5' : Int} (hx5 : RJ x5 x5') {x7 : Int64} {x7' : Int} (hx7 : RJ x7 x7') : Lf (RP RQ (RP (RT tC) (RX RI))) (f_X1_take E S x1 x2 x3 x5 x7) (g_X1_take E S' x1' x2' x3' x5' x7') := by
  unfold f_X1_take g_X1_take
  refine Lf_bind (lf_X1_hall hS hx1) (fun q1 q1' hq1 => ?_)
  refine Lf_gXE hS hq1 (fun v2 v2' hv2 => ?_)
  obtain rfl : v2 = v2' := hv2
  refine Lf_ite (C_eq hx2 (RI.lit 4 (by decide))) (fun c1 => ?_) (fun c1 => ?_)
  · exact lf_X1_take_37 E hS hx2 hx3 hx5 hx7 rfl
  · refine Lf_ite (C_eq hx2 (RI.lit 5 (by decide))) (fun c2 => ?_) (fun c2 => ?_)
    · exact lf_X1_take_37 E hS hx2 hx3 hx5 hx7 rfl
    · refine Lf_ite (C_eq hx2 (RI.lit 8 (by decide))) (fun c3 => ?_) (fun c3 => ?_)
      · exact lf_X1_take_37 E hS hx2 hx3 hx5 hx7 rfl
      · refine Lf_gS (lf_X1_in (RJ.mk (E_64 hx2) (R_64 hx2.2)) (RJ.lit 16 (by decide)) (RJ.lit 23 (by decide))) (fun v4 v4' hv4 => ?_)
        refine Lf_ite (C_eq hv4 (RI.lit 0 (by decide))) (fun c4 => ?_) (fun c4 => ?_)
        · exact lf_X1_take_42 E hS hx2 hx3 hx5 hx7 rfl (RI.lit 0 (by decide))
        · exact lf_X1_take_37 E hS hx2 hx3 hx5 hx7 rfl
