/-! PLAIN LAW: memories of whole numbers; a function on ints is lifted to one on whole numbers, that has no answer where a number leaves its range -/
abbrev AM : Type := L3 → Nat → Int
def uA (A : AM) (r : L3) (f : Nat) (v : Int) : AM := fun r' f' => if r' = r ∧ f' = f then v else A r' f'
theorem uA_self (A : AM) (r : L3) (f : Nat) (v : Int) : uA A r f v r f = v := if_pos ⟨rfl, rfl⟩
theorem uA_role (A : AM) {r r' : L3} (f f' : Nat) (v : Int) (h : r' ≠ r) : uA A r f v r' f' = A r' f' := if_neg (fun q => h q.1)
theorem uA_idx (A : AM) (r r' : L3) {f f' : Nat} (v : Int) (h : f' ≠ f) : uA A r f v r' f' = A r' f' := if_neg (fun q => h q.2)
/-- the cells that hold longs: the twin's, the component's -/
def tM (r : L3) (f : Nat) : Bool := [8, 12, 15, 19, 24, 25, 26, 27, 28, 30, 31, 35, 54, 55, 56].contains r.1 || (r.1 == 0 && (f == 46 || f == 47 || f == 48))
def tC (r : L3) (f : Nat) : Bool := r.1 == 12 || r.1 == 24 || (r.1 == 7 && (f == 9 || f == 10 || f == 19 || f == 20 || f == 21)) || (r.1 == 28 && (f == 3 || f == 4 || f == 5)) || (r.1 == 29 && (f == 8 || f == 9 || f == 10)) || (r.1 == 30 && (f == 8 || f == 9)) || (r.1 == 31 && (f == 6 || f == 7 || f == 8))
def r32 (z : Int) : Prop := -2147483648 ≤ z ∧ z < 2147483648
def r64 (z : Int) : Prop := -9223372036854775808 ≤ z ∧ z < 9223372036854775808
def RI (v : Int32) (z : Int) : Prop := v = i2 z ∧ r32 z
def RJ (v : Int64) (z : Int) : Prop := v = j2 z ∧ r64 z
def RQ {α : Type} (a b : α) : Prop := a = b
def RP {α α' β β' : Type} (ρ : α → α' → Prop) (σ : β → β' → Prop) (a : α × β) (b : α' × β') : Prop := ρ a.1 b.1 ∧ σ a.2 b.2
def RX {α α' : Type} (ρ : α → α' → Prop) (a : Nat ⊕ α) (b : Nat ⊕ α') : Prop := match a, b with
  | .inl c, .inl d => c = d
  | .inr u, .inr v => ρ u v
  | _, _ => False
def RT (tj : L3 → Nat → Bool) (S : Mem) (A : AM) : Prop :=
  (∀ r f, tj r f = false → RI (S.1 r f) (A r f)) ∧ (∀ r f, tj r f = true → RJ (S.2 r f) (A r f))
def Lf {α β : Type} (ρ : α → β → Prop) (o : Option α) (o' : Option β) : Prop := ∀ v, o' = some v → ∃ u, o = some u ∧ ρ u v
def Lp {α β : Type} (ρ : α → β → Prop) (o : α) (o' : Option β) : Prop := ∀ v, o' = some v → ρ o v
/-! guards -/
def c32 {α : Type} (z : Int) (k : Option α) : Option α := if -2147483648 ≤ z ∧ z < 2147483648 then k else none
def c64 {α : Type} (z : Int) (k : Option α) : Option α := if -9223372036854775808 ≤ z ∧ z < 9223372036854775808 then k else none
def hA {α : Type} (z : Int) (n : Nat) (k : Option α) : Option α := if 0 ≤ z ∧ z < n then k else none
def hB {α : Type} (z : Int) (k : Option α) : Option α := if z = 0 ∨ z = 1 then k else none
def hY8 {α : Type} (z : Int) (k : Option α) : Option α := if -128 ≤ z ∧ z < 128 then k else none
def hXW {α β : Type} (A : AM) (x : Nat ⊕ α) (k : α → Option (AM × (Nat ⊕ β))) : Option (AM × (Nat ⊕ β)) := match x with
  | .inl c => some (A, .inl c)
  | .inr v => k v
def cpA (A : AM) (src dst : L3) (sp dp n : Nat) : AM := fun r f => if r = dst then va_cpy (A src) (A dst) sp dp n f else A r f
def hY {α : Type} (A : AM) (src : L3) (sp : Int) (ns : Nat) (dst : L3) (dp : Int) (nd : Nat) (n : Int) (F : AM → Option α) : Option α :=
  if 0 ≤ sp ∧ 0 ≤ dp ∧ 0 ≤ n ∧ sp + n ≤ ns ∧ dp + n ≤ nd ∧ ((List.range n.toNat).all fun i => decide (-128 ≤ A src (sp.toNat + i) ∧ A src (sp.toNat + i) < 128)) = true then F (cpA A src dst sp.toNat dp.toNat n.toNat) else none
def s16 (z : Int) : Int := (z + 32768) % 65536 - 32768
section LFS
variable {α β γ δ : Type} {ρ : α → β → Prop} {σ : γ → δ → Prop} {tj : L3 → Nat → Bool} {S : Mem} {A : AM}
theorem Lf_none {o : Option α} : Lf ρ o none := fun v h => by cases h
theorem Lf_some {a : α} {b : β} (h : ρ a b) : Lf ρ (some a) (some b) := fun v e => ⟨a, rfl, by cases e; exact h⟩
theorem Lp_val {a : α} {b : β} (h : ρ a b) : Lp ρ a (some b) := fun v e => by cases e; exact h
theorem Lf_ite {C C' : Prop} [Decidable C] [Decidable C'] {a b : Option α} {a' b' : Option β} (h : C ↔ C') (h1 : C' → Lf ρ a a') (h2 : ¬ C' → Lf ρ b b') : Lf ρ (if C then a else b) (if C' then a' else b') := by
  by_cases g : C'
  · rw [if_pos g, if_pos (h.mpr g)]; exact h1 g
  · rw [if_neg g, if_neg (fun q => g (h.mp q))]; exact h2 g
theorem Lp_ite {C C' : Prop} [Decidable C] [Decidable C'] {a b : α} {a' b' : Option β} (h : C ↔ C') (h1 : C' → Lp ρ a a') (h2 : ¬ C' → Lp ρ b b') : Lp ρ (if C then a else b) (if C' then a' else b') := by
  by_cases g : C'
  · rw [if_pos g, if_pos (h.mpr g)]; exact h1 g
  · rw [if_neg g, if_neg (fun q => g (h.mp q))]; exact h2 g
theorem Lf_c32 {z : Int} {o : Option α} {o' : Option β} (h : r32 z → Lf ρ o o') : Lf ρ o (c32 z o') := by
  unfold c32
  by_cases g : -2147483648 ≤ z ∧ z < 2147483648
  · rw [if_pos g]; exact h g
  · rw [if_neg g]; exact Lf_none
theorem Lf_c64 {z : Int} {o : Option α} {o' : Option β} (h : r64 z → Lf ρ o o') : Lf ρ o (c64 z o') := by
  unfold c64
  by_cases g : -9223372036854775808 ≤ z ∧ z < 9223372036854775808
  · rw [if_pos g]; exact h g
  · rw [if_neg g]; exact Lf_none
theorem Lp_c32 {z : Int} {o : α} {o' : Option β} (h : r32 z → Lp ρ o o') : Lp ρ o (c32 z o') := by
  unfold c32
  by_cases g : -2147483648 ≤ z ∧ z < 2147483648
  · rw [if_pos g]; exact h g
  · rw [if_neg g]; exact fun v e => by cases e
theorem Lp_c64 {z : Int} {o : α} {o' : Option β} (h : r64 z → Lp ρ o o') : Lp ρ o (c64 z o') := by
  unfold c64
  by_cases g : -9223372036854775808 ≤ z ∧ z < 9223372036854775808
  · rw [if_pos g]; exact h g
  · rw [if_neg g]; exact fun v e => by cases e
theorem Lf_hA {x : Int32} {z : Int} {n : Nat} {o : Option α} {o' : Option β} (hx : x = i2 z) (hn : n < 2147483648) (h : 0 ≤ z ∧ z < n → Lf ρ o o') : Lf ρ (gA x n o) (hA z n o') := by
  unfold hA
  by_cases g : 0 ≤ z ∧ z < n
  · rw [if_pos g, hx, gA_ok g.1 g.2 hn]; exact h g
  · rw [if_neg g]; exact Lf_none
theorem Lp_hD {z : Int} {n : Nat} {o : α} {o' : Option β} (h : 0 ≤ z ∧ z < n → Lp ρ o o') : Lp ρ o (hA z n o') := by
  unfold hA
  by_cases g : 0 ≤ z ∧ z < n
  · rw [if_pos g]; exact h g
  · rw [if_neg g]; exact fun v e => by cases e
theorem Lf_hD {z : Int} {n : Nat} {o : Option α} {o' : Option β} (h : 0 ≤ z ∧ z < n → Lf ρ o o') : Lf ρ o (hA z n o') := by
  unfold hA
  by_cases g : 0 ≤ z ∧ z < n
  · rw [if_pos g]; exact h g
  · rw [if_neg g]; exact Lf_none
theorem Lf_hB {x : Int32} {z : Int} {o : Option α} {o' : Option β} (hx : x = i2 z) (h : Lf ρ o o') : Lf ρ (gN .boolean x o) (hB z o') := by
  unfold hB
  by_cases g : z = 0 ∨ z = 1
  · rw [if_pos g, hx, gN_bool g]; exact h
  · rw [if_neg g]; exact Lf_none
theorem Lf_hY8 {x : Int32} {z : Int} {o : Option α} {o' : Option β} (hx : x = i2 z) (h : Lf ρ o o') : Lf ρ (gN .byte x o) (hY8 z o') := by
  unfold hY8
  by_cases g : -128 ≤ z ∧ z < 128
  · rw [if_pos g, hx, gN_ok (by rw [nar_b8 (by omega) (by omega), show b8 z = z by unfold b8; omega])]; exact h
  · rw [if_neg g]; exact Lf_none
theorem Lf_bind {o : Option γ} {o' : Option δ} {k : γ → Option α} {k' : δ → Option β} (h : Lf σ o o') (g : ∀ u v, σ u v → Lf ρ (k u) (k' v)) : Lf ρ (o.bind k) (o'.bind k') := by
  intro w e
  cases o' with
  | none => cases e
  | some v =>
    obtain ⟨u, rfl, h2⟩ := h v rfl
    exact g u v h2 w e
theorem Lf_gS {x : γ} {o' : Option δ} {k : γ → Option α} {k' : δ → Option β} (h : Lp σ x o') (g : ∀ u v, σ u v → Lf ρ (k u) (k' v)) : Lf ρ (gS x k) (o'.bind k') := by
  intro w e
  cases o' with
  | none => cases e
  | some v => exact g x v (h v rfl) w e
theorem Lp_gS {x : γ} {o' : Option δ} {k : γ → α} {k' : δ → Option β} (h : Lp σ x o') (g : ∀ u v, σ u v → Lp ρ (k u) (k' v)) : Lp ρ (gS x k) (o'.bind k') := by
  intro w e
  cases o' with
  | none => cases e
  | some v => exact g x v (h v rfl) w e
theorem Lf_st {S1 : Mem} {A1 : AM} {k : Mem → Option α} {k' : AM → Option β} (h : RT tj S1 A1) (g : ∀ u v, RT tj u v → Lf ρ (k u) (k' v)) : Lf ρ (gS S1 k) (gS A1 k') := g S1 A1 h
theorem Lp_st {S1 : Mem} {A1 : AM} {k : Mem → α} {k' : AM → Option β} (h : RT tj S1 A1) (g : ∀ u v, RT tj u v → Lp ρ (k u) (k' v)) : Lp ρ (gS S1 k) (gS A1 k') := g S1 A1 h
variable {ε ζ : Type} {τ : ε → ζ → Prop}
theorem Lf_gB2 {o : Option (γ × ε)} {o' : Option (δ × ζ)} {k : γ → ε → Option α} {k' : δ → ζ → Option β} (h : Lf (RP σ τ) o o') (g : ∀ u v, σ u v → ∀ u2 v2, τ u2 v2 → Lf ρ (k u u2) (k' v v2)) : Lf ρ (gB2 o k) (gB2 o' k') := by
  intro w e
  cases o' with
  | none => cases e
  | some v =>
    obtain ⟨u, rfl, h2⟩ := h v rfl
    exact g u.1 v.1 h2.1 u.2 v.2 h2.2 w e
theorem Lf_gS2 {x : γ × ε} {o' : Option (δ × ζ)} {k : γ → ε → Option α} {k' : δ → ζ → Option β} (h : Lp (RP σ τ) x o') (g : ∀ u v, σ u v → ∀ u2 v2, τ u2 v2 → Lf ρ (k u u2) (k' v v2)) : Lf ρ (gS2 x k) (gB2 o' k') := by
  intro w e
  cases o' with
  | none => cases e
  | some v =>
    have h2 := h v rfl
    exact g x.1 v.1 h2.1 x.2 v.2 h2.2 w e
theorem Lf_gM {o : Option Nat} {a : Option α} {b : Nat → Option α} {a' : Option β} {b' : Nat → Option β} (h1 : o = .none → Lf ρ a a') (h2 : ∀ j, o = .some j → Lf ρ (b j) (b' j)) : Lf ρ (gM o a b) (gM o a' b') := by
  cases o with
  | none => exact h1 rfl
  | some j => exact h2 j rfl
theorem Lp_gM {o : Option Nat} {a : α} {b : Nat → α} {a' : Option β} {b' : Nat → Option β} (h1 : o = .none → Lp ρ a a') (h2 : ∀ j, o = .some j → Lp ρ (b j) (b' j)) : Lp ρ (gM o a b) (gM o a' b') := by
  cases o with
  | none => exact h1 rfl
  | some j => exact h2 j rfl
theorem Lf_gX {x : Nat ⊕ γ} {x' : Nat ⊕ δ} {k : γ → Option (Nat ⊕ α)} {k' : δ → Option (Nat ⊕ β)} (h : RX σ x x') (g : ∀ u v, σ u v → Lf (RX ρ) (k u) (k' v)) : Lf (RX ρ) (gX x k) (gX x' k') := by
  cases x with
  | inl c => cases x' with
    | inl d => cases h; exact Lf_some (show RX ρ (.inl _) (.inl _) from rfl)
    | inr v => cases h
  | inr u => cases x' with
    | inl d => cases h
    | inr v => exact g u v h
theorem Lf_gXW {x : Nat ⊕ γ} {x' : Nat ⊕ δ} {k : γ → Option (Mem × (Nat ⊕ α))} {k' : δ → Option (AM × (Nat ⊕ β))} (hS : RT tj S A) (h : RX σ x x') (g : ∀ u v, σ u v → Lf (RP (RT tj) (RX ρ)) (k u) (k' v)) : Lf (RP (RT tj) (RX ρ)) (gXW S x k) (hXW A x' k') := by
  cases x with
  | inl c => cases x' with
    | inl d => cases h; exact Lf_some ⟨hS, (show RX ρ (.inl _) (.inl _) from rfl)⟩
    | inr v => cases h
  | inr u => cases x' with
    | inl d => cases h
    | inr v => exact g u v h
end LFS
section RTS
variable {tj : L3 → Nat → Bool} {S : Mem} {A : AM}
theorem RT.si (h : RT tj S A) {r : L3} {f : Nat} {x : Int32} {v : Int} (hv : RI x v) (q : tj r f = false) : RT tj (sI S r f x) (uA A r f v) := by
  refine ⟨fun r' f' g => ?_, fun r' f' g => ?_⟩
  · rw [sI_1]
    unfold uA
    by_cases e : r' = r ∧ f' = f
    · rw [if_pos e, if_pos e]; exact hv
    · rw [if_neg e, if_neg e]; exact h.1 r' f' g
  · rw [sI_2]
    unfold uA
    rw [if_neg (fun e => by rw [e.1, e.2, q] at g; cases g)]
    exact h.2 r' f' g
theorem RT.sj (h : RT tj S A) {r : L3} {f : Nat} {x : Int64} {v : Int} (hv : RJ x v) (q : tj r f = true) : RT tj (sJ S r f x) (uA A r f v) := by
  refine ⟨fun r' f' g => ?_, fun r' f' g => ?_⟩
  · rw [sJ_1]
    unfold uA
    rw [if_neg (fun e => by rw [e.1, e.2, q] at g; cases g)]
    exact h.1 r' f' g
  · rw [sJ_2]
    unfold uA
    by_cases e : r' = r ∧ f' = f
    · rw [if_pos e, if_pos e]; exact hv
    · rw [if_neg e, if_neg e]; exact h.2 r' f' g
theorem RT.cp (h : RT tj S A) {src dst : L3} (hs : ∀ f, tj src f = false) (hd : ∀ f, tj dst f = false) (sp dp n : Nat) : RT tj (cpI S src dst sp dp n) (cpA A src dst sp dp n) := by
  refine ⟨fun r' f' g => ?_, fun r' f' g => ?_⟩
  · show RI (if r' = dst then va_cpy (S.1 src) (S.1 dst) sp dp n f' else S.1 r' f') (if r' = dst then va_cpy (A src) (A dst) sp dp n f' else A r' f')
    by_cases e : r' = dst
    · rw [if_pos e, if_pos e]
      by_cases q : dp ≤ f' ∧ f' < dp + n
      · rw [pk_cpy_in q.1 q.2, pk_cpy_in q.1 q.2]; exact h.1 _ _ (hs _)
      · rw [pk_cpy_out (by omega), pk_cpy_out (by omega)]; exact h.1 _ _ (hd _)
    · rw [if_neg e, if_neg e]; exact h.1 r' f' g
  · show RJ (S.2 r' f') (if r' = dst then va_cpy (A src) (A dst) sp dp n f' else A r' f')
    rw [if_neg (fun e => by rw [e, hd] at g; cases g)]
    exact h.2 r' f' g
theorem Lf_gY {α β : Type} {ρ : α → β → Prop} (h : RT tj S A) {src dst : L3} {x1 x2 x3 : Int32} {z1 z2 z3 : Int} {ns nd : Nat} (h1 : RI x1 z1) (h2 : RI x2 z2) (h3 : RI x3 z3) (hs : ∀ f, tj src f = false) (hd : ∀ f, tj dst f = false) {k : Mem → Option α} {k' : AM → Option β} (g : ∀ u v, RT tj u v → Lf ρ (k u) (k' v)) : Lf ρ (gY S src x1 ns dst x2 nd x3 k) (hY A src z1 ns dst z2 nd z3 k') := by
  unfold hY
  by_cases q : 0 ≤ z1 ∧ 0 ≤ z2 ∧ 0 ≤ z3 ∧ z1 + z3 ≤ ns ∧ z2 + z3 ≤ nd ∧ ((List.range z3.toNat).all fun i => decide (-128 ≤ A src (z1.toNat + i) ∧ A src (z1.toNat + i) < 128)) = true
  · rw [if_pos q]
    obtain ⟨q1, q2, q3, q4, q5, q6⟩ := q
    obtain ⟨rfl, b1⟩ := h1
    obtain ⟨rfl, b2⟩ := h2
    obtain ⟨rfl, b3⟩ := h3
    unfold r32 at b1 b2 b3
    unfold gY
    have e1 : (i2 z1).toNatClampNeg = z1.toNat := tn_i2 b1.1 b1.2
    have e2 : (i2 z2).toNatClampNeg = z2.toNat := tn_i2 b2.1 b2.2
    have e3 : (i2 z3).toNatClampNeg = z3.toNat := tn_i2 b3.1 b3.2
    rw [if_pos, e1, e2, e3]
    · exact g _ _ (h.cp hs hd _ _ _)
    · unfold gYok
      simp only [Bool.and_eq_true, Bool.not_eq_true', decide_eq_false_iff_not, decide_eq_true_eq, List.all_eq_true, List.mem_range, e1, e2, e3]
      have z0 : (0 : Int32) = i2 0 := rfl
      simp only [List.all_eq_true, List.mem_range, decide_eq_true_eq] at q6
      refine ⟨⟨⟨⟨⟨?_, ?_⟩, ?_⟩, by omega⟩, by omega⟩, fun i hi => ?_⟩
      · rw [z0, lt_i2 (by omega) (by omega) (by omega) (by omega)]; omega
      · rw [z0, lt_i2 (by omega) (by omega) (by omega) (by omega)]; omega
      · rw [z0, lt_i2 (by omega) (by omega) (by omega) (by omega)]; omega
      · have q7 := q6 i hi
        obtain ⟨e4, -⟩ := h.1 src (z1.toNat + i) (hs _)
        rw [e4]
        have e5 : i2 (A src (z1.toNat + i)) = Int8.toInt32 (Int32.toInt8 (i2 (A src (z1.toNat + i)))) := by
          rw [i2_b8 (by omega) (by omega), show b8 (A src (z1.toNat + i)) = A src (z1.toNat + i) by unfold b8; omega]
        rw [e5]
        exact pk_fb _
  · rw [if_neg q]; exact Lf_none
end RTS
/-! values -/
theorem RI.lit (n : Nat) (h : (OfNat.ofNat n : Int) < 2147483648) : RI (OfNat.ofNat n : Int32) (OfNat.ofNat n : Int) := ⟨li32 n, ⟨Int.le_trans (by decide) (Int.natCast_nonneg n), h⟩⟩
theorem RJ.lit (n : Nat) (h : (OfNat.ofNat n : Int) < 9223372036854775808) : RJ (OfNat.ofNat n : Int64) (OfNat.ofNat n : Int) := ⟨li64 n, ⟨Int.le_trans (by decide) (Int.natCast_nonneg n), h⟩⟩
theorem RI.m1 : RI (-1) (-1) := ⟨by decide, by unfold r32; decide⟩
theorem RI.m2 : RI (-2) (-2) := ⟨by decide, by unfold r32; decide⟩
theorem RJ.m1 : RJ (-1) (-1) := ⟨by decide, by unfold r64; decide⟩
theorem RI.ld {tj : L3 → Nat → Bool} {S : Mem} {A : AM} (h : RT tj S A) {r : L3} {x : Int32} {z : Int} {n : Nat} (hx : x = i2 z) (b : 0 ≤ z ∧ z < n) (hn : n < 2147483648) (q : tj r z.toNat = false) : RI (S.1 r (Int32.toNatClampNeg x)) (A r z.toNat) := by
  rw [hx, tn_i2 (by omega) (by omega)]; exact h.1 _ _ q
theorem RJ.ld {tj : L3 → Nat → Bool} {S : Mem} {A : AM} (h : RT tj S A) {r : L3} {x : Int32} {z : Int} {n : Nat} (hx : x = i2 z) (b : 0 ≤ z ∧ z < n) (hn : n < 2147483648) (q : tj r z.toNat = true) : RJ (S.2 r (Int32.toNatClampNeg x)) (A r z.toNat) := by
  rw [hx, tn_i2 (by omega) (by omega)]; exact h.2 _ _ q
theorem tnE {x : Int32} {z : Int} {n : Nat} (hx : x = i2 z) (b : 0 ≤ z ∧ z < n) (hn : n < 2147483648) : Int32.toNatClampNeg x = z.toNat := by
  rw [hx, tn_i2 (by omega) (by omega)]
theorem E_add {a b : Int32} {x y : Int} (h : a = i2 x) (g : b = i2 y) : a + b = i2 (x + y) := by rw [h, g, i2_add]
theorem E_sub {a b : Int32} {x y : Int} (h : a = i2 x) (g : b = i2 y) : a - b = i2 (x - y) := by rw [h, g, i2_sub]
theorem E_mul {a b : Int32} {x y : Int} (h : a = i2 x) (g : b = i2 y) : a * b = i2 (x * y) := by rw [h, g, i2_mul]
theorem E_div {a b : Int32} {x y : Int} (h : a = i2 x) (g : b = i2 y) (hx : 0 ≤ x ∧ x < (2147483648 : Nat)) (hy : 0 < y) (hy' : y < 2147483648) : a / b = i2 (x / y) := by rw [h, g, div_i2 hx.1 hx.2 hy hy']
theorem F_add {a b : Int64} {x y : Int} (h : a = j2 x) (g : b = j2 y) : a + b = j2 (x + y) := by rw [h, g, j2_add]
theorem F_sub {a b : Int64} {x y : Int} (h : a = j2 x) (g : b = j2 y) : a - b = j2 (x - y) := by rw [h, g, j2_sub]
theorem F_mul {a b : Int64} {x y : Int} (h : a = j2 x) (g : b = j2 y) : a * b = j2 (x * y) := by rw [h, g, j2_mul]
theorem F_div {a b : Int64} {x y : Int} (h : a = j2 x) (g : b = j2 y) (hx : 0 ≤ x ∧ x < (9223372036854775808 : Nat)) (hy : 0 < y) (hy' : y < 9223372036854775808) : a / b = j2 (x / y) := by rw [h, g, div_j2 hx.1 hx.2 hy hy']
theorem E_64 {a : Int32} {x : Int} (h : RI a x) : Int32.toInt64 a = j2 x := by rw [h.1, i2_64 h.2.1 h.2.2]
theorem F_32 {a : Int64} {x : Int} (h : a = j2 x) : Int64.toInt32 a = i2 x := by rw [h, j2_32]
theorem R_64 {x : Int} (h : r32 x) : r64 x := by unfold r32 at h; unfold r64; omega
theorem E_b8 {a : Int32} {x : Int} (h : RI a x) : Int8.toInt32 (Int32.toInt8 a) = i2 (b8 x) := by rw [h.1, i2_b8 h.2.1 h.2.2]
theorem E_nb {a : Int32} {x : Int} (h : RI a x) : vp_nar .byte a = i2 (b8 x) := by rw [h.1, nar_b8 h.2.1 h.2.2]
theorem R_b8 (x : Int) : r32 (b8 x) := by unfold b8 r32; omega
theorem E_s16 {a : Int32} {x : Int} (h : RI a x) : Int16.toInt32 (Int32.toInt16 a) = i2 (s16 x) := by
  rw [h.1, ← Int32.toInt_inj, Int16.toInt_toInt32, Int32.toInt_toInt16, i2_toInt h.2.1 h.2.2, i2_toInt (by unfold s16; omega) (by unfold s16; omega), Int.bmod_def]
  unfold s16
  split <;> omega
theorem E_ns {a : Int32} {x : Int} (h : RI a x) : vp_nar .short a = i2 (s16 x) := by rw [vp_nar_short]; exact E_s16 h
theorem R_sh (x : Int) : r32 (s16 x) := by unfold s16 r32; omega
theorem E_nz0 : vp_nar .boolean 0 = i2 0 := by decide
theorem E_nz1 : vp_nar .boolean 1 = i2 1 := by decide
theorem E_255 {a : Int32} {x : Int} (h : a = i2 x) : a &&& 255 = i2 (x % 256) := by rw [h, and255_32]
theorem and_j2 (z : Int) (k : Nat) (hk : k ≤ 60) : (j2 z).toBitVec.toNat % 2 ^ k = (z % (2 ^ k : Nat)).toNat := by
  have e1 : (j2 z).toBitVec = BitVec.ofInt 64 z := rfl
  have e2 : ((2 : Nat) ^ 64 : Nat) = 2 ^ k * 2 ^ (64 - k) := by rw [← Nat.pow_add]; congr 1; omega
  rw [e1, BitVec.toNat_ofInt, e2]
  have hp : (0 : Int) < (2 ^ k : Nat) := by exact_mod_cast Nat.two_pow_pos k
  have h3 : ((z % ((2 ^ k * 2 ^ (64 - k) : Nat) : Int)).toNat : Int) = z % ((2 ^ k * 2 ^ (64 - k) : Nat) : Int) := by
    apply Int.toNat_of_nonneg
    exact Int.emod_nonneg _ (by have := Nat.two_pow_pos k; have := Nat.two_pow_pos (64 - k); have := Nat.mul_pos ‹0 < 2 ^ k› ‹0 < 2 ^ (64 - k)›; omega)
  have h4 : ((z % (2 ^ k : Nat)).toNat : Int) = z % (2 ^ k : Nat) := Int.toNat_of_nonneg (Int.emod_nonneg _ (by omega))
  have h5 : (((z % ((2 ^ k * 2 ^ (64 - k) : Nat) : Int)).toNat % 2 ^ k : Nat) : Int) = z % (2 ^ k : Nat) := by
    rw [Int.natCast_emod, h3]
    exact Int.emod_emod_of_dvd z (by rw [Int.natCast_mul]; exact Int.dvd_mul_right _ _)
  omega
theorem F_m1 {a : Int64} {x : Int} (h : a = j2 x) : a &&& 1 = j2 (x % 2) := by
  rw [h]
  apply Int64.toBitVec_inj.1
  apply BitVec.eq_of_toNat_eq
  rw [Int64.toBitVec_and, BitVec.toNat_and]
  have e := and_j2 x 1 (by decide)
  have e2 : (j2 (x % 2)).toBitVec = BitVec.ofInt 64 (x % 2) := rfl
  rw [show (1 : Int64).toBitVec.toNat = 2 ^ 1 - 1 from by decide, Nat.and_two_pow_sub_one_eq_mod, e, e2, BitVec.toNat_ofInt]
  omega
theorem F_m8 {a : Int64} {x : Int} (h : a = j2 x) : a &&& 255 = j2 (x % 256) := by
  rw [h]
  apply Int64.toBitVec_inj.1
  apply BitVec.eq_of_toNat_eq
  rw [Int64.toBitVec_and, BitVec.toNat_and]
  have e := and_j2 x 8 (by decide)
  have e2 : (j2 (x % 256)).toBitVec = BitVec.ofInt 64 (x % 256) := rfl
  rw [show (255 : Int64).toBitVec.toNat = 2 ^ 8 - 1 from by decide, Nat.and_two_pow_sub_one_eq_mod, e, e2, BitVec.toNat_ofInt]
  omega
theorem sh_amt (q : Fin 64) : ((Int32.toInt64 (i2 (q.val : Int)) &&& 63).toBitVec.smod 64).toNat = q.val := by
  revert q; decide +kernel
theorem F_shr {a : Int64} {x : Int} {b : Int32} {y : Int} (h : RJ a x) (g : b = i2 y) (hy : 0 ≤ y ∧ y < (64 : Nat)) : a >>> (Int32.toInt64 b &&& 63) = j2 (x / 2 ^ y.toNat) := by
  obtain ⟨rfl, hr⟩ := h
  have e := sh_amt ⟨y.toNat, by omega⟩
  have ey : ((y.toNat : Nat) : Int) = y := by omega
  rw [show i2 (((⟨y.toNat, by omega⟩ : Fin 64).val : Nat) : Int) = b by rw [g]; show i2 ((y.toNat : Nat) : Int) = i2 y; rw [ey]] at e
  rw [← Int64.toInt_inj]
  have h1 : (j2 x >>> (Int32.toInt64 b &&& 63)).toInt = ((j2 x).toBitVec.sshiftRight' ((Int32.toInt64 b &&& 63).toBitVec.smod 64)).toInt := rfl
  rw [h1, BitVec.toInt_sshiftRight', e]
  have h2 : (j2 x).toBitVec.toInt = x := j2_toInt hr.1 hr.2
  rw [h2, Int.shiftRight_eq_div_pow]
  have hp : (0 : Int) < 2 ^ y.toNat := Int.pow_pos (by decide)
  unfold r64 at hr
  have b1 : -9223372036854775808 ≤ x / 2 ^ y.toNat := by
    apply Int.le_ediv_of_mul_le hp
    have : (1 : Int) ≤ 2 ^ y.toNat := hp
    have h5 : (-9223372036854775808 : Int) * 2 ^ y.toNat ≤ -9223372036854775808 * 1 := Int.mul_le_mul_of_nonpos_left (by decide) this
    omega
  have b2 : x / 2 ^ y.toNat < 9223372036854775808 := by
    apply Int.ediv_lt_of_lt_mul hp
    have : (1 : Int) ≤ 2 ^ y.toNat := hp
    have h5 : (9223372036854775808 : Int) * 1 ≤ 9223372036854775808 * 2 ^ y.toNat := Int.mul_le_mul_of_nonneg_left this (by decide)
    omega
  rw [j2_toInt b1 b2]
  norm_cast
theorem R_shr {x y : Int} (h : r64 x) (hy : 0 ≤ y ∧ y < (64 : Nat)) : r64 (x / 2 ^ y.toNat) := by
  have hp : (0 : Int) < 2 ^ y.toNat := Int.pow_pos (by decide)
  unfold r64 at h ⊢
  have this : (1 : Int) ≤ 2 ^ y.toNat := hp
  constructor
  · apply Int.le_ediv_of_mul_le hp
    have h5 : (-9223372036854775808 : Int) * 2 ^ y.toNat ≤ -9223372036854775808 * 1 := Int.mul_le_mul_of_nonpos_left (by decide) this
    omega
  · apply Int.ediv_lt_of_lt_mul hp
    have h5 : (9223372036854775808 : Int) * 1 ≤ 9223372036854775808 * 2 ^ y.toNat := Int.mul_le_mul_of_nonneg_left this (by decide)
    omega
/-- what has no whole number form of its own: the number that it is -/
theorem F_self (a : Int64) : a = j2 a.toInt := (j2_self a).symm
theorem R_self (a : Int64) : r64 a.toInt := ⟨a.le_toInt, a.toInt_lt⟩
theorem C_lt {a b : Int32} {x y : Int} (h : RI a x) (g : RI b y) : a < b ↔ x < y := by rw [h.1, g.1, lt_i2 h.2.1 h.2.2 g.2.1 g.2.2]
theorem C_le {a b : Int32} {x y : Int} (h : RI a x) (g : RI b y) : a ≤ b ↔ x ≤ y := by rw [h.1, g.1, le_i2 h.2.1 h.2.2 g.2.1 g.2.2]
theorem C_eq {a b : Int32} {x y : Int} (h : RI a x) (g : RI b y) : a = b ↔ x = y := by rw [h.1, g.1, eq_i2 h.2.1 h.2.2 g.2.1 g.2.2]
theorem C_ne {a b : Int32} {x y : Int} (h : RI a x) (g : RI b y) : a ≠ b ↔ x ≠ y := by rw [Ne, Ne, C_eq h g]
theorem D_lt {a b : Int64} {x y : Int} (h : RJ a x) (g : RJ b y) : a < b ↔ x < y := by rw [h.1, g.1, lt_j2 h.2.1 h.2.2 g.2.1 g.2.2]
theorem D_le {a b : Int64} {x y : Int} (h : RJ a x) (g : RJ b y) : a ≤ b ↔ x ≤ y := by rw [h.1, g.1, le_j2 h.2.1 h.2.2 g.2.1 g.2.2]
theorem D_eq {a b : Int64} {x y : Int} (h : RJ a x) (g : RJ b y) : a = b ↔ x = y := by rw [h.1, g.1, eq_j2 h.2.1 h.2.2 g.2.1 g.2.2]
theorem D_ne {a b : Int64} {x y : Int} (h : RJ a x) (g : RJ b y) : a ≠ b ↔ x ≠ y := by rw [Ne, Ne, D_eq h g]
def mnZ (x y : Int) : Int := if y < x then y else x
def mxZ (x y : Int) : Int := if x < y then y else x
theorem RI.mn {a b : Int32} {x y : Int} (h : RI a x) (g : RI b y) : RI (mnI a b) (mnZ x y) := by
  unfold mnI mnZ
  by_cases q : y < x
  · rw [if_pos q, if_pos ((C_lt g h).mpr q)]; exact g
  · rw [if_neg q, if_neg (fun z => q ((C_lt g h).mp z))]; exact h
theorem RI.mx {a b : Int32} {x y : Int} (h : RI a x) (g : RI b y) : RI (mxI a b) (mxZ x y) := by
  unfold mxI mxZ
  by_cases q : x < y
  · rw [if_pos q, if_pos ((C_lt h g).mpr q)]; exact g
  · rw [if_neg q, if_neg (fun z => q ((C_lt h g).mp z))]; exact h
theorem RJ.mn {a b : Int64} {x y : Int} (h : RJ a x) (g : RJ b y) : RJ (mnJ a b) (mnZ x y) := by
  unfold mnJ mnZ
  by_cases q : y < x
  · rw [if_pos q, if_pos ((D_lt g h).mpr q)]; exact g
  · rw [if_neg q, if_neg (fun z => q ((D_lt g h).mp z))]; exact h
theorem RJ.mx {a b : Int64} {x y : Int} (h : RJ a x) (g : RJ b y) : RJ (mxJ a b) (mxZ x y) := by
  unfold mxJ mxZ
  by_cases q : y < x
  · rw [if_neg (show ¬ x < y by omega), if_pos ((D_lt g h).mpr q)]; exact h
  · rw [if_neg (fun z => q ((D_lt g h).mp z))]
    by_cases q2 : x < y
    · rw [if_pos q2]; exact g
    · rw [if_neg q2, show x = y by omega]; exact g
theorem RP.mk {α α' β β' : Type} {ρ : α → α' → Prop} {σ : β → β' → Prop} {a : α} {b : α'} {c : β} {d : β'} (h : ρ a b) (g : σ c d) : RP ρ σ (a, c) (b, d) := ⟨h, g⟩
theorem RX.l {α α' : Type} {ρ : α → α' → Prop} {c : Nat} : RX ρ (.inl c) (.inl c) := rfl
theorem RX.r {α α' : Type} {ρ : α → α' → Prop} {a : α} {b : α'} (h : ρ a b) : RX ρ (.inr a) (.inr b) := h
theorem RQ.rfl {α : Type} {a : α} : RQ a a := Eq.refl a
theorem RQ.of {α : Type} {a b : α} (h : a = b) : RQ a b := h
theorem blen_lt (r : L3) : blen r < 2147483648 := by unfold blen; split <;> decide
theorem RI.at {tj : L3 → Nat → Bool} {S : Mem} {A : AM} (h : RT tj S A) {r r' : L3} {f f' : Nat} (e : r = r') (e2 : f = f') (q : tj r f = false) : RI (S.1 r f) (A r' f') := by
  subst e e2; exact h.1 _ _ q
theorem RJ.at {tj : L3 → Nat → Bool} {S : Mem} {A : AM} (h : RT tj S A) {r r' : L3} {f f' : Nat} (e : r = r') (e2 : f = f') (q : tj r f = true) : RJ (S.2 r f) (A r' f') := by
  subst e e2; exact h.2 _ _ q
theorem RT.siq {tj : L3 → Nat → Bool} {S : Mem} {A : AM} (h : RT tj S A) {r r' : L3} {f f' : Nat} {x : Int32} {v : Int} (e : r = r') (e2 : f = f') (hv : RI x v) (q : tj r f = false) : RT tj (sI S r f x) (uA A r' f' v) := by
  subst e e2; exact h.si hv q
theorem RT.sjq {tj : L3 → Nat → Bool} {S : Mem} {A : AM} (h : RT tj S A) {r r' : L3} {f f' : Nat} {x : Int64} {v : Int} (e : r = r') (e2 : f = f') (hv : RJ x v) (q : tj r f = true) : RT tj (sJ S r f x) (uA A r' f' v) := by
  subst e e2; exact h.sj hv q
theorem F_or {a b : Int64} {x y : Int} (h : a = j2 x) (g : b = j2 y) : a ||| b = j2 ((j2 x ||| j2 y).toInt) := by rw [h, g]; exact F_self _
theorem F_shl {a : Int64} {b : Int32} {x y : Int} (h : a = j2 x) (g : b = i2 y) : a <<< (Int32.toInt64 b &&& 63) = j2 ((j2 x <<< (Int32.toInt64 (i2 y) &&& 63)).toInt) := by rw [h, g]; exact F_self _
theorem Lf_gYq {tj : L3 → Nat → Bool} {S : Mem} {A : AM} {α β : Type} {ρ : α → β → Prop} (h : RT tj S A) {src dst src' dst' : L3} (e1 : src = src') (e2 : dst = dst') {x1 x2 x3 : Int32} {z1 z2 z3 : Int} {ns nd : Nat} (h1 : RI x1 z1) (h2 : RI x2 z2) (h3 : RI x3 z3) (hs : ∀ f, tj src f = false) (hd : ∀ f, tj dst f = false) {k : Mem → Option α} {k' : AM → Option β} (g : ∀ u v, RT tj u v → Lf ρ (k u) (k' v)) : Lf ρ (gY S src x1 ns dst x2 nd x3 k) (hY A src' z1 ns dst' z2 nd z3 k') := by
  subst e1 e2; exact Lf_gY h h1 h2 h3 hs hd g
theorem Lf_gXp {α β γ δ : Type} {ρ : α → β → Prop} {σ : γ → δ → Prop} {x : Nat ⊕ γ} {o' : Option (Nat ⊕ δ)} {k : γ → Option (Nat ⊕ α)} {k' : δ → Option (Nat ⊕ β)} (h : Lp (RX σ) x o') (g : ∀ u v, σ u v → Lf (RX ρ) (k u) (k' v)) : Lf (RX ρ) (gX x k) (o'.bind fun q => gX q k') := by
  intro w e
  cases o' with
  | none => cases e
  | some v => exact Lf_gX (h v rfl) g w e
theorem Lf_gXWp {tj : L3 → Nat → Bool} {S : Mem} {A : AM} {α β γ δ : Type} {ρ : α → β → Prop} {σ : γ → δ → Prop} {x : Nat ⊕ γ} {o' : Option (Nat ⊕ δ)} {k : γ → Option (Mem × (Nat ⊕ α))} {k' : δ → Option (AM × (Nat ⊕ β))} (hS : RT tj S A) (h : Lp (RX σ) x o') (g : ∀ u v, σ u v → Lf (RP (RT tj) (RX ρ)) (k u) (k' v)) : Lf (RP (RT tj) (RX ρ)) (gXW S x k) (o'.bind fun q => hXW A q k') := by
  intro w e
  cases o' with
  | none => cases e
  | some v => exact Lf_gXW hS (h v rfl) g w e
theorem RI.mk {v : Int32} {z : Int} (h : v = i2 z) (g : r32 z) : RI v z := ⟨h, g⟩
theorem RJ.mk {v : Int64} {z : Int} (h : v = j2 z) (g : r64 z) : RJ v z := ⟨h, g⟩
theorem E_b864 {a : Int64} {x : Int} (h : a = j2 x) : Int8.toInt32 (Int32.toInt8 (Int64.toInt32 a)) = i2 (b8 x) := by
  have e : (i2 x).toInt = x.bmod (2 ^ 32) := Int32.toInt_ofInt
  rw [h, j2_32, ← Int32.toInt_inj, Int8.toInt_toInt32, Int32.toInt_toInt8, e, i2_toInt (z := b8 x) (by have := b8_lo x; omega) (by have := b8_hi x; omega), Int.bmod_def, Int.bmod_def]
  unfold b8
  split <;> split <;> omega
