/-! running lifted functions -/
theorem c32_ok {α : Type} {z : Int} {k : Option α} (h : -2147483648 ≤ z) (h' : z < 2147483648) : c32 z k = k := if_pos ⟨h, h'⟩
theorem c64_ok {α : Type} {z : Int} {k : Option α} (h : -9223372036854775808 ≤ z) (h' : z < 9223372036854775808) : c64 z k = k := if_pos ⟨h, h'⟩
theorem hA_ok {α : Type} {z : Int} {n : Nat} {k : Option α} (h : 0 ≤ z) (h' : z < n) : hA z n k = k := if_pos ⟨h, h'⟩
theorem hB_ok {α : Type} {z : Int} {k : Option α} (h : z = 0 ∨ z = 1) : hB z k = k := if_pos h
theorem hY8_ok {α : Type} {z : Int} {k : Option α} (h : -128 ≤ z) (h' : z < 128) : hY8 z k = k := if_pos ⟨h, h'⟩
theorem gS_v {α β : Type} (x : α) (k : α → β) : gS x k = k x := rfl
theorem gB2_v {α β γ : Type} (a : α) (b : β) (k : α → β → Option γ) : gB2 (some (a, b)) k = k a b := rfl
theorem bd_v {α β : Type} (a : α) (k : α → Option β) : (some a).bind k = k a := rfl
theorem gM_n {β : Type} (a : β) (b : Nat → β) : gM none a b = a := rfl
theorem gM_s {β : Type} (j : Nat) (a : β) (b : Nat → β) : gM (some j) a b = b j := rfl
theorem hXW_r {α β : Type} (A : AM) (v : α) (k : α → Option (AM × (Nat ⊕ β))) : hXW A (.inr v) k = k v := rfl
theorem hXW_l {α β : Type} (A : AM) (c : Nat) (k : α → Option (AM × (Nat ⊕ β))) : hXW A (.inl c) k = some (A, .inl c) := rfl
theorem gX_r {α β : Type} (v : α) (k : α → Option (Nat ⊕ β)) : gX (.inr v) k = k v := rfl
theorem gX_l {α β : Type} (c : Nat) (k : α → Option (Nat ⊕ β)) : gX (.inl c) k = some (.inl c) := rfl
theorem tkN (n : Nat) : ((n : Int)).toNat = n := Int.toNat_natCast n
theorem tk_at (k j : Nat) : (256 * (k : Int) + (j : Int)).toNat = 256 * k + j := by omega
theorem tk_2 (k j : Nat) : (2 * (k : Int) + (j : Int)).toNat = 2 * k + j := by omega
theorem tk_3 (k : Nat) : (3 * (k : Int)).toNat = 3 * k := by omega
theorem tk_31 (k j : Nat) : (3 * (k : Int) + 1 + (j : Int)).toNat = 3 * k + 1 + j := by omega
theorem uA_at (A : AM) (r : L3) (f : Nat) (v : Int) (r' : L3) (f' : Nat) : uA A r f v r' f' = if r' = r ∧ f' = f then v else A r' f' := rfl
/-- a write outside a footprint -/
theorem uA_off {A : AM} {r : L3} {f : Nat} {v : Int} {fp : L3 → Nat → Bool} (h : fp r f = false) : ∀ r' f', fp r' f' = true → uA A r f v r' f' = A r' f' := by
  intro r' f' g
  rw [uA_at, if_neg]
  rintro ⟨rfl, rfl⟩
  rw [h] at g
  cases g
def sumTo (f : Nat → Int) : Nat → Int
  | 0 => 0
  | n + 1 => sumTo f n + f n
theorem sumTo_congr {f g : Nat → Int} {n : Nat} (h : ∀ i, i < n → f i = g i) : sumTo f n = sumTo g n := by
  induction n with
  | zero => rfl
  | succ n ih => unfold sumTo; rw [ih (fun i hi => h i (by omega)), h n (by omega)]
theorem sumTo_bd {f : Nat → Int} {n : Nat} {b : Int} (h : ∀ i, i < n → 0 ≤ f i ∧ f i ≤ b) : 0 ≤ sumTo f n ∧ sumTo f n ≤ n * b := by
  induction n with
  | zero => exact ⟨Int.le_refl 0, by show (0 : Int) ≤ ((0 : Nat) : Int) * b; omega⟩
  | succ n ih =>
    have h1 := ih (fun i hi => h i (by omega))
    have h2 := h n (by omega)
    unfold sumTo
    refine ⟨by omega, ?_⟩
    have e : ((n + 1 : Nat) : Int) * b = (n : Int) * b + b := by rw [Int.natCast_add, Int.add_mul]; omega
    rw [e]; omega
theorem sumTo_upd {f g : Nat → Int} {n j : Nat} (hj : j < n) (h : ∀ i, i < n → i ≠ j → g i = f i) : sumTo g n = sumTo f n + (g j - f j) := by
  induction n with
  | zero => omega
  | succ n ih =>
    unfold sumTo
    by_cases e : j = n
    · subst e
      rw [sumTo_congr (fun i hi => h i (by omega) (by omega))]
      omega
    · rw [ih (by omega) (fun i hi hne => h i (by omega) hne), h n (by omega) (fun q => e q.symm)]
      omega
theorem find?_congr' {α : Type} {l : List α} {p q : α → Bool} (h : ∀ a ∈ l, p a = q a) : l.find? p = l.find? q := by
  induction l with
  | nil => rfl
  | cons a l ih =>
    rw [List.find?_cons, List.find?_cons, h a (List.mem_cons_self), ih (fun b hb => h b (List.mem_cons_of_mem _ hb))]
