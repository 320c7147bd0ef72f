/-! PURE WORDS of both sides -/
abbrev L3 : Type := Nat × Nat × Nat
abbrev Mem : Type := (L3 → Nat → Int32) × (L3 → Nat → Int64)
def sI (S : Mem) (r : L3) (f : Nat) (v : Int32) : Mem := (fun r' f' => if r' = r ∧ f' = f then v else S.1 r' f', S.2)
def sJ (S : Mem) (r : L3) (f : Nat) (v : Int64) : Mem := (S.1, fun r' f' => if r' = r ∧ f' = f then v else S.2 r' f')
theorem sI_1 (S : Mem) (r r' : L3) (f f' : Nat) (v : Int32) : (sI S r f v).1 r' f' = if r' = r ∧ f' = f then v else S.1 r' f' := rfl
theorem sI_2 (S : Mem) (r : L3) (f : Nat) (v : Int32) : (sI S r f v).2 = S.2 := rfl
theorem sJ_2 (S : Mem) (r r' : L3) (f f' : Nat) (v : Int64) : (sJ S r f v).2 r' f' = if r' = r ∧ f' = f then v else S.2 r' f' := rfl
theorem sJ_1 (S : Mem) (r : L3) (f : Nat) (v : Int64) : (sJ S r f v).1 = S.1 := rfl
theorem sI_self (S : Mem) (r : L3) (f : Nat) (v : Int32) : (sI S r f v).1 r = upd (S.1 r) f v := by
  funext g
  show (if r = r ∧ g = f then v else S.1 r g) = if g = f then v else S.1 r g
  by_cases h : g = f <;> simp [h]
theorem sI_ne (S : Mem) {r r' : L3} (f : Nat) (v : Int32) (h : r' ≠ r) : (sI S r f v).1 r' = S.1 r' := by
  funext g
  show (if r' = r ∧ g = f then v else S.1 r' g) = _
  rw [if_neg (fun q => h q.1)]
theorem sJ_self (S : Mem) (r : L3) (f : Nat) (v : Int64) : (sJ S r f v).2 r = vp_updL (S.2 r) f v := by
  funext g
  show (if r = r ∧ g = f then v else S.2 r g) = if g = f then v else S.2 r g
  by_cases h : g = f <;> simp [h]
theorem sJ_ne (S : Mem) {r r' : L3} (f : Nat) (v : Int64) (h : r' ≠ r) : (sJ S r f v).2 r' = S.2 r' := by
  funext g
  show (if r' = r ∧ g = f then v else S.2 r' g) = _
  rw [if_neg (fun q => h q.1)]
def gin (i : Int32) (n : Nat) : Bool := !decide (i < 0) && decide (i.toNatClampNeg < n)
theorem gin_in {i : Int32} {n : Nat} (h : gin i n = true) : vp_in i n := by
  simp only [gin, Bool.and_eq_true, Bool.not_eq_true', decide_eq_false_iff_not, decide_eq_true_eq] at h
  intro q
  rcases q with q | q
  · exact h.1 q
  · omega
def gA {α : Type} (i : Int32) (n : Nat) (k : Option α) : Option α := if gin i n = true then k else none
theorem gA_some {α : Type} {i : Int32} {n : Nat} {k : Option α} {r : α} (h : gA i n k = some r) : vp_in i n ∧ k = some r := by
  unfold gA at h
  by_cases g : gin i n = true
  · rw [if_pos g] at h; exact ⟨gin_in g, h⟩
  · rw [if_neg g] at h; cases h
def gS {α β : Type} (x : α) (k : α → β) : β := k x
def gN {α : Type} (ty : FieldType) (x : Int32) (k : Option α) : Option α := if vp_nar ty x = x then k else none
theorem gN_some {α : Type} {ty : FieldType} {x : Int32} {k : Option α} {r : α} (h : gN ty x k = some r) : vp_nar ty x = x ∧ k = some r := by
  unfold gN at h
  by_cases g : vp_nar ty x = x
  · rw [if_pos g] at h; exact ⟨g, h⟩
  · rw [if_neg g] at h; cases h
def gZ {α : Type} (x : Int32) (k : Option α) : Option α := if x = 0 then none else k
theorem gZ_some {α : Type} {x : Int32} {k : Option α} {r : α} (h : gZ x k = some r) : ¬ x = 0 ∧ k = some r := by
  unfold gZ at h
  by_cases g : x = 0
  · rw [if_pos g] at h; cases h
  · rw [if_neg g] at h; exact ⟨g, h⟩
theorem gB_some {α β : Type} {x : Option α} {F : α → Option β} {r : β} (h : x.bind F = some r) : ∃ q, x = some q ∧ F q = some r := by
  cases x with
  | none => cases h
  | some q => exact ⟨q, rfl, h⟩
def FU : Nat := 200000
def gS2 {α β γ : Type} (x : α × β) (k : α → β → γ) : γ := k x.1 x.2
def gB2 {α β γ : Type} (x : Option (α × β)) (k : α → β → Option γ) : Option γ := x.bind fun q => k q.1 q.2
theorem gS2_eq {α β γ : Type} {x : α × β} {k : α → β → γ} {r : γ} (h : gS2 x k = r) : ∃ u v, x = (u, v) ∧ k u v = r := ⟨x.1, x.2, rfl, h⟩
theorem gS_eq {α γ : Type} {x : α} {k : α → γ} {r : γ} (h : gS x k = r) : ∃ u, x = u ∧ k u = r := ⟨x, rfl, h⟩
theorem gB2_some {α β γ : Type} {x : Option (α × β)} {k : α → β → Option γ} {r : γ} (h : gB2 x k = some r) : ∃ u v, x = some (u, v) ∧ k u v = some r := by
  cases x with
  | none => cases h
  | some q => exact ⟨q.1, q.2, rfl, h⟩
abbrev M_o : L3 := (0, 0, 0)
abbrev M_tape : L3 := (3, 0, 0)
abbrev M_out : L3 := (5, 0, 0)
abbrev M_grants : L3 := (7, 0, 0)
abbrev M_limits : L3 := (8, 0, 0)
abbrev M_opened : L3 := (9, 0, 0)
abbrev M_theirs : L3 := (10, 0, 0)
abbrev M_granted : L3 := (11, 0, 0)
abbrev M_dataGrant : L3 := (12, 0, 0)
abbrev M_tellData : L3 := (13, 0, 0)
abbrev M_tellStreams : L3 := (14, 0, 0)
abbrev M_toldBlocked : L3 := (15, 0, 0)
abbrev M_refused : L3 := (16, 0, 0)
abbrev M_lastStream : L3 := (17, 0, 0)
abbrev M_there : L3 := (18, 0, 0)
abbrev M_limit : L3 := (19, 0, 0)
abbrev M_finished : L3 := (20, 0, 0)
abbrev M_end : L3 := (21, 0, 0)
abbrev M_resets : L3 := (22, 0, 0)
abbrev M_tellReset : L3 := (23, 0, 0)
abbrev M_code : L3 := (24, 0, 0)
abbrev M_toldLimit : L3 := (25, 0, 0)
abbrev M_highest : L3 := (26, 0, 0)
abbrev M_size : L3 := (27, 0, 0)
abbrev M_read : L3 := (28, 0, 0)
abbrev M_wasReset : L3 := (29, 0, 0)
abbrev M_theirCode : L3 := (30, 0, 0)
abbrev M_grant : L3 := (31, 0, 0)
abbrev M_tellGrant : L3 := (32, 0, 0)
abbrev M_stopped : L3 := (33, 0, 0)
abbrev M_tellStop : L3 := (34, 0, 0)
abbrev M_stopCode : L3 := (35, 0, 0)
abbrev M_over : L3 := (36, 0, 0)
abbrev M_total : L3 := (37, 0, 0)
abbrev M_of : L3 := (38, 0, 0)
abbrev M_value : L3 := (39, 0, 0)
abbrev M_mark : L3 := (40, 0, 0)
abbrev M_pieces : L3 := (41, 0, 0)
abbrev M_pieceOf : L3 := (42, 0, 0)
abbrev M_pieceNumber : L3 := (43, 0, 0)
abbrev M_came : L3 := (44, 0, 0)
abbrev M_has : L3 := (45, 0, 0)
abbrev M_fData : L3 := (51, 0, 0)
abbrev M_lineSide : L3 := (52, 0, 0)
abbrev M_lineKind : L3 := (53, 0, 0)
abbrev M_lineA : L3 := (54, 0, 0)
abbrev M_lineB : L3 := (55, 0, 0)
abbrev M_lineC : L3 := (56, 0, 0)
abbrev M_lineSize : L3 := (57, 0, 0)
abbrev M_lineBytes : L3 := (58, 0, 0)
abbrev M_lineUsed : L3 := (59, 0, 0)
abbrev M_delivered : L3 := (60, 0, 0)
abbrev M_lineData : L3 := (61, 0, 0)
abbrev C_o : L3 := (0, 0, 0)
abbrev C_halls : L3 := (1, 0, 0)
abbrev C_grants : L3 := (2, 0, 0)
abbrev C_grow (k : Nat) : L3 := (3, k, 0)
abbrev C_line : L3 := (4, 0, 0)
abbrev C_tape : L3 := (5, 0, 0)
abbrev C_out : L3 := (6, 0, 0)
abbrev H_o (k : Nat) : L3 := (7, k, 0)
abbrev H_sendings (k : Nat) : L3 := (8, k, 0)
abbrev H_receivings (k : Nat) : L3 := (9, k, 0)
abbrev H_ways (k : Nat) : L3 := (10, k, 0)
abbrev H_grants (k : Nat) : L3 := (11, k, 0)
abbrev H_limits (k : Nat) : L3 := (12, k, 0)
abbrev P_o (k : Nat) : L3 := (13, k, 0)
abbrev P_from (k : Nat) : L3 := (14, k, 0)
abbrev P_to (k : Nat) : L3 := (15, k, 0)
abbrev P_next (k : Nat) : L3 := (16, k, 0)
abbrev T_o (k : Nat) : L3 := (17, k, 0)
abbrev T_bytes (k : Nat) : L3 := (18, k, 0)
abbrev T_at (k : Nat) : L3 := (19, k, 0)
abbrev T_size (k : Nat) : L3 := (20, k, 0)
abbrev T_next (k : Nat) : L3 := (21, k, 0)
abbrev B_o (k : Nat) : L3 := (22, k, 0)
abbrev B_bytes (k : Nat) : L3 := (23, k, 0)
abbrev B_marks (k : Nat) : L3 := (24, k, 0)
abbrev B_index (k : Nat) : L3 := (25, k, 0)
abbrev B_next (k : Nat) : L3 := (26, k, 0)
abbrev H_row (k : Nat) : L3 := (27, k, 0)
abbrev W_o (k : Nat) (j : Nat) : L3 := (28, k, j)
abbrev S_o (k : Nat) (j : Nat) : L3 := (29, k, j)
abbrev R_o (k : Nat) (j : Nat) : L3 := (30, k, j)
abbrev L_o (j : Nat) : L3 := (31, 0, j)
abbrev L_row (j : Nat) : L3 := (32, 0, j)
abbrev X_out : L3 := (33, 0, 0)
def blen (r : L3) : Nat := if r.1 = 5 then 2048 else 1200
def mxI (x y : Int32) : Int32 := if x < y then y else x
def mnI (x y : Int32) : Int32 := if y < x then y else x
def mxJ (x y : Int64) : Int64 := if y < x then x else y
def mnJ (x y : Int64) : Int64 := if y < x then y else x
def gM {β : Type} (o : Option Nat) (a : β) (b : Nat → β) : β := match o with
  | none => a
  | some j => b j
theorem gM_none {β : Type} {a : β} {b : Nat → β} {r : β} (h : gM none a b = r) : a = r := h
theorem gM_some {β : Type} {j : Nat} {a : β} {b : Nat → β} {r : β} (h : gM (some j) a b = r) : b j = r := h
def gYok (S : Mem) (src : L3) (sp : Int32) (ns : Nat) (dp : Int32) (nd : Nat) (n : Int32) : Bool := !decide (sp < 0) && !decide (dp < 0) && !decide (n < 0) && decide (sp.toNatClampNeg + n.toNatClampNeg ≤ ns) && decide (dp.toNatClampNeg + n.toNatClampNeg ≤ nd) && (List.range n.toNatClampNeg).all (fun i => fits .byte (.int (S.1 src (sp.toNatClampNeg + i))))
def cpI (S : Mem) (src dst : L3) (sp dp n : Nat) : Mem := (fun r f => if r = dst then va_cpy (S.1 src) (S.1 dst) sp dp n f else S.1 r f, S.2)
def gY {α : Type} (S : Mem) (src : L3) (sp : Int32) (ns : Nat) (dst : L3) (dp : Int32) (nd : Nat) (n : Int32) (F : Mem → Option α) : Option α := if gYok S src sp ns dp nd n = true then F (cpI S src dst sp.toNatClampNeg dp.toNatClampNeg n.toNatClampNeg) else none
def gX {α β : Type} (x : Nat ⊕ α) (k : α → Option (Nat ⊕ β)) : Option (Nat ⊕ β) := match x with
  | .inl c => some (.inl c)
  | .inr v => k v
theorem gX_inr {α β : Type} {v : α} {k : α → Option (Nat ⊕ β)} {r : Option (Nat ⊕ β)} (h : gX (.inr v) k = r) : k v = r := h
theorem gX_inl {α β : Type} {c : Nat} {k : α → Option (Nat ⊕ β)} {r : Nat ⊕ β} (h : gX (.inl c) k = some r) : r = .inl c := (Option.some.inj h).symm
