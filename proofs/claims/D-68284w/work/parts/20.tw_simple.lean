/-! THE TWIN, run: its plain functions -/
def ow (j : Nat) : Bool := j / 2 % 2 == 1
def own (k j : Nat) : Bool := j % 2 == k
def hs (k j : Nat) : Bool := !ow j || own k j
def hr (k j : Nat) : Bool := !ow j || !own k j
def b2i (b : Bool) : Int := if b then 1 else 0
theorem b2i_01 (b : Bool) : b2i b = 0 ∨ b2i b = 1 := by cases b <;> simp [b2i]
theorem b2i_0 {b : Bool} : b2i b = 0 ↔ b = false := by cases b <;> simp [b2i]
theorem t_fails {A : AM} {b c : Int} (h : b = 0 ∨ b = 1) : g_X8_fails A b c = some (uA A M_o 0 (if b = 0 then 0 else c), b) := by
  unfold g_X8_fails g_X8_fails_10
  rcases h with rfl | rfl
  · simp only [gS_v, hB_ok (Or.inl rfl), if_true]
  · rw [if_neg (by decide)]
    simp only [gS_v, hB_ok (Or.inr rfl)]
    rfl
theorem t_noSide {z : Int} : g_X8_noSide z = some (if 0 ≤ z ∧ z ≤ 1 then 0 else 1) := by
  unfold g_X8_noSide g_X8_noSide_9
  split
  · rw [if_neg (by omega)]
  · split
    · rw [if_pos (by omega)]
    · rw [if_neg (by omega)]
theorem t_at {k j : Nat} (hk : k < 2) (hj : j < 256) : g_X8_at k j = some (256 * (k : Int) + j) := by
  unfold g_X8_at
  rw [c32_ok (by omega) (by omega)]
theorem t_wayOf {j : Nat} (hj : (j : Int) < 4611686018427387904) : g_X8_wayOf j = some (b2i (ow j)) := by
  unfold g_X8_wayOf
  simp (disch := omega) only [hA_ok]
  rw [show (2 : Int) ^ (1 : Int).toNat = 2 from rfl]
  have e : (j : Int) / 2 % 2 = b2i (ow j) := by
    unfold b2i ow
    by_cases h : j / 2 % 2 = 1
    · simp only [h]; simp; omega
    · rw [if_neg (by simpa using h)]; omega
  rw [e, c32_ok (by have := b2i_01 (ow j); omega) (by have := b2i_01 (ow j); omega)]
theorem t_opens {k j : Nat} (hk : k < 2) (hj : (j : Int) < 4611686018427387904) : g_X8_opens k j = some (b2i (own k j)) := by
  unfold g_X8_opens
  rw [c64_ok (by omega) (by omega)]
  unfold b2i own
  by_cases h : j % 2 = k
  · rw [if_neg (by omega), if_pos (by simpa using h)]
  · rw [if_pos (by omega), if_neg (by simpa using h)]
theorem t_sends {k j : Nat} (hk : k < 2) (hj : (j : Int) < 4611686018427387904) : g_X8_sends k j = some (b2i (hs k j)) := by
  unfold g_X8_sends g_X8_sends_15
  rw [t_wayOf hj, bd_v, t_opens hk hj, bd_v]
  unfold hs b2i
  cases ow j <;> cases own k j <;> rfl
theorem t_receives {k j : Nat} (hk : k < 2) (hj : (j : Int) < 4611686018427387904) : g_X8_receives k j = some (b2i (hr k j)) := by
  unfold g_X8_receives g_X8_receives_15
  rw [t_wayOf hj, bd_v, t_opens hk hj, bd_v]
  unfold hr b2i
  cases ow j <;> cases own k j <;> rfl
theorem t_isThere {A : AM} {k : Nat} (hk : k < 2) {z : Int} : g_X8_isThere A k z = some (if 0 ≤ z ∧ z < 256 ∧ A M_there (256 * k + z.toNat) ≠ 0 then 1 else 0) := by
  unfold g_X8_isThere
  by_cases h : z < 0
  · rw [if_pos h, if_neg (by omega)]
  · rw [if_neg h]
    by_cases h2 : 256 ≤ z
    · rw [if_pos h2, if_neg (by omega)]
    · rw [if_neg h2]
      obtain ⟨j, rfl⟩ : ∃ j : Nat, z = j := ⟨z.toNat, by omega⟩
      rw [t_at hk (by omega), bd_v, hA_ok (by omega) (by omega), tk_at, tkN]
      by_cases h3 : A M_there (256 * k + j) = 0
      · rw [if_pos h3, if_neg (by omega)]
      · rw [if_neg h3, if_pos (by omega)]
theorem t_hasSending {A : AM} {k : Nat} (hk : k < 2) {z : Int} : g_X8_hasSending A k z = some (if 0 ≤ z ∧ z < 256 ∧ A M_there (256 * k + z.toNat) ≠ 0 ∧ hs k z.toNat = true then 1 else 0) := by
  unfold g_X8_hasSending
  rw [t_isThere hk, bd_v]
  by_cases h : 0 ≤ z ∧ z < 256 ∧ A M_there (256 * k + z.toNat) ≠ 0
  · obtain ⟨j, rfl⟩ : ∃ j : Nat, z = j := ⟨z.toNat, by omega⟩
    rw [if_pos h, if_neg (by decide), t_sends hk (by omega), bd_v]
    rw [tkN] at h ⊢
    cases hq : hs k j <;> simp [b2i, h]
  · rw [if_neg h, if_pos rfl, if_neg (fun q => h ⟨q.1, q.2.1, q.2.2.1⟩)]
theorem t_hasReceiving {A : AM} {k : Nat} (hk : k < 2) {z : Int} : g_X8_hasReceiving A k z = some (if 0 ≤ z ∧ z < 256 ∧ A M_there (256 * k + z.toNat) ≠ 0 ∧ hr k z.toNat = true then 1 else 0) := by
  unfold g_X8_hasReceiving
  rw [t_isThere hk, bd_v]
  by_cases h : 0 ≤ z ∧ z < 256 ∧ A M_there (256 * k + z.toNat) ≠ 0
  · obtain ⟨j, rfl⟩ : ∃ j : Nat, z = j := ⟨z.toNat, by omega⟩
    rw [if_pos h, if_neg (by decide), t_receives hk (by omega), bd_v]
    rw [tkN] at h ⊢
    cases hq : hr k j <;> simp [b2i, h]
  · rw [if_neg h, if_pos rfl, if_neg (fun q => h ⟨q.1, q.2.1, q.2.2.1⟩)]
/-- the grant of a side for a stream, and its place among the grants -/
def gi (k j : Nat) : Nat := if ow j then 7 else if own k j then 5 else 6
theorem gi_le (k j : Nat) : 5 ≤ gi k j ∧ gi k j ≤ 7 := by unfold gi; split <;> (try split) <;> omega
theorem t_grantOf {A : AM} {k j : Nat} (hk : k < 2) (hj : (j : Int) < 4611686018427387904) : g_X8_grantOf A k j = some (A M_grants (16 * k + gi k j)) := by
  unfold g_X8_grantOf g_X8_grantOf_37
  rw [t_wayOf hj, bd_v, t_opens hk hj, bd_v]
  unfold gi b2i
  cases ow j <;> cases own k j <;> (simp (disch := omega) only [c32_ok, hA_ok]; simp; congr 2 <;> omega)
theorem t_limitOf {A : AM} {k j : Nat} (hk : k < 2) (hj : (j : Int) < 4611686018427387904) : g_X8_limitOf A k j = some (A M_grants (16 * (1 - k) + gi (1 - k) j)) := by
  unfold g_X8_limitOf
  rw [c32_ok (by omega) (by omega), show (1 : Int) - (k : Int) = ((1 - k : Nat) : Int) by omega, t_grantOf (by omega) hj, bd_v]
/-- a stream is there -/
def aBegin (A : AM) (k j : Nat) : AM := uA (uA (uA A M_there (256 * k + j) 1) M_grant (256 * k + j) (A M_grants (16 * k + gi k j))) M_limit (256 * k + j) (A M_grants (16 * (1 - k) + gi (1 - k) j))
theorem t_begin {A : AM} {k j : Nat} (hk : k < 2) (hj : j < 256) : g_X8_begin A k j = some (aBegin A k j) := by
  unfold g_X8_begin
  simp (disch := omega) only [t_at, bd_v, gS_v, hA_ok, tk_at, t_grantOf, t_limitOf]
  rfl
