/-! THE COMPONENT, run: its plain functions -/
theorem c_in {x a b : Int} : g_X1_in x a b = some (b2i (decide (a ≤ x ∧ x ≤ b))) := by
  unfold g_X1_in
  by_cases h1 : x < a
  · rw [if_pos h1]; simp [b2i]; omega
  · rw [if_neg h1]
    by_cases h2 : b < x
    · rw [if_pos h2]; simp [b2i]; omega
    · rw [if_neg h2]; simp [b2i]; omega
theorem c_in1 {x a b : Int} (h : a ≤ x ∧ x ≤ b) : g_X1_in x a b = some 1 := by rw [c_in]; simp [h, b2i]
theorem c_in0 {x a b : Int} (h : ¬ (a ≤ x ∧ x ≤ b)) : g_X1_in x a b = some 0 := by rw [c_in]; simp [h, b2i]
theorem c_sizeOf {v : Int} : g_X1_sizeOf v = some (sz v) := by
  unfold g_X1_sizeOf sz
  split <;> (try split) <;> (try split) <;> rfl
theorem c_need1 : g_X1_need 1 = some (.inr ()) := rfl
theorem c_need0 : g_X1_need 0 = some (.inl 1) := rfl
theorem c_ready1 : g_X1_ready 1 = some (.inr ()) := rfl
theorem c_ready0 : g_X1_ready 0 = some (.inl 2) := rfl
theorem c_there1 : g_X1_there 1 = some (.inr ()) := rfl
theorem c_there0 : g_X1_there 0 = some (.inl 3) := rfl
section CMS
variable {A B : AM} {E : L3 → Bool} {k j : Nat}
theorem c_hall {z : Int} (h : 0 ≤ z ∧ z ≤ 1) : g_X1_hall B z = some (.inr z.toNat) := by
  unfold g_X1_hall
  rw [c_in1 h, bd_v, c_need1, bd_v, gX_r, hA_ok (by omega) (by omega)]
theorem c_hallN (hk : k < 2) : g_X1_hall B k = some (.inr k) := by rw [c_hall (by omega), tkN]
theorem c_hall_bad {z : Int} (h : ¬ (0 ≤ z ∧ z ≤ 1)) : g_X1_hall B z = some (.inl 1) := by
  unfold g_X1_hall
  rw [c_in0 h, bd_v, c_need0, bd_v, gX_l]
theorem c_at {p : Nat} (hp : p < 64) (h : B (L_o p) 0 ≠ 0) : g_X1_at B p = some (.inr p) := by
  unfold g_X1_at g_X1_at_29
  rw [c_in1 (by omega), bd_v, if_neg (by decide), hA_ok (by omega) (by omega), tkN, if_neg h, c_there1, bd_v, gX_r, hA_ok (by omega) (by omega)]
theorem c_at_bad {z : Int} (h : ¬ (0 ≤ z ∧ z ≤ 63 ∧ B (L_o z.toNat) 0 ≠ 0)) : g_X1_at B z = some (.inl 3) := by
  unfold g_X1_at g_X1_at_28 g_X1_at_29
  by_cases q : 0 ≤ z ∧ z ≤ 63
  · rw [c_in1 q, bd_v, if_neg (by decide), hA_ok (by omega) (by omega), if_pos]
    · rw [c_there0, bd_v, gX_l]
    · by_cases e : B (L_o z.toNat) 0 = 0
      · exact e
      · exact absurd ⟨q.1, q.2, e⟩ h
  · rw [c_in0 q, bd_v, if_pos rfl, c_there0, bd_v, gX_l]
theorem c_isOneWay {a : Nat} (ha : (a : Int) < 4611686018427387904) : g_X2_isOneWay a = some (b2i (ow a)) := by
  unfold g_X2_isOneWay
  rw [hA_ok (by omega) (by omega), hA_ok (by omega) (by omega), c64_ok (by omega) (by omega)]
  unfold b2i ow
  by_cases h : a / 2 % 2 = 1
  · rw [if_neg (by omega), if_pos (by simpa using h)]
  · rw [if_pos (by omega), if_neg (by simpa using h)]
theorem c_isOwn (hB : B (H_o k) 0 = k) (hk : k < 2) {a : Nat} (ha : (a : Int) < 4611686018427387904) : g_X2_isOwn k B a = some (b2i (own k a)) := by
  unfold g_X2_isOwn
  rw [hA_ok (by omega) (by omega), c64_ok (by omega) (by omega), hB]
  unfold b2i own
  by_cases h : a % 2 = k
  · rw [if_neg (by omega), if_pos (by simpa using h)]
  · rw [if_pos (by omega), if_neg (by simpa using h)]
/-- which of the limits or grants is for a stream -/
def rul (k a : Nat) (s : Bool) : Nat := if ow a then 3 else if own k a = s then 2 else 1
theorem c_rule (hB : B (H_o k) 0 = k) (hk : k < 2) {a : Nat} (ha : (a : Int) < 4611686018427387904) (s : Bool) : g_X2_rule k B a (b2i s) = some (rul k a s : Int) := by
  unfold g_X2_rule rul
  rw [c_isOneWay ha, bd_v, c_isOwn hB hk ha, bd_v]
  cases ow a <;> cases own k a <;> cases s <;> rfl
theorem c_way {a : Nat} (ha : (a : Int) < 4611686018427387904) : g_X2_way k B a = some (wy a) := by
  unfold g_X2_way g_X2_way_16
  rw [c_isOneWay ha, bd_v]
  unfold ow wy
  by_cases h : a / 2 % 2 = 1
  · rw [h]; rfl
  · have : a / 2 % 2 = 0 := by omega
    rw [this]; rfl
theorem c_sendingN (hj : j < 256) (hE : E (S_o k j) = true) : g_X2_sending E k B j = some (some j) := by
  unfold g_X2_sending
  rw [if_neg (by omega), if_pos (by omega), hA_ok (by omega) (by omega), tkN, if_pos hE]
theorem c_sending_no {z : Int} (h : ¬ (0 ≤ z ∧ z < 256 ∧ E (S_o k z.toNat) = true)) : g_X2_sending E k B z = some none := by
  unfold g_X2_sending g_X2_sending_11
  by_cases q1 : z < 0
  · rw [if_pos q1]
  · rw [if_neg q1]
    by_cases q2 : z < 256
    · rw [if_pos q2, hA_ok (by omega) (by omega), if_neg (fun e => h ⟨by omega, q2, e⟩)]
    · rw [if_neg q2]
theorem c_receivingN (hj : j < 256) (hE : E (R_o k j) = true) : g_X2_receiving E k B j = some (some j) := by
  unfold g_X2_receiving
  rw [if_neg (by omega), if_pos (by omega), hA_ok (by omega) (by omega), tkN, if_pos hE]
theorem c_receiving_no {z : Int} (h : ¬ (0 ≤ z ∧ z < 256 ∧ E (R_o k z.toNat) = true)) : g_X2_receiving E k B z = some none := by
  unfold g_X2_receiving g_X2_receiving_11
  by_cases q1 : z < 0
  · rw [if_pos q1]
  · rw [if_neg q1]
    by_cases q2 : z < 256
    · rw [if_pos q2, hA_ok (by omega) (by omega), if_neg (fun e => h ⟨by omega, q2, e⟩)]
    · rw [if_neg q2]
theorem c_isLiveS : g_X9_isLive k j B = some (b2i (decide (B (S_o k j) 0 = 0 ∨ B (S_o k j) 0 = 1))) := by
  unfold g_X9_isLive g_X9_isLive_15
  by_cases h0 : B (S_o k j) 0 = 0
  · rw [if_pos h0]; simp [h0, b2i]
  · rw [if_neg h0]
    by_cases h1 : B (S_o k j) 0 = 1
    · rw [if_neg (fun z => z h1)]; simp [h1, b2i]
    · rw [if_pos h1]; simp [h0, h1, b2i]
theorem c_isLiveR : g_X10_isLive k j B = some (b2i (decide (B (R_o k j) 1 = 0 ∨ B (R_o k j) 1 = 1))) := by
  unfold g_X10_isLive g_X10_isLive_15
  by_cases h0 : B (R_o k j) 1 = 0
  · rw [if_pos h0]; simp [h0, b2i]
  · rw [if_neg h0]
    by_cases h1 : B (R_o k j) 1 = 1
    · rw [if_neg (fun z => z h1)]; simp [h1, b2i]
    · rw [if_pos h1]; simp [h0, h1, b2i]
theorem c_isOverS : g_X9_isOver k j B = some (b2i (decide (B (S_o k j) 0 = 2 ∨ B (S_o k j) 0 = 4))) := by
  unfold g_X9_isOver g_X9_isOver_16
  by_cases h0 : B (S_o k j) 0 = 2
  · rw [if_pos h0]; simp [h0, b2i]
  · rw [if_neg h0]
    by_cases h1 : B (S_o k j) 0 = 4
    · rw [if_neg (fun z => z h1)]; simp [h1, b2i]
    · rw [if_pos h1]; simp [h0, h1, b2i]
theorem c_isOverR : g_X10_isOver k j B = some (b2i (decide (B (R_o k j) 1 = 3 ∨ B (R_o k j) 1 = 4))) := by
  unfold g_X10_isOver g_X10_isOver_16
  by_cases h0 : B (R_o k j) 1 = 3
  · rw [if_pos h0]; simp [h0, b2i]
  · rw [if_neg h0]
    by_cases h1 : B (R_o k j) 1 = 4
    · rw [if_neg (fun z => z h1)]; simp [h1, b2i]
    · rw [if_pos h1]; simp [h0, h1, b2i]
/-- both parts are over, as the component has it -/
def covr (E : L3 → Bool) (B : AM) (k j : Nat) : Bool := (!E (S_o k j) || decide (B (S_o k j) 0 = 2 ∨ B (S_o k j) 0 = 4)) && (!E (R_o k j) || decide (B (R_o k j) 1 = 3 ∨ B (R_o k j) 1 = 4))
theorem c_isOver (hj : j < 256) : g_X2_isOver E k B j = some (b2i (covr E B k j)) := by
  have e21 : g_X2_isOver_21 E k B j = some (b2i (!E (R_o k j) || decide (B (R_o k j) 1 = 3 ∨ B (R_o k j) 1 = 4))) := by
    unfold g_X2_isOver_21 g_X2_isOver_42
    rw [hA_ok (by omega) (by omega), hA_ok (by omega) (by omega), tkN, c_isOverR, bd_v]
    cases hE : E (R_o k j)
    · rw [if_neg (by decide)]; rfl
    · rw [if_pos rfl, if_pos rfl]
      cases hd : decide (B (R_o k j) 1 = 3 ∨ B (R_o k j) 1 = 4) <;> rfl
  unfold g_X2_isOver covr
  rw [hA_ok (by omega) (by omega), hA_ok (by omega) (by omega), tkN, c_isOverS, bd_v, e21]
  cases hE : E (S_o k j)
  · rw [if_neg (by decide)]; rfl
  · rw [if_pos rfl, if_pos rfl]
    cases hd : decide (B (S_o k j) 0 = 2 ∨ B (S_o k j) 0 = 4)
    · rfl
    · simp [b2i]
/-- a stream of the other side has come to its end just now -/
def cMb1 (B : AM) (k w : Nat) : AM := uA (uA B (W_o k w) 6 (if B (W_o k w) 6 ≠ 0 ∨ B (W_o k w) 2 < 64 then 1 else 0)) (W_o k w) 2 (mnZ (B (W_o k w) 2 + 1) 64)
theorem c_mayBeOver (hB : B (H_o k) 0 = k) (hk : k < 2) (hj : j < 256) (hg : 0 ≤ B (W_o k (wy j)) 2 ∧ B (W_o k (wy j)) 2 ≤ 64) (was : Bool) : g_X2_mayBeOver E k B j (b2i was) = some (if was = false ∧ own k j = false ∧ covr E B k j = true then cMb1 B k (wy j) else B) := by
  have e51 : ∀ y, (y = 0 ∨ y = 1) → g_X2_mayBeOver_51 E k B (wy j) y (wy j) = some (uA (uA B (W_o k (wy j)) 6 y) (W_o k (wy j)) 2 (mnZ (B (W_o k (wy j)) 2 + 1) 64)) := by
    intro y hy
    unfold g_X2_mayBeOver_51
    have e2 : (uA B (W_o k (wy j)) 6 y) (W_o k (wy j)) 2 = B (W_o k (wy j)) 2 := by rw [uA_idx _ _ _ _ (by decide)]
    rw [hB_ok hy, gS_v, e2, c32_ok (by omega) (by omega), gS_v]
  unfold g_X2_mayBeOver g_X2_mayBeOver_46
  rw [c_isOwn hB hk (by omega), bd_v, c_isOver hj, bd_v, c_way (by omega), bd_v, e51 1 (Or.inr rfl), e51 0 (Or.inl rfl)]
  cases was
  · rw [if_neg (by decide)]
    cases ho : own k j
    · rw [if_neg (by decide)]
      cases hc : covr E B k j
      · rw [if_neg (by decide), if_neg (by decide)]
      · rw [if_pos (show b2i true ≠ 0 by decide), if_pos (show false = false ∧ false = false ∧ true = true from ⟨rfl, rfl, rfl⟩)]
        unfold cMb1
        by_cases q1 : B (W_o k (wy j)) 6 ≠ 0
        · rw [if_pos q1, if_pos (Or.inl q1)]
        · rw [if_neg q1]
          by_cases q2 : 64 ≤ B (W_o k (wy j)) 2
          · rw [if_pos q2, if_neg (by omega)]
          · rw [if_neg q2, if_pos (by omega)]
    · rw [if_pos (by decide), if_neg (fun z => by cases z.2.1)]
  · rw [if_pos (by decide), if_neg (fun z => by cases z.1)]
end CMS
