/-! THE TWIN: grants that grow, streams that are over, reading -/
section TWG
variable {A : AM} {k j : Nat}
/-- what a grant grows to, if it does -/
def nx (sum : Int) : Int := if 65536 ≤ sum then 65536 else sum
theorem t_grows {x0 x2 x4 : Int} (h0 : 0 ≤ x0 ∧ x0 ≤ 40000000) (h2 : 0 ≤ x2 ∧ x2 ≤ 65536) : g_X8_grows x0 x2 x4 = some (if x4 ≤ 2 * (x0 - x2) ∧ x2 < x0 then 1 else 0) := by
  unfold g_X8_grows
  rw [c64_ok (by omega) (by omega)]
  by_cases h1 : 2 * (x0 - x2) < x4
  · rw [if_pos h1, if_neg (by omega)]
  · rw [if_neg h1]
    by_cases h3 : x0 ≤ x2
    · rw [if_pos h3, if_neg (by omega)]
    · rw [if_neg h3, if_pos (by omega)]
def aGrowD (A : AM) (k : Nat) : AM := if A M_grants (16 * k + 4) ≤ 2 * (sco A k + A M_grants (16 * k + 4) - A M_dataGrant k) ∧ A M_dataGrant k < sco A k + A M_grants (16 * k + 4) ∧ A M_dataGrant k < nx (sco A k + A M_grants (16 * k + 4)) then uA (uA A M_dataGrant k (nx (sco A k + A M_grants (16 * k + 4)))) M_tellData k 1 else A
theorem t_growData (h : TB A) (hk : k < 2) : g_X8_growData A k = some (aGrowD A k) := by
  unfold g_X8_growData
  have hc := sumTo_bd (f := co A k) (n := 256) (b := 65536) (fun q hq => h.cob hk q hq)
  have hg := h.gra k 4 hk (by omega) (by omega)
  have hd := h.dgr k hk
  have hs : sco A k = sumTo (co A k) 256 := rfl
  rw [hA_ok (by omega) (by omega), h.cns hk, bd_v, hA_ok (by omega) (by omega), tkN, show (16 * (k : Int) + 4).toNat = 16 * k + 4 by omega, c64_ok (by omega) (by omega), t_grows (by omega) (by omega), bd_v]
  have e : ∀ y, g_X8_growData_55 A k y = some (if A M_dataGrant k < y then uA (uA A M_dataGrant k y) M_tellData k 1 else A) := by
    intro y
    unfold g_X8_growData_55
    simp (disch := omega) only [hA_ok, gS_v, tkN]
    split <;> rfl
  rw [e, e]
  unfold aGrowD nx
  by_cases h1 : A M_grants (16 * k + 4) ≤ 2 * (sco A k + A M_grants (16 * k + 4) - A M_dataGrant k) ∧ A M_dataGrant k < sco A k + A M_grants (16 * k + 4)
  · rw [if_pos h1, if_pos (by decide)]
    by_cases h2 : 65536 ≤ sco A k + A M_grants (16 * k + 4)
    · rw [if_pos h2, if_pos h2]
      by_cases h3 : A M_dataGrant k < 65536
      · rw [if_pos h3, if_pos ⟨h1.1, h1.2, h3⟩]
      · rw [if_neg h3, if_neg (fun q => h3 q.2.2)]
    · rw [if_neg h2, if_neg h2, if_pos h1.2, if_pos ⟨h1.1, h1.2, h1.2⟩]
  · rw [if_neg h1, if_neg (by decide), if_neg (fun q => h1 ⟨q.1, q.2.1⟩)]
def aGrowS (A : AM) (k j : Nat) : AM := if A M_grants (16 * k + gi k j) ≤ 2 * (A M_read (256 * k + j) + A M_grants (16 * k + gi k j) - A M_grant (256 * k + j)) ∧ A M_grant (256 * k + j) < A M_read (256 * k + j) + A M_grants (16 * k + gi k j) ∧ A M_grant (256 * k + j) < nx (A M_read (256 * k + j) + A M_grants (16 * k + gi k j)) then uA (uA A M_grant (256 * k + j) (nx (A M_read (256 * k + j) + A M_grants (16 * k + gi k j)))) M_tellGrant (256 * k + j) 1 else A
theorem t_growStream (h : TB A) (hk : k < 2) (hj : j < 256) : g_X8_growStream A k j = some (aGrowS A k j) := by
  unfold g_X8_growStream
  have hgi := gi_le k j
  have hg := h.gra k (gi k j) hk (by omega) (by omega)
  have hd := h.grs k j hk hj
  have hr := h.rds k j hk hj
  rw [t_at hk hj, bd_v, t_grantOf hk (by omega), bd_v, hA_ok (by omega) (by omega), hA_ok (by omega) (by omega), tk_at, c64_ok (by omega) (by omega), t_grows (by omega) (by omega), bd_v]
  have e : ∀ y, g_X8_growStream_60 A (256 * (k : Int) + j) y = some (if A M_grant (256 * k + j) < y then uA (uA A M_grant (256 * k + j) y) M_tellGrant (256 * k + j) 1 else A) := by
    intro y
    unfold g_X8_growStream_60
    simp (disch := omega) only [hA_ok, gS_v, tk_at]
    split <;> rfl
  rw [e, e]
  unfold aGrowS nx
  by_cases h1 : A M_grants (16 * k + gi k j) ≤ 2 * (A M_read (256 * k + j) + A M_grants (16 * k + gi k j) - A M_grant (256 * k + j)) ∧ A M_grant (256 * k + j) < A M_read (256 * k + j) + A M_grants (16 * k + gi k j)
  · rw [if_pos h1, if_pos (by decide)]
    by_cases h2 : 65536 ≤ A M_read (256 * k + j) + A M_grants (16 * k + gi k j)
    · rw [if_pos h2, if_pos h2]
      by_cases h3 : A M_grant (256 * k + j) < 65536
      · rw [if_pos h3, if_pos ⟨h1.1, h1.2, h3⟩]
      · rw [if_neg h3, if_neg (fun q => h3 q.2.2)]
    · rw [if_neg h2, if_neg h2, if_pos h1.2, if_pos ⟨h1.1, h1.2, h1.2⟩]
  · rw [if_neg h1, if_neg (by decide), if_neg (fun q => h1 ⟨q.1, q.2.1⟩)]
/-- the way of a stream, as a number -/
def wy (j : Nat) : Nat := j / 2 % 2
theorem wy_b2i (j : Nat) : b2i (ow j) = (wy j : Int) := by
  unfold b2i ow wy
  by_cases h : j / 2 % 2 = 1
  · simp [h]
  · rw [if_neg (by simpa using h)]; omega
/-- both parts of a stream are over -/
def ovr (A : AM) (k j : Nat) : Bool := (!hr k j || decide (2 < rst A k j)) && (!hs k j || decide (sst A k j = 2) || decide (sst A k j = 4))
def aOv1 (A : AM) (k j : Nat) : AM := if A M_granted (2 * k + wy j) ≠ 64 then uA (uA (uA A M_over (256 * k + j) 1) M_granted (2 * k + wy j) (A M_granted (2 * k + wy j) + 1)) M_tellStreams (2 * k + wy j) 1 else uA A M_over (256 * k + j) 1
def aOver (A : AM) (k j : Nat) : AM := if own k j = true ∨ A M_over (256 * k + j) ≠ 0 ∨ A M_there (256 * k + j) = 0 ∨ ovr A k j = false then A else aOv1 A k j
theorem t_looksOver (h : TB A) (hk : k < 2) (hj : j < 256) : g_X8_looksOver A k j = some (aOver A k j) := by
  have hw : wy j < 2 := by unfold wy; omega
  have hg := h.grt (2 * k + wy j) (by omega)
  have e94 : ∀ a b : Bool, g_X8_looksOver_94 A k j (256 * (k : Int) + j) (b2i a) (b2i b) = some (if a && b then aOv1 A k j else A) := by
    intro a b
    unfold g_X8_looksOver_94 aOv1
    have e1 : (uA A M_over (256 * k + j) 1) M_granted (2 * k + wy j) = A M_granted (2 * k + wy j) := rfl
    simp (disch := omega) only [hA_ok, gS_v, tk_at, t_wayOf, bd_v, wy_b2i, tk_2]
    rw [e1, c32_ok (by omega) (by omega)]
    cases a <;> cases b <;> simp [b2i]
    split <;> rfl
  have e58 : ∀ a : Bool, g_X8_looksOver_58 A k j (256 * (k : Int) + j) (b2i a) = some (if a && (!hs k j || decide (sst A k j = 2) || decide (sst A k j = 4)) then aOv1 A k j else A) := by
    intro a
    unfold g_X8_looksOver_58 g_X8_looksOver_89
    rw [t_sends hk (by omega), bd_v, h.snd hk hj, bd_v, bd_v]
    have f1 := e94 a true
    have f0 := e94 a false
    rw [show b2i true = 1 from rfl] at f1
    rw [show b2i false = 0 from rfl] at f0
    rw [f1, f0]
    cases hq : hs k j
    · rw [if_pos (by rfl)]; simp
    · rw [if_neg (by decide)]
      by_cases q2 : sst A k j = 2
      · rw [if_pos q2]; simp [q2]
      · rw [if_neg q2]
        by_cases q4 : sst A k j = 4
        · rw [if_neg (fun z => z q4)]; simp [q4]
        · rw [if_pos q4]; simp [q2, q4]
  unfold g_X8_looksOver g_X8_looksOver_53
  have g1 := e58 true
  have g0 := e58 false
  rw [show b2i true = 1 from rfl] at g1
  rw [show b2i false = 0 from rfl] at g0
  simp (disch := omega) only [t_at, bd_v, t_opens, hA_ok, tk_at, t_receives, h.rcv hk hj, g1, g0]
  unfold aOver ovr
  cases ho : own k j
  · rw [if_neg (by decide)]
    by_cases q1 : A M_over (256 * k + j) = 0
    · rw [if_neg (fun z => z q1)]
      by_cases q2 : A M_there (256 * k + j) = 0
      · rw [if_neg (fun z => z q2), if_pos (by simp [q2])]
      · rw [if_pos q2]
        cases hq : hr k j
        · rw [if_pos (by rfl)]
          cases hz : (!hs k j || decide (sst A k j = 2) || decide (sst A k j = 4)) <;> simp [q1, q2]
        · rw [if_neg (by decide)]
          by_cases q3 : rst A k j ≤ 2
          · have q5 : ¬ 2 < rst A k j := by omega
            rw [if_pos q3]; simp [q5]
          · rw [if_neg q3]
            have q5 : 2 < rst A k j := by omega
            cases hz : (!hs k j || decide (sst A k j = 2) || decide (sst A k j = 4)) <;> simp [q1, q2, q5]
    · rw [if_pos q1, if_pos (Or.inr (Or.inl q1))]
  · rw [if_pos (by decide), if_pos (Or.inl rfl)]
end TWG
