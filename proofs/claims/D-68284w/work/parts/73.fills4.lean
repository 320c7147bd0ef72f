section FI4
variable {A B : AM} {E : L3 → Bool} {k j n b m : Nat} {room : Int}
def lft (j b : Nat) (room : Int) : Int := room - 1 - sz j - (if b = 0 then 0 else sz b)
theorem c_fills_149 (hr : 1 ≤ room ∧ room ≤ 1200) {ag many e : Int} : g_X2_fills_149 k B j j room ag b many e = if (mst (lft j b room) < (if e = 0 then 1 else 0)) ∨ (many = 0 ∧ e = 0) then some (B, 0) else g_X2_fills_230 k B j j ag b many (mst (lft j b room)) := by
  have s1 := sz_le j
  have s2 := sz_le b
  have e215 : ∀ y0 : Int, g_X2_fills_215 k B j j ag b many e (mst (lft j b room)) y0 (mst (lft j b room)) = if (mst (lft j b room) < y0) ∨ (many = 0 ∧ e = 0) then some (B, 0) else g_X2_fills_230 k B j j ag b many (mst (lft j b room)) := by
    intro y0
    unfold g_X2_fills_215
    by_cases q1 : mst (lft j b room) < y0
    · rw [if_pos q1, if_pos (Or.inl q1)]
    · rw [if_neg q1]
      by_cases q2 : many = 0
      · rw [if_neg (fun z => z q2)]
        by_cases q3 : e = 0
        · rw [if_neg (fun z => z q3), if_pos (Or.inr ⟨q2, q3⟩)]
        · rw [if_pos q3, if_neg (fun z => by rcases z with z | z; exact q1 z; exact q3 z.2)]
      · rw [if_pos q2, if_neg (fun z => by rcases z with z | z; exact q1 z; exact q2 z.1)]
  have e201 : g_X2_fills_201 k B j j ag b many e (mst (lft j b room)) = if (mst (lft j b room) < (if e = 0 then 1 else 0)) ∨ (many = 0 ∧ e = 0) then some (B, 0) else g_X2_fills_230 k B j j ag b many (mst (lft j b room)) := by
    unfold g_X2_fills_201
    rw [e215, e215]
    by_cases q : e = 0
    · rw [if_pos q, if_pos q]
    · rw [if_neg q, if_neg q]
  have e175 : ∀ y0 y1 : Int, y1 - y0 = lft j b room → g_X2_fills_175 k B j j ag b many e y0 y1 = g_X2_fills_201 k B j j ag b many e (mst (lft j b room)) := by
    intro y0 y1 hy
    have hl : -100 ≤ lft j b room ∧ lft j b room ≤ 1200 := by unfold lft; split <;> omega
    unfold g_X2_fills_175
    rw [hy, c32_ok (by omega) (by omega), c32_ok (by omega) (by omega), c32_ok (by omega) (by omega)]
    unfold mst
    by_cases q : 66 ≤ lft j b room
    · rw [if_pos q, if_pos q]
    · rw [if_neg q, if_neg q]
  unfold g_X2_fills_149
  rw [c_sizeOf, bd_v, c_sizeOf, bd_v, c32_ok (by omega) (by omega), c32_ok (by omega) (by omega)]
  by_cases q : b = 0
  · rw [if_neg (fun z => z (by omega)), e175 _ _ (by unfold lft; rw [if_pos q]), e201]
  · rw [if_pos (by omega), e175 _ _ (by unfold lft; rw [if_neg q]), e201]
theorem fsS_lft (hr : room ≤ 1200) {i : Nat} : fsS j b ((i : Int) + 1) ≤ room ↔ (i : Int) + 1 ≤ mst (lft j b room) := by
  have s1 := sz_le j
  have s2 := sz_le b
  have hl : lft j b room ≤ 1200 := by unfold lft; split <;> omega
  rw [← mst_ok hl]
  unfold fsS lft
  by_cases q : b = 0
  · rw [if_pos q, if_pos (by omega)]; omega
  · rw [if_neg q, if_neg (by omega)]; omega
theorem fsS_lft0 (hr : room ≤ 1200) : fsS j b 0 ≤ room ↔ 0 ≤ mst (lft j b room) := by
  have s1 := sz_le j
  have s2 := sz_le b
  have z0 : sz 0 = 1 := rfl
  have e : (0 ≤ mst (lft j b room)) ↔ 1 ≤ lft j b room := by
    unfold mst mnZ
    split
    · omega
    · split <;> omega
  rw [e]
  unfold fsS lft
  by_cases q : b = 0
  · rw [if_pos q, if_pos (by omega)]; omega
  · rw [if_neg q, if_neg (by omega)]; omega
end FI4
