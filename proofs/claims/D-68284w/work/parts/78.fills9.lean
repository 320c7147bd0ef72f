section FI9
variable {A A' B B' : AM} {E : L3 → Bool} {k j n : Nat} {room : Int}
theorem c_fills (h : Rel Any n E A B) (hk : k < 2) (hj : j < 256) (hE : E (S_o k j) = true) (hs : sst A k j < 2) (hr : 1 ≤ room ∧ room ≤ 1200) : FC n E B k (g_X2_fills k B j j room) (xS A k j room) := by
  have e := (h.ex.sN hk hj).1 hE
  have op : opS A k j = true := by unfold opS; rw [decide_eq_true e.1, e.2, decide_eq_true hs]; rfl
  obtain ⟨ch, fl, sp⟩ := h.sp k hk
  have lk := sp.lnl j hj hE
  unfold xS
  rw [if_pos op]
  cases hc : ch (2 * j) with
  | nil =>
    rw [hc] at lk
    rw [sp.nolost hj hE hc]
    exact c_fillsN h hk hj hE hs hr lk
  | cons p l =>
    rw [hc] at lk
    have p64 : p < 64 := by have := sp.mem _ p (by rw [hc]; exact List.mem_cons_self); have := sp.mad; omega
    obtain ⟨b, t, g1, g2, g3, g4, g5, g6, g7⟩ := sp.first hj hE hc
    rw [g5]
    exact c_fillsL h hk hj hE hs hr lk.1 p64 g1 g2 g3 g4 g6 g7
/-- no frame of a stream that isn't open -/
theorem xS_no (h : ¬ (A M_there (256 * k + j) ≠ 0 ∧ hs k j = true ∧ sst A k j < 2)) : xS A k j room = none := by
  unfold xS
  rw [if_neg]
  intro z
  unfold opS at z
  simp only [Bool.and_eq_true, decide_eq_true_eq] at z
  exact h ⟨z.1.1, z.1.2, z.2⟩
end FI9
