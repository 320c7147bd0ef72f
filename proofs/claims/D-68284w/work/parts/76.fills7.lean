section FI7
variable {A A' B B' : AM} {E : L3 → Bool} {k j n b m : Nat} {room : Int}
/-- what filling answers, on both sides -/
def FC (n : Nat) (E : L3 → Bool) (B : AM) (k : Nat) (o : Option (AM × Int)) (x : Option AM) : Prop := match x with
  | some A' => ∃ B', o = some (B', 1) ∧ FR n E A' B' k
  | none => o = some (B, 0)
theorem xB_f8 {st most : Int} : xB A k j b st most room = if rl A k j b st most room ≠ 0 then some (aF8 A k j b (rl A k j b st most room)) else none := rfl
theorem c_fillsL (h : Rel Any n E A B) (hk : k < 2) (hj : j < 256) (hE : E (S_o k j) = true) (hs : sst A k j < 2) (hr : 1 ≤ room ∧ room ≤ 1200) {p : Nat} {t : Nat} (h6 : B (S_o k j) 6 = p) (p64 : p < 64) (eb : B (P_from k) p = b) (et : B (P_to k) p = t) (hbt : b < t) (htw : t ≤ wl A k j) (hin : ∀ o, b ≤ o → o < t → mkA A k j o = 2) (hout : t < wl A k j → mkA A k j t ≠ 2) : FC n E B k (g_X2_fills k B j j room) (xB A k j b 2 65536 room) := by
  have hw := wl_le (j := j) (h.tb.tot k hk)
  have e0 : g_X2_fills k B j j room = g_X2_fills_149 k B j j room 1 b ((t : Int) - b) 0 := by
    unfold g_X2_fills g_X2_fills_13 g_X2_fills_39 g_X2_fills_110 g_X2_fills_148
    rw [h6, if_neg (by omega), if_neg (by decide), hA_ok (by omega) (by omega), tkN, eb, if_neg (by decide), hA_ok (by omega) (by omega), et, c32_ok (by omega) (by omega), if_pos (by omega)]
  rw [e0, c_fills_149 hr, xB_f8, if_pos rfl]
  by_cases q : mst (lft j b room) < 1
  · have r0 : rl A k j b 2 65536 room = 0 := by
      refine rl_is hr.2 (fun i hi => by omega) ?_
      unfold Gd
      have := fsS_lft (j := j) (b := b) (room := room) hr.2 (i := 0)
      rw [decide_eq_false (show ¬ (fsS j b (((0 : Nat) : Int) + 1) ≤ room) from fun z => by have := this.1 z; omega)]
      simp
    rw [if_pos (Or.inl q), r0, if_neg (fun z => z rfl)]
    rfl
  · obtain ⟨R, eR⟩ : ∃ R : Nat, mnZ ((t : Int) - b) (mst (lft j b room)) = R := ⟨(mnZ ((t : Int) - b) (mst (lft j b room))).toNat, by unfold mnZ; split <;> omega⟩
    have r1 : 1 ≤ R := by unfold mnZ at eR; split at eR <;> omega
    have r2 : b + R ≤ t := by unfold mnZ at eR; split at eR <;> omega
    have r3 : (R : Int) ≤ mst (lft j b room) := by unfold mnZ at eR; split at eR <;> omega
    have r4 : b + R = t ∨ (R : Int) = mst (lft j b room) := by unfold mnZ at eR; split at eR <;> omega
    have rr : rl A k j b 2 65536 room = R := by
      refine rl_is hr.2 (fun i hi => ?_) ?_
      · unfold Gd
        rw [decide_eq_true (show (i : Int) < 65536 by omega), decide_eq_true (show b + i < wl A k j by omega), decide_eq_true (hin (b + i) (by omega) (by omega)), decide_eq_true ((fsS_lft hr.2).2 (by omega))]
        rfl
      · unfold Gd
        rcases r4 with z | z
        · by_cases y : t < wl A k j
          · rw [decide_eq_false (show ¬ (mkA A k j (b + R) = 2) by rw [z]; exact hout y)]; simp
          · rw [decide_eq_false (show ¬ (b + R < wl A k j) by omega)]; simp
        · rw [decide_eq_false (show ¬ (fsS j b ((R : Int) + 1) ≤ room) from fun y => by have := (fsS_lft hr.2).1 y; omega)]; simp
    have lm : lft j b room ≤ 1200 := by have := sz_le j; have := sz_le b; unfold lft; split <;> omega
    have R1200 : R ≤ 1200 := by
      have : mst (lft j b room) ≤ 1200 := by unfold mst mnZ; split; omega; split <;> omega
      omega
    rw [if_neg (fun z => by rcases z with z | z; exact q z; omega), rr, if_pos (by omega)]
    have hl6 : (B (S_o k j) 6).toNat = p := by omega
    refine ⟨_, c_fills_230 h hk hj hE eR R1200 (by omega) ⟨fun z => by omega, fun z => by omega⟩ (fun _ => by rw [hl6, eb, et]; exact ⟨rfl, by omega, by omega⟩), ?_⟩
    exact FR.f8 h hk hj hs (h.f8 hk hj hE hs (by omega) (Or.inl ⟨by omega, by rw [hl6, eb, et]; exact ⟨rfl, by omega, by omega⟩, fun o h1 h2 => hin o h1 (by omega)⟩))
end FI7
