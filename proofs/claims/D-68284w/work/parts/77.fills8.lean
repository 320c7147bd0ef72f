section FI8
variable {A A' B B' : AM} {E : L3 → Bool} {k j n b m : Nat} {room : Int}
theorem frN_48 {kd a b n : Int} : uA (frN A kd a b 0 n) M_o 48 1 = frN A kd a b 1 n := by
  unfold frN
  rw [uA_comm (r1 := M_o) (r2 := M_o) (f1 := 49) (f2 := 48) (Or.inr (by decide)), uA_uA]
theorem aF8_bare (hw : b = wl A k j) (he : isE A k j = true) : uA (frN A 8 j (wl A k j) 1 0) M_end (256 * k + j) 1 = aF8 A k j b 0 := by
  subst hw
  unfold isE at he
  simp only [Bool.and_eq_true, Bool.or_eq_true, decide_eq_true_eq] at he
  obtain ⟨e1, e2⟩ := aF8_fin (A := A) (k := k) (j := j) (b := wl A k j) (m := 0)
  unfold aF8 aFin
  rw [if_pos ⟨by omega, by rw [e1]; exact he.1⟩, e2, if_neg (by omega)]
  show _ = uA (uA (frN A 8 j (wl A k j) 0 0) M_o 48 1) M_end (256 * k + j) 1
  rw [frN_48]
theorem c_fillsN (h : Rel Any n E A B) (hk : k < 2) (hj : j < 256) (hE : E (S_o k j) = true) (hs : sst A k j < 2) (hr : 1 ≤ room ∧ room ≤ 1200) (h6 : B (S_o k j) 6 = -1) : FC n E B k (g_X2_fills k B j j room) (match fi A k j 0 with
    | some b => if alw A k j = 0 then none else xB A k j b 0 (alw A k j) room
    | none => if isE A k j = true ∧ fsS j (wl A k j) 0 ≤ room then some (uA (frN A 8 j (wl A k j) 1 0) M_end (256 * k + j) 1) else none) := by
  have hT := h.tb
  have t := h.ts k j hk hj
  have s := h.sd k j hk hj hE
  have hl := h.hl k hk
  have hw := wl_le (j := j) (hT.tot k hk)
  have hcn := cnt_le (A := A) (k := k) (j := j) (ht := hT.tot k hk)
  have snle : sn A k j ≤ wl A k j := List.countP_le_length
  have hlm := hT.lms (3 * k) (by omega)
  have hli := hT.lim k j hk hj
  have e03 := t.e03
  -- how many may go
  obtain ⟨mny, em⟩ : ∃ mny : Nat, mxZ (mnZ (wl A k j) (mnZ (A M_limit (256 * k + j)) ((sn A k j : Int) + A M_limits (3 * k) - sa A k)) - sn A k j) 0 = mny := ⟨(mxZ (mnZ (wl A k j) (mnZ (A M_limit (256 * k + j)) ((sn A k j : Int) + A M_limits (3 * k) - sa A k)) - sn A k j) 0).toNat, by unfold mxZ; split <;> omega⟩
  have ma : 0 ≤ alw A k j ∧ (mny : Int) ≤ alw A k j ∧ sn A k j + mny ≤ wl A k j ∧ ((mny : Int) = alw A k j ∨ sn A k j + mny = wl A k j) := by
    unfold alw
    unfold mxZ mnZ at em
    split at em <;> split at em <;> (try split at em) <;> split <;> split <;> omega
  have e110 : g_X2_fills k B j j room = g_X2_fills_149 k B j j room 0 (sn A k j) mny (if mny = 0 ∧ sn A k j = wl A k j ∧ isE A k j = true then 1 else 0) := by
    have mb : mnZ (wl A k j : Int) (mnZ (A M_limit (256 * k + j)) ((sn A k j : Int) + A M_limits (3 * k) - sa A k)) ≤ 65536 ∧ -65536 ≤ mnZ (wl A k j : Int) (mnZ (A M_limit (256 * k + j)) ((sn A k j : Int) + A M_limits (3 * k) - sa A k)) := by
      unfold mnZ
      split <;> (try split) <;> (try split) <;> omega
    unfold g_X2_fills g_X2_fills_13 g_X2_fills_39
    rw [h6, if_pos rfl, if_pos rfl, if_pos rfl, s.sen, s.wri, s.lim, hl.lal, hl.sal, c64_ok (by omega) (by omega), c64_ok (by omega) (by omega), em, c32_ok (by omega) (by omega)]
    unfold g_X2_fills_110 g_X2_fills_148 g_X2_fills_144
    rw [s.sen, s.wri, s.ende]
    by_cases q1 : mny = 0
    · rw [if_neg (fun z => z (by omega))]
      by_cases q2 : sn A k j = wl A k j
      · rw [if_neg (fun z => z (by omega))]
        unfold isE
        by_cases q3 : A M_finished (256 * k + j) ≠ 0
        · rw [if_pos q3]
          by_cases q4 : A M_end (256 * k + j) = 0
          · rw [if_pos (by omega), if_pos (show mny = 0 ∧ sn A k j = wl A k j ∧ _ from ⟨q1, q2, by simp [q3, q4]⟩)]
          · by_cases q5 : A M_end (256 * k + j) = 2
            · rw [if_neg (by omega), if_neg (fun z => z (by omega)), if_pos (show mny = 0 ∧ sn A k j = wl A k j ∧ _ from ⟨q1, q2, by simp [q3, q5]⟩)]
            · rw [if_neg (by omega), if_pos (by omega), if_neg (fun z => by have := z.2.2; simp [q4, q5] at this)]
        · rw [if_neg q3, if_neg (by decide), if_pos (by decide), if_neg (fun z => by have := z.2.2; simp at this; exact q3 this.1)]
      · rw [if_pos (by omega), if_neg (fun z => q2 z.2.1)]
    · rw [if_pos (by omega), if_neg (fun z => q1 z.1)]
  rw [e110, c_fills_149 hr]
  by_cases q : sn A k j < wl A k j
  · have ef : fi A k j 0 = some (sn A k j) := fi_is q ((t.nwm _ q).2 (Nat.le_refl _)) (fun i hi z => by have := (t.nwm i (by omega)).1 z; omega)
    rw [ef]
    show FC n E B k _ (if alw A k j = 0 then none else xB A k j (sn A k j) 0 (alw A k j) room)
    rw [if_neg (show ¬ (mny = 0 ∧ sn A k j = wl A k j ∧ isE A k j = true) from fun z => by omega), if_pos rfl]
    by_cases qa : alw A k j = 0
    · rw [if_pos qa, if_pos (Or.inr ⟨by omega, rfl⟩)]
      rfl
    rw [if_neg qa, xB_f8]
    by_cases qm : mst (lft j (sn A k j) room) < 1
    · have r0 : rl A k j (sn A k j) 0 (alw A k j) room = 0 := by
        refine rl_is hr.2 (fun i hi => by omega) ?_
        unfold Gd
        have := fsS_lft (j := j) (b := sn A k j) (room := room) hr.2 (i := 0)
        rw [decide_eq_false (show ¬ (fsS j (sn A k j) (((0 : Nat) : Int) + 1) ≤ room) from fun z => by have := this.1 z; omega)]
        simp
      rw [if_pos (Or.inl qm), r0, if_neg (fun z => z rfl)]
      rfl
    · obtain ⟨R, eR⟩ : ∃ R : Nat, mnZ (mny : Int) (mst (lft j (sn A k j) room)) = R := ⟨(mnZ (mny : Int) (mst (lft j (sn A k j) room))).toNat, by unfold mnZ; split <;> omega⟩
      have r1 : 1 ≤ R := by unfold mnZ at eR; split at eR <;> omega
      have r2 : R ≤ mny := by unfold mnZ at eR; split at eR <;> omega
      have r3 : (R : Int) ≤ mst (lft j (sn A k j) room) := by unfold mnZ at eR; split at eR <;> omega
      have r4 : R = mny ∨ (R : Int) = mst (lft j (sn A k j) room) := by unfold mnZ at eR; split at eR <;> omega
      have rr : rl A k j (sn A k j) 0 (alw A k j) room = R := by
        refine rl_is hr.2 (fun i hi => ?_) ?_
        · unfold Gd
          rw [decide_eq_true (show (i : Int) < alw A k j by omega), decide_eq_true (show sn A k j + i < wl A k j by omega), decide_eq_true ((t.nwm (sn A k j + i) (by omega)).2 (by omega)), decide_eq_true ((fsS_lft hr.2).2 (by omega))]
          rfl
        · unfold Gd
          rcases r4 with z | z
          · rcases ma.2.2.2 with y | y
            · rw [decide_eq_false (show ¬ ((R : Int) < alw A k j) by omega)]; simp
            · rw [decide_eq_false (show ¬ (sn A k j + R < wl A k j) by omega)]; simp
          · rw [decide_eq_false (show ¬ (fsS j (sn A k j) ((R : Int) + 1) ≤ room) from fun y => by have := (fsS_lft hr.2).1 y; omega)]; simp
      have lm : lft j (sn A k j) room ≤ 1200 := by have := sz_le j; have := sz_le (sn A k j); unfold lft; split <;> omega
      have R1200 : R ≤ 1200 := by
        have : mst (lft j (sn A k j) room) ≤ 1200 := by unfold mst mnZ; split; omega; split <;> omega
        omega
      rw [if_neg (fun z => by rcases z with z | z; exact qm z; omega), rr, if_pos (by omega)]
      refine ⟨_, c_fills_230 h hk hj hE eR R1200 (by omega) ⟨fun _ => h6, fun _ => rfl⟩ (fun z => absurd h6 z), ?_⟩
      exact FR.f8 h hk hj hs (h.f8 hk hj hE hs (by omega) (Or.inr ⟨h6, rfl⟩))
  · have ew : sn A k j = wl A k j := by omega
    have ef : fi A k j 0 = none := fi_no (fun o ho z => by have := (t.nwm o ho).1 z; omega)
    rw [ef]
    show FC n E B k _ (if isE A k j = true ∧ fsS j (wl A k j) 0 ≤ room then some (uA (frN A 8 j (wl A k j) 1 0) M_end (256 * k + j) 1) else none)
    have m0 : mny = 0 := by omega
    have f0 := fsS_lft0 (j := j) (b := wl A k j) (room := room) hr.2
    rw [← ew] at f0
    by_cases qe : isE A k j = true
    · rw [if_pos (show mny = 0 ∧ sn A k j = wl A k j ∧ isE A k j = true from ⟨m0, ew, qe⟩), if_neg (show ¬ ((1 : Int) = 0) by decide)]
      by_cases qm : mst (lft j (sn A k j) room) < 0
      · rw [if_pos (Or.inl qm), if_neg (fun z => by have := z.2; rw [← ew] at this; have := f0.1 this; omega)]
        rfl
      · rw [if_neg (fun z => by rcases z with z | z; exact qm z; exact absurd z.2 (by decide)), if_pos ⟨qe, by rw [← ew]; exact f0.2 (by omega)⟩, aF8_bare ew qe]
        have eR : mnZ (mny : Int) (mst (lft j (sn A k j) room)) = ((0 : Nat) : Int) := by unfold mnZ; split <;> omega
        refine ⟨_, c_fills_230 h hk hj hE eR (by omega) (by omega) ⟨fun _ => h6, fun _ => rfl⟩ (fun z => absurd h6 z), ?_⟩
        exact FR.f8 h hk hj hs (h.f8 hk hj hE hs (by omega) (Or.inr ⟨h6, rfl⟩))
    · rw [if_neg (show ¬ (mny = 0 ∧ sn A k j = wl A k j ∧ isE A k j = true) from fun z => qe z.2.2), if_pos (show (0 : Int) = 0 from rfl), if_pos (Or.inr ⟨by omega, rfl⟩), if_neg (fun z => qe z.1)]
      rfl
end FI8
