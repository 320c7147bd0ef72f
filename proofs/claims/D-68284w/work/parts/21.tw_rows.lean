/-! THE TWIN: the rows of written bytes -/
/-- where the bytes of a stream lie in its side's row -/
def pos (A : AM) (k j : Nat) : List Nat := (List.range' 0 (A M_total k).toNat).filter (fun i => decide (A M_of (65536 * k + i) = (j : Int)))
def wl (A : AM) (k j : Nat) : Nat := (pos A k j).length
def cn (A : AM) (k j : Nat) (st : Int) : Nat := (pos A k j).countP (fun i => decide (A M_mark (65536 * k + i) = st))
def sn (A : AM) (k j : Nat) : Nat := (pos A k j).countP (fun i => decide (A M_mark (65536 * k + i) ≠ 0))
def sa (A : AM) (k : Nat) : Nat := (List.range' 0 (A M_total k).toNat).countP (fun i => decide (A M_mark (65536 * k + i) ≠ 0))
def mkP (st : Int) (m : Int) : Bool := st == -1 || m == st || (st == -2 && m != 0)
theorem t_count_9 {A : AM} {k : Nat} (hk : k < 2) (ht : 0 ≤ A M_total k ∧ A M_total k ≤ 65536) (j : Nat) (st : Int) : ∀ (m i c n : Nat), i + m = (A M_total k).toNat → m < n → c ≤ i →
    g_X8_count_9 A n k j st c (65536 * (k : Int) + i) = some ((c + ((List.range' i m).filter (fun i => decide (A M_of (65536 * k + i) = (j : Int)))).countP (fun i => mkP st (A M_mark (65536 * k + i))) : Nat) : Int) := by
  intro m
  induction m with
  | zero =>
    intro i c n h1 h2 h3
    obtain ⟨n, rfl⟩ : ∃ n', n = n' + 1 := ⟨n - 1, by omega⟩
    unfold g_X8_count_9 g_X8_count_9_b
    simp (disch := omega) only [hA_ok, c32_ok, tkN]
    rw [if_pos (by omega)]
    simp
  | succ m ih =>
    intro i c n h1 h2 h3
    obtain ⟨n, rfl⟩ : ∃ n', n = n' + 1 := ⟨n - 1, by omega⟩
    unfold g_X8_count_9 g_X8_count_9_b g_X8_count_71 g_X8_count_68 g_X8_count_71
    have e1 : (65536 * (k : Int) + i).toNat = 65536 * k + i := by omega
    have e2 : 65536 * (k : Int) + i + 1 = 65536 * (k : Int) + ((i + 1 : Nat) : Int) := by omega
    have ih1 := ih (i + 1) c n (by omega) (by omega) (by omega)
    have ih2 := ih (i + 1) (c + 1) n (by omega) (by omega) (by omega)
    rw [show (c : Int) + 1 = ((c + 1 : Nat) : Int) by omega]
    simp (disch := omega) only [hA_ok, c32_ok, tkN, e1, e2, ih1, ih2]
    rw [if_neg (by omega), List.range'_succ, List.filter_cons]
    by_cases h4 : A M_of (65536 * k + i) = (j : Int)
    · have hd : decide (A M_of (65536 * k + i) = (j : Int)) = true := by simpa using h4
      rw [if_neg (fun q => q h4), if_pos hd, List.countP_cons]
      have hm : mkP st (A M_mark (65536 * k + i)) = true ↔ (st = -1 ∨ A M_mark (65536 * k + i) = st ∨ (st = -2 ∧ A M_mark (65536 * k + i) ≠ 0)) := by
        unfold mkP; simp [or_assoc]
      by_cases h5 : st = -1
      · rw [if_pos h5, if_pos (hm.mpr (Or.inl h5))]; congr 2; omega
      · rw [if_neg h5]
        by_cases h6 : A M_mark (65536 * k + i) = st
        · rw [if_pos h6, if_pos (hm.mpr (Or.inr (Or.inl h6)))]; congr 2; omega
        · rw [if_neg h6]
          by_cases h7 : st = -2
          · rw [if_neg (fun q => q h7)]
            by_cases h8 : A M_mark (65536 * k + i) = 0
            · rw [if_pos h8, if_neg (fun q => by rcases hm.mp q with q | q | q; exact h5 q; exact h6 q; exact q.2 h8)]; rfl
            · rw [if_neg h8, if_pos (hm.mpr (Or.inr (Or.inr ⟨h7, h8⟩)))]; congr 2; omega
          · rw [if_pos h7, if_neg (fun q => by rcases hm.mp q with q | q | q; exact h5 q; exact h6 q; exact h7 q.1)]; rfl
    · have hd : ¬ decide (A M_of (65536 * k + i) = (j : Int)) = true := by simpa using h4
      rw [if_pos h4, if_neg hd]
theorem t_count {A : AM} {k : Nat} (hk : k < 2) (ht : 0 ≤ A M_total k ∧ A M_total k ≤ 65536) (j : Nat) (st : Int) : g_X8_count A k j st = some (((pos A k j).countP (fun i => mkP st (A M_mark (65536 * k + i))) : Nat) : Int) := by
  unfold g_X8_count
  have h := t_count_9 hk ht j st (A M_total k).toNat 0 0 FU (by omega) (by unfold FU; omega) (by omega)
  rw [c32_ok (by omega) (by omega)]
  rw [show (65536 * (k : Int) + ((0 : Nat) : Int)) = 65536 * (k : Int) by omega] at h
  rw [show ((0 : Nat) : Int) = 0 from rfl] at h
  rw [h, Nat.zero_add]
  rfl
theorem t_written {A : AM} {k : Nat} (hk : k < 2) (ht : 0 ≤ A M_total k ∧ A M_total k ≤ 65536) (j : Nat) : g_X8_written A k j = some ((wl A k j : Nat) : Int) := by
  unfold g_X8_written
  rw [t_count hk ht, bd_v]
  congr 2
  unfold wl
  rw [List.countP_eq_length]
  intro i _
  rfl
theorem t_sent {A : AM} {k : Nat} (hk : k < 2) (ht : 0 ≤ A M_total k ∧ A M_total k ≤ 65536) (hm : ∀ i, A M_mark i ≠ -2) (j : Nat) : g_X8_sent A k j = some ((sn A k j : Nat) : Int) := by
  unfold g_X8_sent
  rw [t_count hk ht, bd_v]
  congr 2
  unfold sn
  apply List.countP_congr
  intro i _
  unfold mkP
  simp [hm]
theorem t_cn {A : AM} {k : Nat} (hk : k < 2) (ht : 0 ≤ A M_total k ∧ A M_total k ≤ 65536) (j : Nat) {st : Int} (h : 0 ≤ st) : g_X8_count A k j st = some ((cn A k j st : Nat) : Int) := by
  rw [t_count hk ht]
  congr 2
  unfold cn
  apply List.countP_congr
  intro i _
  unfold mkP
  simp
  omega
/-- the state of a sending part -/
def sst (A : AM) (k j : Nat) : Int := if A M_resets (256 * k + j) ≤ 0 then (if A M_finished (256 * k + j) ≠ 0 then (if A M_end (256 * k + j) = 3 ∧ cn A k j 3 = wl A k j then 2 else 1) else 0) else 2 + A M_resets (256 * k + j)
theorem t_sending {A : AM} {k j : Nat} (hk : k < 2) (hj : j < 256) (ht : 0 ≤ A M_total k ∧ A M_total k ≤ 65536) (hr : A M_resets (256 * k + j) ≤ 2) : g_X8_sending A k j = some (sst A k j) := by
  unfold g_X8_sending sst
  rw [t_at hk hj, bd_v, hA_ok (by omega) (by omega), tk_at]
  by_cases h1 : A M_resets (256 * k + j) ≤ 0
  · rw [if_pos h1, if_pos h1, hA_ok (by omega) (by omega)]
    by_cases h2 : A M_finished (256 * k + j) ≠ 0
    · rw [if_pos h2, if_pos h2, hA_ok (by omega) (by omega)]
      by_cases h3 : A M_end (256 * k + j) = 3
      · rw [if_neg (fun q => q h3), t_cn hk ht j (by decide), bd_v, t_written hk ht, bd_v]
        by_cases h4 : cn A k j 3 = wl A k j
        · rw [if_neg (by omega), if_pos ⟨h3, h4⟩]
        · rw [if_pos (by omega), if_neg (fun q => h4 q.2)]
      · rw [if_pos h3, if_neg (fun q => h3 q.1)]
    · rw [if_neg h2, if_neg h2]
  · rw [if_neg h1, if_neg h1, hA_ok (by omega) (by omega), c32_ok (by omega) (by omega)]
