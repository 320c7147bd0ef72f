section FI2
variable {A B : AM} {E : L3 → Bool} {k j n b m : Nat}
def aF8 (A : AM) (k j b m : Nat) : AM := aFin (aOut (frN A 8 j b 0 m) k j b m) k j (b + m = wl A k j)
def cc8 (A : AM) (k j b m : Nat) : Int := if sst A k j = 1 ∧ b + m = wl A k j then 1 else 0
theorem sst_live (h : sst A k j < 2) (hr : 0 ≤ A M_resets (256 * k + j)) : A M_resets (256 * k + j) ≤ 0 ∧ (sst A k j = 1 ↔ A M_finished (256 * k + j) ≠ 0) := by
  unfold sst at h ⊢
  split at h
  · rename_i q
    rw [if_pos q]
    refine ⟨q, ?_⟩
    split at h
    · rename_i q2
      rw [if_pos q2]
      split at h
      · omega
      · rename_i q3
        rw [if_neg q3]
        exact ⟨fun _ => q2, fun _ => rfl⟩
    · rename_i q2
      rw [if_neg q2]
      constructor
      · intro z; omega
      · intro z; exact absurd z q2
  · omega
theorem aF8_x (r : L3) (f : Nat) (h0 : r.1 = 0 → f < 45 ∨ 49 < f) (h1 : r.1 ≠ 51) (h2 : r.1 ≠ 40) (h3 : r.1 = 21 → f ≠ 256 * k + j) : aF8 A k j b m r f = A r f := by
  have e1 : frN A 8 j b 0 m r f = A r f := by
    unfold frN
    rw [uA_at, if_neg (fun z => by have := h0 (by rw [z.1]); omega), uA_at, if_neg (fun z => by have := h0 (by rw [z.1]); omega), uA_at, if_neg (fun z => by have := h0 (by rw [z.1]); omega), uA_at, if_neg (fun z => by have := h0 (by rw [z.1]); omega), uA_at, if_neg (fun z => by have := h0 (by rw [z.1]); omega)]
  have e2 : aOut (frN A 8 j b 0 m) k j b m r f = A r f := by rw [aOut_o r f (fun z => h1 (by rw [z])) (fun z => h2 (by rw [z])), e1]
  unfold aF8 aFin
  split
  · split
    · rw [uA_at, if_neg (fun z => by have := h0 (by rw [z.1]); omega), e2]
    · rw [uA_at, if_neg (fun z => h3 (by rw [z.1]) z.2), uA_at, if_neg (fun z => by have := h0 (by rw [z.1]); omega), e2]
  · exact e2
theorem aF8_mark (f : Nat) : aF8 A k j b m M_mark f = aOut A k j b m M_mark f := by
  have e : aOut (frN A 8 j b 0 m) k j b m M_mark f = aOut A k j b m M_mark f := by rw [aOut_mk, aOut_mk]; rfl
  unfold aF8 aFin
  split
  · split
    · rw [uA_tag (by decide), e]
    · rw [uA_tag (by decide), uA_tag (by decide), e]
  · exact e
theorem aF8_fD (f : Nat) : aF8 A k j b m M_fData f = if f < m then A M_value (65536 * k + (pos A k j).getD (b + f) 0) else A M_fData f := by
  have e : aOut (frN A 8 j b 0 m) k j b m M_fData f = if f < m then A M_value (65536 * k + (pos A k j).getD (b + f) 0) else A M_fData f := by rw [aOut_fD]; rfl
  unfold aF8 aFin
  split
  · split
    · rw [uA_tag (by decide), e]
    · rw [uA_tag (by decide), uA_tag (by decide), e]
  · exact e
theorem aF8_fin : (aOut (frN A 8 j b 0 m) k j b m M_finished (256 * k + j) = A M_finished (256 * k + j)) ∧ (aOut (frN A 8 j b 0 m) k j b m M_end (256 * k + j) = A M_end (256 * k + j)) := ⟨by rw [aOut_o _ _ (by decide) (by decide)]; rfl, by rw [aOut_o _ _ (by decide) (by decide)]; rfl⟩
theorem aF8_end : aF8 A k j b m M_end (256 * k + j) = if (b + m = wl A k j ∧ A M_finished (256 * k + j) ≠ 0) ∧ A M_end (256 * k + j) ≠ 3 then 1 else A M_end (256 * k + j) := by
  obtain ⟨e1, e2⟩ := aF8_fin (A := A) (k := k) (j := j) (b := b) (m := m)
  unfold aF8 aFin
  rw [e1, e2]
  by_cases q : b + m = wl A k j ∧ A M_finished (256 * k + j) ≠ 0
  · rw [if_pos q]
    by_cases q2 : A M_end (256 * k + j) = 3
    · rw [if_pos q2, if_neg (fun z => z.2 q2), uA_tag (by decide), e2]
    · rw [if_neg q2, if_pos ⟨q, q2⟩, uA_self]
  · rw [if_neg q, if_neg (fun z => q z.1), e2]
theorem aF8_o (f : Nat) (h : 45 ≤ f) (h2 : f ≤ 49) : aF8 A k j b m M_o f = if f = 45 then 8 else if f = 46 then (j : Int) else if f = 47 then (b : Int) else if f = 48 then (if b + m = wl A k j ∧ A M_finished (256 * k + j) ≠ 0 then 1 else 0) else (m : Int) := by
  obtain ⟨e1, e2⟩ := aF8_fin (A := A) (k := k) (j := j) (b := b) (m := m)
  have eo : ∀ f, aOut (frN A 8 j b 0 m) k j b m M_o f = frN A 8 j b 0 m M_o f := fun f => aOut_o _ _ (by decide) (by decide)
  have hf : f = 45 ∨ f = 46 ∨ f = 47 ∨ f = 48 ∨ f = 49 := by omega
  unfold aF8 aFin
  rw [e1, e2]
  by_cases q : b + m = wl A k j ∧ A M_finished (256 * k + j) ≠ 0
  · rw [if_pos q, if_pos q]
    by_cases q2 : A M_end (256 * k + j) = 3
    · rw [if_pos q2]
      rcases hf with rfl | rfl | rfl | rfl | rfl
      · rw [uA_idx _ _ _ _ (by decide), eo]; rfl
      · rw [uA_idx _ _ _ _ (by decide), eo]; rfl
      · rw [uA_idx _ _ _ _ (by decide), eo]; rfl
      · rw [uA_self]; rfl
      · rw [uA_idx _ _ _ _ (by decide), eo]; rfl
    · rw [if_neg q2, uA_tag (by decide)]
      rcases hf with rfl | rfl | rfl | rfl | rfl
      · rw [uA_idx _ _ _ _ (by decide), eo]; rfl
      · rw [uA_idx _ _ _ _ (by decide), eo]; rfl
      · rw [uA_idx _ _ _ _ (by decide), eo]; rfl
      · rw [uA_self]; rfl
      · rw [uA_idx _ _ _ _ (by decide), eo]; rfl
  · rw [if_neg q, if_neg q, eo]
    rcases hf with rfl | rfl | rfl | rfl | rfl <;> rfl
theorem cF_o {v : Nat → Int} {c : Int} (r : L3) (f : Nat) (h7 : r = H_o k → f ≠ 11 ∧ (f < 17 ∨ 21 < f)) (h27 : r ≠ H_row k) (h29 : r = S_o k j → f ≠ 2 ∧ f ≠ 3 ∧ f ≠ 6) (h13 : r ≠ P_o k) (h14 : r ≠ P_from k) (h16 : r ≠ P_next k) : cF B k j b m v c r f = B r f := by
  have e3 : cF3 B k j b m v c r f = B r f := cF3_o r f (fun z => (h7 z).2) h27
  have e4 : cF4 B (cF3 B k j b m v c) k j b m r f = B r f := by
    unfold cF4
    split
    · exact e3
    · rw [uA_at, if_neg (fun z => (h29 z.1).2.2 z.2)]
      unfold cCut cRel
      split
      · rw [uA_role _ _ _ _ h13, uA_role _ _ _ _ h16, e3]
      · rw [uA_role _ _ _ _ h14, e3]
  unfold cF cF7
  split
  · rw [uA_at, if_neg (fun z => (h29 z.1).2.1 z.2), uA_at, if_neg (fun z => (h29 z.1).1 z.2), uA_at, if_neg (fun z => (h7 z.1).1 z.2), e4]
  · rw [uA_at, if_neg (fun z => (h29 z.1).1 z.2), uA_at, if_neg (fun z => (h7 z.1).1 z.2), e4]
theorem TB.f8 (h : TB A) : TB (aF8 A k j b m) := by
  have o := fun (r : L3) (f : Nat) (h0 : r.1 ≠ 0) (h1 : r.1 ≠ 51) (h2 : r.1 ≠ 40) (h3 : r.1 ≠ 21) => aF8_x (A := A) (k := k) (j := j) (b := b) (m := m) r f (fun z => absurd z h0) h1 h2 (fun z => absurd z h3)
  have oo := fun (f : Nat) (hf : f < 45) => aF8_x (A := A) (k := k) (j := j) (b := b) (m := m) M_o f (fun _ => Or.inl hf) (by decide) (by decide) (fun z => by cases z)
  have hP : SameP A (aF8 A k j b m) := SameP.make (fun f => o _ _ (by decide) (by decide) (by decide) (by decide)) (fun f => o _ _ (by decide) (by decide) (by decide) (by decide)) (fun f => o _ _ (by decide) (by decide) (by decide) (by decide)) (fun f => o _ _ (by decide) (by decide) (by decide) (by decide)) (fun f => o _ _ (by decide) (by decide) (by decide) (by decide))
  refine TB.make ?_ ?_ ?_ ?_ ?_ ?_ ?_ ?_ ?_ ?_ ?_ ?_ ?_ ?_ ?_ ?_ ?_ ?_ ?_ ?_ ?_ ?_ ?_ ?_ ?_ ?_
  · rw [oo _ (by decide)]; exact h.jnd
  · rw [oo _ (by decide)]; exact h.tap
  · intro k; rw [o _ _ (by decide) (by decide) (by decide) (by decide)]; exact h.tpv k
  · rw [oo _ (by decide)]; exact h.out
  · intro q hq; rw [o _ _ (by decide) (by decide) (by decide) (by decide)]; exact h.tot q hq
  · intro i
    rw [aF8_mark, aOut_mk]
    split
    · omega
    · exact h.mrk i
  · intro k; rw [o _ _ (by decide) (by decide) (by decide) (by decide)]; exact h.val k
  · intro k hk; rw [o _ _ (by decide) (by decide) (by decide) (by decide)]; exact h.pcs k hk
  · intro k; rw [o _ _ (by decide) (by decide) (by decide) (by decide)]; exact h.cam k
  · intro k j oo hk hj ho; rw [hP.hasB] at ho; exact h.hsb k j oo hk hj ho
  · intro k j hk hj; rw [o _ _ (by decide) (by decide) (by decide) (by decide)]; exact h.rds k j hk hj
  · intro k j hk hj; rw [o _ _ (by decide) (by decide) (by decide) (by decide)]; exact h.res k j hk hj
  · intro k j hk hj; rw [o _ _ (by decide) (by decide) (by decide) (by decide)]; exact h.hig k j hk hj
  · intro k j hk hj; rw [o _ _ (by decide) (by decide) (by decide) (by decide)]; exact h.siz k j hk hj
  · intro k j hk hj; rw [o _ _ (by decide) (by decide) (by decide) (by decide), o _ _ (by decide) (by decide) (by decide) (by decide)]; exact h.wrs k j hk hj
  · intro k i hk h1 h2; rw [o _ _ (by decide) (by decide) (by decide) (by decide)]; exact h.gra k i hk h1 h2
  · intro w hw; rw [o _ _ (by decide) (by decide) (by decide) (by decide)]; exact h.grt w hw
  · intro w hw; rw [o _ _ (by decide) (by decide) (by decide) (by decide)]; exact h.opn w hw
  · intro w hw; rw [o _ _ (by decide) (by decide) (by decide) (by decide)]; exact h.thr w hw
  · intro w hw; rw [o _ _ (by decide) (by decide) (by decide) (by decide)]; exact h.dgr w hw
  · intro k j hk hj; rw [o _ _ (by decide) (by decide) (by decide) (by decide)]; exact h.grs k j hk hj
  · intro k j hk hj; rw [o _ _ (by decide) (by decide) (by decide) (by decide)]; exact h.lim k j hk hj
  · intro w hw; rw [o _ _ (by decide) (by decide) (by decide) (by decide)]; exact h.lms w hw
  · intro w hw; rw [o _ _ (by decide) (by decide) (by decide) (by decide)]; exact h.lst w hw
  · intro k j hk hj; rw [o _ _ (by decide) (by decide) (by decide) (by decide)]; exact h.stc k j hk hj
  · intro k j hk hj; rw [o _ _ (by decide) (by decide) (by decide) (by decide)]; exact h.cod k j hk hj
end FI2
