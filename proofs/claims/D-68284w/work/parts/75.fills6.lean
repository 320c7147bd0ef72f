section FI6
variable {A A' B B' : AM} {E : L3 → Bool} {k j n b m : Nat} {room : Int}
/-- a frame that both have filled -/
def FR (n : Nat) (E : L3 → Bool) (A' B' : AM) (k : Nat) : Prop := Rel Any (n + 1) E A' B' ∧ B' (H_o k) 17 = A' M_o 45 ∧ B' (H_o k) 19 = A' M_o 46 ∧ B' (H_o k) 20 = A' M_o 47 ∧ B' (H_o k) 21 = A' M_o 48 ∧ B' (H_o k) 18 = A' M_o 49 ∧ ∀ i : Nat, (i : Int) < A' M_o 49 → B' (H_row k) i = A' M_fData i
theorem cF_reg {v : Nat → Int} {c : Int} : cF B k j b m v c (H_o k) 17 = 8 ∧ cF B k j b m v c (H_o k) 19 = j ∧ cF B k j b m v c (H_o k) 20 = b ∧ cF B k j b m v c (H_o k) 21 = c ∧ cF B k j b m v c (H_o k) 18 = m ∧ ∀ i, i < m → cF B k j b m v c (H_row k) i = v i := by
  have e4 : ∀ (r : L3) (f : Nat), r.1 = 7 ∨ r.1 = 27 → cF4 B (cF3 B k j b m v c) k j b m r f = cF3 B k j b m v c r f := by
    intro r f hr
    unfold cF4
    split
    · rfl
    · rw [uA_tag (by show r.1 ≠ 29; omega)]
      unfold cCut cRel
      split
      · rw [uA_tag (by show r.1 ≠ 13; omega), uA_tag (by show r.1 ≠ 16; omega)]
      · rw [uA_tag (by show r.1 ≠ 14; omega)]
  have e7 : ∀ (r : L3) (f : Nat), r.1 = 7 ∨ r.1 = 27 → (r.1 = 7 → f ≠ 11) → cF B k j b m v c r f = cF3 B k j b m v c r f := by
    intro r f hr hf
    unfold cF cF7
    split
    · rw [uA_tag (by show r.1 ≠ 29; omega), uA_tag (by show r.1 ≠ 29; omega), uA_at, if_neg (fun z => hf (by rw [z.1]) z.2), e4 r f hr]
    · rw [uA_tag (by show r.1 ≠ 29; omega), uA_at, if_neg (fun z => hf (by rw [z.1]) z.2), e4 r f hr]
  have e1 : ∀ f, f ≠ 21 → cF3 B k j b m v c (H_o k) f = cF1 B k j b m (H_o k) f := fun f hf => by unfold cF3; rw [uA_idx _ _ _ _ hf, cRw_o _ _ (fun z => by injection z with z; cases z)]
  refine ⟨?_, ?_, ?_, ?_, ?_, ?_⟩
  · rw [e7 _ _ (Or.inl rfl) (fun _ => by decide), e1 _ (by decide)]; unfold cF1; rw [uA_idx _ _ _ _ (by decide), uA_idx _ _ _ _ (by decide), uA_idx _ _ _ _ (by decide), uA_self]
  · rw [e7 _ _ (Or.inl rfl) (fun _ => by decide), e1 _ (by decide)]; unfold cF1; rw [uA_idx _ _ _ _ (by decide), uA_idx _ _ _ _ (by decide), uA_self]
  · rw [e7 _ _ (Or.inl rfl) (fun _ => by decide), e1 _ (by decide)]; unfold cF1; rw [uA_idx _ _ _ _ (by decide), uA_self]
  · rw [e7 _ _ (Or.inl rfl) (fun _ => by decide)]; unfold cF3; rw [uA_self]
  · rw [e7 _ _ (Or.inl rfl) (fun _ => by decide), e1 _ (by decide)]; unfold cF1; rw [uA_self]
  · intro i hi
    rw [e7 _ _ (Or.inr rfl) (fun z => absurd z (by show 27 ≠ 7; decide))]
    unfold cF3
    rw [uA_tag (by show 27 ≠ 7; decide)]
    unfold cRw
    rw [if_pos ⟨rfl, hi⟩]
theorem FR.f8 (h : Rel Any n E A B) (hk : k < 2) (hj : j < 256) (hs : sst A k j < 2) (R : Rel Any (n + 1) E (aF8 A k j b m) (cF B k j b m (fun i => A M_value (65536 * k + (pos A k j).getD (b + i) 0)) (cc8 A k j b m))) : FR n E (aF8 A k j b m) (cF B k j b m (fun i => A M_value (65536 * k + (pos A k j).getD (b + i) 0)) (cc8 A k j b m)) k := by
  obtain ⟨g1, g2, g3, g4, g5, g6⟩ := cF_reg (B := B) (k := k) (j := j) (b := b) (m := m) (v := fun i => A M_value (65536 * k + (pos A k j).getD (b + i) 0)) (c := cc8 A k j b m)
  have fin := (sst_live hs (h.tb.res k j hk hj).1).2
  refine ⟨R, ?_, ?_, ?_, ?_, ?_, ?_⟩
  · rw [g1, aF8_o 45 (by decide) (by decide)]; rfl
  · rw [g2, aF8_o 46 (by decide) (by decide)]; rfl
  · rw [g3, aF8_o 47 (by decide) (by decide)]; rfl
  · rw [g4, aF8_o 48 (by decide) (by decide)]
    unfold cc8
    show _ = (if b + m = wl A k j ∧ A M_finished (256 * k + j) ≠ 0 then (1 : Int) else 0)
    by_cases q : sst A k j = 1 ∧ b + m = wl A k j
    · rw [if_pos q, if_pos ⟨q.2, fin.1 q.1⟩]
    · rw [if_neg q, if_neg (fun z => q ⟨fin.2 z.2, z.1⟩)]
  · rw [g5, aF8_o 49 (by decide) (by decide)]; rfl
  · intro i hi
    rw [aF8_o 49 (by decide) (by decide)] at hi
    have hi' : i < m := by have : (i : Int) < (m : Int) := hi; omega
    rw [g6 i hi', aF8_fD, if_pos hi']
end FI6
