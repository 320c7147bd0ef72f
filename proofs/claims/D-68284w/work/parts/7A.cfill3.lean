section CF3
variable {A A' B B' : AM} {E : L3 → Bool} {k j n w : Nat} {room : Int}
theorem cFr_reg {kd a b c : Int} : cFr B k kd a b c (H_o k) 17 = kd ∧ cFr B k kd a b c (H_o k) 19 = a ∧ cFr B k kd a b c (H_o k) 20 = b ∧ cFr B k kd a b c (H_o k) 21 = c ∧ cFr B k kd a b c (H_o k) 18 = 0 := by
  unfold cFr
  refine ⟨?_, ?_, ?_, ?_, ?_⟩
  · rw [uA_idx _ _ _ _ (by decide), uA_idx _ _ _ _ (by decide), uA_idx _ _ _ _ (by decide), uA_idx _ _ _ _ (by decide), uA_self]
  · rw [uA_idx _ _ _ _ (by decide), uA_idx _ _ _ _ (by decide), uA_idx _ _ _ _ (by decide), uA_self]
  · rw [uA_idx _ _ _ _ (by decide), uA_idx _ _ _ _ (by decide), uA_self]
  · rw [uA_idx _ _ _ _ (by decide), uA_self]
  · rw [uA_self]
theorem FR.sim {kd a b c v v' : Int} {r r' : L3} {f f' : Nat} (R : Rel Any n E (uA (fr A kd a b c) r f v) (uA (cFr B k kd a b c) r' f' v')) (h1 : r.1 ≠ 0) (h2 : r' = H_o k → f' < 17) : FR n E (uA (fr A kd a b c) r f v) (uA (cFr B k kd a b c) r' f' v') k := by
  obtain ⟨g1, g2, g3, g4, g5⟩ := cFr_reg (B := B) (k := k) (kd := kd) (a := a) (b := b) (c := c)
  have o : ∀ g, 17 ≤ g → uA (cFr B k kd a b c) r' f' v' (H_o k) g = cFr B k kd a b c (H_o k) g := fun g hg => by rw [uA_at, if_neg (fun z => by have := h2 z.1.symm; omega)]
  have ao : ∀ g, uA (fr A kd a b c) r f v M_o g = fr A kd a b c M_o g := fun g => uA_tag (fun z => h1 z.symm)
  refine ⟨R.up (by omega), ?_, ?_, ?_, ?_, ?_, ?_⟩
  · rw [o _ (by omega), g1, ao]; rfl
  · rw [o _ (by omega), g2, ao]; rfl
  · rw [o _ (by omega), g3, ao]; rfl
  · rw [o _ (by omega), g4, ao]; rfl
  · rw [o _ (by omega), g5, ao]; rfl
  · intro i hi; rw [ao] at hi; have : (i : Int) < 0 := hi; omega
theorem c_fill (h : Rel Any n E A B) (hk : k < 2) (hr : 1 ≤ room ∧ room ≤ 1200) : FC n E B k (g_X2_fill E k B room) (xF A k room) := by
  unfold g_X2_fill g_X2_fill_32
  have fe := c_fillsEnds (room := room) h hk
  have fg := c_fillsGrants (room := room) h hk
  have fb := c_fillsBlocked (room := room) h hk
  have fs := c_fillsStream (room := room) h hk hr
  unfold xF x45
  rw [fe]
  by_cases q4 : fst (P4 A k room) 256 < 256
  · rw [if_pos q4, if_pos q4, gB2_v, if_pos (by decide)]
    have p4 := (fst_lt q4).1
    unfold P4 at p4
    simp only [Bool.and_eq_true, decide_eq_true_eq] at p4
    have hE := (h.ex.sN hk q4).2 ((h.ts k _ hk q4).sth (Or.inl p4.1.1))
    exact ⟨_, rfl, FR.sim ((h.fr hk).tR hk q4 hE (Or.inl rfl)) (by decide) (fun z => by injection z with z; cases z)⟩
  rw [if_neg q4, if_neg q4]
  by_cases q5 : fst (P5 A k room) 256 < 256
  · rw [if_pos q5, if_pos q5, gB2_v, if_pos (by decide)]
    have p5 := (fst_lt q5).1
    unfold P5 at p5
    simp only [Bool.and_eq_true, decide_eq_true_eq] at p5
    have hE := (h.ex.rN hk q5).2 ((h.ts k _ hk q5).rth (Or.inl p5.1.1))
    exact ⟨_, rfl, FR.sim ((h.fr hk).tS hk q5 hE (Or.inl rfl)) (by decide) (fun z => by injection z with z; cases z)⟩
  rw [if_neg q5, if_neg q5, gB2_v, if_neg (by decide), fg]
  unfold x16 x17 x18
  by_cases q16 : A M_tellData k ≠ 0 ∧ fsz 16 (A M_dataGrant k) 0 0 ≤ room
  · rw [if_pos q16, if_pos q16, gB2_v, if_pos (by decide)]
    exact ⟨_, rfl, FR.sim ((h.fr hk).tD hk (Or.inl rfl)) (by decide) (fun _ => by decide)⟩
  rw [if_neg q16, if_neg q16]
  by_cases q17 : fst (P17 A k room) 256 < 256
  · rw [if_pos q17, if_pos q17, gB2_v, if_pos (by decide)]
    have p := (fst_lt q17).1
    unfold P17 at p
    simp only [Bool.and_eq_true, decide_eq_true_eq] at p
    have hE := (h.ex.rN hk q17).2 ((h.ts k _ hk q17).rth (Or.inr (Or.inl p.1.1)))
    exact ⟨_, rfl, FR.sim ((h.fr hk).tG hk q17 hE (Or.inl rfl)) (by decide) (fun z => by injection z with z; cases z)⟩
  rw [if_neg q17, if_neg q17]
  by_cases q18 : fst (P18 A k room) 2 < 2
  · rw [if_pos q18, if_pos q18, gB2_v, if_pos (by decide)]
    exact ⟨_, rfl, FR.sim ((h.fr hk).tW hk q18 (Or.inl rfl)) (by decide) (fun z => by injection z with z; cases z)⟩
  rw [if_neg q18, if_neg q18, gB2_v, if_neg (by decide), fb]
  unfold x20 x21 x22
  by_cases q20 : fst (Wt A k) 256 < 256 ∧ (sa A k : Int) = A M_limits (3 * k) ∧ A M_toldBlocked (3 * k) ≠ A M_limits (3 * k) ∧ fsz 20 (A M_limits (3 * k)) 0 0 ≤ room
  · rw [if_pos q20, if_pos q20, gB2_v, if_pos (by decide)]
    exact ⟨_, rfl, FR.sim ((h.fr hk).bD hk) (by decide) (fun _ => by decide)⟩
  rw [if_neg q20, if_neg q20]
  by_cases q21 : fst (P21 A k room) 256 < 256
  · rw [if_pos q21, if_pos q21, gB2_v, if_pos (by decide)]
    have p := (fst_lt q21).1
    unfold P21 Wt at p
    simp only [Bool.and_eq_true, decide_eq_true_eq] at p
    have hE := (h.ex.sN hk q21).2 ⟨p.1.1.1.1.1.1, p.1.1.1.1.1.2⟩
    exact ⟨_, rfl, FR.sim ((h.fr hk).bS hk q21 hE) (by decide) (fun z => by injection z with z; cases z)⟩
  rw [if_neg q21, if_neg q21]
  by_cases q22 : fst (P22 A k room) 2 < 2
  · rw [if_pos q22, if_pos q22, gB2_v, if_pos (by decide)]
    exact ⟨_, rfl, FR.sim ((h.fr hk).bW hk q22) (by decide) (fun z => by injection z with z; cases z)⟩
  rw [if_neg q22, if_neg q22, gB2_v, if_neg (by decide)]
  show FC n E B k _ (x8 A k room)
  cases hx : x8 A k room with
  | none =>
    rw [hx] at fs
    have fs' : g_X2_fillsStream E k B room = some (B, 0) := fs
    rw [fs', gB2_v, if_pos rfl]
    rfl
  | some A1 =>
    rw [hx] at fs
    obtain ⟨B1, c1, c2⟩ := fs
    rw [c1, gB2_v, if_neg (by decide)]
    exact ⟨B1, rfl, c2⟩
end CF3
