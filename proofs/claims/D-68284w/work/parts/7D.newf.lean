section NWF
variable {A A' B B' : AM} {E : L3 → Bool} {k j n : Nat} {room : Int}
theorem xB_inv {b : Nat} {st most : Int} (hr : room ≤ 1200) (hx : xB A k j b st most room = some A') : ∃ m, m ≤ 1200 ∧ A' = aF8 A k j b m ∧ b + m ≤ wl A k j ∧ (∀ o, b ≤ o → o < b + m → mkA A k j o = st) := by
  rw [xB_f8] at hx
  split at hx
  · rename_i q
    cases hx
    refine ⟨_, rl_room hr, rfl, ?_, ?_⟩
    · have := rl_in (A := A) (k := k) (j := j) (b := b) (st := st) (most := most) hr (i := rl A k j b st most room - 1) (by omega)
      unfold Gd at this
      simp only [Bool.and_eq_true, decide_eq_true_eq] at this
      omega
    · intro o h1 h2
      have := rl_in (A := A) (k := k) (j := j) (b := b) (st := st) (most := most) hr (i := o - b) (by omega)
      unfold Gd at this
      simp only [Bool.and_eq_true, decide_eq_true_eq] at this
      rw [show b + (o - b) = o by omega] at this
      exact this.1.2
  · cases hx
theorem xS_inv (hr : room ≤ 1200) (hx : xS A k j room = some A') : ∃ b m, m ≤ 1200 ∧ A' = aF8 A k j b m ∧ b + m ≤ wl A k j ∧ opS A k j = true ∧ (∀ o, b ≤ o → o < b + m → mkA A k j o ≠ 1) := by
  unfold xS at hx
  split at hx
  · rename_i q
    cases e2 : fi A k j 2 with
    | some b =>
      rw [e2] at hx
      obtain ⟨m, g1, g2, g3, g4⟩ := xB_inv hr hx
      exact ⟨b, m, g1, g2, g3, q, fun o h1 h2 => by rw [g4 o h1 h2]; decide⟩
    | none =>
      rw [e2] at hx
      cases e0 : fi A k j 0 with
      | some b =>
        rw [e0] at hx
        have hx2 : (if alw A k j = 0 then none else xB A k j b 0 (alw A k j) room) = some A' := hx
        split at hx2
        · cases hx2
        · obtain ⟨m, g1, g2, g3, g4⟩ := xB_inv hr hx2
          exact ⟨b, m, g1, g2, g3, q, fun o h1 h2 => by rw [g4 o h1 h2]; decide⟩
      | none =>
        rw [e0] at hx
        have hx2 : (if isE A k j = true ∧ fsS j (wl A k j) 0 ≤ room then some (uA (frN A 8 j (wl A k j) 1 0) M_end (256 * k + j) 1) else none) = some A' := hx
        split at hx2
        · rename_i z
          cases hx2
          exact ⟨wl A k j, 0, by omega, aF8_bare rfl z.1, by omega, q, fun o h1 h2 => by omega⟩
        · cases hx2
  · cases hx
/-- what is known of a frame that was just filled -/
def NewF (A A' : AM) (k kind a b n : Nat) (c : Int) : Prop := A' M_o 45 = kind ∧ A' M_o 46 = a ∧ A' M_o 47 = b ∧ A' M_o 49 = n ∧ A' M_o 48 = c ∧ (a : Int) < 4611686018427387904 ∧ (b : Int) < 4611686018427387904 ∧ 0 ≤ c ∧ c < 4611686018427387904 ∧ n ≤ 1200 ∧ (kind = 4 ∨ kind = 5 ∨ kind = 8 ∨ (16 ≤ kind ∧ kind ≤ 23)) ∧ (kind ≠ 8 → n = 0)
  ∧ (kind = 4 ∨ kind = 5 ∨ kind = 8 ∨ kind = 17 ∨ kind = 21 → a < 256)
  ∧ (kind = 4 → A' M_resets (256 * k + a) ≠ 0)
  ∧ (kind = 5 ∨ kind = 17 → A' M_there (256 * k + a) ≠ 0 ∧ hr k a = true)
  ∧ (kind = 21 ∨ kind = 8 → A' M_there (256 * k + a) ≠ 0 ∧ hs k a = true)
  ∧ (kind = 8 → b + n ≤ wl A' k a ∧ (∀ o, b ≤ o → o < b + n → mkA A' k a o = 1) ∧ (c = 0 ∨ c = 1) ∧ (c = 1 → A' M_finished (256 * k + a) ≠ 0))
  ∧ (kind = 8 → ∀ o, b ≤ o → o < b + n → mkA A k a o ≠ 1)
theorem xF_new (h : Rel Any n E A B) (hk : k < 2) (hr : room ≤ 1200) (hx : xF A k room = some A') : ∃ kind a b m : Nat, ∃ c : Int, NewF A A' k kind a b m c := by
  have hT := h.tb
  rcases xF_sorts hx with ⟨j, hj, hp, rfl⟩ | ⟨j, hj, hp, rfl⟩ | ⟨-, -, rfl⟩ | ⟨j, hj, hp, rfl⟩ | ⟨w, hw, -, rfl⟩ | rfl | ⟨j, hj, hp, rfl⟩ | ⟨w, hw, -, rfl⟩ | ⟨j, A1, hj, hs, rfl⟩
  · have cd := hT.cod k j hk hj
    have s1 : sn A k j ≤ wl A k j := List.countP_le_length
    have s2 := wl_le (j := j) (hT.tot k hk)
    unfold P4 at hp
    simp only [Bool.and_eq_true, decide_eq_true_eq] at hp
    refine ⟨4, j, (A M_code (256 * k + j)).toNat, 0, (sn A k j : Int), rfl, rfl, ?_, rfl, rfl, by omega, by omega, by omega, by omega, by omega, by omega, fun _ => rfl, fun _ => hj, ?_, fun z => by omega, fun z => by omega, fun z => by omega, fun z => by omega⟩
    · show A M_code (256 * k + j) = _; omega
    · intro _
      show A M_resets (256 * k + j) ≠ 0
      omega
  · have cd := hT.stc k j hk hj
    unfold P5 at hp
    simp only [Bool.and_eq_true, decide_eq_true_eq] at hp
    have th := (h.ts k j hk hj).rth (Or.inl hp.1.1)
    refine ⟨5, j, (A M_stopCode (256 * k + j)).toNat, 0, 0, rfl, rfl, ?_, rfl, rfl, by omega, by omega, by omega, by omega, by omega, by omega, fun _ => rfl, fun _ => hj, fun z => by omega, fun _ => th, fun z => by omega, fun z => by omega, fun z => by omega⟩
    show A M_stopCode (256 * k + j) = _; omega
  · have := hT.dgr k hk
    refine ⟨16, (A M_dataGrant k).toNat, 0, 0, 0, rfl, ?_, rfl, rfl, rfl, by omega, by omega, by omega, by omega, by omega, by omega, fun _ => rfl, fun z => by omega, fun z => by omega, fun z => by omega, fun z => by omega, fun z => by omega, fun z => by omega⟩
    show A M_dataGrant k = _; omega
  · have cd := hT.grs k j hk hj
    unfold P17 at hp
    simp only [Bool.and_eq_true, decide_eq_true_eq] at hp
    have th := (h.ts k j hk hj).rth (Or.inr (Or.inl hp.1.1))
    refine ⟨17, j, (A M_grant (256 * k + j)).toNat, 0, 0, rfl, rfl, ?_, rfl, rfl, by omega, by omega, by omega, by omega, by omega, by omega, fun _ => rfl, fun _ => hj, fun z => by omega, fun _ => th, fun z => by omega, fun z => by omega, fun z => by omega⟩
    show A M_grant (256 * k + j) = _; omega
  · have := hT.grt (2 * k + w) (by omega)
    refine ⟨18 + w, (A M_granted (2 * k + w)).toNat, 0, 0, 0, ?_, ?_, rfl, rfl, rfl, by omega, by omega, by omega, by omega, by omega, by omega, fun _ => rfl, fun z => by omega, fun z => by omega, fun z => by omega, fun z => by omega, fun z => by omega, fun z => by omega⟩
    · show (18 : Int) + w = _; omega
    · show A M_granted (2 * k + w) = _; omega
  · have := hT.lms (3 * k) (by omega)
    refine ⟨20, (A M_limits (3 * k)).toNat, 0, 0, 0, rfl, ?_, rfl, rfl, rfl, by omega, by omega, by omega, by omega, by omega, by omega, fun _ => rfl, fun z => by omega, fun z => by omega, fun z => by omega, fun z => by omega, fun z => by omega, fun z => by omega⟩
    show A M_limits (3 * k) = _; omega
  · have cd := hT.lim k j hk hj
    unfold P21 Wt at hp
    simp only [Bool.and_eq_true, decide_eq_true_eq] at hp
    refine ⟨21, j, (A M_limit (256 * k + j)).toNat, 0, 0, rfl, rfl, ?_, rfl, rfl, by omega, by omega, by omega, by omega, by omega, by omega, fun _ => rfl, fun _ => hj, fun z => by omega, fun z => by omega, fun _ => ⟨hp.1.1.1.1.1.1, hp.1.1.1.1.1.2⟩, fun z => by omega, fun z => by omega⟩
    show A M_limit (256 * k + j) = _; omega
  · have := hT.lms (3 * k + 1 + w) (by omega)
    refine ⟨22 + w, (A M_limits (3 * k + 1 + w)).toNat, 0, 0, 0, ?_, ?_, rfl, rfl, rfl, by omega, by omega, by omega, by omega, by omega, by omega, fun _ => rfl, fun z => by omega, fun z => by omega, fun z => by omega, fun z => by omega, fun z => by omega, fun z => by omega⟩
    · show (22 : Int) + w = _; omega
    · show A M_limits (3 * k + 1 + w) = _; omega
  · obtain ⟨b, m, g1, rfl, g3, g4, g5⟩ := xS_inv hr hs
    have s2 := wl_le (j := j) (hT.tot k hk)
    unfold opS at g4
    simp only [Bool.and_eq_true, decide_eq_true_eq] at g4
    have o := fun f (h1 : 45 ≤ f) (h2 : f ≤ 49) => (show uA (aF8 A k j b m) M_lastStream k j M_o f = aF8 A k j b m M_o f from rfl).trans (aF8_o f h1 h2)
    have x := fun (r : L3) (f : Nat) (h0 : r.1 ≠ 0) (h1 : r.1 ≠ 51) (h2 : r.1 ≠ 40) (h3 : r.1 ≠ 21) => aF8_x (A := A) (k := k) (j := j) (b := b) (m := m) r f (fun z => absurd z h0) h1 h2 (fun z => absurd z h3)
    have eo : ∀ i, aOut A k j b m M_of i = A M_of i := fun i => aOut_o _ _ (by decide) (by decide)
    have et : ∀ i, aOut A k j b m M_total i = A M_total i := fun i => aOut_o _ _ (by decide) (by decide)
    have ew : wl (uA (aF8 A k j b m) M_lastStream k j) k j = wl A k j := wl_cg (x M_total k (by decide) (by decide) (by decide) (by decide)) (fun i _ => x M_of _ (by decide) (by decide) (by decide) (by decide))
    have ep : pos (uA (aF8 A k j b m) M_lastStream k j) k j = pos A k j := pos_cg (x M_total k (by decide) (by decide) (by decide) (by decide)) (fun i _ => x M_of _ (by decide) (by decide) (by decide) (by decide))
    have em : ∀ q, mkA (uA (aF8 A k j b m) M_lastStream k j) k j q = mkA (aOut A k j b m) k j q := by
      intro q
      unfold mkA
      rw [ep, aOut_posi]
      exact aF8_mark _
    refine ⟨8, j, b, m, if b + m = wl A k j ∧ A M_finished (256 * k + j) ≠ 0 then 1 else 0, o 45 (by decide) (by decide), o 46 (by decide) (by decide), o 47 (by decide) (by decide), o 49 (by decide) (by decide), o 48 (by decide) (by decide), by omega, by omega, by split <;> omega, by split <;> omega, g1, by omega, fun z => absurd rfl z, fun _ => hj, fun z => by omega, fun z => by omega, fun _ => ⟨?_, g4.1.2⟩, fun _ => ⟨by rw [ew]; exact g3, ?_, by split <;> omega, ?_⟩, fun _ => g5⟩
    · show aF8 A k j b m M_there (256 * k + j) ≠ 0
      rw [x _ _ (by decide) (by decide) (by decide) (by decide)]; exact g4.1.1
    · intro q h1 h2
      rw [em, aOut_mkj g3 (by omega), if_pos ⟨h1, h2⟩]
    · intro z
      show aF8 A k j b m M_finished (256 * k + j) ≠ 0
      rw [x _ _ (by decide) (by decide) (by decide) (by decide)]
      split at z
      · rename_i y; exact y.2
      · cases z
end NWF
