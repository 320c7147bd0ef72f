/-! THE TWIN: what a byte that comes changes -/
section TWQ
variable {A : AM} {k j : Nat}
theorem pa_congr {A' : AM} (h1 : ∀ k, A' M_pieces k = A M_pieces k) (h2 : ∀ i, A' M_pieceOf i = A M_pieceOf i) (h3 : ∀ i, A' M_pieceNumber i = A M_pieceNumber i) {num : Int} : pa A' k j num = pa A k j num := by
  unfold pa
  rw [h1]
  apply find?_congr'
  intro p _
  rw [h2, h3]
theorem aSetB_pa {x : Nat} {v : Int} {num : Int} : pa (aSetB A x v) k j num = pa A k j num := by
  unfold aSetB
  split
  · rfl
  · rfl
theorem aSetB_has {x y : Nat} {v : Int} : (aSetB A x v M_has y ≠ 0) ↔ (A M_has y ≠ 0 ∨ y = x) := by
  unfold aSetB
  by_cases h : A M_has x = 0
  · rw [if_pos h, uA_role _ _ _ _ (by decide)]
    by_cases e : y = x
    · subst e; rw [uA_self]; simp
    · rw [uA_idx _ _ _ _ e]; simp [e]
  · rw [if_neg h]
    constructor
    · exact Or.inl
    · rintro (q | q)
      · exact q
      · subst q; exact h
theorem aSetB_came {x y : Nat} {v : Int} : aSetB A x v M_came y = if y = x ∧ A M_has x = 0 then b8 v else A M_came y := by
  unfold aSetB
  by_cases h : A M_has x = 0
  · rw [if_pos h]
    by_cases e : y = x
    · subst e; rw [uA_self, if_pos ⟨rfl, h⟩]
    · rw [uA_idx _ _ _ _ e, uA_role _ _ _ _ (by decide), if_neg (fun q => e q.1)]
  · rw [if_neg h, if_neg (fun q => h q.2)]
def PB (A : AM) : Prop := ∀ k, k < 2 → 0 ≤ A M_pieces k ∧ A M_pieces k ≤ 1400
theorem aPiece_has {num x : Nat} : aPiece A k j num M_has x = A M_has x := rfl
theorem aPiece_came {num x : Nat} : aPiece A k j num M_came x = A M_came x := rfl
/-- the place that a byte is put to -/
def pp (A : AM) (k j o : Nat) : Nat := match pa A k j ((o / 64 : Nat) : Int) with
  | some p => p
  | none => (A M_pieces k).toNat
theorem aPut_pa (hb : PB A) (hk : k < 2) {o : Nat} {v : Int} {k' j' : Nat} {num' : Int} (hk' : k' < 2) : pa (aPut A k j o v) k' j' num' = match pa A k' j' num' with
    | some p => some p
    | none => if k' = k ∧ j' = j ∧ num' = ((o / 64 : Nat) : Int) then some (A M_pieces k).toNat else none := by
  unfold aPut
  cases hq : pa A k j ((o / 64 : Nat) : Int) with
  | some p =>
    show pa (aSetB A (hx k p o) v) k' j' num' = _
    rw [aSetB_pa]
    cases hz : pa A k' j' num' with
    | some q => rfl
    | none =>
      rw [if_neg]
      rintro ⟨rfl, rfl, rfl⟩
      rw [hq] at hz
      cases hz
  | none =>
    show pa (aSetB (aPiece A k j (o / 64)) (hx k (A M_pieces k).toNat o) v) k' j' num' = _
    rw [aSetB_pa]
    exact pa_aPiece (hb k hk).1 hk hk' (fun k hk => (hb k hk).2) (fun k hk => (hb k hk).1)
theorem aPut_hasx {o : Nat} {v : Int} {y : Nat} : (aPut A k j o v M_has y ≠ 0) ↔ (A M_has y ≠ 0 ∨ y = hx k (pp A k j o) o) := by
  unfold aPut pp
  cases hq : pa A k j ((o / 64 : Nat) : Int) with
  | some p => exact aSetB_has
  | none => exact aSetB_has
theorem aPut_camex {o : Nat} {v : Int} {y : Nat} : aPut A k j o v M_came y = if y = hx k (pp A k j o) o ∧ A M_has (hx k (pp A k j o) o) = 0 then b8 v else A M_came y := by
  unfold aPut pp
  cases hq : pa A k j ((o / 64 : Nat) : Int) with
  | some p => exact aSetB_came
  | none => exact aSetB_came
/-- no two pieces of a side are of one stream and number -/
def PU (A : AM) : Prop := ∀ k p, k < 2 → p < (A M_pieces k).toNat → ∃ j : Nat, ∃ num : Nat, A M_pieceOf (1408 * k + p) = (j : Int) ∧ j < 256 ∧ A M_pieceNumber (1408 * k + p) = (num : Int) ∧ num < 1024 ∧ pa A k j (num : Int) = some p
theorem pp_lt (hb : PB A) (hk : k < 2) {o : Nat} : pp A k j o < 1408 := by
  unfold pp
  have := hb k hk
  cases hq : pa A k j ((o / 64 : Nat) : Int) with
  | some p => have := pa_some hq; show p < 1408; omega
  | none => show (A M_pieces k).toNat < 1408; omega
theorem hasB_iff {o : Nat} : hasB A k j o = true ↔ ∃ p, pa A k j ((o / 64 : Nat) : Int) = some p ∧ A M_has (hx k p o) ≠ 0 := by
  unfold hasB hx
  cases hq : pa A k j ((o / 64 : Nat) : Int) with
  | some p => simp
  | none => simp
theorem aPut_hasB (hb : PB A) (hf : PF A) (hk : k < 2) {o : Nat} {v : Int} {k' j' o' : Nat} (hk' : k' < 2) : hasB (aPut A k j o v) k' j' o' = true ↔ (hasB A k' j' o' = true ∨ (k' = k ∧ j' = j ∧ o' = o)) := by
  have hbk := hb k hk
  rw [hasB_iff, hasB_iff, aPut_pa hb hk hk']
  cases hz : pa A k' j' ((o' / 64 : Nat) : Int) with
  | some q =>
    have hq1 := pa_some hz
    have hbk' := hb k' hk'
    show (∃ p, some q = some p ∧ _) ↔ _
    constructor
    · rintro ⟨p, hp0, hp⟩
      cases hp0
      rcases aPut_hasx.mp hp with h | h
      · exact Or.inl ⟨_, rfl, h⟩
      · obtain ⟨rfl, e2, e3⟩ := hx_inj (by omega) (pp_lt hb hk) h
        right
        refine ⟨rfl, ?_⟩
        unfold pp at e2
        cases hy : pa A k' j ((o / 64 : Nat) : Int) with
        | some p2 =>
          rw [hy] at e2
          subst e2
          have hp2 := pa_some hy
          obtain ⟨-, a1, a2⟩ := hq1
          obtain ⟨-, c1, c2⟩ := hp2
          rw [a1] at c1; rw [a2] at c2
          exact ⟨by omega, by omega⟩
        | none => rw [hy] at e2; simp at e2; omega
    · rintro (⟨p, hp, hp2⟩ | ⟨rfl, rfl, rfl⟩)
      · cases hp; exact ⟨_, rfl, aPut_hasx.mpr (Or.inl hp2)⟩
      · refine ⟨q, rfl, aPut_hasx.mpr (Or.inr ?_)⟩
        unfold pp
        rw [hz]
  | none =>
    show (∃ p, (if k' = k ∧ j' = j ∧ ((o' / 64 : Nat) : Int) = ((o / 64 : Nat) : Int) then some (A M_pieces k).toNat else none) = some p ∧ _) ↔ _
    constructor
    · rintro ⟨p, hp, hp2⟩
      by_cases q : k' = k ∧ j' = j ∧ ((o' / 64 : Nat) : Int) = ((o / 64 : Nat) : Int)
      · rw [if_pos q] at hp
        cases hp
        obtain ⟨rfl, rfl, q3⟩ := q
        rcases aPut_hasx.mp hp2 with h | h
        · exact absurd (hf k' _ o' hk (Nat.le_refl _) (by omega)) h
        · obtain ⟨-, -, e3⟩ := hx_inj (by omega) (pp_lt hb hk) h
          exact Or.inr ⟨rfl, rfl, by omega⟩
      · rw [if_neg q] at hp; cases hp
    · rintro (⟨p, hp, hp2⟩ | ⟨rfl, rfl, rfl⟩)
      · cases hp
      · rw [if_pos ⟨rfl, rfl, rfl⟩]
        refine ⟨_, rfl, aPut_hasx.mpr (Or.inr ?_)⟩
        unfold pp
        rw [hz]
theorem aPut_bt (hb : PB A) (hf : PF A) (hk : k < 2) {o : Nat} {v : Int} {k' j' o' : Nat} (hk' : k' < 2) (hh : hasB (aPut A k j o v) k' j' o' = true) : bt (aPut A k j o v) k' j' o' = if hasB A k' j' o' = true then bt A k' j' o' else b8 v := by
  have hbk := hb k hk
  have hbk' := hb k' hk'
  obtain ⟨p, hp, hp2⟩ := hasB_iff.mp hh
  have ebt : bt (aPut A k j o v) k' j' o' = aPut A k j o v M_came (hx k' p o') := by
    unfold bt; rw [hp]; rfl
  rw [ebt, aPut_camex]
  rw [aPut_pa hb hk hk'] at hp
  by_cases q : hasB A k' j' o' = true
  · rw [if_pos q]
    obtain ⟨p2, hp3, hp4⟩ := hasB_iff.mp q
    rw [hp3] at hp
    cases hp
    rw [if_neg (fun z => hp4 (by rw [z.1]; exact z.2))]
    unfold bt; rw [hp3]; rfl
  · rw [if_neg q]
    rcases (aPut_hasB hb hf hk hk').mp hh with h | ⟨rfl, rfl, rfl⟩
    · exact absurd h q
    · have e1 : p = pp A k' j' o' := by
        unfold pp
        cases hz : pa A k' j' ((o' / 64 : Nat) : Int) with
        | some p2 => rw [hz] at hp; cases hp; rfl
        | none => rw [hz, if_pos ⟨rfl, rfl, rfl⟩] at hp; cases hp; rfl
      subst e1
      have hz0 : A M_has (hx k' (pp A k' j' o') o') = 0 := by
        by_cases z : A M_has (hx k' (pp A k' j' o') o') = 0
        · exact z
        · exfalso
          cases hz : pa A k' j' ((o' / 64 : Nat) : Int) with
          | some p2 =>
            apply q
            rw [hasB_iff]
            refine ⟨p2, hz, ?_⟩
            have e : pp A k' j' o' = p2 := by unfold pp; rw [hz]
            rw [e] at z; exact z
          | none =>
            have e : pp A k' j' o' = (A M_pieces k').toNat := by unfold pp; rw [hz]
            rw [e] at z
            exact z (hf k' _ o' hk (Nat.le_refl _) (by omega))
      rw [if_pos ⟨rfl, hz0⟩]
theorem aPut_pieces {o : Nat} {v : Int} {k' : Nat} : aPut A k j o v M_pieces k' = if k' = k ∧ pa A k j ((o / 64 : Nat) : Int) = none then A M_pieces k + 1 else A M_pieces k' := by
  have es : ∀ (B : AM) x, aSetB B x v M_pieces k' = B M_pieces k' := by
    intro B x; unfold aSetB; split <;> rfl
  unfold aPut
  cases hq : pa A k j ((o / 64 : Nat) : Int) with
  | some p =>
    show aSetB A (hx k p o) v M_pieces k' = _
    rw [es, if_neg (fun z => by cases z.2)]
  | none =>
    show aSetB (aPiece A k j (o / 64)) (hx k (A M_pieces k).toNat o) v M_pieces k' = _
    rw [es]
    unfold aPiece
    rw [uA_role _ _ _ _ (by decide), uA_role _ _ _ _ (by decide)]
    by_cases e : k' = k
    · subst e; rw [uA_self, if_pos ⟨rfl, rfl⟩]
    · rw [uA_idx _ _ _ _ e, if_neg (fun z => e z.1)]
theorem aPut_o {o : Nat} {v : Int} (r : L3) (f : Nat) (h1 : r ≠ M_has) (h2 : r ≠ M_came) (h3 : r ≠ M_pieces) (h4 : r ≠ M_pieceOf) (h5 : r ≠ M_pieceNumber) : aPut A k j o v r f = A r f := by
  have es : ∀ (B : AM) x, aSetB B x v r f = B r f := by
    intro B x
    unfold aSetB
    split
    · rw [uA_role _ _ _ _ h2, uA_role _ _ _ _ h1]
    · rfl
  unfold aPut
  cases hq : pa A k j ((o / 64 : Nat) : Int) with
  | some p => exact es _ _
  | none =>
    show aSetB (aPiece A k j (o / 64)) (hx k (A M_pieces k).toNat o) v r f = _
    rw [es]
    unfold aPiece
    rw [uA_role _ _ _ _ h5, uA_role _ _ _ _ h4, uA_role _ _ _ _ h3]
theorem PF.put (hb : PB A) (hf : PF A) (hk : k < 2) {o : Nat} {v : Int} : PF (aPut A k j o v) := by
  intro k' p q hk' hp hp2
  have hbk := hb k hk
  have hbk' := hb k' hk'
  rw [aPut_pieces] at hp
  by_cases z : aPut A k j o v M_has (hx k' p q) = 0
  · exact z
  · exfalso
    rcases aPut_hasx.mp z with h | h
    · refine h (hf k' p q hk' ?_ hp2)
      split at hp
      · rename_i e; rw [e.1]; omega
      · exact hp
    · obtain ⟨rfl, rfl, -⟩ := hx_inj hp2 (pp_lt hb hk) h
      unfold pp at hp
      cases hz : pa A k' j ((o / 64 : Nat) : Int) with
      | some p2 =>
        have := pa_some hz
        rw [hz, if_neg (fun z => by cases z.2)] at hp
        simp at hp
        omega
      | none =>
        rw [hz, if_pos ⟨rfl, rfl⟩] at hp
        simp at hp
        omega
end TWQ
