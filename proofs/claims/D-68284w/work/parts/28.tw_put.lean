/-! THE TWIN: a byte comes -/
section TWP
variable {A : AM} {k j : Nat}
/-- where a byte of what came stands -/
def hx (k p o : Nat) : Nat := 64 * (1408 * k + p) + o % 64
theorem hx_inj {k p o k' p' o' : Nat} (h1 : p < 1408) (h2 : p' < 1408) (h : hx k p o = hx k' p' o') : k = k' ∧ p = p' ∧ o % 64 = o' % 64 := by unfold hx at h; omega
def aSetB (A : AM) (x : Nat) (v : Int) : AM := if A M_has x = 0 then uA (uA A M_has x 1) M_came x (b8 v) else A
def aPiece (A : AM) (k j num : Nat) : AM := uA (uA (uA A M_pieces k (A M_pieces k + 1)) M_pieceOf (1408 * k + (A M_pieces k).toNat) j) M_pieceNumber (1408 * k + (A M_pieces k).toNat) num
def aPut (A : AM) (k j o : Nat) (v : Int) : AM := match pa A k j ((o / 64 : Nat) : Int) with
  | some p => aSetB A (hx k p o) v
  | none => aSetB (aPiece A k j (o / 64)) (hx k (A M_pieces k).toNat o) v
theorem t_comes_64 {o p : Nat} (ho : o < 1000000) (hk : k < 2) (hp : p < 1408) {v : Int} : g_X8_comes_64 A o v ((1408 * k + p : Nat) : Int) = some (aSetB A (hx k p o) v) := by
  unfold g_X8_comes_64 aSetB
  have e1 : ((64 * ((1408 * k + p : Nat) : Int)) + ((o : Int) - ((o : Int) / 64 * 64))).toNat = hx k p o := by unfold hx; omega
  have b1 : 0 ≤ (64 * ((1408 * k + p : Nat) : Int)) + ((o : Int) - ((o : Int) / 64 * 64)) := by omega
  have b2 : (64 * ((1408 * k + p : Nat) : Int)) + ((o : Int) - ((o : Int) / 64 * 64)) < (180224 : Nat) := by omega
  rw [hA_ok (by omega) (by omega), hA_ok b1 b2, e1]
  by_cases h : A M_has (hx k p o) = 0
  · rw [if_pos h, if_pos h, hA_ok b1 b2, gS_v, hA_ok b1 b2, gS_v]
  · rw [if_neg h, if_neg h]
theorem t_comes (hk : k < 2) (hj : j < 256) (hp : 0 ≤ A M_pieces k ∧ A M_pieces k ≤ 1400) {o : Nat} (ho : o < 1000000) {v : Int} : g_X8_comes A k j o v = some (aPut A k j o v) := by
  unfold g_X8_comes aPut
  have e0 : (o : Int) / 64 = ((o / 64 : Nat) : Int) := by omega
  rw [hA_ok (by omega) (by omega), c32_ok (by omega) (by omega), e0, t_pieceAt hk ⟨hp.1, by omega⟩, bd_v]
  cases hq : pa A k j ((o / 64 : Nat) : Int) with
  | some p =>
    have hq := pa_some hq
    show (if 0 ≤ ((1408 * k + p : Nat) : Int) then g_X8_comes_64 A o v ((1408 * k + p : Nat) : Int) else _) = _
    rw [if_pos (by omega), t_comes_64 ho hk (by omega)]
  | none =>
    show (if 0 ≤ (-1 : Int) then _ else _) = _
    rw [if_neg (by decide), hA_ok (by omega) (by omega), hA_ok (by omega) (by omega), hA_ok (by omega) (by omega), tkN, c32_ok (by omega) (by omega), gS_v, hA_ok (by omega) (by omega), gS_v, hA_ok (by omega) (by omega), gS_v, c32_ok (by omega) (by omega)]
    have e1 : (1408 * (k : Int) + A M_pieces k).toNat = 1408 * k + (A M_pieces k).toNat := by omega
    have e2 : 1408 * (k : Int) + A M_pieces k = ((1408 * k + (A M_pieces k).toNat : Nat) : Int) := by omega
    rw [e1, e2, t_comes_64 ho hk (by omega)]
    rfl
/-- what is beyond the pieces is empty -/
def PF (A : AM) : Prop := ∀ k p q, k < 2 → (A M_pieces k).toNat ≤ p → p < 1408 → A M_has (hx k p q) = 0
theorem pa_aPiece (hp : 0 ≤ A M_pieces k) {num k' j' : Nat} {num' : Int} (hk : k < 2) (hk' : k' < 2) (hb : ∀ k, k < 2 → A M_pieces k ≤ 1400) (h0 : ∀ k, k < 2 → 0 ≤ A M_pieces k) : pa (aPiece A k j num) k' j' num' = match pa A k' j' num' with
    | some p => some p
    | none => if k' = k ∧ j' = j ∧ num' = (num : Int) then some (A M_pieces k).toNat else none := by
  unfold pa
  have hbk := hb k hk
  have e1 : ∀ p, p < (A M_pieces k').toNat → (decide (aPiece A k j num M_pieceOf (1408 * k' + p) = (j' : Int) ∧ aPiece A k j num M_pieceNumber (1408 * k' + p) = num')) = decide (A M_pieceOf (1408 * k' + p) = (j' : Int) ∧ A M_pieceNumber (1408 * k' + p) = num') := by
    intro p hp'
    have hbk' := hb k' hk'
    have ne : 1408 * k' + p ≠ 1408 * k + (A M_pieces k).toNat := by
      by_cases e : k' = k
      · subst e; omega
      · omega
    unfold aPiece
    rw [uA_idx _ _ _ _ ne, uA_idx _ _ _ _ ne, uA_idx _ _ _ _ ne, uA_idx _ _ _ _ ne]
    rfl
  by_cases ek : k' = k
  · subst ek
    have et : (aPiece A k' j num M_pieces k').toNat = (A M_pieces k').toNat + 1 := by
      unfold aPiece
      rw [uA_role _ _ _ _ (by decide), uA_role _ _ _ _ (by decide), uA_self]; omega
    rw [et, List.range'_concat, List.find?_append]
    have e2 : (List.range' 0 (A M_pieces k').toNat).find? (fun p => decide (aPiece A k' j num M_pieceOf (1408 * k' + p) = (j' : Int) ∧ aPiece A k' j num M_pieceNumber (1408 * k' + p) = num')) = (List.range' 0 (A M_pieces k').toNat).find? (fun p => decide (A M_pieceOf (1408 * k' + p) = (j' : Int) ∧ A M_pieceNumber (1408 * k' + p) = num')) := by
      apply find?_congr'
      intro p hp'
      simp at hp'
      exact e1 p (by omega)
    rw [e2]
    cases hf : (List.range' 0 (A M_pieces k').toNat).find? (fun p => decide (A M_pieceOf (1408 * k' + p) = (j' : Int) ∧ A M_pieceNumber (1408 * k' + p) = num')) with
    | some p => rfl
    | none =>
      have e3 : aPiece A k' j num M_pieceOf (1408 * k' + (A M_pieces k').toNat) = (j : Int) := by unfold aPiece; rw [uA_role _ _ _ _ (by decide), uA_self]
      have e4 : aPiece A k' j num M_pieceNumber (1408 * k' + (A M_pieces k').toNat) = (num : Int) := by unfold aPiece; rw [uA_self]
      rw [Option.none_or, show 0 + 1 * (A M_pieces k').toNat = (A M_pieces k').toNat by omega, List.find?_cons, e3, e4]
      by_cases q : j' = j ∧ num' = (num : Int)
      · rw [if_pos ⟨rfl, q⟩]
        have hd : decide ((j : Int) = (j' : Int) ∧ (num : Int) = num') = true := by simp; omega
        rw [hd]
      · rw [if_neg (fun z => q z.2)]
        have hd : decide ((j : Int) = (j' : Int) ∧ (num : Int) = num') = false := by simp; omega
        rw [hd]
        rfl
  · have et : aPiece A k j num M_pieces k' = A M_pieces k' := by
      unfold aPiece
      rw [uA_role _ _ _ _ (by decide), uA_role _ _ _ _ (by decide), uA_idx _ _ _ _ ek]
    rw [et]
    have e2 : (List.range' 0 (A M_pieces k').toNat).find? (fun p => decide (aPiece A k j num M_pieceOf (1408 * k' + p) = (j' : Int) ∧ aPiece A k j num M_pieceNumber (1408 * k' + p) = num')) = (List.range' 0 (A M_pieces k').toNat).find? (fun p => decide (A M_pieceOf (1408 * k' + p) = (j' : Int) ∧ A M_pieceNumber (1408 * k' + p) = num')) := by
      apply find?_congr'
      intro p hp'
      simp at hp'
      exact e1 p (by omega)
    rw [e2]
    cases hf : (List.range' 0 (A M_pieces k').toNat).find? (fun p => decide (A M_pieceOf (1408 * k' + p) = (j' : Int) ∧ A M_pieceNumber (1408 * k' + p) = num')) with
    | some p => rfl
    | none => rw [if_neg (fun z => ek z.1)]
end TWP
