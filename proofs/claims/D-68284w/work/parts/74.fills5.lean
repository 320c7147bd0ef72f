section FI5
variable {A B : AM} {E : L3 → Bool} {k j n b m : Nat} {room : Int}
theorem fi_none {st : Int} (h : fi A k j st = none) : ∀ o, o < wl A k j → mkA A k j o ≠ st := by
  intro o ho
  unfold fi at h
  rw [List.findIdx?_eq_none_iff] at h
  have := h _ (List.mem_of_getElem? (pos_get ho))
  unfold mkA
  exact of_decide_eq_false this
theorem fi_is {st : Int} (h1 : b < wl A k j) (h2 : mkA A k j b = st) (h3 : ∀ i, i < b → mkA A k j i ≠ st) : fi A k j st = some b := by
  cases e : fi A k j st with
  | none => exact absurd h2 (fi_none e b h1)
  | some b' =>
    obtain ⟨g1, g2, g3⟩ := fi_lt e
    by_cases q : b' < b
    · exact absurd g2 (h3 b' q)
    · by_cases q2 : b < b'
      · exact absurd h2 (g3 b q2)
      · rw [show b' = b by omega]
theorem fi_no {st : Int} (h : ∀ o, o < wl A k j → mkA A k j o ≠ st) : fi A k j st = none := by
  cases e : fi A k j st with
  | none => rfl
  | some b' =>
    obtain ⟨g1, g2, _⟩ := fi_lt e
    exact absurd g2 (h b' g1)
/-- the first range of what was lost -/
theorem CSp.first {ch : Nat → List Nat} {fl : List Nat} (h : CSp E A B k ch fl) (hj : j < 256) (hE : E (S_o k j) = true) {p : Nat} {l : List Nat} (hc : ch (2 * j) = p :: l) : ∃ b t : Nat, B (P_from k) p = b ∧ B (P_to k) p = t ∧ b < t ∧ t ≤ wl A k j ∧ fi A k j 2 = some b ∧ (∀ o, b ≤ o → o < t → mkA A k j o = 2) ∧ (t < wl A k j → mkA A k j t ≠ 2) := by
  have rg := h.rng (2 * j)
  rw [hc] at rg
  obtain ⟨r1, r2, r3⟩ := rg
  have los := h.los j hj hE
  rw [hc] at los
  obtain ⟨b, eb⟩ := Int.eq_ofNat_of_zero_le (show 0 ≤ B (P_from k) p by omega)
  obtain ⟨t, et⟩ := Int.eq_ofNat_of_zero_le (show 0 ≤ B (P_to k) p by omega)
  have inn : ∀ o, b ≤ o → o < t → o < wl A k j ∧ mkA A k j o = 2 := fun o h1 h2 => (los o).1 (InR_cons.2 (Or.inl ⟨by omega, by omega⟩))
  have out : ∀ o, o < b ∨ o = t → ¬ InR (B (P_from k)) (B (P_to k)) (p :: l) o := by
    intro o ho z
    rw [InR_cons] at z
    rcases z with z | ⟨q, hq, z1, z2⟩
    · omega
    · have := r3.lo q hq
      omega
  have b0 := inn b (by omega) (by omega)
  have t1 := inn (t - 1) (by omega) (by omega)
  refine ⟨b, t, eb, et, by omega, by omega, fi_is b0.1 b0.2 ?_, fun o h1 h2 => (inn o h1 h2).2, ?_⟩
  · intro i hi z
    exact out i (Or.inl hi) ((los i).2 ⟨by omega, z⟩)
  · intro ht z
    exact out t (Or.inr rfl) ((los t).2 ⟨ht, z⟩)
theorem CSp.nolost {ch : Nat → List Nat} {fl : List Nat} (h : CSp E A B k ch fl) (hj : j < 256) (hE : E (S_o k j) = true) (hc : ch (2 * j) = []) : fi A k j 2 = none := by
  refine fi_no (fun o ho z => ?_)
  have := (h.los j hj hE o).2 ⟨ho, z⟩
  rw [hc] at this
  obtain ⟨q, hq, _⟩ := this
  cases hq
end FI5
