/-! counting ranges -/
theorem countP_ext {l : List Nat} {p q : Nat → Bool} (h : ∀ x ∈ l, p x = q x) : l.countP p = l.countP q := by
  induction l with
  | nil => rfl
  | cons a l ih =>
    rw [List.countP_cons, List.countP_cons, ih (fun x hx => h x (List.mem_cons_of_mem _ hx)), h a List.mem_cons_self]
theorem self_map (l : List Nat) : l = (List.range' 0 l.length).map (fun i => l.getD i 0) := by
  apply List.ext_getElem
  · simp
  · intro i h1 h2
    simp [List.getElem?_eq_getElem h1]
theorem countP_rng (l : List Nat) (p : Nat → Bool) : l.countP p = (List.range' 0 l.length).countP (fun i => p (l.getD i 0)) := by
  conv => lhs; rw [self_map l]
  rw [List.countP_map]
  rfl
theorem cn_rng {A : AM} {k j : Nat} {st : Int} : cn A k j st = (List.range' 0 (wl A k j)).countP (fun o => decide (mkA A k j o = st)) := by
  unfold cn wl
  rw [countP_rng]
  rfl
theorem sn_rng {A : AM} {k j : Nat} : sn A k j = (List.range' 0 (wl A k j)).countP (fun o => decide (mkA A k j o ≠ 0)) := by
  unfold sn wl
  rw [countP_rng]
  rfl
theorem countP_or {l : List Nat} {p q : Nat → Bool} (h : ∀ x ∈ l, ¬ (p x = true ∧ q x = true)) : l.countP (fun x => p x || q x) = l.countP p + l.countP q := by
  induction l with
  | nil => rfl
  | cons a l ih =>
    rw [List.countP_cons, List.countP_cons, List.countP_cons, ih (fun x hx => h x (List.mem_cons_of_mem _ hx))]
    have := h a List.mem_cons_self
    cases hp : p a <;> cases hq : q a <;> simp_all <;> omega
theorem countP_seg (N x y : Nat) (h1 : x ≤ y) (h2 : y ≤ N) : (List.range' 0 N).countP (fun o => decide (x ≤ o ∧ o < y)) = y - x := by
  induction N with
  | zero =>
    have : y = 0 := by omega
    subst this
    show 0 = _
    omega
  | succ N ih =>
    rw [List.range'_concat, List.countP_append, List.countP_singleton]
    by_cases e : y = N + 1
    · subst e
      by_cases e2 : x = N + 1
      · subst e2
        rw [if_neg (by simp), countP_ext (q := fun _ => false) (fun o ho => by rw [List.mem_range'_1] at ho; exact decide_eq_false (by omega))]
        simp
      · rw [if_pos (by simp; omega)]
        have h3 := countP_ext (l := List.range' 0 N) (p := fun o => decide (x ≤ o ∧ o < N + 1)) (q := fun o => decide (x ≤ o ∧ o < N)) (fun o ho => by rw [List.mem_range'_1] at ho; exact decide_eq_decide.2 (by omega))
        rw [h3]
        have h4 : ∀ M z : Nat, z ≤ M → (List.range' 0 M).countP (fun o => decide (z ≤ o ∧ o < M)) = M - z := by
          intro M
          induction M with
          | zero => intro z hz; show 0 = _; omega
          | succ M ihM =>
            intro z hz
            rw [List.range'_concat, List.countP_append, List.countP_singleton]
            have h5 := countP_ext (l := List.range' 0 M) (p := fun o => decide (z ≤ o ∧ o < M + 1)) (q := fun o => decide (z ≤ o ∧ o < M)) (fun o ho => by rw [List.mem_range'_1] at ho; exact decide_eq_decide.2 (by omega))
            rw [h5]
            by_cases z2 : z = M + 1
            · subst z2
              rw [if_neg (by simp), countP_ext (q := fun _ => false) (fun o ho => by rw [List.mem_range'_1] at ho; exact decide_eq_false (by omega))]
              simp
            · rw [ihM z (by omega), if_pos (by simp; omega)]
              omega
        rw [h4 N x (by omega)]
        omega
    · rw [ih (by omega), if_neg (by simp; omega), Nat.add_zero]
/-- all that a chain of ranges has -/
def Sm (fr to : Nat → Int) : List Nat → Int
  | [] => 0
  | p :: l => (to p - fr p) + Sm fr to l
def inRb (fr to : Nat → Int) (l : List Nat) (o : Nat) : Bool := l.any (fun p => decide (fr p ≤ o ∧ (o : Int) < to p))
theorem inRb_iff {fr to : Nat → Int} {l : List Nat} {o : Nat} : inRb fr to l o = true ↔ InR fr to l o := by
  unfold inRb InR
  simp
theorem Rng.lo {fr to : Nat → Int} : ∀ {l : List Nat} {lo : Int}, Rng fr to lo l → ∀ p ∈ l, lo < fr p ∧ fr p < to p := by
  intro l
  induction l with
  | nil => intro lo _ p hp; cases hp
  | cons a l ih =>
    intro lo h p hp
    obtain ⟨h1, h2, h3⟩ := h
    cases hp with
    | head => exact ⟨h1, h2⟩
    | tail _ hp =>
      have := ih h3 p hp
      omega
theorem Sm_count {fr to : Nat → Int} {N : Nat} : ∀ {l : List Nat} {lo : Int}, -1 ≤ lo → Rng fr to lo l → (∀ p ∈ l, to p ≤ N) → Sm fr to l = ((List.range' 0 N).countP (inRb fr to l) : Nat) := by
  intro l
  induction l with
  | nil =>
    intro lo _ _ _
    rw [countP_ext (p := inRb fr to []) (q := fun _ => false) (fun o _ => rfl)]
    simp [Sm]
  | cons p l ih =>
    intro lo hlo h hb
    obtain ⟨h1, h2, h3⟩ := h
    have hp := hb p List.mem_cons_self
    have e : inRb fr to (p :: l) = fun o : Nat => decide (fr p ≤ (o : Int) ∧ (o : Int) < to p) || inRb fr to l o := rfl
    rw [e, countP_or]
    · have i := ih (by omega) h3 (fun q hq => hb q (List.mem_cons_of_mem _ hq))
      have s := countP_seg N (fr p).toNat (to p).toNat (by omega) (by omega)
      rw [countP_ext (p := fun o => decide (fr p ≤ o ∧ (o : Int) < to p)) (q := fun o => decide ((fr p).toNat ≤ o ∧ o < (to p).toNat)) (fun o _ => decide_eq_decide.2 (by omega)), s]
      unfold Sm
      rw [i]
      omega
    · intro o _ hc
      obtain ⟨c1, c2⟩ := hc
      rw [decide_eq_true_eq] at c1
      rw [inRb_iff] at c2
      obtain ⟨q, hq, c3⟩ := c2
      have := h3.lo q hq
      omega
theorem nodup_len {N : Nat} : ∀ {l : List Nat}, l.Nodup → (∀ p ∈ l, p < N) → l.length ≤ N := by
  induction N with
  | zero =>
    intro l _ hb
    cases l with
    | nil => exact Nat.le_refl _
    | cons a l => exact absurd (hb a List.mem_cons_self) (by omega)
  | succ N ih =>
    intro l h hb
    by_cases hm : N ∈ l
    · have h1 := ih (h.erase N) (fun p hp => by
        have h2 := (h.mem_erase_iff).1 hp
        have := hb p h2.2
        have := h2.1
        omega)
      rw [List.length_erase_of_mem hm] at h1
      omega
    · have := ih h (fun p hp => by
        have h2 := hb p hp
        have h3 : p ≠ N := fun e => hm (e ▸ hp)
        omega)
      omega
section LKS
variable {A A' B B' : AM} {E : L3 → Bool} {k j n n' : Nat} {P P' : Nat → Nat → Prop}
theorem c_count_4 {N : Nat} (hN : N ≤ 65536) : ∀ (l : List Nat) (a acc lo : Int) (f : Nat), Lk (B (P_next k)) a l → (∀ p ∈ l, p < 64) → -1 ≤ lo → Rng (B (P_from k)) (B (P_to k)) lo l → (∀ p ∈ l, B (P_to k) p ≤ N) → l.length < f → 0 ≤ acc → acc ≤ lo + 1 → g_X4_count_4 k B f acc a = some (acc + Sm (B (P_from k)) (B (P_to k)) l) := by
  intro l
  induction l with
  | nil =>
    intro a acc lo f hl _ _ _ _ hf _ _
    obtain ⟨f, rfl⟩ : ∃ g, f = g + 1 := ⟨f - 1, by simp at hf; omega⟩
    have ha : a = -1 := hl
    rw [show g_X4_count_4 k B (f + 1) acc a = g_X4_count_4_b k B (g_X4_count_4 k B f) acc a from rfl]
    unfold g_X4_count_4_b
    rw [if_pos ha]
    simp [Sm]
  | cons p l ih =>
    intro a acc lo f hl hp hlo hr hN' hf h0 h1
    obtain ⟨f, rfl⟩ : ∃ g, f = g + 1 := ⟨f - 1, by simp at hf; omega⟩
    obtain ⟨ha, hl⟩ := hl
    obtain ⟨r1, r2, r3⟩ := hr
    have p64 := hp p List.mem_cons_self
    have pN := hN' p List.mem_cons_self
    rw [show g_X4_count_4 k B (f + 1) acc a = g_X4_count_4_b k B (g_X4_count_4 k B f) acc a from rfl]
    unfold g_X4_count_4_b
    subst ha
    rw [if_neg (by omega), hA_ok (by omega) (by omega), hA_ok (by omega) (by omega), hA_ok (by omega) (by omega), tkN, c32_ok (by omega) (by omega)]
    rw [ih _ _ (B (P_to k) p) f hl (fun q hq => hp q (List.mem_cons_of_mem _ hq)) (by omega) r3 (fun q hq => hN' q (List.mem_cons_of_mem _ hq)) (by simp at hf; omega) (by omega) (by omega)]
    rw [show Sm (B (P_from k)) (B (P_to k)) (p :: l) = (B (P_to k) p - B (P_from k) p) + Sm (B (P_from k)) (B (P_to k)) l from rfl, Int.add_assoc]
theorem InR_hi {fr to : Nat → Int} {l : List Nat} {lo : Int} {N : Nat} (hlo : -1 ≤ lo) (h : Rng fr to lo l) (hb : ∀ o : Nat, InR fr to l o → o < N) : ∀ p ∈ l, to p ≤ N := by
  intro p hp
  have h1 := h.lo p hp
  have h2 := hb (to p - 1).toNat ⟨p, hp, by omega, by omega⟩
  omega
theorem c_count {l : List Nat} {st a : Int} (h : TB A) (hk : k < 2) (hl : Lk (B (P_next k)) a l) (hp : ∀ p ∈ l, p < 64) (hnd : l.Nodup) (hr : Rng (B (P_from k)) (B (P_to k)) (-1) l) (hm : ∀ o : Nat, InR (B (P_from k)) (B (P_to k)) l o ↔ o < wl A k j ∧ mkA A k j o = st) : g_X4_count k B a = some (cn A k j st : Int) := by
  have hw := wl_le (j := j) (h.tot k hk)
  have hb := InR_hi (Int.le_refl _) hr (fun o ho => ((hm o).1 ho).1)
  have hlen := nodup_len hnd hp
  unfold g_X4_count
  rw [c_count_4 hw l a 0 (-1) FU hl hp (Int.le_refl _) hr hb (by unfold FU; omega) (Int.le_refl _) (by omega), Sm_count (Int.le_refl _) hr hb, cn_rng, Int.zero_add]
  congr 2
  apply countP_ext
  intro o ho
  rw [List.mem_range'_1] at ho
  have := hm o
  rw [← inRb_iff] at this
  by_cases q : mkA A k j o = st
  · rw [this.2 ⟨by omega, q⟩, decide_eq_true q]
  · rw [decide_eq_false q]
    cases e : inRb (B (P_from k)) (B (P_to k)) l o
    · rfl
    · exact absurd (this.1 e).2 q
end LKS
