/-! BLOCKS -/
def CBs (E : L3 → Bool) (B : AM) (k : Nat) (ch : Nat → List Nat) (fl : List Nat) : Prop :=
  (0 ≤ B (B_o k) 4 ∧ B (B_o k) 4 ≤ 64) ∧
  (Lk (B (B_next k)) (B (B_o k) 5) fl) ∧
  (∀ j, j < 256 → E (R_o k j) = true → Lk (B (B_next k)) (B (R_o k j) 7) (ch j)) ∧
  (∀ j, ¬ (j < 256 ∧ E (R_o k j) = true) → ch j = []) ∧
  (∀ c, ∀ p ∈ ch c, (p : Int) < B (B_o k) 4) ∧
  (∀ p ∈ fl, (p : Int) < B (B_o k) 4) ∧
  (∀ c, (ch c).Nodup) ∧
  (fl.Nodup) ∧
  (∀ c c', c ≠ c' → ∀ p ∈ ch c, p ∉ ch c') ∧
  (∀ c, ∀ p ∈ ch c, p ∉ fl)
theorem CBs.mad {E : L3 → Bool} {B : AM} {k : Nat} {ch : Nat → List Nat} {fl : List Nat} (h : CBs E B k ch fl) : 0 ≤ B (B_o k) 4 ∧ B (B_o k) 4 ≤ 64 := h.1
theorem CBs.fre {E : L3 → Bool} {B : AM} {k : Nat} {ch : Nat → List Nat} {fl : List Nat} (h : CBs E B k ch fl) : Lk (B (B_next k)) (B (B_o k) 5) fl := h.2.1
theorem CBs.lnk {E : L3 → Bool} {B : AM} {k : Nat} {ch : Nat → List Nat} {fl : List Nat} (h : CBs E B k ch fl) : ∀ j, j < 256 → E (R_o k j) = true → Lk (B (B_next k)) (B (R_o k j) 7) (ch j) := h.2.2.1
theorem CBs.emp {E : L3 → Bool} {B : AM} {k : Nat} {ch : Nat → List Nat} {fl : List Nat} (h : CBs E B k ch fl) : ∀ j, ¬ (j < 256 ∧ E (R_o k j) = true) → ch j = [] := h.2.2.2.1
theorem CBs.mem {E : L3 → Bool} {B : AM} {k : Nat} {ch : Nat → List Nat} {fl : List Nat} (h : CBs E B k ch fl) : ∀ c, ∀ p ∈ ch c, (p : Int) < B (B_o k) 4 := h.2.2.2.2.1
theorem CBs.mef {E : L3 → Bool} {B : AM} {k : Nat} {ch : Nat → List Nat} {fl : List Nat} (h : CBs E B k ch fl) : ∀ p ∈ fl, (p : Int) < B (B_o k) 4 := h.2.2.2.2.2.1
theorem CBs.ndc {E : L3 → Bool} {B : AM} {k : Nat} {ch : Nat → List Nat} {fl : List Nat} (h : CBs E B k ch fl) : ∀ c, (ch c).Nodup := h.2.2.2.2.2.2.1
theorem CBs.ndf {E : L3 → Bool} {B : AM} {k : Nat} {ch : Nat → List Nat} {fl : List Nat} (h : CBs E B k ch fl) : fl.Nodup := h.2.2.2.2.2.2.2.1
theorem CBs.dis {E : L3 → Bool} {B : AM} {k : Nat} {ch : Nat → List Nat} {fl : List Nat} (h : CBs E B k ch fl) : ∀ c c', c ≠ c' → ∀ p ∈ ch c, p ∉ ch c' := h.2.2.2.2.2.2.2.2.1
theorem CBs.dif {E : L3 → Bool} {B : AM} {k : Nat} {ch : Nat → List Nat} {fl : List Nat} (h : CBs E B k ch fl) : ∀ c, ∀ p ∈ ch c, p ∉ fl := h.2.2.2.2.2.2.2.2.2
theorem CBs.make {E : L3 → Bool} {B : AM} {k : Nat} {ch : Nat → List Nat} {fl : List Nat} (mad : 0 ≤ B (B_o k) 4 ∧ B (B_o k) 4 ≤ 64) (fre : Lk (B (B_next k)) (B (B_o k) 5) fl) (lnk : ∀ j, j < 256 → E (R_o k j) = true → Lk (B (B_next k)) (B (R_o k j) 7) (ch j)) (emp : ∀ j, ¬ (j < 256 ∧ E (R_o k j) = true) → ch j = []) (mem : ∀ c, ∀ p ∈ ch c, (p : Int) < B (B_o k) 4) (mef : ∀ p ∈ fl, (p : Int) < B (B_o k) 4) (ndc : ∀ c, (ch c).Nodup) (ndf : fl.Nodup) (dis : ∀ c c', c ≠ c' → ∀ p ∈ ch c, p ∉ ch c') (dif : ∀ c, ∀ p ∈ ch c, p ∉ fl) : CBs E B k ch fl := ⟨mad, fre, lnk, emp, mem, mef, ndc, ndf, dis, dif⟩
section BLK
variable {A A' B B' : AM} {E : L3 → Bool} {k j n : Nat} {ch : Nat → List Nat} {fl : List Nat}
theorem CBl.str (h : CBl E A B k ch fl) (hp : A M_pieces k ≤ 64) : CBs E B k ch fl :=
  CBs.make ⟨h.mad.1, by have := h.mad.2; omega⟩ h.fre h.lnk (fun j hj => h.emp j (fun z => hj ⟨z.1, z.2.1⟩)) h.mem h.mef h.ndc h.ndf h.dis h.dif
theorem sumTo_nn {f : Nat → Int} {n : Nat} (h : ∀ i, 0 ≤ f i) : 0 ≤ sumTo f n := by
  induction n with
  | zero => exact Int.le_refl _
  | succ n ih => unfold sumTo; have := h n; omega
theorem Cnt.pcs (h : Cnt A n) (ht : 0 ≤ A M_o 3) (h0 : ∀ k, k < 2 → 0 ≤ A M_pieces k) (hk : k < 2) : A M_pieces k ≤ n := by
  obtain ⟨tc, _, c2⟩ := h
  have s : ∀ q, 0 ≤ sumTo (fun j => (uns A q j : Int)) 256 := fun q => sumTo_nn (fun i => by show (0 : Int) ≤ (uns A q i : Nat); omega)
  have s0 := s 0
  have s1 := s 1
  have p0 := h0 0 (by decide)
  have p1 := h0 1 (by decide)
  unfold Psi at c2
  have hk' : k = 0 ∨ k = 1 := by omega
  rcases hk' with rfl | rfl <;> omega
def cDrop (B : AM) (k j p : Nat) : AM := uA (uA (uA B (R_o k j) 7 (B (B_next k) p)) (B_next k) p (B (B_o k) 5)) (B_o k) 5 p
theorem c_drop {p : Nat} (hp : B (R_o k j) 7 = p) (h64 : p < 64) : g_X6_drop k B j = some (cDrop B k j p) := by
  unfold g_X6_drop
  rw [hp, hA_ok (by omega) (by omega), gS_v, hA_ok (by omega) (by omega), gS_v, gS_v, tkN]
  rfl
theorem cDrop_o {p : Nat} (r : L3) (f : Nat) (h1 : r = R_o k j → f ≠ 7) (h2 : r = B_next k → f ≠ p) (h3 : r = B_o k → f ≠ 5) : cDrop B k j p r f = B r f := by
  unfold cDrop
  rw [uA_at, if_neg (fun z => h3 z.1 z.2), uA_at, if_neg (fun z => h2 z.1 z.2), uA_at, if_neg (fun z => h1 z.1 z.2)]
theorem R_ne {k j k' j' : Nat} (h : ¬ (k' = k ∧ j' = j)) : R_o k' j' ≠ R_o k j := fun z => h (by injection z with _ z; injection z with z1 z2; exact ⟨z1, z2⟩)
theorem CBs.drop (h : CBs E B k ch fl) (hj : j < 256) (hE : E (R_o k j) = true) {p : Nat} {l : List Nat} (hl : ch j = p :: l) : B (R_o k j) 7 = p ∧ p < 64 ∧ CBs E (cDrop B k j p) k (fun i => if i = j then l else ch i) (p :: fl) := by
  have lk := h.lnk j hj hE
  rw [hl] at lk
  have pm : p ∈ ch j := by rw [hl]; exact List.mem_cons_self
  have pl := h.mem j p pm
  have p64 : p < 64 := by have := h.mad; omega
  have nd := h.ndc j
  rw [hl, List.nodup_cons] at nd
  have nx : ∀ q, q ≠ p → cDrop B k j p (B_next k) q = B (B_next k) q := fun q hq => cDrop_o _ _ (fun z => by injection z with z; cases z) (fun _ => hq) (fun z => by injection z with z; cases z)
  have nxp : cDrop B k j p (B_next k) p = B (B_o k) 5 := by unfold cDrop; rw [uA_tag (by show 26 ≠ 22; decide), uA_self]
  have b4 : cDrop B k j p (B_o k) 4 = B (B_o k) 4 := cDrop_o _ _ (fun z => by injection z with z; cases z) (fun z => by injection z with z; cases z) (fun _ => by decide)
  have b5 : cDrop B k j p (B_o k) 5 = p := by unfold cDrop; rw [uA_self]
  refine ⟨lk.1, p64, ?_⟩
  refine CBs.make ?_ ?_ ?_ ?_ ?_ ?_ ?_ ?_ ?_ ?_
  · rw [b4]; exact h.mad
  · rw [b5]
    refine ⟨rfl, ?_⟩
    rw [nxp]
    exact Lk_cg (fun q hq => nx q (fun z => h.dif j p pm (z ▸ hq))) h.fre
  · intro i hi hEi
    by_cases e : i = j
    · subst e
      rw [if_pos rfl]
      have b7 : cDrop B k i p (R_o k i) 7 = B (B_next k) p := by unfold cDrop; rw [uA_tag (by show 30 ≠ 22; decide), uA_tag (by show 30 ≠ 26; decide), uA_self]
      rw [b7]
      exact Lk_cg (fun q hq => nx q (fun z => nd.1 (z ▸ hq))) lk.2
    · rw [if_neg e, cDrop_o _ _ (fun z => absurd z (R_ne (fun y => e y.2))) (fun z => by injection z with z; cases z) (fun z => by injection z with z; cases z)]
      exact Lk_cg (fun q hq => nx q (fun z => h.dis i j e q hq (z ▸ pm))) (h.lnk i hi hEi)
  · intro i hi
    by_cases e : i = j
    · subst e; exact absurd ⟨hj, hE⟩ hi
    · rw [if_neg e]; exact h.emp i hi
  · intro i q hq
    rw [b4]
    by_cases e : i = j
    · subst e; rw [if_pos rfl] at hq; exact h.mem i q (by rw [hl]; exact List.mem_cons_of_mem _ hq)
    · rw [if_neg e] at hq; exact h.mem i q hq
  · intro q hq
    rw [b4]
    cases hq with
    | head => exact pl
    | tail _ hq => exact h.mef q hq
  · intro i
    by_cases e : i = j
    · subst e; rw [if_pos rfl]; exact nd.2
    · rw [if_neg e]; exact h.ndc i
  · rw [List.nodup_cons]; exact ⟨h.dif j p pm, h.ndf⟩
  · intro i i' hne q hq
    have sub : ∀ i, q ∈ (if i = j then l else ch i) → q ∈ ch i := by
      intro i hq
      by_cases e : i = j
      · subst e; rw [if_pos rfl] at hq; rw [hl]; exact List.mem_cons_of_mem _ hq
      · rw [if_neg e] at hq; exact hq
    exact fun z => h.dis i i' hne q (sub i hq) (sub i' z)
  · intro i q hq
    rw [List.mem_cons]
    by_cases e : i = j
    · subst e
      rw [if_pos rfl] at hq
      rintro (z | z)
      · exact nd.1 (z ▸ hq)
      · exact h.dif i q (by rw [hl]; exact List.mem_cons_of_mem _ hq) z
    · rw [if_neg e] at hq
      rintro (z | z)
      · exact h.dis i j e q hq (z ▸ pm)
      · exact h.dif i q hq z
/-- the first block is the one that is read -/
theorem CBl.head (h : CBl E A B k ch fl) (hj : j < 256) (hE : E (R_o k j) = true) (hw : A M_wasReset (256 * k + j) = 0) {o : Nat} (hr : A M_read (256 * k + j) = o) (hb : hasB A k j o = true) : ∃ p l, ch j = p :: l ∧ B (B_index k) p = ((o / 64 : Nat) : Int) := by
  obtain ⟨q, hq, _⟩ := hasB_iff.1 hb
  obtain ⟨p, hp, hpi⟩ := h.all j hj hE hw (o / 64) q (by rw [hr]; omega) hq
  cases hc : ch j with
  | nil => rw [hc] at hp; cases hp
  | cons p0 l =>
    refine ⟨p0, l, rfl, ?_⟩
    obtain ⟨m, h1, h2, _⟩ := h.idx j p0 (by rw [hc]; exact List.mem_cons_self)
    rw [hr] at h2
    have h2' : o / 64 ≤ m := by have : ((o : Int)).toNat = o := by omega
                                rw [this] at h2; exact h2
    rw [hc] at hp
    cases hp with
    | head => exact hpi
    | tail _ hp =>
      have rs := h.ris j
      rw [hc, List.pairwise_cons] at rs
      have := rs.1 p hp
      omega
end BLK
