/-! RANGES: a cut of what a chain begins with -/
section CUT
variable {A B : AM} {E : L3 → Bool} {k j : Nat}
def cRel (B : AM) (k p : Nat) : AM := uA (uA B (P_next k) p (B (P_o k) 4)) (P_o k) 4 p
theorem c_release {p : Nat} (hp : p < 64) : g_X4_release k B p = some (cRel B k p) := by
  unfold g_X4_release
  rw [hA_ok (by omega) (by omega), gS_v, gS_v, tkN]
  rfl
def cCut (B : AM) (k p : Nat) (b : Int) : AM := if b = B (P_to k) p then cRel B k p else uA B (P_from k) p b
theorem c_cut {ch : Nat → List Nat} {fl : List Nat} (h : CSp E A B k ch fl) {c p : Nat} {l : List Nat} (hc : ch c = p :: l) (hl : Lk (B (P_next k)) (B (P_next k) p) l) {b : Int} (h1 : B (P_from k) p < b) (h2 : b ≤ B (P_to k) p) : g_X4_cut k B p (B (P_from k) p) b = some (cCut B k p b, if b = B (P_to k) p then B (P_next k) p else (p : Int)) := by
  have p64 : p < 64 := by have := h.mem c p (by rw [hc]; exact List.mem_cons_self); have := h.mad; omega
  have rg := h.rng c
  rw [hc] at rg
  obtain ⟨r1, r2, r3⟩ := rg
  have nd := h.ndc c
  rw [hc, List.nodup_cons] at nd
  -- the walk ends at the next one
  have stop : ∀ (C : AM) (f : Nat) (x y : Int), (∀ q ∈ l, C (P_from k) q = B (P_from k) q) → g_X4_cut_9 k (f + 1) C (B (P_from k) p) b x y (B (P_next k) p) = some (C, x) := by
    intro C f x y hC
    show g_X4_cut_9_b k (g_X4_cut_9 k f) C (B (P_from k) p) b x y (B (P_next k) p) = _
    unfold g_X4_cut_9_b
    cases l with
    | nil =>
      have : B (P_next k) p = -1 := hl
      rw [if_pos this]
    | cons q l =>
      obtain ⟨e1, _⟩ := hl
      have q64 : q < 64 := by have := h.mem c q (by rw [hc]; exact List.mem_cons_of_mem _ List.mem_cons_self); have := h.mad; omega
      have := r3.1
      rw [e1, if_neg (by omega), hA_ok (by omega) (by omega), tkN, hC q List.mem_cons_self, if_pos (by omega)]
  unfold g_X4_cut cCut
  rw [show FU = 199998 + 1 + 1 from rfl]
  rw [show ∀ S a b c d e, g_X4_cut_9 k (199998 + 1 + 1) S a b c d e = g_X4_cut_9_b k (g_X4_cut_9 k (199998 + 1)) S a b c d e from fun _ _ _ _ _ _ => rfl]
  unfold g_X4_cut_9_b
  rw [if_neg (by omega), hA_ok (by omega) (by omega), hA_ok (by omega) (by omega), hA_ok (by omega) (by omega), hA_ok (by omega) (by omega), tkN, if_neg (by omega), if_neg (by omega)]
  unfold g_X4_cut_61 g_X4_cut_62 g_X4_cut_119 g_X4_cut_123
  by_cases q : b = B (P_to k) p
  · rw [if_neg (by omega), if_neg (by decide), c_release p64, bd_v, if_neg (fun z => z rfl), if_pos q, if_pos q]
    refine stop (cRel B k p) 199998 _ _ ?_
    intro q' _
    rfl
  · rw [if_pos (by omega), if_pos rfl, hA_ok (by omega) (by omega), tkN, if_neg (by omega)]
    unfold g_X4_trim
    rw [hA_ok (by omega) (by omega), tkN, if_neg (by omega), hA_ok (by omega) (by omega), gS_v, bd_v, if_neg q, if_neg q]
    refine stop (uA B (P_from k) p b) 199998 _ _ ?_
    intro q' hq'
    exact uA_idx _ _ _ _ (fun z => nd.1 (z ▸ hq'))
theorem InR_cons {fr to : Nat → Int} {p : Nat} {l : List Nat} {o : Nat} : InR fr to (p :: l) o ↔ (fr p ≤ o ∧ (o : Int) < to p) ∨ InR fr to l o := by
  unfold InR
  constructor
  · rintro ⟨q, hq, h1⟩
    cases hq with
    | head => exact Or.inl h1
    | tail _ hq => exact Or.inr ⟨q, hq, h1⟩
  · rintro (h1 | ⟨q, hq, h1⟩)
    · exact ⟨p, List.mem_cons_self, h1⟩
    · exact ⟨q, List.mem_cons_of_mem _ hq, h1⟩
theorem InR_cg {fr to fr' to' : Nat → Int} {l : List Nat} {o : Nat} (h : ∀ p ∈ l, fr' p = fr p ∧ to' p = to p) : InR fr' to' l o ↔ InR fr to l o := by
  unfold InR
  constructor
  · rintro ⟨q, hq, h1⟩; have := h q hq; exact ⟨q, hq, by rw [← this.1, ← this.2]; exact h1⟩
  · rintro ⟨q, hq, h1⟩; have := h q hq; exact ⟨q, hq, by rw [this.1, this.2]; exact h1⟩
theorem Rng_cg {fr to fr' to' : Nat → Int} : ∀ {l : List Nat} {lo : Int}, (∀ p ∈ l, fr' p = fr p ∧ to' p = to p) → Rng fr to lo l → Rng fr' to' lo l := by
  intro l
  induction l with
  | nil => intro lo _ _; trivial
  | cons p l ih =>
    intro lo h r
    obtain ⟨r1, r2, r3⟩ := r
    have hp := h p List.mem_cons_self
    refine ⟨by rw [hp.1]; exact r1, by rw [hp.1, hp.2]; exact r2, ?_⟩
    rw [hp.2]
    exact ih (fun q hq => h q (List.mem_cons_of_mem _ hq)) r3
theorem Rng_lo {fr to : Nat → Int} {l : List Nat} {lo lo' : Int} (h : lo' ≤ lo) (r : Rng fr to lo l) : Rng fr to lo' l := by
  cases l with
  | nil => trivial
  | cons p l => exact ⟨by have := r.1; omega, r.2⟩
/-- the chain of what was lost, after the cut -/
theorem CSp.cutted {ch : Nat → List Nat} {fl : List Nat} (h : CSp E A B k ch fl) (hj : j < 256) (hE : E (S_o k j) = true) {p : Nat} {l : List Nat} (hc : ch (2 * j) = p :: l) {b : Int} (h1 : B (P_from k) p < b) (h2 : b ≤ B (P_to k) p) : B (S_o k j) 6 = p ∧ ∃ ch' fl', (∀ A' : AM, (∀ i, i < 256 → ∀ o : Nat, (o < wl A' k i ∧ mkA A' k i o = 2) ↔ (o < wl A k i ∧ mkA A k i o = 2 ∧ ¬ (i = j ∧ B (P_from k) p ≤ o ∧ (o : Int) < b))) → (∀ i, i < 256 → ∀ o : Nat, (o < wl A' k i ∧ mkA A' k i o = 3) ↔ (o < wl A k i ∧ mkA A k i o = 3)) → CSp E A' (uA (cCut B k p b) (S_o k j) 6 (if b = B (P_to k) p then B (P_next k) p else (p : Int))) k ch' fl') := by
  have lk := h.lnl j hj hE
  rw [hc] at lk
  have pm : p ∈ ch (2 * j) := by rw [hc]; exact List.mem_cons_self
  have nd := h.ndc (2 * j)
  rw [hc, List.nodup_cons] at nd
  have rg := h.rng (2 * j)
  rw [hc] at rg
  obtain ⟨r1, r2, r3⟩ := rg
  have los := h.los j hj hE
  rw [hc] at los
  refine ⟨lk.1, ?_⟩
  have jl : ∀ c, ∀ q ∈ ch c, c < 512 := by
    intro c q hq
    by_cases z : c / 2 < 256
    · omega
    · have e := h.emp (c / 2) (fun y => z y.1)
      have : c = 2 * (c / 2) ∨ c = 2 * (c / 2) + 1 := by omega
      rcases this with y | y
      · rw [y, e.1] at hq; cases hq
      · rw [y, e.2] at hq; cases hq
  by_cases q : b = B (P_to k) p
  · refine ⟨fun c => if c = 2 * j then l else ch c, p :: fl, ?_⟩
    intro A' hlo hhe
    unfold cCut
    rw [if_pos q, if_pos q]
    generalize hD : uA (cRel B k p) (S_o k j) 6 (B (P_next k) p) = D
    have d : ∀ (r : L3) (f : Nat), r.1 ≠ 29 → (r = P_next k → f ≠ p) → (r = P_o k → f ≠ 4) → D r f = B r f := by
      intro r f z1 z2 z3
      rw [← hD, uA_tag z1]
      unfold cRel
      rw [uA_at, if_neg (fun z => z3 z.1 z.2), uA_at, if_neg (fun z => z2 z.1 z.2)]
    have dn : ∀ x, x ≠ p → D (P_next k) x = B (P_next k) x := fun x hx => d _ _ (by show 16 ≠ 29; decide) (fun _ => hx) (fun z => by injection z with z; cases z)
    have dnp : D (P_next k) p = B (P_o k) 4 := by
      rw [← hD, uA_tag (by show 16 ≠ 29; decide)]; unfold cRel; rw [uA_tag (by show 16 ≠ 13; decide), uA_self]
    have d3 : D (P_o k) 3 = B (P_o k) 3 := d _ _ (by show 13 ≠ 29; decide) (fun z => by injection z with z; cases z) (fun _ => by decide)
    have d4 : D (P_o k) 4 = p := by rw [← hD, uA_tag (by show 13 ≠ 29; decide)]; unfold cRel; rw [uA_self]
    have df : D (P_from k) = B (P_from k) := funext fun x => d _ _ (by show 14 ≠ 29; decide) (fun z => by injection z with z; cases z) (fun z => by injection z with z; cases z)
    have dt : D (P_to k) = B (P_to k) := funext fun x => d _ _ (by show 15 ≠ 29; decide) (fun z => by injection z with z; cases z) (fun z => by injection z with z; cases z)
    have ds : ∀ i f, ¬ (i = j ∧ f = 6) → D (S_o k i) f = B (S_o k i) f := by
      intro i f hne
      rw [← hD, uA_at, if_neg (fun z => hne ⟨by injection z.1 with _ z; injection z, z.2⟩)]
      unfold cRel
      rw [uA_tag (by show 29 ≠ 13; decide), uA_tag (by show 29 ≠ 16; decide)]
    have d6 : D (S_o k j) 6 = B (P_next k) p := by rw [← hD, uA_self]
    have sub : ∀ c x, x ∈ (if c = 2 * j then l else ch c) → x ∈ ch c := by
      intro c x hx
      by_cases e : c = 2 * j
      · rw [if_pos e] at hx; rw [e, hc]; exact List.mem_cons_of_mem _ hx
      · rw [if_neg e] at hx; exact hx
    have npl : ∀ c x, x ∈ (if c = 2 * j then l else ch c) → x ≠ p := by
      intro c x hx z
      by_cases e : c = 2 * j
      · rw [if_pos e] at hx; exact nd.1 (z ▸ hx)
      · rw [if_neg e] at hx; exact h.dis c (2 * j) e x hx (z ▸ pm)
    refine CSp.make ?_ ?_ ?_ ?_ ?_ ?_ ?_ ?_ ?_ ?_ ?_ ?_ ?_ ?_
    · rw [d3]; exact h.mad
    · rw [d4]
      refine ⟨rfl, ?_⟩
      rw [dnp]
      exact Lk_cg (fun x hx => dn x (fun z => h.dif _ p pm (z ▸ hx))) h.fre
    · intro i hi hEi
      by_cases e : i = j
      · subst e
        rw [if_pos rfl, d6]
        exact Lk_cg (fun x hx => dn x (fun z => nd.1 (z ▸ hx))) lk.2
      · rw [if_neg (by omega), ds i 6 (fun z => e z.1)]
        exact Lk_cg (fun x hx => dn x (fun z => h.dis _ _ (by omega) x hx (z ▸ pm))) (h.lnl i hi hEi)
    · intro i hi hEi
      rw [if_neg (by omega), ds i 7 (fun z => by omega)]
      exact Lk_cg (fun x hx => dn x (fun z => h.dis _ _ (by omega) x hx (z ▸ pm))) (h.lnh i hi hEi)
    · intro i hi
      have := h.emp i hi
      have ne : i ≠ j := fun z => hi (by rw [z]; exact ⟨hj, hE⟩)
      rw [if_neg (by omega), if_neg (by omega)]
      exact this
    · intro c x hx; rw [d3]; exact h.mem c x (sub c x hx)
    · intro x hx
      rw [d3]
      cases hx with
      | head => exact h.mem _ p pm
      | tail _ hx => exact h.mef x hx
    · intro c
      by_cases e : c = 2 * j
      · rw [if_pos e]; exact nd.2
      · rw [if_neg e]; exact h.ndc c
    · rw [List.nodup_cons]; exact ⟨h.dif _ p pm, h.ndf⟩
    · intro c c' hne x hx hx'; exact h.dis c c' hne x (sub c x hx) (sub c' x hx')
    · intro c x hx
      rw [List.mem_cons]
      rintro (z | z)
      · exact npl c x hx z
      · exact h.dif c x (sub c x hx) z
    · intro c
      rw [df, dt]
      by_cases e : c = 2 * j
      · rw [if_pos e]; exact Rng_lo (by omega) r3
      · rw [if_neg e]; exact h.rng c
    · intro i hi hEi o
      rw [df, dt, hlo i hi o]
      by_cases e : i = j
      · subst e
        rw [if_pos rfl]
        have := los o
        rw [InR_cons] at this
        constructor
        · intro z
          have y := this.1 (Or.inr z)
          refine ⟨y.1, y.2, ?_⟩
          rintro ⟨_, y1, y2⟩
          obtain ⟨x, hx, x1, x2⟩ := z
          have := r3.lo x hx
          omega
        · rintro ⟨y1, y2, y3⟩
          rcases this.2 ⟨y1, y2⟩ with z | z
          · exact absurd ⟨rfl, z.1, by omega⟩ y3
          · exact z
      · rw [if_neg (by omega)]
        rw [h.los i hi hEi o]
        exact ⟨fun z => ⟨z.1, z.2, fun y => e y.1⟩, fun z => ⟨z.1, z.2.1⟩⟩
    · intro i hi hEi o
      rw [df, dt, hhe i hi o, if_neg (by omega)]
      exact h.her i hi hEi o
  · refine ⟨ch, fl, ?_⟩
    intro A' hlo hhe
    unfold cCut
    rw [if_neg q, if_neg q]
    generalize hD : uA (uA B (P_from k) p b) (S_o k j) 6 (p : Int) = D
    have d : ∀ (r : L3) (f : Nat), (r = S_o k j → f ≠ 6) → (r = P_from k → f ≠ p) → D r f = B r f := by
      intro r f z1 z2
      rw [← hD, uA_at, if_neg (fun z => z1 z.1 z.2), uA_at, if_neg (fun z => z2 z.1 z.2)]
    have dn : D (P_next k) = B (P_next k) := funext fun x => d _ _ (fun z => by injection z with z; cases z) (fun z => by injection z with z; cases z)
    have do_ : D (P_o k) = B (P_o k) := funext fun x => d _ _ (fun z => by injection z with z; cases z) (fun z => by injection z with z; cases z)
    have dt : D (P_to k) = B (P_to k) := funext fun x => d _ _ (fun z => by injection z with z; cases z) (fun z => by injection z with z; cases z)
    have df : ∀ x, x ≠ p → D (P_from k) x = B (P_from k) x := fun x hx => d _ _ (fun z => by injection z with z; cases z) (fun _ => hx)
    have dfp : D (P_from k) p = b := by rw [← hD, uA_tag (by show 14 ≠ 29; decide), uA_self]
    have ds : ∀ i f, D (S_o k i) f = B (S_o k i) f := by
      intro i f
      by_cases z : i = j ∧ f = 6
      · obtain ⟨rfl, rfl⟩ := z
        rw [← hD, uA_self]; exact lk.1.symm
      · exact d _ _ (fun y y2 => z ⟨by injection y with _ y; injection y, y2⟩) (fun y => by injection y with y; cases y)
    have cg : ∀ c, c ≠ 2 * j → ∀ x ∈ ch c, D (P_from k) x = B (P_from k) x ∧ D (P_to k) x = B (P_to k) x := fun c hc' x hx => ⟨df x (fun z => h.dis c (2 * j) hc' x hx (z ▸ pm)), by rw [dt]⟩
    have cgl : ∀ x ∈ l, D (P_from k) x = B (P_from k) x ∧ D (P_to k) x = B (P_to k) x := fun x hx => ⟨df x (fun z => nd.1 (z ▸ hx)), by rw [dt]⟩
    refine CSp.make ?_ ?_ ?_ ?_ h.emp ?_ ?_ h.ndc h.ndf h.dis h.dif ?_ ?_ ?_
    · rw [do_]; exact h.mad
    · rw [dn, do_]; exact h.fre
    · intro i hi hEi; rw [dn, ds]; exact h.lnl i hi hEi
    · intro i hi hEi; rw [dn, ds]; exact h.lnh i hi hEi
    · rw [do_]; exact h.mem
    · rw [do_]; exact h.mef
    · intro c
      by_cases e : c = 2 * j
      · rw [e, hc]
        refine ⟨by rw [dfp]; omega, by rw [dfp, dt]; omega, ?_⟩
        have y := Rng_cg cgl r3
        rw [dt] at y ⊢
        exact y
      · exact Rng_cg (cg c e) (h.rng c)
    · intro i hi hEi o
      rw [hlo i hi o]
      by_cases e : i = j
      · subst e
        rw [hc, InR_cons, InR_cg cgl, dfp, dt]
        have := los o
        rw [InR_cons] at this
        constructor
        · rintro (z | z)
          · have y := this.1 (Or.inl ⟨by omega, z.2⟩)
            exact ⟨y.1, y.2, fun y3 => by omega⟩
          · have y := this.1 (Or.inr z)
            refine ⟨y.1, y.2, ?_⟩
            rintro ⟨_, y1, y2⟩
            obtain ⟨x, hx, x1, x2⟩ := z
            have := r3.lo x hx
            omega
        · rintro ⟨y1, y2, y3⟩
          rcases this.2 ⟨y1, y2⟩ with z | z
          · left
            refine ⟨?_, z.2⟩
            by_cases y4 : (o : Int) < b
            · exact absurd ⟨rfl, z.1, y4⟩ y3
            · omega
          · exact Or.inr z
      · rw [InR_cg (cg (2 * i) (by omega)), h.los i hi hEi o]
        exact ⟨fun z => ⟨z.1, z.2, fun y => e y.1⟩, fun z => ⟨z.1, z.2.1⟩⟩
    · intro i hi hEi o
      rw [InR_cg (cg (2 * i + 1) (by omega)), hhe i hi o]
      exact h.her i hi hEi o
end CUT
