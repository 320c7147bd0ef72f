/-! RANGES: one more -/
section SPA
variable {A B : AM} {E : L3 → Bool} {k j : Nat}
def hd : List Nat → Int
  | [] => -1
  | p :: _ => p
def lastOr (x : Int) (l : List Nat) : Int := match l.getLast? with
  | none => x
  | some p => p
theorem Lk.hd {nx : Nat → Int} {a : Int} {l : List Nat} (h : Lk nx a l) : a = hd l := by
  cases l with
  | nil => exact h
  | cons p l => exact h.1
def relAll (B : AM) (k : Nat) : List Nat → AM
  | [] => B
  | p :: l => relAll (cRel B k p) k l
theorem cRel_o {p : Nat} (r : L3) (f : Nat) (h1 : r = P_next k → f ≠ p) (h2 : r = P_o k → f ≠ 4) : cRel B k p r f = B r f := by
  unfold cRel
  rw [uA_at, if_neg (fun z => h2 z.1 z.2), uA_at, if_neg (fun z => h1 z.1 z.2)]
theorem relAll_o {r : L3} {f : Nat} : ∀ {l : List Nat} {B : AM}, (r = P_next k → f ∉ l) → (r = P_o k → f ≠ 4) → relAll B k l r f = B r f := by
  intro l
  induction l with
  | nil => intro B _ _; rfl
  | cons p l ih =>
    intro B h1 h2
    show relAll (cRel B k p) k l r f = _
    rw [ih (fun z y => h1 z (List.mem_cons_of_mem _ y)) h2, cRel_o r f (fun z y => h1 z (by rw [y]; exact List.mem_cons_self)) h2]
theorem relAll_fre : ∀ {l : List Nat} {B : AM} {fl : List Nat}, l.Nodup → (∀ p ∈ l, p ∉ fl) → Lk (B (P_next k)) (B (P_o k) 4) fl → Lk (relAll B k l (P_next k)) (relAll B k l (P_o k) 4) (l.reverse ++ fl) := by
  intro l
  induction l with
  | nil => intro B fl _ _ h; exact h
  | cons p l ih =>
    intro B fl nd hd h
    rw [List.nodup_cons] at nd
    rw [List.reverse_cons, List.append_assoc]
    refine ih nd.2 ?_ ?_
    · intro q hq z
      rcases List.mem_cons.1 z with z | z
      · exact nd.1 (z ▸ hq)
      · exact hd q (List.mem_cons_of_mem _ hq) z
    · have e4 : cRel B k p (P_o k) 4 = p := by unfold cRel; rw [uA_self]
      have en : cRel B k p (P_next k) p = B (P_o k) 4 := by unfold cRel; rw [uA_tag (by show 16 ≠ 13; decide), uA_self]
      rw [e4]
      refine ⟨rfl, ?_⟩
      rw [en]
      refine Lk_cg (fun q hq => ?_) h
      exact cRel_o _ _ (fun _ z => hd p List.mem_cons_self (z ▸ hq)) (fun z => by injection z with z; cases z)
theorem Rng.all {fr to : Nat → Int} : ∀ {l : List Nat} {lo : Int}, Rng fr to lo l → ∀ p ∈ l, lo < fr p ∧ fr p < to p := by
  intro l
  induction l with
  | nil => intro lo _ p hp; cases hp
  | cons q l ih =>
    intro lo h p hp
    obtain ⟨r1, r2, r3⟩ := h
    cases hp with
    | head => exact ⟨r1, r2⟩
    | tail _ hp => have := ih r3 p hp; omega
theorem c_add45 {x1 x4 : Int} : ∀ (post : List Nat) (B : AM) (x5 lo hi lb : Int) (f : Nat), Lk (B (P_next k)) x5 post → (∀ p ∈ post, p < 64) → post.Nodup → Rng (B (P_from k)) (B (P_to k)) lb post → post.length < f → (∀ p ∈ post, lo ≤ B (P_to k) p) → lo < hi →
    ∃ (rel post' : List Nat) (lo' hi' : Int), post = rel ++ post' ∧ g_X4_add_45 k f B x1 x4 x5 lo hi = g_X4_add_113 k (relAll B k rel) x1 x4 (hd post') lo' hi' ∧ Lk (B (P_next k)) (hd post') post' ∧ lo' ≤ lo ∧ hi ≤ hi' ∧ (∀ p ∈ post', hi' < B (P_from k) p) ∧ (∀ o : Nat, (lo' ≤ o ∧ (o : Int) < hi') ↔ (lo ≤ o ∧ (o : Int) < hi) ∨ InR (B (P_from k)) (B (P_to k)) rel o) ∧ (lo' = lo ∨ ∃ p ∈ rel, lo' = B (P_from k) p) := by
  intro post
  induction post with
  | nil =>
    intro B x5 lo hi lb f hl _ _ _ hf _ hlh
    obtain ⟨f, rfl⟩ : ∃ g, f = g + 1 := ⟨f - 1, by simp at hf; omega⟩
    refine ⟨[], [], lo, hi, rfl, ?_, rfl, Int.le_refl _, Int.le_refl _, (fun p hp => by cases hp), ?_, Or.inl rfl⟩
    · show g_X4_add_45_b k (g_X4_add_45 k f) B x1 x4 x5 lo hi = _
      unfold g_X4_add_45_b
      have e : x5 = -1 := hl
      rw [if_pos e, e]
      rfl
    · intro o
      constructor
      · intro z; exact Or.inl z
      · rintro (z | ⟨q, hq, _⟩)
        · exact z
        · cases hq
  | cons p l ih =>
    intro B x5 lo hi lb f hl hp nd rg hf hto hlh
    obtain ⟨f, rfl⟩ : ∃ g, f = g + 1 := ⟨f - 1, by simp at hf; omega⟩
    obtain ⟨e5, hl2⟩ := hl
    obtain ⟨r1, r2, r3⟩ := rg
    rw [List.nodup_cons] at nd
    have p64 := hp p List.mem_cons_self
    have pto := hto p List.mem_cons_self
    have e0 : g_X4_add_45 k (f + 1) B x1 x4 x5 lo hi = g_X4_add_45_b k (g_X4_add_45 k f) B x1 x4 x5 lo hi := rfl
    rw [e0]
    unfold g_X4_add_45_b
    rw [e5, if_neg (by omega), hA_ok (by omega) (by omega), tkN]
    by_cases q : hi < B (P_from k) p
    · rw [if_pos q]
      refine ⟨[], p :: l, lo, hi, rfl, rfl, ⟨rfl, hl2⟩, Int.le_refl _, Int.le_refl _, ?_, ?_, Or.inl rfl⟩
      · intro x hx
        cases hx with
        | head => exact q
        | tail _ hx => have := r3.all x hx; omega
      · intro o
        constructor
        · intro z; exact Or.inl z
        · rintro (z | ⟨q, hq, _⟩)
          · exact z
          · cases hq
    · rw [if_neg q, hA_ok (by omega) (by omega), hA_ok (by omega) (by omega), hA_ok (by omega) (by omega), c_release p64, bd_v]
      have cf : cRel B k p (P_from k) = B (P_from k) := funext fun x => cRel_o _ _ (fun z => by injection z with z; cases z) (fun z => by injection z with z; cases z)
      have ct : cRel B k p (P_to k) = B (P_to k) := funext fun x => cRel_o _ _ (fun z => by injection z with z; cases z) (fun z => by injection z with z; cases z)
      have cn : ∀ x, x ≠ p → cRel B k p (P_next k) x = B (P_next k) x := fun x hx => cRel_o _ _ (fun _ => hx) (fun z => by injection z with z; cases z)
      have ml : mnZ lo (B (P_from k) p) ≤ lo ∧ mnZ lo (B (P_from k) p) ≤ B (P_from k) p ∧ (mnZ lo (B (P_from k) p) = lo ∨ mnZ lo (B (P_from k) p) = B (P_from k) p) := by unfold mnZ; split <;> omega
      have mh : hi ≤ mxZ hi (B (P_to k) p) ∧ B (P_to k) p ≤ mxZ hi (B (P_to k) p) ∧ (mxZ hi (B (P_to k) p) = hi ∨ mxZ hi (B (P_to k) p) = B (P_to k) p) := by unfold mxZ; split <;> omega
      obtain ⟨rel, post', lo', hi', i1, i2, i3, i4, i5, i6, i7, i8⟩ := ih (cRel B k p) (B (P_next k) p) (mnZ lo (B (P_from k) p)) (mxZ hi (B (P_to k) p)) (B (P_to k) p) f (Lk_cg (fun x hx => cn x (fun z => nd.1 (z ▸ hx))) hl2) (fun x hx => hp x (List.mem_cons_of_mem _ hx)) nd.2 (by rw [cf, ct]; exact r3) (by simp at hf; omega) (fun x hx => by rw [ct]; have := r3.all x hx; omega) (by omega)
      rw [cf] at i6 i7 i8
      rw [ct] at i7
      refine ⟨p :: rel, post', lo', hi', by rw [i1]; rfl, i2, ?_, by omega, by omega, i6, ?_, ?_⟩
      · refine Lk_cg (fun x hx => (cn x (fun z => ?_)).symm) i3
        exact nd.1 (by rw [i1]; exact List.mem_append_right _ (z ▸ hx))
      · intro o
        rw [i7 o, InR_cons]
        constructor
        · rintro (z | z)
          · by_cases y : lo ≤ o ∧ (o : Int) < hi
            · exact Or.inl y
            · exact Or.inr (Or.inl (by clear i8; omega))
          · exact Or.inr (Or.inr z)
        · rintro (z | z | z)
          · exact Or.inl (by clear i8; omega)
          · exact Or.inl (by clear i8; omega)
          · exact Or.inr z
      · rcases i8 with z | ⟨x, hx, z⟩
        · rcases ml.2.2 with y | y
          · exact Or.inl (by omega)
          · exact Or.inr ⟨p, List.mem_cons_self, by omega⟩
        · exact Or.inr ⟨x, List.mem_cons_of_mem _ hx, z⟩
theorem lastOr_cons {x : Int} {p : Nat} {l : List Nat} : lastOr x (p :: l) = lastOr p l := by
  unfold lastOr
  cases l with
  | nil => rfl
  | cons q l =>
    rw [List.getLast?_cons_cons]
    cases h : (q :: l).getLast? with
    | none => simp at h
    | some y => rfl
theorem c_add12 {x1 lo hi : Int} : ∀ (l : List Nat) (x4 x5 lb : Int) (f : Nat), Lk (B (P_next k)) x5 l → (∀ p ∈ l, p < 64) → Rng (B (P_from k)) (B (P_to k)) lb l → l.length < f →
    ∃ pre post : List Nat, l = pre ++ post ∧ g_X4_add_12 k f B x1 lo x4 x5 lo hi = g_X4_add_45 k FU B x1 (lastOr x4 pre) (hd post) lo hi ∧ (∀ p ∈ pre, B (P_to k) p < lo) ∧ (∀ p ∈ post, lo ≤ B (P_to k) p) ∧ Lk (B (P_next k)) (hd post) post := by
  intro l
  induction l with
  | nil =>
    intro x4 x5 lb f hl _ _ hf
    obtain ⟨f, rfl⟩ : ∃ g, f = g + 1 := ⟨f - 1, by simp at hf; omega⟩
    refine ⟨[], [], rfl, ?_, (fun p hp => by cases hp), (fun p hp => by cases hp), rfl⟩
    show g_X4_add_12_b k (g_X4_add_12 k f) B x1 lo x4 x5 lo hi = _
    unfold g_X4_add_12_b
    have e : x5 = -1 := hl
    rw [if_pos e, e]
    rfl
  | cons p l ih =>
    intro x4 x5 lb f hl hp rg hf
    obtain ⟨f, rfl⟩ : ∃ g, f = g + 1 := ⟨f - 1, by simp at hf; omega⟩
    obtain ⟨e5, hl2⟩ := hl
    obtain ⟨r1, r2, r3⟩ := rg
    have p64 := hp p List.mem_cons_self
    have e0 : g_X4_add_12 k (f + 1) B x1 lo x4 x5 lo hi = g_X4_add_12_b k (g_X4_add_12 k f) B x1 lo x4 x5 lo hi := rfl
    rw [e0]
    unfold g_X4_add_12_b
    rw [e5, if_neg (by omega), hA_ok (by omega) (by omega), tkN]
    by_cases q : lo ≤ B (P_to k) p
    · rw [if_pos q]
      refine ⟨[], p :: l, rfl, rfl, (fun p hp => by cases hp), ?_, ⟨rfl, hl2⟩⟩
      intro x hx
      cases hx with
      | head => exact q
      | tail _ hx => have := r3.all x hx; omega
    · rw [if_neg q, hA_ok (by omega) (by omega)]
      obtain ⟨pre, post, i1, i2, i3, i4, i5⟩ := ih p (B (P_next k) p) (B (P_to k) p) f hl2 (fun x hx => hp x (List.mem_cons_of_mem _ hx)) r3 (by simp at hf; omega)
      refine ⟨p :: pre, post, by rw [i1]; rfl, by rw [i2, lastOr_cons], ?_, i4, i5⟩
      intro x hx
      cases hx with
      | head => omega
      | tail _ hx => exact i3 x hx
/-- one range made -/
def cMk (B : AM) (k q : Nat) (lo hi nx : Int) : AM := uA (uA (uA (if B (P_o k) 4 = -1 then uA B (P_o k) 3 (B (P_o k) 3 + 1) else uA B (P_o k) 4 (B (P_next k) q)) (P_from k) q lo) (P_to k) q hi) (P_next k) q nx
theorem c_make {lo hi nx : Int} {fl : List Nat} (hf : Lk (B (P_next k)) (B (P_o k) 4) fl) (hfl : ∀ p ∈ fl, (p : Int) < B (P_o k) 3) (hm : 0 ≤ B (P_o k) 3 ∧ B (P_o k) 3 ≤ 64) (h64 : fl = [] → B (P_o k) 3 < 64) : ∃ (q : Nat) (fl' : List Nat), g_X4_make k B lo hi nx = some (cMk B k q lo hi nx, (q : Int)) ∧ q < 64 ∧ (fl = q :: fl' ∨ (fl = [] ∧ fl' = [] ∧ B (P_o k) 3 = q)) := by
  unfold g_X4_make
  cases fl with
  | nil =>
    have e4 : B (P_o k) 4 = -1 := hf
    have h6 := h64 rfl
    refine ⟨(B (P_o k) 3).toNat, [], ?_, by omega, Or.inr ⟨rfl, rfl, by omega⟩⟩
    rw [if_pos e4, if_pos (by omega)]
    unfold g_X4_make_89 g_X4_make_102 cMk
    rw [c32_ok (by omega) (by omega), gS_v, hA_ok (by omega) (by omega), gS_v, hA_ok (by omega) (by omega), gS_v, hA_ok (by omega) (by omega), gS_v, if_pos e4, show ((B (P_o k) 3).toNat : Int) = B (P_o k) 3 by omega]
  | cons q fl =>
    obtain ⟨e4, _⟩ := hf
    have := hfl q List.mem_cons_self
    refine ⟨q, fl, ?_, by omega, Or.inl rfl⟩
    rw [if_neg (by omega), hA_ok (by omega) (by omega), gS_v]
    unfold g_X4_make_102 cMk
    rw [hA_ok (by omega) (by omega), gS_v, hA_ok (by omega) (by omega), gS_v, hA_ok (by omega) (by omega), gS_v, if_neg (by omega), e4, tkN]
end SPA
