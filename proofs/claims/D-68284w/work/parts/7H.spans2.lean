section SPB
variable {A B : AM} {E : L3 → Bool} {k j : Nat}
theorem InR_app {fr to : Nat → Int} {l1 l2 : List Nat} {o : Nat} : InR fr to (l1 ++ l2) o ↔ InR fr to l1 o ∨ InR fr to l2 o := by
  unfold InR
  constructor
  · rintro ⟨q, hq, h1⟩
    rcases List.mem_append.1 hq with z | z
    · exact Or.inl ⟨q, z, h1⟩
    · exact Or.inr ⟨q, z, h1⟩
  · rintro (⟨q, hq, h1⟩ | ⟨q, hq, h1⟩)
    · exact ⟨q, List.mem_append_left _ hq, h1⟩
    · exact ⟨q, List.mem_append_right _ hq, h1⟩
theorem Rng_pw {fr to : Nat → Int} : ∀ {l1 l2 : List Nat} {lo : Int}, Rng fr to lo (l1 ++ l2) → ∀ p ∈ l1, ∀ q ∈ l2, to p < fr q := by
  intro l1
  induction l1 with
  | nil => intro l2 lo _ p hp; cases hp
  | cons x l1 ih =>
    intro l2 lo h p hp q hq
    obtain ⟨r1, r2, r3⟩ := h
    cases hp with
    | head => exact (Rng.lo r3 q (List.mem_append_right _ hq)).1
    | tail _ hp => exact ih r3 p hp q hq
theorem Rng_suf {fr to : Nat → Int} : ∀ {l1 l2 : List Nat} {lo : Int}, Rng fr to lo (l1 ++ l2) → ∃ lo2, Rng fr to lo2 l2 := by
  intro l1
  induction l1 with
  | nil => intro l2 lo h; exact ⟨lo, h⟩
  | cons x l1 ih => intro l2 lo h; exact ih h.2.2
theorem Rng_hd {fr to : Nat → Int} {l : List Nat} {lo lo' : Int} (h : Rng fr to lo l) (hh : ∀ p ∈ l, lo' < fr p) : Rng fr to lo' l := by
  cases l with
  | nil => trivial
  | cons p l => exact ⟨hh p List.mem_cons_self, h.2⟩
theorem Rng_ins {fr to fr' to' : Nat → Int} {q : Nat} {l2 rest : List Nat} (h2 : fr' q < to' q) (h3 : Rng fr' to' (to' q) l2) : ∀ {pre : List Nat} {lo : Int}, Rng fr to lo (pre ++ rest) → (∀ p ∈ pre, fr' p = fr p ∧ to' p = to p) → (∀ p ∈ pre, to p < fr' q) → lo < fr' q → Rng fr' to' lo (pre ++ q :: l2) := by
  intro pre
  induction pre with
  | nil => intro lo _ _ _ hlo; exact ⟨hlo, h2, h3⟩
  | cons p pre ih =>
    intro lo h he ht hlo
    obtain ⟨r1, r2, r3⟩ := h
    have ep := he p List.mem_cons_self
    refine ⟨by rw [ep.1]; exact r1, by rw [ep.1, ep.2]; exact r2, ?_⟩
    rw [ep.2]
    exact ih r3 (fun x hx => he x (List.mem_cons_of_mem _ hx)) (fun x hx => ht x (List.mem_cons_of_mem _ hx)) (ht p List.mem_cons_self)
theorem Lk_ins {nx nx' : Nat → Int} {q : Nat} {l2 rest : List Nat} (h2 : Lk nx' q (q :: l2)) : ∀ {pre : List Nat} {a : Int}, pre ≠ [] → Lk nx a (pre ++ rest) → pre.Nodup → (∀ p, pre.getLast? = some p → nx' p = q) → (∀ p ∈ pre, pre.getLast? ≠ some p → nx' p = nx p) → Lk nx' a (pre ++ q :: l2) := by
  intro pre
  induction pre with
  | nil => intro a z; exact absurd rfl z
  | cons p pre ih =>
    intro a _ h nd hl ho
    obtain ⟨e, h⟩ := h
    rw [List.nodup_cons] at nd
    refine ⟨e, ?_⟩
    cases pre with
    | nil =>
      rw [hl p rfl]; exact h2
    | cons p' pre =>
      have np : (p :: p' :: pre).getLast? ≠ some p := by
        rw [List.getLast?_cons_cons]
        intro z
        exact nd.1 (List.mem_of_getLast? z)
      rw [ho p List.mem_cons_self np]
      refine ih (by simp) h nd.2 (fun x hx => hl x (by rw [List.getLast?_cons_cons]; exact hx)) (fun x hx hne => ho x (List.mem_cons_of_mem _ hx) (by rw [List.getLast?_cons_cons]; exact hne))
theorem CSp.added {ch : Nat → List Nat} {fl : List Nat} (h : CSp E A B k ch fl) (hj : j < 256) (hE : E (S_o k j) = true) {u : Nat} (hu : u < 2) {lo hi : Nat} (hlh : lo < hi) (h64 : B (P_o k) 3 < 64) :
    ∃ (D : AM) (v : Int) (ch' : Nat → List Nat) (fl' : List Nat), g_X4_add k B (B (S_o k j) (6 + u)) lo hi = some (D, v) ∧ (∀ (r : L3) (f : Nat), r ≠ P_o k → r ≠ P_from k → r ≠ P_to k → r ≠ P_next k → D r f = B r f) ∧ D (P_o k) 3 ≤ B (P_o k) 3 + 1 ∧
      ∀ A' : AM, (∀ i, i < 256 → ∀ o : Nat, (o < wl A' k i ∧ mkA A' k i o = 2) ↔ (o < wl A k i ∧ mkA A k i o = 2) ∨ (u = 0 ∧ i = j ∧ lo ≤ o ∧ o < hi)) → (∀ i, i < 256 → ∀ o : Nat, (o < wl A' k i ∧ mkA A' k i o = 3) ↔ (o < wl A k i ∧ mkA A k i o = 3) ∨ (u = 1 ∧ i = j ∧ lo ≤ o ∧ o < hi)) → CSp E A' (uA D (S_o k j) (6 + u) v) k ch' fl' := by
  have lk : Lk (B (P_next k)) (B (S_o k j) (6 + u)) (ch (2 * j + u)) := by
    have hu' : u = 0 ∨ u = 1 := by omega
    rcases hu' with rfl | rfl
    · exact h.lnl j hj hE
    · exact h.lnh j hj hE
  have hp : ∀ p ∈ ch (2 * j + u), p < 64 := fun p hp => by have := h.mem _ p hp; have := h.mad; omega
  have rg := h.rng (2 * j + u)
  have nd := h.ndc (2 * j + u)
  have len : (ch (2 * j + u)).length ≤ 64 := nodup_len nd hp
  obtain ⟨pre, post, s1, s2, s3, s4, s5⟩ := c_add12 (B := B) (k := k) (x1 := B (S_o k j) (6 + u)) (lo := lo) (hi := hi) (ch (2 * j + u)) (-1) _ (-1) FU lk hp rg (by unfold FU; omega)
  have lpost : post.length ≤ 64 := by rw [s1, List.length_append] at len; omega
  rw [s1] at rg nd hp lk
  have nd' := List.nodup_append.1 nd
  obtain ⟨lb, rgp⟩ := Rng_suf rg
  obtain ⟨rel, post', lo', hi', t1, t2, t3, t4, t5, t6, t7, t8⟩ := c_add45 (k := k) (x1 := B (S_o k j) (6 + u)) (x4 := lastOr (-1) pre) post B (hd post) lo hi lb FU s5 (fun p hq => hp p (List.mem_append_right _ hq)) nd'.2.1 rgp (by unfold FU; omega) s4 (by omega)
  have s1' : ch (2 * j + u) = pre ++ (rel ++ post') := by rw [s1, t1]
  rw [t1] at nd' rgp
  have ndr := List.nodup_append.1 nd'.2.1
  have inl : ∀ x, x ∈ pre ∨ x ∈ rel ∨ x ∈ post' → x ∈ ch (2 * j + u) := by
    intro x hx
    rw [s1']
    rcases hx with z | z | z
    · exact List.mem_append_left _ z
    · exact List.mem_append_right _ (List.mem_append_left _ z)
    · exact List.mem_append_right _ (List.mem_append_right _ z)
  have rfl_ : ∀ p ∈ rel, p ∉ fl := fun p hp => h.dif _ p (inl p (Or.inr (Or.inl hp)))
  have preN : ∀ x ∈ pre, x ∉ rel ∧ x ∉ post' := fun x hx => ⟨fun z => nd'.2.2 x hx x (List.mem_append_left _ z) rfl, fun z => nd'.2.2 x hx x (List.mem_append_right _ z) rfl⟩
  have relN : ∀ x ∈ rel, x ∉ post' := fun x hx z => ndr.2.2 x hx x z rfl
  have b3 : relAll B k rel (P_o k) 3 = B (P_o k) 3 := relAll_o (fun z => by injection z with z; cases z) (fun _ => by decide)
  have bn : ∀ x, x ∉ rel → relAll B k rel (P_next k) x = B (P_next k) x := fun x hx => relAll_o (fun _ => hx) (fun z => by injection z with z; cases z)
  have fre1 := relAll_fre (k := k) ndr.1 rfl_ h.fre
  have mfl : ∀ p ∈ rel.reverse ++ fl, (p : Int) < B (P_o k) 3 := by
    intro p hp
    rcases List.mem_append.1 hp with z | z
    · exact h.mem _ p (inl p (Or.inr (Or.inl (List.mem_reverse.1 z))))
    · exact h.mef p z
  have ndf1 : (rel.reverse ++ fl).Nodup := by
    rw [List.nodup_append]
    exact ⟨((List.reverse_perm rel).nodup_iff).2 ndr.1, h.ndf, fun x hx y hy e => rfl_ x (List.mem_reverse.1 hx) (e ▸ hy)⟩
  obtain ⟨q, fl', m1, m2, m3⟩ := c_make (B := relAll B k rel) (k := k) (lo := lo') (hi := hi') (nx := hd post') fre1 (fun p hp => by rw [b3]; exact mfl p hp) (by rw [b3]; exact h.mad) (fun _ => by rw [b3]; exact h64)
  -- where q is from
  have q4 : relAll B k rel (P_o k) 4 = -1 ↔ rel.reverse ++ fl = [] := by
    constructor
    · intro z
      cases e : rel.reverse ++ fl with
      | nil => rfl
      | cons y ys => rw [e] at fre1; have := fre1.1; omega
    · intro z; rw [z] at fre1; exact fre1
  have qfresh : rel.reverse ++ fl = [] → B (P_o k) 3 = q := by
    intro z
    rcases m3 with y | ⟨_, _, y⟩
    · rw [z] at y; cases y
    · rw [b3] at y; exact y
  have qin : rel.reverse ++ fl ≠ [] → rel.reverse ++ fl = q :: fl' := by
    intro z
    rcases m3 with y | ⟨y, _, _⟩
    · exact y
    · exact absurd y z
  have qfl : rel.reverse ++ fl = [] → fl' = [] := by
    intro z
    rcases m3 with y | ⟨_, y, _⟩
    · rw [z] at y; cases y
    · exact y
  have qc : ∀ c, ∀ x ∈ ch c, (c = 2 * j + u → x ∉ rel) → x ≠ q := by
    intro c x hx hr e
    subst e
    by_cases z : rel.reverse ++ fl = []
    · have := h.mem c x hx; have := qfresh z; omega
    · have y := qin z
      have : x ∈ rel.reverse ++ fl := by rw [y]; exact List.mem_cons_self
      rcases List.mem_append.1 this with w | w
      · have w' := List.mem_reverse.1 w
        by_cases cc : c = 2 * j + u
        · exact hr cc w'
        · exact h.dis c _ cc x hx (inl x (Or.inr (Or.inl w')))
      · exact h.dif c x hx w
  have qpre : ∀ x ∈ pre, x ≠ q := fun x hx => qc _ x (inl x (Or.inl hx)) (fun _ => (preN x hx).1)
  have qpost : ∀ x ∈ post', x ≠ q := fun x hx => qc _ x (inl x (Or.inr (Or.inr hx))) (fun _ z => relN x z hx)
  have fl'm : ∀ x ∈ fl', x ∈ rel.reverse ++ fl ∧ x ≠ q := by
    intro x hx
    by_cases z : rel.reverse ++ fl = []
    · rw [qfl z] at hx; cases hx
    · have y := qin z
      rw [y] at ndf1 ⊢
      rw [List.nodup_cons] at ndf1
      exact ⟨List.mem_cons_of_mem _ hx, fun e => ndf1.1 (e ▸ hx)⟩
  have fl'c : ∀ x ∈ fl', ∀ c, x ∈ ch c → c = 2 * j + u ∧ x ∈ rel := by
    intro x hx c hc
    rcases List.mem_append.1 (fl'm x hx).1 with w | w
    · have w' := List.mem_reverse.1 w
      by_cases cc : c = 2 * j + u
      · exact ⟨cc, w'⟩
      · exact absurd (inl x (Or.inr (Or.inl w'))) (h.dis c _ cc x hc)
    · exact absurd w (h.dif c x hc)
  -- the memory
  generalize hM : cMk (relAll B k rel) k q lo' hi' (hd post') = M at m1
  have Mo : ∀ (r : L3) (f : Nat), r ≠ P_o k → r ≠ P_from k → r ≠ P_to k → r ≠ P_next k → M r f = B r f := by
    intro r f z1 z2 z3 z4
    rw [← hM]
    unfold cMk
    rw [uA_role _ _ _ _ z4, uA_role _ _ _ _ z3, uA_role _ _ _ _ z2]
    split
    · rw [uA_role _ _ _ _ z1]; exact relAll_o (fun z => absurd z z4) (fun z => absurd z z1)
    · rw [uA_role _ _ _ _ z1]; exact relAll_o (fun z => absurd z z4) (fun z => absurd z z1)
  have Mf : ∀ x, M (P_from k) x = if x = q then lo' else B (P_from k) x := by
    intro x
    rw [← hM]
    unfold cMk
    rw [uA_tag (by show 14 ≠ 16; decide), uA_tag (by show 14 ≠ 15; decide), uA_at]
    by_cases z : x = q
    · rw [if_pos ⟨rfl, z⟩, if_pos z]
    · rw [if_neg (fun y => z y.2), if_neg z]
      split
      · rw [uA_tag (by show 14 ≠ 13; decide)]; exact relAll_o (fun z => by injection z with z; cases z) (fun z => by injection z with z; cases z)
      · rw [uA_tag (by show 14 ≠ 13; decide)]; exact relAll_o (fun z => by injection z with z; cases z) (fun z => by injection z with z; cases z)
  have Mt : ∀ x, M (P_to k) x = if x = q then hi' else B (P_to k) x := by
    intro x
    rw [← hM]
    unfold cMk
    rw [uA_tag (by show 15 ≠ 16; decide), uA_at]
    by_cases z : x = q
    · rw [if_pos ⟨rfl, z⟩, if_pos z]
    · rw [if_neg (fun y => z y.2), if_neg z, uA_tag (by show 15 ≠ 14; decide)]
      split
      · rw [uA_tag (by show 15 ≠ 13; decide)]; exact relAll_o (fun z => by injection z with z; cases z) (fun z => by injection z with z; cases z)
      · rw [uA_tag (by show 15 ≠ 13; decide)]; exact relAll_o (fun z => by injection z with z; cases z) (fun z => by injection z with z; cases z)
  have Mn : ∀ x, M (P_next k) x = if x = q then hd post' else relAll B k rel (P_next k) x := by
    intro x
    rw [← hM]
    unfold cMk
    rw [uA_at]
    by_cases z : x = q
    · rw [if_pos ⟨rfl, z⟩, if_pos z]
    · rw [if_neg (fun y => z y.2), if_neg z, uA_tag (by show 16 ≠ 15; decide), uA_tag (by show 16 ≠ 14; decide)]
      split
      · rw [uA_tag (by show 16 ≠ 13; decide)]
      · rw [uA_tag (by show 16 ≠ 13; decide)]
  have M3 : M (P_o k) 3 = if rel.reverse ++ fl = [] then B (P_o k) 3 + 1 else B (P_o k) 3 := by
    rw [← hM]
    unfold cMk
    rw [uA_tag (by show 13 ≠ 16; decide), uA_tag (by show 13 ≠ 15; decide), uA_tag (by show 13 ≠ 14; decide)]
    by_cases z : rel.reverse ++ fl = []
    · rw [if_pos (q4.2 z), if_pos z, uA_self, b3]
    · rw [if_neg (fun y => z (q4.1 y)), if_neg z, uA_idx _ _ _ _ (by decide), b3]
  have M4 : M (P_o k) 4 = if rel.reverse ++ fl = [] then -1 else relAll B k rel (P_next k) q := by
    rw [← hM]
    unfold cMk
    rw [uA_tag (by show 13 ≠ 16; decide), uA_tag (by show 13 ≠ 15; decide), uA_tag (by show 13 ≠ 14; decide)]
    by_cases z : rel.reverse ++ fl = []
    · rw [if_pos (q4.2 z), if_pos z, uA_idx _ _ _ _ (by decide), q4.2 z]
    · rw [if_neg (fun y => z (q4.1 y)), if_neg z, uA_self]
  have M3le : M (P_o k) 3 ≤ B (P_o k) 3 + 1 ∧ B (P_o k) 3 ≤ M (P_o k) 3 := by rw [M3]; split <;> omega
  have q3 : (q : Int) < M (P_o k) 3 := by
    rw [M3]
    split
    · rename_i z; have := qfresh z; omega
    · rename_i z; exact mfl q (by rw [qin z]; exact List.mem_cons_self)
  have eL : g_X4_add k B (B (S_o k j) (6 + u)) lo hi = if pre = [] then some (M, (q : Int)) else some (uA M (P_next k) (lastOr (-1) pre).toNat q, B (S_o k j) (6 + u)) := by
    unfold g_X4_add
    rw [s2, t2]
    unfold g_X4_add_113
    rw [m1, gB2_v]
    cases hpr : pre.getLast? with
    | none =>
      have : pre = [] := List.getLast?_eq_none_iff.1 hpr
      have e : lastOr (-1) pre = -1 := by unfold lastOr; rw [hpr]
      rw [e, if_neg (fun z => z rfl), if_pos this]
    | some z =>
      have : pre ≠ [] := fun y => by rw [y] at hpr; cases hpr
      have e : lastOr (-1) pre = z := by unfold lastOr; rw [hpr]
      have z64 := hp z (List.mem_append_left _ (List.mem_of_getLast? hpr))
      rw [e, if_pos (by omega), hA_ok (by omega) (by omega), gS_v, if_neg this]
  -- the end
  have fin : ∀ (D : AM) (v : Int), (∀ (r : L3) (f : Nat), r ≠ P_next k → D r f = M r f) → (∀ x, pre.getLast? ≠ some x → D (P_next k) x = M (P_next k) x) → (∀ x, pre.getLast? = some x → D (P_next k) x = q) → (pre = [] → v = q) → (pre ≠ [] → v = B (S_o k j) (6 + u)) →
      ∀ A' : AM, (∀ i, i < 256 → ∀ o : Nat, (o < wl A' k i ∧ mkA A' k i o = 2) ↔ (o < wl A k i ∧ mkA A k i o = 2) ∨ (u = 0 ∧ i = j ∧ lo ≤ o ∧ o < hi)) → (∀ i, i < 256 → ∀ o : Nat, (o < wl A' k i ∧ mkA A' k i o = 3) ↔ (o < wl A k i ∧ mkA A k i o = 3) ∨ (u = 1 ∧ i = j ∧ lo ≤ o ∧ o < hi)) → CSp E A' (uA D (S_o k j) (6 + u) v) k (fun c => if c = 2 * j + u then pre ++ q :: post' else ch c) fl' := by
    intro D v Do Dn Dl v1 v2 A' hlo hhe
    have Z : ∀ (r : L3) (f : Nat), r.1 ≠ 29 → uA D (S_o k j) (6 + u) v r f = D r f := fun r f z => uA_tag z
    have ZS : ∀ i f, ¬ (i = j ∧ f = 6 + u) → uA D (S_o k j) (6 + u) v (S_o k i) f = B (S_o k i) f := by
      intro i f hne
      rw [uA_at, if_neg (fun z => hne ⟨by injection z.1 with _ z; injection z, z.2⟩), Do _ _ (fun z => by injection z with z; cases z), Mo _ _ (fun z => by injection z with z; cases z) (fun z => by injection z with z; cases z) (fun z => by injection z with z; cases z) (fun z => by injection z with z; cases z)]
    have ZSv : uA D (S_o k j) (6 + u) v (S_o k j) (6 + u) = v := uA_self _ _ _ _
    have Zn : ∀ x, uA D (S_o k j) (6 + u) v (P_next k) x = D (P_next k) x := fun x => Z _ _ (by show 16 ≠ 29; decide)
    have Zf : ∀ x, uA D (S_o k j) (6 + u) v (P_from k) x = if x = q then lo' else B (P_from k) x := fun x => by rw [Z _ _ (by show 14 ≠ 29; decide), Do _ _ (fun z => by injection z with z; cases z), Mf]
    have Zt : ∀ x, uA D (S_o k j) (6 + u) v (P_to k) x = if x = q then hi' else B (P_to k) x := fun x => by rw [Z _ _ (by show 15 ≠ 29; decide), Do _ _ (fun z => by injection z with z; cases z), Mt]
    have Z3 : uA D (S_o k j) (6 + u) v (P_o k) 3 = M (P_o k) 3 := by rw [Z _ _ (by show 13 ≠ 29; decide), Do _ _ (fun z => by injection z with z; cases z)]
    have Z4 : uA D (S_o k j) (6 + u) v (P_o k) 4 = M (P_o k) 4 := by rw [Z _ _ (by show 13 ≠ 29; decide), Do _ _ (fun z => by injection z with z; cases z)]
    generalize uA D (S_o k j) (6 + u) v = G at ZS ZSv Zn Zf Zt Z3 Z4
    have lastm : ∀ x, pre.getLast? = some x → x ∈ pre := fun x hx => List.mem_of_getLast? hx
    -- other chains
    have oc : ∀ c, c ≠ 2 * j + u → ∀ x ∈ ch c, G (P_next k) x = B (P_next k) x ∧ G (P_from k) x = B (P_from k) x ∧ G (P_to k) x = B (P_to k) x := by
      intro c hc x hx
      have nq := qc c x hx (fun z => absurd z hc)
      have nl : x ∉ ch (2 * j + u) := h.dis c _ hc x hx
      refine ⟨?_, by rw [Zf, if_neg nq], by rw [Zt, if_neg nq]⟩
      rw [Zn, Dn x (fun z => nl (inl x (Or.inl (lastm x z)))), Mn, if_neg nq, bn x (fun z => nl (inl x (Or.inr (Or.inl z))))]
    have ocl : ∀ c a, c ≠ 2 * j + u → Lk (B (P_next k)) a (ch c) → Lk (G (P_next k)) a (ch c) := fun c a hc hl => Lk_cg (fun x hx => (oc c hc x hx).1) hl
    -- the chain itself
    have ql : Lk (G (P_next k)) q (q :: post') := by
      refine ⟨rfl, ?_⟩
      rw [Zn, Dn q (fun z => qpre q (lastm q z) rfl), Mn, if_pos rfl]
      refine Lk_cg (fun x hx => ?_) t3
      rw [Zn, Dn x (fun z => (preN x (lastm x z)).2 hx), Mn, if_neg (qpost x hx), bn x (fun z => relN x z hx)]
    have il : Lk (G (P_next k)) v (pre ++ q :: post') := by
      by_cases z : pre = []
      · rw [z, v1 z]; exact ql
      · rw [v2 z]
        refine Lk_ins ql z lk nd'.1 (fun x hx => ?_) (fun x hx hne => ?_)
        · rw [Zn, Dl x hx]
        · rw [Zn, Dn x hne, Mn, if_neg (qpre x hx), bn x (preN x hx).1]
    have lo0 : (-1 : Int) < lo' := by
      rcases t8 with z | ⟨x, hx, z⟩
      · omega
      · have := (h.rng (2 * j + u)).lo x (inl x (Or.inr (Or.inl hx))); omega
    have ird : Rng (G (P_from k)) (G (P_to k)) (-1) (pre ++ q :: post') := by
      refine Rng_ins (by rw [Zf, Zt, if_pos rfl, if_pos rfl]; omega) ?_ rg (fun x hx => ⟨by rw [Zf, if_neg (qpre x hx)], by rw [Zt, if_neg (qpre x hx)]⟩) ?_ (by rw [Zf, if_pos rfl]; exact lo0)
      · rw [Zt, if_pos rfl]
        obtain ⟨lb2, rg2⟩ := Rng_suf rgp
        refine Rng_hd (lo := lb2) (Rng_cg (fun x hx => ⟨by rw [Zf, if_neg (qpost x hx)], by rw [Zt, if_neg (qpost x hx)]⟩) rg2) (fun x hx => by rw [Zf, if_neg (qpost x hx)]; exact t6 x hx)
      · intro x hx
        rw [Zf, if_pos rfl]
        rcases t8 with z | ⟨y, hy, z⟩
        · have := s3 x hx; omega
        · rw [t1] at rg
          have := Rng_pw rg x hx y (List.mem_append_left _ hy)
          omega
    have iin : ∀ o : Nat, InR (G (P_from k)) (G (P_to k)) (pre ++ q :: post') o ↔ InR (B (P_from k)) (B (P_to k)) (ch (2 * j + u)) o ∨ (lo ≤ o ∧ o < hi) := by
      intro o
      rw [InR_app, InR_cons, s1', InR_app, InR_app, InR_cg (l := pre) (fun x hx => ⟨by rw [Zf, if_neg (qpre x hx)], by rw [Zt, if_neg (qpre x hx)]⟩), InR_cg (l := post') (fun x hx => ⟨by rw [Zf, if_neg (qpost x hx)], by rw [Zt, if_neg (qpost x hx)]⟩), Zf, Zt, if_pos rfl, if_pos rfl, t7 o]
      have e : ((lo : Int) ≤ (o : Int) ∧ (o : Int) < (hi : Int)) ↔ (lo ≤ o ∧ o < hi) := by constructor <;> (intro z; omega)
      rw [e]
      constructor
      · rintro (z | (z | z) | z)
        · exact Or.inl (Or.inl z)
        · exact Or.inr z
        · exact Or.inl (Or.inr (Or.inl z))
        · exact Or.inl (Or.inr (Or.inr z))
      · rintro ((z | z | z) | z)
        · exact Or.inl z
        · exact Or.inr (Or.inl (Or.inr z))
        · exact Or.inr (Or.inr z)
        · exact Or.inr (Or.inl (Or.inl z))
    have imem : ∀ c x, x ∈ (if c = 2 * j + u then pre ++ q :: post' else ch c) → (x ∈ ch c ∧ x ≠ q ∧ (c = 2 * j + u → x ∉ rel)) ∨ (x = q ∧ c = 2 * j + u) := by
      intro c x hx
      by_cases e : c = 2 * j + u
      · rw [if_pos e] at hx
        rcases List.mem_append.1 hx with z | z
        · exact Or.inl ⟨by rw [e]; exact inl x (Or.inl z), qpre x z, fun _ => (preN x z).1⟩
        · rcases List.mem_cons.1 z with z | z
          · exact Or.inr ⟨z, e⟩
          · exact Or.inl ⟨by rw [e]; exact inl x (Or.inr (Or.inr z)), qpost x z, fun _ y => relN x y z⟩
      · rw [if_neg e] at hx
        exact Or.inl ⟨hx, qc c x hx (fun z => absurd z e), fun z => absurd z e⟩
    have e0 : ∀ i, (2 * i = 2 * j + u ↔ (i = j ∧ u = 0)) := fun i => by omega
    have e1 : ∀ i, (2 * i + 1 = 2 * j + u ↔ (i = j ∧ u = 1)) := fun i => by omega
    refine CSp.make ?_ ?_ ?_ ?_ ?_ ?_ ?_ ?_ ?_ ?_ ?_ ?_ ?_ ?_
    · rw [Z3]; have := h.mad; omega
    · rw [Z4, M4]
      by_cases z : rel.reverse ++ fl = []
      · rw [if_pos z, qfl z]; rfl
      · rw [if_neg z]
        have y := qin z
        rw [y] at fre1
        refine Lk_cg (fun x hx => ?_) fre1.2
        have xm := fl'm x hx
        rw [Zn, Dn x (fun w => ?_), Mn, if_neg xm.2]
        have := (fl'c x hx _ (inl x (Or.inl (lastm x w)))).2
        exact (preN x (lastm x w)).1 this
    · intro i hi' hEi
      try dsimp only
      by_cases z : 2 * i = 2 * j + u
      · rw [if_pos z]
        obtain ⟨z1, z2⟩ := (e0 i).1 z
        subst z1 z2
        exact (show Lk (G (P_next k)) (G (S_o k i) (6 + 0)) _ from by rw [ZSv]; exact il)
      · rw [if_neg z, ZS i 6 (fun w => z ((e0 i).2 ⟨w.1, by omega⟩))]
        exact ocl _ _ z (h.lnl i hi' hEi)
    · intro i hi' hEi
      try dsimp only
      by_cases z : 2 * i + 1 = 2 * j + u
      · rw [if_pos z]
        obtain ⟨z1, z2⟩ := (e1 i).1 z
        subst z1 z2
        exact (show Lk (G (P_next k)) (G (S_o k i) (6 + 1)) _ from by rw [ZSv]; exact il)
      · rw [if_neg z, ZS i 7 (fun w => z ((e1 i).2 ⟨w.1, by omega⟩))]
        exact ocl _ _ z (h.lnh i hi' hEi)
    · intro i hi'
      have ij : i ≠ j := fun z => hi' (by rw [z]; exact ⟨hj, hE⟩)
      try dsimp only
      rw [if_neg (fun z => ij ((e0 i).1 z).1), if_neg (fun z => ij ((e1 i).1 z).1)]
      exact h.emp i hi'
    · intro c x hx
      rw [Z3]
      rcases imem c x hx with z | z
      · have := h.mem c x z.1; omega
      · rw [z.1]; exact q3
    · intro x hx
      rw [Z3]
      have := mfl x (fl'm x hx).1
      omega
    · intro c
      try dsimp only
      by_cases z : c = 2 * j + u
      · rw [if_pos z, List.nodup_append]
        refine ⟨nd'.1, List.nodup_cons.2 ⟨fun y => qpost q y rfl, ndr.2.1⟩, fun x hx y hy e => ?_⟩
        subst e
        rcases List.mem_cons.1 hy with w | w
        · exact qpre x hx w
        · exact (preN x hx).2 w
      · rw [if_neg z]; exact h.ndc c
    · by_cases z : rel.reverse ++ fl = []
      · rw [qfl z]; exact List.nodup_nil
      · rw [qin z, List.nodup_cons] at ndf1; exact ndf1.2
    · intro c c' hne x hx hx'
      rcases imem c x hx with z | z
      · rcases imem c' x hx' with z' | z'
        · exact h.dis c c' hne x z.1 z'.1
        · exact z.2.1 z'.1
      · rcases imem c' x hx' with z' | z'
        · exact z'.2.1 z.1
        · exact hne (by rw [z.2, z'.2])
    · intro c x hx hf
      rcases imem c x hx with z | z
      · have y := fl'c x hf c z.1
        exact z.2.2 y.1 y.2
      · exact (fl'm x hf).2 z.1
    · intro c
      try dsimp only
      by_cases z : c = 2 * j + u
      · rw [if_pos z]; exact ird
      · rw [if_neg z]; exact Rng_cg (fun x hx => (oc c z x hx).2) (h.rng c)
    · intro i hi' hEi o
      try dsimp only
      rw [hlo i hi' o]
      by_cases z : 2 * i = 2 * j + u
      · obtain ⟨z1, z2⟩ := (e0 i).1 z
        rw [if_pos z, iin, ← z, h.los i hi' hEi]
        constructor
        · rintro (y | y)
          · exact Or.inl y
          · exact Or.inr ⟨z2, z1, y.1, y.2⟩
        · rintro (y | y)
          · exact Or.inl y
          · exact Or.inr ⟨y.2.2.1, y.2.2.2⟩
      · rw [if_neg z, InR_cg (fun x hx => (oc _ z x hx).2), h.los i hi' hEi]
        constructor
        · intro y; exact Or.inl y
        · rintro (y | y)
          · exact y
          · exact absurd ((e0 i).2 ⟨y.2.1, y.1⟩) z
    · intro i hi' hEi o
      try dsimp only
      rw [hhe i hi' o]
      by_cases z : 2 * i + 1 = 2 * j + u
      · obtain ⟨z1, z2⟩ := (e1 i).1 z
        rw [if_pos z, iin, ← z, h.her i hi' hEi]
        constructor
        · rintro (y | y)
          · exact Or.inl y
          · exact Or.inr ⟨z2, z1, y.1, y.2⟩
        · rintro (y | y)
          · exact Or.inl y
          · exact Or.inr ⟨y.2.2.1, y.2.2.2⟩
      · rw [if_neg z, InR_cg (fun x hx => (oc _ z x hx).2), h.her i hi' hEi]
        constructor
        · intro y; exact Or.inl y
        · rintro (y | y)
          · exact y
          · exact absurd ((e1 i).2 ⟨y.2.1, y.1⟩) z
  by_cases z : pre = []
  · refine ⟨M, q, _, fl', by rw [eL, if_pos z], Mo, M3le.1, fin M q (fun _ _ _ => rfl) (fun _ _ => rfl) (fun x hx => by rw [z] at hx; cases hx) (fun _ => rfl) (fun y => absurd z y)⟩
  · refine ⟨uA M (P_next k) (lastOr (-1) pre).toNat q, B (S_o k j) (6 + u), _, fl', by rw [eL, if_neg z], fun r f z1 z2 z3 z4 => by rw [uA_role _ _ _ _ z4, Mo r f z1 z2 z3 z4], by rw [uA_tag (by show 13 ≠ 16; decide)]; exact M3le.1, fin _ _ (fun r f hr => uA_role _ _ _ _ hr) ?_ ?_ (fun y => absurd y z) (fun _ => rfl)⟩
    · intro x hx
      refine uA_idx _ _ _ _ (fun w => hx ?_)
      cases hpr : pre.getLast? with
      | none => exact absurd (List.getLast?_eq_none_iff.1 hpr) z
      | some y =>
        have e : lastOr (-1) pre = y := by unfold lastOr; rw [hpr]
        rw [e, tkN] at w
        rw [w]
    · intro x hx
      have e : lastOr (-1) pre = x := by unfold lastOr; rw [hx]
      rw [e, tkN, uA_self]
end SPB
