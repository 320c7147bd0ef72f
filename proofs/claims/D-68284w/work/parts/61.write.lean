/-! WRITING -/
section WRI
variable {A A' B B' : AM} {E : L3 → Bool} {k j n : Nat}
theorem cpy_at {f g : Nat → Int} {sp dp n x : Nat} : va_cpy f g sp dp n x = if dp ≤ x ∧ x < dp + n then f (sp + (x - dp)) else g x := by
  by_cases h : dp ≤ x ∧ x < dp + n
  · rw [if_pos h, pk_cpy_in h.1 h.2]
  · rw [if_neg h, pk_cpy_out (by omega)]
/-- bytes come behind the last piece -/
def cExt (B : AM) (k j L u m : Nat) : AM := uA (uA (uA (cpA B C_tape (T_bytes k) 0 u m) (T_size k) L (B (T_size k) L + m)) (T_o k) 1 ((u : Int) + m)) (S_o k j) 1 (B (S_o k j) 1 + m)
theorem cpA_o {src dst : L3} {sp dp n : Nat} (r : L3) (f : Nat) (h : r ≠ dst) : cpA B src dst sp dp n r f = B r f := by unfold cpA; rw [if_neg h]
theorem cExt_o {L u m : Nat} (r : L3) (f : Nat) (h1 : r.1 ≠ 18) (h2 : r.1 = 20 → f ≠ L) (h3 : r.1 = 17 → f ≠ 1) (h4 : r = S_o k j → f ≠ 1) : cExt B k j L u m r f = B r f := by
  unfold cExt
  have e1 : cpA B C_tape (T_bytes k) 0 u m r f = B r f := cpA_o r f (fun z => h1 (by rw [z]))
  have e2 : uA (cpA B C_tape (T_bytes k) 0 u m) (T_size k) L (B (T_size k) L + m) r f = B r f := by
    rw [uA_at, if_neg (fun z => h2 (by rw [z.1]) z.2), e1]
  have e3 : uA (uA (cpA B C_tape (T_bytes k) 0 u m) (T_size k) L (B (T_size k) L + m)) (T_o k) 1 ((u : Int) + m) r f = B r f := by
    rw [uA_at, if_neg (fun z => h3 (by rw [z.1]) z.2), e2]
  rw [uA_at, if_neg (fun z => h4 z.1 z.2), e3]
theorem c_add_95 {L u m : Nat} (hL : B (S_o k j) 5 = L) (hL2 : L < 64) (hu : B (T_o k) 1 = u) (hm : m ≤ 2048) (hum : u + m ≤ 65536) (ht : ∀ i, i < 2048 → -128 ≤ B C_tape i ∧ B C_tape i < 128) (hs : 0 ≤ B (T_size k) L ∧ B (T_size k) L ≤ 65536) (hw : 0 ≤ B (S_o k j) 1 ∧ B (S_o k j) 1 ≤ 65536) : g_X5_add_95 k B j 0 m = some (cExt B k j L u m, (m : Int)) := by
  unfold g_X5_add_95 hY
  rw [hu, if_pos, tkN, tkN, show (0 : Int).toNat = 0 from rfl]
  · have e1 : cpA B C_tape (T_bytes k) 0 u m (S_o k j) 5 = L := hL
    have e2 : cpA B C_tape (T_bytes k) 0 u m (T_size k) L = B (T_size k) L := rfl
    have e3 : uA (cpA B C_tape (T_bytes k) 0 u m) (T_size k) L (B (T_size k) L + m) (T_o k) 1 = u := hu
    have e4 : uA (uA (cpA B C_tape (T_bytes k) 0 u m) (T_size k) L (B (T_size k) L + m)) (T_o k) 1 ((u : Int) + m) (S_o k j) 1 = B (S_o k j) 1 := rfl
    dsimp only
    rw [e1, hA_ok (by omega) (by omega), hA_ok (by omega) (by omega), tkN, e2, c32_ok (by omega) (by omega), gS_v, e3, c32_ok (by omega) (by omega), gS_v, e4, c32_ok (by omega) (by omega), gS_v]
    rfl
  · refine ⟨by omega, by omega, by omega, by omega, by omega, ?_⟩
    rw [List.all_eq_true]
    intro i hi
    rw [tkN] at hi
    have := List.mem_range.1 hi
    have := ht (0 + i) (by omega)
    exact decide_eq_true this
theorem Seg_snoc {at_ sz_ : Nat → Int} {l : List Nat} {x : Nat} : Seg at_ sz_ (l ++ [x]) = Seg at_ sz_ l ++ List.range' (at_ x).toNat (sz_ x).toNat := by
  unfold Seg
  rw [List.flatMap_append, List.flatMap_singleton]
theorem Seg_cg {at_ sz_ at' sz' : Nat → Int} : ∀ {l : List Nat}, (∀ p ∈ l, at' p = at_ p ∧ sz' p = sz_ p) → Seg at' sz' l = Seg at_ sz_ l := by
  intro l
  induction l with
  | nil => intro _; rfl
  | cons p l ih =>
    intro h
    have hp := h p List.mem_cons_self
    have i := ih (fun q hq => h q (List.mem_cons_of_mem _ hq))
    unfold Seg at i ⊢
    rw [List.flatMap_cons, List.flatMap_cons, i, hp.1, hp.2]
theorem CSt.ext {ch : Nat → List Nat} (h : CSt E A B k ch) {L u m : Nat} (hj : j < 256) (hE : E (S_o k j) = true) (hL : (ch j).getLast? = some L) (hu : B (T_o k) 1 = u) (he : B (T_at k) L + B (T_size k) L = u) (hm : m ≤ 2048) (htp : ∀ i, i < 2048 → B C_tape i = b8 (A M_tape i)) : CSt E (aWrite A k j m) (cExt B k j L u m) k ch := by
  have tu : A M_total k = u := by rw [← h.use, hu]
  have h0 : 0 ≤ A M_total k := by omega
  have tn : (A M_total k).toNat = u := by omega
  obtain ⟨r1, r2, r3, r4⟩ := aWrite_row (A := A) (k := k) (j := j) (m := m) h0
  have ct : aWrite A k j m M_total k = A M_total k + m := aWrite_tot
  have at_ : ∀ p, cExt B k j L u m (T_at k) p = B (T_at k) p := fun p => cExt_o _ _ (by show 19 ≠ 18; decide) (fun z => absurd z (by show 19 ≠ 20; decide)) (fun z => absurd z (by show 19 ≠ 17; decide)) (fun z => by injection z with z; cases z)
  have nx : ∀ p, cExt B k j L u m (T_next k) p = B (T_next k) p := fun p => cExt_o _ _ (by show 21 ≠ 18; decide) (fun z => absurd z (by show 21 ≠ 20; decide)) (fun z => absurd z (by show 21 ≠ 17; decide)) (fun z => by injection z with z; cases z)
  have so : ∀ i f, f ≠ 1 → cExt B k j L u m (S_o k i) f = B (S_o k i) f := fun i f hf => cExt_o _ _ (by show 29 ≠ 18; decide) (fun z => absurd z (by show 29 ≠ 20; decide)) (fun z => absurd z (by show 29 ≠ 17; decide)) (fun _ => hf)
  have sz_ : ∀ p, cExt B k j L u m (T_size k) p = if p = L then B (T_size k) L + m else B (T_size k) p := by
    intro p
    by_cases q : p = L
    · subst q
      rw [if_pos rfl]
      unfold cExt
      rw [uA_tag (by show 20 ≠ 29; decide), uA_tag (by show 20 ≠ 17; decide), uA_self]
    · rw [if_neg q]
      exact cExt_o _ _ (by show 20 ≠ 18; decide) (fun _ => q) (fun z => absurd z (by show 20 ≠ 17; decide)) (fun z => by injection z with z; cases z)
  have o5 : cExt B k j L u m (T_o k) 5 = B (T_o k) 5 := cExt_o _ _ (by show 17 ≠ 18; decide) (fun z => absurd z (by show 17 ≠ 20; decide)) (fun _ => by decide) (fun z => by injection z with z; cases z)
  have o1 : cExt B k j L u m (T_o k) 1 = (u : Int) + m := by unfold cExt; rw [uA_tag (by show 17 ≠ 29; decide), uA_self]
  have by_ : ∀ i, cExt B k j L u m (T_bytes k) i = if u ≤ i ∧ i < u + m then B C_tape (0 + (i - u)) else B (T_bytes k) i := by
    intro i
    unfold cExt
    rw [uA_tag (by show 18 ≠ 29; decide), uA_tag (by show 18 ≠ 17; decide), uA_tag (by show 18 ≠ 20; decide)]
    unfold cpA
    rw [if_pos rfl, cpy_at]
  have hLm : L ∈ ch j := List.mem_of_getLast? hL
  refine CSt.make ?_ ?_ ?_ ?_ ?_ h.emp ?_ h.ndp h.dis ?_
  · rw [o1, ct, tu]
  · intro i hi
    rw [ct] at hi
    rw [by_, r2, tn]
    by_cases q : u ≤ i
    · rw [if_pos (by omega), if_pos (by omega), htp _ (by omega), show 65536 * k + i - (65536 * k + u) = i - u by omega, Nat.zero_add]
    · rw [if_neg (by omega), if_neg (by omega)]
      exact h.byt i (by omega)
  · rw [o5]; exact h.npc
  · intro i hi hEi
    rw [so i 4 (by decide)]
    exact Lk_cg (fun p _ => nx p) (h.lnk i hi hEi)
  · intro i hi hEi
    rw [so i 5 (by decide)]
    exact h.las i hi hEi
  · intro i p hp
    have mm := h.mem i p hp
    have mL := h.mem j L hLm
    rw [o5, at_, sz_, ct]
    split
    · rename_i q; subst q; omega
    · omega
  · intro i hi hEi
    have sg := h.seg i hi hEi
    rw [aWrite_pos h0]
    by_cases q : i = j
    · subst q
      rw [if_pos rfl, ← sg, tn]
      obtain ⟨l, hl⟩ : ∃ l, ch i = l ++ [L] := by
        have := List.getLast?_eq_some_iff.1 hL
        exact this
      have nd := h.ndp i
      rw [hl] at nd ⊢
      rw [List.nodup_append] at nd
      have mL := h.mem i L hLm
      have cg : Seg (cExt B k i L u m (T_at k)) (cExt B k i L u m (T_size k)) l = Seg (B (T_at k)) (B (T_size k)) l := by
        refine Seg_cg (fun p hp => ⟨at_ p, ?_⟩)
        have := nd.2.2 p hp L (List.mem_singleton.2 rfl)
        rw [sz_, if_neg this]
      rw [Seg_snoc, Seg_snoc, cg, at_, sz_, if_pos rfl, List.append_assoc, show (B (T_size k) L + (m : Int)).toNat = (B (T_size k) L).toNat + m by omega, ← List.range'_append_1, show u = (B (T_at k) L).toNat + (B (T_size k) L).toNat by omega]
    · rw [if_neg q, ← sg]
      refine Seg_cg (fun p hp => ⟨at_ p, ?_⟩)
      rw [sz_, if_neg]
      intro z
      exact h.dis i j q p hp (z ▸ hLm)
/-- what the component's memory is after writing -/
def cWr (B : AM) (k j u m : Nat) : AM :=
  if B (S_o k j) 5 = -1 ∨ B (T_at k) (B (S_o k j) 5).toNat + B (T_size k) (B (S_o k j) 5).toNat ≠ u then cExt (cPc2 B k j (B (T_o k) 5).toNat) k j (B (T_o k) 5).toNat u m else cExt B k j (B (S_o k j) 5).toNat u m
theorem c_add {ch : Nat → List Nat} (h : CSt E A B k ch) {u m : Nat} {x : Int} (hj : j < 256) (hE : E (S_o k j) = true) (hu : B (T_o k) 1 = u) (hmx : mnZ x (65536 - u) = m) (hm1 : 1 ≤ m) (hm : m ≤ 2048) (hum : u + m ≤ 65536) (htp : ∀ i, i < 2048 → B C_tape i = b8 (A M_tape i)) (hn : B (T_o k) 5 < 64) (hw : 0 ≤ B (S_o k j) 1 ∧ B (S_o k j) 1 ≤ 65536) : g_X5_add k B j 0 x = some (cWr B k j u m, (m : Int)) ∧ ∃ ch', CSt E (aWrite A k j m) (cWr B k j u m) k ch' := by
  have tu : A M_total k = u := by rw [← h.use, hu]
  obtain ⟨N, hN⟩ := Int.eq_ofNat_of_zero_le h.npc.1
  have h64 : N < 64 := by omega
  have tb : ∀ i, i < 2048 → -128 ≤ B C_tape i ∧ B C_tape i < 128 := fun i hi => by rw [htp i hi]; exact ⟨b8_lo _, b8_hi _⟩
  have la := h.las j hj hE
  have pc := h.piece hN h64 hj hE (by omega)
  have tpc : ∀ i, cPc2 B k j N C_tape i = B C_tape i := fun i => cPc2_o _ _ (by decide) (by decide) (by decide) (by decide) (fun z => by injection z with z; cases z)
  have p5 : cPc2 B k j N (S_o k j) 5 = N := by unfold cPc2; rw [uA_self]
  have p1 : cPc2 B k j N (S_o k j) 1 = B (S_o k j) 1 := cPc2_o _ _ (by show 29 ≠ 17; decide) (by show 29 ≠ 19; decide) (by show 29 ≠ 20; decide) (by show 29 ≠ 21; decide) (fun _ => ⟨by decide, by decide⟩)
  have pu : cPc2 B k j N (T_o k) 1 = u := by rw [← hu]; rw [cPc2_T 17 1 (by omega)]; unfold cPc; rw [uA_idx _ _ _ _ (by decide), uA_tag (by show 17 ≠ 21; decide), uA_tag (by show 17 ≠ 20; decide), uA_tag (by show 17 ≠ 19; decide)]
  have ps : cPc2 B k j N (T_size k) N = 0 := by rw [cPc2_T 20 N (by omega)]; unfold cPc; rw [uA_tag (by show 20 ≠ 17; decide), uA_tag (by show 20 ≠ 21; decide), uA_self]
  have pa_ : cPc2 B k j N (T_at k) N = u := by rw [cPc2_T 19 N (by omega)]; unfold cPc; rw [uA_tag (by show 19 ≠ 17; decide), uA_tag (by show 19 ≠ 21; decide), uA_tag (by show 19 ≠ 20; decide), uA_self, hu]
  have e55 : g_X5_add_55 k B j 0 m = some (cExt (cPc2 B k j N) k j N u m, (m : Int)) := by
    have a95 := c_add_95 (B := cPc2 B k j N) (k := k) (j := j) (L := N) (u := u) (m := m) p5 h64 pu hm hum (fun i hi => by rw [tpc]; exact tb i hi) (by rw [ps]; omega) (by rw [p1]; exact hw)
    unfold g_X5_add_55 g_X5_add_89
    have s5 : cPc B k j N (S_o k j) 5 = B (S_o k j) 5 := cPc_o _ _ (by show 29 ≠ 17; decide) (by show 29 ≠ 19; decide) (by show 29 ≠ 20; decide) (by show 29 ≠ 21; decide)
    rw [c_piece (j := j) hN h64, gB2_v, s5]
    by_cases q : B (S_o k j) 5 = -1
    · rw [if_neg (fun z => z q), gS_v, gS_v]
      unfold cPc2 at a95 ⊢
      rw [if_pos q] at a95 ⊢
      exact a95
    · have : ∃ x : Nat, B (S_o k j) 5 = x ∧ x < 64 := by
        cases hl : (ch j).getLast? with
        | none => rw [hl] at la; exact absurd la q
        | some x =>
          rw [hl] at la
          have := (h.mem j x (List.mem_of_getLast? hl)).1
          have := h.npc
          exact ⟨x, la, by omega⟩
      obtain ⟨x, hx, hx2⟩ := this
      rw [if_pos q, hA_ok (by omega) (by omega), gS_v, gS_v]
      unfold cPc2 at a95 ⊢
      rw [if_neg q] at a95 ⊢
      exact a95
  have eN : (B (T_o k) 5).toNat = N := by omega
  have cs55 : ∃ ch', CSt E (aWrite A k j m) (cExt (cPc2 B k j N) k j N u m) k ch' := by
    refine ⟨_, pc.ext hj hE (L := N) ?_ pu ?_ hm ?_⟩
    · rw [if_pos rfl, List.getLast?_append]; rfl
    · rw [pa_, ps]; omega
    · intro i hi; rw [tpc]; exact htp i hi
  unfold g_X5_add cWr
  rw [hu, c32_ok (by omega) (by omega), hmx, if_pos (by omega), eN]
  by_cases q : B (S_o k j) 5 = -1
  · rw [if_pos q, if_pos (Or.inl q)]
    exact ⟨e55, cs55⟩
  · cases hl : (ch j).getLast? with
    | none => rw [hl] at la; exact absurd la q
    | some x =>
      rw [hl] at la
      have la' : B (S_o k j) 5 = (x : Int) := la
      have hxm : x ∈ ch j := List.mem_of_getLast? hl
      have mx := h.mem j x hxm
      have hx64 : x < 64 := by have := h.npc; omega
      rw [if_neg q, la', hA_ok (by omega) (by omega), hA_ok (by omega) (by omega), tkN, c32_ok (by omega) (by omega)]
      by_cases q2 : B (T_at k) x + B (T_size k) x = u
      · rw [if_pos q2, if_neg (by intro z; rcases z with z | z; omega; exact z q2)]
        exact ⟨c_add_95 la' hx64 hu hm hum tb (by omega) hw, _, h.ext hj hE hl hu q2 hm htp⟩
      · rw [if_neg q2, if_pos (Or.inr q2)]
        exact ⟨e55, cs55⟩
end WRI
