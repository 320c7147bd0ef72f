section IGN
variable {A B : AM} {E : L3 → Bool} {k j b m : Nat} {st : Int}
theorem aGn_posi (i : Nat) : pos (aGn A k j b st m) k i = pos A k i := pos_cg (aGn_o _ _ (by decide)) (fun i _ => aGn_o _ _ (by decide))
theorem aGn_wl (i : Nat) : wl (aGn A k j b st m) k i = wl A k i := by unfold wl; rw [aGn_posi]
theorem aGn_mkj (hb : b + m ≤ wl A k j) (h1 : ∀ o, b ≤ o → o < b + m → mkA A k j o = 1) {o : Nat} (ho : o < wl A k j) : mkA (aGn A k j b st m) k j o = if b ≤ o ∧ o < b + m then st else mkA A k j o := by
  by_cases q : b ≤ o ∧ o < b + m
  · have := h1 o q.1 q.2
    unfold mkA at this ⊢
    rw [aGn_posi, aGn_mk, if_pos q, if_pos ⟨⟨o - b, by omega, by rw [show b + (o - b) = o by omega]⟩, by rw [this]; decide⟩]
  · unfold mkA
    rw [aGn_posi, aGn_mk, if_neg q, if_neg]
    rintro ⟨⟨i, z1, z2⟩, _⟩
    have := pos_inj ho (show b + i < wl A k j by omega) (by omega)
    omega
theorem aGn_mki (hb : b + m ≤ wl A k j) {i o : Nat} (hi : i ≠ j) (ho : o < wl A k i) : mkA (aGn A k j b st m) k i o = mkA A k i o := by
  unfold mkA
  rw [aGn_posi, aGn_mk, if_neg]
  rintro ⟨⟨t, h1, h2⟩, _⟩
  exact pos_ne hi ho (show b + t < wl A k j by omega) (by omega)
theorem aGn_cni (hb : b + m ≤ wl A k j) {i : Nat} (hi : i ≠ j) (s : Int) : cn (aGn A k j b st m) k i s = cn A k i s := by
  rw [cn_rng, cn_rng, aGn_wl]
  apply countP_ext
  intro o ho
  rw [List.mem_range'_1] at ho
  rw [aGn_mki hb hi (by omega)]
theorem aGn_sni (hb : b + m ≤ wl A k j) {i : Nat} (hi : i ≠ j) : sn (aGn A k j b st m) k i = sn A k i := by
  rw [sn_rng, sn_rng, aGn_wl]
  apply countP_ext
  intro o ho
  rw [List.mem_range'_1] at ho
  rw [aGn_mki hb hi (by omega)]
theorem aGn_cn (hb : b + m ≤ wl A k j) (h1 : ∀ o, b ≤ o → o < b + m → mkA A k j o = 1) {s : Int} (hs : s ≠ 1) (hs2 : s ≠ st) : cn (aGn A k j b st m) k j s = cn A k j s := by
  rw [cn_rng, cn_rng, aGn_wl]
  apply countP_ext
  intro o ho
  rw [List.mem_range'_1] at ho
  rw [aGn_mkj hb h1 (by omega)]
  split
  · rename_i q
    rw [decide_eq_false (fun z => hs2 z.symm), h1 o q.1 q.2, decide_eq_false (fun z => hs z.symm)]
  · rfl
theorem aGn_sn (hb : b + m ≤ wl A k j) (h1 : ∀ o, b ≤ o → o < b + m → mkA A k j o = 1) (hst : st ≠ 0) : sn (aGn A k j b st m) k j = sn A k j := by
  rw [sn_rng, sn_rng, aGn_wl]
  apply countP_ext
  intro o ho
  rw [List.mem_range'_1] at ho
  rw [aGn_mkj hb h1 (by omega)]
  split
  · rename_i q
    rw [h1 o q.1 q.2, decide_eq_true hst]; rfl
  · rfl
theorem aGn_sa (h1 : ∀ o, b ≤ o → o < b + m → mkA A k j o = 1) (hst : st ≠ 0) : sa (aGn A k j b st m) k = sa A k := by
  unfold sa
  rw [aGn_o _ _ (by decide)]
  apply countP_ext
  intro o _
  rw [aGn_mk]
  split
  · rename_i q
    obtain ⟨⟨i, h2, h3⟩, _⟩ := q
    have := h1 (b + i) (by omega) (by omega)
    unfold mkA at this
    rw [← h3] at this
    rw [this, decide_eq_true hst]; rfl
  · rfl
theorem c_cut_no {x2 x3 : Int} : ∀ (l : List Nat) (x4 x5 x6 lb : Int) (f : Nat), Lk (B (P_next k)) x6 l → (∀ p ∈ l, p < 64) → Rng (B (P_from k)) (B (P_to k)) lb l → l.length < f → (∀ p ∈ l, B (P_to k) p ≤ x2 ∨ x3 ≤ B (P_from k) p) → g_X4_cut_9 k f B x2 x3 x4 x5 x6 = some (B, x4) := by
  intro l
  induction l with
  | nil =>
    intro x4 x5 x6 lb f hl _ _ hf _
    obtain ⟨f, rfl⟩ : ∃ g, f = g + 1 := ⟨f - 1, by simp at hf; omega⟩
    show g_X4_cut_9_b k (g_X4_cut_9 k f) B x2 x3 x4 x5 x6 = _
    unfold g_X4_cut_9_b
    have e : x6 = -1 := hl
    rw [if_pos e]
  | cons p l ih =>
    intro x4 x5 x6 lb f hl hp rg hf hd
    obtain ⟨f, rfl⟩ : ∃ g, f = g + 1 := ⟨f - 1, by simp at hf; omega⟩
    obtain ⟨e6, hl2⟩ := hl
    obtain ⟨r1, r2, r3⟩ := rg
    have p64 := hp p List.mem_cons_self
    have pd := hd p List.mem_cons_self
    have e0 : g_X4_cut_9 k (f + 1) B x2 x3 x4 x5 x6 = g_X4_cut_9_b k (g_X4_cut_9 k f) B x2 x3 x4 x5 x6 := rfl
    rw [e0]
    unfold g_X4_cut_9_b
    rw [e6, if_neg (by omega), hA_ok (by omega) (by omega), tkN]
    by_cases q : x3 ≤ B (P_from k) p
    · rw [if_pos q]
    · have := ih x4 p (B (P_next k) p) (B (P_to k) p) f hl2 (fun x hx => hp x (List.mem_cons_of_mem _ hx)) r3 (by simp at hf; omega) (fun x hx => hd x (List.mem_cons_of_mem _ hx))
      rw [if_neg q, hA_ok (by omega) (by omega), hA_ok (by omega) (by omega), if_pos (by omega)]
      unfold g_X4_cut_61 g_X4_cut_62 g_X4_cut_119 g_X4_cut_123
      rw [if_pos rfl, hA_ok (by omega) (by omega), tkN, if_pos (by omega), this]
/-- nothing of what was lost lies there -/
theorem CSp.cut0 {ch : Nat → List Nat} {fl : List Nat} (h : CSp E A B k ch fl) (hj : j < 256) (hE : E (S_o k j) = true) {lo hi : Int} (h0 : 0 ≤ lo) (hlh : lo < hi) (hd : ∀ o : Nat, lo ≤ o → (o : Int) < hi → ¬ (o < wl A k j ∧ mkA A k j o = 2)) : g_X4_cut k B (B (S_o k j) 6) lo hi = some (B, B (S_o k j) 6) := by
  have hp : ∀ p ∈ ch (2 * j), p < 64 := fun p hp => by have := h.mem _ p hp; have := h.mad; omega
  have len := nodup_len (h.ndc (2 * j)) hp
  unfold g_X4_cut
  refine c_cut_no (ch (2 * j)) _ _ _ (-1) FU (h.lnl j hj hE) hp (h.rng _) (by unfold FU; omega) ?_
  intro p hp'
  have r := (h.rng (2 * j)).lo p hp'
  by_cases z : B (P_to k) p ≤ lo ∨ hi ≤ B (P_from k) p
  · exact z
  · exfalso
    by_cases y : lo ≤ B (P_from k) p
    · refine hd (B (P_from k) p).toNat (by omega) (by omega) ((h.los j hj hE _).1 ⟨p, hp', by omega, by omega⟩)
    · refine hd lo.toNat (by omega) (by omega) ((h.los j hj hE _).1 ⟨p, hp', by omega, by omega⟩)
theorem c_g126 {ch : Nat → List Nat} {fl : List Nat} (h : CSp E A B k ch fl) (hj : j < 256) (hE : E (S_o k j) = true) {x3 x4 : Int} : ∀ (l : List Nat) (x6 : Int) (f : Nat), Lk (B (P_next k)) x6 l → (∀ p ∈ l, p ∈ ch (2 * j + 1)) → l.length < f → g_X2_isGone_126 k f B j x3 x4 x6 = g_X2_isGone_186 k B j x4 := by
  intro l
  induction l with
  | nil =>
    intro x6 f hl _ hf
    obtain ⟨f, rfl⟩ : ∃ g, f = g + 1 := ⟨f - 1, by simp at hf; omega⟩
    show g_X2_isGone_126_b k (g_X2_isGone_126 k f) B j x3 x4 x6 = _
    unfold g_X2_isGone_126_b
    have e : x6 = -1 := hl
    rw [if_pos e]
  | cons p l ih =>
    intro x6 f hl hp hf
    obtain ⟨f, rfl⟩ : ∃ g, f = g + 1 := ⟨f - 1, by simp at hf; omega⟩
    obtain ⟨e6, hl2⟩ := hl
    have pm := hp p List.mem_cons_self
    have p64 : p < 64 := by have := h.mem _ p pm; have := h.mad; omega
    have r := (h.rng (2 * j + 1)).lo p pm
    have e0 : g_X2_isGone_126 k (f + 1) B j x3 x4 x6 = g_X2_isGone_126_b k (g_X2_isGone_126 k f) B j x3 x4 x6 := rfl
    rw [e0]
    unfold g_X2_isGone_126_b
    rw [e6, if_neg (by omega)]
    by_cases q : x3 ≤ 0
    · rw [if_pos q]
    · have cc := h.cut0 (lo := B (P_from k) p) (hi := B (P_to k) p) hj hE (by omega) (by omega) (fun o h1 h2 z => by
        have := (h.her j hj hE o).1 ⟨p, pm, h1, h2⟩
        have := this.2
        rw [z.2] at this
        cases this)
      rw [if_neg q, hA_ok (by omega) (by omega), hA_ok (by omega) (by omega), tkN, cc, gB2_v, gS_v, hA_ok (by omega) (by omega), uA_same rfl]
      exact ih _ f hl2 (fun x hx => hp x (List.mem_cons_of_mem _ hx)) (by simp at hf; omega)
/-- the ranges, after a frame is gone -/
theorem c_isGone {ch : Nat → List Nat} {fl : List Nat} (h : CSp E A B k ch fl) (hj : j < 256) (hE : E (S_o k j) = true) (h64 : B (P_o k) 3 < 64) (hb : b + m ≤ wl A k j) (h1 : ∀ o, b ≤ o → o < b + m → mkA A k j o = 1) (hbw : wl A k j ≤ 65536) {c arr : Int} :
    ∃ (G : AM) (ch' : Nat → List Nat) (fl' : List Nat), g_X2_isGone k B j b m c arr = (if arr = 0 then g_X2_isGone_186 k G j c else g_X2_isGone_47 k G j c) ∧ (∀ (r : L3) (f : Nat), r ≠ P_o k → r ≠ P_from k → r ≠ P_to k → r ≠ P_next k → (r = S_o k j → f ≠ 6 ∧ f ≠ 7) → G r f = B r f) ∧ G (P_o k) 3 ≤ B (P_o k) 3 + 1 ∧ CSp E (aGn A k j b (lh arr) m) G k ch' fl' := by
  unfold g_X2_isGone
  by_cases hm : m = 0
  · subst hm
    refine ⟨B, ch, fl, ?_, fun _ _ _ _ _ _ _ => rfl, by omega, h⟩
    by_cases q : arr = 0
    · rw [if_pos q, if_pos q, if_pos (by omega)]
      unfold g_X2_isGone_120
      have len := nodup_len (h.ndc (2 * j + 1)) (N := 64) (fun p hp => by have := h.mem _ p hp; have := h.mad; omega)
      exact c_g126 h hj hE (ch (2 * j + 1)) _ FU (h.lnh j hj hE) (fun _ z => z) (by unfold FU; omega)
    · rw [if_neg q, if_neg q, if_pos (by omega)]
  · by_cases q : arr = 0
    · obtain ⟨D, v, ch', fl', a1, a2, a3, a4⟩ := h.added hj hE (u := 0) (by omega) (lo := b) (hi := b + m) (by omega) h64
      have sp := a4 (aGn A k j b (lh arr) m) (by
          intro i hi o
          rw [aGn_wl]
          have e2 : lh arr = 2 := by unfold lh; rw [if_pos q]
          constructor
          · rintro ⟨z1, z2⟩
            by_cases y : i = j
            · subst y
              rw [aGn_mkj hb h1 z1, e2] at z2
              split at z2
              · rename_i w; exact Or.inr ⟨rfl, rfl, w.1, w.2⟩
              · exact Or.inl ⟨z1, z2⟩
            · rw [aGn_mki hb y z1] at z2; exact Or.inl ⟨z1, z2⟩
          · rintro (⟨z1, z2⟩ | ⟨-, rfl, z1, z2⟩)
            · refine ⟨z1, ?_⟩
              by_cases y : i = j
              · subst y
                rw [aGn_mkj hb h1 z1, e2]
                split
                · rfl
                · exact z2
              · rw [aGn_mki hb y z1]; exact z2
            · exact ⟨by omega, by rw [aGn_mkj hb h1 (by omega), if_pos ⟨z1, z2⟩]; exact e2⟩) (by
          intro i hi o
          rw [aGn_wl]
          have e2 : lh arr = 2 := by unfold lh; rw [if_pos q]
          constructor
          · rintro ⟨z1, z2⟩
            by_cases y : i = j
            · subst y
              rw [aGn_mkj hb h1 z1, e2] at z2
              split at z2
              · cases z2
              · exact Or.inl ⟨z1, z2⟩
            · rw [aGn_mki hb y z1] at z2; exact Or.inl ⟨z1, z2⟩
          · rintro (⟨z1, z2⟩ | ⟨z, _⟩)
            · refine ⟨z1, ?_⟩
              by_cases y : i = j
              · subst y
                rw [aGn_mkj hb h1 z1, if_neg (fun w => by rw [h1 o w.1 w.2] at z2; cases z2)]; exact z2
              · rw [aGn_mki hb y z1]; exact z2
            · cases z)
      refine ⟨uA D (S_o k j) 6 v, ch', fl', ?_, ?_, ?_, sp⟩
      · have e1 : g_X4_add k B (B (S_o k j) 6) b ((b : Int) + m) = some (D, v) := by rw [← a1]; congr 1
        rw [if_pos q, if_pos q, if_neg (by omega), c32_ok (by omega) (by omega), e1, gB2_v, gS_v]
        unfold g_X2_isGone_120
        have len := nodup_len (sp.ndc (2 * j + 1)) (N := 64) (fun p hp => by have := sp.mem _ p hp; have := sp.mad; omega)
        exact c_g126 sp hj hE (ch' (2 * j + 1)) _ FU (sp.lnh j hj hE) (fun _ z => z) (by unfold FU; omega)
      · intro r f z1 z2 z3 z4 z5
        rw [uA_at, if_neg (fun z => (z5 z.1).1 z.2), a2 r f z1 z2 z3 z4]
      · rw [uA_tag (by show 13 ≠ 29; decide)]; exact a3
    · obtain ⟨D, v, ch', fl', a1, a2, a3, a4⟩ := h.added hj hE (u := 1) (by omega) (lo := b) (hi := b + m) (by omega) h64
      have e2 : lh arr = 3 := by unfold lh; rw [if_neg q]
      have sp := a4 (aGn A k j b (lh arr) m) (by
          intro i hi o
          rw [aGn_wl]
          constructor
          · rintro ⟨z1, z2⟩
            by_cases y : i = j
            · subst y
              rw [aGn_mkj hb h1 z1, e2] at z2
              split at z2
              · cases z2
              · exact Or.inl ⟨z1, z2⟩
            · rw [aGn_mki hb y z1] at z2; exact Or.inl ⟨z1, z2⟩
          · rintro (⟨z1, z2⟩ | ⟨z, _⟩)
            · refine ⟨z1, ?_⟩
              by_cases y : i = j
              · subst y
                rw [aGn_mkj hb h1 z1, if_neg (fun w => by rw [h1 o w.1 w.2] at z2; cases z2)]; exact z2
              · rw [aGn_mki hb y z1]; exact z2
            · cases z) (by
          intro i hi o
          rw [aGn_wl]
          constructor
          · rintro ⟨z1, z2⟩
            by_cases y : i = j
            · subst y
              rw [aGn_mkj hb h1 z1, e2] at z2
              split at z2
              · rename_i w; exact Or.inr ⟨rfl, rfl, w.1, w.2⟩
              · exact Or.inl ⟨z1, z2⟩
            · rw [aGn_mki hb y z1] at z2; exact Or.inl ⟨z1, z2⟩
          · rintro (⟨z1, z2⟩ | ⟨-, rfl, z1, z2⟩)
            · refine ⟨z1, ?_⟩
              by_cases y : i = j
              · subst y
                rw [aGn_mkj hb h1 z1, e2]
                split
                · rfl
                · exact z2
              · rw [aGn_mki hb y z1]; exact z2
            · exact ⟨by omega, by rw [aGn_mkj hb h1 (by omega), if_pos ⟨z1, z2⟩]; exact e2⟩)
      refine ⟨uA D (S_o k j) 7 v, ch', fl', ?_, ?_, ?_, sp⟩
      · have e1 : g_X4_add k B (B (S_o k j) 7) b ((b : Int) + m) = some (D, v) := by rw [← a1]; congr 1
        have cc := CSp.cut0 (B := uA D (S_o k j) 7 v) sp hj hE (lo := b) (hi := (b : Int) + m) (by omega) (by omega) (fun o z1 z2 z => by
          rw [aGn_wl] at z
          have := z.2
          rw [aGn_mkj hb h1 z.1, if_pos ⟨by omega, by omega⟩, e2] at this
          cases this)
        rw [if_neg q, if_neg q, if_neg (by omega), c32_ok (by omega) (by omega), e1, gB2_v, gS_v, cc, gB2_v, gS_v, uA_same rfl]
      · intro r f z1 z2 z3 z4 z5
        rw [uA_at, if_neg (fun z => (z5 z.1).2 z.2), a2 r f z1 z2 z3 z4]
      · rw [uA_tag (by show 13 ≠ 29; decide)]; exact a3
end IGN
