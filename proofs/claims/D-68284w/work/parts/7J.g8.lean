section RG8
variable {A B : AM} {E : L3 → Bool} {k j n b m : Nat} {c arr : Int}
theorem aG8_x (r : L3) (f : Nat) (h1 : r ≠ M_mark) (h2 : r = M_end → f ≠ 256 * k + j) : aG8 A k j b m c arr r f = A r f := by
  unfold aG8
  split
  · rw [uA_at, if_neg (fun z => h2 z.1 z.2), aGn_o r f h1]
  · exact aGn_o r f h1
theorem aG8_mark (f : Nat) : aG8 A k j b m c arr M_mark f = aGn A k j b (lh arr) m M_mark f := by
  unfold aG8
  split
  · rw [uA_tag (by decide)]
  · rfl
theorem aG8_end : aG8 A k j b m c arr M_end (256 * k + j) = if c = 1 ∧ A M_end (256 * k + j) ≠ 3 then lh arr else A M_end (256 * k + j) := by
  unfold aG8
  split
  · rw [uA_self]
  · exact aGn_o _ _ (by decide)
theorem TB.g8 (h : TB A) : TB (aG8 A k j b m c arr) := by
  unfold aG8
  split
  · exact (h.gn (lh_le arr)).en
  · exact h.gn (lh_le arr)
theorem RG8_ends (h : Rel Any n E A B) (hk : k < 2) (hj : j < 256) (hE : E (S_o k j) = true) (hb : b + m ≤ wl A k j) (h1 : ∀ o, b ≤ o → o < b + m → mkA A k j o = 1) (hc : c = 0 ∨ c = 1) (hf : c = 1 → A M_finished (256 * k + j) ≠ 0) {G : AM} {ch : Nat → List Nat} {fl : List Nat} (gS : ∀ f, f ≠ 6 → f ≠ 7 → G (S_o k j) f = B (S_o k j) f) (sp : CSp E (aGn A k j b (lh arr) m) G k ch fl) :
    ∃ F, (if arr = 0 then g_X2_isGone_186 k G j c else g_X2_isGone_47 k G j c) = some F ∧ (∀ (r : L3) (f : Nat), (r = S_o k j → f ≠ 0 ∧ f ≠ 3) → F r f = G r f) ∧ F (S_o k j) 0 = sst (aG8 A k j b m c arr) k j ∧ F (S_o k j) 3 = (if A M_finished (256 * k + j) ≠ 0 then 1 + aG8 A k j b m c arr M_end (256 * k + j) else 0) := by
  have s := h.sd k j hk hj hE
  have t := h.ts k j hk hj
  have hT1 := h.tb.gn (k := k) (j := j) (b := b) (m := m) (lh_le arr)
  have e03 := t.e03
  have g0 : G (S_o k j) 0 = sst A k j := by rw [gS 0 (by decide) (by decide), s.sta]
  have g3 : G (S_o k j) 3 = if A M_finished (256 * k + j) ≠ 0 then 1 + A M_end (256 * k + j) else 0 := by rw [gS 3 (by decide) (by decide), s.ende]
  have g1 : G (S_o k j) 1 = wl A k j := by rw [gS 1 (by decide) (by decide), s.wri]
  have ewl : wl (aG8 A k j b m c arr) k j = wl A k j := wl_cg (aG8_x _ _ (by decide) (fun z => by cases z)) (fun i _ => aG8_x _ _ (by decide) (fun z => by cases z))
  have ecn : ∀ x, cn (aG8 A k j b m c arr) k j x = cn (aGn A k j b (lh arr) m) k j x := by
    intro x
    unfold aG8
    split
    · rfl
    · rfl
  have er : aG8 A k j b m c arr M_resets (256 * k + j) = A M_resets (256 * k + j) := aG8_x _ _ (by decide) (fun z => by cases z)
  have ef : aG8 A k j b m c arr M_finished (256 * k + j) = A M_finished (256 * k + j) := aG8_x _ _ (by decide) (fun z => by cases z)
  have cnle : cn (aGn A k j b (lh arr) m) k j 3 ≤ wl A k j := by
    have := aGn_wl (A := A) (k := k) (j := j) (b := b) (m := m) (st := lh arr) j
    rw [cn_rng, this]
    exact Nat.le_trans List.countP_le_length (by simp)
  by_cases q : arr = 0
  · have e2 : lh arr = 2 := by unfold lh; rw [if_pos q]
    have es : sst (aG8 A k j b m c arr) k j = sst A k j := by
      unfold sst
      rw [er, ef, ewl, ecn, aGn_cn hb h1 (by decide) (by rw [e2]; decide), aG8_end, e2]
      by_cases z : c = 1 ∧ A M_end (256 * k + j) ≠ 3
      · rw [if_pos z, if_neg (show ¬ ((2 : Int) = 3 ∧ cn A k j 3 = wl A k j) from fun y => by cases y.1), if_neg (show ¬ (A M_end (256 * k + j) = 3 ∧ cn A k j 3 = wl A k j) from fun y => z.2 y.1)]
      · rw [if_neg z]
    rw [if_pos q]
    unfold g_X2_isGone_186
    rw [aG8_end, e2, es]
    by_cases qc : c = 0
    · rw [if_pos qc]
      refine ⟨G, rfl, fun _ _ _ => rfl, g0, ?_⟩
      rw [g3, if_neg (show ¬ (c = 1 ∧ A M_end (256 * k + j) ≠ 3) from fun z => by omega)]
    · have c1 : c = 1 := by omega
      have fn := hf c1
      rw [if_neg qc, g3, if_pos fn, if_pos fn]
      by_cases q3 : A M_end (256 * k + j) = 3
      · rw [if_pos (by omega)]
        refine ⟨G, rfl, fun _ _ _ => rfl, g0, ?_⟩
        rw [g3, if_pos fn, if_neg (fun z => z.2 q3)]
      · rw [if_neg (by omega), gS_v]
        refine ⟨_, rfl, fun r f z => by rw [uA_at, if_neg (fun y => (z y.1).2 y.2)], by rw [uA_idx _ _ _ _ (by decide), g0], ?_⟩
        rw [uA_self, if_pos ⟨c1, q3⟩]; rfl
  · have e2 : lh arr = 3 := by unfold lh; rw [if_neg q]
    rw [if_neg q]
    have mono : cn A k j 3 ≤ cn (aGn A k j b (lh arr) m) k j 3 := by
      have := aGn_wl (A := A) (k := k) (j := j) (b := b) (m := m) (st := lh arr) j
      rw [cn_rng, cn_rng, this]
      refine List.countP_mono_left (fun o ho z => ?_)
      rw [List.mem_range'_1] at ho
      rw [aGn_mkj hb h1 (by omega)]
      split
      · rw [e2]; rfl
      · exact z
    have key : ∀ S : AM, (∀ (r : L3) (f : Nat), (r = S_o k j → f ≠ 3) → S r f = G r f) → (S (S_o k j) 3 = if A M_finished (256 * k + j) ≠ 0 then 1 + aG8 A k j b m c arr M_end (256 * k + j) else 0) → ∃ F, g_X2_isGone_57 k S j = some F ∧ (∀ (r : L3) (f : Nat), (r = S_o k j → f ≠ 0 ∧ f ≠ 3) → F r f = G r f) ∧ F (S_o k j) 0 = sst (aG8 A k j b m c arr) k j ∧ F (S_o k j) 3 = (if A M_finished (256 * k + j) ≠ 0 then 1 + aG8 A k j b m c arr M_end (256 * k + j) else 0) := by
      intro S hS h3
      have sc : g_X4_count k S (S (S_o k j) 7) = some (cn (aGn A k j b (lh arr) m) k j 3 : Int) := by
        have en : S (P_next k) = G (P_next k) := funext fun x => hS _ _ (fun z => by injection z with z; cases z)
        have efr : S (P_from k) = G (P_from k) := funext fun x => hS _ _ (fun z => by injection z with z; cases z)
        have eto : S (P_to k) = G (P_to k) := funext fun x => hS _ _ (fun z => by injection z with z; cases z)
        refine c_count (l := ch (2 * j + 1)) hT1 hk ?_ (fun p hp => by have := sp.mem _ p hp; have := sp.mad; omega) (sp.ndc _) ?_ ?_
        · rw [en, hS _ _ (fun _ => by decide)]; exact sp.lnh j hj hE
        · rw [efr, eto]; exact sp.rng _
        · rw [efr, eto]; exact sp.her j hj hE
      have s0 : S (S_o k j) 0 = sst A k j := by rw [hS _ _ (fun _ => by decide), g0]
      have s1 : S (S_o k j) 1 = wl A k j := by rw [hS _ _ (fun _ => by decide), g1]
      have end3 : A M_end (256 * k + j) = 3 → aG8 A k j b m c arr M_end (256 * k + j) = 3 := by
        intro z; rw [aG8_end, if_neg (fun y => y.2 z)]; exact z
      unfold g_X2_isGone_57
      rw [s0, sc, bd_v, s1, h3]
      have sE : sst (aG8 A k j b m c arr) k j = if sst A k j = 1 ∧ aG8 A k j b m c arr M_end (256 * k + j) = 3 ∧ cn (aGn A k j b (lh arr) m) k j 3 = wl A k j then 2 else sst A k j := by
        unfold sst
        rw [er, ef, ewl, ecn]
        by_cases y1 : A M_resets (256 * k + j) ≤ 0
        · rw [if_pos y1, if_pos y1]
          by_cases y2 : A M_finished (256 * k + j) ≠ 0
          · rw [if_pos y2, if_pos y2]
            by_cases y3 : A M_end (256 * k + j) = 3 ∧ cn A k j 3 = wl A k j
            · rw [if_pos y3, if_neg (show ¬ ((2 : Int) = 1 ∧ _) from fun z => by cases z.1), if_pos ⟨end3 y3.1, by omega⟩]
            · rw [if_neg y3]
              by_cases y4 : aG8 A k j b m c arr M_end (256 * k + j) = 3 ∧ cn (aGn A k j b (lh arr) m) k j 3 = wl A k j
              · rw [if_pos y4, if_pos ⟨rfl, y4⟩]
              · rw [if_neg y4, if_neg (fun z => y4 z.2)]
          · rw [if_neg y2, if_neg y2, if_neg (fun z => by cases z.1)]
        · rw [if_neg y1, if_neg y1]
          have := h.tb.res k j hk hj
          rw [if_neg (fun z => by have := z.1; omega)]
      by_cases z1 : sst A k j = 1
      · rw [if_neg (fun z => z z1)]
        have fn : A M_finished (256 * k + j) ≠ 0 := by
          have := h.tb.res k j hk hj
          exact (sst_live (by omega) this.1).2.1 z1
        rw [if_pos fn]
        by_cases z2 : aG8 A k j b m c arr M_end (256 * k + j) = 3
        · rw [if_neg (fun z => z (by omega))]
          by_cases z3 : cn (aGn A k j b (lh arr) m) k j 3 = wl A k j
          · rw [if_neg (fun z => z (by omega)), gS_v]
            refine ⟨_, rfl, fun r f z => by rw [uA_at, if_neg (fun y => (z y.1).1 y.2)]; exact hS r f (fun y => (z y).2), ?_, ?_⟩
            · rw [uA_self, sE, if_pos ⟨z1, z2, z3⟩]
            · rw [uA_idx _ _ _ _ (by decide), h3, if_pos fn]
          · rw [if_pos (by omega)]
            refine ⟨S, rfl, fun r f z => hS r f (fun y => (z y).2), ?_, by rw [h3, if_pos fn]⟩
            rw [s0, sE, if_neg (fun z => z3 z.2.2)]
        · rw [if_pos (by omega)]
          refine ⟨S, rfl, fun r f z => hS r f (fun y => (z y).2), ?_, by rw [h3, if_pos fn]⟩
          rw [s0, sE, if_neg (fun z => z2 z.2.1)]
      · rw [if_pos z1]
        refine ⟨S, rfl, fun r f z => hS r f (fun y => (z y).2), ?_, h3⟩
        rw [s0, sE, if_neg (fun z => z1 z.1)]
    unfold g_X2_isGone_47
    by_cases qc : c = 0
    · rw [if_pos qc]
      refine key G (fun _ _ _ => rfl) ?_
      rw [g3, aG8_end, if_neg (show ¬ (c = 1 ∧ A M_end (256 * k + j) ≠ 3) from fun z => by omega)]
    · have c1 : c = 1 := by omega
      have fn := hf c1
      rw [if_neg qc, gS_v]
      refine key _ (fun r f z => by rw [uA_at, if_neg (fun y => z y.1 y.2)]) ?_
      rw [uA_self, aG8_end, if_pos fn, e2]
      by_cases q3 : A M_end (256 * k + j) = 3
      · rw [if_neg (fun z => z.2 q3)]; omega
      · rw [if_pos ⟨c1, q3⟩]; rfl
theorem Rel.g8 (h : Rel Any n E A B) (hk : k < 2) (hj : j < 256) (hE : E (S_o k j) = true) (hn : n < 64) (hb : b + m ≤ wl A k j) (h1 : ∀ o, b ≤ o → o < b + m → mkA A k j o = 1) (hc : c = 0 ∨ c = 1) (hf : c = 1 → A M_finished (256 * k + j) ≠ 0) (hq : ∀ q, q < 64 → A M_lineUsed q ≠ 0 → ∀ b' n' : Nat, A M_lineKind q = 8 → A M_lineSide q = k → A M_lineA q = j → A M_lineB q = b' → A M_lineSize q = n' → 0 < n' → 0 < m → b' + n' ≤ b ∨ b + m ≤ b') : ∃ F, g_X2_isGone k B j b m c arr = some F ∧ Rel (Ex k j) (n + 1) E (aG8 A k j b m c arr) F := by
  have hT := h.tb
  have t := h.ts k j hk hj
  have e := (h.ex.sN hk hj).1 hE
  have s := h.sd k j hk hj hE
  have hl := h.hl k hk
  obtain ⟨chs, fls, sp0⟩ := h.sp k hk
  have nsp := h.nsp k hk
  obtain ⟨G, ch', fl', i1, i2, i3, i4⟩ := c_isGone sp0 hj hE (by omega) hb h1 (wl_le (hT.tot k hk)) (c := c) (arr := arr)
  obtain ⟨F, r1, r2, r3, r4⟩ := RG8_ends h hk hj hE hb h1 hc hf (G := G) (arr := arr) (fun f z1 z2 => i2 _ _ (fun z => by injection z with z; cases z) (fun z => by injection z with z; cases z) (fun z => by injection z with z; cases z) (fun z => by injection z with z; cases z) (fun _ => ⟨z1, z2⟩)) i4
  refine ⟨F, by rw [i1]; exact r1, ?_⟩
  have lh0 : lh arr ≠ 0 ∧ lh arr ≠ 1 := by unfold lh; split <;> omega
  have Fx : ∀ (r : L3) (f : Nat), r ≠ P_o k → r ≠ P_from k → r ≠ P_to k → r ≠ P_next k → (r = S_o k j → f ≠ 6 ∧ f ≠ 7 ∧ f ≠ 0 ∧ f ≠ 3) → F r f = B r f := fun r f z1 z2 z3 z4 z5 => by rw [r2 r f (fun y => ⟨(z5 y).2.2.1, (z5 y).2.2.2⟩), i2 r f z1 z2 z3 z4 (fun y => ⟨(z5 y).1, (z5 y).2.1⟩)]
  have ax := fun (r : L3) (f : Nat) (z1 : r.1 ≠ 40) (z2 : r.1 ≠ 21) => aG8_x (A := A) (k := k) (j := j) (b := b) (m := m) (c := c) (arr := arr) r f (fun z => z1 (by rw [z])) (fun z => absurd (by rw [z]) z2)
  have hP : SameP A (aG8 A k j b m c arr) := SameP.make (fun f => ax _ _ (by decide) (by decide)) (fun f => ax _ _ (by decide) (by decide)) (fun f => ax _ _ (by decide) (by decide)) (fun f => ax _ _ (by decide) (by decide)) (fun f => ax _ _ (by decide) (by decide))
  have epos : ∀ q i, pos (aG8 A k j b m c arr) q i = pos A q i := fun q i => pos_cg (ax _ _ (by decide) (by decide)) (fun _ _ => ax _ _ (by decide) (by decide))
  have ewl : ∀ q i, wl (aG8 A k j b m c arr) q i = wl A q i := fun q i => by unfold wl; rw [epos]
  have RO : SameR (aGn A k j b (lh arr) m) (aG8 A k j b m c arr) := SameR.make (fun f => by rw [ax _ _ (by decide) (by decide), aGn_o _ _ (by decide)]) (fun f => by rw [ax _ _ (by decide) (by decide), aGn_o _ _ (by decide)]) (fun f => by rw [ax _ _ (by decide) (by decide), aGn_o _ _ (by decide)]) (fun f => aG8_mark f)
  have emj : ∀ o, o < wl A k j → mkA (aG8 A k j b m c arr) k j o = if b ≤ o ∧ o < b + m then lh arr else mkA A k j o := fun o ho => by rw [RO.mka, aGn_mkj hb h1 ho]
  have emi : ∀ i o, i ≠ j → o < wl A k i → mkA (aG8 A k j b m c arr) k i o = mkA A k i o := fun i o hi ho => by rw [RO.mka, aGn_mki hb hi ho]
  have esn : sn (aG8 A k j b m c arr) k j = sn A k j := by rw [RO.sn, aGn_sn hb h1 lh0.1]
  have q20 : aG8 A k j b m c arr M_finished (256 * k + j) = A M_finished (256 * k + j) := ax _ _ (by decide) (by decide)
  have q22 : aG8 A k j b m c arr M_resets (256 * k + j) = A M_resets (256 * k + j) := ax _ _ (by decide) (by decide)
  have oA : Out (fA k) A (aG8 A k j b m c arr) := by
    intro r f hr
    by_cases z : r = M_mark
    · have nz : ¬ (f / 65536 = k) := fun y => hr (by rw [z]; dsimp only [fA]; omega)
      rw [z, aG8_mark, aGn_mk, if_neg]
      rintro ⟨⟨i, z1, z2⟩, _⟩
      have := pos_lt (A := A) (k := k) (j := j) (o := b + i) (by omega)
      have := hT.tot k hk
      omega
    · exact aG8_x r f z (fun y y2 => hr (by rw [y]; dsimp only [fA]; omega))
  have oB : Out (gB k) B F := by
    intro r f hr
    have y : ∀ r0 : L3, gB k r0 f → r ≠ r0 := fun r0 h0 z => hr (by rw [z]; exact h0)
    refine Fx r f (y _ ?_) (y _ ?_) (y _ ?_) (y _ ?_) (fun z => absurd z (y _ ?_))
    all_goals (dsimp only [gB]; omega)
  have bo : ∀ t i f, t ≠ 29 → t ≠ 13 → t ≠ 14 → t ≠ 15 → t ≠ 16 → F (t, k, i) f = B (t, k, i) f := fun t i f h1 h2 h3 h4 h5 => Fx _ _ (fun z => by injection z; omega) (fun z => by injection z; omega) (fun z => by injection z; omega) (fun z => by injection z; omega) (fun z => by injection z; omega)
  have bS : ∀ i f, i ≠ j ∨ (f ≠ 0 ∧ f ≠ 3 ∧ f ≠ 6 ∧ f ≠ 7) → F (S_o k i) f = B (S_o k i) f := fun i f hi => Fx _ _ (fun z => by injection z with z; cases z) (fun z => by injection z with z; cases z) (fun z => by injection z with z; cases z) (fun z => by injection z with z; cases z) (fun z => by
    rcases hi with hi | hi
    · exact absurd (by injection z with _ z; injection z) hi
    · exact ⟨hi.2.2.1, hi.2.2.2, hi.1, hi.2.1⟩)
  have fx : ∀ t, 18 ≤ t → t ≤ 36 → t ≠ 21 → aG8 A k j b m c arr (t, 0, 0) (256 * k + j) = A (t, 0, 0) (256 * k + j) := fun t h1 h2 h3 => ax _ _ (by show t ≠ 40; omega) (by show t ≠ 21; exact h3)
  refine h.side hk hj oA oB (by omega) hT.g8 (h.pf.cg hP.pcs hP.has) ?_ ?_ ?_ ?_ ?_ (fun _ _ _ _ _ _ => trivial) ?_ ?_ ?_ ?_ ?_ ?_ ?_ ?_ ?_ ?_ ?_ ?_ ?_
  · intro i hi hne
    refine EqS.make (fun t h1 h2 => aG8_x _ _ (fun z => by injection z with z; omega) (fun _ => by omega)) (ewl k i) (by rw [RO.sn, aGn_sni hb hne]) (fun st => by rw [RO.cn, aGn_cni hb hne]) (fun o ho => emi i o hne ho) (fun o => hP.hasB)
  · intro i hi hne f _ _ _ _; exact bS i f (Or.inl hne)
  · intro i hi hne f _; exact bo 30 i f (by decide) (by decide) (by decide) (by decide) (by decide)
  · have e3 := t.e03
    have x18 : aG8 A k j b m c arr M_there (256 * k + j) = A M_there (256 * k + j) := fx 18 (by omega) (by omega) (by omega)
    have x23 : aG8 A k j b m c arr M_tellReset (256 * k + j) = A M_tellReset (256 * k + j) := fx 23 (by omega) (by omega) (by omega)
    have x25 : aG8 A k j b m c arr M_toldLimit (256 * k + j) = A M_toldLimit (256 * k + j) := fx 25 (by omega) (by omega) (by omega)
    have x26 : aG8 A k j b m c arr M_highest (256 * k + j) = A M_highest (256 * k + j) := fx 26 (by omega) (by omega) (by omega)
    have x27 : aG8 A k j b m c arr M_size (256 * k + j) = A M_size (256 * k + j) := fx 27 (by omega) (by omega) (by omega)
    have x28 : aG8 A k j b m c arr M_read (256 * k + j) = A M_read (256 * k + j) := fx 28 (by omega) (by omega) (by omega)
    have x29 : aG8 A k j b m c arr M_wasReset (256 * k + j) = A M_wasReset (256 * k + j) := fx 29 (by omega) (by omega) (by omega)
    have x32 : aG8 A k j b m c arr M_tellGrant (256 * k + j) = A M_tellGrant (256 * k + j) := fx 32 (by omega) (by omega) (by omega)
    have x33 : aG8 A k j b m c arr M_stopped (256 * k + j) = A M_stopped (256 * k + j) := fx 33 (by omega) (by omega) (by omega)
    have x34 : aG8 A k j b m c arr M_tellStop (256 * k + j) = A M_tellStop (256 * k + j) := fx 34 (by omega) (by omega) (by omega)
    have x35 : aG8 A k j b m c arr M_stopCode (256 * k + j) = A M_stopCode (256 * k + j) := fx 35 (by omega) (by omega) (by omega)
    have x36 : aG8 A k j b m c arr M_over (256 * k + j) = A M_over (256 * k + j) := fx 36 (by omega) (by omega) (by omega)
    refine TS.make ?_ ?_ ?_ ?_ ?_ ?_ ?_ ?_ ?_ ?_ ?_ ?_ ?_ ?_ ?_ ?_ ?_ ?_
    · rw [x18]; exact t.t01
    · rw [q20]; exact t.f01
    · rw [aG8_end]; split
      · exact lh_le arr
      · exact e3
    · rw [aG8_end, q20]; intro z; split at z
      · rename_i y; exact hf y.1
      · exact t.enf z
    · rw [x23]; exact t.r01
    · rw [x32]; exact t.g01
    · rw [x34]; exact t.s01
    · rw [x33]; exact t.p01
    · rw [x29]; exact t.w01
    · rw [x36]; exact t.o01
    · rw [x18]; exact fun _ => e
    · rw [x34, x32, x26, x28, x27, x29, x33, x18]; exact t.rth
    · rw [x18, x25, x35]; exact t.tln
    · rw [x28]; intro o ho; rw [hP.hasB]; exact t.rdb o ho
    · rw [x26]; intro o ho; rw [hP.hasB] at ho; exact t.hsh o ho
    · rw [x27, x26]; exact t.shz
    · rw [x29, x27, x26]; exact t.wsz
    · intro o ho
      rw [ewl] at ho
      rw [emj o ho, esn]
      have nw := t.nwm o ho
      split
      · rename_i y
        have := h1 o y.1 y.2
        constructor
        · intro w; exact absurd w lh0.1
        · intro w; rw [nw.2 w] at this; cases this
      · exact nw
  · intro z; exact absurd ⟨rfl, rfl⟩ z
  · refine (h.tk k hk).cg (ax _ _ (by decide) (by decide)) (fun t f h1 h2 _ => ax _ _ (by show t ≠ 40; omega) (by show t ≠ 21; omega)) (ax _ _ (by decide) (by decide)) (hP.pcs _)
  · intro p hp
    have T := h.tl p hp
    have ol : ∀ t f, 52 ≤ t → t ≤ 61 → aG8 A k j b m c arr (t, 0, 0) f = A (t, 0, 0) f := fun t f h1 h2 => ax _ _ (by show t ≠ 40; omega) (by show t ≠ 21; omega)
    refine TL.make ?_ ?_ ?_ ?_
    · rw [show aG8 A k j b m c arr M_lineUsed p = A M_lineUsed p from ol 59 p (by omega) (by omega)]; exact T.u01
    · rw [show aG8 A k j b m c arr M_delivered p = A M_delivered p from ol 60 p (by omega) (by omega)]; exact T.d01
    · rw [show aG8 A k j b m c arr M_lineUsed p = A M_lineUsed p from ol 59 p (by omega) (by omega)]
      intro u
      obtain ⟨q, kind, a, b', n', c', H⟩ := T.frm u
      have H' := H
      obtain ⟨y1, y2, y3, y4, y5, y6, y7, y8, y9, y10, y11, y12, y13, y14, y15, y16, y17, y18, y19⟩ := H'
      refine ⟨q, kind, a, b', n', c', H.cg ol ?_ ?_ ?_ ?_ ?_⟩
      · intro q i _ _; rw [ax _ _ (by decide) (by decide)]; exact fun z => z
      · intro q i _ _; rw [ax _ _ (by decide) (by decide)]; exact fun z => z
      · intro q i _ _; rw [ax _ _ (by decide) (by decide)]; exact fun z => z
      · intro q i _ _; rw [ewl]; omega
      · intro k8 o z1 z2 hz
        have a256 := y15 (by omega)
        have w := (y19 k8).1
        by_cases y : q = k
        · subst y
          by_cases yy : a = j
          · subst yy
            have dj : 0 < m → b' + n' ≤ b ∨ b + m ≤ b' := fun z => hq p hp u b' n' (by omega) y1 y4 y5 y6 (by omega) z
            rw [emj o (by omega), if_neg (fun z => by have := dj (by omega); omega)]
            exact hz
          · rw [emi a o yy (by omega)]; exact hz
        · have t1 := hT.tot q y2
          rw [mkA_cg (A := A) (A' := aG8 A k j b m c arr) (ax _ _ (by decide) (by decide)) (fun _ _ => ax _ _ (by decide) (by decide)) (fun x hx => oA _ _ (by dsimp only [fA]; omega)) t1.2]
          exact hz
    · intro i hi
      rw [show aG8 A k j b m c arr M_lineData (1200 * p + i) = A M_lineData (1200 * p + i) from ol 61 _ (by omega) (by omega)]
      exact T.dat i hi
  · obtain ⟨tc, c1, c2⟩ := h.cnt
    refine ⟨tc, by rw [ax _ _ (by decide) (by decide)]; exact c1, ?_⟩
    have ep : ∀ q, Psi (aG8 A k j b m c arr) q = Psi A q := fun q => Psi_cg (hP.pcs _) (fun i => ewl _ i) (fun _ _ => hP.pa)
    rw [ep, ep]; omega
  · rw [bo 17 0 5 (by decide) (by decide) (by decide) (by decide) (by decide)]; exact Int.le_trans (h.nst k hk) (by omega)
  · rw [r2 _ _ (fun z => by injection z with z; cases z)]; omega
  · have tp := h.top
    have bC : ∀ (r : L3) (f : Nat), r.1 = 0 ∨ r.1 = 5 ∨ r.1 = 6 → F r f = B r f := fun r f hr => Fx _ _ (fun z => by rw [z] at hr; dsimp only at hr; omega) (fun z => by rw [z] at hr; dsimp only at hr; omega) (fun z => by rw [z] at hr; dsimp only at hr; omega) (fun z => by rw [z] at hr; dsimp only at hr; omega) (fun z => by rw [z] at hr; dsimp only at hr; omega)
    refine CTop.make ?_ ?_ ?_ ?_ ?_ ?_
    · rw [bC _ _ (by decide), ax _ _ (by decide) (by decide)]; exact tp.tap
    · rw [bC _ _ (by decide), ax _ _ (by decide) (by decide)]; exact tp.mad
    · rw [bC _ _ (by decide), ax _ _ (by decide) (by decide)]; exact tp.jnd
    · intro i hi; rw [bC _ _ (by decide), ax _ _ (by decide) (by decide)]; exact tp.tpe i hi
    · intro i hi; rw [bC _ _ (by decide), ax _ _ (by decide) (by decide)]; exact tp.out i hi
    · intro i; rw [ax _ _ (by decide) (by decide)]; exact tp.ovl i
  · have bH : ∀ f, F (H_o k) f = B (H_o k) f := fun f => bo 7 0 f (by decide) (by decide) (by decide) (by decide) (by decide)
    refine CHl.make ?_ ?_ ?_ ?_ ?_ ?_ ?_ ?_
    · rw [bH, ax _ _ (by decide) (by decide)]; exact hl.lal
    · rw [bH, ax _ _ (by decide) (by decide)]; exact hl.bla
    · rw [bH, hl.sal, RO.sa, aGn_sa h1 lh0.1]
    · rw [bH, hl.ral]; exact (sumTo_congr (fun i _ => ax _ _ (by decide) (by decide))).symm
    · rw [bH, hl.cal]
      refine (sumTo_congr (fun i _ => ?_)).symm
      unfold co
      rw [ax _ _ (by decide) (by decide), ax _ _ (by decide) (by decide), ax _ _ (by decide) (by decide)]
    · rw [bH, ax _ _ (by decide) (by decide)]; exact hl.gal
    · rw [bH, ax _ _ (by decide) (by decide)]; exact hl.lst
    · rw [bH, ax _ _ (by decide) (by decide)]; exact hl.tel
  · intro w hw
    exact (h.wys k w hk hw).cg (ax _ _ (by decide) (by decide)) (ax _ _ (by decide) (by decide)) (ax _ _ (by decide) (by decide)) (ax _ _ (by decide) (by decide)) (ax _ _ (by decide) (by decide)) (ax _ _ (by decide) (by decide)) (ax _ _ (by decide) (by decide)) (fun f => bo 28 w f (by decide) (by decide) (by decide) (by decide) (by decide))
  · intro _
    refine CSd.make ?_ ?_ ?_ ?_ ?_ ?_ ?_ ?_
    · exact r3
    · rw [bS j 1 (by omega), ewl]; exact s.wri
    · rw [bS j 2 (by omega), esn]; exact s.sen
    · rw [r4, q20]
    · rw [bS j 8 (by omega), ax _ _ (by decide) (by decide)]; exact s.lim
    · rw [bS j 9 (by omega), q22, ax _ _ (by decide) (by decide)]; exact s.cod
    · rw [bS j 10 (by omega), ax _ _ (by decide) (by decide)]; exact s.blk
    · rw [bS j 11 (by omega), q22, ax _ _ (by decide) (by decide)]; exact s.rsf
  · intro hR
    exact CRv.cg' (fun t h1 h2 => fx t (by omega) h2 (by omega)) (fun o => hP.hasB) (ax _ _ (by decide) (by decide)) (fun f _ => bo 30 j f (by decide) (by decide) (by decide) (by decide) (by decide)) (h.rv k j hk hj hR)
  · obtain ⟨ch, st⟩ := h.st k hk
    exact ⟨ch, st.cg (fun t f h1 h2 => bo t 0 f (by omega) (by omega) (by omega) (by omega) (by omega)) (fun i => ⟨bS i 4 (by omega), bS i 5 (by omega)⟩) (ax _ _ (by decide) (by decide)) (fun _ => ax _ _ (by decide) (by decide)) (fun i => epos k i)⟩
  · refine ⟨ch', fl', i4.cg (fun t f h1 h2 => r2 _ _ (fun z => by injection z; omega)) (fun i => ⟨r2 _ _ (fun _ => by decide), r2 _ _ (fun _ => by decide)⟩) (fun _ => RO.wl) (fun _ _ => RO.mka)⟩
  · obtain ⟨ch, fl, bl⟩ := h.bl k hk
    exact ⟨ch, fl, bl.cg (fun t f h1 h2 => bo t 0 f (by omega) (by omega) (by omega) (by omega) (by omega)) (fun i => bo 30 i 7 (by decide) (by decide) (by decide) (by decide) (by decide)) (hP.pcs _) (fun i => ax _ _ (by decide) (by decide)) (fun i => ax _ _ (by decide) (by decide)) (fun _ _ => hP.pa) (fun _ _ => hP.hasB) (fun _ _ => hP.bt)⟩
end RG8
