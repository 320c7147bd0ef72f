section FI3
variable {A B : AM} {E : L3 → Bool} {k j n b m : Nat}
theorem Rel.f8 (h : Rel Any n E A B) (hk : k < 2) (hj : j < 256) (hE : E (S_o k j) = true) (hs : sst A k j < 2) (hb : b + m ≤ wl A k j) {v : Nat → Int}
  (mode : (B (S_o k j) 6 ≠ -1 ∧ (B (P_from k) (B (S_o k j) 6).toNat = b ∧ (b : Int) < ((b + m : Nat) : Int) ∧ ((b + m : Nat) : Int) ≤ B (P_to k) (B (S_o k j) 6).toNat) ∧ (∀ o, b ≤ o → o < b + m → mkA A k j o = 2)) ∨ (B (S_o k j) 6 = -1 ∧ b = sn A k j)) : Rel Any (n + 1) E (aF8 A k j b m) (cF B k j b m v (cc8 A k j b m)) := by
  have hT := h.tb
  have t := h.ts k j hk hj
  have e := (h.ex.sN hk hj).1 hE
  have s := h.sd k j hk hj hE
  have hl := h.hl k hk
  have hr := hT.res k j hk hj
  obtain ⟨rs0, fin⟩ := sst_live hs hr.1
  have jn := h.joined hk hj e.1
  have ax := fun (r : L3) (f : Nat) (h0 : r.1 ≠ 0) (h1 : r.1 ≠ 51) (h2 : r.1 ≠ 40) (h3 : r.1 ≠ 21) => aF8_x (A := A) (k := k) (j := j) (b := b) (m := m) r f (fun z => absurd z h0) h1 h2 (fun z => absurd z h3)
  have axo := fun (f : Nat) (hf : f < 45) => aF8_x (A := A) (k := k) (j := j) (b := b) (m := m) M_o f (fun _ => Or.inl hf) (by decide) (by decide) (fun z => by cases z)
  have hP : SameP A (aF8 A k j b m) := SameP.make (fun f => ax _ _ (by decide) (by decide) (by decide) (by decide)) (fun f => ax _ _ (by decide) (by decide) (by decide) (by decide)) (fun f => ax _ _ (by decide) (by decide) (by decide) (by decide)) (fun f => ax _ _ (by decide) (by decide) (by decide) (by decide)) (fun f => ax _ _ (by decide) (by decide) (by decide) (by decide))
  -- the row, told by aOut
  have epos : ∀ q i, pos (aF8 A k j b m) q i = pos A q i := fun q i => pos_cg (ax _ _ (by decide) (by decide) (by decide) (by decide)) (fun _ _ => ax _ _ (by decide) (by decide) (by decide) (by decide))
  have ewl : ∀ q i, wl (aF8 A k j b m) q i = wl A q i := fun q i => by unfold wl; rw [epos]
  have RO : SameR (aOut A k j b m) (aF8 A k j b m) := SameR.make (fun f => by rw [ax _ _ (by decide) (by decide) (by decide) (by decide), aOut_o _ _ (by decide) (by decide)]) (fun f => by rw [ax _ _ (by decide) (by decide) (by decide) (by decide), aOut_o _ _ (by decide) (by decide)]) (fun f => by rw [ax _ _ (by decide) (by decide) (by decide) (by decide), aOut_o _ _ (by decide) (by decide)]) (fun f => aF8_mark f)
  have emj : ∀ o, o < wl A k j → mkA (aF8 A k j b m) k j o = if b ≤ o ∧ o < b + m then 1 else mkA A k j o := fun o ho => by rw [RO.mka, aOut_mkj hb ho]
  have emi : ∀ i o, i ≠ j → o < wl A k i → mkA (aF8 A k j b m) k i o = mkA A k i o := fun i o hi ho => by rw [RO.mka, aOut_mki hb hi ho]
  have seg0 : ∀ o, b ≤ o → o < b + m → (B (S_o k j) 6 = -1 → mkA A k j o = 0) := by
    intro o h1 h2 z
    rcases mode with ⟨q, _⟩ | ⟨_, q⟩
    · exact absurd z q
    · exact (t.nwm o (by omega)).2 (by omega)
  have seg2 : B (S_o k j) 6 ≠ -1 → ∀ o, b ≤ o → o < b + m → mkA A k j o = 2 := by
    intro z
    rcases mode with ⟨_, _, q⟩ | ⟨q, _⟩
    · exact q
    · exact absurd q z
  have seg3 : ∀ o, b ≤ o → o < b + m → mkA A k j o ≠ 3 := by
    intro o h1 h2
    by_cases z : B (S_o k j) 6 = -1
    · rw [seg0 o h1 h2 z]; decide
    · rw [seg2 z o h1 h2]; decide
  have ecn3 : cn (aF8 A k j b m) k j 3 = cn A k j 3 := by rw [RO.cn, aOut_cn hb (by decide) seg3]
  have snle : sn A k j ≤ wl A k j := List.countP_le_length
  have bsn : B (S_o k j) 6 ≠ -1 → m ≠ 0 → b + m ≤ sn A k j := by
    intro z hm
    have y := seg2 z (b + m - 1) (by omega) (by omega)
    have := t.nwm (b + m - 1) (by omega)
    by_cases q : sn A k j ≤ b + m - 1
    · rw [this.2 q] at y; cases y
    · omega
  have lostm : B (S_o k j) 6 ≠ -1 → m ≠ 0 := by
    intro z
    rcases mode with ⟨_, q, _⟩ | ⟨q, _⟩
    · omega
    · exact absurd q z
  have esn : (sn (aF8 A k j b m) k j : Int) = mxZ (sn A k j) ((b + m : Nat) : Int) ∧ (sa (aF8 A k j b m) k : Int) = sa A k + mxZ (((b + m : Nat) : Int) - sn A k j) 0 := by
    by_cases z : B (S_o k j) 6 = -1
    · have bs : b = sn A k j := by
        rcases mode with ⟨q, _⟩ | ⟨_, q⟩
        · exact absurd z q
        · exact q
      rw [RO.sn, RO.sa, aOut_sn0 hb (fun o h1 h2 => seg0 o h1 h2 z), aOut_sa0 hb (fun o h1 h2 => seg0 o h1 h2 z)]
      unfold mxZ
      constructor <;> split <;> omega
    · have := bsn z (lostm z)
      rw [RO.sn, RO.sa, aOut_sn2 hb (fun o h1 h2 => by rw [seg2 z o h1 h2]; decide), aOut_sa2 hb (fun o h1 h2 => by rw [seg2 z o h1 h2]; decide)]
      unfold mxZ
      constructor <;> split <;> omega
  have q20 : aF8 A k j b m M_finished (256 * k + j) = A M_finished (256 * k + j) := ax _ _ (by decide) (by decide) (by decide) (by decide)
  have q22 : aF8 A k j b m M_resets (256 * k + j) = A M_resets (256 * k + j) := ax _ _ (by decide) (by decide) (by decide) (by decide)
  have esst : sst (aF8 A k j b m) k j = sst A k j := by
    unfold sst
    rw [q22, q20, aF8_end, ecn3, ewl]
    by_cases z : (b + m = wl A k j ∧ A M_finished (256 * k + j) ≠ 0) ∧ A M_end (256 * k + j) ≠ 3
    · rw [if_pos z, if_neg (show ¬ ((1 : Int) = 3 ∧ cn A k j 3 = wl A k j) from fun y => absurd y.1 (by decide)), if_neg (show ¬ (A M_end (256 * k + j) = 3 ∧ cn A k j 3 = wl A k j) from fun y => z.2 y.1)]
    · rw [if_neg z]
  have oA : Out (fA k) A (aF8 A k j b m) := by
    intro r f hr
    by_cases z : r.1 = 40
    · have nz : ¬ (f / 65536 = k) := fun y => hr (by unfold fA; omega)
      by_cases y : r = M_mark
      · subst y
        rw [aF8_mark, aOut_mk, if_neg]
        rintro ⟨i, h1, h2⟩
        have := pos_lt (A := A) (k := k) (j := j) (o := b + i) (by omega)
        have := hT.tot k hk
        omega
      · have e1 : aF8 A k j b m r f = A r f := by
          have e0 : ∀ (X : AM) (g : Nat) (w : Int), uA X M_mark g w r f = X r f := fun X g w => uA_role _ _ _ _ y
          have ne : ∀ r0 : L3, r0.1 ≠ 40 → r ≠ r0 := fun r0 h0 h1 => h0 (by rw [← h1]; exact z)
          unfold aF8 aFin
          have ea : aOut (frN A 8 j b 0 m) k j b m r f = A r f := by
            rw [aOut_o r f (ne _ (by decide)) y]
            unfold frN
            rw [uA_role _ _ _ _ (ne _ (by decide)), uA_role _ _ _ _ (ne _ (by decide)), uA_role _ _ _ _ (ne _ (by decide)), uA_role _ _ _ _ (ne _ (by decide)), uA_role _ _ _ _ (ne _ (by decide))]
          split
          · split
            · rw [uA_role _ _ _ _ (ne _ (by decide)), ea]
            · rw [uA_role _ _ _ _ (ne _ (by decide)), uA_role _ _ _ _ (ne _ (by decide)), ea]
          · exact ea
        exact e1
    · refine aF8_x r f (fun y => ?_) (fun y => hr (by unfold fA; omega)) z (fun y y2 => hr (by unfold fA; omega))
      by_cases y2 : f = 1
      · omega
      · exact absurd (Or.inl ⟨y, y2⟩) hr
  have oB : Out (gB k) B (cF B k j b m v (cc8 A k j b m)) := by
    intro r f hr
    refine cF_o r f (fun z => ?_) (fun z => hr ?_) (fun z => absurd ?_ hr) ?_ ?_ ?_
    · have : f = 0 := by
        by_cases y : f = 0
        · exact y
        · exact absurd (by rw [z]; dsimp only [gB]; omega) hr
      omega
    · rw [z]; dsimp only [gB]; omega
    · rw [z]; dsimp only [gB]; omega
    · intro z; apply hr; rw [z]; dsimp only [gB]; omega
    · intro z; apply hr; rw [z]; dsimp only [gB]; omega
    · intro z; apply hr; rw [z]; dsimp only [gB]; omega
  -- the component's words
  have bo : ∀ t i f, t ≠ 7 → t ≠ 27 → t ≠ 29 → t ≠ 13 → t ≠ 14 → t ≠ 16 → cF B k j b m v (cc8 A k j b m) (t, k, i) f = B (t, k, i) f := fun t i f h1 h2 h3 h4 h5 h6 => cF_o _ _ (fun z => by injection z; omega) (fun z => by injection z; omega) (fun z => by injection z; omega) (fun z => by injection z; omega) (fun z => by injection z; omega) (fun z => by injection z; omega)
  have bS : ∀ i f, i ≠ j ∨ (f ≠ 2 ∧ f ≠ 3 ∧ f ≠ 6) → cF B k j b m v (cc8 A k j b m) (S_o k i) f = B (S_o k i) f := fun i f hi => cF_o _ _ (fun z => by injection z with z; cases z) (fun z => by injection z with z; cases z) (fun z => by
    rcases hi with hi | hi
    · exact absurd (by injection z with _ z; injection z) hi
    · exact hi) (fun z => by injection z with z; cases z) (fun z => by injection z with z; cases z) (fun z => by injection z with z; cases z)
  have bH : ∀ f, f ≠ 11 → f < 17 → cF B k j b m v (cc8 A k j b m) (H_o k) f = B (H_o k) f := fun f h1 h2 => cF_o _ _ (fun _ => ⟨h1, Or.inl h2⟩) (fun z => by injection z with z; cases z) (fun z => by injection z with z; cases z) (fun z => by injection z with z; cases z) (fun z => by injection z with z; cases z) (fun z => by injection z with z; cases z)
  have b11 : cF B k j b m v (cc8 A k j b m) (H_o k) 11 = B (H_o k) 11 + mxZ (((b + m : Nat) : Int) - B (S_o k j) 2) 0 := by
    unfold cF cF7
    split
    · rw [uA_tag (by show 7 ≠ 29; decide), uA_tag (by show 7 ≠ 29; decide), uA_self]
    · rw [uA_tag (by show 7 ≠ 29; decide), uA_self]
  have b2 : cF B k j b m v (cc8 A k j b m) (S_o k j) 2 = mxZ (B (S_o k j) 2) ((b + m : Nat) : Int) := by
    unfold cF cF7
    split
    · rw [uA_idx _ _ _ _ (by decide), uA_self]
    · rw [uA_self]
  have c43 : cF4 B (cF3 B k j b m v (cc8 A k j b m)) k j b m (S_o k j) 3 = B (S_o k j) 3 := by
    have e3 : cF3 B k j b m v (cc8 A k j b m) (S_o k j) 3 = B (S_o k j) 3 := cF3_o _ _ (fun z => by injection z with z; cases z) (fun z => by injection z with z; cases z)
    unfold cF4
    split
    · exact e3
    · rw [uA_idx _ _ _ _ (by decide)]
      unfold cCut cRel
      split
      · rw [uA_tag (by show 29 ≠ 13; decide), uA_tag (by show 29 ≠ 16; decide), e3]
      · rw [uA_tag (by show 29 ≠ 14; decide), e3]
  have b3 : cF B k j b m v (cc8 A k j b m) (S_o k j) 3 = if cc8 A k j b m = 1 ∧ B (S_o k j) 3 ≠ 4 then 2 else B (S_o k j) 3 := by
    unfold cF cF7
    split
    · rw [uA_self]
    · rw [uA_idx _ _ _ _ (by decide), uA_tag (by show 29 ≠ 7; decide), c43]
  have cfin : cc8 A k j b m = 1 ↔ (b + m = wl A k j ∧ A M_finished (256 * k + j) ≠ 0) := by
    unfold cc8
    constructor
    · intro z
      split at z
      · rename_i y; exact ⟨y.2, fin.1 y.1⟩
      · cases z
    · rintro ⟨y1, y2⟩
      rw [if_pos ⟨fin.2 y2, y1⟩]
  refine h.side hk hj oA oB (by omega) hT.f8 (h.pf.cg hP.pcs hP.has) ?_ ?_ ?_ ?_ ?_ (fun _ _ _ _ _ z => z) ?_ ?_ ?_ ?_ ?_ ?_ ?_ ?_ ?_ ?_ ?_ ?_ ?_
  · intro i hi hne
    refine EqS.make (fun t h1 h2 => aF8_x _ _ (fun z => by dsimp only at z; omega) (by show t ≠ 51; omega) (by show t ≠ 40; omega) (fun _ => by omega)) (ewl k i) (by rw [RO.sn, aOut_sni hb hne]) (fun st => by rw [RO.cn, aOut_cni hb hne]) (fun o ho => emi i o hne ho) (fun o => hP.hasB)
  · intro i hi hne f _ _ _ _; exact bS i f (Or.inl hne)
  · intro i hi hne f _; exact bo 30 i f (by decide) (by decide) (by decide) (by decide) (by decide) (by decide)
  · have fx : ∀ t, 18 ≤ t → t ≤ 36 → t ≠ 21 → aF8 A k j b m (t, 0, 0) (256 * k + j) = A (t, 0, 0) (256 * k + j) := fun t h1 h2 h3 => ax _ _ (by show t ≠ 0; omega) (by show t ≠ 51; omega) (by show t ≠ 40; omega) (by show t ≠ 21; exact h3)
    have e3 := t.e03
    have x18 : aF8 A k j b m M_there (256 * k + j) = A M_there (256 * k + j) := fx 18 (by omega) (by omega) (by omega)
    have x23 : aF8 A k j b m M_tellReset (256 * k + j) = A M_tellReset (256 * k + j) := fx 23 (by omega) (by omega) (by omega)
    have x25 : aF8 A k j b m M_toldLimit (256 * k + j) = A M_toldLimit (256 * k + j) := fx 25 (by omega) (by omega) (by omega)
    have x26 : aF8 A k j b m M_highest (256 * k + j) = A M_highest (256 * k + j) := fx 26 (by omega) (by omega) (by omega)
    have x27 : aF8 A k j b m M_size (256 * k + j) = A M_size (256 * k + j) := fx 27 (by omega) (by omega) (by omega)
    have x28 : aF8 A k j b m M_read (256 * k + j) = A M_read (256 * k + j) := fx 28 (by omega) (by omega) (by omega)
    have x29 : aF8 A k j b m M_wasReset (256 * k + j) = A M_wasReset (256 * k + j) := fx 29 (by omega) (by omega) (by omega)
    have x32 : aF8 A k j b m M_tellGrant (256 * k + j) = A M_tellGrant (256 * k + j) := fx 32 (by omega) (by omega) (by omega)
    have x33 : aF8 A k j b m M_stopped (256 * k + j) = A M_stopped (256 * k + j) := fx 33 (by omega) (by omega) (by omega)
    have x34 : aF8 A k j b m M_tellStop (256 * k + j) = A M_tellStop (256 * k + j) := fx 34 (by omega) (by omega) (by omega)
    have x35 : aF8 A k j b m M_stopCode (256 * k + j) = A M_stopCode (256 * k + j) := fx 35 (by omega) (by omega) (by omega)
    have x36 : aF8 A k j b m M_over (256 * k + j) = A M_over (256 * k + j) := fx 36 (by omega) (by omega) (by omega)
    refine TS.make ?_ ?_ ?_ ?_ ?_ ?_ ?_ ?_ ?_ ?_ ?_ ?_ ?_ ?_ ?_ ?_ ?_ ?_
    · rw [x18]; exact t.t01
    · rw [q20]; exact t.f01
    · rw [aF8_end]; split
      · omega
      · exact e3
    · rw [aF8_end, q20]; intro z; split at z
      · rename_i y; exact y.1.2
      · exact t.enf z
    · rw [x23]; exact t.r01
    · rw [x32]; exact t.g01
    · rw [x34]; exact t.s01
    · rw [x33]; exact t.p01
    · rw [x29]; exact t.w01
    · rw [x36]; exact t.o01
    · rw [x18]; exact fun _ => e
    · rw [x34, x32, x26, x28, x27, x29, x33, x18]; exact t.rth
    · rw [x18, x25, x35]; exact t.tln
    · rw [x28]; intro o ho; rw [hP.hasB]; exact t.rdb o ho
    · rw [x26]; intro o ho; rw [hP.hasB] at ho; exact t.hsh o ho
    · rw [x27, x26]; exact t.shz
    · rw [x29, x27, x26]; exact t.wsz
    · intro o ho
      rw [ewl] at ho
      rw [emj o ho]
      have sz := esn.1
      have nw := t.nwm o ho
      by_cases z : B (S_o k j) 6 = -1
      · have bs : b = sn A k j := by
          rcases mode with ⟨q, _⟩ | ⟨_, q⟩
          · exact absurd z q
          · exact q
        have sz' : sn (aF8 A k j b m) k j = sn A k j + m := by unfold mxZ at sz; split at sz <;> omega
        rw [sz']
        by_cases y : b ≤ o ∧ o < b + m
        · rw [if_pos y]
          constructor
          · intro w; cases w
          · intro w; omega
        · rw [if_neg y, nw]
          constructor
          · intro w; omega
          · intro w; omega
      · have := bsn z (lostm z)
        have sz' : sn (aF8 A k j b m) k j = sn A k j := by unfold mxZ at sz; split at sz <;> omega
        rw [sz']
        by_cases y : b ≤ o ∧ o < b + m
        · rw [if_pos y]
          constructor
          · intro w; cases w
          · intro w; omega
        · rw [if_neg y]; exact nw
  · intro _
    have ov := h.ov k j hk hj trivial
    have n1 : ovr A k j = false := ovr_no e.2 (by omega) (by omega)
    have n2 : ovr (aF8 A k j b m) k j = false := ovr_no e.2 (by omega) (by omega)
    unfold OV at ov ⊢
    rw [n1] at ov
    rw [n2, ax _ _ (by decide) (by decide) (by decide) (by decide), ax _ _ (by decide) (by decide) (by decide) (by decide)]
    exact ov
  · refine (h.tk k hk).cg (axo 1 (by decide)) (fun t f h1 h2 _ => ax _ _ (by show t ≠ 0; omega) (by show t ≠ 51; omega) (by show t ≠ 40; omega) (by show t ≠ 21; omega)) (ax _ _ (by decide) (by decide) (by decide) (by decide)) (hP.pcs _)
  · intro p hp
    refine (h.tl p hp).cg ?_ ?_ ?_ ?_ ?_ ?_
    · intro t f h1 h2; exact ax _ _ (by show t ≠ 0; omega) (by show t ≠ 51; omega) (by show t ≠ 40; omega) (by show t ≠ 21; omega)
    · intro q i _ _; rw [ax _ _ (by decide) (by decide) (by decide) (by decide)]; exact fun z => z
    · intro q i _ _; rw [ax _ _ (by decide) (by decide) (by decide) (by decide)]; exact fun z => z
    · intro q i _ _; rw [ax _ _ (by decide) (by decide) (by decide) (by decide)]; exact fun z => z
    · intro q i _ _; rw [ewl]; omega
    · intro q i hq hi o ho hz
      by_cases y : q = k
      · subst y
        by_cases y2 : i = j
        · subst y2
          rw [emj o ho]
          split
          · rfl
          · exact hz
        · rw [emi i o y2 ho]; exact hz
      · have t1 := hT.tot q hq
        rw [mkA_cg (A := A) (A' := aF8 A k j b m) (ax _ _ (by decide) (by decide) (by decide) (by decide)) (fun _ _ => ax _ _ (by decide) (by decide) (by decide) (by decide)) (fun x hx => oA _ _ (by dsimp only [fA]; omega)) t1.2]
        exact hz
  · obtain ⟨tc, c1, c2⟩ := h.cnt
    refine ⟨tc, by rw [axo 3 (by decide)]; exact c1, ?_⟩
    have ep : ∀ q, Psi (aF8 A k j b m) q = Psi A q := fun q => Psi_cg (hP.pcs _) (fun i => ewl _ i) (fun _ _ => hP.pa)
    rw [ep, ep]; omega
  · rw [bo 17 0 5 (by decide) (by decide) (by decide) (by decide) (by decide) (by decide)]; exact Int.le_trans (h.nst k hk) (by omega)
  · have e3 : cF3 B k j b m v (cc8 A k j b m) (P_o k) 3 = B (P_o k) 3 := cF3_o _ _ (fun z => by injection z with z; cases z) (fun z => by injection z with z; cases z)
    have e4 : cF4 B (cF3 B k j b m v (cc8 A k j b m)) k j b m (P_o k) 3 = B (P_o k) 3 := by
      unfold cF4
      split
      · exact e3
      · rw [uA_tag (by show 13 ≠ 29; decide)]
        unfold cCut cRel
        split
        · rw [uA_idx _ _ _ _ (by decide), uA_tag (by show 13 ≠ 16; decide), e3]
        · rw [uA_tag (by show 13 ≠ 14; decide), e3]
    have e7 : cF B k j b m v (cc8 A k j b m) (P_o k) 3 = B (P_o k) 3 := by
      unfold cF cF7
      split
      · rw [uA_tag (by show 13 ≠ 29; decide), uA_tag (by show 13 ≠ 29; decide), uA_tag (by show 13 ≠ 7; decide), e4]
      · rw [uA_tag (by show 13 ≠ 29; decide), uA_tag (by show 13 ≠ 7; decide), e4]
    rw [e7]; have := h.nsp k hk; omega
  · have tp := h.top
    have bC : ∀ (r : L3) (f : Nat), r.1 = 0 ∨ r.1 = 5 ∨ r.1 = 6 → cF B k j b m v (cc8 A k j b m) r f = B r f := fun r f hr => cF_o _ _ (fun z => by rw [z] at hr; dsimp only at hr; omega) (fun z => by rw [z] at hr; dsimp only at hr; omega) (fun z => by rw [z] at hr; dsimp only at hr; omega) (fun z => by rw [z] at hr; dsimp only at hr; omega) (fun z => by rw [z] at hr; dsimp only at hr; omega) (fun z => by rw [z] at hr; dsimp only at hr; omega)
    refine CTop.make ?_ ?_ ?_ ?_ ?_ ?_
    · rw [bC _ _ (by decide), axo 3 (by decide)]; exact tp.tap
    · rw [bC _ _ (by decide), axo 5 (by decide)]; exact tp.mad
    · rw [bC _ _ (by decide), axo 1 (by decide)]; exact tp.jnd
    · intro i hi; rw [bC _ _ (by decide), ax _ _ (by decide) (by decide) (by decide) (by decide)]; exact tp.tpe i hi
    · intro i hi; rw [bC _ _ (by decide), ax _ _ (by decide) (by decide) (by decide) (by decide)]; exact tp.out i hi
    · intro i; rw [ax _ _ (by decide) (by decide) (by decide) (by decide)]; exact tp.ovl i
  · refine CHl.make ?_ ?_ ?_ ?_ ?_ ?_ ?_ ?_
    · rw [bH 9 (by decide) (by decide), ax _ _ (by decide) (by decide) (by decide) (by decide)]; exact hl.lal
    · rw [bH 10 (by decide) (by decide), ax _ _ (by decide) (by decide) (by decide) (by decide)]; exact hl.bla
    · rw [b11, hl.sal, s.sen]; exact esn.2.symm
    · rw [bH 12 (by decide) (by decide), hl.ral]; exact (sumTo_congr (fun i _ => ax _ _ (by decide) (by decide) (by decide) (by decide))).symm
    · rw [bH 13 (by decide) (by decide), hl.cal]
      refine (sumTo_congr (fun i _ => ?_)).symm
      unfold co
      rw [ax _ _ (by decide) (by decide) (by decide) (by decide), ax _ _ (by decide) (by decide) (by decide) (by decide), ax _ _ (by decide) (by decide) (by decide) (by decide)]
    · rw [bH 14 (by decide) (by decide), ax _ _ (by decide) (by decide) (by decide) (by decide)]; exact hl.gal
    · rw [bH 15 (by decide) (by decide), ax _ _ (by decide) (by decide) (by decide) (by decide)]; exact hl.lst
    · rw [bH 16 (by decide) (by decide), ax _ _ (by decide) (by decide) (by decide) (by decide)]; exact hl.tel
  · intro w hw
    have c := h.wys k w hk hw
    exact c.cg (ax _ _ (by decide) (by decide) (by decide) (by decide)) (ax _ _ (by decide) (by decide) (by decide) (by decide)) (ax _ _ (by decide) (by decide) (by decide) (by decide)) (ax _ _ (by decide) (by decide) (by decide) (by decide)) (ax _ _ (by decide) (by decide) (by decide) (by decide)) (ax _ _ (by decide) (by decide) (by decide) (by decide)) (ax _ _ (by decide) (by decide) (by decide) (by decide)) (fun f => bo 28 w f (by decide) (by decide) (by decide) (by decide) (by decide) (by decide))
  · intro _
    refine CSd.make ?_ ?_ ?_ ?_ ?_ ?_ ?_ ?_
    · rw [bS j 0 (by omega), esst]; exact s.sta
    · rw [bS j 1 (by omega), ewl]; exact s.wri
    · rw [b2, s.sen]; exact esn.1.symm
    · rw [b3, q20, aF8_end, s.ende]
      have e3 := t.e03
      by_cases y : A M_finished (256 * k + j) ≠ 0
      · rw [if_pos y, if_pos y]
        by_cases y2 : cc8 A k j b m = 1
        · have y3 := cfin.1 y2
          by_cases y4 : A M_end (256 * k + j) = 3
          · rw [if_neg (fun z => z.2 (by omega)), if_neg (fun z => z.2 y4)]
          · rw [if_pos ⟨y2, by omega⟩, if_pos ⟨y3, y4⟩]; rfl
        · rw [if_neg (fun z => y2 z.1), if_neg (fun z => y2 (cfin.2 z.1))]
      · rw [if_neg y, if_neg y, if_neg (fun z => y (cfin.1 z.1).2)]
    · rw [bS j 8 (by omega), ax _ _ (by decide) (by decide) (by decide) (by decide)]; exact s.lim
    · rw [bS j 9 (by omega), q22, ax _ _ (by decide) (by decide) (by decide) (by decide)]; exact s.cod
    · rw [bS j 10 (by omega), ax _ _ (by decide) (by decide) (by decide) (by decide)]; exact s.blk
    · rw [bS j 11 (by omega), q22, ax _ _ (by decide) (by decide) (by decide) (by decide)]; exact s.rsf
  · intro hR
    have fx : ∀ t, 26 ≤ t → t ≤ 36 → aF8 A k j b m (t, 0, 0) (256 * k + j) = A (t, 0, 0) (256 * k + j) := fun t h1 h2 => ax _ _ (by show t ≠ 0; omega) (by show t ≠ 51; omega) (by show t ≠ 40; omega) (by show t ≠ 21; omega)
    exact CRv.cg' fx (fun o => hP.hasB) (ax _ _ (by decide) (by decide) (by decide) (by decide)) (fun f _ => bo 30 j f (by decide) (by decide) (by decide) (by decide) (by decide) (by decide)) (h.rv k j hk hj hR)
  · obtain ⟨ch, st⟩ := h.st k hk
    exact ⟨ch, st.cg (fun t f h1 h2 => bo t 0 f (by omega) (by omega) (by omega) (by omega) (by omega) (by omega)) (fun i => ⟨bS i 4 (by omega), bS i 5 (by omega)⟩) (ax _ _ (by decide) (by decide) (by decide) (by decide)) (fun _ => ax _ _ (by decide) (by decide) (by decide) (by decide)) (fun i => epos k i)⟩
  · obtain ⟨chs, fl, sp⟩ := h.sp k hk
    generalize cc8 A k j b m = c
    have sp3 : CSp E A (cF3 B k j b m v c) k chs fl := sp.cg (fun t f h1 h2 => cF3_o _ _ (fun z => by injection z; omega) (fun z => by injection z; omega)) (fun i => ⟨cF3_o _ _ (fun z => by injection z with z; cases z) (fun z => by injection z with z; cases z), cF3_o _ _ (fun z => by injection z with z; cases z) (fun z => by injection z with z; cases z)⟩) (fun _ => rfl) (fun _ _ => rfl)
    have c7o : ∀ (C : AM) (r : L3) (f : Nat), r ≠ H_o k → (r = S_o k j → f ≠ 2 ∧ f ≠ 3) → cF7 B C k j b m c r f = C r f := by
      intro C r f z1 z2
      unfold cF7
      split
      · rw [uA_at, if_neg (fun z => (z2 z.1).2 z.2), uA_at, if_neg (fun z => (z2 z.1).1 z.2), uA_role _ _ _ _ z1]
      · rw [uA_at, if_neg (fun z => (z2 z.1).1 z.2), uA_role _ _ _ _ z1]
    have c7 : ∀ (C A' : AM) (ch' : Nat → List Nat) (fl' : List Nat), CSp E A' C k ch' fl' → CSp E A' (cF7 B C k j b m c) k ch' fl' := fun C A' ch' fl' q => q.cg (fun t f h1 h2 => c7o _ _ _ (fun z => by injection z; omega) (fun z => by injection z; omega)) (fun i => ⟨c7o _ _ _ (fun z => by injection z with z; cases z) (fun _ => ⟨by decide, by decide⟩), c7o _ _ _ (fun z => by injection z with z; cases z) (fun _ => ⟨by decide, by decide⟩)⟩) (fun _ => rfl) (fun _ _ => rfl)
    have he' : ∀ i, i < 256 → ∀ o : Nat, (o < wl (aF8 A k j b m) k i ∧ mkA (aF8 A k j b m) k i o = 3) ↔ (o < wl A k i ∧ mkA A k i o = 3) := by
      intro i _ o
      rw [ewl]
      constructor
      · rintro ⟨y1, y2⟩
        refine ⟨y1, ?_⟩
        by_cases y : i = j
        · subst y
          rw [emj o y1] at y2
          split at y2
          · cases y2
          · exact y2
        · rw [emi i o y y1] at y2; exact y2
      · rintro ⟨y1, y2⟩
        refine ⟨y1, ?_⟩
        by_cases y : i = j
        · subst y
          rw [emj o y1, if_neg (fun w => seg3 o w.1 w.2 y2)]; exact y2
        · rw [emi i o y y1]; exact y2
    have lo' : ∀ i, i < 256 → ∀ o : Nat, (o < wl (aF8 A k j b m) k i ∧ mkA (aF8 A k j b m) k i o = 2) ↔ (o < wl A k i ∧ mkA A k i o = 2 ∧ ¬ (i = j ∧ b ≤ o ∧ o < b + m)) := by
      intro i _ o
      rw [ewl]
      constructor
      · rintro ⟨y1, y2⟩
        by_cases y : i = j
        · subst y
          rw [emj o y1] at y2
          split at y2
          · cases y2
          · rename_i w; exact ⟨y1, y2, fun u => w u.2⟩
        · rw [emi i o y y1] at y2; exact ⟨y1, y2, fun u => y u.1⟩
      · rintro ⟨y1, y2, y3⟩
        refine ⟨y1, ?_⟩
        by_cases y : i = j
        · subst y
          rw [emj o y1, if_neg (fun w => y3 ⟨rfl, w⟩)]; exact y2
        · rw [emi i o y y1]; exact y2
    show ∃ ch fl, CSp E (aF8 A k j b m) (cF7 B (cF4 B (cF3 B k j b m v c) k j b m) k j b m c) k ch fl
    by_cases z : B (S_o k j) 6 = -1
    · have e4 : cF4 B (cF3 B k j b m v c) k j b m = cF3 B k j b m v c := by unfold cF4; rw [if_pos z]
      rw [e4]
      refine ⟨chs, fl, c7 _ _ _ _ ?_⟩
      refine CSp.make sp3.mad sp3.fre sp3.lnl sp3.lnh sp3.emp sp3.mem sp3.mef sp3.ndc sp3.ndf sp3.dis sp3.dif sp3.rng ?_ ?_
      · intro i hi hEi o
        rw [lo' i hi o, sp3.los i hi hEi o]
        constructor
        · rintro ⟨y1, y2⟩
          refine ⟨y1, y2, ?_⟩
          rintro ⟨y3, y4, y5⟩
          subst y3
          rw [seg0 o y4 y5 z] at y2; cases y2
        · rintro ⟨y1, y2, _⟩; exact ⟨y1, y2⟩
      · intro i hi hEi o
        rw [he' i hi o]; exact sp3.her i hi hEi o
    · rcases mode with ⟨_, ⟨l1, l2, l3⟩, _⟩ | ⟨q, _⟩
      · have lk := sp.lnl j hj hE
        cases hc : chs (2 * j) with
        | nil => rw [hc] at lk; exact absurd lk z
        | cons p l =>
          rw [hc] at lk
          obtain ⟨lp, ll⟩ := lk
          have ep : (B (S_o k j) 6).toNat = p := by omega
          rw [ep] at l1 l3
          have eF : cF3 B k j b m v c (P_from k) p = b := by rw [cF3_o _ _ (fun z => by injection z with z; cases z) (fun z => by injection z with z; cases z)]; exact l1
          have eT : cF3 B k j b m v c (P_to k) p = B (P_to k) p := cF3_o _ _ (fun z => by injection z with z; cases z) (fun z => by injection z with z; cases z)
          have eN : cF3 B k j b m v c (P_next k) p = B (P_next k) p := cF3_o _ _ (fun z => by injection z with z; cases z) (fun z => by injection z with z; cases z)
          obtain ⟨_, ch', fl', cu⟩ := sp3.cutted hj hE hc (b := ((b + m : Nat) : Int)) (by rw [eF]; omega) (by rw [eT]; exact l3)
          rw [eT, eN] at cu
          have c4 : cF4 B (cF3 B k j b m v c) k j b m = uA (cCut (cF3 B k j b m v c) k p ((b + m : Nat) : Int)) (S_o k j) 6 (if ((b + m : Nat) : Int) = B (P_to k) p then B (P_next k) p else (p : Int)) := by
            unfold cF4
            rw [if_neg z, ep, lp]
          rw [c4]
          refine ⟨ch', fl', c7 _ _ _ _ (cu _ ?_ he')⟩
          intro i hi o
          rw [lo' i hi o, eF]
          constructor
          · rintro ⟨y1, y2, y3⟩; exact ⟨y1, y2, fun w => y3 ⟨w.1, by omega, by omega⟩⟩
          · rintro ⟨y1, y2, y3⟩; exact ⟨y1, y2, fun w => y3 ⟨w.1, by omega, by omega⟩⟩
      · exact absurd q z
  · obtain ⟨ch, fl, bl⟩ := h.bl k hk
    exact ⟨ch, fl, bl.cg (fun t f h1 h2 => bo t 0 f (by omega) (by omega) (by omega) (by omega) (by omega) (by omega)) (fun i => bo 30 i 7 (by decide) (by decide) (by decide) (by decide) (by decide) (by decide)) (hP.pcs _) (fun i => ax _ _ (by decide) (by decide) (by decide) (by decide)) (fun i => ax _ _ (by decide) (by decide) (by decide) (by decide)) (fun _ _ => hP.pa) (fun _ _ => hP.hasB) (fun _ _ => hP.bt)⟩
end FI3
