/-! CALLS: read -/
section REA
variable {A A' B B' : AM} {E : L3 → Bool} {k j n : Nat}
theorem rst_0 (hw : A M_wasReset (256 * k + j) = 0) : rst A k j = if 0 ≤ A M_size (256 * k + j) then (if A M_read (256 * k + j) = A M_size (256 * k + j) then 3 else if (rd A k j : Int) = A M_size (256 * k + j) then 2 else 1) else 0 := by
  unfold rst; rw [if_pos hw]
/-- bytes were handed out -/
theorem Rel.rd1 (h : Rel Any n E A B) (hn : n ≤ 64) (hk : k < 2) (hj : j < 256) (hE : E (R_o k j) = true) (hw : A M_wasReset (256 * k + j) = 0) {o m : Nat} (ho : A M_read (256 * k + j) = o) (hm : m ≤ 2048) (hrd : o + m ≤ rd A k j) : ∃ C, g_X6_take k B j 0 m = some C ∧ (∀ r f, ¬ (r = C_out ∧ f < m) → ¬ (r = R_o k j ∧ (f = 2 ∨ f = 7)) → r ≠ B_next k → ¬ (r = B_o k ∧ f = 5) → C r f = B r f) ∧ C (R_o k j) 2 = ((o + m : Nat) : Int) ∧ rd (aRd A k j m) k j = rd A k j ∧ sco (aRd A k j m) k = sco A k + m ∧ Rel (Ex k j) (n + 1) E (aRd A k j m) (uA (uA (uA C (H_o k) 13 (B (H_o k) 13 + m)) (R_o k j) 1 (rst (aRd A k j m) k j)) C_o 6 m) := by
  have hT := h.tb
  have t := h.ts k j hk hj
  have e := (h.ex.rN hk hj).1 hE
  have rl := rd_le hT hk hj
  have p64 : A M_pieces k ≤ 64 := by
    have := h.cnt.pcs hT.tap.1 (fun q hq => (hT.pcs q hq).1) hk
    omega
  obtain ⟨ch0, fl0, cb0⟩ := h.bl k hk
  have hb : ∀ x, x < m → hasB A k j (o + x) = true := fun x hx => rd_has t (by omega)
  have s := h.rv k j hk hj hE
  have i0 : TkI E A B k j o 0 B := by
    refine ⟨fun _ _ _ _ _ _ => rfl, fun f hf => absurd hf (by omega), by rw [s.rea, ho]; rfl, ch0, fl0, ?_⟩
    rw [uA_same (by rw [ho]; rfl)]
    exact cb0
  obtain ⟨C, h1, h2⟩ := c_btake hT p64 hk hj hE hw hb hm m 0 FU B (by omega) (by unfold FU; omega) i0
  obtain ⟨fr, ou, r2, ch, fl, cb⟩ := h2
  have erd1 : aRd A k j m M_read (256 * k + j) = ((o + m : Nat) : Int) := by rw [aRd_read, ho]; omega
  have erd : rd (aRd A k j m) k j = rd A k j := by
    refine rd_is ?_ (by omega) ?_ ?_
    · rw [erd1]; omega
    · intro x h1 h2; show hasB A k j x = true; exact rd_has t h2
    · exact rd_not hT hk hj
  have aro : ∀ (r : L3) (f : Nat), r ≠ M_out → (r = M_o → f ≠ 5) → (r = M_read → f ≠ 256 * k + j) → aRd A k j m r f = A r f := by
    intro r f h1 h2 h3
    unfold aRd
    rw [if_neg (fun z => h1 z.1), if_neg (fun z => h2 z.1 z.2), if_neg (fun z => h3 z.1 z.2)]
  have eco : ∀ i, i ≠ j → i < 256 → co (aRd A k j m) k i = co A k i := by
    intro i hi hi2
    unfold co
    rw [aro _ _ (by decide) (fun z => by cases z) (fun _ => by omega), aro _ _ (by decide) (fun z => by cases z) (fun _ => by omega), aro _ _ (by decide) (fun z => by cases z) (fun _ => by omega)]
  have esco : sco (aRd A k j m) k = sco A k + m := by
    unfold sco
    rw [sumTo_upd (f := co A k) hj (fun i hi hne => eco i hne hi)]
    have c1 : co (aRd A k j m) k j = ((o + m : Nat) : Int) := by
      unfold co
      rw [if_pos (by exact hw), erd1]
    have c2 : co A k j = (o : Int) := by unfold co; rw [if_pos hw, ho]
    rw [c1, c2]; omega
  refine ⟨C, h1, fr, r2, erd, esco, ?_⟩
  have hR : SameR A (aRd A k j m) := SameR.make (fun f => rfl) (fun f => rfl) (fun f => rfl) (fun f => rfl)
  have hP : SameP A (aRd A k j m) := SameP.make (fun f => rfl) (fun f => rfl) (fun f => rfl) (fun f => rfl) (fun f => rfl)
  have tb : TB (aRd A k j m) := hT.rdm hm hk hj (by omega)
  generalize hD : uA (uA (uA C (H_o k) 13 (B (H_o k) 13 + m)) (R_o k j) 1 (rst (aRd A k j m) k j)) C_o 6 m = D
  have d : ∀ r f, ¬ (r = H_o k ∧ f = 13) → ¬ (r = R_o k j ∧ f = 1) → ¬ (r = C_o ∧ f = 6) → D r f = C r f := by
    intro r f z1 z2 z3
    rw [← hD, uA_at, if_neg z3, uA_at, if_neg z2, uA_at, if_neg z1]
  have dB : ∀ (r : L3) (f : Nat), r.1 ≠ 0 → r.1 ≠ 6 → (r.1 = 7 → f ≠ 13) → (r.1 < 22 ∨ 26 < r.1) → (r = R_o k j → f ≠ 1 ∧ f ≠ 2 ∧ f ≠ 7) → D r f = B r f := by
    intro r f z0 z6 z7 z22 z30
    rw [d r f (fun z => z7 (by rw [z.1]) z.2) (fun z => (z30 z.1).1 z.2) (fun z => z0 (by rw [z.1]))]
    exact fr r f (fun z => z6 (by rw [z.1])) (fun z => by have := z30 z.1; rcases z.2 with y | y; exact this.2.1 y; exact this.2.2 y) (fun z => by rw [z] at z22; exact absurd z22 (by show ¬ (26 < 22 ∨ 26 < 26); decide)) (fun z => by rw [z.1] at z22; exact absurd z22 (by show ¬ (22 < 22 ∨ 26 < 22); decide))
  have oA : Out (fA k) A (aRd A k j m) := by
    intro r f hr
    refine aro r f (fun z => hr ?_) (fun z y => hr ?_) (fun z y => hr ?_)
    · rw [z]; dsimp only [fA]; omega
    · rw [z, y]; dsimp only [fA]; omega
    · rw [z, y]; dsimp only [fA]; omega
  have oB : Out (gB k) B D := by
    intro r f hr
    by_cases z : r = C_out ∨ r = R_o k j ∨ r = B_next k ∨ r = B_o k ∨ r = H_o k ∨ r = C_o
    · rcases z with z | z | z | z | z | z
      · exact absurd (by rw [z]; dsimp only [gB]; omega) hr
      · exact absurd (by rw [z]; dsimp only [gB]; omega) hr
      · exact absurd (by rw [z]; dsimp only [gB]; omega) hr
      · exact absurd (by rw [z]; dsimp only [gB]; omega) hr
      · subst z
        have f0 : f = 0 := by
          by_cases y : f = 0
          · exact y
          · exact absurd (by dsimp only [gB]; omega) hr
        subst f0
        exact dB _ _ (by show 7 ≠ 0; decide) (by show 7 ≠ 6; decide) (fun _ => by decide) (by show 7 < 22 ∨ 26 < 7; decide) (fun y => by injection y with y; cases y)
      · exact absurd (by rw [z]; dsimp only [gB]; omega) hr
    · have zz : r ≠ C_out ∧ r ≠ R_o k j ∧ r ≠ B_next k ∧ r ≠ B_o k ∧ r ≠ H_o k ∧ r ≠ C_o := ⟨fun y => z (Or.inl y), fun y => z (Or.inr (Or.inl y)), fun y => z (Or.inr (Or.inr (Or.inl y))), fun y => z (Or.inr (Or.inr (Or.inr (Or.inl y)))), fun y => z (Or.inr (Or.inr (Or.inr (Or.inr (Or.inl y))))), fun y => z (Or.inr (Or.inr (Or.inr (Or.inr (Or.inr y)))))⟩
      rw [d r f (fun y => zz.2.2.2.2.1 y.1) (fun y => zz.2.1 y.1) (fun y => zz.2.2.2.2.2 y.1)]
      exact fr r f (fun y => zz.1 y.1) (fun y => zz.2.1 y.1) zz.2.2.1 (fun y => zz.2.2.2.1 y.1)
  have d13 : D (H_o k) 13 = B (H_o k) 13 + m := by rw [← hD, uA_tag (by show 7 ≠ 0; decide), uA_tag (by show 7 ≠ 30; decide), uA_self]
  have dR1 : D (R_o k j) 1 = rst (aRd A k j m) k j := by rw [← hD, uA_tag (by show 30 ≠ 0; decide), uA_self]
  have dR2 : D (R_o k j) 2 = ((o + m : Nat) : Int) := by rw [d _ _ (fun z => by injection z.1 with z; cases z) (fun z => by omega) (fun z => by injection z.1 with z; cases z)]; exact r2
  have dRo : ∀ f, f ≠ 1 → f ≠ 2 → f ≠ 7 → D (R_o k j) f = B (R_o k j) f := fun f h1 h2 h3 => dB _ _ (by show 30 ≠ 0; decide) (by show 30 ≠ 6; decide) (fun z => absurd z (by show 30 ≠ 7; decide)) (by show 30 < 22 ∨ 26 < 30; decide) (fun _ => ⟨h1, h2, h3⟩)
  have jn := h.joined hk hj e.1
  refine h.side hk hj oA oB (by omega) tb (h.pf.cg hP.pcs hP.has) ?_ ?_ ?_ ?_ (fun z => absurd ⟨rfl, rfl⟩ z) (fun _ _ _ _ _ _ => trivial) ?_ ?_ ?_ ?_ ?_ ?_ ?_ ?_ ?_ ?_ ?_ ?_ ?_
  · intro i hi hne
    refine EqS.same hR hP (fun t h1 h2 => aro _ _ (fun z => by injection z; omega) (fun z => by injection z; omega) (fun _ => by omega))
  · intro i hi hne f _ _ _ _
    exact dB _ _ (by show 29 ≠ 0; decide) (by show 29 ≠ 6; decide) (fun z => absurd z (by show 29 ≠ 7; decide)) (by show 29 < 22 ∨ 26 < 29; decide) (fun z => by injection z with z; cases z)
  · intro i hi hne f _
    exact dB _ _ (by show 30 ≠ 0; decide) (by show 30 ≠ 6; decide) (fun z => absurd z (by show 30 ≠ 7; decide)) (by show 30 < 22 ∨ 26 < 30; decide) (fun z => absurd z (R_ne (fun y => hne y.2)))
  · exact (TS.make t.t01 t.f01 t.e03 t.enf t.r01 t.g01 t.s01 t.p01 t.w01 t.o01 t.sth (fun _ => e) t.tln (fun x hx => by
      rw [erd1] at hx
      show hasB A k j x = true
      exact rd_has t (by omega)) t.hsh t.shz t.wsz t.nwm)
  · have tk := h.tk k hk
    exact (TK.make tk.lim tk.thg tk.d01 tk.s01 tk.g89 tk.una tk.unw)
  · intro p hp; exact h.tl p hp
  · exact h.cnt.cg (by omega) hR hP (Int.le_refl _)
  · rw [dB _ _ (by show 17 ≠ 0; decide) (by show 17 ≠ 6; decide) (fun z => absurd z (by show 17 ≠ 7; decide)) (by show 17 < 22 ∨ 26 < 17; decide) (fun z => by injection z with z; cases z)]
    have := h.nst k hk; omega
  · rw [dB _ _ (by show 13 ≠ 0; decide) (by show 13 ≠ 6; decide) (fun z => absurd z (by show 13 ≠ 7; decide)) (by show 13 < 22 ∨ 26 < 13; decide) (fun z => by injection z with z; cases z)]
    have := h.nsp k hk; omega
  · have tp := h.top
    have dC : ∀ f, f ≠ 6 → D C_o f = B C_o f := by
      intro f hf
      rw [d _ _ (fun z => by injection z.1 with z; cases z) (fun z => by injection z.1 with z; cases z) (fun z => hf z.2)]
      exact fr _ _ (fun z => by injection z.1 with z; cases z) (fun z => by injection z.1 with z; cases z) (fun z => by injection z with z; cases z) (fun z => by injection z.1 with z; cases z)
    refine CTop.make ?_ ?_ ?_ ?_ ?_ ?_
    · rw [dC 5 (by decide)]; exact tp.tap
    · rw [← hD, uA_self]; rfl
    · rw [dC 7 (by decide)]; exact tp.jnd
    · intro i hi
      rw [dB _ _ (by decide) (by decide) (fun z => by cases z) (by decide) (fun z => by injection z with z; cases z)]
      exact tp.tpe i hi
    · intro i hi
      have e6 : D C_out i = C C_out i := d _ _ (fun z => by injection z.1 with z; cases z) (fun z => by injection z.1 with z; cases z) (fun z => by injection z.1 with z; cases z)
      rw [e6]
      unfold aRd
      by_cases z : i < m
      · rw [if_pos ⟨rfl, z⟩, b8_mod, bt_b8 hT, ho, tkN]; exact ou i z
      · rw [if_neg (fun y => z y.2), if_neg (fun y => by cases y.1), if_neg (fun y => by cases y.1), fr _ _ (fun y => z y.2) (fun y => by injection y.1 with y; cases y) (fun y => by injection y with y; cases y) (fun y => by injection y.1 with y; cases y)]
        exact tp.out i hi
    · intro i
      unfold aRd
      split
      · omega
      · rw [if_neg (fun y => by cases y.1), if_neg (fun y => by cases y.1)]; exact tp.ovl i
  · have hl := h.hl k hk
    have dH : ∀ f, f ≠ 13 → D (H_o k) f = B (H_o k) f := fun f hf => dB _ _ (by show 7 ≠ 0; decide) (by show 7 ≠ 6; decide) (fun _ => hf) (by show 7 < 22 ∨ 26 < 7; decide) (fun z => by injection z with z; cases z)
    refine CHl.make ?_ ?_ ?_ ?_ ?_ ?_ ?_ ?_
    · rw [dH _ (by decide)]; exact hl.lal
    · rw [dH _ (by decide)]; exact hl.bla
    · rw [dH _ (by decide)]; exact hl.sal
    · rw [dH _ (by decide)]; exact hl.ral
    · rw [d13, esco, hl.cal]
    · rw [dH _ (by decide)]; exact hl.gal
    · rw [dH _ (by decide)]; exact hl.lst
    · rw [dH _ (by decide)]; exact hl.tel
  · intro w hw'
    have c := h.wys k w hk hw'
    exact c.cg rfl rfl rfl rfl rfl rfl rfl (fun f => dB _ _ (by show 28 ≠ 0; decide) (by show 28 ≠ 6; decide) (fun z => absurd z (by show 28 ≠ 7; decide)) (by show 28 < 22 ∨ 26 < 28; decide) (fun z => by injection z with z; cases z))
  · intro hE2
    have sd := h.sd k j hk hj hE2
    have dS : ∀ f, D (S_o k j) f = B (S_o k j) f := fun f => dB _ _ (by show 29 ≠ 0; decide) (by show 29 ≠ 6; decide) (fun z => absurd z (by show 29 ≠ 7; decide)) (by show 29 < 22 ∨ 26 < 29; decide) (fun z => by injection z with z; cases z)
    refine CSd.make ?_ ?_ ?_ ?_ ?_ ?_ ?_ ?_
    · rw [dS]; exact sd.sta
    · rw [dS]; exact sd.wri
    · rw [dS]; exact sd.sen
    · rw [dS]; exact sd.ende
    · rw [dS]; exact sd.lim
    · rw [dS]; exact sd.cod
    · rw [dS]; exact sd.blk
    · rw [dS]; exact sd.rsf
  · intro _
    refine CRv.make ?_ dR1 ?_ ?_ ?_ ?_ ?_ ?_ ?_ ?_ ?_ ?_
    · rw [dRo _ (by decide) (by decide) (by decide)]; exact s.win
    · rw [dR2, erd1]
    · rw [dRo _ (by decide) (by decide) (by decide), erd]; exact s.rdy
    · rw [dRo _ (by decide) (by decide) (by decide)]; exact s.hig
    · rw [dRo _ (by decide) (by decide) (by decide)]; exact s.siz
    · rw [dRo _ (by decide) (by decide) (by decide)]; exact s.grt
    · rw [dRo _ (by decide) (by decide) (by decide)]; exact s.cod
    · rw [dRo _ (by decide) (by decide) (by decide)]; exact s.stc
    · rw [dRo _ (by decide) (by decide) (by decide)]; exact s.tel
    · rw [dRo _ (by decide) (by decide) (by decide)]; exact s.stp
    · rw [dRo _ (by decide) (by decide) (by decide)]; exact s.std
  · obtain ⟨ch, st⟩ := h.st k hk
    refine ⟨ch, st.cg ?_ ?_ rfl (fun _ => rfl) (fun _ => rfl)⟩
    · intro t f h1 h2; exact dB _ _ (by show t ≠ 0; omega) (by show t ≠ 6; omega) (fun z => by dsimp only at z; omega) (by show t < 22 ∨ 26 < t; omega) (fun z => by injection z with z; omega)
    · intro i; exact ⟨dB _ _ (by show 29 ≠ 0; decide) (by show 29 ≠ 6; decide) (fun z => absurd z (by show 29 ≠ 7; decide)) (by show 29 < 22 ∨ 26 < 29; decide) (fun z => by injection z with z; cases z), dB _ _ (by show 29 ≠ 0; decide) (by show 29 ≠ 6; decide) (fun z => absurd z (by show 29 ≠ 7; decide)) (by show 29 < 22 ∨ 26 < 29; decide) (fun z => by injection z with z; cases z)⟩
  · obtain ⟨ch, fl, sp⟩ := h.sp k hk
    refine ⟨ch, fl, sp.cg ?_ ?_ (fun _ => rfl) (fun _ _ => rfl)⟩
    · intro t f h1 h2; exact dB _ _ (by show t ≠ 0; omega) (by show t ≠ 6; omega) (fun z => by dsimp only at z; omega) (by show t < 22 ∨ 26 < t; omega) (fun z => by injection z with z; omega)
    · intro i; exact ⟨dB _ _ (by show 29 ≠ 0; decide) (by show 29 ≠ 6; decide) (fun z => absurd z (by show 29 ≠ 7; decide)) (by show 29 < 22 ∨ 26 < 29; decide) (fun z => by injection z with z; cases z), dB _ _ (by show 29 ≠ 0; decide) (by show 29 ≠ 6; decide) (fun z => absurd z (by show 29 ≠ 7; decide)) (by show 29 < 22 ∨ 26 < 29; decide) (fun z => by injection z with z; cases z)⟩
  · refine ⟨ch, fl, CBl.cg (A := uA A M_read (256 * k + j) ((o + m : Nat) : Int)) (B := C) ?_ ?_ rfl (fun _ => rfl) ?_ (fun _ _ => rfl) (fun _ _ => rfl) (fun _ _ => rfl) cb⟩
    · intro t f h1 h2; exact d _ _ (fun z => by injection z.1; omega) (fun z => by injection z.1; omega) (fun z => by injection z.1; omega)
    · intro i; exact d _ _ (fun z => by injection z.1 with z; cases z) (fun z => by omega) (fun z => by injection z.1 with z; cases z)
    · intro i
      by_cases z : i = j
      · subst z; rw [erd1, uA_self]
      · rw [aro _ _ (by decide) (fun y => by cases y) (fun _ => by omega), uA_idx _ _ _ _ (by omega)]
end REA
