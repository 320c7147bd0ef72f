section RE2
variable {A A' B B' X : AM} {E : L3 → Bool} {k j n : Nat} {P : Nat → Nat → Prop}
theorem Rel.weak (h : Rel Any n E A B) : Rel P n E A B := (Rel.make h.tb h.pf h.ts h.th (fun q i hq hi _ => h.ov q i hq hi trivial) h.tk h.tl h.tf h.cnt h.nst h.nsp h.ex h.top h.gr h.hl h.wys h.sd h.rv h.st h.sp h.bl h.ln)
theorem cMb_comm {w o : Bool} {v : Int} : uA (cMb X k j w o) C_o 6 v = cMb (uA X C_o 6 v) k j w o := by
  unfold cMb
  split
  · unfold cMb1
    rw [uA_comm (r1 := W_o k (wy j)) (r2 := C_o) (Or.inl (fun z => by injection z with z; cases z)), uA_comm (r1 := W_o k (wy j)) (r2 := C_o) (Or.inl (fun z => by injection z with z; cases z))]
    rfl
  · rfl
theorem Rel.mbo {v : Int} (h : Rel P n E A (uA X C_o 6 v)) (hk : k < 2) (hj : j < 256) (ht : A M_there (256 * k + j) ≠ 0) (was : Bool) : g_X2_mayBeOver E k X j (b2i was) = some (cMb X k j was (ovr A k j)) := by
  have g := h.tb.grt (2 * k + wy j) (by have := wy_lt j; omega)
  have cw := h.wys k (wy j) hk (wy_lt j)
  have c2 : X (W_o k (wy j)) 2 = A M_granted (2 * k + wy j) := cw.grt
  have cm := c_mayBeOver (E := E) (B := X) (k := k) (j := j) (h.gr k hk).sd hk hj (by rw [c2]; exact g) was
  have e : covr E X k j = ovr A k j := covr_eq (B := uA X C_o 6 v) h hk hj ht
  rw [e] at cm
  exact cm
theorem cGrowD_comm {r : L3} {f : Nat} {v : Int} (h : r.1 ≠ 7) : cGrowD A (uA B r f v) k = uA (cGrowD A B k) r f v := by
  unfold cGrowD
  split
  · rw [uA_comm (r1 := r) (r2 := H_o k) (Or.inl (fun z => h (by rw [z]))), uA_comm (r1 := r) (r2 := H_o k) (Or.inl (fun z => h (by rw [z])))]
  · rfl
theorem cGrowS_comm {r : L3} {f : Nat} {v : Int} (h : r.1 ≠ 30 ∨ (f ≠ 6 ∧ f ≠ 10)) : cGrowS A (uA B r f v) k j = uA (cGrowS A B k j) r f v := by
  unfold cGrowS
  have q : ∀ g, g = 6 ∨ g = 10 → (r ≠ R_o k j ∨ f ≠ g) := by
    intro g hg
    rcases h with h | h
    · exact Or.inl (fun z => h (by rw [z]))
    · right; omega
  split
  · rw [uA_comm (r1 := r) (r2 := R_o k j) (q 6 (by omega)), uA_comm (r1 := r) (r2 := R_o k j) (q 10 (by omega))]
  · rfl
theorem cGrowD_o {r : L3} {f : Nat} (h : r = H_o k → f ≠ 14 ∧ f ≠ 16) : cGrowD A B k r f = B r f := by
  unfold cGrowD
  split
  · rw [uA_at, if_neg (fun z => (h z.1).2 z.2), uA_at, if_neg (fun z => (h z.1).1 z.2)]
  · rfl
theorem cGrowS_o {r : L3} {f : Nat} (h : r = R_o k j → f ≠ 6 ∧ f ≠ 10) : cGrowS A B k j r f = B r f := by
  unfold cGrowS
  split
  · rw [uA_at, if_neg (fun z => (h z.1).2 z.2), uA_at, if_neg (fun z => (h z.1).1 z.2)]
  · rfl
theorem aGrowD_x {r : L3} {f : Nat} (h1 : r ≠ M_dataGrant) (h2 : r ≠ M_tellData) : aGrowD A k r f = A r f := by
  unfold aGrowD
  split
  · rw [uA_role _ _ _ _ h2, uA_role _ _ _ _ h1]
  · rfl
theorem aGrowS_x {r : L3} {f : Nat} (h1 : r ≠ M_grant) (h2 : r ≠ M_tellGrant) : aGrowS A k j r f = A r f := by
  unfold aGrowS
  split
  · rw [uA_role _ _ _ _ h2, uA_role _ _ _ _ h1]
  · rfl
theorem rst_growD : rst (aGrowD A k) k j = rst A k j := by
  refine rst_cg (aGrowD_x (by decide) (by decide)) (fun o => hasB_cg (aGrowD_x (by decide) (by decide)) (fun _ _ => aGrowD_x (by decide) (by decide)) (fun _ _ => aGrowD_x (by decide) (by decide)) (fun _ => aGrowD_x (by decide) (by decide))) (aGrowD_x (by decide) (by decide)) (aGrowD_x (by decide) (by decide))
theorem Rel.out0 (h : Rel Any n E A B) : Rel Any (n + 1) E (uA A M_o 5 0) (uA B C_o 6 0) := by
  refine h.loc (k := 0) (j := 0) (by decide) (by decide) (Out.rf.u (fL0 (by decide))) (Out.rf.u (Or.inl rfl)) (by omega) h.tb.o5 (Int.le_refl _) (h.ts 0 0 (by decide) (by decide)) (h.ov 0 0 (by decide) (by decide)) (fun _ _ _ _ _ z => z) (h.tk 0 (by decide)) (fun z => z) (fun z => z) ?_ (h.hl 0 (by decide)) (fun w hw => h.wys 0 w (by decide) hw) (h.sd 0 0 (by decide) (by decide)) (h.rv 0 0 (by decide) (by decide))
  have tp := h.top
  exact (CTop.make tp.tap (rfl) tp.jnd tp.tpe tp.out tp.ovl)
theorem OV.was (o : OV A k j) (ht : A M_there (256 * k + j) ≠ 0) : own k j = false → (ovr A k j = true ↔ A M_over (256 * k + j) ≠ 0) := by
  intro ho
  unfold OV at o
  constructor
  · intro z; exact o.2 ⟨ho, ht, z⟩
  · intro z; exact (o.1 z).2.2
theorem c_isOver' (h : Rel P n E A B) (hk : k < 2) (hj : j < 256) (ht : A M_there (256 * k + j) ≠ 0) : g_X2_isOver E k B j = some (b2i (ovr A k j)) := by rw [c_isOver hj, covr_eq h hk hj ht]
theorem c_read_0 (h : Rel Any n E A B) (hk : k < 2) (hj : j < 256) (hE : E (R_o k j) = true) (hw : A M_wasReset (256 * k + j) = 0) : ∃ C, g_X2_read_91 E k B j j 0 = some (C, 0) ∧ Rel Any (n + 1) E (aOver (uA A M_o 5 0) k j) (uA C C_o 6 0) := by
  have e := (h.ex.rN hk hj).1 hE
  have s := h.rv k j hk hj hE
  have t := h.ts k j hk hj
  have hr := h.tb.rds k j hk hj
  have st : stl (B (R_o k j) 1) (B (R_o k j) 5) (B (R_o k j) 3) (B (R_o k j) 2) = B (R_o k j) 1 := by
    rw [s.sta, s.siz, s.rdy, s.rea, rst_0 hw]
    exact stl_ok (Int.le_refl _) (by have := rd_ge (A := A) (k := k) (j := j); omega) (fun z => by have := t.shz z; have := rd_hig h.tb hk hj t; omega) hr.1
  have r := h.out0.weak (P := Ex k j)
  have ov := h.ov k j hk hj trivial
  have o := r.over hk hj e.1 (fun z => ⟨(ov.1 z).1, (ov.1 z).2.2⟩) (ovr A k j) (ov.was e.1)
  refine ⟨cMb B k j (ovr A k j) (ovr A k j), ?_, ?_⟩
  · unfold g_X2_read_91
    rw [c_isOver' h hk hj e.1, bd_v, c_settle, bd_v, st, uA_same rfl, r.mbo (v := 0) hk hj e.1]
    rfl
  · rw [cMb_comm]
    exact o.2
theorem c_read_m (h : Rel Any n E A B) (hn : n ≤ 64) (hk : k < 2) (hj : j < 256) (hE : E (R_o k j) = true) (hw : A M_wasReset (256 * k + j) = 0) {o m : Nat} {x : Int} (ho : A M_read (256 * k + j) = o) (h1 : 1 ≤ m) (hm : m ≤ 2048) (hrd : o + m ≤ rd A k j) (hx : mnZ x (B (R_o k j) 3 - B (R_o k j) 2) = m) : ∃ C, g_X2_read E k B j 0 x = some (C, (m : Int)) ∧ Rel Any (n + 1) E (aRead1 (aRd A k j m) k j) (uA C C_o 6 m) := by
  have e := (h.ex.rN hk hj).1 hE
  have s := h.rv k j hk hj hE
  have t := h.ts k j hk hj
  have hT := h.tb
  have hr := hT.rds k j hk hj
  have rl := rd_le hT hk hj
  have jn := h.joined hk hj e.1
  have rh := rd_hig hT hk hj t
  obtain ⟨C, c1, fr, c2, erd, esco, R1⟩ := h.rd1 hn hk hj hE hw ho hm hrd
  have tb1 : TB (aRd A k j m) := R1.tb
  have hw1 : aRd A k j m M_wasReset (256 * k + j) = 0 := hw
  have erd1 : aRd A k j m M_read (256 * k + j) = ((o + m : Nat) : Int) := by rw [aRd_read, ho]; omega
  have cR : ∀ f, f ≠ 2 → f ≠ 7 → C (R_o k j) f = B (R_o k j) f := fun f h2 h7 => fr _ _ (fun z => by injection z.1 with z; cases z) (fun z => by rcases z.2 with y | y; exact h2 y; exact h7 y) (fun z => by injection z with z; cases z) (fun z => by injection z.1 with z; cases z)
  have cH : ∀ f, C (H_o k) f = B (H_o k) f := fun f => fr _ _ (fun z => by injection z.1 with z; cases z) (fun z => by injection z.1 with z; cases z) (fun z => by injection z with z; cases z) (fun z => by injection z.1 with z; cases z)
  have cG : ∀ f, C (H_grants k) f = B (H_grants k) f := fun f => fr _ _ (fun z => by injection z.1 with z; cases z) (fun z => by injection z.1 with z; cases z) (fun z => by injection z with z; cases z) (fun z => by injection z.1 with z; cases z)
  have cS : ∀ f, C (S_o k j) f = B (S_o k j) f := fun f => fr _ _ (fun z => by injection z.1 with z; cases z) (fun z => by injection z.1 with z; cases z) (fun z => by injection z with z; cases z) (fun z => by injection z.1 with z; cases z)
  have hl := h.hl k hk
  have scb := sumTo_bd (f := co (aRd A k j m) k) (n := 256) (b := 65536) (fun q hq => tb1.cob hk q hq)
  have scb' : sco (aRd A k j m) k = sumTo (co (aRd A k j m) k) 256 := rfl
  -- what grows
  generalize hX1 : uA C (H_o k) 13 (B (H_o k) 13 + m) = X1 at R1
  have x13 : X1 (H_o k) 13 = sco (aRd A k j m) k := by rw [← hX1, uA_self, hl.cal, esco]
  have xH : ∀ f, f ≠ 13 → X1 (H_o k) f = B (H_o k) f := fun f hf => by rw [← hX1, uA_idx _ _ _ _ hf, cH]
  have xo : ∀ (r : L3) (f : Nat), r.1 ≠ 7 → X1 r f = C r f := fun r f hr => by rw [← hX1, uA_tag hr]
  have gD : g_X2_grow k X1 = some (cGrowD (aRd A k j m) X1 k) := by
    refine c_grow hk x13 ?_ ?_ tb1
    · rw [xH _ (by decide)]; exact hl.gal
    · rw [xo _ _ (by show 11 ≠ 7; decide), cG]; exact (h.gr k hk).gh 0 (by decide)
  have R2 := R1.growD hk hj (show aRd A k j m M_o 1 = 1 from jn)
  rw [cGrowD_comm (by decide), cGrowD_comm (by show 30 ≠ 7; decide)] at R2
  generalize hX2 : cGrowD (aRd A k j m) X1 k = X2 at R2 gD
  have x2o : ∀ (r : L3) (f : Nat), r.1 ≠ 7 → X2 r f = C r f := fun r f hr => by rw [← hX2, cGrowD_o (fun z => absurd (by rw [z]) hr), xo r f hr]
  have tb2 := R2.tb
  -- the state settles
  have stl1 : stl (rst A k j) (B (R_o k j) 5) (B (R_o k j) 3) ((o + m : Nat) : Int) = rst (aRd A k j m) k j := by
    rw [s.siz, s.rdy, rst_0 hw, rst_0 hw1, erd1, erd, ho]
    exact stl_ok (by omega) (by omega) (fun z => by have := t.shz z; omega) (by omega)
  have nov : A M_over (256 * k + j) = 0 := by
    by_cases z : A M_over (256 * k + j) = 0
    · exact z
    · have y := (h.ov k j hk hj trivial).1 z
      have y2 := y.2.2
      unfold ovr at y2
      rw [e.2, Bool.and_eq_true] at y2
      have y3 : 2 < rst A k j := by simpa using y2.1
      rw [rst_0 hw] at y3
      split at y3
      · rename_i z0
        have := t.shz z0
        split at y3
        · omega
        · split at y3 <;> omega
      · omega
  have ovA := h.ov k j hk hj trivial
  -- looking whether it is over
  have fin : ∀ (X A3 : AM), Rel (Ex k j) (n + 1) E A3 (uA (uA X (R_o k j) 1 (rst (aRd A k j m) k j)) C_o 6 m) → (∀ (r : L3) (f : Nat), r = S_o k j ∨ (r = R_o k j ∧ (f = 1 ∨ f = 2 ∨ f = 3 ∨ f = 5)) → X r f = C r f) → A3 M_there (256 * k + j) = A M_there (256 * k + j) → A3 M_over (256 * k + j) = A M_over (256 * k + j) → ∃ D, g_X2_read_91 E k X j j m = some (D, (m : Int)) ∧ Rel Any (n + 1) E (aOver A3 k j) (uA D C_o 6 m) := by
    intro X A3 R3 hX h18 h36
    have cov : covr E X k j = ovr A k j := by
      rw [← covr_eq h hk hj e.1]
      unfold covr
      rw [hX _ _ (Or.inl rfl), hX (R_o k j) 1 (Or.inr ⟨rfl, by omega⟩), cS, cR 1 (by decide) (by decide)]
    have o3 := R3.over hk hj (by rw [h18]; exact e.1) (fun z => by rw [h36] at z; exact absurd nov z) (ovr A k j) (by rw [h36]; exact ovA.was e.1)
    refine ⟨cMb (uA X (R_o k j) 1 (rst (aRd A k j m) k j)) k j (ovr A k j) (ovr A3 k j), ?_, ?_⟩
    · unfold g_X2_read_91
      rw [c_isOver hj, bd_v, cov, c_settle, bd_v, hX (R_o k j) 1 (Or.inr ⟨rfl, by omega⟩), hX (R_o k j) 5 (Or.inr ⟨rfl, by omega⟩), hX (R_o k j) 3 (Or.inr ⟨rfl, by omega⟩), hX (R_o k j) 2 (Or.inr ⟨rfl, by omega⟩), cR 1 (by decide) (by decide), cR 5 (by decide) (by decide), cR 3 (by decide) (by decide), c2, s.sta, stl1, R3.mbo hk hj (by rw [h18]; exact e.1), bd_v]
    · rw [cMb_comm]; exact o3.2
  have rs01 : (rst A k j = 0 ↔ rst (aRd A k j m) k j = 0) := by
    rw [rst_0 hw, rst_0 hw1]
    have es : aRd A k j m M_size (256 * k + j) = A M_size (256 * k + j) := rfl
    rw [es]
    by_cases z : 0 ≤ A M_size (256 * k + j)
    · rw [if_pos z, if_pos z]
      constructor
      · intro y; split at y; omega; split at y <;> omega
      · intro y; split at y; omega; split at y <;> omega
    · rw [if_neg z, if_neg z]
  have rn4 : rst A k j ≠ 4 := by
    rw [rst_0 hw]
    intro y
    split at y
    · split at y
      · omega
      · split at y <;> omega
    · omega
  unfold g_X2_read
  rw [c_receivingN hj hE, bd_v, gM_s, s.sta, if_pos rn4, c32_ok (by rw [s.rdy, s.rea]; omega) (by rw [s.rdy, s.rea]; omega), hx, if_neg (by omega), c1, bd_v, cH, c32_ok (by rw [hl.cal, ← esco]; omega) (by rw [hl.cal, ← esco]; omega), gS_v, hX1, gD, bd_v, x2o _ _ (by show 30 ≠ 7; decide), cR 1 (by decide) (by decide), s.sta]
  unfold aRead1
  have o5 : aRd A k j m M_o 5 = (m : Int) := rfl
  rw [if_neg (show ¬ (aRd A k j m M_o 5 ≤ 0) by rw [o5]; omega), rst_growD]
  by_cases z : rst A k j = 0
  · rw [if_neg (fun y => y z), if_neg (fun y => y (rs01.1 z))]
    have R3 := R2.growS hk hj hE
    rw [cGrowS_comm (Or.inl (by decide)), cGrowS_comm (Or.inr ⟨by decide, by decide⟩)] at R3
    have gS2 : g_X2_grow_2 k X2 j = some (cGrowS (aGrowD (aRd A k j m) k) X2 k j) := by
      refine c_grow_2 hk hj ?_ ?_ ?_ tb2
      · rw [x2o _ _ (by show 30 ≠ 7; decide), c2, aGrowD_x (by decide) (by decide), erd1]
      · rw [x2o _ _ (by show 30 ≠ 7; decide), cR 6 (by decide) (by decide), aGrowD_x (by decide) (by decide)]; exact s.grt
      · rw [x2o _ _ (by show 30 ≠ 7; decide), cR 0 (by decide) (by decide), aGrowD_x (by decide) (by decide)]; exact s.win
    rw [gS2, bd_v]
    refine fin _ _ R3 ?_ ?_ ?_
    · intro r f hrf
      rcases hrf with y | ⟨y, y2⟩
      · rw [cGrowS_o (fun y3 => by rw [y] at y3; injection y3 with y3; cases y3), x2o r f (by rw [y]; show 29 ≠ 7; decide)]
      · rw [cGrowS_o (fun _ => by omega), x2o r f (by rw [y]; show 30 ≠ 7; decide)]
    · rw [aGrowS_x (by decide) (by decide), aGrowD_x (by decide) (by decide)]; rfl
    · rw [aGrowS_x (by decide) (by decide), aGrowD_x (by decide) (by decide)]; rfl
  · rw [if_pos z, if_pos (fun y => z (rs01.2 y))]
    refine fin _ _ R2 ?_ ?_ ?_
    · intro r f hrf
      rcases hrf with y | ⟨y, y2⟩
      · exact x2o r f (by rw [y]; show 29 ≠ 7; decide)
      · exact x2o r f (by rw [y]; show 30 ≠ 7; decide)
    · exact aGrowD_x (by decide) (by decide)
    · exact aGrowD_x (by decide) (by decide)
theorem aRead1_0 : aRead1 A k j M_o 0 = A M_o 0 := by
  have d : aGrowD A k M_o 0 = A M_o 0 := aGrowD_x (by decide) (by decide)
  have s : ∀ A : AM, aGrowS A k j M_o 0 = A M_o 0 := by intro A; unfold aGrowS; split <;> rfl
  have v : ∀ A : AM, aOver A k j M_o 0 = A M_o 0 := by
    intro A; unfold aOver
    split
    · rfl
    · unfold aOv1; split <;> rfl
  unfold aRead1
  split
  · exact v A
  · split
    · rw [v, d]
    · rw [v, s, d]
theorem call_read (h : Rel Any n E A B) (hn : n ≤ 64) (x1 x2 x3 : Int) : ∃ A' v B' w, g_X8_read A x1 x2 x3 = some (A', v) ∧ g_X1_read E B x1 x2 x3 = some (B', w) ∧ Rel Any (n + 1) E A' B' ∧ Ans wI A' v w := by
  unfold g_X1_read
  by_cases q : 0 ≤ x1 ∧ x1 ≤ 1
  · obtain ⟨k, rfl⟩ := Int.eq_ofNat_of_zero_le q.1
    have hk : k < 2 := by omega
    rw [c_hallN hk, bd_v, hXW_r]
    by_cases qc : 0 ≤ x3 ∧ x3 ≤ 2048
    · rw [c_in1 qc, bd_v, c_need1, bd_v, hXW_r]
      have r0 := (h.o0 (v := 0) (Nat.le_refl _)).out0
      by_cases hz : isR A k x2
      · have hz' := (h.ex.r hk).1 hz
        obtain ⟨j, rfl⟩ := Int.eq_ofNat_of_zero_le hz'.1
        have hj : j < 256 := by omega
        rw [tkN] at hz'
        have hE := hz'.2.2
        have s := h.rv k j hk hj hE
        have hr := h.tb.rds k j hk hj
        have rl := rd_le h.tb hk hj
        by_cases hw : A M_wasReset (256 * k + j) = 0
        · obtain ⟨mo, rfl⟩ := Int.eq_ofNat_of_zero_le qc.1
          obtain ⟨o, eo⟩ := Int.eq_ofNat_of_zero_le hr.1
          have rg := rd_ge (A := A) (k := k) (j := j)
          obtain ⟨m, em⟩ : ∃ m : Nat, mnZ (mo : Int) (B (R_o k j) 3 - B (R_o k j) 2) = m := ⟨(mnZ (mo : Int) (B (R_o k j) 3 - B (R_o k j) 2)).toNat, by rw [s.rdy, s.rea]; unfold mnZ; split <;> omega⟩
          have em' := em
          rw [s.rdy, s.rea] at em'
          have m1 : m ≤ mo := by unfold mnZ at em'; split at em' <;> omega
          have m2 : A M_read (256 * k + j) + m ≤ rd A k j := by unfold mnZ at em'; split at em' <;> omega
          have m3 : m = mo ∨ A M_read (256 * k + j) + m = rd A k j := by unfold mnZ at em'; split at em' <;> omega
          have tr := t_read_ok (n := m) (m := mo) h.tb hk hj (by omega) hz hw m1 m2 m3
          by_cases m0 : m = 0
          · subst m0
            rw [aRd_0 rfl] at tr
            obtain ⟨C, c1, c2⟩ := c_read_0 (h.o0 (v := 0) (Nat.le_refl _)) hk hj hE hw
            have ea : aRead1 (uA (uA A M_o 0 0) M_o 5 0) k j = aOver (uA (uA A M_o 0 0) M_o 5 0) k j := by
              unfold aRead1; rw [if_pos (show uA (uA A M_o 0 0) M_o 5 0 M_o 5 ≤ 0 by rw [uA_self]; exact Int.le_refl 0)]
            rw [ea] at tr
            refine ⟨_, _, _, .inr 0, tr, ?_, c2, ans_r ?_⟩
            · unfold g_X2_read
              have rn4 : rst A k j ≠ 4 := by
                rw [rst_0 hw]
                intro y
                split at y
                · split at y
                  · omega
                  · split at y <;> omega
                · omega
              rw [c_receivingN hj hE, bd_v, gM_s, s.sta, if_pos rn4, c32_ok (by rw [s.rdy, s.rea]; omega) (by rw [s.rdy, s.rea]; omega), em, if_pos (by omega)]
              rw [show ((0 : Nat) : Int) = 0 from rfl, c1, gB2_v, gS_v]
              rfl
            · rw [← ea, aRead1_0]; rfl
          · have h2 := (h.o0 (v := 0) (Nat.le_refl _)).out0
            obtain ⟨C, c1, c2⟩ := c_read_m (h.o0 (v := 0) (Nat.le_refl _)) hn hk hj hE hw (o := o) (m := m) (x := (mo : Int)) eo (by omega) (by omega) (by show o + m ≤ rd A k j; omega) em
            have ea : aRd (uA (uA A M_o 0 0) M_o 5 0) k j m = aRd (uA A M_o 0 0) k j m := by
              funext r f
              unfold aRd
              by_cases z1 : r = M_out ∧ f < m
              · rw [if_pos z1, if_pos z1]; rfl
              · rw [if_neg z1, if_neg z1]
                by_cases z2 : r = M_o ∧ f = 5
                · rw [if_pos z2, if_pos z2]
                · rw [if_neg z2, if_neg z2]
                  by_cases z3 : r = M_read ∧ f = 256 * k + j
                  · rw [if_pos z3, if_pos z3]; rfl
                  · rw [if_neg z3, if_neg z3, uA_at, if_neg z2]
            rw [ea] at tr
            refine ⟨_, _, _, .inr (m : Int), tr, ?_, c2, ans_r ?_⟩
            · rw [c1, gB2_v, gS_v, show mxZ (m : Int) 0 = (m : Int) by unfold mxZ; split <;> omega]
            · rw [aRead1_0]; rfl
        · refine ⟨_, _, _, .inr (-2), t_read_rst hk hj qc hz hw, ?_, r0, ans_r rfl⟩
          unfold g_X2_read
          have r4 : rst A k j = 4 := by unfold rst; rw [if_neg hw]
          rw [c_receivingN hj hE, bd_v, gM_s, s.sta, if_neg (fun z => z r4), gB2_v, gS_v]
          rfl
      · refine ⟨_, _, _, .inr (-1), t_read_no hk qc hz, ?_, r0, ans_r rfl⟩
        unfold g_X2_read
        rw [c_receiving_no (fun z => hz ((h.ex.r hk).2 z)), bd_v, gM_n, gB2_v, gS_v]
        rfl
    · rw [c_in0 qc, bd_v, c_need0, bd_v, hXW_l]
      exact ⟨_, _, _, _, t_read_bad (fun z => qc z.2.2), rfl, h.o0 (v := 1) (by omega), ans_l rfl⟩
  · rw [c_hall_bad q, bd_v, hXW_l]
    exact ⟨_, _, _, _, t_read_bad (fun z => q ⟨z.1, z.2.1⟩), rfl, h.o0 (v := 1) (by omega), ans_l rfl⟩
end RE2
