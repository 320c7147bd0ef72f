/-! CALLS: write -/
section WR2
variable {A A' B B' : AM} {E : L3 → Bool} {k j n : Nat}
theorem countP_more {p : Nat → Bool} {X Y : Nat} (h : X ≤ Y) : (List.range' 0 Y).countP p ≤ (List.range' 0 X).countP p + (Y - X) := by
  rw [show Y = X + (Y - X) by omega, ← List.range'_append_1, List.countP_append]
  have : (List.range' (0 + X) (Y - X)).countP p ≤ Y - X := by
    refine Nat.le_trans (List.countP_le_length) ?_
    rw [List.length_range']
    omega
  have e : X + (Y - X) - X = Y - X := by omega
  rw [e]
  omega
theorem Rel.joined (h : Rel Any n E A B) (hk : k < 2) (hj : j < 256) (ht : A M_there (256 * k + j) ≠ 0) : A M_o 1 = 1 := by
  rcases h.tb.jnd with z | z
  · exact absurd (h.none z hk hj).1 ht
  · exact z
theorem TB.write (h : TB A) (hk : k < 2) {m : Nat} (hm : A M_total k + m ≤ 65536) : TB (aWrite A k j m) := by
  have h0 := (h.tot k hk).1
  obtain ⟨r1, r2, r3, r4⟩ := aWrite_row (A := A) (k := k) (j := j) (m := m) h0
  have o := fun (r : L3) (f : Nat) (h1 : r ≠ M_of) (h2 : r ≠ M_value) (h3 : r ≠ M_mark) (h4 : r ≠ M_total) => aWrite_o (A := A) (k := k) (j := j) (m := m) r f h1 h2 h3 h4
  have hP : SameP A (aWrite A k j m) := SameP.make (fun f => o _ _ (by decide) (by decide) (by decide) (by decide)) (fun f => o _ _ (by decide) (by decide) (by decide) (by decide)) (fun f => o _ _ (by decide) (by decide) (by decide) (by decide)) (fun f => o _ _ (by decide) (by decide) (by decide) (by decide)) (fun f => o _ _ (by decide) (by decide) (by decide) (by decide))
  refine TB.make ?_ ?_ ?_ ?_ ?_ ?_ ?_ ?_ ?_ ?_ ?_ ?_ ?_ ?_ ?_ ?_ ?_ ?_ ?_ ?_ ?_ ?_ ?_ ?_ ?_ ?_
  · rw [o _ _ (by decide) (by decide) (by decide) (by decide)]; exact h.jnd
  · rw [o _ _ (by decide) (by decide) (by decide) (by decide)]; exact h.tap
  · intro k; rw [o _ _ (by decide) (by decide) (by decide) (by decide)]; exact h.tpv k
  · rw [o _ _ (by decide) (by decide) (by decide) (by decide)]; exact h.out
  · intro q hq
    rw [r4]
    split
    · omega
    · exact h.tot q hq
  · intro i
    rw [r3]
    split
    · omega
    · exact h.mrk i
  · intro i
    rw [r2]
    split
    · exact ⟨b8_lo _, b8_hi _⟩
    · exact h.val i
  · intro k hk; rw [o _ _ (by decide) (by decide) (by decide) (by decide)]; exact h.pcs k hk
  · intro k; rw [o _ _ (by decide) (by decide) (by decide) (by decide)]; exact h.cam k
  · intro k j oo hk hj ho; rw [hP.hasB] at ho; exact h.hsb k j oo hk hj ho
  · intro k j hk hj; rw [o _ _ (by decide) (by decide) (by decide) (by decide)]; exact h.rds k j hk hj
  · intro k j hk hj; rw [o _ _ (by decide) (by decide) (by decide) (by decide)]; exact h.res k j hk hj
  · intro k j hk hj; rw [o _ _ (by decide) (by decide) (by decide) (by decide)]; exact h.hig k j hk hj
  · intro k j hk hj; rw [o _ _ (by decide) (by decide) (by decide) (by decide)]; exact h.siz k j hk hj
  · intro k j hk hj; rw [o _ _ (by decide) (by decide) (by decide) (by decide), o _ _ (by decide) (by decide) (by decide) (by decide)]; exact h.wrs k j hk hj
  · intro k i hk h1 h2; rw [o _ _ (by decide) (by decide) (by decide) (by decide)]; exact h.gra k i hk h1 h2
  · intro w hw; rw [o _ _ (by decide) (by decide) (by decide) (by decide)]; exact h.grt w hw
  · intro w hw; rw [o _ _ (by decide) (by decide) (by decide) (by decide)]; exact h.opn w hw
  · intro w hw; rw [o _ _ (by decide) (by decide) (by decide) (by decide)]; exact h.thr w hw
  · intro w hw; rw [o _ _ (by decide) (by decide) (by decide) (by decide)]; exact h.dgr w hw
  · intro k j hk hj; rw [o _ _ (by decide) (by decide) (by decide) (by decide)]; exact h.grs k j hk hj
  · intro k j hk hj; rw [o _ _ (by decide) (by decide) (by decide) (by decide)]; exact h.lim k j hk hj
  · intro w hw; rw [o _ _ (by decide) (by decide) (by decide) (by decide)]; exact h.lms w hw
  · intro w hw; rw [o _ _ (by decide) (by decide) (by decide) (by decide)]; exact h.lst w hw
  · intro k j hk hj; rw [o _ _ (by decide) (by decide) (by decide) (by decide)]; exact h.stc k j hk hj
  · intro k j hk hj; rw [o _ _ (by decide) (by decide) (by decide) (by decide)]; exact h.cod k j hk hj
theorem cWr_o {u m : Nat} (r : L3) (f : Nat) (h1 : r.1 < 17 ∨ 21 < r.1) (h2 : r = S_o k j → f ≠ 1 ∧ f ≠ 4 ∧ f ≠ 5) : cWr B k j u m r f = B r f := by
  have a : ∀ C : AM, ∀ L, cExt C k j L u m r f = C r f := fun C L => cExt_o r f (by omega) (fun z => by omega) (fun z => by omega) (fun z => (h2 z).1)
  unfold cWr
  split
  · rw [a, cPc2_o r f (by omega) (by omega) (by omega) (by omega) (fun z => (h2 z).2)]
  · rw [a]
theorem cWr_s1 {u m : Nat} : cWr B k j u m (S_o k j) 1 = B (S_o k j) 1 + m := by
  unfold cWr
  split
  · unfold cExt; rw [uA_self, cPc2_o _ _ (by show 29 ≠ 17; decide) (by show 29 ≠ 19; decide) (by show 29 ≠ 20; decide) (by show 29 ≠ 21; decide) (fun _ => ⟨by decide, by decide⟩)]
  · unfold cExt; rw [uA_self]
theorem cWr_t5 {u m : Nat} (h : 0 ≤ B (T_o k) 5) : cWr B k j u m (T_o k) 5 ≤ B (T_o k) 5 + 1 := by
  have a : ∀ C : AM, ∀ L, cExt C k j L u m (T_o k) 5 = C (T_o k) 5 := fun C L => cExt_o _ _ (by show 17 ≠ 18; decide) (fun z => absurd z (by show 17 ≠ 20; decide)) (fun _ => by decide) (fun z => by injection z with z; cases z)
  unfold cWr
  split
  · rw [a, cPc2_T 17 5 (by omega)]; unfold cPc; rw [uA_self]; omega
  · rw [a]; omega
theorem Rel.write (h : Rel Any n E A B) (hn : n < 64) (hk : k < 2) (hj : j < 256) (hE : E (S_o k j) = true) (hs0 : sst A k j = 0) {u m t : Nat} (hu : A M_total k = u) (hm1 : 1 ≤ m) (hm : m ≤ t) (ht : A M_o 3 = t) (hum : u + m ≤ 65536) (hm3 : m = t ∨ u + m = 65536) : g_X5_add k B j 0 t = some (cWr B k j u m, (m : Int)) ∧ Rel Any (n + 1) E (aWrite (uA A M_o 3 0) k j m) (uA (cWr B k j u m) C_o 5 0) := by
  have hT := h.tb
  have e := (h.ex.sN hk hj).1 hE
  have jn := h.joined hk hj e.1
  have hT3 : TB (uA A M_o 3 0) := hT.o3
  have htap := hT.tap
  obtain ⟨ch, st⟩ := h.st k hk
  have s := h.sd k j hk hj hE
  have hw := wl_le (j := j) (hT.tot k hk)
  have hu' : B (T_o k) 1 = u := by rw [st.use, hu]
  have nst := h.nst k hk
  have hmx : mnZ (t : Int) (65536 - u) = m := by unfold mnZ; split <;> omega
  have h0 : 0 ≤ (uA A M_o 3 0) M_total k := by show 0 ≤ A M_total k; omega
  have CA := c_add (A := A) (x := (t : Int)) st hj hE hu' hmx hm1 (by omega) hum h.top.tpe (by omega) (by rw [s.wri]; omega)
  have CA2 := c_add (A := uA A M_o 3 0) (x := (t : Int)) (E := E) (B := B) (k := k) (j := j) (ch := ch) st hj hE hu' hmx hm1 (by omega) hum h.top.tpe (by omega) (by rw [s.wri]; omega)
  refine ⟨CA.1, ?_⟩
  generalize hA3 : uA A M_o 3 0 = A3 at h0 CA2 hT3
  have a3 : ∀ r f, r ≠ M_o → A3 r f = A r f := fun r f hr => by rw [← hA3, uA_role _ _ _ _ hr]
  have a3o : ∀ f, f ≠ 3 → A3 M_o f = A M_o f := fun f hf => by rw [← hA3, uA_idx _ _ _ _ hf]
  have a33 : A3 M_o 3 = 0 := by rw [← hA3, uA_self]
  have tot3 : A3 M_total k = u := by rw [a3 _ _ (by decide), hu]
  have o := fun (r : L3) (f : Nat) (h1 : r ≠ M_of) (h2 : r ≠ M_value) (h3 : r ≠ M_mark) (h4 : r ≠ M_total) (h5 : r ≠ M_o) => (aWrite_o (A := A3) (k := k) (j := j) (m := m) r f h1 h2 h3 h4).trans (a3 r f h5)
  have oo := fun (f : Nat) (hf : f ≠ 3) => (aWrite_o (A := A3) (k := k) (j := j) (m := m) M_o f (by decide) (by decide) (by decide) (by decide)).trans (a3o f hf)
  have o3 : aWrite A3 k j m M_o 3 = 0 := (aWrite_o (A := A3) (k := k) (j := j) (m := m) M_o 3 (by decide) (by decide) (by decide) (by decide)).trans a33
  obtain ⟨r1, r2, r3, r4⟩ := aWrite_row (A := A3) (k := k) (j := j) (m := m) h0
  have hP : SameP A (aWrite A3 k j m) := SameP.make (fun f => o _ _ (by decide) (by decide) (by decide) (by decide) (by decide)) (fun f => o _ _ (by decide) (by decide) (by decide) (by decide) (by decide)) (fun f => o _ _ (by decide) (by decide) (by decide) (by decide) (by decide)) (fun f => o _ _ (by decide) (by decide) (by decide) (by decide) (by decide)) (fun f => o _ _ (by decide) (by decide) (by decide) (by decide) (by decide))
  have R3 : SameR A A3 := SameR.make (fun f => a3 _ _ (by decide)) (fun f => a3 _ _ (by decide)) (fun f => a3 _ _ (by decide)) (fun f => a3 _ _ (by decide))
  have ewl : ∀ i, wl (aWrite A3 k j m) k i = wl A k i + (if i = j then m else 0) := fun i => by rw [aWrite_wl h0, R3.wl]
  have esn : ∀ i, sn (aWrite A3 k j m) k i = sn A k i := fun i => by rw [aWrite_sn h0, R3.sn]
  have ecn : ∀ i st, st ≠ 0 → cn (aWrite A3 k j m) k i st = cn A k i st := fun i st hs => by rw [aWrite_cn h0 i hs, R3.cn]
  have esa : sa (aWrite A3 k j m) k = sa A k := by rw [aWrite_sa h0, R3.sa]
  have emk : ∀ i x, x < wl A k i + (if i = j then m else 0) → mkA (aWrite A3 k j m) k i x = if x < wl A k i then mkA A k i x else 0 := fun i x hx => by rw [aWrite_mkA h0 i x (by rw [ewl]; exact hx), R3.wl, R3.mka]
  have fld : ∀ t i, 18 ≤ t → t ≤ 36 → aWrite A3 k j m (t, 0, 0) i = A (t, 0, 0) i := fun t i h1 h2 => o _ _ (fun z => by injection z; omega) (fun z => by injection z; omega) (fun z => by injection z; omega) (fun z => by injection z; omega) (fun z => by injection z; omega)
  have ehb : ∀ q i x, hasB (aWrite A3 k j m) q i x = hasB A q i x := fun q i x => hP.hasB
  have t0 := h.ts k j hk hj
  have oth : ∀ q, q ≠ k → SameR A (aWrite A3 k j m) ∨ True := fun _ _ => Or.inr trivial
  have wl' : ∀ i, i < 256 → wl (aWrite A3 k j m) (1 - k) i = wl A (1 - k) i := by
    intro i _
    have t1 := hT.tot (1 - k) (by omega)
    refine wl_cg ?_ ?_
    · rw [r4, if_neg (by omega), a3 _ _ (by decide)]
    · intro x hx; rw [r1, if_neg (by omega), a3 _ _ (by decide)]
  have sst1 : sst (aWrite A3 k j m) k j = 0 := by
    have z := sst_0 hs0
    unfold sst
    rw [show aWrite A3 k j m M_resets (256 * k + j) = A M_resets (256 * k + j) from fld 22 _ (by omega) (by omega), show aWrite A3 k j m M_finished (256 * k + j) = A M_finished (256 * k + j) from fld 20 _ (by omega) (by omega), if_pos z.1, if_neg (fun y => y z.2)]
  have oA : Out (fA k) A (aWrite A3 k j m) := by
    intro r f hr
    have nr : r ≠ M_o ∨ f = 1 := by
      by_cases z : r = M_o
      · right
        by_cases y : f = 1
        · exact y
        · exact absurd (Or.inl ⟨by rw [z], y⟩) hr
      · exact Or.inl z
    by_cases z1 : r = M_of
    · subst z1; rw [r1, if_neg (fun y => hr (by dsimp only [fA]; omega)), a3 _ _ (by decide)]
    · by_cases z2 : r = M_value
      · subst z2; rw [r2, if_neg (fun y => hr (by dsimp only [fA]; omega)), a3 _ _ (by decide)]
      · by_cases z3 : r = M_mark
        · subst z3; rw [r3, if_neg (fun y => hr (by dsimp only [fA]; omega)), a3 _ _ (by decide)]
        · by_cases z4 : r = M_total
          · subst z4; rw [r4, if_neg (fun y => hr (by dsimp only [fA]; omega)), a3 _ _ (by decide)]
          · rw [aWrite_o r f z1 z2 z3 z4]
            rcases nr with z5 | z5
            · exact a3 r f z5
            · subst z5
              by_cases z6 : r = M_o
              · subst z6; exact a3o 1 (by decide)
              · exact a3 r 1 z6
  have oB : Out (gB k) B (uA (cWr B k j u m) C_o 5 0) := by
    refine Out.u ?_ (Or.inl rfl)
    intro r f hr
    by_cases z : r.1 < 17 ∨ 21 < r.1
    · refine cWr_o r f z ?_
      intro y
      exfalso
      apply hr
      rw [y]
      dsimp only [gB]
      omega
    · have e1 : ∀ C : AM, ∀ L, r.2.1 ≠ k → cExt C k j L u m r f = C r f := by
        intro C L hne
        have n1 : ∀ t, r ≠ (t, k, 0) := fun t y => hne (by rw [y])
        unfold cExt
        rw [uA_role _ _ _ _ (fun y => hne (by rw [y])), uA_role _ _ _ _ (n1 17), uA_role _ _ _ _ (n1 20), cpA_o _ _ (n1 18)]
      have hne : r.2.1 ≠ k := fun y => hr (by unfold gB; omega)
      unfold cWr
      split
      · rw [e1 _ _ hne]
        have n1 : ∀ t, r ≠ (t, k, 0) := fun t y => hne (by rw [y])
        have n2 : r ≠ S_o k j := fun y => hne (by rw [y])
        unfold cPc2
        rw [uA_role _ _ _ _ n2]
        have ep : cPc B k j (B (T_o k) 5).toNat r f = B r f := by
          unfold cPc
          rw [uA_role _ _ _ _ (n1 17), uA_role _ _ _ _ (n1 21), uA_role _ _ _ _ (n1 20), uA_role _ _ _ _ (n1 19)]
        split
        · rw [uA_role _ _ _ _ n2, ep]
        · rw [uA_role _ _ _ _ (n1 21), ep]
      · rw [e1 _ _ hne]
  have bS : ∀ i f, i ≠ j ∨ (f ≠ 1 ∧ f ≠ 4 ∧ f ≠ 5) → (uA (cWr B k j u m) C_o 5 0) (S_o k i) f = B (S_o k i) f := by
    intro i f hi
    rw [uA_tag (by show 29 ≠ 0; decide)]
    refine cWr_o _ _ (by show 29 < 17 ∨ 21 < 29; omega) (fun z => ?_)
    rcases hi with hi | hi
    · exact absurd (by injection z with _ z; injection z) hi
    · exact hi
  have bO : ∀ t f, t < 17 ∨ (21 < t ∧ t ≠ 29) → t ≠ 0 → ∀ a b, (uA (cWr B k j u m) C_o 5 0) (t, a, b) f = B (t, a, b) f := by
    intro t f ht h0 a b
    rw [uA_tag (by show t ≠ 0; exact h0)]
    refine cWr_o _ _ (by show t < 17 ∨ 21 < t; omega) (fun z => by injection z with z; omega)
  have esn_le : sn A k j ≤ wl A k j := List.countP_le_length
  refine h.side hk hj oA oB (by omega) ?_ ?_ ?_ ?_ ?_ ?_ ?_ (fun _ _ _ _ _ z => z) ?_ ?_ ?_ ?_ ?_ ?_ ?_ ?_ ?_ ?_ ?_ ?_ ?_
  · exact hT3.write hk (by rw [tot3]; omega)
  · exact h.pf.cg hP.pcs hP.has
  · intro i hi hne
    refine EqS.make (fun t h1 h2 => fld t _ h1 h2) (by rw [ewl, if_neg hne]; rfl) (esn i) ?_ ?_ (fun x => ehb k i x)
    · intro st
      unfold cn
      rw [aWrite_pos h0, if_neg hne, R3.pos]
      apply countP_ext
      intro x hx
      have := posm_lt i x hx
      rw [r3, if_neg (by rw [tot3]; omega), a3 _ _ (by decide)]
    · intro x hx
      rw [emk i x (by omega), if_pos hx]
  · intro i hi hne f _ _ _ _; exact bS i f (Or.inl hne)
  · intro i hi hne f _; exact bO 30 f (by omega) (by decide) k i
  · have f18 := fld 18 (256 * k + j) (by omega) (by omega)
    have hx : ∀ t, 18 ≤ t → t ≤ 36 → aWrite A3 k j m (t, 0, 0) (256 * k + j) = A (t, 0, 0) (256 * k + j) := fun t h1 h2 => fld t _ h1 h2
    have q18 : aWrite A3 k j m M_there (256 * k + j) = A M_there (256 * k + j) := hx 18 (by omega) (by omega)
    have q20 : aWrite A3 k j m M_finished (256 * k + j) = A M_finished (256 * k + j) := hx 20 (by omega) (by omega)
    have q21 : aWrite A3 k j m M_end (256 * k + j) = A M_end (256 * k + j) := hx 21 (by omega) (by omega)
    have q22 : aWrite A3 k j m M_resets (256 * k + j) = A M_resets (256 * k + j) := hx 22 (by omega) (by omega)
    have q23 : aWrite A3 k j m M_tellReset (256 * k + j) = A M_tellReset (256 * k + j) := hx 23 (by omega) (by omega)
    have q25 : aWrite A3 k j m M_toldLimit (256 * k + j) = A M_toldLimit (256 * k + j) := hx 25 (by omega) (by omega)
    have q26 : aWrite A3 k j m M_highest (256 * k + j) = A M_highest (256 * k + j) := hx 26 (by omega) (by omega)
    have q27 : aWrite A3 k j m M_size (256 * k + j) = A M_size (256 * k + j) := hx 27 (by omega) (by omega)
    have q28 : aWrite A3 k j m M_read (256 * k + j) = A M_read (256 * k + j) := hx 28 (by omega) (by omega)
    have q29 : aWrite A3 k j m M_wasReset (256 * k + j) = A M_wasReset (256 * k + j) := hx 29 (by omega) (by omega)
    have q32 : aWrite A3 k j m M_tellGrant (256 * k + j) = A M_tellGrant (256 * k + j) := hx 32 (by omega) (by omega)
    have q33 : aWrite A3 k j m M_stopped (256 * k + j) = A M_stopped (256 * k + j) := hx 33 (by omega) (by omega)
    have q34 : aWrite A3 k j m M_tellStop (256 * k + j) = A M_tellStop (256 * k + j) := hx 34 (by omega) (by omega)
    have q35 : aWrite A3 k j m M_stopCode (256 * k + j) = A M_stopCode (256 * k + j) := hx 35 (by omega) (by omega)
    have q36 : aWrite A3 k j m M_over (256 * k + j) = A M_over (256 * k + j) := hx 36 (by omega) (by omega)
    refine TS.make ?_ ?_ ?_ ?_ ?_ ?_ ?_ ?_ ?_ ?_ ?_ ?_ ?_ ?_ ?_ ?_ ?_ ?_
    · rw [q18]; exact t0.t01
    · rw [q20]; exact t0.f01
    · rw [q21]; exact t0.e03
    · rw [q21, q20]; exact t0.enf
    · rw [q23]; exact t0.r01
    · rw [q32]; exact t0.g01
    · rw [q34]; exact t0.s01
    · rw [q33]; exact t0.p01
    · rw [q29]; exact t0.w01
    · rw [q36]; exact t0.o01
    · rw [q18]; exact fun _ => e
    · rw [q34, q32, q26, q28, q27, q29, q33, q18]; exact t0.rth
    · rw [q18, q25, q35]; exact t0.tln
    · rw [q28]; intro x hx; rw [ehb]; exact t0.rdb x hx
    · rw [q26]; intro x hx; rw [ehb] at hx; exact t0.hsh x hx
    · rw [q27, q26]; exact t0.shz
    · rw [q29, q27, q26]; exact t0.wsz
    · intro x hx
      rw [ewl, if_pos rfl] at hx
      rw [emk j x (by rw [if_pos rfl]; exact hx), esn]
      split
      · rename_i y; exact t0.nwm x y
      · rename_i y
        constructor
        · intro _; omega
        · intro _; rfl
  · intro _
    have ov := h.ov k j hk hj trivial
    have n1 : ovr A k j = false := ovr_no e.2 (by omega) (by omega)
    have n2 : ovr (aWrite A3 k j m) k j = false := ovr_no e.2 (by omega) (by omega)
    unfold OV at ov ⊢
    rw [n1] at ov
    rw [n2, show aWrite A3 k j m M_over (256 * k + j) = A M_over (256 * k + j) from fld 36 _ (by omega) (by omega), show aWrite A3 k j m M_there (256 * k + j) = A M_there (256 * k + j) from fld 18 _ (by omega) (by omega)]
    exact ov
  · have tk := h.tk k hk
    have j1 : aWrite A3 k j m M_o 1 = 1 := by rw [oo 1 (by decide)]; exact jn
    refine TK.make ?_ ?_ ?_ ?_ ?_ (fun z => absurd (j1 ▸ z) (by decide)) (fun z => absurd (j1 ▸ z) (by decide))
    · intro _ w hw
      rw [o _ _ (by decide) (by decide) (by decide) (by decide) (by decide), o _ _ (by decide) (by decide) (by decide) (by decide) (by decide)]
      exact tk.lim (by omega) w hw
    · intro w hw; rw [o _ _ (by decide) (by decide) (by decide) (by decide) (by decide), o _ _ (by decide) (by decide) (by decide) (by decide) (by decide)]; exact tk.thg w hw
    · rw [o _ _ (by decide) (by decide) (by decide) (by decide) (by decide)]; exact tk.d01
    · intro w hw; rw [o _ _ (by decide) (by decide) (by decide) (by decide) (by decide)]; exact tk.s01 w hw
    · intro w hw; rw [o _ _ (by decide) (by decide) (by decide) (by decide) (by decide)]; exact tk.g89 w hw
  · intro p hp
    refine (h.tl p hp).cg ?_ ?_ ?_ ?_ ?_ ?_
    · intro t f h1 h2; exact o _ _ (fun z => by injection z; omega) (fun z => by injection z; omega) (fun z => by injection z; omega) (fun z => by injection z; omega) (fun z => by injection z; omega)
    · intro q i _ _; rw [show aWrite A3 k j m M_resets (256 * q + i) = _ from fld 22 _ (by omega) (by omega)]; exact fun z => z
    · intro q i _ _; rw [show aWrite A3 k j m M_there (256 * q + i) = _ from fld 18 _ (by omega) (by omega)]; exact fun z => z
    · intro q i _ _; rw [show aWrite A3 k j m M_finished (256 * q + i) = _ from fld 20 _ (by omega) (by omega)]; exact fun z => z
    · intro q i hq hi
      by_cases y : q = k
      · subst y; rw [ewl]; omega
      · have : q = 1 - k := by omega
        subst this
        rw [wl' i hi]; omega
    · intro q i hq hi x hx hz
      by_cases y : q = k
      · subst y; rw [emk i x (by omega), if_pos hx]; exact hz
      · have t1 := hT.tot q hq
        rw [mkA_cg (A := A) (A' := aWrite A3 k j m) ?_ ?_ ?_ t1.2]
        · exact hz
        · rw [r4, if_neg (by omega), a3 _ _ (by decide)]
        · intro x hx; rw [r1, if_neg (by rw [tot3]; omega), a3 _ _ (by decide)]
        · intro x hx; rw [r3, if_neg (by rw [tot3]; omega), a3 _ _ (by decide)]
  · obtain ⟨tc, c1, c2⟩ := h.cnt
    refine ⟨0, by rw [o3]; omega, ?_⟩
    have pk : Psi (aWrite A3 k j m) k = Psi A k := by
      unfold Psi
      rw [hP.pcs, sumTo_congr (fun i hi => by rw [uns_cg (wl' i hi) (fun _ => hP.pa)])]
    have p1 : Psi (aWrite A3 k j m) (1 - k) ≤ Psi A (1 - k) + ((m + 63) / 64 : Nat) := by
      unfold Psi
      rw [hP.pcs, sumTo_upd (f := fun i => (uns A (1 - k) i : Int)) (g := fun i => (uns (aWrite A3 k j m) (1 - k) i : Int)) hj]
      · have : uns (aWrite A3 k j m) (1 - k) j ≤ uns A (1 - k) j + (m + 63) / 64 := by
          unfold uns
          rw [show 1 - (1 - k) = k by omega, ewl, if_pos rfl]
          simp only [hP.pa]
          refine Nat.le_trans (countP_more (X := (wl A k j + 63) / 64) (by omega)) ?_
          omega
        omega
      · intro i hi hne
        show ((uns (aWrite A3 k j m) (1 - k) i : Nat) : Int) = (uns A (1 - k) i : Nat)
        rw [uns_cg]
        · rw [show 1 - (1 - k) = k by omega, ewl, if_neg hne]; rfl
        · intro num; exact hP.pa
    have hk' : k = 0 ∨ k = 1 := by omega
    rcases hk' with rfl | rfl
    · simp only [Nat.sub_zero] at p1
      rw [pk]; omega
    · simp only [Nat.sub_self] at p1
      rw [pk]; omega
  · rw [uA_tag (by show 17 ≠ 0; decide)]
    have := cWr_t5 (B := B) (k := k) (j := j) (u := u) (m := m) st.npc.1
    omega
  · rw [bO 13 3 (by omega) (by decide) k 0]; have y := h.nsp k hk; exact Int.le_trans y (by omega)
  · have tp := h.top
    have cw : ∀ r f, r.1 < 17 → cWr B k j u m r f = B r f := fun r f hr => cWr_o r f (Or.inl hr) (fun z => by rw [z] at hr; exact absurd hr (by show ¬ (29 < 17); decide))
    refine CTop.make ?_ ?_ ?_ ?_ ?_ ?_
    · rw [o3, uA_self]
    · rw [oo 5 (by decide), uA_idx _ _ _ _ (by decide), cw _ _ (by decide)]; exact tp.mad
    · rw [oo 1 (by decide), uA_idx _ _ _ _ (by decide), cw _ _ (by decide)]; exact tp.jnd
    · intro i hi; rw [o _ _ (by decide) (by decide) (by decide) (by decide) (by decide), bO 5 i (by omega) (by decide) 0 0]; exact tp.tpe i hi
    · intro i hi; rw [o _ _ (by decide) (by decide) (by decide) (by decide) (by decide), bO 6 i (by omega) (by decide) 0 0]; exact tp.out i hi
    · intro i; rw [o _ _ (by decide) (by decide) (by decide) (by decide) (by decide)]; exact tp.ovl i
  · refine (h.hl k hk).cg ?_ ?_ esa ?_ ?_ ?_ ?_ ?_ ?_
    · exact o _ _ (by decide) (by decide) (by decide) (by decide) (by decide)
    · exact o _ _ (by decide) (by decide) (by decide) (by decide) (by decide)
    · exact sumTo_congr (fun i _ => fld 26 _ (by omega) (by omega))
    · refine sumTo_congr (fun i _ => ?_)
      unfold co
      rw [show aWrite A3 k j m M_wasReset (256 * k + i) = _ from fld 29 _ (by omega) (by omega), show aWrite A3 k j m M_read (256 * k + i) = _ from fld 28 _ (by omega) (by omega), show aWrite A3 k j m M_size (256 * k + i) = _ from fld 27 _ (by omega) (by omega)]
    · exact o _ _ (by decide) (by decide) (by decide) (by decide) (by decide)
    · exact o _ _ (by decide) (by decide) (by decide) (by decide) (by decide)
    · exact o _ _ (by decide) (by decide) (by decide) (by decide) (by decide)
    · intro f _ _; exact bO 7 f (by omega) (by decide) k 0
  · intro w hw
    exact (h.wys k w hk hw).cg (o _ _ (by decide) (by decide) (by decide) (by decide) (by decide)) (o _ _ (by decide) (by decide) (by decide) (by decide) (by decide)) (o _ _ (by decide) (by decide) (by decide) (by decide) (by decide)) (o _ _ (by decide) (by decide) (by decide) (by decide) (by decide)) (o _ _ (by decide) (by decide) (by decide) (by decide) (by decide)) (o _ _ (by decide) (by decide) (by decide) (by decide) (by decide)) (o _ _ (by decide) (by decide) (by decide) (by decide) (by decide)) (fun f => bO 28 f (by omega) (by decide) k w)
  · intro _
    have q20 : aWrite A3 k j m M_finished (256 * k + j) = A M_finished (256 * k + j) := fld 20 _ (by omega) (by omega)
    have q21 : aWrite A3 k j m M_end (256 * k + j) = A M_end (256 * k + j) := fld 21 _ (by omega) (by omega)
    have q22 : aWrite A3 k j m M_resets (256 * k + j) = A M_resets (256 * k + j) := fld 22 _ (by omega) (by omega)
    have q23 : aWrite A3 k j m M_tellReset (256 * k + j) = A M_tellReset (256 * k + j) := fld 23 _ (by omega) (by omega)
    have q24 : aWrite A3 k j m M_code (256 * k + j) = A M_code (256 * k + j) := fld 24 _ (by omega) (by omega)
    have q19 : aWrite A3 k j m M_limit (256 * k + j) = A M_limit (256 * k + j) := fld 19 _ (by omega) (by omega)
    have q25 : aWrite A3 k j m M_toldLimit (256 * k + j) = A M_toldLimit (256 * k + j) := fld 25 _ (by omega) (by omega)
    refine CSd.make ?_ ?_ ?_ ?_ ?_ ?_ ?_ ?_
    · rw [bS j 0 (by omega), sst1, s.sta]; exact hs0
    · rw [uA_tag (by show 29 ≠ 0; decide), cWr_s1, s.wri, ewl, if_pos rfl]; omega
    · rw [bS j 2 (by omega), esn]; exact s.sen
    · rw [bS j 3 (by omega), q20, q21]; exact s.ende
    · rw [bS j 8 (by omega), q19]; exact s.lim
    · rw [bS j 9 (by omega), q22, q24]; exact s.cod
    · rw [bS j 10 (by omega), q25]; exact s.blk
    · rw [bS j 11 (by omega), q22, q23]; exact s.rsf
  · intro hR
    exact CRv.cg' (fun t h1 h2 => fld t _ (by omega) h2) (fun x => ehb k j x) (o _ _ (by decide) (by decide) (by decide) (by decide) (by decide)) (fun f _ => bO 30 f (by omega) (by decide) k j) (h.rv k j hk hj hR)
  · obtain ⟨ch', st'⟩ := CA2.2
    exact ⟨ch', st'⟩
  · obtain ⟨ch2, fl, sp⟩ := h.sp k hk
    have eP : ∀ t f, 13 ≤ t → t ≤ 16 → (uA (cWr B k j u m) C_o 5 0) (t, k, 0) f = B (t, k, 0) f := fun t f h1 h2 => bO t f (by omega) (by omega) k 0
    have e1 : (uA (cWr B k j u m) C_o 5 0) (P_from k) = B (P_from k) := funext fun f => eP 14 f (by omega) (by omega)
    have e2 : (uA (cWr B k j u m) C_o 5 0) (P_to k) = B (P_to k) := funext fun f => eP 15 f (by omega) (by omega)
    have e3 : (uA (cWr B k j u m) C_o 5 0) (P_next k) = B (P_next k) := funext fun f => eP 16 f (by omega) (by omega)
    have e4 : (uA (cWr B k j u m) C_o 5 0) (P_o k) = B (P_o k) := funext fun f => eP 13 f (by omega) (by omega)
    have lh : ∀ (st : Int), st ≠ 0 → ∀ i x, (x < wl (aWrite A3 k j m) k i ∧ mkA (aWrite A3 k j m) k i x = st) ↔ (x < wl A k i ∧ mkA A k i x = st) := by
      intro st hst i x
      rw [ewl]
      constructor
      · rintro ⟨y1, y2⟩
        rw [emk i x y1] at y2
        split at y2
        · rename_i y3; exact ⟨y3, y2⟩
        · exact absurd y2.symm hst
      · rintro ⟨y1, y2⟩
        refine ⟨by omega, ?_⟩
        rw [emk i x (by omega), if_pos y1]; exact y2
    refine ⟨ch2, fl, CSp.make ?_ ?_ ?_ ?_ sp.emp ?_ ?_ sp.ndc sp.ndf sp.dis sp.dif ?_ ?_ ?_⟩
    · rw [e4]; exact sp.mad
    · rw [e3, e4]; exact sp.fre
    · intro i hi hEi; rw [e3, bS i 6 (by omega)]; exact sp.lnl i hi hEi
    · intro i hi hEi; rw [e3, bS i 7 (by omega)]; exact sp.lnh i hi hEi
    · rw [e4]; exact sp.mem
    · rw [e4]; exact sp.mef
    · rw [e1, e2]; exact sp.rng
    · intro i hi hEi x; rw [e1, e2, lh 2 (by decide)]; exact sp.los i hi hEi x
    · intro i hi hEi x; rw [e1, e2, lh 3 (by decide)]; exact sp.her i hi hEi x
  · obtain ⟨ch2, fl, bl⟩ := h.bl k hk
    exact ⟨ch2, fl, bl.cg (fun t f h1 h2 => bO t f (by omega) (by omega) k 0) (fun i => bO 30 7 (by omega) (by decide) k i) (hP.pcs _) (fun i => fld 29 _ (by omega) (by omega)) (fun i => fld 28 _ (by omega) (by omega)) (fun i num => hP.pa) (fun i x => hP.hasB) (fun i x => hP.bt)⟩
end WR2
