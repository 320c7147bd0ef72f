section FST
variable {A A' B B' : AM} {E : L3 → Bool} {k j n : Nat} {room : Int} {P : Nat → Nat → Prop}
theorem Rel.ls (h : Rel P n E A B) (hk : k < 2) {i : Nat} (hi : i < 256) : Rel P n E (uA A M_lastStream k i) (uA B (H_o k) 15 i) := by
  have tb := h.tb
  refine h.loc (j := 0) hk (by decide) (Out.rf.u (fLk (by decide))) (Out.rf.u (gLh (by decide))) (Nat.le_refl _) ?_ (Int.le_refl _) (h.ts k 0 hk (by decide)) (h.ov k 0 hk (by decide)) (fun _ _ _ _ _ z => z) (h.tk k hk) (fun z => z) (fun z => z) h.top ?_ (fun w hw => h.wys k w hk hw) (h.sd k 0 hk (by decide)) (h.rv k 0 hk (by decide))
  · exact (TB.make tb.jnd tb.tap tb.tpv tb.out tb.tot tb.mrk tb.val tb.pcs tb.cam tb.hsb tb.rds tb.res tb.hig tb.siz tb.wrs tb.gra tb.grt tb.opn tb.thr tb.dgr tb.grs tb.lim tb.lms (fun q hq => by
      rw [uA_at]
      split
      · omega
      · exact tb.lst q hq) tb.stc tb.cod)
  · have hl := h.hl k hk
    exact CHl.make (by rw [uA_idx _ _ _ _ (by decide)]; exact hl.lal) (by rw [uA_idx _ _ _ _ (by decide)]; exact hl.bla) (by rw [uA_idx _ _ _ _ (by decide)]; exact hl.sal) (by rw [uA_idx _ _ _ _ (by decide)]; exact hl.ral) (by rw [uA_idx _ _ _ _ (by decide)]; exact hl.cal) (by rw [uA_idx _ _ _ _ (by decide)]; exact hl.gal) (by rw [uA_self, uA_self]; omega) (by rw [uA_idx _ _ _ _ (by decide)]; exact hl.tel)
theorem FR.ls (h : FR n E A B k) (hk : k < 2) {i : Nat} (hi : i < 256) : FR n E (uA A M_lastStream k i) (uA B (H_o k) 15 i) k := by
  obtain ⟨h0, h1, h2, h3, h4, h5, h6⟩ := h
  refine ⟨h0.ls hk hi, ?_, ?_, ?_, ?_, ?_, ?_⟩
  · rw [uA_idx _ _ _ _ (by decide)]; exact h1
  · rw [uA_idx _ _ _ _ (by decide)]; exact h2
  · rw [uA_idx _ _ _ _ (by decide)]; exact h3
  · rw [uA_idx _ _ _ _ (by decide)]; exact h4
  · rw [uA_idx _ _ _ _ (by decide)]; exact h5
  · intro x hx; rw [uA_tag (by show 27 ≠ 7; decide)]; exact h6 x hx
theorem c_fillsStream_b (h : Rel Any n E A B) (hk : k < 2) (hr : 1 ≤ room ∧ room ≤ 1200) {q : Nat} (hq : q < 256) (K : AM → Int → Int → Option (AM × Int)) : g_X2_fillsStream_2_b E k K B room ((q + 1 : Nat) : Int) = if (xS A k (turn A k q) room).isSome = true then gB2 (g_X2_fills k B (turn A k q) (turn A k q) room) (fun S _ => some (uA S (H_o k) 15 (turn A k q), 1)) else K B room ((q + 1 + 1 : Nat) : Int) := by
  have hl := h.hl k hk
  have ls := h.tb.lst k hk
  have tl := turn_lt (A := A) (k := k) (q := q)
  have et : B (H_o k) 15 + ((q + 1 : Nat) : Int) - (B (H_o k) 15 + ((q + 1 : Nat) : Int)) / 256 * 256 = (turn A k q : Int) := by rw [hl.lst]; unfold turn; omega
  have b15 : 0 ≤ B (H_o k) 15 ∧ B (H_o k) 15 ≤ 255 := by rw [hl.lst]; omega
  unfold g_X2_fillsStream_2_b g_X2_fillsStream_62
  rw [et, if_neg (by omega), hA_ok (by omega) (by omega), hA_ok (by omega) (by omega), tkN, c32_ok (by omega) (by omega), show ((q + 1 : Nat) : Int) + 1 = ((q + 1 + 1 : Nat) : Int) by omega]
  by_cases hE : E (S_o k (turn A k q)) = true
  · have s := h.sd k _ hk tl hE
    rw [if_pos hE, c_live s h.tb hk tl, bd_v]
    by_cases hs : sst A k (turn A k q) < 2
    · rw [decide_eq_true hs, if_neg (by decide), c32_ok (by omega) (by omega)]
      have cf := c_fills h hk tl hE hs hr
      cases hx : xS A k (turn A k q) room with
      | none =>
        rw [hx] at cf
        have cf' : g_X2_fills k B (turn A k q) (turn A k q) room = some (B, 0) := cf
        rw [cf', gB2_v, if_neg (by decide), c32_ok (by omega) (by omega)]
        rfl
      | some A1 =>
        rw [hx] at cf
        obtain ⟨B1, c1, _⟩ := cf
        rw [c1, gB2_v, if_pos (by decide), gS_v]
        rfl
    · rw [decide_eq_false hs, if_pos (show b2i false = 0 from rfl), xS_no (fun z => hs z.2.2)]
      rfl
  · rw [if_neg hE, xS_no (fun z => hE ((h.ex.sN hk tl).2 ⟨z.1, z.2.1⟩))]
    rfl
theorem c_fillsStream (h : Rel Any n E A B) (hk : k < 2) (hr : 1 ≤ room ∧ room ≤ 1200) : FC n E B k (g_X2_fillsStream E k B room) (x8 A k room) := by
  have e := scanL (fun q => (xS A k (turn A k q) room).isSome) (fun f j => g_X2_fillsStream_2 E k f B room ((j + 1 : Nat) : Int)) 256 (fun q => gB2 (g_X2_fills k B (turn A k q) (turn A k q) room) (fun S _ => some (uA S (H_o k) 15 (turn A k q), 1))) (some (B, 0)) (fun f j hj => c_fillsStream_b h hk hr hj _) (fun f => by
    show g_X2_fillsStream_2_b E k (g_X2_fillsStream_2 E k f) B room ((256 + 1 : Nat) : Int) = _
    unfold g_X2_fillsStream_2_b
    rw [if_pos (by decide)]) FU (by unfold FU; omega)
  have e' : g_X2_fillsStream E k B room = if fst (fun q => (xS A k (turn A k q) room).isSome) 256 < 256 then gB2 (g_X2_fills k B (turn A k (fst (fun q => (xS A k (turn A k q) room).isSome) 256)) (turn A k (fst (fun q => (xS A k (turn A k q) room).isSome) 256)) room) (fun S _ => some (uA S (H_o k) 15 (turn A k (fst (fun q => (xS A k (turn A k q) room).isSome) 256)), 1)) else some (B, 0) := e
  rw [e']
  unfold x8
  generalize hq : fst (fun q => (xS A k (turn A k q) room).isSome) 256 = q0 at *
  by_cases z : q0 < 256
  · have some1 : (xS A k (turn A k q0) room).isSome = true := by
      have := (fst_lt (P := fun q => (xS A k (turn A k q) room).isSome) (N := 256) (by rw [hq]; exact z)).1
      rw [hq] at this
      exact this
    cases hx : xS A k (turn A k q0) room with
    | none => rw [hx] at some1; cases some1
    | some A1 =>
      have tl := turn_lt (A := A) (k := k) (q := q0)
      have op : A M_there (256 * k + turn A k q0) ≠ 0 ∧ hs k (turn A k q0) = true ∧ sst A k (turn A k q0) < 2 := by
        by_cases y : A M_there (256 * k + turn A k q0) ≠ 0 ∧ hs k (turn A k q0) = true ∧ sst A k (turn A k q0) < 2
        · exact y
        · rw [xS_no y] at hx; cases hx
      have cf := c_fills h hk tl ((h.ex.sN hk tl).2 ⟨op.1, op.2.1⟩) op.2.2 hr
      rw [hx] at cf
      obtain ⟨B1, c1, c2⟩ := cf
      rw [if_pos z, c1, gB2_v]
      show FC n E B k _ (if q0 < 256 then some (uA A1 M_lastStream k (turn A k q0)) else none)
      rw [if_pos z]
      exact ⟨_, rfl, c2.ls hk tl⟩
  · rw [if_neg z]
    cases xS A k (turn A k q0) room with
    | none => rfl
    | some A1 =>
      show FC n E B k _ (if q0 < 256 then some (uA A1 M_lastStream k (turn A k q0)) else none)
      rw [if_neg z]
      rfl
end FST
