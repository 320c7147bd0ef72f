/-! THE TWIN: filling, whole -/
section TWY
variable {A A' S : AM} {k j : Nat}
theorem uA_t (A : AM) {r r' : L3} (f f' : Nat) (v : Int) (h : r'.1 ≠ r.1) : uA A r f v r' f' = A r' f' := uA_role A f f' v (fun e => h (by rw [e]))
/-- the roles that filling may change -/
def xr (r : L3) : Bool := [0, 51, 40, 21, 23, 34, 13, 32, 14, 15, 25, 17].contains r.1
theorem xr_ne {r : L3} (h : xr r = false) (r0 : L3) (h0 : xr r0 = true) : r.1 ≠ r0.1 := by
  intro e
  unfold xr at h h0
  rw [e, h0] at h
  cases h
theorem uA_x {r : L3} (h : xr r = false) {r0 : L3} (h0 : xr r0 = true) {f f0 : Nat} {v : Int} : uA A r0 f0 v r f = A r f := uA_t A f0 f v (xr_ne h r0 h0)
theorem fr_x {r : L3} (h : xr r = false) {f : Nat} {kd a b c : Int} : fr A kd a b c r f = A r f := by
  unfold fr
  rw [uA_x h rfl, uA_x h rfl, uA_x h rfl, uA_x h rfl, uA_x h rfl]
theorem frN_x {r : L3} (h : xr r = false) {f : Nat} {kd a b c n : Int} : frN A kd a b c n r f = A r f := by
  unfold frN
  rw [uA_x h rfl, uA_x h rfl, uA_x h rfl, uA_x h rfl, uA_x h rfl]
theorem aFin_x {r : L3} (h : xr r = false) {f : Nat} {l : Prop} [Decidable l] : aFin A k j l r f = A r f := by
  unfold aFin
  split
  · split
    · rw [uA_x h rfl]
    · rw [uA_x h rfl, uA_x h rfl]
  · rfl
theorem aOut_x {r : L3} (h : xr r = false) {f b m : Nat} : aOut A k j b m r f = A r f := aOut_o r f (fun e => xr_ne h M_fData rfl (by rw [e])) (fun e => xr_ne h M_mark rfl (by rw [e]))
theorem xS_x {room : Int} (hx : xS A k j room = some A') {r : L3} (h : xr r = false) (f : Nat) : A' r f = A r f := by
  unfold xS at hx
  have hB : ∀ b st most, xB A k j b st most room = some A' → A' r f = A r f := by
    intro b st most hb
    unfold xB at hb
    split at hb
    · cases hb; rw [aFin_x h, aOut_x h, frN_x h]
    · cases hb
  split at hx
  · split at hx
    · exact hB _ _ _ hx
    · split at hx
      · split at hx
        · cases hx
        · exact hB _ _ _ hx
      · split at hx
        · cases hx; rw [uA_x h rfl, frN_x h]
        · cases hx
  · cases hx
theorem x8_S {room : Int} (hx : x8 A k room = some A') : ∃ j A1, j < 256 ∧ xS A k j room = some A1 ∧ A' = uA A1 M_lastStream k j := by
  unfold x8 at hx
  cases hz : xS A k (turn A k (fst (fun q => (xS A k (turn A k q) room).isSome) 256)) room with
  | none => rw [hz] at hx; cases hx
  | some A1 =>
    rw [hz, bd_v] at hx
    split at hx
    · cases hx; exact ⟨_, A1, turn_lt, hz, rfl⟩
    · cases hx
/-- how a frame came to be -/
def Sorts (A A' : AM) (k : Nat) (room : Int) : Prop := (∃ j, j < 256 ∧ P4 A k room j = true ∧ A' = E4 A k j) ∨ (∃ j, j < 256 ∧ P5 A k room j = true ∧ A' = E5 A k j) ∨ (A M_tellData k ≠ 0 ∧ fsz 16 (A M_dataGrant k) 0 0 ≤ room ∧ A' = E16 A k) ∨ (∃ j, j < 256 ∧ P17 A k room j = true ∧ A' = E17 A k j) ∨ (∃ w, w < 2 ∧ P18 A k room w = true ∧ A' = E18 A k w) ∨ A' = E20 A k ∨ (∃ j, j < 256 ∧ P21 A k room j = true ∧ A' = E21 A k j) ∨ (∃ w, w < 2 ∧ P22 A k room w = true ∧ A' = E22 A k w) ∨ ∃ j A1, j < 256 ∧ xS A k j room = some A1 ∧ A' = uA A1 M_lastStream k j
theorem xF_sorts {room : Int} (hx : xF A k room = some A') : Sorts A A' k room := by
  unfold xF at hx
  unfold Sorts
  cases e1 : x45 A k room with
  | some A1 =>
    rw [e1] at hx
    cases hx
    unfold x45 at e1
    split at e1
    · rename_i q; cases e1; exact Or.inl ⟨_, q, (fst_lt q).1, rfl⟩
    · split at e1
      · rename_i q; cases e1; exact Or.inr (Or.inl ⟨_, q, (fst_lt q).1, rfl⟩)
      · cases e1
  | none =>
    rw [e1] at hx
    cases e2 : x16 A k room with
    | some A1 =>
      rw [e2] at hx
      cases hx
      unfold x16 x17 x18 at e2
      split at e2
      · rename_i q; cases e2; exact Or.inr (Or.inr (Or.inl ⟨q.1, q.2, rfl⟩))
      · split at e2
        · rename_i q; cases e2; exact Or.inr (Or.inr (Or.inr (Or.inl ⟨_, q, (fst_lt q).1, rfl⟩)))
        · split at e2
          · rename_i q; cases e2; exact Or.inr (Or.inr (Or.inr (Or.inr (Or.inl ⟨_, q, (fst_lt q).1, rfl⟩))))
          · cases e2
    | none =>
      rw [e2] at hx
      cases e3 : x20 A k room with
      | some A1 =>
        rw [e3] at hx
        cases hx
        unfold x20 x21 x22 at e3
        split at e3
        · cases e3; exact Or.inr (Or.inr (Or.inr (Or.inr (Or.inr (Or.inl rfl)))))
        · split at e3
          · rename_i q; cases e3; exact Or.inr (Or.inr (Or.inr (Or.inr (Or.inr (Or.inr (Or.inl ⟨_, q, (fst_lt q).1, rfl⟩))))))
          · split at e3
            · rename_i q; cases e3; exact Or.inr (Or.inr (Or.inr (Or.inr (Or.inr (Or.inr (Or.inr (Or.inl ⟨_, q, (fst_lt q).1, rfl⟩)))))))
            · cases e3
      | none =>
        rw [e3] at hx
        exact Or.inr (Or.inr (Or.inr (Or.inr (Or.inr (Or.inr (Or.inr (Or.inr (x8_S hx))))))))
theorem xF_x {room : Int} (hx : xF A k room = some A') {r : L3} (h : xr r = false) (f : Nat) : A' r f = A r f := by
  rcases xF_sorts hx with ⟨j, -, -, rfl⟩ | ⟨j, -, -, rfl⟩ | ⟨-, -, rfl⟩ | ⟨j, -, -, rfl⟩ | ⟨w, -, -, rfl⟩ | rfl | ⟨j, -, -, rfl⟩ | ⟨w, -, -, rfl⟩ | ⟨j, A1, -, hs, rfl⟩
  · unfold E4; rw [uA_x h rfl, fr_x h]
  · unfold E5; rw [uA_x h rfl, fr_x h]
  · unfold E16; rw [uA_x h rfl, fr_x h]
  · unfold E17; rw [uA_x h rfl, fr_x h]
  · unfold E18; rw [uA_x h rfl, fr_x h]
  · unfold E20; rw [uA_x h rfl, fr_x h]
  · unfold E21; rw [uA_x h rfl, fr_x h]
  · unfold E22; rw [uA_x h rfl, fr_x h]
  · rw [uA_x h rfl, xS_x hs h]
/-- a frame that was filled -/
def Frm (A' : AM) : Prop := ∃ kind a n : Nat, A' M_o 45 = kind ∧ A' M_o 46 = a ∧ A' M_o 49 = n ∧ n ≤ 1200 ∧ (kind ≠ 8 → n = 0) ∧ (∀ i, i < n → -128 ≤ A' M_fData i ∧ A' M_fData i < 128)
theorem rl_room {b : Nat} {st most room : Int} (hr : room ≤ 1200) : rl A k j b st most room ≤ 1200 := by
  by_cases q : rl A k j b st most room = 0
  · omega
  · have := rl_in (A := A) (k := k) (j := j) (b := b) (st := st) (most := most) hr (i := rl A k j b st most room - 1) (by omega)
    unfold Gd at this
    simp only [Bool.and_eq_true, decide_eq_true_eq] at this
    have h4 := this.2
    unfold fsS at h4
    have s1 := sz_le j
    have s2 := sz_le b
    have s3 := sz_le ((rl A k j b st most room - 1 : Nat) + 1 : Int)
    split at h4 <;> omega
theorem aFin_o {f : Nat} {l : Prop} [Decidable l] (hf : f ≠ 48) : aFin A k j l M_o f = A M_o f := by
  unfold aFin
  split
  · split
    · rw [uA_idx _ _ _ _ hf]
    · rw [uA_role _ _ _ _ (by decide), uA_idx _ _ _ _ hf]
  · rfl
theorem aFin_fD {i : Nat} {l : Prop} [Decidable l] : aFin A k j l M_fData i = A M_fData i := by
  unfold aFin
  split
  · split <;> rfl
  · rfl
theorem xS_frm (hv : ∀ i, -128 ≤ A M_value i ∧ A M_value i < 128) {room : Int} (hr : room ≤ 1200) (hx : xS A k j room = some A') : Frm A' := by
  unfold xS at hx
  have hB : ∀ b st most, xB A k j b st most room = some A' → Frm A' := by
    intro b st most hb
    unfold xB at hb
    split at hb
    · cases hb
      refine ⟨8, j, rl A k j b st most room, ?_, ?_, ?_, rl_room hr, fun q => absurd rfl q, fun i hi => ?_⟩
      · rw [aFin_o (by decide), aOut_o _ _ (by decide) (by decide)]; rfl
      · rw [aFin_o (by decide), aOut_o _ _ (by decide) (by decide)]; rfl
      · rw [aFin_o (by decide), aOut_o _ _ (by decide) (by decide)]; rfl
      · rw [aFin_fD, aOut_fD, if_pos hi]
        exact hv _
    · cases hb
  split at hx
  · split at hx
    · exact hB _ _ _ hx
    · split at hx
      · split at hx
        · cases hx
        · exact hB _ _ _ hx
      · split at hx
        · cases hx
          exact ⟨8, j, 0, rfl, rfl, rfl, by omega, fun q => absurd rfl q, fun i hi => by omega⟩
        · cases hx
  · cases hx
theorem xF_frm (h : TB A) (hk : k < 2) {room : Int} (hr : room ≤ 1200) (hx : xF A k room = some A') : Frm A' := by
  rcases xF_sorts hx with ⟨j, -, -, rfl⟩ | ⟨j, -, -, rfl⟩ | ⟨-, -, rfl⟩ | ⟨j, -, -, rfl⟩ | ⟨w, hw, -, rfl⟩ | rfl | ⟨j, -, -, rfl⟩ | ⟨w, hw, -, rfl⟩ | ⟨j, A1, hj, hs, rfl⟩
  · exact ⟨4, j, 0, rfl, rfl, rfl, by omega, fun _ => rfl, fun i hi => by omega⟩
  · exact ⟨5, j, 0, rfl, rfl, rfl, by omega, fun _ => rfl, fun i hi => by omega⟩
  · have := h.dgr k hk
    exact ⟨16, (A M_dataGrant k).toNat, 0, rfl, by show A M_dataGrant k = _; omega, rfl, by omega, fun _ => rfl, fun i hi => by omega⟩
  · exact ⟨17, j, 0, rfl, rfl, rfl, by omega, fun _ => rfl, fun i hi => by omega⟩
  · have := h.grt (2 * k + w) (by omega)
    exact ⟨18 + w, (A M_granted (2 * k + w)).toNat, 0, by show (18 : Int) + w = _; omega, by show A M_granted (2 * k + w) = _; omega, rfl, by omega, fun _ => rfl, fun i hi => by omega⟩
  · have := h.lms (3 * k) (by omega)
    exact ⟨20, (A M_limits (3 * k)).toNat, 0, rfl, by show A M_limits (3 * k) = _; omega, rfl, by omega, fun _ => rfl, fun i hi => by omega⟩
  · exact ⟨21, j, 0, rfl, rfl, rfl, by omega, fun _ => rfl, fun i hi => by omega⟩
  · have := h.lms (3 * k + 1 + w) (by omega)
    exact ⟨22 + w, (A M_limits (3 * k + 1 + w)).toNat, 0, by show (22 : Int) + w = _; omega, by show A M_limits (3 * k + 1 + w) = _; omega, rfl, by omega, fun _ => rfl, fun i hi => by omega⟩
  · obtain ⟨kind, a, n, h1, h2, h3, h4, h5, h6⟩ := xS_frm h.val hr hs
    exact ⟨kind, a, n, h1, h2, h3, h4, h5, h6⟩
/-- how many bytes a frame has -/
def fby (A : AM) : Int := if A M_o 45 = 8 then fsS (A M_o 46).toNat (A M_o 47) (A M_o 49) else fsz (A M_o 45).toNat (A M_o 46) (A M_o 47) (A M_o 48)
theorem t_bytes {kind a n : Nat} (h45 : A M_o 45 = kind) (h46 : A M_o 46 = a) (h49 : A M_o 49 = n) (hn : n ≤ 1200) : g_X8_bytes A = some (fby A) := by
  unfold fby
  by_cases q : kind = 8
  · subst q
    rw [if_pos (by rw [h45]; rfl), t_bytes_8 (j := a) (b := A M_o 47) (m := A M_o 49) h45 h46 rfl rfl (by omega), h46, tkN]
  · rw [if_neg (by rw [h45]; omega), t_bytes_o (kind := kind) q h45, h45, tkN]
def aLine (A : AM) (p k : Nat) : AM := uA (uA (uA (uA (uA (uA (uA (uA (uA A M_lineUsed p 1) M_lineSide p k) M_lineKind p (A M_o 45)) M_lineA p (A M_o 46)) M_lineB p (A M_o 47)) M_lineC p (A M_o 48)) M_lineSize p (A M_o 49)) M_lineBytes p (fby A)) M_delivered p 0
theorem t_fill_52 (h : TB A) (hk : k < 2) {room : Int} (hr : room ≤ 1200) (hfp : fp A < 64) : (match xF (uA A M_o 0 0) k room with
    | none => ∃ S, Scr (uA A M_o 0 0) S ∧ g_X8_fill_52 A k room 0 = some (S, -1)
    | some A' => g_X8_fill_52 A k room 0 = some (aLn (aLine A' (fp A) k) (fp A) (A' M_o 49).toNat, (fp A : Int))) := by
  have h0 : TB (uA A M_o 0 0) := (TB.make h.jnd h.tap h.tpv h.out h.tot h.mrk h.val h.pcs h.cam h.hsb h.rds h.res h.hig h.siz h.wrs h.gra h.grt h.opn h.thr h.dgr h.grs h.lim h.lms h.lst h.stc h.cod)
  have hF := t_fills h0 hk hr
  have e0 : g_X8_fill_52 A k room 0 = g_X8_fill_52 A k room 0 := rfl
  cases hx : xF (uA A M_o 0 0) k room with
  | none =>
    rw [hx] at hF
    obtain ⟨S, g, hF⟩ := hF
    refine ⟨S, g, ?_⟩
    unfold g_X8_fill_52
    rw [t_fails (Or.inl rfl), gB2_v, if_pos rfl, if_pos rfl, hF, gB2_v, if_neg (by decide)]
  | some A' =>
    rw [hx] at hF
    have hF2 : g_X8_fills (uA A M_o 0 0) k room = some (A', 1) := hF
    show g_X8_fill_52 A k room 0 = _
    unfold g_X8_fill_52
    obtain ⟨kind, a, n, f1, f2, f3, f4, f5, f6⟩ := xF_frm h0 hk hr hx
    have efp : fp A' = fp A := by
      unfold fp
      apply fst_congr
      intro p _
      rw [xF_x hx (r := M_lineUsed) rfl p]
      rfl
    have et : (uA (uA (uA (uA (uA (uA (uA A' M_lineUsed (fp A) 1) M_lineSide (fp A) k) M_lineKind (fp A) (A' M_o 45)) M_lineA (fp A) (A' M_o 46)) M_lineB (fp A) (A' M_o 47)) M_lineC (fp A) (A' M_o 48)) M_lineSize (fp A) (A' M_o 49)) M_o 45 = kind := f1
    have eby : g_X8_bytes (uA (uA (uA (uA (uA (uA (uA A' M_lineUsed (fp A) 1) M_lineSide (fp A) k) M_lineKind (fp A) (A' M_o 45)) M_lineA (fp A) (A' M_o 46)) M_lineB (fp A) (A' M_o 47)) M_lineC (fp A) (A' M_o 48)) M_lineSize (fp A) (A' M_o 49)) = some (fby A') := t_bytes (kind := kind) (a := a) (n := n) f1 f2 f3 f4
    rw [t_fails (Or.inl rfl), gB2_v, if_pos rfl, if_pos rfl, hF2, gB2_v, if_pos (by decide), t_freePlace, bd_v, efp, if_pos hfp]
    simp (disch := omega) only [hA_ok, gS_v, tkN]
    have eL : uA (uA (uA (uA (uA (uA (uA (uA (uA A' M_lineUsed (fp A) 1) M_lineSide (fp A) k) M_lineKind (fp A) (A' M_o 45)) M_lineA (fp A) (A' M_o 46)) M_lineB (fp A) (A' M_o 47)) M_lineC (fp A) (A' M_o 48)) M_lineSize (fp A) (A' M_o 49)) M_lineBytes (fp A) (fby A')) M_delivered (fp A) 0 = aLine A' (fp A) k := rfl
    show (g_X8_bytes (uA (uA (uA (uA (uA (uA (uA A' M_lineUsed (fp A) 1) M_lineSide (fp A) k) M_lineKind (fp A) (A' M_o 45)) M_lineA (fp A) (A' M_o 46)) M_lineB (fp A) (A' M_o 47)) M_lineC (fp A) (A' M_o 48)) M_lineSize (fp A) (A' M_o 49))).bind _ = _
    rw [eby, bd_v]
    show g_X8_fill_161 FU (aLine A' (fp A) k) (fp A) 0 = _
    have e161 := t_fill_161 (A := aLine A' (fp A) k) (p := fp A) (n := n) hfp f4 f3 f6 n 0 FU (by omega) (by unfold FU; omega)
    rw [f3, tkN]
    have ez : aLn (aLine A' (fp A) k) (fp A) 0 = aLine A' (fp A) k := by
      funext r f
      unfold aLn
      rw [if_neg (fun q => by omega)]
    rw [ez] at e161
    exact e161
end TWY
