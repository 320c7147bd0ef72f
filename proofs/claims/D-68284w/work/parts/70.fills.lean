/-! THE COMPONENT FILLS a frame of a stream's bytes -/
section FIL
variable {A B : AM} {E : L3 → Bool} {k j n : Nat}
def cF1 (B : AM) (k j b m : Nat) : AM := uA (uA (uA (uA B (H_o k) 17 8) (H_o k) 19 j) (H_o k) 20 b) (H_o k) 18 m
def cF3 (B : AM) (k j b m : Nat) (v : Nat → Int) (c : Int) : AM := uA (cRw (cF1 B k j b m) k v m) (H_o k) 21 c
/-- what was lost is cut -/
def cF4 (B C : AM) (k j b m : Nat) : AM := if B (S_o k j) 6 = -1 then C else uA (cCut C k (B (S_o k j) 6).toNat ((b + m : Nat) : Int)) (S_o k j) 6 (if ((b + m : Nat) : Int) = B (P_to k) (B (S_o k j) 6).toNat then B (P_next k) (B (S_o k j) 6).toNat else B (S_o k j) 6)
def cF7 (B C : AM) (k j b m : Nat) (c : Int) : AM := if c = 1 ∧ B (S_o k j) 3 ≠ 4 then uA (uA (uA C (H_o k) 11 (B (H_o k) 11 + mxZ (((b + m : Nat) : Int) - B (S_o k j) 2) 0)) (S_o k j) 2 (mxZ (B (S_o k j) 2) ((b + m : Nat) : Int))) (S_o k j) 3 2 else uA (uA C (H_o k) 11 (B (H_o k) 11 + mxZ (((b + m : Nat) : Int) - B (S_o k j) 2) 0)) (S_o k j) 2 (mxZ (B (S_o k j) 2) ((b + m : Nat) : Int))
def cF (B : AM) (k j b m : Nat) (v : Nat → Int) (c : Int) : AM := cF7 B (cF4 B (cF3 B k j b m v c) k j b m) k j b m c
theorem cF3_o {b m : Nat} {v : Nat → Int} {c : Int} (r : L3) (f : Nat) (h1 : r = H_o k → f < 17 ∨ 21 < f) (h2 : r ≠ H_row k) : cF3 B k j b m v c r f = B r f := by
  unfold cF3
  rw [uA_at, if_neg (fun z => by have := h1 z.1; omega), cRw_o _ _ h2]
  unfold cF1
  rw [uA_at, if_neg (fun z => by have := h1 z.1; omega), uA_at, if_neg (fun z => by have := h1 z.1; omega), uA_at, if_neg (fun z => by have := h1 z.1; omega), uA_at, if_neg (fun z => by have := h1 z.1; omega)]
theorem c_fills_337 {C : AM} {b m : Nat} {c : Int} (h21 : C (H_o k) 21 = c) (h11 : C (H_o k) 11 = B (H_o k) 11) (hs : ∀ f, f = 2 ∨ f = 3 → C (S_o k j) f = B (S_o k j) f) (hb : b + m ≤ 65536) (h2 : 0 ≤ B (S_o k j) 2 ∧ B (S_o k j) 2 ≤ 65536) (h11b : 0 ≤ B (H_o k) 11 ∧ B (H_o k) 11 ≤ 65536) : g_X2_fills_337 k C j ((b + m : Nat) : Int) = some (cF7 B C k j b m c, 1) := by
  unfold g_X2_fills_337 cF7
  have mx : 0 ≤ mxZ (((b + m : Nat) : Int) - B (S_o k j) 2) 0 ∧ mxZ (((b + m : Nat) : Int) - B (S_o k j) 2) 0 ≤ 65536 := by unfold mxZ; split <;> omega
  rw [hs 2 (by omega), h11, c32_ok (by omega) (by omega), c32_ok (by omega) (by omega), gS_v, gS_v]
  have e2 : ∀ x, uA C (H_o k) 11 x (S_o k j) 2 = B (S_o k j) 2 := fun x => by rw [uA_tag (by show 29 ≠ 7; decide)]; exact hs 2 (by omega)
  rw [e2]
  have e21 : ∀ x y, uA (uA C (H_o k) 11 x) (S_o k j) 2 y (H_o k) 21 = c := fun x y => by rw [uA_tag (by show 7 ≠ 29; decide), uA_idx _ _ _ _ (by decide)]; exact h21
  have e3 : ∀ x y, uA (uA C (H_o k) 11 x) (S_o k j) 2 y (S_o k j) 3 = B (S_o k j) 3 := fun x y => by rw [uA_idx _ _ _ _ (by decide), uA_tag (by show 29 ≠ 7; decide)]; exact hs 3 (by omega)
  rw [e21, e3, gS_v]
  by_cases q1 : c = 1
  · rw [if_neg (fun z => z q1)]
    by_cases q2 : B (S_o k j) 3 = 4
    · rw [if_pos q2, if_neg (fun z => z.2 q2)]
    · rw [if_neg q2, if_pos ⟨q1, q2⟩]
  · rw [if_pos q1, if_neg (fun z => q1 z.1)]
theorem c_fills_230 (h : Rel Any n E A B) (hk : k < 2) (hj : j < 256) (hE : E (S_o k j) = true) {b m : Nat} {many most : Int} {ag : Int} (hm : mnZ many most = m) (hm2 : m ≤ 1200) (hb : b + m ≤ wl A k j) (hag : ag = 0 ↔ B (S_o k j) 6 = -1) (hlost : B (S_o k j) 6 ≠ -1 → B (P_from k) (B (S_o k j) 6).toNat = b ∧ (b : Int) < ((b + m : Nat) : Int) ∧ ((b + m : Nat) : Int) ≤ B (P_to k) (B (S_o k j) 6).toNat) : g_X2_fills_230 k B j j ag b many most = some (cF B k j b m (fun i => A M_value (65536 * k + (pos A k j).getD (b + i) 0)) (if sst A k j = 1 ∧ b + m = wl A k j then 1 else 0), 1) := by
  have hT := h.tb
  have s := h.sd k j hk hj hE
  have hl := h.hl k hk
  have hw := wl_le (j := j) (hT.tot k hk)
  have hcn := cnt_le (A := A) (k := k) (j := j) (ht := hT.tot k hk)
  obtain ⟨ch, st⟩ := h.st k hk
  obtain ⟨chs, fl, sp⟩ := h.sp k hk
  have F1 : ∀ (r : L3) (f : Nat), (r = H_o k → f < 17 ∨ 21 < f) → cF1 B k j b m r f = B r f := by
    intro r f h1
    unfold cF1
    rw [uA_at, if_neg (fun z => by have := h1 z.1; omega), uA_at, if_neg (fun z => by have := h1 z.1; omega), uA_at, if_neg (fun z => by have := h1 z.1; omega), uA_at, if_neg (fun z => by have := h1 z.1; omega)]
  have st1 : CSt E A (cF1 B k j b m) k ch := st.cg (fun t f h1 h2 => F1 _ _ (fun z => by injection z; omega)) (fun i => ⟨F1 _ _ (fun z => by injection z with z; cases z), F1 _ _ (fun z => by injection z with z; cases z)⟩) rfl (fun _ => rfl) (fun _ => rfl)
  have cp := c_copy (j := j) (fm := b) (n := m) (v := fun i => A M_value (65536 * k + (pos A k j).getD (b + i) 0)) st1 hT hk hj hE (fun i _ => rfl) hb hm2
  unfold g_X2_fills_230
  rw [hm, gS_v, gS_v, gS_v, gS_v]
  have e18 : uA (uA (uA (uA B (H_o k) 17 8) (H_o k) 19 j) (H_o k) 20 b) (H_o k) 18 m (H_o k) 18 = m := uA_self _ _ _ _
  rw [e18]
  have ecF1 : uA (uA (uA (uA B (H_o k) 17 8) (H_o k) 19 j) (H_o k) 20 b) (H_o k) 18 m = cF1 B k j b m := rfl
  rw [ecF1, cp, bd_v]
  generalize hV : (fun i => A M_value (65536 * k + (pos A k j).getD (b + i) 0)) = V
  have r0 : ∀ (r : L3) (f : Nat), (r = H_o k → f < 17 ∨ 21 < f) → r ≠ H_row k → cRw (cF1 B k j b m) k V m r f = B r f := fun r f h1 h2 => by rw [cRw_o _ _ h2, F1 r f h1]
  have rS : ∀ f, cRw (cF1 B k j b m) k V m (S_o k j) f = B (S_o k j) f := fun f => r0 _ _ (fun z => by injection z with z; cases z) (fun z => by injection z with z; cases z)
  have r18 : cRw (cF1 B k j b m) k V m (H_o k) 18 = m := by rw [cRw_o _ _ (fun z => by injection z with z; cases z)]; unfold cF1; rw [uA_self]
  rw [rS, s.sta, r18, rS, s.wri, c32_ok (by omega) (by omega), c32_ok (by omega) (by omega), show (b : Int) + m = ((b + m : Nat) : Int) by omega]
  -- the rest, with c
  have rest : ∀ c : Int, g_X2_fills_310 k (cRw (cF1 B k j b m) k V m) j ag b ((b + m : Nat) : Int) c = some (cF B k j b m V c, 1) := by
    intro c
    unfold g_X2_fills_310
    rw [gS_v]
    have e3 : uA (cRw (cF1 B k j b m) k V m) (H_o k) 21 c = cF3 B k j b m V c := rfl
    rw [e3]
    have c21 : cF3 B k j b m V c (H_o k) 21 = c := by unfold cF3; rw [uA_self]
    have fo : ∀ (r : L3) (f : Nat), (r = H_o k → f < 17 ∨ 21 < f) → r ≠ H_row k → cF3 B k j b m V c r f = B r f := fun r f h1 h2 => cF3_o r f h1 h2
    by_cases q : B (S_o k j) 6 = -1
    · rw [if_pos (hag.2 q)]
      have := c_fills_337 (B := B) (C := cF3 B k j b m V c) (k := k) (j := j) (b := b) (m := m) (c := c) c21 (fo _ _ (fun _ => by omega) (fun z => by injection z with z; cases z)) (fun f _ => fo _ _ (fun z => by injection z with z; cases z) (fun z => by injection z with z; cases z)) (by omega) (by rw [s.sen]; omega) (by rw [hl.sal]; omega)
      rw [this]
      unfold cF cF4
      rw [if_pos q]
    · rw [if_neg (fun z => q (hag.1 z))]
      obtain ⟨l1, l2, l3⟩ := hlost q
      have lk := sp.lnl j hj hE
      cases hc : chs (2 * j) with
      | nil => rw [hc] at lk; exact absurd lk q
      | cons p l =>
        rw [hc] at lk
        obtain ⟨lp, ll⟩ := lk
        have ep : (B (S_o k j) 6).toNat = p := by omega
        rw [ep] at l1 l3
        have sp3 : CSp E A (cF3 B k j b m V c) k chs fl := sp.cg (fun t f h1 h2 => fo _ _ (fun z => by injection z; omega) (fun z => by injection z; omega)) (fun i => ⟨fo _ _ (fun z => by injection z with z; cases z) (fun z => by injection z with z; cases z), fo _ _ (fun z => by injection z with z; cases z) (fun z => by injection z with z; cases z)⟩) (fun _ => rfl) (fun _ _ => rfl)
        have eF : cF3 B k j b m V c (P_from k) p = b := by rw [fo _ _ (fun z => by injection z with z; cases z) (fun z => by injection z with z; cases z)]; exact l1
        have eT : cF3 B k j b m V c (P_to k) p = B (P_to k) p := fo _ _ (fun z => by injection z with z; cases z) (fun z => by injection z with z; cases z)
        have eN : cF3 B k j b m V c (P_next k) p = B (P_next k) p := fo _ _ (fun z => by injection z with z; cases z) (fun z => by injection z with z; cases z)
        have eNx : cF3 B k j b m V c (P_next k) = B (P_next k) := funext fun x => fo _ _ (fun z => by injection z with z; cases z) (fun z => by injection z with z; cases z)
        have e6 : cF3 B k j b m V c (S_o k j) 6 = p := by rw [fo _ _ (fun z => by injection z with z; cases z) (fun z => by injection z with z; cases z)]; exact lp
        have cc := c_cut (c := 2 * j) sp3 hc (by rw [eNx]; exact ll) (b := ((b + m : Nat) : Int)) (by rw [eF]; omega) (by rw [eT]; exact l3)
        rw [eF, eT, eN] at cc
        rw [e6, cc, gB2_v, gS_v]
        have c4 : uA (cCut (cF3 B k j b m V c) k p ((b + m : Nat) : Int)) (S_o k j) 6 (if ((b + m : Nat) : Int) = B (P_to k) p then B (P_next k) p else (p : Int)) = cF4 B (cF3 B k j b m V c) k j b m := by
          unfold cF4
          rw [if_neg q, ep, lp]
        rw [c4]
        have f4 : ∀ (r : L3) (f : Nat), r.1 ≠ 13 → r.1 ≠ 14 → r.1 ≠ 16 → (r = S_o k j → f ≠ 6) → cF4 B (cF3 B k j b m V c) k j b m r f = cF3 B k j b m V c r f := by
          intro r f z1 z2 z3 z4
          rw [← c4, uA_at, if_neg (fun z => z4 z.1 z.2)]
          unfold cCut cRel
          split
          · rw [uA_tag z1, uA_tag z3]
          · rw [uA_tag z2]
        have := c_fills_337 (B := B) (C := cF4 B (cF3 B k j b m V c) k j b m) (k := k) (j := j) (b := b) (m := m) (c := c) (by rw [f4 _ _ (by show 7 ≠ 13; decide) (by show 7 ≠ 14; decide) (by show 7 ≠ 16; decide) (fun z => by injection z with z; cases z)]; exact c21) (by rw [f4 _ _ (by show 7 ≠ 13; decide) (by show 7 ≠ 14; decide) (by show 7 ≠ 16; decide) (fun z => by injection z with z; cases z)]; exact fo _ _ (fun _ => by omega) (fun z => by injection z with z; cases z)) (fun f hf => by rw [f4 _ _ (by show 29 ≠ 13; decide) (by show 29 ≠ 14; decide) (by show 29 ≠ 16; decide) (fun _ => by omega)]; exact fo _ _ (fun z => by injection z with z; cases z) (fun z => by injection z with z; cases z)) (by omega) (by rw [s.sen]; omega) (by rw [hl.sal]; omega)
        rw [this]
        rfl
  unfold g_X2_fills_309
  rw [rest, rest]
  by_cases q1 : sst A k j = 1
  · rw [if_neg (fun z => z q1)]
    by_cases q2 : b + m = wl A k j
    · rw [if_neg (fun z => z (by rw [q2])), if_pos ⟨q1, q2⟩]
    · rw [if_pos (by omega), if_neg (fun z => q2 z.2)]
  · rw [if_pos q1, if_neg (fun z => q1 z.1)]
end FIL
