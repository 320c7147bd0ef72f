/-! CALLS: join -/
section JON
variable {A B : AM} {E : L3 → Bool} {n k : Nat}
def cLim (B : AM) (k : Nat) (g : Nat → Int) : AM := uA (uA (uA (uA (uA (uA B (H_limits k) 1 (g 1)) (H_limits k) 2 (g 2)) (H_limits k) 3 (g 3)) (H_o k) 9 (g 0)) (W_o k 0) 3 (mnZ (g 4) 64)) (W_o k 1) 3 (mnZ (g 5) 64)
def cJoin (B : AM) : AM := cLim (cLim (uA B C_o 7 1) 1 (B (C_grow 0))) 0 (B (C_grow 1))
theorem c_join : g_X1_join B = some (if B C_o 7 = 0 then (cJoin B, .inr ()) else (B, .inl 2)) := by
  unfold g_X1_join g_X1_join_12
  by_cases q : B C_o 7 = 0
  · rw [if_neg (fun z => z q), if_pos q, c_ready1, bd_v, hXW_r, gS_v, show FU = 199997 + 1 + 1 + 1 from rfl]
    rw [show ∀ S x, g_X1_join_22 (199997 + 1 + 1 + 1) S x = g_X1_join_22_b (g_X1_join_22 (199997 + 1 + 1)) S x from fun _ _ => rfl]
    unfold g_X1_join_22_b
    rw [if_neg (by decide), hA_ok (by decide) (by decide), hA_ok (by decide) (by decide), hA_ok (by decide) (by decide), hA_ok (by decide) (by decide), hA_ok (by decide) (by decide), hA_ok (by decide) (by decide), hA_ok (by decide) (by decide), hA_ok (by decide) (by decide)]
    have e : ∀ (k : Nat) (S : AM) (g : Nat → Int), g_X2_limits k S (g 0) (g 1) (g 2) (g 3) (g 4) (g 5) = some (cLim S k g) := fun k S g => rfl
    rw [show ((1 : Int) - 0).toNat = 1 from rfl, show (0 : Int).toNat = 0 from rfl, show (1 : Int).toNat = 1 from rfl, show (2 : Int).toNat = 2 from rfl, show (3 : Int).toNat = 3 from rfl, show (4 : Int).toNat = 4 from rfl, show (5 : Int).toNat = 5 from rfl, e, bd_v, c32_ok (by decide) (by decide)]
    rw [show ∀ S x, g_X1_join_22 (199997 + 1 + 1) S x = g_X1_join_22_b (g_X1_join_22 (199997 + 1)) S x from fun _ _ => rfl]
    unfold g_X1_join_22_b
    rw [if_neg (by decide), hA_ok (by decide) (by decide), hA_ok (by decide) (by decide), hA_ok (by decide) (by decide), hA_ok (by decide) (by decide), hA_ok (by decide) (by decide), hA_ok (by decide) (by decide), hA_ok (by decide) (by decide), hA_ok (by decide) (by decide)]
    rw [show ((1 : Int) - (0 + 1)).toNat = 0 from rfl, show ((0 : Int) + 1).toNat = 1 from rfl, show (0 : Int).toNat = 0 from rfl, show (1 : Int).toNat = 1 from rfl, show (2 : Int).toNat = 2 from rfl, show (3 : Int).toNat = 3 from rfl, show (4 : Int).toNat = 4 from rfl, show (5 : Int).toNat = 5 from rfl, e, bd_v, c32_ok (by decide) (by decide)]
    rw [show ∀ S x, g_X1_join_22 (199997 + 1) S x = g_X1_join_22_b (g_X1_join_22 199997) S x from fun _ _ => rfl]
    unfold g_X1_join_22_b
    rw [if_pos (by decide)]
    rfl
  · rw [if_pos q, if_neg q, c_ready0, bd_v, hXW_l]
theorem mnZ_le {x : Int} (h : x ≤ 64) : mnZ x 64 = x := by unfold mnZ; split <;> omega
theorem Rel.join (h : Rel Any n E A B) (hj : A M_o 1 = 0) : Rel Any (n + 1) E (aJoin A) (cJoin B) := by
  have hT := h.tb
  have no : ∀ q j, q < 2 → j < 256 → A M_there (256 * q + j) = 0 ∧ E (S_o q j) = false ∧ E (R_o q j) = false := fun q j hq hj2 => h.none hj hq hj2
  have g0 := h.gr 0 (by decide)
  have g1 := h.gr 1 (by decide)
  have t0 := h.tk 0 (by decide)
  have t1 := h.tk 1 (by decide)
  have bo : ∀ (r : L3) (f : Nat), r.1 ≠ 0 → r.1 ≠ 12 → r.1 ≠ 7 → r.1 ≠ 28 → cJoin B r f = B r f := by
    intro r f q1 q2 q3 q4
    unfold cJoin cLim
    rw [uA_tag q4, uA_tag q4, uA_tag q3, uA_tag q2, uA_tag q2, uA_tag q2, uA_tag q4, uA_tag q4, uA_tag q3, uA_tag q2, uA_tag q2, uA_tag q2, uA_tag q1]
  have lm : ∀ w, w < 6 → aJoin A M_limits w = if w = 0 then A M_grants 20 else if w = 1 then A M_grants 24 else if w = 2 then A M_grants 25 else if w = 3 then A M_grants 4 else if w = 4 then A M_grants 8 else A M_grants 9 := by
    intro w hw
    have hw' : w = 0 ∨ w = 1 ∨ w = 2 ∨ w = 3 ∨ w = 4 ∨ w = 5 := by omega
    rcases hw' with rfl | rfl | rfl | rfl | rfl | rfl <;> rfl
  have gg : ∀ k f, k < 2 → 4 ≤ f → f ≤ 9 → 0 ≤ A M_grants (16 * k + f) ∧ A M_grants (16 * k + f) ≤ 65536 := fun k f hk h1 h2 => hT.gra k f hk h1 h2
  have G0 := gg 0 4 (by decide) (by decide) (by decide)
  have G1 := gg 0 8 (by decide) (by decide) (by decide)
  have G2 := gg 0 9 (by decide) (by decide) (by decide)
  have G3 := gg 1 4 (by decide) (by decide) (by decide)
  have G4 := gg 1 8 (by decide) (by decide) (by decide)
  have G5 := gg 1 9 (by decide) (by decide) (by decide)
  have L08 := t0.g89 0 (by decide)
  have L09 := t0.g89 1 (by decide)
  have L18 := t1.g89 0 (by decide)
  have L19 := t1.g89 1 (by decide)
  simp only [Nat.reduceMul, Nat.reduceAdd] at G0 G1 G2 G3 G4 G5 L08 L09 L18 L19
  have nw : ∀ q w, q < 2 → w < 2 → B (W_o q w) 4 < 0 := by
    intro q w hq hw
    have t := h.wys q w hq hw
    have u := (h.tk q hq).unw hj w hw
    have r1 := t.ref
    have r2 := t.rle
    rw [u.2.2.2.1] at r2
    rw [u.2.2.2.1, u.2.2.1] at r1
    have : B (W_o q w) 4 ≠ 0 := fun z => absurd (r1.1 z).1 (by decide)
    omega
  refine Rel.make ?_ h.pf h.ts h.th h.ov ?_ h.tl h.tf ?_ ?_ ?_ h.ex ?_ ?_ ?_ ?_ ?_ ?_ h.st h.sp h.bl h.ln
  · exact (TB.make (Or.inr rfl) hT.tap hT.tpv hT.out hT.tot hT.mrk hT.val hT.pcs hT.cam hT.hsb hT.rds hT.res hT.hig hT.siz hT.wrs hT.gra hT.grt hT.opn hT.thr hT.dgr hT.grs hT.lim (fun w hw => by
      rw [lm w hw]
      have hw' : w = 0 ∨ w = 1 ∨ w = 2 ∨ w = 3 ∨ w = 4 ∨ w = 5 := by omega
      rcases hw' with rfl | rfl | rfl | rfl | rfl | rfl <;> simp only [Nat.reduceEqDiff, if_true, if_false] <;> first | omega | (constructor <;> (show _ ≤ _) <;> omega)) hT.lst hT.stc hT.cod)
  · intro q hq
    have t := h.tk q hq
    have u := t.unw hj
    refine TK.make ?_ t.thg t.d01 t.s01 t.g89 (fun z => absurd z (by show (1 : Int) ≠ 0; decide)) (fun z => absurd z (by show (1 : Int) ≠ 0; decide))
    intro _ w hw
    rw [show aJoin A M_opened (2 * q + w) = A M_opened (2 * q + w) from rfl, (u w hw).1]
    have hq' : q = 0 ∨ q = 1 := by omega
    have hw' : w = 0 ∨ w = 1 := by omega
    rcases hq' with rfl | rfl <;> rcases hw' with rfl | rfl
    · show 0 ≤ A M_grants 24 ∧ A M_grants 24 ≤ 64; omega
    · show 0 ≤ A M_grants 25 ∧ A M_grants 25 ≤ 64; omega
    · show 0 ≤ A M_grants 8 ∧ A M_grants 8 ≤ 64; omega
    · show 0 ≤ A M_grants 9 ∧ A M_grants 9 ≤ 64; omega
  · obtain ⟨tc, c1, c2⟩ := h.cnt
    refine ⟨tc, c1, ?_⟩
    show Psi A 0 + Psi A 1 + tc ≤ _
    omega
  · intro q hq; rw [bo _ _ (by show 17 ≠ 0; decide) (by show 17 ≠ 12; decide) (by show 17 ≠ 7; decide) (by show 17 ≠ 28; decide)]; have := h.nst q hq; omega
  · intro q hq; rw [bo _ _ (by show 13 ≠ 0; decide) (by show 13 ≠ 12; decide) (by show 13 ≠ 7; decide) (by show 13 ≠ 28; decide)]; have := h.nsp q hq; omega
  · have t := h.top
    exact (CTop.make t.tap t.mad (rfl) t.tpe t.out t.ovl)
  · intro q hq
    have hq' : q = 0 ∨ q = 1 := by omega
    rcases hq' with rfl | rfl
    · exact (CGr.make g0.gw g0.gh (fun _ => g1.gw 1 (by decide)) (fun _ => g1.gw 2 (by decide)) (fun _ => g1.gw 3 (by decide)) g0.sd)
    · exact (CGr.make g1.gw g1.gh (fun _ => g0.gw 1 (by decide)) (fun _ => g0.gw 2 (by decide)) (fun _ => g0.gw 3 (by decide)) g1.sd)
  · intro q hq
    have hl := h.hl q hq
    have hq' : q = 0 ∨ q = 1 := by omega
    rcases hq' with rfl | rfl
    · exact (CHl.make (g1.gw 0 (by decide)) hl.bla hl.sal hl.ral hl.cal hl.gal hl.lst hl.tel)
    · exact (CHl.make (g0.gw 0 (by decide)) hl.bla hl.sal hl.ral hl.cal hl.gal hl.lst hl.tel)
  · intro q w hq hw
    have t := h.wys q w hq hw
    have u := (h.tk q hq).unw hj w hw
    have n4 := nw q w hq hw
    have hq' : q = 0 ∨ q = 1 := by omega
    have hw' : w = 0 ∨ w = 1 := by omega
    have rf : ∀ x : Int, 0 ≤ x → (B (W_o q w) 4 = x ↔ A M_refused (2 * q + w) ≠ 0 ∧ x ≤ A M_opened (2 * q + w)) := by
      intro x hx
      rw [u.2.2.1]
      constructor
      · intro z; omega
      · intro z; exact absurd rfl z.1
    rcases hq' with rfl | rfl <;> rcases hw' with rfl | rfl
    · exact (CWy.make t.opn t.thr t.grt (by
        show mnZ (B (C_grow 1) 4) 64 = A M_grants 24
        rw [g1.gw 4 (by decide)]; exact mnZ_le L18) (rf (A M_grants 24) (by omega)) (by show B (W_o 0 0) 4 ≤ A M_grants 24; omega) t.tld t.tel)
    · exact (CWy.make t.opn t.thr t.grt (by
        show mnZ (B (C_grow 1) 5) 64 = A M_grants 25
        rw [g1.gw 5 (by decide)]; exact mnZ_le L19) (rf (A M_grants 25) (by omega)) (by show B (W_o 0 1) 4 ≤ A M_grants 25; omega) t.tld t.tel)
    · exact (CWy.make t.opn t.thr t.grt (by
        show mnZ (B (C_grow 0) 4) 64 = A M_grants 8
        rw [g0.gw 4 (by decide)]; exact mnZ_le L08) (rf (A M_grants 8) (by omega)) (by show B (W_o 1 0) 4 ≤ A M_grants 8; omega) t.tld t.tel)
    · exact (CWy.make t.opn t.thr t.grt (by
        show mnZ (B (C_grow 0) 5) 64 = A M_grants 9
        rw [g0.gw 5 (by decide)]; exact mnZ_le L09) (rf (A M_grants 9) (by omega)) (by show B (W_o 1 1) 4 ≤ A M_grants 9; omega) t.tld t.tel)
  · intro q j hq hj2 hE; rw [(no q j hq hj2).2.1] at hE; cases hE
  · intro q j hq hj2 hE; rw [(no q j hq hj2).2.2] at hE; cases hE
def wJ (_ : Nat) : Int := 1
theorem call_join (h : Rel Any n E A B) : ∃ A' B' w, g_X8_join A = some A' ∧ g_X1_join B = some (B', w) ∧ Rel Any (n + 1) E A' B' ∧ AnsU wJ A' w := by
  rw [t_join h.tb.jnd, c_join, h.top.jnd]
  by_cases z : A M_o 1 = 0
  · rw [if_pos z, if_pos z]
    exact ⟨_, _, _, rfl, rfl, (h.o0 (v := 0) (Nat.le_refl _)).join z, rfl⟩
  · rw [if_neg z, if_neg z]
    exact ⟨_, _, _, rfl, rfl, h.o0 (v := 1) (by omega), rfl⟩
end JON
