/-! CALLS: grant, join -/
def AnsU (wr : Nat → Int) (A' : AM) : Nat ⊕ Unit → Prop
  | .inl c => A' M_o 0 = wr c
  | .inr _ => A' M_o 0 = 0
section GRJ
variable {A B : AM} {E : L3 → Bool} {n k : Nat}
theorem ww {q w : Nat} (D B' : AM) (x y : Int) (hw : w < 2) (f : Nat) {z : Int} (hD : D (W_o q w) f = B' (W_o q w) f) (hz : (if w = 0 then x else y) = z) : uA (uA D (W_o k 0) 2 x) (W_o k 1) 2 y (W_o q w) f = if q = k ∧ f = 2 then z else B' (W_o q w) f := by
  rw [uA_at, uA_at, hD]
  have hw' : w = 0 ∨ w = 1 := by omega
  by_cases e : q = k ∧ f = 2
  · obtain ⟨rfl, rfl⟩ := e
    rw [if_pos (show q = q ∧ 2 = 2 from ⟨rfl, rfl⟩)]
    rcases hw' with rfl | rfl
    · rw [if_neg (fun z => absurd z.1 (fun y => by injection y with _ y; injection y with _ y; cases y)), if_pos ⟨rfl, rfl⟩]; exact hz
    · rw [if_pos ⟨rfl, rfl⟩]; exact hz
  · rw [if_neg e, if_neg (fun z => e ⟨by injection z.1 with _ z; injection z, z.2⟩), if_neg (fun z => e ⟨by injection z.1 with _ z; injection z, z.2⟩)]
def cGr1 (B : AM) (k : Nat) : AM := uA (uA (uA (uA (uA (uA (uA (uA (uA B (H_grants k) 0 (B (C_grow k) 0)) (H_grants k) 1 (B (C_grow k) 1)) (H_grants k) 2 (B (C_grow k) 2)) (H_grants k) 3 (B (C_grow k) 3)) (H_grants k) 4 (B (C_grow k) 4)) (H_grants k) 5 (B (C_grow k) 5)) (H_o k) 14 (B (C_grow k) 0)) (W_o k 0) 2 (B (C_grow k) 4)) (W_o k 1) 2 (B (C_grow k) 5)
theorem c_allow (hk : k < 2) : g_X1_allow B k = some (cGr1 B k) := by
  unfold g_X1_allow g_X2_grants
  rw [hA_ok (by omega) (by omega), hA_ok (by omega) (by omega), tkN]
  rfl
/-- before the sides are joined nothing is there -/
theorem Rel.none (h : Rel Any n E A B) (hj : A M_o 1 = 0) {k j : Nat} (hk : k < 2) (hj' : j < 256) : A M_there (256 * k + j) = 0 ∧ E (S_o k j) = false ∧ E (R_o k j) = false := by
  have u := (h.tk k hk).unw hj (wy j) (wy_lt j)
  have t := h.th k j hk hj'
  have : A M_there (256 * k + j) = 0 := by
    by_cases e : A M_there (256 * k + j) = 0
    · exact e
    · have := t.1 e
      split at this <;> omega
  refine ⟨this, ?_, ?_⟩
  · rw [(h.ex k j hk hj').1, this]; rfl
  · rw [(h.ex k j hk hj').2, this]; rfl
theorem Rel.grant (h : Rel Any n E A B) (hk : k < 2) {i : Nat} {v : Int} (h1 : 4 ≤ i) (h2 : i ≤ 9) (h3 : 0 ≤ v) (h4 : i ≤ 7 → v ≤ 65536) (h5 : 7 < i → v ≤ 64) (hj : A M_o 1 = 0) : Rel Any (n + 1) E (aGrant A k i v) (cGr1 (uA B (C_grow k) (i - 4) v) k) := by
  have hT := h.tb
  -- what the twin's memory is now
  have ao : ∀ (r : L3) (f : Nat), r.1 ≠ 7 → r.1 ≠ 12 → r.1 ≠ 11 → aGrant A k i v r f = A r f := by
    intro r f q1 q2 q3
    unfold aGrant
    split
    · rw [uA_tag q2, uA_tag q1]
    · split
      · rw [uA_tag q1]
      · rw [uA_tag q3, uA_tag q1]
  have ag : ∀ f, aGrant A k i v M_grants f = if f = 16 * k + i then v else A M_grants f := by
    intro f
    have e : uA A M_grants (16 * k + i) v M_grants f = if f = 16 * k + i then v else A M_grants f := by
      rw [uA_at]
      by_cases q : f = 16 * k + i
      · rw [if_pos ⟨rfl, q⟩, if_pos q]
      · rw [if_neg (fun z => q z.2), if_neg q]
    unfold aGrant
    split
    · rw [uA_tag (by decide), e]
    · split
      · exact e
      · rw [uA_tag (by decide), e]
  have ad : ∀ f, aGrant A k i v M_dataGrant f = if i = 4 ∧ f = k then v else A M_dataGrant f := by
    intro f
    unfold aGrant
    by_cases q : i = 4
    · rw [if_pos q, uA_at]
      by_cases q2 : f = k
      · rw [if_pos ⟨rfl, q2⟩, if_pos ⟨q, q2⟩]
      · rw [if_neg (fun z => q2 z.2), if_neg (fun z => q2 z.2), uA_tag (by decide)]
    · rw [if_neg q, if_neg (show ¬ (i = 4 ∧ f = k) from fun z => q z.1)]
      by_cases q7 : i ≤ 7
      · rw [if_pos q7, uA_tag (by decide)]
      · rw [if_neg q7, uA_tag (by decide), uA_tag (by decide)]
  have aw : ∀ f, aGrant A k i v M_granted f = if 8 ≤ i ∧ f = 2 * k + i - 8 then v else A M_granted f := by
    intro f
    unfold aGrant
    by_cases q : i = 4
    · rw [if_pos q, if_neg (by omega), uA_tag (by decide), uA_tag (by decide)]
    · rw [if_neg q]
      by_cases q7 : i ≤ 7
      · rw [if_pos q7, if_neg (by omega), uA_tag (by decide)]
      · rw [if_neg q7, uA_at]
        by_cases q2 : f = 2 * k + i - 8
        · rw [if_pos ⟨rfl, q2⟩, if_pos ⟨by omega, q2⟩]
        · rw [if_neg (fun z => q2 z.2), if_neg (fun z => q2 z.2), uA_tag (by decide)]
  have hR : SameR A (aGrant A k i v) := SameR.make (fun f => ao _ _ (by decide) (by decide) (by decide)) (fun f => ao _ _ (by decide) (by decide) (by decide)) (fun f => ao _ _ (by decide) (by decide) (by decide)) (fun f => ao _ _ (by decide) (by decide) (by decide))
  have hP : SameP A (aGrant A k i v) := SameP.make (fun f => ao _ _ (by decide) (by decide) (by decide)) (fun f => ao _ _ (by decide) (by decide) (by decide)) (fun f => ao _ _ (by decide) (by decide) (by decide)) (fun f => ao _ _ (by decide) (by decide) (by decide)) (fun f => ao _ _ (by decide) (by decide) (by decide))
  have es : ∀ q j, EqS A (aGrant A k i v) q j := fun q j => EqS.same hR hP (fun t h1 h2 => ao _ _ (by show t ≠ 7; omega) (by show t ≠ 12; omega) (by show t ≠ 11; omega))
  have ol : ∀ t f, 52 ≤ t → t ≤ 61 → aGrant A k i v (t, 0, 0) f = A (t, 0, 0) f := fun t f h1 h2 => ao _ _ (by show t ≠ 7; omega) (by show t ≠ 12; omega) (by show t ≠ 11; omega)
  -- the component's
  have cg : ∀ f, (uA B (C_grow k) (i - 4) v) (C_grow k) f = if f = i - 4 then v else B (C_grow k) f := by
    intro f
    rw [uA_at]
    by_cases q : f = i - 4
    · rw [if_pos ⟨rfl, q⟩, if_pos q]
    · rw [if_neg (fun z => q z.2), if_neg q]
  have no : ∀ q j, q < 2 → j < 256 → A M_there (256 * q + j) = 0 ∧ E (S_o q j) = false ∧ E (R_o q j) = false := fun q j hq hj2 => h.none hj hq hj2
  have gk := h.gr k hk
  have uk := (h.tk k hk).una hj
  have gw : ∀ f, f < 6 → (uA B (C_grow k) (i - 4) v) (C_grow k) f = aGrant A k i v M_grants (16 * k + 4 + f) := by
    intro f hf
    rw [cg, ag]
    by_cases q : f = i - 4
    · rw [if_pos q, if_pos (by omega)]
    · rw [if_neg q, if_neg (by omega), gk.gw f hf]
  have bo : ∀ (r : L3) (f : Nat), r.1 ≠ 3 → r.1 ≠ 11 → r.1 ≠ 7 → r.1 ≠ 28 → cGr1 (uA B (C_grow k) (i - 4) v) k r f = B r f := by
    intro r f q1 q2 q3 q4
    unfold cGr1
    rw [uA_tag q4, uA_tag q4, uA_tag q3, uA_tag q2, uA_tag q2, uA_tag q2, uA_tag q2, uA_tag q2, uA_tag q2, uA_tag q1]
  refine Rel.make ?_ ?_ ?_ ?_ ?_ ?_ ?_ ?_ ?_ ?_ ?_ ?_ ?_ ?_ ?_ ?_ ?_ ?_ ?_ ?_ ?_ ?_
  · have o := fun (r : L3) (f : Nat) (q1 : r.1 ≠ 7) (q2 : r.1 ≠ 12) (q3 : r.1 ≠ 11) => ao r f q1 q2 q3
    refine TB.make ?_ ?_ ?_ ?_ ?_ ?_ ?_ ?_ ?_ ?_ ?_ ?_ ?_ ?_ ?_ ?_ ?_ ?_ ?_ ?_ ?_ ?_ ?_ ?_ ?_ ?_
    · rw [o _ _ (by decide) (by decide) (by decide)]; exact hT.jnd
    · rw [o _ _ (by decide) (by decide) (by decide)]; exact hT.tap
    · intro k; rw [o _ _ (by decide) (by decide) (by decide)]; exact hT.tpv k
    · rw [o _ _ (by decide) (by decide) (by decide)]; exact hT.out
    · intro k hk; rw [o _ _ (by decide) (by decide) (by decide)]; exact hT.tot k hk
    · intro k; rw [o _ _ (by decide) (by decide) (by decide)]; exact hT.mrk k
    · intro k; rw [o _ _ (by decide) (by decide) (by decide)]; exact hT.val k
    · intro k hk; rw [o _ _ (by decide) (by decide) (by decide)]; exact hT.pcs k hk
    · intro k; rw [o _ _ (by decide) (by decide) (by decide)]; exact hT.cam k
    · intro k j oo hk hj ho; rw [hP.hasB] at ho; exact hT.hsb k j oo hk hj ho
    · intro k j hk hj; rw [o _ _ (by decide) (by decide) (by decide)]; exact hT.rds k j hk hj
    · intro k j hk hj; rw [o _ _ (by decide) (by decide) (by decide)]; exact hT.res k j hk hj
    · intro k j hk hj; rw [o _ _ (by decide) (by decide) (by decide)]; exact hT.hig k j hk hj
    · intro k j hk hj; rw [o _ _ (by decide) (by decide) (by decide)]; exact hT.siz k j hk hj
    · intro k j hk hj; rw [o _ _ (by decide) (by decide) (by decide), o _ _ (by decide) (by decide) (by decide)]; exact hT.wrs k j hk hj
    · intro q f hq q1 q2
      rw [ag]
      split
      · rename_i z
        by_cases z7 : i ≤ 7
        · have := h4 z7; omega
        · have := h5 (by omega); omega
      · exact hT.gra q f hq q1 q2
    · intro w hw
      rw [aw]
      split
      · rename_i z; have := h5 (by omega); omega
      · exact hT.grt w hw
    · intro w hw; rw [o _ _ (by decide) (by decide) (by decide)]; exact hT.opn w hw
    · intro w hw; rw [o _ _ (by decide) (by decide) (by decide)]; exact hT.thr w hw
    · intro w hw
      rw [ad]
      split
      · have := h4 (by omega); omega
      · exact hT.dgr w hw
    · intro k j hk hj; rw [o _ _ (by decide) (by decide) (by decide)]; exact hT.grs k j hk hj
    · intro k j hk hj; rw [o _ _ (by decide) (by decide) (by decide)]; exact hT.lim k j hk hj
    · intro w hw; rw [o _ _ (by decide) (by decide) (by decide)]; exact hT.lms w hw
    · intro w hw; rw [o _ _ (by decide) (by decide) (by decide)]; exact hT.lst w hw
    · intro k j hk hj; rw [o _ _ (by decide) (by decide) (by decide)]; exact hT.stc k j hk hj
    · intro k j hk hj; rw [o _ _ (by decide) (by decide) (by decide)]; exact hT.cod k j hk hj
  · exact h.pf.cg hP.pcs hP.has
  · intro q j hq hj; exact (h.ts q j hq hj).cg (es q j)
  · intro q j hq hj
    have := h.th q j hq hj
    unfold TH at this ⊢
    rw [ao _ _ (by decide) (by decide) (by decide), ao _ _ (by decide) (by decide) (by decide), ao _ _ (by decide) (by decide) (by decide)]
    exact this
  · intro q j hq hj _; exact (h.ov q j hq hj trivial).cg (es q j)
  · intro q hq
    have t := h.tk q hq
    have o1 : aGrant A k i v M_o 1 = A M_o 1 := ao _ _ (by decide) (by decide) (by decide)
    have u := t.una hj
    refine TK.make ?_ ?_ ?_ ?_ ?_ ?_ ?_
    · rw [o1]; intro z; exact absurd hj z
    · intro w hw
      have u := t.unw hj w hw
      have g := hT.grt (2 * q + w) (by omega)
      rw [ao _ _ (by decide) (by decide) (by decide), aw]
      split
      · omega
      · exact t.thg w hw
    · rw [ao _ _ (by decide) (by decide) (by decide)]; exact t.d01
    · intro w hw; rw [ao _ _ (by decide) (by decide) (by decide)]; exact t.s01 w hw
    · intro w hw
      rw [ag]
      split
      · exact h5 (by omega)
      · exact t.g89 w hw
    · intro _
      rw [ao _ _ (by decide) (by decide) (by decide), ad, ag, ao _ _ (by decide) (by decide) (by decide), ao _ _ (by decide) (by decide) (by decide)]
      refine ⟨u.1, ?_, u.2.2⟩
      by_cases z : i = 4 ∧ q = k
      · rw [if_pos z, if_pos (by omega)]
      · rw [if_neg z, if_neg (by omega)]; exact u.2.1
    · intro _ w hw
      have u := t.unw hj w hw
      rw [ao _ _ (by decide) (by decide) (by decide), ao _ _ (by decide) (by decide) (by decide), ao _ _ (by decide) (by decide) (by decide), ao _ _ (by decide) (by decide) (by decide), aw, ag]
      refine ⟨u.1, u.2.1, u.2.2.1, u.2.2.2.1, ?_⟩
      by_cases z : 8 ≤ i ∧ 2 * q + w = 2 * k + i - 8
      · rw [if_pos z, if_pos (by omega)]
      · rw [if_neg z, if_neg (by omega)]; exact u.2.2.2.2
  · intro p hp
    refine (h.tl p hp).cg ol ?_ ?_ ?_ ?_ ?_
    · intro q j _ _; rw [ao _ _ (by decide) (by decide) (by decide)]; exact fun z => z
    · intro q j _ _; rw [ao _ _ (by decide) (by decide) (by decide)]; exact fun z => z
    · intro q j _ _; rw [ao _ _ (by decide) (by decide) (by decide)]; exact fun z => z
    · intro q j _ _; rw [hR.wl]; omega
    · intro q j _ _ o _ z; rw [hR.mka]; exact z
  · exact h.tf.cg ol
  · exact h.cnt.cg (by omega) hR hP (by rw [ao _ _ (by decide) (by decide) (by decide)]; exact Int.le_refl _)
  · intro q hq; rw [bo _ _ (by show 17 ≠ 3; decide) (by show 17 ≠ 11; decide) (by show 17 ≠ 7; decide) (by show 17 ≠ 28; decide)]; have := h.nst q hq; omega
  · intro q hq; rw [bo _ _ (by show 13 ≠ 3; decide) (by show 13 ≠ 11; decide) (by show 13 ≠ 7; decide) (by show 13 ≠ 28; decide)]; have := h.nsp q hq; omega
  · intro q j hq hj; rw [ao _ _ (by decide) (by decide) (by decide)]; exact h.ex q j hq hj
  · have tp := h.top
    refine CTop.make ?_ ?_ ?_ ?_ ?_ ?_
    · rw [ao _ _ (by decide) (by decide) (by decide)]; exact tp.tap
    · rw [ao _ _ (by decide) (by decide) (by decide)]; exact tp.mad
    · rw [ao _ _ (by decide) (by decide) (by decide)]; exact tp.jnd
    · intro f hf; rw [ao _ _ (by decide) (by decide) (by decide)]; exact tp.tpe f hf
    · intro f hf; rw [ao _ _ (by decide) (by decide) (by decide)]; exact tp.out f hf
    · intro f; rw [ao _ _ (by decide) (by decide) (by decide)]; exact tp.ovl f
  · intro q hq
    have o1 : aGrant A k i v M_o 1 = A M_o 1 := ao _ _ (by decide) (by decide) (by decide)
    have g := h.gr q hq
    by_cases e : q = k
    · subst e
      refine CGr.make ?_ ?_ ?_ ?_ ?_ ?_
      · intro f hf
        rw [← gw f hf]
        unfold cGr1
        rw [uA_tag (by show 3 ≠ 28; decide), uA_tag (by show 3 ≠ 28; decide), uA_tag (by show 3 ≠ 7; decide), uA_tag (by show 3 ≠ 11; decide), uA_tag (by show 3 ≠ 11; decide), uA_tag (by show 3 ≠ 11; decide), uA_tag (by show 3 ≠ 11; decide), uA_tag (by show 3 ≠ 11; decide), uA_tag (by show 3 ≠ 11; decide)]
      · intro f hf
        rw [← gw f hf]
        unfold cGr1
        rw [uA_tag (by show 11 ≠ 28; decide), uA_tag (by show 11 ≠ 28; decide), uA_tag (by show 11 ≠ 7; decide)]
        have hf' : f = 0 ∨ f = 1 ∨ f = 2 ∨ f = 3 ∨ f = 4 ∨ f = 5 := by omega
        rcases hf' with rfl | rfl | rfl | rfl | rfl | rfl
        · rw [uA_idx _ _ _ _ (by decide), uA_idx _ _ _ _ (by decide), uA_idx _ _ _ _ (by decide), uA_idx _ _ _ _ (by decide), uA_idx _ _ _ _ (by decide), uA_self]
        · rw [uA_idx _ _ _ _ (by decide), uA_idx _ _ _ _ (by decide), uA_idx _ _ _ _ (by decide), uA_idx _ _ _ _ (by decide), uA_self]
        · rw [uA_idx _ _ _ _ (by decide), uA_idx _ _ _ _ (by decide), uA_idx _ _ _ _ (by decide), uA_self]
        · rw [uA_idx _ _ _ _ (by decide), uA_idx _ _ _ _ (by decide), uA_self]
        · rw [uA_idx _ _ _ _ (by decide), uA_self]
        · rw [uA_self]
      · rw [o1]; intro z; exact absurd hj z
      · rw [o1]; intro z; exact absurd hj z
      · rw [o1]; intro z; exact absurd hj z
      · unfold cGr1
        rw [uA_tag (by show 7 ≠ 28; decide), uA_tag (by show 7 ≠ 28; decide), uA_idx _ _ _ _ (by decide), uA_tag (by show 7 ≠ 11; decide), uA_tag (by show 7 ≠ 11; decide), uA_tag (by show 7 ≠ 11; decide), uA_tag (by show 7 ≠ 11; decide), uA_tag (by show 7 ≠ 11; decide), uA_tag (by show 7 ≠ 11; decide), uA_tag (by show 7 ≠ 3; decide)]
        exact g.sd
    · have b3 : ∀ f, cGr1 (uA B (C_grow k) (i - 4) v) k (C_grow q) f = B (C_grow q) f := by
        intro f
        unfold cGr1
        rw [uA_tag (by show 3 ≠ 28; decide), uA_tag (by show 3 ≠ 28; decide), uA_tag (by show 3 ≠ 7; decide), uA_tag (by show 3 ≠ 11; decide), uA_tag (by show 3 ≠ 11; decide), uA_tag (by show 3 ≠ 11; decide), uA_tag (by show 3 ≠ 11; decide), uA_tag (by show 3 ≠ 11; decide), uA_tag (by show 3 ≠ 11; decide), uA_role _ _ _ _ (fun z => e (by injection z with _ z; injection z))]
      have b11 : ∀ f, cGr1 (uA B (C_grow k) (i - 4) v) k (H_grants q) f = B (H_grants q) f := by
        intro f
        have ne : H_grants q ≠ H_grants k := fun z => e (by injection z with _ z; injection z)
        unfold cGr1
        rw [uA_tag (by show 11 ≠ 28; decide), uA_tag (by show 11 ≠ 28; decide), uA_tag (by show 11 ≠ 7; decide), uA_role _ _ _ _ ne, uA_role _ _ _ _ ne, uA_role _ _ _ _ ne, uA_role _ _ _ _ ne, uA_role _ _ _ _ ne, uA_role _ _ _ _ ne, uA_tag (by show 11 ≠ 3; decide)]
      have b7 : ∀ f, cGr1 (uA B (C_grow k) (i - 4) v) k (H_o q) f = B (H_o q) f := by
        intro f
        have ne : H_o q ≠ H_o k := fun z => e (by injection z with _ z; injection z)
        unfold cGr1
        rw [uA_tag (by show 7 ≠ 28; decide), uA_tag (by show 7 ≠ 28; decide), uA_role _ _ _ _ ne, uA_tag (by show 7 ≠ 11; decide), uA_tag (by show 7 ≠ 11; decide), uA_tag (by show 7 ≠ 11; decide), uA_tag (by show 7 ≠ 11; decide), uA_tag (by show 7 ≠ 11; decide), uA_tag (by show 7 ≠ 11; decide), uA_tag (by show 7 ≠ 3; decide)]
      refine CGr.make ?_ ?_ ?_ ?_ ?_ ?_
      · intro f hf; rw [b3, ag, if_neg (by omega)]; exact g.gw f hf
      · intro f hf; rw [b11, ag, if_neg (by omega)]; exact g.gh f hf
      · rw [o1]; intro z; exact absurd hj z
      · rw [o1]; intro z; exact absurd hj z
      · rw [o1]; intro z; exact absurd hj z
      · rw [b7]; exact g.sd
  · intro q hq
    have hl := h.hl q hq
    have b7 : ∀ f, cGr1 (uA B (C_grow k) (i - 4) v) k (H_o q) f = if q = k ∧ f = 14 then (uA B (C_grow k) (i - 4) v) (C_grow k) 0 else B (H_o q) f := by
      intro f
      unfold cGr1
      rw [uA_tag (by show 7 ≠ 28; decide), uA_tag (by show 7 ≠ 28; decide)]
      by_cases e : q = k ∧ f = 14
      · rw [if_pos e, e.1, e.2, uA_self]
      · rw [if_neg e, uA_at, if_neg (fun z => e ⟨by injection z.1 with _ z; injection z, z.2⟩), uA_tag (by show 7 ≠ 11; decide), uA_tag (by show 7 ≠ 11; decide), uA_tag (by show 7 ≠ 11; decide), uA_tag (by show 7 ≠ 11; decide), uA_tag (by show 7 ≠ 11; decide), uA_tag (by show 7 ≠ 11; decide), uA_tag (by show 7 ≠ 3; decide)]
    refine CHl.make ?_ ?_ ?_ ?_ ?_ ?_ ?_ ?_
    · rw [b7, if_neg (by omega), ao _ _ (by decide) (by decide) (by decide)]; exact hl.lal
    · rw [b7, if_neg (by omega), ao _ _ (by decide) (by decide) (by decide)]; exact hl.bla
    · rw [b7, if_neg (by omega), hR.sa]; exact hl.sal
    · rw [b7, if_neg (by omega), hl.ral]; exact (sumTo_congr (fun f _ => ao _ _ (by decide) (by decide) (by decide))).symm
    · rw [b7, if_neg (by omega), hl.cal]; exact (sumTo_congr (fun f _ => (es q f).eco)).symm
    · rw [b7, ad]
      by_cases e : q = k
      · subst e
        rw [if_pos ⟨rfl, rfl⟩, gw 0 (by decide), ag]
        by_cases z : i = 4
        · rw [if_pos (by omega), if_pos ⟨z, rfl⟩]
        · rw [if_neg (by omega), if_neg (fun y => z y.1)]; exact uk.2.1.symm
      · rw [if_neg (fun z => e z.1), if_neg (fun z => e z.2)]; exact hl.gal
    · rw [b7, if_neg (by omega), ao _ _ (by decide) (by decide) (by decide)]; exact hl.lst
    · rw [b7, if_neg (by omega), ao _ _ (by decide) (by decide) (by decide)]; exact hl.tel
  · intro q w hq hw
    have t := h.wys q w hq hw
    have b28 : ∀ f, cGr1 (uA B (C_grow k) (i - 4) v) k (W_o q w) f = if q = k ∧ f = 2 then (uA B (C_grow k) (i - 4) v) (C_grow k) (4 + w) else B (W_o q w) f := by
      intro f
      unfold cGr1
      refine ww _ _ _ _ hw f ?_ ?_
      · rfl
      · have hw' : w = 0 ∨ w = 1 := by omega
        rcases hw' with rfl | rfl <;> rfl
    refine CWy.make ?_ ?_ ?_ ?_ ?_ ?_ ?_ ?_
    · rw [b28, if_neg (by omega), ao _ _ (by decide) (by decide) (by decide)]; exact t.opn
    · rw [b28, if_neg (by omega), ao _ _ (by decide) (by decide) (by decide)]; exact t.thr
    · rw [b28, aw]
      by_cases e : q = k
      · subst e
        have u := ((h.tk q hq).unw hj w hw).2.2.2.2
        rw [if_pos ⟨rfl, rfl⟩, gw (4 + w) (by omega), ag]
        by_cases z : i = 8 + w
        · rw [if_pos (by omega), if_pos (by omega)]
        · rw [if_neg (by omega), if_neg (by omega), show 16 * q + 4 + (4 + w) = 16 * q + 8 + w by omega]; exact u.symm
      · rw [if_neg (fun z => e z.1), if_neg (by omega)]; exact t.grt
    · rw [b28, if_neg (by omega), ao _ _ (by decide) (by decide) (by decide)]; exact t.lim
    · rw [b28, if_neg (by omega), ao _ _ (by decide) (by decide) (by decide), ao _ _ (by decide) (by decide) (by decide), ao _ _ (by decide) (by decide) (by decide)]; exact t.ref
    · rw [b28, if_neg (by omega), ao _ _ (by decide) (by decide) (by decide)]; exact t.rle
    · rw [b28, if_neg (by omega), ao _ _ (by decide) (by decide) (by decide)]; exact t.tld
    · rw [b28, if_neg (by omega), ao _ _ (by decide) (by decide) (by decide)]; exact t.tel
  · intro q j hq hj2 hE; rw [(no q j hq hj2).2.1] at hE; cases hE
  · intro q j hq hj2 hE; rw [(no q j hq hj2).2.2] at hE; cases hE
  · intro q hq
    obtain ⟨ch, t⟩ := h.st q hq
    exact ⟨ch, t.cg (fun t f h1 h2 => bo _ _ (by show t ≠ 3; omega) (by show t ≠ 11; omega) (by show t ≠ 7; omega) (by show t ≠ 28; omega)) (fun j => ⟨rfl, rfl⟩) (hR.tot _) (fun _ => hR.val _) (fun _ => hR.pos)⟩
  · intro q hq
    obtain ⟨ch, fl, t⟩ := h.sp q hq
    exact ⟨ch, fl, t.cg (fun t f h1 h2 => bo _ _ (by show t ≠ 3; omega) (by show t ≠ 11; omega) (by show t ≠ 7; omega) (by show t ≠ 28; omega)) (fun j => ⟨rfl, rfl⟩) (fun _ => hR.wl) (fun _ _ => hR.mka)⟩
  · intro q hq
    obtain ⟨ch, fl, t⟩ := h.bl q hq
    exact ⟨ch, fl, t.cg (fun t f h1 h2 => bo _ _ (by show t ≠ 3; omega) (by show t ≠ 11; omega) (by show t ≠ 7; omega) (by show t ≠ 28; omega)) (fun j => rfl) (hP.pcs _) (fun _ => ao _ _ (by decide) (by decide) (by decide)) (fun _ => ao _ _ (by decide) (by decide) (by decide)) (fun _ _ => hP.pa) (fun _ _ => hP.hasB) (fun _ _ => hP.bt)⟩
  · intro p hp
    exact (h.ln p hp).cg ol (fun f => rfl) (fun f => rfl)
theorem call_grant (h : Rel Any n E A B) (x1 x2 x3 : Int) : ∃ A' B' w, g_X8_grant A x1 x2 x3 = some A' ∧ g_X1_grant B x1 x2 x3 = some (B', w) ∧ Rel Any (n + 1) E A' B' ∧ AnsU wI A' w := by
  have e53 : g_X1_grant_53 B x1 x2 x3 0 = some (B, .inl 1) := by
    unfold g_X1_grant_53
    rw [c_need0, bd_v, hXW_l]
  unfold g_X1_grant g_X1_grant_52 g_X1_grant_42 g_X1_grant_52
  rw [e53]
  by_cases q : 0 ≤ x1 ∧ x1 ≤ 1 ∧ 4 ≤ x2 ∧ x2 ≤ 9 ∧ 0 ≤ x3 ∧ (x2 ≤ 7 → x3 ≤ 65536) ∧ (7 < x2 → x3 ≤ 64)
  · obtain ⟨k, rfl⟩ := Int.eq_ofNat_of_zero_le q.1
    obtain ⟨i, rfl⟩ := Int.eq_ofNat_of_zero_le (show 0 ≤ x2 by omega)
    have hk : k < 2 := by omega
    have tg := t_grant_good (A := A) hk (by omega : 4 ≤ i) (by omega) q.2.2.2.2.1 (fun z => q.2.2.2.2.2.1 (by omega)) (fun z => q.2.2.2.2.2.2 (by omega)) h.tb.jnd
    have e1 : g_X1_grant_53 B k i x3 1 = some (if A M_o 1 = 0 then (cGr1 (uA B (C_grow k) (i - 4) x3) k, .inr ()) else (B, .inl 2)) := by
      unfold g_X1_grant_53 g_X1_grant_68
      rw [c_need1, bd_v, hXW_r, h.top.jnd]
      by_cases z : A M_o 1 = 0
      · rw [if_neg (fun y => y z), if_pos z, c_ready1, bd_v, hXW_r, hA_ok (by omega) (by omega), hA_ok (by omega) (by omega), gS_v, tkN, show ((i : Int) - 4).toNat = i - 4 by omega, c_allow hk, bd_v]
      · rw [if_pos z, if_neg z, c_ready0, bd_v, hXW_l]
    rw [e1, c_in1 (by omega), bd_v, if_neg (show ¬ ((1 : Int) = 0) by decide), c_in1 (by omega), bd_v, if_neg (show ¬ ((1 : Int) = 0) by decide)]
    have fin : ∃ A' B' w, g_X8_grant A k i x3 = some A' ∧ (some (if A M_o 1 = 0 then (cGr1 (uA B (C_grow k) (i - 4) x3) k, .inr ()) else (B, .inl 2)) : Option (AM × (Nat ⊕ Unit))) = some (B', w) ∧ Rel Any (n + 1) E A' B' ∧ AnsU wI A' w := by
      rw [tg]
      by_cases z : A M_o 1 = 0
      · rw [if_pos z, if_pos z]
        have r := ((h.o0 (v := 0) (Nat.le_refl _)).o0 (v := 0) (Nat.le_refl _)).grant hk (i := i) (v := x3) (by omega) (by omega) q.2.2.2.2.1 (fun z => q.2.2.2.2.2.1 (by omega)) (fun z => q.2.2.2.2.2.2 (by omega)) z
        refine ⟨_, _, _, rfl, rfl, r, ?_⟩
        show aGrant (uA (uA A M_o 0 0) M_o 0 0) k i x3 M_o 0 = 0
        unfold aGrant
        split
        · rfl
        · split <;> rfl
      · rw [if_neg z, if_neg z]
        exact ⟨_, _, _, rfl, rfl, (h.o0 (v := 0) (Nat.le_refl _)).o0 (v := 2) (by omega), rfl⟩
    by_cases z : (8 : Int) ≤ i
    · rw [if_pos z, c_in1 (by have := q.2.2.2.2.2.2 (by omega); omega), bd_v, if_neg (show ¬ ((1 : Int) = 0) by decide)]
      exact fin
    · rw [if_neg z, c_in1 (by have := q.2.2.2.2.2.1 (by omega); omega), bd_v, if_neg (show ¬ ((1 : Int) = 0) by decide)]
      exact fin
  · refine ⟨_, B, .inl 1, t_grant_bad q, ?_, h.o0 (v := 1) (by omega), rfl⟩
    rw [c_in, bd_v]
    by_cases q1 : 0 ≤ x1 ∧ x1 ≤ 1
    · rw [if_neg (by rw [decide_eq_true q1]; decide), c_in, bd_v]
      by_cases q2 : 4 ≤ x2 ∧ x2 ≤ 9
      · rw [if_neg (by rw [decide_eq_true q2]; decide)]
        by_cases q3 : 8 ≤ x2
        · rw [if_pos q3, c_in0 (by omega), bd_v, if_pos rfl]
        · rw [if_neg q3, c_in0 (by omega), bd_v, if_pos rfl]
      · rw [if_pos (by rw [decide_eq_false q2]; decide)]
    · rw [if_pos (by rw [decide_eq_false q1]; decide)]
end GRJ
