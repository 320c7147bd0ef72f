section FLN
variable {A A' B B' : AM} {E : L3 → Bool} {k j n p : Nat} {room : Int}
def aPl (A' : AM) (p k : Nat) : AM := aLn (aLine A' p k) p (A' M_o 49).toNat
theorem aPl_o (r : L3) (f : Nat) (h : r.1 < 52 ∨ 61 < r.1) : aPl A' p k r f = A' r f := by
  unfold aPl aLn
  rw [if_neg (fun z => by have := congrArg Prod.fst z.1; dsimp only at this; omega)]
  unfold aLine
  rw [uA_tag (by dsimp only; omega), uA_tag (by dsimp only; omega), uA_tag (by dsimp only; omega), uA_tag (by dsimp only; omega), uA_tag (by dsimp only; omega), uA_tag (by dsimp only; omega), uA_tag (by dsimp only; omega), uA_tag (by dsimp only; omega), uA_tag (by dsimp only; omega)]
theorem aPl_q (t q : Nat) (h : q ≠ p) (ht : t ≠ 61) : aPl A' p k (t, 0, 0) q = A' (t, 0, 0) q := by
  unfold aPl aLn
  rw [if_neg (fun z => by have := congrArg Prod.fst z.1; exact ht this)]
  unfold aLine
  rw [uA_at, if_neg (fun z => h z.2), uA_at, if_neg (fun z => h z.2), uA_at, if_neg (fun z => h z.2), uA_at, if_neg (fun z => h z.2), uA_at, if_neg (fun z => h z.2), uA_at, if_neg (fun z => h z.2), uA_at, if_neg (fun z => h z.2), uA_at, if_neg (fun z => h z.2), uA_at, if_neg (fun z => h z.2)]
theorem aPl_d {i : Nat} : aPl A' p k M_lineData i = if 1200 * p ≤ i ∧ i < 1200 * p + (A' M_o 49).toNat then A' M_fData (i - 1200 * p) else A' M_lineData i := by
  unfold aPl aLn
  by_cases q : 1200 * p ≤ i ∧ i < 1200 * p + (A' M_o 49).toNat
  · rw [if_pos ⟨rfl, q⟩, if_pos q]; rfl
  · rw [if_neg (fun z => q z.2), if_neg q]; rfl
theorem aPl_p : aPl A' p k M_lineUsed p = 1 ∧ aPl A' p k M_lineSide p = k ∧ aPl A' p k M_lineKind p = A' M_o 45 ∧ aPl A' p k M_lineA p = A' M_o 46 ∧ aPl A' p k M_lineB p = A' M_o 47 ∧ aPl A' p k M_lineC p = A' M_o 48 ∧ aPl A' p k M_lineSize p = A' M_o 49 ∧ aPl A' p k M_lineBytes p = fby A' ∧ aPl A' p k M_delivered p = 0 := by
  refine ⟨?_, ?_, ?_, ?_, ?_, ?_, ?_, ?_, ?_⟩
  · exact uA_self A' M_lineUsed p 1
  · exact uA_self A' M_lineSide p k
  · exact uA_self A' M_lineKind p (A' M_o 45)
  · exact uA_self A' M_lineA p (A' M_o 46)
  · exact uA_self A' M_lineB p (A' M_o 47)
  · exact uA_self A' M_lineC p (A' M_o 48)
  · exact uA_self A' M_lineSize p (A' M_o 49)
  · exact uA_self A' M_lineBytes p (fby A')
  · exact uA_self A' M_delivered p 0
/-- the component's place on the line -/
def cPl (B : AM) (p k : Nat) (by_ : Int) : AM := cpA (uA (uA (uA (uA (uA (uA (uA (uA (uA B (L_o p) 0 1) (L_o p) 1 0) (L_o p) 2 k) (L_o p) 3 (B (H_o k) 17)) (L_o p) 6 (B (H_o k) 19)) (L_o p) 7 (B (H_o k) 20)) (L_o p) 8 (B (H_o k) 21)) (L_o p) 4 (B (H_o k) 18)) (L_o p) 5 by_) (H_row k) (L_row p) 0 0 (B (H_o k) 18).toNat
theorem cPl_o {by_ : Int} (r : L3) (f : Nat) (h : r ≠ L_o p) (h2 : r ≠ L_row p) : cPl B p k by_ r f = B r f := by
  unfold cPl cpA
  rw [if_neg h2, uA_role _ _ _ _ h, uA_role _ _ _ _ h, uA_role _ _ _ _ h, uA_role _ _ _ _ h, uA_role _ _ _ _ h, uA_role _ _ _ _ h, uA_role _ _ _ _ h, uA_role _ _ _ _ h, uA_role _ _ _ _ h]
theorem cPl_l {by_ : Int} {f : Nat} (h : f ≤ 8) : cPl B p k by_ (L_o p) f = if f = 0 then 1 else if f = 1 then 0 else if f = 2 then (k : Int) else if f = 3 then B (H_o k) 17 else if f = 4 then B (H_o k) 18 else if f = 5 then by_ else if f = 6 then B (H_o k) 19 else if f = 7 then B (H_o k) 20 else B (H_o k) 21 := by
  unfold cPl cpA
  rw [if_neg (fun z => by injection z with z; cases z), uA_at, uA_at, uA_at, uA_at, uA_at, uA_at, uA_at, uA_at, uA_at]
  have hf : f = 0 ∨ f = 1 ∨ f = 2 ∨ f = 3 ∨ f = 4 ∨ f = 5 ∨ f = 6 ∨ f = 7 ∨ f = 8 := by omega
  rcases hf with rfl | rfl | rfl | rfl | rfl | rfl | rfl | rfl | rfl <;> simp
theorem cPl_r {by_ : Int} {i : Nat} : cPl B p k by_ (L_row p) i = if i < (B (H_o k) 18).toNat then B (H_row k) i else B (L_row p) i := by
  unfold cPl cpA
  rw [if_pos rfl, cpy_at]
  have e1 : ∀ (g v : Nat) (x : Int) (C : AM), uA C (L_o g) v x (H_row k) = C (H_row k) := fun g v x C => by funext z; exact uA_tag (by show 27 ≠ 31; decide)
  have e2 : ∀ (g v : Nat) (x : Int) (C : AM), uA C (L_o g) v x (L_row p) = C (L_row p) := fun g v x C => by funext z; exact uA_tag (by show 32 ≠ 31; decide)
  simp only [e1, e2, Nat.zero_le, true_and, Nat.zero_add, Nat.sub_zero]
/-- the frame takes its place -/
theorem Rel.place (h : Rel Any n E A B) (hk : k < 2) (hp : p < 64) (hu : A M_lineUsed p = 0) (hx : xF A k room = some A') (hr : room ≤ 1200) (R : Rel Any (n + 1) E A' B') {kind a b m : Nat} {c : Int} (nf : NewF A A' k kind a b m c) (e17 : B' (H_o k) 17 = A' M_o 45) (e19 : B' (H_o k) 19 = A' M_o 46) (e20 : B' (H_o k) 20 = A' M_o 47) (e21 : B' (H_o k) 21 = A' M_o 48) (e18 : B' (H_o k) 18 = A' M_o 49) (erow : ∀ i : Nat, (i : Int) < A' M_o 49 → B' (H_row k) i = A' M_fData i) : Rel Any (n + 1) E (aPl A' p k) (cPl B' p k (fby A')) := by
  obtain ⟨f1, f2, f3, f4, f5, f6, f7, f8, f9, f10, f11, f12, f13, f14, f15, f16, f17, f18⟩ := nf
  obtain ⟨p1, p2, p3, p4, p5, p6, p7, p8, p9⟩ := aPl_p (A' := A') (p := p) (k := k)
  obtain ⟨-, -, m', -, -, gm, gm2, -, gd⟩ := xF_frm h.tb hk hr hx
  have em : m' = m := by omega
  subst em
  have o := fun (r : L3) (f : Nat) (hr : r.1 < 52 ∨ 61 < r.1) => aPl_o (A' := A') (p := p) (k := k) r f hr
  have hR : SameR A' (aPl A' p k) := SameR.make (fun f => o _ _ (by decide)) (fun f => o _ _ (by decide)) (fun f => o _ _ (by decide)) (fun f => o _ _ (by decide))
  have ol : ∀ q, A' M_lineUsed q = A M_lineUsed q ∧ A' M_lineSide q = A M_lineSide q ∧ A' M_lineKind q = A M_lineKind q ∧ A' M_lineA q = A M_lineA q ∧ A' M_lineB q = A M_lineB q ∧ A' M_lineSize q = A M_lineSize q := fun q => ⟨xF_x hx rfl q, xF_x hx rfl q, xF_x hx rfl q, xF_x hx rfl q, xF_x hx rfl q, xF_x hx rfl q⟩
  refine R.line (Nat.le_refl _) o (fun r f hr => ?_) ?_ ?_ ?_
  · exact cPl_o r f (fun z => by have := congrArg Prod.fst z; dsimp only at this; omega) (fun z => by have := congrArg Prod.fst z; dsimp only at this; omega)
  · intro q hq
    have T := R.tl q hq
    have dat : ∀ i, i < 1200 → -128 ≤ aPl A' p k M_lineData (1200 * q + i) ∧ aPl A' p k M_lineData (1200 * q + i) < 128 := by
      intro i hi
      rw [aPl_d]
      split
      · rename_i z; rw [gm] at z; exact gd _ (by omega)
      · exact T.dat i hi
    by_cases qp : q = p
    · subst qp
      refine TL.make (Or.inr p1) (Or.inl p9) ?_ dat
      intro _
      refine ⟨k, kind, a, b, m', c, p2, hk, by rw [p3]; exact f1, by rw [p4]; exact f2, by rw [p5]; exact f3, by rw [p7]; exact f4, by rw [p6]; exact f5, f6, f7, f8, f9, f10, f11, f12, f13, ?_, ?_, ?_, ?_⟩
      · intro z; rw [o _ _ (by decide)]; exact f14 z
      · intro z; rw [o _ _ (by decide)]; exact f15 z
      · intro z; rw [o _ _ (by decide)]; exact f16 z
      · intro z
        obtain ⟨g1, g2, g3, g4⟩ := f17 z
        refine ⟨by rw [hR.wl]; exact g1, fun x h1 h2 => by rw [hR.mka]; exact g2 x h1 h2, g3, fun y => by rw [o _ _ (by decide)]; exact g4 y⟩
    · refine TL.make ?_ ?_ ?_ dat
      · rw [aPl_q _ _ qp (by decide)]; exact T.u01
      · rw [aPl_q _ _ qp (by decide)]; exact T.d01
      · rw [aPl_q _ _ qp (by decide)]
        intro z
        obtain ⟨k', kind', a', b', n', c', l1, l2, l3, l4, l5, l6, l7, l8, l9, l10, l11, l12, l13, l14, l15, l16, l17, l18, l19⟩ := T.frm z
        refine ⟨k', kind', a', b', n', c', by rw [aPl_q _ _ qp (by decide)]; exact l1, l2, by rw [aPl_q _ _ qp (by decide)]; exact l3, by rw [aPl_q _ _ qp (by decide)]; exact l4, by rw [aPl_q _ _ qp (by decide)]; exact l5, by rw [aPl_q _ _ qp (by decide)]; exact l6, by rw [aPl_q _ _ qp (by decide)]; exact l7, l8, l9, l10, l11, l12, l13, l14, l15, ?_, ?_, ?_, ?_⟩
        · intro z; rw [o _ _ (by decide)]; exact l16 z
        · intro z; rw [o _ _ (by decide)]; exact l17 z
        · intro z; rw [o _ _ (by decide)]; exact l18 z
        · intro z
          obtain ⟨g1, g2, g3, g4⟩ := l19 z
          refine ⟨by rw [hR.wl]; exact g1, fun x h1 h2 => by rw [hR.mka]; exact g2 x h1 h2, g3, fun y => by rw [o _ _ (by decide)]; exact g4 y⟩
  · -- apart
    have key : ∀ q, q < 64 → q ≠ p → aPl A' p k M_lineUsed q ≠ 0 → aPl A' p k M_lineKind p = 8 → aPl A' p k M_lineKind q = 8 → aPl A' p k M_lineSide p = aPl A' p k M_lineSide q → aPl A' p k M_lineA p = aPl A' p k M_lineA q → 0 < aPl A' p k M_lineSize p → 0 < aPl A' p k M_lineSize q → aPl A' p k M_lineB p + aPl A' p k M_lineSize p ≤ aPl A' p k M_lineB q ∨ aPl A' p k M_lineB q + aPl A' p k M_lineSize q ≤ aPl A' p k M_lineB p := by
      intro q hq qp u kp kq sq aq sp sq2
      obtain ⟨y1, y2, y3, y4, y5, y6⟩ := ol q
      rw [aPl_q _ _ qp (by decide), y1] at u
      rw [aPl_q _ _ qp (by decide), y3] at kq
      rw [aPl_q _ _ qp (by decide), y2, p2] at sq
      rw [aPl_q _ _ qp (by decide), y4, p4, f2] at aq
      rw [aPl_q _ _ qp (by decide), y6] at sq2
      rw [p7, f4] at sp
      rw [p3, f1] at kp
      rw [aPl_q _ _ qp (by decide), aPl_q _ _ qp (by decide), y5, y6, p5, p7, f3, f4]
      obtain ⟨k', kind', a', b', n', c', l1, l2, l3, l4, l5, l6, l7, l8, l9, l10, l11, l12, l13, l14, l15, l16, l17, l18, l19⟩ := (h.tl q hq).frm u
      have ka : k' = k := by omega
      have kk : kind' = 8 := by omega
      have aa : a' = a := by omega
      subst ka kk aa
      obtain ⟨g1, g2, -, -⟩ := l19 rfl
      have f18' := f18 (by omega)
      rw [l5, l6]
      rw [l6] at sq2
      by_cases w : b + m' ≤ b' ∨ b' + n' ≤ b
      · omega
      · exfalso
        by_cases w2 : b ≤ b'
        · exact f18' b' w2 (by omega) (g2 b' (by omega) (by omega))
        · exact f18' b (by omega) (by omega) (g2 b (by omega) (by omega))
    intro q q' hq hq' hne u u' kq kq' sq aq s1 s2
    by_cases z : q = p
    · subst z
      exact key q' hq' (fun y => hne y.symm) u' kq kq' sq aq s1 s2
    · by_cases z' : q' = p
      · subst z'
        have := key q hq z u kq' kq sq.symm aq.symm s2 s1
        omega
      · rw [aPl_q _ _ z (by decide)] at u kq sq aq s1 ⊢
        rw [aPl_q _ _ z' (by decide)] at u' kq' sq aq s2 ⊢
        rw [aPl_q _ _ z (by decide), aPl_q _ _ z' (by decide)]
        exact R.tf q q' hq hq' hne u u' kq kq' sq aq s1 s2
  · intro q hq
    have L := R.ln q hq
    by_cases qp : q = p
    · subst qp
      refine CLn.make ?_ ?_ ?_ ?_ ?_ ?_ ?_ ?_ ?_ ?_
      · rw [cPl_l (by decide), p1]; rfl
      · rw [cPl_l (by decide), p9]; rfl
      · rw [cPl_l (by decide), p2]; rfl
      · rw [cPl_l (by decide), p3, ← e17]; rfl
      · rw [cPl_l (by decide), p7, ← e18]; rfl
      · rw [cPl_l (by decide), p8]; rfl
      · rw [cPl_l (by decide), p4, ← e19]; rfl
      · rw [cPl_l (by decide), p5, ← e20]; rfl
      · rw [cPl_l (by decide), p6, ← e21]; rfl
      · intro i hi
        rw [cPl_r, aPl_d, e18]
        by_cases z : i < (A' M_o 49).toNat
        · rw [if_pos z, if_pos (by omega), show 1200 * q + i - 1200 * q = i by omega]
          exact erow i (by omega)
        · rw [if_neg z, if_neg (by omega)]
          exact L.row i hi
    · have ne1 : ∀ f, cPl B' p k (fby A') (L_o q) f = B' (L_o q) f := fun f => cPl_o _ _ (fun z => qp (by have := congrArg (fun r : L3 => r.2.2) z; exact this)) (fun z => by injection z with z; cases z)
      refine CLn.make ?_ ?_ ?_ ?_ ?_ ?_ ?_ ?_ ?_ ?_
      · rw [ne1, aPl_q _ _ qp (by decide)]; exact L.tak
      · rw [ne1, aPl_q _ _ qp (by decide)]; exact L.del
      · rw [ne1, aPl_q _ _ qp (by decide)]; exact L.sid
      · rw [ne1, aPl_q _ _ qp (by decide)]; exact L.knd
      · rw [ne1, aPl_q _ _ qp (by decide)]; exact L.siz
      · rw [ne1, aPl_q _ _ qp (by decide)]; exact L.byt
      · rw [ne1, aPl_q _ _ qp (by decide)]; exact L.la
      · rw [ne1, aPl_q _ _ qp (by decide)]; exact L.lb
      · rw [ne1, aPl_q _ _ qp (by decide)]; exact L.lc
      · intro i hi
        rw [cPl_o _ _ (fun z => by injection z with z; cases z) (fun z => qp (by have := congrArg (fun r : L3 => r.2.2) z; exact this)), aPl_d, if_neg (by omega)]
        exact L.row i hi
end FLN
