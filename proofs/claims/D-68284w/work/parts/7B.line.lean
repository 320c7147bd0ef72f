section LNE
variable {A A' B B' : AM} {E : L3 → Bool} {k j n n' : Nat} {P : Nat → Nat → Prop}
/-- a change on the line -/
theorem Rel.line (h : Rel P n E A B) (hn : n ≤ n') (oA : ∀ (r : L3) (f : Nat), (r.1 < 52 ∨ 61 < r.1) → A' r f = A r f) (oB : ∀ (r : L3) (f : Nat), (r.1 < 31 ∨ 32 < r.1) → B' r f = B r f) (tl : ∀ p, p < 64 → TL A' p) (tf : TF A') (ln : ∀ p, p < 64 → CLn A' B' p) : Rel P n' E A' B' := by
  have hT := h.tb
  have hR : SameR A A' := SameR.make (fun f => oA _ _ (by decide)) (fun f => oA _ _ (by decide)) (fun f => oA _ _ (by decide)) (fun f => oA _ _ (by decide))
  have hP : SameP A A' := SameP.make (fun f => oA _ _ (by decide)) (fun f => oA _ _ (by decide)) (fun f => oA _ _ (by decide)) (fun f => oA _ _ (by decide)) (fun f => oA _ _ (by decide))
  have es : ∀ q i, EqS A A' q i := fun q i => EqS.same hR hP (fun t h1 h2 => oA _ _ (by show t < 52 ∨ 61 < t; omega))
  have o := fun (r : L3) (f : Nat) (hr : r.1 < 52 ∨ 61 < r.1) => oA r f hr
  refine Rel.make ?_ (h.pf.cg hP.pcs hP.has) (fun q i hq hi => (h.ts q i hq hi).cg (es q i)) ?_ (fun q i hq hi hp => (h.ov q i hq hi hp).cg (es q i)) ?_ tl tf (h.cnt.cg hn hR hP (by rw [o _ _ (by decide)]; exact Int.le_refl _)) ?_ ?_ ?_ ?_ ?_ ?_ ?_ ?_ ?_ ?_ ?_ ?_ ln
  · refine TB.make ?_ ?_ ?_ ?_ ?_ ?_ ?_ ?_ ?_ ?_ ?_ ?_ ?_ ?_ ?_ ?_ ?_ ?_ ?_ ?_ ?_ ?_ ?_ ?_ ?_ ?_
    · rw [o _ _ (by decide)]; exact hT.jnd
    · rw [o _ _ (by decide)]; exact hT.tap
    · intro k; rw [o _ _ (by decide)]; exact hT.tpv k
    · rw [o _ _ (by decide)]; exact hT.out
    · intro k hk; rw [o _ _ (by decide)]; exact hT.tot k hk
    · intro k; rw [o _ _ (by decide)]; exact hT.mrk k
    · intro k; rw [o _ _ (by decide)]; exact hT.val k
    · intro k hk; rw [o _ _ (by decide)]; exact hT.pcs k hk
    · intro k; rw [o _ _ (by decide)]; exact hT.cam k
    · intro k j oo hk hj ho; rw [hP.hasB] at ho; exact hT.hsb k j oo hk hj ho
    · intro k j hk hj; rw [o _ _ (by decide)]; exact hT.rds k j hk hj
    · intro k j hk hj; rw [o _ _ (by decide)]; exact hT.res k j hk hj
    · intro k j hk hj; rw [o _ _ (by decide)]; exact hT.hig k j hk hj
    · intro k j hk hj; rw [o _ _ (by decide)]; exact hT.siz k j hk hj
    · intro k j hk hj; rw [o _ _ (by decide), o _ _ (by decide)]; exact hT.wrs k j hk hj
    · intro k i hk h1 h2; rw [o _ _ (by decide)]; exact hT.gra k i hk h1 h2
    · intro w hw; rw [o _ _ (by decide)]; exact hT.grt w hw
    · intro w hw; rw [o _ _ (by decide)]; exact hT.opn w hw
    · intro w hw; rw [o _ _ (by decide)]; exact hT.thr w hw
    · intro w hw; rw [o _ _ (by decide)]; exact hT.dgr w hw
    · intro k j hk hj; rw [o _ _ (by decide)]; exact hT.grs k j hk hj
    · intro k j hk hj; rw [o _ _ (by decide)]; exact hT.lim k j hk hj
    · intro w hw; rw [o _ _ (by decide)]; exact hT.lms w hw
    · intro w hw; rw [o _ _ (by decide)]; exact hT.lst w hw
    · intro k j hk hj; rw [o _ _ (by decide)]; exact hT.stc k j hk hj
    · intro k j hk hj; rw [o _ _ (by decide)]; exact hT.cod k j hk hj
  · intro q i hq hi
    have := h.th q i hq hi
    unfold TH at this ⊢
    rw [o _ _ (by decide), o _ _ (by decide), o _ _ (by decide)]; exact this
  · intro q hq
    exact (h.tk q hq).cg (o _ _ (by decide)) (fun t f h1 h2 _ => o _ _ (by show t < 52 ∨ 61 < t; omega)) (o _ _ (by decide)) (o _ _ (by decide))
  · intro q hq; rw [oB _ _ (by show 17 < 31 ∨ 32 < 17; decide)]; have := h.nst q hq; omega
  · intro q hq; rw [oB _ _ (by show 13 < 31 ∨ 32 < 13; decide)]; have := h.nsp q hq; omega
  · intro q i hq hi; rw [o _ _ (by decide)]; exact h.ex q i hq hi
  · have tp := h.top
    refine CTop.make ?_ ?_ ?_ ?_ ?_ ?_
    · rw [oB _ _ (by decide), o _ _ (by decide)]; exact tp.tap
    · rw [oB _ _ (by decide), o _ _ (by decide)]; exact tp.mad
    · rw [oB _ _ (by decide), o _ _ (by decide)]; exact tp.jnd
    · intro i hi; rw [oB _ _ (by decide), o _ _ (by decide)]; exact tp.tpe i hi
    · intro i hi; rw [oB _ _ (by decide), o _ _ (by decide)]; exact tp.out i hi
    · intro i; rw [o _ _ (by decide)]; exact tp.ovl i
  · intro q hq
    exact gr_cg (o _ _ (by decide)) (fun f => o _ _ (by decide)) (fun i => oB _ _ (by show 3 < 31 ∨ 32 < 3; decide)) (fun i => oB _ _ (by show 11 < 31 ∨ 32 < 11; decide)) (fun i => oB _ _ (by show 12 < 31 ∨ 32 < 12; decide)) (oB _ _ (by show 7 < 31 ∨ 32 < 7; decide)) (h.gr q hq)
  · intro q hq
    exact (h.hl q hq).cg (o _ _ (by decide)) (o _ _ (by decide)) hR.sa (sumTo_congr (fun i _ => o _ _ (by decide))) (sumTo_congr (fun i _ => (es q i).eco)) (o _ _ (by decide)) (o _ _ (by decide)) (o _ _ (by decide)) (fun f _ _ => oB _ _ (by show 7 < 31 ∨ 32 < 7; decide))
  · intro q w hq hw
    exact (h.wys q w hq hw).cg (o _ _ (by decide)) (o _ _ (by decide)) (o _ _ (by decide)) (o _ _ (by decide)) (o _ _ (by decide)) (o _ _ (by decide)) (o _ _ (by decide)) (fun f => oB _ _ (by show 28 < 31 ∨ 32 < 28; decide))
  · intro q i hq hi hE; exact (h.sd q i hq hi hE).cg (es q i) (fun f _ _ _ _ => oB _ _ (by show 29 < 31 ∨ 32 < 29; decide))
  · intro q i hq hi hE; exact (h.rv q i hq hi hE).cg (es q i) (o _ _ (by decide)) (fun f _ => oB _ _ (by show 30 < 31 ∨ 32 < 30; decide))
  · intro q hq
    obtain ⟨ch, t⟩ := h.st q hq
    exact ⟨ch, t.cg (fun t f h1 h2 => oB _ _ (by show t < 31 ∨ 32 < t; omega)) (fun i => ⟨oB _ _ (by show 29 < 31 ∨ 32 < 29; decide), oB _ _ (by show 29 < 31 ∨ 32 < 29; decide)⟩) (hR.tot _) (fun _ => hR.val _) (fun _ => hR.pos)⟩
  · intro q hq
    obtain ⟨ch, fl, t⟩ := h.sp q hq
    exact ⟨ch, fl, t.cg (fun t f h1 h2 => oB _ _ (by show t < 31 ∨ 32 < t; omega)) (fun i => ⟨oB _ _ (by show 29 < 31 ∨ 32 < 29; decide), oB _ _ (by show 29 < 31 ∨ 32 < 29; decide)⟩) (fun _ => hR.wl) (fun _ _ => hR.mka)⟩
  · intro q hq
    obtain ⟨ch, fl, t⟩ := h.bl q hq
    exact ⟨ch, fl, t.cg (fun t f h1 h2 => oB _ _ (by show t < 31 ∨ 32 < t; omega)) (fun i => oB _ _ (by show 30 < 31 ∨ 32 < 30; decide)) (hP.pcs _) (fun _ => o _ _ (by decide)) (fun _ => o _ _ (by decide)) (fun _ _ => hP.pa) (fun _ _ => hP.hasB) (fun _ _ => hP.bt)⟩
end LNE
