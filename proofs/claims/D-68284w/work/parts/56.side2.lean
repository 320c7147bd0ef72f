section SD2
variable {A A' B B' : AM} {E : L3 → Bool} {k j n n' : Nat} {P P' : Nat → Nat → Prop}
theorem gr_cg (o1 : A' M_o 1 = A M_o 1) (og : ∀ f, A' M_grants f = A M_grants f) (b1 : ∀ i, B' (C_grow k) i = B (C_grow k) i) (b2 : ∀ i, B' (H_grants k) i = B (H_grants k) i) (b3 : ∀ i, B' (H_limits k) i = B (H_limits k) i) (b4 : B' (H_o k) 0 = B (H_o k) 0) (t : CGr A B k) : CGr A' B' k := by
  unfold CGr
  simp only [o1, og, b1, b2, b3, b4]
  exact t
/-- a change on side k, in stream j -/
theorem Rel.side (h : Rel P n E A B) (hk : k < 2) (hj : j < 256) (oA : Out (fA k) A A') (oB : Out (gB k) B B') (hn : n ≤ n')
  (tb : TB A') (pf : PF A') (es : ∀ i, i < 256 → i ≠ j → EqS A A' k i)
  (bs : ∀ i, i < 256 → i ≠ j → ∀ f, f ≠ 4 → f ≠ 5 → f ≠ 6 → f ≠ 7 → B' (S_o k i) f = B (S_o k i) f)
  (br : ∀ i, i < 256 → i ≠ j → ∀ f, f ≠ 7 → B' (R_o k i) f = B (R_o k i) f)
  (ts : TS A' k j) (ov : P' k j → OV A' k j) (hP : ∀ k' j', k' < 2 → j' < 256 → ¬ (k' = k ∧ j' = j) → P' k' j' → P k' j') (tk : TK A' k) (tl : ∀ p, p < 64 → TL A' p) (cnt : Cnt A' n') (nst : B' (T_o k) 5 ≤ n') (nsp : B' (P_o k) 3 ≤ n')
  (top : CTop A' B') (hl : CHl A' B' k) (wys : ∀ w, w < 2 → CWy A' B' k w) (sd : E (S_o k j) = true → CSd A' B' k j) (rv : E (R_o k j) = true → CRv A' B' k j)
  (st : ∃ ch, CSt E A' B' k ch) (sp : ∃ ch fl, CSp E A' B' k ch fl) (bl : ∃ ch fl, CBl E A' B' k ch fl) : Rel P' n' E A' B' := by
  have hT := h.tb
  have eq : ∀ q i, q < 2 → i < 256 → ¬ (q = k ∧ i = j) → EqS A A' q i := by
    intro q i hq hi hne
    by_cases e : q = k
    · subst e; exact es i hi (fun z => hne ⟨rfl, z⟩)
    · refine EqS.oth hT hq ?_
      intro r f hr
      refine oA r f ?_
      unfold fA
      omega
  have gr : ∀ f, A' M_grants f = A M_grants f := fun f => oA _ _ (by dsimp only [fA]; omega)
  have thr : ∀ f, A' M_there f = A M_there f := fun f => oA _ _ (by dsimp only [fA]; omega)
  have opn : ∀ f, A' M_opened f = A M_opened f := fun f => oA _ _ (by dsimp only [fA]; omega)
  have the : ∀ f, A' M_theirs f = A M_theirs f := fun f => oA _ _ (by dsimp only [fA]; omega)
  have o1 : A' M_o 1 = A M_o 1 := oA _ _ (by dsimp only [fA]; omega)
  have hl' : ∀ t f, 52 ≤ t → t ≤ 61 → A' (t, 0, 0) f = A (t, 0, 0) f := fun t f h1 h2 => oA _ _ (by dsimp only [fA]; omega)
  have eqk : ∀ q, q < 2 → q ≠ k → ∀ i, i < 256 → EqS A A' q i := fun q hq hne i hi => eq q i hq hi (fun z => hne z.1)
  have tot : ∀ q, q ≠ k → A' M_total q = A M_total q := fun q hq => oA _ _ (by dsimp only [fA]; omega)
  have pcs : ∀ q, q ≠ k → A' M_pieces q = A M_pieces q := fun q hq => oA _ _ (by dsimp only [fA]; omega)
  refine Rel.make tb pf ?_ ?_ ?_ ?_ tl (h.tf.cg hl') cnt ?_ ?_ ?_ top ?_ ?_ ?_ ?_ ?_ ?_ ?_ ?_ ?_
  · intro q i hq hi
    by_cases e : q = k ∧ i = j
    · obtain ⟨rfl, rfl⟩ := e; exact ts
    · exact (h.ts q i hq hi).cg (eq q i hq hi e)
  · intro q i hq hi
    have := h.th q i hq hi
    unfold TH at this ⊢
    rw [thr, opn, the]; exact this
  · intro q i hq hi hp
    by_cases e : q = k ∧ i = j
    · obtain ⟨rfl, rfl⟩ := e; exact ov hp
    · exact (h.ov q i hq hi (hP q i hq hi e hp)).cg (eq q i hq hi e)
  · intro q hq
    by_cases e : q = k
    · subst e; exact tk
    · exact (h.tk q hq).cg o1 (fun t f h1 h2 h3 => oA _ _ (by dsimp only [fA]; omega)) (tot q e) (pcs q e)
  · intro q hq
    by_cases e : q = k
    · subst e; exact nst
    · rw [oB (T_o q) 5 (by dsimp only [gB]; omega)]; have := h.nst q hq; omega
  · intro q hq
    by_cases e : q = k
    · subst e; exact nsp
    · rw [oB (P_o q) 3 (by dsimp only [gB]; omega)]; have := h.nsp q hq; omega
  · intro q i hq hi
    rw [thr]; exact h.ex q i hq hi
  · intro q hq
    refine gr_cg o1 gr ?_ ?_ ?_ ?_ (h.gr q hq)
    · intro i; exact oB _ _ (by dsimp only [gB]; omega)
    · intro i; exact oB _ _ (by dsimp only [gB]; omega)
    · intro i; exact oB _ _ (by dsimp only [gB]; omega)
    · exact oB _ _ (by dsimp only [gB]; omega)
  · intro q hq
    by_cases e : q = k
    · subst e; exact hl
    · refine (h.hl q hq).cg ?_ ?_ ?_ ?_ ?_ ?_ ?_ ?_ ?_
      · exact oA _ _ (by dsimp only [fA]; omega)
      · exact oA _ _ (by dsimp only [fA]; omega)
      · have ht := hT.tot q hq
        exact sa_cg (tot q e) (fun i hi => oA _ _ (by dsimp only [fA]; omega))
      · exact sumTo_congr (fun i hi => (eqk q hq e i hi).fld 26 (by omega) (by omega))
      · exact sumTo_congr (fun i hi => (eqk q hq e i hi).eco)
      · exact oA _ _ (by dsimp only [fA]; omega)
      · exact oA _ _ (by dsimp only [fA]; omega)
      · exact oA _ _ (by dsimp only [fA]; omega)
      · intro f h1 h2; exact oB _ _ (by dsimp only [gB]; omega)
  · intro q w hq hw
    by_cases e : q = k
    · subst e; exact wys w hw
    · refine (h.wys q w hq hw).cg (opn _) (the _) ?_ ?_ ?_ ?_ ?_ ?_
      · exact oA _ _ (by dsimp only [fA]; omega)
      · exact oA _ _ (by dsimp only [fA]; omega)
      · exact oA _ _ (by dsimp only [fA]; omega)
      · exact oA _ _ (by dsimp only [fA]; omega)
      · exact oA _ _ (by dsimp only [fA]; omega)
      · intro f; exact oB _ _ (by dsimp only [gB]; omega)
  · intro q i hq hi hE
    by_cases e : q = k ∧ i = j
    · obtain ⟨rfl, rfl⟩ := e; exact sd hE
    · refine (h.sd q i hq hi hE).cg (eq q i hq hi e) ?_
      intro f h4 h5 h6 h7
      by_cases e2 : q = k
      · subst e2; exact bs i hi (fun z => e ⟨rfl, z⟩) f h4 h5 h6 h7
      · exact oB _ _ (by dsimp only [gB]; omega)
  · intro q i hq hi hE
    by_cases e : q = k ∧ i = j
    · obtain ⟨rfl, rfl⟩ := e; exact rv hE
    · refine (h.rv q i hq hi hE).cg (eq q i hq hi e) (gr _) ?_
      intro f h7
      by_cases e2 : q = k
      · subst e2; exact br i hi (fun z => e ⟨rfl, z⟩) f h7
      · exact oB _ _ (by dsimp only [gB]; omega)
  · intro q hq
    by_cases e : q = k
    · subst e; exact st
    · obtain ⟨ch, t⟩ := h.st q hq
      have hto := hT.tot q hq
      have ep : ∀ i, pos A' q i = pos A q i := fun i => pos_cg (tot q e) (fun i hi => oA _ _ (by dsimp only [fA]; omega))
      refine ⟨ch, ?_⟩
      refine CSt.make ?_ ?_ ?_ ?_ ?_ t.emp ?_ t.ndp t.dis ?_
      all_goals have eT : ∀ t f, 17 ≤ t → t ≤ 21 → B' (t, q, 0) f = B (t, q, 0) f := fun t f h1 h2 => oB _ _ (by dsimp only [gB]; omega)
      all_goals have eS : ∀ i f, B' (S_o q i) f = B (S_o q i) f := fun i f => oB _ _ (by dsimp only [gB]; omega)
      all_goals have e1 : B' (T_at q) = B (T_at q) := funext fun f => eT 19 f (by omega) (by omega)
      all_goals have e2 : B' (T_size q) = B (T_size q) := funext fun f => eT 20 f (by omega) (by omega)
      all_goals have e3 : B' (T_next q) = B (T_next q) := funext fun f => eT 21 f (by omega) (by omega)
      all_goals have e4 : B' (T_o q) = B (T_o q) := funext fun f => eT 17 f (by omega) (by omega)
      · rw [e4, tot q e]; exact t.use
      · intro i hi; rw [tot q e] at hi; rw [eT 18 _ (by omega) (by omega), oA M_value _ (by dsimp only [fA]; omega)]; exact t.byt i hi
      · rw [e4]; exact t.npc
      · intro i hi hE; rw [e3, eS]; exact t.lnk i hi hE
      · intro i hi hE; rw [eS]; exact t.las i hi hE
      · intro i; rw [e4, e1, e2, tot q e]; exact t.mem i
      · intro i hi hE; rw [e1, e2, ep]; exact t.seg i hi hE
  · intro q hq
    by_cases e : q = k
    · subst e; exact sp
    · obtain ⟨ch, fl, t⟩ := h.sp q hq
      have hto := hT.tot q hq
      refine ⟨ch, fl, t.cg ?_ ?_ ?_ ?_⟩
      · intro t f h1 h2; exact oB _ _ (by dsimp only [gB]; omega)
      · intro i; exact ⟨oB _ _ (by dsimp only [gB]; omega), oB _ _ (by dsimp only [gB]; omega)⟩
      · intro i; exact wl_cg (tot q e) (fun i hi => oA _ _ (by dsimp only [fA]; omega))
      · intro i; exact mkA_cg (tot q e) (fun i hi => oA _ _ (by dsimp only [fA]; omega)) (fun i hi => oA _ _ (by dsimp only [fA]; omega)) hto.2
  · intro q hq
    by_cases e : q = k
    · subst e; exact bl
    · obtain ⟨ch, fl, t⟩ := h.bl q hq
      have hpb := hT.pcs q hq
      have p1 := pcs q e
      have p2 : ∀ p, p < (A M_pieces q).toNat → A' M_pieceOf (1408 * q + p) = A M_pieceOf (1408 * q + p) := fun i hi => oA _ _ (by dsimp only [fA]; omega)
      have p3 : ∀ p, p < (A M_pieces q).toNat → A' M_pieceNumber (1408 * q + p) = A M_pieceNumber (1408 * q + p) := fun i hi => oA _ _ (by dsimp only [fA]; omega)
      have p4 : ∀ p i, p < (A M_pieces q).toNat → i < 64 → A' M_has (64 * (1408 * q + p) + i) = A M_has (64 * (1408 * q + p) + i) := fun p i hp hi => oA _ _ (by dsimp only [fA]; omega)
      have p5 : ∀ p i, p < (A M_pieces q).toNat → i < 64 → A' M_came (64 * (1408 * q + p) + i) = A M_came (64 * (1408 * q + p) + i) := fun p i hp hi => oA _ _ (by dsimp only [fA]; omega)
      have eR : ∀ i f, B' (R_o q i) f = B (R_o q i) f := fun i f => oB _ _ (by dsimp only [gB]; omega)
      have eT : ∀ t f, 22 ≤ t → t ≤ 26 → B' (t, q, 0) f = B (t, q, 0) f := fun t f h1 h2 => oB _ _ (by dsimp only [gB]; omega)
      have e1 : B' (B_bytes q) = B (B_bytes q) := funext fun f => eT 23 f (by omega) (by omega)
      have e2 : B' (B_marks q) = B (B_marks q) := funext fun f => eT 24 f (by omega) (by omega)
      have e3 : B' (B_index q) = B (B_index q) := funext fun f => eT 25 f (by omega) (by omega)
      have e4 : B' (B_next q) = B (B_next q) := funext fun f => eT 26 f (by omega) (by omega)
      have e5 : B' (B_o q) = B (B_o q) := funext fun f => eT 22 f (by omega) (by omega)
      have ea : ∀ i num, pa A' q i num = pa A q i num := fun i num => pa_cg p1 p2 p3
      have eh : ∀ i o, hasB A' q i o = hasB A q i o := fun i o => hasB_cg' p1 p2 p3 p4
      have eb : ∀ i o, bt A' q i o = bt A q i o := fun i o => bt_cg p1 p2 p3 p5
      have er : ∀ i, i < 256 → A' M_read (256 * q + i) = A M_read (256 * q + i) := fun i hi => oA _ _ (by dsimp only [fA]; omega)
      have ew : ∀ i, i < 256 → A' M_wasReset (256 * q + i) = A M_wasReset (256 * q + i) := fun i hi => oA _ _ (by dsimp only [fA]; omega)
      have jl : ∀ i, ∀ p ∈ ch i, i < 256 := by
        intro i p hp
        by_cases z : i < 256
        · exact z
        · rw [t.emp i (fun y => z y.1)] at hp; cases hp
      refine ⟨ch, fl, CBl.make ?_ ?_ ?_ ?_ ?_ ?_ t.ndc t.ndf t.dis t.dif ?_ ?_ ?_ ?_ ?_ ?_⟩
      · rw [e5, p1]; exact t.mad
      · rw [e4, e5]; exact t.fre
      · intro i hi hE; rw [e4, eR]; exact t.lnk i hi hE
      · intro i z; refine t.emp i (fun y => z ⟨y.1, y.2.1, ?_⟩); rw [ew i y.1]; exact y.2.2
      · rw [e5]; exact t.mem
      · rw [e5]; exact t.mef
      · rw [e3]; exact t.ris
      · intro i p hp; rw [e3, er i (jl i p hp)]; simp only [ea]; exact t.idx i p hp
      · intro i hi hE; rw [e3, er i hi, ew i hi]; simp only [ea]; exact t.all i hi hE
      · intro i p hp; rw [e2, e3]; simp only [eh]; exact t.bit i p hp
      · intro i p hp; rw [e1, e3]; simp only [eh, eb]; exact t.byt i p hp
      · intro i hi n x hx; rw [ea] at hx; exact t.pth i hi n x hx
  · intro p hp
    exact (h.ln p hp).cg hl' (fun f => oB _ _ (by dsimp only [gB]; omega)) (fun f => oB _ _ (by dsimp only [gB]; omega))
end SD2
