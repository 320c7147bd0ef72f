/-! A CHANGE OF A STREAM'S WORDS, or a side's -/
def fL (k j : Nat) (r : L3) (f : Nat) : Prop := (r.1 = 0 ∧ f ≠ 1) ∨ (r.1 = 3 ∨ r.1 = 5) ∨ r.1 = 51 ∨ ((r.1 = 8 ∨ r.1 = 15) ∧ f / 3 = k) ∨ ((r.1 = 11 ∨ r.1 = 14 ∨ r.1 = 16) ∧ f / 2 = k) ∨ ((r.1 = 12 ∨ r.1 = 13 ∨ r.1 = 17) ∧ f = k) ∨ (19 ≤ r.1 ∧ r.1 ≤ 36 ∧ r.1 ≠ 28 ∧ r.1 ≠ 29 ∧ f = 256 * k + j)
def gL (k j : Nat) (r : L3) (f : Nat) : Prop := r.1 = 0 ∨ (r.1 = 5 ∨ r.1 = 6) ∨ (r.1 = 7 ∧ r.2.1 = k ∧ f ≠ 0) ∨ (r.1 = 27 ∧ r.2.1 = k) ∨ (r.1 = 28 ∧ r.2.1 = k) ∨ (r.1 = 29 ∧ r.2.1 = k ∧ r.2.2 = j ∧ (f ≤ 3 ∨ 8 ≤ f)) ∨ (r.1 = 30 ∧ r.2.1 = k ∧ r.2.2 = j ∧ f ≠ 7)
section LOC
variable {A A' B B' : AM} {E : L3 → Bool} {k j n n' : Nat} {P P' : Nat → Nat → Prop}
theorem PF.cg (h1 : ∀ k, A' M_pieces k = A M_pieces k) (h2 : ∀ i, A' M_has i = A M_has i) (h : PF A) : PF A' := by
  intro k p q hk hp hp2
  rw [h1] at hp
  rw [h2]
  exact h k p q hk hp hp2
/-- rows and pieces as they were -/
def SameR (A A' : AM) : Prop :=
  (∀ f, A' M_total f = A M_total f) ∧
  (∀ f, A' M_of f = A M_of f) ∧
  (∀ f, A' M_value f = A M_value f) ∧
  (∀ f, A' M_mark f = A M_mark f)
theorem SameR.tot {A A' : AM} (h : SameR A A') : ∀ f, A' M_total f = A M_total f := h.1
theorem SameR.off {A A' : AM} (h : SameR A A') : ∀ f, A' M_of f = A M_of f := h.2.1
theorem SameR.val {A A' : AM} (h : SameR A A') : ∀ f, A' M_value f = A M_value f := h.2.2.1
theorem SameR.mrk {A A' : AM} (h : SameR A A') : ∀ f, A' M_mark f = A M_mark f := h.2.2.2
theorem SameR.make {A A' : AM} (tot : ∀ f, A' M_total f = A M_total f) (off : ∀ f, A' M_of f = A M_of f) (val : ∀ f, A' M_value f = A M_value f) (mrk : ∀ f, A' M_mark f = A M_mark f) : SameR A A' := ⟨tot, off, val, mrk⟩
def SameP (A A' : AM) : Prop :=
  (∀ f, A' M_pieces f = A M_pieces f) ∧
  (∀ f, A' M_pieceOf f = A M_pieceOf f) ∧
  (∀ f, A' M_pieceNumber f = A M_pieceNumber f) ∧
  (∀ f, A' M_came f = A M_came f) ∧
  (∀ f, A' M_has f = A M_has f)
theorem SameP.pcs {A A' : AM} (h : SameP A A') : ∀ f, A' M_pieces f = A M_pieces f := h.1
theorem SameP.pof {A A' : AM} (h : SameP A A') : ∀ f, A' M_pieceOf f = A M_pieceOf f := h.2.1
theorem SameP.pnm {A A' : AM} (h : SameP A A') : ∀ f, A' M_pieceNumber f = A M_pieceNumber f := h.2.2.1
theorem SameP.cam {A A' : AM} (h : SameP A A') : ∀ f, A' M_came f = A M_came f := h.2.2.2.1
theorem SameP.has {A A' : AM} (h : SameP A A') : ∀ f, A' M_has f = A M_has f := h.2.2.2.2
theorem SameP.make {A A' : AM} (pcs : ∀ f, A' M_pieces f = A M_pieces f) (pof : ∀ f, A' M_pieceOf f = A M_pieceOf f) (pnm : ∀ f, A' M_pieceNumber f = A M_pieceNumber f) (cam : ∀ f, A' M_came f = A M_came f) (has : ∀ f, A' M_has f = A M_has f) : SameP A A' := ⟨pcs, pof, pnm, cam, has⟩
theorem SameR.pos (h : SameR A A') : pos A' k j = pos A k j := pos_cg (h.tot _) (fun _ _ => h.off _)
theorem SameR.wl (h : SameR A A') : wl A' k j = wl A k j := wl_cg (h.tot _) (fun _ _ => h.off _)
theorem SameR.sn (h : SameR A A') : sn A' k j = sn A k j := sn_cg (h.tot _) (fun _ _ => h.off _) (fun _ _ => h.mrk _)
theorem SameR.cn (h : SameR A A') {st : Int} : cn A' k j st = cn A k j st := cn_cg (h.tot _) (fun _ _ => h.off _) (fun _ _ => h.mrk _)
theorem SameR.sa (h : SameR A A') : sa A' k = sa A k := sa_cg (h.tot _) (fun _ _ => h.mrk _)
theorem SameR.mka (h : SameR A A') {o : Nat} : mkA A' k j o = mkA A k j o := by unfold mkA; rw [h.pos, h.mrk]
theorem SameP.pa (h : SameP A A') {num : Int} : pa A' k j num = pa A k j num := pa_cg (h.pcs _) (fun _ _ => h.pof _) (fun _ _ => h.pnm _)
theorem SameP.hasB (h : SameP A A') {o : Nat} : hasB A' k j o = hasB A k j o := hasB_cg (h.pcs _) (fun _ _ => h.pof _) (fun _ _ => h.pnm _) h.has
theorem SameP.bt (h : SameP A A') {o : Nat} : bt A' k j o = bt A k j o := bt_cg (h.pcs _) (fun _ _ => h.pof _) (fun _ _ => h.pnm _) (fun _ _ _ _ => h.cam _)
theorem SameP.rd (h : SameP A A') (hr : A' M_read (256 * k + j) = A M_read (256 * k + j)) : rd A' k j = rd A k j := rd_cg hr (fun _ => h.hasB)
theorem SameP.rst (h : SameP A A') (hr : A' M_read (256 * k + j) = A M_read (256 * k + j)) (hw : A' M_wasReset (256 * k + j) = A M_wasReset (256 * k + j)) (hs : A' M_size (256 * k + j) = A M_size (256 * k + j)) : rst A' k j = rst A k j := rst_cg hr (fun _ => h.hasB) hw hs
theorem EqS.same (hR : SameR A A') (hP : SameP A A') (h : ∀ t, 18 ≤ t → t ≤ 36 → A' (t, 0, 0) (256 * k + j) = A (t, 0, 0) (256 * k + j)) : EqS A A' k j :=
  EqS.make h hR.wl hR.sn (fun _ => hR.cn) (fun _ _ => hR.mka) (fun _ => hP.hasB)
theorem Cnt.cg (h : Cnt A n) (hn : n ≤ n') (hR : SameR A A') (hP : SameP A A') (h3 : A' M_o 3 ≤ A M_o 3) : Cnt A' n' := by
  obtain ⟨tc, h1, h2⟩ := h
  refine ⟨tc, by omega, ?_⟩
  have e : ∀ k, Psi A' k = Psi A k := fun k => Psi_cg (hP.pcs _) (fun _ => hR.wl) (fun _ _ => hP.pa)
  rw [e, e]; omega
theorem fL_R (o : Out (fL k j) A A') : SameR A A' := SameR.make (fun f => o _ _ (by dsimp only [fL]; omega)) (fun f => o _ _ (by dsimp only [fL]; omega)) (fun f => o _ _ (by dsimp only [fL]; omega)) (fun f => o _ _ (by dsimp only [fL]; omega))
theorem fL_P (o : Out (fL k j) A A') : SameP A A' := SameP.make (fun f => o _ _ (by dsimp only [fL]; omega)) (fun f => o _ _ (by dsimp only [fL]; omega)) (fun f => o _ _ (by dsimp only [fL]; omega)) (fun f => o _ _ (by dsimp only [fL]; omega)) (fun f => o _ _ (by dsimp only [fL]; omega))
theorem fL_fA (hj : j < 256) {r : L3} {f : Nat} (h : fL k j r f) : fA k r f := by
  unfold fL at h
  unfold fA
  rcases h with h | h | h | h | h | h | h
  · exact Or.inl h
  · exact Or.inr (Or.inl h)
  · exact Or.inr (Or.inr (Or.inl h))
  · exact Or.inr (Or.inr (Or.inr (Or.inl h)))
  · exact Or.inr (Or.inr (Or.inr (Or.inr (Or.inl h))))
  · exact Or.inr (Or.inr (Or.inr (Or.inr (Or.inr (Or.inl (by omega))))))
  · exact Or.inr (Or.inr (Or.inr (Or.inr (Or.inr (Or.inr (Or.inl (by omega)))))))
theorem gL_gB {r : L3} {f : Nat} (h : gL k j r f) : gB k r f := by
  unfold gL at h
  unfold gB
  rcases h with h | h | h | h | h | h | h
  · exact Or.inl h
  · exact Or.inr (Or.inl h)
  · exact Or.inr (Or.inr (Or.inl h))
  all_goals exact Or.inr (Or.inr (Or.inr (by omega)))
theorem Rel.locC (h : Rel P n E A B) (hk : k < 2) (hj : j < 256) (oA : Out (fL k j) A A') (oB : Out (gL k j) B B') (hn : n ≤ n')
  (tb : TB A') (cnt : Cnt A' n') (ts : TS A' k j) (ov : P' k j → OV A' k j) (hP : ∀ k' j', k' < 2 → j' < 256 → ¬ (k' = k ∧ j' = j) → P' k' j' → P k' j') (tk : TK A' k)
  (mr : A M_resets (256 * k + j) ≠ 0 → A' M_resets (256 * k + j) ≠ 0) (mf : A M_finished (256 * k + j) ≠ 0 → A' M_finished (256 * k + j) ≠ 0)
  (top : CTop A' B') (hl : CHl A' B' k) (wys : ∀ w, w < 2 → CWy A' B' k w) (sd : E (S_o k j) = true → CSd A' B' k j) (rv : E (R_o k j) = true → CRv A' B' k j) : Rel P' n' E A' B' := by
  have hR := fL_R oA
  have hPc := fL_P oA
  have fi : ∀ q i, q < 2 → i < 256 → ¬ (q = k ∧ i = j) → ∀ t, 18 ≤ t → t ≤ 36 → A' (t, 0, 0) (256 * q + i) = A (t, 0, 0) (256 * q + i) := fun q i hq hi hne t h1 h2 => oA _ _ (by dsimp only [fL]; omega)
  refine h.side hk hj (oA.mono (fun r f => fL_fA hj)) (oB.mono (fun r f => gL_gB)) hn tb (h.pf.cg hPc.pcs hPc.has) ?_ ?_ ?_ ts ov hP tk ?_ cnt ?_ ?_ top hl wys sd rv ?_ ?_ ?_
  · intro i hi hne; exact EqS.same hR hPc (fi k i hk hi (fun z => hne z.2))
  · intro i hi hne f h4 h5 h6 h7; exact oB _ _ (by dsimp only [gL]; omega)
  · intro i hi hne f h7; exact oB _ _ (by dsimp only [gL]; omega)
  · intro p hp
    refine (h.tl p hp).cg ?_ ?_ ?_ ?_ ?_ ?_
    · intro t f h1 h2; exact oA _ _ (by dsimp only [fL]; omega)
    · intro q i hq hi hz
      by_cases e : q = k ∧ i = j
      · obtain ⟨rfl, rfl⟩ := e; exact mr hz
      · rw [show A' M_resets (256 * q + i) = A M_resets (256 * q + i) from fi q i hq hi e 22 (by omega) (by omega)]; exact hz
    · intro q i hq hi hz
      rw [oA M_there _ (by dsimp only [fL]; omega)]; exact hz
    · intro q i hq hi hz
      by_cases e : q = k ∧ i = j
      · obtain ⟨rfl, rfl⟩ := e; exact mf hz
      · rw [show A' M_finished (256 * q + i) = A M_finished (256 * q + i) from fi q i hq hi e 20 (by omega) (by omega)]; exact hz
    · intro q i hq hi; rw [hR.wl]; omega
    · intro q i hq hi o ho hz; rw [hR.mka]; exact hz
  · rw [oB (T_o k) 5 (by dsimp only [gL]; omega)]; have := h.nst k hk; omega
  · rw [oB (P_o k) 3 (by dsimp only [gL]; omega)]; have := h.nsp k hk; omega
  · obtain ⟨ch, t⟩ := h.st k hk
    exact ⟨ch, t.cg (fun t f h1 h2 => oB _ _ (by dsimp only [gL]; omega)) (fun i => ⟨oB _ _ (by dsimp only [gL]; omega), oB _ _ (by dsimp only [gL]; omega)⟩) (hR.tot _) (fun i => hR.val _) (fun i => hR.pos)⟩
  · obtain ⟨ch, fl, t⟩ := h.sp k hk
    exact ⟨ch, fl, t.cg (fun t f h1 h2 => oB _ _ (by dsimp only [gL]; omega)) (fun i => ⟨oB _ _ (by dsimp only [gL]; omega), oB _ _ (by dsimp only [gL]; omega)⟩) (fun i => hR.wl) (fun i o => hR.mka)⟩
  · obtain ⟨ch, fl, t⟩ := h.bl k hk
    exact ⟨ch, fl, t.cg (fun t f h1 h2 => oB _ _ (by dsimp only [gL]; omega)) (fun i => oB _ _ (by dsimp only [gL]; omega)) (hPc.pcs _) (fun i => oA _ _ (by dsimp only [fL]; omega)) (fun i => oA _ _ (by dsimp only [fL]; omega)) (fun i num => hPc.pa) (fun i o => hPc.hasB) (fun i o => hPc.bt)⟩
theorem Rel.loc (h : Rel P n E A B) (hk : k < 2) (hj : j < 256) (oA : Out (fL k j) A A') (oB : Out (gL k j) B B') (hn : n ≤ n')
  (tb : TB A') (h3 : A' M_o 3 ≤ A M_o 3) (ts : TS A' k j) (ov : P' k j → OV A' k j) (hP : ∀ k' j', k' < 2 → j' < 256 → ¬ (k' = k ∧ j' = j) → P' k' j' → P k' j') (tk : TK A' k)
  (mr : A M_resets (256 * k + j) ≠ 0 → A' M_resets (256 * k + j) ≠ 0) (mf : A M_finished (256 * k + j) ≠ 0 → A' M_finished (256 * k + j) ≠ 0)
  (top : CTop A' B') (hl : CHl A' B' k) (wys : ∀ w, w < 2 → CWy A' B' k w) (sd : E (S_o k j) = true → CSd A' B' k j) (rv : E (R_o k j) = true → CRv A' B' k j) : Rel P' n' E A' B' :=
  h.locC hk hj oA oB hn tb (h.cnt.cg hn (fL_R oA) (fL_P oA) h3) ts ov hP tk mr mf top hl wys sd rv
end LOC
