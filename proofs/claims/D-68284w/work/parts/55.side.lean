/-! A CHANGE ON ONE SIDE -/
def fA (k : Nat) (r : L3) (f : Nat) : Prop := (r.1 = 0 ∧ f ≠ 1) ∨ (r.1 = 3 ∨ r.1 = 5) ∨ r.1 = 51 ∨ ((r.1 = 8 ∨ r.1 = 15) ∧ f / 3 = k) ∨ ((r.1 = 11 ∨ r.1 = 14 ∨ r.1 = 16) ∧ f / 2 = k) ∨ ((r.1 = 12 ∨ r.1 = 13 ∨ r.1 = 17 ∨ r.1 = 37 ∨ r.1 = 41) ∧ f = k) ∨ (19 ≤ r.1 ∧ r.1 ≤ 36 ∧ f / 256 = k) ∨ (38 ≤ r.1 ∧ r.1 ≤ 40 ∧ f / 65536 = k) ∨ ((r.1 = 42 ∨ r.1 = 43) ∧ f / 1408 = k) ∨ ((r.1 = 44 ∨ r.1 = 45) ∧ f / 90112 = k)
def gB (k : Nat) (r : L3) (f : Nat) : Prop := r.1 = 0 ∨ (r.1 = 5 ∨ r.1 = 6) ∨ (r.1 = 7 ∧ r.2.1 = k ∧ f ≠ 0) ∨ (13 ≤ r.1 ∧ r.1 ≤ 30 ∧ r.2.1 = k)
section SDE
variable {A A' B B' : AM} {E : L3 → Bool} {k j : Nat}
theorem bt_cg {o : Nat} (h1 : A' M_pieces k = A M_pieces k) (h2 : ∀ p, p < (A M_pieces k).toNat → A' M_pieceOf (1408 * k + p) = A M_pieceOf (1408 * k + p)) (h3 : ∀ p, p < (A M_pieces k).toNat → A' M_pieceNumber (1408 * k + p) = A M_pieceNumber (1408 * k + p)) (h4 : ∀ p q, p < (A M_pieces k).toNat → q < 64 → A' M_came (64 * (1408 * k + p) + q) = A M_came (64 * (1408 * k + p) + q)) : bt A' k j o = bt A k j o := by
  unfold bt
  rw [pa_cg h1 h2 h3]
  cases e : pa A k j ((o / 64 : Nat) : Int) with
  | none => rfl
  | some p => exact h4 p (o % 64) (pa_some e).1 (by omega)
theorem hasB_cg' {o : Nat} (h1 : A' M_pieces k = A M_pieces k) (h2 : ∀ p, p < (A M_pieces k).toNat → A' M_pieceOf (1408 * k + p) = A M_pieceOf (1408 * k + p)) (h3 : ∀ p, p < (A M_pieces k).toNat → A' M_pieceNumber (1408 * k + p) = A M_pieceNumber (1408 * k + p)) (h4 : ∀ p q, p < (A M_pieces k).toNat → q < 64 → A' M_has (64 * (1408 * k + p) + q) = A M_has (64 * (1408 * k + p) + q)) : hasB A' k j o = hasB A k j o := by
  unfold hasB
  rw [pa_cg h1 h2 h3]
  cases e : pa A k j ((o / 64 : Nat) : Int) with
  | none => rfl
  | some p =>
    have := h4 p (o % 64) (pa_some e).1 (by omega)
    simp only [this]
theorem mkA_cg (h1 : A' M_total k = A M_total k) (h2 : ∀ i, i < (A M_total k).toNat → A' M_of (65536 * k + i) = A M_of (65536 * k + i)) (h3 : ∀ i, i < 65536 → A' M_mark (65536 * k + i) = A M_mark (65536 * k + i)) (ht : A M_total k ≤ 65536) (o : Nat) : mkA A' k j o = mkA A k j o := by
  unfold mkA
  rw [pos_cg h1 h2]
  refine h3 _ ?_
  rw [List.getD_eq_getElem?_getD]
  cases e : (pos A k j)[o]? with
  | none => show 0 < 65536; omega
  | some q =>
    have := (pos_mem (List.mem_of_getElem? e)).1
    show q < 65536
    omega
/-- streams of a side without a change -/
theorem EqS.oth (hT : TB A) (hk : k < 2) (o : ∀ r f, (18 ≤ r.1 ∧ r.1 ≤ 36 ∧ f = 256 * k + j) ∨ ((r.1 = 37 ∨ r.1 = 41) ∧ f = k) ∨ (38 ≤ r.1 ∧ r.1 ≤ 40 ∧ f / 65536 = k) ∨ ((r.1 = 42 ∨ r.1 = 43) ∧ f / 1408 = k) ∨ ((r.1 = 44 ∨ r.1 = 45) ∧ f / 90112 = k) → A' r f = A r f) : EqS A A' k j := by
  have ht := hT.tot k hk
  have hp := hT.pcs k hk
  have e1 : A' M_total k = A M_total k := o _ _ (by dsimp only; omega)
  have e2 : ∀ i, i < (A M_total k).toNat → A' M_of (65536 * k + i) = A M_of (65536 * k + i) := fun i hi => o _ _ (by dsimp only; omega)
  have e3 : ∀ i, i < 65536 → A' M_mark (65536 * k + i) = A M_mark (65536 * k + i) := fun i hi => o _ _ (by dsimp only; omega)
  have e4 : A' M_pieces k = A M_pieces k := o _ _ (by dsimp only; omega)
  have e5 : ∀ p, p < (A M_pieces k).toNat → A' M_pieceOf (1408 * k + p) = A M_pieceOf (1408 * k + p) := fun i hi => o _ _ (by dsimp only; omega)
  have e6 : ∀ p, p < (A M_pieces k).toNat → A' M_pieceNumber (1408 * k + p) = A M_pieceNumber (1408 * k + p) := fun i hi => o _ _ (by dsimp only; omega)
  have e7 : ∀ p q, p < (A M_pieces k).toNat → q < 64 → A' M_has (64 * (1408 * k + p) + q) = A M_has (64 * (1408 * k + p) + q) := fun p q hp hq => o _ _ (by dsimp only; omega)
  exact EqS.make (fun t h1 h2 => o _ _ (by dsimp only; omega)) (wl_cg e1 e2) (sn_cg e1 e2 (fun i hi => e3 i (by omega))) (fun st => cn_cg e1 e2 (fun i hi => e3 i (by omega))) (fun q _ => mkA_cg e1 e2 e3 ht.2 q) (fun q => hasB_cg' e4 e5 e6 e7)
theorem CHl.cg (h1 : A' M_limits (3 * k) = A M_limits (3 * k)) (h2 : A' M_toldBlocked (3 * k) = A M_toldBlocked (3 * k)) (h3 : sa A' k = sa A k) (h4 : shi A' k = shi A k) (h5 : sco A' k = sco A k) (h6 : A' M_dataGrant k = A M_dataGrant k) (h7 : A' M_lastStream k = A M_lastStream k) (h8 : A' M_tellData k = A M_tellData k) (hb : ∀ f, 9 ≤ f → f ≤ 16 → B' (H_o k) f = B (H_o k) f) (t : CHl A B k) : CHl A' B' k := by
  unfold CHl
  rw [h1, h2, h3, h4, h5, h6, h7, h8, hb 9 (by omega) (by omega), hb 10 (by omega) (by omega), hb 11 (by omega) (by omega), hb 12 (by omega) (by omega), hb 13 (by omega) (by omega), hb 14 (by omega) (by omega), hb 15 (by omega) (by omega), hb 16 (by omega) (by omega)]
  exact t
theorem CWy.cg {w : Nat} (h1 : A' M_opened (2 * k + w) = A M_opened (2 * k + w)) (h2 : A' M_theirs (2 * k + w) = A M_theirs (2 * k + w)) (h3 : A' M_granted (2 * k + w) = A M_granted (2 * k + w)) (h4 : A' M_limits (3 * k + 1 + w) = A M_limits (3 * k + 1 + w)) (h5 : A' M_refused (2 * k + w) = A M_refused (2 * k + w)) (h6 : A' M_toldBlocked (3 * k + 1 + w) = A M_toldBlocked (3 * k + 1 + w)) (h7 : A' M_tellStreams (2 * k + w) = A M_tellStreams (2 * k + w)) (hb : ∀ f, B' (W_o k w) f = B (W_o k w) f) (t : CWy A B k w) : CWy A' B' k w := by
  unfold CWy
  rw [h1, h2, h3, h4, h5, h6, h7, hb, hb, hb, hb, hb, hb, hb]
  exact t
theorem TK.cg (h0 : A' M_o 1 = A M_o 1) (h : ∀ t f, 7 ≤ t → t ≤ 16 → (f / 16 = k ∧ t = 7) ∨ (f / 3 = k ∧ t = 8) ∨ (f / 2 = k ∧ 9 ≤ t ∧ t ≤ 16 ∧ t ≠ 12 ∧ t ≠ 13 ∧ t ≠ 15) ∨ (f = k ∧ (t = 12 ∨ t = 13)) → A' (t, 0, 0) f = A (t, 0, 0) f) (ht : A' M_total k = A M_total k) (hp : A' M_pieces k = A M_pieces k) (t : TK A k) : TK A' k := by
  have e1 : ∀ w, w < 2 → A' M_opened (2 * k + w) = A M_opened (2 * k + w) := fun w hw => h 9 _ (by omega) (by omega) (by omega)
  have e2 : ∀ w, w < 2 → A' M_theirs (2 * k + w) = A M_theirs (2 * k + w) := fun w hw => h 10 _ (by omega) (by omega) (by omega)
  have e3 : ∀ w, w < 2 → A' M_granted (2 * k + w) = A M_granted (2 * k + w) := fun w hw => h 11 _ (by omega) (by omega) (by omega)
  have e4 : ∀ w, w < 2 → A' M_limits (3 * k + 1 + w) = A M_limits (3 * k + 1 + w) := fun w hw => h 8 _ (by omega) (by omega) (by omega)
  have e5 : ∀ w, w < 2 → A' M_tellStreams (2 * k + w) = A M_tellStreams (2 * k + w) := fun w hw => h 14 _ (by omega) (by omega) (by omega)
  have e6 : ∀ w, w < 2 → A' M_refused (2 * k + w) = A M_refused (2 * k + w) := fun w hw => h 16 _ (by omega) (by omega) (by omega)
  have e7 : ∀ w, w < 2 → A' M_grants (16 * k + 8 + w) = A M_grants (16 * k + 8 + w) := fun w hw => h 7 _ (by omega) (by omega) (by omega)
  have e8 : A' M_limits (3 * k) = A M_limits (3 * k) := h 8 _ (by omega) (by omega) (by omega)
  have e9 : A' M_dataGrant k = A M_dataGrant k := h 12 _ (by omega) (by omega) (by omega)
  have e10 : A' M_grants (16 * k + 4) = A M_grants (16 * k + 4) := h 7 _ (by omega) (by omega) (by omega)
  have e11 : A' M_tellData k = A M_tellData k := h 13 _ (by omega) (by omega) (by omega)
  refine TK.make ?_ ?_ ?_ ?_ ?_ ?_ ?_
  · rw [h0]; intro a w hw; rw [e1 w hw, e4 w hw]; exact t.lim a w hw
  · intro w hw; rw [e2 w hw, e3 w hw]; exact t.thg w hw
  · rw [e11]; exact t.d01
  · intro w hw; rw [e5 w hw]; exact t.s01 w hw
  · intro w hw; rw [e7 w hw]; exact t.g89 w hw
  · rw [h0, e8, e9, e10, ht, hp]; exact t.una
  · rw [h0]; intro a w hw; rw [e1 w hw, e2 w hw, e6 w hw, e4 w hw, e3 w hw, e7 w hw]; exact t.unw a w hw
theorem LnOK.cg {p kind a b n : Nat} {c : Int} {q : Nat} (hl : ∀ t f, 52 ≤ t → t ≤ 61 → A' (t, 0, 0) f = A (t, 0, 0) f) (hr : ∀ k j, k < 2 → j < 256 → A M_resets (256 * k + j) ≠ 0 → A' M_resets (256 * k + j) ≠ 0) (ht : ∀ k j, k < 2 → j < 256 → A M_there (256 * k + j) ≠ 0 → A' M_there (256 * k + j) ≠ 0) (hf : ∀ k j, k < 2 → j < 256 → A M_finished (256 * k + j) ≠ 0 → A' M_finished (256 * k + j) ≠ 0) (hw : ∀ k j, k < 2 → j < 256 → wl A k j ≤ wl A' k j) (hm : kind = 8 → ∀ o, b ≤ o → o < b + n → mkA A q a o = 1 → mkA A' q a o = 1) (h : LnOK A p q kind a b n c) : LnOK A' p q kind a b n c := by
  obtain ⟨h1, h2, h3, h4, h5, h6, h7, h8, h9, h10, h11, h12, h13, h14, h15, h16, h17, h18, h19⟩ := h
  refine ⟨by rw [← h1]; exact hl 52 p (by omega) (by omega), h2, by rw [← h3]; exact hl 53 p (by omega) (by omega), by rw [← h4]; exact hl 54 p (by omega) (by omega), by rw [← h5]; exact hl 55 p (by omega) (by omega), by rw [← h6]; exact hl 57 p (by omega) (by omega), by rw [← h7]; exact hl 56 p (by omega) (by omega), h8, h9, h10, h11, h12, h13, h14, h15, fun z => hr q a h2 (h15 (by omega)) (h16 z), fun z => ⟨ht q a h2 (h15 (by omega)) (h17 z).1, (h17 z).2⟩, fun z => ⟨ht q a h2 (h15 (by omega)) (h18 z).1, (h18 z).2⟩, fun z => ?_⟩
  obtain ⟨g1, g2, g3, g4⟩ := h19 z
  exact ⟨Nat.le_trans g1 (hw q a h2 (h15 (by omega))), fun o u v => hm z o u v (g2 o u v), g3, fun c => hf q a h2 (h15 (by omega)) (g4 c)⟩
theorem TL.cg {p : Nat} (hl : ∀ t f, 52 ≤ t → t ≤ 61 → A' (t, 0, 0) f = A (t, 0, 0) f) (hr : ∀ k j, k < 2 → j < 256 → A M_resets (256 * k + j) ≠ 0 → A' M_resets (256 * k + j) ≠ 0) (ht : ∀ k j, k < 2 → j < 256 → A M_there (256 * k + j) ≠ 0 → A' M_there (256 * k + j) ≠ 0) (hf : ∀ k j, k < 2 → j < 256 → A M_finished (256 * k + j) ≠ 0 → A' M_finished (256 * k + j) ≠ 0) (hw : ∀ k j, k < 2 → j < 256 → wl A k j ≤ wl A' k j) (hm : ∀ k j, k < 2 → j < 256 → ∀ o, o < wl A k j → mkA A k j o = 1 → mkA A' k j o = 1) (h : TL A p) : TL A' p := by
  refine TL.make ?_ ?_ ?_ ?_
  · rw [show A' M_lineUsed p = A M_lineUsed p from hl 59 p (by omega) (by omega)]; exact h.u01
  · rw [show A' M_delivered p = A M_delivered p from hl 60 p (by omega) (by omega)]; exact h.d01
  · rw [show A' M_lineUsed p = A M_lineUsed p from hl 59 p (by omega) (by omega)]
    intro u
    obtain ⟨q, kind, a, b, n, c, H⟩ := h.frm u
    have H' := H
    obtain ⟨h1, h2, h3, h4, h5, h6, h7, h8, h9, h10, h11, h12, h13, h14, h15, h16, h17, h18, h19⟩ := H'
    exact ⟨q, kind, a, b, n, c, H.cg hl hr ht hf hw (fun z o u v => hm q a h2 (h15 (by omega)) o (by have := (h19 z).1; omega))⟩
  · intro i hi
    rw [show A' M_lineData (1200 * p + i) = A M_lineData (1200 * p + i) from hl 61 _ (by omega) (by omega)]
    exact h.dat i hi
theorem TF.cg (hl : ∀ t f, 52 ≤ t → t ≤ 61 → A' (t, 0, 0) f = A (t, 0, 0) f) (h : TF A) : TF A' := by
  intro p q hp hq hne
  have e := fun f => hl 59 f (by omega) (by omega)
  have e1 := fun f => hl 53 f (by omega) (by omega)
  have e2 := fun f => hl 52 f (by omega) (by omega)
  have e3 := fun f => hl 54 f (by omega) (by omega)
  have e4 := fun f => hl 55 f (by omega) (by omega)
  have e5 := fun f => hl 57 f (by omega) (by omega)
  rw [e p, e q, e1 p, e1 q, e2 p, e2 q, e3 p, e3 q, e4 p, e4 q, e5 p, e5 q]
  exact h p q hp hq hne
theorem CLn.cg {p : Nat} (hl : ∀ t f, 52 ≤ t → t ≤ 61 → A' (t, 0, 0) f = A (t, 0, 0) f) (hb : ∀ f, B' (L_o p) f = B (L_o p) f) (hr : ∀ f, B' (L_row p) f = B (L_row p) f) (h : CLn A B p) : CLn A' B' p := by
  unfold CLn
  rw [show A' M_lineUsed p = A M_lineUsed p from hl 59 p (by omega) (by omega), show A' M_delivered p = A M_delivered p from hl 60 p (by omega) (by omega), show A' M_lineSide p = A M_lineSide p from hl 52 p (by omega) (by omega), show A' M_lineKind p = A M_lineKind p from hl 53 p (by omega) (by omega), show A' M_lineSize p = A M_lineSize p from hl 57 p (by omega) (by omega), show A' M_lineBytes p = A M_lineBytes p from hl 58 p (by omega) (by omega), show A' M_lineA p = A M_lineA p from hl 54 p (by omega) (by omega), show A' M_lineB p = A M_lineB p from hl 55 p (by omega) (by omega), show A' M_lineC p = A M_lineC p from hl 56 p (by omega) (by omega), hb, hb, hb, hb, hb, hb, hb, hb, hb]
  have e : ∀ i, A' M_lineData (1200 * p + i) = A M_lineData (1200 * p + i) := fun i => hl 61 _ (by omega) (by omega)
  simp only [hr, e]
  exact h
end SDE
