/-! FRAMES: what a change leaves as it was -/
theorem uA_tag {A : AM} {r r' : L3} {f f' : Nat} {v : Int} (h : r'.1 ≠ r.1) : uA A r f v r' f' = A r' f' := uA_role A f f' v (fun e => h (by rw [e]))
/-- A' is A outside of a footprint -/
def Out (fp : L3 → Nat → Prop) (A A' : AM) : Prop := ∀ r f, ¬ fp r f → A' r f = A r f
theorem Out.rf {fp : L3 → Nat → Prop} {A : AM} : Out fp A A := fun _ _ _ => rfl
theorem Out.u {fp : L3 → Nat → Prop} {A A' : AM} {r : L3} {f : Nat} {v : Int} (h : Out fp A A') (hf : fp r f) : Out fp A (uA A' r f v) := by
  intro r' f' q
  rw [uA_at, if_neg]
  · exact h r' f' q
  · rintro ⟨rfl, rfl⟩
    exact q hf
theorem Out.tr {fp : L3 → Nat → Prop} {A A' A'' : AM} (h : Out fp A A') (h' : Out fp A' A'') : Out fp A A'' := fun r f q => by rw [h' r f q, h r f q]
theorem Out.mono {fp fq : L3 → Nat → Prop} {A A' : AM} (h : Out fp A A') (hq : ∀ r f, fp r f → fq r f) : Out fq A A' := fun r f q => h r f (fun z => q (hq r f z))
theorem Out.ite {fp : L3 → Nat → Prop} {A A' A'' : AM} {c : Prop} [Decidable c] (h : Out fp A A') (h' : Out fp A A'') : Out fp A (if c then A' else A'') := by split <;> assumption
/-- a stream as it was -/
def EqS (A A' : AM) (k j : Nat) : Prop :=
  (∀ t, 18 ≤ t → t ≤ 36 → A' (t, 0, 0) (256 * k + j) = A (t, 0, 0) (256 * k + j)) ∧
  (wl A' k j = wl A k j) ∧
  (sn A' k j = sn A k j) ∧
  (∀ st, cn A' k j st = cn A k j st) ∧
  (∀ o, o < wl A k j → mkA A' k j o = mkA A k j o) ∧
  (∀ o, hasB A' k j o = hasB A k j o)
theorem EqS.fld {A A' : AM} {k j : Nat} (h : EqS A A' k j) : ∀ t, 18 ≤ t → t ≤ 36 → A' (t, 0, 0) (256 * k + j) = A (t, 0, 0) (256 * k + j) := h.1
theorem EqS.ewl {A A' : AM} {k j : Nat} (h : EqS A A' k j) : wl A' k j = wl A k j := h.2.1
theorem EqS.esn {A A' : AM} {k j : Nat} (h : EqS A A' k j) : sn A' k j = sn A k j := h.2.2.1
theorem EqS.ecn {A A' : AM} {k j : Nat} (h : EqS A A' k j) : ∀ st, cn A' k j st = cn A k j st := h.2.2.2.1
theorem EqS.emk {A A' : AM} {k j : Nat} (h : EqS A A' k j) : ∀ o, o < wl A k j → mkA A' k j o = mkA A k j o := h.2.2.2.2.1
theorem EqS.ehb {A A' : AM} {k j : Nat} (h : EqS A A' k j) : ∀ o, hasB A' k j o = hasB A k j o := h.2.2.2.2.2
theorem EqS.make {A A' : AM} {k j : Nat} (fld : ∀ t, 18 ≤ t → t ≤ 36 → A' (t, 0, 0) (256 * k + j) = A (t, 0, 0) (256 * k + j)) (ewl : wl A' k j = wl A k j) (esn : sn A' k j = sn A k j) (ecn : ∀ st, cn A' k j st = cn A k j st) (emk : ∀ o, o < wl A k j → mkA A' k j o = mkA A k j o) (ehb : ∀ o, hasB A' k j o = hasB A k j o) : EqS A A' k j := ⟨fld, ewl, esn, ecn, emk, ehb⟩
section FRM
variable {A A' B B' : AM} {E : L3 → Bool} {k j : Nat}
theorem EqS.esst (h : EqS A A' k j) : sst A' k j = sst A k j := by
  unfold sst
  rw [h.fld 22 (by omega) (by omega), h.fld 20 (by omega) (by omega), h.fld 21 (by omega) (by omega), h.ecn, h.ewl]
theorem EqS.erd (h : EqS A A' k j) : rd A' k j = rd A k j := rd_cg (h.fld 28 (by omega) (by omega)) h.ehb
theorem EqS.erst (h : EqS A A' k j) : rst A' k j = rst A k j := rst_cg (h.fld 28 (by omega) (by omega)) h.ehb (h.fld 29 (by omega) (by omega)) (h.fld 27 (by omega) (by omega))
theorem EqS.eco (h : EqS A A' k j) : co A' k j = co A k j := by
  unfold co
  rw [h.fld 29 (by omega) (by omega), h.fld 28 (by omega) (by omega), h.fld 27 (by omega) (by omega)]
theorem EqS.eovr (h : EqS A A' k j) : ovr A' k j = ovr A k j := by unfold ovr; rw [h.erst, h.esst]
theorem TS.cg (h : EqS A A' k j) (t : TS A k j) : TS A' k j := by
  have f := h.fld
  have e18 : A' M_there (256 * k + j) = A M_there (256 * k + j) := f 18 (by omega) (by omega)
  have e20 : A' M_finished (256 * k + j) = A M_finished (256 * k + j) := f 20 (by omega) (by omega)
  have e21 : A' M_end (256 * k + j) = A M_end (256 * k + j) := f 21 (by omega) (by omega)
  have e22 : A' M_resets (256 * k + j) = A M_resets (256 * k + j) := f 22 (by omega) (by omega)
  have e23 : A' M_tellReset (256 * k + j) = A M_tellReset (256 * k + j) := f 23 (by omega) (by omega)
  have e25 : A' M_toldLimit (256 * k + j) = A M_toldLimit (256 * k + j) := f 25 (by omega) (by omega)
  have e26 : A' M_highest (256 * k + j) = A M_highest (256 * k + j) := f 26 (by omega) (by omega)
  have e27 : A' M_size (256 * k + j) = A M_size (256 * k + j) := f 27 (by omega) (by omega)
  have e28 : A' M_read (256 * k + j) = A M_read (256 * k + j) := f 28 (by omega) (by omega)
  have e29 : A' M_wasReset (256 * k + j) = A M_wasReset (256 * k + j) := f 29 (by omega) (by omega)
  have e32 : A' M_tellGrant (256 * k + j) = A M_tellGrant (256 * k + j) := f 32 (by omega) (by omega)
  have e33 : A' M_stopped (256 * k + j) = A M_stopped (256 * k + j) := f 33 (by omega) (by omega)
  have e34 : A' M_tellStop (256 * k + j) = A M_tellStop (256 * k + j) := f 34 (by omega) (by omega)
  have e35 : A' M_stopCode (256 * k + j) = A M_stopCode (256 * k + j) := f 35 (by omega) (by omega)
  have e36 : A' M_over (256 * k + j) = A M_over (256 * k + j) := f 36 (by omega) (by omega)
  have nw : ∀ o, o < wl A' k j → (mkA A' k j o = 0 ↔ sn A' k j ≤ o) := by
    rw [h.ewl, h.esn]
    intro o ho
    rw [h.emk o ho]
    exact t.nwm o ho
  refine TS.make ?_ ?_ ?_ ?_ ?_ ?_ ?_ ?_ ?_ ?_ ?_ ?_ ?_ ?_ ?_ ?_ ?_ nw
  all_goals simp only [e18, e20, e21, e22, e23, e25, e26, e27, e28, e29, e32, e33, e34, e35, e36, h.ewl, h.ehb]
  · exact t.t01
  · exact t.f01
  · exact t.e03
  · exact t.enf
  · exact t.r01
  · exact t.g01
  · exact t.s01
  · exact t.p01
  · exact t.w01
  · exact t.o01
  · exact t.sth
  · exact t.rth
  · exact t.tln
  · exact t.rdb
  · exact t.hsh
  · exact t.shz
  · exact t.wsz
theorem CSd.cg (h : EqS A A' k j) (hb : ∀ f, f ≠ 4 → f ≠ 5 → f ≠ 6 → f ≠ 7 → B' (S_o k j) f = B (S_o k j) f) (t : CSd A B k j) : CSd A' B' k j := by
  have f := h.fld
  have e19 : A' M_limit (256 * k + j) = A M_limit (256 * k + j) := f 19 (by omega) (by omega)
  have e20 : A' M_finished (256 * k + j) = A M_finished (256 * k + j) := f 20 (by omega) (by omega)
  have e21 : A' M_end (256 * k + j) = A M_end (256 * k + j) := f 21 (by omega) (by omega)
  have e22 : A' M_resets (256 * k + j) = A M_resets (256 * k + j) := f 22 (by omega) (by omega)
  have e23 : A' M_tellReset (256 * k + j) = A M_tellReset (256 * k + j) := f 23 (by omega) (by omega)
  have e24 : A' M_code (256 * k + j) = A M_code (256 * k + j) := f 24 (by omega) (by omega)
  have e25 : A' M_toldLimit (256 * k + j) = A M_toldLimit (256 * k + j) := f 25 (by omega) (by omega)
  unfold CSd
  rw [hb 0 (by omega) (by omega) (by omega) (by omega), hb 1 (by omega) (by omega) (by omega) (by omega), hb 2 (by omega) (by omega) (by omega) (by omega), hb 3 (by omega) (by omega) (by omega) (by omega), hb 8 (by omega) (by omega) (by omega) (by omega), hb 9 (by omega) (by omega) (by omega) (by omega), hb 10 (by omega) (by omega) (by omega) (by omega), hb 11 (by omega) (by omega) (by omega) (by omega), h.esst, h.ewl, h.esn]
  simp only [e19, e20, e21, e22, e23, e24, e25]
  exact t
theorem CRv.cg' (f : ∀ t, 26 ≤ t → t ≤ 36 → A' (t, 0, 0) (256 * k + j) = A (t, 0, 0) (256 * k + j)) (ehb : ∀ o, hasB A' k j o = hasB A k j o) (hg : A' M_grants (16 * k + gi k j) = A M_grants (16 * k + gi k j)) (hb : ∀ f, f ≠ 7 → B' (R_o k j) f = B (R_o k j) f) (t : CRv A B k j) : CRv A' B' k j := by
  have e26 : A' M_highest (256 * k + j) = A M_highest (256 * k + j) := f 26 (by omega) (by omega)
  have e27 : A' M_size (256 * k + j) = A M_size (256 * k + j) := f 27 (by omega) (by omega)
  have e28 : A' M_read (256 * k + j) = A M_read (256 * k + j) := f 28 (by omega) (by omega)
  have e29 : A' M_wasReset (256 * k + j) = A M_wasReset (256 * k + j) := f 29 (by omega) (by omega)
  have e30 : A' M_theirCode (256 * k + j) = A M_theirCode (256 * k + j) := f 30 (by omega) (by omega)
  have e31 : A' M_grant (256 * k + j) = A M_grant (256 * k + j) := f 31 (by omega) (by omega)
  have e32 : A' M_tellGrant (256 * k + j) = A M_tellGrant (256 * k + j) := f 32 (by omega) (by omega)
  have e33 : A' M_stopped (256 * k + j) = A M_stopped (256 * k + j) := f 33 (by omega) (by omega)
  have e34 : A' M_tellStop (256 * k + j) = A M_tellStop (256 * k + j) := f 34 (by omega) (by omega)
  have e35 : A' M_stopCode (256 * k + j) = A M_stopCode (256 * k + j) := f 35 (by omega) (by omega)
  unfold CRv
  rw [hb 0 (by omega), hb 1 (by omega), hb 2 (by omega), hb 3 (by omega), hb 4 (by omega), hb 5 (by omega), hb 6 (by omega), hb 8 (by omega), hb 9 (by omega), hb 10 (by omega), hb 11 (by omega), hb 12 (by omega), hg, rst_cg e28 ehb e29 e27, rd_cg e28 ehb]
  simp only [e26, e27, e28, e29, e30, e31, e32, e33, e34, e35]
  exact t
theorem CRv.cg (h : EqS A A' k j) (hg : A' M_grants (16 * k + gi k j) = A M_grants (16 * k + gi k j)) (hb : ∀ f, f ≠ 7 → B' (R_o k j) f = B (R_o k j) f) (t : CRv A B k j) : CRv A' B' k j := CRv.cg' (fun t h1 h2 => h.fld t (by omega) h2) h.ehb hg hb t
theorem OV.cg (h : EqS A A' k j) (t : OV A k j) : OV A' k j := by
  unfold OV at t ⊢
  rw [show A' M_over (256 * k + j) = A M_over (256 * k + j) from h.fld 36 (by omega) (by omega), show A' M_there (256 * k + j) = A M_there (256 * k + j) from h.fld 18 (by omega) (by omega), h.eovr]
  exact t
theorem CSt.cg {ch : Nat → List Nat} (hb : ∀ t f, 17 ≤ t → t ≤ 21 → B' (t, k, 0) f = B (t, k, 0) f) (hs : ∀ j, B' (S_o k j) 4 = B (S_o k j) 4 ∧ B' (S_o k j) 5 = B (S_o k j) 5) (ht : A' M_total k = A M_total k) (hv : ∀ i, A' M_value (65536 * k + i) = A M_value (65536 * k + i)) (hp : ∀ j, pos A' k j = pos A k j) (t : CSt E A B k ch) : CSt E A' B' k ch := by
  have e1 : B' (T_at k) = B (T_at k) := funext fun f => hb 19 f (by omega) (by omega)
  have e2 : B' (T_size k) = B (T_size k) := funext fun f => hb 20 f (by omega) (by omega)
  have e3 : B' (T_next k) = B (T_next k) := funext fun f => hb 21 f (by omega) (by omega)
  have e4 : B' (T_o k) = B (T_o k) := funext fun f => hb 17 f (by omega) (by omega)
  have e5 : B' (T_bytes k) = B (T_bytes k) := funext fun f => hb 18 f (by omega) (by omega)
  unfold CSt
  simp only [e1, e2, e3, e4, e5, ht, hv, hp, (hs _).1, (hs _).2]
  exact t
theorem CSp.cg {ch : Nat → List Nat} {fl : List Nat} (hb : ∀ t f, 13 ≤ t → t ≤ 16 → B' (t, k, 0) f = B (t, k, 0) f) (hs : ∀ j, B' (S_o k j) 6 = B (S_o k j) 6 ∧ B' (S_o k j) 7 = B (S_o k j) 7) (hw : ∀ j, wl A' k j = wl A k j) (hm : ∀ j o, mkA A' k j o = mkA A k j o) (t : CSp E A B k ch fl) : CSp E A' B' k ch fl := by
  have e1 : B' (P_from k) = B (P_from k) := funext fun f => hb 14 f (by omega) (by omega)
  have e2 : B' (P_to k) = B (P_to k) := funext fun f => hb 15 f (by omega) (by omega)
  have e3 : B' (P_next k) = B (P_next k) := funext fun f => hb 16 f (by omega) (by omega)
  have e4 : B' (P_o k) = B (P_o k) := funext fun f => hb 13 f (by omega) (by omega)
  unfold CSp
  simp only [e1, e2, e3, e4, hw, hm, (hs _).1, (hs _).2]
  exact t
theorem CBl.cg {ch : Nat → List Nat} {fl : List Nat} (hb : ∀ t f, 22 ≤ t → t ≤ 26 → B' (t, k, 0) f = B (t, k, 0) f) (hs : ∀ j, B' (R_o k j) 7 = B (R_o k j) 7) (hp : A' M_pieces k = A M_pieces k) (hw : ∀ j, A' M_wasReset (256 * k + j) = A M_wasReset (256 * k + j)) (hr : ∀ j, A' M_read (256 * k + j) = A M_read (256 * k + j)) (ha : ∀ j num, pa A' k j num = pa A k j num) (hh : ∀ j o, hasB A' k j o = hasB A k j o) (ht : ∀ j o, bt A' k j o = bt A k j o) (t : CBl E A B k ch fl) : CBl E A' B' k ch fl := by
  have e1 : B' (B_bytes k) = B (B_bytes k) := funext fun f => hb 23 f (by omega) (by omega)
  have e2 : B' (B_marks k) = B (B_marks k) := funext fun f => hb 24 f (by omega) (by omega)
  have e3 : B' (B_index k) = B (B_index k) := funext fun f => hb 25 f (by omega) (by omega)
  have e4 : B' (B_next k) = B (B_next k) := funext fun f => hb 26 f (by omega) (by omega)
  have e5 : B' (B_o k) = B (B_o k) := funext fun f => hb 22 f (by omega) (by omega)
  unfold CBl
  simp only [e1, e2, e3, e4, e5, hp, hw, hr, ha, hh, ht, hs]
  exact t
theorem uns_cg (hw : wl A' (1 - k) j = wl A (1 - k) j) (ha : ∀ num, pa A' k j num = pa A k j num) : uns A' k j = uns A k j := by
  unfold uns
  rw [hw]
  simp only [ha]
theorem Psi_cg (hp : A' M_pieces k = A M_pieces k) (hw : ∀ j, wl A' (1 - k) j = wl A (1 - k) j) (ha : ∀ j num, pa A' k j num = pa A k j num) : Psi A' k = Psi A k := by
  unfold Psi
  rw [hp, sumTo_congr (fun j _ => by rw [uns_cg (hw j) (ha j)])]
end FRM
