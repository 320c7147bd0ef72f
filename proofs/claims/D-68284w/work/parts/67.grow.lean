/-! GRANTS THAT GROW -/
section GRW
variable {A A' B B' : AM} {E : L3 → Bool} {k j n : Nat} {P : Nat → Nat → Prop}
theorem uA_comm {B : AM} {r1 r2 : L3} {f1 f2 : Nat} {v1 v2 : Int} (h : r1 ≠ r2 ∨ f1 ≠ f2) : uA (uA B r1 f1 v1) r2 f2 v2 = uA (uA B r2 f2 v2) r1 f1 v1 := by
  funext r f
  simp only [uA_at]
  by_cases e1 : r = r1 ∧ f = f1
  · by_cases e2 : r = r2 ∧ f = f2
    · rcases h with h | h
      · exact absurd (e1.1.symm.trans e2.1) h
      · exact absurd (e1.2.symm.trans e2.2) h
    · rw [if_neg e2, if_pos e1, if_pos e1]
  · by_cases e2 : r = r2 ∧ f = f2
    · rw [if_pos e2, if_neg e1, if_pos e2]
    · rw [if_neg e2, if_neg e1, if_neg e1, if_neg e2]
theorem fLk {k j t : Nat} (ht : t = 12 ∨ t = 13 ∨ t = 17) : fL k j (t, 0, 0) k := Or.inr (Or.inr (Or.inr (Or.inr (Or.inr (Or.inl ⟨ht, rfl⟩)))))
theorem gLh {k j f : Nat} (hf : f ≠ 0) : gL k j (H_o k) f := Or.inr (Or.inr (Or.inl ⟨rfl, rfl, hf⟩))
theorem H_ne {k k' : Nat} (h : k' ≠ k) : H_o k' ≠ H_o k := fun z => h (by injection z with _ z; injection z)
theorem Rel.growD (h : Rel P n E A B) (hk : k < 2) (hj : j < 256) (jn : A M_o 1 = 1) : Rel P n E (aGrowD A k) (cGrowD A B k) := by
  have tb := h.tb.growD (k := k) hk
  unfold aGrowD at tb ⊢
  unfold cGrowD
  by_cases q : A M_grants (16 * k + 4) ≤ 2 * (sco A k + A M_grants (16 * k + 4) - A M_dataGrant k) ∧ A M_dataGrant k < sco A k + A M_grants (16 * k + 4) ∧ A M_dataGrant k < nx (sco A k + A M_grants (16 * k + 4))
  · rw [if_pos q] at tb ⊢
    rw [if_pos q]
    refine h.loc hk hj ((Out.rf.u (fLk (by decide))).u (fLk (by decide))) ((Out.rf.u (gLh (by decide))).u (gLh (by decide))) (Nat.le_refl _) tb (Int.le_refl _) (h.ts k j hk hj) (h.ov k j hk hj) (fun _ _ _ _ _ z => z) ?_ (fun z => z) (fun z => z) h.top ?_ (fun w hw => h.wys k w hk hw) (h.sd k j hk hj) (h.rv k j hk hj)
    · have tk := h.tk k hk
      exact (TK.make tk.lim tk.thg (Or.inr (uA_self _ _ _ _)) tk.s01 tk.g89 (fun z => absurd (show A M_o 1 = 0 from z) (by rw [jn]; decide)) (fun z => absurd (show A M_o 1 = 0 from z) (by rw [jn]; decide)))
    · have hl := h.hl k hk
      exact CHl.make (by rw [uA_idx _ _ _ _ (by decide), uA_idx _ _ _ _ (by decide)]; exact hl.lal) (by rw [uA_idx _ _ _ _ (by decide), uA_idx _ _ _ _ (by decide)]; exact hl.bla) (by rw [uA_idx _ _ _ _ (by decide), uA_idx _ _ _ _ (by decide)]; exact hl.sal) (by rw [uA_idx _ _ _ _ (by decide), uA_idx _ _ _ _ (by decide)]; exact hl.ral) (by rw [uA_idx _ _ _ _ (by decide), uA_idx _ _ _ _ (by decide)]; exact hl.cal) (by rw [uA_idx _ _ _ _ (by decide), uA_self, uA_tag (by decide), uA_self]) (by rw [uA_idx _ _ _ _ (by decide), uA_idx _ _ _ _ (by decide)]; exact hl.lst) (by rw [uA_self, uA_self])
  · rw [if_neg q]
    rw [if_neg q]
    exact h
theorem Rel.growS (h : Rel P n E A B) (hk : k < 2) (hj : j < 256) (hE : E (R_o k j) = true) : Rel P n E (aGrowS A k j) (cGrowS A B k j) := by
  have tb := h.tb.growS (k := k) (j := j) hk hj
  have e := (h.ex.rN hk hj).1 hE
  unfold aGrowS at tb ⊢
  unfold cGrowS
  split
  · rename_i q
    rw [if_pos q] at tb
    refine h.loc hk hj ((Out.rf.u (fLs (by decide) (by decide) (by decide) (by decide))).u (fLs (by decide) (by decide) (by decide) (by decide))) ((Out.rf.u (gLr (by decide))).u (gLr (by decide))) (Nat.le_refl _) tb (Int.le_refl _) ?_ (h.ov k j hk hj) (fun _ _ _ _ _ z => z) (h.tk k hk) (fun z => z) (fun z => z) h.top (h.hl k hk) (fun w hw => h.wys k w hk hw) (h.sd k j hk hj) ?_
    · have t := h.ts k j hk hj
      exact (TS.make t.t01 t.f01 t.e03 t.enf t.r01 (Or.inr (uA_self _ _ _ _)) t.s01 t.p01 t.w01 t.o01 t.sth (fun _ => e) t.tln t.rdb t.hsh t.shz t.wsz t.nwm)
    · intro _
      have s := h.rv k j hk hj hE
      have id2 : ∀ f v w, f ≠ 6 → f ≠ 10 → uA (uA B (R_o k j) 6 v) (R_o k j) 10 w (R_o k j) f = B (R_o k j) f := fun f v w h1 h2 => by rw [uA_idx _ _ _ _ h2, uA_idx _ _ _ _ h1]
      exact CRv.make (by rw [id2 _ _ _ (by decide) (by decide)]; exact s.win) (by rw [id2 _ _ _ (by decide) (by decide)]; exact s.sta) (by rw [id2 _ _ _ (by decide) (by decide)]; exact s.rea) (by rw [id2 _ _ _ (by decide) (by decide)]; exact s.rdy) (by rw [id2 _ _ _ (by decide) (by decide)]; exact s.hig) (by rw [id2 _ _ _ (by decide) (by decide)]; exact s.siz) (by rw [uA_idx _ _ _ _ (by decide), uA_self, uA_tag (by decide), uA_self]) (by rw [id2 _ _ _ (by decide) (by decide)]; exact s.cod) (by rw [id2 _ _ _ (by decide) (by decide)]; exact s.stc) (by rw [uA_self, uA_self]) (by rw [id2 _ _ _ (by decide) (by decide)]; exact s.stp) (by rw [id2 _ _ _ (by decide) (by decide)]; exact s.std)
  · exact h
theorem rd_hig (hT : TB A) (hk : k < 2) (hj : j < 256) (t : TS A k j) : (rd A k j : Int) ≤ A M_highest (256 * k + j) := by
  have hr := hT.rds k j hk hj
  have hh := hT.hig k j hk hj
  by_cases q : (A M_read (256 * k + j)).toNat < rd A k j
  · have := t.hsh (rd A k j - 1) (rdF_has (f := 70000) (n := (A M_read (256 * k + j)).toNat) (by omega) (show rd A k j - 1 < rd A k j by omega))
    omega
  · have e := rd_ge (A := A) (k := k) (j := j)
    by_cases z : rd A k j = 0
    · omega
    · have := t.hsh (rd A k j - 1) (t.rdb _ (by omega))
      omega
theorem rd_has {o : Nat} (t : TS A k j) (h : o < rd A k j) : hasB A k j o = true := by
  by_cases q : (o : Int) < A M_read (256 * k + j)
  · exact t.rdb o q
  · exact rdF_has (f := 70000) (n := (A M_read (256 * k + j)).toNat) (by omega) h
theorem rd_not (hT : TB A) (hk : k < 2) (hj : j < 256) : hasB A k j (rd A k j) = false := by
  have hr := hT.rds k j hk hj
  exact rdF_not (b := 65536) (fun o => hT.hsb k j o hk hj) (by omega)
/-- what is ready, told by what is there -/
theorem rd_is {r : Nat} (h1 : (A M_read (256 * k + j)).toNat ≤ r) (h2 : r < 66000) (hb : ∀ o, (A M_read (256 * k + j)).toNat ≤ o → o < r → hasB A k j o = true) (hn : hasB A k j r = false) : rd A k j = r := by
  unfold rd
  exact rdF_eq h1 (by omega) hb hn
theorem stl_ok {z d r r0 : Int} (h1 : r0 ≤ r) (h2 : r ≤ d) (h3 : 0 ≤ z → d ≤ z) (h4 : 0 ≤ r0) : stl (if 0 ≤ z then (if r0 = z then 3 else if d = z then 2 else 1) else 0) z d r = (if 0 ≤ z then (if r = z then 3 else if d = z then 2 else 1) else 0) := by
  unfold stl
  by_cases z0 : 0 ≤ z
  · have := h3 z0
    simp only [if_pos z0]
    by_cases e1 : r0 = z
    · rw [if_pos e1]
      have e2 : r = z := by omega
      rw [if_pos e2]; simp
    · rw [if_neg e1]
      by_cases e2 : d = z
      · rw [if_pos e2]
        by_cases e3 : r = z
        · rw [if_pos e3]; simp [e3]
        · rw [if_neg e3]; simp [e3, e2]
      · rw [if_neg e2]
        have e3 : r ≠ z := by omega
        rw [if_neg e3]; simp [e2, e3]
  · simp only [if_neg z0]
    have e1 : ¬ (r = z) := by omega
    simp [e1, z0]
end GRW
