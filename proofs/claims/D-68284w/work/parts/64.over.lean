/-! A STREAM THAT HAS COME TO ITS END -/
def Ex (k j : Nat) (k' j' : Nat) : Prop := ¬ (k' = k ∧ j' = j)
section OVE
variable {A A' B B' : AM} {E : L3 → Bool} {k j n : Nat} {P : Nat → Nat → Prop}
theorem covr_eq (h : Rel P n E A B) (hk : k < 2) (hj : j < 256) (ht : A M_there (256 * k + j) ≠ 0) : covr E B k j = ovr A k j := by
  have e := h.ex k j hk hj
  rw [decide_eq_true ht, Bool.true_and, Bool.true_and] at e
  have sr := sst_rng h.tb hk hj
  have rr := rst_rng (A := A) (k := k) (j := j)
  unfold covr ovr
  have e1 : (!E (S_o k j) || decide (B (S_o k j) 0 = 2 ∨ B (S_o k j) 0 = 4)) = (!hs k j || decide (sst A k j = 2) || decide (sst A k j = 4)) := by
    rw [e.1]
    cases q : hs k j
    · rfl
    · rw [(h.sd k j hk hj (by rw [e.1]; exact q)).sta]
      by_cases z2 : sst A k j = 2
      · simp [z2]
      · by_cases z4 : sst A k j = 4
        · simp [z4]
        · simp [z2, z4]
  have e2 : (!E (R_o k j) || decide (B (R_o k j) 1 = 3 ∨ B (R_o k j) 1 = 4)) = (!hr k j || decide (2 < rst A k j)) := by
    rw [e.2]
    cases q : hr k j
    · rfl
    · rw [(h.rv k j hk hj (by rw [e.2]; exact q)).sta]
      simp only [Bool.not_true, Bool.false_or]
      apply decide_eq_decide.2
      omega
  rw [e1, e2, Bool.and_comm]
theorem gLw {k j w f : Nat} : gL k j (W_o k w) f := Or.inr (Or.inr (Or.inr (Or.inr (Or.inl ⟨rfl, rfl⟩))))
theorem fLw {k j t w : Nat} (ht : t = 11 ∨ t = 14 ∨ t = 16) (hw : w < 2) : fL k j (t, 0, 0) (2 * k + w) := Or.inr (Or.inr (Or.inr (Or.inr (Or.inl ⟨ht, by omega⟩))))
theorem W_ne {k w k' w' : Nat} (h : ¬ (k' = k ∧ w' = w)) : W_o k' w' ≠ W_o k w := fun z => h (by injection z with _ z; injection z with z1 z2; exact ⟨z1, z2⟩)
theorem Rel.ov1 (h : Rel (Ex k j) n E A B) (hk : k < 2) (hj : j < 256) (ho : own k j = false) (ht : A M_there (256 * k + j) ≠ 0) (hv : ovr A k j = true) : Rel Any n E (aOv1 A k j) (cMb1 B k (wy j)) := by
  have hT := h.tb
  have t := h.ts k j hk hj
  have wl2 := wy_lt j
  have cw := h.wys k (wy j) hk wl2
  have tk := h.tk k hk
  have g := hT.grt (2 * k + wy j) (by omega)
  have s01 := tk.s01 (wy j) wl2
  have o1 : aOv1 A k j M_over (256 * k + j) = 1 := by
    unfold aOv1
    split
    · rw [uA_tag (by decide), uA_tag (by decide), uA_self]
    · rw [uA_self]
  have ao : ∀ (r : L3) (f : Nat), r.1 ≠ 36 → (r.1 = 11 ∨ r.1 = 14 → f ≠ 2 * k + wy j) → aOv1 A k j r f = A r f := by
    intro r f h1 h2
    unfold aOv1
    split
    · have e3 : uA A M_over (256 * k + j) 1 r f = A r f := uA_tag h1
      have e2 : uA (uA A M_over (256 * k + j) 1) M_granted (2 * k + wy j) (A M_granted (2 * k + wy j) + 1) r f = A r f := by rw [uA_at, if_neg (fun z => h2 (by rw [z.1]; decide) z.2), e3]
      rw [uA_at, if_neg (fun z => h2 (by rw [z.1]; decide) z.2), e2]
    · exact uA_tag h1
  have ag : aOv1 A k j M_granted (2 * k + wy j) = if A M_granted (2 * k + wy j) ≠ 64 then A M_granted (2 * k + wy j) + 1 else 64 := by
    unfold aOv1
    split
    · rw [uA_tag (by decide), uA_self]
    · rename_i z; rw [uA_tag (by decide)]; omega
  have as : aOv1 A k j M_tellStreams (2 * k + wy j) = if A M_granted (2 * k + wy j) ≠ 64 then 1 else A M_tellStreams (2 * k + wy j) := by
    unfold aOv1
    split
    · rw [uA_self]
    · rw [uA_tag (by decide)]
  have oA : Out (fL k j) A (aOv1 A k j) := by
    unfold aOv1
    split
    · exact ((Out.rf.u (fLs (by decide) (by decide) (by decide) (by decide))).u (fLw (by decide) wl2)).u (fLw (by decide) wl2)
    · exact Out.rf.u (fLs (by decide) (by decide) (by decide) (by decide))
  have oB : Out (gL k j) B (cMb1 B k (wy j)) := (Out.rf.u gLw).u gLw
  have hR := fL_R oA
  have hPc := fL_P oA
  have fo : ∀ t, 18 ≤ t → t ≤ 35 → aOv1 A k j (t, 0, 0) (256 * k + j) = A (t, 0, 0) (256 * k + j) := fun t h1 h2 => ao _ _ (by show t ≠ 36; omega) (fun z => by dsimp only at z; omega)
  have f18 : aOv1 A k j M_there (256 * k + j) = A M_there (256 * k + j) := fo 18 (by omega) (by omega)
  have f20 : aOv1 A k j M_finished (256 * k + j) = A M_finished (256 * k + j) := fo 20 (by omega) (by omega)
  have f21 : aOv1 A k j M_end (256 * k + j) = A M_end (256 * k + j) := fo 21 (by omega) (by omega)
  have f22 : aOv1 A k j M_resets (256 * k + j) = A M_resets (256 * k + j) := fo 22 (by omega) (by omega)
  have eov : ovr (aOv1 A k j) k j = true := by
    rw [← hv]
    unfold ovr
    rw [rst_cg (fo 28 (by omega) (by omega)) (fun _ => hPc.hasB) (fo 29 (by omega) (by omega)) (fo 27 (by omega) (by omega))]
    have : sst (aOv1 A k j) k j = sst A k j := by unfold sst; rw [f22, f20, f21, hR.cn, hR.wl]
    rw [this]
  refine h.loc hk hj oA oB (Nat.le_refl _) (hT.ov1 hk) ?_ ?_ ?_ (fun a b _ _ z _ => z) ?_ ?_ ?_ ?_ ?_ ?_ ?_ ?_
  · rw [ao _ _ (by decide) (fun z => by rcases z with z | z <;> cases z)]; exact Int.le_refl _
  · refine TS.make ?_ ?_ ?_ ?_ ?_ ?_ ?_ ?_ ?_ (Or.inr o1) ?_ ?_ ?_ ?_ ?_ ?_ ?_ ?_
    · rw [f18]; exact t.t01
    · rw [f20]; exact t.f01
    · rw [f21]; exact t.e03
    · rw [f21, f20]; exact t.enf
    · rw [show aOv1 A k j M_tellReset (256 * k + j) = _ from fo 23 (by omega) (by omega)]; exact t.r01
    · rw [show aOv1 A k j M_tellGrant (256 * k + j) = _ from fo 32 (by omega) (by omega)]; exact t.g01
    · rw [show aOv1 A k j M_tellStop (256 * k + j) = _ from fo 34 (by omega) (by omega)]; exact t.s01
    · rw [show aOv1 A k j M_stopped (256 * k + j) = _ from fo 33 (by omega) (by omega)]; exact t.p01
    · rw [show aOv1 A k j M_wasReset (256 * k + j) = _ from fo 29 (by omega) (by omega)]; exact t.w01
    · rw [show aOv1 A k j M_tellReset (256 * k + j) = _ from fo 23 (by omega) (by omega), f20, f22, hR.wl, f18]; exact t.sth
    · rw [show aOv1 A k j M_tellStop (256 * k + j) = _ from fo 34 (by omega) (by omega), show aOv1 A k j M_tellGrant (256 * k + j) = _ from fo 32 (by omega) (by omega), show aOv1 A k j M_highest (256 * k + j) = _ from fo 26 (by omega) (by omega), show aOv1 A k j M_read (256 * k + j) = _ from fo 28 (by omega) (by omega), show aOv1 A k j M_size (256 * k + j) = _ from fo 27 (by omega) (by omega), show aOv1 A k j M_wasReset (256 * k + j) = _ from fo 29 (by omega) (by omega), show aOv1 A k j M_stopped (256 * k + j) = _ from fo 33 (by omega) (by omega), f18]; exact t.rth
    · rw [f18]; exact fun z => absurd z ht
    · rw [show aOv1 A k j M_read (256 * k + j) = _ from fo 28 (by omega) (by omega)]; intro o ho; rw [hPc.hasB]; exact t.rdb o ho
    · rw [show aOv1 A k j M_highest (256 * k + j) = _ from fo 26 (by omega) (by omega)]; intro o ho; rw [hPc.hasB] at ho; exact t.hsh o ho
    · rw [show aOv1 A k j M_size (256 * k + j) = _ from fo 27 (by omega) (by omega), show aOv1 A k j M_highest (256 * k + j) = _ from fo 26 (by omega) (by omega)]; exact t.shz
    · rw [show aOv1 A k j M_wasReset (256 * k + j) = _ from fo 29 (by omega) (by omega), show aOv1 A k j M_size (256 * k + j) = _ from fo 27 (by omega) (by omega), show aOv1 A k j M_highest (256 * k + j) = _ from fo 26 (by omega) (by omega)]; exact t.wsz
    · rw [hR.wl, hR.sn]; intro o ho; rw [hR.mka]; exact t.nwm o ho
  · intro _
    unfold OV
    rw [o1, f18, eov]
    exact ⟨fun _ => ⟨ho, ht, rfl⟩, fun _ => by decide⟩
  · refine TK.make ?_ ?_ ?_ ?_ ?_ ?_ ?_
    · intro z w hw
      rw [ao _ _ (by decide) (fun z => by rcases z with z | z <;> cases z)] at z
      rw [ao _ _ (by decide) (fun z => by rcases z with z | z <;> cases z), ao _ _ (by decide) (fun z => by rcases z with z | z <;> cases z)]; exact tk.lim z w hw
    · intro w hw
      rw [ao _ _ (by decide) (fun z => by rcases z with z | z <;> cases z)]
      have := tk.thg w hw
      by_cases e : w = wy j
      · subst e; rw [ag]; split <;> omega
      · rw [ao _ _ (by decide) (fun _ => by omega)]; exact this
    · rw [ao _ _ (by decide) (fun z => by rcases z with z | z <;> cases z)]; exact tk.d01
    · intro w hw
      by_cases e : w = wy j
      · subst e; rw [as]; split
        · exact Or.inr rfl
        · exact s01
      · rw [ao _ _ (by decide) (fun _ => by omega)]; exact tk.s01 w hw
    · intro w hw; rw [ao _ _ (by decide) (fun z => by rcases z with z | z <;> cases z)]; exact tk.g89 w hw
    · intro z
      rw [ao _ _ (by decide) (fun z => by rcases z with z | z <;> cases z)] at z
      rw [ao _ _ (by decide) (fun z => by rcases z with z | z <;> cases z), ao _ _ (by decide) (fun z => by rcases z with z | z <;> cases z), ao _ _ (by decide) (fun z => by rcases z with z | z <;> cases z), hR.tot, hPc.pcs]
      exact tk.una z
    · intro z w hw
      rw [ao _ _ (by decide) (fun z => by rcases z with z | z <;> cases z)] at z
      have u := tk.unw z (wy j) wl2
      have tt := (h.th k j hk hj).1 ht
      rw [if_neg (by rw [ho]; decide), u.2.1] at tt
      omega
  · rw [f22]; exact fun z => z
  · rw [f20]; exact fun z => z
  · have tp := h.top
    refine CTop.make ?_ ?_ ?_ ?_ ?_ ?_
    · rw [ao _ _ (by decide) (fun z => by rcases z with z | z <;> cases z)]; exact tp.tap
    · rw [ao _ _ (by decide) (fun z => by rcases z with z | z <;> cases z)]; exact tp.mad
    · rw [ao _ _ (by decide) (fun z => by rcases z with z | z <;> cases z)]; exact tp.jnd
    · intro i hi; rw [ao _ _ (by decide) (fun z => by rcases z with z | z <;> cases z)]; exact tp.tpe i hi
    · intro i hi; rw [ao _ _ (by decide) (fun z => by rcases z with z | z <;> cases z)]; exact tp.out i hi
    · intro i; rw [ao _ _ (by decide) (fun z => by rcases z with z | z <;> cases z)]; exact tp.ovl i
  · refine (h.hl k hk).cg ?_ ?_ hR.sa ?_ ?_ ?_ ?_ ?_ (fun f _ _ => rfl)
    · exact ao _ _ (by decide) (fun z => by rcases z with z | z <;> cases z)
    · exact ao _ _ (by decide) (fun z => by rcases z with z | z <;> cases z)
    · exact sumTo_congr (fun i _ => ao _ _ (by decide) (fun z => by rcases z with z | z <;> cases z))
    · refine sumTo_congr (fun i _ => ?_)
      unfold co
      rw [ao _ _ (by decide) (fun z => by rcases z with z | z <;> cases z), ao _ _ (by decide) (fun z => by rcases z with z | z <;> cases z), ao _ _ (by decide) (fun z => by rcases z with z | z <;> cases z)]
    · exact ao _ _ (by decide) (fun z => by rcases z with z | z <;> cases z)
    · exact ao _ _ (by decide) (fun z => by rcases z with z | z <;> cases z)
    · exact ao _ _ (by decide) (fun z => by rcases z with z | z <;> cases z)
  · intro w hw
    have c := h.wys k w hk hw
    by_cases e : w = wy j
    · subst e
      have b2 : cMb1 B k (wy j) (W_o k (wy j)) 2 = mnZ (B (W_o k (wy j)) 2 + 1) 64 := by unfold cMb1; rw [uA_self]
      have b6 : cMb1 B k (wy j) (W_o k (wy j)) 6 = if B (W_o k (wy j)) 6 ≠ 0 ∨ B (W_o k (wy j)) 2 < 64 then 1 else 0 := by unfold cMb1; rw [uA_idx _ _ _ _ (by decide), uA_self]
      have bo : ∀ f, f ≠ 2 → f ≠ 6 → cMb1 B k (wy j) (W_o k (wy j)) f = B (W_o k (wy j)) f := fun f h1 h2 => by unfold cMb1; rw [uA_idx _ _ _ _ h1, uA_idx _ _ _ _ h2]
      refine CWy.make ?_ ?_ ?_ ?_ ?_ ?_ ?_ ?_
      · rw [bo _ (by decide) (by decide), ao _ _ (by decide) (fun z => by rcases z with z | z <;> cases z)]; exact c.opn
      · rw [bo _ (by decide) (by decide), ao _ _ (by decide) (fun z => by rcases z with z | z <;> cases z)]; exact c.thr
      · rw [b2, ag, c.grt]; unfold mnZ; split <;> split <;> omega
      · rw [bo _ (by decide) (by decide), ao _ _ (by decide) (fun z => by rcases z with z | z <;> cases z)]; exact c.lim
      · rw [bo _ (by decide) (by decide), ao _ _ (by decide) (fun z => by rcases z with z | z <;> cases z), ao _ _ (by decide) (fun z => by rcases z with z | z <;> cases z), ao _ _ (by decide) (fun z => by rcases z with z | z <;> cases z)]; exact c.ref
      · rw [bo _ (by decide) (by decide), ao _ _ (by decide) (fun z => by rcases z with z | z <;> cases z)]; exact c.rle
      · rw [bo _ (by decide) (by decide), ao _ _ (by decide) (fun z => by rcases z with z | z <;> cases z)]; exact c.tld
      · rw [b6, as, c.tel, c.grt]
        split <;> split <;> omega
    · have bo : ∀ f, cMb1 B k (wy j) (W_o k w) f = B (W_o k w) f := fun f => by unfold cMb1; rw [uA_role _ _ _ _ (W_ne (fun z => e z.2)), uA_role _ _ _ _ (W_ne (fun z => e z.2))]
      exact c.cg (ao _ _ (by decide) (fun z => by rcases z with z | z <;> cases z)) (ao _ _ (by decide) (fun z => by rcases z with z | z <;> cases z)) (ao _ _ (by decide) (fun _ => by omega)) (ao _ _ (by decide) (fun z => by rcases z with z | z <;> cases z)) (ao _ _ (by decide) (fun z => by rcases z with z | z <;> cases z)) (ao _ _ (by decide) (fun z => by rcases z with z | z <;> cases z)) (ao _ _ (by decide) (fun _ => by omega)) bo
  · intro hE
    have s := h.sd k j hk hj hE
    have f19 : aOv1 A k j M_limit (256 * k + j) = A M_limit (256 * k + j) := fo 19 (by omega) (by omega)
    have f23 : aOv1 A k j M_tellReset (256 * k + j) = A M_tellReset (256 * k + j) := fo 23 (by omega) (by omega)
    have f24 : aOv1 A k j M_code (256 * k + j) = A M_code (256 * k + j) := fo 24 (by omega) (by omega)
    have f25 : aOv1 A k j M_toldLimit (256 * k + j) = A M_toldLimit (256 * k + j) := fo 25 (by omega) (by omega)
    have es : sst (aOv1 A k j) k j = sst A k j := by unfold sst; rw [f22, f20, f21, hR.cn, hR.wl]
    unfold CSd
    rw [es, hR.wl, hR.sn, f19, f20, f21, f22, f23, f24, f25]
    exact s
  · intro hE
    have s := h.rv k j hk hj hE
    have f26 : aOv1 A k j M_highest (256 * k + j) = A M_highest (256 * k + j) := fo 26 (by omega) (by omega)
    have f27 : aOv1 A k j M_size (256 * k + j) = A M_size (256 * k + j) := fo 27 (by omega) (by omega)
    have f28 : aOv1 A k j M_read (256 * k + j) = A M_read (256 * k + j) := fo 28 (by omega) (by omega)
    have f29 : aOv1 A k j M_wasReset (256 * k + j) = A M_wasReset (256 * k + j) := fo 29 (by omega) (by omega)
    have f30 : aOv1 A k j M_theirCode (256 * k + j) = A M_theirCode (256 * k + j) := fo 30 (by omega) (by omega)
    have f31 : aOv1 A k j M_grant (256 * k + j) = A M_grant (256 * k + j) := fo 31 (by omega) (by omega)
    have f32 : aOv1 A k j M_tellGrant (256 * k + j) = A M_tellGrant (256 * k + j) := fo 32 (by omega) (by omega)
    have f33 : aOv1 A k j M_stopped (256 * k + j) = A M_stopped (256 * k + j) := fo 33 (by omega) (by omega)
    have f34 : aOv1 A k j M_tellStop (256 * k + j) = A M_tellStop (256 * k + j) := fo 34 (by omega) (by omega)
    have f35 : aOv1 A k j M_stopCode (256 * k + j) = A M_stopCode (256 * k + j) := fo 35 (by omega) (by omega)
    unfold CRv
    rw [rst_cg f28 (fun _ => hPc.hasB) f29 f27, rd_cg f28 (fun _ => hPc.hasB), f26, f27, f28, f29, f30, f31, f32, f33, f34, f35, ao _ _ (by decide) (fun z => by rcases z with z | z <;> cases z)]
    exact s
theorem Rel.exAll (h : Rel (Ex k j) n E A B) (hk : k < 2) (hj : j < 256) (o : OV A k j) : Rel Any n E A B := by
  refine (Rel.make h.tb h.pf h.ts h.th (fun q i hq hi _ => ?_) h.tk h.tl h.tf h.cnt h.nst h.nsp h.ex h.top h.gr h.hl h.wys h.sd h.rv h.st h.sp h.bl h.ln)
  by_cases e : q = k ∧ i = j
  · obtain ⟨rfl, rfl⟩ := e; exact o
  · exact h.ov q i hq hi e
def cMb (B : AM) (k j : Nat) (was o : Bool) : AM := if was = false ∧ own k j = false ∧ o = true then cMb1 B k (wy j) else B
/-- looking whether a stream is over -/
theorem Rel.over (h : Rel (Ex k j) n E A B) (hk : k < 2) (hj : j < 256) (ht : A M_there (256 * k + j) ≠ 0) (hm : A M_over (256 * k + j) ≠ 0 → own k j = false ∧ ovr A k j = true) (was : Bool) (hw : own k j = false → (was = true ↔ A M_over (256 * k + j) ≠ 0)) : g_X2_mayBeOver E k B j (b2i was) = some (cMb B k j was (ovr A k j)) ∧ Rel Any n E (aOver A k j) (cMb B k j was (ovr A k j)) := by
  have g := h.tb.grt (2 * k + wy j) (by have := wy_lt j; omega)
  have cw := h.wys k (wy j) hk (wy_lt j)
  have cm := c_mayBeOver (E := E) (h.gr k hk).sd hk hj (by rw [cw.grt]; exact g) was
  rw [covr_eq h hk hj ht] at cm
  refine ⟨cm, ?_⟩
  unfold cMb
  unfold aOver
  by_cases ho : own k j = true
  · rw [if_pos (Or.inl ho), if_neg (show ¬ (was = false ∧ own k j = false ∧ ovr A k j = true) from fun z => by rw [ho] at z; cases z.2.1)]
    refine h.exAll hk hj ?_
    unfold OV
    constructor
    · intro z; exact ⟨(hm z).1, ht, (hm z).2⟩
    · rintro ⟨z, _⟩; rw [ho] at z; cases z
  · have ho' : own k j = false := by cases z : own k j; rfl; exact absurd z ho
    by_cases hov : A M_over (256 * k + j) ≠ 0
    · rw [if_pos (Or.inr (Or.inl hov)), if_neg (show ¬ (was = false ∧ own k j = false ∧ ovr A k j = true) from fun z => by rw [(hw ho').2 hov] at z; cases z.1)]
      refine h.exAll hk hj ?_
      unfold OV
      exact ⟨fun z => ⟨ho', ht, (hm z).2⟩, fun _ => hov⟩
    · have wf : was = false := by cases z : was; rfl; exact absurd ((hw ho').1 z) hov
      by_cases hv : ovr A k j = true
      · rw [if_neg (show ¬ (own k j = true ∨ A M_over (256 * k + j) ≠ 0 ∨ A M_there (256 * k + j) = 0 ∨ ovr A k j = false) from fun z => by
          rcases z with z | z | z | z
          · exact ho z
          · exact hov z
          · exact ht z
          · rw [hv] at z; cases z), if_pos (show was = false ∧ own k j = false ∧ ovr A k j = true from ⟨wf, ho', hv⟩)]
        exact h.ov1 hk hj ho' ht hv
      · have hv' : ovr A k j = false := by cases z : ovr A k j; rfl; exact absurd z hv
        rw [if_pos (Or.inr (Or.inr (Or.inr hv'))), if_neg (show ¬ (was = false ∧ own k j = false ∧ ovr A k j = true) from fun z => hv z.2.2)]
        refine h.exAll hk hj ?_
        unfold OV
        constructor
        · intro z; exact absurd z hov
        · rintro ⟨_, _, z⟩; exact absurd z hv
end OVE
