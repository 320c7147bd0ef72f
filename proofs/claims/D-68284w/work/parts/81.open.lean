section OPN
variable {A A' B B' : AM} {E : L3 → Bool} {k j n w : Nat}
theorem lim_ok (g : CGr A B k) (hk : k < 2) (hj : A M_o 1 ≠ 0) : B (H_limits k) (rul k j true) = A M_grants (16 * (1 - k) + gi (1 - k) j) := by
  unfold rul gi
  cases ho : ow j
  · have e : own (1 - k) j = !own k j := by
      unfold own
      have : j % 2 < 2 := Nat.mod_lt _ (by decide)
      have hk' : k = 0 ∨ k = 1 := by omega
      rcases hk' with rfl | rfl
      · have : j % 2 = 0 ∨ j % 2 = 1 := by omega
        rcases this with z | z <;> rw [z] <;> rfl
      · have : j % 2 = 0 ∨ j % 2 = 1 := by omega
        rcases this with z | z <;> rw [z] <;> rfl
    rw [e]
    cases own k j
    · exact g.l1 hj
    · exact g.l2 hj
  · exact g.l3 hj
theorem gra_ok (g : CGr A B k) : B (H_grants k) (rul k j false) = A M_grants (16 * k + gi k j) := by
  unfold rul gi
  cases ho : ow j
  · cases own k j
    · exact g.gh 2 (by decide)
    · exact g.gh 1 (by decide)
  · exact g.gh 3 (by decide)
theorem Rel.refuse (h : Rel Any n E A B) (hk : k < 2) (hw : w < 2) (hjn : A M_o 1 ≠ 0) (hl : A M_limits (3 * k + 1 + w) ≤ A M_opened (2 * k + w)) : Rel Any n E (uA A M_refused (2 * k + w) 1) (uA B (W_o k w) 4 (B (W_o k w) 3)) := by
  have c0 := h.wys k w hk hw
  refine h.loc (j := 0) hk (by decide) (Out.rf.u (fLw (by decide) hw)) (Out.rf.u gLw) (Nat.le_refl _) ((TB.make h.tb.jnd h.tb.tap h.tb.tpv h.tb.out h.tb.tot h.tb.mrk h.tb.val h.tb.pcs h.tb.cam h.tb.hsb h.tb.rds h.tb.res h.tb.hig h.tb.siz h.tb.wrs h.tb.gra h.tb.grt h.tb.opn h.tb.thr h.tb.dgr h.tb.grs h.tb.lim h.tb.lms h.tb.lst h.tb.stc h.tb.cod)) (Int.le_refl _) (h.ts k 0 hk (by decide)) (h.ov k 0 hk (by decide)) (fun _ _ _ _ _ z => z) ?_ (fun z => z) (fun z => z) h.top (h.hl k hk) ?_ (h.sd k 0 hk (by decide)) (h.rv k 0 hk (by decide))
  · have tk := h.tk k hk
    exact (TK.make tk.lim tk.thg tk.d01 tk.s01 tk.g89 tk.una (fun z => absurd z hjn))
  · intro q hq
    have c := h.wys k q hk hq
    by_cases e : q = w
    · subst e
      refine CWy.make (by rw [uA_idx _ _ _ _ (by decide)]; exact c.opn) (by rw [uA_idx _ _ _ _ (by decide)]; exact c.thr) (by rw [uA_idx _ _ _ _ (by decide)]; exact c.grt) (by rw [uA_idx _ _ _ _ (by decide)]; exact c.lim) ?_ ?_ (by rw [uA_idx _ _ _ _ (by decide)]; exact c.tld) (by rw [uA_idx _ _ _ _ (by decide)]; exact c.tel)
      · rw [uA_self, uA_self, c.lim]
        exact ⟨fun _ => ⟨by decide, hl⟩, fun _ => rfl⟩
      · rw [uA_self, c.lim]; exact Int.le_refl _
    · exact CWy.cg (A := A) (B := B) rfl rfl rfl rfl (uA_idx _ _ _ _ (by omega)) rfl rfl (fun f => uA_role _ _ _ _ (W_ne (fun z => e z.2))) c
def nwS (k w o : Nat) : Nat := 4 * o + 2 * w + k
theorem Rel.opens (h : Rel Any n E A B) (hk : k < 2) (hw : w < 2) (hjn : A M_o 1 ≠ 0) {o : Nat} (ho : A M_opened (2 * k + w) = o) (hl : (o : Int) < A M_limits (3 * k + 1 + w)) : nwS k w o < 256 ∧ Rel Any n (exB E k (nwS k w o)) (aBegin (uA (uA A M_refused (2 * k + w) 0) M_opened (2 * k + w) ((o : Int) + 1)) k (nwS k w o)) (cBeg (uA B (W_o k w) 0 ((o : Int) + 1)) k (nwS k w o)) := by
  have tk := h.tk k hk
  have l64 := (tk.lim hjn w hw).2
  have o64 : o < 64 := by omega
  have j256 : nwS k w o < 256 := by unfold nwS; omega
  have jw : wy (nwS k w o) = w := by unfold nwS wy; omega
  have jo : own k (nwS k w o) = true := by unfold nwS own; rw [beq_iff_eq]; omega
  have j4 : nwS k w o / 4 = o := by unfold nwS; omega
  refine ⟨j256, ?_⟩
  have only : ∀ i, own k i = true → wy i = w → i / 4 = o → i = nwS k w o := by
    intro i h1 h2 h3
    unfold own at h1
    rw [beq_iff_eq] at h1
    unfold wy at h2
    unfold nwS
    omega
  generalize hjj : nwS k w o = j at *
  have hno : A M_there (256 * k + j) = 0 := by
    have := h.th k j hk j256
    unfold TH at this
    rw [jo, if_pos rfl, jw, j4, ho] at this
    by_cases z : A M_there (256 * k + j) = 0
    · exact z
    · have := this.1 z; omega
  have g := h.gr k hk
  have eL : A M_grants (16 * (1 - k) + gi (1 - k) j) = aBegin (uA (uA A M_refused (2 * k + w) 0) M_opened (2 * k + w) ((o : Int) + 1)) k j M_limit (256 * k + j) := by
    unfold aBegin
    rw [uA_self]; rfl
  refine h.beg hk j256 hno ?_ ?_ ?_ ?_ ?_ ?_ ?_ ?_ ?_ ?_
  · intro r f h1 h2
    unfold aBegin
    rw [uA_at, if_neg (fun z => h1 ⟨Or.inr (Or.inr z.1), z.2⟩), uA_at, if_neg (fun z => h1 ⟨Or.inr (Or.inl z.1), z.2⟩), uA_at, if_neg (fun z => h1 ⟨Or.inl z.1, z.2⟩), uA_at, if_neg (fun z => h2 ⟨Or.inl z.1, by omega⟩), uA_at, if_neg (fun z => h2 ⟨Or.inr (Or.inr z.1), by omega⟩)]
  · unfold aBegin
    rw [uA_tag (by decide), uA_tag (by decide), uA_self]
  · unfold aBegin
    rw [uA_tag (by decide), uA_self]; rfl
  · have hT := h.tb
    have b1 := hT.gra k (gi k j) hk (by have := gi_le k j; omega) (by have := gi_le k j; omega)
    have b2 := hT.gra (1 - k) (gi (1 - k) j) (by omega) (by have := gi_le (1 - k) j; omega) (by have := gi_le (1 - k) j; omega)
    exact (TB.make hT.jnd hT.tap hT.tpv hT.out hT.tot hT.mrk hT.val hT.pcs hT.cam hT.hsb hT.rds hT.res hT.hig hT.siz hT.wrs hT.gra hT.grt (fun x hx => by
      show 0 ≤ uA (uA A M_refused (2 * k + w) 0) M_opened (2 * k + w) ((o : Int) + 1) M_opened x ∧ uA (uA A M_refused (2 * k + w) 0) M_opened (2 * k + w) ((o : Int) + 1) M_opened x ≤ 64
      rw [uA_at]; split
      · omega
      · exact hT.opn x hx) hT.thr hT.dgr (fun q i hq hi => by
      show 0 ≤ uA A M_grant (256 * k + j) (A M_grants (16 * k + gi k j)) M_grant (256 * q + i) ∧ uA A M_grant (256 * k + j) (A M_grants (16 * k + gi k j)) M_grant (256 * q + i) ≤ 65536
      rw [uA_at]; split
      · exact b1
      · exact hT.grs q i hq hi) (fun q i hq hi => by
      show 0 ≤ uA A M_limit (256 * k + j) (A M_grants (16 * (1 - k) + gi (1 - k) j)) M_limit (256 * q + i) ∧ uA A M_limit (256 * k + j) (A M_grants (16 * (1 - k) + gi (1 - k) j)) M_limit (256 * q + i) ≤ 4611686018427387903
      rw [uA_at]; split
      · omega
      · exact hT.lim q i hq hi) hT.lms hT.lst hT.stc hT.cod)
  · intro i hi
    have t := h.th k i hk hi
    have e1 : aBegin (uA (uA A M_refused (2 * k + w) 0) M_opened (2 * k + w) ((o : Int) + 1)) k j M_there (256 * k + i) = uA A M_there (256 * k + j) 1 M_there (256 * k + i) := rfl
    have e2 : aBegin (uA (uA A M_refused (2 * k + w) 0) M_opened (2 * k + w) ((o : Int) + 1)) k j M_opened (2 * k + wy i) = uA A M_opened (2 * k + w) ((o : Int) + 1) M_opened (2 * k + wy i) := rfl
    have e3 : aBegin (uA (uA A M_refused (2 * k + w) 0) M_opened (2 * k + w) ((o : Int) + 1)) k j M_theirs (2 * k + wy i) = A M_theirs (2 * k + wy i) := rfl
    unfold TH at t ⊢
    rw [e1, e2, e3]
    by_cases z : i = j
    · subst z
      rw [uA_self, jo, if_pos rfl, jw, uA_self, j4]
      constructor
      · intro _; omega
      · intro _; decide
    · rw [uA_idx _ _ _ _ (by omega)]
      by_cases y : own k i = true
      · rw [if_pos y] at t ⊢
        by_cases x : wy i = w
        · rw [x, uA_self]
          rw [x, ho] at t
          have : i / 4 ≠ o := fun u => z (only i y x u)
          rw [t]; omega
        · rw [uA_idx _ _ _ _ (by omega)]; exact t
      · rw [if_neg y] at t ⊢; exact t
  · exact (TK.make (fun _ q hq => by
      show uA A M_opened (2 * k + w) ((o : Int) + 1) M_opened (2 * k + q) ≤ A M_limits (3 * k + 1 + q) ∧ A M_limits (3 * k + 1 + q) ≤ 64
      rw [uA_at]; split
      · rename_i z
        have : q = w := by have := z.2; omega
        subst this
        exact ⟨by omega, l64⟩
      · exact tk.lim hjn q hq) tk.thg tk.d01 tk.s01 tk.g89 (fun z => absurd z hjn) (fun z => absurd z hjn))
  · intro r f h1 h2 h3
    rw [cBeg_o r f h1 h2, uA_role _ _ _ _ (fun z => h3 (by rw [z]; exact ⟨rfl, rfl⟩))]
  · intro hs1 f hf
    rw [cBeg_S hs1 hf, ← eL, ← lim_ok g hk hjn]
    rfl
  · intro hr1 f hf
    rw [cBeg_R hr1 hf, ← gra_ok g]
    rfl
  · intro q hq
    have c := h.wys k q hk hq
    have bo : ∀ f, cBeg (uA B (W_o k w) 0 ((o : Int) + 1)) k j (W_o k q) f = uA B (W_o k w) 0 ((o : Int) + 1) (W_o k q) f := fun f => cBeg_o _ _ (fun z => by injection z with z; cases z) (fun z => by injection z with z; cases z)
    by_cases e : q = w
    · subst e
      have e1 : aBegin (uA (uA A M_refused (2 * k + q) 0) M_opened (2 * k + q) ((o : Int) + 1)) k j M_opened (2 * k + q) = (o : Int) + 1 := uA_self A M_opened (2 * k + q) ((o : Int) + 1)
      have e2 : aBegin (uA (uA A M_refused (2 * k + q) 0) M_opened (2 * k + q) ((o : Int) + 1)) k j M_refused (2 * k + q) = 0 := uA_self A M_refused (2 * k + q) 0
      refine CWy.make (by rw [bo, uA_self, e1]) (by rw [bo, uA_idx _ _ _ _ (by decide)]; exact c.thr) (by rw [bo, uA_idx _ _ _ _ (by decide)]; exact c.grt) (by rw [bo, uA_idx _ _ _ _ (by decide)]; exact c.lim) ?_ (by rw [bo, uA_idx _ _ _ _ (by decide)]; exact c.rle) (by rw [bo, uA_idx _ _ _ _ (by decide)]; exact c.tld) (by rw [bo, uA_idx _ _ _ _ (by decide)]; exact c.tel)
      rw [bo, uA_idx _ _ _ _ (by decide), e2]
      constructor
      · intro z
        have := (c.ref.1 z).2
        omega
      · intro z; exact absurd rfl z.1
    · have n1 : 2 * k + q ≠ 2 * k + w := by omega
      refine CWy.cg (A := A) (B := B) ?_ rfl rfl rfl ?_ rfl rfl (fun f => ?_) c
      · exact uA_idx A M_opened M_opened ((o : Int) + 1) n1
      · exact uA_idx A M_refused M_refused 0 n1
      · rw [bo, uA_role _ _ _ _ (W_ne (fun z => e z.2))]
theorem call_open (h : Rel Any n E A B) (x1 x2 : Int) : ∃ A' v E' B' w, g_X8_open A x1 x2 = some (A', v) ∧ g_X1_open E B x1 x2 = some (E', (B', w)) ∧ Rel Any (n + 1) E' A' B' ∧ Ans wI A' v w := by
  unfold g_X1_open
  by_cases q : 0 ≤ x1 ∧ x1 ≤ 1
  · obtain ⟨k, rfl⟩ := Int.eq_ofNat_of_zero_le q.1
    have hk : k < 2 := by omega
    have h0 := (h.o0 (v := 0) (Nat.le_refl _)).o0 (v := 0) (Nat.le_refl _)
    have tw := t_open_good (A := A) (k := k) (x2 := x2) hk h.tb.jnd (fun w hw => h.tb.opn (2 * k + w) (by omega))
    rw [c_hallN hk, bd_v]
    show ∃ A' v E' B' w, g_X8_open A k x2 = some (A', v) ∧ ((g_X1_ready (B C_o 7)).bind fun qq => gXE E B qq fun _ => gB3 (g_X2_open k E B x2) fun E6 S5 v7 => g_X1_open_18 E6 S5 v7) = some (E', (B', w)) ∧ Rel Any (n + 1) E' A' B' ∧ Ans wI A' v w
    rw [h.top.jnd]
    by_cases jn : A M_o 1 = 0
    · rw [if_pos jn] at tw
      rw [jn, c_ready0, bd_v]
      exact ⟨_, _, E, B, .inl 2, tw, rfl, (h.o0 (v := 0) (Nat.le_refl _)).o0 (v := 2) (by omega), ans_l rfl⟩
    · rw [if_neg jn] at tw
      have j1 : A M_o 1 = 1 := by rcases h.tb.jnd with z | z; exact absurd z jn; exact z
      rw [j1, c_ready1, bd_v]
      show ∃ A' v E' B' w, g_X8_open A k x2 = some (A', v) ∧ (gB3 (g_X2_open k E B x2) fun E6 S5 v7 => g_X1_open_18 E6 S5 v7) = some (E', (B', w)) ∧ Rel Any (n + 1) E' A' B' ∧ Ans wI A' v w
      have e13 : ∀ w : Nat, (w = if x2 = 0 then 1 else 0) → g_X2_open k E B x2 = g_X2_open_13 k E B x2 w := by
        intro w hw
        unfold g_X2_open
        by_cases z : x2 = 0
        · rw [if_pos z] at hw ⊢; rw [hw]; rfl
        · rw [if_neg z] at hw ⊢; rw [hw]; rfl
      have ewi : ∃ w : Nat, w < 2 ∧ w = (if x2 = 0 then 1 else 0) := ⟨if x2 = 0 then 1 else 0, by split <;> omega, rfl⟩
      obtain ⟨w, hw, ew⟩ := ewi
      rw [← ew] at tw
      rw [e13 w ew]
      have c := h.wys k w hk hw
      have ob := h.tb.opn (2 * k + w) (by omega)
      have lm := (h.tk k hk).lim jn w hw
      obtain ⟨o, ho⟩ := Int.eq_ofNat_of_zero_le ob.1
      unfold g_X2_open_13
      rw [hA_ok (by omega) (by omega), tkN, c.opn, c.lim, ho]
      unfold aOpen at tw
      have a1 : (uA (uA A M_o 0 0) M_o 0 0) M_opened (2 * k + w) = o := ho
      have a2 : (uA (uA A M_o 0 0) M_o 0 0) M_limits (3 * k + 1 + w) = A M_limits (3 * k + 1 + w) := rfl
      rw [a1, a2] at tw
      by_cases z : (o : Int) < A M_limits (3 * k + 1 + w)
      · rw [if_pos z]
        rw [if_neg (by omega), tkN] at tw
        obtain ⟨j256, R⟩ := h0.opens hk hw jn ho z
        have key : g_X2_open_53 k E B w (2 * (w : Int)) (4 * (o : Int)) = some (exB E k (nwS k w o), (cBeg (uA B (W_o k w) 0 ((o : Int) + 1)) k (nwS k w o), ((nwS k w o : Nat) : Int))) := by
          unfold g_X2_open_53 g_X2_open_75
          have sd := (h.gr k hk).sd
          rw [c.opn, ho, c32_ok (by omega) (by omega), gS_v, sd, c32_ok (by omega) (by omega), show 4 * (o : Int) + 2 * (w : Int) + (k : Int) = ((nwS k w o : Nat) : Int) by unfold nwS; omega, c_begin (B := uA B (W_o k w) 0 ((o : Int) + 1)) (by rw [uA_tag (by show 7 ≠ 28; decide)]; exact sd) hk j256]
          rfl
        have ebr : (if x2 = 0 then c32 (4 * (o : Int)) <| g_X2_open_53 k E B w 2 (4 * (o : Int)) else c32 (4 * (o : Int)) <| g_X2_open_53 k E B w 0 (4 * (o : Int))) = g_X2_open_53 k E B w (2 * (w : Int)) (4 * (o : Int)) := by
          by_cases y : x2 = 0
          · rw [if_pos y] at ew ⊢; rw [c32_ok (by omega) (by omega), ew]; rfl
          · rw [if_neg y] at ew ⊢; rw [c32_ok (by omega) (by omega), ew]; rfl
        rw [ebr, key]
        refine ⟨_, _, _, _, .inr ((nwS k w o : Nat) : Int), tw, rfl, R.up (n' := n + 1) (by omega), ?_, ?_⟩
        · rfl
        · unfold nwS; omega
      · rw [if_neg z]
        rw [if_pos (by omega)] at tw
        rw [gS_v]
        have R := h0.refuse hk hw jn (by show A M_limits (3 * k + 1 + w) ≤ A M_opened (2 * k + w); omega)
        rw [c.lim] at R
        exact ⟨_, _, E, _, .inr (-1), tw, rfl, R.up (n' := n + 1) (by omega), rfl, rfl⟩
  · rw [c_hall_bad q, bd_v]
    exact ⟨_, _, E, B, .inl 1, t_open_bad q, rfl, h.o0 (v := 1) (by omega), ans_l rfl⟩
end OPN
