section COM
variable {A A' B B' : AM} {E : L3 → Bool} {k j n w : Nat}
theorem Rel.c1 (h : Rel Any n E A B) (hk : k < 2) (hj : j < 256) (hjn : A M_o 1 ≠ 0) (hno : own k j = false) {t : Nat} (ht : A M_theirs (2 * k + wy j) = t) (htj : t ≤ j / 4) (hg : (t : Int) < A M_granted (2 * k + wy j)) : Rel Any n (exB E k (4 * t + j % 4)) (aC1 A k j) (uA (cBeg B k (4 * t + j % 4)) (W_o k (wy j)) 1 ((t : Int) + 1)) := by
  have tk := h.tk k hk
  have hw := wy_lt j
  have jj256 : 4 * t + j % 4 < 256 := by omega
  have jw : wy (4 * t + j % 4) = wy j := by unfold wy; omega
  have jo : own k (4 * t + j % 4) = false := by
    have hno' := hno
    unfold own at hno' ⊢
    rw [show (4 * t + j % 4) % 2 = j % 2 by omega]; exact hno'
  have j4 : (4 * t + j % 4) / 4 = t := by omega
  have only : ∀ i, own k i = false → wy i = wy j → i / 4 = t → i = 4 * t + j % 4 := by
    intro i h1 h2 h3
    have h1' := h1
    have hno' := hno
    unfold own at h1' hno'
    have a1 : i % 2 ≠ k := by intro z; rw [z] at h1'; simp at h1'
    have a2 : j % 2 ≠ k := by intro z; rw [z] at hno'; simp at hno'
    unfold wy at h2
    omega
  have eC : aC1 A k j = uA (aBegin A k (4 * t + j % 4)) M_theirs (2 * k + wy j) ((t : Int) + 1) := by
    unfold aC1
    rw [ht, tkN]
  rw [eC]
  generalize hjj : 4 * t + j % 4 = i at *
  have hi : A M_there (256 * k + i) = 0 := by
    have := h.th k i hk jj256
    unfold TH at this
    rw [jo, if_neg (by decide), jw, j4, ht] at this
    by_cases z : A M_there (256 * k + i) = 0
    · exact z
    · have := this.1 z; omega
  have g := h.gr k hk
  have eL : A M_grants (16 * (1 - k) + gi (1 - k) i) = uA (aBegin A k i) M_theirs (2 * k + wy j) ((t : Int) + 1) M_limit (256 * k + i) := by
    rw [uA_tag (by decide)]
    unfold aBegin
    rw [uA_self]
  refine h.beg hk jj256 hi ?_ ?_ ?_ ?_ ?_ ?_ ?_ ?_ ?_ ?_
  · intro r f h1 h2
    rw [uA_at, if_neg (fun z => h2 ⟨Or.inr (Or.inl z.1), by omega⟩)]
    unfold aBegin
    rw [uA_at, if_neg (fun z => h1 ⟨Or.inr (Or.inr z.1), z.2⟩), uA_at, if_neg (fun z => h1 ⟨Or.inr (Or.inl z.1), z.2⟩), uA_at, if_neg (fun z => h1 ⟨Or.inl z.1, z.2⟩)]
  · rw [uA_tag (by decide)]
    unfold aBegin
    rw [uA_tag (by decide), uA_tag (by decide), uA_self]
  · rw [uA_tag (by decide)]
    unfold aBegin
    rw [uA_tag (by decide), uA_self]
  · rw [← eC]
    exact h.tb.c1 hk (by omega)
  · intro x hx
    have th := h.th k x hk hx
    have e1 : uA (aBegin A k i) M_theirs (2 * k + wy j) ((t : Int) + 1) M_there (256 * k + x) = uA A M_there (256 * k + i) 1 M_there (256 * k + x) := rfl
    have e2 : uA (aBegin A k i) M_theirs (2 * k + wy j) ((t : Int) + 1) M_opened (2 * k + wy x) = A M_opened (2 * k + wy x) := rfl
    have e3 : uA (aBegin A k i) M_theirs (2 * k + wy j) ((t : Int) + 1) M_theirs (2 * k + wy x) = uA A M_theirs (2 * k + wy j) ((t : Int) + 1) M_theirs (2 * k + wy x) := rfl
    unfold TH at th ⊢
    rw [e1, e2, e3]
    by_cases z : x = i
    · subst z
      rw [uA_self, jo, if_neg (by decide), jw, uA_self, j4]
      constructor
      · intro _; omega
      · intro _; decide
    · rw [uA_idx _ _ _ _ (by omega)]
      by_cases y : own k x = true
      · rw [if_pos y] at th ⊢; exact th
      · rw [if_neg y] at th ⊢
        by_cases u : wy x = wy j
        · rw [u, uA_self]
          rw [u, ht] at th
          have : x / 4 ≠ t := fun v => z (only x (by simpa using y) u v)
          rw [th]; omega
        · rw [uA_idx _ _ _ _ (by omega)]; exact th
  · exact (TK.make tk.lim (fun q hq => by
      show uA A M_theirs (2 * k + wy j) ((t : Int) + 1) M_theirs (2 * k + q) ≤ A M_granted (2 * k + q)
      rw [uA_at]; split
      · rename_i z
        have : q = wy j := by have := z.2; omega
        subst this
        omega
      · exact tk.thg q hq) tk.d01 tk.s01 tk.g89 (fun z => absurd z hjn) (fun z => absurd z hjn))
  · intro r f h1 h2 h3
    rw [uA_role _ _ _ _ (fun z => h3 (by rw [z]; exact ⟨rfl, rfl⟩)), cBeg_o r f h1 h2]
  · intro hs1 f hf
    rw [uA_tag (by show 29 ≠ 28; decide), cBeg_S hs1 hf, ← eL, ← lim_ok g hk hjn]
  · intro hr1 f hf
    rw [uA_tag (by show 30 ≠ 28; decide), cBeg_R hr1 hf, ← gra_ok g]
  · intro q hq
    have c := h.wys k q hk hq
    have bo : ∀ f, cBeg B k i (W_o k q) f = B (W_o k q) f := fun f => cBeg_o _ _ (fun z => by injection z with z; cases z) (fun z => by injection z with z; cases z)
    by_cases e : q = wy j
    · subst e
      have e1 : uA (aBegin A k i) M_theirs (2 * k + wy j) ((t : Int) + 1) M_theirs (2 * k + wy j) = (t : Int) + 1 := uA_self _ _ _ _
      exact CWy.make (by rw [uA_idx _ _ _ _ (by decide), bo]; exact c.opn) (by rw [uA_self, e1]) (by rw [uA_idx _ _ _ _ (by decide), bo]; exact c.grt) (by rw [uA_idx _ _ _ _ (by decide), bo]; exact c.lim) (by rw [uA_idx _ _ _ _ (by decide), bo]; exact c.ref) (by rw [uA_idx _ _ _ _ (by decide), bo]; exact c.rle) (by rw [uA_idx _ _ _ _ (by decide), bo]; exact c.tld) (by rw [uA_idx _ _ _ _ (by decide), bo]; exact c.tel)
    · have n1 : 2 * k + q ≠ 2 * k + wy j := by omega
      refine CWy.cg (A := A) (B := B) rfl ?_ rfl rfl rfl rfl rfl (fun f => ?_) c
      · exact uA_idx A M_theirs M_theirs ((t : Int) + 1) n1
      · rw [uA_role _ _ _ _ (W_ne (fun z => e z.2)), bo]
theorem c_come7 (hk : k < 2) (hj : j < 256) (hno : own k j = false) : ∀ (m f : Nat) (E : L3 → Bool) (A B : AM), Rel Any n E A B → A M_o 1 ≠ 0 → ((j / 4 : Nat) : Int) < A M_granted (2 * k + wy j) → m = j / 4 + 1 - (A M_theirs (2 * k + wy j)).toNat → m < f → ∃ E' B', g_X2_come_7 k f E B j (wy j) = some (E', (B', ())) ∧ Rel Any n E' (aComeN k j m A) B' ∧ ∀ (r : L3) (f : Nat), r.1 ≠ 28 → r.1 ≠ 29 → r.1 ≠ 30 → B' r f = B r f := by
  intro m
  induction m with
  | zero =>
    intro f E A B h hjn hg hm hf
    obtain ⟨f, rfl⟩ : ∃ g, f = g + 1 := ⟨f - 1, by omega⟩
    have c := h.wys k (wy j) hk (wy_lt j)
    have tb := h.tb.thr (2 * k + wy j) (by have := wy_lt j; omega)
    refine ⟨E, B, ?_, h, fun _ _ _ _ _ => rfl⟩
    show g_X2_come_7_b k (g_X2_come_7 k f) E B j (wy j) = _
    unfold g_X2_come_7_b
    rw [hA_ok (by omega) (by omega), c32_ok (by omega) (by omega), c.thr, if_pos (by omega)]
  | succ m ih =>
    intro f E A B h hjn hg hm hf
    obtain ⟨f, rfl⟩ : ∃ g, f = g + 1 := ⟨f - 1, by omega⟩
    have c := h.wys k (wy j) hk (wy_lt j)
    have tb := h.tb.thr (2 * k + wy j) (by have := wy_lt j; omega)
    obtain ⟨t, et⟩ := Int.eq_ofNat_of_zero_le tb.1
    rw [et, Int.toNat_natCast] at hm
    have R := h.c1 hk hj hjn hno et (by omega) (by omega)
    have th1 : aC1 A k j M_theirs (2 * k + wy j) = ((t + 1 : Nat) : Int) := by rw [aC1_theirs, et]; omega
    obtain ⟨E', B', e1, e2, e3⟩ := ih f _ (aC1 A k j) _ R (by rw [aC1_o _ _ (by decide) (by decide) (by decide) (by decide)]; exact hjn) (by rw [aC1_o _ _ (by decide) (by decide) (by decide) (by decide)]; exact hg) (by rw [th1, Int.toNat_natCast]; omega) (by omega)
    refine ⟨E', B', ?_, e2, fun r f h1 h2 h3 => by rw [e3 r f h1 h2 h3, uA_tag h1, cBeg_o _ _ (fun z => h2 (by rw [z])) (fun z => h3 (by rw [z]))]⟩
    show g_X2_come_7_b k (g_X2_come_7 k f) E B j (wy j) = _
    unfold g_X2_come_7_b
    have sd := (h.gr k hk).sd
    have eW : cBeg B k (4 * t + j % 4) (W_o k (wy j)) 1 = t := by rw [cBeg_o _ _ (fun z => by injection z with z; cases z) (fun z => by injection z with z; cases z), c.thr, et]
    rw [hA_ok (by omega) (by omega), c32_ok (by omega) (by omega), c.thr, et, if_neg (by omega), c32_ok (by omega) (by omega), show 4 * (t : Int) + ((j : Int) - (j : Int) / 4 * 4) = ((4 * t + j % 4 : Nat) : Int) by omega, c_begin sd hk (by omega)]
    show g_X2_come_31 k (g_X2_come_7 k f) (exB E k (4 * t + j % 4)) (cBeg B k (4 * t + j % 4)) j (wy j) = _
    unfold g_X2_come_31
    rw [eW, c32_ok (by omega) (by omega), gS_v]
    exact e1
theorem c_come (h : Rel Any n E A B) (hk : k < 2) (hj : j < 256) (hjn : A M_o 1 ≠ 0) (hno : own k j = false) (hg : ((j / 4 : Nat) : Int) < A M_granted (2 * k + wy j)) : ∃ E' B', g_X2_come k E B j = some (E', (B', ())) ∧ Rel Any n E' (aCome A k j) B' ∧ aCome A k j M_there (256 * k + j) ≠ 0 ∧ ∀ (r : L3) (f : Nat), r.1 ≠ 28 → r.1 ≠ 29 → r.1 ≠ 30 → B' r f = B r f := by
  have tb := h.tb.thr (2 * k + wy j) (by have := wy_lt j; omega)
  obtain ⟨E', B', e1, e2, e3⟩ := c_come7 hk hj hno (j / 4 + 1 - (A M_theirs (2 * k + wy j)).toNat) 65 E A B h hjn hg rfl (by omega)
  have eC : aCome A k j = aComeN k j (j / 4 + 1 - (A M_theirs (2 * k + wy j)).toNat) A := by unfold aCome; rw [if_neg (by rw [hno]; decide)]
  refine ⟨E', B', ?_, by rw [eC]; exact e2, ?_, e3⟩
  · unfold g_X2_come
    rw [c_way (by omega), bd_v]
    exact e1
  · rw [← eC] at e2
    have th := e2.th k j hk hj
    unfold TH at th
    rw [hno, if_neg (by decide)] at th
    refine th.2 ?_
    have key : ∀ (m : Nat) (A : AM), 0 ≤ A M_theirs (2 * k + wy j) → aComeN k j m A M_theirs (2 * k + wy j) = A M_theirs (2 * k + wy j) + m := by
      intro m
      induction m with
      | zero => intro A _; show A M_theirs (2 * k + wy j) = _; omega
      | succ m ih =>
        intro A ha
        show aComeN k j m (aC1 A k j) M_theirs (2 * k + wy j) = _
        rw [ih _ (by rw [aC1_theirs]; omega), aC1_theirs]
        omega
    rw [eC, key _ _ tb.1]
    omega
theorem c_allowed (h : Rel Any n E A B) (hk : k < 2) {a : Nat} (ha : (a : Int) < 4611686018427387904) (sp : Bool) : g_X2_allowed k B a (b2i sp) = some (mnt A k a sp) := by
  have sd := (h.gr k hk).sd
  have c := h.wys k (wy a) hk (wy_lt a)
  have ob := h.tb.opn (2 * k + wy a) (by have := wy_lt a; omega)
  have e58 : ∀ (x4 y0 : Int), g_X2_allowed_58 k B a x4 y0 = some (if x4 = 0 ∨ y0 = 0 then 5 else if own k a = false ∧ A M_granted (2 * k + wy a) ≤ (a / 4 : Nat) then 4 else 0) := by
    intro x4 y0
    unfold g_X2_allowed_58 g_X2_allowed_70
    by_cases z : x4 = 0
    · rw [if_pos z, if_pos (Or.inl z)]
    · by_cases y : y0 = 0
      · rw [if_neg z, if_neg (fun u => u y), if_pos (Or.inr y)]
      · rw [if_neg z, if_pos y, if_neg (fun u => by rcases u with u | u; exact z u; exact y u), c_isOwn sd hk ha, bd_v, c_way ha, bd_v, hA_ok (by omega) (by omega), c64_ok (by omega) (by omega), c.grt]
        cases hw : own k a
        · rw [if_neg (by simp [b2i])]
          by_cases u : (a : Int) / 4 < A M_granted (2 * k + wy a)
          · rw [if_pos u, if_neg (fun v => by have := v.2; omega)]
          · rw [if_neg u, if_pos ⟨rfl, by omega⟩]
        · rw [if_pos (by simp [b2i]), if_neg (fun v => by cases v.1)]
  have e35 : ∀ y0 : Int, g_X2_allowed_35 k B a (b2i sp) y0 = some (if y0 = 0 ∨ (if sp then hs k a else hr k a) = false then 5 else if own k a = false ∧ A M_granted (2 * k + wy a) ≤ (a / 4 : Nat) then 4 else 0) := by
    intro y0
    unfold g_X2_allowed_35 g_X2_allowed_53
    rw [c_isOneWay ha, bd_v, c_isOwn sd hk ha, bd_v, e58, e58]
    have key : (if b2i (ow a) = 0 then some (if y0 = 0 ∨ (1 : Int) = 0 then (5 : Int) else if own k a = false ∧ A M_granted (2 * k + wy a) ≤ (a / 4 : Nat) then 4 else 0) else if b2i (own k a) ≠ b2i sp then some (if y0 = 0 ∨ (0 : Int) = 0 then (5 : Int) else if own k a = false ∧ A M_granted (2 * k + wy a) ≤ (a / 4 : Nat) then 4 else 0) else some (if y0 = 0 ∨ (1 : Int) = 0 then (5 : Int) else if own k a = false ∧ A M_granted (2 * k + wy a) ≤ (a / 4 : Nat) then 4 else 0)) = some (if y0 = 0 ∨ (if sp then hs k a else hr k a) = false then (5 : Int) else if own k a = false ∧ A M_granted (2 * k + wy a) ≤ (a / 4 : Nat) then 4 else 0) := by
      unfold hs hr
      cases ow a <;> cases own k a <;> cases sp <;> simp [b2i]
    exact key
  have th : own k a = true → ((256 ≤ a ∨ A M_there (256 * k + a) = 0) ↔ A M_opened (2 * k + wy a) ≤ (a / 4 : Nat)) := by
    intro ho
    by_cases z : 256 ≤ a
    · constructor
      · intro _; omega
      · intro _; exact Or.inl z
    · have t := h.th k a hk (by omega)
      unfold TH at t
      rw [if_pos ho] at t
      constructor
      · rintro (y | y)
        · exact absurd y z
        · by_cases u : ((a / 4 : Nat) : Int) < A M_opened (2 * k + wy a)
          · exact absurd y (t.2 u)
          · omega
      · intro y
        refine Or.inr ?_
        by_cases u : A M_there (256 * k + a) = 0
        · exact u
        · have := t.1 u; omega
  unfold g_X2_allowed mnt
  rw [c_isOwn sd hk ha, bd_v, c_way ha, bd_v, hA_ok (by omega) (by omega), c64_ok (by omega) (by omega), c.opn, e35, e35]
  cases ho : own k a
  · rw [if_pos (by simp [b2i]), if_neg (show ¬ (false = true ∧ (256 ≤ a ∨ A M_there (256 * k + a) = 0)) from fun z => by cases z.1)]
    congr 1
    by_cases y : (if sp then hs k a else hr k a) = false
    · rw [if_pos (Or.inr y), if_pos y]
    · rw [if_neg (fun z => by rcases z with z | z; cases z; exact y z), if_neg y]
  · rw [if_neg (by simp [b2i])]
    have t := th ho
    by_cases u : A M_opened (2 * k + wy a) ≤ (a : Int) / 4
    · rw [if_pos u, if_pos (show true = true ∧ (256 ≤ a ∨ A M_there (256 * k + a) = 0) from ⟨rfl, t.2 (by omega)⟩), if_pos (Or.inl rfl)]
    · rw [if_neg u, if_neg (show ¬ (true = true ∧ (256 ≤ a ∨ A M_there (256 * k + a) = 0)) from fun z => by have := t.1 z.2; omega)]
      congr 1
      by_cases y : (if sp then hs k a else hr k a) = false
      · rw [if_pos (Or.inr y), if_pos y]
      · rw [if_neg (fun z => by rcases z with z | z; cases z; exact y z), if_neg y]
theorem c_fits (h : Rel Any n E A B) (hk : k < 2) (hj : j < 256) {e : Int} (he : 0 ≤ e ∧ e < 4611686018427400000) (hr1 : hr k j = true) (last : Bool) : g_X2_fits E k B j e (b2i last) = some (rch A k j e last) := by
  have hT := h.tb
  have hl := h.hl k hk
  have hh := hT.hig k j hk hj
  have hd := hT.dgr k hk
  have hs2 : 0 ≤ shi A k ∧ shi A k ≤ 256 * 65536 := sumTo_bd (f := fun j => A M_highest (256 * k + j)) (n := 256) (b := 65536) (fun q hq => hT.hig k q hk hq)
  have t := h.ts k j hk hj
  -- what is read
  have key : ∀ (x5 : Option Nat), (match x5 with | none => E (R_o k j) = false | some i => i = j ∧ E (R_o k j) = true) → g_X2_fits_22 E k B j e (b2i last) x5 (A M_highest (256 * k + j)) = some (rch A k j e last) := by
    intro x5 hx
    have gv : (match x5 with | none => (A M_grants (16 * k + gi k j) : Int) | some _ => A M_grant (256 * k + j)) = if A M_there (256 * k + j) = 0 then A M_grants (16 * k + gi k j) else A M_grant (256 * k + j) := by
      cases x5 with
      | none =>
        have hx' : E (R_o k j) = false := hx
        rw [(h.ex k j hk hj).2, hr1, Bool.and_true] at hx'
        rw [if_pos (by simpa using hx')]
      | some i =>
        have hx' := hx.2
        rw [(h.ex k j hk hj).2, hr1, Bool.and_true] at hx'
        rw [if_neg (by simpa using hx')]
    have e107 : ∀ y0 : Int, g_X2_fits_107 E k B e (A M_highest (256 * k + j)) y0 = some (if y0 < e ∨ A M_dataGrant k < shi A k + (if e ≤ A M_highest (256 * k + j) then 0 else e - A M_highest (256 * k + j)) then 3 else 0) := by
      intro y0
      unfold g_X2_fits_107 g_X2_fits_141
      have em : mxZ (e - A M_highest (256 * k + j)) 0 = if e ≤ A M_highest (256 * k + j) then 0 else e - A M_highest (256 * k + j) := by unfold mxZ; split <;> split <;> omega
      by_cases z : y0 < e
      · rw [if_pos z, if_pos (Or.inl z)]
      · rw [if_neg z, hl.ral, hl.gal, em, c64_ok (by omega) (by omega), c64_ok (by split <;> omega) (by split <;> omega)]
        by_cases y : shi A k + (if e ≤ A M_highest (256 * k + j) then 0 else e - A M_highest (256 * k + j)) ≤ A M_dataGrant k
        · rw [if_pos y, if_neg (fun u => by rcases u with u | u; exact z u; omega)]
        · rw [if_neg y, if_pos (Or.inr (by omega))]
    have e82 : g_X2_fits_82 E k B j e x5 (A M_highest (256 * k + j)) = some (if (if A M_there (256 * k + j) = 0 then A M_grants (16 * k + gi k j) else A M_grant (256 * k + j)) < e ∨ A M_dataGrant k < shi A k + (if e ≤ A M_highest (256 * k + j) then 0 else e - A M_highest (256 * k + j)) then 3 else 0) := by
      unfold g_X2_fits_82
      rw [← gv]
      cases x5 with
      | none =>
        have sd := (h.gr k hk).sd
        have er := c_rule (a := j) sd hk (by omega) false
        rw [show b2i false = 0 from rfl] at er
        have := rul_lt (k := k) (j := j) (s := false)
        rw [gM_n, er, bd_v, hA_ok (by omega) (by omega), tkN, gra_ok (h.gr k hk), e107]
      | some i =>
        obtain ⟨rfl, hE⟩ := hx
        rw [gM_s, (h.rv k i hk hj hE).grt, e107]
    have e66 : g_X2_fits_66 E k B j e (b2i last) x5 (A M_highest (256 * k + j)) = some (if last = true ∧ e < A M_highest (256 * k + j) then 6 else (if (if A M_there (256 * k + j) = 0 then A M_grants (16 * k + gi k j) else A M_grant (256 * k + j)) < e ∨ A M_dataGrant k < shi A k + (if e ≤ A M_highest (256 * k + j) then 0 else e - A M_highest (256 * k + j)) then 3 else 0)) := by
      have body : (if b2i last = 0 then g_X2_fits_82 E k B j e x5 (A M_highest (256 * k + j)) else if A M_highest (256 * k + j) ≤ e then g_X2_fits_82 E k B j e x5 (A M_highest (256 * k + j)) else some 6) = some (if last = true ∧ e < A M_highest (256 * k + j) then 6 else (if (if A M_there (256 * k + j) = 0 then A M_grants (16 * k + gi k j) else A M_grant (256 * k + j)) < e ∨ A M_dataGrant k < shi A k + (if e ≤ A M_highest (256 * k + j) then 0 else e - A M_highest (256 * k + j)) then 3 else 0)) := by
        rw [e82]
        cases last
        · rw [if_pos (show b2i false = 0 from rfl), if_neg (show ¬ (false = true ∧ _) from fun z => by cases z.1)]
        · rw [if_neg (by simp [b2i])]
          by_cases z : A M_highest (256 * k + j) ≤ e
          · rw [if_pos z, if_neg (show ¬ (true = true ∧ e < A M_highest (256 * k + j)) from fun y => by omega)]
          · rw [if_neg z, if_pos (show true = true ∧ e < A M_highest (256 * k + j) from ⟨rfl, by omega⟩)]
      unfold g_X2_fits_66
      cases x5 with
      | none => rw [gM_n]; exact body
      | some i => rw [gM_s]; exact body
    have e38 : g_X2_fits_38 E k B j e (b2i last) x5 (A M_highest (256 * k + j)) (A M_size (256 * k + j)) = some (rch A k j e last) := by
      have body : (if A M_size (256 * k + j) < 0 then g_X2_fits_66 E k B j e (b2i last) x5 (A M_highest (256 * k + j)) else if A M_size (256 * k + j) < e then some 6 else if b2i last = 0 then g_X2_fits_66 E k B j e (b2i last) x5 (A M_highest (256 * k + j)) else if e ≠ A M_size (256 * k + j) then some 6 else g_X2_fits_66 E k B j e (b2i last) x5 (A M_highest (256 * k + j))) = some (rch A k j e last) := by
        rw [e66]
        unfold rch
        by_cases z : A M_size (256 * k + j) < 0
        · rw [if_pos z, if_neg (show ¬ (0 ≤ A M_size (256 * k + j) ∧ _) from fun y => by have := y.1; omega)]
        · rw [if_neg z]
          by_cases y : A M_size (256 * k + j) < e
          · rw [if_pos y, if_pos (show 0 ≤ A M_size (256 * k + j) ∧ _ from ⟨by omega, Or.inl y⟩)]
          · rw [if_neg y]
            cases last
            · rw [if_pos (show b2i false = 0 from rfl), if_neg (show ¬ (0 ≤ A M_size (256 * k + j) ∧ (A M_size (256 * k + j) < e ∨ false = true ∧ e ≠ A M_size (256 * k + j))) from fun u => by rcases u.2 with v | v; exact y v; cases v.1)]
            · rw [if_neg (by simp [b2i])]
              by_cases u : e = A M_size (256 * k + j)
              · rw [if_neg (fun v => v u), if_neg (show ¬ (0 ≤ A M_size (256 * k + j) ∧ (A M_size (256 * k + j) < e ∨ true = true ∧ e ≠ A M_size (256 * k + j))) from fun v => by rcases v.2 with x | x; exact y x; exact x.2 u)]
              · rw [if_pos u, if_pos (show 0 ≤ A M_size (256 * k + j) ∧ (A M_size (256 * k + j) < e ∨ true = true ∧ e ≠ A M_size (256 * k + j)) from ⟨by omega, Or.inr ⟨rfl, u⟩⟩)]
      unfold g_X2_fits_38
      cases x5 with
      | none => rw [gM_n]; exact body
      | some i => rw [gM_s]; exact body
    unfold g_X2_fits_22
    cases x5 with
    | none =>
      rw [gM_n]
      have hx' : E (R_o k j) = false := hx
      rw [(h.ex k j hk hj).2, hr1, Bool.and_true] at hx'
      have z0 : A M_there (256 * k + j) = 0 := by simpa using hx'
      have : A M_size (256 * k + j) = -1 := by
        by_cases z : A M_size (256 * k + j) = -1
        · exact z
        · exact absurd z0 (t.rth (Or.inr (Or.inr (Or.inr (Or.inr (Or.inl z)))))).1
      rw [this] at e38
      exact e38
    | some i =>
      obtain ⟨rfl, hE⟩ := hx
      rw [gM_s, (h.rv k i hk hj hE).siz]
      exact e38
  unfold g_X2_fits
  rw [hA_ok (by omega) (by omega), tkN]
  by_cases z : E (R_o k j) = true
  · rw [if_pos z, (h.rv k j hk hj z).hig]
    exact key (some j) ⟨rfl, z⟩
  · have z' : E (R_o k j) = false := by simpa using z
    rw [if_neg z]
    have hz := z'
    rw [(h.ex k j hk hj).2, hr1, Bool.and_true] at hz
    have z0 : A M_there (256 * k + j) = 0 := by simpa using hz
    have : A M_highest (256 * k + j) = 0 := by
      by_cases y : A M_highest (256 * k + j) = 0
      · exact y
      · exact absurd z0 (t.rth (Or.inr (Or.inr (Or.inl y)))).1
    have kk := key none z'
    rw [this] at kk
    exact kk
end COM
