/-! CALLS: feed -/
section FED
variable {A B : AM} {E : L3 → Bool} {n : Nat}
def cFeed (B : AM) (v : Int) (t m : Nat) : AM := fun r f => if r = C_tape ∧ t ≤ f ∧ f < t + m then b8 (v / 2 ^ (8 * (f - t))) else if r = C_o ∧ f = 5 then ((t + m : Nat) : Int) else B r f
theorem cFeed_0 {v : Int} {t : Nat} (h : B C_o 5 = (t : Int)) : cFeed B v t 0 = B := by
  funext r f
  unfold cFeed
  rw [if_neg (by omega)]
  split
  · rename_i q; rw [q.1, q.2, h]; rfl
  · rfl
theorem cFeed_s {v : Int} {t m : Nat} : uA (uA (cFeed B v t m) C_o 5 (((t + m : Nat) : Int) + 1)) C_tape (t + m) (b8 (v / 2 ^ (8 * m))) = cFeed B v t (m + 1) := by
  funext r f
  rw [uA_at, uA_at]
  unfold cFeed
  by_cases e1 : r = C_tape ∧ f = t + m
  · rw [if_pos e1, if_pos ⟨e1.1, by omega, by omega⟩, show f - t = m by omega]
  · rw [if_neg e1]
    by_cases e2 : r = C_o ∧ f = 5
    · rw [if_pos e2, if_neg (fun z => by rw [e2.1] at z; exact absurd z.1 (by decide)), if_pos e2]
      omega
    · rw [if_neg e2, if_neg e2, if_neg e2]
      by_cases e3 : r = C_tape ∧ t ≤ f ∧ f < t + m
      · rw [if_pos e3, if_pos ⟨e3.1, by omega, by omega⟩]
      · rw [if_neg e3, if_neg (fun z => by
          have : f ≠ t + m := fun y => e1 ⟨z.1, y⟩
          exact e3 ⟨z.1, by omega, by omega⟩)]
theorem c_feed_35 {v : Int} {t n : Nat} (ht : t + n ≤ 2048) (hn : n ≤ 8) : ∀ (m i f : Nat), i + m = n → m < f → g_X1_feed_35 f (cFeed B v t i) n v i = some (cFeed B v t n, .inr ((t + n : Nat) : Int)) := by
  intro m
  induction m with
  | zero =>
    intro i f hi hf
    obtain ⟨f, rfl⟩ : ∃ q, f = q + 1 := ⟨f - 1, by omega⟩
    have : i = n := by omega
    subst this
    rw [show g_X1_feed_35 (f + 1) (cFeed B v t i) i v i = g_X1_feed_35_b (g_X1_feed_35 f) (cFeed B v t i) i v i from rfl]
    unfold g_X1_feed_35_b
    rw [if_pos (by omega)]
    rfl
  | succ m ih =>
    intro i f hi hf
    obtain ⟨f, rfl⟩ : ∃ q, f = q + 1 := ⟨f - 1, by omega⟩
    have e5 : cFeed B v t i C_o 5 = ((t + i : Nat) : Int) := rfl
    rw [show g_X1_feed_35 (f + 1) (cFeed B v t i) n v i = g_X1_feed_35_b (g_X1_feed_35 f) (cFeed B v t i) n v i from rfl]
    unfold g_X1_feed_35_b
    rw [if_neg (by omega), e5, c32_ok (by omega) (by omega), gS_v, hA_ok (by omega) (by omega), hA_ok (by omega) (by omega), gS_v, c32_ok (by omega) (by omega), tkN, b8_b8, show (8 * (i : Int)).toNat = 8 * i by omega, cFeed_s, show (i : Int) + 1 = ((i + 1 : Nat) : Int) by omega]
    exact ih (i + 1) f (by omega) (by omega)
theorem aFeed_t {v : Int} {m : Nat} {f : Nat} : aFeed v m A M_tape f = if (A M_o 3).toNat ≤ f ∧ f < (A M_o 3).toNat + m then v / 2 ^ (8 * (f - (A M_o 3).toNat)) % 256 else A M_tape f := by
  induction m with
  | zero => rw [if_neg (by omega)]; rfl
  | succ m ih =>
    unfold aFeed
    rw [uA_at, ih]
    by_cases e : f = (A M_o 3).toNat + m
    · rw [if_pos ⟨rfl, e⟩, if_pos (by omega), show f - (A M_o 3).toNat = m by omega]
    · rw [if_neg (fun z => e z.2)]
      by_cases e2 : (A M_o 3).toNat ≤ f ∧ f < (A M_o 3).toNat + m
      · rw [if_pos e2, if_pos (by omega)]
      · rw [if_neg e2, if_neg (by omega)]
theorem Rel.feed (h : Rel Any n E A B) {v : Int} {m t : Nat} (ht : A M_o 3 = t) (hm : m ≤ 8) (h2 : t + m ≤ 2048) : Rel Any (n + 1) E (uA (aFeed v m A) M_o 3 (A M_o 3 + m)) (cFeed B v t m) := by
  have hT := h.tb
  have fo : ∀ (r : L3) (f : Nat), r ≠ M_tape → r ≠ M_o → (uA (aFeed v m A) M_o 3 (A M_o 3 + m)) r f = A r f := fun r f h1 h2 => by rw [uA_role _ _ _ _ h2, aFeed_o _ _ h1]
  have fo' : ∀ f, f ≠ 3 → (uA (aFeed v m A) M_o 3 (A M_o 3 + m)) M_o f = A M_o f := fun f hf => by rw [uA_idx _ _ _ _ hf, aFeed_o _ _ (by decide)]
  have o3 : (uA (aFeed v m A) M_o 3 (A M_o 3 + m)) M_o 3 = A M_o 3 + m := uA_self _ _ _ _
  have oA : Out (fL 0 0) A (uA (aFeed v m A) M_o 3 (A M_o 3 + m)) := by
    refine Out.u ?_ (fL0 (by decide))
    intro r f hr
    refine aFeed_o r f (fun e => hr ?_)
    rw [e]; exact Or.inr (Or.inl (Or.inl rfl))
  have oB : Out (gL 0 0) B (cFeed B v t m) := by
    intro r f hr
    unfold cFeed
    rw [if_neg (fun z => hr (by rw [z.1]; exact Or.inr (Or.inl (Or.inl rfl)))), if_neg (fun z => hr (by rw [z.1]; exact Or.inl rfl))]
  have hR := fL_R oA
  have hP := fL_P oA
  have tv : ∀ i, 0 ≤ (uA (aFeed v m A) M_o 3 (A M_o 3 + m)) M_tape i ∧ (uA (aFeed v m A) M_o 3 (A M_o 3 + m)) M_tape i < 256 := by
    intro i
    rw [uA_role _ _ _ _ (by decide), aFeed_t]
    split
    · omega
    · exact hT.tpv i
  refine h.locC (k := 0) (j := 0) (by decide) (by decide) oA oB (by omega) ?_ ?_ ?_ ?_ (fun _ _ _ _ _ z => z) ?_ ?_ ?_ ?_ ?_ ?_ ?_ ?_
  · refine TB.make ?_ ?_ tv ?_ ?_ ?_ ?_ ?_ ?_ ?_ ?_ ?_ ?_ ?_ ?_ ?_ ?_ ?_ ?_ ?_ ?_ ?_ ?_ ?_ ?_ ?_
    · rw [fo' 1 (by decide)]; exact hT.jnd
    · rw [o3]; omega
    · rw [fo' 5 (by decide)]; exact hT.out
    · intro k hk; rw [fo _ _ (by decide) (by decide)]; exact hT.tot k hk
    · intro k; rw [fo _ _ (by decide) (by decide)]; exact hT.mrk k
    · intro k; rw [fo _ _ (by decide) (by decide)]; exact hT.val k
    · intro k hk; rw [fo _ _ (by decide) (by decide)]; exact hT.pcs k hk
    · intro k; rw [fo _ _ (by decide) (by decide)]; exact hT.cam k
    · intro k j o hk hj ho; rw [hP.hasB] at ho; exact hT.hsb k j o hk hj ho
    · intro k j hk hj; rw [fo _ _ (by decide) (by decide)]; exact hT.rds k j hk hj
    · intro k j hk hj; rw [fo _ _ (by decide) (by decide)]; exact hT.res k j hk hj
    · intro k j hk hj; rw [fo _ _ (by decide) (by decide)]; exact hT.hig k j hk hj
    · intro k j hk hj; rw [fo _ _ (by decide) (by decide)]; exact hT.siz k j hk hj
    · intro k j hk hj; rw [fo _ _ (by decide) (by decide), fo _ _ (by decide) (by decide)]; exact hT.wrs k j hk hj
    · intro k i hk h1 h2; rw [fo _ _ (by decide) (by decide)]; exact hT.gra k i hk h1 h2
    · intro w hw; rw [fo _ _ (by decide) (by decide)]; exact hT.grt w hw
    · intro w hw; rw [fo _ _ (by decide) (by decide)]; exact hT.opn w hw
    · intro w hw; rw [fo _ _ (by decide) (by decide)]; exact hT.thr w hw
    · intro w hw; rw [fo _ _ (by decide) (by decide)]; exact hT.dgr w hw
    · intro k j hk hj; rw [fo _ _ (by decide) (by decide)]; exact hT.grs k j hk hj
    · intro k j hk hj; rw [fo _ _ (by decide) (by decide)]; exact hT.lim k j hk hj
    · intro w hw; rw [fo _ _ (by decide) (by decide)]; exact hT.lms w hw
    · intro w hw; rw [fo _ _ (by decide) (by decide)]; exact hT.lst w hw
    · intro k j hk hj; rw [fo _ _ (by decide) (by decide)]; exact hT.stc k j hk hj
    · intro k j hk hj; rw [fo _ _ (by decide) (by decide)]; exact hT.cod k j hk hj
  · obtain ⟨tc, c1, c2⟩ := h.cnt
    refine ⟨tc + 1, by rw [o3]; omega, ?_⟩
    have e : ∀ k, Psi (uA (aFeed v m A) M_o 3 (A M_o 3 + m)) k = Psi A k := fun k => Psi_cg (hP.pcs _) (fun _ => hR.wl) (fun _ _ => hP.pa)
    rw [e, e]; omega
  · exact (h.ts 0 0 (by decide) (by decide)).cg (EqS.same hR hP (fun t h1 h2 => fo _ _ (fun e => by injection e; omega) (fun e => by injection e; omega)))
  · intro _
    exact (h.ov 0 0 (by decide) (by decide) trivial).cg (EqS.same hR hP (fun t h1 h2 => fo _ _ (fun e => by injection e; omega) (fun e => by injection e; omega)))
  · exact (h.tk 0 (by decide)).cg (fo' 1 (by decide)) (fun t f h1 h2 _ => fo _ _ (fun e => by injection e; omega) (fun e => by injection e; omega)) (fo _ _ (by decide) (by decide)) (fo _ _ (by decide) (by decide))
  · rw [fo _ _ (by decide) (by decide)]; exact fun z => z
  · rw [fo _ _ (by decide) (by decide)]; exact fun z => z
  · have tp := h.top
    refine CTop.make ?_ ?_ ?_ ?_ ?_ ?_
    · rw [o3]; show ((t + m : Nat) : Int) = _; omega
    · rw [fo' 5 (by decide)]; exact tp.mad
    · rw [fo' 1 (by decide)]; exact tp.jnd
    · intro i hi
      rw [uA_role _ _ _ _ (by decide), aFeed_t]
      unfold cFeed
      by_cases e : t ≤ i ∧ i < t + m
      · rw [if_pos ⟨rfl, e⟩, if_pos (by omega), b8_mod, show (A M_o 3).toNat = t by omega]
      · rw [if_neg (fun z => e z.2), if_neg (fun z => absurd z.1 (by decide)), if_neg (by omega)]
        exact tp.tpe i hi
    · intro i hi; rw [fo _ _ (by decide) (by decide)]; exact tp.out i hi
    · intro i; rw [fo _ _ (by decide) (by decide)]; exact tp.ovl i
  · exact (h.hl 0 (by decide)).cg (fo _ _ (by decide) (by decide)) (fo _ _ (by decide) (by decide)) hR.sa (sumTo_congr (fun i _ => fo _ _ (by decide) (by decide))) (sumTo_congr (fun i _ => by unfold co; rw [fo _ _ (by decide) (by decide), fo _ _ (by decide) (by decide), fo _ _ (by decide) (by decide)])) (fo _ _ (by decide) (by decide)) (fo _ _ (by decide) (by decide)) (fo _ _ (by decide) (by decide)) (fun f _ _ => rfl)
  · intro w hw
    exact (h.wys 0 w (by decide) hw).cg (fo _ _ (by decide) (by decide)) (fo _ _ (by decide) (by decide)) (fo _ _ (by decide) (by decide)) (fo _ _ (by decide) (by decide)) (fo _ _ (by decide) (by decide)) (fo _ _ (by decide) (by decide)) (fo _ _ (by decide) (by decide)) (fun f => rfl)
  · intro hE
    exact (h.sd 0 0 (by decide) (by decide) hE).cg (EqS.same hR hP (fun t h1 h2 => fo _ _ (fun e => by injection e; omega) (fun e => by injection e; omega))) (fun f _ _ _ _ => rfl)
  · intro hE
    exact (h.rv 0 0 (by decide) (by decide) hE).cg (EqS.same hR hP (fun t h1 h2 => fo _ _ (fun e => by injection e; omega) (fun e => by injection e; omega))) (fo _ _ (by decide) (by decide)) (fun f _ => rfl)
theorem call_feed (h : Rel Any n E A B) (x1 x2 : Int) (hx : -2147483648 ≤ x1 ∧ x1 < 2147483648) : ∃ A' v B' w, g_X8_feed A x1 x2 = some (A', v) ∧ g_X1_feed B x1 x2 = some (B', w) ∧ Rel Any (n + 1) E A' B' ∧ Ans wI A' v w := by
  have ht := h.tb.tap
  have hc := h.top.tap
  unfold g_X1_feed
  by_cases q : 1 ≤ x1 ∧ x1 ≤ 8
  · obtain ⟨m, rfl⟩ := Int.eq_ofNat_of_zero_le (show 0 ≤ x1 by omega)
    obtain ⟨t, et⟩ := Int.eq_ofNat_of_zero_le ht.1
    rw [c_in1 q, bd_v, c_need1, bd_v, hXW_r, hc, c32_ok (by omega) (by omega), t_feed_good (by omega) (by omega) ht.1 ht.2]
    unfold g_X1_feed_29
    by_cases q2 : A M_o 3 + m ≤ 2048
    · rw [if_pos q2, if_neg (by omega), c_ready1, bd_v, hXW_r]
      have r1 := ((h.o0 (v := 0) (Nat.le_refl _)).o0 (v := 0) (Nat.le_refl _)).feed (v := x2) (m := m) (t := t) et (by omega) (by omega)
      have r2 := c_feed_35 (B := B) (v := x2) (t := t) (n := m) (by omega) (by omega) m 0 FU (by omega) (by unfold FU; omega)
      rw [cFeed_0 (by rw [hc, et])] at r2
      refine ⟨_, _, _, _, rfl, r2, r1, ?_⟩
      refine ⟨?_, ?_⟩
      · rw [uA_idx _ _ _ _ (by decide), aFeed_o _ _ (by decide)]; rfl
      · omega
    · rw [if_neg q2, if_pos (by omega), c_ready0, bd_v, hXW_l]
      exact ⟨_, _, _, _, rfl, rfl, (h.o0 (v := 0) (Nat.le_refl _)).o0 (v := 2) (by omega), ans_l rfl⟩
  · rw [c_in0 q, bd_v, c_need0, bd_v, hXW_l]
    exact ⟨_, _, _, _, t_feed_bad q, rfl, h.o0 (v := 1) (by omega), ans_l rfl⟩
end FED
