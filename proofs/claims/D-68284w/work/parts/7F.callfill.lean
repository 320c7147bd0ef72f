section CFL
variable {A A' B B' : AM} {E : L3 → Bool} {k j n p : Nat} {room : Int} {P : Nat → Nat → Prop}
theorem Rel.scr (h : Rel P n E A B) {S : AM} (g : Scr A S) : Rel P n E S B := by
  rw [Scr.ext g rfl rfl rfl rfl rfl]
  unfold frN
  refine h.loc (k := 0) (j := 0) (by decide) (by decide) (((((Out.rf.u (fL0 (by decide))).u (fL0 (by decide))).u (fL0 (by decide))).u (fL0 (by decide))).u (fL0 (by decide))) Out.rf (Nat.le_refl _) ?_ (Int.le_refl _) (h.ts 0 0 (by decide) (by decide)) (h.ov 0 0 (by decide) (by decide)) (fun _ _ _ _ _ z => z) (h.tk 0 (by decide)) (fun z => z) (fun z => z) h.top (h.hl 0 (by decide)) (fun w hw => h.wys 0 w (by decide) hw) (h.sd 0 0 (by decide) (by decide)) (h.rv 0 0 (by decide) (by decide))
  exact h.tb.scr (Scr.frNn Scr.rfl')
theorem xF_o0 (hr : room ≤ 1200) (hx : xF A k room = some A') : A' M_o 0 = A M_o 0 := by
  rcases xF_sorts hx with ⟨j, hj, hp, rfl⟩ | ⟨j, hj, hp, rfl⟩ | ⟨-, -, rfl⟩ | ⟨j, hj, hp, rfl⟩ | ⟨w, hw, -, rfl⟩ | rfl | ⟨j, hj, hp, rfl⟩ | ⟨w, hw, -, rfl⟩ | ⟨j, A1, hj, hs, rfl⟩
  · rfl
  · rfl
  · rfl
  · rfl
  · rfl
  · rfl
  · rfl
  · rfl
  · obtain ⟨b, m, g1, rfl, g3, g4, g5⟩ := xS_inv hr hs
    show aF8 A k j b m M_o 0 = A M_o 0
    exact aF8_x _ _ (by decide) (by decide) (by decide) (fun z => by cases z)
theorem c_fill_21 (h : Rel P n E A B) (x1 x2 : Int) : ∀ (m i f : Nat), i + m = fp A → m < f → g_X1_fill_21 E f B x1 x2 k i = g_X1_fill_47 E B x1 x2 k (fp A) := by
  have hle : fp A ≤ 64 := fst_le
  intro m
  induction m with
  | zero =>
    intro i f hi hf
    obtain ⟨f, rfl⟩ : ∃ g, f = g + 1 := ⟨f - 1, by omega⟩
    have ei : i = fp A := by omega
    subst ei
    rw [show g_X1_fill_21 E (f + 1) B x1 x2 k (fp A : Int) = g_X1_fill_21_b E (g_X1_fill_21 E f) B x1 x2 k (fp A : Int) from rfl]
    unfold g_X1_fill_21_b
    by_cases q : fp A < 64
    · have z := (fst_lt q).1
      have z' : A M_lineUsed (fp A) = 0 := of_decide_eq_true z
      rw [if_neg (by omega), hA_ok (by omega) (by omega), tkN, if_pos (by rw [(h.ln _ q).tak]; exact z')]
    · rw [if_pos (by omega)]
  | succ m ih =>
    intro i f hi hf
    obtain ⟨f, rfl⟩ : ∃ g, f = g + 1 := ⟨f - 1, by omega⟩
    rw [show g_X1_fill_21 E (f + 1) B x1 x2 k (i : Int) = g_X1_fill_21_b E (g_X1_fill_21 E f) B x1 x2 k (i : Int) from rfl]
    unfold g_X1_fill_21_b
    have hi64 : i < 64 := by omega
    have z : A M_lineUsed i ≠ 0 := by
      by_cases q : fp A < 64
      · have := (fst_lt q).2 i (by unfold fp at hi; omega)
        simpa using this
      · have := fst_none q i hi64
        simpa using this
    rw [if_neg (by omega), hA_ok (by omega) (by omega), tkN, if_neg (by rw [(h.ln i hi64).tak]; exact z), c32_ok (by omega) (by omega), show (i : Int) + 1 = ((i + 1 : Nat) : Int) by omega]
    exact ih (i + 1) f (by omega) (by omega)
theorem c_place (hk : k < 2) (hp : p < 64) {m : Nat} {by_ : Int} (h18 : B (H_o k) 18 = m) (hm : m ≤ 1200) (hb : ∀ C : AM, (∀ f, C (H_o k) f = B (H_o k) f) → g_X2_bytes k C = some by_) (hv : ∀ i : Nat, i < m → -128 ≤ B (H_row k) i ∧ B (H_row k) i < 128) {x1 x2 : Int} (hx : x1 = k) {S : AM} (hf : g_X2_fill E k S x2 = some (B, 1)) : g_X1_fill_66 E S x1 x2 k p 1 = some (cPl B p k by_, .inr (p : Int)) := by
  subst hx
  unfold g_X1_fill_66
  rw [c_ready1, bd_v, hXW_r, hf, gB2_v, if_pos (by decide), hA_ok (by omega) (by omega), tkN]
  simp only [gS_v]
  have e : ∀ (v : Nat) (x : Int) (C : AM) (f : Nat), uA C (L_o p) v x (H_o k) f = C (H_o k) f := fun v x C f => uA_tag (by show 7 ≠ 31; decide)
  rw [hb _ (fun f => by rw [e, e, e, e, e, e, e, e]), bd_v]
  simp only [gS_v, e]
  have e2 : ∀ (v : Nat) (x : Int) (C : AM) (f : Nat), uA C (L_o p) v x (H_row k) f = C (H_row k) f := fun v x C f => uA_tag (by show 27 ≠ 31; decide)
  unfold hY
  rw [if_pos]
  · rfl
  · simp only [e2]
    refine ⟨by omega, by omega, by omega, by omega, by omega, ?_⟩
    rw [List.all_eq_true]
    intro i hi
    rw [List.mem_range, h18] at hi
    exact decide_eq_true (hv _ (by omega))
theorem call_fill (h : Rel Any n E A B) (x1 x2 : Int) : ∃ A' v B' w, g_X8_fill A x1 x2 = some (A', v) ∧ g_X1_fill E B x1 x2 = some (B', w) ∧ Rel Any (n + 1) E A' B' ∧ Ans wI A' v w := by
  unfold g_X1_fill
  by_cases q : 0 ≤ x1 ∧ x1 ≤ 1
  · obtain ⟨k, rfl⟩ := Int.eq_ofNat_of_zero_le q.1
    have hk : k < 2 := by omega
    rw [c_hallN hk, bd_v, hXW_r]
    by_cases qr : 1 ≤ x2 ∧ x2 ≤ 1200
    · rw [c_in1 qr, bd_v, c_need1, bd_v, hXW_r, show (0 : Int) = ((0 : Nat) : Int) from rfl, c_fill_21 h k x2 (fp A) 0 FU (by omega) (by have : fp A ≤ 64 := fst_le; unfold FU; omega)]
      unfold g_X1_fill_47 g_X1_fill_65
      have e65 : ∀ y : Nat, g_X1_fill_66 E B k x2 k y 0 = some (B, .inl 2) := by
        intro y
        unfold g_X1_fill_66
        rw [c_ready0, bd_v, hXW_l]
      by_cases hb : fp A < 64 ∧ A M_o 1 ≠ 0
      · rw [if_neg (by rw [h.top.jnd]; exact hb.2), if_neg (by omega)]
        have hf := t_fill_ok h.tb hk qr.1 qr.2 hb.1 hb.2
        have h0 := (h.o0 (v := 0) (Nat.le_refl _)).o0 (v := 0) (Nat.le_refl _)
        have hu : A M_lineUsed (fp A) = 0 := of_decide_eq_true (fst_lt hb.1).1
        have fc := c_fill h0 hk qr
        cases hx : xF (uA (uA A M_o 0 0) M_o 0 0) k x2 with
        | none =>
          rw [hx] at hf fc
          obtain ⟨S, g, e⟩ := hf
          have fc' : g_X2_fill E k B x2 = some (B, 0) := fc
          refine ⟨_, _, B, .inr (-1), e, ?_, (h0.scr g).up (by omega), ?_, rfl⟩
          · unfold g_X1_fill_66
            rw [c_ready1, bd_v, hXW_r, fc', gB2_v, if_neg (by decide)]
          · rw [g M_o 0 (by omega)]; rfl
        | some A' =>
          rw [hx] at hf fc
          obtain ⟨B', c1, R, r17, r19, r20, r21, r18, rrow⟩ := fc
          obtain ⟨kind, a, b, m, c, nf⟩ := xF_new h0 hk qr.2 hx
          have nf' := nf
          obtain ⟨f1, f2, f3, f4, f5, f6, f7, f8, f9, f10, f11, f12, f13, f14, f15, f16, f17, f18⟩ := nf'
          have R2 := h0.place hk hb.1 hu hx qr.2 R nf r17 r19 r20 r21 r18 rrow
          have hf2 : g_X8_fill A k x2 = some (aPl A' (fp A) k, (fp A : Int)) := hf
          refine ⟨_, _, _, .inr (fp A : Int), hf2, ?_, R2, ?_, rfl⟩
          · obtain ⟨-, -, m', -, -, gm, gm2, -, gd⟩ := xF_frm h0.tb hk qr.2 hx
            refine c_place hk hb.1 (m := m) (by rw [r18, f4]) f10 ?_ ?_ rfl c1
            · intro C hC
              rw [c_bytes (B := C) (kind := kind) (a := a) (n := m) (b := b) (c := c) (by rw [hC, r17, f1]) (by rw [hC, r18, f4]) (by rw [hC, r19, f2]) (by rw [hC, r20, f3]) (by rw [hC, r21, f5]) f10 (by omega)]
              unfold fby
              rw [f1, f2, f3, f4, f5, tkN, tkN]
              by_cases z : kind = 8
              · rw [if_pos z, if_pos (by omega)]
              · rw [if_neg z, if_neg (by omega)]
            · intro i hi
              rw [rrow i (by omega)]
              exact gd i (by omega)
          · rw [aPl_o _ _ (by decide), xF_o0 qr.2 hx]; rfl
      · refine ⟨_, _, _, _, t_fill_busy hk qr.1 qr.2 hb, ?_, (h.o0 (v := 0) (Nat.le_refl _)).o0 (v := 2) (by omega), ans_l rfl⟩
        by_cases z : A M_o 1 = 0
        · rw [if_pos (by rw [h.top.jnd]; exact z), e65]
        · have : ¬ fp A < 64 := fun y => hb ⟨y, z⟩
          rw [if_neg (by rw [h.top.jnd]; exact z), if_pos (by omega), e65]
    · rw [c_in0 qr, bd_v, c_need0, bd_v, hXW_l]
      exact ⟨_, _, _, _, t_fill_bad (by omega), rfl, h.o0 (v := 1) (by omega), ans_l rfl⟩
  · rw [c_hall_bad q, bd_v, hXW_l]
    exact ⟨_, _, _, _, t_fill_bad (by omega), rfl, h.o0 (v := 1) (by omega), ans_l rfl⟩
end CFL
