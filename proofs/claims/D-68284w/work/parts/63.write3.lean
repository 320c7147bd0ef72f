section WR3
variable {A A' B B' : AM} {E : L3 → Bool} {k j n : Nat}
theorem Rel.tap0 (h : Rel Any n E A B) : Rel Any (n + 1) E (uA A M_o 3 0) (uA B C_o 5 0) := by
  have t := h.tb.tap
  refine h.loc (k := 0) (j := 0) (by decide) (by decide) (Out.rf.u (fL0 (by decide))) (Out.rf.u (Or.inl rfl)) (by omega) h.tb.o3 ?_ (h.ts 0 0 (by decide) (by decide)) (h.ov 0 0 (by decide) (by decide)) (fun _ _ _ _ _ z => z) (h.tk 0 (by decide)) (fun z => z) (fun z => z) ?_ (h.hl 0 (by decide)) (fun w hw => h.wys 0 w (by decide) hw) (h.sd 0 0 (by decide) (by decide)) (h.rv 0 0 (by decide) (by decide))
  · rw [uA_self]; exact t.1
  · have tp := h.top
    exact (CTop.make (rfl) tp.mad tp.jnd tp.tpe tp.out tp.ovl)
theorem call_write (h : Rel Any n E A B) (hn : n < 64) (x1 x2 : Int) : ∃ A' v B' w, g_X8_write A x1 x2 = some (A', v) ∧ g_X1_write E B x1 x2 = some (B', w) ∧ Rel Any (n + 1) E A' B' ∧ Ans wI A' v w := by
  unfold g_X1_write
  by_cases q : 0 ≤ x1 ∧ x1 ≤ 1
  · obtain ⟨k, rfl⟩ := Int.eq_ofNat_of_zero_le q.1
    have hk : k < 2 := by omega
    have ht := h.tb.tap
    have hto := h.tb.tot k hk
    obtain ⟨t, et⟩ := Int.eq_ofNat_of_zero_le ht.1
    obtain ⟨u, eu⟩ := Int.eq_ofNat_of_zero_le hto.1
    rw [c_hallN hk, bd_v, hXW_r, h.top.tap, et]
    by_cases hs : isS A k x2 ∧ sst A k x2.toNat = 0
    · have hz := (h.ex.s hk).1 hs.1
      obtain ⟨j, rfl⟩ := Int.eq_ofNat_of_zero_le hz.1
      have hj : j < 256 := by omega
      rw [tkN] at hs hz
      have s := h.sd k j hk hj hz.2.2
      obtain ⟨ch, st⟩ := h.st k hk
      unfold g_X2_write
      rw [c_sendingN hj hz.2.2, bd_v, gM_s, if_pos (by rw [s.sta]; exact hs.2)]
      by_cases m0 : t = 0 ∨ u = 65536
      · have tw := t_write_ok (mm := 0) (n := t) h.tb hk hj hs.1 hs.2 et (by omega) (by omega) (by omega)
        have r := (h.o0 (v := 0) (Nat.le_refl _)).tap0
        refine ⟨_, _, _, _, tw, ?_, r, ans_r rfl⟩
        unfold g_X5_add
        have e0 : mnZ (t : Int) (65536 - u) = 0 := by unfold mnZ; split <;> omega
        rw [st.use, eu, c32_ok (by omega) (by omega), e0, if_neg (fun z => z rfl), gB2_v, gB2_v, gS_v]
        rfl
      · obtain ⟨m, em⟩ : ∃ m : Nat, mnZ (t : Int) (65536 - u) = m := ⟨(mnZ (t : Int) (65536 - u)).toNat, by unfold mnZ; split <;> omega⟩
        have m1 : 1 ≤ m := by unfold mnZ at em; split at em <;> omega
        have m2 : m ≤ t := by unfold mnZ at em; split at em <;> omega
        have m3 : u + m ≤ 65536 := by unfold mnZ at em; split at em <;> omega
        have m4 : m = t ∨ u + m = 65536 := by unfold mnZ at em; split at em <;> omega
        have tw := t_write_ok (mm := m) (n := t) h.tb hk hj hs.1 hs.2 et m2 (by omega) (by omega)
        have r := (h.o0 (v := 0) (Nat.le_refl _)).write hn hk hj hz.2.2 hs.2 (u := u) (m := m) (t := t) eu m1 m2 et m3 m4
        refine ⟨_, _, _, .inr (m : Int), tw, ?_, r.2, ans_r ?_⟩
        · rw [r.1, gB2_v, gB2_v, gS_v]
        · rw [aWrite_o _ _ (by decide) (by decide) (by decide) (by decide)]
          rfl
    · have r := (h.o0 (v := 0) (Nat.le_refl _)).tap0
      refine ⟨_, _, _, _, t_write_no h.tb hk hs, ?_, r, ans_r rfl⟩
      unfold g_X2_write g_X2_write_20
      by_cases hz : isS A k x2
      · have hz' := (h.ex.s hk).1 hz
        obtain ⟨j, rfl⟩ := Int.eq_ofNat_of_zero_le hz'.1
        have hj : j < 256 := by omega
        rw [tkN] at hs hz'
        rw [c_sendingN hj hz'.2.2, bd_v, gM_s, if_neg (by rw [(h.sd k j hk hj hz'.2.2).sta]; exact fun z => hs ⟨hz, z⟩), gB2_v, gS_v]
      · rw [c_sending_no (fun z => hz ((h.ex.s hk).2 z)), bd_v, gM_n, gB2_v, gS_v]
  · rw [c_hall_bad q, bd_v, hXW_l]
    exact ⟨_, _, _, _, t_write_bad q, rfl, h.o0 (v := 1) (by omega), ans_l rfl⟩
end WR3
