/-! THE STORE: bytes of a stream, copied to the row -/
section CPY
variable {A B : AM} {E : L3 → Bool} {k j : Nat}
def cRw (B : AM) (k : Nat) (v : Nat → Int) (m : Nat) : AM := fun r f => if r = H_row k ∧ f < m then v f else B r f
theorem cRw_0 {v : Nat → Int} : cRw B k v 0 = B := by
  funext r f
  unfold cRw
  rw [if_neg (by omega)]
theorem cRw_o {v : Nat → Int} {m : Nat} (r : L3) (f : Nat) (h : r ≠ H_row k) : cRw B k v m r f = B r f := by unfold cRw; rw [if_neg (fun z => h z.1)]
theorem cRw_s {v : Nat → Int} {m sp c : Nat} (h : ∀ t, t < c → B (T_bytes k) (sp + t) = v (m + t)) : cpA (cRw B k v m) (T_bytes k) (H_row k) sp m c = cRw B k v (m + c) := by
  funext r f
  unfold cpA
  by_cases e : r = H_row k
  · subst e
    rw [if_pos rfl, cpy_at]
    by_cases q : m ≤ f ∧ f < m + c
    · rw [if_pos q, cRw_o _ _ (fun z => by injection z with z; cases z), h (f - m) (by omega)]
      unfold cRw
      rw [if_pos ⟨rfl, by omega⟩, show m + (f - m) = f by omega]
    · rw [if_neg q]
      unfold cRw
      by_cases q2 : f < m
      · rw [if_pos ⟨rfl, q2⟩, if_pos ⟨rfl, by omega⟩]
      · rw [if_neg (fun z => q2 z.2), if_neg (fun z => by omega)]
  · rw [if_neg e, cRw_o _ _ e, cRw_o _ _ e]
theorem getD_app_mid {pre mid post : List Nat} {i : Nat} (h1 : pre.length ≤ i) (h2 : i < pre.length + mid.length) : (pre ++ (mid ++ post)).getD i 0 = mid.getD (i - pre.length) 0 := by
  rw [List.getD_eq_getElem?_getD, List.getD_eq_getElem?_getD, List.getElem?_append_right h1, List.getElem?_append_left (by omega)]
theorem c_copy_12 {ch : Nat → List Nat} (h : CSt E A B k ch) (hT : TB A) (hk : k < 2) {v : Nat → Int} {fm n : Nat} (hv : ∀ i, i < n → v i = A M_value (65536 * k + (pos A k j).getD (fm + i) 0)) (hw : fm + n ≤ wl A k j) (hn : n ≤ 1200) : ∀ (l pre : List Nat) (a : Int) (bg md f : Nat), Lk (B (T_next k)) a l → (∀ p ∈ l, p ∈ ch j) → Seg (B (T_at k)) (B (T_size k)) pre ++ Seg (B (T_at k)) (B (T_size k)) l = pos A k j → (Seg (B (T_at k)) (B (T_size k)) pre).length = bg → md ≤ n → (bg ≤ fm → md = 0) → (fm < bg → md = min n (bg - fm)) → l.length < f → g_X5_copy_12 k f (cRw B k v md) fm n a bg md = some (cRw B k v n) := by
  have ht := hT.tot k hk
  have hwl := wl_le (j := j) ht
  have npc := h.npc
  have eT : ∀ t f m, t ≠ 27 → cRw B k v m (t, k, 0) f = B (t, k, 0) f := fun t f m ht => cRw_o _ _ (fun z => by injection z; omega)
  intro l
  induction l with
  | nil =>
    intro pre a bg md f hl _ hs hb hm h1 h2 hf
    obtain ⟨f, rfl⟩ : ∃ q, f = q + 1 := ⟨f - 1, by simp at hf; omega⟩
    have ha : a = -1 := hl
    have e0 : (Seg (B (T_at k)) (B (T_size k)) ([] : List Nat)) = [] := rfl
    rw [e0, List.append_nil] at hs
    have : bg = wl A k j := by rw [← hb, hs]; rfl
    have e : md = n := by
      by_cases q : bg ≤ fm
      · have := h1 q; omega
      · have := h2 (by omega); omega
    rw [show g_X5_copy_12 k (f + 1) (cRw B k v md) fm n a bg md = g_X5_copy_12_b k (g_X5_copy_12 k f) (cRw B k v md) fm n a bg md from rfl]
    unfold g_X5_copy_12_b
    rw [if_pos ha, e]
  | cons p l ih =>
    intro pre a bg md f hl hm' hs hb hm h1 h2 hf
    obtain ⟨f, rfl⟩ : ∃ q, f = q + 1 := ⟨f - 1, by simp at hf; omega⟩
    obtain ⟨ha, hl⟩ := hl
    subst ha
    have mp := h.mem j p (hm' p List.mem_cons_self)
    have p64 : p < 64 := by omega
    rw [show g_X5_copy_12 k (f + 1) (cRw B k v md) fm n p bg md = g_X5_copy_12_b k (g_X5_copy_12 k f) (cRw B k v md) fm n p bg md from rfl]
    unfold g_X5_copy_12_b
    rw [if_neg (by omega)]
    by_cases q : n ≤ md
    · have : md = n := by omega
      subst this
      rw [if_pos (by omega)]
    rw [if_neg (by omega)]
    have hbl : bg ≤ wl A k j := by
      rw [← hb]; unfold wl; rw [← hs, List.length_append]; omega
    obtain ⟨s, es⟩ := Int.eq_ofNat_of_zero_le mp.2.2.1
    obtain ⟨at_, ea⟩ := Int.eq_ofNat_of_zero_le mp.2.1
    have hs2 : Seg (B (T_at k)) (B (T_size k)) (p :: l) = List.range' at_ s ++ Seg (B (T_at k)) (B (T_size k)) l := by
      unfold Seg
      rw [List.flatMap_cons, ea, es]
      rfl
    have lenp : (List.range' at_ s).length = s := List.length_range'
    have sw : bg + s ≤ wl A k j := by
      rw [← hb]; unfold wl; rw [← hs, hs2, List.length_append, List.length_append, lenp]; omega
    have mb : bg ≤ fm + md := by
      by_cases z : bg ≤ fm
      · omega
      · have := h2 (by omega); omega
    obtain ⟨sk, esk⟩ : ∃ sk : Nat, fm + md = bg + sk := ⟨fm + md - bg, by omega⟩
    have emx : mxZ ((fm : Int) + md - bg) 0 = sk := by unfold mxZ; split <;> omega
    have eS : cRw B k v md (T_size k) p = s := by rw [eT 20 p md (by decide)]; exact es
    have eA : cRw B k v md (T_at k) p = at_ := by rw [eT 19 p md (by decide)]; exact ea
    have next : ∀ md', md' ≤ n → (bg + s ≤ fm → md' = 0) → (fm < bg + s → md' = min n (bg + s - fm)) → g_X5_copy_92 k (g_X5_copy_12 k f) (cRw B k v md') fm n p bg md' = some (cRw B k v n) := by
      intro md' g1 g2 g3
      unfold g_X5_copy_92
      rw [hA_ok (by omega) (by omega), hA_ok (by omega) (by omega), tkN, eT 20 p md' (by decide), eT 21 p md' (by decide)]
      have es' : B (20, k, 0) p = s := es
      rw [es', c32_ok (by omega) (by omega), show (bg : Int) + s = ((bg + s : Nat) : Int) by omega]
      refine ih (pre ++ [p]) _ (bg + s) md' f hl (fun q hq => hm' q (List.mem_cons_of_mem _ hq)) ?_ ?_ g1 g2 g3 (by simp at hf; omega)
      · rw [Seg_snoc, ea, es, tkN, tkN, List.append_assoc, ← hs2]; exact hs
      · rw [Seg_snoc, List.length_append, hb, ea, es, tkN, tkN, lenp]
    rw [hA_ok (by omega) (by omega), tkN, eS, emx, c32_ok (by omega) (by omega), c32_ok (by omega) (by omega), c32_ok (by omega) (by omega)]
    by_cases q2 : mnZ ((s : Int) - sk) ((n : Int) - md) ≤ 0
    · rw [if_pos q2]
      have q3 : s ≤ sk := by unfold mnZ at q2; split at q2 <;> omega
      refine next md hm ?_ ?_
      · intro z; exact h1 (by omega)
      · intro z
        by_cases z2 : bg ≤ fm
        · have := h1 z2; omega
        · have := h2 (by omega); omega
    · rw [if_neg q2]
      obtain ⟨c, ec⟩ : ∃ c : Nat, mnZ ((s : Int) - sk) ((n : Int) - md) = c := ⟨(mnZ ((s : Int) - sk) ((n : Int) - md)).toNat, by omega⟩
      have c1 : c ≤ n - md := by unfold mnZ at ec; split at ec <;> omega
      have c2 : sk + c ≤ s := by unfold mnZ at ec; split at ec <;> omega
      have c3 : c = n - md ∨ sk + c = s := by unfold mnZ at ec; split at ec <;> omega
      have src : ∀ t, t < c → B (T_bytes k) (at_ + sk + t) = v (md + t) := by
        intro t ht'
        rw [hv (md + t) (by omega), h.byt (at_ + sk + t) (by omega), ← hs, hs2, getD_app_mid (by omega) (by rw [hb, lenp]; omega), hb]
        congr 1
        rw [List.getD_eq_getElem?_getD, List.getElem?_range' (by omega)]
        simp only [Option.getD_some]
        omega
      rw [hA_ok (by omega) (by omega), eA, c32_ok (by omega) (by omega), ec]
      unfold hY
      rw [if_pos]
      · rw [show ((at_ : Int) + sk).toNat = at_ + sk by omega, tkN, tkN, cRw_s src]
        dsimp only
        rw [c32_ok (by omega) (by omega), show (md : Int) + c = ((md + c : Nat) : Int) by omega]
        refine next (md + c) (by omega) ?_ ?_
        · intro z; omega
        · intro z; omega
      · refine ⟨by omega, by omega, by omega, by omega, by omega, ?_⟩
        rw [List.all_eq_true]
        intro i hi
        rw [tkN] at hi
        have hi' := List.mem_range.1 hi
        rw [show ((at_ : Int) + sk).toNat = at_ + sk by omega, eT 18 _ md (by decide)]
        have e18 : B (18, k, 0) (at_ + sk + i) = A M_value (65536 * k + (at_ + sk + i)) := h.byt (at_ + sk + i) (by omega)
        rw [e18]
        exact decide_eq_true (hT.val _)
theorem c_copy {ch : Nat → List Nat} (h : CSt E A B k ch) (hT : TB A) (hk : k < 2) (hj : j < 256) (hE : E (S_o k j) = true) {v : Nat → Int} {fm n : Nat} (hv : ∀ i, i < n → v i = A M_value (65536 * k + (pos A k j).getD (fm + i) 0)) (hw : fm + n ≤ wl A k j) (hn : n ≤ 1200) : g_X5_copy k B j fm n = some (cRw B k v n) := by
  unfold g_X5_copy
  have len := nodup_len (N := 64) (h.ndp j) (fun p hp => by have := (h.mem j p hp).1; have := h.npc; omega)
  have := c_copy_12 (j := j) h hT hk hv hw hn (ch j) [] (B (S_o k j) 4) 0 0 FU (h.lnk j hj hE) (fun _ z => z) (by rw [show Seg (B (T_at k)) (B (T_size k)) ([] : List Nat) = [] from rfl, List.nil_append]; exact h.seg j hj hE) rfl (by omega) (fun _ => rfl) (fun z => by omega) (by unfold FU; omega)
  rw [cRw_0] at this
  exact this
end CPY
