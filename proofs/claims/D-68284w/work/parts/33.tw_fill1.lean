/-! THE TWIN: frames other than a stream's bytes -/
theorem scan {σ ρ : Type} (I : σ → Prop) (P : Nat → Bool) (loop : Nat → σ → Nat → Option ρ) (N : Nat) (hskip : ∀ f s j, I s → j < N → P j = false → ∃ s', I s' ∧ loop (f + 1) s j = loop f s' (j + 1)) : ∀ (m i f : Nat) (s : σ), I s → i + m = N → m < f → ∃ s' f', I s' ∧ loop f s i = loop (f' + 1) s' (((List.range' i m).find? P).getD N) := by
  intro m
  induction m with
  | zero =>
    intro i f s hs h1 h2
    obtain ⟨f, rfl⟩ : ∃ f', f = f' + 1 := ⟨f - 1, by omega⟩
    refine ⟨s, f, hs, ?_⟩
    show loop (f + 1) s i = loop (f + 1) s N
    rw [show i = N by omega]
  | succ m ih =>
    intro i f s hs h1 h2
    obtain ⟨f, rfl⟩ : ∃ f', f = f' + 1 := ⟨f - 1, by omega⟩
    rw [List.range'_succ, List.find?_cons]
    cases hp : P i with
    | true => exact ⟨s, f, hs, rfl⟩
    | false =>
      obtain ⟨s1, h3, h4⟩ := hskip f s i hs (by omega) hp
      obtain ⟨s2, f2, h5, h6⟩ := ih (i + 1) f s1 h3 (by omega) (by omega)
      exact ⟨s2, f2, h5, by rw [h4, h6]⟩
/-- the first number below N with a property, or N -/
def fst (P : Nat → Bool) (N : Nat) : Nat := ((List.range' 0 N).find? P).getD N
theorem fst_lt {P : Nat → Bool} {N : Nat} (h : fst P N < N) : P (fst P N) = true ∧ ∀ i, i < fst P N → P i = false := by
  unfold fst at h ⊢
  cases hf : (List.range' 0 N).find? P with
  | none => rw [hf] at h; exact absurd h (Nat.lt_irrefl N)
  | some j =>
    refine ⟨List.find?_some hf, fun i hi => ?_⟩
    rw [List.find?_eq_some_iff_append] at hf
    obtain ⟨h1, as, bs, h2, h3⟩ := hf
    have hi2 : i < j := hi
    have hj : j < N := by
      have : j ∈ List.range' 0 N := by rw [h2]; simp
      simp at this; omega
    have hidx : as.length = j := by
      have h4 : (List.range' 0 N)[as.length]? = some j := by rw [h2]; simp
      rw [List.getElem?_range' (by have := congrArg List.length h2; simp at this; omega)] at h4
      simp at h4; omega
    have h5 : i ∈ as := by
      have h6 : (List.range' 0 N)[i]? = some i := by rw [List.getElem?_range' (by omega)]; simp
      rw [h2, List.getElem?_append_left (by omega)] at h6
      exact List.mem_of_getElem? h6
    have := h3 i h5
    simpa using this
theorem fst_le {P : Nat → Bool} {N : Nat} : fst P N ≤ N := by
  unfold fst
  cases hf : (List.range' 0 N).find? P with
  | none => exact Nat.le_refl N
  | some j =>
    have := List.mem_of_find?_eq_some hf
    simp at this
    show j ≤ N
    omega
theorem fst_none {P : Nat → Bool} {N : Nat} (h : ¬ fst P N < N) : ∀ i, i < N → P i = false := by
  unfold fst at h
  cases hf : (List.range' 0 N).find? P with
  | none =>
    intro i hi
    have := List.find?_eq_none.mp hf i (by simp; omega)
    simpa using this
  | some j =>
    rw [hf] at h
    have := List.mem_of_find?_eq_some hf
    simp at this
    exact absurd (show j < N by omega) h
theorem fst_congr {P Q : Nat → Bool} {N : Nat} (h : ∀ i, i < N → P i = Q i) : fst P N = fst Q N := by
  unfold fst
  rw [find?_congr' (fun a ha => h a (by simp at ha; omega))]
section TWF
variable {A : AM} {k j : Nat}
def sz (v : Int) : Int := if 64 ≤ v then (if 16384 ≤ v then (if 1073741824 ≤ v then 8 else 4) else 2) else 1
theorem sz_le (v : Int) : 1 ≤ sz v ∧ sz v ≤ 8 := by unfold sz; split <;> (try split) <;> (try split) <;> omega
theorem t_sizeOf {v : Int} : g_X8_sizeOf v = some (sz v) := by
  unfold g_X8_sizeOf sz
  split <;> (try split) <;> (try split) <;> rfl
/-- the size of a frame without bytes -/
def fsz (kind : Nat) (a b c : Int) : Int := 1 + sz a + (if kind = 4 ∨ kind = 5 ∨ kind = 17 ∨ kind = 21 then sz b else 0) + (if kind = 4 then sz c else 0)
def fr (A : AM) (kind a b c : Int) : AM := uA (uA (uA (uA (uA A M_o 45 kind) M_o 46 a) M_o 47 b) M_o 48 c) M_o 49 0
theorem t_bytes_o {kind : Nat} (hk : kind ≠ 8) (h45 : A M_o 45 = kind) : g_X8_bytes A = some (fsz kind (A M_o 46) (A M_o 47) (A M_o 48)) := by
  unfold g_X8_bytes g_X8_bytes_98 g_X8_bytes_108 fsz
  have s1 := sz_le (A M_o 46)
  have s2 := sz_le (A M_o 47)
  have s3 := sz_le (A M_o 48)
  rw [h45, if_pos (by omega)]
  simp (disch := omega) only [t_sizeOf, bd_v, c32_ok]
  by_cases q4 : kind = 4
  · rw [if_pos (by omega), if_neg (by omega), if_pos (Or.inl q4), if_pos q4]
  rw [if_neg (by omega)]
  by_cases q5 : kind = 5
  · rw [if_pos (by omega), if_pos (by omega), if_pos (Or.inr (Or.inl q5)), if_neg q4]; congr 1; omega
  rw [if_neg (by omega)]
  by_cases q17 : kind = 17
  · rw [if_pos (by omega), if_pos (by omega), if_pos (Or.inr (Or.inr (Or.inl q17))), if_neg q4]; congr 1; omega
  rw [if_neg (by omega)]
  by_cases q21 : kind = 21
  · rw [if_neg (by omega), if_pos (by omega), if_pos (Or.inr (Or.inr (Or.inr q21))), if_neg q4]; congr 1; omega
  rw [if_pos (by omega), if_pos (by omega), if_neg (by omega), if_neg q4]; congr 1; omega
theorem tw_lays {kind : Nat} (hk : kind ≠ 8) {a b c room : Int} : g_X8_lays A kind a b c room = some (fr A kind a b c, if fsz kind a b c ≤ room then 1 else 0) := by
  unfold g_X8_lays
  rw [gS_v, gS_v, gS_v, gS_v, gS_v, t_bytes_o (kind := kind) hk rfl, bd_v]
  have e : fsz kind ((uA (uA (uA (uA (uA A M_o 45 kind) M_o 46 a) M_o 47 b) M_o 48 c) M_o 49 0) M_o 46) ((uA (uA (uA (uA (uA A M_o 45 kind) M_o 46 a) M_o 47 b) M_o 48 c) M_o 49 0) M_o 47) ((uA (uA (uA (uA (uA A M_o 45 kind) M_o 46 a) M_o 47 b) M_o 48 c) M_o 49 0) M_o 48) = fsz kind a b c := rfl
  rw [e]
  by_cases q : fsz kind a b c ≤ room
  · rw [if_neg (by omega), if_pos q]; rfl
  · rw [if_pos (by omega), if_neg q]; rfl
/-- two memories that differ in the frame at most -/
def Scr (A S : AM) : Prop := ∀ r f, ¬ (r = M_o ∧ 45 ≤ f ∧ f ≤ 49) → S r f = A r f
theorem Scr.rfl' : Scr A A := fun _ _ _ => rfl
theorem Scr.rl {S : AM} (h : Scr A S) (r : L3) (f : Nat) (hr : r ≠ M_o) : S r f = A r f := h r f (fun q => hr q.1)
theorem Scr.frm {S : AM} (h : Scr A S) {kd a b c : Int} : Scr A (fr S kd a b c) := by
  intro r f hn
  unfold fr
  rw [uA_at, uA_at, uA_at, uA_at, uA_at, if_neg (fun q => hn ⟨q.1, by omega⟩), if_neg (fun q => hn ⟨q.1, by omega⟩), if_neg (fun q => hn ⟨q.1, by omega⟩), if_neg (fun q => hn ⟨q.1, by omega⟩), if_neg (fun q => hn ⟨q.1, by omega⟩)]
  exact h r f hn
end TWF
