section LST
variable {A A' B B' : AM} {E : L3 → Bool} {k n : Nat}
theorem c_lost5 (h : Rel Any n E A B) (hk : k < 2) {a : Nat} {b : Int} (ha : a < 256) (hE : E (R_o k a) = true) : g_X2_isLost E k B 5 a a b = some (uA B (R_o k a) 11 1) := by
  unfold g_X2_isLost
  rw [if_neg (by decide), hA_ok (by omega) (by omega), tkN, if_pos hE, gS_v]
  rfl
theorem c_lost16 (h : Rel Any n E A B) (hk : k < 2) {a id b : Int} : g_X2_isLost E k B 16 id a b = some (if a = A M_dataGrant k then uA B (H_o k) 16 1 else B) := by
  unfold g_X2_isLost g_X2_isLost_15
  rw [if_pos (by decide), if_neg (by decide), (h.hl k hk).gal]
  by_cases q : a = A M_dataGrant k
  · rw [if_neg (fun z => z q), if_pos q, gS_v]; rfl
  · rw [if_pos q, if_neg q]; rfl
theorem c_lost20 (h : Rel Any n E A B) (hk : k < 2) {a id b : Int} : g_X2_isLost E k B 20 id a b = some (if a = A M_toldBlocked (3 * k) then uA B (H_o k) 10 (-1) else B) := by
  have e : ∀ C : AM, g_X2_isLost E k C 20 id a b = g_X2_isLost_111 E k C 20 id a b := fun _ => rfl
  rw [e]
  unfold g_X2_isLost_111
  rw [if_neg (by decide), (h.hl k hk).bla]
  by_cases q : a = A M_toldBlocked (3 * k)
  · rw [if_neg (fun z => z q), if_pos q, gS_v]; rfl
  · rw [if_pos q, if_neg q]; rfl
theorem c_lost17 (h : Rel Any n E A B) (hk : k < 2) {a : Nat} {x b : Int} (ha : a < 256) (hE : E (R_o k a) = true) : g_X2_isLost E k B 17 a x b = some (if b = A M_grant (256 * k + a) then uA B (R_o k a) 10 1 else B) := by
  have e : ∀ C : AM, g_X2_isLost E k C 17 a x b = g_X2_isLost_36 E k C 17 a x b := fun C => by
    unfold g_X2_isLost g_X2_isLost_15
    rw [if_pos (by decide), if_pos (by decide)]
  rw [e]
  unfold g_X2_isLost_36
  rw [if_neg (by decide), hA_ok (by omega) (by omega), tkN, if_pos hE, (h.rv k a hk ha hE).grt]
  by_cases q : b = A M_grant (256 * k + a)
  · rw [if_neg (fun z => z q), if_pos q, hA_ok (by omega) (by omega), if_pos hE, gS_v]; rfl
  · rw [if_pos q, if_neg q]; rfl
theorem c_lost21 (h : Rel Any n E A B) (hk : k < 2) {a : Nat} {x b : Int} (ha : a < 256) (hE : E (S_o k a) = true) : g_X2_isLost E k B 21 a x b = some (if b = A M_toldLimit (256 * k + a) then uA B (S_o k a) 10 (-1) else B) := by
  have e : ∀ C : AM, g_X2_isLost E k C 21 a x b = g_X2_isLost_133 E k C 21 a x b := fun C => by
    unfold g_X2_isLost g_X2_isLost_15 g_X2_isLost_36 g_X2_isLost_68 g_X2_isLost_111
    rw [if_pos (by decide), if_pos (by decide), if_pos (by decide), if_neg (by decide), if_pos (by decide), if_pos (by decide)]
  rw [e]
  unfold g_X2_isLost_133
  rw [if_neg (by decide), hA_ok (by omega) (by omega), tkN, if_pos hE, (h.sd k a hk ha hE).blk]
  by_cases q : b = A M_toldLimit (256 * k + a)
  · rw [if_neg (fun z => z q), if_pos q, hA_ok (by omega) (by omega), if_pos hE, gS_v]; rfl
  · rw [if_pos q, if_neg q]; rfl
theorem c_lost18 (h : Rel Any n E A B) (hk : k < 2) {w : Nat} (hw : w < 2) {a id b : Int} : g_X2_isLost E k B ((18 + w : Nat) : Int) id a b = some (if a = A M_granted (2 * k + w) then uA B (W_o k w) 6 1 else B) := by
  have c := (h.wys k w hk hw).grt
  have hw' : w = 0 ∨ w = 1 := by omega
  rcases hw' with rfl | rfl
  · have e : ∀ C : AM, g_X2_isLost E k C ((18 + 0 : Nat) : Int) id a b = g_X2_isLost_80 E k C 18 id a b := fun _ => rfl
    rw [e]
    unfold g_X2_isLost_80
    rw [hA_ok (by decide) (by decide), show ((18 : Int) - 18).toNat = 0 from rfl, c]
    by_cases q : a = A M_granted (2 * k + 0)
    · rw [if_neg (fun z => z q), if_pos q, hA_ok (by decide) (by decide), gS_v]; rfl
    · rw [if_pos q, if_neg q]; rfl
  · have e : ∀ C : AM, g_X2_isLost E k C ((18 + 1 : Nat) : Int) id a b = g_X2_isLost_80 E k C 19 id a b := fun _ => rfl
    rw [e]
    unfold g_X2_isLost_80
    rw [hA_ok (by decide) (by decide), show ((19 : Int) - 18).toNat = 1 from rfl, c]
    by_cases q : a = A M_granted (2 * k + 1)
    · rw [if_neg (fun z => z q), if_pos q, hA_ok (by decide) (by decide), gS_v]; rfl
    · rw [if_pos q, if_neg q]; rfl
end LST
