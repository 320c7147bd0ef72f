/-! posts and returns over a world of roles -/
def FU : Nat := 200000
def gS2 {α β γ : Type} (x : α × β) (k : α → β → γ) : γ := k x.1 x.2
def gB2 {α β γ : Type} (x : Option (α × β)) (k : α → β → Option γ) : Option γ := x.bind fun q => k q.1 q.2
theorem gS2_eq {α β γ : Type} {x : α × β} {k : α → β → γ} {r : γ} (h : gS2 x k = r) : ∃ u v, x = (u, v) ∧ k u v = r := ⟨x.1, x.2, rfl, h⟩
theorem gS_eq {α γ : Type} {x : α} {k : α → γ} {r : γ} (h : gS x k = r) : ∃ u, x = u ∧ k u = r := ⟨x, rfl, h⟩
theorem gB2_some {α β γ : Type} {x : Option (α × β)} {k : α → β → Option γ} {r : γ} (h : gB2 x k = some r) : ∃ u v, x = some (u, v) ∧ k u v = some r := by
  cases x with
  | none => cases h
  | some q => exact ⟨q.1, q.2, rfl, h⟩
abbrev QiR (D : va_G) (sh : Shp) (ex : Mem → L3 → Prop) (A : Nat → Prop) (ad : L3 → Nat) (S : Mem) (res : Int32) : Array Value → State → Outcome → State → Prop := va_Qi (fun (r : Int32) (u : Mem) => res = r ∧ S = u) (fun u t => Wd D clA sh ex A ad u t.heap) A
abbrev QiW (D : va_G) (sh : Shp) (ex : Mem → L3 → Prop) (A : Nat → Prop) (ad : L3 → Nat) (res : Mem × Int32) : Array Value → State → Outcome → State → Prop := va_Qi (fun (r : Int32) (u : Mem) => res = (u, r)) (fun u t => Wd D clA sh ex A ad u t.heap) A
abbrev QjR (D : va_G) (sh : Shp) (ex : Mem → L3 → Prop) (A : Nat → Prop) (ad : L3 → Nat) (S : Mem) (res : Int64) : Array Value → State → Outcome → State → Prop := va_Ql (fun (r : Int64) (u : Mem) => res = r ∧ S = u) (fun u t => Wd D clA sh ex A ad u t.heap) A
abbrev QjW (D : va_G) (sh : Shp) (ex : Mem → L3 → Prop) (A : Nat → Prop) (ad : L3 → Nat) (res : Mem × Int64) : Array Value → State → Outcome → State → Prop := va_Ql (fun (r : Int64) (u : Mem) => res = (u, r)) (fun u t => Wd D clA sh ex A ad u t.heap) A
abbrev QvW (D : va_G) (sh : Shp) (ex : Mem → L3 → Prop) (A : Nat → Prop) (ad : L3 → Nat) (res : Mem) : Array Value → State → Outcome → State → Prop := va_Qv (fun (u : Mem) => res = u) (fun u t => Wd D clA sh ex A ad u t.heap) A
section GRET
variable {p : Program} {l : Launch} {e : Env} {R : Room} {s : State} {m : MethodId} {args : Array Value} {below : List Frame} {meth : Method} {c : Code} {H : Heap} {locs : List Loc} {cc : ByteArray} {pc nL : Nat} {own : String} {ls : Array Slot} {D : va_G} {dA : Nat → ClassId} {A : Nat → Prop} {sh : Shp} {ex : Mem → L3 → Prop} {ad : L3 → Nat} {S : Mem}
theorem gr_iR (X : CX own cc nL (some .int) (KA D dA) p s m args meth c A) (hP : Wd D clA sh ex A ad S H) (hS : va_S A s.heap H locs) {v res : Int32} (hf : v = res) (hdg : decode cc pc = .ok (.ireturn, 1)) : W p l e R s m args below meth c H locs 0 0 (MQ below (QiR D sh ex A ad S res) args s 0 0 A) (F0 m pc ls [.int v]) := by
  subst hf
  exact W.iret X.hx X.hb X.hr (fun t ht hW => ⟨⟨_, S, rfl, ⟨rfl, rfl⟩, (by show Wd D clA sh ex A ad S t.heap; rw [ht]; exact hP)⟩, hS.F ht⟩) hS.2.2 hdg X.hlk
theorem gr_iW (X : CX own cc nL (some .int) (KA D dA) p s m args meth c A) (hP : Wd D clA sh ex A ad S H) (hS : va_S A s.heap H locs) {v : Int32} {res : Mem × Int32} (hf : (S, v) = res) (hdg : decode cc pc = .ok (.ireturn, 1)) : W p l e R s m args below meth c H locs 0 0 (MQ below (QiW D sh ex A ad res) args s 0 0 A) (F0 m pc ls [.int v]) := by
  subst hf
  exact W.iret X.hx X.hb X.hr (fun t ht hW => ⟨⟨_, S, rfl, rfl, (by show Wd D clA sh ex A ad S t.heap; rw [ht]; exact hP)⟩, hS.F ht⟩) hS.2.2 hdg X.hlk
theorem gr_zR (X : CX own cc nL (some .boolean) (KA D dA) p s m args meth c A) (hP : Wd D clA sh ex A ad S H) (hS : va_S A s.heap H locs) {v res : Int32} (hf : v = res) (hn : vp_nar .boolean v = v) (hdg : decode cc pc = .ok (.ireturn, 1)) : W p l e R s m args below meth c H locs 0 0 (MQ below (QiR D sh ex A ad S res) args s 0 0 A) (F0 m pc ls [.int v]) := by
  subst hf
  exact W.zret X.hx X.hb X.hr (nar_z hn).1 (fun t ht hW => ⟨⟨_, S, rfl, ⟨rfl, rfl⟩, (by show Wd D clA sh ex A ad S t.heap; rw [ht]; exact hP)⟩, hS.F ht⟩) hS.2.2 hdg X.hlk
theorem gr_zW (X : CX own cc nL (some .boolean) (KA D dA) p s m args meth c A) (hP : Wd D clA sh ex A ad S H) (hS : va_S A s.heap H locs) {v : Int32} {res : Mem × Int32} (hf : (S, v) = res) (hn : vp_nar .boolean v = v) (hdg : decode cc pc = .ok (.ireturn, 1)) : W p l e R s m args below meth c H locs 0 0 (MQ below (QiW D sh ex A ad res) args s 0 0 A) (F0 m pc ls [.int v]) := by
  subst hf
  exact W.zret X.hx X.hb X.hr (nar_z hn).1 (fun t ht hW => ⟨⟨_, S, rfl, rfl, (by show Wd D clA sh ex A ad S t.heap; rw [ht]; exact hP)⟩, hS.F ht⟩) hS.2.2 hdg X.hlk
theorem gr_bR (X : CX own cc nL (some .byte) (KA D dA) p s m args meth c A) (hP : Wd D clA sh ex A ad S H) (hS : va_S A s.heap H locs) {v res : Int32} (hf : v = res) (hn : vp_nar .byte v = v) (hdg : decode cc pc = .ok (.ireturn, 1)) : W p l e R s m args below meth c H locs 0 0 (MQ below (QiR D sh ex A ad S res) args s 0 0 A) (F0 m pc ls [.int v]) := by
  subst hf
  exact W.zret X.hx X.hb X.hr (nar_b hn) (fun t ht hW => ⟨⟨_, S, rfl, ⟨rfl, rfl⟩, (by show Wd D clA sh ex A ad S t.heap; rw [ht]; exact hP)⟩, hS.F ht⟩) hS.2.2 hdg X.hlk
theorem gr_lR (X : CX own cc nL (some .long) (KA D dA) p s m args meth c A) (hP : Wd D clA sh ex A ad S H) (hS : va_S A s.heap H locs) {v res : Int64} (hf : v = res) (hdg : decode cc pc = .ok (.lreturn, 1)) : W p l e R s m args below meth c H locs 0 0 (MQ below (QjR D sh ex A ad S res) args s 0 0 A) (F0 m pc ls [.long v]) := by
  subst hf
  exact W.lret X.hx X.hb X.hr (fun t ht hW => ⟨⟨_, S, rfl, ⟨rfl, rfl⟩, (by show Wd D clA sh ex A ad S t.heap; rw [ht]; exact hP)⟩, hS.F ht⟩) hS.2.2 hdg X.hlk
theorem gr_lW (X : CX own cc nL (some .long) (KA D dA) p s m args meth c A) (hP : Wd D clA sh ex A ad S H) (hS : va_S A s.heap H locs) {v : Int64} {res : Mem × Int64} (hf : (S, v) = res) (hdg : decode cc pc = .ok (.lreturn, 1)) : W p l e R s m args below meth c H locs 0 0 (MQ below (QjW D sh ex A ad res) args s 0 0 A) (F0 m pc ls [.long v]) := by
  subst hf
  exact W.lret X.hx X.hb X.hr (fun t ht hW => ⟨⟨_, S, rfl, rfl, (by show Wd D clA sh ex A ad S t.heap; rw [ht]; exact hP)⟩, hS.F ht⟩) hS.2.2 hdg X.hlk
theorem gr_vW (X : CX own cc nL none (KA D dA) p s m args meth c A) (hP : Wd D clA sh ex A ad S H) (hS : va_S A s.heap H locs) {res : Mem} (hf : S = res) (hdg : decode cc pc = .ok (.return_, 1)) : W p l e R s m args below meth c H locs 0 0 (MQ below (QvW D sh ex A ad res) args s 0 0 A) (F0 m pc ls []) := by
  subst hf
  exact W.vret X.hx X.hb X.hr (fun t ht hW => ⟨⟨S, rfl, rfl, (by show Wd D clA sh ex A ad S t.heap; rw [ht]; exact hP)⟩, hS.F ht⟩) hS.2.2 hdg X.hlk
end GRET
