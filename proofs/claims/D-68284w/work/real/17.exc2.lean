set_option maxRecDepth 100000
/-! THE THREE THROWS: need, ready, there -/
def exN (c : Nat) : String := if c = 1 then "java/lang/IllegalArgumentException" else if c = 2 then "java/lang/IllegalStateException" else "java/util/NoSuchElementException"
def Exc (t : State) (x : Addr) (cd : Nat) : Prop := ∃ ce : Cell, t.heap[x]? = some ce ∧ ce.vm.isStatics = false ∧ t.vm.findClass (exN cd) = some ce.cls
/-- a static that holds a reference or null, in a cell that nobody writes -/
def ZS (C n d : String) (A : Nat → Prop) (U : State) (H : Heap) : Prop := ∃ (c : ClassId) (k : Class) (i : Nat) (f : Field) (a : Nat) (cell : Cell) (v : Value), U.vm.findClass C = some c ∧ U.fieldFound? C n d = some (c, k, i, f) ∧ f.isStatic = true ∧ k.statics = some a ∧ H[a]? = some cell ∧ cell.vm.isStatics = true ∧ cell.cls = c ∧ f.slot < cell.slots.size ∧ k.staticTypes[f.slot]? = some f.type ∧ cell.slots[f.slot]? = some v ∧ (v = .null ∨ ∃ t, v = .ref t) ∧ ¬ A a
theorem ZS.moved {C n d : String} {A : Nat → Prop} {u U : State} {H : Heap} (hvm : u.vm.Alike U.vm) (h : ZS C n d A u H) : ZS C n d A U H := by
  obtain ⟨c, k, i, f, a, cell, v, h1, h2, h3, h4, h5, h6, h7, h8, h9, h10⟩ := h
  obtain ⟨k', hi', he⟩ := State.fieldFound?_setVm hvm h2
  exact ⟨c, k', i, f, a, cell, v, by rw [hvm.findClass]; exact h1, hi', h3, by rw [he]; exact h4, h5, h6, h7, h8, by rw [he]; exact h9, h10⟩
theorem ZS.kept {C n d : String} {A : Nat → Prop} {U : State} {H H1 : Heap} (h : ZS C n d A U H) (hq : ∀ a : Nat, a < H.size → ¬ A a → H1[a]? = H[a]?) : ZS C n d A U H1 := by
  obtain ⟨c, k, i, f, a, cell, v, h1, h2, h3, h4, h5, h6, h7, h8, h9, h10, h11, h12⟩ := h
  exact ⟨c, k, i, f, a, cell, v, h1, h2, h3, h4, by rw [hq a (Array.getElem?_eq_some_iff.mp h5).1 h12]; exact h5, h6, h7, h8, h9, h10, h11, h12⟩
theorem ZS.lays {C n d : String} {A : Nat → Prop} {s : State} {args : Array Value} (h : ZS C n d A s s.heap) : (Cond.laysStatic C n d).before args s = true := by
  obtain ⟨c, k, i, f, a, cell, v, h1, h2, h3, h4, h5, h6, h7, h8, h9, h10⟩ := h
  exact Cond.laysStatic_of h1 h2 h3 h4 h5 h6 h7 h8 h9
theorem ZS.isRef {C n d : String} {A : Nat → Prop} {s : State} {args : Array Value} (h : ZS C n d A s s.heap) : (Cond.isRef (.static C n d)).before args s = true := by
  obtain ⟨c, k, i, f, a, cell, v, h1, h2, h3, h4, h5, h6, h7, h8, h9, h10, h11, h12⟩ := h
  have e : (Term.static C n d).eval args s none [] s = some v := by
    have hn : s.fieldNamed? C n d true = some (c, k, f.slot) := by
      simp [State.fieldNamed?, h2, h3]
    simp [Term.eval, hn, h4, h5, h6, h10]
  rcases h11 with rfl | ⟨t, rfl⟩
  · simp [Cond.before, Cond.holds, Cond.value, e]
  · simp [Cond.before, Cond.holds, Cond.value, e]
theorem ZS.of {C n d : String} {A : Nat → Prop} {s : State} {args : Array Value} (hl : (Cond.laysStatic C n d).before args s = true) (h : (Cond.isRef (.static C n d)).before args s = true) (hA : ∀ a : Nat, a < s.heap.size → ¬ A a) : ZS C n d A s s.heap := by
  obtain ⟨c, k, i, f, a, cell, hc, hi, hst, ha, hcell, hs, hcls, hlt, hty⟩ := Cond.laysStatic_spec hl
  cases hv : (Term.static C n d).eval args s none [] s with
  | none => simp [Cond.before, Cond.holds, Cond.value, hv] at h
  | some w =>
    obtain ⟨hst', a', cell', ha', hcell', -, hslot⟩ := Term.static_spec hi hv
    cases ha.symm.trans ha'
    cases hcell.symm.trans hcell'
    refine ⟨c, k, i, f, a, cell, w, hc, hi, hst, ha, hcell, hs, hcls, hlt, hty, hslot, ?_, hA a (Array.getElem?_eq_some_iff.mp hcell).1⟩
    simp only [Cond.before, Cond.holds, Cond.value, hv] at h
    cases w with
    | null => exact Or.inl rfl
    | ref t => exact Or.inr ⟨t, rfl⟩
    | _ => simp at h
/-- Throwable's two statics -/
def ZT (A : Nat → Prop) (U : State) (H : Heap) : Prop := ZS "java/lang/Throwable" "UNASSIGNED_STACK" "[Ljava/lang/StackTraceElement;" A U H ∧ ZS "java/lang/Throwable" "SUPPRESSED_SENTINEL" "Ljava/util/List;" A U H
theorem ZT.moved {A : Nat → Prop} {u U : State} {H : Heap} (hvm : u.vm.Alike U.vm) (h : ZT A u H) : ZT A U H := ⟨h.1.moved hvm, h.2.moved hvm⟩
theorem ZT.kept {A : Nat → Prop} {U : State} {H H1 : Heap} (h : ZT A U H) (hq : ∀ a : Nat, a < H.size → ¬ A a → H1[a]? = H[a]?) : ZT A U H1 := ⟨h.1.kept hq, h.2.kept hq⟩
theorem at_throwable {s : State} {args : Array Value} (h1 : ∀ w ∈ lw_all, w.before args s = true) (h2 : NW s) {A : Nat → Prop} (h3 : ZT A s s.heap) : ∀ a ∈ Bundle.throwableAtoms, a.before args s = true :=
  List.forall_mem_cons.mpr ⟨(h1 _ q94), List.forall_mem_cons.mpr ⟨(h1 _ q428), List.forall_mem_cons.mpr ⟨(h1 _ q437), List.forall_mem_cons.mpr ⟨(h1 _ q441), List.forall_mem_cons.mpr ⟨(h1 _ q444), List.forall_mem_cons.mpr ⟨(h1 _ q446), List.forall_mem_cons.mpr ⟨(h1 _ q429), List.forall_mem_cons.mpr ⟨(h1 _ q430), List.forall_mem_cons.mpr ⟨(h1 _ q111), List.forall_mem_cons.mpr ⟨(h1 _ q112), List.forall_mem_cons.mpr ⟨(h1 _ q431), List.forall_mem_cons.mpr ⟨(h1 _ q436), List.forall_mem_cons.mpr ⟨(h1 _ q442), List.forall_mem_cons.mpr ⟨(h1 _ q458), List.forall_mem_cons.mpr ⟨(h1 _ q418), List.forall_mem_cons.mpr ⟨(h1 _ q459), List.forall_mem_cons.mpr ⟨(h1 _ q420), List.forall_mem_cons.mpr ⟨(h1 _ q460), List.forall_mem_cons.mpr ⟨(h1 _ q422), List.forall_mem_cons.mpr ⟨(h1 _ q432), List.forall_mem_cons.mpr ⟨h3.1.lays, List.forall_mem_cons.mpr ⟨(h1 _ q434), List.forall_mem_cons.mpr ⟨h3.2.lays, List.forall_mem_cons.mpr ⟨(h1 _ q424), fun _ h => absurd h List.not_mem_nil⟩⟩⟩⟩⟩⟩⟩⟩⟩⟩⟩⟩⟩⟩⟩⟩⟩⟩⟩⟩⟩⟩⟩⟩
theorem at_1 {s : State} {args : Array Value} (h1 : ∀ w ∈ lw_all, w.before args s = true) (h2 : NW s) {A : Nat → Prop} (h3 : ZT A s s.heap) : ∀ a ∈ Bundle.ownAtoms0 "StreamHall" 52 "java/lang/IllegalArgumentException" ["java/lang/RuntimeException", "java/lang/Exception"], a.before args s = true :=
  List.forall_mem_append.mpr ⟨List.forall_mem_append.mpr ⟨at_throwable h1 h2 h3, List.forall_mem_append.mpr ⟨List.forall_mem_cons.mpr ⟨(h1 _ q448), List.forall_mem_cons.mpr ⟨(h1 _ q449), List.forall_mem_cons.mpr ⟨(h1 _ q450), List.forall_mem_cons.mpr ⟨(h1 _ q451), List.forall_mem_cons.mpr ⟨(NW.use h2 q409 rfl), fun _ h => absurd h List.not_mem_nil⟩⟩⟩⟩⟩, List.forall_mem_append.mpr ⟨List.forall_mem_cons.mpr ⟨(h1 _ q451), List.forall_mem_cons.mpr ⟨(h1 _ q452), List.forall_mem_cons.mpr ⟨(h1 _ q453), List.forall_mem_cons.mpr ⟨(h1 _ q454), List.forall_mem_cons.mpr ⟨(NW.use h2 q411 rfl), fun _ h => absurd h List.not_mem_nil⟩⟩⟩⟩⟩, List.forall_mem_cons.mpr ⟨(h1 _ q454), List.forall_mem_cons.mpr ⟨(h1 _ q455), List.forall_mem_cons.mpr ⟨(h1 _ q456), List.forall_mem_cons.mpr ⟨(h1 _ q429), List.forall_mem_cons.mpr ⟨(NW.use h2 q413 rfl), fun _ h => absurd h List.not_mem_nil⟩⟩⟩⟩⟩⟩⟩⟩, List.forall_mem_cons.mpr ⟨(h1 _ q447), List.forall_mem_cons.mpr ⟨(h1 _ q407), List.forall_mem_cons.mpr ⟨(NW.use h2 q408 rfl), List.forall_mem_cons.mpr ⟨(h1 _ q415), List.forall_mem_cons.mpr ⟨(h1 _ q416), List.forall_mem_cons.mpr ⟨(h1 _ q417), List.forall_mem_cons.mpr ⟨(h1 _ q419), List.forall_mem_cons.mpr ⟨(h1 _ q421), List.forall_mem_cons.mpr ⟨(h1 _ q423), List.forall_mem_cons.mpr ⟨h3.1.isRef, List.forall_mem_cons.mpr ⟨h3.2.isRef, List.forall_mem_cons.mpr ⟨(h1 _ q457), List.forall_mem_cons.mpr ⟨(h1 _ q426), List.forall_mem_cons.mpr ⟨(h1 _ q425), fun _ h => absurd h List.not_mem_nil⟩⟩⟩⟩⟩⟩⟩⟩⟩⟩⟩⟩⟩⟩⟩
theorem at_2 {s : State} {args : Array Value} (h1 : ∀ w ∈ lw_all, w.before args s = true) (h2 : NW s) {A : Nat → Prop} (h3 : ZT A s s.heap) : ∀ a ∈ Bundle.ownAtoms0 "StreamHall" 55 "java/lang/IllegalStateException" ["java/lang/RuntimeException", "java/lang/Exception"], a.before args s = true :=
  List.forall_mem_append.mpr ⟨List.forall_mem_append.mpr ⟨at_throwable h1 h2 h3, List.forall_mem_append.mpr ⟨List.forall_mem_cons.mpr ⟨(h1 _ q482), List.forall_mem_cons.mpr ⟨(h1 _ q483), List.forall_mem_cons.mpr ⟨(h1 _ q484), List.forall_mem_cons.mpr ⟨(h1 _ q451), List.forall_mem_cons.mpr ⟨(NW.use h2 q409 rfl), fun _ h => absurd h List.not_mem_nil⟩⟩⟩⟩⟩, List.forall_mem_append.mpr ⟨List.forall_mem_cons.mpr ⟨(h1 _ q451), List.forall_mem_cons.mpr ⟨(h1 _ q452), List.forall_mem_cons.mpr ⟨(h1 _ q453), List.forall_mem_cons.mpr ⟨(h1 _ q454), List.forall_mem_cons.mpr ⟨(NW.use h2 q411 rfl), fun _ h => absurd h List.not_mem_nil⟩⟩⟩⟩⟩, List.forall_mem_cons.mpr ⟨(h1 _ q454), List.forall_mem_cons.mpr ⟨(h1 _ q455), List.forall_mem_cons.mpr ⟨(h1 _ q456), List.forall_mem_cons.mpr ⟨(h1 _ q429), List.forall_mem_cons.mpr ⟨(NW.use h2 q413 rfl), fun _ h => absurd h List.not_mem_nil⟩⟩⟩⟩⟩⟩⟩⟩, List.forall_mem_cons.mpr ⟨(h1 _ q481), List.forall_mem_cons.mpr ⟨(h1 _ q473), List.forall_mem_cons.mpr ⟨(NW.use h2 q474 rfl), List.forall_mem_cons.mpr ⟨(h1 _ q475), List.forall_mem_cons.mpr ⟨(h1 _ q439), List.forall_mem_cons.mpr ⟨(h1 _ q476), List.forall_mem_cons.mpr ⟨(h1 _ q477), List.forall_mem_cons.mpr ⟨(h1 _ q478), List.forall_mem_cons.mpr ⟨(h1 _ q479), List.forall_mem_cons.mpr ⟨h3.1.isRef, List.forall_mem_cons.mpr ⟨h3.2.isRef, List.forall_mem_cons.mpr ⟨(h1 _ q457), List.forall_mem_cons.mpr ⟨(h1 _ q426), List.forall_mem_cons.mpr ⟨(h1 _ q480), fun _ h => absurd h List.not_mem_nil⟩⟩⟩⟩⟩⟩⟩⟩⟩⟩⟩⟩⟩⟩⟩
theorem at_3 {s : State} {args : Array Value} (h1 : ∀ w ∈ lw_all, w.before args s = true) (h2 : NW s) {A : Nat → Prop} (h3 : ZT A s s.heap) : ∀ a ∈ Bundle.ownAtoms0 "StreamHall" 58 "java/util/NoSuchElementException" ["java/lang/RuntimeException", "java/lang/Exception"], a.before args s = true :=
  List.forall_mem_append.mpr ⟨List.forall_mem_append.mpr ⟨at_throwable h1 h2 h3, List.forall_mem_append.mpr ⟨List.forall_mem_cons.mpr ⟨(h1 _ q897), List.forall_mem_cons.mpr ⟨(h1 _ q898), List.forall_mem_cons.mpr ⟨(h1 _ q899), List.forall_mem_cons.mpr ⟨(h1 _ q451), List.forall_mem_cons.mpr ⟨(NW.use h2 q409 rfl), fun _ h => absurd h List.not_mem_nil⟩⟩⟩⟩⟩, List.forall_mem_append.mpr ⟨List.forall_mem_cons.mpr ⟨(h1 _ q451), List.forall_mem_cons.mpr ⟨(h1 _ q452), List.forall_mem_cons.mpr ⟨(h1 _ q453), List.forall_mem_cons.mpr ⟨(h1 _ q454), List.forall_mem_cons.mpr ⟨(NW.use h2 q411 rfl), fun _ h => absurd h List.not_mem_nil⟩⟩⟩⟩⟩, List.forall_mem_cons.mpr ⟨(h1 _ q454), List.forall_mem_cons.mpr ⟨(h1 _ q455), List.forall_mem_cons.mpr ⟨(h1 _ q456), List.forall_mem_cons.mpr ⟨(h1 _ q429), List.forall_mem_cons.mpr ⟨(NW.use h2 q413 rfl), fun _ h => absurd h List.not_mem_nil⟩⟩⟩⟩⟩⟩⟩⟩, List.forall_mem_cons.mpr ⟨(h1 _ q896), List.forall_mem_cons.mpr ⟨(h1 _ q888), List.forall_mem_cons.mpr ⟨(NW.use h2 q889 rfl), List.forall_mem_cons.mpr ⟨(h1 _ q890), List.forall_mem_cons.mpr ⟨(h1 _ q440), List.forall_mem_cons.mpr ⟨(h1 _ q891), List.forall_mem_cons.mpr ⟨(h1 _ q892), List.forall_mem_cons.mpr ⟨(h1 _ q893), List.forall_mem_cons.mpr ⟨(h1 _ q894), List.forall_mem_cons.mpr ⟨h3.1.isRef, List.forall_mem_cons.mpr ⟨h3.2.isRef, List.forall_mem_cons.mpr ⟨(h1 _ q457), List.forall_mem_cons.mpr ⟨(h1 _ q426), List.forall_mem_cons.mpr ⟨(h1 _ q895), fun _ h => absurd h List.not_mem_nil⟩⟩⟩⟩⟩⟩⟩⟩⟩⟩⟩⟩⟩⟩⟩
section XT
variable {p : Program} {l : Launch} {e : Env} {R : Room} {s : State} {m : MethodId} {args : Array Value} {below : List Frame} {meth : Method} {c : Code} {A : Nat → Prop} {cc : ByteArray} {nL pc : Nat} {ls : Array Slot} {ret : Option FieldType} {D : va_G} {dA : Nat → ClassId}
theorem wx_throw0 (X : CX RX1 cc nL ret (KA D dA) p s m args meth c A) (hfl : l.flags = flags0) (hex : c.exceptionTable.isEmpty = true) {cls : String} {cd ic inew : Nat} (hcd : exN cd = cls) (hfit : Bundle.fit cls = true)
    (hat : ∀ a ∈ Bundle.ownAtoms0 "StreamHall" ic cls ["java/lang/RuntimeException", "java/lang/Exception"], a.before args s = true) (hclink : (Cond.classLink RX1 inew cls).before args s = true) (hins : (Cond.instantiable cls 6).before args s = true) (hini : (Cond.initialized cls).before args s = true) (hsz : ls.size = nL)
    (hcells : 1 ≤ R.cells) (hslots : 6 ≤ R.slots) (hRf : 6 ≤ R.frames) (hRl : 90 ≤ R.locals) (d0 : decode cc pc = .ok (.new inew, 3)) (d3 : decode cc (pc + 3) = .ok (.dup, 1)) (d4 : decode cc (pc + 4) = .ok (.invokespecial ic, 3)) (d7 : decode cc (pc + 7) = .ok (.athrow, 1))
    {Qx : Array Value → State → Outcome → State → Prop} (hq : ∀ (t : State) (x : Addr), (∀ q : Nat, q < s.heap.size → t.heap[q]? = s.heap[q]?) → s.heap.size ≤ t.heap.size → s.WarmedH t.vm → Exc t x cd → Qx args s (.threw x) t) :
    W p l e R s m args below meth c s.heap [] 0 0 (MQX below Qx args s 1 6 A) (F0 m pc ls []) := by
  obtain ⟨cX, kX', hfc, hkX', -, -⟩ := Cond.instantiable_spec hins
  refine W.newcK X.hx X.hb X.hown hclink hins hini rfl d0 (by omega) (by omega) hfc rfl fun H1 kX hkX e1 z1 o1 => ?_
  refine W.eq (g2 := F0 m (pc + 3) ls [.ref s.heap.size]) rfl ?_
  refine lv_dup X.hx X.hb d3 rfl ?_
  intro T hT X'
  have htr : e.platform.stackTraces = false := by
    have h1 : e.platform.stackTraces = l.stackTraces := by rw [X'.admits.platform]
    rw [h1]
    unfold Launch.stackTraces
    rw [hfl]
    decide +kernel
  obtain ⟨U, hst, hrun, hend, hW, hsame, ce, hce, hown⟩ := X'.ctorThrow0 X.hx htr (own := "StreamHall") (cls := cls) (names := ["java/lang/RuntimeException", "java/lang/Exception"]) (ic := ic) X.hown hfit (by decide +kernel) hat (fun x h => by cases h)
    (a := s.heap.size) hfc hkX (by rw [hT]; exact e1) (Nat.le_refl _) (g := F0 m (pc + 4) ls [.ref s.heap.size, .ref s.heap.size]) rfl (hsz.trans X.hml.symm) rfl rfl (rest := []) rfl (by rw [X.hb]; exact d4) (by rw [X.hb]; exact d7)
    (fun z hz => by
      have : c.exceptionTable = #[] := Array.isEmpty_iff.mp hex
      rw [this] at hz
      cases hz) (by show 2 + 3 < R.frames; omega) (by show 2 * 0 + 1 + (13 * 3 + 41) ≤ R.locals; omega) X.hlk
  have hkeep : ∀ q : Nat, q < s.heap.size → U.heap[q]? = s.heap[q]? := fun q hq => by
    have h1 : s.heap[q]? = some s.heap[q] := Array.getElem?_eq_getElem hq
    rw [h1]
    exact kept_of_same (keep := fun _ => True) hsame (fun _ h => by cases h) q _ trivial h1
  have hle : s.heap.size ≤ U.heap.size := by
    rcases Nat.lt_or_ge U.heap.size s.heap.size with h | h
    · have h1 := hkeep U.heap.size h
      rw [Array.getElem?_eq_none (Nat.le_refl _), Array.getElem?_eq_getElem h] at h1
      cases h1
    · exact h
  refine ⟨U, hst, .threw s.heap.size, hrun, hend, hq U _ hkeep hle hW ⟨ce, hce, by rw [hown.vm]; rfl, ?_⟩, [], ⟨hW, hsame⟩, fun _ h => by cases h⟩
  rw [hcd, ← hown.cls]
  exact hW.alike.findClass _ _
end XT

