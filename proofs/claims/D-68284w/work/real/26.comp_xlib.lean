/-! METHODS THAT MAY THROW, over a world of roles -/
def PreX (D : va_G) (dA : Nat → ClassId) (sh : Shp) (ex : Mem → L3 → Prop) (A : Nat → Prop) (ad : L3 → Nat) (S : Mem) (U : State) : Prop := PreW D dA sh ex A ad S U ∧ ZT A U U.heap
theorem PreX.blind {D : va_G} {dA : Nat → ClassId} {sh : Shp} {ex : Mem → L3 → Prop} {A : Nat → Prop} {ad : L3 → Nat} {S : Mem} {As : List Value} : FrameBlind (va_Pc As (PreX D dA sh ex A ad S)) :=
  fun a U g mk h => ⟨h.1, ⟨h.2.1.1, h.2.1.2.1, KA.same (s := U) (U := U.calling g mk a) rfl h.2.1.2.2⟩, ZT.moved (u := U) (U := U.calling g mk a) (Vm.Alike.refl U.vm) h.2.2⟩
theorem PreX.pre {D : va_G} {dA : Nat → ClassId} {sh : Shp} {ex : Mem → L3 → Prop} {A : Nat → Prop} {ad : L3 → Nat} {S : Mem} {As : List Value} {s : State} {H : Heap} {locs : List Loc} (hA : ∀ q, s.heap.size ≤ q → A q) (hK : KA D dA s) (hP : Wd D clA sh ex A ad S H) (hS : va_S A s.heap H locs) (hZ : ZT A s s.heap) : PreS s H (va_Pc As (PreX D dA sh ex A ad S)) As :=
  ⟨PreX.blind, fun U hU hW => ⟨rfl, ((PreW.pre (As := As) hA hK hP hS).2 U hU hW).2, by rw [hU]; exact (hZ.kept (fun a h1 h2 => hS.2.1 a h1 h2)).moved hW.alike⟩⟩
def QX (D : va_G) (sh : Shp) (ex : Mem → L3 → Prop) (A : Nat → Prop) (ad : L3 → Nat) (ok : Option Value → Mem → Prop) (bad : Nat → Mem → Prop) : Array Value → State → Outcome → State → Prop := fun _ st oc t =>
  ((∃ (v : Option Value) (u : Mem), oc = .returned v ∧ ok v u ∧ Wd D clA sh ex A ad u t.heap) ∨ (∃ (x : Addr) (cd : Nat) (u : Mem), oc = .threw x ∧ bad cd u ∧ Wd D clA sh ex A ad u t.heap ∧ Exc t x cd)) ∧ va_F A st t
theorem Exc.moved {t t2 : State} {s : State} {x : Addr} {cd : Nat} (h : Exc t x cd) (h1 : s.WarmedH t.vm) (h2 : s.WarmedH t2.vm) (hh : t2.heap = t.heap) : Exc t2 x cd := by
  obtain ⟨ce, a, b, d⟩ := h
  exact ⟨ce, by rw [hh]; exact a, b, by rw [h2.alike.findClass, ← h1.alike.findClass]; exact d⟩
def gX {α β : Type} (x : Nat ⊕ α) (k : α → Option (Nat ⊕ β)) : Option (Nat ⊕ β) := match x with
  | .inl c => some (.inl c)
  | .inr v => k v
theorem gX_inr {α β : Type} {v : α} {k : α → Option (Nat ⊕ β)} {r : Option (Nat ⊕ β)} (h : gX (.inr v) k = r) : k v = r := h
theorem gX_inl {α β : Type} {c : Nat} {k : α → Option (Nat ⊕ β)} {r : Nat ⊕ β} (h : gX (.inl c) k = some r) : r = .inl c := (Option.some.inj h).symm
section XW
variable {p : Program} {l : Launch} {e : Env} {R : Room} {s : State} {m : MethodId} {args : Array Value} {below : List Frame} {meth : Method} {c : Code} {H : Heap} {locs : List Loc} {cells slots mc ms : Nat} {Q : State → Prop} {cc bytes : ByteArray} {pc nL n index maxL : Nat} {own C : String} {ret rt : Option FieldType} {ls : Array Slot} {st rest As : List Value} {D : va_G} {dA : Nat → ClassId} {A : Nat → Prop} {sh : Shp} {ex : Mem → L3 → Prop} {ad : L3 → Nat} {S : Mem} {y : MethodName} {rm : Room} {b : Nat} {ok : Option Value → Mem → Prop} {bad : Nat → Mem → Prop}
theorem QX.F {a : Array Value} {st : State} {o : Outcome} {t : State} (h : QX D sh ex A ad ok bad a st o t) : va_F A st t := h.2
theorem xr_i (X : CX own cc nL (some .int) (KA D dA) p s m args meth c A) (hP : Wd D clA sh ex A ad S H) (hS : va_S A s.heap H locs) {v : Int32} (hok : ok (some (.int v)) S) (hc : cells ≤ mc) (hs : slots ≤ ms) (hdg : decode cc pc = .ok (.ireturn, 1)) : W p l e R s m args below meth c H locs cells slots (MQX below (QX D sh ex A ad ok bad) args s mc ms A) (F0 m pc ls [.int v]) :=
  W.widen hc hs (W.mono (fun _ h => MQ.toX h) (W.iret X.hx X.hb X.hr (fun t ht _ => ⟨Or.inl ⟨_, S, rfl, hok, by rw [ht]; exact hP⟩, hS.F ht⟩) hS.2.2 hdg X.hlk))
theorem xr_z (X : CX own cc nL (some .boolean) (KA D dA) p s m args meth c A) (hP : Wd D clA sh ex A ad S H) (hS : va_S A s.heap H locs) {v : Int32} (hn : vp_nar .boolean v = v) (hok : ok (some (.int v)) S) (hc : cells ≤ mc) (hs : slots ≤ ms) (hdg : decode cc pc = .ok (.ireturn, 1)) : W p l e R s m args below meth c H locs cells slots (MQX below (QX D sh ex A ad ok bad) args s mc ms A) (F0 m pc ls [.int v]) :=
  W.widen hc hs (W.mono (fun _ h => MQ.toX h) (W.zret X.hx X.hb X.hr (nar_z hn).1 (fun t ht _ => ⟨Or.inl ⟨_, S, rfl, hok, by rw [ht]; exact hP⟩, hS.F ht⟩) hS.2.2 hdg X.hlk))
theorem xr_l (X : CX own cc nL (some .long) (KA D dA) p s m args meth c A) (hP : Wd D clA sh ex A ad S H) (hS : va_S A s.heap H locs) {v : Int64} (hok : ok (some (.long v)) S) (hc : cells ≤ mc) (hs : slots ≤ ms) (hdg : decode cc pc = .ok (.lreturn, 1)) : W p l e R s m args below meth c H locs cells slots (MQX below (QX D sh ex A ad ok bad) args s mc ms A) (F0 m pc ls [.long v]) :=
  W.widen hc hs (W.mono (fun _ h => MQ.toX h) (W.lret X.hx X.hb X.hr (fun t ht _ => ⟨Or.inl ⟨_, S, rfl, hok, by rw [ht]; exact hP⟩, hS.F ht⟩) hS.2.2 hdg X.hlk))
theorem xr_v (X : CX own cc nL none (KA D dA) p s m args meth c A) (hP : Wd D clA sh ex A ad S H) (hS : va_S A s.heap H locs) (hok : ok none S) (hc : cells ≤ mc) (hs : slots ≤ ms) (hdg : decode cc pc = .ok (.return_, 1)) : W p l e R s m args below meth c H locs cells slots (MQX below (QX D sh ex A ad ok bad) args s mc ms A) (F0 m pc ls []) :=
  W.widen hc hs (W.mono (fun _ h => MQ.toX h) (W.vret X.hx X.hb X.hr (fun t ht _ => ⟨Or.inl ⟨_, S, rfl, hok, by rw [ht]; exact hP⟩, hS.F ht⟩) hS.2.2 hdg X.hlk))
theorem xr_q {Cn : String} (X : CX own cc nL (some (.object Cn)) (KA D dA) p s m args meth c A) (hP : Wd D clA sh ex A ad S H) (hS : va_S A s.heap H locs) {a : Nat} (hok : ok (some (.ref a)) S) (hc : cells ≤ mc) (hs : slots ≤ ms) (hdg : decode cc pc = .ok (.areturn, 1)) : W p l e R s m args below meth c H locs cells slots (MQX below (QX D sh ex A ad ok bad) args s mc ms A) (F0 m pc ls [.ref a]) :=
  W.widen hc hs (W.mono (fun _ h => MQ.toX h) (W.aret X.hx X.hb X.hr (Or.inl ⟨_, rfl⟩) (Or.inr ⟨a, rfl⟩) (fun t ht _ => ⟨Or.inl ⟨_, S, rfl, hok, by rw [ht]; exact hP⟩, hS.F ht⟩) hS.2.2 hdg X.hlk))
theorem xt_leave (X : CX own cc nL ret (KA D dA) p s m args meth c A) (hex : c.exceptionTable.isEmpty = true) {t : State} {x : Addr} {cd : Nat} (ht : t.heap = H) (hw : s.WarmedH t.vm) (hP : Wd D clA sh ex A ad S H) (hE : Exc t x cd) (hS : va_S A s.heap H locs) (hbad : bad cd S) (hc : cells ≤ mc) (hs : slots ≤ ms) : WT p l e R s m args below meth c H locs cells slots (MQX below (QX D sh ex A ad ok bad) args s mc ms A) x (F0 m pc ls rest) := by
  intro T hT X'
  exact (WT.leave (cells := mc) (slots := ms) X.hlk hex hS (fun t2 h2 hw2 => ⟨Or.inr ⟨x, cd, S, rfl, hbad, by rw [h2]; exact hP, hE.moved hw hw2 (h2.trans ht.symm)⟩, hS.F h2⟩)) T hT (X'.more hc hs)
variable {okc : Option Value → Mem → Prop} {badc : Nat → Mem → Prop}
theorem xc_V (X : CX own cc nL ret (KA D dA) p s m args meth c A) (hZ : ZT A s s.heap) (hM : MetX l y (ws_ y bytes maxL rt) rm (va_Pc (Value.ref b :: As) (PreX D dA sh ex A ad S)) (QX D sh ex A ad okc badc) mc ms A) (good : GoodIn lw_all (wsV own index C y (ws_ y bytes maxL rt))) (hrm : rm.cells = mc ∧ rm.slots = ms) (hd : y.cls = C ∧ y.cls ≠ "java/lang/invoke/MethodHandle" ∧ y.cls ≠ "java/lang/invoke/VarHandle" ∧ (parseMethodDescriptor y.desc).map (fun d => d.parameters.length) = some n) (hR : rm.frames + 1 ≤ R.frames ∧ 8 + (maxL + 11) + rm.locals ≤ R.locals) (hrecv : ∃ cell : Cell, H[b]? = some cell ∧ cell.vm.isStatics = false ∧ s.vm.findClass C = some cell.cls) (hP : Wd D clA sh ex A ad S H) (hS : va_S A s.heap H locs) (hcs : cells + mc ≤ R.cells ∧ slots + ms ≤ R.slots) (hn : As.length = n) (hsz : ls.size = nL) (hst : st = As.reverse ++ .ref b :: rest) (hcat : (rest.map fun v => v.category).sum ≤ 8) (hdg : decode cc pc = .ok (.invokevirtual index, 3))
    (kr : ∀ (v : Option Value) (u : Mem) (H1 : Heap) (locs1 : List Loc), okc v u → Wd D clA sh ex A ad u H1 → va_S A s.heap H1 locs1 → W p l e R s m args below meth c H1 locs1 (cells + mc) (slots + ms) Q (F0 m (pc + 3) ls (v.toList ++ rest)))
    (kt : ∀ (x : Addr) (cd : Nat) (u : Mem) (t : State) (H1 : Heap) (locs1 : List Loc), badc cd u → t.heap = H1 → s.WarmedH t.vm → Wd D clA sh ex A ad u H1 → Exc t x cd → va_S A s.heap H1 locs1 → WT p l e R s m args below meth c H1 locs1 (cells + mc) (slots + ms) Q x (F0 m pc ls rest)) : W p l e R s m args below meth c H locs cells slots Q (F0 m pc ls st) := by
  obtain ⟨hx, hb, hml, hr, hlk, hown, hts, hK, hA⟩ := X
  have hp := PreX.pre (As := Value.ref b :: As) hA hK hP hS hZ
  refine wx_V (As := As) (rest := rest) ⟨hx, hb, hml, hown, hts⟩ hM (cwV n hts good rfl hrm.1 hrm.2 hd hR) ⟨hp.1, hrecv, hp.2⟩ (fun _ _ _ _ h => h.2) hS hn hsz hst hcat hdg hcs ?_ ?_
  · rintro v st0 t H1 locs1 ht hw ⟨h, -⟩ hS1
    rcases h with ⟨v', u, hv, hok, hW⟩ | ⟨x, cd, u, hv, -⟩
    · cases hv
      exact kr v u H1 locs1 hok (by rw [← ht]; exact hW) hS1
    · cases hv
  · rintro x st0 t H1 locs1 ht hw ⟨h, -⟩ hS1
    rcases h with ⟨v', u, hv, -⟩ | ⟨x', cd, u, hv, hbd, hW, hE⟩
    · cases hv
    · cases hv
      exact kt x cd u t H1 locs1 hbd ht hw (by rw [← ht]; exact hW) hE hS1
theorem xc_S (X : CX own cc nL ret (KA D dA) p s m args meth c A) (hZ : ZT A s s.heap) (hM : MetX l y (ws_ y bytes maxL rt) rm (va_Pc As (PreX D dA sh ex A ad S)) (QX D sh ex A ad okc badc) mc ms A) (good : GoodIn lw_all (va_wsS own index y (ws_ y bytes maxL rt))) (hrm : rm.cells = mc ∧ rm.slots = ms) (hd : y.cls ≠ "java/lang/invoke/MethodHandle" ∧ y.cls ≠ "java/lang/invoke/VarHandle" ∧ (parseMethodDescriptor y.desc).map (fun d => d.parameters.length) = some n) (hR : rm.frames + 1 ≤ R.frames ∧ 8 + (maxL + 11) + rm.locals ≤ R.locals) (hP : Wd D clA sh ex A ad S H) (hS : va_S A s.heap H locs) (hcs : cells + mc ≤ R.cells ∧ slots + ms ≤ R.slots) (hn : As.length = n) (hsz : ls.size = nL) (hst : st = As.reverse ++ rest) (hcat : (rest.map fun v => v.category).sum ≤ 8) (hdg : decode cc pc = .ok (.invokestatic index, 3))
    (kr : ∀ (v : Option Value) (u : Mem) (H1 : Heap) (locs1 : List Loc), okc v u → Wd D clA sh ex A ad u H1 → va_S A s.heap H1 locs1 → W p l e R s m args below meth c H1 locs1 (cells + mc) (slots + ms) Q (F0 m (pc + 3) ls (v.toList ++ rest)))
    (kt : ∀ (x : Addr) (cd : Nat) (u : Mem) (t : State) (H1 : Heap) (locs1 : List Loc), badc cd u → t.heap = H1 → s.WarmedH t.vm → Wd D clA sh ex A ad u H1 → Exc t x cd → va_S A s.heap H1 locs1 → WT p l e R s m args below meth c H1 locs1 (cells + mc) (slots + ms) Q x (F0 m pc ls rest)) : W p l e R s m args below meth c H locs cells slots Q (F0 m pc ls st) := by
  obtain ⟨hx, hb, hml, hr, hlk, hown, hts, hK, hA⟩ := X
  have hp := PreX.pre (As := As) hA hK hP hS hZ
  refine wx_S (As := As) (rest := rest) ⟨hx, hb, hml, hown, hts⟩ hM (va_cwS n hts good rfl hrm.1 hrm.2 hd hR) hp (fun _ _ _ _ h => h.2) hS hn hsz hst hcat hdg hcs ?_ ?_
  · rintro v st0 t H1 locs1 ht hw ⟨h, -⟩ hS1
    rcases h with ⟨v', u, hv, hok, hW⟩ | ⟨x, cd, u, hv, -⟩
    · cases hv
      exact kr v u H1 locs1 hok (by rw [← ht]; exact hW) hS1
    · cases hv
  · rintro x st0 t H1 locs1 ht hw ⟨h, -⟩ hS1
    rcases h with ⟨v', u, hv, -⟩ | ⟨x', cd, u, hv, hbd, hW, hE⟩
    · cases hv
    · cases hv
      exact kt x cd u t H1 locs1 hbd ht hw (by rw [← ht]; exact hW) hE hS1
/-- a throwing method's contract out of its body -/
theorem gx_headX {vs : List Value} (hy : plainName y.cls = true) {Qc : Array Value → State → Outcome → State → Prop} (hlen : (lg_sl vs).length ≤ maxL)
    (body : ∀ (p : Program) (e : Env) (s : State) (m : MethodId) (below : List Frame) (meth : Method) (c : Code) (ls : Array Slot), CX y.cls bytes maxL rt (KA D dA) p s m vs.toArray meth c A → c.exceptionTable.isEmpty = true → ZT A s s.heap → Wd D clA sh ex A ad S s.heap → lv_has ls maxL (lv_args 0 vs) → W p l e (headSpec (ws_ y bytes maxL rt) rm).room s m vs.toArray below meth c s.heap [] 0 0 (MQX below Qc vs.toArray s mc ms A) (F0 m 0 ls [])) :
    MetX l y (ws_ y bytes maxL rt) rm (va_Pc vs (PreX D dA sh ex A ad S)) Qc mc ms A := by
  refine MetX.ofW (cc := bytes) (maxL := maxL) (ret := rt) hy rfl ?_
  intro p e s m args below meth c s₁ B hml hex hv
  obtain ⟨rfl, ⟨hA, hP, hK⟩, hZ⟩ := hv
  have hts := atoms_spec (ws := ws_ y bytes maxL rt) B.pre
  have hts : ∀ w ∈ lw_all, w.before _ s = true := fun w h => hts w (List.mem_cons_of_mem _ h)
  have hl := lv_entry vs (n := maxL) hlen
  rw [lg_entry_eq]
  exact body p e s m below meth c _ ⟨B.exec, B.bytes, hml, B.returns, B.notSynchronized, findClass_of_methodNamed B.named, hts, hK, hA⟩ hex hZ hP hl
end XW
