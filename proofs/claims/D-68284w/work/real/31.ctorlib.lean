/-! CONSTRUCTORS: worlds as lists (the kit's), array classes by dA -/
def AOS (U : State) : Prop := va_AO "StreamHall$Hall" U ∧ va_AO "StreamHall$Sending" U ∧ va_AO "StreamHall$Receiving" U ∧ va_AO "StreamHall$Way" U ∧ va_AO "StreamHall$Place" U
theorem AOS.moved {u U : State} (hvm : u.vm.Alike U.vm) (h : AOS u) : AOS U := ⟨h.1.moved hvm, h.2.1.moved hvm, h.2.2.1.moved hvm, h.2.2.2.1.moved hvm, h.2.2.2.2.moved hvm⟩
def PreL (D : va_G) (dA : Nat → ClassId) (ws : va_W) (sz : Nat) (U : State) : Prop := U.heap.size = sz ∧ va_P D clA ws U.heap ∧ va_D (fun _ => True) ws ∧ KA D dA U ∧ AOS U
theorem PreL.blind {D : va_G} {dA : Nat → ClassId} {ws : va_W} {sz : Nat} {As : List Value} : FrameBlind (va_Pc As (PreL D dA ws sz)) :=
  fun a U g mk h => ⟨h.1, h.2.1, h.2.2.1, h.2.2.2.1, KA.same (s := U) (U := U.calling g mk a) rfl h.2.2.2.2.1, AOS.moved (u := U) (U := U.calling g mk a) (Vm.Alike.refl U.vm) h.2.2.2.2.2⟩
theorem PreL.pre {D : va_G} {dA : Nat → ClassId} {ws : va_W} {As : List Value} {s : State} {H : Heap} {A : Nat → Prop} (hK : KA D dA s) (hO : AOS s) (hP : va_P D clA ws H) (hD : va_D A ws) : PreS s H (va_Pc As (PreL D dA ws H.size)) As :=
  ⟨PreL.blind, fun U hU hW => ⟨rfl, by rw [hU], by rw [hU]; exact hP, hD.weaken (fun _ _ _ _ => trivial), hK.warm hW, hO.moved hW.alike⟩⟩
section LN
variable {p : Program} {l : Launch} {e : Env} {R : Room} {s : State} {m : MethodId} {args : Array Value} {below : List Frame} {meth : Method} {c : Code} {H : Heap} {locs : List Loc} {cells slots : Nat} {Q : State → Prop}
variable {cc : ByteArray} {pc : Nat} {ls : Array Slot} {rest : List Value} {D : va_G} {cl : List vw_C} {A : Nat → Prop} {tys : List (ClassId × FieldType)} {ws : va_W} {H0 : Heap}
theorem ln_newa (hexec : p.tables.exec = Jvm.exec) (hb : c.code = cc) {atype : ArrayType} (harr : (Cond.arrayClass (newarray.typeOf atype)).before args s = true) {ty : FieldType} (hty : newarray.typeOf atype = ty) (hK : va_K D cl tys s) (t0 : Nat) {cA : ClassId} (ht : tys[t0]? = some (cA, ty)) (hra : va_RA s cA ty → s.vm.findClass ("[" ++ ty.toString) = some cA) (hP : va_P D cl ws H) (hD : va_D A ws) (hS : va_S A H0 H locs) (hA : ∀ q, H0.size ≤ q → A q)
    {n : Int32} {N' : Nat} {a0 : vp_A} (ha : ∀ cA : ClassId, vp_cell cA a0 = arrV cA N' (fun _ => defaultValue ty)) (hn : ¬ n < 0) (hN : n.toNatClampNeg = N') (hbytes : N' * componentBytes ty ≤ 536870912) (hcells : cells + 1 ≤ R.cells) (hslots : slots + N' ≤ R.slots) (hdg : decode cc pc = .ok (.newarray atype, 2))
    (kk : ∀ (q : Nat) (H1 : Heap), va_P D cl (ws ++ [(q, .inl (cA, a0))]) H1 → va_D A (ws ++ [(q, .inl (cA, a0))]) → va_S A H0 H1 locs →
      W p l e R s m args below meth c H1 locs (cells + 1) (slots + N') Q (F0 m (pc + 2) ls (.ref q :: rest))) : W p l e R s m args below meth c H locs cells slots Q (F0 m pc ls (.int n :: rest)) := by
  subst hty
  refine va_newaK hexec hb harr rfl hdg rfl hn hN hbytes hcells hslots rfl fun H1 cB e1 z1 o1 hAr hNm => ?_
  have hcb : cB = cA := Option.some.inj (hNm.symm.trans (hra (hK.2 t0 _ ht).2))
  subst hcb
  have hk : ∀ (k : Nat) (x : Nat × va_E), ws[k]? = some x → H1[x.1]? = H[x.1]? := fun k x hx => o1 x.1 ((hP k x hx).lt)
  refine kk H.size H1 ((hP.kept hk).app (fun k x hx => ?_)) (hD.push hP rfl (hA _ hS.1)) ⟨Nat.le_trans hS.1 (by omega), fun x h1 h2 => (o1 x (Nat.lt_of_lt_of_le h1 hS.1)).trans (hS.2.1 x h1 h2), hS.2.2⟩
  have hz : k < 1 := (List.getElem?_eq_some_iff.mp hx).1
  rw [show k = 0 by omega] at hx
  cases hx
  show H1[H.size]? = some (vp_cell _ _)
  rw [ha]
  exact e1
theorem ln_newq (hexec : p.tables.exec = Jvm.exec) (hb : c.code = cc) {own C : String} {index : Nat} (hown : s.vm.findClass own = some m.cls) (hclink : (Cond.classLink own index C).before args s = true) (hover : va_AO C s) (hK : va_K D cl tys s) (t0 : Nat) {cA : ClassId} (ht : tys[t0]? = some (cA, .object C)) (hP : va_P D cl ws H) (hD : va_D A ws) (hS : va_S A H0 H locs) (hA : ∀ q, H0.size ≤ q → A q)
    {n : Int32} {N' : Nat} (hn : ¬ n < 0) (hN : n.toNatClampNeg = N') (hbytes : N' * 4 ≤ 536870912) (hcells : cells + 1 ≤ R.cells) (hslots : slots + N' ≤ R.slots) (hdg : decode cc pc = .ok (.anewarray index, 3))
    (kk : ∀ (q : Nat) (H1 : Heap), va_P D cl (ws ++ [(q, .inl (cA, N', .inr (.inr (.inr (.inr (fun _ => none))))))]) H1 → va_D A (ws ++ [(q, .inl (cA, N', .inr (.inr (.inr (.inr (fun _ => none))))))]) → va_S A H0 H1 locs →
      W p l e R s m args below meth c H1 locs (cells + 1) (slots + N') Q (F0 m (pc + 3) ls (.ref q :: rest))) : W p l e R s m args below meth c H locs cells slots Q (F0 m pc ls (.int n :: rest)) := by
  refine va_newq hexec hb hown hclink hover hK hP hD hS hA hn hN hbytes hcells hslots hdg fun q cB H1 hK2 hP1 hD1 hS1 => ?_
  have h1 : va_RA s cB (.object C) := (hK2.2 tys.length (cB, .object C) (by simp)).2
  have h2 : va_RA s cA (.object C) := (hK.2 t0 _ ht).2
  obtain ⟨_, _, -, -, -, a1⟩ := h1
  obtain ⟨_, _, -, -, -, a2⟩ := h2
  have hcb : cB = cA := Option.some.inj (a1.symm.trans a2)
  subst hcb
  exact kk q H1 hP1 hD1 hS1
end LN
