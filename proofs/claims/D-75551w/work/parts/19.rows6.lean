/-! ROWS: clone of an array, a call through an interface, getClass, a class constant, the two plain exceptions -/
section ZR6
variable {X : zX} {own : String} {cc : ByteArray} {nL : Nat} {ret : Option FieldType} {pc : Nat} {σ : zS} {ls : List (Option Value)} {st : List Value}
theorem z_clone (hX : zOk X own cc nL ret) {d : Nat} (hd : zDep X d) (t : Nat) {ad : String} {index : Nat} {r : Option Nat} {a n : Nat} {c : (Nat → Int32) ⊕ (Nat → Int64) ⊕ (Nat → UInt32) ⊕ (Nat → UInt64) ⊕ (Nat → Option Nat)} (dc : decode cc pc = .ok (.invokevirtual index, 3)) (hl : Cond.methodLink own index ⟨ad, "clone", "()Ljava/lang/Object;"⟩ ∈ lw_all) (hsm : Cond.sameMethod ad "java/lang/Object" "clone" "()Ljava/lang/Object;" ∈ lw_all) (hnat : Cond.native ⟨"java/lang/Object", "clone", "()Ljava/lang/Object;"⟩ ∈ lw_all) (hin : Cond.instanceMethod ⟨"java/lang/Object", "clone", "()Ljava/lang/Object;"⟩ ∈ lw_all) (hse : Cond.selects ad ⟨ad, "clone", "()Ljava/lang/Object;"⟩ ⟨"java/lang/Object", "clone", "()Ljava/lang/Object;"⟩ ∈ lw_all) (hcl : Cond.castable ad "java/lang/Cloneable" ∈ lw_tbl)
    (ht : (zTy X.g)[t]? = some (X.g.2.2.1 t, zty t)) (hnm : ∀ (U : State) (cA : ClassId), va_RA U cA (zty t) → U.vm.findClass ad = some cA) (hr : r = some a) (hg : X.g.1.heap.size ≤ a) (ha : σ.1 a = some (.inl (t, n, c))) (hfit : ∀ i, i < n → fits (zty t) (zval c i) = true) (hb : 1 ≤ σ.2.2.1) (hs : n ≤ σ.2.2.2) (hsz : ls.length = nL) (hW : (st.map fun v => v.category).sum ≤ 8)
    (kk : σ.1 σ.2.1 = none → zW X (zup σ.1 σ.2.1 (.inl (t, n, c)), σ.2.1 + 1, σ.2.2.1 - 1, σ.2.2.2 - n) (pc + 3) ls (va_rf (some σ.2.1) :: st)) : zW X σ pc ls (va_rf r :: st) := by
  subst hr
  intro H locs la g1 g2 g3 g4 g5 T hT Z
  obtain ⟨cell, hc, hA⟩ := g1.arr ha
  have hcls : cell.cls = X.g.2.2.1 t := hA.2.2.2.2 hg
  have hsz9 : cell.slots.size = n := hA.2.2.1
  have hfc : X.s.vm.findClass ad = some cell.cls := by rw [hcls]; exact hnm _ _ (hX.K.2 t _ ht).2
  obtain ⟨c0, t0', f1, f2, f3⟩ := Cond.castable_spec (va_Nw.use (A := X.a) rfl (va_Nw.warmC hX.2.2.2.2.2.1 (z_nw hX hcl rfl)))
  cases hfc.symm.trans f1
  obtain ⟨-, kS, hkS, compS, hkindS⟩ := z_isA hX hA
  obtain ⟨-, kA, hkA, comp, hkind⟩ := State.isArrayOf_alike Z.warmed.alike (z_isA hX hA)
  obtain ⟨vm', Z', hst⟩ := Z.cloneArray hX.1 hX.2.2.2.1 (hX.2.2.2.2.1 _ hl) (hX.2.2.2.2.1 _ hsm) (hX.2.2.2.2.1 _ hnat) (hX.2.2.2.2.1 _ hin) (hX.2.2.2.2.1 _ hse) (a := a) (cell := cell) (by rw [hT]; exact hc) hA.2.1.1 hA.1 hfc f2 f3
    (fun i v hv => by
      have hi : i < n := by rw [← hsz9]; exact (Array.getElem?_eq_some_iff.mp hv).1
      have e := (hA.2.2.2.1 i hi).symm.trans hv
      have e2 : zval c i = v := Option.some.inj e
      have hk' : T.vm.classes[cell.cls]? = some kA := hkA
      simpa [State.fitsSlot, State.slotType?, hk', hkind] using (e2 ▸ hfit i hi))
    (g := F0 X.m pc la (.ref a :: st)) rfl (by rw [hX.2.2.1, ← hsz]; exact g3.1) rfl (by rw [hX.2.1]; exact dc) (by rw [hd.1]; omega) (by rw [hd.2]; show 2 * 0 + _ + 14 ≤ _; omega) (by rw [hX.2.2.2.2.2.2.2.2.2.1]; omega) (by rw [hX.2.2.2.2.2.2.2.2.2.2, hsz9]; omega) (hloader := Vm.clonesLoader_of_array hkS hkindS)
  rw [hsz9] at Z'
  rw [show X.z.1 - σ.2.2.1 + 1 = X.z.1 - (σ.2.2.1 - 1) by omega, show X.z.2 - σ.2.2.2 + n = X.z.2 - (σ.2.2.2 - n) by omega] at Z'
  generalize hH1 : H.push ({ cls := cell.cls, slots := cell.slots } : Cell) = H1
  have z1 : H1.size = H.size + 1 := by rw [← hH1, Array.size_push]
  have e1 : H1[H.size]? = some ({ cls := cell.cls, slots := cell.slots } : Cell) := by rw [← hH1, Array.getElem?_push_size]
  have o1 : ∀ q : Nat, q < H.size → H1[q]? = H[q]? := fun q hq => by rw [← hH1, Array.getElem?_push, if_neg (Nat.ne_of_lt hq)]
  obtain ⟨t9, a1, b1⟩ := kk g1.fresh H1 locs la (g1.push (e := .inl (t, n, c)) ⟨({ cls := cell.cls, slots := cell.slots } : Cell), (by rw [← g1.2.1]; exact e1), (fun h => by cases h), ⟨(fun k h => by cases h), hA.2.1.2⟩, hsz9, hA.2.2.2.1, fun _ => hcls⟩ z1 o1 _ _) g2 g3 (by show σ.2.2.1 - 1 ≤ _; omega) (by show σ.2.2.2 - n ≤ _; omega)
    ((T.setVm vm').pushCell ({ cls := cell.cls, slots := cell.slots } : Cell)) (by rw [← hH1, ← hT]; rfl) Z'
  refine ⟨t9, hst t9 ?_, b1⟩
  rw [hT, g1.2.1]
  exact a1
theorem z_invF (hX : zOk X own cc nL ret) {stk As : List Value} {d : Nat} (hd : zDep X d) {x y : MethodName} {bytes : ByteArray} {maxL index count : Nat} {rt : Option FieldType} {Q : Option Value → zS → Prop} {Y : Nat → zS → Prop} {r : Option Nat} {b : Nat} (hr : r = some b) {C : String} {ci : Nat} {cq : vw_C} {fs : List Value} (hc : zCl[ci]? = some cq) (hq : cq.1 = C) (hb : σ.1 b = some (.inr (ci, fs))) (dc : decode cc pc = .ok (.invokeinterface index count, 5)) (hM : zMet X.l X.g d (y, Cond.code y bytes maxL rt) (.ref b :: As) σ Q Y) (hl : Cond.methodLink own index x ∈ lw_all) (hse : Cond.selects C x y ∈ lw_all) (hin : Cond.instanceMethod y ∈ lw_all) (hde : Cond.declares x ∈ lw_tbl) (hfa : Cond.interfaceMethod x.cls x.cls x.name x.desc ∈ lw_tbl) (hpu : Cond.publicMethod y ∈ lw_tbl) (hun : Cond.unhidden C x.name x.desc ∈ lw_tbl) (hca : Cond.castable C x.cls ∈ lw_tbl) (hx : x.cls ≠ "java/lang/invoke/MethodHandle" ∧ x.cls ≠ "java/lang/invoke/VarHandle") (hco : Cond.code y bytes maxL rt ∈ lw_all) (hini : Cond.initialized y.cls ∈ lw_all) {n : Nat} (hn : (parseMethodDescriptor x.desc).map (fun d => d.parameters.length) = some n) (hA : As.length = n) (hml : maxL ≤ 20) (hs : stk = As.reverse ++ va_rf r :: st) (hW : (st.map fun v => v.category).sum ≤ 8) (hsz : ls.length = nL) (kk : ∀ v σ', Q v σ' → zW X σ' (pc + 5) ls (v.toList ++ st)) (kx : ∀ q σ', Y q σ' → zT X σ' pc ls q) : zW X σ pc ls stk := by
  subst hr
  subst hq
  intro H locs la h1 h2 h3 h4 h5 T hT Z
  have hK := zback (len := 5) hX hM h4 h5 hd.1 hd.2 hco zNl_code hml hini
  obtain ⟨q9, g0, cellV, g1, g2, g3, -⟩ := h1.obj hc hb
  have hcls := (hX.K.1 ci cq hc).2
  obtain ⟨kC, hkC, -⟩ := hcls.2
  have hFw : va_Fw cq.1 x y X.s := va_Fw.moved hx hX.2.2.2.2.2.1.alike ⟨z_nw hX hde rfl, z_nw hX hfa rfl, z_nw hX hpu rfl, z_nw hX hun rfl, z_nw hX hca rfl⟩
  exact z_use h3 (vx_callIF Z hX.1 (C := cq.1) hX.2.2.2.1 (hX.2.2.2.2.1 _ hl) (va_Nw.use rfl hFw.1) (va_Nw.use rfl hFw.2.1) (hX.2.2.2.2.1 _ hse) (hX.2.2.2.2.1 _ hin) (va_Nw.use rfl hFw.2.2.1) (va_Nw.use rfl hFw.2.2.2.1) (va_Nw.use rfl hFw.2.2.2.2) (hX.2.2.2.2.1 _ hco) hx hK (by rw [hT]; exact g1) (by rw [g3]; rfl) (by rw [g2]; exact hcls.1) (by rw [g2]; exact hkC) rfl (by rw [hX.2.2.1, ← hsz]; exact h3.1) (argsL := As) (rest := st) (zlen (hA ▸ hn)) hs (by show 2 * 0 + _ ≤ 8; omega) (by rw [hX.2.1]; exact dc) (fun vm₁ hW₁ => ⟨rfl, by show zHp X.g σ T.heap; rw [hT]; exact h1, h2, rfl, rfl⟩)) kk kx
/-- getClass of an array of objects of the run's own -/
theorem z_getC (hX : zOk X own cc nL ret) {d : Nat} (hd : zDep X d) {index : Nat} {r : Option Nat} {a : Nat} {x : vp_A} (dc : decode cc pc = .ok (.invokevirtual index, 3)) (hl : Cond.methodLink own index ⟨"java/lang/Object", "getClass", "()Ljava/lang/Class;"⟩ ∈ lw_all) (hde : Cond.declares ⟨"java/lang/Object", "getClass", "()Ljava/lang/Class;"⟩ ∈ lw_tbl) (hse : Cond.selects "[Ljava/lang/Object;" ⟨"java/lang/Object", "getClass", "()Ljava/lang/Class;"⟩ ⟨"java/lang/Object", "getClass", "()Ljava/lang/Class;"⟩ ∈ lw_all) (hin : Cond.instanceMethod ⟨"java/lang/Object", "getClass", "()Ljava/lang/Class;"⟩ ∈ lw_all) (hnat : Cond.native ⟨"java/lang/Object", "getClass", "()Ljava/lang/Class;"⟩ ∈ lw_all) (hr : r = some a) (hg : X.g.1.heap.size ≤ a) (ha : σ.1 a = some (.inl (4, x))) (hsz : ls.length = nL) (hW : (st.map fun v => v.category).sum ≤ 8) (kk : zW X σ (pc + 3) ls (va_rf (some (X.g.2.2.2 58)) :: st)) : zW X σ pc ls (va_rf r :: st) := by
  subst hr
  intro H locs la h1 h2 h3 h4 h5
  obtain ⟨cell, hc, hA⟩ := h1.arr ha
  have hcl : cell.cls = X.g.2.2.1 4 := hA.2.2.2.2 hg
  have hst : cell.vm.isStatics = false := by
    cases hv : cell.vm with
    | statics c => exact absurd hv (hA.2.1.1 c)
    | _ => rfl
  obtain ⟨kA, comp, k1, k2, k3, k4⟩ := (hX.K.2 4 _ rfl).2
  exact va_getC (C := "[Ljava/lang/Object;") hX.1 hX.2.1 (by rw [hX.2.2.1, ← hsz]; exact h3.1.symm) hX.2.2.2.1 (hX.2.2.2.2.1 _ hl) (va_Nw.use rfl (va_Nw.warmD hX.2.2.2.2.2.1 (z_nw hX hde rfl))) (hX.2.2.2.2.1 _ hse) (hX.2.2.2.2.1 _ hin) (hX.2.2.2.2.1 _ hnat) (va_Mi.moved hX.2.2.2.2.2.1.alike hX.2.2.2.2.2.2.1.2.2.2.2.1) ⟨cell, hc, hst, by rw [hcl]; exact k4⟩ (by rw [hd.1]; omega) (by rw [hd.2]; omega) dc (kk H locs la h1 h2 h3 h4 h5)
theorem z_ldcM (hX : zOk X own cc nL ret) {index : Nat} (dc : decode cc pc = .ok (.ldc index, 2)) (hl : Cond.classLink own index "[Ljava/lang/Object;" ∈ lw_all) (kk : zW X σ (pc + 2) ls (va_rf (some (X.g.2.2.2 58)) :: st)) : zW X σ pc ls st := by
  intro H locs la h1 h2 h3 h4 h5
  exact va_ldcM hX.1 hX.2.1 hX.2.2.2.1 (hX.2.2.2.2.1 _ hl) (va_Mi.moved hX.2.2.2.2.2.1.alike hX.2.2.2.2.2.2.1.2.2.2.2.1) dc (kk H locs la h1 h2 h3 h4 h5)
end ZR6
