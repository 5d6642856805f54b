/-! ROWS THAT MAKE CELLS, STORES OF REFERENCES, ENDS, THE ENTRY -/
section ZMAKE
variable {X : zX} {own : String} {cc : ByteArray} {nL : Nat} {ret : Option FieldType} {pc : Nat} {σ : zS} {ls : List (Option Value)} {st : List Value}
theorem z_new (hX : zOk X own cc nL ret) {ci N index : Nat} {C : String} {T : u_T} {ty : Nat → FieldType} (hc : zCls ci C T N ty) {M : Nat} {fs : List Value} (d : decode cc pc = .ok (.new index, 3)) (hl : Cond.classLink own index C ∈ lw_all) (hi : Cond.instantiable C M ∈ lw_all) (hini : Cond.initialized C ∈ lw_all) (hfs : ∀ j, j < N → defaultValue (ty j) = vp_V fs j) (hb : 1 ≤ σ.2.2.1) (hs : M ≤ σ.2.2.2)
    (kk : σ.1 σ.2.1 = none → zW X (zup σ.1 σ.2.1 (.inr (ci, fs)), σ.2.1 + 1, σ.2.2.1 - 1, σ.2.2.2 - M) (pc + 3) ls (va_rf (some σ.2.1) :: st)) : zW X σ pc ls st := by
  intro H locs la h1 h2 h3 h4 h5
  have hKn := hX.K.1 ci _ hc.1
  refine W.newcK hX.1 hX.2.1 hX.2.2.2.1 (hX.2.2.2.2.1 _ hl) (hX.2.2.2.2.1 _ hi) (hX.2.2.2.2.1 _ hini) rfl d (by rw [hX.2.2.2.2.2.2.2.2.2.1]; omega) (by rw [hX.2.2.2.2.2.2.2.2.2.2]; omega) hKn.2.1 h1.2.1 fun H1 kC hkC e1 z1 o1 => ?_
  rw [show X.z.1 - σ.2.2.1 + 1 = X.z.1 - (σ.2.2.1 - 1) by omega, show X.z.2 - σ.2.2.2 + M = X.z.2 - (σ.2.2.2 - M) by omega]
  refine kk h1.fresh H1 locs la (h1.push ?_ (by rw [z1, h1.2.1]) (fun q hq => o1 q (by rw [← h1.2.1]; exact hq)) _ _) h2 h3 (by show σ.2.2.1 - 1 ≤ _; omega) (by show σ.2.2.2 - M ≤ _; omega)
  exact Or.inl ⟨_, hc.1, (u_born ty hX.2.2.2.2.1 hc.2.1 hKn hkC e1 hc.2.2.1).to hfs⟩
theorem z_newarr (hX : zOk X own cc nL ret) {atype : ArrayType} {ty : FieldType} {t : Nat} {n : Int32} {a0 : vp_A} (d : decode cc pc = .ok (.newarray atype, 2)) (hty : newarray.typeOf atype = ty) (hw : Cond.arrayClass ty ∈ lw_all) (ht : (zTy X.g)[t]? = some (X.g.2.2.1 t, ty)) (hra : ∀ (U : State) (cA : ClassId), va_RA U cA ty → U.vm.findClass ("[" ++ ty.toString) = some cA) (hz : ty = zty t) (ha : a0.1 = n.toNatClampNeg ∧ ∀ j, defaultValue ty = zval a0.2 j) (hn : ¬ n < 0) (hby : n.toNatClampNeg ≤ 60000000) (hcb : componentBytes ty ≤ 8) (hb : 1 ≤ σ.2.2.1) (hs : n.toNatClampNeg ≤ σ.2.2.2)
    (kk : σ.1 σ.2.1 = none → zW X (zup σ.1 σ.2.1 (.inl (t, a0)), σ.2.1 + 1, σ.2.2.1 - 1, σ.2.2.2 - n.toNatClampNeg) (pc + 2) ls (va_rf (some σ.2.1) :: st)) : zW X σ pc ls (.int n :: st) := by
  subst hty
  intro H locs la h1 h2 h3 h4 h5
  have hmul : n.toNatClampNeg * componentBytes (newarray.typeOf atype) ≤ 60000000 * 8 := Nat.mul_le_mul hby hcb
  refine va_newaK hX.1 hX.2.1 (hX.2.2.2.2.1 _ hw) rfl d rfl hn rfl (Nat.le_trans hmul (by decide)) (by rw [hX.2.2.2.2.2.2.2.2.2.1]; omega) (by rw [hX.2.2.2.2.2.2.2.2.2.2]; omega) h1.2.1 fun H1 cA e1 z1 o1 hAr hNm => ?_
  have hcA : cA = X.g.2.2.1 t := Option.some.inj (hNm.symm.trans (hra _ _ (hX.K.2 t _ ht).2))
  rw [show X.z.1 - σ.2.2.1 + 1 = X.z.1 - (σ.2.2.1 - 1) by omega, show X.z.2 - σ.2.2.2 + n.toNatClampNeg = X.z.2 - (σ.2.2.2 - n.toNatClampNeg) by omega]
  refine kk h1.fresh H1 locs la (h1.push ?_ (by rw [z1, h1.2.1]) (fun q hq => o1 q (by rw [← h1.2.1]; exact hq)) _ _) h2 h3 (by show σ.2.2.1 - 1 ≤ _; omega) (by show σ.2.2.2 - n.toNatClampNeg ≤ _; omega)
  obtain ⟨m0, c0⟩ := a0
  have hm : m0 = n.toNatClampNeg := ha.1
  subst hm
  rw [hcA] at e1
  exact ⟨_, e1, zArr.new (by rw [← hz]; exact (hX.2.2.2.2.2.2.1.1.2 t _ ht).1) (fun j _ => ha.2 j)⟩
theorem z_newI (hX : zOk X own cc nL ret) {n : Int32} (d : decode cc pc = .ok (.newarray .int, 2)) (hw : Cond.arrayClass .int ∈ lw_all) (hn : ¬ n < 0) (hby : n.toNatClampNeg ≤ 60000000) (hb : 1 ≤ σ.2.2.1) (hs : n.toNatClampNeg ≤ σ.2.2.2)
    (kk : σ.1 σ.2.1 = none → zW X (zup σ.1 σ.2.1 (.inl (0, n.toNatClampNeg, .inl (fun _ => 0))), σ.2.1 + 1, σ.2.2.1 - 1, σ.2.2.2 - n.toNatClampNeg) (pc + 2) ls (va_rf (some σ.2.1) :: st)) : zW X σ pc ls (.int n :: st) :=
  z_newarr hX (t := 0) d rfl hw rfl (fun _ _ h => h) rfl ⟨rfl, fun _ => rfl⟩ hn hby (by decide) hb hs kk
theorem z_newL (hX : zOk X own cc nL ret) {n : Int32} (d : decode cc pc = .ok (.newarray .long, 2)) (hw : Cond.arrayClass .long ∈ lw_all) (hn : ¬ n < 0) (hby : n.toNatClampNeg ≤ 60000000) (hb : 1 ≤ σ.2.2.1) (hs : n.toNatClampNeg ≤ σ.2.2.2)
    (kk : σ.1 σ.2.1 = none → zW X (zup σ.1 σ.2.1 (.inl (1, n.toNatClampNeg, .inr (.inl (fun _ => 0)))), σ.2.1 + 1, σ.2.2.1 - 1, σ.2.2.2 - n.toNatClampNeg) (pc + 2) ls (va_rf (some σ.2.1) :: st)) : zW X σ pc ls (.int n :: st) :=
  z_newarr hX (t := 1) d rfl hw rfl (fun _ _ h => h) rfl ⟨rfl, fun _ => rfl⟩ hn hby (by decide) hb hs kk
theorem z_newB (hX : zOk X own cc nL ret) {n : Int32} (d : decode cc pc = .ok (.newarray .byte, 2)) (hw : Cond.arrayClass .byte ∈ lw_all) (hn : ¬ n < 0) (hby : n.toNatClampNeg ≤ 60000000) (hb : 1 ≤ σ.2.2.1) (hs : n.toNatClampNeg ≤ σ.2.2.2)
    (kk : σ.1 σ.2.1 = none → zW X (zup σ.1 σ.2.1 (.inl (2, n.toNatClampNeg, .inl (fun _ => 0))), σ.2.1 + 1, σ.2.2.1 - 1, σ.2.2.2 - n.toNatClampNeg) (pc + 2) ls (va_rf (some σ.2.1) :: st)) : zW X σ pc ls (.int n :: st) :=
  z_newarr hX (t := 2) d rfl hw rfl (fun _ _ h => h) rfl ⟨rfl, fun _ => rfl⟩ hn hby (by decide) hb hs kk
theorem z_newZ (hX : zOk X own cc nL ret) {n : Int32} (d : decode cc pc = .ok (.newarray .boolean, 2)) (hw : Cond.arrayClass .boolean ∈ lw_all) (hn : ¬ n < 0) (hby : n.toNatClampNeg ≤ 60000000) (hb : 1 ≤ σ.2.2.1) (hs : n.toNatClampNeg ≤ σ.2.2.2)
    (kk : σ.1 σ.2.1 = none → zW X (zup σ.1 σ.2.1 (.inl (3, n.toNatClampNeg, .inl (fun _ => 0))), σ.2.1 + 1, σ.2.2.1 - 1, σ.2.2.2 - n.toNatClampNeg) (pc + 2) ls (va_rf (some σ.2.1) :: st)) : zW X σ pc ls (.int n :: st) :=
  z_newarr hX (t := 3) d rfl hw rfl (fun _ _ h => h) rfl ⟨rfl, fun _ => rfl⟩ hn hby (by decide) hb hs kk
theorem z_anew (hX : zOk X own cc nL ret) (t : Nat) {C : String} {index : Nat} {n : Int32} (d : decode cc pc = .ok (.anewarray index, 3)) (hl : Cond.classLink own index C ∈ lw_all) (ho : Cond.arrayOver (.object C) ∈ lw_tbl) (ht : (zTy X.g)[t]? = some (X.g.2.2.1 t, .object C)) (htz : zty t = .object C) (hn : ¬ n < 0) (hby : n.toNatClampNeg ≤ 60000000) (hb : 1 ≤ σ.2.2.1) (hs : n.toNatClampNeg ≤ σ.2.2.2)
    (kk : σ.1 σ.2.1 = none → zW X (zup σ.1 σ.2.1 (.inl (t, n.toNatClampNeg, .inr (.inr (.inr (.inr (fun _ => none)))))), σ.2.1 + 1, σ.2.2.1 - 1, σ.2.2.2 - n.toNatClampNeg) (pc + 3) ls (va_rf (some σ.2.1) :: st)) : zW X σ pc ls (.int n :: st) := by
  intro H locs la h1 h2 h3 h4 h5
  have hao : va_AO C X.s := by
    obtain ⟨A, hA, -⟩ := hX.2.2.2.2.2.2.1.2.1
    exact va_AO.moved hX.2.2.2.2.2.1.alike (va_AO.of (hA _ ho))
  refine W.anew hX.1 hX.2.1 hX.2.2.2.1 (hX.2.2.2.2.1 _ hl) (va_AO.use hao) rfl d rfl hn (by omega) (by rw [hX.2.2.2.2.2.2.2.2.2.1]; omega) (by rw [hX.2.2.2.2.2.2.2.2.2.2]; omega) fun cA kA comp f1 f2 f3 f4 => ?_
  obtain ⟨kA', comp', g1, g2, g3, g4⟩ := (hX.K.2 t _ ht).2
  have hcA : cA = X.g.2.2.1 t := Option.some.inj (f1.symm.trans g4)
  subst hcA
  generalize hH1 : H.push ({ cls := X.g.2.2.1 t, slots := Array.replicate n.toNatClampNeg .null, vm := .none } : Cell) = H1
  have z1 : H1.size = H.size + 1 := by rw [← hH1, Array.size_push]
  have e1 : H1[H.size]? = some (arrV (X.g.2.2.1 t) n.toNatClampNeg (fun _ => .null)) := by rw [← hH1, Array.getElem?_push_size, ← arrV_new]
  have o1 : ∀ q : Nat, q < H.size → H1[q]? = H[q]? := fun q hq => by rw [← hH1, Array.getElem?_push, if_neg (Nat.ne_of_lt hq)]
  rw [show X.z.1 - σ.2.2.1 + 1 = X.z.1 - (σ.2.2.1 - 1) by omega, show X.z.2 - σ.2.2.2 + n.toNatClampNeg = X.z.2 - (σ.2.2.2 - n.toNatClampNeg) by omega]
  show W X.p X.l X.e X.R X.s X.m X.a X.b X.k X.c H1 locs _ _ X.Q (F0 X.m (pc + 3) la (.ref H.size :: st))
  rw [h1.2.1]
  refine kk h1.fresh H1 locs la (h1.push ?_ z1 o1 _ _) h2 h3 (by show σ.2.2.1 - 1 ≤ _; omega) (by show σ.2.2.2 - n.toNatClampNeg ≤ _; omega)
  rw [h1.2.1] at e1
  exact ⟨_, e1, zArr.new (by rw [htz]; exact (hX.2.2.2.2.2.2.1.1.2 t _ ht).1) (fun j _ => rfl)⟩
/-- null into an array of objects -/
theorem z_aastN (hX : zOk X own cc nL ret) (t : Nat) {E : String} {r v : Option Nat} {a n : Nat} {f : Nat → Option Nat} {i : Int32} (d : decode cc pc = .ok (.aastore, 1)) (ht : zty t = .object E) (hr : r = some a) (hg : X.g.1.heap.size ≤ a) (ha : σ.1 a = some (.inl (t, n, .inr (.inr (.inr (.inr f)))))) (hin : vp_in i n) (hv : v = none) (kk : zW X (zup σ.1 a (.inl (t, n, .inr (.inr (.inr (.inr (va_up f i.toNatClampNeg v)))))), σ.2) (pc + 1) ls st) : zW X σ pc ls (va_rf v :: .int i :: va_rf r :: st) := by
  subst hr
  subst hv
  intro H locs la h1 h2 h3 h4 h5
  obtain ⟨cell, hc, hA⟩ := h1.arr ha
  exact va_WaastN (C := E) hX.1 hX.2.1 hc (by rw [← ht]; exact z_isA hX hA) hA.1 (z_inA hA hin) rfl rfl d fun H1 e z oq => z_ast (c' := .inr (.inr (.inr (.inr (va_up f i.toNatClampNeg none))))) hX h1 h2 h3 h4 h5 hg hA (fun q _ => z_upv f _ none va_rf q) e z oq kk
/-- an object into an array of objects -/
theorem z_aast (hX : zOk X own cc nL ret) (t : Nat) {E C : String} {r v : Option Nat} {a n b ci : Nat} {q : vw_C} {fs : List Value} {f : Nat → Option Nat} {i : Int32} (d : decode cc pc = .ok (.aastore, 1)) (ht : (zTy X.g)[t]? = some (X.g.2.2.1 t, .object E)) (hc : zCl[ci]? = some q) (hq : q.1 = C) (hcast : C = E ∨ Cond.castable C E ∈ lw_tbl) (hr : r = some a) (hg : X.g.1.heap.size ≤ a) (ha : σ.1 a = some (.inl (t, n, .inr (.inr (.inr (.inr f)))))) (hin : vp_in i n) (hv : v = some b) (hvb : σ.1 b = some (.inr (ci, fs))) (kk : zW X (zup σ.1 a (.inl (t, n, .inr (.inr (.inr (.inr (va_up f i.toNatClampNeg v)))))), σ.2) (pc + 1) ls st) : zW X σ pc ls (va_rf v :: .int i :: va_rf r :: st) := by
  subst hr
  subst hv
  subst hq
  intro H locs la h1 h2 h3 h4 h5
  have hlt : i.toNatClampNeg < n := Nat.not_le.mp fun q => hin (Or.inr q)
  have h0 : ¬ i < 0 := fun q => hin (Or.inl q)
  obtain ⟨q', g0, cellV, g1, g2, g3, -⟩ := h1.obj hc hvb
  have hcls := (hX.K.1 ci q hc).2
  obtain ⟨kA, comp, k1, k2, k3, -⟩ := (hX.K.2 t _ ht).2
  obtain ⟨kE, hkE, -⟩ := Vm.findClass_spec k3
  obtain ⟨kC, hkC, -⟩ := hcls.2
  have hasg : X.s.vm.assignable (X.g.2.1.1 ci) comp = true := by
    rcases hcast with h | h
    · have hcomp : comp = X.g.2.1.1 ci := Option.some.inj (k3.symm.trans (by rw [← h]; exact hcls.1))
      rw [hcomp]
      exact va_assign hcls
    · obtain ⟨c0, t1, f1, f2, f3⟩ := Cond.castable_spec (va_Nw.use (A := X.a) rfl (va_Nw.warmC hX.2.2.2.2.2.1 (z_nw hX h rfl)))
      cases f1.symm.trans hcls.1
      cases f2.symm.trans k3
      exact f3
  obtain ⟨cell, hcc, hA⟩ := h1.arr ha
  have hcl : cell.cls = X.g.2.2.1 t := hA.2.2.2.2 hg
  exact W.aast hX.1 hX.2.1 hcc hA.2.1.1 hA.1 (by rw [hcl]; exact k1) k2 rfl hkE ⟨h0, by rw [show cell.slots.size = n from hA.2.2.1]; exact hlt⟩ g1 (fun q h => by rw [g3] at h; cases h) (by rw [g2]; exact hkC) (by rw [g2]; exact hasg) rfl rfl d fun H1 e z oq => z_ast (c' := .inr (.inr (.inr (.inr (va_up f i.toNatClampNeg (some b)))))) hX h1 h2 h3 h4 h5 hg hA (fun q _ => z_upv f _ (some b) va_rf q) e z oq kk
theorem z_objInit (hX : zOk X own cc nL ret) {idx : Nat} {r : Option Nat} {a : Nat} (d : decode cc pc = .ok (.invokespecial idx, 3)) (hl : Cond.methodLink own idx Lib.objectInit ∈ lw_all) (h2 : Cond.instanceMethod Lib.objectInit ∈ lw_all) (h3 : Cond.code Lib.objectInit ⟨#[0xb1]⟩ 1 none ∈ lw_all) (hr : r = some a) (hn : ls.length = nL) (hf : 1 ≤ X.R.frames) (hlo : (st.map fun v => v.category).sum + 12 ≤ X.R.locals) (kk : zW X σ (pc + 3) ls st) : zW X σ pc ls (va_rf r :: st) := by
  subst hr
  intro H locs la g1 g2 g3 g4 g5
  exact W.objInit hX.1 hX.2.1 hX.2.2.2.1 (hX.2.2.2.2.1 _ hl) (hX.2.2.2.2.1 _ h2) (hX.2.2.2.2.1 _ h3) rfl (by rw [hX.2.2.1, ← hn]; exact g3.1) rfl d hf (by show 2 * 0 + _ + 12 ≤ _; omega) (kk H locs la g1 g2 g3 g4 g5)
end ZMAKE
