/-! ROWS OF NATIVE MEMBERS: System.arraycopy -/
/-- what may be copied into an array of kind t: a number that fits, null, an object of a class of cs -/
def zcp (σ : zS) (t : Nat) (cs : List Nat) (v : Value) : Prop := (fits (zty t) v = true ∧ ∀ x, v ≠ .ref x) ∨ ∃ b ci fs, v = .ref b ∧ ci ∈ cs ∧ σ.1 b = some (.inr (ci, fs))
theorem z_nn {z : Int32} (hz : ¬ z < 0) : z.toInt = (z.toNatClampNeg : Int) := by
  have hz0 : (0 : Int) ≤ z.toInt := by
    have := Int32.not_lt.mp hz
    simpa using Int32.le_iff_toInt_le.mp this
  show z.toInt = ((z.toInt.toNat : Nat) : Int)
  omega
theorem z_fitref (E : String) (b : Nat) : fits (.object E) (.ref b) = true := rfl
theorem z_acw {st : List Value} {L : Nat} (hW : (st.map fun v => v.category).sum ≤ 8) : 2 * 0 + (st.map fun v => v.category).sum + (nativeFrameWords "java/lang/System" "arraycopy" 5 + 11) ≤ 60000 + 40 * (L + 1) := by
  have h : nativeFrameWords "java/lang/System" "arraycopy" 5 ≤ 1000 := by decide +kernel
  omega
theorem z_acopy {X : zX} {own : String} {cc : ByteArray} {nL : Nat} {ret : Option FieldType} {pc : Nat} {σ : zS} {ls : List (Option Value)} {st : List Value} (hX : zOk X own cc nL ret) {d : Nat} (hd : zDep X d) (t : Nat) {E : String} {cs : List Nat} {index : Nat} {r0 r1 : Option Nat} {a0 a n0 n1 : Nat} {c0 c1 cR : (Nat → Int32) ⊕ (Nat → Int64) ⊕ (Nat → UInt32) ⊕ (Nat → UInt64) ⊕ (Nat → Option Nat)} {sp dp n : Int32} (dc : decode cc pc = .ok (.invokestatic index, 3)) (hl : Cond.methodLink own index arraycopyName ∈ lw_all) (hnat : Cond.native arraycopyName ∈ lw_all) (hstat : Cond.static arraycopyName ∈ lw_all) (hini : Cond.initialized "java/lang/System" ∈ lw_all)
    (hcs : cs = [] ∨ ((zTy X.g)[t]? = some (X.g.2.2.1 t, .object E) ∧ zty t = .object E ∧ ∀ c ∈ cs, zCast E c)) (hr0 : r0 = some a0) (hr1 : r1 = some a) (hg : X.g.1.heap.size ≤ a) (ha0 : σ.1 a0 = some (.inl (t, n0, c0))) (ha1 : σ.1 a = some (.inl (t, n1, c1))) (h1 : ¬ sp < 0) (h2 : ¬ dp < 0) (h3 : ¬ n < 0) (h4 : sp.toNatClampNeg + n.toNatClampNeg ≤ n0) (h5 : dp.toNatClampNeg + n.toNatClampNeg ≤ n1) (hval : ∀ i, i < n.toNatClampNeg → zcp σ t cs (zval c0 (sp.toNatClampNeg + i)))
    (hres : ∀ j, j < n1 → zval cR j = if dp.toNatClampNeg ≤ j ∧ j < dp.toNatClampNeg + n.toNatClampNeg then zval c0 (sp.toNatClampNeg + (j - dp.toNatClampNeg)) else zval c1 j) (hsz : ls.length = nL) (hW : (st.map fun v => v.category).sum ≤ 8)
    (kk : zW X (zup σ.1 a (.inl (t, n1, cR)), σ.2) (pc + 3) ls st) : zW X σ pc ls (.int n :: .int dp :: va_rf r1 :: .int sp :: va_rf r0 :: st) := by
  subst hr0
  subst hr1
  intro H locs la g1 g2 g3 g4 g5 T hT Z
  obtain ⟨cS, hcS, hAS⟩ := g1.arr ha0
  obtain ⟨cD, hcD, hAD⟩ := g1.arr ha1
  obtain ⟨hsO, kS, hkS, cmS, hkkS⟩ := z_isA hX hAS
  obtain ⟨hdO, kD, hkD, cmD, hkkD⟩ := z_isA hX hAD
  have hszS : cS.slots.size = n0 := hAS.2.2.1
  have hszD : cD.slots.size = n1 := hAD.2.2.1
  have rdS : ∀ i, i < n.toNatClampNeg → cS.slots.getD (sp.toNatClampNeg + i) .null = zval c0 (sp.toNatClampNeg + i) := by
    intro i hi
    rw [Array.getD_eq_getD_getElem?, hAS.2.2.2.1 _ (show sp.toNatClampNeg + i < n0 by omega)]
    rfl
  obtain ⟨vm', Z', step⟩ := Z.arraycopy hX.1 hX.2.2.2.1 (hX.2.2.2.2.1 _ hl) (hX.2.2.2.2.1 _ hnat) (hX.2.2.2.2.1 _ hstat) (hX.2.2.2.2.1 _ hini) (src := a0) (dst := a) (cs := cS) (cd := cD) (srcPos := sp) (destPos := dp) (n := n) (by rw [hT]; exact hcS) (by rw [hT]; exact hcD) hsO hdO hAS.1 hAD.1 hkS hkD hkkS hkkD (by simp) h1 h2 h3
    (by rw [z_nn h1, z_nn h3, hszS]; omega) (by rw [z_nn h2, z_nn h3, hszD]; omega)
    (fun vm₁ hal i hi => by
      rw [rdS i hi]
      rcases hval i hi with ⟨hf, hnr⟩ | ⟨b, ci, fs, hv, hm, hb⟩
      · refine ⟨hf, ?_⟩
        cases hz : zval c0 (sp.toNatClampNeg + i) with
        | ref x => exact absurd hz (hnr x)
        | _ => exact trivial
      · rw [hv]
        rcases hcs with rfl | ⟨ht, htz, hcs⟩
        · cases hm
        obtain ⟨q, hq, hca⟩ := hcs ci hm
        obtain ⟨q', f0, cellV, f1, f2, f3, -⟩ := g1.obj hq hb
        have hcls := (hX.K.1 ci q hq).2
        obtain ⟨kA, comp, k1, k2, k3, -⟩ := (hX.K.2 t _ ht).2
        have hcl : cD.cls = X.g.2.2.1 t := hAD.2.2.2.2 hg
        rw [hcl] at hkD
        cases hkD.symm.trans k1
        have hkk2 : kD.kind = .array cmD (.object E) := by rw [← htz]; exact hkkD
        cases hkk2.symm.trans k2
        obtain ⟨kC, hkC, -⟩ := hcls.2
        obtain ⟨kE, hkE, -⟩ := Vm.findClass_spec k3
        have hasg : X.s.vm.assignable (X.g.2.1.1 ci) cmD = true := by
          rcases hca with h | h
          · have hcomp : cmD = X.g.2.1.1 ci := Option.some.inj (k3.symm.trans (by rw [← h]; exact hcls.1))
            rw [hcomp]
            exact va_assign hcls
          · obtain ⟨c0', t1, e1, e2, e3⟩ := Cond.castable_spec (va_Nw.use (A := X.a) rfl (va_Nw.warmC hX.2.2.2.2.2.1 (z_nw hX h rfl)))
            cases e1.symm.trans hcls.1
            cases e2.symm.trans k3
            exact e3
        obtain ⟨kC', hkC', -⟩ := hal.2.2 _ _ hkC
        obtain ⟨kE', hkE', -⟩ := hal.2.2 _ _ hkE
        refine ⟨by rw [htz]; rfl, cellV, by show T.heap[b]? = _; rw [hT]; exact f1, (fun k h => by rw [f3] at h; cases h), ⟨kC', by rw [f2]; exact hkC'⟩, ⟨kE', hkE'⟩, ?_⟩
        show vm₁.assignable cellV.cls cmD = true
        rw [hal.assignable, f2]
        exact hasg)
    (g := F0 X.m pc la (.int n :: .int dp :: .ref a :: .int sp :: .ref a0 :: st)) rfl (by rw [hX.2.2.1, ← hsz]; exact g3.1) (rest := st) rfl (by rw [hX.2.1]; exact dc) (by rw [hd.1]; omega) (by rw [hd.2]; exact z_acw hW)
  have hla : a < H.size := (Array.getElem?_eq_some_iff.mp hcD).1
  have hlen : (cS.stretch sp.toNatClampNeg n.toNatClampNeg).length = n.toNatClampNeg := by simp [Cell.stretch]
  have hA2 : zArr X.g a (t, n1, cR) (copied cS cD sp dp n) := by
    obtain ⟨e1, e2, e3, -, -⟩ := cD.storeRun_facts dp.toNatClampNeg (cS.stretch sp.toNatClampNeg n.toNatClampNeg)
    refine ⟨by rw [show (copied cS cD sp dp n).vm = cD.vm from e2]; exact hAD.1, ⟨by rw [show (copied cS cD sp dp n).vm = cD.vm from e2]; exact hAD.2.1.1, by rw [show (copied cS cD sp dp n).cls = cD.cls from e1]; exact hAD.2.1.2⟩, e3.trans hszD, fun j hj => ?_, fun h => (show (copied cS cD sp dp n).cls = cD.cls from e1).trans (hAD.2.2.2.2 h)⟩
    have hj : j < n1 := hj
    show (cD.storeRun dp.toNatClampNeg (cS.stretch sp.toNatClampNeg n.toNatClampNeg)).slots[j]? = _
    rw [Cell.storeRun_get _ _ _ _ (by rw [hlen, hszD]; exact h5), hlen, hres j hj]
    by_cases hin : dp.toNatClampNeg ≤ j ∧ j < dp.toNatClampNeg + n.toNatClampNeg
    · rw [if_pos hin, if_pos hin]
      unfold Cell.stretch
      rw [List.getElem?_map, List.getElem?_range (by omega), Option.map_some, rdS _ (by omega)]
    · rw [if_neg hin, if_neg hin]
      exact hAD.2.2.2.1 j hj
  have hheap : ((T.setVm vm').setCell a (copied cS cD sp dp n)).heap = H.setIfInBounds a (copied cS cD sp dp n) := by rw [← hT]; rfl
  obtain ⟨t9, a1, b1⟩ := kk (H.setIfInBounds a (copied cS cD sp dp n)) _ la (g1.set hg ⟨_, by simp [Array.getElem?_setIfInBounds, hla], hA2⟩ (by simp) (fun q hq => by simp [Array.getElem?_setIfInBounds, Ne.symm hq])) (by
      intro z hz
      rcases List.mem_append.mp hz with h | h
      · exact g2 z h
      · obtain ⟨w, -, hw⟩ := List.mem_map.mp h
        rw [← hw]
        exact hg) g3 g4 g5 _ hheap Z'
  exact ⟨t9, step t9 a1, b1⟩
