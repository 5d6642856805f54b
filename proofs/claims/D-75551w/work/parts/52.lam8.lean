section ZL8
variable {X : zX} {own : String} {cc : ByteArray} {nL : Nat} {ret : Option FieldType} {pc : Nat} {σ : zS} {ls : List (Option Value)} {st : List Value}
theorem z_dynM (hX : zOk X own cc nL ret) {d : Nat} (hd : zDep X d) (hN : X.s.methodNamed? ⟨"PackingDuel$State", "newMeasures", "(LPackingDuel$Sums;)[LPackingDuel$Measure;"⟩ = some X.m) {j index : Nat} {sh : Lambda.Shape} {D : ClassFile} {fw : Method} {laid : Array Field × Array FieldType × Array FieldType} {bytes : ByteArray} (hfile : sh.file "PackingDuel$State" = some D) (hsec : ((layoutMethods D).bind (·[1]?)) = some fw) (hlaid : layoutFields D 0 = some laid) (hcode : (fw.code.map fun c => (c.code.data, c.maxLocals)) = some (bytes.data, 2)) (hfl : (fw.accessFlags, fw.name, fw.sig.returnType) = (0x0001, "of", some FieldType.int)) (himpl : sh.implClass = "PackingDuel$State") (hO : Cond.instantiable "java/lang/Object" 0 ∈ lw_all)
    (hsite : zSites[j]? = some (Cond.lambdaSite ⟨"PackingDuel$State", "newMeasures", "(LPackingDuel$Sums;)[LPackingDuel$Measure;"⟩ pc index sh)) (hjn : zCl[64 + j]? = none) {vals : List Value} (hcap : sh.captured.length = vals.length) (hne : sh.captured ≠ []) (hnar : ((laid.2.1.toList.zip vals).map fun (t, v) => narrow t v) = vals) (hfit : ∀ (i : Nat) (v : Value), vals.toArray[i]? = some v → ∃ t, laid.2.1[i]? = some t ∧ fits t v = true) (dc : decode cc pc = .ok (.invokedynamic index, 5)) (hsz : ls.length = nL) (hW : ((vals.reverse ++ st).map fun v => v.category).sum ≤ 12) (hb : 1 ≤ σ.2.2.1) (hs : vals.length ≤ σ.2.2.2)
    (kk : σ.1 σ.2.1 = none → zW X (zup σ.1 σ.2.1 (.inr (64 + j, vals)), σ.2.1 + 1, σ.2.2.1 - 1, σ.2.2.2 - vals.length) (pc + 5) ls (va_rf (some σ.2.1) :: st)) : zW X σ pc ls (vals.reverse ++ st) := by
  intro H locs la h1 h2 h3 h4 h5 T hT Z
  obtain ⟨m0, dk, hdk, hdn, hmade0, -⟩ := z_lamAt hX hsite
  have hO9 : ∀ o ok, X.s.vm.findClass "java/lang/Object" = some o → X.s.vm.classes[o]? = some ok → ok.instanceTypes.size = 0 := by
    intro o ok ho hok
    obtain ⟨c9, k9, e1, e2, -, -, -, e3⟩ := Cond.instantiable_spec (hX.2.2.2.2.1 _ hO)
    cases ho.symm.trans e1
    cases hok.symm.trans e2
    exact e3
  obtain ⟨kB, tk, file, methk, ck, stc, t, hkB, -, -, -, -, -, -, -, -, -, -, -, -, -, -, -, -, -, hty, hkind⟩ := zmade hfile hsec hlaid hcode hfl himpl hdk hdn hmade0 hO9
  obtain ⟨one, hat, hone⟩ : zLamOk X.g _ j := hX.2.2.2.2.2.2.1.2.2.2.2.2.2.2 j _ hsite
  obtain ⟨m, k, cf, i0, p0, l, hm, hk, hcf, hshape, -, hfind, hmade, hcall, hl⟩ := State.lambdaAt?_spec hat
  have hm' : X.s.methodNamed? ⟨"PackingDuel$State", "newMeasures", "(LPackingDuel$Sums;)[LPackingDuel$Measure;"⟩ = some m := by
    have := State.methodNamed?_setVm (s := X.g.1) hX.2.2.2.2.2.1.alike ⟨"PackingDuel$State", "newMeasures", "(LPackingDuel$Sums;)[LPackingDuel$Measure;"⟩
    rw [hm] at this
    exact this
  cases hN.symm.trans hm'
  obtain ⟨k', hk', he⟩ := hX.2.2.2.2.2.1.alike.2.2 _ _ hk
  rcases hl with ⟨a, cell, -, -, hc0, -, -, -, -⟩ | ⟨rfl, -, -⟩
  · exact absurd hc0 hne
  obtain ⟨bb, nt, desc, site, s1, s2, s3, s4⟩ := zsite hshape
  have hslots : ((kB.instanceTypes.toList.zip vals).map fun (t, v) => narrow t v) = vals := by rw [hty]; exact hnar
  obtain ⟨Z1, step⟩ := Z.lambdaMakes hX.1 (g := F0 X.m pc la (vals.reverse ++ st)) rfl (by rw [hX.2.2.1, ← hsz]; exact h3.1) (index := index) (by rw [hX.2.1]; exact dc) (k := k') (kc := kB) (vals := vals) (rest := st) hk' (by rw [he]; exact hfind) (by rw [he]; exact hcf) s1 s2 (parseLong_of_parse s3) (by rw [s4]; exact hcap.symm) rfl hkB
    (by rw [z_llw Z.admits, hd.2]; show 2 * 0 + ((vals.reverse ++ st).map fun v => v.category).sum + 3072 ≤ _; omega) (by rw [hX.2.2.2.2.2.2.2.2.2.1]; omega) (by rw [hslots, hX.2.2.2.2.2.2.2.2.2.2]; omega)
    (fun i v hv => by
      rw [hslots] at hv
      obtain ⟨ty, e1, e2⟩ := hfit i v hv
      simp [State.fitsSlot, State.slotType?, hkB, hkind, hty, e1, e2])
  rw [hslots] at Z1 step
  rw [show X.z.1 - σ.2.2.1 + 1 = X.z.1 - (σ.2.2.1 - 1) by omega, show X.z.2 - σ.2.2.2 + vals.toArray.size = X.z.2 - (σ.2.2.2 - vals.length) by simp; omega] at Z1
  generalize hH1 : H.push ({ cls := X.g.2.2.1 (164 + j), slots := vals.toArray, vm := .none } : Cell) = H1
  have z1 : H1.size = H.size + 1 := by rw [← hH1, Array.size_push]
  have e1 : H1[H.size]? = some ({ cls := X.g.2.2.1 (164 + j), slots := vals.toArray, vm := .none } : Cell) := by rw [← hH1, Array.getElem?_push_size]
  have o1 : ∀ q : Nat, q < H.size → H1[q]? = H[q]? := fun q hq => by rw [← hH1, Array.getElem?_push, if_neg (Nat.ne_of_lt hq)]
  obtain ⟨t9, a1, b1⟩ := kk h1.fresh H1 locs la (h1.push (e := .inr (64 + j, vals)) (Or.inr ⟨hjn, by rw [← h1.2.1, e1, show 64 + j + 100 = 164 + j by omega]⟩) z1 o1 _ _) h2 h3 (by show σ.2.2.1 - 1 ≤ _; omega) (by show σ.2.2.2 - vals.length ≤ _; omega) _ (by rw [← hH1, ← hT]; rfl) Z1
  refine ⟨t9, step t9 ?_, b1⟩
  rw [hT, h1.2.1]
  exact a1
end ZL8
