section ZL9
variable {X : zX} {own : String} {cc : ByteArray} {nL : Nat} {ret : Option FieldType} {pc : Nat} {σ : zS} {ls : List (Option Value)} {st : List Value}
/-- a lambda's object into an array of Measures -/
theorem z_aastL (hX : zOk X own cc nL ret) {j pcS ixS : Nat} {sh : Lambda.Shape} (hsite : zSites[j]? = some (Cond.lambdaSite ⟨"PackingDuel$State", "newMeasures", "(LPackingDuel$Sums;)[LPackingDuel$Measure;"⟩ pcS ixS sh)) (hif : sh.iface = "PackingDuel$Measure") (hjn : zCl[64 + j]? = none) {r v : Option Nat} {a n b : Nat} {caps : List Value} {f : Nat → Option Nat} {i : Int32} (d : decode cc pc = .ok (.aastore, 1)) (hr : r = some a) (hg : X.g.1.heap.size ≤ a) (ha : σ.1 a = some (.inl (7, n, .inr (.inr (.inr (.inr f)))))) (hin : vp_in i n) (hv : v = some b) (hvb : σ.1 b = some (.inr (64 + j, caps))) (kk : zW X (zup σ.1 a (.inl (7, n, .inr (.inr (.inr (.inr (va_up f i.toNatClampNeg v)))))), σ.2) (pc + 1) ls st) : zW X σ pc ls (va_rf v :: .int i :: va_rf r :: st) := by
  subst hr
  subst hv
  intro H locs la h1 h2 h3 h4 h5
  have hlt : i.toNatClampNeg < n := Nat.not_le.mp fun q => hin (Or.inr q)
  have h0 : ¬ i < 0 := fun q => hin (Or.inl q)
  have hcellV : H[b]? = some ({ cls := X.g.2.2.1 (164 + j), slots := caps.toArray, vm := .none } : Cell) := by
    rcases h1.1 b _ hvb with h | ⟨-, h⟩
    · obtain ⟨q, hq, -⟩ := h
      cases hjn.symm.trans hq
    · rw [show 64 + j + 100 = 164 + j by omega] at h
      exact h
  obtain ⟨m0, dk, hdk, hdn, hmade, hcan⟩ := z_lamAt hX hsite
  obtain ⟨iL, hiL, hasg, -⟩ := State.lambdaCallable_spec hcan
  rw [hif] at hiL
  obtain ⟨kA, comp, k1, k2, k3, -⟩ := (hX.K.2 7 _ rfl).2
  obtain ⟨kE, hkE, -⟩ := Vm.findClass_spec k3
  cases hiL.symm.trans k3
  obtain ⟨dk', k, ok, tk, file, cf, object, iface, stc, lay, methods, target, found, -, hkC, -⟩ := Lambda.isMade_spec hmade
  obtain ⟨cell, hcc, hA⟩ := h1.arr ha
  have hcl : cell.cls = X.g.2.2.1 7 := hA.2.2.2.2 hg
  exact W.aast hX.1 hX.2.1 hcc hA.2.1.1 hA.1 (by rw [hcl]; exact k1) k2 rfl hkE ⟨h0, by rw [show cell.slots.size = n from hA.2.2.1]; exact hlt⟩ hcellV (fun q h => by cases h) hkC hasg rfl rfl d fun H1 e z oq => z_ast (c' := .inr (.inr (.inr (.inr (va_up f i.toNatClampNeg (some b)))))) hX h1 h2 h3 h4 h5 hg hA (fun q _ => z_upv f _ (some b) va_rf q) e z oq kk
end ZL9
