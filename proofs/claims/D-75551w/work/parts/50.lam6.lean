/-! LAMBDAS: invokedynamic, and stores into an array of Measures -/
theorem zofN {l : Launch} {g : zG} {d : Nat} {y : MethodName} {cc : ByteArray} {nL : Nat} {ret : Option FieldType} {args : List Value} {σ : zS} {Qr : Option Value → zS → Prop} {Xr : Nat → zS → Prop} {ls : List (Option Value)} (hG : zGk g) (hy : plainName y.cls = true) (bs : List Bool) (hcat : zcats bs args) (hlen : (zargs bs args).length ≤ nL) (hls : zargs bs args ++ List.replicate (nL - (zargs bs args).length) none = ls)
    (body : ∀ X : zX, zOk X y.cls cc nL ret → zR X Qr Xr → (∀ x ∈ X.c.exceptionTable.toList, False) → X.R.frames = d → X.R.locals = 60000 + 40 * d → X.l = l → X.g = g → X.k.name = y.name → X.s.methodNamed? y = some X.m → zW X σ 0 ls []) : zMet l g d (y, Cond.code y cc nL ret) args σ Qr Xr := by
  refine MetFree.of_bodyS (code := cc) (maxLocals := nL) (ret := ret) hy ?_ ?_
  · intro args s m h hn
    obtain ⟨meth, c, h1, h2, h3, h4, h5, h6, -, -⟩ := Cond.code_spec hn (atoms_spec (ws := Cond.code y cc nL ret :: lw_all) h _ List.mem_cons_self)
    exact ⟨meth, c, h1, h2, h3, h4, h5, h6⟩
  · intro p e s m args' below meth c s₁ B hml hP _
    obtain ⟨rfl, hH, hWm⟩ := hP
    have hh0 : s₁.heap = s.heap := by rw [B.state]; rfl
    have hts := atoms_spec (ws := Cond.code y cc nL ret :: lw_all) B.pre
    have ht : ∀ x ∈ c.exceptionTable.toList, False := by
      obtain ⟨meth9, c9, h1, h2, -, -, -, -, h7, -⟩ := Cond.code_spec B.named (hts _ List.mem_cons_self)
      cases Option.some.inj (h1.symm.trans B.method)
      cases Option.some.inj (h2.symm.trans (Stand.of_body B).code)
      intro x hx
      rw [Array.isEmpty_iff.mp h7] at hx
      cases hx
    have hnm : meth.name = y.name := (name_of_methodNamed B.named B.method).1
    have K := body (p, l, e, zrm d σ, s, m, args.toArray, below, meth, c, g, (σ.2.2.1, σ.2.2.2), zGoal g σ Qr Xr s below)
      ⟨B.exec, B.bytes, hml, findClass_of_methodNamed B.named, fun w hw => hts w (List.mem_cons_of_mem _ hw), hWm, hG, B.notSynchronized, B.returns, rfl, rfl⟩ ⟨σ, rfl, rfl⟩ ht rfl rfl rfl rfl hnm B.named
    have hl0 : (lg_sl args).length ≤ nL := by rw [← zargs_len bs args hcat]; exact hlen
    have hloc : zLoc ((lg_sl args ++ List.replicate (nL - (lg_sl args).length) Slot.unset).toArray) ls := by
      have h9 := lv_entry args (n := nL) hl0
      subst hls
      refine ⟨?_, h9.2.1, fun q hq => ?_⟩
      · rw [h9.1, List.length_append, List.length_replicate]; omega
      · rw [zlF_app, zlF_none, List.append_nil] at hq
        exact h9.2.2 q (zargs_mem bs args 0 hcat q hq)
    have K2 := K s.heap [] _ hH (fun _ h => by cases h) hloc (Nat.le_refl _) (Nat.le_refl _)
    rw [show ((σ.2.2.1, σ.2.2.2) : Nat × Nat).1 - σ.2.2.1 = 0 from Nat.sub_self _, show ((σ.2.2.1, σ.2.2.2) : Nat × Nat).2 - σ.2.2.2 = 0 from Nat.sub_self _] at K2
    obtain ⟨t, a1, o, b1, b2, b3⟩ := K2 s₁ hh0 (Stand.of_body B)
    rw [lg_entry_eq]
    exact ⟨t, o, a1, b1, b2, b3⟩

section ZL6
variable {X : zX} {own : String} {cc : ByteArray} {nL : Nat} {ret : Option FieldType} {pc : Nat} {σ : zS} {ls : List (Option Value)} {st : List Value}
theorem z_llw {l : Launch} {e : Env} (h : l.admits e) : e.platform.lambdaLinkWords = 3072 := by rw [h.platform]
theorem z_dyn0 (hX : zOk X own cc nL ret) {d : Nat} (hd : zDep X d) (hN : X.s.methodNamed? ⟨"PackingDuel$State", "newMeasures", "(LPackingDuel$Sums;)[LPackingDuel$Measure;"⟩ = some X.m) {j index : Nat} {sh : Lambda.Shape} (hsite : zSites[j]? = some (Cond.lambdaSite ⟨"PackingDuel$State", "newMeasures", "(LPackingDuel$Sums;)[LPackingDuel$Measure;"⟩ pc index sh)) (hcap : sh.captured = []) (dc : decode cc pc = .ok (.invokedynamic index, 5)) (hsz : ls.length = nL) (hW : (st.map fun v => v.category).sum ≤ 8) (kk : zW X σ (pc + 5) ls (va_rf (some (X.g.2.2.2 (70 + j))) :: st)) : zW X σ pc ls st := by
  intro H locs la h1 h2 h3 h4 h5 T hT Z
  obtain ⟨one, hat, hone⟩ : zLamOk X.g _ j := hX.2.2.2.2.2.2.1.2.2.2.2.2.2.2 j _ hsite
  obtain ⟨m, k, cf, i0, p0, l, hm, hk, hcf, -, -, hfind, hmade, hcall, hl⟩ := State.lambdaAt?_spec hat
  have hm' : X.s.methodNamed? ⟨"PackingDuel$State", "newMeasures", "(LPackingDuel$Sums;)[LPackingDuel$Measure;"⟩ = some m := by
    have := State.methodNamed?_setVm (s := X.g.1) hX.2.2.2.2.2.1.alike ⟨"PackingDuel$State", "newMeasures", "(LPackingDuel$Sums;)[LPackingDuel$Measure;"⟩
    rw [hm] at this
    exact this
  cases hN.symm.trans hm'
  obtain ⟨k', hk', he⟩ := hX.2.2.2.2.2.1.alike.2.2 _ _ hk
  rcases hl with ⟨a, cell, rfl, rfl, -, -, -, -, -⟩ | ⟨-, -, hc⟩
  · obtain rfl := hone a rfl
    obtain ⟨t9, a1, b1⟩ := kk H locs la h1 h2 h3 h4 h5 T hT Z
    refine ⟨t9, Z.lambdaConstant hX.1 (g := F0 X.m pc la st) rfl (by rw [hX.2.2.1, ← hsz]; exact h3.1) (index := index) (by rw [hX.2.1]; exact dc) (k := k') (i0 := i0) (p0 := p0) hk' (by rw [he]; exact hfind) (by rw [z_llw Z.admits, hd.2]; show 2 * 0 + (st.map fun v => v.category).sum + 3072 ≤ _; omega) a1, b1⟩
  · exact absurd hcap hc
end ZL6
