/-! STILL MORE ROWS: String constants far off, super calls, several classes' own method, bodies with handlers -/
section ZR3
variable {X : zX} {own : String} {cc : ByteArray} {nL : Nat} {ret : Option FieldType} {pc : Nat} {σ : zS} {ls : List (Option Value)} {st : List Value}
theorem z_ldcwS (hX : zOk X own cc nL ret) {index j : Nat} {tx : String} (d : decode cc pc = .ok (.ldc_w index, 3)) (hq : (own, index, tx, j) ∈ zStrs) (kk : zW X σ (pc + 3) ls (va_rf (some (X.g.2.2.2 j)) :: st)) : zW X σ pc ls st := by
  intro H locs la h1 h2 h3 h4 h5 T hT Z
  have hZ := vk_R.warm hX.2.2.2.2.2.1 (hX.2.2.2.2.2.2.1.2.2.1 _ hq)
  obtain ⟨t, a1, b1⟩ := kk H locs la h1 h2 h3 h4 h5 T hT Z
  refine ⟨t, ?_, b1⟩
  obtain ⟨k, cf, i, a', hk, hcf, hcp, -, hr, hev'⟩ := Cond.stringRef_spec hX.2.2.2.1 hZ.1
  have hev := hZ.2
  cases hev.symm.trans hev'
  obtain ⟨k', hk', he⟩ := Z.warmed.alike.2.2 _ _ hk
  have hr' : k'.resolved[index]? = some (some (.string (X.g.2.2.2 j))) := by
    rcases Z.warmed.entry hk hk' index with h | ⟨h, -⟩
    · rw [h]; exact hr
    · rw [hr] at h; cases h
  have hdg : decode X.c.code pc = .ok (.ldc_w index, 3) := by rw [hX.2.1]; exact d
  have hx := hX.1
  jvm_step Z.here [hx, hdg, ldc_w.wp_string (e := X.e) (s := T) (f := F0 X.m pc la st) Z.here.top hk' (by rw [he]; exact hcf) hcp hr']
  exact a1
/-- a private method of a class that is no interface, through an object of a subclass -/
theorem z_selP (hX : zOk X own cc nL ret) {y x0 y0 : MethodName} {D0 : String} {ci : Nat} {cq : vw_C} (hc : zCl[ci]? = some cq) (hp : Cond.privateMethod y ∈ lw_tbl) (hi : Cond.instanceMethod y ∈ lw_all) (hy : y.cls ≠ "java/lang/invoke/MethodHandle" ∧ y.cls ≠ "java/lang/invoke/VarHandle") (h0 : Cond.selects D0 x0 y0 ∈ lw_all) (e0 : y0.cls = y.cls) : (Cond.selects cq.1 y y).before X.a X.s = true := by
  have hcls := (hX.K.1 ci cq hc).2
  obtain ⟨mk, methM, hnamed, hmethM, -, -⟩ := Cond.instanceMethod_spec (hX.2.2.2.2.1 _ hi)
  have hfound : X.s.methodFound? y.cls y.name y.desc = some mk := State.methodFound?_of_named hnamed hy
  obtain ⟨A, hA, -⟩ := hX.2.2.2.2.2.2.1.2.1
  have hW := hX.2.2.2.2.2.1
  have e1 : (X.g.1.setVm X.s.vm).methodNamed? y = X.g.1.methodNamed? y := State.methodNamed?_setVm hW.alike y
  have hn0 : X.g.1.methodNamed? y = some mk := e1.symm.trans hnamed
  have hm0 : X.g.1.vm.method? mk = some methM := (hW.alike.method? mk).symm.trans hmethM
  have hpr := Cond.privateMethod_at (hA _ hp) mk methM hn0 hm0
  have hsel : selectMethod {} X.s.vm (X.g.2.1.1 ci) mk = .method mk := selectMethod_private hmethM hpr
  obtain ⟨c1, r1, m1, -, -, q3, -, kS, hkS, hkI⟩ := Cond.selects_spec (hX.2.2.2.2.1 _ h0)
  have hcc : m1.cls = mk.cls := Option.some.inj ((findClass_of_methodNamed q3).symm.trans (by rw [e0]; exact findClass_of_methodNamed hnamed))
  rw [hcc] at hkS
  have hfc : X.s.vm.findClass cq.1 = some (X.g.2.1.1 ci) := hcls.1
  simp only [Cond.before, Cond.holds, Cond.value, hfc, hfound, hnamed, hsel, hkS]
  simp; exact hkI
/-- super.m(..) -/
theorem z_invSU (hX : zOk X own cc nL ret) {stk As : List Value} {d : Nat} (hd : zDep X d) {y : MethodName} {bytes : ByteArray} {maxL index : Nat} {rt : Option FieldType} {Q : Option Value → zS → Prop} {Y : Nat → zS → Prop} {r : Option Nat} {b : Nat} (hr : r = some b) {ci : Nat} {cq : vw_C} {fs : List Value} (hc : zCl[ci]? = some cq) (hb : σ.1 b = some (.inr (ci, fs))) (dc : decode cc pc = .ok (.invokespecial index, 3)) (hM : zMet X.l X.g d (y, Cond.code y bytes maxL rt) (.ref b :: As) σ Q Y) (hl : Cond.methodLink own index y ∈ lw_all) (hsm : Cond.sameMethod y.cls y.cls y.name y.desc ∈ lw_all) (hsup : Cond.superclass own y.cls ∈ lw_all) (hin : Cond.instanceMethod y ∈ lw_all) (hno : y.name ≠ "<init>") (hco : Cond.code y bytes maxL rt ∈ lw_all) (hini : Cond.initialized y.cls ∈ lw_all) {n : Nat} (hn : (parseMethodDescriptor y.desc).map (fun d => d.parameters.length) = some n) (hA : As.length = n) (hml : maxL ≤ 20) (hs : stk = As.reverse ++ va_rf r :: st) (hW : (st.map fun v => v.category).sum ≤ 8) (hsz : ls.length = nL) (kk : ∀ v σ', Q v σ' → zW X σ' (pc + 3) ls (v.toList ++ st)) (kx : ∀ q σ', Y q σ' → zT X σ' pc ls q) : zW X σ pc ls stk := by
  subst hr
  intro H locs la h1 h2 h3 h4 h5 T hT Z
  have hK := zback (len := 3) hX hM h4 h5 hd.1 hd.2 hco zNl_code hml hini
  obtain ⟨q9, g0, cellV, g1, g2, g3, -⟩ := h1.obj hc hb
  obtain ⟨kC, hkC, -⟩ := (hX.K.1 ci cq hc).2.2
  exact z_use h3 (vx_callSU Z hX.1 hX.2.2.2.1 (hX.2.2.2.2.1 _ hl) (hX.2.2.2.2.1 _ hsm) (hX.2.2.2.2.1 _ hsup) (hX.2.2.2.2.1 _ hin) (hX.2.2.2.2.1 _ hco) hno hK (by rw [hT]; exact g1) (by rw [g3]; rfl) (by rw [g2]; exact hkC) rfl (by rw [hX.2.2.1, ← hsz]; exact h3.1) (argsL := As) (rest := st) (zlen (hA ▸ hn)) hs (by show 2 * 0 + _ ≤ 8; omega) (by rw [hX.2.1]; exact dc) (fun vm₁ hW₁ => ⟨rfl, by show zHp X.g σ T.heap; rw [hT]; exact h1, h2, rfl, rfl⟩)) kk kx
/-- out of a method with handlers, at a place that none covers -/
theorem zoutH {Qr : zQ} {Xr : zY} {hh : List (Nat × Nat × Nat × Nat)} (hX : zOk X own cc nL ret) (hR : zR X Qr Xr) (hT : X.c.exceptionTable.toList = tableOf hh) (hcv : ∀ x ∈ tableOf hh, covers x pc = false) : ∀ q s, Xr q s → zT X s pc ls q := fun _ _ h => z_out hX hR (fun x hx => hcv x (by rw [← hT]; exact hx)) h
end ZR3
/-- THE ENTRY of a method with handlers -/
theorem zofW {l : Launch} {g : zG} {d : Nat} {y : MethodName} {cc : ByteArray} {nL : Nat} {ret : Option FieldType} {hh : List (Nat × Nat × Nat × Nat)} {args : List Value} {σ : zS} {Qr : Option Value → zS → Prop} {Xr : Nat → zS → Prop} {ls : List (Option Value)} (hG : zGk g) (hy : plainName y.cls = true) (bs : List Bool) (hcat : zcats bs args) (hlen : (zargs bs args).length ≤ nL) (hls : zargs bs args ++ List.replicate (nL - (zargs bs args).length) none = ls)
    (body : ∀ X : zX, zOk X y.cls cc nL ret → zR X Qr Xr → X.c.exceptionTable.toList = tableOf hh → X.R.frames = d → X.R.locals = 60000 + 40 * d → X.l = l → X.g = g → X.k.name = y.name → zW X σ 0 ls []) : zMet l g d (y, Cond.codeWith y cc nL ret hh) args σ Qr Xr := by
  refine MetFree.of_bodyS (code := cc) (maxLocals := nL) (ret := ret) hy ?_ ?_
  · intro args s m h hn
    obtain ⟨m9, meth, c, hn9, h1, h2, h3, h4, -, h5, h6, -⟩ := Cond.codeWith_spec (atoms_spec (ws := Cond.codeWith y cc nL ret hh :: lw_all) h _ List.mem_cons_self)
    cases hn.symm.trans hn9
    exact ⟨meth, c, h1, h2, h3, h4, h5, h6⟩
  · intro p e s m args' below meth c s₁ B hml hP _
    obtain ⟨rfl, hH, hWm⟩ := hP
    have hh0 : s₁.heap = s.heap := by rw [B.state]; rfl
    have hts := atoms_spec (ws := Cond.codeWith y cc nL ret hh :: lw_all) B.pre
    have ht : c.exceptionTable.toList = tableOf hh := vx_table (x := y) B (hts _ List.mem_cons_self)
    have hnm : meth.name = y.name := (name_of_methodNamed B.named B.method).1
    have K := body (p, l, e, zrm d σ, s, m, args.toArray, below, meth, c, g, (σ.2.2.1, σ.2.2.2), zGoal g σ Qr Xr s below)
      ⟨B.exec, B.bytes, hml, findClass_of_methodNamed B.named, fun w hw => hts w (List.mem_cons_of_mem _ hw), hWm, hG, B.notSynchronized, B.returns, rfl, rfl⟩ ⟨σ, rfl, rfl⟩ ht rfl rfl rfl rfl hnm
    have hl0 : (lg_sl args).length ≤ nL := by rw [← zargs_len bs args hcat]; exact hlen
    have hloc : zLoc ((lg_sl args ++ List.replicate (nL - (lg_sl args).length) Slot.unset).toArray) ls := by
      have h9 := lv_entry args (n := nL) hl0
      subst hls
      refine ⟨?_, h9.2.1, fun q hq => ?_⟩
      · rw [h9.1, List.length_append, List.length_replicate]; omega
      · rw [zlF_app, zlF_none, List.append_nil] at hq
        exact h9.2.2 q (zargs_mem bs args 0 hcat q hq)
    have K2 := K s.heap [] _ hH (fun _ h => by cases h) hloc (Nat.le_refl _) (Nat.le_refl _)
    rw [show ((σ.2.2.1, σ.2.2.2) : Nat × Nat).1 - σ.2.2.1 = 0 from Nat.sub_self _, show ((σ.2.2.1, σ.2.2.2) : Nat × Nat).2 - σ.2.2.2 = 0 from Nat.sub_self _] at K2
    obtain ⟨t, a1, o, b1, b2, b3⟩ := K2 s₁ hh0 (Stand.of_body B)
    rw [lg_entry_eq]
    exact ⟨t, o, a1, b1, b2, b3⟩
