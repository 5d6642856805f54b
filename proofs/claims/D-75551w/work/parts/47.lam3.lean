/-! LAMBDAS: a call of Measure.of on a lambda's object -/
section ZL3
variable {X : zX} {own : String} {cc : ByteArray} {nL : Nat} {ret : Option FieldType} {pc : Nat} {σ : zS} {ls : List (Option Value)} {st : List Value}
theorem z_lamAt (hX : zOk X own cc nL ret) {j pcS ixS : Nat} {sh : Lambda.Shape} (hsite : zSites[j]? = some (Cond.lambdaSite ⟨"PackingDuel$State", "newMeasures", "(LPackingDuel$Sums;)[LPackingDuel$Measure;"⟩ pcS ixS sh)) :
    ∃ (m0 : ClassId) (dk : Class), X.s.vm.classes[m0]? = some dk ∧ dk.name = "PackingDuel$State" ∧ Lambda.isMade { classPath := fun _ => none } X.s.vm m0 sh (X.g.2.2.1 (164 + j)) = true ∧ X.s.lambdaCallable sh (X.g.2.2.1 (164 + j)) = true := by
  obtain ⟨one, hat, -⟩ : zLamOk X.g _ j := hX.2.2.2.2.2.2.1.2.2.2.2.2.2.2 j _ hsite
  obtain ⟨m, k, cf, i0, p0, l, hm, hk, -, -, -, -, hmade, hcall, -⟩ := State.lambdaAt?_spec hat
  obtain ⟨kY, hkY, hnY⟩ := className_of_methodNamed hm
  obtain ⟨k', hk', he⟩ := hX.2.2.2.2.2.1.alike.2.2 _ _ hkY
  refine ⟨m.cls, k', hk', by rw [he]; exact hnY, Lambda.isMade_warmer hX.2.2.2.2.2.1 hmade, ?_⟩
  have hA := hX.2.2.2.2.2.1.alike
  simp only [State.lambdaCallable, hA.findClass, hA.assignable, hA.superclasses, hA.declaredIn] at hcall ⊢
  exact hcall
theorem z_lamSel {s : State} {m0 c : ClassId} {sh : Lambda.Shape} (hmade : Lambda.isMade { classPath := fun _ => none } s.vm m0 sh c = true) (hif : sh.iface = "PackingDuel$Measure") (hnm : sh.name = "of") (hsam : sh.sam.toString = "(I)I") {r0 : MethodId} {cL : ClassId} {kL : Class} (hcL : s.vm.findClass "PackingDuel$Measure" = some cL) (hkL : s.vm.classes[cL]? = some kL) (hiL : kL.isInterface = true) (hr : s.methodFound? "PackingDuel$Measure" "of" "(I)I" = some r0) : selectMethod {} s.vm c r0 = .method ⟨c, 1⟩ := by
  obtain ⟨dk', k, ok, tk, file, cf, object, iface, st, lay, methods, target, found, -, -, -, -, -, hi, -, -, -, -, -, -, hf, -, -, -, -, -, -, -, -, -, -, hsel⟩ := Lambda.isMade_spec hmade
  rw [hif, hcL] at hi
  cases hi
  rw [hnm, hsam] at hf
  have hfound : found = r0 := by
    simp only [State.methodFound?, hcL, hkL, Option.bind_eq_bind, Option.bind_some, hiL, hf] at hr
    cases hr
    rfl
  rw [← hfound]
  exact hsel
end ZL3
theorem z_ifm {X : zX} {own : String} {cc : ByteArray} {nL : Nat} {ret : Option FieldType} (hX : zOk X own cc nL ret) {C n f : String} (hx : C ≠ "java/lang/invoke/MethodHandle" ∧ C ≠ "java/lang/invoke/VarHandle") (hde : Cond.declares ⟨C, n, f⟩ ∈ lw_tbl) (hfa : Cond.interfaceMethod C C n f ∈ lw_tbl) : (Cond.interfaceMethod C C n f).before X.a X.s = true := by
  have h1 : va_Nw (.declares ⟨C, n, f⟩) X.g.1 := z_nw hX hde rfl
  have h2 : va_Nw (.interfaceMethod C C n f) X.g.1 := z_nw hX hfa rfl
  obtain ⟨r, meth, hn, -⟩ := Cond.declares_spec h1
  refine va_Nw.use (w := .interfaceMethod C C n f) rfl ?_
  exact va_tabs rfl (rfl : (X.g.1.setVm X.s.vm).vm = X.s.vm) (by rw [Cond.interfaceMethod_setVm hX.2.2.2.2.2.1.alike (r := r) hn hx]; exact h2)
/-- what a walk of a made class's frame asks of the tables -/
def zMF (vm : Vm) (c : ClassId) (D : ClassFile) (laid : Array Field × Array FieldType × Array FieldType) (sh : Lambda.Shape) (t : MethodId) : Prop := ∃ (k tk : Class) (file : ClassFile) (st : ClassId), vm.classes[c]? = some k ∧ k.cf = some file ∧ file.constantPool = D.constantPool ∧ vm.findClass "PackingDuel$State" = some st ∧ vm.classes[st]? = some tk ∧ tk.isInterface = sh.implItf ∧ ((methodIn st sh.implName sh.implDesc.toString tk.isInterface none).ask { classPath := fun _ => none } vm).1 = .ok t ∧
      (∀ i ci nt, D.constantPool[i]? = some (.methodref ci nt) → D.constantPool.className? ci = some "PackingDuel$State" → D.constantPool.nameAndType? nt = some (sh.implName, sh.implDesc.toString) → vm.methodReady c i t) ∧
      (∀ i n, D.constantPool[i]? = some (.class_ n) → D.constantPool.string? n = some "PackingDuel$State" → i ≠ D.thisClass → vm.classReady c i st) ∧
      (∀ i ci nt name desc j f, D.constantPool[i]? = some (.fieldref ci nt) → D.constantPool.nameAndType? nt = some (name, desc) → laid.1.findIdx? (·.name == name) = some j → laid.1[j]? = some f → vm.fieldReady c i c f)
section ZL4
variable {X : zX} {own : String} {cc : ByteArray} {nL : Nat} {ret : Option FieldType} {pc : Nat} {σ : zS} {ls : List (Option Value)} {st : List Value}
theorem z_invL0 (hX : zOk X own cc nL ret) {d : Nat} (hd : zDep X (d + 1)) {index count : Nat} {r : Option Nat} {b : Nat} {x : Int32} {j pcS ixS : Nat} {sh : Lambda.Shape} {D : ClassFile} {fw : Method} {laid : Array Field × Array FieldType × Array FieldType} {bytes : ByteArray} (hfile : sh.file "PackingDuel$State" = some D) (hsec : ((layoutMethods D).bind (·[1]?)) = some fw) (hlaid : layoutFields D 0 = some laid) (hcode : (fw.code.map fun c => (c.code.data, c.maxLocals)) = some (bytes.data, 2)) (hfl : (fw.accessFlags, fw.name, fw.sig.returnType) = (0x0001, "of", some FieldType.int)) (himpl : sh.implClass = "PackingDuel$State")
    (hsite : zSites[j]? = some (Cond.lambdaSite ⟨"PackingDuel$State", "newMeasures", "(LPackingDuel$Sums;)[LPackingDuel$Measure;"⟩ pcS ixS sh)) (hif : sh.iface = "PackingDuel$Measure") (hnm : sh.name = "of") (hsam : sh.sam.toString = "(I)I") (hO : Cond.instantiable "java/lang/Object" 0 ∈ lw_all)
    (hr : r = some b) {caps : List Value} (hjn : zCl[64 + j]? = none) (hb : σ.1 b = some (.inr (64 + j, caps))) (dc : decode cc pc = .ok (.invokeinterface index count, 5)) (hl : Cond.methodLink own index ⟨"PackingDuel$Measure", "of", "(I)I"⟩ ∈ lw_all) (hde : Cond.declares ⟨"PackingDuel$Measure", "of", "(I)I"⟩ ∈ lw_tbl) (hfa : Cond.interfaceMethod "PackingDuel$Measure" "PackingDuel$Measure" "of" "(I)I" ∈ lw_tbl)
    {y : MethodName} {w : Cond} {maxL : Nat} {iargs : List Value} {K : Int32 → zS → Prop} (hM : zMet X.l X.g d (y, w) iargs σ (zqI K) (fun _ _ => False)) (hw : w ∈ lw_all) (hnl : zNl y w maxL) (hml : maxL ≤ 20) (hini : Cond.initialized y.cls ∈ lw_all) (hyn : ∀ U : State, X.s.WarmedH U.vm → ∃ t, U.methodNamed? y = some t)
    {pcC : Nat} {ig2 : Instr} (hd2 : decode bytes pcC = .ok (ig2, 3)) (hd3 : decode bytes (pcC + 3) = .ok (.ireturn, 1))
    (hgo : ∀ (U : State) (mk t : MethodId) (ck : Code) (gf : JFrame), ck.code = bytes → zMF U.vm mk.cls D laid sh t → U.heap[b]? = some ({ cls := X.g.2.2.1 (164 + j), slots := caps.toArray, vm := .none } : Cell) → zHp X.g σ U.heap → X.s.WarmedH U.vm → U.methodNamed? y = some t → X.l.admits X.e → At U mk ck (.java gf :: X.b) → ∀ target, (∀ acts, Steps X.p.tables X.e (.java gf :: X.b) (doInvoke X.e (U.setTop { method := mk, pc := pcC, locals := #[.val (.ref b), .val (.int x)], stack := [], locked := none }) acts t iargs.toArray).1 target) → Steps X.p.tables X.e (.java gf :: X.b) (U.setTop { method := mk, pc := 0, locals := #[.val (.ref b), .val (.int x)], stack := [], locked := none }) target)
    (hyq : ∀ U : State, ∀ t, U.methodNamed? y = some t → U.methodFound? "PackingDuel$State" sh.implName sh.implDesc.toString = some t)
    (hsz : ls.length = nL) (hW : (st.map fun v => v.category).sum ≤ 8) (kk : ∀ v σ', K v σ' → zW X σ' (pc + 5) ls (.int v :: st)) : zW X σ pc ls (.int x :: va_rf r :: st) := by
  subst hr
  intro H locs la h1 h2 h3 h4 h5 T hT Z
  obtain ⟨m0, dk, hdk, hdn, hmade, hcan⟩ := z_lamAt hX hsite
  have hcell : T.heap[b]? = some ({ cls := X.g.2.2.1 (164 + j), slots := caps.toArray, vm := .none } : Cell) := by
    rw [hT]
    rcases h1.1 b _ hb with h | ⟨-, h⟩
    · obtain ⟨q, hq, -⟩ := h
      cases hjn.symm.trans hq
    · rw [show 64 + j + 100 = 164 + j by omega] at h
      exact h
  have hdecl : (Cond.declares ⟨"PackingDuel$Measure", "of", "(I)I"⟩).before X.a X.s = true := va_Nw.use rfl (va_Nw.warmD hX.2.2.2.2.2.1 (z_nw hX hde rfl))
  have hFw : (Cond.interfaceMethod "PackingDuel$Measure" "PackingDuel$Measure" "of" "(I)I").before X.a X.s = true := z_ifm hX (by decide) hde hfa
  obtain ⟨r0, rm, hn, hrm, hstR, hsigR⟩ := Cond.declares_spec hdecl
  obtain ⟨cL, kL, r1, hcL, hkL, hiL, hfoundL, hn1⟩ := Cond.interfaceMethod_spec hFw
  cases hn.symm.trans hn1
  have hr0cls : r0.cls = cL := Option.some.inj ((findClass_of_methodNamed hn).symm.trans hcL)
  obtain ⟨hnameR, hdescR⟩ := name_of_methodNamed hn hrm
  have hO9 : ∀ o ok, X.s.vm.findClass "java/lang/Object" = some o → X.s.vm.classes[o]? = some ok → ok.instanceTypes.size = 0 := by
    intro o ok ho hok
    obtain ⟨c9, k9, e1, e2, -, -, -, e3⟩ := Cond.instantiable_spec (hX.2.2.2.2.1 _ hO)
    cases ho.symm.trans e1
    cases hok.symm.trans e2
    exact e3
  obtain ⟨kB, tk, file, methk, ck, stc, t, hkB, hkn, hfk, hpool, hmk, hck, hbytes, hml2, hlk, hflk, hretk, hst1, hst2, hst3, hask, hM1, hM2, hM3, -, -⟩ := zmade hfile hsec hlaid hcode hfl himpl hdk hdn hmade hO9
  obtain ⟨iL, hiL2, hasg, hway⟩ := State.lambdaCallable_spec hcan
  rw [hif, hcL] at hiL2
  cases hiL2
  have hselP : selectMethod X.e.platform X.s.vm (X.g.2.2.1 (164 + j)) r0 = .method ⟨X.g.2.2.1 (164 + j), 1⟩ := by rw [Launch.admits_selectMethod Z.admits]; exact z_lamSel hmade hif hnm hsam hcL hkL hiL hfoundL
  obtain ⟨vm₁, X₁, hstep₁⟩ := Z.invokeinterface hX.1 hX.2.2.2.1 (hX.2.2.2.2.1 _ hl) hn hrm hstR (by rw [hr0cls]; exact hkL) hiL (by decide) (a := b) (cell := { cls := X.g.2.2.1 (164 + j), slots := caps.toArray, vm := .none }) (kcell := kB) hcell
    (fun z h => by cases h) hkB (by rw [hr0cls]; exact hasg) hselP hmk (by rw [hnameR, hdescR]; rw [hnm, hsam] at hway; exact hway) (by rw [hflk]; decide) (by simp [Method.isAbstract, hflk, hasFlag, Acc.abstract]) (g := F0 X.m pc la (.int x :: .ref b :: st)) rfl (argsL := [.int x]) (rest := st) (by
      have : parseMethodDescriptor "(I)I" = some rm.sig := hsigR
      have h9 : (parseMethodDescriptor "(I)I").map (fun d => d.parameters.length) = some 1 := by decide +kernel
      rw [this] at h9
      exact (Option.some.inj h9).symm) rfl (by rw [hX.2.1]; exact dc)
  have hA1 := X₁.warmed.alike
  have hmade1 : Lambda.isMade { classPath := fun _ => none } (T.setVm vm₁).vm m0 sh (X.g.2.2.1 (164 + j)) = true := Lambda.isMade_warmer X₁.warmed hmade
  obtain ⟨dk1, hdk1, hde1⟩ := hA1.2.2 _ _ hdk
  have hO1 : ∀ o ok, (T.setVm vm₁).vm.findClass "java/lang/Object" = some o → (T.setVm vm₁).vm.classes[o]? = some ok → ok.instanceTypes.size = 0 := by
    intro o ok ho hok
    obtain ⟨c9, k9, e1, e2, -, -, -, e3⟩ := Cond.instantiable_spec (hX.2.2.2.2.1 _ hO)
    obtain ⟨k8, e4, e5⟩ := hA1.2.2 _ _ e2
    rw [hA1.findClass] at ho
    cases ho.symm.trans e1
    cases hok.symm.trans e4
    rw [e5]
    exact e3
  obtain ⟨kB1, tk1, file1, methk1, ck1, stc1, t1, hkB1, hkn1, hfk1, hpool1, hmk1, hck1, hbytes1, hml21, hlk1, hflk1, hretk1, hst11, hst21, hst31, hask1, hM11, hM21, hM31, -, -⟩ := zmade hfile hsec hlaid hcode hfl himpl hdk1 (by rw [hde1]; exact hdn) hmade1 hO1
  obtain ⟨t', hnt⟩ := hyn (T.setVm vm₁) X₁.warmed
  have ht : t1 = t' := by
    have h9 := hyq _ _ hnt
    simp only [State.methodFound?, hst11, hst21, Option.bind_eq_bind, Option.bind_some, hask1] at h9
    cases h9
    rfl
  subst ht
  obtain ⟨v, σ', T', L, hK, X', hH', hL', h4', h5', hsteps⟩ := zlam_core (X := X) ⟨hX.2.2.2.2.1, hX.2.2.2.2.2.1, hX.2.2.2.2.2.2.2.2.2.1, hX.2.2.2.2.2.2.2.2.2.2⟩ hM h4 h5 hd.1 hd.2 hw hnl hml hini X₁ hX.1 (by show zHp X.g σ T.heap; rw [hT]; exact h1) h2
    (gf := F0 X.m pc la st) rfl (by rw [hX.2.2.1, ← hsz]; exact h3.1) (by rw [hX.2.1]; exact dc) (by show 2 * 0 + (st.map fun v => v.category).sum ≤ 8; omega) hmk1 hck1 hml21 hlk1 (State.plainMethod.of_name (fun k' hk' => by cases hkB1.symm.trans hk'; rw [hkn1]; decide +kernel)) hretk1 hnt (a := b) (x := x) (by rw [hbytes1]; exact hd2) (by rw [hbytes1]; exact hd3)
    (fun U hvm hheap hAt => hgo U ⟨X.g.2.2.1 (164 + j), 1⟩ t1 ck1 _ hbytes1 (by rw [hvm]; exact ⟨kB1, tk1, file1, stc1, hkB1, hfk1, hpool1, hst11, hst21, hst31, hask1, hM11, hM21, hM31⟩) (by rw [hheap]; exact hcell) (by rw [hheap]; show zHp X.g σ T.heap; rw [hT]; exact h1) (by rw [hvm]; exact X₁.warmed) (by
      have := hnt
      unfold State.methodNamed? at this ⊢
      rw [hvm]
      exact this) Z.admits hAt)
  obtain ⟨t9, a1, b1⟩ := kk v σ' hK T'.heap L la hH' hL' h3 h4' h5' T' rfl X'
  refine ⟨t9, hstep₁ _ (fun acts => (hsteps acts).trans ?_), b1⟩
  exact a1
end ZL4
