/-! LAMBDAS: the classes that the VM has made for them, and their one method -/
theorem zmade {sh : Lambda.Shape} {D : ClassFile} {fw : Method} {laid : Array Field × Array FieldType × Array FieldType} {bytes : ByteArray} (hfile : sh.file "PackingDuel$State" = some D) (hsec : ((layoutMethods D).bind (·[1]?)) = some fw) (hlaid : layoutFields D 0 = some laid) (hcode : (fw.code.map fun c => (c.code.data, c.maxLocals)) = some (bytes.data, 2)) (hfl : (fw.accessFlags, fw.name, fw.sig.returnType) = (0x0001, "of", some FieldType.int)) (himpl : sh.implClass = "PackingDuel$State")
    {vm : Vm} {d c : ClassId} {dk : Class} (hd : vm.classes[d]? = some dk) (hname : dk.name = "PackingDuel$State") (h : Lambda.isMade { classPath := fun _ => none } vm d sh c = true) (hO : ∀ o ok, vm.findClass "java/lang/Object" = some o → vm.classes[o]? = some ok → ok.instanceTypes.size = 0) :
    ∃ (k tk : Class) (file : ClassFile) (methk : Method) (ck : Code) (st : ClassId) (t : MethodId),
      vm.classes[c]? = some k ∧ k.name = "PackingDuel$State$$Lambda" ∧ k.cf = some file ∧ file.constantPool = D.constantPool ∧ vm.method? ⟨c, 1⟩ = some methk ∧ methk.code = some ck ∧ ck.code = bytes ∧ ck.maxLocals = 2 ∧ methk.locks = false ∧ methk.accessFlags = 0x0001 ∧ methk.sig.returnType = some .int ∧
      vm.findClass "PackingDuel$State" = some st ∧ vm.classes[st]? = some tk ∧ tk.isInterface = sh.implItf ∧ ((methodIn st sh.implName sh.implDesc.toString tk.isInterface none).ask { classPath := fun _ => none } vm).1 = .ok t ∧
      (∀ i ci nt, D.constantPool[i]? = some (.methodref ci nt) → D.constantPool.className? ci = some "PackingDuel$State" → D.constantPool.nameAndType? nt = some (sh.implName, sh.implDesc.toString) → vm.methodReady c i t) ∧
      (∀ i n, D.constantPool[i]? = some (.class_ n) → D.constantPool.string? n = some "PackingDuel$State" → i ≠ D.thisClass → vm.classReady c i st) ∧
      (∀ i ci nt name desc j f, D.constantPool[i]? = some (.fieldref ci nt) → D.constantPool.nameAndType? nt = some (name, desc) → laid.1.findIdx? (·.name == name) = some j → laid.1[j]? = some f → vm.fieldReady c i c f) ∧
      k.instanceTypes = laid.2.1 ∧ k.kind = .ordinary := by
  obtain ⟨dk', k, ok, tk, file, cf, object, iface, st, lay, methods, target, found, hd', hk, hfileK, hcf, hobj, -, hok, hlay, hms, ht, htk, hg, -, hrec, -, -, -, hitf, hpool, hmeth, hfields, hty, hres, -⟩ := Lambda.isMade_spec h
  cases hd.symm.trans hd'
  rw [hname, hfile] at hcf
  cases hcf
  have hO0 := hO object ok hobj hok
  rw [hO0, hlaid] at hlay
  cases hlay
  rw [himpl] at ht
  rw [hms] at hsec
  obtain ⟨b, hb, hsame⟩ := hmeth 1 fw hsec
  simp only [Lambda.sameMethod, Bool.and_eq_true, decide_eq_true_eq] at hsame
  obtain ⟨⟨hn, -, hsig, hfl2⟩, hcode2⟩ := hsame
  simp only [Prod.mk.injEq] at hfl
  have hO1 : ok.instanceTypes = #[] := Array.eq_empty_of_size_eq_zero hO0
  cases hfc : fw.code with
  | none => rw [hfc] at hcode; cases hcode
  | some x =>
    cases hbc : b.code with
    | none => simp [hfc, hbc] at hcode2
    | some y =>
      simp only [hfc, hbc, Bool.and_eq_true, decide_eq_true_eq] at hcode2
      simp only [hfc, Option.map_some, Option.some.injEq, Prod.mk.injEq] at hcode
      refine ⟨k, tk, file, b, y, st, target, hk, by rw [hrec.1, hname]; rfl, hfileK, hpool.2.1, by simp [Vm.method?, hk, hb], hbc, ?_, by rw [← hcode2.1.1.1.1.2.1]; exact hcode.2, ?_, by rw [← hfl2]; exact hfl.1, by rw [← hsig]; exact hfl.2.2, ht, htk, hitf, hg, ?_, ?_, ?_, ?_, hrec.2.1⟩
      · rw [← hcode2.1.1.1.1.2.2]
        exact ByteArray.ext hcode.1
      · simp [Method.locks, Method.isSynchronized, ← hfl2, hfl.1, hasFlag, Acc.synchronized]
      · exact fun i ci nt e1 e2 e3 => ⟨k, hk, hres i _ (Lambda.resolvedOf_method e1 e2 ht htk e3 hg)⟩
      · exact fun i n e1 e2 e3 => ⟨k, hk, hres i _ (Lambda.resolvedOf_class e1 e3 e2 ht)⟩
      · exact fun i ci nt name desc j f e1 e2 e3 e4 => ⟨k, j, k, hk, hres i _ (Lambda.resolvedOf_field e1 e2 e3), hk, hfields j _ e4⟩
      · rw [hty.1, hO1]; simp
