/-! LAMBDAS: the frames of the four kinds of made classes -/
theorem zstF {e : Env} {U : State} {c : ClassId} {D : ClassFile} {laid : Array Field × Array FieldType × Array FieldType} {sh : Lambda.Shape} {t : MethodId} (hMF : zMF U.vm c D laid sh t) {mi ci nt nc n : Nat} (hM : D.constantPool[mi]? = some (.methodref ci nt)) (hcn : D.constantPool.className? ci = some "PackingDuel$State") (hnt : D.constantPool.nameAndType? nt = some (sh.implName, sh.implDesc.toString)) (hC : D.constantPool[ci]? = some (.class_ nc) ∧ D.constantPool.string? nc = some "PackingDuel$State" ∧ ci ≠ D.thisClass) {y : MethodName} (hy : U.methodNamed? y = some t) (hyc : y.cls = "PackingDuel$State") {bytes : ByteArray} {maxL : Nat} {ret : Option FieldType} {a : Array Value} (hcode : (Cond.code y bytes maxL ret).before a U = true) (hini : (Cond.initialized y.cls).before a U = true) (hn : (parseMethodDescriptor y.desc).map (fun d => d.parameters.length) = some n) (hitf : sh.implItf = false) :
    ∃ kt metht, plainRef U e c mi ∧ namesAClass U c mi ∧ U.vm.methodReady c mi t ∧ U.vm.classes[t.cls]? = some kt ∧ U.vm.method? t = some metht ∧ signaturePolymorphic kt metht = false ∧ kt.init = .initialized ∧ metht.sig.parameters.length = n ∧ kt.isInterface = sh.implItf := by
  obtain ⟨k, tk, file, st, hk, hfk, hpool, hst1, hst2, hst3, hask, hM1, hM2, -⟩ := hMF
  obtain ⟨methB, cB, hmB, -, -, -, -, -, -, hsigB⟩ := Cond.code_spec hy hcode
  have hfT : U.vm.findClass y.cls = some t.cls := findClass_of_methodNamed hy
  rw [hyc] at hfT
  cases hst1.symm.trans hfT
  have hinitK : tk.init = .initialized := Cond.initialized_spec (by rw [hyc]; exact hst1) hst2 hini
  obtain ⟨kT', hkT', hnameT⟩ := className_of_methodNamed hy
  cases hst2.symm.trans hkT'
  rw [hyc] at hnameT
  have hsp : ∀ z : Method, signaturePolymorphic tk z = false := fun z => by simp [signaturePolymorphic, hnameT]
  obtain ⟨b, hmem⟩ := memberRef_ask' (e := e) (vm := U.vm) (d := c) (index := mi) hk hfk (Or.inl (by rw [hpool]; exact hM)) (by rw [hpool]; exact hnt)
  have hcr := hM2 ci nc hC.1 hC.2.1 hC.2.2
  refine ⟨tk, methB, ⟨ci, _, _, b, t.cls, tk, hmem, hcr, hst2, by simp [hsp]⟩, ?_, hM1 mi ci nt hM hcn hnt, hst2, hmB, hsp _, hinitK, ?_, hst3⟩
  · exact ⟨k, file, ci, nt, t.cls, tk, hk, hfk, by rw [hpool]; exact hM, hcr, hst2, by rw [hst3]; exact hitf⟩
  · rw [hsigB] at hn
    exact Option.some.inj hn
theorem zldS0_0 : decode zlcS0 0 = .ok (.iload_n 1, 1) := by decide +kernel
theorem zldS0_1 : decode zlcS0 1 = .ok (.invokestatic 17, 3) := by decide +kernel
theorem zldS0_4 : decode zlcS0 4 = .ok (.ireturn, 1) := by decide +kernel
theorem zldS1_0 : decode zlcS1 0 = .ok (.aload_n 0, 1) := by decide +kernel
theorem zldS1_1 : decode zlcS1 1 = .ok (.getfield 15, 3) := by decide +kernel
theorem zldS1_4 : decode zlcS1 4 = .ok (.iload_n 1, 1) := by decide +kernel
theorem zldS1_5 : decode zlcS1 5 = .ok (.invokestatic 23, 3) := by decide +kernel
theorem zldS1_8 : decode zlcS1 8 = .ok (.ireturn, 1) := by decide +kernel
theorem zldV1_0 : decode zlcV1 0 = .ok (.aload_n 0, 1) := by decide +kernel
theorem zldV1_1 : decode zlcV1 1 = .ok (.getfield 15, 3) := by decide +kernel
theorem zldV1_4 : decode zlcV1 4 = .ok (.iload_n 1, 1) := by decide +kernel
theorem zldV1_5 : decode zlcV1 5 = .ok (.invokevirtual 22, 3) := by decide +kernel
theorem zldV1_8 : decode zlcV1 8 = .ok (.ireturn, 1) := by decide +kernel
theorem zldV2_0 : decode zlcV2 0 = .ok (.aload_n 0, 1) := by decide +kernel
theorem zldV2_1 : decode zlcV2 1 = .ok (.getfield 17, 3) := by decide +kernel
theorem zldV2_4 : decode zlcV2 4 = .ok (.aload_n 0, 1) := by decide +kernel
theorem zldV2_5 : decode zlcV2 5 = .ok (.getfield 19, 3) := by decide +kernel
theorem zldV2_8 : decode zlcV2 8 = .ok (.iload_n 1, 1) := by decide +kernel
theorem zldV2_9 : decode zlcV2 9 = .ok (.invokevirtual 27, 3) := by decide +kernel
theorem zldV2_12 : decode zlcV2 12 = .ok (.ireturn, 1) := by decide +kernel
theorem zgoS0 {p : Program} {e : Env} {below : List Frame} (hexec : p.tables.exec = Jvm.exec) {U : State} {mk t : MethodId} {ck : Code} {b : Nat} {x : Int32} (hb : ck.code = zlcS0) {kt : Class} {metht : Method} (h1 : plainRef U e mk.cls 17) (h2 : U.vm.methodReady mk.cls 17 t) (h3 : U.vm.classes[t.cls]? = some kt) (h4 : U.vm.method? t = some metht) (h5 : signaturePolymorphic kt metht = false) (h6 : metht.isStatic = true) (h7 : kt.init = .initialized) (h8 : metht.sig.parameters.length = 1) (hAt : At U mk ck below) (target : State)
    (h : ∀ acts, Steps p.tables e below (doInvoke e (U.setTop { method := mk, pc := 1, locals := #[.val (.ref b), .val (.int x)], stack := [], locked := none }) acts t #[.int x]).1 target) : Steps p.tables e below (U.setTop { method := mk, pc := 0, locals := #[.val (.ref b), .val (.int x)], stack := [], locked := none }) target := by
  have hs : U.topJava?.isSome := hAt.top
  jvm_step hAt [hexec, hb, zldS0_0]
  jvm_step hAt [hexec, hb, zldS0_1, invokestatic.wp_ready (e := e) (s := U) (m := t) (k := kt) (meth := metht) (args := [.int x]) (rest := []) (f := { method := mk, pc := 1, locals := #[.val (.ref b), .val (.int x)], stack := [.int x], locked := none }) hs h1 h2 h3 h4 h5 h6 h7 h8.symm rfl]
  intro acts
  exact h _
theorem zgoS1 {p : Program} {e : Env} {below : List Frame} (hexec : p.tables.exec = Jvm.exec) {U : State} {mk t : MethodId} {ck : Code} {b : Nat} {v1 : Value} {x : Int32} (hb : ck.code = zlcS1) {kt : Class} {metht : Method} {cellK : Cell} {f1 : Field} (g1 : U.heap[b]? = some cellK) (g2 : cellK.vm ≠ .unknown) (g3 : U.vm.fieldReady mk.cls 15 mk.cls f1) (g4 : f1.isStatic = false) (g5 : cellK.slots[f1.slot]? = some v1) (h1 : plainRef U e mk.cls 23) (h2 : U.vm.methodReady mk.cls 23 t) (h3 : U.vm.classes[t.cls]? = some kt) (h4 : U.vm.method? t = some metht) (h5 : signaturePolymorphic kt metht = false) (h6 : metht.isStatic = true) (h7 : kt.init = .initialized) (h8 : metht.sig.parameters.length = 2) (hAt : At U mk ck below) (target : State)
    (h : ∀ acts, Steps p.tables e below (doInvoke e (U.setTop { method := mk, pc := 5, locals := #[.val (.ref b), .val (.int x)], stack := [], locked := none }) acts t #[v1, .int x]).1 target) : Steps p.tables e below (U.setTop { method := mk, pc := 0, locals := #[.val (.ref b), .val (.int x)], stack := [], locked := none }) target := by
  have hs : U.topJava?.isSome := hAt.top
  jvm_step hAt [hexec, hb, zldS1_0, Value.isRef]
  jvm_step hAt [hexec, hb, zldS1_1, getfield.wp_ready (e := e) (s := U) (c := mk.cls) (field := f1) (a := b) (rest := []) (cell := cellK) (v := v1) (f := { method := mk, pc := 1, locals := #[.val (.ref b), .val (.int x)], stack := [.ref b], locked := none }) hs g3 g4 rfl g1 g2 g5]
  jvm_step hAt [hexec, hb, zldS1_4]
  jvm_step hAt [hexec, hb, zldS1_5, invokestatic.wp_ready (e := e) (s := U) (m := t) (k := kt) (meth := metht) (args := [v1, .int x]) (rest := []) (f := { method := mk, pc := 5, locals := #[.val (.ref b), .val (.int x)], stack := [.int x, v1], locked := none }) hs h1 h2 h3 h4 h5 h6 h7 h8.symm rfl]
  intro acts
  exact h _
theorem zgoV1 {p : Program} {e : Env} {below : List Frame} (hexec : p.tables.exec = Jvm.exec) {U : State} {mk t : MethodId} {ck : Code} {b b1 : Nat} {x : Int32} (hb : ck.code = zlcV1) {kt : Class} {metht : Method} {cellK cellB : Cell} {f1 : Field} (g1 : U.heap[b]? = some cellK) (g2 : cellK.vm ≠ .unknown) (g3 : U.vm.fieldReady mk.cls 15 mk.cls f1) (g4 : f1.isStatic = false) (g5 : cellK.slots[f1.slot]? = some (.ref b1)) (h1 : namesAClass U mk.cls 22) (h2 : U.vm.methodReady mk.cls 22 t) (h3 : U.vm.classes[t.cls]? = some kt) (h4 : U.vm.method? t = some metht) (h5 : signaturePolymorphic kt metht = false) (h6 : metht.isStatic = false) (h8 : metht.sig.parameters.length = 1) (h9 : U.heap[b1]? = some cellB) (h10 : ∀ c, cellB.vm ≠ .statics c) (h11 : selectMethod e.platform U.vm cellB.cls t = .method t) (h12 : metht.isAbstract = false) (h13 : kt.isInterface = false) (hAt : At U mk ck below) (target : State)
    (h : ∀ acts, Steps p.tables e below (doInvoke e (U.setTop { method := mk, pc := 5, locals := #[.val (.ref b), .val (.int x)], stack := [], locked := none }) acts t #[.ref b1, .int x]).1 target) : Steps p.tables e below (U.setTop { method := mk, pc := 0, locals := #[.val (.ref b), .val (.int x)], stack := [], locked := none }) target := by
  have hs : U.topJava?.isSome := hAt.top
  jvm_step hAt [hexec, hb, zldV1_0, Value.isRef]
  jvm_step hAt [hexec, hb, zldV1_1, getfield.wp_ready (e := e) (s := U) (c := mk.cls) (field := f1) (a := b) (rest := []) (cell := cellK) (v := .ref b1) (f := { method := mk, pc := 1, locals := #[.val (.ref b), .val (.int x)], stack := [.ref b], locked := none }) hs g3 g4 rfl g1 g2 g5]
  jvm_step hAt [hexec, hb, zldV1_4]
  jvm_step hAt [hexec, hb, zldV1_5, invokevirtual.wp_ready (e := e) (s := U) (r := t) (m := t) (k := kt) (mk := kt) (rmeth := metht) (meth := metht) (a := b1) (args := [.int x]) (rest := []) (cell := cellB) (f := { method := mk, pc := 5, locals := #[.val (.ref b), .val (.int x)], stack := [.int x, .ref b1], locked := none }) hs h1 h2 h3 h4 h5 h6 h8.symm rfl h9 h10 h11 h4 h12 h3 h13]
  intro acts
  exact h _
theorem zgoV2 {p : Program} {e : Env} {below : List Frame} (hexec : p.tables.exec = Jvm.exec) {U : State} {mk t : MethodId} {ck : Code} {b b1 : Nat} {v2 : Value} {x : Int32} (hb : ck.code = zlcV2) {kt : Class} {metht : Method} {cellK cellB : Cell} {f1 f2 : Field} (g1 : U.heap[b]? = some cellK) (g2 : cellK.vm ≠ .unknown) (g3 : U.vm.fieldReady mk.cls 17 mk.cls f1) (g4 : f1.isStatic = false) (g5 : cellK.slots[f1.slot]? = some (.ref b1)) (g6 : U.vm.fieldReady mk.cls 19 mk.cls f2) (g7 : f2.isStatic = false) (g8 : cellK.slots[f2.slot]? = some v2) (h1 : namesAClass U mk.cls 27) (h2 : U.vm.methodReady mk.cls 27 t) (h3 : U.vm.classes[t.cls]? = some kt) (h4 : U.vm.method? t = some metht) (h5 : signaturePolymorphic kt metht = false) (h6 : metht.isStatic = false) (h8 : metht.sig.parameters.length = 2) (h9 : U.heap[b1]? = some cellB) (h10 : ∀ c, cellB.vm ≠ .statics c) (h11 : selectMethod e.platform U.vm cellB.cls t = .method t) (h12 : metht.isAbstract = false) (h13 : kt.isInterface = false) (hAt : At U mk ck below) (target : State)
    (h : ∀ acts, Steps p.tables e below (doInvoke e (U.setTop { method := mk, pc := 9, locals := #[.val (.ref b), .val (.int x)], stack := [], locked := none }) acts t #[.ref b1, v2, .int x]).1 target) : Steps p.tables e below (U.setTop { method := mk, pc := 0, locals := #[.val (.ref b), .val (.int x)], stack := [], locked := none }) target := by
  have hs : U.topJava?.isSome := hAt.top
  jvm_step hAt [hexec, hb, zldV2_0, Value.isRef]
  jvm_step hAt [hexec, hb, zldV2_1, getfield.wp_ready (e := e) (s := U) (c := mk.cls) (field := f1) (a := b) (rest := []) (cell := cellK) (v := .ref b1) (f := { method := mk, pc := 1, locals := #[.val (.ref b), .val (.int x)], stack := [.ref b], locked := none }) hs g3 g4 rfl g1 g2 g5]
  jvm_step hAt [hexec, hb, zldV2_4, Value.isRef]
  jvm_step hAt [hexec, hb, zldV2_5, getfield.wp_ready (e := e) (s := U) (c := mk.cls) (field := f2) (a := b) (rest := [.ref b1]) (cell := cellK) (v := v2) (f := { method := mk, pc := 5, locals := #[.val (.ref b), .val (.int x)], stack := [.ref b, .ref b1], locked := none }) hs g6 g7 rfl g1 g2 g8]
  jvm_step hAt [hexec, hb, zldV2_8]
  jvm_step hAt [hexec, hb, zldV2_9, invokevirtual.wp_ready (e := e) (s := U) (r := t) (m := t) (k := kt) (mk := kt) (rmeth := metht) (meth := metht) (a := b1) (args := [v2, .int x]) (rest := []) (cell := cellB) (f := { method := mk, pc := 9, locals := #[.val (.ref b), .val (.int x)], stack := [.int x, v2, .ref b1], locked := none }) hs h1 h2 h3 h4 h5 h6 h8.symm rfl h9 h10 h11 h4 h12 h3 h13]
  intro acts
  exact h _
