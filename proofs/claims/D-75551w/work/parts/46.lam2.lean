/-! LAMBDAS: a call inside a frame of a made class; the frame's whole run -/
def zOk0 (X : zX) : Prop := (∀ w ∈ lw_all, w.before X.a X.s = true) ∧ X.g.1.WarmedH X.s.vm ∧ X.R.cells = X.z.1 ∧ X.R.slots = X.z.2
theorem zback0 {X : zX} {σ : zS} {d : Nat} {y : MethodName} {w : Cond} {args : List Value} {Qr : Option Value → zS → Prop} {Xr : Nat → zS → Prop} {maxL len : Nat} (h0 : zOk0 X) (hM : zMet X.l X.g d (y, w) args σ Qr Xr) (h4 : σ.2.2.1 ≤ X.z.1) (h5 : σ.2.2.2 ≤ X.z.2) (hfr : X.R.frames = d + 1) (hlo : X.R.locals = 60000 + 40 * (d + 1)) (hw : w ∈ lw_all) (hnl : zNl y w maxL) (hml : maxL ≤ 20) (hini : Cond.initialized y.cls ∈ lw_all) :
    vx_Back X.l X.R X.p X.e X.b X.s X.a y len 8 (zPre X σ args) (fun A a v B => ∃ σ', Qr v σ' ∧ zPost X σ' B) (fun A a q B => ∃ σ', Xr q σ' ∧ zPost X σ' B) := by
  intro m meth c A g ig mk a Y hg hsize hdg hW hn hp
  obtain ⟨U, Ls, c0, s0⟩ := A
  obtain ⟨rfl, hH, hLs, hc0, hs0⟩ := hp
  dsimp only [Pt.U, Pt.locs, Pt.cells, Pt.slots] at Y hn hH hLs hc0 hs0 ⊢
  have hgood : ∀ v ∈ lw_all, ∀ a' V, X.s.WarmedH V.vm → v.before a' V = true := fun v hv a' V hV => word_at hV (lw_self v hv).2 (h0.1 v hv)
  have hws : ∀ v ∈ w :: lw_all, ∀ a' V, X.s.WarmedH V.vm → v.before a' V = true := by
    intro v hv
    rcases List.mem_cons.mp hv with e | e
    · rw [e]; exact hgood w hw
    · exact hgood v e
  have h1 : (headSpec (w :: lw_all) (zrm d σ)).pre.before args.toArray U = true := atoms_intro fun v hv => hws v hv _ _ Y.warmed
  have h3 : (Cond.initialized y.cls).before args.toArray U = true := hgood _ hini _ _ Y.warmed
  have hPc : args.toArray = args.toArray ∧ zHp X.g σ (U.calling g mk args.toArray).heap ∧ X.g.1.WarmedH (U.calling g mk args.toArray).vm := ⟨rfl, hH, State.WarmedH.trans h0.2.1 Y.warmed⟩
  obtain ⟨methY, cY, hmY, hcY, hlY⟩ := hnl args.toArray U mk hn (hws w List.mem_cons_self _ _ Y.warmed)
  obtain ⟨kY, hkY, -⟩ := className_of_methodNamed hn
  have hinitY : kY.init = .initialized := Cond.initialized_spec (findClass_of_methodNamed hn) hkY h3
  have h : At U g.method c X.b := by rw [hg]; exact Y.here
  have happ : (headSpec (w :: lw_all) (zrm d σ)).appliesLoose y X.e.platform (U.calling g mk args.toArray) = true :=
    Spec.appliesLoose_calling (g := g) h hdg hn hkY hinitY
      (Y.room_calling (g := g) (R' := (headSpec (w :: lw_all) (zrm d σ)).room) hsize hmY hcY (by rw [hfr]; exact Nat.le_refl _) (by rw [hlY, hlo]; show _ + (60000 + 40 * d) ≤ _; omega) (by rw [h0.2.2.1, hc0]; show _ + σ.2.2.1 ≤ _; omega) (by rw [h0.2.2.2, hs0]; show _ + σ.2.2.2 ≤ _; omega)) h1
  obtain ⟨mid, hmid⟩ := h.above
  have hfr9 : (U.setTop g).frames = (.java g :: mid) ++ X.b := by rw [State.frames_setTop' g h.top, hmid]; rfl
  obtain ⟨o, s₂, hsteps, -, hend, hq⟩ := Steps.callFree hM X.p Y.admits Y.cas Y.clock (acts := []) hfr9 happ hPc trivial
  have hq' : zEnd X.g σ Qr Xr (U.calling g mk args.toArray) o s₂ := hq
  obtain ⟨σ', L, hout, hH', hW₂, hsm, hL, hk1, hk2⟩ := hq'
  rw [State.frames_setTop' g h.top] at hend
  obtain ⟨g₀, hg0⟩ := Option.isSome_iff_exists.mp h.top
  obtain ⟨r, hr⟩ := State.topJava?_eq_some.mp hg0
  have hr' : (({ U with heap := s₂.heap, slotsUsed := s₂.slotsUsed } : State).setVm s₂.vm).frames = .java g₀ :: r := hr
  obtain ⟨e2, q2, q3, q4, q5, q6⟩ := id hsm
  have e3 : s₂ = ({ (U.calling g mk args.toArray).setFrames s₂.frames with heap := s₂.heap, slotsUsed := s₂.slotsUsed } : State).setVm s₂.vm := by
    have : s₂ = ({ s₂ with vm := (U.calling g mk args.toArray).vm } : State).setVm s₂.vm := rfl
    rw [e2] at this
    exact this
  have hW' : U.WarmedH s₂.vm := hW₂
  have hsame : U.sameButNew ({ U with heap := s₂.heap, slotsUsed := s₂.slotsUsed } : State) L (σ.2.2.1 - σ'.2.2.1) (σ.2.2.2 - σ'.2.2.2) := by
    refine ⟨?_, q2, q3, q4, q5, q6⟩
    obtain ⟨t, ht, -⟩ := State.frames_cons hr
    show ({ U with heap := s₂.heap, slotsUsed := s₂.slotsUsed } : State) = { U.setFrames U.frames with heap := s₂.heap, slotsUsed := s₂.slotsUsed }
    rw [State.setFrames_self ht]
  have hpost : zPost X σ' (({ U with heap := s₂.heap, slotsUsed := s₂.slotsUsed } : State).setVm s₂.vm, Ls ++ L, c0 + (σ.2.2.1 - σ'.2.2.1), s0 + (σ.2.2.2 - σ'.2.2.2)) := by
    refine ⟨hH', fun z hz => ?_, ?_, ?_, by omega, by omega⟩
    · rcases List.mem_append.mp hz with h | h
      · exact hLs z h
      · exact hL z h
    · show c0 + _ = _; omega
    · show s0 + _ = _; omega
  subst hg
  have Z : Stand X.p X.l X.e X.R X.s g.method X.a X.b meth c (({ U with heap := s₂.heap, slotsUsed := s₂.slotsUsed } : State).setVm s₂.vm) (Ls ++ L) (c0 + (σ.2.2.1 - σ'.2.2.1)) (s0 + (σ.2.2.2 - σ'.2.2.2)) :=
    ⟨Y.admits, Y.cas, Y.clock, Y.frames, Y.room, Y.hears, Y.method, Y.code, (Y.here.setHeapUsed s₂.heap s₂.slotsUsed).setVm hW'.alike, Y.tail, State.WarmedH.trans Y.warmed hW', Y.limits, Y.bytes, Y.same.trans (hsame.setVm X.s.vm)⟩
  rcases hout with ⟨v, rfl, hqv⟩ | ⟨q, rfl, hqx⟩
  · obtain ⟨c₂, i₂, len₂, hc₂, hd₂, hf₂⟩ := hend
    have hcc : c₂ = c := by
      have h1 : s₂.code? g.method = U.code? g.method := by
        rw [State.code?_eq, State.code?_eq, hW'.alike.method?]
      exact Option.some.inj (hc₂.symm.trans (h1.trans h.code))
    subst hcc
    have hlen : len₂ = len := by rw [hdg] at hd₂; cases hd₂; rfl
    subst hlen
    have hs₂ : s₂ = (({ U with heap := s₂.heap, slotsUsed := s₂.slotsUsed } : State).setVm s₂.vm).setTop { g with pc := g.pc + len₂, stack := v.toList ++ g.stack } := by
      refine e3.trans ?_
      rw [hf₂, State.calling_eq h.top, State.setFrames_setFrames, State.setTop_of_frames _ hr', hr]
      rfl
    refine Or.inl ⟨v, (({ U with heap := s₂.heap, slotsUsed := s₂.slotsUsed } : State).setVm s₂.vm, Ls ++ L, c0 + (σ.2.2.1 - σ'.2.2.1), s0 + (σ.2.2.2 - σ'.2.2.2)), Z, ⟨σ', hqv, hpost⟩, ?_⟩
    show Steps X.p.tables X.e X.b _ ((({ U with heap := s₂.heap, slotsUsed := s₂.slotsUsed } : State).setVm s₂.vm).setTop { g with pc := g.pc + len₂, stack := v.toList ++ g.stack })
    rw [← hs₂]
    exact hsteps
  · have hf₂ : s₂.frames = .throwing q :: .java g :: U.frames.tail := hend
    have hs₂ : s₂ = ((({ U with heap := s₂.heap, slotsUsed := s₂.slotsUsed } : State).setVm s₂.vm).setTop g).pushFrame (.throwing q) := by
      refine e3.trans ?_
      rw [hf₂, State.calling_eq h.top, State.setFrames_setFrames, State.pushFrame, State.frames_setTop _ hr', State.setTop_of_frames _ hr', State.setFrames_setFrames, hr]
      rfl
    refine Or.inr ⟨q, (({ U with heap := s₂.heap, slotsUsed := s₂.slotsUsed } : State).setVm s₂.vm, Ls ++ L, c0 + (σ.2.2.1 - σ'.2.2.1), s0 + (σ.2.2.2 - σ'.2.2.2)), Z, ⟨σ', hqx, hpost⟩, ?_⟩
    show Steps X.p.tables X.e X.b _ (((({ U with heap := s₂.heap, slotsUsed := s₂.slotsUsed } : State).setVm s₂.vm).setTop g).pushFrame (.throwing q))
    rw [← hs₂]
    exact hsteps


theorem zlam_core {X : zX} (h0 : zOk0 X) {σ : zS} {d : Nat} {y : MethodName} {w : Cond} {iargs : List Value} {K : Int32 → zS → Prop} {maxL : Nat} (hM : zMet X.l X.g d (y, w) iargs σ (zqI K) (fun _ _ => False)) (h4 : σ.2.2.1 ≤ X.z.1) (h5 : σ.2.2.2 ≤ X.z.2) (hfr : X.R.frames = d + 2) (hlo : X.R.locals = 60000 + 40 * (d + 2)) (hw : w ∈ lw_all) (hnl : zNl y w maxL) (hml : maxL ≤ 20) (hini : Cond.initialized y.cls ∈ lw_all)
    {T : State} {locs : List Loc} (Z : Stand X.p X.l X.e X.R X.s X.m X.a X.b X.k X.c T locs (X.z.1 - σ.2.2.1) (X.z.2 - σ.2.2.2)) (hexec : X.p.tables.exec = Jvm.exec) (hH : zHp X.g σ T.heap) (hlc : ∀ z ∈ locs, X.g.1.heap.size ≤ z.base)
    {gf : JFrame} (hg : gf.method = X.m) (hsize : gf.locals.size = X.c.maxLocals) {ig : Instr} (hdg : decode X.c.code gf.pc = .ok (ig, 5)) (hW : 2 * gf.monitorRoom + (gf.stack.map fun v => v.category).sum ≤ 8)
    {mk t : MethodId} {methk : Method} {ck : Code} (hmk : T.vm.method? mk = some methk) (hck : methk.code = some ck) (hml2 : ck.maxLocals = 2) (hlk : methk.locks = false) (hpk : T.plainMethod mk) (hretk : methk.sig.returnType = some .int) (hnt : T.methodNamed? y = some t)
    {a : Nat} {x : Int32} {pcC : Nat} {ig2 : Instr} (hd2 : decode ck.code pcC = .ok (ig2, 3)) (hd3 : decode ck.code (pcC + 3) = .ok (.ireturn, 1))
    (hgo : ∀ U : State, U.vm = T.vm → U.heap = T.heap → At U mk ck (.java gf :: X.b) → ∀ target, (∀ acts, Steps X.p.tables X.e (.java gf :: X.b) (doInvoke X.e (U.setTop { method := mk, pc := pcC, locals := #[.val (.ref a), .val (.int x)], stack := [], locked := none }) acts t iargs.toArray).1 target) → Steps X.p.tables X.e (.java gf :: X.b) (U.setTop { method := mk, pc := 0, locals := #[.val (.ref a), .val (.int x)], stack := [], locked := none }) target) :
    ∃ (r : Int32) (σ' : zS) (T' : State) (L : List Loc), K r σ' ∧ Stand X.p X.l X.e X.R X.s X.m X.a X.b X.k X.c T' L (X.z.1 - σ'.2.2.1) (X.z.2 - σ'.2.2.2) ∧ zHp X.g σ' T'.heap ∧ (∀ z ∈ L, X.g.1.heap.size ≤ z.base) ∧ σ'.2.2.1 ≤ X.z.1 ∧ σ'.2.2.2 ≤ X.z.2 ∧
      ∀ acts, Steps X.p.tables X.e X.b (doInvoke X.e (T.setTop gf) acts mk #[.ref a, .int x]).1 (T'.setTop { gf with pc := gf.pc + 5, stack := [.int r] ++ gf.stack }) := by
  obtain ⟨Y₀, hin⟩ := Z.into hg hsize hdg #[.ref a, .int x] (R' := zrm (d + 1) σ) hmk hck hlk hpk (by rw [hfr]; exact Nat.le_refl _) (by rw [hml2, hlo]; show _ + (60000 + 40 * (d + 1)) ≤ _; omega) (by rw [h0.2.2.1]; show _ + σ.2.2.1 ≤ _; omega) (by rw [h0.2.2.2]; show _ + σ.2.2.2 ≤ _; omega)
  generalize hU : (T.setTop gf).pushFrame (.java (entryFrame mk #[.ref a, .int x] ck.maxLocals)) = U at Y₀ hin
  have hvm : U.vm = T.vm := by rw [← hU]; rfl
  have hheap : U.heap = T.heap := by rw [← hU]; rfl
  have hz0 : zOk0 (X.p, X.l, X.e, zrm (d + 1) σ, T.calling gf mk #[.ref a, .int x], mk, #[.ref a, .int x], .java gf :: X.b, methk, ck, X.g, (σ.2.2.1, σ.2.2.2), fun _ => True) := by
    refine ⟨fun v hv => word_at (U := T.calling gf mk #[.ref a, .int x]) Z.warmed (lw_self v hv).2 (h0.1 v hv), State.WarmedH.trans h0.2.1 Z.warmed, rfl, rfl⟩
  have hB := zback0 (len := 3) hz0 hM (Nat.le_refl _) (Nat.le_refl _) rfl rfl hw hnl hml hini
  have hnU : U.methodNamed? y = some t := by
    have := hnt
    unfold State.methodNamed? at this ⊢
    rw [hvm]
    exact this
  rcases hB mk methk ck ⟨U, [], 0, 0⟩ { method := mk, pc := pcC, locals := #[.val (.ref a), .val (.int x)], stack := [], locked := none } ig2 t iargs.toArray Y₀ rfl (by rw [hml2]; rfl) hd2 (by show 2 * 0 + 0 ≤ 8; omega) hnU ⟨rfl, by show zHp X.g σ U.heap; rw [hheap]; exact hH, (fun _ h => by cases h), by show 0 = σ.2.2.1 - σ.2.2.1; omega, by show 0 = σ.2.2.2 - σ.2.2.2; omega⟩ with ⟨v, B, Y₁, ⟨σ', hq, hp1, hp2, hp3, hp4, hp5, hp6⟩, hst⟩ | ⟨q, B, Y₁, ⟨σ', hq, -⟩, -⟩
  · obtain ⟨r, rfl, hK⟩ := hq
    obtain ⟨fs, hleave, -, hended, hWe, hsame⟩ := Y₁.leave (v := some (.int r)) (fun h => by rw [hretk] at h; cases h) hlk
    obtain ⟨T', X', hW', -, ht⟩ := Z.outOf hg hdg hended hWe hsame
    have hp3 : B.cells = σ.2.2.1 - σ'.2.2.1 := hp3
    have hp4 : B.slots = σ.2.2.2 - σ'.2.2.2 := hp4
    have hp5 : σ'.2.2.1 ≤ σ.2.2.1 := hp5
    have hp6 : σ'.2.2.2 ≤ σ.2.2.2 := hp6
    rw [hp3, hp4, show X.z.1 - σ.2.2.1 + (σ.2.2.1 - σ'.2.2.1) = X.z.1 - σ'.2.2.1 by omega, show X.z.2 - σ.2.2.2 + (σ.2.2.2 - σ'.2.2.2) = X.z.2 - σ'.2.2.2 by omega] at X'
    refine ⟨r, σ', T', locs ++ B.locs, hK, X', ?_, ?_, by omega, by omega, fun acts => ?_⟩
    · have : T'.heap = B.U.heap := by
        have h := congrArg State.heap ht
        simpa using h.symm
      rw [this]
      exact hp1
    · intro z hz
      rcases List.mem_append.mp hz with h | h
      · exact hlc z h
      · exact hp2 z h
    · rw [hin acts]
      show Steps X.p.tables X.e X.b _ (T'.setTop { gf with pc := gf.pc + 5, stack := (some (Value.int r)).toList ++ gf.stack })
      rw [← ht]
      refine Steps.weaken (mid := [.java gf]) ?_
      have hloc : entryFrame mk #[.ref a, .int x] ck.maxLocals = { method := mk, pc := 0, locals := #[.val (.ref a), .val (.int x)], stack := [], locked := none } := by rw [hml2]; rfl
      rw [hloc]
      refine hgo U hvm hheap Y₀.here _ (fun acts' => ?_)
      have hst' : Steps X.p.tables X.e (.java gf :: X.b) (doInvoke X.e (U.setTop { method := mk, pc := pcC, locals := #[.val (.ref a), .val (.int x)], stack := [], locked := none }) acts' t iargs.toArray).1 (B.U.setTop { method := mk, pc := pcC + 3, locals := #[.val (.ref a), .val (.int x)], stack := [.int r], locked := none }) := by
        rw [doInvoke_state] at hst ⊢
        exact hst
      refine hst'.trans ?_
      jvm_step Y₁.here [Y₁.here.top, hexec, hd3, (show B.U.vm.method? mk = some methk from Y₁.method'), hretk, narrow]
      intro acts''
      rw [hleave { method := mk, pc := pcC + 3, locals := #[.val (.ref a), .val (.int x)], stack := [], locked := none } acts'' rfl rfl rfl]
      exact Steps.refl _
  · exact hq.elim
