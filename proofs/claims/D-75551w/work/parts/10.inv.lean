/-! CALLS -/
/-- of the callee's word: its code's number of locals -/
def zNl (y : MethodName) (w : Cond) (maxL : Nat) : Prop := ∀ (a : Array Value) (U : State) (mk : MethodId), U.methodNamed? y = some mk → w.before a U = true → ∃ (me : Method) (c : Code), U.vm.method? mk = some me ∧ me.code = some c ∧ c.maxLocals = maxL
theorem zNl_code {y : MethodName} {b : ByteArray} {L : Nat} {r : Option FieldType} : zNl y (Cond.code y b L r) L := by
  intro a U mk hn hw
  obtain ⟨me, c, h1, h2, -, h4, -⟩ := Cond.code_spec hn hw
  exact ⟨me, c, h1, h2, h4⟩
theorem zNl_codeW {y : MethodName} {b : ByteArray} {L : Nat} {r : Option FieldType} {hh : List (Nat × Nat × Nat × Nat)} : zNl y (Cond.codeWith y b L r hh) L := by
  intro a U mk hn hw
  obtain ⟨m9, me, c, hn9, h1, h2, -, h4, -⟩ := Cond.codeWith_spec hw
  cases hn.symm.trans hn9
  exact ⟨me, c, h1, h2, h4⟩
def zPre (X : zX) (σ : zS) (args : List Value) : Pt → Array Value → Prop := fun A a => a = args.toArray ∧ zHp X.g σ A.U.heap ∧ (∀ z ∈ A.locs, X.g.1.heap.size ≤ z.base) ∧ A.cells = X.z.1 - σ.2.2.1 ∧ A.slots = X.z.2 - σ.2.2.2
def zPost (X : zX) (σ' : zS) : Pt → Prop := fun B => zHp X.g σ' B.U.heap ∧ (∀ z ∈ B.locs, X.g.1.heap.size ≤ z.base) ∧ B.cells = X.z.1 - σ'.2.2.1 ∧ B.slots = X.z.2 - σ'.2.2.2 ∧ σ'.2.2.1 ≤ X.z.1 ∧ σ'.2.2.2 ≤ X.z.2
theorem zback {X : zX} {own : String} {cc : ByteArray} {nL : Nat} {ret : Option FieldType} {σ : zS} {d : Nat} {y : MethodName} {w : Cond} {args : List Value} {Qr : Option Value → zS → Prop} {Xr : Nat → zS → Prop} {maxL len : Nat} (hX : zOk X own cc nL ret) (hM : zMet X.l X.g d (y, w) args σ Qr Xr) (h4 : σ.2.2.1 ≤ X.z.1) (h5 : σ.2.2.2 ≤ X.z.2) (hfr : X.R.frames = d + 1) (hlo : X.R.locals = 60000 + 40 * (d + 1)) (hw : w ∈ lw_all) (hnl : zNl y w maxL) (hml : maxL ≤ 20) (hini : Cond.initialized y.cls ∈ lw_all) :
    vx_Back X.l X.R X.p X.e X.b X.s X.a y len 8 (zPre X σ args) (fun A a v B => ∃ σ', Qr v σ' ∧ zPost X σ' B) (fun A a q B => ∃ σ', Xr q σ' ∧ zPost X σ' B) := by
  intro m meth c A g ig mk a Y hg hsize hdg hW hn hp
  obtain ⟨U, Ls, c0, s0⟩ := A
  obtain ⟨rfl, hH, hLs, hc0, hs0⟩ := hp
  dsimp only [Pt.U, Pt.locs, Pt.cells, Pt.slots] at Y hn hH hLs hc0 hs0 ⊢
  have hgood : ∀ v ∈ lw_all, ∀ a' V, X.s.WarmedH V.vm → v.before a' V = true := fun v hv a' V hV => word_at hV (lw_self v hv).2 (hX.2.2.2.2.1 v hv)
  have hws : ∀ v ∈ w :: lw_all, ∀ a' V, X.s.WarmedH V.vm → v.before a' V = true := by
    intro v hv
    rcases List.mem_cons.mp hv with e | e
    · rw [e]; exact hgood w hw
    · exact hgood v e
  have h1 : (headSpec (w :: lw_all) (zrm d σ)).pre.before args.toArray U = true := atoms_intro fun v hv => hws v hv _ _ Y.warmed
  have h3 : (Cond.initialized y.cls).before args.toArray U = true := hgood _ hini _ _ Y.warmed
  have hPc : args.toArray = args.toArray ∧ zHp X.g σ (U.calling g mk args.toArray).heap ∧ X.g.1.WarmedH (U.calling g mk args.toArray).vm := ⟨rfl, hH, State.WarmedH.trans hX.2.2.2.2.2.1 Y.warmed⟩
  obtain ⟨methY, cY, hmY, hcY, hlY⟩ := hnl args.toArray U mk hn (hws w List.mem_cons_self _ _ Y.warmed)
  obtain ⟨kY, hkY, -⟩ := className_of_methodNamed hn
  have hinitY : kY.init = .initialized := Cond.initialized_spec (findClass_of_methodNamed hn) hkY h3
  have h : At U g.method c X.b := by rw [hg]; exact Y.here
  have happ : (headSpec (w :: lw_all) (zrm d σ)).appliesLoose y X.e.platform (U.calling g mk args.toArray) = true :=
    Spec.appliesLoose_calling (g := g) h hdg hn hkY hinitY
      (Y.room_calling (g := g) (R' := (headSpec (w :: lw_all) (zrm d σ)).room) hsize hmY hcY (by rw [hfr]; exact Nat.le_refl _) (by rw [hlY, hlo]; show _ + (60000 + 40 * d) ≤ _; omega) (by rw [hX.2.2.2.2.2.2.2.2.2.1, hc0]; show _ + σ.2.2.1 ≤ _; omega) (by rw [hX.2.2.2.2.2.2.2.2.2.2, hs0]; show _ + σ.2.2.2 ≤ _; omega)) h1
  obtain ⟨mid, hmid⟩ := h.above
  have hfr9 : (U.setTop g).frames = (.java g :: mid) ++ X.b := by rw [State.frames_setTop' g h.top, hmid]; rfl
  obtain ⟨o, s₂, hsteps, -, hend, hq⟩ := Steps.callFree hM X.p Y.admits Y.cas Y.clock (acts := []) hfr9 happ hPc trivial
  have hq' : zEnd X.g σ Qr Xr (U.calling g mk args.toArray) o s₂ := hq
  obtain ⟨σ', L, hout, hH', hW₂, hsm, hL, hk1, hk2⟩ := hq'
  rw [State.frames_setTop' g h.top] at hend
  obtain ⟨g₀, hg0⟩ := Option.isSome_iff_exists.mp h.top
  obtain ⟨r, hr⟩ := State.topJava?_eq_some.mp hg0
  have hr' : (({ U with heap := s₂.heap, slotsUsed := s₂.slotsUsed } : State).setVm s₂.vm).frames = .java g₀ :: r := hr
  obtain ⟨e2, q2, q3, q4, q5, q6⟩ := id hsm
  have e3 : s₂ = ({ (U.calling g mk args.toArray).setFrames s₂.frames with heap := s₂.heap, slotsUsed := s₂.slotsUsed } : State).setVm s₂.vm := by
    have : s₂ = ({ s₂ with vm := (U.calling g mk args.toArray).vm } : State).setVm s₂.vm := rfl
    rw [e2] at this
    exact this
  have hW' : U.WarmedH s₂.vm := hW₂
  have hsame : U.sameButNew ({ U with heap := s₂.heap, slotsUsed := s₂.slotsUsed } : State) L (σ.2.2.1 - σ'.2.2.1) (σ.2.2.2 - σ'.2.2.2) := by
    refine ⟨?_, q2, q3, q4, q5, q6⟩
    obtain ⟨t, ht, -⟩ := State.frames_cons hr
    show ({ U with heap := s₂.heap, slotsUsed := s₂.slotsUsed } : State) = { U.setFrames U.frames with heap := s₂.heap, slotsUsed := s₂.slotsUsed }
    rw [State.setFrames_self ht]
  have hpost : zPost X σ' (({ U with heap := s₂.heap, slotsUsed := s₂.slotsUsed } : State).setVm s₂.vm, Ls ++ L, c0 + (σ.2.2.1 - σ'.2.2.1), s0 + (σ.2.2.2 - σ'.2.2.2)) := by
    refine ⟨hH', fun z hz => ?_, ?_, ?_, by omega, by omega⟩
    · rcases List.mem_append.mp hz with h | h
      · exact hLs z h
      · exact hL z h
    · show c0 + _ = _; omega
    · show s0 + _ = _; omega
  subst hg
  have Z : Stand X.p X.l X.e X.R X.s g.method X.a X.b meth c (({ U with heap := s₂.heap, slotsUsed := s₂.slotsUsed } : State).setVm s₂.vm) (Ls ++ L) (c0 + (σ.2.2.1 - σ'.2.2.1)) (s0 + (σ.2.2.2 - σ'.2.2.2)) :=
    ⟨Y.admits, Y.cas, Y.clock, Y.frames, Y.room, Y.hears, Y.method, Y.code, (Y.here.setHeapUsed s₂.heap s₂.slotsUsed).setVm hW'.alike, Y.tail, State.WarmedH.trans Y.warmed hW', Y.limits, Y.bytes, Y.same.trans (hsame.setVm X.s.vm)⟩
  rcases hout with ⟨v, rfl, hqv⟩ | ⟨q, rfl, hqx⟩
  · obtain ⟨c₂, i₂, len₂, hc₂, hd₂, hf₂⟩ := hend
    have hcc : c₂ = c := by
      have h1 : s₂.code? g.method = U.code? g.method := by
        rw [State.code?_eq, State.code?_eq, hW'.alike.method?]
      exact Option.some.inj (hc₂.symm.trans (h1.trans h.code))
    subst hcc
    have hlen : len₂ = len := by rw [hdg] at hd₂; cases hd₂; rfl
    subst hlen
    have hs₂ : s₂ = (({ U with heap := s₂.heap, slotsUsed := s₂.slotsUsed } : State).setVm s₂.vm).setTop { g with pc := g.pc + len₂, stack := v.toList ++ g.stack } := by
      refine e3.trans ?_
      rw [hf₂, State.calling_eq h.top, State.setFrames_setFrames, State.setTop_of_frames _ hr', hr]
      rfl
    refine Or.inl ⟨v, (({ U with heap := s₂.heap, slotsUsed := s₂.slotsUsed } : State).setVm s₂.vm, Ls ++ L, c0 + (σ.2.2.1 - σ'.2.2.1), s0 + (σ.2.2.2 - σ'.2.2.2)), Z, ⟨σ', hqv, hpost⟩, ?_⟩
    show Steps X.p.tables X.e X.b _ ((({ U with heap := s₂.heap, slotsUsed := s₂.slotsUsed } : State).setVm s₂.vm).setTop { g with pc := g.pc + len₂, stack := v.toList ++ g.stack })
    rw [← hs₂]
    exact hsteps
  · have hf₂ : s₂.frames = .throwing q :: .java g :: U.frames.tail := hend
    have hs₂ : s₂ = ((({ U with heap := s₂.heap, slotsUsed := s₂.slotsUsed } : State).setVm s₂.vm).setTop g).pushFrame (.throwing q) := by
      refine e3.trans ?_
      rw [hf₂, State.calling_eq h.top, State.setFrames_setFrames, State.pushFrame, State.frames_setTop _ hr', State.setTop_of_frames _ hr', State.setFrames_setFrames, hr]
      rfl
    refine Or.inr ⟨q, (({ U with heap := s₂.heap, slotsUsed := s₂.slotsUsed } : State).setVm s₂.vm, Ls ++ L, c0 + (σ.2.2.1 - σ'.2.2.1), s0 + (σ.2.2.2 - σ'.2.2.2)), Z, ⟨σ', hqx, hpost⟩, ?_⟩
    show Steps X.p.tables X.e X.b _ (((({ U with heap := s₂.heap, slotsUsed := s₂.slotsUsed } : State).setVm s₂.vm).setTop g).pushFrame (.throwing q))
    rw [← hs₂]
    exact hsteps
