/-! ENDS, THE ENTRY, CALLS -/
/-- how a method ends: it returned or threw, at an abstract state within the budget -/
def zEnd (g : zG) (σ0 : zS) (Qr : Option Value → zS → Prop) (Xr : Nat → zS → Prop) (st : State) (o : Outcome) (t : State) : Prop :=
  ∃ (σ' : zS) (L : List Loc), ((∃ v, o = .returned v ∧ Qr v σ') ∨ (∃ q, o = .threw q ∧ Xr q σ')) ∧ zHp g σ' t.heap ∧ st.WarmedH t.vm ∧ st.sameButNew ({ t with vm := st.vm } : State) L (σ0.2.2.1 - σ'.2.2.1) (σ0.2.2.2 - σ'.2.2.2) ∧ (∀ z ∈ L, g.1.heap.size ≤ z.base) ∧ σ'.2.2.1 ≤ σ0.2.2.1 ∧ σ'.2.2.2 ≤ σ0.2.2.2
def zGoal (g : zG) (σ0 : zS) (Qr : Option Value → zS → Prop) (Xr : Nat → zS → Prop) (s : State) (below : List Frame) : State → Prop := fun t => ∃ o, t.status = .running ∧ Ended t below o ∧ zEnd g σ0 Qr Xr s o t
/-- this method's own end -/
def zR (X : zX) (Qr : Option Value → zS → Prop) (Xr : Nat → zS → Prop) : Prop := ∃ σ0 : zS, X.Q = zGoal X.g σ0 Qr Xr X.s X.b ∧ X.z = (σ0.2.2.1, σ0.2.2.2)
theorem z_monoQ {p : Program} {l : Launch} {e : Env} {R : Room} {s : State} {m : MethodId} {args : Array Value} {below : List Frame} {meth : Method} {c : Code} {H : Heap} {locs : List Loc} {cells slots : Nat} {Q Q' : State → Prop} {g : JFrame} (h : ∀ t, Q t → Q' t) (k : W p l e R s m args below meth c H locs cells slots Q g) : W p l e R s m args below meth c H locs cells slots Q' g := by
  intro T hT X
  obtain ⟨t, a, b⟩ := k T hT X
  exact ⟨t, a, h t b⟩
section ZENDS
variable {X : zX} {own : String} {cc : ByteArray} {nL : Nat} {ret : Option FieldType} {pc : Nat} {σ : zS} {ls : List (Option Value)} {st : List Value} {Qr : Option Value → zS → Prop} {Xr : Nat → zS → Prop}
theorem z_fin (hR : zR X Qr Xr) {v : Option Value} {H : Heap} (h1 : zHp X.g σ H) (h4 : σ.2.2.1 ≤ X.z.1) (h5 : σ.2.2.2 ≤ X.z.2) (hq : Qr v σ) : ∀ t, MQ X.b (fun _ _ o t => o = .returned v ∧ t.heap = H) X.a X.s (X.z.1 - σ.2.2.1) (X.z.2 - σ.2.2.2) (fun q => X.g.1.heap.size ≤ q) t → X.Q t := by
  obtain ⟨σ0, hQ, hz⟩ := hR
  rintro t ⟨o, hrun, hend, ⟨ho, hh⟩, L, ⟨-, hW, hsm⟩, hL⟩
  rw [hQ]
  rw [hz] at h4 h5 hsm
  exact ⟨o, hrun, hend, σ, L, Or.inl ⟨v, ho, hq⟩, by rw [hh]; exact h1, hW, hsm, hL, h4, h5⟩
theorem z_ireturn {ty : FieldType} (hX : zOk X own cc nL (some ty)) (hR : zR X Qr Xr) {v : Int32} (d : decode cc pc = .ok (.ireturn, 1)) (hn : narrow ty (.int v) = .int v) (hq : Qr (some (.int v)) σ) : zW X σ pc ls [.int v] := by
  intro H locs la h1 h2 h3 h4 h5
  exact z_monoQ (z_fin hR h1 h4 h5 hq) (W.zret (ty := ty) hX.1 hX.2.1 hX.2.2.2.2.2.2.2.2.1 hn (fun t ht _ => ⟨rfl, ht⟩) h2 d (hlocks := hX.2.2.2.2.2.2.2.1))
theorem z_lreturn (hX : zOk X own cc nL (some .long)) (hR : zR X Qr Xr) {v : Int64} (d : decode cc pc = .ok (.lreturn, 1)) (hq : Qr (some (.long v)) σ) : zW X σ pc ls [.long v] := by
  intro H locs la h1 h2 h3 h4 h5
  exact z_monoQ (z_fin hR h1 h4 h5 hq) (W.lret hX.1 hX.2.1 hX.2.2.2.2.2.2.2.2.1 (fun t ht _ => ⟨rfl, ht⟩) h2 d (hlocks := hX.2.2.2.2.2.2.2.1))
theorem z_dreturn (hX : zOk X own cc nL (some .double)) (hR : zR X Qr Xr) {v : UInt64} (d : decode cc pc = .ok (.dreturn, 1)) (hq : Qr (some (.double v)) σ) : zW X σ pc ls [.double v] := by
  intro H locs la h1 h2 h3 h4 h5
  exact z_monoQ (z_fin hR h1 h4 h5 hq) (W.dret hX.1 hX.2.1 hX.2.2.2.2.2.2.2.2.1 (fun t ht _ => ⟨rfl, ht⟩) h2 d (hlocks := hX.2.2.2.2.2.2.2.1))
theorem z_freturn (hX : zOk X own cc nL (some .float)) (hR : zR X Qr Xr) {v : UInt32} (d : decode cc pc = .ok (.freturn, 1)) (hq : Qr (some (.float v)) σ) : zW X σ pc ls [.float v] := by
  intro H locs la h1 h2 h3 h4 h5
  exact z_monoQ (z_fin hR h1 h4 h5 hq) (W.fret hX.1 hX.2.1 hX.2.2.2.2.2.2.2.2.1 (fun t ht _ => ⟨rfl, ht⟩) h2 d (hlocks := hX.2.2.2.2.2.2.2.1))
theorem z_return (hX : zOk X own cc nL none) (hR : zR X Qr Xr) (d : decode cc pc = .ok (.return_, 1)) (hq : Qr none σ) : zW X σ pc ls [] := by
  intro H locs la h1 h2 h3 h4 h5
  exact z_monoQ (z_fin hR h1 h4 h5 hq) (W.vret hX.1 hX.2.1 hX.2.2.2.2.2.2.2.2.1 (fun t ht _ => ⟨rfl, ht⟩) h2 d (hlocks := hX.2.2.2.2.2.2.2.1))
theorem z_areturn {ty : FieldType} (hX : zOk X own cc nL (some ty)) (hR : zR X Qr Xr) {r : Option Nat} (d : decode cc pc = .ok (.areturn, 1)) (hty : (∃ n, ty = .object n) ∨ ∃ t, ty = .array t) (hq : Qr (some (va_rf r)) σ) : zW X σ pc ls [va_rf r] := by
  intro H locs la h1 h2 h3 h4 h5
  exact z_monoQ (z_fin hR h1 h4 h5 hq) (W.aret hX.1 hX.2.1 hX.2.2.2.2.2.2.2.2.1 hty (by cases r; exact Or.inl rfl; exact Or.inr ⟨_, rfl⟩) (fun t ht _ => ⟨rfl, ht⟩) h2 d (hlocks := hX.2.2.2.2.2.2.2.1))
/-- thrown out of this method -/
theorem z_out (hX : zOk X own cc nL ret) (hR : zR X Qr Xr) {q : Nat} (hout : ∀ x ∈ X.c.exceptionTable.toList, covers x pc = false) (hq : Xr q σ) : zT X σ pc ls q := by
  intro H locs la rest h1 h2 h3 h4 h5 T hT Y
  obtain ⟨σ0, hQ, hz⟩ := hR
  rw [hz] at h4 h5 Y
  obtain ⟨st1, hrun, hend, hW, hsm⟩ := Y.leaveThrown q (g := F0 X.m pc la rest) rfl rfl rfl hout hX.2.2.2.2.2.2.2.1
  rw [hQ]
  exact ⟨_, st1, .threw q, hrun, hend, σ, locs, Or.inr ⟨q, rfl, hq⟩, by show zHp X.g σ T.heap; rw [hT]; exact h1, hW, hsm, h2, h4, h5⟩
theorem z_athrow (hX : zOk X own cc nL ret) {r : Option Nat} {q : Nat} (d : decode cc pc = .ok (.athrow, 1)) (hr : r = some q) (k : zT X σ pc ls q) : zW X σ pc ls (va_rf r :: st) := by
  subst hr
  exact fun H locs la h1 h2 h3 h4 h5 => vx_athrow hX.1 hX.2.1 d (k H locs la st h1 h2 h3 h4 h5)
/-- caught by the row x of the table; the rows ahead don't take it -/
theorem z_catch (hX : zOk X own cc nL ret) {E name : String} {q ci : Nat} {cq : vw_C} {fs : List Value} (pre : List ExceptionTableEntry) (x : ExceptionTableEntry) (suf : List ExceptionTableEntry) (hsplit : X.c.exceptionTable.toList = pre ++ x :: suf) (hpass : ∀ z ∈ pre, covers z pc = false ∨ (z.catchType ≠ 0 ∧ ∃ nm : String, (Cond.classLink own z.catchType nm).before X.a X.s = true ∧ va_Nc E nm X.s)) (hx : covers x pc = true) (h0 : x.catchType ≠ 0) (hl : Cond.classLink own x.catchType name ∈ lw_all) (hcast : E = name ∨ Cond.castable E name ∈ lw_tbl) (hc : zCl[ci]? = some cq) (he : cq.1 = E) (hq : σ.1 q = some (.inr (ci, fs)))
    (kk : zW X σ x.handlerPc ls [va_rf (some q)]) : zT X σ pc ls q := by
  subst he
  intro H locs la rest h1 h2 h3 h4 h5
  obtain ⟨q', g0, cellV, g1, g2, g3, -⟩ := h1.obj hc hq
  have hcls := (hX.K.1 ci cq hc).2
  refine vx_catch (E := cq.1) hX.2.2.2.1 pre x suf hsplit hpass hx h0 (hX.2.2.2.2.1 _ hl) ?_ g1 g3 (by rw [g2]; exact hcls.1) (kk H locs la h1 h2 h3 h4 h5)
  rcases hcast with h | h
  · rw [← h]
    have hfc := hcls.1
    have hasg := va_assign hcls
    simp [Cond.before, Cond.holds, Cond.value, hfc, hasg]
  · exact va_Nw.use rfl (va_Nw.warmC hX.2.2.2.2.2.1 (z_nw hX h rfl))
end ZENDS
/-- the room of a call at depth d -/
def zrm (d : Nat) (σ : zS) : Room := { frames := d, cells := σ.2.2.1, slots := σ.2.2.2, locals := 60000 + 40 * d }
/-- A METHOD's PROMISE at the abstract state σ -/
def zMet (l : Launch) (g : zG) (d : Nat) (yc : MethodName × Cond) (args : List Value) (σ : zS) (Qr : Option Value → zS → Prop) (Xr : Nat → zS → Prop) : Prop :=
  MetFree l yc.1 (headSpec (yc.2 :: lw_all) (zrm d σ)) (fun a U => a = args.toArray ∧ zHp g σ U.heap ∧ g.1.WarmedH U.vm) (fun _ _ _ _ _ => True) (fun _ st o t => zEnd g σ Qr Xr st o t)
def zargs : List Bool → List Value → List (Option Value)
  | true :: bs, v :: vs => some v :: none :: zargs bs vs
  | false :: bs, v :: vs => some v :: zargs bs vs
  | _, _ => []
def zcats : List Bool → List Value → Prop
  | true :: bs, v :: vs => v.category = 2 ∧ zcats bs vs
  | false :: bs, v :: vs => v.category = 1 ∧ zcats bs vs
  | [], [] => True
  | _, _ => False
theorem zargs_len : ∀ (bs : List Bool) (vs : List Value), zcats bs vs → (zargs bs vs).length = (lg_sl vs).length
  | [], [], _ => rfl
  | true :: bs, v :: vs, h => by
    have ih := zargs_len bs vs h.2
    simp only [lg_sl, List.flatMap_cons, h.1, if_true, List.length_append, zargs, List.length_cons] at ih ⊢
    simp only [List.length_nil]
    omega
  | false :: bs, v :: vs, h => by
    have ih := zargs_len bs vs h.2
    have h2 : ¬ v.category = 2 := by rw [h.1]; decide
    simp only [lg_sl, List.flatMap_cons, if_neg h2, List.length_append, zargs, List.length_cons] at ih ⊢
    simp only [List.length_nil]
    omega
  | [], v :: vs, h => h.elim
  | true :: _, [], h => h.elim
  | false :: _, [], h => h.elim
theorem zargs_mem : ∀ (bs : List Bool) (vs : List Value) (n : Nat), zcats bs vs → ∀ q ∈ zlF n (zargs bs vs), q ∈ lv_args n vs
  | [], [], _, _, q, hq => by cases hq
  | true :: bs, v :: vs, n, h, q, hq => by
    have ih := zargs_mem bs vs (n + 2) h.2 q
    simp only [zargs, zlF, List.mem_cons] at hq
    rw [lv_args, if_pos h.1]
    rcases hq with e | e
    · rw [e]; exact List.mem_cons_self
    · exact List.mem_cons_of_mem _ (ih e)
  | false :: bs, v :: vs, n, h, q, hq => by
    have ih := zargs_mem bs vs (n + 1) h.2 q
    have h2 : ¬ v.category = 2 := by rw [h.1]; decide
    simp only [zargs, zlF, List.mem_cons] at hq
    rw [lv_args, if_neg h2]
    rcases hq with e | e
    · rw [e]; exact List.mem_cons_self
    · exact List.mem_cons_of_mem _ (ih e)
  | [], v :: vs, _, h, _, _ => h.elim
  | true :: _, [], _, h, _, _ => h.elim
  | false :: _, [], _, h, _, _ => h.elim
theorem zlF_app : ∀ (a b : List (Option Value)) (n : Nat), zlF n (a ++ b) = zlF n a ++ zlF (n + a.length) b
  | [], b, n => rfl
  | none :: t, b, n => by
    show zlF (n + 1) (t ++ b) = zlF (n + 1) t ++ _
    rw [zlF_app t b (n + 1), List.length_cons, show n + 1 + t.length = n + (t.length + 1) by omega]
  | some v :: t, b, n => by
    show (n, v) :: zlF (n + 1) (t ++ b) = (n, v) :: (zlF (n + 1) t ++ _)
    rw [zlF_app t b (n + 1), List.length_cons, show n + 1 + t.length = n + (t.length + 1) by omega]
theorem zlF_none : ∀ (k n : Nat), zlF n (List.replicate k none) = []
  | 0, _ => rfl
  | k + 1, n => zlF_none k (n + 1)
/-- THE ENTRY -/
theorem zof {l : Launch} {g : zG} {d : Nat} {y : MethodName} {cc : ByteArray} {nL : Nat} {ret : Option FieldType} {args : List Value} {σ : zS} {Qr : Option Value → zS → Prop} {Xr : Nat → zS → Prop} {ls : List (Option Value)} (hG : zGk g) (hy : plainName y.cls = true) (bs : List Bool) (hcat : zcats bs args) (hlen : (zargs bs args).length ≤ nL) (hls : zargs bs args ++ List.replicate (nL - (zargs bs args).length) none = ls)
    (body : ∀ X : zX, zOk X y.cls cc nL ret → zR X Qr Xr → (∀ x ∈ X.c.exceptionTable.toList, False) → X.R.frames = d → X.R.locals = 60000 + 40 * d → X.l = l → X.g = g → X.k.name = y.name → zW X σ 0 ls []) : zMet l g d (y, Cond.code y cc nL ret) args σ Qr Xr := by
  refine MetFree.of_bodyS (code := cc) (maxLocals := nL) (ret := ret) hy ?_ ?_
  · intro args s m h hn
    obtain ⟨meth, c, h1, h2, h3, h4, h5, h6, -, -⟩ := Cond.code_spec hn (atoms_spec (ws := Cond.code y cc nL ret :: lw_all) h _ List.mem_cons_self)
    exact ⟨meth, c, h1, h2, h3, h4, h5, h6⟩
  · intro p e s m args' below meth c s₁ B hml hP _
    obtain ⟨rfl, hH, hWm⟩ := hP
    have hh0 : s₁.heap = s.heap := by rw [B.state]; rfl
    have hts := atoms_spec (ws := Cond.code y cc nL ret :: lw_all) B.pre
    have ht : ∀ x ∈ c.exceptionTable.toList, False := by
      obtain ⟨meth9, c9, h1, h2, -, -, -, -, h7, -⟩ := Cond.code_spec B.named (hts _ List.mem_cons_self)
      cases Option.some.inj (h1.symm.trans B.method)
      cases Option.some.inj (h2.symm.trans (Stand.of_body B).code)
      intro x hx
      rw [Array.isEmpty_iff.mp h7] at hx
      cases hx
    have hnm : meth.name = y.name := (name_of_methodNamed B.named B.method).1
    have K := body (p, l, e, zrm d σ, s, m, args.toArray, below, meth, c, g, (σ.2.2.1, σ.2.2.2), zGoal g σ Qr Xr s below)
      ⟨B.exec, B.bytes, hml, findClass_of_methodNamed B.named, fun w hw => hts w (List.mem_cons_of_mem _ hw), hWm, hG, B.notSynchronized, B.returns, rfl, rfl⟩ ⟨σ, rfl, rfl⟩ ht rfl rfl rfl rfl hnm
    have hl0 : (lg_sl args).length ≤ nL := by rw [← zargs_len bs args hcat]; exact hlen
    have hloc : zLoc ((lg_sl args ++ List.replicate (nL - (lg_sl args).length) Slot.unset).toArray) ls := by
      have h9 := lv_entry args (n := nL) hl0
      subst hls
      refine ⟨?_, h9.2.1, fun q hq => ?_⟩
      · rw [h9.1, List.length_append, List.length_replicate]; omega
      · rw [zlF_app, zlF_none, List.append_nil] at hq
        exact h9.2.2 q (zargs_mem bs args 0 hcat q hq)
    have K2 := K s.heap [] _ hH (fun _ h => by cases h) hloc (Nat.le_refl _) (Nat.le_refl _)
    rw [show ((σ.2.2.1, σ.2.2.2) : Nat × Nat).1 - σ.2.2.1 = 0 from Nat.sub_self _, show ((σ.2.2.1, σ.2.2.2) : Nat × Nat).2 - σ.2.2.2 = 0 from Nat.sub_self _] at K2
    obtain ⟨t, a1, o, b1, b2, b3⟩ := K2 s₁ hh0 (Stand.of_body B)
    rw [lg_entry_eq]
    exact ⟨t, o, a1, b1, b2, b3⟩
