/-! ROW: a plain exception is made (new, dup, its constructor), launches without stack traces -/
def zCD (w : Cond) : Bool := match w with
  | .castable _ _ => true
  | .declares _ => true
  | _ => false
section ZR9
variable {X : zX} {own : String} {cc : ByteArray} {nL : Nat} {ret : Option FieldType} {pc : Nat} {σ : zS} {ls : List (Option Value)} {st : List Value}
theorem z_cdw (hX : zOk X own cc nL ret) {w : Cond} (h : w ∈ lw_all ∨ (w ∈ lw_tbl ∧ zCD w = true)) : w.before X.a X.s = true := by
  rcases h with h | ⟨h, hc⟩
  · exact hX.2.2.2.2.1 _ h
  · cases w with
    | castable C T => exact va_Nw.use rfl (va_Nw.warmC hX.2.2.2.2.2.1 (z_nw hX h rfl))
    | declares x => exact va_Nw.use rfl (va_Nw.warmD hX.2.2.2.2.2.1 (z_nw hX h rfl))
    | _ => cases hc
theorem z_vxZ (hX : zOk X own cc nL ret) {C n f : String} {j : Nat} (hq : (C, n, f, fun c => va_rf (zopt (c j))) ∈ zStats) (hl : Cond.laysStatic C n f ∈ lw_tbl) {H : Heap} (h1 : zHp X.g σ H) : vx_Zq C n f (fun a => X.g.1.heap.size ≤ a) X.s H := by
  constructor
  · have h : va_Z C n f (va_rf (zopt (X.g.2.2.2 j))) (fun a => X.g.1.heap.size ≤ a) X.s H := z_statZ hX hq h1
    revert h
    cases zopt (X.g.2.2.2 j) with
    | none => exact fun h => Or.inl h
    | some t => exact fun h => Or.inr ⟨t, h⟩
  · obtain ⟨A, hA, -⟩ := hX.2.2.2.2.2.2.1.2.1
    obtain ⟨c, k, i, f, a, cell, e1, e2, e3, e4, e5, e6, e7, e8, e9⟩ := Cond.laysStatic_spec (hA _ hl)
    have hlt : a < X.g.1.heap.size := (Array.getElem?_eq_some_iff.mp e5).1
    exact vx_L.moved hX.2.2.2.2.2.1.alike ⟨c, k, i, f, a, cell, e1, e2, e3, e4, (h1.2.2.2 a hlt).trans e5, e6, e7, e8, e9, Nat.not_le.mpr hlt⟩
theorem z_mk0 (hX : zOk X own cc nL ret) {d : Nat} (hd : zDep X d) (hd5 : 6 ≤ d) (hl : X.l.stackTraces = false) {cls : String} {names : List String} {ik ic ci : Nat} {T0 : u_T} (hcls : Bundle.fit cls = true) (hnames : ∀ n ∈ names, Bundle.fit n = true) (hnl : names.length ≤ 2)
    (hk : Cond.classLink own ik cls ∈ lw_all) (hini : Cond.initialized cls ∈ lw_all) (hat : ∀ w ∈ vx_at0 own ic cls names, w ∈ lw_all ∨ (w ∈ lw_tbl ∧ zCD w = true))
    (hgood : ∀ w ∈ Cond.classLink own ik cls :: Cond.initialized cls :: vx_at0 own ic cls names, vx_ot w = true)
    (hU0 : Cond.laysStatic Bundle.tN "UNASSIGNED_STACK" Bundle.steD ∈ lw_tbl) (hN0 : Cond.laysStatic Bundle.tN "SUPPRESSED_SENTINEL" Bundle.listD ∈ lw_tbl)
    (d0 : decode cc pc = .ok (.new ik, 3)) (d3 : decode cc (pc + 3) = .ok (.dup, 1)) (d4 : decode cc (pc + 4) = .ok (.invokespecial ic, 3)) (hc : zCl[ci]? = some (cls, T0, 0))
    (hb : 1 ≤ σ.2.2.1) (hs : 6 ≤ σ.2.2.2) (hsz : ls.length = nL) (hW : (st.map fun v => v.category).sum ≤ 8)
    (kk : σ.1 σ.2.1 = none → zW X (zup σ.1 σ.2.1 (.inr (ci, [])), σ.2.1 + 1, σ.2.2.1 - 1, σ.2.2.2 - 6) (pc + 7) ls (va_rf (some σ.2.1) :: st)) : zW X σ pc ls st := by
  intro H locs la g1 g2 g3 g4 g5 T hT Z
  have htr : X.e.platform.stackTraces = false := (show X.e.platform.stackTraces = X.l.stackTraces by rw [Z.admits.platform]).trans hl
  have Y := vx_rebase Z (R' := { frames := X.R.frames, locals := X.R.locals, cells := 1, slots := 6 }) (Nat.le_refl _) (Nat.le_refl _) (by rw [hX.2.2.2.2.2.2.2.2.2.1]; show _ + 1 ≤ _; omega) (by rw [hX.2.2.2.2.2.2.2.2.2.2]; show _ + 6 ≤ _; omega)
  obtain ⟨s', hA'⟩ : ∃ z, z = (T.setVm X.s.vm).setFrames (.invoking X.m X.a :: X.b) := ⟨_, rfl⟩
  rw [← hA'] at Y
  have hvm : s'.vm = X.s.vm := by rw [hA']; rfl
  have hhp : s'.heap = T.heap := by rw [hA']; rfl
  have hW0 : X.s.WarmedH s'.vm := by rw [hvm]; exact State.WarmedH.refl X.s
  have hat' : ∀ w ∈ vx_at0 own ic cls names, w.before X.a s' = true := fun w hw => vx_ot_at hW0 hvm.symm (hgood w (List.mem_cons_of_mem _ (List.mem_cons_of_mem _ hw))) (z_cdw hX (hat w hw))
  have hk' : (Cond.classLink own ik cls).before X.a s' = true := vx_ot_at hW0 hvm.symm (hgood _ List.mem_cons_self) (hX.2.2.2.2.1 _ hk)
  have hini' : (Cond.initialized cls).before X.a s' = true := vx_ot_at hW0 hvm.symm (hgood _ (List.mem_cons_of_mem _ List.mem_cons_self)) (hX.2.2.2.2.1 _ hini)
  have hU' : vx_Zq Bundle.tN "UNASSIGNED_STACK" Bundle.steD (fun a => X.g.1.heap.size ≤ a) s' s'.heap := by rw [hhp, hT]; exact vx_Zq.moved hW0.alike (z_vxZ hX (j := 60) (List.mem_of_getElem? (i := 8) rfl) hU0 g1)
  have hN' : vx_Zq Bundle.tN "SUPPRESSED_SENTINEL" Bundle.listD (fun a => X.g.1.heap.size ≤ a) s' s'.heap := by rw [hhp, hT]; exact vx_Zq.moved hW0.alike (z_vxZ hX (j := 61) (List.mem_of_getElem? (i := 9) rfl) hN0 g1)
  have h : ∀ w ∈ Bundle.ownAtoms0 own ic cls names, w.before X.a s' = true := vx_own hat' (vx_isRefq hU'.1) (vx_isRefq hN'.1) hU'.2.word hN'.2.word
  have hown' : s'.vm.findClass own = some X.m.cls := by rw [hvm]; exact hX.2.2.2.1
  have hins : (Cond.instantiable cls 6).before X.a s' = true := h _ (by simp [Bundle.ownAtoms0])
  obtain ⟨vm₁, cX, kX, hfX, hkX, -, -, X₁, st1⟩ := Y.newCold hX.1 (own := own) (C := cls) (index := ik) (n := 6) hown' hk' hins hini'
    (g := F0 X.m pc la st) rfl (by rw [hX.2.1]; exact d0) (Nat.le_refl _) (Nat.le_refl _)
  generalize hT1 : (T.setVm vm₁).pushCell { cls := cX, slots := kX.instanceTypes.map defaultValue, vm := .none } = T1 at X₁ st1
  have hcat : (Value.ref T.heap.size).category = 1 := rfl
  have hcellA : T1.heap[T.heap.size]? = some (freshCell cX kX) := by rw [← hT1]; exact State.heap_pushCell_size _ _
  have d3' : decode X.c.code (pc + 3) = .ok (.dup, 1) := by rw [hX.2.1]; exact d3
  obtain ⟨V, ce, L, Zz, hL, hlt, hcl9, hvm9, st9⟩ := vx_ctorMade0 X₁ hX.1 htr (own := own) (cls := cls) (names := names) (ic := ic) hown' hcls hnames h (fun x hx => nomatch hx) hfX hkX hcellA (by rw [hhp]; exact Nat.le_refl _)
    (g := { method := X.m, pc := pc + 4, locals := la, stack := .ref T.heap.size :: .ref T.heap.size :: st, locked := none }) rfl (by rw [hX.2.2.1, ← hsz]; exact g3.1) (rest := st) rfl
    (by rw [hX.2.1]; exact d4) (by show names.length + 3 < X.R.frames; rw [hd.1]; omega) (by show _ ≤ X.R.locals; rw [hd.2]; simp only [List.map_cons, List.sum_cons, hcat]; omega)
  have Z0 := Stand.forget (locs := []) Zz (fun y hy => by rw [hL y hy, hhp]; exact Nat.le_refl _)
  obtain ⟨f1, f2⟩ := vx_frame Z0.same
  have f3 := Z0.heapSize
  rw [hhp] at f1 f2 f3
  have hcid : ce.cls = X.g.2.1.1 ci := by
    rw [hcl9]
    have h1 := (hX.K.1 ci _ hc).2.1
    rw [hvm] at hfX
    exact Option.some.inj (hfX.symm.trans h1)
  have hh : (V.setCell T.heap.size ce).heap[T.heap.size]? = some ce := heapAt_setCell_self (s := V) ce hlt
  subst hA'
  have X5 := vx_back9 Z Y Z0
  have X6 : Stand X.p X.l X.e X.R X.s X.m X.a X.b X.k X.c (V.setCell T.heap.size ce) locs (X.z.1 - σ.2.2.1 + 1) (X.z.2 - σ.2.2.2 + 6) := { X5 with same := X5.same.mono (by omega) (by omega) }
  rw [show X.z.1 - σ.2.2.1 + 1 = X.z.1 - (σ.2.2.1 - 1) by omega, show X.z.2 - σ.2.2.2 + 6 = X.z.2 - (σ.2.2.2 - 6) by omega] at X6
  have hsz1 : (V.setCell T.heap.size ce).heap.size = H.size + 1 := by
    have h9 : T.heap.size < (V.setCell T.heap.size ce).heap.size := (Array.getElem?_eq_some_iff.mp hh).1
    have h8 : T.heap.size = H.size := by rw [hT]
    have h7 : (V.setCell T.heap.size ce).heap.size ≤ T.heap.size + 1 := f3
    rw [h8] at h7 h9
    rw [h8]
    exact Nat.le_antisymm h7 h9
  obtain ⟨t, a1, b1⟩ := kk g1.fresh (V.setCell T.heap.size ce).heap locs la (g1.push (e := .inr (ci, [])) (Or.inl ⟨_, hc, ce, (by rw [← g1.2.1, ← hT]; exact hh), hcid, hvm9, fun k hk => absurd hk (Nat.not_lt_zero k)⟩) hsz1 (fun q hq => by rw [← hT] at hq ⊢; exact f2 q hq (fun z hz => nomatch hz)) _ _) g2 g3 (by show σ.2.2.1 - 1 ≤ _; omega) (by show σ.2.2.2 - 6 ≤ _; omega) _ rfl X6
  refine ⟨t, st1 _ ?_, b1⟩
  show Steps X.p.tables X.e X.b (T1.setTop { method := X.m, pc := pc + 3, locals := la, stack := .ref T.heap.size :: st, locked := none }) _
  jvm_step X₁.here [X₁.here.top, hX.1, d3', Value.category]
  refine st9 _ ?_
  rw [show σ.2.1 = T.heap.size by rw [hT]; exact g1.2.1.symm] at a1
  exact a1
/-- 'requireArgument', 'requireElement': thrown if the flag is down -/
abbrev zreq (args : List Value) (Q : zQ) (Y : zY) (σ : zS) (ci : Nat) : Prop := ∃ (x1 : Int32), args = [.int x1] ∧ (¬ x1 = 0 → Q none σ) ∧ (x1 = 0 → znew σ ci [] 6 (fun s => Y σ.2.1 s))
end ZR9
