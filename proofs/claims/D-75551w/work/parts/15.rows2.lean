/-! MORE ROWS: String constants, statics, casts, fields of several classes, stores of references, calls of several classes, bodies with handlers -/
section ZR2
variable {X : zX} {own : String} {cc : ByteArray} {nL : Nat} {ret : Option FieldType} {pc : Nat} {σ : zS} {ls : List (Option Value)} {st : List Value}
theorem z_ldcS (hX : zOk X own cc nL ret) {index j : Nat} {tx : String} (d : decode cc pc = .ok (.ldc index, 2)) (hq : (own, index, tx, j) ∈ zStrs) (kk : zW X σ (pc + 2) ls (va_rf (some (X.g.2.2.2 j)) :: st)) : zW X σ pc ls st := by
  intro H locs la h1 h2 h3 h4 h5
  exact va_ldcS hX.1 hX.2.1 hX.2.2.2.1 (vk_R.warm hX.2.2.2.2.2.1 (hX.2.2.2.2.2.2.1.2.2.1 _ hq)) d (kk H locs la h1 h2 h3 h4 h5)
theorem z_statZ (hX : zOk X own cc nL ret) {q : String × String × String × ((Nat → Nat) → Value)} (hq : q ∈ zStats) {H : Heap} (h1 : zHp X.g σ H) : va_Z q.1 q.2.1 q.2.2.1 (q.2.2.2 X.g.2.2.2) (fun a => X.g.1.heap.size ≤ a) X.s H := by
  refine va_Z.moved hX.2.2.2.2.2.1.alike ((hX.2.2.2.2.2.2.1.2.2.2.1 q hq).kept fun a ha hn => ?_)
  exact h1.2.2.2 a ha
theorem z_gets (hX : zOk X own cc nL ret) {index : Nat} {C n f : String} {F : (Nat → Nat) → Value} {v : Value} (d : decode cc pc = .ok (.getstatic index, 3)) (hq : (C, n, f, F) ∈ zStats) (hl : Cond.fieldLink own index C n f ∈ lw_all) (hv : F X.g.2.2.2 = v) (kk : zW X σ (pc + 3) ls (v :: st)) : zW X σ pc ls st := by
  subst hv
  intro H locs la h1 h2 h3 h4 h5
  obtain ⟨cf, kf, fi, fd, a, cell, e1, e2, e3, e4, e5, e6, e7, e8⟩ := z_statZ hX hq h1
  exact W.gets hX.1 hX.2.1 hX.2.2.2.1 (hX.2.2.2.2.1 _ hl) e1 e2 e3 e4 e5 (fun e => by rw [e] at e6; cases e6) e7 rfl d (kk H locs la h1 h2 h3 h4 h5)
theorem zfa0 {P : Nat → Prop} : ∀ c ∈ ([] : List Nat), P c := fun _ h => by cases h
theorem zfa1 {P : Nat → Prop} {a : Nat} {l : List Nat} (h : P a) (t : ∀ c ∈ l, P c) : ∀ c ∈ a :: l, P c := List.forall_mem_cons.mpr ⟨h, t⟩
/-- a cast of null, or of an object of a class that may be cast -/
abbrev zcst (σ : zS) (r : Option Nat) (cs : List Nat) : Prop := r = none ∨ ∃ b ci fs, r = some b ∧ ci ∈ cs ∧ σ.1 b = some (.inr (ci, fs))
def zCast (nm : String) (ci : Nat) : Prop := ∃ q : vw_C, zCl[ci]? = some q ∧ (q.1 = nm ∨ Cond.castable q.1 nm ∈ lw_tbl)
theorem z_cast (hX : zOk X own cc nL ret) {index : Nat} {nm : String} {cs : List Nat} {r : Option Nat} (d : decode cc pc = .ok (.checkcast index, 3)) (hl : Cond.classLink own index nm ∈ lw_all) (hcs : ∀ c ∈ cs, zCast nm c) (h : zcst σ r cs) (kk : zW X σ (pc + 3) ls (va_rf r :: st)) : zW X σ pc ls (va_rf r :: st) := by
  intro H locs la h1 h2 h3 h4 h5
  rcases h with rfl | ⟨b, ci, fs, rfl, hm, hb⟩
  · exact lv_castN hX.1 hX.2.1 d (kk H locs la h1 h2 h3 h4 h5)
  · obtain ⟨q, hq, hc⟩ := hcs ci hm
    obtain ⟨q', g0, cellV, g1, g2, g3, -⟩ := h1.obj hq hb
    have hcls := (hX.K.1 ci q hq).2
    rcases hc with rfl | hc
    · exact va_castS hX.1 hX.2.1 hX.2.2.2.1 (hX.2.2.2.2.1 _ hl) hcls ⟨cellV, g1, by rw [g3]; rfl, by rw [g2]; exact hcls.1⟩ d (kk H locs la h1 h2 h3 h4 h5)
    · exact va_castY (C := q.1) hX.1 hX.2.1 hX.2.2.2.1 (hX.2.2.2.2.1 _ hl) (va_Nw.warmC hX.2.2.2.2.2.1 (z_nw hX hc rfl)) ⟨cellV, g1, by rw [g3]; rfl, by rw [g2]; exact hcls.1⟩ d (kk H locs la h1 h2 h3 h4 h5)
/-- an array of the run's own, cast to its class -/
theorem z_castA (hX : zOk X own cc nL ret) (t : Nat) {index : Nat} {nm : String} {r : Option Nat} {a : Nat} {x : vp_A} (d : decode cc pc = .ok (.checkcast index, 3)) (hl : Cond.classLink own index nm ∈ lw_all) (ht : (zTy X.g)[t]? = some (X.g.2.2.1 t, zty t)) (hnm : ∀ (U : State) (cA : ClassId), va_RA U cA (zty t) → U.vm.findClass nm = some cA) (hr : r = some a) (hg : X.g.1.heap.size ≤ a) (ha : σ.1 a = some (.inl (t, x))) (kk : zW X σ (pc + 3) ls (va_rf r :: st)) : zW X σ pc ls (va_rf r :: st) := by
  subst hr
  intro H locs la h1 h2 h3 h4 h5
  obtain ⟨cell, hc, hA⟩ := h1.arr ha
  have hcl : cell.cls = X.g.2.2.1 t := hA.2.2.2.2 hg
  have hst : cell.vm.isStatics = false := by
    cases hv : cell.vm with
    | statics c => exact absurd hv (hA.2.1.1 c)
    | _ => rfl
  exact va_castE hX.1 hX.2.1 hX.2.2.2.1 (hX.2.2.2.2.1 _ hl) ⟨cell, hc, hst, by rw [hcl]; exact hnm _ _ (hX.K.2 t _ ht).2⟩ d (kk H locs la h1 h2 h3 h4 h5)
/-- instanceof: an object of the class itself, or of one that may be cast -/
theorem z_instY (hX : zOk X own cc nL ret) {index : Nat} {nm : String} {cs : List Nat} {r : Option Nat} {b ci : Nat} {fs : List Value} (d : decode cc pc = .ok (.instanceof index, 3)) (hl : Cond.classLink own index nm ∈ lw_all) (hcs : ∀ c ∈ cs, zCast nm c) (hr : r = some b) (hm : ci ∈ cs) (hb : σ.1 b = some (.inr (ci, fs))) (kk : zW X σ (pc + 3) ls (.int 1 :: st)) : zW X σ pc ls (va_rf r :: st) := by
  subst hr
  intro H locs la h1 h2 h3 h4 h5
  obtain ⟨q, hq, hc⟩ := hcs ci hm
  obtain ⟨q', g0, cellV, g1, g2, g3, -⟩ := h1.obj hq hb
  have hcls := (hX.K.1 ci q hq).2
  rcases hc with rfl | hc
  · exact va_instS hX.1 hX.2.1 hX.2.2.2.1 (hX.2.2.2.2.1 _ hl) hcls ⟨cellV, g1, by rw [g3]; rfl, by rw [g2]; exact hcls.1⟩ d (kk H locs la h1 h2 h3 h4 h5)
  · exact va_instY (C := q.1) hX.1 hX.2.1 hX.2.2.2.1 (hX.2.2.2.2.1 _ hl) (va_Nw.warmC hX.2.2.2.2.2.1 (z_nw hX hc rfl)) ⟨cellV, g1, by rw [g3]; rfl, by rw [g2]; exact hcls.1⟩ d (kk H locs la h1 h2 h3 h4 h5)
/-- the same field of several classes -/
def zFld (k : Nat) (t : String × String × String × Bool) (ci : Nat) : Prop := ∃ C T N ty, zCls ci C T N ty ∧ k < N ∧ T k = t
theorem z_getM (hX : zOk X own cc nL ret) {cs : List Nat} {index k a ci : Nat} {t : String × String × String × Bool} {r : Option Nat} {fs : List Value} {v : Value} (d : decode cc pc = .ok (.getfield index, 3)) (hcs : ∀ c ∈ cs, zFld k t c) (hl : zLk X own index (fun _ => t) k) (hr : r = some a) (hm : ci ∈ cs) (ha : σ.1 a = some (.inr (ci, fs))) (hv : fs[k]? = some v) (kk : zW X σ (pc + 3) ls (v :: st)) : zW X σ pc ls (va_rf r :: st) := by
  obtain ⟨C, T, N, ty, hc, hk, ht⟩ := hcs ci hm
  refine z_get hX hc d hk ?_ hr ha hv kk
  unfold zLk at hl ⊢
  rw [ht]
  exact hl
theorem z_putM (hX : zOk X own cc nL ret) {cs : List Nat} {index k a ci : Nat} {t : String × String × String × Bool} {tf : FieldType} {r : Option Nat} {fs : List Value} {v : Value} (d : decode cc pc = .ok (.putfield index, 3)) (hcs : ∀ c ∈ cs, zFld k t c) (hl : zLk X own index (fun _ => t) k) (hfin : t.2.2.2 = false) (hpd : parseFieldDescriptor t.2.2.1 = some tf) (hn : narrow tf v = v) (hfit : fits tf v = true) (hr : r = some a) (hm : ci ∈ cs) (hg : X.g.1.heap.size ≤ a) (ha : σ.1 a = some (.inr (ci, fs))) (hlen : k < fs.length) (kk : zW X (zup σ.1 a (.inr (ci, fs.set k v)), σ.2) (pc + 3) ls st) : zW X σ pc ls (v :: va_rf r :: st) := by
  obtain ⟨C, T, N, ty, hc, hk, ht⟩ := hcs ci hm
  have hty : ty k = tf := Option.some.inj ((hc.2.2.1 k hk).symm.trans (by rw [ht]; exact hpd))
  refine z_put hX hc d hk ?_ (by rw [ht]; exact hfin) (by rw [hty]; exact hn) (by rw [hty]; exact hfit) hr hg ha hlen kk
  unfold zLk at hl ⊢
  rw [ht]
  exact hl
theorem z_putFM (hX : zOk X own cc nL ret) {cs : List Nat} {index k a ci : Nat} {t : String × String × String × Bool} {tf : FieldType} {r : Option Nat} {fs : List Value} {v : Value} (d : decode cc pc = .ok (.putfield index, 3)) (hcs : ∀ c ∈ cs, zFld k t c) (hl : Cond.fieldLink own index t.1 t.2.1 t.2.2.1 ∈ lw_all) (hfin : t.2.2.2 = true) (hin2 : X.k.name = "<init>") (hdecl : t.1 = own) (hpd : parseFieldDescriptor t.2.2.1 = some tf) (hn : narrow tf v = v) (hfit : fits tf v = true) (hr : r = some a) (hm : ci ∈ cs) (hg : X.g.1.heap.size ≤ a) (ha : σ.1 a = some (.inr (ci, fs))) (hlen : k < fs.length) (kk : zW X (zup σ.1 a (.inr (ci, fs.set k v)), σ.2) (pc + 3) ls st) : zW X σ pc ls (v :: va_rf r :: st) := by
  obtain ⟨C, T, N, ty, hc, hk, ht⟩ := hcs ci hm
  have hty : ty k = tf := Option.some.inj ((hc.2.2.1 k hk).symm.trans (by rw [ht]; exact hpd))
  exact z_putF hX hc d hk (by rw [ht]; exact hl) (by rw [ht]; exact hfin) hin2 (by rw [ht]; exact hdecl) (by rw [hty]; exact hn) (by rw [hty]; exact hfit) hr hg ha hlen kk
/-- null or an object into an array of references -/
theorem z_aastM (hX : zOk X own cc nL ret) (t : Nat) {E : String} {cs : List Nat} {r v : Option Nat} {a n : Nat} {f : Nat → Option Nat} {i : Int32} (d : decode cc pc = .ok (.aastore, 1)) (ht : (zTy X.g)[t]? = some (X.g.2.2.1 t, .object E)) (htz : zty t = .object E) (hcs : ∀ c ∈ cs, zCast E c) (hr : r = some a) (hg : X.g.1.heap.size ≤ a) (ha : σ.1 a = some (.inl (t, n, .inr (.inr (.inr (.inr f)))))) (hin : vp_in i n) (hv : zcst σ v cs) (kk : zW X (zup σ.1 a (.inl (t, n, .inr (.inr (.inr (.inr (va_up f i.toNatClampNeg v)))))), σ.2) (pc + 1) ls st) : zW X σ pc ls (va_rf v :: .int i :: va_rf r :: st) := by
  rcases hv with hv | ⟨b, ci, fs, hv, hm, hb⟩
  · exact z_aastN hX t d htz hr hg ha hin hv kk
  · obtain ⟨q, hq, hc⟩ := hcs ci hm
    exact z_aast hX t d ht hq rfl hc hr hg ha hin hv hb kk
/-- one method, called through objects of several classes -/
def zSel (y : MethodName) (ci : Nat) : Prop := ∃ q : vw_C, zCl[ci]? = some q ∧ Cond.selects q.1 y y ∈ lw_all
theorem zJ_v {τ : Sort _} {f : τ} {b : τ → Prop} {G : Prop} (P : τ → Prop) (hw : zJ f b) (h2 : ∀ j, P j → b j → G) (h1 : P f) : G := h2 f h1 hw
end ZR2
