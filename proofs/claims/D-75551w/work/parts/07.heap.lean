/-! ROWS WITH THE HEAP -/
section ZHEAP
variable {X : zX} {own : String} {cc : ByteArray} {nL : Nat} {ret : Option FieldType} {pc : Nat} {σ : zS} {ls : List (Option Value)} {st : List Value}
theorem z_nw {w : Cond} (hX : zOk X own cc nL ret) (hw : w ∈ lw_tbl) (ho : w.onTables = true) : va_Nw w X.g.1 := by
  obtain ⟨A, hA, -⟩ := hX.2.2.2.2.2.2.1.2.1
  exact va_Nw.of ho (hA w hw)
/-- a link to a field: its own class's, an inherited one's, a nest mate's -/
def zLk (X : zX) (own : String) (index : Nat) (T : u_T) (k : Nat) : Prop :=
  (∃ ref, (Cond.fieldLink own index ref (T k).2.1 (T k).2.2.1).before X.a X.s = true ∧ ∀ x, X.s.fieldFound? (T k).1 (T k).2.1 (T k).2.2.1 = some x → X.s.fieldFound? ref (T k).2.1 (T k).2.2.1 = some x) ∨
  (∃ host, (Cond.fieldLinkNest own index (T k).1 (T k).2.1 (T k).2.2.1 host).before X.a X.s = true)
theorem zlk (hX : zOk X own cc nL ret) {index : Nat} {T : u_T} {k : Nat} (h : Cond.fieldLink own index (T k).1 (T k).2.1 (T k).2.2.1 ∈ lw_all) : zLk X own index T k := Or.inl ⟨_, hX.2.2.2.2.1 _ h, fun _ h => h⟩
theorem zlkS (hX : zOk X own cc nL ret) {index : Nat} {T : u_T} {k : Nat} (ref : String) (h : Cond.fieldLink own index ref (T k).2.1 (T k).2.2.1 ∈ lw_all) (h2 : Cond.sameField ref (T k).1 (T k).2.1 (T k).2.2.1 ∈ lw_all) : zLk X own index T k := Or.inl ⟨ref, hX.2.2.2.2.1 _ h, fun _ hx => u_same (hX.2.2.2.2.1 _ h2) _ hx⟩
theorem zlkN (hX : zOk X own cc nL ret) {index : Nat} {T : u_T} {k : Nat} (host : String) (h : Cond.fieldLinkNest own index (T k).1 (T k).2.1 (T k).2.2.1 host ∈ lw_tbl) : zLk X own index T k := Or.inr ⟨host, va_Nw.use rfl (va_Nw.warmF hX.2.2.2.2.2.1 (z_nw hX h rfl))⟩
theorem z_get (hX : zOk X own cc nL ret) {ci N index : Nat} {C : String} {T : u_T} {ty : Nat → FieldType} (hc : zCls ci C T N ty) {r : Option Nat} {a k : Nat} {fs : List Value} {v : Value} (d : decode cc pc = .ok (.getfield index, 3)) (hk : k < N) (hl : zLk X own index T k) (hr : r = some a) (ha : σ.1 a = some (.inr (ci, fs))) (hv : fs[k]? = some v)
    (kk : zW X σ (pc + 3) ls (v :: st)) : zW X σ pc ls (va_rf r :: st) := by
  subst hr
  intro H locs la h1 h2 h3 h4 h5
  rcases hl with ⟨ref, hl1, hl2⟩ | ⟨host, hl1⟩
  · exact va_get (D := X.g.2.1) (cl := zCl) (q0 := 0) hX.1 hX.2.1 hX.2.2.2.2.1 hc.2.1 hX.2.2.2.1 hX.K (z_one (h1.obj hc.1 ha)) rfl hc.1 k hk hl1 hl2 hv d (kk H locs la h1 h2 h3 h4 h5)
  · exact va_getN (D := X.g.2.1) (cl := zCl) (q0 := 0) hX.1 hX.2.1 hX.2.2.2.2.1 hc.2.1 hX.2.2.2.1 hX.K (z_one (h1.obj hc.1 ha)) rfl hc.1 k hk hl1 (fun _ h => h) hv d (kk H locs la h1 h2 h3 h4 h5)
theorem z_cname {s : State} {O f d : String} {cf fi : Nat} {kf : Class} {fd : Field} (hi : s.fieldFound? O f d = some (cf, kf, fi, fd)) (ho : s.vm.findClass O = some cf) : kf.name = O := by
  obtain ⟨k, h1, h2⟩ := Vm.findClass_spec ho
  cases h1.symm.trans (State.fieldFound?_spec hi).1
  exact h2
/-- fields of different names, or of different declarers, lie apart -/
theorem z_apart (hX : zOk X own cc nL ret) {ci N : Nat} {C : String} {T : u_T} {ty : Nat → FieldType} (hc : zCls ci C T N ty) : ∀ x y, x < N → y < N → x ≠ y → (X.g.2.1.2 ci) x ≠ (X.g.2.1.2 ci) y := by
  intro x y hx hy hne
  obtain ⟨hS, -⟩ := hX.K.1 ci _ hc.1
  obtain ⟨_, _, _, fa, hia, ea⟩ := hS x hx
  obtain ⟨_, _, _, fb, hib, eb⟩ := hS y hy
  rw [← ea, ← eb]
  rcases hc.2.2.2 x hx y hy hne with h9 | ⟨h9, hfx, hfy⟩
  · refine u_apart (u_lays hX.2.2.2.2.1 hc.2.1 hx) (u_lays hX.2.2.2.2.1 hc.2.1 hy) hia hib ?_
    rw [(State.fieldFound?_type hia (hc.2.2.1 x hx)).1, (State.fieldFound?_type hib (hc.2.2.1 y hy)).1]
    exact h9
  · have key : ∀ z, z < N → (T z).2.2.2 = true → ∀ cf kf fi fd, X.s.fieldFound? (T z).1 (T z).2.1 (T z).2.2.1 = some (cf, kf, fi, fd) → ∃ c d, X.s.vm.findClass C = some c ∧ Jmm.declares? X.s.vm fd.slot (c + 1) c = some d ∧ d.1.name = (T z).1 := by
      intro z hz hf cf kf fi fd hi
      have hlay := hX.2.2.2.2.1 _ (hc.2.1 _ (u_in_lay hz))
      unfold u_lay at hlay
      rw [if_pos hf] at hlay
      obtain ⟨c, k, c', k', i, f, r1, r2, hi', -, -, -, ho, -, d, hd, n1, n2, -⟩ := Cond.laysFinal_spec hlay
      cases hi.symm.trans hi'
      exact ⟨c, d, r1, hd, n1.trans (z_cname hi ho)⟩
    intro hs
    obtain ⟨c1, d1, p1, p2, p3⟩ := key x hx hfx _ _ _ _ hia
    obtain ⟨c2, d2, q1, q2, q3⟩ := key y hy hfy _ _ _ _ hib
    cases p1.symm.trans q1
    rw [hs] at p2
    cases p2.symm.trans q2
    exact h9 (p3.symm.trans q3)
theorem z_put (hX : zOk X own cc nL ret) {ci N index : Nat} {C : String} {T : u_T} {ty : Nat → FieldType} (hc : zCls ci C T N ty) {r : Option Nat} {a k : Nat} {fs : List Value} {v : Value} (d : decode cc pc = .ok (.putfield index, 3)) (hk : k < N) (hl : zLk X own index T k) (hfin : (T k).2.2.2 = false) (hn : narrow (ty k) v = v) (hfit : fits (ty k) v = true) (hr : r = some a) (hg : X.g.1.heap.size ≤ a) (ha : σ.1 a = some (.inr (ci, fs))) (hlen : k < fs.length)
    (kk : zW X (zup σ.1 a (.inr (ci, fs.set k v)), σ.2) (pc + 3) ls st) : zW X σ pc ls (v :: va_rf r :: st) := by
  subst hr
  intro H locs la h1 h2 h3 h4 h5
  have hap := z_apart hX hc
  obtain ⟨q, g1, cell, q1, q2, q3, q4⟩ := h1.obj hc.1 ha
  cases Option.some.inj (g1.symm.trans hc.1)
  obtain ⟨hS, hfc, kC, hkC, hkind⟩ := hX.K.1 ci _ hc.1
  obtain ⟨cf, kf, fi, f, hi, hsl⟩ := hS k hk
  have hlay := hX.2.2.2.2.1 _ (hc.2.1 _ (u_in_lay hk))
  unfold u_lay at hlay
  rw [if_neg (by rw [hfin]; decide)] at hlay
  have hst := (u_facts hfc hkC (u_lays hX.2.2.2.2.1 hc.2.1 hk) hi).1
  have h6 := u_store hfc hkC hkind hlay hi (hc.2.2.1 k hk) hn hfit
  have key : ∀ H' : Heap, H'[a]? = some (cell.setSlot f.slot v) → H'.size = H.size → (∀ q, q ≠ a → H'[q]? = H[q]?) → W X.p X.l X.e X.R X.s X.m X.a X.b X.k X.c H' (locs ++ [⟨a, f.slot⟩]) (X.z.1 - σ.2.2.1) (X.z.2 - σ.2.2.2) X.Q (F0 X.m (pc + 3) la st) := by
    intro H' e1 e2 e3
    rw [hsl] at e1
    refine kk H' _ la (h1.set hg ?_ e2 e3) ?_ h3 h4 h5
    · exact Or.inl ⟨_, hc.1, t_OB.to (V := updV (vp_V fs) k v) ⟨_, e1, q2, q3, t_set q4 hap hk v⟩ (fun j _ => vp_updV_set hlen v j)⟩
    · intro z hz
      rcases List.mem_append.mp hz with h | h
      · exact h2 z h
      · rw [List.mem_singleton.mp h]; exact hg
  rcases hl with ⟨ref, hl1, hl2⟩ | ⟨host, hl1⟩
  · exact W.putK hX.1 hX.2.1 (f := f) ⟨hX.2.2.2.1, hl1, ⟨_, _, _, hl2 _ hi⟩, hst⟩ (by rw [q2]; exact h6) q1 q3 (by rw [hsl]; exact k2_hasslot (q4 k hk)) rfl rfl d key
  · exact va_WputK hX.1 hX.2.1 (f := f) hX.2.2.2.1 hl1 hi hst (by rw [q2]; exact h6) q1 q3 (by rw [hsl]; exact k2_hasslot (q4 k hk)) rfl rfl d key
/-- a final field, in its own class's constructor -/
theorem z_putF (hX : zOk X own cc nL ret) {ci N index : Nat} {C : String} {T : u_T} {ty : Nat → FieldType} (hc : zCls ci C T N ty) {r : Option Nat} {a k : Nat} {fs : List Value} {v : Value} (d : decode cc pc = .ok (.putfield index, 3)) (hk : k < N) (hl : Cond.fieldLink own index (T k).1 (T k).2.1 (T k).2.2.1 ∈ lw_all) (hfin : (T k).2.2.2 = true) (hin2 : X.k.name = "<init>") (hdecl : (T k).1 = own) (hn : narrow (ty k) v = v) (hfit : fits (ty k) v = true) (hr : r = some a) (hg : X.g.1.heap.size ≤ a) (ha : σ.1 a = some (.inr (ci, fs))) (hlen : k < fs.length)
    (kk : zW X (zup σ.1 a (.inr (ci, fs.set k v)), σ.2) (pc + 3) ls st) : zW X σ pc ls (v :: va_rf r :: st) := by
  subst hr
  intro H locs la h1 h2 h3 h4 h5
  have hap := z_apart hX hc
  obtain ⟨q, g1, cell, q1, q2, q3, q4⟩ := h1.obj hc.1 ha
  cases Option.some.inj (g1.symm.trans hc.1)
  obtain ⟨hS, hfc, kC, hkC, hkind⟩ := hX.K.1 ci _ hc.1
  obtain ⟨cf, kf, fi, f, hi, hsl⟩ := hS k hk
  have hlay := hX.2.2.2.2.1 _ (hc.2.1 _ (u_in_lay hk))
  unfold u_lay at hlay
  rw [if_pos hfin] at hlay
  have hst := (u_facts hfc hkC (u_lays hX.2.2.2.2.1 hc.2.1 hk) hi).1
  have hcf : X.m.cls = cf := by
    obtain ⟨_, _, c', _, _, _, -, -, hf', -, -, -, hown2, -⟩ := Cond.laysFinal_spec hlay
    have e1 : c' = cf := by have := hi.symm.trans hf'; simp at this; exact this.1.symm
    rw [hdecl] at hown2
    rw [← e1]; exact Option.some.inj (hX.2.2.2.1.symm.trans hown2)
  have h6 := u_fits hfc hkC hkind (Or.inr hlay) hi (hc.2.2.1 k hk) hn hfit
  refine W.putFinK hX.1 hX.2.1 hX.2.2.2.1 (hX.2.2.2.2.1 _ hl) hi hst hcf hin2 (by rw [q2]; exact h6) q1 q3 (by rw [hsl]; exact k2_hasslot (q4 k hk)) rfl rfl d ?_
  intro H' e1 e2 e3
  rw [hsl] at e1
  refine kk H' _ la (h1.set hg ?_ e2 e3) ?_ h3 h4 h5
  · exact Or.inl ⟨_, hc.1, t_OB.to (V := updV (vp_V fs) k v) ⟨_, e1, q2, q3, t_set q4 hap hk v⟩ (fun j _ => vp_updV_set hlen v j)⟩
  · intro z hz
    rcases List.mem_append.mp hz with h | h
    · exact h2 z h
    · rw [List.mem_singleton.mp h]; exact hg
/-- arrays: kinds 0 int, 1 long, 2 byte, 3 boolean, 4 Object, 5 int[], 6 Kernel, 7 Measure, 8 String, 9 Integer -/
theorem z_isA (hX : zOk X own cc nL ret) {a : Nat} {x : Nat × vp_A} {cell : Cell} (h : zArr X.g a x cell) : X.s.isArrayOf cell (zty x.1) := State.isArrayOf_alike hX.2.2.2.2.2.1.alike h.2.1
theorem z_inA {g : zG} {a t n : Nat} {c : (Nat → Int32) ⊕ (Nat → Int64) ⊕ (Nat → UInt32) ⊕ (Nat → UInt64) ⊕ (Nat → Option Nat)} {cell : Cell} {i : Int32} (h : zArr g a (t, n, c) cell) (hin : vp_in i n) : ¬ (i < 0 ∨ cell.slots.size ≤ i.toNatClampNeg) := by
  rw [show cell.slots.size = n from h.2.2.1]; exact hin
theorem z_rdA {g : zG} {a t n : Nat} {c : (Nat → Int32) ⊕ (Nat → Int64) ⊕ (Nat → UInt32) ⊕ (Nat → UInt64) ⊕ (Nat → Option Nat)} {cell : Cell} {i : Int32} (h : zArr g a (t, n, c) cell) (hin : vp_in i n) : cell.slots[i.toNatClampNeg]? = some (zval c i.toNatClampNeg) := h.2.2.2.1 _ (Nat.not_le.mp fun q => hin (Or.inr q))
theorem z_iald (hX : zOk X own cc nL ret) {r : Option Nat} {a n : Nat} {f : Nat → Int32} {i : Int32} (d : decode cc pc = .ok (.iaload, 1)) (hr : r = some a) (ha : σ.1 a = some (.inl (0, n, .inl f))) (hin : vp_in i n) (kk : zW X σ (pc + 1) ls (.int (f i.toNatClampNeg) :: st)) : zW X σ pc ls (.int i :: va_rf r :: st) := by
  subst hr
  intro H locs la h1 h2 h3 h4 h5
  obtain ⟨cell, hc, hA⟩ := h1.arr ha
  exact W.iald (v := .int (f i.toNatClampNeg)) hX.1 hX.2.1 hc (z_isA hX hA) hA.1 (z_inA hA hin) (z_rdA hA hin) rfl rfl d (kk H locs la h1 h2 h3 h4 h5)
theorem z_lald (hX : zOk X own cc nL ret) {r : Option Nat} {a n : Nat} {f : Nat → Int64} {i : Int32} (d : decode cc pc = .ok (.laload, 1)) (hr : r = some a) (ha : σ.1 a = some (.inl (1, n, .inr (.inl f)))) (hin : vp_in i n) (kk : zW X σ (pc + 1) ls (.long (f i.toNatClampNeg) :: st)) : zW X σ pc ls (.int i :: va_rf r :: st) := by
  subst hr
  intro H locs la h1 h2 h3 h4 h5
  obtain ⟨cell, hc, hA⟩ := h1.arr ha
  exact W.lald (v := .long (f i.toNatClampNeg)) hX.1 hX.2.1 hc (z_isA hX hA) hA.1 (z_inA hA hin) (z_rdA hA hin) rfl rfl d (kk H locs la h1 h2 h3 h4 h5)
theorem z_bald (hX : zOk X own cc nL ret) {r : Option Nat} {a n : Nat} {f : Nat → Int32} {i : Int32} (d : decode cc pc = .ok (.baload, 1)) (hr : r = some a) (ha : σ.1 a = some (.inl (2, n, .inl f))) (hin : vp_in i n) (kk : zW X σ (pc + 1) ls (.int (f i.toNatClampNeg) :: st)) : zW X σ pc ls (.int i :: va_rf r :: st) := by
  subst hr
  intro H locs la h1 h2 h3 h4 h5
  obtain ⟨cell, hc, hA⟩ := h1.arr ha
  exact W.bald (v := .int (f i.toNatClampNeg)) hX.1 hX.2.1 hc (z_isA hX hA) hA.1 (z_inA hA hin) (z_rdA hA hin) rfl rfl d (kk H locs la h1 h2 h3 h4 h5)
theorem z_zald (hX : zOk X own cc nL ret) {r : Option Nat} {a n : Nat} {f : Nat → Int32} {i : Int32} (d : decode cc pc = .ok (.baload, 1)) (hr : r = some a) (ha : σ.1 a = some (.inl (3, n, .inl f))) (hin : vp_in i n) (kk : zW X σ (pc + 1) ls (.int (f i.toNatClampNeg) :: st)) : zW X σ pc ls (.int i :: va_rf r :: st) := by
  subst hr
  intro H locs la h1 h2 h3 h4 h5
  obtain ⟨cell, hc, hA⟩ := h1.arr ha
  exact W.zald (v := .int (f i.toNatClampNeg)) hX.1 hX.2.1 hc (z_isA hX hA) hA.1 (z_inA hA hin) (z_rdA hA hin) rfl rfl d (kk H locs la h1 h2 h3 h4 h5)
theorem z_alen (hX : zOk X own cc nL ret) (t : Nat) {r : Option Nat} {a : Nat} {x : vp_A} (d : decode cc pc = .ok (.arraylength, 1)) (hr : r = some a) (ha : σ.1 a = some (.inl (t, x))) (kk : zW X σ (pc + 1) ls (.int (nI x.1) :: st)) : zW X σ pc ls (va_rf r :: st) := by
  subst hr
  intro H locs la h1 h2 h3 h4 h5
  obtain ⟨cell, hc, hA⟩ := h1.arr ha
  exact W.alen (n := nI x.1) hX.1 hX.2.1 hc (z_isA hX hA) (by rw [show cell.slots.size = x.1 from hA.2.2.1]; rfl) rfl rfl d (kk H locs la h1 h2 h3 h4 h5)
theorem z_aald (hX : zOk X own cc nL ret) (t : Nat) {r : Option Nat} {a n : Nat} {f : Nat → Option Nat} {i : Int32} (d : decode cc pc = .ok (.aaload, 1)) (ht : (zty t).isReference = true) (hr : r = some a) (ha : σ.1 a = some (.inl (t, n, .inr (.inr (.inr (.inr f)))))) (hin : vp_in i n) (kk : zW X σ (pc + 1) ls (va_rf (f i.toNatClampNeg) :: st)) : zW X σ pc ls (.int i :: va_rf r :: st) := by
  subst hr
  intro H locs la h1 h2 h3 h4 h5
  obtain ⟨cell, hc, hA⟩ := h1.arr ha
  exact W.aald (v := va_rf (f i.toNatClampNeg)) hX.1 hX.2.1 hc (z_isA hX hA) ht hA.1 (z_inA hA hin) (z_rdA hA hin) rfl rfl d (kk H locs la h1 h2 h3 h4 h5)
/-- an array is written at a place -/
theorem z_ast (hX : zOk X own cc nL ret) {a j t n : Nat} {c c' : (Nat → Int32) ⊕ (Nat → Int64) ⊕ (Nat → UInt32) ⊕ (Nat → UInt64) ⊕ (Nat → Option Nat)} {cell : Cell} {v : Value} {H H1 : Heap} {locs : List Loc} {la : Array Slot} (h1 : zHp X.g σ H) (h2 : ∀ z ∈ locs, X.g.1.heap.size ≤ z.base) (h3 : zLoc la ls) (h4 : σ.2.2.1 ≤ X.z.1) (h5 : σ.2.2.2 ≤ X.z.2) (hg : X.g.1.heap.size ≤ a) (hA : zArr X.g a (t, n, c) cell) (hv : ∀ q, q < n → zval c' q = if q = j then v else zval c q) (he : H1[a]? = some (cell.setSlot j v)) (hz : H1.size = H.size) (oq : ∀ q, q ≠ a → H1[q]? = H[q]?)
    (kk : zW X (zup σ.1 a (.inl (t, n, c')), σ.2) (pc + 1) ls st) : W X.p X.l X.e X.R X.s X.m X.a X.b X.k X.c H1 (locs ++ [⟨a, j⟩]) (X.z.1 - σ.2.2.1) (X.z.2 - σ.2.2.2) X.Q (F0 X.m (pc + 1) la st) := by
  refine kk H1 _ la (h1.set hg ⟨_, he, hA.set hv⟩ hz oq) ?_ h3 h4 h5
  intro z hz
  rcases List.mem_append.mp hz with h | h
  · exact h2 z h
  · rw [List.mem_singleton.mp h]; exact hg
theorem z_nb (x : Int32) : narrow .byte (.int x) = .int (vp_nar .byte x) := by simp [vp_nar, narrow]
theorem z_nz (x : Int32) : narrow .boolean (.int x) = .int (vp_nar .boolean x) := by simp [vp_nar, narrow]
theorem z_upv {α : Type} (f : Nat → α) (k : Nat) (x : α) (F : α → Value) (q : Nat) : F (va_up f k x q) = if q = k then F x else F (f q) := by
  by_cases h : q = k
  · rw [if_pos h, va_up, if_pos h]
  · rw [if_neg h, va_up, if_neg h]
theorem z_iast (hX : zOk X own cc nL ret) {r : Option Nat} {a n : Nat} {f : Nat → Int32} {i : Int32} {x : Int32} (d : decode cc pc = .ok (.iastore, 1)) (hr : r = some a) (hg : X.g.1.heap.size ≤ a) (ha : σ.1 a = some (.inl (0, n, .inl f))) (hin : vp_in i n) (kk : zW X (zup σ.1 a (.inl (0, n, .inl (va_up f i.toNatClampNeg x))), σ.2) (pc + 1) ls st) : zW X σ pc ls (.int x :: .int i :: va_rf r :: st) := by
  subst hr
  intro H locs la h1 h2 h3 h4 h5
  obtain ⟨cell, hc, hA⟩ := h1.arr ha
  exact W.iast hX.1 hX.2.1 hc (z_isA hX hA) hA.1 (z_inA hA hin) rfl rfl d fun H1 e z oq => z_ast (c' := .inl (va_up f i.toNatClampNeg x)) hX h1 h2 h3 h4 h5 hg hA (fun q _ => z_upv f _ x Value.int q) (e) z oq kk
theorem z_last (hX : zOk X own cc nL ret) {r : Option Nat} {a n : Nat} {f : Nat → Int64} {i : Int32} {x : Int64} (d : decode cc pc = .ok (.lastore, 1)) (hr : r = some a) (hg : X.g.1.heap.size ≤ a) (ha : σ.1 a = some (.inl (1, n, .inr (.inl f)))) (hin : vp_in i n) (kk : zW X (zup σ.1 a (.inl (1, n, .inr (.inl (va_up f i.toNatClampNeg x)))), σ.2) (pc + 1) ls st) : zW X σ pc ls (.long x :: .int i :: va_rf r :: st) := by
  subst hr
  intro H locs la h1 h2 h3 h4 h5
  obtain ⟨cell, hc, hA⟩ := h1.arr ha
  exact W.last hX.1 hX.2.1 hc (z_isA hX hA) hA.1 (z_inA hA hin) rfl rfl d fun H1 e z oq => z_ast (c' := .inr (.inl (va_up f i.toNatClampNeg x))) hX h1 h2 h3 h4 h5 hg hA (fun q _ => z_upv f _ x Value.long q) (e) z oq kk
theorem z_bast (hX : zOk X own cc nL ret) {r : Option Nat} {a n : Nat} {f : Nat → Int32} {i : Int32} {x : Int32} (d : decode cc pc = .ok (.bastore, 1)) (hr : r = some a) (hg : X.g.1.heap.size ≤ a) (ha : σ.1 a = some (.inl (2, n, .inl f))) (hin : vp_in i n) (kk : zW X (zup σ.1 a (.inl (2, n, .inl (va_up f i.toNatClampNeg (vp_nar .byte x)))), σ.2) (pc + 1) ls st) : zW X σ pc ls (.int x :: .int i :: va_rf r :: st) := by
  subst hr
  intro H locs la h1 h2 h3 h4 h5
  obtain ⟨cell, hc, hA⟩ := h1.arr ha
  exact W.bast hX.1 hX.2.1 hc (z_isA hX hA) hA.1 (z_inA hA hin) rfl rfl d fun H1 e z oq => z_ast (c' := .inl (va_up f i.toNatClampNeg (vp_nar .byte x))) hX h1 h2 h3 h4 h5 hg hA (fun q _ => z_upv f _ (vp_nar .byte x) Value.int q) (by rw [← z_nb]; exact e) z oq kk
theorem z_zast (hX : zOk X own cc nL ret) {r : Option Nat} {a n : Nat} {f : Nat → Int32} {i : Int32} {x : Int32} (d : decode cc pc = .ok (.bastore, 1)) (hr : r = some a) (hg : X.g.1.heap.size ≤ a) (ha : σ.1 a = some (.inl (3, n, .inl f))) (hin : vp_in i n) (kk : zW X (zup σ.1 a (.inl (3, n, .inl (va_up f i.toNatClampNeg (vp_nar .boolean x)))), σ.2) (pc + 1) ls st) : zW X σ pc ls (.int x :: .int i :: va_rf r :: st) := by
  subst hr
  intro H locs la h1 h2 h3 h4 h5
  obtain ⟨cell, hc, hA⟩ := h1.arr ha
  exact W.zast hX.1 hX.2.1 hc (z_isA hX hA) hA.1 (z_inA hA hin) rfl rfl d fun H1 e z oq => z_ast (c' := .inl (va_up f i.toNatClampNeg (vp_nar .boolean x))) hX h1 h2 h3 h4 h5 hg hA (fun q _ => z_upv f _ (vp_nar .boolean x) Value.int q) (by rw [← z_nz]; exact e) z oq kk
end ZHEAP
