/-! ROW: multianewarray of ints in two dimensions -/
theorem z_aoI {u U : State} {A B : Array Value} (hvm : u.vm.Alike U.vm) (h : (Cond.arrayOver (.array .int)).before A u = true) : (Cond.arrayOver (.array .int)).before B U = true := by
  unfold Cond.before Cond.holds at h ⊢
  simp only [Cond.value] at h ⊢
  simp only [hvm.findClass]
  have hb : U.vm.bare = u.vm.bare := by first | exact hvm.bare_eq | exact hvm.bare_eq.symm
  cases hc : u.vm.findClass (FieldType.array .int).toString with
  | none => rw [hc] at h; simp at h
  | some comp =>
    rw [hc, Option.bind_some] at h
    rw [Option.bind_some]
    have hi : (U.vm.classes.findIdx? fun (x : Class) => match x.kind with | .array component _ => component == comp | _ => false) = (u.vm.classes.findIdx? fun (x : Class) => match x.kind with | .array component _ => component == comp | _ => false) := by
      have e1 := va_idx_bare U.vm comp
      have e2 := va_idx_bare u.vm comp
      rw [hb] at e1
      exact e1.symm.trans e2
    refine (congrArg (fun o : Option Nat => (o.bind (fun c => (U.vm.classes[c]?).map fun (k : Class) => match k.kind with | .array _ ty => decide (ty = FieldType.array .int) && decide (u.vm.findClass ("[" ++ (FieldType.array .int).toString) = some c) | _ => false) == some true)) hi).trans ?_
    cases hj : (u.vm.classes.findIdx? fun (x : Class) => match x.kind with | .array component _ => component == comp | _ => false) with
    | none => 
      have h' := (congrArg (fun o : Option Nat => (o.bind (fun c => (u.vm.classes[c]?).map fun (k : Class) => match k.kind with | .array _ ty => decide (ty = FieldType.array .int) && decide (u.vm.findClass ("[" ++ (FieldType.array .int).toString) = some c) | _ => false) == some true)) hj).symm.trans h
      simp at h'
    | some c =>
      have h' := (congrArg (fun o : Option Nat => (o.bind (fun c => (u.vm.classes[c]?).map fun (k : Class) => match k.kind with | .array _ ty => decide (ty = FieldType.array .int) && decide (u.vm.findClass ("[" ++ (FieldType.array .int).toString) = some c) | _ => false) == some true)) hj).symm.trans h
      simp only [Option.bind_some] at h' ⊢
      cases hk : u.vm.classes[c]? with
      | none => rw [hk] at h'; simp at h'
      | some k =>
        obtain ⟨k', hk', he⟩ := hvm.2.2 _ _ hk
        rw [hk] at h'
        rw [hk']
        have hkk : k'.kind = k.kind := by rw [he]
        simp only [Option.map_some] at h' ⊢
        rw [hkk]
        exact h'
/-- the heap after the making of an array of n arrays of k ints -/
def zmul (h : Nat → Option va_E) (a n k : Nat) : Nat → Option va_E := fun q => if a < q ∧ q ≤ a + n then some (.inl (0, k, .inl (fun _ => 0))) else if q = a then some (.inl (5, n, .inr (.inr (.inr (.inr (fun i => some (a + 1 + i))))))) else h q
theorem zfillH (s : State) (cA comp : ClassId) (N M : Nat) (dv : Value) : ∀ i, i ≤ N → ∀ q, (Jvm.Free.Multi.fill s cA comp N M dv i).heap[q]? = if s.heap.size < q ∧ q ≤ s.heap.size + i then some (Jvm.Free.Multi.innerC comp M dv) else if q = s.heap.size then some (Jvm.Free.Multi.outerC cA N s.heap.size i) else s.heap[q]? := by
  intro i hi q
  obtain ⟨f1, f2, -, -⟩ := Jvm.Free.Multi.fill_facts s cA comp N M dv i
  by_cases h1 : s.heap.size < q ∧ q ≤ s.heap.size + i
  · rw [if_pos h1]
    have := Jvm.Free.Multi.fill_inner s cA comp N M dv i (q - s.heap.size - 1) (by omega)
    rw [show s.heap.size + 1 + (q - s.heap.size - 1) = q by omega] at this
    exact this
  · rw [if_neg h1]
    by_cases h2 : q = s.heap.size
    · rw [if_pos h2, h2]
      exact f2
    · rw [if_neg h2]
      rcases Nat.lt_or_ge q s.heap.size with h3 | h3
      · exact Jvm.Free.Multi.fill_old s cA comp N M dv h3 i
      · rw [Array.getElem?_eq_none (by rw [f1]; omega), Array.getElem?_eq_none (by omega)]
/-- the word: an array of n arrays of k ints is made -/
def znewM (σ : zS) (n k : Int32) (K : zS → Prop) : Prop := ¬ n < 0 ∧ ¬ k < 0 ∧ n.toNatClampNeg ≤ 60000000 ∧ k.toNatClampNeg ≤ 60000000 ∧ 1 + n.toNatClampNeg ≤ σ.2.2.1 ∧ n.toNatClampNeg + n.toNatClampNeg * k.toNatClampNeg ≤ σ.2.2.2 ∧ ((∀ q, σ.2.1 ≤ q → σ.1 q = none) → ∀ s : zS, s = (zmul σ.1 σ.2.1 n.toNatClampNeg k.toNatClampNeg, σ.2.1 + 1 + n.toNatClampNeg, σ.2.2.1 - (1 + n.toNatClampNeg), σ.2.2.2 - (n.toNatClampNeg + n.toNatClampNeg * k.toNatClampNeg)) → K s)
theorem z_multi {X : zX} {own : String} {cc : ByteArray} {nL : Nat} {ret : Option FieldType} {pc : Nat} {σ : zS} {ls : List (Option Value)} {st : List Value} (hX : zOk X own cc nL ret) {index : Nat} {n k : Int32} {K : zS → Prop} (dc : decode cc pc = .ok (.multianewarray index 2, 4)) (hl : Cond.classLink own index "[[I" ∈ lw_all) (ho : Cond.arrayOver (.array .int) ∈ lw_tbl) (hw0 : Cond.arrayClass .int ∈ lw_all) (hw : znewM σ n k K)
    (kk : ∀ s : zS, K s → zW X s (pc + 4) ls (va_rf (some σ.2.1) :: st)) : zW X σ pc ls (.int k :: .int n :: st) := by
  obtain ⟨hn, hk, hn1, hk1, hb, hs, hw⟩ := hw
  intro H locs la g1 g2 g3 g4 g5 T hT Z
  have hao : (Cond.arrayOver (.array .int)).before X.a X.s = true := by
    obtain ⟨A, hA, -⟩ := hX.2.2.2.2.2.2.1.2.1
    exact z_aoI hX.2.2.2.2.2.1.alike (hA _ ho)
  obtain ⟨vm₁, cA, comp, e1, e2, e3, Z1, step⟩ := Z.multianewarray2 hX.1 (ty := .int) hX.2.2.2.1 (hX.2.2.2.2.1 _ hl) hao (hX.2.2.2.2.1 _ hw0) (g := F0 X.m pc la (.int k :: .int n :: st)) rfl (by rw [hX.2.1]; exact dc) (rest := st) rfl hn hk (by omega) (by show k.toNatClampNeg * 4 ≤ _; omega) (by omega) rfl rfl (by rw [hX.2.2.2.2.2.2.2.2.2.1]; omega) (by rw [hX.2.2.2.2.2.2.2.2.2.2]; omega)
  have hcA : X.g.2.2.1 5 = cA := Option.some.inj ((show X.s.vm.findClass "[[I" = some (X.g.2.2.1 5) from (hX.K.2 5 _ rfl).2).symm.trans e2)
  have hcB : X.g.2.2.1 0 = comp := Option.some.inj ((show X.s.vm.findClass "[I" = some (X.g.2.2.1 0) from (hX.K.2 0 _ rfl).2).symm.trans e3)
  have hsz : H.size = σ.2.1 := g1.2.1
  generalize hN : n.toNatClampNeg = N at *
  generalize hM : k.toNatClampNeg = M at *
  have hhp : ∀ q, (Jvm.Free.Multi.fill (T.setVm vm₁) cA comp N M (defaultValue .int) N).heap[q]? = if H.size < q ∧ q ≤ H.size + N then some (Jvm.Free.Multi.innerC comp M (defaultValue .int)) else if q = H.size then some (Jvm.Free.Multi.outerC cA N H.size N) else H[q]? := by
    intro q
    have := zfillH (T.setVm vm₁) cA comp N M (defaultValue .int) N (Nat.le_refl _) q
    rw [show (T.setVm vm₁).heap = H from hT] at this
    exact this
  have hsz2 : (Jvm.Free.Multi.fill (T.setVm vm₁) cA comp N M (defaultValue .int) N).heap.size = H.size + 1 + N := by
    rw [(Jvm.Free.Multi.fill_facts (T.setVm vm₁) cA comp N M (defaultValue .int) N).1]
    rw [show (T.setVm vm₁).heap = H from hT]
  have hold : ∀ q, q < H.size → (Jvm.Free.Multi.fill (T.setVm vm₁) cA comp N M (defaultValue .int) N).heap[q]? = H[q]? := by
    intro q hq
    rw [hhp, if_neg (by omega), if_neg (by omega)]
  have hHp : zHp X.g (zmul σ.1 σ.2.1 N M, σ.2.1 + 1 + N, σ.2.2.1 - (1 + N), σ.2.2.2 - (N + N * M)) (Jvm.Free.Multi.fill (T.setVm vm₁) cA comp N M (defaultValue .int) N).heap := by
    refine ⟨fun b x hb => ?_, by rw [hsz2, hsz], by have := g1.2.2.1; rw [hsz2]; omega, fun q hq => (hold q (Nat.lt_of_lt_of_le hq g1.2.2.1)).trans (g1.2.2.2 q hq)⟩
    have hb : zmul σ.1 σ.2.1 N M b = some x := hb
    unfold zmul at hb
    by_cases c1 : σ.2.1 < b ∧ b ≤ σ.2.1 + N
    · rw [if_pos c1] at hb
      cases hb
      refine ⟨Jvm.Free.Multi.innerC comp M (defaultValue .int), by rw [hhp, if_pos (by rw [hsz]; exact c1)], ?_⟩
      have := zArr.new (g := X.g) (a := b) (t := 0) (n := M) (c := .inl (fun _ => 0)) (z := fun _ => .int 0) (hX.2.2.2.2.2.2.1.1.2 0 _ rfl).1 (fun _ _ => rfl)
      rw [hcB] at this
      rw [show Jvm.Free.Multi.innerC comp M (defaultValue .int) = arrV comp M (fun _ => .int 0) from by rw [← arrV_new]; rfl]
      exact this
    · rw [if_neg c1] at hb
      by_cases c2 : b = σ.2.1
      · rw [if_pos c2] at hb
        cases hb
        obtain ⟨o1, o2, o3⟩ := Jvm.Free.Multi.outerC_facts cA N H.size N
        refine ⟨Jvm.Free.Multi.outerC cA N H.size N, by rw [hhp, if_neg (by rw [hsz]; exact c1), if_pos (by rw [hsz]; exact c2)], ?_⟩
        refine ⟨(by rw [o2]; exact fun h => by cases h), ⟨(by rw [o2]; exact fun _ h => by cases h), ?_⟩, o3, fun j hj => ?_, fun _ => by rw [o1, hcA]⟩
        · have := ((hX.2.2.2.2.2.2.1.1.2 5 _ rfl).1 0 (fun _ => .null)).2
          rw [o1, ← hcA]
          exact this
        · have hj : j < N := hj
          rw [Jvm.Free.Multi.outerC_slot cA N H.size N j hj, if_pos hj, hsz]
          rfl
      · rw [if_neg c2] at hb
        exact (g1.1 b x hb).kept (hold b (g1.lt hb))
  rw [show X.z.1 - σ.2.2.1 + 1 + N = X.z.1 - (σ.2.2.1 - (1 + N)) by omega, show X.z.2 - σ.2.2.2 + N + N * M = X.z.2 - (σ.2.2.2 - (N + N * M)) by omega] at Z1
  obtain ⟨t9, a1, b1⟩ := kk _ (hw (fun q hq => by
      cases he : σ.1 q with
      | none => rfl
      | some e => exact absurd (g1.lt he) (by omega)) _ rfl) _ _ la hHp (by
      intro z hz
      rcases List.mem_append.mp hz with h | h
      · exact g2 z h
      · obtain ⟨w, -, hw⟩ := List.mem_map.mp h
        rw [← hw, hT]
        exact g1.2.2.1) g3 (by show σ.2.2.1 - (1 + N) ≤ _; omega) (by show σ.2.2.2 - (N + N * M) ≤ _; omega) _ rfl Z1
  refine ⟨t9, step t9 ?_, b1⟩
  rw [hT, g1.2.1]
  exact a1
