/-! THE LAYER: an abstract heap, one budget, a judgement zW over it -/
abbrev zH : Type := Nat → Option va_E
/-- heap, number of cells of the real heap, cells left, slots left -/
abbrev zS : Type := zH × Nat × Nat × Nat
def zup (h : zH) (a : Nat) (e : va_E) : zH := fun q => if q = a then some e else h q
theorem zup_s (h : zH) (a : Nat) (e : va_E) : zup h a e a = some e := if_pos rfl
theorem zup_n {h : zH} {a q : Nat} {e : va_E} (hn : q ≠ a) : zup h a e q = h q := if_neg hn
/-- the start, class numbers and slots, the classes of arrays, the addresses of constants -/
abbrev zG : Type := State × va_G × (Nat → ClassId) × (Nat → Nat)
abbrev zTy (g : zG) : List (ClassId × FieldType) := [(g.2.2.1 0, .int), (g.2.2.1 1, .long), (g.2.2.1 2, .byte), (g.2.2.1 3, .boolean), (g.2.2.1 4, .object "java/lang/Object"), (g.2.2.1 5, .array .int), (g.2.2.1 6, .object "PackingDuel$Kernel"), (g.2.2.1 7, .object "PackingDuel$Measure"), (g.2.2.1 8, .object "java/lang/String")]
/-- what an array holds at a place -/
def zval (c : (Nat → Int32) ⊕ (Nat → Int64) ⊕ (Nat → UInt32) ⊕ (Nat → UInt64) ⊕ (Nat → Option Nat)) (j : Nat) : Value := match c with
  | .inl f => .int (f j)
  | .inr (.inl f) => .long (f j)
  | .inr (.inr (.inl f)) => .float (f j)
  | .inr (.inr (.inr (.inl f))) => .double (f j)
  | .inr (.inr (.inr (.inr f))) => va_rf (f j)
def zty (t : Nat) : FieldType := match t with
  | 0 => .int
  | 1 => .long
  | 2 => .byte
  | 3 => .boolean
  | 4 => .object "java/lang/Object"
  | 5 => .array .int
  | 6 => .object "PackingDuel$Kernel"
  | 7 => .object "PackingDuel$Measure"
  | 8 => .object "java/lang/String"
  | _ => .object "java/lang/Integer"
/-- an array: its type, its length, what it holds; its class where it is the run's own -/
def zArr (g : zG) (a : Nat) (x : Nat × vp_A) (cell : Cell) : Prop := cell.vm ≠ .unknown ∧ g.1.isArrayOf cell (zty x.1) ∧ cell.slots.size = x.2.1 ∧ (∀ j, j < x.2.1 → cell.slots[j]? = some (zval x.2.2 j)) ∧ (g.1.heap.size ≤ a → cell.cls = g.2.2.1 x.1)
/-- a cell as the abstract heap has it: an array by its kind; an object of a class of zCl by its fields; a lambda's object (class 64 + its site's number) by what it captured -/
def zAt (g : zG) (a : Nat) (e : va_E) (H : Heap) : Prop := match e with
  | .inl x => ∃ cell : Cell, H[a]? = some cell ∧ zArr g a x cell
  | .inr o => va_at g.2.1 zCl (a, .inr o) H ∨ (zCl[o.1]? = none ∧ H[a]? = some ({ cls := g.2.2.1 (o.1 + 100), slots := o.2.toArray, vm := .none } : Cell))
theorem zAt.kept {g : zG} {a : Nat} {e : va_E} {H H1 : Heap} (h : zAt g a e H) (hq : H1[a]? = H[a]?) : zAt g a e H1 := by
  cases e with
  | inl x =>
    obtain ⟨cell, h1, h2⟩ := h
    exact ⟨cell, hq.trans h1, h2⟩
  | inr o =>
    rcases h with h | ⟨h, h2⟩
    · exact Or.inl (va_at.kept h hq)
    · exact Or.inr ⟨h, hq.trans h2⟩
theorem zAt.lt {g : zG} {a : Nat} {e : va_E} {H : Heap} (h : zAt g a e H) : a < H.size := by
  cases e with
  | inl x =>
    obtain ⟨cell, h1, h2⟩ := h
    exact (Array.getElem?_eq_some_iff.mp h1).1
  | inr o =>
    rcases h with h | ⟨h, h2⟩
    · have h9 : va_at g.2.1 zCl (a, .inr o) H := h
      exact h9.lt
    · exact (Array.getElem?_eq_some_iff.mp h2).1
/-- the real heap holds the abstract one; what was there at the start is untouched -/
def zHp (g : zG) (σ : zS) (H : Heap) : Prop := (∀ a e, σ.1 a = some e → zAt g a e H) ∧ H.size = σ.2.1 ∧ g.1.heap.size ≤ H.size ∧ ∀ q, q < g.1.heap.size → H[q]? = g.1.heap[q]?
def zopt (n : Nat) : Option Nat := match n with
  | 0 => none
  | n + 1 => some n
/-- String constants: class, entry, text, the constant's number -/
def zStrs : List (String × Nat × String × Nat) := [("PackingDuel", 65, "", 0), ("PackingDuel", 16, "set", 1), ("PackingDuel", 22, "items", 2), ("PackingDuel", 24, "weight", 3), ("PackingDuel", 26, "room", 4), ("PackingDuel", 28, "value", 5), ("PackingDuel", 30, "gain", 6), ("PackingDuel", 32, "harm", 7), ("PackingDuel", 34, "result", 8), ("PackingDuel", 36, "answered", 9), ("PackingDuelModel", 71, "set", 10), ("PackingDuelModel", 73, "items", 11), ("PackingDuelModel", 75, "weight", 12), ("PackingDuelModel", 77, "room", 13), ("PackingDuelModel", 79, "value", 14), ("PackingDuelModel", 81, "gain", 15), ("PackingDuelModel", 83, "harm", 16), ("PackingDuelModel", 85, "result", 17), ("PackingDuelModel", 87, "answered", 18), ("PackingDuelModel", 463, "duel", 19), ("PackingDuelModel", 469, "friendly", 20), ("PackingDuelModel", 474, "item", 21), ("PackingDuelModel", 479, "plan", 22), ("PackingDuelModel", 481, "answer", 23), ("PackingDuelModel", 531, "first", 24), ("PackingDuelModel", 533, "many", 25), ("PackingDuelModel", 501, "not", 26), ("PackingDuelModel", 515, "and", 27), ("PackingDuelModel", 520, "or", 28), ("PackingDuel$Scanner", 98, "", 29), ("PackingDuel$DuelParser", 24, "duel", 30), ("PackingDuel$DuelParser", 45, "friendly", 31), ("PackingDuel$DuelParser", 59, "item", 32), ("PackingDuel$DuelParser", 69, "plan", 33), ("PackingDuel$DuelParser", 71, "answer", 34), ("PackingDuel$QueryParser", 15, "first", 35), ("PackingDuel$QueryParser", 25, "many", 36), ("PackingDuel$QueryParser", 79, "not", 37), ("PackingDuel$QueryParser", 66, "and", 38), ("PackingDuel$QueryParser", 56, "or", 39)]
/-- statics: class, name, descriptor, what they hold, by the constants' addresses -/
def zStats : List (String × String × String × ((Nat → Nat) → Value)) := [
  ("PackingDuel$Token", "WORD", "LPackingDuel$Token;", fun c => .ref (c 50)),
  ("PackingDuel$Token", "NUMBER", "LPackingDuel$Token;", fun c => .ref (c 51)),
  ("PackingDuel$Token", "SIGN", "LPackingDuel$Token;", fun c => .ref (c 52)),
  ("PackingDuel$Token", "END", "LPackingDuel$Token;", fun c => .ref (c 53)),
  ("java/util/ArrayList", "DEFAULTCAPACITY_EMPTY_ELEMENTDATA", "[Ljava/lang/Object;", fun c => .ref (c 54)),
  ("java/lang/Integer$IntegerCache", "cache", "[Ljava/lang/Integer;", fun c => .ref (c 55)),
  ("java/lang/Integer", "DigitTens", "[B", fun c => .ref (c 56)),
  ("java/lang/Integer", "DigitOnes", "[B", fun c => .ref (c 57)),
  ("java/lang/Throwable", "UNASSIGNED_STACK", "[Ljava/lang/StackTraceElement;", fun c => va_rf (zopt (c 60))),
  ("java/lang/Throwable", "SUPPRESSED_SENTINEL", "Ljava/util/List;", fun c => va_rf (zopt (c 61))),
  ("java/lang/Integer$IntegerCache", "high", "I", fun _ => .int 127),
  ("java/lang/String", "COMPACT_STRINGS", "Z", fun _ => .int 1),
  ("jdk/internal/util/Preconditions", "SIOOBE_FORMATTER", "Ljava/util/function/BiFunction;", fun c => va_rf (zopt (c 62)))]
/-- the call sites of the lambdas -/
def zSites : List Cond := [siteWord_1_1, siteWord_1_2, siteWord_1_3, siteWord_1_4, siteWord_1_5, siteWord_1_6, siteWord_1_7, siteWord_1_8, siteWord_1_9]
/-- a lambda's site: its class (the number 164 + j), its one object where it captures nothing (the constant 70 + j) -/
def zLamOk (g : zG) (w : Cond) (j : Nat) : Prop := match w with
  | .lambdaSite x pc index sh => ∃ one, g.1.lambdaAt? x pc index sh = some (g.2.2.1 (164 + j), one) ∧ ∀ a, one = some a → a = g.2.2.2 (70 + j)
  | _ => True
/-- what is known at the start, all through the run: classes; the tables' words; String constants; statics; the array class's mirror; classes that cannot be cast -/
def zGk (g : zG) : Prop := va_K g.2.1 zCl (zTy g) g.1 ∧ (∃ A : Array Value, (∀ w ∈ lw_tbl, w.before A g.1 = true) ∧ (Jvm.Cond.and given_1 narrow_1).before A g.1 = true) ∧ (∀ q ∈ zStrs, vk_R q.1 q.2.1 q.2.2.1 (g.2.2.2 q.2.2.2) g.1) ∧ (∀ q ∈ zStats, va_Z q.1 q.2.1 q.2.2.1 (q.2.2.2 g.2.2.2) (fun a => g.1.heap.size ≤ a) g.1 g.1.heap) ∧ va_Mi "[Ljava/lang/Object;" (g.2.2.2 58) g.1 ∧ va_Nc "java/lang/IllegalArgumentException" "java/util/NoSuchElementException" g.1 ∧ va_Nc "PackingDuel$HeavyError" "PackingDuel$TwiceError" g.1 ∧ ∀ j w, zSites[j]? = some w → zLamOk g w j
/-- program, launch, env, room, state, method id, args, below, method, code, g, budgets at entry, goal -/
abbrev zX : Type := Program × Launch × Env × Room × State × MethodId × Array Value × List Frame × Method × Code × zG × (Nat × Nat) × (State → Prop)
abbrev zX.p (X : zX) := X.1
abbrev zX.l (X : zX) := X.2.1
abbrev zX.e (X : zX) := X.2.2.1
abbrev zX.R (X : zX) := X.2.2.2.1
abbrev zX.s (X : zX) := X.2.2.2.2.1
abbrev zX.m (X : zX) := X.2.2.2.2.2.1
abbrev zX.a (X : zX) := X.2.2.2.2.2.2.1
abbrev zX.b (X : zX) := X.2.2.2.2.2.2.2.1
abbrev zX.k (X : zX) := X.2.2.2.2.2.2.2.2.1
abbrev zX.c (X : zX) := X.2.2.2.2.2.2.2.2.2.1
abbrev zX.g (X : zX) := X.2.2.2.2.2.2.2.2.2.2.1
abbrev zX.z (X : zX) := X.2.2.2.2.2.2.2.2.2.2.2.1
abbrev zX.Q (X : zX) := X.2.2.2.2.2.2.2.2.2.2.2.2
def zlF : Nat → List (Option Value) → List (Nat × Value)
  | _, [] => []
  | n, none :: t => zlF (n + 1) t
  | n, some v :: t => (n, v) :: zlF (n + 1) t
theorem zlF_mem (ls : List (Option Value)) : ∀ (n i : Nat) (v : Value), (i, v) ∈ zlF n ls ↔ n ≤ i ∧ ls[i - n]? = some (some v) := by
  induction ls with
  | nil => intro n i v; simp [zlF]
  | cons a t ih =>
    intro n i v
    cases a with
    | none =>
      rw [zlF, ih]
      constructor
      · rintro ⟨h1, h2⟩
        refine ⟨by omega, ?_⟩
        rw [show i - n = (i - (n + 1)) + 1 by omega]
        exact h2
      · rintro ⟨h1, h2⟩
        rcases Nat.eq_or_lt_of_le h1 with e | e
        · subst e
          rw [Nat.sub_self] at h2
          cases h2
        · refine ⟨e, ?_⟩
          rw [show i - n = (i - (n + 1)) + 1 by omega] at h2
          exact h2
    | some w =>
      rw [zlF, List.mem_cons, ih]
      constructor
      · rintro (e | ⟨h1, h2⟩)
        · cases e
          exact ⟨Nat.le_refl _, by rw [Nat.sub_self]; rfl⟩
        · refine ⟨by omega, ?_⟩
          rw [show i - n = (i - (n + 1)) + 1 by omega]
          exact h2
      · rintro ⟨h1, h2⟩
        rcases Nat.eq_or_lt_of_le h1 with e | e
        · subst e
          rw [Nat.sub_self] at h2
          cases h2
          exact Or.inl rfl
        · refine Or.inr ⟨e, ?_⟩
          rw [show i - n = (i - (n + 1)) + 1 by omega] at h2
          exact h2
/-- the locals that are known -/
def zLoc (la : Array Slot) (ls : List (Option Value)) : Prop := lv_has la ls.length (zlF 0 ls)
theorem zLoc.at {la : Array Slot} {ls : List (Option Value)} (h : zLoc la ls) {i : Nat} {v : Value} (hi : ls[i]? = some (some v)) : la[i]? = some (.val v) := h.2.2 (i, v) ((zlF_mem ls 0 i v).mpr ⟨Nat.zero_le _, hi⟩)
/-- fewer are known -/
def zsub : List (Option Value) → List (Option Value) → Prop
  | [], [] => True
  | _ :: t, none :: t' => zsub t t'
  | a :: t, some v :: t' => a = some v ∧ zsub t t'
  | _, _ => False
theorem zsub_len : ∀ (l l' : List (Option Value)), zsub l l' → l.length = l'.length
  | [], [], _ => rfl
  | _ :: t, none :: t', h => by
    show t.length + 1 = t'.length + 1
    rw [zsub_len t t' h]
  | a :: t, some v :: t', h => by
    show t.length + 1 = t'.length + 1
    rw [zsub_len t t' h.2]
  | [], a :: t, h => by cases a <;> exact h.elim
  | a :: t, [], h => h.elim
theorem zsub_at : ∀ (l l' : List (Option Value)), zsub l l' → ∀ (i : Nat) (v : Value), l'[i]? = some (some v) → l[i]? = some (some v)
  | [], [], _, i, v, h => by simp at h
  | a :: t, none :: t', hs, i, v, h => by
    cases i with
    | zero => cases h
    | succ i => exact zsub_at t t' hs i v h
  | a :: t, some w :: t', hs, i, v, h => by
    cases i with
    | zero => cases h; rw [hs.1]; rfl
    | succ i => exact zsub_at t t' hs.2 i v h
  | [], a :: t, hs, i, v, h => by cases a <;> exact hs.elim
  | a :: t, [], hs, i, v, h => hs.elim
theorem zLoc.sub {la : Array Slot} {ls ls' : List (Option Value)} (h : zLoc la ls) (hs : zsub ls ls') : zLoc la ls' := by
  refine ⟨by rw [← zsub_len _ _ hs]; exact h.1, h.2.1, fun q hq => ?_⟩
  obtain ⟨i, v⟩ := q
  have h1 := ((zlF_mem ls' 0 i v).mp hq).2
  exact h.at (zsub_at _ _ hs i v h1)
/-- what stands ahead of the place i is of one word -/
def zcat (ls : List (Option Value)) : Nat → Prop
  | 0 => True
  | j + 1 => match ls[j]? with
    | some (some w) => w.category = 1
    | _ => True
theorem zc_rf (r : Option Nat) : (va_rf r).category = 1 := by cases r <;> rfl
theorem zLoc.st1 {la : Array Slot} {ls : List (Option Value)} {i : Nat} {v : Value} (hp : zcat ls i) (hn : i < ls.length) (h : lv_has la ls.length ((i, v) :: (zlF 0 ls).filter (fun q => !(q.1 == i) && !(q.1 + 1 == i && q.2.category == 2)))) : zLoc la (ls.set i (some v)) := by
  refine ⟨by rw [List.length_set]; exact h.1, h.2.1, fun q hq => ?_⟩
  obtain ⟨j, w⟩ := q
  have h1 := ((zlF_mem _ 0 j w).mp hq).2
  rw [Nat.sub_zero] at h1
  by_cases hj : i = j
  · subst hj
    rw [List.getElem?_set_self hn] at h1
    cases h1
    exact h.2.2 (i, v) List.mem_cons_self
  · rw [List.getElem?_set_ne hj] at h1
    refine h.2.2 (j, w) (List.mem_cons_of_mem _ (List.mem_filter.mpr ⟨(zlF_mem _ 0 j w).mpr ⟨Nat.zero_le _, by rw [Nat.sub_zero]; exact h1⟩, ?_⟩))
    have h3 : (j == i) = false := by simp; omega
    have h4 : (j + 1 == i && w.category == 2) = false := by
      by_cases h5 : j + 1 = i
      · subst h5
        have h6 : w.category = 1 := by
          have h7 := hp
          simp only [zcat, h1] at h7
          exact h7
        simp [h6]
      · simp [h5]
    simp only [h3, h4]
    rfl
theorem zLoc.st2 {la : Array Slot} {ls : List (Option Value)} {i : Nat} {v : Value} (hp : zcat ls i) (hn : i + 1 < ls.length) (h : lv_has la ls.length ((i, v) :: (zlF 0 ls).filter (fun q => !(q.1 == i) && (!(q.1 == i + 1) && !(q.1 + 1 == i && q.2.category == 2))))) : zLoc la ((ls.set i (some v)).set (i + 1) none) := by
  refine ⟨by rw [List.length_set, List.length_set]; exact h.1, h.2.1, fun q hq => ?_⟩
  obtain ⟨j, w⟩ := q
  have h1 := ((zlF_mem _ 0 j w).mp hq).2
  rw [Nat.sub_zero] at h1
  by_cases hj2 : i + 1 = j
  · subst hj2
    rw [List.getElem?_set_self (by rw [List.length_set]; exact hn)] at h1
    cases h1
  · rw [List.getElem?_set_ne hj2] at h1
    by_cases hj : i = j
    · subst hj
      rw [List.getElem?_set_self (by omega)] at h1
      cases h1
      exact h.2.2 (i, v) List.mem_cons_self
    · rw [List.getElem?_set_ne hj] at h1
      refine h.2.2 (j, w) (List.mem_cons_of_mem _ (List.mem_filter.mpr ⟨(zlF_mem _ 0 j w).mpr ⟨Nat.zero_le _, by rw [Nat.sub_zero]; exact h1⟩, ?_⟩))
      have h3 : (j == i) = false := by simp; omega
      have h3' : (j == i + 1) = false := by simp; omega
      have h4 : (j + 1 == i && w.category == 2) = false := by
        by_cases h5 : j + 1 = i
        · subst h5
          have h6 : w.category = 1 := by
            have h7 := hp
            simp only [zcat, h1] at h7
            exact h7
          simp [h6]
        · simp [h5]
      simp only [h3, h3', h4]
      rfl
/-- THE JUDGEMENT: from every real heap that holds σ, with these locals and this stack at pc, the run comes to the goal -/
def zW (X : zX) (σ : zS) (pc : Nat) (ls : List (Option Value)) (st : List Value) : Prop :=
  ∀ (H : Heap) (locs : List Loc) (la : Array Slot), zHp X.g σ H → (∀ z ∈ locs, X.g.1.heap.size ≤ z.base) → zLoc la ls → σ.2.2.1 ≤ X.z.1 → σ.2.2.2 ≤ X.z.2 →
    W X.p X.l X.e X.R X.s X.m X.a X.b X.k X.c H locs (X.z.1 - σ.2.2.1) (X.z.2 - σ.2.2.2) X.Q (F0 X.m pc la st)
/-- the same with q thrown -/
def zT (X : zX) (σ : zS) (pc : Nat) (ls : List (Option Value)) (q : Nat) : Prop :=
  ∀ (H : Heap) (locs : List Loc) (la : Array Slot) (rest : List Value), zHp X.g σ H → (∀ z ∈ locs, X.g.1.heap.size ≤ z.base) → zLoc la ls → σ.2.2.1 ≤ X.z.1 → σ.2.2.2 ≤ X.z.2 →
    vx_W X.p X.l X.e X.R X.s X.m X.a X.b X.k X.c H locs (X.z.1 - σ.2.2.1) (X.z.2 - σ.2.2.2) X.Q (F0 X.m pc la rest) q
/-- what holds in a method of the class own, with code cc, nL locals, answer ret, all through its run -/
def zOk (X : zX) (own : String) (cc : ByteArray) (nL : Nat) (ret : Option FieldType) : Prop :=
  X.p.tables.exec = Jvm.exec ∧ X.c.code = cc ∧ X.c.maxLocals = nL ∧ X.s.vm.findClass own = some X.m.cls ∧ (∀ w ∈ lw_all, w.before X.a X.s = true) ∧ X.g.1.WarmedH X.s.vm ∧ zGk X.g ∧ X.k.locks = false ∧ X.k.sig.returnType = ret ∧ X.R.cells = X.z.1 ∧ X.R.slots = X.z.2
theorem zOk.K {X : zX} {own : String} {cc : ByteArray} {nL : Nat} {ret : Option FieldType} (h : zOk X own cc nL ret) : va_K X.g.2.1 zCl (zTy X.g) X.s := va_K.moved h.2.2.2.2.2.1.alike h.2.2.2.2.2.2.1.1
theorem z_one {g : zG} {H : Heap} {a : Nat} {e : va_E} (h : va_at g.2.1 zCl (a, e) H) : va_P g.2.1 zCl [(a, e)] H := by
  intro k q hk
  cases k with
  | zero => cases hk; exact h
  | succ k => cases hk
theorem zHp.obj {g : zG} {σ : zS} {H : Heap} (h : zHp g σ H) {a ci : Nat} {fs : List Value} {q : vw_C} (hc : zCl[ci]? = some q) (ha : σ.1 a = some (.inr (ci, fs))) : va_at g.2.1 zCl (a, .inr (ci, fs)) H := by
  rcases h.1 a _ ha with h | ⟨h, -⟩
  · exact h
  · cases h.symm.trans hc
theorem zHp.arr {g : zG} {σ : zS} {H : Heap} (h : zHp g σ H) {a : Nat} {x : Nat × vp_A} (ha : σ.1 a = some (.inl x)) : ∃ cell : Cell, H[a]? = some cell ∧ zArr g a x cell := h.1 a _ ha
theorem zArr.set {g : zG} {a t n k : Nat} {c c' : (Nat → Int32) ⊕ (Nat → Int64) ⊕ (Nat → UInt32) ⊕ (Nat → UInt64) ⊕ (Nat → Option Nat)} {cell : Cell} {v : Value} (h : zArr g a (t, n, c) cell) (hv : ∀ j, j < n → zval c' j = if j = k then v else zval c j) : zArr g a (t, n, c') (cell.setSlot k v) := by
  obtain ⟨h1, h2, h3, h4, h5⟩ := h
  refine ⟨h1, h2, by simpa [Cell.setSlot] using h3, fun j hj => ?_, h5⟩
  have h3 : cell.slots.size = n := h3
  show (cell.slots.setIfInBounds k v)[j]? = some (zval c' j)
  rw [hv j hj, Array.getElem?_setIfInBounds]
  by_cases hk : k = j
  · subst hk
    rw [if_pos rfl, if_pos rfl, if_pos (by rw [h3]; exact hj)]
  · rw [if_neg hk, if_neg (Ne.symm hk)]
    exact h4 j hj
theorem zArr.new {g : zG} {a t n : Nat} {c : (Nat → Int32) ⊕ (Nat → Int64) ⊕ (Nat → UInt32) ⊕ (Nat → UInt64) ⊕ (Nat → Option Nat)} {z : Nat → Value} (hA : ArrOfT g.1 (g.2.2.1 t) (zty t)) (hz : ∀ j, j < n → z j = zval c j) : zArr g a (t, n, c) (arrV (g.2.2.1 t) n z) := by
  refine ⟨(fun h => by cases h), hA n z, arrV_size _ _ _, ?_, fun _ => rfl⟩
  intro j hj
  have hj : j < n := hj
  rw [arrV_read _ _ hj, hz j hj]
theorem zHp.lt {g : zG} {σ : zS} {H : Heap} (h : zHp g σ H) {a : Nat} {e : va_E} (ha : σ.1 a = some e) : a < H.size := (h.1 a e ha).lt
theorem zHp.fresh {g : zG} {σ : zS} {H : Heap} (h : zHp g σ H) : σ.1 σ.2.1 = none := by
  cases he : σ.1 σ.2.1 with
  | none => rfl
  | some e => exact absurd (h.lt he) (by rw [h.2.1]; exact Nat.lt_irrefl _)
/-- a cell is written -/
theorem zHp.set {g : zG} {σ : zS} {H H1 : Heap} (h : zHp g σ H) {a : Nat} {e : va_E} (hg : g.1.heap.size ≤ a) (he : zAt g a e H1) (hz : H1.size = H.size) (oq : ∀ q : Nat, q ≠ a → H1[q]? = H[q]?) : zHp g (zup σ.1 a e, σ.2) H1 := by
  refine ⟨fun b x hb => ?_, hz.trans h.2.1, by rw [hz]; exact h.2.2.1, fun q hq => (oq q (by omega)).trans (h.2.2.2 q hq)⟩
  by_cases hba : b = a
  · subst hba
    have hb' : zup σ.1 b e b = some x := hb
    rw [zup_s] at hb'
    cases hb'
    exact he
  · have hb' : zup σ.1 a e b = some x := hb
    rw [zup_n hba] at hb'
    exact (h.1 b x hb').kept (oq b hba)
/-- a cell is made -/
theorem zHp.push {g : zG} {σ : zS} {H H1 : Heap} (h : zHp g σ H) {e : va_E} (he : zAt g σ.2.1 e H1) (hz : H1.size = H.size + 1) (oq : ∀ q : Nat, q < H.size → H1[q]? = H[q]?) (c s : Nat) : zHp g (zup σ.1 σ.2.1 e, σ.2.1 + 1, c, s) H1 := by
  refine ⟨fun b x hb => ?_, by rw [hz, h.2.1], by have := h.2.2.1; omega, fun q hq => (oq q (Nat.lt_of_lt_of_le hq h.2.2.1)).trans (h.2.2.2 q hq)⟩
  by_cases hba : b = σ.2.1
  · subst hba
    have hb' : zup σ.1 σ.2.1 e σ.2.1 = some x := hb
    rw [zup_s] at hb'
    cases hb'
    exact he
  · have hb' : zup σ.1 σ.2.1 e b = some x := hb
    rw [zup_n hba] at hb'
    exact (h.1 b x hb').kept (oq b (h.lt hb'))
theorem z_sub {X : zX} {σ : zS} {pc : Nat} {ls ls' : List (Option Value)} {st : List Value} (hs : zsub ls ls') (k : zW X σ pc ls' st) : zW X σ pc ls st := fun H locs la h1 h2 h3 h4 h5 => k H locs la h1 h2 (h3.sub hs) h4 h5
theorem zT_sub {X : zX} {σ : zS} {pc : Nat} {ls ls' : List (Option Value)} {q : Nat} (hs : zsub ls ls') (k : zT X σ pc ls' q) : zT X σ pc ls q := fun H locs la r h1 h2 h3 h4 h5 => k H locs la r h1 h2 (h3.sub hs) h4 h5
