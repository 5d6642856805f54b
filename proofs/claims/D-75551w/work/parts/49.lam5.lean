set_option maxRecDepth 100000
section ZL5
variable {X : zX} {own : String} {cc : ByteArray} {nL : Nat} {ret : Option FieldType} {pc : Nat} {σ : zS} {ls : List (Option Value)} {st : List Value}
theorem zyn (hX : zOk X own cc nL ret) {y : MethodName} {bytes : ByteArray} {maxL : Nat} {rt : Option FieldType} (hq : Cond.code y bytes maxL rt ∈ lw_all) {U : State} (hW : X.s.WarmedH U.vm) : ∃ t, U.methodNamed? y = some t := by
  have hcode : (Cond.code y bytes maxL rt).before X.a U = true := word_at hW (lw_self _ hq).2 (hX.2.2.2.2.1 _ hq)
  cases hnB : U.methodNamed? y with
  | none => simp [Cond.before, Cond.holds, Cond.value, hnB] at hcode
  | some t => exact ⟨t, rfl⟩
theorem zwU (hX : zOk X own cc nL ret) {w : Cond} (hq : w ∈ lw_all) {U : State} (hW : X.s.WarmedH U.vm) : w.before X.a U = true := word_at hW (lw_self _ hq).2 (hX.2.2.2.2.1 _ hq)
theorem z_il0 (hX : zOk X own cc nL ret) {d : Nat} (hd : zDep X (d + 1)) {index count : Nat} {r : Option Nat} {b : Nat} {x : Int32} (hr : r = some b) (hb : σ.1 b = some (.inr (64, []))) (dc : decode cc pc = .ok (.invokeinterface index count, 5)) (hl : Cond.methodLink own index ⟨"PackingDuel$Measure", "of", "(I)I"⟩ ∈ lw_all) {K : Int32 → zS → Prop} (hM : zMet X.l X.g d (⟨"PackingDuel$State", "lambda$newMeasures$0", "(I)I"⟩, Cond.code ⟨"PackingDuel$State", "lambda$newMeasures$0", "(I)I"⟩ prog_20_method_44_code 1 (Option.some FieldType.int)) [.int x] σ (zqI K) (fun _ _ => False)) (hsz : ls.length = nL) (hW : (st.map fun v => v.category).sum ≤ 8) (kk : ∀ v σ', K v σ' → zW X σ' (pc + 5) ls (.int v :: st)) : zW X σ pc ls (.int x :: va_rf r :: st) := by
  refine z_invL0 hX hd (j := 0) zLi0 zLs0 zLy0 zLc0 zLg0 rfl (congrArg some zLw0) rfl rfl (by decide +kernel) q3233 hr rfl hb dc hl q2437 q2436 hM q2411 zNl_code (Nat.le_of_ble_eq_true rfl) q131 (fun U hU => zyn hX q2411 hU) (pcC := 1) zldS0_1 zldS0_4 ?_ (fun U t h => by rw [zLd0]; exact State.methodFound?_of_named h (by decide)) hsz hW kk
  intro U mk t ck gf hbts hMF hcell hH hWm hny hadm hAt target h
  obtain ⟨nt, m1, m2, m3⟩ := zLM0
  obtain ⟨kt, metht, a1, a2, a3, a4, a5, a6, a7, a8, a9⟩ := zstF (e := X.e) (n := 1) hMF m1 m2 m3 zLC0 hny rfl (zwU hX q2411 hWm) (zwU hX q131 hWm) zn116 rfl
  have hst : metht.isStatic = true := Cond.static_spec hny a5 (zwU hX q2410 hWm)
  exact zgoS0 hX.1 hbts a1 a3 a4 a5 a6 hst a7 a8 hAt target h
theorem z_il1 (hX : zOk X own cc nL ret) {d : Nat} (hd : zDep X (d + 1)) {index count : Nat} {r : Option Nat} {b : Nat} {x : Int32} (hr : r = some b) (hb : σ.1 b = some (.inr (65, []))) (dc : decode cc pc = .ok (.invokeinterface index count, 5)) (hl : Cond.methodLink own index ⟨"PackingDuel$Measure", "of", "(I)I"⟩ ∈ lw_all) {K : Int32 → zS → Prop} (hM : zMet X.l X.g d (⟨"PackingDuel$State", "lambda$newMeasures$1", "(I)I"⟩, Cond.code ⟨"PackingDuel$State", "lambda$newMeasures$1", "(I)I"⟩ prog_20_method_43_code 1 (Option.some FieldType.int)) [.int x] σ (zqI K) (fun _ _ => False)) (hsz : ls.length = nL) (hW : (st.map fun v => v.category).sum ≤ 8) (kk : ∀ v σ', K v σ' → zW X σ' (pc + 5) ls (.int v :: st)) : zW X σ pc ls (.int x :: va_rf r :: st) := by
  refine z_invL0 hX hd (j := 1) zLi1 zLs1 zLy1 zLc1 zLg1 rfl (congrArg some zLw1) rfl rfl (by decide +kernel) q3233 hr rfl hb dc hl q2437 q2436 hM q2413 zNl_code (Nat.le_of_ble_eq_true rfl) q131 (fun U hU => zyn hX q2413 hU) (pcC := 1) zldS0_1 zldS0_4 ?_ (fun U t h => by rw [zLd1]; exact State.methodFound?_of_named h (by decide)) hsz hW kk
  intro U mk t ck gf hbts hMF hcell hH hWm hny hadm hAt target h
  obtain ⟨nt, m1, m2, m3⟩ := zLM1
  obtain ⟨kt, metht, a1, a2, a3, a4, a5, a6, a7, a8, a9⟩ := zstF (e := X.e) (n := 1) hMF m1 m2 m3 zLC1 hny rfl (zwU hX q2413 hWm) (zwU hX q131 hWm) zn117 rfl
  have hst : metht.isStatic = true := Cond.static_spec hny a5 (zwU hX q2412 hWm)
  exact zgoS0 hX.1 hbts a1 a3 a4 a5 a6 hst a7 a8 hAt target h
theorem z_il2 (hX : zOk X own cc nL ret) {d : Nat} (hd : zDep X (d + 1)) {index count : Nat} {r : Option Nat} {b : Nat} {x : Int32} {v1 : Value} (hr : r = some b) (hb : σ.1 b = some (.inr (66, [v1]))) (dc : decode cc pc = .ok (.invokeinterface index count, 5)) (hl : Cond.methodLink own index ⟨"PackingDuel$Measure", "of", "(I)I"⟩ ∈ lw_all) {K : Int32 → zS → Prop} (hM : zMet X.l X.g d (⟨"PackingDuel$State", "lambda$newMeasures$2", "(LPackingDuel$Sums;I)I"⟩, Cond.code ⟨"PackingDuel$State", "lambda$newMeasures$2", "(LPackingDuel$Sums;I)I"⟩ prog_20_method_42_code 2 (Option.some FieldType.int)) [v1, .int x] σ (zqI K) (fun _ _ => False)) (hsz : ls.length = nL) (hW : (st.map fun v => v.category).sum ≤ 8) (kk : ∀ v σ', K v σ' → zW X σ' (pc + 5) ls (.int v :: st)) : zW X σ pc ls (.int x :: va_rf r :: st) := by
  refine z_invL0 hX hd (j := 2) zLi2 zLs2 zLy2 zLc2 zLg2 rfl (congrArg some zLw2) rfl rfl (by decide +kernel) q3233 hr rfl hb dc hl q2437 q2436 hM q2415 zNl_code (Nat.le_of_ble_eq_true rfl) q131 (fun U hU => zyn hX q2415 hU) (pcC := 5) zldS1_5 zldS1_8 ?_ (fun U t h => by rw [zLd2]; exact State.methodFound?_of_named h (by decide)) hsz hW kk
  intro U mk t ck gf hbts hMF hcell hH hWm hny hadm hAt target h
  obtain ⟨nt, m1, m2, m3⟩ := zLM2
  obtain ⟨kt, metht, a1, a2, a3, a4, a5, a6, a7, a8, a9⟩ := zstF (e := X.e) (n := 2) hMF m1 m2 m3 zLC2 hny rfl (zwU hX q2415 hWm) (zwU hX q131 hWm) zn118 rfl
  obtain ⟨p01, p02, p03, p04⟩ := zLF2_0
  obtain ⟨f0, hf0, hp0⟩ := Option.map_eq_some_iff.mp p04
  simp only [Prod.mk.injEq] at hp0
  have r0 := hMF.choose_spec.choose_spec.choose_spec.choose_spec.2.2.2.2.2.2.2.2.2 _ _ _ _ _ _ _ p01 p02 p03 hf0
  have hst : metht.isStatic = true := Cond.static_spec hny a5 (zwU hX q2414 hWm)
  exact zgoS1 hX.1 hbts hcell (fun h => by cases h) r0 hp0.1 (by rw [hp0.2]; rfl) a1 a3 a4 a5 a6 hst a7 a8 hAt target h
theorem z_il3 (hX : zOk X own cc nL ret) {d : Nat} (hd : zDep X (d + 1)) {index count : Nat} {r : Option Nat} {b : Nat} {x : Int32} {b1 : Nat} {fs : List Value} (hr : r = some b) (hb : σ.1 b = some (.inr (67, [.ref b1]))) (hs1 : σ.1 b1 = some (.inr (1, fs))) (dc : decode cc pc = .ok (.invokeinterface index count, 5)) (hl : Cond.methodLink own index ⟨"PackingDuel$Measure", "of", "(I)I"⟩ ∈ lw_all) {K : Int32 → zS → Prop} (hM : zMet X.l X.g d (⟨"PackingDuel$State", "lambda$newMeasures$3", "(I)I"⟩, Cond.code ⟨"PackingDuel$State", "lambda$newMeasures$3", "(I)I"⟩ prog_20_method_41_code 2 (Option.some FieldType.int)) [.ref b1, .int x] σ (zqI K) (fun _ _ => False)) (hsz : ls.length = nL) (hW : (st.map fun v => v.category).sum ≤ 8) (kk : ∀ v σ', K v σ' → zW X σ' (pc + 5) ls (.int v :: st)) : zW X σ pc ls (.int x :: va_rf r :: st) := by
  refine z_invL0 hX hd (j := 3) zLi3 zLs3 zLy3 zLc3 zLg3 rfl (congrArg some zLw3) rfl rfl (by decide +kernel) q3233 hr rfl hb dc hl q2437 q2436 hM q2418 zNl_code (Nat.le_of_ble_eq_true rfl) q131 (fun U hU => zyn hX q2418 hU) (pcC := 5) zldV1_5 zldV1_8 ?_ (fun U t h => by rw [zLd3]; exact State.methodFound?_of_named h (by decide)) hsz hW kk
  intro U mk t ck gf hbts hMF hcell hH hWm hny hadm hAt target h
  obtain ⟨nt, m1, m2, m3⟩ := zLM3
  obtain ⟨kt, metht, a1, a2, a3, a4, a5, a6, a7, a8, a9⟩ := zstF (e := X.e) (n := 1) hMF m1 m2 m3 zLC3 hny rfl (zwU hX q2418 hWm) (zwU hX q131 hWm) zn119 rfl
  obtain ⟨p01, p02, p03, p04⟩ := zLF3_0
  obtain ⟨f0, hf0, hp0⟩ := Option.map_eq_some_iff.mp p04
  simp only [Prod.mk.injEq] at hp0
  have r0 := hMF.choose_spec.choose_spec.choose_spec.choose_spec.2.2.2.2.2.2.2.2.2 _ _ _ _ _ _ _ p01 p02 p03 hf0
  obtain ⟨m9, meth9, n1, n2, n3, n4⟩ := Cond.instanceMethod_spec (zwU hX q2417 hWm)
  cases hny.symm.trans n1
  cases a5.symm.trans n2
  obtain ⟨c2, r2, m2', q1, q2, q3, q4, -⟩ := Cond.selects_spec (zwU hX qs40 hWm)
  cases hny.symm.trans q3
  cases (State.methodFound?_of_named hny (by decide)).symm.trans q2
  obtain ⟨cq, g0, cellB, g1, g2, g3, -⟩ := hH.obj (ci := 1) rfl hs1
  have hcls := (hX.K.1 1 _ rfl).2.1
  have hcc : cellB.cls = c2 := by
    rw [hWm.alike.findClass] at q1
    rw [g2]
    exact Option.some.inj (hcls.symm.trans q1)
  have hsel : selectMethod X.e.platform U.vm cellB.cls t = .method t := by rw [Launch.admits_selectMethod hadm, hcc]; exact q4
  exact zgoV1 hX.1 hbts hcell (fun h => by cases h) r0 hp0.1 (by rw [hp0.2]; rfl) a2 a3 a4 a5 a6 n3 a8 g1 (fun z hz => by rw [g3] at hz; cases hz) hsel n4 a9 hAt target h
theorem z_il4 (hX : zOk X own cc nL ret) {d : Nat} (hd : zDep X (d + 1)) {index count : Nat} {r : Option Nat} {b : Nat} {x : Int32} {v1 : Value} (hr : r = some b) (hb : σ.1 b = some (.inr (68, [v1]))) (dc : decode cc pc = .ok (.invokeinterface index count, 5)) (hl : Cond.methodLink own index ⟨"PackingDuel$Measure", "of", "(I)I"⟩ ∈ lw_all) {K : Int32 → zS → Prop} (hM : zMet X.l X.g d (⟨"PackingDuel$State", "lambda$newMeasures$4", "(LPackingDuel$Sums;I)I"⟩, Cond.code ⟨"PackingDuel$State", "lambda$newMeasures$4", "(LPackingDuel$Sums;I)I"⟩ prog_20_method_40_code 2 (Option.some FieldType.int)) [v1, .int x] σ (zqI K) (fun _ _ => False)) (hsz : ls.length = nL) (hW : (st.map fun v => v.category).sum ≤ 8) (kk : ∀ v σ', K v σ' → zW X σ' (pc + 5) ls (.int v :: st)) : zW X σ pc ls (.int x :: va_rf r :: st) := by
  refine z_invL0 hX hd (j := 4) zLi4 zLs4 zLy4 zLc4 zLg4 rfl (congrArg some zLw4) rfl rfl (by decide +kernel) q3233 hr rfl hb dc hl q2437 q2436 hM q2420 zNl_code (Nat.le_of_ble_eq_true rfl) q131 (fun U hU => zyn hX q2420 hU) (pcC := 5) zldS1_5 zldS1_8 ?_ (fun U t h => by rw [zLd4]; exact State.methodFound?_of_named h (by decide)) hsz hW kk
  intro U mk t ck gf hbts hMF hcell hH hWm hny hadm hAt target h
  obtain ⟨nt, m1, m2, m3⟩ := zLM4
  obtain ⟨kt, metht, a1, a2, a3, a4, a5, a6, a7, a8, a9⟩ := zstF (e := X.e) (n := 2) hMF m1 m2 m3 zLC4 hny rfl (zwU hX q2420 hWm) (zwU hX q131 hWm) zn120 rfl
  obtain ⟨p01, p02, p03, p04⟩ := zLF4_0
  obtain ⟨f0, hf0, hp0⟩ := Option.map_eq_some_iff.mp p04
  simp only [Prod.mk.injEq] at hp0
  have r0 := hMF.choose_spec.choose_spec.choose_spec.choose_spec.2.2.2.2.2.2.2.2.2 _ _ _ _ _ _ _ p01 p02 p03 hf0
  have hst : metht.isStatic = true := Cond.static_spec hny a5 (zwU hX q2419 hWm)
  exact zgoS1 hX.1 hbts hcell (fun h => by cases h) r0 hp0.1 (by rw [hp0.2]; rfl) a1 a3 a4 a5 a6 hst a7 a8 hAt target h
theorem z_il5 (hX : zOk X own cc nL ret) {d : Nat} (hd : zDep X (d + 1)) {index count : Nat} {r : Option Nat} {b : Nat} {x : Int32} {b1 : Nat} {v2 : Value} {fs : List Value} (hr : r = some b) (hb : σ.1 b = some (.inr (69, [.ref b1, v2]))) (hs1 : σ.1 b1 = some (.inr (1, fs))) (dc : decode cc pc = .ok (.invokeinterface index count, 5)) (hl : Cond.methodLink own index ⟨"PackingDuel$Measure", "of", "(I)I"⟩ ∈ lw_all) {K : Int32 → zS → Prop} (hM : zMet X.l X.g d (⟨"PackingDuel$State", "lambda$newMeasures$5", "(LPackingDuel$Sums;I)I"⟩, Cond.code ⟨"PackingDuel$State", "lambda$newMeasures$5", "(LPackingDuel$Sums;I)I"⟩ prog_20_method_39_code 3 (Option.some FieldType.int)) [.ref b1, v2, .int x] σ (zqI K) (fun _ _ => False)) (hsz : ls.length = nL) (hW : (st.map fun v => v.category).sum ≤ 8) (kk : ∀ v σ', K v σ' → zW X σ' (pc + 5) ls (.int v :: st)) : zW X σ pc ls (.int x :: va_rf r :: st) := by
  refine z_invL0 hX hd (j := 5) zLi5 zLs5 zLy5 zLc5 zLg5 rfl (congrArg some zLw5) rfl rfl (by decide +kernel) q3233 hr rfl hb dc hl q2437 q2436 hM q2423 zNl_code (Nat.le_of_ble_eq_true rfl) q131 (fun U hU => zyn hX q2423 hU) (pcC := 9) zldV2_9 zldV2_12 ?_ (fun U t h => by rw [zLd5]; exact State.methodFound?_of_named h (by decide)) hsz hW kk
  intro U mk t ck gf hbts hMF hcell hH hWm hny hadm hAt target h
  obtain ⟨nt, m1, m2, m3⟩ := zLM5
  obtain ⟨kt, metht, a1, a2, a3, a4, a5, a6, a7, a8, a9⟩ := zstF (e := X.e) (n := 2) hMF m1 m2 m3 zLC5 hny rfl (zwU hX q2423 hWm) (zwU hX q131 hWm) zn121 rfl
  obtain ⟨p01, p02, p03, p04⟩ := zLF5_0
  obtain ⟨f0, hf0, hp0⟩ := Option.map_eq_some_iff.mp p04
  simp only [Prod.mk.injEq] at hp0
  have r0 := hMF.choose_spec.choose_spec.choose_spec.choose_spec.2.2.2.2.2.2.2.2.2 _ _ _ _ _ _ _ p01 p02 p03 hf0
  obtain ⟨p11, p12, p13, p14⟩ := zLF5_1
  obtain ⟨f1, hf1, hp1⟩ := Option.map_eq_some_iff.mp p14
  simp only [Prod.mk.injEq] at hp1
  have r1 := hMF.choose_spec.choose_spec.choose_spec.choose_spec.2.2.2.2.2.2.2.2.2 _ _ _ _ _ _ _ p11 p12 p13 hf1
  obtain ⟨m9, meth9, n1, n2, n3, n4⟩ := Cond.instanceMethod_spec (zwU hX q2422 hWm)
  cases hny.symm.trans n1
  cases a5.symm.trans n2
  obtain ⟨c2, r2, m2', q1, q2, q3, q4, -⟩ := Cond.selects_spec (zwU hX qs41 hWm)
  cases hny.symm.trans q3
  cases (State.methodFound?_of_named hny (by decide)).symm.trans q2
  obtain ⟨cq, g0, cellB, g1, g2, g3, -⟩ := hH.obj (ci := 1) rfl hs1
  have hcls := (hX.K.1 1 _ rfl).2.1
  have hcc : cellB.cls = c2 := by
    rw [hWm.alike.findClass] at q1
    rw [g2]
    exact Option.some.inj (hcls.symm.trans q1)
  have hsel : selectMethod X.e.platform U.vm cellB.cls t = .method t := by rw [Launch.admits_selectMethod hadm, hcc]; exact q4
  exact zgoV2 hX.1 hbts hcell (fun h => by cases h) r0 hp0.1 (by rw [hp0.2]; rfl) r1 hp1.1 (by rw [hp1.2]; rfl) a2 a3 a4 a5 a6 n3 a8 g1 (fun z hz => by rw [g3] at hz; cases hz) hsel n4 a9 hAt target h
theorem z_il6 (hX : zOk X own cc nL ret) {d : Nat} (hd : zDep X (d + 1)) {index count : Nat} {r : Option Nat} {b : Nat} {x : Int32} {b1 : Nat} {v2 : Value} {fs : List Value} (hr : r = some b) (hb : σ.1 b = some (.inr (70, [.ref b1, v2]))) (hs1 : σ.1 b1 = some (.inr (1, fs))) (dc : decode cc pc = .ok (.invokeinterface index count, 5)) (hl : Cond.methodLink own index ⟨"PackingDuel$Measure", "of", "(I)I"⟩ ∈ lw_all) {K : Int32 → zS → Prop} (hM : zMet X.l X.g d (⟨"PackingDuel$State", "lambda$newMeasures$6", "(LPackingDuel$Sums;I)I"⟩, Cond.code ⟨"PackingDuel$State", "lambda$newMeasures$6", "(LPackingDuel$Sums;I)I"⟩ prog_20_method_38_code 3 (Option.some FieldType.int)) [.ref b1, v2, .int x] σ (zqI K) (fun _ _ => False)) (hsz : ls.length = nL) (hW : (st.map fun v => v.category).sum ≤ 8) (kk : ∀ v σ', K v σ' → zW X σ' (pc + 5) ls (.int v :: st)) : zW X σ pc ls (.int x :: va_rf r :: st) := by
  refine z_invL0 hX hd (j := 6) zLi6 zLs6 zLy6 zLc6 zLg6 rfl (congrArg some zLw6) rfl rfl (by decide +kernel) q3233 hr rfl hb dc hl q2437 q2436 hM q2427 zNl_code (Nat.le_of_ble_eq_true rfl) q131 (fun U hU => zyn hX q2427 hU) (pcC := 9) zldV2_9 zldV2_12 ?_ (fun U t h => by rw [zLd6]; exact State.methodFound?_of_named h (by decide)) hsz hW kk
  intro U mk t ck gf hbts hMF hcell hH hWm hny hadm hAt target h
  obtain ⟨nt, m1, m2, m3⟩ := zLM6
  obtain ⟨kt, metht, a1, a2, a3, a4, a5, a6, a7, a8, a9⟩ := zstF (e := X.e) (n := 2) hMF m1 m2 m3 zLC6 hny rfl (zwU hX q2427 hWm) (zwU hX q131 hWm) zn122 rfl
  obtain ⟨p01, p02, p03, p04⟩ := zLF6_0
  obtain ⟨f0, hf0, hp0⟩ := Option.map_eq_some_iff.mp p04
  simp only [Prod.mk.injEq] at hp0
  have r0 := hMF.choose_spec.choose_spec.choose_spec.choose_spec.2.2.2.2.2.2.2.2.2 _ _ _ _ _ _ _ p01 p02 p03 hf0
  obtain ⟨p11, p12, p13, p14⟩ := zLF6_1
  obtain ⟨f1, hf1, hp1⟩ := Option.map_eq_some_iff.mp p14
  simp only [Prod.mk.injEq] at hp1
  have r1 := hMF.choose_spec.choose_spec.choose_spec.choose_spec.2.2.2.2.2.2.2.2.2 _ _ _ _ _ _ _ p11 p12 p13 hf1
  obtain ⟨m9, meth9, n1, n2, n3, n4⟩ := Cond.instanceMethod_spec (zwU hX q2426 hWm)
  cases hny.symm.trans n1
  cases a5.symm.trans n2
  obtain ⟨c2, r2, m2', q1, q2, q3, q4, -⟩ := Cond.selects_spec (zwU hX qs42 hWm)
  cases hny.symm.trans q3
  cases (State.methodFound?_of_named hny (by decide)).symm.trans q2
  obtain ⟨cq, g0, cellB, g1, g2, g3, -⟩ := hH.obj (ci := 1) rfl hs1
  have hcls := (hX.K.1 1 _ rfl).2.1
  have hcc : cellB.cls = c2 := by
    rw [hWm.alike.findClass] at q1
    rw [g2]
    exact Option.some.inj (hcls.symm.trans q1)
  have hsel : selectMethod X.e.platform U.vm cellB.cls t = .method t := by rw [Launch.admits_selectMethod hadm, hcc]; exact q4
  exact zgoV2 hX.1 hbts hcell (fun h => by cases h) r0 hp0.1 (by rw [hp0.2]; rfl) r1 hp1.1 (by rw [hp1.2]; rfl) a2 a3 a4 a5 a6 n3 a8 g1 (fun z hz => by rw [g3] at hz; cases hz) hsel n4 a9 hAt target h
theorem z_il7 (hX : zOk X own cc nL ret) {d : Nat} (hd : zDep X (d + 1)) {index count : Nat} {r : Option Nat} {b : Nat} {x : Int32} {b1 : Nat} {fs : List Value} (hr : r = some b) (hb : σ.1 b = some (.inr (71, [.ref b1]))) (hs1 : σ.1 b1 = some (.inr (1, fs))) (dc : decode cc pc = .ok (.invokeinterface index count, 5)) (hl : Cond.methodLink own index ⟨"PackingDuel$Measure", "of", "(I)I"⟩ ∈ lw_all) {K : Int32 → zS → Prop} (hM : zMet X.l X.g d (⟨"PackingDuel$State", "lambda$newMeasures$7", "(I)I"⟩, Cond.code ⟨"PackingDuel$State", "lambda$newMeasures$7", "(I)I"⟩ prog_20_method_37_code 2 (Option.some FieldType.int)) [.ref b1, .int x] σ (zqI K) (fun _ _ => False)) (hsz : ls.length = nL) (hW : (st.map fun v => v.category).sum ≤ 8) (kk : ∀ v σ', K v σ' → zW X σ' (pc + 5) ls (.int v :: st)) : zW X σ pc ls (.int x :: va_rf r :: st) := by
  refine z_invL0 hX hd (j := 7) zLi7 zLs7 zLy7 zLc7 zLg7 rfl (congrArg some zLw7) rfl rfl (by decide +kernel) q3233 hr rfl hb dc hl q2437 q2436 hM q2430 zNl_code (Nat.le_of_ble_eq_true rfl) q131 (fun U hU => zyn hX q2430 hU) (pcC := 5) zldV1_5 zldV1_8 ?_ (fun U t h => by rw [zLd7]; exact State.methodFound?_of_named h (by decide)) hsz hW kk
  intro U mk t ck gf hbts hMF hcell hH hWm hny hadm hAt target h
  obtain ⟨nt, m1, m2, m3⟩ := zLM7
  obtain ⟨kt, metht, a1, a2, a3, a4, a5, a6, a7, a8, a9⟩ := zstF (e := X.e) (n := 1) hMF m1 m2 m3 zLC7 hny rfl (zwU hX q2430 hWm) (zwU hX q131 hWm) zn123 rfl
  obtain ⟨p01, p02, p03, p04⟩ := zLF7_0
  obtain ⟨f0, hf0, hp0⟩ := Option.map_eq_some_iff.mp p04
  simp only [Prod.mk.injEq] at hp0
  have r0 := hMF.choose_spec.choose_spec.choose_spec.choose_spec.2.2.2.2.2.2.2.2.2 _ _ _ _ _ _ _ p01 p02 p03 hf0
  obtain ⟨m9, meth9, n1, n2, n3, n4⟩ := Cond.instanceMethod_spec (zwU hX q2429 hWm)
  cases hny.symm.trans n1
  cases a5.symm.trans n2
  obtain ⟨c2, r2, m2', q1, q2, q3, q4, -⟩ := Cond.selects_spec (zwU hX qs43 hWm)
  cases hny.symm.trans q3
  cases (State.methodFound?_of_named hny (by decide)).symm.trans q2
  obtain ⟨cq, g0, cellB, g1, g2, g3, -⟩ := hH.obj (ci := 1) rfl hs1
  have hcls := (hX.K.1 1 _ rfl).2.1
  have hcc : cellB.cls = c2 := by
    rw [hWm.alike.findClass] at q1
    rw [g2]
    exact Option.some.inj (hcls.symm.trans q1)
  have hsel : selectMethod X.e.platform U.vm cellB.cls t = .method t := by rw [Launch.admits_selectMethod hadm, hcc]; exact q4
  exact zgoV1 hX.1 hbts hcell (fun h => by cases h) r0 hp0.1 (by rw [hp0.2]; rfl) a2 a3 a4 a5 a6 n3 a8 g1 (fun z hz => by rw [g3] at hz; cases hz) hsel n4 a9 hAt target h
theorem z_il8 (hX : zOk X own cc nL ret) {d : Nat} (hd : zDep X (d + 1)) {index count : Nat} {r : Option Nat} {b : Nat} {x : Int32} {b1 : Nat} {fs : List Value} (hr : r = some b) (hb : σ.1 b = some (.inr (72, [.ref b1]))) (hs1 : σ.1 b1 = some (.inr (1, fs))) (dc : decode cc pc = .ok (.invokeinterface index count, 5)) (hl : Cond.methodLink own index ⟨"PackingDuel$Measure", "of", "(I)I"⟩ ∈ lw_all) {K : Int32 → zS → Prop} (hM : zMet X.l X.g d (⟨"PackingDuel$State", "lambda$newMeasures$8", "(I)I"⟩, Cond.code ⟨"PackingDuel$State", "lambda$newMeasures$8", "(I)I"⟩ prog_20_method_36_code 2 (Option.some FieldType.int)) [.ref b1, .int x] σ (zqI K) (fun _ _ => False)) (hsz : ls.length = nL) (hW : (st.map fun v => v.category).sum ≤ 8) (kk : ∀ v σ', K v σ' → zW X σ' (pc + 5) ls (.int v :: st)) : zW X σ pc ls (.int x :: va_rf r :: st) := by
  refine z_invL0 hX hd (j := 8) zLi8 zLs8 zLy8 zLc8 zLg8 rfl (congrArg some zLw8) rfl rfl (by decide +kernel) q3233 hr rfl hb dc hl q2437 q2436 hM q2433 zNl_code (Nat.le_of_ble_eq_true rfl) q131 (fun U hU => zyn hX q2433 hU) (pcC := 5) zldV1_5 zldV1_8 ?_ (fun U t h => by rw [zLd8]; exact State.methodFound?_of_named h (by decide)) hsz hW kk
  intro U mk t ck gf hbts hMF hcell hH hWm hny hadm hAt target h
  obtain ⟨nt, m1, m2, m3⟩ := zLM8
  obtain ⟨kt, metht, a1, a2, a3, a4, a5, a6, a7, a8, a9⟩ := zstF (e := X.e) (n := 1) hMF m1 m2 m3 zLC8 hny rfl (zwU hX q2433 hWm) (zwU hX q131 hWm) zn124 rfl
  obtain ⟨p01, p02, p03, p04⟩ := zLF8_0
  obtain ⟨f0, hf0, hp0⟩ := Option.map_eq_some_iff.mp p04
  simp only [Prod.mk.injEq] at hp0
  have r0 := hMF.choose_spec.choose_spec.choose_spec.choose_spec.2.2.2.2.2.2.2.2.2 _ _ _ _ _ _ _ p01 p02 p03 hf0
  obtain ⟨m9, meth9, n1, n2, n3, n4⟩ := Cond.instanceMethod_spec (zwU hX q2432 hWm)
  cases hny.symm.trans n1
  cases a5.symm.trans n2
  obtain ⟨c2, r2, m2', q1, q2, q3, q4, -⟩ := Cond.selects_spec (zwU hX qs44 hWm)
  cases hny.symm.trans q3
  cases (State.methodFound?_of_named hny (by decide)).symm.trans q2
  obtain ⟨cq, g0, cellB, g1, g2, g3, -⟩ := hH.obj (ci := 1) rfl hs1
  have hcls := (hX.K.1 1 _ rfl).2.1
  have hcc : cellB.cls = c2 := by
    rw [hWm.alike.findClass] at q1
    rw [g2]
    exact Option.some.inj (hcls.symm.trans q1)
  have hsel : selectMethod X.e.platform U.vm cellB.cls t = .method t := by rw [Launch.admits_selectMethod hadm, hcc]; exact q4
  exact zgoV1 hX.1 hbts hcell (fun h => by cases h) r0 hp0.1 (by rw [hp0.2]; rfl) a2 a3 a4 a5 a6 n3 a8 g1 (fun z hz => by rw [g3] at hz; cases hz) hsel n4 a9 hAt target h
end ZL5
