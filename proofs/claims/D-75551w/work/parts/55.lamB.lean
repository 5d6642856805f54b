set_option maxRecDepth 100000
/-- the oracle's numbers 600 + k: the method k, called one level further down -/
def zSoundL (l : Launch) (g : zG) (d : Nat) (C : zO) : Prop := ∀ k w, zmt k = w → ∀ args Q Y σ, C (600 + k) args Q Y σ → ∃ d', d = d' + 1 ∧ zMet l g d' w args σ Q Y
/-- the word: Measure.of on a lambda's object -/
def zofL (C : zO) (σ : zS) (r : Option Nat) (x : Int32) (K : Int32 → zS → Prop) : Prop := ∃ b, r = some b ∧ ((σ.1 b = some (.inr (64, [])) ∧ C 716 [.int x] (zqI K) (fun _ _ => False) σ) ∨ (σ.1 b = some (.inr (65, [])) ∧ C 717 [.int x] (zqI K) (fun _ _ => False) σ) ∨ (∃ v1 : Value, σ.1 b = some (.inr (66, [v1])) ∧ C 718 [v1, .int x] (zqI K) (fun _ _ => False) σ) ∨ (∃ (b1 : Nat) (fs : List Value), σ.1 b = some (.inr (67, [.ref b1])) ∧ σ.1 b1 = some (.inr (1, fs)) ∧ C 719 [.ref b1, .int x] (zqI K) (fun _ _ => False) σ) ∨ (∃ v1 : Value, σ.1 b = some (.inr (68, [v1])) ∧ C 720 [v1, .int x] (zqI K) (fun _ _ => False) σ) ∨ (∃ (b1 : Nat) (v2 : Value) (fs : List Value), σ.1 b = some (.inr (69, [.ref b1, v2])) ∧ σ.1 b1 = some (.inr (1, fs)) ∧ C 721 [.ref b1, v2, .int x] (zqI K) (fun _ _ => False) σ) ∨ (∃ (b1 : Nat) (v2 : Value) (fs : List Value), σ.1 b = some (.inr (70, [.ref b1, v2])) ∧ σ.1 b1 = some (.inr (1, fs)) ∧ C 722 [.ref b1, v2, .int x] (zqI K) (fun _ _ => False) σ) ∨ (∃ (b1 : Nat) (fs : List Value), σ.1 b = some (.inr (71, [.ref b1])) ∧ σ.1 b1 = some (.inr (1, fs)) ∧ C 723 [.ref b1, .int x] (zqI K) (fun _ _ => False) σ) ∨ (∃ (b1 : Nat) (fs : List Value), σ.1 b = some (.inr (72, [.ref b1])) ∧ σ.1 b1 = some (.inr (1, fs)) ∧ C 724 [.ref b1, .int x] (zqI K) (fun _ _ => False) σ))
theorem z_ofL {X : zX} {own : String} {cc : ByteArray} {nL : Nat} {ret : Option FieldType} {pc : Nat} {σ : zS} {ls : List (Option Value)} {st : List Value} (hX : zOk X own cc nL ret) {d : Nat} {C : zO} (hL : zSoundL X.l X.g d C) (hd : zDep X d) {index count : Nat} {r : Option Nat} {x : Int32} {K : Int32 → zS → Prop} (dc : decode cc pc = .ok (.invokeinterface index count, 5)) (hl : Cond.methodLink own index ⟨"PackingDuel$Measure", "of", "(I)I"⟩ ∈ lw_all) (hw : zofL C σ r x K) (hsz : ls.length = nL) (hW : (st.map fun v => v.category).sum ≤ 8) (kk : ∀ v σ', K v σ' → zW X σ' (pc + 5) ls (.int v :: st)) : zW X σ pc ls (.int x :: va_rf r :: st) := by
  obtain ⟨b, rfl, hw⟩ := hw
  rcases hw with hw | hw | hw | hw | hw | hw | hw | hw | hw
  · obtain ⟨hb, hw⟩ := hw
    obtain ⟨d9, rfl, hM⟩ := hL 116 _ zm116 _ _ _ _ hw
    exact z_il0 hX hd rfl hb dc hl hM hsz hW kk
  · obtain ⟨hb, hw⟩ := hw
    obtain ⟨d9, rfl, hM⟩ := hL 117 _ zm117 _ _ _ _ hw
    exact z_il1 hX hd rfl hb dc hl hM hsz hW kk
  · obtain ⟨v1, hb, hw⟩ := hw
    obtain ⟨d9, rfl, hM⟩ := hL 118 _ zm118 _ _ _ _ hw
    exact z_il2 hX hd rfl hb dc hl hM hsz hW kk
  · obtain ⟨b1, fs, hb, hs1, hw⟩ := hw
    obtain ⟨d9, rfl, hM⟩ := hL 119 _ zm119 _ _ _ _ hw
    exact z_il3 hX hd rfl hb hs1 dc hl hM hsz hW kk
  · obtain ⟨v1, hb, hw⟩ := hw
    obtain ⟨d9, rfl, hM⟩ := hL 120 _ zm120 _ _ _ _ hw
    exact z_il4 hX hd rfl hb dc hl hM hsz hW kk
  · obtain ⟨b1, v2, fs, hb, hs1, hw⟩ := hw
    obtain ⟨d9, rfl, hM⟩ := hL 121 _ zm121 _ _ _ _ hw
    exact z_il5 hX hd rfl hb hs1 dc hl hM hsz hW kk
  · obtain ⟨b1, v2, fs, hb, hs1, hw⟩ := hw
    obtain ⟨d9, rfl, hM⟩ := hL 122 _ zm122 _ _ _ _ hw
    exact z_il6 hX hd rfl hb hs1 dc hl hM hsz hW kk
  · obtain ⟨b1, fs, hb, hs1, hw⟩ := hw
    obtain ⟨d9, rfl, hM⟩ := hL 123 _ zm123 _ _ _ _ hw
    exact z_il7 hX hd rfl hb hs1 dc hl hM hsz hW kk
  · obtain ⟨b1, fs, hb, hs1, hw⟩ := hw
    obtain ⟨d9, rfl, hM⟩ := hL 124 _ zm124 _ _ _ _ hw
    exact z_il8 hX hd rfl hb hs1 dc hl hM hsz hW kk
abbrev cX24_value : ByteArray := prog_3_method_3_code
def yX24_value : MethodName := ⟨RX24, "value", "(ILPackingDuel$State;I)I"⟩
def dkwX24_value_0 : List UInt8 := [26, 156, 0, 7, 2, 26, 100, 172, 43, 182, 0, 23, 26, 50, 28, 185, 0, 29, 2, 0, 172]
abbrev dktX24_value_0 : List UInt8 := dkwX24_value_0 ++ []
theorem dksX24_value_0 : cX24_value.data.toList.drop 0 = dktX24_value_0 := by decide +kernel
theorem dX24_value_0 : decode cX24_value 0 = .ok (.iload_n 0, 1) := dk_26 (dk_at dksX24_value_0 0 rfl rfl)
theorem dX24_value_1 : decode cX24_value 1 = .ok (.ifCond .ge 7, 3) := dk_156 0 7 (dk_at dksX24_value_0 1 rfl rfl)
theorem dX24_value_4 : decode cX24_value 4 = .ok (.iconst (-1), 1) := dk_2 (dk_at dksX24_value_0 4 rfl rfl)
theorem dX24_value_5 : decode cX24_value 5 = .ok (.iload_n 0, 1) := dk_26 (dk_at dksX24_value_0 5 rfl rfl)
theorem dX24_value_6 : decode cX24_value 6 = .ok (.isub, 1) := dk_100 (dk_at dksX24_value_0 6 rfl rfl)
theorem dX24_value_7 : decode cX24_value 7 = .ok (.ireturn, 1) := dk_172 (dk_at dksX24_value_0 7 rfl rfl)
theorem dX24_value_8 : decode cX24_value 8 = .ok (.aload_n 1, 1) := dk_43 (dk_at dksX24_value_0 8 rfl rfl)
theorem dX24_value_9 : decode cX24_value 9 = .ok (.invokevirtual 23, 3) := dk_182 0 23 (dk_at dksX24_value_0 9 rfl rfl)
theorem dX24_value_12 : decode cX24_value 12 = .ok (.iload_n 0, 1) := dk_26 (dk_at dksX24_value_0 12 rfl rfl)
theorem dX24_value_13 : decode cX24_value 13 = .ok (.aaload, 1) := dk_50 (dk_at dksX24_value_0 13 rfl rfl)
theorem dX24_value_14 : decode cX24_value 14 = .ok (.iload_n 2, 1) := dk_28 (dk_at dksX24_value_0 14 rfl rfl)
theorem dX24_value_15 : decode cX24_value 15 = .ok (.invokeinterface 29 2, 5) := by decide +kernel
theorem dX24_value_20 : decode cX24_value 20 = .ok (.ireturn, 1) := dk_172 (dk_at dksX24_value_0 20 rfl rfl)
/-- PackingDuel$Comparison.value -/
def zb525 (G : zPg) (C C1 : zO) (args : List Value) (Q : zQ) (Y : zY) (σ : zS) : Prop := ∃ (x1 : Int32) (x2 : Option Nat) (x3 : Int32), args = [.int x1, va_rf x2, .int x3] ∧ (((0 ≤ x1) → zrc σ x2 1 (fun a1 => zcl C1 114 [.ref a1] Y σ (zqR (fun v1 s1 => zaR s1 7 v1 x1 (fun v2 => zofL C s1 v2 x3 (fun v3 s2 => Q (some (.int v3)) s2)))))) ∧ ((¬ 0 ≤ x1) → Q (some (.int ((-1 : Int32) - x1))) σ))
set_option maxHeartbeats 4000000 in
theorem wk525 {l : Launch} {g : zG} {d : Nat} {C C1 : zO} (hG : zGk g) (hC : zSound l g d C1) (hL : zSoundL l g d C) {args : List Value} {Q : zQ} {Y : zY} {σ : zS} (hw : zb525 (zpg g) C C1 args Q Y σ) : zMet l g (d + 1) (⟨"PackingDuel$Comparison", "value", "(ILPackingDuel$State;I)I"⟩, Cond.code ⟨"PackingDuel$Comparison", "value", "(ILPackingDuel$State;I)I"⟩ prog_3_method_3_code 3 (Option.some FieldType.int)) args σ Q Y := by
  obtain ⟨x1, x2, x3, rfl, hw⟩ := hw
  refine zof hG (by decide +kernel) [false, false, false] ⟨rfl, zc_rf _, rfl, trivial⟩ (Nat.le_of_ble_eq_true rfl) (ls := [some (.int x1), some (va_rf x2), some (.int x3)]) rfl ?_
  intro X hX hR hTb hd1 hd2 hl hg hnm
  subst hl
  subst hg
  have hd : zDep X d := ⟨hd1, hd2⟩
  refine z_iload_n hX dX24_value_0 rfl (i := 0) rfl ?_
  refine z_if_ge hX dX24_value_1 (tgt := 8) rfl (fun c => ?_) (fun c => ?_)
  · have hw := hw.1 c
    refine z_aload_n hX dX24_value_8 rfl (i := 1) rfl ?_
    obtain ⟨a1, f1, r1, m1, hw⟩ := hw
    refine z_invV hX hd r1 (ci := 1) rfl rfl m1 dX24_value_9 (hC 114 _ zm114 _ _ _ _ hw) q2400 q2401 q2402 zh2 q2403 q131 zn114 rfl (Nat.le_of_ble_eq_true rfl) (st := []) rfl (zcs8 (Nat.le_of_ble_eq_true rfl)) rfl (zkR (fun v1 s1 hw => ?_)) (zout hX hR hTb)
    refine z_iload_n hX dX24_value_12 rfl (i := 0) rfl ?_
    obtain ⟨a2, n2, f2, r2, m2, i2, hw⟩ := hw
    refine z_aald hX 7 dX24_value_13 rfl r2 m2 i2 ?_
    revert hw
    generalize f2 (Int32.toNatClampNeg x1) = v2
    intro hw
    refine z_iload_n hX dX24_value_14 rfl (i := 2) rfl ?_
    refine z_ofL hX hL hd dX24_value_15 q2435 hw rfl (zcs8 (Nat.le_of_ble_eq_true rfl)) (fun v3 s2 hw => ?_)
    exact z_ireturn hX hR dX24_value_20 rfl hw
  · have hw := hw.2 c
    refine z_iconst hX (v := (-1 : Int32)) dX24_value_4 (by decide) ?_
    refine z_iload_n hX dX24_value_5 rfl (i := 0) rfl ?_
    refine z_isub hX dX24_value_6 ?_
    exact z_ireturn hX hR dX24_value_7 rfl hw
