set_option maxRecDepth 100000
abbrev cX1_requireArgument : ByteArray := prog_1_method_4_code
def yX1_requireArgument : MethodName := ⟨RX1, "requireArgument", "(Z)V"⟩
def dkwX1_requireArgument_0 : List UInt8 := [26, 154, 0, 11, 187, 0, 1, 89, 183, 0, 3, 191, 177]
abbrev dktX1_requireArgument_0 : List UInt8 := dkwX1_requireArgument_0 ++ []
theorem dksX1_requireArgument_0 : cX1_requireArgument.data.toList.drop 0 = dktX1_requireArgument_0 := by decide +kernel
theorem dX1_requireArgument_0 : decode cX1_requireArgument 0 = .ok (.iload_n 0, 1) := dk_26 (dk_at dksX1_requireArgument_0 0 rfl rfl)
theorem dX1_requireArgument_1 : decode cX1_requireArgument 1 = .ok (.ifCond .ne 11, 3) := dk_154 0 11 (dk_at dksX1_requireArgument_0 1 rfl rfl)
theorem dX1_requireArgument_4 : decode cX1_requireArgument 4 = .ok (.new 1, 3) := dk_187 0 1 (dk_at dksX1_requireArgument_0 4 rfl rfl)
theorem dX1_requireArgument_7 : decode cX1_requireArgument 7 = .ok (.dup, 1) := dk_89 (dk_at dksX1_requireArgument_0 7 rfl rfl)
theorem dX1_requireArgument_8 : decode cX1_requireArgument 8 = .ok (.invokespecial 3, 3) := dk_183 0 3 (dk_at dksX1_requireArgument_0 8 rfl rfl)
theorem dX1_requireArgument_11 : decode cX1_requireArgument 11 = .ok (.athrow, 1) := dk_191 (dk_at dksX1_requireArgument_0 11 rfl rfl)
theorem dX1_requireArgument_12 : decode cX1_requireArgument 12 = .ok (.return_, 1) := dk_177 (dk_at dksX1_requireArgument_0 12 rfl rfl)
theorem zxg51 : ∀ w ∈ Cond.classLink "PackingDuel" 1 "java/lang/IllegalArgumentException" :: Cond.initialized "java/lang/IllegalArgumentException" :: vx_at0 "PackingDuel" 3 "java/lang/IllegalArgumentException" ["java/lang/RuntimeException", "java/lang/Exception"], vx_ot w = true := by decide +kernel
theorem zxa51 : ∀ w ∈ vx_at0 "PackingDuel" 3 "java/lang/IllegalArgumentException" ["java/lang/RuntimeException", "java/lang/Exception"], w ∈ lw_all ∨ (w ∈ lw_tbl ∧ zCD w = true) := by decide +kernel
/-- PackingDuel.requireArgument -/
def zb51 (G : zPg) (C : zO) (args : List Value) (Q : zQ) (Y : zY) (σ : zS) : Prop := zreq args Q Y σ 6
theorem wk51 {l : Launch} {g : zG} {d : Nat} {C : zO} (hst : l.stackTraces = false) (hd5 : 6 ≤ d) (hG : zGk g) {args : List Value} {Q : zQ} {Y : zY} {σ : zS} (hw : zb51 (zpg g) C args Q Y σ) : zMet l g (d + 1) (⟨"PackingDuel", "requireArgument", "(Z)V"⟩, Cond.code ⟨"PackingDuel", "requireArgument", "(Z)V"⟩ prog_1_method_4_code 1 (Option.none : Option FieldType)) args σ Q Y := by
  obtain ⟨x1, rfl, hw⟩ := hw
  refine zof hG (by decide +kernel) [false] ⟨rfl, trivial⟩ (Nat.le_of_ble_eq_true rfl) (ls := [some (.int x1)]) rfl ?_
  intro X hX hR hTb hd1 hd2 hl hg hnm
  subst hl
  subst hg
  have hd : zDep X d := ⟨hd1, hd2⟩
  refine z_iload_n hX dX1_requireArgument_0 rfl (i := 0) rfl ?_
  refine z_if_ne hX dX1_requireArgument_1 (tgt := 12) rfl (fun c => ?_) (fun c => ?_)
  · exact z_return hX hR dX1_requireArgument_12 (hw.1 c)
  · have hw := hw.2 c
    refine z_mk0 hX hd hd5 hst (cls := "java/lang/IllegalArgumentException") (names := ["java/lang/RuntimeException", "java/lang/Exception"]) (ci := 6) (by decide +kernel) (by decide +kernel) (by decide) q1070 q141 zxa51 zxg51 q890 q892 dX1_requireArgument_4 dX1_requireArgument_7 dX1_requireArgument_8 rfl hw.1 hw.2.1 rfl (zcs8 (Nat.le_of_ble_eq_true rfl)) (fun z => ?_)
    exact z_athrow hX dX1_requireArgument_11 rfl (zout hX hR hTb _ _ (hw.2.2 z _ rfl))
abbrev cX1_requireElement : ByteArray := prog_1_method_5_code
def yX1_requireElement : MethodName := ⟨RX1, "requireElement", "(Z)V"⟩
def dkwX1_requireElement_0 : List UInt8 := [26, 154, 0, 11, 187, 0, 7, 89, 183, 0, 9, 191, 177]
abbrev dktX1_requireElement_0 : List UInt8 := dkwX1_requireElement_0 ++ []
theorem dksX1_requireElement_0 : cX1_requireElement.data.toList.drop 0 = dktX1_requireElement_0 := by decide +kernel
theorem dX1_requireElement_0 : decode cX1_requireElement 0 = .ok (.iload_n 0, 1) := dk_26 (dk_at dksX1_requireElement_0 0 rfl rfl)
theorem dX1_requireElement_1 : decode cX1_requireElement 1 = .ok (.ifCond .ne 11, 3) := dk_154 0 11 (dk_at dksX1_requireElement_0 1 rfl rfl)
theorem dX1_requireElement_4 : decode cX1_requireElement 4 = .ok (.new 7, 3) := dk_187 0 7 (dk_at dksX1_requireElement_0 4 rfl rfl)
theorem dX1_requireElement_7 : decode cX1_requireElement 7 = .ok (.dup, 1) := dk_89 (dk_at dksX1_requireElement_0 7 rfl rfl)
theorem dX1_requireElement_8 : decode cX1_requireElement 8 = .ok (.invokespecial 9, 3) := dk_183 0 9 (dk_at dksX1_requireElement_0 8 rfl rfl)
theorem dX1_requireElement_11 : decode cX1_requireElement 11 = .ok (.athrow, 1) := dk_191 (dk_at dksX1_requireElement_0 11 rfl rfl)
theorem dX1_requireElement_12 : decode cX1_requireElement 12 = .ok (.return_, 1) := dk_177 (dk_at dksX1_requireElement_0 12 rfl rfl)
theorem zxg54 : ∀ w ∈ Cond.classLink "PackingDuel" 7 "java/util/NoSuchElementException" :: Cond.initialized "java/util/NoSuchElementException" :: vx_at0 "PackingDuel" 9 "java/util/NoSuchElementException" ["java/lang/RuntimeException", "java/lang/Exception"], vx_ot w = true := by decide +kernel
theorem zxa54 : ∀ w ∈ vx_at0 "PackingDuel" 9 "java/util/NoSuchElementException" ["java/lang/RuntimeException", "java/lang/Exception"], w ∈ lw_all ∨ (w ∈ lw_tbl ∧ zCD w = true) := by decide +kernel
/-- PackingDuel.requireElement -/
def zb54 (G : zPg) (C : zO) (args : List Value) (Q : zQ) (Y : zY) (σ : zS) : Prop := zreq args Q Y σ 16
theorem wk54 {l : Launch} {g : zG} {d : Nat} {C : zO} (hst : l.stackTraces = false) (hd5 : 6 ≤ d) (hG : zGk g) {args : List Value} {Q : zQ} {Y : zY} {σ : zS} (hw : zb54 (zpg g) C args Q Y σ) : zMet l g (d + 1) (⟨"PackingDuel", "requireElement", "(Z)V"⟩, Cond.code ⟨"PackingDuel", "requireElement", "(Z)V"⟩ prog_1_method_5_code 1 (Option.none : Option FieldType)) args σ Q Y := by
  obtain ⟨x1, rfl, hw⟩ := hw
  refine zof hG (by decide +kernel) [false] ⟨rfl, trivial⟩ (Nat.le_of_ble_eq_true rfl) (ls := [some (.int x1)]) rfl ?_
  intro X hX hR hTb hd1 hd2 hl hg hnm
  subst hl
  subst hg
  have hd : zDep X d := ⟨hd1, hd2⟩
  refine z_iload_n hX dX1_requireElement_0 rfl (i := 0) rfl ?_
  refine z_if_ne hX dX1_requireElement_1 (tgt := 12) rfl (fun c => ?_) (fun c => ?_)
  · exact z_return hX hR dX1_requireElement_12 (hw.1 c)
  · have hw := hw.2 c
    refine z_mk0 hX hd hd5 hst (cls := "java/util/NoSuchElementException") (names := ["java/lang/RuntimeException", "java/lang/Exception"]) (ci := 16) (by decide +kernel) (by decide +kernel) (by decide) q1643 q165 zxa54 zxg54 q890 q892 dX1_requireElement_4 dX1_requireElement_7 dX1_requireElement_8 rfl hw.1 hw.2.1 rfl (zcs8 (Nat.le_of_ble_eq_true rfl)) (fun z => ?_)
    exact z_athrow hX dX1_requireElement_11 rfl (zout hX hR hTb _ _ (hw.2.2 z _ rfl))
