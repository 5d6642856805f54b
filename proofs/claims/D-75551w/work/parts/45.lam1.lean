set_option maxRecDepth 100000
def zlcS0 : ByteArray := ⟨#[0x1b, 0xb8, 0x00, 0x11, 0xac]⟩
def zlcS1 : ByteArray := ⟨#[0x2a, 0xb4, 0x00, 0x0f, 0x1b, 0xb8, 0x00, 0x17, 0xac]⟩
def zlcV1 : ByteArray := ⟨#[0x2a, 0xb4, 0x00, 0x0f, 0x1b, 0xb6, 0x00, 0x16, 0xac]⟩
def zlcV2 : ByteArray := ⟨#[0x2a, 0xb4, 0x00, 0x11, 0x2a, 0xb4, 0x00, 0x13, 0x1b, 0xb6, 0x00, 0x1b, 0xac]⟩
def zlNoFile : ClassFile := { minorVersion := 0, majorVersion := 0, constantPool := #[], accessFlags := 0, thisClass := 0, superClass := 0, interfaces := #[], fields := #[], methods := #[], attributes := #[] }
def zLh0 : Lambda.Shape := { iface := "PackingDuel$Measure", name := "of", sam := ⟨[.int], some .int⟩, captured := [], kind := 6, implClass := "PackingDuel$State", implName := "lambda$newMeasures$0", implDesc := ⟨[.int], some .int⟩, implItf := false, inst := ⟨[.int], some .int⟩ }
def zLD0 : ClassFile := (zLh0.file "PackingDuel$State").getD zlNoFile
def zLf0 : Method := ((layoutMethods zLD0).bind (·[1]?)).getD default
def zLl0 : Array Field × Array FieldType × Array FieldType := (layoutFields zLD0 0).getD (#[], #[], #[])
theorem zLi0 : zLh0.file "PackingDuel$State" = some zLD0 := by
  have h : (zLh0.file "PackingDuel$State").isSome = true := by decide +kernel
  obtain ⟨x, hx⟩ := Option.isSome_iff_exists.mp h
  simp [zLD0, hx]
theorem zLs0 : ((layoutMethods zLD0).bind (·[1]?)) = some zLf0 := by
  have h : ((layoutMethods zLD0).bind (·[1]?)).isSome = true := by decide +kernel
  obtain ⟨x, hx⟩ := Option.isSome_iff_exists.mp h
  simp [zLf0, hx]
theorem zLy0 : layoutFields zLD0 0 = some zLl0 := by
  have h : (layoutFields zLD0 0).isSome = true := by decide +kernel
  obtain ⟨x, hx⟩ := Option.isSome_iff_exists.mp h
  simp [zLl0, hx]
theorem zLc0 : (zLf0.code.map fun c => (c.code.data, c.maxLocals)) = some (zlcS0.data, 2) := by decide +kernel
theorem zLg0 : (zLf0.accessFlags, zLf0.name, zLf0.sig.returnType) = (0x0001, "of", some FieldType.int) := by decide +kernel
theorem zLw0 : siteWord_1_1 = Cond.lambdaSite ⟨"PackingDuel$State", "newMeasures", "(LPackingDuel$Sums;)[LPackingDuel$Measure;"⟩ 8 171 zLh0 := rfl
theorem zLd0 : zLh0.implDesc.toString = "(I)I" := by decide +kernel
theorem zLM0 : ∃ nt, zLD0.constantPool[17]? = some (.methodref 14 nt) ∧ zLD0.constantPool.className? 14 = some "PackingDuel$State" ∧ zLD0.constantPool.nameAndType? nt = some (zLh0.implName, zLh0.implDesc.toString) := ⟨16, by decide +kernel⟩
theorem zLC0 : zLD0.constantPool[14]? = some (.class_ 13) ∧ zLD0.constantPool.string? 13 = some "PackingDuel$State" ∧ 14 ≠ zLD0.thisClass := by decide +kernel
theorem zLt0 : zLl0.2.1 = #[] := by decide +kernel
def zLh1 : Lambda.Shape := { iface := "PackingDuel$Measure", name := "of", sam := ⟨[.int], some .int⟩, captured := [], kind := 6, implClass := "PackingDuel$State", implName := "lambda$newMeasures$1", implDesc := ⟨[.int], some .int⟩, implItf := false, inst := ⟨[.int], some .int⟩ }
def zLD1 : ClassFile := (zLh1.file "PackingDuel$State").getD zlNoFile
def zLf1 : Method := ((layoutMethods zLD1).bind (·[1]?)).getD default
def zLl1 : Array Field × Array FieldType × Array FieldType := (layoutFields zLD1 0).getD (#[], #[], #[])
theorem zLi1 : zLh1.file "PackingDuel$State" = some zLD1 := by
  have h : (zLh1.file "PackingDuel$State").isSome = true := by decide +kernel
  obtain ⟨x, hx⟩ := Option.isSome_iff_exists.mp h
  simp [zLD1, hx]
theorem zLs1 : ((layoutMethods zLD1).bind (·[1]?)) = some zLf1 := by
  have h : ((layoutMethods zLD1).bind (·[1]?)).isSome = true := by decide +kernel
  obtain ⟨x, hx⟩ := Option.isSome_iff_exists.mp h
  simp [zLf1, hx]
theorem zLy1 : layoutFields zLD1 0 = some zLl1 := by
  have h : (layoutFields zLD1 0).isSome = true := by decide +kernel
  obtain ⟨x, hx⟩ := Option.isSome_iff_exists.mp h
  simp [zLl1, hx]
theorem zLc1 : (zLf1.code.map fun c => (c.code.data, c.maxLocals)) = some (zlcS0.data, 2) := by decide +kernel
theorem zLg1 : (zLf1.accessFlags, zLf1.name, zLf1.sig.returnType) = (0x0001, "of", some FieldType.int) := by decide +kernel
theorem zLw1 : siteWord_1_2 = Cond.lambdaSite ⟨"PackingDuel$State", "newMeasures", "(LPackingDuel$Sums;)[LPackingDuel$Measure;"⟩ 16 174 zLh1 := rfl
theorem zLd1 : zLh1.implDesc.toString = "(I)I" := by decide +kernel
theorem zLM1 : ∃ nt, zLD1.constantPool[17]? = some (.methodref 14 nt) ∧ zLD1.constantPool.className? 14 = some "PackingDuel$State" ∧ zLD1.constantPool.nameAndType? nt = some (zLh1.implName, zLh1.implDesc.toString) := ⟨16, by decide +kernel⟩
theorem zLC1 : zLD1.constantPool[14]? = some (.class_ 13) ∧ zLD1.constantPool.string? 13 = some "PackingDuel$State" ∧ 14 ≠ zLD1.thisClass := by decide +kernel
theorem zLt1 : zLl1.2.1 = #[] := by decide +kernel
def zLh2 : Lambda.Shape := { iface := "PackingDuel$Measure", name := "of", sam := ⟨[.int], some .int⟩, captured := [.object "PackingDuel$Sums"], kind := 6, implClass := "PackingDuel$State", implName := "lambda$newMeasures$2", implDesc := ⟨[.object "PackingDuel$Sums", .int], some .int⟩, implItf := false, inst := ⟨[.int], some .int⟩ }
def zLD2 : ClassFile := (zLh2.file "PackingDuel$State").getD zlNoFile
def zLf2 : Method := ((layoutMethods zLD2).bind (·[1]?)).getD default
def zLl2 : Array Field × Array FieldType × Array FieldType := (layoutFields zLD2 0).getD (#[], #[], #[])
theorem zLi2 : zLh2.file "PackingDuel$State" = some zLD2 := by
  have h : (zLh2.file "PackingDuel$State").isSome = true := by decide +kernel
  obtain ⟨x, hx⟩ := Option.isSome_iff_exists.mp h
  simp [zLD2, hx]
theorem zLs2 : ((layoutMethods zLD2).bind (·[1]?)) = some zLf2 := by
  have h : ((layoutMethods zLD2).bind (·[1]?)).isSome = true := by decide +kernel
  obtain ⟨x, hx⟩ := Option.isSome_iff_exists.mp h
  simp [zLf2, hx]
theorem zLy2 : layoutFields zLD2 0 = some zLl2 := by
  have h : (layoutFields zLD2 0).isSome = true := by decide +kernel
  obtain ⟨x, hx⟩ := Option.isSome_iff_exists.mp h
  simp [zLl2, hx]
theorem zLc2 : (zLf2.code.map fun c => (c.code.data, c.maxLocals)) = some (zlcS1.data, 2) := by decide +kernel
theorem zLg2 : (zLf2.accessFlags, zLf2.name, zLf2.sig.returnType) = (0x0001, "of", some FieldType.int) := by decide +kernel
theorem zLw2 : siteWord_1_3 = Cond.lambdaSite ⟨"PackingDuel$State", "newMeasures", "(LPackingDuel$Sums;)[LPackingDuel$Measure;"⟩ 25 175 zLh2 := rfl
theorem zLd2 : zLh2.implDesc.toString = "(LPackingDuel$Sums;I)I" := by decide +kernel
theorem zLM2 : ∃ nt, zLD2.constantPool[23]? = some (.methodref 19 nt) ∧ zLD2.constantPool.className? 19 = some "PackingDuel$State" ∧ zLD2.constantPool.nameAndType? nt = some (zLh2.implName, zLh2.implDesc.toString) := ⟨22, by decide +kernel⟩
theorem zLC2 : zLD2.constantPool[19]? = some (.class_ 18) ∧ zLD2.constantPool.string? 18 = some "PackingDuel$State" ∧ 19 ≠ zLD2.thisClass := by decide +kernel
theorem zLt2 : zLl2.2.1 = #[.object "PackingDuel$Sums"] := by decide +kernel
theorem zLF2_0 : zLD2.constantPool[15]? = some (.fieldref 2 14) ∧ zLD2.constantPool.nameAndType? 14 = some ("arg$1", "LPackingDuel$Sums;") ∧ zLl2.1.findIdx? (·.name == "arg$1") = some 0 ∧ (zLl2.1[0]?).map (fun f => (f.isStatic, f.slot)) = some (false, 0) := by decide +kernel
def zLh3 : Lambda.Shape := { iface := "PackingDuel$Measure", name := "of", sam := ⟨[.int], some .int⟩, captured := [.object "PackingDuel$State"], kind := 5, implClass := "PackingDuel$State", implName := "lambda$newMeasures$3", implDesc := ⟨[.int], some .int⟩, implItf := false, inst := ⟨[.int], some .int⟩ }
def zLD3 : ClassFile := (zLh3.file "PackingDuel$State").getD zlNoFile
def zLf3 : Method := ((layoutMethods zLD3).bind (·[1]?)).getD default
def zLl3 : Array Field × Array FieldType × Array FieldType := (layoutFields zLD3 0).getD (#[], #[], #[])
theorem zLi3 : zLh3.file "PackingDuel$State" = some zLD3 := by
  have h : (zLh3.file "PackingDuel$State").isSome = true := by decide +kernel
  obtain ⟨x, hx⟩ := Option.isSome_iff_exists.mp h
  simp [zLD3, hx]
theorem zLs3 : ((layoutMethods zLD3).bind (·[1]?)) = some zLf3 := by
  have h : ((layoutMethods zLD3).bind (·[1]?)).isSome = true := by decide +kernel
  obtain ⟨x, hx⟩ := Option.isSome_iff_exists.mp h
  simp [zLf3, hx]
theorem zLy3 : layoutFields zLD3 0 = some zLl3 := by
  have h : (layoutFields zLD3 0).isSome = true := by decide +kernel
  obtain ⟨x, hx⟩ := Option.isSome_iff_exists.mp h
  simp [zLl3, hx]
theorem zLc3 : (zLf3.code.map fun c => (c.code.data, c.maxLocals)) = some (zlcV1.data, 2) := by decide +kernel
theorem zLg3 : (zLf3.accessFlags, zLf3.name, zLf3.sig.returnType) = (0x0001, "of", some FieldType.int) := by decide +kernel
theorem zLw3 : siteWord_1_4 = Cond.lambdaSite ⟨"PackingDuel$State", "newMeasures", "(LPackingDuel$Sums;)[LPackingDuel$Measure;"⟩ 34 178 zLh3 := rfl
theorem zLd3 : zLh3.implDesc.toString = "(I)I" := by decide +kernel
theorem zLM3 : ∃ nt, zLD3.constantPool[22]? = some (.methodref 19 nt) ∧ zLD3.constantPool.className? 19 = some "PackingDuel$State" ∧ zLD3.constantPool.nameAndType? nt = some (zLh3.implName, zLh3.implDesc.toString) := ⟨21, by decide +kernel⟩
theorem zLC3 : zLD3.constantPool[19]? = some (.class_ 18) ∧ zLD3.constantPool.string? 18 = some "PackingDuel$State" ∧ 19 ≠ zLD3.thisClass := by decide +kernel
theorem zLt3 : zLl3.2.1 = #[.object "PackingDuel$State"] := by decide +kernel
theorem zLF3_0 : zLD3.constantPool[15]? = some (.fieldref 2 14) ∧ zLD3.constantPool.nameAndType? 14 = some ("arg$1", "LPackingDuel$State;") ∧ zLl3.1.findIdx? (·.name == "arg$1") = some 0 ∧ (zLl3.1[0]?).map (fun f => (f.isStatic, f.slot)) = some (false, 0) := by decide +kernel
def zLh4 : Lambda.Shape := { iface := "PackingDuel$Measure", name := "of", sam := ⟨[.int], some .int⟩, captured := [.object "PackingDuel$Sums"], kind := 6, implClass := "PackingDuel$State", implName := "lambda$newMeasures$4", implDesc := ⟨[.object "PackingDuel$Sums", .int], some .int⟩, implItf := false, inst := ⟨[.int], some .int⟩ }
def zLD4 : ClassFile := (zLh4.file "PackingDuel$State").getD zlNoFile
def zLf4 : Method := ((layoutMethods zLD4).bind (·[1]?)).getD default
def zLl4 : Array Field × Array FieldType × Array FieldType := (layoutFields zLD4 0).getD (#[], #[], #[])
theorem zLi4 : zLh4.file "PackingDuel$State" = some zLD4 := by
  have h : (zLh4.file "PackingDuel$State").isSome = true := by decide +kernel
  obtain ⟨x, hx⟩ := Option.isSome_iff_exists.mp h
  simp [zLD4, hx]
theorem zLs4 : ((layoutMethods zLD4).bind (·[1]?)) = some zLf4 := by
  have h : ((layoutMethods zLD4).bind (·[1]?)).isSome = true := by decide +kernel
  obtain ⟨x, hx⟩ := Option.isSome_iff_exists.mp h
  simp [zLf4, hx]
theorem zLy4 : layoutFields zLD4 0 = some zLl4 := by
  have h : (layoutFields zLD4 0).isSome = true := by decide +kernel
  obtain ⟨x, hx⟩ := Option.isSome_iff_exists.mp h
  simp [zLl4, hx]
theorem zLc4 : (zLf4.code.map fun c => (c.code.data, c.maxLocals)) = some (zlcS1.data, 2) := by decide +kernel
theorem zLg4 : (zLf4.accessFlags, zLf4.name, zLf4.sig.returnType) = (0x0001, "of", some FieldType.int) := by decide +kernel
theorem zLw4 : siteWord_1_5 = Cond.lambdaSite ⟨"PackingDuel$State", "newMeasures", "(LPackingDuel$Sums;)[LPackingDuel$Measure;"⟩ 43 181 zLh4 := rfl
theorem zLd4 : zLh4.implDesc.toString = "(LPackingDuel$Sums;I)I" := by decide +kernel
theorem zLM4 : ∃ nt, zLD4.constantPool[23]? = some (.methodref 19 nt) ∧ zLD4.constantPool.className? 19 = some "PackingDuel$State" ∧ zLD4.constantPool.nameAndType? nt = some (zLh4.implName, zLh4.implDesc.toString) := ⟨22, by decide +kernel⟩
theorem zLC4 : zLD4.constantPool[19]? = some (.class_ 18) ∧ zLD4.constantPool.string? 18 = some "PackingDuel$State" ∧ 19 ≠ zLD4.thisClass := by decide +kernel
theorem zLt4 : zLl4.2.1 = #[.object "PackingDuel$Sums"] := by decide +kernel
theorem zLF4_0 : zLD4.constantPool[15]? = some (.fieldref 2 14) ∧ zLD4.constantPool.nameAndType? 14 = some ("arg$1", "LPackingDuel$Sums;") ∧ zLl4.1.findIdx? (·.name == "arg$1") = some 0 ∧ (zLl4.1[0]?).map (fun f => (f.isStatic, f.slot)) = some (false, 0) := by decide +kernel
def zLh5 : Lambda.Shape := { iface := "PackingDuel$Measure", name := "of", sam := ⟨[.int], some .int⟩, captured := [.object "PackingDuel$State", .object "PackingDuel$Sums"], kind := 5, implClass := "PackingDuel$State", implName := "lambda$newMeasures$5", implDesc := ⟨[.object "PackingDuel$Sums", .int], some .int⟩, implItf := false, inst := ⟨[.int], some .int⟩ }
def zLD5 : ClassFile := (zLh5.file "PackingDuel$State").getD zlNoFile
def zLf5 : Method := ((layoutMethods zLD5).bind (·[1]?)).getD default
def zLl5 : Array Field × Array FieldType × Array FieldType := (layoutFields zLD5 0).getD (#[], #[], #[])
theorem zLi5 : zLh5.file "PackingDuel$State" = some zLD5 := by
  have h : (zLh5.file "PackingDuel$State").isSome = true := by decide +kernel
  obtain ⟨x, hx⟩ := Option.isSome_iff_exists.mp h
  simp [zLD5, hx]
theorem zLs5 : ((layoutMethods zLD5).bind (·[1]?)) = some zLf5 := by
  have h : ((layoutMethods zLD5).bind (·[1]?)).isSome = true := by decide +kernel
  obtain ⟨x, hx⟩ := Option.isSome_iff_exists.mp h
  simp [zLf5, hx]
theorem zLy5 : layoutFields zLD5 0 = some zLl5 := by
  have h : (layoutFields zLD5 0).isSome = true := by decide +kernel
  obtain ⟨x, hx⟩ := Option.isSome_iff_exists.mp h
  simp [zLl5, hx]
theorem zLc5 : (zLf5.code.map fun c => (c.code.data, c.maxLocals)) = some (zlcV2.data, 2) := by decide +kernel
theorem zLg5 : (zLf5.accessFlags, zLf5.name, zLf5.sig.returnType) = (0x0001, "of", some FieldType.int) := by decide +kernel
theorem zLw5 : siteWord_1_6 = Cond.lambdaSite ⟨"PackingDuel$State", "newMeasures", "(LPackingDuel$Sums;)[LPackingDuel$Measure;"⟩ 53 182 zLh5 := rfl
theorem zLd5 : zLh5.implDesc.toString = "(LPackingDuel$Sums;I)I" := by decide +kernel
theorem zLM5 : ∃ nt, zLD5.constantPool[27]? = some (.methodref 23 nt) ∧ zLD5.constantPool.className? 23 = some "PackingDuel$State" ∧ zLD5.constantPool.nameAndType? nt = some (zLh5.implName, zLh5.implDesc.toString) := ⟨26, by decide +kernel⟩
theorem zLC5 : zLD5.constantPool[23]? = some (.class_ 22) ∧ zLD5.constantPool.string? 22 = some "PackingDuel$State" ∧ 23 ≠ zLD5.thisClass := by decide +kernel
theorem zLt5 : zLl5.2.1 = #[.object "PackingDuel$State", .object "PackingDuel$Sums"] := by decide +kernel
theorem zLF5_0 : zLD5.constantPool[17]? = some (.fieldref 2 16) ∧ zLD5.constantPool.nameAndType? 16 = some ("arg$1", "LPackingDuel$State;") ∧ zLl5.1.findIdx? (·.name == "arg$1") = some 0 ∧ (zLl5.1[0]?).map (fun f => (f.isStatic, f.slot)) = some (false, 0) := by decide +kernel
theorem zLF5_1 : zLD5.constantPool[19]? = some (.fieldref 2 18) ∧ zLD5.constantPool.nameAndType? 18 = some ("arg$2", "LPackingDuel$Sums;") ∧ zLl5.1.findIdx? (·.name == "arg$2") = some 1 ∧ (zLl5.1[1]?).map (fun f => (f.isStatic, f.slot)) = some (false, 1) := by decide +kernel
def zLh6 : Lambda.Shape := { iface := "PackingDuel$Measure", name := "of", sam := ⟨[.int], some .int⟩, captured := [.object "PackingDuel$State", .object "PackingDuel$Sums"], kind := 5, implClass := "PackingDuel$State", implName := "lambda$newMeasures$6", implDesc := ⟨[.object "PackingDuel$Sums", .int], some .int⟩, implItf := false, inst := ⟨[.int], some .int⟩ }
def zLD6 : ClassFile := (zLh6.file "PackingDuel$State").getD zlNoFile
def zLf6 : Method := ((layoutMethods zLD6).bind (·[1]?)).getD default
def zLl6 : Array Field × Array FieldType × Array FieldType := (layoutFields zLD6 0).getD (#[], #[], #[])
theorem zLi6 : zLh6.file "PackingDuel$State" = some zLD6 := by
  have h : (zLh6.file "PackingDuel$State").isSome = true := by decide +kernel
  obtain ⟨x, hx⟩ := Option.isSome_iff_exists.mp h
  simp [zLD6, hx]
theorem zLs6 : ((layoutMethods zLD6).bind (·[1]?)) = some zLf6 := by
  have h : ((layoutMethods zLD6).bind (·[1]?)).isSome = true := by decide +kernel
  obtain ⟨x, hx⟩ := Option.isSome_iff_exists.mp h
  simp [zLf6, hx]
theorem zLy6 : layoutFields zLD6 0 = some zLl6 := by
  have h : (layoutFields zLD6 0).isSome = true := by decide +kernel
  obtain ⟨x, hx⟩ := Option.isSome_iff_exists.mp h
  simp [zLl6, hx]
theorem zLc6 : (zLf6.code.map fun c => (c.code.data, c.maxLocals)) = some (zlcV2.data, 2) := by decide +kernel
theorem zLg6 : (zLf6.accessFlags, zLf6.name, zLf6.sig.returnType) = (0x0001, "of", some FieldType.int) := by decide +kernel
theorem zLw6 : siteWord_1_7 = Cond.lambdaSite ⟨"PackingDuel$State", "newMeasures", "(LPackingDuel$Sums;)[LPackingDuel$Measure;"⟩ 64 185 zLh6 := rfl
theorem zLd6 : zLh6.implDesc.toString = "(LPackingDuel$Sums;I)I" := by decide +kernel
theorem zLM6 : ∃ nt, zLD6.constantPool[27]? = some (.methodref 23 nt) ∧ zLD6.constantPool.className? 23 = some "PackingDuel$State" ∧ zLD6.constantPool.nameAndType? nt = some (zLh6.implName, zLh6.implDesc.toString) := ⟨26, by decide +kernel⟩
theorem zLC6 : zLD6.constantPool[23]? = some (.class_ 22) ∧ zLD6.constantPool.string? 22 = some "PackingDuel$State" ∧ 23 ≠ zLD6.thisClass := by decide +kernel
theorem zLt6 : zLl6.2.1 = #[.object "PackingDuel$State", .object "PackingDuel$Sums"] := by decide +kernel
theorem zLF6_0 : zLD6.constantPool[17]? = some (.fieldref 2 16) ∧ zLD6.constantPool.nameAndType? 16 = some ("arg$1", "LPackingDuel$State;") ∧ zLl6.1.findIdx? (·.name == "arg$1") = some 0 ∧ (zLl6.1[0]?).map (fun f => (f.isStatic, f.slot)) = some (false, 0) := by decide +kernel
theorem zLF6_1 : zLD6.constantPool[19]? = some (.fieldref 2 18) ∧ zLD6.constantPool.nameAndType? 18 = some ("arg$2", "LPackingDuel$Sums;") ∧ zLl6.1.findIdx? (·.name == "arg$2") = some 1 ∧ (zLl6.1[1]?).map (fun f => (f.isStatic, f.slot)) = some (false, 1) := by decide +kernel
def zLh7 : Lambda.Shape := { iface := "PackingDuel$Measure", name := "of", sam := ⟨[.int], some .int⟩, captured := [.object "PackingDuel$State"], kind := 5, implClass := "PackingDuel$State", implName := "lambda$newMeasures$7", implDesc := ⟨[.int], some .int⟩, implItf := false, inst := ⟨[.int], some .int⟩ }
def zLD7 : ClassFile := (zLh7.file "PackingDuel$State").getD zlNoFile
def zLf7 : Method := ((layoutMethods zLD7).bind (·[1]?)).getD default
def zLl7 : Array Field × Array FieldType × Array FieldType := (layoutFields zLD7 0).getD (#[], #[], #[])
theorem zLi7 : zLh7.file "PackingDuel$State" = some zLD7 := by
  have h : (zLh7.file "PackingDuel$State").isSome = true := by decide +kernel
  obtain ⟨x, hx⟩ := Option.isSome_iff_exists.mp h
  simp [zLD7, hx]
theorem zLs7 : ((layoutMethods zLD7).bind (·[1]?)) = some zLf7 := by
  have h : ((layoutMethods zLD7).bind (·[1]?)).isSome = true := by decide +kernel
  obtain ⟨x, hx⟩ := Option.isSome_iff_exists.mp h
  simp [zLf7, hx]
theorem zLy7 : layoutFields zLD7 0 = some zLl7 := by
  have h : (layoutFields zLD7 0).isSome = true := by decide +kernel
  obtain ⟨x, hx⟩ := Option.isSome_iff_exists.mp h
  simp [zLl7, hx]
theorem zLc7 : (zLf7.code.map fun c => (c.code.data, c.maxLocals)) = some (zlcV1.data, 2) := by decide +kernel
theorem zLg7 : (zLf7.accessFlags, zLf7.name, zLf7.sig.returnType) = (0x0001, "of", some FieldType.int) := by decide +kernel
theorem zLw7 : siteWord_1_8 = Cond.lambdaSite ⟨"PackingDuel$State", "newMeasures", "(LPackingDuel$Sums;)[LPackingDuel$Measure;"⟩ 74 186 zLh7 := rfl
theorem zLd7 : zLh7.implDesc.toString = "(I)I" := by decide +kernel
theorem zLM7 : ∃ nt, zLD7.constantPool[22]? = some (.methodref 19 nt) ∧ zLD7.constantPool.className? 19 = some "PackingDuel$State" ∧ zLD7.constantPool.nameAndType? nt = some (zLh7.implName, zLh7.implDesc.toString) := ⟨21, by decide +kernel⟩
theorem zLC7 : zLD7.constantPool[19]? = some (.class_ 18) ∧ zLD7.constantPool.string? 18 = some "PackingDuel$State" ∧ 19 ≠ zLD7.thisClass := by decide +kernel
theorem zLt7 : zLl7.2.1 = #[.object "PackingDuel$State"] := by decide +kernel
theorem zLF7_0 : zLD7.constantPool[15]? = some (.fieldref 2 14) ∧ zLD7.constantPool.nameAndType? 14 = some ("arg$1", "LPackingDuel$State;") ∧ zLl7.1.findIdx? (·.name == "arg$1") = some 0 ∧ (zLl7.1[0]?).map (fun f => (f.isStatic, f.slot)) = some (false, 0) := by decide +kernel
def zLh8 : Lambda.Shape := { iface := "PackingDuel$Measure", name := "of", sam := ⟨[.int], some .int⟩, captured := [.object "PackingDuel$State"], kind := 5, implClass := "PackingDuel$State", implName := "lambda$newMeasures$8", implDesc := ⟨[.int], some .int⟩, implItf := false, inst := ⟨[.int], some .int⟩ }
def zLD8 : ClassFile := (zLh8.file "PackingDuel$State").getD zlNoFile
def zLf8 : Method := ((layoutMethods zLD8).bind (·[1]?)).getD default
def zLl8 : Array Field × Array FieldType × Array FieldType := (layoutFields zLD8 0).getD (#[], #[], #[])
theorem zLi8 : zLh8.file "PackingDuel$State" = some zLD8 := by
  have h : (zLh8.file "PackingDuel$State").isSome = true := by decide +kernel
  obtain ⟨x, hx⟩ := Option.isSome_iff_exists.mp h
  simp [zLD8, hx]
theorem zLs8 : ((layoutMethods zLD8).bind (·[1]?)) = some zLf8 := by
  have h : ((layoutMethods zLD8).bind (·[1]?)).isSome = true := by decide +kernel
  obtain ⟨x, hx⟩ := Option.isSome_iff_exists.mp h
  simp [zLf8, hx]
theorem zLy8 : layoutFields zLD8 0 = some zLl8 := by
  have h : (layoutFields zLD8 0).isSome = true := by decide +kernel
  obtain ⟨x, hx⟩ := Option.isSome_iff_exists.mp h
  simp [zLl8, hx]
theorem zLc8 : (zLf8.code.map fun c => (c.code.data, c.maxLocals)) = some (zlcV1.data, 2) := by decide +kernel
theorem zLg8 : (zLf8.accessFlags, zLf8.name, zLf8.sig.returnType) = (0x0001, "of", some FieldType.int) := by decide +kernel
theorem zLw8 : siteWord_1_9 = Cond.lambdaSite ⟨"PackingDuel$State", "newMeasures", "(LPackingDuel$Sums;)[LPackingDuel$Measure;"⟩ 84 187 zLh8 := rfl
theorem zLd8 : zLh8.implDesc.toString = "(I)I" := by decide +kernel
theorem zLM8 : ∃ nt, zLD8.constantPool[22]? = some (.methodref 19 nt) ∧ zLD8.constantPool.className? 19 = some "PackingDuel$State" ∧ zLD8.constantPool.nameAndType? nt = some (zLh8.implName, zLh8.implDesc.toString) := ⟨21, by decide +kernel⟩
theorem zLC8 : zLD8.constantPool[19]? = some (.class_ 18) ∧ zLD8.constantPool.string? 18 = some "PackingDuel$State" ∧ 19 ≠ zLD8.thisClass := by decide +kernel
theorem zLt8 : zLl8.2.1 = #[.object "PackingDuel$State"] := by decide +kernel
theorem zLF8_0 : zLD8.constantPool[15]? = some (.fieldref 2 14) ∧ zLD8.constantPool.nameAndType? 14 = some ("arg$1", "LPackingDuel$State;") ∧ zLl8.1.findIdx? (·.name == "arg$1") = some 0 ∧ (zLl8.1[0]?).map (fun f => (f.isStatic, f.slot)) = some (false, 0) := by decide +kernel
