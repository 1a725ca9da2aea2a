/-! part 19d: the lambda classes (printed by gen/lambdas.py) -/
set_option maxRecDepth 100000
def xlD_0 : ClassFile := (xls_0.file "ReserveLedger").getD { minorVersion := 0, majorVersion := 0, constantPool := #[], accessFlags := 0, thisClass := 0, superClass := 0, interfaces := #[], fields := #[], methods := #[], attributes := #[] }
def xlF_0 : Method := ((layoutMethods xlD_0).bind (·[1]?)).getD default
def xlL_0 : Array Field × Array FieldType × Array FieldType := (layoutFields xlD_0 0).getD (#[], #[], #[])
def xlB_0 : ByteArray := ⟨#[0x2a, 0xb4, 0x0, 0xf, 0x1b, 0xb8, 0x0, 0x17, 0xad]⟩
theorem xld_0_0 : decode xlB_0 0 = .ok (.aload_n 0, 1) := by decide +kernel
theorem xld_0_1 : decode xlB_0 1 = .ok (.getfield 15, 3) := by decide +kernel
theorem xld_0_4 : decode xlB_0 4 = .ok (.iload_n 1, 1) := by decide +kernel
theorem xld_0_5 : decode xlB_0 5 = .ok (.invokestatic 23, 3) := by decide +kernel
theorem xld_0_8 : decode xlB_0 8 = .ok (.lreturn, 1) := by decide +kernel
theorem xlfile_0 : xls_0.file "ReserveLedger" = some xlD_0 := by
  have h : (xls_0.file "ReserveLedger").isSome = true := by decide +kernel
  obtain ⟨x, hx⟩ := Option.isSome_iff_exists.mp h
  simp [xlD_0, hx]
theorem xlsec_0 : ∀ ms, layoutMethods xlD_0 = some ms → ms[1]? = some xlF_0 := by
  intro ms hms
  have h : ((layoutMethods xlD_0).bind (·[1]?)).isSome = true := by decide +kernel
  obtain ⟨x, hx⟩ := Option.isSome_iff_exists.mp h
  have hf : xlF_0 = x := by simp [xlF_0, hx]
  rw [hms] at hx
  rw [hf]
  exact hx
theorem xllaid_0 : layoutFields xlD_0 0 = some xlL_0 := by
  have h : (layoutFields xlD_0 0).isSome = true := by decide +kernel
  obtain ⟨x, hx⟩ := Option.isSome_iff_exists.mp h
  simp [xlL_0, hx]
theorem xlcode_0 : (xlF_0.code.map fun c => (c.code.data, c.maxLocals)) = some (xlB_0.data, 2) := by decide +kernel
theorem xlflags_0 : (xlF_0.accessFlags, xlF_0.name, xlF_0.sig.returnType) = (0x0001, "of", some FieldType.long) := by decide +kernel
theorem xleM_0 : xlD_0.constantPool[23]? = some (.methodref 19 22) ∧ xlD_0.constantPool.className? 19 = some "ReserveLedger" ∧ xlD_0.constantPool.nameAndType? 22 = some ("lambda$reproduction$0", "(LReserveLedger$Herd;I)J") := by decide +kernel
theorem xleC_0 : xlD_0.constantPool[19]? = some (.class_ 18) ∧ xlD_0.constantPool.string? 18 = some "ReserveLedger" ∧ 19 ≠ xlD_0.thisClass := by decide +kernel
theorem xleF_0_0 : xlD_0.constantPool[15]? = some (.fieldref 2 14) ∧ xlD_0.constantPool.nameAndType? 14 = some ("arg$1", "LReserveLedger$Herd;") ∧ xlL_0.1.findIdx? (·.name == "arg$1") = some 0 ∧ (xlL_0.1[0]?).map (fun f => (f.isStatic, f.slot)) = some (false, 0) := by decide +kernel
theorem xlty_0 : xlL_0.2.1 = #[(.object "ReserveLedger$Herd")] := by decide +kernel
def xlD_1 : ClassFile := (xls_1.file "ReserveLedger").getD { minorVersion := 0, majorVersion := 0, constantPool := #[], accessFlags := 0, thisClass := 0, superClass := 0, interfaces := #[], fields := #[], methods := #[], attributes := #[] }
def xlF_1 : Method := ((layoutMethods xlD_1).bind (·[1]?)).getD default
def xlL_1 : Array Field × Array FieldType × Array FieldType := (layoutFields xlD_1 0).getD (#[], #[], #[])
def xlB_1 : ByteArray := ⟨#[0x2a, 0xb4, 0x0, 0xf, 0x1b, 0xb8, 0x0, 0x17, 0xad]⟩
theorem xld_1_0 : decode xlB_1 0 = .ok (.aload_n 0, 1) := by decide +kernel
theorem xld_1_1 : decode xlB_1 1 = .ok (.getfield 15, 3) := by decide +kernel
theorem xld_1_4 : decode xlB_1 4 = .ok (.iload_n 1, 1) := by decide +kernel
theorem xld_1_5 : decode xlB_1 5 = .ok (.invokestatic 23, 3) := by decide +kernel
theorem xld_1_8 : decode xlB_1 8 = .ok (.lreturn, 1) := by decide +kernel
theorem xlfile_1 : xls_1.file "ReserveLedger" = some xlD_1 := by
  have h : (xls_1.file "ReserveLedger").isSome = true := by decide +kernel
  obtain ⟨x, hx⟩ := Option.isSome_iff_exists.mp h
  simp [xlD_1, hx]
theorem xlsec_1 : ∀ ms, layoutMethods xlD_1 = some ms → ms[1]? = some xlF_1 := by
  intro ms hms
  have h : ((layoutMethods xlD_1).bind (·[1]?)).isSome = true := by decide +kernel
  obtain ⟨x, hx⟩ := Option.isSome_iff_exists.mp h
  have hf : xlF_1 = x := by simp [xlF_1, hx]
  rw [hms] at hx
  rw [hf]
  exact hx
theorem xllaid_1 : layoutFields xlD_1 0 = some xlL_1 := by
  have h : (layoutFields xlD_1 0).isSome = true := by decide +kernel
  obtain ⟨x, hx⟩ := Option.isSome_iff_exists.mp h
  simp [xlL_1, hx]
theorem xlcode_1 : (xlF_1.code.map fun c => (c.code.data, c.maxLocals)) = some (xlB_1.data, 2) := by decide +kernel
theorem xlflags_1 : (xlF_1.accessFlags, xlF_1.name, xlF_1.sig.returnType) = (0x0001, "of", some FieldType.long) := by decide +kernel
theorem xleM_1 : xlD_1.constantPool[23]? = some (.methodref 19 22) ∧ xlD_1.constantPool.className? 19 = some "ReserveLedger" ∧ xlD_1.constantPool.nameAndType? 22 = some ("lambda$generation$1", "(LReserveLedger$Herd;I)J") := by decide +kernel
theorem xleC_1 : xlD_1.constantPool[19]? = some (.class_ 18) ∧ xlD_1.constantPool.string? 18 = some "ReserveLedger" ∧ 19 ≠ xlD_1.thisClass := by decide +kernel
theorem xleF_1_0 : xlD_1.constantPool[15]? = some (.fieldref 2 14) ∧ xlD_1.constantPool.nameAndType? 14 = some ("arg$1", "LReserveLedger$Herd;") ∧ xlL_1.1.findIdx? (·.name == "arg$1") = some 0 ∧ (xlL_1.1[0]?).map (fun f => (f.isStatic, f.slot)) = some (false, 0) := by decide +kernel
theorem xlty_1 : xlL_1.2.1 = #[(.object "ReserveLedger$Herd")] := by decide +kernel
def xlD_2 : ClassFile := (xls_2.file "ReserveLedger").getD { minorVersion := 0, majorVersion := 0, constantPool := #[], accessFlags := 0, thisClass := 0, superClass := 0, interfaces := #[], fields := #[], methods := #[], attributes := #[] }
def xlF_2 : Method := ((layoutMethods xlD_2).bind (·[1]?)).getD default
def xlL_2 : Array Field × Array FieldType × Array FieldType := (layoutFields xlD_2 0).getD (#[], #[], #[])
def xlB_2 : ByteArray := ⟨#[0x2a, 0xb4, 0x0, 0xf, 0x1b, 0xb8, 0x0, 0x17, 0xad]⟩
theorem xld_2_0 : decode xlB_2 0 = .ok (.aload_n 0, 1) := by decide +kernel
theorem xld_2_1 : decode xlB_2 1 = .ok (.getfield 15, 3) := by decide +kernel
theorem xld_2_4 : decode xlB_2 4 = .ok (.iload_n 1, 1) := by decide +kernel
theorem xld_2_5 : decode xlB_2 5 = .ok (.invokestatic 23, 3) := by decide +kernel
theorem xld_2_8 : decode xlB_2 8 = .ok (.lreturn, 1) := by decide +kernel
theorem xlfile_2 : xls_2.file "ReserveLedger" = some xlD_2 := by
  have h : (xls_2.file "ReserveLedger").isSome = true := by decide +kernel
  obtain ⟨x, hx⟩ := Option.isSome_iff_exists.mp h
  simp [xlD_2, hx]
theorem xlsec_2 : ∀ ms, layoutMethods xlD_2 = some ms → ms[1]? = some xlF_2 := by
  intro ms hms
  have h : ((layoutMethods xlD_2).bind (·[1]?)).isSome = true := by decide +kernel
  obtain ⟨x, hx⟩ := Option.isSome_iff_exists.mp h
  have hf : xlF_2 = x := by simp [xlF_2, hx]
  rw [hms] at hx
  rw [hf]
  exact hx
theorem xllaid_2 : layoutFields xlD_2 0 = some xlL_2 := by
  have h : (layoutFields xlD_2 0).isSome = true := by decide +kernel
  obtain ⟨x, hx⟩ := Option.isSome_iff_exists.mp h
  simp [xlL_2, hx]
theorem xlcode_2 : (xlF_2.code.map fun c => (c.code.data, c.maxLocals)) = some (xlB_2.data, 2) := by decide +kernel
theorem xlflags_2 : (xlF_2.accessFlags, xlF_2.name, xlF_2.sig.returnType) = (0x0001, "of", some FieldType.long) := by decide +kernel
theorem xleM_2 : xlD_2.constantPool[23]? = some (.methodref 19 22) ∧ xlD_2.constantPool.className? 19 = some "ReserveLedger" ∧ xlD_2.constantPool.nameAndType? 22 = some ("lambda$generation$2", "(LReserveLedger$Herd;I)J") := by decide +kernel
theorem xleC_2 : xlD_2.constantPool[19]? = some (.class_ 18) ∧ xlD_2.constantPool.string? 18 = some "ReserveLedger" ∧ 19 ≠ xlD_2.thisClass := by decide +kernel
theorem xleF_2_0 : xlD_2.constantPool[15]? = some (.fieldref 2 14) ∧ xlD_2.constantPool.nameAndType? 14 = some ("arg$1", "LReserveLedger$Herd;") ∧ xlL_2.1.findIdx? (·.name == "arg$1") = some 0 ∧ (xlL_2.1[0]?).map (fun f => (f.isStatic, f.slot)) = some (false, 0) := by decide +kernel
theorem xlty_2 : xlL_2.2.1 = #[(.object "ReserveLedger$Herd")] := by decide +kernel
def xlD_3 : ClassFile := (xls_3.file "ReserveLedger").getD { minorVersion := 0, majorVersion := 0, constantPool := #[], accessFlags := 0, thisClass := 0, superClass := 0, interfaces := #[], fields := #[], methods := #[], attributes := #[] }
def xlF_3 : Method := ((layoutMethods xlD_3).bind (·[1]?)).getD default
def xlL_3 : Array Field × Array FieldType × Array FieldType := (layoutFields xlD_3 0).getD (#[], #[], #[])
def xlB_3 : ByteArray := ⟨#[0x2b, 0xb8, 0x0, 0x11, 0xac]⟩
theorem xld_3_0 : decode xlB_3 0 = .ok (.aload_n 1, 1) := by decide +kernel
theorem xld_3_1 : decode xlB_3 1 = .ok (.invokestatic 17, 3) := by decide +kernel
theorem xld_3_4 : decode xlB_3 4 = .ok (.ireturn, 1) := by decide +kernel
theorem xlfile_3 : xls_3.file "ReserveLedger" = some xlD_3 := by
  have h : (xls_3.file "ReserveLedger").isSome = true := by decide +kernel
  obtain ⟨x, hx⟩ := Option.isSome_iff_exists.mp h
  simp [xlD_3, hx]
theorem xlsec_3 : ∀ ms, layoutMethods xlD_3 = some ms → ms[1]? = some xlF_3 := by
  intro ms hms
  have h : ((layoutMethods xlD_3).bind (·[1]?)).isSome = true := by decide +kernel
  obtain ⟨x, hx⟩ := Option.isSome_iff_exists.mp h
  have hf : xlF_3 = x := by simp [xlF_3, hx]
  rw [hms] at hx
  rw [hf]
  exact hx
theorem xllaid_3 : layoutFields xlD_3 0 = some xlL_3 := by
  have h : (layoutFields xlD_3 0).isSome = true := by decide +kernel
  obtain ⟨x, hx⟩ := Option.isSome_iff_exists.mp h
  simp [xlL_3, hx]
theorem xlcode_3 : (xlF_3.code.map fun c => (c.code.data, c.maxLocals)) = some (xlB_3.data, 2) := by decide +kernel
theorem xlflags_3 : (xlF_3.accessFlags, xlF_3.name, xlF_3.sig.returnType) = (0x0001, "of", some FieldType.int) := by decide +kernel
theorem xleM_3 : xlD_3.constantPool[17]? = some (.methodref 14 16) ∧ xlD_3.constantPool.className? 14 = some "ReserveLedger" ∧ xlD_3.constantPool.nameAndType? 16 = some ("lambda$part$3", "(LReserveLedger$Ledger;)I") := by decide +kernel
theorem xleC_3 : xlD_3.constantPool[14]? = some (.class_ 13) ∧ xlD_3.constantPool.string? 13 = some "ReserveLedger" ∧ 14 ≠ xlD_3.thisClass := by decide +kernel
theorem xlty_3 : xlL_3.2.1 = #[] := by decide +kernel
def xlD_4 : ClassFile := (xls_4.file "ReserveLedger").getD { minorVersion := 0, majorVersion := 0, constantPool := #[], accessFlags := 0, thisClass := 0, superClass := 0, interfaces := #[], fields := #[], methods := #[], attributes := #[] }
def xlF_4 : Method := ((layoutMethods xlD_4).bind (·[1]?)).getD default
def xlL_4 : Array Field × Array FieldType × Array FieldType := (layoutFields xlD_4 0).getD (#[], #[], #[])
def xlB_4 : ByteArray := ⟨#[0x2b, 0xb8, 0x0, 0x11, 0xac]⟩
theorem xld_4_0 : decode xlB_4 0 = .ok (.aload_n 1, 1) := by decide +kernel
theorem xld_4_1 : decode xlB_4 1 = .ok (.invokestatic 17, 3) := by decide +kernel
theorem xld_4_4 : decode xlB_4 4 = .ok (.ireturn, 1) := by decide +kernel
theorem xlfile_4 : xls_4.file "ReserveLedger" = some xlD_4 := by
  have h : (xls_4.file "ReserveLedger").isSome = true := by decide +kernel
  obtain ⟨x, hx⟩ := Option.isSome_iff_exists.mp h
  simp [xlD_4, hx]
theorem xlsec_4 : ∀ ms, layoutMethods xlD_4 = some ms → ms[1]? = some xlF_4 := by
  intro ms hms
  have h : ((layoutMethods xlD_4).bind (·[1]?)).isSome = true := by decide +kernel
  obtain ⟨x, hx⟩ := Option.isSome_iff_exists.mp h
  have hf : xlF_4 = x := by simp [xlF_4, hx]
  rw [hms] at hx
  rw [hf]
  exact hx
theorem xllaid_4 : layoutFields xlD_4 0 = some xlL_4 := by
  have h : (layoutFields xlD_4 0).isSome = true := by decide +kernel
  obtain ⟨x, hx⟩ := Option.isSome_iff_exists.mp h
  simp [xlL_4, hx]
theorem xlcode_4 : (xlF_4.code.map fun c => (c.code.data, c.maxLocals)) = some (xlB_4.data, 2) := by decide +kernel
theorem xlflags_4 : (xlF_4.accessFlags, xlF_4.name, xlF_4.sig.returnType) = (0x0001, "of", some FieldType.int) := by decide +kernel
theorem xleM_4 : xlD_4.constantPool[17]? = some (.methodref 14 16) ∧ xlD_4.constantPool.className? 14 = some "ReserveLedger" ∧ xlD_4.constantPool.nameAndType? 16 = some ("lambda$part$4", "(LReserveLedger$Ledger;)I") := by decide +kernel
theorem xleC_4 : xlD_4.constantPool[14]? = some (.class_ 13) ∧ xlD_4.constantPool.string? 13 = some "ReserveLedger" ∧ 14 ≠ xlD_4.thisClass := by decide +kernel
theorem xlty_4 : xlL_4.2.1 = #[] := by decide +kernel
def xlD_5 : ClassFile := (xls_5.file "ReserveLedger").getD { minorVersion := 0, majorVersion := 0, constantPool := #[], accessFlags := 0, thisClass := 0, superClass := 0, interfaces := #[], fields := #[], methods := #[], attributes := #[] }
def xlF_5 : Method := ((layoutMethods xlD_5).bind (·[1]?)).getD default
def xlL_5 : Array Field × Array FieldType × Array FieldType := (layoutFields xlD_5 0).getD (#[], #[], #[])
def xlB_5 : ByteArray := ⟨#[0x2b, 0xb8, 0x0, 0x11, 0xac]⟩
theorem xld_5_0 : decode xlB_5 0 = .ok (.aload_n 1, 1) := by decide +kernel
theorem xld_5_1 : decode xlB_5 1 = .ok (.invokestatic 17, 3) := by decide +kernel
theorem xld_5_4 : decode xlB_5 4 = .ok (.ireturn, 1) := by decide +kernel
theorem xlfile_5 : xls_5.file "ReserveLedger" = some xlD_5 := by
  have h : (xls_5.file "ReserveLedger").isSome = true := by decide +kernel
  obtain ⟨x, hx⟩ := Option.isSome_iff_exists.mp h
  simp [xlD_5, hx]
theorem xlsec_5 : ∀ ms, layoutMethods xlD_5 = some ms → ms[1]? = some xlF_5 := by
  intro ms hms
  have h : ((layoutMethods xlD_5).bind (·[1]?)).isSome = true := by decide +kernel
  obtain ⟨x, hx⟩ := Option.isSome_iff_exists.mp h
  have hf : xlF_5 = x := by simp [xlF_5, hx]
  rw [hms] at hx
  rw [hf]
  exact hx
theorem xllaid_5 : layoutFields xlD_5 0 = some xlL_5 := by
  have h : (layoutFields xlD_5 0).isSome = true := by decide +kernel
  obtain ⟨x, hx⟩ := Option.isSome_iff_exists.mp h
  simp [xlL_5, hx]
theorem xlcode_5 : (xlF_5.code.map fun c => (c.code.data, c.maxLocals)) = some (xlB_5.data, 2) := by decide +kernel
theorem xlflags_5 : (xlF_5.accessFlags, xlF_5.name, xlF_5.sig.returnType) = (0x0001, "of", some FieldType.int) := by decide +kernel
theorem xleM_5 : xlD_5.constantPool[17]? = some (.methodref 14 16) ∧ xlD_5.constantPool.className? 14 = some "ReserveLedger" ∧ xlD_5.constantPool.nameAndType? 16 = some ("lambda$part$5", "(LReserveLedger$Ledger;)I") := by decide +kernel
theorem xleC_5 : xlD_5.constantPool[14]? = some (.class_ 13) ∧ xlD_5.constantPool.string? 13 = some "ReserveLedger" ∧ 14 ≠ xlD_5.thisClass := by decide +kernel
theorem xlty_5 : xlL_5.2.1 = #[] := by decide +kernel
def xlD_6 : ClassFile := (xls_6.file "ReserveLedger").getD { minorVersion := 0, majorVersion := 0, constantPool := #[], accessFlags := 0, thisClass := 0, superClass := 0, interfaces := #[], fields := #[], methods := #[], attributes := #[] }
def xlF_6 : Method := ((layoutMethods xlD_6).bind (·[1]?)).getD default
def xlL_6 : Array Field × Array FieldType × Array FieldType := (layoutFields xlD_6 0).getD (#[], #[], #[])
def xlB_6 : ByteArray := ⟨#[0x2b, 0xb8, 0x0, 0x11, 0xac]⟩
theorem xld_6_0 : decode xlB_6 0 = .ok (.aload_n 1, 1) := by decide +kernel
theorem xld_6_1 : decode xlB_6 1 = .ok (.invokestatic 17, 3) := by decide +kernel
theorem xld_6_4 : decode xlB_6 4 = .ok (.ireturn, 1) := by decide +kernel
theorem xlfile_6 : xls_6.file "ReserveLedger" = some xlD_6 := by
  have h : (xls_6.file "ReserveLedger").isSome = true := by decide +kernel
  obtain ⟨x, hx⟩ := Option.isSome_iff_exists.mp h
  simp [xlD_6, hx]
theorem xlsec_6 : ∀ ms, layoutMethods xlD_6 = some ms → ms[1]? = some xlF_6 := by
  intro ms hms
  have h : ((layoutMethods xlD_6).bind (·[1]?)).isSome = true := by decide +kernel
  obtain ⟨x, hx⟩ := Option.isSome_iff_exists.mp h
  have hf : xlF_6 = x := by simp [xlF_6, hx]
  rw [hms] at hx
  rw [hf]
  exact hx
theorem xllaid_6 : layoutFields xlD_6 0 = some xlL_6 := by
  have h : (layoutFields xlD_6 0).isSome = true := by decide +kernel
  obtain ⟨x, hx⟩ := Option.isSome_iff_exists.mp h
  simp [xlL_6, hx]
theorem xlcode_6 : (xlF_6.code.map fun c => (c.code.data, c.maxLocals)) = some (xlB_6.data, 2) := by decide +kernel
theorem xlflags_6 : (xlF_6.accessFlags, xlF_6.name, xlF_6.sig.returnType) = (0x0001, "of", some FieldType.int) := by decide +kernel
theorem xleM_6 : xlD_6.constantPool[17]? = some (.methodref 14 16) ∧ xlD_6.constantPool.className? 14 = some "ReserveLedger" ∧ xlD_6.constantPool.nameAndType? 16 = some ("lambda$part$6", "(LReserveLedger$Ledger;)I") := by decide +kernel
theorem xleC_6 : xlD_6.constantPool[14]? = some (.class_ 13) ∧ xlD_6.constantPool.string? 13 = some "ReserveLedger" ∧ 14 ≠ xlD_6.thisClass := by decide +kernel
theorem xlty_6 : xlL_6.2.1 = #[] := by decide +kernel
def xlD_7 : ClassFile := (xls_7.file "ReserveLedger").getD { minorVersion := 0, majorVersion := 0, constantPool := #[], accessFlags := 0, thisClass := 0, superClass := 0, interfaces := #[], fields := #[], methods := #[], attributes := #[] }
def xlF_7 : Method := ((layoutMethods xlD_7).bind (·[1]?)).getD default
def xlL_7 : Array Field × Array FieldType × Array FieldType := (layoutFields xlD_7 0).getD (#[], #[], #[])
def xlB_7 : ByteArray := ⟨#[0x2b, 0xb8, 0x0, 0x11, 0xac]⟩
theorem xld_7_0 : decode xlB_7 0 = .ok (.aload_n 1, 1) := by decide +kernel
theorem xld_7_1 : decode xlB_7 1 = .ok (.invokestatic 17, 3) := by decide +kernel
theorem xld_7_4 : decode xlB_7 4 = .ok (.ireturn, 1) := by decide +kernel
theorem xlfile_7 : xls_7.file "ReserveLedger" = some xlD_7 := by
  have h : (xls_7.file "ReserveLedger").isSome = true := by decide +kernel
  obtain ⟨x, hx⟩ := Option.isSome_iff_exists.mp h
  simp [xlD_7, hx]
theorem xlsec_7 : ∀ ms, layoutMethods xlD_7 = some ms → ms[1]? = some xlF_7 := by
  intro ms hms
  have h : ((layoutMethods xlD_7).bind (·[1]?)).isSome = true := by decide +kernel
  obtain ⟨x, hx⟩ := Option.isSome_iff_exists.mp h
  have hf : xlF_7 = x := by simp [xlF_7, hx]
  rw [hms] at hx
  rw [hf]
  exact hx
theorem xllaid_7 : layoutFields xlD_7 0 = some xlL_7 := by
  have h : (layoutFields xlD_7 0).isSome = true := by decide +kernel
  obtain ⟨x, hx⟩ := Option.isSome_iff_exists.mp h
  simp [xlL_7, hx]
theorem xlcode_7 : (xlF_7.code.map fun c => (c.code.data, c.maxLocals)) = some (xlB_7.data, 2) := by decide +kernel
theorem xlflags_7 : (xlF_7.accessFlags, xlF_7.name, xlF_7.sig.returnType) = (0x0001, "of", some FieldType.int) := by decide +kernel
theorem xleM_7 : xlD_7.constantPool[17]? = some (.methodref 14 16) ∧ xlD_7.constantPool.className? 14 = some "ReserveLedger" ∧ xlD_7.constantPool.nameAndType? 16 = some ("lambda$part$7", "(LReserveLedger$Ledger;)I") := by decide +kernel
theorem xleC_7 : xlD_7.constantPool[14]? = some (.class_ 13) ∧ xlD_7.constantPool.string? 13 = some "ReserveLedger" ∧ 14 ≠ xlD_7.thisClass := by decide +kernel
theorem xlty_7 : xlL_7.2.1 = #[] := by decide +kernel
def xlD_8 : ClassFile := (xls_8.file "ReserveLedger").getD { minorVersion := 0, majorVersion := 0, constantPool := #[], accessFlags := 0, thisClass := 0, superClass := 0, interfaces := #[], fields := #[], methods := #[], attributes := #[] }
def xlF_8 : Method := ((layoutMethods xlD_8).bind (·[1]?)).getD default
def xlL_8 : Array Field × Array FieldType × Array FieldType := (layoutFields xlD_8 0).getD (#[], #[], #[])
def xlB_8 : ByteArray := ⟨#[0x2b, 0xb8, 0x0, 0x11, 0xac]⟩
theorem xld_8_0 : decode xlB_8 0 = .ok (.aload_n 1, 1) := by decide +kernel
theorem xld_8_1 : decode xlB_8 1 = .ok (.invokestatic 17, 3) := by decide +kernel
theorem xld_8_4 : decode xlB_8 4 = .ok (.ireturn, 1) := by decide +kernel
theorem xlfile_8 : xls_8.file "ReserveLedger" = some xlD_8 := by
  have h : (xls_8.file "ReserveLedger").isSome = true := by decide +kernel
  obtain ⟨x, hx⟩ := Option.isSome_iff_exists.mp h
  simp [xlD_8, hx]
theorem xlsec_8 : ∀ ms, layoutMethods xlD_8 = some ms → ms[1]? = some xlF_8 := by
  intro ms hms
  have h : ((layoutMethods xlD_8).bind (·[1]?)).isSome = true := by decide +kernel
  obtain ⟨x, hx⟩ := Option.isSome_iff_exists.mp h
  have hf : xlF_8 = x := by simp [xlF_8, hx]
  rw [hms] at hx
  rw [hf]
  exact hx
theorem xllaid_8 : layoutFields xlD_8 0 = some xlL_8 := by
  have h : (layoutFields xlD_8 0).isSome = true := by decide +kernel
  obtain ⟨x, hx⟩ := Option.isSome_iff_exists.mp h
  simp [xlL_8, hx]
theorem xlcode_8 : (xlF_8.code.map fun c => (c.code.data, c.maxLocals)) = some (xlB_8.data, 2) := by decide +kernel
theorem xlflags_8 : (xlF_8.accessFlags, xlF_8.name, xlF_8.sig.returnType) = (0x0001, "of", some FieldType.int) := by decide +kernel
theorem xleM_8 : xlD_8.constantPool[17]? = some (.methodref 14 16) ∧ xlD_8.constantPool.className? 14 = some "ReserveLedger" ∧ xlD_8.constantPool.nameAndType? 16 = some ("lambda$part$8", "(LReserveLedger$Ledger;)I") := by decide +kernel
theorem xleC_8 : xlD_8.constantPool[14]? = some (.class_ 13) ∧ xlD_8.constantPool.string? 13 = some "ReserveLedger" ∧ 14 ≠ xlD_8.thisClass := by decide +kernel
theorem xlty_8 : xlL_8.2.1 = #[] := by decide +kernel
def xlD_9 : ClassFile := (xls_9.file "ReserveLedger").getD { minorVersion := 0, majorVersion := 0, constantPool := #[], accessFlags := 0, thisClass := 0, superClass := 0, interfaces := #[], fields := #[], methods := #[], attributes := #[] }
def xlF_9 : Method := ((layoutMethods xlD_9).bind (·[1]?)).getD default
def xlL_9 : Array Field × Array FieldType × Array FieldType := (layoutFields xlD_9 0).getD (#[], #[], #[])
def xlB_9 : ByteArray := ⟨#[0x2b, 0xb8, 0x0, 0x11, 0xac]⟩
theorem xld_9_0 : decode xlB_9 0 = .ok (.aload_n 1, 1) := by decide +kernel
theorem xld_9_1 : decode xlB_9 1 = .ok (.invokestatic 17, 3) := by decide +kernel
theorem xld_9_4 : decode xlB_9 4 = .ok (.ireturn, 1) := by decide +kernel
theorem xlfile_9 : xls_9.file "ReserveLedger" = some xlD_9 := by
  have h : (xls_9.file "ReserveLedger").isSome = true := by decide +kernel
  obtain ⟨x, hx⟩ := Option.isSome_iff_exists.mp h
  simp [xlD_9, hx]
theorem xlsec_9 : ∀ ms, layoutMethods xlD_9 = some ms → ms[1]? = some xlF_9 := by
  intro ms hms
  have h : ((layoutMethods xlD_9).bind (·[1]?)).isSome = true := by decide +kernel
  obtain ⟨x, hx⟩ := Option.isSome_iff_exists.mp h
  have hf : xlF_9 = x := by simp [xlF_9, hx]
  rw [hms] at hx
  rw [hf]
  exact hx
theorem xllaid_9 : layoutFields xlD_9 0 = some xlL_9 := by
  have h : (layoutFields xlD_9 0).isSome = true := by decide +kernel
  obtain ⟨x, hx⟩ := Option.isSome_iff_exists.mp h
  simp [xlL_9, hx]
theorem xlcode_9 : (xlF_9.code.map fun c => (c.code.data, c.maxLocals)) = some (xlB_9.data, 2) := by decide +kernel
theorem xlflags_9 : (xlF_9.accessFlags, xlF_9.name, xlF_9.sig.returnType) = (0x0001, "of", some FieldType.int) := by decide +kernel
theorem xleM_9 : xlD_9.constantPool[17]? = some (.methodref 14 16) ∧ xlD_9.constantPool.className? 14 = some "ReserveLedger" ∧ xlD_9.constantPool.nameAndType? 16 = some ("lambda$part$9", "(LReserveLedger$Ledger;)I") := by decide +kernel
theorem xleC_9 : xlD_9.constantPool[14]? = some (.class_ 13) ∧ xlD_9.constantPool.string? 13 = some "ReserveLedger" ∧ 14 ≠ xlD_9.thisClass := by decide +kernel
theorem xlty_9 : xlL_9.2.1 = #[] := by decide +kernel
def xlD_10 : ClassFile := (xls_10.file "ReserveLedger").getD { minorVersion := 0, majorVersion := 0, constantPool := #[], accessFlags := 0, thisClass := 0, superClass := 0, interfaces := #[], fields := #[], methods := #[], attributes := #[] }
def xlF_10 : Method := ((layoutMethods xlD_10).bind (·[1]?)).getD default
def xlL_10 : Array Field × Array FieldType × Array FieldType := (layoutFields xlD_10 0).getD (#[], #[], #[])
def xlB_10 : ByteArray := ⟨#[0x1b, 0x2c, 0xb8, 0x0, 0x11, 0xac]⟩
theorem xld_10_0 : decode xlB_10 0 = .ok (.iload_n 1, 1) := by decide +kernel
theorem xld_10_1 : decode xlB_10 1 = .ok (.aload_n 2, 1) := by decide +kernel
theorem xld_10_2 : decode xlB_10 2 = .ok (.invokestatic 17, 3) := by decide +kernel
theorem xld_10_5 : decode xlB_10 5 = .ok (.ireturn, 1) := by decide +kernel
theorem xlfile_10 : xls_10.file "ReserveLedger" = some xlD_10 := by
  have h : (xls_10.file "ReserveLedger").isSome = true := by decide +kernel
  obtain ⟨x, hx⟩ := Option.isSome_iff_exists.mp h
  simp [xlD_10, hx]
theorem xlsec_10 : ∀ ms, layoutMethods xlD_10 = some ms → ms[1]? = some xlF_10 := by
  intro ms hms
  have h : ((layoutMethods xlD_10).bind (·[1]?)).isSome = true := by decide +kernel
  obtain ⟨x, hx⟩ := Option.isSome_iff_exists.mp h
  have hf : xlF_10 = x := by simp [xlF_10, hx]
  rw [hms] at hx
  rw [hf]
  exact hx
theorem xllaid_10 : layoutFields xlD_10 0 = some xlL_10 := by
  have h : (layoutFields xlD_10 0).isSome = true := by decide +kernel
  obtain ⟨x, hx⟩ := Option.isSome_iff_exists.mp h
  simp [xlL_10, hx]
theorem xlcode_10 : (xlF_10.code.map fun c => (c.code.data, c.maxLocals)) = some (xlB_10.data, 3) := by decide +kernel
theorem xlflags_10 : (xlF_10.accessFlags, xlF_10.name, xlF_10.sig.returnType) = (0x0001, "goesOn", some FieldType.boolean) := by decide +kernel
theorem xleM_10 : xlD_10.constantPool[17]? = some (.methodref 14 16) ∧ xlD_10.constantPool.className? 14 = some "ReserveLedger" ∧ xlD_10.constantPool.nameAndType? 16 = some ("lambda$after$10", "(ILReserveLedger$Stock;)Z") := by decide +kernel
theorem xleC_10 : xlD_10.constantPool[14]? = some (.class_ 13) ∧ xlD_10.constantPool.string? 13 = some "ReserveLedger" ∧ 14 ≠ xlD_10.thisClass := by decide +kernel
theorem xlty_10 : xlL_10.2.1 = #[] := by decide +kernel
def xlD_11 : ClassFile := (xls_11.file "ReserveLedger").getD { minorVersion := 0, majorVersion := 0, constantPool := #[], accessFlags := 0, thisClass := 0, superClass := 0, interfaces := #[], fields := #[], methods := #[], attributes := #[] }
def xlF_11 : Method := ((layoutMethods xlD_11).bind (·[1]?)).getD default
def xlL_11 : Array Field × Array FieldType × Array FieldType := (layoutFields xlD_11 0).getD (#[], #[], #[])
def xlB_11 : ByteArray := ⟨#[0x2a, 0xb4, 0x0, 0xf, 0x1b, 0x2c, 0xb8, 0x0, 0x17, 0xac]⟩
theorem xld_11_0 : decode xlB_11 0 = .ok (.aload_n 0, 1) := by decide +kernel
theorem xld_11_1 : decode xlB_11 1 = .ok (.getfield 15, 3) := by decide +kernel
theorem xld_11_4 : decode xlB_11 4 = .ok (.iload_n 1, 1) := by decide +kernel
theorem xld_11_5 : decode xlB_11 5 = .ok (.aload_n 2, 1) := by decide +kernel
theorem xld_11_6 : decode xlB_11 6 = .ok (.invokestatic 23, 3) := by decide +kernel
theorem xld_11_9 : decode xlB_11 9 = .ok (.ireturn, 1) := by decide +kernel
theorem xlfile_11 : xls_11.file "ReserveLedger" = some xlD_11 := by
  have h : (xls_11.file "ReserveLedger").isSome = true := by decide +kernel
  obtain ⟨x, hx⟩ := Option.isSome_iff_exists.mp h
  simp [xlD_11, hx]
theorem xlsec_11 : ∀ ms, layoutMethods xlD_11 = some ms → ms[1]? = some xlF_11 := by
  intro ms hms
  have h : ((layoutMethods xlD_11).bind (·[1]?)).isSome = true := by decide +kernel
  obtain ⟨x, hx⟩ := Option.isSome_iff_exists.mp h
  have hf : xlF_11 = x := by simp [xlF_11, hx]
  rw [hms] at hx
  rw [hf]
  exact hx
theorem xllaid_11 : layoutFields xlD_11 0 = some xlL_11 := by
  have h : (layoutFields xlD_11 0).isSome = true := by decide +kernel
  obtain ⟨x, hx⟩ := Option.isSome_iff_exists.mp h
  simp [xlL_11, hx]
theorem xlcode_11 : (xlF_11.code.map fun c => (c.code.data, c.maxLocals)) = some (xlB_11.data, 3) := by decide +kernel
theorem xlflags_11 : (xlF_11.accessFlags, xlF_11.name, xlF_11.sig.returnType) = (0x0001, "goesOn", some FieldType.boolean) := by decide +kernel
theorem xleM_11 : xlD_11.constantPool[23]? = some (.methodref 19 22) ∧ xlD_11.constantPool.className? 19 = some "ReserveLedger" ∧ xlD_11.constantPool.nameAndType? 22 = some ("lambda$below$11", "(IILReserveLedger$Stock;)Z") := by decide +kernel
theorem xleC_11 : xlD_11.constantPool[19]? = some (.class_ 18) ∧ xlD_11.constantPool.string? 18 = some "ReserveLedger" ∧ 19 ≠ xlD_11.thisClass := by decide +kernel
theorem xleF_11_0 : xlD_11.constantPool[15]? = some (.fieldref 2 14) ∧ xlD_11.constantPool.nameAndType? 14 = some ("arg$1", "I") ∧ xlL_11.1.findIdx? (·.name == "arg$1") = some 0 ∧ (xlL_11.1[0]?).map (fun f => (f.isStatic, f.slot)) = some (false, 0) := by decide +kernel
theorem xlty_11 : xlL_11.2.1 = #[.int] := by decide +kernel
def xlD_12 : ClassFile := (xls_12.file "ReserveLedger").getD { minorVersion := 0, majorVersion := 0, constantPool := #[], accessFlags := 0, thisClass := 0, superClass := 0, interfaces := #[], fields := #[], methods := #[], attributes := #[] }
def xlF_12 : Method := ((layoutMethods xlD_12).bind (·[1]?)).getD default
def xlL_12 : Array Field × Array FieldType × Array FieldType := (layoutFields xlD_12 0).getD (#[], #[], #[])
def xlB_12 : ByteArray := ⟨#[0x2a, 0xb4, 0x0, 0x10, 0x2a, 0xb4, 0x0, 0x12, 0x1b, 0x2c, 0xb8, 0x0, 0x1a, 0xac]⟩
theorem xld_12_0 : decode xlB_12 0 = .ok (.aload_n 0, 1) := by decide +kernel
theorem xld_12_1 : decode xlB_12 1 = .ok (.getfield 16, 3) := by decide +kernel
theorem xld_12_4 : decode xlB_12 4 = .ok (.aload_n 0, 1) := by decide +kernel
theorem xld_12_5 : decode xlB_12 5 = .ok (.getfield 18, 3) := by decide +kernel
theorem xld_12_8 : decode xlB_12 8 = .ok (.iload_n 1, 1) := by decide +kernel
theorem xld_12_9 : decode xlB_12 9 = .ok (.aload_n 2, 1) := by decide +kernel
theorem xld_12_10 : decode xlB_12 10 = .ok (.invokestatic 26, 3) := by decide +kernel
theorem xld_12_13 : decode xlB_12 13 = .ok (.ireturn, 1) := by decide +kernel
theorem xlfile_12 : xls_12.file "ReserveLedger" = some xlD_12 := by
  have h : (xls_12.file "ReserveLedger").isSome = true := by decide +kernel
  obtain ⟨x, hx⟩ := Option.isSome_iff_exists.mp h
  simp [xlD_12, hx]
theorem xlsec_12 : ∀ ms, layoutMethods xlD_12 = some ms → ms[1]? = some xlF_12 := by
  intro ms hms
  have h : ((layoutMethods xlD_12).bind (·[1]?)).isSome = true := by decide +kernel
  obtain ⟨x, hx⟩ := Option.isSome_iff_exists.mp h
  have hf : xlF_12 = x := by simp [xlF_12, hx]
  rw [hms] at hx
  rw [hf]
  exact hx
theorem xllaid_12 : layoutFields xlD_12 0 = some xlL_12 := by
  have h : (layoutFields xlD_12 0).isSome = true := by decide +kernel
  obtain ⟨x, hx⟩ := Option.isSome_iff_exists.mp h
  simp [xlL_12, hx]
theorem xlcode_12 : (xlF_12.code.map fun c => (c.code.data, c.maxLocals)) = some (xlB_12.data, 3) := by decide +kernel
theorem xlflags_12 : (xlF_12.accessFlags, xlF_12.name, xlF_12.sig.returnType) = (0x0001, "goesOn", some FieldType.boolean) := by decide +kernel
theorem xleM_12 : xlD_12.constantPool[26]? = some (.methodref 22 25) ∧ xlD_12.constantPool.className? 22 = some "ReserveLedger" ∧ xlD_12.constantPool.nameAndType? 25 = some ("lambda$works$12", "(IIILReserveLedger$Stock;)Z") := by decide +kernel
theorem xleC_12 : xlD_12.constantPool[22]? = some (.class_ 21) ∧ xlD_12.constantPool.string? 21 = some "ReserveLedger" ∧ 22 ≠ xlD_12.thisClass := by decide +kernel
theorem xleF_12_0 : xlD_12.constantPool[16]? = some (.fieldref 2 15) ∧ xlD_12.constantPool.nameAndType? 15 = some ("arg$1", "I") ∧ xlL_12.1.findIdx? (·.name == "arg$1") = some 0 ∧ (xlL_12.1[0]?).map (fun f => (f.isStatic, f.slot)) = some (false, 0) := by decide +kernel
theorem xleF_12_1 : xlD_12.constantPool[18]? = some (.fieldref 2 17) ∧ xlD_12.constantPool.nameAndType? 17 = some ("arg$2", "I") ∧ xlL_12.1.findIdx? (·.name == "arg$2") = some 1 ∧ (xlL_12.1[1]?).map (fun f => (f.isStatic, f.slot)) = some (false, 1) := by decide +kernel
theorem xlty_12 : xlL_12.2.1 = #[.int, .int] := by decide +kernel
