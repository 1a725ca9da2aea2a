/-! part 19m: printed by gen/lambdas2.py -/
set_option maxRecDepth 100000
theorem xlS_0 : xls_0.implDesc.toString = "(LReserveLedger$Herd;I)J" ∧ xls_0.sam.toString = "(I)J" := by decide +kernel
theorem xleN_0 : xlD_0.constantPool[23]? = some (.methodref 19 22) ∧ xlD_0.constantPool.className? 19 = some xls_0.implClass ∧ xlD_0.constantPool.nameAndType? 22 = some (xls_0.implName, xls_0.implDesc.toString) := ⟨xleM_0.1, xleM_0.2.1, by rw [xlS_0.1]; exact xleM_0.2.2⟩
theorem xrN_0 {α : Type} {x : xC} {emb : α → Option Value} {cc : ByteArray} {ret : Option FieldType} {lv : List (Nat × Value)} {st : List Value} {kk : Nat → xM α} {y : MethodName} (c0 : Option Nat) (F : xF x "ReserveLedger" cc ret) (hmy : xmy x y) (hy : y = ⟨"ReserveLedger", "reproduction", "(I)D"⟩) (hd : decode cc 8 = .ok (.invokedynamic 230, 5)) (wO : Cond.instantiable "java/lang/Object" 0 ∈ lw_all) (hroom : xRoom x 1 3100) (hcat : (st.map fun v => v.category).sum ≤ 8) (K : ∀ a, xI x emb (8 + 5) lv (va_rf (some a) :: st) (kk a)) : xI x emb 8 lv (va_rf c0 :: st) (xbind (xnew 1000 [va_rf c0] 1) kk) := by
  subst hy
  have hf : ∀ (i : Nat) (v : Value), ([va_rf c0] : List Value)[i]? = some v → ∃ t, xlL_0.2.1[i]? = some t ∧ fits t v = true := by
    rw [xlty_0]
    intro i v hv
    rcases i with _ | i
    · have hv' : some (va_rf c0) = some v := hv
      cases hv'
      exact ⟨_, rfl, by cases c0 <;> rfl⟩
    · simp at hv
  exact xr_lamM (k := 0) (vals := [va_rf c0]) (st := st) F hmy hd rfl (by decide) wO xlfile_0 xlsec_0 xllaid_0 xlcode_0 xlflags_0 xleN_0 xleC_0 rfl (by rw [xlty_0]; cases c0 <;> rfl) hf hroom rfl (by simp only [List.map_cons, List.sum_cons, xrf_cat, xct_i]; omega) K
theorem xlS_1 : xls_1.implDesc.toString = "(LReserveLedger$Herd;I)J" ∧ xls_1.sam.toString = "(I)J" := by decide +kernel
theorem xleN_1 : xlD_1.constantPool[23]? = some (.methodref 19 22) ∧ xlD_1.constantPool.className? 19 = some xls_1.implClass ∧ xlD_1.constantPool.nameAndType? 22 = some (xls_1.implName, xls_1.implDesc.toString) := ⟨xleM_1.1, xleM_1.2.1, by rw [xlS_1.1]; exact xleM_1.2.2⟩
theorem xrN_1 {α : Type} {x : xC} {emb : α → Option Value} {cc : ByteArray} {ret : Option FieldType} {lv : List (Nat × Value)} {st : List Value} {kk : Nat → xM α} {y : MethodName} (c0 : Option Nat) (F : xF x "ReserveLedger" cc ret) (hmy : xmy x y) (hy : y = ⟨"ReserveLedger", "generation", "(I)D"⟩) (hd : decode cc 8 = .ok (.invokedynamic 239, 5)) (wO : Cond.instantiable "java/lang/Object" 0 ∈ lw_all) (hroom : xRoom x 1 3100) (hcat : (st.map fun v => v.category).sum ≤ 8) (K : ∀ a, xI x emb (8 + 5) lv (va_rf (some a) :: st) (kk a)) : xI x emb 8 lv (va_rf c0 :: st) (xbind (xnew 1001 [va_rf c0] 1) kk) := by
  subst hy
  have hf : ∀ (i : Nat) (v : Value), ([va_rf c0] : List Value)[i]? = some v → ∃ t, xlL_1.2.1[i]? = some t ∧ fits t v = true := by
    rw [xlty_1]
    intro i v hv
    rcases i with _ | i
    · have hv' : some (va_rf c0) = some v := hv
      cases hv'
      exact ⟨_, rfl, by cases c0 <;> rfl⟩
    · simp at hv
  exact xr_lamM (k := 1) (vals := [va_rf c0]) (st := st) F hmy hd rfl (by decide) wO xlfile_1 xlsec_1 xllaid_1 xlcode_1 xlflags_1 xleN_1 xleC_1 rfl (by rw [xlty_1]; cases c0 <;> rfl) hf hroom rfl (by simp only [List.map_cons, List.sum_cons, xrf_cat, xct_i]; omega) K
theorem xlS_2 : xls_2.implDesc.toString = "(LReserveLedger$Herd;I)J" ∧ xls_2.sam.toString = "(I)J" := by decide +kernel
theorem xleN_2 : xlD_2.constantPool[23]? = some (.methodref 19 22) ∧ xlD_2.constantPool.className? 19 = some xls_2.implClass ∧ xlD_2.constantPool.nameAndType? 22 = some (xls_2.implName, xls_2.implDesc.toString) := ⟨xleM_2.1, xleM_2.2.1, by rw [xlS_2.1]; exact xleM_2.2.2⟩
theorem xrN_2 {α : Type} {x : xC} {emb : α → Option Value} {cc : ByteArray} {ret : Option FieldType} {lv : List (Nat × Value)} {st : List Value} {kk : Nat → xM α} {y : MethodName} (c0 : Option Nat) (F : xF x "ReserveLedger" cc ret) (hmy : xmy x y) (hy : y = ⟨"ReserveLedger", "generation", "(I)D"⟩) (hd : decode cc 19 = .ok (.invokedynamic 240, 5)) (wO : Cond.instantiable "java/lang/Object" 0 ∈ lw_all) (hroom : xRoom x 1 3100) (hcat : (st.map fun v => v.category).sum ≤ 8) (K : ∀ a, xI x emb (19 + 5) lv (va_rf (some a) :: st) (kk a)) : xI x emb 19 lv (va_rf c0 :: st) (xbind (xnew 1002 [va_rf c0] 1) kk) := by
  subst hy
  have hf : ∀ (i : Nat) (v : Value), ([va_rf c0] : List Value)[i]? = some v → ∃ t, xlL_2.2.1[i]? = some t ∧ fits t v = true := by
    rw [xlty_2]
    intro i v hv
    rcases i with _ | i
    · have hv' : some (va_rf c0) = some v := hv
      cases hv'
      exact ⟨_, rfl, by cases c0 <;> rfl⟩
    · simp at hv
  exact xr_lamM (k := 2) (vals := [va_rf c0]) (st := st) F hmy hd rfl (by decide) wO xlfile_2 xlsec_2 xllaid_2 xlcode_2 xlflags_2 xleN_2 xleC_2 rfl (by rw [xlty_2]; cases c0 <;> rfl) hf hroom rfl (by simp only [List.map_cons, List.sum_cons, xrf_cat, xct_i]; omega) K
theorem xlS_3 : xls_3.implDesc.toString = "(LReserveLedger$Ledger;)I" ∧ xls_3.sam.toString = "(LReserveLedger$Ledger;)I" := by decide +kernel
theorem xleN_3 : xlD_3.constantPool[17]? = some (.methodref 14 16) ∧ xlD_3.constantPool.className? 14 = some xls_3.implClass ∧ xlD_3.constantPool.nameAndType? 16 = some (xls_3.implName, xls_3.implDesc.toString) := ⟨xleM_3.1, xleM_3.2.1, by rw [xlS_3.1]; exact xleM_3.2.2⟩
theorem xlS_4 : xls_4.implDesc.toString = "(LReserveLedger$Ledger;)I" ∧ xls_4.sam.toString = "(LReserveLedger$Ledger;)I" := by decide +kernel
theorem xleN_4 : xlD_4.constantPool[17]? = some (.methodref 14 16) ∧ xlD_4.constantPool.className? 14 = some xls_4.implClass ∧ xlD_4.constantPool.nameAndType? 16 = some (xls_4.implName, xls_4.implDesc.toString) := ⟨xleM_4.1, xleM_4.2.1, by rw [xlS_4.1]; exact xleM_4.2.2⟩
theorem xlS_5 : xls_5.implDesc.toString = "(LReserveLedger$Ledger;)I" ∧ xls_5.sam.toString = "(LReserveLedger$Ledger;)I" := by decide +kernel
theorem xleN_5 : xlD_5.constantPool[17]? = some (.methodref 14 16) ∧ xlD_5.constantPool.className? 14 = some xls_5.implClass ∧ xlD_5.constantPool.nameAndType? 16 = some (xls_5.implName, xls_5.implDesc.toString) := ⟨xleM_5.1, xleM_5.2.1, by rw [xlS_5.1]; exact xleM_5.2.2⟩
theorem xlS_6 : xls_6.implDesc.toString = "(LReserveLedger$Ledger;)I" ∧ xls_6.sam.toString = "(LReserveLedger$Ledger;)I" := by decide +kernel
theorem xleN_6 : xlD_6.constantPool[17]? = some (.methodref 14 16) ∧ xlD_6.constantPool.className? 14 = some xls_6.implClass ∧ xlD_6.constantPool.nameAndType? 16 = some (xls_6.implName, xls_6.implDesc.toString) := ⟨xleM_6.1, xleM_6.2.1, by rw [xlS_6.1]; exact xleM_6.2.2⟩
theorem xlS_7 : xls_7.implDesc.toString = "(LReserveLedger$Ledger;)I" ∧ xls_7.sam.toString = "(LReserveLedger$Ledger;)I" := by decide +kernel
theorem xleN_7 : xlD_7.constantPool[17]? = some (.methodref 14 16) ∧ xlD_7.constantPool.className? 14 = some xls_7.implClass ∧ xlD_7.constantPool.nameAndType? 16 = some (xls_7.implName, xls_7.implDesc.toString) := ⟨xleM_7.1, xleM_7.2.1, by rw [xlS_7.1]; exact xleM_7.2.2⟩
theorem xlS_8 : xls_8.implDesc.toString = "(LReserveLedger$Ledger;)I" ∧ xls_8.sam.toString = "(LReserveLedger$Ledger;)I" := by decide +kernel
theorem xleN_8 : xlD_8.constantPool[17]? = some (.methodref 14 16) ∧ xlD_8.constantPool.className? 14 = some xls_8.implClass ∧ xlD_8.constantPool.nameAndType? 16 = some (xls_8.implName, xls_8.implDesc.toString) := ⟨xleM_8.1, xleM_8.2.1, by rw [xlS_8.1]; exact xleM_8.2.2⟩
theorem xlS_9 : xls_9.implDesc.toString = "(LReserveLedger$Ledger;)I" ∧ xls_9.sam.toString = "(LReserveLedger$Ledger;)I" := by decide +kernel
theorem xleN_9 : xlD_9.constantPool[17]? = some (.methodref 14 16) ∧ xlD_9.constantPool.className? 14 = some xls_9.implClass ∧ xlD_9.constantPool.nameAndType? 16 = some (xls_9.implName, xls_9.implDesc.toString) := ⟨xleM_9.1, xleM_9.2.1, by rw [xlS_9.1]; exact xleM_9.2.2⟩
theorem xlS_10 : xls_10.implDesc.toString = "(ILReserveLedger$Stock;)Z" ∧ xls_10.sam.toString = "(ILReserveLedger$Stock;)Z" := by decide +kernel
theorem xleN_10 : xlD_10.constantPool[17]? = some (.methodref 14 16) ∧ xlD_10.constantPool.className? 14 = some xls_10.implClass ∧ xlD_10.constantPool.nameAndType? 16 = some (xls_10.implName, xls_10.implDesc.toString) := ⟨xleM_10.1, xleM_10.2.1, by rw [xlS_10.1]; exact xleM_10.2.2⟩
theorem xlS_11 : xls_11.implDesc.toString = "(IILReserveLedger$Stock;)Z" ∧ xls_11.sam.toString = "(ILReserveLedger$Stock;)Z" := by decide +kernel
theorem xleN_11 : xlD_11.constantPool[23]? = some (.methodref 19 22) ∧ xlD_11.constantPool.className? 19 = some xls_11.implClass ∧ xlD_11.constantPool.nameAndType? 22 = some (xls_11.implName, xls_11.implDesc.toString) := ⟨xleM_11.1, xleM_11.2.1, by rw [xlS_11.1]; exact xleM_11.2.2⟩
theorem xrN_11 {α : Type} {x : xC} {emb : α → Option Value} {cc : ByteArray} {ret : Option FieldType} {lv : List (Nat × Value)} {st : List Value} {kk : Nat → xM α} {y : MethodName} (c0 : Int32) (F : xF x "ReserveLedger" cc ret) (hmy : xmy x y) (hy : y = ⟨"ReserveLedger", "below", "(II)I"⟩) (hd : decode cc 18 = .ok (.invokedynamic 391, 5)) (wO : Cond.instantiable "java/lang/Object" 0 ∈ lw_all) (hroom : xRoom x 1 3100) (hcat : (st.map fun v => v.category).sum ≤ 8) (K : ∀ a, xI x emb (18 + 5) lv (va_rf (some a) :: st) (kk a)) : xI x emb 18 lv (.int c0 :: st) (xbind (xnew 1011 [.int c0] 1) kk) := by
  subst hy
  have hf : ∀ (i : Nat) (v : Value), ([.int c0] : List Value)[i]? = some v → ∃ t, xlL_11.2.1[i]? = some t ∧ fits t v = true := by
    rw [xlty_11]
    intro i v hv
    rcases i with _ | i
    · have hv' : some (.int c0) = some v := hv
      cases hv'
      exact ⟨_, rfl, by rfl⟩
    · simp at hv
  exact xr_lamM (k := 11) (vals := [.int c0]) (st := st) F hmy hd rfl (by decide) wO xlfile_11 xlsec_11 xllaid_11 xlcode_11 xlflags_11 xleN_11 xleC_11 rfl (by rw [xlty_11]; rfl) hf hroom rfl (by simp only [List.map_cons, List.sum_cons, xrf_cat, xct_i]; omega) K
theorem xlS_12 : xls_12.implDesc.toString = "(IIILReserveLedger$Stock;)Z" ∧ xls_12.sam.toString = "(ILReserveLedger$Stock;)Z" := by decide +kernel
theorem xleN_12 : xlD_12.constantPool[26]? = some (.methodref 22 25) ∧ xlD_12.constantPool.className? 22 = some xls_12.implClass ∧ xlD_12.constantPool.nameAndType? 25 = some (xls_12.implName, xls_12.implDesc.toString) := ⟨xleM_12.1, xleM_12.2.1, by rw [xlS_12.1]; exact xleM_12.2.2⟩
theorem xrN_12 {α : Type} {x : xC} {emb : α → Option Value} {cc : ByteArray} {ret : Option FieldType} {lv : List (Nat × Value)} {st : List Value} {kk : Nat → xM α} {y : MethodName} (c0 : Int32) (c1 : Int32) (F : xF x "ReserveLedger" cc ret) (hmy : xmy x y) (hy : y = ⟨"ReserveLedger", "works", "(LReserveLedger$Herd;LReserveLedger$Stock;III)Z"⟩) (hd : decode cc 14 = .ok (.invokedynamic 394, 5)) (wO : Cond.instantiable "java/lang/Object" 0 ∈ lw_all) (hroom : xRoom x 1 3100) (hcat : (st.map fun v => v.category).sum ≤ 8) (K : ∀ a, xI x emb (14 + 5) lv (va_rf (some a) :: st) (kk a)) : xI x emb 14 lv (.int c1 :: .int c0 :: st) (xbind (xnew 1012 [.int c0, .int c1] 2) kk) := by
  subst hy
  have hf : ∀ (i : Nat) (v : Value), ([.int c0, .int c1] : List Value)[i]? = some v → ∃ t, xlL_12.2.1[i]? = some t ∧ fits t v = true := by
    rw [xlty_12]
    intro i v hv
    rcases i with _ | _ | i
    · have hv' : some (.int c0) = some v := hv
      cases hv'
      exact ⟨_, rfl, by rfl⟩
    · have hv' : some (.int c1) = some v := hv
      cases hv'
      exact ⟨_, rfl, by rfl⟩
    · simp at hv
  exact xr_lamM (k := 12) (vals := [.int c0, .int c1]) (st := st) F hmy hd rfl (by decide) wO xlfile_12 xlsec_12 xllaid_12 xlcode_12 xlflags_12 xleN_12 xleC_12 rfl (by rw [xlty_12]; rfl) hf hroom rfl (by simp only [List.map_cons, List.sum_cons, xrf_cat, xct_i]; omega) K
def xokPart (c : Nat) : Bool := c == 1003 || c == 1004 || c == 1005 || c == 1006 || c == 1007 || c == 1008 || c == 1009
theorem xokPart_ok : xOkL xokPart "ReserveLedger$Part" := by
  intro ci h
  simp only [xokPart, Bool.or_eq_true, beq_iff_eq] at h
  rcases h with ((((((rfl | rfl) | rfl) | rfl) | rfl) | rfl) | rfl)
  · exact ⟨3, _, _, _, _, rfl, rfl, rfl⟩
  · exact ⟨4, _, _, _, _, rfl, rfl, rfl⟩
  · exact ⟨5, _, _, _, _, rfl, rfl, rfl⟩
  · exact ⟨6, _, _, _, _, rfl, rfl, rfl⟩
  · exact ⟨7, _, _, _, _, rfl, rfl, rfl⟩
  · exact ⟨8, _, _, _, _, rfl, rfl, rfl⟩
  · exact ⟨9, _, _, _, _, rfl, rfl, rfl⟩
