/-! part 19c: Throwable.getCause (synchronized) -/
abbrev xgcN : MethodName := ⟨"java/lang/Throwable", "getCause", "()Ljava/lang/Throwable;"⟩
abbrev xgcB : ByteArray := prog_65_method_8_code
abbrev xgcW : Cond := Cond.codeSync xgcN xgcB 1 (some (.object "java/lang/Throwable"))
theorem xgc_0 : decode xgcB 0 = .ok (.aload_n 0, 1) := by decide +kernel
theorem xgc_1 : decode xgcB 1 = .ok (.getfield 7, 3) := by decide +kernel
theorem xgc_4 : decode xgcB 4 = .ok (.aload_n 0, 1) := by decide +kernel
theorem xgc_5 : decode xgcB 5 = .ok (.if_acmp .ne 7, 3) := by decide +kernel
theorem xgc_8 : decode xgcB 8 = .ok (.aconst_null, 1) := by decide +kernel
theorem xgc_9 : decode xgcB 9 = .ok (.goto 7, 3) := by decide +kernel
theorem xgc_12 : decode xgcB 12 = .ok (.aload_n 0, 1) := by decide +kernel
theorem xgc_13 : decode xgcB 13 = .ok (.getfield 7, 3) := by decide +kernel
theorem xgc_16 : decode xgcB 16 = .ok (.areturn, 1) := by decide +kernel
/-- cause == this ? null : cause -/
def xgcause (a : Nat) : xM (Option Nat) := fun _ h _ => match h a with
  | some (true, .inr (30, fs)) => (match (fs[0]? : Option Value) with
    | some .null => some (.inl none, h, 0, 0)
    | some (.ref b) => some (.inl (if some b = some a then none else some b), h, 0, 0)
    | _ => none)
  | _ => none
theorem xgcause_some {a : Nat} {Γ : Nat → Option Nat} {h : xH} {n : Nat} {z : (Option Nat ⊕ Nat) × xH × Nat × Nat} (he : xgcause a Γ h n = some z) : ∃ fs c, h a = some (true, .inr (30, fs)) ∧ fs[0]? = some (va_rf c) ∧ z = (.inl (if c = some a then none else c), h, 0, 0) := by
  unfold xgcause at he
  split at he
  · rename_i fs ha
    split at he
    · rename_i hv
      cases he
      exact ⟨fs, none, ha, hv, by simp⟩
    · rename_i b hv
      cases he
      exact ⟨fs, some b, ha, hv, rfl⟩
    · cases he
  · cases he
abbrev xFS (m : MethodId) (a pc : Nat) (ls : Array Slot) (st : List Value) : JFrame := { method := m, pc := pc, locals := ls, stack := st, locked := some a, monitorRoom := 1 }
section XS1
variable {p : Program} {l : Launch} {e : Env} {R : Room} {s : State} {m : MethodId} {args : Array Value} {below : List Frame} {meth : Method} {c : Code} {H : Heap} {locs : List Loc} {cells slots : Nat} {Q : State → Prop} {cc : ByteArray} {pc a : Nat} {ls : Array Slot} {rest : List Value}
theorem xws_aload (hexec : p.tables.exec = Jvm.exec) (hb : c.code = cc) {x : Nat} (hdg : decode cc pc = .ok (.aload_n 0, 1)) (hl : ls[0]? = some (.val (.ref x))) (k : W p l e R s m args below meth c H locs cells slots Q (xFS m a (pc + 1) ls (.ref x :: rest))) : W p l e R s m args below meth c H locs cells slots Q (xFS m a pc ls rest) := by
  intro T hT X
  obtain ⟨t, a1, b⟩ := k T hT X
  refine ⟨t, ?_, b⟩
  jvm_step X.here [X.here.top, hexec, hb, hdg, hl, Value.isRef]
  exact a1
theorem xws_null (hexec : p.tables.exec = Jvm.exec) (hb : c.code = cc) (hdg : decode cc pc = .ok (.aconst_null, 1)) (k : W p l e R s m args below meth c H locs cells slots Q (xFS m a (pc + 1) ls (.null :: rest))) : W p l e R s m args below meth c H locs cells slots Q (xFS m a pc ls rest) := by
  intro T hT X
  obtain ⟨t, a1, b⟩ := k T hT X
  refine ⟨t, ?_, b⟩
  jvm_step X.here [X.here.top, hexec, hb, hdg]
  exact a1
theorem xws_goto (hexec : p.tables.exec = Jvm.exec) (hb : c.code = cc) {off : Int} {tgt : Nat} (hdg : decode cc pc = .ok (.goto off, 3)) (ht : (pc : Int) + off = (tgt : Int)) (k : W p l e R s m args below meth c H locs cells slots Q (xFS m a tgt ls rest)) : W p l e R s m args below meth c H locs cells slots Q (xFS m a pc ls rest) := by
  intro T hT X
  obtain ⟨t, a1, b⟩ := k T hT X
  refine ⟨t, ?_, b⟩
  jvm_step X.here [X.here.top, hexec, hb, hdg, ht]
  exact a1
theorem xws_acmp (hexec : p.tables.exec = Jvm.exec) (hb : c.code = cc) {rx ry : Option Nat} {off : Int} {tgt : Nat} (hdg : decode cc pc = .ok (.if_acmp .ne off, 3)) (ht : (pc : Int) + off = (tgt : Int))
    (kt : ¬ rx = ry → W p l e R s m args below meth c H locs cells slots Q (xFS m a tgt ls rest)) (kf : rx = ry → W p l e R s m args below meth c H locs cells slots Q (xFS m a (pc + 3) ls rest)) : W p l e R s m args below meth c H locs cells slots Q (xFS m a pc ls (va_rf ry :: va_rf rx :: rest)) := by
  intro T hT X
  by_cases hP : rx = ry
  · obtain ⟨t, a, b⟩ := kf hP T hT X
    refine ⟨t, ?_, b⟩
    subst hP
    cases rx <;> (jvm_step X.here [X.here.top, hexec, hb, hdg, va_rf, Value.asRef?, Op.if_acmp.holds, ht]; exact a)
  · obtain ⟨t, a, b⟩ := kt hP T hT X
    refine ⟨t, ?_, b⟩
    cases rx with
    | none => cases ry with
      | none => exact absurd rfl hP
      | some y => jvm_step X.here [X.here.top, hexec, hb, hdg, va_rf, Value.asRef?, Op.if_acmp.holds, ht]; exact a
    | some x => cases ry with
      | none => jvm_step X.here [X.here.top, hexec, hb, hdg, va_rf, Value.asRef?, Op.if_acmp.holds, ht]; exact a
      | some y =>
        have hxy : ¬ x = y := fun q => hP (by rw [q])
        jvm_step X.here [X.here.top, hexec, hb, hdg, va_rf, Value.asRef?, Op.if_acmp.holds, ht, hxy]; exact a
/-- the answer of a synchronized method -/
theorem xws_aret {D : xD} {s0 : State} {h : xH} {n : Nat} {cell : Cell} {r : Option Nat} {nm : String} (hexec : p.tables.exec = Jvm.exec) (hb : c.code = cc) (hs : s.heap[a]? = some cell) (hfree : cell.monitor.owner = none) (hcount : cell.monitor.count = 0) (hlocks : meth.locks = true) (hr : meth.sig.returnType = some (.object nm)) (hR : xR D s0 h n s.heap) (hdg : decode cc pc = .ok (.areturn, 1)) : W p l e R (s.setCell a (cell.withEntry s.cur)) m args below meth c (s.setCell a (cell.withEntry s.cur)).heap [] 0 0 (xZ below D s0 xeR (.inl r) h n 0 0 s) (xFS m a pc ls [va_rf r]) := by
  intro T hT X
  obtain ⟨fs, cellT, hc, hret, hrun, hended, hW, hframe⟩ := X.leaveSync (v := some (va_rf r)) hs (Or.inl ⟨hfree, hcount⟩) hlocks (fun h => by rw [hr] at h; cases h)
  have hmeth' : T.vm.method? m = some meth := X.method'
  have hlt : a < s.heap.size := (Array.getElem?_eq_some_iff.mp hs).1
  have hcT : cellT = cell.withEntry s.cur := by
    have h9 : T.heap[a]? = some (cell.withEntry s.cur) := by
      rw [hT]
      show (s.heap.setIfInBounds a (cell.withEntry s.cur))[a]? = _
      simp [hlt]
    exact Option.some.inj (hc.symm.trans h9)
  have hheap : ((T.setCell a cellT.left).setFrames fs).heap = s.heap := by
    show T.heap.setIfInBounds a cellT.left = s.heap
    rw [hT, hcT, Cell.left_withEntry _ hfree hcount]
    show (s.heap.setIfInBounds a (cell.withEntry s.cur)).setIfInBounds a cell = s.heap
    apply Array.ext_getElem?
    intro i
    by_cases hi : i = a
    · subst hi
      obtain ⟨h8, h9⟩ := Array.getElem?_eq_some_iff.mp hs
      simp [hlt]
      exact h9.symm
    · simp [Array.getElem?_setIfInBounds, Ne.symm hi]
  refine ⟨(T.setCell a cellT.left).setFrames fs, ?_, .returned (some (va_rf r)), hrun, hended, rfl, by rw [hheap]; exact hR, [], hW, hframe, fun q hq => by cases hq⟩
  cases r with
  | none =>
    jvm_step X.here [X.here.top, hexec, hb, hdg, hmeth', hr, va_rf]
    refine ⟨rfl, rfl, fun acts => ?_⟩
    have h9 : (doReturn e (T.setTop (xFS m a pc ls [])) acts (some Value.null)).1 = (T.setCell a cellT.left).setFrames fs := hret _ acts rfl rfl rfl
    rw [h9]
    exact Steps.refl _
  | some b =>
    jvm_step X.here [X.here.top, hexec, hb, hdg, hmeth', hr, va_rf]
    refine ⟨rfl, rfl, fun acts => ?_⟩
    have h9 : (doReturn e (T.setTop (xFS m a pc ls [])) acts (some (Value.ref b))).1 = (T.setCell a cellT.left).setFrames fs := hret _ acts rfl rfl rfl
    rw [h9]
    exact Steps.refl _
end XS1
theorem xgw_at {l : Launch} {D : xD} {s0 : State} {b0 : Nat} {Γ : Nat → Option Nat} (G : xG l D s0 b0 Γ) {s : State} (hW : s0.WarmedH s.vm) {w : Cond} (h : w ∈ lw_all) (a : Array Value) : w.before a s = true := word_at hW (good_of_word (List.mem_filter.mp h).2) (G.1 _ (lw_all_tbl h))
theorem xgc_m {l : Launch} {D : xD} {s0 : State} {b0 : Nat} {Γ : Nat → Option Nat} (G : xG l D s0 b0 Γ) (wi : Cond.instanceMethod xgcN ∈ lw_all) (wf : Cond.fieldLink "java/lang/Throwable" 7 "java/lang/Throwable" "cause" "Ljava/lang/Throwable;" ∈ lw_all) (a : Nat) : xMeth l D s0 Γ xgcN xgcW 1 12 [.ref a] xeR (xgcause a) := by
  intro h n o h' dc ds he p e ha hcas hclk s m below hf hap hW hR
  obtain ⟨hrun, hable, halone, hname, hhears, hroom, hcw⟩ := hap
  obtain ⟨fs, cc, hh, hv, hz⟩ := xgcause_some he
  cases hz
  obtain ⟨cell, g1, g2, g3, g4, g5, g6⟩ := hR.2.2.2.1 _ _ hh
  obtain ⟨g5, hfm⟩ := g5 rfl
  obtain ⟨hfree, hcount⟩ := hfm rfl
  obtain ⟨meth, c, hmeth, hcode, hbytes, hlocals, hret, hlocks, -, -⟩ := Cond.codeSync_spec hname hcw
  obtain ⟨mk, methM, hnamed, hmethM, hstM, -⟩ := Cond.instanceMethod_spec (xgw_at G hW wi [Value.ref a].toArray)
  cases hname.symm.trans hnamed
  cases hmeth.symm.trans hmethM
  obtain ⟨cf, kf, fi, f, hi0, hst, hsl⟩ := (G.2.1 30 _ rfl).2 0 (by decide)
  have hi0 : s0.fieldFound? "java/lang/Throwable" "cause" "Ljava/lang/Throwable;" = some (cf, kf, fi, f) := hi0
  obtain ⟨kf', hi', -⟩ := State.fieldFound?_setVm (s := s0) hW.alike hi0
  have hi : s.fieldFound? "java/lang/Throwable" "cause" "Ljava/lang/Throwable;" = some (cf, kf', fi, f) := by simpa only [State.fieldFound?, State.vm_setVm] using hi'
  have hslot : cell.slots[f.slot]? = some (va_rf cc) := by
    rw [hsl]
    rcases g6 with ⟨q, hq, g8⟩ | ⟨hq, -⟩
    · cases hq
      rw [g8 0 (by decide)]
      simp [vp_V, hv]
    · exact absurd hq (by decide)
  have hcur := State.cur_lt_of_frames hf
  have hlt : a < s.heap.size := (Array.getElem?_eq_some_iff.mp g1).1
  have hcur' : (s.setCell a (cell.withEntry s.cur)).cur < (s.setCell a (cell.withEntry s.cur)).threads.size := hcur
  generalize hs1 : (s.setCell a (cell.withEntry s.cur)).setFrames (.java (entryFrameSync m [Value.ref a].toArray 1 a) :: below) = s₁
  have hf1 : s₁.frames = .java (entryFrameSync m [Value.ref a].toArray 1 a) :: below := by
    rw [← hs1]
    exact State.frames_setFrames _ hcur'
  have ht1 := State.topJava?_of_frames hf1
  have hplain : s₁.plainMethod m := by
    rw [← hs1]
    exact State.plainMethod.of_named (s := s) (by decide +kernel) hname hmeth
  have hAt : At s₁ m c below := by
    refine ⟨by rw [ht1]; rfl, ⟨[], by rw [hf1]; rfl⟩, by rw [← hs1]; exact hrun, by rw [← hs1]; simpa using hable, by rw [← hs1]; simpa using halone, by rw [State.code?_eq, ← hs1]; simp [State.setFrames, State.setCell, hmeth, hcode], hplain⟩
  have hstep : (stepThread p.tables e s).1 = s₁.setTop (entryFrameSync m [Value.ref a].toArray 1 a) := by
    have hfull : e.platform.stackFull (s.setFrames below).me (s.setFrames below).frames (c.maxLocals + 2) = false := by
      obtain ⟨-, h1, -, h2⟩ := State.hasRoom_stack hroom
      rw [hf, List.length_cons] at h1
      rw [State.localsInUse_invoking hf hmeth hcode] at h2
      have hw := stackUse_le_stackWeight below
      rw [State.frames_setFrames _ hcur]
      simp only [vmFrameWords] at h2
      exact Platform.stackFull_eq_false (by rw [State.stackLimits_setFrames]; omega) (by rw [State.stackLimits_setFrames]; omega)
    rw [stepThread_invoking hf, (doInvoke_java_sync (s := s.setFrames below) (e := e) (meth := meth) (code := c) (a := a) (cell := cell) hmeth hcode hlocks hstM rfl g1 (Or.inl hfree) hfull).1, State.setTop_self ht1, hlocals, ← hs1]
    show (((s.setFrames below).setCell a (cell.withEntry s.cur)).setFrames (.java (entryFrameSync m [Value.ref a].toArray 1 a) :: ((s.setFrames below).setCell a (cell.withEntry s.cur)).frames)) = _
    rw [show ((s.setFrames below).setCell a (cell.withEntry s.cur)).frames = below from State.frames_setFrames _ hcur, State.setCell_setFrames, State.setFrames_setFrames]
  have hx : p.tables.exec = Jvm.exec := by cases p <;> rfl
  obtain ⟨t9, ht9, -⟩ := State.frames_cons hf
  have X : Stand p l e { frames := 1, cells := 0, slots := 0, locals := 12 } (s.setCell a (cell.withEntry s.cur)) m [Value.ref a].toArray below meth c s₁ [] 0 0 := by
    refine ⟨ha, hcas, hclk, hf, by rw [State.hasRoom_setCell (x := cell.withEntry s.cur) g1 rfl]; exact hroom, hhears, hmeth, hcode, hAt, by rw [hf1]; rfl, by rw [← hs1]; exact State.WarmedH.refl (s.setCell a (cell.withEntry s.cur)), by rw [← hs1, State.stackLimits_setFrames], by rw [← hs1, State.stackBytes_setFrames], ?_⟩
    have h := (State.sameButNew.refl (s.setCell a (cell.withEntry s.cur)) (x := t9) ht9).setFrames (.java (entryFrameSync m [Value.ref a].toArray 1 a) :: below) hcur
    rw [← hs1]
    exact h
  have hown : (s.setCell a (cell.withEntry s.cur)).vm.findClass "java/lang/Throwable" = some m.cls := findClass_of_methodNamed hname
  have hlink : (Cond.fieldLink "java/lang/Throwable" 7 "java/lang/Throwable" "cause" "Ljava/lang/Throwable;").before [Value.ref a].toArray (s.setCell a (cell.withEntry s.cur)) = true := xgw_at G (s := s.setCell a (cell.withEntry s.cur)) hW wf _
  have hcell1 : (s.setCell a (cell.withEntry s.cur)).heap[a]? = some (cell.withEntry s.cur) := by
    show (s.heap.setIfInBounds a (cell.withEntry s.cur))[a]? = _
    simp [hlt]
  have K : W p l e { frames := 1, cells := 0, slots := 0, locals := 12 } (s.setCell a (cell.withEntry s.cur)) m [Value.ref a].toArray below meth c (s.setCell a (cell.withEntry s.cur)).heap [] 0 0 (xZ below D s0 xeR (.inl (if cc = some a then none else cc)) h n 0 0 s) (xFS m a 0 #[.val (.ref a)] []) := by
    refine xws_aload hx hbytes xgc_0 rfl ?_
    refine W.getf hx hbytes hown hlink (f := f) (cell := cell.withEntry s.cur) (v := va_rf cc) hi hst hcell1 g2 hslot rfl rfl xgc_1 ?_
    refine xws_aload hx hbytes xgc_4 rfl ?_
    refine xws_acmp (rx := cc) (ry := some a) (tgt := 12) hx hbytes xgc_5 rfl (fun hne => ?_) (fun heq => ?_)
    · rw [if_neg hne]
      refine xws_aload hx hbytes xgc_12 rfl ?_
      refine W.getf hx hbytes hown hlink (f := f) (cell := cell.withEntry s.cur) (v := va_rf cc) hi hst hcell1 g2 hslot rfl rfl xgc_13 ?_
      exact xws_aret hx hbytes g1 hfree hcount hlocks hret hR xgc_16
    · rw [if_pos heq]
      refine xws_null hx hbytes xgc_8 ?_
      refine xws_goto (tgt := 16) hx hbytes xgc_9 rfl ?_
      exact xws_aret (r := none) hx hbytes g1 hfree hcount hlocks hret hR xgc_16
  obtain ⟨t, a1, oc, b1, b2, b3⟩ := K s₁ (by rw [← hs1]; rfl) X
  obtain ⟨k, hn, hw⟩ := Steps.head (tb := p.tables) (e := e) ⟨hrun, hable, halone⟩ ⟨[.invoking m [Value.ref a].toArray], hf, by simp, by simp⟩ (hstep ▸ a1)
  exact ⟨k, oc, hw, hn ▸ b1, hn ▸ b2, hn ▸ b3⟩
section XS2
variable {α : Type} {x : xC} {emb : α → Option Value} {own : String} {cc : ByteArray} {ret : Option FieldType} {pc : Nat} {lv lv' : List (Nat × Value)} {st : List Value} {kk : Option Nat → xM α}
/-- the call of getCause on a NoQuota -/
theorem xr_gc {idx : Nat} {r : Option Nat} {C : String} {T : u_T} {N : Nat} (F : xF x own cc ret) (hno : xNo x pc) (hd : decode cc pc = .ok (.invokevirtual idx, 3)) (hc : xcl[30]? = some (C, T, N)) (w1 : xgcW ∈ lw_all) (w3 : Cond.methodLink own idx ⟨C, "getCause", "()Ljava/lang/Throwable;"⟩ ∈ lw_all) (w4 : Cond.instanceMethod xgcN ∈ lw_all) (w5 : Cond.selects C ⟨C, "getCause", "()Ljava/lang/Throwable;"⟩ xgcN ∈ lw_all) (w6 : Cond.sameMethod C "java/lang/Throwable" "getCause" "()Ljava/lang/Throwable;" ∈ lw_all) (w7 : Cond.declares xgcN ∈ lw_tbl) (w8 : Cond.fieldLink "java/lang/Throwable" 7 "java/lang/Throwable" "cause" "Ljava/lang/Throwable;" ∈ lw_all) (hroom : xRoom x 2 60) (hcat : (st.map fun v => v.category).sum ≤ 8)
    (K : ∀ r, xI x emb (pc + 3) lv (va_rf r :: st) (kk r)) : xI x emb pc lv (va_rf r :: st) (xbind (xsel r [(30, fun a => xgcause a)]) kk) := by
  refine xI.call (embb := xeR) (st := st) 3 F hno ?_ K
  obtain ⟨p, l, e, R, s, m, args, below, meth, c, D, s0, Γ, nL, b0⟩ := x
  intro H locs cells slots ls h n hR hlv ob hb dcb dsb he h1 h2 Ts hT X
  obtain ⟨a, w, fs, rfl, ha, he⟩ := xsel_some he
  have G := F.2.2.2.2.2.2.1
  have hr1 : 2 ≤ R.frames := hroom.1
  have hr2 : 60 ≤ R.locals := hroom.2
  have hB : vx_Back l R p e below s args xgcN 3 8 (xPre D s0 R [.ref a] h n dcb dsb) (xPost D s0 xeR ob hb (n + dcb) dcb dsb) (xPostX D s0 ob hb (n + dcb) dcb dsb) := by
    refine xback (xgc_m G w4 w8 a) he (maxL := 1) (by omega) (by omega) (fun a' U hW => word_at hW (good_of_word (List.mem_filter.mp w1).2) (xwd F w1 (a := args))) (fun U a' mk h1 h2 => ?_)
    obtain ⟨methY, cY, g1, g2, -, g4, -⟩ := Cond.codeSync_spec h2 h1
    exact ⟨methY, cY, g1, g2, g4⟩
  obtain ⟨hx, hbb, hml, hown, -⟩ := id F
  obtain ⟨cellB, hcell, hobj, hcls, -⟩ := xcls F hR ha hc
  have hmono : 2 * (F0 m pc ls st).monitorRoom + ((F0 m pc ls st).stack.map fun v => v.category).sum ≤ 8 := lv_room (m := m) (pc := pc) (ls := ls) (rest := st) hcat
  have hd0 : va_Decl s xgcN := by
    obtain ⟨-, -, -, -, -, -, ⟨hts, -⟩, hW, -⟩ := F
    exact va_Decl.abs (va_Nw.warmD hW (va_Nw.of rfl (hts _ w7)))
  obtain ⟨r0, rr, hn, hrm, hstR, hsigR⟩ := hd0
  obtain ⟨cn, ck, r1, hcn, hck, hni, hf, hn1⟩ := Cond.sameMethod_found (xwd F w6 (a := args))
  cases hn.symm.trans hn1
  obtain ⟨mk, methM, hnamed, hmethM, -, habM⟩ := Cond.instanceMethod_spec (xwd F w4 (a := args))
  obtain ⟨c2, r2, m2, q1, q2, q3, q4, kP, hkP, hkPi⟩ := Cond.selects_spec (xwd F w5 (a := args))
  cases hcls.symm.trans q1
  cases hf.symm.trans q2
  cases hnamed.symm.trans q3
  have hselP : selectMethod e.platform s.vm cellB.cls r0 = .method mk := by rw [Launch.admits_selectMethod X.admits]; exact q4
  have hd' : decode c.code pc = .ok (.invokevirtual idx, 3) := by rw [hbb]; exact hd
  obtain ⟨vm₁, X₁, hstep₁⟩ := X.invokevirtualUp hx hown (xwd F w3 (a := args)) (xwd F w6 (a := args)) (by decide) hn hrm hstR (a := a) (cell := cellB) (by rw [hT]; exact hcell)
    (fun z h => by rw [h] at hobj; cases hobj) hselP hmethM habM hkP hkPi (g := F0 m pc ls (va_rf (some a) :: st)) rfl (argsL := []) (rest := st) (xln (k := 0) (d := "()Ljava/lang/Throwable;") (by decide +kernel) _ hsigR) rfl hd'
  rcases hB m meth c ⟨Ts.setVm vm₁, locs, cells, slots⟩ (F0 m pc ls st) (.invokevirtual idx) mk [Value.ref a].toArray X₁ rfl (hlv.1.trans hml.symm) hd' hmono (X₁.named hnamed) (xpr F hT hR h1 h2 vm₁ X₁.warmed) with ⟨v, B, X', hpost, hsteps⟩ | ⟨q, B, X', hpost, hsteps⟩
  · exact Or.inl ⟨v, vm₁, B, _, X₁.warmed, X', hpost, fun target hh => hstep₁ _ fun acts => by rw [doInvoke_state]; exact hsteps.trans hh⟩
  · exact Or.inr ⟨q, vm₁, B, _, X₁.warmed, X', hpost, hstep₁ _ fun acts => by rw [doInvoke_state]; exact hsteps⟩
end XS2
