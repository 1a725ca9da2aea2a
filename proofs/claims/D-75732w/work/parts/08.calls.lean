/-! part 08: contracts of methods over the monad, and calls -/
/-- the method is about to be entered: nothing is asked of its class's initialisation -/
def xAp (y : MethodName) (cw : Cond) (rm : Room) (pl : Platform) (s : State) (m : MethodId) (args : Array Value) (below : List Frame) : Prop := s.status = .running ∧ s.curStatus? = some .runnable ∧ s.alone = true ∧ s.methodNamed? y = some m ∧ s.hears m below = true ∧ s.hasRoom pl rm = true ∧ cw.before args s = true
/-- method y (its code word cw) with the arguments As does what cm does; fr: frames, lo: words of locals -/
def xMeth {α : Type} (l : Launch) (D : xD) (s0 : State) (Γ : Nat → Option Nat) (y : MethodName) (cw : Cond) (fr lo : Nat) (As : List Value) (emb : α → Option Value) (cm : xM α) : Prop :=
  ∀ (h : xH) (n : Nat) (o : α ⊕ Nat) (h' : xH) (dc ds : Nat), cm Γ h n = some (o, h', dc, ds) →
    ∀ (p : Program) (e : Env), l.admits e → FairCas e.choices → FairClock e.choices → ∀ (s : State) (m : MethodId) (below : List Frame), s.frames = .invoking m As.toArray :: below →
    xAp y cw { frames := fr, cells := dc, slots := ds, locals := lo } e.platform s m As.toArray below → s0.WarmedH s.vm → xR D s0 h n s.heap →
    ∃ (k : Nat) (oc : Outcome), (∀ j, j < k → Within (stepsAlone p.tables e j s) below) ∧ (stepsAlone p.tables e k s).status = .running ∧ Ended (stepsAlone p.tables e k s) below oc ∧ xQ D s0 emb o h' (n + dc) dc ds s oc (stepsAlone p.tables e k s)
/-- a call of such a method -/
theorem xcallF {α : Type} {l : Launch} {D : xD} {s0 : State} {Γ : Nat → Option Nat} {y : MethodName} {cw : Cond} {fr lo : Nat} {As : List Value} {emb : α → Option Value} {cm : xM α} {h : xH} {n : Nat} {o : α ⊕ Nat} {h' : xH} {dc ds : Nat} {e : Env}
    (hM : xMeth l D s0 Γ y cw fr lo As emb cm) (he : cm Γ h n = some (o, h', dc, ds)) (p : Program) (ha : l.admits e) (hc : FairCas e.choices) (hk : FairClock e.choices)
    {s : State} {m : MethodId} {acts : List Action} {mid below : List Frame} (hfr : s.frames = mid ++ below) (hf' : (s.pushFrame (.invoking m As.toArray)).frames = .invoking m As.toArray :: s.frames) (ht : ∃ t, s.threads[s.cur]? = some t)
    (happ : xAp y cw { frames := fr, cells := dc, slots := ds, locals := lo } e.platform (s.pushFrame (.invoking m As.toArray)) m As.toArray s.frames) (hW : s0.WarmedH s.vm) (hR : xR D s0 h n s.heap) :
    ∃ oc s₂, Steps p.tables e below (doInvoke e s acts m As.toArray).1 s₂ ∧ s₂.status = .running ∧ Ended s₂ s.frames oc ∧ xQ D s0 emb o h' (n + dc) dc ds (s.pushFrame (.invoking m As.toArray)) oc s₂ := by
  obtain ⟨t, ht⟩ := ht
  have hgo : (s.pushFrame (.invoking m As.toArray)).goesOn := ⟨happ.1, happ.2.1, happ.2.2.1⟩
  obtain ⟨k, oc, hw, hr, hend, hp⟩ := hM h n o h' dc ds he p e ha hc hk (s.pushFrame (.invoking m As.toArray)) m s.frames hf' happ hW hR
  have hstep : (stepThread p.tables e (s.pushFrame (.invoking m As.toArray))).1 = (doInvoke e s acts m As.toArray).1 := by
    rw [stepThread_invoking hf', doInvoke_state e s acts, State.pushFrame, State.setFrames_setFrames, State.setFrames_self ht]
  cases k with
  | zero => exact absurd ⟨[.invoking m As.toArray], hf', by simp, by simp⟩ hend.not_within
  | succ k =>
    rw [stepsAlone_succ _ hgo, hstep] at hr hend hp
    refine ⟨oc, _, ⟨k, rfl, fun j hj => ?_⟩, hr, hend, hp⟩
    have := hw (j + 1) (by omega)
    rw [stepsAlone_succ _ hgo, hstep, hfr] at this
    exact this.weaken
def xPre (D : xD) (s0 : State) (R : Room) (As : List Value) (h : xH) (n dc ds : Nat) : Pt → Array Value → Prop := fun A a => A.cells + dc ≤ R.cells ∧ A.slots + ds ≤ R.slots ∧ a = As.toArray ∧ s0.WarmedH A.U.vm ∧ xR D s0 h n A.U.heap
def xTail (D : xD) (s0 : State) (h' : xH) (n' dc ds : Nat) (A B : Pt) : Prop := xR D s0 h' n' B.U.heap ∧ (∃ L : List Loc, B.locs = A.locs ++ L ∧ ∀ q ∈ L, s0.heap.size ≤ q.base) ∧ B.cells = A.cells + dc ∧ B.slots = A.slots + ds
def xPost {α : Type} (D : xD) (s0 : State) (emb : α → Option Value) (o : α ⊕ Nat) (h' : xH) (n' dc ds : Nat) : Pt → Array Value → Option Value → Pt → Prop := fun A _ v B => (∃ r, o = .inl r ∧ v = emb r) ∧ xTail D s0 h' n' dc ds A B
def xPostX {α : Type} (D : xD) (s0 : State) (o : α ⊕ Nat) (h' : xH) (n' dc ds : Nat) : Pt → Array Value → Addr → Pt → Prop := fun A _ q B => o = .inr q ∧ xTail D s0 h' n' dc ds A B
section XB
variable {α : Type} {p : Program} {l : Launch} {e : Env} {R : Room} {s : State} {sargs : Array Value} {below : List Frame} {D : xD} {s0 : State} {Γ : Nat → Option Nat} {y : MethodName} {cw : Cond} {fr lo : Nat} {As : List Value} {emb : α → Option Value} {cm : xM α} {len W9 : Nat}
theorem xback (hM : xMeth l D s0 Γ y cw fr lo As emb cm) {h : xH} {n : Nat} {o : α ⊕ Nat} {h' : xH} {dc ds : Nat} (he : cm Γ h n = some (o, h', dc, ds)) {maxL : Nat}
    (hframes : fr + 1 ≤ R.frames) (hlocals : W9 + (maxL + 11) + lo ≤ R.locals) (hws : ∀ (a' : Array Value) (U : State), s.WarmedH U.vm → cw.before a' U = true)
    (hcode : ∀ (U : State) (a' : Array Value) (mk : MethodId), cw.before a' U = true → U.methodNamed? y = some mk → ∃ methY cY, U.vm.method? mk = some methY ∧ methY.code = some cY ∧ cY.maxLocals = maxL)
 :
    vx_Back l R p e below s sargs y len W9 (xPre D s0 R As h n dc ds) (xPost D s0 emb o h' (n + dc) dc ds) (xPostX D s0 o h' (n + dc) dc ds) := by
  intro m meth c A g ig mk a X hg hsize hdg hW hn hp
  have h2 : cw.before a A.U = true := hws _ _ X.warmed
  have h4 : A.cells + dc ≤ R.cells := hp.1
  have h5 : A.slots + ds ≤ R.slots := hp.2.1
  obtain ⟨rfl, hPW, hPR⟩ := hp.2.2
  obtain ⟨U, Ls, c0, s0'⟩ := A
  dsimp only [Pt.U, Pt.locs, Pt.cells, Pt.slots] at h2 h4 h5 X hn hPW hPR ⊢
  obtain ⟨methY, cY, hmY, hcY, hlY⟩ := hcode _ _ _ h2 hn
  have hh : At U g.method c below := by rw [hg]; exact X.here
  obtain ⟨mid, hmid⟩ := hh.above
  have hfr : (U.setTop g).frames = (.java g :: mid) ++ below := by rw [State.frames_setTop' g hh.top, hmid]; rfl
  generalize hae : As.toArray = a at *
  have hroom : (U.calling g mk a).hasRoom e.platform { frames := fr, cells := dc, slots := ds, locals := lo } = true := X.room_calling (g := g) (R' := { frames := fr, cells := dc, slots := ds, locals := lo }) hsize hmY hcY hframes (by rw [hlY]; show _ + _ + lo ≤ _; omega) h4 h5
  have hcode' : (U.calling g mk a).code? g.method = some c := by
    have := hh.code
    rw [State.code?_eq] at this ⊢
    simpa [State.calling, State.pushFrame, State.setFrames] using this
  have hff : (U.calling g mk a).frames = .invoking mk a :: (.java g :: U.frames.tail) := State.frames_calling hh.top g mk a
  have hap : xAp y cw { frames := fr, cells := dc, slots := ds, locals := lo } e.platform (U.calling g mk a) mk a (U.setTop g).frames := by
    rw [State.frames_setTop' g hh.top]
    refine ⟨hh.running, ?_, ?_, hn, ?_, hroom, ?_⟩
    · simpa [State.calling] using hh.runnable
    · simpa [State.calling] using hh.alone
    · simp [State.hears, hcode', hdg, Except.toOption]
    · rw [State.calling_eq hh.top, Cond.before_setFrames]; exact h2
  have hthr : ∃ t, (U.setTop g).threads[(U.setTop g).cur]? = some t := by
    obtain ⟨t, ht, -⟩ := State.frames_cons (s := U.setTop g) (State.frames_setTop' g hh.top)
    exact ⟨t, ht⟩
  subst hae
  obtain ⟨oc, s₂, hsteps, -, hend, hq⟩ := xcallF hM he p X.admits X.cas X.clock (acts := []) (s := U.setTop g) (m := mk) hfr (by rw [State.frames_setTop' g hh.top]; exact hff) hthr hap hPW hPR
  rw [State.frames_setTop' g hh.top] at hend
  have hq' : xQ D s0 emb o h' (n + dc) dc ds (U.calling g mk As.toArray) oc s₂ := hq
  obtain ⟨g₀, hg0⟩ := Option.isSome_iff_exists.mp hh.top
  obtain ⟨r, hr⟩ := State.topJava?_eq_some.mp hg0
  have hr' : (({ U with heap := s₂.heap, slotsUsed := s₂.slotsUsed } : State).setVm s₂.vm).frames = .java g₀ :: r := hr
  obtain ⟨hoc, hR2, L, hW₂, hsm, hL⟩ := hq'
  obtain ⟨e2, q2, q3, q4, q5, q6⟩ := id hsm
  have e3 : s₂ = ({ (U.calling g mk As.toArray).setFrames s₂.frames with heap := s₂.heap, slotsUsed := s₂.slotsUsed } : State).setVm s₂.vm := by
    have : s₂ = ({ s₂ with vm := (U.calling g mk As.toArray).vm } : State).setVm s₂.vm := rfl
    rw [e2] at this
    exact this
  have hW' : U.WarmedH s₂.vm := hW₂
  have hsame : U.sameButNew ({ U with heap := s₂.heap, slotsUsed := s₂.slotsUsed } : State) L dc ds := by
    refine ⟨?_, q2, q3, q4, q5, q6⟩
    obtain ⟨t, ht, -⟩ := State.frames_cons hr
    show ({ U with heap := s₂.heap, slotsUsed := s₂.slotsUsed } : State) = { U.setFrames U.frames with heap := s₂.heap, slotsUsed := s₂.slotsUsed }
    rw [State.setFrames_self ht]
  have hStand : Stand p l e R s m sargs below meth c (({ U with heap := s₂.heap, slotsUsed := s₂.slotsUsed } : State).setVm s₂.vm) (Ls ++ L) (c0 + dc) (s0' + ds) :=
    ⟨X.admits, X.cas, X.clock, X.frames, X.room, X.hears, X.method, X.code, (X.here.setHeapUsed s₂.heap s₂.slotsUsed).setVm hW'.alike, X.tail, State.WarmedH.trans X.warmed hW', X.limits, X.bytes, X.same.trans (hsame.setVm s.vm)⟩
  subst hoc
  cases o with
  | inl rr =>
    obtain ⟨c₂, i₂, len₂, hc₂, hd₂, hf₂⟩ := hend
    have hcc : c₂ = c := by
      have h1 : s₂.code? g.method = U.code? g.method := by
        rw [State.code?_eq, State.code?_eq, hW'.alike.method?]
      exact Option.some.inj (hc₂.symm.trans (h1.trans hh.code))
    subst hcc
    have hlen : len₂ = len := by rw [hdg] at hd₂; cases hd₂; rfl
    subst hlen
    have hs₂ : s₂ = (({ U with heap := s₂.heap, slotsUsed := s₂.slotsUsed } : State).setVm s₂.vm).setTop { g with pc := g.pc + len₂, stack := (emb rr).toList ++ g.stack } := by
      refine e3.trans ?_
      rw [hf₂, State.calling_eq hh.top, State.setFrames_setFrames, State.setTop_of_frames _ hr', hr]
      rfl
    subst hg
    refine Or.inl ⟨emb rr, ⟨(({ U with heap := s₂.heap, slotsUsed := s₂.slotsUsed } : State).setVm s₂.vm), Ls ++ L, c0 + dc, s0' + ds⟩, hStand, ⟨⟨rr, rfl, rfl⟩, hR2, ⟨L, rfl, hL⟩, rfl, rfl⟩, ?_⟩
    show Steps p.tables e below _ ((({ U with heap := s₂.heap, slotsUsed := s₂.slotsUsed } : State).setVm s₂.vm).setTop { g with pc := g.pc + len₂, stack := (emb rr).toList ++ g.stack })
    rw [← hs₂]
    exact hsteps
  | inr q =>
    have hf₂ : s₂.frames = .throwing q :: .java g :: U.frames.tail := hend
    have hs₂ : s₂ = ((({ U with heap := s₂.heap, slotsUsed := s₂.slotsUsed } : State).setVm s₂.vm).setTop g).pushFrame (.throwing q) := by
      refine e3.trans ?_
      rw [hf₂, State.calling_eq hh.top, State.setFrames_setFrames, State.pushFrame, State.frames_setTop _ hr', State.setTop_of_frames _ hr', State.setFrames_setFrames, hr]
      rfl
    subst hg
    refine Or.inr ⟨q, ⟨(({ U with heap := s₂.heap, slotsUsed := s₂.slotsUsed } : State).setVm s₂.vm), Ls ++ L, c0 + dc, s0' + ds⟩, hStand, ⟨rfl, hR2, ⟨L, rfl, hL⟩, rfl, rfl⟩, ?_⟩
    show Steps p.tables e below _ (((({ U with heap := s₂.heap, slotsUsed := s₂.slotsUsed } : State).setVm s₂.vm).setTop g).pushFrame (.throwing q))
    rw [← hs₂]
    exact hsteps
end XB
/-- the code word of a method, with handlers or without -/
def xCode (y : MethodName) (cc : ByteArray) (maxL : Nat) (ret : Option FieldType) (cw : Cond) : Prop := cw = Cond.code y cc maxL ret ∨ ∃ hh, cw = Cond.codeWith y cc maxL ret hh
theorem xCode.spec {y : MethodName} {cc : ByteArray} {maxL : Nat} {ret : Option FieldType} {cw : Cond} (hw : xCode y cc maxL ret cw) {U : State} {a' : Array Value} {mk : MethodId} (h : cw.before a' U = true) (hn : U.methodNamed? y = some mk) : ∃ methY cY, U.vm.method? mk = some methY ∧ methY.code = some cY ∧ cY.code = cc ∧ cY.maxLocals = maxL ∧ methY.sig.returnType = ret ∧ methY.locks = false ∧ parseMethodDescriptor y.desc = some methY.sig := by
  rcases hw with rfl | ⟨hh, rfl⟩
  · obtain ⟨meth, c, h1, h2, h3, h4, h5, h6, -, h8⟩ := Cond.code_spec hn h
    exact ⟨meth, c, h1, h2, h3, h4, h5, h6, h8⟩
  · obtain ⟨m', meth, c, h0, h1, h2, h3, h4, -, h5, h6, h8⟩ := Cond.codeWith_spec h
    cases hn.symm.trans h0
    exact ⟨meth, c, h1, h2, h3, h4, h5, h6, h8⟩
theorem xCode.named {y : MethodName} {cc : ByteArray} {maxL : Nat} {ret : Option FieldType} {cw : Cond} (hw : xCode y cc maxL ret cw) {U : State} {a' : Array Value} (h : cw.before a' U = true) : ∃ mk, U.methodNamed? y = some mk := by
  rcases hw with rfl | ⟨hh, rfl⟩
  · exact Cond.code_named h
  · obtain ⟨m', meth, c, h0, -⟩ := Cond.codeWith_spec h
    exact ⟨m', h0⟩
/-- the method that is run -/
def xmy (x : xC) (y : MethodName) : Prop := x.2.2.2.2.1.methodNamed? y = some x.2.2.2.2.2.1
/-- a method's contract by the walk of its body -/
theorem xMeth.of {α : Type} {l : Launch} {D : xD} {s0 : State} {b0 : Nat} {Γ : Nat → Option Nat} (G : xG l D s0 b0 Γ) {y : MethodName} {cw : Cond} {fr lo maxL : Nat} {cc : ByteArray} {ret : Option FieldType} {As : List Value} {emb : α → Option Value} {cm : xM α} (hy : plainFor y = true) (hw : xCode y cc maxL ret cw) (hlen : (lg_sl As).length ≤ maxL) {lv0 : List (Nat × Value)} (hlv : lv_args 0 As = lv0)
    (body : ∀ x : xC, xF x y.cls cc ret → xnL x = maxL → (∃ dc ds, x.2.2.2.1 = { frames := fr, cells := dc, slots := ds, locals := lo }) → (xmn x = y.name ∧ xmy x y) → ((cw = Cond.code y cc maxL ret → x.2.2.2.2.2.2.2.2.2.1.exceptionTable.toList = []) ∧ ∀ hh, cw = Cond.codeWith y cc maxL ret hh → x.2.2.2.2.2.2.2.2.2.1.exceptionTable.toList = tableOf hh) → x.2.2.2.2.2.2.2.2.2.2.1 = D → x.2.2.2.2.2.2.2.2.2.2.2.1 = s0 → x.2.2.2.2.2.2.2.2.2.2.2.2.1 = Γ → x.2.1 = l → xI x emb 0 lv0 [] cm) : xMeth l D s0 Γ y cw fr lo As emb cm := by
  intro h n o h' dc ds he p e ha hcas hclk s m below hf hap hW hR
  obtain ⟨hrun, hable, halone, hname, hhears, hroom, hcw⟩ := hap
  obtain ⟨meth, c, hmeth, hcode, hbytes, hlocals, hret, hlocks, -⟩ := hw.spec hcw hname
  have hcur := State.cur_lt_of_frames hf
  have hf1 : (s.setFrames (.java (entryFrame m As.toArray maxL) :: below)).frames = .java (entryFrame m As.toArray maxL) :: below := State.frames_setFrames _ hcur
  have ht1 := State.topJava?_of_frames hf1
  have hplain : (s.setFrames (.java (entryFrame m As.toArray maxL) :: below)).plainMethod m := State.plainMethod.of_named (s := s) hy hname hmeth
  have hAt : At (s.setFrames (.java (entryFrame m As.toArray maxL) :: below)) m c below :=
    ⟨by rw [ht1]; rfl, ⟨[], by rw [hf1]; rfl⟩, hrun, by simpa using hable, by simpa using halone, by rw [State.code?_eq]; simp [State.setFrames, hmeth, hcode], hplain⟩
  have hstep : (stepThread p.tables e s).1 = (s.setFrames (.java (entryFrame m As.toArray maxL) :: below)).setTop (entryFrame m As.toArray maxL) := by
    have hfull : e.platform.stackFull (s.setFrames below).me (s.setFrames below).frames c.maxLocals = false := by
      obtain ⟨-, h1, -, h2⟩ := State.hasRoom_stack hroom
      rw [hf, List.length_cons] at h1
      rw [State.localsInUse_invoking hf hmeth hcode] at h2
      have hw := stackUse_le_stackWeight below
      rw [State.frames_setFrames _ hcur]
      exact Platform.stackFull_eq_false (by rw [State.stackLimits_setFrames]; omega) (by rw [State.stackLimits_setFrames]; omega)
    rw [stepThread_invoking hf, (doInvoke_java (s := s.setFrames below) (e := e) (meth := meth) (code := c) hmeth hcode hlocks hfull).1, State.setTop_self ht1]
    simp only [State.pushFrame, State.frames_setFrames _ hcur, State.setFrames_setFrames, hlocals, entryFrame]
  have F : xF (p, l, e, { frames := fr, cells := dc, slots := ds, locals := lo }, s, m, As.toArray, below, meth, c, D, s0, Γ, maxL, b0) y.cls cc ret :=
    ⟨by cases p <;> rfl, hbytes, hlocals, findClass_of_methodNamed hname, hlocks, hret, G, hW, by rw [hR.1]; exact hR.2.1, hR.2.2.1⟩
  have K := body _ F rfl ⟨dc, ds, rfl⟩ ⟨(name_of_methodNamed hname hmeth).1, hname⟩ ⟨fun hcc => by
      subst hcc
      obtain ⟨meth', c', h1, h2, -, -, -, -, h7, -⟩ := Cond.code_spec hname hcw
      cases h1.symm.trans hmeth
      cases h2.symm.trans hcode
      simpa [Array.isEmpty_iff] using h7, fun hh hcc => by
      subst hcc
      obtain ⟨m9, meth9, c9, hn9, h1, h2, -, -, h6, -⟩ := Cond.codeWith_spec hcw
      cases Option.some.inj (hn9.symm.trans hname)
      cases Option.some.inj (h1.symm.trans hmeth)
      cases Option.some.inj (h2.symm.trans hcode)
      rw [← h6]
      exact (table_eq _).symm⟩ rfl rfl rfl rfl h n o h' dc ds he s.heap [] 0 0 (((lg_sl As ++ List.replicate (maxL - (lg_sl As).length) Slot.unset).toArray)) hR (hlv ▸ lv_entry As hlen) (fun q hq => by cases hq) (by show 0 + dc ≤ dc; omega) (by show 0 + ds ≤ ds; omega)
  rw [← lg_entry_eq m] at K
  obtain ⟨t9, ht9, -⟩ := State.frames_cons hf
  have X : Stand p l e { frames := fr, cells := dc, slots := ds, locals := lo } s m As.toArray below meth c (s.setFrames (.java (entryFrame m As.toArray maxL) :: below)) [] 0 0 := by
    refine ⟨ha, hcas, hclk, hf, hroom, hhears, hmeth, hcode, hAt, by rw [hf1]; rfl, State.WarmedH.refl s, by rw [State.stackLimits_setFrames], by rw [State.stackBytes_setFrames], ?_⟩
    exact (State.sameButNew.refl s ht9).setFrames (.java (entryFrame m As.toArray maxL) :: below) hcur
  obtain ⟨t, a1, oc, b1, b2, b3⟩ := K (s.setFrames (.java (entryFrame m As.toArray maxL) :: below)) rfl X
  rw [Nat.zero_add, Nat.zero_add] at b3
  obtain ⟨k, hn, hw⟩ := Steps.head (tb := p.tables) (e := e) ⟨hrun, hable, halone⟩ ⟨[.invoking m As.toArray], hf, by simp, by simp⟩ (hstep ▸ a1)
  exact ⟨k, oc, hw, hn ▸ b1, hn ▸ b2, hn ▸ b3⟩
