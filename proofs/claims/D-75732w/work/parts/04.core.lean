/-! THE CORE: an abstract heap, a monad xM of computations over it, and the judgement xI: a frame runs a computation -/
/-- a cell: may it be written; an array (its type's number in xty, its contents) or an object (its class's number in xcl, its fields); numbers from 1000 on: objects of lambda classes -/
abbrev xAC : Type := Bool × ((Nat × vp_A) ⊕ (Nat × List Value))
abbrev xH : Type := Nat → Option xAC
/-- constants' addresses, heap, next free address; none: stuck; the answer or what is thrown, the heap, how many cells and slots were made -/
abbrev xM (α : Type) : Type := (Nat → Option Nat) → xH → Nat → Option ((α ⊕ Nat) × xH × Nat × Nat)
/-- class ids, field slots, array class ids -/
abbrev xD : Type := (Nat → ClassId) × (Nat → Nat → Nat) × (Nat → ClassId)
def xat (D : xD) (s0 : State) (a : Nat) (c : xAC) (H : Heap) : Prop := ∃ cell : Cell, H[a]? = some cell ∧ cell.vm ≠ .unknown ∧ cell.vm.isStatics = false ∧ match c.2 with
  | .inl (t, x) => (∃ ty : FieldType, xty[t]? = some ty ∧ s0.isArrayOf cell ty) ∧ cell.slots = (vp_cell 0 x).slots ∧ (c.1 = true → cell = vp_cell (D.2.2 t) x)
  | .inr (ci, fs) => cell.cls = D.1 ci ∧ (c.1 = true → cell.vm = .none ∧ (ci = 30 → cell.monitor.owner = none ∧ cell.monitor.count = 0)) ∧ ((∃ q : vw_C, xcl[ci]? = some q ∧ ∀ k, k < q.2.2 → cell.slots[D.2.1 ci k]? = some (vp_V fs k)) ∨ (1000 ≤ ci ∧ cell.slots = fs.toArray))
def xR (D : xD) (s0 : State) (h : xH) (n : Nat) (H : Heap) : Prop := H.size = n ∧ s0.heap.size ≤ n ∧ (∀ q : Nat, q < s0.heap.size → H[q]? = s0.heap[q]?) ∧ (∀ (a : Nat) (c : xAC), h a = some c → xat D s0 a c H) ∧ ∀ (a : Nat) (c : xAC), h a = some c → c.1 = true → s0.heap.size ≤ a
/-- a class as its fields are read: each found, not static, its slot -/
def xKn (s : State) (D : xD) (ci : Nat) (q : vw_C) : Prop := s.vm.findClass q.1 = some (D.1 ci) ∧ ∀ k, k < q.2.2 → ∃ (cf : Nat) (kf : Class) (fi : Nat) (f : Field), s.fieldFound? (q.2.1 k).1 (q.2.1 k).2.1 (q.2.1 k).2.2.1 = some (cf, kf, fi, f) ∧ f.isStatic = false ∧ f.slot = D.2.1 ci k
/-- what is known of the tables at the law's start s0 (script at b0) -/
def xG (l : Launch) (D : xD) (s0 : State) (b0 : Nat) (Γ : Nat → Option Nat) : Prop := (∀ w ∈ lw_tbl, w.before #[Value.ref b0] s0 = true) ∧ (∀ (ci : Nat) (q : vw_C), xcl[ci]? = some q → xKn s0 D ci q) ∧ (∀ (ci : Nat) (q : vw_C), xcl[ci]? = some q → ci < xnW → ClassAt s0 q.1 (D.1 ci)) ∧ (∀ (t : Nat) (ty : FieldType), xty[t]? = some ty → ArrOfT s0 (D.2.2 t) ty ∧ va_RA s0 (D.2.2 t) ty) ∧ l.stackTraces = false ∧ (∀ (k : Nat) (C n d : String), xstat[k]? = some (C, n, d) → va_Z C n d (va_rf (Γ k)) (fun q => s0.heap.size ≤ q) s0 s0.heap) ∧ (∀ (k : Nat) (C n d : String) (v : Int32), xsti[k]? = some (C, n, d, v) → va_Z C n d (.int v) (fun q => s0.heap.size ≤ q) s0 s0.heap) ∧ (∀ (k : Nat) (o : String) (i : Nat) (tx : String), xstr[k]? = some (o, i, tx) → ∃ a, Γ (100 + k) = some a ∧ vk_R o i tx a s0) ∧ vx_Zq Bundle.tN "UNASSIGNED_STACK" Bundle.steD (fun q => s0.heap.size ≤ q) s0 s0.heap ∧ vx_Zq Bundle.tN "SUPPRESSED_SENTINEL" Bundle.listD (fun q => s0.heap.size ≤ q) s0 s0.heap ∧ (∀ (k : Nat) (A B : String), xnc[k]? = some (A, B) → va_Nc A B s0) ∧ (∃ mi, Γ 90 = some mi ∧ va_Mi "[Ljava/lang/Object;" mi s0) ∧ ∀ (k : Nat) (y : MethodName) (i j : Nat) (σ : Lambda.Shape), xlam[k]? = some (y, i, j, σ) → s0.lambdaAt? y i j σ = some (D.1 (1000 + k), Γ (200 + k))
/-- a method's context -/
abbrev xC : Type := Program × Launch × Env × Room × State × MethodId × Array Value × List Frame × Method × Code × xD × State × (Nat → Option Nat) × Nat × Nat
/-- how an answer is seen by the caller -/
def xeo {α : Type} (emb : α → Option Value) (o : α ⊕ Nat) : Outcome := match o with
  | .inl r => .returned (emb r)
  | .inr q => .threw q
def xQ {α : Type} (D : xD) (s0 : State) (emb : α → Option Value) (o : α ⊕ Nat) (h : xH) (n mc ms : Nat) (st : State) (oc : Outcome) (t : State) : Prop :=
  oc = xeo emb o ∧ xR D s0 h n t.heap ∧ ∃ L : List Loc, st.WarmedH t.vm ∧ st.sameButNew ({ t with vm := st.vm } : State) L mc ms ∧ ∀ q ∈ L, s0.heap.size ≤ q.base
def xZ {α : Type} (below : List Frame) (D : xD) (s0 : State) (emb : α → Option Value) (o : α ⊕ Nat) (h : xH) (n mc ms : Nat) (st : State) (t : State) : Prop := ∃ oc : Outcome, t.status = .running ∧ Ended t below oc ∧ xQ D s0 emb o h n mc ms st oc t
/-- from the frame at pc (locals lv, stack st) the method does what cm does -/
def xI {α : Type} (x : xC) (emb : α → Option Value) (pc : Nat) (lv : List (Nat × Value)) (st : List Value) (cm : xM α) : Prop := match x with
  | (p, l, e, R, s, m, args, below, meth, c, D, s0, Γ, nL, _) => ∀ (h : xH) (n : Nat) (o : α ⊕ Nat) (h' : xH) (dc ds : Nat), cm Γ h n = some (o, h', dc, ds) →
    ∀ (H : Heap) (locs : List Loc) (cells slots : Nat) (ls : Array Slot), xR D s0 h n H → lv_has ls nL lv → (∀ q ∈ locs, s0.heap.size ≤ q.base) → cells + dc ≤ R.cells → slots + ds ≤ R.slots →
    W p l e R s m args below meth c H locs cells slots (xZ below D s0 emb o h' (n + dc) (cells + dc) (slots + ds) s) (F0 m pc ls st)
/-- the method's facts: its code, its class, what is known -/
def xF (x : xC) (own : String) (cc : ByteArray) (ret : Option FieldType) : Prop := match x with
  | (p, l, _, _, s, m, _, _, meth, c, D, s0, Γ, nL, b0) => p.tables.exec = Jvm.exec ∧ c.code = cc ∧ c.maxLocals = nL ∧ s.vm.findClass own = some m.cls ∧ meth.locks = false ∧ meth.sig.returnType = ret ∧ xG l D s0 b0 Γ ∧ s0.WarmedH s.vm ∧ s0.heap.size ≤ s.heap.size ∧ ∀ q : Nat, q < s0.heap.size → s.heap[q]? = s0.heap[q]?
/-! ===== the operations ===== -/
def xpure {α : Type} (a : α) : xM α := fun _ h _ => some (.inl a, h, 0, 0)
def xstuck {α : Type} : xM α := fun _ _ _ => none
def xbind {α β : Type} (f : xM α) (k : α → xM β) : xM β := fun Γ h n => match f Γ h n with
  | none => none
  | some (.inr q, h1, c1, s1) => some (.inr q, h1, c1, s1)
  | some (.inl a, h1, c1, s1) => match k a Γ h1 (n + c1) with
    | none => none
    | some (r, h2, c2, s2) => some (r, h2, c1 + c2, s1 + s2)
/-- a call inside a try: what is thrown goes to the handler k2 -/
def xtry {α β : Type} (f : xM α) (k : α → xM β) (k2 : Nat → xM β) : xM β := fun Γ h n => match f Γ h n with
  | none => none
  | some (.inr q, h1, c1, s1) => match k2 q Γ h1 (n + c1) with
    | none => none
    | some (r, h2, c2, s2) => some (r, h2, c1 + c2, s1 + s2)
  | some (.inl a, h1, c1, s1) => match k a Γ h1 (n + c1) with
    | none => none
    | some (r, h2, c2, s2) => some (r, h2, c1 + c2, s1 + s2)
def xlet {α β : Type} (a : α) (k : α → xM β) : xM β := k a
def xupd (h : xH) (a : Nat) (c : xAC) : xH := fun q => if q = a then some c else h q
/-- the object at a: its class and fields -/
def xobj (h : xH) (r : Option Nat) : Option (Nat × Nat × List Value) := match r with
  | none => none
  | some a => match h a with
    | some (_, .inr (ci, fs)) => some (a, ci, fs)
    | _ => none
def xarr (h : xH) (r : Option Nat) : Option (Nat × Nat × vp_A) := match r with
  | none => none
  | some a => match h a with
    | some (_, .inl (t, x)) => some (a, t, x)
    | _ => none
/-- field k of an object of class ci -/
def xget (ci k : Nat) (r : Option Nat) : xM Value := fun _ h _ => match xobj h r with
  | some (_, c, fs) => if c = ci then (match fs[k]? with | some v => some (.inl v, h, 0, 0) | none => none) else none
  | none => none
def xgI (ci k : Nat) (r : Option Nat) : xM Int32 := fun Γ h n => match xget ci k r Γ h n with
  | some (.inl (.int v), h1, c1, s1) => some (.inl v, h1, c1, s1)
  | _ => none
def xgJ (ci k : Nat) (r : Option Nat) : xM Int64 := fun Γ h n => match xget ci k r Γ h n with
  | some (.inl (.long v), h1, c1, s1) => some (.inl v, h1, c1, s1)
  | _ => none
def xgR (ci k : Nat) (r : Option Nat) : xM (Option Nat) := fun Γ h n => match xget ci k r Γ h n with
  | some (.inl (.ref a), h1, c1, s1) => some (.inl (some a), h1, c1, s1)
  | some (.inl .null, h1, c1, s1) => some (.inl none, h1, c1, s1)
  | _ => none
/-- store v in field k of an object of class ci -/
def xput (ci k : Nat) (r : Option Nat) (v : Value) : xM Unit := fun _ h _ => match r with
  | none => none
  | some a => match h a with
    | some (true, .inr (c, fs)) => if c = ci ∧ k < fs.length then some (.inl (), xupd h a (true, .inr (c, fs.set k v)), 0, 0) else none
    | _ => none
/-- the same for a boolean, a byte ..: the number must be narrow -/
def xpN (ci k : Nat) (ty : FieldType) (r : Option Nat) (v : Int32) : xM Unit := fun Γ h n => if narrow ty (.int v) = .int v ∧ fits ty (.int v) = true then xput ci k r (.int v) Γ h n else none
def xnew (ci : Nat) (fs : List Value) (sz : Nat) : xM Nat := fun _ h n => some (.inl n, xupd h n (true, .inr (ci, fs)), 1, sz)
def xlen (r : Option Nat) : xM Int32 := fun _ h _ => match xarr h r with
  | some (_, _, x) => some (.inl x.1.toInt32, h, 0, 0)
  | none => none
def xldI (t : Nat) (r : Option Nat) (i : Int32) : xM Int32 := fun _ h _ => match xarr h r with
  | some (_, u, nn, .inl f) => if u = t ∧ ¬ (i < 0 ∨ nn ≤ i.toNatClampNeg) then some (.inl (f i.toNatClampNeg), h, 0, 0) else none
  | _ => none
def xldJ (t : Nat) (r : Option Nat) (i : Int32) : xM Int64 := fun _ h _ => match xarr h r with
  | some (_, u, nn, .inr (.inl f)) => if u = t ∧ ¬ (i < 0 ∨ nn ≤ i.toNatClampNeg) then some (.inl (f i.toNatClampNeg), h, 0, 0) else none
  | _ => none
def xldD (t : Nat) (r : Option Nat) (i : Int32) : xM UInt64 := fun _ h _ => match xarr h r with
  | some (_, u, nn, .inr (.inr (.inr (.inl f)))) => if u = t ∧ ¬ (i < 0 ∨ nn ≤ i.toNatClampNeg) then some (.inl (f i.toNatClampNeg), h, 0, 0) else none
  | _ => none
def xldR (r : Option Nat) (i : Int32) : xM (Option Nat) := fun _ h _ => match xarr h r with
  | some (_, t, nn, .inr (.inr (.inr (.inr f)))) => if ¬ (i < 0 ∨ nn ≤ i.toNatClampNeg) ∧ 5 ≤ t then some (.inl (f i.toNatClampNeg), h, 0, 0) else none
  | _ => none
def xstI (t : Nat) (r : Option Nat) (i v : Int32) : xM Unit := fun _ h _ => match r with
  | none => none
  | some a => match h a with
    | some (true, .inl (u, nn, .inl f)) => if u = t ∧ ¬ (i < 0 ∨ nn ≤ i.toNatClampNeg) then some (.inl (), xupd h a (true, .inl (u, nn, .inl (va_up f i.toNatClampNeg v))), 0, 0) else none
    | _ => none
def xstJ (t : Nat) (r : Option Nat) (i : Int32) (v : Int64) : xM Unit := fun _ h _ => match r with
  | none => none
  | some a => match h a with
    | some (true, .inl (u, nn, .inr (.inl f))) => if u = t ∧ ¬ (i < 0 ∨ nn ≤ i.toNatClampNeg) then some (.inl (), xupd h a (true, .inl (u, nn, .inr (.inl (va_up f i.toNatClampNeg v)))), 0, 0) else none
    | _ => none
def xstD (t : Nat) (r : Option Nat) (i : Int32) (v : UInt64) : xM Unit := fun _ h _ => match r with
  | none => none
  | some a => match h a with
    | some (true, .inl (u, nn, .inr (.inr (.inr (.inl f))))) => if u = t ∧ ¬ (i < 0 ∨ nn ≤ i.toNatClampNeg) then some (.inl (), xupd h a (true, .inl (u, nn, .inr (.inr (.inr (.inl (va_up f i.toNatClampNeg v)))))), 0, 0) else none
    | _ => none
/-- null, or an object of a class whose number is ok -/
def xokR (h : xH) (ok : Nat → Bool) (v : Option Nat) : Bool := match v with
  | none => true
  | some _ => match xobj h v with
    | some (_, c, _) => ok c
    | none => false
/-- store in an array of references -/
def xstR (t : Nat) (ok : Nat → Bool) (r : Option Nat) (i : Int32) (v : Option Nat) : xM Unit := fun _ h _ => match r with
  | none => none
  | some a => match h a with
    | some (true, .inl (u, nn, .inr (.inr (.inr (.inr f))))) => if u = t ∧ ¬ (i < 0 ∨ nn ≤ i.toNatClampNeg) ∧ xokR h ok v = true then some (.inl (), xupd h a (true, .inl (u, nn, .inr (.inr (.inr (.inr (va_up f i.toNatClampNeg v)))))), 0, 0) else none
    | _ => none
/-- a new array of type number t: contents all default -/
def xnewA (t : Nat) (x : Nat → vp_A) (i : Int32) : xM Nat := fun _ h n => if ¬ i < 0 ∧ i.toNatClampNeg ≤ 1000000 then some (.inl n, xupd h n (true, .inl (t, x i.toNatClampNeg)), 1, i.toNatClampNeg) else none
/-- the k-th constant -/
def xcon (k : Nat) : xM (Option Nat) := fun Γ h _ => some (.inl (Γ k), h, 0, 0)
/-- by the class of the object r (it is not null) -/
def xsel {α : Type} (r : Option Nat) (l : List (Nat × (Nat → xM α))) : xM α := fun Γ h n => match xobj h r with
  | some (a, c, _) => (match l.lookup c with | some f => f a Γ h n | none => none)
  | none => none
/-- r isn't null -/
def xnn {α : Type} (r : Option Nat) (f : Nat → xM α) : xM α := fun Γ h n => match r with
  | some a => f a Γ h n
  | none => none
def xthrow {α : Type} (r : Option Nat) : xM α := fun _ h _ => match xobj h r with
  | some (a, _, _) => some (.inr a, h, 0, 0)
  | none => none
def xeV : Unit → Option Value := fun _ => none
def xeI : Int32 → Option Value := fun r => some (.int r)
def xeJ : Int64 → Option Value := fun r => some (.long r)
def xeD : UInt64 → Option Value := fun r => some (.double r)
def xeR : Option Nat → Option Value := fun r => some (va_rf r)
