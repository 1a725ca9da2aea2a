/-! part 16: exceptions that are made and thrown; handlers -/
/-- words that ride along -/
def xgw (w : Cond) : Bool := goodWord w || (match w with | .castable _ _ => true | .declares _ => true | _ => false)
theorem xin (ws : List Cond) (ps : List Nat) (hp : ws = ps.filterMap (fun i => lw_tbl[i]?)) : ∀ w ∈ ws, w ∈ lw_tbl := by
  intro w h
  rw [hp] at h
  obtain ⟨i, -, hi⟩ := List.mem_filterMap.mp h
  exact List.mem_of_getElem? hi
theorem xwg {own : String} {cc : ByteArray} {ret : Option FieldType} {p : Program} {l : Launch} {e : Env} {R : Room} {s : State} {m : MethodId} {args : Array Value} {below : List Frame} {meth : Method} {c : Code} {D : xD} {s0 : State} {Γ : Nat → Option Nat} {nL b0 : Nat} (F : xF (p, l, e, R, s, m, args, below, meth, c, D, s0, Γ, nL, b0) own cc ret) {w : Cond} (h : w ∈ lw_tbl) (hg : xgw w = true) : w.before args s = true := by
  by_cases h1 : goodWord w = true
  · exact xwd F (List.mem_filter.mpr ⟨h, h1⟩)
  · have hts := F.2.2.2.2.2.2.1.1
    have hW := F.2.2.2.2.2.2.2.1
    unfold xgw at hg
    rw [Bool.not_eq_true] at h1
    rw [h1, Bool.false_or] at hg
    split at hg
    · exact va_Nw.use rfl (va_Nw.warmC hW (va_Nw.of rfl (hts _ h)))
    · exact va_Nw.use rfl (va_Nw.warmD hW (va_Nw.of rfl (hts _ h)))
    · cases hg
/-- a new exception object, no field of it known -/
def xmk (ci : Nat) : xM Nat := fun _ h n => some (.inl n, xupd h n (true, .inr (ci, [])), 1, 6)
section XE1
variable {α : Type} {x : xC} {emb : α → Option Value} {own : String} {cc : ByteArray} {ret : Option FieldType} {pc : Nat} {lv lv' : List (Nat × Value)} {st : List Value}
theorem xr_mk {ci ik ic : Nat} {cls : String} {T0 : u_T} {names : List String} {kk : Nat → xM α} (F : xF x own cc ret) (d0 : decode cc pc = .ok (.new ik, 3)) (d3 : decode cc (pc + 3) = .ok (.dup, 1)) (d4 : decode cc (pc + 4) = .ok (.invokespecial ic, 3)) (hc : xcl[ci]? = some (cls, T0, 0)) (hcls : Bundle.fit cls = true) (hnames : ∀ n ∈ names, Bundle.fit n = true)
    (w1 : Cond.classLink own ik cls ∈ lw_all) (w2 : Cond.initialized cls ∈ lw_all) (hat : ∀ w ∈ vx_at0 own ic cls names, w ∈ lw_tbl) (hg : (vx_at0 own ic cls names).all xgw = true) (hgood : ∀ w ∈ Cond.classLink own ik cls :: Cond.initialized cls :: vx_at0 own ic cls names, vx_ot w = true)
    (hroom : xRoom x (names.length + 4) (8 + (13 * (names.length + 1) + 42))) (hcat : (st.map fun v => v.category).sum ≤ 8)
    (K : ∀ a, xI x emb (pc + 7) lv (va_rf (some a) :: st) (kk a)) : xI x emb pc lv st (xbind (xmk ci) kk) := by
  obtain ⟨p, l, e, R, s, m, args, below, meth, c, D, s0, Γ, nL, b0⟩ := x
  intro h n o h' dc ds he H locs cells slots ls hR hlv hL h1 h2
  have hk := xwd F w1 (a := args)
  have hini := xwd F w2 (a := args)
  have hat1 : ∀ w ∈ vx_at0 own ic cls names, w.before args s = true := fun w hw => xwg F (hat w hw) (List.all_eq_true.mp hg w hw)
  obtain ⟨hexec, hb, hml, hown, hlk, hret, G, hWs, -⟩ := F
  have hRframes : names.length + 3 < R.frames := hroom.1
  have hRlocals : 8 + (13 * (names.length + 1) + 42) ≤ R.locals := hroom.2
  rcases xbind_some he with ⟨u, h1', c1, s1, r', h2', c2, s2, hf, hkk, hz⟩ | ⟨q, h1', c1, s1, hf, hz⟩
  · cases hf
    cases hz
    intro T hT X
    subst hT
    have htr : e.platform.stackTraces = false := (show e.platform.stackTraces = l.stackTraces by rw [X.admits.platform]).trans G.2.2.2.2.1
    have Y := vx_rebase X (R' := { frames := R.frames, locals := R.locals, cells := 1, slots := 6 }) (Nat.le_refl _) (Nat.le_refl _) (by show cells + 1 ≤ _; omega) (by show slots + 6 ≤ _; omega)
    obtain ⟨s', hA'⟩ : ∃ z, z = (T.setVm s.vm).setFrames (.invoking m args :: below) := ⟨_, rfl⟩
    rw [← hA'] at Y
    have hvm : s'.vm = s.vm := by rw [hA']; rfl
    have hhp : s'.heap = T.heap := by rw [hA']; rfl
    have hW0 : s.WarmedH s'.vm := by rw [hvm]; exact State.WarmedH.refl s
    have hat' : ∀ w ∈ vx_at0 own ic cls names, w.before args s' = true := fun w hw => vx_ot_at hW0 hvm.symm (hgood w (List.mem_cons_of_mem _ (List.mem_cons_of_mem _ hw))) (hat1 w hw)
    have hk' : (Cond.classLink own ik cls).before args s' = true := vx_ot_at hW0 hvm.symm (hgood _ List.mem_cons_self) hk
    have hini' : (Cond.initialized cls).before args s' = true := vx_ot_at hW0 hvm.symm (hgood _ (List.mem_cons_of_mem _ List.mem_cons_self)) hini
    have hkept : ∀ a : Nat, a < s0.heap.size → ¬ s0.heap.size ≤ a → T.heap[a]? = s0.heap[a]? := fun a ha _ => hR.2.2.1 a ha
    have hU' : vx_Zq Bundle.tN "UNASSIGNED_STACK" Bundle.steD (fun q => s0.heap.size ≤ q) s' s'.heap := by rw [hhp]; exact vx_Zq.moved hW0.alike (vx_Zq.moved hWs.alike (vx_Zq.kept G.2.2.2.2.2.2.2.2.1 hkept))
    have hN' : vx_Zq Bundle.tN "SUPPRESSED_SENTINEL" Bundle.listD (fun q => s0.heap.size ≤ q) s' s'.heap := by rw [hhp]; exact vx_Zq.moved hW0.alike (vx_Zq.moved hWs.alike (vx_Zq.kept G.2.2.2.2.2.2.2.2.2.1 hkept))
    have h9 : ∀ w ∈ Bundle.ownAtoms0 own ic cls names, w.before args s' = true := vx_own hat' (vx_isRefq hU'.1) (vx_isRefq hN'.1) hU'.2.word hN'.2.word
    have hown' : s'.vm.findClass own = some m.cls := by rw [hvm]; exact hown
    have hins : (Cond.instantiable cls 6).before args s' = true := h9 _ (by simp [Bundle.ownAtoms0])
    obtain ⟨vm₁, cX, kX, hfX, hkX, -, -, X₁, st1⟩ := Y.newCold hexec (own := own) (C := cls) (index := ik) (n := 6) hown' hk' hins hini'
      (g := F0 m pc ls st) rfl (by rw [hb]; exact d0) (Nat.le_refl _) (Nat.le_refl _)
    generalize hT1 : (T.setVm vm₁).pushCell { cls := cX, slots := kX.instanceTypes.map defaultValue, vm := .none } = T1 at X₁ st1
    have hcat1 : (Value.ref T.heap.size).category = 1 := rfl
    have hcellA : T1.heap[T.heap.size]? = some (freshCell cX kX) := by rw [← hT1]; exact State.heap_pushCell_size _ _
    have d3' : decode c.code (pc + 3) = .ok (.dup, 1) := by rw [hb]; exact d3
    obtain ⟨V, ce, L, Z, hLz, hlt, hcl9, hvm9, stz⟩ := vx_ctorMade0 X₁ hexec htr (own := own) (cls := cls) (names := names) (ic := ic) hown' hcls hnames h9 (fun x hx => nomatch hx) hfX hkX hcellA (by rw [hhp]; exact Nat.le_refl _)
      (g := { method := m, pc := pc + 4, locals := ls, stack := .ref T.heap.size :: .ref T.heap.size :: st, locked := none }) rfl (by rw [hml]; exact hlv.1) (rest := st) rfl
      (by rw [hb]; exact d4) hRframes (by simp only [List.map_cons, List.sum_cons, hcat1]; show 2 * 0 + _ + _ ≤ _; omega)
    have Z0 := Stand.forget (locs := []) Z (fun y hy => by rw [hLz y hy, hhp]; exact Nat.le_refl _)
    obtain ⟨f1, f2⟩ := vx_frame Z0.same
    have hup := Z0.heapSize
    rw [hhp] at f1 f2 hup
    have hcid : ce.cls = D.1 ci := by
      rw [hcl9]
      have h10 : s.vm.findClass cls = some (D.1 ci) := by rw [hWs.alike.findClass]; exact (G.2.1 ci _ hc).1
      rw [hvm] at hfX
      exact Option.some.inj (hfX.symm.trans h10)
    have hh : (V.setCell T.heap.size ce).heap[T.heap.size]? = some ce := heapAt_setCell_self (s := V) ce hlt
    subst hA'
    have X5 := vx_back9 X Y Z0
    have X6 : Stand p l e R s m args below meth c (V.setCell T.heap.size ce) locs (cells + 1) (slots + 6) := { X5 with same := X5.same.mono (by omega) (by omega) }
    have hsz : (V.setCell T.heap.size ce).heap.size = n + 1 := by
      have e1 : (V.setCell T.heap.size ce).heap.size = V.heap.size := by simp [State.setCell]
      refine Nat.le_antisymm ?_ ?_
      · rw [← hR.1]; exact hup
      · rw [e1, ← hR.1]; exact hlt
    have hR' := hR.push (H' := (V.setCell T.heap.size ce).heap) (c := (true, .inr (ci, []))) hsz (fun q hq => f2 q (by rw [hR.1]; exact hq) (fun z hz => nomatch hz)) ⟨ce, by rw [← hR.1]; exact hh, (by rw [hvm9]; exact (fun z => by cases z)), (by rw [hvm9]; rfl), hcid, fun _ => ⟨hvm9, fun h30 => by subst h30; have h31 : xcl[30]? = some (_, _, 6) := rfl; rw [h31] at hc; cases hc⟩, Or.inl ⟨_, hc, fun k hk => absurd hk (Nat.not_lt_zero k)⟩⟩
    have K2 := K n _ (n + 1) o h' c2 s2 hkk _ locs (cells + 1) (slots + 6) ls hR' hlv hL (by omega) (by omega)
    have e1 : n + (1 + c2) = n + 1 + c2 := by omega
    have e2 : cells + (1 + c2) = cells + 1 + c2 := by omega
    have e3 : slots + (6 + s2) = slots + 6 + s2 := by omega
    rw [e1, e2, e3]
    obtain ⟨t, a1, b1⟩ := K2 _ rfl X6
    refine ⟨t, st1 _ ?_, b1⟩
    show Steps p.tables e below (T1.setTop { method := m, pc := pc + 3, locals := ls, stack := .ref T.heap.size :: st, locked := none }) _
    jvm_step X₁.here [X₁.here.top, hexec, d3', Value.category]
    rw [← hR.1] at a1
    exact stz _ a1
  · cases hf
end XE1
