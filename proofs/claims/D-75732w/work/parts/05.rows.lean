/-! part 05: rows of xI for instructions that do not touch the heap (printed by gen/rows.py) -/
section XR1
variable {α : Type} {x : xC} {emb : α → Option Value} {own : String} {cc : ByteArray} {ret : Option FieldType} {pc : Nat} {lv lv' : List (Nat × Value)} {st : List Value} {cm cm1 cm2 : xM α}
theorem xwd {p : Program} {l : Launch} {e : Env} {R : Room} {s : State} {m : MethodId} {args : Array Value} {below : List Frame} {meth : Method} {c : Code} {D : xD} {s0 : State} {Γ : Nat → Option Nat} {nL b0 : Nat} (F : xF (p, l, e, R, s, m, args, below, meth, c, D, s0, Γ, nL, b0) own cc ret) {w : Cond} (h : w ∈ lw_all) {a : Array Value} : w.before a s = true := by
  obtain ⟨-, -, -, -, -, -, ⟨hts, -⟩, hW, -⟩ := F
  exact word_at hW (good_of_word (List.mem_filter.mp h).2) (hts w (lw_all_tbl h))
theorem xrf_cat (r : Option Nat) : (va_rf r).category = 1 := by cases r <;> rfl
theorem xI.go {pc' : Nat} {st' : List Value} (hgo : match x with
    | (p, l, e, R, s, m, args, below, meth, c, _, _, _, nL, _) => ∀ (H : Heap) (locs : List Loc) (cells slots : Nat) (Q : State → Prop) (ls : Array Slot), lv_has ls nL lv → (∀ ls' : Array Slot, lv_has ls' nL lv' → W p l e R s m args below meth c H locs cells slots Q (F0 m pc' ls' st')) → W p l e R s m args below meth c H locs cells slots Q (F0 m pc ls st)) (k : xI x emb pc' lv' st' cm) : xI x emb pc lv st cm := by
  obtain ⟨p, l, e, R, s, m, args, below, meth, c, D, s0, Γ, nL, b0⟩ := x
  intro h n o h' dc ds hc H locs cells slots ls hR hl hL h1 h2
  exact hgo H locs cells slots _ ls hl (fun ls' hl' => k h n o h' dc ds hc H locs cells slots ls' hR hl' hL h1 h2)
theorem xI.sub (ks : List Nat) (hl : lv_pick lv ks = lv') (k : xI x emb pc lv' st cm) : xI x emb pc lv st cm := by
  refine xI.go ?_ k
  obtain ⟨p, l, e, R, s, m, args, below, meth, c, D, s0, Γ, nL, b0⟩ := x
  intro H locs cells slots Q ls h kk
  exact kk ls (lv_sub h ks hl)
theorem xI.eqv {cm' : xM α} (h : cm = cm') (k : xI x emb pc lv st cm') : xI x emb pc lv st cm := h ▸ k
theorem xI.stuck : xI x emb pc lv st (xstuck : xM α) := by
  obtain ⟨p, l, e, R, s, m, args, below, meth, c, D, s0, Γ, nL, b0⟩ := x
  intro h n o h' dc ds hc
  cases hc
theorem xI.split {P : Prop} [Decidable P] (k1 : P → xI x emb pc lv st cm1) (k2 : ¬ P → xI x emb pc lv st cm2) : xI x emb pc lv st (if P then cm1 else cm2) := by
  by_cases h : P
  · rw [if_pos h]; exact k1 h
  · rw [if_neg h]; exact k2 h
theorem xI.letv {β : Type} {a : β} {k : β → xM α} {st' : β → List Value} (kk : ∀ b, xI x emb pc lv (st' b) (k b)) : xI x emb pc lv (st' a) (xlet a k) := kk a
theorem xr_iconst {n : Int} (v : Int32) (F : xF x own cc ret) (hd : decode cc pc = .ok (.iconst n, 1)) (hv : Int32.ofInt n = v) (k : xI x emb (pc + 1) lv (.int v :: st) cm) : xI x emb pc lv (st) cm := by
  refine xI.go (lv' := lv) ?_ k
  obtain ⟨p, l, e, R, s, m, args, below, meth, c, D, s0, Γ, nL, b0⟩ := x
  obtain ⟨hx, hb, hml, hown, -⟩ := F
  intro H locs cells slots Q ls h kk
  exact lv_iconst hx hb hd hv (kk ls h)
theorem xr_bipush {n : Int} (v : Int32) (F : xF x own cc ret) (hd : decode cc pc = .ok (.bipush n, 2)) (hv : (Int8.ofInt n).toInt32 = v) (k : xI x emb (pc + 2) lv (.int v :: st) cm) : xI x emb pc lv (st) cm := by
  refine xI.go (lv' := lv) ?_ k
  obtain ⟨p, l, e, R, s, m, args, below, meth, c, D, s0, Γ, nL, b0⟩ := x
  obtain ⟨hx, hb, hml, hown, -⟩ := F
  intro H locs cells slots Q ls h kk
  exact lv_bipush hx hb hd hv (kk ls h)
theorem xr_sipush {n : Int} (v : Int32) (F : xF x own cc ret) (hd : decode cc pc = .ok (.sipush n, 3)) (hv : (Int16.ofInt n).toInt32 = v) (k : xI x emb (pc + 3) lv (.int v :: st) cm) : xI x emb pc lv (st) cm := by
  refine xI.go (lv' := lv) ?_ k
  obtain ⟨p, l, e, R, s, m, args, below, meth, c, D, s0, Γ, nL, b0⟩ := x
  obtain ⟨hx, hb, hml, hown, -⟩ := F
  intro H locs cells slots Q ls h kk
  exact lv_sipush hx hb hd hv (kk ls h)
theorem xr_lconst {n : Fin 2} (v : Int64) (F : xF x own cc ret) (hd : decode cc pc = .ok (.lconst n, 1)) (hv : Int64.ofNat (n : Nat) = v) (k : xI x emb (pc + 1) lv (.long v :: st) cm) : xI x emb pc lv (st) cm := by
  refine xI.go (lv' := lv) ?_ k
  obtain ⟨p, l, e, R, s, m, args, below, meth, c, D, s0, Γ, nL, b0⟩ := x
  obtain ⟨hx, hb, hml, hown, -⟩ := F
  intro H locs cells slots Q ls h kk
  exact lv_lconst hx hb hd hv (kk ls h)
theorem xr_dconst0  (F : xF x own cc ret) (hd : decode cc pc = .ok (.dconst 0, 1))  (k : xI x emb (pc + 1) lv (.double FP.dconst0 :: st) cm) : xI x emb pc lv (st) cm := by
  refine xI.go (lv' := lv) ?_ k
  obtain ⟨p, l, e, R, s, m, args, below, meth, c, D, s0, Γ, nL, b0⟩ := x
  obtain ⟨hx, hb, hml, hown, -⟩ := F
  intro H locs cells slots Q ls h kk
  exact lv_dconst0 hx hb hd (kk ls h)
theorem xr_dconst1  (F : xF x own cc ret) (hd : decode cc pc = .ok (.dconst 1, 1))  (k : xI x emb (pc + 1) lv (.double FP.dconst1 :: st) cm) : xI x emb pc lv (st) cm := by
  refine xI.go (lv' := lv) ?_ k
  obtain ⟨p, l, e, R, s, m, args, below, meth, c, D, s0, Γ, nL, b0⟩ := x
  obtain ⟨hx, hb, hml, hown, -⟩ := F
  intro H locs cells slots Q ls h kk
  exact lv_dconst1 hx hb hd (kk ls h)
theorem xr_null  (F : xF x own cc ret) (hd : decode cc pc = .ok (.aconst_null, 1))  (k : xI x emb (pc + 1) lv (va_rf none :: st) cm) : xI x emb pc lv (st) cm := by
  refine xI.go (lv' := lv) ?_ k
  obtain ⟨p, l, e, R, s, m, args, below, meth, c, D, s0, Γ, nL, b0⟩ := x
  obtain ⟨hx, hb, hml, hown, -⟩ := F
  intro H locs cells slots Q ls h kk
  exact lv_null hx hb hd (kk ls h)
theorem xr_ldc {idx : Nat} {v : Int32} (F : xF x own cc ret) (hd : decode cc pc = .ok (.ldc idx, 2)) (hw : Jvm.Cond.constant own idx v ∈ lw_all) (k : xI x emb (pc + 2) lv (.int v :: st) cm) : xI x emb pc lv (st) cm := by
  refine xI.go (lv' := lv) ?_ k
  obtain ⟨p, l, e, R, s, m, args, below, meth, c, D, s0, Γ, nL, b0⟩ := x
  have hw2 := xwd F hw (a := args)
  obtain ⟨hx, hb, hml, hown, -⟩ := F
  intro H locs cells slots Q ls h kk
  exact lv_ldc hx hb hown hw2 hd (kk ls h)
theorem xr_ldcw {idx : Nat} {v : Int32} (F : xF x own cc ret) (hd : decode cc pc = .ok (.ldc_w idx, 3)) (hw : Jvm.Cond.constant own idx v ∈ lw_all) (k : xI x emb (pc + 3) lv (.int v :: st) cm) : xI x emb pc lv (st) cm := by
  refine xI.go (lv' := lv) ?_ k
  obtain ⟨p, l, e, R, s, m, args, below, meth, c, D, s0, Γ, nL, b0⟩ := x
  have hw2 := xwd F hw (a := args)
  obtain ⟨hx, hb, hml, hown, -⟩ := F
  intro H locs cells slots Q ls h kk
  exact lv_ldcw hx hb hown hw2 hd (kk ls h)
theorem xr_ldc2 {idx : Nat} {v : Int64} (F : xF x own cc ret) (hd : decode cc pc = .ok (.ldc2_w idx, 3)) (hw : Jvm.Cond.constantLong own idx v ∈ lw_all) (k : xI x emb (pc + 3) lv (.long v :: st) cm) : xI x emb pc lv (st) cm := by
  refine xI.go (lv' := lv) ?_ k
  obtain ⟨p, l, e, R, s, m, args, below, meth, c, D, s0, Γ, nL, b0⟩ := x
  have hw2 := xwd F hw (a := args)
  obtain ⟨hx, hb, hml, hown, -⟩ := F
  intro H locs cells slots Q ls h kk
  exact lv_ldc2 hx hb hown hw2 hd (kk ls h)
theorem xr_ldc2d {idx : Nat} {v : UInt64} (F : xF x own cc ret) (hd : decode cc pc = .ok (.ldc2_w idx, 3)) (hw : Jvm.Cond.constantDouble own idx v ∈ lw_all) (k : xI x emb (pc + 3) lv (.double v :: st) cm) : xI x emb pc lv (st) cm := by
  refine xI.go (lv' := lv) ?_ k
  obtain ⟨p, l, e, R, s, m, args, below, meth, c, D, s0, Γ, nL, b0⟩ := x
  have hw2 := xwd F hw (a := args)
  obtain ⟨hx, hb, hml, hown, -⟩ := F
  intro H locs cells slots Q ls h kk
  exact lv_ldc2d hx hb hown hw2 hd (kk ls h)
theorem xr_iload_n {i : Fin 4} (j : Nat) {v : Int32} (F : xF x own cc ret) (hd : decode cc pc = .ok (.iload_n i, 1)) (hk : lv[j]? = some ((i : Nat), .int v)) (k : xI x emb (pc + 1) lv (.int v :: st) cm) : xI x emb pc lv (st) cm := by
  refine xI.go (lv' := lv) ?_ k
  obtain ⟨p, l, e, R, s, m, args, below, meth, c, D, s0, Γ, nL, b0⟩ := x
  obtain ⟨hx, hb, hml, hown, -⟩ := F
  intro H locs cells slots Q ls h kk
  exact lv_iload_n hx hb hd rfl (lv_at h j hk) (kk ls h)
theorem xr_iload {i : Nat} (j : Nat) {v : Int32} (F : xF x own cc ret) (hd : decode cc pc = .ok (.iload i, 2)) (hk : lv[j]? = some (i, .int v)) (k : xI x emb (pc + 2) lv (.int v :: st) cm) : xI x emb pc lv (st) cm := by
  refine xI.go (lv' := lv) ?_ k
  obtain ⟨p, l, e, R, s, m, args, below, meth, c, D, s0, Γ, nL, b0⟩ := x
  obtain ⟨hx, hb, hml, hown, -⟩ := F
  intro H locs cells slots Q ls h kk
  exact lv_iload hx hb hd (lv_at h j hk) (kk ls h)
theorem xr_lload_n {i : Fin 4} (j : Nat) {v : Int64} (F : xF x own cc ret) (hd : decode cc pc = .ok (.lload_n i, 1)) (hk : lv[j]? = some ((i : Nat), .long v)) (k : xI x emb (pc + 1) lv (.long v :: st) cm) : xI x emb pc lv (st) cm := by
  refine xI.go (lv' := lv) ?_ k
  obtain ⟨p, l, e, R, s, m, args, below, meth, c, D, s0, Γ, nL, b0⟩ := x
  obtain ⟨hx, hb, hml, hown, -⟩ := F
  intro H locs cells slots Q ls h kk
  exact lv_lload_n hx hb hd rfl (lv_at h j hk) (kk ls h)
theorem xr_lload {i : Nat} (j : Nat) {v : Int64} (F : xF x own cc ret) (hd : decode cc pc = .ok (.lload i, 2)) (hk : lv[j]? = some (i, .long v)) (k : xI x emb (pc + 2) lv (.long v :: st) cm) : xI x emb pc lv (st) cm := by
  refine xI.go (lv' := lv) ?_ k
  obtain ⟨p, l, e, R, s, m, args, below, meth, c, D, s0, Γ, nL, b0⟩ := x
  obtain ⟨hx, hb, hml, hown, -⟩ := F
  intro H locs cells slots Q ls h kk
  exact lv_lload hx hb hd (lv_at h j hk) (kk ls h)
theorem xr_dload_n {i : Fin 4} (j : Nat) {v : UInt64} (F : xF x own cc ret) (hd : decode cc pc = .ok (.dload_n i, 1)) (hk : lv[j]? = some ((i : Nat), .double v)) (k : xI x emb (pc + 1) lv (.double v :: st) cm) : xI x emb pc lv (st) cm := by
  refine xI.go (lv' := lv) ?_ k
  obtain ⟨p, l, e, R, s, m, args, below, meth, c, D, s0, Γ, nL, b0⟩ := x
  obtain ⟨hx, hb, hml, hown, -⟩ := F
  intro H locs cells slots Q ls h kk
  exact lv_dload_n hx hb hd rfl (lv_at h j hk) (kk ls h)
theorem xr_dload {i : Nat} (j : Nat) {v : UInt64} (F : xF x own cc ret) (hd : decode cc pc = .ok (.dload i, 2)) (hk : lv[j]? = some (i, .double v)) (k : xI x emb (pc + 2) lv (.double v :: st) cm) : xI x emb pc lv (st) cm := by
  refine xI.go (lv' := lv) ?_ k
  obtain ⟨p, l, e, R, s, m, args, below, meth, c, D, s0, Γ, nL, b0⟩ := x
  obtain ⟨hx, hb, hml, hown, -⟩ := F
  intro H locs cells slots Q ls h kk
  exact lv_dload hx hb hd (lv_at h j hk) (kk ls h)
theorem xr_aload_n {i : Fin 4} (j : Nat) {r : Option Nat} (F : xF x own cc ret) (hd : decode cc pc = .ok (.aload_n i, 1)) (hk : lv[j]? = some ((i : Nat), va_rf r)) (k : xI x emb (pc + 1) lv (va_rf r :: st) cm) : xI x emb pc lv (st) cm := by
  refine xI.go (lv' := lv) ?_ k
  obtain ⟨p, l, e, R, s, m, args, below, meth, c, D, s0, Γ, nL, b0⟩ := x
  obtain ⟨hx, hb, hml, hown, -⟩ := F
  intro H locs cells slots Q ls h kk
  cases r with
  | none => exact lv_aload_nN hx hb hd rfl (lv_at h j hk) (kk ls h)
  | some a => exact lv_aload_n hx hb hd rfl (lv_at h j hk) (kk ls h)
theorem xr_aload {i : Nat} (j : Nat) {r : Option Nat} (F : xF x own cc ret) (hd : decode cc pc = .ok (.aload i, 2)) (hk : lv[j]? = some (i, va_rf r)) (k : xI x emb (pc + 2) lv (va_rf r :: st) cm) : xI x emb pc lv (st) cm := by
  refine xI.go (lv' := lv) ?_ k
  obtain ⟨p, l, e, R, s, m, args, below, meth, c, D, s0, Γ, nL, b0⟩ := x
  obtain ⟨hx, hb, hml, hown, -⟩ := F
  intro H locs cells slots Q ls h kk
  cases r with
  | none => exact lv_aloadN hx hb hd (lv_at h j hk) (kk ls h)
  | some a => exact lv_aload hx hb hd (lv_at h j hk) (kk ls h)
abbrev xnL (x : xC) : Nat := x.2.2.2.2.2.2.2.2.2.2.2.2.2.1
theorem xr_istore {i : Nat} {v : Int32} (F : xF x own cc ret) (hd : decode cc pc = .ok (.istore i, 2)) (hn : i < xnL x) (hl : (i, Value.int v) :: lv.filter (fun q => !(q.1 == i) && !(q.1 + 1 == i && q.2.category == 2)) = lv') (k : xI x emb (pc + 2) lv' (st) cm) : xI x emb pc lv (Value.int v :: st) cm := by
  refine xI.go (lv' := lv') ?_ k
  obtain ⟨p, l, e, R, s, m, args, below, meth, c, D, s0, Γ, nL, b0⟩ := x
  obtain ⟨hx, hb, hml, hown, -⟩ := F
  intro H locs cells slots Q ls h kk
  exact lv_istore hx hb hd h hn hl kk
theorem xr_istore_n {i : Fin 4} {v : Int32} (F : xF x own cc ret) (hd : decode cc pc = .ok (.istore_n i, 1)) (hn : (i : Nat) < xnL x) (hl : ((i : Nat), Value.int v) :: lv.filter (fun q => !(q.1 == (i : Nat)) && !(q.1 + 1 == (i : Nat) && q.2.category == 2)) = lv') (k : xI x emb (pc + 1) lv' (st) cm) : xI x emb pc lv (Value.int v :: st) cm := by
  refine xI.go (lv' := lv') ?_ k
  obtain ⟨p, l, e, R, s, m, args, below, meth, c, D, s0, Γ, nL, b0⟩ := x
  obtain ⟨hx, hb, hml, hown, -⟩ := F
  intro H locs cells slots Q ls h kk
  exact lv_istore_n hx hb hd rfl h hn hl kk
theorem xr_lstore {i : Nat} {v : Int64} (F : xF x own cc ret) (hd : decode cc pc = .ok (.lstore i, 2)) (hn : i + 1 < xnL x) (hl : (i, Value.long v) :: lv.filter (fun q => !(q.1 == i) && (!(q.1 == i + 1) && !(q.1 + 1 == i && q.2.category == 2))) = lv') (k : xI x emb (pc + 2) lv' (st) cm) : xI x emb pc lv (Value.long v :: st) cm := by
  refine xI.go (lv' := lv') ?_ k
  obtain ⟨p, l, e, R, s, m, args, below, meth, c, D, s0, Γ, nL, b0⟩ := x
  obtain ⟨hx, hb, hml, hown, -⟩ := F
  intro H locs cells slots Q ls h kk
  exact lv_lstore hx hb hd h hn hl kk
theorem xr_lstore_n {i : Fin 4} {v : Int64} (F : xF x own cc ret) (hd : decode cc pc = .ok (.lstore_n i, 1)) (hn : (i : Nat) + 1 < xnL x) (hl : ((i : Nat), Value.long v) :: lv.filter (fun q => !(q.1 == (i : Nat)) && (!(q.1 == (i : Nat) + 1) && !(q.1 + 1 == (i : Nat) && q.2.category == 2))) = lv') (k : xI x emb (pc + 1) lv' (st) cm) : xI x emb pc lv (Value.long v :: st) cm := by
  refine xI.go (lv' := lv') ?_ k
  obtain ⟨p, l, e, R, s, m, args, below, meth, c, D, s0, Γ, nL, b0⟩ := x
  obtain ⟨hx, hb, hml, hown, -⟩ := F
  intro H locs cells slots Q ls h kk
  exact lv_lstore_n hx hb hd rfl h hn hl kk
theorem xr_dstore {i : Nat} {v : UInt64} (F : xF x own cc ret) (hd : decode cc pc = .ok (.dstore i, 2)) (hn : i + 1 < xnL x) (hl : (i, Value.double v) :: lv.filter (fun q => !(q.1 == i) && (!(q.1 == i + 1) && !(q.1 + 1 == i && q.2.category == 2))) = lv') (k : xI x emb (pc + 2) lv' (st) cm) : xI x emb pc lv (Value.double v :: st) cm := by
  refine xI.go (lv' := lv') ?_ k
  obtain ⟨p, l, e, R, s, m, args, below, meth, c, D, s0, Γ, nL, b0⟩ := x
  obtain ⟨hx, hb, hml, hown, -⟩ := F
  intro H locs cells slots Q ls h kk
  exact lv_dstore hx hb hd h hn hl kk
theorem xr_dstore_n {i : Fin 4} {v : UInt64} (F : xF x own cc ret) (hd : decode cc pc = .ok (.dstore_n i, 1)) (hn : (i : Nat) + 1 < xnL x) (hl : ((i : Nat), Value.double v) :: lv.filter (fun q => !(q.1 == (i : Nat)) && (!(q.1 == (i : Nat) + 1) && !(q.1 + 1 == (i : Nat) && q.2.category == 2))) = lv') (k : xI x emb (pc + 1) lv' (st) cm) : xI x emb pc lv (Value.double v :: st) cm := by
  refine xI.go (lv' := lv') ?_ k
  obtain ⟨p, l, e, R, s, m, args, below, meth, c, D, s0, Γ, nL, b0⟩ := x
  obtain ⟨hx, hb, hml, hown, -⟩ := F
  intro H locs cells slots Q ls h kk
  exact lv_dstore_n hx hb hd rfl h hn hl kk
theorem xr_astore {i : Nat} {r : Option Nat} (F : xF x own cc ret) (hd : decode cc pc = .ok (.astore i, 2)) (hn : i < xnL x) (hl : (i, va_rf r) :: lv.filter (fun q => !(q.1 == i) && !(q.1 + 1 == i && q.2.category == 2)) = lv') (k : xI x emb (pc + 2) lv' (st) cm) : xI x emb pc lv (va_rf r :: st) cm := by
  refine xI.go (lv' := lv') ?_ k
  obtain ⟨p, l, e, R, s, m, args, below, meth, c, D, s0, Γ, nL, b0⟩ := x
  obtain ⟨hx, hb, hml, hown, -⟩ := F
  intro H locs cells slots Q ls h kk
  cases r with
  | none => exact lv_astoreN hx hb hd h hn hl kk
  | some a => exact lv_astore hx hb hd h hn hl kk
theorem xr_astore_n {i : Fin 4} {r : Option Nat} (F : xF x own cc ret) (hd : decode cc pc = .ok (.astore_n i, 1)) (hn : (i : Nat) < xnL x) (hl : ((i : Nat), va_rf r) :: lv.filter (fun q => !(q.1 == (i : Nat)) && !(q.1 + 1 == (i : Nat) && q.2.category == 2)) = lv') (k : xI x emb (pc + 1) lv' (st) cm) : xI x emb pc lv (va_rf r :: st) cm := by
  refine xI.go (lv' := lv') ?_ k
  obtain ⟨p, l, e, R, s, m, args, below, meth, c, D, s0, Γ, nL, b0⟩ := x
  obtain ⟨hx, hb, hml, hown, -⟩ := F
  intro H locs cells slots Q ls h kk
  cases r with
  | none => exact lv_astore_nN hx hb hd rfl h hn hl kk
  | some a => exact lv_astore_n hx hb hd rfl h hn hl kk
theorem xr_iinc {i : Nat} (j : Nat) {n : Int} {v c0 : Int32} {lv' : Int32 → List (Nat × Value)} {k : Int32 → xM α} (F : xF x own cc ret) (hd : decode cc pc = .ok (.iinc i n, 3)) (hk : lv[j]? = some (i, .int v)) (hv : Int32.ofInt n = c0) (hn : i < xnL x) (hl : ∀ y, (i, Value.int y) :: lv.filter (fun q => !(q.1 == i) && !(q.1 + 1 == i && q.2.category == 2)) = lv' y) (kk : ∀ y, xI x emb (pc + 3) (lv' y) st (k y)) : xI x emb pc lv st (xlet (v + c0) k) := by
  refine xI.go ?_ (kk (v + c0))
  obtain ⟨p, l, e, R, s, m, args, below, meth, c, D, s0, Γ, nL, b0⟩ := x
  obtain ⟨hx, hb, -⟩ := F
  intro H locs cells slots Q ls h kk
  exact lv_iinc hx hb hd h hk (by rw [hv]) hn (hl _) kk
theorem xr_iadd {a b : Int32} (F : xF x own cc ret) (hd : decode cc pc = .ok (.iadd, 1))  (k : xI x emb (pc + 1) lv (.int (a + b) :: st) cm) : xI x emb pc lv (.int b :: .int a :: st) cm := by
  refine xI.go (lv' := lv) ?_ k
  obtain ⟨p, l, e, R, s, m, args, below, meth, c, D, s0, Γ, nL, b0⟩ := x
  obtain ⟨hx, hb, hml, hown, -⟩ := F
  intro H locs cells slots Q ls h kk
  exact lv_iadd hx hb hd (kk ls h)
theorem xr_isub {a b : Int32} (F : xF x own cc ret) (hd : decode cc pc = .ok (.isub, 1))  (k : xI x emb (pc + 1) lv (.int (a - b) :: st) cm) : xI x emb pc lv (.int b :: .int a :: st) cm := by
  refine xI.go (lv' := lv) ?_ k
  obtain ⟨p, l, e, R, s, m, args, below, meth, c, D, s0, Γ, nL, b0⟩ := x
  obtain ⟨hx, hb, hml, hown, -⟩ := F
  intro H locs cells slots Q ls h kk
  exact lv_isub hx hb hd (kk ls h)
theorem xr_imul {a b : Int32} (F : xF x own cc ret) (hd : decode cc pc = .ok (.imul, 1))  (k : xI x emb (pc + 1) lv (.int (a * b) :: st) cm) : xI x emb pc lv (.int b :: .int a :: st) cm := by
  refine xI.go (lv' := lv) ?_ k
  obtain ⟨p, l, e, R, s, m, args, below, meth, c, D, s0, Γ, nL, b0⟩ := x
  obtain ⟨hx, hb, hml, hown, -⟩ := F
  intro H locs cells slots Q ls h kk
  exact lv_imul hx hb hd (kk ls h)
theorem xr_iand {a b : Int32} (F : xF x own cc ret) (hd : decode cc pc = .ok (.iand, 1))  (k : xI x emb (pc + 1) lv (.int (a &&& b) :: st) cm) : xI x emb pc lv (.int b :: .int a :: st) cm := by
  refine xI.go (lv' := lv) ?_ k
  obtain ⟨p, l, e, R, s, m, args, below, meth, c, D, s0, Γ, nL, b0⟩ := x
  obtain ⟨hx, hb, hml, hown, -⟩ := F
  intro H locs cells slots Q ls h kk
  exact lv_iand hx hb hd (kk ls h)
theorem xr_ior {a b : Int32} (F : xF x own cc ret) (hd : decode cc pc = .ok (.ior, 1))  (k : xI x emb (pc + 1) lv (.int (a ||| b) :: st) cm) : xI x emb pc lv (.int b :: .int a :: st) cm := by
  refine xI.go (lv' := lv) ?_ k
  obtain ⟨p, l, e, R, s, m, args, below, meth, c, D, s0, Γ, nL, b0⟩ := x
  obtain ⟨hx, hb, hml, hown, -⟩ := F
  intro H locs cells slots Q ls h kk
  exact lv_ior hx hb hd (kk ls h)
theorem xr_ixor {a b : Int32} (F : xF x own cc ret) (hd : decode cc pc = .ok (.ixor, 1))  (k : xI x emb (pc + 1) lv (.int (a ^^^ b) :: st) cm) : xI x emb pc lv (.int b :: .int a :: st) cm := by
  refine xI.go (lv' := lv) ?_ k
  obtain ⟨p, l, e, R, s, m, args, below, meth, c, D, s0, Γ, nL, b0⟩ := x
  obtain ⟨hx, hb, hml, hown, -⟩ := F
  intro H locs cells slots Q ls h kk
  exact lv_ixor hx hb hd (kk ls h)
theorem xr_ishl {a b : Int32} (F : xF x own cc ret) (hd : decode cc pc = .ok (.ishl, 1))  (k : xI x emb (pc + 1) lv (.int (a <<< (b &&& 31)) :: st) cm) : xI x emb pc lv (.int b :: .int a :: st) cm := by
  refine xI.go (lv' := lv) ?_ k
  obtain ⟨p, l, e, R, s, m, args, below, meth, c, D, s0, Γ, nL, b0⟩ := x
  obtain ⟨hx, hb, hml, hown, -⟩ := F
  intro H locs cells slots Q ls h kk
  exact lv_ishl hx hb hd (kk ls h)
theorem xr_ishr {a b : Int32} (F : xF x own cc ret) (hd : decode cc pc = .ok (.ishr, 1))  (k : xI x emb (pc + 1) lv (.int (a >>> (b &&& 31)) :: st) cm) : xI x emb pc lv (.int b :: .int a :: st) cm := by
  refine xI.go (lv' := lv) ?_ k
  obtain ⟨p, l, e, R, s, m, args, below, meth, c, D, s0, Γ, nL, b0⟩ := x
  obtain ⟨hx, hb, hml, hown, -⟩ := F
  intro H locs cells slots Q ls h kk
  exact lv_ishr hx hb hd (kk ls h)
theorem xr_iushr {a b : Int32} (F : xF x own cc ret) (hd : decode cc pc = .ok (.iushr, 1))  (k : xI x emb (pc + 1) lv (.int ((a.toUInt32 >>> (b.toUInt32 &&& Int32.toUInt32 31)).toInt32) :: st) cm) : xI x emb pc lv (.int b :: .int a :: st) cm := by
  refine xI.go (lv' := lv) ?_ k
  obtain ⟨p, l, e, R, s, m, args, below, meth, c, D, s0, Γ, nL, b0⟩ := x
  obtain ⟨hx, hb, hml, hown, -⟩ := F
  intro H locs cells slots Q ls h kk
  exact lv_iushr hx hb hd rfl (kk ls h)
theorem xr_ladd {a b : Int64} (F : xF x own cc ret) (hd : decode cc pc = .ok (.ladd, 1))  (k : xI x emb (pc + 1) lv (.long (a + b) :: st) cm) : xI x emb pc lv (.long b :: .long a :: st) cm := by
  refine xI.go (lv' := lv) ?_ k
  obtain ⟨p, l, e, R, s, m, args, below, meth, c, D, s0, Γ, nL, b0⟩ := x
  obtain ⟨hx, hb, hml, hown, -⟩ := F
  intro H locs cells slots Q ls h kk
  exact lv_ladd hx hb hd (kk ls h)
theorem xr_lsub {a b : Int64} (F : xF x own cc ret) (hd : decode cc pc = .ok (.lsub, 1))  (k : xI x emb (pc + 1) lv (.long (a - b) :: st) cm) : xI x emb pc lv (.long b :: .long a :: st) cm := by
  refine xI.go (lv' := lv) ?_ k
  obtain ⟨p, l, e, R, s, m, args, below, meth, c, D, s0, Γ, nL, b0⟩ := x
  obtain ⟨hx, hb, hml, hown, -⟩ := F
  intro H locs cells slots Q ls h kk
  exact lv_lsub hx hb hd (kk ls h)
theorem xr_lmul {a b : Int64} (F : xF x own cc ret) (hd : decode cc pc = .ok (.lmul, 1))  (k : xI x emb (pc + 1) lv (.long (a * b) :: st) cm) : xI x emb pc lv (.long b :: .long a :: st) cm := by
  refine xI.go (lv' := lv) ?_ k
  obtain ⟨p, l, e, R, s, m, args, below, meth, c, D, s0, Γ, nL, b0⟩ := x
  obtain ⟨hx, hb, hml, hown, -⟩ := F
  intro H locs cells slots Q ls h kk
  exact lv_lmul hx hb hd (kk ls h)
theorem xr_land {a b : Int64} (F : xF x own cc ret) (hd : decode cc pc = .ok (.land, 1))  (k : xI x emb (pc + 1) lv (.long (a &&& b) :: st) cm) : xI x emb pc lv (.long b :: .long a :: st) cm := by
  refine xI.go (lv' := lv) ?_ k
  obtain ⟨p, l, e, R, s, m, args, below, meth, c, D, s0, Γ, nL, b0⟩ := x
  obtain ⟨hx, hb, hml, hown, -⟩ := F
  intro H locs cells slots Q ls h kk
  exact lv_land hx hb hd (kk ls h)
theorem xr_lor {a b : Int64} (F : xF x own cc ret) (hd : decode cc pc = .ok (.lor, 1))  (k : xI x emb (pc + 1) lv (.long (a ||| b) :: st) cm) : xI x emb pc lv (.long b :: .long a :: st) cm := by
  refine xI.go (lv' := lv) ?_ k
  obtain ⟨p, l, e, R, s, m, args, below, meth, c, D, s0, Γ, nL, b0⟩ := x
  obtain ⟨hx, hb, hml, hown, -⟩ := F
  intro H locs cells slots Q ls h kk
  exact lv_lor hx hb hd (kk ls h)
theorem xr_lxor {a b : Int64} (F : xF x own cc ret) (hd : decode cc pc = .ok (.lxor, 1))  (k : xI x emb (pc + 1) lv (.long (a ^^^ b) :: st) cm) : xI x emb pc lv (.long b :: .long a :: st) cm := by
  refine xI.go (lv' := lv) ?_ k
  obtain ⟨p, l, e, R, s, m, args, below, meth, c, D, s0, Γ, nL, b0⟩ := x
  obtain ⟨hx, hb, hml, hown, -⟩ := F
  intro H locs cells slots Q ls h kk
  exact lv_lxor hx hb hd (kk ls h)
theorem xr_ineg {a : Int32} (F : xF x own cc ret) (hd : decode cc pc = .ok (.ineg, 1))  (k : xI x emb (pc + 1) lv (.int (-a) :: st) cm) : xI x emb pc lv (.int a :: st) cm := by
  refine xI.go (lv' := lv) ?_ k
  obtain ⟨p, l, e, R, s, m, args, below, meth, c, D, s0, Γ, nL, b0⟩ := x
  obtain ⟨hx, hb, hml, hown, -⟩ := F
  intro H locs cells slots Q ls h kk
  exact lv_ineg hx hb hd (kk ls h)
theorem xr_i2l {a : Int32} (F : xF x own cc ret) (hd : decode cc pc = .ok (.i2l, 1))  (k : xI x emb (pc + 1) lv (.long a.toInt64 :: st) cm) : xI x emb pc lv (.int a :: st) cm := by
  refine xI.go (lv' := lv) ?_ k
  obtain ⟨p, l, e, R, s, m, args, below, meth, c, D, s0, Γ, nL, b0⟩ := x
  obtain ⟨hx, hb, hml, hown, -⟩ := F
  intro H locs cells slots Q ls h kk
  exact lv_i2l hx hb hd rfl (kk ls h)
theorem xr_l2i {a : Int64} (F : xF x own cc ret) (hd : decode cc pc = .ok (.l2i, 1))  (k : xI x emb (pc + 1) lv (.int a.toInt32 :: st) cm) : xI x emb pc lv (.long a :: st) cm := by
  refine xI.go (lv' := lv) ?_ k
  obtain ⟨p, l, e, R, s, m, args, below, meth, c, D, s0, Γ, nL, b0⟩ := x
  obtain ⟨hx, hb, hml, hown, -⟩ := F
  intro H locs cells slots Q ls h kk
  exact lv_l2i hx hb hd rfl (kk ls h)
theorem xr_i2b {a : Int32} (F : xF x own cc ret) (hd : decode cc pc = .ok (.i2b, 1))  (k : xI x emb (pc + 1) lv (.int a.toInt8.toInt32 :: st) cm) : xI x emb pc lv (.int a :: st) cm := by
  refine xI.go (lv' := lv) ?_ k
  obtain ⟨p, l, e, R, s, m, args, below, meth, c, D, s0, Γ, nL, b0⟩ := x
  obtain ⟨hx, hb, hml, hown, -⟩ := F
  intro H locs cells slots Q ls h kk
  exact lv_i2b hx hb hd rfl (kk ls h)
theorem xr_i2c {a : Int32} (F : xF x own cc ret) (hd : decode cc pc = .ok (.i2c, 1))  (k : xI x emb (pc + 1) lv (.int (a.toUInt32 % 65536).toInt32 :: st) cm) : xI x emb pc lv (.int a :: st) cm := by
  refine xI.go (lv' := lv) ?_ k
  obtain ⟨p, l, e, R, s, m, args, below, meth, c, D, s0, Γ, nL, b0⟩ := x
  obtain ⟨hx, hb, hml, hown, -⟩ := F
  intro H locs cells slots Q ls h kk
  exact lv_i2c hx hb hd rfl (kk ls h)
theorem xr_i2d {a : Int32} (F : xF x own cc ret) (hd : decode cc pc = .ok (.i2d, 1))  (k : xI x emb (pc + 1) lv (.double (FP.i2d a) :: st) cm) : xI x emb pc lv (.int a :: st) cm := by
  refine xI.go (lv' := lv) ?_ k
  obtain ⟨p, l, e, R, s, m, args, below, meth, c, D, s0, Γ, nL, b0⟩ := x
  obtain ⟨hx, hb, hml, hown, -⟩ := F
  intro H locs cells slots Q ls h kk
  exact lv_i2d hx hb hd (kk ls h)
theorem xr_l2d {a : Int64} (F : xF x own cc ret) (hd : decode cc pc = .ok (.l2d, 1))  (k : xI x emb (pc + 1) lv (.double (FP.l2d a) :: st) cm) : xI x emb pc lv (.long a :: st) cm := by
  refine xI.go (lv' := lv) ?_ k
  obtain ⟨p, l, e, R, s, m, args, below, meth, c, D, s0, Γ, nL, b0⟩ := x
  obtain ⟨hx, hb, hml, hown, -⟩ := F
  intro H locs cells slots Q ls h kk
  exact lv_l2d hx hb hd (kk ls h)
theorem xr_lcmp {a b : Int64} (F : xF x own cc ret) (hd : decode cc pc = .ok (.lcmp, 1))  (k : xI x emb (pc + 1) lv (.int (lg_cmp a b) :: st) cm) : xI x emb pc lv (.long b :: .long a :: st) cm := by
  refine xI.go (lv' := lv) ?_ k
  obtain ⟨p, l, e, R, s, m, args, below, meth, c, D, s0, Γ, nL, b0⟩ := x
  obtain ⟨hx, hb, hml, hown, -⟩ := F
  intro H locs cells slots Q ls h kk
  exact W.lcmp hx hb hd (kk ls h)
theorem xr_dcmp {a b : UInt64} {op : CmpOp} (F : xF x own cc ret) (hd : decode cc pc = .ok (.dcmp op, 1))  (k : xI x emb (pc + 1) lv (.int (Op.cmpValue (FP.dcmp a b) op) :: st) cm) : xI x emb pc lv (.double b :: .double a :: st) cm := by
  refine xI.go (lv' := lv) ?_ k
  obtain ⟨p, l, e, R, s, m, args, below, meth, c, D, s0, Γ, nL, b0⟩ := x
  obtain ⟨hx, hb, hml, hown, -⟩ := F
  intro H locs cells slots Q ls h kk
  exact lv_dcmp hx hb hd (kk ls h)
theorem xr_lshl {a : Int64} {b : Int32} (F : xF x own cc ret) (hd : decode cc pc = .ok (.lshl, 1))  (k : xI x emb (pc + 1) lv (.long (a <<< (b.toInt64 &&& 63)) :: st) cm) : xI x emb pc lv (.int b :: .long a :: st) cm := by
  refine xI.go (lv' := lv) ?_ k
  obtain ⟨p, l, e, R, s, m, args, below, meth, c, D, s0, Γ, nL, b0⟩ := x
  obtain ⟨hx, hb, hml, hown, -⟩ := F
  intro H locs cells slots Q ls h kk
  exact lv_lshl hx hb hd rfl (kk ls h)
theorem xr_lushr {a : Int64} {b : Int32} (F : xF x own cc ret) (hd : decode cc pc = .ok (.lushr, 1))  (k : xI x emb (pc + 1) lv (.long ((a.toUInt64 >>> (b.toInt64.toUInt64 &&& Int64.toUInt64 63)).toInt64) :: st) cm) : xI x emb pc lv (.int b :: .long a :: st) cm := by
  refine xI.go (lv' := lv) ?_ k
  obtain ⟨p, l, e, R, s, m, args, below, meth, c, D, s0, Γ, nL, b0⟩ := x
  obtain ⟨hx, hb, hml, hown, -⟩ := F
  intro H locs cells slots Q ls h kk
  exact lv_lushr hx hb hd rfl (kk ls h)
/-- a division: the divisor isn't 0 -/
def xdv {α : Type} (b : Int32) (k : xM α) : xM α := if b = 0 then xstuck else k
def xdvJ {α : Type} (b : Int64) (k : xM α) : xM α := if b = 0 then xstuck else k
def xnan {α : Type} (v : UInt64) (k : xM α) : xM α := if v &&& 0x7fffffffffffffff ≤ 0x7ff0000000000000 then k else xstuck
theorem xr_idiv {a b : Int32} (F : xF x own cc ret) (hd : decode cc pc = .ok (.idiv, 1)) (k : xI x emb (pc + 1) lv (.int (a / b) :: st) cm) : xI x emb pc lv (.int b :: .int a :: st) (xdv b cm) := by
  unfold xdv
  refine xI.split (fun _ => xI.stuck) (fun hne => ?_)
  refine xI.go ?_ k
  obtain ⟨p, l, e, R, s, m, args, below, meth, c, D, s0, Γ, nL, b0⟩ := x
  obtain ⟨hx, hb, -⟩ := F
  intro H locs cells slots Q ls h kk
  exact lv_idiv hx hb hd hne (kk ls h)
theorem xr_irem {a b : Int32} (F : xF x own cc ret) (hd : decode cc pc = .ok (.irem, 1)) (k : xI x emb (pc + 1) lv (.int (a - a / b * b) :: st) cm) : xI x emb pc lv (.int b :: .int a :: st) (xdv b cm) := by
  unfold xdv
  refine xI.split (fun _ => xI.stuck) (fun hne => ?_)
  refine xI.go ?_ k
  obtain ⟨p, l, e, R, s, m, args, below, meth, c, D, s0, Γ, nL, b0⟩ := x
  obtain ⟨hx, hb, -⟩ := F
  intro H locs cells slots Q ls h kk
  exact lv_irem hx hb hd hne (kk ls h)
theorem xr_ldiv {a b : Int64} (F : xF x own cc ret) (hd : decode cc pc = .ok (.ldiv, 1)) (k : xI x emb (pc + 1) lv (.long (a / b) :: st) cm) : xI x emb pc lv (.long b :: .long a :: st) (xdvJ b cm) := by
  unfold xdvJ
  refine xI.split (fun _ => xI.stuck) (fun hne => ?_)
  refine xI.go ?_ k
  obtain ⟨p, l, e, R, s, m, args, below, meth, c, D, s0, Γ, nL, b0⟩ := x
  obtain ⟨hx, hb, -⟩ := F
  intro H locs cells slots Q ls h kk
  exact lv_ldiv hx hb hd hne (kk ls h)
theorem xr_dadd {a b : UInt64} (F : xF x own cc ret) (hd : decode cc pc = .ok (.dadd, 1)) (k : xI x emb (pc + 1) lv (.double (FP.dadd a b) :: st) cm) : xI x emb pc lv (.double b :: .double a :: st) (xnan (FP.dadd a b) cm) := by
  unfold xnan
  refine xI.split (fun hne => ?_) (fun _ => xI.stuck)
  refine xI.go ?_ k
  obtain ⟨p, l, e, R, s, m, args, below, meth, c, D, s0, Γ, nL, b0⟩ := x
  obtain ⟨hx, hb, -⟩ := F
  intro H locs cells slots Q ls h kk
  exact lv_dadd hx hb hd hne (kk ls h)
theorem xr_dsub {a b : UInt64} (F : xF x own cc ret) (hd : decode cc pc = .ok (.dsub, 1)) (k : xI x emb (pc + 1) lv (.double (FP.dsub a b) :: st) cm) : xI x emb pc lv (.double b :: .double a :: st) (xnan (FP.dsub a b) cm) := by
  unfold xnan
  refine xI.split (fun hne => ?_) (fun _ => xI.stuck)
  refine xI.go ?_ k
  obtain ⟨p, l, e, R, s, m, args, below, meth, c, D, s0, Γ, nL, b0⟩ := x
  obtain ⟨hx, hb, -⟩ := F
  intro H locs cells slots Q ls h kk
  exact lv_dsub hx hb hd hne (kk ls h)
theorem xr_dmul {a b : UInt64} (F : xF x own cc ret) (hd : decode cc pc = .ok (.dmul, 1)) (k : xI x emb (pc + 1) lv (.double (FP.dmul a b) :: st) cm) : xI x emb pc lv (.double b :: .double a :: st) (xnan (FP.dmul a b) cm) := by
  unfold xnan
  refine xI.split (fun hne => ?_) (fun _ => xI.stuck)
  refine xI.go ?_ k
  obtain ⟨p, l, e, R, s, m, args, below, meth, c, D, s0, Γ, nL, b0⟩ := x
  obtain ⟨hx, hb, -⟩ := F
  intro H locs cells slots Q ls h kk
  exact lv_dmul hx hb hd hne (kk ls h)
theorem xr_ddiv {a b : UInt64} (F : xF x own cc ret) (hd : decode cc pc = .ok (.ddiv, 1)) (k : xI x emb (pc + 1) lv (.double (FP.ddiv a b) :: st) cm) : xI x emb pc lv (.double b :: .double a :: st) (xnan (FP.ddiv a b) cm) := by
  unfold xnan
  refine xI.split (fun hne => ?_) (fun _ => xI.stuck)
  refine xI.go ?_ k
  obtain ⟨p, l, e, R, s, m, args, below, meth, c, D, s0, Γ, nL, b0⟩ := x
  obtain ⟨hx, hb, -⟩ := F
  intro H locs cells slots Q ls h kk
  exact lv_ddiv hx hb hd hne (kk ls h)
theorem xr_dup {va : Value} (F : xF x own cc ret) (hd : decode cc pc = .ok (.dup, 1)) (hva : va.category = 1) (k : xI x emb (pc + 1) lv (va :: va :: st) cm) : xI x emb pc lv (va :: st) cm := by
  refine xI.go (lv' := lv) ?_ k
  obtain ⟨p, l, e, R, s, m, args, below, meth, c, D, s0, Γ, nL, b0⟩ := x
  obtain ⟨hx, hb, hml, hown, -⟩ := F
  intro H locs cells slots Q ls h kk
  exact lv_dup hx hb hd hva (kk ls h)
theorem xr_pop {va : Value} (F : xF x own cc ret) (hd : decode cc pc = .ok (.pop, 1)) (hva : va.category = 1) (k : xI x emb (pc + 1) lv (st) cm) : xI x emb pc lv (va :: st) cm := by
  refine xI.go (lv' := lv) ?_ k
  obtain ⟨p, l, e, R, s, m, args, below, meth, c, D, s0, Γ, nL, b0⟩ := x
  obtain ⟨hx, hb, hml, hown, -⟩ := F
  intro H locs cells slots Q ls h kk
  exact lv_pop hx hb hd hva (kk ls h)
theorem xr_dup_x1 {va vb : Value} (F : xF x own cc ret) (hd : decode cc pc = .ok (.dup_x1, 1)) (hva : va.category = 1) (hvb : vb.category = 1) (k : xI x emb (pc + 1) lv (va :: vb :: va :: st) cm) : xI x emb pc lv (va :: vb :: st) cm := by
  refine xI.go (lv' := lv) ?_ k
  obtain ⟨p, l, e, R, s, m, args, below, meth, c, D, s0, Γ, nL, b0⟩ := x
  obtain ⟨hx, hb, hml, hown, -⟩ := F
  intro H locs cells slots Q ls h kk
  exact lv_dup_x1 hx hb hd hva hvb (kk ls h)
theorem xr_dup_x2 {va vb vc : Value} (F : xF x own cc ret) (hd : decode cc pc = .ok (.dup_x2, 1)) (hva : va.category = 1) (hvb : vb.category = 1) (hvc : vc.category = 1) (k : xI x emb (pc + 1) lv (va :: vb :: vc :: va :: st) cm) : xI x emb pc lv (va :: vb :: vc :: st) cm := by
  refine xI.go (lv' := lv) ?_ k
  obtain ⟨p, l, e, R, s, m, args, below, meth, c, D, s0, Γ, nL, b0⟩ := x
  obtain ⟨hx, hb, hml, hown, -⟩ := F
  intro H locs cells slots Q ls h kk
  exact lv_dup_x2 hx hb hd hva hvb hvc (kk ls h)
theorem xr_dup2_11 {va vb : Value} (F : xF x own cc ret) (hd : decode cc pc = .ok (.dup2, 1)) (hva : va.category = 1) (hvb : vb.category = 1) (k : xI x emb (pc + 1) lv (va :: vb :: va :: vb :: st) cm) : xI x emb pc lv (va :: vb :: st) cm := by
  refine xI.go (lv' := lv) ?_ k
  obtain ⟨p, l, e, R, s, m, args, below, meth, c, D, s0, Γ, nL, b0⟩ := x
  obtain ⟨hx, hb, hml, hown, -⟩ := F
  intro H locs cells slots Q ls h kk
  exact lv_dup2_11 hx hb hd hva hvb (kk ls h)
theorem xr_dup2_2 {va : Value} (F : xF x own cc ret) (hd : decode cc pc = .ok (.dup2, 1)) (hva : va.category = 2) (k : xI x emb (pc + 1) lv (va :: va :: st) cm) : xI x emb pc lv (va :: st) cm := by
  refine xI.go (lv' := lv) ?_ k
  obtain ⟨p, l, e, R, s, m, args, below, meth, c, D, s0, Γ, nL, b0⟩ := x
  obtain ⟨hx, hb, hml, hown, -⟩ := F
  intro H locs cells slots Q ls h kk
  exact lv_dup2_2 hx hb hd hva (kk ls h)
theorem xr_goto {off : Int} (tgt : Nat) (F : xF x own cc ret) (hd : decode cc pc = .ok (.goto off, 3)) (ht : (pc : Int) + off = (tgt : Int)) (k : xI x emb tgt lv st cm) : xI x emb pc lv st cm := by
  refine xI.go ?_ k
  obtain ⟨p, l, e, R, s, m, args, below, meth, c, D, s0, Γ, nL, b0⟩ := x
  obtain ⟨hx, hb, -⟩ := F
  intro H locs cells slots Q ls h kk
  exact lv_goto hx hb hd ht (kk ls h)
theorem xr_if_eq {a : Int32} {off : Int} (tgt : Nat) (F : xF x own cc ret) (hd : decode cc pc = .ok (.ifCond .eq off, 3)) (ht : (pc : Int) + off = (tgt : Int)) (k1 : xI x emb tgt lv st cm1) (k2 : xI x emb (pc + 3) lv st cm2) : xI x emb pc lv (.int a :: st) (if a = 0 then cm1 else cm2) := by
  refine xI.split (fun hc => ?_) (fun hc => ?_)
  · refine xI.go ?_ k1
    obtain ⟨p, l, e, R, s, m, args, below, meth, c, D, s0, Γ, nL, b0⟩ := x
    obtain ⟨hx, hb, -⟩ := F
    intro H locs cells slots Q ls h kk
    exact lv_if_eq hx hb hd ht (fun _ => kk ls h) (fun z => absurd hc z)
  · refine xI.go ?_ k2
    obtain ⟨p, l, e, R, s, m, args, below, meth, c, D, s0, Γ, nL, b0⟩ := x
    obtain ⟨hx, hb, -⟩ := F
    intro H locs cells slots Q ls h kk
    exact lv_if_eq hx hb hd ht (fun z => absurd z hc) (fun _ => kk ls h)
theorem xr_icmp_eq {a b : Int32} {off : Int} (tgt : Nat) (F : xF x own cc ret) (hd : decode cc pc = .ok (.if_icmp .eq off, 3)) (ht : (pc : Int) + off = (tgt : Int)) (k1 : xI x emb tgt lv st cm1) (k2 : xI x emb (pc + 3) lv st cm2) : xI x emb pc lv (.int b :: .int a :: st) (if a = b then cm1 else cm2) := by
  refine xI.split (fun hc => ?_) (fun hc => ?_)
  · refine xI.go ?_ k1
    obtain ⟨p, l, e, R, s, m, args, below, meth, c, D, s0, Γ, nL, b0⟩ := x
    obtain ⟨hx, hb, -⟩ := F
    intro H locs cells slots Q ls h kk
    exact lv_icmp_eq hx hb hd ht (fun _ => kk ls h) (fun z => absurd hc z)
  · refine xI.go ?_ k2
    obtain ⟨p, l, e, R, s, m, args, below, meth, c, D, s0, Γ, nL, b0⟩ := x
    obtain ⟨hx, hb, -⟩ := F
    intro H locs cells slots Q ls h kk
    exact lv_icmp_eq hx hb hd ht (fun z => absurd z hc) (fun _ => kk ls h)
theorem xr_if_ge {a : Int32} {off : Int} (tgt : Nat) (F : xF x own cc ret) (hd : decode cc pc = .ok (.ifCond .ge off, 3)) (ht : (pc : Int) + off = (tgt : Int)) (k1 : xI x emb tgt lv st cm1) (k2 : xI x emb (pc + 3) lv st cm2) : xI x emb pc lv (.int a :: st) (if 0 ≤ a then cm1 else cm2) := by
  refine xI.split (fun hc => ?_) (fun hc => ?_)
  · refine xI.go ?_ k1
    obtain ⟨p, l, e, R, s, m, args, below, meth, c, D, s0, Γ, nL, b0⟩ := x
    obtain ⟨hx, hb, -⟩ := F
    intro H locs cells slots Q ls h kk
    exact lv_if_ge hx hb hd ht (fun _ => kk ls h) (fun z => absurd hc z)
  · refine xI.go ?_ k2
    obtain ⟨p, l, e, R, s, m, args, below, meth, c, D, s0, Γ, nL, b0⟩ := x
    obtain ⟨hx, hb, -⟩ := F
    intro H locs cells slots Q ls h kk
    exact lv_if_ge hx hb hd ht (fun z => absurd z hc) (fun _ => kk ls h)
theorem xr_icmp_ge {a b : Int32} {off : Int} (tgt : Nat) (F : xF x own cc ret) (hd : decode cc pc = .ok (.if_icmp .ge off, 3)) (ht : (pc : Int) + off = (tgt : Int)) (k1 : xI x emb tgt lv st cm1) (k2 : xI x emb (pc + 3) lv st cm2) : xI x emb pc lv (.int b :: .int a :: st) (if b ≤ a then cm1 else cm2) := by
  refine xI.split (fun hc => ?_) (fun hc => ?_)
  · refine xI.go ?_ k1
    obtain ⟨p, l, e, R, s, m, args, below, meth, c, D, s0, Γ, nL, b0⟩ := x
    obtain ⟨hx, hb, -⟩ := F
    intro H locs cells slots Q ls h kk
    exact lv_icmp_ge hx hb hd ht (fun _ => kk ls h) (fun z => absurd hc z)
  · refine xI.go ?_ k2
    obtain ⟨p, l, e, R, s, m, args, below, meth, c, D, s0, Γ, nL, b0⟩ := x
    obtain ⟨hx, hb, -⟩ := F
    intro H locs cells slots Q ls h kk
    exact lv_icmp_ge hx hb hd ht (fun z => absurd z hc) (fun _ => kk ls h)
theorem xr_if_gt {a : Int32} {off : Int} (tgt : Nat) (F : xF x own cc ret) (hd : decode cc pc = .ok (.ifCond .gt off, 3)) (ht : (pc : Int) + off = (tgt : Int)) (k1 : xI x emb tgt lv st cm1) (k2 : xI x emb (pc + 3) lv st cm2) : xI x emb pc lv (.int a :: st) (if 0 < a then cm1 else cm2) := by
  refine xI.split (fun hc => ?_) (fun hc => ?_)
  · refine xI.go ?_ k1
    obtain ⟨p, l, e, R, s, m, args, below, meth, c, D, s0, Γ, nL, b0⟩ := x
    obtain ⟨hx, hb, -⟩ := F
    intro H locs cells slots Q ls h kk
    exact lv_if_gt hx hb hd ht (fun _ => kk ls h) (fun z => absurd hc z)
  · refine xI.go ?_ k2
    obtain ⟨p, l, e, R, s, m, args, below, meth, c, D, s0, Γ, nL, b0⟩ := x
    obtain ⟨hx, hb, -⟩ := F
    intro H locs cells slots Q ls h kk
    exact lv_if_gt hx hb hd ht (fun z => absurd z hc) (fun _ => kk ls h)
theorem xr_icmp_gt {a b : Int32} {off : Int} (tgt : Nat) (F : xF x own cc ret) (hd : decode cc pc = .ok (.if_icmp .gt off, 3)) (ht : (pc : Int) + off = (tgt : Int)) (k1 : xI x emb tgt lv st cm1) (k2 : xI x emb (pc + 3) lv st cm2) : xI x emb pc lv (.int b :: .int a :: st) (if b < a then cm1 else cm2) := by
  refine xI.split (fun hc => ?_) (fun hc => ?_)
  · refine xI.go ?_ k1
    obtain ⟨p, l, e, R, s, m, args, below, meth, c, D, s0, Γ, nL, b0⟩ := x
    obtain ⟨hx, hb, -⟩ := F
    intro H locs cells slots Q ls h kk
    exact lv_icmp_gt hx hb hd ht (fun _ => kk ls h) (fun z => absurd hc z)
  · refine xI.go ?_ k2
    obtain ⟨p, l, e, R, s, m, args, below, meth, c, D, s0, Γ, nL, b0⟩ := x
    obtain ⟨hx, hb, -⟩ := F
    intro H locs cells slots Q ls h kk
    exact lv_icmp_gt hx hb hd ht (fun z => absurd z hc) (fun _ => kk ls h)
theorem xr_if_lt {a : Int32} {off : Int} (tgt : Nat) (F : xF x own cc ret) (hd : decode cc pc = .ok (.ifCond .lt off, 3)) (ht : (pc : Int) + off = (tgt : Int)) (k1 : xI x emb tgt lv st cm1) (k2 : xI x emb (pc + 3) lv st cm2) : xI x emb pc lv (.int a :: st) (if a < 0 then cm1 else cm2) := by
  refine xI.split (fun hc => ?_) (fun hc => ?_)
  · refine xI.go ?_ k1
    obtain ⟨p, l, e, R, s, m, args, below, meth, c, D, s0, Γ, nL, b0⟩ := x
    obtain ⟨hx, hb, -⟩ := F
    intro H locs cells slots Q ls h kk
    exact lv_if_lt hx hb hd ht (fun _ => kk ls h) (fun z => absurd hc z)
  · refine xI.go ?_ k2
    obtain ⟨p, l, e, R, s, m, args, below, meth, c, D, s0, Γ, nL, b0⟩ := x
    obtain ⟨hx, hb, -⟩ := F
    intro H locs cells slots Q ls h kk
    exact lv_if_lt hx hb hd ht (fun z => absurd z hc) (fun _ => kk ls h)
theorem xr_icmp_lt {a b : Int32} {off : Int} (tgt : Nat) (F : xF x own cc ret) (hd : decode cc pc = .ok (.if_icmp .lt off, 3)) (ht : (pc : Int) + off = (tgt : Int)) (k1 : xI x emb tgt lv st cm1) (k2 : xI x emb (pc + 3) lv st cm2) : xI x emb pc lv (.int b :: .int a :: st) (if a < b then cm1 else cm2) := by
  refine xI.split (fun hc => ?_) (fun hc => ?_)
  · refine xI.go ?_ k1
    obtain ⟨p, l, e, R, s, m, args, below, meth, c, D, s0, Γ, nL, b0⟩ := x
    obtain ⟨hx, hb, -⟩ := F
    intro H locs cells slots Q ls h kk
    exact lv_icmp_lt hx hb hd ht (fun _ => kk ls h) (fun z => absurd hc z)
  · refine xI.go ?_ k2
    obtain ⟨p, l, e, R, s, m, args, below, meth, c, D, s0, Γ, nL, b0⟩ := x
    obtain ⟨hx, hb, -⟩ := F
    intro H locs cells slots Q ls h kk
    exact lv_icmp_lt hx hb hd ht (fun z => absurd z hc) (fun _ => kk ls h)
theorem xr_if_le {a : Int32} {off : Int} (tgt : Nat) (F : xF x own cc ret) (hd : decode cc pc = .ok (.ifCond .le off, 3)) (ht : (pc : Int) + off = (tgt : Int)) (k1 : xI x emb tgt lv st cm1) (k2 : xI x emb (pc + 3) lv st cm2) : xI x emb pc lv (.int a :: st) (if a ≤ 0 then cm1 else cm2) := by
  refine xI.split (fun hc => ?_) (fun hc => ?_)
  · refine xI.go ?_ k1
    obtain ⟨p, l, e, R, s, m, args, below, meth, c, D, s0, Γ, nL, b0⟩ := x
    obtain ⟨hx, hb, -⟩ := F
    intro H locs cells slots Q ls h kk
    exact lv_if_le hx hb hd ht (fun _ => kk ls h) (fun z => absurd hc z)
  · refine xI.go ?_ k2
    obtain ⟨p, l, e, R, s, m, args, below, meth, c, D, s0, Γ, nL, b0⟩ := x
    obtain ⟨hx, hb, -⟩ := F
    intro H locs cells slots Q ls h kk
    exact lv_if_le hx hb hd ht (fun z => absurd z hc) (fun _ => kk ls h)
theorem xr_icmp_le {a b : Int32} {off : Int} (tgt : Nat) (F : xF x own cc ret) (hd : decode cc pc = .ok (.if_icmp .le off, 3)) (ht : (pc : Int) + off = (tgt : Int)) (k1 : xI x emb tgt lv st cm1) (k2 : xI x emb (pc + 3) lv st cm2) : xI x emb pc lv (.int b :: .int a :: st) (if a ≤ b then cm1 else cm2) := by
  refine xI.split (fun hc => ?_) (fun hc => ?_)
  · refine xI.go ?_ k1
    obtain ⟨p, l, e, R, s, m, args, below, meth, c, D, s0, Γ, nL, b0⟩ := x
    obtain ⟨hx, hb, -⟩ := F
    intro H locs cells slots Q ls h kk
    exact lv_icmp_le hx hb hd ht (fun _ => kk ls h) (fun z => absurd hc z)
  · refine xI.go ?_ k2
    obtain ⟨p, l, e, R, s, m, args, below, meth, c, D, s0, Γ, nL, b0⟩ := x
    obtain ⟨hx, hb, -⟩ := F
    intro H locs cells slots Q ls h kk
    exact lv_icmp_le hx hb hd ht (fun z => absurd z hc) (fun _ => kk ls h)
theorem xr_if_ne {a : Int32} {off : Int} (tgt : Nat) (F : xF x own cc ret) (hd : decode cc pc = .ok (.ifCond .ne off, 3)) (ht : (pc : Int) + off = (tgt : Int)) (k1 : xI x emb (pc + 3) lv st cm1) (k2 : xI x emb tgt lv st cm2) : xI x emb pc lv (.int a :: st) (if a = 0 then cm1 else cm2) := by
  refine xI.split (fun hc => ?_) (fun hc => ?_)
  · refine xI.go ?_ k1
    obtain ⟨p, l, e, R, s, m, args, below, meth, c, D, s0, Γ, nL, b0⟩ := x
    obtain ⟨hx, hb, -⟩ := F
    intro H locs cells slots Q ls h kk
    exact lv_if_ne hx hb hd ht (fun z => absurd hc z) (fun _ => kk ls h)
  · refine xI.go ?_ k2
    obtain ⟨p, l, e, R, s, m, args, below, meth, c, D, s0, Γ, nL, b0⟩ := x
    obtain ⟨hx, hb, -⟩ := F
    intro H locs cells slots Q ls h kk
    exact lv_if_ne hx hb hd ht (fun _ => kk ls h) (fun z => absurd z hc)
theorem xr_icmp_ne {a b : Int32} {off : Int} (tgt : Nat) (F : xF x own cc ret) (hd : decode cc pc = .ok (.if_icmp .ne off, 3)) (ht : (pc : Int) + off = (tgt : Int)) (k1 : xI x emb (pc + 3) lv st cm1) (k2 : xI x emb tgt lv st cm2) : xI x emb pc lv (.int b :: .int a :: st) (if a = b then cm1 else cm2) := by
  refine xI.split (fun hc => ?_) (fun hc => ?_)
  · refine xI.go ?_ k1
    obtain ⟨p, l, e, R, s, m, args, below, meth, c, D, s0, Γ, nL, b0⟩ := x
    obtain ⟨hx, hb, -⟩ := F
    intro H locs cells slots Q ls h kk
    exact lv_icmp_ne hx hb hd ht (fun z => absurd hc z) (fun _ => kk ls h)
  · refine xI.go ?_ k2
    obtain ⟨p, l, e, R, s, m, args, below, meth, c, D, s0, Γ, nL, b0⟩ := x
    obtain ⟨hx, hb, -⟩ := F
    intro H locs cells slots Q ls h kk
    exact lv_icmp_ne hx hb hd ht (fun _ => kk ls h) (fun z => absurd z hc)
theorem xr_acmp_eq {a b : Option Nat} {off : Int} (tgt : Nat) (F : xF x own cc ret) (hd : decode cc pc = .ok (.if_acmp .eq off, 3)) (ht : (pc : Int) + off = (tgt : Int)) (k1 : xI x emb tgt lv st cm1) (k2 : xI x emb (pc + 3) lv st cm2) : xI x emb pc lv (va_rf b :: va_rf a :: st) (if a = b then cm1 else cm2) := by
  refine xI.split (fun hc => ?_) (fun hc => ?_)
  · refine xI.go ?_ k1
    obtain ⟨p, l, e, R, s, m, args, below, meth, c, D, s0, Γ, nL, b0⟩ := x
    obtain ⟨hx, hb, -⟩ := F
    intro H locs cells slots Q ls h kk
    exact lv_acmp_eq hx hb hd ht (fun _ => kk ls h) (fun z => absurd hc z)
  · refine xI.go ?_ k2
    obtain ⟨p, l, e, R, s, m, args, below, meth, c, D, s0, Γ, nL, b0⟩ := x
    obtain ⟨hx, hb, -⟩ := F
    intro H locs cells slots Q ls h kk
    exact lv_acmp_eq hx hb hd ht (fun z => absurd z hc) (fun _ => kk ls h)
theorem xr_acmp_ne {a b : Option Nat} {off : Int} (tgt : Nat) (F : xF x own cc ret) (hd : decode cc pc = .ok (.if_acmp .ne off, 3)) (ht : (pc : Int) + off = (tgt : Int)) (k1 : xI x emb (pc + 3) lv st cm1) (k2 : xI x emb tgt lv st cm2) : xI x emb pc lv (va_rf b :: va_rf a :: st) (if a = b then cm1 else cm2) := by
  refine xI.split (fun hc => ?_) (fun hc => ?_)
  · refine xI.go ?_ k1
    obtain ⟨p, l, e, R, s, m, args, below, meth, c, D, s0, Γ, nL, b0⟩ := x
    obtain ⟨hx, hb, -⟩ := F
    intro H locs cells slots Q ls h kk
    exact lv_acmp_ne hx hb hd ht (fun z => absurd hc z) (fun _ => kk ls h)
  · refine xI.go ?_ k2
    obtain ⟨p, l, e, R, s, m, args, below, meth, c, D, s0, Γ, nL, b0⟩ := x
    obtain ⟨hx, hb, -⟩ := F
    intro H locs cells slots Q ls h kk
    exact lv_acmp_ne hx hb hd ht (fun _ => kk ls h) (fun z => absurd z hc)
theorem xr_ifnull {a : Option Nat} {off : Int} (tgt : Nat) (F : xF x own cc ret) (hd : decode cc pc = .ok (.ifnull off, 3)) (ht : (pc : Int) + off = (tgt : Int)) (k1 : xI x emb (tgt) lv st cm1) (k2 : xI x emb (pc + 3) lv st cm2) : xI x emb pc lv (va_rf a :: st) (if a = none then cm1 else cm2) := by
  cases a with
  | none =>
    rw [if_pos rfl]
    refine xI.go ?_ k1
    obtain ⟨p, l, e, R, s, m, args, below, meth, c, D, s0, Γ, nL, b0⟩ := x
    obtain ⟨hx, hb, -⟩ := F
    intro H locs cells slots Q ls h kk
    exact lv_ifnullN hx hb hd ht (kk ls h)
  | some a =>
    rw [if_neg (by simp)]
    refine xI.go ?_ k2
    obtain ⟨p, l, e, R, s, m, args, below, meth, c, D, s0, Γ, nL, b0⟩ := x
    obtain ⟨hx, hb, -⟩ := F
    intro H locs cells slots Q ls h kk
    exact lv_ifnull hx hb hd (kk ls h)
theorem xr_ifnonnull {a : Option Nat} {off : Int} (tgt : Nat) (F : xF x own cc ret) (hd : decode cc pc = .ok (.ifnonnull off, 3)) (ht : (pc : Int) + off = (tgt : Int)) (k1 : xI x emb (pc + 3) lv st cm1) (k2 : xI x emb (tgt) lv st cm2) : xI x emb pc lv (va_rf a :: st) (if a = none then cm1 else cm2) := by
  cases a with
  | none =>
    rw [if_pos rfl]
    refine xI.go ?_ k1
    obtain ⟨p, l, e, R, s, m, args, below, meth, c, D, s0, Γ, nL, b0⟩ := x
    obtain ⟨hx, hb, -⟩ := F
    intro H locs cells slots Q ls h kk
    exact lv_ifnonnullN hx hb hd (kk ls h)
  | some a =>
    rw [if_neg (by simp)]
    refine xI.go ?_ k2
    obtain ⟨p, l, e, R, s, m, args, below, meth, c, D, s0, Γ, nL, b0⟩ := x
    obtain ⟨hx, hb, -⟩ := F
    intro H locs cells slots Q ls h kk
    exact lv_ifnonnull hx hb hd ht (kk ls h)
theorem xr_lookup {dflt : Int} {ps : Array (Int × Int)} {len : Nat} {v : Int32} {off : Int} (tgt : Nat) (F : xF x own cc ret) (hd : decode cc pc = .ok (.lookupswitch dflt ps, len)) (hp : (ps.toList.zip (ps.toList.drop 1)).all (fun (a, next) => a.1 < next.1) = true) (ho : Op.lookupswitch.offset ps.toList dflt v.toInt = off) (ht : (pc : Int) + off = (tgt : Int)) (k : xI x emb tgt lv st cm) : xI x emb pc lv (.int v :: st) cm := by
  refine xI.go ?_ k
  obtain ⟨p, l, e, R, s, m, args, below, meth, c, D, s0, Γ, nL, b0⟩ := x
  obtain ⟨hx, hb, -⟩ := F
  intro H locs cells slots Q ls h kk
  exact lv_lookup hx hb hd hp ho ht (kk ls h)
theorem xr_tableIn {dflt lo hi : Int} {offs : Array Int} {len : Nat} {v : Int32} {off : Int} (tgt : Nat) (F : xF x own cc ret) (hd : decode cc pc = .ok (.tableswitch dflt lo hi offs, len)) (h1 : ¬ v.toInt < lo) (h2 : ¬ hi < v.toInt) (ho : offs[(v.toInt - lo).toNat]? = some off) (ht : (pc : Int) + off = (tgt : Int)) (k : xI x emb tgt lv st cm) : xI x emb pc lv (.int v :: st) cm := by
  refine xI.go ?_ k
  obtain ⟨p, l, e, R, s, m, args, below, meth, c, D, s0, Γ, nL, b0⟩ := x
  obtain ⟨hx, hb, -⟩ := F
  intro H locs cells slots Q ls h kk
  exact lv_tableIn hx hb hd h1 h2 ho ht (kk ls h)
theorem xr_tableOut {dflt lo hi : Int} {offs : Array Int} {len : Nat} {v : Int32} (tgt : Nat) (F : xF x own cc ret) (hd : decode cc pc = .ok (.tableswitch dflt lo hi offs, len)) (hv : ∀ i, lo ≤ i → i ≤ hi → ¬ v = Int32.ofInt i) (ht : (pc : Int) + dflt = (tgt : Int)) (k : xI x emb tgt lv st cm) : xI x emb pc lv (.int v :: st) cm := by
  have h : v.toInt < lo ∨ hi < v.toInt := by
    rcases Int.lt_or_le v.toInt lo with q | q
    · exact Or.inl q
    · rcases Int.lt_or_le hi v.toInt with r | r
      · exact Or.inr r
      · exact absurd (Int32.ofInt_toInt v).symm (hv _ q r)
  refine xI.go ?_ k
  obtain ⟨p, l, e, R, s, m, args, below, meth, c, D, s0, Γ, nL, b0⟩ := x
  obtain ⟨hx, hb, -⟩ := F
  intro H locs cells slots Q ls hl kk
  exact lv_tableOut hx hb hd h ht (kk ls hl)
/-- the end of a walk out of the kit's own -/
theorem xZ.ofMQ {below : List Frame} {D : xD} {s0 : State} {emb : α → Option Value} {r : α} {h : xH} {n mc ms : Nat} {args : Array Value} {s t : State} (hq : MQ below (fun _ _ oc u => oc = .returned (emb r) ∧ xR D s0 h n u.heap) args s mc ms (fun q => s0.heap.size ≤ q) t) : xZ below D s0 emb (.inl r) h n mc ms s t := by
  obtain ⟨oc, h1, h2, ⟨rfl, h4⟩, L, ⟨-, h5, h6⟩, h7⟩ := hq
  exact ⟨_, h1, h2, rfl, h4, L, h5, h6, h7⟩
/-- a boolean, byte .. answer: narrow already -/
def xretN (ty : FieldType) (v : Int32) : xM Int32 := if narrow ty (.int v) = .int v then xpure v else xstuck
theorem xr_iret {v : Int32} {lv : List (Nat × Value)} {cc : ByteArray} (F : xF x own cc (some .int)) (hd : decode cc pc = .ok (.ireturn, 1))  : xI x xeI pc lv [.int v] (xpure v) := by
  obtain ⟨p, l, e, R, s, m, args, below, meth, c, D, s0, Γ, nL, b0⟩ := x
  obtain ⟨hx, hb, -, -, hlk, hr, -⟩ := F
  intro h n o h' dc ds hc H locs cells slots ls hR hl hL h1 h2
  cases hc
  have K : W p l e R s m args below meth c H locs cells slots (MQ below (fun _ _ oc u => oc = .returned (xeI v) ∧ xR D s0 h n u.heap) args s cells slots (fun q => s0.heap.size ≤ q)) (F0 m pc ls [.int v]) := W.iret hx hb hr (fun t ht _ => ⟨rfl, by rw [ht]; exact hR⟩) hL hd hlk
  intro T hT X
  obtain ⟨t, a1, b1⟩ := K T hT X
  exact ⟨t, a1, xZ.ofMQ b1⟩
theorem xr_zret {ty : FieldType} {v : Int32} {lv : List (Nat × Value)} {cc : ByteArray} (F : xF x own cc (some ty)) (hd : decode cc pc = .ok (.ireturn, 1)) (hn : narrow ty (.int v) = .int v) : xI x xeI pc lv [.int v] (xpure v) := by
  obtain ⟨p, l, e, R, s, m, args, below, meth, c, D, s0, Γ, nL, b0⟩ := x
  obtain ⟨hx, hb, -, -, hlk, hr, -⟩ := F
  intro h n o h' dc ds hc H locs cells slots ls hR hl hL h1 h2
  cases hc
  have K : W p l e R s m args below meth c H locs cells slots (MQ below (fun _ _ oc u => oc = .returned (xeI v) ∧ xR D s0 h n u.heap) args s cells slots (fun q => s0.heap.size ≤ q)) (F0 m pc ls [.int v]) := W.zret hx hb hr hn (fun t ht _ => ⟨rfl, by rw [ht]; exact hR⟩) hL hd hlk
  intro T hT X
  obtain ⟨t, a1, b1⟩ := K T hT X
  exact ⟨t, a1, xZ.ofMQ b1⟩
theorem xr_lret {v : Int64} {lv : List (Nat × Value)} {cc : ByteArray} (F : xF x own cc (some .long)) (hd : decode cc pc = .ok (.lreturn, 1))  : xI x xeJ pc lv [.long v] (xpure v) := by
  obtain ⟨p, l, e, R, s, m, args, below, meth, c, D, s0, Γ, nL, b0⟩ := x
  obtain ⟨hx, hb, -, -, hlk, hr, -⟩ := F
  intro h n o h' dc ds hc H locs cells slots ls hR hl hL h1 h2
  cases hc
  have K : W p l e R s m args below meth c H locs cells slots (MQ below (fun _ _ oc u => oc = .returned (xeJ v) ∧ xR D s0 h n u.heap) args s cells slots (fun q => s0.heap.size ≤ q)) (F0 m pc ls [.long v]) := W.lret hx hb hr (fun t ht _ => ⟨rfl, by rw [ht]; exact hR⟩) hL hd hlk
  intro T hT X
  obtain ⟨t, a1, b1⟩ := K T hT X
  exact ⟨t, a1, xZ.ofMQ b1⟩
theorem xr_dret {v : UInt64} {lv : List (Nat × Value)} {cc : ByteArray} (F : xF x own cc (some .double)) (hd : decode cc pc = .ok (.dreturn, 1))  : xI x xeD pc lv [.double v] (xpure v) := by
  obtain ⟨p, l, e, R, s, m, args, below, meth, c, D, s0, Γ, nL, b0⟩ := x
  obtain ⟨hx, hb, -, -, hlk, hr, -⟩ := F
  intro h n o h' dc ds hc H locs cells slots ls hR hl hL h1 h2
  cases hc
  have K : W p l e R s m args below meth c H locs cells slots (MQ below (fun _ _ oc u => oc = .returned (xeD v) ∧ xR D s0 h n u.heap) args s cells slots (fun q => s0.heap.size ≤ q)) (F0 m pc ls [.double v]) := W.dret hx hb hr (fun t ht _ => ⟨rfl, by rw [ht]; exact hR⟩) hL hd hlk
  intro T hT X
  obtain ⟨t, a1, b1⟩ := K T hT X
  exact ⟨t, a1, xZ.ofMQ b1⟩
theorem xr_aret {rt : FieldType} {v : Option Nat} {lv : List (Nat × Value)} {cc : ByteArray} (F : xF x own cc (some rt)) (hd : decode cc pc = .ok (.areturn, 1)) (hrt : (∃ n, rt = .object n) ∨ ∃ t, rt = .array t) : xI x xeR pc lv [va_rf v] (xpure v) := by
  obtain ⟨p, l, e, R, s, m, args, below, meth, c, D, s0, Γ, nL, b0⟩ := x
  obtain ⟨hx, hb, -, -, hlk, hr, -⟩ := F
  intro h n o h' dc ds hc H locs cells slots ls hR hl hL h1 h2
  cases hc
  have K : W p l e R s m args below meth c H locs cells slots (MQ below (fun _ _ oc u => oc = .returned (xeR v) ∧ xR D s0 h n u.heap) args s cells slots (fun q => s0.heap.size ≤ q)) (F0 m pc ls [va_rf v]) := W.aret hx hb hr hrt (by cases v with | none => exact Or.inl rfl | some a => exact Or.inr ⟨a, rfl⟩) (fun t ht _ => ⟨rfl, by rw [ht]; exact hR⟩) hL hd hlk
  intro T hT X
  obtain ⟨t, a1, b1⟩ := K T hT X
  exact ⟨t, a1, xZ.ofMQ b1⟩
theorem xr_vret  {lv : List (Nat × Value)} {cc : ByteArray} (F : xF x own cc (none)) (hd : decode cc pc = .ok (.return_, 1))  : xI x xeV pc lv [] (xpure ()) := by
  obtain ⟨p, l, e, R, s, m, args, below, meth, c, D, s0, Γ, nL, b0⟩ := x
  obtain ⟨hx, hb, -, -, hlk, hr, -⟩ := F
  intro h n o h' dc ds hc H locs cells slots ls hR hl hL h1 h2
  cases hc
  have K : W p l e R s m args below meth c H locs cells slots (MQ below (fun _ _ oc u => oc = .returned (xeV ()) ∧ xR D s0 h n u.heap) args s cells slots (fun q => s0.heap.size ≤ q)) (F0 m pc ls []) := W.vret hx hb hr (fun t ht _ => ⟨rfl, by rw [ht]; exact hR⟩) hL hd hlk
  intro T hT X
  obtain ⟨t, a1, b1⟩ := K T hT X
  exact ⟨t, a1, xZ.ofMQ b1⟩
theorem xr_nret {ty : FieldType} {v : Int32} {lv : List (Nat × Value)} {cc : ByteArray} (F : xF x own cc (some ty)) (hd : decode cc pc = .ok (.ireturn, 1)) : xI x xeI pc lv [.int v] (xretN ty v) := xI.split (fun h => xr_zret F hd h) (fun _ => xI.stuck)
end XR1
