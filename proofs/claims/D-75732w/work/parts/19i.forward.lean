/-! part 19i: rows inside a lambda's forwarder (its class has no findable name) -/
def xFL (x : xC) (cc : ByteArray) (ret : Option FieldType) : Prop := match x with
  | (p, l, _, _, s, _, _, _, meth, c, D, s0, Γ, nL, b0) => p.tables.exec = Jvm.exec ∧ c.code = cc ∧ c.maxLocals = nL ∧ meth.locks = false ∧ meth.sig.returnType = ret ∧ xG l D s0 b0 Γ ∧ s0.WarmedH s.vm
section XL3
variable {α : Type} {x : xC} {emb : α → Option Value} {cc : ByteArray} {ret : Option FieldType} {pc : Nat} {lv lv' : List (Nat × Value)} {st : List Value} {cm : xM α}
theorem xl_iload {i : Fin 4} (j : Nat) {v : Int32} (F : xFL x cc ret) (hd : decode cc pc = .ok (.iload_n i, 1)) (hk : lv[j]? = some ((i : Nat), .int v)) (k : xI x emb (pc + 1) lv (.int v :: st) cm) : xI x emb pc lv (st) cm := by
  refine xI.go (lv' := lv) ?_ k
  obtain ⟨p, l, e, R, s, m, args, below, meth, c, D, s0, Γ, nL, b0⟩ := x
  obtain ⟨hx, hb, -⟩ := F
  intro H locs cells slots Q ls h kk
  exact lv_iload_n hx hb hd rfl (lv_at h j hk) (kk ls h)
theorem xl_aload {i : Fin 4} (j : Nat) {r : Option Nat} (F : xFL x cc ret) (hd : decode cc pc = .ok (.aload_n i, 1)) (hk : lv[j]? = some ((i : Nat), va_rf r)) (k : xI x emb (pc + 1) lv (va_rf r :: st) cm) : xI x emb pc lv (st) cm := by
  refine xI.go (lv' := lv) ?_ k
  obtain ⟨p, l, e, R, s, m, args, below, meth, c, D, s0, Γ, nL, b0⟩ := x
  obtain ⟨hx, hb, -⟩ := F
  intro H locs cells slots Q ls h kk
  cases r with
  | none => exact lv_aload_nN hx hb hd rfl (lv_at h j hk) (kk ls h)
  | some a => exact lv_aload_n hx hb hd rfl (lv_at h j hk) (kk ls h)
theorem xl_lret {v : Int64} (F : xFL x cc (some .long)) (hd : decode cc pc = .ok (.lreturn, 1)) : xI x xeJ pc lv [.long v] (xpure v) := by
  obtain ⟨p, l, e, R, s, m, args, below, meth, c, D, s0, Γ, nL, b0⟩ := x
  obtain ⟨hx, hb, -, hlk, hr, -⟩ := F
  intro h n o h' dc ds hc H locs cells slots ls hR hl hL h1 h2
  cases hc
  have K : W p l e R s m args below meth c H locs cells slots (MQ below (fun _ _ oc u => oc = .returned (xeJ v) ∧ xR D s0 h n u.heap) args s cells slots (fun q => s0.heap.size ≤ q)) (F0 m pc ls [.long v]) := W.lret hx hb hr (fun t ht _ => ⟨rfl, by rw [ht]; exact hR⟩) hL hd hlk
  intro T hT X
  obtain ⟨t, a1, b1⟩ := K T hT X
  exact ⟨t, a1, xZ.ofMQ b1⟩
theorem xl_zret {ty : FieldType} {v : Int32} (F : xFL x cc (some ty)) (hd : decode cc pc = .ok (.ireturn, 1)) (hn : narrow ty (.int v) = .int v) : xI x xeI pc lv [.int v] (xpure v) := by
  obtain ⟨p, l, e, R, s, m, args, below, meth, c, D, s0, Γ, nL, b0⟩ := x
  obtain ⟨hx, hb, -, hlk, hr, -⟩ := F
  intro h n o h' dc ds hc H locs cells slots ls hR hl hL h1 h2
  cases hc
  have K : W p l e R s m args below meth c H locs cells slots (MQ below (fun _ _ oc u => oc = .returned (xeI v) ∧ xR D s0 h n u.heap) args s cells slots (fun q => s0.heap.size ≤ q)) (F0 m pc ls [.int v]) := W.zret hx hb hr hn (fun t ht _ => ⟨rfl, by rw [ht]; exact hR⟩) hL hd hlk
  intro T hT X
  obtain ⟨t, a1, b1⟩ := K T hT X
  exact ⟨t, a1, xZ.ofMQ b1⟩
theorem xl_nret {ty : FieldType} {v : Int32} (F : xFL x cc (some ty)) (hd : decode cc pc = .ok (.ireturn, 1)) : xI x xeI pc lv [.int v] (xretN ty v) := xI.split (fun h => xl_zret F hd h) (fun _ => xI.stuck)
end XL3
