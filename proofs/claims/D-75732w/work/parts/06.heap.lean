/-! part 06: the heap: fields, new objects, arrays -/
theorem xat.kept {D : xD} {s0 : State} {a : Nat} {c : xAC} {H H' : Heap} (h : xat D s0 a c H) (e : H'[a]? = H[a]?) : xat D s0 a c H' := by
  obtain ⟨cell, h1, h2⟩ := h
  exact ⟨cell, by rw [e]; exact h1, h2⟩
theorem xat.lt {D : xD} {s0 : State} {a : Nat} {c : xAC} {H : Heap} (h : xat D s0 a c H) : a < H.size := by
  obtain ⟨cell, h1, -⟩ := h
  exact (Array.getElem?_eq_some_iff.mp h1).1
theorem xR.push {D : xD} {s0 : State} {h : xH} {n : Nat} {H H' : Heap} {c : xAC} (hR : xR D s0 h n H) (e1 : H'.size = n + 1) (e2 : ∀ q : Nat, q < n → H'[q]? = H[q]?) (hc : xat D s0 n c H') : xR D s0 (xupd h n c) (n + 1) H' := by
  obtain ⟨h1, h2, h3, h4, h5⟩ := hR
  refine ⟨e1, by omega, fun q hq => ?_, fun a c' ha => ?_, fun a c' ha hw => ?_⟩
  · rw [e2 q (by omega)]; exact h3 q hq
  · unfold xupd at ha
    split at ha
    · rename_i e; subst e; cases ha; exact hc
    · have := (h4 a c' ha).lt
      exact (h4 a c' ha).kept (e2 a (by omega))
  · unfold xupd at ha
    split at ha
    · rename_i e; subst e; exact h2
    · exact h5 a c' ha hw
theorem xR.put {D : xD} {s0 : State} {h : xH} {n a : Nat} {H H' : Heap} {c0 c : xAC} (hR : xR D s0 h n H) (ha : h a = some c0) (hw : c0.1 = true) (e1 : H'.size = H.size) (e2 : ∀ q : Nat, q ≠ a → H'[q]? = H[q]?) (hc : xat D s0 a c H') : xR D s0 (xupd h a c) n H' := by
  obtain ⟨h1, h2, h3, h4, h5⟩ := hR
  have hb := h5 a c0 ha hw
  refine ⟨by rw [e1]; exact h1, h2, fun q hq => ?_, fun b c' hb' => ?_, fun b c' hb' hw' => ?_⟩
  · rw [e2 q (by omega)]; exact h3 q hq
  · unfold xupd at hb'
    split at hb'
    · rename_i e; subst e; cases hb'; exact hc
    · rename_i e; exact (h4 b c' hb').kept (e2 b e)
  · unfold xupd at hb'
    split at hb'
    · rename_i e; subst e; exact hb
    · exact h5 b c' hb' hw'
theorem xobj_some {h : xH} {r : Option Nat} {a ci : Nat} {fs : List Value} (e : xobj h r = some (a, ci, fs)) : r = some a ∧ ∃ w, h a = some (w, .inr (ci, fs)) := by
  unfold xobj at e
  split at e
  · cases e
  · rename_i a0
    split at e
    · rename_i w c f hc
      cases e
      exact ⟨rfl, w, hc⟩
    · cases e
theorem xarr_some {h : xH} {r : Option Nat} {a t : Nat} {x : vp_A} (e : xarr h r = some (a, t, x)) : r = some a ∧ ∃ w, h a = some (w, .inl (t, x)) := by
  unfold xarr at e
  split at e
  · cases e
  · rename_i a0
    split at e
    · rename_i w c f hc
      cases e
      exact ⟨rfl, w, hc⟩
    · cases e
theorem xbind_some {α β : Type} {f : xM α} {k : α → xM β} {Γ : Nat → Option Nat} {h : xH} {n : Nat} {z : (β ⊕ Nat) × xH × Nat × Nat} (e : xbind f k Γ h n = some z) : (∃ a h1 c1 s1 r h2 c2 s2, f Γ h n = some (.inl a, h1, c1, s1) ∧ k a Γ h1 (n + c1) = some (r, h2, c2, s2) ∧ z = (r, h2, c1 + c2, s1 + s2)) ∨ (∃ q h1 c1 s1, f Γ h n = some (.inr q, h1, c1, s1) ∧ z = (.inr q, h1, c1, s1)) := by
  unfold xbind at e
  split at e
  · cases e
  · rename_i q h1 c1 s1 hf
    cases e
    exact Or.inr ⟨q, h1, c1, s1, hf, rfl⟩
  · rename_i a h1 c1 s1 hf
    split at e
    · cases e
    · rename_i r h2 c2 s2 hk
      cases e
      exact Or.inl ⟨a, h1, c1, s1, r, h2, c2, s2, hf, hk, rfl⟩
/-- a field's link, by the class itself or as a nest mate; the name by which the field is spelt -/
def xLk (own : String) (idx : Nat) (ref nm d : String) : Prop := Cond.fieldLink own idx ref nm d ∈ lw_all ∨ ∃ host, Cond.fieldLinkNest own idx ref nm d host ∈ lw_tbl
def xSm (ref : String) (t : String × String × String × Bool) : Prop := ref = t.1 ∨ Cond.sameField ref t.1 t.2.1 t.2.2.1 ∈ lw_all
/-- what the rows ask of a class that is made and written -/
def xCls (ci : Nat) (C : String) (T : u_T) (N : Nat) (ty0 : Nat → FieldType) : Prop := xcl[ci]? = some (C, T, N) ∧ (∀ w ∈ u_ws C T N, w ∈ lw_all) ∧ (∀ k, k < N → parseFieldDescriptor (T k).2.2.1 = some (ty0 k)) ∧ (∀ a, a < N → ∀ b, b < N → a ≠ b → (T a).2.1 ≠ (T b).2.1) ∧ ci < xnW
section XH1
variable {α : Type} {emb : α → Option Value} {own : String} {cc : ByteArray} {ret : Option FieldType} {pc : Nat} {lv lv' : List (Nat × Value)} {st : List Value}
variable {p : Program} {l : Launch} {e : Env} {R : Room} {s : State} {m : MethodId} {args : Array Value} {below : List Frame} {meth : Method} {c : Code} {D : xD} {s0 : State} {Γ : Nat → Option Nat} {nL b0 : Nat}
theorem xfld (F : xF (p, l, e, R, s, m, args, below, meth, c, D, s0, Γ, nL, b0) own cc ret) {ci k : Nat} {C : String} {T : u_T} {N : Nat} (hc : xcl[ci]? = some (C, T, N)) (hk : k < N) {ref : String} (hs : xSm ref (T k)) :
    ∃ (cf : Nat) (kf : Class) (fi : Nat) (f : Field), s.fieldFound? (T k).1 (T k).2.1 (T k).2.2.1 = some (cf, kf, fi, f) ∧ s.fieldFound? ref (T k).2.1 (T k).2.2.1 = some (cf, kf, fi, f) ∧ f.isStatic = false ∧ f.slot = D.2.1 ci k := by
  have hsame : ∀ z, s.fieldFound? (T k).1 (T k).2.1 (T k).2.2.1 = some z → s.fieldFound? ref (T k).2.1 (T k).2.2.1 = some z := by
    intro z hz
    rcases hs with rfl | hw
    · exact hz
    · exact u_same (xwd F hw (a := args)) z hz
  obtain ⟨-, -, -, -, -, -, ⟨-, hK, -⟩, hW, -⟩ := F
  obtain ⟨cf, kf, fi, f, h1, h2, h3⟩ := (hK ci _ hc).2 k hk
  obtain ⟨kf', hi', -⟩ := State.fieldFound?_setVm (s := s0) hW.alike h1
  have hi : s.fieldFound? (T k).1 (T k).2.1 (T k).2.2.1 = some (cf, kf', fi, f) := by simpa only [State.fieldFound?, State.vm_setVm] using hi'
  exact ⟨cf, kf', fi, f, hi, hsame _ hi, h2, h3⟩
theorem xnest (F : xF (p, l, e, R, s, m, args, below, meth, c, D, s0, Γ, nL, b0) own cc ret) {a : String} {i : Nat} {b n d h : String} (hw : Cond.fieldLinkNest a i b n d h ∈ lw_tbl) : (Cond.fieldLinkNest a i b n d h).before args s = true := by
  obtain ⟨-, -, -, -, -, -, ⟨hts, -⟩, hW, -⟩ := F
  exact va_Nw.use rfl (va_Nw.warmF hW (va_Nw.of rfl (hts _ hw)))
theorem xcast (F : xF (p, l, e, R, s, m, args, below, meth, c, D, s0, Γ, nL, b0) own cc ret) {a b : String} (hw : Cond.castable a b ∈ lw_tbl) : va_Nw (.castable a b) s := by
  obtain ⟨-, -, -, -, -, -, ⟨hts, -⟩, hW, -⟩ := F
  exact va_Nw.warmC hW (va_Nw.of rfl (hts _ hw))
end XH1
section XH2
variable {α : Type} {x : xC} {emb : α → Option Value} {own : String} {cc : ByteArray} {ret : Option FieldType} {pc : Nat} {lv lv' : List (Nat × Value)} {st : List Value}
theorem xr_get {ci k idx : Nat} {C : String} {T : u_T} {N : Nat} {ref : String} {r : Option Nat} {kk : Value → xM α} (F : xF x own cc ret) (hd : decode cc pc = .ok (.getfield idx, 3)) (hc : xcl[ci]? = some (C, T, N)) (hk : k < N) (hl : xLk own idx ref (T k).2.1 (T k).2.2.1) (hs : xSm ref (T k)) (K : ∀ v, xI x emb (pc + 3) lv (v :: st) (kk v)) : xI x emb pc lv (va_rf r :: st) (xbind (xget ci k r) kk) := by
  obtain ⟨p, l, e, R, s, m, args, below, meth, c, D, s0, Γ, nL, b0⟩ := x
  intro h n o h' dc ds he H locs cells slots ls hR hlv hL h1 h2
  obtain ⟨cf, kf, fi, f, hi0, hi, hst, hsl⟩ := xfld F hc hk hs
  rcases xbind_some he with ⟨v, h1', c1, s1, r', h2', c2, s2, hf, hkk, hz⟩ | ⟨q, h1', c1, s1, hf, hz⟩
  · unfold xget at hf
    split at hf
    · rename_i a0 c' fs ho
      split at hf
      · rename_i hcc
        split at hf
        · rename_i v' hv
          cases hf
          cases hz
          subst hcc
          obtain ⟨rfl, w, ha⟩ := xobj_some ho
          obtain ⟨cell, g1, g2, g3, g4, g5, g6⟩ := hR.2.2.2.1 _ _ ha
          have g7 : cell.slots[D.2.1 c' k]? = some v := by
            rcases g6 with ⟨q, hq, g8⟩ | ⟨hq, -⟩
            · cases hc.symm.trans hq
              rw [g8 k hk]
              simp [vp_V, hv]
            · exact absurd (hc.symm.trans (List.getElem?_eq_none (Nat.le_trans (by decide : xcl.length ≤ 1000) hq))) (by simp)
          have K2 := K v h n o h' (0 + c2) (0 + s2) (by rw [Nat.zero_add, Nat.zero_add]; exact hkk) H locs cells slots ls hR hlv hL h1 h2
          have hb := F.2.1
          have hx := F.1
          have hown := F.2.2.2.1
          rcases hl with hw | ⟨host, hw⟩
          · exact W.getf hx hb hown (xwd F hw) hi hst g1 g2 (by rw [hsl]; exact g7) rfl rfl hd K2
          · exact va_Wgetf hx hb hown (xnest F hw) hi hst g1 g2 (by rw [hsl]; exact g7) rfl rfl hd K2
        · cases hf
      · cases hf
    · cases hf
  · unfold xget at hf
    split at hf
    · split at hf
      · split at hf <;> cases hf
      · cases hf
    · cases hf
theorem xr_gI {ci k idx : Nat} {C : String} {T : u_T} {N : Nat} {ref : String} {r : Option Nat} {kk : Int32 → xM α} (F : xF x own cc ret) (hd : decode cc pc = .ok (.getfield idx, 3)) (hc : xcl[ci]? = some (C, T, N)) (hk : k < N) (hl : xLk own idx ref (T k).2.1 (T k).2.2.1) (hs : xSm ref (T k)) (K : ∀ v, xI x emb (pc + 3) lv (.int v :: st) (kk v)) : xI x emb pc lv (va_rf r :: st) (xbind (xgI ci k r) kk) := by
  refine xI.eqv (cm' := xbind (xget ci k r) (fun v => match v with | .int z => kk z | _ => xstuck)) ?_ (xr_get F hd hc hk hl hs (fun v => ?_))
  · funext Γ h n
    cases hg : xget ci k r Γ h n with
    | none => simp [xbind, xgI, hg]
    | some z =>
      obtain ⟨v | q, h1, c1, s1⟩ := z
      · cases v <;> simp [xbind, xgI, hg, xstuck]
      · exfalso
        unfold xget at hg
        split at hg
        · split at hg
          · split at hg <;> cases hg
          · cases hg
        · cases hg
  · cases v <;> first | exact K _ | exact xI.stuck
theorem xr_gJ {ci k idx : Nat} {C : String} {T : u_T} {N : Nat} {ref : String} {r : Option Nat} {kk : Int64 → xM α} (F : xF x own cc ret) (hd : decode cc pc = .ok (.getfield idx, 3)) (hc : xcl[ci]? = some (C, T, N)) (hk : k < N) (hl : xLk own idx ref (T k).2.1 (T k).2.2.1) (hs : xSm ref (T k)) (K : ∀ v, xI x emb (pc + 3) lv (.long v :: st) (kk v)) : xI x emb pc lv (va_rf r :: st) (xbind (xgJ ci k r) kk) := by
  refine xI.eqv (cm' := xbind (xget ci k r) (fun v => match v with | .long z => kk z | _ => xstuck)) ?_ (xr_get F hd hc hk hl hs (fun v => ?_))
  · funext Γ h n
    cases hg : xget ci k r Γ h n with
    | none => simp [xbind, xgJ, hg]
    | some z =>
      obtain ⟨v | q, h1, c1, s1⟩ := z
      · cases v <;> simp [xbind, xgJ, hg, xstuck]
      · exfalso
        unfold xget at hg
        split at hg
        · split at hg
          · split at hg <;> cases hg
          · cases hg
        · cases hg
  · cases v <;> first | exact K _ | exact xI.stuck
theorem xr_gR {ci k idx : Nat} {C : String} {T : u_T} {N : Nat} {ref : String} {r : Option Nat} {kk : Option Nat → xM α} (F : xF x own cc ret) (hd : decode cc pc = .ok (.getfield idx, 3)) (hc : xcl[ci]? = some (C, T, N)) (hk : k < N) (hl : xLk own idx ref (T k).2.1 (T k).2.2.1) (hs : xSm ref (T k)) (K : ∀ v, xI x emb (pc + 3) lv (va_rf v :: st) (kk v)) : xI x emb pc lv (va_rf r :: st) (xbind (xgR ci k r) kk) := by
  refine xI.eqv (cm' := xbind (xget ci k r) (fun v => match v with | .ref z => kk (some z) | .null => kk none | _ => xstuck)) ?_ (xr_get F hd hc hk hl hs (fun v => ?_))
  · funext Γ h n
    cases hg : xget ci k r Γ h n with
    | none => simp [xbind, xgR, hg]
    | some z =>
      obtain ⟨v | q, h1, c1, s1⟩ := z
      · cases v <;> simp [xbind, xgR, hg, xstuck]
      · exfalso
        unfold xget at hg
        split at hg
        · split at hg
          · split at hg <;> cases hg
          · cases hg
        · cases hg
  · cases v <;> first | exact K none | exact K (some _) | exact xI.stuck
end XH2
