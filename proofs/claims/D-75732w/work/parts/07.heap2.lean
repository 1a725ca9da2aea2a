/-! part 07: stores, new objects, arrays -/
abbrev xmn (x : xC) : String := x.2.2.2.2.2.2.2.2.1.name
theorem xput_some {ci k : Nat} {r : Option Nat} {v : Value} {Γ : Nat → Option Nat} {h : xH} {n : Nat} {z : (Unit ⊕ Nat) × xH × Nat × Nat} (e : xput ci k r v Γ h n = some z) : ∃ a fs, r = some a ∧ h a = some (true, .inr (ci, fs)) ∧ k < fs.length ∧ z = (.inl (), xupd h a (true, .inr (ci, fs.set k v)), 0, 0) := by
  unfold xput at e
  split at e
  · cases e
  · rename_i a
    split at e
    · rename_i c' fs hc
      split at e
      · rename_i hcc
        cases e
        obtain ⟨rfl, hk⟩ := hcc
        exact ⟨a, fs, rfl, hc, hk, rfl⟩
      · cases e
    · cases e
theorem xr_rf (C : String) (r : Option Nat) : narrow (.object C) (va_rf r) = va_rf r ∧ fits (.object C) (va_rf r) = true := by cases r <;> exact ⟨rfl, rfl⟩
theorem xr_rfa (C : FieldType) (r : Option Nat) : narrow (.array C) (va_rf r) = va_rf r ∧ fits (.array C) (va_rf r) = true := by cases r <;> exact ⟨rfl, rfl⟩
section XH3
variable {α : Type} {x : xC} {emb : α → Option Value} {own : String} {cc : ByteArray} {ret : Option FieldType} {pc : Nat} {lv lv' : List (Nat × Value)} {st : List Value}
theorem xr_put {ci k idx : Nat} {C : String} {T : u_T} {N : Nat} {ty0 : Nat → FieldType} {ref : String} {r : Option Nat} {v : Value} {kk : Unit → xM α} (F : xF x own cc ret) (hd : decode cc pc = .ok (.putfield idx, 3)) (X : xCls ci C T N ty0) (hk : k < N) (hl : xLk own idx ref (T k).2.1 (T k).2.2.1) (hs : xSm ref (T k)) (hfin : (T k).2.2.2 = false ∨ ((T k).2.2.2 = true ∧ xmn x = "<init>" ∧ (T k).1 = own ∧ Cond.fieldLink own idx ref (T k).2.1 (T k).2.2.1 ∈ lw_all)) (hn : narrow (ty0 k) v = v ∧ fits (ty0 k) v = true) (K : xI x emb (pc + 3) lv st (kk ())) : xI x emb pc lv (v :: va_rf r :: st) (xbind (xput ci k r v) kk) := by
  obtain ⟨p, l, e, R, s, m, args, below, meth, c, D, s0, Γ, nL, b0⟩ := x
  intro h n o h' dc ds he H locs cells slots ls hR hlv hL h1 h2
  obtain ⟨hc, hin, hty, hnm, hnW⟩ := X
  obtain ⟨cf, kf, fi, f, hi0, hi, hst, hsl⟩ := xfld F hc hk hs
  have hts : ∀ w ∈ u_ws C T N, w.before args s = true := fun w hw => xwd F (hin w hw)
  have hid : ∀ w ∈ u_ws C T N, w ∈ u_ws C T N := fun w hw => hw
  have F0' := F
  obtain ⟨hx, hb, hml, hown, hlk, hret, ⟨-, hKn, hKc, -⟩, hW, -⟩ := F0'
  obtain ⟨hfc, kC, hkC, hkind⟩ := classAt_moved hW.alike (hKc ci _ hc hnW)
  rcases xbind_some he with ⟨u, h1', c1, s1, r', h2', c2, s2, hf, hkk, hz⟩ | ⟨q, h1', c1, s1, hf, hz⟩
  · obtain ⟨a, fs, rfl, ha, hlen, hz2⟩ := xput_some hf
    cases hz2
    cases hz
    obtain ⟨cell, g1, g2, g3, g4, g5, g6⟩ := hR.2.2.2.1 _ _ ha
    have g5m := (g5 rfl).2
    have g5 : cell.vm = .none := (g5 rfl).1
    have g6 : ∀ j, j < N → cell.slots[D.2.1 ci j]? = some (vp_V fs j) := by
      rcases g6 with ⟨q, hq, g8⟩ | ⟨hq, -⟩
      · cases hc.symm.trans hq
        exact g8
      · exact absurd (hc.symm.trans (List.getElem?_eq_none (Nat.le_trans (by decide : xcl.length ≤ 1000) hq))) (by simp)
    have hap : ∀ y z, y < N → z < N → y ≠ z → D.2.1 ci y ≠ D.2.1 ci z := by
      intro y z hy hz hne
      obtain ⟨_, _, _, fa, hia, -, -, ea⟩ := xfld F hc hy (ref := (T y).1) (Or.inl rfl)
      obtain ⟨_, _, _, fb, hib, -, -, eb⟩ := xfld F hc hz (ref := (T z).1) (Or.inl rfl)
      rw [← ea, ← eb]
      refine u_apart (u_lays hts hid hy) (u_lays hts hid hz) hia hib ?_
      rw [(State.fieldFound?_type hia (hty y hy)).1, (State.fieldFound?_type hib (hty z hz)).1]
      exact hnm y hy z hz hne
    have fin : ∀ H' : Heap, H'[a]? = some (cell.setSlot f.slot v) → H'.size = H.size → (∀ q, q ≠ a → H'[q]? = H[q]?) → W p l e R s m args below meth c H' (locs ++ [⟨a, f.slot⟩]) cells slots (xZ below D s0 emb o h' (n + (0 + c2)) (cells + (0 + c2)) (slots + (0 + s2)) s) (F0 m (pc + 3) ls st) := by
      intro H' e1 e2 e3
      rw [hsl] at e1
      have hR' : xR D s0 (xupd h a (true, .inr (ci, fs.set k v))) n H' := by
        refine hR.put ha rfl e2 e3 ⟨_, e1, ?_, ?_, g4, fun _ => ⟨g5, g5m⟩, Or.inl ⟨_, hc, ?_⟩⟩
        · show cell.vm ≠ _; exact g2
        · show cell.vm.isStatics = _; exact g3
        · intro j hj
          rw [t_set g6 hap hk v j hj]
          exact congrArg some (vp_updV_set hlen v j)
      exact K _ n o h' (0 + c2) (0 + s2) (by rw [Nat.zero_add, Nat.zero_add]; exact hkk) H' _ cells slots ls hR' hlv (fun q hq => by
        rcases List.mem_append.mp hq with h | h
        · exact hL q h
        · rw [List.mem_singleton.mp h]; exact hR.2.2.2.2 _ _ ha rfl) h1 h2
    have hlt : f.slot < cell.slots.size := by rw [hsl]; exact k2_hasslot (g6 k hk)
    have hlay := hts _ (u_in_lay hk)
    unfold u_lay at hlay
    rcases hfin with hfin | ⟨hfin, hmn, hdecl, hplain⟩
    · rw [if_neg (by rw [hfin]; decide)] at hlay
      have h6 := u_store hfc hkC hkind hlay hi0 (hty k hk) hn.1 hn.2
      rcases hl with hw | ⟨host, hw⟩
      · exact W.putK hx hb (f := f) ⟨hown, xwd F hw, ⟨_, _, _, hi⟩, hst⟩ (by rw [g4]; exact h6) g1 g5 hlt rfl rfl hd fin
      · exact va_WputK hx hb (f := f) hown (xnest F hw) hi hst (by rw [g4]; exact h6) g1 g5 hlt rfl rfl hd fin
    · rw [if_pos hfin] at hlay
      have hcf : m.cls = cf := by
        obtain ⟨_, _, c', _, _, _, -, -, hf', -, -, -, hown2, -⟩ := Cond.laysFinal_spec hlay
        have e1 : c' = cf := by have := hi0.symm.trans hf'; simp at this; exact this.1.symm
        rw [hdecl] at hown2
        rw [← e1]; exact Option.some.inj (hown.symm.trans hown2)
      have h6 := u_fits hfc hkC hkind (Or.inr hlay) hi0 (hty k hk) hn.1 hn.2
      exact W.putFinK hx hb hown (xwd F hplain) hi hst hcf hmn (by rw [g4]; exact h6) g1 g5 hlt rfl rfl hd fin
  · obtain ⟨a, fs, -, -, -, hz2⟩ := xput_some hf
    cases hz2
theorem xr_pN {ci k idx : Nat} {C : String} {T : u_T} {N : Nat} {ty0 : Nat → FieldType} {ref : String} {r : Option Nat} {v : Int32} {kk : Unit → xM α} (F : xF x own cc ret) (hd : decode cc pc = .ok (.putfield idx, 3)) (X : xCls ci C T N ty0) (hk : k < N) (hl : xLk own idx ref (T k).2.1 (T k).2.2.1) (hs : xSm ref (T k)) (hfin : (T k).2.2.2 = false ∨ ((T k).2.2.2 = true ∧ xmn x = "<init>" ∧ (T k).1 = own ∧ Cond.fieldLink own idx ref (T k).2.1 (T k).2.2.1 ∈ lw_all)) (K : xI x emb (pc + 3) lv st (kk ())) : xI x emb pc lv (.int v :: va_rf r :: st) (xbind (xpN ci k (ty0 k) r v) kk) := by
  by_cases hn : narrow (ty0 k) (.int v) = .int v ∧ fits (ty0 k) (.int v) = true
  · refine xI.eqv (cm' := xbind (xput ci k r (.int v)) kk) ?_ (xr_put F hd X hk hl hs hfin hn K)
    funext Γ h n
    simp [xbind, xpN, hn]
  · refine xI.eqv (cm' := xstuck) ?_ xI.stuck
    funext Γ h n
    simp [xbind, xpN, hn, xstuck]
theorem xr_new {ci idx sz : Nat} {C : String} {T : u_T} {N : Nat} {ty0 : Nat → FieldType} {fs : List Value} {kk : Nat → xM α} (F : xF x own cc ret) (hd : decode cc pc = .ok (.new idx, 3)) (X : xCls ci C T N ty0) (hfs : ∀ k, k < N → defaultValue (ty0 k) = vp_V fs k) (w1 : Cond.classLink own idx C ∈ lw_all) (w2 : Cond.instantiable C sz ∈ lw_all) (w3 : Cond.initialized C ∈ lw_all) (K : ∀ a, xI x emb (pc + 3) lv (va_rf (some a) :: st) (kk a)) : xI x emb pc lv st (xbind (xnew ci fs sz) kk) := by
  obtain ⟨p, l, e, R, s, m, args, below, meth, c, D, s0, Γ, nL, b0⟩ := x
  intro h n o h' dc ds he H locs cells slots ls hR hlv hL h1 h2
  obtain ⟨hc, hin, hty, hnm, hnW⟩ := X
  have hts : ∀ w ∈ u_ws C T N, w.before args s = true := fun w hw => xwd F (hin w hw)
  have hid : ∀ w ∈ u_ws C T N, w ∈ u_ws C T N := fun w hw => hw
  have F0' := F
  obtain ⟨hx, hb, hml, hown, hlk, hret, ⟨-, hKn, hKc, -⟩, hW, -⟩ := F0'
  have hcA := classAt_moved hW.alike (hKc ci _ hc hnW)
  rcases xbind_some he with ⟨u, h1', c1, s1, r', h2', c2, s2, hf, hkk, hz⟩ | ⟨q, h1', c1, s1, hf, hz⟩
  · cases hf
    cases hz
    refine W.newcK hx hb hown (xwd F w1) (xwd F w2) (xwd F w3) rfl hd (by omega) (by omega) hcA.1 hR.1 (fun H' kC hkC g1 g2 g3 => ?_)
    have hu : u_Kn s C T N (D.1 ci) (D.2.1 ci) := ⟨fun k hk => by
      obtain ⟨cf, kf, fi, f, q1, -, -, q4⟩ := xfld F hc hk (ref := (T k).1) (Or.inl rfl)
      exact ⟨cf, kf, fi, f, q1, q4⟩, hcA⟩
    obtain ⟨cell, q1, q2, q3, q4⟩ := u_born ty0 hts hid hu hkC g1 hty
    have hR' := hR.push (c := (true, .inr (ci, fs))) g2 g3 ⟨cell, q1, (by rw [q3]; exact (fun z => by cases z)), (by rw [q3]; rfl), q2, fun _ => ⟨q3, fun _ => by have hq := Option.some.inj (q1.symm.trans g1); rw [hq]; exact ⟨rfl, rfl⟩⟩, Or.inl ⟨_, hc, fun k hk => (q4 k hk).trans (congrArg some (hfs k hk))⟩⟩
    have K2 := K n _ (n + 1) o h' c2 s2 hkk H' locs (cells + 1) (slots + sz) ls hR' hlv hL (by omega) (by omega)
    have e1 : n + (1 + c2) = n + 1 + c2 := by omega
    have e2 : cells + (1 + c2) = cells + 1 + c2 := by omega
    have e3 : slots + (sz + s2) = slots + sz + s2 := by omega
    rw [e1, e2, e3]
    exact K2
  · cases hf
theorem xarrAt {D : xD} {s0 : State} {l : Launch} {b0 t a : Nat} {x : vp_A} {H : Heap} {ty : FieldType} {Γ : Nat → Option Nat} (G : xG l D s0 b0 Γ) (ht : xty[t]? = some ty) (hH : H[a]? = some (vp_cell (D.2.2 t) x)) : xat D s0 a (true, .inl (t, x)) H := by
  obtain ⟨nn, y⟩ := x
  refine ⟨_, hH, ?_, ?_, ⟨ty, ht, ?_⟩, ?_, fun _ => rfl⟩
  · rcases y with f | f | f | f | f <;> exact fun z => by cases z
  · rcases y with f | f | f | f | f <;> rfl
  · rcases y with f | f | f | f | f <;> exact (G.2.2.2.1 t ty ht).1 _ _
  · rcases y with f | f | f | f | f <;> rfl
theorem xsz (d : ClassId) (x : vp_A) : (vp_cell d x).slots.size = x.1 := by
  obtain ⟨nn, y⟩ := x
  rcases y with f | f | f | f | f <;> exact arrV_size _ _ _
theorem xr_len {r : Option Nat} {kk : Int32 → xM α} (F : xF x own cc ret) (hd : decode cc pc = .ok (.arraylength, 1)) (K : ∀ v, xI x emb (pc + 1) lv (.int v :: st) (kk v)) : xI x emb pc lv (va_rf r :: st) (xbind (xlen r) kk) := by
  obtain ⟨p, l, e, R, s, m, args, below, meth, c, D, s0, Γ, nL, b0⟩ := x
  intro h n o h' dc ds he H locs cells slots ls hR hlv hL h1 h2
  obtain ⟨hx, hb, hml, hown, hlk, hret, G, hW, -⟩ := F
  rcases xbind_some he with ⟨u, h1', c1, s1, r', h2', c2, s2, hf, hkk, hz⟩ | ⟨q, h1', c1, s1, hf, hz⟩
  · unfold xlen at hf
    split at hf
    · rename_i a0 t xx ho
      cases hf
      cases hz
      obtain ⟨rfl, w, ha⟩ := xarr_some ho
      obtain ⟨cell, g1, g2, g3, ⟨ty, g5, g6⟩, g7, -⟩ := hR.2.2.2.1 _ _ ha
      exact W.alen hx hb g1 (State.isArrayOf_alike hW.alike g6) (by rw [g7, xsz]) rfl rfl hd (K _ h n o h' (0 + c2) (0 + s2) (by rw [Nat.zero_add, Nat.zero_add]; exact hkk) H locs cells slots ls hR hlv hL h1 h2)
    · cases hf
  · unfold xlen at hf
    split at hf <;> cases hf
theorem xr_iald {r : Option Nat} {i : Int32} {kk : Int32 → xM α} (F : xF x own cc ret) (hd : decode cc pc = .ok (.iaload, 1)) (K : ∀ v, xI x emb (pc + 1) lv (.int v :: st) (kk v)) : xI x emb pc lv (.int i :: va_rf r :: st) (xbind (xldI 1 r i) kk) := by
  obtain ⟨p, l, e, R, s, m, args, below, meth, c, D, s0, Γ, nL, b0⟩ := x
  intro h n o h' dc ds he H locs cells slots ls hR hlv hL h1 h2
  obtain ⟨hx, hb, hml, hown, hlk, hret, G, hW, -⟩ := F
  rcases xbind_some he with ⟨u, h1', c1, s1, r', h2', c2, s2, hf, hkk, hz⟩ | ⟨q, h1', c1, s1, hf, hz⟩
  · unfold xldI at hf
    split at hf
    · rename_i a0 t nn f ho
      split at hf
      · rename_i hcc
        cases hf
        cases hz
        obtain ⟨rfl, hin⟩ := hcc
        obtain ⟨rfl, w, ha⟩ := xarr_some ho
        obtain ⟨cell, g1, g2, g3, ⟨ty, g5, g6⟩, g7, -⟩ := hR.2.2.2.1 _ _ ha
        cases g5
        have hlt : i.toNatClampNeg < nn := Nat.not_le.mp fun q => hin (Or.inr q)
        exact W.iald (v := .int (f i.toNatClampNeg)) hx hb g1 (State.isArrayOf_alike hW.alike g6) g2 (by rw [g7, xsz]; exact hin) (by rw [g7]; exact arrV_read _ _ hlt) rfl rfl hd (K _ h n o h' (0 + c2) (0 + s2) (by rw [Nat.zero_add, Nat.zero_add]; exact hkk) H locs cells slots ls hR hlv hL h1 h2)
      · cases hf
    · cases hf
  · unfold xldI at hf
    split at hf
    · split at hf <;> cases hf
    · cases hf
theorem xr_bald {r : Option Nat} {i : Int32} {kk : Int32 → xM α} (F : xF x own cc ret) (hd : decode cc pc = .ok (.baload, 1)) (K : ∀ v, xI x emb (pc + 1) lv (.int v :: st) (kk v)) : xI x emb pc lv (.int i :: va_rf r :: st) (xbind (xldI 0 r i) kk) := by
  obtain ⟨p, l, e, R, s, m, args, below, meth, c, D, s0, Γ, nL, b0⟩ := x
  intro h n o h' dc ds he H locs cells slots ls hR hlv hL h1 h2
  obtain ⟨hx, hb, hml, hown, hlk, hret, G, hW, -⟩ := F
  rcases xbind_some he with ⟨u, h1', c1, s1, r', h2', c2, s2, hf, hkk, hz⟩ | ⟨q, h1', c1, s1, hf, hz⟩
  · unfold xldI at hf
    split at hf
    · rename_i a0 t nn f ho
      split at hf
      · rename_i hcc
        cases hf
        cases hz
        obtain ⟨rfl, hin⟩ := hcc
        obtain ⟨rfl, w, ha⟩ := xarr_some ho
        obtain ⟨cell, g1, g2, g3, ⟨ty, g5, g6⟩, g7, -⟩ := hR.2.2.2.1 _ _ ha
        cases g5
        have hlt : i.toNatClampNeg < nn := Nat.not_le.mp fun q => hin (Or.inr q)
        exact W.bald (v := .int (f i.toNatClampNeg)) hx hb g1 (State.isArrayOf_alike hW.alike g6) g2 (by rw [g7, xsz]; exact hin) (by rw [g7]; exact arrV_read _ _ hlt) rfl rfl hd (K _ h n o h' (0 + c2) (0 + s2) (by rw [Nat.zero_add, Nat.zero_add]; exact hkk) H locs cells slots ls hR hlv hL h1 h2)
      · cases hf
    · cases hf
  · unfold xldI at hf
    split at hf
    · split at hf <;> cases hf
    · cases hf
theorem xr_cald {r : Option Nat} {i : Int32} {kk : Int32 → xM α} (F : xF x own cc ret) (hd : decode cc pc = .ok (.caload, 1)) (K : ∀ v, xI x emb (pc + 1) lv (.int v :: st) (kk v)) : xI x emb pc lv (.int i :: va_rf r :: st) (xbind (xldI 4 r i) kk) := by
  obtain ⟨p, l, e, R, s, m, args, below, meth, c, D, s0, Γ, nL, b0⟩ := x
  intro h n o h' dc ds he H locs cells slots ls hR hlv hL h1 h2
  obtain ⟨hx, hb, hml, hown, hlk, hret, G, hW, -⟩ := F
  rcases xbind_some he with ⟨u, h1', c1, s1, r', h2', c2, s2, hf, hkk, hz⟩ | ⟨q, h1', c1, s1, hf, hz⟩
  · unfold xldI at hf
    split at hf
    · rename_i a0 t nn f ho
      split at hf
      · rename_i hcc
        cases hf
        cases hz
        obtain ⟨rfl, hin⟩ := hcc
        obtain ⟨rfl, w, ha⟩ := xarr_some ho
        obtain ⟨cell, g1, g2, g3, ⟨ty, g5, g6⟩, g7, -⟩ := hR.2.2.2.1 _ _ ha
        cases g5
        have hlt : i.toNatClampNeg < nn := Nat.not_le.mp fun q => hin (Or.inr q)
        exact W.cald (v := .int (f i.toNatClampNeg)) hx hb g1 (State.isArrayOf_alike hW.alike g6) g2 (by rw [g7, xsz]; exact hin) (by rw [g7]; exact arrV_read _ _ hlt) rfl rfl hd (K _ h n o h' (0 + c2) (0 + s2) (by rw [Nat.zero_add, Nat.zero_add]; exact hkk) H locs cells slots ls hR hlv hL h1 h2)
      · cases hf
    · cases hf
  · unfold xldI at hf
    split at hf
    · split at hf <;> cases hf
    · cases hf
theorem xr_lald {r : Option Nat} {i : Int32} {kk : Int64 → xM α} (F : xF x own cc ret) (hd : decode cc pc = .ok (.laload, 1)) (K : ∀ v, xI x emb (pc + 1) lv (.long v :: st) (kk v)) : xI x emb pc lv (.int i :: va_rf r :: st) (xbind (xldJ 2 r i) kk) := by
  obtain ⟨p, l, e, R, s, m, args, below, meth, c, D, s0, Γ, nL, b0⟩ := x
  intro h n o h' dc ds he H locs cells slots ls hR hlv hL h1 h2
  obtain ⟨hx, hb, hml, hown, hlk, hret, G, hW, -⟩ := F
  rcases xbind_some he with ⟨u, h1', c1, s1, r', h2', c2, s2, hf, hkk, hz⟩ | ⟨q, h1', c1, s1, hf, hz⟩
  · unfold xldJ at hf
    split at hf
    · rename_i a0 t nn f ho
      split at hf
      · rename_i hcc
        cases hf
        cases hz
        obtain ⟨rfl, hin⟩ := hcc
        obtain ⟨rfl, w, ha⟩ := xarr_some ho
        obtain ⟨cell, g1, g2, g3, ⟨ty, g5, g6⟩, g7, -⟩ := hR.2.2.2.1 _ _ ha
        cases g5
        have hlt : i.toNatClampNeg < nn := Nat.not_le.mp fun q => hin (Or.inr q)
        exact W.lald (v := .long (f i.toNatClampNeg)) hx hb g1 (State.isArrayOf_alike hW.alike g6) g2 (by rw [g7, xsz]; exact hin) (by rw [g7]; exact arrV_read _ _ hlt) rfl rfl hd (K _ h n o h' (0 + c2) (0 + s2) (by rw [Nat.zero_add, Nat.zero_add]; exact hkk) H locs cells slots ls hR hlv hL h1 h2)
      · cases hf
    · cases hf
  · unfold xldJ at hf
    split at hf
    · split at hf <;> cases hf
    · cases hf
theorem xr_dald {r : Option Nat} {i : Int32} {kk : UInt64 → xM α} (F : xF x own cc ret) (hd : decode cc pc = .ok (.daload, 1)) (K : ∀ v, xI x emb (pc + 1) lv (.double v :: st) (kk v)) : xI x emb pc lv (.int i :: va_rf r :: st) (xbind (xldD 3 r i) kk) := by
  obtain ⟨p, l, e, R, s, m, args, below, meth, c, D, s0, Γ, nL, b0⟩ := x
  intro h n o h' dc ds he H locs cells slots ls hR hlv hL h1 h2
  obtain ⟨hx, hb, hml, hown, hlk, hret, G, hW, -⟩ := F
  rcases xbind_some he with ⟨u, h1', c1, s1, r', h2', c2, s2, hf, hkk, hz⟩ | ⟨q, h1', c1, s1, hf, hz⟩
  · unfold xldD at hf
    split at hf
    · rename_i a0 t nn f ho
      split at hf
      · rename_i hcc
        cases hf
        cases hz
        obtain ⟨rfl, hin⟩ := hcc
        obtain ⟨rfl, w, ha⟩ := xarr_some ho
        obtain ⟨cell, g1, g2, g3, ⟨ty, g5, g6⟩, g7, -⟩ := hR.2.2.2.1 _ _ ha
        cases g5
        have hlt : i.toNatClampNeg < nn := Nat.not_le.mp fun q => hin (Or.inr q)
        exact W.dald (v := .double (f i.toNatClampNeg)) hx hb g1 (State.isArrayOf_alike hW.alike g6) g2 (by rw [g7, xsz]; exact hin) (by rw [g7]; exact arrV_read _ _ hlt) rfl rfl hd (K _ h n o h' (0 + c2) (0 + s2) (by rw [Nat.zero_add, Nat.zero_add]; exact hkk) H locs cells slots ls hR hlv hL h1 h2)
      · cases hf
    · cases hf
  · unfold xldD at hf
    split at hf
    · split at hf <;> cases hf
    · cases hf
theorem xr_iast {r : Option Nat} {i : Int32} {v : Int32} {kk : Unit → xM α} (F : xF x own cc ret) (hd : decode cc pc = .ok (.iastore, 1)) (K : xI x emb (pc + 1) lv st (kk ())) : xI x emb pc lv (.int v :: .int i :: va_rf r :: st) (xbind (xstI 1 r i v) kk) := by
  obtain ⟨p, l, e, R, s, m, args, below, meth, c, D, s0, Γ, nL, b0⟩ := x
  intro h n o h' dc ds he H locs cells slots ls hR hlv hL h1 h2
  obtain ⟨hx, hb, hml, hown, hlk, hret, G, hW, -⟩ := F
  rcases xbind_some he with ⟨u, h1', c1, s1, r', h2', c2, s2, hf, hkk, hz⟩ | ⟨q, h1', c1, s1, hf, hz⟩
  · unfold xstI at hf
    split at hf
    · cases hf
    · rename_i a0
      split at hf
      · rename_i t nn f ha
        split at hf
        · rename_i hcc
          cases hf
          cases hz
          obtain ⟨rfl, hin⟩ := hcc
          obtain ⟨cell, g1, g2, g3, ⟨ty, g5, g6⟩, g7, g8⟩ := hR.2.2.2.1 _ _ ha
          cases g5
          have hcell := g8 rfl
          refine W.iast hx hb g1 (State.isArrayOf_alike hW.alike g6) g2 (by rw [g7, xsz]; exact hin) rfl rfl hd (fun H' e1 e2 e3 => ?_)
          have hR' := hR.put ha rfl e2 e3 (xarrAt G (t := 1) (x := (nn, .inl (va_up f i.toNatClampNeg (v)))) rfl (by
            rw [e1, hcell]
            simp only [vp_cell]
            rw [arrV_store]
            congr 2
            funext q
            by_cases hq : q = i.toNatClampNeg
            · subst hq; simp [updV, va_up, narrow]
            · simp [updV, va_up, hq]))
          exact K _ n o h' (0 + c2) (0 + s2) (by rw [Nat.zero_add, Nat.zero_add]; exact hkk) H' _ cells slots ls hR' hlv (fun q hq => by
            rcases List.mem_append.mp hq with h | h
            · exact hL q h
            · rw [List.mem_singleton.mp h]; exact hR.2.2.2.2 _ _ ha rfl) h1 h2
        · cases hf
      · cases hf
  · unfold xstI at hf
    split at hf
    · cases hf
    · split at hf
      · split at hf <;> cases hf
      · cases hf
theorem xr_bast {r : Option Nat} {i : Int32} {v : Int32} {kk : Unit → xM α} (F : xF x own cc ret) (hd : decode cc pc = .ok (.bastore, 1)) (K : xI x emb (pc + 1) lv st (kk ())) : xI x emb pc lv (.int v :: .int i :: va_rf r :: st) (xbind (xstI 0 r i v.toInt8.toInt32) kk) := by
  obtain ⟨p, l, e, R, s, m, args, below, meth, c, D, s0, Γ, nL, b0⟩ := x
  intro h n o h' dc ds he H locs cells slots ls hR hlv hL h1 h2
  obtain ⟨hx, hb, hml, hown, hlk, hret, G, hW, -⟩ := F
  rcases xbind_some he with ⟨u, h1', c1, s1, r', h2', c2, s2, hf, hkk, hz⟩ | ⟨q, h1', c1, s1, hf, hz⟩
  · unfold xstI at hf
    split at hf
    · cases hf
    · rename_i a0
      split at hf
      · rename_i t nn f ha
        split at hf
        · rename_i hcc
          cases hf
          cases hz
          obtain ⟨rfl, hin⟩ := hcc
          obtain ⟨cell, g1, g2, g3, ⟨ty, g5, g6⟩, g7, g8⟩ := hR.2.2.2.1 _ _ ha
          cases g5
          have hcell := g8 rfl
          refine W.bast hx hb g1 (State.isArrayOf_alike hW.alike g6) g2 (by rw [g7, xsz]; exact hin) rfl rfl hd (fun H' e1 e2 e3 => ?_)
          have hR' := hR.put ha rfl e2 e3 (xarrAt G (t := 0) (x := (nn, .inl (va_up f i.toNatClampNeg (v.toInt8.toInt32)))) rfl (by
            rw [e1, hcell]
            simp only [vp_cell]
            rw [arrV_store]
            congr 2
            funext q
            by_cases hq : q = i.toNatClampNeg
            · subst hq; simp [updV, va_up, narrow]
            · simp [updV, va_up, hq]))
          exact K _ n o h' (0 + c2) (0 + s2) (by rw [Nat.zero_add, Nat.zero_add]; exact hkk) H' _ cells slots ls hR' hlv (fun q hq => by
            rcases List.mem_append.mp hq with h | h
            · exact hL q h
            · rw [List.mem_singleton.mp h]; exact hR.2.2.2.2 _ _ ha rfl) h1 h2
        · cases hf
      · cases hf
  · unfold xstI at hf
    split at hf
    · cases hf
    · split at hf
      · split at hf <;> cases hf
      · cases hf
theorem xr_last {r : Option Nat} {i : Int32} {v : Int64} {kk : Unit → xM α} (F : xF x own cc ret) (hd : decode cc pc = .ok (.lastore, 1)) (K : xI x emb (pc + 1) lv st (kk ())) : xI x emb pc lv (.long v :: .int i :: va_rf r :: st) (xbind (xstJ 2 r i v) kk) := by
  obtain ⟨p, l, e, R, s, m, args, below, meth, c, D, s0, Γ, nL, b0⟩ := x
  intro h n o h' dc ds he H locs cells slots ls hR hlv hL h1 h2
  obtain ⟨hx, hb, hml, hown, hlk, hret, G, hW, -⟩ := F
  rcases xbind_some he with ⟨u, h1', c1, s1, r', h2', c2, s2, hf, hkk, hz⟩ | ⟨q, h1', c1, s1, hf, hz⟩
  · unfold xstJ at hf
    split at hf
    · cases hf
    · rename_i a0
      split at hf
      · rename_i t nn f ha
        split at hf
        · rename_i hcc
          cases hf
          cases hz
          obtain ⟨rfl, hin⟩ := hcc
          obtain ⟨cell, g1, g2, g3, ⟨ty, g5, g6⟩, g7, g8⟩ := hR.2.2.2.1 _ _ ha
          cases g5
          have hcell := g8 rfl
          refine W.last hx hb g1 (State.isArrayOf_alike hW.alike g6) g2 (by rw [g7, xsz]; exact hin) rfl rfl hd (fun H' e1 e2 e3 => ?_)
          have hR' := hR.put ha rfl e2 e3 (xarrAt G (t := 2) (x := (nn, .inr (.inl (va_up f i.toNatClampNeg (v))))) rfl (by
            rw [e1, hcell]
            simp only [vp_cell]
            rw [arrV_store]
            congr 2
            funext q
            by_cases hq : q = i.toNatClampNeg
            · subst hq; simp [updV, va_up, narrow]
            · simp [updV, va_up, hq]))
          exact K _ n o h' (0 + c2) (0 + s2) (by rw [Nat.zero_add, Nat.zero_add]; exact hkk) H' _ cells slots ls hR' hlv (fun q hq => by
            rcases List.mem_append.mp hq with h | h
            · exact hL q h
            · rw [List.mem_singleton.mp h]; exact hR.2.2.2.2 _ _ ha rfl) h1 h2
        · cases hf
      · cases hf
  · unfold xstJ at hf
    split at hf
    · cases hf
    · split at hf
      · split at hf <;> cases hf
      · cases hf
theorem xr_dast {r : Option Nat} {i : Int32} {v : UInt64} {kk : Unit → xM α} (F : xF x own cc ret) (hd : decode cc pc = .ok (.dastore, 1)) (K : xI x emb (pc + 1) lv st (kk ())) : xI x emb pc lv (.double v :: .int i :: va_rf r :: st) (xbind (xstD 3 r i v) kk) := by
  obtain ⟨p, l, e, R, s, m, args, below, meth, c, D, s0, Γ, nL, b0⟩ := x
  intro h n o h' dc ds he H locs cells slots ls hR hlv hL h1 h2
  obtain ⟨hx, hb, hml, hown, hlk, hret, G, hW, -⟩ := F
  rcases xbind_some he with ⟨u, h1', c1, s1, r', h2', c2, s2, hf, hkk, hz⟩ | ⟨q, h1', c1, s1, hf, hz⟩
  · unfold xstD at hf
    split at hf
    · cases hf
    · rename_i a0
      split at hf
      · rename_i t nn f ha
        split at hf
        · rename_i hcc
          cases hf
          cases hz
          obtain ⟨rfl, hin⟩ := hcc
          obtain ⟨cell, g1, g2, g3, ⟨ty, g5, g6⟩, g7, g8⟩ := hR.2.2.2.1 _ _ ha
          cases g5
          have hcell := g8 rfl
          refine W.dast hx hb g1 (State.isArrayOf_alike hW.alike g6) g2 (by rw [g7, xsz]; exact hin) rfl rfl hd (fun H' e1 e2 e3 => ?_)
          have hR' := hR.put ha rfl e2 e3 (xarrAt G (t := 3) (x := (nn, .inr (.inr (.inr (.inl (va_up f i.toNatClampNeg (v))))))) rfl (by
            rw [e1, hcell]
            simp only [vp_cell]
            rw [arrV_store]
            congr 2
            funext q
            by_cases hq : q = i.toNatClampNeg
            · subst hq; simp [updV, va_up, narrow]
            · simp [updV, va_up, hq]))
          exact K _ n o h' (0 + c2) (0 + s2) (by rw [Nat.zero_add, Nat.zero_add]; exact hkk) H' _ cells slots ls hR' hlv (fun q hq => by
            rcases List.mem_append.mp hq with h | h
            · exact hL q h
            · rw [List.mem_singleton.mp h]; exact hR.2.2.2.2 _ _ ha rfl) h1 h2
        · cases hf
      · cases hf
  · unfold xstD at hf
    split at hf
    · cases hf
    · split at hf
      · split at hf <;> cases hf
      · cases hf
end XH3
