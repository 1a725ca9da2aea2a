/-! part 400: the abstract heap by classes and fields: getters, setters, how the operations run -/
set_option maxRecDepth 100000
abbrev yCt : Type := (Nat → Int32) ⊕ (Nat → Int64) ⊕ (Nat → UInt32) ⊕ (Nat → UInt64) ⊕ (Nat → Option Nat)
def ykd (v : Value) : Nat := match v with
  | .int _ => 0
  | .long _ => 1
  | .double _ => 2
  | .null => 3
  | .ref _ => 3
  | _ => 4
def ykc (x : yCt) : Nat := match x with
  | .inl _ => 0
  | .inr (.inl _) => 1
  | .inr (.inr (.inl _)) => 2
  | .inr (.inr (.inr (.inl _))) => 3
  | .inr (.inr (.inr (.inr _))) => 4
def ytk (t : Nat) : Nat := match t with
  | 0 => 0
  | 1 => 0
  | 2 => 1
  | 3 => 3
  | 4 => 0
  | _ => 4
def ykn (ci : Nat) : List Nat := match ci with
  | 0 => [3, 0, 0, 0, 3, 3, 3]
  | 1 => [3, 3, 0, 0, 0]
  | 2 => [0, 3, 0]
  | 3 => []
  | 4 => [3, 0, 0, 0]
  | 5 => [3, 0, 0, 0]
  | 6 => [0, 0, 3, 3]
  | 7 => [0, 0, 0, 3]
  | 8 => []
  | 9 => [3, 3, 0, 0, 3]
  | 10 => []
  | 11 => [3]
  | 12 => [0, 0, 0, 3]
  | 13 => [3, 3, 0, 3]
  | 14 => [3, 3, 0, 3]
  | 15 => [0]
  | 16 => [3, 3, 3, 3, 0, 0, 3, 3, 3]
  | 17 => [0, 0, 0, 3, 3]
  | 18 => [3, 3, 3, 3, 3, 0, 0, 0]
  | 19 => [3, 3, 3, 0, 0, 0, 3, 3]
  | 20 => [3, 0, 3, 0, 3, 3]
  | 21 => [1]
  | 22 => [0, 0, 0, 0, 0, 0, 0]
  | 23 => [3, 0, 0]
  | 24 => [3, 3, 0, 0]
  | 25 => [3, 3, 3]
  | 26 => [3]
  | 27 => [3, 3, 3]
  | 28 => [1, 1, 1, 1]
  | 29 => [3, 3, 3, 3, 3, 0]
  | 30 => [3, 3, 3, 3, 3, 0]
  | 31 => [3, 3]
  | 32 => [3]
  | 33 => [3, 0, 3, 0]
  | 34 => []
  | 35 => []
  | 36 => [3, 3, 3, 3, 3, 0]
  | 37 => [0, 0, 0, 0]
  | 38 => [0, 3, 0, 0, 0, 0]
  | 39 => [0, 3, 3, 3, 0, 3, 3, 3, 3, 0, 3, 3, 0, 0, 0, 0, 0, 0, 0, 0, 0, 0, 3, 3, 0]
  | 40 => [0]
  | 41 => [0]
  | 42 => [0]
  | 43 => [0]
  | 44 => [0]
  | 45 => [0]
  | 46 => [0]
  | 47 => [0]
  | 48 => [0]
  | 49 => [0]
  | 50 => [0]
  | 51 => [0]
  | 52 => [0]
  | 1000 => [3]
  | 1001 => [3]
  | 1002 => [3]
  | 1003 => []
  | 1004 => []
  | 1005 => []
  | 1006 => []
  | 1007 => []
  | 1008 => []
  | 1009 => []
  | 1010 => []
  | 1011 => [0]
  | 1012 => [0, 0]
  | _ => [4]
def yhdc (c : xAC) : Bool × ((Nat × Nat × Nat) ⊕ (Nat × List Nat)) := (c.1, match c.2 with
  | .inl (t, n, x) => .inl (t, n, ykc x)
  | .inr (ci, fs) => .inr (ci, fs.map ykd))
def yhd (h : xH) (a : Nat) : Option (Bool × ((Nat × Nat × Nat) ⊕ (Nat × List Nat))) := (h a).map yhdc
/-- an object of class ci; one that may be written -/
def yO (h : xH) (ci a : Nat) : Prop := ∃ w, yhd h a = some (w, .inr (ci, ykn ci))
def yW (h : xH) (ci a : Nat) : Prop := yhd h a = some (true, .inr (ci, ykn ci))
/-- an array of type t; one that may be written -/
def yA (h : xH) (t a : Nat) : Prop := ∃ w n, yhd h a = some (w, .inl (t, n, ytk t))
def yB (h : xH) (t a : Nat) : Prop := ∃ n, yhd h a = some (true, .inl (t, n, ytk t))
def yln (h : xH) (a : Nat) : Nat := match yhd h a with
  | some (_, .inl (_, n, _)) => n
  | _ => 0
def yv (h : xH) (ci k a : Nat) : Value := match h a with
  | some (_, .inr (c, fs)) => if c = ci then fs.getD k .null else .null
  | _ => .null
def yc (h : xH) (t a : Nat) : yCt := match h a with
  | some (_, .inl (u, _, x)) => if u = t then x else .inl (fun _ => 0)
  | _ => .inl (fun _ => 0)
def yvI (v : Value) : Int32 := match v with
  | .int x => x
  | _ => 0
def yvJ (v : Value) : Int64 := match v with
  | .long x => x
  | _ => 0
def yvR (v : Value) : Option Nat := match v with
  | .ref x => some x
  | _ => none
def ycI (x : yCt) : Nat → Int32 := match x with
  | .inl f => f
  | _ => fun _ => 0
def ycJ (x : yCt) : Nat → Int64 := match x with
  | .inr (.inl f) => f
  | _ => fun _ => 0
def ycD (x : yCt) : Nat → UInt64 := match x with
  | .inr (.inr (.inr (.inl f))) => f
  | _ => fun _ => 0
def ycR (x : yCt) : Nat → Option Nat := match x with
  | .inr (.inr (.inr (.inr f))) => f
  | _ => fun _ => none
def yi (h : xH) (ci k a : Nat) : Int32 := yvI (yv h ci k a)
def yj (h : xH) (ci k a : Nat) : Int64 := yvJ (yv h ci k a)
def yr (h : xH) (ci k a : Nat) : Option Nat := yvR (yv h ci k a)
def yli (h : xH) (t a : Nat) : Nat → Int32 := ycI (yc h t a)
def ylj (h : xH) (t a : Nat) : Nat → Int64 := ycJ (yc h t a)
def yld (h : xH) (t a : Nat) : Nat → UInt64 := ycD (yc h t a)
def ylr (h : xH) (t a : Nat) : Nat → Option Nat := ycR (yc h t a)
/-- set a field; set an array's contents -/
def ysv (h : xH) (ci k a : Nat) (v : Value) : xH := match h a with
  | some (true, .inr (c, fs)) => if c = ci ∧ (fs.map ykd)[k]? = some (ykd v) then xupd h a (true, .inr (c, fs.set k v)) else h
  | _ => h
def ysc (h : xH) (t a : Nat) (x : yCt) : xH := match h a with
  | some (true, .inl (u, n, y)) => if u = t ∧ ykc y = ykc x then xupd h a (true, .inl (u, n, x)) else h
  | _ => h
abbrev ysi (h : xH) (ci k a : Nat) (v : Int32) : xH := ysv h ci k a (.int v)
abbrev ysj (h : xH) (ci k a : Nat) (v : Int64) : xH := ysv h ci k a (.long v)
abbrev ysr (h : xH) (ci k a : Nat) (v : Option Nat) : xH := ysv h ci k a (va_rf v)
abbrev ysl (h : xH) (t a : Nat) (f : Nat → Int32) : xH := ysc h t a (.inl f)
theorem ykd_rf (r : Option Nat) : ykd (va_rf r) = 3 := by cases r <;> rfl
theorem yvR_rf (r : Option Nat) : yvR (va_rf r) = r := by cases r <;> rfl
theorem yhd_sv (h : xH) (ci k a : Nat) (v : Value) (b : Nat) : yhd (ysv h ci k a v) b = yhd h b := by
  unfold ysv
  split
  · rename_i c fs hc
    split
    · rename_i hg
      unfold yhd xupd
      (try dsimp only)
      split
      · rename_i hb
        subst hb
        rw [hc]
        simp only [Option.map_some, yhdc, List.map_set]
        congr 4
        refine List.ext_getElem? fun j => ?_
        rw [List.getElem?_set]
        split
        · rename_i hj
          subst hj
          split
          · exact hg.2.symm
          · rename_i hl
            rw [List.getElem?_eq_none (by omega)]
        · rfl
      · rfl
    · rfl
  · rfl
theorem yhd_sc (h : xH) (t a : Nat) (x : yCt) (b : Nat) : yhd (ysc h t a x) b = yhd h b := by
  unfold ysc
  split
  · rename_i u n y hc
    split
    · rename_i hg
      unfold yhd xupd
      (try dsimp only)
      split
      · rename_i hb
        subst hb
        rw [hc]
        simp only [Option.map_some, yhdc, hg.2]
      · rfl
    · rfl
  · rfl
theorem yhd_up (h : xH) (n : Nat) (c : xAC) (b : Nat) : yhd (xupd h n c) b = if b = n then some (yhdc c) else yhd h b := by
  unfold yhd xupd
  (try dsimp only)
  split <;> rfl
theorem yO_sv (h : xH) (ci k a : Nat) (v : Value) (c b : Nat) : yO (ysv h ci k a v) c b ↔ yO h c b := by unfold yO; rw [yhd_sv]
theorem yW_sv (h : xH) (ci k a : Nat) (v : Value) (c b : Nat) : yW (ysv h ci k a v) c b ↔ yW h c b := by unfold yW; rw [yhd_sv]
theorem yA_sv (h : xH) (ci k a : Nat) (v : Value) (c b : Nat) : yA (ysv h ci k a v) c b ↔ yA h c b := by unfold yA; rw [yhd_sv]
theorem yB_sv (h : xH) (ci k a : Nat) (v : Value) (c b : Nat) : yB (ysv h ci k a v) c b ↔ yB h c b := by unfold yB; rw [yhd_sv]
theorem yln_sv (h : xH) (ci k a : Nat) (v : Value) (b : Nat) : yln (ysv h ci k a v) b = yln h b := by unfold yln; rw [yhd_sv]
theorem yO_sc (h : xH) (t a : Nat) (x : yCt) (c b : Nat) : yO (ysc h t a x) c b ↔ yO h c b := by unfold yO; rw [yhd_sc]
theorem yW_sc (h : xH) (t a : Nat) (x : yCt) (c b : Nat) : yW (ysc h t a x) c b ↔ yW h c b := by unfold yW; rw [yhd_sc]
theorem yA_sc (h : xH) (t a : Nat) (x : yCt) (c b : Nat) : yA (ysc h t a x) c b ↔ yA h c b := by unfold yA; rw [yhd_sc]
theorem yB_sc (h : xH) (t a : Nat) (x : yCt) (c b : Nat) : yB (ysc h t a x) c b ↔ yB h c b := by unfold yB; rw [yhd_sc]
theorem yln_sc (h : xH) (t a : Nat) (x : yCt) (b : Nat) : yln (ysc h t a x) b = yln h b := by unfold yln; rw [yhd_sc]
theorem yO_of (h : xH) (ci a : Nat) (H : yW h ci a) : yO h ci a := ⟨true, H⟩
theorem yA_of (h : xH) (t a : Nat) (H : yB h t a) : yA h t a := ⟨true, H⟩
theorem yhd_o {h : xH} {a : Nat} {w : Bool} {ci : Nat} {ks : List Nat} (H : yhd h a = some (w, .inr (ci, ks))) : ∃ fs, h a = some (w, .inr (ci, fs)) ∧ fs.map ykd = ks := by
  unfold yhd at H
  cases hc : h a with
  | none => rw [hc] at H; cases H
  | some c =>
    rw [hc] at H
    obtain ⟨w', x⟩ := c
    cases x with
    | inl z => obtain ⟨t, n, y⟩ := z; cases H
    | inr z =>
      obtain ⟨c', fs⟩ := z
      cases H
      exact ⟨fs, rfl, rfl⟩
theorem yhd_a {h : xH} {a : Nat} {w : Bool} {t n k : Nat} (H : yhd h a = some (w, .inl (t, n, k))) : ∃ x, h a = some (w, .inl (t, n, x)) ∧ ykc x = k := by
  unfold yhd at H
  cases hc : h a with
  | none => rw [hc] at H; cases H
  | some c =>
    rw [hc] at H
    obtain ⟨w', x⟩ := c
    cases x with
    | inr z => obtain ⟨t, y⟩ := z; cases H
    | inl z =>
      obtain ⟨t', n', y⟩ := z
      cases H
      exact ⟨y, rfl, rfl⟩
theorem yv_sv {h : xH} {ci k a : Nat} {v : Value} (hW : yW h ci a) (hk : (ykn ci)[k]? = some (ykd v)) (c' k' b : Nat) : yv (ysv h ci k a v) c' k' b = if c' = ci ∧ k' = k ∧ b = a then v else yv h c' k' b := by
  obtain ⟨fs, hc, hm⟩ := yhd_o hW
  have hg : ci = ci ∧ (fs.map ykd)[k]? = some (ykd v) := ⟨rfl, by rw [hm]; exact hk⟩
  have hl : k < fs.length := by
    have := (List.getElem?_eq_some_iff.mp hg.2).1
    simpa using this
  have e : ysv h ci k a v = xupd h a (true, .inr (ci, fs.set k v)) := by
    unfold ysv
    rw [hc]
    exact if_pos hg
  rw [e]
  unfold yv xupd
  (try dsimp only)
  by_cases hb : b = a
  · subst hb
    rw [if_pos rfl, hc]
    (try dsimp only)
    by_cases h1 : c' = ci
    · subst h1
      rw [if_pos rfl, if_pos rfl]
      by_cases h2 : k' = k
      · subst h2
        rw [if_pos ⟨rfl, rfl, rfl⟩]
        simp [hl]
      · rw [if_neg (fun q => h2 q.2.1)]
        simp only [List.getD_eq_getElem?_getD]
        rw [List.getElem?_set_ne (fun q => h2 q.symm)]
    · have h1' : ¬ ci = c' := fun q => h1 q.symm
      simp [h1, h1']
  · rw [if_neg hb, if_neg (fun q => hb q.2.2)]
theorem yv_sc (h : xH) (t a : Nat) (x : yCt) (ci k b : Nat) : yv (ysc h t a x) ci k b = yv h ci k b := by
  unfold ysc
  split
  · rename_i u n y hc
    split
    · unfold yv xupd
      (try dsimp only)
      by_cases hb : b = a
      · subst hb
        rw [if_pos rfl, hc]
      · rw [if_neg hb]
    · rfl
  · rfl
theorem yc_sv (h : xH) (ci k a : Nat) (v : Value) (t b : Nat) : yc (ysv h ci k a v) t b = yc h t b := by
  unfold ysv
  split
  · rename_i c fs hc
    split
    · unfold yc xupd
      (try dsimp only)
      by_cases hb : b = a
      · subst hb
        rw [if_pos rfl, hc]
      · rw [if_neg hb]
    · rfl
  · rfl
theorem yc_sc {h : xH} {t a : Nat} {x : yCt} (hB : yB h t a) (hk : ykc x = ytk t) (u b : Nat) : yc (ysc h t a x) u b = if u = t ∧ b = a then x else yc h u b := by
  obtain ⟨n, hB⟩ := hB
  obtain ⟨y, hc, hm⟩ := yhd_a hB
  have e : ysc h t a x = xupd h a (true, .inl (t, n, x)) := by
    unfold ysc
    rw [hc]
    exact if_pos ⟨rfl, by rw [hm, hk]⟩
  rw [e]
  unfold yc xupd
  (try dsimp only)
  by_cases hb : b = a
  · subst hb
    rw [if_pos rfl, hc]
    (try dsimp only)
    by_cases h1 : u = t
    · subst h1
      rw [if_pos rfl, if_pos ⟨rfl, rfl⟩]
    · have h1' : ¬ t = u := fun q => h1 q.symm
      simp [h1, h1']
  · rw [if_neg hb, if_neg (fun q => hb q.2)]
theorem yv_up (h : xH) (n : Nat) (w : Bool) (c : Nat) (fs : List Value) (ci k b : Nat) : yv (xupd h n (w, .inr (c, fs))) ci k b = if b = n then (if c = ci then fs.getD k .null else .null) else yv h ci k b := by
  unfold yv xupd
  (try dsimp only)
  by_cases hb : b = n
  · rw [if_pos hb, if_pos hb]
  · rw [if_neg hb, if_neg hb]
theorem yv_upA (h : xH) (n : Nat) (w : Bool) (z : Nat × vp_A) (ci k b : Nat) : yv (xupd h n (w, .inl z)) ci k b = if b = n then .null else yv h ci k b := by
  unfold yv xupd
  (try dsimp only)
  by_cases hb : b = n
  · rw [if_pos hb, if_pos hb]
  · rw [if_neg hb, if_neg hb]
theorem yc_up (h : xH) (n : Nat) (w : Bool) (z : Nat × List Value) (t b : Nat) : yc (xupd h n (w, .inr z)) t b = if b = n then .inl (fun _ => 0) else yc h t b := by
  unfold yc xupd
  (try dsimp only)
  by_cases hb : b = n
  · rw [if_pos hb, if_pos hb]
  · rw [if_neg hb, if_neg hb]
theorem yc_upA (h : xH) (n : Nat) (w : Bool) (u N : Nat) (x : yCt) (t b : Nat) : yc (xupd h n (w, .inl (u, N, x))) t b = if b = n then (if u = t then x else .inl (fun _ => 0)) else yc h t b := by
  unfold yc xupd
  (try dsimp only)
  by_cases hb : b = n
  · rw [if_pos hb, if_pos hb]
  · rw [if_neg hb, if_neg hb]
/-! how the operations run -/
section YE
variable {Γ : Nat → Option Nat} {h : xH} {n ci k a t : Nat}
theorem yobj (H : yO h ci a) : ∃ w fs, h a = some (w, .inr (ci, fs)) ∧ fs.map ykd = ykn ci ∧ xobj h (some a) = some (a, ci, fs) := by
  obtain ⟨w, H⟩ := H
  obtain ⟨fs, hc, hm⟩ := yhd_o H
  exact ⟨w, fs, hc, hm, by unfold xobj; simp only [hc]⟩
theorem e_get (H : yO h ci a) (hk : k < (ykn ci).length) : xget ci k (some a) Γ h n = some (.inl (yv h ci k a), h, 0, 0) := by
  obtain ⟨w, fs, hc, hm, ho⟩ := yobj H
  have hl : k < fs.length := by
    rw [← hm] at hk
    simpa using hk
  unfold xget yv
  rw [ho, hc]
  simp [hl]
theorem yv_kind (H : yO h ci a) (hk : k < (ykn ci).length) : (ykn ci)[k]? = some (ykd (yv h ci k a)) := by
  obtain ⟨w, fs, hc, hm, ho⟩ := yobj H
  have hl : k < fs.length := by
    rw [← hm] at hk
    simpa using hk
  unfold yv
  rw [hc, ← hm]
  simp [hl]
theorem e_gI (H : yO h ci a) (hk : (ykn ci)[k]? = some 0) : xgI ci k (some a) Γ h n = some (.inl (yi h ci k a), h, 0, 0) := by
  have hl := (List.getElem?_eq_some_iff.mp hk).1
  have h1 := yv_kind H hl
  unfold xgI yi
  rw [e_get H hl]
  rw [hk] at h1
  revert h1
  cases yv h ci k a <;> intro h1 <;> first | rfl | (simp [ykd] at h1)
theorem e_gJ (H : yO h ci a) (hk : (ykn ci)[k]? = some 1) : xgJ ci k (some a) Γ h n = some (.inl (yj h ci k a), h, 0, 0) := by
  have hl := (List.getElem?_eq_some_iff.mp hk).1
  have h1 := yv_kind H hl
  unfold xgJ yj
  rw [e_get H hl]
  rw [hk] at h1
  revert h1
  cases yv h ci k a <;> intro h1 <;> first | rfl | (simp [ykd] at h1)
theorem e_gR (H : yO h ci a) (hk : (ykn ci)[k]? = some 3) : xgR ci k (some a) Γ h n = some (.inl (yr h ci k a), h, 0, 0) := by
  have hl := (List.getElem?_eq_some_iff.mp hk).1
  have h1 := yv_kind H hl
  unfold xgR yr
  rw [e_get H hl]
  rw [hk] at h1
  revert h1
  cases yv h ci k a <;> intro h1 <;> first | rfl | (simp [ykd] at h1)
theorem e_put {v : Value} (H : yW h ci a) (hk : (ykn ci)[k]? = some (ykd v)) : xput ci k (some a) v Γ h n = some (.inl (), ysv h ci k a v, 0, 0) := by
  obtain ⟨fs, hc, hm⟩ := yhd_o H
  have hg : ci = ci ∧ (fs.map ykd)[k]? = some (ykd v) := ⟨rfl, by rw [hm]; exact hk⟩
  have hl : k < fs.length := by
    have := (List.getElem?_eq_some_iff.mp hg.2).1
    simpa using this
  unfold xput ysv
  simp only [hc]
  rw [if_pos ⟨trivial, hl⟩, if_pos ⟨trivial, hg.2⟩]
theorem e_pN {ty : FieldType} {v : Int32} (H : yW h ci a) (hk : (ykn ci)[k]? = some 0) (hn : narrow ty (.int v) = .int v ∧ fits ty (.int v) = true) : xpN ci k ty (some a) v Γ h n = some (.inl (), ysv h ci k a (.int v), 0, 0) := by
  unfold xpN
  rw [if_pos hn, e_put H hk]
theorem yarr (H : yA h t a) : ∃ w N x, h a = some (w, .inl (t, N, x)) ∧ ykc x = ytk t ∧ xarr h (some a) = some (a, t, N, x) ∧ yln h a = N ∧ yc h t a = x := by
  obtain ⟨w, N, H⟩ := H
  obtain ⟨x, hc, hm⟩ := yhd_a H
  exact ⟨w, N, x, hc, hm, by unfold xarr; simp only [hc], by unfold yln; rw [H], by unfold yc; rw [hc]; simp⟩
theorem yarrB (H : yB h t a) : ∃ N x, h a = some (true, .inl (t, N, x)) ∧ ykc x = ytk t ∧ yln h a = N ∧ yc h t a = x := by
  obtain ⟨N, H⟩ := H
  obtain ⟨x, hc, hm⟩ := yhd_a H
  exact ⟨N, x, hc, hm, by unfold yln; rw [H], by unfold yc; rw [hc]; simp⟩
theorem e_len (H : yA h t a) : xlen (some a) Γ h n = some (.inl (yln h a).toInt32, h, 0, 0) := by
  obtain ⟨w, N, x, hc, hm, ha, hl, hx⟩ := yarr H
  unfold xlen
  rw [ha, hl]
def yin (h : xH) (a : Nat) (i : Int32) : Prop := ¬ (i < 0 ∨ yln h a ≤ i.toNatClampNeg)
theorem e_ldI {i : Int32} (H : yA h t a) (ht : ytk t = 0) (hi : yin h a i) : xldI t (some a) i Γ h n = some (.inl (yli h t a i.toNatClampNeg), h, 0, 0) := by
  obtain ⟨w, N, x, hc, hm, ha, hl, hx⟩ := yarr H
  unfold xldI yli
  rw [ha, hx]
  unfold yin at hi
  rw [hl] at hi
  rw [ht] at hm
  rcases x with f | f | f | f | f <;> first | (dsimp only; rw [if_pos ⟨rfl, hi⟩]; rfl) | (simp [ykc] at hm)
theorem e_ldJ {i : Int32} (H : yA h t a) (ht : ytk t = 1) (hi : yin h a i) : xldJ t (some a) i Γ h n = some (.inl (ylj h t a i.toNatClampNeg), h, 0, 0) := by
  obtain ⟨w, N, x, hc, hm, ha, hl, hx⟩ := yarr H
  unfold xldJ ylj
  rw [ha, hx]
  unfold yin at hi
  rw [hl] at hi
  rw [ht] at hm
  rcases x with f | f | f | f | f <;> first | (dsimp only; rw [if_pos ⟨rfl, hi⟩]; rfl) | (simp [ykc] at hm)
theorem e_ldD {i : Int32} (H : yA h t a) (ht : ytk t = 3) (hi : yin h a i) : xldD t (some a) i Γ h n = some (.inl (yld h t a i.toNatClampNeg), h, 0, 0) := by
  obtain ⟨w, N, x, hc, hm, ha, hl, hx⟩ := yarr H
  unfold xldD yld
  rw [ha, hx]
  unfold yin at hi
  rw [hl] at hi
  rw [ht] at hm
  rcases x with f | f | f | f | f <;> first | (dsimp only; rw [if_pos ⟨rfl, hi⟩]; rfl) | (simp [ykc] at hm)
theorem e_ldR {i : Int32} (H : yA h t a) (ht : ytk t = 4) (h5 : 5 ≤ t) (hi : yin h a i) : xldR (some a) i Γ h n = some (.inl (ylr h t a i.toNatClampNeg), h, 0, 0) := by
  obtain ⟨w, N, x, hc, hm, ha, hl, hx⟩ := yarr H
  unfold xldR ylr
  rw [ha, hx]
  unfold yin at hi
  rw [hl] at hi
  rw [ht] at hm
  rcases x with f | f | f | f | f <;> first | (dsimp only; rw [if_pos ⟨hi, h5⟩]; rfl) | (simp [ykc] at hm)
theorem e_stI {i v : Int32} (H : yB h t a) (ht : ytk t = 0) (hi : yin h a i) : xstI t (some a) i v Γ h n = some (.inl (), ysc h t a (.inl (va_up (yli h t a) i.toNatClampNeg v)), 0, 0) := by
  obtain ⟨N, x, hc, hm, hl, hx⟩ := yarrB H
  unfold xstI yli ysc
  unfold yin at hi
  rw [hl] at hi
  rw [ht] at hm
  rcases x with f | f | f | f | f <;> first | (simp only [hc]; rw [if_pos ⟨trivial, hi⟩, if_pos ⟨trivial, rfl⟩, hx]; rfl) | (simp [ykc] at hm)
theorem e_stJ {i : Int32} {v : Int64} (H : yB h t a) (ht : ytk t = 1) (hi : yin h a i) : xstJ t (some a) i v Γ h n = some (.inl (), ysc h t a (.inr (.inl (va_up (ylj h t a) i.toNatClampNeg v))), 0, 0) := by
  obtain ⟨N, x, hc, hm, hl, hx⟩ := yarrB H
  unfold xstJ ylj ysc
  unfold yin at hi
  rw [hl] at hi
  rw [ht] at hm
  rcases x with f | f | f | f | f <;> first | (simp only [hc]; rw [if_pos ⟨trivial, hi⟩, if_pos ⟨trivial, rfl⟩, hx]; rfl) | (simp [ykc] at hm)
theorem e_stD {i : Int32} {v : UInt64} (H : yB h t a) (ht : ytk t = 3) (hi : yin h a i) : xstD t (some a) i v Γ h n = some (.inl (), ysc h t a (.inr (.inr (.inr (.inl (va_up (yld h t a) i.toNatClampNeg v))))), 0, 0) := by
  obtain ⟨N, x, hc, hm, hl, hx⟩ := yarrB H
  unfold xstD yld ysc
  unfold yin at hi
  rw [hl] at hi
  rw [ht] at hm
  rcases x with f | f | f | f | f <;> first | (simp only [hc]; rw [if_pos ⟨trivial, hi⟩, if_pos ⟨trivial, rfl⟩, hx]; rfl) | (simp [ykc] at hm)
theorem e_stR {i : Int32} {v : Option Nat} {ok : Nat → Bool} (H : yB h t a) (ht : ytk t = 4) (hi : yin h a i) (hv : xokR h ok v = true) : xstR t ok (some a) i v Γ h n = some (.inl (), ysc h t a (.inr (.inr (.inr (.inr (va_up (ylr h t a) i.toNatClampNeg v))))), 0, 0) := by
  obtain ⟨N, x, hc, hm, hl, hx⟩ := yarrB H
  unfold xstR ylr ysc
  unfold yin at hi
  rw [hl] at hi
  rw [ht] at hm
  rcases x with f | f | f | f | f <;> first | (simp only [hc]; rw [if_pos ⟨trivial, hi, hv⟩, if_pos ⟨trivial, rfl⟩, hx]; rfl) | (simp [ykc] at hm)
theorem e_sel {α : Type} {f : Nat → xM α} {L : List (Nat × (Nat → xM α))} (H : yO h ci a) : xsel (some a) ((ci, f) :: L) Γ h n = f a Γ h n := by
  obtain ⟨w, fs, hc, hm, ho⟩ := yobj H
  unfold xsel
  rw [ho]
  simp [List.lookup]
theorem e_sel2 {α : Type} {c : Nat} {f : Nat → xM α} {L : List (Nat × (Nat → xM α))} (H : yO h c a) (hn : c ≠ ci) : xsel (some a) ((ci, f) :: L) Γ h n = xsel (some a) L Γ h n := by
  obtain ⟨w, fs, hc, hm, ho⟩ := yobj H
  have hb : (c == ci) = false := by simpa using hn
  unfold xsel
  rw [ho]
  simp [List.lookup, hb]
end YE
