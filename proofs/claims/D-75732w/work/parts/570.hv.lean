/-! part 570: a herd as an overlay that is changed -/
abbrev hP : Type := (Nat → Int32) × (Nat → Int32) × (Nat → Int32) × Int32 × Int32 × Int32 × Int32 × Int32
def hP.f1 (q : hP) : Nat → Int32 := q.1
def hP.f3 (q : hP) : Nat → Int32 := q.2.1
def hP.l (q : hP) : Nat → Int32 := q.2.2.1
def hP.r (q : hP) : Int32 := q.2.2.2.1
def hP.m (q : hP) : Int32 := q.2.2.2.2.1
def hP.fl (q : hP) : Int32 := q.2.2.2.2.2.1
def hP.u (q : hP) : Int32 := q.2.2.2.2.2.2.1
def hP.b (q : hP) : Int32 := q.2.2.2.2.2.2.2
def hP.s1 (q : hP) (f : Nat → Int32) : hP := (f, q.2)
def hP.s3 (q : hP) (f : Nat → Int32) : hP := (q.1, f, q.2.2)
def hP.sl (q : hP) (f : Nat → Int32) : hP := (q.1, q.2.1, f, q.2.2.2)
def hP.sr (q : hP) (v : Int32) : hP := (q.1, q.2.1, q.2.2.1, v, q.2.2.2.2)
def hP.sm (q : hP) (v : Int32) : hP := (q.1, q.2.1, q.2.2.1, q.2.2.2.1, v, q.2.2.2.2.2)
def hP.sf (q : hP) (v : Int32) : hP := (q.1, q.2.1, q.2.2.1, q.2.2.2.1, q.2.2.2.2.1, v, q.2.2.2.2.2.2)
def hP.sk (q : hP) (u b : Int32) : hP := (q.1, q.2.1, q.2.2.1, q.2.2.2.1, q.2.2.2.2.1, q.2.2.2.2.2.1, u, b)
def hc0 (Y : Nat → Nat) (p : Nat) (q : hP) : xAC := (true, .inr (19, [.ref p, .ref (Y 1), .ref (Y 2), .int q.r, .int q.m, .int q.fl, .ref (Y 4), .ref (Y 5)]))
def hc2 (Y : Nat → Nat) (p : Nat) (q : hP) : xAC := (true, .inr (24, [.ref p, .ref (Y 3), .int q.u, .int q.b]))
def hc4 (q : hP) : xAC := (true, .inr (22, [.int (q.l 0), .int (q.l 1), .int (q.l 2), .int (q.l 3), .int (q.l 4), .int (q.l 5), .int (q.l 6)]))
/-- the heap h with a herd's cells -/
def hV (h : xH) (Y : Nat → Nat) (p : Nat) (q : hP) : xH := xupd (xupd (xupd (xupd (xupd h (Y 0) (hc0 Y p q)) (Y 1) (true, .inl (1, 13, .inl q.f1))) (Y 2) (hc2 Y p q)) (Y 3) (true, .inl (1, 13, .inl q.f3))) (Y 4) (hc4 q)
def hD (Y : Nat → Nat) : Prop := ∀ j k, j < 5 → k < 5 → Y j = Y k → j = k
/-- the numbers are those of species s in N -/
def hA (q : hP) (N : Nat → Int32) (s : Nat) : Prop := (∀ j, j ≤ nn (N (zI s 1)) → q.f1 j = N (zI s (13 + j))) ∧ (∀ j, j < 13 → q.f3 j = N (zI s (39 + j))) ∧ q.r = N (zI s 3) ∧ q.m = N (zI s 4) ∧ q.fl = N (zI s 6) ∧ q.l 0 = N (zI s 7) ∧ q.l 1 = N (zI s 8) ∧ q.l 2 = N (zI s 9) ∧ q.l 3 = N (zI s 10) ∧ q.l 4 = N (zI s 11) ∧ q.l 6 = N (zI s 5)
theorem yW_cell {h : xH} {ci a : Nat} (H : yW h ci a) : ∃ fs, h a = some (true, .inr (ci, fs)) ∧ fs.map ykd = ykn ci := yhd_o H
theorem vI_of {v : Value} (h : ykd v = 0) : v = .int (yvI v) := by cases v <;> first | rfl | (simp [ykd] at h)
theorem vR_of {v : Value} (h : ykd v = 3) : v = va_rf (yvR v) := by cases v <;> first | rfl | (simp [ykd] at h)
theorem ls8 {α : Type} {l : List α} (h : l.length = 8) : ∃ a b c d e f g i, l = [a, b, c, d, e, f, g, i] := by
  rcases l with _ | ⟨a, _ | ⟨b, _ | ⟨c, _ | ⟨d, _ | ⟨e, _ | ⟨f, _ | ⟨g, _ | ⟨i, _ | ⟨j, l⟩⟩⟩⟩⟩⟩⟩⟩⟩ <;> simp at h
  exact ⟨a, b, c, d, e, f, g, i, rfl⟩
theorem ls7 {α : Type} {l : List α} (h : l.length = 7) : ∃ a b c d e f g, l = [a, b, c, d, e, f, g] := by
  rcases l with _ | ⟨a, _ | ⟨b, _ | ⟨c, _ | ⟨d, _ | ⟨e, _ | ⟨f, _ | ⟨g, _ | ⟨j, l⟩⟩⟩⟩⟩⟩⟩⟩ <;> simp at h
  exact ⟨a, b, c, d, e, f, g, rfl⟩
theorem ls4 {α : Type} {l : List α} (h : l.length = 4) : ∃ a b c d, l = [a, b, c, d] := by
  rcases l with _ | ⟨a, _ | ⟨b, _ | ⟨c, _ | ⟨d, _ | ⟨j, l⟩⟩⟩⟩⟩ <;> simp at h
  exact ⟨a, b, c, d, rfl⟩
section HV
variable {Γ : Nat → Option Nat} {h : xH} {n p s fe o a : Nat} {Y : Nat → Nat} {N : Nat → Int32} {q : hP}
theorem hv_4 : hV h Y p q (Y 4) = some (hc4 q) := by unfold hV; rw [up_self]
theorem hv_3 (d : hD Y) : hV h Y p q (Y 3) = some (true, .inl (1, 13, .inl q.f3)) := by
  have ne : ∀ j k, j < 5 → k < 5 → j ≠ k → Y j ≠ Y k := fun j k hj hk e z => e (d j k hj hk z)
  unfold hV
  rw [up_ne (ne 3 4 (by omega) (by omega) (by omega)), up_self]
theorem hv_2 (d : hD Y) : hV h Y p q (Y 2) = some (hc2 Y p q) := by
  have ne : ∀ j k, j < 5 → k < 5 → j ≠ k → Y j ≠ Y k := fun j k hj hk e z => e (d j k hj hk z)
  unfold hV
  rw [up_ne (ne 2 4 (by omega) (by omega) (by omega)), up_ne (ne 2 3 (by omega) (by omega) (by omega)), up_self]
theorem hv_1 (d : hD Y) : hV h Y p q (Y 1) = some (true, .inl (1, 13, .inl q.f1)) := by
  have ne : ∀ j k, j < 5 → k < 5 → j ≠ k → Y j ≠ Y k := fun j k hj hk e z => e (d j k hj hk z)
  unfold hV
  rw [up_ne (ne 1 4 (by omega) (by omega) (by omega)), up_ne (ne 1 3 (by omega) (by omega) (by omega)), up_ne (ne 1 2 (by omega) (by omega) (by omega)), up_self]
theorem hv_0 (d : hD Y) : hV h Y p q (Y 0) = some (hc0 Y p q) := by
  have ne : ∀ j k, j < 5 → k < 5 → j ≠ k → Y j ≠ Y k := fun j k hj hk e z => e (d j k hj hk z)
  unfold hV
  rw [up_ne (ne 0 4 (by omega) (by omega) (by omega)), up_ne (ne 0 3 (by omega) (by omega) (by omega)), up_ne (ne 0 2 (by omega) (by omega) (by omega)), up_ne (ne 0 1 (by omega) (by omega) (by omega)), up_self]
theorem hv_o {x : Nat} (hx : ∀ k, k < 5 → x ≠ Y k) : hV h Y p q x = h x := by
  unfold hV
  rw [up_ne (hx 4 (by omega)), up_ne (hx 3 (by omega)), up_ne (hx 2 (by omega)), up_ne (hx 1 (by omega)), up_ne (hx 0 (by omega))]
/-- two heaps that agree outside a herd's cells and hold the same cells there -/
theorem hv_ext {g : xH} (d : hD Y) (e0 : g (Y 0) = some (hc0 Y p q)) (e1 : g (Y 1) = some (true, .inl (1, 13, .inl q.f1))) (e2 : g (Y 2) = some (hc2 Y p q)) (e3 : g (Y 3) = some (true, .inl (1, 13, .inl q.f3))) (e4 : g (Y 4) = some (hc4 q)) (eo : ∀ x, (∀ k, k < 5 → x ≠ Y k) → g x = h x) : g = hV h Y p q := by
  funext x
  by_cases x0 : x = Y 0
  · rw [x0, e0, hv_0 d]
  · by_cases x1 : x = Y 1
    · rw [x1, e1, hv_1 d]
    · by_cases x2 : x = Y 2
      · rw [x2, e2, hv_2 d]
      · by_cases x3 : x = Y 3
        · rw [x3, e3, hv_3 d]
        · by_cases x4 : x = Y 4
          · rw [x4, e4, hv_4]
          · have hx : ∀ k, k < 5 → x ≠ Y k := by
              intro k hk
              rcases (show k = 0 ∨ k = 1 ∨ k = 2 ∨ k = 3 ∨ k = 4 by omega) with rfl | rfl | rfl | rfl | rfl <;> assumption
            rw [eo x hx, hv_o hx]
/-- a herd in this form -/
theorem kHd.hv (H : kHd h Y p N s) (d : hD Y) : ∃ q, h = hV h Y p q ∧ hA q N s := by
  obtain ⟨w0, h2, h3, h4, h5, h6, h7, h8, h9, ⟨s1, s2, s3⟩, ⟨t1, t2, t3, t4, t5⟩, h11, h12, ⟨l1, l2, l3, l4, l5, l6, l7⟩, Q, h14, h15⟩ := H
  obtain ⟨f0, c0, k0⟩ := yW_cell w0
  obtain ⟨f2, c2, k2⟩ := yW_cell t1
  obtain ⟨f4, c4, k4⟩ := yW_cell l1
  have c1 := yB_cell s1 ytk_1 s2
  have c3 := yB_cell t4 ytk_1 t5
  obtain ⟨a0, a1, a2, a3, a4, a5, a6, a7, rfl⟩ := ls8 (l := f0) (by have := congrArg List.length k0; rw [List.length_map] at this; exact this)
  obtain ⟨b0, b1, b2, b3, rfl⟩ := ls4 (l := f2) (by have := congrArg List.length k2; rw [List.length_map] at this; exact this)
  obtain ⟨d0, d1, d2, d3, d4, d5, d6, rfl⟩ := ls7 (l := f4) (by have := congrArg List.length k4; rw [List.length_map] at this; exact this)
  have gR : ∀ {ci x k : Nat} {fs : List Value} {v : Value}, h x = some (true, .inr (ci, fs)) → fs[k]? = some v → yr h ci k x = yvR v := by
    intro ci x k fs v e1 e2
    unfold yr yv
    rw [e1]
    dsimp only
    rw [if_pos rfl, List.getD_eq_getElem?_getD, e2]
    rfl
  have gI : ∀ {ci x k : Nat} {fs : List Value} {v : Value}, h x = some (true, .inr (ci, fs)) → fs[k]? = some v → yi h ci k x = yvI v := by
    intro ci x k fs v e1 e2
    unfold yi yv
    rw [e1]
    dsimp only
    rw [if_pos rfl, List.getD_eq_getElem?_getD, e2]
    rfl
  simp only [List.map_cons, List.map_nil, ykn, List.cons.injEq, and_true] at k0 k2 k4
  obtain ⟨k00, k01, k02, k03, k04, k05, k06, k07⟩ := k0
  obtain ⟨k20, k21, k22, k23⟩ := k2
  obtain ⟨k40, k41, k42, k43, k44, k45, k46⟩ := k4
  let q : hP := (yli h 1 (Y 1), yli h 1 (Y 3), fun k => yi h 22 k (Y 4), yi h 19 3 (Y 0), yi h 19 4 (Y 0), yi h 19 5 (Y 0), yi h 24 2 (Y 2), yi h 24 3 (Y 2))
  refine ⟨q, hv_ext d ?_ c1 ?_ c3 ?_ (fun _ _ => rfl), s3, h11, h5, h6, h7, l2, l3, l4, l5, l6, l7⟩
  · rw [c0]
    rw [gR c0 (k := 0) rfl] at h2
    rw [gR c0 (k := 1) rfl] at h3
    rw [gR c0 (k := 2) rfl] at h4
    rw [gR c0 (k := 6) rfl] at h8
    rw [gR c0 (k := 7) rfl] at h9
    have e3 : yi h 19 3 (Y 0) = yvI a3 := gI c0 rfl
    have e4 : yi h 19 4 (Y 0) = yvI a4 := gI c0 rfl
    have e5 : yi h 19 5 (Y 0) = yvI a5 := gI c0 rfl
    unfold hc0
    dsimp only [q, hP.f1, hP.f3, hP.l, hP.r, hP.m, hP.fl, hP.u, hP.b]
    rw [vR_of k00, vR_of k01, vR_of k02, vI_of k03, vI_of k04, vI_of k05, vR_of k06, vR_of k07, h2, h3, h4, h8, h9, e3, e4, e5]
    rfl
  · rw [c2]
    rw [gR c2 (k := 0) rfl] at t2
    rw [gR c2 (k := 1) rfl] at t3
    have e3 : yi h 24 2 (Y 2) = yvI b2 := gI c2 rfl
    have e4 : yi h 24 3 (Y 2) = yvI b3 := gI c2 rfl
    unfold hc2
    dsimp only [q, hP.f1, hP.f3, hP.l, hP.r, hP.m, hP.fl, hP.u, hP.b]
    rw [vR_of k20, vR_of k21, vI_of k22, vI_of k23, t2, t3, e3, e4]
    rfl
  · rw [c4]
    have e0 : yi h 22 0 (Y 4) = yvI d0 := gI c4 rfl
    have e1 : yi h 22 1 (Y 4) = yvI d1 := gI c4 rfl
    have e2 : yi h 22 2 (Y 4) = yvI d2 := gI c4 rfl
    have e3 : yi h 22 3 (Y 4) = yvI d3 := gI c4 rfl
    have e4 : yi h 22 4 (Y 4) = yvI d4 := gI c4 rfl
    have e5 : yi h 22 5 (Y 4) = yvI d5 := gI c4 rfl
    have e6 : yi h 22 6 (Y 4) = yvI d6 := gI c4 rfl
    unfold hc4
    dsimp only [q, hP.f1, hP.f3, hP.l, hP.r, hP.m, hP.fl, hP.u, hP.b]
    rw [vI_of k40, vI_of k41, vI_of k42, vI_of k43, vI_of k44, vI_of k45, vI_of k46, e0, e1, e2, e3, e4, e5, e6]
/-- and back -/
theorem hv_kHd {Q : List Nat} (d : hD Y) (A : hA q N s) (z : ∀ j, j < 13 → nn (N (zI s 1)) < j → N (zI s (39 + j)) = Int32.ofNat 0) (n5 : ∀ k, k < 5 → Y 5 ≠ Y k) (n6 : ∀ k, k < 5 → Y 6 ≠ Y k) (D : kDq h (Y 5) (Y 6) Q) (S : kSg h Q N s) (nq : ∀ x, yO h 37 x → ∀ k, k < 5 → x ≠ Y k) : kHd (hV h Y p q) Y p N s := by
  obtain ⟨A1, A3, Ar, Am, Af, L0, L1, L2, L3, L4, L6⟩ := A
  have e0 := hv_0 (h := h) (p := p) (q := q) d
  have e1 := hv_1 (h := h) (p := p) (q := q) d
  have e2 := hv_2 (h := h) (p := p) (q := q) d
  have e3 := hv_3 (h := h) (p := p) (q := q) d
  have e4 := hv_4 (h := h) (Y := Y) (p := p) (q := q)
  refine ⟨?_, ?_, ?_, ?_, ?_, ?_, ?_, ?_, ?_, ⟨⟨13, ?_⟩, ?_, fun j hj => ?_⟩, ⟨?_, ?_, ?_, ⟨13, ?_⟩, ?_⟩, fun j hj => ?_, z, ⟨?_, ?_, ?_, ?_, ?_, ?_, ?_⟩, Q, D.cg (hv_o n5) (hv_o n6), S.cg (fun x hx => hv_o (nq x hx))⟩
  · unfold yW yhd; rw [e0]; rfl
  · unfold yr yv; rw [e0]; rfl
  · unfold yr yv; rw [e0]; rfl
  · unfold yr yv; rw [e0]; rfl
  · unfold yi yv; rw [e0]; exact Ar
  · unfold yi yv; rw [e0]; exact Am
  · unfold yi yv; rw [e0]; exact Af
  · unfold yr yv; rw [e0]; rfl
  · unfold yr yv; rw [e0]; rfl
  · unfold yhd; rw [e1]; rfl
  · unfold yln yhd; rw [e1]; rfl
  · unfold yli yc; rw [e1]; exact A1 j hj
  · unfold yW yhd; rw [e2]; rfl
  · unfold yr yv; rw [e2]; rfl
  · unfold yr yv; rw [e2]; rfl
  · unfold yhd; rw [e3]; rfl
  · unfold yln yhd; rw [e3]; rfl
  · unfold yli yc; rw [e3]; exact A3 j hj
  · unfold yW yhd; rw [e4]; rfl
  · unfold yi yv; rw [e4]; exact L0
  · unfold yi yv; rw [e4]; exact L1
  · unfold yi yv; rw [e4]; exact L2
  · unfold yi yv; rw [e4]; exact L3
  · unfold yi yv; rw [e4]; exact L4
  · unfold yi yv; rw [e4]; exact L6
end HV
