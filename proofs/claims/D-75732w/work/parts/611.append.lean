/-! part 611: words are appended -/
def aV (h : xH) (x bf : Nat) (L : List Value) (t : Nat) (f : Nat → Int32) : xH := xupd (xupd h x (true, .inr (0, .ref bf :: .int (Int32.ofNat t) :: L))) bf (true, .inl (0, 900, .inl f))
section AP
variable {Γ : Nat → Option Nat} {h : xH} {n x bf t : Nat} {L : List Value} {f : Nat → Int32} {w : Int32}
theorem av_x (d : x ≠ bf) : aV h x bf L t f x = some (true, .inr (0, .ref bf :: .int (Int32.ofNat t) :: L)) := by unfold aV; rw [up_ne d, up_self]
theorem av_b : aV h x bf L t f bf = some (true, .inl (0, 900, .inl f)) := by unfold aV; rw [up_self]
theorem av_obj (d : x ≠ bf) : xobj (aV h x bf L t f) (some x) = some (x, 0, .ref bf :: .int (Int32.ofNat t) :: L) := by unfold xobj; simp only [av_x d]
theorem av_sel (d : x ≠ bf) {α : Type} {g : Nat → xM α} : xsel (some x) [(0, g)] Γ (aV h x bf L t f) n = g x Γ (aV h x bf L t f) n := by unfold xsel; rw [av_obj d]; rfl
theorem av_g0 (d : x ≠ bf) : xgR 0 0 (some x) Γ (aV h x bf L t f) n = some (.inl (some bf), aV h x bf L t f, 0, 0) := by unfold xgR xget; rw [av_obj d]; rfl
theorem av_g1 (d : x ≠ bf) : xgI 0 1 (some x) Γ (aV h x bf L t f) n = some (.inl (Int32.ofNat t), aV h x bf L t f, 0, 0) := by unfold xgI xget; rw [av_obj d]; rfl
theorem av_p1 (d : x ≠ bf) {s : Nat} : xput 0 1 (some x) (.int (Int32.ofNat s)) Γ (aV h x bf L t f) n = some (.inl (), aV h x bf L s f, 0, 0) := by
  unfold xput
  simp only [av_x d]
  rw [if_pos ⟨trivial, by simp⟩]
  unfold aV
  rw [up_comm d.symm, up_up]
  rfl
theorem av_st {v : Int32} (ht : t < 900) {s : Nat} : xstI 0 (some bf) (Int32.ofNat t) v Γ (aV h x bf L s f) n = some (.inl (), aV h x bf L s (va_up f t v), 0, 0) := by
  have h1 : t < 2147483648 := by omega
  unfold xstI
  simp only [av_b]
  rw [if_pos ⟨trivial, by rw [i_nat h1]; rintro (q | q); exact i_nonneg h1 q; omega⟩, i_nat h1]
  unfold aV
  rw [up_up]
/-- one byte -/
theorem k_byte {fu : Nat} {s s' : Int32} {i : Nat} (d : x ≠ bf) (ht : t < 900) (hs : ¬ s < 0) (e1 : s = Int32.ofNat (24 - 8 * i)) (e2 : s + (-8 : Int32) = s') : fX1_appendWord_p3 (fu + 1) x w s Γ (aV h x bf L t f) n = fX1_appendWord_p3 fu x w s' Γ (aV h x bf L (t + 1) (va_up f t (bt w i))) n := by
  have i1 : (1 : Int32) = Int32.ofNat 1 := rfl
  have eb : ((w >>> (s &&& 31)).toInt8.toInt32).toInt8.toInt32 = bt w i := by
    unfold bt
    rw [e1]
    rfl
  rw [fX1_appendWord_p3, if_neg hs, x_b1 (av_g0 d), x_b1 (av_g1 d), eb, x_b1 (av_st ht), x_b1 (av_g1 d), i1, i_add, x_b1 (av_p1 d), xlet_ap, e2]
theorem k_word (d : x ≠ bf) (ht : t + 4 ≤ 900) : xsel (some x) [(0, fun z => fX1_appendWord z w)] Γ (aV h x bf L t f) n = some (.inl (), aV h x bf L (t + 4) (va_up (va_up (va_up (va_up f t (bt w 0)) (t + 1) (bt w 1)) (t + 2) (bt w 2)) (t + 3) (bt w 3)), 0, 0) := by
  obtain ⟨fu, hfu⟩ : ∃ g, xFU = g + 1 + 1 + 1 + 1 + 1 := ⟨999995, rfl⟩
  rw [av_sel d]
  unfold fX1_appendWord
  rw [xlet_ap, hfu, k_byte (i := 0) (s' := 16) d (by omega) (by decide) (by decide) (by decide), k_byte (i := 1) (s' := 8) d (by omega) (by decide) (by decide) (by decide), k_byte (i := 2) (s' := 0) d (by omega) (by decide) (by decide) (by decide), k_byte (i := 3) (s' := -8) d (by omega) (by decide) (by decide) (by decide), fX1_appendWord_p3, if_pos (by decide)]
  rfl
end AP
