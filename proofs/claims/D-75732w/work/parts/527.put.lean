/-! part 527: the book: a ledger is put behind the others -/
section KPUT
variable {Γ : Nat → Option Nat} {h g : xH} {n m k y : Nat} {e ps : Nat → Nat} {V : Nat → Nat}
/-- nodes are entries -/
def nE (h : xH) (m k : Nat) (e ps : Nat → Nat) : Prop := yW h 16 m ∧ ∀ a, nd k e ps a → yW h 36 a
theorem tS.nE {l r p : oN} {rt : Option Nat} {lo hi : Nat → Nat} (T : tS h m k e ps l r p rt lo hi) : nE h m k e ps := ⟨T.1.1, fun a ha => (T.1.2.2 a ha).1⟩
/-- cells of other classes are as they were -/
theorem kSame.oth {c a : Nat} (S : kSame h g m k e ps) (H : nE h m k e ps) (ho : yO h c a) (h1 : c ≠ 16) (h2 : c ≠ 36) : g a = h a :=
  S.2.1 a (yO_ne ho (yO_of _ _ _ H.1) h1) (fun z => yO_ne ho (yO_of _ _ _ (H.2 a z)) h2 rfl)
theorem kKV.same (K : kKV h k y e V) (S : kSame h g m k e ps) (H : nE h m k e ps) : kKV g k y e V := by
  intro i hi
  obtain ⟨⟨ka, h1, h2, h3⟩, h4⟩ := K i hi
  have e1 := S.oth H h2 (by decide) (by decide)
  exact ⟨⟨ka, ((S.2.2.1 _).1).trans h1, (yO_c e1).mpr h2, (yi_c e1).trans h3⟩, ((S.2.2.1 _).2).trans h4⟩
/-- the entry that is made -/
def kEn (h : xH) (c : Nat) (ka va : Nat) (q : Option Nat) : xH := xupd h c (true, .inr (36, [.ref ka, .ref va, .null, .null, va_rf q, .int (Int32.ofNat 1)]))
theorem yk36 : ykn 36 = [3, 3, 3, 3, 3, 0] := by decide
theorem k_enInit {c ka va : Nat} {q : Option Nat} : fJ47_init c (some ka) (some va) q Γ (xupd h c (true, .inr (36, [.null, .null, .null, .null, .null, .int 0]))) n = some (.inl (), kEn h c ka va q, 0, 0) := by
  have i1 : (1 : Int32) = Int32.ofNat 1 := rfl
  have e0 : xpN 36 5 .boolean (some c) (Int32.ofNat 1) Γ (xupd h c (true, .inr (36, [.null, .null, .null, .null, .null, .int 0]))) n = some (.inl (), xupd h c (true, .inr (36, [.null, .null, .null, .null, .null, .int (Int32.ofNat 1)])), 0, 0) := by
    unfold xpN
    rw [if_pos nb1]
    exact o1_p (by simp)
  have e1 := o1_p (Γ := Γ) (h := h) (n := n) (a := c) (ci := 36) (k := 0) (fs := [.null, .null, .null, .null, .null, .int (Int32.ofNat 1)]) (v := va_rf (some ka)) (by simp)
  have e2 := o1_p (Γ := Γ) (h := h) (n := n) (a := c) (ci := 36) (k := 1) (fs := [.ref ka, .null, .null, .null, .null, .int (Int32.ofNat 1)]) (v := va_rf (some va)) (by simp)
  have e3 := o1_p (Γ := Γ) (h := h) (n := n) (a := c) (ci := 36) (k := 4) (fs := [.ref ka, .ref va, .null, .null, .null, .int (Int32.ofNat 1)]) (v := va_rf q) (by simp)
  unfold fJ47_init
  rw [i1, x_b1 e0, x_b1 e1]
  show xbind _ _ Γ (xupd h c (true, .inr (36, [.ref ka, .null, .null, .null, .null, .int (Int32.ofNat 1)]))) n = _
  rw [x_b1 e2]
  show xbind _ _ Γ (xupd h c (true, .inr (36, [.ref ka, .ref va, .null, .null, .null, .int (Int32.ofNat 1)]))) n = _
  rw [x_b1 e3]
  rfl
theorem kEn_at {c ka va : Nat} {q : Option Nat} : kEn h c ka va q c = some (true, .inr (36, [.ref ka, .ref va, .null, .null, va_rf q, .int (Int32.ofNat 1)])) := up_self
theorem kEn_f {c ka va : Nat} {q : Option Nat} : yW (kEn h c ka va q) 36 c ∧ yr (kEn h c ka va q) 36 0 c = some ka ∧ yr (kEn h c ka va q) 36 1 c = some va ∧ yr (kEn h c ka va q) 36 2 c = none ∧ yr (kEn h c ka va q) 36 3 c = none ∧ yr (kEn h c ka va q) 36 4 c = q ∧ yi (kEn h c ka va q) 36 5 c = Int32.ofNat 1 := by
  refine ⟨?_, ?_, ?_, ?_, ?_, ?_, ?_⟩
  · unfold yW yhd
    rw [kEn_at, yk36]
    show some (true, Sum.inr (36, [3, 3, 3, 3, ykd (va_rf q), 0])) = _
    rw [ykd_rf]
  · unfold yr yv; rw [kEn_at]; rfl
  · unfold yr yv; rw [kEn_at]; rfl
  · unfold yr yv; rw [kEn_at]; rfl
  · unfold yr yv; rw [kEn_at]; rfl
  · unfold yr yv; rw [kEn_at]; exact yvR_rf q
  · unfold yi yv; rw [kEn_at]; rfl
/-- size and count of changes -/
theorem k_size {v w : Int32} (W : yW g 16 m) : xput 16 4 (some m) (.int v) Γ g n = some (.inl (), ysi g 16 4 m v, 0, 0) ∧ xput 16 5 (some m) (.int w) Γ (ysi g 16 4 m v) n = some (.inl (), ysi (ysi g 16 4 m v) 16 5 m w, 0, 0) := ⟨e_put W kn16_4, e_put ((yW_sv _ _ _ _ _ _ _).mpr W) kn16_5⟩
theorem k_sizeT {v w : Int32} {l r p : oN} {rt : Option Nat} {lo hi : Nat → Nat} (T : tS g m k e ps l r p rt lo hi) : tS (ysi (ysi g 16 4 m v) 16 5 m w) m k e ps l r p rt lo hi := by
  have W := T.1.1
  have W2 := (yW_sv g 16 4 m (.int v) 16 m).mpr W
  have a1 : ∀ c j x, yr (ysi (ysi g 16 4 m v) 16 5 m w) c j x = yr g c j x ∨ (c = 16 ∧ (j = 4 ∨ j = 5)) := by
    intro c j x
    by_cases z : c = 16 ∧ (j = 4 ∨ j = 5)
    · exact Or.inr z
    · exact Or.inl (by rw [yr_si W2 kn16_5 _ _ _ (by omega), yr_si W kn16_4 _ _ _ (by omega)])
  refine ⟨⟨(yW_sv _ _ _ _ _ _ _).mpr W2, ?_, fun x hx => ?_⟩, T.2.1, fun x hx => ?_⟩
  · rw [yr_si W2 kn16_5 _ _ _ (by omega), yr_si W kn16_4 _ _ _ (by omega)]; exact T.1.2.1
  · obtain ⟨h1, h2, h3, h4⟩ := T.1.2.2 x hx
    refine ⟨(yW_sv _ _ _ _ _ _ _).mpr ((yW_sv _ _ _ _ _ _ _).mpr h1), ?_, ?_, ?_⟩
    · rw [yr_si W2 kn16_5 _ _ _ (by omega), yr_si W kn16_4 _ _ _ (by omega)]; exact h2
    · rw [yr_si W2 kn16_5 _ _ _ (by omega), yr_si W kn16_4 _ _ _ (by omega)]; exact h3
    · rw [yr_si W2 kn16_5 _ _ _ (by omega), yr_si W kn16_4 _ _ _ (by omega)]; exact h4
  · rw [yi_si W2 kn16_5, if_neg (by omega), yi_si W kn16_4, if_neg (by omega)]
    exact T.2.2 x hx
theorem k_sizeF {v w : Int32} (W : yW g 16 m) : (∀ q, q ≠ m → ysi (ysi g 16 4 m v) 16 5 m w q = g q) ∧ (∀ q, yhd (ysi (ysi g 16 4 m v) 16 5 m w) q = yhd g q) ∧ (∀ c j x, ¬ (c = 16 ∧ (j = 4 ∨ j = 5)) → yr (ysi (ysi g 16 4 m v) 16 5 m w) c j x = yr g c j x) ∧ yi (ysi (ysi g 16 4 m v) 16 5 m w) 16 4 m = v := by
  have W2 := (yW_sv g 16 4 m (.int v) 16 m).mpr W
  refine ⟨fun q hq => (ysv_out hq).trans (ysv_out hq), fun q => by rw [yhd_sv, yhd_sv], fun c j x z => by rw [yr_si W2 kn16_5 _ _ _ (by omega), yr_si W kn16_4 _ _ _ (by omega)], ?_⟩
  rw [yi_si W2 kn16_5, if_neg (by omega), yi_si W kn16_4, if_pos ⟨rfl, rfl, rfl⟩]
theorem k_add {l r p : oN} {rt : Option Nat} {lo hi : Nat → Nat} {a ka va : Nat} (T : tS h m k e ps l r p rt lo hi) (ha : nd k e ps a) (hr : r a = none) (hh : hi a = k) (hb : xbd n h) (hk : k < 10000) (hsz : yi h 16 4 m = Int32.ofNat k) :
    ∃ g, fJ29_addEntry m (some ka) (some va) (some a) (0 : Int32) Γ h n = some (.inl (), g, 1, 6) ∧ (∃ l r p rt lo hi, tS g m (k + 1) (va_up e k n) (va_up ps n k) l r p rt lo hi) ∧ yi g 16 4 m = Int32.ofNat (k + 1) ∧ (∀ q, q ≠ m → ¬ nd k e ps q → q ≠ n → g q = h q) ∧ (∀ q, q ≠ n → yhd g q = yhd h q) ∧ xbd (n + 1) g ∧ (∀ x, x ≠ n → yr g 36 0 x = yr h 36 0 x ∧ yr g 36 1 x = yr h 36 1 x) ∧ yr g 36 0 n = some ka ∧ yr g 36 1 n = some va ∧ (∀ j, j ≠ 3 → j ≠ 4 → j ≠ 5 → yr g 16 j m = yr h 16 j m) := by
  have i1 : (1 : Int32) = Int32.ofNat 1 := rfl
  have hn : h n = none := hb n (Nat.le_refl _)
  have hc : ¬ nd k e ps n := fun z => yO_at (yO_of _ _ _ (T.1.2.2 n z).1) hn
  have an : a ≠ n := fun z => hc (z ▸ ha)
  have mn : m ≠ n := fun z => by have := yO_at (yO_of _ _ _ T.1.1); rw [z] at this; exact this hn
  obtain ⟨Tp, hnd⟩ := T.2.1.add ha hr hh hc
  have F := kEn_f (h := h) (c := n) (ka := ka) (va := va) (q := some a)
  have old : ∀ x, x ≠ n → kEn h n ka va (some a) x = h x := fun x hx => up_ne hx
  have Wa : yW (kEn h n ka va (some a)) 36 a := (yW_c (old a an)).mpr (T.1.2.2 a ha).1
  have Wm : yW (kEn h n ka va (some a)) 16 m := (yW_c (old m mn)).mpr T.1.1
  have T3 : tS (ysr (kEn h n ka va (some a)) 36 3 a (some n)) m (k + 1) (va_up e k n) (va_up ps n k) (va_up l n none) (va_up (va_up r a (some n)) n none) (va_up p n (some a)) rt (va_up lo n k) (fun x => if x = n then k + 1 else if hi x = k then k + 1 else hi x) := by
    refine ⟨⟨(yW_sv _ _ _ _ _ _ _).mpr Wm, ?_, fun x hx => ?_⟩, Tp, fun x hx => ?_⟩
    · rw [yr_sr Wa kn36_3, if_neg (by omega), yr_c (old m mn)]; exact T.1.2.1
    · rcases (hnd x).mp hx with hx | rfl
      · have xn : x ≠ n := fun z => hc (z ▸ hx)
        obtain ⟨h1, h2, h3, h4⟩ := T.1.2.2 x hx
        refine ⟨(yW_sv _ _ _ _ _ _ _).mpr ((yW_c (old x xn)).mpr h1), ?_, ?_, ?_⟩
        · rw [yr_sr Wa kn36_3, if_neg (by omega), yr_c (old x xn), va_up_ne _ _ xn]; exact h2
        · rw [yr_sr Wa kn36_3, va_up_ne _ _ xn, va_ap]
          by_cases xa : x = a
          · rw [if_pos ⟨rfl, rfl, xa⟩, if_pos xa]
          · rw [if_neg (fun z => xa z.2.2), if_neg xa, yr_c (old x xn)]; exact h3
        · rw [yr_sr Wa kn36_3, if_neg (by omega), yr_c (old x xn), va_up_ne _ _ xn]; exact h4
      · refine ⟨(yW_sv _ _ _ _ _ _ _).mpr F.1, ?_, ?_, ?_⟩
        · rw [yr_sr Wa kn36_3, if_neg (by omega), va_up_self]; exact F.2.2.2.1
        · rw [yr_sr Wa kn36_3, if_neg (fun z => an z.2.2.symm), va_up_self]; exact F.2.2.2.2.1
        · rw [yr_sr Wa kn36_3, if_neg (by omega), va_up_self]; exact F.2.2.2.2.2.1
    · rw [yi_sr Wa kn36_3 _ _ _ (by omega)]
      rcases (hnd x).mp hx with hx | rfl
      · have xn : x ≠ n := fun z => hc (z ▸ hx)
        rw [yi_c (old x xn)]; exact T.2.2 x hx
      · exact Or.inr F.2.2.2.2.2.2
  obtain ⟨g, e4, ⟨l4, r4, p4, rt4, lo4, hi4, T4⟩, S4⟩ := k_fixIns (Γ := Γ) (n := n + 1) (a := n) (by omega) T3 ((hnd n).mpr (Or.inr rfl))
  have sz : yi g 16 4 m = Int32.ofNat k := by
    rw [(S4.2.2.2 4 (by decide)).2, yi_sr Wa kn36_3 _ _ _ (by omega), yi_c (old m mn)]; exact hsz
  obtain ⟨w1, w2⟩ := k_size (Γ := Γ) (n := n + 1) (v := Int32.ofNat (k + 1)) (w := yi (ysi g 16 4 m (Int32.ofNat (k + 1))) 16 5 m + Int32.ofNat 1) T4.1.1
  have G := k_sizeF (v := Int32.ofNat (k + 1)) (w := yi (ysi g 16 4 m (Int32.ofNat (k + 1))) 16 5 m + Int32.ofNat 1) T4.1.1
  have g4 := e_gI (Γ := Γ) (n := n + 1) (yO_of _ _ _ T4.1.1) kn16_4
  rw [sz] at g4
  have g5 := e_gI (Γ := Γ) (n := n + 1) (yO_of _ _ _ ((yW_sv g 16 4 m (.int (Int32.ofNat (k + 1))) 16 m).mpr T4.1.1)) kn16_5
  refine ⟨ysi (ysi g 16 4 m (Int32.ofNat (k + 1))) 16 5 m (yi (ysi g 16 4 m (Int32.ofNat (k + 1))) 16 5 m + Int32.ofNat 1), ?_, ⟨_, _, _, _, _, _, k_sizeT T4⟩, G.2.2.2, fun q h1 h2 h3 => ?_, fun q h1 => ?_, fun q hq => ?_, fun x hx => ⟨?_, ?_⟩, ?_, ?_, fun j h1 h2 h3 => ?_⟩
  · unfold fJ29_addEntry
    rw [x_bc (show xnew 36 [.null, .null, .null, .null, .null, .int 0] 6 Γ h n = some (.inl n, xupd h n (true, .inr (36, [.null, .null, .null, .null, .null, .int 0])), 1, 6) from rfl), x_b1 k_enInit, if_pos rfl, x_b1 (e_put Wa (by rw [ykd_rf]; exact kn36_3))]
    unfold fJ29_addEntry_p32
    rw [x_b1 ((e_sel (yO_of _ _ _ T3.1.1)).trans e4), x_b1 g4, i1, i_add, x_b1 w1, x_b1 g5, x_b1 w2]
    rfl
  · exact (G.1 q h1).trans ((S4.2.1 q h1 (fun z => by rcases (hnd q).mp z with z | z; exact h2 z; exact h3 z)).trans ((ysv_out (show q ≠ a from fun z => h2 (by rw [z]; exact ha))).trans (old q h3)))
  · rw [G.2.1 q, S4.1 q, yhd_sv, yhd_c (old q h1)]
  · have qn : q ≠ n := by omega
    have qm : q ≠ m := fun z => yO_at (yO_of _ _ _ T.1.1) (z ▸ hb q (by omega))
    have qd : ¬ nd k e ps q := fun z => yO_at (yO_of _ _ _ (T.1.2.2 q z).1) (hb q (by omega))
    exact (G.1 q qm).trans ((S4.2.1 q qm (fun z => by rcases (hnd q).mp z with z | z; exact qd z; exact qn z)).trans ((ysv_out (show q ≠ a from fun z => qd (by rw [z]; exact ha))).trans ((old q qn).trans (hb q (by omega)))))
  · rw [G.2.2.1 _ _ _ (by omega), (S4.2.2.1 x).1, yr_sr Wa kn36_3, if_neg (by omega), yr_c (old x hx)]
  · rw [G.2.2.1 _ _ _ (by omega), (S4.2.2.1 x).2, yr_sr Wa kn36_3, if_neg (by omega), yr_c (old x hx)]
  · rw [G.2.2.1 _ _ _ (by omega), (S4.2.2.1 n).1, yr_sr Wa kn36_3, if_neg (by omega)]; exact F.2.1
  · rw [G.2.2.1 _ _ _ (by omega), (S4.2.2.1 n).2, yr_sr Wa kn36_3, if_neg (by omega)]; exact F.2.2.1
  · rw [G.2.2.1 _ _ _ (by omega), (S4.2.2.2 j h1).1, yr_sr Wa kn36_3, if_neg (by omega), yr_c (old m mn)]
end KPUT
