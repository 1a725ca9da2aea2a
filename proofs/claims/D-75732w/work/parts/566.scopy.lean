/-! part 566: a list of herds grows; a new state -/
section SC
variable {Γ : Nat → Option Nat} {h : xH} {n al ae c v ci : Nat} {F : Nat → Nat}
theorem k_alAdd (A : kAl h al ae c F) (hc : c < 4) (hv : yO h ci v) (hk : xokObj ci = true) : ∃ g, xsel (some al) [(2, fun z => fJ2_add z (some v))] Γ h n = some (.inl 1, g, 0, 0) ∧ kAl g al ae (c + 1) (va_up F c v) ∧ (∀ a, yhd g a = yhd h a) ∧ ∀ a, a ≠ al → a ≠ ae → g a = h a := by
  obtain ⟨h1, h2, h3, h4, h5, h6, h7⟩ := A
  have o := yO_of _ _ _ h1
  have g0 := e_gI (Γ := Γ) (n := n) o kn2_0
  let a1 : xH := ysi h 2 0 al (yi h 2 0 al + 1)
  have p1 : xput 2 0 (some al) (.int (yi h 2 0 al + 1)) Γ h n = some (.inl (), a1, 0, 0) := e_put h1 kn2_0
  have W1 : yW a1 2 al := (yW_sv _ _ _ _ _ _ _).mpr h1
  have o1 := yO_of _ _ _ W1
  have g1 := e_gR (Γ := Γ) (n := n) o1 kn2_1
  rw [show yr a1 2 1 al = some ae by rw [yr_si h1 kn2_0 _ _ _ (by omega)]; exact h2] at g1
  have g2 := e_gI (Γ := Γ) (n := n) o1 kn2_2
  rw [show yi a1 2 2 al = Int32.ofNat c by rw [yi_si h1 kn2_0, if_neg (by omega)]; exact h5] at g2
  have B1 : yB a1 5 ae := (yB_sv _ _ _ _ _ _ _).mpr h3
  have l1 : yln a1 ae = 4 := (yln_sv _ _ _ _ _ _).trans h4
  have ln : xlen (some ae) Γ a1 n = some (.inl (Int32.ofNat 4), a1, 0, 0) := by rw [e_len (yA_of _ _ _ B1), l1]
  have vO : yO a1 ci v := (yO_sv _ _ _ _ _ _ _).mpr hv
  have st : xstR 5 xokObj (some ae) (Int32.ofNat c) (some v) Γ a1 n = some (.inl (), ysc a1 5 ae (.inr (.inr (.inr (.inr (va_up (ylr a1 5 ae) c (some v)))))), 0, 0) := by
    rw [e_stR B1 ytk_5 (yin_of (by omega) (by omega)) (k_okR vO hk), i_nat (by omega)]
  let a2 : xH := ysc a1 5 ae (.inr (.inr (.inr (.inr (va_up (ylr a1 5 ae) c (some v))))))
  have W2 : yW a2 2 al := (yW_sc _ _ _ _ _ _).mpr W1
  let a3 : xH := ysi a2 2 2 al (Int32.ofNat (c + 1))
  have p3 : xput 2 2 (some al) (.int (Int32.ofNat (c + 1))) Γ a2 n = some (.inl (), a3, 0, 0) := e_put W2 kn2_2
  have ne2 : ∀ a, a ≠ ae → a2 a = a1 a := by
    intro a ha
    obtain ⟨N', x, hcell, -⟩ := yarrB B1
    show ysc a1 5 ae _ a = a1 a
    unfold ysc
    rw [hcell]
    dsimp only
    split
    · exact up_ne ha
    · rfl
  have hd : ∀ a, yhd a3 a = yhd h a := fun a => (yhd_sv _ _ _ _ _ _).trans ((yhd_sc _ _ _ _ _).trans (yhd_sv _ _ _ _ _ _))
  have i1 : (1 : Int32) = Int32.ofNat 1 := rfl
  refine ⟨a3, ?_, ⟨(yW_sv _ _ _ _ _ _ _).mpr W2, ?_, (yB_sv _ _ _ _ _ _ _).mpr ((yB_sc _ _ _ _ _ _).mpr B1), (yln_sv _ _ _ _ _ _).trans ((yln_sc _ _ _ _ _).trans l1), ?_, by omega, fun t ht => ?_⟩, hd, fun a e1 e2 => (ysv_ne W2 e1).trans ((ne2 a e2).trans (ysv_ne h1 e1))⟩
  · have ad : xsel (some al) [(2, fun z => fJ2_add_2 z (some v) (some ae) (Int32.ofNat c))] Γ a1 n = some (.inl (), a3, 0, 0) := by
      rw [e_sel o1]
      unfold fJ2_add_2
      rw [x_b1 ln, if_neg (by rw [i_eq (by omega) (by omega)]; omega)]
      unfold fJ2_add_2_p11
      rw [x_b1 st, i1, i_add, x_b1 p3]
      rfl
    rw [e_sel o]
    unfold fJ2_add
    rw [x_b1 g0, x_b1 p1, x_b1 g1, x_b1 g2, x_b1 ad]
    rfl
  · rw [yr_si W2 kn2_2 _ _ _ (by omega), yr_sc, yr_si h1 kn2_0 _ _ _ (by omega)]; exact h2
  · rw [yi_si W2 kn2_2, if_pos ⟨rfl, rfl, rfl⟩]
  · rw [ylr_sv, ylr_sR B1 ytk_5, if_pos ⟨rfl, rfl⟩, va_ap, va_ap]
    by_cases e : t = c
    · rw [if_pos e, if_pos e]
    · rw [if_neg e, if_neg e, ylr_sv]
      exact h7 t (by omega)
end SC
def sC0 (n : Nat) : List xAC := [(true, .inr (1, [.ref (n + 1), .ref (n + 3), .int 0, .int 0, .int 0])), (true, .inr (2, [.int 0, .ref (n + 2), .int 0])), (true, .inl (5, 4, .inr (.inr (.inr (.inr (fun _ => none)))))), (true, .inr (6, [.int 0, .int 0, .null, .null]))]
section SI
variable {Γ : Nat → Option Nat} {h : xH} {n : Nat}
theorem k_sInit : fX2_init n Γ (xX h n [(true, .inr (1, [.null, .null, .int 0, .int 0, .int 0]))]) (n + 1) = some (.inl (), xX h n (sC0 n), 3, 11) := by
  have i4 : (4 : Int32) = Int32.ofNat 4 := rfl
  have c1 : ¬ (4 : Int32) ≤ 0 := by decide
  have L1 : xnew 2 [.int 0, .null, .int 0] 3 Γ (xX h n [(true, .inr (1, [.null, .null, .int 0, .int 0, .int 0]))]) (n + 1) = some (.inl (n + 1), xX h n [(true, .inr (1, [.null, .null, .int 0, .int 0, .int 0])), (true, .inr (2, [.int 0, .null, .int 0]))], 1, 3) := X_new rfl
  have L2 : xput 2 0 (some (n + 1)) (.int (0 : Int32)) Γ (xX h n [(true, .inr (1, [.null, .null, .int 0, .int 0, .int 0])), (true, .inr (2, [.int 0, .null, .int 0]))]) (n + 2) = some (.inl (), xX h n [(true, .inr (1, [.null, .null, .int 0, .int 0, .int 0])), (true, .inr (2, [.int 0, .null, .int 0]))], 0, 0) := X_putr (i := 1) rfl rfl rfl
  have L3 : xnewA 5 (fun N => (N, .inr (.inr (.inr (.inr (fun _ => none)))))) (4 : Int32) Γ (xX h n [(true, .inr (1, [.null, .null, .int 0, .int 0, .int 0])), (true, .inr (2, [.int 0, .null, .int 0]))]) (n + 2) = some (.inl (n + 2), xX h n [(true, .inr (1, [.null, .null, .int 0, .int 0, .int 0])), (true, .inr (2, [.int 0, .null, .int 0])), (true, .inl (5, 4, .inr (.inr (.inr (.inr (fun _ => none))))))], 1, 4) := X_newA (c := 4) rfl (by omega)
  have L4 : xput 2 1 (some (n + 1)) (va_rf (some (n + 2))) Γ (xX h n [(true, .inr (1, [.null, .null, .int 0, .int 0, .int 0])), (true, .inr (2, [.int 0, .null, .int 0])), (true, .inl (5, 4, .inr (.inr (.inr (.inr (fun _ => none))))))]) (n + 3) = some (.inl (), xX h n [(true, .inr (1, [.null, .null, .int 0, .int 0, .int 0])), (true, .inr (2, [.int 0, .ref (n + 2), .int 0])), (true, .inl (5, 4, .inr (.inr (.inr (.inr (fun _ => none))))))], 0, 0) := X_putr (i := 1) rfl rfl rfl
  have L5 : xput 1 0 (some n) (va_rf (some (n + 1))) Γ (xX h n [(true, .inr (1, [.null, .null, .int 0, .int 0, .int 0])), (true, .inr (2, [.int 0, .ref (n + 2), .int 0])), (true, .inl (5, 4, .inr (.inr (.inr (.inr (fun _ => none))))))]) (n + 3) = some (.inl (), xX h n [(true, .inr (1, [.ref (n + 1), .null, .int 0, .int 0, .int 0])), (true, .inr (2, [.int 0, .ref (n + 2), .int 0])), (true, .inl (5, 4, .inr (.inr (.inr (.inr (fun _ => none))))))], 0, 0) := X_putr (i := 0) rfl rfl rfl
  have L6 : xnew 6 [.int 0, .int 0, .null, .null] 4 Γ (xX h n [(true, .inr (1, [.ref (n + 1), .null, .int 0, .int 0, .int 0])), (true, .inr (2, [.int 0, .ref (n + 2), .int 0])), (true, .inl (5, 4, .inr (.inr (.inr (.inr (fun _ => none))))))]) (n + 3) = some (.inl (n + 3), xX h n [(true, .inr (1, [.ref (n + 1), .null, .int 0, .int 0, .int 0])), (true, .inr (2, [.int 0, .ref (n + 2), .int 0])), (true, .inl (5, 4, .inr (.inr (.inr (.inr (fun _ => none)))))), (true, .inr (6, [.int 0, .int 0, .null, .null]))], 1, 4) := X_new rfl
  have L7 : xput 6 1 (some (n + 3)) (.int (0 : Int32)) Γ (xX h n [(true, .inr (1, [.ref (n + 1), .null, .int 0, .int 0, .int 0])), (true, .inr (2, [.int 0, .ref (n + 2), .int 0])), (true, .inl (5, 4, .inr (.inr (.inr (.inr (fun _ => none)))))), (true, .inr (6, [.int 0, .int 0, .null, .null]))]) (n + 4) = some (.inl (), xX h n [(true, .inr (1, [.ref (n + 1), .null, .int 0, .int 0, .int 0])), (true, .inr (2, [.int 0, .ref (n + 2), .int 0])), (true, .inl (5, 4, .inr (.inr (.inr (.inr (fun _ => none)))))), (true, .inr (6, [.int 0, .int 0, .null, .null]))], 0, 0) := X_putr (i := 3) rfl rfl rfl
  have L8 : xput 1 1 (some n) (va_rf (some (n + 3))) Γ (xX h n [(true, .inr (1, [.ref (n + 1), .null, .int 0, .int 0, .int 0])), (true, .inr (2, [.int 0, .ref (n + 2), .int 0])), (true, .inl (5, 4, .inr (.inr (.inr (.inr (fun _ => none)))))), (true, .inr (6, [.int 0, .int 0, .null, .null]))]) (n + 4) = some (.inl (), xX h n (sC0 n), 0, 0) := X_putr (i := 0) rfl rfl rfl
  have A : fJ2_init (n + 1) (4 : Int32) Γ (xX h n [(true, .inr (1, [.null, .null, .int 0, .int 0, .int 0])), (true, .inr (2, [.int 0, .null, .int 0]))]) (n + 2) = some (.inl (), xX h n [(true, .inr (1, [.null, .null, .int 0, .int 0, .int 0])), (true, .inr (2, [.int 0, .ref (n + 2), .int 0])), (true, .inl (5, 4, .inr (.inr (.inr (.inr (fun _ => none))))))], 1, 4) := by
    have A0 : fJ1_init__J2 (n + 1) Γ (xX h n [(true, .inr (1, [.null, .null, .int 0, .int 0, .int 0])), (true, .inr (2, [.int 0, .null, .int 0]))]) (n + 2) = some (.inl (), xX h n [(true, .inr (1, [.null, .null, .int 0, .int 0, .int 0])), (true, .inr (2, [.int 0, .null, .int 0]))], 0, 0) := by
      unfold fJ1_init__J2
      rw [x_b1 (show fJ0_init__J2 (n + 1) Γ (xX h n [(true, .inr (1, [.null, .null, .int 0, .int 0, .int 0])), (true, .inr (2, [.int 0, .null, .int 0]))]) (n + 2) = some (.inl (), xX h n [(true, .inr (1, [.null, .null, .int 0, .int 0, .int 0])), (true, .inr (2, [.int 0, .null, .int 0]))], 0, 0) from rfl), x_b1 L2]
      rfl
    unfold fJ2_init
    rw [x_b1 A0, if_neg c1, x_bc L3, show n + 2 + 1 = n + 3 from rfl, x_b1 L4]
    rfl
  have L6b : xput 6 0 (some (n + 3)) (.int (0 : Int32)) Γ (xX h n [(true, .inr (1, [.ref (n + 1), .null, .int 0, .int 0, .int 0])), (true, .inr (2, [.int 0, .ref (n + 2), .int 0])), (true, .inl (5, 4, .inr (.inr (.inr (.inr (fun _ => none)))))), (true, .inr (6, [.int 0, .int 0, .null, .null]))]) (n + 4) = some (.inl (), (xX h n [(true, .inr (1, [.ref (n + 1), .null, .int 0, .int 0, .int 0])), (true, .inr (2, [.int 0, .ref (n + 2), .int 0])), (true, .inl (5, 4, .inr (.inr (.inr (.inr (fun _ => none)))))), (true, .inr (6, [.int 0, .int 0, .null, .null]))]), 0, 0) := X_putr (i := 3) rfl rfl rfl
  have B0 : fJ18_init__J19 (n + 3) Γ (xX h n [(true, .inr (1, [.ref (n + 1), .null, .int 0, .int 0, .int 0])), (true, .inr (2, [.int 0, .ref (n + 2), .int 0])), (true, .inl (5, 4, .inr (.inr (.inr (.inr (fun _ => none)))))), (true, .inr (6, [.int 0, .int 0, .null, .null]))]) (n + 4) = some (.inl (), (xX h n [(true, .inr (1, [.ref (n + 1), .null, .int 0, .int 0, .int 0])), (true, .inr (2, [.int 0, .ref (n + 2), .int 0])), (true, .inl (5, 4, .inr (.inr (.inr (.inr (fun _ => none)))))), (true, .inr (6, [.int 0, .int 0, .null, .null]))]), 0, 0) := by
    have B1 : fJ1_init__J19 (n + 3) Γ (xX h n [(true, .inr (1, [.ref (n + 1), .null, .int 0, .int 0, .int 0])), (true, .inr (2, [.int 0, .ref (n + 2), .int 0])), (true, .inl (5, 4, .inr (.inr (.inr (.inr (fun _ => none)))))), (true, .inr (6, [.int 0, .int 0, .null, .null]))]) (n + 4) = some (.inl (), (xX h n [(true, .inr (1, [.ref (n + 1), .null, .int 0, .int 0, .int 0])), (true, .inr (2, [.int 0, .ref (n + 2), .int 0])), (true, .inl (5, 4, .inr (.inr (.inr (.inr (fun _ => none)))))), (true, .inr (6, [.int 0, .int 0, .null, .null]))]), 0, 0) := by
      unfold fJ1_init__J19
      rw [x_b1 (show fJ0_init__J19 (n + 3) Γ (xX h n [(true, .inr (1, [.ref (n + 1), .null, .int 0, .int 0, .int 0])), (true, .inr (2, [.int 0, .ref (n + 2), .int 0])), (true, .inl (5, 4, .inr (.inr (.inr (.inr (fun _ => none)))))), (true, .inr (6, [.int 0, .int 0, .null, .null]))]) (n + 4) = some (.inl (), (xX h n [(true, .inr (1, [.ref (n + 1), .null, .int 0, .int 0, .int 0])), (true, .inr (2, [.int 0, .ref (n + 2), .int 0])), (true, .inl (5, 4, .inr (.inr (.inr (.inr (fun _ => none)))))), (true, .inr (6, [.int 0, .int 0, .null, .null]))]), 0, 0) from rfl), x_b1 L6b]
      rfl
    unfold fJ18_init__J19
    rw [x_b1 B1]
    rfl
  have B : fJ19_init (n + 3) Γ (xX h n [(true, .inr (1, [.ref (n + 1), .null, .int 0, .int 0, .int 0])), (true, .inr (2, [.int 0, .ref (n + 2), .int 0])), (true, .inl (5, 4, .inr (.inr (.inr (.inr (fun _ => none)))))), (true, .inr (6, [.int 0, .int 0, .null, .null]))]) (n + 4) = some (.inl (), xX h n [(true, .inr (1, [.ref (n + 1), .null, .int 0, .int 0, .int 0])), (true, .inr (2, [.int 0, .ref (n + 2), .int 0])), (true, .inl (5, 4, .inr (.inr (.inr (.inr (fun _ => none)))))), (true, .inr (6, [.int 0, .int 0, .null, .null]))], 0, 0) := by
    unfold fJ19_init
    rw [x_b1 B0, x_b1 L7]
    rfl
  unfold fX2_init
  rw [x_bc L1, show n + 1 + 1 = n + 2 from rfl, x_bc A, show n + 2 + 1 = n + 3 from rfl, x_b1 L5, x_bc L6, show n + 3 + 1 = n + 4 from rfl, x_b1 B, x_b1 L8]
  rfl
end SI
