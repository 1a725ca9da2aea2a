/-! part 540: isBalanced -/
def bI (f : Nat → Int32) : Bool := decide ((((f 0 + f 1) + f 4) - f 2) - f 3 = f 5)
/-- ledgers i .. i + d - 1 are right, each goes on where the one before it ended -/
def cB (L N : Nat → Int32) (s : Nat) : Nat → Nat → Bool
  | _, 0 => true
  | i, d + 1 => bI (pLP L N s i) && (decide (i = 0) || decide (pLP L N s i 0 = pLP L N s (i - 1) 5)) && cB L N s (i + 1) d
def lst (L N : Nat → Int32) (s i : Nat) : Int32 := if i = 0 then -Int32.ofNat 1 else pLP L N s (i - 1) 5
section KBA
variable {Γ : Nat → Option Nat} {h g : xH} {n x sd al ae pl t m it : Nat} {E : Nat → Nat → Nat} {P FE e ps V la : Nat → Nat} {N L : Nat → Int32} {Z : Nat → Prop} {f : Nat → Int32}
theorem k_bal9 {v : Nat} (hv : yO h 22 v) (hf : ∀ w, w < 7 → yi h 22 w v = f w) : xsel (some v) [(22, fun z => fX9_isBalanced z)] Γ h n = some (.inl (if bI f = true then Int32.ofNat 1 else Int32.ofNat 0), h, 0, 0) := by
  have g0 := e_gI (Γ := Γ) (n := n) hv kn22_0
  have g1 := e_gI (Γ := Γ) (n := n) hv kn22_1
  have g2 := e_gI (Γ := Γ) (n := n) hv kn22_2
  have g3 := e_gI (Γ := Γ) (n := n) hv kn22_3
  have g4 := e_gI (Γ := Γ) (n := n) hv kn22_4
  have g5 := e_gI (Γ := Γ) (n := n) hv kn22_5
  rw [hf 0 (by omega)] at g0
  rw [hf 1 (by omega)] at g1
  rw [hf 2 (by omega)] at g2
  rw [hf 3 (by omega)] at g3
  rw [hf 4 (by omega)] at g4
  rw [hf 5 (by omega)] at g5
  rw [e_sel hv]
  unfold fX9_isBalanced
  rw [x_b1 g0, x_b1 g1, x_b1 g4, x_b1 g2, x_b1 g3, x_b1 g5]
  by_cases q : bI f = true
  · rw [if_pos q, if_pos (of_decide_eq_true q)]; rfl
  · rw [if_neg q, if_neg (fun z => q (decide_eq_true z))]; rfl
theorem k_bal51 (W : kW h x sd al ae pl E P FE N) (ht : t < nn (N 0)) (B : kBo h (P t) m e ps V N L t) (hz : Z (E t 4)) (hn : h it = none) (hb : xbd n h) (hit : it < n) (neg : ∀ k, k < nn (N 2) → ¬ pLP L N t k 5 = -Int32.ofNat 1) (k13 : Nat → Option Nat → xM Int32) (l1 : Option Nat) : ∀ (d i fu : Nat) (lb : Option Nat), i + d = nn (N 2) → d < fu → ∃ g, fX1_isBalanced_p51 k13 fu x l1 (some (E t 0)) (lst L N t i) (some it) Γ (kJ14 h it (if i < nn (N 2) then some (e i) else none) lb (yi h 16 5 m) m) n = (if cB L N t i (d + 1) = true then k13 x l1 Γ g n else some (.inl (Int32.ofNat 0), g, 0, 0)) ∧ hq Z h g ∧ xbd n g := by
  have i0 : (0 : Int32) = Int32.ofNat 0 := rfl
  have im : (-1 : Int32) = -Int32.ofNat 1 := rfl
  have n10 : ¬ Int32.ofNat 1 = Int32.ofNat 0 := by decide
  intro d
  induction d with
  | zero =>
    intro i fu lb hi' hf
    obtain ⟨fu, rfl⟩ : ∃ g, fu = g + 1 := ⟨fu - 1, by omega⟩
    have ik : i = nn (N 2) := by omega
    have s1 : hsub h (kJ14 h it none lb (yi h 16 5 m) m) := hsub_up hn
    have b1 : xbd n (kJ14 h it none lb (yi h 16 5 m) m) := xbd_up hb hit
    have W1 := W.mono s1
    rw [if_neg (by omega), fX1_isBalanced_p51, x_b1 k_has14, if_pos rfl, i0, if_pos rfl]
    generalize kJ14 h it none lb (yi h 16 5 m) m = g1 at *
    obtain ⟨o1, o2⟩ := k_hOpen (Γ := Γ) (n := n) W1 ht
    have hl := (kw_hd W1 ht).led.1
    have q1 := hq_5 (Z := Z) (v := pTot N t (nn (N (zI t 1)))) hl hz
    have hO1 := q1.O (yO_of _ _ _ hl)
    refine ⟨ysi g1 22 5 (E t 4) (pTot N t (nn (N (zI t 1)))), ?_, (s1.q).trans q1, xbd_hd b1 (fun a => yhd_sv _ _ _ _ _ _)⟩
    have fl : ∀ w, w < 7 → yi (ysi g1 22 5 (E t 4) (pTot N t (nn (N (zI t 1))))) 22 w (E t 4) = pLP L N t i w := fun w hw => by rw [o2 w hw]; unfold pLP; rw [if_pos ik]
    have bb := k_bal9 (Γ := Γ) (n := n) hO1 fl
    have g0 := e_gI (Γ := Γ) (n := n) hO1 kn22_0
    rw [fl 0 (by omega)] at g0
    rw [x_b1 (kw_now W1), x_b1 (kw_year W1), x_b1 (kw_now W1), x_b1 (kw_year W1), x_b1 ((kh_sel (kw_hd W1 ht)).trans o1), x_b1 bb, im]
    unfold cB cB lst fX1_isBalanced_p150
    by_cases c1 : bI (pLP L N t i) = true
    · rw [if_pos c1, if_neg n10]
      by_cases c2 : i = 0
      · rw [if_pos c2, if_pos rfl, if_pos (by rw [c2] at c1; simp [c1, c2])]
      · rw [if_neg c2, if_neg (neg _ (by omega)), x_b1 g0]
        by_cases c3 : pLP L N t i 0 = pLP L N t (i - 1) 5
        · rw [if_pos c3, if_pos (by simp [c1, c3])]
        · rw [if_neg c3, if_neg (by simp [c2, c3])]; rfl
    · rw [if_neg c1, if_pos rfl, if_neg (by simp [c1])]; rfl
  | succ d ih =>
    intro i fu lb hi' hf
    obtain ⟨fu, rfl⟩ : ∃ g, fu = g + 1 := ⟨fu - 1, by omega⟩
    have ik : i < nn (N 2) := by omega
    have s1 : hsub h (kJ14 h it (if i + 1 < nn (N 2) then some (e (i + 1)) else none) (some (e i)) (yi h 16 5 m) m) := hsub_up hn
    have b1 : xbd n (kJ14 h it (if i + 1 < nn (N 2) then some (e (i + 1)) else none) (some (e i)) (yi h 16 5 m) m) := xbd_up hb hit
    obtain ⟨v1, v2⟩ := B.2.2.2 i ik
    have v1' := hO v1 s1
    have fl : ∀ w, w < 7 → yi (kJ14 h it (if i + 1 < nn (N 2) then some (e (i + 1)) else none) (some (e i)) (yi h 16 5 m) m) 22 w (V i) = pLP L N t i w := fun w hw => by rw [yi_c (s1 _ (yO_at v1)), v2 w hw]; unfold pLP; rw [if_neg (by omega)]
    have bb := k_bal9 (Γ := Γ) (n := n) v1' fl
    have g0 := e_gI (Γ := Γ) (n := n) v1' kn22_0
    rw [fl 0 (by omega)] at g0
    have g5 := e_gI (Γ := Γ) (n := n) v1' kn22_5
    rw [fl 5 (by omega)] at g5
    obtain ⟨g, r1, r2, r3⟩ := ih (i + 1) fu (some (e i)) (by omega) (by omega)
    have l1' : lst L N t (i + 1) = pLP L N t i 5 := by unfold lst; rw [if_neg (by omega)]; rfl
    rw [l1'] at r1
    rw [if_pos ik, fX1_isBalanced_p51, x_b1 k_has14, if_neg (fun z => nomatch z), x_b1 (k_next14 B.2.2.1 ik hn), x_b1 (k_cst v1' rfl), x_b1 bb, im, i0]
    unfold fX1_isBalanced_p97
    rw [cB]
    by_cases c1 : bI (pLP L N t i) = true
    · rw [if_pos c1, if_neg n10]
      by_cases c2 : lst L N t i = -Int32.ofNat 1
      · have c0 : i = 0 := by
          by_cases z : i = 0
          · exact z
          · unfold lst at c2
            rw [if_neg z] at c2
            exact absurd c2 (neg _ (by omega))
        refine ⟨g, ?_, r2, r3⟩
        rw [if_pos c2, x_b1 g5, r1]
        rw [c0] at c1
        simp [c1, c0]
      · have c0 : ¬ i = 0 := fun z => c2 (by unfold lst; rw [if_pos z])
        have el : lst L N t i = pLP L N t (i - 1) 5 := by unfold lst; rw [if_neg c0]
        rw [if_neg c2, x_b1 g0, el]
        by_cases c3 : pLP L N t i 0 = pLP L N t (i - 1) 5
        · refine ⟨g, ?_, r2, r3⟩
          rw [if_pos c3, x_b1 g5, r1]
          simp [c1, c3]
        · refine ⟨_, ?_, s1.q, b1⟩
          have ff : (bI (pLP L N t i) && (decide (i = 0) || decide (pLP L N t i 0 = pLP L N t (i - 1) 5)) && cB L N t (i + 1) (d + 1)) = false := by simp [c0, c3]
          rw [if_neg c3, ff, if_neg Bool.false_ne_true]
          rfl
    · refine ⟨_, ?_, s1.q, b1⟩
      have ff : (bI (pLP L N t i) && (decide (i = 0) || decide (pLP L N t i 0 = pLP L N t (i - 1) 5)) && cB L N t (i + 1) (d + 1)) = false := by simp [c1]
      rw [if_neg c1, if_pos rfl, ff, if_neg Bool.false_ne_true]
      rfl
end KBA
