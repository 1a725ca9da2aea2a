/-! part 594: a year begins for a herd -/
theorem x_t1 {α β : Type} {f : xM α} {k : α → xM β} {k2 : Nat → xM β} {Γ : Nat → Option Nat} {h h1 : xH} {n : Nat} {a : α} (e : f Γ h n = some (.inl a, h1, 0, 0)) : xtry f k k2 Γ h n = k a Γ h1 n := by
  unfold xtry
  rw [e]
  simp only [Nat.add_zero, Nat.zero_add]
  cases k a Γ h1 n <;> rfl
theorem x_tx {α β : Type} {f : xM α} {k : α → xM β} {k2 : Nat → xM β} {Γ : Nat → Option Nat} {h h1 : xH} {n c s q : Nat} (e : f Γ h n = some (.inr q, h1, c, s)) : xtry f k k2 Γ h n = xadd c s (k2 q Γ h1 (n + c)) := by
  unfold xtry xadd
  rw [e]
  dsimp only
  cases k2 q Γ h1 (n + c) <;> rfl
def qEnv (q : hP) (o a : Nat) (yy : Int32) : Nat → Int64 := fun k => if k = 1 then (isum q.f3 0 13).toInt64 else if k = 2 then (isum q.f3 a (o + 1 - a)).toInt64 else if k = 3 then (q.f3 0).toInt64 else yy.toInt64
/-- the numbers when a year begins -/
def qBeg (q : hP) (v : Int64) (fl : Bool) : hP := (q.sl (fun k => if k = 0 then isum q.f3 0 13 else if k = 6 then (if fl then Int32.ofNat 0 else (jmax 0 (jmin (isum q.f3 0 13).toInt64 v)).toInt32) else Int32.ofNat 0)).sf (b2i fl)
def yNew (Y : Nat → Nat) (n : Nat) : Nat → Nat := fun k => if k = 4 then n else Y k
section BG
variable {Γ : Nat → Option Nat} {h : xH} {n p fe o a : Nat} {Y : Nat → Nat} {q : hP} {ts : List (Nat × Int32)} {yy : Int32}
theorem hv_up {z : Nat} {c : xAC} (hz : ∀ k, k < 5 → z ≠ Y k) : xupd (hV h Y p q) z c = hV (xupd h z c) Y p q := by
  unfold hV
  rw [up_comm (hz 4 (by omega)).symm, up_comm (hz 3 (by omega)).symm, up_comm (hz 2 (by omega)).symm, up_comm (hz 1 (by omega)).symm, up_comm (hz 0 (by omega)).symm]
theorem k_begin (d : hD Y) (hsp : kSp (hV h Y p q) p fe o a) (nf : ∀ k, k < 5 → fe ≠ Y k) (F : kFm (hV h Y p q) p ts) (hb : xbd n (hV h Y p q)) (he : ∀ j, j < 4 → jB (qEnv q o a yy (j + 1))) :
    ∃ h' dc ds, xsel (some (Y 0)) [(19, fun z => fX6_begin z yy)] Γ (hV h Y p q) n = some (.inl (), hV h' (yNew Y n) p (qBeg q (pVal (qEnv q o a yy) ts).1 (pVal (qEnv q o a yy) ts).2), dc, ds) ∧ 1 ≤ dc ∧ dc ≤ 4 ∧ ds ≤ 25 ∧ xbd (n + dc) (hV h' (yNew Y n) p (qBeg q (pVal (qEnv q o a yy) ts).1 (pVal (qEnv q o a yy) ts).2)) ∧ hD (yNew Y n) ∧ ∀ x, hV h Y p q x ≠ none → x ≠ Y 0 → hV h' (yNew Y n) p (qBeg q (pVal (qEnv q o a yy) ts).1 (pVal (qEnv q o a yy) ts).2) x = hV h Y p q x := by
  have ne : ∀ j k, j < 5 → k < 5 → j ≠ k → Y j ≠ Y k := fun j k hj hk e z => e (d j k hj hk z)
  let G : xH := hV h Y p q
  have lt : ∀ k, k < 5 → Y k < n := by
    intro k hk
    refine xbd_lt hb ?_
    rcases (show k = 0 ∨ k = 1 ∨ k = 2 ∨ k = 3 ∨ k = 4 by omega) with rfl | rfl | rfl | rfl | rfl
    · rw [hv_0 d]; exact fun z => nomatch z
    · rw [hv_1 d]; exact fun z => nomatch z
    · rw [hv_2 d]; exact fun z => nomatch z
    · rw [hv_3 d]; exact fun z => nomatch z
    · rw [hv_4]; exact fun z => nomatch z
  have y4 : yNew Y n 4 = n := if_pos rfl
  have yk : ∀ k, k ≠ 4 → yNew Y n k = Y k := fun k hk => if_neg hk
  have d' : hD (yNew Y n) := by
    intro j k hj hk
    unfold yNew
    by_cases c1 : j = 4
    · by_cases c2 : k = 4
      · omega
      · rw [if_pos c1, if_neg c2]
        intro z
        have := lt k hk
        omega
    · by_cases c2 : k = 4
      · rw [if_neg c1, if_pos c2]
        intro z
        have := lt j hj
        omega
      · rw [if_neg c1, if_neg c2]
        exact d j k hj hk
  have n0 : yNew Y n 0 = Y 0 := yk 0 (by omega)
  have n1 : yNew Y n 1 = Y 1 := yk 1 (by omega)
  have n2 : yNew Y n 2 = Y 2 := yk 2 (by omega)
  have n3 : yNew Y n 3 = Y 3 := yk 3 (by omega)
  have n5 : yNew Y n 5 = Y 5 := yk 5 (by omega)
  let tot : Int32 := isum q.f3 0 13
  let l1 : Nat → Int32 := fun k => if k = 0 then tot else 0
  let q1 : hP := q.sl l1
  let h1 : xH := xupd h (Y 4) (hc4 q)
  have e1 : xupd (xupd G n (hc4 q1)) (Y 0) (hc0 (yNew Y n) p q1) = hV h1 (yNew Y n) p q1 := by
    refine hv_ext d' ?_ ?_ ?_ ?_ ?_ (fun x hx => ?_)
    · rw [n0, up_self]
    · rw [n1, up_ne (ne 1 0 (by omega) (by omega) (by omega)), up_ne (by have := lt 1 (by omega); omega)]; exact hv_1 d
    · rw [n2, up_ne (ne 2 0 (by omega) (by omega) (by omega)), up_ne (by have := lt 2 (by omega); omega)]
      rw [show G (Y 2) = _ from hv_2 d]
      unfold hc2
      rw [n3]
      rfl
    · rw [n3, up_ne (ne 3 0 (by omega) (by omega) (by omega)), up_ne (by have := lt 3 (by omega); omega)]; exact hv_3 d
    · rw [y4, up_ne (by have := lt 0 (by omega); omega), up_self]
    · have x0 : x ≠ Y 0 := by rw [← n0]; exact hx 0 (by omega)
      have x1 : x ≠ Y 1 := by rw [← n1]; exact hx 1 (by omega)
      have x2 : x ≠ Y 2 := by rw [← n2]; exact hx 2 (by omega)
      have x3 : x ≠ Y 3 := by rw [← n3]; exact hx 3 (by omega)
      have x4 : x ≠ n := by rw [← y4]; exact hx 4 (by omega)
      rw [up_ne x0, up_ne x4]
      by_cases c : x = Y 4
      · rw [c]
        show hV h Y p q (Y 4) = xupd h (Y 4) (hc4 q) (Y 4)
        rw [hv_4, up_self]
      · show hV h Y p q x = xupd h (Y 4) (hc4 q) x
        rw [up_ne c, hv_o (fun k hk => by
          rcases (show k = 0 ∨ k = 1 ∨ k = 2 ∨ k = 3 ∨ k = 4 by omega) with rfl | rfl | rfl | rfl | rfl <;> assumption)]
  -- the new ledger
  have ini : fX9_init n tot Γ (xupd G n (true, .inr (22, [.int 0, .int 0, .int 0, .int 0, .int 0, .int 0, .int 0]))) (n + 1) = some (.inl (), xupd G n (hc4 q1), 0, 0) := by
    unfold fX9_init
    rw [x_b1 (show xput 22 0 (some n) (.int tot) Γ (xupd G n (true, .inr (22, [.int 0, .int 0, .int 0, .int 0, .int 0, .int 0, .int 0]))) (n + 1) = some (.inl (), xupd G n (hc4 q1), 0, 0) from o1_p (by simp))]
    rfl
  have p6 : xput 19 6 (some (Y 0)) (va_rf (some n)) Γ (xupd G n (hc4 q1)) (n + 1) = some (.inl (), hV h1 (yNew Y n) p q1, 0, 0) := by
    have c : xupd G n (hc4 q1) (Y 0) = some (hc0 Y p q) := (up_ne (by have := lt 0 (by omega); omega)).trans (hv_0 d)
    unfold xput
    simp only [c, hc0]
    rw [if_pos ⟨trivial, by simp⟩, ← e1]
    unfold hc0
    rw [n1, n2, y4, n5]
    rfl
  let q4 : hP := q1.sf 0
  have p5 : xpN 19 5 .boolean (some (Y 0)) (0 : Int32) Γ (hV h1 (yNew Y n) p q1) (n + 1) = some (.inl (), hV h1 (yNew Y n) p q4, 0, 0) := by
    have := hv_p5 (Γ := Γ) (n := n + 1) (h := h1) (p := p) (q := q1) (v := 0) d' (Or.inl rfl)
    rw [n0] at this
    exact this
  have zn : ∀ z, n < z → ∀ k, k < 5 → z ≠ yNew Y n k := by
    intro z hz k hk
    unfold yNew
    split
    · omega
    · have := lt k hk
      omega
  let fc : xAC := (true, .inr (28, [.long tot.toInt64, .long (isum q.f3 a (o + 1 - a)).toInt64, .long (q.f3 0).toInt64, .long yy.toInt64]))
  let H5 : xH := hV (xupd h1 (n + 1) fc) (yNew Y n) p q4
  have eH5 : xupd (hV h1 (yNew Y n) p q4) (n + 1) fc = H5 := hv_up (zn (n + 1) (by omega))
  -- what is unchanged
  have old : ∀ (hh : xH) (qq : hP), qq.f1 = q.f1 → qq.f3 = q.f3 → qq.u = q.u → qq.b = q.b → (∀ x, x < n → (∀ k, k < 5 → x ≠ yNew Y n k) → h1 x ≠ none → hh x = h1 x) → ∀ x, G x ≠ none → x ≠ Y 0 → hV hh (yNew Y n) p qq x = G x := by
    intro hh qq a1 a2 a3 a4 hlow x gx x0
    have xl : x < n := xbd_lt hb gx
    by_cases c1 : x = Y 1
    · rw [c1, show G (Y 1) = _ from hv_1 d, ← n1, hv_1 d', a1]
    · by_cases c2 : x = Y 2
      · rw [c2, show G (Y 2) = _ from hv_2 d, ← n2, hv_2 d']
        unfold hc2
        rw [n3, a3, a4]
      · by_cases c3 : x = Y 3
        · rw [c3, show G (Y 3) = _ from hv_3 d, ← n3, hv_3 d', a2]
        · have ho : ∀ k, k < 5 → x ≠ yNew Y n k := by
            intro k hk
            rcases (show k = 0 ∨ k = 1 ∨ k = 2 ∨ k = 3 ∨ k = 4 by omega) with rfl | rfl | rfl | rfl | rfl
            · rw [n0]; exact x0
            · rw [n1]; exact c1
            · rw [n2]; exact c2
            · rw [n3]; exact c3
            · rw [y4]; omega
          have hg1 : h1 x = G x := by
            by_cases c4 : x = Y 4
            · rw [c4]
              show xupd h (Y 4) (hc4 q) (Y 4) = hV h Y p q (Y 4)
              rw [up_self, hv_4]
            · show xupd h (Y 4) (hc4 q) x = hV h Y p q x
              rw [up_ne c4, hv_o (fun k hk => by
                rcases (show k = 0 ∨ k = 1 ∨ k = 2 ∨ k = 3 ∨ k = 4 by omega) with rfl | rfl | rfl | rfl | rfl <;> assumption)]
          rw [hv_o ho, hlow x xl ho (by rw [hg1]; exact gx), hg1]
  have o5 : ∀ c, ∀ x, G x ≠ none → x ≠ Y 0 → hV (xupd h1 (n + 1) c) (yNew Y n) p q4 x = G x := fun c => old _ _ rfl rfl rfl rfl (fun x xl _ _ => up_ne (by omega))
  have p0 : p ≠ Y 0 := by
    have y0 : yO G 19 (Y 0) := ⟨true, by unfold yhd; rw [show G (Y 0) = _ from hv_0 d]; rfl⟩
    exact yO_ne hsp.1 y0 (by omega)
  have sp5 : ∀ c, kSp (hV (xupd h1 (n + 1) c) (yNew Y n) p q4) p fe o a := fun c => hsp.cg (o5 c p (yO_at hsp.1) p0) (o5 c fe (yA_at hsp.2.2.2.2.1) (nf 0 (by omega)))
  have F5 : kFm H5 p ts := F.cg (fun x cc hx hc => o5 fc x (yO_at hx) (fun z => by
    have y0 : yO G 19 (Y 0) := ⟨true, by unfold yhd; rw [show G (Y 0) = _ from hv_0 d]; rfl⟩
    exact absurd (yO_uq (d := 19) hx (by rw [z]; exact y0)) (by omega)))
  have ad : ∀ c, xsel (some (Y 2)) [(24, fun z => fX10_adults z)] Γ (hV (xupd h1 (n + 1) c) (yNew Y n) p q4) (n + 2) = some (.inl (isum q.f3 a (o + 1 - a)), hV (xupd h1 (n + 1) c) (yNew Y n) p q4, 0, 0) := fun c => by
    rw [← n2, hv_sel2 d', k_adults (hv_kSt d') (sp5 c), hv_f3 d']
    rfl
  have co : ∀ c, xsel (some (Y 0)) [(19, fun z => fX6_cohort z (0 : Int32))] Γ (hV (xupd h1 (n + 1) c) (yNew Y n) p q4) (n + 2) = some (.inl (q.f3 0), hV (xupd h1 (n + 1) c) (yNew Y n) p q4, 0, 0) := fun c => by
    rw [← n0]
    exact hv_coh (j := 0) d' (by omega)
  have g2 : ∀ c, xgR 19 2 (some (Y 0)) Γ (hV (xupd h1 (n + 1) c) (yNew Y n) p q4) (n + 2) = some (.inl (some (Y 2)), hV (xupd h1 (n + 1) c) (yNew Y n) p q4, 0, 0) := fun c => by
    have := hv_g2 (Γ := Γ) (n := n + 2) (h := xupd h1 (n + 1) c) (p := p) (q := q4) d'
    rw [n0, n2] at this
    exact this
  have fi : fX13_init (n + 1) tot.toInt64 (isum q.f3 a (o + 1 - a)).toInt64 (q.f3 0).toInt64 yy.toInt64 Γ (hV (xupd h1 (n + 1) (true, .inr (28, [.long 0, .long 0, .long 0, .long 0]))) (yNew Y n) p q4) (n + 2) = some (.inl (), H5, 0, 0) := by
    rw [← hv_up (zn (n + 1) (by omega)), ← eH5]
    unfold fX13_init
    rw [x_b1 (show xput 28 0 (some (n + 1)) (.long tot.toInt64) Γ (xupd (hV h1 (yNew Y n) p q4) (n + 1) (true, .inr (28, [.long 0, .long 0, .long 0, .long 0]))) (n + 2) = some (.inl (), xupd (hV h1 (yNew Y n) p q4) (n + 1) (true, .inr (28, [.long tot.toInt64, .long 0, .long 0, .long 0])), 0, 0) from o1_p (by simp)), x_b1 (show xput 28 1 (some (n + 1)) (.long (isum q.f3 a (o + 1 - a)).toInt64) Γ (xupd (hV h1 (yNew Y n) p q4) (n + 1) (true, .inr (28, [.long tot.toInt64, .long 0, .long 0, .long 0]))) (n + 2) = some (.inl (), xupd (hV h1 (yNew Y n) p q4) (n + 1) (true, .inr (28, [.long tot.toInt64, .long (isum q.f3 a (o + 1 - a)).toInt64, .long 0, .long 0])), 0, 0) from o1_p (by simp)), x_b1 (show xput 28 2 (some (n + 1)) (.long (q.f3 0).toInt64) Γ (xupd (hV h1 (yNew Y n) p q4) (n + 1) (true, .inr (28, [.long tot.toInt64, .long (isum q.f3 a (o + 1 - a)).toInt64, .long 0, .long 0]))) (n + 2) = some (.inl (), xupd (hV h1 (yNew Y n) p q4) (n + 1) (true, .inr (28, [.long tot.toInt64, .long (isum q.f3 a (o + 1 - a)).toInt64, .long (q.f3 0).toInt64, .long 0])), 0, 0) from o1_p (by simp)), x_b1 (show xput 28 3 (some (n + 1)) (.long yy.toInt64) Γ (xupd (hV h1 (yNew Y n) p q4) (n + 1) (true, .inr (28, [.long tot.toInt64, .long (isum q.f3 a (o + 1 - a)).toInt64, .long (q.f3 0).toInt64, .long 0]))) (n + 2) = some (.inl (), xupd (hV h1 (yNew Y n) p q4) (n + 1) fc, 0, 0) from o1_p (by simp))]
    rfl
  have c5 : H5 (n + 1) = some fc := by rw [← eH5, up_self]
  have f5 : yO H5 28 (n + 1) := ⟨true, by unfold yhd; rw [c5]; rfl⟩
  have b5 : xbd (n + 2) H5 := by
    intro x hx
    have : ∀ k, k < 5 → x ≠ yNew Y n k := zn x (by omega)
    show hV (xupd h1 (n + 1) fc) (yNew Y n) p q4 x = none
    rw [hv_o this, up_ne (by omega)]
    show xupd h (Y 4) (hc4 q) x = none
    rw [up_ne (by have := lt 4 (by omega); omega), ← hv_o (h := h) (Y := Y) (p := p) (q := q) (fun k hk => by have := lt k hk; omega)]
    exact hb x (by omega)
  have o19 : yO H5 19 (Y 0) := ⟨true, by unfold yhd; rw [← n0, show H5 (yNew Y n 0) = _ from hv_0 d']; rfl⟩
  have r19 : yr H5 19 0 (Y 0) = some p := by unfold yr yv; rw [← n0, show H5 (yNew Y n 0) = _ from hv_0 d']; rfl
  have Q := k_quota (Γ := Γ) (Y := Y) (env := qEnv q o a yy) o19 r19 F5 f5 (fun j hj => ⟨by
    unfold yj yv
    rw [c5]
    rcases (show j = 0 ∨ j = 1 ∨ j = 2 ∨ j = 3 by omega) with rfl | rfl | rfl | rfl <;> rfl, he j hj⟩) b5
  have tt : xsel (some (Y 2)) [(24, fun z => fX10_total z)] Γ G n = some (.inl tot, G, 0, 0) := hv_tot d
  have start : ∀ R, (xtry (xsel (some (Y 0)) [(19, fun z => fX6_quotaBy z (some (n + 1)))]) (fun v51 => xbind (xgR 19 6 (some (Y 0))) fun v56 => xtry (fJ12_min_2 tot.toInt64 v51) (fun v63 => xtry (fJ12_max_2 (0 : Int64) v63) (fun v66 => xbind (xput 22 6 v56 (.int v66.toInt32)) fun _ => xpure ()) (fun _ => xstuck)) (fun _ => xstuck)) (fun qq => xsel (some qq) [(30, fun _ => xbind (xsel (some qq) [(30, fun a => xgcause a)]) fun v79 => xbind (xins (fun c => if c = 29 then some true else none) v79) fun v82 => xbind (xpN 19 5 .boolean (some (Y 0)) v82) fun _ => xpure ())])) Γ H5 (n + 2) = R → xsel (some (Y 0)) [(19, fun z => fX6_begin z yy)] Γ G n = xadd 2 11 R := by
    intro R hR
    rw [hv_sel d]
    unfold fX6_begin
    rw [x_b1 (hv_g2 d), x_b1 tt, x_bc (show xnew 22 [.int 0, .int 0, .int 0, .int 0, .int 0, .int 0, .int 0] 7 Γ G n = some (.inl n, xupd G n (true, .inr (22, [.int 0, .int 0, .int 0, .int 0, .int 0, .int 0, .int 0])), 1, 7) from rfl), x_b1 ini, x_b1 p6, x_b1 p5, x_bc (show xnew 28 [.long 0, .long 0, .long 0, .long 0] 4 Γ (hV h1 (yNew Y n) p q4) (n + 1) = some (.inl (n + 1), hV (xupd h1 (n + 1) (true, .inr (28, [.long 0, .long 0, .long 0, .long 0]))) (yNew Y n) p q4, 1, 4) by
      unfold xnew
      rw [hv_up (zn (n + 1) (by omega))]), show n + 1 + 1 = n + 2 from rfl, x_b1 (g2 _), x_t1 (ad _), x_t1 (co _), x_t1 fi, hR, xadd_add]
  cases hfl : (pVal (qEnv q o a yy) ts).2 with
  | false =>
    have e := Q.1 hfl
    let vq : Int32 := (jmax 0 (jmin tot.toInt64 (pVal (qEnv q o a yy) ts).1)).toInt32
    have qe : (q4.sl (va_up q4.l 6 vq)) = qBeg q (pVal (qEnv q o a yy) ts).1 false := by
      unfold qBeg
      show (q.1, q.2.1, va_up l1 6 vq, q.2.2.2.1, q.2.2.2.2.1, (0 : Int32), q.2.2.2.2.2.2) = (q.1, q.2.1, _, q.2.2.2.1, q.2.2.2.2.1, b2i false, q.2.2.2.2.2.2)
      have : va_up l1 6 vq = (fun k => if k = 0 then isum q.f3 0 13 else if k = 6 then (if false = true then Int32.ofNat 0 else (jmax 0 (jmin (isum q.f3 0 13).toInt64 (pVal (qEnv q o a yy) ts).1)).toInt32) else Int32.ofNat 0) := by
        funext k
        rw [va_ap]
        by_cases c : k = 6
        · rw [if_pos c, if_neg (by omega), if_pos c]; rfl
        · rw [if_neg c]
          show (if k = 0 then tot else 0) = _
          by_cases c0 : k = 0
          · rw [if_pos c0, if_pos c0]
          · rw [if_neg c0, if_neg c0, if_neg c]; rfl
      rw [this]
      rfl
    refine ⟨xupd h1 (n + 1) fc, 2, 11, ?_, by omega, by omega, by omega, ?_, d', ?_⟩
    · rw [start _ rfl, x_t1 e]
      have g6 : xgR 19 6 (some (Y 0)) Γ H5 (n + 2) = some (.inl (some n), H5, 0, 0) := by
        have := hv_g6 (Γ := Γ) (n := n + 2) (h := xupd h1 (n + 1) fc) (p := p) (q := q4) d'
        rw [n0, y4] at this
        exact this
      have pl : xput 22 6 (some n) (.int vq) Γ H5 (n + 2) = some (.inl (), hV (xupd h1 (n + 1) fc) (yNew Y n) p (qBeg q (pVal (qEnv q o a yy) ts).1 false), 0, 0) := by
        have := hv_pl (Γ := Γ) (n := n + 2) (h := xupd h1 (n + 1) fc) (p := p) (q := q4) (v := vq) (k := 6) d' (by omega)
        rw [y4, qe] at this
        exact this
      rw [x_b1 g6, x_t1 (i_jm _ _ _ _ _), x_t1 (i_jx _ _ _ _ _), x_b1 pl]
      rfl
    · intro x hx
      have : ∀ k, k < 5 → x ≠ yNew Y n k := zn x (by omega)
      rw [hv_o this, ← hv_o (h := xupd h1 (n + 1) fc) (p := p) (q := q4) this]
      exact b5 x hx
    · exact old _ _ rfl rfl rfl rfl (fun x xl _ _ => up_ne (by omega))
  | true =>
    obtain ⟨g, fs, t1, t2, t3, t4, t5, t6⟩ := Q.2 hfl
    have gq : g = hV g (yNew Y n) p q4 := by
      have at5 : ∀ x c, H5 x = some c → g x = some c := fun x c hx => by rw [t2 x (by rw [hx]; exact fun z => nomatch z), hx]
      exact hv_ext d' (at5 _ _ (hv_0 d')) (at5 _ _ (hv_1 d')) (at5 _ _ (hv_2 d')) (at5 _ _ (hv_3 d')) (at5 _ _ hv_4) (fun _ _ => rfl)
    have qe : (q4.sf (Int32.ofNat 1)) = qBeg q (pVal (qEnv q o a yy) ts).1 true := by
      unfold qBeg
      show (q.1, q.2.1, l1, q.2.2.2.1, q.2.2.2.2.1, Int32.ofNat 1, q.2.2.2.2.2.2) = (q.1, q.2.1, _, q.2.2.2.1, q.2.2.2.2.1, b2i true, q.2.2.2.2.2.2)
      have : l1 = (fun k => if k = 0 then isum q.f3 0 13 else if k = 6 then (if true = true then Int32.ofNat 0 else (jmax 0 (jmin (isum q.f3 0 13).toInt64 (pVal (qEnv q o a yy) ts).1)).toInt32) else Int32.ofNat 0) := by
        funext k
        show (if k = 0 then tot else 0) = _
        by_cases c0 : k = 0
        · rw [if_pos c0, if_pos c0]
        · rw [if_neg c0, if_neg c0]
          by_cases c : k = 6
          · rw [if_pos c, if_pos rfl]; rfl
          · rw [if_neg c]; rfl
      rw [← this]
      rfl
    refine ⟨g, 4, 23, ?_, by omega, by omega, by omega, ?_, d', ?_⟩
    · rw [start _ rfl, x_tx t1]
      have gc : xsel (some (n + 2 + 1)) [(30, fun a => xgcause a)] Γ g (n + 2 + 2) = some (.inl (some (n + 2)), g, 0, 0) := by
        rw [e_sel t6]
        unfold xgcause
        rw [t4]
        show some (Sum.inl (if some (n + 2) = some (n + 2 + 1) then none else some (n + 2)), g, 0, 0) = _
        rw [if_neg (fun z => by injection z with z; omega)]
      have xi : xins (fun c => if c = 29 then some true else none) (some (n + 2)) Γ g (n + 2 + 2) = some (.inl (Int32.ofNat 1), g, 0, 0) := by
        obtain ⟨w, ff, c1, c2, c3⟩ := yobj t5
        unfold xins
        simp only [c3]
        rfl
      have pf : xpN 19 5 .boolean (some (Y 0)) (Int32.ofNat 1) Γ g (n + 2 + 2) = some (.inl (), hV g (yNew Y n) p (qBeg q (pVal (qEnv q o a yy) ts).1 true), 0, 0) := by
        have := hv_p5 (Γ := Γ) (n := n + 2 + 2) (h := g) (p := p) (q := q4) (v := Int32.ofNat 1) d' (Or.inr rfl)
        rw [n0, qe, ← gq] at this
        exact this
      rw [e_sel t6, x_b1 gc, x_b1 xi, x_b1 pf]
      rfl
    · intro x hx
      rw [hv_o (zn x (by omega))]
      exact t3 x hx
    · refine old _ _ rfl rfl rfl rfl (fun x xl ho c => ?_)
      have e5 : H5 x = h1 x := by
        show hV (xupd h1 (n + 1) fc) (yNew Y n) p q4 x = h1 x
        rw [hv_o ho, up_ne (by omega)]
      rw [t2 x (by rw [e5]; exact c), e5]
end BG
