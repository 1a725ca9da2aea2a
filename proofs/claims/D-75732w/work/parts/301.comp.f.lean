/-! comp: the functions -/
def fJ0_init__J2 (a0 : Nat) : xM (Unit) :=
  xpure ()
def fJ1_init__J2 (a0 : Nat) : xM (Unit) :=
  xbind (fJ0_init__J2 a0) fun _ =>
  xbind (xput 2 0 (some a0) (.int (0 : Int32))) fun _ =>
  xpure ()
def fJ2_init (a0 : Nat) (p0 : Int32) : xM (Unit) :=
  xbind (fJ1_init__J2 a0) fun _ =>
  if p0 ≤ 0 then (
    if p0 = 0 then (
      xbind (xcon 16) fun v24 =>
      xbind (xput 2 1 (some a0) (va_rf v24)) fun _ =>
      xpure ()
    ) else (
      xstuck
    )
  ) else (
    xbind (xnewA 5 (fun N => (N, .inr (.inr (.inr (.inr (fun _ => none)))))) p0) fun v10 =>
    xbind (xput 2 1 (some a0) (va_rf (some v10))) fun _ =>
    xpure ()
  )
def fJ0_init__J19 (a0 : Nat) : xM (Unit) :=
  xpure ()
def fJ1_init__J19 (a0 : Nat) : xM (Unit) :=
  xbind (fJ0_init__J19 a0) fun _ =>
  xbind (xput 6 0 (some a0) (.int (0 : Int32))) fun _ =>
  xpure ()
def fJ18_init__J19 (a0 : Nat) : xM (Unit) :=
  xbind (fJ1_init__J19 a0) fun _ =>
  xpure ()
def fJ19_init (a0 : Nat) : xM (Unit) :=
  xbind (fJ18_init__J19 a0) fun _ =>
  xbind (xput 6 1 (some a0) (.int (0 : Int32))) fun _ =>
  xpure ()
def fX2_init (a0 : Nat) : xM (Unit) :=
  xbind (xnew 2 [.int 0, .null, .int 0] 3) fun v5 =>
  xbind (fJ2_init v5 (4 : Int32)) fun _ =>
  xbind (xput 1 0 (some a0) (va_rf (some v5))) fun _ =>
  xbind (xnew 6 [.int 0, .int 0, .null, .null] 4) fun v17 =>
  xbind (fJ19_init v17) fun _ =>
  xbind (xput 1 1 (some a0) (va_rf (some v17))) fun _ =>
  xpure ()
def fX4_init (a0 : Nat) (p0 : Option Nat) (p1 : Int32) : xM (Unit) :=
  xbind (xput 17 4 (some a0) (va_rf p0)) fun _ =>
  xbind (xnew 1 [.null, .null, .int 0, .int 0, .int 0] 5) fun v10 =>
  xbind (fX2_init v10) fun _ =>
  xbind (xput 17 3 (some a0) (va_rf (some v10))) fun _ =>
  xbind (xput 17 0 (some a0) (.int p1)) fun _ =>
  xpure ()
def fJ20_hasNext (a0 : Nat) : xM (Int32) :=
  xbind (xgI 7 0 (some a0)) fun v1 =>
  xbind (xgR 7 3 (some a0)) fun v5 =>
  xbind (xgI 2 2 v5) fun v8 =>
  if v1 = v8 then (
    xpure (0 : Int32)
  ) else (
    xpure (1 : Int32)
  )
def fJ20_checkForComodification (a0 : Nat) : xM (Unit) :=
  xbind (xgR 7 3 (some a0)) fun v1 =>
  xbind (xgI 2 0 v1) fun v4 =>
  xbind (xgI 7 2 (some a0)) fun v8 =>
  if v4 = v8 then (
    xpure ()
  ) else (
    xstuck
  )
def fJ20_next (a0 : Nat) : xM (Option Nat) :=
  xbind (xsel (some a0) [(7, fun z => fJ20_checkForComodification z)]) fun _ =>
  xbind (xgI 7 0 (some a0)) fun v5 =>
  xbind (xgR 7 3 (some a0)) fun v11 =>
  xbind (xgI 2 2 v11) fun v14 =>
  if v5 < v14 then (
    xbind (xgR 7 3 (some a0)) fun v29 =>
    xbind (xgR 2 1 v29) fun v32 =>
    xbind (xlen v32) fun v38 =>
    if v5 < v38 then (
      xbind (xput 7 0 (some a0) (.int (v5 + (1 : Int32)))) fun _ =>
      xbind (xput 7 1 (some a0) (.int v5)) fun _ =>
      xbind (xldR v32 v5) fun v64 =>
      xpure v64
    ) else (
      xstuck
    )
  ) else (
    xstuck
  )
def fX10_total_p13 : Nat → Int32 → Option Nat → Int32 → Int32 → xM (Int32)
  | 0, _, _, _, _ => xstuck
  | n + 1, l1, l2, l3, l4 =>
    if l3 ≤ l4 then (
      xpure l1
    ) else (
      xbind (xldI 1 l2 l4) fun v22 =>
      xlet (l1 + v22) fun x1_29 =>
      xlet (l4 + (1 : Int32)) fun x4_30 =>
      fX10_total_p13 n x1_29 l2 l3 x4_30
    )
def fX10_total (a0 : Nat) : xM (Int32) :=
  xlet (0 : Int32) fun x1_1 =>
  xbind (xgR 24 1 (some a0)) fun v3 =>
  xbind (xlen v3) fun v8 =>
  xlet (0 : Int32) fun x4_11 =>
  fX10_total_p13 xFU x1_1 v3 v8 x4_11
def fX9_init (a0 : Nat) (p0 : Int32) : xM (Unit) :=
  xbind (xput 22 0 (some a0) (.int p0)) fun _ =>
  xpure ()
def fX10_adults_p10 : Nat → Nat → Int32 → Int32 → xM (Int32)
  | 0, _, _, _ => xstuck
  | n + 1, l0, l1, l2 =>
    xbind (xgR 24 0 (some l0)) fun v12 =>
    xbind (xgI 20 1 v12) fun v15 =>
    if v15 < l2 then (
      xpure l1
    ) else (
      xbind (xgR 24 1 (some l0)) fun v23 =>
      xbind (xldI 1 v23 l2) fun v27 =>
      xlet (l1 + v27) fun x1_29 =>
      xlet (l2 + (1 : Int32)) fun x2_30 =>
      fX10_adults_p10 n l0 x1_29 x2_30
    )
def fX10_adults (a0 : Nat) : xM (Int32) :=
  xlet (0 : Int32) fun x1_1 =>
  xbind (xgR 24 0 (some a0)) fun v3 =>
  xbind (xgI 20 3 v3) fun v6 =>
  fX10_adults_p10 xFU a0 x1_1 v6
def fX6_cohort (a0 : Nat) (p0 : Int32) : xM (Int32) :=
  xbind (xgR 19 2 (some a0)) fun v1 =>
  xbind (xgR 24 1 v1) fun v4 =>
  xbind (xldI 1 v4 p0) fun v8 =>
  xpure v8
def fX13_init (a0 : Nat) (p0 : Int64) (p1 : Int64) (p2 : Int64) (p3 : Int64) : xM (Unit) :=
  xbind (xput 28 0 (some a0) (.long p0)) fun _ =>
  xbind (xput 28 1 (some a0) (.long p1)) fun _ =>
  xbind (xput 28 2 (some a0) (.long p2)) fun _ =>
  xbind (xput 28 3 (some a0) (.long p3)) fun _ =>
  xpure ()
def fX8_value (a0 : Nat) (p0 : Option Nat) : xM (Int64) :=
  xbind (xgJ 21 0 (some a0)) fun v1 =>
  xpure v1
def fX19_of (a0 : Nat) (p0 : Option Nat) : xM (Int64) :=
  xbind (xgJ 28 0 p0) fun v1 =>
  xpure v1
def fX20_of (a0 : Nat) (p0 : Option Nat) : xM (Int64) :=
  xbind (xgJ 28 1 p0) fun v1 =>
  xpure v1
def fX21_of (a0 : Nat) (p0 : Option Nat) : xM (Int64) :=
  xbind (xgJ 28 2 p0) fun v1 =>
  xpure v1
def fX22_of (a0 : Nat) (p0 : Option Nat) : xM (Int64) :=
  xbind (xgJ 28 3 p0) fun v1 =>
  xpure v1
def fX11_value (a0 : Nat) (p0 : Option Nat) : xM (Int64) :=
  xbind (xgR 26 0 (some a0)) fun v1 =>
  xbind (xsel v1 [(40, fun z => fX19_of z p0), (41, fun z => fX20_of z p0), (42, fun z => fX21_of z p0), (43, fun z => fX22_of z p0)]) fun v5 =>
  xpure v5
def fX26_of (a0 : Nat) (p0 : Int64) (p1 : Int64) : xM (Int64) :=
  xpure (p0 + p1)
def fX27_of (a0 : Nat) (p0 : Int64) (p1 : Int64) : xM (Int64) :=
  xpure (p0 - p1)
def fX28_of (a0 : Nat) (p0 : Int64) (p1 : Int64) : xM (Int64) :=
  xpure (p0 * p1)
def fJ3_init_4__X14_p41 (l0 : Nat) (l1 : Option Nat) (l2 : Option Nat) (l3 : Int32) : xM (Unit) :=
  xbind (xput 29 3 (some l0) (va_rf l1)) fun _ =>
  xbind (xput 29 0 (some l0) (va_rf l2)) fun _ =>
  if l3 = 0 then (
    xbind (xput 29 2 (some l0) (va_rf none)) fun _ =>
    xpure ()
  ) else (
    xpure ()
  )
def fJ3_init_4__X14 (a0 : Nat) (p0 : Option Nat) (p1 : Option Nat) (p2 : Int32) (p3 : Int32) : xM (Unit) :=
  xbind (xput 29 0 (some a0) (va_rf (some a0))) fun _ =>
  xbind (xcon 18) fun v10 =>
  xbind (xput 29 1 (some a0) (va_rf v10)) fun _ =>
  xbind (xcon 19) fun v17 =>
  xbind (xput 29 2 (some a0) (va_rf v17)) fun _ =>
  if p3 = 0 then (
    xbind (xput 29 1 (some a0) (va_rf none)) fun _ =>
    fJ3_init_4__X14_p41 a0 p0 p1 p2
  ) else (
    xstuck
  )
def fJ4_init_4__X14 (a0 : Nat) (p0 : Option Nat) (p1 : Option Nat) (p2 : Int32) (p3 : Int32) : xM (Unit) :=
  xbind (fJ3_init_4__X14 a0 p0 p1 p2 p3) fun _ =>
  xpure ()
def fX14_init (a0 : Nat) : xM (Unit) :=
  xbind (fJ4_init_4__X14 a0 none none (0 : Int32) (0 : Int32)) fun _ =>
  xpure ()
def fX29_of (a0 : Nat) (p0 : Int64) (p1 : Int64) : xM (Int64) :=
  if (lg_cmp p1 (0 : Int64)) = 0 then (
    xbind (xnew 29 [.null, .null, .null, .null, .null, .int 0] 6) fun v6 =>
    xbind (fX14_init v6) fun _ =>
    xthrow (some v6)
  ) else (
    xdvJ p1 <|
    xpure (p0 / p1)
  )
def fX30_of (a0 : Nat) (p0 : Int64) (p1 : Int64) : xM (Int64) :=
  xbind (fJ12_min_2 p0 p1) fun v2 =>
  xpure v2
def fX31_of (a0 : Nat) (p0 : Int64) (p1 : Int64) : xM (Int64) :=
  xbind (fJ12_max_2 p0 p1) fun v2 =>
  xpure v2
def fX12_value_b (S : Nat → Option Nat → xM (Int64)) (a0 : Nat) (p0 : Option Nat) : xM (Int64) :=
  xbind (xgR 27 0 (some a0)) fun v1 =>
  xbind (xgR 27 1 (some a0)) fun v5 =>
  xbind (xsel v5 [(21, fun z => fX8_value z p0), (26, fun z => fX11_value z p0), (27, fun z => S z p0)]) fun v9 =>
  xbind (xgR 27 2 (some a0)) fun v15 =>
  xbind (xsel v15 [(21, fun z => fX8_value z p0), (26, fun z => fX11_value z p0), (27, fun z => S z p0)]) fun v19 =>
  xbind (xsel v1 [(44, fun z => fX26_of z v9 v19), (45, fun z => fX27_of z v9 v19), (46, fun z => fX28_of z v9 v19), (47, fun z => fX29_of z v9 v19), (48, fun z => fX30_of z v9 v19), (49, fun z => fX31_of z v9 v19)]) fun v24 =>
  xbind (fJ12_min_2 (1000000000 : Int64) v24) fun v35 =>
  xbind (fJ12_max_2 (-1000000000 : Int64) v35) fun v38 =>
  xpure v38
def fX12_value : Nat → Nat → Option Nat → xM (Int64)
  | 0, _, _ => xstuck
  | d + 1, a0, p0 => fX12_value_b (fX12_value d) a0 p0
def fJ3_init_4__X15_p41 (l0 : Nat) (l1 : Option Nat) (l2 : Option Nat) (l3 : Int32) : xM (Unit) :=
  xbind (xput 30 3 (some l0) (va_rf l1)) fun _ =>
  xbind (xput 30 0 (some l0) (va_rf l2)) fun _ =>
  if l3 = 0 then (
    xbind (xput 30 2 (some l0) (va_rf none)) fun _ =>
    xpure ()
  ) else (
    xpure ()
  )
def fJ3_init_4__X15 (a0 : Nat) (p0 : Option Nat) (p1 : Option Nat) (p2 : Int32) (p3 : Int32) : xM (Unit) :=
  xbind (xput 30 0 (some a0) (va_rf (some a0))) fun _ =>
  xbind (xcon 18) fun v10 =>
  xbind (xput 30 1 (some a0) (va_rf v10)) fun _ =>
  xbind (xcon 19) fun v17 =>
  xbind (xput 30 2 (some a0) (va_rf v17)) fun _ =>
  if p3 = 0 then (
    xbind (xput 30 1 (some a0) (va_rf none)) fun _ =>
    fJ3_init_4__X15_p41 a0 p0 p1 p2
  ) else (
    xstuck
  )
def fJ4_init_4__X15 (a0 : Nat) (p0 : Option Nat) (p1 : Option Nat) (p2 : Int32) (p3 : Int32) : xM (Unit) :=
  xbind (fJ3_init_4__X15 a0 p0 p1 p2 p3) fun _ =>
  xpure ()
def fX15_init (a0 : Nat) (p0 : Option Nat) : xM (Unit) :=
  xbind (fJ4_init_4__X15 a0 none p0 (0 : Int32) (0 : Int32)) fun _ =>
  xpure ()
def fX6_quotaBy (a0 : Nat) (p0 : Option Nat) : xM (Int64) :=
  xbind (xgR 19 0 (some a0)) fun v1 =>
  xbind (xgR 20 4 v1) fun v4 =>
  xtry (xsel v4 [(21, fun z => fX8_value z p0), (26, fun z => fX11_value z p0), (27, fun z => fX12_value 1000 z p0)]) (fun v8 =>
    xpure v8
  ) (fun q => xsel (some q) [
      (29, fun _ =>
        xbind (xnew 30 [.null, .null, .null, .null, .null, .int 0] 6) fun v15 =>
        xbind (fX15_init v15 (some q)) fun _ =>
        xthrow (some v15)
      )
      ]
  )
def fX6_begin (a0 : Nat) (p0 : Int32) : xM (Unit) :=
  xbind (xgR 19 2 (some a0)) fun v1 =>
  xbind (xsel v1 [(24, fun z => fX10_total z)]) fun v4 =>
  xbind (xnew 22 [.int 0, .int 0, .int 0, .int 0, .int 0, .int 0, .int 0] 7) fun v9 =>
  xbind (fX9_init v9 v4) fun _ =>
  xbind (xput 19 6 (some a0) (va_rf (some v9))) fun _ =>
  xbind (xpN 19 5 .boolean (some a0) (0 : Int32)) fun _ =>
  xbind (xnew 28 [.long 0, .long 0, .long 0, .long 0] 4) fun v26 =>
  xbind (xgR 19 2 (some a0)) fun v33 =>
  xtry (xsel v33 [(24, fun z => fX10_adults z)]) (fun v36 =>
    xtry (xsel (some a0) [(19, fun z => fX6_cohort z (0 : Int32))]) (fun v42 =>
      xtry (fX13_init v26 v4.toInt64 v36.toInt64 v42.toInt64 p0.toInt64) (fun _ =>
        xtry (xsel (some a0) [(19, fun z => fX6_quotaBy z (some v26))]) (fun v51 =>
          xbind (xgR 19 6 (some a0)) fun v56 =>
          xtry (fJ12_min_2 v4.toInt64 v51) (fun v63 =>
            xtry (fJ12_max_2 (0 : Int64) v63) (fun v66 =>
              xbind (xput 22 6 v56 (.int v66.toInt32)) fun _ =>
              xpure ()
            ) (fun _ => xstuck
            )
          ) (fun _ => xstuck
          )
        ) (fun q => xsel (some q) [
            (30, fun _ =>
              xbind (xsel (some q) [(30, fun a => xgcause a)]) fun v79 =>
              xbind (xins (fun c => if c = 29 then some true else none) v79) fun v82 =>
              xbind (xpN 19 5 .boolean (some a0) v82) fun _ =>
              xpure ()
            )
            ]
        )
      ) (fun _ => xstuck
      )
    ) (fun _ => xstuck
    )
  ) (fun _ => xstuck
  )
def fX4_byteAt (a0 : Nat) (p0 : Int32) : xM (Int32) :=
  xbind (xgI 17 0 (some a0)) fun v2 =>
  if v2 ≤ p0 then (
    xpure (-1 : Int32)
  ) else (
    xbind (xgR 17 4 (some a0)) fun v9 =>
    xbind (xgR 0 0 v9) fun v12 =>
    xbind (xldI 0 v12 p0) fun v16 =>
    xpure (v16 &&& (255 : Int32))
  )
def fX4_peek_p39 (k0 : Nat → xM (Int32)) (l0 : Nat) : xM (Int32) :=
  xbind (xgI 17 1 (some l0)) fun v41 =>
  xbind (xput 17 1 (some l0) (.int (v41 + (1 : Int32)))) fun _ =>
  k0 l0
def fX4_peek_p0 : Nat → Nat → xM (Int32)
  | 0, _ => xstuck
  | n + 1, l0 =>
    xbind (xgI 17 1 (some l0)) fun v2 =>
    xbind (xsel (some l0) [(17, fun z => fX4_byteAt z v2)]) fun v5 =>
    if v5 = (9 : Int32) then (
      fX4_peek_p39 (fX4_peek_p0 n) l0
    ) else (
      xbind (xgI 17 1 (some l0)) fun v15 =>
      xbind (xsel (some l0) [(17, fun z => fX4_byteAt z v15)]) fun v18 =>
      if v18 = (10 : Int32) then (
        fX4_peek_p39 (fX4_peek_p0 n) l0
      ) else (
        xbind (xgI 17 1 (some l0)) fun v28 =>
        xbind (xsel (some l0) [(17, fun z => fX4_byteAt z v28)]) fun v31 =>
        if v31 = (32 : Int32) then (
          fX4_peek_p39 (fX4_peek_p0 n) l0
        ) else (
          xbind (xgI 17 1 (some l0)) fun v54 =>
          xbind (xsel (some l0) [(17, fun z => fX4_byteAt z v54)]) fun v57 =>
          xpure v57
        )
      )
    )
def fX4_peek (a0 : Nat) : xM (Int32) :=
  fX4_peek_p0 xFU a0
def fJ20_init (a0 : Nat) (p0 : Option Nat) : xM (Unit) :=
  xbind (xput 7 3 (some a0) (va_rf p0)) fun _ =>
  xbind (xput 7 1 (some a0) (.int (-1 : Int32))) fun _ =>
  xbind (xgR 7 3 (some a0)) fun v16 =>
  xbind (xgI 2 0 v16) fun v19 =>
  xbind (xput 7 2 (some a0) (.int v19)) fun _ =>
  xpure ()
def fJ2_iterator (a0 : Nat) : xM (Option Nat) :=
  xbind (xnew 7 [.int 0, .int 0, .int 0, .null] 4) fun v0 =>
  xbind (fJ20_init v0 (some a0)) fun _ =>
  xpure (some v0)
def fJ3_init_4__X5_p41 (l0 : Nat) (l1 : Option Nat) (l2 : Option Nat) (l3 : Int32) : xM (Unit) :=
  xbind (xput 18 3 (some l0) (va_rf l1)) fun _ =>
  xbind (xput 18 0 (some l0) (va_rf l2)) fun _ =>
  if l3 = 0 then (
    xbind (xput 18 2 (some l0) (va_rf none)) fun _ =>
    xpure ()
  ) else (
    xpure ()
  )
def fJ3_init_4__X5 (a0 : Nat) (p0 : Option Nat) (p1 : Option Nat) (p2 : Int32) (p3 : Int32) : xM (Unit) :=
  xbind (xput 18 0 (some a0) (va_rf (some a0))) fun _ =>
  xbind (xcon 18) fun v10 =>
  xbind (xput 18 1 (some a0) (va_rf v10)) fun _ =>
  xbind (xcon 19) fun v17 =>
  xbind (xput 18 2 (some a0) (va_rf v17)) fun _ =>
  if p3 = 0 then (
    xbind (xput 18 1 (some a0) (va_rf none)) fun _ =>
    fJ3_init_4__X5_p41 a0 p0 p1 p2
  ) else (
    xstuck
  )
def fJ4_init_4__X5 (a0 : Nat) (p0 : Option Nat) (p1 : Option Nat) (p2 : Int32) (p3 : Int32) : xM (Unit) :=
  xbind (fJ3_init_4__X5 a0 p0 p1 p2 p3) fun _ =>
  xpure ()
def fX5_init (a0 : Nat) (p0 : Int32) (p1 : Int32) : xM (Unit) :=
  xbind (fJ4_init_4__X5 a0 none none (0 : Int32) (0 : Int32)) fun _ =>
  xbind (xput 18 6 (some a0) (.int p0)) fun _ =>
  xbind (xput 18 7 (some a0) (.int p1)) fun _ =>
  xpure ()
def fX4_require (a0 : Nat) (p0 : Int32) (p1 : Int32) (p2 : Int32) : xM (Unit) :=
  if p0 = 0 then (
    xbind (xnew 18 [.null, .null, .null, .null, .null, .int 0, .int 0, .int 0] 8) fun v4 =>
    xbind (fX5_init v4 p1 p2) fun _ =>
    xthrow (some v4)
  ) else (
    xpure ()
  )
def fX1_inRange (p0 : Int32) (p1 : Int32) (p2 : Int32) : xM (Int32) :=
  if p0 < p1 then (
    xpure (0 : Int32)
  ) else (
    if p2 < p0 then (
      xpure (0 : Int32)
    ) else (
      xpure (1 : Int32)
    )
  )
def fX4_isDigit (a0 : Nat) (p0 : Int32) : xM (Int32) :=
  xbind (fX1_inRange p0 (48 : Int32) (57 : Int32)) fun v5 =>
  xretN .boolean v5
def fX4_number_p72 (k28 : Nat → Int32 → Int32 → Int32 → Int32 → Int32 → xM (Int32)) (l0 : Nat) (l1 : Int32) (l2 : Int32) (l3 : Int32) (l5 : Int32) (s0 : Int32) : xM (Int32) :=
  xlet (l5 + (1 : Int32)) fun x5_74 =>
  xbind (xgI 17 1 (some l0)) fun v79 =>
  xbind (xput 17 1 (some l0) (.int (v79 + (1 : Int32)))) fun _ =>
  k28 l0 l1 l2 l3 s0 x5_74
def fX4_number_p113 (l3 : Int32) (l4 : Int32) (s0 : Int32) (s1 : Nat) : xM (Int32) :=
  xbind (xsel (some s1) [(17, fun z => fX4_require z s0 (2 : Int32) l3)]) fun _ =>
  xpure l4
def fX4_number_p112 (l3 : Int32) (l4 : Int32) (s0 : Nat) : xM (Int32) :=
  fX4_number_p113 l3 l4 (0 : Int32) s0
def fX4_number_p28 : Nat → Nat → Int32 → Int32 → Int32 → Int32 → Int32 → xM (Int32)
  | 0, _, _, _, _, _, _ => xstuck
  | n + 1, l0, l1, l2, l3, l4, l5 =>
    xbind (xgI 17 1 (some l0)) fun v31 =>
    xbind (xsel (some l0) [(17, fun z => fX4_byteAt z v31)]) fun v34 =>
    xbind (xsel (some l0) [(17, fun z => fX4_isDigit z v34)]) fun v37 =>
    if v37 = 0 then (
      if (6 : Int32) < l5 then (
        fX4_number_p112 l3 l4 l0
      ) else (
        xbind (fX1_inRange l4 l1 l2) fun v102 =>
        if v102 = 0 then (
          fX4_number_p112 l3 l4 l0
        ) else (
          fX4_number_p113 l3 l4 (1 : Int32) l0
        )
      )
    ) else (
      if (6 : Int32) ≤ l5 then (
        fX4_number_p72 (fX4_number_p28 n) l0 l1 l2 l3 l5 l4
      ) else (
        xbind (xgI 17 1 (some l0)) fun v57 =>
        xbind (xsel (some l0) [(17, fun z => fX4_byteAt z v57)]) fun v60 =>
        fX4_number_p72 (fX4_number_p28 n) l0 l1 l2 l3 l5 ((((10 : Int32) * l4) + v60) - (48 : Int32))
      )
    )
def fX4_number (a0 : Nat) (p0 : Int32) (p1 : Int32) : xM (Int32) :=
  xbind (xsel (some a0) [(17, fun z => fX4_peek z)]) fun v3 =>
  xbind (xsel (some a0) [(17, fun z => fX4_isDigit z v3)]) fun v6 =>
  xbind (xgI 17 1 (some a0)) fun v11 =>
  xbind (xsel (some a0) [(17, fun z => fX4_require z v6 (1 : Int32) v11)]) fun _ =>
  xbind (xgI 17 1 (some a0)) fun v18 =>
  xlet (0 : Int32) fun x4_23 =>
  xlet (0 : Int32) fun x5_26 =>
  fX4_number_p28 xFU a0 p0 p1 v18 x4_23 x5_26
def fX4_byAges_p26 (k3 : Nat → Option Nat → Int32 → Int32 → Int32 → xM (Unit)) (l0 : Nat) (l1 : Option Nat) (l2 : Int32) (l3 : Int32) (l4 : Int32) (s0 : Int32) (s1 : Nat) : xM (Unit) :=
  xbind (xgI 17 1 (some l0)) fun v28 =>
  xbind (xsel (some s1) [(17, fun z => fX4_require z s0 (5 : Int32) v28)]) fun _ =>
  xbind (xsel (some l0) [(17, fun z => fX4_number z (0 : Int32) l3)]) fun v40 =>
  xbind (xstI 1 l1 l4 v40) fun _ =>
  xlet (l4 + (1 : Int32)) fun x4_44 =>
  xbind (xsel (some l0) [(17, fun z => fX4_peek z)]) fun v49 =>
  xbind (xsel (some l0) [(17, fun z => fX4_isDigit z v49)]) fun v52 =>
  if v52 = 0 then (
    xpure ()
  ) else (
    k3 l0 l1 l2 l3 x4_44
  )
def fX4_byAges_p21 (k3 : Nat → Option Nat → Int32 → Int32 → Int32 → xM (Unit)) (l0 : Nat) (l1 : Option Nat) (l2 : Int32) (l3 : Int32) (l4 : Int32) (s0 : Nat) : xM (Unit) :=
  fX4_byAges_p26 k3 l0 l1 l2 l3 l4 (1 : Int32) s0
def fX4_byAges_p3 : Nat → Nat → Option Nat → Int32 → Int32 → Int32 → xM (Unit)
  | 0, _, _, _, _, _ => xstuck
  | n + 1, l0, l1, l2, l3, l4 =>
    if l4 ≤ l2 then (
      fX4_byAges_p21 (fX4_byAges_p3 n) l0 l1 l2 l3 l4 l0
    ) else (
      xbind (xsel (some l0) [(17, fun z => fX4_peek z)]) fun v12 =>
      xbind (xsel (some l0) [(17, fun z => fX4_isDigit z v12)]) fun v15 =>
      if v15 = 0 then (
        fX4_byAges_p21 (fX4_byAges_p3 n) l0 l1 l2 l3 l4 l0
      ) else (
        fX4_byAges_p26 (fX4_byAges_p3 n) l0 l1 l2 l3 l4 (0 : Int32) l0
      )
    )
def fX4_byAges (a0 : Nat) (p0 : Option Nat) (p1 : Int32) (p2 : Int32) : xM (Unit) :=
  xlet (0 : Int32) fun x4_1 =>
  fX4_byAges_p3 xFU a0 p0 p1 p2 x4_1
def fX11_init (a0 : Nat) (p0 : Option Nat) : xM (Unit) :=
  xbind (xput 26 0 (some a0) (va_rf p0)) fun _ =>
  xpure ()
def fX4_open_p37 (l0 : Nat) (s0 : Int32) (s1 : Nat) : xM (Unit) :=
  xbind (xgI 17 1 (some l0)) fun v39 =>
  xbind (xsel (some s1) [(17, fun z => fX4_require z s0 (4 : Int32) v39)]) fun _ =>
  xbind (xgI 17 1 (some l0)) fun v47 =>
  xbind (xput 17 1 (some l0) (.int (v47 + (1 : Int32)))) fun _ =>
  xbind (xgI 17 2 (some l0)) fun v57 =>
  xbind (xput 17 2 (some l0) (.int (v57 + (1 : Int32)))) fun _ =>
  xpure ()
def fX4_open_p15 (l0 : Nat) (s0 : Int32) (s1 : Nat) : xM (Unit) :=
  xbind (xgI 17 1 (some l0)) fun v17 =>
  xbind (xsel (some s1) [(17, fun z => fX4_require z s0 (1 : Int32) v17)]) fun _ =>
  xbind (xgI 17 2 (some l0)) fun v25 =>
  if (4 : Int32) ≤ v25 then (
    fX4_open_p37 l0 (0 : Int32) l0
  ) else (
    fX4_open_p37 l0 (1 : Int32) l0
  )
def fX4_open (a0 : Nat) : xM (Unit) :=
  xbind (xsel (some a0) [(17, fun z => fX4_peek z)]) fun v2 =>
  if v2 = (40 : Int32) then (
    fX4_open_p15 a0 (1 : Int32) a0
  ) else (
    fX4_open_p15 a0 (0 : Int32) a0
  )
def fX4_sign_p14 (l0 : Nat) (s0 : Int32) (s1 : Nat) : xM (Unit) :=
  xbind (xgI 17 1 (some l0)) fun v16 =>
  xbind (xsel (some s1) [(17, fun z => fX4_require z s0 (1 : Int32) v16)]) fun _ =>
  xbind (xgI 17 1 (some l0)) fun v24 =>
  xbind (xput 17 1 (some l0) (.int (v24 + (1 : Int32)))) fun _ =>
  xpure ()
def fX4_sign (a0 : Nat) (p0 : Int32) : xM (Unit) :=
  xbind (xsel (some a0) [(17, fun z => fX4_peek z)]) fun v2 =>
  if v2 = p0 then (
    fX4_sign_p14 a0 (1 : Int32) a0
  ) else (
    fX4_sign_p14 a0 (0 : Int32) a0
  )
def fX4_close (a0 : Nat) : xM (Unit) :=
  xbind (xsel (some a0) [(17, fun z => fX4_sign z (41 : Int32))]) fun _ =>
  xbind (xgI 17 2 (some a0)) fun v8 =>
  xbind (xput 17 2 (some a0) (.int (v8 - (1 : Int32)))) fun _ =>
  xpure ()
def fX12_init (a0 : Nat) (p0 : Option Nat) (p1 : Option Nat) (p2 : Option Nat) : xM (Unit) :=
  xbind (xput 27 0 (some a0) (va_rf p0)) fun _ =>
  xbind (xput 27 1 (some a0) (va_rf p1)) fun _ =>
  xbind (xput 27 2 (some a0) (va_rf p2)) fun _ =>
  xpure ()
def fX4_choice (S : Nat → xM (Option Nat)) (a0 : Nat) (p0 : Option Nat) : xM (Option Nat) :=
  xbind (xsel (some a0) [(17, fun z => fX4_open z)]) fun _ =>
  xbind (xsel (some a0) [(17, fun z => S z)]) fun v5 =>
  xbind (xsel (some a0) [(17, fun z => fX4_sign z (44 : Int32))]) fun _ =>
  xbind (xsel (some a0) [(17, fun z => S z)]) fun v16 =>
  xbind (xsel (some a0) [(17, fun z => fX4_close z)]) fun _ =>
  xbind (xnew 27 [.null, .null, .null] 3) fun v24 =>
  xbind (fX12_init v24 p0 v5 v16) fun _ =>
  xpure (some v24)
def fJ13_checkLength (p0 : Int32) (p1 : Int32) : xM (Unit) :=
  if p0 ≤ p1 then (
    xpure ()
  ) else (
    xstuck
  )
def fJ13_copyOfRangeByte (p0 : Option Nat) (p1 : Int32) (p2 : Int32) : xM (Option Nat) :=
  xbind (fJ13_checkLength p1 p2) fun _ =>
  xlet (p2 - p1) fun x3_8 =>
  xbind (xnewA 0 (fun N => (N, .inl (fun _ => 0))) x3_8) fun v10 =>
  xbind (xlen p0) fun v20 =>
  xbind (fJ12_min (v20 - p1) x3_8) fun v24 =>
  xbind (xcpI 0 .byte p0 p1 (some v10) (0 : Int32) v24) fun _ =>
  xpure (some v10)
def fJ13_copyOfRange_p10 (l0 : Option Nat) (l1 : Int32) (l2 : Int32) : xM (Option Nat) :=
  xbind (fJ13_copyOfRangeByte l0 l1 l2) fun v13 =>
  xpure v13
def fJ13_copyOfRange (p0 : Option Nat) (p1 : Int32) (p2 : Int32) : xM (Option Nat) :=
  if p1 = 0 then (
    xbind (xlen p0) fun v6 =>
    if p2 = v6 then (
      xbind (xclB p0) fun v18 =>
      xbind (xcsA 0 v18) fun _ =>
      xpure v18
    ) else (
      fJ13_copyOfRange_p10 p0 p1 p2
    )
  ) else (
    fJ13_copyOfRange_p10 p0 p1 p2
  )
def fJ7_getValue__J8 (a0 : Nat) : xM (Option Nat) :=
  xbind (xgR 4 0 (some a0)) fun v1 =>
  xpure v1
def fJ7_length__J8 (a0 : Nat) : xM (Int32) :=
  xbind (xgI 4 3 (some a0)) fun v1 =>
  xpure v1
def fJ8_length (a0 : Nat) : xM (Int32) :=
  xbind (xsel (some a0) [(4, fun z => fJ7_length__J8 z)]) fun v1 =>
  xpure v1
def fJ7_isLatin1__J8 (a0 : Nat) : xM (Int32) :=
  if (1 : Int32) = 0 then (
    xpure (0 : Int32)
  ) else (
    xbind (xgI 4 1 (some a0)) fun v7 =>
    if v7 = 0 then (
      xpure (1 : Int32)
    ) else (
      xpure (0 : Int32)
    )
  )
def fJ9_init_2_p79 (l0 : Nat) (l3 : Option Nat) (l4 : Int32) : xM (Unit) :=
  xbind (xpN 5 1 .byte (some l0) (1 : Int32)) fun _ =>
  xbind (fJ13_copyOfRange l3 (0 : Int32) (l4 <<< ((1 : Int32) &&& 31))) fun v91 =>
  xbind (xput 5 0 (some l0) (va_rf v91)) fun _ =>
  xpure ()
def fJ9_init_2 (a0 : Nat) (p0 : Option Nat) (p1 : Option Nat) : xM (Unit) :=
  xbind (xsel p0 [(4, fun z => fJ7_getValue__J8 z)]) fun v5 =>
  xbind (xsel p0 [(4, fun z => fJ8_length z)]) fun v10 =>
  xbind (xsel p0 [(4, fun z => fJ7_isLatin1__J8 z)]) fun v16 =>
  if v16 = 0 then (
    if (1 : Int32) = 0 then (
      fJ9_init_2_p79 a0 v5 v10
    ) else (
      xstuck
    )
  ) else (
    xbind (xpN 5 1 .byte (some a0) (0 : Int32)) fun _ =>
    xbind (fJ13_copyOfRange v5 (0 : Int32) v10) fun v32 =>
    xbind (xput 5 0 (some a0) (va_rf v32)) fun _ =>
    xpure ()
  )
def fJ9_init (a0 : Nat) (p0 : Option Nat) : xM (Unit) :=
  xbind (fJ9_init_2 a0 p0 none) fun _ =>
  xpure ()
def fJ8_toString (a0 : Nat) : xM (Option Nat) :=
  xbind (xnew 5 [.null, .int 0, .int 0, .int 0] 4) fun v0 =>
  xbind (fJ9_init v0 (some a0)) fun _ =>
  xpure (some v0)
def fJ7_inflate__J8 (a0 : Nat) : xM (Unit) :=
  xbind (xsel (some a0) [(4, fun z => fJ7_isLatin1__J8 z)]) fun v1 =>
  if v1 = 0 then (
    xpure ()
  ) else (
    xbind (xgR 4 0 (some a0)) fun v9 =>
    xbind (xlen v9) fun v12 =>
    xstuck
  )
def fJ11_hugeLength (p0 : Int32) (p1 : Int32) : xM (Int32) :=
  xlet (p0 + p1) fun x2_3 =>
  if 0 ≤ x2_3 then (
    if (2147483639 : Int32) < x2_3 then (
      xpure x2_3
    ) else (
      xpure (2147483639 : Int32)
    )
  ) else (
    xstuck
  )
def fJ11_newLength_p21 (l0 : Int32) (l1 : Int32) : xM (Int32) :=
  xbind (fJ11_hugeLength l0 l1) fun v23 =>
  xpure v23
def fJ11_newLength (p0 : Int32) (p1 : Int32) (p2 : Int32) : xM (Int32) :=
  xbind (fJ12_max p1 p2) fun v3 =>
  xlet (p0 + v3) fun x3_7 =>
  if x3_7 ≤ (0 : Int32) then (
    fJ11_newLength_p21 p0 p1
  ) else (
    if (2147483639 : Int32) < x3_7 then (
      fJ11_newLength_p21 p0 p1
    ) else (
      xpure x3_7
    )
  )
def fJ7_newCapacity__J8 (a0 : Nat) (p0 : Int32) : xM (Int32) :=
  xbind (xgR 4 0 (some a0)) fun v1 =>
  xbind (xlen v1) fun v4 =>
  xbind (xgI 4 1 (some a0)) fun v8 =>
  xlet (p0 <<< (v8 &&& 31)) fun x3_12 =>
  xlet (x3_12 - v4) fun x4_16 =>
  xbind (xgI 4 1 (some a0)) fun v24 =>
  xbind (fJ11_newLength v4 x4_16 (v4 + ((2 : Int32) <<< (v24 &&& 31)))) fun v29 =>
  if v29 = (2147483647 : Int32) then (
    xstuck
  ) else (
    xbind (xgI 4 1 (some a0)) fun v54 =>
    xpure (v29 >>> (v54 &&& 31))
  )
def fJ13_copyOf (p0 : Option Nat) (p1 : Int32) : xM (Option Nat) :=
  xbind (xlen p0) fun v2 =>
  if p1 = v2 then (
    xbind (xclB p0) fun v7 =>
    xbind (xcsA 0 v7) fun _ =>
    xpure v7
  ) else (
    xbind (xnewA 0 (fun N => (N, .inl (fun _ => 0))) p1) fun v15 =>
    xbind (xlen p0) fun v23 =>
    xbind (fJ12_min v23 p1) fun v25 =>
    xbind (xcpI 0 .byte p0 (0 : Int32) (some v15) (0 : Int32) v25) fun _ =>
    xpure (some v15)
  )
def fJ7_ensureCapacityInternal__J8 (a0 : Nat) (p0 : Int32) : xM (Unit) :=
  xbind (xgR 4 0 (some a0)) fun v1 =>
  xbind (xlen v1) fun v4 =>
  xbind (xgI 4 1 (some a0)) fun v6 =>
  xlet (v4 >>> (v6 &&& 31)) fun x2_10 =>
  if (p0 - x2_10) ≤ 0 then (
    xpure ()
  ) else (
    xbind (xgR 4 0 (some a0)) fun v19 =>
    xbind (xsel (some a0) [(4, fun z => fJ7_newCapacity__J8 z p0)]) fun v24 =>
    xbind (xgI 4 1 (some a0)) fun v28 =>
    xbind (fJ13_copyOf v19 (v24 <<< (v28 &&& 31))) fun v32 =>
    xbind (xput 4 0 (some a0) (va_rf v32)) fun _ =>
    xpure ()
  )
def fJ15_canEncode (p0 : Int32) : xM (Int32) :=
  if (255 : Int32) < p0 then (
    xpure (0 : Int32)
  ) else (
    xpure (1 : Int32)
  )
def fJ7_append_3__J8_p56 (l0 : Nat) (l1 : Int32) : xM (Option Nat) :=
  xbind (xgR 4 0 (some l0)) fun v57 =>
  xbind (xgI 4 3 (some l0)) fun v62 =>
  xbind (xput 4 3 (some l0) (.int (v62 + (1 : Int32)))) fun _ =>
  xstuck
def fJ7_append_3__J8_p45 (l0 : Nat) (l1 : Int32) : xM (Option Nat) :=
  xbind (xsel (some l0) [(4, fun z => fJ7_isLatin1__J8 z)]) fun v46 =>
  if v46 = 0 then (
    fJ7_append_3__J8_p56 l0 l1
  ) else (
    xbind (xsel (some l0) [(4, fun z => fJ7_inflate__J8 z)]) fun _ =>
    fJ7_append_3__J8_p56 l0 l1
  )
def fJ7_append_3__J8 (a0 : Nat) (p0 : Int32) : xM (Option Nat) :=
  xbind (xgI 4 3 (some a0)) fun v2 =>
  xbind (xsel (some a0) [(4, fun z => fJ7_ensureCapacityInternal__J8 z (v2 + (1 : Int32)))]) fun _ =>
  xbind (xsel (some a0) [(4, fun z => fJ7_isLatin1__J8 z)]) fun v11 =>
  if v11 = 0 then (
    fJ7_append_3__J8_p45 a0 p0
  ) else (
    xbind (fJ15_canEncode p0) fun v18 =>
    if v18 = 0 then (
      fJ7_append_3__J8_p45 a0 p0
    ) else (
      xbind (xgR 4 0 (some a0)) fun v25 =>
      xbind (xgI 4 3 (some a0)) fun v30 =>
      xbind (xput 4 3 (some a0) (.int (v30 + (1 : Int32)))) fun _ =>
      xbind (xstI 0 v25 v30 p0.toInt8.toInt32.toInt8.toInt32) fun _ =>
      xpure (some a0)
    )
  )
def fJ8_append_3 (a0 : Nat) (p0 : Int32) : xM (Option Nat) :=
  xbind (xsel (some a0) [(4, fun z => fJ7_append_3__J8 z p0)]) fun v2 =>
  xpure (some a0)
def fJ7_init__J8 (a0 : Nat) (p0 : Int32) : xM (Unit) :=
  if (1 : Int32) = 0 then (
    xstuck
  ) else (
    xbind (xnewA 0 (fun N => (N, .inl (fun _ => 0))) p0) fun v12 =>
    xbind (xput 4 0 (some a0) (va_rf (some v12))) fun _ =>
    xbind (xpN 4 1 .byte (some a0) (0 : Int32)) fun _ =>
    xpure ()
  )
def fJ8_init (a0 : Nat) : xM (Unit) :=
  xbind (fJ7_init__J8 a0 (16 : Int32)) fun _ =>
  xpure ()
def fX4_word_p18 : Nat → Nat → Nat → Int32 → xM (Option Nat)
  | 0, _, _, _ => xstuck
  | n + 1, l0, l1, l2 =>
    xbind (xsel (some l0) [(17, fun z => fX4_byteAt z l2)]) fun v20 =>
    xbind (fX1_inRange v20 (97 : Int32) (122 : Int32)) fun v27 =>
    if v27 = 0 then (
      xbind (xsel (some l1) [(4, fun z => fJ8_toString z)]) fun v51 =>
      xpure v51
    ) else (
      xbind (xsel (some l0) [(17, fun z => fX4_byteAt z l2)]) fun v36 =>
      xbind (xsel (some l1) [(4, fun z => fJ8_append_3 z ((v36.toUInt32 % 65536).toInt32))]) fun v40 =>
      xlet (l2 + (1 : Int32)) fun x2_44 =>
      fX4_word_p18 n l0 l1 x2_44
    )
def fX4_word (a0 : Nat) : xM (Option Nat) :=
  xbind (xsel (some a0) [(17, fun z => fX4_peek z)]) fun v1 =>
  xbind (xnew 4 [.null, .int 0, .int 0, .int 0] 4) fun v5 =>
  xbind (fJ8_init v5) fun _ =>
  xbind (xgI 17 1 (some a0)) fun v14 =>
  fX4_word_p18 xFU a0 v5 v14
def fJ11_signedHashCode_p8 : Nat → Int32 → Option Nat → Int32 → Int32 → xM (Int32)
  | 0, _, _, _, _ => xstuck
  | n + 1, l0, l1, l4, l5 =>
    if l4 ≤ l5 then (
      xpure l0
    ) else (
      xbind (xldI 0 l1 l5) fun v22 =>
      xlet (((31 : Int32) * l0) + (v22 &&& (255 : Int32))) fun x0_28 =>
      xlet (l5 + (1 : Int32)) fun x5_29 =>
      fJ11_signedHashCode_p8 n x0_28 l1 l4 x5_29
    )
def fJ11_signedHashCode (p0 : Int32) (p1 : Option Nat) (p2 : Int32) (p3 : Int32) : xM (Int32) :=
  xlet (p2 + p3) fun x4_3 =>
  fJ11_signedHashCode_p8 xFU p0 p1 x4_3 p2
def fJ11_hashCode_2_p8 : Nat → Int32 → Option Nat → Int32 → Int32 → xM (Int32)
  | 0, _, _, _, _ => xstuck
  | n + 1, l0, l1, l4, l5 =>
    if l4 ≤ l5 then (
      xpure l0
    ) else (
      xbind (xldI 0 l1 l5) fun v22 =>
      xlet (((31 : Int32) * l0) + v22) fun x0_24 =>
      xlet (l5 + (1 : Int32)) fun x5_25 =>
      fJ11_hashCode_2_p8 n x0_24 l1 l4 x5_25
    )
def fJ11_hashCode_2 (p0 : Int32) (p1 : Option Nat) (p2 : Int32) (p3 : Int32) : xM (Int32) :=
  xlet (p2 + p3) fun x4_3 =>
  fJ11_hashCode_2_p8 xFU p0 p1 x4_3 p2
def fJ11_hashCode_4_p8 : Nat → Int32 → Option Nat → Int32 → Int32 → xM (Int32)
  | 0, _, _, _, _ => xstuck
  | n + 1, l0, l1, l4, l5 =>
    if l4 ≤ l5 then (
      xpure l0
    ) else (
      xbind (xldI 1 l1 l5) fun v22 =>
      xlet (((31 : Int32) * l0) + v22) fun x0_24 =>
      xlet (l5 + (1 : Int32)) fun x5_25 =>
      fJ11_hashCode_4_p8 n x0_24 l1 l4 x5_25
    )
def fJ11_hashCode_4 (p0 : Int32) (p1 : Option Nat) (p2 : Int32) (p3 : Int32) : xM (Int32) :=
  xlet (p2 + p3) fun x4_3 =>
  fJ11_hashCode_4_p8 xFU p0 p1 x4_3 p2
def fJ11_vectorizedHashCode (p0 : Option Nat) (p1 : Int32) (p2 : Int32) (p3 : Int32) (p4 : Int32) : xM (Int32) :=
  if p4 = (4 : Int32) then (
    xbind (xcsA 0 p0) fun _ =>
    xbind (fJ11_signedHashCode p3 p0 p1 p2) fun v51 =>
    xpure v51
  ) else (
    if p4 = (5 : Int32) then (
      xstuck
    ) else (
      if p4 = (6 : Int32) then (
        xstuck
      ) else (
        if p4 = (7 : Int32) then (
          xstuck
        ) else (
          if p4 = (8 : Int32) then (
            xbind (xcsA 0 p0) fun _ =>
            xbind (fJ11_hashCode_2 p3 p0 p1 p2) fun v97 =>
            xpure v97
          ) else (
            if p4 = (9 : Int32) then (
              xstuck
            ) else (
              if p4 = (10 : Int32) then (
                xbind (xcsA 1 p0) fun _ =>
                xbind (fJ11_hashCode_4 p3 p0 p1 p2) fun v123 =>
                xpure v123
              ) else (
                xstuck
              )
            )
          )
        )
      )
    )
  )
def fJ15_hashCode (p0 : Option Nat) : xM (Int32) :=
  xbind (xlen p0) fun v1 =>
  if v1 = (0 : Int32) then (
    xpure (0 : Int32)
  ) else (
    if v1 = (1 : Int32) then (
      xbind (xldI 0 p0 (0 : Int32)) fun v34 =>
      xpure (v34 &&& (255 : Int32))
    ) else (
      xbind (xlen p0) fun v45 =>
      xbind (fJ11_vectorizedHashCode p0 (0 : Int32) v45 (0 : Int32) (4 : Int32)) fun v48 =>
      xpure v48
    )
  )
def fJ9_hashCode_p40 (l0 : Nat) (s0 : Int32) : xM (Int32) :=
  if s0 = 0 then (
    xbind (xpN 5 3 .boolean (some l0) (1 : Int32)) fun _ =>
    xpure s0
  ) else (
    xbind (xput 5 2 (some l0) (.int s0)) fun _ =>
    xpure s0
  )
def fJ9_hashCode (a0 : Nat) : xM (Int32) :=
  xbind (xgI 5 2 (some a0)) fun v1 =>
  if v1 = 0 then (
    xbind (xgI 5 3 (some a0)) fun v10 =>
    if v10 = 0 then (
      xbind (xsel (some a0) [(5, fun z => fJ9_isLatin1 z)]) fun v17 =>
      if v17 = 0 then (
        xbind (xgR 5 0 (some a0)) fun v34 =>
        xstuck
      ) else (
        xbind (xgR 5 0 (some a0)) fun v24 =>
        xbind (fJ15_hashCode v24) fun v27 =>
        fJ9_hashCode_p40 a0 v27
      )
    ) else (
      xpure v1
    )
  ) else (
    xpure v1
  )
def fJ15_equals_p9 : Nat → Option Nat → Option Nat → Int32 → xM (Int32)
  | 0, _, _, _ => xstuck
  | n + 1, l0, l1, l2 =>
    xbind (xlen l0) fun v11 =>
    if v11 ≤ l2 then (
      xpure (1 : Int32)
    ) else (
      xbind (xldI 0 l0 l2) fun v17 =>
      xbind (xldI 0 l1 l2) fun v20 =>
      if v17 = v20 then (
        xlet (l2 + (1 : Int32)) fun x2_26 =>
        fJ15_equals_p9 n l0 l1 x2_26
      ) else (
        xpure (0 : Int32)
      )
    )
def fJ15_equals (p0 : Option Nat) (p1 : Option Nat) : xM (Int32) :=
  xbind (xlen p0) fun v1 =>
  xbind (xlen p1) fun v3 =>
  if v1 = v3 then (
    xlet (0 : Int32) fun x2_8 =>
    fJ15_equals_p9 xFU p0 p1 x2_8
  ) else (
    xpure (0 : Int32)
  )
def fJ9_equals_p36 (l0 : Nat) (l2 : Option Nat) : xM (Int32) :=
  xbind (xgR 5 0 (some l0)) fun v37 =>
  xbind (xgR 5 0 l2) fun v41 =>
  xbind (fJ15_equals v37 v41) fun v44 =>
  if v44 = 0 then (
    xpure (0 : Int32)
  ) else (
    xpure (1 : Int32)
  )
def fJ9_equals (a0 : Nat) (p0 : Option Nat) : xM (Int32) :=
  if (some a0) = p0 then (
    xpure (1 : Int32)
  ) else (
    xbind (xins (fun c => if c = 5 then some true else none) p0) fun v8 =>
    if v8 = 0 then (
      xpure (0 : Int32)
    ) else (
      xbind (xcst (fun c => c == 5) p0) fun _ =>
      if (1 : Int32) = 0 then (
        fJ9_equals_p36 a0 p0
      ) else (
        xbind (xgI 5 1 (some a0)) fun v26 =>
        xbind (xgI 5 1 p0) fun v30 =>
        if v26 = v30 then (
          fJ9_equals_p36 a0 p0
        ) else (
          xpure (0 : Int32)
        )
      )
    )
  )
def fX8_init (a0 : Nat) (p0 : Int64) : xM (Unit) :=
  xbind (xput 21 0 (some a0) (.long p0)) fun _ =>
  xpure ()
def fX4_factor_p227 (S : Nat → xM (Option Nat)) (l0 : Nat) (l2 : Int32) (l4 : Int32) : xM (Option Nat) :=
  if l4 = (0 : Int32) then (
    xbind (xnew 26 [.null] 1) fun v268 =>
    xbind (xcon 0) fun v272 =>
    xbind (fX11_init v268 v272) fun _ =>
    xpure (some v268)
  ) else (
    if l4 = (1 : Int32) then (
      xbind (xnew 26 [.null] 1) fun v279 =>
      xbind (xcon 1) fun v283 =>
      xbind (fX11_init v279 v283) fun _ =>
      xpure (some v279)
    ) else (
      if l4 = (2 : Int32) then (
        xbind (xnew 26 [.null] 1) fun v290 =>
        xbind (xcon 2) fun v294 =>
        xbind (fX11_init v290 v294) fun _ =>
        xpure (some v290)
      ) else (
        if l4 = (3 : Int32) then (
          xbind (xnew 26 [.null] 1) fun v301 =>
          xbind (xcon 3) fun v305 =>
          xbind (fX11_init v301 v305) fun _ =>
          xpure (some v301)
        ) else (
          if l4 = (4 : Int32) then (
            xbind (xcon 8) fun v313 =>
            xbind (xsel (some l0) [(17, fun z => fX4_choice S z v313)]) fun v316 =>
            xpure v316
          ) else (
            if l4 = (5 : Int32) then (
              xbind (xcon 9) fun v321 =>
              xbind (xsel (some l0) [(17, fun z => fX4_choice S z v321)]) fun v324 =>
              xpure v324
            ) else (
              xbind (xnew 18 [.null, .null, .null, .null, .null, .int 0, .int 0, .int 0] 8) fun v328 =>
              xbind (fX5_init v328 (1 : Int32) l2) fun _ =>
              xthrow (some v328)
            )
          )
        )
      )
    )
  )
def fX4_factor (S : Nat → xM (Option Nat)) (a0 : Nat) : xM (Option Nat) :=
  xbind (xsel (some a0) [(17, fun z => fX4_peek z)]) fun v1 =>
  if v1 = (40 : Int32) then (
    xbind (xsel (some a0) [(17, fun z => fX4_open z)]) fun _ =>
    xbind (xsel (some a0) [(17, fun z => S z)]) fun v14 =>
    xbind (xsel (some a0) [(17, fun z => fX4_close z)]) fun _ =>
    xpure v14
  ) else (
    xbind (xsel (some a0) [(17, fun z => fX4_peek z)]) fun v26 =>
    xbind (xsel (some a0) [(17, fun z => fX4_isDigit z v26)]) fun v29 =>
    if v29 = 0 then (
      xbind (xsel (some a0) [(17, fun z => fX4_word z)]) fun v52 =>
      xbind (xgI 17 1 (some a0)) fun v57 =>
      xbind (xgI 17 1 (some a0)) fun v63 =>
      xbind (xsel v52 [(5, fun z => fJ9_length z)]) fun v67 =>
      xbind (xput 17 1 (some a0) (.int (v63 + v67))) fun _ =>
      xlet (-1 : Int32) fun x4_77 =>
      xbind (xsel v52 [(5, fun z => fJ9_hashCode z)]) fun v80 =>
      if v80 = (-1421994503 : Int32) then (
        xbind (xcon 110) fun v156 =>
        xbind (xsel v52 [(5, fun z => fJ9_equals z v156)]) fun v158 =>
        if v158 = 0 then (
          fX4_factor_p227 S a0 v57 x4_77
        ) else (
          xlet (1 : Int32) fun x4_165 =>
          fX4_factor_p227 S a0 v57 x4_165
        )
      ) else (
        if v80 = (107876 : Int32) then (
          xbind (xcon 113) fun v216 =>
          xbind (xsel v52 [(5, fun z => fJ9_equals z v216)]) fun v218 =>
          if v218 = 0 then (
            fX4_factor_p227 S a0 v57 x4_77
          ) else (
            xlet (5 : Int32) fun x4_225 =>
            fX4_factor_p227 S a0 v57 x4_225
          )
        ) else (
          if v80 = (108114 : Int32) then (
            xbind (xcon 112) fun v201 =>
            xbind (xsel v52 [(5, fun z => fJ9_equals z v201)]) fun v203 =>
            if v203 = 0 then (
              fX4_factor_p227 S a0 v57 x4_77
            ) else (
              xlet (4 : Int32) fun x4_210 =>
              fX4_factor_p227 S a0 v57 x4_210
            )
          ) else (
            if v80 = (3704893 : Int32) then (
              xbind (xcon 101) fun v186 =>
              xbind (xsel v52 [(5, fun z => fJ9_equals z v186)]) fun v188 =>
              if v188 = 0 then (
                fX4_factor_p227 S a0 v57 x4_77
              ) else (
                xlet (3 : Int32) fun x4_195 =>
                fX4_factor_p227 S a0 v57 x4_195
              )
            ) else (
              if v80 = (110549828 : Int32) then (
                xbind (xcon 109) fun v141 =>
                xbind (xsel v52 [(5, fun z => fJ9_equals z v141)]) fun v143 =>
                if v143 = 0 then (
                  fX4_factor_p227 S a0 v57 x4_77
                ) else (
                  xlet (0 : Int32) fun x4_150 =>
                  fX4_factor_p227 S a0 v57 x4_150
                )
              ) else (
                if v80 = (1845630185 : Int32) then (
                  xbind (xcon 111) fun v171 =>
                  xbind (xsel v52 [(5, fun z => fJ9_equals z v171)]) fun v173 =>
                  if v173 = 0 then (
                    fX4_factor_p227 S a0 v57 x4_77
                  ) else (
                    xlet (2 : Int32) fun x4_180 =>
                    fX4_factor_p227 S a0 v57 x4_180
                  )
                ) else (
                  fX4_factor_p227 S a0 v57 x4_77
                )
              )
            )
          )
        )
      )
    ) else (
      xbind (xnew 21 [.long 0] 1) fun v35 =>
      xbind (xsel (some a0) [(17, fun z => fX4_number z (0 : Int32) (999999 : Int32))]) fun v43 =>
      xbind (fX8_init v35 v43.toInt64) fun _ =>
      xpure (some v35)
    )
  )
def fX4_term_p41 (S : Nat → xM (Option Nat)) (k5 : Nat → Option Nat → xM (Option Nat)) (l0 : Nat) (l1 : Option Nat) (s0 : Option Nat) : xM (Option Nat) :=
  xbind (xgI 17 1 (some l0)) fun v44 =>
  xbind (xput 17 1 (some l0) (.int (v44 + (1 : Int32)))) fun _ =>
  xbind (xnew 27 [.null, .null, .null] 3) fun v52 =>
  xbind (xsel (some l0) [(17, fun z => fX4_factor S z)]) fun v59 =>
  xbind (fX12_init v52 s0 l1 v59) fun _ =>
  k5 l0 (some v52)
def fX4_term_p23 (S : Nat → xM (Option Nat)) (k5 : Nat → Option Nat → xM (Option Nat)) (l0 : Nat) (l1 : Option Nat) : xM (Option Nat) :=
  xbind (xsel (some l0) [(17, fun z => fX4_peek z)]) fun v24 =>
  if v24 = (42 : Int32) then (
    xbind (xcon 6) fun v32 =>
    fX4_term_p41 S k5 l0 l1 v32
  ) else (
    xbind (xcon 7) fun v38 =>
    fX4_term_p41 S k5 l0 l1 v38
  )
def fX4_term_p5 (S : Nat → xM (Option Nat)) : Nat → Nat → Option Nat → xM (Option Nat)
  | 0, _, _ => xstuck
  | n + 1, l0, l1 =>
    xbind (xsel (some l0) [(17, fun z => fX4_peek z)]) fun v6 =>
    if v6 = (42 : Int32) then (
      fX4_term_p23 S (fX4_term_p5 S n) l0 l1
    ) else (
      xbind (xsel (some l0) [(17, fun z => fX4_peek z)]) fun v15 =>
      if v15 = (47 : Int32) then (
        fX4_term_p23 S (fX4_term_p5 S n) l0 l1
      ) else (
        xpure l1
      )
    )
def fX4_term (S : Nat → xM (Option Nat)) (a0 : Nat) : xM (Option Nat) :=
  xbind (xsel (some a0) [(17, fun z => fX4_factor S z)]) fun v1 =>
  fX4_term_p5 S xFU a0 v1
def fX4_sum_p41 (S : Nat → xM (Option Nat)) (k5 : Nat → Option Nat → xM (Option Nat)) (l0 : Nat) (l1 : Option Nat) (s0 : Option Nat) : xM (Option Nat) :=
  xbind (xgI 17 1 (some l0)) fun v44 =>
  xbind (xput 17 1 (some l0) (.int (v44 + (1 : Int32)))) fun _ =>
  xbind (xnew 27 [.null, .null, .null] 3) fun v52 =>
  xbind (xsel (some l0) [(17, fun z => fX4_term S z)]) fun v59 =>
  xbind (fX12_init v52 s0 l1 v59) fun _ =>
  k5 l0 (some v52)
def fX4_sum_p23 (S : Nat → xM (Option Nat)) (k5 : Nat → Option Nat → xM (Option Nat)) (l0 : Nat) (l1 : Option Nat) : xM (Option Nat) :=
  xbind (xsel (some l0) [(17, fun z => fX4_peek z)]) fun v24 =>
  if v24 = (43 : Int32) then (
    xbind (xcon 4) fun v32 =>
    fX4_sum_p41 S k5 l0 l1 v32
  ) else (
    xbind (xcon 5) fun v38 =>
    fX4_sum_p41 S k5 l0 l1 v38
  )
def fX4_sum_p5 (S : Nat → xM (Option Nat)) : Nat → Nat → Option Nat → xM (Option Nat)
  | 0, _, _ => xstuck
  | n + 1, l0, l1 =>
    xbind (xsel (some l0) [(17, fun z => fX4_peek z)]) fun v6 =>
    if v6 = (43 : Int32) then (
      fX4_sum_p23 S (fX4_sum_p5 S n) l0 l1
    ) else (
      xbind (xsel (some l0) [(17, fun z => fX4_peek z)]) fun v15 =>
      if v15 = (45 : Int32) then (
        fX4_sum_p23 S (fX4_sum_p5 S n) l0 l1
      ) else (
        xpure l1
      )
    )
def fX4_sum_b (S : Nat → xM (Option Nat)) (a0 : Nat) : xM (Option Nat) :=
  xbind (xsel (some a0) [(17, fun z => fX4_term S z)]) fun v1 =>
  fX4_sum_p5 S xFU a0 v1
def fX4_sum : Nat → Nat → xM (Option Nat)
  | 0, _ => xstuck
  | d + 1, a0 => fX4_sum_b (fX4_sum d) a0
def fJ2_size (a0 : Nat) : xM (Int32) :=
  xbind (xgI 2 2 (some a0)) fun v1 =>
  xpure v1
def fJ25_checkIndex (p0 : Int32) (p1 : Int32) : xM (Int32) :=
  xbind (fJ14_checkIndex p0 p1 none) fun v3 =>
  xpure v3
def fJ2_elementData (a0 : Nat) (p0 : Int32) : xM (Option Nat) :=
  xbind (xgR 2 1 (some a0)) fun v1 =>
  xbind (xldR v1 p0) fun v5 =>
  xpure v5
def fJ2_get (a0 : Nat) (p0 : Int32) : xM (Option Nat) :=
  xbind (xgI 2 2 (some a0)) fun v2 =>
  xbind (fJ25_checkIndex p0 v2) fun v5 =>
  xbind (xsel (some a0) [(2, fun z => fJ2_elementData z p0)]) fun v11 =>
  xpure v11
def fJ2_isEmpty (a0 : Nat) : xM (Int32) :=
  xbind (xgI 2 2 (some a0)) fun v1 =>
  if v1 = 0 then (
    xpure (1 : Int32)
  ) else (
    xpure (0 : Int32)
  )
def fJ28_init__J29 (a0 : Nat) : xM (Unit) :=
  xpure ()
def fJ29_init (a0 : Nat) : xM (Unit) :=
  xbind (fJ28_init__J29 a0) fun _ =>
  xbind (xput 16 4 (some a0) (.int (0 : Int32))) fun _ =>
  xbind (xput 16 5 (some a0) (.int (0 : Int32))) fun _ =>
  xbind (xput 16 2 (some a0) (va_rf none)) fun _ =>
  xpure ()
def fX7_init (a0 : Nat) (p0 : Option Nat) (p1 : Int32) : xM (Unit) :=
  xbind (xnewA 1 (fun N => (N, .inl (fun _ => 0))) (13 : Int32)) fun v7 =>
  xbind (xput 20 2 (some a0) (va_rf (some v7))) fun _ =>
  xbind (xput 20 3 (some a0) (.int (1 : Int32))) fun _ =>
  xbind (xnew 21 [.long 0] 1) fun v18 =>
  xbind (fX8_init v18 (0 : Int64)) fun _ =>
  xbind (xput 20 4 (some a0) (va_rf (some v18))) fun _ =>
  xbind (xnew 16 [.null, .null, .null, .null, .int 0, .int 0, .null, .null, .null] 9) fun v30 =>
  xbind (fJ29_init v30) fun _ =>
  xbind (xput 20 5 (some a0) (va_rf (some v30))) fun _ =>
  xbind (xput 20 0 (some a0) (va_rf p0)) fun _ =>
  xbind (xput 20 1 (some a0) (.int p1)) fun _ =>
  xpure ()
def fJ0_init__J27 (a0 : Nat) : xM (Unit) :=
  xpure ()
def fJ27_init (a0 : Nat) : xM (Unit) :=
  xbind (fJ0_init__J27 a0) fun _ =>
  xbind (xnewA 5 (fun N => (N, .inr (.inr (.inr (.inr (fun _ => none)))))) (17 : Int32)) fun v7 =>
  xbind (xput 23 0 (some a0) (va_rf (some v7))) fun _ =>
  xpure ()
def fX10_init (a0 : Nat) (p0 : Option Nat) : xM (Unit) :=
  xbind (xnewA 1 (fun N => (N, .inl (fun _ => 0))) (13 : Int32)) fun v7 =>
  xbind (xput 24 1 (some a0) (va_rf (some v7))) fun _ =>
  xbind (xput 24 0 (some a0) (va_rf p0)) fun _ =>
  xpure ()
def fX6_init_p54 : Nat → Nat → Option Nat → Int32 → xM (Unit)
  | 0, _, _, _ => xstuck
  | n + 1, l0, l1, l2 =>
    xbind (xgI 20 1 l1) fun v56 =>
    if v56 < l2 then (
      xpure ()
    ) else (
      xbind (xgR 19 1 (some l0)) fun v63 =>
      xbind (xstI 1 v63 l2 (500 : Int32)) fun _ =>
      xlet (l2 + (1 : Int32)) fun x2_71 =>
      fX6_init_p54 n l0 l1 x2_71
    )
def fX6_init (a0 : Nat) (p0 : Option Nat) : xM (Unit) :=
  xbind (xnewA 1 (fun N => (N, .inl (fun _ => 0))) (13 : Int32)) fun v7 =>
  xbind (xput 19 1 (some a0) (va_rf (some v7))) fun _ =>
  xbind (xnew 22 [.int 0, .int 0, .int 0, .int 0, .int 0, .int 0, .int 0] 7) fun v13 =>
  xbind (fX9_init v13 (0 : Int32)) fun _ =>
  xbind (xput 19 6 (some a0) (va_rf (some v13))) fun _ =>
  xbind (xnew 23 [.null, .int 0, .int 0] 3) fun v25 =>
  xbind (fJ27_init v25) fun _ =>
  xbind (xput 19 7 (some a0) (va_rf (some v25))) fun _ =>
  xbind (xput 19 0 (some a0) (va_rf p0)) fun _ =>
  xbind (xnew 24 [.null, .null, .int 0, .int 0] 4) fun v41 =>
  xbind (fX10_init v41 p0) fun _ =>
  xbind (xput 19 2 (some a0) (va_rf (some v41))) fun _ =>
  xlet (0 : Int32) fun x2_53 =>
  fX6_init_p54 xFU a0 p0 x2_53
def fJ2_add_2_p11 (l0 : Nat) (l1 : Option Nat) (l2 : Option Nat) (l3 : Int32) : xM (Unit) :=
  xbind (xstR 5 xokObj l2 l3 l1) fun _ =>
  xbind (xput 2 2 (some l0) (.int (l3 + (1 : Int32)))) fun _ =>
  xpure ()
def fJ2_add_2 (a0 : Nat) (p0 : Option Nat) (p1 : Option Nat) (p2 : Int32) : xM (Unit) :=
  xbind (xlen p1) fun v2 =>
  if p2 = v2 then (
    xstuck
  ) else (
    fJ2_add_2_p11 a0 p0 p1 p2
  )
def fJ2_add (a0 : Nat) (p0 : Option Nat) : xM (Int32) :=
  xbind (xgI 2 0 (some a0)) fun v2 =>
  xbind (xput 2 0 (some a0) (.int (v2 + (1 : Int32)))) fun _ =>
  xbind (xgR 2 1 (some a0)) fun v13 =>
  xbind (xgI 2 2 (some a0)) fun v17 =>
  xbind (xsel (some a0) [(2, fun z => fJ2_add_2 z p0 v13 v17)]) fun _ =>
  xpure (1 : Int32)
def fX4_species_p105 (k64 : Nat → Option Nat → Option Nat → xM (Unit)) (l0 : Nat) (l2 : Option Nat) (l3 : Option Nat) (s0 : Int32) (s1 : Nat) : xM (Unit) :=
  xbind (xgI 17 1 (some l0)) fun v107 =>
  xbind (xsel (some s1) [(17, fun z => fX4_require z s0 (3 : Int32) v107)]) fun _ =>
  k64 l0 l2 l3
def fX4_species_p64 : Nat → Nat → Option Nat → Option Nat → xM (Unit)
  | 0, _, _, _ => xstuck
  | n + 1, l0, l2, l3 =>
    xbind (xsel l3 [(7, fun z => fJ20_hasNext z)]) fun v65 =>
    if v65 = 0 then (
      xbind (xgI 17 1 (some l0)) fun v118 =>
      xbind (xsel l2 [(5, fun z => fJ9_length z)]) fun v122 =>
      xbind (xput 17 1 (some l0) (.int (v118 + v122))) fun _ =>
      xbind (xgR 17 3 (some l0)) fun v130 =>
      xbind (xgR 1 0 v130) fun v133 =>
      xbind (xnew 19 [.null, .null, .null, .int 0, .int 0, .int 0, .null, .null] 8) fun v136 =>
      xbind (xnew 20 [.null, .int 0, .null, .int 0, .null, .null] 6) fun v140 =>
      xbind (xsel (some l0) [(17, fun z => fX4_number z (1 : Int32) (12 : Int32))]) fun v149 =>
      xbind (fX7_init v140 l2 v149) fun _ =>
      xbind (fX6_init v136 (some v140)) fun _ =>
      xbind (xsel v133 [(2, fun z => fJ2_add z (some v136))]) fun v158 =>
      xpure ()
    ) else (
      xbind (xsel l3 [(7, fun z => fJ20_next z)]) fun v74 =>
      xbind (xcst (fun c => c == 19) v74) fun _ =>
      xbind (xgR 19 0 v74) fun v87 =>
      xbind (xgR 20 0 v87) fun v90 =>
      xbind (xsel v90 [(5, fun z => fJ9_equals z l2)]) fun v94 =>
      if v94 = 0 then (
        fX4_species_p105 (fX4_species_p64 n) l0 l2 l3 (1 : Int32) l0
      ) else (
        fX4_species_p105 (fX4_species_p64 n) l0 l2 l3 (0 : Int32) l0
      )
    )
def fX4_species_p22 (l0 : Nat) (l1 : Int32) (s0 : Int32) (s1 : Nat) : xM (Unit) :=
  xbind (xsel (some s1) [(17, fun z => fX4_require z s0 (5 : Int32) l1)]) fun _ =>
  xbind (xsel (some l0) [(17, fun z => fX4_word z)]) fun v28 =>
  xbind (xsel v28 [(5, fun z => fJ9_length z)]) fun v34 =>
  xbind (fX1_inRange v34 (1 : Int32) (6 : Int32)) fun v40 =>
  xbind (xgI 17 1 (some l0)) fun v45 =>
  xbind (xsel (some l0) [(17, fun z => fX4_require z v40 (1 : Int32) v45)]) fun _ =>
  xbind (xgR 17 3 (some l0)) fun v52 =>
  xbind (xgR 1 0 v52) fun v55 =>
  xbind (xsel v55 [(2, fun z => fJ2_iterator z)]) fun v58 =>
  fX4_species_p64 xFU l0 v28 v58
def fX4_species (a0 : Nat) (p0 : Int32) : xM (Unit) :=
  xbind (xgR 17 3 (some a0)) fun v2 =>
  xbind (xgR 1 0 v2) fun v5 =>
  xbind (xsel v5 [(2, fun z => fJ2_size z)]) fun v8 =>
  if (4 : Int32) ≤ v8 then (
    fX4_species_p22 a0 p0 (0 : Int32) a0
  ) else (
    fX4_species_p22 a0 p0 (1 : Int32) a0
  )
def fX4_line_p289 (l0 : Nat) (l2 : Int32) (l3 : Option Nat) (l4 : Option Nat) (l6 : Int32) : xM (Unit) :=
  if l6 = (0 : Int32) then (
    xbind (xgR 19 1 l3) fun v330 =>
    xbind (xgI 20 1 l4) fun v335 =>
    xbind (xsel (some l0) [(17, fun z => fX4_byAges z v330 v335 (1000 : Int32))]) fun _ =>
    xpure ()
  ) else (
    if l6 = (1 : Int32) then (
      xbind (xgR 20 2 l4) fun v350 =>
      xbind (xgI 20 1 l4) fun v355 =>
      xbind (xsel (some l0) [(17, fun z => fX4_byAges z v350 v355 (9999 : Int32))]) fun _ =>
      xpure ()
    ) else (
      if l6 = (2 : Int32) then (
        xbind (xgR 19 2 l3) fun v369 =>
        xbind (xgR 24 1 v369) fun v372 =>
        xbind (xgI 20 1 l4) fun v377 =>
        xbind (xsel (some l0) [(17, fun z => fX4_byAges z v372 v377 (99999 : Int32))]) fun _ =>
        xpure ()
      ) else (
        if l6 = (3 : Int32) then (
          xbind (xgI 20 1 l4) fun v395 =>
          xbind (xsel (some l0) [(17, fun z => fX4_number z (0 : Int32) v395)]) fun v398 =>
          xbind (xput 20 3 l4 (.int v398)) fun _ =>
          xpure ()
        ) else (
          if l6 = (4 : Int32) then (
            xbind (xsel (some l0) [(17, fun z => fX4_number z (1 : Int32) (99999 : Int32))]) fun v413 =>
            xbind (xput 19 3 l3 (.int v413)) fun _ =>
            xpure ()
          ) else (
            if l6 = (5 : Int32) then (
              xbind (xsel (some l0) [(17, fun z => fX4_sum 40 z)]) fun v425 =>
              xbind (xput 20 4 l4 (va_rf v425)) fun _ =>
              xpure ()
            ) else (
              xbind (xnew 18 [.null, .null, .null, .null, .null, .int 0, .int 0, .int 0] 8) fun v434 =>
              xbind (fX5_init v434 (1 : Int32) l2) fun _ =>
              xthrow (some v434)
            )
          )
        )
      )
    )
  )
def fX4_line_p84 (l0 : Nat) (l1 : Option Nat) (l2 : Int32) (s0 : Int32) (s1 : Nat) : xM (Unit) :=
  xbind (xsel (some s1) [(17, fun z => fX4_require z s0 (1 : Int32) l2)]) fun _ =>
  xbind (xgR 17 3 (some l0)) fun v90 =>
  xbind (xgR 1 0 v90) fun v93 =>
  xbind (xgR 17 3 (some l0)) fun v97 =>
  xbind (xgR 1 0 v97) fun v100 =>
  xbind (xsel v100 [(2, fun z => fJ2_size z)]) fun v103 =>
  xbind (xsel v93 [(2, fun z => fJ2_get z (v103 - (1 : Int32)))]) fun v110 =>
  xbind (xcst (fun c => c == 19) v110) fun _ =>
  xbind (xgR 19 0 v110) fun v120 =>
  xlet (-1 : Int32) fun x6_129 =>
  xbind (xsel l1 [(5, fun z => fJ9_hashCode z)]) fun v133 =>
  if v133 = (-1852747022 : Int32) then (
    xbind (xcon 103) fun v198 =>
    xbind (xsel l1 [(5, fun z => fJ9_equals z v198)]) fun v200 =>
    if v200 = 0 then (
      fX4_line_p289 l0 l2 v110 v120 x6_129
    ) else (
      xlet (0 : Int32) fun x6_207 =>
      fX4_line_p289 l0 l2 v110 v120 x6_207
    )
  ) else (
    if v133 = (3019700 : Int32) then (
      xbind (xcon 104) fun v214 =>
      xbind (xsel l1 [(5, fun z => fJ9_equals z v214)]) fun v216 =>
      if v216 = 0 then (
        fX4_line_p289 l0 l2 v110 v120 x6_129
      ) else (
        xlet (1 : Int32) fun x6_223 =>
        fX4_line_p289 l0 l2 v110 v120 x6_223
      )
    ) else (
      if v133 = (3506395 : Int32) then (
        xbind (xcon 107) fun v262 =>
        xbind (xsel l1 [(5, fun z => fJ9_equals z v262)]) fun v264 =>
        if v264 = 0 then (
          fX4_line_p289 l0 l2 v110 v120 x6_129
        ) else (
          xlet (4 : Int32) fun x6_271 =>
          fX4_line_p289 l0 l2 v110 v120 x6_271
        )
      ) else (
        if v133 = (92676538 : Int32) then (
          xbind (xcon 106) fun v246 =>
          xbind (xsel l1 [(5, fun z => fJ9_equals z v246)]) fun v248 =>
          if v248 = 0 then (
            fX4_line_p289 l0 l2 v110 v120 x6_129
          ) else (
            xlet (3 : Int32) fun x6_255 =>
            fX4_line_p289 l0 l2 v110 v120 x6_255
          )
        ) else (
          if v133 = (92906313 : Int32) then (
            xbind (xcon 108) fun v278 =>
            xbind (xsel l1 [(5, fun z => fJ9_equals z v278)]) fun v280 =>
            if v280 = 0 then (
              fX4_line_p289 l0 l2 v110 v120 x6_129
            ) else (
              xlet (5 : Int32) fun x6_287 =>
              fX4_line_p289 l0 l2 v110 v120 x6_287
            )
          ) else (
            if v133 = (94851343 : Int32) then (
              xbind (xcon 105) fun v230 =>
              xbind (xsel l1 [(5, fun z => fJ9_equals z v230)]) fun v232 =>
              if v232 = 0 then (
                fX4_line_p289 l0 l2 v110 v120 x6_129
              ) else (
                xlet (2 : Int32) fun x6_239 =>
                fX4_line_p289 l0 l2 v110 v120 x6_239
              )
            ) else (
              fX4_line_p289 l0 l2 v110 v120 x6_129
            )
          )
        )
      )
    )
  )
def fX4_line (a0 : Nat) : xM (Unit) :=
  xbind (xsel (some a0) [(17, fun z => fX4_word z)]) fun v1 =>
  xbind (xgI 17 1 (some a0)) fun v6 =>
  xbind (xgI 17 1 (some a0)) fun v12 =>
  xbind (xsel v1 [(5, fun z => fJ9_length z)]) fun v16 =>
  xbind (xput 17 1 (some a0) (.int (v12 + v16))) fun _ =>
  xbind (xcon 101) fun v24 =>
  xbind (xsel v1 [(5, fun z => fJ9_equals z v24)]) fun v26 =>
  if v26 = 0 then (
    xbind (xcon 102) fun v49 =>
    xbind (xsel v1 [(5, fun z => fJ9_equals z v49)]) fun v51 =>
    if v51 = 0 then (
      xbind (xgR 17 3 (some a0)) fun v65 =>
      xbind (xgR 1 0 v65) fun v68 =>
      xbind (xsel v68 [(2, fun z => fJ2_isEmpty z)]) fun v71 =>
      if v71 = 0 then (
        fX4_line_p84 a0 v1 v6 (1 : Int32) a0
      ) else (
        fX4_line_p84 a0 v1 v6 (0 : Int32) a0
      )
    ) else (
      xbind (xsel (some a0) [(17, fun z => fX4_species z v6)]) fun _ =>
      xpure ()
    )
  ) else (
    xbind (xgR 17 3 (some a0)) fun v33 =>
    xbind (xsel (some a0) [(17, fun z => fX4_number z (0 : Int32) (9999 : Int32))]) fun v41 =>
    xbind (xput 1 2 v33 (.int v41)) fun _ =>
    xpure ()
  )
def fX4_parse_p34 : Nat → Nat → Option Nat → xM (Option Nat)
  | 0, _, _ => xstuck
  | n + 1, l0, l1 =>
    xbind (xsel l1 [(7, fun z => fJ20_hasNext z)]) fun v35 =>
    if v35 = 0 then (
      xbind (xgR 17 3 (some l0)) fun v68 =>
      xpure v68
    ) else (
      xbind (xsel l1 [(7, fun z => fJ20_next z)]) fun v44 =>
      xbind (xcst (fun c => c == 19) v44) fun _ =>
      xbind (xgR 17 3 (some l0)) fun v55 =>
      xbind (xgI 1 2 v55) fun v58 =>
      xbind (xsel v44 [(19, fun z => fX6_begin z v58)]) fun _ =>
      fX4_parse_p34 n l0 l1
    )
def fX4_parse_p0 : Nat → Nat → xM (Option Nat)
  | 0, _ => xstuck
  | n + 1, l0 =>
    xbind (xsel (some l0) [(17, fun z => fX4_peek z)]) fun v1 =>
    if v1 = (-1 : Int32) then (
      xbind (xgR 17 3 (some l0)) fun v22 =>
      xbind (xgR 1 0 v22) fun v25 =>
      xbind (xsel v25 [(2, fun z => fJ2_iterator z)]) fun v28 =>
      fX4_parse_p34 xFU l0 v28
    ) else (
      xbind (xsel (some l0) [(17, fun z => fX4_line z)]) fun _ =>
      xbind (xsel (some l0) [(17, fun z => fX4_sign z (59 : Int32))]) fun _ =>
      fX4_parse_p0 n l0
    )
def fX4_parse (a0 : Nat) : xM (Option Nat) :=
  fX4_parse_p0 xFU a0
def fJ19_clear_p5 : Nat → Nat → Option Nat → xM (Unit)
  | 0, _, _ => xstuck
  | n + 1, l0, l1 =>
    if l1 = none then (
      xbind (xput 6 3 (some l0) (va_rf none)) fun _ =>
      xbind (xput 6 2 (some l0) (va_rf none)) fun _ =>
      xbind (xput 6 1 (some l0) (.int (0 : Int32))) fun _ =>
      xbind (xgI 6 0 (some l0)) fun v51 =>
      xbind (xput 6 0 (some l0) (.int (v51 + (1 : Int32)))) fun _ =>
      xpure ()
    ) else (
      xbind (xgR 25 1 l1) fun v10 =>
      xbind (xput 25 0 l1 (va_rf none)) fun _ =>
      xbind (xput 25 1 l1 (va_rf none)) fun _ =>
      xbind (xput 25 2 l1 (va_rf none)) fun _ =>
      fJ19_clear_p5 n l0 v10
    )
def fJ19_clear (a0 : Nat) : xM (Unit) :=
  xbind (xgR 6 2 (some a0)) fun v1 =>
  fJ19_clear_p5 xFU a0 v1
def fX1_load (a0 : Nat) : xM (Int32) :=
  xbind (xput 0 2 (some a0) (.int (-1 : Int32))) fun _ =>
  xbind (xput 0 3 (some a0) (.int (0 : Int32))) fun _ =>
  xbind (xnew 17 [.int 0, .int 0, .int 0, .null, .null] 5) fun v11 =>
  xbind (xgI 0 1 (some a0)) fun v17 =>
  xtry (fX4_init v11 (some a0) v17) (fun _ =>
    xtry (xsel (some v11) [(17, fun z => fX4_parse z)]) (fun v23 =>
      xbind (xput 0 4 (some a0) (va_rf v23)) fun _ =>
      xbind (xput 0 1 (some a0) (.int (0 : Int32))) fun _ =>
      xbind (xgR 0 5 (some a0)) fun v71 =>
      xbind (xsel v71 [(6, fun z => fJ19_clear z)]) fun _ =>
      xbind (xgR 0 4 (some a0)) fun v78 =>
      xbind (xgR 1 0 v78) fun v81 =>
      xbind (xsel v81 [(2, fun z => fJ2_size z)]) fun v84 =>
      xpure v84
    ) (fun q => xsel (some q) [
        (18, fun _ =>
          xbind (xgI 18 7 (some q)) fun v40 =>
          xbind (xput 0 2 (some a0) (.int v40)) fun _ =>
          xbind (xgI 18 6 (some q)) fun v48 =>
          xbind (xput 0 3 (some a0) (.int v48)) fun _ =>
          xbind (xmk 3) fun v54 =>
          xnn (some v54) (fun q => xsel (some q) [
              (3, fun _ =>
                xbind (xput 0 1 (some a0) (.int (0 : Int32))) fun _ =>
                xthrow (some q)
              )
              ]
          )
        )
        ]
    )
  ) (fun _ => xstuck
  )
def fX0_load (p0 : Option Nat) (p1 : Option Nat) : xM (Int32) :=
  xtry (xsel p0 [(0, fun z => fX1_load z)]) (fun v3 =>
    xbind (xstJ 2 p1 (0 : Int32) v3.toInt64) fun _ =>
    xpure (0 : Int32)
  ) (fun q => xsel (some q) [
      (3, fun _ =>
        xpure (1 : Int32)
      )
      ]
  )
def fJ19_size (a0 : Nat) : xM (Int32) :=
  xbind (xgI 6 1 (some a0)) fun v1 =>
  xpure v1
def fX1_count (a0 : Nat) (p0 : Int32) : xM (Int32) :=
  if p0 = (0 : Int32) then (
    xbind (xgR 0 4 (some a0)) fun v33 =>
    xbind (xgR 1 0 v33) fun v36 =>
    xbind (xsel v36 [(2, fun z => fJ2_size z)]) fun v39 =>
    xpure v39
  ) else (
    if p0 = (1 : Int32) then (
      xbind (xgR 0 4 (some a0)) fun v46 =>
      xbind (xgI 1 2 v46) fun v49 =>
      xpure v49
    ) else (
      if p0 = (2 : Int32) then (
        xbind (xgR 0 4 (some a0)) fun v54 =>
        xbind (xgI 1 3 v54) fun v57 =>
        xpure v57
      ) else (
        if p0 = (3 : Int32) then (
          xbind (xgR 0 4 (some a0)) fun v62 =>
          xbind (xgR 1 1 v62) fun v65 =>
          xbind (xsel v65 [(6, fun z => fJ19_size z)]) fun v68 =>
          xpure v68
        ) else (
          xbind (xmk 10) fun v72 =>
          xthrow (some v72)
        )
      )
    )
  )
def fX0_count (p0 : Option Nat) (p1 : Int32) (p2 : Option Nat) : xM (Int32) :=
  xtry (xsel p0 [(0, fun z => fX1_count z p1)]) (fun v4 =>
    xbind (xstJ 2 p2 (0 : Int32) v4.toInt64) fun _ =>
    xpure (0 : Int32)
  ) (fun q => xsel (some q) [
      (10, fun _ =>
        xpure (1 : Int32)
      )
      ]
  )
def fX1_checkIndex (p0 : Int32) (p1 : Int32) : xM (Unit) :=
  xbind (fX1_inRange p0 (0 : Int32) (p1 - (1 : Int32))) fun v5 =>
  if v5 = 0 then (
    xbind (xmk 8) fun v11 =>
    xthrow (some v11)
  ) else (
    xpure ()
  )
def fX1_herd (a0 : Nat) (p0 : Int32) : xM (Option Nat) :=
  xbind (xgR 0 4 (some a0)) fun v2 =>
  xbind (xgR 1 0 v2) fun v5 =>
  xbind (xsel v5 [(2, fun z => fJ2_size z)]) fun v8 =>
  xbind (fX1_checkIndex p0 v8) fun _ =>
  xbind (xgR 0 4 (some a0)) fun v17 =>
  xbind (xgR 1 0 v17) fun v20 =>
  xbind (xsel v20 [(2, fun z => fJ2_get z p0)]) fun v24 =>
  xbind (xcst (fun c => c == 19) v24) fun _ =>
  xpure v24
def fX6_left (a0 : Nat) : xM (Int32) :=
  xbind (xgR 19 6 (some a0)) fun v2 =>
  xbind (xgI 22 6 v2) fun v5 =>
  xbind (xgR 19 6 (some a0)) fun v9 =>
  xbind (xgI 22 3 v9) fun v12 =>
  xbind (fJ12_max (0 : Int32) (v5 - v12)) fun v16 =>
  xpure v16
def fJ27_sub (p0 : Int32) (p1 : Int32) (p2 : Int32) : xM (Int32) :=
  xlet (p0 - p1) fun x_3 =>
  if 0 ≤ x_3 then (
    xpure x_3
  ) else (
    xlet (x_3 + p2) fun x0_11 =>
    xpure x0_11
  )
def fJ27_size (a0 : Nat) : xM (Int32) :=
  xbind (xgI 23 2 (some a0)) fun v1 =>
  xbind (xgI 23 1 (some a0)) fun v5 =>
  xbind (xgR 23 0 (some a0)) fun v9 =>
  xbind (xlen v9) fun v12 =>
  xbind (fJ27_sub v1 v5 v12) fun v13 =>
  xpure v13
def fX1_field (a0 : Nat) (p0 : Int32) (p1 : Int32) : xM (Int32) :=
  xbind (xsel (some a0) [(0, fun z => fX1_herd z p0)]) fun v2 =>
  if p1 = (0 : Int32) then (
    xbind (xgR 19 0 v2) fun v61 =>
    xbind (xgI 20 1 v61) fun v64 =>
    xpure v64
  ) else (
    if p1 = (1 : Int32) then (
      xbind (xgR 19 0 v2) fun v69 =>
      xbind (xgI 20 3 v69) fun v72 =>
      xpure v72
    ) else (
      if p1 = (2 : Int32) then (
        xbind (xgI 19 3 v2) fun v77 =>
        xpure v77
      ) else (
        if p1 = (3 : Int32) then (
          xbind (xgR 19 2 v2) fun v82 =>
          xbind (xsel v82 [(24, fun z => fX10_total z)]) fun v85 =>
          xpure v85
        ) else (
          if p1 = (4 : Int32) then (
            xbind (xgR 19 2 v2) fun v90 =>
            xbind (xsel v90 [(24, fun z => fX10_adults z)]) fun v93 =>
            xpure v93
          ) else (
            if p1 = (5 : Int32) then (
              xbind (xgI 19 4 v2) fun v98 =>
              xpure v98
            ) else (
              if p1 = (6 : Int32) then (
                xbind (xgR 19 6 v2) fun v103 =>
                xbind (xgI 22 6 v103) fun v106 =>
                xpure v106
              ) else (
                if p1 = (7 : Int32) then (
                  xbind (xsel v2 [(19, fun z => fX6_left z)]) fun v111 =>
                  xpure v111
                ) else (
                  if p1 = (8 : Int32) then (
                    xbind (xgI 19 5 v2) fun v116 =>
                    if v116 = 0 then (
                      xpure (0 : Int32)
                    ) else (
                      xpure (1 : Int32)
                    )
                  ) else (
                    if p1 = (9 : Int32) then (
                      xbind (xgR 19 7 v2) fun v129 =>
                      xbind (xsel v129 [(23, fun z => fJ27_size z)]) fun v132 =>
                      xpure v132
                    ) else (
                      xbind (xmk 10) fun v136 =>
                      xthrow (some v136)
                    )
                  )
                )
              )
            )
          )
        )
      )
    )
  )
def fX0_field (p0 : Option Nat) (p1 : Int32) (p2 : Int32) (p3 : Option Nat) : xM (Int32) :=
  xtry (xsel p0 [(0, fun z => fX1_field z p1 p2)]) (fun v5 =>
    xbind (xstJ 2 p3 (0 : Int32) v5.toInt64) fun _ =>
    xpure (0 : Int32)
  ) (fun q => xsel (some q) [
      (8, fun _ =>
        xpure (1 : Int32)
      ),
      (10, fun _ =>
        xpure (2 : Int32)
      )
      ]
  )
def fX1_herdWith (a0 : Nat) (p0 : Int32) (p1 : Int32) : xM (Option Nat) :=
  xbind (xsel (some a0) [(0, fun z => fX1_herd z p0)]) fun v2 =>
  xbind (xgR 19 0 v2) fun v8 =>
  xbind (xgI 20 1 v8) fun v11 =>
  xbind (fX1_checkIndex p1 (v11 + (1 : Int32))) fun _ =>
  xpure v2
def fX1_survival (a0 : Nat) (p0 : Int32) (p1 : Int32) : xM (Int32) :=
  xbind (xsel (some a0) [(0, fun z => fX1_herdWith z p0 p1)]) fun v3 =>
  xbind (xgR 19 1 v3) fun v6 =>
  xbind (xldI 1 v6 p1) fun v10 =>
  xpure v10
def fX0_survival (p0 : Option Nat) (p1 : Int32) (p2 : Int32) (p3 : Option Nat) : xM (Int32) :=
  xtry (xsel p0 [(0, fun z => fX1_survival z p1 p2)]) (fun v5 =>
    xbind (xstJ 2 p3 (0 : Int32) v5.toInt64) fun _ =>
    xpure (0 : Int32)
  ) (fun q => xsel (some q) [
      (8, fun _ =>
        xpure (1 : Int32)
      )
      ]
  )
def fX1_fecundity (a0 : Nat) (p0 : Int32) (p1 : Int32) : xM (Int32) :=
  xbind (xsel (some a0) [(0, fun z => fX1_herdWith z p0 p1)]) fun v3 =>
  xbind (xgR 19 0 v3) fun v6 =>
  xbind (xgR 20 2 v6) fun v9 =>
  xbind (xldI 1 v9 p1) fun v13 =>
  xpure v13
def fX0_fecundity (p0 : Option Nat) (p1 : Int32) (p2 : Int32) (p3 : Option Nat) : xM (Int32) :=
  xtry (xsel p0 [(0, fun z => fX1_fecundity z p1 p2)]) (fun v5 =>
    xbind (xstJ 2 p3 (0 : Int32) v5.toInt64) fun _ =>
    xpure (0 : Int32)
  ) (fun q => xsel (some q) [
      (8, fun _ =>
        xpure (1 : Int32)
      )
      ]
  )
def fX1_cohort (a0 : Nat) (p0 : Int32) (p1 : Int32) : xM (Int32) :=
  xbind (xsel (some a0) [(0, fun z => fX1_herdWith z p0 p1)]) fun v3 =>
  xbind (xsel v3 [(19, fun z => fX6_cohort z p1)]) fun v7 =>
  xpure v7
def fX0_cohort (p0 : Option Nat) (p1 : Int32) (p2 : Int32) (p3 : Option Nat) : xM (Int32) :=
  xtry (xsel p0 [(0, fun z => fX1_cohort z p1 p2)]) (fun v5 =>
    xbind (xstJ 2 p3 (0 : Int32) v5.toInt64) fun _ =>
    xpure (0 : Int32)
  ) (fun q => xsel (some q) [
      (8, fun _ =>
        xpure (1 : Int32)
      )
      ]
  )
def fX6_alive_p5 : Nat → Nat → Int32 → Int32 → Int32 → xM (Int32)
  | 0, _, _, _, _ => xstuck
  | n + 1, l0, l1, l2, l3 =>
    if l1 ≤ l3 then (
      xpure l2
    ) else (
      xbind (xgR 19 1 (some l0)) fun v13 =>
      xbind (xldI 1 v13 l3) fun v17 =>
      xdvJ (1000 : Int64) <|
      xlet (((l2.toInt64 * v17.toInt64) / (1000 : Int64)).toInt32) fun x2_25 =>
      xlet (l3 + (1 : Int32)) fun x3_26 =>
      fX6_alive_p5 n l0 l1 x2_25 x3_26
    )
def fX6_alive (a0 : Nat) (p0 : Int32) : xM (Int32) :=
  xlet (100000 : Int32) fun x2_2 =>
  xlet (0 : Int32) fun x3_4 =>
  fX6_alive_p5 xFU a0 p0 x2_2 x3_4
def fX1_alive (a0 : Nat) (p0 : Int32) (p1 : Int32) : xM (Int32) :=
  xbind (xsel (some a0) [(0, fun z => fX1_herdWith z p0 p1)]) fun v3 =>
  xbind (xsel v3 [(19, fun z => fX6_alive z p1)]) fun v7 =>
  xpure v7
def fX0_alive (p0 : Option Nat) (p1 : Int32) (p2 : Int32) (p3 : Option Nat) : xM (Int32) :=
  xtry (xsel p0 [(0, fun z => fX1_alive z p1 p2)]) (fun v5 =>
    xbind (xstJ 2 p3 (0 : Int32) v5.toInt64) fun _ =>
    xpure (0 : Int32)
  ) (fun q => xsel (some q) [
      (8, fun _ =>
        xpure (1 : Int32)
      )
      ]
  )
def fX1_dying (a0 : Nat) (p0 : Int32) (p1 : Int32) : xM (Int32) :=
  xbind (xsel (some a0) [(0, fun z => fX1_herdWith z p0 p1)]) fun v3 =>
  xbind (xgR 19 0 v3) fun v9 =>
  xbind (xgI 20 1 v9) fun v12 =>
  if p1 = v12 then (
    xbind (xsel v3 [(19, fun z => fX6_alive z p1)]) fun v20 =>
    xpure v20
  ) else (
    xbind (xsel v3 [(19, fun z => fX6_alive z p1)]) fun v28 =>
    xbind (xsel v3 [(19, fun z => fX6_alive z (p1 + (1 : Int32)))]) fun v35 =>
    xpure (v28 - v35)
  )
def fX0_dying (p0 : Option Nat) (p1 : Int32) (p2 : Int32) (p3 : Option Nat) : xM (Int32) :=
  xtry (xsel p0 [(0, fun z => fX1_dying z p1 p2)]) (fun v5 =>
    xbind (xstJ 2 p3 (0 : Int32) v5.toInt64) fun _ =>
    xpure (0 : Int32)
  ) (fun q => xsel (some q) [
      (8, fun _ =>
        xpure (1 : Int32)
      )
      ]
  )
def fX1_expectation_p15 : Nat → Int32 → Option Nat → Int32 → Int32 → xM (UInt64)
  | 0, _, _, _, _ => xstuck
  | n + 1, l2, l3, l4, l5 =>
    xbind (xgR 19 0 l3) fun v18 =>
    xbind (xgI 20 1 v18) fun v21 =>
    if v21 < l5 then (
      xbind (xsel l3 [(19, fun z => fX6_alive z l2)]) fun v46 =>
      if v46 = 0 then (
        xpure FP.dconst0
      ) else (
        xnan (FP.ddiv (FP.i2d l4) (FP.i2d v46)) <|
        xnan (FP.dadd (FP.ddiv (FP.i2d l4) (FP.i2d v46)) (4602678819172646912 : UInt64)) <|
        xpure (FP.dadd (FP.ddiv (FP.i2d l4) (FP.i2d v46)) (4602678819172646912 : UInt64))
      )
    ) else (
      xbind (xsel l3 [(19, fun z => fX6_alive z l5)]) fun v32 =>
      xlet (l4 + v32) fun x4_36 =>
      xlet (l5 + (1 : Int32)) fun x5_38 =>
      fX1_expectation_p15 n l2 l3 x4_36 x5_38
    )
def fX1_expectation (a0 : Nat) (p0 : Int32) (p1 : Int32) : xM (UInt64) :=
  xbind (xsel (some a0) [(0, fun z => fX1_herdWith z p0 p1)]) fun v3 =>
  xlet (0 : Int32) fun x4_8 =>
  xlet (p1 + (1 : Int32)) fun x5_13 =>
  fX1_expectation_p15 xFU p1 v3 x4_8 x5_13
def fX0_expectation (p0 : Option Nat) (p1 : Int32) (p2 : Int32) (p3 : Option Nat) : xM (Int32) :=
  xtry (xsel p0 [(0, fun z => fX1_expectation z p1 p2)]) (fun v5 =>
    xbind (xstD 3 p3 (0 : Int32) v5) fun _ =>
    xpure (0 : Int32)
  ) (fun q => xsel (some q) [
      (8, fun _ =>
        xpure (1 : Int32)
      )
      ]
  )
def fX1_lambda_reproduction_0 (p0 : Option Nat) (p1 : Int32) : xM (Int64) :=
  xbind (xsel p0 [(19, fun z => fX6_alive z p1)]) fun v2 =>
  xbind (xgR 19 0 p0) fun v7 =>
  xbind (xgR 20 2 v7) fun v10 =>
  xbind (xldI 1 v10 p1) fun v14 =>
  xpure (v2.toInt64 * v14.toInt64)
def fL_0 (a0 : Nat) (p0 : Int32) : xM (Int64) :=
  xbind (xgR 1000 0 (some a0)) fun c0 =>
  xbind (fX1_lambda_reproduction_0 c0 p0) fun v =>
  xpure v
def fX1_lambda_generation_1 (p0 : Option Nat) (p1 : Int32) : xM (Int64) :=
  xbind (xsel p0 [(19, fun z => fX6_alive z p1)]) fun v2 =>
  xbind (xgR 19 0 p0) fun v7 =>
  xbind (xgR 20 2 v7) fun v10 =>
  xbind (xldI 1 v10 p1) fun v14 =>
  xpure (v2.toInt64 * v14.toInt64)
def fL_1 (a0 : Nat) (p0 : Int32) : xM (Int64) :=
  xbind (xgR 1001 0 (some a0)) fun c0 =>
  xbind (fX1_lambda_generation_1 c0 p0) fun v =>
  xpure v
def fX1_lambda_generation_2 (p0 : Option Nat) (p1 : Int32) : xM (Int64) :=
  xbind (xsel p0 [(19, fun z => fX6_alive z p1)]) fun v4 =>
  xbind (xgR 19 0 p0) fun v10 =>
  xbind (xgR 20 2 v10) fun v13 =>
  xbind (xldI 1 v13 p1) fun v17 =>
  xpure ((p1.toInt64 * v4.toInt64) * v17.toInt64)
def fL_2 (a0 : Nat) (p0 : Int32) : xM (Int64) :=
  xbind (xgR 1002 0 (some a0)) fun c0 =>
  xbind (fX1_lambda_generation_2 c0 p0) fun v =>
  xpure v
def fX1_overAges_p5 : Nat → Option Nat → Option Nat → Int64 → Int32 → xM (Int64)
  | 0, _, _, _, _ => xstuck
  | n + 1, l0, l1, l2, l4 =>
    xbind (xgR 19 0 l0) fun v8 =>
    xbind (xgI 20 1 v8) fun v11 =>
    if v11 < l4 then (
      xpure l2
    ) else (
      xbind (xsel l1 [(1000, fun z => fL_0 z l4), (1001, fun z => fL_1 z l4), (1002, fun z => fL_2 z l4)]) fun v21 =>
      xlet (l2 + v21) fun x2_27 =>
      xlet (l4 + (1 : Int32)) fun x4_28 =>
      fX1_overAges_p5 n l0 l1 x2_27 x4_28
    )
def fX1_overAges (p0 : Option Nat) (p1 : Option Nat) : xM (Int64) :=
  xlet (0 : Int64) fun x2_1 =>
  xlet (0 : Int32) fun x4_3 =>
  fX1_overAges_p5 xFU p0 p1 x2_1 x4_3
def fX1_reproduction (a0 : Nat) (p0 : Int32) : xM (UInt64) :=
  xbind (xsel (some a0) [(0, fun z => fX1_herd z p0)]) fun v2 =>
  xbind (xnew 1000 [va_rf v2] 1) fun v8 =>
  xbind (fX1_overAges v2 (some v8)) fun v13 =>
  xnan (FP.ddiv (FP.l2d v13) (4726483295884279808 : UInt64)) <|
  xpure (FP.ddiv (FP.l2d v13) (4726483295884279808 : UInt64))
def fX0_reproduction (p0 : Option Nat) (p1 : Int32) (p2 : Option Nat) : xM (Int32) :=
  xtry (xsel p0 [(0, fun z => fX1_reproduction z p1)]) (fun v4 =>
    xbind (xstD 3 p2 (0 : Int32) v4) fun _ =>
    xpure (0 : Int32)
  ) (fun q => xsel (some q) [
      (8, fun _ =>
        xpure (1 : Int32)
      )
      ]
  )
def fX1_generation (a0 : Nat) (p0 : Int32) : xM (UInt64) :=
  xbind (xsel (some a0) [(0, fun z => fX1_herd z p0)]) fun v2 =>
  xbind (xnew 1001 [va_rf v2] 1) fun v8 =>
  xbind (fX1_overAges v2 (some v8)) fun v13 =>
  xbind (xnew 1002 [va_rf v2] 1) fun v19 =>
  xbind (fX1_overAges v2 (some v19)) fun v24 =>
  if (lg_cmp v13 (0 : Int64)) = 0 then (
    xpure FP.dconst0
  ) else (
    xnan (FP.ddiv (FP.l2d v24) (FP.l2d v13)) <|
    xpure (FP.ddiv (FP.l2d v24) (FP.l2d v13))
  )
def fX0_generation (p0 : Option Nat) (p1 : Int32) (p2 : Option Nat) : xM (Int32) :=
  xtry (xsel p0 [(0, fun z => fX1_generation z p1)]) (fun v4 =>
    xbind (xstD 3 p2 (0 : Int32) v4) fun _ =>
    xpure (0 : Int32)
  ) (fun q => xsel (some q) [
      (8, fun _ =>
        xpure (1 : Int32)
      )
      ]
  )
def fX1_checkThere (p0 : Int32) : xM (Unit) :=
  if p0 = 0 then (
    xbind (xmk 10) fun v4 =>
    xthrow (some v4)
  ) else (
    xpure ()
  )
def fJ16_init__J17 (a0 : Nat) : xM (Unit) :=
  xpure ()
def fJ17_init (a0 : Nat) (p0 : Int32) : xM (Unit) :=
  xbind (fJ16_init__J17 a0) fun _ =>
  xbind (xput 15 0 (some a0) (.int p0)) fun _ =>
  xpure ()
def fJ17_valueOf_p23 (l0 : Int32) : xM (Option Nat) :=
  xbind (xnew 15 [.int 0] 1) fun v23 =>
  xbind (fJ17_init v23 l0) fun _ =>
  xpure (some v23)
def fJ17_valueOf (p0 : Int32) : xM (Option Nat) :=
  if p0 < (-128 : Int32) then (
    fJ17_valueOf_p23 p0
  ) else (
    if (127 : Int32) < p0 then (
      fJ17_valueOf_p23 p0
    ) else (
      xbind (xcon 13) fun v13 =>
      xbind (xldR v13 (p0 + (128 : Int32))) fun v21 =>
      xpure v21
    )
  )
def fJ17_compare (p0 : Int32) (p1 : Int32) : xM (Int32) :=
  if p1 ≤ p0 then (
    if p0 = p1 then (
      xpure (0 : Int32)
    ) else (
      xpure (1 : Int32)
    )
  ) else (
    xpure (-1 : Int32)
  )
def fJ17_compareTo_2 (a0 : Nat) (p0 : Option Nat) : xM (Int32) :=
  xbind (xgI 15 0 (some a0)) fun v1 =>
  xbind (xgI 15 0 p0) fun v5 =>
  xbind (fJ17_compare v1 v5) fun v8 =>
  xpure v8
def fJ17_compareTo (a0 : Nat) (p0 : Option Nat) : xM (Int32) :=
  xbind (xcst (fun c => c == 15) p0) fun _ =>
  xbind (xsel (some a0) [(15, fun z => fJ17_compareTo_2 z p0)]) fun v5 =>
  xpure v5
def fJ25_requireNonNull (p0 : Option Nat) : xM (Option Nat) :=
  if p0 = none then (
    xstuck
  ) else (
    xpure p0
  )
def fJ31_ordinal__X23 (a0 : Nat) : xM (Int32) :=
  xbind (xgI 50 0 (some a0)) fun v1 =>
  xpure v1
def fJ31_ordinal__X24 (a0 : Nat) : xM (Int32) :=
  xbind (xgI 51 0 (some a0)) fun v1 =>
  xpure v1
def fJ31_ordinal__X25 (a0 : Nat) : xM (Int32) :=
  xbind (xgI 52 0 (some a0)) fun v1 =>
  xpure v1
def fX18_part (a0 : Nat) (p0 : Int32) : xM (Int32) :=
  if p0 = 0 then (
    xbind (xgI 38 0 (some a0)) fun v5 =>
    xpure v5
  ) else (
    if p0 = (1 : Int32) then (
      xbind (xgR 38 1 (some a0)) fun v17 =>
      xbind (xsel v17 [(50, fun z => fJ31_ordinal__X23 z), (51, fun z => fJ31_ordinal__X24 z), (52, fun z => fJ31_ordinal__X25 z)]) fun v20 =>
      xpure v20
    ) else (
      if p0 = (2 : Int32) then (
        xbind (xgI 38 2 (some a0)) fun v32 =>
        xpure v32
      ) else (
        if p0 = (3 : Int32) then (
          xbind (xgI 38 3 (some a0)) fun v44 =>
          xpure v44
        ) else (
          xbind (xgI 38 4 (some a0)) fun v51 =>
          xpure v51
        )
      )
    )
  )
def fX16_compare_2_p2 : Nat → Option Nat → Option Nat → Int32 → xM (Int32)
  | 0, _, _, _ => xstuck
  | n + 1, l1, l2, l3 =>
    if (4 : Int32) ≤ l3 then (
      xbind (xgI 38 5 l1) fun v46 =>
      xbind (xgI 38 5 l2) fun v50 =>
      if v50 ≤ v46 then (
        xbind (xgI 38 5 l1) fun v61 =>
        xbind (xgI 38 5 l2) fun v65 =>
        if v61 ≤ v65 then (
          xpure (0 : Int32)
        ) else (
          xpure (1 : Int32)
        )
      ) else (
        xpure (-1 : Int32)
      )
    ) else (
      xbind (xsel l1 [(38, fun z => fX18_part z l3)]) fun v9 =>
      xbind (xsel l2 [(38, fun z => fX18_part z l3)]) fun v14 =>
      if v9 = v14 then (
        xlet (l3 + (1 : Int32)) fun x3_39 =>
        fX16_compare_2_p2 n l1 l2 x3_39
      ) else (
        xbind (xsel l1 [(38, fun z => fX18_part z l3)]) fun v22 =>
        xbind (xsel l2 [(38, fun z => fX18_part z l3)]) fun v27 =>
        if v27 ≤ v22 then (
          xpure (1 : Int32)
        ) else (
          xpure (-1 : Int32)
        )
      )
    )
def fX16_compare_2 (a0 : Nat) (p0 : Option Nat) (p1 : Option Nat) : xM (Int32) :=
  xlet (0 : Int32) fun x3_1 =>
  fX16_compare_2_p2 xFU p0 p1 x3_1
def fX16_compare (a0 : Nat) (p0 : Option Nat) (p1 : Option Nat) : xM (Int32) :=
  xbind (xcst (fun c => c == 38) p0) fun _ =>
  xbind (xcst (fun c => c == 38) p1) fun _ =>
  xbind (xsel (some a0) [(34, fun z => fX16_compare_2 z p0 p1)]) fun v9 =>
  xpure v9
def fJ29_getEntryUsingComparator_p69 (k17 : Option Nat → Option Nat → Option Nat → xM (Option Nat)) (l2 : Option Nat) (l3 : Option Nat) (l4 : Option Nat) : xM (Option Nat) :=
  k17 l2 l3 l4
def fJ29_getEntryUsingComparator_p72  : xM (Option Nat) :=
  xpure none
def fJ29_getEntryUsingComparator_p17 : Nat → Option Nat → Option Nat → Option Nat → xM (Option Nat)
  | 0, _, _, _ => xstuck
  | n + 1, l2, l3, l4 =>
    if l4 = none then (
      fJ29_getEntryUsingComparator_p72
    ) else (
      xbind (xgR 36 0 l4) fun v26 =>
      xbind (xsel l3 [(34, fun z => fX16_compare z l2 v26)]) fun v29 =>
      if 0 ≤ v29 then (
        if v29 ≤ 0 then (
          xpure l4
        ) else (
          xbind (xgR 36 3 l4) fun v58 =>
          fJ29_getEntryUsingComparator_p69 (fJ29_getEntryUsingComparator_p17 n) l2 l3 v58
        )
      ) else (
        xbind (xgR 36 2 l4) fun v43 =>
        fJ29_getEntryUsingComparator_p69 (fJ29_getEntryUsingComparator_p17 n) l2 l3 v43
      )
    )
def fJ29_getEntryUsingComparator (a0 : Nat) (p0 : Option Nat) : xM (Option Nat) :=
  xbind (xgR 16 2 (some a0)) fun v3 =>
  if v3 = none then (
    fJ29_getEntryUsingComparator_p72
  ) else (
    xbind (xgR 16 3 (some a0)) fun v12 =>
    fJ29_getEntryUsingComparator_p17 xFU p0 v3 v12
  )
def fJ29_getEntry_p72 (k28 : Option Nat → Option Nat → xM (Option Nat)) (l2 : Option Nat) (l3 : Option Nat) : xM (Option Nat) :=
  k28 l2 l3
def fJ29_getEntry_p28 : Nat → Option Nat → Option Nat → xM (Option Nat)
  | 0, _, _ => xstuck
  | n + 1, l2, l3 =>
    if l3 = none then (
      xpure none
    ) else (
      xbind (xgR 36 0 l3) fun v34 =>
      xbind (xsel l2 [(15, fun z => fJ17_compareTo z v34)]) fun v37 =>
      if 0 ≤ v37 then (
        if v37 ≤ 0 then (
          xpure l3
        ) else (
          xbind (xgR 36 3 l3) fun v63 =>
          fJ29_getEntry_p72 (fJ29_getEntry_p28 n) l2 v63
        )
      ) else (
        xbind (xgR 36 2 l3) fun v50 =>
        fJ29_getEntry_p72 (fJ29_getEntry_p28 n) l2 v50
      )
    )
def fJ29_getEntry (a0 : Nat) (p0 : Option Nat) : xM (Option Nat) :=
  xbind (xgR 16 2 (some a0)) fun v1 =>
  if v1 = none then (
    xbind (fJ25_requireNonNull p0) fun v14 =>
    xbind (xcst (fun c => c == 4 || c == 5 || c == 15 || c == 40 || c == 41 || c == 42 || c == 43 || c == 44 || c == 45 || c == 46 || c == 47 || c == 48 || c == 49 || c == 50 || c == 51 || c == 52) p0) fun _ =>
    xbind (xgR 16 3 (some a0)) fun v24 =>
    fJ29_getEntry_p28 xFU p0 v24
  ) else (
    xbind (xsel (some a0) [(16, fun z => fJ29_getEntryUsingComparator z p0)]) fun v9 =>
    xpure v9
  )
def fJ29_get (a0 : Nat) (p0 : Option Nat) : xM (Option Nat) :=
  xbind (xsel (some a0) [(16, fun z => fJ29_getEntry z p0)]) fun v2 =>
  if v2 = none then (
    xpure none
  ) else (
    xbind (xgR 36 1 v2) fun v15 =>
    xpure v15
  )
def fX6_ledger (a0 : Nat) (p0 : Int32) (p1 : Int32) : xM (Option Nat) :=
  if p0 = p1 then (
    xbind (xgR 19 6 (some a0)) fun v24 =>
    xbind (xgR 19 2 (some a0)) fun v28 =>
    xbind (xsel v28 [(24, fun z => fX10_total z)]) fun v31 =>
    xbind (xput 22 5 v24 (.int v31)) fun _ =>
    xbind (xgR 19 6 (some a0)) fun v38 =>
    xpure v38
  ) else (
    xbind (xgR 19 0 (some a0)) fun v6 =>
    xbind (xgR 20 5 v6) fun v9 =>
    xbind (fJ17_valueOf p0) fun v13 =>
    xbind (xsel v9 [(16, fun z => fJ29_get z v13)]) fun v16 =>
    xbind (xcst (fun c => c == 22) v16) fun _ =>
    xpure v16
  )
def fX1_ledgerOf_p26 (l3 : Option Nat) (s0 : Int32) : xM (Option Nat) :=
  xbind (fX1_checkThere s0) fun _ =>
  xpure l3
def fX1_ledgerOf (a0 : Nat) (p0 : Int32) (p1 : Int32) : xM (Option Nat) :=
  xbind (xsel (some a0) [(0, fun z => fX1_herd z p0)]) fun v2 =>
  xbind (xgR 0 4 (some a0)) fun v7 =>
  xbind (xgI 1 2 v7) fun v10 =>
  xbind (xsel v2 [(19, fun z => fX6_ledger z p1 v10)]) fun v13 =>
  if v13 = none then (
    fX1_ledgerOf_p26 v13 (0 : Int32)
  ) else (
    fX1_ledgerOf_p26 v13 (1 : Int32)
  )
def fX1_part (p0 : Int32) : xM (Option Nat) :=
  xbind (xnewA 6 (fun N => (N, .inr (.inr (.inr (.inr (fun _ => none)))))) (7 : Int32)) fun v2 =>
  xbind (xcon 203) fun v7 =>
  xbind (xstR 6 xokPart (some v2) (0 : Int32) v7) fun _ =>
  xbind (xcon 204) fun v15 =>
  xbind (xstR 6 xokPart (some v2) (1 : Int32) v15) fun _ =>
  xbind (xcon 205) fun v23 =>
  xbind (xstR 6 xokPart (some v2) (2 : Int32) v23) fun _ =>
  xbind (xcon 206) fun v31 =>
  xbind (xstR 6 xokPart (some v2) (3 : Int32) v31) fun _ =>
  xbind (xcon 207) fun v39 =>
  xbind (xstR 6 xokPart (some v2) (4 : Int32) v39) fun _ =>
  xbind (xcon 208) fun v47 =>
  xbind (xstR 6 xokPart (some v2) (5 : Int32) v47) fun _ =>
  xbind (xcon 209) fun v56 =>
  xbind (xstR 6 xokPart (some v2) (6 : Int32) v56) fun _ =>
  xbind (xldR (some v2) p0) fun v65 =>
  xpure v65
def fX1_lambda_part_3 (p0 : Option Nat) : xM (Int32) :=
  xbind (xgI 22 0 p0) fun v1 =>
  xpure v1
def fL_3 (a0 : Nat) (p0 : Option Nat) : xM (Int32) :=
  xbind (fX1_lambda_part_3 p0) fun v =>
  xpure v
def fX1_lambda_part_4 (p0 : Option Nat) : xM (Int32) :=
  xbind (xgI 22 1 p0) fun v1 =>
  xpure v1
def fL_4 (a0 : Nat) (p0 : Option Nat) : xM (Int32) :=
  xbind (fX1_lambda_part_4 p0) fun v =>
  xpure v
def fX1_lambda_part_5 (p0 : Option Nat) : xM (Int32) :=
  xbind (xgI 22 2 p0) fun v1 =>
  xpure v1
def fL_5 (a0 : Nat) (p0 : Option Nat) : xM (Int32) :=
  xbind (fX1_lambda_part_5 p0) fun v =>
  xpure v
def fX1_lambda_part_6 (p0 : Option Nat) : xM (Int32) :=
  xbind (xgI 22 3 p0) fun v1 =>
  xpure v1
def fL_6 (a0 : Nat) (p0 : Option Nat) : xM (Int32) :=
  xbind (fX1_lambda_part_6 p0) fun v =>
  xpure v
def fX1_lambda_part_7 (p0 : Option Nat) : xM (Int32) :=
  xbind (xgI 22 4 p0) fun v1 =>
  xpure v1
def fL_7 (a0 : Nat) (p0 : Option Nat) : xM (Int32) :=
  xbind (fX1_lambda_part_7 p0) fun v =>
  xpure v
def fX1_lambda_part_8 (p0 : Option Nat) : xM (Int32) :=
  xbind (xgI 22 5 p0) fun v1 =>
  xpure v1
def fL_8 (a0 : Nat) (p0 : Option Nat) : xM (Int32) :=
  xbind (fX1_lambda_part_8 p0) fun v =>
  xpure v
def fX1_lambda_part_9 (p0 : Option Nat) : xM (Int32) :=
  xbind (xgI 22 6 p0) fun v1 =>
  xpure v1
def fL_9 (a0 : Nat) (p0 : Option Nat) : xM (Int32) :=
  xbind (fX1_lambda_part_9 p0) fun v =>
  xpure v
def fX1_ledger (a0 : Nat) (p0 : Int32) (p1 : Int32) (p2 : Int32) : xM (Int32) :=
  xbind (xsel (some a0) [(0, fun z => fX1_ledgerOf z p0 p1)]) fun v3 =>
  xbind (fX1_inRange p2 (0 : Int32) (6 : Int32)) fun v12 =>
  xbind (fX1_checkThere v12) fun _ =>
  xbind (fX1_part p2) fun v19 =>
  xbind (xsel v19 [(1003, fun z => fL_3 z v3), (1004, fun z => fL_4 z v3), (1005, fun z => fL_5 z v3), (1006, fun z => fL_6 z v3), (1007, fun z => fL_7 z v3), (1008, fun z => fL_8 z v3), (1009, fun z => fL_9 z v3)]) fun v24 =>
  xpure v24
def fX0_ledger (p0 : Option Nat) (p1 : Int32) (p2 : Int32) (p3 : Int32) (p4 : Option Nat) : xM (Int32) :=
  xtry (xsel p0 [(0, fun z => fX1_ledger z p1 p2 p3)]) (fun v7 =>
    xbind (xstJ 2 p4 (0 : Int32) v7.toInt64) fun _ =>
    xpure (0 : Int32)
  ) (fun q => xsel (some q) [
      (8, fun _ =>
        xpure (1 : Int32)
      ),
      (10, fun _ =>
        xpure (2 : Int32)
      )
      ]
  )
def fJ29_compare (a0 : Nat) (p0 : Option Nat) (p1 : Option Nat) : xM (Int32) :=
  xbind (xgR 16 2 (some a0)) fun v1 =>
  if v1 = none then (
    xbind (xcst (fun c => c == 4 || c == 5 || c == 15 || c == 40 || c == 41 || c == 42 || c == 43 || c == 44 || c == 45 || c == 46 || c == 47 || c == 48 || c == 49 || c == 50 || c == 51 || c == 52) p0) fun _ =>
    xbind (xsel p0 [(15, fun z => fJ17_compareTo z p1)]) fun v12 =>
    xpure v12
  ) else (
    xbind (xgR 16 2 (some a0)) fun v21 =>
    xbind (xsel v21 [(34, fun z => fX16_compare z p0 p1)]) fun v26 =>
    xpure v26
  )
def fJ29_getFloorEntry_p102 (k5 : Nat → Option Nat → Option Nat → xM (Option Nat)) (l0 : Nat) (l1 : Option Nat) (l2 : Option Nat) : xM (Option Nat) :=
  k5 l0 l1 l2
def fJ29_getFloorEntry_p68 : Nat → Option Nat → Option Nat → xM (Option Nat)
  | 0, _, _ => xstuck
  | n + 1, l4, l5 =>
    if l4 = none then (
      xpure l4
    ) else (
      xbind (xgR 36 2 l4) fun v77 =>
      if l5 = v77 then (
        xbind (xgR 36 4 l4) fun v89 =>
        fJ29_getFloorEntry_p68 n v89 l4
      ) else (
        xpure l4
      )
    )
def fJ29_getFloorEntry_p5 : Nat → Nat → Option Nat → Option Nat → xM (Option Nat)
  | 0, _, _, _ => xstuck
  | n + 1, l0, l1, l2 =>
    if l2 = none then (
      xpure none
    ) else (
      xbind (xgR 36 0 l2) fun v12 =>
      xbind (xsel (some l0) [(16, fun z => fJ29_compare z l1 v12)]) fun v15 =>
      if v15 ≤ 0 then (
        if 0 ≤ v15 then (
          xpure l2
        ) else (
          xbind (xgR 36 2 l2) fun v45 =>
          if v45 = none then (
            xbind (xgR 36 4 l2) fun v60 =>
            fJ29_getFloorEntry_p68 xFU v60 l2
          ) else (
            xbind (xgR 36 2 l2) fun v52 =>
            fJ29_getFloorEntry_p102 (fJ29_getFloorEntry_p5 n) l0 l1 v52
          )
        )
      ) else (
        xbind (xgR 36 3 l2) fun v24 =>
        if v24 = none then (
          xpure l2
        ) else (
          xbind (xgR 36 3 l2) fun v31 =>
          fJ29_getFloorEntry_p102 (fJ29_getFloorEntry_p5 n) l0 l1 v31
        )
      )
    )
def fJ29_getFloorEntry (a0 : Nat) (p0 : Option Nat) : xM (Option Nat) :=
  xbind (xgR 16 3 (some a0)) fun v1 =>
  fJ29_getFloorEntry_p5 xFU a0 p0 v1
def fJ47_getKey (a0 : Nat) : xM (Option Nat) :=
  xbind (xgR 36 0 (some a0)) fun v1 =>
  xpure v1
def fJ47_getValue (a0 : Nat) : xM (Option Nat) :=
  xbind (xgR 36 1 (some a0)) fun v1 =>
  xpure v1
def fJ35_init (a0 : Nat) (p0 : Option Nat) : xM (Unit) :=
  xbind (xsel p0 [(36, fun z => fJ47_getKey z)]) fun v6 =>
  xbind (xput 31 0 (some a0) (va_rf v6)) fun _ =>
  xbind (xsel p0 [(36, fun z => fJ47_getValue z)]) fun v16 =>
  xbind (xput 31 1 (some a0) (va_rf v16)) fun _ =>
  xpure ()
def fJ29_exportEntry (p0 : Option Nat) : xM (Option Nat) :=
  if p0 = none then (
    xpure none
  ) else (
    xbind (xnew 31 [.null, .null] 2) fun v8 =>
    xbind (fJ35_init v8 p0) fun _ =>
    xpure (some v8)
  )
def fJ29_floorEntry (a0 : Nat) (p0 : Option Nat) : xM (Option Nat) :=
  xbind (xsel (some a0) [(16, fun z => fJ29_getFloorEntry z p0)]) fun v2 =>
  xbind (fJ29_exportEntry v2) fun v5 =>
  xpure v5
def fJ35_getValue (a0 : Nat) : xM (Option Nat) :=
  xbind (xgR 31 1 (some a0)) fun v1 =>
  xpure v1
def fX1_closingUpTo (a0 : Nat) (p0 : Int32) (p1 : Int32) : xM (Int32) :=
  xbind (xsel (some a0) [(0, fun z => fX1_herd z p0)]) fun v2 =>
  xbind (xgR 19 0 v2) fun v5 =>
  xbind (xgR 20 5 v5) fun v8 =>
  xbind (fJ17_valueOf p1) fun v12 =>
  xbind (xsel v8 [(16, fun z => fJ29_floorEntry z v12)]) fun v15 =>
  if v15 = none then (
    xpure (-1 : Int32)
  ) else (
    xbind (xsel v15 [(31, fun z => fJ35_getValue z)]) fun v28 =>
    xbind (xcst (fun c => c == 22) v28) fun _ =>
    xbind (xgI 22 5 v28) fun v36 =>
    xpure v36
  )
def fX0_closingUpTo (p0 : Option Nat) (p1 : Int32) (p2 : Int32) (p3 : Option Nat) : xM (Int32) :=
  xtry (xsel p0 [(0, fun z => fX1_closingUpTo z p1 p2)]) (fun v5 =>
    xbind (xstJ 2 p3 (0 : Int32) v5.toInt64) fun _ =>
    xpure (0 : Int32)
  ) (fun q => xsel (some q) [
      (8, fun _ =>
        xpure (1 : Int32)
      )
      ]
  )
def fJ17_intValue (a0 : Nat) : xM (Int32) :=
  xbind (xgI 15 0 (some a0)) fun v1 =>
  xpure v1
def fJ38_hasNext__J39 (a0 : Nat) : xM (Int32) :=
  xbind (xgR 13 0 (some a0)) fun v1 =>
  if v1 = none then (
    xpure (0 : Int32)
  ) else (
    xpure (1 : Int32)
  )
def fJ29_successor_p18 : Nat → Option Nat → xM (Option Nat)
  | 0, _ => xstuck
  | n + 1, l1 =>
    xbind (xgR 36 2 l1) fun v19 =>
    if v19 = none then (
      xpure l1
    ) else (
      xbind (xgR 36 2 l1) fun v26 =>
      fJ29_successor_p18 n v26
    )
def fJ29_successor_p42 : Nat → Option Nat → Option Nat → xM (Option Nat)
  | 0, _, _ => xstuck
  | n + 1, l1, l2 =>
    if l1 = none then (
      xpure l1
    ) else (
      xbind (xgR 36 3 l1) fun v48 =>
      if l2 = v48 then (
        xbind (xgR 36 4 l1) fun v57 =>
        fJ29_successor_p42 n v57 l1
      ) else (
        xpure l1
      )
    )
def fJ29_successor (p0 : Option Nat) : xM (Option Nat) :=
  if p0 = none then (
    xpure none
  ) else (
    xbind (xgR 36 3 p0) fun v7 =>
    if v7 = none then (
      xbind (xgR 36 4 p0) fun v36 =>
      fJ29_successor_p42 xFU v36 p0
    ) else (
      xbind (xgR 36 3 p0) fun v14 =>
      fJ29_successor_p18 xFU v14
    )
  )
def fJ38_nextEntry__J39 (a0 : Nat) : xM (Option Nat) :=
  xbind (xgR 13 0 (some a0)) fun v1 =>
  if v1 = none then (
    xstuck
  ) else (
    xbind (xgR 13 3 (some a0)) fun v18 =>
    xbind (xgI 16 5 v18) fun v21 =>
    xbind (xgI 13 2 (some a0)) fun v25 =>
    if v21 = v25 then (
      xbind (fJ29_successor v1) fun v41 =>
      xbind (xput 13 0 (some a0) (va_rf v41)) fun _ =>
      xbind (xput 13 1 (some a0) (va_rf v1)) fun _ =>
      xpure v1
    ) else (
      xstuck
    )
  )
def fJ39_next_2 (a0 : Nat) : xM (Option Nat) :=
  xbind (xsel (some a0) [(13, fun z => fJ38_nextEntry__J39 z)]) fun v1 =>
  xpure v1
def fJ39_next (a0 : Nat) : xM (Option Nat) :=
  xbind (xsel (some a0) [(13, fun z => fJ39_next_2 z)]) fun v1 =>
  xpure v1
def fJ0_init__J37 (a0 : Nat) : xM (Unit) :=
  xpure ()
def fJ36_init__J37 (a0 : Nat) : xM (Unit) :=
  xbind (fJ0_init__J37 a0) fun _ =>
  xpure ()
def fJ37_init (a0 : Nat) (p0 : Option Nat) : xM (Unit) :=
  xbind (xput 32 0 (some a0) (va_rf p0)) fun _ =>
  xbind (fJ36_init__J37 a0) fun _ =>
  xpure ()
def fJ29_entrySet (a0 : Nat) : xM (Option Nat) :=
  xbind (xgR 16 6 (some a0)) fun v1 =>
  if v1 = none then (
    xbind (xnew 32 [.null] 1) fun v14 =>
    xbind (fJ37_init v14 (some a0)) fun _ =>
    xbind (xput 16 6 (some a0) (va_rf (some v14))) fun _ =>
    xpure (some v14)
  ) else (
    xpure v1
  )
def fJ29_getFirstEntry_p9 : Nat → Option Nat → xM (Option Nat)
  | 0, _ => xstuck
  | n + 1, l1 =>
    xbind (xgR 36 2 l1) fun v10 =>
    if v10 = none then (
      xpure l1
    ) else (
      xbind (xgR 36 2 l1) fun v17 =>
      fJ29_getFirstEntry_p9 n v17
    )
def fJ29_getFirstEntry (a0 : Nat) : xM (Option Nat) :=
  xbind (xgR 16 3 (some a0)) fun v1 =>
  if v1 = none then (
    xpure v1
  ) else (
    fJ29_getFirstEntry_p9 xFU v1
  )
def fJ38_init__J39 (a0 : Nat) (p0 : Option Nat) (p1 : Option Nat) : xM (Unit) :=
  xbind (xput 13 3 (some a0) (va_rf p0)) fun _ =>
  xbind (xgI 16 5 p0) fun v11 =>
  xbind (xput 13 2 (some a0) (.int v11)) fun _ =>
  xbind (xput 13 1 (some a0) (va_rf none)) fun _ =>
  xbind (xput 13 0 (some a0) (va_rf p1)) fun _ =>
  xpure ()
def fJ39_init (a0 : Nat) (p0 : Option Nat) (p1 : Option Nat) : xM (Unit) :=
  xbind (fJ38_init__J39 a0 p0 p1) fun _ =>
  xpure ()
def fJ37_iterator (a0 : Nat) : xM (Option Nat) :=
  xbind (xnew 13 [.null, .null, .int 0, .null] 4) fun v0 =>
  xbind (xgR 32 0 (some a0)) fun v5 =>
  xbind (xgR 32 0 (some a0)) fun v9 =>
  xbind (xsel v9 [(16, fun z => fJ29_getFirstEntry z)]) fun v12 =>
  xbind (fJ39_init v0 v5 v12) fun _ =>
  xpure (some v0)
def fX1_worstYear_p97 (k25 : Int32 → Int32 → Option Nat → xM (Int32)) (l2 : Int32) (l3 : Int32) (l4 : Option Nat) : xM (Int32) :=
  k25 l2 l3 l4
def fX1_worstYear_p69 (k25 : Int32 → Int32 → Option Nat → xM (Int32)) (l4 : Option Nat) (l5 : Option Nat) : xM (Int32) :=
  xbind (xsel l5 [(36, fun z => fJ47_getKey z)]) fun v71 =>
  xbind (xcst (fun c => c == 15) v71) fun _ =>
  xbind (xsel v71 [(15, fun z => fJ17_intValue z)]) fun v79 =>
  xbind (xsel l5 [(31, fun z => fJ35_getValue z), (36, fun z => fJ47_getValue z)]) fun v85 =>
  xbind (xcst (fun c => c == 22) v85) fun _ =>
  xbind (xgI 22 5 v85) fun v93 =>
  fX1_worstYear_p97 k25 v79 v93 l4
def fX1_worstYear_p25 : Nat → Int32 → Int32 → Option Nat → xM (Int32)
  | 0, _, _, _ => xstuck
  | n + 1, l2, l3, l4 =>
    xbind (xsel l4 [(13, fun z => fJ38_hasNext__J39 z)]) fun v27 =>
    if v27 = 0 then (
      xpure l2
    ) else (
      xbind (xsel l4 [(13, fun z => fJ39_next z)]) fun v37 =>
      xbind (xcst (fun c => c == 31 || c == 36) v37) fun _ =>
      if l2 = (-1 : Int32) then (
        fX1_worstYear_p69 (fX1_worstYear_p25 n) l4 v37
      ) else (
        xbind (xsel v37 [(36, fun z => fJ47_getValue z)]) fun v54 =>
        xbind (xcst (fun c => c == 22) v54) fun _ =>
        xbind (xgI 22 5 v54) fun v62 =>
        if l3 < v62 then (
          fX1_worstYear_p97 (fX1_worstYear_p25 n) l2 l3 l4
        ) else (
          fX1_worstYear_p69 (fX1_worstYear_p25 n) l4 v37
        )
      )
    )
def fX1_worstYear (a0 : Nat) (p0 : Int32) : xM (Int32) :=
  xlet (-1 : Int32) fun x2_1 =>
  xlet (0 : Int32) fun x3_3 =>
  xbind (xsel (some a0) [(0, fun z => fX1_herd z p0)]) fun v6 =>
  xbind (xgR 19 0 v6) fun v9 =>
  xbind (xgR 20 5 v9) fun v12 =>
  xbind (xsel v12 [(16, fun z => fJ29_entrySet z)]) fun v15 =>
  xbind (xsel v15 [(32, fun z => fJ37_iterator z)]) fun v18 =>
  fX1_worstYear_p25 xFU x2_1 x3_3 v18
def fX0_worstYear (p0 : Option Nat) (p1 : Int32) (p2 : Option Nat) : xM (Int32) :=
  xtry (xsel p0 [(0, fun z => fX1_worstYear z p1)]) (fun v4 =>
    xbind (xstJ 2 p2 (0 : Int32) v4.toInt64) fun _ =>
    xpure (0 : Int32)
  ) (fun q => xsel (some q) [
      (8, fun _ =>
        xpure (1 : Int32)
      )
      ]
  )
def fJ38_hasNext__J43 (a0 : Nat) : xM (Int32) :=
  xbind (xgR 14 0 (some a0)) fun v1 =>
  if v1 = none then (
    xpure (0 : Int32)
  ) else (
    xpure (1 : Int32)
  )
def fJ38_nextEntry__J43 (a0 : Nat) : xM (Option Nat) :=
  xbind (xgR 14 0 (some a0)) fun v1 =>
  if v1 = none then (
    xstuck
  ) else (
    xbind (xgR 14 3 (some a0)) fun v18 =>
    xbind (xgI 16 5 v18) fun v21 =>
    xbind (xgI 14 2 (some a0)) fun v25 =>
    if v21 = v25 then (
      xbind (fJ29_successor v1) fun v41 =>
      xbind (xput 14 0 (some a0) (va_rf v41)) fun _ =>
      xbind (xput 14 1 (some a0) (va_rf v1)) fun _ =>
      xpure v1
    ) else (
      xstuck
    )
  )
def fJ43_next (a0 : Nat) : xM (Option Nat) :=
  xbind (xsel (some a0) [(14, fun z => fJ38_nextEntry__J43 z)]) fun v1 =>
  xbind (xgR 36 1 v1) fun v4 =>
  xpure v4
def fJ0_init__J40 (a0 : Nat) : xM (Unit) :=
  xpure ()
def fJ40_init (a0 : Nat) (p0 : Option Nat) : xM (Unit) :=
  xbind (xput 11 0 (some a0) (va_rf p0)) fun _ =>
  xbind (fJ0_init__J40 a0) fun _ =>
  xpure ()
def fJ29_values (a0 : Nat) : xM (Option Nat) :=
  xbind (xgR 16 1 (some a0)) fun v1 =>
  if v1 = none then (
    xbind (xnew 11 [.null] 1) fun v9 =>
    xbind (fJ40_init v9 (some a0)) fun _ =>
    xbind (xput 16 1 (some a0) (va_rf (some v9))) fun _ =>
    xpure (some v9)
  ) else (
    xpure v1
  )
def fJ19_isPositionIndex (a0 : Nat) (p0 : Int32) : xM (Int32) :=
  if p0 < 0 then (
    xpure (0 : Int32)
  ) else (
    xbind (xgI 6 1 (some a0)) fun v6 =>
    if v6 < p0 then (
      xpure (0 : Int32)
    ) else (
      xpure (1 : Int32)
    )
  )
def fJ19_checkPositionIndex (a0 : Nat) (p0 : Int32) : xM (Unit) :=
  xbind (xsel (some a0) [(6, fun z => fJ19_isPositionIndex z p0)]) fun v2 =>
  if v2 = 0 then (
    xstuck
  ) else (
    xpure ()
  )
def fJ19_node_p17 : Nat → Int32 → Option Nat → Int32 → xM (Option Nat)
  | 0, _, _, _ => xstuck
  | n + 1, l1, l2, l3 =>
    if l1 ≤ l3 then (
      xpure l2
    ) else (
      xbind (xgR 25 1 l2) fun v23 =>
      xlet (l3 + (1 : Int32)) fun x3_27 =>
      fJ19_node_p17 n l1 v23 x3_27
    )
def fJ19_node_p47 : Nat → Int32 → Option Nat → Int32 → xM (Option Nat)
  | 0, _, _, _ => xstuck
  | n + 1, l1, l2, l3 =>
    if l3 ≤ l1 then (
      xpure l2
    ) else (
      xbind (xgR 25 2 l2) fun v53 =>
      xlet (l3 + (-1 : Int32)) fun x3_57 =>
      fJ19_node_p47 n l1 v53 x3_57
    )
def fJ19_node (a0 : Nat) (p0 : Int32) : xM (Option Nat) :=
  xbind (xgI 6 1 (some a0)) fun v2 =>
  if (v2 >>> ((1 : Int32) &&& 31)) ≤ p0 then (
    xbind (xgR 6 3 (some a0)) fun v36 =>
    xbind (xgI 6 1 (some a0)) fun v41 =>
    xlet (v41 - (1 : Int32)) fun x3_46 =>
    fJ19_node_p47 xFU p0 v36 x3_46
  ) else (
    xbind (xgR 6 2 (some a0)) fun v11 =>
    xlet (0 : Int32) fun x3_16 =>
    fJ19_node_p17 xFU p0 v11 x3_16
  )
def fJ24_init_p38 (l0 : Nat) (l2 : Int32) (s0 : Option Nat) (s1 : Nat) : xM (Unit) :=
  xbind (xput 9 1 (some s1) (va_rf s0)) fun _ =>
  xbind (xput 9 2 (some l0) (.int l2)) fun _ =>
  xpure ()
def fJ24_init (a0 : Nat) (p0 : Option Nat) (p1 : Int32) : xM (Unit) :=
  xbind (xput 9 4 (some a0) (va_rf p0)) fun _ =>
  xbind (xgR 9 4 (some a0)) fun v11 =>
  xbind (xgI 6 0 v11) fun v14 =>
  xbind (xput 9 3 (some a0) (.int v14)) fun _ =>
  xbind (xgI 6 1 p0) fun v23 =>
  if p1 = v23 then (
    fJ24_init_p38 a0 p1 none a0
  ) else (
    xbind (xsel p0 [(6, fun z => fJ19_node z p1)]) fun v35 =>
    fJ24_init_p38 a0 p1 v35 a0
  )
def fJ19_listIterator (a0 : Nat) (p0 : Int32) : xM (Option Nat) :=
  xbind (xsel (some a0) [(6, fun z => fJ19_checkPositionIndex z p0)]) fun _ =>
  xbind (xnew 9 [.null, .null, .int 0, .int 0, .null] 5) fun v5 =>
  xbind (fJ24_init v5 (some a0) p0) fun _ =>
  xpure (some v5)
def fJ1_listIterator__J19 (a0 : Nat) : xM (Option Nat) :=
  xbind (xsel (some a0) [(6, fun z => fJ19_listIterator z (0 : Int32))]) fun v2 =>
  xpure v2
def fJ18_iterator__J19 (a0 : Nat) : xM (Option Nat) :=
  xbind (xsel (some a0) [(6, fun z => fJ1_listIterator__J19 z)]) fun v1 =>
  xpure v1
def fJ38_init__J43 (a0 : Nat) (p0 : Option Nat) (p1 : Option Nat) : xM (Unit) :=
  xbind (xput 14 3 (some a0) (va_rf p0)) fun _ =>
  xbind (xgI 16 5 p0) fun v11 =>
  xbind (xput 14 2 (some a0) (.int v11)) fun _ =>
  xbind (xput 14 1 (some a0) (va_rf none)) fun _ =>
  xbind (xput 14 0 (some a0) (va_rf p1)) fun _ =>
  xpure ()
def fJ43_init (a0 : Nat) (p0 : Option Nat) (p1 : Option Nat) : xM (Unit) :=
  xbind (fJ38_init__J43 a0 p0 p1) fun _ =>
  xpure ()
def fJ40_iterator (a0 : Nat) : xM (Option Nat) :=
  xbind (xnew 14 [.null, .null, .int 0, .null] 4) fun v0 =>
  xbind (xgR 11 0 (some a0)) fun v5 =>
  xbind (xgR 11 0 (some a0)) fun v9 =>
  xbind (xsel v9 [(16, fun z => fJ29_getFirstEntry z)]) fun v12 =>
  xbind (fJ43_init v0 v5 v12) fun _ =>
  xpure (some v0)
def fJ41_init (a0 : Nat) (p0 : Option Nat) : xM (Unit) :=
  xbind (xput 12 3 (some a0) (va_rf p0)) fun _ =>
  xbind (xgR 12 3 (some a0)) fun v11 =>
  xbind (xsel v11 [(23, fun z => fJ27_size z)]) fun v14 =>
  xbind (xput 12 1 (some a0) (.int v14)) fun _ =>
  xbind (xput 12 2 (some a0) (.int (-1 : Int32))) fun _ =>
  xbind (xgI 23 1 p0) fun v27 =>
  xbind (xput 12 0 (some a0) (.int v27)) fun _ =>
  xpure ()
def fJ27_iterator (a0 : Nat) : xM (Option Nat) :=
  xbind (xnew 12 [.int 0, .int 0, .int 0, .null] 4) fun v0 =>
  xbind (fJ41_init v0 (some a0)) fun _ =>
  xpure (some v0)
def fJ45_iterator (a0 : Nat) : xM (Option Nat) :=
  xstuck
def fX1_sum_p52 : Nat → Option Nat → Int64 → Option Nat → xM (Int64)
  | 0, _, _, _ => xstuck
  | n + 1, l4, l5, l7 =>
    xbind (xsel l7 [(14, fun z => fJ38_hasNext__J43 z)]) fun v54 =>
    if v54 = 0 then (
      xpure l5
    ) else (
      xbind (xsel l7 [(14, fun z => fJ43_next z)]) fun v64 =>
      xbind (xcst (fun c => c == 22) v64) fun _ =>
      xbind (xsel l4 [(1003, fun z => fL_3 z v64), (1004, fun z => fL_4 z v64), (1005, fun z => fL_5 z v64), (1006, fun z => fL_6 z v64), (1007, fun z => fL_7 z v64), (1008, fun z => fL_8 z v64), (1009, fun z => fL_9 z v64)]) fun v80 =>
      xlet (l5 + v80.toInt64) fun x5_87 =>
      fX1_sum_p52 n l4 x5_87 l7
    )
def fX1_sum (a0 : Nat) (p0 : Int32) (p1 : Int32) : xM (Int64) :=
  xbind (xsel (some a0) [(0, fun z => fX1_herd z p0)]) fun v2 =>
  xbind (fX1_inRange p1 (1 : Int32) (4 : Int32)) fun v9 =>
  xbind (fX1_checkThere v9) fun _ =>
  xbind (fX1_part p1) fun v16 =>
  xbind (xgR 19 6 v2) fun v24 =>
  xbind (xsel v16 [(1003, fun z => fL_3 z v24), (1004, fun z => fL_4 z v24), (1005, fun z => fL_5 z v24), (1006, fun z => fL_6 z v24), (1007, fun z => fL_7 z v24), (1008, fun z => fL_8 z v24), (1009, fun z => fL_9 z v24)]) fun v27 =>
  xlet v27.toInt64 fun x5_33 =>
  xbind (xgR 19 0 v2) fun v36 =>
  xbind (xgR 20 5 v36) fun v39 =>
  xbind (xsel v39 [(16, fun z => fJ29_values z)]) fun v42 =>
  xbind (xsel v42 [(2, fun z => fJ2_iterator z), (6, fun z => fJ18_iterator__J19 z), (11, fun z => fJ40_iterator z), (23, fun z => fJ27_iterator z), (32, fun z => fJ37_iterator z), (33, fun z => fJ45_iterator z)]) fun v45 =>
  fX1_sum_p52 xFU v16 x5_33 v45
def fX0_sum (p0 : Option Nat) (p1 : Int32) (p2 : Int32) (p3 : Option Nat) : xM (Int32) :=
  xtry (xsel p0 [(0, fun z => fX1_sum z p1 p2)]) (fun v5 =>
    xbind (xstJ 2 p3 (0 : Int32) v5) fun _ =>
    xpure (0 : Int32)
  ) (fun q => xsel (some q) [
      (8, fun _ =>
        xpure (1 : Int32)
      ),
      (10, fun _ =>
        xpure (2 : Int32)
      )
      ]
  )
def fJ41_hasNext (a0 : Nat) : xM (Int32) :=
  xbind (xgI 12 1 (some a0)) fun v1 =>
  if v1 ≤ 0 then (
    xpure (0 : Int32)
  ) else (
    xpure (1 : Int32)
  )
def fJ27_nonNullElementAt (p0 : Option Nat) (p1 : Int32) : xM (Option Nat) :=
  xbind (xldR p0 p1) fun v2 =>
  if v2 = none then (
    xstuck
  ) else (
    xpure v2
  )
def fJ27_inc (p0 : Int32) (p1 : Int32) : xM (Int32) :=
  xlet (p0 + (1 : Int32)) fun x0_0 =>
  if x0_0 < p1 then (
    xpure x0_0
  ) else (
    xlet (0 : Int32) fun x0_9 =>
    xpure x0_9
  )
def fJ41_next (a0 : Nat) : xM (Option Nat) :=
  xbind (xgI 12 1 (some a0)) fun v1 =>
  if 0 < v1 then (
    xbind (xgR 12 3 (some a0)) fun v16 =>
    xbind (xgR 23 0 v16) fun v19 =>
    xbind (xgI 12 0 (some a0)) fun v25 =>
    xbind (fJ27_nonNullElementAt v19 v25) fun v28 =>
    xbind (xgI 12 0 (some a0)) fun v35 =>
    xbind (xput 12 2 (some a0) (.int v35)) fun _ =>
    xbind (xlen v19) fun v43 =>
    xbind (fJ27_inc v35 v43) fun v44 =>
    xbind (xput 12 0 (some a0) (.int v44)) fun _ =>
    xbind (xgI 12 1 (some a0)) fun v52 =>
    xbind (xput 12 1 (some a0) (.int (v52 - (1 : Int32)))) fun _ =>
    xpure v28
  ) else (
    xstuck
  )
def fX1_sightingAt_p15 : Nat → Int32 → Option Nat → xM (Option Nat)
  | 0, _, _ => xstuck
  | n + 1, l3, l4 =>
    xbind (xsel l4 [(12, fun z => fJ41_hasNext z)]) fun v17 =>
    if v17 = 0 then (
      xpure none
    ) else (
      xbind (xsel l4 [(12, fun z => fJ41_next z)]) fun v27 =>
      xbind (xcst (fun c => c == 37) v27) fun _ =>
      if l3 = 0 then (
        xpure v27
      ) else (
        xlet (l3 + (-1 : Int32)) fun x3_44 =>
        fX1_sightingAt_p15 n x3_44 l4
      )
    )
def fX1_sightingAt (a0 : Nat) (p0 : Int32) (p1 : Int32) : xM (Option Nat) :=
  xbind (xsel (some a0) [(0, fun z => fX1_herd z p0)]) fun v4 =>
  xbind (xgR 19 7 v4) fun v7 =>
  xbind (xsel v7 [(23, fun z => fJ27_iterator z)]) fun v10 =>
  fX1_sightingAt_p15 xFU p1 v10
def fX17_part (a0 : Nat) (p0 : Int32) : xM (Int32) :=
  if p0 = 0 then (
    xbind (xgI 37 0 (some a0)) fun v5 =>
    xpure v5
  ) else (
    if p0 = (1 : Int32) then (
      xbind (xgI 37 1 (some a0)) fun v17 =>
      xpure v17
    ) else (
      if p0 = (2 : Int32) then (
        xbind (xgI 37 2 (some a0)) fun v29 =>
        xpure v29
      ) else (
        xbind (xgI 37 3 (some a0)) fun v36 =>
        xpure v36
      )
    )
  )
def fX1_sighting (a0 : Nat) (p0 : Int32) (p1 : Int32) (p2 : Int32) : xM (Int32) :=
  xbind (xsel (some a0) [(0, fun z => fX1_sightingAt z p0 p1)]) fun v3 =>
  xbind (fX1_inRange p2 (0 : Int32) (3 : Int32)) fun v11 =>
  xbind (fX1_checkThere v11) fun _ =>
  if v3 = none then (
    xpure (-1 : Int32)
  ) else (
    xbind (xsel v3 [(37, fun z => fX17_part z p2)]) fun v29 =>
    xpure v29
  )
def fX0_sighting (p0 : Option Nat) (p1 : Int32) (p2 : Int32) (p3 : Int32) (p4 : Option Nat) : xM (Int32) :=
  xtry (xsel p0 [(0, fun z => fX1_sighting z p1 p2 p3)]) (fun v7 =>
    xbind (xstJ 2 p4 (0 : Int32) v7.toInt64) fun _ =>
    xpure (0 : Int32)
  ) (fun q => xsel (some q) [
      (8, fun _ =>
        xpure (1 : Int32)
      ),
      (10, fun _ =>
        xpure (2 : Int32)
      )
      ]
  )
def fX17_estimate (a0 : Nat) : xM (Int64) :=
  xbind (xgI 37 1 (some a0)) fun v1 =>
  xbind (xgI 37 2 (some a0)) fun v8 =>
  xbind (xgI 37 3 (some a0)) fun v16 =>
  xdvJ (v16.toInt64 + (1 : Int64)) <|
  xpure ((((v1.toInt64 + (1 : Int64)) * (v8.toInt64 + (1 : Int64))) / (v16.toInt64 + (1 : Int64))) - (1 : Int64))
def fX1_estimate (a0 : Nat) (p0 : Int32) (p1 : Int32) : xM (Int64) :=
  xbind (xsel (some a0) [(0, fun z => fX1_sightingAt z p0 p1)]) fun v3 =>
  if v3 = none then (
    xpure (-1 : Int64)
  ) else (
    xbind (xsel v3 [(37, fun z => fX17_estimate z)]) fun v18 =>
    xpure v18
  )
def fX0_estimate (p0 : Option Nat) (p1 : Int32) (p2 : Int32) (p3 : Option Nat) : xM (Int32) :=
  xtry (xsel p0 [(0, fun z => fX1_estimate z p1 p2)]) (fun v5 =>
    xbind (xstJ 2 p3 (0 : Int32) v5) fun _ =>
    xpure (0 : Int32)
  ) (fun q => xsel (some q) [
      (8, fun _ =>
        xpure (1 : Int32)
      )
      ]
  )
def fX17_variance (a0 : Nat) : xM (UInt64) :=
  xbind (xgI 37 1 (some a0)) fun v1 =>
  xbind (xgI 37 2 (some a0)) fun v8 =>
  xnan (FP.dmul (FP.i2d (v1 + (1 : Int32))) (FP.i2d (v8 + (1 : Int32)))) <|
  xbind (xgI 37 1 (some a0)) fun v16 =>
  xbind (xgI 37 3 (some a0)) fun v20 =>
  xnan (FP.dmul (FP.dmul (FP.i2d (v1 + (1 : Int32))) (FP.i2d (v8 + (1 : Int32)))) (FP.i2d (v16 - v20))) <|
  xbind (xgI 37 2 (some a0)) fun v27 =>
  xbind (xgI 37 3 (some a0)) fun v31 =>
  xnan (FP.dmul (FP.dmul (FP.dmul (FP.i2d (v1 + (1 : Int32))) (FP.i2d (v8 + (1 : Int32)))) (FP.i2d (v16 - v20))) (FP.i2d (v27 - v31))) <|
  xlet (FP.dmul (FP.dmul (FP.dmul (FP.i2d (v1 + (1 : Int32))) (FP.i2d (v8 + (1 : Int32)))) (FP.i2d (v16 - v20))) (FP.i2d (v27 - v31))) fun x1_37 =>
  xbind (xgI 37 3 (some a0)) fun v40 =>
  xnan (FP.ddiv x1_37 (FP.i2d (v40 + (1 : Int32)))) <|
  xbind (xgI 37 3 (some a0)) fun v48 =>
  xnan (FP.ddiv (FP.ddiv x1_37 (FP.i2d (v40 + (1 : Int32)))) (FP.i2d (v48 + (1 : Int32)))) <|
  xbind (xgI 37 3 (some a0)) fun v56 =>
  xnan (FP.ddiv (FP.ddiv (FP.ddiv x1_37 (FP.i2d (v40 + (1 : Int32)))) (FP.i2d (v48 + (1 : Int32)))) (FP.i2d (v56 + (2 : Int32)))) <|
  xpure (FP.ddiv (FP.ddiv (FP.ddiv x1_37 (FP.i2d (v40 + (1 : Int32)))) (FP.i2d (v48 + (1 : Int32)))) (FP.i2d (v56 + (2 : Int32))))
def fX1_variance (a0 : Nat) (p0 : Int32) (p1 : Int32) : xM (UInt64) :=
  xbind (xsel (some a0) [(0, fun z => fX1_sightingAt z p0 p1)]) fun v3 =>
  if v3 = none then (
    xpure FP.dconst0
  ) else (
    xbind (xsel v3 [(37, fun z => fX17_variance z)]) fun v16 =>
    xpure v16
  )
def fX0_variance (p0 : Option Nat) (p1 : Int32) (p2 : Int32) (p3 : Option Nat) : xM (Int32) :=
  xtry (xsel p0 [(0, fun z => fX1_variance z p1 p2)]) (fun v5 =>
    xbind (xstD 3 p3 (0 : Int32) v5) fun _ =>
    xpure (0 : Int32)
  ) (fun q => xsel (some q) [
      (8, fun _ =>
        xpure (1 : Int32)
      )
      ]
  )
def fX1_pooled_p18 : Nat → Int64 → Int64 → Option Nat → xM (UInt64)
  | 0, _, _, _ => xstuck
  | n + 1, l2, l4, l6 =>
    xbind (xsel l6 [(12, fun z => fJ41_hasNext z)]) fun v20 =>
    if v20 = 0 then (
      if (lg_cmp l4 (0 : Int64)) = 0 then (
        xpure FP.dconst0
      ) else (
        xnan (FP.ddiv (FP.l2d l2) (FP.l2d l4)) <|
        xpure (FP.ddiv (FP.l2d l2) (FP.l2d l4))
      )
    ) else (
      xbind (xsel l6 [(12, fun z => fJ41_next z)]) fun v30 =>
      xbind (xcst (fun c => c == 37) v30) fun _ =>
      xbind (xgI 37 2 v30) fun v43 =>
      xbind (xgI 37 1 v30) fun v49 =>
      xlet (l2 + (v43.toInt64 * v49.toInt64)) fun x2_55 =>
      xbind (xgI 37 3 v30) fun v60 =>
      xlet (l4 + v60.toInt64) fun x4_65 =>
      fX1_pooled_p18 n x2_55 x4_65 l6
    )
def fX1_pooled (a0 : Nat) (p0 : Int32) : xM (UInt64) :=
  xlet (0 : Int64) fun x2_1 =>
  xlet (0 : Int64) fun x4_3 =>
  xbind (xsel (some a0) [(0, fun z => fX1_herd z p0)]) fun v7 =>
  xbind (xgR 19 7 v7) fun v10 =>
  xbind (xsel v10 [(23, fun z => fJ27_iterator z)]) fun v13 =>
  fX1_pooled_p18 xFU x2_1 x4_3 v13
def fX0_pooled (p0 : Option Nat) (p1 : Int32) (p2 : Option Nat) : xM (Int32) :=
  xtry (xsel p0 [(0, fun z => fX1_pooled z p1)]) (fun v4 =>
    xbind (xstD 3 p2 (0 : Int32) v4) fun _ =>
    xpure (0 : Int32)
  ) (fun q => xsel (some q) [
      (8, fun _ =>
        xpure (1 : Int32)
      )
      ]
  )
def fJ45_siftDownUsingComparator_p88 (l0 : Int32) (l1 : Option Nat) (l2 : Option Nat) : xM (Unit) :=
  xbind (xstR 5 xokObj l2 l0 l1) fun _ =>
  xpure ()
def fJ45_siftDownUsingComparator_p61 (k5 : Int32 → Option Nat → Option Nat → Int32 → Option Nat → Int32 → xM (Unit)) (l0 : Int32) (l1 : Option Nat) (l2 : Option Nat) (l3 : Int32) (l4 : Option Nat) (l5 : Int32) (l6 : Int32) (l7 : Option Nat) : xM (Unit) :=
  xbind (xsel l4 [(34, fun z => fX16_compare z l1 l7)]) fun v66 =>
  if 0 < v66 then (
    xbind (xstR 5 xokObj l2 l0 l7) fun _ =>
    k5 l6 l1 l2 l3 l4 l5
  ) else (
    fJ45_siftDownUsingComparator_p88 l0 l1 l2
  )
def fJ45_siftDownUsingComparator_p5 : Nat → Int32 → Option Nat → Option Nat → Int32 → Option Nat → Int32 → xM (Unit)
  | 0, _, _, _, _, _, _ => xstuck
  | n + 1, l0, l1, l2, l3, l4, l5 =>
    if l5 ≤ l0 then (
      fJ45_siftDownUsingComparator_p88 l0 l1 l2
    ) else (
      xlet ((l0 <<< ((1 : Int32) &&& 31)) + (1 : Int32)) fun x6_16 =>
      xbind (xldR l2 x6_16) fun v21 =>
      xlet (x6_16 + (1 : Int32)) fun x8_28 =>
      if l3 ≤ x8_28 then (
        fJ45_siftDownUsingComparator_p61 (fJ45_siftDownUsingComparator_p5 n) l0 l1 l2 l3 l4 l5 x6_16 v21
      ) else (
        xbind (xldR l2 x8_28) fun v43 =>
        xbind (xsel l4 [(34, fun z => fX16_compare z v21 v43)]) fun v44 =>
        if v44 ≤ 0 then (
          fJ45_siftDownUsingComparator_p61 (fJ45_siftDownUsingComparator_p5 n) l0 l1 l2 l3 l4 l5 x6_16 v21
        ) else (
          xbind (xldR l2 x8_28) fun v58 =>
          fJ45_siftDownUsingComparator_p61 (fJ45_siftDownUsingComparator_p5 n) l0 l1 l2 l3 l4 l5 x8_28 v58
        )
      )
    )
def fJ45_siftDownUsingComparator (p0 : Int32) (p1 : Option Nat) (p2 : Option Nat) (p3 : Int32) (p4 : Option Nat) : xM (Unit) :=
  xlet ((p3.toUInt32 >>> ((1 : Int32).toUInt32 &&& Int32.toUInt32 31)).toInt32) fun x5_3 =>
  fJ45_siftDownUsingComparator_p5 xFU p0 p1 p2 p3 p4 x5_3
def fJ45_poll (a0 : Nat) : xM (Option Nat) :=
  xbind (xgR 33 0 (some a0)) fun v1 =>
  xbind (xldR v1 (0 : Int32)) fun v7 =>
  if v7 = none then (
    xpure v7
  ) else (
    xbind (xgI 33 3 (some a0)) fun v15 =>
    xbind (xput 33 3 (some a0) (.int (v15 + (1 : Int32)))) fun _ =>
    xbind (xgI 33 1 (some a0)) fun v26 =>
    xlet (v26 - (1 : Int32)) fun x_31 =>
    xbind (xput 33 1 (some a0) (.int x_31)) fun _ =>
    xbind (xldR v1 x_31) fun v37 =>
    xbind (xstR 5 xokObj v1 x_31 none) fun _ =>
    if x_31 ≤ 0 then (
      xpure v7
    ) else (
      xbind (xgR 33 2 (some a0)) fun v49 =>
      if v49 = none then (
        xstuck
      ) else (
        xbind (fJ45_siftDownUsingComparator (0 : Int32) v37 v1 x_31 v49) fun _ =>
        xpure v7
      )
    )
  )
def fJ45_size (a0 : Nat) : xM (Int32) :=
  xbind (xgI 33 1 (some a0)) fun v1 =>
  xpure v1
def fJ0_isEmpty__J45 (a0 : Nat) : xM (Int32) :=
  xbind (xsel (some a0) [(33, fun z => fJ45_size z)]) fun v1 =>
  if v1 = 0 then (
    xpure (1 : Int32)
  ) else (
    xpure (0 : Int32)
  )
def fJ24_hasNext (a0 : Nat) : xM (Int32) :=
  xbind (xgI 9 2 (some a0)) fun v1 =>
  xbind (xgR 9 4 (some a0)) fun v5 =>
  xbind (xgI 6 1 v5) fun v8 =>
  if v8 ≤ v1 then (
    xpure (0 : Int32)
  ) else (
    xpure (1 : Int32)
  )
def fJ24_checkForComodification (a0 : Nat) : xM (Unit) :=
  xbind (xgR 9 4 (some a0)) fun v1 =>
  xbind (xgI 6 0 v1) fun v4 =>
  xbind (xgI 9 3 (some a0)) fun v8 =>
  if v4 = v8 then (
    xpure ()
  ) else (
    xstuck
  )
def fJ24_next (a0 : Nat) : xM (Option Nat) :=
  xbind (xsel (some a0) [(9, fun z => fJ24_checkForComodification z)]) fun _ =>
  xbind (xsel (some a0) [(9, fun z => fJ24_hasNext z)]) fun v5 =>
  if v5 = 0 then (
    xstuck
  ) else (
    xbind (xgR 9 1 (some a0)) fun v21 =>
    xbind (xput 9 0 (some a0) (va_rf v21)) fun _ =>
    xbind (xgR 9 1 (some a0)) fun v29 =>
    xbind (xgR 25 1 v29) fun v32 =>
    xbind (xput 9 1 (some a0) (va_rf v32)) fun _ =>
    xbind (xgI 9 2 (some a0)) fun v40 =>
    xbind (xput 9 2 (some a0) (.int (v40 + (1 : Int32)))) fun _ =>
    xbind (xgR 9 0 (some a0)) fun v49 =>
    xbind (xgR 25 0 v49) fun v52 =>
    xpure v52
  )
def fJ45_siftUpUsingComparator_p43 (l0 : Int32) (l1 : Option Nat) (l2 : Option Nat) : xM (Unit) :=
  xbind (xstR 5 xokObj l2 l0 l1) fun _ =>
  xpure ()
def fJ45_siftUpUsingComparator_p0 : Nat → Int32 → Option Nat → Option Nat → Option Nat → xM (Unit)
  | 0, _, _, _, _ => xstuck
  | n + 1, l0, l1, l2, l3 =>
    if l0 ≤ 0 then (
      fJ45_siftUpUsingComparator_p43 l0 l1 l2
    ) else (
      xlet (((l0 - (1 : Int32)).toUInt32 >>> ((1 : Int32).toUInt32 &&& Int32.toUInt32 31)).toInt32) fun x4_9 =>
      xbind (xldR l2 x4_9) fun v14 =>
      xbind (xsel l3 [(34, fun z => fX16_compare z l1 v14)]) fun v21 =>
      if v21 < 0 then (
        xbind (xstR 5 xokObj l2 l0 v14) fun _ =>
        fJ45_siftUpUsingComparator_p0 n x4_9 l1 l2 l3
      ) else (
        fJ45_siftUpUsingComparator_p43 l0 l1 l2
      )
    )
def fJ45_siftUpUsingComparator (p0 : Int32) (p1 : Option Nat) (p2 : Option Nat) (p3 : Option Nat) : xM (Unit) :=
  fJ45_siftUpUsingComparator_p0 xFU p0 p1 p2 p3
def fJ45_siftUp (a0 : Nat) (p0 : Int32) (p1 : Option Nat) : xM (Unit) :=
  xbind (xgR 33 2 (some a0)) fun v1 =>
  if v1 = none then (
    xbind (xgR 33 0 (some a0)) fun v26 =>
    xstuck
  ) else (
    xbind (xgR 33 0 (some a0)) fun v10 =>
    xbind (xgR 33 2 (some a0)) fun v14 =>
    xbind (fJ45_siftUpUsingComparator p0 p1 v10 v14) fun _ =>
    xpure ()
  )
def fJ13_copyOf_3 (p0 : Option Nat) (p1 : Int32) (p2 : Option Nat) : xM (Option Nat) :=
  xbind (xcon 90) fun v1 =>
  if p2 = v1 then (
    xbind (xnewA 5 (fun N => (N, .inr (.inr (.inr (.inr (fun _ => none)))))) p1) fun v7 =>
    xbind (xlen p0) fun v30 =>
    xbind (fJ12_min v30 p1) fun v32 =>
    xbind (xcpR 5 xokObj p0 (0 : Int32) (some v7) (0 : Int32) v32) fun _ =>
    xpure (some v7)
  ) else (
    xstuck
  )
def fJ13_copyOf_2 (p0 : Option Nat) (p1 : Int32) : xM (Option Nat) :=
  xbind (xgcO p0) fun v3 =>
  xbind (fJ13_copyOf_3 p0 p1 v3) fun v6 =>
  xpure v6
def fJ45_grow_p25 (l0 : Nat) (s0 : Int32) (s1 : Int32) (s2 : Int32) : xM (Unit) :=
  xbind (fJ11_newLength s2 s1 s0) fun v25 =>
  xbind (xgR 33 0 (some l0)) fun v31 =>
  xbind (fJ13_copyOf_2 v31 v25) fun v35 =>
  xbind (xput 33 0 (some l0) (va_rf v35)) fun _ =>
  xpure ()
def fJ45_grow (a0 : Nat) (p0 : Int32) : xM (Unit) :=
  xbind (xgR 33 0 (some a0)) fun v1 =>
  xbind (xlen v1) fun v4 =>
  if (64 : Int32) ≤ v4 then (
    fJ45_grow_p25 a0 (v4 >>> ((1 : Int32) &&& 31)) (p0 - v4) v4
  ) else (
    fJ45_grow_p25 a0 (v4 + (2 : Int32)) (p0 - v4) v4
  )
def fJ45_offer_p43 (l0 : Nat) (l1 : Option Nat) (l2 : Int32) : xM (Int32) :=
  xbind (xsel (some l0) [(33, fun z => fJ45_siftUp z l2 l1)]) fun _ =>
  xbind (xput 33 1 (some l0) (.int (l2 + (1 : Int32)))) fun _ =>
  xpure (1 : Int32)
def fJ45_offer (a0 : Nat) (p0 : Option Nat) : xM (Int32) :=
  if p0 = none then (
    xstuck
  ) else (
    xbind (xgI 33 3 (some a0)) fun v14 =>
    xbind (xput 33 3 (some a0) (.int (v14 + (1 : Int32)))) fun _ =>
    xbind (xgI 33 1 (some a0)) fun v23 =>
    xbind (xgR 33 0 (some a0)) fun v29 =>
    xbind (xlen v29) fun v32 =>
    if v23 < v32 then (
      fJ45_offer_p43 a0 p0 v23
    ) else (
      xbind (xsel (some a0) [(33, fun z => fJ45_grow z (v23 + (1 : Int32)))]) fun _ =>
      fJ45_offer_p43 a0 p0 v23
    )
  )
def fJ45_add (a0 : Nat) (p0 : Option Nat) : xM (Int32) :=
  xbind (xsel (some a0) [(33, fun z => fJ45_offer z p0)]) fun v2 =>
  xretN .boolean v2
def fX16_init (a0 : Nat) : xM (Unit) :=
  xpure ()
def fJ0_init__J45 (a0 : Nat) : xM (Unit) :=
  xpure ()
def fJ44_init__J45 (a0 : Nat) : xM (Unit) :=
  xbind (fJ0_init__J45 a0) fun _ =>
  xpure ()
def fJ45_init (a0 : Nat) (p0 : Int32) (p1 : Option Nat) : xM (Unit) :=
  xbind (fJ44_init__J45 a0) fun _ =>
  if (1 : Int32) ≤ p0 then (
    xbind (xnewA 5 (fun N => (N, .inr (.inr (.inr (.inr (fun _ => none)))))) p0) fun v19 =>
    xbind (xput 33 0 (some a0) (va_rf (some v19))) fun _ =>
    xbind (xput 33 2 (some a0) (va_rf p1)) fun _ =>
    xpure ()
  ) else (
    xstuck
  )
def fX2_queue_p25 : Nat → Nat → Option Nat → xM (Option Nat)
  | 0, _, _ => xstuck
  | n + 1, l1, l2 =>
    xbind (xsel l2 [(9, fun z => fJ24_hasNext z)]) fun v26 =>
    if v26 = 0 then (
      xpure (some l1)
    ) else (
      xbind (xsel l2 [(9, fun z => fJ24_next z)]) fun v35 =>
      xbind (xcst (fun c => c == 38) v35) fun _ =>
      xbind (xsel (some l1) [(33, fun z => fJ45_add z v35)]) fun v46 =>
      fX2_queue_p25 n l1 l2
    )
def fX2_queue (a0 : Nat) : xM (Option Nat) :=
  xbind (xnew 33 [.null, .int 0, .null, .int 0] 4) fun v0 =>
  xbind (xnew 34 [] 0) fun v6 =>
  xbind (fX16_init v6) fun _ =>
  xbind (fJ45_init v0 (12 : Int32) (some v6)) fun _ =>
  xbind (xgR 1 1 (some a0)) fun v18 =>
  xbind (xsel v18 [(6, fun z => fJ18_iterator__J19 z)]) fun v21 =>
  fX2_queue_p25 xFU v0 v21
def fX2_planAt_p33 (l1 : Int32) (l2 : Option Nat) : xM (Option Nat) :=
  if 0 ≤ l1 then (
    xbind (xsel l2 [(33, fun z => fJ45_poll z)]) fun v42 =>
    xbind (xcst (fun c => c == 38) v42) fun _ =>
    xpure v42
  ) else (
    xpure none
  )
def fX2_planAt_p7 : Nat → Int32 → Option Nat → Int32 → xM (Option Nat)
  | 0, _, _, _ => xstuck
  | n + 1, l1, l2, l3 =>
    if l3 ≤ 0 then (
      fX2_planAt_p33 l1 l2
    ) else (
      xbind (xsel l2 [(33, fun z => fJ0_isEmpty__J45 z)]) fun v12 =>
      if v12 = 0 then (
        xbind (xsel l2 [(33, fun z => fJ45_poll z)]) fun v19 =>
        xbind (xcst (fun c => c == 38) v19) fun _ =>
        xlet (l3 + (-1 : Int32)) fun x3_27 =>
        fX2_planAt_p7 n l1 l2 x3_27
      ) else (
        fX2_planAt_p33 l1 l2
      )
    )
def fX2_planAt (a0 : Nat) (p0 : Int32) : xM (Option Nat) :=
  xbind (xsel (some a0) [(1, fun z => fX2_queue z)]) fun v1 =>
  fX2_planAt_p7 xFU p0 v1 p0
def fX1_planned (a0 : Nat) (p0 : Int32) (p1 : Int32) : xM (Int32) :=
  xbind (fX1_inRange p1 (0 : Int32) (4 : Int32)) fun v3 =>
  xbind (fX1_checkThere v3) fun _ =>
  xbind (xgR 0 4 (some a0)) fun v10 =>
  xbind (xsel v10 [(1, fun z => fX2_planAt z p0)]) fun v14 =>
  if v14 = none then (
    xpure (-1 : Int32)
  ) else (
    xbind (xsel v14 [(38, fun z => fX18_part z p1)]) fun v28 =>
    xpure v28
  )
def fX0_planned (p0 : Option Nat) (p1 : Int32) (p2 : Int32) (p3 : Option Nat) : xM (Int32) :=
  xtry (xsel p0 [(0, fun z => fX1_planned z p1 p2)]) (fun v5 =>
    xbind (xstJ 2 p3 (0 : Int32) v5.toInt64) fun _ =>
    xpure (0 : Int32)
  ) (fun q => xsel (some q) [
      (10, fun _ =>
        xpure (1 : Int32)
      )
      ]
  )
def fX1_checkArgument (p0 : Int32) : xM (Unit) :=
  if p0 = 0 then (
    xbind (xmk 3) fun v4 =>
    xthrow (some v4)
  ) else (
    xpure ()
  )
def fX10_become (a0 : Nat) (p0 : Option Nat) : xM (Unit) :=
  xbind (xgR 24 1 p0) fun v1 =>
  xbind (xgR 24 1 (some a0)) fun v6 =>
  xbind (xcpI 1 .int v1 (0 : Int32) v6 (0 : Int32) (13 : Int32)) fun _ =>
  xpure ()
def fX1_thought (p0 : Option Nat) : xM (Option Nat) :=
  xbind (xnew 24 [.null, .null, .int 0, .int 0] 4) fun v0 =>
  xbind (xgR 19 0 p0) fun v5 =>
  xbind (fX10_init v0 v5) fun _ =>
  xbind (xgR 19 2 p0) fun v14 =>
  xbind (xsel (some v0) [(24, fun z => fX10_become z v14)]) fun _ =>
  xpure (some v0)
def fX1_lambda_after_10 (p0 : Int32) (p1 : Option Nat) : xM (Int32) :=
  xpure (1 : Int32)
def fL_10 (a0 : Nat) (p0 : Int32) (p1 : Option Nat) : xM (Int32) :=
  xbind (fX1_lambda_after_10 p0 p1) fun v =>
  xretN .boolean v
def fX1_lambda_below_11 (p0 : Int32) (p1 : Int32) (p2 : Option Nat) : xM (Int32) :=
  xbind (xsel p2 [(24, fun z => fX10_total z)]) fun v1 =>
  if v1 < p0 then (
    xpure (0 : Int32)
  ) else (
    xpure (1 : Int32)
  )
def fL_11 (a0 : Nat) (p0 : Int32) (p1 : Option Nat) : xM (Int32) :=
  xbind (xgI 1011 0 (some a0)) fun c0 =>
  xbind (fX1_lambda_below_11 c0 p0 p1) fun v =>
  xretN .boolean v
def fX10_takeAdults_p10 : Nat → Nat → Int32 → Int32 → xM (Unit)
  | 0, _, _, _ => xstuck
  | n + 1, l0, l2, l3 =>
    xbind (xgR 24 0 (some l0)) fun v12 =>
    xbind (xgI 20 3 v12) fun v15 =>
    if l3 < v15 then (
      xpure ()
    ) else (
      xbind (xgR 24 1 (some l0)) fun v23 =>
      xbind (xldI 1 v23 l3) fun v27 =>
      xbind (fJ12_min l2 v27) fun v28 =>
      xbind (xgR 24 1 (some l0)) fun v34 =>
      xbind (xldI 1 v34 l3) fun v39 =>
      xbind (xstI 1 v34 l3 (v39 - v28)) fun _ =>
      xlet (l2 - v28) fun x2_48 =>
      xlet (l3 + (-1 : Int32)) fun x3_49 =>
      fX10_takeAdults_p10 n l0 x2_48 x3_49
    )
def fX10_takeAdults (a0 : Nat) (p0 : Int32) : xM (Unit) :=
  xbind (xgR 24 0 (some a0)) fun v3 =>
  xbind (xgI 20 1 v3) fun v6 =>
  fX10_takeAdults_p10 xFU a0 p0 v6
def fX1_lambda_works_12_p25 (l0 : Int32) (l3 : Option Nat) (s0 : Int32) : xM (Int32) :=
  if s0 = 0 then (
    xretN .boolean s0
  ) else (
    xbind (xsel l3 [(24, fun z => fX10_takeAdults z l0)]) fun _ =>
    xretN .boolean s0
  )
def fX1_lambda_works_12_p20 (l0 : Int32) (l3 : Option Nat) : xM (Int32) :=
  fX1_lambda_works_12_p25 l0 l3 (1 : Int32)
def fX1_lambda_works_12_p24 (l0 : Int32) (l3 : Option Nat) : xM (Int32) :=
  fX1_lambda_works_12_p25 l0 l3 (0 : Int32)
def fX1_lambda_works_12 (p0 : Int32) (p1 : Int32) (p2 : Int32) (p3 : Option Nat) : xM (Int32) :=
  xbind (xsel p3 [(24, fun z => fX10_adults z)]) fun v1 =>
  if v1 < p0 then (
    fX1_lambda_works_12_p24 p0 p3
  ) else (
    if p2 = 0 then (
      fX1_lambda_works_12_p20 p0 p3
    ) else (
      xbind (xsel p3 [(24, fun z => fX10_total z)]) fun v13 =>
      if v13 < p1 then (
        fX1_lambda_works_12_p24 p0 p3
      ) else (
        fX1_lambda_works_12_p20 p0 p3
      )
    )
  )
def fL_12 (a0 : Nat) (p0 : Int32) (p1 : Option Nat) : xM (Int32) :=
  xbind (xgI 1012 0 (some a0)) fun c0 =>
  xbind (xgI 1012 1 (some a0)) fun c1 =>
  xbind (fX1_lambda_works_12 c0 c1 p0 p1) fun v =>
  xretN .boolean v
def fX10_close_p128 (l0 : Nat) (l3 : Int64) : xM (Unit) :=
  xbind (xput 24 3 (some l0) (.int l3.toInt32)) fun _ =>
  xbind (xgR 24 1 (some l0)) fun v135 =>
  xbind (xgI 24 3 (some l0)) fun v140 =>
  xbind (xstI 1 v135 (0 : Int32) v140) fun _ =>
  xpure ()
def fX10_close_p16 : Nat → Nat → Option Nat → Int32 → Int64 → Int32 → xM (Unit)
  | 0, _, _, _, _, _ => xstuck
  | n + 1, l0, l1, l2, l3, l5 =>
    if l5 ≤ 0 then (
      xdvJ (1000 : Int64) <|
      xbind (fJ12_min_2 (1000000 : Int64) (l3 / (1000 : Int64))) fun v104 =>
      if l2 ≤ 0 then (
        fX10_close_p128 l0 v104
      ) else (
        xbind (xgI 24 2 (some l0)) fun v116 =>
        xbind (fJ12_min_2 v104 ((l2 - v116).toInt64)) fun v121 =>
        xbind (fJ12_max_2 (0 : Int64) v121) fun v124 =>
        fX10_close_p128 l0 v124
      )
    ) else (
      xbind (xgR 24 1 (some l0)) fun v22 =>
      xbind (xgR 24 1 (some l0)) fun v28 =>
      xbind (xldI 1 v28 (l5 - (1 : Int32))) fun v35 =>
      xbind (xldI 1 l1 (l5 - (1 : Int32))) fun v42 =>
      xdvJ (1000 : Int64) <|
      xbind (xstI 1 v22 l5 (((v35.toInt64 * v42.toInt64) / (1000 : Int64)).toInt32)) fun _ =>
      xbind (xgI 24 2 (some l0)) fun v53 =>
      xbind (xgR 24 1 (some l0)) fun v57 =>
      xbind (xldI 1 v57 l5) fun v62 =>
      xbind (xput 24 2 (some l0) (.int (v53 + v62))) fun _ =>
      xbind (xgR 24 1 (some l0)) fun v69 =>
      xbind (xldI 1 v69 l5) fun v74 =>
      xbind (xgR 24 0 (some l0)) fun v77 =>
      xbind (xgR 20 2 v77) fun v80 =>
      xbind (xldI 1 v80 l5) fun v85 =>
      xlet (l3 + (v74.toInt64 * v85.toInt64)) fun x3_89 =>
      xlet (l5 + (-1 : Int32)) fun x5_90 =>
      fX10_close_p16 n l0 l1 l2 x3_89 x5_90
    )
def fX10_close (a0 : Nat) (p0 : Option Nat) (p1 : Int32) : xM (Unit) :=
  xbind (xput 24 2 (some a0) (.int (0 : Int32))) fun _ =>
  xlet (0 : Int64) fun x3_6 =>
  xbind (xgR 24 0 (some a0)) fun v8 =>
  xbind (xgI 20 1 v8) fun v11 =>
  fX10_close_p16 xFU a0 p0 p1 x3_6 v11
def fX1_foresee_p3 : Nat → Option Nat → Option Nat → Int32 → Option Nat → Int32 → xM (Int32)
  | 0, _, _, _, _, _ => xstuck
  | n + 1, l0, l1, l2, l3, l4 =>
    if l2 ≤ l4 then (
      xpure l4
    ) else (
      xbind (xsel l3 [(1010, fun z => fL_10 z l4 l1), (1011, fun z => fL_11 z l4 l1), (1012, fun z => fL_12 z l4 l1)]) fun v13 =>
      if v13 = 0 then (
        xpure l4
      ) else (
        xbind (xgR 19 1 l0) fun v23 =>
        xbind (xgI 19 3 l0) fun v27 =>
        xbind (xsel l1 [(24, fun z => fX10_close z v23 v27)]) fun _ =>
        xlet (l4 + (1 : Int32)) fun x4_33 =>
        fX1_foresee_p3 n l0 l1 l2 l3 x4_33
      )
    )
def fX1_foresee (p0 : Option Nat) (p1 : Option Nat) (p2 : Int32) (p3 : Option Nat) : xM (Int32) :=
  xlet (0 : Int32) fun x4_1 =>
  fX1_foresee_p3 xFU p0 p1 p2 p3 x4_1
def fX1_after (p0 : Option Nat) (p1 : Int32) : xM (Option Nat) :=
  xbind (fX1_thought p0) fun v1 =>
  xbind (xcon 210) fun v8 =>
  xbind (fX1_foresee p0 v1 p1 v8) fun v13 =>
  xpure v1
def fX1_totalIn (a0 : Nat) (p0 : Int32) (p1 : Int32) : xM (Int32) :=
  xbind (xsel (some a0) [(0, fun z => fX1_herd z p0)]) fun v2 =>
  xbind (fX1_inRange p1 (0 : Int32) (50 : Int32)) fun v10 =>
  xbind (fX1_checkArgument v10) fun _ =>
  xbind (fX1_after v2 p1) fun v18 =>
  xbind (xsel v18 [(24, fun z => fX10_total z)]) fun v21 =>
  xpure v21
def fX0_totalIn (p0 : Option Nat) (p1 : Int32) (p2 : Int32) (p3 : Option Nat) : xM (Int32) :=
  xtry (xsel p0 [(0, fun z => fX1_totalIn z p1 p2)]) (fun v5 =>
    xbind (xstJ 2 p3 (0 : Int32) v5.toInt64) fun _ =>
    xpure (0 : Int32)
  ) (fun q => xsel (some q) [
      (8, fun _ =>
        xpure (1 : Int32)
      ),
      (3, fun _ =>
        xpure (2 : Int32)
      )
      ]
  )
def fX1_share (a0 : Nat) (p0 : Int32) (p1 : Int32) (p2 : Int32) : xM (UInt64) :=
  xbind (xsel (some a0) [(0, fun z => fX1_herdWith z p0 p1)]) fun v3 =>
  xbind (fX1_inRange p2 (0 : Int32) (50 : Int32)) fun v12 =>
  xbind (fX1_checkArgument v12) fun _ =>
  xbind (fX1_after v3 p2) fun v21 =>
  xbind (xsel v21 [(24, fun z => fX10_total z)]) fun v28 =>
  if v28 = 0 then (
    xpure FP.dconst0
  ) else (
    xbind (xgR 24 1 v21) fun v44 =>
    xbind (xldI 1 v44 p1) fun v48 =>
    xnan (FP.ddiv (FP.i2d v48) (FP.i2d v28)) <|
    xpure (FP.ddiv (FP.i2d v48) (FP.i2d v28))
  )
def fX0_share (p0 : Option Nat) (p1 : Int32) (p2 : Int32) (p3 : Int32) (p4 : Option Nat) : xM (Int32) :=
  xtry (xsel p0 [(0, fun z => fX1_share z p1 p2 p3)]) (fun v7 =>
    xbind (xstD 3 p4 (0 : Int32) v7) fun _ =>
    xpure (0 : Int32)
  ) (fun q => xsel (some q) [
      (8, fun _ =>
        xpure (1 : Int32)
      ),
      (3, fun _ =>
        xpure (2 : Int32)
      )
      ]
  )
def fX1_growth (a0 : Nat) (p0 : Int32) (p1 : Int32) : xM (UInt64) :=
  xbind (xsel (some a0) [(0, fun z => fX1_herd z p0)]) fun v2 =>
  xbind (fX1_inRange p1 (1 : Int32) (50 : Int32)) fun v10 =>
  xbind (fX1_checkArgument v10) fun _ =>
  xbind (fX1_after v2 (p1 - (1 : Int32))) fun v20 =>
  xbind (xsel v20 [(24, fun z => fX10_total z)]) fun v23 =>
  if v23 = 0 then (
    xpure FP.dconst0
  ) else (
    xbind (fX1_after v2 p1) fun v39 =>
    xbind (xsel v39 [(24, fun z => fX10_total z)]) fun v42 =>
    xnan (FP.ddiv (FP.i2d v42) (FP.i2d v23)) <|
    xpure (FP.ddiv (FP.i2d v42) (FP.i2d v23))
  )
def fX0_growth (p0 : Option Nat) (p1 : Int32) (p2 : Int32) (p3 : Option Nat) : xM (Int32) :=
  xtry (xsel p0 [(0, fun z => fX1_growth z p1 p2)]) (fun v5 =>
    xbind (xstD 3 p3 (0 : Int32) v5) fun _ =>
    xpure (0 : Int32)
  ) (fun q => xsel (some q) [
      (8, fun _ =>
        xpure (1 : Int32)
      ),
      (3, fun _ =>
        xpure (2 : Int32)
      )
      ]
  )
def fX1_below (a0 : Nat) (p0 : Int32) (p1 : Int32) : xM (Int32) :=
  xbind (xsel (some a0) [(0, fun z => fX1_herd z p0)]) fun v2 =>
  xbind (fX1_thought v2) fun v7 =>
  xbind (xnew 1011 [.int p1] 1) fun v18 =>
  xbind (fX1_foresee v2 v7 (50 : Int32) (some v18)) fun v23 =>
  xbind (xsel v7 [(24, fun z => fX10_total z)]) fun v30 =>
  if p1 ≤ v30 then (
    xpure (-1 : Int32)
  ) else (
    xpure v23
  )
def fX0_below (p0 : Option Nat) (p1 : Int32) (p2 : Int32) (p3 : Option Nat) : xM (Int32) :=
  xtry (xsel p0 [(0, fun z => fX1_below z p1 p2)]) (fun v5 =>
    xbind (xstJ 2 p3 (0 : Int32) v5.toInt64) fun _ =>
    xpure (0 : Int32)
  ) (fun q => xsel (some q) [
      (8, fun _ =>
        xpure (1 : Int32)
      )
      ]
  )
def fX1_works (p0 : Option Nat) (p1 : Option Nat) (p2 : Int32) (p3 : Int32) (p4 : Int32) : xM (Int32) :=
  xbind (xgR 19 2 p0) fun v2 =>
  xbind (xsel p1 [(24, fun z => fX10_become z v2)]) fun _ =>
  xbind (xnew 1012 [.int p2, .int p4] 2) fun v14 =>
  xbind (fX1_foresee p0 p1 p3 (some v14)) fun v19 =>
  if v19 = p3 then (
    xbind (xsel p1 [(24, fun z => fX10_total z)]) fun v31 =>
    if v31 < p4 then (
      xpure (0 : Int32)
    ) else (
      xpure (1 : Int32)
    )
  ) else (
    xpure (0 : Int32)
  )
def fX1_steadyTake_p109 (k66 : Int32 → Int32 → Option Nat → Option Nat → Int32 → Int32 → xM (Int32)) (l2 : Int32) (l3 : Int32) (l4 : Option Nat) (l5 : Option Nat) (l6 : Int32) (l7 : Int32) : xM (Int32) :=
  k66 l2 l3 l4 l5 l6 l7
def fX1_steadyTake_p66 : Nat → Int32 → Int32 → Option Nat → Option Nat → Int32 → Int32 → xM (Int32)
  | 0, _, _, _, _, _, _ => xstuck
  | n + 1, l2, l3, l4, l5, l6, l7 =>
    if l7 ≤ (l6 + (1 : Int32)) then (
      xpure l6
    ) else (
      xdv (2 : Int32) <|
      xlet ((l6 + l7) / (2 : Int32)) fun x8_82 =>
      xbind (fX1_works l4 l5 x8_82 l2 l3) fun v92 =>
      if v92 = 0 then (
        fX1_steadyTake_p109 (fX1_steadyTake_p66 n) l2 l3 l4 l5 l6 x8_82
      ) else (
        fX1_steadyTake_p109 (fX1_steadyTake_p66 n) l2 l3 l4 l5 x8_82 l7
      )
    )
def fX1_steadyTake_p26 (l2 : Int32) (l3 : Int32) (l4 : Option Nat) (s0 : Int32) : xM (Int32) :=
  xbind (fX1_checkArgument s0) fun _ =>
  xbind (fX1_thought l4) fun v31 =>
  xbind (fX1_works l4 v31 (0 : Int32) l2 l3) fun v43 =>
  if v43 = 0 then (
    xpure (-1 : Int32)
  ) else (
    xlet (0 : Int32) fun x6_52 =>
    xbind (xgR 19 2 l4) fun v56 =>
    xbind (xsel v56 [(24, fun z => fX10_adults z)]) fun v59 =>
    xlet (v59 + (1 : Int32)) fun x7_64 =>
    fX1_steadyTake_p66 xFU l2 l3 l4 v31 x6_52 x7_64
  )
def fX1_steadyTake_p25 (l2 : Int32) (l3 : Int32) (l4 : Option Nat) : xM (Int32) :=
  fX1_steadyTake_p26 l2 l3 l4 (0 : Int32)
def fX1_steadyTake (a0 : Nat) (p0 : Int32) (p1 : Int32) (p2 : Int32) : xM (Int32) :=
  xbind (xsel (some a0) [(0, fun z => fX1_herd z p0)]) fun v2 =>
  xbind (fX1_inRange p1 (1 : Int32) (30 : Int32)) fun v11 =>
  if v11 = 0 then (
    fX1_steadyTake_p25 p1 p2 v2
  ) else (
    if p2 < 0 then (
      fX1_steadyTake_p25 p1 p2 v2
    ) else (
      fX1_steadyTake_p26 p1 p2 v2 (1 : Int32)
    )
  )
def fX0_steadyTake (p0 : Option Nat) (p1 : Int32) (p2 : Int32) (p3 : Int32) (p4 : Option Nat) : xM (Int32) :=
  xtry (xsel p0 [(0, fun z => fX1_steadyTake z p1 p2 p3)]) (fun v7 =>
    xbind (xstJ 2 p4 (0 : Int32) v7.toInt64) fun _ =>
    xpure (0 : Int32)
  ) (fun q => xsel (some q) [
      (8, fun _ =>
        xpure (1 : Int32)
      ),
      (3, fun _ =>
        xpure (2 : Int32)
      )
      ]
  )
def fX6_lose_p21 (s0 : Int32) (s1 : Nat) : xM (Unit) :=
  xbind (xput 19 4 (some s1) (.int s0)) fun _ =>
  xpure ()
def fX6_lose (a0 : Nat) (p0 : Int32) (p1 : Int32) : xM (Unit) :=
  if p0 = 0 then (
    fX6_lose_p21 (0 : Int32) a0
  ) else (
    xbind (xgI 19 4 (some a0)) fun v10 =>
    xdvJ p0.toInt64 <|
    fX6_lose_p21 (((v10.toInt64 * p1.toInt64) / p0.toInt64).toInt32) a0
  )
def fJ29_parentOf (p0 : Option Nat) : xM (Option Nat) :=
  if p0 = none then (
    xpure none
  ) else (
    xbind (xgR 36 4 p0) fun v9 =>
    xpure v9
  )
def fJ29_setColor (p0 : Option Nat) (p1 : Int32) : xM (Unit) :=
  if p0 = none then (
    xpure ()
  ) else (
    xbind (xpN 36 5 .boolean p0 p1) fun _ =>
    xpure ()
  )
def fJ29_rotateRight_p85 (l1 : Option Nat) (l2 : Option Nat) : xM (Unit) :=
  xbind (xput 36 3 l2 (va_rf l1)) fun _ =>
  xbind (xput 36 4 l1 (va_rf l2)) fun _ =>
  xpure ()
def fJ29_rotateRight_p32 (l0 : Nat) (l1 : Option Nat) (l2 : Option Nat) : xM (Unit) :=
  xbind (xgR 36 4 l1) fun v34 =>
  xbind (xput 36 4 l2 (va_rf v34)) fun _ =>
  xbind (xgR 36 4 l1) fun v41 =>
  if v41 = none then (
    xbind (xput 16 3 (some l0) (va_rf l2)) fun _ =>
    fJ29_rotateRight_p85 l1 l2
  ) else (
    xbind (xgR 36 4 l1) fun v56 =>
    xbind (xgR 36 3 v56) fun v59 =>
    if v59 = l1 then (
      xbind (xgR 36 4 l1) fun v67 =>
      xbind (xput 36 3 v67 (va_rf l2)) fun _ =>
      fJ29_rotateRight_p85 l1 l2
    ) else (
      xbind (xgR 36 4 l1) fun v78 =>
      xbind (xput 36 2 v78 (va_rf l2)) fun _ =>
      fJ29_rotateRight_p85 l1 l2
    )
  )
def fJ29_rotateRight (a0 : Nat) (p0 : Option Nat) : xM (Unit) :=
  if p0 = none then (
    xpure ()
  ) else (
    xbind (xgR 36 2 p0) fun v5 =>
    xbind (xgR 36 3 v5) fun v11 =>
    xbind (xput 36 2 p0 (va_rf v11)) fun _ =>
    xbind (xgR 36 3 v5) fun v18 =>
    if v18 = none then (
      fJ29_rotateRight_p32 a0 p0 v5
    ) else (
      xbind (xgR 36 3 v5) fun v25 =>
      xbind (xput 36 4 v25 (va_rf p0)) fun _ =>
      fJ29_rotateRight_p32 a0 p0 v5
    )
  )
def fJ29_rotateLeft_p85 (l1 : Option Nat) (l2 : Option Nat) : xM (Unit) :=
  xbind (xput 36 2 l2 (va_rf l1)) fun _ =>
  xbind (xput 36 4 l1 (va_rf l2)) fun _ =>
  xpure ()
def fJ29_rotateLeft_p32 (l0 : Nat) (l1 : Option Nat) (l2 : Option Nat) : xM (Unit) :=
  xbind (xgR 36 4 l1) fun v34 =>
  xbind (xput 36 4 l2 (va_rf v34)) fun _ =>
  xbind (xgR 36 4 l1) fun v41 =>
  if v41 = none then (
    xbind (xput 16 3 (some l0) (va_rf l2)) fun _ =>
    fJ29_rotateLeft_p85 l1 l2
  ) else (
    xbind (xgR 36 4 l1) fun v56 =>
    xbind (xgR 36 2 v56) fun v59 =>
    if v59 = l1 then (
      xbind (xgR 36 4 l1) fun v67 =>
      xbind (xput 36 2 v67 (va_rf l2)) fun _ =>
      fJ29_rotateLeft_p85 l1 l2
    ) else (
      xbind (xgR 36 4 l1) fun v78 =>
      xbind (xput 36 3 v78 (va_rf l2)) fun _ =>
      fJ29_rotateLeft_p85 l1 l2
    )
  )
def fJ29_rotateLeft (a0 : Nat) (p0 : Option Nat) : xM (Unit) :=
  if p0 = none then (
    xpure ()
  ) else (
    xbind (xgR 36 3 p0) fun v5 =>
    xbind (xgR 36 2 v5) fun v11 =>
    xbind (xput 36 3 p0 (va_rf v11)) fun _ =>
    xbind (xgR 36 2 v5) fun v18 =>
    if v18 = none then (
      fJ29_rotateLeft_p32 a0 p0 v5
    ) else (
      xbind (xgR 36 2 v5) fun v25 =>
      xbind (xput 36 4 v25 (va_rf p0)) fun _ =>
      fJ29_rotateLeft_p32 a0 p0 v5
    )
  )
def fJ29_leftOf (p0 : Option Nat) : xM (Option Nat) :=
  if p0 = none then (
    xpure none
  ) else (
    xbind (xgR 36 2 p0) fun v9 =>
    xpure v9
  )
def fJ29_rightOf (p0 : Option Nat) : xM (Option Nat) :=
  if p0 = none then (
    xpure none
  ) else (
    xbind (xgR 36 3 p0) fun v9 =>
    xpure v9
  )
def fJ29_colorOf (p0 : Option Nat) : xM (Int32) :=
  if p0 = none then (
    xpure (1 : Int32)
  ) else (
    xbind (xgI 36 5 p0) fun v9 =>
    xretN .boolean v9
  )
def fJ29_fixAfterInsertion_p148 (k5 : Nat → Option Nat → xM (Unit)) (l0 : Nat) (l1 : Option Nat) : xM (Unit) :=
  k5 l0 l1
def fJ29_fixAfterInsertion_p118 (k5 : Nat → Option Nat → xM (Unit)) (l0 : Nat) (l1 : Option Nat) : xM (Unit) :=
  xbind (fJ29_parentOf l1) fun v119 =>
  xbind (fJ29_setColor v119 (1 : Int32)) fun _ =>
  xbind (fJ29_parentOf l1) fun v127 =>
  xbind (fJ29_parentOf v127) fun v130 =>
  xbind (fJ29_setColor v130 (0 : Int32)) fun _ =>
  xbind (fJ29_parentOf l1) fun v139 =>
  xbind (fJ29_parentOf v139) fun v142 =>
  xbind (xsel (some l0) [(16, fun z => fJ29_rotateRight z v142)]) fun _ =>
  fJ29_fixAfterInsertion_p148 k5 l0 l1
def fJ29_fixAfterInsertion_p255 (k5 : Nat → Option Nat → xM (Unit)) (l0 : Nat) (l1 : Option Nat) : xM (Unit) :=
  k5 l0 l1
def fJ29_fixAfterInsertion_p225 (k5 : Nat → Option Nat → xM (Unit)) (l0 : Nat) (l1 : Option Nat) : xM (Unit) :=
  xbind (fJ29_parentOf l1) fun v226 =>
  xbind (fJ29_setColor v226 (1 : Int32)) fun _ =>
  xbind (fJ29_parentOf l1) fun v234 =>
  xbind (fJ29_parentOf v234) fun v237 =>
  xbind (fJ29_setColor v237 (0 : Int32)) fun _ =>
  xbind (fJ29_parentOf l1) fun v246 =>
  xbind (fJ29_parentOf v246) fun v249 =>
  xbind (xsel (some l0) [(16, fun z => fJ29_rotateLeft z v249)]) fun _ =>
  fJ29_fixAfterInsertion_p255 k5 l0 l1
def fJ29_fixAfterInsertion_p258 (l0 : Nat) : xM (Unit) :=
  xbind (xgR 16 3 (some l0)) fun v259 =>
  xbind (xpN 36 5 .boolean v259 (1 : Int32)) fun _ =>
  xpure ()
def fJ29_fixAfterInsertion_p5 : Nat → Nat → Option Nat → xM (Unit)
  | 0, _, _ => xstuck
  | n + 1, l0, l1 =>
    if l1 = none then (
      fJ29_fixAfterInsertion_p258 l0
    ) else (
      xbind (xgR 16 3 (some l0)) fun v11 =>
      if l1 = v11 then (
        fJ29_fixAfterInsertion_p258 l0
      ) else (
        xbind (xgR 36 4 l1) fun v18 =>
        xbind (xgI 36 5 v18) fun v21 =>
        if v21 = 0 then (
          xbind (fJ29_parentOf l1) fun v28 =>
          xbind (fJ29_parentOf l1) fun v32 =>
          xbind (fJ29_parentOf v32) fun v35 =>
          xbind (fJ29_leftOf v35) fun v38 =>
          if v28 = v38 then (
            xbind (fJ29_parentOf l1) fun v45 =>
            xbind (fJ29_parentOf v45) fun v48 =>
            xbind (fJ29_rightOf v48) fun v51 =>
            xbind (fJ29_colorOf v51) fun v56 =>
            if v56 = 0 then (
              xbind (fJ29_parentOf l1) fun v63 =>
              xbind (fJ29_setColor v63 (1 : Int32)) fun _ =>
              xbind (fJ29_setColor v51 (1 : Int32)) fun _ =>
              xbind (fJ29_parentOf l1) fun v76 =>
              xbind (fJ29_parentOf v76) fun v79 =>
              xbind (fJ29_setColor v79 (0 : Int32)) fun _ =>
              xbind (fJ29_parentOf l1) fun v87 =>
              xbind (fJ29_parentOf v87) fun v90 =>
              fJ29_fixAfterInsertion_p148 (fJ29_fixAfterInsertion_p5 n) l0 v90
            ) else (
              xbind (fJ29_parentOf l1) fun v99 =>
              xbind (fJ29_rightOf v99) fun v102 =>
              if l1 = v102 then (
                xbind (fJ29_parentOf l1) fun v109 =>
                xbind (xsel (some l0) [(16, fun z => fJ29_rotateLeft z v109)]) fun _ =>
                fJ29_fixAfterInsertion_p118 (fJ29_fixAfterInsertion_p5 n) l0 v109
              ) else (
                fJ29_fixAfterInsertion_p118 (fJ29_fixAfterInsertion_p5 n) l0 l1
              )
            )
          ) else (
            xbind (fJ29_parentOf l1) fun v152 =>
            xbind (fJ29_parentOf v152) fun v155 =>
            xbind (fJ29_leftOf v155) fun v158 =>
            xbind (fJ29_colorOf v158) fun v163 =>
            if v163 = 0 then (
              xbind (fJ29_parentOf l1) fun v170 =>
              xbind (fJ29_setColor v170 (1 : Int32)) fun _ =>
              xbind (fJ29_setColor v158 (1 : Int32)) fun _ =>
              xbind (fJ29_parentOf l1) fun v183 =>
              xbind (fJ29_parentOf v183) fun v186 =>
              xbind (fJ29_setColor v186 (0 : Int32)) fun _ =>
              xbind (fJ29_parentOf l1) fun v194 =>
              xbind (fJ29_parentOf v194) fun v197 =>
              fJ29_fixAfterInsertion_p255 (fJ29_fixAfterInsertion_p5 n) l0 v197
            ) else (
              xbind (fJ29_parentOf l1) fun v206 =>
              xbind (fJ29_leftOf v206) fun v209 =>
              if l1 = v209 then (
                xbind (fJ29_parentOf l1) fun v216 =>
                xbind (xsel (some l0) [(16, fun z => fJ29_rotateRight z v216)]) fun _ =>
                fJ29_fixAfterInsertion_p225 (fJ29_fixAfterInsertion_p5 n) l0 v216
              ) else (
                fJ29_fixAfterInsertion_p225 (fJ29_fixAfterInsertion_p5 n) l0 l1
              )
            )
          )
        ) else (
          fJ29_fixAfterInsertion_p258 l0
        )
      )
    )
def fJ29_fixAfterInsertion (a0 : Nat) (p0 : Option Nat) : xM (Unit) :=
  xbind (xpN 36 5 .boolean p0 (0 : Int32)) fun _ =>
  fJ29_fixAfterInsertion_p5 xFU a0 p0
def fJ47_init (a0 : Nat) (p0 : Option Nat) (p1 : Option Nat) (p2 : Option Nat) : xM (Unit) :=
  xbind (xpN 36 5 .boolean (some a0) (1 : Int32)) fun _ =>
  xbind (xput 36 0 (some a0) (va_rf p0)) fun _ =>
  xbind (xput 36 1 (some a0) (va_rf p1)) fun _ =>
  xbind (xput 36 4 (some a0) (va_rf p2)) fun _ =>
  xpure ()
def fJ29_addEntry_p32 (l0 : Nat) (l5 : Nat) : xM (Unit) :=
  xbind (xsel (some l0) [(16, fun z => fJ29_fixAfterInsertion z (some l5))]) fun _ =>
  xbind (xgI 16 4 (some l0)) fun v40 =>
  xbind (xput 16 4 (some l0) (.int (v40 + (1 : Int32)))) fun _ =>
  xbind (xgI 16 5 (some l0)) fun v50 =>
  xbind (xput 16 5 (some l0) (.int (v50 + (1 : Int32)))) fun _ =>
  xpure ()
def fJ29_addEntry (a0 : Nat) (p0 : Option Nat) (p1 : Option Nat) (p2 : Option Nat) (p3 : Int32) : xM (Unit) :=
  xbind (xnew 36 [.null, .null, .null, .null, .null, .int 0] 6) fun v0 =>
  xbind (fJ47_init v0 p0 p1 p2) fun _ =>
  if p3 = 0 then (
    xbind (xput 36 3 p2 (va_rf (some v0))) fun _ =>
    fJ29_addEntry_p32 a0 v0
  ) else (
    xbind (xput 36 2 p2 (va_rf (some v0))) fun _ =>
    fJ29_addEntry_p32 a0 v0
  )
def fJ29_addEntryToEmptyMap (a0 : Nat) (p0 : Option Nat) (p1 : Option Nat) : xM (Unit) :=
  xbind (xsel (some a0) [(16, fun z => fJ29_compare z p0 p0)]) fun v3 =>
  xbind (xnew 36 [.null, .null, .null, .null, .null, .int 0] 6) fun v8 =>
  xbind (fJ47_init v8 p0 p1 none) fun _ =>
  xbind (xput 16 3 (some a0) (va_rf (some v8))) fun _ =>
  xbind (xput 16 4 (some a0) (.int (1 : Int32))) fun _ =>
  xbind (xgI 16 5 (some a0)) fun v28 =>
  xbind (xput 16 5 (some a0) (.int (v28 + (1 : Int32)))) fun _ =>
  xpure ()
def fJ29_put_2_p216 (s0 : Int32) (s1 : Option Nat) (s2 : Option Nat) (s3 : Option Nat) (s4 : Nat) : xM (Option Nat) :=
  xbind (xsel (some s4) [(16, fun z => fJ29_addEntry z s3 s2 s1 s0)]) fun _ =>
  xpure none
def fJ29_put_2_p201 (l0 : Nat) (l1 : Option Nat) (l2 : Option Nat) (l5 : Int32) (l6 : Option Nat) : xM (Option Nat) :=
  if 0 ≤ l5 then (
    fJ29_put_2_p216 (0 : Int32) l6 l2 l1 l0
  ) else (
    fJ29_put_2_p216 (1 : Int32) l6 l2 l1 l0
  )
def fJ29_put_2_p104 (k30 : Nat → Option Nat → Option Nat → Int32 → Option Nat → Option Nat → xM (Option Nat)) (l0 : Nat) (l1 : Option Nat) (l2 : Option Nat) (l3 : Int32) (l4 : Option Nat) (l5 : Int32) (l6 : Option Nat) (l7 : Option Nat) : xM (Option Nat) :=
  if l4 = none then (
    fJ29_put_2_p201 l0 l1 l2 l5 l6
  ) else (
    k30 l0 l1 l2 l3 l4 l7
  )
def fJ29_put_2_p95 (l2 : Option Nat) (l4 : Option Nat) (l8 : Option Nat) : xM (Option Nat) :=
  xbind (xput 36 1 l4 (va_rf l2)) fun _ =>
  xpure l8
def fJ29_put_2_p30 : Nat → Nat → Option Nat → Option Nat → Int32 → Option Nat → Option Nat → xM (Option Nat)
  | 0, _, _, _, _, _, _ => xstuck
  | n + 1, l0, l1, l2, l3, l4, l7 =>
    xbind (xgR 36 0 l4) fun v39 =>
    xbind (xsel l7 [(34, fun z => fX16_compare z l1 v39)]) fun v42 =>
    if 0 ≤ v42 then (
      if v42 ≤ 0 then (
        xbind (xgR 36 1 l4) fun v81 =>
        if l3 = 0 then (
          if v81 = none then (
            fJ29_put_2_p95 l2 l4 v81
          ) else (
            xpure v81
          )
        ) else (
          fJ29_put_2_p95 l2 l4 v81
        )
      ) else (
        xbind (xgR 36 3 l4) fun v71 =>
        fJ29_put_2_p104 (fJ29_put_2_p30 n) l0 l1 l2 l3 v71 v42 l4 l7
      )
    ) else (
      xbind (xgR 36 2 l4) fun v56 =>
      fJ29_put_2_p104 (fJ29_put_2_p30 n) l0 l1 l2 l3 v56 v42 l4 l7
    )
def fJ29_put_2_p196 (k123 : Nat → Option Nat → Option Nat → Int32 → Option Nat → Option Nat → xM (Option Nat)) (l0 : Nat) (l1 : Option Nat) (l2 : Option Nat) (l3 : Int32) (l4 : Option Nat) (l5 : Int32) (l6 : Option Nat) (l8 : Option Nat) : xM (Option Nat) :=
  if l4 = none then (
    fJ29_put_2_p201 l0 l1 l2 l5 l6
  ) else (
    k123 l0 l1 l2 l3 l4 l8
  )
def fJ29_put_2_p187 (l2 : Option Nat) (l4 : Option Nat) (l9 : Option Nat) : xM (Option Nat) :=
  xbind (xput 36 1 l4 (va_rf l2)) fun _ =>
  xpure l9
def fJ29_put_2_p123 : Nat → Nat → Option Nat → Option Nat → Int32 → Option Nat → Option Nat → xM (Option Nat)
  | 0, _, _, _, _, _, _ => xstuck
  | n + 1, l0, l1, l2, l3, l4, l8 =>
    xbind (xgR 36 0 l4) fun v131 =>
    xbind (xsel l8 [(15, fun z => fJ17_compareTo z v131)]) fun v134 =>
    if 0 ≤ v134 then (
      if v134 ≤ 0 then (
        xbind (xgR 36 1 l4) fun v173 =>
        if l3 = 0 then (
          if v173 = none then (
            fJ29_put_2_p187 l2 l4 v173
          ) else (
            xpure v173
          )
        ) else (
          fJ29_put_2_p187 l2 l4 v173
        )
      ) else (
        xbind (xgR 36 3 l4) fun v163 =>
        fJ29_put_2_p196 (fJ29_put_2_p123 n) l0 l1 l2 l3 v163 v134 l4 l8
      )
    ) else (
      xbind (xgR 36 2 l4) fun v148 =>
      fJ29_put_2_p196 (fJ29_put_2_p123 n) l0 l1 l2 l3 v148 v134 l4 l8
    )
def fJ29_put_2 (a0 : Nat) (p0 : Option Nat) (p1 : Option Nat) (p2 : Int32) : xM (Option Nat) :=
  xbind (xgR 16 3 (some a0)) fun v1 =>
  if v1 = none then (
    xbind (xsel (some a0) [(16, fun z => fJ29_addEntryToEmptyMap z p0 p1)]) fun _ =>
    xpure none
  ) else (
    xbind (xgR 16 2 (some a0)) fun v20 =>
    if v20 = none then (
      xbind (fJ25_requireNonNull p0) fun v113 =>
      xbind (xcst (fun c => c == 4 || c == 5 || c == 15 || c == 40 || c == 41 || c == 42 || c == 43 || c == 44 || c == 45 || c == 46 || c == 47 || c == 48 || c == 49 || c == 50 || c == 51 || c == 52) p0) fun _ =>
      fJ29_put_2_p123 xFU a0 p0 p1 p2 v1 p0
    ) else (
      fJ29_put_2_p30 xFU a0 p0 p1 p2 v1 v20
    )
  )
def fJ29_put (a0 : Nat) (p0 : Option Nat) (p1 : Option Nat) : xM (Option Nat) :=
  xbind (xsel (some a0) [(16, fun z => fJ29_put_2 z p0 p1 (1 : Int32))]) fun v4 =>
  xpure v4
def fX6_close (a0 : Nat) (p0 : Int32) : xM (Unit) :=
  xbind (xgR 19 2 (some a0)) fun v1 =>
  xbind (xsel v1 [(24, fun z => fX10_total z)]) fun v4 =>
  xbind (xgR 19 2 (some a0)) fun v9 =>
  xbind (xgR 19 1 (some a0)) fun v13 =>
  xbind (xgI 19 3 (some a0)) fun v17 =>
  xbind (xsel v9 [(24, fun z => fX10_close z v13 v17)]) fun _ =>
  xbind (xgR 19 2 (some a0)) fun v26 =>
  xbind (xgI 24 2 v26) fun v29 =>
  xbind (xsel (some a0) [(19, fun z => fX6_lose z v4 v29)]) fun _ =>
  xbind (xgR 19 6 (some a0)) fun v36 =>
  xbind (xgI 22 1 v36) fun v40 =>
  xbind (xgR 19 2 (some a0)) fun v44 =>
  xbind (xgI 24 3 v44) fun v47 =>
  xbind (xput 22 1 v36 (.int (v40 + v47))) fun _ =>
  xbind (xgR 19 6 (some a0)) fun v55 =>
  xbind (xgI 22 2 v55) fun v59 =>
  xbind (xgR 19 2 (some a0)) fun v64 =>
  xbind (xgI 24 2 v64) fun v67 =>
  xbind (xput 22 2 v55 (.int (v59 + (v4 - v67)))) fun _ =>
  xbind (xgR 19 6 (some a0)) fun v76 =>
  xbind (xgR 19 2 (some a0)) fun v80 =>
  xbind (xsel v80 [(24, fun z => fX10_total z)]) fun v83 =>
  xbind (xput 22 5 v76 (.int v83)) fun _ =>
  xbind (xgR 19 0 (some a0)) fun v90 =>
  xbind (xgR 20 5 v90) fun v93 =>
  xbind (fJ17_valueOf p0) fun v97 =>
  xbind (xgR 19 6 (some a0)) fun v101 =>
  xbind (xsel v93 [(16, fun z => fJ29_put z v97 v101)]) fun v104 =>
  xbind (xcst (fun c => c == 22) v104) fun _ =>
  xbind (xsel (some a0) [(19, fun z => fX6_begin z (p0 + (1 : Int32)))]) fun _ =>
  xpure ()
def fJ45_peek (a0 : Nat) : xM (Option Nat) :=
  xbind (xgR 33 0 (some a0)) fun v1 =>
  xbind (xldR v1 (0 : Int32)) fun v5 =>
  xpure v5
def fX6_add (a0 : Nat) (p0 : Int32) (p1 : Int32) : xM (Unit) :=
  xbind (xgR 19 2 (some a0)) fun v1 =>
  xbind (xgR 24 1 v1) fun v4 =>
  xbind (xldI 1 v4 p0) fun v9 =>
  xbind (xstI 1 v4 p0 (v9 + p1)) fun _ =>
  xbind (xgR 19 6 (some a0)) fun v14 =>
  xbind (xgI 22 4 v14) fun v18 =>
  xbind (xput 22 4 v14 (.int (v18 + p1))) fun _ =>
  xpure ()
def fX23_carryOut (a0 : Nat) (p0 : Option Nat) (p1 : Int32) (p2 : Int32) : xM (Unit) :=
  xbind (xsel p0 [(19, fun z => fX6_cohort z p1)]) fun v7 =>
  xbind (fJ12_min p2 ((1000000 : Int32) - v7)) fun v11 =>
  xbind (xsel p0 [(19, fun z => fX6_add z p1 v11)]) fun _ =>
  xpure ()
def fX6_take (a0 : Nat) (p0 : Int32) (p1 : Int32) : xM (Unit) :=
  xbind (xgR 19 2 (some a0)) fun v1 =>
  xbind (xsel v1 [(24, fun z => fX10_total z)]) fun v4 =>
  xbind (xgR 19 2 (some a0)) fun v9 =>
  xbind (xgR 24 1 v9) fun v12 =>
  xbind (xldI 1 v12 p0) fun v17 =>
  xbind (xstI 1 v12 p0 (v17 - p1)) fun _ =>
  xbind (xgR 19 6 (some a0)) fun v22 =>
  xbind (xgI 22 3 v22) fun v26 =>
  xbind (xput 22 3 v22 (.int (v26 + p1))) fun _ =>
  xbind (xsel (some a0) [(19, fun z => fX6_lose z v4 (v4 - p1))]) fun _ =>
  xpure ()
def fX24_carryOut (a0 : Nat) (p0 : Option Nat) (p1 : Int32) (p2 : Int32) : xM (Unit) :=
  xbind (xsel p0 [(19, fun z => fX6_cohort z p1)]) fun v5 =>
  xbind (xsel p0 [(19, fun z => fX6_left z)]) fun v9 =>
  xbind (fJ12_min v5 v9) fun v12 =>
  xbind (fJ12_min p2 v12) fun v15 =>
  xbind (xsel p0 [(19, fun z => fX6_take z p1 v15)]) fun _ =>
  xpure ()
def fX6_sick_p15 : Nat → Nat → Int32 → Int32 → Int32 → Int32 → Int32 → xM (Int32)
  | 0, _, _, _, _, _, _ => xstuck
  | n + 1, l0, l2, l3, l4, l5, l6 =>
    if l2 < l6 then (
      xbind (xgR 19 6 (some l0)) fun v67 =>
      xbind (xgI 22 2 v67) fun v71 =>
      xbind (xput 22 2 v67 (.int (v71 + l5))) fun _ =>
      xbind (xsel (some l0) [(19, fun z => fX6_lose z l4 (l4 - l5))]) fun _ =>
      xpure l5
    ) else (
      xbind (xsel (some l0) [(19, fun z => fX6_cohort z l6)]) fun v24 =>
      xdvJ (1000 : Int64) <|
      xlet (((v24.toInt64 * l3.toInt64) / (1000 : Int64)).toInt32) fun x7_36 =>
      xbind (xgR 19 2 (some l0)) fun v39 =>
      xbind (xgR 24 1 v39) fun v42 =>
      xbind (xldI 1 v42 l6) fun v48 =>
      xbind (xstI 1 v42 l6 (v48 - x7_36)) fun _ =>
      xlet (l5 + x7_36) fun x5_58 =>
      xlet (l6 + (1 : Int32)) fun x6_60 =>
      fX6_sick_p15 n l0 l2 l3 l4 x5_58 x6_60
    )
def fX6_sick (a0 : Nat) (p0 : Int32) (p1 : Int32) (p2 : Int32) : xM (Int32) :=
  xbind (xgR 19 2 (some a0)) fun v1 =>
  xbind (xsel v1 [(24, fun z => fX10_total z)]) fun v4 =>
  xlet (0 : Int32) fun x5_10 =>
  fX6_sick_p15 xFU a0 p1 p2 v4 x5_10 p0
def fX25_carryOut (a0 : Nat) (p0 : Option Nat) (p1 : Int32) (p2 : Int32) : xM (Unit) :=
  xbind (xsel p0 [(19, fun z => fX6_sick z p1 p1 p2)]) fun v4 =>
  xpure ()
def fJ19_isElementIndex (a0 : Nat) (p0 : Int32) : xM (Int32) :=
  if p0 < 0 then (
    xpure (0 : Int32)
  ) else (
    xbind (xgI 6 1 (some a0)) fun v6 =>
    if v6 ≤ p0 then (
      xpure (0 : Int32)
    ) else (
      xpure (1 : Int32)
    )
  )
def fJ19_checkElementIndex (a0 : Nat) (p0 : Int32) : xM (Unit) :=
  xbind (xsel (some a0) [(6, fun z => fJ19_isElementIndex z p0)]) fun v2 =>
  if v2 = 0 then (
    xstuck
  ) else (
    xpure ()
  )
def fJ19_get (a0 : Nat) (p0 : Int32) : xM (Option Nat) :=
  xbind (xsel (some a0) [(6, fun z => fJ19_checkElementIndex z p0)]) fun _ =>
  xbind (xsel (some a0) [(6, fun z => fJ19_node z p0)]) fun v7 =>
  xbind (xgR 25 0 v7) fun v10 =>
  xpure v10
def fJ19_unlink_p64 (l0 : Nat) (l1 : Option Nat) (l2 : Option Nat) : xM (Option Nat) :=
  xbind (xput 25 0 l1 (va_rf none)) fun _ =>
  xbind (xgI 6 1 (some l0)) fun v71 =>
  xbind (xput 6 1 (some l0) (.int (v71 - (1 : Int32)))) fun _ =>
  xbind (xgI 6 0 (some l0)) fun v81 =>
  xbind (xput 6 0 (some l0) (.int (v81 + (1 : Int32)))) fun _ =>
  xpure l2
def fJ19_unlink_p40 (l0 : Nat) (l1 : Option Nat) (l2 : Option Nat) (l3 : Option Nat) (l4 : Option Nat) : xM (Option Nat) :=
  if l3 = none then (
    xbind (xput 6 3 (some l0) (va_rf l4)) fun _ =>
    fJ19_unlink_p64 l0 l1 l2
  ) else (
    xbind (xput 25 2 l3 (va_rf l4)) fun _ =>
    xbind (xput 25 1 l1 (va_rf none)) fun _ =>
    fJ19_unlink_p64 l0 l1 l2
  )
def fJ19_unlink (a0 : Nat) (p0 : Option Nat) : xM (Option Nat) :=
  xbind (xgR 25 0 p0) fun v1 =>
  xbind (xgR 25 1 p0) fun v6 =>
  xbind (xgR 25 2 p0) fun v11 =>
  if v11 = none then (
    xbind (xput 6 2 (some a0) (va_rf v6)) fun _ =>
    fJ19_unlink_p40 a0 p0 v1 v6 v11
  ) else (
    xbind (xput 25 1 v11 (va_rf v6)) fun _ =>
    xbind (xput 25 2 p0 (va_rf none)) fun _ =>
    fJ19_unlink_p40 a0 p0 v1 v6 v11
  )
def fJ19_remove (a0 : Nat) (p0 : Int32) : xM (Option Nat) :=
  xbind (xsel (some a0) [(6, fun z => fJ19_checkElementIndex z p0)]) fun _ =>
  xbind (xsel (some a0) [(6, fun z => fJ19_node z p0)]) fun v8 =>
  xbind (xsel (some a0) [(6, fun z => fJ19_unlink z v8)]) fun v11 =>
  xpure v11
def fX2_drop_p2 : Nat → Nat → Option Nat → Int32 → xM (Unit)
  | 0, _, _, _ => xstuck
  | n + 1, l0, l1, l2 =>
    xbind (xgR 1 1 (some l0)) fun v3 =>
    xbind (xsel v3 [(6, fun z => fJ19_get z l2)]) fun v7 =>
    if v7 = l1 then (
      xbind (xgR 1 1 (some l0)) fun v21 =>
      xbind (xsel v21 [(6, fun z => fJ19_remove z l2)]) fun v25 =>
      xbind (xcst (fun c => c == 38) v25) fun _ =>
      xpure ()
    ) else (
      xlet (l2 + (1 : Int32)) fun x2_14 =>
      fX2_drop_p2 n l0 l1 x2_14
    )
def fX2_drop (a0 : Nat) (p0 : Option Nat) : xM (Unit) :=
  xlet (0 : Int32) fun x2_1 =>
  fX2_drop_p2 xFU a0 p0 x2_1
def fX2_close_p91 : Nat → Nat → Int32 → Option Nat → xM (Int32)
  | 0, _, _, _ => xstuck
  | n + 1, l0, l2, l3 =>
    xbind (xsel l3 [(7, fun z => fJ20_hasNext z)]) fun v92 =>
    if v92 = 0 then (
      xbind (xgI 1 2 (some l0)) fun v125 =>
      xbind (xput 1 2 (some l0) (.int (v125 + (1 : Int32)))) fun _ =>
      xbind (xgI 1 3 (some l0)) fun v135 =>
      xbind (xput 1 3 (some l0) (.int (v135 + (1 : Int32)))) fun _ =>
      xpure l2
    ) else (
      xbind (xsel l3 [(7, fun z => fJ20_next z)]) fun v101 =>
      xbind (xcst (fun c => c == 19) v101) fun _ =>
      xbind (xgI 1 2 (some l0)) fun v114 =>
      xbind (xsel v101 [(19, fun z => fX6_close z v114)]) fun _ =>
      fX2_close_p91 n l0 l2 l3
    )
def fX2_close_p81 (l0 : Nat) (l2 : Int32) : xM (Int32) :=
  xbind (xgR 1 0 (some l0)) fun v82 =>
  xbind (xsel v82 [(2, fun z => fJ2_iterator z)]) fun v85 =>
  fX2_close_p91 xFU l0 l2 v85
def fX2_close_p7 : Nat → Nat → Option Nat → Int32 → xM (Int32)
  | 0, _, _, _ => xstuck
  | n + 1, l0, l1, l2 =>
    xbind (xsel l1 [(33, fun z => fJ0_isEmpty__J45 z)]) fun v8 =>
    if v8 = 0 then (
      xbind (xsel l1 [(33, fun z => fJ45_peek z)]) fun v15 =>
      xbind (xcst (fun c => c == 38) v15) fun _ =>
      xbind (xgI 38 0 v15) fun v21 =>
      xbind (xgI 1 2 (some l0)) fun v25 =>
      if v21 = v25 then (
        xbind (xsel l1 [(33, fun z => fJ45_poll z)]) fun v32 =>
        xbind (xcst (fun c => c == 38) v32) fun _ =>
        xbind (xgR 38 1 v32) fun v40 =>
        xbind (xgR 1 0 (some l0)) fun v44 =>
        xbind (xgI 38 2 v32) fun v48 =>
        xbind (xsel v44 [(2, fun z => fJ2_get z v48)]) fun v51 =>
        xbind (xcst (fun c => c == 19) v51) fun _ =>
        xbind (xgI 38 3 v32) fun v60 =>
        xbind (xgI 38 4 v32) fun v64 =>
        xbind (xsel v40 [(50, fun z => fX23_carryOut z v51 v60 v64), (51, fun z => fX24_carryOut z v51 v60 v64), (52, fun z => fX25_carryOut z v51 v60 v64)]) fun _ =>
        xbind (xsel (some l0) [(1, fun z => fX2_drop z v32)]) fun _ =>
        xlet (l2 + (1 : Int32)) fun x2_75 =>
        fX2_close_p7 n l0 l1 x2_75
      ) else (
        fX2_close_p81 l0 l2
      )
    ) else (
      fX2_close_p81 l0 l2
    )
def fX2_close (a0 : Nat) : xM (Int32) :=
  xbind (xsel (some a0) [(1, fun z => fX2_queue z)]) fun v1 =>
  xlet (0 : Int32) fun x2_6 =>
  fX2_close_p7 xFU a0 v1 x2_6
def fX1_checkState (p0 : Int32) : xM (Unit) :=
  if p0 = 0 then (
    xbind (xmk 35) fun v4 =>
    xthrow (some v4)
  ) else (
    xpure ()
  )
def fJ30_init (a0 : Nat) (p0 : Option Nat) (p1 : Option Nat) (p2 : Option Nat) : xM (Unit) :=
  xbind (xput 25 0 (some a0) (va_rf p1)) fun _ =>
  xbind (xput 25 1 (some a0) (va_rf p2)) fun _ =>
  xbind (xput 25 2 (some a0) (va_rf p0)) fun _ =>
  xpure ()
def fJ19_linkLast_p38 (l0 : Nat) : xM (Unit) :=
  xbind (xgI 6 1 (some l0)) fun v40 =>
  xbind (xput 6 1 (some l0) (.int (v40 + (1 : Int32)))) fun _ =>
  xbind (xgI 6 0 (some l0)) fun v50 =>
  xbind (xput 6 0 (some l0) (.int (v50 + (1 : Int32)))) fun _ =>
  xpure ()
def fJ19_linkLast (a0 : Nat) (p0 : Option Nat) : xM (Unit) :=
  xbind (xgR 6 3 (some a0)) fun v1 =>
  xbind (xnew 25 [.null, .null, .null] 3) fun v5 =>
  xbind (fJ30_init v5 v1 p0 none) fun _ =>
  xbind (xput 6 3 (some a0) (va_rf (some v5))) fun _ =>
  if v1 = none then (
    xbind (xput 6 2 (some a0) (va_rf (some v5))) fun _ =>
    fJ19_linkLast_p38 a0
  ) else (
    xbind (xput 25 1 v1 (va_rf (some v5))) fun _ =>
    fJ19_linkLast_p38 a0
  )
def fJ19_addLast (a0 : Nat) (p0 : Option Nat) : xM (Unit) :=
  xbind (xsel (some a0) [(6, fun z => fJ19_linkLast z p0)]) fun _ =>
  xpure ()
def fJ19_add (a0 : Nat) (p0 : Option Nat) : xM (Int32) :=
  xbind (xsel (some a0) [(6, fun z => fJ19_linkLast z p0)]) fun _ =>
  xpure (1 : Int32)
def fJ27_newCapacity (a0 : Nat) (p0 : Int32) (p1 : Int32) : xM (Int32) :=
  xbind (xgR 23 0 (some a0)) fun v1 =>
  xbind (xlen v1) fun v4 =>
  xlet (v4 + p0) fun x_9 =>
  if (x_9 - (2147483639 : Int32)) ≤ 0 then (
    if p0 ≤ p1 then (
      if 0 ≤ ((v4 + p1) - (2147483639 : Int32)) then (
        xpure (2147483639 : Int32)
      ) else (
        xpure (v4 + p1)
      )
    ) else (
      xpure x_9
    )
  ) else (
    if 0 ≤ x_9 then (
      xpure (2147483647 : Int32)
    ) else (
      xstuck
    )
  )
def fJ27_grow_p145 : Nat → Option Nat → Int32 → Int32 → xM (Unit)
  | 0, _, _, _ => xstuck
  | n + 1, l5, l7, l8 =>
    if l8 ≤ l7 then (
      xpure ()
    ) else (
      xbind (xstR 5 xokObj l5 l7 none) fun _ =>
      xlet (l7 + (1 : Int32)) fun x7_158 =>
      fJ27_grow_p145 n l5 x7_158 l8
    )
def fJ27_grow_p96 (l0 : Nat) (l2 : Int32) (l3 : Int32) (l5 : Option Nat) : xM (Unit) :=
  xlet (l3 - l2) fun x6_99 =>
  xbind (xgI 23 1 (some l0)) fun v104 =>
  xbind (xgI 23 1 (some l0)) fun v110 =>
  xbind (xgI 23 1 (some l0)) fun v118 =>
  xbind (xcpR 5 xokObj l5 v104 l5 (v110 + x6_99) (l2 - v118)) fun _ =>
  xbind (xgI 23 1 (some l0)) fun v126 =>
  xbind (xgI 23 1 (some l0)) fun v133 =>
  xlet (v133 + x6_99) fun x_139 =>
  xbind (xput 23 1 (some l0) (.int x_139)) fun _ =>
  fJ27_grow_p145 xFU l5 v126 x_139
def fJ27_grow_p49 (l0 : Nat) (l2 : Int32) (l3 : Int32) : xM (Unit) :=
  xbind (xgR 23 0 (some l0)) fun v51 =>
  xbind (fJ13_copyOf_2 v51 l3) fun v55 =>
  xbind (xput 23 0 (some l0) (va_rf v55)) fun _ =>
  xbind (xgI 23 2 (some l0)) fun v65 =>
  xbind (xgI 23 1 (some l0)) fun v69 =>
  if v65 < v69 then (
    fJ27_grow_p96 l0 l2 l3 v55
  ) else (
    xbind (xgI 23 2 (some l0)) fun v76 =>
    xbind (xgI 23 1 (some l0)) fun v80 =>
    if v76 = v80 then (
      xbind (xgI 23 1 (some l0)) fun v89 =>
      xbind (xldR v55 v89) fun v92 =>
      if v92 = none then (
        xpure ()
      ) else (
        fJ27_grow_p96 l0 l2 l3 v55
      )
    ) else (
      xpure ()
    )
  )
def fJ27_grow_p41 (l0 : Nat) (l1 : Int32) (l2 : Int32) (l4 : Int32) : xM (Unit) :=
  xbind (xsel (some l0) [(23, fun z => fJ27_newCapacity z l1 l4)]) fun v45 =>
  fJ27_grow_p49 l0 l2 v45
def fJ27_grow_p21 (l0 : Nat) (l1 : Int32) (l2 : Int32) (s0 : Int32) : xM (Unit) :=
  if s0 < l1 then (
    fJ27_grow_p41 l0 l1 l2 s0
  ) else (
    xlet (l2 + s0) fun x_33 =>
    if (x_33 - (2147483639 : Int32)) ≤ 0 then (
      fJ27_grow_p49 l0 l2 x_33
    ) else (
      fJ27_grow_p41 l0 l1 l2 s0
    )
  )
def fJ27_grow (a0 : Nat) (p0 : Int32) : xM (Unit) :=
  xbind (xgR 23 0 (some a0)) fun v1 =>
  xbind (xlen v1) fun v4 =>
  if (64 : Int32) ≤ v4 then (
    fJ27_grow_p21 a0 p0 v4 (v4 >>> ((1 : Int32) &&& 31))
  ) else (
    fJ27_grow_p21 a0 p0 v4 (v4 + (2 : Int32))
  )
def fJ27_addLast (a0 : Nat) (p0 : Option Nat) : xM (Unit) :=
  if p0 = none then (
    xstuck
  ) else (
    xbind (xgR 23 0 (some a0)) fun v13 =>
    xbind (xgI 23 2 (some a0)) fun v19 =>
    xbind (xstR 5 xokObj v13 v19 p0) fun _ =>
    xbind (xgI 23 1 (some a0)) fun v25 =>
    xbind (xgI 23 2 (some a0)) fun v30 =>
    xbind (xlen v13) fun v34 =>
    xbind (fJ27_inc v30 v34) fun v35 =>
    xbind (xput 23 2 (some a0) (.int v35)) fun _ =>
    if v25 = v35 then (
      xbind (xsel (some a0) [(23, fun z => fJ27_grow z (1 : Int32))]) fun _ =>
      xpure ()
    ) else (
      xpure ()
    )
  )
def fX9_copy (a0 : Nat) : xM (Option Nat) :=
  xbind (xnew 22 [.int 0, .int 0, .int 0, .int 0, .int 0, .int 0, .int 0] 7) fun v0 =>
  xbind (xgI 22 0 (some a0)) fun v5 =>
  xbind (fX9_init v0 v5) fun _ =>
  xbind (xgI 22 1 (some a0)) fun v14 =>
  xbind (xput 22 1 (some v0) (.int v14)) fun _ =>
  xbind (xgI 22 2 (some a0)) fun v22 =>
  xbind (xput 22 2 (some v0) (.int v22)) fun _ =>
  xbind (xgI 22 3 (some a0)) fun v30 =>
  xbind (xput 22 3 (some v0) (.int v30)) fun _ =>
  xbind (xgI 22 4 (some a0)) fun v38 =>
  xbind (xput 22 4 (some v0) (.int v38)) fun _ =>
  xbind (xgI 22 5 (some a0)) fun v46 =>
  xbind (xput 22 5 (some v0) (.int v46)) fun _ =>
  xbind (xgI 22 6 (some a0)) fun v54 =>
  xbind (xput 22 6 (some v0) (.int v54)) fun _ =>
  xpure (some v0)
def fX6_copy_p81 : Nat → Nat → Option Nat → xM (Option Nat)
  | 0, _, _ => xstuck
  | n + 1, l1, l2 =>
    xbind (xsel l2 [(12, fun z => fJ41_hasNext z)]) fun v82 =>
    if v82 = 0 then (
      xpure (some l1)
    ) else (
      xbind (xsel l2 [(12, fun z => fJ41_next z)]) fun v91 =>
      xbind (xcst (fun c => c == 37) v91) fun _ =>
      xbind (xgR 19 7 (some l1)) fun v101 =>
      xbind (xsel v101 [(23, fun z => fJ27_addLast z v91)]) fun _ =>
      fX6_copy_p81 n l1 l2
    )
def fX6_copy (a0 : Nat) : xM (Option Nat) :=
  xbind (xnew 19 [.null, .null, .null, .int 0, .int 0, .int 0, .null, .null] 8) fun v0 =>
  xbind (xgR 19 0 (some a0)) fun v5 =>
  xbind (fX6_init v0 v5) fun _ =>
  xbind (xgR 19 1 (some a0)) fun v13 =>
  xbind (xgR 19 1 (some v0)) fun v18 =>
  xbind (xcpI 1 .int v13 (0 : Int32) v18 (0 : Int32) (13 : Int32)) fun _ =>
  xbind (xgR 19 2 (some v0)) fun v28 =>
  xbind (xgR 19 2 (some a0)) fun v32 =>
  xbind (xsel v28 [(24, fun z => fX10_become z v32)]) fun _ =>
  xbind (xgI 19 3 (some a0)) fun v40 =>
  xbind (xput 19 3 (some v0) (.int v40)) fun _ =>
  xbind (xgI 19 4 (some a0)) fun v48 =>
  xbind (xput 19 4 (some v0) (.int v48)) fun _ =>
  xbind (xgI 19 5 (some a0)) fun v56 =>
  xbind (xpN 19 5 .boolean (some v0) v56) fun _ =>
  xbind (xgR 19 6 (some a0)) fun v64 =>
  xbind (xsel v64 [(22, fun z => fX9_copy z)]) fun v67 =>
  xbind (xput 19 6 (some v0) (va_rf v67)) fun _ =>
  xbind (xgR 19 7 (some a0)) fun v74 =>
  xbind (xsel v74 [(23, fun z => fJ27_iterator z)]) fun v77 =>
  fX6_copy_p81 xFU v0 v77
def fX2_copy_p62 : Nat → Nat → Nat → Option Nat → xM (Option Nat)
  | 0, _, _, _ => xstuck
  | n + 1, l0, l1, l2 =>
    xbind (xsel l2 [(9, fun z => fJ24_hasNext z)]) fun v63 =>
    if v63 = 0 then (
      xbind (xgI 1 2 (some l0)) fun v95 =>
      xbind (xput 1 2 (some l1) (.int v95)) fun _ =>
      xbind (xgI 1 3 (some l0)) fun v103 =>
      xbind (xput 1 3 (some l1) (.int v103)) fun _ =>
      xbind (xgI 1 4 (some l0)) fun v111 =>
      xbind (xput 1 4 (some l1) (.int v111)) fun _ =>
      xpure (some l1)
    ) else (
      xbind (xsel l2 [(9, fun z => fJ24_next z)]) fun v72 =>
      xbind (xcst (fun c => c == 38) v72) fun _ =>
      xbind (xgR 1 1 (some l1)) fun v82 =>
      xbind (xsel v82 [(6, fun z => fJ19_add z v72)]) fun v86 =>
      fX2_copy_p62 n l0 l1 l2
    )
def fX2_copy_p18 : Nat → Nat → Nat → Option Nat → xM (Option Nat)
  | 0, _, _, _ => xstuck
  | n + 1, l0, l1, l2 =>
    xbind (xsel l2 [(7, fun z => fJ20_hasNext z)]) fun v19 =>
    if v19 = 0 then (
      xbind (xgR 1 1 (some l0)) fun v55 =>
      xbind (xsel v55 [(6, fun z => fJ18_iterator__J19 z)]) fun v58 =>
      fX2_copy_p62 xFU l0 l1 v58
    ) else (
      xbind (xsel l2 [(7, fun z => fJ20_next z)]) fun v28 =>
      xbind (xcst (fun c => c == 19) v28) fun _ =>
      xbind (xgR 1 0 (some l1)) fun v38 =>
      xbind (xsel v28 [(19, fun z => fX6_copy z)]) fun v42 =>
      xbind (xsel v38 [(2, fun z => fJ2_add z v42)]) fun v45 =>
      fX2_copy_p18 n l0 l1 l2
    )
def fX2_copy (a0 : Nat) : xM (Option Nat) :=
  xbind (xnew 1 [.null, .null, .int 0, .int 0, .int 0] 5) fun v0 =>
  xbind (fX2_init v0) fun _ =>
  xbind (xgR 1 0 (some a0)) fun v9 =>
  xbind (xsel v9 [(2, fun z => fJ2_iterator z)]) fun v12 =>
  fX2_copy_p18 xFU a0 v0 v12
def fJ19_unlinkFirst_p42 (l0 : Nat) (l2 : Option Nat) : xM (Option Nat) :=
  xbind (xgI 6 1 (some l0)) fun v44 =>
  xbind (xput 6 1 (some l0) (.int (v44 - (1 : Int32)))) fun _ =>
  xbind (xgI 6 0 (some l0)) fun v54 =>
  xbind (xput 6 0 (some l0) (.int (v54 + (1 : Int32)))) fun _ =>
  xpure l2
def fJ19_unlinkFirst (a0 : Nat) (p0 : Option Nat) : xM (Option Nat) :=
  xbind (xgR 25 0 p0) fun v1 =>
  xbind (xgR 25 1 p0) fun v6 =>
  xbind (xput 25 0 p0 (va_rf none)) fun _ =>
  xbind (xput 25 1 p0 (va_rf none)) fun _ =>
  xbind (xput 6 2 (some a0) (va_rf v6)) fun _ =>
  if v6 = none then (
    xbind (xput 6 3 (some a0) (va_rf none)) fun _ =>
    fJ19_unlinkFirst_p42 a0 v1
  ) else (
    xbind (xput 25 2 v6 (va_rf none)) fun _ =>
    fJ19_unlinkFirst_p42 a0 v1
  )
def fJ19_removeFirst (a0 : Nat) : xM (Option Nat) :=
  xbind (xgR 6 2 (some a0)) fun v1 =>
  if v1 = none then (
    xstuck
  ) else (
    xbind (xsel (some a0) [(6, fun z => fJ19_unlinkFirst z v1)]) fun v19 =>
    xpure v19
  )
def fX1_record_p20 (l0 : Nat) : xM (Option Nat) :=
  xbind (xgR 0 5 (some l0)) fun v21 =>
  xbind (xgR 0 4 (some l0)) fun v25 =>
  xbind (xsel v21 [(6, fun z => fJ19_addLast z v25)]) fun _ =>
  xbind (xgR 0 4 (some l0)) fun v33 =>
  xbind (xsel v33 [(1, fun z => fX2_copy z)]) fun v36 =>
  xbind (xput 0 4 (some l0) (va_rf v36)) fun _ =>
  xbind (xgR 0 4 (some l0)) fun v43 =>
  xpure v43
def fX1_record (a0 : Nat) : xM (Option Nat) :=
  xbind (xgR 0 5 (some a0)) fun v1 =>
  xbind (xsel v1 [(6, fun z => fJ19_size z)]) fun v4 =>
  if v4 = (8 : Int32) then (
    xbind (xgR 0 5 (some a0)) fun v13 =>
    xbind (xsel v13 [(6, fun z => fJ19_removeFirst z)]) fun v16 =>
    fX1_record_p20 a0
  ) else (
    fX1_record_p20 a0
  )
def fX1_pass_p43 : Nat → Int32 → Option Nat → Int32 → Int32 → xM (Int32)
  | 0, _, _, _, _ => xstuck
  | n + 1, l1, l2, l3, l4 =>
    if l1 ≤ l4 then (
      xpure l3
    ) else (
      xbind (xsel l2 [(1, fun z => fX2_close z)]) fun v51 =>
      xlet (l3 + v51) fun x3_55 =>
      xlet (l4 + (1 : Int32)) fun x4_56 =>
      fX1_pass_p43 n l1 l2 x3_55 x4_56
    )
def fX1_pass_p30 (l0 : Nat) (l1 : Int32) (s0 : Int32) : xM (Int32) :=
  xbind (fX1_checkState s0) fun _ =>
  xbind (xsel (some l0) [(0, fun z => fX1_record z)]) fun v34 =>
  xlet (0 : Int32) fun x3_39 =>
  xlet (0 : Int32) fun x4_41 =>
  fX1_pass_p43 xFU l1 v34 x3_39 x4_41
def fX1_pass (a0 : Nat) (p0 : Int32) : xM (Int32) :=
  xbind (fX1_inRange p0 (1 : Int32) (50 : Int32)) fun v4 =>
  xbind (fX1_checkArgument v4) fun _ =>
  xbind (xgR 0 4 (some a0)) fun v11 =>
  xbind (xgI 1 2 v11) fun v14 =>
  if (9999 : Int32) < (v14 + p0) then (
    fX1_pass_p30 a0 p0 (0 : Int32)
  ) else (
    fX1_pass_p30 a0 p0 (1 : Int32)
  )
def fX0_pass (p0 : Option Nat) (p1 : Int32) (p2 : Option Nat) : xM (Int32) :=
  xtry (xsel p0 [(0, fun z => fX1_pass z p1)]) (fun v4 =>
    xbind (xstJ 2 p2 (0 : Int32) v4.toInt64) fun _ =>
    xpure (0 : Int32)
  ) (fun q => xsel (some q) [
      (3, fun _ =>
        xpure (1 : Int32)
      ),
      (35, fun _ =>
        xpure (2 : Int32)
      )
      ]
  )
def fX1_changed (a0 : Nat) (p0 : Int32) : xM (Option Nat) :=
  xbind (xsel (some a0) [(0, fun z => fX1_record z)]) fun v1 =>
  xbind (xgR 1 0 v1) fun v4 =>
  xbind (xsel v4 [(2, fun z => fJ2_get z p0)]) fun v8 =>
  xbind (xcst (fun c => c == 19) v8) fun _ =>
  xpure v8
def fX1_take_p45 (l0 : Nat) (l1 : Int32) (l2 : Int32) (l3 : Int32) (s0 : Int32) : xM (Int32) :=
  xbind (fX1_checkState s0) fun _ =>
  xbind (xsel (some l0) [(0, fun z => fX1_changed z l1)]) fun v50 =>
  xbind (xsel v50 [(19, fun z => fX6_take z l2 l3)]) fun _ =>
  xbind (xsel v50 [(19, fun z => fX6_left z)]) fun v64 =>
  xpure v64
def fX1_take_p44 (l0 : Nat) (l1 : Int32) (l2 : Int32) (l3 : Int32) : xM (Int32) :=
  fX1_take_p45 l0 l1 l2 l3 (0 : Int32)
def fX1_take_p18 (l0 : Nat) (l1 : Int32) (l2 : Int32) (l3 : Int32) (l4 : Option Nat) (s0 : Int32) : xM (Int32) :=
  xbind (fX1_checkArgument s0) fun _ =>
  xbind (xsel l4 [(19, fun z => fX6_cohort z l2)]) fun v25 =>
  if v25 < l3 then (
    fX1_take_p44 l0 l1 l2 l3
  ) else (
    xbind (xsel l4 [(19, fun z => fX6_left z)]) fun v34 =>
    if v34 < l3 then (
      fX1_take_p44 l0 l1 l2 l3
    ) else (
      fX1_take_p45 l0 l1 l2 l3 (1 : Int32)
    )
  )
def fX1_take (a0 : Nat) (p0 : Int32) (p1 : Int32) (p2 : Int32) : xM (Int32) :=
  xbind (xsel (some a0) [(0, fun z => fX1_herdWith z p0 p1)]) fun v3 =>
  if p2 < (1 : Int32) then (
    fX1_take_p18 a0 p0 p1 p2 v3 (0 : Int32)
  ) else (
    fX1_take_p18 a0 p0 p1 p2 v3 (1 : Int32)
  )
def fX0_take (p0 : Option Nat) (p1 : Int32) (p2 : Int32) (p3 : Int32) (p4 : Option Nat) : xM (Int32) :=
  xtry (xsel p0 [(0, fun z => fX1_take z p1 p2 p3)]) (fun v7 =>
    xbind (xstJ 2 p4 (0 : Int32) v7.toInt64) fun _ =>
    xpure (0 : Int32)
  ) (fun q => xsel (some q) [
      (8, fun _ =>
        xpure (1 : Int32)
      ),
      (3, fun _ =>
        xpure (2 : Int32)
      ),
      (35, fun _ =>
        xpure (3 : Int32)
      )
      ]
  )
def fX1_add_p40 (l0 : Nat) (l1 : Int32) (l2 : Int32) (l3 : Int32) (s0 : Int32) : xM (Int32) :=
  xbind (fX1_checkState s0) fun _ =>
  xbind (xsel (some l0) [(0, fun z => fX1_changed z l1)]) fun v45 =>
  xbind (xsel v45 [(19, fun z => fX6_add z l2 l3)]) fun _ =>
  xbind (xgR 19 2 v45) fun v59 =>
  xbind (xsel v59 [(24, fun z => fX10_total z)]) fun v62 =>
  xpure v62
def fX1_add_p18 (l0 : Nat) (l1 : Int32) (l2 : Int32) (l3 : Int32) (l4 : Option Nat) (s0 : Int32) : xM (Int32) :=
  xbind (fX1_checkArgument s0) fun _ =>
  xbind (xsel l4 [(19, fun z => fX6_cohort z l2)]) fun v28 =>
  if ((1000000 : Int32) - v28) < l3 then (
    fX1_add_p40 l0 l1 l2 l3 (0 : Int32)
  ) else (
    fX1_add_p40 l0 l1 l2 l3 (1 : Int32)
  )
def fX1_add (a0 : Nat) (p0 : Int32) (p1 : Int32) (p2 : Int32) : xM (Int32) :=
  xbind (xsel (some a0) [(0, fun z => fX1_herdWith z p0 p1)]) fun v3 =>
  if p2 < (1 : Int32) then (
    fX1_add_p18 a0 p0 p1 p2 v3 (0 : Int32)
  ) else (
    fX1_add_p18 a0 p0 p1 p2 v3 (1 : Int32)
  )
def fX0_add (p0 : Option Nat) (p1 : Int32) (p2 : Int32) (p3 : Int32) (p4 : Option Nat) : xM (Int32) :=
  xtry (xsel p0 [(0, fun z => fX1_add z p1 p2 p3)]) (fun v7 =>
    xbind (xstJ 2 p4 (0 : Int32) v7.toInt64) fun _ =>
    xpure (0 : Int32)
  ) (fun q => xsel (some q) [
      (8, fun _ =>
        xpure (1 : Int32)
      ),
      (3, fun _ =>
        xpure (2 : Int32)
      ),
      (35, fun _ =>
        xpure (3 : Int32)
      )
      ]
  )
def fX1_sick_p41 (l0 : Nat) (l1 : Int32) (l2 : Int32) (l3 : Int32) (l4 : Int32) (s0 : Int32) : xM (Int32) :=
  xbind (fX1_checkArgument s0) fun _ =>
  xbind (xsel (some l0) [(0, fun z => fX1_changed z l1)]) fun v46 =>
  xbind (xsel v46 [(19, fun z => fX6_sick z l2 l3 l4)]) fun v53 =>
  xpure v53
def fX1_sick_p40 (l0 : Nat) (l1 : Int32) (l2 : Int32) (l3 : Int32) (l4 : Int32) : xM (Int32) :=
  fX1_sick_p41 l0 l1 l2 l3 l4 (0 : Int32)
def fX1_sick (a0 : Nat) (p0 : Int32) (p1 : Int32) (p2 : Int32) (p3 : Int32) : xM (Int32) :=
  xbind (xsel (some a0) [(0, fun z => fX1_herdWith z p0 p1)]) fun v3 =>
  xbind (xgR 19 0 v3) fun v12 =>
  xbind (xgI 20 1 v12) fun v15 =>
  xbind (fX1_inRange p2 p1 v15) fun v18 =>
  if v18 = 0 then (
    fX1_sick_p40 a0 p0 p1 p2 p3
  ) else (
    xbind (fX1_inRange p3 (0 : Int32) (1000 : Int32)) fun v30 =>
    if v30 = 0 then (
      fX1_sick_p40 a0 p0 p1 p2 p3
    ) else (
      fX1_sick_p41 a0 p0 p1 p2 p3 (1 : Int32)
    )
  )
def fX0_sick (p0 : Option Nat) (p1 : Int32) (p2 : Int32) (p3 : Int32) (p4 : Int32) (p5 : Option Nat) : xM (Int32) :=
  xtry (xsel p0 [(0, fun z => fX1_sick z p1 p2 p3 p4)]) (fun v9 =>
    xbind (xstJ 2 p5 (0 : Int32) v9.toInt64) fun _ =>
    xpure (0 : Int32)
  ) (fun q => xsel (some q) [
      (8, fun _ =>
        xpure (1 : Int32)
      ),
      (3, fun _ =>
        xpure (2 : Int32)
      )
      ]
  )
def fX1_mark_p40 (l0 : Nat) (l1 : Int32) (l2 : Int32) (s0 : Int32) : xM (Int32) :=
  xbind (fX1_checkState s0) fun _ =>
  xbind (xsel (some l0) [(0, fun z => fX1_changed z l1)]) fun v45 =>
  xbind (xgI 19 4 v45) fun v53 =>
  xbind (xput 19 4 v45 (.int (v53 + l2))) fun _ =>
  xbind (xgI 19 4 v45) fun v63 =>
  xpure v63
def fX1_mark_p16 (l0 : Nat) (l1 : Int32) (l2 : Int32) (l3 : Option Nat) (s0 : Int32) : xM (Int32) :=
  xbind (fX1_checkArgument s0) fun _ =>
  xbind (xgR 19 2 l3) fun v21 =>
  xbind (xsel v21 [(24, fun z => fX10_total z)]) fun v24 =>
  xbind (xgI 19 4 l3) fun v28 =>
  if (v24 - v28) < l2 then (
    fX1_mark_p40 l0 l1 l2 (0 : Int32)
  ) else (
    fX1_mark_p40 l0 l1 l2 (1 : Int32)
  )
def fX1_mark (a0 : Nat) (p0 : Int32) (p1 : Int32) : xM (Int32) :=
  xbind (xsel (some a0) [(0, fun z => fX1_herd z p0)]) fun v2 =>
  if p1 < (1 : Int32) then (
    fX1_mark_p16 a0 p0 p1 v2 (0 : Int32)
  ) else (
    fX1_mark_p16 a0 p0 p1 v2 (1 : Int32)
  )
def fX0_mark (p0 : Option Nat) (p1 : Int32) (p2 : Int32) (p3 : Option Nat) : xM (Int32) :=
  xtry (xsel p0 [(0, fun z => fX1_mark z p1 p2)]) (fun v5 =>
    xbind (xstJ 2 p3 (0 : Int32) v5.toInt64) fun _ =>
    xpure (0 : Int32)
  ) (fun q => xsel (some q) [
      (8, fun _ =>
        xpure (1 : Int32)
      ),
      (3, fun _ =>
        xpure (2 : Int32)
      ),
      (35, fun _ =>
        xpure (3 : Int32)
      )
      ]
  )
def fX17_init (a0 : Nat) (p0 : Int32) (p1 : Int32) (p2 : Int32) (p3 : Int32) : xM (Unit) :=
  xbind (xput 37 0 (some a0) (.int p0)) fun _ =>
  xbind (xput 37 1 (some a0) (.int p1)) fun _ =>
  xbind (xput 37 2 (some a0) (.int p2)) fun _ =>
  xbind (xput 37 3 (some a0) (.int p3)) fun _ =>
  xpure ()
def fJ27_dec (p0 : Int32) (p1 : Int32) : xM (Int32) :=
  xlet (p0 + (-1 : Int32)) fun x0_0 =>
  if 0 ≤ x0_0 then (
    xpure x0_0
  ) else (
    xlet (p1 - (1 : Int32)) fun x0_10 =>
    xpure x0_10
  )
def fJ27_addFirst (a0 : Nat) (p0 : Option Nat) : xM (Unit) :=
  if p0 = none then (
    xstuck
  ) else (
    xbind (xgR 23 0 (some a0)) fun v13 =>
    xbind (xgI 23 1 (some a0)) fun v20 =>
    xbind (xlen v13) fun v24 =>
    xbind (fJ27_dec v20 v24) fun v25 =>
    xbind (xput 23 1 (some a0) (.int v25)) fun _ =>
    xbind (xstR 5 xokObj v13 v25 p0) fun _ =>
    xbind (xgI 23 1 (some a0)) fun v35 =>
    xbind (xgI 23 2 (some a0)) fun v39 =>
    if v35 = v39 then (
      xbind (xsel (some a0) [(23, fun z => fJ27_grow z (1 : Int32))]) fun _ =>
      xpure ()
    ) else (
      xpure ()
    )
  )
def fJ27_elementAt (p0 : Option Nat) (p1 : Int32) : xM (Option Nat) :=
  xbind (xldR p0 p1) fun v2 =>
  xpure v2
def fJ27_pollLast (a0 : Nat) : xM (Option Nat) :=
  xbind (xgR 23 0 (some a0)) fun v1 =>
  xbind (xgI 23 2 (some a0)) fun v7 =>
  xbind (xlen v1) fun v11 =>
  xbind (fJ27_dec v7 v11) fun v12 =>
  xbind (fJ27_elementAt v1 v12) fun v17 =>
  if v17 = none then (
    xpure v17
  ) else (
    xbind (xput 23 2 (some a0) (.int v12)) fun _ =>
    xbind (xstR 5 xokObj v1 v12 none) fun _ =>
    xpure v17
  )
def fJ27_removeLast (a0 : Nat) : xM (Option Nat) :=
  xbind (xsel (some a0) [(23, fun z => fJ27_pollLast z)]) fun v1 =>
  if v1 = none then (
    xstuck
  ) else (
    xpure v1
  )
def fX1_survey_p99 (l0 : Nat) (l2 : Int32) (l3 : Int32) (l6 : Option Nat) : xM (Int64) :=
  xbind (xnew 37 [.int 0, .int 0, .int 0, .int 0] 4) fun v99 =>
  xbind (xgR 0 4 (some l0)) fun v104 =>
  xbind (xgI 1 2 v104) fun v107 =>
  xbind (xgI 19 4 l6) fun v112 =>
  xbind (fX17_init v99 v107 v112 l2 l3) fun _ =>
  xbind (xgR 19 7 l6) fun v124 =>
  xbind (xsel v124 [(23, fun z => fJ27_addFirst z (some v99))]) fun _ =>
  xbind (xsel (some v99) [(37, fun z => fX17_estimate z)]) fun v134 =>
  xpure v134
def fX1_survey_p63 (l0 : Nat) (l1 : Int32) (l2 : Int32) (l3 : Int32) (s0 : Int32) : xM (Int64) :=
  xbind (fX1_checkArgument s0) fun _ =>
  xbind (xsel (some l0) [(0, fun z => fX1_changed z l1)]) fun v68 =>
  xbind (xgR 19 7 v68) fun v75 =>
  xbind (xsel v75 [(23, fun z => fJ27_size z)]) fun v78 =>
  if v78 = (20 : Int32) then (
    xbind (xgR 19 7 v68) fun v88 =>
    xbind (xsel v88 [(23, fun z => fJ27_removeLast z)]) fun v91 =>
    xbind (xcst (fun c => c == 37) v91) fun _ =>
    fX1_survey_p99 l0 l2 l3 v68
  ) else (
    fX1_survey_p99 l0 l2 l3 v68
  )
def fX1_survey_p62 (l0 : Nat) (l1 : Int32) (l2 : Int32) (l3 : Int32) : xM (Int64) :=
  fX1_survey_p63 l0 l1 l2 l3 (0 : Int32)
def fX1_survey (a0 : Nat) (p0 : Int32) (p1 : Int32) (p2 : Int32) : xM (Int64) :=
  xbind (xsel (some a0) [(0, fun z => fX1_herd z p0)]) fun v2 =>
  xbind (xgR 19 2 v2) fun v9 =>
  xbind (xsel v9 [(24, fun z => fX10_total z)]) fun v12 =>
  xbind (fX1_inRange p1 (1 : Int32) v12) fun v21 =>
  if v21 = 0 then (
    fX1_survey_p62 a0 p0 p1 p2
  ) else (
    xbind (xgI 19 4 v2) fun v32 =>
    xbind (fJ12_min p1 v32) fun v35 =>
    xbind (fX1_inRange p2 (0 : Int32) v35) fun v38 =>
    if v38 = 0 then (
      fX1_survey_p62 a0 p0 p1 p2
    ) else (
      xbind (xgI 19 4 v2) fun v51 =>
      if (v12 - v51) < (p1 - p2) then (
        fX1_survey_p62 a0 p0 p1 p2
      ) else (
        fX1_survey_p63 a0 p0 p1 p2 (1 : Int32)
      )
    )
  )
def fX0_survey (p0 : Option Nat) (p1 : Int32) (p2 : Int32) (p3 : Int32) (p4 : Option Nat) : xM (Int32) :=
  xtry (xsel p0 [(0, fun z => fX1_survey z p1 p2 p3)]) (fun v7 =>
    xbind (xstJ 2 p4 (0 : Int32) v7) fun _ =>
    xpure (0 : Int32)
  ) (fun q => xsel (some q) [
      (8, fun _ =>
        xpure (1 : Int32)
      ),
      (3, fun _ =>
        xpure (2 : Int32)
      )
      ]
  )
def fX1_kindOf (p0 : Int32) : xM (Option Nat) :=
  if p0 = 0 then (
    xbind (xcon 10) fun v4 =>
    xpure v4
  ) else (
    if p0 = (1 : Int32) then (
      xbind (xcon 11) fun v15 =>
      xpure v15
    ) else (
      xbind (xcon 12) fun v21 =>
      xpure v21
    )
  )
def fX18_init (a0 : Nat) (p0 : Int32) (p1 : Option Nat) (p2 : Int32) (p3 : Int32) (p4 : Int32) (p5 : Int32) : xM (Unit) :=
  xbind (xput 38 0 (some a0) (.int p0)) fun _ =>
  xbind (xput 38 1 (some a0) (va_rf p1)) fun _ =>
  xbind (xput 38 2 (some a0) (.int p2)) fun _ =>
  xbind (xput 38 3 (some a0) (.int p3)) fun _ =>
  xbind (xput 38 4 (some a0) (.int p4)) fun _ =>
  xbind (xput 38 5 (some a0) (.int p5)) fun _ =>
  xpure ()
def fX1_plan_p154 : Nat → Option Nat → Nat → Int32 → xM (Int32)
  | 0, _, _, _ => xstuck
  | n + 1, l8, l9, l10 =>
    xbind (xsel l8 [(1, fun z => fX2_planAt z l10)]) fun v158 =>
    if v158 = (some l9) then (
      xpure l10
    ) else (
      xlet (l10 + (1 : Int32)) fun x10_166 =>
      fX1_plan_p154 n l8 l9 x10_166
    )
def fX1_plan_p96 (l0 : Nat) (l1 : Int32) (l2 : Int32) (l3 : Int32) (l4 : Int32) (l5 : Int32) (s0 : Int32) : xM (Int32) :=
  xbind (fX1_checkState s0) fun _ =>
  xbind (xsel (some l0) [(0, fun z => fX1_record z)]) fun v100 =>
  xbind (xnew 38 [.int 0, .null, .int 0, .int 0, .int 0, .int 0] 6) fun v105 =>
  xbind (fX1_kindOf l2) fun v111 =>
  xbind (xgI 1 4 v100) fun v121 =>
  xbind (fX18_init v105 l1 v111 l3 l4 l5 v121) fun _ =>
  xbind (xgI 1 4 v100) fun v132 =>
  xbind (xput 1 4 v100 (.int (v132 + (1 : Int32)))) fun _ =>
  xbind (xgR 1 1 v100) fun v142 =>
  xbind (xsel v142 [(6, fun z => fJ19_add z (some v105))]) fun v147 =>
  xlet (0 : Int32) fun x10_152 =>
  fX1_plan_p154 xFU v100 v105 x10_152
def fX1_plan_p73 (l0 : Nat) (l1 : Int32) (l2 : Int32) (l3 : Int32) (l4 : Int32) (l5 : Int32) (s0 : Int32) : xM (Int32) :=
  xbind (fX1_checkArgument s0) fun _ =>
  xbind (xgR 0 4 (some l0)) fun v77 =>
  xbind (xgR 1 1 v77) fun v80 =>
  xbind (xsel v80 [(6, fun z => fJ19_size z)]) fun v83 =>
  if (12 : Int32) ≤ v83 then (
    fX1_plan_p96 l0 l1 l2 l3 l4 l5 (0 : Int32)
  ) else (
    fX1_plan_p96 l0 l1 l2 l3 l4 l5 (1 : Int32)
  )
def fX1_plan_p72 (l0 : Nat) (l1 : Int32) (l2 : Int32) (l3 : Int32) (l4 : Int32) (l5 : Int32) : xM (Int32) :=
  fX1_plan_p73 l0 l1 l2 l3 l4 l5 (0 : Int32)
def fX1_plan_p35 (l0 : Nat) (l1 : Int32) (l2 : Int32) (l3 : Int32) (l4 : Int32) (l5 : Int32) (s0 : Int32) : xM (Int32) :=
  xbind (xgR 0 4 (some l0)) fun v39 =>
  xbind (xgI 1 2 v39) fun v42 =>
  xbind (fX1_inRange l1 v42 (9999 : Int32)) fun v48 =>
  if v48 = 0 then (
    fX1_plan_p72 l0 l1 l2 l3 l4 l5
  ) else (
    xbind (fX1_inRange l2 (0 : Int32) (2 : Int32)) fun v57 =>
    if v57 = 0 then (
      fX1_plan_p72 l0 l1 l2 l3 l4 l5
    ) else (
      if s0 = 0 then (
        fX1_plan_p72 l0 l1 l2 l3 l4 l5
      ) else (
        fX1_plan_p73 l0 l1 l2 l3 l4 l5 (1 : Int32)
      )
    )
  )
def fX1_plan (a0 : Nat) (p0 : Int32) (p1 : Int32) (p2 : Int32) (p3 : Int32) (p4 : Int32) : xM (Int32) :=
  xbind (xsel (some a0) [(0, fun z => fX1_herdWith z p2 p3)]) fun v4 =>
  if p1 = (2 : Int32) then (
    xbind (fX1_inRange p4 (0 : Int32) (1000 : Int32)) fun v20 =>
    fX1_plan_p35 a0 p0 p1 p2 p3 p4 v20
  ) else (
    xbind (fX1_inRange p4 (1 : Int32) (1000000 : Int32)) fun v32 =>
    fX1_plan_p35 a0 p0 p1 p2 p3 p4 v32
  )
def fX0_plan (p0 : Option Nat) (p1 : Int32) (p2 : Int32) (p3 : Int32) (p4 : Int32) (p5 : Int32) (p6 : Option Nat) : xM (Int32) :=
  xtry (xsel p0 [(0, fun z => fX1_plan z p1 p2 p3 p4 p5)]) (fun v11 =>
    xbind (xstJ 2 p6 (0 : Int32) v11.toInt64) fun _ =>
    xpure (0 : Int32)
  ) (fun q => xsel (some q) [
      (8, fun _ =>
        xpure (1 : Int32)
      ),
      (3, fun _ =>
        xpure (2 : Int32)
      ),
      (35, fun _ =>
        xpure (3 : Int32)
      )
      ]
  )
def fX1_cancel_p18 (l0 : Nat) (l2 : Option Nat) (s0 : Int32) : xM (Int32) :=
  xbind (fX1_checkThere s0) fun _ =>
  xbind (xsel (some l0) [(0, fun z => fX1_record z)]) fun v22 =>
  xbind (xsel v22 [(1, fun z => fX2_drop z l2)]) fun _ =>
  xbind (xgR 1 1 v22) fun v32 =>
  xbind (xsel v32 [(6, fun z => fJ19_size z)]) fun v35 =>
  xpure v35
def fX1_cancel (a0 : Nat) (p0 : Int32) : xM (Int32) :=
  xbind (xgR 0 4 (some a0)) fun v1 =>
  xbind (xsel v1 [(1, fun z => fX2_planAt z p0)]) fun v5 =>
  if v5 = none then (
    fX1_cancel_p18 a0 v5 (0 : Int32)
  ) else (
    fX1_cancel_p18 a0 v5 (1 : Int32)
  )
def fX0_cancel (p0 : Option Nat) (p1 : Int32) (p2 : Option Nat) : xM (Int32) :=
  xtry (xsel p0 [(0, fun z => fX1_cancel z p1)]) (fun v4 =>
    xbind (xstJ 2 p2 (0 : Int32) v4.toInt64) fun _ =>
    xpure (0 : Int32)
  ) (fun q => xsel (some q) [
      (10, fun _ =>
        xpure (1 : Int32)
      )
      ]
  )
def fX1_setSurvival (a0 : Nat) (p0 : Int32) (p1 : Int32) (p2 : Int32) : xM (Int32) :=
  xbind (xsel (some a0) [(0, fun z => fX1_herdWith z p0 p1)]) fun v3 =>
  xbind (xgR 19 1 v3) fun v6 =>
  xbind (xldI 1 v6 p1) fun v10 =>
  xbind (fX1_inRange p2 (0 : Int32) (1000 : Int32)) fun v18 =>
  xbind (fX1_checkArgument v18) fun _ =>
  xbind (xsel (some a0) [(0, fun z => fX1_changed z p0)]) fun v26 =>
  xbind (xgR 19 1 v26) fun v29 =>
  xbind (xstI 1 v29 p1 p2) fun _ =>
  xpure v10
def fX0_setSurvival (p0 : Option Nat) (p1 : Int32) (p2 : Int32) (p3 : Int32) (p4 : Option Nat) : xM (Int32) :=
  xtry (xsel p0 [(0, fun z => fX1_setSurvival z p1 p2 p3)]) (fun v7 =>
    xbind (xstJ 2 p4 (0 : Int32) v7.toInt64) fun _ =>
    xpure (0 : Int32)
  ) (fun q => xsel (some q) [
      (8, fun _ =>
        xpure (1 : Int32)
      ),
      (3, fun _ =>
        xpure (2 : Int32)
      )
      ]
  )
def fX1_setRoom (a0 : Nat) (p0 : Int32) (p1 : Int32) : xM (Int32) :=
  xbind (xsel (some a0) [(0, fun z => fX1_herd z p0)]) fun v2 =>
  xbind (xgI 19 3 v2) fun v5 =>
  xbind (fX1_inRange p1 (0 : Int32) (99999 : Int32)) fun v14 =>
  xbind (fX1_checkArgument v14) fun _ =>
  xbind (xsel (some a0) [(0, fun z => fX1_changed z p0)]) fun v22 =>
  xbind (xput 19 3 v22 (.int p1)) fun _ =>
  xpure v5
def fX0_setRoom (p0 : Option Nat) (p1 : Int32) (p2 : Int32) (p3 : Option Nat) : xM (Int32) :=
  xtry (xsel p0 [(0, fun z => fX1_setRoom z p1 p2)]) (fun v5 =>
    xbind (xstJ 2 p3 (0 : Int32) v5.toInt64) fun _ =>
    xpure (0 : Int32)
  ) (fun q => xsel (some q) [
      (8, fun _ =>
        xpure (1 : Int32)
      ),
      (3, fun _ =>
        xpure (2 : Int32)
      )
      ]
  )
def fX1_format (a0 : Nat) (p0 : Option Nat) : xM (Int32) :=
  xbind (xsel p0 [(4, fun z => fJ8_toString z)]) fun v2 =>
  xbind (xput 0 6 (some a0) (va_rf v2)) fun _ =>
  xbind (xgR 0 6 (some a0)) fun v9 =>
  xbind (xsel v9 [(5, fun z => fJ9_length z)]) fun v12 =>
  xpure v12
def fJ7_appendNull__J8_p76 (l0 : Nat) (l1 : Int32) : xM (Option Nat) :=
  xbind (xput 4 3 (some l0) (.int l1)) fun _ =>
  xpure (some l0)
def fJ7_appendNull__J8 (a0 : Nat) : xM (Option Nat) :=
  xbind (xgI 4 3 (some a0)) fun v2 =>
  xbind (xsel (some a0) [(4, fun z => fJ7_ensureCapacityInternal__J8 z (v2 + (4 : Int32)))]) fun _ =>
  xbind (xgI 4 3 (some a0)) fun v11 =>
  xbind (xgR 4 0 (some a0)) fun v16 =>
  xbind (xsel (some a0) [(4, fun z => fJ7_isLatin1__J8 z)]) fun v21 =>
  if v21 = 0 then (
    xstuck
  ) else (
    xlet (v11 + (1 : Int32)) fun x1_29 =>
    xbind (xstI 0 v16 v11 ((110 : Int32).toInt8.toInt32)) fun _ =>
    xlet (x1_29 + (1 : Int32)) fun x1_37 =>
    xbind (xstI 0 v16 x1_29 ((117 : Int32).toInt8.toInt32)) fun _ =>
    xlet (x1_37 + (1 : Int32)) fun x1_45 =>
    xbind (xstI 0 v16 x1_37 ((108 : Int32).toInt8.toInt32)) fun _ =>
    xlet (x1_45 + (1 : Int32)) fun x1_53 =>
    xbind (xstI 0 v16 x1_45 ((108 : Int32).toInt8.toInt32)) fun _ =>
    fJ7_appendNull__J8_p76 a0 x1_53
  )
def fJ7_inflateIfNeededFor__J8 (a0 : Nat) (p0 : Option Nat) : xM (Unit) :=
  if (1 : Int32) = 0 then (
    xpure ()
  ) else (
    xbind (xgI 4 1 (some a0)) fun v7 =>
    xbind (xsel p0 [(5, fun z => fJ9_coder z)]) fun v11 =>
    if v7 = v11 then (
      xpure ()
    ) else (
      xbind (xsel (some a0) [(4, fun z => fJ7_inflate__J8 z)]) fun _ =>
      xpure ()
    )
  )
def fJ15_inflate (p0 : Option Nat) (p1 : Int32) (p2 : Option Nat) (p3 : Int32) (p4 : Int32) : xM (Unit) :=
  xstuck
def fJ9_getBytes (a0 : Nat) (p0 : Option Nat) (p1 : Int32) (p2 : Int32) : xM (Unit) :=
  xbind (xsel (some a0) [(5, fun z => fJ9_coder z)]) fun v1 =>
  if v1 = p2 then (
    xbind (xgR 5 0 (some a0)) fun v9 =>
    xbind (xgR 5 0 (some a0)) fun v18 =>
    xbind (xlen v18) fun v21 =>
    xbind (xcpI 0 .byte v9 (0 : Int32) p0 (p1 <<< (p2 &&& 31)) v21) fun _ =>
    xpure ()
  ) else (
    xbind (xgR 5 0 (some a0)) fun v29 =>
    xbind (xgR 5 0 (some a0)) fun v36 =>
    xbind (xlen v36) fun v39 =>
    xbind (fJ15_inflate v29 (0 : Int32) p0 p1 v39) fun _ =>
    xpure ()
  )
def fJ7_putStringAt__J8 (a0 : Nat) (p0 : Int32) (p1 : Option Nat) : xM (Unit) :=
  xbind (xsel (some a0) [(4, fun z => fJ7_inflateIfNeededFor__J8 z p1)]) fun _ =>
  xbind (xgR 4 0 (some a0)) fun v7 =>
  xbind (xgI 4 1 (some a0)) fun v12 =>
  xbind (xsel p1 [(5, fun z => fJ9_getBytes z v7 p0 v12)]) fun _ =>
  xpure ()
def fJ7_append__J8 (a0 : Nat) (p0 : Option Nat) : xM (Option Nat) :=
  if p0 = none then (
    xbind (xsel (some a0) [(4, fun z => fJ7_appendNull__J8 z)]) fun v5 =>
    xpure v5
  ) else (
    xbind (xsel p0 [(5, fun z => fJ9_length z)]) fun v10 =>
    xbind (xgI 4 3 (some a0)) fun v16 =>
    xbind (xsel (some a0) [(4, fun z => fJ7_ensureCapacityInternal__J8 z (v16 + v10))]) fun _ =>
    xbind (xgI 4 3 (some a0)) fun v26 =>
    xbind (xsel (some a0) [(4, fun z => fJ7_putStringAt__J8 z v26 p0)]) fun _ =>
    xbind (xgI 4 3 (some a0)) fun v35 =>
    xbind (xput 4 3 (some a0) (.int (v35 + v10))) fun _ =>
    xpure (some a0)
  )
def fJ8_append (a0 : Nat) (p0 : Option Nat) : xM (Option Nat) :=
  xbind (xsel (some a0) [(4, fun z => fJ7_append__J8 z p0)]) fun v2 =>
  xpure (some a0)
def fJ17_stringSize_p16 : Nat → Int32 → Int32 → Int32 → Int32 → xM (Int32)
  | 0, _, _, _, _ => xstuck
  | n + 1, l0, l1, l2, l3 =>
    if (10 : Int32) ≤ l3 then (
      xpure ((10 : Int32) + l1)
    ) else (
      if l0 ≤ l2 then (
        xlet ((10 : Int32) * l2) fun x2_35 =>
        xlet (l3 + (1 : Int32)) fun x3_36 =>
        fJ17_stringSize_p16 n l0 l1 x2_35 x3_36
      ) else (
        xpure (l3 + l1)
      )
    )
def fJ17_stringSize_p11 (l0 : Int32) (l1 : Int32) : xM (Int32) :=
  xlet (-10 : Int32) fun x2_13 =>
  xlet (1 : Int32) fun x3_15 =>
  fJ17_stringSize_p16 xFU l0 l1 x2_13 x3_15
def fJ17_stringSize (p0 : Int32) : xM (Int32) :=
  xlet (1 : Int32) fun x1_1 =>
  if p0 < 0 then (
    fJ17_stringSize_p11 p0 x1_1
  ) else (
    xlet (0 : Int32) fun x1_7 =>
    xlet (-p0) fun x0_10 =>
    fJ17_stringSize_p11 x0_10 x1_7
  )
def fJ17_getChars_p104 (l2 : Option Nat) (l5 : Int32) (l6 : Int32) : xM (Int32) :=
  if l6 = 0 then (
    xpure l5
  ) else (
    xlet (l5 + (-1 : Int32)) fun x5_110 =>
    xbind (xstI 0 l2 x5_110 ((45 : Int32).toInt8.toInt32)) fun _ =>
    xpure x5_110
  )
def fJ17_getChars_p22 : Nat → Int32 → Option Nat → Int32 → Int32 → xM (Int32)
  | 0, _, _, _, _ => xstuck
  | n + 1, l0, l2, l5, l6 =>
    if (-100 : Int32) < l0 then (
      xlet (l5 + (-1 : Int32)) fun x5_73 =>
      xbind (xcon 14) fun v78 =>
      xbind (xldI 0 v78 (-l0)) fun v83 =>
      xbind (xstI 0 l2 x5_73 v83.toInt8.toInt32) fun _ =>
      if (-9 : Int32) ≤ l0 then (
        fJ17_getChars_p104 l2 x5_73 l6
      ) else (
        xlet (x5_73 + (-1 : Int32)) fun x5_92 =>
        xbind (xcon 15) fun v97 =>
        xbind (xldI 0 v97 (-l0)) fun v102 =>
        xbind (xstI 0 l2 x5_92 v102.toInt8.toInt32) fun _ =>
        fJ17_getChars_p104 l2 x5_92 l6
      )
    ) else (
      xdv (100 : Int32) <|
      xlet (l0 / (100 : Int32)) fun x3_32 =>
      xlet ((x3_32 * (100 : Int32)) - l0) fun x4_39 =>
      xlet (l5 + (-1 : Int32)) fun x5_44 =>
      xbind (xcon 14) fun v49 =>
      xbind (xldI 0 v49 x4_39) fun v54 =>
      xbind (xstI 0 l2 x5_44 v54.toInt8.toInt32) fun _ =>
      xlet (x5_44 + (-1 : Int32)) fun x5_57 =>
      xbind (xcon 15) fun v62 =>
      xbind (xldI 0 v62 x4_39) fun v67 =>
      xbind (xstI 0 l2 x5_57 v67.toInt8.toInt32) fun _ =>
      fJ17_getChars_p22 n x3_32 l2 x5_57 l6
    )
def fJ17_getChars_p12 (l0 : Int32) (l2 : Option Nat) (l5 : Int32) (s0 : Int32) : xM (Int32) :=
  if s0 = 0 then (
    xlet (-l0) fun x0_21 =>
    fJ17_getChars_p22 xFU x0_21 l2 l5 s0
  ) else (
    fJ17_getChars_p22 xFU l0 l2 l5 s0
  )
def fJ17_getChars (p0 : Int32) (p1 : Int32) (p2 : Option Nat) : xM (Int32) :=
  if 0 ≤ p0 then (
    fJ17_getChars_p12 p0 p2 p1 (0 : Int32)
  ) else (
    fJ17_getChars_p12 p0 p2 p1 (1 : Int32)
  )
def fJ7_append_2__J8_p48 (l0 : Nat) (l3 : Int32) : xM (Option Nat) :=
  xbind (xput 4 3 (some l0) (.int l3)) fun _ =>
  xpure (some l0)
def fJ7_append_2__J8 (a0 : Nat) (p0 : Int32) : xM (Option Nat) :=
  xbind (xgI 4 3 (some a0)) fun v1 =>
  xbind (fJ17_stringSize p0) fun v7 =>
  xlet (v1 + v7) fun x3_11 =>
  xbind (xsel (some a0) [(4, fun z => fJ7_ensureCapacityInternal__J8 z x3_11)]) fun _ =>
  xbind (xsel (some a0) [(4, fun z => fJ7_isLatin1__J8 z)]) fun v18 =>
  if v18 = 0 then (
    xbind (xgR 4 0 (some a0)) fun v41 =>
    xstuck
  ) else (
    xbind (xgR 4 0 (some a0)) fun v27 =>
    xbind (fJ17_getChars p0 x3_11 v27) fun v30 =>
    fJ7_append_2__J8_p48 a0 x3_11
  )
def fJ8_append_2 (a0 : Nat) (p0 : Int32) : xM (Option Nat) :=
  xbind (xsel (some a0) [(4, fun z => fJ7_append_2__J8 z p0)]) fun v2 =>
  xpure (some a0)
def fJ8_append_4 (a0 : Nat) (p0 : Option Nat) : xM (Option Nat) :=
  xbind (xsel (some a0) [(4, fun z => fJ8_append z p0)]) fun v2 =>
  xpure v2
def fJ7_init_2__J8_p53 (l0 : Nat) (l1 : Option Nat) (s0 : Option Nat) (s1 : Nat) : xM (Unit) :=
  xbind (xput 4 0 (some s1) (va_rf s0)) fun _ =>
  xbind (xsel (some l0) [(4, fun z => fJ8_append_4 z l1)]) fun v58 =>
  xpure ()
def fJ7_init_2__J8_p24 (l0 : Nat) (l1 : Option Nat) (s0 : Int32) : xM (Unit) :=
  xbind (xsel l1 [(5, fun z => fJ9_coder z)]) fun v26 =>
  xbind (xpN 4 1 .byte (some l0) v26) fun _ =>
  if v26 = 0 then (
    xbind (xnewA 0 (fun N => (N, .inl (fun _ => 0))) s0) fun v44 =>
    fJ7_init_2__J8_p53 l0 l1 (some v44) l0
  ) else (
    xstuck
  )
def fJ7_init_2__J8 (a0 : Nat) (p0 : Option Nat) : xM (Unit) :=
  xbind (xsel p0 [(5, fun z => fJ9_length z)]) fun v5 =>
  if (2147483631 : Int32) ≤ v5 then (
    fJ7_init_2__J8_p24 a0 p0 (2147483647 : Int32)
  ) else (
    fJ7_init_2__J8_p24 a0 p0 (v5 + (16 : Int32))
  )
def fJ8_init_2 (a0 : Nat) (p0 : Option Nat) : xM (Unit) :=
  xbind (fJ7_init_2__J8 a0 p0) fun _ =>
  xpure ()
def fX1_formatSpecies_p105 (l0 : Nat) (l3 : Nat) : xM (Int32) :=
  xbind (xsel (some l0) [(0, fun z => fX1_format z (some l3))]) fun v107 =>
  xpure v107
def fX1_formatSpecies_p31 : Nat → Nat → Option Nat → Nat → Int32 → xM (Int32)
  | 0, _, _, _, _ => xstuck
  | n + 1, l0, l2, l3, l4 =>
    xbind (xgR 19 0 l2) fun v34 =>
    xbind (xgI 20 1 v34) fun v37 =>
    if v37 < l4 then (
      xbind (xcon 114) fun v66 =>
      xbind (xsel (some l3) [(4, fun z => fJ8_append z v66)]) fun v69 =>
      xbind (xgR 19 2 l2) fun v73 =>
      xbind (xsel v73 [(24, fun z => fX10_total z)]) fun v76 =>
      xbind (xsel v69 [(4, fun z => fJ8_append_2 z v76)]) fun v79 =>
      xbind (xgI 19 4 l2) fun v84 =>
      if v84 ≤ 0 then (
        fX1_formatSpecies_p105 l0 l3
      ) else (
        xbind (xcon 115) fun v91 =>
        xbind (xsel (some l3) [(4, fun z => fJ8_append z v91)]) fun v94 =>
        xbind (xgI 19 4 l2) fun v98 =>
        xbind (xsel v94 [(4, fun z => fJ8_append_2 z v98)]) fun v101 =>
        fX1_formatSpecies_p105 l0 l3
      )
    ) else (
      xbind (xsel (some l3) [(4, fun z => fJ8_append_3 z (32 : Int32))]) fun v46 =>
      xbind (xsel l2 [(19, fun z => fX6_cohort z l4)]) fun v52 =>
      xbind (xsel v46 [(4, fun z => fJ8_append_2 z v52)]) fun v55 =>
      xlet (l4 + (1 : Int32)) fun x4_59 =>
      fX1_formatSpecies_p31 n l0 l2 l3 x4_59
    )
def fX1_formatSpecies (a0 : Nat) (p0 : Int32) : xM (Int32) :=
  xbind (xsel (some a0) [(0, fun z => fX1_herd z p0)]) fun v2 =>
  xbind (xnew 4 [.null, .int 0, .int 0, .int 0] 4) fun v6 =>
  xbind (xgR 19 0 v2) fun v11 =>
  xbind (xgR 20 0 v11) fun v14 =>
  xbind (fJ8_init_2 v6 v14) fun _ =>
  xbind (xsel (some v6) [(4, fun z => fJ8_append_3 z (58 : Int32))]) fun v24 =>
  xlet (0 : Int32) fun x4_29 =>
  fX1_formatSpecies_p31 xFU a0 v2 v6 x4_29
def fX0_formatSpecies (p0 : Option Nat) (p1 : Int32) (p2 : Option Nat) : xM (Int32) :=
  xtry (xsel p0 [(0, fun z => fX1_formatSpecies z p1)]) (fun v4 =>
    xbind (xstJ 2 p2 (0 : Int32) v4.toInt64) fun _ =>
    xpure (0 : Int32)
  ) (fun q => xsel (some q) [
      (8, fun _ =>
        xpure (1 : Int32)
      )
      ]
  )
def fX1_formatLedger (a0 : Nat) (p0 : Int32) (p1 : Int32) : xM (Int32) :=
  xbind (xsel (some a0) [(0, fun z => fX1_ledgerOf z p0 p1)]) fun v3 =>
  xbind (xnew 4 [.null, .int 0, .int 0, .int 0] 4) fun v7 =>
  xbind (fJ8_init v7) fun _ =>
  xbind (xsel (some v7) [(4, fun z => fJ8_append_2 z p1)]) fun v19 =>
  xbind (xcon 116) fun v22 =>
  xbind (xsel v19 [(4, fun z => fJ8_append z v22)]) fun v25 =>
  xbind (xgI 22 0 v3) fun v29 =>
  xbind (xsel v25 [(4, fun z => fJ8_append_2 z v29)]) fun v32 =>
  xbind (xsel v32 [(4, fun z => fJ8_append_3 z (43 : Int32))]) fun v37 =>
  xbind (xgI 22 1 v3) fun v41 =>
  xbind (xsel v37 [(4, fun z => fJ8_append_2 z v41)]) fun v44 =>
  xbind (xsel v44 [(4, fun z => fJ8_append_3 z (43 : Int32))]) fun v49 =>
  xbind (xgI 22 4 v3) fun v53 =>
  xbind (xsel v49 [(4, fun z => fJ8_append_2 z v53)]) fun v56 =>
  xbind (xsel (some v7) [(4, fun z => fJ8_append_3 z (45 : Int32))]) fun v64 =>
  xbind (xgI 22 2 v3) fun v68 =>
  xbind (xsel v64 [(4, fun z => fJ8_append_2 z v68)]) fun v71 =>
  xbind (xsel v71 [(4, fun z => fJ8_append_3 z (45 : Int32))]) fun v76 =>
  xbind (xgI 22 3 v3) fun v80 =>
  xbind (xsel v76 [(4, fun z => fJ8_append_2 z v80)]) fun v83 =>
  xbind (xsel v83 [(4, fun z => fJ8_append_3 z (61 : Int32))]) fun v88 =>
  xbind (xgI 22 5 v3) fun v92 =>
  xbind (xsel v88 [(4, fun z => fJ8_append_2 z v92)]) fun v95 =>
  xbind (xsel (some a0) [(0, fun z => fX1_format z (some v7))]) fun v102 =>
  xpure v102
def fX0_formatLedger (p0 : Option Nat) (p1 : Int32) (p2 : Int32) (p3 : Option Nat) : xM (Int32) :=
  xtry (xsel p0 [(0, fun z => fX1_formatLedger z p1 p2)]) (fun v5 =>
    xbind (xstJ 2 p3 (0 : Int32) v5.toInt64) fun _ =>
    xpure (0 : Int32)
  ) (fun q => xsel (some q) [
      (8, fun _ =>
        xpure (1 : Int32)
      ),
      (10, fun _ =>
        xpure (2 : Int32)
      )
      ]
  )
def fX1_init (a0 : Nat) : xM (Unit) :=
  xbind (xnewA 0 (fun N => (N, .inl (fun _ => 0))) (900 : Int32)) fun v8 =>
  xbind (xput 0 0 (some a0) (va_rf (some v8))) fun _ =>
  xbind (xput 0 2 (some a0) (.int (-1 : Int32))) fun _ =>
  xbind (xnew 1 [.null, .null, .int 0, .int 0, .int 0] 5) fun v19 =>
  xbind (fX2_init v19) fun _ =>
  xbind (xput 0 4 (some a0) (va_rf (some v19))) fun _ =>
  xbind (xnew 6 [.int 0, .int 0, .null, .null] 4) fun v30 =>
  xbind (fJ19_init v30) fun _ =>
  xbind (xput 0 5 (some a0) (va_rf (some v30))) fun _ =>
  xbind (xcon 100) fun v41 =>
  xbind (xput 0 6 (some a0) (va_rf v41)) fun _ =>
  xpure ()
def fX1_appendWord_p3 : Nat → Nat → Int32 → Int32 → xM (Unit)
  | 0, _, _, _ => xstuck
  | n + 1, l0, l1, l2 =>
    if l2 < 0 then (
      xpure ()
    ) else (
      xbind (xgR 0 0 (some l0)) fun v8 =>
      xbind (xgI 0 1 (some l0)) fun v12 =>
      xbind (xstI 0 v8 v12 (((l1 >>> (l2 &&& 31)).toInt8.toInt32).toInt8.toInt32)) fun _ =>
      xbind (xgI 0 1 (some l0)) fun v22 =>
      xbind (xput 0 1 (some l0) (.int (v22 + (1 : Int32)))) fun _ =>
      xlet (l2 + (-8 : Int32)) fun x2_30 =>
      fX1_appendWord_p3 n l0 l1 x2_30
    )
def fX1_appendWord (a0 : Nat) (p0 : Int32) : xM (Unit) :=
  xlet (24 : Int32) fun x2_2 =>
  fX1_appendWord_p3 xFU a0 p0 x2_2
def fX1_append (a0 : Nat) (p0 : Int32) (p1 : Int32) (p2 : Int32) (p3 : Int32) (p4 : Int32) : xM (Int32) :=
  xbind (xgI 0 1 (some a0)) fun v1 =>
  if (v1 + (20 : Int32)) ≤ (900 : Int32) then (
    xbind (xsel (some a0) [(0, fun z => fX1_appendWord z p0)]) fun _ =>
    xbind (xsel (some a0) [(0, fun z => fX1_appendWord z p1)]) fun _ =>
    xbind (xsel (some a0) [(0, fun z => fX1_appendWord z p2)]) fun _ =>
    xbind (xsel (some a0) [(0, fun z => fX1_appendWord z p3)]) fun _ =>
    xbind (xsel (some a0) [(0, fun z => fX1_appendWord z p4)]) fun _ =>
    xbind (xgI 0 1 (some a0)) fun v43 =>
    xpure v43
  ) else (
    xpure (-1 : Int32)
  )
def fX1_truncate (a0 : Nat) (p0 : Int32) : xM (Int32) :=
  xbind (xgI 0 1 (some a0)) fun v3 =>
  xbind (fX1_inRange p0 (0 : Int32) v3) fun v6 =>
  if v6 = 0 then (
    xpure (0 : Int32)
  ) else (
    xbind (xput 0 1 (some a0) (.int p0)) fun _ =>
    xpure (1 : Int32)
  )
def fX1_errorOffset (a0 : Nat) : xM (Int32) :=
  xbind (xgI 0 2 (some a0)) fun v1 =>
  xpure v1
def fX1_errorKind (a0 : Nat) : xM (Int32) :=
  xbind (xgI 0 3 (some a0)) fun v1 =>
  xpure v1
def fX1_speciesNamed_p66 : Nat → Option Nat → Int32 → Option Nat → xM (Int32)
  | 0, _, _, _ => xstuck
  | n + 1, l2, l3, l4 =>
    xbind (xsel l4 [(7, fun z => fJ20_hasNext z)]) fun v68 =>
    if v68 = 0 then (
      xpure (-1 : Int32)
    ) else (
      xbind (xsel l4 [(7, fun z => fJ20_next z)]) fun v78 =>
      xbind (xcst (fun c => c == 19) v78) fun _ =>
      xbind (xgR 19 0 v78) fun v90 =>
      xbind (xgR 20 0 v90) fun v93 =>
      xbind (xsel v93 [(5, fun z => fJ9_equals z l2)]) fun v97 =>
      if v97 = 0 then (
        xlet (l3 + (1 : Int32)) fun x3_105 =>
        fX1_speciesNamed_p66 n l2 x3_105 l4
      ) else (
        xpure l3
      )
    )
def fX1_speciesNamed_p10 : Nat → Nat → Nat → Int32 → xM (Int32)
  | 0, _, _, _ => xstuck
  | n + 1, l0, l1, l2 =>
    xbind (xgI 0 1 (some l0)) fun v12 =>
    if v12 ≤ l2 then (
      xbind (xput 0 1 (some l0) (.int (0 : Int32))) fun _ =>
      xbind (xsel (some l1) [(4, fun z => fJ8_toString z)]) fun v46 =>
      xlet (0 : Int32) fun x3_51 =>
      xbind (xgR 0 4 (some l0)) fun v53 =>
      xbind (xgR 1 0 v53) fun v56 =>
      xbind (xsel v56 [(2, fun z => fJ2_iterator z)]) fun v59 =>
      fX1_speciesNamed_p66 xFU v46 x3_51 v59
    ) else (
      xbind (xgR 0 0 (some l0)) fun v20 =>
      xbind (xldI 0 v20 l2) fun v24 =>
      xbind (xsel (some l1) [(4, fun z => fJ8_append_3 z (((v24 &&& (255 : Int32)).toUInt32 % 65536).toInt32))]) fun v30 =>
      xlet (l2 + (1 : Int32)) fun x2_34 =>
      fX1_speciesNamed_p10 n l0 l1 x2_34
    )
def fX1_speciesNamed (a0 : Nat) : xM (Int32) :=
  xbind (xnew 4 [.null, .int 0, .int 0, .int 0] 4) fun v0 =>
  xbind (fJ8_init v0) fun _ =>
  xlet (0 : Int32) fun x2_9 =>
  fX1_speciesNamed_p10 xFU a0 v0 x2_9
def fX9_isBalanced (a0 : Nat) : xM (Int32) :=
  xbind (xgI 22 0 (some a0)) fun v1 =>
  xbind (xgI 22 1 (some a0)) fun v5 =>
  xbind (xgI 22 4 (some a0)) fun v10 =>
  xbind (xgI 22 2 (some a0)) fun v15 =>
  xbind (xgI 22 3 (some a0)) fun v20 =>
  xbind (xgI 22 5 (some a0)) fun v25 =>
  if ((((v1 + v5) + v10) - v15) - v20) = v25 then (
    xpure (1 : Int32)
  ) else (
    xpure (0 : Int32)
  )
def fX1_isBalanced_p97 (k13 : Nat → Option Nat → xM (Int32)) (k51 : Nat → Option Nat → Option Nat → Int32 → Option Nat → xM (Int32)) (l0 : Nat) (l1 : Option Nat) (l2 : Option Nat) (l4 : Option Nat) (l5 : Option Nat) : xM (Int32) :=
  xbind (xgI 22 5 l5) fun v99 =>
  k51 l0 l1 l2 v99 l4
def fX1_isBalanced_p150 (k13 : Nat → Option Nat → xM (Int32)) (l0 : Nat) (l1 : Option Nat) : xM (Int32) :=
  k13 l0 l1
def fX1_isBalanced_p51 (k13 : Nat → Option Nat → xM (Int32)) : Nat → Nat → Option Nat → Option Nat → Int32 → Option Nat → xM (Int32)
  | 0, _, _, _, _, _ => xstuck
  | n + 1, l0, l1, l2, l3, l4 =>
    xbind (xsel l4 [(14, fun z => fJ38_hasNext__J43 z)]) fun v53 =>
    if v53 = 0 then (
      xbind (xgR 0 4 (some l0)) fun v108 =>
      xbind (xgI 1 2 v108) fun v111 =>
      xbind (xgR 0 4 (some l0)) fun v115 =>
      xbind (xgI 1 2 v115) fun v118 =>
      xbind (xsel l2 [(19, fun z => fX6_ledger z v111 v118)]) fun v121 =>
      xbind (xsel v121 [(22, fun z => fX9_isBalanced z)]) fun v128 =>
      if v128 = 0 then (
        xpure (0 : Int32)
      ) else (
        if l3 = (-1 : Int32) then (
          fX1_isBalanced_p150 k13 l0 l1
        ) else (
          xbind (xgI 22 0 v121) fun v141 =>
          if v141 = l3 then (
            fX1_isBalanced_p150 k13 l0 l1
          ) else (
            xpure (0 : Int32)
          )
        )
      )
    ) else (
      xbind (xsel l4 [(14, fun z => fJ43_next z)]) fun v63 =>
      xbind (xcst (fun c => c == 22) v63) fun _ =>
      xbind (xsel v63 [(22, fun z => fX9_isBalanced z)]) fun v75 =>
      if v75 = 0 then (
        xpure (0 : Int32)
      ) else (
        if l3 = (-1 : Int32) then (
          fX1_isBalanced_p97 k13 (fX1_isBalanced_p51 k13 n) l0 l1 l2 l4 v63
        ) else (
          xbind (xgI 22 0 v63) fun v88 =>
          if v88 = l3 then (
            fX1_isBalanced_p97 k13 (fX1_isBalanced_p51 k13 n) l0 l1 l2 l4 v63
          ) else (
            xpure (0 : Int32)
          )
        )
      )
    )
def fX1_isBalanced_p13 : Nat → Nat → Option Nat → xM (Int32)
  | 0, _, _ => xstuck
  | n + 1, l0, l1 =>
    xbind (xsel l1 [(7, fun z => fJ20_hasNext z)]) fun v14 =>
    if v14 = 0 then (
      xpure (1 : Int32)
    ) else (
      xbind (xsel l1 [(7, fun z => fJ20_next z)]) fun v23 =>
      xbind (xcst (fun c => c == 19) v23) fun _ =>
      xlet (-1 : Int32) fun x3_33 =>
      xbind (xgR 19 0 v23) fun v35 =>
      xbind (xgR 20 5 v35) fun v38 =>
      xbind (xsel v38 [(16, fun z => fJ29_values z)]) fun v41 =>
      xbind (xsel v41 [(2, fun z => fJ2_iterator z), (6, fun z => fJ18_iterator__J19 z), (11, fun z => fJ40_iterator z), (23, fun z => fJ27_iterator z), (32, fun z => fJ37_iterator z), (33, fun z => fJ45_iterator z)]) fun v44 =>
      fX1_isBalanced_p51 (fX1_isBalanced_p13 n) xFU l0 l1 v23 x3_33 v44
    )
def fX1_isBalanced (a0 : Nat) : xM (Int32) :=
  xbind (xgR 0 4 (some a0)) fun v1 =>
  xbind (xgR 1 0 v1) fun v4 =>
  xbind (xsel v4 [(2, fun z => fJ2_iterator z)]) fun v7 =>
  fX1_isBalanced_p13 xFU a0 v7
def fJ29_fixAfterDeletion_p183 (k0 : Nat → Option Nat → xM (Unit)) (l0 : Nat) (l1 : Option Nat) : xM (Unit) :=
  k0 l0 l1
def fJ29_fixAfterDeletion_p143 (k0 : Nat → Option Nat → xM (Unit)) (l0 : Nat) (l1 : Option Nat) (l2 : Option Nat) : xM (Unit) :=
  xbind (fJ29_parentOf l1) fun v145 =>
  xbind (fJ29_colorOf v145) fun v148 =>
  xbind (fJ29_setColor l2 v148) fun _ =>
  xbind (fJ29_parentOf l1) fun v155 =>
  xbind (fJ29_setColor v155 (1 : Int32)) fun _ =>
  xbind (fJ29_rightOf l2) fun v163 =>
  xbind (fJ29_setColor v163 (1 : Int32)) fun _ =>
  xbind (fJ29_parentOf l1) fun v172 =>
  xbind (xsel (some l0) [(16, fun z => fJ29_rotateLeft z v172)]) fun _ =>
  xbind (xgR 16 3 (some l0)) fun v179 =>
  fJ29_fixAfterDeletion_p183 k0 l0 v179
def fJ29_fixAfterDeletion_p106 (k0 : Nat → Option Nat → xM (Unit)) (l0 : Nat) (l1 : Option Nat) (l2 : Option Nat) : xM (Unit) :=
  xbind (fJ29_rightOf l2) fun v107 =>
  xbind (fJ29_colorOf v107) fun v110 =>
  if v110 = (1 : Int32) then (
    xbind (fJ29_leftOf l2) fun v118 =>
    xbind (fJ29_setColor v118 (1 : Int32)) fun _ =>
    xbind (fJ29_setColor l2 (0 : Int32)) fun _ =>
    xbind (xsel (some l0) [(16, fun z => fJ29_rotateRight z l2)]) fun _ =>
    xbind (fJ29_parentOf l1) fun v136 =>
    xbind (fJ29_rightOf v136) fun v139 =>
    fJ29_fixAfterDeletion_p143 k0 l0 l1 v139
  ) else (
    fJ29_fixAfterDeletion_p143 k0 l0 l1 l2
  )
def fJ29_fixAfterDeletion_p71 (k0 : Nat → Option Nat → xM (Unit)) (l0 : Nat) (l1 : Option Nat) (l2 : Option Nat) : xM (Unit) :=
  xbind (fJ29_leftOf l2) fun v72 =>
  xbind (fJ29_colorOf v72) fun v75 =>
  if v75 = (1 : Int32) then (
    xbind (fJ29_rightOf l2) fun v83 =>
    xbind (fJ29_colorOf v83) fun v86 =>
    if v86 = (1 : Int32) then (
      xbind (fJ29_setColor l2 (0 : Int32)) fun _ =>
      xbind (fJ29_parentOf l1) fun v99 =>
      fJ29_fixAfterDeletion_p183 k0 l0 v99
    ) else (
      fJ29_fixAfterDeletion_p106 k0 l0 l1 l2
    )
  ) else (
    fJ29_fixAfterDeletion_p106 k0 l0 l1 l2
  )
def fJ29_fixAfterDeletion_p342 (k0 : Nat → Option Nat → xM (Unit)) (l0 : Nat) (l1 : Option Nat) : xM (Unit) :=
  k0 l0 l1
def fJ29_fixAfterDeletion_p302 (k0 : Nat → Option Nat → xM (Unit)) (l0 : Nat) (l1 : Option Nat) (l2 : Option Nat) : xM (Unit) :=
  xbind (fJ29_parentOf l1) fun v304 =>
  xbind (fJ29_colorOf v304) fun v307 =>
  xbind (fJ29_setColor l2 v307) fun _ =>
  xbind (fJ29_parentOf l1) fun v314 =>
  xbind (fJ29_setColor v314 (1 : Int32)) fun _ =>
  xbind (fJ29_leftOf l2) fun v322 =>
  xbind (fJ29_setColor v322 (1 : Int32)) fun _ =>
  xbind (fJ29_parentOf l1) fun v331 =>
  xbind (xsel (some l0) [(16, fun z => fJ29_rotateRight z v331)]) fun _ =>
  xbind (xgR 16 3 (some l0)) fun v338 =>
  fJ29_fixAfterDeletion_p342 k0 l0 v338
def fJ29_fixAfterDeletion_p265 (k0 : Nat → Option Nat → xM (Unit)) (l0 : Nat) (l1 : Option Nat) (l2 : Option Nat) : xM (Unit) :=
  xbind (fJ29_leftOf l2) fun v266 =>
  xbind (fJ29_colorOf v266) fun v269 =>
  if v269 = (1 : Int32) then (
    xbind (fJ29_rightOf l2) fun v277 =>
    xbind (fJ29_setColor v277 (1 : Int32)) fun _ =>
    xbind (fJ29_setColor l2 (0 : Int32)) fun _ =>
    xbind (xsel (some l0) [(16, fun z => fJ29_rotateLeft z l2)]) fun _ =>
    xbind (fJ29_parentOf l1) fun v295 =>
    xbind (fJ29_leftOf v295) fun v298 =>
    fJ29_fixAfterDeletion_p302 k0 l0 l1 v298
  ) else (
    fJ29_fixAfterDeletion_p302 k0 l0 l1 l2
  )
def fJ29_fixAfterDeletion_p230 (k0 : Nat → Option Nat → xM (Unit)) (l0 : Nat) (l1 : Option Nat) (l2 : Option Nat) : xM (Unit) :=
  xbind (fJ29_rightOf l2) fun v231 =>
  xbind (fJ29_colorOf v231) fun v234 =>
  if v234 = (1 : Int32) then (
    xbind (fJ29_leftOf l2) fun v242 =>
    xbind (fJ29_colorOf v242) fun v245 =>
    if v245 = (1 : Int32) then (
      xbind (fJ29_setColor l2 (0 : Int32)) fun _ =>
      xbind (fJ29_parentOf l1) fun v258 =>
      fJ29_fixAfterDeletion_p342 k0 l0 v258
    ) else (
      fJ29_fixAfterDeletion_p265 k0 l0 l1 l2
    )
  ) else (
    fJ29_fixAfterDeletion_p265 k0 l0 l1 l2
  )
def fJ29_fixAfterDeletion_p345 (l1 : Option Nat) : xM (Unit) :=
  xbind (fJ29_setColor l1 (1 : Int32)) fun _ =>
  xpure ()
def fJ29_fixAfterDeletion_p0 : Nat → Nat → Option Nat → xM (Unit)
  | 0, _, _ => xstuck
  | n + 1, l0, l1 =>
    xbind (xgR 16 3 (some l0)) fun v2 =>
    if l1 = v2 then (
      fJ29_fixAfterDeletion_p345 l1
    ) else (
      xbind (fJ29_colorOf l1) fun v9 =>
      if v9 = (1 : Int32) then (
        xbind (fJ29_parentOf l1) fun v18 =>
        xbind (fJ29_leftOf v18) fun v21 =>
        if l1 = v21 then (
          xbind (fJ29_parentOf l1) fun v28 =>
          xbind (fJ29_rightOf v28) fun v31 =>
          xbind (fJ29_colorOf v31) fun v36 =>
          if v36 = 0 then (
            xbind (fJ29_setColor v31 (1 : Int32)) fun _ =>
            xbind (fJ29_parentOf l1) fun v48 =>
            xbind (fJ29_setColor v48 (0 : Int32)) fun _ =>
            xbind (fJ29_parentOf l1) fun v57 =>
            xbind (xsel (some l0) [(16, fun z => fJ29_rotateLeft z v57)]) fun _ =>
            xbind (fJ29_parentOf l1) fun v64 =>
            xbind (fJ29_rightOf v64) fun v67 =>
            fJ29_fixAfterDeletion_p71 (fJ29_fixAfterDeletion_p0 n) l0 l1 v67
          ) else (
            fJ29_fixAfterDeletion_p71 (fJ29_fixAfterDeletion_p0 n) l0 l1 v31
          )
        ) else (
          xbind (fJ29_parentOf l1) fun v187 =>
          xbind (fJ29_leftOf v187) fun v190 =>
          xbind (fJ29_colorOf v190) fun v195 =>
          if v195 = 0 then (
            xbind (fJ29_setColor v190 (1 : Int32)) fun _ =>
            xbind (fJ29_parentOf l1) fun v207 =>
            xbind (fJ29_setColor v207 (0 : Int32)) fun _ =>
            xbind (fJ29_parentOf l1) fun v216 =>
            xbind (xsel (some l0) [(16, fun z => fJ29_rotateRight z v216)]) fun _ =>
            xbind (fJ29_parentOf l1) fun v223 =>
            xbind (fJ29_leftOf v223) fun v226 =>
            fJ29_fixAfterDeletion_p230 (fJ29_fixAfterDeletion_p0 n) l0 l1 v226
          ) else (
            fJ29_fixAfterDeletion_p230 (fJ29_fixAfterDeletion_p0 n) l0 l1 v190
          )
        )
      ) else (
        fJ29_fixAfterDeletion_p345 l1
      )
    )
def fJ29_fixAfterDeletion (a0 : Nat) (p0 : Option Nat) : xM (Unit) :=
  fJ29_fixAfterDeletion_p0 xFU a0 p0
def fJ29_deleteEntry_p133 (l0 : Nat) (l1 : Option Nat) (l2 : Option Nat) : xM (Unit) :=
  xbind (xput 36 4 l1 (va_rf none)) fun _ =>
  xbind (xput 36 3 l1 (va_rf none)) fun _ =>
  xbind (xput 36 2 l1 (va_rf none)) fun _ =>
  xbind (xgI 36 5 l1) fun v149 =>
  if v149 = (1 : Int32) then (
    xbind (xsel (some l0) [(16, fun z => fJ29_fixAfterDeletion z l2)]) fun _ =>
    xpure ()
  ) else (
    xpure ()
  )
def fJ29_deleteEntry_p240 (l1 : Option Nat) : xM (Unit) :=
  xbind (xput 36 4 l1 (va_rf none)) fun _ =>
  xpure ()
def fJ29_deleteEntry_p192 (l1 : Option Nat) : xM (Unit) :=
  xbind (xgR 36 4 l1) fun v193 =>
  if v193 = none then (
    xpure ()
  ) else (
    xbind (xgR 36 4 l1) fun v201 =>
    xbind (xgR 36 2 v201) fun v204 =>
    if l1 = v204 then (
      xbind (xgR 36 4 l1) fun v211 =>
      xbind (xput 36 2 v211 (va_rf none)) fun _ =>
      fJ29_deleteEntry_p240 l1
    ) else (
      xbind (xgR 36 4 l1) fun v223 =>
      xbind (xgR 36 3 v223) fun v226 =>
      if l1 = v226 then (
        xbind (xgR 36 4 l1) fun v233 =>
        xbind (xput 36 3 v233 (va_rf none)) fun _ =>
        fJ29_deleteEntry_p240 l1
      ) else (
        fJ29_deleteEntry_p240 l1
      )
    )
  )
def fJ29_deleteEntry_p75 (l0 : Nat) (l1 : Option Nat) (s0 : Option Nat) : xM (Unit) :=
  if s0 = none then (
    xbind (xgR 36 4 l1) fun v165 =>
    if v165 = none then (
      xbind (xput 16 3 (some l0) (va_rf none)) fun _ =>
      xpure ()
    ) else (
      xbind (xgI 36 5 l1) fun v180 =>
      if v180 = (1 : Int32) then (
        xbind (xsel (some l0) [(16, fun z => fJ29_fixAfterDeletion z l1)]) fun _ =>
        fJ29_deleteEntry_p192 l1
      ) else (
        fJ29_deleteEntry_p192 l1
      )
    )
  ) else (
    xbind (xgR 36 4 l1) fun v82 =>
    xbind (xput 36 4 s0 (va_rf v82)) fun _ =>
    xbind (xgR 36 4 l1) fun v89 =>
    if v89 = none then (
      xbind (xput 16 3 (some l0) (va_rf s0)) fun _ =>
      fJ29_deleteEntry_p133 l0 l1 s0
    ) else (
      xbind (xgR 36 4 l1) fun v105 =>
      xbind (xgR 36 2 v105) fun v108 =>
      if l1 = v108 then (
        xbind (xgR 36 4 l1) fun v115 =>
        xbind (xput 36 2 v115 (va_rf s0)) fun _ =>
        fJ29_deleteEntry_p133 l0 l1 s0
      ) else (
        xbind (xgR 36 4 l1) fun v126 =>
        xbind (xput 36 3 v126 (va_rf s0)) fun _ =>
        fJ29_deleteEntry_p133 l0 l1 s0
      )
    )
  )
def fJ29_deleteEntry_p57 (l0 : Nat) (l1 : Option Nat) : xM (Unit) :=
  xbind (xgR 36 2 l1) fun v58 =>
  if v58 = none then (
    xbind (xgR 36 3 l1) fun v72 =>
    fJ29_deleteEntry_p75 l0 l1 v72
  ) else (
    xbind (xgR 36 2 l1) fun v65 =>
    fJ29_deleteEntry_p75 l0 l1 v65
  )
def fJ29_deleteEntry (a0 : Nat) (p0 : Option Nat) : xM (Unit) :=
  xbind (xgI 16 5 (some a0)) fun v2 =>
  xbind (xput 16 5 (some a0) (.int (v2 + (1 : Int32)))) fun _ =>
  xbind (xgI 16 4 (some a0)) fun v12 =>
  xbind (xput 16 4 (some a0) (.int (v12 - (1 : Int32)))) fun _ =>
  xbind (xgR 36 2 p0) fun v21 =>
  if v21 = none then (
    fJ29_deleteEntry_p57 a0 p0
  ) else (
    xbind (xgR 36 3 p0) fun v28 =>
    if v28 = none then (
      fJ29_deleteEntry_p57 a0 p0
    ) else (
      xbind (fJ29_successor p0) fun v35 =>
      xbind (xgR 36 0 v35) fun v41 =>
      xbind (xput 36 0 p0 (va_rf v41)) fun _ =>
      xbind (xgR 36 1 v35) fun v49 =>
      xbind (xput 36 1 p0 (va_rf v49)) fun _ =>
      fJ29_deleteEntry_p57 a0 v35
    )
  )
def fJ29_remove (a0 : Nat) (p0 : Option Nat) : xM (Option Nat) :=
  xbind (xsel (some a0) [(16, fun z => fJ29_getEntry z p0)]) fun v2 =>
  if v2 = none then (
    xpure none
  ) else (
    xbind (xgR 36 1 v2) fun v13 =>
    xbind (xsel (some a0) [(16, fun z => fJ29_deleteEntry z v2)]) fun _ =>
    xpure v13
  )
def fJ0_isEmpty__J19 (a0 : Nat) : xM (Int32) :=
  xbind (xsel (some a0) [(6, fun z => fJ19_size z)]) fun v1 =>
  if v1 = 0 then (
    xpure (1 : Int32)
  ) else (
    xpure (0 : Int32)
  )
def fJ19_unlinkLast_p42 (l0 : Nat) (l2 : Option Nat) : xM (Option Nat) :=
  xbind (xgI 6 1 (some l0)) fun v44 =>
  xbind (xput 6 1 (some l0) (.int (v44 - (1 : Int32)))) fun _ =>
  xbind (xgI 6 0 (some l0)) fun v54 =>
  xbind (xput 6 0 (some l0) (.int (v54 + (1 : Int32)))) fun _ =>
  xpure l2
def fJ19_unlinkLast (a0 : Nat) (p0 : Option Nat) : xM (Option Nat) :=
  xbind (xgR 25 0 p0) fun v1 =>
  xbind (xgR 25 2 p0) fun v6 =>
  xbind (xput 25 0 p0 (va_rf none)) fun _ =>
  xbind (xput 25 2 p0 (va_rf none)) fun _ =>
  xbind (xput 6 3 (some a0) (va_rf v6)) fun _ =>
  if v6 = none then (
    xbind (xput 6 2 (some a0) (va_rf none)) fun _ =>
    fJ19_unlinkLast_p42 a0 v1
  ) else (
    xbind (xput 25 1 v6 (va_rf none)) fun _ =>
    fJ19_unlinkLast_p42 a0 v1
  )
def fJ19_removeLast (a0 : Nat) : xM (Option Nat) :=
  xbind (xgR 6 3 (some a0)) fun v1 =>
  if v1 = none then (
    xstuck
  ) else (
    xbind (xsel (some a0) [(6, fun z => fJ19_unlinkLast z v1)]) fun v19 =>
    xpure v19
  )
def fX1_undo_p58 (k33 : Nat → Option Nat → Option Nat → xM (Int32)) : Nat → Nat → Option Nat → Option Nat → Option Nat → Int32 → xM (Int32)
  | 0, _, _, _, _, _ => xstuck
  | n + 1, l0, l1, l2, l3, l4 =>
    xbind (xgR 0 4 (some l0)) fun v61 =>
    xbind (xgI 1 2 v61) fun v64 =>
    if v64 ≤ l4 then (
      k33 l0 l1 l2
    ) else (
      xbind (xgR 19 0 l3) fun v71 =>
      xbind (xgR 20 5 v71) fun v74 =>
      xbind (fJ17_valueOf l4) fun v79 =>
      xbind (xsel v74 [(16, fun z => fJ29_remove z v79)]) fun v82 =>
      xbind (xcst (fun c => c == 22) v82) fun _ =>
      xlet (l4 + (1 : Int32)) fun x4_90 =>
      fX1_undo_p58 k33 n l0 l1 l2 l3 x4_90
    )
def fX1_undo_p33 : Nat → Nat → Option Nat → Option Nat → xM (Int32)
  | 0, _, _, _ => xstuck
  | n + 1, l0, l1, l2 =>
    xbind (xsel l2 [(7, fun z => fJ20_hasNext z)]) fun v34 =>
    if v34 = 0 then (
      xbind (xput 0 4 (some l0) (va_rf l1)) fun _ =>
      xbind (xgR 0 5 (some l0)) fun v105 =>
      xbind (xsel v105 [(6, fun z => fJ19_size z)]) fun v108 =>
      xpure v108
    ) else (
      xbind (xsel l2 [(7, fun z => fJ20_next z)]) fun v43 =>
      xbind (xcst (fun c => c == 19) v43) fun _ =>
      xbind (xgI 1 2 l1) fun v53 =>
      fX1_undo_p58 (fX1_undo_p33 n) xFU l0 l1 l2 v43 v53
    )
def fX1_undo (a0 : Nat) : xM (Int32) :=
  xbind (xgR 0 5 (some a0)) fun v1 =>
  xbind (xsel v1 [(6, fun z => fJ0_isEmpty__J19 z)]) fun v4 =>
  if v4 = 0 then (
    xbind (xgR 0 5 (some a0)) fun v13 =>
    xbind (xsel v13 [(6, fun z => fJ19_removeLast z)]) fun v16 =>
    xbind (xcst (fun c => c == 1) v16) fun _ =>
    xbind (xgR 1 0 v16) fun v24 =>
    xbind (xsel v24 [(2, fun z => fJ2_iterator z)]) fun v27 =>
    fX1_undo_p33 xFU a0 v16 v27
  ) else (
    xpure (-1 : Int32)
  )
def fX1_undoDepth (a0 : Nat) : xM (Int32) :=
  xbind (xgR 0 5 (some a0)) fun v1 =>
  xbind (xsel v1 [(6, fun z => fJ19_size z)]) fun v4 =>
  xpure v4
def fX1_formattedByte (a0 : Nat) (p0 : Int32) : xM (Int32) :=
  xbind (xgR 0 6 (some a0)) fun v3 =>
  xbind (xsel v3 [(5, fun z => fJ9_length z)]) fun v6 =>
  xbind (fX1_inRange p0 (0 : Int32) (v6 - (1 : Int32))) fun v11 =>
  if v11 = 0 then (
    xpure (-1 : Int32)
  ) else (
    xbind (xgR 0 6 (some a0)) fun v18 =>
    xbind (xsel v18 [(5, fun z => fJ9_charAt z p0)]) fun v22 =>
    xpure v22
  )
