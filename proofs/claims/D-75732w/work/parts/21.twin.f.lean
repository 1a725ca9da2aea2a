/-! twin: the functions -/
def fX3_thrown (a0 : Nat) : xM (Int32) :=
  xbind (xgI 39 0 (some a0)) fun v1 =>
  xpure v1
def fX3_begins_p2 : Nat → Nat → Int32 → xM (Unit)
  | 0, _, _ => xstuck
  | n + 1, l0, l1 =>
    if (592 : Int32) ≤ l1 then (
      xbind (xput 39 4 (some l0) (.int (0 : Int32))) fun _ =>
      xpure ()
    ) else (
      xbind (xgR 39 1 (some l0)) fun v10 =>
      xbind (xstI 1 v10 l1 (0 : Int32)) fun _ =>
      xlet (l1 + (1 : Int32)) fun x1_16 =>
      fX3_begins_p2 n l0 x1_16
    )
def fX3_begins (a0 : Nat) : xM (Unit) :=
  xlet (0 : Int32) fun x1_1 =>
  fX3_begins_p2 xFU a0 x1_1
def fX3_init (a0 : Nat) : xM (Unit) :=
  xbind (xnewA 1 (fun N => (N, .inl (fun _ => 0))) (592 : Int32)) fun v8 =>
  xbind (xput 39 1 (some a0) (va_rf (some v8))) fun _ =>
  xbind (xnewA 1 (fun N => (N, .inl (fun _ => 0))) (592 : Int32)) fun v17 =>
  xbind (xput 39 2 (some a0) (va_rf (some v17))) fun _ =>
  xbind (xnewA 1 (fun N => (N, .inl (fun _ => 0))) (4736 : Int32)) fun v26 =>
  xbind (xput 39 3 (some a0) (va_rf (some v26))) fun _ =>
  xbind (xnewA 1 (fun N => (N, .inl (fun _ => 0))) (280000 : Int32)) fun v34 =>
  xbind (xput 39 5 (some a0) (va_rf (some v34))) fun _ =>
  xbind (xnewA 1 (fun N => (N, .inl (fun _ => 0))) (5604 : Int32)) fun v43 =>
  xbind (xput 39 6 (some a0) (va_rf (some v43))) fun _ =>
  xbind (xnewA 1 (fun N => (N, .inl (fun _ => 0))) (5604 : Int32)) fun v52 =>
  xbind (xput 39 7 (some a0) (va_rf (some v52))) fun _ =>
  xbind (xnewA 2 (fun N => (N, .inr (.inl (fun _ => 0)))) (1401 : Int32)) fun v61 =>
  xbind (xput 39 8 (some a0) (va_rf (some v61))) fun _ =>
  xbind (xnewA 0 (fun N => (N, .inl (fun _ => 0))) (900 : Int32)) fun v70 =>
  xbind (xput 39 10 (some a0) (va_rf (some v70))) fun _ =>
  xbind (xnewA 1 (fun N => (N, .inl (fun _ => 0))) (5 : Int32)) fun v77 =>
  xbind (xput 39 11 (some a0) (va_rf (some v77))) fun _ =>
  xbind (xput 39 18 (some a0) (.int (-1 : Int32))) fun _ =>
  xbind (xnewA 1 (fun N => (N, .inl (fun _ => 0))) (5 : Int32)) fun v89 =>
  xbind (xput 39 22 (some a0) (va_rf (some v89))) fun _ =>
  xbind (xnewA 0 (fun N => (N, .inl (fun _ => 0))) (300 : Int32)) fun v98 =>
  xbind (xput 39 23 (some a0) (va_rf (some v98))) fun _ =>
  xbind (xsel (some a0) [(39, fun z => fX3_begins z)]) fun _ =>
  xpure ()
def fX3_copies_p3 : Nat → Option Nat → Int32 → Option Nat → Int32 → Int32 → xM (Unit)
  | 0, _, _, _, _, _ => xstuck
  | n + 1, l1, l2, l3, l4, l5 =>
    if (592 : Int32) ≤ l5 then (
      xpure ()
    ) else (
      xbind (xldI 1 l1 (l2 + l5)) fun v22 =>
      xbind (xstI 1 l3 (l4 + l5) v22) fun _ =>
      xlet (l5 + (1 : Int32)) fun x5_24 =>
      fX3_copies_p3 n l1 l2 l3 l4 x5_24
    )
def fX3_copies (a0 : Nat) (p0 : Option Nat) (p1 : Int32) (p2 : Option Nat) (p3 : Int32) : xM (Unit) :=
  xlet (0 : Int32) fun x5_1 =>
  fX3_copies_p3 xFU p0 p1 p2 p3 x5_1
def fX3_undo (a0 : Nat) : xM (Int32) :=
  xbind (xput 39 0 (some a0) (.int (0 : Int32))) fun _ =>
  xbind (xgI 39 4 (some a0)) fun v6 =>
  if v6 = 0 then (
    xpure (-1 : Int32)
  ) else (
    xbind (xgI 39 4 (some a0)) fun v16 =>
    xbind (xput 39 4 (some a0) (.int (v16 - (1 : Int32)))) fun _ =>
    xbind (xgR 39 3 (some a0)) fun v26 =>
    xbind (xgI 39 4 (some a0)) fun v33 =>
    xbind (xgR 39 1 (some a0)) fun v38 =>
    xbind (xsel (some a0) [(39, fun z => fX3_copies z v26 ((592 : Int32) * v33) v38 (0 : Int32))]) fun _ =>
    xbind (xgI 39 4 (some a0)) fun v46 =>
    xpure v46
  )
def fX3_undoDepth (a0 : Nat) : xM (Int32) :=
  xbind (xput 39 0 (some a0) (.int (0 : Int32))) fun _ =>
  xbind (xgI 39 4 (some a0)) fun v6 =>
  xpure v6
def fX3_append_p60 : Nat → Nat → Int32 → xM (Int32)
  | 0, _, _ => xstuck
  | n + 1, l0, l6 =>
    if (20 : Int32) ≤ l6 then (
      xbind (xgI 39 12 (some l0)) fun v108 =>
      xbind (xput 39 12 (some l0) (.int (v108 + (20 : Int32)))) fun _ =>
      xbind (xgI 39 12 (some l0)) fun v118 =>
      xpure v118
    ) else (
      xbind (xgR 39 10 (some l0)) fun v68 =>
      xbind (xgI 39 12 (some l0)) fun v72 =>
      xbind (xgR 39 11 (some l0)) fun v79 =>
      xdv (4 : Int32) <|
      xbind (xldI 1 v79 (l6 / (4 : Int32))) fun v86 =>
      xdv (4 : Int32) <|
      xbind (xstI 0 v68 (v72 + l6) (((v86 >>> (((24 : Int32) - ((8 : Int32) * (l6 - l6 / (4 : Int32) * (4 : Int32)))) &&& 31)).toInt8.toInt32).toInt8.toInt32)) fun _ =>
      xlet (l6 + (1 : Int32)) fun x6_100 =>
      fX3_append_p60 n l0 x6_100
    )
def fX3_append (a0 : Nat) (p0 : Int32) (p1 : Int32) (p2 : Int32) (p3 : Int32) (p4 : Int32) : xM (Int32) :=
  xbind (xput 39 0 (some a0) (.int (0 : Int32))) fun _ =>
  xbind (xgI 39 12 (some a0)) fun v6 =>
  if (v6 + (20 : Int32)) ≤ (900 : Int32) then (
    xbind (xgR 39 11 (some a0)) fun v21 =>
    xbind (xstI 1 v21 (0 : Int32) p0) fun _ =>
    xbind (xgR 39 11 (some a0)) fun v28 =>
    xbind (xstI 1 v28 (1 : Int32) p1) fun _ =>
    xbind (xgR 39 11 (some a0)) fun v35 =>
    xbind (xstI 1 v35 (2 : Int32) p2) fun _ =>
    xbind (xgR 39 11 (some a0)) fun v42 =>
    xbind (xstI 1 v42 (3 : Int32) p3) fun _ =>
    xbind (xgR 39 11 (some a0)) fun v50 =>
    xbind (xstI 1 v50 (4 : Int32) p4) fun _ =>
    xlet (0 : Int32) fun x6_58 =>
    fX3_append_p60 xFU a0 x6_58
  ) else (
    xpure (-1 : Int32)
  )
def fX3_truncate (a0 : Nat) (p0 : Int32) : xM (Int32) :=
  xbind (xput 39 0 (some a0) (.int (0 : Int32))) fun _ =>
  if p0 < 0 then (
    xpure (0 : Int32)
  ) else (
    xbind (xgI 39 12 (some a0)) fun v11 =>
    if p0 ≤ v11 then (
      xbind (xput 39 12 (some a0) (.int p0)) fun _ =>
      xpure (1 : Int32)
    ) else (
      xpure (0 : Int32)
    )
  )
def fX3_errorOffset (a0 : Nat) : xM (Int32) :=
  xbind (xput 39 0 (some a0) (.int (0 : Int32))) fun _ =>
  xbind (xgI 39 18 (some a0)) fun v6 =>
  xpure v6
def fX3_errorKind (a0 : Nat) : xM (Int32) :=
  xbind (xput 39 0 (some a0) (.int (0 : Int32))) fun _ =>
  xbind (xgI 39 19 (some a0)) fun v6 =>
  xpure v6
def fX3_at (p0 : Int32) (p1 : Int32) : xM (Int32) :=
  xpure (((64 : Int32) + ((132 : Int32) * p0)) + p1)
def fJ12_min_2 (p0 : Int64) (p1 : Int64) : xM (Int64) :=
  if 0 < (lg_cmp p0 p1) then (
    xpure p1
  ) else (
    xpure p0
  )
def fJ12_max_2 (p0 : Int64) (p1 : Int64) : xM (Int64) :=
  if (lg_cmp p0 p1) < 0 then (
    xpure p1
  ) else (
    xpure p0
  )
def fX3_of (a0 : Nat) (p0 : Int32) (p1 : Int32) : xM (Int32) :=
  xbind (xgR 39 1 (some a0)) fun v1 =>
  xbind (fX3_at p0 p1) fun v6 =>
  xbind (xldI 1 v1 v6) fun v9 =>
  xpure v9
def fX3_oldest (a0 : Nat) (p0 : Int32) : xM (Int32) :=
  xbind (xsel (some a0) [(39, fun z => fX3_of z p0 (1 : Int32))]) fun v3 =>
  xpure v3
def fX3_cohortOf (a0 : Nat) (p0 : Int32) (p1 : Int32) : xM (Int32) :=
  xbind (xsel (some a0) [(39, fun z => fX3_of z p0 ((39 : Int32) + p1))]) fun v6 =>
  xpure v6
def fX3_totalOf_p4 : Nat → Nat → Int32 → Int32 → Int32 → xM (Int32)
  | 0, _, _, _, _ => xstuck
  | n + 1, l0, l1, l2, l3 =>
    xbind (xsel (some l0) [(39, fun z => fX3_oldest z l1)]) fun v7 =>
    if v7 < l3 then (
      xpure l2
    ) else (
      xbind (xsel (some l0) [(39, fun z => fX3_cohortOf z l1 l3)]) fun v17 =>
      xlet (l2 + v17) fun x2_21 =>
      xlet (l3 + (1 : Int32)) fun x3_22 =>
      fX3_totalOf_p4 n l0 l1 x2_21 x3_22
    )
def fX3_totalOf (a0 : Nat) (p0 : Int32) : xM (Int32) :=
  xlet (0 : Int32) fun x2_1 =>
  xlet (0 : Int32) fun x3_3 =>
  fX3_totalOf_p4 xFU a0 p0 x2_1 x3_3
def fX3_adultsOf_p9 : Nat → Nat → Int32 → Int32 → Int32 → xM (Int32)
  | 0, _, _, _, _ => xstuck
  | n + 1, l0, l1, l2, l3 =>
    xbind (xsel (some l0) [(39, fun z => fX3_oldest z l1)]) fun v12 =>
    if v12 < l3 then (
      xpure l2
    ) else (
      xbind (xsel (some l0) [(39, fun z => fX3_cohortOf z l1 l3)]) fun v22 =>
      xlet (l2 + v22) fun x2_26 =>
      xlet (l3 + (1 : Int32)) fun x3_27 =>
      fX3_adultsOf_p9 n l0 l1 x2_26 x3_27
    )
def fX3_adultsOf (a0 : Nat) (p0 : Int32) : xM (Int32) :=
  xlet (0 : Int32) fun x2_1 =>
  xbind (xsel (some a0) [(39, fun z => fX3_of z p0 (2 : Int32))]) fun v5 =>
  fX3_adultsOf_p9 xFU a0 p0 x2_1 v5
def fX3_limited (p0 : Int64) : xM (Int64) :=
  xbind (fJ12_min_2 (1000000000 : Int64) p0) fun v7 =>
  xbind (fJ12_max_2 (-1000000000 : Int64) v7) fun v10 =>
  xpure v10
def fX3_worked_p80 (l2 : Int64) (l4 : Int64) (s0 : Int32) (s1 : Nat) : xM (Int64) :=
  xbind (xpN 39 9 .boolean (some s1) s0) fun _ =>
  if (lg_cmp l4 (0 : Int64)) = 0 then (
    xpure (0 : Int64)
  ) else (
    xdvJ l4 <|
    xbind (fX3_limited (l2 / l4)) fun v98 =>
    xpure v98
  )
def fX3_worked_p75 (l2 : Int64) (l4 : Int64) (s0 : Nat) : xM (Int64) :=
  fX3_worked_p80 l2 l4 (1 : Int32) s0
def fX3_worked (a0 : Nat) (p0 : Int32) (p1 : Int64) (p2 : Int64) : xM (Int64) :=
  if p0 = (5 : Int32) then (
    xbind (fX3_limited (p1 + p2)) fun v40 =>
    xpure v40
  ) else (
    if p0 = (6 : Int32) then (
      xbind (fX3_limited (p1 - p2)) fun v48 =>
      xpure v48
    ) else (
      if p0 = (7 : Int32) then (
        xbind (fX3_limited (p1 * p2)) fun v56 =>
        xpure v56
      ) else (
        if p0 = (8 : Int32) then (
          xbind (xgI 39 9 (some a0)) fun v62 =>
          if v62 = 0 then (
            if (lg_cmp p2 (0 : Int64)) = 0 then (
              fX3_worked_p75 p1 p2 a0
            ) else (
              fX3_worked_p80 p1 p2 (0 : Int32) a0
            )
          ) else (
            fX3_worked_p75 p1 p2 a0
          )
        ) else (
          if p0 = (9 : Int32) then (
            xbind (fJ12_min_2 p1 p2) fun v105 =>
            xpure v105
          ) else (
            xbind (fJ12_max_2 p1 p2) fun v112 =>
            xpure v112
          )
        )
      )
    )
  )
def fX3_valueOf_p166 (k16 : Nat → Int32 → Int32 → Int32 → Int32 → xM (Int64)) (l0 : Nat) (l1 : Int32) (l2 : Int32) (l3 : Int32) (l4 : Int32) : xM (Int64) :=
  xlet (l4 + (1 : Int32)) fun x4_166 =>
  k16 l0 l1 l2 l3 x4_166
def fX3_valueOf_p162 (k16 : Nat → Int32 → Int32 → Int32 → Int32 → xM (Int64)) (l0 : Nat) (l1 : Int32) (l2 : Int32) (l3 : Int32) (l4 : Int32) (s0 : Int64) (s1 : Int32) (s2 : Option Nat) : xM (Int64) :=
  xbind (xstJ 2 s2 s1 s0) fun _ =>
  xlet (l3 + (1 : Int32)) fun x3_163 =>
  fX3_valueOf_p166 k16 l0 l1 l2 x3_163 l4
def fX3_valueOf_p86 (k16 : Nat → Int32 → Int32 → Int32 → Int32 → xM (Int64)) (l0 : Nat) (l1 : Int32) (l2 : Int32) (l3 : Int32) (l4 : Int32) (l5 : Int32) : xM (Int64) :=
  xbind (xgR 39 8 (some l0)) fun v87 =>
  if l5 = 0 then (
    xbind (xgR 39 6 (some l0)) fun v97 =>
    xbind (xldI 1 v97 (l2 + l4)) fun v104 =>
    fX3_valueOf_p162 k16 l0 l1 l2 l3 l4 v104.toInt64 l3 v87
  ) else (
    if l5 = (1 : Int32) then (
      xbind (xsel (some l0) [(39, fun z => fX3_totalOf z l1)]) fun v117 =>
      fX3_valueOf_p162 k16 l0 l1 l2 l3 l4 v117.toInt64 l3 v87
    ) else (
      if l5 = (2 : Int32) then (
        xbind (xsel (some l0) [(39, fun z => fX3_adultsOf z l1)]) fun v132 =>
        fX3_valueOf_p162 k16 l0 l1 l2 l3 l4 v132.toInt64 l3 v87
      ) else (
        if l5 = (3 : Int32) then (
          xbind (xsel (some l0) [(39, fun z => fX3_cohortOf z l1 (0 : Int32))]) fun v148 =>
          fX3_valueOf_p162 k16 l0 l1 l2 l3 l4 v148.toInt64 l3 v87
        ) else (
          xbind (xgR 39 1 (some l0)) fun v156 =>
          xbind (xldI 1 v156 (1 : Int32)) fun v160 =>
          fX3_valueOf_p162 k16 l0 l1 l2 l3 l4 v160.toInt64 l3 v87
        )
      )
    )
  )
def fX3_valueOf_p16 : Nat → Nat → Int32 → Int32 → Int32 → Int32 → xM (Int64)
  | 0, _, _, _, _, _ => xstuck
  | n + 1, l0, l1, l2, l3, l4 =>
    xbind (xgR 39 6 (some l0)) fun v19 =>
    xbind (xldI 1 v19 l2) fun v23 =>
    if v23 < l4 then (
      xbind (xgR 39 6 (some l0)) fun v173 =>
      xbind (xldI 1 v173 l2) fun v177 =>
      if v177 = 0 then (
        xpure (0 : Int64)
      ) else (
        xbind (xgR 39 8 (some l0)) fun v186 =>
        xbind (xldJ 2 v186 (0 : Int32)) fun v190 =>
        xpure v190
      )
    ) else (
      xbind (xgR 39 6 (some l0)) fun v28 =>
      xbind (xldI 1 v28 (l2 + l4)) fun v35 =>
      if v35 < (5 : Int32) then (
        if v35 = 0 then (
          xlet (l4 + (1 : Int32)) fun x4_83 =>
          fX3_valueOf_p86 (fX3_valueOf_p16 n) l0 l1 l2 l3 x4_83 v35
        ) else (
          fX3_valueOf_p86 (fX3_valueOf_p16 n) l0 l1 l2 l3 l4 v35
        )
      ) else (
        xlet (l3 + (-1 : Int32)) fun x3_44 =>
        xbind (xgR 39 8 (some l0)) fun v48 =>
        xbind (xgR 39 8 (some l0)) fun v58 =>
        xbind (xldJ 2 v58 (x3_44 - (1 : Int32))) fun v64 =>
        xbind (xgR 39 8 (some l0)) fun v66 =>
        xbind (xldJ 2 v66 x3_44) fun v70 =>
        xbind (xsel (some l0) [(39, fun z => fX3_worked z v35 v64 v70)]) fun v71 =>
        xbind (xstJ 2 v48 (x3_44 - (1 : Int32)) v71) fun _ =>
        fX3_valueOf_p166 (fX3_valueOf_p16 n) l0 l1 l2 x3_44 l4
      )
    )
def fX3_valueOf (a0 : Nat) (p0 : Int32) : xM (Int64) :=
  xlet ((1401 : Int32) * p0) fun x2_5 =>
  xlet (0 : Int32) fun x3_7 =>
  xbind (xpN 39 9 .boolean (some a0) (0 : Int32)) fun _ =>
  xlet (1 : Int32) fun x4_14 =>
  fX3_valueOf_p16 xFU a0 p0 x2_5 x3_7 x4_14
def fX3_opens_p126 (s0 : Int32) (s1 : Int32) (s2 : Option Nat) : xM (Unit) :=
  xbind (xstI 1 s2 s1 s0) fun _ =>
  xpure ()
def fX3_opens_p94 (l0 : Nat) (l1 : Int32) (l2 : Int32) (l3 : Int64) (s0 : Int32) (s1 : Int32) (s2 : Option Nat) : xM (Unit) :=
  xbind (xstI 1 s2 s1 s0) fun _ =>
  xbind (xgR 39 1 (some l0)) fun v96 =>
  xbind (fX3_at l1 (5 : Int32)) fun v101 =>
  xbind (xgI 39 9 (some l0)) fun v105 =>
  if v105 = 0 then (
    xbind (fJ12_min_2 l2.toInt64 l3) fun v119 =>
    xbind (fJ12_max_2 (0 : Int64) v119) fun v122 =>
    fX3_opens_p126 v122.toInt32 v101 v96
  ) else (
    fX3_opens_p126 (0 : Int32) v101 v96
  )
def fX3_opens (a0 : Nat) (p0 : Int32) : xM (Unit) :=
  xbind (xsel (some a0) [(39, fun z => fX3_totalOf z p0)]) fun v2 =>
  xbind (xsel (some a0) [(39, fun z => fX3_valueOf z p0)]) fun v8 =>
  xbind (xgR 39 1 (some a0)) fun v13 =>
  xbind (fX3_at p0 (7 : Int32)) fun v19 =>
  xbind (xstI 1 v13 v19 v2) fun _ =>
  xbind (xgR 39 1 (some a0)) fun v25 =>
  xbind (fX3_at p0 (8 : Int32)) fun v31 =>
  xbind (xstI 1 v25 v31 (0 : Int32)) fun _ =>
  xbind (xgR 39 1 (some a0)) fun v37 =>
  xbind (fX3_at p0 (9 : Int32)) fun v43 =>
  xbind (xstI 1 v37 v43 (0 : Int32)) fun _ =>
  xbind (xgR 39 1 (some a0)) fun v49 =>
  xbind (fX3_at p0 (10 : Int32)) fun v55 =>
  xbind (xstI 1 v49 v55 (0 : Int32)) fun _ =>
  xbind (xgR 39 1 (some a0)) fun v61 =>
  xbind (fX3_at p0 (11 : Int32)) fun v67 =>
  xbind (xstI 1 v61 v67 (0 : Int32)) fun _ =>
  xbind (xgR 39 1 (some a0)) fun v73 =>
  xbind (fX3_at p0 (6 : Int32)) fun v79 =>
  xbind (xgI 39 9 (some a0)) fun v83 =>
  if v83 = 0 then (
    fX3_opens_p94 a0 p0 v2 v8 (0 : Int32) v79 v73
  ) else (
    fX3_opens_p94 a0 p0 v2 v8 (1 : Int32) v79 v73
  )
def fX3_hasFailed (a0 : Nat) : xM (Int32) :=
  xbind (xgI 39 16 (some a0)) fun v1 =>
  if v1 = (-1 : Int32) then (
    xpure (0 : Int32)
  ) else (
    xpure (1 : Int32)
  )
def fX3_throwsIf (a0 : Nat) (p0 : Int32) (p1 : Int32) : xM (Int32) :=
  if p0 = 0 then (
    xretN .boolean p0
  ) else (
    xbind (xput 39 0 (some a0) (.int p1)) fun _ =>
    xretN .boolean p0
  )
def fX3_takesBack (a0 : Nat) : xM (Unit) :=
  xbind (xgR 39 2 (some a0)) fun v2 =>
  xbind (xgR 39 1 (some a0)) fun v7 =>
  xbind (xsel (some a0) [(39, fun z => fX3_copies z v2 (0 : Int32) v7 (0 : Int32))]) fun _ =>
  xpure ()
def fX3_isAt (a0 : Nat) (p0 : Int32) (p1 : Int32) : xM (Int32) :=
  xbind (xgI 39 13 (some a0)) fun v1 =>
  xbind (xgI 39 15 (some a0)) fun v5 =>
  if v5 ≤ v1 then (
    xpure (0 : Int32)
  ) else (
    xbind (xgR 39 10 (some a0)) fun v12 =>
    xbind (xgI 39 13 (some a0)) fun v16 =>
    xbind (xldI 0 v12 v16) fun v19 =>
    if v19 < p0 then (
      xpure (0 : Int32)
    ) else (
      xbind (xgR 39 10 (some a0)) fun v25 =>
      xbind (xgI 39 13 (some a0)) fun v29 =>
      xbind (xldI 0 v25 v29) fun v32 =>
      if p1 < v32 then (
        xpure (0 : Int32)
      ) else (
        xpure (1 : Int32)
      )
    )
  )
def fX3_blanks_p30 (k8 : Nat → xM (Unit)) (l0 : Nat) : xM (Unit) :=
  xbind (xgI 39 13 (some l0)) fun v32 =>
  xbind (xput 39 13 (some l0) (.int (v32 + (1 : Int32)))) fun _ =>
  k8 l0
def fX3_blanks_p8 : Nat → Nat → xM (Unit)
  | 0, _ => xstuck
  | n + 1, l0 =>
    xbind (xsel (some l0) [(39, fun z => fX3_isAt z (9 : Int32) (10 : Int32))]) fun v13 =>
    if v13 = 0 then (
      xbind (xsel (some l0) [(39, fun z => fX3_isAt z (32 : Int32) (32 : Int32))]) fun v24 =>
      if v24 = 0 then (
        xbind (xgI 39 13 (some l0)) fun v45 =>
        xbind (xput 39 14 (some l0) (.int v45)) fun _ =>
        xpure ()
      ) else (
        fX3_blanks_p30 (fX3_blanks_p8 n) l0
      )
    ) else (
      fX3_blanks_p30 (fX3_blanks_p8 n) l0
    )
def fX3_blanks (a0 : Nat) : xM (Unit) :=
  xbind (xsel (some a0) [(39, fun z => fX3_hasFailed z)]) fun v1 =>
  if v1 = 0 then (
    fX3_blanks_p8 xFU a0
  ) else (
    xpure ()
  )
def fX3_takesSign_p25 (l0 : Nat) (s0 : Int32) : xM (Int32) :=
  if s0 = 0 then (
    xretN .boolean s0
  ) else (
    xbind (xgI 39 13 (some l0)) fun v32 =>
    xbind (xput 39 13 (some l0) (.int (v32 + (1 : Int32)))) fun _ =>
    xretN .boolean s0
  )
def fX3_takesSign_p24 (l0 : Nat) : xM (Int32) :=
  fX3_takesSign_p25 l0 (0 : Int32)
def fX3_takesSign (a0 : Nat) (p0 : Int32) : xM (Int32) :=
  xbind (xsel (some a0) [(39, fun z => fX3_blanks z)]) fun _ =>
  xbind (xsel (some a0) [(39, fun z => fX3_hasFailed z)]) fun v5 =>
  if v5 = 0 then (
    xbind (xsel (some a0) [(39, fun z => fX3_isAt z p0 p0)]) fun v14 =>
    if v14 = 0 then (
      fX3_takesSign_p24 a0
    ) else (
      fX3_takesSign_p25 a0 (1 : Int32)
    )
  ) else (
    fX3_takesSign_p24 a0
  )
def fX3_must (a0 : Nat) (p0 : Int32) (p1 : Int32) : xM (Unit) :=
  if p0 = 0 then (
    xbind (xsel (some a0) [(39, fun z => fX3_hasFailed z)]) fun v5 =>
    if v5 = 0 then (
      xbind (xgI 39 14 (some a0)) fun v14 =>
      xbind (xput 39 16 (some a0) (.int v14)) fun _ =>
      xbind (xput 39 17 (some a0) (.int p1)) fun _ =>
      xpure ()
    ) else (
      xpure ()
    )
  ) else (
    xpure ()
  )
def fX3_needs (a0 : Nat) (p0 : Int32) : xM (Unit) :=
  xbind (xsel (some a0) [(39, fun z => fX3_takesSign z p0)]) fun v2 =>
  xbind (xsel (some a0) [(39, fun z => fX3_must z v2 (1 : Int32))]) fun _ =>
  xpure ()
def fJ9_coder (a0 : Nat) : xM (Int32) :=
  if (1 : Int32) = 0 then (
    xpure (1 : Int32)
  ) else (
    xbind (xgI 5 1 (some a0)) fun v7 =>
    xretN .byte v7
  )
def fJ9_length (a0 : Nat) : xM (Int32) :=
  xbind (xgR 5 0 (some a0)) fun v1 =>
  xbind (xlen v1) fun v4 =>
  xbind (xsel (some a0) [(5, fun z => fJ9_coder z)]) fun v6 =>
  xpure (v4 >>> (v6 &&& 31))
def fJ9_isLatin1 (a0 : Nat) : xM (Int32) :=
  if (1 : Int32) = 0 then (
    xpure (0 : Int32)
  ) else (
    xbind (xgI 5 1 (some a0)) fun v7 =>
    if v7 = 0 then (
      xpure (1 : Int32)
    ) else (
      xpure (0 : Int32)
    )
  )
def fJ14_checkIndex_p9 (l0 : Int32) (l1 : Int32) (l2 : Option Nat) : xM (Int32) :=
  xstuck
def fJ14_checkIndex (p0 : Int32) (p1 : Int32) (p2 : Option Nat) : xM (Int32) :=
  if p0 < 0 then (
    fJ14_checkIndex_p9 p0 p1 p2
  ) else (
    if p0 < p1 then (
      xpure p0
    ) else (
      fJ14_checkIndex_p9 p0 p1 p2
    )
  )
def fJ9_checkIndex (p0 : Int32) (p1 : Int32) : xM (Unit) :=
  xbind (xcon 17) fun v2 =>
  xbind (fJ14_checkIndex p0 p1 v2) fun v5 =>
  xpure ()
def fJ15_charAt (p0 : Option Nat) (p1 : Int32) : xM (Int32) :=
  xbind (xlen p0) fun v2 =>
  xbind (fJ9_checkIndex p1 v2) fun _ =>
  xbind (xldI 0 p0 p1) fun v8 =>
  xretN .char (((v8 &&& (255 : Int32)).toUInt32 % 65536).toInt32)
def fJ9_charAt (a0 : Nat) (p0 : Int32) : xM (Int32) :=
  xbind (xsel (some a0) [(5, fun z => fJ9_isLatin1 z)]) fun v1 =>
  if v1 = 0 then (
    xbind (xgR 5 0 (some a0)) fun v17 =>
    xstuck
  ) else (
    xbind (xgR 5 0 (some a0)) fun v8 =>
    xbind (fJ15_charAt v8 p0) fun v12 =>
    xretN .char v12
  )
def fX3_wordHere_p45 (l0 : Nat) (l1 : Int32) : xM (Int32) :=
  xbind (xgI 39 13 (some l0)) fun v47 =>
  xpure (l1 - v47)
def fX3_wordHere_p9 : Nat → Nat → Int32 → xM (Int32)
  | 0, _, _ => xstuck
  | n + 1, l0, l1 =>
    xbind (xgI 39 15 (some l0)) fun v11 =>
    if v11 ≤ l1 then (
      fX3_wordHere_p45 l0 l1
    ) else (
      xbind (xgR 39 10 (some l0)) fun v18 =>
      xbind (xldI 0 v18 l1) fun v22 =>
      if v22 < (97 : Int32) then (
        fX3_wordHere_p45 l0 l1
      ) else (
        xbind (xgR 39 10 (some l0)) fun v29 =>
        xbind (xldI 0 v29 l1) fun v33 =>
        if (122 : Int32) < v33 then (
          fX3_wordHere_p45 l0 l1
        ) else (
          xlet (l1 + (1 : Int32)) fun x1_39 =>
          fX3_wordHere_p9 n l0 x1_39
        )
      )
    )
def fX3_wordHere (a0 : Nat) : xM (Int32) :=
  xbind (xsel (some a0) [(39, fun z => fX3_blanks z)]) fun _ =>
  xbind (xgI 39 13 (some a0)) fun v5 =>
  fX3_wordHere_p9 xFU a0 v5
def fX3_takes_p62 (k26 : Nat → Option Nat → Int32 → Int32 → xM (Int32)) (l0 : Nat) (l1 : Option Nat) (l3 : Int32) (s0 : Int32) : xM (Int32) :=
  xlet (l3 + (1 : Int32)) fun x3_63 =>
  k26 l0 l1 s0 x3_63
def fX3_takes_p69 (l0 : Nat) (l1 : Option Nat) (l2 : Int32) : xM (Int32) :=
  if l2 = 0 then (
    xretN .boolean l2
  ) else (
    xbind (xgI 39 13 (some l0)) fun v75 =>
    xbind (xsel l1 [(5, fun z => fJ9_length z)]) fun v79 =>
    xbind (xput 39 13 (some l0) (.int (v75 + v79))) fun _ =>
    xretN .boolean l2
  )
def fX3_takes_p26 : Nat → Nat → Option Nat → Int32 → Int32 → xM (Int32)
  | 0, _, _, _, _ => xstuck
  | n + 1, l0, l1, l2, l3 =>
    if l2 = 0 then (
      fX3_takes_p69 l0 l1 l2
    ) else (
      xbind (xsel l1 [(5, fun z => fJ9_length z)]) fun v32 =>
      if v32 ≤ l3 then (
        fX3_takes_p69 l0 l1 l2
      ) else (
        xbind (xgR 39 10 (some l0)) fun v39 =>
        xbind (xgI 39 13 (some l0)) fun v43 =>
        xbind (xldI 0 v39 (v43 + l3)) fun v48 =>
        xbind (xsel l1 [(5, fun z => fJ9_charAt z l3)]) fun v51 =>
        if v48 = v51 then (
          fX3_takes_p62 (fX3_takes_p26 n) l0 l1 l3 (1 : Int32)
        ) else (
          fX3_takes_p62 (fX3_takes_p26 n) l0 l1 l3 (0 : Int32)
        )
      )
    )
def fX3_takes_p23 (l0 : Nat) (l1 : Option Nat) (s0 : Int32) : xM (Int32) :=
  xlet (0 : Int32) fun x3_25 =>
  fX3_takes_p26 xFU l0 l1 s0 x3_25
def fX3_takes_p22 (l0 : Nat) (l1 : Option Nat) : xM (Int32) :=
  fX3_takes_p23 l0 l1 (0 : Int32)
def fX3_takes (a0 : Nat) (p0 : Option Nat) : xM (Int32) :=
  xbind (xsel (some a0) [(39, fun z => fX3_hasFailed z)]) fun v1 =>
  if v1 = 0 then (
    xbind (xsel (some a0) [(39, fun z => fX3_wordHere z)]) fun v8 =>
    xbind (xsel p0 [(5, fun z => fJ9_length z)]) fun v12 =>
    if v8 = v12 then (
      fX3_takes_p23 a0 p0 (1 : Int32)
    ) else (
      fX3_takes_p22 a0 p0
    )
  ) else (
    fX3_takes_p22 a0 p0
  )
def fX3_puts (a0 : Nat) (p0 : Int32) : xM (Unit) :=
  xbind (xsel (some a0) [(39, fun z => fX3_hasFailed z)]) fun v1 =>
  if v1 = 0 then (
    xbind (xgR 39 7 (some a0)) fun v9 =>
    xbind (xgI 39 20 (some a0)) fun v13 =>
    xbind (xldI 1 v9 v13) fun v17 =>
    xbind (xstI 1 v9 v13 (v17 + (1 : Int32))) fun _ =>
    xbind (xgR 39 7 (some a0)) fun v22 =>
    xbind (xgI 39 20 (some a0)) fun v26 =>
    xbind (xgR 39 7 (some a0)) fun v30 =>
    xbind (xgI 39 20 (some a0)) fun v34 =>
    xbind (xldI 1 v30 v34) fun v37 =>
    xbind (xstI 1 v22 (v26 + v37) p0) fun _ =>
    xpure ()
  ) else (
    xpure ()
  )
def fX3_opensBracket_p33 (l0 : Nat) (s0 : Int32) (s1 : Nat) : xM (Unit) :=
  xbind (xsel (some s1) [(39, fun z => fX3_must z s0 (4 : Int32))]) fun _ =>
  xbind (xgI 39 21 (some l0)) fun v39 =>
  xbind (xput 39 21 (some l0) (.int (v39 + (1 : Int32)))) fun _ =>
  xbind (xsel (some l0) [(39, fun z => fX3_hasFailed z)]) fun v48 =>
  if v48 = 0 then (
    xbind (xgI 39 13 (some l0)) fun v56 =>
    xbind (xput 39 13 (some l0) (.int (v56 + (1 : Int32)))) fun _ =>
    xpure ()
  ) else (
    xpure ()
  )
def fX3_opensBracket (a0 : Nat) : xM (Unit) :=
  xbind (xsel (some a0) [(39, fun z => fX3_blanks z)]) fun _ =>
  xbind (xsel (some a0) [(39, fun z => fX3_isAt z (40 : Int32) (40 : Int32))]) fun v10 =>
  xbind (xsel (some a0) [(39, fun z => fX3_must z v10 (1 : Int32))]) fun _ =>
  xbind (xgI 39 21 (some a0)) fun v19 =>
  if (5 : Int32) ≤ (v19 + (1 : Int32)) then (
    fX3_opensBracket_p33 a0 (0 : Int32) a0
  ) else (
    fX3_opensBracket_p33 a0 (1 : Int32) a0
  )
def fX3_closesBracket (a0 : Nat) : xM (Unit) :=
  xbind (xsel (some a0) [(39, fun z => fX3_needs z (41 : Int32))]) fun _ =>
  xbind (xgI 39 21 (some a0)) fun v8 =>
  xbind (xput 39 21 (some a0) (.int (v8 - (1 : Int32)))) fun _ =>
  xpure ()
def fX3_readPair (S : Nat → xM (Unit)) (a0 : Nat) (p0 : Int32) : xM (Unit) :=
  xbind (xsel (some a0) [(39, fun z => fX3_opensBracket z)]) fun _ =>
  xbind (xsel (some a0) [(39, fun z => fX3_hasFailed z)]) fun v5 =>
  if v5 = 0 then (
    xbind (xsel (some a0) [(39, fun z => S z)]) fun _ =>
    xbind (xsel (some a0) [(39, fun z => fX3_needs z (44 : Int32))]) fun _ =>
    xbind (xsel (some a0) [(39, fun z => fX3_hasFailed z)]) fun v23 =>
    if v23 = 0 then (
      xbind (xsel (some a0) [(39, fun z => S z)]) fun _ =>
      xbind (xsel (some a0) [(39, fun z => fX3_closesBracket z)]) fun _ =>
      xbind (xsel (some a0) [(39, fun z => fX3_puts z p0)]) fun _ =>
      xpure ()
    ) else (
      xpure ()
    )
  ) else (
    xpure ()
  )
def fX3_in (p0 : Int64) (p1 : Int64) (p2 : Int64) : xM (Int32) :=
  if (lg_cmp p0 p1) < 0 then (
    xpure (0 : Int32)
  ) else (
    if 0 < (lg_cmp p0 p2) then (
      xpure (0 : Int32)
    ) else (
      xpure (1 : Int32)
    )
  )
def fX3_number_p71 (k28 : Nat → Int32 → Int32 → Int32 → xM (Int32)) (l0 : Nat) (l1 : Int32) (l2 : Int32) (l3 : Int32) : xM (Int32) :=
  xbind (xgI 39 13 (some l0)) fun v73 =>
  xbind (xput 39 13 (some l0) (.int (v73 + (1 : Int32)))) fun _ =>
  k28 l0 l1 l2 l3
def fX3_number_p116 (l0 : Nat) (l1 : Int32) (l3 : Int32) (s0 : Int32) (s1 : Nat) : xM (Int32) :=
  xbind (xsel (some s1) [(39, fun z => fX3_must z s0 (2 : Int32))]) fun _ =>
  xbind (xsel (some l0) [(39, fun z => fX3_hasFailed z)]) fun v121 =>
  if v121 = 0 then (
    xpure l3
  ) else (
    xpure l1
  )
def fX3_number_p115 (l0 : Nat) (l1 : Int32) (l3 : Int32) (s0 : Nat) : xM (Int32) :=
  fX3_number_p116 l0 l1 l3 (0 : Int32) s0
def fX3_number_p28 : Nat → Nat → Int32 → Int32 → Int32 → xM (Int32)
  | 0, _, _, _, _ => xstuck
  | n + 1, l0, l1, l2, l3 =>
    xbind (xsel (some l0) [(39, fun z => fX3_isAt z (48 : Int32) (57 : Int32))]) fun v33 =>
    if v33 = 0 then (
      xbind (xgI 39 13 (some l0)) fun v86 =>
      xbind (xgI 39 14 (some l0)) fun v90 =>
      if (6 : Int32) < (v86 - v90) then (
        fX3_number_p115 l0 l1 l3 l0
      ) else (
        xbind (fX3_in l3.toInt64 l1.toInt64 l2.toInt64) fun v105 =>
        if v105 = 0 then (
          fX3_number_p115 l0 l1 l3 l0
        ) else (
          fX3_number_p116 l0 l1 l3 (1 : Int32) l0
        )
      )
    ) else (
      xbind (xgI 39 13 (some l0)) fun v40 =>
      xbind (xgI 39 14 (some l0)) fun v44 =>
      if (6 : Int32) ≤ (v40 - v44) then (
        fX3_number_p71 (fX3_number_p28 n) l0 l1 l2 l3
      ) else (
        xbind (xgR 39 10 (some l0)) fun v58 =>
        xbind (xgI 39 13 (some l0)) fun v62 =>
        xbind (xldI 0 v58 v62) fun v65 =>
        xlet ((((10 : Int32) * l3) + v65) - (48 : Int32)) fun x3_70 =>
        fX3_number_p71 (fX3_number_p28 n) l0 l1 l2 x3_70
      )
    )
def fX3_number (a0 : Nat) (p0 : Int32) (p1 : Int32) : xM (Int32) :=
  xbind (xsel (some a0) [(39, fun z => fX3_blanks z)]) fun _ =>
  xbind (xsel (some a0) [(39, fun z => fX3_isAt z (48 : Int32) (57 : Int32))]) fun v10 =>
  xbind (xsel (some a0) [(39, fun z => fX3_must z v10 (1 : Int32))]) fun _ =>
  xbind (xsel (some a0) [(39, fun z => fX3_hasFailed z)]) fun v18 =>
  if v18 = 0 then (
    xlet (0 : Int32) fun x3_27 =>
    fX3_number_p28 xFU a0 p0 p1 x3_27
  ) else (
    xpure p0
  )
def fX3_readFactor_p179 (S : Nat → xM (Unit)) (l0 : Nat) (l1 : Int32) (s0 : Int32) (s1 : Nat) : xM (Unit) :=
  xbind (xsel (some s1) [(39, fun z => fX3_must z s0 (1 : Int32))]) fun _ =>
  xbind (xsel (some l0) [(39, fun z => fX3_puts z l1)]) fun _ =>
  xpure ()
def fX3_readFactor_p167 (S : Nat → xM (Unit)) (l0 : Nat) (s0 : Int32) : xM (Unit) :=
  if s0 = (-1 : Int32) then (
    fX3_readFactor_p179 S l0 s0 (0 : Int32) l0
  ) else (
    fX3_readFactor_p179 S l0 s0 (1 : Int32) l0
  )
def fX3_readFactor (S : Nat → xM (Unit)) (a0 : Nat) : xM (Unit) :=
  xbind (xsel (some a0) [(39, fun z => fX3_blanks z)]) fun _ =>
  xbind (xsel (some a0) [(39, fun z => fX3_hasFailed z)]) fun v5 =>
  if v5 = 0 then (
    xbind (xsel (some a0) [(39, fun z => fX3_isAt z (48 : Int32) (57 : Int32))]) fun v17 =>
    if v17 = 0 then (
      xbind (xsel (some a0) [(39, fun z => fX3_isAt z (40 : Int32) (40 : Int32))]) fun v49 =>
      if v49 = 0 then (
        xbind (xcon 125) fun v79 =>
        xbind (xsel (some a0) [(39, fun z => fX3_takes z v79)]) fun v81 =>
        if v81 = 0 then (
          xbind (xcon 126) fun v97 =>
          xbind (xsel (some a0) [(39, fun z => fX3_takes z v97)]) fun v99 =>
          if v99 = 0 then (
            xbind (xcon 127) fun v115 =>
            xbind (xsel (some a0) [(39, fun z => fX3_takes z v115)]) fun v117 =>
            if v117 = 0 then (
              xbind (xcon 128) fun v128 =>
              xbind (xsel (some a0) [(39, fun z => fX3_takes z v128)]) fun v130 =>
              if v130 = 0 then (
                xbind (xcon 129) fun v141 =>
                xbind (xsel (some a0) [(39, fun z => fX3_takes z v141)]) fun v143 =>
                if v143 = 0 then (
                  xbind (xcon 117) fun v154 =>
                  xbind (xsel (some a0) [(39, fun z => fX3_takes z v154)]) fun v156 =>
                  if v156 = 0 then (
                    fX3_readFactor_p167 S a0 (-1 : Int32)
                  ) else (
                    fX3_readFactor_p167 S a0 (4 : Int32)
                  )
                ) else (
                  fX3_readFactor_p167 S a0 (3 : Int32)
                )
              ) else (
                fX3_readFactor_p167 S a0 (2 : Int32)
              )
            ) else (
              fX3_readFactor_p167 S a0 (1 : Int32)
            )
          ) else (
            xbind (xsel (some a0) [(39, fun z => fX3_readPair S z (10 : Int32))]) fun _ =>
            xpure ()
          )
        ) else (
          xbind (xsel (some a0) [(39, fun z => fX3_readPair S z (9 : Int32))]) fun _ =>
          xpure ()
        )
      ) else (
        xbind (xsel (some a0) [(39, fun z => fX3_opensBracket z)]) fun _ =>
        xbind (xsel (some a0) [(39, fun z => fX3_hasFailed z)]) fun v60 =>
        if v60 = 0 then (
          xbind (xsel (some a0) [(39, fun z => S z)]) fun _ =>
          xbind (xsel (some a0) [(39, fun z => fX3_closesBracket z)]) fun _ =>
          xpure ()
        ) else (
          xpure ()
        )
      )
    ) else (
      xbind (xsel (some a0) [(39, fun z => fX3_number z (0 : Int32) (999999 : Int32))]) fun v27 =>
      xbind (xsel (some a0) [(39, fun z => fX3_puts z (0 : Int32))]) fun _ =>
      xbind (xsel (some a0) [(39, fun z => fX3_puts z v27)]) fun _ =>
      xpure ()
    )
  ) else (
    xpure ()
  )
def fX3_readTerm_p79 (S : Nat → xM (Unit)) (k17 : Nat → Int32 → xM (Unit)) (l0 : Nat) (l1 : Int32) : xM (Unit) :=
  k17 l0 l1
def fX3_readTerm_p70 (S : Nat → xM (Unit)) (k17 : Nat → Int32 → xM (Unit)) (l0 : Nat) (l1 : Int32) (l2 : Int32) : xM (Unit) :=
  if l1 = 0 then (
    fX3_readTerm_p79 S k17 l0 l1
  ) else (
    xbind (xsel (some l0) [(39, fun z => fX3_puts z l2)]) fun _ =>
    fX3_readTerm_p79 S k17 l0 l1
  )
def fX3_readTerm_p61 (S : Nat → xM (Unit)) (k17 : Nat → Int32 → xM (Unit)) (l0 : Nat) (l2 : Int32) (s0 : Int32) : xM (Unit) :=
  if s0 = 0 then (
    fX3_readTerm_p70 S k17 l0 s0 l2
  ) else (
    xbind (xsel (some l0) [(39, fun z => fX3_readFactor S z)]) fun _ =>
    fX3_readTerm_p70 S k17 l0 s0 l2
  )
def fX3_readTerm_p50 (S : Nat → xM (Unit)) (k17 : Nat → Int32 → xM (Unit)) (l0 : Nat) (s0 : Int32) : xM (Unit) :=
  if s0 = (-1 : Int32) then (
    fX3_readTerm_p61 S k17 l0 s0 (0 : Int32)
  ) else (
    fX3_readTerm_p61 S k17 l0 s0 (1 : Int32)
  )
def fX3_readTerm_p17 (S : Nat → xM (Unit)) : Nat → Nat → Int32 → xM (Unit)
  | 0, _, _ => xstuck
  | n + 1, l0, l1 =>
    if l1 = 0 then (
      xpure ()
    ) else (
      xbind (xsel (some l0) [(39, fun z => fX3_takesSign z (42 : Int32))]) fun v24 =>
      if v24 = 0 then (
        xbind (xsel (some l0) [(39, fun z => fX3_takesSign z (47 : Int32))]) fun v38 =>
        if v38 = 0 then (
          fX3_readTerm_p50 S (fX3_readTerm_p17 S n) l0 (-1 : Int32)
        ) else (
          fX3_readTerm_p50 S (fX3_readTerm_p17 S n) l0 (8 : Int32)
        )
      ) else (
        fX3_readTerm_p50 S (fX3_readTerm_p17 S n) l0 (7 : Int32)
      )
    )
def fX3_readTerm_p16 (S : Nat → xM (Unit)) (l0 : Nat) (s0 : Int32) : xM (Unit) :=
  fX3_readTerm_p17 S xFU l0 s0
def fX3_readTerm (S : Nat → xM (Unit)) (a0 : Nat) : xM (Unit) :=
  xbind (xsel (some a0) [(39, fun z => fX3_readFactor S z)]) fun _ =>
  xbind (xsel (some a0) [(39, fun z => fX3_hasFailed z)]) fun v5 =>
  if v5 = 0 then (
    fX3_readTerm_p16 S a0 (1 : Int32)
  ) else (
    fX3_readTerm_p16 S a0 (0 : Int32)
  )
def fX3_readSum_p78 (S : Nat → xM (Unit)) (k17 : Nat → Int32 → xM (Unit)) (l0 : Nat) (l1 : Int32) : xM (Unit) :=
  k17 l0 l1
def fX3_readSum_p69 (S : Nat → xM (Unit)) (k17 : Nat → Int32 → xM (Unit)) (l0 : Nat) (l1 : Int32) (l2 : Int32) : xM (Unit) :=
  if l1 = 0 then (
    fX3_readSum_p78 S k17 l0 l1
  ) else (
    xbind (xsel (some l0) [(39, fun z => fX3_puts z l2)]) fun _ =>
    fX3_readSum_p78 S k17 l0 l1
  )
def fX3_readSum_p60 (S : Nat → xM (Unit)) (k17 : Nat → Int32 → xM (Unit)) (l0 : Nat) (l2 : Int32) (s0 : Int32) : xM (Unit) :=
  if s0 = 0 then (
    fX3_readSum_p69 S k17 l0 s0 l2
  ) else (
    xbind (xsel (some l0) [(39, fun z => fX3_readTerm S z)]) fun _ =>
    fX3_readSum_p69 S k17 l0 s0 l2
  )
def fX3_readSum_p49 (S : Nat → xM (Unit)) (k17 : Nat → Int32 → xM (Unit)) (l0 : Nat) (s0 : Int32) : xM (Unit) :=
  if s0 = (-1 : Int32) then (
    fX3_readSum_p60 S k17 l0 s0 (0 : Int32)
  ) else (
    fX3_readSum_p60 S k17 l0 s0 (1 : Int32)
  )
def fX3_readSum_p17 (S : Nat → xM (Unit)) : Nat → Nat → Int32 → xM (Unit)
  | 0, _, _ => xstuck
  | n + 1, l0, l1 =>
    if l1 = 0 then (
      xpure ()
    ) else (
      xbind (xsel (some l0) [(39, fun z => fX3_takesSign z (43 : Int32))]) fun v24 =>
      if v24 = 0 then (
        xbind (xsel (some l0) [(39, fun z => fX3_takesSign z (45 : Int32))]) fun v37 =>
        if v37 = 0 then (
          fX3_readSum_p49 S (fX3_readSum_p17 S n) l0 (-1 : Int32)
        ) else (
          fX3_readSum_p49 S (fX3_readSum_p17 S n) l0 (6 : Int32)
        )
      ) else (
        fX3_readSum_p49 S (fX3_readSum_p17 S n) l0 (5 : Int32)
      )
    )
def fX3_readSum_p16 (S : Nat → xM (Unit)) (l0 : Nat) (s0 : Int32) : xM (Unit) :=
  fX3_readSum_p17 S xFU l0 s0
def fX3_readSum_b (S : Nat → xM (Unit)) (a0 : Nat) : xM (Unit) :=
  xbind (xsel (some a0) [(39, fun z => fX3_readTerm S z)]) fun _ =>
  xbind (xsel (some a0) [(39, fun z => fX3_hasFailed z)]) fun v5 =>
  if v5 = 0 then (
    fX3_readSum_p16 S a0 (1 : Int32)
  ) else (
    fX3_readSum_p16 S a0 (0 : Int32)
  )
def fX3_readSum : Nat → Nat → xM (Unit)
  | 0, _ => xstuck
  | d + 1, a0 => fX3_readSum_b (fX3_readSum d) a0
def fX3_readAllow (a0 : Nat) (p0 : Int32) : xM (Unit) :=
  xbind (xput 39 20 (some a0) (.int ((1401 : Int32) * p0))) fun _ =>
  xbind (xgR 39 7 (some a0)) fun v10 =>
  xbind (xgI 39 20 (some a0)) fun v14 =>
  xbind (xstI 1 v10 v14 (0 : Int32)) fun _ =>
  xbind (xput 39 21 (some a0) (.int (0 : Int32))) fun _ =>
  xbind (xsel (some a0) [(39, fun z => fX3_readSum 40 z)]) fun _ =>
  xpure ()
def fX3_readRow_p34 (k3 : Nat → Int32 → Int32 → Int32 → Int32 → xM (Unit)) (l0 : Nat) (l1 : Int32) (l2 : Int32) (l3 : Int32) (l4 : Int32) (s0 : Int32) (s1 : Nat) : xM (Unit) :=
  xbind (xsel (some s1) [(39, fun z => fX3_must z s0 (5 : Int32))]) fun _ =>
  xbind (xsel (some l0) [(39, fun z => fX3_number z (0 : Int32) l3)]) fun v41 =>
  xbind (xsel (some l0) [(39, fun z => fX3_hasFailed z)]) fun v47 =>
  if v47 = 0 then (
    xbind (xgR 39 1 (some l0)) fun v55 =>
    xbind (fX3_at l1 (l2 + l4)) fun v63 =>
    xbind (xstI 1 v55 v63 v41) fun _ =>
    xlet (l4 + (1 : Int32)) fun x4_69 =>
    xbind (xsel (some l0) [(39, fun z => fX3_blanks z)]) fun _ =>
    xbind (xsel (some l0) [(39, fun z => fX3_isAt z (48 : Int32) (57 : Int32))]) fun v81 =>
    if v81 = 0 then (
      xpure ()
    ) else (
      k3 l0 l1 l2 l3 x4_69
    )
  ) else (
    xpure ()
  )
def fX3_readRow_p29 (k3 : Nat → Int32 → Int32 → Int32 → Int32 → xM (Unit)) (l0 : Nat) (l1 : Int32) (l2 : Int32) (l3 : Int32) (l4 : Int32) (s0 : Nat) : xM (Unit) :=
  fX3_readRow_p34 k3 l0 l1 l2 l3 l4 (1 : Int32) s0
def fX3_readRow_p3 : Nat → Nat → Int32 → Int32 → Int32 → Int32 → xM (Unit)
  | 0, _, _, _, _, _ => xstuck
  | n + 1, l0, l1, l2, l3, l4 =>
    xbind (xsel (some l0) [(39, fun z => fX3_blanks z)]) fun _ =>
    xbind (xsel (some l0) [(39, fun z => fX3_isAt z (48 : Int32) (57 : Int32))]) fun v13 =>
    if v13 = 0 then (
      fX3_readRow_p29 (fX3_readRow_p3 n) l0 l1 l2 l3 l4 l0
    ) else (
      xbind (xsel (some l0) [(39, fun z => fX3_oldest z l1)]) fun v23 =>
      if v23 < l4 then (
        fX3_readRow_p34 (fX3_readRow_p3 n) l0 l1 l2 l3 l4 (0 : Int32) l0
      ) else (
        fX3_readRow_p29 (fX3_readRow_p3 n) l0 l1 l2 l3 l4 l0
      )
    )
def fX3_readRow (a0 : Nat) (p0 : Int32) (p1 : Int32) (p2 : Int32) : xM (Unit) :=
  xlet (0 : Int32) fun x4_1 =>
  fX3_readRow_p3 xFU a0 p0 p1 p2 x4_1
def fX3_readOf_p182 (l0 : Nat) (l1 : Int32) (l3 : Int32) (l4 : Int32) (l5 : Int32) (l6 : Int32) (l7 : Int32) (s0 : Int32) (s1 : Nat) : xM (Unit) :=
  xbind (xsel (some s1) [(39, fun z => fX3_must z s0 (1 : Int32))]) fun _ =>
  xbind (xsel (some l0) [(39, fun z => fX3_hasFailed z)]) fun v187 =>
  if v187 = 0 then (
    if l3 = 0 then (
      if l4 = 0 then (
        if l5 = 0 then (
          if l6 = 0 then (
            if l7 = 0 then (
              xbind (xsel (some l0) [(39, fun z => fX3_readAllow z l1)]) fun _ =>
              xpure ()
            ) else (
              xbind (xgR 39 1 (some l0)) fun v280 =>
              xbind (fX3_at l1 (3 : Int32)) fun v285 =>
              xbind (xsel (some l0) [(39, fun z => fX3_number z (1 : Int32) (99999 : Int32))]) fun v292 =>
              xbind (xstI 1 v280 v285 v292) fun _ =>
              xpure ()
            )
          ) else (
            xbind (xgR 39 1 (some l0)) fun v252 =>
            xbind (fX3_at l1 (2 : Int32)) fun v257 =>
            xbind (xsel (some l0) [(39, fun z => fX3_oldest z l1)]) fun v264 =>
            xbind (xsel (some l0) [(39, fun z => fX3_number z (0 : Int32) v264)]) fun v267 =>
            xbind (xstI 1 v252 v257 v267) fun _ =>
            xpure ()
          )
        ) else (
          xbind (xsel (some l0) [(39, fun z => fX3_readRow z l1 (39 : Int32) (99999 : Int32))]) fun _ =>
          xpure ()
        )
      ) else (
        xbind (xsel (some l0) [(39, fun z => fX3_readRow z l1 (26 : Int32) (9999 : Int32))]) fun _ =>
        xpure ()
      )
    ) else (
      xbind (xsel (some l0) [(39, fun z => fX3_readRow z l1 (13 : Int32) (1000 : Int32))]) fun _ =>
      xpure ()
    )
  ) else (
    xpure ()
  )
def fX3_readOf_p181 (l0 : Nat) (l1 : Int32) (l3 : Int32) (l4 : Int32) (l5 : Int32) (l6 : Int32) (l7 : Int32) (s0 : Nat) : xM (Unit) :=
  fX3_readOf_p182 l0 l1 l3 l4 l5 l6 l7 (0 : Int32) s0
def fX3_readOf_p160 (l0 : Nat) (l1 : Int32) (l2 : Int32) (l3 : Int32) (l4 : Int32) (l5 : Int32) (l6 : Int32) (l7 : Int32) (s0 : Int32) : xM (Unit) :=
  xbind (xput 39 14 (some l0) (.int l2)) fun _ =>
  if s0 = 0 then (
    fX3_readOf_p181 l0 l1 l3 l4 l5 l6 l7 l0
  ) else (
    if l1 < 0 then (
      fX3_readOf_p181 l0 l1 l3 l4 l5 l6 l7 l0
    ) else (
      fX3_readOf_p182 l0 l1 l3 l4 l5 l6 l7 (1 : Int32) l0
    )
  )
def fX3_readOf_p155 (l0 : Nat) (l1 : Int32) (l2 : Int32) (l3 : Int32) (l4 : Int32) (l5 : Int32) (l6 : Int32) (l7 : Int32) : xM (Unit) :=
  fX3_readOf_p160 l0 l1 l2 l3 l4 l5 l6 l7 (1 : Int32)
def fX3_readOf_p120 (l0 : Nat) (l1 : Int32) (l2 : Int32) (l3 : Int32) (l4 : Int32) (l5 : Int32) (l6 : Int32) (s0 : Int32) : xM (Unit) :=
  if l3 = 0 then (
    if l4 = 0 then (
      if l5 = 0 then (
        if l6 = 0 then (
          if s0 = 0 then (
            xbind (xcon 124) fun v147 =>
            xbind (xsel (some l0) [(39, fun z => fX3_takes z v147)]) fun v149 =>
            if v149 = 0 then (
              fX3_readOf_p160 l0 l1 l2 l3 l4 l5 l6 s0 (0 : Int32)
            ) else (
              fX3_readOf_p155 l0 l1 l2 l3 l4 l5 l6 s0
            )
          ) else (
            fX3_readOf_p155 l0 l1 l2 l3 l4 l5 l6 s0
          )
        ) else (
          fX3_readOf_p155 l0 l1 l2 l3 l4 l5 l6 s0
        )
      ) else (
        fX3_readOf_p155 l0 l1 l2 l3 l4 l5 l6 s0
      )
    ) else (
      fX3_readOf_p155 l0 l1 l2 l3 l4 l5 l6 s0
    )
  ) else (
    fX3_readOf_p155 l0 l1 l2 l3 l4 l5 l6 s0
  )
def fX3_readOf_p119 (l0 : Nat) (l1 : Int32) (l2 : Int32) (l3 : Int32) (l4 : Int32) (l5 : Int32) (l6 : Int32) : xM (Unit) :=
  fX3_readOf_p120 l0 l1 l2 l3 l4 l5 l6 (0 : Int32)
def fX3_readOf_p85 (l0 : Nat) (l1 : Int32) (l2 : Int32) (l3 : Int32) (l4 : Int32) (l5 : Int32) (s0 : Int32) : xM (Unit) :=
  if l3 = 0 then (
    if l4 = 0 then (
      if l5 = 0 then (
        if s0 = 0 then (
          xbind (xcon 123) fun v107 =>
          xbind (xsel (some l0) [(39, fun z => fX3_takes z v107)]) fun v109 =>
          if v109 = 0 then (
            fX3_readOf_p119 l0 l1 l2 l3 l4 l5 s0
          ) else (
            fX3_readOf_p120 l0 l1 l2 l3 l4 l5 s0 (1 : Int32)
          )
        ) else (
          fX3_readOf_p119 l0 l1 l2 l3 l4 l5 s0
        )
      ) else (
        fX3_readOf_p119 l0 l1 l2 l3 l4 l5 s0
      )
    ) else (
      fX3_readOf_p119 l0 l1 l2 l3 l4 l5 s0
    )
  ) else (
    fX3_readOf_p119 l0 l1 l2 l3 l4 l5 s0
  )
def fX3_readOf_p84 (l0 : Nat) (l1 : Int32) (l2 : Int32) (l3 : Int32) (l4 : Int32) (l5 : Int32) : xM (Unit) :=
  fX3_readOf_p85 l0 l1 l2 l3 l4 l5 (0 : Int32)
def fX3_readOf_p55 (l0 : Nat) (l1 : Int32) (l2 : Int32) (l3 : Int32) (l4 : Int32) (s0 : Int32) : xM (Unit) :=
  if l3 = 0 then (
    if l4 = 0 then (
      if s0 = 0 then (
        xbind (xcon 122) fun v72 =>
        xbind (xsel (some l0) [(39, fun z => fX3_takes z v72)]) fun v74 =>
        if v74 = 0 then (
          fX3_readOf_p84 l0 l1 l2 l3 l4 s0
        ) else (
          fX3_readOf_p85 l0 l1 l2 l3 l4 s0 (1 : Int32)
        )
      ) else (
        fX3_readOf_p84 l0 l1 l2 l3 l4 s0
      )
    ) else (
      fX3_readOf_p84 l0 l1 l2 l3 l4 s0
    )
  ) else (
    fX3_readOf_p84 l0 l1 l2 l3 l4 s0
  )
def fX3_readOf_p54 (l0 : Nat) (l1 : Int32) (l2 : Int32) (l3 : Int32) (l4 : Int32) : xM (Unit) :=
  fX3_readOf_p55 l0 l1 l2 l3 l4 (0 : Int32)
def fX3_readOf_p30 (l0 : Nat) (l1 : Int32) (l2 : Int32) (l3 : Int32) (s0 : Int32) : xM (Unit) :=
  if l3 = 0 then (
    if s0 = 0 then (
      xbind (xcon 121) fun v42 =>
      xbind (xsel (some l0) [(39, fun z => fX3_takes z v42)]) fun v44 =>
      if v44 = 0 then (
        fX3_readOf_p54 l0 l1 l2 l3 s0
      ) else (
        fX3_readOf_p55 l0 l1 l2 l3 s0 (1 : Int32)
      )
    ) else (
      fX3_readOf_p54 l0 l1 l2 l3 s0
    )
  ) else (
    fX3_readOf_p54 l0 l1 l2 l3 s0
  )
def fX3_readOf_p29 (l0 : Nat) (l1 : Int32) (l2 : Int32) (l3 : Int32) : xM (Unit) :=
  fX3_readOf_p30 l0 l1 l2 l3 (0 : Int32)
def fX3_readOf (a0 : Nat) (p0 : Int32) : xM (Unit) :=
  xbind (xgI 39 14 (some a0)) fun v1 =>
  xbind (xcon 119) fun v6 =>
  xbind (xsel (some a0) [(39, fun z => fX3_takes z v6)]) fun v8 =>
  if v8 = 0 then (
    xbind (xcon 120) fun v17 =>
    xbind (xsel (some a0) [(39, fun z => fX3_takes z v17)]) fun v19 =>
    if v19 = 0 then (
      fX3_readOf_p29 a0 p0 v1 v8
    ) else (
      fX3_readOf_p30 a0 p0 v1 v8 (1 : Int32)
    )
  ) else (
    fX3_readOf_p29 a0 p0 v1 v8
  )
def fX3_nameHere_p23 : Nat → Nat → Int32 → Int32 → Int32 → xM (Int32)
  | 0, _, _, _, _ => xstuck
  | n + 1, l0, l1, l2, l3 =>
    if l1 ≤ l3 then (
      xpure l2
    ) else (
      xbind (xsel (some l0) [(39, fun z => fX3_hasFailed z)]) fun v29 =>
      if v29 = 0 then (
        xbind (xgR 39 10 (some l0)) fun v40 =>
        xbind (xgI 39 13 (some l0)) fun v44 =>
        xbind (xldI 0 v40 (v44 + l3)) fun v49 =>
        xlet (((((27 : Int32) * l2) + v49) - (97 : Int32)) + (1 : Int32)) fun x2_56 =>
        xlet (l3 + (1 : Int32)) fun x3_57 =>
        fX3_nameHere_p23 n l0 l1 x2_56 x3_57
      ) else (
        xpure l2
      )
    )
def fX3_nameHere (a0 : Nat) : xM (Int32) :=
  xbind (xsel (some a0) [(39, fun z => fX3_wordHere z)]) fun v1 =>
  xbind (fX3_in v1.toInt64 (1 : Int64) (6 : Int64)) fun v12 =>
  xbind (xsel (some a0) [(39, fun z => fX3_must z v12 (1 : Int32))]) fun _ =>
  xlet (0 : Int32) fun x2_20 =>
  xlet (0 : Int32) fun x3_22 =>
  fX3_nameHere_p23 xFU a0 v1 x2_20 x3_22
def fX3_named_p2 : Nat → Nat → Int32 → Int32 → xM (Int32)
  | 0, _, _, _ => xstuck
  | n + 1, l0, l1, l2 =>
    xbind (xgR 39 1 (some l0)) fun v4 =>
    xbind (xldI 1 v4 (0 : Int32)) fun v8 =>
    if v8 ≤ l2 then (
      xpure (-1 : Int32)
    ) else (
      xbind (xsel (some l0) [(39, fun z => fX3_of z l2 (0 : Int32))]) fun v15 =>
      if v15 = l1 then (
        xpure l2
      ) else (
        xlet (l2 + (1 : Int32)) fun x2_24 =>
        fX3_named_p2 n l0 l1 x2_24
      )
    )
def fX3_named (a0 : Nat) (p0 : Int32) : xM (Int32) :=
  xlet (0 : Int32) fun x2_1 =>
  fX3_named_p2 xFU a0 p0 x2_1
def fX3_readSpecies_p141 : Nat → Nat → Int32 → Int32 → xM (Unit)
  | 0, _, _, _ => xstuck
  | n + 1, l0, l4, l5 =>
    if (13 : Int32) ≤ l5 then (
      xbind (xgR 39 7 (some l0)) fun v173 =>
      xbind (xstI 1 v173 ((1401 : Int32) * l4) (0 : Int32)) fun _ =>
      xbind (xgR 39 1 (some l0)) fun v185 =>
      xbind (xldI 1 v185 (0 : Int32)) fun v190 =>
      xbind (xstI 1 v185 (0 : Int32) (v190 + (1 : Int32))) fun _ =>
      xpure ()
    ) else (
      xbind (xgR 39 1 (some l0)) fun v149 =>
      xbind (fX3_at l4 ((13 : Int32) + l5)) fun v159 =>
      xbind (xstI 1 v149 v159 (500 : Int32)) fun _ =>
      xlet (l5 + (1 : Int32)) fun x5_166 =>
      fX3_readSpecies_p141 n l0 l4 x5_166
    )
def fX3_readSpecies_p53 (l0 : Nat) (l2 : Int32) (s0 : Int32) (s1 : Nat) : xM (Unit) :=
  xbind (xsel (some s1) [(39, fun z => fX3_must z s0 (3 : Int32))]) fun _ =>
  xbind (xsel (some l0) [(39, fun z => fX3_hasFailed z)]) fun v58 =>
  if v58 = 0 then (
    xbind (xgI 39 13 (some l0)) fun v67 =>
    xbind (xsel (some l0) [(39, fun z => fX3_wordHere z)]) fun v71 =>
    xbind (xput 39 13 (some l0) (.int (v67 + v71))) fun _ =>
    xbind (xsel (some l0) [(39, fun z => fX3_number z (1 : Int32) (12 : Int32))]) fun v82 =>
    xbind (xsel (some l0) [(39, fun z => fX3_hasFailed z)]) fun v87 =>
    if v87 = 0 then (
      xbind (xgR 39 1 (some l0)) fun v95 =>
      xbind (xldI 1 v95 (0 : Int32)) fun v99 =>
      xbind (xgR 39 1 (some l0)) fun v103 =>
      xbind (fX3_at v99 (0 : Int32)) fun v109 =>
      xbind (xstI 1 v103 v109 l2) fun _ =>
      xbind (xgR 39 1 (some l0)) fun v115 =>
      xbind (fX3_at v99 (1 : Int32)) fun v121 =>
      xbind (xstI 1 v115 v121 v82) fun _ =>
      xbind (xgR 39 1 (some l0)) fun v127 =>
      xbind (fX3_at v99 (2 : Int32)) fun v133 =>
      xbind (xstI 1 v127 v133 (1 : Int32)) fun _ =>
      xlet (0 : Int32) fun x5_139 =>
      fX3_readSpecies_p141 xFU l0 v99 x5_139
    ) else (
      xpure ()
    )
  ) else (
    xpure ()
  )
def fX3_readSpecies_p21 (l0 : Nat) (s0 : Int32) (s1 : Nat) : xM (Unit) :=
  xbind (xsel (some s1) [(39, fun z => fX3_must z s0 (5 : Int32))]) fun _ =>
  xbind (xsel (some l0) [(39, fun z => fX3_hasFailed z)]) fun v26 =>
  if v26 = 0 then (
    xbind (xsel (some l0) [(39, fun z => fX3_nameHere z)]) fun v34 =>
    xbind (xsel (some l0) [(39, fun z => fX3_named z v34)]) fun v41 =>
    if v41 = (-1 : Int32) then (
      fX3_readSpecies_p53 l0 v34 (1 : Int32) l0
    ) else (
      fX3_readSpecies_p53 l0 v34 (0 : Int32) l0
    )
  ) else (
    xpure ()
  )
def fX3_readSpecies (a0 : Nat) (p0 : Int32) : xM (Unit) :=
  xbind (xput 39 14 (some a0) (.int p0)) fun _ =>
  xbind (xgR 39 1 (some a0)) fun v7 =>
  xbind (xldI 1 v7 (0 : Int32)) fun v11 =>
  if (4 : Int32) ≤ v11 then (
    fX3_readSpecies_p21 a0 (0 : Int32) a0
  ) else (
    fX3_readSpecies_p21 a0 (1 : Int32) a0
  )
def fX3_readLine_p60 (l0 : Nat) : xM (Unit) :=
  xbind (xsel (some l0) [(39, fun z => fX3_needs z (59 : Int32))]) fun _ =>
  xbind (xsel (some l0) [(39, fun z => fX3_blanks z)]) fun _ =>
  xpure ()
def fX3_readLine (a0 : Nat) : xM (Unit) :=
  xbind (xgI 39 14 (some a0)) fun v1 =>
  xbind (xcon 117) fun v6 =>
  xbind (xsel (some a0) [(39, fun z => fX3_takes z v6)]) fun v8 =>
  if v8 = 0 then (
    xbind (xcon 118) fun v32 =>
    xbind (xsel (some a0) [(39, fun z => fX3_takes z v32)]) fun v34 =>
    if v34 = 0 then (
      xbind (xgR 39 1 (some a0)) fun v50 =>
      xbind (xldI 1 v50 (0 : Int32)) fun v54 =>
      xbind (xsel (some a0) [(39, fun z => fX3_readOf z (v54 - (1 : Int32)))]) fun _ =>
      fX3_readLine_p60 a0
    ) else (
      xbind (xsel (some a0) [(39, fun z => fX3_readSpecies z v1)]) fun _ =>
      fX3_readLine_p60 a0
    )
  ) else (
    xbind (xgR 39 1 (some a0)) fun v15 =>
    xbind (xsel (some a0) [(39, fun z => fX3_number z (0 : Int32) (9999 : Int32))]) fun v24 =>
    xbind (xstI 1 v15 (1 : Int32) v24) fun _ =>
    fX3_readLine_p60 a0
  )
def fX3_putsAside (a0 : Nat) : xM (Unit) :=
  xbind (xgR 39 1 (some a0)) fun v2 =>
  xbind (xgR 39 2 (some a0)) fun v7 =>
  xbind (xsel (some a0) [(39, fun z => fX3_copies z v2 (0 : Int32) v7 (0 : Int32))]) fun _ =>
  xpure ()
def fX3_load_p143 : Nat → Nat → Int32 → xM (Int32)
  | 0, _, _ => xstuck
  | n + 1, l0, l2 =>
    xbind (xgR 39 1 (some l0)) fun v145 =>
    xbind (xldI 1 v145 (0 : Int32)) fun v149 =>
    if v149 ≤ l2 then (
      xbind (xgR 39 1 (some l0)) fun v165 =>
      xbind (xldI 1 v165 (0 : Int32)) fun v169 =>
      xpure v169
    ) else (
      xbind (xsel (some l0) [(39, fun z => fX3_opens z l2)]) fun _ =>
      xlet (l2 + (1 : Int32)) fun x2_158 =>
      fX3_load_p143 n l0 x2_158
    )
def fX3_load_p116 : Nat → Nat → Int32 → xM (Int32)
  | 0, _, _ => xstuck
  | n + 1, l0, l2 =>
    if (5604 : Int32) ≤ l2 then (
      xlet (0 : Int32) fun x2_142 =>
      fX3_load_p143 xFU l0 x2_142
    ) else (
      xbind (xgR 39 6 (some l0)) fun v124 =>
      xbind (xgR 39 7 (some l0)) fun v129 =>
      xbind (xldI 1 v129 l2) fun v133 =>
      xbind (xstI 1 v124 l2 v133) fun _ =>
      xlet (l2 + (1 : Int32)) fun x2_135 =>
      fX3_load_p116 n l0 x2_135
    )
def fX3_load_p75 (l0 : Nat) (l1 : Int32) : xM (Int32) :=
  xbind (xgI 39 16 (some l0)) fun v77 =>
  xbind (xput 39 18 (some l0) (.int v77)) fun _ =>
  xbind (xgI 39 17 (some l0)) fun v85 =>
  xbind (xput 39 19 (some l0) (.int v85)) fun _ =>
  xbind (xsel (some l0) [(39, fun z => fX3_hasFailed z)]) fun v93 =>
  xbind (xsel (some l0) [(39, fun z => fX3_throwsIf z v93 (1 : Int32))]) fun v97 =>
  if v97 = 0 then (
    xlet (0 : Int32) fun x2_115 =>
    fX3_load_p116 xFU l0 x2_115
  ) else (
    xbind (xsel (some l0) [(39, fun z => fX3_takesBack z)]) fun _ =>
    xbind (xput 39 4 (some l0) (.int l1)) fun _ =>
    xpure (0 : Int32)
  )
def fX3_load_p50 : Nat → Nat → Int32 → xM (Int32)
  | 0, _, _ => xstuck
  | n + 1, l0, l1 =>
    xbind (xsel (some l0) [(39, fun z => fX3_hasFailed z)]) fun v51 =>
    if v51 = 0 then (
      xbind (xgI 39 13 (some l0)) fun v58 =>
      xbind (xgI 39 15 (some l0)) fun v62 =>
      if v62 ≤ v58 then (
        fX3_load_p75 l0 l1
      ) else (
        xbind (xsel (some l0) [(39, fun z => fX3_readLine z)]) fun _ =>
        fX3_load_p50 n l0 l1
      )
    ) else (
      fX3_load_p75 l0 l1
    )
def fX3_load (a0 : Nat) : xM (Int32) :=
  xbind (xput 39 0 (some a0) (.int (0 : Int32))) fun _ =>
  xbind (xgI 39 12 (some a0)) fun v7 =>
  xbind (xput 39 15 (some a0) (.int v7)) fun _ =>
  xbind (xput 39 12 (some a0) (.int (0 : Int32))) fun _ =>
  xbind (xput 39 13 (some a0) (.int (0 : Int32))) fun _ =>
  xbind (xput 39 16 (some a0) (.int (-1 : Int32))) fun _ =>
  xbind (xput 39 17 (some a0) (.int (0 : Int32))) fun _ =>
  xbind (xsel (some a0) [(39, fun z => fX3_putsAside z)]) fun _ =>
  xbind (xgI 39 4 (some a0)) fun v38 =>
  xbind (xsel (some a0) [(39, fun z => fX3_begins z)]) fun _ =>
  xbind (xsel (some a0) [(39, fun z => fX3_blanks z)]) fun _ =>
  fX3_load_p50 xFU a0 v38
def fX3_count_p23 (l0 : Nat) (l1 : Int32) (s0 : Int32) (s1 : Nat) : xM (Int32) :=
  xbind (xsel (some s1) [(39, fun z => fX3_throwsIf z s0 (1 : Int32))]) fun v24 =>
  if v24 = 0 then (
    xbind (xgR 39 1 (some l0)) fun v35 =>
    xbind (xldI 1 v35 l1) fun v39 =>
    xpure v39
  ) else (
    xpure (0 : Int32)
  )
def fX3_count (a0 : Nat) (p0 : Int32) : xM (Int32) :=
  xbind (xput 39 0 (some a0) (.int (0 : Int32))) fun _ =>
  xbind (fX3_in p0.toInt64 (0 : Int64) (3 : Int64)) fun v12 =>
  if v12 = 0 then (
    fX3_count_p23 a0 p0 (1 : Int32) a0
  ) else (
    fX3_count_p23 a0 p0 (0 : Int32) a0
  )
def fX3_speciesNamed_p33 : Nat → Nat → Int32 → Int32 → Int32 → xM (Int32)
  | 0, _, _, _, _ => xstuck
  | n + 1, l0, l1, l2, l3 =>
    if l1 ≤ l3 then (
      xbind (xsel (some l0) [(39, fun z => fX3_named z l2)]) fun v84 =>
      xpure v84
    ) else (
      xbind (xgR 39 10 (some l0)) fun v39 =>
      xbind (xldI 0 v39 l3) fun v43 =>
      xbind (fX3_in v43.toInt64 (97 : Int64) (122 : Int64)) fun v51 =>
      if v51 = 0 then (
        xpure (-1 : Int32)
      ) else (
        xbind (xgR 39 10 (some l0)) fun v64 =>
        xbind (xldI 0 v64 l3) fun v68 =>
        xlet (((((27 : Int32) * l2) + v68) - (97 : Int32)) + (1 : Int32)) fun x2_75 =>
        xlet (l3 + (1 : Int32)) fun x3_76 =>
        fX3_speciesNamed_p33 n l0 l1 x2_75 x3_76
      )
    )
def fX3_speciesNamed (a0 : Nat) : xM (Int32) :=
  xbind (xput 39 0 (some a0) (.int (0 : Int32))) fun _ =>
  xbind (xgI 39 12 (some a0)) fun v6 =>
  xbind (xput 39 12 (some a0) (.int (0 : Int32))) fun _ =>
  xbind (fX3_in v6.toInt64 (1 : Int64) (6 : Int64)) fun v21 =>
  if v21 = 0 then (
    xpure (-1 : Int32)
  ) else (
    xlet (0 : Int32) fun x2_30 =>
    xlet (0 : Int32) fun x3_32 =>
    fX3_speciesNamed_p33 xFU a0 v6 x2_30 x3_32
  )
def fJ12_max (p0 : Int32) (p1 : Int32) : xM (Int32) :=
  if p0 < p1 then (
    xpure p1
  ) else (
    xpure p0
  )
def fX3_leftOf (a0 : Nat) (p0 : Int32) : xM (Int32) :=
  xbind (xsel (some a0) [(39, fun z => fX3_of z p0 (5 : Int32))]) fun v4 =>
  xbind (xsel (some a0) [(39, fun z => fX3_of z p0 (10 : Int32))]) fun v11 =>
  xbind (fJ12_max (0 : Int32) (v4 - v11)) fun v15 =>
  xpure v15
def fX3_noSpecies_p24 (s0 : Int32) (s1 : Nat) : xM (Int32) :=
  xbind (xsel (some s1) [(39, fun z => fX3_throwsIf z s0 (1 : Int32))]) fun v25 =>
  xretN .boolean v25
def fX3_noSpecies (a0 : Nat) (p0 : Int32) : xM (Int32) :=
  xbind (xgR 39 1 (some a0)) fun v5 =>
  xbind (xldI 1 v5 (0 : Int32)) fun v9 =>
  xbind (fX3_in p0.toInt64 (0 : Int64) ((v9 - (1 : Int32)).toInt64)) fun v13 =>
  if v13 = 0 then (
    fX3_noSpecies_p24 (1 : Int32) a0
  ) else (
    fX3_noSpecies_p24 (0 : Int32) a0
  )
def fX3_field_p31 (l0 : Nat) (l1 : Int32) (l2 : Int32) (s0 : Int32) (s1 : Nat) : xM (Int32) :=
  xbind (xsel (some s1) [(39, fun z => fX3_throwsIf z s0 (2 : Int32))]) fun v32 =>
  if v32 = 0 then (
    if l2 = (0 : Int32) then (
      xbind (xsel (some l0) [(39, fun z => fX3_oldest z l1)]) fun v94 =>
      xpure v94
    ) else (
      if l2 = (1 : Int32) then (
        xbind (xsel (some l0) [(39, fun z => fX3_of z l1 (2 : Int32))]) fun v101 =>
        xpure v101
      ) else (
        if l2 = (2 : Int32) then (
          xbind (xsel (some l0) [(39, fun z => fX3_of z l1 (3 : Int32))]) fun v108 =>
          xpure v108
        ) else (
          if l2 = (3 : Int32) then (
            xbind (xsel (some l0) [(39, fun z => fX3_totalOf z l1)]) fun v114 =>
            xpure v114
          ) else (
            if l2 = (4 : Int32) then (
              xbind (xsel (some l0) [(39, fun z => fX3_adultsOf z l1)]) fun v120 =>
              xpure v120
            ) else (
              if l2 = (5 : Int32) then (
                xbind (xsel (some l0) [(39, fun z => fX3_of z l1 (4 : Int32))]) fun v127 =>
                xpure v127
              ) else (
                if l2 = (6 : Int32) then (
                  xbind (xsel (some l0) [(39, fun z => fX3_of z l1 (5 : Int32))]) fun v134 =>
                  xpure v134
                ) else (
                  if l2 = (7 : Int32) then (
                    xbind (xsel (some l0) [(39, fun z => fX3_leftOf z l1)]) fun v140 =>
                    xpure v140
                  ) else (
                    if l2 = (8 : Int32) then (
                      xbind (xsel (some l0) [(39, fun z => fX3_of z l1 (6 : Int32))]) fun v148 =>
                      xpure v148
                    ) else (
                      xbind (xsel (some l0) [(39, fun z => fX3_of z l1 (12 : Int32))]) fun v156 =>
                      xpure v156
                    )
                  )
                )
              )
            )
          )
        )
      )
    )
  ) else (
    xpure (0 : Int32)
  )
def fX3_field (a0 : Nat) (p0 : Int32) (p1 : Int32) : xM (Int32) :=
  xbind (xput 39 0 (some a0) (.int (0 : Int32))) fun _ =>
  xbind (xsel (some a0) [(39, fun z => fX3_noSpecies z p0)]) fun v7 =>
  if v7 = 0 then (
    xbind (fX3_in p1.toInt64 (0 : Int64) (9 : Int64)) fun v20 =>
    if v20 = 0 then (
      fX3_field_p31 a0 p0 p1 (1 : Int32) a0
    ) else (
      fX3_field_p31 a0 p0 p1 (0 : Int32) a0
    )
  ) else (
    xpure (0 : Int32)
  )
def fX3_noAge_p36  : xM (Int32) :=
  xpure (1 : Int32)
def fX3_noAge_p29 (s0 : Int32) (s1 : Nat) : xM (Int32) :=
  xbind (xsel (some s1) [(39, fun z => fX3_throwsIf z s0 (1 : Int32))]) fun v30 =>
  if v30 = 0 then (
    xpure (0 : Int32)
  ) else (
    fX3_noAge_p36
  )
def fX3_noAge (a0 : Nat) (p0 : Int32) (p1 : Int32) : xM (Int32) :=
  xbind (xsel (some a0) [(39, fun z => fX3_noSpecies z p0)]) fun v2 =>
  if v2 = 0 then (
    xbind (xsel (some a0) [(39, fun z => fX3_oldest z p0)]) fun v14 =>
    xbind (fX3_in p1.toInt64 (0 : Int64) v14.toInt64) fun v18 =>
    if v18 = 0 then (
      fX3_noAge_p29 (1 : Int32) a0
    ) else (
      fX3_noAge_p29 (0 : Int32) a0
    )
  ) else (
    fX3_noAge_p36
  )
def fX3_survival (a0 : Nat) (p0 : Int32) (p1 : Int32) : xM (Int32) :=
  xbind (xput 39 0 (some a0) (.int (0 : Int32))) fun _ =>
  xbind (xsel (some a0) [(39, fun z => fX3_noAge z p0 p1)]) fun v8 =>
  if v8 = 0 then (
    xbind (xsel (some a0) [(39, fun z => fX3_of z p0 ((13 : Int32) + p1))]) fun v24 =>
    xpure v24
  ) else (
    xpure (0 : Int32)
  )
def fX3_fecundity (a0 : Nat) (p0 : Int32) (p1 : Int32) : xM (Int32) :=
  xbind (xput 39 0 (some a0) (.int (0 : Int32))) fun _ =>
  xbind (xsel (some a0) [(39, fun z => fX3_noAge z p0 p1)]) fun v8 =>
  if v8 = 0 then (
    xbind (xsel (some a0) [(39, fun z => fX3_of z p0 ((26 : Int32) + p1))]) fun v24 =>
    xpure v24
  ) else (
    xpure (0 : Int32)
  )
def fX3_cohort (a0 : Nat) (p0 : Int32) (p1 : Int32) : xM (Int32) :=
  xbind (xput 39 0 (some a0) (.int (0 : Int32))) fun _ =>
  xbind (xsel (some a0) [(39, fun z => fX3_noAge z p0 p1)]) fun v8 =>
  if v8 = 0 then (
    xbind (xsel (some a0) [(39, fun z => fX3_cohortOf z p0 p1)]) fun v21 =>
    xpure v21
  ) else (
    xpure (0 : Int32)
  )
def fX3_aliveOf_p7 : Nat → Nat → Int32 → Int32 → Int32 → Int32 → xM (Int32)
  | 0, _, _, _, _, _ => xstuck
  | n + 1, l0, l1, l2, l3, l4 =>
    if l2 ≤ l4 then (
      xpure l3
    ) else (
      xbind (xsel (some l0) [(39, fun z => fX3_of z l1 ((13 : Int32) + l4))]) fun v22 =>
      xdvJ (1000 : Int64) <|
      xlet (((l3.toInt64 * v22.toInt64) / (1000 : Int64)).toInt32) fun x3_32 =>
      xlet (l4 + (1 : Int32)) fun x4_33 =>
      fX3_aliveOf_p7 n l0 l1 l2 x3_32 x4_33
    )
def fX3_aliveOf (a0 : Nat) (p0 : Int32) (p1 : Int32) : xM (Int32) :=
  xlet (100000 : Int32) fun x3_3 =>
  xlet (0 : Int32) fun x4_5 =>
  fX3_aliveOf_p7 xFU a0 p0 p1 x3_3 x4_5
def fX3_alive (a0 : Nat) (p0 : Int32) (p1 : Int32) : xM (Int32) :=
  xbind (xput 39 0 (some a0) (.int (0 : Int32))) fun _ =>
  xbind (xsel (some a0) [(39, fun z => fX3_noAge z p0 p1)]) fun v8 =>
  if v8 = 0 then (
    xbind (xsel (some a0) [(39, fun z => fX3_aliveOf z p0 p1)]) fun v21 =>
    xpure v21
  ) else (
    xpure (0 : Int32)
  )
def fX3_dying_p43 (s0 : Int32) (s1 : Int32) : xM (Int32) :=
  xpure (s1 - s0)
def fX3_dying (a0 : Nat) (p0 : Int32) (p1 : Int32) : xM (Int32) :=
  xbind (xput 39 0 (some a0) (.int (0 : Int32))) fun _ =>
  xbind (xsel (some a0) [(39, fun z => fX3_noAge z p0 p1)]) fun v8 =>
  if v8 = 0 then (
    xbind (xsel (some a0) [(39, fun z => fX3_aliveOf z p0 p1)]) fun v19 =>
    xbind (xsel (some a0) [(39, fun z => fX3_oldest z p0)]) fun v25 =>
    if p1 = v25 then (
      fX3_dying_p43 (0 : Int32) v19
    ) else (
      xbind (xsel (some a0) [(39, fun z => fX3_aliveOf z p0 (p1 + (1 : Int32)))]) fun v40 =>
      fX3_dying_p43 v40 v19
    )
  ) else (
    xpure (0 : Int32)
  )
def fX3_expectation_p23  : xM (UInt64) :=
  xpure FP.dconst0
def fX3_expectation_p32 : Nat → Nat → Int32 → Int32 → Int32 → Int32 → xM (UInt64)
  | 0, _, _, _, _, _ => xstuck
  | n + 1, l0, l1, l2, l3, l4 =>
    xbind (xsel (some l0) [(39, fun z => fX3_oldest z l1)]) fun v36 =>
    if v36 < l4 then (
      xbind (xsel (some l0) [(39, fun z => fX3_aliveOf z l1 l2)]) fun v63 =>
      xnan (FP.ddiv (FP.i2d l3) (FP.i2d v63)) <|
      xnan (FP.dadd (FP.ddiv (FP.i2d l3) (FP.i2d v63)) (4602678819172646912 : UInt64)) <|
      xpure (FP.dadd (FP.ddiv (FP.i2d l3) (FP.i2d v63)) (4602678819172646912 : UInt64))
    ) else (
      xbind (xsel (some l0) [(39, fun z => fX3_aliveOf z l1 l4)]) fun v47 =>
      xlet (l3 + v47) fun x3_51 =>
      xlet (l4 + (1 : Int32)) fun x4_52 =>
      fX3_expectation_p32 n l0 l1 l2 x3_51 x4_52
    )
def fX3_expectation (a0 : Nat) (p0 : Int32) (p1 : Int32) : xM (UInt64) :=
  xbind (xput 39 0 (some a0) (.int (0 : Int32))) fun _ =>
  xbind (xsel (some a0) [(39, fun z => fX3_noAge z p0 p1)]) fun v8 =>
  if v8 = 0 then (
    xbind (xsel (some a0) [(39, fun z => fX3_aliveOf z p0 p1)]) fun v17 =>
    if v17 = 0 then (
      fX3_expectation_p23
    ) else (
      xlet (0 : Int32) fun x3_26 =>
      xlet (p1 + (1 : Int32)) fun x4_30 =>
      fX3_expectation_p32 xFU a0 p0 p1 x3_26 x4_30
    )
  ) else (
    fX3_expectation_p23
  )
def fX3_bornOf (a0 : Nat) (p0 : Int32) (p1 : Int32) : xM (Int64) :=
  xbind (xsel (some a0) [(39, fun z => fX3_aliveOf z p0 p1)]) fun v3 =>
  xbind (xsel (some a0) [(39, fun z => fX3_of z p0 ((26 : Int32) + p1))]) fun v13 =>
  xpure (v3.toInt64 * v13.toInt64)
def fX3_reproduction_p20 : Nat → Nat → Int32 → Int64 → Int32 → xM (UInt64)
  | 0, _, _, _, _ => xstuck
  | n + 1, l0, l1, l2, l4 =>
    xbind (xsel (some l0) [(39, fun z => fX3_oldest z l1)]) fun v24 =>
    if v24 < l4 then (
      xnan (FP.ddiv (FP.l2d l2) (4726483295884279808 : UInt64)) <|
      xpure (FP.ddiv (FP.l2d l2) (4726483295884279808 : UInt64))
    ) else (
      xbind (xsel (some l0) [(39, fun z => fX3_bornOf z l1 l4)]) fun v35 =>
      xlet (l2 + v35) fun x2_39 =>
      xlet (l4 + (1 : Int32)) fun x4_40 =>
      fX3_reproduction_p20 n l0 l1 x2_39 x4_40
    )
def fX3_reproduction (a0 : Nat) (p0 : Int32) : xM (UInt64) :=
  xbind (xput 39 0 (some a0) (.int (0 : Int32))) fun _ =>
  xbind (xsel (some a0) [(39, fun z => fX3_noSpecies z p0)]) fun v7 =>
  if v7 = 0 then (
    xlet (0 : Int64) fun x2_16 =>
    xlet (0 : Int32) fun x4_18 =>
    fX3_reproduction_p20 xFU a0 p0 x2_16 x4_18
  ) else (
    xpure FP.dconst0
  )
def fX3_generation_p23 : Nat → Nat → Int32 → Int64 → Int64 → Int32 → xM (UInt64)
  | 0, _, _, _, _, _ => xstuck
  | n + 1, l0, l1, l2, l4, l6 =>
    xbind (xsel (some l0) [(39, fun z => fX3_oldest z l1)]) fun v27 =>
    if v27 < l6 then (
      if (lg_cmp l4 (0 : Int64)) = 0 then (
        xpure FP.dconst0
      ) else (
        xnan (FP.ddiv (FP.l2d l2) (FP.l2d l4)) <|
        xpure (FP.ddiv (FP.l2d l2) (FP.l2d l4))
      )
    ) else (
      xbind (xsel (some l0) [(39, fun z => fX3_bornOf z l1 l6)]) fun v41 =>
      xlet (l2 + (l6.toInt64 * v41)) fun x2_46 =>
      xbind (xsel (some l0) [(39, fun z => fX3_bornOf z l1 l6)]) fun v53 =>
      xlet (l4 + v53) fun x4_57 =>
      xlet (l6 + (1 : Int32)) fun x6_59 =>
      fX3_generation_p23 n l0 l1 x2_46 x4_57 x6_59
    )
def fX3_generation (a0 : Nat) (p0 : Int32) : xM (UInt64) :=
  xbind (xput 39 0 (some a0) (.int (0 : Int32))) fun _ =>
  xbind (xsel (some a0) [(39, fun z => fX3_noSpecies z p0)]) fun v7 =>
  if v7 = 0 then (
    xlet (0 : Int64) fun x2_16 =>
    xlet (0 : Int64) fun x4_18 =>
    xlet (0 : Int32) fun x6_21 =>
    fX3_generation_p23 xFU a0 p0 x2_16 x4_18 x6_21
  ) else (
    xpure FP.dconst0
  )
def fX3_firstYear (a0 : Nat) : xM (Int32) :=
  xbind (xgR 39 1 (some a0)) fun v1 =>
  xbind (xldI 1 v1 (1 : Int32)) fun v5 =>
  xbind (xgR 39 1 (some a0)) fun v7 =>
  xbind (xldI 1 v7 (2 : Int32)) fun v11 =>
  xpure (v5 - v11)
def fX3_part (a0 : Nat) (p0 : Int32) (p1 : Int32) : xM (Int32) :=
  if p1 = (0 : Int32) then (
    xbind (xsel (some a0) [(39, fun z => fX3_of z p0 (7 : Int32))]) fun v44 =>
    xpure v44
  ) else (
    if p1 = (1 : Int32) then (
      xbind (xsel (some a0) [(39, fun z => fX3_of z p0 (8 : Int32))]) fun v52 =>
      xpure v52
    ) else (
      if p1 = (2 : Int32) then (
        xbind (xsel (some a0) [(39, fun z => fX3_of z p0 (9 : Int32))]) fun v60 =>
        xpure v60
      ) else (
        if p1 = (3 : Int32) then (
          xbind (xsel (some a0) [(39, fun z => fX3_of z p0 (10 : Int32))]) fun v68 =>
          xpure v68
        ) else (
          if p1 = (4 : Int32) then (
            xbind (xsel (some a0) [(39, fun z => fX3_of z p0 (11 : Int32))]) fun v76 =>
            xpure v76
          ) else (
            if p1 = (5 : Int32) then (
              xbind (xsel (some a0) [(39, fun z => fX3_totalOf z p0)]) fun v82 =>
              xpure v82
            ) else (
              xbind (xsel (some a0) [(39, fun z => fX3_of z p0 (5 : Int32))]) fun v89 =>
              xpure v89
            )
          )
        )
      )
    )
  )
def fX3_ledgerPart (a0 : Nat) (p0 : Int32) (p1 : Int32) (p2 : Int32) : xM (Int32) :=
  xbind (xgR 39 1 (some a0)) fun v2 =>
  xbind (xldI 1 v2 (2 : Int32)) fun v6 =>
  if p1 = v6 then (
    xbind (xsel (some a0) [(39, fun z => fX3_part z p0 p2)]) fun v13 =>
    xpure v13
  ) else (
    xbind (xgR 39 5 (some a0)) fun v20 =>
    xbind (xldI 1 v20 ((((p1 * (4 : Int32)) + p0) * (7 : Int32)) + p2)) fun v33 =>
    xpure v33
  )
def fX3_isYear (a0 : Nat) (p0 : Int32) : xM (Int32) :=
  xbind (xsel (some a0) [(39, fun z => fX3_firstYear z)]) fun v3 =>
  xbind (xgR 39 1 (some a0)) fun v8 =>
  xbind (xldI 1 v8 (1 : Int32)) fun v12 =>
  xbind (fX3_in p0.toInt64 v3.toInt64 v12.toInt64) fun v14 =>
  xretN .boolean v14
def fX3_ledger_p46  : xM (Int32) :=
  xpure (0 : Int32)
def fX3_ledger_p39 (l0 : Nat) (l1 : Int32) (l2 : Int32) (l3 : Int32) (s0 : Int32) (s1 : Nat) : xM (Int32) :=
  xbind (xsel (some s1) [(39, fun z => fX3_throwsIf z s0 (2 : Int32))]) fun v40 =>
  if v40 = 0 then (
    xbind (xsel (some l0) [(39, fun z => fX3_firstYear z)]) fun v54 =>
    xbind (xsel (some l0) [(39, fun z => fX3_ledgerPart z l1 (l2 - v54) l3)]) fun v59 =>
    xpure v59
  ) else (
    fX3_ledger_p46
  )
def fX3_ledger_p34 (l0 : Nat) (l1 : Int32) (l2 : Int32) (l3 : Int32) (s0 : Nat) : xM (Int32) :=
  fX3_ledger_p39 l0 l1 l2 l3 (1 : Int32) s0
def fX3_ledger (a0 : Nat) (p0 : Int32) (p1 : Int32) (p2 : Int32) : xM (Int32) :=
  xbind (xput 39 0 (some a0) (.int (0 : Int32))) fun _ =>
  xbind (xsel (some a0) [(39, fun z => fX3_noSpecies z p0)]) fun v7 =>
  if v7 = 0 then (
    xbind (xsel (some a0) [(39, fun z => fX3_isYear z p1)]) fun v16 =>
    if v16 = 0 then (
      fX3_ledger_p34 a0 p0 p1 p2 a0
    ) else (
      xbind (fX3_in p2.toInt64 (0 : Int64) (6 : Int64)) fun v28 =>
      if v28 = 0 then (
        fX3_ledger_p34 a0 p0 p1 p2 a0
      ) else (
        fX3_ledger_p39 a0 p0 p1 p2 (0 : Int32) a0
      )
    )
  ) else (
    fX3_ledger_p46
  )
def fJ12_min (p0 : Int32) (p1 : Int32) : xM (Int32) :=
  if p1 < p0 then (
    xpure p1
  ) else (
    xpure p0
  )
def fX3_closingUpTo_p45  : xM (Int32) :=
  xpure (-1 : Int32)
def fX3_closingUpTo (a0 : Nat) (p0 : Int32) (p1 : Int32) : xM (Int32) :=
  xbind (xput 39 0 (some a0) (.int (0 : Int32))) fun _ =>
  xbind (xsel (some a0) [(39, fun z => fX3_noSpecies z p0)]) fun v7 =>
  if v7 = 0 then (
    xbind (xgR 39 1 (some a0)) fun v17 =>
    xbind (xldI 1 v17 (1 : Int32)) fun v21 =>
    xbind (fJ12_min p1 (v21 - (1 : Int32))) fun v24 =>
    xbind (xgR 39 1 (some a0)) fun v29 =>
    xbind (xldI 1 v29 (2 : Int32)) fun v33 =>
    if v33 = 0 then (
      fX3_closingUpTo_p45
    ) else (
      xbind (xsel (some a0) [(39, fun z => fX3_firstYear z)]) fun v39 =>
      if v39 ≤ v24 then (
        xbind (xsel (some a0) [(39, fun z => fX3_firstYear z)]) fun v53 =>
        xbind (xsel (some a0) [(39, fun z => fX3_ledgerPart z p0 (v24 - v53) (5 : Int32))]) fun v58 =>
        xpure v58
      ) else (
        fX3_closingUpTo_p45
      )
    )
  ) else (
    xpure (0 : Int32)
  )
def fX3_worstYear_p53 (k19 : Nat → Int32 → Int32 → Int32 → xM (Int32)) (l0 : Nat) (l1 : Int32) (l2 : Int32) (l3 : Int32) : xM (Int32) :=
  xlet (l3 + (1 : Int32)) fun x3_53 =>
  k19 l0 l1 l2 x3_53
def fX3_worstYear_p51 (k19 : Nat → Int32 → Int32 → Int32 → xM (Int32)) (l0 : Nat) (l1 : Int32) (l3 : Int32) : xM (Int32) :=
  fX3_worstYear_p53 k19 l0 l1 l3 l3
def fX3_worstYear_p19 : Nat → Nat → Int32 → Int32 → Int32 → xM (Int32)
  | 0, _, _, _, _ => xstuck
  | n + 1, l0, l1, l2, l3 =>
    xbind (xgR 39 1 (some l0)) fun v21 =>
    xbind (xldI 1 v21 (2 : Int32)) fun v25 =>
    if v25 ≤ l3 then (
      if l2 = (-1 : Int32) then (
        xpure (-1 : Int32)
      ) else (
        xbind (xsel (some l0) [(39, fun z => fX3_firstYear z)]) fun v69 =>
        xpure (v69 + l2)
      )
    ) else (
      if l2 = (-1 : Int32) then (
        fX3_worstYear_p51 (fX3_worstYear_p19 n) l0 l1 l3
      ) else (
        xbind (xsel (some l0) [(39, fun z => fX3_ledgerPart z l1 l3 (5 : Int32))]) fun v38 =>
        xbind (xsel (some l0) [(39, fun z => fX3_ledgerPart z l1 l2 (5 : Int32))]) fun v45 =>
        if v45 < v38 then (
          fX3_worstYear_p53 (fX3_worstYear_p19 n) l0 l1 l2 l3
        ) else (
          fX3_worstYear_p51 (fX3_worstYear_p19 n) l0 l1 l3
        )
      )
    )
def fX3_worstYear (a0 : Nat) (p0 : Int32) : xM (Int32) :=
  xbind (xput 39 0 (some a0) (.int (0 : Int32))) fun _ =>
  xbind (xsel (some a0) [(39, fun z => fX3_noSpecies z p0)]) fun v7 =>
  if v7 = 0 then (
    xlet (-1 : Int32) fun x2_16 =>
    xlet (0 : Int32) fun x3_18 =>
    fX3_worstYear_p19 xFU a0 p0 x2_16 x3_18
  ) else (
    xpure (0 : Int32)
  )
def fX3_sum_p38  : xM (Int64) :=
  xpure (0 : Int64)
def fX3_sum_p45 : Nat → Nat → Int32 → Int32 → Int64 → Int32 → xM (Int64)
  | 0, _, _, _, _, _ => xstuck
  | n + 1, l0, l1, l2, l3, l5 =>
    xbind (xgR 39 1 (some l0)) fun v48 =>
    xbind (xldI 1 v48 (2 : Int32)) fun v52 =>
    if v52 < l5 then (
      xpure l3
    ) else (
      xbind (xsel (some l0) [(39, fun z => fX3_ledgerPart z l1 l5 l2)]) fun v62 =>
      xlet (l3 + v62.toInt64) fun x3_67 =>
      xlet (l5 + (1 : Int32)) fun x5_68 =>
      fX3_sum_p45 n l0 l1 l2 x3_67 x5_68
    )
def fX3_sum_p31 (l0 : Nat) (l1 : Int32) (l2 : Int32) (s0 : Int32) (s1 : Nat) : xM (Int64) :=
  xbind (xsel (some s1) [(39, fun z => fX3_throwsIf z s0 (2 : Int32))]) fun v32 =>
  if v32 = 0 then (
    xlet (0 : Int64) fun x3_41 =>
    xlet (0 : Int32) fun x5_43 =>
    fX3_sum_p45 xFU l0 l1 l2 x3_41 x5_43
  ) else (
    fX3_sum_p38
  )
def fX3_sum (a0 : Nat) (p0 : Int32) (p1 : Int32) : xM (Int64) :=
  xbind (xput 39 0 (some a0) (.int (0 : Int32))) fun _ =>
  xbind (xsel (some a0) [(39, fun z => fX3_noSpecies z p0)]) fun v7 =>
  if v7 = 0 then (
    xbind (fX3_in p1.toInt64 (1 : Int64) (4 : Int64)) fun v20 =>
    if v20 = 0 then (
      fX3_sum_p31 a0 p0 p1 (1 : Int32) a0
    ) else (
      fX3_sum_p31 a0 p0 p1 (0 : Int32) a0
    )
  ) else (
    fX3_sum_p38
  )
def fX3_isGood_p87  : xM (Int32) :=
  xpure (1 : Int32)
def fX3_isGood (a0 : Nat) (p0 : Int32) (p1 : Int32) : xM (Int32) :=
  xbind (xsel (some a0) [(39, fun z => fX3_ledgerPart z p0 p1 (0 : Int32))]) fun v4 =>
  xbind (xsel (some a0) [(39, fun z => fX3_ledgerPart z p0 p1 (1 : Int32))]) fun v12 =>
  xbind (xsel (some a0) [(39, fun z => fX3_ledgerPart z p0 p1 (4 : Int32))]) fun v21 =>
  xbind (xsel (some a0) [(39, fun z => fX3_ledgerPart z p0 p1 (2 : Int32))]) fun v30 =>
  xbind (xsel (some a0) [(39, fun z => fX3_ledgerPart z p0 p1 (3 : Int32))]) fun v39 =>
  xlet ((((v4.toInt64 + v12.toInt64) + v21.toInt64) - v30.toInt64) - v39.toInt64) fun x3_44 =>
  xbind (xsel (some a0) [(39, fun z => fX3_ledgerPart z p0 p1 (5 : Int32))]) fun v50 =>
  if (lg_cmp x3_44 v50.toInt64) = 0 then (
    xbind (xgR 39 1 (some a0)) fun v60 =>
    xbind (xldI 1 v60 (2 : Int32)) fun v64 =>
    if p1 = v64 then (
      fX3_isGood_p87
    ) else (
      xbind (xsel (some a0) [(39, fun z => fX3_ledgerPart z p0 p1 (5 : Int32))]) fun v72 =>
      xbind (xsel (some a0) [(39, fun z => fX3_ledgerPart z p0 (p1 + (1 : Int32)) (0 : Int32))]) fun v81 =>
      if v72 = v81 then (
        fX3_isGood_p87
      ) else (
        xpure (0 : Int32)
      )
    )
  ) else (
    xpure (0 : Int32)
  )
def fX3_isBalanced_p49 (k9 : Nat → Int32 → Int32 → xM (Int32)) (k21 : Nat → Int32 → Int32 → Int32 → xM (Int32)) (l0 : Nat) (l2 : Int32) (l3 : Int32) (s0 : Int32) : xM (Int32) :=
  xlet (l3 + (1 : Int32)) fun x3_50 =>
  k21 l0 s0 l2 x3_50
def fX3_isBalanced_p48 (k9 : Nat → Int32 → Int32 → xM (Int32)) (k21 : Nat → Int32 → Int32 → Int32 → xM (Int32)) (l0 : Nat) (l2 : Int32) (l3 : Int32) : xM (Int32) :=
  fX3_isBalanced_p49 k9 k21 l0 l2 l3 (0 : Int32)
def fX3_isBalanced_p21 (k9 : Nat → Int32 → Int32 → xM (Int32)) : Nat → Nat → Int32 → Int32 → Int32 → xM (Int32)
  | 0, _, _, _, _ => xstuck
  | n + 1, l0, l1, l2, l3 =>
    xbind (xgR 39 1 (some l0)) fun v23 =>
    xbind (xldI 1 v23 (2 : Int32)) fun v27 =>
    if v27 < l3 then (
      xlet (l2 + (1 : Int32)) fun x2_56 =>
      k9 l0 l1 x2_56
    ) else (
      if l1 = 0 then (
        fX3_isBalanced_p48 k9 (fX3_isBalanced_p21 k9 n) l0 l2 l3
      ) else (
        xbind (xsel (some l0) [(39, fun z => fX3_isGood z l2 l3)]) fun v38 =>
        if v38 = 0 then (
          fX3_isBalanced_p48 k9 (fX3_isBalanced_p21 k9 n) l0 l2 l3
        ) else (
          fX3_isBalanced_p49 k9 (fX3_isBalanced_p21 k9 n) l0 l2 l3 (1 : Int32)
        )
      )
    )
def fX3_isBalanced_p9 : Nat → Nat → Int32 → Int32 → xM (Int32)
  | 0, _, _, _ => xstuck
  | n + 1, l0, l1, l2 =>
    xbind (xgR 39 1 (some l0)) fun v11 =>
    xbind (xldI 1 v11 (0 : Int32)) fun v15 =>
    if v15 ≤ l2 then (
      xretN .boolean l1
    ) else (
      xlet (0 : Int32) fun x3_20 =>
      fX3_isBalanced_p21 (fX3_isBalanced_p9 n) xFU l0 l1 l2 x3_20
    )
def fX3_isBalanced (a0 : Nat) : xM (Int32) :=
  xbind (xput 39 0 (some a0) (.int (0 : Int32))) fun _ =>
  xlet (1 : Int32) fun x1_6 =>
  xlet (0 : Int32) fun x2_8 =>
  fX3_isBalanced_p9 xFU a0 x1_6 x2_8
def fX3_isSighting (a0 : Nat) (p0 : Int32) (p1 : Int32) : xM (Int32) :=
  xbind (xsel (some a0) [(39, fun z => fX3_of z p0 (12 : Int32))]) fun v7 =>
  xbind (fX3_in p1.toInt64 (0 : Int64) ((v7 - (1 : Int32)).toInt64)) fun v13 =>
  xretN .boolean v13
def fX3_sightingOf (a0 : Nat) (p0 : Int32) (p1 : Int32) (p2 : Int32) : xM (Int32) :=
  xbind (xsel (some a0) [(39, fun z => fX3_of z p0 (((52 : Int32) + ((4 : Int32) * p1)) + p2))]) fun v10 =>
  xpure v10
def fX3_sighting_p31 (l0 : Nat) (l1 : Int32) (l2 : Int32) (l3 : Int32) (s0 : Int32) (s1 : Nat) : xM (Int32) :=
  xbind (xsel (some s1) [(39, fun z => fX3_throwsIf z s0 (2 : Int32))]) fun v32 =>
  if v32 = 0 then (
    xbind (xsel (some l0) [(39, fun z => fX3_isSighting z l1 l2)]) fun v43 =>
    if v43 = 0 then (
      xpure (-1 : Int32)
    ) else (
      xbind (xsel (some l0) [(39, fun z => fX3_sightingOf z l1 l2 l3)]) fun v53 =>
      xpure v53
    )
  ) else (
    xpure (0 : Int32)
  )
def fX3_sighting (a0 : Nat) (p0 : Int32) (p1 : Int32) (p2 : Int32) : xM (Int32) :=
  xbind (xput 39 0 (some a0) (.int (0 : Int32))) fun _ =>
  xbind (xsel (some a0) [(39, fun z => fX3_noSpecies z p0)]) fun v7 =>
  if v7 = 0 then (
    xbind (fX3_in p2.toInt64 (0 : Int64) (3 : Int64)) fun v20 =>
    if v20 = 0 then (
      fX3_sighting_p31 a0 p0 p1 p2 (1 : Int32) a0
    ) else (
      fX3_sighting_p31 a0 p0 p1 p2 (0 : Int32) a0
    )
  ) else (
    xpure (0 : Int32)
  )
def fX3_estimateOf (a0 : Nat) (p0 : Int32) (p1 : Int32) : xM (Int64) :=
  xbind (xsel (some a0) [(39, fun z => fX3_sightingOf z p0 p1 (1 : Int32))]) fun v4 =>
  xbind (xsel (some a0) [(39, fun z => fX3_sightingOf z p0 p1 (2 : Int32))]) fun v14 =>
  xbind (xsel (some a0) [(39, fun z => fX3_sightingOf z p0 p1 (3 : Int32))]) fun v25 =>
  xdvJ (v25.toInt64 + (1 : Int64)) <|
  xpure ((((v4.toInt64 + (1 : Int64)) * (v14.toInt64 + (1 : Int64))) / (v25.toInt64 + (1 : Int64))) - (1 : Int64))
def fX3_estimate (a0 : Nat) (p0 : Int32) (p1 : Int32) : xM (Int64) :=
  xbind (xput 39 0 (some a0) (.int (0 : Int32))) fun _ =>
  xbind (xsel (some a0) [(39, fun z => fX3_noSpecies z p0)]) fun v7 =>
  if v7 = 0 then (
    xbind (xsel (some a0) [(39, fun z => fX3_isSighting z p0 p1)]) fun v18 =>
    if v18 = 0 then (
      xpure (-1 : Int64)
    ) else (
      xbind (xsel (some a0) [(39, fun z => fX3_estimateOf z p0 p1)]) fun v27 =>
      xpure v27
    )
  ) else (
    xpure (0 : Int64)
  )
def fX3_variance_p22  : xM (UInt64) :=
  xpure FP.dconst0
def fX3_variance (a0 : Nat) (p0 : Int32) (p1 : Int32) : xM (UInt64) :=
  xbind (xput 39 0 (some a0) (.int (0 : Int32))) fun _ =>
  xbind (xsel (some a0) [(39, fun z => fX3_noSpecies z p0)]) fun v7 =>
  if v7 = 0 then (
    xbind (xsel (some a0) [(39, fun z => fX3_isSighting z p0 p1)]) fun v16 =>
    if v16 = 0 then (
      fX3_variance_p22
    ) else (
      xbind (xsel (some a0) [(39, fun z => fX3_sightingOf z p0 p1 (1 : Int32))]) fun v28 =>
      xlet (FP.i2d v28) fun x3_32 =>
      xbind (xsel (some a0) [(39, fun z => fX3_sightingOf z p0 p1 (2 : Int32))]) fun v37 =>
      xlet (FP.i2d v37) fun x5_41 =>
      xbind (xsel (some a0) [(39, fun z => fX3_sightingOf z p0 p1 (3 : Int32))]) fun v47 =>
      xlet (FP.i2d v47) fun x7_51 =>
      xnan (FP.dadd x3_32 FP.dconst1) <|
      xnan (FP.dadd x5_41 FP.dconst1) <|
      xnan (FP.dmul (FP.dadd x3_32 FP.dconst1) (FP.dadd x5_41 FP.dconst1)) <|
      xnan (FP.dsub x3_32 x7_51) <|
      xnan (FP.dmul (FP.dmul (FP.dadd x3_32 FP.dconst1) (FP.dadd x5_41 FP.dconst1)) (FP.dsub x3_32 x7_51)) <|
      xnan (FP.dsub x5_41 x7_51) <|
      xnan (FP.dmul (FP.dmul (FP.dmul (FP.dadd x3_32 FP.dconst1) (FP.dadd x5_41 FP.dconst1)) (FP.dsub x3_32 x7_51)) (FP.dsub x5_41 x7_51)) <|
      xnan (FP.dadd x7_51 FP.dconst1) <|
      xnan (FP.ddiv (FP.dmul (FP.dmul (FP.dmul (FP.dadd x3_32 FP.dconst1) (FP.dadd x5_41 FP.dconst1)) (FP.dsub x3_32 x7_51)) (FP.dsub x5_41 x7_51)) (FP.dadd x7_51 FP.dconst1)) <|
      xnan (FP.dadd x7_51 FP.dconst1) <|
      xnan (FP.ddiv (FP.ddiv (FP.dmul (FP.dmul (FP.dmul (FP.dadd x3_32 FP.dconst1) (FP.dadd x5_41 FP.dconst1)) (FP.dsub x3_32 x7_51)) (FP.dsub x5_41 x7_51)) (FP.dadd x7_51 FP.dconst1)) (FP.dadd x7_51 FP.dconst1)) <|
      xnan (FP.dadd x7_51 (4611686018427387904 : UInt64)) <|
      xnan (FP.ddiv (FP.ddiv (FP.ddiv (FP.dmul (FP.dmul (FP.dmul (FP.dadd x3_32 FP.dconst1) (FP.dadd x5_41 FP.dconst1)) (FP.dsub x3_32 x7_51)) (FP.dsub x5_41 x7_51)) (FP.dadd x7_51 FP.dconst1)) (FP.dadd x7_51 FP.dconst1)) (FP.dadd x7_51 (4611686018427387904 : UInt64))) <|
      xpure (FP.ddiv (FP.ddiv (FP.ddiv (FP.dmul (FP.dmul (FP.dmul (FP.dadd x3_32 FP.dconst1) (FP.dadd x5_41 FP.dconst1)) (FP.dsub x3_32 x7_51)) (FP.dsub x5_41 x7_51)) (FP.dadd x7_51 FP.dconst1)) (FP.dadd x7_51 FP.dconst1)) (FP.dadd x7_51 (4611686018427387904 : UInt64)))
    )
  ) else (
    fX3_variance_p22
  )
def fX3_pooled_p23 : Nat → Nat → Int32 → Int64 → Int64 → Int32 → xM (UInt64)
  | 0, _, _, _, _, _ => xstuck
  | n + 1, l0, l1, l2, l4, l6 =>
    xbind (xsel (some l0) [(39, fun z => fX3_of z l1 (12 : Int32))]) fun v29 =>
    if v29 ≤ l6 then (
      if (lg_cmp l4 (0 : Int64)) = 0 then (
        xpure FP.dconst0
      ) else (
        xnan (FP.ddiv (FP.l2d l2) (FP.l2d l4)) <|
        xpure (FP.ddiv (FP.l2d l2) (FP.l2d l4))
      )
    ) else (
      xbind (xsel (some l0) [(39, fun z => fX3_sightingOf z l1 l6 (2 : Int32))]) fun v41 =>
      xbind (xsel (some l0) [(39, fun z => fX3_sightingOf z l1 l6 (1 : Int32))]) fun v50 =>
      xlet (l2 + (v41.toInt64 * v50.toInt64)) fun x2_56 =>
      xbind (xsel (some l0) [(39, fun z => fX3_sightingOf z l1 l6 (3 : Int32))]) fun v64 =>
      xlet (l4 + v64.toInt64) fun x4_69 =>
      xlet (l6 + (1 : Int32)) fun x6_71 =>
      fX3_pooled_p23 n l0 l1 x2_56 x4_69 x6_71
    )
def fX3_pooled (a0 : Nat) (p0 : Int32) : xM (UInt64) :=
  xbind (xput 39 0 (some a0) (.int (0 : Int32))) fun _ =>
  xbind (xsel (some a0) [(39, fun z => fX3_noSpecies z p0)]) fun v7 =>
  if v7 = 0 then (
    xlet (0 : Int64) fun x2_16 =>
    xlet (0 : Int64) fun x4_18 =>
    xlet (0 : Int32) fun x6_21 =>
    fX3_pooled_p23 xFU a0 p0 x2_16 x4_18 x6_21
  ) else (
    xpure FP.dconst0
  )
def fX3_planned_p23 (l0 : Nat) (l1 : Int32) (l2 : Int32) (s0 : Int32) (s1 : Nat) : xM (Int32) :=
  xbind (xsel (some s1) [(39, fun z => fX3_throwsIf z s0 (1 : Int32))]) fun v24 =>
  if v24 = 0 then (
    xbind (xgR 39 1 (some l0)) fun v36 =>
    xbind (xldI 1 v36 (3 : Int32)) fun v40 =>
    xbind (fX3_in l1.toInt64 (0 : Int64) ((v40 - (1 : Int32)).toInt64)) fun v44 =>
    if v44 = 0 then (
      xpure (-1 : Int32)
    ) else (
      xbind (xgR 39 1 (some l0)) fun v51 =>
      xbind (xldI 1 v51 (((4 : Int32) + ((5 : Int32) * l1)) + l2)) fun v61 =>
      xpure v61
    )
  ) else (
    xpure (0 : Int32)
  )
def fX3_planned (a0 : Nat) (p0 : Int32) (p1 : Int32) : xM (Int32) :=
  xbind (xput 39 0 (some a0) (.int (0 : Int32))) fun _ =>
  xbind (fX3_in p1.toInt64 (0 : Int64) (4 : Int64)) fun v12 =>
  if v12 = 0 then (
    fX3_planned_p23 a0 p0 p1 (1 : Int32) a0
  ) else (
    fX3_planned_p23 a0 p0 p1 (0 : Int32) a0
  )
def fX3_noYears_p18 (s0 : Int32) (s1 : Nat) : xM (Int32) :=
  xbind (xsel (some s1) [(39, fun z => fX3_throwsIf z s0 (2 : Int32))]) fun v19 =>
  xretN .boolean v19
def fX3_noYears (a0 : Nat) (p0 : Int32) (p1 : Int32) (p2 : Int32) : xM (Int32) :=
  xbind (fX3_in p0.toInt64 p1.toInt64 p2.toInt64) fun v7 =>
  if v7 = 0 then (
    fX3_noYears_p18 (1 : Int32) a0
  ) else (
    fX3_noYears_p18 (0 : Int32) a0
  )
def fX3_losesMarks (a0 : Nat) (p0 : Int32) (p1 : Int32) : xM (Unit) :=
  if p1 ≤ 0 then (
    xpure ()
  ) else (
    xbind (xgR 39 1 (some a0)) fun v5 =>
    xbind (fX3_at p0 (4 : Int32)) fun v10 =>
    xbind (xsel (some a0) [(39, fun z => fX3_of z p0 (4 : Int32))]) fun v16 =>
    xbind (xsel (some a0) [(39, fun z => fX3_totalOf z p0)]) fun v22 =>
    xdvJ p1.toInt64 <|
    xbind (xstI 1 v5 v10 (((v16.toInt64 * v22.toInt64) / p1.toInt64).toInt32)) fun _ =>
    xpure ()
  )
def fX3_ages_p199 (l0 : Nat) (l1 : Int32) (l5 : Int64) : xM (Unit) :=
  xbind (xgR 39 1 (some l0)) fun v200 =>
  xbind (fX3_at l1 (39 : Int32)) fun v206 =>
  xbind (xstI 1 v200 v206 l5.toInt32) fun _ =>
  xbind (xgR 39 1 (some l0)) fun v214 =>
  xbind (fX3_at l1 (8 : Int32)) fun v220 =>
  xbind (xldI 1 v214 v220) fun v224 =>
  xbind (xstI 1 v214 v220 (v224 + l5.toInt32)) fun _ =>
  xpure ()
def fX3_ages_p118 : Nat → Nat → Int32 → Int32 → Int32 → Int64 → Int32 → xM (Unit)
  | 0, _, _, _, _, _, _ => xstuck
  | n + 1, l0, l1, l2, l4, l5, l7 =>
    if l2 < l7 then (
      xdvJ (1000 : Int64) <|
      xbind (fJ12_min_2 (1000000 : Int64) (l5 / (1000 : Int64))) fun v164 =>
      xbind (xsel (some l0) [(39, fun z => fX3_of z l1 (3 : Int32))]) fun v172 =>
      if v172 ≤ 0 then (
        fX3_ages_p199 l0 l1 v164
      ) else (
        xbind (xsel (some l0) [(39, fun z => fX3_of z l1 (3 : Int32))]) fun v184 =>
        xbind (fJ12_max (0 : Int32) (v184 - l4)) fun v190 =>
        xbind (fJ12_min_2 v164 v190.toInt64) fun v194 =>
        fX3_ages_p199 l0 l1 v194
      )
    ) else (
      xbind (xsel (some l0) [(39, fun z => fX3_cohortOf z l1 l7)]) fun v130 =>
      xbind (xsel (some l0) [(39, fun z => fX3_of z l1 ((26 : Int32) + l7))]) fun v141 =>
      xlet (l5 + (v130.toInt64 * v141.toInt64)) fun x5_147 =>
      xlet (l7 + (1 : Int32)) fun x7_149 =>
      fX3_ages_p118 n l0 l1 l2 l4 x5_147 x7_149
    )
def fX3_ages_p15 : Nat → Nat → Int32 → Int32 → Int32 → Int32 → xM (Unit)
  | 0, _, _, _, _, _ => xstuck
  | n + 1, l0, l1, l2, l3, l4 =>
    if l4 ≤ 0 then (
      xbind (xgR 39 1 (some l0)) fun v70 =>
      xbind (fX3_at l1 (39 : Int32)) fun v76 =>
      xbind (xstI 1 v70 v76 (0 : Int32)) fun _ =>
      xbind (xsel (some l0) [(39, fun z => fX3_totalOf z l1)]) fun v83 =>
      xbind (xgR 39 1 (some l0)) fun v89 =>
      xbind (fX3_at l1 (9 : Int32)) fun v95 =>
      xbind (xldI 1 v89 v95) fun v99 =>
      xbind (xstI 1 v89 v95 (v99 + (l3 - v83))) fun _ =>
      xbind (xsel (some l0) [(39, fun z => fX3_losesMarks z l1 l3)]) fun _ =>
      xlet (0 : Int64) fun x5_113 =>
      xlet (1 : Int32) fun x7_116 =>
      fX3_ages_p118 xFU l0 l1 l2 v83 x5_113 x7_116
    ) else (
      xbind (xgR 39 1 (some l0)) fun v21 =>
      xbind (fX3_at l1 ((39 : Int32) + l4)) fun v30 =>
      xbind (xsel (some l0) [(39, fun z => fX3_cohortOf z l1 (l4 - (1 : Int32)))]) fun v39 =>
      xbind (xsel (some l0) [(39, fun z => fX3_of z l1 (((13 : Int32) + l4) - (1 : Int32)))]) fun v52 =>
      xdvJ (1000 : Int64) <|
      xbind (xstI 1 v21 v30 (((v39.toInt64 * v52.toInt64) / (1000 : Int64)).toInt32)) fun _ =>
      xlet (l4 + (-1 : Int32)) fun x4_63 =>
      fX3_ages_p15 n l0 l1 l2 l3 x4_63
    )
def fX3_ages (a0 : Nat) (p0 : Int32) : xM (Unit) :=
  xbind (xsel (some a0) [(39, fun z => fX3_oldest z p0)]) fun v2 =>
  xbind (xsel (some a0) [(39, fun z => fX3_totalOf z p0)]) fun v8 =>
  fX3_ages_p15 xFU a0 p0 v2 v8 v2
def fX3_goes_p2 : Nat → Nat → Int32 → Int32 → Int32 → xM (Unit)
  | 0, _, _, _, _ => xstuck
  | n + 1, l0, l1, l2, l3 =>
    if l2 ≤ l3 then (
      xpure ()
    ) else (
      xbind (xsel (some l0) [(39, fun z => fX3_ages z l1)]) fun _ =>
      xlet (l3 + (1 : Int32)) fun x3_12 =>
      fX3_goes_p2 n l0 l1 l2 x3_12
    )
def fX3_goes (a0 : Nat) (p0 : Int32) (p1 : Int32) : xM (Unit) :=
  xlet (0 : Int32) fun x3_1 =>
  fX3_goes_p2 xFU a0 p0 p1 x3_1
def fX3_totalBehind (a0 : Nat) (p0 : Int32) (p1 : Int32) : xM (Int32) :=
  xbind (xsel (some a0) [(39, fun z => fX3_putsAside z)]) fun _ =>
  xbind (xsel (some a0) [(39, fun z => fX3_goes z p0 p1)]) fun _ =>
  xbind (xsel (some a0) [(39, fun z => fX3_totalOf z p0)]) fun v12 =>
  xbind (xsel (some a0) [(39, fun z => fX3_takesBack z)]) fun _ =>
  xpure v12
def fX3_totalIn_p24  : xM (Int32) :=
  xpure (0 : Int32)
def fX3_totalIn (a0 : Nat) (p0 : Int32) (p1 : Int32) : xM (Int32) :=
  xbind (xput 39 0 (some a0) (.int (0 : Int32))) fun _ =>
  xbind (xsel (some a0) [(39, fun z => fX3_noSpecies z p0)]) fun v7 =>
  if v7 = 0 then (
    xbind (xsel (some a0) [(39, fun z => fX3_noYears z p1 (0 : Int32) (50 : Int32))]) fun v18 =>
    if v18 = 0 then (
      xbind (xsel (some a0) [(39, fun z => fX3_totalBehind z p0 p1)]) fun v31 =>
      xpure v31
    ) else (
      fX3_totalIn_p24
    )
  ) else (
    fX3_totalIn_p24
  )
def fX3_share_p25  : xM (UInt64) :=
  xpure FP.dconst0
def fX3_share (a0 : Nat) (p0 : Int32) (p1 : Int32) (p2 : Int32) : xM (UInt64) :=
  xbind (xput 39 0 (some a0) (.int (0 : Int32))) fun _ =>
  xbind (xsel (some a0) [(39, fun z => fX3_noAge z p0 p1)]) fun v8 =>
  if v8 = 0 then (
    xbind (xsel (some a0) [(39, fun z => fX3_noYears z p2 (0 : Int32) (50 : Int32))]) fun v19 =>
    if v19 = 0 then (
      xbind (xsel (some a0) [(39, fun z => fX3_putsAside z)]) fun _ =>
      xbind (xsel (some a0) [(39, fun z => fX3_goes z p0 p2)]) fun _ =>
      xbind (xsel (some a0) [(39, fun z => fX3_cohortOf z p0 p1)]) fun v40 =>
      xbind (xsel (some a0) [(39, fun z => fX3_totalOf z p0)]) fun v47 =>
      xbind (xsel (some a0) [(39, fun z => fX3_takesBack z)]) fun _ =>
      if v47 = 0 then (
        xpure FP.dconst0
      ) else (
        xnan (FP.ddiv (FP.i2d v40) (FP.i2d v47)) <|
        xpure (FP.ddiv (FP.i2d v40) (FP.i2d v47))
      )
    ) else (
      fX3_share_p25
    )
  ) else (
    fX3_share_p25
  )
def fX3_growth_p24  : xM (UInt64) :=
  xpure FP.dconst0
def fX3_growth (a0 : Nat) (p0 : Int32) (p1 : Int32) : xM (UInt64) :=
  xbind (xput 39 0 (some a0) (.int (0 : Int32))) fun _ =>
  xbind (xsel (some a0) [(39, fun z => fX3_noSpecies z p0)]) fun v7 =>
  if v7 = 0 then (
    xbind (xsel (some a0) [(39, fun z => fX3_noYears z p1 (1 : Int32) (50 : Int32))]) fun v18 =>
    if v18 = 0 then (
      xbind (xsel (some a0) [(39, fun z => fX3_totalBehind z p0 (p1 - (1 : Int32)))]) fun v31 =>
      if v31 = 0 then (
        xpure FP.dconst0
      ) else (
        xbind (xsel (some a0) [(39, fun z => fX3_totalBehind z p0 p1)]) fun v46 =>
        xnan (FP.ddiv (FP.i2d v46) (FP.i2d v31)) <|
        xpure (FP.ddiv (FP.i2d v46) (FP.i2d v31))
      )
    ) else (
      fX3_growth_p24
    )
  ) else (
    fX3_growth_p24
  )
def fX3_below_p48 (k24 : Nat → Int32 → Int32 → Int32 → Int32 → xM (Int32)) (l0 : Nat) (l1 : Int32) (l2 : Int32) (l3 : Int32) (l4 : Int32) : xM (Int32) :=
  xbind (xsel (some l0) [(39, fun z => fX3_ages z l1)]) fun _ =>
  xlet (l4 + (1 : Int32)) fun x4_53 =>
  k24 l0 l1 l2 l3 x4_53
def fX3_below_p59 (l0 : Nat) (l3 : Int32) : xM (Int32) :=
  xbind (xsel (some l0) [(39, fun z => fX3_takesBack z)]) fun _ =>
  xpure l3
def fX3_below_p24 : Nat → Nat → Int32 → Int32 → Int32 → Int32 → xM (Int32)
  | 0, _, _, _, _, _ => xstuck
  | n + 1, l0, l1, l2, l3, l4 =>
    if (50 : Int32) < l4 then (
      fX3_below_p59 l0 l3
    ) else (
      if l3 = (-1 : Int32) then (
        xbind (xsel (some l0) [(39, fun z => fX3_totalOf z l1)]) fun v38 =>
        if l2 ≤ v38 then (
          fX3_below_p48 (fX3_below_p24 n) l0 l1 l2 l3 l4
        ) else (
          fX3_below_p48 (fX3_below_p24 n) l0 l1 l2 l4 l4
        )
      ) else (
        fX3_below_p59 l0 l3
      )
    )
def fX3_below (a0 : Nat) (p0 : Int32) (p1 : Int32) : xM (Int32) :=
  xbind (xput 39 0 (some a0) (.int (0 : Int32))) fun _ =>
  xbind (xsel (some a0) [(39, fun z => fX3_noSpecies z p0)]) fun v7 =>
  if v7 = 0 then (
    xlet (-1 : Int32) fun x3_16 =>
    xbind (xsel (some a0) [(39, fun z => fX3_putsAside z)]) fun _ =>
    xlet (0 : Int32) fun x4_22 =>
    fX3_below_p24 xFU a0 p0 p1 x3_16 x4_22
  ) else (
    xpure (0 : Int32)
  )
def fX3_takesOldest_p9 : Nat → Nat → Int32 → Int32 → Int32 → xM (Int32)
  | 0, _, _, _, _ => xstuck
  | n + 1, l0, l1, l3, l4 =>
    xbind (xsel (some l0) [(39, fun z => fX3_of z l1 (2 : Int32))]) fun v14 =>
    if l4 < v14 then (
      if l3 = 0 then (
        xpure (1 : Int32)
      ) else (
        xpure (0 : Int32)
      )
    ) else (
      xbind (xsel (some l0) [(39, fun z => fX3_cohortOf z l1 l4)]) fun v25 =>
      xbind (fJ12_min l3 v25) fun v28 =>
      xbind (xgR 39 1 (some l0)) fun v34 =>
      xbind (fX3_at l1 ((39 : Int32) + l4)) fun v43 =>
      xbind (xldI 1 v34 v43) fun v47 =>
      xbind (xstI 1 v34 v43 (v47 - v28)) fun _ =>
      xlet (l3 - v28) fun x3_56 =>
      xlet (l4 + (-1 : Int32)) fun x4_57 =>
      fX3_takesOldest_p9 n l0 l1 x3_56 x4_57
    )
def fX3_takesOldest (a0 : Nat) (p0 : Int32) (p1 : Int32) : xM (Int32) :=
  xbind (xsel (some a0) [(39, fun z => fX3_oldest z p0)]) fun v4 =>
  fX3_takesOldest_p9 xFU a0 p0 p1 v4
def fX3_works_p54 (k10 : Nat → Int32 → Int32 → Int32 → Int32 → Int32 → Int32 → xM (Int32)) (l0 : Nat) (l1 : Int32) (l2 : Int32) (l3 : Int32) (l4 : Int32) (l6 : Int32) (s0 : Int32) : xM (Int32) :=
  xlet (l6 + (1 : Int32)) fun x6_56 =>
  k10 l0 l1 l2 l3 l4 s0 x6_56
def fX3_works_p53 (k10 : Nat → Int32 → Int32 → Int32 → Int32 → Int32 → Int32 → xM (Int32)) (l0 : Nat) (l1 : Int32) (l2 : Int32) (l3 : Int32) (l4 : Int32) (l6 : Int32) : xM (Int32) :=
  fX3_works_p54 k10 l0 l1 l2 l3 l4 l6 (0 : Int32)
def fX3_works_p62 (l0 : Nat) (l5 : Int32) : xM (Int32) :=
  xbind (xsel (some l0) [(39, fun z => fX3_takesBack z)]) fun _ =>
  xretN .boolean l5
def fX3_works_p10 : Nat → Nat → Int32 → Int32 → Int32 → Int32 → Int32 → Int32 → xM (Int32)
  | 0, _, _, _, _, _, _, _ => xstuck
  | n + 1, l0, l1, l2, l3, l4, l5, l6 =>
    if l3 ≤ l6 then (
      fX3_works_p62 l0 l5
    ) else (
      if l5 = 0 then (
        fX3_works_p62 l0 l5
      ) else (
        xbind (xsel (some l0) [(39, fun z => fX3_takesOldest z l1 l2)]) fun v24 =>
        xbind (xsel (some l0) [(39, fun z => fX3_ages z l1)]) fun _ =>
        if v24 = 0 then (
          fX3_works_p53 (fX3_works_p10 n) l0 l1 l2 l3 l4 l6
        ) else (
          xbind (xsel (some l0) [(39, fun z => fX3_totalOf z l1)]) fun v41 =>
          if v41 < l4 then (
            fX3_works_p53 (fX3_works_p10 n) l0 l1 l2 l3 l4 l6
          ) else (
            fX3_works_p54 (fX3_works_p10 n) l0 l1 l2 l3 l4 l6 (1 : Int32)
          )
        )
      )
    )
def fX3_works (a0 : Nat) (p0 : Int32) (p1 : Int32) (p2 : Int32) (p3 : Int32) : xM (Int32) :=
  xlet (1 : Int32) fun x5_1 =>
  xbind (xsel (some a0) [(39, fun z => fX3_putsAside z)]) fun _ =>
  xlet (0 : Int32) fun x6_8 =>
  fX3_works_p10 xFU a0 p0 p1 p2 p3 x5_1 x6_8
def fX3_steadyTake_p110 (k69 : Nat → Int32 → Int32 → Int32 → Int32 → Int32 → xM (Int32)) (l0 : Nat) (l1 : Int32) (l2 : Int32) (l3 : Int32) (l4 : Int32) (l5 : Int32) : xM (Int32) :=
  k69 l0 l1 l2 l3 l4 l5
def fX3_steadyTake_p69 : Nat → Nat → Int32 → Int32 → Int32 → Int32 → Int32 → xM (Int32)
  | 0, _, _, _, _, _, _ => xstuck
  | n + 1, l0, l1, l2, l3, l4, l5 =>
    if l5 ≤ (l4 + (1 : Int32)) then (
      xpure l4
    ) else (
      xdv (2 : Int32) <|
      xlet ((l4 + l5) / (2 : Int32)) fun x6_85 =>
      xbind (xsel (some l0) [(39, fun z => fX3_works z l1 x6_85 l2 l3)]) fun v93 =>
      if v93 = 0 then (
        fX3_steadyTake_p110 (fX3_steadyTake_p69 n) l0 l1 l2 l3 l4 x6_85
      ) else (
        fX3_steadyTake_p110 (fX3_steadyTake_p69 n) l0 l1 l2 l3 x6_85 l5
      )
    )
def fX3_steadyTake_p35 (l0 : Nat) (l1 : Int32) (l2 : Int32) (l3 : Int32) (s0 : Int32) (s1 : Nat) : xM (Int32) :=
  xbind (xsel (some s1) [(39, fun z => fX3_throwsIf z s0 (2 : Int32))]) fun v36 =>
  if v36 = 0 then (
    xbind (xsel (some l0) [(39, fun z => fX3_works z l1 (0 : Int32) l2 l3)]) fun v49 =>
    if v49 = 0 then (
      xpure (-1 : Int32)
    ) else (
      xlet (0 : Int32) fun x4_58 =>
      xbind (xsel (some l0) [(39, fun z => fX3_adultsOf z l1)]) fun v62 =>
      xlet (v62 + (1 : Int32)) fun x5_67 =>
      fX3_steadyTake_p69 xFU l0 l1 l2 l3 x4_58 x5_67
    )
  ) else (
    xpure (0 : Int32)
  )
def fX3_steadyTake_p30 (l0 : Nat) (l1 : Int32) (l2 : Int32) (l3 : Int32) (s0 : Nat) : xM (Int32) :=
  fX3_steadyTake_p35 l0 l1 l2 l3 (1 : Int32) s0
def fX3_steadyTake (a0 : Nat) (p0 : Int32) (p1 : Int32) (p2 : Int32) : xM (Int32) :=
  xbind (xput 39 0 (some a0) (.int (0 : Int32))) fun _ =>
  xbind (xsel (some a0) [(39, fun z => fX3_noSpecies z p0)]) fun v7 =>
  if v7 = 0 then (
    xbind (fX3_in p1.toInt64 (1 : Int64) (30 : Int64)) fun v20 =>
    if v20 = 0 then (
      fX3_steadyTake_p30 a0 p0 p1 p2 a0
    ) else (
      if 0 ≤ p2 then (
        fX3_steadyTake_p35 a0 p0 p1 p2 (0 : Int32) a0
      ) else (
        fX3_steadyTake_p30 a0 p0 p1 p2 a0
      )
    )
  ) else (
    xpure (0 : Int32)
  )
def fX3_adds (a0 : Nat) (p0 : Int32) (p1 : Int32) (p2 : Int32) : xM (Unit) :=
  xbind (xgR 39 1 (some a0)) fun v1 =>
  xbind (fX3_at p0 ((39 : Int32) + p1)) fun v9 =>
  xbind (xldI 1 v1 v9) fun v13 =>
  xbind (xstI 1 v1 v9 (v13 + p2)) fun _ =>
  xbind (xgR 39 1 (some a0)) fun v18 =>
  xbind (fX3_at p0 (11 : Int32)) fun v24 =>
  xbind (xldI 1 v18 v24) fun v28 =>
  xbind (xstI 1 v18 v24 (v28 + p2)) fun _ =>
  xpure ()
def fX3_takesOut (a0 : Nat) (p0 : Int32) (p1 : Int32) (p2 : Int32) : xM (Unit) :=
  xbind (xsel (some a0) [(39, fun z => fX3_totalOf z p0)]) fun v2 =>
  xbind (xgR 39 1 (some a0)) fun v8 =>
  xbind (fX3_at p0 ((39 : Int32) + p1)) fun v16 =>
  xbind (xldI 1 v8 v16) fun v20 =>
  xbind (xstI 1 v8 v16 (v20 - p2)) fun _ =>
  xbind (xgR 39 1 (some a0)) fun v25 =>
  xbind (fX3_at p0 (10 : Int32)) fun v31 =>
  xbind (xldI 1 v25 v31) fun v35 =>
  xbind (xstI 1 v25 v31 (v35 + p2)) fun _ =>
  xbind (xsel (some a0) [(39, fun z => fX3_losesMarks z p0 v2)]) fun _ =>
  xpure ()
def fX3_sickens_p13 : Nat → Nat → Int32 → Int32 → Int32 → Int32 → Int32 → Int32 → xM (Int32)
  | 0, _, _, _, _, _, _, _ => xstuck
  | n + 1, l0, l1, l3, l4, l5, l6, l7 =>
    if l3 < l7 then (
      xbind (xgR 39 1 (some l0)) fun v71 =>
      xbind (fX3_at l1 (9 : Int32)) fun v77 =>
      xbind (xldI 1 v71 v77) fun v81 =>
      xbind (xstI 1 v71 v77 (v81 + l6)) fun _ =>
      xbind (xsel (some l0) [(39, fun z => fX3_losesMarks z l1 l5)]) fun _ =>
      xpure l6
    ) else (
      xbind (xsel (some l0) [(39, fun z => fX3_cohortOf z l1 l7)]) fun v23 =>
      xdvJ (1000 : Int64) <|
      xlet (((v23.toInt64 * l4.toInt64) / (1000 : Int64)).toInt32) fun x8_36 =>
      xbind (xgR 39 1 (some l0)) fun v39 =>
      xbind (fX3_at l1 ((39 : Int32) + l7)) fun v48 =>
      xbind (xldI 1 v39 v48) fun v52 =>
      xbind (xstI 1 v39 v48 (v52 - x8_36)) fun _ =>
      xlet (l6 + x8_36) fun x6_62 =>
      xlet (l7 + (1 : Int32)) fun x7_64 =>
      fX3_sickens_p13 n l0 l1 l3 l4 l5 x6_62 x7_64
    )
def fX3_sickens (a0 : Nat) (p0 : Int32) (p1 : Int32) (p2 : Int32) (p3 : Int32) : xM (Int32) :=
  xbind (xsel (some a0) [(39, fun z => fX3_totalOf z p0)]) fun v2 =>
  xlet (0 : Int32) fun x6_8 =>
  fX3_sickens_p13 xFU a0 p0 p2 p3 v2 x6_8 p1
def fX3_carriesOut (a0 : Nat) (p0 : Int32) : xM (Unit) :=
  xbind (xgR 39 1 (some a0)) fun v1 =>
  xbind (xldI 1 v1 (p0 + (1 : Int32))) fun v7 =>
  xbind (xgR 39 1 (some a0)) fun v10 =>
  xbind (xldI 1 v10 (p0 + (2 : Int32))) fun v16 =>
  xbind (xgR 39 1 (some a0)) fun v19 =>
  xbind (xldI 1 v19 (p0 + (3 : Int32))) fun v25 =>
  xbind (xgR 39 1 (some a0)) fun v29 =>
  xbind (xldI 1 v29 (p0 + (4 : Int32))) fun v35 =>
  xbind (xsel (some a0) [(39, fun z => fX3_cohortOf z v16 v25)]) fun v42 =>
  if v7 = 0 then (
    xbind (fJ12_min v35 ((1000000 : Int32) - v42)) fun v63 =>
    xbind (xsel (some a0) [(39, fun z => fX3_adds z v16 v25 v63)]) fun _ =>
    xpure ()
  ) else (
    if v7 = (1 : Int32) then (
      xbind (xsel (some a0) [(39, fun z => fX3_leftOf z v16)]) fun v87 =>
      xbind (fJ12_min v42 v87) fun v90 =>
      xbind (fJ12_min v35 v90) fun v93 =>
      xbind (xsel (some a0) [(39, fun z => fX3_takesOut z v16 v25 v93)]) fun _ =>
      xpure ()
    ) else (
      xbind (xsel (some a0) [(39, fun z => fX3_sickens z v16 v25 v25 v35)]) fun v110 =>
      xpure ()
    )
  )
def fX3_removesPlan_p16 : Nat → Nat → Int32 → xM (Unit)
  | 0, _, _ => xstuck
  | n + 1, l0, l2 =>
    xbind (xgR 39 1 (some l0)) fun v20 =>
    xbind (xldI 1 v20 (3 : Int32)) fun v24 =>
    if ((4 : Int32) + ((5 : Int32) * v24)) ≤ l2 then (
      xpure ()
    ) else (
      xbind (xgR 39 1 (some l0)) fun v31 =>
      xbind (xgR 39 1 (some l0)) fun v36 =>
      xbind (xldI 1 v36 (l2 + (5 : Int32))) fun v42 =>
      xbind (xstI 1 v31 l2 v42) fun _ =>
      xlet (l2 + (1 : Int32)) fun x2_44 =>
      fX3_removesPlan_p16 n l0 x2_44
    )
def fX3_removesPlan (a0 : Nat) (p0 : Int32) : xM (Unit) :=
  xbind (xgR 39 1 (some a0)) fun v1 =>
  xbind (xldI 1 v1 (3 : Int32)) fun v6 =>
  xbind (xstI 1 v1 (3 : Int32) (v6 - (1 : Int32))) fun _ =>
  xlet ((4 : Int32) + ((5 : Int32) * p0)) fun x2_15 =>
  fX3_removesPlan_p16 xFU a0 x2_15
def fX3_carriesOutAll_p2 : Nat → Nat → Int32 → xM (Int32)
  | 0, _, _ => xstuck
  | n + 1, l0, l1 =>
    xbind (xgR 39 1 (some l0)) fun v3 =>
    xbind (xldI 1 v3 (3 : Int32)) fun v7 =>
    if v7 ≤ 0 then (
      xpure l1
    ) else (
      xbind (xgR 39 1 (some l0)) fun v12 =>
      xbind (xldI 1 v12 (4 : Int32)) fun v16 =>
      xbind (xgR 39 1 (some l0)) fun v18 =>
      xbind (xldI 1 v18 (1 : Int32)) fun v22 =>
      if v16 = v22 then (
        xbind (xsel (some l0) [(39, fun z => fX3_carriesOut z (4 : Int32))]) fun _ =>
        xbind (xsel (some l0) [(39, fun z => fX3_removesPlan z (0 : Int32))]) fun _ =>
        xlet (l1 + (1 : Int32)) fun x1_36 =>
        fX3_carriesOutAll_p2 n l0 x1_36
      ) else (
        xpure l1
      )
    )
def fX3_carriesOutAll (a0 : Nat) : xM (Int32) :=
  xlet (0 : Int32) fun x1_1 =>
  fX3_carriesOutAll_p2 xFU a0 x1_1
def fX3_closes_p42 (k30 : Nat → Int32 → Int32 → xM (Int32)) : Nat → Nat → Int32 → Int32 → Int32 → xM (Int32)
  | 0, _, _, _, _ => xstuck
  | n + 1, l0, l1, l2, l3 =>
    if (7 : Int32) ≤ l3 then (
      xlet (l2 + (1 : Int32)) fun x2_80 =>
      k30 l0 l1 x2_80
    ) else (
      xbind (xgR 39 5 (some l0)) fun v49 =>
      xbind (xgR 39 1 (some l0)) fun v53 =>
      xbind (xldI 1 v53 (2 : Int32)) fun v57 =>
      xbind (xsel (some l0) [(39, fun z => fX3_part z l2 l3)]) fun v70 =>
      xbind (xstI 1 v49 ((((v57 * (4 : Int32)) + l2) * (7 : Int32)) + l3) v70) fun _ =>
      xlet (l3 + (1 : Int32)) fun x3_74 =>
      fX3_closes_p42 k30 n l0 l1 l2 x3_74
    )
def fX3_closes_p108 : Nat → Nat → Int32 → Int32 → xM (Int32)
  | 0, _, _, _ => xstuck
  | n + 1, l0, l1, l2 =>
    xbind (xgR 39 1 (some l0)) fun v110 =>
    xbind (xldI 1 v110 (0 : Int32)) fun v114 =>
    if v114 ≤ l2 then (
      xpure l1
    ) else (
      xbind (xsel (some l0) [(39, fun z => fX3_opens z l2)]) fun _ =>
      xlet (l2 + (1 : Int32)) fun x2_123 =>
      fX3_closes_p108 n l0 l1 x2_123
    )
def fX3_closes_p30 : Nat → Nat → Int32 → Int32 → xM (Int32)
  | 0, _, _, _ => xstuck
  | n + 1, l0, l1, l2 =>
    xbind (xgR 39 1 (some l0)) fun v32 =>
    xbind (xldI 1 v32 (0 : Int32)) fun v36 =>
    if v36 ≤ l2 then (
      xbind (xgR 39 1 (some l0)) fun v87 =>
      xbind (xldI 1 v87 (2 : Int32)) fun v92 =>
      xbind (xstI 1 v87 (2 : Int32) (v92 + (1 : Int32))) fun _ =>
      xbind (xgR 39 1 (some l0)) fun v97 =>
      xbind (xldI 1 v97 (1 : Int32)) fun v102 =>
      xbind (xstI 1 v97 (1 : Int32) (v102 + (1 : Int32))) fun _ =>
      xlet (0 : Int32) fun x2_107 =>
      fX3_closes_p108 xFU l0 l1 x2_107
    ) else (
      xlet (0 : Int32) fun x3_41 =>
      fX3_closes_p42 (fX3_closes_p30 n) xFU l0 l1 l2 x3_41
    )
def fX3_closes_p7 : Nat → Nat → Int32 → Int32 → xM (Int32)
  | 0, _, _, _ => xstuck
  | n + 1, l0, l1, l2 =>
    xbind (xgR 39 1 (some l0)) fun v9 =>
    xbind (xldI 1 v9 (0 : Int32)) fun v13 =>
    if v13 ≤ l2 then (
      xlet (0 : Int32) fun x2_29 =>
      fX3_closes_p30 xFU l0 l1 x2_29
    ) else (
      xbind (xsel (some l0) [(39, fun z => fX3_ages z l2)]) fun _ =>
      xlet (l2 + (1 : Int32)) fun x2_22 =>
      fX3_closes_p7 n l0 l1 x2_22
    )
def fX3_closes (a0 : Nat) : xM (Int32) :=
  xbind (xsel (some a0) [(39, fun z => fX3_carriesOutAll z)]) fun v1 =>
  xlet (0 : Int32) fun x2_6 =>
  fX3_closes_p7 xFU a0 v1 x2_6
def fX3_keeps_p52 (l0 : Nat) : xM (Unit) :=
  xbind (xgR 39 1 (some l0)) fun v54 =>
  xbind (xgR 39 3 (some l0)) fun v59 =>
  xbind (xgI 39 4 (some l0)) fun v66 =>
  xbind (xsel (some l0) [(39, fun z => fX3_copies z v54 (0 : Int32) v59 ((592 : Int32) * v66))]) fun _ =>
  xbind (xgI 39 4 (some l0)) fun v75 =>
  xbind (xput 39 4 (some l0) (.int (v75 + (1 : Int32)))) fun _ =>
  xpure ()
def fX3_keeps_p13 : Nat → Nat → Int32 → xM (Unit)
  | 0, _, _ => xstuck
  | n + 1, l0, l1 =>
    if (4736 : Int32) ≤ l1 then (
      xbind (xgI 39 4 (some l0)) fun v44 =>
      xbind (xput 39 4 (some l0) (.int (v44 - (1 : Int32)))) fun _ =>
      fX3_keeps_p52 l0
    ) else (
      xbind (xgR 39 3 (some l0)) fun v21 =>
      xbind (xgR 39 3 (some l0)) fun v30 =>
      xbind (xldI 1 v30 l1) fun v34 =>
      xbind (xstI 1 v21 (l1 - (592 : Int32)) v34) fun _ =>
      xlet (l1 + (1 : Int32)) fun x1_36 =>
      fX3_keeps_p13 n l0 x1_36
    )
def fX3_keeps (a0 : Nat) : xM (Unit) :=
  xbind (xgI 39 4 (some a0)) fun v1 =>
  if v1 = (8 : Int32) then (
    xlet (592 : Int32) fun x1_12 =>
    fX3_keeps_p13 xFU a0 x1_12
  ) else (
    fX3_keeps_p52 a0
  )
def fX3_pass_p67 : Nat → Nat → Int32 → Int32 → Int32 → xM (Int32)
  | 0, _, _, _, _ => xstuck
  | n + 1, l0, l1, l2, l3 =>
    if l1 ≤ l3 then (
      xpure l2
    ) else (
      xbind (xsel (some l0) [(39, fun z => fX3_closes z)]) fun v74 =>
      xlet (l2 + v74) fun x2_78 =>
      xlet (l3 + (1 : Int32)) fun x3_79 =>
      fX3_pass_p67 n l0 l1 x2_78 x3_79
    )
def fX3_pass_p50 (l0 : Nat) (l1 : Int32) (s0 : Int32) (s1 : Nat) : xM (Int32) :=
  xbind (xsel (some s1) [(39, fun z => fX3_throwsIf z s0 (2 : Int32))]) fun v51 =>
  if v51 = 0 then (
    xbind (xsel (some l0) [(39, fun z => fX3_keeps z)]) fun _ =>
    xlet (0 : Int32) fun x2_64 =>
    xlet (0 : Int32) fun x3_66 =>
    fX3_pass_p67 xFU l0 l1 x2_64 x3_66
  ) else (
    xpure (0 : Int32)
  )
def fX3_pass_p23 (l0 : Nat) (l1 : Int32) (s0 : Int32) (s1 : Nat) : xM (Int32) :=
  xbind (xsel (some s1) [(39, fun z => fX3_throwsIf z s0 (1 : Int32))]) fun v24 =>
  if v24 = 0 then (
    xbind (xgR 39 1 (some l0)) fun v32 =>
    xbind (xldI 1 v32 (1 : Int32)) fun v36 =>
    if (v36 + l1) ≤ (9999 : Int32) then (
      fX3_pass_p50 l0 l1 (0 : Int32) l0
    ) else (
      fX3_pass_p50 l0 l1 (1 : Int32) l0
    )
  ) else (
    xpure (0 : Int32)
  )
def fX3_pass (a0 : Nat) (p0 : Int32) : xM (Int32) :=
  xbind (xput 39 0 (some a0) (.int (0 : Int32))) fun _ =>
  xbind (fX3_in p0.toInt64 (1 : Int64) (50 : Int64)) fun v12 =>
  if v12 = 0 then (
    fX3_pass_p23 a0 p0 (1 : Int32) a0
  ) else (
    fX3_pass_p23 a0 p0 (0 : Int32) a0
  )
def fX3_take_p57 (l0 : Nat) (l1 : Int32) (l2 : Int32) (l3 : Int32) (s0 : Int32) (s1 : Nat) : xM (Int32) :=
  xbind (xsel (some s1) [(39, fun z => fX3_throwsIf z s0 (3 : Int32))]) fun v58 =>
  if v58 = 0 then (
    xbind (xsel (some l0) [(39, fun z => fX3_keeps z)]) fun _ =>
    xbind (xsel (some l0) [(39, fun z => fX3_takesOut z l1 l2 l3)]) fun _ =>
    xbind (xsel (some l0) [(39, fun z => fX3_leftOf z l1)]) fun v79 =>
    xpure v79
  ) else (
    xpure (0 : Int32)
  )
def fX3_take_p52 (l0 : Nat) (l1 : Int32) (l2 : Int32) (l3 : Int32) (s0 : Nat) : xM (Int32) :=
  fX3_take_p57 l0 l1 l2 l3 (1 : Int32) s0
def fX3_take_p25 (l0 : Nat) (l1 : Int32) (l2 : Int32) (l3 : Int32) (s0 : Int32) (s1 : Nat) : xM (Int32) :=
  xbind (xsel (some s1) [(39, fun z => fX3_throwsIf z s0 (2 : Int32))]) fun v26 =>
  if v26 = 0 then (
    xbind (xsel (some l0) [(39, fun z => fX3_cohortOf z l1 l2)]) fun v37 =>
    if v37 < l3 then (
      fX3_take_p52 l0 l1 l2 l3 l0
    ) else (
      xbind (xsel (some l0) [(39, fun z => fX3_leftOf z l1)]) fun v46 =>
      if l3 ≤ v46 then (
        fX3_take_p57 l0 l1 l2 l3 (0 : Int32) l0
      ) else (
        fX3_take_p52 l0 l1 l2 l3 l0
      )
    )
  ) else (
    xpure (0 : Int32)
  )
def fX3_take (a0 : Nat) (p0 : Int32) (p1 : Int32) (p2 : Int32) : xM (Int32) :=
  xbind (xput 39 0 (some a0) (.int (0 : Int32))) fun _ =>
  xbind (xsel (some a0) [(39, fun z => fX3_noAge z p0 p1)]) fun v8 =>
  if v8 = 0 then (
    if (1 : Int32) ≤ p2 then (
      fX3_take_p25 a0 p0 p1 p2 (0 : Int32) a0
    ) else (
      fX3_take_p25 a0 p0 p1 p2 (1 : Int32) a0
    )
  ) else (
    xpure (0 : Int32)
  )
def fX3_add_p55 (l0 : Nat) (l1 : Int32) (l2 : Int32) (l3 : Int32) (s0 : Int32) (s1 : Nat) : xM (Int32) :=
  xbind (xsel (some s1) [(39, fun z => fX3_throwsIf z s0 (3 : Int32))]) fun v56 =>
  if v56 = 0 then (
    xbind (xsel (some l0) [(39, fun z => fX3_keeps z)]) fun _ =>
    xbind (xsel (some l0) [(39, fun z => fX3_adds z l1 l2 l3)]) fun _ =>
    xbind (xsel (some l0) [(39, fun z => fX3_totalOf z l1)]) fun v77 =>
    xpure v77
  ) else (
    xpure (0 : Int32)
  )
def fX3_add_p25 (l0 : Nat) (l1 : Int32) (l2 : Int32) (l3 : Int32) (s0 : Int32) (s1 : Nat) : xM (Int32) :=
  xbind (xsel (some s1) [(39, fun z => fX3_throwsIf z s0 (2 : Int32))]) fun v26 =>
  if v26 = 0 then (
    xbind (xsel (some l0) [(39, fun z => fX3_cohortOf z l1 l2)]) fun v36 =>
    if (lg_cmp (v36.toInt64 + l3.toInt64) (1000000 : Int64)) ≤ 0 then (
      fX3_add_p55 l0 l1 l2 l3 (0 : Int32) l0
    ) else (
      fX3_add_p55 l0 l1 l2 l3 (1 : Int32) l0
    )
  ) else (
    xpure (0 : Int32)
  )
def fX3_add (a0 : Nat) (p0 : Int32) (p1 : Int32) (p2 : Int32) : xM (Int32) :=
  xbind (xput 39 0 (some a0) (.int (0 : Int32))) fun _ =>
  xbind (xsel (some a0) [(39, fun z => fX3_noAge z p0 p1)]) fun v8 =>
  if v8 = 0 then (
    if (1 : Int32) ≤ p2 then (
      fX3_add_p25 a0 p0 p1 p2 (0 : Int32) a0
    ) else (
      fX3_add_p25 a0 p0 p1 p2 (1 : Int32) a0
    )
  ) else (
    xpure (0 : Int32)
  )
def fX3_sick_p49 (l0 : Nat) (l1 : Int32) (l2 : Int32) (l3 : Int32) (l4 : Int32) (s0 : Int32) (s1 : Nat) : xM (Int32) :=
  xbind (xsel (some s1) [(39, fun z => fX3_throwsIf z s0 (2 : Int32))]) fun v50 =>
  if v50 = 0 then (
    xbind (xsel (some l0) [(39, fun z => fX3_keeps z)]) fun _ =>
    xbind (xsel (some l0) [(39, fun z => fX3_sickens z l1 l2 l3 l4)]) fun v68 =>
    xpure v68
  ) else (
    xpure (0 : Int32)
  )
def fX3_sick_p44 (l0 : Nat) (l1 : Int32) (l2 : Int32) (l3 : Int32) (l4 : Int32) (s0 : Nat) : xM (Int32) :=
  fX3_sick_p49 l0 l1 l2 l3 l4 (1 : Int32) s0
def fX3_sick (a0 : Nat) (p0 : Int32) (p1 : Int32) (p2 : Int32) (p3 : Int32) : xM (Int32) :=
  xbind (xput 39 0 (some a0) (.int (0 : Int32))) fun _ =>
  xbind (xsel (some a0) [(39, fun z => fX3_noAge z p0 p1)]) fun v8 =>
  if v8 = 0 then (
    xbind (xsel (some a0) [(39, fun z => fX3_oldest z p0)]) fun v21 =>
    xbind (fX3_in p2.toInt64 p1.toInt64 v21.toInt64) fun v25 =>
    if v25 = 0 then (
      fX3_sick_p44 a0 p0 p1 p2 p3 a0
    ) else (
      xbind (fX3_in p3.toInt64 (0 : Int64) (1000 : Int64)) fun v38 =>
      if v38 = 0 then (
        fX3_sick_p44 a0 p0 p1 p2 p3 a0
      ) else (
        fX3_sick_p49 a0 p0 p1 p2 p3 (0 : Int32) a0
      )
    )
  ) else (
    xpure (0 : Int32)
  )
def fX3_mark_p57 (l0 : Nat) (l1 : Int32) (l2 : Int32) (s0 : Int32) (s1 : Nat) : xM (Int32) :=
  xbind (xsel (some s1) [(39, fun z => fX3_throwsIf z s0 (3 : Int32))]) fun v58 =>
  if v58 = 0 then (
    xbind (xsel (some l0) [(39, fun z => fX3_keeps z)]) fun _ =>
    xbind (xgR 39 1 (some l0)) fun v71 =>
    xbind (fX3_at l1 (4 : Int32)) fun v76 =>
    xbind (xldI 1 v71 v76) fun v80 =>
    xbind (xstI 1 v71 v76 (v80 + l2)) fun _ =>
    xbind (xsel (some l0) [(39, fun z => fX3_of z l1 (4 : Int32))]) fun v87 =>
    xpure v87
  ) else (
    xpure (0 : Int32)
  )
def fX3_mark_p24 (l0 : Nat) (l1 : Int32) (l2 : Int32) (s0 : Int32) (s1 : Nat) : xM (Int32) :=
  xbind (xsel (some s1) [(39, fun z => fX3_throwsIf z s0 (2 : Int32))]) fun v25 =>
  if v25 = 0 then (
    xbind (xsel (some l0) [(39, fun z => fX3_of z l1 (4 : Int32))]) fun v35 =>
    xbind (xsel (some l0) [(39, fun z => fX3_totalOf z l1)]) fun v44 =>
    if (lg_cmp (v35.toInt64 + l2.toInt64) v44.toInt64) ≤ 0 then (
      fX3_mark_p57 l0 l1 l2 (0 : Int32) l0
    ) else (
      fX3_mark_p57 l0 l1 l2 (1 : Int32) l0
    )
  ) else (
    xpure (0 : Int32)
  )
def fX3_mark (a0 : Nat) (p0 : Int32) (p1 : Int32) : xM (Int32) :=
  xbind (xput 39 0 (some a0) (.int (0 : Int32))) fun _ =>
  xbind (xsel (some a0) [(39, fun z => fX3_noSpecies z p0)]) fun v7 =>
  if v7 = 0 then (
    if (1 : Int32) ≤ p1 then (
      fX3_mark_p24 a0 p0 p1 (0 : Int32) a0
    ) else (
      fX3_mark_p24 a0 p0 p1 (1 : Int32) a0
    )
  ) else (
    xpure (0 : Int32)
  )
def fX3_survey_p130 : Nat → Nat → Int32 → Int32 → Int32 → Int32 → Int32 → xM (Int64)
  | 0, _, _, _, _, _, _ => xstuck
  | n + 1, l0, l1, l2, l3, l4, l6 =>
    if l6 < (4 : Int32) then (
      xbind (xgR 39 1 (some l0)) fun v169 =>
      xbind (fX3_at l1 (52 : Int32)) fun v175 =>
      xbind (xgR 39 1 (some l0)) fun v179 =>
      xbind (xldI 1 v179 (1 : Int32)) fun v183 =>
      xbind (xstI 1 v169 v175 v183) fun _ =>
      xbind (xgR 39 1 (some l0)) fun v186 =>
      xbind (fX3_at l1 (53 : Int32)) fun v192 =>
      xbind (xstI 1 v186 v192 l4) fun _ =>
      xbind (xgR 39 1 (some l0)) fun v199 =>
      xbind (fX3_at l1 (54 : Int32)) fun v205 =>
      xbind (xstI 1 v199 v205 l2) fun _ =>
      xbind (xgR 39 1 (some l0)) fun v211 =>
      xbind (fX3_at l1 (55 : Int32)) fun v217 =>
      xbind (xstI 1 v211 v217 l3) fun _ =>
      xbind (xsel (some l0) [(39, fun z => fX3_estimateOf z l1 (0 : Int32))]) fun v225 =>
      xpure v225
    ) else (
      xbind (xgR 39 1 (some l0)) fun v137 =>
      xbind (fX3_at l1 ((52 : Int32) + l6)) fun v146 =>
      xbind (xsel (some l0) [(39, fun z => fX3_of z l1 (((52 : Int32) + l6) - (4 : Int32)))]) fun v158 =>
      xbind (xstI 1 v137 v146 v158) fun _ =>
      xlet (l6 + (-1 : Int32)) fun x6_162 =>
      fX3_survey_p130 n l0 l1 l2 l3 l4 x6_162
    )
def fX3_survey_p126 (l0 : Nat) (l1 : Int32) (l2 : Int32) (l3 : Int32) (l4 : Int32) : xM (Int64) :=
  xlet (79 : Int32) fun x6_128 =>
  fX3_survey_p130 xFU l0 l1 l2 l3 l4 x6_128
def fX3_survey_p86 (l0 : Nat) (l1 : Int32) (l2 : Int32) (l3 : Int32) (l4 : Int32) (s0 : Int32) (s1 : Nat) : xM (Int64) :=
  xbind (xsel (some s1) [(39, fun z => fX3_throwsIf z s0 (2 : Int32))]) fun v87 =>
  if v87 = 0 then (
    xbind (xsel (some l0) [(39, fun z => fX3_keeps z)]) fun _ =>
    xbind (xsel (some l0) [(39, fun z => fX3_of z l1 (12 : Int32))]) fun v103 =>
    if (20 : Int32) ≤ v103 then (
      fX3_survey_p126 l0 l1 l2 l3 l4
    ) else (
      xbind (xgR 39 1 (some l0)) fun v112 =>
      xbind (fX3_at l1 (12 : Int32)) fun v118 =>
      xbind (xldI 1 v112 v118) fun v122 =>
      xbind (xstI 1 v112 v118 (v122 + (1 : Int32))) fun _ =>
      fX3_survey_p126 l0 l1 l2 l3 l4
    )
  ) else (
    xpure (0 : Int64)
  )
def fX3_survey_p73 (l0 : Nat) (l1 : Int32) (l2 : Int32) (l3 : Int32) (l4 : Int32) (s0 : Int32) : xM (Int64) :=
  if s0 = 0 then (
    fX3_survey_p86 l0 l1 l2 l3 l4 (1 : Int32) l0
  ) else (
    fX3_survey_p86 l0 l1 l2 l3 l4 (0 : Int32) l0
  )
def fX3_survey_p72 (l0 : Nat) (l1 : Int32) (l2 : Int32) (l3 : Int32) (l4 : Int32) : xM (Int64) :=
  fX3_survey_p73 l0 l1 l2 l3 l4 (0 : Int32)
def fX3_survey (a0 : Nat) (p0 : Int32) (p1 : Int32) (p2 : Int32) : xM (Int64) :=
  xbind (xput 39 0 (some a0) (.int (0 : Int32))) fun _ =>
  xbind (xsel (some a0) [(39, fun z => fX3_noSpecies z p0)]) fun v7 =>
  if v7 = 0 then (
    xbind (xsel (some a0) [(39, fun z => fX3_of z p0 (4 : Int32))]) fun v18 =>
    xbind (xsel (some a0) [(39, fun z => fX3_totalOf z p0)]) fun v28 =>
    xbind (fX3_in p1.toInt64 (1 : Int64) v28.toInt64) fun v32 =>
    if v32 = 0 then (
      fX3_survey_p72 a0 p0 p1 p2 v18
    ) else (
      xbind (fJ12_min p1 v18) fun v44 =>
      xbind (fX3_in p2.toInt64 (0 : Int64) v44.toInt64) fun v48 =>
      if v48 = 0 then (
        fX3_survey_p72 a0 p0 p1 p2 v18
      ) else (
        xbind (xsel (some a0) [(39, fun z => fX3_totalOf z p0)]) fun v59 =>
        if (v59 - v18) < (p1 - p2) then (
          fX3_survey_p72 a0 p0 p1 p2 v18
        ) else (
          fX3_survey_p73 a0 p0 p1 p2 v18 (1 : Int32)
        )
      )
    )
  ) else (
    xpure (0 : Int64)
  )
def fX3_isAhead_p2 : Nat → Nat → Int32 → Int32 → xM (Int32)
  | 0, _, _, _ => xstuck
  | n + 1, l0, l1, l2 =>
    if (4 : Int32) ≤ l2 then (
      xpure (1 : Int32)
    ) else (
      xbind (xgR 39 1 (some l0)) fun v8 =>
      xbind (xldI 1 v8 (((4 : Int32) + ((5 : Int32) * l1)) + l2)) fun v18 =>
      xbind (xgR 39 22 (some l0)) fun v20 =>
      xbind (xldI 1 v20 l2) fun v24 =>
      if v18 = v24 then (
        xlet (l2 + (1 : Int32)) fun x2_55 =>
        fX3_isAhead_p2 n l0 l1 x2_55
      ) else (
        xbind (xgR 39 1 (some l0)) fun v29 =>
        xbind (xldI 1 v29 (((4 : Int32) + ((5 : Int32) * l1)) + l2)) fun v39 =>
        xbind (xgR 39 22 (some l0)) fun v41 =>
        xbind (xldI 1 v41 l2) fun v45 =>
        if v45 ≤ v39 then (
          xpure (0 : Int32)
        ) else (
          xpure (1 : Int32)
        )
      )
    )
def fX3_isAhead (a0 : Nat) (p0 : Int32) : xM (Int32) :=
  xlet (0 : Int32) fun x2_1 =>
  fX3_isAhead_p2 xFU a0 p0 x2_1
def fX3_plan_p250 : Nat → Nat → Int32 → Int32 → xM (Int32)
  | 0, _, _, _ => xstuck
  | n + 1, l0, l7, l8 =>
    if (5 : Int32) ≤ l8 then (
      xbind (xgR 39 1 (some l0)) fun v284 =>
      xbind (xldI 1 v284 (3 : Int32)) fun v289 =>
      xbind (xstI 1 v284 (3 : Int32) (v289 + (1 : Int32))) fun _ =>
      xpure l7
    ) else (
      xbind (xgR 39 1 (some l0)) fun v257 =>
      xbind (xgR 39 22 (some l0)) fun v270 =>
      xbind (xldI 1 v270 l8) fun v275 =>
      xbind (xstI 1 v257 (((4 : Int32) + ((5 : Int32) * l7)) + l8) v275) fun _ =>
      xlet (l8 + (1 : Int32)) fun x8_277 =>
      fX3_plan_p250 n l0 l7 x8_277
    )
def fX3_plan_p214 : Nat → Nat → Int32 → Int32 → xM (Int32)
  | 0, _, _, _ => xstuck
  | n + 1, l0, l7, l8 =>
    if l8 < ((4 : Int32) + ((5 : Int32) * l7)) then (
      xlet (0 : Int32) fun x8_248 =>
      fX3_plan_p250 xFU l0 l7 x8_248
    ) else (
      xbind (xgR 39 1 (some l0)) fun v226 =>
      xbind (xgR 39 1 (some l0)) fun v234 =>
      xbind (xldI 1 v234 l8) fun v239 =>
      xbind (xstI 1 v226 (l8 + (5 : Int32)) v239) fun _ =>
      xlet (l8 + (-1 : Int32)) fun x8_241 =>
      fX3_plan_p214 n l0 l7 x8_241
    )
def fX3_plan_p200 (l0 : Nat) (l7 : Int32) : xM (Int32) :=
  xbind (xgR 39 1 (some l0)) fun v203 =>
  xbind (xldI 1 v203 (3 : Int32)) fun v207 =>
  xlet (((4 : Int32) + ((5 : Int32) * v207)) - (1 : Int32)) fun x8_212 =>
  fX3_plan_p214 xFU l0 l7 x8_212
def fX3_plan_p174 : Nat → Nat → Int32 → xM (Int32)
  | 0, _, _ => xstuck
  | n + 1, l0, l7 =>
    xbind (xgR 39 1 (some l0)) fun v177 =>
    xbind (xldI 1 v177 (3 : Int32)) fun v181 =>
    if v181 ≤ l7 then (
      fX3_plan_p200 l0 l7
    ) else (
      xbind (xsel (some l0) [(39, fun z => fX3_isAhead z l7)]) fun v188 =>
      if v188 = 0 then (
        fX3_plan_p200 l0 l7
      ) else (
        xlet (l7 + (1 : Int32)) fun x7_194 =>
        fX3_plan_p174 n l0 x7_194
      )
    )
def fX3_plan_p121 (l0 : Nat) (l1 : Int32) (l2 : Int32) (l3 : Int32) (l4 : Int32) (l5 : Int32) (s0 : Int32) (s1 : Nat) : xM (Int32) :=
  xbind (xsel (some s1) [(39, fun z => fX3_throwsIf z s0 (3 : Int32))]) fun v122 =>
  if v122 = 0 then (
    xbind (xsel (some l0) [(39, fun z => fX3_keeps z)]) fun _ =>
    xbind (xgR 39 22 (some l0)) fun v135 =>
    xbind (xstI 1 v135 (0 : Int32) l1) fun _ =>
    xbind (xgR 39 22 (some l0)) fun v142 =>
    xbind (xstI 1 v142 (1 : Int32) l2) fun _ =>
    xbind (xgR 39 22 (some l0)) fun v149 =>
    xbind (xstI 1 v149 (2 : Int32) l3) fun _ =>
    xbind (xgR 39 22 (some l0)) fun v156 =>
    xbind (xstI 1 v156 (3 : Int32) l4) fun _ =>
    xbind (xgR 39 22 (some l0)) fun v164 =>
    xbind (xstI 1 v164 (4 : Int32) l5) fun _ =>
    xlet (0 : Int32) fun x7_172 =>
    fX3_plan_p174 xFU l0 x7_172
  ) else (
    xpure (0 : Int32)
  )
def fX3_plan_p97 (l0 : Nat) (l1 : Int32) (l2 : Int32) (l3 : Int32) (l4 : Int32) (l5 : Int32) (s0 : Int32) (s1 : Nat) : xM (Int32) :=
  xbind (xsel (some s1) [(39, fun z => fX3_throwsIf z s0 (2 : Int32))]) fun v98 =>
  if v98 = 0 then (
    xbind (xgR 39 1 (some l0)) fun v106 =>
    xbind (xldI 1 v106 (3 : Int32)) fun v110 =>
    if v110 = (12 : Int32) then (
      fX3_plan_p121 l0 l1 l2 l3 l4 l5 (1 : Int32) l0
    ) else (
      fX3_plan_p121 l0 l1 l2 l3 l4 l5 (0 : Int32) l0
    )
  ) else (
    xpure (0 : Int32)
  )
def fX3_plan_p74 (l0 : Nat) (l1 : Int32) (l2 : Int32) (l3 : Int32) (l4 : Int32) (l5 : Int32) (s0 : Int32) : xM (Int32) :=
  xbind (xsel (some l0) [(39, fun z => fX3_noAge z l3 l4)]) fun v80 =>
  if v80 = 0 then (
    if s0 = 0 then (
      fX3_plan_p97 l0 l1 l2 l3 l4 l5 (1 : Int32) l0
    ) else (
      fX3_plan_p97 l0 l1 l2 l3 l4 l5 (0 : Int32) l0
    )
  ) else (
    xpure (0 : Int32)
  )
def fX3_plan_p69 (l0 : Nat) (l1 : Int32) (l2 : Int32) (l3 : Int32) (l4 : Int32) (l5 : Int32) : xM (Int32) :=
  fX3_plan_p74 l0 l1 l2 l3 l4 l5 (1 : Int32)
def fX3_plan_p73 (l0 : Nat) (l1 : Int32) (l2 : Int32) (l3 : Int32) (l4 : Int32) (l5 : Int32) : xM (Int32) :=
  fX3_plan_p74 l0 l1 l2 l3 l4 l5 (0 : Int32)
def fX3_plan (a0 : Nat) (p0 : Int32) (p1 : Int32) (p2 : Int32) (p3 : Int32) (p4 : Int32) : xM (Int32) :=
  xbind (xput 39 0 (some a0) (.int (0 : Int32))) fun _ =>
  xbind (xgR 39 1 (some a0)) fun v8 =>
  xbind (xldI 1 v8 (1 : Int32)) fun v12 =>
  xbind (fX3_in p0.toInt64 v12.toInt64 (9999 : Int64)) fun v17 =>
  if v17 = 0 then (
    fX3_plan_p73 a0 p0 p1 p2 p3 p4
  ) else (
    xbind (fX3_in p1.toInt64 (0 : Int64) (2 : Int64)) fun v29 =>
    if v29 = 0 then (
      fX3_plan_p73 a0 p0 p1 p2 p3 p4
    ) else (
      if p1 = (2 : Int32) then (
        xbind (fX3_in p4.toInt64 (0 : Int64) (1000 : Int64)) fun v47 =>
        if v47 = 0 then (
          fX3_plan_p73 a0 p0 p1 p2 p3 p4
        ) else (
          fX3_plan_p69 a0 p0 p1 p2 p3 p4
        )
      ) else (
        xbind (fX3_in p4.toInt64 (1 : Int64) (1000000 : Int64)) fun v63 =>
        if v63 = 0 then (
          fX3_plan_p73 a0 p0 p1 p2 p3 p4
        ) else (
          fX3_plan_p69 a0 p0 p1 p2 p3 p4
        )
      )
    )
  )
def fX3_cancel_p29 (l0 : Nat) (l1 : Int32) (s0 : Int32) (s1 : Nat) : xM (Int32) :=
  xbind (xsel (some s1) [(39, fun z => fX3_throwsIf z s0 (1 : Int32))]) fun v30 =>
  if v30 = 0 then (
    xbind (xsel (some l0) [(39, fun z => fX3_keeps z)]) fun _ =>
    xbind (xsel (some l0) [(39, fun z => fX3_removesPlan z l1)]) fun _ =>
    xbind (xgR 39 1 (some l0)) fun v48 =>
    xbind (xldI 1 v48 (3 : Int32)) fun v52 =>
    xpure v52
  ) else (
    xpure (0 : Int32)
  )
def fX3_cancel (a0 : Nat) (p0 : Int32) : xM (Int32) :=
  xbind (xput 39 0 (some a0) (.int (0 : Int32))) fun _ =>
  xbind (xgR 39 1 (some a0)) fun v10 =>
  xbind (xldI 1 v10 (3 : Int32)) fun v14 =>
  xbind (fX3_in p0.toInt64 (0 : Int64) ((v14 - (1 : Int32)).toInt64)) fun v18 =>
  if v18 = 0 then (
    fX3_cancel_p29 a0 p0 (1 : Int32) a0
  ) else (
    fX3_cancel_p29 a0 p0 (0 : Int32) a0
  )
def fX3_setSurvival_p32 (l0 : Nat) (l1 : Int32) (l2 : Int32) (l3 : Int32) (s0 : Int32) (s1 : Nat) : xM (Int32) :=
  xbind (xsel (some s1) [(39, fun z => fX3_throwsIf z s0 (2 : Int32))]) fun v33 =>
  if v33 = 0 then (
    xbind (xsel (some l0) [(39, fun z => fX3_keeps z)]) fun _ =>
    xbind (xsel (some l0) [(39, fun z => fX3_of z l1 ((13 : Int32) + l2))]) fun v51 =>
    xbind (xgR 39 1 (some l0)) fun v57 =>
    xbind (fX3_at l1 ((13 : Int32) + l2)) fun v65 =>
    xbind (xstI 1 v57 v65 l3) fun _ =>
    xpure v51
  ) else (
    xpure (0 : Int32)
  )
def fX3_setSurvival (a0 : Nat) (p0 : Int32) (p1 : Int32) (p2 : Int32) : xM (Int32) :=
  xbind (xput 39 0 (some a0) (.int (0 : Int32))) fun _ =>
  xbind (xsel (some a0) [(39, fun z => fX3_noAge z p0 p1)]) fun v8 =>
  if v8 = 0 then (
    xbind (fX3_in p2.toInt64 (0 : Int64) (1000 : Int64)) fun v21 =>
    if v21 = 0 then (
      fX3_setSurvival_p32 a0 p0 p1 p2 (1 : Int32) a0
    ) else (
      fX3_setSurvival_p32 a0 p0 p1 p2 (0 : Int32) a0
    )
  ) else (
    xpure (0 : Int32)
  )
def fX3_setRoom_p31 (l0 : Nat) (l1 : Int32) (l2 : Int32) (s0 : Int32) (s1 : Nat) : xM (Int32) :=
  xbind (xsel (some s1) [(39, fun z => fX3_throwsIf z s0 (2 : Int32))]) fun v32 =>
  if v32 = 0 then (
    xbind (xsel (some l0) [(39, fun z => fX3_keeps z)]) fun _ =>
    xbind (xsel (some l0) [(39, fun z => fX3_of z l1 (3 : Int32))]) fun v47 =>
    xbind (xgR 39 1 (some l0)) fun v52 =>
    xbind (fX3_at l1 (3 : Int32)) fun v57 =>
    xbind (xstI 1 v52 v57 l2) fun _ =>
    xpure v47
  ) else (
    xpure (0 : Int32)
  )
def fX3_setRoom (a0 : Nat) (p0 : Int32) (p1 : Int32) : xM (Int32) :=
  xbind (xput 39 0 (some a0) (.int (0 : Int32))) fun _ =>
  xbind (xsel (some a0) [(39, fun z => fX3_noSpecies z p0)]) fun v7 =>
  if v7 = 0 then (
    xbind (fX3_in p1.toInt64 (0 : Int64) (99999 : Int64)) fun v20 =>
    if v20 = 0 then (
      fX3_setRoom_p31 a0 p0 p1 (1 : Int32) a0
    ) else (
      fX3_setRoom_p31 a0 p0 p1 (0 : Int32) a0
    )
  ) else (
    xpure (0 : Int32)
  )
def fX3_says (a0 : Nat) (p0 : Int32) : xM (Unit) :=
  xbind (xgR 39 23 (some a0)) fun v1 =>
  xbind (xgI 39 24 (some a0)) fun v5 =>
  xbind (xstI 0 v1 v5 p0.toInt8.toInt32.toInt8.toInt32) fun _ =>
  xbind (xgI 39 24 (some a0)) fun v13 =>
  xbind (xput 39 24 (some a0) (.int (v13 + (1 : Int32)))) fun _ =>
  xpure ()
def fX3_saysNumber_p14 (S : Nat → Int32 → xM (Unit)) (l0 : Nat) (l1 : Int32) : xM (Unit) :=
  xdv (10 : Int32) <|
  xbind (xsel (some l0) [(39, fun z => fX3_says z ((48 : Int32) + (l1 - l1 / (10 : Int32) * (10 : Int32))))]) fun _ =>
  xpure ()
def fX3_saysNumber_b (S : Nat → Int32 → xM (Unit)) (a0 : Nat) (p0 : Int32) : xM (Unit) :=
  if p0 ≤ (9 : Int32) then (
    fX3_saysNumber_p14 S a0 p0
  ) else (
    xdv (10 : Int32) <|
    xbind (xsel (some a0) [(39, fun z => S z (p0 / (10 : Int32)))]) fun _ =>
    fX3_saysNumber_p14 S a0 p0
  )
def fX3_saysNumber : Nat → Nat → Int32 → xM (Unit)
  | 0, _, _ => xstuck
  | d + 1, a0, p0 => fX3_saysNumber_b (fX3_saysNumber d) a0 p0
def fX3_saysName_p16 (S : Nat → Int32 → xM (Unit)) (l0 : Nat) (l1 : Int32) : xM (Unit) :=
  xdv (27 : Int32) <|
  xbind (xsel (some l0) [(39, fun z => fX3_says z ((97 : Int32) + ((l1 - (1 : Int32)) - (l1 - (1 : Int32)) / (27 : Int32) * (27 : Int32))))]) fun _ =>
  xpure ()
def fX3_saysName_b (S : Nat → Int32 → xM (Unit)) (a0 : Nat) (p0 : Int32) : xM (Unit) :=
  if p0 ≤ (26 : Int32) then (
    fX3_saysName_p16 S a0 p0
  ) else (
    xdv (27 : Int32) <|
    xbind (xsel (some a0) [(39, fun z => S z ((p0 - (1 : Int32)) / (27 : Int32)))]) fun _ =>
    fX3_saysName_p16 S a0 p0
  )
def fX3_saysName : Nat → Nat → Int32 → xM (Unit)
  | 0, _, _ => xstuck
  | d + 1, a0, p0 => fX3_saysName_b (fX3_saysName d) a0 p0
def fX3_formatSpecies_p38 : Nat → Nat → Int32 → Int32 → xM (Int32)
  | 0, _, _, _ => xstuck
  | n + 1, l0, l1, l2 =>
    xbind (xsel (some l0) [(39, fun z => fX3_oldest z l1)]) fun v41 =>
    if v41 < l2 then (
      xbind (xsel (some l0) [(39, fun z => fX3_says z (32 : Int32))]) fun _ =>
      xbind (xsel (some l0) [(39, fun z => fX3_says z (61 : Int32))]) fun _ =>
      xbind (xsel (some l0) [(39, fun z => fX3_totalOf z l1)]) fun v84 =>
      xbind (xsel (some l0) [(39, fun z => fX3_saysNumber 16 z v84)]) fun _ =>
      xbind (xsel (some l0) [(39, fun z => fX3_of z l1 (4 : Int32))]) fun v93 =>
      if v93 = 0 then (
        xbind (xgI 39 24 (some l0)) fun v100 =>
        xpure v100
      ) else (
        xbind (xsel (some l0) [(39, fun z => fX3_says z (32 : Int32))]) fun _ =>
        xbind (xsel (some l0) [(39, fun z => fX3_says z (42 : Int32))]) fun _ =>
        xbind (xsel (some l0) [(39, fun z => fX3_of z l1 (4 : Int32))]) fun v120 =>
        xbind (xsel (some l0) [(39, fun z => fX3_saysNumber 16 z v120)]) fun _ =>
        xbind (xgI 39 24 (some l0)) fun v127 =>
        xpure v127
      )
    ) else (
      xbind (xsel (some l0) [(39, fun z => fX3_says z (32 : Int32))]) fun _ =>
      xbind (xsel (some l0) [(39, fun z => fX3_cohortOf z l1 l2)]) fun v57 =>
      xbind (xsel (some l0) [(39, fun z => fX3_saysNumber 16 z v57)]) fun _ =>
      xlet (l2 + (1 : Int32)) fun x2_63 =>
      fX3_formatSpecies_p38 n l0 l1 x2_63
    )
def fX3_formatSpecies (a0 : Nat) (p0 : Int32) : xM (Int32) :=
  xbind (xput 39 0 (some a0) (.int (0 : Int32))) fun _ =>
  xbind (xsel (some a0) [(39, fun z => fX3_noSpecies z p0)]) fun v7 =>
  if v7 = 0 then (
    xbind (xput 39 24 (some a0) (.int (0 : Int32))) fun _ =>
    xbind (xsel (some a0) [(39, fun z => fX3_of z p0 (0 : Int32))]) fun v24 =>
    xbind (xsel (some a0) [(39, fun z => fX3_saysName 16 z v24)]) fun _ =>
    xbind (xsel (some a0) [(39, fun z => fX3_says z (58 : Int32))]) fun _ =>
    xlet (0 : Int32) fun x2_37 =>
    fX3_formatSpecies_p38 xFU a0 p0 x2_37
  ) else (
    xpure (0 : Int32)
  )
def fX3_saysPart (a0 : Nat) (p0 : Int32) (p1 : Int32) (p2 : Int32) (p3 : Int32) : xM (Unit) :=
  xbind (xsel (some a0) [(39, fun z => fX3_says z p0)]) fun _ =>
  xbind (xsel (some a0) [(39, fun z => fX3_ledgerPart z p1 p2 p3)]) fun v11 =>
  xbind (xsel (some a0) [(39, fun z => fX3_saysNumber 16 z v11)]) fun _ =>
  xpure ()
def fX3_formatLedger_p27 (l0 : Nat) (l1 : Int32) (l2 : Int32) (s0 : Int32) (s1 : Nat) : xM (Int32) :=
  xbind (xsel (some s1) [(39, fun z => fX3_throwsIf z s0 (2 : Int32))]) fun v28 =>
  if v28 = 0 then (
    xbind (xsel (some l0) [(39, fun z => fX3_firstYear z)]) fun v38 =>
    xlet (l2 - v38) fun x3_42 =>
    xbind (xput 39 24 (some l0) (.int (0 : Int32))) fun _ =>
    xbind (xsel (some l0) [(39, fun z => fX3_saysNumber 16 z l2)]) fun _ =>
    xbind (xsel (some l0) [(39, fun z => fX3_says z (58 : Int32))]) fun _ =>
    xbind (xsel (some l0) [(39, fun z => fX3_saysPart z (32 : Int32) l1 x3_42 (0 : Int32))]) fun _ =>
    xbind (xsel (some l0) [(39, fun z => fX3_saysPart z (43 : Int32) l1 x3_42 (1 : Int32))]) fun _ =>
    xbind (xsel (some l0) [(39, fun z => fX3_saysPart z (43 : Int32) l1 x3_42 (4 : Int32))]) fun _ =>
    xbind (xsel (some l0) [(39, fun z => fX3_saysPart z (45 : Int32) l1 x3_42 (2 : Int32))]) fun _ =>
    xbind (xsel (some l0) [(39, fun z => fX3_saysPart z (45 : Int32) l1 x3_42 (3 : Int32))]) fun _ =>
    xbind (xsel (some l0) [(39, fun z => fX3_saysPart z (61 : Int32) l1 x3_42 (5 : Int32))]) fun _ =>
    xbind (xgI 39 24 (some l0)) fun v114 =>
    xpure v114
  ) else (
    xpure (0 : Int32)
  )
def fX3_formatLedger (a0 : Nat) (p0 : Int32) (p1 : Int32) : xM (Int32) :=
  xbind (xput 39 0 (some a0) (.int (0 : Int32))) fun _ =>
  xbind (xsel (some a0) [(39, fun z => fX3_noSpecies z p0)]) fun v7 =>
  if v7 = 0 then (
    xbind (xsel (some a0) [(39, fun z => fX3_isYear z p1)]) fun v16 =>
    if v16 = 0 then (
      fX3_formatLedger_p27 a0 p0 p1 (1 : Int32) a0
    ) else (
      fX3_formatLedger_p27 a0 p0 p1 (0 : Int32) a0
    )
  ) else (
    xpure (0 : Int32)
  )
def fX3_formattedByte (a0 : Nat) (p0 : Int32) : xM (Int32) :=
  xbind (xput 39 0 (some a0) (.int (0 : Int32))) fun _ =>
  xbind (xgI 39 24 (some a0)) fun v9 =>
  xbind (fX3_in p0.toInt64 (0 : Int64) ((v9 - (1 : Int32)).toInt64)) fun v15 =>
  if v15 = 0 then (
    xpure (-1 : Int32)
  ) else (
    xbind (xgR 39 23 (some a0)) fun v22 =>
    xbind (xldI 0 v22 p0) fun v26 =>
    xpure v26
  )
