/-! part 501a: the computations are local, printed by gen/local.py -/
set_option maxRecDepth 100000
theorem xl_fJ12_min_2 (p0 : Int64) (p1 : Int64) : xL (fJ12_min_2 p0 p1) := by
  unfold fJ12_min_2
  with_reducible repeat' (first | intro _ | apply xL_ite | apply xL_pure)
theorem xl_fJ12_max_2 (p0 : Int64) (p1 : Int64) : xL (fJ12_max_2 p0 p1) := by
  unfold fJ12_max_2
  with_reducible repeat' (first | intro _ | apply xL_ite | apply xL_pure)
theorem xl_fJ9_coder (a0 : Nat) : xL (fJ9_coder a0) := by
  unfold fJ9_coder
  with_reducible repeat' (first | intro _ | apply xL_bind | apply xL_ite | apply xL_pure | apply xL_gI | apply xL_retN)
theorem xl_fJ9_length (a0 : Nat) : xL (fJ9_length a0) := by
  unfold fJ9_length
  with_reducible repeat' (first | intro _ | apply xL_bind | apply xL_pure | apply xL_gR | apply xL_len | apply xL_sel | apply xLs_cons | exact xLs_nil | apply xl_fJ9_coder)
theorem xl_fJ9_isLatin1 (a0 : Nat) : xL (fJ9_isLatin1 a0) := by
  unfold fJ9_isLatin1
  with_reducible repeat' (first | intro _ | apply xL_bind | apply xL_ite | apply xL_pure | apply xL_gI)
theorem xl_fJ14_checkIndex_p9 (l0 : Int32) (l1 : Int32) (l2 : Option Nat) : xL (fJ14_checkIndex_p9 l0 l1 l2) := by
  unfold fJ14_checkIndex_p9
  with_reducible repeat' (first | intro _ | apply xL_stuck)
theorem xl_fJ14_checkIndex (p0 : Int32) (p1 : Int32) (p2 : Option Nat) : xL (fJ14_checkIndex p0 p1 p2) := by
  unfold fJ14_checkIndex
  with_reducible repeat' (first | intro _ | apply xL_ite | apply xL_pure | apply xl_fJ14_checkIndex_p9)
theorem xl_fJ9_checkIndex (p0 : Int32) (p1 : Int32) : xL (fJ9_checkIndex p0 p1) := by
  unfold fJ9_checkIndex
  with_reducible repeat' (first | intro _ | apply xL_bind | apply xL_pure | apply xL_con | apply xl_fJ14_checkIndex)
theorem xl_fJ15_charAt (p0 : Option Nat) (p1 : Int32) : xL (fJ15_charAt p0 p1) := by
  unfold fJ15_charAt
  with_reducible repeat' (first | intro _ | apply xL_bind | apply xL_ldI | apply xL_len | apply xL_retN | apply xl_fJ9_checkIndex)
theorem xl_fJ9_charAt (a0 : Nat) (p0 : Int32) : xL (fJ9_charAt a0 p0) := by
  unfold fJ9_charAt
  with_reducible repeat' (first | intro _ | apply xL_bind | apply xL_ite | apply xL_gR | apply xL_stuck | apply xL_retN | apply xL_sel | apply xLs_cons | exact xLs_nil | apply xl_fJ9_isLatin1 | apply xl_fJ15_charAt)
theorem xl_fJ12_max (p0 : Int32) (p1 : Int32) : xL (fJ12_max p0 p1) := by
  unfold fJ12_max
  with_reducible repeat' (first | intro _ | apply xL_ite | apply xL_pure)
theorem xl_fJ12_min (p0 : Int32) (p1 : Int32) : xL (fJ12_min p0 p1) := by
  unfold fJ12_min
  with_reducible repeat' (first | intro _ | apply xL_ite | apply xL_pure)
theorem xl_fJ0_init__J2 (a0 : Nat) : xL (fJ0_init__J2 a0) := by
  unfold fJ0_init__J2
  with_reducible repeat' (first | intro _ | apply xL_pure)
theorem xl_fJ1_init__J2 (a0 : Nat) : xL (fJ1_init__J2 a0) := by
  unfold fJ1_init__J2
  with_reducible repeat' (first | intro _ | apply xL_bind | apply xL_pure | apply xL_put | apply xl_fJ0_init__J2)
theorem xl_fJ2_init (a0 : Nat) (p0 : Int32) : xL (fJ2_init a0 p0) := by
  unfold fJ2_init
  with_reducible repeat' (first | intro _ | apply xL_bind | apply xL_ite | apply xL_pure | apply xL_put | apply xL_stuck | apply xL_con | apply xL_newA | apply xl_fJ1_init__J2)
theorem xl_fJ0_init__J19 (a0 : Nat) : xL (fJ0_init__J19 a0) := by
  unfold fJ0_init__J19
  with_reducible repeat' (first | intro _ | apply xL_pure)
theorem xl_fJ1_init__J19 (a0 : Nat) : xL (fJ1_init__J19 a0) := by
  unfold fJ1_init__J19
  with_reducible repeat' (first | intro _ | apply xL_bind | apply xL_pure | apply xL_put | apply xl_fJ0_init__J19)
theorem xl_fJ18_init__J19 (a0 : Nat) : xL (fJ18_init__J19 a0) := by
  unfold fJ18_init__J19
  with_reducible repeat' (first | intro _ | apply xL_bind | apply xL_pure | apply xl_fJ1_init__J19)
theorem xl_fJ19_init (a0 : Nat) : xL (fJ19_init a0) := by
  unfold fJ19_init
  with_reducible repeat' (first | intro _ | apply xL_bind | apply xL_pure | apply xL_put | apply xl_fJ18_init__J19)
theorem xl_fX2_init (a0 : Nat) : xL (fX2_init a0) := by
  unfold fX2_init
  with_reducible repeat' (first | intro _ | apply xL_bind | apply xL_pure | apply xL_put | apply xL_new | apply xl_fJ2_init | apply xl_fJ19_init)
theorem xl_fX4_init (a0 : Nat) (p0 : Option Nat) (p1 : Int32) : xL (fX4_init a0 p0 p1) := by
  unfold fX4_init
  with_reducible repeat' (first | intro _ | apply xL_bind | apply xL_pure | apply xL_put | apply xL_new | apply xl_fX2_init)
theorem xl_fJ20_hasNext (a0 : Nat) : xL (fJ20_hasNext a0) := by
  unfold fJ20_hasNext
  with_reducible repeat' (first | intro _ | apply xL_bind | apply xL_ite | apply xL_pure | apply xL_gR | apply xL_gI)
theorem xl_fJ20_checkForComodification (a0 : Nat) : xL (fJ20_checkForComodification a0) := by
  unfold fJ20_checkForComodification
  with_reducible repeat' (first | intro _ | apply xL_bind | apply xL_ite | apply xL_pure | apply xL_gR | apply xL_gI | apply xL_stuck)
theorem xl_fJ20_next (a0 : Nat) : xL (fJ20_next a0) := by
  unfold fJ20_next
  with_reducible repeat' (first | intro _ | apply xL_bind | apply xL_ite | apply xL_pure | apply xL_gR | apply xL_gI | apply xL_put | apply xL_stuck | apply xL_len | apply xL_ldR | apply xL_sel | apply xLs_cons | exact xLs_nil | apply xl_fJ20_checkForComodification)
theorem xl_fX10_total_p13 : ∀ n y0 y1 y2 y3, xL (fX10_total_p13 n y0 y1 y2 y3) := by
  intro n
  induction n with
  | zero => intros; rw [fX10_total_p13]; exact xL_stuck
  | succ n ih =>
    intros
    rw [fX10_total_p13]
    with_reducible repeat' (first | intro _ | apply xL_bind | apply xL_let | apply xL_ite | apply xL_pure | apply xL_stuck | apply xL_ldI | apply ih)
theorem xl_fX10_total (a0 : Nat) : xL (fX10_total a0) := by
  unfold fX10_total
  with_reducible repeat' (first | intro _ | apply xL_bind | apply xL_let | apply xL_gR | apply xL_len | apply xl_fX10_total_p13)
theorem xl_fX9_init (a0 : Nat) (p0 : Int32) : xL (fX9_init a0 p0) := by
  unfold fX9_init
  with_reducible repeat' (first | intro _ | apply xL_bind | apply xL_pure | apply xL_put)
theorem xl_fX10_adults_p10 : ∀ n y0 y1 y2, xL (fX10_adults_p10 n y0 y1 y2) := by
  intro n
  induction n with
  | zero => intros; rw [fX10_adults_p10]; exact xL_stuck
  | succ n ih =>
    intros
    rw [fX10_adults_p10]
    with_reducible repeat' (first | intro _ | apply xL_bind | apply xL_let | apply xL_ite | apply xL_pure | apply xL_gR | apply xL_gI | apply xL_stuck | apply xL_ldI | apply ih)
theorem xl_fX10_adults (a0 : Nat) : xL (fX10_adults a0) := by
  unfold fX10_adults
  with_reducible repeat' (first | intro _ | apply xL_bind | apply xL_let | apply xL_gR | apply xL_gI | apply xl_fX10_adults_p10)
theorem xl_fX6_cohort (a0 : Nat) (p0 : Int32) : xL (fX6_cohort a0 p0) := by
  unfold fX6_cohort
  with_reducible repeat' (first | intro _ | apply xL_bind | apply xL_pure | apply xL_gR | apply xL_ldI)
theorem xl_fX13_init (a0 : Nat) (p0 : Int64) (p1 : Int64) (p2 : Int64) (p3 : Int64) : xL (fX13_init a0 p0 p1 p2 p3) := by
  unfold fX13_init
  with_reducible repeat' (first | intro _ | apply xL_bind | apply xL_pure | apply xL_put)
theorem xl_fX8_value (a0 : Nat) (p0 : Option Nat) : xL (fX8_value a0 p0) := by
  unfold fX8_value
  with_reducible repeat' (first | intro _ | apply xL_bind | apply xL_pure | apply xL_gJ)
theorem xl_fX19_of (a0 : Nat) (p0 : Option Nat) : xL (fX19_of a0 p0) := by
  unfold fX19_of
  with_reducible repeat' (first | intro _ | apply xL_bind | apply xL_pure | apply xL_gJ)
theorem xl_fX20_of (a0 : Nat) (p0 : Option Nat) : xL (fX20_of a0 p0) := by
  unfold fX20_of
  with_reducible repeat' (first | intro _ | apply xL_bind | apply xL_pure | apply xL_gJ)
theorem xl_fX21_of (a0 : Nat) (p0 : Option Nat) : xL (fX21_of a0 p0) := by
  unfold fX21_of
  with_reducible repeat' (first | intro _ | apply xL_bind | apply xL_pure | apply xL_gJ)
theorem xl_fX22_of (a0 : Nat) (p0 : Option Nat) : xL (fX22_of a0 p0) := by
  unfold fX22_of
  with_reducible repeat' (first | intro _ | apply xL_bind | apply xL_pure | apply xL_gJ)
theorem xl_fX11_value (a0 : Nat) (p0 : Option Nat) : xL (fX11_value a0 p0) := by
  unfold fX11_value
  with_reducible repeat' (first | intro _ | apply xL_bind | apply xL_pure | apply xL_gR | apply xL_sel | apply xLs_cons | exact xLs_nil | apply xl_fX19_of | apply xl_fX20_of | apply xl_fX21_of | apply xl_fX22_of)
theorem xl_fX26_of (a0 : Nat) (p0 : Int64) (p1 : Int64) : xL (fX26_of a0 p0 p1) := by
  unfold fX26_of
  with_reducible repeat' (first | intro _ | apply xL_pure)
theorem xl_fX27_of (a0 : Nat) (p0 : Int64) (p1 : Int64) : xL (fX27_of a0 p0 p1) := by
  unfold fX27_of
  with_reducible repeat' (first | intro _ | apply xL_pure)
theorem xl_fX28_of (a0 : Nat) (p0 : Int64) (p1 : Int64) : xL (fX28_of a0 p0 p1) := by
  unfold fX28_of
  with_reducible repeat' (first | intro _ | apply xL_pure)
theorem xl_fJ3_init_4__X14_p41 (l0 : Nat) (l1 : Option Nat) (l2 : Option Nat) (l3 : Int32) : xL (fJ3_init_4__X14_p41 l0 l1 l2 l3) := by
  unfold fJ3_init_4__X14_p41
  with_reducible repeat' (first | intro _ | apply xL_bind | apply xL_ite | apply xL_pure | apply xL_put)
theorem xl_fJ3_init_4__X14 (a0 : Nat) (p0 : Option Nat) (p1 : Option Nat) (p2 : Int32) (p3 : Int32) : xL (fJ3_init_4__X14 a0 p0 p1 p2 p3) := by
  unfold fJ3_init_4__X14
  with_reducible repeat' (first | intro _ | apply xL_bind | apply xL_ite | apply xL_put | apply xL_stuck | apply xL_con | apply xl_fJ3_init_4__X14_p41)
theorem xl_fJ4_init_4__X14 (a0 : Nat) (p0 : Option Nat) (p1 : Option Nat) (p2 : Int32) (p3 : Int32) : xL (fJ4_init_4__X14 a0 p0 p1 p2 p3) := by
  unfold fJ4_init_4__X14
  with_reducible repeat' (first | intro _ | apply xL_bind | apply xL_pure | apply xl_fJ3_init_4__X14)
theorem xl_fX14_init (a0 : Nat) : xL (fX14_init a0) := by
  unfold fX14_init
  with_reducible repeat' (first | intro _ | apply xL_bind | apply xL_pure | apply xl_fJ4_init_4__X14)
theorem xl_fX29_of (a0 : Nat) (p0 : Int64) (p1 : Int64) : xL (fX29_of a0 p0 p1) := by
  unfold fX29_of
  with_reducible repeat' (first | intro _ | apply xL_bind | apply xL_ite | apply xL_pure | apply xL_new | apply xL_throw | apply xL_dvJ | apply xl_fX14_init)
theorem xl_fX30_of (a0 : Nat) (p0 : Int64) (p1 : Int64) : xL (fX30_of a0 p0 p1) := by
  unfold fX30_of
  with_reducible repeat' (first | intro _ | apply xL_bind | apply xL_pure | apply xl_fJ12_min_2)
theorem xl_fX31_of (a0 : Nat) (p0 : Int64) (p1 : Int64) : xL (fX31_of a0 p0 p1) := by
  unfold fX31_of
  with_reducible repeat' (first | intro _ | apply xL_bind | apply xL_pure | apply xl_fJ12_max_2)
theorem xl_fX12_value_b (S : Nat → Option Nat → xM (Int64)) (a0 : Nat) (p0 : Option Nat) (h_S : ∀ y0 y1, xL (S y0 y1)) : xL (fX12_value_b S a0 p0) := by
  unfold fX12_value_b
  with_reducible repeat' (first | intro _ | apply xL_bind | apply xL_pure | apply xL_gR | apply xL_sel | apply xLs_cons | exact xLs_nil | apply h_S | apply xl_fX8_value | apply xl_fX11_value | apply xl_fX26_of | apply xl_fX27_of | apply xl_fX28_of | apply xl_fX29_of | apply xl_fX30_of | apply xl_fX31_of | apply xl_fJ12_min_2 | apply xl_fJ12_max_2)
theorem xl_fX12_value : ∀ n y0 y1, xL (fX12_value n y0 y1) := by
  intro n
  induction n with
  | zero => intros; rw [fX12_value]; exact xL_stuck
  | succ n ih =>
    intros
    rw [fX12_value]
    with_reducible repeat' (first | intro _ | apply xL_stuck | apply xl_fX12_value_b | apply ih)
theorem xl_fJ3_init_4__X15_p41 (l0 : Nat) (l1 : Option Nat) (l2 : Option Nat) (l3 : Int32) : xL (fJ3_init_4__X15_p41 l0 l1 l2 l3) := by
  unfold fJ3_init_4__X15_p41
  with_reducible repeat' (first | intro _ | apply xL_bind | apply xL_ite | apply xL_pure | apply xL_put)
theorem xl_fJ3_init_4__X15 (a0 : Nat) (p0 : Option Nat) (p1 : Option Nat) (p2 : Int32) (p3 : Int32) : xL (fJ3_init_4__X15 a0 p0 p1 p2 p3) := by
  unfold fJ3_init_4__X15
  with_reducible repeat' (first | intro _ | apply xL_bind | apply xL_ite | apply xL_put | apply xL_stuck | apply xL_con | apply xl_fJ3_init_4__X15_p41)
theorem xl_fJ4_init_4__X15 (a0 : Nat) (p0 : Option Nat) (p1 : Option Nat) (p2 : Int32) (p3 : Int32) : xL (fJ4_init_4__X15 a0 p0 p1 p2 p3) := by
  unfold fJ4_init_4__X15
  with_reducible repeat' (first | intro _ | apply xL_bind | apply xL_pure | apply xl_fJ3_init_4__X15)
theorem xl_fX15_init (a0 : Nat) (p0 : Option Nat) : xL (fX15_init a0 p0) := by
  unfold fX15_init
  with_reducible repeat' (first | intro _ | apply xL_bind | apply xL_pure | apply xl_fJ4_init_4__X15)
theorem xl_fX6_quotaBy (a0 : Nat) (p0 : Option Nat) : xL (fX6_quotaBy a0 p0) := by
  unfold fX6_quotaBy
  with_reducible repeat' (first | intro _ | apply xL_bind | apply xL_pure | apply xL_gR | apply xL_new | apply xL_throw | apply xL_try | apply xL_sel | apply xLs_cons | exact xLs_nil | apply xl_fX8_value | apply xl_fX11_value | apply xl_fX12_value | apply xl_fX15_init)
theorem xl_fX6_begin (a0 : Nat) (p0 : Int32) : xL (fX6_begin a0 p0) := by
  unfold fX6_begin
  with_reducible repeat' (first | intro _ | apply xL_bind | apply xL_ite | apply xL_pure | apply xL_gR | apply xL_put | apply xL_stuck | apply xL_new | apply xL_pN | apply xL_ins | apply xL_gcause | apply xL_try | apply xL_sel | apply xLs_cons | exact xLs_nil | apply xl_fX10_total | apply xl_fX9_init | apply xl_fX10_adults | apply xl_fX6_cohort | apply xl_fX13_init | apply xl_fX6_quotaBy | apply xl_fJ12_min_2 | apply xl_fJ12_max_2)
theorem xl_fX4_byteAt (a0 : Nat) (p0 : Int32) : xL (fX4_byteAt a0 p0) := by
  unfold fX4_byteAt
  with_reducible repeat' (first | intro _ | apply xL_bind | apply xL_ite | apply xL_pure | apply xL_gR | apply xL_gI | apply xL_ldI)
theorem xl_fX4_peek_p39 (k0 : Nat → xM (Int32)) (l0 : Nat) (h_k0 : ∀ y0, xL (k0 y0)) : xL (fX4_peek_p39 k0 l0) := by
  unfold fX4_peek_p39
  with_reducible repeat' (first | intro _ | apply xL_bind | apply xL_gI | apply xL_put | apply h_k0)
theorem xl_fX4_peek_p0 : ∀ n y0, xL (fX4_peek_p0 n y0) := by
  intro n
  induction n with
  | zero => intros; rw [fX4_peek_p0]; exact xL_stuck
  | succ n ih =>
    intros
    rw [fX4_peek_p0]
    with_reducible repeat' (first | intro _ | apply xL_bind | apply xL_ite | apply xL_pure | apply xL_gI | apply xL_stuck | apply xL_sel | apply xLs_cons | exact xLs_nil | apply xl_fX4_byteAt | apply xl_fX4_peek_p39 | apply ih)
theorem xl_fX4_peek (a0 : Nat) : xL (fX4_peek a0) := by
  unfold fX4_peek
  with_reducible repeat' (first | intro _ | apply xl_fX4_peek_p0)
theorem xl_fJ20_init (a0 : Nat) (p0 : Option Nat) : xL (fJ20_init a0 p0) := by
  unfold fJ20_init
  with_reducible repeat' (first | intro _ | apply xL_bind | apply xL_pure | apply xL_gR | apply xL_gI | apply xL_put)
theorem xl_fJ2_iterator (a0 : Nat) : xL (fJ2_iterator a0) := by
  unfold fJ2_iterator
  with_reducible repeat' (first | intro _ | apply xL_bind | apply xL_pure | apply xL_new | apply xl_fJ20_init)
theorem xl_fJ3_init_4__X5_p41 (l0 : Nat) (l1 : Option Nat) (l2 : Option Nat) (l3 : Int32) : xL (fJ3_init_4__X5_p41 l0 l1 l2 l3) := by
  unfold fJ3_init_4__X5_p41
  with_reducible repeat' (first | intro _ | apply xL_bind | apply xL_ite | apply xL_pure | apply xL_put)
theorem xl_fJ3_init_4__X5 (a0 : Nat) (p0 : Option Nat) (p1 : Option Nat) (p2 : Int32) (p3 : Int32) : xL (fJ3_init_4__X5 a0 p0 p1 p2 p3) := by
  unfold fJ3_init_4__X5
  with_reducible repeat' (first | intro _ | apply xL_bind | apply xL_ite | apply xL_put | apply xL_stuck | apply xL_con | apply xl_fJ3_init_4__X5_p41)
theorem xl_fJ4_init_4__X5 (a0 : Nat) (p0 : Option Nat) (p1 : Option Nat) (p2 : Int32) (p3 : Int32) : xL (fJ4_init_4__X5 a0 p0 p1 p2 p3) := by
  unfold fJ4_init_4__X5
  with_reducible repeat' (first | intro _ | apply xL_bind | apply xL_pure | apply xl_fJ3_init_4__X5)
theorem xl_fX5_init (a0 : Nat) (p0 : Int32) (p1 : Int32) : xL (fX5_init a0 p0 p1) := by
  unfold fX5_init
  with_reducible repeat' (first | intro _ | apply xL_bind | apply xL_pure | apply xL_put | apply xl_fJ4_init_4__X5)
theorem xl_fX4_require (a0 : Nat) (p0 : Int32) (p1 : Int32) (p2 : Int32) : xL (fX4_require a0 p0 p1 p2) := by
  unfold fX4_require
  with_reducible repeat' (first | intro _ | apply xL_bind | apply xL_ite | apply xL_pure | apply xL_new | apply xL_throw | apply xl_fX5_init)
theorem xl_fX1_inRange (p0 : Int32) (p1 : Int32) (p2 : Int32) : xL (fX1_inRange p0 p1 p2) := by
  unfold fX1_inRange
  with_reducible repeat' (first | intro _ | apply xL_ite | apply xL_pure)
theorem xl_fX4_isDigit (a0 : Nat) (p0 : Int32) : xL (fX4_isDigit a0 p0) := by
  unfold fX4_isDigit
  with_reducible repeat' (first | intro _ | apply xL_bind | apply xL_retN | apply xl_fX1_inRange)
theorem xl_fX4_number_p72 (k28 : Nat → Int32 → Int32 → Int32 → Int32 → Int32 → xM (Int32)) (l0 : Nat) (l1 : Int32) (l2 : Int32) (l3 : Int32) (l5 : Int32) (s0 : Int32) (h_k28 : ∀ y0 y1 y2 y3 y4 y5, xL (k28 y0 y1 y2 y3 y4 y5)) : xL (fX4_number_p72 k28 l0 l1 l2 l3 l5 s0) := by
  unfold fX4_number_p72
  with_reducible repeat' (first | intro _ | apply xL_bind | apply xL_let | apply xL_gI | apply xL_put | apply h_k28)
theorem xl_fX4_number_p113 (l3 : Int32) (l4 : Int32) (s0 : Int32) (s1 : Nat) : xL (fX4_number_p113 l3 l4 s0 s1) := by
  unfold fX4_number_p113
  with_reducible repeat' (first | intro _ | apply xL_bind | apply xL_pure | apply xL_sel | apply xLs_cons | exact xLs_nil | apply xl_fX4_require)
theorem xl_fX4_number_p112 (l3 : Int32) (l4 : Int32) (s0 : Nat) : xL (fX4_number_p112 l3 l4 s0) := by
  unfold fX4_number_p112
  with_reducible repeat' (first | intro _ | apply xl_fX4_number_p113)
theorem xl_fX4_number_p28 : ∀ n y0 y1 y2 y3 y4 y5, xL (fX4_number_p28 n y0 y1 y2 y3 y4 y5) := by
  intro n
  induction n with
  | zero => intros; rw [fX4_number_p28]; exact xL_stuck
  | succ n ih =>
    intros
    rw [fX4_number_p28]
    with_reducible repeat' (first | intro _ | apply xL_bind | apply xL_ite | apply xL_gI | apply xL_stuck | apply xL_sel | apply xLs_cons | exact xLs_nil | apply xl_fX4_byteAt | apply xl_fX4_isDigit | apply xl_fX4_number_p112 | apply xl_fX1_inRange | apply xl_fX4_number_p113 | apply xl_fX4_number_p72 | apply ih)
theorem xl_fX4_number (a0 : Nat) (p0 : Int32) (p1 : Int32) : xL (fX4_number a0 p0 p1) := by
  unfold fX4_number
  with_reducible repeat' (first | intro _ | apply xL_bind | apply xL_let | apply xL_gI | apply xL_sel | apply xLs_cons | exact xLs_nil | apply xl_fX4_peek | apply xl_fX4_isDigit | apply xl_fX4_require | apply xl_fX4_number_p28)
theorem xl_fX4_byAges_p26 (k3 : Nat → Option Nat → Int32 → Int32 → Int32 → xM (Unit)) (l0 : Nat) (l1 : Option Nat) (l2 : Int32) (l3 : Int32) (l4 : Int32) (s0 : Int32) (s1 : Nat) (h_k3 : ∀ y0 y1 y2 y3 y4, xL (k3 y0 y1 y2 y3 y4)) : xL (fX4_byAges_p26 k3 l0 l1 l2 l3 l4 s0 s1) := by
  unfold fX4_byAges_p26
  with_reducible repeat' (first | intro _ | apply xL_bind | apply xL_let | apply xL_ite | apply xL_pure | apply xL_gI | apply xL_stI | apply xL_sel | apply xLs_cons | exact xLs_nil | apply h_k3 | apply xl_fX4_require | apply xl_fX4_number | apply xl_fX4_peek | apply xl_fX4_isDigit)
theorem xl_fX4_byAges_p21 (k3 : Nat → Option Nat → Int32 → Int32 → Int32 → xM (Unit)) (l0 : Nat) (l1 : Option Nat) (l2 : Int32) (l3 : Int32) (l4 : Int32) (s0 : Nat) (h_k3 : ∀ y0 y1 y2 y3 y4, xL (k3 y0 y1 y2 y3 y4)) : xL (fX4_byAges_p21 k3 l0 l1 l2 l3 l4 s0) := by
  unfold fX4_byAges_p21
  with_reducible repeat' (first | intro _ | apply h_k3 | apply xl_fX4_byAges_p26)
theorem xl_fX4_byAges_p3 : ∀ n y0 y1 y2 y3 y4, xL (fX4_byAges_p3 n y0 y1 y2 y3 y4) := by
  intro n
  induction n with
  | zero => intros; rw [fX4_byAges_p3]; exact xL_stuck
  | succ n ih =>
    intros
    rw [fX4_byAges_p3]
    with_reducible repeat' (first | intro _ | apply xL_bind | apply xL_ite | apply xL_stuck | apply xL_sel | apply xLs_cons | exact xLs_nil | apply xl_fX4_byAges_p21 | apply xl_fX4_peek | apply xl_fX4_isDigit | apply xl_fX4_byAges_p26 | apply ih)
theorem xl_fX4_byAges (a0 : Nat) (p0 : Option Nat) (p1 : Int32) (p2 : Int32) : xL (fX4_byAges a0 p0 p1 p2) := by
  unfold fX4_byAges
  with_reducible repeat' (first | intro _ | apply xL_let | apply xl_fX4_byAges_p3)
theorem xl_fX11_init (a0 : Nat) (p0 : Option Nat) : xL (fX11_init a0 p0) := by
  unfold fX11_init
  with_reducible repeat' (first | intro _ | apply xL_bind | apply xL_pure | apply xL_put)
theorem xl_fX4_open_p37 (l0 : Nat) (s0 : Int32) (s1 : Nat) : xL (fX4_open_p37 l0 s0 s1) := by
  unfold fX4_open_p37
  with_reducible repeat' (first | intro _ | apply xL_bind | apply xL_pure | apply xL_gI | apply xL_put | apply xL_sel | apply xLs_cons | exact xLs_nil | apply xl_fX4_require)
theorem xl_fX4_open_p15 (l0 : Nat) (s0 : Int32) (s1 : Nat) : xL (fX4_open_p15 l0 s0 s1) := by
  unfold fX4_open_p15
  with_reducible repeat' (first | intro _ | apply xL_bind | apply xL_ite | apply xL_gI | apply xL_sel | apply xLs_cons | exact xLs_nil | apply xl_fX4_require | apply xl_fX4_open_p37)
theorem xl_fX4_open (a0 : Nat) : xL (fX4_open a0) := by
  unfold fX4_open
  with_reducible repeat' (first | intro _ | apply xL_bind | apply xL_ite | apply xL_sel | apply xLs_cons | exact xLs_nil | apply xl_fX4_peek | apply xl_fX4_open_p15)
theorem xl_fX4_sign_p14 (l0 : Nat) (s0 : Int32) (s1 : Nat) : xL (fX4_sign_p14 l0 s0 s1) := by
  unfold fX4_sign_p14
  with_reducible repeat' (first | intro _ | apply xL_bind | apply xL_pure | apply xL_gI | apply xL_put | apply xL_sel | apply xLs_cons | exact xLs_nil | apply xl_fX4_require)
theorem xl_fX4_sign (a0 : Nat) (p0 : Int32) : xL (fX4_sign a0 p0) := by
  unfold fX4_sign
  with_reducible repeat' (first | intro _ | apply xL_bind | apply xL_ite | apply xL_sel | apply xLs_cons | exact xLs_nil | apply xl_fX4_peek | apply xl_fX4_sign_p14)
theorem xl_fX4_close (a0 : Nat) : xL (fX4_close a0) := by
  unfold fX4_close
  with_reducible repeat' (first | intro _ | apply xL_bind | apply xL_pure | apply xL_gI | apply xL_put | apply xL_sel | apply xLs_cons | exact xLs_nil | apply xl_fX4_sign)
theorem xl_fX12_init (a0 : Nat) (p0 : Option Nat) (p1 : Option Nat) (p2 : Option Nat) : xL (fX12_init a0 p0 p1 p2) := by
  unfold fX12_init
  with_reducible repeat' (first | intro _ | apply xL_bind | apply xL_pure | apply xL_put)
theorem xl_fX4_choice (S : Nat → xM (Option Nat)) (a0 : Nat) (p0 : Option Nat) (h_S : ∀ y0, xL (S y0)) : xL (fX4_choice S a0 p0) := by
  unfold fX4_choice
  with_reducible repeat' (first | intro _ | apply xL_bind | apply xL_pure | apply xL_new | apply xL_sel | apply xLs_cons | exact xLs_nil | apply h_S | apply xl_fX4_open | apply xl_fX4_sign | apply xl_fX4_close | apply xl_fX12_init)
theorem xl_fJ13_checkLength (p0 : Int32) (p1 : Int32) : xL (fJ13_checkLength p0 p1) := by
  unfold fJ13_checkLength
  with_reducible repeat' (first | intro _ | apply xL_ite | apply xL_pure | apply xL_stuck)
theorem xl_fJ13_copyOfRangeByte (p0 : Option Nat) (p1 : Int32) (p2 : Int32) : xL (fJ13_copyOfRangeByte p0 p1 p2) := by
  unfold fJ13_copyOfRangeByte
  with_reducible repeat' (first | intro _ | apply xL_bind | apply xL_let | apply xL_pure | apply xL_len | apply xL_newA | apply xL_cpI | apply xl_fJ13_checkLength | apply xl_fJ12_min)
theorem xl_fJ13_copyOfRange_p10 (l0 : Option Nat) (l1 : Int32) (l2 : Int32) : xL (fJ13_copyOfRange_p10 l0 l1 l2) := by
  unfold fJ13_copyOfRange_p10
  with_reducible repeat' (first | intro _ | apply xL_bind | apply xL_pure | apply xl_fJ13_copyOfRangeByte)
theorem xl_fJ13_copyOfRange (p0 : Option Nat) (p1 : Int32) (p2 : Int32) : xL (fJ13_copyOfRange p0 p1 p2) := by
  unfold fJ13_copyOfRange
  with_reducible repeat' (first | intro _ | apply xL_bind | apply xL_ite | apply xL_pure | apply xL_len | apply xL_csA | apply xL_clB | apply xl_fJ13_copyOfRange_p10)
theorem xl_fJ7_getValue__J8 (a0 : Nat) : xL (fJ7_getValue__J8 a0) := by
  unfold fJ7_getValue__J8
  with_reducible repeat' (first | intro _ | apply xL_bind | apply xL_pure | apply xL_gR)
theorem xl_fJ7_length__J8 (a0 : Nat) : xL (fJ7_length__J8 a0) := by
  unfold fJ7_length__J8
  with_reducible repeat' (first | intro _ | apply xL_bind | apply xL_pure | apply xL_gI)
theorem xl_fJ8_length (a0 : Nat) : xL (fJ8_length a0) := by
  unfold fJ8_length
  with_reducible repeat' (first | intro _ | apply xL_bind | apply xL_pure | apply xL_sel | apply xLs_cons | exact xLs_nil | apply xl_fJ7_length__J8)
theorem xl_fJ7_isLatin1__J8 (a0 : Nat) : xL (fJ7_isLatin1__J8 a0) := by
  unfold fJ7_isLatin1__J8
  with_reducible repeat' (first | intro _ | apply xL_bind | apply xL_ite | apply xL_pure | apply xL_gI)
theorem xl_fJ9_init_2_p79 (l0 : Nat) (l3 : Option Nat) (l4 : Int32) : xL (fJ9_init_2_p79 l0 l3 l4) := by
  unfold fJ9_init_2_p79
  with_reducible repeat' (first | intro _ | apply xL_bind | apply xL_pure | apply xL_put | apply xL_pN | apply xl_fJ13_copyOfRange)
theorem xl_fJ9_init_2 (a0 : Nat) (p0 : Option Nat) (p1 : Option Nat) : xL (fJ9_init_2 a0 p0 p1) := by
  unfold fJ9_init_2
  with_reducible repeat' (first | intro _ | apply xL_bind | apply xL_ite | apply xL_pure | apply xL_put | apply xL_stuck | apply xL_pN | apply xL_sel | apply xLs_cons | exact xLs_nil | apply xl_fJ7_getValue__J8 | apply xl_fJ8_length | apply xl_fJ7_isLatin1__J8 | apply xl_fJ9_init_2_p79 | apply xl_fJ13_copyOfRange)
theorem xl_fJ9_init (a0 : Nat) (p0 : Option Nat) : xL (fJ9_init a0 p0) := by
  unfold fJ9_init
  with_reducible repeat' (first | intro _ | apply xL_bind | apply xL_pure | apply xl_fJ9_init_2)
theorem xl_fJ8_toString (a0 : Nat) : xL (fJ8_toString a0) := by
  unfold fJ8_toString
  with_reducible repeat' (first | intro _ | apply xL_bind | apply xL_pure | apply xL_new | apply xl_fJ9_init)
theorem xl_fJ7_inflate__J8 (a0 : Nat) : xL (fJ7_inflate__J8 a0) := by
  unfold fJ7_inflate__J8
  with_reducible repeat' (first | intro _ | apply xL_bind | apply xL_ite | apply xL_pure | apply xL_gR | apply xL_stuck | apply xL_len | apply xL_sel | apply xLs_cons | exact xLs_nil | apply xl_fJ7_isLatin1__J8)
theorem xl_fJ11_hugeLength (p0 : Int32) (p1 : Int32) : xL (fJ11_hugeLength p0 p1) := by
  unfold fJ11_hugeLength
  with_reducible repeat' (first | intro _ | apply xL_let | apply xL_ite | apply xL_pure | apply xL_stuck)
theorem xl_fJ11_newLength_p21 (l0 : Int32) (l1 : Int32) : xL (fJ11_newLength_p21 l0 l1) := by
  unfold fJ11_newLength_p21
  with_reducible repeat' (first | intro _ | apply xL_bind | apply xL_pure | apply xl_fJ11_hugeLength)
theorem xl_fJ11_newLength (p0 : Int32) (p1 : Int32) (p2 : Int32) : xL (fJ11_newLength p0 p1 p2) := by
  unfold fJ11_newLength
  with_reducible repeat' (first | intro _ | apply xL_bind | apply xL_let | apply xL_ite | apply xL_pure | apply xl_fJ12_max | apply xl_fJ11_newLength_p21)
theorem xl_fJ7_newCapacity__J8 (a0 : Nat) (p0 : Int32) : xL (fJ7_newCapacity__J8 a0 p0) := by
  unfold fJ7_newCapacity__J8
  with_reducible repeat' (first | intro _ | apply xL_bind | apply xL_let | apply xL_ite | apply xL_pure | apply xL_gR | apply xL_gI | apply xL_stuck | apply xL_len | apply xl_fJ11_newLength)
theorem xl_fJ13_copyOf (p0 : Option Nat) (p1 : Int32) : xL (fJ13_copyOf p0 p1) := by
  unfold fJ13_copyOf
  with_reducible repeat' (first | intro _ | apply xL_bind | apply xL_ite | apply xL_pure | apply xL_len | apply xL_newA | apply xL_csA | apply xL_cpI | apply xL_clB | apply xl_fJ12_min)
theorem xl_fJ7_ensureCapacityInternal__J8 (a0 : Nat) (p0 : Int32) : xL (fJ7_ensureCapacityInternal__J8 a0 p0) := by
  unfold fJ7_ensureCapacityInternal__J8
  with_reducible repeat' (first | intro _ | apply xL_bind | apply xL_let | apply xL_ite | apply xL_pure | apply xL_gR | apply xL_gI | apply xL_put | apply xL_len | apply xL_sel | apply xLs_cons | exact xLs_nil | apply xl_fJ7_newCapacity__J8 | apply xl_fJ13_copyOf)
theorem xl_fJ15_canEncode (p0 : Int32) : xL (fJ15_canEncode p0) := by
  unfold fJ15_canEncode
  with_reducible repeat' (first | intro _ | apply xL_ite | apply xL_pure)
theorem xl_fJ7_append_3__J8_p56 (l0 : Nat) (l1 : Int32) : xL (fJ7_append_3__J8_p56 l0 l1) := by
  unfold fJ7_append_3__J8_p56
  with_reducible repeat' (first | intro _ | apply xL_bind | apply xL_gR | apply xL_gI | apply xL_put | apply xL_stuck)
theorem xl_fJ7_append_3__J8_p45 (l0 : Nat) (l1 : Int32) : xL (fJ7_append_3__J8_p45 l0 l1) := by
  unfold fJ7_append_3__J8_p45
  with_reducible repeat' (first | intro _ | apply xL_bind | apply xL_ite | apply xL_sel | apply xLs_cons | exact xLs_nil | apply xl_fJ7_isLatin1__J8 | apply xl_fJ7_append_3__J8_p56 | apply xl_fJ7_inflate__J8)
theorem xl_fJ7_append_3__J8 (a0 : Nat) (p0 : Int32) : xL (fJ7_append_3__J8 a0 p0) := by
  unfold fJ7_append_3__J8
  with_reducible repeat' (first | intro _ | apply xL_bind | apply xL_ite | apply xL_pure | apply xL_gR | apply xL_gI | apply xL_put | apply xL_stI | apply xL_sel | apply xLs_cons | exact xLs_nil | apply xl_fJ7_ensureCapacityInternal__J8 | apply xl_fJ7_isLatin1__J8 | apply xl_fJ7_append_3__J8_p45 | apply xl_fJ15_canEncode)
theorem xl_fJ8_append_3 (a0 : Nat) (p0 : Int32) : xL (fJ8_append_3 a0 p0) := by
  unfold fJ8_append_3
  with_reducible repeat' (first | intro _ | apply xL_bind | apply xL_pure | apply xL_sel | apply xLs_cons | exact xLs_nil | apply xl_fJ7_append_3__J8)
theorem xl_fJ7_init__J8 (a0 : Nat) (p0 : Int32) : xL (fJ7_init__J8 a0 p0) := by
  unfold fJ7_init__J8
  with_reducible repeat' (first | intro _ | apply xL_bind | apply xL_ite | apply xL_pure | apply xL_put | apply xL_stuck | apply xL_newA | apply xL_pN)
theorem xl_fJ8_init (a0 : Nat) : xL (fJ8_init a0) := by
  unfold fJ8_init
  with_reducible repeat' (first | intro _ | apply xL_bind | apply xL_pure | apply xl_fJ7_init__J8)
theorem xl_fX4_word_p18 : ∀ n y0 y1 y2, xL (fX4_word_p18 n y0 y1 y2) := by
  intro n
  induction n with
  | zero => intros; rw [fX4_word_p18]; exact xL_stuck
  | succ n ih =>
    intros
    rw [fX4_word_p18]
    with_reducible repeat' (first | intro _ | apply xL_bind | apply xL_let | apply xL_ite | apply xL_pure | apply xL_stuck | apply xL_sel | apply xLs_cons | exact xLs_nil | apply xl_fX4_byteAt | apply xl_fX1_inRange | apply xl_fJ8_toString | apply xl_fJ8_append_3 | apply ih)
theorem xl_fX4_word (a0 : Nat) : xL (fX4_word a0) := by
  unfold fX4_word
  with_reducible repeat' (first | intro _ | apply xL_bind | apply xL_gI | apply xL_new | apply xL_sel | apply xLs_cons | exact xLs_nil | apply xl_fX4_peek | apply xl_fJ8_init | apply xl_fX4_word_p18)
theorem xl_fJ11_signedHashCode_p8 : ∀ n y0 y1 y2 y3, xL (fJ11_signedHashCode_p8 n y0 y1 y2 y3) := by
  intro n
  induction n with
  | zero => intros; rw [fJ11_signedHashCode_p8]; exact xL_stuck
  | succ n ih =>
    intros
    rw [fJ11_signedHashCode_p8]
    with_reducible repeat' (first | intro _ | apply xL_bind | apply xL_let | apply xL_ite | apply xL_pure | apply xL_stuck | apply xL_ldI | apply ih)
theorem xl_fJ11_signedHashCode (p0 : Int32) (p1 : Option Nat) (p2 : Int32) (p3 : Int32) : xL (fJ11_signedHashCode p0 p1 p2 p3) := by
  unfold fJ11_signedHashCode
  with_reducible repeat' (first | intro _ | apply xL_let | apply xl_fJ11_signedHashCode_p8)
theorem xl_fJ11_hashCode_2_p8 : ∀ n y0 y1 y2 y3, xL (fJ11_hashCode_2_p8 n y0 y1 y2 y3) := by
  intro n
  induction n with
  | zero => intros; rw [fJ11_hashCode_2_p8]; exact xL_stuck
  | succ n ih =>
    intros
    rw [fJ11_hashCode_2_p8]
    with_reducible repeat' (first | intro _ | apply xL_bind | apply xL_let | apply xL_ite | apply xL_pure | apply xL_stuck | apply xL_ldI | apply ih)
theorem xl_fJ11_hashCode_2 (p0 : Int32) (p1 : Option Nat) (p2 : Int32) (p3 : Int32) : xL (fJ11_hashCode_2 p0 p1 p2 p3) := by
  unfold fJ11_hashCode_2
  with_reducible repeat' (first | intro _ | apply xL_let | apply xl_fJ11_hashCode_2_p8)
theorem xl_fJ11_hashCode_4_p8 : ∀ n y0 y1 y2 y3, xL (fJ11_hashCode_4_p8 n y0 y1 y2 y3) := by
  intro n
  induction n with
  | zero => intros; rw [fJ11_hashCode_4_p8]; exact xL_stuck
  | succ n ih =>
    intros
    rw [fJ11_hashCode_4_p8]
    with_reducible repeat' (first | intro _ | apply xL_bind | apply xL_let | apply xL_ite | apply xL_pure | apply xL_stuck | apply xL_ldI | apply ih)
theorem xl_fJ11_hashCode_4 (p0 : Int32) (p1 : Option Nat) (p2 : Int32) (p3 : Int32) : xL (fJ11_hashCode_4 p0 p1 p2 p3) := by
  unfold fJ11_hashCode_4
  with_reducible repeat' (first | intro _ | apply xL_let | apply xl_fJ11_hashCode_4_p8)
theorem xl_fJ11_vectorizedHashCode (p0 : Option Nat) (p1 : Int32) (p2 : Int32) (p3 : Int32) (p4 : Int32) : xL (fJ11_vectorizedHashCode p0 p1 p2 p3 p4) := by
  unfold fJ11_vectorizedHashCode
  with_reducible repeat' (first | intro _ | apply xL_bind | apply xL_ite | apply xL_pure | apply xL_stuck | apply xL_csA | apply xl_fJ11_signedHashCode | apply xl_fJ11_hashCode_2 | apply xl_fJ11_hashCode_4)
theorem xl_fJ15_hashCode (p0 : Option Nat) : xL (fJ15_hashCode p0) := by
  unfold fJ15_hashCode
  with_reducible repeat' (first | intro _ | apply xL_bind | apply xL_ite | apply xL_pure | apply xL_ldI | apply xL_len | apply xl_fJ11_vectorizedHashCode)
theorem xl_fJ9_hashCode_p40 (l0 : Nat) (s0 : Int32) : xL (fJ9_hashCode_p40 l0 s0) := by
  unfold fJ9_hashCode_p40
  with_reducible repeat' (first | intro _ | apply xL_bind | apply xL_ite | apply xL_pure | apply xL_put | apply xL_pN)
theorem xl_fJ9_hashCode (a0 : Nat) : xL (fJ9_hashCode a0) := by
  unfold fJ9_hashCode
  with_reducible repeat' (first | intro _ | apply xL_bind | apply xL_ite | apply xL_pure | apply xL_gR | apply xL_gI | apply xL_stuck | apply xL_sel | apply xLs_cons | exact xLs_nil | apply xl_fJ9_isLatin1 | apply xl_fJ15_hashCode | apply xl_fJ9_hashCode_p40)
theorem xl_fJ15_equals_p9 : ∀ n y0 y1 y2, xL (fJ15_equals_p9 n y0 y1 y2) := by
  intro n
  induction n with
  | zero => intros; rw [fJ15_equals_p9]; exact xL_stuck
  | succ n ih =>
    intros
    rw [fJ15_equals_p9]
    with_reducible repeat' (first | intro _ | apply xL_bind | apply xL_let | apply xL_ite | apply xL_pure | apply xL_stuck | apply xL_ldI | apply xL_len | apply ih)
theorem xl_fJ15_equals (p0 : Option Nat) (p1 : Option Nat) : xL (fJ15_equals p0 p1) := by
  unfold fJ15_equals
  with_reducible repeat' (first | intro _ | apply xL_bind | apply xL_let | apply xL_ite | apply xL_pure | apply xL_len | apply xl_fJ15_equals_p9)
theorem xl_fJ9_equals_p36 (l0 : Nat) (l2 : Option Nat) : xL (fJ9_equals_p36 l0 l2) := by
  unfold fJ9_equals_p36
  with_reducible repeat' (first | intro _ | apply xL_bind | apply xL_ite | apply xL_pure | apply xL_gR | apply xl_fJ15_equals)
theorem xl_fJ9_equals (a0 : Nat) (p0 : Option Nat) : xL (fJ9_equals a0 p0) := by
  unfold fJ9_equals
  with_reducible repeat' (first | intro _ | apply xL_bind | apply xL_ite | apply xL_pure | apply xL_gI | apply xL_cst | apply xL_ins | apply xl_fJ9_equals_p36)
theorem xl_fX8_init (a0 : Nat) (p0 : Int64) : xL (fX8_init a0 p0) := by
  unfold fX8_init
  with_reducible repeat' (first | intro _ | apply xL_bind | apply xL_pure | apply xL_put)
theorem xl_fX4_factor_p227 (S : Nat → xM (Option Nat)) (l0 : Nat) (l2 : Int32) (l4 : Int32) (h_S : ∀ y0, xL (S y0)) : xL (fX4_factor_p227 S l0 l2 l4) := by
  unfold fX4_factor_p227
  with_reducible repeat' (first | intro _ | apply xL_bind | apply xL_ite | apply xL_pure | apply xL_new | apply xL_con | apply xL_throw | apply xL_sel | apply xLs_cons | exact xLs_nil | apply h_S | apply xl_fX11_init | apply xl_fX4_choice | apply xl_fX5_init)
theorem xl_fX4_factor (S : Nat → xM (Option Nat)) (a0 : Nat) (h_S : ∀ y0, xL (S y0)) : xL (fX4_factor S a0) := by
  unfold fX4_factor
  with_reducible repeat' (first | intro _ | apply xL_bind | apply xL_let | apply xL_ite | apply xL_pure | apply xL_gI | apply xL_put | apply xL_new | apply xL_con | apply xL_sel | apply xLs_cons | exact xLs_nil | apply h_S | apply xl_fX4_peek | apply xl_fX4_open | apply xl_fX4_close | apply xl_fX4_isDigit | apply xl_fX4_word | apply xl_fJ9_length | apply xl_fJ9_hashCode | apply xl_fJ9_equals | apply xl_fX4_factor_p227 | apply xl_fX4_number | apply xl_fX8_init)
theorem xl_fX4_term_p41 (S : Nat → xM (Option Nat)) (k5 : Nat → Option Nat → xM (Option Nat)) (l0 : Nat) (l1 : Option Nat) (s0 : Option Nat) (h_S : ∀ y0, xL (S y0)) (h_k5 : ∀ y0 y1, xL (k5 y0 y1)) : xL (fX4_term_p41 S k5 l0 l1 s0) := by
  unfold fX4_term_p41
  with_reducible repeat' (first | intro _ | apply xL_bind | apply xL_gI | apply xL_put | apply xL_new | apply xL_sel | apply xLs_cons | exact xLs_nil | apply h_S | apply h_k5 | apply xl_fX4_factor | apply xl_fX12_init)
theorem xl_fX4_term_p23 (S : Nat → xM (Option Nat)) (k5 : Nat → Option Nat → xM (Option Nat)) (l0 : Nat) (l1 : Option Nat) (h_S : ∀ y0, xL (S y0)) (h_k5 : ∀ y0 y1, xL (k5 y0 y1)) : xL (fX4_term_p23 S k5 l0 l1) := by
  unfold fX4_term_p23
  with_reducible repeat' (first | intro _ | apply xL_bind | apply xL_ite | apply xL_con | apply xL_sel | apply xLs_cons | exact xLs_nil | apply h_S | apply h_k5 | apply xl_fX4_peek | apply xl_fX4_term_p41)
theorem xl_fX4_term_p5 (S : Nat → xM (Option Nat)) (h_S : ∀ y0, xL (S y0)) : ∀ n y0 y1, xL (fX4_term_p5 S n y0 y1) := by
  intro n
  induction n with
  | zero => intros; rw [fX4_term_p5]; exact xL_stuck
  | succ n ih =>
    intros
    rw [fX4_term_p5]
    with_reducible repeat' (first | intro _ | apply xL_bind | apply xL_ite | apply xL_pure | apply xL_stuck | apply xL_sel | apply xLs_cons | exact xLs_nil | apply h_S | apply xl_fX4_peek | apply xl_fX4_term_p23 | apply ih)
theorem xl_fX4_term (S : Nat → xM (Option Nat)) (a0 : Nat) (h_S : ∀ y0, xL (S y0)) : xL (fX4_term S a0) := by
  unfold fX4_term
  with_reducible repeat' (first | intro _ | apply xL_bind | apply xL_sel | apply xLs_cons | exact xLs_nil | apply h_S | apply xl_fX4_factor | apply xl_fX4_term_p5)
theorem xl_fX4_sum_p41 (S : Nat → xM (Option Nat)) (k5 : Nat → Option Nat → xM (Option Nat)) (l0 : Nat) (l1 : Option Nat) (s0 : Option Nat) (h_S : ∀ y0, xL (S y0)) (h_k5 : ∀ y0 y1, xL (k5 y0 y1)) : xL (fX4_sum_p41 S k5 l0 l1 s0) := by
  unfold fX4_sum_p41
  with_reducible repeat' (first | intro _ | apply xL_bind | apply xL_gI | apply xL_put | apply xL_new | apply xL_sel | apply xLs_cons | exact xLs_nil | apply h_S | apply h_k5 | apply xl_fX4_term | apply xl_fX12_init)
theorem xl_fX4_sum_p23 (S : Nat → xM (Option Nat)) (k5 : Nat → Option Nat → xM (Option Nat)) (l0 : Nat) (l1 : Option Nat) (h_S : ∀ y0, xL (S y0)) (h_k5 : ∀ y0 y1, xL (k5 y0 y1)) : xL (fX4_sum_p23 S k5 l0 l1) := by
  unfold fX4_sum_p23
  with_reducible repeat' (first | intro _ | apply xL_bind | apply xL_ite | apply xL_con | apply xL_sel | apply xLs_cons | exact xLs_nil | apply h_S | apply h_k5 | apply xl_fX4_peek | apply xl_fX4_sum_p41)
theorem xl_fX4_sum_p5 (S : Nat → xM (Option Nat)) (h_S : ∀ y0, xL (S y0)) : ∀ n y0 y1, xL (fX4_sum_p5 S n y0 y1) := by
  intro n
  induction n with
  | zero => intros; rw [fX4_sum_p5]; exact xL_stuck
  | succ n ih =>
    intros
    rw [fX4_sum_p5]
    with_reducible repeat' (first | intro _ | apply xL_bind | apply xL_ite | apply xL_pure | apply xL_stuck | apply xL_sel | apply xLs_cons | exact xLs_nil | apply h_S | apply xl_fX4_peek | apply xl_fX4_sum_p23 | apply ih)
theorem xl_fX4_sum_b (S : Nat → xM (Option Nat)) (a0 : Nat) (h_S : ∀ y0, xL (S y0)) : xL (fX4_sum_b S a0) := by
  unfold fX4_sum_b
  with_reducible repeat' (first | intro _ | apply xL_bind | apply xL_sel | apply xLs_cons | exact xLs_nil | apply h_S | apply xl_fX4_term | apply xl_fX4_sum_p5)
theorem xl_fX4_sum : ∀ n y0, xL (fX4_sum n y0) := by
  intro n
  induction n with
  | zero => intros; rw [fX4_sum]; exact xL_stuck
  | succ n ih =>
    intros
    rw [fX4_sum]
    with_reducible repeat' (first | intro _ | apply xL_stuck | apply xl_fX4_sum_b | apply ih)
theorem xl_fJ2_size (a0 : Nat) : xL (fJ2_size a0) := by
  unfold fJ2_size
  with_reducible repeat' (first | intro _ | apply xL_bind | apply xL_pure | apply xL_gI)
theorem xl_fJ25_checkIndex (p0 : Int32) (p1 : Int32) : xL (fJ25_checkIndex p0 p1) := by
  unfold fJ25_checkIndex
  with_reducible repeat' (first | intro _ | apply xL_bind | apply xL_pure | apply xl_fJ14_checkIndex)
theorem xl_fJ2_elementData (a0 : Nat) (p0 : Int32) : xL (fJ2_elementData a0 p0) := by
  unfold fJ2_elementData
  with_reducible repeat' (first | intro _ | apply xL_bind | apply xL_pure | apply xL_gR | apply xL_ldR)
theorem xl_fJ2_get (a0 : Nat) (p0 : Int32) : xL (fJ2_get a0 p0) := by
  unfold fJ2_get
  with_reducible repeat' (first | intro _ | apply xL_bind | apply xL_pure | apply xL_gI | apply xL_sel | apply xLs_cons | exact xLs_nil | apply xl_fJ25_checkIndex | apply xl_fJ2_elementData)
theorem xl_fJ2_isEmpty (a0 : Nat) : xL (fJ2_isEmpty a0) := by
  unfold fJ2_isEmpty
  with_reducible repeat' (first | intro _ | apply xL_bind | apply xL_ite | apply xL_pure | apply xL_gI)
theorem xl_fJ28_init__J29 (a0 : Nat) : xL (fJ28_init__J29 a0) := by
  unfold fJ28_init__J29
  with_reducible repeat' (first | intro _ | apply xL_pure)
theorem xl_fJ29_init (a0 : Nat) : xL (fJ29_init a0) := by
  unfold fJ29_init
  with_reducible repeat' (first | intro _ | apply xL_bind | apply xL_pure | apply xL_put | apply xl_fJ28_init__J29)
theorem xl_fX7_init (a0 : Nat) (p0 : Option Nat) (p1 : Int32) : xL (fX7_init a0 p0 p1) := by
  unfold fX7_init
  with_reducible repeat' (first | intro _ | apply xL_bind | apply xL_pure | apply xL_put | apply xL_new | apply xL_newA | apply xl_fX8_init | apply xl_fJ29_init)
theorem xl_fJ0_init__J27 (a0 : Nat) : xL (fJ0_init__J27 a0) := by
  unfold fJ0_init__J27
  with_reducible repeat' (first | intro _ | apply xL_pure)
theorem xl_fJ27_init (a0 : Nat) : xL (fJ27_init a0) := by
  unfold fJ27_init
  with_reducible repeat' (first | intro _ | apply xL_bind | apply xL_pure | apply xL_put | apply xL_newA | apply xl_fJ0_init__J27)
