/-! part 501d: the computations are local, printed by gen/local.py -/
set_option maxRecDepth 100000
theorem xl_fX2_close_p81 (l0 : Nat) (l2 : Int32) : xL (fX2_close_p81 l0 l2) := by
  unfold fX2_close_p81
  with_reducible repeat' (first | intro _ | apply xL_bind | apply xL_gR | apply xL_sel | apply xLs_cons | exact xLs_nil | apply xl_fJ2_iterator | apply xl_fX2_close_p91)
theorem xl_fX2_close_p7 : ∀ n y0 y1 y2, xL (fX2_close_p7 n y0 y1 y2) := by
  intro n
  induction n with
  | zero => intros; rw [fX2_close_p7]; exact xL_stuck
  | succ n ih =>
    intros
    rw [fX2_close_p7]
    with_reducible repeat' (first | intro _ | apply xL_bind | apply xL_let | apply xL_ite | apply xL_gR | apply xL_gI | apply xL_stuck | apply xL_cst | apply xL_sel | apply xLs_cons | exact xLs_nil | apply xl_fJ0_isEmpty__J45 | apply xl_fJ45_peek | apply xl_fJ45_poll | apply xl_fJ2_get | apply xl_fX23_carryOut | apply xl_fX24_carryOut | apply xl_fX25_carryOut | apply xl_fX2_drop | apply xl_fX2_close_p81 | apply ih)
theorem xl_fX2_close (a0 : Nat) : xL (fX2_close a0) := by
  unfold fX2_close
  with_reducible repeat' (first | intro _ | apply xL_bind | apply xL_let | apply xL_sel | apply xLs_cons | exact xLs_nil | apply xl_fX2_queue | apply xl_fX2_close_p7)
theorem xl_fX1_checkState (p0 : Int32) : xL (fX1_checkState p0) := by
  unfold fX1_checkState
  with_reducible repeat' (first | intro _ | apply xL_bind | apply xL_ite | apply xL_pure | apply xL_throw | apply xL_mk)
theorem xl_fJ30_init (a0 : Nat) (p0 : Option Nat) (p1 : Option Nat) (p2 : Option Nat) : xL (fJ30_init a0 p0 p1 p2) := by
  unfold fJ30_init
  with_reducible repeat' (first | intro _ | apply xL_bind | apply xL_pure | apply xL_put)
theorem xl_fJ19_linkLast_p38 (l0 : Nat) : xL (fJ19_linkLast_p38 l0) := by
  unfold fJ19_linkLast_p38
  with_reducible repeat' (first | intro _ | apply xL_bind | apply xL_pure | apply xL_gI | apply xL_put)
theorem xl_fJ19_linkLast (a0 : Nat) (p0 : Option Nat) : xL (fJ19_linkLast a0 p0) := by
  unfold fJ19_linkLast
  with_reducible repeat' (first | intro _ | apply xL_bind | apply xL_ite | apply xL_gR | apply xL_put | apply xL_new | apply xl_fJ30_init | apply xl_fJ19_linkLast_p38)
theorem xl_fJ19_addLast (a0 : Nat) (p0 : Option Nat) : xL (fJ19_addLast a0 p0) := by
  unfold fJ19_addLast
  with_reducible repeat' (first | intro _ | apply xL_bind | apply xL_pure | apply xL_sel | apply xLs_cons | exact xLs_nil | apply xl_fJ19_linkLast)
theorem xl_fJ19_add (a0 : Nat) (p0 : Option Nat) : xL (fJ19_add a0 p0) := by
  unfold fJ19_add
  with_reducible repeat' (first | intro _ | apply xL_bind | apply xL_pure | apply xL_sel | apply xLs_cons | exact xLs_nil | apply xl_fJ19_linkLast)
theorem xl_fJ27_newCapacity (a0 : Nat) (p0 : Int32) (p1 : Int32) : xL (fJ27_newCapacity a0 p0 p1) := by
  unfold fJ27_newCapacity
  with_reducible repeat' (first | intro _ | apply xL_bind | apply xL_let | apply xL_ite | apply xL_pure | apply xL_gR | apply xL_stuck | apply xL_len)
theorem xl_fJ27_grow_p145 : ∀ n y0 y1 y2, xL (fJ27_grow_p145 n y0 y1 y2) := by
  intro n
  induction n with
  | zero => intros; rw [fJ27_grow_p145]; exact xL_stuck
  | succ n ih =>
    intros
    rw [fJ27_grow_p145]
    with_reducible repeat' (first | intro _ | apply xL_bind | apply xL_let | apply xL_ite | apply xL_pure | apply xL_stuck | apply xL_stR | apply ih)
theorem xl_fJ27_grow_p96 (l0 : Nat) (l2 : Int32) (l3 : Int32) (l5 : Option Nat) : xL (fJ27_grow_p96 l0 l2 l3 l5) := by
  unfold fJ27_grow_p96
  with_reducible repeat' (first | intro _ | apply xL_bind | apply xL_let | apply xL_gI | apply xL_put | apply xL_cpR | apply xl_fJ27_grow_p145)
theorem xl_fJ27_grow_p49 (l0 : Nat) (l2 : Int32) (l3 : Int32) : xL (fJ27_grow_p49 l0 l2 l3) := by
  unfold fJ27_grow_p49
  with_reducible repeat' (first | intro _ | apply xL_bind | apply xL_ite | apply xL_pure | apply xL_gR | apply xL_gI | apply xL_put | apply xL_ldR | apply xl_fJ13_copyOf_2 | apply xl_fJ27_grow_p96)
theorem xl_fJ27_grow_p41 (l0 : Nat) (l1 : Int32) (l2 : Int32) (l4 : Int32) : xL (fJ27_grow_p41 l0 l1 l2 l4) := by
  unfold fJ27_grow_p41
  with_reducible repeat' (first | intro _ | apply xL_bind | apply xL_sel | apply xLs_cons | exact xLs_nil | apply xl_fJ27_newCapacity | apply xl_fJ27_grow_p49)
theorem xl_fJ27_grow_p21 (l0 : Nat) (l1 : Int32) (l2 : Int32) (s0 : Int32) : xL (fJ27_grow_p21 l0 l1 l2 s0) := by
  unfold fJ27_grow_p21
  with_reducible repeat' (first | intro _ | apply xL_let | apply xL_ite | apply xl_fJ27_grow_p41 | apply xl_fJ27_grow_p49)
theorem xl_fJ27_grow (a0 : Nat) (p0 : Int32) : xL (fJ27_grow a0 p0) := by
  unfold fJ27_grow
  with_reducible repeat' (first | intro _ | apply xL_bind | apply xL_ite | apply xL_gR | apply xL_len | apply xl_fJ27_grow_p21)
theorem xl_fJ27_addLast (a0 : Nat) (p0 : Option Nat) : xL (fJ27_addLast a0 p0) := by
  unfold fJ27_addLast
  with_reducible repeat' (first | intro _ | apply xL_bind | apply xL_ite | apply xL_pure | apply xL_gR | apply xL_gI | apply xL_put | apply xL_stuck | apply xL_len | apply xL_stR | apply xL_sel | apply xLs_cons | exact xLs_nil | apply xl_fJ27_inc | apply xl_fJ27_grow)
theorem xl_fX9_copy (a0 : Nat) : xL (fX9_copy a0) := by
  unfold fX9_copy
  with_reducible repeat' (first | intro _ | apply xL_bind | apply xL_pure | apply xL_gI | apply xL_put | apply xL_new | apply xl_fX9_init)
theorem xl_fX6_copy_p81 : ∀ n y0 y1, xL (fX6_copy_p81 n y0 y1) := by
  intro n
  induction n with
  | zero => intros; rw [fX6_copy_p81]; exact xL_stuck
  | succ n ih =>
    intros
    rw [fX6_copy_p81]
    with_reducible repeat' (first | intro _ | apply xL_bind | apply xL_ite | apply xL_pure | apply xL_gR | apply xL_stuck | apply xL_cst | apply xL_sel | apply xLs_cons | exact xLs_nil | apply xl_fJ41_hasNext | apply xl_fJ41_next | apply xl_fJ27_addLast | apply ih)
theorem xl_fX6_copy (a0 : Nat) : xL (fX6_copy a0) := by
  unfold fX6_copy
  with_reducible repeat' (first | intro _ | apply xL_bind | apply xL_gR | apply xL_gI | apply xL_put | apply xL_new | apply xL_pN | apply xL_cpI | apply xL_sel | apply xLs_cons | exact xLs_nil | apply xl_fX6_init | apply xl_fX10_become | apply xl_fX9_copy | apply xl_fJ27_iterator | apply xl_fX6_copy_p81)
theorem xl_fX2_copy_p62 : ∀ n y0 y1 y2, xL (fX2_copy_p62 n y0 y1 y2) := by
  intro n
  induction n with
  | zero => intros; rw [fX2_copy_p62]; exact xL_stuck
  | succ n ih =>
    intros
    rw [fX2_copy_p62]
    with_reducible repeat' (first | intro _ | apply xL_bind | apply xL_ite | apply xL_pure | apply xL_gR | apply xL_gI | apply xL_put | apply xL_stuck | apply xL_cst | apply xL_sel | apply xLs_cons | exact xLs_nil | apply xl_fJ24_hasNext | apply xl_fJ24_next | apply xl_fJ19_add | apply ih)
theorem xl_fX2_copy_p18 : ∀ n y0 y1 y2, xL (fX2_copy_p18 n y0 y1 y2) := by
  intro n
  induction n with
  | zero => intros; rw [fX2_copy_p18]; exact xL_stuck
  | succ n ih =>
    intros
    rw [fX2_copy_p18]
    with_reducible repeat' (first | intro _ | apply xL_bind | apply xL_ite | apply xL_gR | apply xL_stuck | apply xL_cst | apply xL_sel | apply xLs_cons | exact xLs_nil | apply xl_fJ20_hasNext | apply xl_fJ18_iterator__J19 | apply xl_fX2_copy_p62 | apply xl_fJ20_next | apply xl_fX6_copy | apply xl_fJ2_add | apply ih)
theorem xl_fX2_copy (a0 : Nat) : xL (fX2_copy a0) := by
  unfold fX2_copy
  with_reducible repeat' (first | intro _ | apply xL_bind | apply xL_gR | apply xL_new | apply xL_sel | apply xLs_cons | exact xLs_nil | apply xl_fX2_init | apply xl_fJ2_iterator | apply xl_fX2_copy_p18)
theorem xl_fJ19_unlinkFirst_p42 (l0 : Nat) (l2 : Option Nat) : xL (fJ19_unlinkFirst_p42 l0 l2) := by
  unfold fJ19_unlinkFirst_p42
  with_reducible repeat' (first | intro _ | apply xL_bind | apply xL_pure | apply xL_gI | apply xL_put)
theorem xl_fJ19_unlinkFirst (a0 : Nat) (p0 : Option Nat) : xL (fJ19_unlinkFirst a0 p0) := by
  unfold fJ19_unlinkFirst
  with_reducible repeat' (first | intro _ | apply xL_bind | apply xL_ite | apply xL_gR | apply xL_put | apply xl_fJ19_unlinkFirst_p42)
theorem xl_fJ19_removeFirst (a0 : Nat) : xL (fJ19_removeFirst a0) := by
  unfold fJ19_removeFirst
  with_reducible repeat' (first | intro _ | apply xL_bind | apply xL_ite | apply xL_pure | apply xL_gR | apply xL_stuck | apply xL_sel | apply xLs_cons | exact xLs_nil | apply xl_fJ19_unlinkFirst)
theorem xl_fX1_record_p20 (l0 : Nat) : xL (fX1_record_p20 l0) := by
  unfold fX1_record_p20
  with_reducible repeat' (first | intro _ | apply xL_bind | apply xL_pure | apply xL_gR | apply xL_put | apply xL_sel | apply xLs_cons | exact xLs_nil | apply xl_fJ19_addLast | apply xl_fX2_copy)
theorem xl_fX1_record (a0 : Nat) : xL (fX1_record a0) := by
  unfold fX1_record
  with_reducible repeat' (first | intro _ | apply xL_bind | apply xL_ite | apply xL_gR | apply xL_sel | apply xLs_cons | exact xLs_nil | apply xl_fJ19_size | apply xl_fJ19_removeFirst | apply xl_fX1_record_p20)
theorem xl_fX1_pass_p43 : ∀ n y0 y1 y2 y3, xL (fX1_pass_p43 n y0 y1 y2 y3) := by
  intro n
  induction n with
  | zero => intros; rw [fX1_pass_p43]; exact xL_stuck
  | succ n ih =>
    intros
    rw [fX1_pass_p43]
    with_reducible repeat' (first | intro _ | apply xL_bind | apply xL_let | apply xL_ite | apply xL_pure | apply xL_stuck | apply xL_sel | apply xLs_cons | exact xLs_nil | apply xl_fX2_close | apply ih)
theorem xl_fX1_pass_p30 (l0 : Nat) (l1 : Int32) (s0 : Int32) : xL (fX1_pass_p30 l0 l1 s0) := by
  unfold fX1_pass_p30
  with_reducible repeat' (first | intro _ | apply xL_bind | apply xL_let | apply xL_sel | apply xLs_cons | exact xLs_nil | apply xl_fX1_checkState | apply xl_fX1_record | apply xl_fX1_pass_p43)
theorem xl_fX1_pass (a0 : Nat) (p0 : Int32) : xL (fX1_pass a0 p0) := by
  unfold fX1_pass
  with_reducible repeat' (first | intro _ | apply xL_bind | apply xL_ite | apply xL_gR | apply xL_gI | apply xl_fX1_inRange | apply xl_fX1_checkArgument | apply xl_fX1_pass_p30)
theorem xl_fX0_pass (p0 : Option Nat) (p1 : Int32) (p2 : Option Nat) : xL (fX0_pass p0 p1 p2) := by
  unfold fX0_pass
  with_reducible repeat' (first | intro _ | apply xL_bind | apply xL_pure | apply xL_stJ | apply xL_try | apply xL_sel | apply xLs_cons | exact xLs_nil | apply xl_fX1_pass)
theorem xl_fX1_changed (a0 : Nat) (p0 : Int32) : xL (fX1_changed a0 p0) := by
  unfold fX1_changed
  with_reducible repeat' (first | intro _ | apply xL_bind | apply xL_pure | apply xL_gR | apply xL_cst | apply xL_sel | apply xLs_cons | exact xLs_nil | apply xl_fX1_record | apply xl_fJ2_get)
theorem xl_fX1_take_p45 (l0 : Nat) (l1 : Int32) (l2 : Int32) (l3 : Int32) (s0 : Int32) : xL (fX1_take_p45 l0 l1 l2 l3 s0) := by
  unfold fX1_take_p45
  with_reducible repeat' (first | intro _ | apply xL_bind | apply xL_pure | apply xL_sel | apply xLs_cons | exact xLs_nil | apply xl_fX1_checkState | apply xl_fX1_changed | apply xl_fX6_take | apply xl_fX6_left)
theorem xl_fX1_take_p44 (l0 : Nat) (l1 : Int32) (l2 : Int32) (l3 : Int32) : xL (fX1_take_p44 l0 l1 l2 l3) := by
  unfold fX1_take_p44
  with_reducible repeat' (first | intro _ | apply xl_fX1_take_p45)
theorem xl_fX1_take_p18 (l0 : Nat) (l1 : Int32) (l2 : Int32) (l3 : Int32) (l4 : Option Nat) (s0 : Int32) : xL (fX1_take_p18 l0 l1 l2 l3 l4 s0) := by
  unfold fX1_take_p18
  with_reducible repeat' (first | intro _ | apply xL_bind | apply xL_ite | apply xL_sel | apply xLs_cons | exact xLs_nil | apply xl_fX1_checkArgument | apply xl_fX6_cohort | apply xl_fX1_take_p44 | apply xl_fX6_left | apply xl_fX1_take_p45)
theorem xl_fX1_take (a0 : Nat) (p0 : Int32) (p1 : Int32) (p2 : Int32) : xL (fX1_take a0 p0 p1 p2) := by
  unfold fX1_take
  with_reducible repeat' (first | intro _ | apply xL_bind | apply xL_ite | apply xL_sel | apply xLs_cons | exact xLs_nil | apply xl_fX1_herdWith | apply xl_fX1_take_p18)
theorem xl_fX0_take (p0 : Option Nat) (p1 : Int32) (p2 : Int32) (p3 : Int32) (p4 : Option Nat) : xL (fX0_take p0 p1 p2 p3 p4) := by
  unfold fX0_take
  with_reducible repeat' (first | intro _ | apply xL_bind | apply xL_pure | apply xL_stJ | apply xL_try | apply xL_sel | apply xLs_cons | exact xLs_nil | apply xl_fX1_take)
theorem xl_fX1_add_p40 (l0 : Nat) (l1 : Int32) (l2 : Int32) (l3 : Int32) (s0 : Int32) : xL (fX1_add_p40 l0 l1 l2 l3 s0) := by
  unfold fX1_add_p40
  with_reducible repeat' (first | intro _ | apply xL_bind | apply xL_pure | apply xL_gR | apply xL_sel | apply xLs_cons | exact xLs_nil | apply xl_fX1_checkState | apply xl_fX1_changed | apply xl_fX6_add | apply xl_fX10_total)
theorem xl_fX1_add_p18 (l0 : Nat) (l1 : Int32) (l2 : Int32) (l3 : Int32) (l4 : Option Nat) (s0 : Int32) : xL (fX1_add_p18 l0 l1 l2 l3 l4 s0) := by
  unfold fX1_add_p18
  with_reducible repeat' (first | intro _ | apply xL_bind | apply xL_ite | apply xL_sel | apply xLs_cons | exact xLs_nil | apply xl_fX1_checkArgument | apply xl_fX6_cohort | apply xl_fX1_add_p40)
theorem xl_fX1_add (a0 : Nat) (p0 : Int32) (p1 : Int32) (p2 : Int32) : xL (fX1_add a0 p0 p1 p2) := by
  unfold fX1_add
  with_reducible repeat' (first | intro _ | apply xL_bind | apply xL_ite | apply xL_sel | apply xLs_cons | exact xLs_nil | apply xl_fX1_herdWith | apply xl_fX1_add_p18)
theorem xl_fX0_add (p0 : Option Nat) (p1 : Int32) (p2 : Int32) (p3 : Int32) (p4 : Option Nat) : xL (fX0_add p0 p1 p2 p3 p4) := by
  unfold fX0_add
  with_reducible repeat' (first | intro _ | apply xL_bind | apply xL_pure | apply xL_stJ | apply xL_try | apply xL_sel | apply xLs_cons | exact xLs_nil | apply xl_fX1_add)
theorem xl_fX1_sick_p41 (l0 : Nat) (l1 : Int32) (l2 : Int32) (l3 : Int32) (l4 : Int32) (s0 : Int32) : xL (fX1_sick_p41 l0 l1 l2 l3 l4 s0) := by
  unfold fX1_sick_p41
  with_reducible repeat' (first | intro _ | apply xL_bind | apply xL_pure | apply xL_sel | apply xLs_cons | exact xLs_nil | apply xl_fX1_checkArgument | apply xl_fX1_changed | apply xl_fX6_sick)
theorem xl_fX1_sick_p40 (l0 : Nat) (l1 : Int32) (l2 : Int32) (l3 : Int32) (l4 : Int32) : xL (fX1_sick_p40 l0 l1 l2 l3 l4) := by
  unfold fX1_sick_p40
  with_reducible repeat' (first | intro _ | apply xl_fX1_sick_p41)
theorem xl_fX1_sick (a0 : Nat) (p0 : Int32) (p1 : Int32) (p2 : Int32) (p3 : Int32) : xL (fX1_sick a0 p0 p1 p2 p3) := by
  unfold fX1_sick
  with_reducible repeat' (first | intro _ | apply xL_bind | apply xL_ite | apply xL_gR | apply xL_gI | apply xL_sel | apply xLs_cons | exact xLs_nil | apply xl_fX1_herdWith | apply xl_fX1_inRange | apply xl_fX1_sick_p40 | apply xl_fX1_sick_p41)
theorem xl_fX0_sick (p0 : Option Nat) (p1 : Int32) (p2 : Int32) (p3 : Int32) (p4 : Int32) (p5 : Option Nat) : xL (fX0_sick p0 p1 p2 p3 p4 p5) := by
  unfold fX0_sick
  with_reducible repeat' (first | intro _ | apply xL_bind | apply xL_pure | apply xL_stJ | apply xL_try | apply xL_sel | apply xLs_cons | exact xLs_nil | apply xl_fX1_sick)
theorem xl_fX1_mark_p40 (l0 : Nat) (l1 : Int32) (l2 : Int32) (s0 : Int32) : xL (fX1_mark_p40 l0 l1 l2 s0) := by
  unfold fX1_mark_p40
  with_reducible repeat' (first | intro _ | apply xL_bind | apply xL_pure | apply xL_gI | apply xL_put | apply xL_sel | apply xLs_cons | exact xLs_nil | apply xl_fX1_checkState | apply xl_fX1_changed)
theorem xl_fX1_mark_p16 (l0 : Nat) (l1 : Int32) (l2 : Int32) (l3 : Option Nat) (s0 : Int32) : xL (fX1_mark_p16 l0 l1 l2 l3 s0) := by
  unfold fX1_mark_p16
  with_reducible repeat' (first | intro _ | apply xL_bind | apply xL_ite | apply xL_gR | apply xL_gI | apply xL_sel | apply xLs_cons | exact xLs_nil | apply xl_fX1_checkArgument | apply xl_fX10_total | apply xl_fX1_mark_p40)
theorem xl_fX1_mark (a0 : Nat) (p0 : Int32) (p1 : Int32) : xL (fX1_mark a0 p0 p1) := by
  unfold fX1_mark
  with_reducible repeat' (first | intro _ | apply xL_bind | apply xL_ite | apply xL_sel | apply xLs_cons | exact xLs_nil | apply xl_fX1_herd | apply xl_fX1_mark_p16)
theorem xl_fX0_mark (p0 : Option Nat) (p1 : Int32) (p2 : Int32) (p3 : Option Nat) : xL (fX0_mark p0 p1 p2 p3) := by
  unfold fX0_mark
  with_reducible repeat' (first | intro _ | apply xL_bind | apply xL_pure | apply xL_stJ | apply xL_try | apply xL_sel | apply xLs_cons | exact xLs_nil | apply xl_fX1_mark)
theorem xl_fX17_init (a0 : Nat) (p0 : Int32) (p1 : Int32) (p2 : Int32) (p3 : Int32) : xL (fX17_init a0 p0 p1 p2 p3) := by
  unfold fX17_init
  with_reducible repeat' (first | intro _ | apply xL_bind | apply xL_pure | apply xL_put)
theorem xl_fJ27_dec (p0 : Int32) (p1 : Int32) : xL (fJ27_dec p0 p1) := by
  unfold fJ27_dec
  with_reducible repeat' (first | intro _ | apply xL_let | apply xL_ite | apply xL_pure)
theorem xl_fJ27_addFirst (a0 : Nat) (p0 : Option Nat) : xL (fJ27_addFirst a0 p0) := by
  unfold fJ27_addFirst
  with_reducible repeat' (first | intro _ | apply xL_bind | apply xL_ite | apply xL_pure | apply xL_gR | apply xL_gI | apply xL_put | apply xL_stuck | apply xL_len | apply xL_stR | apply xL_sel | apply xLs_cons | exact xLs_nil | apply xl_fJ27_dec | apply xl_fJ27_grow)
theorem xl_fJ27_elementAt (p0 : Option Nat) (p1 : Int32) : xL (fJ27_elementAt p0 p1) := by
  unfold fJ27_elementAt
  with_reducible repeat' (first | intro _ | apply xL_bind | apply xL_pure | apply xL_ldR)
theorem xl_fJ27_pollLast (a0 : Nat) : xL (fJ27_pollLast a0) := by
  unfold fJ27_pollLast
  with_reducible repeat' (first | intro _ | apply xL_bind | apply xL_ite | apply xL_pure | apply xL_gR | apply xL_gI | apply xL_put | apply xL_len | apply xL_stR | apply xl_fJ27_dec | apply xl_fJ27_elementAt)
theorem xl_fJ27_removeLast (a0 : Nat) : xL (fJ27_removeLast a0) := by
  unfold fJ27_removeLast
  with_reducible repeat' (first | intro _ | apply xL_bind | apply xL_ite | apply xL_pure | apply xL_stuck | apply xL_sel | apply xLs_cons | exact xLs_nil | apply xl_fJ27_pollLast)
theorem xl_fX1_survey_p99 (l0 : Nat) (l2 : Int32) (l3 : Int32) (l6 : Option Nat) : xL (fX1_survey_p99 l0 l2 l3 l6) := by
  unfold fX1_survey_p99
  with_reducible repeat' (first | intro _ | apply xL_bind | apply xL_pure | apply xL_gR | apply xL_gI | apply xL_new | apply xL_sel | apply xLs_cons | exact xLs_nil | apply xl_fX17_init | apply xl_fJ27_addFirst | apply xl_fX17_estimate)
theorem xl_fX1_survey_p63 (l0 : Nat) (l1 : Int32) (l2 : Int32) (l3 : Int32) (s0 : Int32) : xL (fX1_survey_p63 l0 l1 l2 l3 s0) := by
  unfold fX1_survey_p63
  with_reducible repeat' (first | intro _ | apply xL_bind | apply xL_ite | apply xL_gR | apply xL_cst | apply xL_sel | apply xLs_cons | exact xLs_nil | apply xl_fX1_checkArgument | apply xl_fX1_changed | apply xl_fJ27_size | apply xl_fJ27_removeLast | apply xl_fX1_survey_p99)
theorem xl_fX1_survey_p62 (l0 : Nat) (l1 : Int32) (l2 : Int32) (l3 : Int32) : xL (fX1_survey_p62 l0 l1 l2 l3) := by
  unfold fX1_survey_p62
  with_reducible repeat' (first | intro _ | apply xl_fX1_survey_p63)
theorem xl_fX1_survey (a0 : Nat) (p0 : Int32) (p1 : Int32) (p2 : Int32) : xL (fX1_survey a0 p0 p1 p2) := by
  unfold fX1_survey
  with_reducible repeat' (first | intro _ | apply xL_bind | apply xL_ite | apply xL_gR | apply xL_gI | apply xL_sel | apply xLs_cons | exact xLs_nil | apply xl_fX1_herd | apply xl_fX10_total | apply xl_fX1_inRange | apply xl_fX1_survey_p62 | apply xl_fJ12_min | apply xl_fX1_survey_p63)
theorem xl_fX0_survey (p0 : Option Nat) (p1 : Int32) (p2 : Int32) (p3 : Int32) (p4 : Option Nat) : xL (fX0_survey p0 p1 p2 p3 p4) := by
  unfold fX0_survey
  with_reducible repeat' (first | intro _ | apply xL_bind | apply xL_pure | apply xL_stJ | apply xL_try | apply xL_sel | apply xLs_cons | exact xLs_nil | apply xl_fX1_survey)
theorem xl_fX1_kindOf (p0 : Int32) : xL (fX1_kindOf p0) := by
  unfold fX1_kindOf
  with_reducible repeat' (first | intro _ | apply xL_bind | apply xL_ite | apply xL_pure | apply xL_con)
theorem xl_fX18_init (a0 : Nat) (p0 : Int32) (p1 : Option Nat) (p2 : Int32) (p3 : Int32) (p4 : Int32) (p5 : Int32) : xL (fX18_init a0 p0 p1 p2 p3 p4 p5) := by
  unfold fX18_init
  with_reducible repeat' (first | intro _ | apply xL_bind | apply xL_pure | apply xL_put)
theorem xl_fX1_plan_p154 : ∀ n y0 y1 y2, xL (fX1_plan_p154 n y0 y1 y2) := by
  intro n
  induction n with
  | zero => intros; rw [fX1_plan_p154]; exact xL_stuck
  | succ n ih =>
    intros
    rw [fX1_plan_p154]
    with_reducible repeat' (first | intro _ | apply xL_bind | apply xL_let | apply xL_ite | apply xL_pure | apply xL_stuck | apply xL_sel | apply xLs_cons | exact xLs_nil | apply xl_fX2_planAt | apply ih)
theorem xl_fX1_plan_p96 (l0 : Nat) (l1 : Int32) (l2 : Int32) (l3 : Int32) (l4 : Int32) (l5 : Int32) (s0 : Int32) : xL (fX1_plan_p96 l0 l1 l2 l3 l4 l5 s0) := by
  unfold fX1_plan_p96
  with_reducible repeat' (first | intro _ | apply xL_bind | apply xL_let | apply xL_gR | apply xL_gI | apply xL_put | apply xL_new | apply xL_sel | apply xLs_cons | exact xLs_nil | apply xl_fX1_checkState | apply xl_fX1_record | apply xl_fX1_kindOf | apply xl_fX18_init | apply xl_fJ19_add | apply xl_fX1_plan_p154)
theorem xl_fX1_plan_p73 (l0 : Nat) (l1 : Int32) (l2 : Int32) (l3 : Int32) (l4 : Int32) (l5 : Int32) (s0 : Int32) : xL (fX1_plan_p73 l0 l1 l2 l3 l4 l5 s0) := by
  unfold fX1_plan_p73
  with_reducible repeat' (first | intro _ | apply xL_bind | apply xL_ite | apply xL_gR | apply xL_sel | apply xLs_cons | exact xLs_nil | apply xl_fX1_checkArgument | apply xl_fJ19_size | apply xl_fX1_plan_p96)
theorem xl_fX1_plan_p72 (l0 : Nat) (l1 : Int32) (l2 : Int32) (l3 : Int32) (l4 : Int32) (l5 : Int32) : xL (fX1_plan_p72 l0 l1 l2 l3 l4 l5) := by
  unfold fX1_plan_p72
  with_reducible repeat' (first | intro _ | apply xl_fX1_plan_p73)
theorem xl_fX1_plan_p35 (l0 : Nat) (l1 : Int32) (l2 : Int32) (l3 : Int32) (l4 : Int32) (l5 : Int32) (s0 : Int32) : xL (fX1_plan_p35 l0 l1 l2 l3 l4 l5 s0) := by
  unfold fX1_plan_p35
  with_reducible repeat' (first | intro _ | apply xL_bind | apply xL_ite | apply xL_gR | apply xL_gI | apply xl_fX1_inRange | apply xl_fX1_plan_p72 | apply xl_fX1_plan_p73)
theorem xl_fX1_plan (a0 : Nat) (p0 : Int32) (p1 : Int32) (p2 : Int32) (p3 : Int32) (p4 : Int32) : xL (fX1_plan a0 p0 p1 p2 p3 p4) := by
  unfold fX1_plan
  with_reducible repeat' (first | intro _ | apply xL_bind | apply xL_ite | apply xL_sel | apply xLs_cons | exact xLs_nil | apply xl_fX1_herdWith | apply xl_fX1_inRange | apply xl_fX1_plan_p35)
theorem xl_fX0_plan (p0 : Option Nat) (p1 : Int32) (p2 : Int32) (p3 : Int32) (p4 : Int32) (p5 : Int32) (p6 : Option Nat) : xL (fX0_plan p0 p1 p2 p3 p4 p5 p6) := by
  unfold fX0_plan
  with_reducible repeat' (first | intro _ | apply xL_bind | apply xL_pure | apply xL_stJ | apply xL_try | apply xL_sel | apply xLs_cons | exact xLs_nil | apply xl_fX1_plan)
theorem xl_fX1_cancel_p18 (l0 : Nat) (l2 : Option Nat) (s0 : Int32) : xL (fX1_cancel_p18 l0 l2 s0) := by
  unfold fX1_cancel_p18
  with_reducible repeat' (first | intro _ | apply xL_bind | apply xL_pure | apply xL_gR | apply xL_sel | apply xLs_cons | exact xLs_nil | apply xl_fX1_checkThere | apply xl_fX1_record | apply xl_fX2_drop | apply xl_fJ19_size)
theorem xl_fX1_cancel (a0 : Nat) (p0 : Int32) : xL (fX1_cancel a0 p0) := by
  unfold fX1_cancel
  with_reducible repeat' (first | intro _ | apply xL_bind | apply xL_ite | apply xL_gR | apply xL_sel | apply xLs_cons | exact xLs_nil | apply xl_fX2_planAt | apply xl_fX1_cancel_p18)
theorem xl_fX0_cancel (p0 : Option Nat) (p1 : Int32) (p2 : Option Nat) : xL (fX0_cancel p0 p1 p2) := by
  unfold fX0_cancel
  with_reducible repeat' (first | intro _ | apply xL_bind | apply xL_pure | apply xL_stJ | apply xL_try | apply xL_sel | apply xLs_cons | exact xLs_nil | apply xl_fX1_cancel)
theorem xl_fX1_setSurvival (a0 : Nat) (p0 : Int32) (p1 : Int32) (p2 : Int32) : xL (fX1_setSurvival a0 p0 p1 p2) := by
  unfold fX1_setSurvival
  with_reducible repeat' (first | intro _ | apply xL_bind | apply xL_pure | apply xL_gR | apply xL_ldI | apply xL_stI | apply xL_sel | apply xLs_cons | exact xLs_nil | apply xl_fX1_herdWith | apply xl_fX1_inRange | apply xl_fX1_checkArgument | apply xl_fX1_changed)
theorem xl_fX0_setSurvival (p0 : Option Nat) (p1 : Int32) (p2 : Int32) (p3 : Int32) (p4 : Option Nat) : xL (fX0_setSurvival p0 p1 p2 p3 p4) := by
  unfold fX0_setSurvival
  with_reducible repeat' (first | intro _ | apply xL_bind | apply xL_pure | apply xL_stJ | apply xL_try | apply xL_sel | apply xLs_cons | exact xLs_nil | apply xl_fX1_setSurvival)
theorem xl_fX1_setRoom (a0 : Nat) (p0 : Int32) (p1 : Int32) : xL (fX1_setRoom a0 p0 p1) := by
  unfold fX1_setRoom
  with_reducible repeat' (first | intro _ | apply xL_bind | apply xL_pure | apply xL_gI | apply xL_put | apply xL_sel | apply xLs_cons | exact xLs_nil | apply xl_fX1_herd | apply xl_fX1_inRange | apply xl_fX1_checkArgument | apply xl_fX1_changed)
theorem xl_fX0_setRoom (p0 : Option Nat) (p1 : Int32) (p2 : Int32) (p3 : Option Nat) : xL (fX0_setRoom p0 p1 p2 p3) := by
  unfold fX0_setRoom
  with_reducible repeat' (first | intro _ | apply xL_bind | apply xL_pure | apply xL_stJ | apply xL_try | apply xL_sel | apply xLs_cons | exact xLs_nil | apply xl_fX1_setRoom)
theorem xl_fX1_format (a0 : Nat) (p0 : Option Nat) : xL (fX1_format a0 p0) := by
  unfold fX1_format
  with_reducible repeat' (first | intro _ | apply xL_bind | apply xL_pure | apply xL_gR | apply xL_put | apply xL_sel | apply xLs_cons | exact xLs_nil | apply xl_fJ8_toString | apply xl_fJ9_length)
theorem xl_fJ7_appendNull__J8_p76 (l0 : Nat) (l1 : Int32) : xL (fJ7_appendNull__J8_p76 l0 l1) := by
  unfold fJ7_appendNull__J8_p76
  with_reducible repeat' (first | intro _ | apply xL_bind | apply xL_pure | apply xL_put)
theorem xl_fJ7_appendNull__J8 (a0 : Nat) : xL (fJ7_appendNull__J8 a0) := by
  unfold fJ7_appendNull__J8
  with_reducible repeat' (first | intro _ | apply xL_bind | apply xL_let | apply xL_ite | apply xL_gR | apply xL_gI | apply xL_stuck | apply xL_stI | apply xL_sel | apply xLs_cons | exact xLs_nil | apply xl_fJ7_ensureCapacityInternal__J8 | apply xl_fJ7_isLatin1__J8 | apply xl_fJ7_appendNull__J8_p76)
theorem xl_fJ7_inflateIfNeededFor__J8 (a0 : Nat) (p0 : Option Nat) : xL (fJ7_inflateIfNeededFor__J8 a0 p0) := by
  unfold fJ7_inflateIfNeededFor__J8
  with_reducible repeat' (first | intro _ | apply xL_bind | apply xL_ite | apply xL_pure | apply xL_gI | apply xL_sel | apply xLs_cons | exact xLs_nil | apply xl_fJ9_coder | apply xl_fJ7_inflate__J8)
theorem xl_fJ15_inflate (p0 : Option Nat) (p1 : Int32) (p2 : Option Nat) (p3 : Int32) (p4 : Int32) : xL (fJ15_inflate p0 p1 p2 p3 p4) := by
  unfold fJ15_inflate
  with_reducible repeat' (first | intro _ | apply xL_stuck)
theorem xl_fJ9_getBytes (a0 : Nat) (p0 : Option Nat) (p1 : Int32) (p2 : Int32) : xL (fJ9_getBytes a0 p0 p1 p2) := by
  unfold fJ9_getBytes
  with_reducible repeat' (first | intro _ | apply xL_bind | apply xL_ite | apply xL_pure | apply xL_gR | apply xL_len | apply xL_cpI | apply xL_sel | apply xLs_cons | exact xLs_nil | apply xl_fJ9_coder | apply xl_fJ15_inflate)
theorem xl_fJ7_putStringAt__J8 (a0 : Nat) (p0 : Int32) (p1 : Option Nat) : xL (fJ7_putStringAt__J8 a0 p0 p1) := by
  unfold fJ7_putStringAt__J8
  with_reducible repeat' (first | intro _ | apply xL_bind | apply xL_pure | apply xL_gR | apply xL_gI | apply xL_sel | apply xLs_cons | exact xLs_nil | apply xl_fJ7_inflateIfNeededFor__J8 | apply xl_fJ9_getBytes)
theorem xl_fJ7_append__J8 (a0 : Nat) (p0 : Option Nat) : xL (fJ7_append__J8 a0 p0) := by
  unfold fJ7_append__J8
  with_reducible repeat' (first | intro _ | apply xL_bind | apply xL_ite | apply xL_pure | apply xL_gI | apply xL_put | apply xL_sel | apply xLs_cons | exact xLs_nil | apply xl_fJ7_appendNull__J8 | apply xl_fJ9_length | apply xl_fJ7_ensureCapacityInternal__J8 | apply xl_fJ7_putStringAt__J8)
theorem xl_fJ8_append (a0 : Nat) (p0 : Option Nat) : xL (fJ8_append a0 p0) := by
  unfold fJ8_append
  with_reducible repeat' (first | intro _ | apply xL_bind | apply xL_pure | apply xL_sel | apply xLs_cons | exact xLs_nil | apply xl_fJ7_append__J8)
theorem xl_fJ17_stringSize_p16 : ∀ n y0 y1 y2 y3, xL (fJ17_stringSize_p16 n y0 y1 y2 y3) := by
  intro n
  induction n with
  | zero => intros; rw [fJ17_stringSize_p16]; exact xL_stuck
  | succ n ih =>
    intros
    rw [fJ17_stringSize_p16]
    with_reducible repeat' (first | intro _ | apply xL_let | apply xL_ite | apply xL_pure | apply xL_stuck | apply ih)
theorem xl_fJ17_stringSize_p11 (l0 : Int32) (l1 : Int32) : xL (fJ17_stringSize_p11 l0 l1) := by
  unfold fJ17_stringSize_p11
  with_reducible repeat' (first | intro _ | apply xL_let | apply xl_fJ17_stringSize_p16)
theorem xl_fJ17_stringSize (p0 : Int32) : xL (fJ17_stringSize p0) := by
  unfold fJ17_stringSize
  with_reducible repeat' (first | intro _ | apply xL_let | apply xL_ite | apply xl_fJ17_stringSize_p11)
theorem xl_fJ17_getChars_p104 (l2 : Option Nat) (l5 : Int32) (l6 : Int32) : xL (fJ17_getChars_p104 l2 l5 l6) := by
  unfold fJ17_getChars_p104
  with_reducible repeat' (first | intro _ | apply xL_bind | apply xL_let | apply xL_ite | apply xL_pure | apply xL_stI)
theorem xl_fJ17_getChars_p22 : ∀ n y0 y1 y2 y3, xL (fJ17_getChars_p22 n y0 y1 y2 y3) := by
  intro n
  induction n with
  | zero => intros; rw [fJ17_getChars_p22]; exact xL_stuck
  | succ n ih =>
    intros
    rw [fJ17_getChars_p22]
    with_reducible repeat' (first | intro _ | apply xL_bind | apply xL_let | apply xL_ite | apply xL_stuck | apply xL_con | apply xL_ldI | apply xL_stI | apply xL_dv | apply xl_fJ17_getChars_p104 | apply ih)
theorem xl_fJ17_getChars_p12 (l0 : Int32) (l2 : Option Nat) (l5 : Int32) (s0 : Int32) : xL (fJ17_getChars_p12 l0 l2 l5 s0) := by
  unfold fJ17_getChars_p12
  with_reducible repeat' (first | intro _ | apply xL_let | apply xL_ite | apply xl_fJ17_getChars_p22)
theorem xl_fJ17_getChars (p0 : Int32) (p1 : Int32) (p2 : Option Nat) : xL (fJ17_getChars p0 p1 p2) := by
  unfold fJ17_getChars
  with_reducible repeat' (first | intro _ | apply xL_ite | apply xl_fJ17_getChars_p12)
theorem xl_fJ7_append_2__J8_p48 (l0 : Nat) (l3 : Int32) : xL (fJ7_append_2__J8_p48 l0 l3) := by
  unfold fJ7_append_2__J8_p48
  with_reducible repeat' (first | intro _ | apply xL_bind | apply xL_pure | apply xL_put)
theorem xl_fJ7_append_2__J8 (a0 : Nat) (p0 : Int32) : xL (fJ7_append_2__J8 a0 p0) := by
  unfold fJ7_append_2__J8
  with_reducible repeat' (first | intro _ | apply xL_bind | apply xL_let | apply xL_ite | apply xL_gR | apply xL_gI | apply xL_stuck | apply xL_sel | apply xLs_cons | exact xLs_nil | apply xl_fJ17_stringSize | apply xl_fJ7_ensureCapacityInternal__J8 | apply xl_fJ7_isLatin1__J8 | apply xl_fJ17_getChars | apply xl_fJ7_append_2__J8_p48)
theorem xl_fJ8_append_2 (a0 : Nat) (p0 : Int32) : xL (fJ8_append_2 a0 p0) := by
  unfold fJ8_append_2
  with_reducible repeat' (first | intro _ | apply xL_bind | apply xL_pure | apply xL_sel | apply xLs_cons | exact xLs_nil | apply xl_fJ7_append_2__J8)
theorem xl_fJ8_append_4 (a0 : Nat) (p0 : Option Nat) : xL (fJ8_append_4 a0 p0) := by
  unfold fJ8_append_4
  with_reducible repeat' (first | intro _ | apply xL_bind | apply xL_pure | apply xL_sel | apply xLs_cons | exact xLs_nil | apply xl_fJ8_append)
theorem xl_fJ7_init_2__J8_p53 (l0 : Nat) (l1 : Option Nat) (s0 : Option Nat) (s1 : Nat) : xL (fJ7_init_2__J8_p53 l0 l1 s0 s1) := by
  unfold fJ7_init_2__J8_p53
  with_reducible repeat' (first | intro _ | apply xL_bind | apply xL_pure | apply xL_put | apply xL_sel | apply xLs_cons | exact xLs_nil | apply xl_fJ8_append_4)
theorem xl_fJ7_init_2__J8_p24 (l0 : Nat) (l1 : Option Nat) (s0 : Int32) : xL (fJ7_init_2__J8_p24 l0 l1 s0) := by
  unfold fJ7_init_2__J8_p24
  with_reducible repeat' (first | intro _ | apply xL_bind | apply xL_ite | apply xL_stuck | apply xL_newA | apply xL_pN | apply xL_sel | apply xLs_cons | exact xLs_nil | apply xl_fJ9_coder | apply xl_fJ7_init_2__J8_p53)
theorem xl_fJ7_init_2__J8 (a0 : Nat) (p0 : Option Nat) : xL (fJ7_init_2__J8 a0 p0) := by
  unfold fJ7_init_2__J8
  with_reducible repeat' (first | intro _ | apply xL_bind | apply xL_ite | apply xL_sel | apply xLs_cons | exact xLs_nil | apply xl_fJ9_length | apply xl_fJ7_init_2__J8_p24)
theorem xl_fJ8_init_2 (a0 : Nat) (p0 : Option Nat) : xL (fJ8_init_2 a0 p0) := by
  unfold fJ8_init_2
  with_reducible repeat' (first | intro _ | apply xL_bind | apply xL_pure | apply xl_fJ7_init_2__J8)
theorem xl_fX1_formatSpecies_p105 (l0 : Nat) (l3 : Nat) : xL (fX1_formatSpecies_p105 l0 l3) := by
  unfold fX1_formatSpecies_p105
  with_reducible repeat' (first | intro _ | apply xL_bind | apply xL_pure | apply xL_sel | apply xLs_cons | exact xLs_nil | apply xl_fX1_format)
theorem xl_fX1_formatSpecies_p31 : ∀ n y0 y1 y2 y3, xL (fX1_formatSpecies_p31 n y0 y1 y2 y3) := by
  intro n
  induction n with
  | zero => intros; rw [fX1_formatSpecies_p31]; exact xL_stuck
  | succ n ih =>
    intros
    rw [fX1_formatSpecies_p31]
    with_reducible repeat' (first | intro _ | apply xL_bind | apply xL_let | apply xL_ite | apply xL_gR | apply xL_gI | apply xL_stuck | apply xL_con | apply xL_sel | apply xLs_cons | exact xLs_nil | apply xl_fJ8_append | apply xl_fX10_total | apply xl_fJ8_append_2 | apply xl_fX1_formatSpecies_p105 | apply xl_fJ8_append_3 | apply xl_fX6_cohort | apply ih)
theorem xl_fX1_formatSpecies (a0 : Nat) (p0 : Int32) : xL (fX1_formatSpecies a0 p0) := by
  unfold fX1_formatSpecies
  with_reducible repeat' (first | intro _ | apply xL_bind | apply xL_let | apply xL_gR | apply xL_new | apply xL_sel | apply xLs_cons | exact xLs_nil | apply xl_fX1_herd | apply xl_fJ8_init_2 | apply xl_fJ8_append_3 | apply xl_fX1_formatSpecies_p31)
theorem xl_fX0_formatSpecies (p0 : Option Nat) (p1 : Int32) (p2 : Option Nat) : xL (fX0_formatSpecies p0 p1 p2) := by
  unfold fX0_formatSpecies
  with_reducible repeat' (first | intro _ | apply xL_bind | apply xL_pure | apply xL_stJ | apply xL_try | apply xL_sel | apply xLs_cons | exact xLs_nil | apply xl_fX1_formatSpecies)
theorem xl_fX1_formatLedger (a0 : Nat) (p0 : Int32) (p1 : Int32) : xL (fX1_formatLedger a0 p0 p1) := by
  unfold fX1_formatLedger
  with_reducible repeat' (first | intro _ | apply xL_bind | apply xL_pure | apply xL_gI | apply xL_new | apply xL_con | apply xL_sel | apply xLs_cons | exact xLs_nil | apply xl_fX1_ledgerOf | apply xl_fJ8_init | apply xl_fJ8_append_2 | apply xl_fJ8_append | apply xl_fJ8_append_3 | apply xl_fX1_format)
theorem xl_fX0_formatLedger (p0 : Option Nat) (p1 : Int32) (p2 : Int32) (p3 : Option Nat) : xL (fX0_formatLedger p0 p1 p2 p3) := by
  unfold fX0_formatLedger
  with_reducible repeat' (first | intro _ | apply xL_bind | apply xL_pure | apply xL_stJ | apply xL_try | apply xL_sel | apply xLs_cons | exact xLs_nil | apply xl_fX1_formatLedger)
theorem xl_fX1_init (a0 : Nat) : xL (fX1_init a0) := by
  unfold fX1_init
  with_reducible repeat' (first | intro _ | apply xL_bind | apply xL_pure | apply xL_put | apply xL_new | apply xL_con | apply xL_newA | apply xl_fX2_init | apply xl_fJ19_init)
theorem xl_fX1_appendWord_p3 : ∀ n y0 y1 y2, xL (fX1_appendWord_p3 n y0 y1 y2) := by
  intro n
  induction n with
  | zero => intros; rw [fX1_appendWord_p3]; exact xL_stuck
  | succ n ih =>
    intros
    rw [fX1_appendWord_p3]
    with_reducible repeat' (first | intro _ | apply xL_bind | apply xL_let | apply xL_ite | apply xL_pure | apply xL_gR | apply xL_gI | apply xL_put | apply xL_stuck | apply xL_stI | apply ih)
theorem xl_fX1_appendWord (a0 : Nat) (p0 : Int32) : xL (fX1_appendWord a0 p0) := by
  unfold fX1_appendWord
  with_reducible repeat' (first | intro _ | apply xL_let | apply xl_fX1_appendWord_p3)
theorem xl_fX1_append (a0 : Nat) (p0 : Int32) (p1 : Int32) (p2 : Int32) (p3 : Int32) (p4 : Int32) : xL (fX1_append a0 p0 p1 p2 p3 p4) := by
  unfold fX1_append
  with_reducible repeat' (first | intro _ | apply xL_bind | apply xL_ite | apply xL_pure | apply xL_gI | apply xL_sel | apply xLs_cons | exact xLs_nil | apply xl_fX1_appendWord)
theorem xl_fX1_truncate (a0 : Nat) (p0 : Int32) : xL (fX1_truncate a0 p0) := by
  unfold fX1_truncate
  with_reducible repeat' (first | intro _ | apply xL_bind | apply xL_ite | apply xL_pure | apply xL_gI | apply xL_put | apply xl_fX1_inRange)
theorem xl_fX1_errorOffset (a0 : Nat) : xL (fX1_errorOffset a0) := by
  unfold fX1_errorOffset
  with_reducible repeat' (first | intro _ | apply xL_bind | apply xL_pure | apply xL_gI)
theorem xl_fX1_errorKind (a0 : Nat) : xL (fX1_errorKind a0) := by
  unfold fX1_errorKind
  with_reducible repeat' (first | intro _ | apply xL_bind | apply xL_pure | apply xL_gI)
theorem xl_fX1_speciesNamed_p66 : ∀ n y0 y1 y2, xL (fX1_speciesNamed_p66 n y0 y1 y2) := by
  intro n
  induction n with
  | zero => intros; rw [fX1_speciesNamed_p66]; exact xL_stuck
  | succ n ih =>
    intros
    rw [fX1_speciesNamed_p66]
    with_reducible repeat' (first | intro _ | apply xL_bind | apply xL_let | apply xL_ite | apply xL_pure | apply xL_gR | apply xL_stuck | apply xL_cst | apply xL_sel | apply xLs_cons | exact xLs_nil | apply xl_fJ20_hasNext | apply xl_fJ20_next | apply xl_fJ9_equals | apply ih)
theorem xl_fX1_speciesNamed_p10 : ∀ n y0 y1 y2, xL (fX1_speciesNamed_p10 n y0 y1 y2) := by
  intro n
  induction n with
  | zero => intros; rw [fX1_speciesNamed_p10]; exact xL_stuck
  | succ n ih =>
    intros
    rw [fX1_speciesNamed_p10]
    with_reducible repeat' (first | intro _ | apply xL_bind | apply xL_let | apply xL_ite | apply xL_gR | apply xL_gI | apply xL_put | apply xL_stuck | apply xL_ldI | apply xL_sel | apply xLs_cons | exact xLs_nil | apply xl_fJ8_toString | apply xl_fJ2_iterator | apply xl_fX1_speciesNamed_p66 | apply xl_fJ8_append_3 | apply ih)
theorem xl_fX1_speciesNamed (a0 : Nat) : xL (fX1_speciesNamed a0) := by
  unfold fX1_speciesNamed
  with_reducible repeat' (first | intro _ | apply xL_bind | apply xL_let | apply xL_new | apply xl_fJ8_init | apply xl_fX1_speciesNamed_p10)
theorem xl_fX9_isBalanced (a0 : Nat) : xL (fX9_isBalanced a0) := by
  unfold fX9_isBalanced
  with_reducible repeat' (first | intro _ | apply xL_bind | apply xL_ite | apply xL_pure | apply xL_gI)
theorem xl_fX1_isBalanced_p97 (k13 : Nat → Option Nat → xM (Int32)) (k51 : Nat → Option Nat → Option Nat → Int32 → Option Nat → xM (Int32)) (l0 : Nat) (l1 : Option Nat) (l2 : Option Nat) (l4 : Option Nat) (l5 : Option Nat) (h_k13 : ∀ y0 y1, xL (k13 y0 y1)) (h_k51 : ∀ y0 y1 y2 y3 y4, xL (k51 y0 y1 y2 y3 y4)) : xL (fX1_isBalanced_p97 k13 k51 l0 l1 l2 l4 l5) := by
  unfold fX1_isBalanced_p97
  with_reducible repeat' (first | intro _ | apply xL_bind | apply xL_gI | apply h_k13 | apply h_k51)
theorem xl_fX1_isBalanced_p150 (k13 : Nat → Option Nat → xM (Int32)) (l0 : Nat) (l1 : Option Nat) (h_k13 : ∀ y0 y1, xL (k13 y0 y1)) : xL (fX1_isBalanced_p150 k13 l0 l1) := by
  unfold fX1_isBalanced_p150
  with_reducible repeat' (first | intro _ | apply h_k13)
theorem xl_fX1_isBalanced_p51 (k13 : Nat → Option Nat → xM (Int32)) (h_k13 : ∀ y0 y1, xL (k13 y0 y1)) : ∀ n y0 y1 y2 y3 y4, xL (fX1_isBalanced_p51 k13 n y0 y1 y2 y3 y4) := by
  intro n
  induction n with
  | zero => intros; rw [fX1_isBalanced_p51]; exact xL_stuck
  | succ n ih =>
    intros
    rw [fX1_isBalanced_p51]
    with_reducible repeat' (first | intro _ | apply xL_bind | apply xL_ite | apply xL_pure | apply xL_gR | apply xL_gI | apply xL_stuck | apply xL_cst | apply xL_sel | apply xLs_cons | exact xLs_nil | apply h_k13 | apply xl_fJ38_hasNext__J43 | apply xl_fX6_ledger | apply xl_fX9_isBalanced | apply xl_fX1_isBalanced_p150 | apply xl_fJ43_next | apply xl_fX1_isBalanced_p97 | apply ih)
theorem xl_fX1_isBalanced_p13 : ∀ n y0 y1, xL (fX1_isBalanced_p13 n y0 y1) := by
  intro n
  induction n with
  | zero => intros; rw [fX1_isBalanced_p13]; exact xL_stuck
  | succ n ih =>
    intros
    rw [fX1_isBalanced_p13]
    with_reducible repeat' (first | intro _ | apply xL_bind | apply xL_let | apply xL_ite | apply xL_pure | apply xL_gR | apply xL_stuck | apply xL_cst | apply xL_sel | apply xLs_cons | exact xLs_nil | apply xl_fJ20_hasNext | apply xl_fJ20_next | apply xl_fJ29_values | apply xl_fJ2_iterator | apply xl_fJ18_iterator__J19 | apply xl_fJ40_iterator | apply xl_fJ27_iterator | apply xl_fJ37_iterator | apply xl_fJ45_iterator | apply xl_fX1_isBalanced_p51 | apply ih)
theorem xl_fX1_isBalanced (a0 : Nat) : xL (fX1_isBalanced a0) := by
  unfold fX1_isBalanced
  with_reducible repeat' (first | intro _ | apply xL_bind | apply xL_gR | apply xL_sel | apply xLs_cons | exact xLs_nil | apply xl_fJ2_iterator | apply xl_fX1_isBalanced_p13)
theorem xl_fJ29_fixAfterDeletion_p183 (k0 : Nat → Option Nat → xM (Unit)) (l0 : Nat) (l1 : Option Nat) (h_k0 : ∀ y0 y1, xL (k0 y0 y1)) : xL (fJ29_fixAfterDeletion_p183 k0 l0 l1) := by
  unfold fJ29_fixAfterDeletion_p183
  with_reducible repeat' (first | intro _ | apply h_k0)
theorem xl_fJ29_fixAfterDeletion_p143 (k0 : Nat → Option Nat → xM (Unit)) (l0 : Nat) (l1 : Option Nat) (l2 : Option Nat) (h_k0 : ∀ y0 y1, xL (k0 y0 y1)) : xL (fJ29_fixAfterDeletion_p143 k0 l0 l1 l2) := by
  unfold fJ29_fixAfterDeletion_p143
  with_reducible repeat' (first | intro _ | apply xL_bind | apply xL_gR | apply xL_sel | apply xLs_cons | exact xLs_nil | apply h_k0 | apply xl_fJ29_parentOf | apply xl_fJ29_colorOf | apply xl_fJ29_setColor | apply xl_fJ29_rightOf | apply xl_fJ29_rotateLeft | apply xl_fJ29_fixAfterDeletion_p183)
theorem xl_fJ29_fixAfterDeletion_p106 (k0 : Nat → Option Nat → xM (Unit)) (l0 : Nat) (l1 : Option Nat) (l2 : Option Nat) (h_k0 : ∀ y0 y1, xL (k0 y0 y1)) : xL (fJ29_fixAfterDeletion_p106 k0 l0 l1 l2) := by
  unfold fJ29_fixAfterDeletion_p106
  with_reducible repeat' (first | intro _ | apply xL_bind | apply xL_ite | apply xL_sel | apply xLs_cons | exact xLs_nil | apply h_k0 | apply xl_fJ29_rightOf | apply xl_fJ29_colorOf | apply xl_fJ29_leftOf | apply xl_fJ29_setColor | apply xl_fJ29_rotateRight | apply xl_fJ29_parentOf | apply xl_fJ29_fixAfterDeletion_p143)
theorem xl_fJ29_fixAfterDeletion_p71 (k0 : Nat → Option Nat → xM (Unit)) (l0 : Nat) (l1 : Option Nat) (l2 : Option Nat) (h_k0 : ∀ y0 y1, xL (k0 y0 y1)) : xL (fJ29_fixAfterDeletion_p71 k0 l0 l1 l2) := by
  unfold fJ29_fixAfterDeletion_p71
  with_reducible repeat' (first | intro _ | apply xL_bind | apply xL_ite | apply h_k0 | apply xl_fJ29_leftOf | apply xl_fJ29_colorOf | apply xl_fJ29_rightOf | apply xl_fJ29_setColor | apply xl_fJ29_parentOf | apply xl_fJ29_fixAfterDeletion_p183 | apply xl_fJ29_fixAfterDeletion_p106)
theorem xl_fJ29_fixAfterDeletion_p342 (k0 : Nat → Option Nat → xM (Unit)) (l0 : Nat) (l1 : Option Nat) (h_k0 : ∀ y0 y1, xL (k0 y0 y1)) : xL (fJ29_fixAfterDeletion_p342 k0 l0 l1) := by
  unfold fJ29_fixAfterDeletion_p342
  with_reducible repeat' (first | intro _ | apply h_k0)
theorem xl_fJ29_fixAfterDeletion_p302 (k0 : Nat → Option Nat → xM (Unit)) (l0 : Nat) (l1 : Option Nat) (l2 : Option Nat) (h_k0 : ∀ y0 y1, xL (k0 y0 y1)) : xL (fJ29_fixAfterDeletion_p302 k0 l0 l1 l2) := by
  unfold fJ29_fixAfterDeletion_p302
  with_reducible repeat' (first | intro _ | apply xL_bind | apply xL_gR | apply xL_sel | apply xLs_cons | exact xLs_nil | apply h_k0 | apply xl_fJ29_parentOf | apply xl_fJ29_colorOf | apply xl_fJ29_setColor | apply xl_fJ29_leftOf | apply xl_fJ29_rotateRight | apply xl_fJ29_fixAfterDeletion_p342)
theorem xl_fJ29_fixAfterDeletion_p265 (k0 : Nat → Option Nat → xM (Unit)) (l0 : Nat) (l1 : Option Nat) (l2 : Option Nat) (h_k0 : ∀ y0 y1, xL (k0 y0 y1)) : xL (fJ29_fixAfterDeletion_p265 k0 l0 l1 l2) := by
  unfold fJ29_fixAfterDeletion_p265
  with_reducible repeat' (first | intro _ | apply xL_bind | apply xL_ite | apply xL_sel | apply xLs_cons | exact xLs_nil | apply h_k0 | apply xl_fJ29_leftOf | apply xl_fJ29_colorOf | apply xl_fJ29_rightOf | apply xl_fJ29_setColor | apply xl_fJ29_rotateLeft | apply xl_fJ29_parentOf | apply xl_fJ29_fixAfterDeletion_p302)
theorem xl_fJ29_fixAfterDeletion_p230 (k0 : Nat → Option Nat → xM (Unit)) (l0 : Nat) (l1 : Option Nat) (l2 : Option Nat) (h_k0 : ∀ y0 y1, xL (k0 y0 y1)) : xL (fJ29_fixAfterDeletion_p230 k0 l0 l1 l2) := by
  unfold fJ29_fixAfterDeletion_p230
  with_reducible repeat' (first | intro _ | apply xL_bind | apply xL_ite | apply h_k0 | apply xl_fJ29_rightOf | apply xl_fJ29_colorOf | apply xl_fJ29_leftOf | apply xl_fJ29_setColor | apply xl_fJ29_parentOf | apply xl_fJ29_fixAfterDeletion_p342 | apply xl_fJ29_fixAfterDeletion_p265)
theorem xl_fJ29_fixAfterDeletion_p345 (l1 : Option Nat) : xL (fJ29_fixAfterDeletion_p345 l1) := by
  unfold fJ29_fixAfterDeletion_p345
  with_reducible repeat' (first | intro _ | apply xL_bind | apply xL_pure | apply xl_fJ29_setColor)
theorem xl_fJ29_fixAfterDeletion_p0 : ∀ n y0 y1, xL (fJ29_fixAfterDeletion_p0 n y0 y1) := by
  intro n
  induction n with
  | zero => intros; rw [fJ29_fixAfterDeletion_p0]; exact xL_stuck
  | succ n ih =>
    intros
    rw [fJ29_fixAfterDeletion_p0]
    with_reducible repeat' (first | intro _ | apply xL_bind | apply xL_ite | apply xL_gR | apply xL_stuck | apply xL_sel | apply xLs_cons | exact xLs_nil | apply xl_fJ29_fixAfterDeletion_p345 | apply xl_fJ29_colorOf | apply xl_fJ29_parentOf | apply xl_fJ29_leftOf | apply xl_fJ29_rightOf | apply xl_fJ29_setColor | apply xl_fJ29_rotateLeft | apply xl_fJ29_fixAfterDeletion_p71 | apply xl_fJ29_rotateRight | apply xl_fJ29_fixAfterDeletion_p230 | apply ih)
theorem xl_fJ29_fixAfterDeletion (a0 : Nat) (p0 : Option Nat) : xL (fJ29_fixAfterDeletion a0 p0) := by
  unfold fJ29_fixAfterDeletion
  with_reducible repeat' (first | intro _ | apply xl_fJ29_fixAfterDeletion_p0)
theorem xl_fJ29_deleteEntry_p133 (l0 : Nat) (l1 : Option Nat) (l2 : Option Nat) : xL (fJ29_deleteEntry_p133 l0 l1 l2) := by
  unfold fJ29_deleteEntry_p133
  with_reducible repeat' (first | intro _ | apply xL_bind | apply xL_ite | apply xL_pure | apply xL_gI | apply xL_put | apply xL_sel | apply xLs_cons | exact xLs_nil | apply xl_fJ29_fixAfterDeletion)
theorem xl_fJ29_deleteEntry_p240 (l1 : Option Nat) : xL (fJ29_deleteEntry_p240 l1) := by
  unfold fJ29_deleteEntry_p240
  with_reducible repeat' (first | intro _ | apply xL_bind | apply xL_pure | apply xL_put)
theorem xl_fJ29_deleteEntry_p192 (l1 : Option Nat) : xL (fJ29_deleteEntry_p192 l1) := by
  unfold fJ29_deleteEntry_p192
  with_reducible repeat' (first | intro _ | apply xL_bind | apply xL_ite | apply xL_pure | apply xL_gR | apply xL_put | apply xl_fJ29_deleteEntry_p240)
theorem xl_fJ29_deleteEntry_p75 (l0 : Nat) (l1 : Option Nat) (s0 : Option Nat) : xL (fJ29_deleteEntry_p75 l0 l1 s0) := by
  unfold fJ29_deleteEntry_p75
  with_reducible repeat' (first | intro _ | apply xL_bind | apply xL_ite | apply xL_pure | apply xL_gR | apply xL_gI | apply xL_put | apply xL_sel | apply xLs_cons | exact xLs_nil | apply xl_fJ29_fixAfterDeletion | apply xl_fJ29_deleteEntry_p192 | apply xl_fJ29_deleteEntry_p133)
theorem xl_fJ29_deleteEntry_p57 (l0 : Nat) (l1 : Option Nat) : xL (fJ29_deleteEntry_p57 l0 l1) := by
  unfold fJ29_deleteEntry_p57
  with_reducible repeat' (first | intro _ | apply xL_bind | apply xL_ite | apply xL_gR | apply xl_fJ29_deleteEntry_p75)
theorem xl_fJ29_deleteEntry (a0 : Nat) (p0 : Option Nat) : xL (fJ29_deleteEntry a0 p0) := by
  unfold fJ29_deleteEntry
  with_reducible repeat' (first | intro _ | apply xL_bind | apply xL_ite | apply xL_gR | apply xL_gI | apply xL_put | apply xl_fJ29_deleteEntry_p57 | apply xl_fJ29_successor)
theorem xl_fJ29_remove (a0 : Nat) (p0 : Option Nat) : xL (fJ29_remove a0 p0) := by
  unfold fJ29_remove
  with_reducible repeat' (first | intro _ | apply xL_bind | apply xL_ite | apply xL_pure | apply xL_gR | apply xL_sel | apply xLs_cons | exact xLs_nil | apply xl_fJ29_getEntry | apply xl_fJ29_deleteEntry)
theorem xl_fJ0_isEmpty__J19 (a0 : Nat) : xL (fJ0_isEmpty__J19 a0) := by
  unfold fJ0_isEmpty__J19
  with_reducible repeat' (first | intro _ | apply xL_bind | apply xL_ite | apply xL_pure | apply xL_sel | apply xLs_cons | exact xLs_nil | apply xl_fJ19_size)
theorem xl_fJ19_unlinkLast_p42 (l0 : Nat) (l2 : Option Nat) : xL (fJ19_unlinkLast_p42 l0 l2) := by
  unfold fJ19_unlinkLast_p42
  with_reducible repeat' (first | intro _ | apply xL_bind | apply xL_pure | apply xL_gI | apply xL_put)
theorem xl_fJ19_unlinkLast (a0 : Nat) (p0 : Option Nat) : xL (fJ19_unlinkLast a0 p0) := by
  unfold fJ19_unlinkLast
  with_reducible repeat' (first | intro _ | apply xL_bind | apply xL_ite | apply xL_gR | apply xL_put | apply xl_fJ19_unlinkLast_p42)
theorem xl_fJ19_removeLast (a0 : Nat) : xL (fJ19_removeLast a0) := by
  unfold fJ19_removeLast
  with_reducible repeat' (first | intro _ | apply xL_bind | apply xL_ite | apply xL_pure | apply xL_gR | apply xL_stuck | apply xL_sel | apply xLs_cons | exact xLs_nil | apply xl_fJ19_unlinkLast)
theorem xl_fX1_undo_p58 (k33 : Nat → Option Nat → Option Nat → xM (Int32)) (h_k33 : ∀ y0 y1 y2, xL (k33 y0 y1 y2)) : ∀ n y0 y1 y2 y3 y4, xL (fX1_undo_p58 k33 n y0 y1 y2 y3 y4) := by
  intro n
  induction n with
  | zero => intros; rw [fX1_undo_p58]; exact xL_stuck
  | succ n ih =>
    intros
    rw [fX1_undo_p58]
    with_reducible repeat' (first | intro _ | apply xL_bind | apply xL_let | apply xL_ite | apply xL_gR | apply xL_gI | apply xL_stuck | apply xL_cst | apply xL_sel | apply xLs_cons | exact xLs_nil | apply h_k33 | apply xl_fJ17_valueOf | apply xl_fJ29_remove | apply ih)
theorem xl_fX1_undo_p33 : ∀ n y0 y1 y2, xL (fX1_undo_p33 n y0 y1 y2) := by
  intro n
  induction n with
  | zero => intros; rw [fX1_undo_p33]; exact xL_stuck
  | succ n ih =>
    intros
    rw [fX1_undo_p33]
    with_reducible repeat' (first | intro _ | apply xL_bind | apply xL_ite | apply xL_pure | apply xL_gR | apply xL_gI | apply xL_put | apply xL_stuck | apply xL_cst | apply xL_sel | apply xLs_cons | exact xLs_nil | apply xl_fJ20_hasNext | apply xl_fJ19_size | apply xl_fJ20_next | apply xl_fX1_undo_p58 | apply ih)
theorem xl_fX1_undo (a0 : Nat) : xL (fX1_undo a0) := by
  unfold fX1_undo
  with_reducible repeat' (first | intro _ | apply xL_bind | apply xL_ite | apply xL_pure | apply xL_gR | apply xL_cst | apply xL_sel | apply xLs_cons | exact xLs_nil | apply xl_fJ0_isEmpty__J19 | apply xl_fJ19_removeLast | apply xl_fJ2_iterator | apply xl_fX1_undo_p33)
theorem xl_fX1_undoDepth (a0 : Nat) : xL (fX1_undoDepth a0) := by
  unfold fX1_undoDepth
  with_reducible repeat' (first | intro _ | apply xL_bind | apply xL_pure | apply xL_gR | apply xL_sel | apply xLs_cons | exact xLs_nil | apply xl_fJ19_size)
theorem xl_fX1_formattedByte (a0 : Nat) (p0 : Int32) : xL (fX1_formattedByte a0 p0) := by
  unfold fX1_formattedByte
  with_reducible repeat' (first | intro _ | apply xL_bind | apply xL_ite | apply xL_pure | apply xL_gR | apply xL_sel | apply xLs_cons | exact xLs_nil | apply xl_fJ9_length | apply xl_fX1_inRange | apply xl_fJ9_charAt)
