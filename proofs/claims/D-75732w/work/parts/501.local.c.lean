/-! part 501c: the computations are local, printed by gen/local.py -/
set_option maxRecDepth 100000
theorem xl_fJ19_listIterator (a0 : Nat) (p0 : Int32) : xL (fJ19_listIterator a0 p0) := by
  unfold fJ19_listIterator
  with_reducible repeat' (first | intro _ | apply xL_bind | apply xL_pure | apply xL_new | apply xL_sel | apply xLs_cons | exact xLs_nil | apply xl_fJ19_checkPositionIndex | apply xl_fJ24_init)
theorem xl_fJ1_listIterator__J19 (a0 : Nat) : xL (fJ1_listIterator__J19 a0) := by
  unfold fJ1_listIterator__J19
  with_reducible repeat' (first | intro _ | apply xL_bind | apply xL_pure | apply xL_sel | apply xLs_cons | exact xLs_nil | apply xl_fJ19_listIterator)
theorem xl_fJ18_iterator__J19 (a0 : Nat) : xL (fJ18_iterator__J19 a0) := by
  unfold fJ18_iterator__J19
  with_reducible repeat' (first | intro _ | apply xL_bind | apply xL_pure | apply xL_sel | apply xLs_cons | exact xLs_nil | apply xl_fJ1_listIterator__J19)
theorem xl_fJ38_init__J43 (a0 : Nat) (p0 : Option Nat) (p1 : Option Nat) : xL (fJ38_init__J43 a0 p0 p1) := by
  unfold fJ38_init__J43
  with_reducible repeat' (first | intro _ | apply xL_bind | apply xL_pure | apply xL_gI | apply xL_put)
theorem xl_fJ43_init (a0 : Nat) (p0 : Option Nat) (p1 : Option Nat) : xL (fJ43_init a0 p0 p1) := by
  unfold fJ43_init
  with_reducible repeat' (first | intro _ | apply xL_bind | apply xL_pure | apply xl_fJ38_init__J43)
theorem xl_fJ40_iterator (a0 : Nat) : xL (fJ40_iterator a0) := by
  unfold fJ40_iterator
  with_reducible repeat' (first | intro _ | apply xL_bind | apply xL_pure | apply xL_gR | apply xL_new | apply xL_sel | apply xLs_cons | exact xLs_nil | apply xl_fJ29_getFirstEntry | apply xl_fJ43_init)
theorem xl_fJ41_init (a0 : Nat) (p0 : Option Nat) : xL (fJ41_init a0 p0) := by
  unfold fJ41_init
  with_reducible repeat' (first | intro _ | apply xL_bind | apply xL_pure | apply xL_gR | apply xL_gI | apply xL_put | apply xL_sel | apply xLs_cons | exact xLs_nil | apply xl_fJ27_size)
theorem xl_fJ27_iterator (a0 : Nat) : xL (fJ27_iterator a0) := by
  unfold fJ27_iterator
  with_reducible repeat' (first | intro _ | apply xL_bind | apply xL_pure | apply xL_new | apply xl_fJ41_init)
theorem xl_fJ45_iterator (a0 : Nat) : xL (fJ45_iterator a0) := by
  unfold fJ45_iterator
  with_reducible repeat' (first | intro _ | apply xL_stuck)
theorem xl_fX1_sum_p52 : ∀ n y0 y1 y2, xL (fX1_sum_p52 n y0 y1 y2) := by
  intro n
  induction n with
  | zero => intros; rw [fX1_sum_p52]; exact xL_stuck
  | succ n ih =>
    intros
    rw [fX1_sum_p52]
    with_reducible repeat' (first | intro _ | apply xL_bind | apply xL_let | apply xL_ite | apply xL_pure | apply xL_stuck | apply xL_cst | apply xL_sel | apply xLs_cons | exact xLs_nil | apply xl_fJ38_hasNext__J43 | apply xl_fJ43_next | apply xl_fL_3 | apply xl_fL_4 | apply xl_fL_5 | apply xl_fL_6 | apply xl_fL_7 | apply xl_fL_8 | apply xl_fL_9 | apply ih)
theorem xl_fX1_sum (a0 : Nat) (p0 : Int32) (p1 : Int32) : xL (fX1_sum a0 p0 p1) := by
  unfold fX1_sum
  with_reducible repeat' (first | intro _ | apply xL_bind | apply xL_let | apply xL_gR | apply xL_sel | apply xLs_cons | exact xLs_nil | apply xl_fX1_herd | apply xl_fX1_inRange | apply xl_fX1_checkThere | apply xl_fX1_part | apply xl_fL_3 | apply xl_fL_4 | apply xl_fL_5 | apply xl_fL_6 | apply xl_fL_7 | apply xl_fL_8 | apply xl_fL_9 | apply xl_fJ29_values | apply xl_fJ2_iterator | apply xl_fJ18_iterator__J19 | apply xl_fJ40_iterator | apply xl_fJ27_iterator | apply xl_fJ37_iterator | apply xl_fJ45_iterator | apply xl_fX1_sum_p52)
theorem xl_fX0_sum (p0 : Option Nat) (p1 : Int32) (p2 : Int32) (p3 : Option Nat) : xL (fX0_sum p0 p1 p2 p3) := by
  unfold fX0_sum
  with_reducible repeat' (first | intro _ | apply xL_bind | apply xL_pure | apply xL_stJ | apply xL_try | apply xL_sel | apply xLs_cons | exact xLs_nil | apply xl_fX1_sum)
theorem xl_fJ41_hasNext (a0 : Nat) : xL (fJ41_hasNext a0) := by
  unfold fJ41_hasNext
  with_reducible repeat' (first | intro _ | apply xL_bind | apply xL_ite | apply xL_pure | apply xL_gI)
theorem xl_fJ27_nonNullElementAt (p0 : Option Nat) (p1 : Int32) : xL (fJ27_nonNullElementAt p0 p1) := by
  unfold fJ27_nonNullElementAt
  with_reducible repeat' (first | intro _ | apply xL_bind | apply xL_ite | apply xL_pure | apply xL_stuck | apply xL_ldR)
theorem xl_fJ27_inc (p0 : Int32) (p1 : Int32) : xL (fJ27_inc p0 p1) := by
  unfold fJ27_inc
  with_reducible repeat' (first | intro _ | apply xL_let | apply xL_ite | apply xL_pure)
theorem xl_fJ41_next (a0 : Nat) : xL (fJ41_next a0) := by
  unfold fJ41_next
  with_reducible repeat' (first | intro _ | apply xL_bind | apply xL_ite | apply xL_pure | apply xL_gR | apply xL_gI | apply xL_put | apply xL_stuck | apply xL_len | apply xl_fJ27_nonNullElementAt | apply xl_fJ27_inc)
theorem xl_fX1_sightingAt_p15 : ∀ n y0 y1, xL (fX1_sightingAt_p15 n y0 y1) := by
  intro n
  induction n with
  | zero => intros; rw [fX1_sightingAt_p15]; exact xL_stuck
  | succ n ih =>
    intros
    rw [fX1_sightingAt_p15]
    with_reducible repeat' (first | intro _ | apply xL_bind | apply xL_let | apply xL_ite | apply xL_pure | apply xL_stuck | apply xL_cst | apply xL_sel | apply xLs_cons | exact xLs_nil | apply xl_fJ41_hasNext | apply xl_fJ41_next | apply ih)
theorem xl_fX1_sightingAt (a0 : Nat) (p0 : Int32) (p1 : Int32) : xL (fX1_sightingAt a0 p0 p1) := by
  unfold fX1_sightingAt
  with_reducible repeat' (first | intro _ | apply xL_bind | apply xL_gR | apply xL_sel | apply xLs_cons | exact xLs_nil | apply xl_fX1_herd | apply xl_fJ27_iterator | apply xl_fX1_sightingAt_p15)
theorem xl_fX17_part (a0 : Nat) (p0 : Int32) : xL (fX17_part a0 p0) := by
  unfold fX17_part
  with_reducible repeat' (first | intro _ | apply xL_bind | apply xL_ite | apply xL_pure | apply xL_gI)
theorem xl_fX1_sighting (a0 : Nat) (p0 : Int32) (p1 : Int32) (p2 : Int32) : xL (fX1_sighting a0 p0 p1 p2) := by
  unfold fX1_sighting
  with_reducible repeat' (first | intro _ | apply xL_bind | apply xL_ite | apply xL_pure | apply xL_sel | apply xLs_cons | exact xLs_nil | apply xl_fX1_sightingAt | apply xl_fX1_inRange | apply xl_fX1_checkThere | apply xl_fX17_part)
theorem xl_fX0_sighting (p0 : Option Nat) (p1 : Int32) (p2 : Int32) (p3 : Int32) (p4 : Option Nat) : xL (fX0_sighting p0 p1 p2 p3 p4) := by
  unfold fX0_sighting
  with_reducible repeat' (first | intro _ | apply xL_bind | apply xL_pure | apply xL_stJ | apply xL_try | apply xL_sel | apply xLs_cons | exact xLs_nil | apply xl_fX1_sighting)
theorem xl_fX17_estimate (a0 : Nat) : xL (fX17_estimate a0) := by
  unfold fX17_estimate
  with_reducible repeat' (first | intro _ | apply xL_bind | apply xL_pure | apply xL_gI | apply xL_dvJ)
theorem xl_fX1_estimate (a0 : Nat) (p0 : Int32) (p1 : Int32) : xL (fX1_estimate a0 p0 p1) := by
  unfold fX1_estimate
  with_reducible repeat' (first | intro _ | apply xL_bind | apply xL_ite | apply xL_pure | apply xL_sel | apply xLs_cons | exact xLs_nil | apply xl_fX1_sightingAt | apply xl_fX17_estimate)
theorem xl_fX0_estimate (p0 : Option Nat) (p1 : Int32) (p2 : Int32) (p3 : Option Nat) : xL (fX0_estimate p0 p1 p2 p3) := by
  unfold fX0_estimate
  with_reducible repeat' (first | intro _ | apply xL_bind | apply xL_pure | apply xL_stJ | apply xL_try | apply xL_sel | apply xLs_cons | exact xLs_nil | apply xl_fX1_estimate)
theorem xl_fX17_variance (a0 : Nat) : xL (fX17_variance a0) := by
  unfold fX17_variance
  with_reducible repeat' (first | intro _ | apply xL_bind | apply xL_let | apply xL_pure | apply xL_gI | apply xL_nan)
theorem xl_fX1_variance (a0 : Nat) (p0 : Int32) (p1 : Int32) : xL (fX1_variance a0 p0 p1) := by
  unfold fX1_variance
  with_reducible repeat' (first | intro _ | apply xL_bind | apply xL_ite | apply xL_pure | apply xL_sel | apply xLs_cons | exact xLs_nil | apply xl_fX1_sightingAt | apply xl_fX17_variance)
theorem xl_fX0_variance (p0 : Option Nat) (p1 : Int32) (p2 : Int32) (p3 : Option Nat) : xL (fX0_variance p0 p1 p2 p3) := by
  unfold fX0_variance
  with_reducible repeat' (first | intro _ | apply xL_bind | apply xL_pure | apply xL_stD | apply xL_try | apply xL_sel | apply xLs_cons | exact xLs_nil | apply xl_fX1_variance)
theorem xl_fX1_pooled_p18 : ∀ n y0 y1 y2, xL (fX1_pooled_p18 n y0 y1 y2) := by
  intro n
  induction n with
  | zero => intros; rw [fX1_pooled_p18]; exact xL_stuck
  | succ n ih =>
    intros
    rw [fX1_pooled_p18]
    with_reducible repeat' (first | intro _ | apply xL_bind | apply xL_let | apply xL_ite | apply xL_pure | apply xL_gI | apply xL_stuck | apply xL_cst | apply xL_nan | apply xL_sel | apply xLs_cons | exact xLs_nil | apply xl_fJ41_hasNext | apply xl_fJ41_next | apply ih)
theorem xl_fX1_pooled (a0 : Nat) (p0 : Int32) : xL (fX1_pooled a0 p0) := by
  unfold fX1_pooled
  with_reducible repeat' (first | intro _ | apply xL_bind | apply xL_let | apply xL_gR | apply xL_sel | apply xLs_cons | exact xLs_nil | apply xl_fX1_herd | apply xl_fJ27_iterator | apply xl_fX1_pooled_p18)
theorem xl_fX0_pooled (p0 : Option Nat) (p1 : Int32) (p2 : Option Nat) : xL (fX0_pooled p0 p1 p2) := by
  unfold fX0_pooled
  with_reducible repeat' (first | intro _ | apply xL_bind | apply xL_pure | apply xL_stD | apply xL_try | apply xL_sel | apply xLs_cons | exact xLs_nil | apply xl_fX1_pooled)
theorem xl_fJ45_siftDownUsingComparator_p88 (l0 : Int32) (l1 : Option Nat) (l2 : Option Nat) : xL (fJ45_siftDownUsingComparator_p88 l0 l1 l2) := by
  unfold fJ45_siftDownUsingComparator_p88
  with_reducible repeat' (first | intro _ | apply xL_bind | apply xL_pure | apply xL_stR)
theorem xl_fJ45_siftDownUsingComparator_p61 (k5 : Int32 → Option Nat → Option Nat → Int32 → Option Nat → Int32 → xM (Unit)) (l0 : Int32) (l1 : Option Nat) (l2 : Option Nat) (l3 : Int32) (l4 : Option Nat) (l5 : Int32) (l6 : Int32) (l7 : Option Nat) (h_k5 : ∀ y0 y1 y2 y3 y4 y5, xL (k5 y0 y1 y2 y3 y4 y5)) : xL (fJ45_siftDownUsingComparator_p61 k5 l0 l1 l2 l3 l4 l5 l6 l7) := by
  unfold fJ45_siftDownUsingComparator_p61
  with_reducible repeat' (first | intro _ | apply xL_bind | apply xL_ite | apply xL_stR | apply xL_sel | apply xLs_cons | exact xLs_nil | apply h_k5 | apply xl_fX16_compare | apply xl_fJ45_siftDownUsingComparator_p88)
theorem xl_fJ45_siftDownUsingComparator_p5 : ∀ n y0 y1 y2 y3 y4 y5, xL (fJ45_siftDownUsingComparator_p5 n y0 y1 y2 y3 y4 y5) := by
  intro n
  induction n with
  | zero => intros; rw [fJ45_siftDownUsingComparator_p5]; exact xL_stuck
  | succ n ih =>
    intros
    rw [fJ45_siftDownUsingComparator_p5]
    with_reducible repeat' (first | intro _ | apply xL_bind | apply xL_let | apply xL_ite | apply xL_stuck | apply xL_ldR | apply xL_sel | apply xLs_cons | exact xLs_nil | apply xl_fJ45_siftDownUsingComparator_p88 | apply xl_fJ45_siftDownUsingComparator_p61 | apply xl_fX16_compare | apply ih)
theorem xl_fJ45_siftDownUsingComparator (p0 : Int32) (p1 : Option Nat) (p2 : Option Nat) (p3 : Int32) (p4 : Option Nat) : xL (fJ45_siftDownUsingComparator p0 p1 p2 p3 p4) := by
  unfold fJ45_siftDownUsingComparator
  with_reducible repeat' (first | intro _ | apply xL_let | apply xl_fJ45_siftDownUsingComparator_p5)
theorem xl_fJ45_poll (a0 : Nat) : xL (fJ45_poll a0) := by
  unfold fJ45_poll
  with_reducible repeat' (first | intro _ | apply xL_bind | apply xL_let | apply xL_ite | apply xL_pure | apply xL_gR | apply xL_gI | apply xL_put | apply xL_stuck | apply xL_stR | apply xL_ldR | apply xl_fJ45_siftDownUsingComparator)
theorem xl_fJ45_size (a0 : Nat) : xL (fJ45_size a0) := by
  unfold fJ45_size
  with_reducible repeat' (first | intro _ | apply xL_bind | apply xL_pure | apply xL_gI)
theorem xl_fJ0_isEmpty__J45 (a0 : Nat) : xL (fJ0_isEmpty__J45 a0) := by
  unfold fJ0_isEmpty__J45
  with_reducible repeat' (first | intro _ | apply xL_bind | apply xL_ite | apply xL_pure | apply xL_sel | apply xLs_cons | exact xLs_nil | apply xl_fJ45_size)
theorem xl_fJ24_hasNext (a0 : Nat) : xL (fJ24_hasNext a0) := by
  unfold fJ24_hasNext
  with_reducible repeat' (first | intro _ | apply xL_bind | apply xL_ite | apply xL_pure | apply xL_gR | apply xL_gI)
theorem xl_fJ24_checkForComodification (a0 : Nat) : xL (fJ24_checkForComodification a0) := by
  unfold fJ24_checkForComodification
  with_reducible repeat' (first | intro _ | apply xL_bind | apply xL_ite | apply xL_pure | apply xL_gR | apply xL_gI | apply xL_stuck)
theorem xl_fJ24_next (a0 : Nat) : xL (fJ24_next a0) := by
  unfold fJ24_next
  with_reducible repeat' (first | intro _ | apply xL_bind | apply xL_ite | apply xL_pure | apply xL_gR | apply xL_gI | apply xL_put | apply xL_stuck | apply xL_sel | apply xLs_cons | exact xLs_nil | apply xl_fJ24_checkForComodification | apply xl_fJ24_hasNext)
theorem xl_fJ45_siftUpUsingComparator_p43 (l0 : Int32) (l1 : Option Nat) (l2 : Option Nat) : xL (fJ45_siftUpUsingComparator_p43 l0 l1 l2) := by
  unfold fJ45_siftUpUsingComparator_p43
  with_reducible repeat' (first | intro _ | apply xL_bind | apply xL_pure | apply xL_stR)
theorem xl_fJ45_siftUpUsingComparator_p0 : ∀ n y0 y1 y2 y3, xL (fJ45_siftUpUsingComparator_p0 n y0 y1 y2 y3) := by
  intro n
  induction n with
  | zero => intros; rw [fJ45_siftUpUsingComparator_p0]; exact xL_stuck
  | succ n ih =>
    intros
    rw [fJ45_siftUpUsingComparator_p0]
    with_reducible repeat' (first | intro _ | apply xL_bind | apply xL_let | apply xL_ite | apply xL_stuck | apply xL_stR | apply xL_ldR | apply xL_sel | apply xLs_cons | exact xLs_nil | apply xl_fJ45_siftUpUsingComparator_p43 | apply xl_fX16_compare | apply ih)
theorem xl_fJ45_siftUpUsingComparator (p0 : Int32) (p1 : Option Nat) (p2 : Option Nat) (p3 : Option Nat) : xL (fJ45_siftUpUsingComparator p0 p1 p2 p3) := by
  unfold fJ45_siftUpUsingComparator
  with_reducible repeat' (first | intro _ | apply xl_fJ45_siftUpUsingComparator_p0)
theorem xl_fJ45_siftUp (a0 : Nat) (p0 : Int32) (p1 : Option Nat) : xL (fJ45_siftUp a0 p0 p1) := by
  unfold fJ45_siftUp
  with_reducible repeat' (first | intro _ | apply xL_bind | apply xL_ite | apply xL_pure | apply xL_gR | apply xL_stuck | apply xl_fJ45_siftUpUsingComparator)
theorem xl_fJ13_copyOf_3 (p0 : Option Nat) (p1 : Int32) (p2 : Option Nat) : xL (fJ13_copyOf_3 p0 p1 p2) := by
  unfold fJ13_copyOf_3
  with_reducible repeat' (first | intro _ | apply xL_bind | apply xL_ite | apply xL_pure | apply xL_stuck | apply xL_con | apply xL_len | apply xL_newA | apply xL_cpR | apply xl_fJ12_min)
theorem xl_fJ13_copyOf_2 (p0 : Option Nat) (p1 : Int32) : xL (fJ13_copyOf_2 p0 p1) := by
  unfold fJ13_copyOf_2
  with_reducible repeat' (first | intro _ | apply xL_bind | apply xL_pure | apply xL_gcO | apply xl_fJ13_copyOf_3)
theorem xl_fJ45_grow_p25 (l0 : Nat) (s0 : Int32) (s1 : Int32) (s2 : Int32) : xL (fJ45_grow_p25 l0 s0 s1 s2) := by
  unfold fJ45_grow_p25
  with_reducible repeat' (first | intro _ | apply xL_bind | apply xL_pure | apply xL_gR | apply xL_put | apply xl_fJ11_newLength | apply xl_fJ13_copyOf_2)
theorem xl_fJ45_grow (a0 : Nat) (p0 : Int32) : xL (fJ45_grow a0 p0) := by
  unfold fJ45_grow
  with_reducible repeat' (first | intro _ | apply xL_bind | apply xL_ite | apply xL_gR | apply xL_len | apply xl_fJ45_grow_p25)
theorem xl_fJ45_offer_p43 (l0 : Nat) (l1 : Option Nat) (l2 : Int32) : xL (fJ45_offer_p43 l0 l1 l2) := by
  unfold fJ45_offer_p43
  with_reducible repeat' (first | intro _ | apply xL_bind | apply xL_pure | apply xL_put | apply xL_sel | apply xLs_cons | exact xLs_nil | apply xl_fJ45_siftUp)
theorem xl_fJ45_offer (a0 : Nat) (p0 : Option Nat) : xL (fJ45_offer a0 p0) := by
  unfold fJ45_offer
  with_reducible repeat' (first | intro _ | apply xL_bind | apply xL_ite | apply xL_gR | apply xL_gI | apply xL_put | apply xL_stuck | apply xL_len | apply xL_sel | apply xLs_cons | exact xLs_nil | apply xl_fJ45_offer_p43 | apply xl_fJ45_grow)
theorem xl_fJ45_add (a0 : Nat) (p0 : Option Nat) : xL (fJ45_add a0 p0) := by
  unfold fJ45_add
  with_reducible repeat' (first | intro _ | apply xL_bind | apply xL_retN | apply xL_sel | apply xLs_cons | exact xLs_nil | apply xl_fJ45_offer)
theorem xl_fX16_init (a0 : Nat) : xL (fX16_init a0) := by
  unfold fX16_init
  with_reducible repeat' (first | intro _ | apply xL_pure)
theorem xl_fJ0_init__J45 (a0 : Nat) : xL (fJ0_init__J45 a0) := by
  unfold fJ0_init__J45
  with_reducible repeat' (first | intro _ | apply xL_pure)
theorem xl_fJ44_init__J45 (a0 : Nat) : xL (fJ44_init__J45 a0) := by
  unfold fJ44_init__J45
  with_reducible repeat' (first | intro _ | apply xL_bind | apply xL_pure | apply xl_fJ0_init__J45)
theorem xl_fJ45_init (a0 : Nat) (p0 : Int32) (p1 : Option Nat) : xL (fJ45_init a0 p0 p1) := by
  unfold fJ45_init
  with_reducible repeat' (first | intro _ | apply xL_bind | apply xL_ite | apply xL_pure | apply xL_put | apply xL_stuck | apply xL_newA | apply xl_fJ44_init__J45)
theorem xl_fX2_queue_p25 : ∀ n y0 y1, xL (fX2_queue_p25 n y0 y1) := by
  intro n
  induction n with
  | zero => intros; rw [fX2_queue_p25]; exact xL_stuck
  | succ n ih =>
    intros
    rw [fX2_queue_p25]
    with_reducible repeat' (first | intro _ | apply xL_bind | apply xL_ite | apply xL_pure | apply xL_stuck | apply xL_cst | apply xL_sel | apply xLs_cons | exact xLs_nil | apply xl_fJ24_hasNext | apply xl_fJ24_next | apply xl_fJ45_add | apply ih)
theorem xl_fX2_queue (a0 : Nat) : xL (fX2_queue a0) := by
  unfold fX2_queue
  with_reducible repeat' (first | intro _ | apply xL_bind | apply xL_gR | apply xL_new | apply xL_sel | apply xLs_cons | exact xLs_nil | apply xl_fX16_init | apply xl_fJ45_init | apply xl_fJ18_iterator__J19 | apply xl_fX2_queue_p25)
theorem xl_fX2_planAt_p33 (l1 : Int32) (l2 : Option Nat) : xL (fX2_planAt_p33 l1 l2) := by
  unfold fX2_planAt_p33
  with_reducible repeat' (first | intro _ | apply xL_bind | apply xL_ite | apply xL_pure | apply xL_cst | apply xL_sel | apply xLs_cons | exact xLs_nil | apply xl_fJ45_poll)
theorem xl_fX2_planAt_p7 : ∀ n y0 y1 y2, xL (fX2_planAt_p7 n y0 y1 y2) := by
  intro n
  induction n with
  | zero => intros; rw [fX2_planAt_p7]; exact xL_stuck
  | succ n ih =>
    intros
    rw [fX2_planAt_p7]
    with_reducible repeat' (first | intro _ | apply xL_bind | apply xL_let | apply xL_ite | apply xL_stuck | apply xL_cst | apply xL_sel | apply xLs_cons | exact xLs_nil | apply xl_fX2_planAt_p33 | apply xl_fJ0_isEmpty__J45 | apply xl_fJ45_poll | apply ih)
theorem xl_fX2_planAt (a0 : Nat) (p0 : Int32) : xL (fX2_planAt a0 p0) := by
  unfold fX2_planAt
  with_reducible repeat' (first | intro _ | apply xL_bind | apply xL_sel | apply xLs_cons | exact xLs_nil | apply xl_fX2_queue | apply xl_fX2_planAt_p7)
theorem xl_fX1_planned (a0 : Nat) (p0 : Int32) (p1 : Int32) : xL (fX1_planned a0 p0 p1) := by
  unfold fX1_planned
  with_reducible repeat' (first | intro _ | apply xL_bind | apply xL_ite | apply xL_pure | apply xL_gR | apply xL_sel | apply xLs_cons | exact xLs_nil | apply xl_fX1_inRange | apply xl_fX1_checkThere | apply xl_fX2_planAt | apply xl_fX18_part)
theorem xl_fX0_planned (p0 : Option Nat) (p1 : Int32) (p2 : Int32) (p3 : Option Nat) : xL (fX0_planned p0 p1 p2 p3) := by
  unfold fX0_planned
  with_reducible repeat' (first | intro _ | apply xL_bind | apply xL_pure | apply xL_stJ | apply xL_try | apply xL_sel | apply xLs_cons | exact xLs_nil | apply xl_fX1_planned)
theorem xl_fX1_checkArgument (p0 : Int32) : xL (fX1_checkArgument p0) := by
  unfold fX1_checkArgument
  with_reducible repeat' (first | intro _ | apply xL_bind | apply xL_ite | apply xL_pure | apply xL_throw | apply xL_mk)
theorem xl_fX10_become (a0 : Nat) (p0 : Option Nat) : xL (fX10_become a0 p0) := by
  unfold fX10_become
  with_reducible repeat' (first | intro _ | apply xL_bind | apply xL_pure | apply xL_gR | apply xL_cpI)
theorem xl_fX1_thought (p0 : Option Nat) : xL (fX1_thought p0) := by
  unfold fX1_thought
  with_reducible repeat' (first | intro _ | apply xL_bind | apply xL_pure | apply xL_gR | apply xL_new | apply xL_sel | apply xLs_cons | exact xLs_nil | apply xl_fX10_init | apply xl_fX10_become)
theorem xl_fX1_lambda_after_10 (p0 : Int32) (p1 : Option Nat) : xL (fX1_lambda_after_10 p0 p1) := by
  unfold fX1_lambda_after_10
  with_reducible repeat' (first | intro _ | apply xL_pure)
theorem xl_fL_10 (a0 : Nat) (p0 : Int32) (p1 : Option Nat) : xL (fL_10 a0 p0 p1) := by
  unfold fL_10
  with_reducible repeat' (first | intro _ | apply xL_bind | apply xL_retN | apply xl_fX1_lambda_after_10)
theorem xl_fX1_lambda_below_11 (p0 : Int32) (p1 : Int32) (p2 : Option Nat) : xL (fX1_lambda_below_11 p0 p1 p2) := by
  unfold fX1_lambda_below_11
  with_reducible repeat' (first | intro _ | apply xL_bind | apply xL_ite | apply xL_pure | apply xL_sel | apply xLs_cons | exact xLs_nil | apply xl_fX10_total)
theorem xl_fL_11 (a0 : Nat) (p0 : Int32) (p1 : Option Nat) : xL (fL_11 a0 p0 p1) := by
  unfold fL_11
  with_reducible repeat' (first | intro _ | apply xL_bind | apply xL_gI | apply xL_retN | apply xl_fX1_lambda_below_11)
theorem xl_fX10_takeAdults_p10 : ∀ n y0 y1 y2, xL (fX10_takeAdults_p10 n y0 y1 y2) := by
  intro n
  induction n with
  | zero => intros; rw [fX10_takeAdults_p10]; exact xL_stuck
  | succ n ih =>
    intros
    rw [fX10_takeAdults_p10]
    with_reducible repeat' (first | intro _ | apply xL_bind | apply xL_let | apply xL_ite | apply xL_pure | apply xL_gR | apply xL_gI | apply xL_stuck | apply xL_ldI | apply xL_stI | apply xl_fJ12_min | apply ih)
theorem xl_fX10_takeAdults (a0 : Nat) (p0 : Int32) : xL (fX10_takeAdults a0 p0) := by
  unfold fX10_takeAdults
  with_reducible repeat' (first | intro _ | apply xL_bind | apply xL_gR | apply xL_gI | apply xl_fX10_takeAdults_p10)
theorem xl_fX1_lambda_works_12_p25 (l0 : Int32) (l3 : Option Nat) (s0 : Int32) : xL (fX1_lambda_works_12_p25 l0 l3 s0) := by
  unfold fX1_lambda_works_12_p25
  with_reducible repeat' (first | intro _ | apply xL_bind | apply xL_ite | apply xL_retN | apply xL_sel | apply xLs_cons | exact xLs_nil | apply xl_fX10_takeAdults)
theorem xl_fX1_lambda_works_12_p20 (l0 : Int32) (l3 : Option Nat) : xL (fX1_lambda_works_12_p20 l0 l3) := by
  unfold fX1_lambda_works_12_p20
  with_reducible repeat' (first | intro _ | apply xl_fX1_lambda_works_12_p25)
theorem xl_fX1_lambda_works_12_p24 (l0 : Int32) (l3 : Option Nat) : xL (fX1_lambda_works_12_p24 l0 l3) := by
  unfold fX1_lambda_works_12_p24
  with_reducible repeat' (first | intro _ | apply xl_fX1_lambda_works_12_p25)
theorem xl_fX1_lambda_works_12 (p0 : Int32) (p1 : Int32) (p2 : Int32) (p3 : Option Nat) : xL (fX1_lambda_works_12 p0 p1 p2 p3) := by
  unfold fX1_lambda_works_12
  with_reducible repeat' (first | intro _ | apply xL_bind | apply xL_ite | apply xL_sel | apply xLs_cons | exact xLs_nil | apply xl_fX10_adults | apply xl_fX1_lambda_works_12_p24 | apply xl_fX1_lambda_works_12_p20 | apply xl_fX10_total)
theorem xl_fL_12 (a0 : Nat) (p0 : Int32) (p1 : Option Nat) : xL (fL_12 a0 p0 p1) := by
  unfold fL_12
  with_reducible repeat' (first | intro _ | apply xL_bind | apply xL_gI | apply xL_retN | apply xl_fX1_lambda_works_12)
theorem xl_fX10_close_p128 (l0 : Nat) (l3 : Int64) : xL (fX10_close_p128 l0 l3) := by
  unfold fX10_close_p128
  with_reducible repeat' (first | intro _ | apply xL_bind | apply xL_pure | apply xL_gR | apply xL_gI | apply xL_put | apply xL_stI)
theorem xl_fX10_close_p16 : ∀ n y0 y1 y2 y3 y4, xL (fX10_close_p16 n y0 y1 y2 y3 y4) := by
  intro n
  induction n with
  | zero => intros; rw [fX10_close_p16]; exact xL_stuck
  | succ n ih =>
    intros
    rw [fX10_close_p16]
    with_reducible repeat' (first | intro _ | apply xL_bind | apply xL_let | apply xL_ite | apply xL_gR | apply xL_gI | apply xL_put | apply xL_stuck | apply xL_ldI | apply xL_stI | apply xL_dvJ | apply xl_fJ12_min_2 | apply xl_fX10_close_p128 | apply xl_fJ12_max_2 | apply ih)
theorem xl_fX10_close (a0 : Nat) (p0 : Option Nat) (p1 : Int32) : xL (fX10_close a0 p0 p1) := by
  unfold fX10_close
  with_reducible repeat' (first | intro _ | apply xL_bind | apply xL_let | apply xL_gR | apply xL_gI | apply xL_put | apply xl_fX10_close_p16)
theorem xl_fX1_foresee_p3 : ∀ n y0 y1 y2 y3 y4, xL (fX1_foresee_p3 n y0 y1 y2 y3 y4) := by
  intro n
  induction n with
  | zero => intros; rw [fX1_foresee_p3]; exact xL_stuck
  | succ n ih =>
    intros
    rw [fX1_foresee_p3]
    with_reducible repeat' (first | intro _ | apply xL_bind | apply xL_let | apply xL_ite | apply xL_pure | apply xL_gR | apply xL_gI | apply xL_stuck | apply xL_sel | apply xLs_cons | exact xLs_nil | apply xl_fL_10 | apply xl_fL_11 | apply xl_fL_12 | apply xl_fX10_close | apply ih)
theorem xl_fX1_foresee (p0 : Option Nat) (p1 : Option Nat) (p2 : Int32) (p3 : Option Nat) : xL (fX1_foresee p0 p1 p2 p3) := by
  unfold fX1_foresee
  with_reducible repeat' (first | intro _ | apply xL_let | apply xl_fX1_foresee_p3)
theorem xl_fX1_after (p0 : Option Nat) (p1 : Int32) : xL (fX1_after p0 p1) := by
  unfold fX1_after
  with_reducible repeat' (first | intro _ | apply xL_bind | apply xL_pure | apply xL_con | apply xl_fX1_thought | apply xl_fX1_foresee)
theorem xl_fX1_totalIn (a0 : Nat) (p0 : Int32) (p1 : Int32) : xL (fX1_totalIn a0 p0 p1) := by
  unfold fX1_totalIn
  with_reducible repeat' (first | intro _ | apply xL_bind | apply xL_pure | apply xL_sel | apply xLs_cons | exact xLs_nil | apply xl_fX1_herd | apply xl_fX1_inRange | apply xl_fX1_checkArgument | apply xl_fX1_after | apply xl_fX10_total)
theorem xl_fX0_totalIn (p0 : Option Nat) (p1 : Int32) (p2 : Int32) (p3 : Option Nat) : xL (fX0_totalIn p0 p1 p2 p3) := by
  unfold fX0_totalIn
  with_reducible repeat' (first | intro _ | apply xL_bind | apply xL_pure | apply xL_stJ | apply xL_try | apply xL_sel | apply xLs_cons | exact xLs_nil | apply xl_fX1_totalIn)
theorem xl_fX1_share (a0 : Nat) (p0 : Int32) (p1 : Int32) (p2 : Int32) : xL (fX1_share a0 p0 p1 p2) := by
  unfold fX1_share
  with_reducible repeat' (first | intro _ | apply xL_bind | apply xL_ite | apply xL_pure | apply xL_gR | apply xL_ldI | apply xL_nan | apply xL_sel | apply xLs_cons | exact xLs_nil | apply xl_fX1_herdWith | apply xl_fX1_inRange | apply xl_fX1_checkArgument | apply xl_fX1_after | apply xl_fX10_total)
theorem xl_fX0_share (p0 : Option Nat) (p1 : Int32) (p2 : Int32) (p3 : Int32) (p4 : Option Nat) : xL (fX0_share p0 p1 p2 p3 p4) := by
  unfold fX0_share
  with_reducible repeat' (first | intro _ | apply xL_bind | apply xL_pure | apply xL_stD | apply xL_try | apply xL_sel | apply xLs_cons | exact xLs_nil | apply xl_fX1_share)
theorem xl_fX1_growth (a0 : Nat) (p0 : Int32) (p1 : Int32) : xL (fX1_growth a0 p0 p1) := by
  unfold fX1_growth
  with_reducible repeat' (first | intro _ | apply xL_bind | apply xL_ite | apply xL_pure | apply xL_nan | apply xL_sel | apply xLs_cons | exact xLs_nil | apply xl_fX1_herd | apply xl_fX1_inRange | apply xl_fX1_checkArgument | apply xl_fX1_after | apply xl_fX10_total)
theorem xl_fX0_growth (p0 : Option Nat) (p1 : Int32) (p2 : Int32) (p3 : Option Nat) : xL (fX0_growth p0 p1 p2 p3) := by
  unfold fX0_growth
  with_reducible repeat' (first | intro _ | apply xL_bind | apply xL_pure | apply xL_stD | apply xL_try | apply xL_sel | apply xLs_cons | exact xLs_nil | apply xl_fX1_growth)
theorem xl_fX1_below (a0 : Nat) (p0 : Int32) (p1 : Int32) : xL (fX1_below a0 p0 p1) := by
  unfold fX1_below
  with_reducible repeat' (first | intro _ | apply xL_bind | apply xL_ite | apply xL_pure | apply xL_new | apply xL_sel | apply xLs_cons | exact xLs_nil | apply xl_fX1_herd | apply xl_fX1_thought | apply xl_fX1_foresee | apply xl_fX10_total)
theorem xl_fX0_below (p0 : Option Nat) (p1 : Int32) (p2 : Int32) (p3 : Option Nat) : xL (fX0_below p0 p1 p2 p3) := by
  unfold fX0_below
  with_reducible repeat' (first | intro _ | apply xL_bind | apply xL_pure | apply xL_stJ | apply xL_try | apply xL_sel | apply xLs_cons | exact xLs_nil | apply xl_fX1_below)
theorem xl_fX1_works (p0 : Option Nat) (p1 : Option Nat) (p2 : Int32) (p3 : Int32) (p4 : Int32) : xL (fX1_works p0 p1 p2 p3 p4) := by
  unfold fX1_works
  with_reducible repeat' (first | intro _ | apply xL_bind | apply xL_ite | apply xL_pure | apply xL_gR | apply xL_new | apply xL_sel | apply xLs_cons | exact xLs_nil | apply xl_fX10_become | apply xl_fX1_foresee | apply xl_fX10_total)
theorem xl_fX1_steadyTake_p109 (k66 : Int32 → Int32 → Option Nat → Option Nat → Int32 → Int32 → xM (Int32)) (l2 : Int32) (l3 : Int32) (l4 : Option Nat) (l5 : Option Nat) (l6 : Int32) (l7 : Int32) (h_k66 : ∀ y0 y1 y2 y3 y4 y5, xL (k66 y0 y1 y2 y3 y4 y5)) : xL (fX1_steadyTake_p109 k66 l2 l3 l4 l5 l6 l7) := by
  unfold fX1_steadyTake_p109
  with_reducible repeat' (first | intro _ | apply h_k66)
theorem xl_fX1_steadyTake_p66 : ∀ n y0 y1 y2 y3 y4 y5, xL (fX1_steadyTake_p66 n y0 y1 y2 y3 y4 y5) := by
  intro n
  induction n with
  | zero => intros; rw [fX1_steadyTake_p66]; exact xL_stuck
  | succ n ih =>
    intros
    rw [fX1_steadyTake_p66]
    with_reducible repeat' (first | intro _ | apply xL_bind | apply xL_let | apply xL_ite | apply xL_pure | apply xL_stuck | apply xL_dv | apply xl_fX1_works | apply xl_fX1_steadyTake_p109 | apply ih)
theorem xl_fX1_steadyTake_p26 (l2 : Int32) (l3 : Int32) (l4 : Option Nat) (s0 : Int32) : xL (fX1_steadyTake_p26 l2 l3 l4 s0) := by
  unfold fX1_steadyTake_p26
  with_reducible repeat' (first | intro _ | apply xL_bind | apply xL_let | apply xL_ite | apply xL_pure | apply xL_gR | apply xL_sel | apply xLs_cons | exact xLs_nil | apply xl_fX1_checkArgument | apply xl_fX1_thought | apply xl_fX1_works | apply xl_fX10_adults | apply xl_fX1_steadyTake_p66)
theorem xl_fX1_steadyTake_p25 (l2 : Int32) (l3 : Int32) (l4 : Option Nat) : xL (fX1_steadyTake_p25 l2 l3 l4) := by
  unfold fX1_steadyTake_p25
  with_reducible repeat' (first | intro _ | apply xl_fX1_steadyTake_p26)
theorem xl_fX1_steadyTake (a0 : Nat) (p0 : Int32) (p1 : Int32) (p2 : Int32) : xL (fX1_steadyTake a0 p0 p1 p2) := by
  unfold fX1_steadyTake
  with_reducible repeat' (first | intro _ | apply xL_bind | apply xL_ite | apply xL_sel | apply xLs_cons | exact xLs_nil | apply xl_fX1_herd | apply xl_fX1_inRange | apply xl_fX1_steadyTake_p25 | apply xl_fX1_steadyTake_p26)
theorem xl_fX0_steadyTake (p0 : Option Nat) (p1 : Int32) (p2 : Int32) (p3 : Int32) (p4 : Option Nat) : xL (fX0_steadyTake p0 p1 p2 p3 p4) := by
  unfold fX0_steadyTake
  with_reducible repeat' (first | intro _ | apply xL_bind | apply xL_pure | apply xL_stJ | apply xL_try | apply xL_sel | apply xLs_cons | exact xLs_nil | apply xl_fX1_steadyTake)
theorem xl_fX6_lose_p21 (s0 : Int32) (s1 : Nat) : xL (fX6_lose_p21 s0 s1) := by
  unfold fX6_lose_p21
  with_reducible repeat' (first | intro _ | apply xL_bind | apply xL_pure | apply xL_put)
theorem xl_fX6_lose (a0 : Nat) (p0 : Int32) (p1 : Int32) : xL (fX6_lose a0 p0 p1) := by
  unfold fX6_lose
  with_reducible repeat' (first | intro _ | apply xL_bind | apply xL_ite | apply xL_gI | apply xL_dvJ | apply xl_fX6_lose_p21)
theorem xl_fJ29_parentOf (p0 : Option Nat) : xL (fJ29_parentOf p0) := by
  unfold fJ29_parentOf
  with_reducible repeat' (first | intro _ | apply xL_bind | apply xL_ite | apply xL_pure | apply xL_gR)
theorem xl_fJ29_setColor (p0 : Option Nat) (p1 : Int32) : xL (fJ29_setColor p0 p1) := by
  unfold fJ29_setColor
  with_reducible repeat' (first | intro _ | apply xL_bind | apply xL_ite | apply xL_pure | apply xL_pN)
theorem xl_fJ29_rotateRight_p85 (l1 : Option Nat) (l2 : Option Nat) : xL (fJ29_rotateRight_p85 l1 l2) := by
  unfold fJ29_rotateRight_p85
  with_reducible repeat' (first | intro _ | apply xL_bind | apply xL_pure | apply xL_put)
theorem xl_fJ29_rotateRight_p32 (l0 : Nat) (l1 : Option Nat) (l2 : Option Nat) : xL (fJ29_rotateRight_p32 l0 l1 l2) := by
  unfold fJ29_rotateRight_p32
  with_reducible repeat' (first | intro _ | apply xL_bind | apply xL_ite | apply xL_gR | apply xL_put | apply xl_fJ29_rotateRight_p85)
theorem xl_fJ29_rotateRight (a0 : Nat) (p0 : Option Nat) : xL (fJ29_rotateRight a0 p0) := by
  unfold fJ29_rotateRight
  with_reducible repeat' (first | intro _ | apply xL_bind | apply xL_ite | apply xL_pure | apply xL_gR | apply xL_put | apply xl_fJ29_rotateRight_p32)
theorem xl_fJ29_rotateLeft_p85 (l1 : Option Nat) (l2 : Option Nat) : xL (fJ29_rotateLeft_p85 l1 l2) := by
  unfold fJ29_rotateLeft_p85
  with_reducible repeat' (first | intro _ | apply xL_bind | apply xL_pure | apply xL_put)
theorem xl_fJ29_rotateLeft_p32 (l0 : Nat) (l1 : Option Nat) (l2 : Option Nat) : xL (fJ29_rotateLeft_p32 l0 l1 l2) := by
  unfold fJ29_rotateLeft_p32
  with_reducible repeat' (first | intro _ | apply xL_bind | apply xL_ite | apply xL_gR | apply xL_put | apply xl_fJ29_rotateLeft_p85)
theorem xl_fJ29_rotateLeft (a0 : Nat) (p0 : Option Nat) : xL (fJ29_rotateLeft a0 p0) := by
  unfold fJ29_rotateLeft
  with_reducible repeat' (first | intro _ | apply xL_bind | apply xL_ite | apply xL_pure | apply xL_gR | apply xL_put | apply xl_fJ29_rotateLeft_p32)
theorem xl_fJ29_leftOf (p0 : Option Nat) : xL (fJ29_leftOf p0) := by
  unfold fJ29_leftOf
  with_reducible repeat' (first | intro _ | apply xL_bind | apply xL_ite | apply xL_pure | apply xL_gR)
theorem xl_fJ29_rightOf (p0 : Option Nat) : xL (fJ29_rightOf p0) := by
  unfold fJ29_rightOf
  with_reducible repeat' (first | intro _ | apply xL_bind | apply xL_ite | apply xL_pure | apply xL_gR)
theorem xl_fJ29_colorOf (p0 : Option Nat) : xL (fJ29_colorOf p0) := by
  unfold fJ29_colorOf
  with_reducible repeat' (first | intro _ | apply xL_bind | apply xL_ite | apply xL_pure | apply xL_gI | apply xL_retN)
theorem xl_fJ29_fixAfterInsertion_p148 (k5 : Nat → Option Nat → xM (Unit)) (l0 : Nat) (l1 : Option Nat) (h_k5 : ∀ y0 y1, xL (k5 y0 y1)) : xL (fJ29_fixAfterInsertion_p148 k5 l0 l1) := by
  unfold fJ29_fixAfterInsertion_p148
  with_reducible repeat' (first | intro _ | apply h_k5)
theorem xl_fJ29_fixAfterInsertion_p118 (k5 : Nat → Option Nat → xM (Unit)) (l0 : Nat) (l1 : Option Nat) (h_k5 : ∀ y0 y1, xL (k5 y0 y1)) : xL (fJ29_fixAfterInsertion_p118 k5 l0 l1) := by
  unfold fJ29_fixAfterInsertion_p118
  with_reducible repeat' (first | intro _ | apply xL_bind | apply xL_sel | apply xLs_cons | exact xLs_nil | apply h_k5 | apply xl_fJ29_parentOf | apply xl_fJ29_setColor | apply xl_fJ29_rotateRight | apply xl_fJ29_fixAfterInsertion_p148)
theorem xl_fJ29_fixAfterInsertion_p255 (k5 : Nat → Option Nat → xM (Unit)) (l0 : Nat) (l1 : Option Nat) (h_k5 : ∀ y0 y1, xL (k5 y0 y1)) : xL (fJ29_fixAfterInsertion_p255 k5 l0 l1) := by
  unfold fJ29_fixAfterInsertion_p255
  with_reducible repeat' (first | intro _ | apply h_k5)
theorem xl_fJ29_fixAfterInsertion_p225 (k5 : Nat → Option Nat → xM (Unit)) (l0 : Nat) (l1 : Option Nat) (h_k5 : ∀ y0 y1, xL (k5 y0 y1)) : xL (fJ29_fixAfterInsertion_p225 k5 l0 l1) := by
  unfold fJ29_fixAfterInsertion_p225
  with_reducible repeat' (first | intro _ | apply xL_bind | apply xL_sel | apply xLs_cons | exact xLs_nil | apply h_k5 | apply xl_fJ29_parentOf | apply xl_fJ29_setColor | apply xl_fJ29_rotateLeft | apply xl_fJ29_fixAfterInsertion_p255)
theorem xl_fJ29_fixAfterInsertion_p258 (l0 : Nat) : xL (fJ29_fixAfterInsertion_p258 l0) := by
  unfold fJ29_fixAfterInsertion_p258
  with_reducible repeat' (first | intro _ | apply xL_bind | apply xL_pure | apply xL_gR | apply xL_pN)
theorem xl_fJ29_fixAfterInsertion_p5 : ∀ n y0 y1, xL (fJ29_fixAfterInsertion_p5 n y0 y1) := by
  intro n
  induction n with
  | zero => intros; rw [fJ29_fixAfterInsertion_p5]; exact xL_stuck
  | succ n ih =>
    intros
    rw [fJ29_fixAfterInsertion_p5]
    with_reducible repeat' (first | intro _ | apply xL_bind | apply xL_ite | apply xL_gR | apply xL_gI | apply xL_stuck | apply xL_sel | apply xLs_cons | exact xLs_nil | apply xl_fJ29_fixAfterInsertion_p258 | apply xl_fJ29_parentOf | apply xl_fJ29_leftOf | apply xl_fJ29_rightOf | apply xl_fJ29_colorOf | apply xl_fJ29_setColor | apply xl_fJ29_fixAfterInsertion_p148 | apply xl_fJ29_rotateLeft | apply xl_fJ29_fixAfterInsertion_p118 | apply xl_fJ29_fixAfterInsertion_p255 | apply xl_fJ29_rotateRight | apply xl_fJ29_fixAfterInsertion_p225 | apply ih)
theorem xl_fJ29_fixAfterInsertion (a0 : Nat) (p0 : Option Nat) : xL (fJ29_fixAfterInsertion a0 p0) := by
  unfold fJ29_fixAfterInsertion
  with_reducible repeat' (first | intro _ | apply xL_bind | apply xL_pN | apply xl_fJ29_fixAfterInsertion_p5)
theorem xl_fJ47_init (a0 : Nat) (p0 : Option Nat) (p1 : Option Nat) (p2 : Option Nat) : xL (fJ47_init a0 p0 p1 p2) := by
  unfold fJ47_init
  with_reducible repeat' (first | intro _ | apply xL_bind | apply xL_pure | apply xL_put | apply xL_pN)
theorem xl_fJ29_addEntry_p32 (l0 : Nat) (l5 : Nat) : xL (fJ29_addEntry_p32 l0 l5) := by
  unfold fJ29_addEntry_p32
  with_reducible repeat' (first | intro _ | apply xL_bind | apply xL_pure | apply xL_gI | apply xL_put | apply xL_sel | apply xLs_cons | exact xLs_nil | apply xl_fJ29_fixAfterInsertion)
theorem xl_fJ29_addEntry (a0 : Nat) (p0 : Option Nat) (p1 : Option Nat) (p2 : Option Nat) (p3 : Int32) : xL (fJ29_addEntry a0 p0 p1 p2 p3) := by
  unfold fJ29_addEntry
  with_reducible repeat' (first | intro _ | apply xL_bind | apply xL_ite | apply xL_put | apply xL_new | apply xl_fJ47_init | apply xl_fJ29_addEntry_p32)
theorem xl_fJ29_addEntryToEmptyMap (a0 : Nat) (p0 : Option Nat) (p1 : Option Nat) : xL (fJ29_addEntryToEmptyMap a0 p0 p1) := by
  unfold fJ29_addEntryToEmptyMap
  with_reducible repeat' (first | intro _ | apply xL_bind | apply xL_pure | apply xL_gI | apply xL_put | apply xL_new | apply xL_sel | apply xLs_cons | exact xLs_nil | apply xl_fJ29_compare | apply xl_fJ47_init)
theorem xl_fJ29_put_2_p216 (s0 : Int32) (s1 : Option Nat) (s2 : Option Nat) (s3 : Option Nat) (s4 : Nat) : xL (fJ29_put_2_p216 s0 s1 s2 s3 s4) := by
  unfold fJ29_put_2_p216
  with_reducible repeat' (first | intro _ | apply xL_bind | apply xL_pure | apply xL_sel | apply xLs_cons | exact xLs_nil | apply xl_fJ29_addEntry)
theorem xl_fJ29_put_2_p201 (l0 : Nat) (l1 : Option Nat) (l2 : Option Nat) (l5 : Int32) (l6 : Option Nat) : xL (fJ29_put_2_p201 l0 l1 l2 l5 l6) := by
  unfold fJ29_put_2_p201
  with_reducible repeat' (first | intro _ | apply xL_ite | apply xl_fJ29_put_2_p216)
theorem xl_fJ29_put_2_p104 (k30 : Nat → Option Nat → Option Nat → Int32 → Option Nat → Option Nat → xM (Option Nat)) (l0 : Nat) (l1 : Option Nat) (l2 : Option Nat) (l3 : Int32) (l4 : Option Nat) (l5 : Int32) (l6 : Option Nat) (l7 : Option Nat) (h_k30 : ∀ y0 y1 y2 y3 y4 y5, xL (k30 y0 y1 y2 y3 y4 y5)) : xL (fJ29_put_2_p104 k30 l0 l1 l2 l3 l4 l5 l6 l7) := by
  unfold fJ29_put_2_p104
  with_reducible repeat' (first | intro _ | apply xL_ite | apply h_k30 | apply xl_fJ29_put_2_p201)
theorem xl_fJ29_put_2_p95 (l2 : Option Nat) (l4 : Option Nat) (l8 : Option Nat) : xL (fJ29_put_2_p95 l2 l4 l8) := by
  unfold fJ29_put_2_p95
  with_reducible repeat' (first | intro _ | apply xL_bind | apply xL_pure | apply xL_put)
theorem xl_fJ29_put_2_p30 : ∀ n y0 y1 y2 y3 y4 y5, xL (fJ29_put_2_p30 n y0 y1 y2 y3 y4 y5) := by
  intro n
  induction n with
  | zero => intros; rw [fJ29_put_2_p30]; exact xL_stuck
  | succ n ih =>
    intros
    rw [fJ29_put_2_p30]
    with_reducible repeat' (first | intro _ | apply xL_bind | apply xL_ite | apply xL_pure | apply xL_gR | apply xL_stuck | apply xL_sel | apply xLs_cons | exact xLs_nil | apply xl_fX16_compare | apply xl_fJ29_put_2_p95 | apply xl_fJ29_put_2_p104 | apply ih)
theorem xl_fJ29_put_2_p196 (k123 : Nat → Option Nat → Option Nat → Int32 → Option Nat → Option Nat → xM (Option Nat)) (l0 : Nat) (l1 : Option Nat) (l2 : Option Nat) (l3 : Int32) (l4 : Option Nat) (l5 : Int32) (l6 : Option Nat) (l8 : Option Nat) (h_k123 : ∀ y0 y1 y2 y3 y4 y5, xL (k123 y0 y1 y2 y3 y4 y5)) : xL (fJ29_put_2_p196 k123 l0 l1 l2 l3 l4 l5 l6 l8) := by
  unfold fJ29_put_2_p196
  with_reducible repeat' (first | intro _ | apply xL_ite | apply h_k123 | apply xl_fJ29_put_2_p201)
theorem xl_fJ29_put_2_p187 (l2 : Option Nat) (l4 : Option Nat) (l9 : Option Nat) : xL (fJ29_put_2_p187 l2 l4 l9) := by
  unfold fJ29_put_2_p187
  with_reducible repeat' (first | intro _ | apply xL_bind | apply xL_pure | apply xL_put)
theorem xl_fJ29_put_2_p123 : ∀ n y0 y1 y2 y3 y4 y5, xL (fJ29_put_2_p123 n y0 y1 y2 y3 y4 y5) := by
  intro n
  induction n with
  | zero => intros; rw [fJ29_put_2_p123]; exact xL_stuck
  | succ n ih =>
    intros
    rw [fJ29_put_2_p123]
    with_reducible repeat' (first | intro _ | apply xL_bind | apply xL_ite | apply xL_pure | apply xL_gR | apply xL_stuck | apply xL_sel | apply xLs_cons | exact xLs_nil | apply xl_fJ17_compareTo | apply xl_fJ29_put_2_p187 | apply xl_fJ29_put_2_p196 | apply ih)
theorem xl_fJ29_put_2 (a0 : Nat) (p0 : Option Nat) (p1 : Option Nat) (p2 : Int32) : xL (fJ29_put_2 a0 p0 p1 p2) := by
  unfold fJ29_put_2
  with_reducible repeat' (first | intro _ | apply xL_bind | apply xL_ite | apply xL_pure | apply xL_gR | apply xL_cst | apply xL_sel | apply xLs_cons | exact xLs_nil | apply xl_fJ29_addEntryToEmptyMap | apply xl_fJ25_requireNonNull | apply xl_fJ29_put_2_p123 | apply xl_fJ29_put_2_p30)
theorem xl_fJ29_put (a0 : Nat) (p0 : Option Nat) (p1 : Option Nat) : xL (fJ29_put a0 p0 p1) := by
  unfold fJ29_put
  with_reducible repeat' (first | intro _ | apply xL_bind | apply xL_pure | apply xL_sel | apply xLs_cons | exact xLs_nil | apply xl_fJ29_put_2)
theorem xl_fX6_close (a0 : Nat) (p0 : Int32) : xL (fX6_close a0 p0) := by
  unfold fX6_close
  with_reducible repeat' (first | intro _ | apply xL_bind | apply xL_pure | apply xL_gR | apply xL_gI | apply xL_put | apply xL_cst | apply xL_sel | apply xLs_cons | exact xLs_nil | apply xl_fX10_total | apply xl_fX10_close | apply xl_fX6_lose | apply xl_fJ17_valueOf | apply xl_fJ29_put | apply xl_fX6_begin)
theorem xl_fJ45_peek (a0 : Nat) : xL (fJ45_peek a0) := by
  unfold fJ45_peek
  with_reducible repeat' (first | intro _ | apply xL_bind | apply xL_pure | apply xL_gR | apply xL_ldR)
theorem xl_fX6_add (a0 : Nat) (p0 : Int32) (p1 : Int32) : xL (fX6_add a0 p0 p1) := by
  unfold fX6_add
  with_reducible repeat' (first | intro _ | apply xL_bind | apply xL_pure | apply xL_gR | apply xL_gI | apply xL_put | apply xL_ldI | apply xL_stI)
theorem xl_fX23_carryOut (a0 : Nat) (p0 : Option Nat) (p1 : Int32) (p2 : Int32) : xL (fX23_carryOut a0 p0 p1 p2) := by
  unfold fX23_carryOut
  with_reducible repeat' (first | intro _ | apply xL_bind | apply xL_pure | apply xL_sel | apply xLs_cons | exact xLs_nil | apply xl_fX6_cohort | apply xl_fJ12_min | apply xl_fX6_add)
theorem xl_fX6_take (a0 : Nat) (p0 : Int32) (p1 : Int32) : xL (fX6_take a0 p0 p1) := by
  unfold fX6_take
  with_reducible repeat' (first | intro _ | apply xL_bind | apply xL_pure | apply xL_gR | apply xL_gI | apply xL_put | apply xL_ldI | apply xL_stI | apply xL_sel | apply xLs_cons | exact xLs_nil | apply xl_fX10_total | apply xl_fX6_lose)
theorem xl_fX24_carryOut (a0 : Nat) (p0 : Option Nat) (p1 : Int32) (p2 : Int32) : xL (fX24_carryOut a0 p0 p1 p2) := by
  unfold fX24_carryOut
  with_reducible repeat' (first | intro _ | apply xL_bind | apply xL_pure | apply xL_sel | apply xLs_cons | exact xLs_nil | apply xl_fX6_cohort | apply xl_fX6_left | apply xl_fJ12_min | apply xl_fX6_take)
theorem xl_fX6_sick_p15 : ∀ n y0 y1 y2 y3 y4 y5, xL (fX6_sick_p15 n y0 y1 y2 y3 y4 y5) := by
  intro n
  induction n with
  | zero => intros; rw [fX6_sick_p15]; exact xL_stuck
  | succ n ih =>
    intros
    rw [fX6_sick_p15]
    with_reducible repeat' (first | intro _ | apply xL_bind | apply xL_let | apply xL_ite | apply xL_pure | apply xL_gR | apply xL_gI | apply xL_put | apply xL_stuck | apply xL_ldI | apply xL_stI | apply xL_dvJ | apply xL_sel | apply xLs_cons | exact xLs_nil | apply xl_fX6_lose | apply xl_fX6_cohort | apply ih)
theorem xl_fX6_sick (a0 : Nat) (p0 : Int32) (p1 : Int32) (p2 : Int32) : xL (fX6_sick a0 p0 p1 p2) := by
  unfold fX6_sick
  with_reducible repeat' (first | intro _ | apply xL_bind | apply xL_let | apply xL_gR | apply xL_sel | apply xLs_cons | exact xLs_nil | apply xl_fX10_total | apply xl_fX6_sick_p15)
theorem xl_fX25_carryOut (a0 : Nat) (p0 : Option Nat) (p1 : Int32) (p2 : Int32) : xL (fX25_carryOut a0 p0 p1 p2) := by
  unfold fX25_carryOut
  with_reducible repeat' (first | intro _ | apply xL_bind | apply xL_pure | apply xL_sel | apply xLs_cons | exact xLs_nil | apply xl_fX6_sick)
theorem xl_fJ19_isElementIndex (a0 : Nat) (p0 : Int32) : xL (fJ19_isElementIndex a0 p0) := by
  unfold fJ19_isElementIndex
  with_reducible repeat' (first | intro _ | apply xL_bind | apply xL_ite | apply xL_pure | apply xL_gI)
theorem xl_fJ19_checkElementIndex (a0 : Nat) (p0 : Int32) : xL (fJ19_checkElementIndex a0 p0) := by
  unfold fJ19_checkElementIndex
  with_reducible repeat' (first | intro _ | apply xL_bind | apply xL_ite | apply xL_pure | apply xL_stuck | apply xL_sel | apply xLs_cons | exact xLs_nil | apply xl_fJ19_isElementIndex)
theorem xl_fJ19_get (a0 : Nat) (p0 : Int32) : xL (fJ19_get a0 p0) := by
  unfold fJ19_get
  with_reducible repeat' (first | intro _ | apply xL_bind | apply xL_pure | apply xL_gR | apply xL_sel | apply xLs_cons | exact xLs_nil | apply xl_fJ19_checkElementIndex | apply xl_fJ19_node)
theorem xl_fJ19_unlink_p64 (l0 : Nat) (l1 : Option Nat) (l2 : Option Nat) : xL (fJ19_unlink_p64 l0 l1 l2) := by
  unfold fJ19_unlink_p64
  with_reducible repeat' (first | intro _ | apply xL_bind | apply xL_pure | apply xL_gI | apply xL_put)
theorem xl_fJ19_unlink_p40 (l0 : Nat) (l1 : Option Nat) (l2 : Option Nat) (l3 : Option Nat) (l4 : Option Nat) : xL (fJ19_unlink_p40 l0 l1 l2 l3 l4) := by
  unfold fJ19_unlink_p40
  with_reducible repeat' (first | intro _ | apply xL_bind | apply xL_ite | apply xL_put | apply xl_fJ19_unlink_p64)
theorem xl_fJ19_unlink (a0 : Nat) (p0 : Option Nat) : xL (fJ19_unlink a0 p0) := by
  unfold fJ19_unlink
  with_reducible repeat' (first | intro _ | apply xL_bind | apply xL_ite | apply xL_gR | apply xL_put | apply xl_fJ19_unlink_p40)
theorem xl_fJ19_remove (a0 : Nat) (p0 : Int32) : xL (fJ19_remove a0 p0) := by
  unfold fJ19_remove
  with_reducible repeat' (first | intro _ | apply xL_bind | apply xL_pure | apply xL_sel | apply xLs_cons | exact xLs_nil | apply xl_fJ19_checkElementIndex | apply xl_fJ19_node | apply xl_fJ19_unlink)
theorem xl_fX2_drop_p2 : ∀ n y0 y1 y2, xL (fX2_drop_p2 n y0 y1 y2) := by
  intro n
  induction n with
  | zero => intros; rw [fX2_drop_p2]; exact xL_stuck
  | succ n ih =>
    intros
    rw [fX2_drop_p2]
    with_reducible repeat' (first | intro _ | apply xL_bind | apply xL_let | apply xL_ite | apply xL_pure | apply xL_gR | apply xL_stuck | apply xL_cst | apply xL_sel | apply xLs_cons | exact xLs_nil | apply xl_fJ19_get | apply xl_fJ19_remove | apply ih)
theorem xl_fX2_drop (a0 : Nat) (p0 : Option Nat) : xL (fX2_drop a0 p0) := by
  unfold fX2_drop
  with_reducible repeat' (first | intro _ | apply xL_let | apply xl_fX2_drop_p2)
theorem xl_fX2_close_p91 : ∀ n y0 y1 y2, xL (fX2_close_p91 n y0 y1 y2) := by
  intro n
  induction n with
  | zero => intros; rw [fX2_close_p91]; exact xL_stuck
  | succ n ih =>
    intros
    rw [fX2_close_p91]
    with_reducible repeat' (first | intro _ | apply xL_bind | apply xL_ite | apply xL_pure | apply xL_gI | apply xL_put | apply xL_stuck | apply xL_cst | apply xL_sel | apply xLs_cons | exact xLs_nil | apply xl_fJ20_hasNext | apply xl_fJ20_next | apply xl_fX6_close | apply ih)
