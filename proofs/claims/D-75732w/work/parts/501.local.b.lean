/-! part 501b: the computations are local, printed by gen/local.py -/
set_option maxRecDepth 100000
theorem xl_fX10_init (a0 : Nat) (p0 : Option Nat) : xL (fX10_init a0 p0) := by
  unfold fX10_init
  with_reducible repeat' (first | intro _ | apply xL_bind | apply xL_pure | apply xL_put | apply xL_newA)
theorem xl_fX6_init_p54 : ∀ n y0 y1 y2, xL (fX6_init_p54 n y0 y1 y2) := by
  intro n
  induction n with
  | zero => intros; rw [fX6_init_p54]; exact xL_stuck
  | succ n ih =>
    intros
    rw [fX6_init_p54]
    with_reducible repeat' (first | intro _ | apply xL_bind | apply xL_let | apply xL_ite | apply xL_pure | apply xL_gR | apply xL_gI | apply xL_stuck | apply xL_stI | apply ih)
theorem xl_fX6_init (a0 : Nat) (p0 : Option Nat) : xL (fX6_init a0 p0) := by
  unfold fX6_init
  with_reducible repeat' (first | intro _ | apply xL_bind | apply xL_let | apply xL_put | apply xL_new | apply xL_newA | apply xl_fX9_init | apply xl_fJ27_init | apply xl_fX10_init | apply xl_fX6_init_p54)
theorem xl_fJ2_add_2_p11 (l0 : Nat) (l1 : Option Nat) (l2 : Option Nat) (l3 : Int32) : xL (fJ2_add_2_p11 l0 l1 l2 l3) := by
  unfold fJ2_add_2_p11
  with_reducible repeat' (first | intro _ | apply xL_bind | apply xL_pure | apply xL_put | apply xL_stR)
theorem xl_fJ2_add_2 (a0 : Nat) (p0 : Option Nat) (p1 : Option Nat) (p2 : Int32) : xL (fJ2_add_2 a0 p0 p1 p2) := by
  unfold fJ2_add_2
  with_reducible repeat' (first | intro _ | apply xL_bind | apply xL_ite | apply xL_stuck | apply xL_len | apply xl_fJ2_add_2_p11)
theorem xl_fJ2_add (a0 : Nat) (p0 : Option Nat) : xL (fJ2_add a0 p0) := by
  unfold fJ2_add
  with_reducible repeat' (first | intro _ | apply xL_bind | apply xL_pure | apply xL_gR | apply xL_gI | apply xL_put | apply xL_sel | apply xLs_cons | exact xLs_nil | apply xl_fJ2_add_2)
theorem xl_fX4_species_p105 (k64 : Nat → Option Nat → Option Nat → xM (Unit)) (l0 : Nat) (l2 : Option Nat) (l3 : Option Nat) (s0 : Int32) (s1 : Nat) (h_k64 : ∀ y0 y1 y2, xL (k64 y0 y1 y2)) : xL (fX4_species_p105 k64 l0 l2 l3 s0 s1) := by
  unfold fX4_species_p105
  with_reducible repeat' (first | intro _ | apply xL_bind | apply xL_gI | apply xL_sel | apply xLs_cons | exact xLs_nil | apply h_k64 | apply xl_fX4_require)
theorem xl_fX4_species_p64 : ∀ n y0 y1 y2, xL (fX4_species_p64 n y0 y1 y2) := by
  intro n
  induction n with
  | zero => intros; rw [fX4_species_p64]; exact xL_stuck
  | succ n ih =>
    intros
    rw [fX4_species_p64]
    with_reducible repeat' (first | intro _ | apply xL_bind | apply xL_ite | apply xL_pure | apply xL_gR | apply xL_gI | apply xL_put | apply xL_stuck | apply xL_new | apply xL_cst | apply xL_sel | apply xLs_cons | exact xLs_nil | apply xl_fJ20_hasNext | apply xl_fJ9_length | apply xl_fX4_number | apply xl_fX7_init | apply xl_fX6_init | apply xl_fJ2_add | apply xl_fJ20_next | apply xl_fJ9_equals | apply xl_fX4_species_p105 | apply ih)
theorem xl_fX4_species_p22 (l0 : Nat) (l1 : Int32) (s0 : Int32) (s1 : Nat) : xL (fX4_species_p22 l0 l1 s0 s1) := by
  unfold fX4_species_p22
  with_reducible repeat' (first | intro _ | apply xL_bind | apply xL_gR | apply xL_gI | apply xL_sel | apply xLs_cons | exact xLs_nil | apply xl_fX4_require | apply xl_fX4_word | apply xl_fJ9_length | apply xl_fX1_inRange | apply xl_fJ2_iterator | apply xl_fX4_species_p64)
theorem xl_fX4_species (a0 : Nat) (p0 : Int32) : xL (fX4_species a0 p0) := by
  unfold fX4_species
  with_reducible repeat' (first | intro _ | apply xL_bind | apply xL_ite | apply xL_gR | apply xL_sel | apply xLs_cons | exact xLs_nil | apply xl_fJ2_size | apply xl_fX4_species_p22)
theorem xl_fX4_line_p289 (l0 : Nat) (l2 : Int32) (l3 : Option Nat) (l4 : Option Nat) (l6 : Int32) : xL (fX4_line_p289 l0 l2 l3 l4 l6) := by
  unfold fX4_line_p289
  with_reducible repeat' (first | intro _ | apply xL_bind | apply xL_ite | apply xL_pure | apply xL_gR | apply xL_gI | apply xL_put | apply xL_new | apply xL_throw | apply xL_sel | apply xLs_cons | exact xLs_nil | apply xl_fX4_byAges | apply xl_fX4_number | apply xl_fX4_sum | apply xl_fX5_init)
theorem xl_fX4_line_p84 (l0 : Nat) (l1 : Option Nat) (l2 : Int32) (s0 : Int32) (s1 : Nat) : xL (fX4_line_p84 l0 l1 l2 s0 s1) := by
  unfold fX4_line_p84
  with_reducible repeat' (first | intro _ | apply xL_bind | apply xL_let | apply xL_ite | apply xL_gR | apply xL_con | apply xL_cst | apply xL_sel | apply xLs_cons | exact xLs_nil | apply xl_fX4_require | apply xl_fJ2_size | apply xl_fJ2_get | apply xl_fJ9_hashCode | apply xl_fJ9_equals | apply xl_fX4_line_p289)
theorem xl_fX4_line (a0 : Nat) : xL (fX4_line a0) := by
  unfold fX4_line
  with_reducible repeat' (first | intro _ | apply xL_bind | apply xL_ite | apply xL_pure | apply xL_gR | apply xL_gI | apply xL_put | apply xL_con | apply xL_sel | apply xLs_cons | exact xLs_nil | apply xl_fX4_word | apply xl_fJ9_length | apply xl_fJ9_equals | apply xl_fJ2_isEmpty | apply xl_fX4_line_p84 | apply xl_fX4_species | apply xl_fX4_number)
theorem xl_fX4_parse_p34 : ∀ n y0 y1, xL (fX4_parse_p34 n y0 y1) := by
  intro n
  induction n with
  | zero => intros; rw [fX4_parse_p34]; exact xL_stuck
  | succ n ih =>
    intros
    rw [fX4_parse_p34]
    with_reducible repeat' (first | intro _ | apply xL_bind | apply xL_ite | apply xL_pure | apply xL_gR | apply xL_gI | apply xL_stuck | apply xL_cst | apply xL_sel | apply xLs_cons | exact xLs_nil | apply xl_fJ20_hasNext | apply xl_fJ20_next | apply xl_fX6_begin | apply ih)
theorem xl_fX4_parse_p0 : ∀ n y0, xL (fX4_parse_p0 n y0) := by
  intro n
  induction n with
  | zero => intros; rw [fX4_parse_p0]; exact xL_stuck
  | succ n ih =>
    intros
    rw [fX4_parse_p0]
    with_reducible repeat' (first | intro _ | apply xL_bind | apply xL_ite | apply xL_gR | apply xL_stuck | apply xL_sel | apply xLs_cons | exact xLs_nil | apply xl_fX4_peek | apply xl_fJ2_iterator | apply xl_fX4_parse_p34 | apply xl_fX4_line | apply xl_fX4_sign | apply ih)
theorem xl_fX4_parse (a0 : Nat) : xL (fX4_parse a0) := by
  unfold fX4_parse
  with_reducible repeat' (first | intro _ | apply xl_fX4_parse_p0)
theorem xl_fJ19_clear_p5 : ∀ n y0 y1, xL (fJ19_clear_p5 n y0 y1) := by
  intro n
  induction n with
  | zero => intros; rw [fJ19_clear_p5]; exact xL_stuck
  | succ n ih =>
    intros
    rw [fJ19_clear_p5]
    with_reducible repeat' (first | intro _ | apply xL_bind | apply xL_ite | apply xL_pure | apply xL_gR | apply xL_gI | apply xL_put | apply xL_stuck | apply ih)
theorem xl_fJ19_clear (a0 : Nat) : xL (fJ19_clear a0) := by
  unfold fJ19_clear
  with_reducible repeat' (first | intro _ | apply xL_bind | apply xL_gR | apply xl_fJ19_clear_p5)
theorem xl_fX1_load (a0 : Nat) : xL (fX1_load a0) := by
  unfold fX1_load
  with_reducible repeat' (first | intro _ | apply xL_bind | apply xL_pure | apply xL_gR | apply xL_gI | apply xL_put | apply xL_stuck | apply xL_new | apply xL_throw | apply xL_mk | apply xL_nn | apply xL_try | apply xL_sel | apply xLs_cons | exact xLs_nil | apply xl_fX4_init | apply xl_fX4_parse | apply xl_fJ19_clear | apply xl_fJ2_size)
theorem xl_fX0_load (p0 : Option Nat) (p1 : Option Nat) : xL (fX0_load p0 p1) := by
  unfold fX0_load
  with_reducible repeat' (first | intro _ | apply xL_bind | apply xL_pure | apply xL_stJ | apply xL_try | apply xL_sel | apply xLs_cons | exact xLs_nil | apply xl_fX1_load)
theorem xl_fJ19_size (a0 : Nat) : xL (fJ19_size a0) := by
  unfold fJ19_size
  with_reducible repeat' (first | intro _ | apply xL_bind | apply xL_pure | apply xL_gI)
theorem xl_fX1_count (a0 : Nat) (p0 : Int32) : xL (fX1_count a0 p0) := by
  unfold fX1_count
  with_reducible repeat' (first | intro _ | apply xL_bind | apply xL_ite | apply xL_pure | apply xL_gR | apply xL_gI | apply xL_throw | apply xL_mk | apply xL_sel | apply xLs_cons | exact xLs_nil | apply xl_fJ2_size | apply xl_fJ19_size)
theorem xl_fX0_count (p0 : Option Nat) (p1 : Int32) (p2 : Option Nat) : xL (fX0_count p0 p1 p2) := by
  unfold fX0_count
  with_reducible repeat' (first | intro _ | apply xL_bind | apply xL_pure | apply xL_stJ | apply xL_try | apply xL_sel | apply xLs_cons | exact xLs_nil | apply xl_fX1_count)
theorem xl_fX1_checkIndex (p0 : Int32) (p1 : Int32) : xL (fX1_checkIndex p0 p1) := by
  unfold fX1_checkIndex
  with_reducible repeat' (first | intro _ | apply xL_bind | apply xL_ite | apply xL_pure | apply xL_throw | apply xL_mk | apply xl_fX1_inRange)
theorem xl_fX1_herd (a0 : Nat) (p0 : Int32) : xL (fX1_herd a0 p0) := by
  unfold fX1_herd
  with_reducible repeat' (first | intro _ | apply xL_bind | apply xL_pure | apply xL_gR | apply xL_cst | apply xL_sel | apply xLs_cons | exact xLs_nil | apply xl_fJ2_size | apply xl_fX1_checkIndex | apply xl_fJ2_get)
theorem xl_fX6_left (a0 : Nat) : xL (fX6_left a0) := by
  unfold fX6_left
  with_reducible repeat' (first | intro _ | apply xL_bind | apply xL_pure | apply xL_gR | apply xL_gI | apply xl_fJ12_max)
theorem xl_fJ27_sub (p0 : Int32) (p1 : Int32) (p2 : Int32) : xL (fJ27_sub p0 p1 p2) := by
  unfold fJ27_sub
  with_reducible repeat' (first | intro _ | apply xL_let | apply xL_ite | apply xL_pure)
theorem xl_fJ27_size (a0 : Nat) : xL (fJ27_size a0) := by
  unfold fJ27_size
  with_reducible repeat' (first | intro _ | apply xL_bind | apply xL_pure | apply xL_gR | apply xL_gI | apply xL_len | apply xl_fJ27_sub)
theorem xl_fX1_field (a0 : Nat) (p0 : Int32) (p1 : Int32) : xL (fX1_field a0 p0 p1) := by
  unfold fX1_field
  with_reducible repeat' (first | intro _ | apply xL_bind | apply xL_ite | apply xL_pure | apply xL_gR | apply xL_gI | apply xL_throw | apply xL_mk | apply xL_sel | apply xLs_cons | exact xLs_nil | apply xl_fX1_herd | apply xl_fX10_total | apply xl_fX10_adults | apply xl_fX6_left | apply xl_fJ27_size)
theorem xl_fX0_field (p0 : Option Nat) (p1 : Int32) (p2 : Int32) (p3 : Option Nat) : xL (fX0_field p0 p1 p2 p3) := by
  unfold fX0_field
  with_reducible repeat' (first | intro _ | apply xL_bind | apply xL_pure | apply xL_stJ | apply xL_try | apply xL_sel | apply xLs_cons | exact xLs_nil | apply xl_fX1_field)
theorem xl_fX1_herdWith (a0 : Nat) (p0 : Int32) (p1 : Int32) : xL (fX1_herdWith a0 p0 p1) := by
  unfold fX1_herdWith
  with_reducible repeat' (first | intro _ | apply xL_bind | apply xL_pure | apply xL_gR | apply xL_gI | apply xL_sel | apply xLs_cons | exact xLs_nil | apply xl_fX1_herd | apply xl_fX1_checkIndex)
theorem xl_fX1_survival (a0 : Nat) (p0 : Int32) (p1 : Int32) : xL (fX1_survival a0 p0 p1) := by
  unfold fX1_survival
  with_reducible repeat' (first | intro _ | apply xL_bind | apply xL_pure | apply xL_gR | apply xL_ldI | apply xL_sel | apply xLs_cons | exact xLs_nil | apply xl_fX1_herdWith)
theorem xl_fX0_survival (p0 : Option Nat) (p1 : Int32) (p2 : Int32) (p3 : Option Nat) : xL (fX0_survival p0 p1 p2 p3) := by
  unfold fX0_survival
  with_reducible repeat' (first | intro _ | apply xL_bind | apply xL_pure | apply xL_stJ | apply xL_try | apply xL_sel | apply xLs_cons | exact xLs_nil | apply xl_fX1_survival)
theorem xl_fX1_fecundity (a0 : Nat) (p0 : Int32) (p1 : Int32) : xL (fX1_fecundity a0 p0 p1) := by
  unfold fX1_fecundity
  with_reducible repeat' (first | intro _ | apply xL_bind | apply xL_pure | apply xL_gR | apply xL_ldI | apply xL_sel | apply xLs_cons | exact xLs_nil | apply xl_fX1_herdWith)
theorem xl_fX0_fecundity (p0 : Option Nat) (p1 : Int32) (p2 : Int32) (p3 : Option Nat) : xL (fX0_fecundity p0 p1 p2 p3) := by
  unfold fX0_fecundity
  with_reducible repeat' (first | intro _ | apply xL_bind | apply xL_pure | apply xL_stJ | apply xL_try | apply xL_sel | apply xLs_cons | exact xLs_nil | apply xl_fX1_fecundity)
theorem xl_fX1_cohort (a0 : Nat) (p0 : Int32) (p1 : Int32) : xL (fX1_cohort a0 p0 p1) := by
  unfold fX1_cohort
  with_reducible repeat' (first | intro _ | apply xL_bind | apply xL_pure | apply xL_sel | apply xLs_cons | exact xLs_nil | apply xl_fX1_herdWith | apply xl_fX6_cohort)
theorem xl_fX0_cohort (p0 : Option Nat) (p1 : Int32) (p2 : Int32) (p3 : Option Nat) : xL (fX0_cohort p0 p1 p2 p3) := by
  unfold fX0_cohort
  with_reducible repeat' (first | intro _ | apply xL_bind | apply xL_pure | apply xL_stJ | apply xL_try | apply xL_sel | apply xLs_cons | exact xLs_nil | apply xl_fX1_cohort)
theorem xl_fX6_alive_p5 : ∀ n y0 y1 y2 y3, xL (fX6_alive_p5 n y0 y1 y2 y3) := by
  intro n
  induction n with
  | zero => intros; rw [fX6_alive_p5]; exact xL_stuck
  | succ n ih =>
    intros
    rw [fX6_alive_p5]
    with_reducible repeat' (first | intro _ | apply xL_bind | apply xL_let | apply xL_ite | apply xL_pure | apply xL_gR | apply xL_stuck | apply xL_ldI | apply xL_dvJ | apply ih)
theorem xl_fX6_alive (a0 : Nat) (p0 : Int32) : xL (fX6_alive a0 p0) := by
  unfold fX6_alive
  with_reducible repeat' (first | intro _ | apply xL_let | apply xl_fX6_alive_p5)
theorem xl_fX1_alive (a0 : Nat) (p0 : Int32) (p1 : Int32) : xL (fX1_alive a0 p0 p1) := by
  unfold fX1_alive
  with_reducible repeat' (first | intro _ | apply xL_bind | apply xL_pure | apply xL_sel | apply xLs_cons | exact xLs_nil | apply xl_fX1_herdWith | apply xl_fX6_alive)
theorem xl_fX0_alive (p0 : Option Nat) (p1 : Int32) (p2 : Int32) (p3 : Option Nat) : xL (fX0_alive p0 p1 p2 p3) := by
  unfold fX0_alive
  with_reducible repeat' (first | intro _ | apply xL_bind | apply xL_pure | apply xL_stJ | apply xL_try | apply xL_sel | apply xLs_cons | exact xLs_nil | apply xl_fX1_alive)
theorem xl_fX1_dying (a0 : Nat) (p0 : Int32) (p1 : Int32) : xL (fX1_dying a0 p0 p1) := by
  unfold fX1_dying
  with_reducible repeat' (first | intro _ | apply xL_bind | apply xL_ite | apply xL_pure | apply xL_gR | apply xL_gI | apply xL_sel | apply xLs_cons | exact xLs_nil | apply xl_fX1_herdWith | apply xl_fX6_alive)
theorem xl_fX0_dying (p0 : Option Nat) (p1 : Int32) (p2 : Int32) (p3 : Option Nat) : xL (fX0_dying p0 p1 p2 p3) := by
  unfold fX0_dying
  with_reducible repeat' (first | intro _ | apply xL_bind | apply xL_pure | apply xL_stJ | apply xL_try | apply xL_sel | apply xLs_cons | exact xLs_nil | apply xl_fX1_dying)
theorem xl_fX1_expectation_p15 : ∀ n y0 y1 y2 y3, xL (fX1_expectation_p15 n y0 y1 y2 y3) := by
  intro n
  induction n with
  | zero => intros; rw [fX1_expectation_p15]; exact xL_stuck
  | succ n ih =>
    intros
    rw [fX1_expectation_p15]
    with_reducible repeat' (first | intro _ | apply xL_bind | apply xL_let | apply xL_ite | apply xL_pure | apply xL_gR | apply xL_gI | apply xL_stuck | apply xL_nan | apply xL_sel | apply xLs_cons | exact xLs_nil | apply xl_fX6_alive | apply ih)
theorem xl_fX1_expectation (a0 : Nat) (p0 : Int32) (p1 : Int32) : xL (fX1_expectation a0 p0 p1) := by
  unfold fX1_expectation
  with_reducible repeat' (first | intro _ | apply xL_bind | apply xL_let | apply xL_sel | apply xLs_cons | exact xLs_nil | apply xl_fX1_herdWith | apply xl_fX1_expectation_p15)
theorem xl_fX0_expectation (p0 : Option Nat) (p1 : Int32) (p2 : Int32) (p3 : Option Nat) : xL (fX0_expectation p0 p1 p2 p3) := by
  unfold fX0_expectation
  with_reducible repeat' (first | intro _ | apply xL_bind | apply xL_pure | apply xL_stD | apply xL_try | apply xL_sel | apply xLs_cons | exact xLs_nil | apply xl_fX1_expectation)
theorem xl_fX1_lambda_reproduction_0 (p0 : Option Nat) (p1 : Int32) : xL (fX1_lambda_reproduction_0 p0 p1) := by
  unfold fX1_lambda_reproduction_0
  with_reducible repeat' (first | intro _ | apply xL_bind | apply xL_pure | apply xL_gR | apply xL_ldI | apply xL_sel | apply xLs_cons | exact xLs_nil | apply xl_fX6_alive)
theorem xl_fL_0 (a0 : Nat) (p0 : Int32) : xL (fL_0 a0 p0) := by
  unfold fL_0
  with_reducible repeat' (first | intro _ | apply xL_bind | apply xL_pure | apply xL_gR | apply xl_fX1_lambda_reproduction_0)
theorem xl_fX1_lambda_generation_1 (p0 : Option Nat) (p1 : Int32) : xL (fX1_lambda_generation_1 p0 p1) := by
  unfold fX1_lambda_generation_1
  with_reducible repeat' (first | intro _ | apply xL_bind | apply xL_pure | apply xL_gR | apply xL_ldI | apply xL_sel | apply xLs_cons | exact xLs_nil | apply xl_fX6_alive)
theorem xl_fL_1 (a0 : Nat) (p0 : Int32) : xL (fL_1 a0 p0) := by
  unfold fL_1
  with_reducible repeat' (first | intro _ | apply xL_bind | apply xL_pure | apply xL_gR | apply xl_fX1_lambda_generation_1)
theorem xl_fX1_lambda_generation_2 (p0 : Option Nat) (p1 : Int32) : xL (fX1_lambda_generation_2 p0 p1) := by
  unfold fX1_lambda_generation_2
  with_reducible repeat' (first | intro _ | apply xL_bind | apply xL_pure | apply xL_gR | apply xL_ldI | apply xL_sel | apply xLs_cons | exact xLs_nil | apply xl_fX6_alive)
theorem xl_fL_2 (a0 : Nat) (p0 : Int32) : xL (fL_2 a0 p0) := by
  unfold fL_2
  with_reducible repeat' (first | intro _ | apply xL_bind | apply xL_pure | apply xL_gR | apply xl_fX1_lambda_generation_2)
theorem xl_fX1_overAges_p5 : ∀ n y0 y1 y2 y3, xL (fX1_overAges_p5 n y0 y1 y2 y3) := by
  intro n
  induction n with
  | zero => intros; rw [fX1_overAges_p5]; exact xL_stuck
  | succ n ih =>
    intros
    rw [fX1_overAges_p5]
    with_reducible repeat' (first | intro _ | apply xL_bind | apply xL_let | apply xL_ite | apply xL_pure | apply xL_gR | apply xL_gI | apply xL_stuck | apply xL_sel | apply xLs_cons | exact xLs_nil | apply xl_fL_0 | apply xl_fL_1 | apply xl_fL_2 | apply ih)
theorem xl_fX1_overAges (p0 : Option Nat) (p1 : Option Nat) : xL (fX1_overAges p0 p1) := by
  unfold fX1_overAges
  with_reducible repeat' (first | intro _ | apply xL_let | apply xl_fX1_overAges_p5)
theorem xl_fX1_reproduction (a0 : Nat) (p0 : Int32) : xL (fX1_reproduction a0 p0) := by
  unfold fX1_reproduction
  with_reducible repeat' (first | intro _ | apply xL_bind | apply xL_pure | apply xL_new | apply xL_nan | apply xL_sel | apply xLs_cons | exact xLs_nil | apply xl_fX1_herd | apply xl_fX1_overAges)
theorem xl_fX0_reproduction (p0 : Option Nat) (p1 : Int32) (p2 : Option Nat) : xL (fX0_reproduction p0 p1 p2) := by
  unfold fX0_reproduction
  with_reducible repeat' (first | intro _ | apply xL_bind | apply xL_pure | apply xL_stD | apply xL_try | apply xL_sel | apply xLs_cons | exact xLs_nil | apply xl_fX1_reproduction)
theorem xl_fX1_generation (a0 : Nat) (p0 : Int32) : xL (fX1_generation a0 p0) := by
  unfold fX1_generation
  with_reducible repeat' (first | intro _ | apply xL_bind | apply xL_ite | apply xL_pure | apply xL_new | apply xL_nan | apply xL_sel | apply xLs_cons | exact xLs_nil | apply xl_fX1_herd | apply xl_fX1_overAges)
theorem xl_fX0_generation (p0 : Option Nat) (p1 : Int32) (p2 : Option Nat) : xL (fX0_generation p0 p1 p2) := by
  unfold fX0_generation
  with_reducible repeat' (first | intro _ | apply xL_bind | apply xL_pure | apply xL_stD | apply xL_try | apply xL_sel | apply xLs_cons | exact xLs_nil | apply xl_fX1_generation)
theorem xl_fX1_checkThere (p0 : Int32) : xL (fX1_checkThere p0) := by
  unfold fX1_checkThere
  with_reducible repeat' (first | intro _ | apply xL_bind | apply xL_ite | apply xL_pure | apply xL_throw | apply xL_mk)
theorem xl_fJ16_init__J17 (a0 : Nat) : xL (fJ16_init__J17 a0) := by
  unfold fJ16_init__J17
  with_reducible repeat' (first | intro _ | apply xL_pure)
theorem xl_fJ17_init (a0 : Nat) (p0 : Int32) : xL (fJ17_init a0 p0) := by
  unfold fJ17_init
  with_reducible repeat' (first | intro _ | apply xL_bind | apply xL_pure | apply xL_put | apply xl_fJ16_init__J17)
theorem xl_fJ17_valueOf_p23 (l0 : Int32) : xL (fJ17_valueOf_p23 l0) := by
  unfold fJ17_valueOf_p23
  with_reducible repeat' (first | intro _ | apply xL_bind | apply xL_pure | apply xL_new | apply xl_fJ17_init)
theorem xl_fJ17_valueOf (p0 : Int32) : xL (fJ17_valueOf p0) := by
  unfold fJ17_valueOf
  with_reducible repeat' (first | intro _ | apply xL_bind | apply xL_ite | apply xL_pure | apply xL_con | apply xL_ldR | apply xl_fJ17_valueOf_p23)
theorem xl_fJ17_compare (p0 : Int32) (p1 : Int32) : xL (fJ17_compare p0 p1) := by
  unfold fJ17_compare
  with_reducible repeat' (first | intro _ | apply xL_ite | apply xL_pure)
theorem xl_fJ17_compareTo_2 (a0 : Nat) (p0 : Option Nat) : xL (fJ17_compareTo_2 a0 p0) := by
  unfold fJ17_compareTo_2
  with_reducible repeat' (first | intro _ | apply xL_bind | apply xL_pure | apply xL_gI | apply xl_fJ17_compare)
theorem xl_fJ17_compareTo (a0 : Nat) (p0 : Option Nat) : xL (fJ17_compareTo a0 p0) := by
  unfold fJ17_compareTo
  with_reducible repeat' (first | intro _ | apply xL_bind | apply xL_pure | apply xL_cst | apply xL_sel | apply xLs_cons | exact xLs_nil | apply xl_fJ17_compareTo_2)
theorem xl_fJ25_requireNonNull (p0 : Option Nat) : xL (fJ25_requireNonNull p0) := by
  unfold fJ25_requireNonNull
  with_reducible repeat' (first | intro _ | apply xL_ite | apply xL_pure | apply xL_stuck)
theorem xl_fJ31_ordinal__X23 (a0 : Nat) : xL (fJ31_ordinal__X23 a0) := by
  unfold fJ31_ordinal__X23
  with_reducible repeat' (first | intro _ | apply xL_bind | apply xL_pure | apply xL_gI)
theorem xl_fJ31_ordinal__X24 (a0 : Nat) : xL (fJ31_ordinal__X24 a0) := by
  unfold fJ31_ordinal__X24
  with_reducible repeat' (first | intro _ | apply xL_bind | apply xL_pure | apply xL_gI)
theorem xl_fJ31_ordinal__X25 (a0 : Nat) : xL (fJ31_ordinal__X25 a0) := by
  unfold fJ31_ordinal__X25
  with_reducible repeat' (first | intro _ | apply xL_bind | apply xL_pure | apply xL_gI)
theorem xl_fX18_part (a0 : Nat) (p0 : Int32) : xL (fX18_part a0 p0) := by
  unfold fX18_part
  with_reducible repeat' (first | intro _ | apply xL_bind | apply xL_ite | apply xL_pure | apply xL_gR | apply xL_gI | apply xL_sel | apply xLs_cons | exact xLs_nil | apply xl_fJ31_ordinal__X23 | apply xl_fJ31_ordinal__X24 | apply xl_fJ31_ordinal__X25)
theorem xl_fX16_compare_2_p2 : ∀ n y0 y1 y2, xL (fX16_compare_2_p2 n y0 y1 y2) := by
  intro n
  induction n with
  | zero => intros; rw [fX16_compare_2_p2]; exact xL_stuck
  | succ n ih =>
    intros
    rw [fX16_compare_2_p2]
    with_reducible repeat' (first | intro _ | apply xL_bind | apply xL_let | apply xL_ite | apply xL_pure | apply xL_gI | apply xL_stuck | apply xL_sel | apply xLs_cons | exact xLs_nil | apply xl_fX18_part | apply ih)
theorem xl_fX16_compare_2 (a0 : Nat) (p0 : Option Nat) (p1 : Option Nat) : xL (fX16_compare_2 a0 p0 p1) := by
  unfold fX16_compare_2
  with_reducible repeat' (first | intro _ | apply xL_let | apply xl_fX16_compare_2_p2)
theorem xl_fX16_compare (a0 : Nat) (p0 : Option Nat) (p1 : Option Nat) : xL (fX16_compare a0 p0 p1) := by
  unfold fX16_compare
  with_reducible repeat' (first | intro _ | apply xL_bind | apply xL_pure | apply xL_cst | apply xL_sel | apply xLs_cons | exact xLs_nil | apply xl_fX16_compare_2)
theorem xl_fJ29_getEntryUsingComparator_p69 (k17 : Option Nat → Option Nat → Option Nat → xM (Option Nat)) (l2 : Option Nat) (l3 : Option Nat) (l4 : Option Nat) (h_k17 : ∀ y0 y1 y2, xL (k17 y0 y1 y2)) : xL (fJ29_getEntryUsingComparator_p69 k17 l2 l3 l4) := by
  unfold fJ29_getEntryUsingComparator_p69
  with_reducible repeat' (first | intro _ | apply h_k17)
theorem xl_fJ29_getEntryUsingComparator_p72 : xL (fJ29_getEntryUsingComparator_p72) := by
  unfold fJ29_getEntryUsingComparator_p72
  with_reducible repeat' (first | intro _ | apply xL_pure)
theorem xl_fJ29_getEntryUsingComparator_p17 : ∀ n y0 y1 y2, xL (fJ29_getEntryUsingComparator_p17 n y0 y1 y2) := by
  intro n
  induction n with
  | zero => intros; rw [fJ29_getEntryUsingComparator_p17]; exact xL_stuck
  | succ n ih =>
    intros
    rw [fJ29_getEntryUsingComparator_p17]
    with_reducible repeat' (first | intro _ | apply xL_bind | apply xL_ite | apply xL_pure | apply xL_gR | apply xL_stuck | apply xL_sel | apply xLs_cons | exact xLs_nil | apply xl_fJ29_getEntryUsingComparator_p72 | apply xl_fX16_compare | apply xl_fJ29_getEntryUsingComparator_p69 | apply ih)
theorem xl_fJ29_getEntryUsingComparator (a0 : Nat) (p0 : Option Nat) : xL (fJ29_getEntryUsingComparator a0 p0) := by
  unfold fJ29_getEntryUsingComparator
  with_reducible repeat' (first | intro _ | apply xL_bind | apply xL_ite | apply xL_gR | apply xl_fJ29_getEntryUsingComparator_p72 | apply xl_fJ29_getEntryUsingComparator_p17)
theorem xl_fJ29_getEntry_p72 (k28 : Option Nat → Option Nat → xM (Option Nat)) (l2 : Option Nat) (l3 : Option Nat) (h_k28 : ∀ y0 y1, xL (k28 y0 y1)) : xL (fJ29_getEntry_p72 k28 l2 l3) := by
  unfold fJ29_getEntry_p72
  with_reducible repeat' (first | intro _ | apply h_k28)
theorem xl_fJ29_getEntry_p28 : ∀ n y0 y1, xL (fJ29_getEntry_p28 n y0 y1) := by
  intro n
  induction n with
  | zero => intros; rw [fJ29_getEntry_p28]; exact xL_stuck
  | succ n ih =>
    intros
    rw [fJ29_getEntry_p28]
    with_reducible repeat' (first | intro _ | apply xL_bind | apply xL_ite | apply xL_pure | apply xL_gR | apply xL_stuck | apply xL_sel | apply xLs_cons | exact xLs_nil | apply xl_fJ17_compareTo | apply xl_fJ29_getEntry_p72 | apply ih)
theorem xl_fJ29_getEntry (a0 : Nat) (p0 : Option Nat) : xL (fJ29_getEntry a0 p0) := by
  unfold fJ29_getEntry
  with_reducible repeat' (first | intro _ | apply xL_bind | apply xL_ite | apply xL_pure | apply xL_gR | apply xL_cst | apply xL_sel | apply xLs_cons | exact xLs_nil | apply xl_fJ25_requireNonNull | apply xl_fJ29_getEntry_p28 | apply xl_fJ29_getEntryUsingComparator)
theorem xl_fJ29_get (a0 : Nat) (p0 : Option Nat) : xL (fJ29_get a0 p0) := by
  unfold fJ29_get
  with_reducible repeat' (first | intro _ | apply xL_bind | apply xL_ite | apply xL_pure | apply xL_gR | apply xL_sel | apply xLs_cons | exact xLs_nil | apply xl_fJ29_getEntry)
theorem xl_fX6_ledger (a0 : Nat) (p0 : Int32) (p1 : Int32) : xL (fX6_ledger a0 p0 p1) := by
  unfold fX6_ledger
  with_reducible repeat' (first | intro _ | apply xL_bind | apply xL_ite | apply xL_pure | apply xL_gR | apply xL_put | apply xL_cst | apply xL_sel | apply xLs_cons | exact xLs_nil | apply xl_fX10_total | apply xl_fJ17_valueOf | apply xl_fJ29_get)
theorem xl_fX1_ledgerOf_p26 (l3 : Option Nat) (s0 : Int32) : xL (fX1_ledgerOf_p26 l3 s0) := by
  unfold fX1_ledgerOf_p26
  with_reducible repeat' (first | intro _ | apply xL_bind | apply xL_pure | apply xl_fX1_checkThere)
theorem xl_fX1_ledgerOf (a0 : Nat) (p0 : Int32) (p1 : Int32) : xL (fX1_ledgerOf a0 p0 p1) := by
  unfold fX1_ledgerOf
  with_reducible repeat' (first | intro _ | apply xL_bind | apply xL_ite | apply xL_gR | apply xL_gI | apply xL_sel | apply xLs_cons | exact xLs_nil | apply xl_fX1_herd | apply xl_fX6_ledger | apply xl_fX1_ledgerOf_p26)
theorem xl_fX1_part (p0 : Int32) : xL (fX1_part p0) := by
  unfold fX1_part
  with_reducible repeat' (first | intro _ | apply xL_bind | apply xL_pure | apply xL_con | apply xL_stR | apply xL_ldR | apply xL_newA)
theorem xl_fX1_lambda_part_3 (p0 : Option Nat) : xL (fX1_lambda_part_3 p0) := by
  unfold fX1_lambda_part_3
  with_reducible repeat' (first | intro _ | apply xL_bind | apply xL_pure | apply xL_gI)
theorem xl_fL_3 (a0 : Nat) (p0 : Option Nat) : xL (fL_3 a0 p0) := by
  unfold fL_3
  with_reducible repeat' (first | intro _ | apply xL_bind | apply xL_pure | apply xl_fX1_lambda_part_3)
theorem xl_fX1_lambda_part_4 (p0 : Option Nat) : xL (fX1_lambda_part_4 p0) := by
  unfold fX1_lambda_part_4
  with_reducible repeat' (first | intro _ | apply xL_bind | apply xL_pure | apply xL_gI)
theorem xl_fL_4 (a0 : Nat) (p0 : Option Nat) : xL (fL_4 a0 p0) := by
  unfold fL_4
  with_reducible repeat' (first | intro _ | apply xL_bind | apply xL_pure | apply xl_fX1_lambda_part_4)
theorem xl_fX1_lambda_part_5 (p0 : Option Nat) : xL (fX1_lambda_part_5 p0) := by
  unfold fX1_lambda_part_5
  with_reducible repeat' (first | intro _ | apply xL_bind | apply xL_pure | apply xL_gI)
theorem xl_fL_5 (a0 : Nat) (p0 : Option Nat) : xL (fL_5 a0 p0) := by
  unfold fL_5
  with_reducible repeat' (first | intro _ | apply xL_bind | apply xL_pure | apply xl_fX1_lambda_part_5)
theorem xl_fX1_lambda_part_6 (p0 : Option Nat) : xL (fX1_lambda_part_6 p0) := by
  unfold fX1_lambda_part_6
  with_reducible repeat' (first | intro _ | apply xL_bind | apply xL_pure | apply xL_gI)
theorem xl_fL_6 (a0 : Nat) (p0 : Option Nat) : xL (fL_6 a0 p0) := by
  unfold fL_6
  with_reducible repeat' (first | intro _ | apply xL_bind | apply xL_pure | apply xl_fX1_lambda_part_6)
theorem xl_fX1_lambda_part_7 (p0 : Option Nat) : xL (fX1_lambda_part_7 p0) := by
  unfold fX1_lambda_part_7
  with_reducible repeat' (first | intro _ | apply xL_bind | apply xL_pure | apply xL_gI)
theorem xl_fL_7 (a0 : Nat) (p0 : Option Nat) : xL (fL_7 a0 p0) := by
  unfold fL_7
  with_reducible repeat' (first | intro _ | apply xL_bind | apply xL_pure | apply xl_fX1_lambda_part_7)
theorem xl_fX1_lambda_part_8 (p0 : Option Nat) : xL (fX1_lambda_part_8 p0) := by
  unfold fX1_lambda_part_8
  with_reducible repeat' (first | intro _ | apply xL_bind | apply xL_pure | apply xL_gI)
theorem xl_fL_8 (a0 : Nat) (p0 : Option Nat) : xL (fL_8 a0 p0) := by
  unfold fL_8
  with_reducible repeat' (first | intro _ | apply xL_bind | apply xL_pure | apply xl_fX1_lambda_part_8)
theorem xl_fX1_lambda_part_9 (p0 : Option Nat) : xL (fX1_lambda_part_9 p0) := by
  unfold fX1_lambda_part_9
  with_reducible repeat' (first | intro _ | apply xL_bind | apply xL_pure | apply xL_gI)
theorem xl_fL_9 (a0 : Nat) (p0 : Option Nat) : xL (fL_9 a0 p0) := by
  unfold fL_9
  with_reducible repeat' (first | intro _ | apply xL_bind | apply xL_pure | apply xl_fX1_lambda_part_9)
theorem xl_fX1_ledger (a0 : Nat) (p0 : Int32) (p1 : Int32) (p2 : Int32) : xL (fX1_ledger a0 p0 p1 p2) := by
  unfold fX1_ledger
  with_reducible repeat' (first | intro _ | apply xL_bind | apply xL_pure | apply xL_sel | apply xLs_cons | exact xLs_nil | apply xl_fX1_ledgerOf | apply xl_fX1_inRange | apply xl_fX1_checkThere | apply xl_fX1_part | apply xl_fL_3 | apply xl_fL_4 | apply xl_fL_5 | apply xl_fL_6 | apply xl_fL_7 | apply xl_fL_8 | apply xl_fL_9)
theorem xl_fX0_ledger (p0 : Option Nat) (p1 : Int32) (p2 : Int32) (p3 : Int32) (p4 : Option Nat) : xL (fX0_ledger p0 p1 p2 p3 p4) := by
  unfold fX0_ledger
  with_reducible repeat' (first | intro _ | apply xL_bind | apply xL_pure | apply xL_stJ | apply xL_try | apply xL_sel | apply xLs_cons | exact xLs_nil | apply xl_fX1_ledger)
theorem xl_fJ29_compare (a0 : Nat) (p0 : Option Nat) (p1 : Option Nat) : xL (fJ29_compare a0 p0 p1) := by
  unfold fJ29_compare
  with_reducible repeat' (first | intro _ | apply xL_bind | apply xL_ite | apply xL_pure | apply xL_gR | apply xL_cst | apply xL_sel | apply xLs_cons | exact xLs_nil | apply xl_fJ17_compareTo | apply xl_fX16_compare)
theorem xl_fJ29_getFloorEntry_p102 (k5 : Nat → Option Nat → Option Nat → xM (Option Nat)) (l0 : Nat) (l1 : Option Nat) (l2 : Option Nat) (h_k5 : ∀ y0 y1 y2, xL (k5 y0 y1 y2)) : xL (fJ29_getFloorEntry_p102 k5 l0 l1 l2) := by
  unfold fJ29_getFloorEntry_p102
  with_reducible repeat' (first | intro _ | apply h_k5)
theorem xl_fJ29_getFloorEntry_p68 : ∀ n y0 y1, xL (fJ29_getFloorEntry_p68 n y0 y1) := by
  intro n
  induction n with
  | zero => intros; rw [fJ29_getFloorEntry_p68]; exact xL_stuck
  | succ n ih =>
    intros
    rw [fJ29_getFloorEntry_p68]
    with_reducible repeat' (first | intro _ | apply xL_bind | apply xL_ite | apply xL_pure | apply xL_gR | apply xL_stuck | apply ih)
theorem xl_fJ29_getFloorEntry_p5 : ∀ n y0 y1 y2, xL (fJ29_getFloorEntry_p5 n y0 y1 y2) := by
  intro n
  induction n with
  | zero => intros; rw [fJ29_getFloorEntry_p5]; exact xL_stuck
  | succ n ih =>
    intros
    rw [fJ29_getFloorEntry_p5]
    with_reducible repeat' (first | intro _ | apply xL_bind | apply xL_ite | apply xL_pure | apply xL_gR | apply xL_stuck | apply xL_sel | apply xLs_cons | exact xLs_nil | apply xl_fJ29_compare | apply xl_fJ29_getFloorEntry_p68 | apply xl_fJ29_getFloorEntry_p102 | apply ih)
theorem xl_fJ29_getFloorEntry (a0 : Nat) (p0 : Option Nat) : xL (fJ29_getFloorEntry a0 p0) := by
  unfold fJ29_getFloorEntry
  with_reducible repeat' (first | intro _ | apply xL_bind | apply xL_gR | apply xl_fJ29_getFloorEntry_p5)
theorem xl_fJ47_getKey (a0 : Nat) : xL (fJ47_getKey a0) := by
  unfold fJ47_getKey
  with_reducible repeat' (first | intro _ | apply xL_bind | apply xL_pure | apply xL_gR)
theorem xl_fJ47_getValue (a0 : Nat) : xL (fJ47_getValue a0) := by
  unfold fJ47_getValue
  with_reducible repeat' (first | intro _ | apply xL_bind | apply xL_pure | apply xL_gR)
theorem xl_fJ35_init (a0 : Nat) (p0 : Option Nat) : xL (fJ35_init a0 p0) := by
  unfold fJ35_init
  with_reducible repeat' (first | intro _ | apply xL_bind | apply xL_pure | apply xL_put | apply xL_sel | apply xLs_cons | exact xLs_nil | apply xl_fJ47_getKey | apply xl_fJ47_getValue)
theorem xl_fJ29_exportEntry (p0 : Option Nat) : xL (fJ29_exportEntry p0) := by
  unfold fJ29_exportEntry
  with_reducible repeat' (first | intro _ | apply xL_bind | apply xL_ite | apply xL_pure | apply xL_new | apply xl_fJ35_init)
theorem xl_fJ29_floorEntry (a0 : Nat) (p0 : Option Nat) : xL (fJ29_floorEntry a0 p0) := by
  unfold fJ29_floorEntry
  with_reducible repeat' (first | intro _ | apply xL_bind | apply xL_pure | apply xL_sel | apply xLs_cons | exact xLs_nil | apply xl_fJ29_getFloorEntry | apply xl_fJ29_exportEntry)
theorem xl_fJ35_getValue (a0 : Nat) : xL (fJ35_getValue a0) := by
  unfold fJ35_getValue
  with_reducible repeat' (first | intro _ | apply xL_bind | apply xL_pure | apply xL_gR)
theorem xl_fX1_closingUpTo (a0 : Nat) (p0 : Int32) (p1 : Int32) : xL (fX1_closingUpTo a0 p0 p1) := by
  unfold fX1_closingUpTo
  with_reducible repeat' (first | intro _ | apply xL_bind | apply xL_ite | apply xL_pure | apply xL_gR | apply xL_gI | apply xL_cst | apply xL_sel | apply xLs_cons | exact xLs_nil | apply xl_fX1_herd | apply xl_fJ17_valueOf | apply xl_fJ29_floorEntry | apply xl_fJ35_getValue)
theorem xl_fX0_closingUpTo (p0 : Option Nat) (p1 : Int32) (p2 : Int32) (p3 : Option Nat) : xL (fX0_closingUpTo p0 p1 p2 p3) := by
  unfold fX0_closingUpTo
  with_reducible repeat' (first | intro _ | apply xL_bind | apply xL_pure | apply xL_stJ | apply xL_try | apply xL_sel | apply xLs_cons | exact xLs_nil | apply xl_fX1_closingUpTo)
theorem xl_fJ17_intValue (a0 : Nat) : xL (fJ17_intValue a0) := by
  unfold fJ17_intValue
  with_reducible repeat' (first | intro _ | apply xL_bind | apply xL_pure | apply xL_gI)
theorem xl_fJ38_hasNext__J39 (a0 : Nat) : xL (fJ38_hasNext__J39 a0) := by
  unfold fJ38_hasNext__J39
  with_reducible repeat' (first | intro _ | apply xL_bind | apply xL_ite | apply xL_pure | apply xL_gR)
theorem xl_fJ29_successor_p18 : ∀ n y0, xL (fJ29_successor_p18 n y0) := by
  intro n
  induction n with
  | zero => intros; rw [fJ29_successor_p18]; exact xL_stuck
  | succ n ih =>
    intros
    rw [fJ29_successor_p18]
    with_reducible repeat' (first | intro _ | apply xL_bind | apply xL_ite | apply xL_pure | apply xL_gR | apply xL_stuck | apply ih)
theorem xl_fJ29_successor_p42 : ∀ n y0 y1, xL (fJ29_successor_p42 n y0 y1) := by
  intro n
  induction n with
  | zero => intros; rw [fJ29_successor_p42]; exact xL_stuck
  | succ n ih =>
    intros
    rw [fJ29_successor_p42]
    with_reducible repeat' (first | intro _ | apply xL_bind | apply xL_ite | apply xL_pure | apply xL_gR | apply xL_stuck | apply ih)
theorem xl_fJ29_successor (p0 : Option Nat) : xL (fJ29_successor p0) := by
  unfold fJ29_successor
  with_reducible repeat' (first | intro _ | apply xL_bind | apply xL_ite | apply xL_pure | apply xL_gR | apply xl_fJ29_successor_p42 | apply xl_fJ29_successor_p18)
theorem xl_fJ38_nextEntry__J39 (a0 : Nat) : xL (fJ38_nextEntry__J39 a0) := by
  unfold fJ38_nextEntry__J39
  with_reducible repeat' (first | intro _ | apply xL_bind | apply xL_ite | apply xL_pure | apply xL_gR | apply xL_gI | apply xL_put | apply xL_stuck | apply xl_fJ29_successor)
theorem xl_fJ39_next_2 (a0 : Nat) : xL (fJ39_next_2 a0) := by
  unfold fJ39_next_2
  with_reducible repeat' (first | intro _ | apply xL_bind | apply xL_pure | apply xL_sel | apply xLs_cons | exact xLs_nil | apply xl_fJ38_nextEntry__J39)
theorem xl_fJ39_next (a0 : Nat) : xL (fJ39_next a0) := by
  unfold fJ39_next
  with_reducible repeat' (first | intro _ | apply xL_bind | apply xL_pure | apply xL_sel | apply xLs_cons | exact xLs_nil | apply xl_fJ39_next_2)
theorem xl_fJ0_init__J37 (a0 : Nat) : xL (fJ0_init__J37 a0) := by
  unfold fJ0_init__J37
  with_reducible repeat' (first | intro _ | apply xL_pure)
theorem xl_fJ36_init__J37 (a0 : Nat) : xL (fJ36_init__J37 a0) := by
  unfold fJ36_init__J37
  with_reducible repeat' (first | intro _ | apply xL_bind | apply xL_pure | apply xl_fJ0_init__J37)
theorem xl_fJ37_init (a0 : Nat) (p0 : Option Nat) : xL (fJ37_init a0 p0) := by
  unfold fJ37_init
  with_reducible repeat' (first | intro _ | apply xL_bind | apply xL_pure | apply xL_put | apply xl_fJ36_init__J37)
theorem xl_fJ29_entrySet (a0 : Nat) : xL (fJ29_entrySet a0) := by
  unfold fJ29_entrySet
  with_reducible repeat' (first | intro _ | apply xL_bind | apply xL_ite | apply xL_pure | apply xL_gR | apply xL_put | apply xL_new | apply xl_fJ37_init)
theorem xl_fJ29_getFirstEntry_p9 : ∀ n y0, xL (fJ29_getFirstEntry_p9 n y0) := by
  intro n
  induction n with
  | zero => intros; rw [fJ29_getFirstEntry_p9]; exact xL_stuck
  | succ n ih =>
    intros
    rw [fJ29_getFirstEntry_p9]
    with_reducible repeat' (first | intro _ | apply xL_bind | apply xL_ite | apply xL_pure | apply xL_gR | apply xL_stuck | apply ih)
theorem xl_fJ29_getFirstEntry (a0 : Nat) : xL (fJ29_getFirstEntry a0) := by
  unfold fJ29_getFirstEntry
  with_reducible repeat' (first | intro _ | apply xL_bind | apply xL_ite | apply xL_pure | apply xL_gR | apply xl_fJ29_getFirstEntry_p9)
theorem xl_fJ38_init__J39 (a0 : Nat) (p0 : Option Nat) (p1 : Option Nat) : xL (fJ38_init__J39 a0 p0 p1) := by
  unfold fJ38_init__J39
  with_reducible repeat' (first | intro _ | apply xL_bind | apply xL_pure | apply xL_gI | apply xL_put)
theorem xl_fJ39_init (a0 : Nat) (p0 : Option Nat) (p1 : Option Nat) : xL (fJ39_init a0 p0 p1) := by
  unfold fJ39_init
  with_reducible repeat' (first | intro _ | apply xL_bind | apply xL_pure | apply xl_fJ38_init__J39)
theorem xl_fJ37_iterator (a0 : Nat) : xL (fJ37_iterator a0) := by
  unfold fJ37_iterator
  with_reducible repeat' (first | intro _ | apply xL_bind | apply xL_pure | apply xL_gR | apply xL_new | apply xL_sel | apply xLs_cons | exact xLs_nil | apply xl_fJ29_getFirstEntry | apply xl_fJ39_init)
theorem xl_fX1_worstYear_p97 (k25 : Int32 → Int32 → Option Nat → xM (Int32)) (l2 : Int32) (l3 : Int32) (l4 : Option Nat) (h_k25 : ∀ y0 y1 y2, xL (k25 y0 y1 y2)) : xL (fX1_worstYear_p97 k25 l2 l3 l4) := by
  unfold fX1_worstYear_p97
  with_reducible repeat' (first | intro _ | apply h_k25)
theorem xl_fX1_worstYear_p69 (k25 : Int32 → Int32 → Option Nat → xM (Int32)) (l4 : Option Nat) (l5 : Option Nat) (h_k25 : ∀ y0 y1 y2, xL (k25 y0 y1 y2)) : xL (fX1_worstYear_p69 k25 l4 l5) := by
  unfold fX1_worstYear_p69
  with_reducible repeat' (first | intro _ | apply xL_bind | apply xL_gI | apply xL_cst | apply xL_sel | apply xLs_cons | exact xLs_nil | apply h_k25 | apply xl_fJ47_getKey | apply xl_fJ17_intValue | apply xl_fJ35_getValue | apply xl_fJ47_getValue | apply xl_fX1_worstYear_p97)
theorem xl_fX1_worstYear_p25 : ∀ n y0 y1 y2, xL (fX1_worstYear_p25 n y0 y1 y2) := by
  intro n
  induction n with
  | zero => intros; rw [fX1_worstYear_p25]; exact xL_stuck
  | succ n ih =>
    intros
    rw [fX1_worstYear_p25]
    with_reducible repeat' (first | intro _ | apply xL_bind | apply xL_ite | apply xL_pure | apply xL_gI | apply xL_stuck | apply xL_cst | apply xL_sel | apply xLs_cons | exact xLs_nil | apply xl_fJ38_hasNext__J39 | apply xl_fJ39_next | apply xl_fX1_worstYear_p69 | apply xl_fJ47_getValue | apply xl_fX1_worstYear_p97 | apply ih)
theorem xl_fX1_worstYear (a0 : Nat) (p0 : Int32) : xL (fX1_worstYear a0 p0) := by
  unfold fX1_worstYear
  with_reducible repeat' (first | intro _ | apply xL_bind | apply xL_let | apply xL_gR | apply xL_sel | apply xLs_cons | exact xLs_nil | apply xl_fX1_herd | apply xl_fJ29_entrySet | apply xl_fJ37_iterator | apply xl_fX1_worstYear_p25)
theorem xl_fX0_worstYear (p0 : Option Nat) (p1 : Int32) (p2 : Option Nat) : xL (fX0_worstYear p0 p1 p2) := by
  unfold fX0_worstYear
  with_reducible repeat' (first | intro _ | apply xL_bind | apply xL_pure | apply xL_stJ | apply xL_try | apply xL_sel | apply xLs_cons | exact xLs_nil | apply xl_fX1_worstYear)
theorem xl_fJ38_hasNext__J43 (a0 : Nat) : xL (fJ38_hasNext__J43 a0) := by
  unfold fJ38_hasNext__J43
  with_reducible repeat' (first | intro _ | apply xL_bind | apply xL_ite | apply xL_pure | apply xL_gR)
theorem xl_fJ38_nextEntry__J43 (a0 : Nat) : xL (fJ38_nextEntry__J43 a0) := by
  unfold fJ38_nextEntry__J43
  with_reducible repeat' (first | intro _ | apply xL_bind | apply xL_ite | apply xL_pure | apply xL_gR | apply xL_gI | apply xL_put | apply xL_stuck | apply xl_fJ29_successor)
theorem xl_fJ43_next (a0 : Nat) : xL (fJ43_next a0) := by
  unfold fJ43_next
  with_reducible repeat' (first | intro _ | apply xL_bind | apply xL_pure | apply xL_gR | apply xL_sel | apply xLs_cons | exact xLs_nil | apply xl_fJ38_nextEntry__J43)
theorem xl_fJ0_init__J40 (a0 : Nat) : xL (fJ0_init__J40 a0) := by
  unfold fJ0_init__J40
  with_reducible repeat' (first | intro _ | apply xL_pure)
theorem xl_fJ40_init (a0 : Nat) (p0 : Option Nat) : xL (fJ40_init a0 p0) := by
  unfold fJ40_init
  with_reducible repeat' (first | intro _ | apply xL_bind | apply xL_pure | apply xL_put | apply xl_fJ0_init__J40)
theorem xl_fJ29_values (a0 : Nat) : xL (fJ29_values a0) := by
  unfold fJ29_values
  with_reducible repeat' (first | intro _ | apply xL_bind | apply xL_ite | apply xL_pure | apply xL_gR | apply xL_put | apply xL_new | apply xl_fJ40_init)
theorem xl_fJ19_isPositionIndex (a0 : Nat) (p0 : Int32) : xL (fJ19_isPositionIndex a0 p0) := by
  unfold fJ19_isPositionIndex
  with_reducible repeat' (first | intro _ | apply xL_bind | apply xL_ite | apply xL_pure | apply xL_gI)
theorem xl_fJ19_checkPositionIndex (a0 : Nat) (p0 : Int32) : xL (fJ19_checkPositionIndex a0 p0) := by
  unfold fJ19_checkPositionIndex
  with_reducible repeat' (first | intro _ | apply xL_bind | apply xL_ite | apply xL_pure | apply xL_stuck | apply xL_sel | apply xLs_cons | exact xLs_nil | apply xl_fJ19_isPositionIndex)
theorem xl_fJ19_node_p17 : ∀ n y0 y1 y2, xL (fJ19_node_p17 n y0 y1 y2) := by
  intro n
  induction n with
  | zero => intros; rw [fJ19_node_p17]; exact xL_stuck
  | succ n ih =>
    intros
    rw [fJ19_node_p17]
    with_reducible repeat' (first | intro _ | apply xL_bind | apply xL_let | apply xL_ite | apply xL_pure | apply xL_gR | apply xL_stuck | apply ih)
theorem xl_fJ19_node_p47 : ∀ n y0 y1 y2, xL (fJ19_node_p47 n y0 y1 y2) := by
  intro n
  induction n with
  | zero => intros; rw [fJ19_node_p47]; exact xL_stuck
  | succ n ih =>
    intros
    rw [fJ19_node_p47]
    with_reducible repeat' (first | intro _ | apply xL_bind | apply xL_let | apply xL_ite | apply xL_pure | apply xL_gR | apply xL_stuck | apply ih)
theorem xl_fJ19_node (a0 : Nat) (p0 : Int32) : xL (fJ19_node a0 p0) := by
  unfold fJ19_node
  with_reducible repeat' (first | intro _ | apply xL_bind | apply xL_let | apply xL_ite | apply xL_gR | apply xL_gI | apply xl_fJ19_node_p47 | apply xl_fJ19_node_p17)
theorem xl_fJ24_init_p38 (l0 : Nat) (l2 : Int32) (s0 : Option Nat) (s1 : Nat) : xL (fJ24_init_p38 l0 l2 s0 s1) := by
  unfold fJ24_init_p38
  with_reducible repeat' (first | intro _ | apply xL_bind | apply xL_pure | apply xL_put)
theorem xl_fJ24_init (a0 : Nat) (p0 : Option Nat) (p1 : Int32) : xL (fJ24_init a0 p0 p1) := by
  unfold fJ24_init
  with_reducible repeat' (first | intro _ | apply xL_bind | apply xL_ite | apply xL_gR | apply xL_gI | apply xL_put | apply xL_sel | apply xLs_cons | exact xLs_nil | apply xl_fJ24_init_p38 | apply xl_fJ19_node)
