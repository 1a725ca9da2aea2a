/-! part 14: classes for the rows; printed by gen/drive.py -/
set_option maxRecDepth 100000
def xFU : Nat := 1000000
theorem xk_0 : xCls 0 RX1 TX1 7 tyX1 := ⟨rfl, in_X1, tyX1_ok, nmX1, by decide⟩
theorem xdf_0 : ∀ k, k < 7 → defaultValue (tyX1 k) = vp_V ([.null, .int 0, .int 0, .int 0, .null, .null, .null] : List Value) k := by decide +kernel
theorem xk_1 : xCls 1 RX2 TX2 5 tyX2 := ⟨rfl, in_X2, tyX2_ok, nmX2, by decide⟩
theorem xdf_1 : ∀ k, k < 5 → defaultValue (tyX2 k) = vp_V ([.null, .null, .int 0, .int 0, .int 0] : List Value) k := by decide +kernel
theorem xk_2 : xCls 2 RJ2 TJ2 3 tyJ2 := ⟨rfl, in_J2, tyJ2_ok, nmJ2, by decide⟩
theorem xdf_2 : ∀ k, k < 3 → defaultValue (tyJ2 k) = vp_V ([.int 0, .null, .int 0] : List Value) k := by decide +kernel
theorem xk_3 : xCls 3 RJ6 TJ6 0 (fun _ => .int) := ⟨rfl, (fun w h => by cases h), fun k h => absurd h (Nat.not_lt_zero k), fun a h => absurd h (Nat.not_lt_zero a), by decide⟩
theorem xk_4 : xCls 4 RJ8 TJ8 4 tyJ8 := ⟨rfl, in_J8, tyJ8_ok, nmJ8, by decide⟩
theorem xdf_4 : ∀ k, k < 4 → defaultValue (tyJ8 k) = vp_V ([.null, .int 0, .int 0, .int 0] : List Value) k := by decide +kernel
theorem xk_5 : xCls 5 RJ9 TJ9 4 tyJ9 := ⟨rfl, in_J9, tyJ9_ok, nmJ9, by decide⟩
theorem xdf_5 : ∀ k, k < 4 → defaultValue (tyJ9 k) = vp_V ([.null, .int 0, .int 0, .int 0] : List Value) k := by decide +kernel
theorem xk_6 : xCls 6 RJ19 TJ19 4 tyJ19 := ⟨rfl, in_J19, tyJ19_ok, nmJ19, by decide⟩
theorem xdf_6 : ∀ k, k < 4 → defaultValue (tyJ19 k) = vp_V ([.int 0, .int 0, .null, .null] : List Value) k := by decide +kernel
theorem xk_7 : xCls 7 RJ20 TJ20 4 tyJ20 := ⟨rfl, in_J20, tyJ20_ok, nmJ20, by decide⟩
theorem xdf_7 : ∀ k, k < 4 → defaultValue (tyJ20 k) = vp_V ([.int 0, .int 0, .int 0, .null] : List Value) k := by decide +kernel
theorem xk_8 : xCls 8 RJ21 TJ21 0 (fun _ => .int) := ⟨rfl, (fun w h => by cases h), fun k h => absurd h (Nat.not_lt_zero k), fun a h => absurd h (Nat.not_lt_zero a), by decide⟩
theorem xk_9 : xCls 9 RJ24 TJ24 5 tyJ24 := ⟨rfl, in_J24, tyJ24_ok, nmJ24, by decide⟩
theorem xdf_9 : ∀ k, k < 5 → defaultValue (tyJ24 k) = vp_V ([.null, .null, .int 0, .int 0, .null] : List Value) k := by decide +kernel
theorem xk_10 : xCls 10 RJ26 TJ26 0 (fun _ => .int) := ⟨rfl, (fun w h => by cases h), fun k h => absurd h (Nat.not_lt_zero k), fun a h => absurd h (Nat.not_lt_zero a), by decide⟩
theorem xk_11 : xCls 11 RJ40 TJ40 1 tyJ40 := ⟨rfl, in_J40, tyJ40_ok, nmJ40, by decide⟩
theorem xdf_11 : ∀ k, k < 1 → defaultValue (tyJ40 k) = vp_V ([.null] : List Value) k := by decide +kernel
theorem xk_12 : xCls 12 RJ41 TJ41 4 tyJ41 := ⟨rfl, in_J41, tyJ41_ok, nmJ41, by decide⟩
theorem xdf_12 : ∀ k, k < 4 → defaultValue (tyJ41 k) = vp_V ([.int 0, .int 0, .int 0, .null] : List Value) k := by decide +kernel
theorem xk_13 : xCls 13 RJ39 TJ39 4 tyJ39 := ⟨rfl, in_J39, tyJ39_ok, nmJ39, by decide⟩
theorem xdf_13 : ∀ k, k < 4 → defaultValue (tyJ39 k) = vp_V ([.null, .null, .int 0, .null] : List Value) k := by decide +kernel
theorem xk_14 : xCls 14 RJ43 TJ43 4 tyJ43 := ⟨rfl, in_J43, tyJ43_ok, nmJ43, by decide⟩
theorem xdf_14 : ∀ k, k < 4 → defaultValue (tyJ43 k) = vp_V ([.null, .null, .int 0, .null] : List Value) k := by decide +kernel
theorem xk_15 : xCls 15 RJ17 TJ17 1 tyJ17 := ⟨rfl, in_J17, tyJ17_ok, nmJ17, by decide⟩
theorem xdf_15 : ∀ k, k < 1 → defaultValue (tyJ17 k) = vp_V ([.int 0] : List Value) k := by decide +kernel
theorem xk_16 : xCls 16 RJ29 TJ29 9 tyJ29 := ⟨rfl, in_J29, tyJ29_ok, nmJ29, by decide⟩
theorem xdf_16 : ∀ k, k < 9 → defaultValue (tyJ29 k) = vp_V ([.null, .null, .null, .null, .int 0, .int 0, .null, .null, .null] : List Value) k := by decide +kernel
theorem xk_17 : xCls 17 RX4 TX4 5 tyX4 := ⟨rfl, in_X4, tyX4_ok, nmX4, by decide⟩
theorem xdf_17 : ∀ k, k < 5 → defaultValue (tyX4 k) = vp_V ([.int 0, .int 0, .int 0, .null, .null] : List Value) k := by decide +kernel
theorem xk_18 : xCls 18 RX5 TX5 8 tyX5 := ⟨rfl, in_X5, tyX5_ok, nmX5, by decide⟩
theorem xdf_18 : ∀ k, k < 8 → defaultValue (tyX5 k) = vp_V ([.null, .null, .null, .null, .null, .int 0, .int 0, .int 0] : List Value) k := by decide +kernel
theorem xk_19 : xCls 19 RX6 TX6 8 tyX6 := ⟨rfl, in_X6, tyX6_ok, nmX6, by decide⟩
theorem xdf_19 : ∀ k, k < 8 → defaultValue (tyX6 k) = vp_V ([.null, .null, .null, .int 0, .int 0, .int 0, .null, .null] : List Value) k := by decide +kernel
theorem xk_20 : xCls 20 RX7 TX7 6 tyX7 := ⟨rfl, in_X7, tyX7_ok, nmX7, by decide⟩
theorem xdf_20 : ∀ k, k < 6 → defaultValue (tyX7 k) = vp_V ([.null, .int 0, .null, .int 0, .null, .null] : List Value) k := by decide +kernel
theorem xk_21 : xCls 21 RX8 TX8 1 tyX8 := ⟨rfl, in_X8, tyX8_ok, nmX8, by decide⟩
theorem xdf_21 : ∀ k, k < 1 → defaultValue (tyX8 k) = vp_V ([.long 0] : List Value) k := by decide +kernel
theorem xk_22 : xCls 22 RX9 TX9 7 tyX9 := ⟨rfl, in_X9, tyX9_ok, nmX9, by decide⟩
theorem xdf_22 : ∀ k, k < 7 → defaultValue (tyX9 k) = vp_V ([.int 0, .int 0, .int 0, .int 0, .int 0, .int 0, .int 0] : List Value) k := by decide +kernel
theorem xk_23 : xCls 23 RJ27 TJ27 3 tyJ27 := ⟨rfl, in_J27, tyJ27_ok, nmJ27, by decide⟩
theorem xdf_23 : ∀ k, k < 3 → defaultValue (tyJ27 k) = vp_V ([.null, .int 0, .int 0] : List Value) k := by decide +kernel
theorem xk_24 : xCls 24 RX10 TX10 4 tyX10 := ⟨rfl, in_X10, tyX10_ok, nmX10, by decide⟩
theorem xdf_24 : ∀ k, k < 4 → defaultValue (tyX10 k) = vp_V ([.null, .null, .int 0, .int 0] : List Value) k := by decide +kernel
theorem xk_25 : xCls 25 RJ30 TJ30 3 tyJ30 := ⟨rfl, in_J30, tyJ30_ok, nmJ30, by decide⟩
theorem xdf_25 : ∀ k, k < 3 → defaultValue (tyJ30 k) = vp_V ([.null, .null, .null] : List Value) k := by decide +kernel
theorem xk_26 : xCls 26 RX11 TX11 1 tyX11 := ⟨rfl, in_X11, tyX11_ok, nmX11, by decide⟩
theorem xdf_26 : ∀ k, k < 1 → defaultValue (tyX11 k) = vp_V ([.null] : List Value) k := by decide +kernel
theorem xk_27 : xCls 27 RX12 TX12 3 tyX12 := ⟨rfl, in_X12, tyX12_ok, nmX12, by decide⟩
theorem xdf_27 : ∀ k, k < 3 → defaultValue (tyX12 k) = vp_V ([.null, .null, .null] : List Value) k := by decide +kernel
theorem xk_28 : xCls 28 RX13 TX13 4 tyX13 := ⟨rfl, in_X13, tyX13_ok, nmX13, by decide⟩
theorem xdf_28 : ∀ k, k < 4 → defaultValue (tyX13 k) = vp_V ([.long 0, .long 0, .long 0, .long 0] : List Value) k := by decide +kernel
theorem xk_29 : xCls 29 RX14 TX14 6 tyX14 := ⟨rfl, in_X14, tyX14_ok, nmX14, by decide⟩
theorem xdf_29 : ∀ k, k < 6 → defaultValue (tyX14 k) = vp_V ([.null, .null, .null, .null, .null, .int 0] : List Value) k := by decide +kernel
theorem xk_30 : xCls 30 RX15 TX15 6 tyX15 := ⟨rfl, in_X15, tyX15_ok, nmX15, by decide⟩
theorem xdf_30 : ∀ k, k < 6 → defaultValue (tyX15 k) = vp_V ([.null, .null, .null, .null, .null, .int 0] : List Value) k := by decide +kernel
theorem xk_31 : xCls 31 RJ35 TJ35 2 tyJ35 := ⟨rfl, in_J35, tyJ35_ok, nmJ35, by decide⟩
theorem xdf_31 : ∀ k, k < 2 → defaultValue (tyJ35 k) = vp_V ([.null, .null] : List Value) k := by decide +kernel
theorem xk_32 : xCls 32 RJ37 TJ37 1 tyJ37 := ⟨rfl, in_J37, tyJ37_ok, nmJ37, by decide⟩
theorem xdf_32 : ∀ k, k < 1 → defaultValue (tyJ37 k) = vp_V ([.null] : List Value) k := by decide +kernel
theorem xk_33 : xCls 33 RJ45 TJ45 4 tyJ45 := ⟨rfl, in_J45, tyJ45_ok, nmJ45, by decide⟩
theorem xdf_33 : ∀ k, k < 4 → defaultValue (tyJ45 k) = vp_V ([.null, .int 0, .null, .int 0] : List Value) k := by decide +kernel
theorem xk_34 : xCls 34 RX16 TX16 0 (fun _ => .int) := ⟨rfl, (fun w h => by cases h), fun k h => absurd h (Nat.not_lt_zero k), fun a h => absurd h (Nat.not_lt_zero a), by decide⟩
theorem xk_35 : xCls 35 RJ46 TJ46 0 (fun _ => .int) := ⟨rfl, (fun w h => by cases h), fun k h => absurd h (Nat.not_lt_zero k), fun a h => absurd h (Nat.not_lt_zero a), by decide⟩
theorem xk_36 : xCls 36 RJ47 TJ47 6 tyJ47 := ⟨rfl, in_J47, tyJ47_ok, nmJ47, by decide⟩
theorem xdf_36 : ∀ k, k < 6 → defaultValue (tyJ47 k) = vp_V ([.null, .null, .null, .null, .null, .int 0] : List Value) k := by decide +kernel
theorem xk_37 : xCls 37 RX17 TX17 4 tyX17 := ⟨rfl, in_X17, tyX17_ok, nmX17, by decide⟩
theorem xdf_37 : ∀ k, k < 4 → defaultValue (tyX17 k) = vp_V ([.int 0, .int 0, .int 0, .int 0] : List Value) k := by decide +kernel
theorem xk_38 : xCls 38 RX18 TX18 6 tyX18 := ⟨rfl, in_X18, tyX18_ok, nmX18, by decide⟩
theorem xdf_38 : ∀ k, k < 6 → defaultValue (tyX18 k) = vp_V ([.int 0, .null, .int 0, .int 0, .int 0, .int 0] : List Value) k := by decide +kernel
theorem xk_39 : xCls 39 RX3 TX3 25 tyX3 := ⟨rfl, in_X3, tyX3_ok, nmX3, by decide⟩
theorem xdf_39 : ∀ k, k < 25 → defaultValue (tyX3 k) = vp_V ([.int 0, .null, .null, .null, .int 0, .null, .null, .null, .null, .int 0, .null, .null, .int 0, .int 0, .int 0, .int 0, .int 0, .int 0, .int 0, .int 0, .int 0, .int 0, .null, .null, .int 0] : List Value) k := by decide +kernel
theorem q4018 : (Jvm.Cond.castable "ReserveLedger" "java/lang/Object") ∈ lw_tbl := lw_at lw_m17 58 rfl
theorem q4019 : (Jvm.Cond.castable "ReserveLedger$State" "java/lang/Object") ∈ lw_tbl := lw_at lw_m17 59 rfl
theorem q4020 : (Jvm.Cond.castable "java/util/ArrayList" "java/lang/Object") ∈ lw_tbl := lw_at lw_m17 60 rfl
theorem q4021 : (Jvm.Cond.castable "java/lang/IllegalArgumentException" "java/lang/Object") ∈ lw_tbl := lw_at lw_m17 61 rfl
theorem q4022 : (Jvm.Cond.castable "java/lang/StringBuilder" "java/lang/Object") ∈ lw_tbl := lw_at lw_m17 62 rfl
theorem q4023 : (Jvm.Cond.castable "java/lang/String" "java/lang/Object") ∈ lw_tbl := lw_at lw_m17 63 rfl
theorem q4024 : (Jvm.Cond.castable "java/util/LinkedList" "java/lang/Object") ∈ lw_tbl := lw_at lw_m17 64 rfl
theorem q4028 : (Jvm.Cond.castable "java/util/ArrayList$Itr" "java/lang/Object") ∈ lw_tbl := lw_at lw_m17 68 rfl
theorem q4029 : (Jvm.Cond.castable "java/lang/IndexOutOfBoundsException" "java/lang/Object") ∈ lw_tbl := lw_at lw_m17 69 rfl
theorem q4032 : (Jvm.Cond.castable "java/util/LinkedList$ListItr" "java/lang/Object") ∈ lw_tbl := lw_at lw_m17 72 rfl
theorem q4033 : (Jvm.Cond.castable "java/util/NoSuchElementException" "java/lang/Object") ∈ lw_tbl := lw_at lw_m17 73 rfl
theorem q4064 : (Jvm.Cond.castable "java/util/TreeMap$Values" "java/lang/Object") ∈ lw_tbl := lw_at lw_m17 104 rfl
theorem q4065 : (Jvm.Cond.castable "java/util/ArrayDeque$DeqIterator" "java/lang/Object") ∈ lw_tbl := lw_at lw_m17 105 rfl
theorem q4063 : (Jvm.Cond.castable "java/util/TreeMap$EntryIterator" "java/lang/Object") ∈ lw_tbl := lw_at lw_m17 103 rfl
theorem q4066 : (Jvm.Cond.castable "java/util/TreeMap$ValueIterator" "java/lang/Object") ∈ lw_tbl := lw_at lw_m17 106 rfl
theorem q4059 : (Jvm.Cond.castable "java/lang/Integer" "java/lang/Object") ∈ lw_tbl := lw_at lw_m17 99 rfl
theorem q4037 : (Jvm.Cond.castable "java/util/TreeMap" "java/lang/Object") ∈ lw_tbl := lw_at lw_m17 77 rfl
theorem q4026 : (Jvm.Cond.castable "ReserveLedger$Parser" "java/lang/Object") ∈ lw_tbl := lw_at lw_m17 66 rfl
theorem q4027 : (Jvm.Cond.castable "ReserveLedger$TextError" "java/lang/Object") ∈ lw_tbl := lw_at lw_m17 67 rfl
theorem q4034 : (Jvm.Cond.castable "ReserveLedger$Herd" "java/lang/Object") ∈ lw_tbl := lw_at lw_m17 74 rfl
theorem q4035 : (Jvm.Cond.castable "ReserveLedger$Species" "java/lang/Object") ∈ lw_tbl := lw_at lw_m17 75 rfl
theorem q4036 : (Jvm.Cond.castable "ReserveLedger$Literal" "java/lang/Object") ∈ lw_tbl := lw_at lw_m17 76 rfl
theorem q4038 : (Jvm.Cond.castable "ReserveLedger$Ledger" "java/lang/Object") ∈ lw_tbl := lw_at lw_m17 78 rfl
theorem q4039 : (Jvm.Cond.castable "java/util/ArrayDeque" "java/lang/Object") ∈ lw_tbl := lw_at lw_m17 79 rfl
theorem q4040 : (Jvm.Cond.castable "ReserveLedger$Stock" "java/lang/Object") ∈ lw_tbl := lw_at lw_m17 80 rfl
theorem q4041 : (Jvm.Cond.castable "java/util/LinkedList$Node" "java/lang/Object") ∈ lw_tbl := lw_at lw_m17 81 rfl
theorem q4043 : (Jvm.Cond.castable "ReserveLedger$Named" "java/lang/Object") ∈ lw_tbl := lw_at lw_m17 83 rfl
theorem q4049 : (Jvm.Cond.castable "ReserveLedger$Pair" "java/lang/Object") ∈ lw_tbl := lw_at lw_m17 89 rfl
theorem q4055 : (Jvm.Cond.castable "ReserveLedger$Facts" "java/lang/Object") ∈ lw_tbl := lw_at lw_m17 95 rfl
theorem q4056 : (Jvm.Cond.castable "ReserveLedger$ZeroDivision" "java/lang/Object") ∈ lw_tbl := lw_at lw_m17 96 rfl
theorem q4057 : (Jvm.Cond.castable "ReserveLedger$NoQuota" "java/lang/Object") ∈ lw_tbl := lw_at lw_m17 97 rfl
theorem q4061 : (Jvm.Cond.castable "java/util/AbstractMap$SimpleImmutableEntry" "java/lang/Object") ∈ lw_tbl := lw_at lw_m17 101 rfl
theorem q4062 : (Jvm.Cond.castable "java/util/TreeMap$EntrySet" "java/lang/Object") ∈ lw_tbl := lw_at lw_m17 102 rfl
theorem q4067 : (Jvm.Cond.castable "java/util/PriorityQueue" "java/lang/Object") ∈ lw_tbl := lw_at lw_m17 107 rfl
theorem q4068 : (Jvm.Cond.castable "ReserveLedger$ByTurn" "java/lang/Object") ∈ lw_tbl := lw_at lw_m17 108 rfl
theorem q4069 : (Jvm.Cond.castable "java/lang/IllegalStateException" "java/lang/Object") ∈ lw_tbl := lw_at lw_m17 109 rfl
theorem q4070 : (Jvm.Cond.castable "java/util/TreeMap$Entry" "java/lang/Object") ∈ lw_tbl := lw_at lw_m17 110 rfl
theorem q4071 : (Jvm.Cond.castable "ReserveLedger$Sighting" "java/lang/Object") ∈ lw_tbl := lw_at lw_m17 111 rfl
theorem q4072 : (Jvm.Cond.castable "ReserveLedger$Plan" "java/lang/Object") ∈ lw_tbl := lw_at lw_m17 112 rfl
theorem q4025 : (Jvm.Cond.castable "ReserveLedgerModel" "java/lang/Object") ∈ lw_tbl := lw_at lw_m17 65 rfl
theorem q4044 : (Jvm.Cond.castable "ReserveLedger$Fact$1" "java/lang/Object") ∈ lw_tbl := lw_at lw_m17 84 rfl
theorem q4045 : (Jvm.Cond.castable "ReserveLedger$Fact$2" "java/lang/Object") ∈ lw_tbl := lw_at lw_m17 85 rfl
theorem q4046 : (Jvm.Cond.castable "ReserveLedger$Fact$3" "java/lang/Object") ∈ lw_tbl := lw_at lw_m17 86 rfl
theorem q4047 : (Jvm.Cond.castable "ReserveLedger$Fact$4" "java/lang/Object") ∈ lw_tbl := lw_at lw_m17 87 rfl
theorem q4053 : (Jvm.Cond.castable "ReserveLedger$Sign$1" "java/lang/Object") ∈ lw_tbl := lw_at lw_m17 93 rfl
theorem q4054 : (Jvm.Cond.castable "ReserveLedger$Sign$2" "java/lang/Object") ∈ lw_tbl := lw_at lw_m17 94 rfl
theorem q4051 : (Jvm.Cond.castable "ReserveLedger$Sign$3" "java/lang/Object") ∈ lw_tbl := lw_at lw_m17 91 rfl
theorem q4052 : (Jvm.Cond.castable "ReserveLedger$Sign$4" "java/lang/Object") ∈ lw_tbl := lw_at lw_m17 92 rfl
theorem q4048 : (Jvm.Cond.castable "ReserveLedger$Sign$5" "java/lang/Object") ∈ lw_tbl := lw_at lw_m17 88 rfl
theorem q4050 : (Jvm.Cond.castable "ReserveLedger$Sign$6" "java/lang/Object") ∈ lw_tbl := lw_at lw_m17 90 rfl
theorem q4073 : (Jvm.Cond.castable "ReserveLedger$Kind$1" "java/lang/Object") ∈ lw_tbl := lw_at lw_m17 113 rfl
theorem q4074 : (Jvm.Cond.castable "ReserveLedger$Kind$2" "java/lang/Object") ∈ lw_tbl := lw_at lw_m17 114 rfl
theorem q4075 : (Jvm.Cond.castable "ReserveLedger$Kind$3" "java/lang/Object") ∈ lw_tbl := lw_at lw_m17 115 rfl
theorem q201 : (Jvm.Cond.code ({ cls := "java/lang/Object", name := "<init>", desc := "()V" } : Jvm.MethodName) object_method_1_code (1 : Nat) (Option.none : Option Jvm.ClassFile.FieldType)) ∈ lw_all := lw_g (lw_at lw_m1 81 rfl) rfl
theorem q_objcode : Cond.code Lib.objectInit ⟨#[0xb1]⟩ 1 none ∈ lw_all := q201
def xokObj (c : Nat) : Bool := c == 0 || c == 1 || c == 2 || c == 3 || c == 4 || c == 5 || c == 6 || c == 7 || c == 8 || c == 9 || c == 10 || c == 11 || c == 12 || c == 13 || c == 14 || c == 15 || c == 16 || c == 17 || c == 18 || c == 19 || c == 20 || c == 21 || c == 22 || c == 23 || c == 24 || c == 25 || c == 26 || c == 27 || c == 28 || c == 29 || c == 30 || c == 31 || c == 32 || c == 33 || c == 34 || c == 35 || c == 36 || c == 37 || c == 38 || c == 39 || c == 40 || c == 41 || c == 42 || c == 43 || c == 44 || c == 45 || c == 46 || c == 47 || c == 48 || c == 49 || c == 50 || c == 51 || c == 52
theorem xokObj_ok0 : xOk (fun c => c == 0 || c == 1 || c == 2 || c == 3 || c == 4 || c == 5 || c == 6 || c == 7 || c == 8 || c == 9 || c == 10 || c == 11 || c == 12 || c == 13 || c == 14 || c == 15 || c == 16 || c == 17 || c == 18 || c == 19 || c == 20 || c == 21 || c == 22 || c == 23 || c == 24 || c == 25 || c == 26 || c == 27 || c == 28 || c == 29 || c == 30 || c == 31 || c == 32 || c == 33 || c == 34 || c == 35 || c == 36 || c == 37 || c == 38 || c == 39 || c == 40 || c == 41 || c == 42 || c == 43 || c == 44 || c == 45 || c == 46 || c == 47 || c == 48 || c == 49 || c == 50 || c == 51 || c == 52) "java/lang/Object" := by
  intro ci h
  simp only [Bool.or_eq_true, beq_iff_eq] at h
  rcases h with ((((((((((((((((((((((((((((((((((((((((((((((((((((rfl | rfl) | rfl) | rfl) | rfl) | rfl) | rfl) | rfl) | rfl) | rfl) | rfl) | rfl) | rfl) | rfl) | rfl) | rfl) | rfl) | rfl) | rfl) | rfl) | rfl) | rfl) | rfl) | rfl) | rfl) | rfl) | rfl) | rfl) | rfl) | rfl) | rfl) | rfl) | rfl) | rfl) | rfl) | rfl) | rfl) | rfl) | rfl) | rfl) | rfl) | rfl) | rfl) | rfl) | rfl) | rfl) | rfl) | rfl) | rfl) | rfl) | rfl) | rfl) | rfl)
  · exact ⟨_, rfl, q4018⟩
  · exact ⟨_, rfl, q4019⟩
  · exact ⟨_, rfl, q4020⟩
  · exact ⟨_, rfl, q4021⟩
  · exact ⟨_, rfl, q4022⟩
  · exact ⟨_, rfl, q4023⟩
  · exact ⟨_, rfl, q4024⟩
  · exact ⟨_, rfl, q4028⟩
  · exact ⟨_, rfl, q4029⟩
  · exact ⟨_, rfl, q4032⟩
  · exact ⟨_, rfl, q4033⟩
  · exact ⟨_, rfl, q4064⟩
  · exact ⟨_, rfl, q4065⟩
  · exact ⟨_, rfl, q4063⟩
  · exact ⟨_, rfl, q4066⟩
  · exact ⟨_, rfl, q4059⟩
  · exact ⟨_, rfl, q4037⟩
  · exact ⟨_, rfl, q4026⟩
  · exact ⟨_, rfl, q4027⟩
  · exact ⟨_, rfl, q4034⟩
  · exact ⟨_, rfl, q4035⟩
  · exact ⟨_, rfl, q4036⟩
  · exact ⟨_, rfl, q4038⟩
  · exact ⟨_, rfl, q4039⟩
  · exact ⟨_, rfl, q4040⟩
  · exact ⟨_, rfl, q4041⟩
  · exact ⟨_, rfl, q4043⟩
  · exact ⟨_, rfl, q4049⟩
  · exact ⟨_, rfl, q4055⟩
  · exact ⟨_, rfl, q4056⟩
  · exact ⟨_, rfl, q4057⟩
  · exact ⟨_, rfl, q4061⟩
  · exact ⟨_, rfl, q4062⟩
  · exact ⟨_, rfl, q4067⟩
  · exact ⟨_, rfl, q4068⟩
  · exact ⟨_, rfl, q4069⟩
  · exact ⟨_, rfl, q4070⟩
  · exact ⟨_, rfl, q4071⟩
  · exact ⟨_, rfl, q4072⟩
  · exact ⟨_, rfl, q4025⟩
  · exact ⟨_, rfl, q4044⟩
  · exact ⟨_, rfl, q4045⟩
  · exact ⟨_, rfl, q4046⟩
  · exact ⟨_, rfl, q4047⟩
  · exact ⟨_, rfl, q4053⟩
  · exact ⟨_, rfl, q4054⟩
  · exact ⟨_, rfl, q4051⟩
  · exact ⟨_, rfl, q4052⟩
  · exact ⟨_, rfl, q4048⟩
  · exact ⟨_, rfl, q4050⟩
  · exact ⟨_, rfl, q4073⟩
  · exact ⟨_, rfl, q4074⟩
  · exact ⟨_, rfl, q4075⟩
theorem xokObj_ok : xOk xokObj "java/lang/Object" := xokObj_ok0
theorem xinsY_of {ok : Nat → Bool} {E : String} (h : xOk ok E) : xInsY (fun c => if ok c then some true else none) E := by
  intro ci hc
  by_cases h1 : ok ci = true
  · exact h ci h1
  · simp [h1] at hc
theorem xins_no (ok : Nat → Bool) : ∀ ci, (fun c => if ok c then some true else none : Nat → Option Bool) ci ≠ some false := by
  intro ci
  dsimp only
  split <;> simp
