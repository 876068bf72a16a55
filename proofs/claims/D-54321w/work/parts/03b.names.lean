set_option maxRecDepth 100000
def RX2 : String := "CordSeals$Collection"
def TX2 : u_T := fun k => match k with
  | 0 => ("CordSeals$Collection", "reigns", "Ljava/util/List;", true)
  | 1 => ("CordSeals$Collection", "dies", "Ljava/util/List;", true)
  | 2 => ("CordSeals$Collection", "seals", "Ljava/util/List;", true)
  | 3 => ("CordSeals$Collection", "shelves", "Ljava/util/List;", true)
  | 4 => ("CordSeals$Collection", "settings", "[I", false)
  | _ => ("CordSeals$Collection", "possible", "[Ljava/util/BitSet;", false)
def tyX2 : Nat → FieldType := fun k => match k with
  | 0 => .object "java/util/List"
  | 1 => .object "java/util/List"
  | 2 => .object "java/util/List"
  | 3 => .object "java/util/List"
  | 4 => .array .int
  | _ => .array (.object "java/util/BitSet")
abbrev wsX20 : List Cond := u_ws RX2 TX2 6
theorem nmX2 : ∀ a, a < 6 → ∀ b, b < 6 → a ≠ b → (TX2 a).2.1 ≠ (TX2 b).2.1 := by decide +kernel
theorem tyX2_ok : ∀ k, k < 6 → parseFieldDescriptor (TX2 k).2.2.1 = some (tyX2 k) := by decide +kernel
abbrev cX2_init : ByteArray := prog_2_method_1_code
def yX2_init : MethodName := ⟨RX2, "<init>", "()V"⟩
def dkwX2_init_4 : List UInt8 := [167, 255, 230, 177]
abbrev dktX2_init_4 : List UInt8 := dkwX2_init_4 ++ []
def dkwX2_init_3 : List UInt8 := [162, 0, 26, 42, 180, 0, 24, 187, 0, 31, 89, 183, 0, 33, 185, 0, 34, 2, 0, 87, 132, 1, 1]
abbrev dktX2_init_3 : List UInt8 := dkwX2_init_3 ++ dktX2_init_4
def dkwX2_init_2 : List UInt8 := [181, 0, 24, 42, 5, 188, 10, 89, 3, 16, 10, 79, 89, 4, 6, 79, 181, 0, 27, 3, 60, 27, 16, 6]
abbrev dktX2_init_2 : List UInt8 := dkwX2_init_2 ++ dktX2_init_3
def dkwX2_init_1 : List UInt8 := [181, 0, 18, 42, 187, 0, 9, 89, 183, 0, 11, 181, 0, 21, 42, 187, 0, 9, 89, 183, 0, 11]
abbrev dktX2_init_1 : List UInt8 := dkwX2_init_1 ++ dktX2_init_2
def dkwX2_init_0 : List UInt8 := [42, 183, 0, 3, 42, 187, 0, 9, 89, 183, 0, 11, 181, 0, 12, 42, 187, 0, 9, 89, 183, 0, 11]
abbrev dktX2_init_0 : List UInt8 := dkwX2_init_0 ++ dktX2_init_1
theorem dksX2_init_0 : cX2_init.data.toList.drop 0 = dktX2_init_0 := by decide +kernel
theorem dksX2_init_1 : cX2_init.data.toList.drop 23 = dktX2_init_1 := dk_seg dksX2_init_0 23 rfl rfl
theorem dksX2_init_2 : cX2_init.data.toList.drop 45 = dktX2_init_2 := dk_seg dksX2_init_1 22 rfl rfl
theorem dksX2_init_3 : cX2_init.data.toList.drop 69 = dktX2_init_3 := dk_seg dksX2_init_2 24 rfl rfl
theorem dksX2_init_4 : cX2_init.data.toList.drop 92 = dktX2_init_4 := dk_seg dksX2_init_3 23 rfl rfl
theorem dX2_init_0 : decode cX2_init 0 = .ok (.aload_n 0, 1) := dk_42 (dk_at dksX2_init_0 0 rfl rfl)
theorem dX2_init_1 : decode cX2_init 1 = .ok (.invokespecial 3, 3) := dk_183 0 3 (dk_at dksX2_init_0 1 rfl rfl)
theorem dX2_init_4 : decode cX2_init 4 = .ok (.aload_n 0, 1) := dk_42 (dk_at dksX2_init_0 4 rfl rfl)
theorem dX2_init_5 : decode cX2_init 5 = .ok (.new 9, 3) := dk_187 0 9 (dk_at dksX2_init_0 5 rfl rfl)
theorem dX2_init_8 : decode cX2_init 8 = .ok (.dup, 1) := dk_89 (dk_at dksX2_init_0 8 rfl rfl)
theorem dX2_init_9 : decode cX2_init 9 = .ok (.invokespecial 11, 3) := dk_183 0 11 (dk_at dksX2_init_0 9 rfl rfl)
theorem dX2_init_12 : decode cX2_init 12 = .ok (.putfield 12, 3) := dk_181 0 12 (dk_at dksX2_init_0 12 rfl rfl)
theorem dX2_init_15 : decode cX2_init 15 = .ok (.aload_n 0, 1) := dk_42 (dk_at dksX2_init_0 15 rfl rfl)
theorem dX2_init_16 : decode cX2_init 16 = .ok (.new 9, 3) := dk_187 0 9 (dk_at dksX2_init_0 16 rfl rfl)
theorem dX2_init_19 : decode cX2_init 19 = .ok (.dup, 1) := dk_89 (dk_at dksX2_init_0 19 rfl rfl)
theorem dX2_init_20 : decode cX2_init 20 = .ok (.invokespecial 11, 3) := dk_183 0 11 (dk_at dksX2_init_0 20 rfl rfl)
theorem dX2_init_23 : decode cX2_init 23 = .ok (.putfield 18, 3) := dk_181 0 18 (dk_at dksX2_init_1 0 rfl rfl)
theorem dX2_init_26 : decode cX2_init 26 = .ok (.aload_n 0, 1) := dk_42 (dk_at dksX2_init_1 3 rfl rfl)
theorem dX2_init_27 : decode cX2_init 27 = .ok (.new 9, 3) := dk_187 0 9 (dk_at dksX2_init_1 4 rfl rfl)
theorem dX2_init_30 : decode cX2_init 30 = .ok (.dup, 1) := dk_89 (dk_at dksX2_init_1 7 rfl rfl)
theorem dX2_init_31 : decode cX2_init 31 = .ok (.invokespecial 11, 3) := dk_183 0 11 (dk_at dksX2_init_1 8 rfl rfl)
theorem dX2_init_34 : decode cX2_init 34 = .ok (.putfield 21, 3) := dk_181 0 21 (dk_at dksX2_init_1 11 rfl rfl)
theorem dX2_init_37 : decode cX2_init 37 = .ok (.aload_n 0, 1) := dk_42 (dk_at dksX2_init_1 14 rfl rfl)
theorem dX2_init_38 : decode cX2_init 38 = .ok (.new 9, 3) := dk_187 0 9 (dk_at dksX2_init_1 15 rfl rfl)
theorem dX2_init_41 : decode cX2_init 41 = .ok (.dup, 1) := dk_89 (dk_at dksX2_init_1 18 rfl rfl)
theorem dX2_init_42 : decode cX2_init 42 = .ok (.invokespecial 11, 3) := dk_183 0 11 (dk_at dksX2_init_1 19 rfl rfl)
theorem dX2_init_45 : decode cX2_init 45 = .ok (.putfield 24, 3) := dk_181 0 24 (dk_at dksX2_init_2 0 rfl rfl)
theorem dX2_init_48 : decode cX2_init 48 = .ok (.aload_n 0, 1) := dk_42 (dk_at dksX2_init_2 3 rfl rfl)
theorem dX2_init_49 : decode cX2_init 49 = .ok (.iconst 2, 1) := dk_5 (dk_at dksX2_init_2 4 rfl rfl)
theorem dX2_init_50 : decode cX2_init 50 = .ok (.newarray .int, 2) := dk_188_10 (dk_at dksX2_init_2 5 rfl rfl)
theorem dX2_init_52 : decode cX2_init 52 = .ok (.dup, 1) := dk_89 (dk_at dksX2_init_2 7 rfl rfl)
theorem dX2_init_53 : decode cX2_init 53 = .ok (.iconst 0, 1) := dk_3 (dk_at dksX2_init_2 8 rfl rfl)
theorem dX2_init_54 : decode cX2_init 54 = .ok (.bipush 10, 2) := dk_16 10 (dk_at dksX2_init_2 9 rfl rfl)
theorem dX2_init_56 : decode cX2_init 56 = .ok (.iastore, 1) := dk_79 (dk_at dksX2_init_2 11 rfl rfl)
theorem dX2_init_57 : decode cX2_init 57 = .ok (.dup, 1) := dk_89 (dk_at dksX2_init_2 12 rfl rfl)
theorem dX2_init_58 : decode cX2_init 58 = .ok (.iconst 1, 1) := dk_4 (dk_at dksX2_init_2 13 rfl rfl)
theorem dX2_init_59 : decode cX2_init 59 = .ok (.iconst 3, 1) := dk_6 (dk_at dksX2_init_2 14 rfl rfl)
theorem dX2_init_60 : decode cX2_init 60 = .ok (.iastore, 1) := dk_79 (dk_at dksX2_init_2 15 rfl rfl)
theorem dX2_init_61 : decode cX2_init 61 = .ok (.putfield 27, 3) := dk_181 0 27 (dk_at dksX2_init_2 16 rfl rfl)
theorem dX2_init_64 : decode cX2_init 64 = .ok (.iconst 0, 1) := dk_3 (dk_at dksX2_init_2 19 rfl rfl)
theorem dX2_init_65 : decode cX2_init 65 = .ok (.istore_n 1, 1) := dk_60 (dk_at dksX2_init_2 20 rfl rfl)
theorem dX2_init_66 : decode cX2_init 66 = .ok (.iload_n 1, 1) := dk_27 (dk_at dksX2_init_2 21 rfl rfl)
theorem dX2_init_67 : decode cX2_init 67 = .ok (.bipush 6, 2) := dk_16 6 (dk_at dksX2_init_2 22 rfl rfl)
theorem dX2_init_69 : decode cX2_init 69 = .ok (.if_icmp .ge 26, 3) := dk_162 0 26 (dk_at dksX2_init_3 0 rfl rfl)
theorem dX2_init_72 : decode cX2_init 72 = .ok (.aload_n 0, 1) := dk_42 (dk_at dksX2_init_3 3 rfl rfl)
theorem dX2_init_73 : decode cX2_init 73 = .ok (.getfield 24, 3) := dk_180 0 24 (dk_at dksX2_init_3 4 rfl rfl)
theorem dX2_init_76 : decode cX2_init 76 = .ok (.new 31, 3) := dk_187 0 31 (dk_at dksX2_init_3 7 rfl rfl)
theorem dX2_init_79 : decode cX2_init 79 = .ok (.dup, 1) := dk_89 (dk_at dksX2_init_3 10 rfl rfl)
theorem dX2_init_80 : decode cX2_init 80 = .ok (.invokespecial 33, 3) := dk_183 0 33 (dk_at dksX2_init_3 11 rfl rfl)
theorem dX2_init_83 : decode cX2_init 83 = .ok (.invokeinterface 34 2, 5) := by decide +kernel
theorem dX2_init_88 : decode cX2_init 88 = .ok (.pop, 1) := dk_87 (dk_at dksX2_init_3 19 rfl rfl)
theorem dX2_init_89 : decode cX2_init 89 = .ok (.iinc 1 1, 3) := dk_132 1 1 (dk_at dksX2_init_3 20 rfl rfl)
theorem dX2_init_92 : decode cX2_init 92 = .ok (.goto (-26), 3) := dk_167 255 230 (dk_at dksX2_init_4 0 rfl rfl)
theorem dX2_init_95 : decode cX2_init 95 = .ok (.return_, 1) := dk_177 (dk_at dksX2_init_4 3 rfl rfl)
abbrev cX2_canReign : ByteArray := prog_2_method_28_code
def yX2_canReign : MethodName := ⟨RX2, "canReign", "(I)Z"⟩
def dkwX2_canReign_2 : List UInt8 := [192, 0, 55, 180, 0, 105, 164, 0, 7, 4, 167, 0, 4, 3, 172]
abbrev dktX2_canReign_2 : List UInt8 := dkwX2_canReign_2 ++ []
def dkwX2_canReign_1 : List UInt8 := [154, 0, 33, 27, 42, 180, 0, 12, 42, 180, 0, 12, 185, 0, 91, 1, 0, 4, 100, 185, 0, 68, 2, 0]
abbrev dktX2_canReign_1 : List UInt8 := dkwX2_canReign_1 ++ dktX2_canReign_2
def dkwX2_canReign_0 : List UInt8 := [42, 180, 0, 12, 185, 0, 91, 1, 0, 16, 10, 162, 0, 49, 42, 180, 0, 12, 185, 0, 225, 1, 0]
abbrev dktX2_canReign_0 : List UInt8 := dkwX2_canReign_0 ++ dktX2_canReign_1
theorem dksX2_canReign_0 : cX2_canReign.data.toList.drop 0 = dktX2_canReign_0 := by decide +kernel
theorem dksX2_canReign_1 : cX2_canReign.data.toList.drop 23 = dktX2_canReign_1 := dk_seg dksX2_canReign_0 23 rfl rfl
theorem dksX2_canReign_2 : cX2_canReign.data.toList.drop 47 = dktX2_canReign_2 := dk_seg dksX2_canReign_1 24 rfl rfl
theorem dX2_canReign_0 : decode cX2_canReign 0 = .ok (.aload_n 0, 1) := dk_42 (dk_at dksX2_canReign_0 0 rfl rfl)
theorem dX2_canReign_1 : decode cX2_canReign 1 = .ok (.getfield 12, 3) := dk_180 0 12 (dk_at dksX2_canReign_0 1 rfl rfl)
theorem dX2_canReign_4 : decode cX2_canReign 4 = .ok (.invokeinterface 91 1, 5) := by decide +kernel
theorem dX2_canReign_9 : decode cX2_canReign 9 = .ok (.bipush 10, 2) := dk_16 10 (dk_at dksX2_canReign_0 9 rfl rfl)
theorem dX2_canReign_11 : decode cX2_canReign 11 = .ok (.if_icmp .ge 49, 3) := dk_162 0 49 (dk_at dksX2_canReign_0 11 rfl rfl)
theorem dX2_canReign_14 : decode cX2_canReign 14 = .ok (.aload_n 0, 1) := dk_42 (dk_at dksX2_canReign_0 14 rfl rfl)
theorem dX2_canReign_15 : decode cX2_canReign 15 = .ok (.getfield 12, 3) := dk_180 0 12 (dk_at dksX2_canReign_0 15 rfl rfl)
theorem dX2_canReign_18 : decode cX2_canReign 18 = .ok (.invokeinterface 225 1, 5) := by decide +kernel
theorem dX2_canReign_23 : decode cX2_canReign 23 = .ok (.ifCond .ne 33, 3) := dk_154 0 33 (dk_at dksX2_canReign_1 0 rfl rfl)
theorem dX2_canReign_26 : decode cX2_canReign 26 = .ok (.iload_n 1, 1) := dk_27 (dk_at dksX2_canReign_1 3 rfl rfl)
theorem dX2_canReign_27 : decode cX2_canReign 27 = .ok (.aload_n 0, 1) := dk_42 (dk_at dksX2_canReign_1 4 rfl rfl)
theorem dX2_canReign_28 : decode cX2_canReign 28 = .ok (.getfield 12, 3) := dk_180 0 12 (dk_at dksX2_canReign_1 5 rfl rfl)
theorem dX2_canReign_31 : decode cX2_canReign 31 = .ok (.aload_n 0, 1) := dk_42 (dk_at dksX2_canReign_1 8 rfl rfl)
theorem dX2_canReign_32 : decode cX2_canReign 32 = .ok (.getfield 12, 3) := dk_180 0 12 (dk_at dksX2_canReign_1 9 rfl rfl)
theorem dX2_canReign_35 : decode cX2_canReign 35 = .ok (.invokeinterface 91 1, 5) := by decide +kernel
theorem dX2_canReign_40 : decode cX2_canReign 40 = .ok (.iconst 1, 1) := dk_4 (dk_at dksX2_canReign_1 17 rfl rfl)
theorem dX2_canReign_41 : decode cX2_canReign 41 = .ok (.isub, 1) := dk_100 (dk_at dksX2_canReign_1 18 rfl rfl)
theorem dX2_canReign_42 : decode cX2_canReign 42 = .ok (.invokeinterface 68 2, 5) := by decide +kernel
theorem dX2_canReign_47 : decode cX2_canReign 47 = .ok (.checkcast 55, 3) := dk_192 0 55 (dk_at dksX2_canReign_2 0 rfl rfl)
theorem dX2_canReign_50 : decode cX2_canReign 50 = .ok (.getfield 105, 3) := dk_180 0 105 (dk_at dksX2_canReign_2 3 rfl rfl)
theorem dX2_canReign_53 : decode cX2_canReign 53 = .ok (.if_icmp .le 7, 3) := dk_164 0 7 (dk_at dksX2_canReign_2 6 rfl rfl)
theorem dX2_canReign_56 : decode cX2_canReign 56 = .ok (.iconst 1, 1) := dk_4 (dk_at dksX2_canReign_2 9 rfl rfl)
theorem dX2_canReign_57 : decode cX2_canReign 57 = .ok (.goto 4, 3) := dk_167 0 4 (dk_at dksX2_canReign_2 10 rfl rfl)
theorem dX2_canReign_60 : decode cX2_canReign 60 = .ok (.iconst 0, 1) := dk_3 (dk_at dksX2_canReign_2 13 rfl rfl)
theorem dX2_canReign_61 : decode cX2_canReign 61 = .ok (.ireturn, 1) := dk_172 (dk_at dksX2_canReign_2 14 rfl rfl)
abbrev cX2_reign : ByteArray := prog_2_method_29_code
def yX2_reign : MethodName := ⟨RX2, "reign", "(II)I"⟩
def dkwX2_reign_1 : List UInt8 := [42, 180, 0, 12, 185, 0, 91, 1, 0, 4, 100, 172]
abbrev dktX2_reign_1 : List UInt8 := dkwX2_reign_1 ++ []
def dkwX2_reign_0 : List UInt8 := [42, 180, 0, 12, 187, 0, 55, 89, 27, 28, 183, 0, 226, 185, 0, 34, 2, 0, 87, 42, 1, 181, 0, 120]
abbrev dktX2_reign_0 : List UInt8 := dkwX2_reign_0 ++ dktX2_reign_1
theorem dksX2_reign_0 : cX2_reign.data.toList.drop 0 = dktX2_reign_0 := by decide +kernel
theorem dksX2_reign_1 : cX2_reign.data.toList.drop 24 = dktX2_reign_1 := dk_seg dksX2_reign_0 24 rfl rfl
theorem dX2_reign_0 : decode cX2_reign 0 = .ok (.aload_n 0, 1) := dk_42 (dk_at dksX2_reign_0 0 rfl rfl)
theorem dX2_reign_1 : decode cX2_reign 1 = .ok (.getfield 12, 3) := dk_180 0 12 (dk_at dksX2_reign_0 1 rfl rfl)
theorem dX2_reign_4 : decode cX2_reign 4 = .ok (.new 55, 3) := dk_187 0 55 (dk_at dksX2_reign_0 4 rfl rfl)
theorem dX2_reign_7 : decode cX2_reign 7 = .ok (.dup, 1) := dk_89 (dk_at dksX2_reign_0 7 rfl rfl)
theorem dX2_reign_8 : decode cX2_reign 8 = .ok (.iload_n 1, 1) := dk_27 (dk_at dksX2_reign_0 8 rfl rfl)
theorem dX2_reign_9 : decode cX2_reign 9 = .ok (.iload_n 2, 1) := dk_28 (dk_at dksX2_reign_0 9 rfl rfl)
theorem dX2_reign_10 : decode cX2_reign 10 = .ok (.invokespecial 226, 3) := dk_183 0 226 (dk_at dksX2_reign_0 10 rfl rfl)
theorem dX2_reign_13 : decode cX2_reign 13 = .ok (.invokeinterface 34 2, 5) := by decide +kernel
theorem dX2_reign_18 : decode cX2_reign 18 = .ok (.pop, 1) := dk_87 (dk_at dksX2_reign_0 18 rfl rfl)
theorem dX2_reign_19 : decode cX2_reign 19 = .ok (.aload_n 0, 1) := dk_42 (dk_at dksX2_reign_0 19 rfl rfl)
theorem dX2_reign_20 : decode cX2_reign 20 = .ok (.aconst_null, 1) := dk_1 (dk_at dksX2_reign_0 20 rfl rfl)
theorem dX2_reign_21 : decode cX2_reign 21 = .ok (.putfield 120, 3) := dk_181 0 120 (dk_at dksX2_reign_0 21 rfl rfl)
theorem dX2_reign_24 : decode cX2_reign 24 = .ok (.aload_n 0, 1) := dk_42 (dk_at dksX2_reign_1 0 rfl rfl)
theorem dX2_reign_25 : decode cX2_reign 25 = .ok (.getfield 12, 3) := dk_180 0 12 (dk_at dksX2_reign_1 1 rfl rfl)
theorem dX2_reign_28 : decode cX2_reign 28 = .ok (.invokeinterface 91 1, 5) := by decide +kernel
theorem dX2_reign_33 : decode cX2_reign 33 = .ok (.iconst 1, 1) := dk_4 (dk_at dksX2_reign_1 9 rfl rfl)
theorem dX2_reign_34 : decode cX2_reign 34 = .ok (.isub, 1) := dk_100 (dk_at dksX2_reign_1 10 rfl rfl)
theorem dX2_reign_35 : decode cX2_reign 35 = .ok (.ireturn, 1) := dk_172 (dk_at dksX2_reign_1 11 rfl rfl)
abbrev cX2_die : ByteArray := prog_2_method_30_code
def yX2_die : MethodName := ⟨RX2, "die", "(III)I"⟩
def dkwX2_die_1 : List UInt8 := [185, 0, 91, 1, 0, 4, 100, 172]
abbrev dktX2_die_1 : List UInt8 := dkwX2_die_1 ++ []
def dkwX2_die_0 : List UInt8 := [42, 180, 0, 18, 187, 0, 57, 89, 27, 28, 29, 183, 0, 229, 185, 0, 34, 2, 0, 87, 42, 180, 0, 18]
abbrev dktX2_die_0 : List UInt8 := dkwX2_die_0 ++ dktX2_die_1
theorem dksX2_die_0 : cX2_die.data.toList.drop 0 = dktX2_die_0 := by decide +kernel
theorem dksX2_die_1 : cX2_die.data.toList.drop 24 = dktX2_die_1 := dk_seg dksX2_die_0 24 rfl rfl
theorem dX2_die_0 : decode cX2_die 0 = .ok (.aload_n 0, 1) := dk_42 (dk_at dksX2_die_0 0 rfl rfl)
theorem dX2_die_1 : decode cX2_die 1 = .ok (.getfield 18, 3) := dk_180 0 18 (dk_at dksX2_die_0 1 rfl rfl)
theorem dX2_die_4 : decode cX2_die 4 = .ok (.new 57, 3) := dk_187 0 57 (dk_at dksX2_die_0 4 rfl rfl)
theorem dX2_die_7 : decode cX2_die 7 = .ok (.dup, 1) := dk_89 (dk_at dksX2_die_0 7 rfl rfl)
theorem dX2_die_8 : decode cX2_die 8 = .ok (.iload_n 1, 1) := dk_27 (dk_at dksX2_die_0 8 rfl rfl)
theorem dX2_die_9 : decode cX2_die 9 = .ok (.iload_n 2, 1) := dk_28 (dk_at dksX2_die_0 9 rfl rfl)
theorem dX2_die_10 : decode cX2_die 10 = .ok (.iload_n 3, 1) := dk_29 (dk_at dksX2_die_0 10 rfl rfl)
theorem dX2_die_11 : decode cX2_die 11 = .ok (.invokespecial 229, 3) := dk_183 0 229 (dk_at dksX2_die_0 11 rfl rfl)
theorem dX2_die_14 : decode cX2_die 14 = .ok (.invokeinterface 34 2, 5) := by decide +kernel
theorem dX2_die_19 : decode cX2_die 19 = .ok (.pop, 1) := dk_87 (dk_at dksX2_die_0 19 rfl rfl)
theorem dX2_die_20 : decode cX2_die 20 = .ok (.aload_n 0, 1) := dk_42 (dk_at dksX2_die_0 20 rfl rfl)
theorem dX2_die_21 : decode cX2_die 21 = .ok (.getfield 18, 3) := dk_180 0 18 (dk_at dksX2_die_0 21 rfl rfl)
theorem dX2_die_24 : decode cX2_die 24 = .ok (.invokeinterface 91 1, 5) := by decide +kernel
theorem dX2_die_29 : decode cX2_die 29 = .ok (.iconst 1, 1) := dk_4 (dk_at dksX2_die_1 5 rfl rfl)
theorem dX2_die_30 : decode cX2_die 30 = .ok (.isub, 1) := dk_100 (dk_at dksX2_die_1 6 rfl rfl)
theorem dX2_die_31 : decode cX2_die 31 = .ok (.ireturn, 1) := dk_172 (dk_at dksX2_die_1 7 rfl rfl)
abbrev cX2_hasDie : ByteArray := prog_2_method_3_code
def yX2_hasDie : MethodName := ⟨RX2, "hasDie", "(I)Z"⟩
def dkwX2_hasDie_0 : List UInt8 := [27, 133, 9, 42, 180, 0, 18, 185, 0, 91, 1, 0, 4, 100, 133, 184, 0, 94, 172]
abbrev dktX2_hasDie_0 : List UInt8 := dkwX2_hasDie_0 ++ []
theorem dksX2_hasDie_0 : cX2_hasDie.data.toList.drop 0 = dktX2_hasDie_0 := by decide +kernel
theorem dX2_hasDie_0 : decode cX2_hasDie 0 = .ok (.iload_n 1, 1) := dk_27 (dk_at dksX2_hasDie_0 0 rfl rfl)
theorem dX2_hasDie_1 : decode cX2_hasDie 1 = .ok (.i2l, 1) := dk_133 (dk_at dksX2_hasDie_0 1 rfl rfl)
theorem dX2_hasDie_2 : decode cX2_hasDie 2 = .ok (.lconst 0, 1) := dk_9 (dk_at dksX2_hasDie_0 2 rfl rfl)
theorem dX2_hasDie_3 : decode cX2_hasDie 3 = .ok (.aload_n 0, 1) := dk_42 (dk_at dksX2_hasDie_0 3 rfl rfl)
theorem dX2_hasDie_4 : decode cX2_hasDie 4 = .ok (.getfield 18, 3) := dk_180 0 18 (dk_at dksX2_hasDie_0 4 rfl rfl)
theorem dX2_hasDie_7 : decode cX2_hasDie 7 = .ok (.invokeinterface 91 1, 5) := by decide +kernel
theorem dX2_hasDie_12 : decode cX2_hasDie 12 = .ok (.iconst 1, 1) := dk_4 (dk_at dksX2_hasDie_0 12 rfl rfl)
theorem dX2_hasDie_13 : decode cX2_hasDie 13 = .ok (.isub, 1) := dk_100 (dk_at dksX2_hasDie_0 13 rfl rfl)
theorem dX2_hasDie_14 : decode cX2_hasDie 14 = .ok (.i2l, 1) := dk_133 (dk_at dksX2_hasDie_0 14 rfl rfl)
theorem dX2_hasDie_15 : decode cX2_hasDie 15 = .ok (.invokestatic 94, 3) := dk_184 0 94 (dk_at dksX2_hasDie_0 15 rfl rfl)
theorem dX2_hasDie_18 : decode cX2_hasDie 18 = .ok (.ireturn, 1) := dk_172 (dk_at dksX2_hasDie_0 18 rfl rfl)
abbrev cX2_crack : ByteArray := prog_2_method_31_code
def yX2_crack : MethodName := ⟨RX2, "crack", "(II)I"⟩
def dkwX2_crack_2 : List UInt8 := [180, 0, 232, 185, 0, 91, 1, 0, 4, 100, 172]
abbrev dktX2_crack_2 : List UInt8 := dkwX2_crack_2 ++ []
def dkwX2_crack_1 : List UInt8 := [185, 0, 34, 2, 0, 87, 42, 1, 181, 0, 120, 42, 180, 0, 18, 27, 185, 0, 68, 2, 0, 192, 0, 57]
abbrev dktX2_crack_1 : List UInt8 := dkwX2_crack_1 ++ dktX2_crack_2
def dkwX2_crack_0 : List UInt8 := [42, 180, 0, 18, 27, 185, 0, 68, 2, 0, 192, 0, 57, 180, 0, 232, 28, 184, 0, 79]
abbrev dktX2_crack_0 : List UInt8 := dkwX2_crack_0 ++ dktX2_crack_1
theorem dksX2_crack_0 : cX2_crack.data.toList.drop 0 = dktX2_crack_0 := by decide +kernel
theorem dksX2_crack_1 : cX2_crack.data.toList.drop 20 = dktX2_crack_1 := dk_seg dksX2_crack_0 20 rfl rfl
theorem dksX2_crack_2 : cX2_crack.data.toList.drop 44 = dktX2_crack_2 := dk_seg dksX2_crack_1 24 rfl rfl
theorem dX2_crack_0 : decode cX2_crack 0 = .ok (.aload_n 0, 1) := dk_42 (dk_at dksX2_crack_0 0 rfl rfl)
theorem dX2_crack_1 : decode cX2_crack 1 = .ok (.getfield 18, 3) := dk_180 0 18 (dk_at dksX2_crack_0 1 rfl rfl)
theorem dX2_crack_4 : decode cX2_crack 4 = .ok (.iload_n 1, 1) := dk_27 (dk_at dksX2_crack_0 4 rfl rfl)
theorem dX2_crack_5 : decode cX2_crack 5 = .ok (.invokeinterface 68 2, 5) := by decide +kernel
theorem dX2_crack_10 : decode cX2_crack 10 = .ok (.checkcast 57, 3) := dk_192 0 57 (dk_at dksX2_crack_0 10 rfl rfl)
theorem dX2_crack_13 : decode cX2_crack 13 = .ok (.getfield 232, 3) := dk_180 0 232 (dk_at dksX2_crack_0 13 rfl rfl)
theorem dX2_crack_16 : decode cX2_crack 16 = .ok (.iload_n 2, 1) := dk_28 (dk_at dksX2_crack_0 16 rfl rfl)
theorem dX2_crack_17 : decode cX2_crack 17 = .ok (.invokestatic 79, 3) := dk_184 0 79 (dk_at dksX2_crack_0 17 rfl rfl)
theorem dX2_crack_20 : decode cX2_crack 20 = .ok (.invokeinterface 34 2, 5) := by decide +kernel
theorem dX2_crack_25 : decode cX2_crack 25 = .ok (.pop, 1) := dk_87 (dk_at dksX2_crack_1 5 rfl rfl)
theorem dX2_crack_26 : decode cX2_crack 26 = .ok (.aload_n 0, 1) := dk_42 (dk_at dksX2_crack_1 6 rfl rfl)
theorem dX2_crack_27 : decode cX2_crack 27 = .ok (.aconst_null, 1) := dk_1 (dk_at dksX2_crack_1 7 rfl rfl)
theorem dX2_crack_28 : decode cX2_crack 28 = .ok (.putfield 120, 3) := dk_181 0 120 (dk_at dksX2_crack_1 8 rfl rfl)
theorem dX2_crack_31 : decode cX2_crack 31 = .ok (.aload_n 0, 1) := dk_42 (dk_at dksX2_crack_1 11 rfl rfl)
theorem dX2_crack_32 : decode cX2_crack 32 = .ok (.getfield 18, 3) := dk_180 0 18 (dk_at dksX2_crack_1 12 rfl rfl)
theorem dX2_crack_35 : decode cX2_crack 35 = .ok (.iload_n 1, 1) := dk_27 (dk_at dksX2_crack_1 15 rfl rfl)
theorem dX2_crack_36 : decode cX2_crack 36 = .ok (.invokeinterface 68 2, 5) := by decide +kernel
theorem dX2_crack_41 : decode cX2_crack 41 = .ok (.checkcast 57, 3) := dk_192 0 57 (dk_at dksX2_crack_1 21 rfl rfl)
theorem dX2_crack_44 : decode cX2_crack 44 = .ok (.getfield 232, 3) := dk_180 0 232 (dk_at dksX2_crack_2 0 rfl rfl)
theorem dX2_crack_47 : decode cX2_crack 47 = .ok (.invokeinterface 91 1, 5) := by decide +kernel
theorem dX2_crack_52 : decode cX2_crack 52 = .ok (.iconst 1, 1) := dk_4 (dk_at dksX2_crack_2 8 rfl rfl)
theorem dX2_crack_53 : decode cX2_crack 53 = .ok (.isub, 1) := dk_100 (dk_at dksX2_crack_2 9 rfl rfl)
theorem dX2_crack_54 : decode cX2_crack 54 = .ok (.ireturn, 1) := dk_172 (dk_at dksX2_crack_2 10 rfl rfl)
abbrev cX2_seal : ByteArray := prog_2_method_32_code
def yX2_seal : MethodName := ⟨RX2, "seal", "(IIIII)I"⟩
def dkwX2_seal_1 : List UInt8 := [42, 180, 0, 21, 185, 0, 91, 1, 0, 4, 100, 172]
abbrev dktX2_seal_1 : List UInt8 := dkwX2_seal_1 ++ []
def dkwX2_seal_0 : List UInt8 := [42, 180, 0, 21, 187, 0, 63, 89, 27, 28, 29, 21, 4, 21, 5, 183, 0, 235, 185, 0, 34, 2, 0, 87]
abbrev dktX2_seal_0 : List UInt8 := dkwX2_seal_0 ++ dktX2_seal_1
theorem dksX2_seal_0 : cX2_seal.data.toList.drop 0 = dktX2_seal_0 := by decide +kernel
theorem dksX2_seal_1 : cX2_seal.data.toList.drop 24 = dktX2_seal_1 := dk_seg dksX2_seal_0 24 rfl rfl
theorem dX2_seal_0 : decode cX2_seal 0 = .ok (.aload_n 0, 1) := dk_42 (dk_at dksX2_seal_0 0 rfl rfl)
theorem dX2_seal_1 : decode cX2_seal 1 = .ok (.getfield 21, 3) := dk_180 0 21 (dk_at dksX2_seal_0 1 rfl rfl)
theorem dX2_seal_4 : decode cX2_seal 4 = .ok (.new 63, 3) := dk_187 0 63 (dk_at dksX2_seal_0 4 rfl rfl)
theorem dX2_seal_7 : decode cX2_seal 7 = .ok (.dup, 1) := dk_89 (dk_at dksX2_seal_0 7 rfl rfl)
theorem dX2_seal_8 : decode cX2_seal 8 = .ok (.iload_n 1, 1) := dk_27 (dk_at dksX2_seal_0 8 rfl rfl)
theorem dX2_seal_9 : decode cX2_seal 9 = .ok (.iload_n 2, 1) := dk_28 (dk_at dksX2_seal_0 9 rfl rfl)
theorem dX2_seal_10 : decode cX2_seal 10 = .ok (.iload_n 3, 1) := dk_29 (dk_at dksX2_seal_0 10 rfl rfl)
theorem dX2_seal_11 : decode cX2_seal 11 = .ok (.iload 4, 2) := dk_21 4 (dk_at dksX2_seal_0 11 rfl rfl)
theorem dX2_seal_13 : decode cX2_seal 13 = .ok (.iload 5, 2) := dk_21 5 (dk_at dksX2_seal_0 13 rfl rfl)
theorem dX2_seal_15 : decode cX2_seal 15 = .ok (.invokespecial 235, 3) := dk_183 0 235 (dk_at dksX2_seal_0 15 rfl rfl)
theorem dX2_seal_18 : decode cX2_seal 18 = .ok (.invokeinterface 34 2, 5) := by decide +kernel
theorem dX2_seal_23 : decode cX2_seal 23 = .ok (.pop, 1) := dk_87 (dk_at dksX2_seal_0 23 rfl rfl)
theorem dX2_seal_24 : decode cX2_seal 24 = .ok (.aload_n 0, 1) := dk_42 (dk_at dksX2_seal_1 0 rfl rfl)
theorem dX2_seal_25 : decode cX2_seal 25 = .ok (.getfield 21, 3) := dk_180 0 21 (dk_at dksX2_seal_1 1 rfl rfl)
theorem dX2_seal_28 : decode cX2_seal 28 = .ok (.invokeinterface 91 1, 5) := by decide +kernel
theorem dX2_seal_33 : decode cX2_seal 33 = .ok (.iconst 1, 1) := dk_4 (dk_at dksX2_seal_1 9 rfl rfl)
theorem dX2_seal_34 : decode cX2_seal 34 = .ok (.isub, 1) := dk_100 (dk_at dksX2_seal_1 10 rfl rfl)
theorem dX2_seal_35 : decode cX2_seal 35 = .ok (.ireturn, 1) := dk_172 (dk_at dksX2_seal_1 11 rfl rfl)
abbrev cX2_hasSeal : ByteArray := prog_2_method_4_code
def yX2_hasSeal : MethodName := ⟨RX2, "hasSeal", "(I)Z"⟩
def dkwX2_hasSeal_0 : List UInt8 := [27, 133, 9, 42, 180, 0, 21, 185, 0, 91, 1, 0, 4, 100, 133, 184, 0, 94, 172]
abbrev dktX2_hasSeal_0 : List UInt8 := dkwX2_hasSeal_0 ++ []
theorem dksX2_hasSeal_0 : cX2_hasSeal.data.toList.drop 0 = dktX2_hasSeal_0 := by decide +kernel
theorem dX2_hasSeal_0 : decode cX2_hasSeal 0 = .ok (.iload_n 1, 1) := dk_27 (dk_at dksX2_hasSeal_0 0 rfl rfl)
theorem dX2_hasSeal_1 : decode cX2_hasSeal 1 = .ok (.i2l, 1) := dk_133 (dk_at dksX2_hasSeal_0 1 rfl rfl)
theorem dX2_hasSeal_2 : decode cX2_hasSeal 2 = .ok (.lconst 0, 1) := dk_9 (dk_at dksX2_hasSeal_0 2 rfl rfl)
theorem dX2_hasSeal_3 : decode cX2_hasSeal 3 = .ok (.aload_n 0, 1) := dk_42 (dk_at dksX2_hasSeal_0 3 rfl rfl)
theorem dX2_hasSeal_4 : decode cX2_hasSeal 4 = .ok (.getfield 21, 3) := dk_180 0 21 (dk_at dksX2_hasSeal_0 4 rfl rfl)
theorem dX2_hasSeal_7 : decode cX2_hasSeal 7 = .ok (.invokeinterface 91 1, 5) := by decide +kernel
theorem dX2_hasSeal_12 : decode cX2_hasSeal 12 = .ok (.iconst 1, 1) := dk_4 (dk_at dksX2_hasSeal_0 12 rfl rfl)
theorem dX2_hasSeal_13 : decode cX2_hasSeal 13 = .ok (.isub, 1) := dk_100 (dk_at dksX2_hasSeal_0 13 rfl rfl)
theorem dX2_hasSeal_14 : decode cX2_hasSeal 14 = .ok (.i2l, 1) := dk_133 (dk_at dksX2_hasSeal_0 14 rfl rfl)
theorem dX2_hasSeal_15 : decode cX2_hasSeal 15 = .ok (.invokestatic 94, 3) := dk_184 0 94 (dk_at dksX2_hasSeal_0 15 rfl rfl)
theorem dX2_hasSeal_18 : decode cX2_hasSeal 18 = .ok (.ireturn, 1) := dk_172 (dk_at dksX2_hasSeal_0 18 rfl rfl)
abbrev cX2_hang : ByteArray := prog_2_method_35_code
def yX2_hang : MethodName := ⟨RX2, "hang", "(II)I"⟩
def dkwX2_hang_0 : List UInt8 := [42, 180, 0, 21, 27, 185, 0, 68, 2, 0, 192, 0, 63, 28, 181, 0, 152, 42, 28, 182, 0, 246, 172]
abbrev dktX2_hang_0 : List UInt8 := dkwX2_hang_0 ++ []
theorem dksX2_hang_0 : cX2_hang.data.toList.drop 0 = dktX2_hang_0 := by decide +kernel
theorem dX2_hang_0 : decode cX2_hang 0 = .ok (.aload_n 0, 1) := dk_42 (dk_at dksX2_hang_0 0 rfl rfl)
theorem dX2_hang_1 : decode cX2_hang 1 = .ok (.getfield 21, 3) := dk_180 0 21 (dk_at dksX2_hang_0 1 rfl rfl)
theorem dX2_hang_4 : decode cX2_hang 4 = .ok (.iload_n 1, 1) := dk_27 (dk_at dksX2_hang_0 4 rfl rfl)
theorem dX2_hang_5 : decode cX2_hang 5 = .ok (.invokeinterface 68 2, 5) := by decide +kernel
theorem dX2_hang_10 : decode cX2_hang 10 = .ok (.checkcast 63, 3) := dk_192 0 63 (dk_at dksX2_hang_0 10 rfl rfl)
theorem dX2_hang_13 : decode cX2_hang 13 = .ok (.iload_n 2, 1) := dk_28 (dk_at dksX2_hang_0 13 rfl rfl)
theorem dX2_hang_14 : decode cX2_hang 14 = .ok (.putfield 152, 3) := dk_181 0 152 (dk_at dksX2_hang_0 14 rfl rfl)
theorem dX2_hang_17 : decode cX2_hang 17 = .ok (.aload_n 0, 1) := dk_42 (dk_at dksX2_hang_0 17 rfl rfl)
theorem dX2_hang_18 : decode cX2_hang 18 = .ok (.iload_n 2, 1) := dk_28 (dk_at dksX2_hang_0 18 rfl rfl)
theorem dX2_hang_19 : decode cX2_hang 19 = .ok (.invokevirtual 246, 3) := dk_182 0 246 (dk_at dksX2_hang_0 19 rfl rfl)
theorem dX2_hang_22 : decode cX2_hang 22 = .ok (.ireturn, 1) := dk_172 (dk_at dksX2_hang_0 22 rfl rfl)
abbrev cX2_on : ByteArray := prog_2_method_16_code
def yX2_on : MethodName := ⟨RX2, "on", "(I)I"⟩
def dkwX2_on_3 : List UInt8 := [3, 96, 61, 167, 255, 197, 28, 172]
abbrev dktX2_on_3 : List UInt8 := dkwX2_on_3 ++ []
def dkwX2_on_2 : List UInt8 := [160, 0, 7, 3, 167, 0, 21, 4, 167, 0, 17, 25, 4, 180, 0, 152, 27, 160, 0, 7, 4, 167, 0, 4]
abbrev dktX2_on_2 : List UInt8 := dkwX2_on_2 ++ dktX2_on_3
def dkwX2_on_1 : List UInt8 := [185, 0, 51, 1, 0, 192, 0, 63, 58, 4, 28, 27, 2, 160, 0, 20, 25, 4, 180, 0, 152, 2]
abbrev dktX2_on_1 : List UInt8 := dkwX2_on_1 ++ dktX2_on_2
def dkwX2_on_0 : List UInt8 := [3, 61, 42, 180, 0, 21, 185, 0, 41, 1, 0, 78, 45, 185, 0, 45, 1, 0, 153, 0, 56, 45]
abbrev dktX2_on_0 : List UInt8 := dkwX2_on_0 ++ dktX2_on_1
theorem dksX2_on_0 : cX2_on.data.toList.drop 0 = dktX2_on_0 := by decide +kernel
theorem dksX2_on_1 : cX2_on.data.toList.drop 22 = dktX2_on_1 := dk_seg dksX2_on_0 22 rfl rfl
theorem dksX2_on_2 : cX2_on.data.toList.drop 44 = dktX2_on_2 := dk_seg dksX2_on_1 22 rfl rfl
theorem dksX2_on_3 : cX2_on.data.toList.drop 68 = dktX2_on_3 := dk_seg dksX2_on_2 24 rfl rfl
theorem dX2_on_0 : decode cX2_on 0 = .ok (.iconst 0, 1) := dk_3 (dk_at dksX2_on_0 0 rfl rfl)
theorem dX2_on_1 : decode cX2_on 1 = .ok (.istore_n 2, 1) := dk_61 (dk_at dksX2_on_0 1 rfl rfl)
theorem dX2_on_2 : decode cX2_on 2 = .ok (.aload_n 0, 1) := dk_42 (dk_at dksX2_on_0 2 rfl rfl)
theorem dX2_on_3 : decode cX2_on 3 = .ok (.getfield 21, 3) := dk_180 0 21 (dk_at dksX2_on_0 3 rfl rfl)
theorem dX2_on_6 : decode cX2_on 6 = .ok (.invokeinterface 41 1, 5) := by decide +kernel
theorem dX2_on_11 : decode cX2_on 11 = .ok (.astore_n 3, 1) := dk_78 (dk_at dksX2_on_0 11 rfl rfl)
theorem dX2_on_12 : decode cX2_on 12 = .ok (.aload_n 3, 1) := dk_45 (dk_at dksX2_on_0 12 rfl rfl)
theorem dX2_on_13 : decode cX2_on 13 = .ok (.invokeinterface 45 1, 5) := by decide +kernel
theorem dX2_on_18 : decode cX2_on 18 = .ok (.ifCond .eq 56, 3) := dk_153 0 56 (dk_at dksX2_on_0 18 rfl rfl)
theorem dX2_on_21 : decode cX2_on 21 = .ok (.aload_n 3, 1) := dk_45 (dk_at dksX2_on_0 21 rfl rfl)
theorem dX2_on_22 : decode cX2_on 22 = .ok (.invokeinterface 51 1, 5) := by decide +kernel
theorem dX2_on_27 : decode cX2_on 27 = .ok (.checkcast 63, 3) := dk_192 0 63 (dk_at dksX2_on_1 5 rfl rfl)
theorem dX2_on_30 : decode cX2_on 30 = .ok (.astore 4, 2) := dk_58 4 (dk_at dksX2_on_1 8 rfl rfl)
theorem dX2_on_32 : decode cX2_on 32 = .ok (.iload_n 2, 1) := dk_28 (dk_at dksX2_on_1 10 rfl rfl)
theorem dX2_on_33 : decode cX2_on 33 = .ok (.iload_n 1, 1) := dk_27 (dk_at dksX2_on_1 11 rfl rfl)
theorem dX2_on_34 : decode cX2_on 34 = .ok (.iconst (-1), 1) := dk_2 (dk_at dksX2_on_1 12 rfl rfl)
theorem dX2_on_35 : decode cX2_on 35 = .ok (.if_icmp .ne 20, 3) := dk_160 0 20 (dk_at dksX2_on_1 13 rfl rfl)
theorem dX2_on_38 : decode cX2_on 38 = .ok (.aload 4, 2) := dk_25 4 (dk_at dksX2_on_1 16 rfl rfl)
theorem dX2_on_40 : decode cX2_on 40 = .ok (.getfield 152, 3) := dk_180 0 152 (dk_at dksX2_on_1 18 rfl rfl)
theorem dX2_on_43 : decode cX2_on 43 = .ok (.iconst (-1), 1) := dk_2 (dk_at dksX2_on_1 21 rfl rfl)
theorem dX2_on_44 : decode cX2_on 44 = .ok (.if_icmp .ne 7, 3) := dk_160 0 7 (dk_at dksX2_on_2 0 rfl rfl)
theorem dX2_on_47 : decode cX2_on 47 = .ok (.iconst 0, 1) := dk_3 (dk_at dksX2_on_2 3 rfl rfl)
theorem dX2_on_48 : decode cX2_on 48 = .ok (.goto 21, 3) := dk_167 0 21 (dk_at dksX2_on_2 4 rfl rfl)
theorem dX2_on_51 : decode cX2_on 51 = .ok (.iconst 1, 1) := dk_4 (dk_at dksX2_on_2 7 rfl rfl)
theorem dX2_on_52 : decode cX2_on 52 = .ok (.goto 17, 3) := dk_167 0 17 (dk_at dksX2_on_2 8 rfl rfl)
theorem dX2_on_55 : decode cX2_on 55 = .ok (.aload 4, 2) := dk_25 4 (dk_at dksX2_on_2 11 rfl rfl)
theorem dX2_on_57 : decode cX2_on 57 = .ok (.getfield 152, 3) := dk_180 0 152 (dk_at dksX2_on_2 13 rfl rfl)
theorem dX2_on_60 : decode cX2_on 60 = .ok (.iload_n 1, 1) := dk_27 (dk_at dksX2_on_2 16 rfl rfl)
theorem dX2_on_61 : decode cX2_on 61 = .ok (.if_icmp .ne 7, 3) := dk_160 0 7 (dk_at dksX2_on_2 17 rfl rfl)
theorem dX2_on_64 : decode cX2_on 64 = .ok (.iconst 1, 1) := dk_4 (dk_at dksX2_on_2 20 rfl rfl)
theorem dX2_on_65 : decode cX2_on 65 = .ok (.goto 4, 3) := dk_167 0 4 (dk_at dksX2_on_2 21 rfl rfl)
theorem dX2_on_68 : decode cX2_on 68 = .ok (.iconst 0, 1) := dk_3 (dk_at dksX2_on_3 0 rfl rfl)
theorem dX2_on_69 : decode cX2_on 69 = .ok (.iadd, 1) := dk_96 (dk_at dksX2_on_3 1 rfl rfl)
theorem dX2_on_70 : decode cX2_on 70 = .ok (.istore_n 2, 1) := dk_61 (dk_at dksX2_on_3 2 rfl rfl)
theorem dX2_on_71 : decode cX2_on 71 = .ok (.goto (-59), 3) := dk_167 255 197 (dk_at dksX2_on_3 3 rfl rfl)
theorem dX2_on_74 : decode cX2_on 74 = .ok (.iload_n 2, 1) := dk_28 (dk_at dksX2_on_3 6 rfl rfl)
theorem dX2_on_75 : decode cX2_on 75 = .ok (.ireturn, 1) := dk_172 (dk_at dksX2_on_3 7 rfl rfl)
abbrev cX2_many : ByteArray := prog_2_method_15_code
def yX2_many : MethodName := ⟨RX2, "many", "(I)I"⟩
def dkwX2_many_2 : List UInt8 := [27, 160, 0, 7, 4, 167, 0, 4, 3, 96, 61, 132, 5, 1, 167, 255, 208, 28, 172]
abbrev dktX2_many_2 : List UInt8 := dkwX2_many_2 ++ []
def dkwX2_many_1 : List UInt8 := [46, 54, 6, 28, 27, 2, 160, 0, 16, 21, 6, 158, 0, 7, 4, 167, 0, 18, 3, 167, 0, 14, 21, 6]
abbrev dktX2_many_1 : List UInt8 := dkwX2_many_1 ++ dktX2_many_2
def dkwX2_many_0 : List UInt8 := [3, 61, 42, 182, 0, 169, 78, 45, 190, 54, 4, 3, 54, 5, 21, 5, 21, 4, 162, 0, 47, 45, 21, 5]
abbrev dktX2_many_0 : List UInt8 := dkwX2_many_0 ++ dktX2_many_1
theorem dksX2_many_0 : cX2_many.data.toList.drop 0 = dktX2_many_0 := by decide +kernel
theorem dksX2_many_1 : cX2_many.data.toList.drop 24 = dktX2_many_1 := dk_seg dksX2_many_0 24 rfl rfl
theorem dksX2_many_2 : cX2_many.data.toList.drop 48 = dktX2_many_2 := dk_seg dksX2_many_1 24 rfl rfl
theorem dX2_many_0 : decode cX2_many 0 = .ok (.iconst 0, 1) := dk_3 (dk_at dksX2_many_0 0 rfl rfl)
theorem dX2_many_1 : decode cX2_many 1 = .ok (.istore_n 2, 1) := dk_61 (dk_at dksX2_many_0 1 rfl rfl)
theorem dX2_many_2 : decode cX2_many 2 = .ok (.aload_n 0, 1) := dk_42 (dk_at dksX2_many_0 2 rfl rfl)
theorem dX2_many_3 : decode cX2_many 3 = .ok (.invokevirtual 169, 3) := dk_182 0 169 (dk_at dksX2_many_0 3 rfl rfl)
theorem dX2_many_6 : decode cX2_many 6 = .ok (.astore_n 3, 1) := dk_78 (dk_at dksX2_many_0 6 rfl rfl)
theorem dX2_many_7 : decode cX2_many 7 = .ok (.aload_n 3, 1) := dk_45 (dk_at dksX2_many_0 7 rfl rfl)
theorem dX2_many_8 : decode cX2_many 8 = .ok (.arraylength, 1) := dk_190 (dk_at dksX2_many_0 8 rfl rfl)
theorem dX2_many_9 : decode cX2_many 9 = .ok (.istore 4, 2) := dk_54 4 (dk_at dksX2_many_0 9 rfl rfl)
theorem dX2_many_11 : decode cX2_many 11 = .ok (.iconst 0, 1) := dk_3 (dk_at dksX2_many_0 11 rfl rfl)
theorem dX2_many_12 : decode cX2_many 12 = .ok (.istore 5, 2) := dk_54 5 (dk_at dksX2_many_0 12 rfl rfl)
theorem dX2_many_14 : decode cX2_many 14 = .ok (.iload 5, 2) := dk_21 5 (dk_at dksX2_many_0 14 rfl rfl)
theorem dX2_many_16 : decode cX2_many 16 = .ok (.iload 4, 2) := dk_21 4 (dk_at dksX2_many_0 16 rfl rfl)
theorem dX2_many_18 : decode cX2_many 18 = .ok (.if_icmp .ge 47, 3) := dk_162 0 47 (dk_at dksX2_many_0 18 rfl rfl)
theorem dX2_many_21 : decode cX2_many 21 = .ok (.aload_n 3, 1) := dk_45 (dk_at dksX2_many_0 21 rfl rfl)
theorem dX2_many_22 : decode cX2_many 22 = .ok (.iload 5, 2) := dk_21 5 (dk_at dksX2_many_0 22 rfl rfl)
theorem dX2_many_24 : decode cX2_many 24 = .ok (.iaload, 1) := dk_46 (dk_at dksX2_many_1 0 rfl rfl)
theorem dX2_many_25 : decode cX2_many 25 = .ok (.istore 6, 2) := dk_54 6 (dk_at dksX2_many_1 1 rfl rfl)
theorem dX2_many_27 : decode cX2_many 27 = .ok (.iload_n 2, 1) := dk_28 (dk_at dksX2_many_1 3 rfl rfl)
theorem dX2_many_28 : decode cX2_many 28 = .ok (.iload_n 1, 1) := dk_27 (dk_at dksX2_many_1 4 rfl rfl)
theorem dX2_many_29 : decode cX2_many 29 = .ok (.iconst (-1), 1) := dk_2 (dk_at dksX2_many_1 5 rfl rfl)
theorem dX2_many_30 : decode cX2_many 30 = .ok (.if_icmp .ne 16, 3) := dk_160 0 16 (dk_at dksX2_many_1 6 rfl rfl)
theorem dX2_many_33 : decode cX2_many 33 = .ok (.iload 6, 2) := dk_21 6 (dk_at dksX2_many_1 9 rfl rfl)
theorem dX2_many_35 : decode cX2_many 35 = .ok (.ifCond .le 7, 3) := dk_158 0 7 (dk_at dksX2_many_1 11 rfl rfl)
theorem dX2_many_38 : decode cX2_many 38 = .ok (.iconst 1, 1) := dk_4 (dk_at dksX2_many_1 14 rfl rfl)
theorem dX2_many_39 : decode cX2_many 39 = .ok (.goto 18, 3) := dk_167 0 18 (dk_at dksX2_many_1 15 rfl rfl)
theorem dX2_many_42 : decode cX2_many 42 = .ok (.iconst 0, 1) := dk_3 (dk_at dksX2_many_1 18 rfl rfl)
theorem dX2_many_43 : decode cX2_many 43 = .ok (.goto 14, 3) := dk_167 0 14 (dk_at dksX2_many_1 19 rfl rfl)
theorem dX2_many_46 : decode cX2_many 46 = .ok (.iload 6, 2) := dk_21 6 (dk_at dksX2_many_1 22 rfl rfl)
theorem dX2_many_48 : decode cX2_many 48 = .ok (.iload_n 1, 1) := dk_27 (dk_at dksX2_many_2 0 rfl rfl)
theorem dX2_many_49 : decode cX2_many 49 = .ok (.if_icmp .ne 7, 3) := dk_160 0 7 (dk_at dksX2_many_2 1 rfl rfl)
theorem dX2_many_52 : decode cX2_many 52 = .ok (.iconst 1, 1) := dk_4 (dk_at dksX2_many_2 4 rfl rfl)
theorem dX2_many_53 : decode cX2_many 53 = .ok (.goto 4, 3) := dk_167 0 4 (dk_at dksX2_many_2 5 rfl rfl)
theorem dX2_many_56 : decode cX2_many 56 = .ok (.iconst 0, 1) := dk_3 (dk_at dksX2_many_2 8 rfl rfl)
theorem dX2_many_57 : decode cX2_many 57 = .ok (.iadd, 1) := dk_96 (dk_at dksX2_many_2 9 rfl rfl)
theorem dX2_many_58 : decode cX2_many 58 = .ok (.istore_n 2, 1) := dk_61 (dk_at dksX2_many_2 10 rfl rfl)
theorem dX2_many_59 : decode cX2_many 59 = .ok (.iinc 5 1, 3) := dk_132 5 1 (dk_at dksX2_many_2 11 rfl rfl)
theorem dX2_many_62 : decode cX2_many 62 = .ok (.goto (-48), 3) := dk_167 255 208 (dk_at dksX2_many_2 14 rfl rfl)
theorem dX2_many_65 : decode cX2_many 65 = .ok (.iload_n 2, 1) := dk_28 (dk_at dksX2_many_2 17 rfl rfl)
theorem dX2_many_66 : decode cX2_many 66 = .ok (.ireturn, 1) := dk_172 (dk_at dksX2_many_2 18 rfl rfl)
abbrev cX2_fakes : ByteArray := prog_2_method_14_code
def yX2_fakes : MethodName := ⟨RX2, "fakes", "()[I"⟩
def dkwX2_fakes_4 : List UInt8 := [153, 0, 7, 7, 167, 0, 6, 44, 29, 46, 79, 132, 3, 1, 167, 255, 192, 44, 176]
abbrev dktX2_fakes_4 : List UInt8 := dkwX2_fakes_4 ++ []
def dkwX2_fakes_3 : List UInt8 := [29, 182, 0, 155, 79, 44, 29, 44, 29, 46, 154, 0, 20, 21, 4, 2, 159, 0, 14, 43, 21, 4, 51]
abbrev dktX2_fakes_3 : List UInt8 := dkwX2_fakes_3 ++ dktX2_fakes_4
def dkwX2_fakes_2 : List UInt8 := [162, 0, 64, 42, 180, 0, 21, 29, 185, 0, 68, 2, 0, 192, 0, 63, 180, 0, 152, 54, 4, 44, 29, 42]
abbrev dktX2_fakes_2 : List UInt8 := dkwX2_fakes_2 ++ dktX2_fakes_3
def dkwX2_fakes_1 : List UInt8 := [84, 132, 2, 1, 167, 255, 235, 42, 180, 0, 21, 185, 0, 91, 1, 0, 188, 10, 77, 3, 62, 29, 44, 190]
abbrev dktX2_fakes_1 : List UInt8 := dkwX2_fakes_1 ++ dktX2_fakes_2
def dkwX2_fakes_0 : List UInt8 := [16, 6, 188, 4, 76, 3, 61, 28, 16, 6, 162, 0, 21, 43, 28, 42, 28, 2, 182, 0, 166, 182, 0, 146]
abbrev dktX2_fakes_0 : List UInt8 := dkwX2_fakes_0 ++ dktX2_fakes_1
theorem dksX2_fakes_0 : cX2_fakes.data.toList.drop 0 = dktX2_fakes_0 := by decide +kernel
theorem dksX2_fakes_1 : cX2_fakes.data.toList.drop 24 = dktX2_fakes_1 := dk_seg dksX2_fakes_0 24 rfl rfl
theorem dksX2_fakes_2 : cX2_fakes.data.toList.drop 48 = dktX2_fakes_2 := dk_seg dksX2_fakes_1 24 rfl rfl
theorem dksX2_fakes_3 : cX2_fakes.data.toList.drop 72 = dktX2_fakes_3 := dk_seg dksX2_fakes_2 24 rfl rfl
theorem dksX2_fakes_4 : cX2_fakes.data.toList.drop 95 = dktX2_fakes_4 := dk_seg dksX2_fakes_3 23 rfl rfl
theorem dX2_fakes_0 : decode cX2_fakes 0 = .ok (.bipush 6, 2) := dk_16 6 (dk_at dksX2_fakes_0 0 rfl rfl)
theorem dX2_fakes_2 : decode cX2_fakes 2 = .ok (.newarray .boolean, 2) := dk_188_4 (dk_at dksX2_fakes_0 2 rfl rfl)
theorem dX2_fakes_4 : decode cX2_fakes 4 = .ok (.astore_n 1, 1) := dk_76 (dk_at dksX2_fakes_0 4 rfl rfl)
theorem dX2_fakes_5 : decode cX2_fakes 5 = .ok (.iconst 0, 1) := dk_3 (dk_at dksX2_fakes_0 5 rfl rfl)
theorem dX2_fakes_6 : decode cX2_fakes 6 = .ok (.istore_n 2, 1) := dk_61 (dk_at dksX2_fakes_0 6 rfl rfl)
theorem dX2_fakes_7 : decode cX2_fakes 7 = .ok (.iload_n 2, 1) := dk_28 (dk_at dksX2_fakes_0 7 rfl rfl)
theorem dX2_fakes_8 : decode cX2_fakes 8 = .ok (.bipush 6, 2) := dk_16 6 (dk_at dksX2_fakes_0 8 rfl rfl)
theorem dX2_fakes_10 : decode cX2_fakes 10 = .ok (.if_icmp .ge 21, 3) := dk_162 0 21 (dk_at dksX2_fakes_0 10 rfl rfl)
theorem dX2_fakes_13 : decode cX2_fakes 13 = .ok (.aload_n 1, 1) := dk_43 (dk_at dksX2_fakes_0 13 rfl rfl)
theorem dX2_fakes_14 : decode cX2_fakes 14 = .ok (.iload_n 2, 1) := dk_28 (dk_at dksX2_fakes_0 14 rfl rfl)
theorem dX2_fakes_15 : decode cX2_fakes 15 = .ok (.aload_n 0, 1) := dk_42 (dk_at dksX2_fakes_0 15 rfl rfl)
theorem dX2_fakes_16 : decode cX2_fakes 16 = .ok (.iload_n 2, 1) := dk_28 (dk_at dksX2_fakes_0 16 rfl rfl)
theorem dX2_fakes_17 : decode cX2_fakes 17 = .ok (.iconst (-1), 1) := dk_2 (dk_at dksX2_fakes_0 17 rfl rfl)
theorem dX2_fakes_18 : decode cX2_fakes 18 = .ok (.invokevirtual 166, 3) := dk_182 0 166 (dk_at dksX2_fakes_0 18 rfl rfl)
theorem dX2_fakes_21 : decode cX2_fakes 21 = .ok (.invokevirtual 146, 3) := dk_182 0 146 (dk_at dksX2_fakes_0 21 rfl rfl)
theorem dX2_fakes_24 : decode cX2_fakes 24 = .ok (.bastore, 1) := dk_84 (dk_at dksX2_fakes_1 0 rfl rfl)
theorem dX2_fakes_25 : decode cX2_fakes 25 = .ok (.iinc 2 1, 3) := dk_132 2 1 (dk_at dksX2_fakes_1 1 rfl rfl)
theorem dX2_fakes_28 : decode cX2_fakes 28 = .ok (.goto (-21), 3) := dk_167 255 235 (dk_at dksX2_fakes_1 4 rfl rfl)
theorem dX2_fakes_31 : decode cX2_fakes 31 = .ok (.aload_n 0, 1) := dk_42 (dk_at dksX2_fakes_1 7 rfl rfl)
theorem dX2_fakes_32 : decode cX2_fakes 32 = .ok (.getfield 21, 3) := dk_180 0 21 (dk_at dksX2_fakes_1 8 rfl rfl)
theorem dX2_fakes_35 : decode cX2_fakes 35 = .ok (.invokeinterface 91 1, 5) := by decide +kernel
theorem dX2_fakes_40 : decode cX2_fakes 40 = .ok (.newarray .int, 2) := dk_188_10 (dk_at dksX2_fakes_1 16 rfl rfl)
theorem dX2_fakes_42 : decode cX2_fakes 42 = .ok (.astore_n 2, 1) := dk_77 (dk_at dksX2_fakes_1 18 rfl rfl)
theorem dX2_fakes_43 : decode cX2_fakes 43 = .ok (.iconst 0, 1) := dk_3 (dk_at dksX2_fakes_1 19 rfl rfl)
theorem dX2_fakes_44 : decode cX2_fakes 44 = .ok (.istore_n 3, 1) := dk_62 (dk_at dksX2_fakes_1 20 rfl rfl)
theorem dX2_fakes_45 : decode cX2_fakes 45 = .ok (.iload_n 3, 1) := dk_29 (dk_at dksX2_fakes_1 21 rfl rfl)
theorem dX2_fakes_46 : decode cX2_fakes 46 = .ok (.aload_n 2, 1) := dk_44 (dk_at dksX2_fakes_1 22 rfl rfl)
theorem dX2_fakes_47 : decode cX2_fakes 47 = .ok (.arraylength, 1) := dk_190 (dk_at dksX2_fakes_1 23 rfl rfl)
theorem dX2_fakes_48 : decode cX2_fakes 48 = .ok (.if_icmp .ge 64, 3) := dk_162 0 64 (dk_at dksX2_fakes_2 0 rfl rfl)
theorem dX2_fakes_51 : decode cX2_fakes 51 = .ok (.aload_n 0, 1) := dk_42 (dk_at dksX2_fakes_2 3 rfl rfl)
theorem dX2_fakes_52 : decode cX2_fakes 52 = .ok (.getfield 21, 3) := dk_180 0 21 (dk_at dksX2_fakes_2 4 rfl rfl)
theorem dX2_fakes_55 : decode cX2_fakes 55 = .ok (.iload_n 3, 1) := dk_29 (dk_at dksX2_fakes_2 7 rfl rfl)
theorem dX2_fakes_56 : decode cX2_fakes 56 = .ok (.invokeinterface 68 2, 5) := by decide +kernel
theorem dX2_fakes_61 : decode cX2_fakes 61 = .ok (.checkcast 63, 3) := dk_192 0 63 (dk_at dksX2_fakes_2 13 rfl rfl)
theorem dX2_fakes_64 : decode cX2_fakes 64 = .ok (.getfield 152, 3) := dk_180 0 152 (dk_at dksX2_fakes_2 16 rfl rfl)
theorem dX2_fakes_67 : decode cX2_fakes 67 = .ok (.istore 4, 2) := dk_54 4 (dk_at dksX2_fakes_2 19 rfl rfl)
theorem dX2_fakes_69 : decode cX2_fakes 69 = .ok (.aload_n 2, 1) := dk_44 (dk_at dksX2_fakes_2 21 rfl rfl)
theorem dX2_fakes_70 : decode cX2_fakes 70 = .ok (.iload_n 3, 1) := dk_29 (dk_at dksX2_fakes_2 22 rfl rfl)
theorem dX2_fakes_71 : decode cX2_fakes 71 = .ok (.aload_n 0, 1) := dk_42 (dk_at dksX2_fakes_2 23 rfl rfl)
theorem dX2_fakes_72 : decode cX2_fakes 72 = .ok (.iload_n 3, 1) := dk_29 (dk_at dksX2_fakes_3 0 rfl rfl)
theorem dX2_fakes_73 : decode cX2_fakes 73 = .ok (.invokevirtual 155, 3) := dk_182 0 155 (dk_at dksX2_fakes_3 1 rfl rfl)
theorem dX2_fakes_76 : decode cX2_fakes 76 = .ok (.iastore, 1) := dk_79 (dk_at dksX2_fakes_3 4 rfl rfl)
theorem dX2_fakes_77 : decode cX2_fakes 77 = .ok (.aload_n 2, 1) := dk_44 (dk_at dksX2_fakes_3 5 rfl rfl)
theorem dX2_fakes_78 : decode cX2_fakes 78 = .ok (.iload_n 3, 1) := dk_29 (dk_at dksX2_fakes_3 6 rfl rfl)
theorem dX2_fakes_79 : decode cX2_fakes 79 = .ok (.aload_n 2, 1) := dk_44 (dk_at dksX2_fakes_3 7 rfl rfl)
theorem dX2_fakes_80 : decode cX2_fakes 80 = .ok (.iload_n 3, 1) := dk_29 (dk_at dksX2_fakes_3 8 rfl rfl)
theorem dX2_fakes_81 : decode cX2_fakes 81 = .ok (.iaload, 1) := dk_46 (dk_at dksX2_fakes_3 9 rfl rfl)
theorem dX2_fakes_82 : decode cX2_fakes 82 = .ok (.ifCond .ne 20, 3) := dk_154 0 20 (dk_at dksX2_fakes_3 10 rfl rfl)
theorem dX2_fakes_85 : decode cX2_fakes 85 = .ok (.iload 4, 2) := dk_21 4 (dk_at dksX2_fakes_3 13 rfl rfl)
theorem dX2_fakes_87 : decode cX2_fakes 87 = .ok (.iconst (-1), 1) := dk_2 (dk_at dksX2_fakes_3 15 rfl rfl)
theorem dX2_fakes_88 : decode cX2_fakes 88 = .ok (.if_icmp .eq 14, 3) := dk_159 0 14 (dk_at dksX2_fakes_3 16 rfl rfl)
theorem dX2_fakes_91 : decode cX2_fakes 91 = .ok (.aload_n 1, 1) := dk_43 (dk_at dksX2_fakes_3 19 rfl rfl)
theorem dX2_fakes_92 : decode cX2_fakes 92 = .ok (.iload 4, 2) := dk_21 4 (dk_at dksX2_fakes_3 20 rfl rfl)
theorem dX2_fakes_94 : decode cX2_fakes 94 = .ok (.baload, 1) := dk_51 (dk_at dksX2_fakes_3 22 rfl rfl)
theorem dX2_fakes_95 : decode cX2_fakes 95 = .ok (.ifCond .eq 7, 3) := dk_153 0 7 (dk_at dksX2_fakes_4 0 rfl rfl)
theorem dX2_fakes_98 : decode cX2_fakes 98 = .ok (.iconst 4, 1) := dk_7 (dk_at dksX2_fakes_4 3 rfl rfl)
theorem dX2_fakes_99 : decode cX2_fakes 99 = .ok (.goto 6, 3) := dk_167 0 6 (dk_at dksX2_fakes_4 4 rfl rfl)
theorem dX2_fakes_102 : decode cX2_fakes 102 = .ok (.aload_n 2, 1) := dk_44 (dk_at dksX2_fakes_4 7 rfl rfl)
theorem dX2_fakes_103 : decode cX2_fakes 103 = .ok (.iload_n 3, 1) := dk_29 (dk_at dksX2_fakes_4 8 rfl rfl)
theorem dX2_fakes_104 : decode cX2_fakes 104 = .ok (.iaload, 1) := dk_46 (dk_at dksX2_fakes_4 9 rfl rfl)
theorem dX2_fakes_105 : decode cX2_fakes 105 = .ok (.iastore, 1) := dk_79 (dk_at dksX2_fakes_4 10 rfl rfl)
theorem dX2_fakes_106 : decode cX2_fakes 106 = .ok (.iinc 3 1, 3) := dk_132 3 1 (dk_at dksX2_fakes_4 11 rfl rfl)
theorem dX2_fakes_109 : decode cX2_fakes 109 = .ok (.goto (-64), 3) := dk_167 255 192 (dk_at dksX2_fakes_4 14 rfl rfl)
theorem dX2_fakes_112 : decode cX2_fakes 112 = .ok (.aload_n 2, 1) := dk_44 (dk_at dksX2_fakes_4 17 rfl rfl)
theorem dX2_fakes_113 : decode cX2_fakes 113 = .ok (.areturn, 1) := dk_176 (dk_at dksX2_fakes_4 18 rfl rfl)
abbrev cX2_yearsOf : ByteArray := prog_2_method_12_code
def yX2_yearsOf : MethodName := ⟨RX2, "yearsOf", "(II)Ljava/util/BitSet;"⟩
def dkwX2_yearsOf_4 : List UInt8 := [182, 0, 143, 182, 0, 163, 4, 54, 4, 132, 5, 1, 167, 255, 172, 45, 176]
abbrev dktX2_yearsOf_4 : List UInt8 := dkwX2_yearsOf_4 ++ []
def dkwX2_yearsOf_3 : List UInt8 := [21, 4, 153, 0, 16, 45, 42, 21, 5, 182, 0, 143, 182, 0, 159, 167, 0, 13, 45, 42, 21, 5]
abbrev dktX2_yearsOf_3 : List UInt8 := dkwX2_yearsOf_3 ++ dktX2_yearsOf_4
def dkwX2_yearsOf_2 : List UInt8 := [185, 0, 68, 2, 0, 192, 0, 63, 180, 0, 152, 27, 160, 0, 43, 42, 21, 5, 182, 0, 155, 154, 0, 34]
abbrev dktX2_yearsOf_2 : List UInt8 := dkwX2_yearsOf_2 ++ dktX2_yearsOf_3
def dkwX2_yearsOf_1 : List UInt8 := [185, 0, 91, 1, 0, 162, 0, 76, 21, 5, 28, 159, 0, 64, 42, 180, 0, 21, 21, 5]
abbrev dktX2_yearsOf_1 : List UInt8 := dkwX2_yearsOf_1 ++ dktX2_yearsOf_2
def dkwX2_yearsOf_0 : List UInt8 := [187, 0, 124, 89, 17, 3, 232, 183, 0, 149, 78, 3, 54, 4, 3, 54, 5, 21, 5, 42, 180, 0, 21]
abbrev dktX2_yearsOf_0 : List UInt8 := dkwX2_yearsOf_0 ++ dktX2_yearsOf_1
theorem dksX2_yearsOf_0 : cX2_yearsOf.data.toList.drop 0 = dktX2_yearsOf_0 := by decide +kernel
theorem dksX2_yearsOf_1 : cX2_yearsOf.data.toList.drop 23 = dktX2_yearsOf_1 := dk_seg dksX2_yearsOf_0 23 rfl rfl
theorem dksX2_yearsOf_2 : cX2_yearsOf.data.toList.drop 43 = dktX2_yearsOf_2 := dk_seg dksX2_yearsOf_1 20 rfl rfl
theorem dksX2_yearsOf_3 : cX2_yearsOf.data.toList.drop 67 = dktX2_yearsOf_3 := dk_seg dksX2_yearsOf_2 24 rfl rfl
theorem dksX2_yearsOf_4 : cX2_yearsOf.data.toList.drop 89 = dktX2_yearsOf_4 := dk_seg dksX2_yearsOf_3 22 rfl rfl
theorem dX2_yearsOf_0 : decode cX2_yearsOf 0 = .ok (.new 124, 3) := dk_187 0 124 (dk_at dksX2_yearsOf_0 0 rfl rfl)
theorem dX2_yearsOf_3 : decode cX2_yearsOf 3 = .ok (.dup, 1) := dk_89 (dk_at dksX2_yearsOf_0 3 rfl rfl)
theorem dX2_yearsOf_4 : decode cX2_yearsOf 4 = .ok (.sipush 1000, 3) := dk_17 3 232 (dk_at dksX2_yearsOf_0 4 rfl rfl)
theorem dX2_yearsOf_7 : decode cX2_yearsOf 7 = .ok (.invokespecial 149, 3) := dk_183 0 149 (dk_at dksX2_yearsOf_0 7 rfl rfl)
theorem dX2_yearsOf_10 : decode cX2_yearsOf 10 = .ok (.astore_n 3, 1) := dk_78 (dk_at dksX2_yearsOf_0 10 rfl rfl)
theorem dX2_yearsOf_11 : decode cX2_yearsOf 11 = .ok (.iconst 0, 1) := dk_3 (dk_at dksX2_yearsOf_0 11 rfl rfl)
theorem dX2_yearsOf_12 : decode cX2_yearsOf 12 = .ok (.istore 4, 2) := dk_54 4 (dk_at dksX2_yearsOf_0 12 rfl rfl)
theorem dX2_yearsOf_14 : decode cX2_yearsOf 14 = .ok (.iconst 0, 1) := dk_3 (dk_at dksX2_yearsOf_0 14 rfl rfl)
theorem dX2_yearsOf_15 : decode cX2_yearsOf 15 = .ok (.istore 5, 2) := dk_54 5 (dk_at dksX2_yearsOf_0 15 rfl rfl)
theorem dX2_yearsOf_17 : decode cX2_yearsOf 17 = .ok (.iload 5, 2) := dk_21 5 (dk_at dksX2_yearsOf_0 17 rfl rfl)
theorem dX2_yearsOf_19 : decode cX2_yearsOf 19 = .ok (.aload_n 0, 1) := dk_42 (dk_at dksX2_yearsOf_0 19 rfl rfl)
theorem dX2_yearsOf_20 : decode cX2_yearsOf 20 = .ok (.getfield 21, 3) := dk_180 0 21 (dk_at dksX2_yearsOf_0 20 rfl rfl)
theorem dX2_yearsOf_23 : decode cX2_yearsOf 23 = .ok (.invokeinterface 91 1, 5) := by decide +kernel
theorem dX2_yearsOf_28 : decode cX2_yearsOf 28 = .ok (.if_icmp .ge 76, 3) := dk_162 0 76 (dk_at dksX2_yearsOf_1 5 rfl rfl)
theorem dX2_yearsOf_31 : decode cX2_yearsOf 31 = .ok (.iload 5, 2) := dk_21 5 (dk_at dksX2_yearsOf_1 8 rfl rfl)
theorem dX2_yearsOf_33 : decode cX2_yearsOf 33 = .ok (.iload_n 2, 1) := dk_28 (dk_at dksX2_yearsOf_1 10 rfl rfl)
theorem dX2_yearsOf_34 : decode cX2_yearsOf 34 = .ok (.if_icmp .eq 64, 3) := dk_159 0 64 (dk_at dksX2_yearsOf_1 11 rfl rfl)
theorem dX2_yearsOf_37 : decode cX2_yearsOf 37 = .ok (.aload_n 0, 1) := dk_42 (dk_at dksX2_yearsOf_1 14 rfl rfl)
theorem dX2_yearsOf_38 : decode cX2_yearsOf 38 = .ok (.getfield 21, 3) := dk_180 0 21 (dk_at dksX2_yearsOf_1 15 rfl rfl)
theorem dX2_yearsOf_41 : decode cX2_yearsOf 41 = .ok (.iload 5, 2) := dk_21 5 (dk_at dksX2_yearsOf_1 18 rfl rfl)
theorem dX2_yearsOf_43 : decode cX2_yearsOf 43 = .ok (.invokeinterface 68 2, 5) := by decide +kernel
theorem dX2_yearsOf_48 : decode cX2_yearsOf 48 = .ok (.checkcast 63, 3) := dk_192 0 63 (dk_at dksX2_yearsOf_2 5 rfl rfl)
theorem dX2_yearsOf_51 : decode cX2_yearsOf 51 = .ok (.getfield 152, 3) := dk_180 0 152 (dk_at dksX2_yearsOf_2 8 rfl rfl)
theorem dX2_yearsOf_54 : decode cX2_yearsOf 54 = .ok (.iload_n 1, 1) := dk_27 (dk_at dksX2_yearsOf_2 11 rfl rfl)
theorem dX2_yearsOf_55 : decode cX2_yearsOf 55 = .ok (.if_icmp .ne 43, 3) := dk_160 0 43 (dk_at dksX2_yearsOf_2 12 rfl rfl)
theorem dX2_yearsOf_58 : decode cX2_yearsOf 58 = .ok (.aload_n 0, 1) := dk_42 (dk_at dksX2_yearsOf_2 15 rfl rfl)
theorem dX2_yearsOf_59 : decode cX2_yearsOf 59 = .ok (.iload 5, 2) := dk_21 5 (dk_at dksX2_yearsOf_2 16 rfl rfl)
theorem dX2_yearsOf_61 : decode cX2_yearsOf 61 = .ok (.invokevirtual 155, 3) := dk_182 0 155 (dk_at dksX2_yearsOf_2 18 rfl rfl)
theorem dX2_yearsOf_64 : decode cX2_yearsOf 64 = .ok (.ifCond .ne 34, 3) := dk_154 0 34 (dk_at dksX2_yearsOf_2 21 rfl rfl)
theorem dX2_yearsOf_67 : decode cX2_yearsOf 67 = .ok (.iload 4, 2) := dk_21 4 (dk_at dksX2_yearsOf_3 0 rfl rfl)
theorem dX2_yearsOf_69 : decode cX2_yearsOf 69 = .ok (.ifCond .eq 16, 3) := dk_153 0 16 (dk_at dksX2_yearsOf_3 2 rfl rfl)
theorem dX2_yearsOf_72 : decode cX2_yearsOf 72 = .ok (.aload_n 3, 1) := dk_45 (dk_at dksX2_yearsOf_3 5 rfl rfl)
theorem dX2_yearsOf_73 : decode cX2_yearsOf 73 = .ok (.aload_n 0, 1) := dk_42 (dk_at dksX2_yearsOf_3 6 rfl rfl)
theorem dX2_yearsOf_74 : decode cX2_yearsOf 74 = .ok (.iload 5, 2) := dk_21 5 (dk_at dksX2_yearsOf_3 7 rfl rfl)
theorem dX2_yearsOf_76 : decode cX2_yearsOf 76 = .ok (.invokevirtual 143, 3) := dk_182 0 143 (dk_at dksX2_yearsOf_3 9 rfl rfl)
theorem dX2_yearsOf_79 : decode cX2_yearsOf 79 = .ok (.invokevirtual 159, 3) := dk_182 0 159 (dk_at dksX2_yearsOf_3 12 rfl rfl)
theorem dX2_yearsOf_82 : decode cX2_yearsOf 82 = .ok (.goto 13, 3) := dk_167 0 13 (dk_at dksX2_yearsOf_3 15 rfl rfl)
theorem dX2_yearsOf_85 : decode cX2_yearsOf 85 = .ok (.aload_n 3, 1) := dk_45 (dk_at dksX2_yearsOf_3 18 rfl rfl)
theorem dX2_yearsOf_86 : decode cX2_yearsOf 86 = .ok (.aload_n 0, 1) := dk_42 (dk_at dksX2_yearsOf_3 19 rfl rfl)
theorem dX2_yearsOf_87 : decode cX2_yearsOf 87 = .ok (.iload 5, 2) := dk_21 5 (dk_at dksX2_yearsOf_3 20 rfl rfl)
theorem dX2_yearsOf_89 : decode cX2_yearsOf 89 = .ok (.invokevirtual 143, 3) := dk_182 0 143 (dk_at dksX2_yearsOf_4 0 rfl rfl)
theorem dX2_yearsOf_92 : decode cX2_yearsOf 92 = .ok (.invokevirtual 163, 3) := dk_182 0 163 (dk_at dksX2_yearsOf_4 3 rfl rfl)
theorem dX2_yearsOf_95 : decode cX2_yearsOf 95 = .ok (.iconst 1, 1) := dk_4 (dk_at dksX2_yearsOf_4 6 rfl rfl)
theorem dX2_yearsOf_96 : decode cX2_yearsOf 96 = .ok (.istore 4, 2) := dk_54 4 (dk_at dksX2_yearsOf_4 7 rfl rfl)
theorem dX2_yearsOf_98 : decode cX2_yearsOf 98 = .ok (.iinc 5 1, 3) := dk_132 5 1 (dk_at dksX2_yearsOf_4 9 rfl rfl)
theorem dX2_yearsOf_101 : decode cX2_yearsOf 101 = .ok (.goto (-84), 3) := dk_167 255 172 (dk_at dksX2_yearsOf_4 12 rfl rfl)
theorem dX2_yearsOf_104 : decode cX2_yearsOf 104 = .ok (.aload_n 3, 1) := dk_45 (dk_at dksX2_yearsOf_4 15 rfl rfl)
theorem dX2_yearsOf_105 : decode cX2_yearsOf 105 = .ok (.areturn, 1) := dk_176 (dk_at dksX2_yearsOf_4 16 rfl rfl)
abbrev cX2_alone : ByteArray := prog_2_method_11_code
def yX2_alone : MethodName := ⟨RX2, "alone", "(I)I"⟩
def dkwX2_alone_3 : List UInt8 := [172]
abbrev dktX2_alone_3 : List UInt8 := dkwX2_alone_3 ++ []
def dkwX2_alone_2 : List UInt8 := [182, 0, 139, 154, 0, 5, 5, 172, 42, 27, 182, 0, 143, 182, 0, 146, 153, 0, 7, 6, 167, 0, 4, 3]
abbrev dktX2_alone_2 : List UInt8 := dkwX2_alone_2 ++ dktX2_alone_3
def dkwX2_alone_1 : List UInt8 := [180, 0, 133, 46, 164, 0, 5, 4, 172, 44, 180, 0, 136, 2, 159, 0, 16, 42, 44, 180, 0, 136]
abbrev dktX2_alone_1 : List UInt8 := dkwX2_alone_1 ++ dktX2_alone_2
def dkwX2_alone_0 : List UInt8 := [42, 180, 0, 21, 27, 185, 0, 68, 2, 0, 192, 0, 63, 77, 44, 180, 0, 130, 42, 180, 0, 27, 44]
abbrev dktX2_alone_0 : List UInt8 := dkwX2_alone_0 ++ dktX2_alone_1
theorem dksX2_alone_0 : cX2_alone.data.toList.drop 0 = dktX2_alone_0 := by decide +kernel
theorem dksX2_alone_1 : cX2_alone.data.toList.drop 23 = dktX2_alone_1 := dk_seg dksX2_alone_0 23 rfl rfl
theorem dksX2_alone_2 : cX2_alone.data.toList.drop 45 = dktX2_alone_2 := dk_seg dksX2_alone_1 22 rfl rfl
theorem dksX2_alone_3 : cX2_alone.data.toList.drop 69 = dktX2_alone_3 := dk_seg dksX2_alone_2 24 rfl rfl
theorem dX2_alone_0 : decode cX2_alone 0 = .ok (.aload_n 0, 1) := dk_42 (dk_at dksX2_alone_0 0 rfl rfl)
theorem dX2_alone_1 : decode cX2_alone 1 = .ok (.getfield 21, 3) := dk_180 0 21 (dk_at dksX2_alone_0 1 rfl rfl)
theorem dX2_alone_4 : decode cX2_alone 4 = .ok (.iload_n 1, 1) := dk_27 (dk_at dksX2_alone_0 4 rfl rfl)
theorem dX2_alone_5 : decode cX2_alone 5 = .ok (.invokeinterface 68 2, 5) := by decide +kernel
theorem dX2_alone_10 : decode cX2_alone 10 = .ok (.checkcast 63, 3) := dk_192 0 63 (dk_at dksX2_alone_0 10 rfl rfl)
theorem dX2_alone_13 : decode cX2_alone 13 = .ok (.astore_n 2, 1) := dk_77 (dk_at dksX2_alone_0 13 rfl rfl)
theorem dX2_alone_14 : decode cX2_alone 14 = .ok (.aload_n 2, 1) := dk_44 (dk_at dksX2_alone_0 14 rfl rfl)
theorem dX2_alone_15 : decode cX2_alone 15 = .ok (.getfield 130, 3) := dk_180 0 130 (dk_at dksX2_alone_0 15 rfl rfl)
theorem dX2_alone_18 : decode cX2_alone 18 = .ok (.aload_n 0, 1) := dk_42 (dk_at dksX2_alone_0 18 rfl rfl)
theorem dX2_alone_19 : decode cX2_alone 19 = .ok (.getfield 27, 3) := dk_180 0 27 (dk_at dksX2_alone_0 19 rfl rfl)
theorem dX2_alone_22 : decode cX2_alone 22 = .ok (.aload_n 2, 1) := dk_44 (dk_at dksX2_alone_0 22 rfl rfl)
theorem dX2_alone_23 : decode cX2_alone 23 = .ok (.getfield 133, 3) := dk_180 0 133 (dk_at dksX2_alone_1 0 rfl rfl)
theorem dX2_alone_26 : decode cX2_alone 26 = .ok (.iaload, 1) := dk_46 (dk_at dksX2_alone_1 3 rfl rfl)
theorem dX2_alone_27 : decode cX2_alone 27 = .ok (.if_icmp .le 5, 3) := dk_164 0 5 (dk_at dksX2_alone_1 4 rfl rfl)
theorem dX2_alone_30 : decode cX2_alone 30 = .ok (.iconst 1, 1) := dk_4 (dk_at dksX2_alone_1 7 rfl rfl)
theorem dX2_alone_31 : decode cX2_alone 31 = .ok (.ireturn, 1) := dk_172 (dk_at dksX2_alone_1 8 rfl rfl)
theorem dX2_alone_32 : decode cX2_alone 32 = .ok (.aload_n 2, 1) := dk_44 (dk_at dksX2_alone_1 9 rfl rfl)
theorem dX2_alone_33 : decode cX2_alone 33 = .ok (.getfield 136, 3) := dk_180 0 136 (dk_at dksX2_alone_1 10 rfl rfl)
theorem dX2_alone_36 : decode cX2_alone 36 = .ok (.iconst (-1), 1) := dk_2 (dk_at dksX2_alone_1 13 rfl rfl)
theorem dX2_alone_37 : decode cX2_alone 37 = .ok (.if_icmp .eq 16, 3) := dk_159 0 16 (dk_at dksX2_alone_1 14 rfl rfl)
theorem dX2_alone_40 : decode cX2_alone 40 = .ok (.aload_n 0, 1) := dk_42 (dk_at dksX2_alone_1 17 rfl rfl)
theorem dX2_alone_41 : decode cX2_alone 41 = .ok (.aload_n 2, 1) := dk_44 (dk_at dksX2_alone_1 18 rfl rfl)
theorem dX2_alone_42 : decode cX2_alone 42 = .ok (.getfield 136, 3) := dk_180 0 136 (dk_at dksX2_alone_1 19 rfl rfl)
theorem dX2_alone_45 : decode cX2_alone 45 = .ok (.invokevirtual 139, 3) := dk_182 0 139 (dk_at dksX2_alone_2 0 rfl rfl)
theorem dX2_alone_48 : decode cX2_alone 48 = .ok (.ifCond .ne 5, 3) := dk_154 0 5 (dk_at dksX2_alone_2 3 rfl rfl)
theorem dX2_alone_51 : decode cX2_alone 51 = .ok (.iconst 2, 1) := dk_5 (dk_at dksX2_alone_2 6 rfl rfl)
theorem dX2_alone_52 : decode cX2_alone 52 = .ok (.ireturn, 1) := dk_172 (dk_at dksX2_alone_2 7 rfl rfl)
theorem dX2_alone_53 : decode cX2_alone 53 = .ok (.aload_n 0, 1) := dk_42 (dk_at dksX2_alone_2 8 rfl rfl)
theorem dX2_alone_54 : decode cX2_alone 54 = .ok (.iload_n 1, 1) := dk_27 (dk_at dksX2_alone_2 9 rfl rfl)
theorem dX2_alone_55 : decode cX2_alone 55 = .ok (.invokevirtual 143, 3) := dk_182 0 143 (dk_at dksX2_alone_2 10 rfl rfl)
theorem dX2_alone_58 : decode cX2_alone 58 = .ok (.invokevirtual 146, 3) := dk_182 0 146 (dk_at dksX2_alone_2 13 rfl rfl)
theorem dX2_alone_61 : decode cX2_alone 61 = .ok (.ifCond .eq 7, 3) := dk_153 0 7 (dk_at dksX2_alone_2 16 rfl rfl)
theorem dX2_alone_64 : decode cX2_alone 64 = .ok (.iconst 3, 1) := dk_6 (dk_at dksX2_alone_2 19 rfl rfl)
theorem dX2_alone_65 : decode cX2_alone 65 = .ok (.goto 4, 3) := dk_167 0 4 (dk_at dksX2_alone_2 20 rfl rfl)
theorem dX2_alone_68 : decode cX2_alone 68 = .ok (.iconst 0, 1) := dk_3 (dk_at dksX2_alone_2 23 rfl rfl)
theorem dX2_alone_69 : decode cX2_alone 69 = .ok (.ireturn, 1) := dk_172 (dk_at dksX2_alone_3 0 rfl rfl)
abbrev cX2_isUsed : ByteArray := prog_2_method_8_code
def yX2_isUsed : MethodName := ⟨RX2, "isUsed", "(I)Z"⟩
def dkwX2_isUsed_2 : List UInt8 := [167, 255, 223, 3, 172]
abbrev dktX2_isUsed_2 : List UInt8 := dkwX2_isUsed_2 ++ []
def dkwX2_isUsed_1 : List UInt8 := [185, 0, 51, 1, 0, 192, 0, 55, 78, 45, 180, 0, 108, 27, 122, 4, 126, 4, 160, 0, 5, 4, 172]
abbrev dktX2_isUsed_1 : List UInt8 := dkwX2_isUsed_1 ++ dktX2_isUsed_2
def dkwX2_isUsed_0 : List UInt8 := [42, 180, 0, 12, 185, 0, 41, 1, 0, 77, 44, 185, 0, 45, 1, 0, 153, 0, 30, 44]
abbrev dktX2_isUsed_0 : List UInt8 := dkwX2_isUsed_0 ++ dktX2_isUsed_1
theorem dksX2_isUsed_0 : cX2_isUsed.data.toList.drop 0 = dktX2_isUsed_0 := by decide +kernel
theorem dksX2_isUsed_1 : cX2_isUsed.data.toList.drop 20 = dktX2_isUsed_1 := dk_seg dksX2_isUsed_0 20 rfl rfl
theorem dksX2_isUsed_2 : cX2_isUsed.data.toList.drop 43 = dktX2_isUsed_2 := dk_seg dksX2_isUsed_1 23 rfl rfl
theorem dX2_isUsed_0 : decode cX2_isUsed 0 = .ok (.aload_n 0, 1) := dk_42 (dk_at dksX2_isUsed_0 0 rfl rfl)
theorem dX2_isUsed_1 : decode cX2_isUsed 1 = .ok (.getfield 12, 3) := dk_180 0 12 (dk_at dksX2_isUsed_0 1 rfl rfl)
theorem dX2_isUsed_4 : decode cX2_isUsed 4 = .ok (.invokeinterface 41 1, 5) := by decide +kernel
theorem dX2_isUsed_9 : decode cX2_isUsed 9 = .ok (.astore_n 2, 1) := dk_77 (dk_at dksX2_isUsed_0 9 rfl rfl)
theorem dX2_isUsed_10 : decode cX2_isUsed 10 = .ok (.aload_n 2, 1) := dk_44 (dk_at dksX2_isUsed_0 10 rfl rfl)
theorem dX2_isUsed_11 : decode cX2_isUsed 11 = .ok (.invokeinterface 45 1, 5) := by decide +kernel
theorem dX2_isUsed_16 : decode cX2_isUsed 16 = .ok (.ifCond .eq 30, 3) := dk_153 0 30 (dk_at dksX2_isUsed_0 16 rfl rfl)
theorem dX2_isUsed_19 : decode cX2_isUsed 19 = .ok (.aload_n 2, 1) := dk_44 (dk_at dksX2_isUsed_0 19 rfl rfl)
theorem dX2_isUsed_20 : decode cX2_isUsed 20 = .ok (.invokeinterface 51 1, 5) := by decide +kernel
theorem dX2_isUsed_25 : decode cX2_isUsed 25 = .ok (.checkcast 55, 3) := dk_192 0 55 (dk_at dksX2_isUsed_1 5 rfl rfl)
theorem dX2_isUsed_28 : decode cX2_isUsed 28 = .ok (.astore_n 3, 1) := dk_78 (dk_at dksX2_isUsed_1 8 rfl rfl)
theorem dX2_isUsed_29 : decode cX2_isUsed 29 = .ok (.aload_n 3, 1) := dk_45 (dk_at dksX2_isUsed_1 9 rfl rfl)
theorem dX2_isUsed_30 : decode cX2_isUsed 30 = .ok (.getfield 108, 3) := dk_180 0 108 (dk_at dksX2_isUsed_1 10 rfl rfl)
theorem dX2_isUsed_33 : decode cX2_isUsed 33 = .ok (.iload_n 1, 1) := dk_27 (dk_at dksX2_isUsed_1 13 rfl rfl)
theorem dX2_isUsed_34 : decode cX2_isUsed 34 = .ok (.ishr, 1) := dk_122 (dk_at dksX2_isUsed_1 14 rfl rfl)
theorem dX2_isUsed_35 : decode cX2_isUsed 35 = .ok (.iconst 1, 1) := dk_4 (dk_at dksX2_isUsed_1 15 rfl rfl)
theorem dX2_isUsed_36 : decode cX2_isUsed 36 = .ok (.iand, 1) := dk_126 (dk_at dksX2_isUsed_1 16 rfl rfl)
theorem dX2_isUsed_37 : decode cX2_isUsed 37 = .ok (.iconst 1, 1) := dk_4 (dk_at dksX2_isUsed_1 17 rfl rfl)
theorem dX2_isUsed_38 : decode cX2_isUsed 38 = .ok (.if_icmp .ne 5, 3) := dk_160 0 5 (dk_at dksX2_isUsed_1 18 rfl rfl)
theorem dX2_isUsed_41 : decode cX2_isUsed 41 = .ok (.iconst 1, 1) := dk_4 (dk_at dksX2_isUsed_1 21 rfl rfl)
theorem dX2_isUsed_42 : decode cX2_isUsed 42 = .ok (.ireturn, 1) := dk_172 (dk_at dksX2_isUsed_1 22 rfl rfl)
theorem dX2_isUsed_43 : decode cX2_isUsed 43 = .ok (.goto (-33), 3) := dk_167 255 223 (dk_at dksX2_isUsed_2 0 rfl rfl)
theorem dX2_isUsed_46 : decode cX2_isUsed 46 = .ok (.iconst 0, 1) := dk_3 (dk_at dksX2_isUsed_2 3 rfl rfl)
theorem dX2_isUsed_47 : decode cX2_isUsed 47 = .ok (.ireturn, 1) := dk_172 (dk_at dksX2_isUsed_2 4 rfl rfl)
abbrev cX2_possible : ByteArray := prog_2_method_10_code
def yX2_possible : MethodName := ⟨RX2, "possible", "(I)Ljava/util/BitSet;"⟩
def dkwX2_possible_2 : List UInt8 := [182, 0, 126, 83, 42, 180, 0, 120, 27, 50, 176]
abbrev dktX2_possible_2 : List UInt8 := dkwX2_possible_2 ++ []
def dkwX2_possible_1 : List UInt8 := [199, 0, 26, 42, 180, 0, 120, 27, 42, 42, 180, 0, 21, 27, 185, 0, 68, 2, 0, 192, 0, 63]
abbrev dktX2_possible_1 : List UInt8 := dkwX2_possible_1 ++ dktX2_possible_2
def dkwX2_possible_0 : List UInt8 := [42, 180, 0, 120, 199, 0, 12, 42, 16, 24, 189, 0, 124, 181, 0, 120, 42, 180, 0, 120, 27, 50]
abbrev dktX2_possible_0 : List UInt8 := dkwX2_possible_0 ++ dktX2_possible_1
theorem dksX2_possible_0 : cX2_possible.data.toList.drop 0 = dktX2_possible_0 := by decide +kernel
theorem dksX2_possible_1 : cX2_possible.data.toList.drop 22 = dktX2_possible_1 := dk_seg dksX2_possible_0 22 rfl rfl
theorem dksX2_possible_2 : cX2_possible.data.toList.drop 44 = dktX2_possible_2 := dk_seg dksX2_possible_1 22 rfl rfl
theorem dX2_possible_0 : decode cX2_possible 0 = .ok (.aload_n 0, 1) := dk_42 (dk_at dksX2_possible_0 0 rfl rfl)
theorem dX2_possible_1 : decode cX2_possible 1 = .ok (.getfield 120, 3) := dk_180 0 120 (dk_at dksX2_possible_0 1 rfl rfl)
theorem dX2_possible_4 : decode cX2_possible 4 = .ok (.ifnonnull 12, 3) := dk_199 0 12 (dk_at dksX2_possible_0 4 rfl rfl)
theorem dX2_possible_7 : decode cX2_possible 7 = .ok (.aload_n 0, 1) := dk_42 (dk_at dksX2_possible_0 7 rfl rfl)
theorem dX2_possible_8 : decode cX2_possible 8 = .ok (.bipush 24, 2) := dk_16 24 (dk_at dksX2_possible_0 8 rfl rfl)
theorem dX2_possible_10 : decode cX2_possible 10 = .ok (.anewarray 124, 3) := dk_189 0 124 (dk_at dksX2_possible_0 10 rfl rfl)
theorem dX2_possible_13 : decode cX2_possible 13 = .ok (.putfield 120, 3) := dk_181 0 120 (dk_at dksX2_possible_0 13 rfl rfl)
theorem dX2_possible_16 : decode cX2_possible 16 = .ok (.aload_n 0, 1) := dk_42 (dk_at dksX2_possible_0 16 rfl rfl)
theorem dX2_possible_17 : decode cX2_possible 17 = .ok (.getfield 120, 3) := dk_180 0 120 (dk_at dksX2_possible_0 17 rfl rfl)
theorem dX2_possible_20 : decode cX2_possible 20 = .ok (.iload_n 1, 1) := dk_27 (dk_at dksX2_possible_0 20 rfl rfl)
theorem dX2_possible_21 : decode cX2_possible 21 = .ok (.aaload, 1) := dk_50 (dk_at dksX2_possible_0 21 rfl rfl)
theorem dX2_possible_22 : decode cX2_possible 22 = .ok (.ifnonnull 26, 3) := dk_199 0 26 (dk_at dksX2_possible_1 0 rfl rfl)
theorem dX2_possible_25 : decode cX2_possible 25 = .ok (.aload_n 0, 1) := dk_42 (dk_at dksX2_possible_1 3 rfl rfl)
theorem dX2_possible_26 : decode cX2_possible 26 = .ok (.getfield 120, 3) := dk_180 0 120 (dk_at dksX2_possible_1 4 rfl rfl)
theorem dX2_possible_29 : decode cX2_possible 29 = .ok (.iload_n 1, 1) := dk_27 (dk_at dksX2_possible_1 7 rfl rfl)
theorem dX2_possible_30 : decode cX2_possible 30 = .ok (.aload_n 0, 1) := dk_42 (dk_at dksX2_possible_1 8 rfl rfl)
theorem dX2_possible_31 : decode cX2_possible 31 = .ok (.aload_n 0, 1) := dk_42 (dk_at dksX2_possible_1 9 rfl rfl)
theorem dX2_possible_32 : decode cX2_possible 32 = .ok (.getfield 21, 3) := dk_180 0 21 (dk_at dksX2_possible_1 10 rfl rfl)
theorem dX2_possible_35 : decode cX2_possible 35 = .ok (.iload_n 1, 1) := dk_27 (dk_at dksX2_possible_1 13 rfl rfl)
theorem dX2_possible_36 : decode cX2_possible 36 = .ok (.invokeinterface 68 2, 5) := by decide +kernel
theorem dX2_possible_41 : decode cX2_possible 41 = .ok (.checkcast 63, 3) := dk_192 0 63 (dk_at dksX2_possible_1 19 rfl rfl)
theorem dX2_possible_44 : decode cX2_possible 44 = .ok (.invokevirtual 126, 3) := dk_182 0 126 (dk_at dksX2_possible_2 0 rfl rfl)
theorem dX2_possible_47 : decode cX2_possible 47 = .ok (.aastore, 1) := dk_83 (dk_at dksX2_possible_2 3 rfl rfl)
theorem dX2_possible_48 : decode cX2_possible 48 = .ok (.aload_n 0, 1) := dk_42 (dk_at dksX2_possible_2 4 rfl rfl)
theorem dX2_possible_49 : decode cX2_possible 49 = .ok (.getfield 120, 3) := dk_180 0 120 (dk_at dksX2_possible_2 5 rfl rfl)
theorem dX2_possible_52 : decode cX2_possible 52 = .ok (.iload_n 1, 1) := dk_27 (dk_at dksX2_possible_2 8 rfl rfl)
theorem dX2_possible_53 : decode cX2_possible 53 = .ok (.aaload, 1) := dk_50 (dk_at dksX2_possible_2 9 rfl rfl)
theorem dX2_possible_54 : decode cX2_possible 54 = .ok (.areturn, 1) := dk_176 (dk_at dksX2_possible_2 10 rfl rfl)
abbrev cX2_yearsOf_2 : ByteArray := prog_2_method_9_code
def yX2_yearsOf_2 : MethodName := ⟨RX2, "yearsOf", "(LCordSeals$Seal;)Ljava/util/BitSet;"⟩
def dkwX2_yearsOf_2_1 : List UInt8 := [183, 0, 113, 184, 0, 116, 176]
abbrev dktX2_yearsOf_2_1 : List UInt8 := dkwX2_yearsOf_2_1 ++ []
def dkwX2_yearsOf_2_0 : List UInt8 := [42, 180, 0, 18, 43, 180, 0, 98, 185, 0, 68, 2, 0, 192, 0, 57, 77, 187, 0, 111, 89, 42, 44, 43]
abbrev dktX2_yearsOf_2_0 : List UInt8 := dkwX2_yearsOf_2_0 ++ dktX2_yearsOf_2_1
theorem dksX2_yearsOf_2_0 : cX2_yearsOf_2.data.toList.drop 0 = dktX2_yearsOf_2_0 := by decide +kernel
theorem dksX2_yearsOf_2_1 : cX2_yearsOf_2.data.toList.drop 24 = dktX2_yearsOf_2_1 := dk_seg dksX2_yearsOf_2_0 24 rfl rfl
theorem dX2_yearsOf_2_0 : decode cX2_yearsOf_2 0 = .ok (.aload_n 0, 1) := dk_42 (dk_at dksX2_yearsOf_2_0 0 rfl rfl)
theorem dX2_yearsOf_2_1 : decode cX2_yearsOf_2 1 = .ok (.getfield 18, 3) := dk_180 0 18 (dk_at dksX2_yearsOf_2_0 1 rfl rfl)
theorem dX2_yearsOf_2_4 : decode cX2_yearsOf_2 4 = .ok (.aload_n 1, 1) := dk_43 (dk_at dksX2_yearsOf_2_0 4 rfl rfl)
theorem dX2_yearsOf_2_5 : decode cX2_yearsOf_2 5 = .ok (.getfield 98, 3) := dk_180 0 98 (dk_at dksX2_yearsOf_2_0 5 rfl rfl)
theorem dX2_yearsOf_2_8 : decode cX2_yearsOf_2 8 = .ok (.invokeinterface 68 2, 5) := by decide +kernel
theorem dX2_yearsOf_2_13 : decode cX2_yearsOf_2 13 = .ok (.checkcast 57, 3) := dk_192 0 57 (dk_at dksX2_yearsOf_2_0 13 rfl rfl)
theorem dX2_yearsOf_2_16 : decode cX2_yearsOf_2 16 = .ok (.astore_n 2, 1) := dk_77 (dk_at dksX2_yearsOf_2_0 16 rfl rfl)
theorem dX2_yearsOf_2_17 : decode cX2_yearsOf_2 17 = .ok (.new 111, 3) := dk_187 0 111 (dk_at dksX2_yearsOf_2_0 17 rfl rfl)
theorem dX2_yearsOf_2_20 : decode cX2_yearsOf_2 20 = .ok (.dup, 1) := dk_89 (dk_at dksX2_yearsOf_2_0 20 rfl rfl)
theorem dX2_yearsOf_2_21 : decode cX2_yearsOf_2 21 = .ok (.aload_n 0, 1) := dk_42 (dk_at dksX2_yearsOf_2_0 21 rfl rfl)
theorem dX2_yearsOf_2_22 : decode cX2_yearsOf_2 22 = .ok (.aload_n 2, 1) := dk_44 (dk_at dksX2_yearsOf_2_0 22 rfl rfl)
theorem dX2_yearsOf_2_23 : decode cX2_yearsOf_2 23 = .ok (.aload_n 1, 1) := dk_43 (dk_at dksX2_yearsOf_2_0 23 rfl rfl)
theorem dX2_yearsOf_2_24 : decode cX2_yearsOf_2 24 = .ok (.invokespecial 113, 3) := dk_183 0 113 (dk_at dksX2_yearsOf_2_1 0 rfl rfl)
theorem dX2_yearsOf_2_27 : decode cX2_yearsOf_2 27 = .ok (.invokestatic 116, 3) := dk_184 0 116 (dk_at dksX2_yearsOf_2_1 3 rfl rfl)
theorem dX2_yearsOf_2_30 : decode cX2_yearsOf_2 30 = .ok (.areturn, 1) := dk_176 (dk_at dksX2_yearsOf_2_1 6 rfl rfl)
abbrev cX2_used : ByteArray := prog_2_method_7_code
def yX2_used : MethodName := ⟨RX2, "used", "(II)Z"⟩
def dkwX2_used_3 : List UInt8 := [180, 0, 108, 27, 122, 4, 126, 4, 160, 0, 7, 4, 167, 0, 4, 3, 172]
abbrev dktX2_used_3 : List UInt8 := dkwX2_used_3 ++ []
def dkwX2_used_2 : List UInt8 := [132, 4, 1, 167, 255, 211, 29, 2, 159, 0, 31, 42, 180, 0, 12, 29, 185, 0, 68, 2, 0, 192, 0, 55]
abbrev dktX2_used_2 : List UInt8 := dkwX2_used_2 ++ dktX2_used_3
def dkwX2_used_1 : List UInt8 := [21, 4, 185, 0, 68, 2, 0, 192, 0, 55, 180, 0, 105, 28, 163, 0, 8, 21, 4, 167, 0, 4, 29, 62]
abbrev dktX2_used_1 : List UInt8 := dkwX2_used_1 ++ dktX2_used_2
def dkwX2_used_0 : List UInt8 := [2, 62, 3, 54, 4, 21, 4, 42, 180, 0, 12, 185, 0, 91, 1, 0, 162, 0, 37, 42, 180, 0, 12]
abbrev dktX2_used_0 : List UInt8 := dkwX2_used_0 ++ dktX2_used_1
theorem dksX2_used_0 : cX2_used.data.toList.drop 0 = dktX2_used_0 := by decide +kernel
theorem dksX2_used_1 : cX2_used.data.toList.drop 23 = dktX2_used_1 := dk_seg dksX2_used_0 23 rfl rfl
theorem dksX2_used_2 : cX2_used.data.toList.drop 47 = dktX2_used_2 := dk_seg dksX2_used_1 24 rfl rfl
theorem dksX2_used_3 : cX2_used.data.toList.drop 71 = dktX2_used_3 := dk_seg dksX2_used_2 24 rfl rfl
theorem dX2_used_0 : decode cX2_used 0 = .ok (.iconst (-1), 1) := dk_2 (dk_at dksX2_used_0 0 rfl rfl)
theorem dX2_used_1 : decode cX2_used 1 = .ok (.istore_n 3, 1) := dk_62 (dk_at dksX2_used_0 1 rfl rfl)
theorem dX2_used_2 : decode cX2_used 2 = .ok (.iconst 0, 1) := dk_3 (dk_at dksX2_used_0 2 rfl rfl)
theorem dX2_used_3 : decode cX2_used 3 = .ok (.istore 4, 2) := dk_54 4 (dk_at dksX2_used_0 3 rfl rfl)
theorem dX2_used_5 : decode cX2_used 5 = .ok (.iload 4, 2) := dk_21 4 (dk_at dksX2_used_0 5 rfl rfl)
theorem dX2_used_7 : decode cX2_used 7 = .ok (.aload_n 0, 1) := dk_42 (dk_at dksX2_used_0 7 rfl rfl)
theorem dX2_used_8 : decode cX2_used 8 = .ok (.getfield 12, 3) := dk_180 0 12 (dk_at dksX2_used_0 8 rfl rfl)
theorem dX2_used_11 : decode cX2_used 11 = .ok (.invokeinterface 91 1, 5) := by decide +kernel
theorem dX2_used_16 : decode cX2_used 16 = .ok (.if_icmp .ge 37, 3) := dk_162 0 37 (dk_at dksX2_used_0 16 rfl rfl)
theorem dX2_used_19 : decode cX2_used 19 = .ok (.aload_n 0, 1) := dk_42 (dk_at dksX2_used_0 19 rfl rfl)
theorem dX2_used_20 : decode cX2_used 20 = .ok (.getfield 12, 3) := dk_180 0 12 (dk_at dksX2_used_0 20 rfl rfl)
theorem dX2_used_23 : decode cX2_used 23 = .ok (.iload 4, 2) := dk_21 4 (dk_at dksX2_used_1 0 rfl rfl)
theorem dX2_used_25 : decode cX2_used 25 = .ok (.invokeinterface 68 2, 5) := by decide +kernel
theorem dX2_used_30 : decode cX2_used 30 = .ok (.checkcast 55, 3) := dk_192 0 55 (dk_at dksX2_used_1 7 rfl rfl)
theorem dX2_used_33 : decode cX2_used 33 = .ok (.getfield 105, 3) := dk_180 0 105 (dk_at dksX2_used_1 10 rfl rfl)
theorem dX2_used_36 : decode cX2_used 36 = .ok (.iload_n 2, 1) := dk_28 (dk_at dksX2_used_1 13 rfl rfl)
theorem dX2_used_37 : decode cX2_used 37 = .ok (.if_icmp .gt 8, 3) := dk_163 0 8 (dk_at dksX2_used_1 14 rfl rfl)
theorem dX2_used_40 : decode cX2_used 40 = .ok (.iload 4, 2) := dk_21 4 (dk_at dksX2_used_1 17 rfl rfl)
theorem dX2_used_42 : decode cX2_used 42 = .ok (.goto 4, 3) := dk_167 0 4 (dk_at dksX2_used_1 19 rfl rfl)
theorem dX2_used_45 : decode cX2_used 45 = .ok (.iload_n 3, 1) := dk_29 (dk_at dksX2_used_1 22 rfl rfl)
theorem dX2_used_46 : decode cX2_used 46 = .ok (.istore_n 3, 1) := dk_62 (dk_at dksX2_used_1 23 rfl rfl)
theorem dX2_used_47 : decode cX2_used 47 = .ok (.iinc 4 1, 3) := dk_132 4 1 (dk_at dksX2_used_2 0 rfl rfl)
theorem dX2_used_50 : decode cX2_used 50 = .ok (.goto (-45), 3) := dk_167 255 211 (dk_at dksX2_used_2 3 rfl rfl)
theorem dX2_used_53 : decode cX2_used 53 = .ok (.iload_n 3, 1) := dk_29 (dk_at dksX2_used_2 6 rfl rfl)
theorem dX2_used_54 : decode cX2_used 54 = .ok (.iconst (-1), 1) := dk_2 (dk_at dksX2_used_2 7 rfl rfl)
theorem dX2_used_55 : decode cX2_used 55 = .ok (.if_icmp .eq 31, 3) := dk_159 0 31 (dk_at dksX2_used_2 8 rfl rfl)
theorem dX2_used_58 : decode cX2_used 58 = .ok (.aload_n 0, 1) := dk_42 (dk_at dksX2_used_2 11 rfl rfl)
theorem dX2_used_59 : decode cX2_used 59 = .ok (.getfield 12, 3) := dk_180 0 12 (dk_at dksX2_used_2 12 rfl rfl)
theorem dX2_used_62 : decode cX2_used 62 = .ok (.iload_n 3, 1) := dk_29 (dk_at dksX2_used_2 15 rfl rfl)
theorem dX2_used_63 : decode cX2_used 63 = .ok (.invokeinterface 68 2, 5) := by decide +kernel
theorem dX2_used_68 : decode cX2_used 68 = .ok (.checkcast 55, 3) := dk_192 0 55 (dk_at dksX2_used_2 21 rfl rfl)
theorem dX2_used_71 : decode cX2_used 71 = .ok (.getfield 108, 3) := dk_180 0 108 (dk_at dksX2_used_3 0 rfl rfl)
theorem dX2_used_74 : decode cX2_used 74 = .ok (.iload_n 1, 1) := dk_27 (dk_at dksX2_used_3 3 rfl rfl)
theorem dX2_used_75 : decode cX2_used 75 = .ok (.ishr, 1) := dk_122 (dk_at dksX2_used_3 4 rfl rfl)
theorem dX2_used_76 : decode cX2_used 76 = .ok (.iconst 1, 1) := dk_4 (dk_at dksX2_used_3 5 rfl rfl)
theorem dX2_used_77 : decode cX2_used 77 = .ok (.iand, 1) := dk_126 (dk_at dksX2_used_3 6 rfl rfl)
theorem dX2_used_78 : decode cX2_used 78 = .ok (.iconst 1, 1) := dk_4 (dk_at dksX2_used_3 7 rfl rfl)
theorem dX2_used_79 : decode cX2_used 79 = .ok (.if_icmp .ne 7, 3) := dk_160 0 7 (dk_at dksX2_used_3 8 rfl rfl)
theorem dX2_used_82 : decode cX2_used 82 = .ok (.iconst 1, 1) := dk_4 (dk_at dksX2_used_3 11 rfl rfl)
theorem dX2_used_83 : decode cX2_used 83 = .ok (.goto 4, 3) := dk_167 0 4 (dk_at dksX2_used_3 12 rfl rfl)
theorem dX2_used_86 : decode cX2_used 86 = .ok (.iconst 0, 1) := dk_3 (dk_at dksX2_used_3 15 rfl rfl)
theorem dX2_used_87 : decode cX2_used 87 = .ok (.ireturn, 1) := dk_172 (dk_at dksX2_used_3 16 rfl rfl)
abbrev cX2_onShelves : ByteArray := prog_2_method_19_code
def yX2_onShelves : MethodName := ⟨RX2, "onShelves", "()I"⟩
def dkwX2_onShelves_1 : List UInt8 := [185, 0, 51, 1, 0, 192, 0, 31, 78, 27, 45, 182, 0, 179, 96, 60, 167, 255, 230, 27, 172]
abbrev dktX2_onShelves_1 : List UInt8 := dkwX2_onShelves_1 ++ []
def dkwX2_onShelves_0 : List UInt8 := [3, 60, 42, 180, 0, 24, 185, 0, 41, 1, 0, 77, 44, 185, 0, 45, 1, 0, 153, 0, 23, 44]
abbrev dktX2_onShelves_0 : List UInt8 := dkwX2_onShelves_0 ++ dktX2_onShelves_1
theorem dksX2_onShelves_0 : cX2_onShelves.data.toList.drop 0 = dktX2_onShelves_0 := by decide +kernel
theorem dksX2_onShelves_1 : cX2_onShelves.data.toList.drop 22 = dktX2_onShelves_1 := dk_seg dksX2_onShelves_0 22 rfl rfl
theorem dX2_onShelves_0 : decode cX2_onShelves 0 = .ok (.iconst 0, 1) := dk_3 (dk_at dksX2_onShelves_0 0 rfl rfl)
theorem dX2_onShelves_1 : decode cX2_onShelves 1 = .ok (.istore_n 1, 1) := dk_60 (dk_at dksX2_onShelves_0 1 rfl rfl)
theorem dX2_onShelves_2 : decode cX2_onShelves 2 = .ok (.aload_n 0, 1) := dk_42 (dk_at dksX2_onShelves_0 2 rfl rfl)
theorem dX2_onShelves_3 : decode cX2_onShelves 3 = .ok (.getfield 24, 3) := dk_180 0 24 (dk_at dksX2_onShelves_0 3 rfl rfl)
theorem dX2_onShelves_6 : decode cX2_onShelves 6 = .ok (.invokeinterface 41 1, 5) := by decide +kernel
theorem dX2_onShelves_11 : decode cX2_onShelves 11 = .ok (.astore_n 2, 1) := dk_77 (dk_at dksX2_onShelves_0 11 rfl rfl)
theorem dX2_onShelves_12 : decode cX2_onShelves 12 = .ok (.aload_n 2, 1) := dk_44 (dk_at dksX2_onShelves_0 12 rfl rfl)
theorem dX2_onShelves_13 : decode cX2_onShelves 13 = .ok (.invokeinterface 45 1, 5) := by decide +kernel
theorem dX2_onShelves_18 : decode cX2_onShelves 18 = .ok (.ifCond .eq 23, 3) := dk_153 0 23 (dk_at dksX2_onShelves_0 18 rfl rfl)
theorem dX2_onShelves_21 : decode cX2_onShelves 21 = .ok (.aload_n 2, 1) := dk_44 (dk_at dksX2_onShelves_0 21 rfl rfl)
theorem dX2_onShelves_22 : decode cX2_onShelves 22 = .ok (.invokeinterface 51 1, 5) := by decide +kernel
theorem dX2_onShelves_27 : decode cX2_onShelves 27 = .ok (.checkcast 31, 3) := dk_192 0 31 (dk_at dksX2_onShelves_1 5 rfl rfl)
theorem dX2_onShelves_30 : decode cX2_onShelves 30 = .ok (.astore_n 3, 1) := dk_78 (dk_at dksX2_onShelves_1 8 rfl rfl)
theorem dX2_onShelves_31 : decode cX2_onShelves 31 = .ok (.iload_n 1, 1) := dk_27 (dk_at dksX2_onShelves_1 9 rfl rfl)
theorem dX2_onShelves_32 : decode cX2_onShelves 32 = .ok (.aload_n 3, 1) := dk_45 (dk_at dksX2_onShelves_1 10 rfl rfl)
theorem dX2_onShelves_33 : decode cX2_onShelves 33 = .ok (.invokevirtual 179, 3) := dk_182 0 179 (dk_at dksX2_onShelves_1 11 rfl rfl)
theorem dX2_onShelves_36 : decode cX2_onShelves 36 = .ok (.iadd, 1) := dk_96 (dk_at dksX2_onShelves_1 14 rfl rfl)
theorem dX2_onShelves_37 : decode cX2_onShelves 37 = .ok (.istore_n 1, 1) := dk_60 (dk_at dksX2_onShelves_1 15 rfl rfl)
theorem dX2_onShelves_38 : decode cX2_onShelves 38 = .ok (.goto (-26), 3) := dk_167 255 230 (dk_at dksX2_onShelves_1 16 rfl rfl)
theorem dX2_onShelves_41 : decode cX2_onShelves 41 = .ok (.iload_n 1, 1) := dk_27 (dk_at dksX2_onShelves_1 19 rfl rfl)
theorem dX2_onShelves_42 : decode cX2_onShelves 42 = .ok (.ireturn, 1) := dk_172 (dk_at dksX2_onShelves_1 20 rfl rfl)
abbrev cX2_badShelves : ByteArray := prog_2_method_21_code
def yX2_badShelves : MethodName := ⟨RX2, "badShelves", "()I"⟩
def dkwX2_badShelves_1 : List UInt8 := [153, 0, 7, 3, 167, 0, 4, 4, 96, 61, 132, 3, 1, 167, 255, 230, 28, 172]
abbrev dktX2_badShelves_1 : List UInt8 := dkwX2_badShelves_1 ++ []
def dkwX2_badShelves_0 : List UInt8 := [42, 182, 0, 169, 76, 3, 61, 3, 62, 29, 16, 6, 162, 0, 26, 28, 42, 29, 43, 182, 0, 184]
abbrev dktX2_badShelves_0 : List UInt8 := dkwX2_badShelves_0 ++ dktX2_badShelves_1
theorem dksX2_badShelves_0 : cX2_badShelves.data.toList.drop 0 = dktX2_badShelves_0 := by decide +kernel
theorem dksX2_badShelves_1 : cX2_badShelves.data.toList.drop 22 = dktX2_badShelves_1 := dk_seg dksX2_badShelves_0 22 rfl rfl
theorem dX2_badShelves_0 : decode cX2_badShelves 0 = .ok (.aload_n 0, 1) := dk_42 (dk_at dksX2_badShelves_0 0 rfl rfl)
theorem dX2_badShelves_1 : decode cX2_badShelves 1 = .ok (.invokevirtual 169, 3) := dk_182 0 169 (dk_at dksX2_badShelves_0 1 rfl rfl)
theorem dX2_badShelves_4 : decode cX2_badShelves 4 = .ok (.astore_n 1, 1) := dk_76 (dk_at dksX2_badShelves_0 4 rfl rfl)
theorem dX2_badShelves_5 : decode cX2_badShelves 5 = .ok (.iconst 0, 1) := dk_3 (dk_at dksX2_badShelves_0 5 rfl rfl)
theorem dX2_badShelves_6 : decode cX2_badShelves 6 = .ok (.istore_n 2, 1) := dk_61 (dk_at dksX2_badShelves_0 6 rfl rfl)
theorem dX2_badShelves_7 : decode cX2_badShelves 7 = .ok (.iconst 0, 1) := dk_3 (dk_at dksX2_badShelves_0 7 rfl rfl)
theorem dX2_badShelves_8 : decode cX2_badShelves 8 = .ok (.istore_n 3, 1) := dk_62 (dk_at dksX2_badShelves_0 8 rfl rfl)
theorem dX2_badShelves_9 : decode cX2_badShelves 9 = .ok (.iload_n 3, 1) := dk_29 (dk_at dksX2_badShelves_0 9 rfl rfl)
theorem dX2_badShelves_10 : decode cX2_badShelves 10 = .ok (.bipush 6, 2) := dk_16 6 (dk_at dksX2_badShelves_0 10 rfl rfl)
theorem dX2_badShelves_12 : decode cX2_badShelves 12 = .ok (.if_icmp .ge 26, 3) := dk_162 0 26 (dk_at dksX2_badShelves_0 12 rfl rfl)
theorem dX2_badShelves_15 : decode cX2_badShelves 15 = .ok (.iload_n 2, 1) := dk_28 (dk_at dksX2_badShelves_0 15 rfl rfl)
theorem dX2_badShelves_16 : decode cX2_badShelves 16 = .ok (.aload_n 0, 1) := dk_42 (dk_at dksX2_badShelves_0 16 rfl rfl)
theorem dX2_badShelves_17 : decode cX2_badShelves 17 = .ok (.iload_n 3, 1) := dk_29 (dk_at dksX2_badShelves_0 17 rfl rfl)
theorem dX2_badShelves_18 : decode cX2_badShelves 18 = .ok (.aload_n 1, 1) := dk_43 (dk_at dksX2_badShelves_0 18 rfl rfl)
theorem dX2_badShelves_19 : decode cX2_badShelves 19 = .ok (.invokevirtual 184, 3) := dk_182 0 184 (dk_at dksX2_badShelves_0 19 rfl rfl)
theorem dX2_badShelves_22 : decode cX2_badShelves 22 = .ok (.ifCond .eq 7, 3) := dk_153 0 7 (dk_at dksX2_badShelves_1 0 rfl rfl)
theorem dX2_badShelves_25 : decode cX2_badShelves 25 = .ok (.iconst 0, 1) := dk_3 (dk_at dksX2_badShelves_1 3 rfl rfl)
theorem dX2_badShelves_26 : decode cX2_badShelves 26 = .ok (.goto 4, 3) := dk_167 0 4 (dk_at dksX2_badShelves_1 4 rfl rfl)
theorem dX2_badShelves_29 : decode cX2_badShelves 29 = .ok (.iconst 1, 1) := dk_4 (dk_at dksX2_badShelves_1 7 rfl rfl)
theorem dX2_badShelves_30 : decode cX2_badShelves 30 = .ok (.iadd, 1) := dk_96 (dk_at dksX2_badShelves_1 8 rfl rfl)
theorem dX2_badShelves_31 : decode cX2_badShelves 31 = .ok (.istore_n 2, 1) := dk_61 (dk_at dksX2_badShelves_1 9 rfl rfl)
theorem dX2_badShelves_32 : decode cX2_badShelves 32 = .ok (.iinc 3 1, 3) := dk_132 3 1 (dk_at dksX2_badShelves_1 10 rfl rfl)
theorem dX2_badShelves_35 : decode cX2_badShelves 35 = .ok (.goto (-26), 3) := dk_167 255 230 (dk_at dksX2_badShelves_1 13 rfl rfl)
theorem dX2_badShelves_38 : decode cX2_badShelves 38 = .ok (.iload_n 2, 1) := dk_28 (dk_at dksX2_badShelves_1 16 rfl rfl)
theorem dX2_badShelves_39 : decode cX2_badShelves 39 = .ok (.ireturn, 1) := dk_172 (dk_at dksX2_badShelves_1 17 rfl rfl)
abbrev cX2_isGood : ByteArray := prog_2_method_20_code
def yX2_isGood : MethodName := ⟨RX2, "isGood", "(I[I)Z"⟩
def dkwX2_isGood_3 : List UInt8 := [182, 0, 143, 184, 0, 180, 62, 167, 255, 199, 4, 172]
abbrev dktX2_isGood_3 : List UInt8 := dkwX2_isGood_3 ++ []
def dkwX2_isGood_2 : List UInt8 := [21, 5, 46, 154, 0, 28, 42, 21, 5, 182, 0, 143, 184, 0, 180, 29, 162, 0, 5, 3, 172, 42, 21, 5]
abbrev dktX2_isGood_2 : List UInt8 := dkwX2_isGood_2 ++ dktX2_isGood_3
def dkwX2_isGood_1 : List UInt8 := [185, 0, 45, 1, 0, 153, 0, 53, 25, 4, 185, 0, 51, 1, 0, 192, 0, 73, 182, 0, 75, 54, 5, 44]
abbrev dktX2_isGood_1 : List UInt8 := dkwX2_isGood_1 ++ dktX2_isGood_2
def dkwX2_isGood_0 : List UInt8 := [3, 62, 42, 180, 0, 24, 27, 185, 0, 68, 2, 0, 192, 0, 31, 182, 0, 72, 58, 4, 25, 4]
abbrev dktX2_isGood_0 : List UInt8 := dkwX2_isGood_0 ++ dktX2_isGood_1
theorem dksX2_isGood_0 : cX2_isGood.data.toList.drop 0 = dktX2_isGood_0 := by decide +kernel
theorem dksX2_isGood_1 : cX2_isGood.data.toList.drop 22 = dktX2_isGood_1 := dk_seg dksX2_isGood_0 22 rfl rfl
theorem dksX2_isGood_2 : cX2_isGood.data.toList.drop 46 = dktX2_isGood_2 := dk_seg dksX2_isGood_1 24 rfl rfl
theorem dksX2_isGood_3 : cX2_isGood.data.toList.drop 70 = dktX2_isGood_3 := dk_seg dksX2_isGood_2 24 rfl rfl
theorem dX2_isGood_0 : decode cX2_isGood 0 = .ok (.iconst 0, 1) := dk_3 (dk_at dksX2_isGood_0 0 rfl rfl)
theorem dX2_isGood_1 : decode cX2_isGood 1 = .ok (.istore_n 3, 1) := dk_62 (dk_at dksX2_isGood_0 1 rfl rfl)
theorem dX2_isGood_2 : decode cX2_isGood 2 = .ok (.aload_n 0, 1) := dk_42 (dk_at dksX2_isGood_0 2 rfl rfl)
theorem dX2_isGood_3 : decode cX2_isGood 3 = .ok (.getfield 24, 3) := dk_180 0 24 (dk_at dksX2_isGood_0 3 rfl rfl)
theorem dX2_isGood_6 : decode cX2_isGood 6 = .ok (.iload_n 1, 1) := dk_27 (dk_at dksX2_isGood_0 6 rfl rfl)
theorem dX2_isGood_7 : decode cX2_isGood 7 = .ok (.invokeinterface 68 2, 5) := by decide +kernel
theorem dX2_isGood_12 : decode cX2_isGood 12 = .ok (.checkcast 31, 3) := dk_192 0 31 (dk_at dksX2_isGood_0 12 rfl rfl)
theorem dX2_isGood_15 : decode cX2_isGood 15 = .ok (.invokevirtual 72, 3) := dk_182 0 72 (dk_at dksX2_isGood_0 15 rfl rfl)
theorem dX2_isGood_18 : decode cX2_isGood 18 = .ok (.astore 4, 2) := dk_58 4 (dk_at dksX2_isGood_0 18 rfl rfl)
theorem dX2_isGood_20 : decode cX2_isGood 20 = .ok (.aload 4, 2) := dk_25 4 (dk_at dksX2_isGood_0 20 rfl rfl)
theorem dX2_isGood_22 : decode cX2_isGood 22 = .ok (.invokeinterface 45 1, 5) := by decide +kernel
theorem dX2_isGood_27 : decode cX2_isGood 27 = .ok (.ifCond .eq 53, 3) := dk_153 0 53 (dk_at dksX2_isGood_1 5 rfl rfl)
theorem dX2_isGood_30 : decode cX2_isGood 30 = .ok (.aload 4, 2) := dk_25 4 (dk_at dksX2_isGood_1 8 rfl rfl)
theorem dX2_isGood_32 : decode cX2_isGood 32 = .ok (.invokeinterface 51 1, 5) := by decide +kernel
theorem dX2_isGood_37 : decode cX2_isGood 37 = .ok (.checkcast 73, 3) := dk_192 0 73 (dk_at dksX2_isGood_1 15 rfl rfl)
theorem dX2_isGood_40 : decode cX2_isGood 40 = .ok (.invokevirtual 75, 3) := dk_182 0 75 (dk_at dksX2_isGood_1 18 rfl rfl)
theorem dX2_isGood_43 : decode cX2_isGood 43 = .ok (.istore 5, 2) := dk_54 5 (dk_at dksX2_isGood_1 21 rfl rfl)
theorem dX2_isGood_45 : decode cX2_isGood 45 = .ok (.aload_n 2, 1) := dk_44 (dk_at dksX2_isGood_1 23 rfl rfl)
theorem dX2_isGood_46 : decode cX2_isGood 46 = .ok (.iload 5, 2) := dk_21 5 (dk_at dksX2_isGood_2 0 rfl rfl)
theorem dX2_isGood_48 : decode cX2_isGood 48 = .ok (.iaload, 1) := dk_46 (dk_at dksX2_isGood_2 2 rfl rfl)
theorem dX2_isGood_49 : decode cX2_isGood 49 = .ok (.ifCond .ne 28, 3) := dk_154 0 28 (dk_at dksX2_isGood_2 3 rfl rfl)
theorem dX2_isGood_52 : decode cX2_isGood 52 = .ok (.aload_n 0, 1) := dk_42 (dk_at dksX2_isGood_2 6 rfl rfl)
theorem dX2_isGood_53 : decode cX2_isGood 53 = .ok (.iload 5, 2) := dk_21 5 (dk_at dksX2_isGood_2 7 rfl rfl)
theorem dX2_isGood_55 : decode cX2_isGood 55 = .ok (.invokevirtual 143, 3) := dk_182 0 143 (dk_at dksX2_isGood_2 9 rfl rfl)
theorem dX2_isGood_58 : decode cX2_isGood 58 = .ok (.invokestatic 180, 3) := dk_184 0 180 (dk_at dksX2_isGood_2 12 rfl rfl)
theorem dX2_isGood_61 : decode cX2_isGood 61 = .ok (.iload_n 3, 1) := dk_29 (dk_at dksX2_isGood_2 15 rfl rfl)
theorem dX2_isGood_62 : decode cX2_isGood 62 = .ok (.if_icmp .ge 5, 3) := dk_162 0 5 (dk_at dksX2_isGood_2 16 rfl rfl)
theorem dX2_isGood_65 : decode cX2_isGood 65 = .ok (.iconst 0, 1) := dk_3 (dk_at dksX2_isGood_2 19 rfl rfl)
theorem dX2_isGood_66 : decode cX2_isGood 66 = .ok (.ireturn, 1) := dk_172 (dk_at dksX2_isGood_2 20 rfl rfl)
theorem dX2_isGood_67 : decode cX2_isGood 67 = .ok (.aload_n 0, 1) := dk_42 (dk_at dksX2_isGood_2 21 rfl rfl)
theorem dX2_isGood_68 : decode cX2_isGood 68 = .ok (.iload 5, 2) := dk_21 5 (dk_at dksX2_isGood_2 22 rfl rfl)
theorem dX2_isGood_70 : decode cX2_isGood 70 = .ok (.invokevirtual 143, 3) := dk_182 0 143 (dk_at dksX2_isGood_3 0 rfl rfl)
theorem dX2_isGood_73 : decode cX2_isGood 73 = .ok (.invokestatic 180, 3) := dk_184 0 180 (dk_at dksX2_isGood_3 3 rfl rfl)
theorem dX2_isGood_76 : decode cX2_isGood 76 = .ok (.istore_n 3, 1) := dk_62 (dk_at dksX2_isGood_3 6 rfl rfl)
theorem dX2_isGood_77 : decode cX2_isGood 77 = .ok (.goto (-57), 3) := dk_167 255 199 (dk_at dksX2_isGood_3 7 rfl rfl)
theorem dX2_isGood_80 : decode cX2_isGood 80 = .ok (.iconst 1, 1) := dk_4 (dk_at dksX2_isGood_3 10 rfl rfl)
theorem dX2_isGood_81 : decode cX2_isGood 81 = .ok (.ireturn, 1) := dk_172 (dk_at dksX2_isGood_3 11 rfl rfl)
abbrev cX2_endOf : ByteArray := prog_2_method_6_code
def yX2_endOf : MethodName := ⟨RX2, "endOf", "(I)I"⟩
def dkwX2_endOf_1 : List UInt8 := [180, 0, 12, 27, 4, 96, 185, 0, 68, 2, 0, 192, 0, 55, 180, 0, 105, 4, 100, 172]
abbrev dktX2_endOf_1 : List UInt8 := dkwX2_endOf_1 ++ []
def dkwX2_endOf_0 : List UInt8 := [27, 42, 180, 0, 12, 185, 0, 91, 1, 0, 4, 100, 160, 0, 9, 17, 7, 207, 167, 0, 23, 42]
abbrev dktX2_endOf_0 : List UInt8 := dkwX2_endOf_0 ++ dktX2_endOf_1
theorem dksX2_endOf_0 : cX2_endOf.data.toList.drop 0 = dktX2_endOf_0 := by decide +kernel
theorem dksX2_endOf_1 : cX2_endOf.data.toList.drop 22 = dktX2_endOf_1 := dk_seg dksX2_endOf_0 22 rfl rfl
theorem dX2_endOf_0 : decode cX2_endOf 0 = .ok (.iload_n 1, 1) := dk_27 (dk_at dksX2_endOf_0 0 rfl rfl)
theorem dX2_endOf_1 : decode cX2_endOf 1 = .ok (.aload_n 0, 1) := dk_42 (dk_at dksX2_endOf_0 1 rfl rfl)
theorem dX2_endOf_2 : decode cX2_endOf 2 = .ok (.getfield 12, 3) := dk_180 0 12 (dk_at dksX2_endOf_0 2 rfl rfl)
theorem dX2_endOf_5 : decode cX2_endOf 5 = .ok (.invokeinterface 91 1, 5) := by decide +kernel
theorem dX2_endOf_10 : decode cX2_endOf 10 = .ok (.iconst 1, 1) := dk_4 (dk_at dksX2_endOf_0 10 rfl rfl)
theorem dX2_endOf_11 : decode cX2_endOf 11 = .ok (.isub, 1) := dk_100 (dk_at dksX2_endOf_0 11 rfl rfl)
theorem dX2_endOf_12 : decode cX2_endOf 12 = .ok (.if_icmp .ne 9, 3) := dk_160 0 9 (dk_at dksX2_endOf_0 12 rfl rfl)
theorem dX2_endOf_15 : decode cX2_endOf 15 = .ok (.sipush 1999, 3) := dk_17 7 207 (dk_at dksX2_endOf_0 15 rfl rfl)
theorem dX2_endOf_18 : decode cX2_endOf 18 = .ok (.goto 23, 3) := dk_167 0 23 (dk_at dksX2_endOf_0 18 rfl rfl)
theorem dX2_endOf_21 : decode cX2_endOf 21 = .ok (.aload_n 0, 1) := dk_42 (dk_at dksX2_endOf_0 21 rfl rfl)
theorem dX2_endOf_22 : decode cX2_endOf 22 = .ok (.getfield 12, 3) := dk_180 0 12 (dk_at dksX2_endOf_1 0 rfl rfl)
theorem dX2_endOf_25 : decode cX2_endOf 25 = .ok (.iload_n 1, 1) := dk_27 (dk_at dksX2_endOf_1 3 rfl rfl)
theorem dX2_endOf_26 : decode cX2_endOf 26 = .ok (.iconst 1, 1) := dk_4 (dk_at dksX2_endOf_1 4 rfl rfl)
theorem dX2_endOf_27 : decode cX2_endOf 27 = .ok (.iadd, 1) := dk_96 (dk_at dksX2_endOf_1 5 rfl rfl)
theorem dX2_endOf_28 : decode cX2_endOf 28 = .ok (.invokeinterface 68 2, 5) := by decide +kernel
theorem dX2_endOf_33 : decode cX2_endOf 33 = .ok (.checkcast 55, 3) := dk_192 0 55 (dk_at dksX2_endOf_1 11 rfl rfl)
theorem dX2_endOf_36 : decode cX2_endOf 36 = .ok (.getfield 105, 3) := dk_180 0 105 (dk_at dksX2_endOf_1 14 rfl rfl)
theorem dX2_endOf_39 : decode cX2_endOf 39 = .ok (.iconst 1, 1) := dk_4 (dk_at dksX2_endOf_1 17 rfl rfl)
theorem dX2_endOf_40 : decode cX2_endOf 40 = .ok (.isub, 1) := dk_100 (dk_at dksX2_endOf_1 18 rfl rfl)
theorem dX2_endOf_41 : decode cX2_endOf 41 = .ok (.ireturn, 1) := dk_172 (dk_at dksX2_endOf_1 19 rfl rfl)
abbrev cX2_shelfOf : ByteArray := prog_2_method_18_code
def yX2_shelfOf : MethodName := ⟨RX2, "shelfOf", "(I)I"⟩
def dkwX2_shelfOf_1 : List UInt8 := [184, 0, 79, 182, 0, 176, 153, 0, 5, 28, 172, 132, 2, 1, 167, 255, 222, 2, 172]
abbrev dktX2_shelfOf_1 : List UInt8 := dkwX2_shelfOf_1 ++ []
def dkwX2_shelfOf_0 : List UInt8 := [3, 61, 28, 16, 6, 162, 0, 34, 42, 180, 0, 24, 28, 185, 0, 68, 2, 0, 192, 0, 31, 27]
abbrev dktX2_shelfOf_0 : List UInt8 := dkwX2_shelfOf_0 ++ dktX2_shelfOf_1
theorem dksX2_shelfOf_0 : cX2_shelfOf.data.toList.drop 0 = dktX2_shelfOf_0 := by decide +kernel
theorem dksX2_shelfOf_1 : cX2_shelfOf.data.toList.drop 22 = dktX2_shelfOf_1 := dk_seg dksX2_shelfOf_0 22 rfl rfl
theorem dX2_shelfOf_0 : decode cX2_shelfOf 0 = .ok (.iconst 0, 1) := dk_3 (dk_at dksX2_shelfOf_0 0 rfl rfl)
theorem dX2_shelfOf_1 : decode cX2_shelfOf 1 = .ok (.istore_n 2, 1) := dk_61 (dk_at dksX2_shelfOf_0 1 rfl rfl)
theorem dX2_shelfOf_2 : decode cX2_shelfOf 2 = .ok (.iload_n 2, 1) := dk_28 (dk_at dksX2_shelfOf_0 2 rfl rfl)
theorem dX2_shelfOf_3 : decode cX2_shelfOf 3 = .ok (.bipush 6, 2) := dk_16 6 (dk_at dksX2_shelfOf_0 3 rfl rfl)
theorem dX2_shelfOf_5 : decode cX2_shelfOf 5 = .ok (.if_icmp .ge 34, 3) := dk_162 0 34 (dk_at dksX2_shelfOf_0 5 rfl rfl)
theorem dX2_shelfOf_8 : decode cX2_shelfOf 8 = .ok (.aload_n 0, 1) := dk_42 (dk_at dksX2_shelfOf_0 8 rfl rfl)
theorem dX2_shelfOf_9 : decode cX2_shelfOf 9 = .ok (.getfield 24, 3) := dk_180 0 24 (dk_at dksX2_shelfOf_0 9 rfl rfl)
theorem dX2_shelfOf_12 : decode cX2_shelfOf 12 = .ok (.iload_n 2, 1) := dk_28 (dk_at dksX2_shelfOf_0 12 rfl rfl)
theorem dX2_shelfOf_13 : decode cX2_shelfOf 13 = .ok (.invokeinterface 68 2, 5) := by decide +kernel
theorem dX2_shelfOf_18 : decode cX2_shelfOf 18 = .ok (.checkcast 31, 3) := dk_192 0 31 (dk_at dksX2_shelfOf_0 18 rfl rfl)
theorem dX2_shelfOf_21 : decode cX2_shelfOf 21 = .ok (.iload_n 1, 1) := dk_27 (dk_at dksX2_shelfOf_0 21 rfl rfl)
theorem dX2_shelfOf_22 : decode cX2_shelfOf 22 = .ok (.invokestatic 79, 3) := dk_184 0 79 (dk_at dksX2_shelfOf_1 0 rfl rfl)
theorem dX2_shelfOf_25 : decode cX2_shelfOf 25 = .ok (.invokevirtual 176, 3) := dk_182 0 176 (dk_at dksX2_shelfOf_1 3 rfl rfl)
theorem dX2_shelfOf_28 : decode cX2_shelfOf 28 = .ok (.ifCond .eq 5, 3) := dk_153 0 5 (dk_at dksX2_shelfOf_1 6 rfl rfl)
theorem dX2_shelfOf_31 : decode cX2_shelfOf 31 = .ok (.iload_n 2, 1) := dk_28 (dk_at dksX2_shelfOf_1 9 rfl rfl)
theorem dX2_shelfOf_32 : decode cX2_shelfOf 32 = .ok (.ireturn, 1) := dk_172 (dk_at dksX2_shelfOf_1 10 rfl rfl)
theorem dX2_shelfOf_33 : decode cX2_shelfOf 33 = .ok (.iinc 2 1, 3) := dk_132 2 1 (dk_at dksX2_shelfOf_1 11 rfl rfl)
theorem dX2_shelfOf_36 : decode cX2_shelfOf 36 = .ok (.goto (-34), 3) := dk_167 255 222 (dk_at dksX2_shelfOf_1 14 rfl rfl)
theorem dX2_shelfOf_39 : decode cX2_shelfOf 39 = .ok (.iconst (-1), 1) := dk_2 (dk_at dksX2_shelfOf_1 17 rfl rfl)
theorem dX2_shelfOf_40 : decode cX2_shelfOf 40 = .ok (.ireturn, 1) := dk_172 (dk_at dksX2_shelfOf_1 18 rfl rfl)
abbrev cX2_fake : ByteArray := prog_2_method_13_code
def yX2_fake : MethodName := ⟨RX2, "fake", "(I)I"⟩
def dkwX2_fake_2 : List UInt8 := [7, 172]
abbrev dktX2_fake_2 : List UInt8 := dkwX2_fake_2 ++ []
def dkwX2_fake_1 : List UInt8 := [157, 0, 20, 29, 2, 159, 0, 15, 42, 29, 2, 182, 0, 166, 182, 0, 146, 154, 0, 7, 28, 167, 0, 4]
abbrev dktX2_fake_1 : List UInt8 := dkwX2_fake_1 ++ dktX2_fake_2
def dkwX2_fake_0 : List UInt8 := [42, 27, 182, 0, 155, 61, 42, 180, 0, 21, 27, 185, 0, 68, 2, 0, 192, 0, 63, 180, 0, 152, 62, 28]
abbrev dktX2_fake_0 : List UInt8 := dkwX2_fake_0 ++ dktX2_fake_1
theorem dksX2_fake_0 : cX2_fake.data.toList.drop 0 = dktX2_fake_0 := by decide +kernel
theorem dksX2_fake_1 : cX2_fake.data.toList.drop 24 = dktX2_fake_1 := dk_seg dksX2_fake_0 24 rfl rfl
theorem dksX2_fake_2 : cX2_fake.data.toList.drop 48 = dktX2_fake_2 := dk_seg dksX2_fake_1 24 rfl rfl
theorem dX2_fake_0 : decode cX2_fake 0 = .ok (.aload_n 0, 1) := dk_42 (dk_at dksX2_fake_0 0 rfl rfl)
theorem dX2_fake_1 : decode cX2_fake 1 = .ok (.iload_n 1, 1) := dk_27 (dk_at dksX2_fake_0 1 rfl rfl)
theorem dX2_fake_2 : decode cX2_fake 2 = .ok (.invokevirtual 155, 3) := dk_182 0 155 (dk_at dksX2_fake_0 2 rfl rfl)
theorem dX2_fake_5 : decode cX2_fake 5 = .ok (.istore_n 2, 1) := dk_61 (dk_at dksX2_fake_0 5 rfl rfl)
theorem dX2_fake_6 : decode cX2_fake 6 = .ok (.aload_n 0, 1) := dk_42 (dk_at dksX2_fake_0 6 rfl rfl)
theorem dX2_fake_7 : decode cX2_fake 7 = .ok (.getfield 21, 3) := dk_180 0 21 (dk_at dksX2_fake_0 7 rfl rfl)
theorem dX2_fake_10 : decode cX2_fake 10 = .ok (.iload_n 1, 1) := dk_27 (dk_at dksX2_fake_0 10 rfl rfl)
theorem dX2_fake_11 : decode cX2_fake 11 = .ok (.invokeinterface 68 2, 5) := by decide +kernel
theorem dX2_fake_16 : decode cX2_fake 16 = .ok (.checkcast 63, 3) := dk_192 0 63 (dk_at dksX2_fake_0 16 rfl rfl)
theorem dX2_fake_19 : decode cX2_fake 19 = .ok (.getfield 152, 3) := dk_180 0 152 (dk_at dksX2_fake_0 19 rfl rfl)
theorem dX2_fake_22 : decode cX2_fake 22 = .ok (.istore_n 3, 1) := dk_62 (dk_at dksX2_fake_0 22 rfl rfl)
theorem dX2_fake_23 : decode cX2_fake 23 = .ok (.iload_n 2, 1) := dk_28 (dk_at dksX2_fake_0 23 rfl rfl)
theorem dX2_fake_24 : decode cX2_fake 24 = .ok (.ifCond .gt 20, 3) := dk_157 0 20 (dk_at dksX2_fake_1 0 rfl rfl)
theorem dX2_fake_27 : decode cX2_fake 27 = .ok (.iload_n 3, 1) := dk_29 (dk_at dksX2_fake_1 3 rfl rfl)
theorem dX2_fake_28 : decode cX2_fake 28 = .ok (.iconst (-1), 1) := dk_2 (dk_at dksX2_fake_1 4 rfl rfl)
theorem dX2_fake_29 : decode cX2_fake 29 = .ok (.if_icmp .eq 15, 3) := dk_159 0 15 (dk_at dksX2_fake_1 5 rfl rfl)
theorem dX2_fake_32 : decode cX2_fake 32 = .ok (.aload_n 0, 1) := dk_42 (dk_at dksX2_fake_1 8 rfl rfl)
theorem dX2_fake_33 : decode cX2_fake 33 = .ok (.iload_n 3, 1) := dk_29 (dk_at dksX2_fake_1 9 rfl rfl)
theorem dX2_fake_34 : decode cX2_fake 34 = .ok (.iconst (-1), 1) := dk_2 (dk_at dksX2_fake_1 10 rfl rfl)
theorem dX2_fake_35 : decode cX2_fake 35 = .ok (.invokevirtual 166, 3) := dk_182 0 166 (dk_at dksX2_fake_1 11 rfl rfl)
theorem dX2_fake_38 : decode cX2_fake 38 = .ok (.invokevirtual 146, 3) := dk_182 0 146 (dk_at dksX2_fake_1 14 rfl rfl)
theorem dX2_fake_41 : decode cX2_fake 41 = .ok (.ifCond .ne 7, 3) := dk_154 0 7 (dk_at dksX2_fake_1 17 rfl rfl)
theorem dX2_fake_44 : decode cX2_fake 44 = .ok (.iload_n 2, 1) := dk_28 (dk_at dksX2_fake_1 20 rfl rfl)
theorem dX2_fake_45 : decode cX2_fake 45 = .ok (.goto 4, 3) := dk_167 0 4 (dk_at dksX2_fake_1 21 rfl rfl)
theorem dX2_fake_48 : decode cX2_fake 48 = .ok (.iconst 4, 1) := dk_7 (dk_at dksX2_fake_2 0 rfl rfl)
theorem dX2_fake_49 : decode cX2_fake 49 = .ok (.ireturn, 1) := dk_172 (dk_at dksX2_fake_2 1 rfl rfl)
abbrev cX2_copy : ByteArray := prog_2_method_2_code
def yX2_copy : MethodName := ⟨RX2, "copy", "()LCordSeals$Collection;"⟩
def dkwX2_copy_10 : List UInt8 := [181, 0, 27, 43, 176]
abbrev dktX2_copy_10 : List UInt8 := dkwX2_copy_10 ++ []
def dkwX2_copy_9 : List UInt8 := [182, 0, 83, 167, 255, 212, 132, 2, 1, 167, 255, 183, 43, 42, 180, 0, 27, 182, 0, 87, 192, 0, 88]
abbrev dktX2_copy_9 : List UInt8 := dkwX2_copy_9 ++ dktX2_copy_10
def dkwX2_copy_8 : List UInt8 := [182, 0, 75, 54, 4, 43, 180, 0, 24, 28, 185, 0, 68, 2, 0, 192, 0, 31, 21, 4, 184, 0, 79]
abbrev dktX2_copy_8 : List UInt8 := dkwX2_copy_8 ++ dktX2_copy_9
def dkwX2_copy_7 : List UInt8 := [182, 0, 72, 78, 45, 185, 0, 45, 1, 0, 153, 0, 41, 45, 185, 0, 51, 1, 0, 192, 0, 73]
abbrev dktX2_copy_7 : List UInt8 := dkwX2_copy_7 ++ dktX2_copy_8
def dkwX2_copy_6 : List UInt8 := [167, 255, 223, 3, 61, 28, 16, 6, 162, 0, 73, 42, 180, 0, 24, 28, 185, 0, 68, 2, 0, 192, 0, 31]
abbrev dktX2_copy_6 : List UInt8 := dkwX2_copy_6 ++ dktX2_copy_7
def dkwX2_copy_5 : List UInt8 := [185, 0, 51, 1, 0, 192, 0, 63, 78, 43, 180, 0, 21, 45, 182, 0, 65, 185, 0, 34, 2, 0, 87]
abbrev dktX2_copy_5 : List UInt8 := dkwX2_copy_5 ++ dktX2_copy_6
def dkwX2_copy_4 : List UInt8 := [167, 255, 223, 42, 180, 0, 21, 185, 0, 41, 1, 0, 77, 44, 185, 0, 45, 1, 0, 153, 0, 30, 44]
abbrev dktX2_copy_4 : List UInt8 := dkwX2_copy_4 ++ dktX2_copy_5
def dkwX2_copy_3 : List UInt8 := [185, 0, 51, 1, 0, 192, 0, 57, 78, 43, 180, 0, 18, 45, 182, 0, 59, 185, 0, 34, 2, 0, 87]
abbrev dktX2_copy_3 : List UInt8 := dkwX2_copy_3 ++ dktX2_copy_4
def dkwX2_copy_2 : List UInt8 := [167, 255, 226, 42, 180, 0, 18, 185, 0, 41, 1, 0, 77, 44, 185, 0, 45, 1, 0, 153, 0, 30, 44]
abbrev dktX2_copy_2 : List UInt8 := dkwX2_copy_2 ++ dktX2_copy_3
def dkwX2_copy_1 : List UInt8 := [153, 0, 27, 44, 185, 0, 51, 1, 0, 192, 0, 55, 78, 43, 180, 0, 12, 45, 185, 0, 34, 2, 0, 87]
abbrev dktX2_copy_1 : List UInt8 := dkwX2_copy_1 ++ dktX2_copy_2
def dkwX2_copy_0 : List UInt8 := [187, 0, 13, 89, 183, 0, 40, 76, 42, 180, 0, 12, 185, 0, 41, 1, 0, 77, 44, 185, 0, 45, 1, 0]
abbrev dktX2_copy_0 : List UInt8 := dkwX2_copy_0 ++ dktX2_copy_1
theorem dksX2_copy_0 : cX2_copy.data.toList.drop 0 = dktX2_copy_0 := by decide +kernel
theorem dksX2_copy_1 : cX2_copy.data.toList.drop 24 = dktX2_copy_1 := dk_seg dksX2_copy_0 24 rfl rfl
theorem dksX2_copy_2 : cX2_copy.data.toList.drop 48 = dktX2_copy_2 := dk_seg dksX2_copy_1 24 rfl rfl
theorem dksX2_copy_3 : cX2_copy.data.toList.drop 71 = dktX2_copy_3 := dk_seg dksX2_copy_2 23 rfl rfl
theorem dksX2_copy_4 : cX2_copy.data.toList.drop 94 = dktX2_copy_4 := dk_seg dksX2_copy_3 23 rfl rfl
theorem dksX2_copy_5 : cX2_copy.data.toList.drop 117 = dktX2_copy_5 := dk_seg dksX2_copy_4 23 rfl rfl
theorem dksX2_copy_6 : cX2_copy.data.toList.drop 140 = dktX2_copy_6 := dk_seg dksX2_copy_5 23 rfl rfl
theorem dksX2_copy_7 : cX2_copy.data.toList.drop 164 = dktX2_copy_7 := dk_seg dksX2_copy_6 24 rfl rfl
theorem dksX2_copy_8 : cX2_copy.data.toList.drop 186 = dktX2_copy_8 := dk_seg dksX2_copy_7 22 rfl rfl
theorem dksX2_copy_9 : cX2_copy.data.toList.drop 209 = dktX2_copy_9 := dk_seg dksX2_copy_8 23 rfl rfl
theorem dksX2_copy_10 : cX2_copy.data.toList.drop 232 = dktX2_copy_10 := dk_seg dksX2_copy_9 23 rfl rfl
theorem dX2_copy_0 : decode cX2_copy 0 = .ok (.new 13, 3) := dk_187 0 13 (dk_at dksX2_copy_0 0 rfl rfl)
theorem dX2_copy_3 : decode cX2_copy 3 = .ok (.dup, 1) := dk_89 (dk_at dksX2_copy_0 3 rfl rfl)
theorem dX2_copy_4 : decode cX2_copy 4 = .ok (.invokespecial 40, 3) := dk_183 0 40 (dk_at dksX2_copy_0 4 rfl rfl)
theorem dX2_copy_7 : decode cX2_copy 7 = .ok (.astore_n 1, 1) := dk_76 (dk_at dksX2_copy_0 7 rfl rfl)
theorem dX2_copy_8 : decode cX2_copy 8 = .ok (.aload_n 0, 1) := dk_42 (dk_at dksX2_copy_0 8 rfl rfl)
theorem dX2_copy_9 : decode cX2_copy 9 = .ok (.getfield 12, 3) := dk_180 0 12 (dk_at dksX2_copy_0 9 rfl rfl)
theorem dX2_copy_12 : decode cX2_copy 12 = .ok (.invokeinterface 41 1, 5) := by decide +kernel
theorem dX2_copy_17 : decode cX2_copy 17 = .ok (.astore_n 2, 1) := dk_77 (dk_at dksX2_copy_0 17 rfl rfl)
theorem dX2_copy_18 : decode cX2_copy 18 = .ok (.aload_n 2, 1) := dk_44 (dk_at dksX2_copy_0 18 rfl rfl)
theorem dX2_copy_19 : decode cX2_copy 19 = .ok (.invokeinterface 45 1, 5) := by decide +kernel
theorem dX2_copy_24 : decode cX2_copy 24 = .ok (.ifCond .eq 27, 3) := dk_153 0 27 (dk_at dksX2_copy_1 0 rfl rfl)
theorem dX2_copy_27 : decode cX2_copy 27 = .ok (.aload_n 2, 1) := dk_44 (dk_at dksX2_copy_1 3 rfl rfl)
theorem dX2_copy_28 : decode cX2_copy 28 = .ok (.invokeinterface 51 1, 5) := by decide +kernel
theorem dX2_copy_33 : decode cX2_copy 33 = .ok (.checkcast 55, 3) := dk_192 0 55 (dk_at dksX2_copy_1 9 rfl rfl)
theorem dX2_copy_36 : decode cX2_copy 36 = .ok (.astore_n 3, 1) := dk_78 (dk_at dksX2_copy_1 12 rfl rfl)
theorem dX2_copy_37 : decode cX2_copy 37 = .ok (.aload_n 1, 1) := dk_43 (dk_at dksX2_copy_1 13 rfl rfl)
theorem dX2_copy_38 : decode cX2_copy 38 = .ok (.getfield 12, 3) := dk_180 0 12 (dk_at dksX2_copy_1 14 rfl rfl)
theorem dX2_copy_41 : decode cX2_copy 41 = .ok (.aload_n 3, 1) := dk_45 (dk_at dksX2_copy_1 17 rfl rfl)
theorem dX2_copy_42 : decode cX2_copy 42 = .ok (.invokeinterface 34 2, 5) := by decide +kernel
theorem dX2_copy_47 : decode cX2_copy 47 = .ok (.pop, 1) := dk_87 (dk_at dksX2_copy_1 23 rfl rfl)
theorem dX2_copy_48 : decode cX2_copy 48 = .ok (.goto (-30), 3) := dk_167 255 226 (dk_at dksX2_copy_2 0 rfl rfl)
theorem dX2_copy_51 : decode cX2_copy 51 = .ok (.aload_n 0, 1) := dk_42 (dk_at dksX2_copy_2 3 rfl rfl)
theorem dX2_copy_52 : decode cX2_copy 52 = .ok (.getfield 18, 3) := dk_180 0 18 (dk_at dksX2_copy_2 4 rfl rfl)
theorem dX2_copy_55 : decode cX2_copy 55 = .ok (.invokeinterface 41 1, 5) := by decide +kernel
theorem dX2_copy_60 : decode cX2_copy 60 = .ok (.astore_n 2, 1) := dk_77 (dk_at dksX2_copy_2 12 rfl rfl)
theorem dX2_copy_61 : decode cX2_copy 61 = .ok (.aload_n 2, 1) := dk_44 (dk_at dksX2_copy_2 13 rfl rfl)
theorem dX2_copy_62 : decode cX2_copy 62 = .ok (.invokeinterface 45 1, 5) := by decide +kernel
theorem dX2_copy_67 : decode cX2_copy 67 = .ok (.ifCond .eq 30, 3) := dk_153 0 30 (dk_at dksX2_copy_2 19 rfl rfl)
theorem dX2_copy_70 : decode cX2_copy 70 = .ok (.aload_n 2, 1) := dk_44 (dk_at dksX2_copy_2 22 rfl rfl)
theorem dX2_copy_71 : decode cX2_copy 71 = .ok (.invokeinterface 51 1, 5) := by decide +kernel
theorem dX2_copy_76 : decode cX2_copy 76 = .ok (.checkcast 57, 3) := dk_192 0 57 (dk_at dksX2_copy_3 5 rfl rfl)
theorem dX2_copy_79 : decode cX2_copy 79 = .ok (.astore_n 3, 1) := dk_78 (dk_at dksX2_copy_3 8 rfl rfl)
theorem dX2_copy_80 : decode cX2_copy 80 = .ok (.aload_n 1, 1) := dk_43 (dk_at dksX2_copy_3 9 rfl rfl)
theorem dX2_copy_81 : decode cX2_copy 81 = .ok (.getfield 18, 3) := dk_180 0 18 (dk_at dksX2_copy_3 10 rfl rfl)
theorem dX2_copy_84 : decode cX2_copy 84 = .ok (.aload_n 3, 1) := dk_45 (dk_at dksX2_copy_3 13 rfl rfl)
theorem dX2_copy_85 : decode cX2_copy 85 = .ok (.invokevirtual 59, 3) := dk_182 0 59 (dk_at dksX2_copy_3 14 rfl rfl)
theorem dX2_copy_88 : decode cX2_copy 88 = .ok (.invokeinterface 34 2, 5) := by decide +kernel
theorem dX2_copy_93 : decode cX2_copy 93 = .ok (.pop, 1) := dk_87 (dk_at dksX2_copy_3 22 rfl rfl)
theorem dX2_copy_94 : decode cX2_copy 94 = .ok (.goto (-33), 3) := dk_167 255 223 (dk_at dksX2_copy_4 0 rfl rfl)
theorem dX2_copy_97 : decode cX2_copy 97 = .ok (.aload_n 0, 1) := dk_42 (dk_at dksX2_copy_4 3 rfl rfl)
theorem dX2_copy_98 : decode cX2_copy 98 = .ok (.getfield 21, 3) := dk_180 0 21 (dk_at dksX2_copy_4 4 rfl rfl)
theorem dX2_copy_101 : decode cX2_copy 101 = .ok (.invokeinterface 41 1, 5) := by decide +kernel
theorem dX2_copy_106 : decode cX2_copy 106 = .ok (.astore_n 2, 1) := dk_77 (dk_at dksX2_copy_4 12 rfl rfl)
theorem dX2_copy_107 : decode cX2_copy 107 = .ok (.aload_n 2, 1) := dk_44 (dk_at dksX2_copy_4 13 rfl rfl)
theorem dX2_copy_108 : decode cX2_copy 108 = .ok (.invokeinterface 45 1, 5) := by decide +kernel
theorem dX2_copy_113 : decode cX2_copy 113 = .ok (.ifCond .eq 30, 3) := dk_153 0 30 (dk_at dksX2_copy_4 19 rfl rfl)
theorem dX2_copy_116 : decode cX2_copy 116 = .ok (.aload_n 2, 1) := dk_44 (dk_at dksX2_copy_4 22 rfl rfl)
theorem dX2_copy_117 : decode cX2_copy 117 = .ok (.invokeinterface 51 1, 5) := by decide +kernel
theorem dX2_copy_122 : decode cX2_copy 122 = .ok (.checkcast 63, 3) := dk_192 0 63 (dk_at dksX2_copy_5 5 rfl rfl)
theorem dX2_copy_125 : decode cX2_copy 125 = .ok (.astore_n 3, 1) := dk_78 (dk_at dksX2_copy_5 8 rfl rfl)
theorem dX2_copy_126 : decode cX2_copy 126 = .ok (.aload_n 1, 1) := dk_43 (dk_at dksX2_copy_5 9 rfl rfl)
theorem dX2_copy_127 : decode cX2_copy 127 = .ok (.getfield 21, 3) := dk_180 0 21 (dk_at dksX2_copy_5 10 rfl rfl)
theorem dX2_copy_130 : decode cX2_copy 130 = .ok (.aload_n 3, 1) := dk_45 (dk_at dksX2_copy_5 13 rfl rfl)
theorem dX2_copy_131 : decode cX2_copy 131 = .ok (.invokevirtual 65, 3) := dk_182 0 65 (dk_at dksX2_copy_5 14 rfl rfl)
theorem dX2_copy_134 : decode cX2_copy 134 = .ok (.invokeinterface 34 2, 5) := by decide +kernel
theorem dX2_copy_139 : decode cX2_copy 139 = .ok (.pop, 1) := dk_87 (dk_at dksX2_copy_5 22 rfl rfl)
theorem dX2_copy_140 : decode cX2_copy 140 = .ok (.goto (-33), 3) := dk_167 255 223 (dk_at dksX2_copy_6 0 rfl rfl)
theorem dX2_copy_143 : decode cX2_copy 143 = .ok (.iconst 0, 1) := dk_3 (dk_at dksX2_copy_6 3 rfl rfl)
theorem dX2_copy_144 : decode cX2_copy 144 = .ok (.istore_n 2, 1) := dk_61 (dk_at dksX2_copy_6 4 rfl rfl)
theorem dX2_copy_145 : decode cX2_copy 145 = .ok (.iload_n 2, 1) := dk_28 (dk_at dksX2_copy_6 5 rfl rfl)
theorem dX2_copy_146 : decode cX2_copy 146 = .ok (.bipush 6, 2) := dk_16 6 (dk_at dksX2_copy_6 6 rfl rfl)
theorem dX2_copy_148 : decode cX2_copy 148 = .ok (.if_icmp .ge 73, 3) := dk_162 0 73 (dk_at dksX2_copy_6 8 rfl rfl)
theorem dX2_copy_151 : decode cX2_copy 151 = .ok (.aload_n 0, 1) := dk_42 (dk_at dksX2_copy_6 11 rfl rfl)
theorem dX2_copy_152 : decode cX2_copy 152 = .ok (.getfield 24, 3) := dk_180 0 24 (dk_at dksX2_copy_6 12 rfl rfl)
theorem dX2_copy_155 : decode cX2_copy 155 = .ok (.iload_n 2, 1) := dk_28 (dk_at dksX2_copy_6 15 rfl rfl)
theorem dX2_copy_156 : decode cX2_copy 156 = .ok (.invokeinterface 68 2, 5) := by decide +kernel
theorem dX2_copy_161 : decode cX2_copy 161 = .ok (.checkcast 31, 3) := dk_192 0 31 (dk_at dksX2_copy_6 21 rfl rfl)
theorem dX2_copy_164 : decode cX2_copy 164 = .ok (.invokevirtual 72, 3) := dk_182 0 72 (dk_at dksX2_copy_7 0 rfl rfl)
theorem dX2_copy_167 : decode cX2_copy 167 = .ok (.astore_n 3, 1) := dk_78 (dk_at dksX2_copy_7 3 rfl rfl)
theorem dX2_copy_168 : decode cX2_copy 168 = .ok (.aload_n 3, 1) := dk_45 (dk_at dksX2_copy_7 4 rfl rfl)
theorem dX2_copy_169 : decode cX2_copy 169 = .ok (.invokeinterface 45 1, 5) := by decide +kernel
theorem dX2_copy_174 : decode cX2_copy 174 = .ok (.ifCond .eq 41, 3) := dk_153 0 41 (dk_at dksX2_copy_7 10 rfl rfl)
theorem dX2_copy_177 : decode cX2_copy 177 = .ok (.aload_n 3, 1) := dk_45 (dk_at dksX2_copy_7 13 rfl rfl)
theorem dX2_copy_178 : decode cX2_copy 178 = .ok (.invokeinterface 51 1, 5) := by decide +kernel
theorem dX2_copy_183 : decode cX2_copy 183 = .ok (.checkcast 73, 3) := dk_192 0 73 (dk_at dksX2_copy_7 19 rfl rfl)
theorem dX2_copy_186 : decode cX2_copy 186 = .ok (.invokevirtual 75, 3) := dk_182 0 75 (dk_at dksX2_copy_8 0 rfl rfl)
theorem dX2_copy_189 : decode cX2_copy 189 = .ok (.istore 4, 2) := dk_54 4 (dk_at dksX2_copy_8 3 rfl rfl)
theorem dX2_copy_191 : decode cX2_copy 191 = .ok (.aload_n 1, 1) := dk_43 (dk_at dksX2_copy_8 5 rfl rfl)
theorem dX2_copy_192 : decode cX2_copy 192 = .ok (.getfield 24, 3) := dk_180 0 24 (dk_at dksX2_copy_8 6 rfl rfl)
theorem dX2_copy_195 : decode cX2_copy 195 = .ok (.iload_n 2, 1) := dk_28 (dk_at dksX2_copy_8 9 rfl rfl)
theorem dX2_copy_196 : decode cX2_copy 196 = .ok (.invokeinterface 68 2, 5) := by decide +kernel
theorem dX2_copy_201 : decode cX2_copy 201 = .ok (.checkcast 31, 3) := dk_192 0 31 (dk_at dksX2_copy_8 15 rfl rfl)
theorem dX2_copy_204 : decode cX2_copy 204 = .ok (.iload 4, 2) := dk_21 4 (dk_at dksX2_copy_8 18 rfl rfl)
theorem dX2_copy_206 : decode cX2_copy 206 = .ok (.invokestatic 79, 3) := dk_184 0 79 (dk_at dksX2_copy_8 20 rfl rfl)
theorem dX2_copy_209 : decode cX2_copy 209 = .ok (.invokevirtual 83, 3) := dk_182 0 83 (dk_at dksX2_copy_9 0 rfl rfl)
theorem dX2_copy_212 : decode cX2_copy 212 = .ok (.goto (-44), 3) := dk_167 255 212 (dk_at dksX2_copy_9 3 rfl rfl)
theorem dX2_copy_215 : decode cX2_copy 215 = .ok (.iinc 2 1, 3) := dk_132 2 1 (dk_at dksX2_copy_9 6 rfl rfl)
theorem dX2_copy_218 : decode cX2_copy 218 = .ok (.goto (-73), 3) := dk_167 255 183 (dk_at dksX2_copy_9 9 rfl rfl)
theorem dX2_copy_221 : decode cX2_copy 221 = .ok (.aload_n 1, 1) := dk_43 (dk_at dksX2_copy_9 12 rfl rfl)
theorem dX2_copy_222 : decode cX2_copy 222 = .ok (.aload_n 0, 1) := dk_42 (dk_at dksX2_copy_9 13 rfl rfl)
theorem dX2_copy_223 : decode cX2_copy 223 = .ok (.getfield 27, 3) := dk_180 0 27 (dk_at dksX2_copy_9 14 rfl rfl)
theorem dX2_copy_226 : decode cX2_copy 226 = .ok (.invokevirtual 87, 3) := dk_182 0 87 (dk_at dksX2_copy_9 17 rfl rfl)
theorem dX2_copy_229 : decode cX2_copy 229 = .ok (.checkcast 88, 3) := dk_192 0 88 (dk_at dksX2_copy_9 20 rfl rfl)
theorem dX2_copy_232 : decode cX2_copy 232 = .ok (.putfield 27, 3) := dk_181 0 27 (dk_at dksX2_copy_10 0 rfl rfl)
theorem dX2_copy_235 : decode cX2_copy 235 = .ok (.aload_n 1, 1) := dk_43 (dk_at dksX2_copy_10 3 rfl rfl)
theorem dX2_copy_236 : decode cX2_copy 236 = .ok (.areturn, 1) := dk_176 (dk_at dksX2_copy_10 4 rfl rfl)
abbrev cX2_canShow : ByteArray := prog_2_method_33_code
def yX2_canShow : MethodName := ⟨RX2, "canShow", "(II)Z"⟩
def dkwX2_canShow_2 : List UInt8 := [167, 0, 4, 3, 172]
abbrev dktX2_canShow_2 : List UInt8 := dkwX2_canShow_2 ++ []
def dkwX2_canShow_1 : List UInt8 := [192, 0, 63, 180, 0, 98, 185, 0, 68, 2, 0, 192, 0, 57, 28, 182, 0, 241, 153, 0, 7, 4]
abbrev dktX2_canShow_1 : List UInt8 := dkwX2_canShow_1 ++ dktX2_canShow_2
def dkwX2_canShow_0 : List UInt8 := [42, 27, 182, 0, 238, 153, 0, 42, 42, 180, 0, 18, 42, 180, 0, 21, 27, 185, 0, 68, 2, 0]
abbrev dktX2_canShow_0 : List UInt8 := dkwX2_canShow_0 ++ dktX2_canShow_1
theorem dksX2_canShow_0 : cX2_canShow.data.toList.drop 0 = dktX2_canShow_0 := by decide +kernel
theorem dksX2_canShow_1 : cX2_canShow.data.toList.drop 22 = dktX2_canShow_1 := dk_seg dksX2_canShow_0 22 rfl rfl
theorem dksX2_canShow_2 : cX2_canShow.data.toList.drop 44 = dktX2_canShow_2 := dk_seg dksX2_canShow_1 22 rfl rfl
theorem dX2_canShow_0 : decode cX2_canShow 0 = .ok (.aload_n 0, 1) := dk_42 (dk_at dksX2_canShow_0 0 rfl rfl)
theorem dX2_canShow_1 : decode cX2_canShow 1 = .ok (.iload_n 1, 1) := dk_27 (dk_at dksX2_canShow_0 1 rfl rfl)
theorem dX2_canShow_2 : decode cX2_canShow 2 = .ok (.invokevirtual 238, 3) := dk_182 0 238 (dk_at dksX2_canShow_0 2 rfl rfl)
theorem dX2_canShow_5 : decode cX2_canShow 5 = .ok (.ifCond .eq 42, 3) := dk_153 0 42 (dk_at dksX2_canShow_0 5 rfl rfl)
theorem dX2_canShow_8 : decode cX2_canShow 8 = .ok (.aload_n 0, 1) := dk_42 (dk_at dksX2_canShow_0 8 rfl rfl)
theorem dX2_canShow_9 : decode cX2_canShow 9 = .ok (.getfield 18, 3) := dk_180 0 18 (dk_at dksX2_canShow_0 9 rfl rfl)
theorem dX2_canShow_12 : decode cX2_canShow 12 = .ok (.aload_n 0, 1) := dk_42 (dk_at dksX2_canShow_0 12 rfl rfl)
theorem dX2_canShow_13 : decode cX2_canShow 13 = .ok (.getfield 21, 3) := dk_180 0 21 (dk_at dksX2_canShow_0 13 rfl rfl)
theorem dX2_canShow_16 : decode cX2_canShow 16 = .ok (.iload_n 1, 1) := dk_27 (dk_at dksX2_canShow_0 16 rfl rfl)
theorem dX2_canShow_17 : decode cX2_canShow 17 = .ok (.invokeinterface 68 2, 5) := by decide +kernel
theorem dX2_canShow_22 : decode cX2_canShow 22 = .ok (.checkcast 63, 3) := dk_192 0 63 (dk_at dksX2_canShow_1 0 rfl rfl)
theorem dX2_canShow_25 : decode cX2_canShow 25 = .ok (.getfield 98, 3) := dk_180 0 98 (dk_at dksX2_canShow_1 3 rfl rfl)
theorem dX2_canShow_28 : decode cX2_canShow 28 = .ok (.invokeinterface 68 2, 5) := by decide +kernel
theorem dX2_canShow_33 : decode cX2_canShow 33 = .ok (.checkcast 57, 3) := dk_192 0 57 (dk_at dksX2_canShow_1 11 rfl rfl)
theorem dX2_canShow_36 : decode cX2_canShow 36 = .ok (.iload_n 2, 1) := dk_28 (dk_at dksX2_canShow_1 14 rfl rfl)
theorem dX2_canShow_37 : decode cX2_canShow 37 = .ok (.invokevirtual 241, 3) := dk_182 0 241 (dk_at dksX2_canShow_1 15 rfl rfl)
theorem dX2_canShow_40 : decode cX2_canShow 40 = .ok (.ifCond .eq 7, 3) := dk_153 0 7 (dk_at dksX2_canShow_1 18 rfl rfl)
theorem dX2_canShow_43 : decode cX2_canShow 43 = .ok (.iconst 1, 1) := dk_4 (dk_at dksX2_canShow_1 21 rfl rfl)
theorem dX2_canShow_44 : decode cX2_canShow 44 = .ok (.goto 4, 3) := dk_167 0 4 (dk_at dksX2_canShow_2 0 rfl rfl)
theorem dX2_canShow_47 : decode cX2_canShow 47 = .ok (.iconst 0, 1) := dk_3 (dk_at dksX2_canShow_2 3 rfl rfl)
theorem dX2_canShow_48 : decode cX2_canShow 48 = .ok (.ireturn, 1) := dk_172 (dk_at dksX2_canShow_2 4 rfl rfl)
abbrev cX2_show : ByteArray := prog_2_method_34_code
def yX2_show : MethodName := ⟨RX2, "show", "(II)I"⟩
def dkwX2_show_1 : List UInt8 := [185, 0, 68, 2, 0, 192, 0, 63, 28, 181, 0, 244, 42, 1, 181, 0, 120, 29, 172]
abbrev dktX2_show_1 : List UInt8 := dkwX2_show_1 ++ []
def dkwX2_show_0 : List UInt8 := [42, 180, 0, 21, 27, 185, 0, 68, 2, 0, 192, 0, 63, 180, 0, 244, 62, 42, 180, 0, 21, 27]
abbrev dktX2_show_0 : List UInt8 := dkwX2_show_0 ++ dktX2_show_1
theorem dksX2_show_0 : cX2_show.data.toList.drop 0 = dktX2_show_0 := by decide +kernel
theorem dksX2_show_1 : cX2_show.data.toList.drop 22 = dktX2_show_1 := dk_seg dksX2_show_0 22 rfl rfl
theorem dX2_show_0 : decode cX2_show 0 = .ok (.aload_n 0, 1) := dk_42 (dk_at dksX2_show_0 0 rfl rfl)
theorem dX2_show_1 : decode cX2_show 1 = .ok (.getfield 21, 3) := dk_180 0 21 (dk_at dksX2_show_0 1 rfl rfl)
theorem dX2_show_4 : decode cX2_show 4 = .ok (.iload_n 1, 1) := dk_27 (dk_at dksX2_show_0 4 rfl rfl)
theorem dX2_show_5 : decode cX2_show 5 = .ok (.invokeinterface 68 2, 5) := by decide +kernel
theorem dX2_show_10 : decode cX2_show 10 = .ok (.checkcast 63, 3) := dk_192 0 63 (dk_at dksX2_show_0 10 rfl rfl)
theorem dX2_show_13 : decode cX2_show 13 = .ok (.getfield 244, 3) := dk_180 0 244 (dk_at dksX2_show_0 13 rfl rfl)
theorem dX2_show_16 : decode cX2_show 16 = .ok (.istore_n 3, 1) := dk_62 (dk_at dksX2_show_0 16 rfl rfl)
theorem dX2_show_17 : decode cX2_show 17 = .ok (.aload_n 0, 1) := dk_42 (dk_at dksX2_show_0 17 rfl rfl)
theorem dX2_show_18 : decode cX2_show 18 = .ok (.getfield 21, 3) := dk_180 0 21 (dk_at dksX2_show_0 18 rfl rfl)
theorem dX2_show_21 : decode cX2_show 21 = .ok (.iload_n 1, 1) := dk_27 (dk_at dksX2_show_0 21 rfl rfl)
theorem dX2_show_22 : decode cX2_show 22 = .ok (.invokeinterface 68 2, 5) := by decide +kernel
theorem dX2_show_27 : decode cX2_show 27 = .ok (.checkcast 63, 3) := dk_192 0 63 (dk_at dksX2_show_1 5 rfl rfl)
theorem dX2_show_30 : decode cX2_show 30 = .ok (.iload_n 2, 1) := dk_28 (dk_at dksX2_show_1 8 rfl rfl)
theorem dX2_show_31 : decode cX2_show 31 = .ok (.putfield 244, 3) := dk_181 0 244 (dk_at dksX2_show_1 9 rfl rfl)
theorem dX2_show_34 : decode cX2_show 34 = .ok (.aload_n 0, 1) := dk_42 (dk_at dksX2_show_1 12 rfl rfl)
theorem dX2_show_35 : decode cX2_show 35 = .ok (.aconst_null, 1) := dk_1 (dk_at dksX2_show_1 13 rfl rfl)
theorem dX2_show_36 : decode cX2_show 36 = .ok (.putfield 120, 3) := dk_181 0 120 (dk_at dksX2_show_1 14 rfl rfl)
theorem dX2_show_39 : decode cX2_show 39 = .ok (.iload_n 3, 1) := dk_29 (dk_at dksX2_show_1 17 rfl rfl)
theorem dX2_show_40 : decode cX2_show 40 = .ok (.ireturn, 1) := dk_172 (dk_at dksX2_show_1 18 rfl rfl)
abbrev cX2_cut : ByteArray := prog_2_method_36_code
def yX2_cut : MethodName := ⟨RX2, "cut", "(I)I"⟩
def dkwX2_cut_1 : List UInt8 := [185, 0, 68, 2, 0, 192, 0, 63, 2, 181, 0, 152, 28, 172]
abbrev dktX2_cut_1 : List UInt8 := dkwX2_cut_1 ++ []
def dkwX2_cut_0 : List UInt8 := [42, 180, 0, 21, 27, 185, 0, 68, 2, 0, 192, 0, 63, 180, 0, 152, 61, 42, 180, 0, 21, 27]
abbrev dktX2_cut_0 : List UInt8 := dkwX2_cut_0 ++ dktX2_cut_1
theorem dksX2_cut_0 : cX2_cut.data.toList.drop 0 = dktX2_cut_0 := by decide +kernel
theorem dksX2_cut_1 : cX2_cut.data.toList.drop 22 = dktX2_cut_1 := dk_seg dksX2_cut_0 22 rfl rfl
theorem dX2_cut_0 : decode cX2_cut 0 = .ok (.aload_n 0, 1) := dk_42 (dk_at dksX2_cut_0 0 rfl rfl)
theorem dX2_cut_1 : decode cX2_cut 1 = .ok (.getfield 21, 3) := dk_180 0 21 (dk_at dksX2_cut_0 1 rfl rfl)
theorem dX2_cut_4 : decode cX2_cut 4 = .ok (.iload_n 1, 1) := dk_27 (dk_at dksX2_cut_0 4 rfl rfl)
theorem dX2_cut_5 : decode cX2_cut 5 = .ok (.invokeinterface 68 2, 5) := by decide +kernel
theorem dX2_cut_10 : decode cX2_cut 10 = .ok (.checkcast 63, 3) := dk_192 0 63 (dk_at dksX2_cut_0 10 rfl rfl)
theorem dX2_cut_13 : decode cX2_cut 13 = .ok (.getfield 152, 3) := dk_180 0 152 (dk_at dksX2_cut_0 13 rfl rfl)
theorem dX2_cut_16 : decode cX2_cut 16 = .ok (.istore_n 2, 1) := dk_61 (dk_at dksX2_cut_0 16 rfl rfl)
theorem dX2_cut_17 : decode cX2_cut 17 = .ok (.aload_n 0, 1) := dk_42 (dk_at dksX2_cut_0 17 rfl rfl)
theorem dX2_cut_18 : decode cX2_cut 18 = .ok (.getfield 21, 3) := dk_180 0 21 (dk_at dksX2_cut_0 18 rfl rfl)
theorem dX2_cut_21 : decode cX2_cut 21 = .ok (.iload_n 1, 1) := dk_27 (dk_at dksX2_cut_0 21 rfl rfl)
theorem dX2_cut_22 : decode cX2_cut 22 = .ok (.invokeinterface 68 2, 5) := by decide +kernel
theorem dX2_cut_27 : decode cX2_cut 27 = .ok (.checkcast 63, 3) := dk_192 0 63 (dk_at dksX2_cut_1 5 rfl rfl)
theorem dX2_cut_30 : decode cX2_cut 30 = .ok (.iconst (-1), 1) := dk_2 (dk_at dksX2_cut_1 8 rfl rfl)
theorem dX2_cut_31 : decode cX2_cut 31 = .ok (.putfield 152, 3) := dk_181 0 152 (dk_at dksX2_cut_1 9 rfl rfl)
theorem dX2_cut_34 : decode cX2_cut 34 = .ok (.iload_n 2, 1) := dk_28 (dk_at dksX2_cut_1 12 rfl rfl)
theorem dX2_cut_35 : decode cX2_cut 35 = .ok (.ireturn, 1) := dk_172 (dk_at dksX2_cut_1 13 rfl rfl)
abbrev cX2_isPlace : ByteArray := prog_2_method_23_code
def yX2_isPlace : MethodName := ⟨RX2, "isPlace", "(III)Z"⟩
def dkwX2_isPlace_1 : List UInt8 := [160, 0, 7, 4, 167, 0, 4, 3, 100, 54, 4, 29, 133, 9, 21, 4, 133, 184, 0, 94, 172]
abbrev dktX2_isPlace_1 : List UInt8 := dkwX2_isPlace_1 ++ []
def dkwX2_isPlace_0 : List UInt8 := [42, 180, 0, 24, 28, 185, 0, 68, 2, 0, 192, 0, 31, 182, 0, 179, 42, 27, 182, 0, 191, 28]
abbrev dktX2_isPlace_0 : List UInt8 := dkwX2_isPlace_0 ++ dktX2_isPlace_1
theorem dksX2_isPlace_0 : cX2_isPlace.data.toList.drop 0 = dktX2_isPlace_0 := by decide +kernel
theorem dksX2_isPlace_1 : cX2_isPlace.data.toList.drop 22 = dktX2_isPlace_1 := dk_seg dksX2_isPlace_0 22 rfl rfl
theorem dX2_isPlace_0 : decode cX2_isPlace 0 = .ok (.aload_n 0, 1) := dk_42 (dk_at dksX2_isPlace_0 0 rfl rfl)
theorem dX2_isPlace_1 : decode cX2_isPlace 1 = .ok (.getfield 24, 3) := dk_180 0 24 (dk_at dksX2_isPlace_0 1 rfl rfl)
theorem dX2_isPlace_4 : decode cX2_isPlace 4 = .ok (.iload_n 2, 1) := dk_28 (dk_at dksX2_isPlace_0 4 rfl rfl)
theorem dX2_isPlace_5 : decode cX2_isPlace 5 = .ok (.invokeinterface 68 2, 5) := by decide +kernel
theorem dX2_isPlace_10 : decode cX2_isPlace 10 = .ok (.checkcast 31, 3) := dk_192 0 31 (dk_at dksX2_isPlace_0 10 rfl rfl)
theorem dX2_isPlace_13 : decode cX2_isPlace 13 = .ok (.invokevirtual 179, 3) := dk_182 0 179 (dk_at dksX2_isPlace_0 13 rfl rfl)
theorem dX2_isPlace_16 : decode cX2_isPlace 16 = .ok (.aload_n 0, 1) := dk_42 (dk_at dksX2_isPlace_0 16 rfl rfl)
theorem dX2_isPlace_17 : decode cX2_isPlace 17 = .ok (.iload_n 1, 1) := dk_27 (dk_at dksX2_isPlace_0 17 rfl rfl)
theorem dX2_isPlace_18 : decode cX2_isPlace 18 = .ok (.invokevirtual 191, 3) := dk_182 0 191 (dk_at dksX2_isPlace_0 18 rfl rfl)
theorem dX2_isPlace_21 : decode cX2_isPlace 21 = .ok (.iload_n 2, 1) := dk_28 (dk_at dksX2_isPlace_0 21 rfl rfl)
theorem dX2_isPlace_22 : decode cX2_isPlace 22 = .ok (.if_icmp .ne 7, 3) := dk_160 0 7 (dk_at dksX2_isPlace_1 0 rfl rfl)
theorem dX2_isPlace_25 : decode cX2_isPlace 25 = .ok (.iconst 1, 1) := dk_4 (dk_at dksX2_isPlace_1 3 rfl rfl)
theorem dX2_isPlace_26 : decode cX2_isPlace 26 = .ok (.goto 4, 3) := dk_167 0 4 (dk_at dksX2_isPlace_1 4 rfl rfl)
theorem dX2_isPlace_29 : decode cX2_isPlace 29 = .ok (.iconst 0, 1) := dk_3 (dk_at dksX2_isPlace_1 7 rfl rfl)
theorem dX2_isPlace_30 : decode cX2_isPlace 30 = .ok (.isub, 1) := dk_100 (dk_at dksX2_isPlace_1 8 rfl rfl)
theorem dX2_isPlace_31 : decode cX2_isPlace 31 = .ok (.istore 4, 2) := dk_54 4 (dk_at dksX2_isPlace_1 9 rfl rfl)
theorem dX2_isPlace_33 : decode cX2_isPlace 33 = .ok (.iload_n 3, 1) := dk_29 (dk_at dksX2_isPlace_1 11 rfl rfl)
theorem dX2_isPlace_34 : decode cX2_isPlace 34 = .ok (.i2l, 1) := dk_133 (dk_at dksX2_isPlace_1 12 rfl rfl)
theorem dX2_isPlace_35 : decode cX2_isPlace 35 = .ok (.lconst 0, 1) := dk_9 (dk_at dksX2_isPlace_1 13 rfl rfl)
theorem dX2_isPlace_36 : decode cX2_isPlace 36 = .ok (.iload 4, 2) := dk_21 4 (dk_at dksX2_isPlace_1 14 rfl rfl)
theorem dX2_isPlace_38 : decode cX2_isPlace 38 = .ok (.i2l, 1) := dk_133 (dk_at dksX2_isPlace_1 16 rfl rfl)
theorem dX2_isPlace_39 : decode cX2_isPlace 39 = .ok (.invokestatic 94, 3) := dk_184 0 94 (dk_at dksX2_isPlace_1 17 rfl rfl)
theorem dX2_isPlace_42 : decode cX2_isPlace 42 = .ok (.ireturn, 1) := dk_172 (dk_at dksX2_isPlace_1 20 rfl rfl)
abbrev cX2_canShelve : ByteArray := prog_2_method_24_code
def yX2_canShelve : MethodName := ⟨RX2, "canShelve", "(II)Z"⟩
def dkwX2_canShelve_0 : List UInt8 := [42, 27, 28, 182, 0, 194, 133, 9, 20, 0, 198, 184, 0, 94, 172]
abbrev dktX2_canShelve_0 : List UInt8 := dkwX2_canShelve_0 ++ []
theorem dksX2_canShelve_0 : cX2_canShelve.data.toList.drop 0 = dktX2_canShelve_0 := by decide +kernel
theorem dX2_canShelve_0 : decode cX2_canShelve 0 = .ok (.aload_n 0, 1) := dk_42 (dk_at dksX2_canShelve_0 0 rfl rfl)
theorem dX2_canShelve_1 : decode cX2_canShelve 1 = .ok (.iload_n 1, 1) := dk_27 (dk_at dksX2_canShelve_0 1 rfl rfl)
theorem dX2_canShelve_2 : decode cX2_canShelve 2 = .ok (.iload_n 2, 1) := dk_28 (dk_at dksX2_canShelve_0 2 rfl rfl)
theorem dX2_canShelve_3 : decode cX2_canShelve 3 = .ok (.invokevirtual 194, 3) := dk_182 0 194 (dk_at dksX2_canShelve_0 3 rfl rfl)
theorem dX2_canShelve_6 : decode cX2_canShelve 6 = .ok (.i2l, 1) := dk_133 (dk_at dksX2_canShelve_0 6 rfl rfl)
theorem dX2_canShelve_7 : decode cX2_canShelve 7 = .ok (.lconst 0, 1) := dk_9 (dk_at dksX2_canShelve_0 7 rfl rfl)
theorem dX2_canShelve_8 : decode cX2_canShelve 8 = .ok (.ldc2_w 198, 3) := dk_20 0 198 (dk_at dksX2_canShelve_0 8 rfl rfl)
theorem dX2_canShelve_11 : decode cX2_canShelve 11 = .ok (.invokestatic 94, 3) := dk_184 0 94 (dk_at dksX2_canShelve_0 11 rfl rfl)
theorem dX2_canShelve_14 : decode cX2_canShelve 14 = .ok (.ireturn, 1) := dk_172 (dk_at dksX2_canShelve_0 14 rfl rfl)
abbrev cX2_others : ByteArray := prog_2_method_22_code
def yX2_others : MethodName := ⟨RX2, "others", "(II)I"⟩
def dkwX2_others_3 : List UInt8 := [21, 5, 27, 160, 0, 7, 3, 167, 0, 4, 4, 96, 62, 167, 255, 195, 29, 172]
abbrev dktX2_others_3 : List UInt8 := dkwX2_others_3 ++ []
def dkwX2_others_2 : List UInt8 := [21, 5, 27, 159, 0, 19, 42, 21, 5, 182, 0, 188, 42, 27, 182, 0, 188, 159, 0, 5, 2, 172, 29]
abbrev dktX2_others_2 : List UInt8 := dkwX2_others_2 ++ dktX2_others_3
def dkwX2_others_1 : List UInt8 := [185, 0, 45, 1, 0, 153, 0, 57, 25, 4, 185, 0, 51, 1, 0, 192, 0, 73, 182, 0, 75, 54, 5]
abbrev dktX2_others_1 : List UInt8 := dkwX2_others_1 ++ dktX2_others_2
def dkwX2_others_0 : List UInt8 := [3, 62, 42, 180, 0, 24, 28, 185, 0, 68, 2, 0, 192, 0, 31, 182, 0, 72, 58, 4, 25, 4]
abbrev dktX2_others_0 : List UInt8 := dkwX2_others_0 ++ dktX2_others_1
theorem dksX2_others_0 : cX2_others.data.toList.drop 0 = dktX2_others_0 := by decide +kernel
theorem dksX2_others_1 : cX2_others.data.toList.drop 22 = dktX2_others_1 := dk_seg dksX2_others_0 22 rfl rfl
theorem dksX2_others_2 : cX2_others.data.toList.drop 45 = dktX2_others_2 := dk_seg dksX2_others_1 23 rfl rfl
theorem dksX2_others_3 : cX2_others.data.toList.drop 68 = dktX2_others_3 := dk_seg dksX2_others_2 23 rfl rfl
theorem dX2_others_0 : decode cX2_others 0 = .ok (.iconst 0, 1) := dk_3 (dk_at dksX2_others_0 0 rfl rfl)
theorem dX2_others_1 : decode cX2_others 1 = .ok (.istore_n 3, 1) := dk_62 (dk_at dksX2_others_0 1 rfl rfl)
theorem dX2_others_2 : decode cX2_others 2 = .ok (.aload_n 0, 1) := dk_42 (dk_at dksX2_others_0 2 rfl rfl)
theorem dX2_others_3 : decode cX2_others 3 = .ok (.getfield 24, 3) := dk_180 0 24 (dk_at dksX2_others_0 3 rfl rfl)
theorem dX2_others_6 : decode cX2_others 6 = .ok (.iload_n 2, 1) := dk_28 (dk_at dksX2_others_0 6 rfl rfl)
theorem dX2_others_7 : decode cX2_others 7 = .ok (.invokeinterface 68 2, 5) := by decide +kernel
theorem dX2_others_12 : decode cX2_others 12 = .ok (.checkcast 31, 3) := dk_192 0 31 (dk_at dksX2_others_0 12 rfl rfl)
theorem dX2_others_15 : decode cX2_others 15 = .ok (.invokevirtual 72, 3) := dk_182 0 72 (dk_at dksX2_others_0 15 rfl rfl)
theorem dX2_others_18 : decode cX2_others 18 = .ok (.astore 4, 2) := dk_58 4 (dk_at dksX2_others_0 18 rfl rfl)
theorem dX2_others_20 : decode cX2_others 20 = .ok (.aload 4, 2) := dk_25 4 (dk_at dksX2_others_0 20 rfl rfl)
theorem dX2_others_22 : decode cX2_others 22 = .ok (.invokeinterface 45 1, 5) := by decide +kernel
theorem dX2_others_27 : decode cX2_others 27 = .ok (.ifCond .eq 57, 3) := dk_153 0 57 (dk_at dksX2_others_1 5 rfl rfl)
theorem dX2_others_30 : decode cX2_others 30 = .ok (.aload 4, 2) := dk_25 4 (dk_at dksX2_others_1 8 rfl rfl)
theorem dX2_others_32 : decode cX2_others 32 = .ok (.invokeinterface 51 1, 5) := by decide +kernel
theorem dX2_others_37 : decode cX2_others 37 = .ok (.checkcast 73, 3) := dk_192 0 73 (dk_at dksX2_others_1 15 rfl rfl)
theorem dX2_others_40 : decode cX2_others 40 = .ok (.invokevirtual 75, 3) := dk_182 0 75 (dk_at dksX2_others_1 18 rfl rfl)
theorem dX2_others_43 : decode cX2_others 43 = .ok (.istore 5, 2) := dk_54 5 (dk_at dksX2_others_1 21 rfl rfl)
theorem dX2_others_45 : decode cX2_others 45 = .ok (.iload 5, 2) := dk_21 5 (dk_at dksX2_others_2 0 rfl rfl)
theorem dX2_others_47 : decode cX2_others 47 = .ok (.iload_n 1, 1) := dk_27 (dk_at dksX2_others_2 2 rfl rfl)
theorem dX2_others_48 : decode cX2_others 48 = .ok (.if_icmp .eq 19, 3) := dk_159 0 19 (dk_at dksX2_others_2 3 rfl rfl)
theorem dX2_others_51 : decode cX2_others 51 = .ok (.aload_n 0, 1) := dk_42 (dk_at dksX2_others_2 6 rfl rfl)
theorem dX2_others_52 : decode cX2_others 52 = .ok (.iload 5, 2) := dk_21 5 (dk_at dksX2_others_2 7 rfl rfl)
theorem dX2_others_54 : decode cX2_others 54 = .ok (.invokevirtual 188, 3) := dk_182 0 188 (dk_at dksX2_others_2 9 rfl rfl)
theorem dX2_others_57 : decode cX2_others 57 = .ok (.aload_n 0, 1) := dk_42 (dk_at dksX2_others_2 12 rfl rfl)
theorem dX2_others_58 : decode cX2_others 58 = .ok (.iload_n 1, 1) := dk_27 (dk_at dksX2_others_2 13 rfl rfl)
theorem dX2_others_59 : decode cX2_others 59 = .ok (.invokevirtual 188, 3) := dk_182 0 188 (dk_at dksX2_others_2 14 rfl rfl)
theorem dX2_others_62 : decode cX2_others 62 = .ok (.if_icmp .eq 5, 3) := dk_159 0 5 (dk_at dksX2_others_2 17 rfl rfl)
theorem dX2_others_65 : decode cX2_others 65 = .ok (.iconst (-1), 1) := dk_2 (dk_at dksX2_others_2 20 rfl rfl)
theorem dX2_others_66 : decode cX2_others 66 = .ok (.ireturn, 1) := dk_172 (dk_at dksX2_others_2 21 rfl rfl)
theorem dX2_others_67 : decode cX2_others 67 = .ok (.iload_n 3, 1) := dk_29 (dk_at dksX2_others_2 22 rfl rfl)
theorem dX2_others_68 : decode cX2_others 68 = .ok (.iload 5, 2) := dk_21 5 (dk_at dksX2_others_3 0 rfl rfl)
theorem dX2_others_70 : decode cX2_others 70 = .ok (.iload_n 1, 1) := dk_27 (dk_at dksX2_others_3 2 rfl rfl)
theorem dX2_others_71 : decode cX2_others 71 = .ok (.if_icmp .ne 7, 3) := dk_160 0 7 (dk_at dksX2_others_3 3 rfl rfl)
theorem dX2_others_74 : decode cX2_others 74 = .ok (.iconst 0, 1) := dk_3 (dk_at dksX2_others_3 6 rfl rfl)
theorem dX2_others_75 : decode cX2_others 75 = .ok (.goto 4, 3) := dk_167 0 4 (dk_at dksX2_others_3 7 rfl rfl)
theorem dX2_others_78 : decode cX2_others 78 = .ok (.iconst 1, 1) := dk_4 (dk_at dksX2_others_3 10 rfl rfl)
theorem dX2_others_79 : decode cX2_others 79 = .ok (.iadd, 1) := dk_96 (dk_at dksX2_others_3 11 rfl rfl)
theorem dX2_others_80 : decode cX2_others 80 = .ok (.istore_n 3, 1) := dk_62 (dk_at dksX2_others_3 12 rfl rfl)
theorem dX2_others_81 : decode cX2_others 81 = .ok (.goto (-61), 3) := dk_167 255 195 (dk_at dksX2_others_3 13 rfl rfl)
theorem dX2_others_84 : decode cX2_others 84 = .ok (.iload_n 3, 1) := dk_29 (dk_at dksX2_others_3 16 rfl rfl)
theorem dX2_others_85 : decode cX2_others 85 = .ok (.ireturn, 1) := dk_172 (dk_at dksX2_others_3 17 rfl rfl)
abbrev cX2_houseOf : ByteArray := prog_2_method_5_code
def yX2_houseOf : MethodName := ⟨RX2, "houseOf", "(I)I"⟩
def dkwX2_houseOf_1 : List UInt8 := [185, 0, 68, 2, 0, 192, 0, 57, 180, 0, 102, 172]
abbrev dktX2_houseOf_1 : List UInt8 := dkwX2_houseOf_1 ++ []
def dkwX2_houseOf_0 : List UInt8 := [42, 180, 0, 18, 42, 180, 0, 21, 27, 185, 0, 68, 2, 0, 192, 0, 63, 180, 0, 98]
abbrev dktX2_houseOf_0 : List UInt8 := dkwX2_houseOf_0 ++ dktX2_houseOf_1
theorem dksX2_houseOf_0 : cX2_houseOf.data.toList.drop 0 = dktX2_houseOf_0 := by decide +kernel
theorem dksX2_houseOf_1 : cX2_houseOf.data.toList.drop 20 = dktX2_houseOf_1 := dk_seg dksX2_houseOf_0 20 rfl rfl
theorem dX2_houseOf_0 : decode cX2_houseOf 0 = .ok (.aload_n 0, 1) := dk_42 (dk_at dksX2_houseOf_0 0 rfl rfl)
theorem dX2_houseOf_1 : decode cX2_houseOf 1 = .ok (.getfield 18, 3) := dk_180 0 18 (dk_at dksX2_houseOf_0 1 rfl rfl)
theorem dX2_houseOf_4 : decode cX2_houseOf 4 = .ok (.aload_n 0, 1) := dk_42 (dk_at dksX2_houseOf_0 4 rfl rfl)
theorem dX2_houseOf_5 : decode cX2_houseOf 5 = .ok (.getfield 21, 3) := dk_180 0 21 (dk_at dksX2_houseOf_0 5 rfl rfl)
theorem dX2_houseOf_8 : decode cX2_houseOf 8 = .ok (.iload_n 1, 1) := dk_27 (dk_at dksX2_houseOf_0 8 rfl rfl)
theorem dX2_houseOf_9 : decode cX2_houseOf 9 = .ok (.invokeinterface 68 2, 5) := by decide +kernel
theorem dX2_houseOf_14 : decode cX2_houseOf 14 = .ok (.checkcast 63, 3) := dk_192 0 63 (dk_at dksX2_houseOf_0 14 rfl rfl)
theorem dX2_houseOf_17 : decode cX2_houseOf 17 = .ok (.getfield 98, 3) := dk_180 0 98 (dk_at dksX2_houseOf_0 17 rfl rfl)
theorem dX2_houseOf_20 : decode cX2_houseOf 20 = .ok (.invokeinterface 68 2, 5) := by decide +kernel
theorem dX2_houseOf_25 : decode cX2_houseOf 25 = .ok (.checkcast 57, 3) := dk_192 0 57 (dk_at dksX2_houseOf_1 5 rfl rfl)
theorem dX2_houseOf_28 : decode cX2_houseOf 28 = .ok (.getfield 102, 3) := dk_180 0 102 (dk_at dksX2_houseOf_1 8 rfl rfl)
theorem dX2_houseOf_31 : decode cX2_houseOf 31 = .ok (.ireturn, 1) := dk_172 (dk_at dksX2_houseOf_1 11 rfl rfl)
abbrev cX2_shelve : ByteArray := prog_2_method_26_code
def yX2_shelve : MethodName := ⟨RX2, "shelve", "(III)I"⟩
def dkwX2_shelve_1 : List UInt8 := [182, 0, 217, 42, 180, 0, 24, 28, 185, 0, 68, 2, 0, 192, 0, 31, 182, 0, 179, 172]
abbrev dktX2_shelve_1 : List UInt8 := dkwX2_shelve_1 ++ []
def dkwX2_shelve_0 : List UInt8 := [42, 27, 182, 0, 214, 87, 42, 180, 0, 24, 28, 185, 0, 68, 2, 0, 192, 0, 31, 29, 27, 184, 0, 79]
abbrev dktX2_shelve_0 : List UInt8 := dkwX2_shelve_0 ++ dktX2_shelve_1
theorem dksX2_shelve_0 : cX2_shelve.data.toList.drop 0 = dktX2_shelve_0 := by decide +kernel
theorem dksX2_shelve_1 : cX2_shelve.data.toList.drop 24 = dktX2_shelve_1 := dk_seg dksX2_shelve_0 24 rfl rfl
theorem dX2_shelve_0 : decode cX2_shelve 0 = .ok (.aload_n 0, 1) := dk_42 (dk_at dksX2_shelve_0 0 rfl rfl)
theorem dX2_shelve_1 : decode cX2_shelve 1 = .ok (.iload_n 1, 1) := dk_27 (dk_at dksX2_shelve_0 1 rfl rfl)
theorem dX2_shelve_2 : decode cX2_shelve 2 = .ok (.invokevirtual 214, 3) := dk_182 0 214 (dk_at dksX2_shelve_0 2 rfl rfl)
theorem dX2_shelve_5 : decode cX2_shelve 5 = .ok (.pop, 1) := dk_87 (dk_at dksX2_shelve_0 5 rfl rfl)
theorem dX2_shelve_6 : decode cX2_shelve 6 = .ok (.aload_n 0, 1) := dk_42 (dk_at dksX2_shelve_0 6 rfl rfl)
theorem dX2_shelve_7 : decode cX2_shelve 7 = .ok (.getfield 24, 3) := dk_180 0 24 (dk_at dksX2_shelve_0 7 rfl rfl)
theorem dX2_shelve_10 : decode cX2_shelve 10 = .ok (.iload_n 2, 1) := dk_28 (dk_at dksX2_shelve_0 10 rfl rfl)
theorem dX2_shelve_11 : decode cX2_shelve 11 = .ok (.invokeinterface 68 2, 5) := by decide +kernel
theorem dX2_shelve_16 : decode cX2_shelve 16 = .ok (.checkcast 31, 3) := dk_192 0 31 (dk_at dksX2_shelve_0 16 rfl rfl)
theorem dX2_shelve_19 : decode cX2_shelve 19 = .ok (.iload_n 3, 1) := dk_29 (dk_at dksX2_shelve_0 19 rfl rfl)
theorem dX2_shelve_20 : decode cX2_shelve 20 = .ok (.iload_n 1, 1) := dk_27 (dk_at dksX2_shelve_0 20 rfl rfl)
theorem dX2_shelve_21 : decode cX2_shelve 21 = .ok (.invokestatic 79, 3) := dk_184 0 79 (dk_at dksX2_shelve_0 21 rfl rfl)
theorem dX2_shelve_24 : decode cX2_shelve 24 = .ok (.invokevirtual 217, 3) := dk_182 0 217 (dk_at dksX2_shelve_1 0 rfl rfl)
theorem dX2_shelve_27 : decode cX2_shelve 27 = .ok (.aload_n 0, 1) := dk_42 (dk_at dksX2_shelve_1 3 rfl rfl)
theorem dX2_shelve_28 : decode cX2_shelve 28 = .ok (.getfield 24, 3) := dk_180 0 24 (dk_at dksX2_shelve_1 4 rfl rfl)
theorem dX2_shelve_31 : decode cX2_shelve 31 = .ok (.iload_n 2, 1) := dk_28 (dk_at dksX2_shelve_1 7 rfl rfl)
theorem dX2_shelve_32 : decode cX2_shelve 32 = .ok (.invokeinterface 68 2, 5) := by decide +kernel
theorem dX2_shelve_37 : decode cX2_shelve 37 = .ok (.checkcast 31, 3) := dk_192 0 31 (dk_at dksX2_shelve_1 13 rfl rfl)
theorem dX2_shelve_40 : decode cX2_shelve 40 = .ok (.invokevirtual 179, 3) := dk_182 0 179 (dk_at dksX2_shelve_1 16 rfl rfl)
theorem dX2_shelve_43 : decode cX2_shelve 43 = .ok (.ireturn, 1) := dk_172 (dk_at dksX2_shelve_1 19 rfl rfl)
abbrev cX2_take : ByteArray := prog_2_method_25_code
def yX2_take : MethodName := ⟨RX2, "take", "(I)I"⟩
def dkwX2_take_2 : List UInt8 := [28, 172]
abbrev dktX2_take_2 : List UInt8 := dkwX2_take_2 ++ []
def dkwX2_take_1 : List UInt8 := [180, 0, 205, 154, 0, 21, 45, 182, 0, 208, 182, 0, 75, 27, 160, 255, 241, 45, 182, 0, 211, 167, 255, 234]
abbrev dktX2_take_1 : List UInt8 := dkwX2_take_1 ++ dktX2_take_2
def dkwX2_take_0 : List UInt8 := [42, 27, 182, 0, 191, 61, 28, 2, 159, 0, 38, 187, 0, 200, 89, 42, 28, 183, 0, 202, 78, 45]
abbrev dktX2_take_0 : List UInt8 := dkwX2_take_0 ++ dktX2_take_1
theorem dksX2_take_0 : cX2_take.data.toList.drop 0 = dktX2_take_0 := by decide +kernel
theorem dksX2_take_1 : cX2_take.data.toList.drop 22 = dktX2_take_1 := dk_seg dksX2_take_0 22 rfl rfl
theorem dksX2_take_2 : cX2_take.data.toList.drop 46 = dktX2_take_2 := dk_seg dksX2_take_1 24 rfl rfl
theorem dX2_take_0 : decode cX2_take 0 = .ok (.aload_n 0, 1) := dk_42 (dk_at dksX2_take_0 0 rfl rfl)
theorem dX2_take_1 : decode cX2_take 1 = .ok (.iload_n 1, 1) := dk_27 (dk_at dksX2_take_0 1 rfl rfl)
theorem dX2_take_2 : decode cX2_take 2 = .ok (.invokevirtual 191, 3) := dk_182 0 191 (dk_at dksX2_take_0 2 rfl rfl)
theorem dX2_take_5 : decode cX2_take 5 = .ok (.istore_n 2, 1) := dk_61 (dk_at dksX2_take_0 5 rfl rfl)
theorem dX2_take_6 : decode cX2_take 6 = .ok (.iload_n 2, 1) := dk_28 (dk_at dksX2_take_0 6 rfl rfl)
theorem dX2_take_7 : decode cX2_take 7 = .ok (.iconst (-1), 1) := dk_2 (dk_at dksX2_take_0 7 rfl rfl)
theorem dX2_take_8 : decode cX2_take 8 = .ok (.if_icmp .eq 38, 3) := dk_159 0 38 (dk_at dksX2_take_0 8 rfl rfl)
theorem dX2_take_11 : decode cX2_take 11 = .ok (.new 200, 3) := dk_187 0 200 (dk_at dksX2_take_0 11 rfl rfl)
theorem dX2_take_14 : decode cX2_take 14 = .ok (.dup, 1) := dk_89 (dk_at dksX2_take_0 14 rfl rfl)
theorem dX2_take_15 : decode cX2_take 15 = .ok (.aload_n 0, 1) := dk_42 (dk_at dksX2_take_0 15 rfl rfl)
theorem dX2_take_16 : decode cX2_take 16 = .ok (.iload_n 2, 1) := dk_28 (dk_at dksX2_take_0 16 rfl rfl)
theorem dX2_take_17 : decode cX2_take 17 = .ok (.invokespecial 202, 3) := dk_183 0 202 (dk_at dksX2_take_0 17 rfl rfl)
theorem dX2_take_20 : decode cX2_take 20 = .ok (.astore_n 3, 1) := dk_78 (dk_at dksX2_take_0 20 rfl rfl)
theorem dX2_take_21 : decode cX2_take 21 = .ok (.aload_n 3, 1) := dk_45 (dk_at dksX2_take_0 21 rfl rfl)
theorem dX2_take_22 : decode cX2_take 22 = .ok (.getfield 205, 3) := dk_180 0 205 (dk_at dksX2_take_1 0 rfl rfl)
theorem dX2_take_25 : decode cX2_take 25 = .ok (.ifCond .ne 21, 3) := dk_154 0 21 (dk_at dksX2_take_1 3 rfl rfl)
theorem dX2_take_28 : decode cX2_take 28 = .ok (.aload_n 3, 1) := dk_45 (dk_at dksX2_take_1 6 rfl rfl)
theorem dX2_take_29 : decode cX2_take 29 = .ok (.invokevirtual 208, 3) := dk_182 0 208 (dk_at dksX2_take_1 7 rfl rfl)
theorem dX2_take_32 : decode cX2_take 32 = .ok (.invokevirtual 75, 3) := dk_182 0 75 (dk_at dksX2_take_1 10 rfl rfl)
theorem dX2_take_35 : decode cX2_take 35 = .ok (.iload_n 1, 1) := dk_27 (dk_at dksX2_take_1 13 rfl rfl)
theorem dX2_take_36 : decode cX2_take 36 = .ok (.if_icmp .ne (-15), 3) := dk_160 255 241 (dk_at dksX2_take_1 14 rfl rfl)
theorem dX2_take_39 : decode cX2_take 39 = .ok (.aload_n 3, 1) := dk_45 (dk_at dksX2_take_1 17 rfl rfl)
theorem dX2_take_40 : decode cX2_take 40 = .ok (.invokevirtual 211, 3) := dk_182 0 211 (dk_at dksX2_take_1 18 rfl rfl)
theorem dX2_take_43 : decode cX2_take 43 = .ok (.goto (-22), 3) := dk_167 255 234 (dk_at dksX2_take_1 21 rfl rfl)
theorem dX2_take_46 : decode cX2_take 46 = .ok (.iload_n 2, 1) := dk_28 (dk_at dksX2_take_2 0 rfl rfl)
theorem dX2_take_47 : decode cX2_take 47 = .ok (.ireturn, 1) := dk_172 (dk_at dksX2_take_2 1 rfl rfl)
abbrev cX2_sort : ByteArray := prog_2_method_27_code
def yX2_sort : MethodName := ⟨RX2, "sort", "(I)I"⟩
def dkwX2_sort_9 : List UInt8 := [185, 0, 221, 3, 0, 87, 21, 6, 172]
abbrev dktX2_sort_9 : List UInt8 := dkwX2_sort_9 ++ []
def dkwX2_sort_8 : List UInt8 := [160, 0, 7, 3, 167, 0, 4, 4, 96, 54, 6, 132, 7, 1, 167, 255, 205, 42, 180, 0, 24, 27, 25, 4]
abbrev dktX2_sort_8 : List UInt8 := dkwX2_sort_8 ++ dktX2_sort_9
def dkwX2_sort_7 : List UInt8 := [21, 7, 182, 0, 220, 192, 0, 73, 182, 0, 75, 45, 21, 7, 182, 0, 220, 192, 0, 73, 182, 0, 75]
abbrev dktX2_sort_7 : List UInt8 := dkwX2_sort_7 ++ dktX2_sort_8
def dkwX2_sort_6 : List UInt8 := [167, 255, 153, 3, 54, 6, 3, 54, 7, 21, 7, 25, 4, 182, 0, 179, 162, 0, 47, 21, 6, 25, 4]
abbrev dktX2_sort_6 : List UInt8 := dkwX2_sort_6 ++ dktX2_sort_7
def dkwX2_sort_5 : List UInt8 := [164, 0, 9, 132, 8, 255, 167, 255, 214, 132, 5, 1, 25, 4, 21, 8, 21, 7, 184, 0, 79, 182, 0, 217]
abbrev dktX2_sort_5 : List UInt8 := dkwX2_sort_5 ++ dktX2_sort_6
def dkwX2_sort_4 : List UInt8 := [182, 0, 220, 192, 0, 73, 182, 0, 75, 182, 0, 143, 184, 0, 180, 42, 21, 7, 182, 0, 143, 184, 0, 180]
abbrev dktX2_sort_4 : List UInt8 := dkwX2_sort_4 ++ dktX2_sort_5
def dkwX2_sort_3 : List UInt8 := [21, 7, 46, 154, 0, 55, 21, 5, 54, 8, 21, 8, 158, 0, 43, 42, 25, 4, 21, 8, 4, 100]
abbrev dktX2_sort_3 : List UInt8 := dkwX2_sort_3 ++ dktX2_sort_4
def dkwX2_sort_2 : List UInt8 := [25, 6, 185, 0, 51, 1, 0, 192, 0, 73, 182, 0, 75, 54, 7, 25, 4, 182, 0, 179, 54, 8, 44]
abbrev dktX2_sort_2 : List UInt8 := dkwX2_sort_2 ++ dktX2_sort_3
def dkwX2_sort_1 : List UInt8 := [183, 0, 33, 58, 4, 3, 54, 5, 45, 182, 0, 72, 58, 6, 25, 6, 185, 0, 45, 1, 0, 153, 0, 99]
abbrev dktX2_sort_1 : List UInt8 := dkwX2_sort_1 ++ dktX2_sort_2
def dkwX2_sort_0 : List UInt8 := [42, 182, 0, 169, 77, 42, 180, 0, 24, 27, 185, 0, 68, 2, 0, 192, 0, 31, 78, 187, 0, 31, 89]
abbrev dktX2_sort_0 : List UInt8 := dkwX2_sort_0 ++ dktX2_sort_1
theorem dksX2_sort_0 : cX2_sort.data.toList.drop 0 = dktX2_sort_0 := by decide +kernel
theorem dksX2_sort_1 : cX2_sort.data.toList.drop 23 = dktX2_sort_1 := dk_seg dksX2_sort_0 23 rfl rfl
theorem dksX2_sort_2 : cX2_sort.data.toList.drop 47 = dktX2_sort_2 := dk_seg dksX2_sort_1 24 rfl rfl
theorem dksX2_sort_3 : cX2_sort.data.toList.drop 70 = dktX2_sort_3 := dk_seg dksX2_sort_2 23 rfl rfl
theorem dksX2_sort_4 : cX2_sort.data.toList.drop 92 = dktX2_sort_4 := dk_seg dksX2_sort_3 22 rfl rfl
theorem dksX2_sort_5 : cX2_sort.data.toList.drop 116 = dktX2_sort_5 := dk_seg dksX2_sort_4 24 rfl rfl
theorem dksX2_sort_6 : cX2_sort.data.toList.drop 140 = dktX2_sort_6 := dk_seg dksX2_sort_5 24 rfl rfl
theorem dksX2_sort_7 : cX2_sort.data.toList.drop 163 = dktX2_sort_7 := dk_seg dksX2_sort_6 23 rfl rfl
theorem dksX2_sort_8 : cX2_sort.data.toList.drop 186 = dktX2_sort_8 := dk_seg dksX2_sort_7 23 rfl rfl
theorem dksX2_sort_9 : cX2_sort.data.toList.drop 210 = dktX2_sort_9 := dk_seg dksX2_sort_8 24 rfl rfl
theorem dX2_sort_0 : decode cX2_sort 0 = .ok (.aload_n 0, 1) := dk_42 (dk_at dksX2_sort_0 0 rfl rfl)
theorem dX2_sort_1 : decode cX2_sort 1 = .ok (.invokevirtual 169, 3) := dk_182 0 169 (dk_at dksX2_sort_0 1 rfl rfl)
theorem dX2_sort_4 : decode cX2_sort 4 = .ok (.astore_n 2, 1) := dk_77 (dk_at dksX2_sort_0 4 rfl rfl)
theorem dX2_sort_5 : decode cX2_sort 5 = .ok (.aload_n 0, 1) := dk_42 (dk_at dksX2_sort_0 5 rfl rfl)
theorem dX2_sort_6 : decode cX2_sort 6 = .ok (.getfield 24, 3) := dk_180 0 24 (dk_at dksX2_sort_0 6 rfl rfl)
theorem dX2_sort_9 : decode cX2_sort 9 = .ok (.iload_n 1, 1) := dk_27 (dk_at dksX2_sort_0 9 rfl rfl)
theorem dX2_sort_10 : decode cX2_sort 10 = .ok (.invokeinterface 68 2, 5) := by decide +kernel
theorem dX2_sort_15 : decode cX2_sort 15 = .ok (.checkcast 31, 3) := dk_192 0 31 (dk_at dksX2_sort_0 15 rfl rfl)
theorem dX2_sort_18 : decode cX2_sort 18 = .ok (.astore_n 3, 1) := dk_78 (dk_at dksX2_sort_0 18 rfl rfl)
theorem dX2_sort_19 : decode cX2_sort 19 = .ok (.new 31, 3) := dk_187 0 31 (dk_at dksX2_sort_0 19 rfl rfl)
theorem dX2_sort_22 : decode cX2_sort 22 = .ok (.dup, 1) := dk_89 (dk_at dksX2_sort_0 22 rfl rfl)
theorem dX2_sort_23 : decode cX2_sort 23 = .ok (.invokespecial 33, 3) := dk_183 0 33 (dk_at dksX2_sort_1 0 rfl rfl)
theorem dX2_sort_26 : decode cX2_sort 26 = .ok (.astore 4, 2) := dk_58 4 (dk_at dksX2_sort_1 3 rfl rfl)
theorem dX2_sort_28 : decode cX2_sort 28 = .ok (.iconst 0, 1) := dk_3 (dk_at dksX2_sort_1 5 rfl rfl)
theorem dX2_sort_29 : decode cX2_sort 29 = .ok (.istore 5, 2) := dk_54 5 (dk_at dksX2_sort_1 6 rfl rfl)
theorem dX2_sort_31 : decode cX2_sort 31 = .ok (.aload_n 3, 1) := dk_45 (dk_at dksX2_sort_1 8 rfl rfl)
theorem dX2_sort_32 : decode cX2_sort 32 = .ok (.invokevirtual 72, 3) := dk_182 0 72 (dk_at dksX2_sort_1 9 rfl rfl)
theorem dX2_sort_35 : decode cX2_sort 35 = .ok (.astore 6, 2) := dk_58 6 (dk_at dksX2_sort_1 12 rfl rfl)
theorem dX2_sort_37 : decode cX2_sort 37 = .ok (.aload 6, 2) := dk_25 6 (dk_at dksX2_sort_1 14 rfl rfl)
theorem dX2_sort_39 : decode cX2_sort 39 = .ok (.invokeinterface 45 1, 5) := by decide +kernel
theorem dX2_sort_44 : decode cX2_sort 44 = .ok (.ifCond .eq 99, 3) := dk_153 0 99 (dk_at dksX2_sort_1 21 rfl rfl)
theorem dX2_sort_47 : decode cX2_sort 47 = .ok (.aload 6, 2) := dk_25 6 (dk_at dksX2_sort_2 0 rfl rfl)
theorem dX2_sort_49 : decode cX2_sort 49 = .ok (.invokeinterface 51 1, 5) := by decide +kernel
theorem dX2_sort_54 : decode cX2_sort 54 = .ok (.checkcast 73, 3) := dk_192 0 73 (dk_at dksX2_sort_2 7 rfl rfl)
theorem dX2_sort_57 : decode cX2_sort 57 = .ok (.invokevirtual 75, 3) := dk_182 0 75 (dk_at dksX2_sort_2 10 rfl rfl)
theorem dX2_sort_60 : decode cX2_sort 60 = .ok (.istore 7, 2) := dk_54 7 (dk_at dksX2_sort_2 13 rfl rfl)
theorem dX2_sort_62 : decode cX2_sort 62 = .ok (.aload 4, 2) := dk_25 4 (dk_at dksX2_sort_2 15 rfl rfl)
theorem dX2_sort_64 : decode cX2_sort 64 = .ok (.invokevirtual 179, 3) := dk_182 0 179 (dk_at dksX2_sort_2 17 rfl rfl)
theorem dX2_sort_67 : decode cX2_sort 67 = .ok (.istore 8, 2) := dk_54 8 (dk_at dksX2_sort_2 20 rfl rfl)
theorem dX2_sort_69 : decode cX2_sort 69 = .ok (.aload_n 2, 1) := dk_44 (dk_at dksX2_sort_2 22 rfl rfl)
theorem dX2_sort_70 : decode cX2_sort 70 = .ok (.iload 7, 2) := dk_21 7 (dk_at dksX2_sort_3 0 rfl rfl)
theorem dX2_sort_72 : decode cX2_sort 72 = .ok (.iaload, 1) := dk_46 (dk_at dksX2_sort_3 2 rfl rfl)
theorem dX2_sort_73 : decode cX2_sort 73 = .ok (.ifCond .ne 55, 3) := dk_154 0 55 (dk_at dksX2_sort_3 3 rfl rfl)
theorem dX2_sort_76 : decode cX2_sort 76 = .ok (.iload 5, 2) := dk_21 5 (dk_at dksX2_sort_3 6 rfl rfl)
theorem dX2_sort_78 : decode cX2_sort 78 = .ok (.istore 8, 2) := dk_54 8 (dk_at dksX2_sort_3 8 rfl rfl)
theorem dX2_sort_80 : decode cX2_sort 80 = .ok (.iload 8, 2) := dk_21 8 (dk_at dksX2_sort_3 10 rfl rfl)
theorem dX2_sort_82 : decode cX2_sort 82 = .ok (.ifCond .le 43, 3) := dk_158 0 43 (dk_at dksX2_sort_3 12 rfl rfl)
theorem dX2_sort_85 : decode cX2_sort 85 = .ok (.aload_n 0, 1) := dk_42 (dk_at dksX2_sort_3 15 rfl rfl)
theorem dX2_sort_86 : decode cX2_sort 86 = .ok (.aload 4, 2) := dk_25 4 (dk_at dksX2_sort_3 16 rfl rfl)
theorem dX2_sort_88 : decode cX2_sort 88 = .ok (.iload 8, 2) := dk_21 8 (dk_at dksX2_sort_3 18 rfl rfl)
theorem dX2_sort_90 : decode cX2_sort 90 = .ok (.iconst 1, 1) := dk_4 (dk_at dksX2_sort_3 20 rfl rfl)
theorem dX2_sort_91 : decode cX2_sort 91 = .ok (.isub, 1) := dk_100 (dk_at dksX2_sort_3 21 rfl rfl)
theorem dX2_sort_92 : decode cX2_sort 92 = .ok (.invokevirtual 220, 3) := dk_182 0 220 (dk_at dksX2_sort_4 0 rfl rfl)
theorem dX2_sort_95 : decode cX2_sort 95 = .ok (.checkcast 73, 3) := dk_192 0 73 (dk_at dksX2_sort_4 3 rfl rfl)
theorem dX2_sort_98 : decode cX2_sort 98 = .ok (.invokevirtual 75, 3) := dk_182 0 75 (dk_at dksX2_sort_4 6 rfl rfl)
theorem dX2_sort_101 : decode cX2_sort 101 = .ok (.invokevirtual 143, 3) := dk_182 0 143 (dk_at dksX2_sort_4 9 rfl rfl)
theorem dX2_sort_104 : decode cX2_sort 104 = .ok (.invokestatic 180, 3) := dk_184 0 180 (dk_at dksX2_sort_4 12 rfl rfl)
theorem dX2_sort_107 : decode cX2_sort 107 = .ok (.aload_n 0, 1) := dk_42 (dk_at dksX2_sort_4 15 rfl rfl)
theorem dX2_sort_108 : decode cX2_sort 108 = .ok (.iload 7, 2) := dk_21 7 (dk_at dksX2_sort_4 16 rfl rfl)
theorem dX2_sort_110 : decode cX2_sort 110 = .ok (.invokevirtual 143, 3) := dk_182 0 143 (dk_at dksX2_sort_4 18 rfl rfl)
theorem dX2_sort_113 : decode cX2_sort 113 = .ok (.invokestatic 180, 3) := dk_184 0 180 (dk_at dksX2_sort_4 21 rfl rfl)
theorem dX2_sort_116 : decode cX2_sort 116 = .ok (.if_icmp .le 9, 3) := dk_164 0 9 (dk_at dksX2_sort_5 0 rfl rfl)
theorem dX2_sort_119 : decode cX2_sort 119 = .ok (.iinc 8 (-1), 3) := dk_132 8 255 (dk_at dksX2_sort_5 3 rfl rfl)
theorem dX2_sort_122 : decode cX2_sort 122 = .ok (.goto (-42), 3) := dk_167 255 214 (dk_at dksX2_sort_5 6 rfl rfl)
theorem dX2_sort_125 : decode cX2_sort 125 = .ok (.iinc 5 1, 3) := dk_132 5 1 (dk_at dksX2_sort_5 9 rfl rfl)
theorem dX2_sort_128 : decode cX2_sort 128 = .ok (.aload 4, 2) := dk_25 4 (dk_at dksX2_sort_5 12 rfl rfl)
theorem dX2_sort_130 : decode cX2_sort 130 = .ok (.iload 8, 2) := dk_21 8 (dk_at dksX2_sort_5 14 rfl rfl)
theorem dX2_sort_132 : decode cX2_sort 132 = .ok (.iload 7, 2) := dk_21 7 (dk_at dksX2_sort_5 16 rfl rfl)
theorem dX2_sort_134 : decode cX2_sort 134 = .ok (.invokestatic 79, 3) := dk_184 0 79 (dk_at dksX2_sort_5 18 rfl rfl)
theorem dX2_sort_137 : decode cX2_sort 137 = .ok (.invokevirtual 217, 3) := dk_182 0 217 (dk_at dksX2_sort_5 21 rfl rfl)
theorem dX2_sort_140 : decode cX2_sort 140 = .ok (.goto (-103), 3) := dk_167 255 153 (dk_at dksX2_sort_6 0 rfl rfl)
theorem dX2_sort_143 : decode cX2_sort 143 = .ok (.iconst 0, 1) := dk_3 (dk_at dksX2_sort_6 3 rfl rfl)
theorem dX2_sort_144 : decode cX2_sort 144 = .ok (.istore 6, 2) := dk_54 6 (dk_at dksX2_sort_6 4 rfl rfl)
theorem dX2_sort_146 : decode cX2_sort 146 = .ok (.iconst 0, 1) := dk_3 (dk_at dksX2_sort_6 6 rfl rfl)
theorem dX2_sort_147 : decode cX2_sort 147 = .ok (.istore 7, 2) := dk_54 7 (dk_at dksX2_sort_6 7 rfl rfl)
theorem dX2_sort_149 : decode cX2_sort 149 = .ok (.iload 7, 2) := dk_21 7 (dk_at dksX2_sort_6 9 rfl rfl)
theorem dX2_sort_151 : decode cX2_sort 151 = .ok (.aload 4, 2) := dk_25 4 (dk_at dksX2_sort_6 11 rfl rfl)
theorem dX2_sort_153 : decode cX2_sort 153 = .ok (.invokevirtual 179, 3) := dk_182 0 179 (dk_at dksX2_sort_6 13 rfl rfl)
theorem dX2_sort_156 : decode cX2_sort 156 = .ok (.if_icmp .ge 47, 3) := dk_162 0 47 (dk_at dksX2_sort_6 16 rfl rfl)
theorem dX2_sort_159 : decode cX2_sort 159 = .ok (.iload 6, 2) := dk_21 6 (dk_at dksX2_sort_6 19 rfl rfl)
theorem dX2_sort_161 : decode cX2_sort 161 = .ok (.aload 4, 2) := dk_25 4 (dk_at dksX2_sort_6 21 rfl rfl)
theorem dX2_sort_163 : decode cX2_sort 163 = .ok (.iload 7, 2) := dk_21 7 (dk_at dksX2_sort_7 0 rfl rfl)
theorem dX2_sort_165 : decode cX2_sort 165 = .ok (.invokevirtual 220, 3) := dk_182 0 220 (dk_at dksX2_sort_7 2 rfl rfl)
theorem dX2_sort_168 : decode cX2_sort 168 = .ok (.checkcast 73, 3) := dk_192 0 73 (dk_at dksX2_sort_7 5 rfl rfl)
theorem dX2_sort_171 : decode cX2_sort 171 = .ok (.invokevirtual 75, 3) := dk_182 0 75 (dk_at dksX2_sort_7 8 rfl rfl)
theorem dX2_sort_174 : decode cX2_sort 174 = .ok (.aload_n 3, 1) := dk_45 (dk_at dksX2_sort_7 11 rfl rfl)
theorem dX2_sort_175 : decode cX2_sort 175 = .ok (.iload 7, 2) := dk_21 7 (dk_at dksX2_sort_7 12 rfl rfl)
theorem dX2_sort_177 : decode cX2_sort 177 = .ok (.invokevirtual 220, 3) := dk_182 0 220 (dk_at dksX2_sort_7 14 rfl rfl)
theorem dX2_sort_180 : decode cX2_sort 180 = .ok (.checkcast 73, 3) := dk_192 0 73 (dk_at dksX2_sort_7 17 rfl rfl)
theorem dX2_sort_183 : decode cX2_sort 183 = .ok (.invokevirtual 75, 3) := dk_182 0 75 (dk_at dksX2_sort_7 20 rfl rfl)
theorem dX2_sort_186 : decode cX2_sort 186 = .ok (.if_icmp .ne 7, 3) := dk_160 0 7 (dk_at dksX2_sort_8 0 rfl rfl)
theorem dX2_sort_189 : decode cX2_sort 189 = .ok (.iconst 0, 1) := dk_3 (dk_at dksX2_sort_8 3 rfl rfl)
theorem dX2_sort_190 : decode cX2_sort 190 = .ok (.goto 4, 3) := dk_167 0 4 (dk_at dksX2_sort_8 4 rfl rfl)
theorem dX2_sort_193 : decode cX2_sort 193 = .ok (.iconst 1, 1) := dk_4 (dk_at dksX2_sort_8 7 rfl rfl)
theorem dX2_sort_194 : decode cX2_sort 194 = .ok (.iadd, 1) := dk_96 (dk_at dksX2_sort_8 8 rfl rfl)
theorem dX2_sort_195 : decode cX2_sort 195 = .ok (.istore 6, 2) := dk_54 6 (dk_at dksX2_sort_8 9 rfl rfl)
theorem dX2_sort_197 : decode cX2_sort 197 = .ok (.iinc 7 1, 3) := dk_132 7 1 (dk_at dksX2_sort_8 11 rfl rfl)
theorem dX2_sort_200 : decode cX2_sort 200 = .ok (.goto (-51), 3) := dk_167 255 205 (dk_at dksX2_sort_8 14 rfl rfl)
theorem dX2_sort_203 : decode cX2_sort 203 = .ok (.aload_n 0, 1) := dk_42 (dk_at dksX2_sort_8 17 rfl rfl)
theorem dX2_sort_204 : decode cX2_sort 204 = .ok (.getfield 24, 3) := dk_180 0 24 (dk_at dksX2_sort_8 18 rfl rfl)
theorem dX2_sort_207 : decode cX2_sort 207 = .ok (.iload_n 1, 1) := dk_27 (dk_at dksX2_sort_8 21 rfl rfl)
theorem dX2_sort_208 : decode cX2_sort 208 = .ok (.aload 4, 2) := dk_25 4 (dk_at dksX2_sort_8 22 rfl rfl)
theorem dX2_sort_210 : decode cX2_sort 210 = .ok (.invokeinterface 221 3, 5) := by decide +kernel
theorem dX2_sort_215 : decode cX2_sort 215 = .ok (.pop, 1) := dk_87 (dk_at dksX2_sort_9 5 rfl rfl)
theorem dX2_sort_216 : decode cX2_sort 216 = .ok (.iload 6, 2) := dk_21 6 (dk_at dksX2_sort_9 6 rfl rfl)
theorem dX2_sort_218 : decode cX2_sort 218 = .ok (.ireturn, 1) := dk_172 (dk_at dksX2_sort_9 8 rfl rfl)
abbrev cX2_decides : ByteArray := prog_2_method_17_code
def yX2_decides : MethodName := ⟨RX2, "decides", "(I)I"⟩
def dkwX2_decides_4 : List UInt8 := [61, 21, 6, 153, 0, 8, 21, 5, 167, 0, 4, 29, 62, 132, 4, 1, 167, 255, 155, 28, 172]
abbrev dktX2_decides_4 : List UInt8 := dkwX2_decides_4 ++ []
def dkwX2_decides_3 : List UInt8 := [21, 5, 29, 164, 0, 7, 4, 167, 0, 4, 3, 54, 6, 21, 6, 153, 0, 8, 21, 4, 167, 0, 4, 28]
abbrev dktX2_decides_3 : List UInt8 := dkwX2_decides_3 ++ dktX2_decides_4
def dkwX2_decides_2 : List UInt8 := [182, 0, 155, 154, 0, 57, 42, 27, 21, 4, 182, 0, 166, 182, 0, 173, 54, 5, 28, 2, 159, 0, 9]
abbrev dktX2_decides_2 : List UInt8 := dkwX2_decides_2 ++ dktX2_decides_3
def dkwX2_decides_1 : List UInt8 := [180, 0, 21, 21, 4, 185, 0, 68, 2, 0, 192, 0, 63, 180, 0, 152, 27, 160, 0, 66, 42, 21, 4]
abbrev dktX2_decides_1 : List UInt8 := dkwX2_decides_1 ++ dktX2_decides_2
def dkwX2_decides_0 : List UInt8 := [2, 61, 3, 62, 3, 54, 4, 21, 4, 42, 180, 0, 21, 185, 0, 91, 1, 0, 162, 0, 93, 42]
abbrev dktX2_decides_0 : List UInt8 := dkwX2_decides_0 ++ dktX2_decides_1
theorem dksX2_decides_0 : cX2_decides.data.toList.drop 0 = dktX2_decides_0 := by decide +kernel
theorem dksX2_decides_1 : cX2_decides.data.toList.drop 22 = dktX2_decides_1 := dk_seg dksX2_decides_0 22 rfl rfl
theorem dksX2_decides_2 : cX2_decides.data.toList.drop 45 = dktX2_decides_2 := dk_seg dksX2_decides_1 23 rfl rfl
theorem dksX2_decides_3 : cX2_decides.data.toList.drop 68 = dktX2_decides_3 := dk_seg dksX2_decides_2 23 rfl rfl
theorem dksX2_decides_4 : cX2_decides.data.toList.drop 92 = dktX2_decides_4 := dk_seg dksX2_decides_3 24 rfl rfl
theorem dX2_decides_0 : decode cX2_decides 0 = .ok (.iconst (-1), 1) := dk_2 (dk_at dksX2_decides_0 0 rfl rfl)
theorem dX2_decides_1 : decode cX2_decides 1 = .ok (.istore_n 2, 1) := dk_61 (dk_at dksX2_decides_0 1 rfl rfl)
theorem dX2_decides_2 : decode cX2_decides 2 = .ok (.iconst 0, 1) := dk_3 (dk_at dksX2_decides_0 2 rfl rfl)
theorem dX2_decides_3 : decode cX2_decides 3 = .ok (.istore_n 3, 1) := dk_62 (dk_at dksX2_decides_0 3 rfl rfl)
theorem dX2_decides_4 : decode cX2_decides 4 = .ok (.iconst 0, 1) := dk_3 (dk_at dksX2_decides_0 4 rfl rfl)
theorem dX2_decides_5 : decode cX2_decides 5 = .ok (.istore 4, 2) := dk_54 4 (dk_at dksX2_decides_0 5 rfl rfl)
theorem dX2_decides_7 : decode cX2_decides 7 = .ok (.iload 4, 2) := dk_21 4 (dk_at dksX2_decides_0 7 rfl rfl)
theorem dX2_decides_9 : decode cX2_decides 9 = .ok (.aload_n 0, 1) := dk_42 (dk_at dksX2_decides_0 9 rfl rfl)
theorem dX2_decides_10 : decode cX2_decides 10 = .ok (.getfield 21, 3) := dk_180 0 21 (dk_at dksX2_decides_0 10 rfl rfl)
theorem dX2_decides_13 : decode cX2_decides 13 = .ok (.invokeinterface 91 1, 5) := by decide +kernel
theorem dX2_decides_18 : decode cX2_decides 18 = .ok (.if_icmp .ge 93, 3) := dk_162 0 93 (dk_at dksX2_decides_0 18 rfl rfl)
theorem dX2_decides_21 : decode cX2_decides 21 = .ok (.aload_n 0, 1) := dk_42 (dk_at dksX2_decides_0 21 rfl rfl)
theorem dX2_decides_22 : decode cX2_decides 22 = .ok (.getfield 21, 3) := dk_180 0 21 (dk_at dksX2_decides_1 0 rfl rfl)
theorem dX2_decides_25 : decode cX2_decides 25 = .ok (.iload 4, 2) := dk_21 4 (dk_at dksX2_decides_1 3 rfl rfl)
theorem dX2_decides_27 : decode cX2_decides 27 = .ok (.invokeinterface 68 2, 5) := by decide +kernel
theorem dX2_decides_32 : decode cX2_decides 32 = .ok (.checkcast 63, 3) := dk_192 0 63 (dk_at dksX2_decides_1 10 rfl rfl)
theorem dX2_decides_35 : decode cX2_decides 35 = .ok (.getfield 152, 3) := dk_180 0 152 (dk_at dksX2_decides_1 13 rfl rfl)
theorem dX2_decides_38 : decode cX2_decides 38 = .ok (.iload_n 1, 1) := dk_27 (dk_at dksX2_decides_1 16 rfl rfl)
theorem dX2_decides_39 : decode cX2_decides 39 = .ok (.if_icmp .ne 66, 3) := dk_160 0 66 (dk_at dksX2_decides_1 17 rfl rfl)
theorem dX2_decides_42 : decode cX2_decides 42 = .ok (.aload_n 0, 1) := dk_42 (dk_at dksX2_decides_1 20 rfl rfl)
theorem dX2_decides_43 : decode cX2_decides 43 = .ok (.iload 4, 2) := dk_21 4 (dk_at dksX2_decides_1 21 rfl rfl)
theorem dX2_decides_45 : decode cX2_decides 45 = .ok (.invokevirtual 155, 3) := dk_182 0 155 (dk_at dksX2_decides_2 0 rfl rfl)
theorem dX2_decides_48 : decode cX2_decides 48 = .ok (.ifCond .ne 57, 3) := dk_154 0 57 (dk_at dksX2_decides_2 3 rfl rfl)
theorem dX2_decides_51 : decode cX2_decides 51 = .ok (.aload_n 0, 1) := dk_42 (dk_at dksX2_decides_2 6 rfl rfl)
theorem dX2_decides_52 : decode cX2_decides 52 = .ok (.iload_n 1, 1) := dk_27 (dk_at dksX2_decides_2 7 rfl rfl)
theorem dX2_decides_53 : decode cX2_decides 53 = .ok (.iload 4, 2) := dk_21 4 (dk_at dksX2_decides_2 8 rfl rfl)
theorem dX2_decides_55 : decode cX2_decides 55 = .ok (.invokevirtual 166, 3) := dk_182 0 166 (dk_at dksX2_decides_2 10 rfl rfl)
theorem dX2_decides_58 : decode cX2_decides 58 = .ok (.invokevirtual 173, 3) := dk_182 0 173 (dk_at dksX2_decides_2 13 rfl rfl)
theorem dX2_decides_61 : decode cX2_decides 61 = .ok (.istore 5, 2) := dk_54 5 (dk_at dksX2_decides_2 16 rfl rfl)
theorem dX2_decides_63 : decode cX2_decides 63 = .ok (.iload_n 2, 1) := dk_28 (dk_at dksX2_decides_2 18 rfl rfl)
theorem dX2_decides_64 : decode cX2_decides 64 = .ok (.iconst (-1), 1) := dk_2 (dk_at dksX2_decides_2 19 rfl rfl)
theorem dX2_decides_65 : decode cX2_decides 65 = .ok (.if_icmp .eq 9, 3) := dk_159 0 9 (dk_at dksX2_decides_2 20 rfl rfl)
theorem dX2_decides_68 : decode cX2_decides 68 = .ok (.iload 5, 2) := dk_21 5 (dk_at dksX2_decides_3 0 rfl rfl)
theorem dX2_decides_70 : decode cX2_decides 70 = .ok (.iload_n 3, 1) := dk_29 (dk_at dksX2_decides_3 2 rfl rfl)
theorem dX2_decides_71 : decode cX2_decides 71 = .ok (.if_icmp .le 7, 3) := dk_164 0 7 (dk_at dksX2_decides_3 3 rfl rfl)
theorem dX2_decides_74 : decode cX2_decides 74 = .ok (.iconst 1, 1) := dk_4 (dk_at dksX2_decides_3 6 rfl rfl)
theorem dX2_decides_75 : decode cX2_decides 75 = .ok (.goto 4, 3) := dk_167 0 4 (dk_at dksX2_decides_3 7 rfl rfl)
theorem dX2_decides_78 : decode cX2_decides 78 = .ok (.iconst 0, 1) := dk_3 (dk_at dksX2_decides_3 10 rfl rfl)
theorem dX2_decides_79 : decode cX2_decides 79 = .ok (.istore 6, 2) := dk_54 6 (dk_at dksX2_decides_3 11 rfl rfl)
theorem dX2_decides_81 : decode cX2_decides 81 = .ok (.iload 6, 2) := dk_21 6 (dk_at dksX2_decides_3 13 rfl rfl)
theorem dX2_decides_83 : decode cX2_decides 83 = .ok (.ifCond .eq 8, 3) := dk_153 0 8 (dk_at dksX2_decides_3 15 rfl rfl)
theorem dX2_decides_86 : decode cX2_decides 86 = .ok (.iload 4, 2) := dk_21 4 (dk_at dksX2_decides_3 18 rfl rfl)
theorem dX2_decides_88 : decode cX2_decides 88 = .ok (.goto 4, 3) := dk_167 0 4 (dk_at dksX2_decides_3 20 rfl rfl)
theorem dX2_decides_91 : decode cX2_decides 91 = .ok (.iload_n 2, 1) := dk_28 (dk_at dksX2_decides_3 23 rfl rfl)
theorem dX2_decides_92 : decode cX2_decides 92 = .ok (.istore_n 2, 1) := dk_61 (dk_at dksX2_decides_4 0 rfl rfl)
theorem dX2_decides_93 : decode cX2_decides 93 = .ok (.iload 6, 2) := dk_21 6 (dk_at dksX2_decides_4 1 rfl rfl)
theorem dX2_decides_95 : decode cX2_decides 95 = .ok (.ifCond .eq 8, 3) := dk_153 0 8 (dk_at dksX2_decides_4 3 rfl rfl)
theorem dX2_decides_98 : decode cX2_decides 98 = .ok (.iload 5, 2) := dk_21 5 (dk_at dksX2_decides_4 6 rfl rfl)
theorem dX2_decides_100 : decode cX2_decides 100 = .ok (.goto 4, 3) := dk_167 0 4 (dk_at dksX2_decides_4 8 rfl rfl)
theorem dX2_decides_103 : decode cX2_decides 103 = .ok (.iload_n 3, 1) := dk_29 (dk_at dksX2_decides_4 11 rfl rfl)
theorem dX2_decides_104 : decode cX2_decides 104 = .ok (.istore_n 3, 1) := dk_62 (dk_at dksX2_decides_4 12 rfl rfl)
theorem dX2_decides_105 : decode cX2_decides 105 = .ok (.iinc 4 1, 3) := dk_132 4 1 (dk_at dksX2_decides_4 13 rfl rfl)
theorem dX2_decides_108 : decode cX2_decides 108 = .ok (.goto (-101), 3) := dk_167 255 155 (dk_at dksX2_decides_4 16 rfl rfl)
theorem dX2_decides_111 : decode cX2_decides 111 = .ok (.iload_n 2, 1) := dk_28 (dk_at dksX2_decides_4 19 rfl rfl)
theorem dX2_decides_112 : decode cX2_decides 112 = .ok (.ireturn, 1) := dk_172 (dk_at dksX2_decides_4 20 rfl rfl)
theorem q78 : (Jvm.Cond.initialized "CordSeals$Collection") ∈ lw_all := lw_g (lw_at lw_m1 2 rfl) rfl
theorem q131 : (Jvm.Cond.instantiable "CordSeals$Collection" (6 : Nat)) ∈ lw_all := lw_g (lw_at lw_m1 55 rfl) rfl
theorem q133 : (Jvm.Cond.instanceMethod ({ cls := "CordSeals$Collection", name := "<init>", desc := "()V" } : Jvm.MethodName)) ∈ lw_all := lw_g (lw_at lw_m1 57 rfl) rfl
theorem q134 : (Jvm.Cond.code ({ cls := "CordSeals$Collection", name := "<init>", desc := "()V" } : Jvm.MethodName) prog_2_method_1_code (2 : Nat) (Option.none : Option Jvm.ClassFile.FieldType)) ∈ lw_all := lw_g (lw_at lw_m1 58 rfl) rfl
theorem q135 : (Jvm.Cond.methodLink "CordSeals$Collection" (3 : Nat) ({ cls := "java/lang/Object", name := "<init>", desc := "()V" } : Jvm.MethodName)) ∈ lw_all := lw_g (lw_at lw_m1 59 rfl) rfl
theorem q136 : (Jvm.Cond.classLink "CordSeals$Collection" (9 : Nat) "java/util/ArrayList") ∈ lw_all := lw_g (lw_at lw_m1 60 rfl) rfl
theorem q138 : (Jvm.Cond.methodLink "CordSeals$Collection" (11 : Nat) ({ cls := "java/util/ArrayList", name := "<init>", desc := "()V" } : Jvm.MethodName)) ∈ lw_all := lw_g (lw_at lw_m1 62 rfl) rfl
theorem q169 : (Jvm.Cond.classLink "CordSeals$Collection" (31 : Nat) "java/util/LinkedList") ∈ lw_all := lw_g (lw_at lw_m1 93 rfl) rfl
theorem q171 : (Jvm.Cond.methodLink "CordSeals$Collection" (33 : Nat) ({ cls := "java/util/LinkedList", name := "<init>", desc := "()V" } : Jvm.MethodName)) ∈ lw_all := lw_g (lw_at lw_m1 95 rfl) rfl
theorem q191 : (Jvm.Cond.interfaceEntry "CordSeals$Collection" (34 : Nat)) ∈ lw_tbl := lw_at lw_m1 115 rfl
theorem q192 : (Jvm.Cond.methodLink "CordSeals$Collection" (34 : Nat) ({ cls := "java/util/List", name := "add", desc := "(Ljava/lang/Object;)Z" } : Jvm.MethodName)) ∈ lw_all := lw_g (lw_at lw_m1 116 rfl) rfl
theorem q230 : (Jvm.Cond.selects "CordSeals$Collection" ({ cls := "java/lang/Object", name := "getClass", desc := "()Ljava/lang/Class;" } : Jvm.MethodName) ({ cls := "java/lang/Object", name := "getClass", desc := "()Ljava/lang/Class;" } : Jvm.MethodName)) ∈ lw_all := lw_g (lw_at lw_m1 154 rfl) rfl
theorem q301 : (Jvm.Cond.fieldLink "CordSeals$Collection" (12 : Nat) "CordSeals$Collection" "reigns" "Ljava/util/List;") ∈ lw_all := lw_g (lw_at lw_m1 225 rfl) rfl
theorem q303 : (Jvm.Cond.fieldLink "CordSeals$Collection" (18 : Nat) "CordSeals$Collection" "dies" "Ljava/util/List;") ∈ lw_all := lw_g (lw_at lw_m1 227 rfl) rfl
theorem q305 : (Jvm.Cond.fieldLink "CordSeals$Collection" (21 : Nat) "CordSeals$Collection" "seals" "Ljava/util/List;") ∈ lw_all := lw_g (lw_at lw_m1 229 rfl) rfl
theorem q308 : (Jvm.Cond.fieldLink "CordSeals$Collection" (24 : Nat) "CordSeals$Collection" "shelves" "Ljava/util/List;") ∈ lw_all := lw_g (lw_at lw_m1 232 rfl) rfl
theorem q310 : (Jvm.Cond.fieldLink "CordSeals$Collection" (27 : Nat) "CordSeals$Collection" "settings" "[I") ∈ lw_all := lw_g (lw_at lw_m1 234 rfl) rfl
theorem q312 : (Jvm.Cond.fieldLink "CordSeals$Collection" (120 : Nat) "CordSeals$Collection" "possible" "[Ljava/util/BitSet;") ∈ lw_all := lw_g (lw_at lw_m1 236 rfl) rfl
theorem q313 : (Jvm.Cond.laysFinal "CordSeals$Collection" "CordSeals$Collection" "reigns" "Ljava/util/List;") ∈ lw_all := lw_g (lw_at lw_m1 237 rfl) rfl
theorem q314 : (Jvm.Cond.soleField "CordSeals$Collection" "reigns") ∈ lw_all := lw_g (lw_at lw_m1 238 rfl) rfl
theorem q315 : (Jvm.Cond.laysFinal "CordSeals$Collection" "CordSeals$Collection" "dies" "Ljava/util/List;") ∈ lw_all := lw_g (lw_at lw_m1 239 rfl) rfl
theorem q316 : (Jvm.Cond.soleField "CordSeals$Collection" "dies") ∈ lw_all := lw_g (lw_at lw_m2 0 rfl) rfl
theorem q317 : (Jvm.Cond.laysFinal "CordSeals$Collection" "CordSeals$Collection" "seals" "Ljava/util/List;") ∈ lw_all := lw_g (lw_at lw_m2 1 rfl) rfl
theorem q318 : (Jvm.Cond.soleField "CordSeals$Collection" "seals") ∈ lw_all := lw_g (lw_at lw_m2 2 rfl) rfl
theorem q319 : (Jvm.Cond.laysFinal "CordSeals$Collection" "CordSeals$Collection" "shelves" "Ljava/util/List;") ∈ lw_all := lw_g (lw_at lw_m2 3 rfl) rfl
theorem q320 : (Jvm.Cond.soleField "CordSeals$Collection" "shelves") ∈ lw_all := lw_g (lw_at lw_m2 4 rfl) rfl
theorem q321 : (Jvm.Cond.lays "CordSeals$Collection" "CordSeals$Collection" "settings" "[I") ∈ lw_all := lw_g (lw_at lw_m2 5 rfl) rfl
theorem q322 : (Jvm.Cond.soleField "CordSeals$Collection" "settings") ∈ lw_all := lw_g (lw_at lw_m2 6 rfl) rfl
theorem q323 : (Jvm.Cond.lays "CordSeals$Collection" "CordSeals$Collection" "possible" "[Ljava/util/BitSet;") ∈ lw_all := lw_g (lw_at lw_m2 7 rfl) rfl
theorem q324 : (Jvm.Cond.soleField "CordSeals$Collection" "possible") ∈ lw_all := lw_g (lw_at lw_m2 8 rfl) rfl
theorem q325 : (Jvm.Cond.superclass "CordSeals$Collection" "java/lang/Object") ∈ lw_all := lw_g (lw_at lw_m2 9 rfl) rfl
theorem q407 : (Jvm.Cond.instanceMethod ({ cls := "CordSeals$Collection", name := "canReign", desc := "(I)Z" } : Jvm.MethodName)) ∈ lw_all := lw_g (lw_at lw_m2 91 rfl) rfl
theorem q408 : (Jvm.Cond.selects "CordSeals$Collection" ({ cls := "CordSeals$Collection", name := "canReign", desc := "(I)Z" } : Jvm.MethodName) ({ cls := "CordSeals$Collection", name := "canReign", desc := "(I)Z" } : Jvm.MethodName)) ∈ lw_all := lw_g (lw_at lw_m2 92 rfl) rfl
theorem q409 : (Jvm.Cond.code ({ cls := "CordSeals$Collection", name := "canReign", desc := "(I)Z" } : Jvm.MethodName) prog_2_method_28_code (2 : Nat) (Option.some Jvm.ClassFile.FieldType.boolean)) ∈ lw_all := lw_g (lw_at lw_m2 93 rfl) rfl
theorem q410 : (Jvm.Cond.interfaceEntry "CordSeals$Collection" (91 : Nat)) ∈ lw_tbl := lw_at lw_m2 94 rfl
theorem q411 : (Jvm.Cond.methodLink "CordSeals$Collection" (91 : Nat) ({ cls := "java/util/List", name := "size", desc := "()I" } : Jvm.MethodName)) ∈ lw_all := lw_g (lw_at lw_m2 95 rfl) rfl
theorem q424 : (Jvm.Cond.interfaceEntry "CordSeals$Collection" (225 : Nat)) ∈ lw_tbl := lw_at lw_m2 108 rfl
theorem q425 : (Jvm.Cond.methodLink "CordSeals$Collection" (225 : Nat) ({ cls := "java/util/List", name := "isEmpty", desc := "()Z" } : Jvm.MethodName)) ∈ lw_all := lw_g (lw_at lw_m2 109 rfl) rfl
theorem q449 : (Jvm.Cond.interfaceEntry "CordSeals$Collection" (68 : Nat)) ∈ lw_tbl := lw_at lw_m2 133 rfl
theorem q450 : (Jvm.Cond.methodLink "CordSeals$Collection" (68 : Nat) ({ cls := "java/util/List", name := "get", desc := "(I)Ljava/lang/Object;" } : Jvm.MethodName)) ∈ lw_all := lw_g (lw_at lw_m2 134 rfl) rfl
theorem q803 : (Jvm.Cond.classLink "CordSeals$Collection" (55 : Nat) "CordSeals$Reign") ∈ lw_all := lw_g (lw_at lw_m4 7 rfl) rfl
theorem q805 : (Jvm.Cond.instanceMethod ({ cls := "CordSeals$Collection", name := "reign", desc := "(II)I" } : Jvm.MethodName)) ∈ lw_all := lw_g (lw_at lw_m4 9 rfl) rfl
theorem q806 : (Jvm.Cond.selects "CordSeals$Collection" ({ cls := "CordSeals$Collection", name := "reign", desc := "(II)I" } : Jvm.MethodName) ({ cls := "CordSeals$Collection", name := "reign", desc := "(II)I" } : Jvm.MethodName)) ∈ lw_all := lw_g (lw_at lw_m4 10 rfl) rfl
theorem q807 : (Jvm.Cond.code ({ cls := "CordSeals$Collection", name := "reign", desc := "(II)I" } : Jvm.MethodName) prog_2_method_29_code (3 : Nat) (Option.some Jvm.ClassFile.FieldType.int)) ∈ lw_all := lw_g (lw_at lw_m4 11 rfl) rfl
theorem q809 : (Jvm.Cond.methodLink "CordSeals$Collection" (226 : Nat) ({ cls := "CordSeals$Reign", name := "<init>", desc := "(II)V" } : Jvm.MethodName)) ∈ lw_all := lw_g (lw_at lw_m4 13 rfl) rfl
theorem q814 : (Jvm.Cond.fieldLinkNest "CordSeals$Collection" (105 : Nat) "CordSeals$Reign" "year" "I" "CordSeals") ∈ lw_tbl := lw_at lw_m4 18 rfl
theorem q817 : (Jvm.Cond.fieldLinkNest "CordSeals$Collection" (108 : Nat) "CordSeals$Reign" "colours" "I" "CordSeals") ∈ lw_tbl := lw_at lw_m4 21 rfl
theorem q844 : (Jvm.Cond.instanceMethod ({ cls := "CordSeals$Collection", name := "die", desc := "(III)I" } : Jvm.MethodName)) ∈ lw_all := lw_g (lw_at lw_m4 48 rfl) rfl
theorem q845 : (Jvm.Cond.selects "CordSeals$Collection" ({ cls := "CordSeals$Collection", name := "die", desc := "(III)I" } : Jvm.MethodName) ({ cls := "CordSeals$Collection", name := "die", desc := "(III)I" } : Jvm.MethodName)) ∈ lw_all := lw_g (lw_at lw_m4 49 rfl) rfl
theorem q846 : (Jvm.Cond.code ({ cls := "CordSeals$Collection", name := "die", desc := "(III)I" } : Jvm.MethodName) prog_2_method_30_code (4 : Nat) (Option.some Jvm.ClassFile.FieldType.int)) ∈ lw_all := lw_g (lw_at lw_m4 50 rfl) rfl
theorem q847 : (Jvm.Cond.classLink "CordSeals$Collection" (57 : Nat) "CordSeals$Die") ∈ lw_all := lw_g (lw_at lw_m4 51 rfl) rfl
theorem q849 : (Jvm.Cond.methodLink "CordSeals$Collection" (229 : Nat) ({ cls := "CordSeals$Die", name := "<init>", desc := "(III)V" } : Jvm.MethodName)) ∈ lw_all := lw_g (lw_at lw_m4 53 rfl) rfl
theorem q856 : (Jvm.Cond.fieldLinkNest "CordSeals$Collection" (102 : Nat) "CordSeals$Die" "house" "I" "CordSeals") ∈ lw_tbl := lw_at lw_m4 60 rfl
theorem q866 : (Jvm.Cond.fieldLinkNest "CordSeals$Collection" (232 : Nat) "CordSeals$Die" "cracks" "Ljava/util/List;" "CordSeals") ∈ lw_tbl := lw_at lw_m4 70 rfl
theorem q882 : (Jvm.Cond.instanceMethod ({ cls := "CordSeals$Collection", name := "hasDie", desc := "(I)Z" } : Jvm.MethodName)) ∈ lw_all := lw_g (lw_at lw_m4 86 rfl) rfl
theorem q883 : (Jvm.Cond.selects "CordSeals$Collection" ({ cls := "CordSeals$Collection", name := "hasDie", desc := "(I)Z" } : Jvm.MethodName) ({ cls := "CordSeals$Collection", name := "hasDie", desc := "(I)Z" } : Jvm.MethodName)) ∈ lw_all := lw_g (lw_at lw_m4 87 rfl) rfl
theorem q884 : (Jvm.Cond.code ({ cls := "CordSeals$Collection", name := "hasDie", desc := "(I)Z" } : Jvm.MethodName) prog_2_method_3_code (2 : Nat) (Option.some Jvm.ClassFile.FieldType.boolean)) ∈ lw_all := lw_g (lw_at lw_m4 88 rfl) rfl
theorem q885 : (Jvm.Cond.methodLinkNest "CordSeals$Collection" (94 : Nat) ({ cls := "CordSeals", name := "isIn", desc := "(JJJ)Z" } : Jvm.MethodName) "CordSeals") ∈ lw_tbl := lw_at lw_m4 89 rfl
theorem q937 : (Jvm.Cond.selects "CordSeals$Collection" ({ cls := "java/lang/Object", name := "equals", desc := "(Ljava/lang/Object;)Z" } : Jvm.MethodName) ({ cls := "java/lang/Object", name := "equals", desc := "(Ljava/lang/Object;)Z" } : Jvm.MethodName)) ∈ lw_all := lw_g (lw_at lw_m4 141 rfl) rfl
theorem q975 : (Jvm.Cond.instanceMethod ({ cls := "CordSeals$Collection", name := "crack", desc := "(II)I" } : Jvm.MethodName)) ∈ lw_all := lw_g (lw_at lw_m4 179 rfl) rfl
theorem q976 : (Jvm.Cond.selects "CordSeals$Collection" ({ cls := "CordSeals$Collection", name := "crack", desc := "(II)I" } : Jvm.MethodName) ({ cls := "CordSeals$Collection", name := "crack", desc := "(II)I" } : Jvm.MethodName)) ∈ lw_all := lw_g (lw_at lw_m4 180 rfl) rfl
theorem q977 : (Jvm.Cond.code ({ cls := "CordSeals$Collection", name := "crack", desc := "(II)I" } : Jvm.MethodName) prog_2_method_31_code (3 : Nat) (Option.some Jvm.ClassFile.FieldType.int)) ∈ lw_all := lw_g (lw_at lw_m4 181 rfl) rfl
theorem q978 : (Jvm.Cond.methodLink "CordSeals$Collection" (79 : Nat) ({ cls := "java/lang/Integer", name := "valueOf", desc := "(I)Ljava/lang/Integer;" } : Jvm.MethodName)) ∈ lw_all := lw_g (lw_at lw_m4 182 rfl) rfl
theorem q989 : (Jvm.Cond.instanceMethod ({ cls := "CordSeals$Collection", name := "seal", desc := "(IIIII)I" } : Jvm.MethodName)) ∈ lw_all := lw_g (lw_at lw_m4 193 rfl) rfl
theorem q990 : (Jvm.Cond.selects "CordSeals$Collection" ({ cls := "CordSeals$Collection", name := "seal", desc := "(IIIII)I" } : Jvm.MethodName) ({ cls := "CordSeals$Collection", name := "seal", desc := "(IIIII)I" } : Jvm.MethodName)) ∈ lw_all := lw_g (lw_at lw_m4 194 rfl) rfl
theorem q991 : (Jvm.Cond.code ({ cls := "CordSeals$Collection", name := "seal", desc := "(IIIII)I" } : Jvm.MethodName) prog_2_method_32_code (6 : Nat) (Option.some Jvm.ClassFile.FieldType.int)) ∈ lw_all := lw_g (lw_at lw_m4 195 rfl) rfl
theorem q992 : (Jvm.Cond.classLink "CordSeals$Collection" (63 : Nat) "CordSeals$Seal") ∈ lw_all := lw_g (lw_at lw_m4 196 rfl) rfl
theorem q994 : (Jvm.Cond.methodLink "CordSeals$Collection" (235 : Nat) ({ cls := "CordSeals$Seal", name := "<init>", desc := "(IIIII)V" } : Jvm.MethodName)) ∈ lw_all := lw_g (lw_at lw_m4 198 rfl) rfl
theorem q999 : (Jvm.Cond.fieldLinkNest "CordSeals$Collection" (98 : Nat) "CordSeals$Seal" "die" "I" "CordSeals") ∈ lw_tbl := lw_at lw_m4 203 rfl
theorem q1002 : (Jvm.Cond.fieldLinkNest "CordSeals$Collection" (133 : Nat) "CordSeals$Seal" "material" "I" "CordSeals") ∈ lw_tbl := lw_at lw_m4 206 rfl
theorem q1006 : (Jvm.Cond.fieldLinkNest "CordSeals$Collection" (136 : Nat) "CordSeals$Seal" "colour" "I" "CordSeals") ∈ lw_tbl := lw_at lw_m4 210 rfl
theorem q1009 : (Jvm.Cond.fieldLinkNest "CordSeals$Collection" (130 : Nat) "CordSeals$Seal" "bubbles" "I" "CordSeals") ∈ lw_tbl := lw_at lw_m4 213 rfl
theorem q1013 : (Jvm.Cond.fieldLinkNest "CordSeals$Collection" (244 : Nat) "CordSeals$Seal" "cracks" "I" "CordSeals") ∈ lw_tbl := lw_at lw_m4 217 rfl
theorem q1016 : (Jvm.Cond.fieldLinkNest "CordSeals$Collection" (152 : Nat) "CordSeals$Seal" "charter" "I" "CordSeals") ∈ lw_tbl := lw_at lw_m4 220 rfl
theorem q1036 : (Jvm.Cond.instanceMethod ({ cls := "CordSeals$Collection", name := "hasSeal", desc := "(I)Z" } : Jvm.MethodName)) ∈ lw_all := lw_g (lw_at lw_m5 0 rfl) rfl
theorem q1037 : (Jvm.Cond.selects "CordSeals$Collection" ({ cls := "CordSeals$Collection", name := "hasSeal", desc := "(I)Z" } : Jvm.MethodName) ({ cls := "CordSeals$Collection", name := "hasSeal", desc := "(I)Z" } : Jvm.MethodName)) ∈ lw_all := lw_g (lw_at lw_m5 1 rfl) rfl
theorem q1038 : (Jvm.Cond.code ({ cls := "CordSeals$Collection", name := "hasSeal", desc := "(I)Z" } : Jvm.MethodName) prog_2_method_4_code (2 : Nat) (Option.some Jvm.ClassFile.FieldType.boolean)) ∈ lw_all := lw_g (lw_at lw_m5 2 rfl) rfl
theorem q1040 : (Jvm.Cond.instanceMethod ({ cls := "CordSeals$Collection", name := "hang", desc := "(II)I" } : Jvm.MethodName)) ∈ lw_all := lw_g (lw_at lw_m5 4 rfl) rfl
theorem q1041 : (Jvm.Cond.selects "CordSeals$Collection" ({ cls := "CordSeals$Collection", name := "hang", desc := "(II)I" } : Jvm.MethodName) ({ cls := "CordSeals$Collection", name := "hang", desc := "(II)I" } : Jvm.MethodName)) ∈ lw_all := lw_g (lw_at lw_m5 5 rfl) rfl
theorem q1042 : (Jvm.Cond.code ({ cls := "CordSeals$Collection", name := "hang", desc := "(II)I" } : Jvm.MethodName) prog_2_method_35_code (3 : Nat) (Option.some Jvm.ClassFile.FieldType.int)) ∈ lw_all := lw_g (lw_at lw_m5 6 rfl) rfl
theorem q1043 : (Jvm.Cond.methodLink "CordSeals$Collection" (246 : Nat) ({ cls := "CordSeals$Collection", name := "on", desc := "(I)I" } : Jvm.MethodName)) ∈ lw_all := lw_g (lw_at lw_m5 7 rfl) rfl
theorem q1044 : (Jvm.Cond.instanceMethod ({ cls := "CordSeals$Collection", name := "on", desc := "(I)I" } : Jvm.MethodName)) ∈ lw_all := lw_g (lw_at lw_m5 8 rfl) rfl
theorem q1045 : (Jvm.Cond.selects "CordSeals$Collection" ({ cls := "CordSeals$Collection", name := "on", desc := "(I)I" } : Jvm.MethodName) ({ cls := "CordSeals$Collection", name := "on", desc := "(I)I" } : Jvm.MethodName)) ∈ lw_all := lw_g (lw_at lw_m5 9 rfl) rfl
theorem q1046 : (Jvm.Cond.code ({ cls := "CordSeals$Collection", name := "on", desc := "(I)I" } : Jvm.MethodName) prog_2_method_16_code (5 : Nat) (Option.some Jvm.ClassFile.FieldType.int)) ∈ lw_all := lw_g (lw_at lw_m5 10 rfl) rfl
theorem q1047 : (Jvm.Cond.interfaceEntry "CordSeals$Collection" (41 : Nat)) ∈ lw_tbl := lw_at lw_m5 11 rfl
theorem q1048 : (Jvm.Cond.methodLink "CordSeals$Collection" (41 : Nat) ({ cls := "java/util/List", name := "iterator", desc := "()Ljava/util/Iterator;" } : Jvm.MethodName)) ∈ lw_all := lw_g (lw_at lw_m5 12 rfl) rfl
theorem q1160 : (Jvm.Cond.interfaceEntry "CordSeals$Collection" (45 : Nat)) ∈ lw_tbl := lw_at lw_m5 124 rfl
theorem q1161 : (Jvm.Cond.methodLink "CordSeals$Collection" (45 : Nat) ({ cls := "java/util/Iterator", name := "hasNext", desc := "()Z" } : Jvm.MethodName)) ∈ lw_all := lw_g (lw_at lw_m5 125 rfl) rfl
theorem q1197 : (Jvm.Cond.interfaceEntry "CordSeals$Collection" (51 : Nat)) ∈ lw_tbl := lw_at lw_m5 161 rfl
theorem q1198 : (Jvm.Cond.methodLink "CordSeals$Collection" (51 : Nat) ({ cls := "java/util/Iterator", name := "next", desc := "()Ljava/lang/Object;" } : Jvm.MethodName)) ∈ lw_all := lw_g (lw_at lw_m5 162 rfl) rfl
theorem q1380 : (Jvm.Cond.instanceMethod ({ cls := "CordSeals$Collection", name := "many", desc := "(I)I" } : Jvm.MethodName)) ∈ lw_all := lw_g (lw_at lw_m6 104 rfl) rfl
theorem q1381 : (Jvm.Cond.selects "CordSeals$Collection" ({ cls := "CordSeals$Collection", name := "many", desc := "(I)I" } : Jvm.MethodName) ({ cls := "CordSeals$Collection", name := "many", desc := "(I)I" } : Jvm.MethodName)) ∈ lw_all := lw_g (lw_at lw_m6 105 rfl) rfl
theorem q1382 : (Jvm.Cond.code ({ cls := "CordSeals$Collection", name := "many", desc := "(I)I" } : Jvm.MethodName) prog_2_method_15_code (7 : Nat) (Option.some Jvm.ClassFile.FieldType.int)) ∈ lw_all := lw_g (lw_at lw_m6 106 rfl) rfl
theorem q1383 : (Jvm.Cond.methodLink "CordSeals$Collection" (169 : Nat) ({ cls := "CordSeals$Collection", name := "fakes", desc := "()[I" } : Jvm.MethodName)) ∈ lw_all := lw_g (lw_at lw_m6 107 rfl) rfl
theorem q1384 : (Jvm.Cond.instanceMethod ({ cls := "CordSeals$Collection", name := "fakes", desc := "()[I" } : Jvm.MethodName)) ∈ lw_all := lw_g (lw_at lw_m6 108 rfl) rfl
theorem q1385 : (Jvm.Cond.selects "CordSeals$Collection" ({ cls := "CordSeals$Collection", name := "fakes", desc := "()[I" } : Jvm.MethodName) ({ cls := "CordSeals$Collection", name := "fakes", desc := "()[I" } : Jvm.MethodName)) ∈ lw_all := lw_g (lw_at lw_m6 109 rfl) rfl
theorem q1386 : (Jvm.Cond.code ({ cls := "CordSeals$Collection", name := "fakes", desc := "()[I" } : Jvm.MethodName) prog_2_method_14_code (5 : Nat) (Option.some (Jvm.ClassFile.FieldType.array Jvm.ClassFile.FieldType.int))) ∈ lw_all := lw_g (lw_at lw_m6 110 rfl) rfl
theorem q1387 : (Jvm.Cond.methodLink "CordSeals$Collection" (166 : Nat) ({ cls := "CordSeals$Collection", name := "yearsOf", desc := "(II)Ljava/util/BitSet;" } : Jvm.MethodName)) ∈ lw_all := lw_g (lw_at lw_m6 111 rfl) rfl
theorem q1388 : (Jvm.Cond.instanceMethod ({ cls := "CordSeals$Collection", name := "yearsOf", desc := "(II)Ljava/util/BitSet;" } : Jvm.MethodName)) ∈ lw_all := lw_g (lw_at lw_m6 112 rfl) rfl
theorem q1389 : (Jvm.Cond.selects "CordSeals$Collection" ({ cls := "CordSeals$Collection", name := "yearsOf", desc := "(II)Ljava/util/BitSet;" } : Jvm.MethodName) ({ cls := "CordSeals$Collection", name := "yearsOf", desc := "(II)Ljava/util/BitSet;" } : Jvm.MethodName)) ∈ lw_all := lw_g (lw_at lw_m6 113 rfl) rfl
theorem q1390 : (Jvm.Cond.code ({ cls := "CordSeals$Collection", name := "yearsOf", desc := "(II)Ljava/util/BitSet;" } : Jvm.MethodName) prog_2_method_12_code (6 : Nat) (Option.some (Jvm.ClassFile.FieldType.object "java/util/BitSet"))) ∈ lw_all := lw_g (lw_at lw_m6 114 rfl) rfl
theorem q1391 : (Jvm.Cond.classLink "CordSeals$Collection" (124 : Nat) "java/util/BitSet") ∈ lw_all := lw_g (lw_at lw_m6 115 rfl) rfl
theorem q1393 : (Jvm.Cond.methodLink "CordSeals$Collection" (149 : Nat) ({ cls := "java/util/BitSet", name := "<init>", desc := "(I)V" } : Jvm.MethodName)) ∈ lw_all := lw_g (lw_at lw_m6 117 rfl) rfl
theorem q1416 : (Jvm.Cond.methodLink "CordSeals$Collection" (155 : Nat) ({ cls := "CordSeals$Collection", name := "alone", desc := "(I)I" } : Jvm.MethodName)) ∈ lw_all := lw_g (lw_at lw_m6 140 rfl) rfl
theorem q1417 : (Jvm.Cond.privateMethod ({ cls := "CordSeals$Collection", name := "alone", desc := "(I)I" } : Jvm.MethodName)) ∈ lw_tbl := lw_at lw_m6 141 rfl
theorem q1418 : (Jvm.Cond.instanceMethod ({ cls := "CordSeals$Collection", name := "alone", desc := "(I)I" } : Jvm.MethodName)) ∈ lw_all := lw_g (lw_at lw_m6 142 rfl) rfl
theorem q1419 : (Jvm.Cond.code ({ cls := "CordSeals$Collection", name := "alone", desc := "(I)I" } : Jvm.MethodName) prog_2_method_11_code (3 : Nat) (Option.some Jvm.ClassFile.FieldType.int)) ∈ lw_all := lw_g (lw_at lw_m6 143 rfl) rfl
theorem q1420 : (Jvm.Cond.methodLink "CordSeals$Collection" (139 : Nat) ({ cls := "CordSeals$Collection", name := "isUsed", desc := "(I)Z" } : Jvm.MethodName)) ∈ lw_all := lw_g (lw_at lw_m6 144 rfl) rfl
theorem q1421 : (Jvm.Cond.privateMethod ({ cls := "CordSeals$Collection", name := "isUsed", desc := "(I)Z" } : Jvm.MethodName)) ∈ lw_tbl := lw_at lw_m6 145 rfl
theorem q1422 : (Jvm.Cond.instanceMethod ({ cls := "CordSeals$Collection", name := "isUsed", desc := "(I)Z" } : Jvm.MethodName)) ∈ lw_all := lw_g (lw_at lw_m6 146 rfl) rfl
theorem q1423 : (Jvm.Cond.code ({ cls := "CordSeals$Collection", name := "isUsed", desc := "(I)Z" } : Jvm.MethodName) prog_2_method_8_code (4 : Nat) (Option.some Jvm.ClassFile.FieldType.boolean)) ∈ lw_all := lw_g (lw_at lw_m6 147 rfl) rfl
theorem q1424 : (Jvm.Cond.methodLink "CordSeals$Collection" (143 : Nat) ({ cls := "CordSeals$Collection", name := "possible", desc := "(I)Ljava/util/BitSet;" } : Jvm.MethodName)) ∈ lw_all := lw_g (lw_at lw_m6 148 rfl) rfl
theorem q1425 : (Jvm.Cond.instanceMethod ({ cls := "CordSeals$Collection", name := "possible", desc := "(I)Ljava/util/BitSet;" } : Jvm.MethodName)) ∈ lw_all := lw_g (lw_at lw_m6 149 rfl) rfl
theorem q1426 : (Jvm.Cond.selects "CordSeals$Collection" ({ cls := "CordSeals$Collection", name := "possible", desc := "(I)Ljava/util/BitSet;" } : Jvm.MethodName) ({ cls := "CordSeals$Collection", name := "possible", desc := "(I)Ljava/util/BitSet;" } : Jvm.MethodName)) ∈ lw_all := lw_g (lw_at lw_m6 150 rfl) rfl
theorem q1427 : (Jvm.Cond.code ({ cls := "CordSeals$Collection", name := "possible", desc := "(I)Ljava/util/BitSet;" } : Jvm.MethodName) prog_2_method_10_code (2 : Nat) (Option.some (Jvm.ClassFile.FieldType.object "java/util/BitSet"))) ∈ lw_all := lw_g (lw_at lw_m6 151 rfl) rfl
theorem q1429 : (Jvm.Cond.methodLink "CordSeals$Collection" (126 : Nat) ({ cls := "CordSeals$Collection", name := "yearsOf", desc := "(LCordSeals$Seal;)Ljava/util/BitSet;" } : Jvm.MethodName)) ∈ lw_all := lw_g (lw_at lw_m6 153 rfl) rfl
theorem q1430 : (Jvm.Cond.privateMethod ({ cls := "CordSeals$Collection", name := "yearsOf", desc := "(LCordSeals$Seal;)Ljava/util/BitSet;" } : Jvm.MethodName)) ∈ lw_tbl := lw_at lw_m6 154 rfl
theorem q1431 : (Jvm.Cond.instanceMethod ({ cls := "CordSeals$Collection", name := "yearsOf", desc := "(LCordSeals$Seal;)Ljava/util/BitSet;" } : Jvm.MethodName)) ∈ lw_all := lw_g (lw_at lw_m6 155 rfl) rfl
theorem q1432 : (Jvm.Cond.code ({ cls := "CordSeals$Collection", name := "yearsOf", desc := "(LCordSeals$Seal;)Ljava/util/BitSet;" } : Jvm.MethodName) prog_2_method_9_code (3 : Nat) (Option.some (Jvm.ClassFile.FieldType.object "java/util/BitSet"))) ∈ lw_all := lw_g (lw_at lw_m6 156 rfl) rfl
theorem q1433 : (Jvm.Cond.classLink "CordSeals$Collection" (111 : Nat) "CordSeals$Collection$1") ∈ lw_all := lw_g (lw_at lw_m6 157 rfl) rfl
theorem q1435 : (Jvm.Cond.methodLink "CordSeals$Collection" (113 : Nat) ({ cls := "CordSeals$Collection$1", name := "<init>", desc := "(LCordSeals$Collection;LCordSeals$Die;LCordSeals$Seal;)V" } : Jvm.MethodName)) ∈ lw_all := lw_g (lw_at lw_m6 159 rfl) rfl
theorem q1449 : (Jvm.Cond.methodLinkNest "CordSeals$Collection" (116 : Nat) ({ cls := "CordSeals", name := "years", desc := "(LCordSeals$Rule;)Ljava/util/BitSet;" } : Jvm.MethodName) "CordSeals") ∈ lw_tbl := lw_at lw_m6 173 rfl
theorem q1466 : (Jvm.Cond.privateMethod ({ cls := "CordSeals$Collection", name := "used", desc := "(II)Z" } : Jvm.MethodName)) ∈ lw_tbl := lw_at lw_m6 190 rfl
theorem q1467 : (Jvm.Cond.instanceMethod ({ cls := "CordSeals$Collection", name := "used", desc := "(II)Z" } : Jvm.MethodName)) ∈ lw_all := lw_g (lw_at lw_m6 191 rfl) rfl
theorem q1468 : (Jvm.Cond.code ({ cls := "CordSeals$Collection", name := "used", desc := "(II)Z" } : Jvm.MethodName) prog_2_method_7_code (5 : Nat) (Option.some Jvm.ClassFile.FieldType.boolean)) ∈ lw_all := lw_g (lw_at lw_m6 192 rfl) rfl
theorem q1510 : (Jvm.Cond.methodLink "CordSeals$Collection" (146 : Nat) ({ cls := "java/util/BitSet", name := "isEmpty", desc := "()Z" } : Jvm.MethodName)) ∈ lw_all := lw_g (lw_at lw_m6 234 rfl) rfl
theorem q1514 : (Jvm.Cond.methodLink "CordSeals$Collection" (159 : Nat) ({ cls := "java/util/BitSet", name := "and", desc := "(Ljava/util/BitSet;)V" } : Jvm.MethodName)) ∈ lw_all := lw_g (lw_at lw_m6 238 rfl) rfl
theorem q1522 : (Jvm.Cond.methodLink "CordSeals$Collection" (163 : Nat) ({ cls := "java/util/BitSet", name := "or", desc := "(Ljava/util/BitSet;)V" } : Jvm.MethodName)) ∈ lw_all := lw_g (lw_at lw_m7 6 rfl) rfl
theorem q1542 : (Jvm.Cond.instanceMethod ({ cls := "CordSeals$Collection", name := "onShelves", desc := "()I" } : Jvm.MethodName)) ∈ lw_all := lw_g (lw_at lw_m7 26 rfl) rfl
theorem q1543 : (Jvm.Cond.selects "CordSeals$Collection" ({ cls := "CordSeals$Collection", name := "onShelves", desc := "()I" } : Jvm.MethodName) ({ cls := "CordSeals$Collection", name := "onShelves", desc := "()I" } : Jvm.MethodName)) ∈ lw_all := lw_g (lw_at lw_m7 27 rfl) rfl
theorem q1544 : (Jvm.Cond.code ({ cls := "CordSeals$Collection", name := "onShelves", desc := "()I" } : Jvm.MethodName) prog_2_method_19_code (4 : Nat) (Option.some Jvm.ClassFile.FieldType.int)) ∈ lw_all := lw_g (lw_at lw_m7 28 rfl) rfl
theorem q1545 : (Jvm.Cond.methodLink "CordSeals$Collection" (179 : Nat) ({ cls := "java/util/LinkedList", name := "size", desc := "()I" } : Jvm.MethodName)) ∈ lw_all := lw_g (lw_at lw_m7 29 rfl) rfl
theorem q1547 : (Jvm.Cond.instanceMethod ({ cls := "CordSeals$Collection", name := "badShelves", desc := "()I" } : Jvm.MethodName)) ∈ lw_all := lw_g (lw_at lw_m7 31 rfl) rfl
theorem q1548 : (Jvm.Cond.selects "CordSeals$Collection" ({ cls := "CordSeals$Collection", name := "badShelves", desc := "()I" } : Jvm.MethodName) ({ cls := "CordSeals$Collection", name := "badShelves", desc := "()I" } : Jvm.MethodName)) ∈ lw_all := lw_g (lw_at lw_m7 32 rfl) rfl
theorem q1549 : (Jvm.Cond.code ({ cls := "CordSeals$Collection", name := "badShelves", desc := "()I" } : Jvm.MethodName) prog_2_method_21_code (4 : Nat) (Option.some Jvm.ClassFile.FieldType.int)) ∈ lw_all := lw_g (lw_at lw_m7 33 rfl) rfl
theorem q1550 : (Jvm.Cond.methodLink "CordSeals$Collection" (184 : Nat) ({ cls := "CordSeals$Collection", name := "isGood", desc := "(I[I)Z" } : Jvm.MethodName)) ∈ lw_all := lw_g (lw_at lw_m7 34 rfl) rfl
theorem q1551 : (Jvm.Cond.instanceMethod ({ cls := "CordSeals$Collection", name := "isGood", desc := "(I[I)Z" } : Jvm.MethodName)) ∈ lw_all := lw_g (lw_at lw_m7 35 rfl) rfl
theorem q1552 : (Jvm.Cond.selects "CordSeals$Collection" ({ cls := "CordSeals$Collection", name := "isGood", desc := "(I[I)Z" } : Jvm.MethodName) ({ cls := "CordSeals$Collection", name := "isGood", desc := "(I[I)Z" } : Jvm.MethodName)) ∈ lw_all := lw_g (lw_at lw_m7 36 rfl) rfl
theorem q1553 : (Jvm.Cond.code ({ cls := "CordSeals$Collection", name := "isGood", desc := "(I[I)Z" } : Jvm.MethodName) prog_2_method_20_code (6 : Nat) (Option.some Jvm.ClassFile.FieldType.boolean)) ∈ lw_all := lw_g (lw_at lw_m7 37 rfl) rfl
theorem q1554 : (Jvm.Cond.methodLink "CordSeals$Collection" (72 : Nat) ({ cls := "java/util/LinkedList", name := "iterator", desc := "()Ljava/util/Iterator;" } : Jvm.MethodName)) ∈ lw_all := lw_g (lw_at lw_m7 38 rfl) rfl
theorem q1558 : (Jvm.Cond.classLink "CordSeals$Collection" (73 : Nat) "java/lang/Integer") ∈ lw_all := lw_g (lw_at lw_m7 42 rfl) rfl
theorem q1559 : (Jvm.Cond.methodLink "CordSeals$Collection" (75 : Nat) ({ cls := "java/lang/Integer", name := "intValue", desc := "()I" } : Jvm.MethodName)) ∈ lw_all := lw_g (lw_at lw_m7 43 rfl) rfl
theorem q1560 : (Jvm.Cond.methodLinkNest "CordSeals$Collection" (180 : Nat) ({ cls := "CordSeals", name := "first", desc := "(Ljava/util/BitSet;)I" } : Jvm.MethodName) "CordSeals") ∈ lw_tbl := lw_at lw_m7 44 rfl
theorem q1610 : (Jvm.Cond.instanceMethod ({ cls := "CordSeals$Collection", name := "endOf", desc := "(I)I" } : Jvm.MethodName)) ∈ lw_all := lw_g (lw_at lw_m7 94 rfl) rfl
theorem q1611 : (Jvm.Cond.selects "CordSeals$Collection" ({ cls := "CordSeals$Collection", name := "endOf", desc := "(I)I" } : Jvm.MethodName) ({ cls := "CordSeals$Collection", name := "endOf", desc := "(I)I" } : Jvm.MethodName)) ∈ lw_all := lw_g (lw_at lw_m7 95 rfl) rfl
theorem q1612 : (Jvm.Cond.code ({ cls := "CordSeals$Collection", name := "endOf", desc := "(I)I" } : Jvm.MethodName) prog_2_method_6_code (2 : Nat) (Option.some Jvm.ClassFile.FieldType.int)) ∈ lw_all := lw_g (lw_at lw_m7 96 rfl) rfl
theorem q1637 : (Jvm.Cond.instanceMethod ({ cls := "CordSeals$Collection", name := "shelfOf", desc := "(I)I" } : Jvm.MethodName)) ∈ lw_all := lw_g (lw_at lw_m7 121 rfl) rfl
theorem q1638 : (Jvm.Cond.selects "CordSeals$Collection" ({ cls := "CordSeals$Collection", name := "shelfOf", desc := "(I)I" } : Jvm.MethodName) ({ cls := "CordSeals$Collection", name := "shelfOf", desc := "(I)I" } : Jvm.MethodName)) ∈ lw_all := lw_g (lw_at lw_m7 122 rfl) rfl
theorem q1639 : (Jvm.Cond.code ({ cls := "CordSeals$Collection", name := "shelfOf", desc := "(I)I" } : Jvm.MethodName) prog_2_method_18_code (3 : Nat) (Option.some Jvm.ClassFile.FieldType.int)) ∈ lw_all := lw_g (lw_at lw_m7 123 rfl) rfl
theorem q1640 : (Jvm.Cond.methodLink "CordSeals$Collection" (176 : Nat) ({ cls := "java/util/LinkedList", name := "contains", desc := "(Ljava/lang/Object;)Z" } : Jvm.MethodName)) ∈ lw_all := lw_g (lw_at lw_m7 124 rfl) rfl
theorem q1679 : (Jvm.Cond.instanceMethod ({ cls := "CordSeals$Collection", name := "fake", desc := "(I)I" } : Jvm.MethodName)) ∈ lw_all := lw_g (lw_at lw_m7 163 rfl) rfl
theorem q1680 : (Jvm.Cond.selects "CordSeals$Collection" ({ cls := "CordSeals$Collection", name := "fake", desc := "(I)I" } : Jvm.MethodName) ({ cls := "CordSeals$Collection", name := "fake", desc := "(I)I" } : Jvm.MethodName)) ∈ lw_all := lw_g (lw_at lw_m7 164 rfl) rfl
theorem q1681 : (Jvm.Cond.code ({ cls := "CordSeals$Collection", name := "fake", desc := "(I)I" } : Jvm.MethodName) prog_2_method_13_code (4 : Nat) (Option.some Jvm.ClassFile.FieldType.int)) ∈ lw_all := lw_g (lw_at lw_m7 165 rfl) rfl
theorem q1762 : (Jvm.Cond.instanceMethod ({ cls := "CordSeals$Collection", name := "copy", desc := "()LCordSeals$Collection;" } : Jvm.MethodName)) ∈ lw_all := lw_g (lw_at lw_m8 6 rfl) rfl
theorem q1763 : (Jvm.Cond.selects "CordSeals$Collection" ({ cls := "CordSeals$Collection", name := "copy", desc := "()LCordSeals$Collection;" } : Jvm.MethodName) ({ cls := "CordSeals$Collection", name := "copy", desc := "()LCordSeals$Collection;" } : Jvm.MethodName)) ∈ lw_all := lw_g (lw_at lw_m8 7 rfl) rfl
theorem q1764 : (Jvm.Cond.code ({ cls := "CordSeals$Collection", name := "copy", desc := "()LCordSeals$Collection;" } : Jvm.MethodName) prog_2_method_2_code (5 : Nat) (Option.some (Jvm.ClassFile.FieldType.object "CordSeals$Collection"))) ∈ lw_all := lw_g (lw_at lw_m8 8 rfl) rfl
theorem q1765 : (Jvm.Cond.classLink "CordSeals$Collection" (13 : Nat) "CordSeals$Collection") ∈ lw_all := lw_g (lw_at lw_m8 9 rfl) rfl
theorem q1766 : (Jvm.Cond.methodLink "CordSeals$Collection" (40 : Nat) ({ cls := "CordSeals$Collection", name := "<init>", desc := "()V" } : Jvm.MethodName)) ∈ lw_all := lw_g (lw_at lw_m8 10 rfl) rfl
theorem q1767 : (Jvm.Cond.methodLink "CordSeals$Collection" (59 : Nat) ({ cls := "CordSeals$Die", name := "copy", desc := "()LCordSeals$Die;" } : Jvm.MethodName)) ∈ lw_all := lw_g (lw_at lw_m8 11 rfl) rfl
theorem q1783 : (Jvm.Cond.methodLink "CordSeals$Collection" (65 : Nat) ({ cls := "CordSeals$Seal", name := "copy", desc := "()LCordSeals$Seal;" } : Jvm.MethodName)) ∈ lw_all := lw_g (lw_at lw_m8 27 rfl) rfl
theorem q1789 : (Jvm.Cond.methodLink "CordSeals$Collection" (83 : Nat) ({ cls := "java/util/LinkedList", name := "addLast", desc := "(Ljava/lang/Object;)V" } : Jvm.MethodName)) ∈ lw_all := lw_g (lw_at lw_m8 33 rfl) rfl
theorem q1793 : (Jvm.Cond.methodLink "CordSeals$Collection" (87 : Nat) ({ cls := "[I", name := "clone", desc := "()Ljava/lang/Object;" } : Jvm.MethodName)) ∈ lw_all := lw_g (lw_at lw_m8 37 rfl) rfl
theorem q1797 : (Jvm.Cond.classLink "CordSeals$Collection" (88 : Nat) "[I") ∈ lw_all := lw_g (lw_at lw_m8 41 rfl) rfl
theorem q1833 : (Jvm.Cond.instanceMethod ({ cls := "CordSeals$Collection", name := "canShow", desc := "(II)Z" } : Jvm.MethodName)) ∈ lw_all := lw_g (lw_at lw_m8 77 rfl) rfl
theorem q1834 : (Jvm.Cond.selects "CordSeals$Collection" ({ cls := "CordSeals$Collection", name := "canShow", desc := "(II)Z" } : Jvm.MethodName) ({ cls := "CordSeals$Collection", name := "canShow", desc := "(II)Z" } : Jvm.MethodName)) ∈ lw_all := lw_g (lw_at lw_m8 78 rfl) rfl
theorem q1835 : (Jvm.Cond.code ({ cls := "CordSeals$Collection", name := "canShow", desc := "(II)Z" } : Jvm.MethodName) prog_2_method_33_code (3 : Nat) (Option.some Jvm.ClassFile.FieldType.boolean)) ∈ lw_all := lw_g (lw_at lw_m8 79 rfl) rfl
theorem q1836 : (Jvm.Cond.methodLink "CordSeals$Collection" (238 : Nat) ({ cls := "CordSeals$Collection", name := "hasSeal", desc := "(I)Z" } : Jvm.MethodName)) ∈ lw_all := lw_g (lw_at lw_m8 80 rfl) rfl
theorem q1837 : (Jvm.Cond.methodLink "CordSeals$Collection" (241 : Nat) ({ cls := "CordSeals$Die", name := "hasCracks", desc := "(I)Z" } : Jvm.MethodName)) ∈ lw_all := lw_g (lw_at lw_m8 81 rfl) rfl
theorem q1839 : (Jvm.Cond.instanceMethod ({ cls := "CordSeals$Collection", name := "show", desc := "(II)I" } : Jvm.MethodName)) ∈ lw_all := lw_g (lw_at lw_m8 83 rfl) rfl
theorem q1840 : (Jvm.Cond.selects "CordSeals$Collection" ({ cls := "CordSeals$Collection", name := "show", desc := "(II)I" } : Jvm.MethodName) ({ cls := "CordSeals$Collection", name := "show", desc := "(II)I" } : Jvm.MethodName)) ∈ lw_all := lw_g (lw_at lw_m8 84 rfl) rfl
theorem q1841 : (Jvm.Cond.code ({ cls := "CordSeals$Collection", name := "show", desc := "(II)I" } : Jvm.MethodName) prog_2_method_34_code (4 : Nat) (Option.some Jvm.ClassFile.FieldType.int)) ∈ lw_all := lw_g (lw_at lw_m8 85 rfl) rfl
theorem q1857 : (Jvm.Cond.instanceMethod ({ cls := "CordSeals$Collection", name := "cut", desc := "(I)I" } : Jvm.MethodName)) ∈ lw_all := lw_g (lw_at lw_m8 101 rfl) rfl
theorem q1858 : (Jvm.Cond.selects "CordSeals$Collection" ({ cls := "CordSeals$Collection", name := "cut", desc := "(I)I" } : Jvm.MethodName) ({ cls := "CordSeals$Collection", name := "cut", desc := "(I)I" } : Jvm.MethodName)) ∈ lw_all := lw_g (lw_at lw_m8 102 rfl) rfl
theorem q1859 : (Jvm.Cond.code ({ cls := "CordSeals$Collection", name := "cut", desc := "(I)I" } : Jvm.MethodName) prog_2_method_36_code (3 : Nat) (Option.some Jvm.ClassFile.FieldType.int)) ∈ lw_all := lw_g (lw_at lw_m8 103 rfl) rfl
theorem q1868 : (Jvm.Cond.instanceMethod ({ cls := "CordSeals$Collection", name := "isPlace", desc := "(III)Z" } : Jvm.MethodName)) ∈ lw_all := lw_g (lw_at lw_m8 112 rfl) rfl
theorem q1869 : (Jvm.Cond.selects "CordSeals$Collection" ({ cls := "CordSeals$Collection", name := "isPlace", desc := "(III)Z" } : Jvm.MethodName) ({ cls := "CordSeals$Collection", name := "isPlace", desc := "(III)Z" } : Jvm.MethodName)) ∈ lw_all := lw_g (lw_at lw_m8 113 rfl) rfl
theorem q1870 : (Jvm.Cond.code ({ cls := "CordSeals$Collection", name := "isPlace", desc := "(III)Z" } : Jvm.MethodName) prog_2_method_23_code (5 : Nat) (Option.some Jvm.ClassFile.FieldType.boolean)) ∈ lw_all := lw_g (lw_at lw_m8 114 rfl) rfl
theorem q1871 : (Jvm.Cond.methodLink "CordSeals$Collection" (191 : Nat) ({ cls := "CordSeals$Collection", name := "shelfOf", desc := "(I)I" } : Jvm.MethodName)) ∈ lw_all := lw_g (lw_at lw_m8 115 rfl) rfl
theorem q1873 : (Jvm.Cond.instanceMethod ({ cls := "CordSeals$Collection", name := "canShelve", desc := "(II)Z" } : Jvm.MethodName)) ∈ lw_all := lw_g (lw_at lw_m8 117 rfl) rfl
theorem q1874 : (Jvm.Cond.selects "CordSeals$Collection" ({ cls := "CordSeals$Collection", name := "canShelve", desc := "(II)Z" } : Jvm.MethodName) ({ cls := "CordSeals$Collection", name := "canShelve", desc := "(II)Z" } : Jvm.MethodName)) ∈ lw_all := lw_g (lw_at lw_m8 118 rfl) rfl
theorem q1875 : (Jvm.Cond.code ({ cls := "CordSeals$Collection", name := "canShelve", desc := "(II)Z" } : Jvm.MethodName) prog_2_method_24_code (3 : Nat) (Option.some Jvm.ClassFile.FieldType.boolean)) ∈ lw_all := lw_g (lw_at lw_m8 119 rfl) rfl
theorem q1876 : (Jvm.Cond.methodLink "CordSeals$Collection" (194 : Nat) ({ cls := "CordSeals$Collection", name := "others", desc := "(II)I" } : Jvm.MethodName)) ∈ lw_all := lw_g (lw_at lw_m8 120 rfl) rfl
theorem q1877 : (Jvm.Cond.privateMethod ({ cls := "CordSeals$Collection", name := "others", desc := "(II)I" } : Jvm.MethodName)) ∈ lw_tbl := lw_at lw_m8 121 rfl
theorem q1878 : (Jvm.Cond.instanceMethod ({ cls := "CordSeals$Collection", name := "others", desc := "(II)I" } : Jvm.MethodName)) ∈ lw_all := lw_g (lw_at lw_m8 122 rfl) rfl
theorem q1879 : (Jvm.Cond.code ({ cls := "CordSeals$Collection", name := "others", desc := "(II)I" } : Jvm.MethodName) prog_2_method_22_code (6 : Nat) (Option.some Jvm.ClassFile.FieldType.int)) ∈ lw_all := lw_g (lw_at lw_m8 123 rfl) rfl
theorem q1880 : (Jvm.Cond.methodLink "CordSeals$Collection" (188 : Nat) ({ cls := "CordSeals$Collection", name := "houseOf", desc := "(I)I" } : Jvm.MethodName)) ∈ lw_all := lw_g (lw_at lw_m8 124 rfl) rfl
theorem q1881 : (Jvm.Cond.instanceMethod ({ cls := "CordSeals$Collection", name := "houseOf", desc := "(I)I" } : Jvm.MethodName)) ∈ lw_all := lw_g (lw_at lw_m8 125 rfl) rfl
theorem q1882 : (Jvm.Cond.selects "CordSeals$Collection" ({ cls := "CordSeals$Collection", name := "houseOf", desc := "(I)I" } : Jvm.MethodName) ({ cls := "CordSeals$Collection", name := "houseOf", desc := "(I)I" } : Jvm.MethodName)) ∈ lw_all := lw_g (lw_at lw_m8 126 rfl) rfl
theorem q1883 : (Jvm.Cond.code ({ cls := "CordSeals$Collection", name := "houseOf", desc := "(I)I" } : Jvm.MethodName) prog_2_method_5_code (2 : Nat) (Option.some Jvm.ClassFile.FieldType.int)) ∈ lw_all := lw_g (lw_at lw_m8 127 rfl) rfl
theorem q1884 : (Jvm.Cond.constantLong "CordSeals$Collection" (198 : Nat) (5 : Int64)) ∈ lw_all := lw_g (lw_at lw_m8 128 rfl) rfl
theorem q1886 : (Jvm.Cond.instanceMethod ({ cls := "CordSeals$Collection", name := "shelve", desc := "(III)I" } : Jvm.MethodName)) ∈ lw_all := lw_g (lw_at lw_m8 130 rfl) rfl
theorem q1887 : (Jvm.Cond.selects "CordSeals$Collection" ({ cls := "CordSeals$Collection", name := "shelve", desc := "(III)I" } : Jvm.MethodName) ({ cls := "CordSeals$Collection", name := "shelve", desc := "(III)I" } : Jvm.MethodName)) ∈ lw_all := lw_g (lw_at lw_m8 131 rfl) rfl
theorem q1888 : (Jvm.Cond.code ({ cls := "CordSeals$Collection", name := "shelve", desc := "(III)I" } : Jvm.MethodName) prog_2_method_26_code (4 : Nat) (Option.some Jvm.ClassFile.FieldType.int)) ∈ lw_all := lw_g (lw_at lw_m8 132 rfl) rfl
theorem q1889 : (Jvm.Cond.methodLink "CordSeals$Collection" (214 : Nat) ({ cls := "CordSeals$Collection", name := "take", desc := "(I)I" } : Jvm.MethodName)) ∈ lw_all := lw_g (lw_at lw_m8 133 rfl) rfl
theorem q1890 : (Jvm.Cond.instanceMethod ({ cls := "CordSeals$Collection", name := "take", desc := "(I)I" } : Jvm.MethodName)) ∈ lw_all := lw_g (lw_at lw_m8 134 rfl) rfl
theorem q1891 : (Jvm.Cond.selects "CordSeals$Collection" ({ cls := "CordSeals$Collection", name := "take", desc := "(I)I" } : Jvm.MethodName) ({ cls := "CordSeals$Collection", name := "take", desc := "(I)I" } : Jvm.MethodName)) ∈ lw_all := lw_g (lw_at lw_m8 135 rfl) rfl
theorem q1892 : (Jvm.Cond.code ({ cls := "CordSeals$Collection", name := "take", desc := "(I)I" } : Jvm.MethodName) prog_2_method_25_code (4 : Nat) (Option.some Jvm.ClassFile.FieldType.int)) ∈ lw_all := lw_g (lw_at lw_m8 136 rfl) rfl
theorem q1893 : (Jvm.Cond.classLink "CordSeals$Collection" (200 : Nat) "CordSeals$Collection$Walk") ∈ lw_all := lw_g (lw_at lw_m8 137 rfl) rfl
theorem q1895 : (Jvm.Cond.methodLink "CordSeals$Collection" (202 : Nat) ({ cls := "CordSeals$Collection$Walk", name := "<init>", desc := "(LCordSeals$Collection;I)V" } : Jvm.MethodName)) ∈ lw_all := lw_g (lw_at lw_m8 139 rfl) rfl
theorem q1905 : (Jvm.Cond.fieldLinkNest "CordSeals$Collection" (205 : Nat) "CordSeals$Collection$Walk" "taken" "I" "CordSeals") ∈ lw_tbl := lw_at lw_m8 149 rfl
theorem q1914 : (Jvm.Cond.methodLink "CordSeals$Collection" (208 : Nat) ({ cls := "CordSeals$Collection$Walk", name := "next", desc := "()Ljava/lang/Integer;" } : Jvm.MethodName)) ∈ lw_all := lw_g (lw_at lw_m8 158 rfl) rfl
theorem q1915 : (Jvm.Cond.methodLink "CordSeals$Collection" (211 : Nat) ({ cls := "CordSeals$Collection$Walk", name := "remove", desc := "()V" } : Jvm.MethodName)) ∈ lw_all := lw_g (lw_at lw_m8 159 rfl) rfl
theorem q1987 : (Jvm.Cond.methodLink "CordSeals$Collection" (217 : Nat) ({ cls := "java/util/LinkedList", name := "add", desc := "(ILjava/lang/Object;)V" } : Jvm.MethodName)) ∈ lw_all := lw_g (lw_at lw_m8 231 rfl) rfl
theorem q2011 : (Jvm.Cond.instanceMethod ({ cls := "CordSeals$Collection", name := "sort", desc := "(I)I" } : Jvm.MethodName)) ∈ lw_all := lw_g (lw_at lw_m9 15 rfl) rfl
theorem q2012 : (Jvm.Cond.selects "CordSeals$Collection" ({ cls := "CordSeals$Collection", name := "sort", desc := "(I)I" } : Jvm.MethodName) ({ cls := "CordSeals$Collection", name := "sort", desc := "(I)I" } : Jvm.MethodName)) ∈ lw_all := lw_g (lw_at lw_m9 16 rfl) rfl
theorem q2013 : (Jvm.Cond.code ({ cls := "CordSeals$Collection", name := "sort", desc := "(I)I" } : Jvm.MethodName) prog_2_method_27_code (9 : Nat) (Option.some Jvm.ClassFile.FieldType.int)) ∈ lw_all := lw_g (lw_at lw_m9 17 rfl) rfl
theorem q2014 : (Jvm.Cond.methodLink "CordSeals$Collection" (220 : Nat) ({ cls := "java/util/LinkedList", name := "get", desc := "(I)Ljava/lang/Object;" } : Jvm.MethodName)) ∈ lw_all := lw_g (lw_at lw_m9 18 rfl) rfl
theorem q2015 : (Jvm.Cond.interfaceEntry "CordSeals$Collection" (221 : Nat)) ∈ lw_tbl := lw_at lw_m9 19 rfl
theorem q2016 : (Jvm.Cond.methodLink "CordSeals$Collection" (221 : Nat) ({ cls := "java/util/List", name := "set", desc := "(ILjava/lang/Object;)Ljava/lang/Object;" } : Jvm.MethodName)) ∈ lw_all := lw_g (lw_at lw_m9 20 rfl) rfl
theorem q2072 : (Jvm.Cond.instanceMethod ({ cls := "CordSeals$Collection", name := "decides", desc := "(I)I" } : Jvm.MethodName)) ∈ lw_all := lw_g (lw_at lw_m9 76 rfl) rfl
theorem q2073 : (Jvm.Cond.selects "CordSeals$Collection" ({ cls := "CordSeals$Collection", name := "decides", desc := "(I)I" } : Jvm.MethodName) ({ cls := "CordSeals$Collection", name := "decides", desc := "(I)I" } : Jvm.MethodName)) ∈ lw_all := lw_g (lw_at lw_m9 77 rfl) rfl
theorem q2074 : (Jvm.Cond.code ({ cls := "CordSeals$Collection", name := "decides", desc := "(I)I" } : Jvm.MethodName) prog_2_method_17_code (7 : Nat) (Option.some Jvm.ClassFile.FieldType.int)) ∈ lw_all := lw_g (lw_at lw_m9 78 rfl) rfl
theorem q2075 : (Jvm.Cond.methodLink "CordSeals$Collection" (173 : Nat) ({ cls := "java/util/BitSet", name := "cardinality", desc := "()I" } : Jvm.MethodName)) ∈ lw_all := lw_g (lw_at lw_m9 79 rfl) rfl
theorem q2656 : (Jvm.Cond.castable "CordSeals$Collection" "java/lang/Object") ∈ lw_tbl := lw_at lw_m11 180 rfl
theorem in_X2 : ∀ w ∈ wsX20, w ∈ lw_all := lw_in wsX20 [313, 315, 317, 319, 321, 323] (by decide +kernel) (by decide +kernel)
def RX3 : String := "CordSealsModel"
def TX3 : u_T := fun k => match k with
  | 0 => ("CordSealsModel", "refusal", "I", false)
  | 1 => ("CordSealsModel", "now", "[I", true)
  | 2 => ("CordSealsModel", "trial", "[I", true)
  | 3 => ("CordSealsModel", "read", "[I", true)
  | 4 => ("CordSealsModel", "book", "[I", true)
  | 5 => ("CordSealsModel", "states", "I", false)
  | 6 => ("CordSealsModel", "kept", "[I", true)
  | 7 => ("CordSealsModel", "isKept", "[Z", true)
  | 8 => ("CordSealsModel", "text", "[I", true)
  | 9 => ("CordSealsModel", "length", "I", false)
  | 10 => ("CordSealsModel", "at", "I", false)
  | 11 => ("CordSealsModel", "good", "Z", false)
  | 12 => ("CordSealsModel", "leftOut", "I", false)
  | 13 => ("CordSealsModel", "low", "I", false)
  | 14 => ("CordSealsModel", "high", "I", false)
  | 15 => ("CordSealsModel", "mask", "I", false)
  | 16 => ("CordSealsModel", "counted", "I", false)
  | _ => ("CordSealsModel", "place", "[I", true)
def tyX3 : Nat → FieldType := fun k => match k with
  | 0 => .int
  | 1 => .array .int
  | 2 => .array .int
  | 3 => .array .int
  | 4 => .array .int
  | 5 => .int
  | 6 => .array .int
  | 7 => .array .boolean
  | 8 => .array .int
  | 9 => .int
  | 10 => .int
  | 11 => .boolean
  | 12 => .int
  | 13 => .int
  | 14 => .int
  | 15 => .int
  | 16 => .int
  | _ => .array .int
abbrev wsX30 : List Cond := u_ws RX3 TX3 18
theorem nmX3 : ∀ a, a < 18 → ∀ b, b < 18 → a ≠ b → (TX3 a).2.1 ≠ (TX3 b).2.1 := by decide +kernel
theorem tyX3_ok : ∀ k, k < 18 → parseFieldDescriptor (TX3 k).2.2.1 = some (tyX3 k) := by decide +kernel
abbrev cX3_init : ByteArray := prog_10_method_1_code
def yX3_init : MethodName := ⟨RX3, "<init>", "()V"⟩
def dkwX3_init_3 : List UInt8 := [181, 0, 32, 42, 180, 0, 7, 184, 0, 35, 177]
abbrev dktX3_init_3 : List UInt8 := dkwX3_init_3 ++ []
def dkwX3_init_2 : List UInt8 := [181, 0, 22, 42, 5, 188, 4, 181, 0, 25, 42, 16, 120, 188, 10, 181, 0, 29, 42, 16, 6, 188, 10]
abbrev dktX3_init_2 : List UInt8 := dkwX3_init_2 ++ dktX3_init_3
def dkwX3_init_1 : List UInt8 := [17, 1, 35, 188, 10, 181, 0, 16, 42, 17, 15, 234, 188, 10, 181, 0, 19, 42, 17, 2, 70, 188, 10]
abbrev dktX3_init_1 : List UInt8 := dkwX3_init_1 ++ dktX3_init_2
def dkwX3_init_0 : List UInt8 := [42, 183, 0, 1, 42, 17, 1, 35, 188, 10, 181, 0, 7, 42, 17, 1, 35, 188, 10, 181, 0, 13, 42]
abbrev dktX3_init_0 : List UInt8 := dkwX3_init_0 ++ dktX3_init_1
theorem dksX3_init_0 : cX3_init.data.toList.drop 0 = dktX3_init_0 := by decide +kernel
theorem dksX3_init_1 : cX3_init.data.toList.drop 23 = dktX3_init_1 := dk_seg dksX3_init_0 23 rfl rfl
theorem dksX3_init_2 : cX3_init.data.toList.drop 46 = dktX3_init_2 := dk_seg dksX3_init_1 23 rfl rfl
theorem dksX3_init_3 : cX3_init.data.toList.drop 69 = dktX3_init_3 := dk_seg dksX3_init_2 23 rfl rfl
theorem dX3_init_0 : decode cX3_init 0 = .ok (.aload_n 0, 1) := dk_42 (dk_at dksX3_init_0 0 rfl rfl)
theorem dX3_init_1 : decode cX3_init 1 = .ok (.invokespecial 1, 3) := dk_183 0 1 (dk_at dksX3_init_0 1 rfl rfl)
theorem dX3_init_4 : decode cX3_init 4 = .ok (.aload_n 0, 1) := dk_42 (dk_at dksX3_init_0 4 rfl rfl)
theorem dX3_init_5 : decode cX3_init 5 = .ok (.sipush 291, 3) := dk_17 1 35 (dk_at dksX3_init_0 5 rfl rfl)
theorem dX3_init_8 : decode cX3_init 8 = .ok (.newarray .int, 2) := dk_188_10 (dk_at dksX3_init_0 8 rfl rfl)
theorem dX3_init_10 : decode cX3_init 10 = .ok (.putfield 7, 3) := dk_181 0 7 (dk_at dksX3_init_0 10 rfl rfl)
theorem dX3_init_13 : decode cX3_init 13 = .ok (.aload_n 0, 1) := dk_42 (dk_at dksX3_init_0 13 rfl rfl)
theorem dX3_init_14 : decode cX3_init 14 = .ok (.sipush 291, 3) := dk_17 1 35 (dk_at dksX3_init_0 14 rfl rfl)
theorem dX3_init_17 : decode cX3_init 17 = .ok (.newarray .int, 2) := dk_188_10 (dk_at dksX3_init_0 17 rfl rfl)
theorem dX3_init_19 : decode cX3_init 19 = .ok (.putfield 13, 3) := dk_181 0 13 (dk_at dksX3_init_0 19 rfl rfl)
theorem dX3_init_22 : decode cX3_init 22 = .ok (.aload_n 0, 1) := dk_42 (dk_at dksX3_init_0 22 rfl rfl)
theorem dX3_init_23 : decode cX3_init 23 = .ok (.sipush 291, 3) := dk_17 1 35 (dk_at dksX3_init_1 0 rfl rfl)
theorem dX3_init_26 : decode cX3_init 26 = .ok (.newarray .int, 2) := dk_188_10 (dk_at dksX3_init_1 3 rfl rfl)
theorem dX3_init_28 : decode cX3_init 28 = .ok (.putfield 16, 3) := dk_181 0 16 (dk_at dksX3_init_1 5 rfl rfl)
theorem dX3_init_31 : decode cX3_init 31 = .ok (.aload_n 0, 1) := dk_42 (dk_at dksX3_init_1 8 rfl rfl)
theorem dX3_init_32 : decode cX3_init 32 = .ok (.sipush 4074, 3) := dk_17 15 234 (dk_at dksX3_init_1 9 rfl rfl)
theorem dX3_init_35 : decode cX3_init 35 = .ok (.newarray .int, 2) := dk_188_10 (dk_at dksX3_init_1 12 rfl rfl)
theorem dX3_init_37 : decode cX3_init 37 = .ok (.putfield 19, 3) := dk_181 0 19 (dk_at dksX3_init_1 14 rfl rfl)
theorem dX3_init_40 : decode cX3_init 40 = .ok (.aload_n 0, 1) := dk_42 (dk_at dksX3_init_1 17 rfl rfl)
theorem dX3_init_41 : decode cX3_init 41 = .ok (.sipush 582, 3) := dk_17 2 70 (dk_at dksX3_init_1 18 rfl rfl)
theorem dX3_init_44 : decode cX3_init 44 = .ok (.newarray .int, 2) := dk_188_10 (dk_at dksX3_init_1 21 rfl rfl)
theorem dX3_init_46 : decode cX3_init 46 = .ok (.putfield 22, 3) := dk_181 0 22 (dk_at dksX3_init_2 0 rfl rfl)
theorem dX3_init_49 : decode cX3_init 49 = .ok (.aload_n 0, 1) := dk_42 (dk_at dksX3_init_2 3 rfl rfl)
theorem dX3_init_50 : decode cX3_init 50 = .ok (.iconst 2, 1) := dk_5 (dk_at dksX3_init_2 4 rfl rfl)
theorem dX3_init_51 : decode cX3_init 51 = .ok (.newarray .boolean, 2) := dk_188_4 (dk_at dksX3_init_2 5 rfl rfl)
theorem dX3_init_53 : decode cX3_init 53 = .ok (.putfield 25, 3) := dk_181 0 25 (dk_at dksX3_init_2 7 rfl rfl)
theorem dX3_init_56 : decode cX3_init 56 = .ok (.aload_n 0, 1) := dk_42 (dk_at dksX3_init_2 10 rfl rfl)
theorem dX3_init_57 : decode cX3_init 57 = .ok (.bipush 120, 2) := dk_16 120 (dk_at dksX3_init_2 11 rfl rfl)
theorem dX3_init_59 : decode cX3_init 59 = .ok (.newarray .int, 2) := dk_188_10 (dk_at dksX3_init_2 13 rfl rfl)
theorem dX3_init_61 : decode cX3_init 61 = .ok (.putfield 29, 3) := dk_181 0 29 (dk_at dksX3_init_2 15 rfl rfl)
theorem dX3_init_64 : decode cX3_init 64 = .ok (.aload_n 0, 1) := dk_42 (dk_at dksX3_init_2 18 rfl rfl)
theorem dX3_init_65 : decode cX3_init 65 = .ok (.bipush 6, 2) := dk_16 6 (dk_at dksX3_init_2 19 rfl rfl)
theorem dX3_init_67 : decode cX3_init 67 = .ok (.newarray .int, 2) := dk_188_10 (dk_at dksX3_init_2 21 rfl rfl)
theorem dX3_init_69 : decode cX3_init 69 = .ok (.putfield 32, 3) := dk_181 0 32 (dk_at dksX3_init_3 0 rfl rfl)
theorem dX3_init_72 : decode cX3_init 72 = .ok (.aload_n 0, 1) := dk_42 (dk_at dksX3_init_3 3 rfl rfl)
theorem dX3_init_73 : decode cX3_init 73 = .ok (.getfield 7, 3) := dk_180 0 7 (dk_at dksX3_init_3 4 rfl rfl)
theorem dX3_init_76 : decode cX3_init 76 = .ok (.invokestatic 35, 3) := dk_184 0 35 (dk_at dksX3_init_3 7 rfl rfl)
theorem dX3_init_79 : decode cX3_init 79 = .ok (.return_, 1) := dk_177 (dk_at dksX3_init_3 10 rfl rfl)
abbrev cX3_fresh : ByteArray := prog_10_method_7_code
def yX3_fresh : MethodName := ⟨RX3, "fresh", "([I)V"⟩
def dkwX3_fresh_1 : List UInt8 := [42, 7, 6, 79, 177]
abbrev dktX3_fresh_1 : List UInt8 := dkwX3_fresh_1 ++ []
def dkwX3_fresh_0 : List UInt8 := [3, 60, 27, 17, 1, 35, 162, 0, 13, 42, 27, 3, 79, 132, 1, 1, 167, 255, 242, 42, 6, 16, 10, 79]
abbrev dktX3_fresh_0 : List UInt8 := dkwX3_fresh_0 ++ dktX3_fresh_1
theorem dksX3_fresh_0 : cX3_fresh.data.toList.drop 0 = dktX3_fresh_0 := by decide +kernel
theorem dksX3_fresh_1 : cX3_fresh.data.toList.drop 24 = dktX3_fresh_1 := dk_seg dksX3_fresh_0 24 rfl rfl
theorem dX3_fresh_0 : decode cX3_fresh 0 = .ok (.iconst 0, 1) := dk_3 (dk_at dksX3_fresh_0 0 rfl rfl)
theorem dX3_fresh_1 : decode cX3_fresh 1 = .ok (.istore_n 1, 1) := dk_60 (dk_at dksX3_fresh_0 1 rfl rfl)
theorem dX3_fresh_2 : decode cX3_fresh 2 = .ok (.iload_n 1, 1) := dk_27 (dk_at dksX3_fresh_0 2 rfl rfl)
theorem dX3_fresh_3 : decode cX3_fresh 3 = .ok (.sipush 291, 3) := dk_17 1 35 (dk_at dksX3_fresh_0 3 rfl rfl)
theorem dX3_fresh_6 : decode cX3_fresh 6 = .ok (.if_icmp .ge 13, 3) := dk_162 0 13 (dk_at dksX3_fresh_0 6 rfl rfl)
theorem dX3_fresh_9 : decode cX3_fresh 9 = .ok (.aload_n 0, 1) := dk_42 (dk_at dksX3_fresh_0 9 rfl rfl)
theorem dX3_fresh_10 : decode cX3_fresh 10 = .ok (.iload_n 1, 1) := dk_27 (dk_at dksX3_fresh_0 10 rfl rfl)
theorem dX3_fresh_11 : decode cX3_fresh 11 = .ok (.iconst 0, 1) := dk_3 (dk_at dksX3_fresh_0 11 rfl rfl)
theorem dX3_fresh_12 : decode cX3_fresh 12 = .ok (.iastore, 1) := dk_79 (dk_at dksX3_fresh_0 12 rfl rfl)
theorem dX3_fresh_13 : decode cX3_fresh 13 = .ok (.iinc 1 1, 3) := dk_132 1 1 (dk_at dksX3_fresh_0 13 rfl rfl)
theorem dX3_fresh_16 : decode cX3_fresh 16 = .ok (.goto (-14), 3) := dk_167 255 242 (dk_at dksX3_fresh_0 16 rfl rfl)
theorem dX3_fresh_19 : decode cX3_fresh 19 = .ok (.aload_n 0, 1) := dk_42 (dk_at dksX3_fresh_0 19 rfl rfl)
theorem dX3_fresh_20 : decode cX3_fresh 20 = .ok (.iconst 3, 1) := dk_6 (dk_at dksX3_fresh_0 20 rfl rfl)
theorem dX3_fresh_21 : decode cX3_fresh 21 = .ok (.bipush 10, 2) := dk_16 10 (dk_at dksX3_fresh_0 21 rfl rfl)
theorem dX3_fresh_23 : decode cX3_fresh 23 = .ok (.iastore, 1) := dk_79 (dk_at dksX3_fresh_0 23 rfl rfl)
theorem dX3_fresh_24 : decode cX3_fresh 24 = .ok (.aload_n 0, 1) := dk_42 (dk_at dksX3_fresh_1 0 rfl rfl)
theorem dX3_fresh_25 : decode cX3_fresh 25 = .ok (.iconst 4, 1) := dk_7 (dk_at dksX3_fresh_1 1 rfl rfl)
theorem dX3_fresh_26 : decode cX3_fresh 26 = .ok (.iconst 3, 1) := dk_6 (dk_at dksX3_fresh_1 2 rfl rfl)
theorem dX3_fresh_27 : decode cX3_fresh 27 = .ok (.iastore, 1) := dk_79 (dk_at dksX3_fresh_1 3 rfl rfl)
theorem dX3_fresh_28 : decode cX3_fresh 28 = .ok (.return_, 1) := dk_177 (dk_at dksX3_fresh_1 4 rfl rfl)
abbrev cX3_thrown : ByteArray := prog_10_method_2_code
def yX3_thrown : MethodName := ⟨RX3, "thrown", "()I"⟩
theorem dX3_thrown_0 : decode cX3_thrown 0 = .ok (.aload_n 0, 1) := by decide +kernel
theorem dX3_thrown_1 : decode cX3_thrown 1 = .ok (.getfield 39, 3) := by decide +kernel
theorem dX3_thrown_4 : decode cX3_thrown 4 = .ok (.ireturn, 1) := by decide +kernel
abbrev cX3_append : ByteArray := prog_10_method_52_code
def yX3_append : MethodName := ⟨RX3, "append", "(I)I"⟩
def dkwX3_append_2 : List UInt8 := [27, 79, 42, 89, 180, 0, 147, 4, 96, 181, 0, 147, 42, 180, 0, 147, 172]
abbrev dktX3_append_2 : List UInt8 := dkwX3_append_2 ++ []
def dkwX3_append_1 : List UInt8 := [160, 0, 7, 5, 167, 0, 4, 3, 182, 0, 150, 153, 0, 5, 3, 172, 42, 180, 0, 29, 42, 180, 0, 147]
abbrev dktX3_append_1 : List UInt8 := dkwX3_append_1 ++ dktX3_append_2
def dkwX3_append_0 : List UInt8 := [42, 27, 133, 9, 20, 0, 145, 184, 0, 49, 154, 0, 7, 4, 167, 0, 17, 42, 180, 0, 147, 16, 120]
abbrev dktX3_append_0 : List UInt8 := dkwX3_append_0 ++ dktX3_append_1
theorem dksX3_append_0 : cX3_append.data.toList.drop 0 = dktX3_append_0 := by decide +kernel
theorem dksX3_append_1 : cX3_append.data.toList.drop 23 = dktX3_append_1 := dk_seg dksX3_append_0 23 rfl rfl
theorem dksX3_append_2 : cX3_append.data.toList.drop 47 = dktX3_append_2 := dk_seg dksX3_append_1 24 rfl rfl
theorem dX3_append_0 : decode cX3_append 0 = .ok (.aload_n 0, 1) := dk_42 (dk_at dksX3_append_0 0 rfl rfl)
theorem dX3_append_1 : decode cX3_append 1 = .ok (.iload_n 1, 1) := dk_27 (dk_at dksX3_append_0 1 rfl rfl)
theorem dX3_append_2 : decode cX3_append 2 = .ok (.i2l, 1) := dk_133 (dk_at dksX3_append_0 2 rfl rfl)
theorem dX3_append_3 : decode cX3_append 3 = .ok (.lconst 0, 1) := dk_9 (dk_at dksX3_append_0 3 rfl rfl)
theorem dX3_append_4 : decode cX3_append 4 = .ok (.ldc2_w 145, 3) := dk_20 0 145 (dk_at dksX3_append_0 4 rfl rfl)
theorem dX3_append_7 : decode cX3_append 7 = .ok (.invokestatic 49, 3) := dk_184 0 49 (dk_at dksX3_append_0 7 rfl rfl)
theorem dX3_append_10 : decode cX3_append 10 = .ok (.ifCond .ne 7, 3) := dk_154 0 7 (dk_at dksX3_append_0 10 rfl rfl)
theorem dX3_append_13 : decode cX3_append 13 = .ok (.iconst 1, 1) := dk_4 (dk_at dksX3_append_0 13 rfl rfl)
theorem dX3_append_14 : decode cX3_append 14 = .ok (.goto 17, 3) := dk_167 0 17 (dk_at dksX3_append_0 14 rfl rfl)
theorem dX3_append_17 : decode cX3_append 17 = .ok (.aload_n 0, 1) := dk_42 (dk_at dksX3_append_0 17 rfl rfl)
theorem dX3_append_18 : decode cX3_append 18 = .ok (.getfield 147, 3) := dk_180 0 147 (dk_at dksX3_append_0 18 rfl rfl)
theorem dX3_append_21 : decode cX3_append 21 = .ok (.bipush 120, 2) := dk_16 120 (dk_at dksX3_append_0 21 rfl rfl)
theorem dX3_append_23 : decode cX3_append 23 = .ok (.if_icmp .ne 7, 3) := dk_160 0 7 (dk_at dksX3_append_1 0 rfl rfl)
theorem dX3_append_26 : decode cX3_append 26 = .ok (.iconst 2, 1) := dk_5 (dk_at dksX3_append_1 3 rfl rfl)
theorem dX3_append_27 : decode cX3_append 27 = .ok (.goto 4, 3) := dk_167 0 4 (dk_at dksX3_append_1 4 rfl rfl)
theorem dX3_append_30 : decode cX3_append 30 = .ok (.iconst 0, 1) := dk_3 (dk_at dksX3_append_1 7 rfl rfl)
theorem dX3_append_31 : decode cX3_append 31 = .ok (.invokevirtual 150, 3) := dk_182 0 150 (dk_at dksX3_append_1 8 rfl rfl)
theorem dX3_append_34 : decode cX3_append 34 = .ok (.ifCond .eq 5, 3) := dk_153 0 5 (dk_at dksX3_append_1 11 rfl rfl)
theorem dX3_append_37 : decode cX3_append 37 = .ok (.iconst 0, 1) := dk_3 (dk_at dksX3_append_1 14 rfl rfl)
theorem dX3_append_38 : decode cX3_append 38 = .ok (.ireturn, 1) := dk_172 (dk_at dksX3_append_1 15 rfl rfl)
theorem dX3_append_39 : decode cX3_append 39 = .ok (.aload_n 0, 1) := dk_42 (dk_at dksX3_append_1 16 rfl rfl)
theorem dX3_append_40 : decode cX3_append 40 = .ok (.getfield 29, 3) := dk_180 0 29 (dk_at dksX3_append_1 17 rfl rfl)
theorem dX3_append_43 : decode cX3_append 43 = .ok (.aload_n 0, 1) := dk_42 (dk_at dksX3_append_1 20 rfl rfl)
theorem dX3_append_44 : decode cX3_append 44 = .ok (.getfield 147, 3) := dk_180 0 147 (dk_at dksX3_append_1 21 rfl rfl)
theorem dX3_append_47 : decode cX3_append 47 = .ok (.iload_n 1, 1) := dk_27 (dk_at dksX3_append_2 0 rfl rfl)
theorem dX3_append_48 : decode cX3_append 48 = .ok (.iastore, 1) := dk_79 (dk_at dksX3_append_2 1 rfl rfl)
theorem dX3_append_49 : decode cX3_append 49 = .ok (.aload_n 0, 1) := dk_42 (dk_at dksX3_append_2 2 rfl rfl)
theorem dX3_append_50 : decode cX3_append 50 = .ok (.dup, 1) := dk_89 (dk_at dksX3_append_2 3 rfl rfl)
theorem dX3_append_51 : decode cX3_append 51 = .ok (.getfield 147, 3) := dk_180 0 147 (dk_at dksX3_append_2 4 rfl rfl)
theorem dX3_append_54 : decode cX3_append 54 = .ok (.iconst 1, 1) := dk_4 (dk_at dksX3_append_2 7 rfl rfl)
theorem dX3_append_55 : decode cX3_append 55 = .ok (.iadd, 1) := dk_96 (dk_at dksX3_append_2 8 rfl rfl)
theorem dX3_append_56 : decode cX3_append 56 = .ok (.putfield 147, 3) := dk_181 0 147 (dk_at dksX3_append_2 9 rfl rfl)
theorem dX3_append_59 : decode cX3_append 59 = .ok (.aload_n 0, 1) := dk_42 (dk_at dksX3_append_2 12 rfl rfl)
theorem dX3_append_60 : decode cX3_append 60 = .ok (.getfield 147, 3) := dk_180 0 147 (dk_at dksX3_append_2 13 rfl rfl)
theorem dX3_append_63 : decode cX3_append 63 = .ok (.ireturn, 1) := dk_172 (dk_at dksX3_append_2 16 rfl rfl)
abbrev cX3_in : ByteArray := prog_10_method_4_code
def yX3_in : MethodName := ⟨RX3, "in", "(JJJ)Z"⟩
def dkwX3_in_0 : List UInt8 := [30, 32, 148, 155, 0, 14, 30, 22, 4, 148, 157, 0, 7, 4, 167, 0, 4, 3, 172]
abbrev dktX3_in_0 : List UInt8 := dkwX3_in_0 ++ []
theorem dksX3_in_0 : cX3_in.data.toList.drop 0 = dktX3_in_0 := by decide +kernel
theorem dX3_in_0 : decode cX3_in 0 = .ok (.lload_n 0, 1) := dk_30 (dk_at dksX3_in_0 0 rfl rfl)
theorem dX3_in_1 : decode cX3_in 1 = .ok (.lload_n 2, 1) := dk_32 (dk_at dksX3_in_0 1 rfl rfl)
theorem dX3_in_2 : decode cX3_in 2 = .ok (.lcmp, 1) := dk_148 (dk_at dksX3_in_0 2 rfl rfl)
theorem dX3_in_3 : decode cX3_in 3 = .ok (.ifCond .lt 14, 3) := dk_155 0 14 (dk_at dksX3_in_0 3 rfl rfl)
theorem dX3_in_6 : decode cX3_in 6 = .ok (.lload_n 0, 1) := dk_30 (dk_at dksX3_in_0 6 rfl rfl)
theorem dX3_in_7 : decode cX3_in 7 = .ok (.lload 4, 2) := dk_22 4 (dk_at dksX3_in_0 7 rfl rfl)
theorem dX3_in_9 : decode cX3_in 9 = .ok (.lcmp, 1) := dk_148 (dk_at dksX3_in_0 9 rfl rfl)
theorem dX3_in_10 : decode cX3_in 10 = .ok (.ifCond .gt 7, 3) := dk_157 0 7 (dk_at dksX3_in_0 10 rfl rfl)
theorem dX3_in_13 : decode cX3_in 13 = .ok (.iconst 1, 1) := dk_4 (dk_at dksX3_in_0 13 rfl rfl)
theorem dX3_in_14 : decode cX3_in 14 = .ok (.goto 4, 3) := dk_167 0 4 (dk_at dksX3_in_0 14 rfl rfl)
theorem dX3_in_17 : decode cX3_in 17 = .ok (.iconst 0, 1) := dk_3 (dk_at dksX3_in_0 17 rfl rfl)
theorem dX3_in_18 : decode cX3_in 18 = .ok (.ireturn, 1) := dk_172 (dk_at dksX3_in_0 18 rfl rfl)
abbrev cX3_refused : ByteArray := prog_10_method_3_code
def yX3_refused : MethodName := ⟨RX3, "refused", "(I)Z"⟩
def dkwX3_refused_0 : List UInt8 := [42, 27, 181, 0, 39, 27, 153, 0, 7, 4, 167, 0, 4, 3, 172]
abbrev dktX3_refused_0 : List UInt8 := dkwX3_refused_0 ++ []
theorem dksX3_refused_0 : cX3_refused.data.toList.drop 0 = dktX3_refused_0 := by decide +kernel
theorem dX3_refused_0 : decode cX3_refused 0 = .ok (.aload_n 0, 1) := dk_42 (dk_at dksX3_refused_0 0 rfl rfl)
theorem dX3_refused_1 : decode cX3_refused 1 = .ok (.iload_n 1, 1) := dk_27 (dk_at dksX3_refused_0 1 rfl rfl)
theorem dX3_refused_2 : decode cX3_refused 2 = .ok (.putfield 39, 3) := dk_181 0 39 (dk_at dksX3_refused_0 2 rfl rfl)
theorem dX3_refused_5 : decode cX3_refused 5 = .ok (.iload_n 1, 1) := dk_27 (dk_at dksX3_refused_0 5 rfl rfl)
theorem dX3_refused_6 : decode cX3_refused 6 = .ok (.ifCond .eq 7, 3) := dk_153 0 7 (dk_at dksX3_refused_0 6 rfl rfl)
theorem dX3_refused_9 : decode cX3_refused 9 = .ok (.iconst 1, 1) := dk_4 (dk_at dksX3_refused_0 9 rfl rfl)
theorem dX3_refused_10 : decode cX3_refused 10 = .ok (.goto 4, 3) := dk_167 0 4 (dk_at dksX3_refused_0 10 rfl rfl)
theorem dX3_refused_13 : decode cX3_refused 13 = .ok (.iconst 0, 1) := dk_3 (dk_at dksX3_refused_0 13 rfl rfl)
theorem dX3_refused_14 : decode cX3_refused 14 = .ok (.ireturn, 1) := dk_172 (dk_at dksX3_refused_0 14 rfl rfl)
abbrev cX3_clearText : ByteArray := prog_10_method_53_code
def yX3_clearText : MethodName := ⟨RX3, "clearText", "()I"⟩
def dkwX3_clearText_0 : List UInt8 := [42, 3, 181, 0, 39, 42, 180, 0, 147, 60, 42, 3, 181, 0, 147, 27, 172]
abbrev dktX3_clearText_0 : List UInt8 := dkwX3_clearText_0 ++ []
theorem dksX3_clearText_0 : cX3_clearText.data.toList.drop 0 = dktX3_clearText_0 := by decide +kernel
theorem dX3_clearText_0 : decode cX3_clearText 0 = .ok (.aload_n 0, 1) := dk_42 (dk_at dksX3_clearText_0 0 rfl rfl)
theorem dX3_clearText_1 : decode cX3_clearText 1 = .ok (.iconst 0, 1) := dk_3 (dk_at dksX3_clearText_0 1 rfl rfl)
theorem dX3_clearText_2 : decode cX3_clearText 2 = .ok (.putfield 39, 3) := dk_181 0 39 (dk_at dksX3_clearText_0 2 rfl rfl)
theorem dX3_clearText_5 : decode cX3_clearText 5 = .ok (.aload_n 0, 1) := dk_42 (dk_at dksX3_clearText_0 5 rfl rfl)
theorem dX3_clearText_6 : decode cX3_clearText 6 = .ok (.getfield 147, 3) := dk_180 0 147 (dk_at dksX3_clearText_0 6 rfl rfl)
theorem dX3_clearText_9 : decode cX3_clearText 9 = .ok (.istore_n 1, 1) := dk_60 (dk_at dksX3_clearText_0 9 rfl rfl)
theorem dX3_clearText_10 : decode cX3_clearText 10 = .ok (.aload_n 0, 1) := dk_42 (dk_at dksX3_clearText_0 10 rfl rfl)
theorem dX3_clearText_11 : decode cX3_clearText 11 = .ok (.iconst 0, 1) := dk_3 (dk_at dksX3_clearText_0 11 rfl rfl)
theorem dX3_clearText_12 : decode cX3_clearText 12 = .ok (.putfield 147, 3) := dk_181 0 147 (dk_at dksX3_clearText_0 12 rfl rfl)
theorem dX3_clearText_15 : decode cX3_clearText 15 = .ok (.iload_n 1, 1) := dk_27 (dk_at dksX3_clearText_0 15 rfl rfl)
theorem dX3_clearText_16 : decode cX3_clearText 16 = .ok (.ireturn, 1) := dk_172 (dk_at dksX3_clearText_0 16 rfl rfl)
abbrev cX3_errorPosition : ByteArray := prog_10_method_68_code
def yX3_errorPosition : MethodName := ⟨RX3, "errorPosition", "()I"⟩
def dkwX3_errorPosition_0 : List UInt8 := [42, 3, 181, 0, 39, 42, 182, 0, 239, 172]
abbrev dktX3_errorPosition_0 : List UInt8 := dkwX3_errorPosition_0 ++ []
theorem dksX3_errorPosition_0 : cX3_errorPosition.data.toList.drop 0 = dktX3_errorPosition_0 := by decide +kernel
theorem dX3_errorPosition_0 : decode cX3_errorPosition 0 = .ok (.aload_n 0, 1) := dk_42 (dk_at dksX3_errorPosition_0 0 rfl rfl)
theorem dX3_errorPosition_1 : decode cX3_errorPosition 1 = .ok (.iconst 0, 1) := dk_3 (dk_at dksX3_errorPosition_0 1 rfl rfl)
theorem dX3_errorPosition_2 : decode cX3_errorPosition 2 = .ok (.putfield 39, 3) := dk_181 0 39 (dk_at dksX3_errorPosition_0 2 rfl rfl)
theorem dX3_errorPosition_5 : decode cX3_errorPosition 5 = .ok (.aload_n 0, 1) := dk_42 (dk_at dksX3_errorPosition_0 5 rfl rfl)
theorem dX3_errorPosition_6 : decode cX3_errorPosition 6 = .ok (.invokevirtual 239, 3) := dk_182 0 239 (dk_at dksX3_errorPosition_0 6 rfl rfl)
theorem dX3_errorPosition_9 : decode cX3_errorPosition 9 = .ok (.ireturn, 1) := dk_172 (dk_at dksX3_errorPosition_0 9 rfl rfl)
abbrev cX3_readAll : ByteArray := prog_10_method_67_code
def yX3_readAll : MethodName := ⟨RX3, "readAll", "()I"⟩
def dkwX3_readAll_3 : List UInt8 := [180, 0, 156, 153, 0, 7, 2, 167, 0, 7, 42, 180, 0, 153, 172]
abbrev dktX3_readAll_3 : List UInt8 := dkwX3_readAll_3 ++ []
def dkwX3_readAll_2 : List UInt8 := [182, 0, 160, 16, 59, 160, 0, 7, 4, 167, 0, 4, 3, 182, 0, 164, 42, 182, 0, 236, 167, 255, 216, 42]
abbrev dktX3_readAll_2 : List UInt8 := dkwX3_readAll_2 ++ dktX3_readAll_3
def dkwX3_readAll_1 : List UInt8 := [182, 0, 236, 42, 180, 0, 156, 153, 0, 39, 42, 180, 0, 153, 42, 180, 0, 147, 162, 0, 28, 42, 42]
abbrev dktX3_readAll_1 : List UInt8 := dkwX3_readAll_1 ++ dktX3_readAll_2
def dkwX3_readAll_0 : List UInt8 := [42, 3, 181, 0, 153, 42, 4, 181, 0, 156, 42, 3, 181, 0, 172, 42, 180, 0, 16, 184, 0, 35, 42]
abbrev dktX3_readAll_0 : List UInt8 := dkwX3_readAll_0 ++ dktX3_readAll_1
theorem dksX3_readAll_0 : cX3_readAll.data.toList.drop 0 = dktX3_readAll_0 := by decide +kernel
theorem dksX3_readAll_1 : cX3_readAll.data.toList.drop 23 = dktX3_readAll_1 := dk_seg dksX3_readAll_0 23 rfl rfl
theorem dksX3_readAll_2 : cX3_readAll.data.toList.drop 46 = dktX3_readAll_2 := dk_seg dksX3_readAll_1 23 rfl rfl
theorem dksX3_readAll_3 : cX3_readAll.data.toList.drop 70 = dktX3_readAll_3 := dk_seg dksX3_readAll_2 24 rfl rfl
theorem dX3_readAll_0 : decode cX3_readAll 0 = .ok (.aload_n 0, 1) := dk_42 (dk_at dksX3_readAll_0 0 rfl rfl)
theorem dX3_readAll_1 : decode cX3_readAll 1 = .ok (.iconst 0, 1) := dk_3 (dk_at dksX3_readAll_0 1 rfl rfl)
theorem dX3_readAll_2 : decode cX3_readAll 2 = .ok (.putfield 153, 3) := dk_181 0 153 (dk_at dksX3_readAll_0 2 rfl rfl)
theorem dX3_readAll_5 : decode cX3_readAll 5 = .ok (.aload_n 0, 1) := dk_42 (dk_at dksX3_readAll_0 5 rfl rfl)
theorem dX3_readAll_6 : decode cX3_readAll 6 = .ok (.iconst 1, 1) := dk_4 (dk_at dksX3_readAll_0 6 rfl rfl)
theorem dX3_readAll_7 : decode cX3_readAll 7 = .ok (.putfield 156, 3) := dk_181 0 156 (dk_at dksX3_readAll_0 7 rfl rfl)
theorem dX3_readAll_10 : decode cX3_readAll 10 = .ok (.aload_n 0, 1) := dk_42 (dk_at dksX3_readAll_0 10 rfl rfl)
theorem dX3_readAll_11 : decode cX3_readAll 11 = .ok (.iconst 0, 1) := dk_3 (dk_at dksX3_readAll_0 11 rfl rfl)
theorem dX3_readAll_12 : decode cX3_readAll 12 = .ok (.putfield 172, 3) := dk_181 0 172 (dk_at dksX3_readAll_0 12 rfl rfl)
theorem dX3_readAll_15 : decode cX3_readAll 15 = .ok (.aload_n 0, 1) := dk_42 (dk_at dksX3_readAll_0 15 rfl rfl)
theorem dX3_readAll_16 : decode cX3_readAll 16 = .ok (.getfield 16, 3) := dk_180 0 16 (dk_at dksX3_readAll_0 16 rfl rfl)
theorem dX3_readAll_19 : decode cX3_readAll 19 = .ok (.invokestatic 35, 3) := dk_184 0 35 (dk_at dksX3_readAll_0 19 rfl rfl)
theorem dX3_readAll_22 : decode cX3_readAll 22 = .ok (.aload_n 0, 1) := dk_42 (dk_at dksX3_readAll_0 22 rfl rfl)
theorem dX3_readAll_23 : decode cX3_readAll 23 = .ok (.invokevirtual 236, 3) := dk_182 0 236 (dk_at dksX3_readAll_1 0 rfl rfl)
theorem dX3_readAll_26 : decode cX3_readAll 26 = .ok (.aload_n 0, 1) := dk_42 (dk_at dksX3_readAll_1 3 rfl rfl)
theorem dX3_readAll_27 : decode cX3_readAll 27 = .ok (.getfield 156, 3) := dk_180 0 156 (dk_at dksX3_readAll_1 4 rfl rfl)
theorem dX3_readAll_30 : decode cX3_readAll 30 = .ok (.ifCond .eq 39, 3) := dk_153 0 39 (dk_at dksX3_readAll_1 7 rfl rfl)
theorem dX3_readAll_33 : decode cX3_readAll 33 = .ok (.aload_n 0, 1) := dk_42 (dk_at dksX3_readAll_1 10 rfl rfl)
theorem dX3_readAll_34 : decode cX3_readAll 34 = .ok (.getfield 153, 3) := dk_180 0 153 (dk_at dksX3_readAll_1 11 rfl rfl)
theorem dX3_readAll_37 : decode cX3_readAll 37 = .ok (.aload_n 0, 1) := dk_42 (dk_at dksX3_readAll_1 14 rfl rfl)
theorem dX3_readAll_38 : decode cX3_readAll 38 = .ok (.getfield 147, 3) := dk_180 0 147 (dk_at dksX3_readAll_1 15 rfl rfl)
theorem dX3_readAll_41 : decode cX3_readAll 41 = .ok (.if_icmp .ge 28, 3) := dk_162 0 28 (dk_at dksX3_readAll_1 18 rfl rfl)
theorem dX3_readAll_44 : decode cX3_readAll 44 = .ok (.aload_n 0, 1) := dk_42 (dk_at dksX3_readAll_1 21 rfl rfl)
theorem dX3_readAll_45 : decode cX3_readAll 45 = .ok (.aload_n 0, 1) := dk_42 (dk_at dksX3_readAll_1 22 rfl rfl)
theorem dX3_readAll_46 : decode cX3_readAll 46 = .ok (.invokevirtual 160, 3) := dk_182 0 160 (dk_at dksX3_readAll_2 0 rfl rfl)
theorem dX3_readAll_49 : decode cX3_readAll 49 = .ok (.bipush 59, 2) := dk_16 59 (dk_at dksX3_readAll_2 3 rfl rfl)
theorem dX3_readAll_51 : decode cX3_readAll 51 = .ok (.if_icmp .ne 7, 3) := dk_160 0 7 (dk_at dksX3_readAll_2 5 rfl rfl)
theorem dX3_readAll_54 : decode cX3_readAll 54 = .ok (.iconst 1, 1) := dk_4 (dk_at dksX3_readAll_2 8 rfl rfl)
theorem dX3_readAll_55 : decode cX3_readAll 55 = .ok (.goto 4, 3) := dk_167 0 4 (dk_at dksX3_readAll_2 9 rfl rfl)
theorem dX3_readAll_58 : decode cX3_readAll 58 = .ok (.iconst 0, 1) := dk_3 (dk_at dksX3_readAll_2 12 rfl rfl)
theorem dX3_readAll_59 : decode cX3_readAll 59 = .ok (.invokevirtual 164, 3) := dk_182 0 164 (dk_at dksX3_readAll_2 13 rfl rfl)
theorem dX3_readAll_62 : decode cX3_readAll 62 = .ok (.aload_n 0, 1) := dk_42 (dk_at dksX3_readAll_2 16 rfl rfl)
theorem dX3_readAll_63 : decode cX3_readAll 63 = .ok (.invokevirtual 236, 3) := dk_182 0 236 (dk_at dksX3_readAll_2 17 rfl rfl)
theorem dX3_readAll_66 : decode cX3_readAll 66 = .ok (.goto (-40), 3) := dk_167 255 216 (dk_at dksX3_readAll_2 20 rfl rfl)
theorem dX3_readAll_69 : decode cX3_readAll 69 = .ok (.aload_n 0, 1) := dk_42 (dk_at dksX3_readAll_2 23 rfl rfl)
theorem dX3_readAll_70 : decode cX3_readAll 70 = .ok (.getfield 156, 3) := dk_180 0 156 (dk_at dksX3_readAll_3 0 rfl rfl)
theorem dX3_readAll_73 : decode cX3_readAll 73 = .ok (.ifCond .eq 7, 3) := dk_153 0 7 (dk_at dksX3_readAll_3 3 rfl rfl)
theorem dX3_readAll_76 : decode cX3_readAll 76 = .ok (.iconst (-1), 1) := dk_2 (dk_at dksX3_readAll_3 6 rfl rfl)
theorem dX3_readAll_77 : decode cX3_readAll 77 = .ok (.goto 7, 3) := dk_167 0 7 (dk_at dksX3_readAll_3 7 rfl rfl)
theorem dX3_readAll_80 : decode cX3_readAll 80 = .ok (.aload_n 0, 1) := dk_42 (dk_at dksX3_readAll_3 10 rfl rfl)
theorem dX3_readAll_81 : decode cX3_readAll 81 = .ok (.getfield 153, 3) := dk_180 0 153 (dk_at dksX3_readAll_3 11 rfl rfl)
theorem dX3_readAll_84 : decode cX3_readAll 84 = .ok (.ireturn, 1) := dk_172 (dk_at dksX3_readAll_3 14 rfl rfl)
abbrev cX3_readEntry : ByteArray := prog_10_method_66_code
def yX3_readEntry : MethodName := ⟨RX3, "readEntry", "()V"⟩
def dkwX3_readEntry_5 : List UInt8 := [182, 0, 229, 167, 0, 18, 42, 27, 16, 119, 160, 0, 7, 3, 167, 0, 4, 4, 182, 0, 232, 177]
abbrev dktX3_readEntry_5 : List UInt8 := dkwX3_readEntry_5 ++ []
def dkwX3_readEntry_4 : List UInt8 := [42, 182, 0, 220, 167, 0, 39, 42, 182, 0, 223, 167, 0, 32, 42, 182, 0, 226, 167, 0, 25, 42]
abbrev dktX3_readEntry_4 : List UInt8 := dkwX3_readEntry_4 ++ dktX3_readEntry_5
def dkwX3_readEntry_3 : List UInt8 := [171, 0, 0, 0, 0, 70, 0, 0, 0, 4, 0, 0, 0, 100, 0, 0, 0, 49, 0, 0, 0, 104, 0, 0, 0, 63, 0, 0, 0, 107, 0, 0, 0, 56, 0, 0, 0, 114, 0, 0, 0, 42]
abbrev dktX3_readEntry_3 : List UInt8 := dkwX3_readEntry_3 ++ dktX3_readEntry_4
def dkwX3_readEntry_2 : List UInt8 := [182, 0, 164, 42, 180, 0, 156, 153, 0, 89, 27]
abbrev dktX3_readEntry_2 : List UInt8 := dkwX3_readEntry_2 ++ dktX3_readEntry_3
def dkwX3_readEntry_1 : List UInt8 := [27, 16, 119, 159, 0, 15, 27, 16, 98, 159, 0, 9, 27, 16, 104, 160, 0, 7, 4, 167, 0, 4, 3]
abbrev dktX3_readEntry_1 : List UInt8 := dkwX3_readEntry_1 ++ dktX3_readEntry_2
def dkwX3_readEntry_0 : List UInt8 := [42, 182, 0, 160, 60, 42, 27, 16, 114, 159, 0, 33, 27, 16, 100, 159, 0, 27, 27, 16, 107, 159, 0, 21]
abbrev dktX3_readEntry_0 : List UInt8 := dkwX3_readEntry_0 ++ dktX3_readEntry_1
theorem dksX3_readEntry_0 : cX3_readEntry.data.toList.drop 0 = dktX3_readEntry_0 := by decide +kernel
theorem dksX3_readEntry_1 : cX3_readEntry.data.toList.drop 24 = dktX3_readEntry_1 := dk_seg dksX3_readEntry_0 24 rfl rfl
theorem dksX3_readEntry_2 : cX3_readEntry.data.toList.drop 47 = dktX3_readEntry_2 := dk_seg dksX3_readEntry_1 23 rfl rfl
theorem dksX3_readEntry_3 : cX3_readEntry.data.toList.drop 58 = dktX3_readEntry_3 := dk_seg dksX3_readEntry_2 11 rfl rfl
theorem dksX3_readEntry_4 : cX3_readEntry.data.toList.drop 100 = dktX3_readEntry_4 := dk_seg dksX3_readEntry_3 42 rfl rfl
theorem dksX3_readEntry_5 : cX3_readEntry.data.toList.drop 122 = dktX3_readEntry_5 := dk_seg dksX3_readEntry_4 22 rfl rfl
theorem dX3_readEntry_0 : decode cX3_readEntry 0 = .ok (.aload_n 0, 1) := dk_42 (dk_at dksX3_readEntry_0 0 rfl rfl)
theorem dX3_readEntry_1 : decode cX3_readEntry 1 = .ok (.invokevirtual 160, 3) := dk_182 0 160 (dk_at dksX3_readEntry_0 1 rfl rfl)
theorem dX3_readEntry_4 : decode cX3_readEntry 4 = .ok (.istore_n 1, 1) := dk_60 (dk_at dksX3_readEntry_0 4 rfl rfl)
theorem dX3_readEntry_5 : decode cX3_readEntry 5 = .ok (.aload_n 0, 1) := dk_42 (dk_at dksX3_readEntry_0 5 rfl rfl)
theorem dX3_readEntry_6 : decode cX3_readEntry 6 = .ok (.iload_n 1, 1) := dk_27 (dk_at dksX3_readEntry_0 6 rfl rfl)
theorem dX3_readEntry_7 : decode cX3_readEntry 7 = .ok (.bipush 114, 2) := dk_16 114 (dk_at dksX3_readEntry_0 7 rfl rfl)
theorem dX3_readEntry_9 : decode cX3_readEntry 9 = .ok (.if_icmp .eq 33, 3) := dk_159 0 33 (dk_at dksX3_readEntry_0 9 rfl rfl)
theorem dX3_readEntry_12 : decode cX3_readEntry 12 = .ok (.iload_n 1, 1) := dk_27 (dk_at dksX3_readEntry_0 12 rfl rfl)
theorem dX3_readEntry_13 : decode cX3_readEntry 13 = .ok (.bipush 100, 2) := dk_16 100 (dk_at dksX3_readEntry_0 13 rfl rfl)
theorem dX3_readEntry_15 : decode cX3_readEntry 15 = .ok (.if_icmp .eq 27, 3) := dk_159 0 27 (dk_at dksX3_readEntry_0 15 rfl rfl)
theorem dX3_readEntry_18 : decode cX3_readEntry 18 = .ok (.iload_n 1, 1) := dk_27 (dk_at dksX3_readEntry_0 18 rfl rfl)
theorem dX3_readEntry_19 : decode cX3_readEntry 19 = .ok (.bipush 107, 2) := dk_16 107 (dk_at dksX3_readEntry_0 19 rfl rfl)
theorem dX3_readEntry_21 : decode cX3_readEntry 21 = .ok (.if_icmp .eq 21, 3) := dk_159 0 21 (dk_at dksX3_readEntry_0 21 rfl rfl)
theorem dX3_readEntry_24 : decode cX3_readEntry 24 = .ok (.iload_n 1, 1) := dk_27 (dk_at dksX3_readEntry_1 0 rfl rfl)
theorem dX3_readEntry_25 : decode cX3_readEntry 25 = .ok (.bipush 119, 2) := dk_16 119 (dk_at dksX3_readEntry_1 1 rfl rfl)
theorem dX3_readEntry_27 : decode cX3_readEntry 27 = .ok (.if_icmp .eq 15, 3) := dk_159 0 15 (dk_at dksX3_readEntry_1 3 rfl rfl)
theorem dX3_readEntry_30 : decode cX3_readEntry 30 = .ok (.iload_n 1, 1) := dk_27 (dk_at dksX3_readEntry_1 6 rfl rfl)
theorem dX3_readEntry_31 : decode cX3_readEntry 31 = .ok (.bipush 98, 2) := dk_16 98 (dk_at dksX3_readEntry_1 7 rfl rfl)
theorem dX3_readEntry_33 : decode cX3_readEntry 33 = .ok (.if_icmp .eq 9, 3) := dk_159 0 9 (dk_at dksX3_readEntry_1 9 rfl rfl)
theorem dX3_readEntry_36 : decode cX3_readEntry 36 = .ok (.iload_n 1, 1) := dk_27 (dk_at dksX3_readEntry_1 12 rfl rfl)
theorem dX3_readEntry_37 : decode cX3_readEntry 37 = .ok (.bipush 104, 2) := dk_16 104 (dk_at dksX3_readEntry_1 13 rfl rfl)
theorem dX3_readEntry_39 : decode cX3_readEntry 39 = .ok (.if_icmp .ne 7, 3) := dk_160 0 7 (dk_at dksX3_readEntry_1 15 rfl rfl)
theorem dX3_readEntry_42 : decode cX3_readEntry 42 = .ok (.iconst 1, 1) := dk_4 (dk_at dksX3_readEntry_1 18 rfl rfl)
theorem dX3_readEntry_43 : decode cX3_readEntry 43 = .ok (.goto 4, 3) := dk_167 0 4 (dk_at dksX3_readEntry_1 19 rfl rfl)
theorem dX3_readEntry_46 : decode cX3_readEntry 46 = .ok (.iconst 0, 1) := dk_3 (dk_at dksX3_readEntry_1 22 rfl rfl)
theorem dX3_readEntry_47 : decode cX3_readEntry 47 = .ok (.invokevirtual 164, 3) := dk_182 0 164 (dk_at dksX3_readEntry_2 0 rfl rfl)
theorem dX3_readEntry_50 : decode cX3_readEntry 50 = .ok (.aload_n 0, 1) := dk_42 (dk_at dksX3_readEntry_2 3 rfl rfl)
theorem dX3_readEntry_51 : decode cX3_readEntry 51 = .ok (.getfield 156, 3) := dk_180 0 156 (dk_at dksX3_readEntry_2 4 rfl rfl)
theorem dX3_readEntry_54 : decode cX3_readEntry 54 = .ok (.ifCond .eq 89, 3) := dk_153 0 89 (dk_at dksX3_readEntry_2 7 rfl rfl)
theorem dX3_readEntry_57 : decode cX3_readEntry 57 = .ok (.iload_n 1, 1) := dk_27 (dk_at dksX3_readEntry_2 10 rfl rfl)
theorem dX3_readEntry_58 : decode cX3_readEntry 58 = .ok (.lookupswitch 70 #[(100, 49), (104, 63), (107, 56), (114, 42)], 42) := by decide +kernel
theorem dX3_readEntry_100 : decode cX3_readEntry 100 = .ok (.aload_n 0, 1) := dk_42 (dk_at dksX3_readEntry_4 0 rfl rfl)
theorem dX3_readEntry_101 : decode cX3_readEntry 101 = .ok (.invokevirtual 220, 3) := dk_182 0 220 (dk_at dksX3_readEntry_4 1 rfl rfl)
theorem dX3_readEntry_104 : decode cX3_readEntry 104 = .ok (.goto 39, 3) := dk_167 0 39 (dk_at dksX3_readEntry_4 4 rfl rfl)
theorem dX3_readEntry_107 : decode cX3_readEntry 107 = .ok (.aload_n 0, 1) := dk_42 (dk_at dksX3_readEntry_4 7 rfl rfl)
theorem dX3_readEntry_108 : decode cX3_readEntry 108 = .ok (.invokevirtual 223, 3) := dk_182 0 223 (dk_at dksX3_readEntry_4 8 rfl rfl)
theorem dX3_readEntry_111 : decode cX3_readEntry 111 = .ok (.goto 32, 3) := dk_167 0 32 (dk_at dksX3_readEntry_4 11 rfl rfl)
theorem dX3_readEntry_114 : decode cX3_readEntry 114 = .ok (.aload_n 0, 1) := dk_42 (dk_at dksX3_readEntry_4 14 rfl rfl)
theorem dX3_readEntry_115 : decode cX3_readEntry 115 = .ok (.invokevirtual 226, 3) := dk_182 0 226 (dk_at dksX3_readEntry_4 15 rfl rfl)
theorem dX3_readEntry_118 : decode cX3_readEntry 118 = .ok (.goto 25, 3) := dk_167 0 25 (dk_at dksX3_readEntry_4 18 rfl rfl)
theorem dX3_readEntry_121 : decode cX3_readEntry 121 = .ok (.aload_n 0, 1) := dk_42 (dk_at dksX3_readEntry_4 21 rfl rfl)
theorem dX3_readEntry_122 : decode cX3_readEntry 122 = .ok (.invokevirtual 229, 3) := dk_182 0 229 (dk_at dksX3_readEntry_5 0 rfl rfl)
theorem dX3_readEntry_125 : decode cX3_readEntry 125 = .ok (.goto 18, 3) := dk_167 0 18 (dk_at dksX3_readEntry_5 3 rfl rfl)
theorem dX3_readEntry_128 : decode cX3_readEntry 128 = .ok (.aload_n 0, 1) := dk_42 (dk_at dksX3_readEntry_5 6 rfl rfl)
theorem dX3_readEntry_129 : decode cX3_readEntry 129 = .ok (.iload_n 1, 1) := dk_27 (dk_at dksX3_readEntry_5 7 rfl rfl)
theorem dX3_readEntry_130 : decode cX3_readEntry 130 = .ok (.bipush 119, 2) := dk_16 119 (dk_at dksX3_readEntry_5 8 rfl rfl)
theorem dX3_readEntry_132 : decode cX3_readEntry 132 = .ok (.if_icmp .ne 7, 3) := dk_160 0 7 (dk_at dksX3_readEntry_5 10 rfl rfl)
theorem dX3_readEntry_135 : decode cX3_readEntry 135 = .ok (.iconst 0, 1) := dk_3 (dk_at dksX3_readEntry_5 13 rfl rfl)
theorem dX3_readEntry_136 : decode cX3_readEntry 136 = .ok (.goto 4, 3) := dk_167 0 4 (dk_at dksX3_readEntry_5 14 rfl rfl)
theorem dX3_readEntry_139 : decode cX3_readEntry 139 = .ok (.iconst 1, 1) := dk_4 (dk_at dksX3_readEntry_5 17 rfl rfl)
theorem dX3_readEntry_140 : decode cX3_readEntry 140 = .ok (.invokevirtual 232, 3) := dk_182 0 232 (dk_at dksX3_readEntry_5 18 rfl rfl)
theorem dX3_readEntry_143 : decode cX3_readEntry 143 = .ok (.return_, 1) := dk_177 (dk_at dksX3_readEntry_5 21 rfl rfl)
abbrev cX3_here : ByteArray := prog_10_method_54_code
def yX3_here : MethodName := ⟨RX3, "here", "()I"⟩
def dkwX3_here_1 : List UInt8 := [172]
abbrev dktX3_here_1 : List UInt8 := dkwX3_here_1 ++ []
def dkwX3_here_0 : List UInt8 := [42, 180, 0, 153, 42, 180, 0, 147, 162, 0, 15, 42, 180, 0, 29, 42, 180, 0, 153, 46, 167, 0, 4, 2]
abbrev dktX3_here_0 : List UInt8 := dkwX3_here_0 ++ dktX3_here_1
theorem dksX3_here_0 : cX3_here.data.toList.drop 0 = dktX3_here_0 := by decide +kernel
theorem dksX3_here_1 : cX3_here.data.toList.drop 24 = dktX3_here_1 := dk_seg dksX3_here_0 24 rfl rfl
theorem dX3_here_0 : decode cX3_here 0 = .ok (.aload_n 0, 1) := dk_42 (dk_at dksX3_here_0 0 rfl rfl)
theorem dX3_here_1 : decode cX3_here 1 = .ok (.getfield 153, 3) := dk_180 0 153 (dk_at dksX3_here_0 1 rfl rfl)
theorem dX3_here_4 : decode cX3_here 4 = .ok (.aload_n 0, 1) := dk_42 (dk_at dksX3_here_0 4 rfl rfl)
theorem dX3_here_5 : decode cX3_here 5 = .ok (.getfield 147, 3) := dk_180 0 147 (dk_at dksX3_here_0 5 rfl rfl)
theorem dX3_here_8 : decode cX3_here 8 = .ok (.if_icmp .ge 15, 3) := dk_162 0 15 (dk_at dksX3_here_0 8 rfl rfl)
theorem dX3_here_11 : decode cX3_here 11 = .ok (.aload_n 0, 1) := dk_42 (dk_at dksX3_here_0 11 rfl rfl)
theorem dX3_here_12 : decode cX3_here 12 = .ok (.getfield 29, 3) := dk_180 0 29 (dk_at dksX3_here_0 12 rfl rfl)
theorem dX3_here_15 : decode cX3_here 15 = .ok (.aload_n 0, 1) := dk_42 (dk_at dksX3_here_0 15 rfl rfl)
theorem dX3_here_16 : decode cX3_here 16 = .ok (.getfield 153, 3) := dk_180 0 153 (dk_at dksX3_here_0 16 rfl rfl)
theorem dX3_here_19 : decode cX3_here 19 = .ok (.iaload, 1) := dk_46 (dk_at dksX3_here_0 19 rfl rfl)
theorem dX3_here_20 : decode cX3_here 20 = .ok (.goto 4, 3) := dk_167 0 4 (dk_at dksX3_here_0 20 rfl rfl)
theorem dX3_here_23 : decode cX3_here 23 = .ok (.iconst (-1), 1) := dk_2 (dk_at dksX3_here_0 23 rfl rfl)
theorem dX3_here_24 : decode cX3_here 24 = .ok (.ireturn, 1) := dk_172 (dk_at dksX3_here_1 0 rfl rfl)
abbrev cX3_eat : ByteArray := prog_10_method_55_code
def yX3_eat : MethodName := ⟨RX3, "eat", "(Z)V"⟩
def dkwX3_eat_1 : List UInt8 := [180, 0, 153, 42, 180, 0, 156, 153, 0, 7, 4, 167, 0, 4, 3, 96, 181, 0, 153, 177]
abbrev dktX3_eat_1 : List UInt8 := dkwX3_eat_1 ++ []
def dkwX3_eat_0 : List UInt8 := [42, 42, 180, 0, 156, 153, 0, 11, 27, 153, 0, 7, 4, 167, 0, 4, 3, 181, 0, 156, 42, 89]
abbrev dktX3_eat_0 : List UInt8 := dkwX3_eat_0 ++ dktX3_eat_1
theorem dksX3_eat_0 : cX3_eat.data.toList.drop 0 = dktX3_eat_0 := by decide +kernel
theorem dksX3_eat_1 : cX3_eat.data.toList.drop 22 = dktX3_eat_1 := dk_seg dksX3_eat_0 22 rfl rfl
theorem dX3_eat_0 : decode cX3_eat 0 = .ok (.aload_n 0, 1) := dk_42 (dk_at dksX3_eat_0 0 rfl rfl)
theorem dX3_eat_1 : decode cX3_eat 1 = .ok (.aload_n 0, 1) := dk_42 (dk_at dksX3_eat_0 1 rfl rfl)
theorem dX3_eat_2 : decode cX3_eat 2 = .ok (.getfield 156, 3) := dk_180 0 156 (dk_at dksX3_eat_0 2 rfl rfl)
theorem dX3_eat_5 : decode cX3_eat 5 = .ok (.ifCond .eq 11, 3) := dk_153 0 11 (dk_at dksX3_eat_0 5 rfl rfl)
theorem dX3_eat_8 : decode cX3_eat 8 = .ok (.iload_n 1, 1) := dk_27 (dk_at dksX3_eat_0 8 rfl rfl)
theorem dX3_eat_9 : decode cX3_eat 9 = .ok (.ifCond .eq 7, 3) := dk_153 0 7 (dk_at dksX3_eat_0 9 rfl rfl)
theorem dX3_eat_12 : decode cX3_eat 12 = .ok (.iconst 1, 1) := dk_4 (dk_at dksX3_eat_0 12 rfl rfl)
theorem dX3_eat_13 : decode cX3_eat 13 = .ok (.goto 4, 3) := dk_167 0 4 (dk_at dksX3_eat_0 13 rfl rfl)
theorem dX3_eat_16 : decode cX3_eat 16 = .ok (.iconst 0, 1) := dk_3 (dk_at dksX3_eat_0 16 rfl rfl)
theorem dX3_eat_17 : decode cX3_eat 17 = .ok (.putfield 156, 3) := dk_181 0 156 (dk_at dksX3_eat_0 17 rfl rfl)
theorem dX3_eat_20 : decode cX3_eat 20 = .ok (.aload_n 0, 1) := dk_42 (dk_at dksX3_eat_0 20 rfl rfl)
theorem dX3_eat_21 : decode cX3_eat 21 = .ok (.dup, 1) := dk_89 (dk_at dksX3_eat_0 21 rfl rfl)
theorem dX3_eat_22 : decode cX3_eat 22 = .ok (.getfield 153, 3) := dk_180 0 153 (dk_at dksX3_eat_1 0 rfl rfl)
theorem dX3_eat_25 : decode cX3_eat 25 = .ok (.aload_n 0, 1) := dk_42 (dk_at dksX3_eat_1 3 rfl rfl)
theorem dX3_eat_26 : decode cX3_eat 26 = .ok (.getfield 156, 3) := dk_180 0 156 (dk_at dksX3_eat_1 4 rfl rfl)
theorem dX3_eat_29 : decode cX3_eat 29 = .ok (.ifCond .eq 7, 3) := dk_153 0 7 (dk_at dksX3_eat_1 7 rfl rfl)
theorem dX3_eat_32 : decode cX3_eat 32 = .ok (.iconst 1, 1) := dk_4 (dk_at dksX3_eat_1 10 rfl rfl)
theorem dX3_eat_33 : decode cX3_eat 33 = .ok (.goto 4, 3) := dk_167 0 4 (dk_at dksX3_eat_1 11 rfl rfl)
theorem dX3_eat_36 : decode cX3_eat 36 = .ok (.iconst 0, 1) := dk_3 (dk_at dksX3_eat_1 14 rfl rfl)
theorem dX3_eat_37 : decode cX3_eat 37 = .ok (.iadd, 1) := dk_96 (dk_at dksX3_eat_1 15 rfl rfl)
theorem dX3_eat_38 : decode cX3_eat 38 = .ok (.putfield 153, 3) := dk_181 0 153 (dk_at dksX3_eat_1 16 rfl rfl)
theorem dX3_eat_41 : decode cX3_eat 41 = .ok (.return_, 1) := dk_177 (dk_at dksX3_eat_1 19 rfl rfl)
abbrev cX3_readReign : ByteArray := prog_10_method_60_code
def yX3_readReign : MethodName := ⟨RX3, "readReign", "()V"⟩
def dkwX3_readReign_2 : List UInt8 := [27, 29, 184, 0, 188, 87, 177]
abbrev dktX3_readReign_2 : List UInt8 := dkwX3_readReign_2 ++ []
def dkwX3_readReign_1 : List UInt8 := [182, 0, 178, 128, 62, 42, 42, 180, 0, 16, 27, 184, 0, 181, 182, 0, 184, 153, 0, 13, 42, 180, 0, 16]
abbrev dktX3_readReign_1 : List UInt8 := dkwX3_readReign_1 ++ dktX3_readReign_2
def dkwX3_readReign_0 : List UInt8 := [42, 182, 0, 175, 60, 42, 3, 16, 7, 182, 0, 168, 61, 4, 28, 120, 42, 28, 4, 96, 16, 7]
abbrev dktX3_readReign_0 : List UInt8 := dkwX3_readReign_0 ++ dktX3_readReign_1
theorem dksX3_readReign_0 : cX3_readReign.data.toList.drop 0 = dktX3_readReign_0 := by decide +kernel
theorem dksX3_readReign_1 : cX3_readReign.data.toList.drop 22 = dktX3_readReign_1 := dk_seg dksX3_readReign_0 22 rfl rfl
theorem dksX3_readReign_2 : cX3_readReign.data.toList.drop 46 = dktX3_readReign_2 := dk_seg dksX3_readReign_1 24 rfl rfl
theorem dX3_readReign_0 : decode cX3_readReign 0 = .ok (.aload_n 0, 1) := dk_42 (dk_at dksX3_readReign_0 0 rfl rfl)
theorem dX3_readReign_1 : decode cX3_readReign 1 = .ok (.invokevirtual 175, 3) := dk_182 0 175 (dk_at dksX3_readReign_0 1 rfl rfl)
theorem dX3_readReign_4 : decode cX3_readReign 4 = .ok (.istore_n 1, 1) := dk_60 (dk_at dksX3_readReign_0 4 rfl rfl)
theorem dX3_readReign_5 : decode cX3_readReign 5 = .ok (.aload_n 0, 1) := dk_42 (dk_at dksX3_readReign_0 5 rfl rfl)
theorem dX3_readReign_6 : decode cX3_readReign 6 = .ok (.iconst 0, 1) := dk_3 (dk_at dksX3_readReign_0 6 rfl rfl)
theorem dX3_readReign_7 : decode cX3_readReign 7 = .ok (.bipush 7, 2) := dk_16 7 (dk_at dksX3_readReign_0 7 rfl rfl)
theorem dX3_readReign_9 : decode cX3_readReign 9 = .ok (.invokevirtual 168, 3) := dk_182 0 168 (dk_at dksX3_readReign_0 9 rfl rfl)
theorem dX3_readReign_12 : decode cX3_readReign 12 = .ok (.istore_n 2, 1) := dk_61 (dk_at dksX3_readReign_0 12 rfl rfl)
theorem dX3_readReign_13 : decode cX3_readReign 13 = .ok (.iconst 1, 1) := dk_4 (dk_at dksX3_readReign_0 13 rfl rfl)
theorem dX3_readReign_14 : decode cX3_readReign 14 = .ok (.iload_n 2, 1) := dk_28 (dk_at dksX3_readReign_0 14 rfl rfl)
theorem dX3_readReign_15 : decode cX3_readReign 15 = .ok (.ishl, 1) := dk_120 (dk_at dksX3_readReign_0 15 rfl rfl)
theorem dX3_readReign_16 : decode cX3_readReign 16 = .ok (.aload_n 0, 1) := dk_42 (dk_at dksX3_readReign_0 16 rfl rfl)
theorem dX3_readReign_17 : decode cX3_readReign 17 = .ok (.iload_n 2, 1) := dk_28 (dk_at dksX3_readReign_0 17 rfl rfl)
theorem dX3_readReign_18 : decode cX3_readReign 18 = .ok (.iconst 1, 1) := dk_4 (dk_at dksX3_readReign_0 18 rfl rfl)
theorem dX3_readReign_19 : decode cX3_readReign 19 = .ok (.iadd, 1) := dk_96 (dk_at dksX3_readReign_0 19 rfl rfl)
theorem dX3_readReign_20 : decode cX3_readReign 20 = .ok (.bipush 7, 2) := dk_16 7 (dk_at dksX3_readReign_0 20 rfl rfl)
theorem dX3_readReign_22 : decode cX3_readReign 22 = .ok (.invokevirtual 178, 3) := dk_182 0 178 (dk_at dksX3_readReign_1 0 rfl rfl)
theorem dX3_readReign_25 : decode cX3_readReign 25 = .ok (.ior, 1) := dk_128 (dk_at dksX3_readReign_1 3 rfl rfl)
theorem dX3_readReign_26 : decode cX3_readReign 26 = .ok (.istore_n 3, 1) := dk_62 (dk_at dksX3_readReign_1 4 rfl rfl)
theorem dX3_readReign_27 : decode cX3_readReign 27 = .ok (.aload_n 0, 1) := dk_42 (dk_at dksX3_readReign_1 5 rfl rfl)
theorem dX3_readReign_28 : decode cX3_readReign 28 = .ok (.aload_n 0, 1) := dk_42 (dk_at dksX3_readReign_1 6 rfl rfl)
theorem dX3_readReign_29 : decode cX3_readReign 29 = .ok (.getfield 16, 3) := dk_180 0 16 (dk_at dksX3_readReign_1 7 rfl rfl)
theorem dX3_readReign_32 : decode cX3_readReign 32 = .ok (.iload_n 1, 1) := dk_27 (dk_at dksX3_readReign_1 10 rfl rfl)
theorem dX3_readReign_33 : decode cX3_readReign 33 = .ok (.invokestatic 181, 3) := dk_184 0 181 (dk_at dksX3_readReign_1 11 rfl rfl)
theorem dX3_readReign_36 : decode cX3_readReign 36 = .ok (.invokevirtual 184, 3) := dk_182 0 184 (dk_at dksX3_readReign_1 14 rfl rfl)
theorem dX3_readReign_39 : decode cX3_readReign 39 = .ok (.ifCond .eq 13, 3) := dk_153 0 13 (dk_at dksX3_readReign_1 17 rfl rfl)
theorem dX3_readReign_42 : decode cX3_readReign 42 = .ok (.aload_n 0, 1) := dk_42 (dk_at dksX3_readReign_1 20 rfl rfl)
theorem dX3_readReign_43 : decode cX3_readReign 43 = .ok (.getfield 16, 3) := dk_180 0 16 (dk_at dksX3_readReign_1 21 rfl rfl)
theorem dX3_readReign_46 : decode cX3_readReign 46 = .ok (.iload_n 1, 1) := dk_27 (dk_at dksX3_readReign_2 0 rfl rfl)
theorem dX3_readReign_47 : decode cX3_readReign 47 = .ok (.iload_n 3, 1) := dk_29 (dk_at dksX3_readReign_2 1 rfl rfl)
theorem dX3_readReign_48 : decode cX3_readReign 48 = .ok (.invokestatic 188, 3) := dk_184 0 188 (dk_at dksX3_readReign_2 2 rfl rfl)
theorem dX3_readReign_51 : decode cX3_readReign 51 = .ok (.pop, 1) := dk_87 (dk_at dksX3_readReign_2 5 rfl rfl)
theorem dX3_readReign_52 : decode cX3_readReign 52 = .ok (.return_, 1) := dk_177 (dk_at dksX3_readReign_2 6 rfl rfl)
abbrev cX3_readYear : ByteArray := prog_10_method_57_code
def yX3_readYear : MethodName := ⟨RX3, "readYear", "()I"⟩
def dkwX3_readYear_1 : List UInt8 := [182, 0, 168, 96, 60, 132, 2, 1, 167, 255, 235, 27, 172]
abbrev dktX3_readYear_1 : List UInt8 := dkwX3_readYear_1 ++ []
def dkwX3_readYear_0 : List UInt8 := [42, 4, 4, 182, 0, 168, 60, 3, 61, 28, 6, 162, 0, 22, 16, 10, 27, 104, 42, 3, 16, 9]
abbrev dktX3_readYear_0 : List UInt8 := dkwX3_readYear_0 ++ dktX3_readYear_1
theorem dksX3_readYear_0 : cX3_readYear.data.toList.drop 0 = dktX3_readYear_0 := by decide +kernel
theorem dksX3_readYear_1 : cX3_readYear.data.toList.drop 22 = dktX3_readYear_1 := dk_seg dksX3_readYear_0 22 rfl rfl
theorem dX3_readYear_0 : decode cX3_readYear 0 = .ok (.aload_n 0, 1) := dk_42 (dk_at dksX3_readYear_0 0 rfl rfl)
theorem dX3_readYear_1 : decode cX3_readYear 1 = .ok (.iconst 1, 1) := dk_4 (dk_at dksX3_readYear_0 1 rfl rfl)
theorem dX3_readYear_2 : decode cX3_readYear 2 = .ok (.iconst 1, 1) := dk_4 (dk_at dksX3_readYear_0 2 rfl rfl)
theorem dX3_readYear_3 : decode cX3_readYear 3 = .ok (.invokevirtual 168, 3) := dk_182 0 168 (dk_at dksX3_readYear_0 3 rfl rfl)
theorem dX3_readYear_6 : decode cX3_readYear 6 = .ok (.istore_n 1, 1) := dk_60 (dk_at dksX3_readYear_0 6 rfl rfl)
theorem dX3_readYear_7 : decode cX3_readYear 7 = .ok (.iconst 0, 1) := dk_3 (dk_at dksX3_readYear_0 7 rfl rfl)
theorem dX3_readYear_8 : decode cX3_readYear 8 = .ok (.istore_n 2, 1) := dk_61 (dk_at dksX3_readYear_0 8 rfl rfl)
theorem dX3_readYear_9 : decode cX3_readYear 9 = .ok (.iload_n 2, 1) := dk_28 (dk_at dksX3_readYear_0 9 rfl rfl)
theorem dX3_readYear_10 : decode cX3_readYear 10 = .ok (.iconst 3, 1) := dk_6 (dk_at dksX3_readYear_0 10 rfl rfl)
theorem dX3_readYear_11 : decode cX3_readYear 11 = .ok (.if_icmp .ge 22, 3) := dk_162 0 22 (dk_at dksX3_readYear_0 11 rfl rfl)
theorem dX3_readYear_14 : decode cX3_readYear 14 = .ok (.bipush 10, 2) := dk_16 10 (dk_at dksX3_readYear_0 14 rfl rfl)
theorem dX3_readYear_16 : decode cX3_readYear 16 = .ok (.iload_n 1, 1) := dk_27 (dk_at dksX3_readYear_0 16 rfl rfl)
theorem dX3_readYear_17 : decode cX3_readYear 17 = .ok (.imul, 1) := dk_104 (dk_at dksX3_readYear_0 17 rfl rfl)
theorem dX3_readYear_18 : decode cX3_readYear 18 = .ok (.aload_n 0, 1) := dk_42 (dk_at dksX3_readYear_0 18 rfl rfl)
theorem dX3_readYear_19 : decode cX3_readYear 19 = .ok (.iconst 0, 1) := dk_3 (dk_at dksX3_readYear_0 19 rfl rfl)
theorem dX3_readYear_20 : decode cX3_readYear 20 = .ok (.bipush 9, 2) := dk_16 9 (dk_at dksX3_readYear_0 20 rfl rfl)
theorem dX3_readYear_22 : decode cX3_readYear 22 = .ok (.invokevirtual 168, 3) := dk_182 0 168 (dk_at dksX3_readYear_1 0 rfl rfl)
theorem dX3_readYear_25 : decode cX3_readYear 25 = .ok (.iadd, 1) := dk_96 (dk_at dksX3_readYear_1 3 rfl rfl)
theorem dX3_readYear_26 : decode cX3_readYear 26 = .ok (.istore_n 1, 1) := dk_60 (dk_at dksX3_readYear_1 4 rfl rfl)
theorem dX3_readYear_27 : decode cX3_readYear 27 = .ok (.iinc 2 1, 3) := dk_132 2 1 (dk_at dksX3_readYear_1 5 rfl rfl)
theorem dX3_readYear_30 : decode cX3_readYear 30 = .ok (.goto (-21), 3) := dk_167 255 235 (dk_at dksX3_readYear_1 8 rfl rfl)
theorem dX3_readYear_33 : decode cX3_readYear 33 = .ok (.iload_n 1, 1) := dk_27 (dk_at dksX3_readYear_1 11 rfl rfl)
theorem dX3_readYear_34 : decode cX3_readYear 34 = .ok (.ireturn, 1) := dk_172 (dk_at dksX3_readYear_1 12 rfl rfl)
abbrev cX3_digit : ByteArray := prog_10_method_56_code
def yX3_digit : MethodName := ⟨RX3, "digit", "(II)I"⟩
def dkwX3_digit_1 : List UInt8 := [180, 0, 156, 153, 0, 7, 29, 167, 0, 4, 27, 172]
abbrev dktX3_digit_1 : List UInt8 := dkwX3_digit_1 ++ []
def dkwX3_digit_0 : List UInt8 := [42, 182, 0, 160, 16, 48, 100, 62, 42, 29, 133, 27, 133, 28, 133, 184, 0, 49, 182, 0, 164, 42]
abbrev dktX3_digit_0 : List UInt8 := dkwX3_digit_0 ++ dktX3_digit_1
theorem dksX3_digit_0 : cX3_digit.data.toList.drop 0 = dktX3_digit_0 := by decide +kernel
theorem dksX3_digit_1 : cX3_digit.data.toList.drop 22 = dktX3_digit_1 := dk_seg dksX3_digit_0 22 rfl rfl
theorem dX3_digit_0 : decode cX3_digit 0 = .ok (.aload_n 0, 1) := dk_42 (dk_at dksX3_digit_0 0 rfl rfl)
theorem dX3_digit_1 : decode cX3_digit 1 = .ok (.invokevirtual 160, 3) := dk_182 0 160 (dk_at dksX3_digit_0 1 rfl rfl)
theorem dX3_digit_4 : decode cX3_digit 4 = .ok (.bipush 48, 2) := dk_16 48 (dk_at dksX3_digit_0 4 rfl rfl)
theorem dX3_digit_6 : decode cX3_digit 6 = .ok (.isub, 1) := dk_100 (dk_at dksX3_digit_0 6 rfl rfl)
theorem dX3_digit_7 : decode cX3_digit 7 = .ok (.istore_n 3, 1) := dk_62 (dk_at dksX3_digit_0 7 rfl rfl)
theorem dX3_digit_8 : decode cX3_digit 8 = .ok (.aload_n 0, 1) := dk_42 (dk_at dksX3_digit_0 8 rfl rfl)
theorem dX3_digit_9 : decode cX3_digit 9 = .ok (.iload_n 3, 1) := dk_29 (dk_at dksX3_digit_0 9 rfl rfl)
theorem dX3_digit_10 : decode cX3_digit 10 = .ok (.i2l, 1) := dk_133 (dk_at dksX3_digit_0 10 rfl rfl)
theorem dX3_digit_11 : decode cX3_digit 11 = .ok (.iload_n 1, 1) := dk_27 (dk_at dksX3_digit_0 11 rfl rfl)
theorem dX3_digit_12 : decode cX3_digit 12 = .ok (.i2l, 1) := dk_133 (dk_at dksX3_digit_0 12 rfl rfl)
theorem dX3_digit_13 : decode cX3_digit 13 = .ok (.iload_n 2, 1) := dk_28 (dk_at dksX3_digit_0 13 rfl rfl)
theorem dX3_digit_14 : decode cX3_digit 14 = .ok (.i2l, 1) := dk_133 (dk_at dksX3_digit_0 14 rfl rfl)
theorem dX3_digit_15 : decode cX3_digit 15 = .ok (.invokestatic 49, 3) := dk_184 0 49 (dk_at dksX3_digit_0 15 rfl rfl)
theorem dX3_digit_18 : decode cX3_digit 18 = .ok (.invokevirtual 164, 3) := dk_182 0 164 (dk_at dksX3_digit_0 18 rfl rfl)
theorem dX3_digit_21 : decode cX3_digit 21 = .ok (.aload_n 0, 1) := dk_42 (dk_at dksX3_digit_0 21 rfl rfl)
theorem dX3_digit_22 : decode cX3_digit 22 = .ok (.getfield 156, 3) := dk_180 0 156 (dk_at dksX3_digit_1 0 rfl rfl)
theorem dX3_digit_25 : decode cX3_digit 25 = .ok (.ifCond .eq 7, 3) := dk_153 0 7 (dk_at dksX3_digit_1 3 rfl rfl)
theorem dX3_digit_28 : decode cX3_digit 28 = .ok (.iload_n 3, 1) := dk_29 (dk_at dksX3_digit_1 6 rfl rfl)
theorem dX3_digit_29 : decode cX3_digit 29 = .ok (.goto 4, 3) := dk_167 0 4 (dk_at dksX3_digit_1 7 rfl rfl)
theorem dX3_digit_32 : decode cX3_digit 32 = .ok (.iload_n 1, 1) := dk_27 (dk_at dksX3_digit_1 10 rfl rfl)
theorem dX3_digit_33 : decode cX3_digit 33 = .ok (.ireturn, 1) := dk_172 (dk_at dksX3_digit_1 11 rfl rfl)
abbrev cX3_ascending : ByteArray := prog_10_method_58_code
def yX3_ascending : MethodName := ⟨RX3, "ascending", "(II)I"⟩
def dkwX3_ascending_2 : List UInt8 := [153, 0, 10, 4, 21, 5, 120, 167, 0, 4, 3, 128, 62, 21, 5, 4, 96, 54, 4, 167, 255, 196, 29, 172]
abbrev dktX3_ascending_2 : List UInt8 := dkwX3_ascending_2 ++ []
def dkwX3_ascending_1 : List UInt8 := [182, 0, 160, 16, 59, 159, 0, 39, 42, 21, 4, 28, 182, 0, 168, 54, 5, 29, 42, 180, 0, 156]
abbrev dktX3_ascending_1 : List UInt8 := dkwX3_ascending_1 ++ dktX3_ascending_2
def dkwX3_ascending_0 : List UInt8 := [3, 62, 27, 54, 4, 42, 180, 0, 156, 153, 0, 59, 42, 180, 0, 153, 42, 180, 0, 147, 162, 0, 48, 42]
abbrev dktX3_ascending_0 : List UInt8 := dkwX3_ascending_0 ++ dktX3_ascending_1
theorem dksX3_ascending_0 : cX3_ascending.data.toList.drop 0 = dktX3_ascending_0 := by decide +kernel
theorem dksX3_ascending_1 : cX3_ascending.data.toList.drop 24 = dktX3_ascending_1 := dk_seg dksX3_ascending_0 24 rfl rfl
theorem dksX3_ascending_2 : cX3_ascending.data.toList.drop 46 = dktX3_ascending_2 := dk_seg dksX3_ascending_1 22 rfl rfl
theorem dX3_ascending_0 : decode cX3_ascending 0 = .ok (.iconst 0, 1) := dk_3 (dk_at dksX3_ascending_0 0 rfl rfl)
theorem dX3_ascending_1 : decode cX3_ascending 1 = .ok (.istore_n 3, 1) := dk_62 (dk_at dksX3_ascending_0 1 rfl rfl)
theorem dX3_ascending_2 : decode cX3_ascending 2 = .ok (.iload_n 1, 1) := dk_27 (dk_at dksX3_ascending_0 2 rfl rfl)
theorem dX3_ascending_3 : decode cX3_ascending 3 = .ok (.istore 4, 2) := dk_54 4 (dk_at dksX3_ascending_0 3 rfl rfl)
theorem dX3_ascending_5 : decode cX3_ascending 5 = .ok (.aload_n 0, 1) := dk_42 (dk_at dksX3_ascending_0 5 rfl rfl)
theorem dX3_ascending_6 : decode cX3_ascending 6 = .ok (.getfield 156, 3) := dk_180 0 156 (dk_at dksX3_ascending_0 6 rfl rfl)
theorem dX3_ascending_9 : decode cX3_ascending 9 = .ok (.ifCond .eq 59, 3) := dk_153 0 59 (dk_at dksX3_ascending_0 9 rfl rfl)
theorem dX3_ascending_12 : decode cX3_ascending 12 = .ok (.aload_n 0, 1) := dk_42 (dk_at dksX3_ascending_0 12 rfl rfl)
theorem dX3_ascending_13 : decode cX3_ascending 13 = .ok (.getfield 153, 3) := dk_180 0 153 (dk_at dksX3_ascending_0 13 rfl rfl)
theorem dX3_ascending_16 : decode cX3_ascending 16 = .ok (.aload_n 0, 1) := dk_42 (dk_at dksX3_ascending_0 16 rfl rfl)
theorem dX3_ascending_17 : decode cX3_ascending 17 = .ok (.getfield 147, 3) := dk_180 0 147 (dk_at dksX3_ascending_0 17 rfl rfl)
theorem dX3_ascending_20 : decode cX3_ascending 20 = .ok (.if_icmp .ge 48, 3) := dk_162 0 48 (dk_at dksX3_ascending_0 20 rfl rfl)
theorem dX3_ascending_23 : decode cX3_ascending 23 = .ok (.aload_n 0, 1) := dk_42 (dk_at dksX3_ascending_0 23 rfl rfl)
theorem dX3_ascending_24 : decode cX3_ascending 24 = .ok (.invokevirtual 160, 3) := dk_182 0 160 (dk_at dksX3_ascending_1 0 rfl rfl)
theorem dX3_ascending_27 : decode cX3_ascending 27 = .ok (.bipush 59, 2) := dk_16 59 (dk_at dksX3_ascending_1 3 rfl rfl)
theorem dX3_ascending_29 : decode cX3_ascending 29 = .ok (.if_icmp .eq 39, 3) := dk_159 0 39 (dk_at dksX3_ascending_1 5 rfl rfl)
theorem dX3_ascending_32 : decode cX3_ascending 32 = .ok (.aload_n 0, 1) := dk_42 (dk_at dksX3_ascending_1 8 rfl rfl)
theorem dX3_ascending_33 : decode cX3_ascending 33 = .ok (.iload 4, 2) := dk_21 4 (dk_at dksX3_ascending_1 9 rfl rfl)
theorem dX3_ascending_35 : decode cX3_ascending 35 = .ok (.iload_n 2, 1) := dk_28 (dk_at dksX3_ascending_1 11 rfl rfl)
theorem dX3_ascending_36 : decode cX3_ascending 36 = .ok (.invokevirtual 168, 3) := dk_182 0 168 (dk_at dksX3_ascending_1 12 rfl rfl)
theorem dX3_ascending_39 : decode cX3_ascending 39 = .ok (.istore 5, 2) := dk_54 5 (dk_at dksX3_ascending_1 15 rfl rfl)
theorem dX3_ascending_41 : decode cX3_ascending 41 = .ok (.iload_n 3, 1) := dk_29 (dk_at dksX3_ascending_1 17 rfl rfl)
theorem dX3_ascending_42 : decode cX3_ascending 42 = .ok (.aload_n 0, 1) := dk_42 (dk_at dksX3_ascending_1 18 rfl rfl)
theorem dX3_ascending_43 : decode cX3_ascending 43 = .ok (.getfield 156, 3) := dk_180 0 156 (dk_at dksX3_ascending_1 19 rfl rfl)
theorem dX3_ascending_46 : decode cX3_ascending 46 = .ok (.ifCond .eq 10, 3) := dk_153 0 10 (dk_at dksX3_ascending_2 0 rfl rfl)
theorem dX3_ascending_49 : decode cX3_ascending 49 = .ok (.iconst 1, 1) := dk_4 (dk_at dksX3_ascending_2 3 rfl rfl)
theorem dX3_ascending_50 : decode cX3_ascending 50 = .ok (.iload 5, 2) := dk_21 5 (dk_at dksX3_ascending_2 4 rfl rfl)
theorem dX3_ascending_52 : decode cX3_ascending 52 = .ok (.ishl, 1) := dk_120 (dk_at dksX3_ascending_2 6 rfl rfl)
theorem dX3_ascending_53 : decode cX3_ascending 53 = .ok (.goto 4, 3) := dk_167 0 4 (dk_at dksX3_ascending_2 7 rfl rfl)
theorem dX3_ascending_56 : decode cX3_ascending 56 = .ok (.iconst 0, 1) := dk_3 (dk_at dksX3_ascending_2 10 rfl rfl)
theorem dX3_ascending_57 : decode cX3_ascending 57 = .ok (.ior, 1) := dk_128 (dk_at dksX3_ascending_2 11 rfl rfl)
theorem dX3_ascending_58 : decode cX3_ascending 58 = .ok (.istore_n 3, 1) := dk_62 (dk_at dksX3_ascending_2 12 rfl rfl)
theorem dX3_ascending_59 : decode cX3_ascending 59 = .ok (.iload 5, 2) := dk_21 5 (dk_at dksX3_ascending_2 13 rfl rfl)
theorem dX3_ascending_61 : decode cX3_ascending 61 = .ok (.iconst 1, 1) := dk_4 (dk_at dksX3_ascending_2 15 rfl rfl)
theorem dX3_ascending_62 : decode cX3_ascending 62 = .ok (.iadd, 1) := dk_96 (dk_at dksX3_ascending_2 16 rfl rfl)
theorem dX3_ascending_63 : decode cX3_ascending 63 = .ok (.istore 4, 2) := dk_54 4 (dk_at dksX3_ascending_2 17 rfl rfl)
theorem dX3_ascending_65 : decode cX3_ascending 65 = .ok (.goto (-60), 3) := dk_167 255 196 (dk_at dksX3_ascending_2 19 rfl rfl)
theorem dX3_ascending_68 : decode cX3_ascending 68 = .ok (.iload_n 3, 1) := dk_29 (dk_at dksX3_ascending_2 22 rfl rfl)
theorem dX3_ascending_69 : decode cX3_ascending 69 = .ok (.ireturn, 1) := dk_172 (dk_at dksX3_ascending_2 23 rfl rfl)
abbrev cX3_canReign : ByteArray := prog_10_method_37_code
def yX3_canReign : MethodName := ⟨RX3, "canReign", "([II)Z"⟩
def dkwX3_canReign_1 : List UInt8 := [164, 0, 7, 4, 167, 0, 4, 3, 172]
abbrev dktX3_canReign_1 : List UInt8 := dkwX3_canReign_1 ++ []
def dkwX3_canReign_0 : List UInt8 := [42, 3, 46, 16, 10, 162, 0, 26, 42, 3, 46, 153, 0, 16, 27, 42, 8, 42, 3, 46, 96, 4, 100, 46]
abbrev dktX3_canReign_0 : List UInt8 := dkwX3_canReign_0 ++ dktX3_canReign_1
theorem dksX3_canReign_0 : cX3_canReign.data.toList.drop 0 = dktX3_canReign_0 := by decide +kernel
theorem dksX3_canReign_1 : cX3_canReign.data.toList.drop 24 = dktX3_canReign_1 := dk_seg dksX3_canReign_0 24 rfl rfl
theorem dX3_canReign_0 : decode cX3_canReign 0 = .ok (.aload_n 0, 1) := dk_42 (dk_at dksX3_canReign_0 0 rfl rfl)
theorem dX3_canReign_1 : decode cX3_canReign 1 = .ok (.iconst 0, 1) := dk_3 (dk_at dksX3_canReign_0 1 rfl rfl)
theorem dX3_canReign_2 : decode cX3_canReign 2 = .ok (.iaload, 1) := dk_46 (dk_at dksX3_canReign_0 2 rfl rfl)
theorem dX3_canReign_3 : decode cX3_canReign 3 = .ok (.bipush 10, 2) := dk_16 10 (dk_at dksX3_canReign_0 3 rfl rfl)
theorem dX3_canReign_5 : decode cX3_canReign 5 = .ok (.if_icmp .ge 26, 3) := dk_162 0 26 (dk_at dksX3_canReign_0 5 rfl rfl)
theorem dX3_canReign_8 : decode cX3_canReign 8 = .ok (.aload_n 0, 1) := dk_42 (dk_at dksX3_canReign_0 8 rfl rfl)
theorem dX3_canReign_9 : decode cX3_canReign 9 = .ok (.iconst 0, 1) := dk_3 (dk_at dksX3_canReign_0 9 rfl rfl)
theorem dX3_canReign_10 : decode cX3_canReign 10 = .ok (.iaload, 1) := dk_46 (dk_at dksX3_canReign_0 10 rfl rfl)
theorem dX3_canReign_11 : decode cX3_canReign 11 = .ok (.ifCond .eq 16, 3) := dk_153 0 16 (dk_at dksX3_canReign_0 11 rfl rfl)
theorem dX3_canReign_14 : decode cX3_canReign 14 = .ok (.iload_n 1, 1) := dk_27 (dk_at dksX3_canReign_0 14 rfl rfl)
theorem dX3_canReign_15 : decode cX3_canReign 15 = .ok (.aload_n 0, 1) := dk_42 (dk_at dksX3_canReign_0 15 rfl rfl)
theorem dX3_canReign_16 : decode cX3_canReign 16 = .ok (.iconst 5, 1) := dk_8 (dk_at dksX3_canReign_0 16 rfl rfl)
theorem dX3_canReign_17 : decode cX3_canReign 17 = .ok (.aload_n 0, 1) := dk_42 (dk_at dksX3_canReign_0 17 rfl rfl)
theorem dX3_canReign_18 : decode cX3_canReign 18 = .ok (.iconst 0, 1) := dk_3 (dk_at dksX3_canReign_0 18 rfl rfl)
theorem dX3_canReign_19 : decode cX3_canReign 19 = .ok (.iaload, 1) := dk_46 (dk_at dksX3_canReign_0 19 rfl rfl)
theorem dX3_canReign_20 : decode cX3_canReign 20 = .ok (.iadd, 1) := dk_96 (dk_at dksX3_canReign_0 20 rfl rfl)
theorem dX3_canReign_21 : decode cX3_canReign 21 = .ok (.iconst 1, 1) := dk_4 (dk_at dksX3_canReign_0 21 rfl rfl)
theorem dX3_canReign_22 : decode cX3_canReign 22 = .ok (.isub, 1) := dk_100 (dk_at dksX3_canReign_0 22 rfl rfl)
theorem dX3_canReign_23 : decode cX3_canReign 23 = .ok (.iaload, 1) := dk_46 (dk_at dksX3_canReign_0 23 rfl rfl)
theorem dX3_canReign_24 : decode cX3_canReign 24 = .ok (.if_icmp .le 7, 3) := dk_164 0 7 (dk_at dksX3_canReign_1 0 rfl rfl)
theorem dX3_canReign_27 : decode cX3_canReign 27 = .ok (.iconst 1, 1) := dk_4 (dk_at dksX3_canReign_1 3 rfl rfl)
theorem dX3_canReign_28 : decode cX3_canReign 28 = .ok (.goto 4, 3) := dk_167 0 4 (dk_at dksX3_canReign_1 4 rfl rfl)
theorem dX3_canReign_31 : decode cX3_canReign 31 = .ok (.iconst 0, 1) := dk_3 (dk_at dksX3_canReign_1 7 rfl rfl)
theorem dX3_canReign_32 : decode cX3_canReign 32 = .ok (.ireturn, 1) := dk_172 (dk_at dksX3_canReign_1 8 rfl rfl)
abbrev cX3_goes : ByteArray := prog_10_method_59_code
def yX3_goes : MethodName := ⟨RX3, "goes", "(Z)Z"⟩
def dkwX3_goes_1 : List UInt8 := [181, 0, 172, 42, 180, 0, 156, 153, 0, 11, 27, 153, 0, 7, 4, 167, 0, 4, 3, 172]
abbrev dktX3_goes_1 : List UInt8 := dkwX3_goes_1 ++ []
def dkwX3_goes_0 : List UInt8 := [42, 89, 180, 0, 172, 42, 180, 0, 156, 153, 0, 11, 27, 154, 0, 7, 4, 167, 0, 4, 3, 96]
abbrev dktX3_goes_0 : List UInt8 := dkwX3_goes_0 ++ dktX3_goes_1
theorem dksX3_goes_0 : cX3_goes.data.toList.drop 0 = dktX3_goes_0 := by decide +kernel
theorem dksX3_goes_1 : cX3_goes.data.toList.drop 22 = dktX3_goes_1 := dk_seg dksX3_goes_0 22 rfl rfl
theorem dX3_goes_0 : decode cX3_goes 0 = .ok (.aload_n 0, 1) := dk_42 (dk_at dksX3_goes_0 0 rfl rfl)
theorem dX3_goes_1 : decode cX3_goes 1 = .ok (.dup, 1) := dk_89 (dk_at dksX3_goes_0 1 rfl rfl)
theorem dX3_goes_2 : decode cX3_goes 2 = .ok (.getfield 172, 3) := dk_180 0 172 (dk_at dksX3_goes_0 2 rfl rfl)
theorem dX3_goes_5 : decode cX3_goes 5 = .ok (.aload_n 0, 1) := dk_42 (dk_at dksX3_goes_0 5 rfl rfl)
theorem dX3_goes_6 : decode cX3_goes 6 = .ok (.getfield 156, 3) := dk_180 0 156 (dk_at dksX3_goes_0 6 rfl rfl)
theorem dX3_goes_9 : decode cX3_goes 9 = .ok (.ifCond .eq 11, 3) := dk_153 0 11 (dk_at dksX3_goes_0 9 rfl rfl)
theorem dX3_goes_12 : decode cX3_goes 12 = .ok (.iload_n 1, 1) := dk_27 (dk_at dksX3_goes_0 12 rfl rfl)
theorem dX3_goes_13 : decode cX3_goes 13 = .ok (.ifCond .ne 7, 3) := dk_154 0 7 (dk_at dksX3_goes_0 13 rfl rfl)
theorem dX3_goes_16 : decode cX3_goes 16 = .ok (.iconst 1, 1) := dk_4 (dk_at dksX3_goes_0 16 rfl rfl)
theorem dX3_goes_17 : decode cX3_goes 17 = .ok (.goto 4, 3) := dk_167 0 4 (dk_at dksX3_goes_0 17 rfl rfl)
theorem dX3_goes_20 : decode cX3_goes 20 = .ok (.iconst 0, 1) := dk_3 (dk_at dksX3_goes_0 20 rfl rfl)
theorem dX3_goes_21 : decode cX3_goes 21 = .ok (.iadd, 1) := dk_96 (dk_at dksX3_goes_0 21 rfl rfl)
theorem dX3_goes_22 : decode cX3_goes 22 = .ok (.putfield 172, 3) := dk_181 0 172 (dk_at dksX3_goes_1 0 rfl rfl)
theorem dX3_goes_25 : decode cX3_goes 25 = .ok (.aload_n 0, 1) := dk_42 (dk_at dksX3_goes_1 3 rfl rfl)
theorem dX3_goes_26 : decode cX3_goes 26 = .ok (.getfield 156, 3) := dk_180 0 156 (dk_at dksX3_goes_1 4 rfl rfl)
theorem dX3_goes_29 : decode cX3_goes 29 = .ok (.ifCond .eq 11, 3) := dk_153 0 11 (dk_at dksX3_goes_1 7 rfl rfl)
theorem dX3_goes_32 : decode cX3_goes 32 = .ok (.iload_n 1, 1) := dk_27 (dk_at dksX3_goes_1 10 rfl rfl)
theorem dX3_goes_33 : decode cX3_goes 33 = .ok (.ifCond .eq 7, 3) := dk_153 0 7 (dk_at dksX3_goes_1 11 rfl rfl)
theorem dX3_goes_36 : decode cX3_goes 36 = .ok (.iconst 1, 1) := dk_4 (dk_at dksX3_goes_1 14 rfl rfl)
theorem dX3_goes_37 : decode cX3_goes 37 = .ok (.goto 4, 3) := dk_167 0 4 (dk_at dksX3_goes_1 15 rfl rfl)
theorem dX3_goes_40 : decode cX3_goes 40 = .ok (.iconst 0, 1) := dk_3 (dk_at dksX3_goes_1 18 rfl rfl)
theorem dX3_goes_41 : decode cX3_goes 41 = .ok (.ireturn, 1) := dk_172 (dk_at dksX3_goes_1 19 rfl rfl)
abbrev cX3_goReign : ByteArray := prog_10_method_38_code
def yX3_goReign : MethodName := ⟨RX3, "goReign", "([III)I"⟩
def dkwX3_goReign_1 : List UInt8 := [42, 3, 46, 4, 100, 172]
abbrev dktX3_goReign_1 : List UInt8 := dkwX3_goReign_1 ++ []
def dkwX3_goReign_0 : List UInt8 := [42, 8, 42, 3, 46, 96, 27, 79, 42, 16, 15, 42, 3, 46, 96, 28, 79, 42, 3, 92, 46, 4, 96, 79]
abbrev dktX3_goReign_0 : List UInt8 := dkwX3_goReign_0 ++ dktX3_goReign_1
theorem dksX3_goReign_0 : cX3_goReign.data.toList.drop 0 = dktX3_goReign_0 := by decide +kernel
theorem dksX3_goReign_1 : cX3_goReign.data.toList.drop 24 = dktX3_goReign_1 := dk_seg dksX3_goReign_0 24 rfl rfl
theorem dX3_goReign_0 : decode cX3_goReign 0 = .ok (.aload_n 0, 1) := dk_42 (dk_at dksX3_goReign_0 0 rfl rfl)
theorem dX3_goReign_1 : decode cX3_goReign 1 = .ok (.iconst 5, 1) := dk_8 (dk_at dksX3_goReign_0 1 rfl rfl)
theorem dX3_goReign_2 : decode cX3_goReign 2 = .ok (.aload_n 0, 1) := dk_42 (dk_at dksX3_goReign_0 2 rfl rfl)
theorem dX3_goReign_3 : decode cX3_goReign 3 = .ok (.iconst 0, 1) := dk_3 (dk_at dksX3_goReign_0 3 rfl rfl)
theorem dX3_goReign_4 : decode cX3_goReign 4 = .ok (.iaload, 1) := dk_46 (dk_at dksX3_goReign_0 4 rfl rfl)
theorem dX3_goReign_5 : decode cX3_goReign 5 = .ok (.iadd, 1) := dk_96 (dk_at dksX3_goReign_0 5 rfl rfl)
theorem dX3_goReign_6 : decode cX3_goReign 6 = .ok (.iload_n 1, 1) := dk_27 (dk_at dksX3_goReign_0 6 rfl rfl)
theorem dX3_goReign_7 : decode cX3_goReign 7 = .ok (.iastore, 1) := dk_79 (dk_at dksX3_goReign_0 7 rfl rfl)
theorem dX3_goReign_8 : decode cX3_goReign 8 = .ok (.aload_n 0, 1) := dk_42 (dk_at dksX3_goReign_0 8 rfl rfl)
theorem dX3_goReign_9 : decode cX3_goReign 9 = .ok (.bipush 15, 2) := dk_16 15 (dk_at dksX3_goReign_0 9 rfl rfl)
theorem dX3_goReign_11 : decode cX3_goReign 11 = .ok (.aload_n 0, 1) := dk_42 (dk_at dksX3_goReign_0 11 rfl rfl)
theorem dX3_goReign_12 : decode cX3_goReign 12 = .ok (.iconst 0, 1) := dk_3 (dk_at dksX3_goReign_0 12 rfl rfl)
theorem dX3_goReign_13 : decode cX3_goReign 13 = .ok (.iaload, 1) := dk_46 (dk_at dksX3_goReign_0 13 rfl rfl)
theorem dX3_goReign_14 : decode cX3_goReign 14 = .ok (.iadd, 1) := dk_96 (dk_at dksX3_goReign_0 14 rfl rfl)
theorem dX3_goReign_15 : decode cX3_goReign 15 = .ok (.iload_n 2, 1) := dk_28 (dk_at dksX3_goReign_0 15 rfl rfl)
theorem dX3_goReign_16 : decode cX3_goReign 16 = .ok (.iastore, 1) := dk_79 (dk_at dksX3_goReign_0 16 rfl rfl)
theorem dX3_goReign_17 : decode cX3_goReign 17 = .ok (.aload_n 0, 1) := dk_42 (dk_at dksX3_goReign_0 17 rfl rfl)
theorem dX3_goReign_18 : decode cX3_goReign 18 = .ok (.iconst 0, 1) := dk_3 (dk_at dksX3_goReign_0 18 rfl rfl)
theorem dX3_goReign_19 : decode cX3_goReign 19 = .ok (.dup2, 1) := dk_92 (dk_at dksX3_goReign_0 19 rfl rfl)
theorem dX3_goReign_20 : decode cX3_goReign 20 = .ok (.iaload, 1) := dk_46 (dk_at dksX3_goReign_0 20 rfl rfl)
theorem dX3_goReign_21 : decode cX3_goReign 21 = .ok (.iconst 1, 1) := dk_4 (dk_at dksX3_goReign_0 21 rfl rfl)
theorem dX3_goReign_22 : decode cX3_goReign 22 = .ok (.iadd, 1) := dk_96 (dk_at dksX3_goReign_0 22 rfl rfl)
theorem dX3_goReign_23 : decode cX3_goReign 23 = .ok (.iastore, 1) := dk_79 (dk_at dksX3_goReign_0 23 rfl rfl)
theorem dX3_goReign_24 : decode cX3_goReign 24 = .ok (.aload_n 0, 1) := dk_42 (dk_at dksX3_goReign_1 0 rfl rfl)
theorem dX3_goReign_25 : decode cX3_goReign 25 = .ok (.iconst 0, 1) := dk_3 (dk_at dksX3_goReign_1 1 rfl rfl)
theorem dX3_goReign_26 : decode cX3_goReign 26 = .ok (.iaload, 1) := dk_46 (dk_at dksX3_goReign_1 2 rfl rfl)
theorem dX3_goReign_27 : decode cX3_goReign 27 = .ok (.iconst 1, 1) := dk_4 (dk_at dksX3_goReign_1 3 rfl rfl)
theorem dX3_goReign_28 : decode cX3_goReign 28 = .ok (.isub, 1) := dk_100 (dk_at dksX3_goReign_1 4 rfl rfl)
theorem dX3_goReign_29 : decode cX3_goReign 29 = .ok (.ireturn, 1) := dk_172 (dk_at dksX3_goReign_1 5 rfl rfl)
abbrev cX3_readDie : ByteArray := prog_10_method_61_code
def yX3_readDie : MethodName := ⟨RX3, "readDie", "()V"⟩
def dkwX3_readDie_3 : List UInt8 := [180, 0, 16, 27, 28, 29, 184, 0, 194, 87, 177]
abbrev dktX3_readDie_3 : List UInt8 := dkwX3_readDie_3 ++ []
def dkwX3_readDie_2 : List UInt8 := [180, 0, 16, 4, 46, 16, 10, 162, 0, 7, 4, 167, 0, 4, 3, 182, 0, 184, 153, 0, 14, 42]
abbrev dktX3_readDie_2 : List UInt8 := dkwX3_readDie_2 ++ dktX3_readDie_3
def dkwX3_readDie_1 : List UInt8 := [167, 0, 4, 3, 182, 0, 164, 42, 182, 0, 175, 62, 42, 182, 0, 191, 42, 29, 28, 161, 0, 18, 42]
abbrev dktX3_readDie_1 : List UInt8 := dkwX3_readDie_1 ++ dktX3_readDie_2
def dkwX3_readDie_0 : List UInt8 := [42, 3, 8, 182, 0, 168, 60, 42, 182, 0, 175, 61, 42, 42, 182, 0, 160, 16, 45, 160, 0, 7, 4]
abbrev dktX3_readDie_0 : List UInt8 := dkwX3_readDie_0 ++ dktX3_readDie_1
theorem dksX3_readDie_0 : cX3_readDie.data.toList.drop 0 = dktX3_readDie_0 := by decide +kernel
theorem dksX3_readDie_1 : cX3_readDie.data.toList.drop 23 = dktX3_readDie_1 := dk_seg dksX3_readDie_0 23 rfl rfl
theorem dksX3_readDie_2 : cX3_readDie.data.toList.drop 46 = dktX3_readDie_2 := dk_seg dksX3_readDie_1 23 rfl rfl
theorem dksX3_readDie_3 : cX3_readDie.data.toList.drop 68 = dktX3_readDie_3 := dk_seg dksX3_readDie_2 22 rfl rfl
theorem dX3_readDie_0 : decode cX3_readDie 0 = .ok (.aload_n 0, 1) := dk_42 (dk_at dksX3_readDie_0 0 rfl rfl)
theorem dX3_readDie_1 : decode cX3_readDie 1 = .ok (.iconst 0, 1) := dk_3 (dk_at dksX3_readDie_0 1 rfl rfl)
theorem dX3_readDie_2 : decode cX3_readDie 2 = .ok (.iconst 5, 1) := dk_8 (dk_at dksX3_readDie_0 2 rfl rfl)
theorem dX3_readDie_3 : decode cX3_readDie 3 = .ok (.invokevirtual 168, 3) := dk_182 0 168 (dk_at dksX3_readDie_0 3 rfl rfl)
theorem dX3_readDie_6 : decode cX3_readDie 6 = .ok (.istore_n 1, 1) := dk_60 (dk_at dksX3_readDie_0 6 rfl rfl)
theorem dX3_readDie_7 : decode cX3_readDie 7 = .ok (.aload_n 0, 1) := dk_42 (dk_at dksX3_readDie_0 7 rfl rfl)
theorem dX3_readDie_8 : decode cX3_readDie 8 = .ok (.invokevirtual 175, 3) := dk_182 0 175 (dk_at dksX3_readDie_0 8 rfl rfl)
theorem dX3_readDie_11 : decode cX3_readDie 11 = .ok (.istore_n 2, 1) := dk_61 (dk_at dksX3_readDie_0 11 rfl rfl)
theorem dX3_readDie_12 : decode cX3_readDie 12 = .ok (.aload_n 0, 1) := dk_42 (dk_at dksX3_readDie_0 12 rfl rfl)
theorem dX3_readDie_13 : decode cX3_readDie 13 = .ok (.aload_n 0, 1) := dk_42 (dk_at dksX3_readDie_0 13 rfl rfl)
theorem dX3_readDie_14 : decode cX3_readDie 14 = .ok (.invokevirtual 160, 3) := dk_182 0 160 (dk_at dksX3_readDie_0 14 rfl rfl)
theorem dX3_readDie_17 : decode cX3_readDie 17 = .ok (.bipush 45, 2) := dk_16 45 (dk_at dksX3_readDie_0 17 rfl rfl)
theorem dX3_readDie_19 : decode cX3_readDie 19 = .ok (.if_icmp .ne 7, 3) := dk_160 0 7 (dk_at dksX3_readDie_0 19 rfl rfl)
theorem dX3_readDie_22 : decode cX3_readDie 22 = .ok (.iconst 1, 1) := dk_4 (dk_at dksX3_readDie_0 22 rfl rfl)
theorem dX3_readDie_23 : decode cX3_readDie 23 = .ok (.goto 4, 3) := dk_167 0 4 (dk_at dksX3_readDie_1 0 rfl rfl)
theorem dX3_readDie_26 : decode cX3_readDie 26 = .ok (.iconst 0, 1) := dk_3 (dk_at dksX3_readDie_1 3 rfl rfl)
theorem dX3_readDie_27 : decode cX3_readDie 27 = .ok (.invokevirtual 164, 3) := dk_182 0 164 (dk_at dksX3_readDie_1 4 rfl rfl)
theorem dX3_readDie_30 : decode cX3_readDie 30 = .ok (.aload_n 0, 1) := dk_42 (dk_at dksX3_readDie_1 7 rfl rfl)
theorem dX3_readDie_31 : decode cX3_readDie 31 = .ok (.invokevirtual 175, 3) := dk_182 0 175 (dk_at dksX3_readDie_1 8 rfl rfl)
theorem dX3_readDie_34 : decode cX3_readDie 34 = .ok (.istore_n 3, 1) := dk_62 (dk_at dksX3_readDie_1 11 rfl rfl)
theorem dX3_readDie_35 : decode cX3_readDie 35 = .ok (.aload_n 0, 1) := dk_42 (dk_at dksX3_readDie_1 12 rfl rfl)
theorem dX3_readDie_36 : decode cX3_readDie 36 = .ok (.invokevirtual 191, 3) := dk_182 0 191 (dk_at dksX3_readDie_1 13 rfl rfl)
theorem dX3_readDie_39 : decode cX3_readDie 39 = .ok (.aload_n 0, 1) := dk_42 (dk_at dksX3_readDie_1 16 rfl rfl)
theorem dX3_readDie_40 : decode cX3_readDie 40 = .ok (.iload_n 3, 1) := dk_29 (dk_at dksX3_readDie_1 17 rfl rfl)
theorem dX3_readDie_41 : decode cX3_readDie 41 = .ok (.iload_n 2, 1) := dk_28 (dk_at dksX3_readDie_1 18 rfl rfl)
theorem dX3_readDie_42 : decode cX3_readDie 42 = .ok (.if_icmp .lt 18, 3) := dk_161 0 18 (dk_at dksX3_readDie_1 19 rfl rfl)
theorem dX3_readDie_45 : decode cX3_readDie 45 = .ok (.aload_n 0, 1) := dk_42 (dk_at dksX3_readDie_1 22 rfl rfl)
theorem dX3_readDie_46 : decode cX3_readDie 46 = .ok (.getfield 16, 3) := dk_180 0 16 (dk_at dksX3_readDie_2 0 rfl rfl)
theorem dX3_readDie_49 : decode cX3_readDie 49 = .ok (.iconst 1, 1) := dk_4 (dk_at dksX3_readDie_2 3 rfl rfl)
theorem dX3_readDie_50 : decode cX3_readDie 50 = .ok (.iaload, 1) := dk_46 (dk_at dksX3_readDie_2 4 rfl rfl)
theorem dX3_readDie_51 : decode cX3_readDie 51 = .ok (.bipush 10, 2) := dk_16 10 (dk_at dksX3_readDie_2 5 rfl rfl)
theorem dX3_readDie_53 : decode cX3_readDie 53 = .ok (.if_icmp .ge 7, 3) := dk_162 0 7 (dk_at dksX3_readDie_2 7 rfl rfl)
theorem dX3_readDie_56 : decode cX3_readDie 56 = .ok (.iconst 1, 1) := dk_4 (dk_at dksX3_readDie_2 10 rfl rfl)
theorem dX3_readDie_57 : decode cX3_readDie 57 = .ok (.goto 4, 3) := dk_167 0 4 (dk_at dksX3_readDie_2 11 rfl rfl)
theorem dX3_readDie_60 : decode cX3_readDie 60 = .ok (.iconst 0, 1) := dk_3 (dk_at dksX3_readDie_2 14 rfl rfl)
theorem dX3_readDie_61 : decode cX3_readDie 61 = .ok (.invokevirtual 184, 3) := dk_182 0 184 (dk_at dksX3_readDie_2 15 rfl rfl)
theorem dX3_readDie_64 : decode cX3_readDie 64 = .ok (.ifCond .eq 14, 3) := dk_153 0 14 (dk_at dksX3_readDie_2 18 rfl rfl)
theorem dX3_readDie_67 : decode cX3_readDie 67 = .ok (.aload_n 0, 1) := dk_42 (dk_at dksX3_readDie_2 21 rfl rfl)
theorem dX3_readDie_68 : decode cX3_readDie 68 = .ok (.getfield 16, 3) := dk_180 0 16 (dk_at dksX3_readDie_3 0 rfl rfl)
theorem dX3_readDie_71 : decode cX3_readDie 71 = .ok (.iload_n 1, 1) := dk_27 (dk_at dksX3_readDie_3 3 rfl rfl)
theorem dX3_readDie_72 : decode cX3_readDie 72 = .ok (.iload_n 2, 1) := dk_28 (dk_at dksX3_readDie_3 4 rfl rfl)
theorem dX3_readDie_73 : decode cX3_readDie 73 = .ok (.iload_n 3, 1) := dk_29 (dk_at dksX3_readDie_3 5 rfl rfl)
theorem dX3_readDie_74 : decode cX3_readDie 74 = .ok (.invokestatic 194, 3) := dk_184 0 194 (dk_at dksX3_readDie_3 6 rfl rfl)
theorem dX3_readDie_77 : decode cX3_readDie 77 = .ok (.pop, 1) := dk_87 (dk_at dksX3_readDie_3 9 rfl rfl)
theorem dX3_readDie_78 : decode cX3_readDie 78 = .ok (.return_, 1) := dk_177 (dk_at dksX3_readDie_3 10 rfl rfl)
abbrev cX3_end : ByteArray := prog_10_method_65_code
def yX3_end : MethodName := ⟨RX3, "end", "()V"⟩
def dkwX3_end_1 : List UInt8 := [16, 59, 160, 0, 7, 4, 167, 0, 4, 3, 181, 0, 156, 177]
abbrev dktX3_end_1 : List UInt8 := dkwX3_end_1 ++ []
def dkwX3_end_0 : List UInt8 := [42, 42, 180, 0, 156, 153, 0, 27, 42, 180, 0, 153, 42, 180, 0, 147, 159, 0, 12, 42, 182, 0, 160]
abbrev dktX3_end_0 : List UInt8 := dkwX3_end_0 ++ dktX3_end_1
theorem dksX3_end_0 : cX3_end.data.toList.drop 0 = dktX3_end_0 := by decide +kernel
theorem dksX3_end_1 : cX3_end.data.toList.drop 23 = dktX3_end_1 := dk_seg dksX3_end_0 23 rfl rfl
theorem dX3_end_0 : decode cX3_end 0 = .ok (.aload_n 0, 1) := dk_42 (dk_at dksX3_end_0 0 rfl rfl)
theorem dX3_end_1 : decode cX3_end 1 = .ok (.aload_n 0, 1) := dk_42 (dk_at dksX3_end_0 1 rfl rfl)
theorem dX3_end_2 : decode cX3_end 2 = .ok (.getfield 156, 3) := dk_180 0 156 (dk_at dksX3_end_0 2 rfl rfl)
theorem dX3_end_5 : decode cX3_end 5 = .ok (.ifCond .eq 27, 3) := dk_153 0 27 (dk_at dksX3_end_0 5 rfl rfl)
theorem dX3_end_8 : decode cX3_end 8 = .ok (.aload_n 0, 1) := dk_42 (dk_at dksX3_end_0 8 rfl rfl)
theorem dX3_end_9 : decode cX3_end 9 = .ok (.getfield 153, 3) := dk_180 0 153 (dk_at dksX3_end_0 9 rfl rfl)
theorem dX3_end_12 : decode cX3_end 12 = .ok (.aload_n 0, 1) := dk_42 (dk_at dksX3_end_0 12 rfl rfl)
theorem dX3_end_13 : decode cX3_end 13 = .ok (.getfield 147, 3) := dk_180 0 147 (dk_at dksX3_end_0 13 rfl rfl)
theorem dX3_end_16 : decode cX3_end 16 = .ok (.if_icmp .eq 12, 3) := dk_159 0 12 (dk_at dksX3_end_0 16 rfl rfl)
theorem dX3_end_19 : decode cX3_end 19 = .ok (.aload_n 0, 1) := dk_42 (dk_at dksX3_end_0 19 rfl rfl)
theorem dX3_end_20 : decode cX3_end 20 = .ok (.invokevirtual 160, 3) := dk_182 0 160 (dk_at dksX3_end_0 20 rfl rfl)
theorem dX3_end_23 : decode cX3_end 23 = .ok (.bipush 59, 2) := dk_16 59 (dk_at dksX3_end_1 0 rfl rfl)
theorem dX3_end_25 : decode cX3_end 25 = .ok (.if_icmp .ne 7, 3) := dk_160 0 7 (dk_at dksX3_end_1 2 rfl rfl)
theorem dX3_end_28 : decode cX3_end 28 = .ok (.iconst 1, 1) := dk_4 (dk_at dksX3_end_1 5 rfl rfl)
theorem dX3_end_29 : decode cX3_end 29 = .ok (.goto 4, 3) := dk_167 0 4 (dk_at dksX3_end_1 6 rfl rfl)
theorem dX3_end_32 : decode cX3_end 32 = .ok (.iconst 0, 1) := dk_3 (dk_at dksX3_end_1 9 rfl rfl)
theorem dX3_end_33 : decode cX3_end 33 = .ok (.putfield 156, 3) := dk_181 0 156 (dk_at dksX3_end_1 10 rfl rfl)
theorem dX3_end_36 : decode cX3_end 36 = .ok (.return_, 1) := dk_177 (dk_at dksX3_end_1 13 rfl rfl)
abbrev cX3_goDie : ByteArray := prog_10_method_40_code
def yX3_goDie : MethodName := ⟨RX3, "goDie", "([IIII)I"⟩
def dkwX3_goDie_1 : List UInt8 := [21, 4, 96, 29, 79, 42, 16, 55, 21, 4, 96, 3, 79, 42, 4, 92, 46, 4, 96, 79, 21, 4, 172]
abbrev dktX3_goDie_1 : List UInt8 := dkwX3_goDie_1 ++ []
def dkwX3_goDie_0 : List UInt8 := [42, 4, 46, 54, 4, 42, 16, 25, 21, 4, 96, 27, 79, 42, 16, 35, 21, 4, 96, 28, 79, 42, 16, 45]
abbrev dktX3_goDie_0 : List UInt8 := dkwX3_goDie_0 ++ dktX3_goDie_1
theorem dksX3_goDie_0 : cX3_goDie.data.toList.drop 0 = dktX3_goDie_0 := by decide +kernel
theorem dksX3_goDie_1 : cX3_goDie.data.toList.drop 24 = dktX3_goDie_1 := dk_seg dksX3_goDie_0 24 rfl rfl
theorem dX3_goDie_0 : decode cX3_goDie 0 = .ok (.aload_n 0, 1) := dk_42 (dk_at dksX3_goDie_0 0 rfl rfl)
theorem dX3_goDie_1 : decode cX3_goDie 1 = .ok (.iconst 1, 1) := dk_4 (dk_at dksX3_goDie_0 1 rfl rfl)
theorem dX3_goDie_2 : decode cX3_goDie 2 = .ok (.iaload, 1) := dk_46 (dk_at dksX3_goDie_0 2 rfl rfl)
theorem dX3_goDie_3 : decode cX3_goDie 3 = .ok (.istore 4, 2) := dk_54 4 (dk_at dksX3_goDie_0 3 rfl rfl)
theorem dX3_goDie_5 : decode cX3_goDie 5 = .ok (.aload_n 0, 1) := dk_42 (dk_at dksX3_goDie_0 5 rfl rfl)
theorem dX3_goDie_6 : decode cX3_goDie 6 = .ok (.bipush 25, 2) := dk_16 25 (dk_at dksX3_goDie_0 6 rfl rfl)
theorem dX3_goDie_8 : decode cX3_goDie 8 = .ok (.iload 4, 2) := dk_21 4 (dk_at dksX3_goDie_0 8 rfl rfl)
theorem dX3_goDie_10 : decode cX3_goDie 10 = .ok (.iadd, 1) := dk_96 (dk_at dksX3_goDie_0 10 rfl rfl)
theorem dX3_goDie_11 : decode cX3_goDie 11 = .ok (.iload_n 1, 1) := dk_27 (dk_at dksX3_goDie_0 11 rfl rfl)
theorem dX3_goDie_12 : decode cX3_goDie 12 = .ok (.iastore, 1) := dk_79 (dk_at dksX3_goDie_0 12 rfl rfl)
theorem dX3_goDie_13 : decode cX3_goDie 13 = .ok (.aload_n 0, 1) := dk_42 (dk_at dksX3_goDie_0 13 rfl rfl)
theorem dX3_goDie_14 : decode cX3_goDie 14 = .ok (.bipush 35, 2) := dk_16 35 (dk_at dksX3_goDie_0 14 rfl rfl)
theorem dX3_goDie_16 : decode cX3_goDie 16 = .ok (.iload 4, 2) := dk_21 4 (dk_at dksX3_goDie_0 16 rfl rfl)
theorem dX3_goDie_18 : decode cX3_goDie 18 = .ok (.iadd, 1) := dk_96 (dk_at dksX3_goDie_0 18 rfl rfl)
theorem dX3_goDie_19 : decode cX3_goDie 19 = .ok (.iload_n 2, 1) := dk_28 (dk_at dksX3_goDie_0 19 rfl rfl)
theorem dX3_goDie_20 : decode cX3_goDie 20 = .ok (.iastore, 1) := dk_79 (dk_at dksX3_goDie_0 20 rfl rfl)
theorem dX3_goDie_21 : decode cX3_goDie 21 = .ok (.aload_n 0, 1) := dk_42 (dk_at dksX3_goDie_0 21 rfl rfl)
theorem dX3_goDie_22 : decode cX3_goDie 22 = .ok (.bipush 45, 2) := dk_16 45 (dk_at dksX3_goDie_0 22 rfl rfl)
theorem dX3_goDie_24 : decode cX3_goDie 24 = .ok (.iload 4, 2) := dk_21 4 (dk_at dksX3_goDie_1 0 rfl rfl)
theorem dX3_goDie_26 : decode cX3_goDie 26 = .ok (.iadd, 1) := dk_96 (dk_at dksX3_goDie_1 2 rfl rfl)
theorem dX3_goDie_27 : decode cX3_goDie 27 = .ok (.iload_n 3, 1) := dk_29 (dk_at dksX3_goDie_1 3 rfl rfl)
theorem dX3_goDie_28 : decode cX3_goDie 28 = .ok (.iastore, 1) := dk_79 (dk_at dksX3_goDie_1 4 rfl rfl)
theorem dX3_goDie_29 : decode cX3_goDie 29 = .ok (.aload_n 0, 1) := dk_42 (dk_at dksX3_goDie_1 5 rfl rfl)
theorem dX3_goDie_30 : decode cX3_goDie 30 = .ok (.bipush 55, 2) := dk_16 55 (dk_at dksX3_goDie_1 6 rfl rfl)
theorem dX3_goDie_32 : decode cX3_goDie 32 = .ok (.iload 4, 2) := dk_21 4 (dk_at dksX3_goDie_1 8 rfl rfl)
theorem dX3_goDie_34 : decode cX3_goDie 34 = .ok (.iadd, 1) := dk_96 (dk_at dksX3_goDie_1 10 rfl rfl)
theorem dX3_goDie_35 : decode cX3_goDie 35 = .ok (.iconst 0, 1) := dk_3 (dk_at dksX3_goDie_1 11 rfl rfl)
theorem dX3_goDie_36 : decode cX3_goDie 36 = .ok (.iastore, 1) := dk_79 (dk_at dksX3_goDie_1 12 rfl rfl)
theorem dX3_goDie_37 : decode cX3_goDie 37 = .ok (.aload_n 0, 1) := dk_42 (dk_at dksX3_goDie_1 13 rfl rfl)
theorem dX3_goDie_38 : decode cX3_goDie 38 = .ok (.iconst 1, 1) := dk_4 (dk_at dksX3_goDie_1 14 rfl rfl)
theorem dX3_goDie_39 : decode cX3_goDie 39 = .ok (.dup2, 1) := dk_92 (dk_at dksX3_goDie_1 15 rfl rfl)
theorem dX3_goDie_40 : decode cX3_goDie 40 = .ok (.iaload, 1) := dk_46 (dk_at dksX3_goDie_1 16 rfl rfl)
theorem dX3_goDie_41 : decode cX3_goDie 41 = .ok (.iconst 1, 1) := dk_4 (dk_at dksX3_goDie_1 17 rfl rfl)
theorem dX3_goDie_42 : decode cX3_goDie 42 = .ok (.iadd, 1) := dk_96 (dk_at dksX3_goDie_1 18 rfl rfl)
theorem dX3_goDie_43 : decode cX3_goDie 43 = .ok (.iastore, 1) := dk_79 (dk_at dksX3_goDie_1 19 rfl rfl)
theorem dX3_goDie_44 : decode cX3_goDie 44 = .ok (.iload 4, 2) := dk_21 4 (dk_at dksX3_goDie_1 20 rfl rfl)
theorem dX3_goDie_46 : decode cX3_goDie 46 = .ok (.ireturn, 1) := dk_172 (dk_at dksX3_goDie_1 22 rfl rfl)
abbrev cX3_readCrack : ByteArray := prog_10_method_62_code
def yX3_readCrack : MethodName := ⟨RX3, "readCrack", "()V"⟩
def dkwX3_readCrack_2 : List UInt8 := [182, 0, 184, 153, 0, 13, 42, 180, 0, 16, 27, 28, 184, 0, 204, 87, 177]
abbrev dktX3_readCrack_2 : List UInt8 := dkwX3_readCrack_2 ++ []
def dkwX3_readCrack_1 : List UInt8 := [184, 0, 197, 153, 0, 19, 42, 180, 0, 16, 27, 28, 184, 0, 200, 153, 0, 7, 4, 167, 0, 4, 3]
abbrev dktX3_readCrack_1 : List UInt8 := dkwX3_readCrack_1 ++ dktX3_readCrack_2
def dkwX3_readCrack_0 : List UInt8 := [42, 3, 16, 9, 182, 0, 168, 60, 42, 182, 0, 175, 61, 42, 182, 0, 191, 42, 42, 180, 0, 16, 27]
abbrev dktX3_readCrack_0 : List UInt8 := dkwX3_readCrack_0 ++ dktX3_readCrack_1
theorem dksX3_readCrack_0 : cX3_readCrack.data.toList.drop 0 = dktX3_readCrack_0 := by decide +kernel
theorem dksX3_readCrack_1 : cX3_readCrack.data.toList.drop 23 = dktX3_readCrack_1 := dk_seg dksX3_readCrack_0 23 rfl rfl
theorem dksX3_readCrack_2 : cX3_readCrack.data.toList.drop 46 = dktX3_readCrack_2 := dk_seg dksX3_readCrack_1 23 rfl rfl
theorem dX3_readCrack_0 : decode cX3_readCrack 0 = .ok (.aload_n 0, 1) := dk_42 (dk_at dksX3_readCrack_0 0 rfl rfl)
theorem dX3_readCrack_1 : decode cX3_readCrack 1 = .ok (.iconst 0, 1) := dk_3 (dk_at dksX3_readCrack_0 1 rfl rfl)
theorem dX3_readCrack_2 : decode cX3_readCrack 2 = .ok (.bipush 9, 2) := dk_16 9 (dk_at dksX3_readCrack_0 2 rfl rfl)
theorem dX3_readCrack_4 : decode cX3_readCrack 4 = .ok (.invokevirtual 168, 3) := dk_182 0 168 (dk_at dksX3_readCrack_0 4 rfl rfl)
theorem dX3_readCrack_7 : decode cX3_readCrack 7 = .ok (.istore_n 1, 1) := dk_60 (dk_at dksX3_readCrack_0 7 rfl rfl)
theorem dX3_readCrack_8 : decode cX3_readCrack 8 = .ok (.aload_n 0, 1) := dk_42 (dk_at dksX3_readCrack_0 8 rfl rfl)
theorem dX3_readCrack_9 : decode cX3_readCrack 9 = .ok (.invokevirtual 175, 3) := dk_182 0 175 (dk_at dksX3_readCrack_0 9 rfl rfl)
theorem dX3_readCrack_12 : decode cX3_readCrack 12 = .ok (.istore_n 2, 1) := dk_61 (dk_at dksX3_readCrack_0 12 rfl rfl)
theorem dX3_readCrack_13 : decode cX3_readCrack 13 = .ok (.aload_n 0, 1) := dk_42 (dk_at dksX3_readCrack_0 13 rfl rfl)
theorem dX3_readCrack_14 : decode cX3_readCrack 14 = .ok (.invokevirtual 191, 3) := dk_182 0 191 (dk_at dksX3_readCrack_0 14 rfl rfl)
theorem dX3_readCrack_17 : decode cX3_readCrack 17 = .ok (.aload_n 0, 1) := dk_42 (dk_at dksX3_readCrack_0 17 rfl rfl)
theorem dX3_readCrack_18 : decode cX3_readCrack 18 = .ok (.aload_n 0, 1) := dk_42 (dk_at dksX3_readCrack_0 18 rfl rfl)
theorem dX3_readCrack_19 : decode cX3_readCrack 19 = .ok (.getfield 16, 3) := dk_180 0 16 (dk_at dksX3_readCrack_0 19 rfl rfl)
theorem dX3_readCrack_22 : decode cX3_readCrack 22 = .ok (.iload_n 1, 1) := dk_27 (dk_at dksX3_readCrack_0 22 rfl rfl)
theorem dX3_readCrack_23 : decode cX3_readCrack 23 = .ok (.invokestatic 197, 3) := dk_184 0 197 (dk_at dksX3_readCrack_1 0 rfl rfl)
theorem dX3_readCrack_26 : decode cX3_readCrack 26 = .ok (.ifCond .eq 19, 3) := dk_153 0 19 (dk_at dksX3_readCrack_1 3 rfl rfl)
theorem dX3_readCrack_29 : decode cX3_readCrack 29 = .ok (.aload_n 0, 1) := dk_42 (dk_at dksX3_readCrack_1 6 rfl rfl)
theorem dX3_readCrack_30 : decode cX3_readCrack 30 = .ok (.getfield 16, 3) := dk_180 0 16 (dk_at dksX3_readCrack_1 7 rfl rfl)
theorem dX3_readCrack_33 : decode cX3_readCrack 33 = .ok (.iload_n 1, 1) := dk_27 (dk_at dksX3_readCrack_1 10 rfl rfl)
theorem dX3_readCrack_34 : decode cX3_readCrack 34 = .ok (.iload_n 2, 1) := dk_28 (dk_at dksX3_readCrack_1 11 rfl rfl)
theorem dX3_readCrack_35 : decode cX3_readCrack 35 = .ok (.invokestatic 200, 3) := dk_184 0 200 (dk_at dksX3_readCrack_1 12 rfl rfl)
theorem dX3_readCrack_38 : decode cX3_readCrack 38 = .ok (.ifCond .eq 7, 3) := dk_153 0 7 (dk_at dksX3_readCrack_1 15 rfl rfl)
theorem dX3_readCrack_41 : decode cX3_readCrack 41 = .ok (.iconst 1, 1) := dk_4 (dk_at dksX3_readCrack_1 18 rfl rfl)
theorem dX3_readCrack_42 : decode cX3_readCrack 42 = .ok (.goto 4, 3) := dk_167 0 4 (dk_at dksX3_readCrack_1 19 rfl rfl)
theorem dX3_readCrack_45 : decode cX3_readCrack 45 = .ok (.iconst 0, 1) := dk_3 (dk_at dksX3_readCrack_1 22 rfl rfl)
theorem dX3_readCrack_46 : decode cX3_readCrack 46 = .ok (.invokevirtual 184, 3) := dk_182 0 184 (dk_at dksX3_readCrack_2 0 rfl rfl)
theorem dX3_readCrack_49 : decode cX3_readCrack 49 = .ok (.ifCond .eq 13, 3) := dk_153 0 13 (dk_at dksX3_readCrack_2 3 rfl rfl)
theorem dX3_readCrack_52 : decode cX3_readCrack 52 = .ok (.aload_n 0, 1) := dk_42 (dk_at dksX3_readCrack_2 6 rfl rfl)
theorem dX3_readCrack_53 : decode cX3_readCrack 53 = .ok (.getfield 16, 3) := dk_180 0 16 (dk_at dksX3_readCrack_2 7 rfl rfl)
theorem dX3_readCrack_56 : decode cX3_readCrack 56 = .ok (.iload_n 1, 1) := dk_27 (dk_at dksX3_readCrack_2 10 rfl rfl)
theorem dX3_readCrack_57 : decode cX3_readCrack 57 = .ok (.iload_n 2, 1) := dk_28 (dk_at dksX3_readCrack_2 11 rfl rfl)
theorem dX3_readCrack_58 : decode cX3_readCrack 58 = .ok (.invokestatic 204, 3) := dk_184 0 204 (dk_at dksX3_readCrack_2 12 rfl rfl)
theorem dX3_readCrack_61 : decode cX3_readCrack 61 = .ok (.pop, 1) := dk_87 (dk_at dksX3_readCrack_2 15 rfl rfl)
theorem dX3_readCrack_62 : decode cX3_readCrack 62 = .ok (.return_, 1) := dk_177 (dk_at dksX3_readCrack_2 16 rfl rfl)
abbrev cX3_hasDie : ByteArray := prog_10_method_11_code
def yX3_hasDie : MethodName := ⟨RX3, "hasDie", "([II)Z"⟩
def dkwX3_hasDie_0 : List UInt8 := [27, 133, 9, 42, 4, 46, 4, 100, 133, 184, 0, 49, 172]
abbrev dktX3_hasDie_0 : List UInt8 := dkwX3_hasDie_0 ++ []
theorem dksX3_hasDie_0 : cX3_hasDie.data.toList.drop 0 = dktX3_hasDie_0 := by decide +kernel
theorem dX3_hasDie_0 : decode cX3_hasDie 0 = .ok (.iload_n 1, 1) := dk_27 (dk_at dksX3_hasDie_0 0 rfl rfl)
theorem dX3_hasDie_1 : decode cX3_hasDie 1 = .ok (.i2l, 1) := dk_133 (dk_at dksX3_hasDie_0 1 rfl rfl)
theorem dX3_hasDie_2 : decode cX3_hasDie 2 = .ok (.lconst 0, 1) := dk_9 (dk_at dksX3_hasDie_0 2 rfl rfl)
theorem dX3_hasDie_3 : decode cX3_hasDie 3 = .ok (.aload_n 0, 1) := dk_42 (dk_at dksX3_hasDie_0 3 rfl rfl)
theorem dX3_hasDie_4 : decode cX3_hasDie 4 = .ok (.iconst 1, 1) := dk_4 (dk_at dksX3_hasDie_0 4 rfl rfl)
theorem dX3_hasDie_5 : decode cX3_hasDie 5 = .ok (.iaload, 1) := dk_46 (dk_at dksX3_hasDie_0 5 rfl rfl)
theorem dX3_hasDie_6 : decode cX3_hasDie 6 = .ok (.iconst 1, 1) := dk_4 (dk_at dksX3_hasDie_0 6 rfl rfl)
theorem dX3_hasDie_7 : decode cX3_hasDie 7 = .ok (.isub, 1) := dk_100 (dk_at dksX3_hasDie_0 7 rfl rfl)
theorem dX3_hasDie_8 : decode cX3_hasDie 8 = .ok (.i2l, 1) := dk_133 (dk_at dksX3_hasDie_0 8 rfl rfl)
theorem dX3_hasDie_9 : decode cX3_hasDie 9 = .ok (.invokestatic 49, 3) := dk_184 0 49 (dk_at dksX3_hasDie_0 9 rfl rfl)
theorem dX3_hasDie_12 : decode cX3_hasDie 12 = .ok (.ireturn, 1) := dk_172 (dk_at dksX3_hasDie_0 12 rfl rfl)
abbrev cX3_canCrack : ByteArray := prog_10_method_41_code
def yX3_canCrack : MethodName := ⟨RX3, "canCrack", "([III)Z"⟩
def dkwX3_canCrack_2 : List UInt8 := [159, 0, 7, 4, 167, 0, 4, 3, 62, 132, 4, 1, 167, 255, 217, 29, 172]
abbrev dktX3_canCrack_2 : List UInt8 := dkwX3_canCrack_2 ++ []
def dkwX3_canCrack_1 : List UInt8 := [27, 96, 46, 162, 0, 34, 29, 153, 0, 22, 42, 16, 65, 7, 27, 104, 96, 21, 4, 96, 46, 28]
abbrev dktX3_canCrack_1 : List UInt8 := dkwX3_canCrack_1 ++ dktX3_canCrack_2
def dkwX3_canCrack_0 : List UInt8 := [42, 16, 55, 27, 96, 46, 7, 162, 0, 7, 4, 167, 0, 4, 3, 62, 3, 54, 4, 21, 4, 42, 16, 55]
abbrev dktX3_canCrack_0 : List UInt8 := dkwX3_canCrack_0 ++ dktX3_canCrack_1
theorem dksX3_canCrack_0 : cX3_canCrack.data.toList.drop 0 = dktX3_canCrack_0 := by decide +kernel
theorem dksX3_canCrack_1 : cX3_canCrack.data.toList.drop 24 = dktX3_canCrack_1 := dk_seg dksX3_canCrack_0 24 rfl rfl
theorem dksX3_canCrack_2 : cX3_canCrack.data.toList.drop 46 = dktX3_canCrack_2 := dk_seg dksX3_canCrack_1 22 rfl rfl
theorem dX3_canCrack_0 : decode cX3_canCrack 0 = .ok (.aload_n 0, 1) := dk_42 (dk_at dksX3_canCrack_0 0 rfl rfl)
theorem dX3_canCrack_1 : decode cX3_canCrack 1 = .ok (.bipush 55, 2) := dk_16 55 (dk_at dksX3_canCrack_0 1 rfl rfl)
theorem dX3_canCrack_3 : decode cX3_canCrack 3 = .ok (.iload_n 1, 1) := dk_27 (dk_at dksX3_canCrack_0 3 rfl rfl)
theorem dX3_canCrack_4 : decode cX3_canCrack 4 = .ok (.iadd, 1) := dk_96 (dk_at dksX3_canCrack_0 4 rfl rfl)
theorem dX3_canCrack_5 : decode cX3_canCrack 5 = .ok (.iaload, 1) := dk_46 (dk_at dksX3_canCrack_0 5 rfl rfl)
theorem dX3_canCrack_6 : decode cX3_canCrack 6 = .ok (.iconst 4, 1) := dk_7 (dk_at dksX3_canCrack_0 6 rfl rfl)
theorem dX3_canCrack_7 : decode cX3_canCrack 7 = .ok (.if_icmp .ge 7, 3) := dk_162 0 7 (dk_at dksX3_canCrack_0 7 rfl rfl)
theorem dX3_canCrack_10 : decode cX3_canCrack 10 = .ok (.iconst 1, 1) := dk_4 (dk_at dksX3_canCrack_0 10 rfl rfl)
theorem dX3_canCrack_11 : decode cX3_canCrack 11 = .ok (.goto 4, 3) := dk_167 0 4 (dk_at dksX3_canCrack_0 11 rfl rfl)
theorem dX3_canCrack_14 : decode cX3_canCrack 14 = .ok (.iconst 0, 1) := dk_3 (dk_at dksX3_canCrack_0 14 rfl rfl)
theorem dX3_canCrack_15 : decode cX3_canCrack 15 = .ok (.istore_n 3, 1) := dk_62 (dk_at dksX3_canCrack_0 15 rfl rfl)
theorem dX3_canCrack_16 : decode cX3_canCrack 16 = .ok (.iconst 0, 1) := dk_3 (dk_at dksX3_canCrack_0 16 rfl rfl)
theorem dX3_canCrack_17 : decode cX3_canCrack 17 = .ok (.istore 4, 2) := dk_54 4 (dk_at dksX3_canCrack_0 17 rfl rfl)
theorem dX3_canCrack_19 : decode cX3_canCrack 19 = .ok (.iload 4, 2) := dk_21 4 (dk_at dksX3_canCrack_0 19 rfl rfl)
theorem dX3_canCrack_21 : decode cX3_canCrack 21 = .ok (.aload_n 0, 1) := dk_42 (dk_at dksX3_canCrack_0 21 rfl rfl)
theorem dX3_canCrack_22 : decode cX3_canCrack 22 = .ok (.bipush 55, 2) := dk_16 55 (dk_at dksX3_canCrack_0 22 rfl rfl)
theorem dX3_canCrack_24 : decode cX3_canCrack 24 = .ok (.iload_n 1, 1) := dk_27 (dk_at dksX3_canCrack_1 0 rfl rfl)
theorem dX3_canCrack_25 : decode cX3_canCrack 25 = .ok (.iadd, 1) := dk_96 (dk_at dksX3_canCrack_1 1 rfl rfl)
theorem dX3_canCrack_26 : decode cX3_canCrack 26 = .ok (.iaload, 1) := dk_46 (dk_at dksX3_canCrack_1 2 rfl rfl)
theorem dX3_canCrack_27 : decode cX3_canCrack 27 = .ok (.if_icmp .ge 34, 3) := dk_162 0 34 (dk_at dksX3_canCrack_1 3 rfl rfl)
theorem dX3_canCrack_30 : decode cX3_canCrack 30 = .ok (.iload_n 3, 1) := dk_29 (dk_at dksX3_canCrack_1 6 rfl rfl)
theorem dX3_canCrack_31 : decode cX3_canCrack 31 = .ok (.ifCond .eq 22, 3) := dk_153 0 22 (dk_at dksX3_canCrack_1 7 rfl rfl)
theorem dX3_canCrack_34 : decode cX3_canCrack 34 = .ok (.aload_n 0, 1) := dk_42 (dk_at dksX3_canCrack_1 10 rfl rfl)
theorem dX3_canCrack_35 : decode cX3_canCrack 35 = .ok (.bipush 65, 2) := dk_16 65 (dk_at dksX3_canCrack_1 11 rfl rfl)
theorem dX3_canCrack_37 : decode cX3_canCrack 37 = .ok (.iconst 4, 1) := dk_7 (dk_at dksX3_canCrack_1 13 rfl rfl)
theorem dX3_canCrack_38 : decode cX3_canCrack 38 = .ok (.iload_n 1, 1) := dk_27 (dk_at dksX3_canCrack_1 14 rfl rfl)
theorem dX3_canCrack_39 : decode cX3_canCrack 39 = .ok (.imul, 1) := dk_104 (dk_at dksX3_canCrack_1 15 rfl rfl)
theorem dX3_canCrack_40 : decode cX3_canCrack 40 = .ok (.iadd, 1) := dk_96 (dk_at dksX3_canCrack_1 16 rfl rfl)
theorem dX3_canCrack_41 : decode cX3_canCrack 41 = .ok (.iload 4, 2) := dk_21 4 (dk_at dksX3_canCrack_1 17 rfl rfl)
theorem dX3_canCrack_43 : decode cX3_canCrack 43 = .ok (.iadd, 1) := dk_96 (dk_at dksX3_canCrack_1 19 rfl rfl)
theorem dX3_canCrack_44 : decode cX3_canCrack 44 = .ok (.iaload, 1) := dk_46 (dk_at dksX3_canCrack_1 20 rfl rfl)
theorem dX3_canCrack_45 : decode cX3_canCrack 45 = .ok (.iload_n 2, 1) := dk_28 (dk_at dksX3_canCrack_1 21 rfl rfl)
theorem dX3_canCrack_46 : decode cX3_canCrack 46 = .ok (.if_icmp .eq 7, 3) := dk_159 0 7 (dk_at dksX3_canCrack_2 0 rfl rfl)
theorem dX3_canCrack_49 : decode cX3_canCrack 49 = .ok (.iconst 1, 1) := dk_4 (dk_at dksX3_canCrack_2 3 rfl rfl)
theorem dX3_canCrack_50 : decode cX3_canCrack 50 = .ok (.goto 4, 3) := dk_167 0 4 (dk_at dksX3_canCrack_2 4 rfl rfl)
theorem dX3_canCrack_53 : decode cX3_canCrack 53 = .ok (.iconst 0, 1) := dk_3 (dk_at dksX3_canCrack_2 7 rfl rfl)
theorem dX3_canCrack_54 : decode cX3_canCrack 54 = .ok (.istore_n 3, 1) := dk_62 (dk_at dksX3_canCrack_2 8 rfl rfl)
theorem dX3_canCrack_55 : decode cX3_canCrack 55 = .ok (.iinc 4 1, 3) := dk_132 4 1 (dk_at dksX3_canCrack_2 9 rfl rfl)
theorem dX3_canCrack_58 : decode cX3_canCrack 58 = .ok (.goto (-39), 3) := dk_167 255 217 (dk_at dksX3_canCrack_2 12 rfl rfl)
theorem dX3_canCrack_61 : decode cX3_canCrack 61 = .ok (.iload_n 3, 1) := dk_29 (dk_at dksX3_canCrack_2 15 rfl rfl)
theorem dX3_canCrack_62 : decode cX3_canCrack 62 = .ok (.ireturn, 1) := dk_172 (dk_at dksX3_canCrack_2 16 rfl rfl)
abbrev cX3_goCrack : ByteArray := prog_10_method_42_code
def yX3_goCrack : MethodName := ⟨RX3, "goCrack", "([III)I"⟩
def dkwX3_goCrack_1 : List UInt8 := [96, 79, 42, 16, 55, 27, 96, 46, 4, 100, 172]
abbrev dktX3_goCrack_1 : List UInt8 := dkwX3_goCrack_1 ++ []
def dkwX3_goCrack_0 : List UInt8 := [42, 16, 65, 7, 27, 104, 96, 42, 16, 55, 27, 96, 46, 96, 28, 79, 42, 16, 55, 27, 96, 92, 46, 4]
abbrev dktX3_goCrack_0 : List UInt8 := dkwX3_goCrack_0 ++ dktX3_goCrack_1
theorem dksX3_goCrack_0 : cX3_goCrack.data.toList.drop 0 = dktX3_goCrack_0 := by decide +kernel
theorem dksX3_goCrack_1 : cX3_goCrack.data.toList.drop 24 = dktX3_goCrack_1 := dk_seg dksX3_goCrack_0 24 rfl rfl
theorem dX3_goCrack_0 : decode cX3_goCrack 0 = .ok (.aload_n 0, 1) := dk_42 (dk_at dksX3_goCrack_0 0 rfl rfl)
theorem dX3_goCrack_1 : decode cX3_goCrack 1 = .ok (.bipush 65, 2) := dk_16 65 (dk_at dksX3_goCrack_0 1 rfl rfl)
theorem dX3_goCrack_3 : decode cX3_goCrack 3 = .ok (.iconst 4, 1) := dk_7 (dk_at dksX3_goCrack_0 3 rfl rfl)
theorem dX3_goCrack_4 : decode cX3_goCrack 4 = .ok (.iload_n 1, 1) := dk_27 (dk_at dksX3_goCrack_0 4 rfl rfl)
theorem dX3_goCrack_5 : decode cX3_goCrack 5 = .ok (.imul, 1) := dk_104 (dk_at dksX3_goCrack_0 5 rfl rfl)
theorem dX3_goCrack_6 : decode cX3_goCrack 6 = .ok (.iadd, 1) := dk_96 (dk_at dksX3_goCrack_0 6 rfl rfl)
theorem dX3_goCrack_7 : decode cX3_goCrack 7 = .ok (.aload_n 0, 1) := dk_42 (dk_at dksX3_goCrack_0 7 rfl rfl)
theorem dX3_goCrack_8 : decode cX3_goCrack 8 = .ok (.bipush 55, 2) := dk_16 55 (dk_at dksX3_goCrack_0 8 rfl rfl)
theorem dX3_goCrack_10 : decode cX3_goCrack 10 = .ok (.iload_n 1, 1) := dk_27 (dk_at dksX3_goCrack_0 10 rfl rfl)
theorem dX3_goCrack_11 : decode cX3_goCrack 11 = .ok (.iadd, 1) := dk_96 (dk_at dksX3_goCrack_0 11 rfl rfl)
theorem dX3_goCrack_12 : decode cX3_goCrack 12 = .ok (.iaload, 1) := dk_46 (dk_at dksX3_goCrack_0 12 rfl rfl)
theorem dX3_goCrack_13 : decode cX3_goCrack 13 = .ok (.iadd, 1) := dk_96 (dk_at dksX3_goCrack_0 13 rfl rfl)
theorem dX3_goCrack_14 : decode cX3_goCrack 14 = .ok (.iload_n 2, 1) := dk_28 (dk_at dksX3_goCrack_0 14 rfl rfl)
theorem dX3_goCrack_15 : decode cX3_goCrack 15 = .ok (.iastore, 1) := dk_79 (dk_at dksX3_goCrack_0 15 rfl rfl)
theorem dX3_goCrack_16 : decode cX3_goCrack 16 = .ok (.aload_n 0, 1) := dk_42 (dk_at dksX3_goCrack_0 16 rfl rfl)
theorem dX3_goCrack_17 : decode cX3_goCrack 17 = .ok (.bipush 55, 2) := dk_16 55 (dk_at dksX3_goCrack_0 17 rfl rfl)
theorem dX3_goCrack_19 : decode cX3_goCrack 19 = .ok (.iload_n 1, 1) := dk_27 (dk_at dksX3_goCrack_0 19 rfl rfl)
theorem dX3_goCrack_20 : decode cX3_goCrack 20 = .ok (.iadd, 1) := dk_96 (dk_at dksX3_goCrack_0 20 rfl rfl)
theorem dX3_goCrack_21 : decode cX3_goCrack 21 = .ok (.dup2, 1) := dk_92 (dk_at dksX3_goCrack_0 21 rfl rfl)
theorem dX3_goCrack_22 : decode cX3_goCrack 22 = .ok (.iaload, 1) := dk_46 (dk_at dksX3_goCrack_0 22 rfl rfl)
theorem dX3_goCrack_23 : decode cX3_goCrack 23 = .ok (.iconst 1, 1) := dk_4 (dk_at dksX3_goCrack_0 23 rfl rfl)
theorem dX3_goCrack_24 : decode cX3_goCrack 24 = .ok (.iadd, 1) := dk_96 (dk_at dksX3_goCrack_1 0 rfl rfl)
theorem dX3_goCrack_25 : decode cX3_goCrack 25 = .ok (.iastore, 1) := dk_79 (dk_at dksX3_goCrack_1 1 rfl rfl)
theorem dX3_goCrack_26 : decode cX3_goCrack 26 = .ok (.aload_n 0, 1) := dk_42 (dk_at dksX3_goCrack_1 2 rfl rfl)
theorem dX3_goCrack_27 : decode cX3_goCrack 27 = .ok (.bipush 55, 2) := dk_16 55 (dk_at dksX3_goCrack_1 3 rfl rfl)
theorem dX3_goCrack_29 : decode cX3_goCrack 29 = .ok (.iload_n 1, 1) := dk_27 (dk_at dksX3_goCrack_1 5 rfl rfl)
theorem dX3_goCrack_30 : decode cX3_goCrack 30 = .ok (.iadd, 1) := dk_96 (dk_at dksX3_goCrack_1 6 rfl rfl)
theorem dX3_goCrack_31 : decode cX3_goCrack 31 = .ok (.iaload, 1) := dk_46 (dk_at dksX3_goCrack_1 7 rfl rfl)
theorem dX3_goCrack_32 : decode cX3_goCrack 32 = .ok (.iconst 1, 1) := dk_4 (dk_at dksX3_goCrack_1 8 rfl rfl)
theorem dX3_goCrack_33 : decode cX3_goCrack 33 = .ok (.isub, 1) := dk_100 (dk_at dksX3_goCrack_1 9 rfl rfl)
theorem dX3_goCrack_34 : decode cX3_goCrack 34 = .ok (.ireturn, 1) := dk_172 (dk_at dksX3_goCrack_1 10 rfl rfl)
abbrev cX3_readHang : ByteArray := prog_10_method_64_code
def yX3_readHang : MethodName := ⟨RX3, "readHang", "()V"⟩
def dkwX3_readHang_2 : List UInt8 := [184, 0, 214, 182, 0, 184, 153, 0, 13, 42, 180, 0, 16, 28, 29, 184, 0, 217, 87, 177]
abbrev dktX3_readHang_2 : List UInt8 := dkwX3_readHang_2 ++ []
def dkwX3_readHang_1 : List UInt8 := [182, 0, 168, 96, 61, 42, 3, 8, 182, 0, 168, 62, 42, 182, 0, 191, 42, 42, 180, 0, 16, 28]
abbrev dktX3_readHang_1 : List UInt8 := dkwX3_readHang_1 ++ dktX3_readHang_2
def dkwX3_readHang_0 : List UInt8 := [42, 3, 5, 182, 0, 168, 60, 16, 10, 27, 104, 42, 3, 27, 5, 160, 0, 7, 6, 167, 0, 5, 16, 9]
abbrev dktX3_readHang_0 : List UInt8 := dkwX3_readHang_0 ++ dktX3_readHang_1
theorem dksX3_readHang_0 : cX3_readHang.data.toList.drop 0 = dktX3_readHang_0 := by decide +kernel
theorem dksX3_readHang_1 : cX3_readHang.data.toList.drop 24 = dktX3_readHang_1 := dk_seg dksX3_readHang_0 24 rfl rfl
theorem dksX3_readHang_2 : cX3_readHang.data.toList.drop 46 = dktX3_readHang_2 := dk_seg dksX3_readHang_1 22 rfl rfl
theorem dX3_readHang_0 : decode cX3_readHang 0 = .ok (.aload_n 0, 1) := dk_42 (dk_at dksX3_readHang_0 0 rfl rfl)
theorem dX3_readHang_1 : decode cX3_readHang 1 = .ok (.iconst 0, 1) := dk_3 (dk_at dksX3_readHang_0 1 rfl rfl)
theorem dX3_readHang_2 : decode cX3_readHang 2 = .ok (.iconst 2, 1) := dk_5 (dk_at dksX3_readHang_0 2 rfl rfl)
theorem dX3_readHang_3 : decode cX3_readHang 3 = .ok (.invokevirtual 168, 3) := dk_182 0 168 (dk_at dksX3_readHang_0 3 rfl rfl)
theorem dX3_readHang_6 : decode cX3_readHang 6 = .ok (.istore_n 1, 1) := dk_60 (dk_at dksX3_readHang_0 6 rfl rfl)
theorem dX3_readHang_7 : decode cX3_readHang 7 = .ok (.bipush 10, 2) := dk_16 10 (dk_at dksX3_readHang_0 7 rfl rfl)
theorem dX3_readHang_9 : decode cX3_readHang 9 = .ok (.iload_n 1, 1) := dk_27 (dk_at dksX3_readHang_0 9 rfl rfl)
theorem dX3_readHang_10 : decode cX3_readHang 10 = .ok (.imul, 1) := dk_104 (dk_at dksX3_readHang_0 10 rfl rfl)
theorem dX3_readHang_11 : decode cX3_readHang 11 = .ok (.aload_n 0, 1) := dk_42 (dk_at dksX3_readHang_0 11 rfl rfl)
theorem dX3_readHang_12 : decode cX3_readHang 12 = .ok (.iconst 0, 1) := dk_3 (dk_at dksX3_readHang_0 12 rfl rfl)
theorem dX3_readHang_13 : decode cX3_readHang 13 = .ok (.iload_n 1, 1) := dk_27 (dk_at dksX3_readHang_0 13 rfl rfl)
theorem dX3_readHang_14 : decode cX3_readHang 14 = .ok (.iconst 2, 1) := dk_5 (dk_at dksX3_readHang_0 14 rfl rfl)
theorem dX3_readHang_15 : decode cX3_readHang 15 = .ok (.if_icmp .ne 7, 3) := dk_160 0 7 (dk_at dksX3_readHang_0 15 rfl rfl)
theorem dX3_readHang_18 : decode cX3_readHang 18 = .ok (.iconst 3, 1) := dk_6 (dk_at dksX3_readHang_0 18 rfl rfl)
theorem dX3_readHang_19 : decode cX3_readHang 19 = .ok (.goto 5, 3) := dk_167 0 5 (dk_at dksX3_readHang_0 19 rfl rfl)
theorem dX3_readHang_22 : decode cX3_readHang 22 = .ok (.bipush 9, 2) := dk_16 9 (dk_at dksX3_readHang_0 22 rfl rfl)
theorem dX3_readHang_24 : decode cX3_readHang 24 = .ok (.invokevirtual 168, 3) := dk_182 0 168 (dk_at dksX3_readHang_1 0 rfl rfl)
theorem dX3_readHang_27 : decode cX3_readHang 27 = .ok (.iadd, 1) := dk_96 (dk_at dksX3_readHang_1 3 rfl rfl)
theorem dX3_readHang_28 : decode cX3_readHang 28 = .ok (.istore_n 2, 1) := dk_61 (dk_at dksX3_readHang_1 4 rfl rfl)
theorem dX3_readHang_29 : decode cX3_readHang 29 = .ok (.aload_n 0, 1) := dk_42 (dk_at dksX3_readHang_1 5 rfl rfl)
theorem dX3_readHang_30 : decode cX3_readHang 30 = .ok (.iconst 0, 1) := dk_3 (dk_at dksX3_readHang_1 6 rfl rfl)
theorem dX3_readHang_31 : decode cX3_readHang 31 = .ok (.iconst 5, 1) := dk_8 (dk_at dksX3_readHang_1 7 rfl rfl)
theorem dX3_readHang_32 : decode cX3_readHang 32 = .ok (.invokevirtual 168, 3) := dk_182 0 168 (dk_at dksX3_readHang_1 8 rfl rfl)
theorem dX3_readHang_35 : decode cX3_readHang 35 = .ok (.istore_n 3, 1) := dk_62 (dk_at dksX3_readHang_1 11 rfl rfl)
theorem dX3_readHang_36 : decode cX3_readHang 36 = .ok (.aload_n 0, 1) := dk_42 (dk_at dksX3_readHang_1 12 rfl rfl)
theorem dX3_readHang_37 : decode cX3_readHang 37 = .ok (.invokevirtual 191, 3) := dk_182 0 191 (dk_at dksX3_readHang_1 13 rfl rfl)
theorem dX3_readHang_40 : decode cX3_readHang 40 = .ok (.aload_n 0, 1) := dk_42 (dk_at dksX3_readHang_1 16 rfl rfl)
theorem dX3_readHang_41 : decode cX3_readHang 41 = .ok (.aload_n 0, 1) := dk_42 (dk_at dksX3_readHang_1 17 rfl rfl)
theorem dX3_readHang_42 : decode cX3_readHang 42 = .ok (.getfield 16, 3) := dk_180 0 16 (dk_at dksX3_readHang_1 18 rfl rfl)
theorem dX3_readHang_45 : decode cX3_readHang 45 = .ok (.iload_n 2, 1) := dk_28 (dk_at dksX3_readHang_1 21 rfl rfl)
theorem dX3_readHang_46 : decode cX3_readHang 46 = .ok (.invokestatic 214, 3) := dk_184 0 214 (dk_at dksX3_readHang_2 0 rfl rfl)
theorem dX3_readHang_49 : decode cX3_readHang 49 = .ok (.invokevirtual 184, 3) := dk_182 0 184 (dk_at dksX3_readHang_2 3 rfl rfl)
theorem dX3_readHang_52 : decode cX3_readHang 52 = .ok (.ifCond .eq 13, 3) := dk_153 0 13 (dk_at dksX3_readHang_2 6 rfl rfl)
theorem dX3_readHang_55 : decode cX3_readHang 55 = .ok (.aload_n 0, 1) := dk_42 (dk_at dksX3_readHang_2 9 rfl rfl)
theorem dX3_readHang_56 : decode cX3_readHang 56 = .ok (.getfield 16, 3) := dk_180 0 16 (dk_at dksX3_readHang_2 10 rfl rfl)
theorem dX3_readHang_59 : decode cX3_readHang 59 = .ok (.iload_n 2, 1) := dk_28 (dk_at dksX3_readHang_2 13 rfl rfl)
theorem dX3_readHang_60 : decode cX3_readHang 60 = .ok (.iload_n 3, 1) := dk_29 (dk_at dksX3_readHang_2 14 rfl rfl)
theorem dX3_readHang_61 : decode cX3_readHang 61 = .ok (.invokestatic 217, 3) := dk_184 0 217 (dk_at dksX3_readHang_2 15 rfl rfl)
theorem dX3_readHang_64 : decode cX3_readHang 64 = .ok (.pop, 1) := dk_87 (dk_at dksX3_readHang_2 18 rfl rfl)
theorem dX3_readHang_65 : decode cX3_readHang 65 = .ok (.return_, 1) := dk_177 (dk_at dksX3_readHang_2 19 rfl rfl)
abbrev cX3_hasSeal : ByteArray := prog_10_method_12_code
def yX3_hasSeal : MethodName := ⟨RX3, "hasSeal", "([II)Z"⟩
def dkwX3_hasSeal_0 : List UInt8 := [27, 133, 9, 42, 5, 46, 4, 100, 133, 184, 0, 49, 172]
abbrev dktX3_hasSeal_0 : List UInt8 := dkwX3_hasSeal_0 ++ []
theorem dksX3_hasSeal_0 : cX3_hasSeal.data.toList.drop 0 = dktX3_hasSeal_0 := by decide +kernel
theorem dX3_hasSeal_0 : decode cX3_hasSeal 0 = .ok (.iload_n 1, 1) := dk_27 (dk_at dksX3_hasSeal_0 0 rfl rfl)
theorem dX3_hasSeal_1 : decode cX3_hasSeal 1 = .ok (.i2l, 1) := dk_133 (dk_at dksX3_hasSeal_0 1 rfl rfl)
theorem dX3_hasSeal_2 : decode cX3_hasSeal 2 = .ok (.lconst 0, 1) := dk_9 (dk_at dksX3_hasSeal_0 2 rfl rfl)
theorem dX3_hasSeal_3 : decode cX3_hasSeal 3 = .ok (.aload_n 0, 1) := dk_42 (dk_at dksX3_hasSeal_0 3 rfl rfl)
theorem dX3_hasSeal_4 : decode cX3_hasSeal 4 = .ok (.iconst 2, 1) := dk_5 (dk_at dksX3_hasSeal_0 4 rfl rfl)
theorem dX3_hasSeal_5 : decode cX3_hasSeal 5 = .ok (.iaload, 1) := dk_46 (dk_at dksX3_hasSeal_0 5 rfl rfl)
theorem dX3_hasSeal_6 : decode cX3_hasSeal 6 = .ok (.iconst 1, 1) := dk_4 (dk_at dksX3_hasSeal_0 6 rfl rfl)
theorem dX3_hasSeal_7 : decode cX3_hasSeal 7 = .ok (.isub, 1) := dk_100 (dk_at dksX3_hasSeal_0 7 rfl rfl)
theorem dX3_hasSeal_8 : decode cX3_hasSeal 8 = .ok (.i2l, 1) := dk_133 (dk_at dksX3_hasSeal_0 8 rfl rfl)
theorem dX3_hasSeal_9 : decode cX3_hasSeal 9 = .ok (.invokestatic 49, 3) := dk_184 0 49 (dk_at dksX3_hasSeal_0 9 rfl rfl)
theorem dX3_hasSeal_12 : decode cX3_hasSeal 12 = .ok (.ireturn, 1) := dk_172 (dk_at dksX3_hasSeal_0 12 rfl rfl)
abbrev cX3_goHang : ByteArray := prog_10_method_48_code
def yX3_goHang : MethodName := ⟨RX3, "goHang", "([III)I"⟩
def dkwX3_goHang_0 : List UInt8 := [42, 17, 0, 225, 27, 96, 28, 79, 42, 28, 184, 0, 139, 172]
abbrev dktX3_goHang_0 : List UInt8 := dkwX3_goHang_0 ++ []
theorem dksX3_goHang_0 : cX3_goHang.data.toList.drop 0 = dktX3_goHang_0 := by decide +kernel
theorem dX3_goHang_0 : decode cX3_goHang 0 = .ok (.aload_n 0, 1) := dk_42 (dk_at dksX3_goHang_0 0 rfl rfl)
theorem dX3_goHang_1 : decode cX3_goHang 1 = .ok (.sipush 225, 3) := dk_17 0 225 (dk_at dksX3_goHang_0 1 rfl rfl)
theorem dX3_goHang_4 : decode cX3_goHang 4 = .ok (.iload_n 1, 1) := dk_27 (dk_at dksX3_goHang_0 4 rfl rfl)
theorem dX3_goHang_5 : decode cX3_goHang 5 = .ok (.iadd, 1) := dk_96 (dk_at dksX3_goHang_0 5 rfl rfl)
theorem dX3_goHang_6 : decode cX3_goHang 6 = .ok (.iload_n 2, 1) := dk_28 (dk_at dksX3_goHang_0 6 rfl rfl)
theorem dX3_goHang_7 : decode cX3_goHang 7 = .ok (.iastore, 1) := dk_79 (dk_at dksX3_goHang_0 7 rfl rfl)
theorem dX3_goHang_8 : decode cX3_goHang 8 = .ok (.aload_n 0, 1) := dk_42 (dk_at dksX3_goHang_0 8 rfl rfl)
theorem dX3_goHang_9 : decode cX3_goHang 9 = .ok (.iload_n 2, 1) := dk_28 (dk_at dksX3_goHang_0 9 rfl rfl)
theorem dX3_goHang_10 : decode cX3_goHang 10 = .ok (.invokestatic 139, 3) := dk_184 0 139 (dk_at dksX3_goHang_0 10 rfl rfl)
theorem dX3_goHang_13 : decode cX3_goHang 13 = .ok (.ireturn, 1) := dk_172 (dk_at dksX3_goHang_0 13 rfl rfl)
abbrev cX3_onCharter : ByteArray := prog_10_method_47_code
def yX3_onCharter : MethodName := ⟨RX3, "onCharter", "([II)I"⟩
def dkwX3_onCharter_1 : List UInt8 := [167, 0, 4, 3, 96, 61, 132, 3, 1, 167, 255, 227, 28, 172]
abbrev dktX3_onCharter_1 : List UInt8 := dkwX3_onCharter_1 ++ []
def dkwX3_onCharter_0 : List UInt8 := [3, 61, 3, 62, 29, 42, 5, 46, 162, 0, 28, 28, 42, 17, 0, 225, 29, 96, 46, 27, 160, 0, 7, 4]
abbrev dktX3_onCharter_0 : List UInt8 := dkwX3_onCharter_0 ++ dktX3_onCharter_1
theorem dksX3_onCharter_0 : cX3_onCharter.data.toList.drop 0 = dktX3_onCharter_0 := by decide +kernel
theorem dksX3_onCharter_1 : cX3_onCharter.data.toList.drop 24 = dktX3_onCharter_1 := dk_seg dksX3_onCharter_0 24 rfl rfl
theorem dX3_onCharter_0 : decode cX3_onCharter 0 = .ok (.iconst 0, 1) := dk_3 (dk_at dksX3_onCharter_0 0 rfl rfl)
theorem dX3_onCharter_1 : decode cX3_onCharter 1 = .ok (.istore_n 2, 1) := dk_61 (dk_at dksX3_onCharter_0 1 rfl rfl)
theorem dX3_onCharter_2 : decode cX3_onCharter 2 = .ok (.iconst 0, 1) := dk_3 (dk_at dksX3_onCharter_0 2 rfl rfl)
theorem dX3_onCharter_3 : decode cX3_onCharter 3 = .ok (.istore_n 3, 1) := dk_62 (dk_at dksX3_onCharter_0 3 rfl rfl)
theorem dX3_onCharter_4 : decode cX3_onCharter 4 = .ok (.iload_n 3, 1) := dk_29 (dk_at dksX3_onCharter_0 4 rfl rfl)
theorem dX3_onCharter_5 : decode cX3_onCharter 5 = .ok (.aload_n 0, 1) := dk_42 (dk_at dksX3_onCharter_0 5 rfl rfl)
theorem dX3_onCharter_6 : decode cX3_onCharter 6 = .ok (.iconst 2, 1) := dk_5 (dk_at dksX3_onCharter_0 6 rfl rfl)
theorem dX3_onCharter_7 : decode cX3_onCharter 7 = .ok (.iaload, 1) := dk_46 (dk_at dksX3_onCharter_0 7 rfl rfl)
theorem dX3_onCharter_8 : decode cX3_onCharter 8 = .ok (.if_icmp .ge 28, 3) := dk_162 0 28 (dk_at dksX3_onCharter_0 8 rfl rfl)
theorem dX3_onCharter_11 : decode cX3_onCharter 11 = .ok (.iload_n 2, 1) := dk_28 (dk_at dksX3_onCharter_0 11 rfl rfl)
theorem dX3_onCharter_12 : decode cX3_onCharter 12 = .ok (.aload_n 0, 1) := dk_42 (dk_at dksX3_onCharter_0 12 rfl rfl)
theorem dX3_onCharter_13 : decode cX3_onCharter 13 = .ok (.sipush 225, 3) := dk_17 0 225 (dk_at dksX3_onCharter_0 13 rfl rfl)
theorem dX3_onCharter_16 : decode cX3_onCharter 16 = .ok (.iload_n 3, 1) := dk_29 (dk_at dksX3_onCharter_0 16 rfl rfl)
theorem dX3_onCharter_17 : decode cX3_onCharter 17 = .ok (.iadd, 1) := dk_96 (dk_at dksX3_onCharter_0 17 rfl rfl)
theorem dX3_onCharter_18 : decode cX3_onCharter 18 = .ok (.iaload, 1) := dk_46 (dk_at dksX3_onCharter_0 18 rfl rfl)
theorem dX3_onCharter_19 : decode cX3_onCharter 19 = .ok (.iload_n 1, 1) := dk_27 (dk_at dksX3_onCharter_0 19 rfl rfl)
theorem dX3_onCharter_20 : decode cX3_onCharter 20 = .ok (.if_icmp .ne 7, 3) := dk_160 0 7 (dk_at dksX3_onCharter_0 20 rfl rfl)
theorem dX3_onCharter_23 : decode cX3_onCharter 23 = .ok (.iconst 1, 1) := dk_4 (dk_at dksX3_onCharter_0 23 rfl rfl)
theorem dX3_onCharter_24 : decode cX3_onCharter 24 = .ok (.goto 4, 3) := dk_167 0 4 (dk_at dksX3_onCharter_1 0 rfl rfl)
theorem dX3_onCharter_27 : decode cX3_onCharter 27 = .ok (.iconst 0, 1) := dk_3 (dk_at dksX3_onCharter_1 3 rfl rfl)
theorem dX3_onCharter_28 : decode cX3_onCharter 28 = .ok (.iadd, 1) := dk_96 (dk_at dksX3_onCharter_1 4 rfl rfl)
theorem dX3_onCharter_29 : decode cX3_onCharter 29 = .ok (.istore_n 2, 1) := dk_61 (dk_at dksX3_onCharter_1 5 rfl rfl)
theorem dX3_onCharter_30 : decode cX3_onCharter 30 = .ok (.iinc 3 1, 3) := dk_132 3 1 (dk_at dksX3_onCharter_1 6 rfl rfl)
theorem dX3_onCharter_33 : decode cX3_onCharter 33 = .ok (.goto (-29), 3) := dk_167 255 227 (dk_at dksX3_onCharter_1 9 rfl rfl)
theorem dX3_onCharter_36 : decode cX3_onCharter 36 = .ok (.iload_n 2, 1) := dk_28 (dk_at dksX3_onCharter_1 12 rfl rfl)
theorem dX3_onCharter_37 : decode cX3_onCharter 37 = .ok (.ireturn, 1) := dk_172 (dk_at dksX3_onCharter_1 13 rfl rfl)
abbrev cX3_readSeal : ByteArray := prog_10_method_63_code
def yX3_readSeal : MethodName := ⟨RX3, "readSeal", "(I)V"⟩
def dkwX3_readSeal_6 : List UInt8 := [184, 0, 210, 87, 177]
abbrev dktX3_readSeal_6 : List UInt8 := dkwX3_readSeal_6 ++ []
def dkwX3_readSeal_5 : List UInt8 := [167, 0, 4, 3, 182, 0, 184, 153, 0, 19, 42, 180, 0, 16, 28, 27, 21, 4, 21, 5, 21, 6]
abbrev dktX3_readSeal_5 : List UInt8 := dkwX3_readSeal_5 ++ dktX3_readSeal_6
def dkwX3_readSeal_4 : List UInt8 := [180, 0, 16, 28, 21, 6, 184, 0, 207, 153, 0, 18, 42, 180, 0, 16, 5, 46, 16, 24, 162, 0, 7, 4]
abbrev dktX3_readSeal_4 : List UInt8 := dkwX3_readSeal_4 ++ dktX3_readSeal_5
def dkwX3_readSeal_3 : List UInt8 := [96, 54, 5, 42, 3, 6, 182, 0, 178, 54, 6, 42, 42, 180, 0, 16, 28, 184, 0, 197, 153, 0, 31, 42]
abbrev dktX3_readSeal_3 : List UInt8 := dkwX3_readSeal_3 ++ dktX3_readSeal_4
def dkwX3_readSeal_2 : List UInt8 := [182, 0, 164, 16, 10, 42, 3, 16, 9, 182, 0, 168, 104, 54, 5, 21, 5, 42, 3, 16, 9, 182, 0, 168]
abbrev dktX3_readSeal_2 : List UInt8 := dkwX3_readSeal_2 ++ dktX3_readSeal_3
def dkwX3_readSeal_1 : List UInt8 := [153, 0, 7, 2, 167, 0, 10, 42, 3, 16, 7, 182, 0, 168, 54, 4, 29, 153, 0, 8, 42, 4]
abbrev dktX3_readSeal_1 : List UInt8 := dkwX3_readSeal_1 ++ dktX3_readSeal_2
def dkwX3_readSeal_0 : List UInt8 := [42, 3, 16, 9, 182, 0, 168, 61, 42, 182, 0, 160, 16, 46, 160, 0, 7, 4, 167, 0, 4, 3, 62, 29]
abbrev dktX3_readSeal_0 : List UInt8 := dkwX3_readSeal_0 ++ dktX3_readSeal_1
theorem dksX3_readSeal_0 : cX3_readSeal.data.toList.drop 0 = dktX3_readSeal_0 := by decide +kernel
theorem dksX3_readSeal_1 : cX3_readSeal.data.toList.drop 24 = dktX3_readSeal_1 := dk_seg dksX3_readSeal_0 24 rfl rfl
theorem dksX3_readSeal_2 : cX3_readSeal.data.toList.drop 46 = dktX3_readSeal_2 := dk_seg dksX3_readSeal_1 22 rfl rfl
theorem dksX3_readSeal_3 : cX3_readSeal.data.toList.drop 70 = dktX3_readSeal_3 := dk_seg dksX3_readSeal_2 24 rfl rfl
theorem dksX3_readSeal_4 : cX3_readSeal.data.toList.drop 94 = dktX3_readSeal_4 := dk_seg dksX3_readSeal_3 24 rfl rfl
theorem dksX3_readSeal_5 : cX3_readSeal.data.toList.drop 118 = dktX3_readSeal_5 := dk_seg dksX3_readSeal_4 24 rfl rfl
theorem dksX3_readSeal_6 : cX3_readSeal.data.toList.drop 140 = dktX3_readSeal_6 := dk_seg dksX3_readSeal_5 22 rfl rfl
theorem dX3_readSeal_0 : decode cX3_readSeal 0 = .ok (.aload_n 0, 1) := dk_42 (dk_at dksX3_readSeal_0 0 rfl rfl)
theorem dX3_readSeal_1 : decode cX3_readSeal 1 = .ok (.iconst 0, 1) := dk_3 (dk_at dksX3_readSeal_0 1 rfl rfl)
theorem dX3_readSeal_2 : decode cX3_readSeal 2 = .ok (.bipush 9, 2) := dk_16 9 (dk_at dksX3_readSeal_0 2 rfl rfl)
theorem dX3_readSeal_4 : decode cX3_readSeal 4 = .ok (.invokevirtual 168, 3) := dk_182 0 168 (dk_at dksX3_readSeal_0 4 rfl rfl)
theorem dX3_readSeal_7 : decode cX3_readSeal 7 = .ok (.istore_n 2, 1) := dk_61 (dk_at dksX3_readSeal_0 7 rfl rfl)
theorem dX3_readSeal_8 : decode cX3_readSeal 8 = .ok (.aload_n 0, 1) := dk_42 (dk_at dksX3_readSeal_0 8 rfl rfl)
theorem dX3_readSeal_9 : decode cX3_readSeal 9 = .ok (.invokevirtual 160, 3) := dk_182 0 160 (dk_at dksX3_readSeal_0 9 rfl rfl)
theorem dX3_readSeal_12 : decode cX3_readSeal 12 = .ok (.bipush 46, 2) := dk_16 46 (dk_at dksX3_readSeal_0 12 rfl rfl)
theorem dX3_readSeal_14 : decode cX3_readSeal 14 = .ok (.if_icmp .ne 7, 3) := dk_160 0 7 (dk_at dksX3_readSeal_0 14 rfl rfl)
theorem dX3_readSeal_17 : decode cX3_readSeal 17 = .ok (.iconst 1, 1) := dk_4 (dk_at dksX3_readSeal_0 17 rfl rfl)
theorem dX3_readSeal_18 : decode cX3_readSeal 18 = .ok (.goto 4, 3) := dk_167 0 4 (dk_at dksX3_readSeal_0 18 rfl rfl)
theorem dX3_readSeal_21 : decode cX3_readSeal 21 = .ok (.iconst 0, 1) := dk_3 (dk_at dksX3_readSeal_0 21 rfl rfl)
theorem dX3_readSeal_22 : decode cX3_readSeal 22 = .ok (.istore_n 3, 1) := dk_62 (dk_at dksX3_readSeal_0 22 rfl rfl)
theorem dX3_readSeal_23 : decode cX3_readSeal 23 = .ok (.iload_n 3, 1) := dk_29 (dk_at dksX3_readSeal_0 23 rfl rfl)
theorem dX3_readSeal_24 : decode cX3_readSeal 24 = .ok (.ifCond .eq 7, 3) := dk_153 0 7 (dk_at dksX3_readSeal_1 0 rfl rfl)
theorem dX3_readSeal_27 : decode cX3_readSeal 27 = .ok (.iconst (-1), 1) := dk_2 (dk_at dksX3_readSeal_1 3 rfl rfl)
theorem dX3_readSeal_28 : decode cX3_readSeal 28 = .ok (.goto 10, 3) := dk_167 0 10 (dk_at dksX3_readSeal_1 4 rfl rfl)
theorem dX3_readSeal_31 : decode cX3_readSeal 31 = .ok (.aload_n 0, 1) := dk_42 (dk_at dksX3_readSeal_1 7 rfl rfl)
theorem dX3_readSeal_32 : decode cX3_readSeal 32 = .ok (.iconst 0, 1) := dk_3 (dk_at dksX3_readSeal_1 8 rfl rfl)
theorem dX3_readSeal_33 : decode cX3_readSeal 33 = .ok (.bipush 7, 2) := dk_16 7 (dk_at dksX3_readSeal_1 9 rfl rfl)
theorem dX3_readSeal_35 : decode cX3_readSeal 35 = .ok (.invokevirtual 168, 3) := dk_182 0 168 (dk_at dksX3_readSeal_1 11 rfl rfl)
theorem dX3_readSeal_38 : decode cX3_readSeal 38 = .ok (.istore 4, 2) := dk_54 4 (dk_at dksX3_readSeal_1 14 rfl rfl)
theorem dX3_readSeal_40 : decode cX3_readSeal 40 = .ok (.iload_n 3, 1) := dk_29 (dk_at dksX3_readSeal_1 16 rfl rfl)
theorem dX3_readSeal_41 : decode cX3_readSeal 41 = .ok (.ifCond .eq 8, 3) := dk_153 0 8 (dk_at dksX3_readSeal_1 17 rfl rfl)
theorem dX3_readSeal_44 : decode cX3_readSeal 44 = .ok (.aload_n 0, 1) := dk_42 (dk_at dksX3_readSeal_1 20 rfl rfl)
theorem dX3_readSeal_45 : decode cX3_readSeal 45 = .ok (.iconst 1, 1) := dk_4 (dk_at dksX3_readSeal_1 21 rfl rfl)
theorem dX3_readSeal_46 : decode cX3_readSeal 46 = .ok (.invokevirtual 164, 3) := dk_182 0 164 (dk_at dksX3_readSeal_2 0 rfl rfl)
theorem dX3_readSeal_49 : decode cX3_readSeal 49 = .ok (.bipush 10, 2) := dk_16 10 (dk_at dksX3_readSeal_2 3 rfl rfl)
theorem dX3_readSeal_51 : decode cX3_readSeal 51 = .ok (.aload_n 0, 1) := dk_42 (dk_at dksX3_readSeal_2 5 rfl rfl)
theorem dX3_readSeal_52 : decode cX3_readSeal 52 = .ok (.iconst 0, 1) := dk_3 (dk_at dksX3_readSeal_2 6 rfl rfl)
theorem dX3_readSeal_53 : decode cX3_readSeal 53 = .ok (.bipush 9, 2) := dk_16 9 (dk_at dksX3_readSeal_2 7 rfl rfl)
theorem dX3_readSeal_55 : decode cX3_readSeal 55 = .ok (.invokevirtual 168, 3) := dk_182 0 168 (dk_at dksX3_readSeal_2 9 rfl rfl)
theorem dX3_readSeal_58 : decode cX3_readSeal 58 = .ok (.imul, 1) := dk_104 (dk_at dksX3_readSeal_2 12 rfl rfl)
theorem dX3_readSeal_59 : decode cX3_readSeal 59 = .ok (.istore 5, 2) := dk_54 5 (dk_at dksX3_readSeal_2 13 rfl rfl)
theorem dX3_readSeal_61 : decode cX3_readSeal 61 = .ok (.iload 5, 2) := dk_21 5 (dk_at dksX3_readSeal_2 15 rfl rfl)
theorem dX3_readSeal_63 : decode cX3_readSeal 63 = .ok (.aload_n 0, 1) := dk_42 (dk_at dksX3_readSeal_2 17 rfl rfl)
theorem dX3_readSeal_64 : decode cX3_readSeal 64 = .ok (.iconst 0, 1) := dk_3 (dk_at dksX3_readSeal_2 18 rfl rfl)
theorem dX3_readSeal_65 : decode cX3_readSeal 65 = .ok (.bipush 9, 2) := dk_16 9 (dk_at dksX3_readSeal_2 19 rfl rfl)
theorem dX3_readSeal_67 : decode cX3_readSeal 67 = .ok (.invokevirtual 168, 3) := dk_182 0 168 (dk_at dksX3_readSeal_2 21 rfl rfl)
theorem dX3_readSeal_70 : decode cX3_readSeal 70 = .ok (.iadd, 1) := dk_96 (dk_at dksX3_readSeal_3 0 rfl rfl)
theorem dX3_readSeal_71 : decode cX3_readSeal 71 = .ok (.istore 5, 2) := dk_54 5 (dk_at dksX3_readSeal_3 1 rfl rfl)
theorem dX3_readSeal_73 : decode cX3_readSeal 73 = .ok (.aload_n 0, 1) := dk_42 (dk_at dksX3_readSeal_3 3 rfl rfl)
theorem dX3_readSeal_74 : decode cX3_readSeal 74 = .ok (.iconst 0, 1) := dk_3 (dk_at dksX3_readSeal_3 4 rfl rfl)
theorem dX3_readSeal_75 : decode cX3_readSeal 75 = .ok (.iconst 3, 1) := dk_6 (dk_at dksX3_readSeal_3 5 rfl rfl)
theorem dX3_readSeal_76 : decode cX3_readSeal 76 = .ok (.invokevirtual 178, 3) := dk_182 0 178 (dk_at dksX3_readSeal_3 6 rfl rfl)
theorem dX3_readSeal_79 : decode cX3_readSeal 79 = .ok (.istore 6, 2) := dk_54 6 (dk_at dksX3_readSeal_3 9 rfl rfl)
theorem dX3_readSeal_81 : decode cX3_readSeal 81 = .ok (.aload_n 0, 1) := dk_42 (dk_at dksX3_readSeal_3 11 rfl rfl)
theorem dX3_readSeal_82 : decode cX3_readSeal 82 = .ok (.aload_n 0, 1) := dk_42 (dk_at dksX3_readSeal_3 12 rfl rfl)
theorem dX3_readSeal_83 : decode cX3_readSeal 83 = .ok (.getfield 16, 3) := dk_180 0 16 (dk_at dksX3_readSeal_3 13 rfl rfl)
theorem dX3_readSeal_86 : decode cX3_readSeal 86 = .ok (.iload_n 2, 1) := dk_28 (dk_at dksX3_readSeal_3 16 rfl rfl)
theorem dX3_readSeal_87 : decode cX3_readSeal 87 = .ok (.invokestatic 197, 3) := dk_184 0 197 (dk_at dksX3_readSeal_3 17 rfl rfl)
theorem dX3_readSeal_90 : decode cX3_readSeal 90 = .ok (.ifCond .eq 31, 3) := dk_153 0 31 (dk_at dksX3_readSeal_3 20 rfl rfl)
theorem dX3_readSeal_93 : decode cX3_readSeal 93 = .ok (.aload_n 0, 1) := dk_42 (dk_at dksX3_readSeal_3 23 rfl rfl)
theorem dX3_readSeal_94 : decode cX3_readSeal 94 = .ok (.getfield 16, 3) := dk_180 0 16 (dk_at dksX3_readSeal_4 0 rfl rfl)
theorem dX3_readSeal_97 : decode cX3_readSeal 97 = .ok (.iload_n 2, 1) := dk_28 (dk_at dksX3_readSeal_4 3 rfl rfl)
theorem dX3_readSeal_98 : decode cX3_readSeal 98 = .ok (.iload 6, 2) := dk_21 6 (dk_at dksX3_readSeal_4 4 rfl rfl)
theorem dX3_readSeal_100 : decode cX3_readSeal 100 = .ok (.invokestatic 207, 3) := dk_184 0 207 (dk_at dksX3_readSeal_4 6 rfl rfl)
theorem dX3_readSeal_103 : decode cX3_readSeal 103 = .ok (.ifCond .eq 18, 3) := dk_153 0 18 (dk_at dksX3_readSeal_4 9 rfl rfl)
theorem dX3_readSeal_106 : decode cX3_readSeal 106 = .ok (.aload_n 0, 1) := dk_42 (dk_at dksX3_readSeal_4 12 rfl rfl)
theorem dX3_readSeal_107 : decode cX3_readSeal 107 = .ok (.getfield 16, 3) := dk_180 0 16 (dk_at dksX3_readSeal_4 13 rfl rfl)
theorem dX3_readSeal_110 : decode cX3_readSeal 110 = .ok (.iconst 2, 1) := dk_5 (dk_at dksX3_readSeal_4 16 rfl rfl)
theorem dX3_readSeal_111 : decode cX3_readSeal 111 = .ok (.iaload, 1) := dk_46 (dk_at dksX3_readSeal_4 17 rfl rfl)
theorem dX3_readSeal_112 : decode cX3_readSeal 112 = .ok (.bipush 24, 2) := dk_16 24 (dk_at dksX3_readSeal_4 18 rfl rfl)
theorem dX3_readSeal_114 : decode cX3_readSeal 114 = .ok (.if_icmp .ge 7, 3) := dk_162 0 7 (dk_at dksX3_readSeal_4 20 rfl rfl)
theorem dX3_readSeal_117 : decode cX3_readSeal 117 = .ok (.iconst 1, 1) := dk_4 (dk_at dksX3_readSeal_4 23 rfl rfl)
theorem dX3_readSeal_118 : decode cX3_readSeal 118 = .ok (.goto 4, 3) := dk_167 0 4 (dk_at dksX3_readSeal_5 0 rfl rfl)
theorem dX3_readSeal_121 : decode cX3_readSeal 121 = .ok (.iconst 0, 1) := dk_3 (dk_at dksX3_readSeal_5 3 rfl rfl)
theorem dX3_readSeal_122 : decode cX3_readSeal 122 = .ok (.invokevirtual 184, 3) := dk_182 0 184 (dk_at dksX3_readSeal_5 4 rfl rfl)
theorem dX3_readSeal_125 : decode cX3_readSeal 125 = .ok (.ifCond .eq 19, 3) := dk_153 0 19 (dk_at dksX3_readSeal_5 7 rfl rfl)
theorem dX3_readSeal_128 : decode cX3_readSeal 128 = .ok (.aload_n 0, 1) := dk_42 (dk_at dksX3_readSeal_5 10 rfl rfl)
theorem dX3_readSeal_129 : decode cX3_readSeal 129 = .ok (.getfield 16, 3) := dk_180 0 16 (dk_at dksX3_readSeal_5 11 rfl rfl)
theorem dX3_readSeal_132 : decode cX3_readSeal 132 = .ok (.iload_n 2, 1) := dk_28 (dk_at dksX3_readSeal_5 14 rfl rfl)
theorem dX3_readSeal_133 : decode cX3_readSeal 133 = .ok (.iload_n 1, 1) := dk_27 (dk_at dksX3_readSeal_5 15 rfl rfl)
theorem dX3_readSeal_134 : decode cX3_readSeal 134 = .ok (.iload 4, 2) := dk_21 4 (dk_at dksX3_readSeal_5 16 rfl rfl)
theorem dX3_readSeal_136 : decode cX3_readSeal 136 = .ok (.iload 5, 2) := dk_21 5 (dk_at dksX3_readSeal_5 18 rfl rfl)
theorem dX3_readSeal_138 : decode cX3_readSeal 138 = .ok (.iload 6, 2) := dk_21 6 (dk_at dksX3_readSeal_5 20 rfl rfl)
theorem dX3_readSeal_140 : decode cX3_readSeal 140 = .ok (.invokestatic 210, 3) := dk_184 0 210 (dk_at dksX3_readSeal_6 0 rfl rfl)
theorem dX3_readSeal_143 : decode cX3_readSeal 143 = .ok (.pop, 1) := dk_87 (dk_at dksX3_readSeal_6 3 rfl rfl)
theorem dX3_readSeal_144 : decode cX3_readSeal 144 = .ok (.return_, 1) := dk_177 (dk_at dksX3_readSeal_6 4 rfl rfl)
abbrev cX3_areCracks : ByteArray := prog_10_method_43_code
def yX3_areCracks : MethodName := ⟨RX3, "areCracks", "([III)Z"⟩
def dkwX3_areCracks_0 : List UInt8 := [28, 133, 9, 4, 42, 16, 55, 27, 96, 46, 120, 4, 100, 133, 184, 0, 49, 172]
abbrev dktX3_areCracks_0 : List UInt8 := dkwX3_areCracks_0 ++ []
theorem dksX3_areCracks_0 : cX3_areCracks.data.toList.drop 0 = dktX3_areCracks_0 := by decide +kernel
theorem dX3_areCracks_0 : decode cX3_areCracks 0 = .ok (.iload_n 2, 1) := dk_28 (dk_at dksX3_areCracks_0 0 rfl rfl)
theorem dX3_areCracks_1 : decode cX3_areCracks 1 = .ok (.i2l, 1) := dk_133 (dk_at dksX3_areCracks_0 1 rfl rfl)
theorem dX3_areCracks_2 : decode cX3_areCracks 2 = .ok (.lconst 0, 1) := dk_9 (dk_at dksX3_areCracks_0 2 rfl rfl)
theorem dX3_areCracks_3 : decode cX3_areCracks 3 = .ok (.iconst 1, 1) := dk_4 (dk_at dksX3_areCracks_0 3 rfl rfl)
theorem dX3_areCracks_4 : decode cX3_areCracks 4 = .ok (.aload_n 0, 1) := dk_42 (dk_at dksX3_areCracks_0 4 rfl rfl)
theorem dX3_areCracks_5 : decode cX3_areCracks 5 = .ok (.bipush 55, 2) := dk_16 55 (dk_at dksX3_areCracks_0 5 rfl rfl)
theorem dX3_areCracks_7 : decode cX3_areCracks 7 = .ok (.iload_n 1, 1) := dk_27 (dk_at dksX3_areCracks_0 7 rfl rfl)
theorem dX3_areCracks_8 : decode cX3_areCracks 8 = .ok (.iadd, 1) := dk_96 (dk_at dksX3_areCracks_0 8 rfl rfl)
theorem dX3_areCracks_9 : decode cX3_areCracks 9 = .ok (.iaload, 1) := dk_46 (dk_at dksX3_areCracks_0 9 rfl rfl)
theorem dX3_areCracks_10 : decode cX3_areCracks 10 = .ok (.ishl, 1) := dk_120 (dk_at dksX3_areCracks_0 10 rfl rfl)
theorem dX3_areCracks_11 : decode cX3_areCracks 11 = .ok (.iconst 1, 1) := dk_4 (dk_at dksX3_areCracks_0 11 rfl rfl)
theorem dX3_areCracks_12 : decode cX3_areCracks 12 = .ok (.isub, 1) := dk_100 (dk_at dksX3_areCracks_0 12 rfl rfl)
theorem dX3_areCracks_13 : decode cX3_areCracks 13 = .ok (.i2l, 1) := dk_133 (dk_at dksX3_areCracks_0 13 rfl rfl)
theorem dX3_areCracks_14 : decode cX3_areCracks 14 = .ok (.invokestatic 49, 3) := dk_184 0 49 (dk_at dksX3_areCracks_0 14 rfl rfl)
theorem dX3_areCracks_17 : decode cX3_areCracks 17 = .ok (.ireturn, 1) := dk_172 (dk_at dksX3_areCracks_0 17 rfl rfl)
abbrev cX3_goSeal : ByteArray := prog_10_method_45_code
def yX3_goSeal : MethodName := ⟨RX3, "goSeal", "([IIIIII)I"⟩
def dkwX3_goSeal_2 : List UInt8 := [96, 21, 5, 79, 42, 17, 0, 225, 21, 6, 96, 2, 79, 42, 5, 92, 46, 4, 96, 79, 21, 6, 172]
abbrev dktX3_goSeal_2 : List UInt8 := dkwX3_goSeal_2 ++ []
def dkwX3_goSeal_1 : List UInt8 := [17, 0, 153, 21, 6, 96, 29, 79, 42, 17, 0, 177, 21, 6, 96, 21, 4, 79, 42, 17, 0, 201, 21, 6]
abbrev dktX3_goSeal_1 : List UInt8 := dkwX3_goSeal_1 ++ dktX3_goSeal_2
def dkwX3_goSeal_0 : List UInt8 := [42, 5, 46, 54, 6, 42, 16, 105, 21, 6, 96, 27, 79, 42, 17, 0, 129, 21, 6, 96, 28, 79, 42]
abbrev dktX3_goSeal_0 : List UInt8 := dkwX3_goSeal_0 ++ dktX3_goSeal_1
theorem dksX3_goSeal_0 : cX3_goSeal.data.toList.drop 0 = dktX3_goSeal_0 := by decide +kernel
theorem dksX3_goSeal_1 : cX3_goSeal.data.toList.drop 23 = dktX3_goSeal_1 := dk_seg dksX3_goSeal_0 23 rfl rfl
theorem dksX3_goSeal_2 : cX3_goSeal.data.toList.drop 47 = dktX3_goSeal_2 := dk_seg dksX3_goSeal_1 24 rfl rfl
theorem dX3_goSeal_0 : decode cX3_goSeal 0 = .ok (.aload_n 0, 1) := dk_42 (dk_at dksX3_goSeal_0 0 rfl rfl)
theorem dX3_goSeal_1 : decode cX3_goSeal 1 = .ok (.iconst 2, 1) := dk_5 (dk_at dksX3_goSeal_0 1 rfl rfl)
theorem dX3_goSeal_2 : decode cX3_goSeal 2 = .ok (.iaload, 1) := dk_46 (dk_at dksX3_goSeal_0 2 rfl rfl)
theorem dX3_goSeal_3 : decode cX3_goSeal 3 = .ok (.istore 6, 2) := dk_54 6 (dk_at dksX3_goSeal_0 3 rfl rfl)
theorem dX3_goSeal_5 : decode cX3_goSeal 5 = .ok (.aload_n 0, 1) := dk_42 (dk_at dksX3_goSeal_0 5 rfl rfl)
theorem dX3_goSeal_6 : decode cX3_goSeal 6 = .ok (.bipush 105, 2) := dk_16 105 (dk_at dksX3_goSeal_0 6 rfl rfl)
theorem dX3_goSeal_8 : decode cX3_goSeal 8 = .ok (.iload 6, 2) := dk_21 6 (dk_at dksX3_goSeal_0 8 rfl rfl)
theorem dX3_goSeal_10 : decode cX3_goSeal 10 = .ok (.iadd, 1) := dk_96 (dk_at dksX3_goSeal_0 10 rfl rfl)
theorem dX3_goSeal_11 : decode cX3_goSeal 11 = .ok (.iload_n 1, 1) := dk_27 (dk_at dksX3_goSeal_0 11 rfl rfl)
theorem dX3_goSeal_12 : decode cX3_goSeal 12 = .ok (.iastore, 1) := dk_79 (dk_at dksX3_goSeal_0 12 rfl rfl)
theorem dX3_goSeal_13 : decode cX3_goSeal 13 = .ok (.aload_n 0, 1) := dk_42 (dk_at dksX3_goSeal_0 13 rfl rfl)
theorem dX3_goSeal_14 : decode cX3_goSeal 14 = .ok (.sipush 129, 3) := dk_17 0 129 (dk_at dksX3_goSeal_0 14 rfl rfl)
theorem dX3_goSeal_17 : decode cX3_goSeal 17 = .ok (.iload 6, 2) := dk_21 6 (dk_at dksX3_goSeal_0 17 rfl rfl)
theorem dX3_goSeal_19 : decode cX3_goSeal 19 = .ok (.iadd, 1) := dk_96 (dk_at dksX3_goSeal_0 19 rfl rfl)
theorem dX3_goSeal_20 : decode cX3_goSeal 20 = .ok (.iload_n 2, 1) := dk_28 (dk_at dksX3_goSeal_0 20 rfl rfl)
theorem dX3_goSeal_21 : decode cX3_goSeal 21 = .ok (.iastore, 1) := dk_79 (dk_at dksX3_goSeal_0 21 rfl rfl)
theorem dX3_goSeal_22 : decode cX3_goSeal 22 = .ok (.aload_n 0, 1) := dk_42 (dk_at dksX3_goSeal_0 22 rfl rfl)
theorem dX3_goSeal_23 : decode cX3_goSeal 23 = .ok (.sipush 153, 3) := dk_17 0 153 (dk_at dksX3_goSeal_1 0 rfl rfl)
theorem dX3_goSeal_26 : decode cX3_goSeal 26 = .ok (.iload 6, 2) := dk_21 6 (dk_at dksX3_goSeal_1 3 rfl rfl)
theorem dX3_goSeal_28 : decode cX3_goSeal 28 = .ok (.iadd, 1) := dk_96 (dk_at dksX3_goSeal_1 5 rfl rfl)
theorem dX3_goSeal_29 : decode cX3_goSeal 29 = .ok (.iload_n 3, 1) := dk_29 (dk_at dksX3_goSeal_1 6 rfl rfl)
theorem dX3_goSeal_30 : decode cX3_goSeal 30 = .ok (.iastore, 1) := dk_79 (dk_at dksX3_goSeal_1 7 rfl rfl)
theorem dX3_goSeal_31 : decode cX3_goSeal 31 = .ok (.aload_n 0, 1) := dk_42 (dk_at dksX3_goSeal_1 8 rfl rfl)
theorem dX3_goSeal_32 : decode cX3_goSeal 32 = .ok (.sipush 177, 3) := dk_17 0 177 (dk_at dksX3_goSeal_1 9 rfl rfl)
theorem dX3_goSeal_35 : decode cX3_goSeal 35 = .ok (.iload 6, 2) := dk_21 6 (dk_at dksX3_goSeal_1 12 rfl rfl)
theorem dX3_goSeal_37 : decode cX3_goSeal 37 = .ok (.iadd, 1) := dk_96 (dk_at dksX3_goSeal_1 14 rfl rfl)
theorem dX3_goSeal_38 : decode cX3_goSeal 38 = .ok (.iload 4, 2) := dk_21 4 (dk_at dksX3_goSeal_1 15 rfl rfl)
theorem dX3_goSeal_40 : decode cX3_goSeal 40 = .ok (.iastore, 1) := dk_79 (dk_at dksX3_goSeal_1 17 rfl rfl)
theorem dX3_goSeal_41 : decode cX3_goSeal 41 = .ok (.aload_n 0, 1) := dk_42 (dk_at dksX3_goSeal_1 18 rfl rfl)
theorem dX3_goSeal_42 : decode cX3_goSeal 42 = .ok (.sipush 201, 3) := dk_17 0 201 (dk_at dksX3_goSeal_1 19 rfl rfl)
theorem dX3_goSeal_45 : decode cX3_goSeal 45 = .ok (.iload 6, 2) := dk_21 6 (dk_at dksX3_goSeal_1 22 rfl rfl)
theorem dX3_goSeal_47 : decode cX3_goSeal 47 = .ok (.iadd, 1) := dk_96 (dk_at dksX3_goSeal_2 0 rfl rfl)
theorem dX3_goSeal_48 : decode cX3_goSeal 48 = .ok (.iload 5, 2) := dk_21 5 (dk_at dksX3_goSeal_2 1 rfl rfl)
theorem dX3_goSeal_50 : decode cX3_goSeal 50 = .ok (.iastore, 1) := dk_79 (dk_at dksX3_goSeal_2 3 rfl rfl)
theorem dX3_goSeal_51 : decode cX3_goSeal 51 = .ok (.aload_n 0, 1) := dk_42 (dk_at dksX3_goSeal_2 4 rfl rfl)
theorem dX3_goSeal_52 : decode cX3_goSeal 52 = .ok (.sipush 225, 3) := dk_17 0 225 (dk_at dksX3_goSeal_2 5 rfl rfl)
theorem dX3_goSeal_55 : decode cX3_goSeal 55 = .ok (.iload 6, 2) := dk_21 6 (dk_at dksX3_goSeal_2 8 rfl rfl)
theorem dX3_goSeal_57 : decode cX3_goSeal 57 = .ok (.iadd, 1) := dk_96 (dk_at dksX3_goSeal_2 10 rfl rfl)
theorem dX3_goSeal_58 : decode cX3_goSeal 58 = .ok (.iconst (-1), 1) := dk_2 (dk_at dksX3_goSeal_2 11 rfl rfl)
theorem dX3_goSeal_59 : decode cX3_goSeal 59 = .ok (.iastore, 1) := dk_79 (dk_at dksX3_goSeal_2 12 rfl rfl)
theorem dX3_goSeal_60 : decode cX3_goSeal 60 = .ok (.aload_n 0, 1) := dk_42 (dk_at dksX3_goSeal_2 13 rfl rfl)
theorem dX3_goSeal_61 : decode cX3_goSeal 61 = .ok (.iconst 2, 1) := dk_5 (dk_at dksX3_goSeal_2 14 rfl rfl)
theorem dX3_goSeal_62 : decode cX3_goSeal 62 = .ok (.dup2, 1) := dk_92 (dk_at dksX3_goSeal_2 15 rfl rfl)
theorem dX3_goSeal_63 : decode cX3_goSeal 63 = .ok (.iaload, 1) := dk_46 (dk_at dksX3_goSeal_2 16 rfl rfl)
theorem dX3_goSeal_64 : decode cX3_goSeal 64 = .ok (.iconst 1, 1) := dk_4 (dk_at dksX3_goSeal_2 17 rfl rfl)
theorem dX3_goSeal_65 : decode cX3_goSeal 65 = .ok (.iadd, 1) := dk_96 (dk_at dksX3_goSeal_2 18 rfl rfl)
theorem dX3_goSeal_66 : decode cX3_goSeal 66 = .ok (.iastore, 1) := dk_79 (dk_at dksX3_goSeal_2 19 rfl rfl)
theorem dX3_goSeal_67 : decode cX3_goSeal 67 = .ok (.iload 6, 2) := dk_21 6 (dk_at dksX3_goSeal_2 20 rfl rfl)
theorem dX3_goSeal_69 : decode cX3_goSeal 69 = .ok (.ireturn, 1) := dk_172 (dk_at dksX3_goSeal_2 22 rfl rfl)
abbrev cX3_load : ByteArray := prog_10_method_69_code
def yX3_load : MethodName := ⟨RX3, "load", "()I"⟩
def dkwX3_load_2 : List UInt8 := [180, 0, 25, 4, 3, 84, 42, 180, 0, 172, 172]
abbrev dktX3_load_2 : List UInt8 := dkwX3_load_2 ++ []
def dkwX3_load_1 : List UInt8 := [180, 0, 16, 42, 180, 0, 7, 184, 0, 242, 42, 3, 181, 0, 142, 42, 180, 0, 25, 3, 3, 84, 42]
abbrev dktX3_load_1 : List UInt8 := dkwX3_load_1 ++ dktX3_load_2
def dkwX3_load_0 : List UInt8 := [42, 42, 182, 0, 239, 2, 160, 0, 7, 3, 167, 0, 4, 4, 182, 0, 150, 153, 0, 5, 3, 172, 42]
abbrev dktX3_load_0 : List UInt8 := dkwX3_load_0 ++ dktX3_load_1
theorem dksX3_load_0 : cX3_load.data.toList.drop 0 = dktX3_load_0 := by decide +kernel
theorem dksX3_load_1 : cX3_load.data.toList.drop 23 = dktX3_load_1 := dk_seg dksX3_load_0 23 rfl rfl
theorem dksX3_load_2 : cX3_load.data.toList.drop 46 = dktX3_load_2 := dk_seg dksX3_load_1 23 rfl rfl
theorem dX3_load_0 : decode cX3_load 0 = .ok (.aload_n 0, 1) := dk_42 (dk_at dksX3_load_0 0 rfl rfl)
theorem dX3_load_1 : decode cX3_load 1 = .ok (.aload_n 0, 1) := dk_42 (dk_at dksX3_load_0 1 rfl rfl)
theorem dX3_load_2 : decode cX3_load 2 = .ok (.invokevirtual 239, 3) := dk_182 0 239 (dk_at dksX3_load_0 2 rfl rfl)
theorem dX3_load_5 : decode cX3_load 5 = .ok (.iconst (-1), 1) := dk_2 (dk_at dksX3_load_0 5 rfl rfl)
theorem dX3_load_6 : decode cX3_load 6 = .ok (.if_icmp .ne 7, 3) := dk_160 0 7 (dk_at dksX3_load_0 6 rfl rfl)
theorem dX3_load_9 : decode cX3_load 9 = .ok (.iconst 0, 1) := dk_3 (dk_at dksX3_load_0 9 rfl rfl)
theorem dX3_load_10 : decode cX3_load 10 = .ok (.goto 4, 3) := dk_167 0 4 (dk_at dksX3_load_0 10 rfl rfl)
theorem dX3_load_13 : decode cX3_load 13 = .ok (.iconst 1, 1) := dk_4 (dk_at dksX3_load_0 13 rfl rfl)
theorem dX3_load_14 : decode cX3_load 14 = .ok (.invokevirtual 150, 3) := dk_182 0 150 (dk_at dksX3_load_0 14 rfl rfl)
theorem dX3_load_17 : decode cX3_load 17 = .ok (.ifCond .eq 5, 3) := dk_153 0 5 (dk_at dksX3_load_0 17 rfl rfl)
theorem dX3_load_20 : decode cX3_load 20 = .ok (.iconst 0, 1) := dk_3 (dk_at dksX3_load_0 20 rfl rfl)
theorem dX3_load_21 : decode cX3_load 21 = .ok (.ireturn, 1) := dk_172 (dk_at dksX3_load_0 21 rfl rfl)
theorem dX3_load_22 : decode cX3_load 22 = .ok (.aload_n 0, 1) := dk_42 (dk_at dksX3_load_0 22 rfl rfl)
theorem dX3_load_23 : decode cX3_load 23 = .ok (.getfield 16, 3) := dk_180 0 16 (dk_at dksX3_load_1 0 rfl rfl)
theorem dX3_load_26 : decode cX3_load 26 = .ok (.aload_n 0, 1) := dk_42 (dk_at dksX3_load_1 3 rfl rfl)
theorem dX3_load_27 : decode cX3_load 27 = .ok (.getfield 7, 3) := dk_180 0 7 (dk_at dksX3_load_1 4 rfl rfl)
theorem dX3_load_30 : decode cX3_load 30 = .ok (.invokestatic 242, 3) := dk_184 0 242 (dk_at dksX3_load_1 7 rfl rfl)
theorem dX3_load_33 : decode cX3_load 33 = .ok (.aload_n 0, 1) := dk_42 (dk_at dksX3_load_1 10 rfl rfl)
theorem dX3_load_34 : decode cX3_load 34 = .ok (.iconst 0, 1) := dk_3 (dk_at dksX3_load_1 11 rfl rfl)
theorem dX3_load_35 : decode cX3_load 35 = .ok (.putfield 142, 3) := dk_181 0 142 (dk_at dksX3_load_1 12 rfl rfl)
theorem dX3_load_38 : decode cX3_load 38 = .ok (.aload_n 0, 1) := dk_42 (dk_at dksX3_load_1 15 rfl rfl)
theorem dX3_load_39 : decode cX3_load 39 = .ok (.getfield 25, 3) := dk_180 0 25 (dk_at dksX3_load_1 16 rfl rfl)
theorem dX3_load_42 : decode cX3_load 42 = .ok (.iconst 0, 1) := dk_3 (dk_at dksX3_load_1 19 rfl rfl)
theorem dX3_load_43 : decode cX3_load 43 = .ok (.iconst 0, 1) := dk_3 (dk_at dksX3_load_1 20 rfl rfl)
theorem dX3_load_44 : decode cX3_load 44 = .ok (.bastore, 1) := dk_84 (dk_at dksX3_load_1 21 rfl rfl)
theorem dX3_load_45 : decode cX3_load 45 = .ok (.aload_n 0, 1) := dk_42 (dk_at dksX3_load_1 22 rfl rfl)
theorem dX3_load_46 : decode cX3_load 46 = .ok (.getfield 25, 3) := dk_180 0 25 (dk_at dksX3_load_2 0 rfl rfl)
theorem dX3_load_49 : decode cX3_load 49 = .ok (.iconst 1, 1) := dk_4 (dk_at dksX3_load_2 3 rfl rfl)
theorem dX3_load_50 : decode cX3_load 50 = .ok (.iconst 0, 1) := dk_3 (dk_at dksX3_load_2 4 rfl rfl)
theorem dX3_load_51 : decode cX3_load 51 = .ok (.bastore, 1) := dk_84 (dk_at dksX3_load_2 5 rfl rfl)
theorem dX3_load_52 : decode cX3_load 52 = .ok (.aload_n 0, 1) := dk_42 (dk_at dksX3_load_2 6 rfl rfl)
theorem dX3_load_53 : decode cX3_load 53 = .ok (.getfield 172, 3) := dk_180 0 172 (dk_at dksX3_load_2 7 rfl rfl)
theorem dX3_load_56 : decode cX3_load 56 = .ok (.ireturn, 1) := dk_172 (dk_at dksX3_load_2 10 rfl rfl)
abbrev cX3_copy : ByteArray := prog_10_method_8_code
def yX3_copy : MethodName := ⟨RX3, "copy", "([I[I)V"⟩
def dkwX3_copy_0 : List UInt8 := [3, 61, 28, 17, 1, 35, 162, 0, 15, 43, 28, 42, 28, 46, 79, 132, 2, 1, 167, 255, 240, 177]
abbrev dktX3_copy_0 : List UInt8 := dkwX3_copy_0 ++ []
theorem dksX3_copy_0 : cX3_copy.data.toList.drop 0 = dktX3_copy_0 := by decide +kernel
theorem dX3_copy_0 : decode cX3_copy 0 = .ok (.iconst 0, 1) := dk_3 (dk_at dksX3_copy_0 0 rfl rfl)
theorem dX3_copy_1 : decode cX3_copy 1 = .ok (.istore_n 2, 1) := dk_61 (dk_at dksX3_copy_0 1 rfl rfl)
theorem dX3_copy_2 : decode cX3_copy 2 = .ok (.iload_n 2, 1) := dk_28 (dk_at dksX3_copy_0 2 rfl rfl)
theorem dX3_copy_3 : decode cX3_copy 3 = .ok (.sipush 291, 3) := dk_17 1 35 (dk_at dksX3_copy_0 3 rfl rfl)
theorem dX3_copy_6 : decode cX3_copy 6 = .ok (.if_icmp .ge 15, 3) := dk_162 0 15 (dk_at dksX3_copy_0 6 rfl rfl)
theorem dX3_copy_9 : decode cX3_copy 9 = .ok (.aload_n 1, 1) := dk_43 (dk_at dksX3_copy_0 9 rfl rfl)
theorem dX3_copy_10 : decode cX3_copy 10 = .ok (.iload_n 2, 1) := dk_28 (dk_at dksX3_copy_0 10 rfl rfl)
theorem dX3_copy_11 : decode cX3_copy 11 = .ok (.aload_n 0, 1) := dk_42 (dk_at dksX3_copy_0 11 rfl rfl)
theorem dX3_copy_12 : decode cX3_copy 12 = .ok (.iload_n 2, 1) := dk_28 (dk_at dksX3_copy_0 12 rfl rfl)
theorem dX3_copy_13 : decode cX3_copy 13 = .ok (.iaload, 1) := dk_46 (dk_at dksX3_copy_0 13 rfl rfl)
theorem dX3_copy_14 : decode cX3_copy 14 = .ok (.iastore, 1) := dk_79 (dk_at dksX3_copy_0 14 rfl rfl)
theorem dX3_copy_15 : decode cX3_copy 15 = .ok (.iinc 2 1, 3) := dk_132 2 1 (dk_at dksX3_copy_0 15 rfl rfl)
theorem dX3_copy_18 : decode cX3_copy 18 = .ok (.goto (-16), 3) := dk_167 255 240 (dk_at dksX3_copy_0 18 rfl rfl)
theorem dX3_copy_21 : decode cX3_copy 21 = .ok (.return_, 1) := dk_177 (dk_at dksX3_copy_0 21 rfl rfl)
abbrev cX3_about : ByteArray := prog_10_method_73_code
def yX3_about : MethodName := ⟨RX3, "about", "(I)I"⟩
def dkwX3_about_5 : List UInt8 := [182, 1, 6, 172]
abbrev dktX3_about_5 : List UInt8 := dkwX3_about_5 ++ []
def dkwX3_about_4 : List UInt8 := [180, 0, 7, 182, 0, 252, 172, 42, 182, 1, 0, 172, 42, 42, 180, 0, 7, 182, 1, 3, 172, 42, 27]
abbrev dktX3_about_4 : List UInt8 := dkwX3_about_4 ++ dktX3_about_5
def dkwX3_about_3 : List UInt8 := [42, 180, 0, 7, 3, 46, 172, 42, 180, 0, 7, 4, 46, 172, 42, 180, 0, 7, 5, 46, 172, 42, 42]
abbrev dktX3_about_3 : List UInt8 := dkwX3_about_3 ++ dktX3_about_4
def dkwX3_about_2 : List UInt8 := [170, 0, 0, 0, 93, 0, 0, 0, 0, 0, 0, 0, 8, 0, 0, 0, 49, 0, 0, 0, 56, 0, 0, 0, 63, 0, 0, 0, 70, 0, 0, 0, 93, 0, 0, 0, 93, 0, 0, 0, 79, 0, 0, 0, 93, 0, 0, 0, 84]
abbrev dktX3_about_2 : List UInt8 := dkwX3_about_2 ++ dktX3_about_3
def dkwX3_about_1 : List UInt8 := [3, 172, 27]
abbrev dktX3_about_1 : List UInt8 := dkwX3_about_1 ++ dktX3_about_2
def dkwX3_about_0 : List UInt8 := [42, 27, 133, 9, 20, 0, 250, 184, 0, 49, 153, 0, 7, 3, 167, 0, 4, 4, 182, 0, 150, 153, 0, 5]
abbrev dktX3_about_0 : List UInt8 := dkwX3_about_0 ++ dktX3_about_1
theorem dksX3_about_0 : cX3_about.data.toList.drop 0 = dktX3_about_0 := by decide +kernel
theorem dksX3_about_1 : cX3_about.data.toList.drop 24 = dktX3_about_1 := dk_seg dksX3_about_0 24 rfl rfl
theorem dksX3_about_2 : cX3_about.data.toList.drop 27 = dktX3_about_2 := dk_seg dksX3_about_1 3 rfl rfl
theorem dksX3_about_3 : cX3_about.data.toList.drop 76 = dktX3_about_3 := dk_seg dksX3_about_2 49 rfl rfl
theorem dksX3_about_4 : cX3_about.data.toList.drop 99 = dktX3_about_4 := dk_seg dksX3_about_3 23 rfl rfl
theorem dksX3_about_5 : cX3_about.data.toList.drop 122 = dktX3_about_5 := dk_seg dksX3_about_4 23 rfl rfl
theorem dX3_about_0 : decode cX3_about 0 = .ok (.aload_n 0, 1) := dk_42 (dk_at dksX3_about_0 0 rfl rfl)
theorem dX3_about_1 : decode cX3_about 1 = .ok (.iload_n 1, 1) := dk_27 (dk_at dksX3_about_0 1 rfl rfl)
theorem dX3_about_2 : decode cX3_about 2 = .ok (.i2l, 1) := dk_133 (dk_at dksX3_about_0 2 rfl rfl)
theorem dX3_about_3 : decode cX3_about 3 = .ok (.lconst 0, 1) := dk_9 (dk_at dksX3_about_0 3 rfl rfl)
theorem dX3_about_4 : decode cX3_about 4 = .ok (.ldc2_w 250, 3) := dk_20 0 250 (dk_at dksX3_about_0 4 rfl rfl)
theorem dX3_about_7 : decode cX3_about 7 = .ok (.invokestatic 49, 3) := dk_184 0 49 (dk_at dksX3_about_0 7 rfl rfl)
theorem dX3_about_10 : decode cX3_about 10 = .ok (.ifCond .eq 7, 3) := dk_153 0 7 (dk_at dksX3_about_0 10 rfl rfl)
theorem dX3_about_13 : decode cX3_about 13 = .ok (.iconst 0, 1) := dk_3 (dk_at dksX3_about_0 13 rfl rfl)
theorem dX3_about_14 : decode cX3_about 14 = .ok (.goto 4, 3) := dk_167 0 4 (dk_at dksX3_about_0 14 rfl rfl)
theorem dX3_about_17 : decode cX3_about 17 = .ok (.iconst 1, 1) := dk_4 (dk_at dksX3_about_0 17 rfl rfl)
theorem dX3_about_18 : decode cX3_about 18 = .ok (.invokevirtual 150, 3) := dk_182 0 150 (dk_at dksX3_about_0 18 rfl rfl)
theorem dX3_about_21 : decode cX3_about 21 = .ok (.ifCond .eq 5, 3) := dk_153 0 5 (dk_at dksX3_about_0 21 rfl rfl)
theorem dX3_about_24 : decode cX3_about 24 = .ok (.iconst 0, 1) := dk_3 (dk_at dksX3_about_1 0 rfl rfl)
theorem dX3_about_25 : decode cX3_about 25 = .ok (.ireturn, 1) := dk_172 (dk_at dksX3_about_1 1 rfl rfl)
theorem dX3_about_26 : decode cX3_about 26 = .ok (.iload_n 1, 1) := dk_27 (dk_at dksX3_about_1 2 rfl rfl)
theorem dX3_about_27 : decode cX3_about 27 = .ok (.tableswitch 93 0 8 #[49, 56, 63, 70, 93, 93, 79, 93, 84], 49) := by decide +kernel
theorem dX3_about_76 : decode cX3_about 76 = .ok (.aload_n 0, 1) := dk_42 (dk_at dksX3_about_3 0 rfl rfl)
theorem dX3_about_77 : decode cX3_about 77 = .ok (.getfield 7, 3) := dk_180 0 7 (dk_at dksX3_about_3 1 rfl rfl)
theorem dX3_about_80 : decode cX3_about 80 = .ok (.iconst 0, 1) := dk_3 (dk_at dksX3_about_3 4 rfl rfl)
theorem dX3_about_81 : decode cX3_about 81 = .ok (.iaload, 1) := dk_46 (dk_at dksX3_about_3 5 rfl rfl)
theorem dX3_about_82 : decode cX3_about 82 = .ok (.ireturn, 1) := dk_172 (dk_at dksX3_about_3 6 rfl rfl)
theorem dX3_about_83 : decode cX3_about 83 = .ok (.aload_n 0, 1) := dk_42 (dk_at dksX3_about_3 7 rfl rfl)
theorem dX3_about_84 : decode cX3_about 84 = .ok (.getfield 7, 3) := dk_180 0 7 (dk_at dksX3_about_3 8 rfl rfl)
theorem dX3_about_87 : decode cX3_about 87 = .ok (.iconst 1, 1) := dk_4 (dk_at dksX3_about_3 11 rfl rfl)
theorem dX3_about_88 : decode cX3_about 88 = .ok (.iaload, 1) := dk_46 (dk_at dksX3_about_3 12 rfl rfl)
theorem dX3_about_89 : decode cX3_about 89 = .ok (.ireturn, 1) := dk_172 (dk_at dksX3_about_3 13 rfl rfl)
theorem dX3_about_90 : decode cX3_about 90 = .ok (.aload_n 0, 1) := dk_42 (dk_at dksX3_about_3 14 rfl rfl)
theorem dX3_about_91 : decode cX3_about 91 = .ok (.getfield 7, 3) := dk_180 0 7 (dk_at dksX3_about_3 15 rfl rfl)
theorem dX3_about_94 : decode cX3_about 94 = .ok (.iconst 2, 1) := dk_5 (dk_at dksX3_about_3 18 rfl rfl)
theorem dX3_about_95 : decode cX3_about 95 = .ok (.iaload, 1) := dk_46 (dk_at dksX3_about_3 19 rfl rfl)
theorem dX3_about_96 : decode cX3_about 96 = .ok (.ireturn, 1) := dk_172 (dk_at dksX3_about_3 20 rfl rfl)
theorem dX3_about_97 : decode cX3_about 97 = .ok (.aload_n 0, 1) := dk_42 (dk_at dksX3_about_3 21 rfl rfl)
theorem dX3_about_98 : decode cX3_about 98 = .ok (.aload_n 0, 1) := dk_42 (dk_at dksX3_about_3 22 rfl rfl)
theorem dX3_about_99 : decode cX3_about 99 = .ok (.getfield 7, 3) := dk_180 0 7 (dk_at dksX3_about_4 0 rfl rfl)
theorem dX3_about_102 : decode cX3_about 102 = .ok (.invokevirtual 252, 3) := dk_182 0 252 (dk_at dksX3_about_4 3 rfl rfl)
theorem dX3_about_105 : decode cX3_about 105 = .ok (.ireturn, 1) := dk_172 (dk_at dksX3_about_4 6 rfl rfl)
theorem dX3_about_106 : decode cX3_about 106 = .ok (.aload_n 0, 1) := dk_42 (dk_at dksX3_about_4 7 rfl rfl)
theorem dX3_about_107 : decode cX3_about 107 = .ok (.invokevirtual 256, 3) := dk_182 1 0 (dk_at dksX3_about_4 8 rfl rfl)
theorem dX3_about_110 : decode cX3_about 110 = .ok (.ireturn, 1) := dk_172 (dk_at dksX3_about_4 11 rfl rfl)
theorem dX3_about_111 : decode cX3_about 111 = .ok (.aload_n 0, 1) := dk_42 (dk_at dksX3_about_4 12 rfl rfl)
theorem dX3_about_112 : decode cX3_about 112 = .ok (.aload_n 0, 1) := dk_42 (dk_at dksX3_about_4 13 rfl rfl)
theorem dX3_about_113 : decode cX3_about 113 = .ok (.getfield 7, 3) := dk_180 0 7 (dk_at dksX3_about_4 14 rfl rfl)
theorem dX3_about_116 : decode cX3_about 116 = .ok (.invokevirtual 259, 3) := dk_182 1 3 (dk_at dksX3_about_4 17 rfl rfl)
theorem dX3_about_119 : decode cX3_about 119 = .ok (.ireturn, 1) := dk_172 (dk_at dksX3_about_4 20 rfl rfl)
theorem dX3_about_120 : decode cX3_about 120 = .ok (.aload_n 0, 1) := dk_42 (dk_at dksX3_about_4 21 rfl rfl)
theorem dX3_about_121 : decode cX3_about 121 = .ok (.iload_n 1, 1) := dk_27 (dk_at dksX3_about_4 22 rfl rfl)
theorem dX3_about_122 : decode cX3_about 122 = .ok (.invokevirtual 262, 3) := dk_182 1 6 (dk_at dksX3_about_5 0 rfl rfl)
theorem dX3_about_125 : decode cX3_about 125 = .ok (.ireturn, 1) := dk_172 (dk_at dksX3_about_5 3 rfl rfl)
abbrev cX3_fakes : ByteArray := prog_10_method_26_code
def yX3_fakes : MethodName := ⟨RX3, "fakes", "([I)I"⟩
def dkwX3_fakes_1 : List UInt8 := [167, 0, 4, 3, 96, 61, 132, 3, 1, 167, 255, 229, 28, 172]
abbrev dktX3_fakes_1 : List UInt8 := dkwX3_fakes_1 ++ []
def dkwX3_fakes_0 : List UInt8 := [3, 61, 3, 62, 29, 43, 5, 46, 162, 0, 26, 28, 42, 43, 29, 182, 0, 107, 158, 0, 7, 4]
abbrev dktX3_fakes_0 : List UInt8 := dkwX3_fakes_0 ++ dktX3_fakes_1
theorem dksX3_fakes_0 : cX3_fakes.data.toList.drop 0 = dktX3_fakes_0 := by decide +kernel
theorem dksX3_fakes_1 : cX3_fakes.data.toList.drop 22 = dktX3_fakes_1 := dk_seg dksX3_fakes_0 22 rfl rfl
theorem dX3_fakes_0 : decode cX3_fakes 0 = .ok (.iconst 0, 1) := dk_3 (dk_at dksX3_fakes_0 0 rfl rfl)
theorem dX3_fakes_1 : decode cX3_fakes 1 = .ok (.istore_n 2, 1) := dk_61 (dk_at dksX3_fakes_0 1 rfl rfl)
theorem dX3_fakes_2 : decode cX3_fakes 2 = .ok (.iconst 0, 1) := dk_3 (dk_at dksX3_fakes_0 2 rfl rfl)
theorem dX3_fakes_3 : decode cX3_fakes 3 = .ok (.istore_n 3, 1) := dk_62 (dk_at dksX3_fakes_0 3 rfl rfl)
theorem dX3_fakes_4 : decode cX3_fakes 4 = .ok (.iload_n 3, 1) := dk_29 (dk_at dksX3_fakes_0 4 rfl rfl)
theorem dX3_fakes_5 : decode cX3_fakes 5 = .ok (.aload_n 1, 1) := dk_43 (dk_at dksX3_fakes_0 5 rfl rfl)
theorem dX3_fakes_6 : decode cX3_fakes 6 = .ok (.iconst 2, 1) := dk_5 (dk_at dksX3_fakes_0 6 rfl rfl)
theorem dX3_fakes_7 : decode cX3_fakes 7 = .ok (.iaload, 1) := dk_46 (dk_at dksX3_fakes_0 7 rfl rfl)
theorem dX3_fakes_8 : decode cX3_fakes 8 = .ok (.if_icmp .ge 26, 3) := dk_162 0 26 (dk_at dksX3_fakes_0 8 rfl rfl)
theorem dX3_fakes_11 : decode cX3_fakes 11 = .ok (.iload_n 2, 1) := dk_28 (dk_at dksX3_fakes_0 11 rfl rfl)
theorem dX3_fakes_12 : decode cX3_fakes 12 = .ok (.aload_n 0, 1) := dk_42 (dk_at dksX3_fakes_0 12 rfl rfl)
theorem dX3_fakes_13 : decode cX3_fakes 13 = .ok (.aload_n 1, 1) := dk_43 (dk_at dksX3_fakes_0 13 rfl rfl)
theorem dX3_fakes_14 : decode cX3_fakes 14 = .ok (.iload_n 3, 1) := dk_29 (dk_at dksX3_fakes_0 14 rfl rfl)
theorem dX3_fakes_15 : decode cX3_fakes 15 = .ok (.invokevirtual 107, 3) := dk_182 0 107 (dk_at dksX3_fakes_0 15 rfl rfl)
theorem dX3_fakes_18 : decode cX3_fakes 18 = .ok (.ifCond .le 7, 3) := dk_158 0 7 (dk_at dksX3_fakes_0 18 rfl rfl)
theorem dX3_fakes_21 : decode cX3_fakes 21 = .ok (.iconst 1, 1) := dk_4 (dk_at dksX3_fakes_0 21 rfl rfl)
theorem dX3_fakes_22 : decode cX3_fakes 22 = .ok (.goto 4, 3) := dk_167 0 4 (dk_at dksX3_fakes_1 0 rfl rfl)
theorem dX3_fakes_25 : decode cX3_fakes 25 = .ok (.iconst 0, 1) := dk_3 (dk_at dksX3_fakes_1 3 rfl rfl)
theorem dX3_fakes_26 : decode cX3_fakes 26 = .ok (.iadd, 1) := dk_96 (dk_at dksX3_fakes_1 4 rfl rfl)
theorem dX3_fakes_27 : decode cX3_fakes 27 = .ok (.istore_n 2, 1) := dk_61 (dk_at dksX3_fakes_1 5 rfl rfl)
theorem dX3_fakes_28 : decode cX3_fakes 28 = .ok (.iinc 3 1, 3) := dk_132 3 1 (dk_at dksX3_fakes_1 6 rfl rfl)
theorem dX3_fakes_31 : decode cX3_fakes 31 = .ok (.goto (-27), 3) := dk_167 255 229 (dk_at dksX3_fakes_1 9 rfl rfl)
theorem dX3_fakes_34 : decode cX3_fakes 34 = .ok (.iload_n 2, 1) := dk_28 (dk_at dksX3_fakes_1 12 rfl rfl)
theorem dX3_fakes_35 : decode cX3_fakes 35 = .ok (.ireturn, 1) := dk_172 (dk_at dksX3_fakes_1 13 rfl rfl)
abbrev cX3_fake : ByteArray := prog_10_method_25_code
def yX3_fake : MethodName := ⟨RX3, "fake", "([II)I"⟩
def dkwX3_fake_1 : List UInt8 := [17, 0, 225, 28, 96, 46, 2, 5, 182, 0, 103, 154, 0, 5, 7, 172, 29, 172]
abbrev dktX3_fake_1 : List UInt8 := dkwX3_fake_1 ++ []
def dkwX3_fake_0 : List UInt8 := [43, 28, 184, 0, 96, 62, 29, 154, 0, 33, 43, 17, 0, 225, 28, 96, 46, 2, 159, 0, 22, 42, 43, 43]
abbrev dktX3_fake_0 : List UInt8 := dkwX3_fake_0 ++ dktX3_fake_1
theorem dksX3_fake_0 : cX3_fake.data.toList.drop 0 = dktX3_fake_0 := by decide +kernel
theorem dksX3_fake_1 : cX3_fake.data.toList.drop 24 = dktX3_fake_1 := dk_seg dksX3_fake_0 24 rfl rfl
theorem dX3_fake_0 : decode cX3_fake 0 = .ok (.aload_n 1, 1) := dk_43 (dk_at dksX3_fake_0 0 rfl rfl)
theorem dX3_fake_1 : decode cX3_fake 1 = .ok (.iload_n 2, 1) := dk_28 (dk_at dksX3_fake_0 1 rfl rfl)
theorem dX3_fake_2 : decode cX3_fake 2 = .ok (.invokestatic 96, 3) := dk_184 0 96 (dk_at dksX3_fake_0 2 rfl rfl)
theorem dX3_fake_5 : decode cX3_fake 5 = .ok (.istore_n 3, 1) := dk_62 (dk_at dksX3_fake_0 5 rfl rfl)
theorem dX3_fake_6 : decode cX3_fake 6 = .ok (.iload_n 3, 1) := dk_29 (dk_at dksX3_fake_0 6 rfl rfl)
theorem dX3_fake_7 : decode cX3_fake 7 = .ok (.ifCond .ne 33, 3) := dk_154 0 33 (dk_at dksX3_fake_0 7 rfl rfl)
theorem dX3_fake_10 : decode cX3_fake 10 = .ok (.aload_n 1, 1) := dk_43 (dk_at dksX3_fake_0 10 rfl rfl)
theorem dX3_fake_11 : decode cX3_fake 11 = .ok (.sipush 225, 3) := dk_17 0 225 (dk_at dksX3_fake_0 11 rfl rfl)
theorem dX3_fake_14 : decode cX3_fake 14 = .ok (.iload_n 2, 1) := dk_28 (dk_at dksX3_fake_0 14 rfl rfl)
theorem dX3_fake_15 : decode cX3_fake 15 = .ok (.iadd, 1) := dk_96 (dk_at dksX3_fake_0 15 rfl rfl)
theorem dX3_fake_16 : decode cX3_fake 16 = .ok (.iaload, 1) := dk_46 (dk_at dksX3_fake_0 16 rfl rfl)
theorem dX3_fake_17 : decode cX3_fake 17 = .ok (.iconst (-1), 1) := dk_2 (dk_at dksX3_fake_0 17 rfl rfl)
theorem dX3_fake_18 : decode cX3_fake 18 = .ok (.if_icmp .eq 22, 3) := dk_159 0 22 (dk_at dksX3_fake_0 18 rfl rfl)
theorem dX3_fake_21 : decode cX3_fake 21 = .ok (.aload_n 0, 1) := dk_42 (dk_at dksX3_fake_0 21 rfl rfl)
theorem dX3_fake_22 : decode cX3_fake 22 = .ok (.aload_n 1, 1) := dk_43 (dk_at dksX3_fake_0 22 rfl rfl)
theorem dX3_fake_23 : decode cX3_fake 23 = .ok (.aload_n 1, 1) := dk_43 (dk_at dksX3_fake_0 23 rfl rfl)
theorem dX3_fake_24 : decode cX3_fake 24 = .ok (.sipush 225, 3) := dk_17 0 225 (dk_at dksX3_fake_1 0 rfl rfl)
theorem dX3_fake_27 : decode cX3_fake 27 = .ok (.iload_n 2, 1) := dk_28 (dk_at dksX3_fake_1 3 rfl rfl)
theorem dX3_fake_28 : decode cX3_fake 28 = .ok (.iadd, 1) := dk_96 (dk_at dksX3_fake_1 4 rfl rfl)
theorem dX3_fake_29 : decode cX3_fake 29 = .ok (.iaload, 1) := dk_46 (dk_at dksX3_fake_1 5 rfl rfl)
theorem dX3_fake_30 : decode cX3_fake 30 = .ok (.iconst (-1), 1) := dk_2 (dk_at dksX3_fake_1 6 rfl rfl)
theorem dX3_fake_31 : decode cX3_fake 31 = .ok (.iconst 2, 1) := dk_5 (dk_at dksX3_fake_1 7 rfl rfl)
theorem dX3_fake_32 : decode cX3_fake 32 = .ok (.invokevirtual 103, 3) := dk_182 0 103 (dk_at dksX3_fake_1 8 rfl rfl)
theorem dX3_fake_35 : decode cX3_fake 35 = .ok (.ifCond .ne 5, 3) := dk_154 0 5 (dk_at dksX3_fake_1 11 rfl rfl)
theorem dX3_fake_38 : decode cX3_fake 38 = .ok (.iconst 4, 1) := dk_7 (dk_at dksX3_fake_1 14 rfl rfl)
theorem dX3_fake_39 : decode cX3_fake 39 = .ok (.ireturn, 1) := dk_172 (dk_at dksX3_fake_1 15 rfl rfl)
theorem dX3_fake_40 : decode cX3_fake 40 = .ok (.iload_n 3, 1) := dk_29 (dk_at dksX3_fake_1 16 rfl rfl)
theorem dX3_fake_41 : decode cX3_fake 41 = .ok (.ireturn, 1) := dk_172 (dk_at dksX3_fake_1 17 rfl rfl)
abbrev cX3_alone : ByteArray := prog_10_method_22_code
def yX3_alone : MethodName := ⟨RX3, "alone", "([II)I"⟩
def dkwX3_alone_1 : List UInt8 := [184, 0, 72, 154, 0, 5, 5, 172, 42, 27, 5, 184, 0, 80, 154, 0, 7, 6, 167, 0, 4, 3, 172]
abbrev dktX3_alone_1 : List UInt8 := dkwX3_alone_1 ++ []
def dkwX3_alone_0 : List UInt8 := [42, 27, 184, 0, 76, 153, 0, 5, 4, 172, 42, 17, 3, 232, 17, 7, 207, 42, 27, 184, 0, 69, 5]
abbrev dktX3_alone_0 : List UInt8 := dkwX3_alone_0 ++ dktX3_alone_1
theorem dksX3_alone_0 : cX3_alone.data.toList.drop 0 = dktX3_alone_0 := by decide +kernel
theorem dksX3_alone_1 : cX3_alone.data.toList.drop 23 = dktX3_alone_1 := dk_seg dksX3_alone_0 23 rfl rfl
theorem dX3_alone_0 : decode cX3_alone 0 = .ok (.aload_n 0, 1) := dk_42 (dk_at dksX3_alone_0 0 rfl rfl)
theorem dX3_alone_1 : decode cX3_alone 1 = .ok (.iload_n 1, 1) := dk_27 (dk_at dksX3_alone_0 1 rfl rfl)
theorem dX3_alone_2 : decode cX3_alone 2 = .ok (.invokestatic 76, 3) := dk_184 0 76 (dk_at dksX3_alone_0 2 rfl rfl)
theorem dX3_alone_5 : decode cX3_alone 5 = .ok (.ifCond .eq 5, 3) := dk_153 0 5 (dk_at dksX3_alone_0 5 rfl rfl)
theorem dX3_alone_8 : decode cX3_alone 8 = .ok (.iconst 1, 1) := dk_4 (dk_at dksX3_alone_0 8 rfl rfl)
theorem dX3_alone_9 : decode cX3_alone 9 = .ok (.ireturn, 1) := dk_172 (dk_at dksX3_alone_0 9 rfl rfl)
theorem dX3_alone_10 : decode cX3_alone 10 = .ok (.aload_n 0, 1) := dk_42 (dk_at dksX3_alone_0 10 rfl rfl)
theorem dX3_alone_11 : decode cX3_alone 11 = .ok (.sipush 1000, 3) := dk_17 3 232 (dk_at dksX3_alone_0 11 rfl rfl)
theorem dX3_alone_14 : decode cX3_alone 14 = .ok (.sipush 1999, 3) := dk_17 7 207 (dk_at dksX3_alone_0 14 rfl rfl)
theorem dX3_alone_17 : decode cX3_alone 17 = .ok (.aload_n 0, 1) := dk_42 (dk_at dksX3_alone_0 17 rfl rfl)
theorem dX3_alone_18 : decode cX3_alone 18 = .ok (.iload_n 1, 1) := dk_27 (dk_at dksX3_alone_0 18 rfl rfl)
theorem dX3_alone_19 : decode cX3_alone 19 = .ok (.invokestatic 69, 3) := dk_184 0 69 (dk_at dksX3_alone_0 19 rfl rfl)
theorem dX3_alone_22 : decode cX3_alone 22 = .ok (.iconst 2, 1) := dk_5 (dk_at dksX3_alone_0 22 rfl rfl)
theorem dX3_alone_23 : decode cX3_alone 23 = .ok (.invokestatic 72, 3) := dk_184 0 72 (dk_at dksX3_alone_1 0 rfl rfl)
theorem dX3_alone_26 : decode cX3_alone 26 = .ok (.ifCond .ne 5, 3) := dk_154 0 5 (dk_at dksX3_alone_1 3 rfl rfl)
theorem dX3_alone_29 : decode cX3_alone 29 = .ok (.iconst 2, 1) := dk_5 (dk_at dksX3_alone_1 6 rfl rfl)
theorem dX3_alone_30 : decode cX3_alone 30 = .ok (.ireturn, 1) := dk_172 (dk_at dksX3_alone_1 7 rfl rfl)
theorem dX3_alone_31 : decode cX3_alone 31 = .ok (.aload_n 0, 1) := dk_42 (dk_at dksX3_alone_1 8 rfl rfl)
theorem dX3_alone_32 : decode cX3_alone 32 = .ok (.iload_n 1, 1) := dk_27 (dk_at dksX3_alone_1 9 rfl rfl)
theorem dX3_alone_33 : decode cX3_alone 33 = .ok (.iconst 2, 1) := dk_5 (dk_at dksX3_alone_1 10 rfl rfl)
theorem dX3_alone_34 : decode cX3_alone 34 = .ok (.invokestatic 80, 3) := dk_184 0 80 (dk_at dksX3_alone_1 11 rfl rfl)
theorem dX3_alone_37 : decode cX3_alone 37 = .ok (.ifCond .ne 7, 3) := dk_154 0 7 (dk_at dksX3_alone_1 14 rfl rfl)
theorem dX3_alone_40 : decode cX3_alone 40 = .ok (.iconst 3, 1) := dk_6 (dk_at dksX3_alone_1 17 rfl rfl)
theorem dX3_alone_41 : decode cX3_alone 41 = .ok (.goto 4, 3) := dk_167 0 4 (dk_at dksX3_alone_1 18 rfl rfl)
theorem dX3_alone_44 : decode cX3_alone 44 = .ok (.iconst 0, 1) := dk_3 (dk_at dksX3_alone_1 21 rfl rfl)
theorem dX3_alone_45 : decode cX3_alone 45 = .ok (.ireturn, 1) := dk_172 (dk_at dksX3_alone_1 22 rfl rfl)
abbrev cX3_isCast : ByteArray := prog_10_method_21_code
def yX3_isCast : MethodName := ⟨RX3, "isCast", "([II)Z"⟩
def dkwX3_isCast_1 : List UInt8 := [167, 0, 4, 3, 172]
abbrev dktX3_isCast_1 : List UInt8 := dkwX3_isCast_1 ++ []
def dkwX3_isCast_0 : List UInt8 := [42, 17, 0, 177, 27, 96, 46, 42, 6, 42, 17, 0, 129, 27, 96, 46, 96, 46, 164, 0, 7, 4]
abbrev dktX3_isCast_0 : List UInt8 := dkwX3_isCast_0 ++ dktX3_isCast_1
theorem dksX3_isCast_0 : cX3_isCast.data.toList.drop 0 = dktX3_isCast_0 := by decide +kernel
theorem dksX3_isCast_1 : cX3_isCast.data.toList.drop 22 = dktX3_isCast_1 := dk_seg dksX3_isCast_0 22 rfl rfl
theorem dX3_isCast_0 : decode cX3_isCast 0 = .ok (.aload_n 0, 1) := dk_42 (dk_at dksX3_isCast_0 0 rfl rfl)
theorem dX3_isCast_1 : decode cX3_isCast 1 = .ok (.sipush 177, 3) := dk_17 0 177 (dk_at dksX3_isCast_0 1 rfl rfl)
theorem dX3_isCast_4 : decode cX3_isCast 4 = .ok (.iload_n 1, 1) := dk_27 (dk_at dksX3_isCast_0 4 rfl rfl)
theorem dX3_isCast_5 : decode cX3_isCast 5 = .ok (.iadd, 1) := dk_96 (dk_at dksX3_isCast_0 5 rfl rfl)
theorem dX3_isCast_6 : decode cX3_isCast 6 = .ok (.iaload, 1) := dk_46 (dk_at dksX3_isCast_0 6 rfl rfl)
theorem dX3_isCast_7 : decode cX3_isCast 7 = .ok (.aload_n 0, 1) := dk_42 (dk_at dksX3_isCast_0 7 rfl rfl)
theorem dX3_isCast_8 : decode cX3_isCast 8 = .ok (.iconst 3, 1) := dk_6 (dk_at dksX3_isCast_0 8 rfl rfl)
theorem dX3_isCast_9 : decode cX3_isCast 9 = .ok (.aload_n 0, 1) := dk_42 (dk_at dksX3_isCast_0 9 rfl rfl)
theorem dX3_isCast_10 : decode cX3_isCast 10 = .ok (.sipush 129, 3) := dk_17 0 129 (dk_at dksX3_isCast_0 10 rfl rfl)
theorem dX3_isCast_13 : decode cX3_isCast 13 = .ok (.iload_n 1, 1) := dk_27 (dk_at dksX3_isCast_0 13 rfl rfl)
theorem dX3_isCast_14 : decode cX3_isCast 14 = .ok (.iadd, 1) := dk_96 (dk_at dksX3_isCast_0 14 rfl rfl)
theorem dX3_isCast_15 : decode cX3_isCast 15 = .ok (.iaload, 1) := dk_46 (dk_at dksX3_isCast_0 15 rfl rfl)
theorem dX3_isCast_16 : decode cX3_isCast 16 = .ok (.iadd, 1) := dk_96 (dk_at dksX3_isCast_0 16 rfl rfl)
theorem dX3_isCast_17 : decode cX3_isCast 17 = .ok (.iaload, 1) := dk_46 (dk_at dksX3_isCast_0 17 rfl rfl)
theorem dX3_isCast_18 : decode cX3_isCast 18 = .ok (.if_icmp .le 7, 3) := dk_164 0 7 (dk_at dksX3_isCast_0 18 rfl rfl)
theorem dX3_isCast_21 : decode cX3_isCast 21 = .ok (.iconst 1, 1) := dk_4 (dk_at dksX3_isCast_0 21 rfl rfl)
theorem dX3_isCast_22 : decode cX3_isCast 22 = .ok (.goto 4, 3) := dk_167 0 4 (dk_at dksX3_isCast_1 0 rfl rfl)
theorem dX3_isCast_25 : decode cX3_isCast 25 = .ok (.iconst 0, 1) := dk_3 (dk_at dksX3_isCast_1 3 rfl rfl)
theorem dX3_isCast_26 : decode cX3_isCast 26 = .ok (.ireturn, 1) := dk_172 (dk_at dksX3_isCast_1 4 rfl rfl)
abbrev cX3_maskOf : ByteArray := prog_10_method_18_code
def yX3_maskOf : MethodName := ⟨RX3, "maskOf", "([II)I"⟩
def dkwX3_maskOf_1 : List UInt8 := [172]
abbrev dktX3_maskOf_1 : List UInt8 := dkwX3_maskOf_1 ++ []
def dkwX3_maskOf_0 : List UInt8 := [42, 17, 0, 153, 27, 96, 46, 2, 160, 0, 7, 3, 167, 0, 12, 4, 42, 17, 0, 153, 27, 96, 46, 120]
abbrev dktX3_maskOf_0 : List UInt8 := dkwX3_maskOf_0 ++ dktX3_maskOf_1
theorem dksX3_maskOf_0 : cX3_maskOf.data.toList.drop 0 = dktX3_maskOf_0 := by decide +kernel
theorem dksX3_maskOf_1 : cX3_maskOf.data.toList.drop 24 = dktX3_maskOf_1 := dk_seg dksX3_maskOf_0 24 rfl rfl
theorem dX3_maskOf_0 : decode cX3_maskOf 0 = .ok (.aload_n 0, 1) := dk_42 (dk_at dksX3_maskOf_0 0 rfl rfl)
theorem dX3_maskOf_1 : decode cX3_maskOf 1 = .ok (.sipush 153, 3) := dk_17 0 153 (dk_at dksX3_maskOf_0 1 rfl rfl)
theorem dX3_maskOf_4 : decode cX3_maskOf 4 = .ok (.iload_n 1, 1) := dk_27 (dk_at dksX3_maskOf_0 4 rfl rfl)
theorem dX3_maskOf_5 : decode cX3_maskOf 5 = .ok (.iadd, 1) := dk_96 (dk_at dksX3_maskOf_0 5 rfl rfl)
theorem dX3_maskOf_6 : decode cX3_maskOf 6 = .ok (.iaload, 1) := dk_46 (dk_at dksX3_maskOf_0 6 rfl rfl)
theorem dX3_maskOf_7 : decode cX3_maskOf 7 = .ok (.iconst (-1), 1) := dk_2 (dk_at dksX3_maskOf_0 7 rfl rfl)
theorem dX3_maskOf_8 : decode cX3_maskOf 8 = .ok (.if_icmp .ne 7, 3) := dk_160 0 7 (dk_at dksX3_maskOf_0 8 rfl rfl)
theorem dX3_maskOf_11 : decode cX3_maskOf 11 = .ok (.iconst 0, 1) := dk_3 (dk_at dksX3_maskOf_0 11 rfl rfl)
theorem dX3_maskOf_12 : decode cX3_maskOf 12 = .ok (.goto 12, 3) := dk_167 0 12 (dk_at dksX3_maskOf_0 12 rfl rfl)
theorem dX3_maskOf_15 : decode cX3_maskOf 15 = .ok (.iconst 1, 1) := dk_4 (dk_at dksX3_maskOf_0 15 rfl rfl)
theorem dX3_maskOf_16 : decode cX3_maskOf 16 = .ok (.aload_n 0, 1) := dk_42 (dk_at dksX3_maskOf_0 16 rfl rfl)
theorem dX3_maskOf_17 : decode cX3_maskOf 17 = .ok (.sipush 153, 3) := dk_17 0 153 (dk_at dksX3_maskOf_0 17 rfl rfl)
theorem dX3_maskOf_20 : decode cX3_maskOf 20 = .ok (.iload_n 1, 1) := dk_27 (dk_at dksX3_maskOf_0 20 rfl rfl)
theorem dX3_maskOf_21 : decode cX3_maskOf 21 = .ok (.iadd, 1) := dk_96 (dk_at dksX3_maskOf_0 21 rfl rfl)
theorem dX3_maskOf_22 : decode cX3_maskOf 22 = .ok (.iaload, 1) := dk_46 (dk_at dksX3_maskOf_0 22 rfl rfl)
theorem dX3_maskOf_23 : decode cX3_maskOf 23 = .ok (.ishl, 1) := dk_120 (dk_at dksX3_maskOf_0 23 rfl rfl)
theorem dX3_maskOf_24 : decode cX3_maskOf 24 = .ok (.ireturn, 1) := dk_172 (dk_at dksX3_maskOf_1 0 rfl rfl)
abbrev cX3_years : ByteArray := prog_10_method_19_code
def yX3_years : MethodName := ⟨RX3, "years", "([IIIII)I"⟩
def dkwX3_years_8 : List UInt8 := [167, 0, 5, 21, 7, 172]
abbrev dktX3_years_8 : List UInt8 := dkwX3_years_8 ++ []
def dkwX3_years_7 : List UInt8 := [132, 8, 1, 167, 255, 99, 21, 4, 154, 0, 8, 21, 5, 167, 0, 16, 21, 4, 4, 160, 0, 8, 21, 6]
abbrev dktX3_years_7 : List UInt8 := dkwX3_years_7 ++ dktX3_years_8
def dkwX3_years_6 : List UInt8 := [54, 6, 21, 7, 21, 11, 153, 0, 13, 21, 10, 21, 9, 100, 4, 96, 167, 0, 4, 3, 96, 54, 7]
abbrev dktX3_years_6 : List UInt8 := dkwX3_years_6 ++ dktX3_years_7
def dkwX3_years_5 : List UInt8 := [160, 0, 8, 21, 9, 167, 0, 5, 21, 5, 54, 5, 21, 11, 153, 0, 8, 21, 10, 167, 0, 5, 21, 6]
abbrev dktX3_years_5 : List UInt8 := dkwX3_years_5 ++ dktX3_years_6
def dkwX3_years_4 : List UInt8 := [96, 46, 29, 126, 29, 160, 0, 7, 4, 167, 0, 4, 3, 54, 11, 21, 11, 153, 0, 14, 21, 5, 2]
abbrev dktX3_years_4 : List UInt8 := dkwX3_years_4 ++ dktX3_years_5
def dkwX3_years_3 : List UInt8 := [42, 21, 8, 184, 0, 59, 54, 10, 21, 9, 21, 10, 163, 0, 24, 29, 153, 0, 16, 42, 16, 15, 21, 8]
abbrev dktX3_years_3 : List UInt8 := dkwX3_years_3 ++ dktX3_years_4
def dkwX3_years_2 : List UInt8 := [21, 8, 96, 46, 54, 9, 29, 153, 0, 13, 42, 21, 8, 184, 0, 59, 28, 164, 0, 7, 28, 167, 0, 9]
abbrev dktX3_years_2 : List UInt8 := dkwX3_years_2 ++ dktX3_years_3
def dkwX3_years_1 : List UInt8 := [46, 162, 0, 147, 29, 153, 0, 13, 42, 8, 21, 8, 96, 46, 27, 162, 0, 7, 27, 167, 0, 9, 42, 8]
abbrev dktX3_years_1 : List UInt8 := dkwX3_years_1 ++ dktX3_years_2
def dkwX3_years_0 : List UInt8 := [2, 54, 5, 2, 54, 6, 3, 54, 7, 3, 54, 8, 21, 8, 29, 154, 0, 7, 4, 167, 0, 6, 42, 3]
abbrev dktX3_years_0 : List UInt8 := dkwX3_years_0 ++ dktX3_years_1
theorem dksX3_years_0 : cX3_years.data.toList.drop 0 = dktX3_years_0 := by decide +kernel
theorem dksX3_years_1 : cX3_years.data.toList.drop 24 = dktX3_years_1 := dk_seg dksX3_years_0 24 rfl rfl
theorem dksX3_years_2 : cX3_years.data.toList.drop 48 = dktX3_years_2 := dk_seg dksX3_years_1 24 rfl rfl
theorem dksX3_years_3 : cX3_years.data.toList.drop 72 = dktX3_years_3 := dk_seg dksX3_years_2 24 rfl rfl
theorem dksX3_years_4 : cX3_years.data.toList.drop 96 = dktX3_years_4 := dk_seg dksX3_years_3 24 rfl rfl
theorem dksX3_years_5 : cX3_years.data.toList.drop 119 = dktX3_years_5 := dk_seg dksX3_years_4 23 rfl rfl
theorem dksX3_years_6 : cX3_years.data.toList.drop 143 = dktX3_years_6 := dk_seg dksX3_years_5 24 rfl rfl
theorem dksX3_years_7 : cX3_years.data.toList.drop 166 = dktX3_years_7 := dk_seg dksX3_years_6 23 rfl rfl
theorem dksX3_years_8 : cX3_years.data.toList.drop 190 = dktX3_years_8 := dk_seg dksX3_years_7 24 rfl rfl
theorem dX3_years_0 : decode cX3_years 0 = .ok (.iconst (-1), 1) := dk_2 (dk_at dksX3_years_0 0 rfl rfl)
theorem dX3_years_1 : decode cX3_years 1 = .ok (.istore 5, 2) := dk_54 5 (dk_at dksX3_years_0 1 rfl rfl)
theorem dX3_years_3 : decode cX3_years 3 = .ok (.iconst (-1), 1) := dk_2 (dk_at dksX3_years_0 3 rfl rfl)
theorem dX3_years_4 : decode cX3_years 4 = .ok (.istore 6, 2) := dk_54 6 (dk_at dksX3_years_0 4 rfl rfl)
theorem dX3_years_6 : decode cX3_years 6 = .ok (.iconst 0, 1) := dk_3 (dk_at dksX3_years_0 6 rfl rfl)
theorem dX3_years_7 : decode cX3_years 7 = .ok (.istore 7, 2) := dk_54 7 (dk_at dksX3_years_0 7 rfl rfl)
theorem dX3_years_9 : decode cX3_years 9 = .ok (.iconst 0, 1) := dk_3 (dk_at dksX3_years_0 9 rfl rfl)
theorem dX3_years_10 : decode cX3_years 10 = .ok (.istore 8, 2) := dk_54 8 (dk_at dksX3_years_0 10 rfl rfl)
theorem dX3_years_12 : decode cX3_years 12 = .ok (.iload 8, 2) := dk_21 8 (dk_at dksX3_years_0 12 rfl rfl)
theorem dX3_years_14 : decode cX3_years 14 = .ok (.iload_n 3, 1) := dk_29 (dk_at dksX3_years_0 14 rfl rfl)
theorem dX3_years_15 : decode cX3_years 15 = .ok (.ifCond .ne 7, 3) := dk_154 0 7 (dk_at dksX3_years_0 15 rfl rfl)
theorem dX3_years_18 : decode cX3_years 18 = .ok (.iconst 1, 1) := dk_4 (dk_at dksX3_years_0 18 rfl rfl)
theorem dX3_years_19 : decode cX3_years 19 = .ok (.goto 6, 3) := dk_167 0 6 (dk_at dksX3_years_0 19 rfl rfl)
theorem dX3_years_22 : decode cX3_years 22 = .ok (.aload_n 0, 1) := dk_42 (dk_at dksX3_years_0 22 rfl rfl)
theorem dX3_years_23 : decode cX3_years 23 = .ok (.iconst 0, 1) := dk_3 (dk_at dksX3_years_0 23 rfl rfl)
theorem dX3_years_24 : decode cX3_years 24 = .ok (.iaload, 1) := dk_46 (dk_at dksX3_years_1 0 rfl rfl)
theorem dX3_years_25 : decode cX3_years 25 = .ok (.if_icmp .ge 147, 3) := dk_162 0 147 (dk_at dksX3_years_1 1 rfl rfl)
theorem dX3_years_28 : decode cX3_years 28 = .ok (.iload_n 3, 1) := dk_29 (dk_at dksX3_years_1 4 rfl rfl)
theorem dX3_years_29 : decode cX3_years 29 = .ok (.ifCond .eq 13, 3) := dk_153 0 13 (dk_at dksX3_years_1 5 rfl rfl)
theorem dX3_years_32 : decode cX3_years 32 = .ok (.aload_n 0, 1) := dk_42 (dk_at dksX3_years_1 8 rfl rfl)
theorem dX3_years_33 : decode cX3_years 33 = .ok (.iconst 5, 1) := dk_8 (dk_at dksX3_years_1 9 rfl rfl)
theorem dX3_years_34 : decode cX3_years 34 = .ok (.iload 8, 2) := dk_21 8 (dk_at dksX3_years_1 10 rfl rfl)
theorem dX3_years_36 : decode cX3_years 36 = .ok (.iadd, 1) := dk_96 (dk_at dksX3_years_1 12 rfl rfl)
theorem dX3_years_37 : decode cX3_years 37 = .ok (.iaload, 1) := dk_46 (dk_at dksX3_years_1 13 rfl rfl)
theorem dX3_years_38 : decode cX3_years 38 = .ok (.iload_n 1, 1) := dk_27 (dk_at dksX3_years_1 14 rfl rfl)
theorem dX3_years_39 : decode cX3_years 39 = .ok (.if_icmp .ge 7, 3) := dk_162 0 7 (dk_at dksX3_years_1 15 rfl rfl)
theorem dX3_years_42 : decode cX3_years 42 = .ok (.iload_n 1, 1) := dk_27 (dk_at dksX3_years_1 18 rfl rfl)
theorem dX3_years_43 : decode cX3_years 43 = .ok (.goto 9, 3) := dk_167 0 9 (dk_at dksX3_years_1 19 rfl rfl)
theorem dX3_years_46 : decode cX3_years 46 = .ok (.aload_n 0, 1) := dk_42 (dk_at dksX3_years_1 22 rfl rfl)
theorem dX3_years_47 : decode cX3_years 47 = .ok (.iconst 5, 1) := dk_8 (dk_at dksX3_years_1 23 rfl rfl)
theorem dX3_years_48 : decode cX3_years 48 = .ok (.iload 8, 2) := dk_21 8 (dk_at dksX3_years_2 0 rfl rfl)
theorem dX3_years_50 : decode cX3_years 50 = .ok (.iadd, 1) := dk_96 (dk_at dksX3_years_2 2 rfl rfl)
theorem dX3_years_51 : decode cX3_years 51 = .ok (.iaload, 1) := dk_46 (dk_at dksX3_years_2 3 rfl rfl)
theorem dX3_years_52 : decode cX3_years 52 = .ok (.istore 9, 2) := dk_54 9 (dk_at dksX3_years_2 4 rfl rfl)
theorem dX3_years_54 : decode cX3_years 54 = .ok (.iload_n 3, 1) := dk_29 (dk_at dksX3_years_2 6 rfl rfl)
theorem dX3_years_55 : decode cX3_years 55 = .ok (.ifCond .eq 13, 3) := dk_153 0 13 (dk_at dksX3_years_2 7 rfl rfl)
theorem dX3_years_58 : decode cX3_years 58 = .ok (.aload_n 0, 1) := dk_42 (dk_at dksX3_years_2 10 rfl rfl)
theorem dX3_years_59 : decode cX3_years 59 = .ok (.iload 8, 2) := dk_21 8 (dk_at dksX3_years_2 11 rfl rfl)
theorem dX3_years_61 : decode cX3_years 61 = .ok (.invokestatic 59, 3) := dk_184 0 59 (dk_at dksX3_years_2 13 rfl rfl)
theorem dX3_years_64 : decode cX3_years 64 = .ok (.iload_n 2, 1) := dk_28 (dk_at dksX3_years_2 16 rfl rfl)
theorem dX3_years_65 : decode cX3_years 65 = .ok (.if_icmp .le 7, 3) := dk_164 0 7 (dk_at dksX3_years_2 17 rfl rfl)
theorem dX3_years_68 : decode cX3_years 68 = .ok (.iload_n 2, 1) := dk_28 (dk_at dksX3_years_2 20 rfl rfl)
theorem dX3_years_69 : decode cX3_years 69 = .ok (.goto 9, 3) := dk_167 0 9 (dk_at dksX3_years_2 21 rfl rfl)
theorem dX3_years_72 : decode cX3_years 72 = .ok (.aload_n 0, 1) := dk_42 (dk_at dksX3_years_3 0 rfl rfl)
theorem dX3_years_73 : decode cX3_years 73 = .ok (.iload 8, 2) := dk_21 8 (dk_at dksX3_years_3 1 rfl rfl)
theorem dX3_years_75 : decode cX3_years 75 = .ok (.invokestatic 59, 3) := dk_184 0 59 (dk_at dksX3_years_3 3 rfl rfl)
theorem dX3_years_78 : decode cX3_years 78 = .ok (.istore 10, 2) := dk_54 10 (dk_at dksX3_years_3 6 rfl rfl)
theorem dX3_years_80 : decode cX3_years 80 = .ok (.iload 9, 2) := dk_21 9 (dk_at dksX3_years_3 8 rfl rfl)
theorem dX3_years_82 : decode cX3_years 82 = .ok (.iload 10, 2) := dk_21 10 (dk_at dksX3_years_3 10 rfl rfl)
theorem dX3_years_84 : decode cX3_years 84 = .ok (.if_icmp .gt 24, 3) := dk_163 0 24 (dk_at dksX3_years_3 12 rfl rfl)
theorem dX3_years_87 : decode cX3_years 87 = .ok (.iload_n 3, 1) := dk_29 (dk_at dksX3_years_3 15 rfl rfl)
theorem dX3_years_88 : decode cX3_years 88 = .ok (.ifCond .eq 16, 3) := dk_153 0 16 (dk_at dksX3_years_3 16 rfl rfl)
theorem dX3_years_91 : decode cX3_years 91 = .ok (.aload_n 0, 1) := dk_42 (dk_at dksX3_years_3 19 rfl rfl)
theorem dX3_years_92 : decode cX3_years 92 = .ok (.bipush 15, 2) := dk_16 15 (dk_at dksX3_years_3 20 rfl rfl)
theorem dX3_years_94 : decode cX3_years 94 = .ok (.iload 8, 2) := dk_21 8 (dk_at dksX3_years_3 22 rfl rfl)
theorem dX3_years_96 : decode cX3_years 96 = .ok (.iadd, 1) := dk_96 (dk_at dksX3_years_4 0 rfl rfl)
theorem dX3_years_97 : decode cX3_years 97 = .ok (.iaload, 1) := dk_46 (dk_at dksX3_years_4 1 rfl rfl)
theorem dX3_years_98 : decode cX3_years 98 = .ok (.iload_n 3, 1) := dk_29 (dk_at dksX3_years_4 2 rfl rfl)
theorem dX3_years_99 : decode cX3_years 99 = .ok (.iand, 1) := dk_126 (dk_at dksX3_years_4 3 rfl rfl)
theorem dX3_years_100 : decode cX3_years 100 = .ok (.iload_n 3, 1) := dk_29 (dk_at dksX3_years_4 4 rfl rfl)
theorem dX3_years_101 : decode cX3_years 101 = .ok (.if_icmp .ne 7, 3) := dk_160 0 7 (dk_at dksX3_years_4 5 rfl rfl)
theorem dX3_years_104 : decode cX3_years 104 = .ok (.iconst 1, 1) := dk_4 (dk_at dksX3_years_4 8 rfl rfl)
theorem dX3_years_105 : decode cX3_years 105 = .ok (.goto 4, 3) := dk_167 0 4 (dk_at dksX3_years_4 9 rfl rfl)
theorem dX3_years_108 : decode cX3_years 108 = .ok (.iconst 0, 1) := dk_3 (dk_at dksX3_years_4 12 rfl rfl)
theorem dX3_years_109 : decode cX3_years 109 = .ok (.istore 11, 2) := dk_54 11 (dk_at dksX3_years_4 13 rfl rfl)
theorem dX3_years_111 : decode cX3_years 111 = .ok (.iload 11, 2) := dk_21 11 (dk_at dksX3_years_4 15 rfl rfl)
theorem dX3_years_113 : decode cX3_years 113 = .ok (.ifCond .eq 14, 3) := dk_153 0 14 (dk_at dksX3_years_4 17 rfl rfl)
theorem dX3_years_116 : decode cX3_years 116 = .ok (.iload 5, 2) := dk_21 5 (dk_at dksX3_years_4 20 rfl rfl)
theorem dX3_years_118 : decode cX3_years 118 = .ok (.iconst (-1), 1) := dk_2 (dk_at dksX3_years_4 22 rfl rfl)
theorem dX3_years_119 : decode cX3_years 119 = .ok (.if_icmp .ne 8, 3) := dk_160 0 8 (dk_at dksX3_years_5 0 rfl rfl)
theorem dX3_years_122 : decode cX3_years 122 = .ok (.iload 9, 2) := dk_21 9 (dk_at dksX3_years_5 3 rfl rfl)
theorem dX3_years_124 : decode cX3_years 124 = .ok (.goto 5, 3) := dk_167 0 5 (dk_at dksX3_years_5 5 rfl rfl)
theorem dX3_years_127 : decode cX3_years 127 = .ok (.iload 5, 2) := dk_21 5 (dk_at dksX3_years_5 8 rfl rfl)
theorem dX3_years_129 : decode cX3_years 129 = .ok (.istore 5, 2) := dk_54 5 (dk_at dksX3_years_5 10 rfl rfl)
theorem dX3_years_131 : decode cX3_years 131 = .ok (.iload 11, 2) := dk_21 11 (dk_at dksX3_years_5 12 rfl rfl)
theorem dX3_years_133 : decode cX3_years 133 = .ok (.ifCond .eq 8, 3) := dk_153 0 8 (dk_at dksX3_years_5 14 rfl rfl)
theorem dX3_years_136 : decode cX3_years 136 = .ok (.iload 10, 2) := dk_21 10 (dk_at dksX3_years_5 17 rfl rfl)
theorem dX3_years_138 : decode cX3_years 138 = .ok (.goto 5, 3) := dk_167 0 5 (dk_at dksX3_years_5 19 rfl rfl)
theorem dX3_years_141 : decode cX3_years 141 = .ok (.iload 6, 2) := dk_21 6 (dk_at dksX3_years_5 22 rfl rfl)
theorem dX3_years_143 : decode cX3_years 143 = .ok (.istore 6, 2) := dk_54 6 (dk_at dksX3_years_6 0 rfl rfl)
theorem dX3_years_145 : decode cX3_years 145 = .ok (.iload 7, 2) := dk_21 7 (dk_at dksX3_years_6 2 rfl rfl)
theorem dX3_years_147 : decode cX3_years 147 = .ok (.iload 11, 2) := dk_21 11 (dk_at dksX3_years_6 4 rfl rfl)
theorem dX3_years_149 : decode cX3_years 149 = .ok (.ifCond .eq 13, 3) := dk_153 0 13 (dk_at dksX3_years_6 6 rfl rfl)
theorem dX3_years_152 : decode cX3_years 152 = .ok (.iload 10, 2) := dk_21 10 (dk_at dksX3_years_6 9 rfl rfl)
theorem dX3_years_154 : decode cX3_years 154 = .ok (.iload 9, 2) := dk_21 9 (dk_at dksX3_years_6 11 rfl rfl)
theorem dX3_years_156 : decode cX3_years 156 = .ok (.isub, 1) := dk_100 (dk_at dksX3_years_6 13 rfl rfl)
theorem dX3_years_157 : decode cX3_years 157 = .ok (.iconst 1, 1) := dk_4 (dk_at dksX3_years_6 14 rfl rfl)
theorem dX3_years_158 : decode cX3_years 158 = .ok (.iadd, 1) := dk_96 (dk_at dksX3_years_6 15 rfl rfl)
theorem dX3_years_159 : decode cX3_years 159 = .ok (.goto 4, 3) := dk_167 0 4 (dk_at dksX3_years_6 16 rfl rfl)
theorem dX3_years_162 : decode cX3_years 162 = .ok (.iconst 0, 1) := dk_3 (dk_at dksX3_years_6 19 rfl rfl)
theorem dX3_years_163 : decode cX3_years 163 = .ok (.iadd, 1) := dk_96 (dk_at dksX3_years_6 20 rfl rfl)
theorem dX3_years_164 : decode cX3_years 164 = .ok (.istore 7, 2) := dk_54 7 (dk_at dksX3_years_6 21 rfl rfl)
theorem dX3_years_166 : decode cX3_years 166 = .ok (.iinc 8 1, 3) := dk_132 8 1 (dk_at dksX3_years_7 0 rfl rfl)
theorem dX3_years_169 : decode cX3_years 169 = .ok (.goto (-157), 3) := dk_167 255 99 (dk_at dksX3_years_7 3 rfl rfl)
theorem dX3_years_172 : decode cX3_years 172 = .ok (.iload 4, 2) := dk_21 4 (dk_at dksX3_years_7 6 rfl rfl)
theorem dX3_years_174 : decode cX3_years 174 = .ok (.ifCond .ne 8, 3) := dk_154 0 8 (dk_at dksX3_years_7 8 rfl rfl)
theorem dX3_years_177 : decode cX3_years 177 = .ok (.iload 5, 2) := dk_21 5 (dk_at dksX3_years_7 11 rfl rfl)
theorem dX3_years_179 : decode cX3_years 179 = .ok (.goto 16, 3) := dk_167 0 16 (dk_at dksX3_years_7 13 rfl rfl)
theorem dX3_years_182 : decode cX3_years 182 = .ok (.iload 4, 2) := dk_21 4 (dk_at dksX3_years_7 16 rfl rfl)
theorem dX3_years_184 : decode cX3_years 184 = .ok (.iconst 1, 1) := dk_4 (dk_at dksX3_years_7 18 rfl rfl)
theorem dX3_years_185 : decode cX3_years 185 = .ok (.if_icmp .ne 8, 3) := dk_160 0 8 (dk_at dksX3_years_7 19 rfl rfl)
theorem dX3_years_188 : decode cX3_years 188 = .ok (.iload 6, 2) := dk_21 6 (dk_at dksX3_years_7 22 rfl rfl)
theorem dX3_years_190 : decode cX3_years 190 = .ok (.goto 5, 3) := dk_167 0 5 (dk_at dksX3_years_8 0 rfl rfl)
theorem dX3_years_193 : decode cX3_years 193 = .ok (.iload 7, 2) := dk_21 7 (dk_at dksX3_years_8 3 rfl rfl)
theorem dX3_years_195 : decode cX3_years 195 = .ok (.ireturn, 1) := dk_172 (dk_at dksX3_years_8 5 rfl rfl)
abbrev cX3_ends : ByteArray := prog_10_method_15_code
def yX3_ends : MethodName := ⟨RX3, "ends", "([II)I"⟩
def dkwX3_ends_1 : List UInt8 := [172]
abbrev dktX3_ends_1 : List UInt8 := dkwX3_ends_1 ++ []
def dkwX3_ends_0 : List UInt8 := [27, 4, 96, 42, 3, 46, 162, 0, 15, 42, 8, 27, 96, 4, 96, 46, 4, 100, 167, 0, 6, 17, 7, 207]
abbrev dktX3_ends_0 : List UInt8 := dkwX3_ends_0 ++ dktX3_ends_1
theorem dksX3_ends_0 : cX3_ends.data.toList.drop 0 = dktX3_ends_0 := by decide +kernel
theorem dksX3_ends_1 : cX3_ends.data.toList.drop 24 = dktX3_ends_1 := dk_seg dksX3_ends_0 24 rfl rfl
theorem dX3_ends_0 : decode cX3_ends 0 = .ok (.iload_n 1, 1) := dk_27 (dk_at dksX3_ends_0 0 rfl rfl)
theorem dX3_ends_1 : decode cX3_ends 1 = .ok (.iconst 1, 1) := dk_4 (dk_at dksX3_ends_0 1 rfl rfl)
theorem dX3_ends_2 : decode cX3_ends 2 = .ok (.iadd, 1) := dk_96 (dk_at dksX3_ends_0 2 rfl rfl)
theorem dX3_ends_3 : decode cX3_ends 3 = .ok (.aload_n 0, 1) := dk_42 (dk_at dksX3_ends_0 3 rfl rfl)
theorem dX3_ends_4 : decode cX3_ends 4 = .ok (.iconst 0, 1) := dk_3 (dk_at dksX3_ends_0 4 rfl rfl)
theorem dX3_ends_5 : decode cX3_ends 5 = .ok (.iaload, 1) := dk_46 (dk_at dksX3_ends_0 5 rfl rfl)
theorem dX3_ends_6 : decode cX3_ends 6 = .ok (.if_icmp .ge 15, 3) := dk_162 0 15 (dk_at dksX3_ends_0 6 rfl rfl)
theorem dX3_ends_9 : decode cX3_ends 9 = .ok (.aload_n 0, 1) := dk_42 (dk_at dksX3_ends_0 9 rfl rfl)
theorem dX3_ends_10 : decode cX3_ends 10 = .ok (.iconst 5, 1) := dk_8 (dk_at dksX3_ends_0 10 rfl rfl)
theorem dX3_ends_11 : decode cX3_ends 11 = .ok (.iload_n 1, 1) := dk_27 (dk_at dksX3_ends_0 11 rfl rfl)
theorem dX3_ends_12 : decode cX3_ends 12 = .ok (.iadd, 1) := dk_96 (dk_at dksX3_ends_0 12 rfl rfl)
theorem dX3_ends_13 : decode cX3_ends 13 = .ok (.iconst 1, 1) := dk_4 (dk_at dksX3_ends_0 13 rfl rfl)
theorem dX3_ends_14 : decode cX3_ends 14 = .ok (.iadd, 1) := dk_96 (dk_at dksX3_ends_0 14 rfl rfl)
theorem dX3_ends_15 : decode cX3_ends 15 = .ok (.iaload, 1) := dk_46 (dk_at dksX3_ends_0 15 rfl rfl)
theorem dX3_ends_16 : decode cX3_ends 16 = .ok (.iconst 1, 1) := dk_4 (dk_at dksX3_ends_0 16 rfl rfl)
theorem dX3_ends_17 : decode cX3_ends 17 = .ok (.isub, 1) := dk_100 (dk_at dksX3_ends_0 17 rfl rfl)
theorem dX3_ends_18 : decode cX3_ends 18 = .ok (.goto 6, 3) := dk_167 0 6 (dk_at dksX3_ends_0 18 rfl rfl)
theorem dX3_ends_21 : decode cX3_ends 21 = .ok (.sipush 1999, 3) := dk_17 7 207 (dk_at dksX3_ends_0 21 rfl rfl)
theorem dX3_ends_24 : decode cX3_ends 24 = .ok (.ireturn, 1) := dk_172 (dk_at dksX3_ends_1 0 rfl rfl)
abbrev cX3_yearsOf : ByteArray := prog_10_method_20_code
def yX3_yearsOf : MethodName := ⟨RX3, "yearsOf", "([III)I"⟩
def dkwX3_yearsOf_0 : List UInt8 := [42, 42, 27, 184, 0, 63, 42, 27, 184, 0, 66, 42, 27, 184, 0, 69, 28, 184, 0, 72, 172]
abbrev dktX3_yearsOf_0 : List UInt8 := dkwX3_yearsOf_0 ++ []
theorem dksX3_yearsOf_0 : cX3_yearsOf.data.toList.drop 0 = dktX3_yearsOf_0 := by decide +kernel
theorem dX3_yearsOf_0 : decode cX3_yearsOf 0 = .ok (.aload_n 0, 1) := dk_42 (dk_at dksX3_yearsOf_0 0 rfl rfl)
theorem dX3_yearsOf_1 : decode cX3_yearsOf 1 = .ok (.aload_n 0, 1) := dk_42 (dk_at dksX3_yearsOf_0 1 rfl rfl)
theorem dX3_yearsOf_2 : decode cX3_yearsOf 2 = .ok (.iload_n 1, 1) := dk_27 (dk_at dksX3_yearsOf_0 2 rfl rfl)
theorem dX3_yearsOf_3 : decode cX3_yearsOf 3 = .ok (.invokestatic 63, 3) := dk_184 0 63 (dk_at dksX3_yearsOf_0 3 rfl rfl)
theorem dX3_yearsOf_6 : decode cX3_yearsOf 6 = .ok (.aload_n 0, 1) := dk_42 (dk_at dksX3_yearsOf_0 6 rfl rfl)
theorem dX3_yearsOf_7 : decode cX3_yearsOf 7 = .ok (.iload_n 1, 1) := dk_27 (dk_at dksX3_yearsOf_0 7 rfl rfl)
theorem dX3_yearsOf_8 : decode cX3_yearsOf 8 = .ok (.invokestatic 66, 3) := dk_184 0 66 (dk_at dksX3_yearsOf_0 8 rfl rfl)
theorem dX3_yearsOf_11 : decode cX3_yearsOf 11 = .ok (.aload_n 0, 1) := dk_42 (dk_at dksX3_yearsOf_0 11 rfl rfl)
theorem dX3_yearsOf_12 : decode cX3_yearsOf 12 = .ok (.iload_n 1, 1) := dk_27 (dk_at dksX3_yearsOf_0 12 rfl rfl)
theorem dX3_yearsOf_13 : decode cX3_yearsOf 13 = .ok (.invokestatic 69, 3) := dk_184 0 69 (dk_at dksX3_yearsOf_0 13 rfl rfl)
theorem dX3_yearsOf_16 : decode cX3_yearsOf 16 = .ok (.iload_n 2, 1) := dk_28 (dk_at dksX3_yearsOf_0 16 rfl rfl)
theorem dX3_yearsOf_17 : decode cX3_yearsOf 17 = .ok (.invokestatic 72, 3) := dk_184 0 72 (dk_at dksX3_yearsOf_0 17 rfl rfl)
theorem dX3_yearsOf_20 : decode cX3_yearsOf 20 = .ok (.ireturn, 1) := dk_172 (dk_at dksX3_yearsOf_0 20 rfl rfl)
abbrev cX3_lowOf : ByteArray := prog_10_method_16_code
def yX3_lowOf : MethodName := ⟨RX3, "lowOf", "([II)I"⟩
def dkwX3_lowOf_3 : List UInt8 := [167, 255, 201, 29, 172]
abbrev dktX3_lowOf_3 : List UInt8 := dkwX3_lowOf_3 ++ []
def dkwX3_lowOf_2 : List UInt8 := [21, 4, 184, 0, 55, 153, 0, 14, 21, 5, 29, 164, 0, 8, 21, 5, 167, 0, 4, 29, 62, 132, 4, 1]
abbrev dktX3_lowOf_2 : List UInt8 := dkwX3_lowOf_2 ++ dktX3_lowOf_3
def dkwX3_lowOf_1 : List UInt8 := [46, 162, 0, 50, 42, 16, 65, 7, 28, 104, 96, 21, 4, 96, 46, 54, 5, 42, 17, 0, 201, 27, 96, 46]
abbrev dktX3_lowOf_1 : List UInt8 := dkwX3_lowOf_1 ++ dktX3_lowOf_2
def dkwX3_lowOf_0 : List UInt8 := [42, 16, 105, 27, 96, 46, 61, 42, 16, 35, 28, 96, 46, 62, 3, 54, 4, 21, 4, 42, 16, 55, 28, 96]
abbrev dktX3_lowOf_0 : List UInt8 := dkwX3_lowOf_0 ++ dktX3_lowOf_1
theorem dksX3_lowOf_0 : cX3_lowOf.data.toList.drop 0 = dktX3_lowOf_0 := by decide +kernel
theorem dksX3_lowOf_1 : cX3_lowOf.data.toList.drop 24 = dktX3_lowOf_1 := dk_seg dksX3_lowOf_0 24 rfl rfl
theorem dksX3_lowOf_2 : cX3_lowOf.data.toList.drop 48 = dktX3_lowOf_2 := dk_seg dksX3_lowOf_1 24 rfl rfl
theorem dksX3_lowOf_3 : cX3_lowOf.data.toList.drop 72 = dktX3_lowOf_3 := dk_seg dksX3_lowOf_2 24 rfl rfl
theorem dX3_lowOf_0 : decode cX3_lowOf 0 = .ok (.aload_n 0, 1) := dk_42 (dk_at dksX3_lowOf_0 0 rfl rfl)
theorem dX3_lowOf_1 : decode cX3_lowOf 1 = .ok (.bipush 105, 2) := dk_16 105 (dk_at dksX3_lowOf_0 1 rfl rfl)
theorem dX3_lowOf_3 : decode cX3_lowOf 3 = .ok (.iload_n 1, 1) := dk_27 (dk_at dksX3_lowOf_0 3 rfl rfl)
theorem dX3_lowOf_4 : decode cX3_lowOf 4 = .ok (.iadd, 1) := dk_96 (dk_at dksX3_lowOf_0 4 rfl rfl)
theorem dX3_lowOf_5 : decode cX3_lowOf 5 = .ok (.iaload, 1) := dk_46 (dk_at dksX3_lowOf_0 5 rfl rfl)
theorem dX3_lowOf_6 : decode cX3_lowOf 6 = .ok (.istore_n 2, 1) := dk_61 (dk_at dksX3_lowOf_0 6 rfl rfl)
theorem dX3_lowOf_7 : decode cX3_lowOf 7 = .ok (.aload_n 0, 1) := dk_42 (dk_at dksX3_lowOf_0 7 rfl rfl)
theorem dX3_lowOf_8 : decode cX3_lowOf 8 = .ok (.bipush 35, 2) := dk_16 35 (dk_at dksX3_lowOf_0 8 rfl rfl)
theorem dX3_lowOf_10 : decode cX3_lowOf 10 = .ok (.iload_n 2, 1) := dk_28 (dk_at dksX3_lowOf_0 10 rfl rfl)
theorem dX3_lowOf_11 : decode cX3_lowOf 11 = .ok (.iadd, 1) := dk_96 (dk_at dksX3_lowOf_0 11 rfl rfl)
theorem dX3_lowOf_12 : decode cX3_lowOf 12 = .ok (.iaload, 1) := dk_46 (dk_at dksX3_lowOf_0 12 rfl rfl)
theorem dX3_lowOf_13 : decode cX3_lowOf 13 = .ok (.istore_n 3, 1) := dk_62 (dk_at dksX3_lowOf_0 13 rfl rfl)
theorem dX3_lowOf_14 : decode cX3_lowOf 14 = .ok (.iconst 0, 1) := dk_3 (dk_at dksX3_lowOf_0 14 rfl rfl)
theorem dX3_lowOf_15 : decode cX3_lowOf 15 = .ok (.istore 4, 2) := dk_54 4 (dk_at dksX3_lowOf_0 15 rfl rfl)
theorem dX3_lowOf_17 : decode cX3_lowOf 17 = .ok (.iload 4, 2) := dk_21 4 (dk_at dksX3_lowOf_0 17 rfl rfl)
theorem dX3_lowOf_19 : decode cX3_lowOf 19 = .ok (.aload_n 0, 1) := dk_42 (dk_at dksX3_lowOf_0 19 rfl rfl)
theorem dX3_lowOf_20 : decode cX3_lowOf 20 = .ok (.bipush 55, 2) := dk_16 55 (dk_at dksX3_lowOf_0 20 rfl rfl)
theorem dX3_lowOf_22 : decode cX3_lowOf 22 = .ok (.iload_n 2, 1) := dk_28 (dk_at dksX3_lowOf_0 22 rfl rfl)
theorem dX3_lowOf_23 : decode cX3_lowOf 23 = .ok (.iadd, 1) := dk_96 (dk_at dksX3_lowOf_0 23 rfl rfl)
theorem dX3_lowOf_24 : decode cX3_lowOf 24 = .ok (.iaload, 1) := dk_46 (dk_at dksX3_lowOf_1 0 rfl rfl)
theorem dX3_lowOf_25 : decode cX3_lowOf 25 = .ok (.if_icmp .ge 50, 3) := dk_162 0 50 (dk_at dksX3_lowOf_1 1 rfl rfl)
theorem dX3_lowOf_28 : decode cX3_lowOf 28 = .ok (.aload_n 0, 1) := dk_42 (dk_at dksX3_lowOf_1 4 rfl rfl)
theorem dX3_lowOf_29 : decode cX3_lowOf 29 = .ok (.bipush 65, 2) := dk_16 65 (dk_at dksX3_lowOf_1 5 rfl rfl)
theorem dX3_lowOf_31 : decode cX3_lowOf 31 = .ok (.iconst 4, 1) := dk_7 (dk_at dksX3_lowOf_1 7 rfl rfl)
theorem dX3_lowOf_32 : decode cX3_lowOf 32 = .ok (.iload_n 2, 1) := dk_28 (dk_at dksX3_lowOf_1 8 rfl rfl)
theorem dX3_lowOf_33 : decode cX3_lowOf 33 = .ok (.imul, 1) := dk_104 (dk_at dksX3_lowOf_1 9 rfl rfl)
theorem dX3_lowOf_34 : decode cX3_lowOf 34 = .ok (.iadd, 1) := dk_96 (dk_at dksX3_lowOf_1 10 rfl rfl)
theorem dX3_lowOf_35 : decode cX3_lowOf 35 = .ok (.iload 4, 2) := dk_21 4 (dk_at dksX3_lowOf_1 11 rfl rfl)
theorem dX3_lowOf_37 : decode cX3_lowOf 37 = .ok (.iadd, 1) := dk_96 (dk_at dksX3_lowOf_1 13 rfl rfl)
theorem dX3_lowOf_38 : decode cX3_lowOf 38 = .ok (.iaload, 1) := dk_46 (dk_at dksX3_lowOf_1 14 rfl rfl)
theorem dX3_lowOf_39 : decode cX3_lowOf 39 = .ok (.istore 5, 2) := dk_54 5 (dk_at dksX3_lowOf_1 15 rfl rfl)
theorem dX3_lowOf_41 : decode cX3_lowOf 41 = .ok (.aload_n 0, 1) := dk_42 (dk_at dksX3_lowOf_1 17 rfl rfl)
theorem dX3_lowOf_42 : decode cX3_lowOf 42 = .ok (.sipush 201, 3) := dk_17 0 201 (dk_at dksX3_lowOf_1 18 rfl rfl)
theorem dX3_lowOf_45 : decode cX3_lowOf 45 = .ok (.iload_n 1, 1) := dk_27 (dk_at dksX3_lowOf_1 21 rfl rfl)
theorem dX3_lowOf_46 : decode cX3_lowOf 46 = .ok (.iadd, 1) := dk_96 (dk_at dksX3_lowOf_1 22 rfl rfl)
theorem dX3_lowOf_47 : decode cX3_lowOf 47 = .ok (.iaload, 1) := dk_46 (dk_at dksX3_lowOf_1 23 rfl rfl)
theorem dX3_lowOf_48 : decode cX3_lowOf 48 = .ok (.iload 4, 2) := dk_21 4 (dk_at dksX3_lowOf_2 0 rfl rfl)
theorem dX3_lowOf_50 : decode cX3_lowOf 50 = .ok (.invokestatic 55, 3) := dk_184 0 55 (dk_at dksX3_lowOf_2 2 rfl rfl)
theorem dX3_lowOf_53 : decode cX3_lowOf 53 = .ok (.ifCond .eq 14, 3) := dk_153 0 14 (dk_at dksX3_lowOf_2 5 rfl rfl)
theorem dX3_lowOf_56 : decode cX3_lowOf 56 = .ok (.iload 5, 2) := dk_21 5 (dk_at dksX3_lowOf_2 8 rfl rfl)
theorem dX3_lowOf_58 : decode cX3_lowOf 58 = .ok (.iload_n 3, 1) := dk_29 (dk_at dksX3_lowOf_2 10 rfl rfl)
theorem dX3_lowOf_59 : decode cX3_lowOf 59 = .ok (.if_icmp .le 8, 3) := dk_164 0 8 (dk_at dksX3_lowOf_2 11 rfl rfl)
theorem dX3_lowOf_62 : decode cX3_lowOf 62 = .ok (.iload 5, 2) := dk_21 5 (dk_at dksX3_lowOf_2 14 rfl rfl)
theorem dX3_lowOf_64 : decode cX3_lowOf 64 = .ok (.goto 4, 3) := dk_167 0 4 (dk_at dksX3_lowOf_2 16 rfl rfl)
theorem dX3_lowOf_67 : decode cX3_lowOf 67 = .ok (.iload_n 3, 1) := dk_29 (dk_at dksX3_lowOf_2 19 rfl rfl)
theorem dX3_lowOf_68 : decode cX3_lowOf 68 = .ok (.istore_n 3, 1) := dk_62 (dk_at dksX3_lowOf_2 20 rfl rfl)
theorem dX3_lowOf_69 : decode cX3_lowOf 69 = .ok (.iinc 4 1, 3) := dk_132 4 1 (dk_at dksX3_lowOf_2 21 rfl rfl)
theorem dX3_lowOf_72 : decode cX3_lowOf 72 = .ok (.goto (-55), 3) := dk_167 255 201 (dk_at dksX3_lowOf_3 0 rfl rfl)
theorem dX3_lowOf_75 : decode cX3_lowOf 75 = .ok (.iload_n 3, 1) := dk_29 (dk_at dksX3_lowOf_3 3 rfl rfl)
theorem dX3_lowOf_76 : decode cX3_lowOf 76 = .ok (.ireturn, 1) := dk_172 (dk_at dksX3_lowOf_3 4 rfl rfl)
abbrev cX3_has : ByteArray := prog_10_method_5_code
def yX3_has : MethodName := ⟨RX3, "has", "(II)Z"⟩
def dkwX3_has_0 : List UInt8 := [26, 27, 122, 4, 126, 4, 160, 0, 7, 4, 167, 0, 4, 3, 172]
abbrev dktX3_has_0 : List UInt8 := dkwX3_has_0 ++ []
theorem dksX3_has_0 : cX3_has.data.toList.drop 0 = dktX3_has_0 := by decide +kernel
theorem dX3_has_0 : decode cX3_has 0 = .ok (.iload_n 0, 1) := dk_26 (dk_at dksX3_has_0 0 rfl rfl)
theorem dX3_has_1 : decode cX3_has 1 = .ok (.iload_n 1, 1) := dk_27 (dk_at dksX3_has_0 1 rfl rfl)
theorem dX3_has_2 : decode cX3_has 2 = .ok (.ishr, 1) := dk_122 (dk_at dksX3_has_0 2 rfl rfl)
theorem dX3_has_3 : decode cX3_has 3 = .ok (.iconst 1, 1) := dk_4 (dk_at dksX3_has_0 3 rfl rfl)
theorem dX3_has_4 : decode cX3_has 4 = .ok (.iand, 1) := dk_126 (dk_at dksX3_has_0 4 rfl rfl)
theorem dX3_has_5 : decode cX3_has 5 = .ok (.iconst 1, 1) := dk_4 (dk_at dksX3_has_0 5 rfl rfl)
theorem dX3_has_6 : decode cX3_has 6 = .ok (.if_icmp .ne 7, 3) := dk_160 0 7 (dk_at dksX3_has_0 6 rfl rfl)
theorem dX3_has_9 : decode cX3_has 9 = .ok (.iconst 1, 1) := dk_4 (dk_at dksX3_has_0 9 rfl rfl)
theorem dX3_has_10 : decode cX3_has 10 = .ok (.goto 4, 3) := dk_167 0 4 (dk_at dksX3_has_0 10 rfl rfl)
theorem dX3_has_13 : decode cX3_has 13 = .ok (.iconst 0, 1) := dk_3 (dk_at dksX3_has_0 13 rfl rfl)
theorem dX3_has_14 : decode cX3_has 14 = .ok (.ireturn, 1) := dk_172 (dk_at dksX3_has_0 14 rfl rfl)
abbrev cX3_highOf : ByteArray := prog_10_method_17_code
def yX3_highOf : MethodName := ⟨RX3, "highOf", "([II)I"⟩
def dkwX3_highOf_3 : List UInt8 := [167, 255, 201, 29, 172]
abbrev dktX3_highOf_3 : List UInt8 := dkwX3_highOf_3 ++ []
def dkwX3_highOf_2 : List UInt8 := [21, 4, 184, 0, 55, 154, 0, 14, 21, 5, 29, 162, 0, 8, 21, 5, 167, 0, 4, 29, 62, 132, 4, 1]
abbrev dktX3_highOf_2 : List UInt8 := dkwX3_highOf_2 ++ dktX3_highOf_3
def dkwX3_highOf_1 : List UInt8 := [46, 162, 0, 50, 42, 16, 65, 7, 28, 104, 96, 21, 4, 96, 46, 54, 5, 42, 17, 0, 201, 27, 96, 46]
abbrev dktX3_highOf_1 : List UInt8 := dkwX3_highOf_1 ++ dktX3_highOf_2
def dkwX3_highOf_0 : List UInt8 := [42, 16, 105, 27, 96, 46, 61, 42, 16, 45, 28, 96, 46, 62, 3, 54, 4, 21, 4, 42, 16, 55, 28, 96]
abbrev dktX3_highOf_0 : List UInt8 := dkwX3_highOf_0 ++ dktX3_highOf_1
theorem dksX3_highOf_0 : cX3_highOf.data.toList.drop 0 = dktX3_highOf_0 := by decide +kernel
theorem dksX3_highOf_1 : cX3_highOf.data.toList.drop 24 = dktX3_highOf_1 := dk_seg dksX3_highOf_0 24 rfl rfl
theorem dksX3_highOf_2 : cX3_highOf.data.toList.drop 48 = dktX3_highOf_2 := dk_seg dksX3_highOf_1 24 rfl rfl
theorem dksX3_highOf_3 : cX3_highOf.data.toList.drop 72 = dktX3_highOf_3 := dk_seg dksX3_highOf_2 24 rfl rfl
theorem dX3_highOf_0 : decode cX3_highOf 0 = .ok (.aload_n 0, 1) := dk_42 (dk_at dksX3_highOf_0 0 rfl rfl)
theorem dX3_highOf_1 : decode cX3_highOf 1 = .ok (.bipush 105, 2) := dk_16 105 (dk_at dksX3_highOf_0 1 rfl rfl)
theorem dX3_highOf_3 : decode cX3_highOf 3 = .ok (.iload_n 1, 1) := dk_27 (dk_at dksX3_highOf_0 3 rfl rfl)
theorem dX3_highOf_4 : decode cX3_highOf 4 = .ok (.iadd, 1) := dk_96 (dk_at dksX3_highOf_0 4 rfl rfl)
theorem dX3_highOf_5 : decode cX3_highOf 5 = .ok (.iaload, 1) := dk_46 (dk_at dksX3_highOf_0 5 rfl rfl)
theorem dX3_highOf_6 : decode cX3_highOf 6 = .ok (.istore_n 2, 1) := dk_61 (dk_at dksX3_highOf_0 6 rfl rfl)
theorem dX3_highOf_7 : decode cX3_highOf 7 = .ok (.aload_n 0, 1) := dk_42 (dk_at dksX3_highOf_0 7 rfl rfl)
theorem dX3_highOf_8 : decode cX3_highOf 8 = .ok (.bipush 45, 2) := dk_16 45 (dk_at dksX3_highOf_0 8 rfl rfl)
theorem dX3_highOf_10 : decode cX3_highOf 10 = .ok (.iload_n 2, 1) := dk_28 (dk_at dksX3_highOf_0 10 rfl rfl)
theorem dX3_highOf_11 : decode cX3_highOf 11 = .ok (.iadd, 1) := dk_96 (dk_at dksX3_highOf_0 11 rfl rfl)
theorem dX3_highOf_12 : decode cX3_highOf 12 = .ok (.iaload, 1) := dk_46 (dk_at dksX3_highOf_0 12 rfl rfl)
theorem dX3_highOf_13 : decode cX3_highOf 13 = .ok (.istore_n 3, 1) := dk_62 (dk_at dksX3_highOf_0 13 rfl rfl)
theorem dX3_highOf_14 : decode cX3_highOf 14 = .ok (.iconst 0, 1) := dk_3 (dk_at dksX3_highOf_0 14 rfl rfl)
theorem dX3_highOf_15 : decode cX3_highOf 15 = .ok (.istore 4, 2) := dk_54 4 (dk_at dksX3_highOf_0 15 rfl rfl)
theorem dX3_highOf_17 : decode cX3_highOf 17 = .ok (.iload 4, 2) := dk_21 4 (dk_at dksX3_highOf_0 17 rfl rfl)
theorem dX3_highOf_19 : decode cX3_highOf 19 = .ok (.aload_n 0, 1) := dk_42 (dk_at dksX3_highOf_0 19 rfl rfl)
theorem dX3_highOf_20 : decode cX3_highOf 20 = .ok (.bipush 55, 2) := dk_16 55 (dk_at dksX3_highOf_0 20 rfl rfl)
theorem dX3_highOf_22 : decode cX3_highOf 22 = .ok (.iload_n 2, 1) := dk_28 (dk_at dksX3_highOf_0 22 rfl rfl)
theorem dX3_highOf_23 : decode cX3_highOf 23 = .ok (.iadd, 1) := dk_96 (dk_at dksX3_highOf_0 23 rfl rfl)
theorem dX3_highOf_24 : decode cX3_highOf 24 = .ok (.iaload, 1) := dk_46 (dk_at dksX3_highOf_1 0 rfl rfl)
theorem dX3_highOf_25 : decode cX3_highOf 25 = .ok (.if_icmp .ge 50, 3) := dk_162 0 50 (dk_at dksX3_highOf_1 1 rfl rfl)
theorem dX3_highOf_28 : decode cX3_highOf 28 = .ok (.aload_n 0, 1) := dk_42 (dk_at dksX3_highOf_1 4 rfl rfl)
theorem dX3_highOf_29 : decode cX3_highOf 29 = .ok (.bipush 65, 2) := dk_16 65 (dk_at dksX3_highOf_1 5 rfl rfl)
theorem dX3_highOf_31 : decode cX3_highOf 31 = .ok (.iconst 4, 1) := dk_7 (dk_at dksX3_highOf_1 7 rfl rfl)
theorem dX3_highOf_32 : decode cX3_highOf 32 = .ok (.iload_n 2, 1) := dk_28 (dk_at dksX3_highOf_1 8 rfl rfl)
theorem dX3_highOf_33 : decode cX3_highOf 33 = .ok (.imul, 1) := dk_104 (dk_at dksX3_highOf_1 9 rfl rfl)
theorem dX3_highOf_34 : decode cX3_highOf 34 = .ok (.iadd, 1) := dk_96 (dk_at dksX3_highOf_1 10 rfl rfl)
theorem dX3_highOf_35 : decode cX3_highOf 35 = .ok (.iload 4, 2) := dk_21 4 (dk_at dksX3_highOf_1 11 rfl rfl)
theorem dX3_highOf_37 : decode cX3_highOf 37 = .ok (.iadd, 1) := dk_96 (dk_at dksX3_highOf_1 13 rfl rfl)
theorem dX3_highOf_38 : decode cX3_highOf 38 = .ok (.iaload, 1) := dk_46 (dk_at dksX3_highOf_1 14 rfl rfl)
theorem dX3_highOf_39 : decode cX3_highOf 39 = .ok (.istore 5, 2) := dk_54 5 (dk_at dksX3_highOf_1 15 rfl rfl)
theorem dX3_highOf_41 : decode cX3_highOf 41 = .ok (.aload_n 0, 1) := dk_42 (dk_at dksX3_highOf_1 17 rfl rfl)
theorem dX3_highOf_42 : decode cX3_highOf 42 = .ok (.sipush 201, 3) := dk_17 0 201 (dk_at dksX3_highOf_1 18 rfl rfl)
theorem dX3_highOf_45 : decode cX3_highOf 45 = .ok (.iload_n 1, 1) := dk_27 (dk_at dksX3_highOf_1 21 rfl rfl)
theorem dX3_highOf_46 : decode cX3_highOf 46 = .ok (.iadd, 1) := dk_96 (dk_at dksX3_highOf_1 22 rfl rfl)
theorem dX3_highOf_47 : decode cX3_highOf 47 = .ok (.iaload, 1) := dk_46 (dk_at dksX3_highOf_1 23 rfl rfl)
theorem dX3_highOf_48 : decode cX3_highOf 48 = .ok (.iload 4, 2) := dk_21 4 (dk_at dksX3_highOf_2 0 rfl rfl)
theorem dX3_highOf_50 : decode cX3_highOf 50 = .ok (.invokestatic 55, 3) := dk_184 0 55 (dk_at dksX3_highOf_2 2 rfl rfl)
theorem dX3_highOf_53 : decode cX3_highOf 53 = .ok (.ifCond .ne 14, 3) := dk_154 0 14 (dk_at dksX3_highOf_2 5 rfl rfl)
theorem dX3_highOf_56 : decode cX3_highOf 56 = .ok (.iload 5, 2) := dk_21 5 (dk_at dksX3_highOf_2 8 rfl rfl)
theorem dX3_highOf_58 : decode cX3_highOf 58 = .ok (.iload_n 3, 1) := dk_29 (dk_at dksX3_highOf_2 10 rfl rfl)
theorem dX3_highOf_59 : decode cX3_highOf 59 = .ok (.if_icmp .ge 8, 3) := dk_162 0 8 (dk_at dksX3_highOf_2 11 rfl rfl)
theorem dX3_highOf_62 : decode cX3_highOf 62 = .ok (.iload 5, 2) := dk_21 5 (dk_at dksX3_highOf_2 14 rfl rfl)
theorem dX3_highOf_64 : decode cX3_highOf 64 = .ok (.goto 4, 3) := dk_167 0 4 (dk_at dksX3_highOf_2 16 rfl rfl)
theorem dX3_highOf_67 : decode cX3_highOf 67 = .ok (.iload_n 3, 1) := dk_29 (dk_at dksX3_highOf_2 19 rfl rfl)
theorem dX3_highOf_68 : decode cX3_highOf 68 = .ok (.istore_n 3, 1) := dk_62 (dk_at dksX3_highOf_2 20 rfl rfl)
theorem dX3_highOf_69 : decode cX3_highOf 69 = .ok (.iinc 4 1, 3) := dk_132 4 1 (dk_at dksX3_highOf_2 21 rfl rfl)
theorem dX3_highOf_72 : decode cX3_highOf 72 = .ok (.goto (-55), 3) := dk_167 255 201 (dk_at dksX3_highOf_3 0 rfl rfl)
theorem dX3_highOf_75 : decode cX3_highOf 75 = .ok (.iload_n 3, 1) := dk_29 (dk_at dksX3_highOf_3 3 rfl rfl)
theorem dX3_highOf_76 : decode cX3_highOf 76 = .ok (.ireturn, 1) := dk_172 (dk_at dksX3_highOf_3 4 rfl rfl)
abbrev cX3_ofCharter : ByteArray := prog_10_method_24_code
def yX3_ofCharter : MethodName := ⟨RX3, "ofCharter", "([IIII)I"⟩
def dkwX3_ofCharter_1 : List UInt8 := [2, 172, 43, 42, 180, 0, 84, 42, 180, 0, 87, 42, 180, 0, 90, 21, 4, 184, 0, 72, 172]
abbrev dktX3_ofCharter_1 : List UInt8 := dkwX3_ofCharter_1 ++ []
def dkwX3_ofCharter_0 : List UInt8 := [42, 43, 28, 29, 182, 0, 99, 42, 180, 0, 93, 154, 0, 15, 21, 4, 5, 160, 0, 7, 3, 167, 0, 4]
abbrev dktX3_ofCharter_0 : List UInt8 := dkwX3_ofCharter_0 ++ dktX3_ofCharter_1
theorem dksX3_ofCharter_0 : cX3_ofCharter.data.toList.drop 0 = dktX3_ofCharter_0 := by decide +kernel
theorem dksX3_ofCharter_1 : cX3_ofCharter.data.toList.drop 24 = dktX3_ofCharter_1 := dk_seg dksX3_ofCharter_0 24 rfl rfl
theorem dX3_ofCharter_0 : decode cX3_ofCharter 0 = .ok (.aload_n 0, 1) := dk_42 (dk_at dksX3_ofCharter_0 0 rfl rfl)
theorem dX3_ofCharter_1 : decode cX3_ofCharter 1 = .ok (.aload_n 1, 1) := dk_43 (dk_at dksX3_ofCharter_0 1 rfl rfl)
theorem dX3_ofCharter_2 : decode cX3_ofCharter 2 = .ok (.iload_n 2, 1) := dk_28 (dk_at dksX3_ofCharter_0 2 rfl rfl)
theorem dX3_ofCharter_3 : decode cX3_ofCharter 3 = .ok (.iload_n 3, 1) := dk_29 (dk_at dksX3_ofCharter_0 3 rfl rfl)
theorem dX3_ofCharter_4 : decode cX3_ofCharter 4 = .ok (.invokevirtual 99, 3) := dk_182 0 99 (dk_at dksX3_ofCharter_0 4 rfl rfl)
theorem dX3_ofCharter_7 : decode cX3_ofCharter 7 = .ok (.aload_n 0, 1) := dk_42 (dk_at dksX3_ofCharter_0 7 rfl rfl)
theorem dX3_ofCharter_8 : decode cX3_ofCharter 8 = .ok (.getfield 93, 3) := dk_180 0 93 (dk_at dksX3_ofCharter_0 8 rfl rfl)
theorem dX3_ofCharter_11 : decode cX3_ofCharter 11 = .ok (.ifCond .ne 15, 3) := dk_154 0 15 (dk_at dksX3_ofCharter_0 11 rfl rfl)
theorem dX3_ofCharter_14 : decode cX3_ofCharter 14 = .ok (.iload 4, 2) := dk_21 4 (dk_at dksX3_ofCharter_0 14 rfl rfl)
theorem dX3_ofCharter_16 : decode cX3_ofCharter 16 = .ok (.iconst 2, 1) := dk_5 (dk_at dksX3_ofCharter_0 16 rfl rfl)
theorem dX3_ofCharter_17 : decode cX3_ofCharter 17 = .ok (.if_icmp .ne 7, 3) := dk_160 0 7 (dk_at dksX3_ofCharter_0 17 rfl rfl)
theorem dX3_ofCharter_20 : decode cX3_ofCharter 20 = .ok (.iconst 0, 1) := dk_3 (dk_at dksX3_ofCharter_0 20 rfl rfl)
theorem dX3_ofCharter_21 : decode cX3_ofCharter 21 = .ok (.goto 4, 3) := dk_167 0 4 (dk_at dksX3_ofCharter_0 21 rfl rfl)
theorem dX3_ofCharter_24 : decode cX3_ofCharter 24 = .ok (.iconst (-1), 1) := dk_2 (dk_at dksX3_ofCharter_1 0 rfl rfl)
theorem dX3_ofCharter_25 : decode cX3_ofCharter 25 = .ok (.ireturn, 1) := dk_172 (dk_at dksX3_ofCharter_1 1 rfl rfl)
theorem dX3_ofCharter_26 : decode cX3_ofCharter 26 = .ok (.aload_n 1, 1) := dk_43 (dk_at dksX3_ofCharter_1 2 rfl rfl)
theorem dX3_ofCharter_27 : decode cX3_ofCharter 27 = .ok (.aload_n 0, 1) := dk_42 (dk_at dksX3_ofCharter_1 3 rfl rfl)
theorem dX3_ofCharter_28 : decode cX3_ofCharter 28 = .ok (.getfield 84, 3) := dk_180 0 84 (dk_at dksX3_ofCharter_1 4 rfl rfl)
theorem dX3_ofCharter_31 : decode cX3_ofCharter 31 = .ok (.aload_n 0, 1) := dk_42 (dk_at dksX3_ofCharter_1 7 rfl rfl)
theorem dX3_ofCharter_32 : decode cX3_ofCharter 32 = .ok (.getfield 87, 3) := dk_180 0 87 (dk_at dksX3_ofCharter_1 8 rfl rfl)
theorem dX3_ofCharter_35 : decode cX3_ofCharter 35 = .ok (.aload_n 0, 1) := dk_42 (dk_at dksX3_ofCharter_1 11 rfl rfl)
theorem dX3_ofCharter_36 : decode cX3_ofCharter 36 = .ok (.getfield 90, 3) := dk_180 0 90 (dk_at dksX3_ofCharter_1 12 rfl rfl)
theorem dX3_ofCharter_39 : decode cX3_ofCharter 39 = .ok (.iload 4, 2) := dk_21 4 (dk_at dksX3_ofCharter_1 15 rfl rfl)
theorem dX3_ofCharter_41 : decode cX3_ofCharter 41 = .ok (.invokestatic 72, 3) := dk_184 0 72 (dk_at dksX3_ofCharter_1 17 rfl rfl)
theorem dX3_ofCharter_44 : decode cX3_ofCharter 44 = .ok (.ireturn, 1) := dk_172 (dk_at dksX3_ofCharter_1 20 rfl rfl)
abbrev cX3_gather : ByteArray := prog_10_method_23_code
def yX3_gather : MethodName := ⟨RX3, "gather", "([III)V"⟩
def dkwX3_gather_6 : List UInt8 := [180, 0, 93, 4, 96, 181, 0, 93, 132, 4, 1, 167, 255, 133, 177]
abbrev dktX3_gather_6 : List UInt8 := dkwX3_gather_6 ++ []
def dkwX3_gather_5 : List UInt8 := [180, 0, 87, 181, 0, 87, 42, 89, 180, 0, 90, 43, 21, 4, 184, 0, 69, 128, 181, 0, 90, 42, 89]
abbrev dktX3_gather_5 : List UInt8 := dkwX3_gather_5 ++ dktX3_gather_6
def dkwX3_gather_4 : List UInt8 := [21, 4, 184, 0, 66, 42, 180, 0, 87, 162, 0, 12, 43, 21, 4, 184, 0, 66, 167, 0, 7, 42]
abbrev dktX3_gather_4 : List UInt8 := dkwX3_gather_4 ++ dktX3_gather_5
def dkwX3_gather_3 : List UInt8 := [180, 0, 84, 164, 0, 12, 43, 21, 4, 184, 0, 63, 167, 0, 7, 42, 180, 0, 84, 181, 0, 84, 42, 43]
abbrev dktX3_gather_3 : List UInt8 := dkwX3_gather_3 ++ dktX3_gather_4
def dkwX3_gather_2 : List UInt8 := [21, 4, 29, 159, 0, 97, 43, 21, 4, 184, 0, 96, 154, 0, 88, 42, 43, 21, 4, 184, 0, 63, 42]
abbrev dktX3_gather_2 : List UInt8 := dkwX3_gather_2 ++ dktX3_gather_3
def dkwX3_gather_1 : List UInt8 := [3, 54, 4, 21, 4, 43, 5, 46, 162, 0, 121, 43, 17, 0, 225, 21, 4, 96, 46, 28, 160, 0, 103]
abbrev dktX3_gather_1 : List UInt8 := dkwX3_gather_1 ++ dktX3_gather_2
def dkwX3_gather_0 : List UInt8 := [42, 17, 3, 232, 181, 0, 84, 42, 17, 7, 207, 181, 0, 87, 42, 3, 181, 0, 90, 42, 3, 181, 0, 93]
abbrev dktX3_gather_0 : List UInt8 := dkwX3_gather_0 ++ dktX3_gather_1
theorem dksX3_gather_0 : cX3_gather.data.toList.drop 0 = dktX3_gather_0 := by decide +kernel
theorem dksX3_gather_1 : cX3_gather.data.toList.drop 24 = dktX3_gather_1 := dk_seg dksX3_gather_0 24 rfl rfl
theorem dksX3_gather_2 : cX3_gather.data.toList.drop 47 = dktX3_gather_2 := dk_seg dksX3_gather_1 23 rfl rfl
theorem dksX3_gather_3 : cX3_gather.data.toList.drop 70 = dktX3_gather_3 := dk_seg dksX3_gather_2 23 rfl rfl
theorem dksX3_gather_4 : cX3_gather.data.toList.drop 94 = dktX3_gather_4 := dk_seg dksX3_gather_3 24 rfl rfl
theorem dksX3_gather_5 : cX3_gather.data.toList.drop 116 = dktX3_gather_5 := dk_seg dksX3_gather_4 22 rfl rfl
theorem dksX3_gather_6 : cX3_gather.data.toList.drop 139 = dktX3_gather_6 := dk_seg dksX3_gather_5 23 rfl rfl
theorem dX3_gather_0 : decode cX3_gather 0 = .ok (.aload_n 0, 1) := dk_42 (dk_at dksX3_gather_0 0 rfl rfl)
theorem dX3_gather_1 : decode cX3_gather 1 = .ok (.sipush 1000, 3) := dk_17 3 232 (dk_at dksX3_gather_0 1 rfl rfl)
theorem dX3_gather_4 : decode cX3_gather 4 = .ok (.putfield 84, 3) := dk_181 0 84 (dk_at dksX3_gather_0 4 rfl rfl)
theorem dX3_gather_7 : decode cX3_gather 7 = .ok (.aload_n 0, 1) := dk_42 (dk_at dksX3_gather_0 7 rfl rfl)
theorem dX3_gather_8 : decode cX3_gather 8 = .ok (.sipush 1999, 3) := dk_17 7 207 (dk_at dksX3_gather_0 8 rfl rfl)
theorem dX3_gather_11 : decode cX3_gather 11 = .ok (.putfield 87, 3) := dk_181 0 87 (dk_at dksX3_gather_0 11 rfl rfl)
theorem dX3_gather_14 : decode cX3_gather 14 = .ok (.aload_n 0, 1) := dk_42 (dk_at dksX3_gather_0 14 rfl rfl)
theorem dX3_gather_15 : decode cX3_gather 15 = .ok (.iconst 0, 1) := dk_3 (dk_at dksX3_gather_0 15 rfl rfl)
theorem dX3_gather_16 : decode cX3_gather 16 = .ok (.putfield 90, 3) := dk_181 0 90 (dk_at dksX3_gather_0 16 rfl rfl)
theorem dX3_gather_19 : decode cX3_gather 19 = .ok (.aload_n 0, 1) := dk_42 (dk_at dksX3_gather_0 19 rfl rfl)
theorem dX3_gather_20 : decode cX3_gather 20 = .ok (.iconst 0, 1) := dk_3 (dk_at dksX3_gather_0 20 rfl rfl)
theorem dX3_gather_21 : decode cX3_gather 21 = .ok (.putfield 93, 3) := dk_181 0 93 (dk_at dksX3_gather_0 21 rfl rfl)
theorem dX3_gather_24 : decode cX3_gather 24 = .ok (.iconst 0, 1) := dk_3 (dk_at dksX3_gather_1 0 rfl rfl)
theorem dX3_gather_25 : decode cX3_gather 25 = .ok (.istore 4, 2) := dk_54 4 (dk_at dksX3_gather_1 1 rfl rfl)
theorem dX3_gather_27 : decode cX3_gather 27 = .ok (.iload 4, 2) := dk_21 4 (dk_at dksX3_gather_1 3 rfl rfl)
theorem dX3_gather_29 : decode cX3_gather 29 = .ok (.aload_n 1, 1) := dk_43 (dk_at dksX3_gather_1 5 rfl rfl)
theorem dX3_gather_30 : decode cX3_gather 30 = .ok (.iconst 2, 1) := dk_5 (dk_at dksX3_gather_1 6 rfl rfl)
theorem dX3_gather_31 : decode cX3_gather 31 = .ok (.iaload, 1) := dk_46 (dk_at dksX3_gather_1 7 rfl rfl)
theorem dX3_gather_32 : decode cX3_gather 32 = .ok (.if_icmp .ge 121, 3) := dk_162 0 121 (dk_at dksX3_gather_1 8 rfl rfl)
theorem dX3_gather_35 : decode cX3_gather 35 = .ok (.aload_n 1, 1) := dk_43 (dk_at dksX3_gather_1 11 rfl rfl)
theorem dX3_gather_36 : decode cX3_gather 36 = .ok (.sipush 225, 3) := dk_17 0 225 (dk_at dksX3_gather_1 12 rfl rfl)
theorem dX3_gather_39 : decode cX3_gather 39 = .ok (.iload 4, 2) := dk_21 4 (dk_at dksX3_gather_1 15 rfl rfl)
theorem dX3_gather_41 : decode cX3_gather 41 = .ok (.iadd, 1) := dk_96 (dk_at dksX3_gather_1 17 rfl rfl)
theorem dX3_gather_42 : decode cX3_gather 42 = .ok (.iaload, 1) := dk_46 (dk_at dksX3_gather_1 18 rfl rfl)
theorem dX3_gather_43 : decode cX3_gather 43 = .ok (.iload_n 2, 1) := dk_28 (dk_at dksX3_gather_1 19 rfl rfl)
theorem dX3_gather_44 : decode cX3_gather 44 = .ok (.if_icmp .ne 103, 3) := dk_160 0 103 (dk_at dksX3_gather_1 20 rfl rfl)
theorem dX3_gather_47 : decode cX3_gather 47 = .ok (.iload 4, 2) := dk_21 4 (dk_at dksX3_gather_2 0 rfl rfl)
theorem dX3_gather_49 : decode cX3_gather 49 = .ok (.iload_n 3, 1) := dk_29 (dk_at dksX3_gather_2 2 rfl rfl)
theorem dX3_gather_50 : decode cX3_gather 50 = .ok (.if_icmp .eq 97, 3) := dk_159 0 97 (dk_at dksX3_gather_2 3 rfl rfl)
theorem dX3_gather_53 : decode cX3_gather 53 = .ok (.aload_n 1, 1) := dk_43 (dk_at dksX3_gather_2 6 rfl rfl)
theorem dX3_gather_54 : decode cX3_gather 54 = .ok (.iload 4, 2) := dk_21 4 (dk_at dksX3_gather_2 7 rfl rfl)
theorem dX3_gather_56 : decode cX3_gather 56 = .ok (.invokestatic 96, 3) := dk_184 0 96 (dk_at dksX3_gather_2 9 rfl rfl)
theorem dX3_gather_59 : decode cX3_gather 59 = .ok (.ifCond .ne 88, 3) := dk_154 0 88 (dk_at dksX3_gather_2 12 rfl rfl)
theorem dX3_gather_62 : decode cX3_gather 62 = .ok (.aload_n 0, 1) := dk_42 (dk_at dksX3_gather_2 15 rfl rfl)
theorem dX3_gather_63 : decode cX3_gather 63 = .ok (.aload_n 1, 1) := dk_43 (dk_at dksX3_gather_2 16 rfl rfl)
theorem dX3_gather_64 : decode cX3_gather 64 = .ok (.iload 4, 2) := dk_21 4 (dk_at dksX3_gather_2 17 rfl rfl)
theorem dX3_gather_66 : decode cX3_gather 66 = .ok (.invokestatic 63, 3) := dk_184 0 63 (dk_at dksX3_gather_2 19 rfl rfl)
theorem dX3_gather_69 : decode cX3_gather 69 = .ok (.aload_n 0, 1) := dk_42 (dk_at dksX3_gather_2 22 rfl rfl)
theorem dX3_gather_70 : decode cX3_gather 70 = .ok (.getfield 84, 3) := dk_180 0 84 (dk_at dksX3_gather_3 0 rfl rfl)
theorem dX3_gather_73 : decode cX3_gather 73 = .ok (.if_icmp .le 12, 3) := dk_164 0 12 (dk_at dksX3_gather_3 3 rfl rfl)
theorem dX3_gather_76 : decode cX3_gather 76 = .ok (.aload_n 1, 1) := dk_43 (dk_at dksX3_gather_3 6 rfl rfl)
theorem dX3_gather_77 : decode cX3_gather 77 = .ok (.iload 4, 2) := dk_21 4 (dk_at dksX3_gather_3 7 rfl rfl)
theorem dX3_gather_79 : decode cX3_gather 79 = .ok (.invokestatic 63, 3) := dk_184 0 63 (dk_at dksX3_gather_3 9 rfl rfl)
theorem dX3_gather_82 : decode cX3_gather 82 = .ok (.goto 7, 3) := dk_167 0 7 (dk_at dksX3_gather_3 12 rfl rfl)
theorem dX3_gather_85 : decode cX3_gather 85 = .ok (.aload_n 0, 1) := dk_42 (dk_at dksX3_gather_3 15 rfl rfl)
theorem dX3_gather_86 : decode cX3_gather 86 = .ok (.getfield 84, 3) := dk_180 0 84 (dk_at dksX3_gather_3 16 rfl rfl)
theorem dX3_gather_89 : decode cX3_gather 89 = .ok (.putfield 84, 3) := dk_181 0 84 (dk_at dksX3_gather_3 19 rfl rfl)
theorem dX3_gather_92 : decode cX3_gather 92 = .ok (.aload_n 0, 1) := dk_42 (dk_at dksX3_gather_3 22 rfl rfl)
theorem dX3_gather_93 : decode cX3_gather 93 = .ok (.aload_n 1, 1) := dk_43 (dk_at dksX3_gather_3 23 rfl rfl)
theorem dX3_gather_94 : decode cX3_gather 94 = .ok (.iload 4, 2) := dk_21 4 (dk_at dksX3_gather_4 0 rfl rfl)
theorem dX3_gather_96 : decode cX3_gather 96 = .ok (.invokestatic 66, 3) := dk_184 0 66 (dk_at dksX3_gather_4 2 rfl rfl)
theorem dX3_gather_99 : decode cX3_gather 99 = .ok (.aload_n 0, 1) := dk_42 (dk_at dksX3_gather_4 5 rfl rfl)
theorem dX3_gather_100 : decode cX3_gather 100 = .ok (.getfield 87, 3) := dk_180 0 87 (dk_at dksX3_gather_4 6 rfl rfl)
theorem dX3_gather_103 : decode cX3_gather 103 = .ok (.if_icmp .ge 12, 3) := dk_162 0 12 (dk_at dksX3_gather_4 9 rfl rfl)
theorem dX3_gather_106 : decode cX3_gather 106 = .ok (.aload_n 1, 1) := dk_43 (dk_at dksX3_gather_4 12 rfl rfl)
theorem dX3_gather_107 : decode cX3_gather 107 = .ok (.iload 4, 2) := dk_21 4 (dk_at dksX3_gather_4 13 rfl rfl)
theorem dX3_gather_109 : decode cX3_gather 109 = .ok (.invokestatic 66, 3) := dk_184 0 66 (dk_at dksX3_gather_4 15 rfl rfl)
theorem dX3_gather_112 : decode cX3_gather 112 = .ok (.goto 7, 3) := dk_167 0 7 (dk_at dksX3_gather_4 18 rfl rfl)
theorem dX3_gather_115 : decode cX3_gather 115 = .ok (.aload_n 0, 1) := dk_42 (dk_at dksX3_gather_4 21 rfl rfl)
theorem dX3_gather_116 : decode cX3_gather 116 = .ok (.getfield 87, 3) := dk_180 0 87 (dk_at dksX3_gather_5 0 rfl rfl)
theorem dX3_gather_119 : decode cX3_gather 119 = .ok (.putfield 87, 3) := dk_181 0 87 (dk_at dksX3_gather_5 3 rfl rfl)
theorem dX3_gather_122 : decode cX3_gather 122 = .ok (.aload_n 0, 1) := dk_42 (dk_at dksX3_gather_5 6 rfl rfl)
theorem dX3_gather_123 : decode cX3_gather 123 = .ok (.dup, 1) := dk_89 (dk_at dksX3_gather_5 7 rfl rfl)
theorem dX3_gather_124 : decode cX3_gather 124 = .ok (.getfield 90, 3) := dk_180 0 90 (dk_at dksX3_gather_5 8 rfl rfl)
theorem dX3_gather_127 : decode cX3_gather 127 = .ok (.aload_n 1, 1) := dk_43 (dk_at dksX3_gather_5 11 rfl rfl)
theorem dX3_gather_128 : decode cX3_gather 128 = .ok (.iload 4, 2) := dk_21 4 (dk_at dksX3_gather_5 12 rfl rfl)
theorem dX3_gather_130 : decode cX3_gather 130 = .ok (.invokestatic 69, 3) := dk_184 0 69 (dk_at dksX3_gather_5 14 rfl rfl)
theorem dX3_gather_133 : decode cX3_gather 133 = .ok (.ior, 1) := dk_128 (dk_at dksX3_gather_5 17 rfl rfl)
theorem dX3_gather_134 : decode cX3_gather 134 = .ok (.putfield 90, 3) := dk_181 0 90 (dk_at dksX3_gather_5 18 rfl rfl)
theorem dX3_gather_137 : decode cX3_gather 137 = .ok (.aload_n 0, 1) := dk_42 (dk_at dksX3_gather_5 21 rfl rfl)
theorem dX3_gather_138 : decode cX3_gather 138 = .ok (.dup, 1) := dk_89 (dk_at dksX3_gather_5 22 rfl rfl)
theorem dX3_gather_139 : decode cX3_gather 139 = .ok (.getfield 93, 3) := dk_180 0 93 (dk_at dksX3_gather_6 0 rfl rfl)
theorem dX3_gather_142 : decode cX3_gather 142 = .ok (.iconst 1, 1) := dk_4 (dk_at dksX3_gather_6 3 rfl rfl)
theorem dX3_gather_143 : decode cX3_gather 143 = .ok (.iadd, 1) := dk_96 (dk_at dksX3_gather_6 4 rfl rfl)
theorem dX3_gather_144 : decode cX3_gather 144 = .ok (.putfield 93, 3) := dk_181 0 93 (dk_at dksX3_gather_6 5 rfl rfl)
theorem dX3_gather_147 : decode cX3_gather 147 = .ok (.iinc 4 1, 3) := dk_132 4 1 (dk_at dksX3_gather_6 8 rfl rfl)
theorem dX3_gather_150 : decode cX3_gather 150 = .ok (.goto (-123), 3) := dk_167 255 133 (dk_at dksX3_gather_6 11 rfl rfl)
theorem dX3_gather_153 : decode cX3_gather 153 = .ok (.return_, 1) := dk_177 (dk_at dksX3_gather_6 14 rfl rfl)
abbrev cX3_badCharters : ByteArray := prog_10_method_72_code
def yX3_badCharters : MethodName := ⟨RX3, "badCharters", "()I"⟩
def dkwX3_badCharters_1 : List UInt8 := [96, 60, 132, 2, 1, 167, 255, 231, 27, 172]
abbrev dktX3_badCharters_1 : List UInt8 := dkwX3_badCharters_1 ++ []
def dkwX3_badCharters_0 : List UInt8 := [3, 60, 3, 61, 28, 16, 6, 162, 0, 25, 27, 42, 28, 182, 0, 246, 158, 0, 7, 4, 167, 0, 4, 3]
abbrev dktX3_badCharters_0 : List UInt8 := dkwX3_badCharters_0 ++ dktX3_badCharters_1
theorem dksX3_badCharters_0 : cX3_badCharters.data.toList.drop 0 = dktX3_badCharters_0 := by decide +kernel
theorem dksX3_badCharters_1 : cX3_badCharters.data.toList.drop 24 = dktX3_badCharters_1 := dk_seg dksX3_badCharters_0 24 rfl rfl
theorem dX3_badCharters_0 : decode cX3_badCharters 0 = .ok (.iconst 0, 1) := dk_3 (dk_at dksX3_badCharters_0 0 rfl rfl)
theorem dX3_badCharters_1 : decode cX3_badCharters 1 = .ok (.istore_n 1, 1) := dk_60 (dk_at dksX3_badCharters_0 1 rfl rfl)
theorem dX3_badCharters_2 : decode cX3_badCharters 2 = .ok (.iconst 0, 1) := dk_3 (dk_at dksX3_badCharters_0 2 rfl rfl)
theorem dX3_badCharters_3 : decode cX3_badCharters 3 = .ok (.istore_n 2, 1) := dk_61 (dk_at dksX3_badCharters_0 3 rfl rfl)
theorem dX3_badCharters_4 : decode cX3_badCharters 4 = .ok (.iload_n 2, 1) := dk_28 (dk_at dksX3_badCharters_0 4 rfl rfl)
theorem dX3_badCharters_5 : decode cX3_badCharters 5 = .ok (.bipush 6, 2) := dk_16 6 (dk_at dksX3_badCharters_0 5 rfl rfl)
theorem dX3_badCharters_7 : decode cX3_badCharters 7 = .ok (.if_icmp .ge 25, 3) := dk_162 0 25 (dk_at dksX3_badCharters_0 7 rfl rfl)
theorem dX3_badCharters_10 : decode cX3_badCharters 10 = .ok (.iload_n 1, 1) := dk_27 (dk_at dksX3_badCharters_0 10 rfl rfl)
theorem dX3_badCharters_11 : decode cX3_badCharters 11 = .ok (.aload_n 0, 1) := dk_42 (dk_at dksX3_badCharters_0 11 rfl rfl)
theorem dX3_badCharters_12 : decode cX3_badCharters 12 = .ok (.iload_n 2, 1) := dk_28 (dk_at dksX3_badCharters_0 12 rfl rfl)
theorem dX3_badCharters_13 : decode cX3_badCharters 13 = .ok (.invokevirtual 246, 3) := dk_182 0 246 (dk_at dksX3_badCharters_0 13 rfl rfl)
theorem dX3_badCharters_16 : decode cX3_badCharters 16 = .ok (.ifCond .le 7, 3) := dk_158 0 7 (dk_at dksX3_badCharters_0 16 rfl rfl)
theorem dX3_badCharters_19 : decode cX3_badCharters 19 = .ok (.iconst 1, 1) := dk_4 (dk_at dksX3_badCharters_0 19 rfl rfl)
theorem dX3_badCharters_20 : decode cX3_badCharters 20 = .ok (.goto 4, 3) := dk_167 0 4 (dk_at dksX3_badCharters_0 20 rfl rfl)
theorem dX3_badCharters_23 : decode cX3_badCharters 23 = .ok (.iconst 0, 1) := dk_3 (dk_at dksX3_badCharters_0 23 rfl rfl)
theorem dX3_badCharters_24 : decode cX3_badCharters 24 = .ok (.iadd, 1) := dk_96 (dk_at dksX3_badCharters_1 0 rfl rfl)
theorem dX3_badCharters_25 : decode cX3_badCharters 25 = .ok (.istore_n 1, 1) := dk_60 (dk_at dksX3_badCharters_1 1 rfl rfl)
theorem dX3_badCharters_26 : decode cX3_badCharters 26 = .ok (.iinc 2 1, 3) := dk_132 2 1 (dk_at dksX3_badCharters_1 2 rfl rfl)
theorem dX3_badCharters_29 : decode cX3_badCharters 29 = .ok (.goto (-25), 3) := dk_167 255 231 (dk_at dksX3_badCharters_1 5 rfl rfl)
theorem dX3_badCharters_32 : decode cX3_badCharters 32 = .ok (.iload_n 1, 1) := dk_27 (dk_at dksX3_badCharters_1 8 rfl rfl)
theorem dX3_badCharters_33 : decode cX3_badCharters 33 = .ok (.ireturn, 1) := dk_172 (dk_at dksX3_badCharters_1 9 rfl rfl)
abbrev cX3_fakesOn : ByteArray := prog_10_method_71_code
def yX3_fakesOn : MethodName := ⟨RX3, "fakesOn", "(I)I"⟩
def dkwX3_fakesOn_2 : List UInt8 := [132, 3, 1, 167, 255, 209, 28, 172]
abbrev dktX3_fakesOn_2 : List UInt8 := dkwX3_fakesOn_2 ++ []
def dkwX3_fakesOn_1 : List UInt8 := [46, 27, 160, 0, 19, 42, 42, 180, 0, 7, 29, 182, 0, 107, 158, 0, 7, 4, 167, 0, 4, 3, 96, 61]
abbrev dktX3_fakesOn_1 : List UInt8 := dkwX3_fakesOn_1 ++ dktX3_fakesOn_2
def dkwX3_fakesOn_0 : List UInt8 := [3, 61, 3, 62, 29, 42, 180, 0, 7, 5, 46, 162, 0, 43, 28, 42, 180, 0, 7, 17, 0, 225, 29, 96]
abbrev dktX3_fakesOn_0 : List UInt8 := dkwX3_fakesOn_0 ++ dktX3_fakesOn_1
theorem dksX3_fakesOn_0 : cX3_fakesOn.data.toList.drop 0 = dktX3_fakesOn_0 := by decide +kernel
theorem dksX3_fakesOn_1 : cX3_fakesOn.data.toList.drop 24 = dktX3_fakesOn_1 := dk_seg dksX3_fakesOn_0 24 rfl rfl
theorem dksX3_fakesOn_2 : cX3_fakesOn.data.toList.drop 48 = dktX3_fakesOn_2 := dk_seg dksX3_fakesOn_1 24 rfl rfl
theorem dX3_fakesOn_0 : decode cX3_fakesOn 0 = .ok (.iconst 0, 1) := dk_3 (dk_at dksX3_fakesOn_0 0 rfl rfl)
theorem dX3_fakesOn_1 : decode cX3_fakesOn 1 = .ok (.istore_n 2, 1) := dk_61 (dk_at dksX3_fakesOn_0 1 rfl rfl)
theorem dX3_fakesOn_2 : decode cX3_fakesOn 2 = .ok (.iconst 0, 1) := dk_3 (dk_at dksX3_fakesOn_0 2 rfl rfl)
theorem dX3_fakesOn_3 : decode cX3_fakesOn 3 = .ok (.istore_n 3, 1) := dk_62 (dk_at dksX3_fakesOn_0 3 rfl rfl)
theorem dX3_fakesOn_4 : decode cX3_fakesOn 4 = .ok (.iload_n 3, 1) := dk_29 (dk_at dksX3_fakesOn_0 4 rfl rfl)
theorem dX3_fakesOn_5 : decode cX3_fakesOn 5 = .ok (.aload_n 0, 1) := dk_42 (dk_at dksX3_fakesOn_0 5 rfl rfl)
theorem dX3_fakesOn_6 : decode cX3_fakesOn 6 = .ok (.getfield 7, 3) := dk_180 0 7 (dk_at dksX3_fakesOn_0 6 rfl rfl)
theorem dX3_fakesOn_9 : decode cX3_fakesOn 9 = .ok (.iconst 2, 1) := dk_5 (dk_at dksX3_fakesOn_0 9 rfl rfl)
theorem dX3_fakesOn_10 : decode cX3_fakesOn 10 = .ok (.iaload, 1) := dk_46 (dk_at dksX3_fakesOn_0 10 rfl rfl)
theorem dX3_fakesOn_11 : decode cX3_fakesOn 11 = .ok (.if_icmp .ge 43, 3) := dk_162 0 43 (dk_at dksX3_fakesOn_0 11 rfl rfl)
theorem dX3_fakesOn_14 : decode cX3_fakesOn 14 = .ok (.iload_n 2, 1) := dk_28 (dk_at dksX3_fakesOn_0 14 rfl rfl)
theorem dX3_fakesOn_15 : decode cX3_fakesOn 15 = .ok (.aload_n 0, 1) := dk_42 (dk_at dksX3_fakesOn_0 15 rfl rfl)
theorem dX3_fakesOn_16 : decode cX3_fakesOn 16 = .ok (.getfield 7, 3) := dk_180 0 7 (dk_at dksX3_fakesOn_0 16 rfl rfl)
theorem dX3_fakesOn_19 : decode cX3_fakesOn 19 = .ok (.sipush 225, 3) := dk_17 0 225 (dk_at dksX3_fakesOn_0 19 rfl rfl)
theorem dX3_fakesOn_22 : decode cX3_fakesOn 22 = .ok (.iload_n 3, 1) := dk_29 (dk_at dksX3_fakesOn_0 22 rfl rfl)
theorem dX3_fakesOn_23 : decode cX3_fakesOn 23 = .ok (.iadd, 1) := dk_96 (dk_at dksX3_fakesOn_0 23 rfl rfl)
theorem dX3_fakesOn_24 : decode cX3_fakesOn 24 = .ok (.iaload, 1) := dk_46 (dk_at dksX3_fakesOn_1 0 rfl rfl)
theorem dX3_fakesOn_25 : decode cX3_fakesOn 25 = .ok (.iload_n 1, 1) := dk_27 (dk_at dksX3_fakesOn_1 1 rfl rfl)
theorem dX3_fakesOn_26 : decode cX3_fakesOn 26 = .ok (.if_icmp .ne 19, 3) := dk_160 0 19 (dk_at dksX3_fakesOn_1 2 rfl rfl)
theorem dX3_fakesOn_29 : decode cX3_fakesOn 29 = .ok (.aload_n 0, 1) := dk_42 (dk_at dksX3_fakesOn_1 5 rfl rfl)
theorem dX3_fakesOn_30 : decode cX3_fakesOn 30 = .ok (.aload_n 0, 1) := dk_42 (dk_at dksX3_fakesOn_1 6 rfl rfl)
theorem dX3_fakesOn_31 : decode cX3_fakesOn 31 = .ok (.getfield 7, 3) := dk_180 0 7 (dk_at dksX3_fakesOn_1 7 rfl rfl)
theorem dX3_fakesOn_34 : decode cX3_fakesOn 34 = .ok (.iload_n 3, 1) := dk_29 (dk_at dksX3_fakesOn_1 10 rfl rfl)
theorem dX3_fakesOn_35 : decode cX3_fakesOn 35 = .ok (.invokevirtual 107, 3) := dk_182 0 107 (dk_at dksX3_fakesOn_1 11 rfl rfl)
theorem dX3_fakesOn_38 : decode cX3_fakesOn 38 = .ok (.ifCond .le 7, 3) := dk_158 0 7 (dk_at dksX3_fakesOn_1 14 rfl rfl)
theorem dX3_fakesOn_41 : decode cX3_fakesOn 41 = .ok (.iconst 1, 1) := dk_4 (dk_at dksX3_fakesOn_1 17 rfl rfl)
theorem dX3_fakesOn_42 : decode cX3_fakesOn 42 = .ok (.goto 4, 3) := dk_167 0 4 (dk_at dksX3_fakesOn_1 18 rfl rfl)
theorem dX3_fakesOn_45 : decode cX3_fakesOn 45 = .ok (.iconst 0, 1) := dk_3 (dk_at dksX3_fakesOn_1 21 rfl rfl)
theorem dX3_fakesOn_46 : decode cX3_fakesOn 46 = .ok (.iadd, 1) := dk_96 (dk_at dksX3_fakesOn_1 22 rfl rfl)
theorem dX3_fakesOn_47 : decode cX3_fakesOn 47 = .ok (.istore_n 2, 1) := dk_61 (dk_at dksX3_fakesOn_1 23 rfl rfl)
theorem dX3_fakesOn_48 : decode cX3_fakesOn 48 = .ok (.iinc 3 1, 3) := dk_132 3 1 (dk_at dksX3_fakesOn_2 0 rfl rfl)
theorem dX3_fakesOn_51 : decode cX3_fakesOn 51 = .ok (.goto (-47), 3) := dk_167 255 209 (dk_at dksX3_fakesOn_2 3 rfl rfl)
theorem dX3_fakesOn_54 : decode cX3_fakesOn 54 = .ok (.iload_n 2, 1) := dk_28 (dk_at dksX3_fakesOn_2 6 rfl rfl)
theorem dX3_fakesOn_55 : decode cX3_fakesOn 55 = .ok (.ireturn, 1) := dk_172 (dk_at dksX3_fakesOn_2 7 rfl rfl)
abbrev cX3_bad : ByteArray := prog_10_method_34_code
def yX3_bad : MethodName := ⟨RX3, "bad", "([I)I"⟩
def dkwX3_bad_1 : List UInt8 := [4, 96, 61, 132, 3, 1, 167, 255, 230, 28, 172]
abbrev dktX3_bad_1 : List UInt8 := dkwX3_bad_1 ++ []
def dkwX3_bad_0 : List UInt8 := [3, 61, 3, 62, 29, 16, 6, 162, 0, 26, 28, 42, 43, 29, 182, 0, 123, 153, 0, 7, 3, 167, 0, 4]
abbrev dktX3_bad_0 : List UInt8 := dkwX3_bad_0 ++ dktX3_bad_1
theorem dksX3_bad_0 : cX3_bad.data.toList.drop 0 = dktX3_bad_0 := by decide +kernel
theorem dksX3_bad_1 : cX3_bad.data.toList.drop 24 = dktX3_bad_1 := dk_seg dksX3_bad_0 24 rfl rfl
theorem dX3_bad_0 : decode cX3_bad 0 = .ok (.iconst 0, 1) := dk_3 (dk_at dksX3_bad_0 0 rfl rfl)
theorem dX3_bad_1 : decode cX3_bad 1 = .ok (.istore_n 2, 1) := dk_61 (dk_at dksX3_bad_0 1 rfl rfl)
theorem dX3_bad_2 : decode cX3_bad 2 = .ok (.iconst 0, 1) := dk_3 (dk_at dksX3_bad_0 2 rfl rfl)
theorem dX3_bad_3 : decode cX3_bad 3 = .ok (.istore_n 3, 1) := dk_62 (dk_at dksX3_bad_0 3 rfl rfl)
theorem dX3_bad_4 : decode cX3_bad 4 = .ok (.iload_n 3, 1) := dk_29 (dk_at dksX3_bad_0 4 rfl rfl)
theorem dX3_bad_5 : decode cX3_bad 5 = .ok (.bipush 6, 2) := dk_16 6 (dk_at dksX3_bad_0 5 rfl rfl)
theorem dX3_bad_7 : decode cX3_bad 7 = .ok (.if_icmp .ge 26, 3) := dk_162 0 26 (dk_at dksX3_bad_0 7 rfl rfl)
theorem dX3_bad_10 : decode cX3_bad 10 = .ok (.iload_n 2, 1) := dk_28 (dk_at dksX3_bad_0 10 rfl rfl)
theorem dX3_bad_11 : decode cX3_bad 11 = .ok (.aload_n 0, 1) := dk_42 (dk_at dksX3_bad_0 11 rfl rfl)
theorem dX3_bad_12 : decode cX3_bad 12 = .ok (.aload_n 1, 1) := dk_43 (dk_at dksX3_bad_0 12 rfl rfl)
theorem dX3_bad_13 : decode cX3_bad 13 = .ok (.iload_n 3, 1) := dk_29 (dk_at dksX3_bad_0 13 rfl rfl)
theorem dX3_bad_14 : decode cX3_bad 14 = .ok (.invokevirtual 123, 3) := dk_182 0 123 (dk_at dksX3_bad_0 14 rfl rfl)
theorem dX3_bad_17 : decode cX3_bad 17 = .ok (.ifCond .eq 7, 3) := dk_153 0 7 (dk_at dksX3_bad_0 17 rfl rfl)
theorem dX3_bad_20 : decode cX3_bad 20 = .ok (.iconst 0, 1) := dk_3 (dk_at dksX3_bad_0 20 rfl rfl)
theorem dX3_bad_21 : decode cX3_bad 21 = .ok (.goto 4, 3) := dk_167 0 4 (dk_at dksX3_bad_0 21 rfl rfl)
theorem dX3_bad_24 : decode cX3_bad 24 = .ok (.iconst 1, 1) := dk_4 (dk_at dksX3_bad_1 0 rfl rfl)
theorem dX3_bad_25 : decode cX3_bad 25 = .ok (.iadd, 1) := dk_96 (dk_at dksX3_bad_1 1 rfl rfl)
theorem dX3_bad_26 : decode cX3_bad 26 = .ok (.istore_n 2, 1) := dk_61 (dk_at dksX3_bad_1 2 rfl rfl)
theorem dX3_bad_27 : decode cX3_bad 27 = .ok (.iinc 3 1, 3) := dk_132 3 1 (dk_at dksX3_bad_1 3 rfl rfl)
theorem dX3_bad_30 : decode cX3_bad 30 = .ok (.goto (-26), 3) := dk_167 255 230 (dk_at dksX3_bad_1 6 rfl rfl)
theorem dX3_bad_33 : decode cX3_bad 33 = .ok (.iload_n 2, 1) := dk_28 (dk_at dksX3_bad_1 9 rfl rfl)
theorem dX3_bad_34 : decode cX3_bad 34 = .ok (.ireturn, 1) := dk_172 (dk_at dksX3_bad_1 10 rfl rfl)
abbrev cX3_isGood : ByteArray := prog_10_method_33_code
def yX3_isGood : MethodName := ⟨RX3, "isGood", "([II)Z"⟩
def dkwX3_isGood_4 : List UInt8 := [167, 255, 170, 21, 4, 172]
abbrev dktX3_isGood_4 : List UInt8 := dkwX3_isGood_4 ++ []
def dkwX3_isGood_3 : List UInt8 := [3, 184, 0, 80, 29, 164, 0, 13, 43, 21, 6, 3, 184, 0, 80, 167, 0, 4, 29, 62, 132, 5, 1]
abbrev dktX3_isGood_3 : List UInt8 := dkwX3_isGood_3 ++ dktX3_isGood_4
def dkwX3_isGood_2 : List UInt8 := [153, 0, 18, 43, 21, 6, 3, 184, 0, 80, 29, 161, 0, 7, 4, 167, 0, 4, 3, 54, 4, 43, 21, 6]
abbrev dktX3_isGood_2 : List UInt8 := dkwX3_isGood_2 ++ dktX3_isGood_3
def dkwX3_isGood_1 : List UInt8 := [16, 6, 28, 104, 96, 21, 5, 96, 46, 54, 6, 42, 43, 21, 6, 182, 0, 107, 154, 0, 49, 21, 4]
abbrev dktX3_isGood_1 : List UInt8 := dkwX3_isGood_1 ++ dktX3_isGood_2
def dkwX3_isGood_0 : List UInt8 := [2, 62, 4, 54, 4, 3, 54, 5, 21, 5, 43, 17, 0, 249, 28, 96, 46, 162, 0, 80, 43, 17, 0, 255]
abbrev dktX3_isGood_0 : List UInt8 := dkwX3_isGood_0 ++ dktX3_isGood_1
theorem dksX3_isGood_0 : cX3_isGood.data.toList.drop 0 = dktX3_isGood_0 := by decide +kernel
theorem dksX3_isGood_1 : cX3_isGood.data.toList.drop 24 = dktX3_isGood_1 := dk_seg dksX3_isGood_0 24 rfl rfl
theorem dksX3_isGood_2 : cX3_isGood.data.toList.drop 47 = dktX3_isGood_2 := dk_seg dksX3_isGood_1 23 rfl rfl
theorem dksX3_isGood_3 : cX3_isGood.data.toList.drop 71 = dktX3_isGood_3 := dk_seg dksX3_isGood_2 24 rfl rfl
theorem dksX3_isGood_4 : cX3_isGood.data.toList.drop 94 = dktX3_isGood_4 := dk_seg dksX3_isGood_3 23 rfl rfl
theorem dX3_isGood_0 : decode cX3_isGood 0 = .ok (.iconst (-1), 1) := dk_2 (dk_at dksX3_isGood_0 0 rfl rfl)
theorem dX3_isGood_1 : decode cX3_isGood 1 = .ok (.istore_n 3, 1) := dk_62 (dk_at dksX3_isGood_0 1 rfl rfl)
theorem dX3_isGood_2 : decode cX3_isGood 2 = .ok (.iconst 1, 1) := dk_4 (dk_at dksX3_isGood_0 2 rfl rfl)
theorem dX3_isGood_3 : decode cX3_isGood 3 = .ok (.istore 4, 2) := dk_54 4 (dk_at dksX3_isGood_0 3 rfl rfl)
theorem dX3_isGood_5 : decode cX3_isGood 5 = .ok (.iconst 0, 1) := dk_3 (dk_at dksX3_isGood_0 5 rfl rfl)
theorem dX3_isGood_6 : decode cX3_isGood 6 = .ok (.istore 5, 2) := dk_54 5 (dk_at dksX3_isGood_0 6 rfl rfl)
theorem dX3_isGood_8 : decode cX3_isGood 8 = .ok (.iload 5, 2) := dk_21 5 (dk_at dksX3_isGood_0 8 rfl rfl)
theorem dX3_isGood_10 : decode cX3_isGood 10 = .ok (.aload_n 1, 1) := dk_43 (dk_at dksX3_isGood_0 10 rfl rfl)
theorem dX3_isGood_11 : decode cX3_isGood 11 = .ok (.sipush 249, 3) := dk_17 0 249 (dk_at dksX3_isGood_0 11 rfl rfl)
theorem dX3_isGood_14 : decode cX3_isGood 14 = .ok (.iload_n 2, 1) := dk_28 (dk_at dksX3_isGood_0 14 rfl rfl)
theorem dX3_isGood_15 : decode cX3_isGood 15 = .ok (.iadd, 1) := dk_96 (dk_at dksX3_isGood_0 15 rfl rfl)
theorem dX3_isGood_16 : decode cX3_isGood 16 = .ok (.iaload, 1) := dk_46 (dk_at dksX3_isGood_0 16 rfl rfl)
theorem dX3_isGood_17 : decode cX3_isGood 17 = .ok (.if_icmp .ge 80, 3) := dk_162 0 80 (dk_at dksX3_isGood_0 17 rfl rfl)
theorem dX3_isGood_20 : decode cX3_isGood 20 = .ok (.aload_n 1, 1) := dk_43 (dk_at dksX3_isGood_0 20 rfl rfl)
theorem dX3_isGood_21 : decode cX3_isGood 21 = .ok (.sipush 255, 3) := dk_17 0 255 (dk_at dksX3_isGood_0 21 rfl rfl)
theorem dX3_isGood_24 : decode cX3_isGood 24 = .ok (.bipush 6, 2) := dk_16 6 (dk_at dksX3_isGood_1 0 rfl rfl)
theorem dX3_isGood_26 : decode cX3_isGood 26 = .ok (.iload_n 2, 1) := dk_28 (dk_at dksX3_isGood_1 2 rfl rfl)
theorem dX3_isGood_27 : decode cX3_isGood 27 = .ok (.imul, 1) := dk_104 (dk_at dksX3_isGood_1 3 rfl rfl)
theorem dX3_isGood_28 : decode cX3_isGood 28 = .ok (.iadd, 1) := dk_96 (dk_at dksX3_isGood_1 4 rfl rfl)
theorem dX3_isGood_29 : decode cX3_isGood 29 = .ok (.iload 5, 2) := dk_21 5 (dk_at dksX3_isGood_1 5 rfl rfl)
theorem dX3_isGood_31 : decode cX3_isGood 31 = .ok (.iadd, 1) := dk_96 (dk_at dksX3_isGood_1 7 rfl rfl)
theorem dX3_isGood_32 : decode cX3_isGood 32 = .ok (.iaload, 1) := dk_46 (dk_at dksX3_isGood_1 8 rfl rfl)
theorem dX3_isGood_33 : decode cX3_isGood 33 = .ok (.istore 6, 2) := dk_54 6 (dk_at dksX3_isGood_1 9 rfl rfl)
theorem dX3_isGood_35 : decode cX3_isGood 35 = .ok (.aload_n 0, 1) := dk_42 (dk_at dksX3_isGood_1 11 rfl rfl)
theorem dX3_isGood_36 : decode cX3_isGood 36 = .ok (.aload_n 1, 1) := dk_43 (dk_at dksX3_isGood_1 12 rfl rfl)
theorem dX3_isGood_37 : decode cX3_isGood 37 = .ok (.iload 6, 2) := dk_21 6 (dk_at dksX3_isGood_1 13 rfl rfl)
theorem dX3_isGood_39 : decode cX3_isGood 39 = .ok (.invokevirtual 107, 3) := dk_182 0 107 (dk_at dksX3_isGood_1 15 rfl rfl)
theorem dX3_isGood_42 : decode cX3_isGood 42 = .ok (.ifCond .ne 49, 3) := dk_154 0 49 (dk_at dksX3_isGood_1 18 rfl rfl)
theorem dX3_isGood_45 : decode cX3_isGood 45 = .ok (.iload 4, 2) := dk_21 4 (dk_at dksX3_isGood_1 21 rfl rfl)
theorem dX3_isGood_47 : decode cX3_isGood 47 = .ok (.ifCond .eq 18, 3) := dk_153 0 18 (dk_at dksX3_isGood_2 0 rfl rfl)
theorem dX3_isGood_50 : decode cX3_isGood 50 = .ok (.aload_n 1, 1) := dk_43 (dk_at dksX3_isGood_2 3 rfl rfl)
theorem dX3_isGood_51 : decode cX3_isGood 51 = .ok (.iload 6, 2) := dk_21 6 (dk_at dksX3_isGood_2 4 rfl rfl)
theorem dX3_isGood_53 : decode cX3_isGood 53 = .ok (.iconst 0, 1) := dk_3 (dk_at dksX3_isGood_2 6 rfl rfl)
theorem dX3_isGood_54 : decode cX3_isGood 54 = .ok (.invokestatic 80, 3) := dk_184 0 80 (dk_at dksX3_isGood_2 7 rfl rfl)
theorem dX3_isGood_57 : decode cX3_isGood 57 = .ok (.iload_n 3, 1) := dk_29 (dk_at dksX3_isGood_2 10 rfl rfl)
theorem dX3_isGood_58 : decode cX3_isGood 58 = .ok (.if_icmp .lt 7, 3) := dk_161 0 7 (dk_at dksX3_isGood_2 11 rfl rfl)
theorem dX3_isGood_61 : decode cX3_isGood 61 = .ok (.iconst 1, 1) := dk_4 (dk_at dksX3_isGood_2 14 rfl rfl)
theorem dX3_isGood_62 : decode cX3_isGood 62 = .ok (.goto 4, 3) := dk_167 0 4 (dk_at dksX3_isGood_2 15 rfl rfl)
theorem dX3_isGood_65 : decode cX3_isGood 65 = .ok (.iconst 0, 1) := dk_3 (dk_at dksX3_isGood_2 18 rfl rfl)
theorem dX3_isGood_66 : decode cX3_isGood 66 = .ok (.istore 4, 2) := dk_54 4 (dk_at dksX3_isGood_2 19 rfl rfl)
theorem dX3_isGood_68 : decode cX3_isGood 68 = .ok (.aload_n 1, 1) := dk_43 (dk_at dksX3_isGood_2 21 rfl rfl)
theorem dX3_isGood_69 : decode cX3_isGood 69 = .ok (.iload 6, 2) := dk_21 6 (dk_at dksX3_isGood_2 22 rfl rfl)
theorem dX3_isGood_71 : decode cX3_isGood 71 = .ok (.iconst 0, 1) := dk_3 (dk_at dksX3_isGood_3 0 rfl rfl)
theorem dX3_isGood_72 : decode cX3_isGood 72 = .ok (.invokestatic 80, 3) := dk_184 0 80 (dk_at dksX3_isGood_3 1 rfl rfl)
theorem dX3_isGood_75 : decode cX3_isGood 75 = .ok (.iload_n 3, 1) := dk_29 (dk_at dksX3_isGood_3 4 rfl rfl)
theorem dX3_isGood_76 : decode cX3_isGood 76 = .ok (.if_icmp .le 13, 3) := dk_164 0 13 (dk_at dksX3_isGood_3 5 rfl rfl)
theorem dX3_isGood_79 : decode cX3_isGood 79 = .ok (.aload_n 1, 1) := dk_43 (dk_at dksX3_isGood_3 8 rfl rfl)
theorem dX3_isGood_80 : decode cX3_isGood 80 = .ok (.iload 6, 2) := dk_21 6 (dk_at dksX3_isGood_3 9 rfl rfl)
theorem dX3_isGood_82 : decode cX3_isGood 82 = .ok (.iconst 0, 1) := dk_3 (dk_at dksX3_isGood_3 11 rfl rfl)
theorem dX3_isGood_83 : decode cX3_isGood 83 = .ok (.invokestatic 80, 3) := dk_184 0 80 (dk_at dksX3_isGood_3 12 rfl rfl)
theorem dX3_isGood_86 : decode cX3_isGood 86 = .ok (.goto 4, 3) := dk_167 0 4 (dk_at dksX3_isGood_3 15 rfl rfl)
theorem dX3_isGood_89 : decode cX3_isGood 89 = .ok (.iload_n 3, 1) := dk_29 (dk_at dksX3_isGood_3 18 rfl rfl)
theorem dX3_isGood_90 : decode cX3_isGood 90 = .ok (.istore_n 3, 1) := dk_62 (dk_at dksX3_isGood_3 19 rfl rfl)
theorem dX3_isGood_91 : decode cX3_isGood 91 = .ok (.iinc 5 1, 3) := dk_132 5 1 (dk_at dksX3_isGood_3 20 rfl rfl)
theorem dX3_isGood_94 : decode cX3_isGood 94 = .ok (.goto (-86), 3) := dk_167 255 170 (dk_at dksX3_isGood_4 0 rfl rfl)
theorem dX3_isGood_97 : decode cX3_isGood 97 = .ok (.iload 4, 2) := dk_21 4 (dk_at dksX3_isGood_4 3 rfl rfl)
theorem dX3_isGood_99 : decode cX3_isGood 99 = .ok (.ireturn, 1) := dk_172 (dk_at dksX3_isGood_4 5 rfl rfl)
abbrev cX3_countOf : ByteArray := prog_10_method_70_code
def yX3_countOf : MethodName := ⟨RX3, "countOf", "(I)I"⟩
def dkwX3_countOf_4 : List UInt8 := [167, 255, 168, 28, 172]
abbrev dktX3_countOf_4 : List UInt8 := dkwX3_countOf_4 ++ []
def dkwX3_countOf_3 : List UInt8 := [167, 0, 4, 3, 54, 4, 28, 21, 4, 153, 0, 7, 4, 167, 0, 4, 3, 96, 61, 132, 3, 1]
abbrev dktX3_countOf_3 : List UInt8 := dkwX3_countOf_3 ++ dktX3_countOf_4
def dkwX3_countOf_2 : List UInt8 := [159, 0, 7, 4, 167, 0, 24, 3, 167, 0, 20, 42, 180, 0, 7, 29, 184, 0, 113, 2, 159, 0, 7, 4]
abbrev dktX3_countOf_2 : List UInt8 := dkwX3_countOf_2 ++ dktX3_countOf_3
def dkwX3_countOf_1 : List UInt8 := [184, 0, 76, 167, 0, 47, 27, 8, 160, 0, 25, 42, 180, 0, 7, 17, 0, 225, 29, 96, 46, 2]
abbrev dktX3_countOf_1 : List UInt8 := dkwX3_countOf_1 ++ dktX3_countOf_2
def dkwX3_countOf_0 : List UInt8 := [3, 61, 3, 62, 29, 42, 180, 0, 7, 5, 46, 162, 0, 84, 27, 7, 160, 0, 14, 42, 180, 0, 7, 29]
abbrev dktX3_countOf_0 : List UInt8 := dkwX3_countOf_0 ++ dktX3_countOf_1
theorem dksX3_countOf_0 : cX3_countOf.data.toList.drop 0 = dktX3_countOf_0 := by decide +kernel
theorem dksX3_countOf_1 : cX3_countOf.data.toList.drop 24 = dktX3_countOf_1 := dk_seg dksX3_countOf_0 24 rfl rfl
theorem dksX3_countOf_2 : cX3_countOf.data.toList.drop 46 = dktX3_countOf_2 := dk_seg dksX3_countOf_1 22 rfl rfl
theorem dksX3_countOf_3 : cX3_countOf.data.toList.drop 70 = dktX3_countOf_3 := dk_seg dksX3_countOf_2 24 rfl rfl
theorem dksX3_countOf_4 : cX3_countOf.data.toList.drop 92 = dktX3_countOf_4 := dk_seg dksX3_countOf_3 22 rfl rfl
theorem dX3_countOf_0 : decode cX3_countOf 0 = .ok (.iconst 0, 1) := dk_3 (dk_at dksX3_countOf_0 0 rfl rfl)
theorem dX3_countOf_1 : decode cX3_countOf 1 = .ok (.istore_n 2, 1) := dk_61 (dk_at dksX3_countOf_0 1 rfl rfl)
theorem dX3_countOf_2 : decode cX3_countOf 2 = .ok (.iconst 0, 1) := dk_3 (dk_at dksX3_countOf_0 2 rfl rfl)
theorem dX3_countOf_3 : decode cX3_countOf 3 = .ok (.istore_n 3, 1) := dk_62 (dk_at dksX3_countOf_0 3 rfl rfl)
theorem dX3_countOf_4 : decode cX3_countOf 4 = .ok (.iload_n 3, 1) := dk_29 (dk_at dksX3_countOf_0 4 rfl rfl)
theorem dX3_countOf_5 : decode cX3_countOf 5 = .ok (.aload_n 0, 1) := dk_42 (dk_at dksX3_countOf_0 5 rfl rfl)
theorem dX3_countOf_6 : decode cX3_countOf 6 = .ok (.getfield 7, 3) := dk_180 0 7 (dk_at dksX3_countOf_0 6 rfl rfl)
theorem dX3_countOf_9 : decode cX3_countOf 9 = .ok (.iconst 2, 1) := dk_5 (dk_at dksX3_countOf_0 9 rfl rfl)
theorem dX3_countOf_10 : decode cX3_countOf 10 = .ok (.iaload, 1) := dk_46 (dk_at dksX3_countOf_0 10 rfl rfl)
theorem dX3_countOf_11 : decode cX3_countOf 11 = .ok (.if_icmp .ge 84, 3) := dk_162 0 84 (dk_at dksX3_countOf_0 11 rfl rfl)
theorem dX3_countOf_14 : decode cX3_countOf 14 = .ok (.iload_n 1, 1) := dk_27 (dk_at dksX3_countOf_0 14 rfl rfl)
theorem dX3_countOf_15 : decode cX3_countOf 15 = .ok (.iconst 4, 1) := dk_7 (dk_at dksX3_countOf_0 15 rfl rfl)
theorem dX3_countOf_16 : decode cX3_countOf 16 = .ok (.if_icmp .ne 14, 3) := dk_160 0 14 (dk_at dksX3_countOf_0 16 rfl rfl)
theorem dX3_countOf_19 : decode cX3_countOf 19 = .ok (.aload_n 0, 1) := dk_42 (dk_at dksX3_countOf_0 19 rfl rfl)
theorem dX3_countOf_20 : decode cX3_countOf 20 = .ok (.getfield 7, 3) := dk_180 0 7 (dk_at dksX3_countOf_0 20 rfl rfl)
theorem dX3_countOf_23 : decode cX3_countOf 23 = .ok (.iload_n 3, 1) := dk_29 (dk_at dksX3_countOf_0 23 rfl rfl)
theorem dX3_countOf_24 : decode cX3_countOf 24 = .ok (.invokestatic 76, 3) := dk_184 0 76 (dk_at dksX3_countOf_1 0 rfl rfl)
theorem dX3_countOf_27 : decode cX3_countOf 27 = .ok (.goto 47, 3) := dk_167 0 47 (dk_at dksX3_countOf_1 3 rfl rfl)
theorem dX3_countOf_30 : decode cX3_countOf 30 = .ok (.iload_n 1, 1) := dk_27 (dk_at dksX3_countOf_1 6 rfl rfl)
theorem dX3_countOf_31 : decode cX3_countOf 31 = .ok (.iconst 5, 1) := dk_8 (dk_at dksX3_countOf_1 7 rfl rfl)
theorem dX3_countOf_32 : decode cX3_countOf 32 = .ok (.if_icmp .ne 25, 3) := dk_160 0 25 (dk_at dksX3_countOf_1 8 rfl rfl)
theorem dX3_countOf_35 : decode cX3_countOf 35 = .ok (.aload_n 0, 1) := dk_42 (dk_at dksX3_countOf_1 11 rfl rfl)
theorem dX3_countOf_36 : decode cX3_countOf 36 = .ok (.getfield 7, 3) := dk_180 0 7 (dk_at dksX3_countOf_1 12 rfl rfl)
theorem dX3_countOf_39 : decode cX3_countOf 39 = .ok (.sipush 225, 3) := dk_17 0 225 (dk_at dksX3_countOf_1 15 rfl rfl)
theorem dX3_countOf_42 : decode cX3_countOf 42 = .ok (.iload_n 3, 1) := dk_29 (dk_at dksX3_countOf_1 18 rfl rfl)
theorem dX3_countOf_43 : decode cX3_countOf 43 = .ok (.iadd, 1) := dk_96 (dk_at dksX3_countOf_1 19 rfl rfl)
theorem dX3_countOf_44 : decode cX3_countOf 44 = .ok (.iaload, 1) := dk_46 (dk_at dksX3_countOf_1 20 rfl rfl)
theorem dX3_countOf_45 : decode cX3_countOf 45 = .ok (.iconst (-1), 1) := dk_2 (dk_at dksX3_countOf_1 21 rfl rfl)
theorem dX3_countOf_46 : decode cX3_countOf 46 = .ok (.if_icmp .eq 7, 3) := dk_159 0 7 (dk_at dksX3_countOf_2 0 rfl rfl)
theorem dX3_countOf_49 : decode cX3_countOf 49 = .ok (.iconst 1, 1) := dk_4 (dk_at dksX3_countOf_2 3 rfl rfl)
theorem dX3_countOf_50 : decode cX3_countOf 50 = .ok (.goto 24, 3) := dk_167 0 24 (dk_at dksX3_countOf_2 4 rfl rfl)
theorem dX3_countOf_53 : decode cX3_countOf 53 = .ok (.iconst 0, 1) := dk_3 (dk_at dksX3_countOf_2 7 rfl rfl)
theorem dX3_countOf_54 : decode cX3_countOf 54 = .ok (.goto 20, 3) := dk_167 0 20 (dk_at dksX3_countOf_2 8 rfl rfl)
theorem dX3_countOf_57 : decode cX3_countOf 57 = .ok (.aload_n 0, 1) := dk_42 (dk_at dksX3_countOf_2 11 rfl rfl)
theorem dX3_countOf_58 : decode cX3_countOf 58 = .ok (.getfield 7, 3) := dk_180 0 7 (dk_at dksX3_countOf_2 12 rfl rfl)
theorem dX3_countOf_61 : decode cX3_countOf 61 = .ok (.iload_n 3, 1) := dk_29 (dk_at dksX3_countOf_2 15 rfl rfl)
theorem dX3_countOf_62 : decode cX3_countOf 62 = .ok (.invokestatic 113, 3) := dk_184 0 113 (dk_at dksX3_countOf_2 16 rfl rfl)
theorem dX3_countOf_65 : decode cX3_countOf 65 = .ok (.iconst (-1), 1) := dk_2 (dk_at dksX3_countOf_2 19 rfl rfl)
theorem dX3_countOf_66 : decode cX3_countOf 66 = .ok (.if_icmp .eq 7, 3) := dk_159 0 7 (dk_at dksX3_countOf_2 20 rfl rfl)
theorem dX3_countOf_69 : decode cX3_countOf 69 = .ok (.iconst 1, 1) := dk_4 (dk_at dksX3_countOf_2 23 rfl rfl)
theorem dX3_countOf_70 : decode cX3_countOf 70 = .ok (.goto 4, 3) := dk_167 0 4 (dk_at dksX3_countOf_3 0 rfl rfl)
theorem dX3_countOf_73 : decode cX3_countOf 73 = .ok (.iconst 0, 1) := dk_3 (dk_at dksX3_countOf_3 3 rfl rfl)
theorem dX3_countOf_74 : decode cX3_countOf 74 = .ok (.istore 4, 2) := dk_54 4 (dk_at dksX3_countOf_3 4 rfl rfl)
theorem dX3_countOf_76 : decode cX3_countOf 76 = .ok (.iload_n 2, 1) := dk_28 (dk_at dksX3_countOf_3 6 rfl rfl)
theorem dX3_countOf_77 : decode cX3_countOf 77 = .ok (.iload 4, 2) := dk_21 4 (dk_at dksX3_countOf_3 7 rfl rfl)
theorem dX3_countOf_79 : decode cX3_countOf 79 = .ok (.ifCond .eq 7, 3) := dk_153 0 7 (dk_at dksX3_countOf_3 9 rfl rfl)
theorem dX3_countOf_82 : decode cX3_countOf 82 = .ok (.iconst 1, 1) := dk_4 (dk_at dksX3_countOf_3 12 rfl rfl)
theorem dX3_countOf_83 : decode cX3_countOf 83 = .ok (.goto 4, 3) := dk_167 0 4 (dk_at dksX3_countOf_3 13 rfl rfl)
theorem dX3_countOf_86 : decode cX3_countOf 86 = .ok (.iconst 0, 1) := dk_3 (dk_at dksX3_countOf_3 16 rfl rfl)
theorem dX3_countOf_87 : decode cX3_countOf 87 = .ok (.iadd, 1) := dk_96 (dk_at dksX3_countOf_3 17 rfl rfl)
theorem dX3_countOf_88 : decode cX3_countOf 88 = .ok (.istore_n 2, 1) := dk_61 (dk_at dksX3_countOf_3 18 rfl rfl)
theorem dX3_countOf_89 : decode cX3_countOf 89 = .ok (.iinc 3 1, 3) := dk_132 3 1 (dk_at dksX3_countOf_3 19 rfl rfl)
theorem dX3_countOf_92 : decode cX3_countOf 92 = .ok (.goto (-88), 3) := dk_167 255 168 (dk_at dksX3_countOf_4 0 rfl rfl)
theorem dX3_countOf_95 : decode cX3_countOf 95 = .ok (.iload_n 2, 1) := dk_28 (dk_at dksX3_countOf_4 3 rfl rfl)
theorem dX3_countOf_96 : decode cX3_countOf 96 = .ok (.ireturn, 1) := dk_172 (dk_at dksX3_countOf_4 4 rfl rfl)
abbrev cX3_shelfOf : ByteArray := prog_10_method_27_code
def yX3_shelfOf : MethodName := ⟨RX3, "shelfOf", "([II)I"⟩
def dkwX3_shelfOf_1 : List UInt8 := [29, 61, 132, 3, 1, 167, 255, 231, 28, 172]
abbrev dktX3_shelfOf_1 : List UInt8 := dkwX3_shelfOf_1 ++ []
def dkwX3_shelfOf_0 : List UInt8 := [2, 61, 3, 62, 29, 16, 6, 162, 0, 25, 42, 27, 29, 184, 0, 110, 2, 160, 0, 7, 28, 167, 0, 4]
abbrev dktX3_shelfOf_0 : List UInt8 := dkwX3_shelfOf_0 ++ dktX3_shelfOf_1
theorem dksX3_shelfOf_0 : cX3_shelfOf.data.toList.drop 0 = dktX3_shelfOf_0 := by decide +kernel
theorem dksX3_shelfOf_1 : cX3_shelfOf.data.toList.drop 24 = dktX3_shelfOf_1 := dk_seg dksX3_shelfOf_0 24 rfl rfl
theorem dX3_shelfOf_0 : decode cX3_shelfOf 0 = .ok (.iconst (-1), 1) := dk_2 (dk_at dksX3_shelfOf_0 0 rfl rfl)
theorem dX3_shelfOf_1 : decode cX3_shelfOf 1 = .ok (.istore_n 2, 1) := dk_61 (dk_at dksX3_shelfOf_0 1 rfl rfl)
theorem dX3_shelfOf_2 : decode cX3_shelfOf 2 = .ok (.iconst 0, 1) := dk_3 (dk_at dksX3_shelfOf_0 2 rfl rfl)
theorem dX3_shelfOf_3 : decode cX3_shelfOf 3 = .ok (.istore_n 3, 1) := dk_62 (dk_at dksX3_shelfOf_0 3 rfl rfl)
theorem dX3_shelfOf_4 : decode cX3_shelfOf 4 = .ok (.iload_n 3, 1) := dk_29 (dk_at dksX3_shelfOf_0 4 rfl rfl)
theorem dX3_shelfOf_5 : decode cX3_shelfOf 5 = .ok (.bipush 6, 2) := dk_16 6 (dk_at dksX3_shelfOf_0 5 rfl rfl)
theorem dX3_shelfOf_7 : decode cX3_shelfOf 7 = .ok (.if_icmp .ge 25, 3) := dk_162 0 25 (dk_at dksX3_shelfOf_0 7 rfl rfl)
theorem dX3_shelfOf_10 : decode cX3_shelfOf 10 = .ok (.aload_n 0, 1) := dk_42 (dk_at dksX3_shelfOf_0 10 rfl rfl)
theorem dX3_shelfOf_11 : decode cX3_shelfOf 11 = .ok (.iload_n 1, 1) := dk_27 (dk_at dksX3_shelfOf_0 11 rfl rfl)
theorem dX3_shelfOf_12 : decode cX3_shelfOf 12 = .ok (.iload_n 3, 1) := dk_29 (dk_at dksX3_shelfOf_0 12 rfl rfl)
theorem dX3_shelfOf_13 : decode cX3_shelfOf 13 = .ok (.invokestatic 110, 3) := dk_184 0 110 (dk_at dksX3_shelfOf_0 13 rfl rfl)
theorem dX3_shelfOf_16 : decode cX3_shelfOf 16 = .ok (.iconst (-1), 1) := dk_2 (dk_at dksX3_shelfOf_0 16 rfl rfl)
theorem dX3_shelfOf_17 : decode cX3_shelfOf 17 = .ok (.if_icmp .ne 7, 3) := dk_160 0 7 (dk_at dksX3_shelfOf_0 17 rfl rfl)
theorem dX3_shelfOf_20 : decode cX3_shelfOf 20 = .ok (.iload_n 2, 1) := dk_28 (dk_at dksX3_shelfOf_0 20 rfl rfl)
theorem dX3_shelfOf_21 : decode cX3_shelfOf 21 = .ok (.goto 4, 3) := dk_167 0 4 (dk_at dksX3_shelfOf_0 21 rfl rfl)
theorem dX3_shelfOf_24 : decode cX3_shelfOf 24 = .ok (.iload_n 3, 1) := dk_29 (dk_at dksX3_shelfOf_1 0 rfl rfl)
theorem dX3_shelfOf_25 : decode cX3_shelfOf 25 = .ok (.istore_n 2, 1) := dk_61 (dk_at dksX3_shelfOf_1 1 rfl rfl)
theorem dX3_shelfOf_26 : decode cX3_shelfOf 26 = .ok (.iinc 3 1, 3) := dk_132 3 1 (dk_at dksX3_shelfOf_1 2 rfl rfl)
theorem dX3_shelfOf_29 : decode cX3_shelfOf 29 = .ok (.goto (-25), 3) := dk_167 255 231 (dk_at dksX3_shelfOf_1 5 rfl rfl)
theorem dX3_shelfOf_32 : decode cX3_shelfOf 32 = .ok (.iload_n 2, 1) := dk_28 (dk_at dksX3_shelfOf_1 8 rfl rfl)
theorem dX3_shelfOf_33 : decode cX3_shelfOf 33 = .ok (.ireturn, 1) := dk_172 (dk_at dksX3_shelfOf_1 9 rfl rfl)
abbrev cX3_placeOn : ByteArray := prog_10_method_28_code
def yX3_placeOn : MethodName := ⟨RX3, "placeOn", "([III)I"⟩
def dkwX3_placeOn_2 : List UInt8 := [172]
abbrev dktX3_placeOn_2 : List UInt8 := dkwX3_placeOn_2 ++ []
def dkwX3_placeOn_1 : List UInt8 := [104, 96, 21, 4, 96, 46, 27, 160, 0, 8, 21, 4, 167, 0, 4, 29, 62, 132, 4, 1, 167, 255, 217, 29]
abbrev dktX3_placeOn_1 : List UInt8 := dkwX3_placeOn_1 ++ dktX3_placeOn_2
def dkwX3_placeOn_0 : List UInt8 := [2, 62, 3, 54, 4, 21, 4, 42, 17, 0, 249, 28, 96, 46, 162, 0, 33, 42, 17, 0, 255, 16, 6, 28]
abbrev dktX3_placeOn_0 : List UInt8 := dkwX3_placeOn_0 ++ dktX3_placeOn_1
theorem dksX3_placeOn_0 : cX3_placeOn.data.toList.drop 0 = dktX3_placeOn_0 := by decide +kernel
theorem dksX3_placeOn_1 : cX3_placeOn.data.toList.drop 24 = dktX3_placeOn_1 := dk_seg dksX3_placeOn_0 24 rfl rfl
theorem dksX3_placeOn_2 : cX3_placeOn.data.toList.drop 48 = dktX3_placeOn_2 := dk_seg dksX3_placeOn_1 24 rfl rfl
theorem dX3_placeOn_0 : decode cX3_placeOn 0 = .ok (.iconst (-1), 1) := dk_2 (dk_at dksX3_placeOn_0 0 rfl rfl)
theorem dX3_placeOn_1 : decode cX3_placeOn 1 = .ok (.istore_n 3, 1) := dk_62 (dk_at dksX3_placeOn_0 1 rfl rfl)
theorem dX3_placeOn_2 : decode cX3_placeOn 2 = .ok (.iconst 0, 1) := dk_3 (dk_at dksX3_placeOn_0 2 rfl rfl)
theorem dX3_placeOn_3 : decode cX3_placeOn 3 = .ok (.istore 4, 2) := dk_54 4 (dk_at dksX3_placeOn_0 3 rfl rfl)
theorem dX3_placeOn_5 : decode cX3_placeOn 5 = .ok (.iload 4, 2) := dk_21 4 (dk_at dksX3_placeOn_0 5 rfl rfl)
theorem dX3_placeOn_7 : decode cX3_placeOn 7 = .ok (.aload_n 0, 1) := dk_42 (dk_at dksX3_placeOn_0 7 rfl rfl)
theorem dX3_placeOn_8 : decode cX3_placeOn 8 = .ok (.sipush 249, 3) := dk_17 0 249 (dk_at dksX3_placeOn_0 8 rfl rfl)
theorem dX3_placeOn_11 : decode cX3_placeOn 11 = .ok (.iload_n 2, 1) := dk_28 (dk_at dksX3_placeOn_0 11 rfl rfl)
theorem dX3_placeOn_12 : decode cX3_placeOn 12 = .ok (.iadd, 1) := dk_96 (dk_at dksX3_placeOn_0 12 rfl rfl)
theorem dX3_placeOn_13 : decode cX3_placeOn 13 = .ok (.iaload, 1) := dk_46 (dk_at dksX3_placeOn_0 13 rfl rfl)
theorem dX3_placeOn_14 : decode cX3_placeOn 14 = .ok (.if_icmp .ge 33, 3) := dk_162 0 33 (dk_at dksX3_placeOn_0 14 rfl rfl)
theorem dX3_placeOn_17 : decode cX3_placeOn 17 = .ok (.aload_n 0, 1) := dk_42 (dk_at dksX3_placeOn_0 17 rfl rfl)
theorem dX3_placeOn_18 : decode cX3_placeOn 18 = .ok (.sipush 255, 3) := dk_17 0 255 (dk_at dksX3_placeOn_0 18 rfl rfl)
theorem dX3_placeOn_21 : decode cX3_placeOn 21 = .ok (.bipush 6, 2) := dk_16 6 (dk_at dksX3_placeOn_0 21 rfl rfl)
theorem dX3_placeOn_23 : decode cX3_placeOn 23 = .ok (.iload_n 2, 1) := dk_28 (dk_at dksX3_placeOn_0 23 rfl rfl)
theorem dX3_placeOn_24 : decode cX3_placeOn 24 = .ok (.imul, 1) := dk_104 (dk_at dksX3_placeOn_1 0 rfl rfl)
theorem dX3_placeOn_25 : decode cX3_placeOn 25 = .ok (.iadd, 1) := dk_96 (dk_at dksX3_placeOn_1 1 rfl rfl)
theorem dX3_placeOn_26 : decode cX3_placeOn 26 = .ok (.iload 4, 2) := dk_21 4 (dk_at dksX3_placeOn_1 2 rfl rfl)
theorem dX3_placeOn_28 : decode cX3_placeOn 28 = .ok (.iadd, 1) := dk_96 (dk_at dksX3_placeOn_1 4 rfl rfl)
theorem dX3_placeOn_29 : decode cX3_placeOn 29 = .ok (.iaload, 1) := dk_46 (dk_at dksX3_placeOn_1 5 rfl rfl)
theorem dX3_placeOn_30 : decode cX3_placeOn 30 = .ok (.iload_n 1, 1) := dk_27 (dk_at dksX3_placeOn_1 6 rfl rfl)
theorem dX3_placeOn_31 : decode cX3_placeOn 31 = .ok (.if_icmp .ne 8, 3) := dk_160 0 8 (dk_at dksX3_placeOn_1 7 rfl rfl)
theorem dX3_placeOn_34 : decode cX3_placeOn 34 = .ok (.iload 4, 2) := dk_21 4 (dk_at dksX3_placeOn_1 10 rfl rfl)
theorem dX3_placeOn_36 : decode cX3_placeOn 36 = .ok (.goto 4, 3) := dk_167 0 4 (dk_at dksX3_placeOn_1 12 rfl rfl)
theorem dX3_placeOn_39 : decode cX3_placeOn 39 = .ok (.iload_n 3, 1) := dk_29 (dk_at dksX3_placeOn_1 15 rfl rfl)
theorem dX3_placeOn_40 : decode cX3_placeOn 40 = .ok (.istore_n 3, 1) := dk_62 (dk_at dksX3_placeOn_1 16 rfl rfl)
theorem dX3_placeOn_41 : decode cX3_placeOn 41 = .ok (.iinc 4 1, 3) := dk_132 4 1 (dk_at dksX3_placeOn_1 17 rfl rfl)
theorem dX3_placeOn_44 : decode cX3_placeOn 44 = .ok (.goto (-39), 3) := dk_167 255 217 (dk_at dksX3_placeOn_1 20 rfl rfl)
theorem dX3_placeOn_47 : decode cX3_placeOn 47 = .ok (.iload_n 3, 1) := dk_29 (dk_at dksX3_placeOn_1 23 rfl rfl)
theorem dX3_placeOn_48 : decode cX3_placeOn 48 = .ok (.ireturn, 1) := dk_172 (dk_at dksX3_placeOn_2 0 rfl rfl)
abbrev cX3_ofReign : ByteArray := prog_10_method_74_code
def yX3_ofReign : MethodName := ⟨RX3, "ofReign", "(II)I"⟩
def dkwX3_ofReign_3 : List UInt8 := [167, 0, 12, 42, 180, 0, 7, 16, 15, 27, 96, 46, 172]
abbrev dktX3_ofReign_3 : List UInt8 := dkwX3_ofReign_3 ++ []
def dkwX3_ofReign_2 : List UInt8 := [180, 0, 7, 8, 27, 96, 46, 167, 0, 28, 28, 4, 160, 0, 14, 42, 180, 0, 7, 27, 184, 0, 59]
abbrev dktX3_ofReign_2 : List UInt8 := dkwX3_ofReign_2 ++ dktX3_ofReign_3
def dkwX3_ofReign_1 : List UInt8 := [184, 0, 49, 154, 0, 7, 5, 167, 0, 4, 3, 182, 0, 150, 153, 0, 5, 3, 172, 28, 154, 0, 14, 42]
abbrev dktX3_ofReign_1 : List UInt8 := dkwX3_ofReign_1 ++ dktX3_ofReign_2
def dkwX3_ofReign_0 : List UInt8 := [42, 42, 180, 0, 7, 27, 184, 1, 9, 154, 0, 7, 4, 167, 0, 20, 28, 133, 9, 20, 1, 12]
abbrev dktX3_ofReign_0 : List UInt8 := dkwX3_ofReign_0 ++ dktX3_ofReign_1
theorem dksX3_ofReign_0 : cX3_ofReign.data.toList.drop 0 = dktX3_ofReign_0 := by decide +kernel
theorem dksX3_ofReign_1 : cX3_ofReign.data.toList.drop 22 = dktX3_ofReign_1 := dk_seg dksX3_ofReign_0 22 rfl rfl
theorem dksX3_ofReign_2 : cX3_ofReign.data.toList.drop 46 = dktX3_ofReign_2 := dk_seg dksX3_ofReign_1 24 rfl rfl
theorem dksX3_ofReign_3 : cX3_ofReign.data.toList.drop 69 = dktX3_ofReign_3 := dk_seg dksX3_ofReign_2 23 rfl rfl
theorem dX3_ofReign_0 : decode cX3_ofReign 0 = .ok (.aload_n 0, 1) := dk_42 (dk_at dksX3_ofReign_0 0 rfl rfl)
theorem dX3_ofReign_1 : decode cX3_ofReign 1 = .ok (.aload_n 0, 1) := dk_42 (dk_at dksX3_ofReign_0 1 rfl rfl)
theorem dX3_ofReign_2 : decode cX3_ofReign 2 = .ok (.getfield 7, 3) := dk_180 0 7 (dk_at dksX3_ofReign_0 2 rfl rfl)
theorem dX3_ofReign_5 : decode cX3_ofReign 5 = .ok (.iload_n 1, 1) := dk_27 (dk_at dksX3_ofReign_0 5 rfl rfl)
theorem dX3_ofReign_6 : decode cX3_ofReign 6 = .ok (.invokestatic 265, 3) := dk_184 1 9 (dk_at dksX3_ofReign_0 6 rfl rfl)
theorem dX3_ofReign_9 : decode cX3_ofReign 9 = .ok (.ifCond .ne 7, 3) := dk_154 0 7 (dk_at dksX3_ofReign_0 9 rfl rfl)
theorem dX3_ofReign_12 : decode cX3_ofReign 12 = .ok (.iconst 1, 1) := dk_4 (dk_at dksX3_ofReign_0 12 rfl rfl)
theorem dX3_ofReign_13 : decode cX3_ofReign 13 = .ok (.goto 20, 3) := dk_167 0 20 (dk_at dksX3_ofReign_0 13 rfl rfl)
theorem dX3_ofReign_16 : decode cX3_ofReign 16 = .ok (.iload_n 2, 1) := dk_28 (dk_at dksX3_ofReign_0 16 rfl rfl)
theorem dX3_ofReign_17 : decode cX3_ofReign 17 = .ok (.i2l, 1) := dk_133 (dk_at dksX3_ofReign_0 17 rfl rfl)
theorem dX3_ofReign_18 : decode cX3_ofReign 18 = .ok (.lconst 0, 1) := dk_9 (dk_at dksX3_ofReign_0 18 rfl rfl)
theorem dX3_ofReign_19 : decode cX3_ofReign 19 = .ok (.ldc2_w 268, 3) := dk_20 1 12 (dk_at dksX3_ofReign_0 19 rfl rfl)
theorem dX3_ofReign_22 : decode cX3_ofReign 22 = .ok (.invokestatic 49, 3) := dk_184 0 49 (dk_at dksX3_ofReign_1 0 rfl rfl)
theorem dX3_ofReign_25 : decode cX3_ofReign 25 = .ok (.ifCond .ne 7, 3) := dk_154 0 7 (dk_at dksX3_ofReign_1 3 rfl rfl)
theorem dX3_ofReign_28 : decode cX3_ofReign 28 = .ok (.iconst 2, 1) := dk_5 (dk_at dksX3_ofReign_1 6 rfl rfl)
theorem dX3_ofReign_29 : decode cX3_ofReign 29 = .ok (.goto 4, 3) := dk_167 0 4 (dk_at dksX3_ofReign_1 7 rfl rfl)
theorem dX3_ofReign_32 : decode cX3_ofReign 32 = .ok (.iconst 0, 1) := dk_3 (dk_at dksX3_ofReign_1 10 rfl rfl)
theorem dX3_ofReign_33 : decode cX3_ofReign 33 = .ok (.invokevirtual 150, 3) := dk_182 0 150 (dk_at dksX3_ofReign_1 11 rfl rfl)
theorem dX3_ofReign_36 : decode cX3_ofReign 36 = .ok (.ifCond .eq 5, 3) := dk_153 0 5 (dk_at dksX3_ofReign_1 14 rfl rfl)
theorem dX3_ofReign_39 : decode cX3_ofReign 39 = .ok (.iconst 0, 1) := dk_3 (dk_at dksX3_ofReign_1 17 rfl rfl)
theorem dX3_ofReign_40 : decode cX3_ofReign 40 = .ok (.ireturn, 1) := dk_172 (dk_at dksX3_ofReign_1 18 rfl rfl)
theorem dX3_ofReign_41 : decode cX3_ofReign 41 = .ok (.iload_n 2, 1) := dk_28 (dk_at dksX3_ofReign_1 19 rfl rfl)
theorem dX3_ofReign_42 : decode cX3_ofReign 42 = .ok (.ifCond .ne 14, 3) := dk_154 0 14 (dk_at dksX3_ofReign_1 20 rfl rfl)
theorem dX3_ofReign_45 : decode cX3_ofReign 45 = .ok (.aload_n 0, 1) := dk_42 (dk_at dksX3_ofReign_1 23 rfl rfl)
theorem dX3_ofReign_46 : decode cX3_ofReign 46 = .ok (.getfield 7, 3) := dk_180 0 7 (dk_at dksX3_ofReign_2 0 rfl rfl)
theorem dX3_ofReign_49 : decode cX3_ofReign 49 = .ok (.iconst 5, 1) := dk_8 (dk_at dksX3_ofReign_2 3 rfl rfl)
theorem dX3_ofReign_50 : decode cX3_ofReign 50 = .ok (.iload_n 1, 1) := dk_27 (dk_at dksX3_ofReign_2 4 rfl rfl)
theorem dX3_ofReign_51 : decode cX3_ofReign 51 = .ok (.iadd, 1) := dk_96 (dk_at dksX3_ofReign_2 5 rfl rfl)
theorem dX3_ofReign_52 : decode cX3_ofReign 52 = .ok (.iaload, 1) := dk_46 (dk_at dksX3_ofReign_2 6 rfl rfl)
theorem dX3_ofReign_53 : decode cX3_ofReign 53 = .ok (.goto 28, 3) := dk_167 0 28 (dk_at dksX3_ofReign_2 7 rfl rfl)
theorem dX3_ofReign_56 : decode cX3_ofReign 56 = .ok (.iload_n 2, 1) := dk_28 (dk_at dksX3_ofReign_2 10 rfl rfl)
theorem dX3_ofReign_57 : decode cX3_ofReign 57 = .ok (.iconst 1, 1) := dk_4 (dk_at dksX3_ofReign_2 11 rfl rfl)
theorem dX3_ofReign_58 : decode cX3_ofReign 58 = .ok (.if_icmp .ne 14, 3) := dk_160 0 14 (dk_at dksX3_ofReign_2 12 rfl rfl)
theorem dX3_ofReign_61 : decode cX3_ofReign 61 = .ok (.aload_n 0, 1) := dk_42 (dk_at dksX3_ofReign_2 15 rfl rfl)
theorem dX3_ofReign_62 : decode cX3_ofReign 62 = .ok (.getfield 7, 3) := dk_180 0 7 (dk_at dksX3_ofReign_2 16 rfl rfl)
theorem dX3_ofReign_65 : decode cX3_ofReign 65 = .ok (.iload_n 1, 1) := dk_27 (dk_at dksX3_ofReign_2 19 rfl rfl)
theorem dX3_ofReign_66 : decode cX3_ofReign 66 = .ok (.invokestatic 59, 3) := dk_184 0 59 (dk_at dksX3_ofReign_2 20 rfl rfl)
theorem dX3_ofReign_69 : decode cX3_ofReign 69 = .ok (.goto 12, 3) := dk_167 0 12 (dk_at dksX3_ofReign_3 0 rfl rfl)
theorem dX3_ofReign_72 : decode cX3_ofReign 72 = .ok (.aload_n 0, 1) := dk_42 (dk_at dksX3_ofReign_3 3 rfl rfl)
theorem dX3_ofReign_73 : decode cX3_ofReign 73 = .ok (.getfield 7, 3) := dk_180 0 7 (dk_at dksX3_ofReign_3 4 rfl rfl)
theorem dX3_ofReign_76 : decode cX3_ofReign 76 = .ok (.bipush 15, 2) := dk_16 15 (dk_at dksX3_ofReign_3 7 rfl rfl)
theorem dX3_ofReign_78 : decode cX3_ofReign 78 = .ok (.iload_n 1, 1) := dk_27 (dk_at dksX3_ofReign_3 9 rfl rfl)
theorem dX3_ofReign_79 : decode cX3_ofReign 79 = .ok (.iadd, 1) := dk_96 (dk_at dksX3_ofReign_3 10 rfl rfl)
theorem dX3_ofReign_80 : decode cX3_ofReign 80 = .ok (.iaload, 1) := dk_46 (dk_at dksX3_ofReign_3 11 rfl rfl)
theorem dX3_ofReign_81 : decode cX3_ofReign 81 = .ok (.ireturn, 1) := dk_172 (dk_at dksX3_ofReign_3 12 rfl rfl)
abbrev cX3_hasReign : ByteArray := prog_10_method_10_code
def yX3_hasReign : MethodName := ⟨RX3, "hasReign", "([II)Z"⟩
def dkwX3_hasReign_0 : List UInt8 := [27, 133, 9, 42, 3, 46, 4, 100, 133, 184, 0, 49, 172]
abbrev dktX3_hasReign_0 : List UInt8 := dkwX3_hasReign_0 ++ []
theorem dksX3_hasReign_0 : cX3_hasReign.data.toList.drop 0 = dktX3_hasReign_0 := by decide +kernel
theorem dX3_hasReign_0 : decode cX3_hasReign 0 = .ok (.iload_n 1, 1) := dk_27 (dk_at dksX3_hasReign_0 0 rfl rfl)
theorem dX3_hasReign_1 : decode cX3_hasReign 1 = .ok (.i2l, 1) := dk_133 (dk_at dksX3_hasReign_0 1 rfl rfl)
theorem dX3_hasReign_2 : decode cX3_hasReign 2 = .ok (.lconst 0, 1) := dk_9 (dk_at dksX3_hasReign_0 2 rfl rfl)
theorem dX3_hasReign_3 : decode cX3_hasReign 3 = .ok (.aload_n 0, 1) := dk_42 (dk_at dksX3_hasReign_0 3 rfl rfl)
theorem dX3_hasReign_4 : decode cX3_hasReign 4 = .ok (.iconst 0, 1) := dk_3 (dk_at dksX3_hasReign_0 4 rfl rfl)
theorem dX3_hasReign_5 : decode cX3_hasReign 5 = .ok (.iaload, 1) := dk_46 (dk_at dksX3_hasReign_0 5 rfl rfl)
theorem dX3_hasReign_6 : decode cX3_hasReign 6 = .ok (.iconst 1, 1) := dk_4 (dk_at dksX3_hasReign_0 6 rfl rfl)
theorem dX3_hasReign_7 : decode cX3_hasReign 7 = .ok (.isub, 1) := dk_100 (dk_at dksX3_hasReign_0 7 rfl rfl)
theorem dX3_hasReign_8 : decode cX3_hasReign 8 = .ok (.i2l, 1) := dk_133 (dk_at dksX3_hasReign_0 8 rfl rfl)
theorem dX3_hasReign_9 : decode cX3_hasReign 9 = .ok (.invokestatic 49, 3) := dk_184 0 49 (dk_at dksX3_hasReign_0 9 rfl rfl)
theorem dX3_hasReign_12 : decode cX3_hasReign 12 = .ok (.ireturn, 1) := dk_172 (dk_at dksX3_hasReign_0 12 rfl rfl)
abbrev cX3_ofDie : ByteArray := prog_10_method_76_code
def yX3_ofDie : MethodName := ⟨RX3, "ofDie", "(II)I"⟩
def dkwX3_ofDie_5 : List UInt8 := [167, 0, 4, 3, 182, 1, 14, 172]
abbrev dktX3_ofDie_5 : List UInt8 := dkwX3_ofDie_5 ++ []
def dkwX3_ofDie_4 : List UInt8 := [16, 45, 27, 96, 46, 172, 42, 180, 0, 7, 16, 55, 27, 96, 46, 172, 42, 27, 28, 8, 160, 0, 7, 4]
abbrev dktX3_ofDie_4 : List UInt8 := dkwX3_ofDie_4 ++ dktX3_ofDie_5
def dkwX3_ofDie_3 : List UInt8 := [42, 180, 0, 7, 16, 25, 27, 96, 46, 172, 42, 180, 0, 7, 16, 35, 27, 96, 46, 172, 42, 180, 0, 7]
abbrev dktX3_ofDie_3 : List UInt8 := dkwX3_ofDie_3 ++ dktX3_ofDie_4
def dkwX3_ofDie_2 : List UInt8 := [170, 0, 0, 0, 0, 70, 0, 0, 0, 0, 0, 0, 0, 3, 0, 0, 0, 30, 0, 0, 0, 40, 0, 0, 0, 50, 0, 0, 0, 60]
abbrev dktX3_ofDie_2 : List UInt8 := dkwX3_ofDie_2 ++ dktX3_ofDie_3
def dkwX3_ofDie_1 : List UInt8 := [184, 0, 49, 154, 0, 7, 5, 167, 0, 4, 3, 182, 0, 150, 153, 0, 5, 3, 172, 28]
abbrev dktX3_ofDie_1 : List UInt8 := dkwX3_ofDie_1 ++ dktX3_ofDie_2
def dkwX3_ofDie_0 : List UInt8 := [42, 42, 180, 0, 7, 27, 184, 0, 197, 154, 0, 7, 4, 167, 0, 20, 28, 133, 9, 20, 0, 53]
abbrev dktX3_ofDie_0 : List UInt8 := dkwX3_ofDie_0 ++ dktX3_ofDie_1
theorem dksX3_ofDie_0 : cX3_ofDie.data.toList.drop 0 = dktX3_ofDie_0 := by decide +kernel
theorem dksX3_ofDie_1 : cX3_ofDie.data.toList.drop 22 = dktX3_ofDie_1 := dk_seg dksX3_ofDie_0 22 rfl rfl
theorem dksX3_ofDie_2 : cX3_ofDie.data.toList.drop 42 = dktX3_ofDie_2 := dk_seg dksX3_ofDie_1 20 rfl rfl
theorem dksX3_ofDie_3 : cX3_ofDie.data.toList.drop 72 = dktX3_ofDie_3 := dk_seg dksX3_ofDie_2 30 rfl rfl
theorem dksX3_ofDie_4 : cX3_ofDie.data.toList.drop 96 = dktX3_ofDie_4 := dk_seg dksX3_ofDie_3 24 rfl rfl
theorem dksX3_ofDie_5 : cX3_ofDie.data.toList.drop 120 = dktX3_ofDie_5 := dk_seg dksX3_ofDie_4 24 rfl rfl
theorem dX3_ofDie_0 : decode cX3_ofDie 0 = .ok (.aload_n 0, 1) := dk_42 (dk_at dksX3_ofDie_0 0 rfl rfl)
theorem dX3_ofDie_1 : decode cX3_ofDie 1 = .ok (.aload_n 0, 1) := dk_42 (dk_at dksX3_ofDie_0 1 rfl rfl)
theorem dX3_ofDie_2 : decode cX3_ofDie 2 = .ok (.getfield 7, 3) := dk_180 0 7 (dk_at dksX3_ofDie_0 2 rfl rfl)
theorem dX3_ofDie_5 : decode cX3_ofDie 5 = .ok (.iload_n 1, 1) := dk_27 (dk_at dksX3_ofDie_0 5 rfl rfl)
theorem dX3_ofDie_6 : decode cX3_ofDie 6 = .ok (.invokestatic 197, 3) := dk_184 0 197 (dk_at dksX3_ofDie_0 6 rfl rfl)
theorem dX3_ofDie_9 : decode cX3_ofDie 9 = .ok (.ifCond .ne 7, 3) := dk_154 0 7 (dk_at dksX3_ofDie_0 9 rfl rfl)
theorem dX3_ofDie_12 : decode cX3_ofDie 12 = .ok (.iconst 1, 1) := dk_4 (dk_at dksX3_ofDie_0 12 rfl rfl)
theorem dX3_ofDie_13 : decode cX3_ofDie 13 = .ok (.goto 20, 3) := dk_167 0 20 (dk_at dksX3_ofDie_0 13 rfl rfl)
theorem dX3_ofDie_16 : decode cX3_ofDie 16 = .ok (.iload_n 2, 1) := dk_28 (dk_at dksX3_ofDie_0 16 rfl rfl)
theorem dX3_ofDie_17 : decode cX3_ofDie 17 = .ok (.i2l, 1) := dk_133 (dk_at dksX3_ofDie_0 17 rfl rfl)
theorem dX3_ofDie_18 : decode cX3_ofDie 18 = .ok (.lconst 0, 1) := dk_9 (dk_at dksX3_ofDie_0 18 rfl rfl)
theorem dX3_ofDie_19 : decode cX3_ofDie 19 = .ok (.ldc2_w 53, 3) := dk_20 0 53 (dk_at dksX3_ofDie_0 19 rfl rfl)
theorem dX3_ofDie_22 : decode cX3_ofDie 22 = .ok (.invokestatic 49, 3) := dk_184 0 49 (dk_at dksX3_ofDie_1 0 rfl rfl)
theorem dX3_ofDie_25 : decode cX3_ofDie 25 = .ok (.ifCond .ne 7, 3) := dk_154 0 7 (dk_at dksX3_ofDie_1 3 rfl rfl)
theorem dX3_ofDie_28 : decode cX3_ofDie 28 = .ok (.iconst 2, 1) := dk_5 (dk_at dksX3_ofDie_1 6 rfl rfl)
theorem dX3_ofDie_29 : decode cX3_ofDie 29 = .ok (.goto 4, 3) := dk_167 0 4 (dk_at dksX3_ofDie_1 7 rfl rfl)
theorem dX3_ofDie_32 : decode cX3_ofDie 32 = .ok (.iconst 0, 1) := dk_3 (dk_at dksX3_ofDie_1 10 rfl rfl)
theorem dX3_ofDie_33 : decode cX3_ofDie 33 = .ok (.invokevirtual 150, 3) := dk_182 0 150 (dk_at dksX3_ofDie_1 11 rfl rfl)
theorem dX3_ofDie_36 : decode cX3_ofDie 36 = .ok (.ifCond .eq 5, 3) := dk_153 0 5 (dk_at dksX3_ofDie_1 14 rfl rfl)
theorem dX3_ofDie_39 : decode cX3_ofDie 39 = .ok (.iconst 0, 1) := dk_3 (dk_at dksX3_ofDie_1 17 rfl rfl)
theorem dX3_ofDie_40 : decode cX3_ofDie 40 = .ok (.ireturn, 1) := dk_172 (dk_at dksX3_ofDie_1 18 rfl rfl)
theorem dX3_ofDie_41 : decode cX3_ofDie 41 = .ok (.iload_n 2, 1) := dk_28 (dk_at dksX3_ofDie_1 19 rfl rfl)
theorem dX3_ofDie_42 : decode cX3_ofDie 42 = .ok (.tableswitch 70 0 3 #[30, 40, 50, 60], 30) := by decide +kernel
theorem dX3_ofDie_72 : decode cX3_ofDie 72 = .ok (.aload_n 0, 1) := dk_42 (dk_at dksX3_ofDie_3 0 rfl rfl)
theorem dX3_ofDie_73 : decode cX3_ofDie 73 = .ok (.getfield 7, 3) := dk_180 0 7 (dk_at dksX3_ofDie_3 1 rfl rfl)
theorem dX3_ofDie_76 : decode cX3_ofDie 76 = .ok (.bipush 25, 2) := dk_16 25 (dk_at dksX3_ofDie_3 4 rfl rfl)
theorem dX3_ofDie_78 : decode cX3_ofDie 78 = .ok (.iload_n 1, 1) := dk_27 (dk_at dksX3_ofDie_3 6 rfl rfl)
theorem dX3_ofDie_79 : decode cX3_ofDie 79 = .ok (.iadd, 1) := dk_96 (dk_at dksX3_ofDie_3 7 rfl rfl)
theorem dX3_ofDie_80 : decode cX3_ofDie 80 = .ok (.iaload, 1) := dk_46 (dk_at dksX3_ofDie_3 8 rfl rfl)
theorem dX3_ofDie_81 : decode cX3_ofDie 81 = .ok (.ireturn, 1) := dk_172 (dk_at dksX3_ofDie_3 9 rfl rfl)
theorem dX3_ofDie_82 : decode cX3_ofDie 82 = .ok (.aload_n 0, 1) := dk_42 (dk_at dksX3_ofDie_3 10 rfl rfl)
theorem dX3_ofDie_83 : decode cX3_ofDie 83 = .ok (.getfield 7, 3) := dk_180 0 7 (dk_at dksX3_ofDie_3 11 rfl rfl)
theorem dX3_ofDie_86 : decode cX3_ofDie 86 = .ok (.bipush 35, 2) := dk_16 35 (dk_at dksX3_ofDie_3 14 rfl rfl)
theorem dX3_ofDie_88 : decode cX3_ofDie 88 = .ok (.iload_n 1, 1) := dk_27 (dk_at dksX3_ofDie_3 16 rfl rfl)
theorem dX3_ofDie_89 : decode cX3_ofDie 89 = .ok (.iadd, 1) := dk_96 (dk_at dksX3_ofDie_3 17 rfl rfl)
theorem dX3_ofDie_90 : decode cX3_ofDie 90 = .ok (.iaload, 1) := dk_46 (dk_at dksX3_ofDie_3 18 rfl rfl)
theorem dX3_ofDie_91 : decode cX3_ofDie 91 = .ok (.ireturn, 1) := dk_172 (dk_at dksX3_ofDie_3 19 rfl rfl)
theorem dX3_ofDie_92 : decode cX3_ofDie 92 = .ok (.aload_n 0, 1) := dk_42 (dk_at dksX3_ofDie_3 20 rfl rfl)
theorem dX3_ofDie_93 : decode cX3_ofDie 93 = .ok (.getfield 7, 3) := dk_180 0 7 (dk_at dksX3_ofDie_3 21 rfl rfl)
theorem dX3_ofDie_96 : decode cX3_ofDie 96 = .ok (.bipush 45, 2) := dk_16 45 (dk_at dksX3_ofDie_4 0 rfl rfl)
theorem dX3_ofDie_98 : decode cX3_ofDie 98 = .ok (.iload_n 1, 1) := dk_27 (dk_at dksX3_ofDie_4 2 rfl rfl)
theorem dX3_ofDie_99 : decode cX3_ofDie 99 = .ok (.iadd, 1) := dk_96 (dk_at dksX3_ofDie_4 3 rfl rfl)
theorem dX3_ofDie_100 : decode cX3_ofDie 100 = .ok (.iaload, 1) := dk_46 (dk_at dksX3_ofDie_4 4 rfl rfl)
theorem dX3_ofDie_101 : decode cX3_ofDie 101 = .ok (.ireturn, 1) := dk_172 (dk_at dksX3_ofDie_4 5 rfl rfl)
theorem dX3_ofDie_102 : decode cX3_ofDie 102 = .ok (.aload_n 0, 1) := dk_42 (dk_at dksX3_ofDie_4 6 rfl rfl)
theorem dX3_ofDie_103 : decode cX3_ofDie 103 = .ok (.getfield 7, 3) := dk_180 0 7 (dk_at dksX3_ofDie_4 7 rfl rfl)
theorem dX3_ofDie_106 : decode cX3_ofDie 106 = .ok (.bipush 55, 2) := dk_16 55 (dk_at dksX3_ofDie_4 10 rfl rfl)
theorem dX3_ofDie_108 : decode cX3_ofDie 108 = .ok (.iload_n 1, 1) := dk_27 (dk_at dksX3_ofDie_4 12 rfl rfl)
theorem dX3_ofDie_109 : decode cX3_ofDie 109 = .ok (.iadd, 1) := dk_96 (dk_at dksX3_ofDie_4 13 rfl rfl)
theorem dX3_ofDie_110 : decode cX3_ofDie 110 = .ok (.iaload, 1) := dk_46 (dk_at dksX3_ofDie_4 14 rfl rfl)
theorem dX3_ofDie_111 : decode cX3_ofDie 111 = .ok (.ireturn, 1) := dk_172 (dk_at dksX3_ofDie_4 15 rfl rfl)
theorem dX3_ofDie_112 : decode cX3_ofDie 112 = .ok (.aload_n 0, 1) := dk_42 (dk_at dksX3_ofDie_4 16 rfl rfl)
theorem dX3_ofDie_113 : decode cX3_ofDie 113 = .ok (.iload_n 1, 1) := dk_27 (dk_at dksX3_ofDie_4 17 rfl rfl)
theorem dX3_ofDie_114 : decode cX3_ofDie 114 = .ok (.iload_n 2, 1) := dk_28 (dk_at dksX3_ofDie_4 18 rfl rfl)
theorem dX3_ofDie_115 : decode cX3_ofDie 115 = .ok (.iconst 5, 1) := dk_8 (dk_at dksX3_ofDie_4 19 rfl rfl)
theorem dX3_ofDie_116 : decode cX3_ofDie 116 = .ok (.if_icmp .ne 7, 3) := dk_160 0 7 (dk_at dksX3_ofDie_4 20 rfl rfl)
theorem dX3_ofDie_119 : decode cX3_ofDie 119 = .ok (.iconst 1, 1) := dk_4 (dk_at dksX3_ofDie_4 23 rfl rfl)
theorem dX3_ofDie_120 : decode cX3_ofDie 120 = .ok (.goto 4, 3) := dk_167 0 4 (dk_at dksX3_ofDie_5 0 rfl rfl)
theorem dX3_ofDie_123 : decode cX3_ofDie 123 = .ok (.iconst 0, 1) := dk_3 (dk_at dksX3_ofDie_5 3 rfl rfl)
theorem dX3_ofDie_124 : decode cX3_ofDie 124 = .ok (.invokevirtual 270, 3) := dk_182 1 14 (dk_at dksX3_ofDie_5 4 rfl rfl)
theorem dX3_ofDie_127 : decode cX3_ofDie 127 = .ok (.ireturn, 1) := dk_172 (dk_at dksX3_ofDie_5 7 rfl rfl)
abbrev cX3_sealsOf : ByteArray := prog_10_method_75_code
def yX3_sealsOf : MethodName := ⟨RX3, "sealsOf", "(IZ)I"⟩
def dkwX3_sealsOf_2 : List UInt8 := [158, 0, 7, 4, 167, 0, 4, 3, 96, 62, 132, 4, 1, 167, 255, 203, 29, 172]
abbrev dktX3_sealsOf_2 : List UInt8 := dkwX3_sealsOf_2 ++ []
def dkwX3_sealsOf_1 : List UInt8 := [21, 4, 96, 46, 27, 160, 0, 24, 28, 153, 0, 16, 42, 42, 180, 0, 7, 21, 4, 182, 0, 107]
abbrev dktX3_sealsOf_1 : List UInt8 := dkwX3_sealsOf_1 ++ dktX3_sealsOf_2
def dkwX3_sealsOf_0 : List UInt8 := [3, 62, 3, 54, 4, 21, 4, 42, 180, 0, 7, 5, 46, 162, 0, 48, 29, 42, 180, 0, 7, 16, 105]
abbrev dktX3_sealsOf_0 : List UInt8 := dkwX3_sealsOf_0 ++ dktX3_sealsOf_1
theorem dksX3_sealsOf_0 : cX3_sealsOf.data.toList.drop 0 = dktX3_sealsOf_0 := by decide +kernel
theorem dksX3_sealsOf_1 : cX3_sealsOf.data.toList.drop 23 = dktX3_sealsOf_1 := dk_seg dksX3_sealsOf_0 23 rfl rfl
theorem dksX3_sealsOf_2 : cX3_sealsOf.data.toList.drop 45 = dktX3_sealsOf_2 := dk_seg dksX3_sealsOf_1 22 rfl rfl
theorem dX3_sealsOf_0 : decode cX3_sealsOf 0 = .ok (.iconst 0, 1) := dk_3 (dk_at dksX3_sealsOf_0 0 rfl rfl)
theorem dX3_sealsOf_1 : decode cX3_sealsOf 1 = .ok (.istore_n 3, 1) := dk_62 (dk_at dksX3_sealsOf_0 1 rfl rfl)
theorem dX3_sealsOf_2 : decode cX3_sealsOf 2 = .ok (.iconst 0, 1) := dk_3 (dk_at dksX3_sealsOf_0 2 rfl rfl)
theorem dX3_sealsOf_3 : decode cX3_sealsOf 3 = .ok (.istore 4, 2) := dk_54 4 (dk_at dksX3_sealsOf_0 3 rfl rfl)
theorem dX3_sealsOf_5 : decode cX3_sealsOf 5 = .ok (.iload 4, 2) := dk_21 4 (dk_at dksX3_sealsOf_0 5 rfl rfl)
theorem dX3_sealsOf_7 : decode cX3_sealsOf 7 = .ok (.aload_n 0, 1) := dk_42 (dk_at dksX3_sealsOf_0 7 rfl rfl)
theorem dX3_sealsOf_8 : decode cX3_sealsOf 8 = .ok (.getfield 7, 3) := dk_180 0 7 (dk_at dksX3_sealsOf_0 8 rfl rfl)
theorem dX3_sealsOf_11 : decode cX3_sealsOf 11 = .ok (.iconst 2, 1) := dk_5 (dk_at dksX3_sealsOf_0 11 rfl rfl)
theorem dX3_sealsOf_12 : decode cX3_sealsOf 12 = .ok (.iaload, 1) := dk_46 (dk_at dksX3_sealsOf_0 12 rfl rfl)
theorem dX3_sealsOf_13 : decode cX3_sealsOf 13 = .ok (.if_icmp .ge 48, 3) := dk_162 0 48 (dk_at dksX3_sealsOf_0 13 rfl rfl)
theorem dX3_sealsOf_16 : decode cX3_sealsOf 16 = .ok (.iload_n 3, 1) := dk_29 (dk_at dksX3_sealsOf_0 16 rfl rfl)
theorem dX3_sealsOf_17 : decode cX3_sealsOf 17 = .ok (.aload_n 0, 1) := dk_42 (dk_at dksX3_sealsOf_0 17 rfl rfl)
theorem dX3_sealsOf_18 : decode cX3_sealsOf 18 = .ok (.getfield 7, 3) := dk_180 0 7 (dk_at dksX3_sealsOf_0 18 rfl rfl)
theorem dX3_sealsOf_21 : decode cX3_sealsOf 21 = .ok (.bipush 105, 2) := dk_16 105 (dk_at dksX3_sealsOf_0 21 rfl rfl)
theorem dX3_sealsOf_23 : decode cX3_sealsOf 23 = .ok (.iload 4, 2) := dk_21 4 (dk_at dksX3_sealsOf_1 0 rfl rfl)
theorem dX3_sealsOf_25 : decode cX3_sealsOf 25 = .ok (.iadd, 1) := dk_96 (dk_at dksX3_sealsOf_1 2 rfl rfl)
theorem dX3_sealsOf_26 : decode cX3_sealsOf 26 = .ok (.iaload, 1) := dk_46 (dk_at dksX3_sealsOf_1 3 rfl rfl)
theorem dX3_sealsOf_27 : decode cX3_sealsOf 27 = .ok (.iload_n 1, 1) := dk_27 (dk_at dksX3_sealsOf_1 4 rfl rfl)
theorem dX3_sealsOf_28 : decode cX3_sealsOf 28 = .ok (.if_icmp .ne 24, 3) := dk_160 0 24 (dk_at dksX3_sealsOf_1 5 rfl rfl)
theorem dX3_sealsOf_31 : decode cX3_sealsOf 31 = .ok (.iload_n 2, 1) := dk_28 (dk_at dksX3_sealsOf_1 8 rfl rfl)
theorem dX3_sealsOf_32 : decode cX3_sealsOf 32 = .ok (.ifCond .eq 16, 3) := dk_153 0 16 (dk_at dksX3_sealsOf_1 9 rfl rfl)
theorem dX3_sealsOf_35 : decode cX3_sealsOf 35 = .ok (.aload_n 0, 1) := dk_42 (dk_at dksX3_sealsOf_1 12 rfl rfl)
theorem dX3_sealsOf_36 : decode cX3_sealsOf 36 = .ok (.aload_n 0, 1) := dk_42 (dk_at dksX3_sealsOf_1 13 rfl rfl)
theorem dX3_sealsOf_37 : decode cX3_sealsOf 37 = .ok (.getfield 7, 3) := dk_180 0 7 (dk_at dksX3_sealsOf_1 14 rfl rfl)
theorem dX3_sealsOf_40 : decode cX3_sealsOf 40 = .ok (.iload 4, 2) := dk_21 4 (dk_at dksX3_sealsOf_1 17 rfl rfl)
theorem dX3_sealsOf_42 : decode cX3_sealsOf 42 = .ok (.invokevirtual 107, 3) := dk_182 0 107 (dk_at dksX3_sealsOf_1 19 rfl rfl)
theorem dX3_sealsOf_45 : decode cX3_sealsOf 45 = .ok (.ifCond .le 7, 3) := dk_158 0 7 (dk_at dksX3_sealsOf_2 0 rfl rfl)
theorem dX3_sealsOf_48 : decode cX3_sealsOf 48 = .ok (.iconst 1, 1) := dk_4 (dk_at dksX3_sealsOf_2 3 rfl rfl)
theorem dX3_sealsOf_49 : decode cX3_sealsOf 49 = .ok (.goto 4, 3) := dk_167 0 4 (dk_at dksX3_sealsOf_2 4 rfl rfl)
theorem dX3_sealsOf_52 : decode cX3_sealsOf 52 = .ok (.iconst 0, 1) := dk_3 (dk_at dksX3_sealsOf_2 7 rfl rfl)
theorem dX3_sealsOf_53 : decode cX3_sealsOf 53 = .ok (.iadd, 1) := dk_96 (dk_at dksX3_sealsOf_2 8 rfl rfl)
theorem dX3_sealsOf_54 : decode cX3_sealsOf 54 = .ok (.istore_n 3, 1) := dk_62 (dk_at dksX3_sealsOf_2 9 rfl rfl)
theorem dX3_sealsOf_55 : decode cX3_sealsOf 55 = .ok (.iinc 4 1, 3) := dk_132 4 1 (dk_at dksX3_sealsOf_2 10 rfl rfl)
theorem dX3_sealsOf_58 : decode cX3_sealsOf 58 = .ok (.goto (-53), 3) := dk_167 255 203 (dk_at dksX3_sealsOf_2 13 rfl rfl)
theorem dX3_sealsOf_61 : decode cX3_sealsOf 61 = .ok (.iload_n 3, 1) := dk_29 (dk_at dksX3_sealsOf_2 16 rfl rfl)
theorem dX3_sealsOf_62 : decode cX3_sealsOf 62 = .ok (.ireturn, 1) := dk_172 (dk_at dksX3_sealsOf_2 17 rfl rfl)
abbrev cX3_crackYear : ByteArray := prog_10_method_77_code
def yX3_crackYear : MethodName := ⟨RX3, "crackYear", "(II)I"⟩
def dkwX3_crackYear_2 : List UInt8 := [180, 0, 7, 16, 65, 7, 27, 104, 96, 28, 96, 46, 172]
abbrev dktX3_crackYear_2 : List UInt8 := dkwX3_crackYear_2 ++ []
def dkwX3_crackYear_1 : List UInt8 := [4, 100, 133, 184, 0, 49, 153, 0, 7, 3, 167, 0, 4, 4, 182, 0, 150, 153, 0, 5, 3, 172, 42]
abbrev dktX3_crackYear_1 : List UInt8 := dkwX3_crackYear_1 ++ dktX3_crackYear_2
def dkwX3_crackYear_0 : List UInt8 := [42, 42, 180, 0, 7, 27, 184, 0, 197, 153, 0, 28, 28, 133, 9, 42, 180, 0, 7, 16, 55, 27, 96, 46]
abbrev dktX3_crackYear_0 : List UInt8 := dkwX3_crackYear_0 ++ dktX3_crackYear_1
theorem dksX3_crackYear_0 : cX3_crackYear.data.toList.drop 0 = dktX3_crackYear_0 := by decide +kernel
theorem dksX3_crackYear_1 : cX3_crackYear.data.toList.drop 24 = dktX3_crackYear_1 := dk_seg dksX3_crackYear_0 24 rfl rfl
theorem dksX3_crackYear_2 : cX3_crackYear.data.toList.drop 47 = dktX3_crackYear_2 := dk_seg dksX3_crackYear_1 23 rfl rfl
theorem dX3_crackYear_0 : decode cX3_crackYear 0 = .ok (.aload_n 0, 1) := dk_42 (dk_at dksX3_crackYear_0 0 rfl rfl)
theorem dX3_crackYear_1 : decode cX3_crackYear 1 = .ok (.aload_n 0, 1) := dk_42 (dk_at dksX3_crackYear_0 1 rfl rfl)
theorem dX3_crackYear_2 : decode cX3_crackYear 2 = .ok (.getfield 7, 3) := dk_180 0 7 (dk_at dksX3_crackYear_0 2 rfl rfl)
theorem dX3_crackYear_5 : decode cX3_crackYear 5 = .ok (.iload_n 1, 1) := dk_27 (dk_at dksX3_crackYear_0 5 rfl rfl)
theorem dX3_crackYear_6 : decode cX3_crackYear 6 = .ok (.invokestatic 197, 3) := dk_184 0 197 (dk_at dksX3_crackYear_0 6 rfl rfl)
theorem dX3_crackYear_9 : decode cX3_crackYear 9 = .ok (.ifCond .eq 28, 3) := dk_153 0 28 (dk_at dksX3_crackYear_0 9 rfl rfl)
theorem dX3_crackYear_12 : decode cX3_crackYear 12 = .ok (.iload_n 2, 1) := dk_28 (dk_at dksX3_crackYear_0 12 rfl rfl)
theorem dX3_crackYear_13 : decode cX3_crackYear 13 = .ok (.i2l, 1) := dk_133 (dk_at dksX3_crackYear_0 13 rfl rfl)
theorem dX3_crackYear_14 : decode cX3_crackYear 14 = .ok (.lconst 0, 1) := dk_9 (dk_at dksX3_crackYear_0 14 rfl rfl)
theorem dX3_crackYear_15 : decode cX3_crackYear 15 = .ok (.aload_n 0, 1) := dk_42 (dk_at dksX3_crackYear_0 15 rfl rfl)
theorem dX3_crackYear_16 : decode cX3_crackYear 16 = .ok (.getfield 7, 3) := dk_180 0 7 (dk_at dksX3_crackYear_0 16 rfl rfl)
theorem dX3_crackYear_19 : decode cX3_crackYear 19 = .ok (.bipush 55, 2) := dk_16 55 (dk_at dksX3_crackYear_0 19 rfl rfl)
theorem dX3_crackYear_21 : decode cX3_crackYear 21 = .ok (.iload_n 1, 1) := dk_27 (dk_at dksX3_crackYear_0 21 rfl rfl)
theorem dX3_crackYear_22 : decode cX3_crackYear 22 = .ok (.iadd, 1) := dk_96 (dk_at dksX3_crackYear_0 22 rfl rfl)
theorem dX3_crackYear_23 : decode cX3_crackYear 23 = .ok (.iaload, 1) := dk_46 (dk_at dksX3_crackYear_0 23 rfl rfl)
theorem dX3_crackYear_24 : decode cX3_crackYear 24 = .ok (.iconst 1, 1) := dk_4 (dk_at dksX3_crackYear_1 0 rfl rfl)
theorem dX3_crackYear_25 : decode cX3_crackYear 25 = .ok (.isub, 1) := dk_100 (dk_at dksX3_crackYear_1 1 rfl rfl)
theorem dX3_crackYear_26 : decode cX3_crackYear 26 = .ok (.i2l, 1) := dk_133 (dk_at dksX3_crackYear_1 2 rfl rfl)
theorem dX3_crackYear_27 : decode cX3_crackYear 27 = .ok (.invokestatic 49, 3) := dk_184 0 49 (dk_at dksX3_crackYear_1 3 rfl rfl)
theorem dX3_crackYear_30 : decode cX3_crackYear 30 = .ok (.ifCond .eq 7, 3) := dk_153 0 7 (dk_at dksX3_crackYear_1 6 rfl rfl)
theorem dX3_crackYear_33 : decode cX3_crackYear 33 = .ok (.iconst 0, 1) := dk_3 (dk_at dksX3_crackYear_1 9 rfl rfl)
theorem dX3_crackYear_34 : decode cX3_crackYear 34 = .ok (.goto 4, 3) := dk_167 0 4 (dk_at dksX3_crackYear_1 10 rfl rfl)
theorem dX3_crackYear_37 : decode cX3_crackYear 37 = .ok (.iconst 1, 1) := dk_4 (dk_at dksX3_crackYear_1 13 rfl rfl)
theorem dX3_crackYear_38 : decode cX3_crackYear 38 = .ok (.invokevirtual 150, 3) := dk_182 0 150 (dk_at dksX3_crackYear_1 14 rfl rfl)
theorem dX3_crackYear_41 : decode cX3_crackYear 41 = .ok (.ifCond .eq 5, 3) := dk_153 0 5 (dk_at dksX3_crackYear_1 17 rfl rfl)
theorem dX3_crackYear_44 : decode cX3_crackYear 44 = .ok (.iconst 0, 1) := dk_3 (dk_at dksX3_crackYear_1 20 rfl rfl)
theorem dX3_crackYear_45 : decode cX3_crackYear 45 = .ok (.ireturn, 1) := dk_172 (dk_at dksX3_crackYear_1 21 rfl rfl)
theorem dX3_crackYear_46 : decode cX3_crackYear 46 = .ok (.aload_n 0, 1) := dk_42 (dk_at dksX3_crackYear_1 22 rfl rfl)
theorem dX3_crackYear_47 : decode cX3_crackYear 47 = .ok (.getfield 7, 3) := dk_180 0 7 (dk_at dksX3_crackYear_2 0 rfl rfl)
theorem dX3_crackYear_50 : decode cX3_crackYear 50 = .ok (.bipush 65, 2) := dk_16 65 (dk_at dksX3_crackYear_2 3 rfl rfl)
theorem dX3_crackYear_52 : decode cX3_crackYear 52 = .ok (.iconst 4, 1) := dk_7 (dk_at dksX3_crackYear_2 5 rfl rfl)
theorem dX3_crackYear_53 : decode cX3_crackYear 53 = .ok (.iload_n 1, 1) := dk_27 (dk_at dksX3_crackYear_2 6 rfl rfl)
theorem dX3_crackYear_54 : decode cX3_crackYear 54 = .ok (.imul, 1) := dk_104 (dk_at dksX3_crackYear_2 7 rfl rfl)
theorem dX3_crackYear_55 : decode cX3_crackYear 55 = .ok (.iadd, 1) := dk_96 (dk_at dksX3_crackYear_2 8 rfl rfl)
theorem dX3_crackYear_56 : decode cX3_crackYear 56 = .ok (.iload_n 2, 1) := dk_28 (dk_at dksX3_crackYear_2 9 rfl rfl)
theorem dX3_crackYear_57 : decode cX3_crackYear 57 = .ok (.iadd, 1) := dk_96 (dk_at dksX3_crackYear_2 10 rfl rfl)
theorem dX3_crackYear_58 : decode cX3_crackYear 58 = .ok (.iaload, 1) := dk_46 (dk_at dksX3_crackYear_2 11 rfl rfl)
theorem dX3_crackYear_59 : decode cX3_crackYear 59 = .ok (.ireturn, 1) := dk_172 (dk_at dksX3_crackYear_2 12 rfl rfl)
abbrev cX3_ofSeal : ByteArray := prog_10_method_78_code
def yX3_ofSeal : MethodName := ⟨RX3, "ofSeal", "(II)I"⟩
def dkwX3_ofSeal_7 : List UInt8 := [2, 160, 0, 7, 2, 167, 0, 12, 42, 180, 0, 7, 27, 29, 184, 0, 110, 172]
abbrev dktX3_ofSeal_7 : List UInt8 := dkwX3_ofSeal_7 ++ []
def dkwX3_ofSeal_6 : List UInt8 := [180, 0, 7, 17, 0, 201, 27, 96, 46, 172, 42, 180, 0, 7, 17, 0, 225, 27, 96, 46, 172, 29, 172, 29]
abbrev dktX3_ofSeal_6 : List UInt8 := dkwX3_ofSeal_6 ++ dktX3_ofSeal_7
def dkwX3_ofSeal_5 : List UInt8 := [180, 0, 7, 17, 0, 153, 27, 96, 46, 172, 42, 180, 0, 7, 17, 0, 177, 27, 96, 46, 172, 42]
abbrev dktX3_ofSeal_5 : List UInt8 := dkwX3_ofSeal_5 ++ dktX3_ofSeal_6
def dkwX3_ofSeal_4 : List UInt8 := [42, 180, 0, 7, 16, 105, 27, 96, 46, 172, 42, 180, 0, 7, 17, 0, 129, 27, 96, 46, 172, 42]
abbrev dktX3_ofSeal_4 : List UInt8 := dkwX3_ofSeal_4 ++ dktX3_ofSeal_5
def dkwX3_ofSeal_3 : List UInt8 := [170, 0, 0, 0, 108, 0, 0, 0, 0, 0, 0, 0, 6, 0, 0, 0, 41, 0, 0, 0, 51, 0, 0, 0, 62, 0, 0, 0, 73, 0, 0, 0, 84, 0, 0, 0, 95, 0, 0, 0, 106]
abbrev dktX3_ofSeal_3 : List UInt8 := dkwX3_ofSeal_3 ++ dktX3_ofSeal_4
def dkwX3_ofSeal_2 : List UInt8 := [184, 0, 113, 62, 28]
abbrev dktX3_ofSeal_2 : List UInt8 := dkwX3_ofSeal_2 ++ dktX3_ofSeal_3
def dkwX3_ofSeal_1 : List UInt8 := [184, 0, 49, 154, 0, 7, 5, 167, 0, 4, 3, 182, 0, 150, 153, 0, 5, 3, 172, 42, 180, 0, 7, 27]
abbrev dktX3_ofSeal_1 : List UInt8 := dkwX3_ofSeal_1 ++ dktX3_ofSeal_2
def dkwX3_ofSeal_0 : List UInt8 := [42, 42, 180, 0, 7, 27, 184, 0, 214, 154, 0, 7, 4, 167, 0, 20, 28, 133, 9, 20, 0, 135]
abbrev dktX3_ofSeal_0 : List UInt8 := dkwX3_ofSeal_0 ++ dktX3_ofSeal_1
theorem dksX3_ofSeal_0 : cX3_ofSeal.data.toList.drop 0 = dktX3_ofSeal_0 := by decide +kernel
theorem dksX3_ofSeal_1 : cX3_ofSeal.data.toList.drop 22 = dktX3_ofSeal_1 := dk_seg dksX3_ofSeal_0 22 rfl rfl
theorem dksX3_ofSeal_2 : cX3_ofSeal.data.toList.drop 46 = dktX3_ofSeal_2 := dk_seg dksX3_ofSeal_1 24 rfl rfl
theorem dksX3_ofSeal_3 : cX3_ofSeal.data.toList.drop 51 = dktX3_ofSeal_3 := dk_seg dksX3_ofSeal_2 5 rfl rfl
theorem dksX3_ofSeal_4 : cX3_ofSeal.data.toList.drop 92 = dktX3_ofSeal_4 := dk_seg dksX3_ofSeal_3 41 rfl rfl
theorem dksX3_ofSeal_5 : cX3_ofSeal.data.toList.drop 114 = dktX3_ofSeal_5 := dk_seg dksX3_ofSeal_4 22 rfl rfl
theorem dksX3_ofSeal_6 : cX3_ofSeal.data.toList.drop 136 = dktX3_ofSeal_6 := dk_seg dksX3_ofSeal_5 22 rfl rfl
theorem dksX3_ofSeal_7 : cX3_ofSeal.data.toList.drop 160 = dktX3_ofSeal_7 := dk_seg dksX3_ofSeal_6 24 rfl rfl
theorem dX3_ofSeal_0 : decode cX3_ofSeal 0 = .ok (.aload_n 0, 1) := dk_42 (dk_at dksX3_ofSeal_0 0 rfl rfl)
theorem dX3_ofSeal_1 : decode cX3_ofSeal 1 = .ok (.aload_n 0, 1) := dk_42 (dk_at dksX3_ofSeal_0 1 rfl rfl)
theorem dX3_ofSeal_2 : decode cX3_ofSeal 2 = .ok (.getfield 7, 3) := dk_180 0 7 (dk_at dksX3_ofSeal_0 2 rfl rfl)
theorem dX3_ofSeal_5 : decode cX3_ofSeal 5 = .ok (.iload_n 1, 1) := dk_27 (dk_at dksX3_ofSeal_0 5 rfl rfl)
theorem dX3_ofSeal_6 : decode cX3_ofSeal 6 = .ok (.invokestatic 214, 3) := dk_184 0 214 (dk_at dksX3_ofSeal_0 6 rfl rfl)
theorem dX3_ofSeal_9 : decode cX3_ofSeal 9 = .ok (.ifCond .ne 7, 3) := dk_154 0 7 (dk_at dksX3_ofSeal_0 9 rfl rfl)
theorem dX3_ofSeal_12 : decode cX3_ofSeal 12 = .ok (.iconst 1, 1) := dk_4 (dk_at dksX3_ofSeal_0 12 rfl rfl)
theorem dX3_ofSeal_13 : decode cX3_ofSeal 13 = .ok (.goto 20, 3) := dk_167 0 20 (dk_at dksX3_ofSeal_0 13 rfl rfl)
theorem dX3_ofSeal_16 : decode cX3_ofSeal 16 = .ok (.iload_n 2, 1) := dk_28 (dk_at dksX3_ofSeal_0 16 rfl rfl)
theorem dX3_ofSeal_17 : decode cX3_ofSeal 17 = .ok (.i2l, 1) := dk_133 (dk_at dksX3_ofSeal_0 17 rfl rfl)
theorem dX3_ofSeal_18 : decode cX3_ofSeal 18 = .ok (.lconst 0, 1) := dk_9 (dk_at dksX3_ofSeal_0 18 rfl rfl)
theorem dX3_ofSeal_19 : decode cX3_ofSeal 19 = .ok (.ldc2_w 135, 3) := dk_20 0 135 (dk_at dksX3_ofSeal_0 19 rfl rfl)
theorem dX3_ofSeal_22 : decode cX3_ofSeal 22 = .ok (.invokestatic 49, 3) := dk_184 0 49 (dk_at dksX3_ofSeal_1 0 rfl rfl)
theorem dX3_ofSeal_25 : decode cX3_ofSeal 25 = .ok (.ifCond .ne 7, 3) := dk_154 0 7 (dk_at dksX3_ofSeal_1 3 rfl rfl)
theorem dX3_ofSeal_28 : decode cX3_ofSeal 28 = .ok (.iconst 2, 1) := dk_5 (dk_at dksX3_ofSeal_1 6 rfl rfl)
theorem dX3_ofSeal_29 : decode cX3_ofSeal 29 = .ok (.goto 4, 3) := dk_167 0 4 (dk_at dksX3_ofSeal_1 7 rfl rfl)
theorem dX3_ofSeal_32 : decode cX3_ofSeal 32 = .ok (.iconst 0, 1) := dk_3 (dk_at dksX3_ofSeal_1 10 rfl rfl)
theorem dX3_ofSeal_33 : decode cX3_ofSeal 33 = .ok (.invokevirtual 150, 3) := dk_182 0 150 (dk_at dksX3_ofSeal_1 11 rfl rfl)
theorem dX3_ofSeal_36 : decode cX3_ofSeal 36 = .ok (.ifCond .eq 5, 3) := dk_153 0 5 (dk_at dksX3_ofSeal_1 14 rfl rfl)
theorem dX3_ofSeal_39 : decode cX3_ofSeal 39 = .ok (.iconst 0, 1) := dk_3 (dk_at dksX3_ofSeal_1 17 rfl rfl)
theorem dX3_ofSeal_40 : decode cX3_ofSeal 40 = .ok (.ireturn, 1) := dk_172 (dk_at dksX3_ofSeal_1 18 rfl rfl)
theorem dX3_ofSeal_41 : decode cX3_ofSeal 41 = .ok (.aload_n 0, 1) := dk_42 (dk_at dksX3_ofSeal_1 19 rfl rfl)
theorem dX3_ofSeal_42 : decode cX3_ofSeal 42 = .ok (.getfield 7, 3) := dk_180 0 7 (dk_at dksX3_ofSeal_1 20 rfl rfl)
theorem dX3_ofSeal_45 : decode cX3_ofSeal 45 = .ok (.iload_n 1, 1) := dk_27 (dk_at dksX3_ofSeal_1 23 rfl rfl)
theorem dX3_ofSeal_46 : decode cX3_ofSeal 46 = .ok (.invokestatic 113, 3) := dk_184 0 113 (dk_at dksX3_ofSeal_2 0 rfl rfl)
theorem dX3_ofSeal_49 : decode cX3_ofSeal 49 = .ok (.istore_n 3, 1) := dk_62 (dk_at dksX3_ofSeal_2 3 rfl rfl)
theorem dX3_ofSeal_50 : decode cX3_ofSeal 50 = .ok (.iload_n 2, 1) := dk_28 (dk_at dksX3_ofSeal_2 4 rfl rfl)
theorem dX3_ofSeal_51 : decode cX3_ofSeal 51 = .ok (.tableswitch 108 0 6 #[41, 51, 62, 73, 84, 95, 106], 41) := by decide +kernel
theorem dX3_ofSeal_92 : decode cX3_ofSeal 92 = .ok (.aload_n 0, 1) := dk_42 (dk_at dksX3_ofSeal_4 0 rfl rfl)
theorem dX3_ofSeal_93 : decode cX3_ofSeal 93 = .ok (.getfield 7, 3) := dk_180 0 7 (dk_at dksX3_ofSeal_4 1 rfl rfl)
theorem dX3_ofSeal_96 : decode cX3_ofSeal 96 = .ok (.bipush 105, 2) := dk_16 105 (dk_at dksX3_ofSeal_4 4 rfl rfl)
theorem dX3_ofSeal_98 : decode cX3_ofSeal 98 = .ok (.iload_n 1, 1) := dk_27 (dk_at dksX3_ofSeal_4 6 rfl rfl)
theorem dX3_ofSeal_99 : decode cX3_ofSeal 99 = .ok (.iadd, 1) := dk_96 (dk_at dksX3_ofSeal_4 7 rfl rfl)
theorem dX3_ofSeal_100 : decode cX3_ofSeal 100 = .ok (.iaload, 1) := dk_46 (dk_at dksX3_ofSeal_4 8 rfl rfl)
theorem dX3_ofSeal_101 : decode cX3_ofSeal 101 = .ok (.ireturn, 1) := dk_172 (dk_at dksX3_ofSeal_4 9 rfl rfl)
theorem dX3_ofSeal_102 : decode cX3_ofSeal 102 = .ok (.aload_n 0, 1) := dk_42 (dk_at dksX3_ofSeal_4 10 rfl rfl)
theorem dX3_ofSeal_103 : decode cX3_ofSeal 103 = .ok (.getfield 7, 3) := dk_180 0 7 (dk_at dksX3_ofSeal_4 11 rfl rfl)
theorem dX3_ofSeal_106 : decode cX3_ofSeal 106 = .ok (.sipush 129, 3) := dk_17 0 129 (dk_at dksX3_ofSeal_4 14 rfl rfl)
theorem dX3_ofSeal_109 : decode cX3_ofSeal 109 = .ok (.iload_n 1, 1) := dk_27 (dk_at dksX3_ofSeal_4 17 rfl rfl)
theorem dX3_ofSeal_110 : decode cX3_ofSeal 110 = .ok (.iadd, 1) := dk_96 (dk_at dksX3_ofSeal_4 18 rfl rfl)
theorem dX3_ofSeal_111 : decode cX3_ofSeal 111 = .ok (.iaload, 1) := dk_46 (dk_at dksX3_ofSeal_4 19 rfl rfl)
theorem dX3_ofSeal_112 : decode cX3_ofSeal 112 = .ok (.ireturn, 1) := dk_172 (dk_at dksX3_ofSeal_4 20 rfl rfl)
theorem dX3_ofSeal_113 : decode cX3_ofSeal 113 = .ok (.aload_n 0, 1) := dk_42 (dk_at dksX3_ofSeal_4 21 rfl rfl)
theorem dX3_ofSeal_114 : decode cX3_ofSeal 114 = .ok (.getfield 7, 3) := dk_180 0 7 (dk_at dksX3_ofSeal_5 0 rfl rfl)
theorem dX3_ofSeal_117 : decode cX3_ofSeal 117 = .ok (.sipush 153, 3) := dk_17 0 153 (dk_at dksX3_ofSeal_5 3 rfl rfl)
theorem dX3_ofSeal_120 : decode cX3_ofSeal 120 = .ok (.iload_n 1, 1) := dk_27 (dk_at dksX3_ofSeal_5 6 rfl rfl)
theorem dX3_ofSeal_121 : decode cX3_ofSeal 121 = .ok (.iadd, 1) := dk_96 (dk_at dksX3_ofSeal_5 7 rfl rfl)
theorem dX3_ofSeal_122 : decode cX3_ofSeal 122 = .ok (.iaload, 1) := dk_46 (dk_at dksX3_ofSeal_5 8 rfl rfl)
theorem dX3_ofSeal_123 : decode cX3_ofSeal 123 = .ok (.ireturn, 1) := dk_172 (dk_at dksX3_ofSeal_5 9 rfl rfl)
theorem dX3_ofSeal_124 : decode cX3_ofSeal 124 = .ok (.aload_n 0, 1) := dk_42 (dk_at dksX3_ofSeal_5 10 rfl rfl)
theorem dX3_ofSeal_125 : decode cX3_ofSeal 125 = .ok (.getfield 7, 3) := dk_180 0 7 (dk_at dksX3_ofSeal_5 11 rfl rfl)
theorem dX3_ofSeal_128 : decode cX3_ofSeal 128 = .ok (.sipush 177, 3) := dk_17 0 177 (dk_at dksX3_ofSeal_5 14 rfl rfl)
theorem dX3_ofSeal_131 : decode cX3_ofSeal 131 = .ok (.iload_n 1, 1) := dk_27 (dk_at dksX3_ofSeal_5 17 rfl rfl)
theorem dX3_ofSeal_132 : decode cX3_ofSeal 132 = .ok (.iadd, 1) := dk_96 (dk_at dksX3_ofSeal_5 18 rfl rfl)
theorem dX3_ofSeal_133 : decode cX3_ofSeal 133 = .ok (.iaload, 1) := dk_46 (dk_at dksX3_ofSeal_5 19 rfl rfl)
theorem dX3_ofSeal_134 : decode cX3_ofSeal 134 = .ok (.ireturn, 1) := dk_172 (dk_at dksX3_ofSeal_5 20 rfl rfl)
theorem dX3_ofSeal_135 : decode cX3_ofSeal 135 = .ok (.aload_n 0, 1) := dk_42 (dk_at dksX3_ofSeal_5 21 rfl rfl)
theorem dX3_ofSeal_136 : decode cX3_ofSeal 136 = .ok (.getfield 7, 3) := dk_180 0 7 (dk_at dksX3_ofSeal_6 0 rfl rfl)
theorem dX3_ofSeal_139 : decode cX3_ofSeal 139 = .ok (.sipush 201, 3) := dk_17 0 201 (dk_at dksX3_ofSeal_6 3 rfl rfl)
theorem dX3_ofSeal_142 : decode cX3_ofSeal 142 = .ok (.iload_n 1, 1) := dk_27 (dk_at dksX3_ofSeal_6 6 rfl rfl)
theorem dX3_ofSeal_143 : decode cX3_ofSeal 143 = .ok (.iadd, 1) := dk_96 (dk_at dksX3_ofSeal_6 7 rfl rfl)
theorem dX3_ofSeal_144 : decode cX3_ofSeal 144 = .ok (.iaload, 1) := dk_46 (dk_at dksX3_ofSeal_6 8 rfl rfl)
theorem dX3_ofSeal_145 : decode cX3_ofSeal 145 = .ok (.ireturn, 1) := dk_172 (dk_at dksX3_ofSeal_6 9 rfl rfl)
theorem dX3_ofSeal_146 : decode cX3_ofSeal 146 = .ok (.aload_n 0, 1) := dk_42 (dk_at dksX3_ofSeal_6 10 rfl rfl)
theorem dX3_ofSeal_147 : decode cX3_ofSeal 147 = .ok (.getfield 7, 3) := dk_180 0 7 (dk_at dksX3_ofSeal_6 11 rfl rfl)
theorem dX3_ofSeal_150 : decode cX3_ofSeal 150 = .ok (.sipush 225, 3) := dk_17 0 225 (dk_at dksX3_ofSeal_6 14 rfl rfl)
theorem dX3_ofSeal_153 : decode cX3_ofSeal 153 = .ok (.iload_n 1, 1) := dk_27 (dk_at dksX3_ofSeal_6 17 rfl rfl)
theorem dX3_ofSeal_154 : decode cX3_ofSeal 154 = .ok (.iadd, 1) := dk_96 (dk_at dksX3_ofSeal_6 18 rfl rfl)
theorem dX3_ofSeal_155 : decode cX3_ofSeal 155 = .ok (.iaload, 1) := dk_46 (dk_at dksX3_ofSeal_6 19 rfl rfl)
theorem dX3_ofSeal_156 : decode cX3_ofSeal 156 = .ok (.ireturn, 1) := dk_172 (dk_at dksX3_ofSeal_6 20 rfl rfl)
theorem dX3_ofSeal_157 : decode cX3_ofSeal 157 = .ok (.iload_n 3, 1) := dk_29 (dk_at dksX3_ofSeal_6 21 rfl rfl)
theorem dX3_ofSeal_158 : decode cX3_ofSeal 158 = .ok (.ireturn, 1) := dk_172 (dk_at dksX3_ofSeal_6 22 rfl rfl)
theorem dX3_ofSeal_159 : decode cX3_ofSeal 159 = .ok (.iload_n 3, 1) := dk_29 (dk_at dksX3_ofSeal_6 23 rfl rfl)
theorem dX3_ofSeal_160 : decode cX3_ofSeal 160 = .ok (.iconst (-1), 1) := dk_2 (dk_at dksX3_ofSeal_7 0 rfl rfl)
theorem dX3_ofSeal_161 : decode cX3_ofSeal 161 = .ok (.if_icmp .ne 7, 3) := dk_160 0 7 (dk_at dksX3_ofSeal_7 1 rfl rfl)
theorem dX3_ofSeal_164 : decode cX3_ofSeal 164 = .ok (.iconst (-1), 1) := dk_2 (dk_at dksX3_ofSeal_7 4 rfl rfl)
theorem dX3_ofSeal_165 : decode cX3_ofSeal 165 = .ok (.goto 12, 3) := dk_167 0 12 (dk_at dksX3_ofSeal_7 5 rfl rfl)
theorem dX3_ofSeal_168 : decode cX3_ofSeal 168 = .ok (.aload_n 0, 1) := dk_42 (dk_at dksX3_ofSeal_7 8 rfl rfl)
theorem dX3_ofSeal_169 : decode cX3_ofSeal 169 = .ok (.getfield 7, 3) := dk_180 0 7 (dk_at dksX3_ofSeal_7 9 rfl rfl)
theorem dX3_ofSeal_172 : decode cX3_ofSeal 172 = .ok (.iload_n 1, 1) := dk_27 (dk_at dksX3_ofSeal_7 12 rfl rfl)
theorem dX3_ofSeal_173 : decode cX3_ofSeal 173 = .ok (.iload_n 3, 1) := dk_29 (dk_at dksX3_ofSeal_7 13 rfl rfl)
theorem dX3_ofSeal_174 : decode cX3_ofSeal 174 = .ok (.invokestatic 110, 3) := dk_184 0 110 (dk_at dksX3_ofSeal_7 14 rfl rfl)
theorem dX3_ofSeal_177 : decode cX3_ofSeal 177 = .ok (.ireturn, 1) := dk_172 (dk_at dksX3_ofSeal_7 17 rfl rfl)
abbrev cX3_dated : ByteArray := prog_10_method_79_code
def yX3_dated : MethodName := ⟨RX3, "dated", "(II)I"⟩
def dkwX3_dated_2 : List UInt8 := [42, 42, 180, 0, 7, 27, 182, 0, 107, 167, 0, 12, 42, 180, 0, 7, 27, 28, 184, 0, 80, 172]
abbrev dktX3_dated_2 : List UInt8 := dkwX3_dated_2 ++ []
def dkwX3_dated_1 : List UInt8 := [184, 0, 49, 154, 0, 7, 5, 167, 0, 4, 3, 182, 0, 150, 153, 0, 5, 3, 172, 28, 6, 160, 0, 15]
abbrev dktX3_dated_1 : List UInt8 := dkwX3_dated_1 ++ dktX3_dated_2
def dkwX3_dated_0 : List UInt8 := [42, 42, 180, 0, 7, 27, 184, 0, 214, 154, 0, 7, 4, 167, 0, 20, 28, 133, 9, 20, 1, 18]
abbrev dktX3_dated_0 : List UInt8 := dkwX3_dated_0 ++ dktX3_dated_1
theorem dksX3_dated_0 : cX3_dated.data.toList.drop 0 = dktX3_dated_0 := by decide +kernel
theorem dksX3_dated_1 : cX3_dated.data.toList.drop 22 = dktX3_dated_1 := dk_seg dksX3_dated_0 22 rfl rfl
theorem dksX3_dated_2 : cX3_dated.data.toList.drop 46 = dktX3_dated_2 := dk_seg dksX3_dated_1 24 rfl rfl
theorem dX3_dated_0 : decode cX3_dated 0 = .ok (.aload_n 0, 1) := dk_42 (dk_at dksX3_dated_0 0 rfl rfl)
theorem dX3_dated_1 : decode cX3_dated 1 = .ok (.aload_n 0, 1) := dk_42 (dk_at dksX3_dated_0 1 rfl rfl)
theorem dX3_dated_2 : decode cX3_dated 2 = .ok (.getfield 7, 3) := dk_180 0 7 (dk_at dksX3_dated_0 2 rfl rfl)
theorem dX3_dated_5 : decode cX3_dated 5 = .ok (.iload_n 1, 1) := dk_27 (dk_at dksX3_dated_0 5 rfl rfl)
theorem dX3_dated_6 : decode cX3_dated 6 = .ok (.invokestatic 214, 3) := dk_184 0 214 (dk_at dksX3_dated_0 6 rfl rfl)
theorem dX3_dated_9 : decode cX3_dated 9 = .ok (.ifCond .ne 7, 3) := dk_154 0 7 (dk_at dksX3_dated_0 9 rfl rfl)
theorem dX3_dated_12 : decode cX3_dated 12 = .ok (.iconst 1, 1) := dk_4 (dk_at dksX3_dated_0 12 rfl rfl)
theorem dX3_dated_13 : decode cX3_dated 13 = .ok (.goto 20, 3) := dk_167 0 20 (dk_at dksX3_dated_0 13 rfl rfl)
theorem dX3_dated_16 : decode cX3_dated 16 = .ok (.iload_n 2, 1) := dk_28 (dk_at dksX3_dated_0 16 rfl rfl)
theorem dX3_dated_17 : decode cX3_dated 17 = .ok (.i2l, 1) := dk_133 (dk_at dksX3_dated_0 17 rfl rfl)
theorem dX3_dated_18 : decode cX3_dated 18 = .ok (.lconst 0, 1) := dk_9 (dk_at dksX3_dated_0 18 rfl rfl)
theorem dX3_dated_19 : decode cX3_dated 19 = .ok (.ldc2_w 274, 3) := dk_20 1 18 (dk_at dksX3_dated_0 19 rfl rfl)
theorem dX3_dated_22 : decode cX3_dated 22 = .ok (.invokestatic 49, 3) := dk_184 0 49 (dk_at dksX3_dated_1 0 rfl rfl)
theorem dX3_dated_25 : decode cX3_dated 25 = .ok (.ifCond .ne 7, 3) := dk_154 0 7 (dk_at dksX3_dated_1 3 rfl rfl)
theorem dX3_dated_28 : decode cX3_dated 28 = .ok (.iconst 2, 1) := dk_5 (dk_at dksX3_dated_1 6 rfl rfl)
theorem dX3_dated_29 : decode cX3_dated 29 = .ok (.goto 4, 3) := dk_167 0 4 (dk_at dksX3_dated_1 7 rfl rfl)
theorem dX3_dated_32 : decode cX3_dated 32 = .ok (.iconst 0, 1) := dk_3 (dk_at dksX3_dated_1 10 rfl rfl)
theorem dX3_dated_33 : decode cX3_dated 33 = .ok (.invokevirtual 150, 3) := dk_182 0 150 (dk_at dksX3_dated_1 11 rfl rfl)
theorem dX3_dated_36 : decode cX3_dated 36 = .ok (.ifCond .eq 5, 3) := dk_153 0 5 (dk_at dksX3_dated_1 14 rfl rfl)
theorem dX3_dated_39 : decode cX3_dated 39 = .ok (.iconst 0, 1) := dk_3 (dk_at dksX3_dated_1 17 rfl rfl)
theorem dX3_dated_40 : decode cX3_dated 40 = .ok (.ireturn, 1) := dk_172 (dk_at dksX3_dated_1 18 rfl rfl)
theorem dX3_dated_41 : decode cX3_dated 41 = .ok (.iload_n 2, 1) := dk_28 (dk_at dksX3_dated_1 19 rfl rfl)
theorem dX3_dated_42 : decode cX3_dated 42 = .ok (.iconst 3, 1) := dk_6 (dk_at dksX3_dated_1 20 rfl rfl)
theorem dX3_dated_43 : decode cX3_dated 43 = .ok (.if_icmp .ne 15, 3) := dk_160 0 15 (dk_at dksX3_dated_1 21 rfl rfl)
theorem dX3_dated_46 : decode cX3_dated 46 = .ok (.aload_n 0, 1) := dk_42 (dk_at dksX3_dated_2 0 rfl rfl)
theorem dX3_dated_47 : decode cX3_dated 47 = .ok (.aload_n 0, 1) := dk_42 (dk_at dksX3_dated_2 1 rfl rfl)
theorem dX3_dated_48 : decode cX3_dated 48 = .ok (.getfield 7, 3) := dk_180 0 7 (dk_at dksX3_dated_2 2 rfl rfl)
theorem dX3_dated_51 : decode cX3_dated 51 = .ok (.iload_n 1, 1) := dk_27 (dk_at dksX3_dated_2 5 rfl rfl)
theorem dX3_dated_52 : decode cX3_dated 52 = .ok (.invokevirtual 107, 3) := dk_182 0 107 (dk_at dksX3_dated_2 6 rfl rfl)
theorem dX3_dated_55 : decode cX3_dated 55 = .ok (.goto 12, 3) := dk_167 0 12 (dk_at dksX3_dated_2 9 rfl rfl)
theorem dX3_dated_58 : decode cX3_dated 58 = .ok (.aload_n 0, 1) := dk_42 (dk_at dksX3_dated_2 12 rfl rfl)
theorem dX3_dated_59 : decode cX3_dated 59 = .ok (.getfield 7, 3) := dk_180 0 7 (dk_at dksX3_dated_2 13 rfl rfl)
theorem dX3_dated_62 : decode cX3_dated 62 = .ok (.iload_n 1, 1) := dk_27 (dk_at dksX3_dated_2 16 rfl rfl)
theorem dX3_dated_63 : decode cX3_dated 63 = .ok (.iload_n 2, 1) := dk_28 (dk_at dksX3_dated_2 17 rfl rfl)
theorem dX3_dated_64 : decode cX3_dated 64 = .ok (.invokestatic 80, 3) := dk_184 0 80 (dk_at dksX3_dated_2 18 rfl rfl)
theorem dX3_dated_67 : decode cX3_dated 67 = .ok (.ireturn, 1) := dk_172 (dk_at dksX3_dated_2 21 rfl rfl)
abbrev cX3_isPossible : ByteArray := prog_10_method_80_code
def yX3_isPossible : MethodName := ⟨RX3, "isPossible", "(II)Z"⟩
def dkwX3_isPossible_1 : List UInt8 := [167, 0, 4, 3, 182, 0, 150, 153, 0, 5, 3, 172, 42, 27, 28, 182, 1, 20, 172]
abbrev dktX3_isPossible_1 : List UInt8 := dkwX3_isPossible_1 ++ []
def dkwX3_isPossible_0 : List UInt8 := [42, 42, 180, 0, 7, 27, 184, 0, 214, 154, 0, 7, 4, 167, 0, 15, 28, 184, 0, 129, 154, 0, 7, 5]
abbrev dktX3_isPossible_0 : List UInt8 := dkwX3_isPossible_0 ++ dktX3_isPossible_1
theorem dksX3_isPossible_0 : cX3_isPossible.data.toList.drop 0 = dktX3_isPossible_0 := by decide +kernel
theorem dksX3_isPossible_1 : cX3_isPossible.data.toList.drop 24 = dktX3_isPossible_1 := dk_seg dksX3_isPossible_0 24 rfl rfl
theorem dX3_isPossible_0 : decode cX3_isPossible 0 = .ok (.aload_n 0, 1) := dk_42 (dk_at dksX3_isPossible_0 0 rfl rfl)
theorem dX3_isPossible_1 : decode cX3_isPossible 1 = .ok (.aload_n 0, 1) := dk_42 (dk_at dksX3_isPossible_0 1 rfl rfl)
theorem dX3_isPossible_2 : decode cX3_isPossible 2 = .ok (.getfield 7, 3) := dk_180 0 7 (dk_at dksX3_isPossible_0 2 rfl rfl)
theorem dX3_isPossible_5 : decode cX3_isPossible 5 = .ok (.iload_n 1, 1) := dk_27 (dk_at dksX3_isPossible_0 5 rfl rfl)
theorem dX3_isPossible_6 : decode cX3_isPossible 6 = .ok (.invokestatic 214, 3) := dk_184 0 214 (dk_at dksX3_isPossible_0 6 rfl rfl)
theorem dX3_isPossible_9 : decode cX3_isPossible 9 = .ok (.ifCond .ne 7, 3) := dk_154 0 7 (dk_at dksX3_isPossible_0 9 rfl rfl)
theorem dX3_isPossible_12 : decode cX3_isPossible 12 = .ok (.iconst 1, 1) := dk_4 (dk_at dksX3_isPossible_0 12 rfl rfl)
theorem dX3_isPossible_13 : decode cX3_isPossible 13 = .ok (.goto 15, 3) := dk_167 0 15 (dk_at dksX3_isPossible_0 13 rfl rfl)
theorem dX3_isPossible_16 : decode cX3_isPossible 16 = .ok (.iload_n 2, 1) := dk_28 (dk_at dksX3_isPossible_0 16 rfl rfl)
theorem dX3_isPossible_17 : decode cX3_isPossible 17 = .ok (.invokestatic 129, 3) := dk_184 0 129 (dk_at dksX3_isPossible_0 17 rfl rfl)
theorem dX3_isPossible_20 : decode cX3_isPossible 20 = .ok (.ifCond .ne 7, 3) := dk_154 0 7 (dk_at dksX3_isPossible_0 20 rfl rfl)
theorem dX3_isPossible_23 : decode cX3_isPossible 23 = .ok (.iconst 2, 1) := dk_5 (dk_at dksX3_isPossible_0 23 rfl rfl)
theorem dX3_isPossible_24 : decode cX3_isPossible 24 = .ok (.goto 4, 3) := dk_167 0 4 (dk_at dksX3_isPossible_1 0 rfl rfl)
theorem dX3_isPossible_27 : decode cX3_isPossible 27 = .ok (.iconst 0, 1) := dk_3 (dk_at dksX3_isPossible_1 3 rfl rfl)
theorem dX3_isPossible_28 : decode cX3_isPossible 28 = .ok (.invokevirtual 150, 3) := dk_182 0 150 (dk_at dksX3_isPossible_1 4 rfl rfl)
theorem dX3_isPossible_31 : decode cX3_isPossible 31 = .ok (.ifCond .eq 5, 3) := dk_153 0 5 (dk_at dksX3_isPossible_1 7 rfl rfl)
theorem dX3_isPossible_34 : decode cX3_isPossible 34 = .ok (.iconst 0, 1) := dk_3 (dk_at dksX3_isPossible_1 10 rfl rfl)
theorem dX3_isPossible_35 : decode cX3_isPossible 35 = .ok (.ireturn, 1) := dk_172 (dk_at dksX3_isPossible_1 11 rfl rfl)
theorem dX3_isPossible_36 : decode cX3_isPossible 36 = .ok (.aload_n 0, 1) := dk_42 (dk_at dksX3_isPossible_1 12 rfl rfl)
theorem dX3_isPossible_37 : decode cX3_isPossible 37 = .ok (.iload_n 1, 1) := dk_27 (dk_at dksX3_isPossible_1 13 rfl rfl)
theorem dX3_isPossible_38 : decode cX3_isPossible 38 = .ok (.iload_n 2, 1) := dk_28 (dk_at dksX3_isPossible_1 14 rfl rfl)
theorem dX3_isPossible_39 : decode cX3_isPossible 39 = .ok (.invokevirtual 276, 3) := dk_182 1 20 (dk_at dksX3_isPossible_1 15 rfl rfl)
theorem dX3_isPossible_42 : decode cX3_isPossible 42 = .ok (.ireturn, 1) := dk_172 (dk_at dksX3_isPossible_1 18 rfl rfl)
abbrev cX3_isYear : ByteArray := prog_10_method_9_code
def yX3_isYear : MethodName := ⟨RX3, "isYear", "(I)Z"⟩
def dkwX3_isYear_0 : List UInt8 := [26, 133, 20, 0, 45, 20, 0, 47, 184, 0, 49, 172]
abbrev dktX3_isYear_0 : List UInt8 := dkwX3_isYear_0 ++ []
theorem dksX3_isYear_0 : cX3_isYear.data.toList.drop 0 = dktX3_isYear_0 := by decide +kernel
theorem dX3_isYear_0 : decode cX3_isYear 0 = .ok (.iload_n 0, 1) := dk_26 (dk_at dksX3_isYear_0 0 rfl rfl)
theorem dX3_isYear_1 : decode cX3_isYear 1 = .ok (.i2l, 1) := dk_133 (dk_at dksX3_isYear_0 1 rfl rfl)
theorem dX3_isYear_2 : decode cX3_isYear 2 = .ok (.ldc2_w 45, 3) := dk_20 0 45 (dk_at dksX3_isYear_0 2 rfl rfl)
theorem dX3_isYear_5 : decode cX3_isYear 5 = .ok (.ldc2_w 47, 3) := dk_20 0 47 (dk_at dksX3_isYear_0 5 rfl rfl)
theorem dX3_isYear_8 : decode cX3_isYear 8 = .ok (.invokestatic 49, 3) := dk_184 0 49 (dk_at dksX3_isYear_0 8 rfl rfl)
theorem dX3_isYear_11 : decode cX3_isYear 11 = .ok (.ireturn, 1) := dk_172 (dk_at dksX3_isYear_0 11 rfl rfl)
abbrev cX3_can : ByteArray := prog_10_method_81_code
def yX3_can : MethodName := ⟨RX3, "can", "(II)Z"⟩
def dkwX3_can_2 : List UInt8 := [160, 0, 7, 4, 167, 0, 4, 3, 172]
abbrev dktX3_can_2 : List UInt8 := dkwX3_can_2 ++ []
def dkwX3_can_1 : List UInt8 := [153, 0, 29, 42, 180, 0, 7, 28, 28, 42, 180, 0, 7, 27, 184, 0, 69, 5, 184, 0, 72, 4]
abbrev dktX3_can_1 : List UInt8 := dkwX3_can_1 ++ dktX3_can_2
def dkwX3_can_0 : List UInt8 := [28, 133, 42, 180, 0, 7, 27, 184, 0, 63, 133, 42, 180, 0, 7, 27, 184, 0, 66, 133, 184, 0, 49]
abbrev dktX3_can_0 : List UInt8 := dkwX3_can_0 ++ dktX3_can_1
theorem dksX3_can_0 : cX3_can.data.toList.drop 0 = dktX3_can_0 := by decide +kernel
theorem dksX3_can_1 : cX3_can.data.toList.drop 23 = dktX3_can_1 := dk_seg dksX3_can_0 23 rfl rfl
theorem dksX3_can_2 : cX3_can.data.toList.drop 45 = dktX3_can_2 := dk_seg dksX3_can_1 22 rfl rfl
theorem dX3_can_0 : decode cX3_can 0 = .ok (.iload_n 2, 1) := dk_28 (dk_at dksX3_can_0 0 rfl rfl)
theorem dX3_can_1 : decode cX3_can 1 = .ok (.i2l, 1) := dk_133 (dk_at dksX3_can_0 1 rfl rfl)
theorem dX3_can_2 : decode cX3_can 2 = .ok (.aload_n 0, 1) := dk_42 (dk_at dksX3_can_0 2 rfl rfl)
theorem dX3_can_3 : decode cX3_can 3 = .ok (.getfield 7, 3) := dk_180 0 7 (dk_at dksX3_can_0 3 rfl rfl)
theorem dX3_can_6 : decode cX3_can 6 = .ok (.iload_n 1, 1) := dk_27 (dk_at dksX3_can_0 6 rfl rfl)
theorem dX3_can_7 : decode cX3_can 7 = .ok (.invokestatic 63, 3) := dk_184 0 63 (dk_at dksX3_can_0 7 rfl rfl)
theorem dX3_can_10 : decode cX3_can 10 = .ok (.i2l, 1) := dk_133 (dk_at dksX3_can_0 10 rfl rfl)
theorem dX3_can_11 : decode cX3_can 11 = .ok (.aload_n 0, 1) := dk_42 (dk_at dksX3_can_0 11 rfl rfl)
theorem dX3_can_12 : decode cX3_can 12 = .ok (.getfield 7, 3) := dk_180 0 7 (dk_at dksX3_can_0 12 rfl rfl)
theorem dX3_can_15 : decode cX3_can 15 = .ok (.iload_n 1, 1) := dk_27 (dk_at dksX3_can_0 15 rfl rfl)
theorem dX3_can_16 : decode cX3_can 16 = .ok (.invokestatic 66, 3) := dk_184 0 66 (dk_at dksX3_can_0 16 rfl rfl)
theorem dX3_can_19 : decode cX3_can 19 = .ok (.i2l, 1) := dk_133 (dk_at dksX3_can_0 19 rfl rfl)
theorem dX3_can_20 : decode cX3_can 20 = .ok (.invokestatic 49, 3) := dk_184 0 49 (dk_at dksX3_can_0 20 rfl rfl)
theorem dX3_can_23 : decode cX3_can 23 = .ok (.ifCond .eq 29, 3) := dk_153 0 29 (dk_at dksX3_can_1 0 rfl rfl)
theorem dX3_can_26 : decode cX3_can 26 = .ok (.aload_n 0, 1) := dk_42 (dk_at dksX3_can_1 3 rfl rfl)
theorem dX3_can_27 : decode cX3_can 27 = .ok (.getfield 7, 3) := dk_180 0 7 (dk_at dksX3_can_1 4 rfl rfl)
theorem dX3_can_30 : decode cX3_can 30 = .ok (.iload_n 2, 1) := dk_28 (dk_at dksX3_can_1 7 rfl rfl)
theorem dX3_can_31 : decode cX3_can 31 = .ok (.iload_n 2, 1) := dk_28 (dk_at dksX3_can_1 8 rfl rfl)
theorem dX3_can_32 : decode cX3_can 32 = .ok (.aload_n 0, 1) := dk_42 (dk_at dksX3_can_1 9 rfl rfl)
theorem dX3_can_33 : decode cX3_can 33 = .ok (.getfield 7, 3) := dk_180 0 7 (dk_at dksX3_can_1 10 rfl rfl)
theorem dX3_can_36 : decode cX3_can 36 = .ok (.iload_n 1, 1) := dk_27 (dk_at dksX3_can_1 13 rfl rfl)
theorem dX3_can_37 : decode cX3_can 37 = .ok (.invokestatic 69, 3) := dk_184 0 69 (dk_at dksX3_can_1 14 rfl rfl)
theorem dX3_can_40 : decode cX3_can 40 = .ok (.iconst 2, 1) := dk_5 (dk_at dksX3_can_1 17 rfl rfl)
theorem dX3_can_41 : decode cX3_can 41 = .ok (.invokestatic 72, 3) := dk_184 0 72 (dk_at dksX3_can_1 18 rfl rfl)
theorem dX3_can_44 : decode cX3_can 44 = .ok (.iconst 1, 1) := dk_4 (dk_at dksX3_can_1 21 rfl rfl)
theorem dX3_can_45 : decode cX3_can 45 = .ok (.if_icmp .ne 7, 3) := dk_160 0 7 (dk_at dksX3_can_2 0 rfl rfl)
theorem dX3_can_48 : decode cX3_can 48 = .ok (.iconst 1, 1) := dk_4 (dk_at dksX3_can_2 3 rfl rfl)
theorem dX3_can_49 : decode cX3_can 49 = .ok (.goto 4, 3) := dk_167 0 4 (dk_at dksX3_can_2 4 rfl rfl)
theorem dX3_can_52 : decode cX3_can 52 = .ok (.iconst 0, 1) := dk_3 (dk_at dksX3_can_2 7 rfl rfl)
theorem dX3_can_53 : decode cX3_can 53 = .ok (.ireturn, 1) := dk_172 (dk_at dksX3_can_2 8 rfl rfl)
abbrev cX3_charter : ByteArray := prog_10_method_82_code
def yX3_charter : MethodName := ⟨RX3, "charter", "(II)I"⟩
def dkwX3_charter_3 : List UInt8 := [27, 2, 28, 4, 100, 182, 0, 103, 172]
abbrev dktX3_charter_3 : List UInt8 := dkwX3_charter_3 ++ []
def dkwX3_charter_2 : List UInt8 := [184, 0, 139, 167, 0, 29, 28, 7, 160, 0, 11, 42, 27, 182, 0, 246, 167, 0, 16, 42, 42, 180, 0, 7]
abbrev dktX3_charter_2 : List UInt8 := dkwX3_charter_2 ++ dktX3_charter_3
def dkwX3_charter_1 : List UInt8 := [5, 167, 0, 4, 3, 182, 0, 150, 153, 0, 5, 3, 172, 28, 154, 0, 14, 42, 180, 0, 7, 27]
abbrev dktX3_charter_1 : List UInt8 := dkwX3_charter_1 ++ dktX3_charter_2
def dkwX3_charter_0 : List UInt8 := [42, 27, 184, 1, 23, 154, 0, 7, 4, 167, 0, 20, 28, 133, 9, 20, 1, 26, 184, 0, 49, 154, 0, 7]
abbrev dktX3_charter_0 : List UInt8 := dkwX3_charter_0 ++ dktX3_charter_1
theorem dksX3_charter_0 : cX3_charter.data.toList.drop 0 = dktX3_charter_0 := by decide +kernel
theorem dksX3_charter_1 : cX3_charter.data.toList.drop 24 = dktX3_charter_1 := dk_seg dksX3_charter_0 24 rfl rfl
theorem dksX3_charter_2 : cX3_charter.data.toList.drop 46 = dktX3_charter_2 := dk_seg dksX3_charter_1 22 rfl rfl
theorem dksX3_charter_3 : cX3_charter.data.toList.drop 70 = dktX3_charter_3 := dk_seg dksX3_charter_2 24 rfl rfl
theorem dX3_charter_0 : decode cX3_charter 0 = .ok (.aload_n 0, 1) := dk_42 (dk_at dksX3_charter_0 0 rfl rfl)
theorem dX3_charter_1 : decode cX3_charter 1 = .ok (.iload_n 1, 1) := dk_27 (dk_at dksX3_charter_0 1 rfl rfl)
theorem dX3_charter_2 : decode cX3_charter 2 = .ok (.invokestatic 279, 3) := dk_184 1 23 (dk_at dksX3_charter_0 2 rfl rfl)
theorem dX3_charter_5 : decode cX3_charter 5 = .ok (.ifCond .ne 7, 3) := dk_154 0 7 (dk_at dksX3_charter_0 5 rfl rfl)
theorem dX3_charter_8 : decode cX3_charter 8 = .ok (.iconst 1, 1) := dk_4 (dk_at dksX3_charter_0 8 rfl rfl)
theorem dX3_charter_9 : decode cX3_charter 9 = .ok (.goto 20, 3) := dk_167 0 20 (dk_at dksX3_charter_0 9 rfl rfl)
theorem dX3_charter_12 : decode cX3_charter 12 = .ok (.iload_n 2, 1) := dk_28 (dk_at dksX3_charter_0 12 rfl rfl)
theorem dX3_charter_13 : decode cX3_charter 13 = .ok (.i2l, 1) := dk_133 (dk_at dksX3_charter_0 13 rfl rfl)
theorem dX3_charter_14 : decode cX3_charter 14 = .ok (.lconst 0, 1) := dk_9 (dk_at dksX3_charter_0 14 rfl rfl)
theorem dX3_charter_15 : decode cX3_charter 15 = .ok (.ldc2_w 282, 3) := dk_20 1 26 (dk_at dksX3_charter_0 15 rfl rfl)
theorem dX3_charter_18 : decode cX3_charter 18 = .ok (.invokestatic 49, 3) := dk_184 0 49 (dk_at dksX3_charter_0 18 rfl rfl)
theorem dX3_charter_21 : decode cX3_charter 21 = .ok (.ifCond .ne 7, 3) := dk_154 0 7 (dk_at dksX3_charter_0 21 rfl rfl)
theorem dX3_charter_24 : decode cX3_charter 24 = .ok (.iconst 2, 1) := dk_5 (dk_at dksX3_charter_1 0 rfl rfl)
theorem dX3_charter_25 : decode cX3_charter 25 = .ok (.goto 4, 3) := dk_167 0 4 (dk_at dksX3_charter_1 1 rfl rfl)
theorem dX3_charter_28 : decode cX3_charter 28 = .ok (.iconst 0, 1) := dk_3 (dk_at dksX3_charter_1 4 rfl rfl)
theorem dX3_charter_29 : decode cX3_charter 29 = .ok (.invokevirtual 150, 3) := dk_182 0 150 (dk_at dksX3_charter_1 5 rfl rfl)
theorem dX3_charter_32 : decode cX3_charter 32 = .ok (.ifCond .eq 5, 3) := dk_153 0 5 (dk_at dksX3_charter_1 8 rfl rfl)
theorem dX3_charter_35 : decode cX3_charter 35 = .ok (.iconst 0, 1) := dk_3 (dk_at dksX3_charter_1 11 rfl rfl)
theorem dX3_charter_36 : decode cX3_charter 36 = .ok (.ireturn, 1) := dk_172 (dk_at dksX3_charter_1 12 rfl rfl)
theorem dX3_charter_37 : decode cX3_charter 37 = .ok (.iload_n 2, 1) := dk_28 (dk_at dksX3_charter_1 13 rfl rfl)
theorem dX3_charter_38 : decode cX3_charter 38 = .ok (.ifCond .ne 14, 3) := dk_154 0 14 (dk_at dksX3_charter_1 14 rfl rfl)
theorem dX3_charter_41 : decode cX3_charter 41 = .ok (.aload_n 0, 1) := dk_42 (dk_at dksX3_charter_1 17 rfl rfl)
theorem dX3_charter_42 : decode cX3_charter 42 = .ok (.getfield 7, 3) := dk_180 0 7 (dk_at dksX3_charter_1 18 rfl rfl)
theorem dX3_charter_45 : decode cX3_charter 45 = .ok (.iload_n 1, 1) := dk_27 (dk_at dksX3_charter_1 21 rfl rfl)
theorem dX3_charter_46 : decode cX3_charter 46 = .ok (.invokestatic 139, 3) := dk_184 0 139 (dk_at dksX3_charter_2 0 rfl rfl)
theorem dX3_charter_49 : decode cX3_charter 49 = .ok (.goto 29, 3) := dk_167 0 29 (dk_at dksX3_charter_2 3 rfl rfl)
theorem dX3_charter_52 : decode cX3_charter 52 = .ok (.iload_n 2, 1) := dk_28 (dk_at dksX3_charter_2 6 rfl rfl)
theorem dX3_charter_53 : decode cX3_charter 53 = .ok (.iconst 4, 1) := dk_7 (dk_at dksX3_charter_2 7 rfl rfl)
theorem dX3_charter_54 : decode cX3_charter 54 = .ok (.if_icmp .ne 11, 3) := dk_160 0 11 (dk_at dksX3_charter_2 8 rfl rfl)
theorem dX3_charter_57 : decode cX3_charter 57 = .ok (.aload_n 0, 1) := dk_42 (dk_at dksX3_charter_2 11 rfl rfl)
theorem dX3_charter_58 : decode cX3_charter 58 = .ok (.iload_n 1, 1) := dk_27 (dk_at dksX3_charter_2 12 rfl rfl)
theorem dX3_charter_59 : decode cX3_charter 59 = .ok (.invokevirtual 246, 3) := dk_182 0 246 (dk_at dksX3_charter_2 13 rfl rfl)
theorem dX3_charter_62 : decode cX3_charter 62 = .ok (.goto 16, 3) := dk_167 0 16 (dk_at dksX3_charter_2 16 rfl rfl)
theorem dX3_charter_65 : decode cX3_charter 65 = .ok (.aload_n 0, 1) := dk_42 (dk_at dksX3_charter_2 19 rfl rfl)
theorem dX3_charter_66 : decode cX3_charter 66 = .ok (.aload_n 0, 1) := dk_42 (dk_at dksX3_charter_2 20 rfl rfl)
theorem dX3_charter_67 : decode cX3_charter 67 = .ok (.getfield 7, 3) := dk_180 0 7 (dk_at dksX3_charter_2 21 rfl rfl)
theorem dX3_charter_70 : decode cX3_charter 70 = .ok (.iload_n 1, 1) := dk_27 (dk_at dksX3_charter_3 0 rfl rfl)
theorem dX3_charter_71 : decode cX3_charter 71 = .ok (.iconst (-1), 1) := dk_2 (dk_at dksX3_charter_3 1 rfl rfl)
theorem dX3_charter_72 : decode cX3_charter 72 = .ok (.iload_n 2, 1) := dk_28 (dk_at dksX3_charter_3 2 rfl rfl)
theorem dX3_charter_73 : decode cX3_charter 73 = .ok (.iconst 1, 1) := dk_4 (dk_at dksX3_charter_3 3 rfl rfl)
theorem dX3_charter_74 : decode cX3_charter 74 = .ok (.isub, 1) := dk_100 (dk_at dksX3_charter_3 4 rfl rfl)
theorem dX3_charter_75 : decode cX3_charter 75 = .ok (.invokevirtual 103, 3) := dk_182 0 103 (dk_at dksX3_charter_3 5 rfl rfl)
theorem dX3_charter_78 : decode cX3_charter 78 = .ok (.ireturn, 1) := dk_172 (dk_at dksX3_charter_3 8 rfl rfl)
abbrev cX3_isCharter : ByteArray := prog_10_method_13_code
def yX3_isCharter : MethodName := ⟨RX3, "isCharter", "(I)Z"⟩
def dkwX3_isCharter_0 : List UInt8 := [26, 133, 9, 20, 0, 53, 184, 0, 49, 172]
abbrev dktX3_isCharter_0 : List UInt8 := dkwX3_isCharter_0 ++ []
theorem dksX3_isCharter_0 : cX3_isCharter.data.toList.drop 0 = dktX3_isCharter_0 := by decide +kernel
theorem dX3_isCharter_0 : decode cX3_isCharter 0 = .ok (.iload_n 0, 1) := dk_26 (dk_at dksX3_isCharter_0 0 rfl rfl)
theorem dX3_isCharter_1 : decode cX3_isCharter 1 = .ok (.i2l, 1) := dk_133 (dk_at dksX3_isCharter_0 1 rfl rfl)
theorem dX3_isCharter_2 : decode cX3_isCharter 2 = .ok (.lconst 0, 1) := dk_9 (dk_at dksX3_isCharter_0 2 rfl rfl)
theorem dX3_isCharter_3 : decode cX3_isCharter 3 = .ok (.ldc2_w 53, 3) := dk_20 0 53 (dk_at dksX3_isCharter_0 3 rfl rfl)
theorem dX3_isCharter_6 : decode cX3_isCharter 6 = .ok (.invokestatic 49, 3) := dk_184 0 49 (dk_at dksX3_isCharter_0 6 rfl rfl)
theorem dX3_isCharter_9 : decode cX3_isCharter 9 = .ok (.ireturn, 1) := dk_172 (dk_at dksX3_isCharter_0 9 rfl rfl)
abbrev cX3_onShelf : ByteArray := prog_10_method_83_code
def yX3_onShelf : MethodName := ⟨RX3, "onShelf", "(II)I"⟩
def dkwX3_onShelf_2 : List UInt8 := [17, 0, 255, 16, 6, 27, 104, 96, 28, 96, 46, 167, 0, 4, 2, 172]
abbrev dktX3_onShelf_2 : List UInt8 := dkwX3_onShelf_2 ++ []
def dkwX3_onShelf_1 : List UInt8 := [153, 0, 5, 3, 172, 28, 42, 180, 0, 7, 17, 0, 249, 27, 96, 46, 162, 0, 21, 42, 180, 0, 7]
abbrev dktX3_onShelf_1 : List UInt8 := dkwX3_onShelf_1 ++ dktX3_onShelf_2
def dkwX3_onShelf_0 : List UInt8 := [42, 27, 184, 1, 28, 154, 0, 7, 4, 167, 0, 12, 28, 156, 0, 7, 5, 167, 0, 4, 3, 182, 0, 150]
abbrev dktX3_onShelf_0 : List UInt8 := dkwX3_onShelf_0 ++ dktX3_onShelf_1
theorem dksX3_onShelf_0 : cX3_onShelf.data.toList.drop 0 = dktX3_onShelf_0 := by decide +kernel
theorem dksX3_onShelf_1 : cX3_onShelf.data.toList.drop 24 = dktX3_onShelf_1 := dk_seg dksX3_onShelf_0 24 rfl rfl
theorem dksX3_onShelf_2 : cX3_onShelf.data.toList.drop 47 = dktX3_onShelf_2 := dk_seg dksX3_onShelf_1 23 rfl rfl
theorem dX3_onShelf_0 : decode cX3_onShelf 0 = .ok (.aload_n 0, 1) := dk_42 (dk_at dksX3_onShelf_0 0 rfl rfl)
theorem dX3_onShelf_1 : decode cX3_onShelf 1 = .ok (.iload_n 1, 1) := dk_27 (dk_at dksX3_onShelf_0 1 rfl rfl)
theorem dX3_onShelf_2 : decode cX3_onShelf 2 = .ok (.invokestatic 284, 3) := dk_184 1 28 (dk_at dksX3_onShelf_0 2 rfl rfl)
theorem dX3_onShelf_5 : decode cX3_onShelf 5 = .ok (.ifCond .ne 7, 3) := dk_154 0 7 (dk_at dksX3_onShelf_0 5 rfl rfl)
theorem dX3_onShelf_8 : decode cX3_onShelf 8 = .ok (.iconst 1, 1) := dk_4 (dk_at dksX3_onShelf_0 8 rfl rfl)
theorem dX3_onShelf_9 : decode cX3_onShelf 9 = .ok (.goto 12, 3) := dk_167 0 12 (dk_at dksX3_onShelf_0 9 rfl rfl)
theorem dX3_onShelf_12 : decode cX3_onShelf 12 = .ok (.iload_n 2, 1) := dk_28 (dk_at dksX3_onShelf_0 12 rfl rfl)
theorem dX3_onShelf_13 : decode cX3_onShelf 13 = .ok (.ifCond .ge 7, 3) := dk_156 0 7 (dk_at dksX3_onShelf_0 13 rfl rfl)
theorem dX3_onShelf_16 : decode cX3_onShelf 16 = .ok (.iconst 2, 1) := dk_5 (dk_at dksX3_onShelf_0 16 rfl rfl)
theorem dX3_onShelf_17 : decode cX3_onShelf 17 = .ok (.goto 4, 3) := dk_167 0 4 (dk_at dksX3_onShelf_0 17 rfl rfl)
theorem dX3_onShelf_20 : decode cX3_onShelf 20 = .ok (.iconst 0, 1) := dk_3 (dk_at dksX3_onShelf_0 20 rfl rfl)
theorem dX3_onShelf_21 : decode cX3_onShelf 21 = .ok (.invokevirtual 150, 3) := dk_182 0 150 (dk_at dksX3_onShelf_0 21 rfl rfl)
theorem dX3_onShelf_24 : decode cX3_onShelf 24 = .ok (.ifCond .eq 5, 3) := dk_153 0 5 (dk_at dksX3_onShelf_1 0 rfl rfl)
theorem dX3_onShelf_27 : decode cX3_onShelf 27 = .ok (.iconst 0, 1) := dk_3 (dk_at dksX3_onShelf_1 3 rfl rfl)
theorem dX3_onShelf_28 : decode cX3_onShelf 28 = .ok (.ireturn, 1) := dk_172 (dk_at dksX3_onShelf_1 4 rfl rfl)
theorem dX3_onShelf_29 : decode cX3_onShelf 29 = .ok (.iload_n 2, 1) := dk_28 (dk_at dksX3_onShelf_1 5 rfl rfl)
theorem dX3_onShelf_30 : decode cX3_onShelf 30 = .ok (.aload_n 0, 1) := dk_42 (dk_at dksX3_onShelf_1 6 rfl rfl)
theorem dX3_onShelf_31 : decode cX3_onShelf 31 = .ok (.getfield 7, 3) := dk_180 0 7 (dk_at dksX3_onShelf_1 7 rfl rfl)
theorem dX3_onShelf_34 : decode cX3_onShelf 34 = .ok (.sipush 249, 3) := dk_17 0 249 (dk_at dksX3_onShelf_1 10 rfl rfl)
theorem dX3_onShelf_37 : decode cX3_onShelf 37 = .ok (.iload_n 1, 1) := dk_27 (dk_at dksX3_onShelf_1 13 rfl rfl)
theorem dX3_onShelf_38 : decode cX3_onShelf 38 = .ok (.iadd, 1) := dk_96 (dk_at dksX3_onShelf_1 14 rfl rfl)
theorem dX3_onShelf_39 : decode cX3_onShelf 39 = .ok (.iaload, 1) := dk_46 (dk_at dksX3_onShelf_1 15 rfl rfl)
theorem dX3_onShelf_40 : decode cX3_onShelf 40 = .ok (.if_icmp .ge 21, 3) := dk_162 0 21 (dk_at dksX3_onShelf_1 16 rfl rfl)
theorem dX3_onShelf_43 : decode cX3_onShelf 43 = .ok (.aload_n 0, 1) := dk_42 (dk_at dksX3_onShelf_1 19 rfl rfl)
theorem dX3_onShelf_44 : decode cX3_onShelf 44 = .ok (.getfield 7, 3) := dk_180 0 7 (dk_at dksX3_onShelf_1 20 rfl rfl)
theorem dX3_onShelf_47 : decode cX3_onShelf 47 = .ok (.sipush 255, 3) := dk_17 0 255 (dk_at dksX3_onShelf_2 0 rfl rfl)
theorem dX3_onShelf_50 : decode cX3_onShelf 50 = .ok (.bipush 6, 2) := dk_16 6 (dk_at dksX3_onShelf_2 3 rfl rfl)
theorem dX3_onShelf_52 : decode cX3_onShelf 52 = .ok (.iload_n 1, 1) := dk_27 (dk_at dksX3_onShelf_2 5 rfl rfl)
theorem dX3_onShelf_53 : decode cX3_onShelf 53 = .ok (.imul, 1) := dk_104 (dk_at dksX3_onShelf_2 6 rfl rfl)
theorem dX3_onShelf_54 : decode cX3_onShelf 54 = .ok (.iadd, 1) := dk_96 (dk_at dksX3_onShelf_2 7 rfl rfl)
theorem dX3_onShelf_55 : decode cX3_onShelf 55 = .ok (.iload_n 2, 1) := dk_28 (dk_at dksX3_onShelf_2 8 rfl rfl)
theorem dX3_onShelf_56 : decode cX3_onShelf 56 = .ok (.iadd, 1) := dk_96 (dk_at dksX3_onShelf_2 9 rfl rfl)
theorem dX3_onShelf_57 : decode cX3_onShelf 57 = .ok (.iaload, 1) := dk_46 (dk_at dksX3_onShelf_2 10 rfl rfl)
theorem dX3_onShelf_58 : decode cX3_onShelf 58 = .ok (.goto 4, 3) := dk_167 0 4 (dk_at dksX3_onShelf_2 11 rfl rfl)
theorem dX3_onShelf_61 : decode cX3_onShelf 61 = .ok (.iconst (-1), 1) := dk_2 (dk_at dksX3_onShelf_2 14 rfl rfl)
theorem dX3_onShelf_62 : decode cX3_onShelf 62 = .ok (.ireturn, 1) := dk_172 (dk_at dksX3_onShelf_2 15 rfl rfl)
abbrev cX3_isShelf : ByteArray := prog_10_method_14_code
def yX3_isShelf : MethodName := ⟨RX3, "isShelf", "(I)Z"⟩
def dkwX3_isShelf_0 : List UInt8 := [26, 133, 9, 20, 0, 53, 184, 0, 49, 172]
abbrev dktX3_isShelf_0 : List UInt8 := dkwX3_isShelf_0 ++ []
theorem dksX3_isShelf_0 : cX3_isShelf.data.toList.drop 0 = dktX3_isShelf_0 := by decide +kernel
theorem dX3_isShelf_0 : decode cX3_isShelf 0 = .ok (.iload_n 0, 1) := dk_26 (dk_at dksX3_isShelf_0 0 rfl rfl)
theorem dX3_isShelf_1 : decode cX3_isShelf 1 = .ok (.i2l, 1) := dk_133 (dk_at dksX3_isShelf_0 1 rfl rfl)
theorem dX3_isShelf_2 : decode cX3_isShelf 2 = .ok (.lconst 0, 1) := dk_9 (dk_at dksX3_isShelf_0 2 rfl rfl)
theorem dX3_isShelf_3 : decode cX3_isShelf 3 = .ok (.ldc2_w 53, 3) := dk_20 0 53 (dk_at dksX3_isShelf_0 3 rfl rfl)
theorem dX3_isShelf_6 : decode cX3_isShelf 6 = .ok (.invokestatic 49, 3) := dk_184 0 49 (dk_at dksX3_isShelf_0 6 rfl rfl)
theorem dX3_isShelf_9 : decode cX3_isShelf 9 = .ok (.ireturn, 1) := dk_172 (dk_at dksX3_isShelf_0 9 rfl rfl)
abbrev cX3_reign : ByteArray := prog_10_method_84_code
def yX3_reign : MethodName := ⟨RX3, "reign", "(II)I"⟩
def dkwX3_reign_2 : List UInt8 := [42, 182, 1, 31, 42, 180, 0, 7, 27, 28, 184, 0, 188, 172]
abbrev dktX3_reign_2 : List UInt8 := dkwX3_reign_2 ++ []
def dkwX3_reign_1 : List UInt8 := [42, 180, 0, 7, 27, 184, 0, 181, 154, 0, 7, 5, 167, 0, 4, 3, 182, 0, 150, 153, 0, 5, 3, 172]
abbrev dktX3_reign_1 : List UInt8 := dkwX3_reign_1 ++ dktX3_reign_2
def dkwX3_reign_0 : List UInt8 := [42, 27, 184, 0, 129, 153, 0, 15, 28, 133, 10, 20, 0, 145, 184, 0, 49, 154, 0, 7, 4, 167, 0, 19]
abbrev dktX3_reign_0 : List UInt8 := dkwX3_reign_0 ++ dktX3_reign_1
theorem dksX3_reign_0 : cX3_reign.data.toList.drop 0 = dktX3_reign_0 := by decide +kernel
theorem dksX3_reign_1 : cX3_reign.data.toList.drop 24 = dktX3_reign_1 := dk_seg dksX3_reign_0 24 rfl rfl
theorem dksX3_reign_2 : cX3_reign.data.toList.drop 48 = dktX3_reign_2 := dk_seg dksX3_reign_1 24 rfl rfl
theorem dX3_reign_0 : decode cX3_reign 0 = .ok (.aload_n 0, 1) := dk_42 (dk_at dksX3_reign_0 0 rfl rfl)
theorem dX3_reign_1 : decode cX3_reign 1 = .ok (.iload_n 1, 1) := dk_27 (dk_at dksX3_reign_0 1 rfl rfl)
theorem dX3_reign_2 : decode cX3_reign 2 = .ok (.invokestatic 129, 3) := dk_184 0 129 (dk_at dksX3_reign_0 2 rfl rfl)
theorem dX3_reign_5 : decode cX3_reign 5 = .ok (.ifCond .eq 15, 3) := dk_153 0 15 (dk_at dksX3_reign_0 5 rfl rfl)
theorem dX3_reign_8 : decode cX3_reign 8 = .ok (.iload_n 2, 1) := dk_28 (dk_at dksX3_reign_0 8 rfl rfl)
theorem dX3_reign_9 : decode cX3_reign 9 = .ok (.i2l, 1) := dk_133 (dk_at dksX3_reign_0 9 rfl rfl)
theorem dX3_reign_10 : decode cX3_reign 10 = .ok (.lconst 1, 1) := dk_10 (dk_at dksX3_reign_0 10 rfl rfl)
theorem dX3_reign_11 : decode cX3_reign 11 = .ok (.ldc2_w 145, 3) := dk_20 0 145 (dk_at dksX3_reign_0 11 rfl rfl)
theorem dX3_reign_14 : decode cX3_reign 14 = .ok (.invokestatic 49, 3) := dk_184 0 49 (dk_at dksX3_reign_0 14 rfl rfl)
theorem dX3_reign_17 : decode cX3_reign 17 = .ok (.ifCond .ne 7, 3) := dk_154 0 7 (dk_at dksX3_reign_0 17 rfl rfl)
theorem dX3_reign_20 : decode cX3_reign 20 = .ok (.iconst 1, 1) := dk_4 (dk_at dksX3_reign_0 20 rfl rfl)
theorem dX3_reign_21 : decode cX3_reign 21 = .ok (.goto 19, 3) := dk_167 0 19 (dk_at dksX3_reign_0 21 rfl rfl)
theorem dX3_reign_24 : decode cX3_reign 24 = .ok (.aload_n 0, 1) := dk_42 (dk_at dksX3_reign_1 0 rfl rfl)
theorem dX3_reign_25 : decode cX3_reign 25 = .ok (.getfield 7, 3) := dk_180 0 7 (dk_at dksX3_reign_1 1 rfl rfl)
theorem dX3_reign_28 : decode cX3_reign 28 = .ok (.iload_n 1, 1) := dk_27 (dk_at dksX3_reign_1 4 rfl rfl)
theorem dX3_reign_29 : decode cX3_reign 29 = .ok (.invokestatic 181, 3) := dk_184 0 181 (dk_at dksX3_reign_1 5 rfl rfl)
theorem dX3_reign_32 : decode cX3_reign 32 = .ok (.ifCond .ne 7, 3) := dk_154 0 7 (dk_at dksX3_reign_1 8 rfl rfl)
theorem dX3_reign_35 : decode cX3_reign 35 = .ok (.iconst 2, 1) := dk_5 (dk_at dksX3_reign_1 11 rfl rfl)
theorem dX3_reign_36 : decode cX3_reign 36 = .ok (.goto 4, 3) := dk_167 0 4 (dk_at dksX3_reign_1 12 rfl rfl)
theorem dX3_reign_39 : decode cX3_reign 39 = .ok (.iconst 0, 1) := dk_3 (dk_at dksX3_reign_1 15 rfl rfl)
theorem dX3_reign_40 : decode cX3_reign 40 = .ok (.invokevirtual 150, 3) := dk_182 0 150 (dk_at dksX3_reign_1 16 rfl rfl)
theorem dX3_reign_43 : decode cX3_reign 43 = .ok (.ifCond .eq 5, 3) := dk_153 0 5 (dk_at dksX3_reign_1 19 rfl rfl)
theorem dX3_reign_46 : decode cX3_reign 46 = .ok (.iconst 0, 1) := dk_3 (dk_at dksX3_reign_1 22 rfl rfl)
theorem dX3_reign_47 : decode cX3_reign 47 = .ok (.ireturn, 1) := dk_172 (dk_at dksX3_reign_1 23 rfl rfl)
theorem dX3_reign_48 : decode cX3_reign 48 = .ok (.aload_n 0, 1) := dk_42 (dk_at dksX3_reign_2 0 rfl rfl)
theorem dX3_reign_49 : decode cX3_reign 49 = .ok (.invokevirtual 287, 3) := dk_182 1 31 (dk_at dksX3_reign_2 1 rfl rfl)
theorem dX3_reign_52 : decode cX3_reign 52 = .ok (.aload_n 0, 1) := dk_42 (dk_at dksX3_reign_2 4 rfl rfl)
theorem dX3_reign_53 : decode cX3_reign 53 = .ok (.getfield 7, 3) := dk_180 0 7 (dk_at dksX3_reign_2 5 rfl rfl)
theorem dX3_reign_56 : decode cX3_reign 56 = .ok (.iload_n 1, 1) := dk_27 (dk_at dksX3_reign_2 8 rfl rfl)
theorem dX3_reign_57 : decode cX3_reign 57 = .ok (.iload_n 2, 1) := dk_28 (dk_at dksX3_reign_2 9 rfl rfl)
theorem dX3_reign_58 : decode cX3_reign 58 = .ok (.invokestatic 188, 3) := dk_184 0 188 (dk_at dksX3_reign_2 10 rfl rfl)
theorem dX3_reign_61 : decode cX3_reign 61 = .ok (.ireturn, 1) := dk_172 (dk_at dksX3_reign_2 13 rfl rfl)
abbrev cX3_remember : ByteArray := prog_10_method_51_code
def yX3_remember : MethodName := ⟨RX3, "remember", "()V"⟩
def dkwX3_remember_4 : List UInt8 := [181, 0, 142, 177]
abbrev dktX3_remember_4 : List UInt8 := dkwX3_remember_4 ++ []
def dkwX3_remember_3 : List UInt8 := [27, 96, 42, 180, 0, 7, 27, 46, 79, 132, 1, 1, 167, 255, 225, 42, 89, 180, 0, 142, 4, 96]
abbrev dktX3_remember_3 : List UInt8 := dkwX3_remember_3 ++ dktX3_remember_4
def dkwX3_remember_2 : List UInt8 := [181, 0, 142, 3, 60, 27, 17, 1, 35, 162, 0, 30, 42, 180, 0, 19, 17, 1, 35, 42, 180, 0, 142, 104]
abbrev dktX3_remember_2 : List UInt8 := dkwX3_remember_2 ++ dktX3_remember_3
def dkwX3_remember_1 : List UInt8 := [180, 0, 19, 17, 1, 35, 27, 96, 46, 79, 132, 1, 1, 167, 255, 230, 42, 89, 180, 0, 142, 4, 100]
abbrev dktX3_remember_1 : List UInt8 := dkwX3_remember_1 ++ dktX3_remember_2
def dkwX3_remember_0 : List UInt8 := [42, 180, 0, 142, 16, 14, 160, 0, 44, 3, 60, 27, 17, 14, 199, 162, 0, 25, 42, 180, 0, 19, 27, 42]
abbrev dktX3_remember_0 : List UInt8 := dkwX3_remember_0 ++ dktX3_remember_1
theorem dksX3_remember_0 : cX3_remember.data.toList.drop 0 = dktX3_remember_0 := by decide +kernel
theorem dksX3_remember_1 : cX3_remember.data.toList.drop 24 = dktX3_remember_1 := dk_seg dksX3_remember_0 24 rfl rfl
theorem dksX3_remember_2 : cX3_remember.data.toList.drop 47 = dktX3_remember_2 := dk_seg dksX3_remember_1 23 rfl rfl
theorem dksX3_remember_3 : cX3_remember.data.toList.drop 71 = dktX3_remember_3 := dk_seg dksX3_remember_2 24 rfl rfl
theorem dksX3_remember_4 : cX3_remember.data.toList.drop 93 = dktX3_remember_4 := dk_seg dksX3_remember_3 22 rfl rfl
theorem dX3_remember_0 : decode cX3_remember 0 = .ok (.aload_n 0, 1) := dk_42 (dk_at dksX3_remember_0 0 rfl rfl)
theorem dX3_remember_1 : decode cX3_remember 1 = .ok (.getfield 142, 3) := dk_180 0 142 (dk_at dksX3_remember_0 1 rfl rfl)
theorem dX3_remember_4 : decode cX3_remember 4 = .ok (.bipush 14, 2) := dk_16 14 (dk_at dksX3_remember_0 4 rfl rfl)
theorem dX3_remember_6 : decode cX3_remember 6 = .ok (.if_icmp .ne 44, 3) := dk_160 0 44 (dk_at dksX3_remember_0 6 rfl rfl)
theorem dX3_remember_9 : decode cX3_remember 9 = .ok (.iconst 0, 1) := dk_3 (dk_at dksX3_remember_0 9 rfl rfl)
theorem dX3_remember_10 : decode cX3_remember 10 = .ok (.istore_n 1, 1) := dk_60 (dk_at dksX3_remember_0 10 rfl rfl)
theorem dX3_remember_11 : decode cX3_remember 11 = .ok (.iload_n 1, 1) := dk_27 (dk_at dksX3_remember_0 11 rfl rfl)
theorem dX3_remember_12 : decode cX3_remember 12 = .ok (.sipush 3783, 3) := dk_17 14 199 (dk_at dksX3_remember_0 12 rfl rfl)
theorem dX3_remember_15 : decode cX3_remember 15 = .ok (.if_icmp .ge 25, 3) := dk_162 0 25 (dk_at dksX3_remember_0 15 rfl rfl)
theorem dX3_remember_18 : decode cX3_remember 18 = .ok (.aload_n 0, 1) := dk_42 (dk_at dksX3_remember_0 18 rfl rfl)
theorem dX3_remember_19 : decode cX3_remember 19 = .ok (.getfield 19, 3) := dk_180 0 19 (dk_at dksX3_remember_0 19 rfl rfl)
theorem dX3_remember_22 : decode cX3_remember 22 = .ok (.iload_n 1, 1) := dk_27 (dk_at dksX3_remember_0 22 rfl rfl)
theorem dX3_remember_23 : decode cX3_remember 23 = .ok (.aload_n 0, 1) := dk_42 (dk_at dksX3_remember_0 23 rfl rfl)
theorem dX3_remember_24 : decode cX3_remember 24 = .ok (.getfield 19, 3) := dk_180 0 19 (dk_at dksX3_remember_1 0 rfl rfl)
theorem dX3_remember_27 : decode cX3_remember 27 = .ok (.sipush 291, 3) := dk_17 1 35 (dk_at dksX3_remember_1 3 rfl rfl)
theorem dX3_remember_30 : decode cX3_remember 30 = .ok (.iload_n 1, 1) := dk_27 (dk_at dksX3_remember_1 6 rfl rfl)
theorem dX3_remember_31 : decode cX3_remember 31 = .ok (.iadd, 1) := dk_96 (dk_at dksX3_remember_1 7 rfl rfl)
theorem dX3_remember_32 : decode cX3_remember 32 = .ok (.iaload, 1) := dk_46 (dk_at dksX3_remember_1 8 rfl rfl)
theorem dX3_remember_33 : decode cX3_remember 33 = .ok (.iastore, 1) := dk_79 (dk_at dksX3_remember_1 9 rfl rfl)
theorem dX3_remember_34 : decode cX3_remember 34 = .ok (.iinc 1 1, 3) := dk_132 1 1 (dk_at dksX3_remember_1 10 rfl rfl)
theorem dX3_remember_37 : decode cX3_remember 37 = .ok (.goto (-26), 3) := dk_167 255 230 (dk_at dksX3_remember_1 13 rfl rfl)
theorem dX3_remember_40 : decode cX3_remember 40 = .ok (.aload_n 0, 1) := dk_42 (dk_at dksX3_remember_1 16 rfl rfl)
theorem dX3_remember_41 : decode cX3_remember 41 = .ok (.dup, 1) := dk_89 (dk_at dksX3_remember_1 17 rfl rfl)
theorem dX3_remember_42 : decode cX3_remember 42 = .ok (.getfield 142, 3) := dk_180 0 142 (dk_at dksX3_remember_1 18 rfl rfl)
theorem dX3_remember_45 : decode cX3_remember 45 = .ok (.iconst 1, 1) := dk_4 (dk_at dksX3_remember_1 21 rfl rfl)
theorem dX3_remember_46 : decode cX3_remember 46 = .ok (.isub, 1) := dk_100 (dk_at dksX3_remember_1 22 rfl rfl)
theorem dX3_remember_47 : decode cX3_remember 47 = .ok (.putfield 142, 3) := dk_181 0 142 (dk_at dksX3_remember_2 0 rfl rfl)
theorem dX3_remember_50 : decode cX3_remember 50 = .ok (.iconst 0, 1) := dk_3 (dk_at dksX3_remember_2 3 rfl rfl)
theorem dX3_remember_51 : decode cX3_remember 51 = .ok (.istore_n 1, 1) := dk_60 (dk_at dksX3_remember_2 4 rfl rfl)
theorem dX3_remember_52 : decode cX3_remember 52 = .ok (.iload_n 1, 1) := dk_27 (dk_at dksX3_remember_2 5 rfl rfl)
theorem dX3_remember_53 : decode cX3_remember 53 = .ok (.sipush 291, 3) := dk_17 1 35 (dk_at dksX3_remember_2 6 rfl rfl)
theorem dX3_remember_56 : decode cX3_remember 56 = .ok (.if_icmp .ge 30, 3) := dk_162 0 30 (dk_at dksX3_remember_2 9 rfl rfl)
theorem dX3_remember_59 : decode cX3_remember 59 = .ok (.aload_n 0, 1) := dk_42 (dk_at dksX3_remember_2 12 rfl rfl)
theorem dX3_remember_60 : decode cX3_remember 60 = .ok (.getfield 19, 3) := dk_180 0 19 (dk_at dksX3_remember_2 13 rfl rfl)
theorem dX3_remember_63 : decode cX3_remember 63 = .ok (.sipush 291, 3) := dk_17 1 35 (dk_at dksX3_remember_2 16 rfl rfl)
theorem dX3_remember_66 : decode cX3_remember 66 = .ok (.aload_n 0, 1) := dk_42 (dk_at dksX3_remember_2 19 rfl rfl)
theorem dX3_remember_67 : decode cX3_remember 67 = .ok (.getfield 142, 3) := dk_180 0 142 (dk_at dksX3_remember_2 20 rfl rfl)
theorem dX3_remember_70 : decode cX3_remember 70 = .ok (.imul, 1) := dk_104 (dk_at dksX3_remember_2 23 rfl rfl)
theorem dX3_remember_71 : decode cX3_remember 71 = .ok (.iload_n 1, 1) := dk_27 (dk_at dksX3_remember_3 0 rfl rfl)
theorem dX3_remember_72 : decode cX3_remember 72 = .ok (.iadd, 1) := dk_96 (dk_at dksX3_remember_3 1 rfl rfl)
theorem dX3_remember_73 : decode cX3_remember 73 = .ok (.aload_n 0, 1) := dk_42 (dk_at dksX3_remember_3 2 rfl rfl)
theorem dX3_remember_74 : decode cX3_remember 74 = .ok (.getfield 7, 3) := dk_180 0 7 (dk_at dksX3_remember_3 3 rfl rfl)
theorem dX3_remember_77 : decode cX3_remember 77 = .ok (.iload_n 1, 1) := dk_27 (dk_at dksX3_remember_3 6 rfl rfl)
theorem dX3_remember_78 : decode cX3_remember 78 = .ok (.iaload, 1) := dk_46 (dk_at dksX3_remember_3 7 rfl rfl)
theorem dX3_remember_79 : decode cX3_remember 79 = .ok (.iastore, 1) := dk_79 (dk_at dksX3_remember_3 8 rfl rfl)
theorem dX3_remember_80 : decode cX3_remember 80 = .ok (.iinc 1 1, 3) := dk_132 1 1 (dk_at dksX3_remember_3 9 rfl rfl)
theorem dX3_remember_83 : decode cX3_remember 83 = .ok (.goto (-31), 3) := dk_167 255 225 (dk_at dksX3_remember_3 12 rfl rfl)
theorem dX3_remember_86 : decode cX3_remember 86 = .ok (.aload_n 0, 1) := dk_42 (dk_at dksX3_remember_3 15 rfl rfl)
theorem dX3_remember_87 : decode cX3_remember 87 = .ok (.dup, 1) := dk_89 (dk_at dksX3_remember_3 16 rfl rfl)
theorem dX3_remember_88 : decode cX3_remember 88 = .ok (.getfield 142, 3) := dk_180 0 142 (dk_at dksX3_remember_3 17 rfl rfl)
theorem dX3_remember_91 : decode cX3_remember 91 = .ok (.iconst 1, 1) := dk_4 (dk_at dksX3_remember_3 20 rfl rfl)
theorem dX3_remember_92 : decode cX3_remember 92 = .ok (.iadd, 1) := dk_96 (dk_at dksX3_remember_3 21 rfl rfl)
theorem dX3_remember_93 : decode cX3_remember 93 = .ok (.putfield 142, 3) := dk_181 0 142 (dk_at dksX3_remember_4 0 rfl rfl)
theorem dX3_remember_96 : decode cX3_remember 96 = .ok (.return_, 1) := dk_177 (dk_at dksX3_remember_4 3 rfl rfl)
abbrev cX3_die : ByteArray := prog_10_method_85_code
def yX3_die : MethodName := ⟨RX3, "die", "(III)I"⟩
def dkwX3_die_2 : List UInt8 := [153, 0, 5, 3, 172, 42, 182, 1, 31, 42, 180, 0, 7, 27, 28, 29, 184, 0, 194, 172]
abbrev dktX3_die_2 : List UInt8 := dkwX3_die_2 ++ []
def dkwX3_die_1 : List UInt8 := [167, 0, 19, 42, 180, 0, 7, 4, 46, 16, 10, 160, 0, 7, 5, 167, 0, 4, 3, 182, 0, 150]
abbrev dktX3_die_1 : List UInt8 := dkwX3_die_1 ++ dktX3_die_2
def dkwX3_die_0 : List UInt8 := [42, 27, 133, 9, 20, 0, 53, 184, 0, 49, 153, 0, 11, 28, 29, 184, 1, 34, 154, 0, 7, 4]
abbrev dktX3_die_0 : List UInt8 := dkwX3_die_0 ++ dktX3_die_1
theorem dksX3_die_0 : cX3_die.data.toList.drop 0 = dktX3_die_0 := by decide +kernel
theorem dksX3_die_1 : cX3_die.data.toList.drop 22 = dktX3_die_1 := dk_seg dksX3_die_0 22 rfl rfl
theorem dksX3_die_2 : cX3_die.data.toList.drop 44 = dktX3_die_2 := dk_seg dksX3_die_1 22 rfl rfl
theorem dX3_die_0 : decode cX3_die 0 = .ok (.aload_n 0, 1) := dk_42 (dk_at dksX3_die_0 0 rfl rfl)
theorem dX3_die_1 : decode cX3_die 1 = .ok (.iload_n 1, 1) := dk_27 (dk_at dksX3_die_0 1 rfl rfl)
theorem dX3_die_2 : decode cX3_die 2 = .ok (.i2l, 1) := dk_133 (dk_at dksX3_die_0 2 rfl rfl)
theorem dX3_die_3 : decode cX3_die 3 = .ok (.lconst 0, 1) := dk_9 (dk_at dksX3_die_0 3 rfl rfl)
theorem dX3_die_4 : decode cX3_die 4 = .ok (.ldc2_w 53, 3) := dk_20 0 53 (dk_at dksX3_die_0 4 rfl rfl)
theorem dX3_die_7 : decode cX3_die 7 = .ok (.invokestatic 49, 3) := dk_184 0 49 (dk_at dksX3_die_0 7 rfl rfl)
theorem dX3_die_10 : decode cX3_die 10 = .ok (.ifCond .eq 11, 3) := dk_153 0 11 (dk_at dksX3_die_0 10 rfl rfl)
theorem dX3_die_13 : decode cX3_die 13 = .ok (.iload_n 2, 1) := dk_28 (dk_at dksX3_die_0 13 rfl rfl)
theorem dX3_die_14 : decode cX3_die 14 = .ok (.iload_n 3, 1) := dk_29 (dk_at dksX3_die_0 14 rfl rfl)
theorem dX3_die_15 : decode cX3_die 15 = .ok (.invokestatic 290, 3) := dk_184 1 34 (dk_at dksX3_die_0 15 rfl rfl)
theorem dX3_die_18 : decode cX3_die 18 = .ok (.ifCond .ne 7, 3) := dk_154 0 7 (dk_at dksX3_die_0 18 rfl rfl)
theorem dX3_die_21 : decode cX3_die 21 = .ok (.iconst 1, 1) := dk_4 (dk_at dksX3_die_0 21 rfl rfl)
theorem dX3_die_22 : decode cX3_die 22 = .ok (.goto 19, 3) := dk_167 0 19 (dk_at dksX3_die_1 0 rfl rfl)
theorem dX3_die_25 : decode cX3_die 25 = .ok (.aload_n 0, 1) := dk_42 (dk_at dksX3_die_1 3 rfl rfl)
theorem dX3_die_26 : decode cX3_die 26 = .ok (.getfield 7, 3) := dk_180 0 7 (dk_at dksX3_die_1 4 rfl rfl)
theorem dX3_die_29 : decode cX3_die 29 = .ok (.iconst 1, 1) := dk_4 (dk_at dksX3_die_1 7 rfl rfl)
theorem dX3_die_30 : decode cX3_die 30 = .ok (.iaload, 1) := dk_46 (dk_at dksX3_die_1 8 rfl rfl)
theorem dX3_die_31 : decode cX3_die 31 = .ok (.bipush 10, 2) := dk_16 10 (dk_at dksX3_die_1 9 rfl rfl)
theorem dX3_die_33 : decode cX3_die 33 = .ok (.if_icmp .ne 7, 3) := dk_160 0 7 (dk_at dksX3_die_1 11 rfl rfl)
theorem dX3_die_36 : decode cX3_die 36 = .ok (.iconst 2, 1) := dk_5 (dk_at dksX3_die_1 14 rfl rfl)
theorem dX3_die_37 : decode cX3_die 37 = .ok (.goto 4, 3) := dk_167 0 4 (dk_at dksX3_die_1 15 rfl rfl)
theorem dX3_die_40 : decode cX3_die 40 = .ok (.iconst 0, 1) := dk_3 (dk_at dksX3_die_1 18 rfl rfl)
theorem dX3_die_41 : decode cX3_die 41 = .ok (.invokevirtual 150, 3) := dk_182 0 150 (dk_at dksX3_die_1 19 rfl rfl)
theorem dX3_die_44 : decode cX3_die 44 = .ok (.ifCond .eq 5, 3) := dk_153 0 5 (dk_at dksX3_die_2 0 rfl rfl)
theorem dX3_die_47 : decode cX3_die 47 = .ok (.iconst 0, 1) := dk_3 (dk_at dksX3_die_2 3 rfl rfl)
theorem dX3_die_48 : decode cX3_die 48 = .ok (.ireturn, 1) := dk_172 (dk_at dksX3_die_2 4 rfl rfl)
theorem dX3_die_49 : decode cX3_die 49 = .ok (.aload_n 0, 1) := dk_42 (dk_at dksX3_die_2 5 rfl rfl)
theorem dX3_die_50 : decode cX3_die 50 = .ok (.invokevirtual 287, 3) := dk_182 1 31 (dk_at dksX3_die_2 6 rfl rfl)
theorem dX3_die_53 : decode cX3_die 53 = .ok (.aload_n 0, 1) := dk_42 (dk_at dksX3_die_2 9 rfl rfl)
theorem dX3_die_54 : decode cX3_die 54 = .ok (.getfield 7, 3) := dk_180 0 7 (dk_at dksX3_die_2 10 rfl rfl)
theorem dX3_die_57 : decode cX3_die 57 = .ok (.iload_n 1, 1) := dk_27 (dk_at dksX3_die_2 13 rfl rfl)
theorem dX3_die_58 : decode cX3_die 58 = .ok (.iload_n 2, 1) := dk_28 (dk_at dksX3_die_2 14 rfl rfl)
theorem dX3_die_59 : decode cX3_die 59 = .ok (.iload_n 3, 1) := dk_29 (dk_at dksX3_die_2 15 rfl rfl)
theorem dX3_die_60 : decode cX3_die 60 = .ok (.invokestatic 194, 3) := dk_184 0 194 (dk_at dksX3_die_2 16 rfl rfl)
theorem dX3_die_63 : decode cX3_die 63 = .ok (.ireturn, 1) := dk_172 (dk_at dksX3_die_2 19 rfl rfl)
abbrev cX3_areYears : ByteArray := prog_10_method_39_code
def yX3_areYears : MethodName := ⟨RX3, "areYears", "(II)Z"⟩
def dkwX3_areYears_1 : List UInt8 := [3, 172]
abbrev dktX3_areYears_1 : List UInt8 := dkwX3_areYears_1 ++ []
def dkwX3_areYears_0 : List UInt8 := [26, 184, 0, 129, 153, 0, 20, 27, 133, 26, 133, 20, 0, 47, 184, 0, 49, 153, 0, 7, 4, 167, 0, 4]
abbrev dktX3_areYears_0 : List UInt8 := dkwX3_areYears_0 ++ dktX3_areYears_1
theorem dksX3_areYears_0 : cX3_areYears.data.toList.drop 0 = dktX3_areYears_0 := by decide +kernel
theorem dksX3_areYears_1 : cX3_areYears.data.toList.drop 24 = dktX3_areYears_1 := dk_seg dksX3_areYears_0 24 rfl rfl
theorem dX3_areYears_0 : decode cX3_areYears 0 = .ok (.iload_n 0, 1) := dk_26 (dk_at dksX3_areYears_0 0 rfl rfl)
theorem dX3_areYears_1 : decode cX3_areYears 1 = .ok (.invokestatic 129, 3) := dk_184 0 129 (dk_at dksX3_areYears_0 1 rfl rfl)
theorem dX3_areYears_4 : decode cX3_areYears 4 = .ok (.ifCond .eq 20, 3) := dk_153 0 20 (dk_at dksX3_areYears_0 4 rfl rfl)
theorem dX3_areYears_7 : decode cX3_areYears 7 = .ok (.iload_n 1, 1) := dk_27 (dk_at dksX3_areYears_0 7 rfl rfl)
theorem dX3_areYears_8 : decode cX3_areYears 8 = .ok (.i2l, 1) := dk_133 (dk_at dksX3_areYears_0 8 rfl rfl)
theorem dX3_areYears_9 : decode cX3_areYears 9 = .ok (.iload_n 0, 1) := dk_26 (dk_at dksX3_areYears_0 9 rfl rfl)
theorem dX3_areYears_10 : decode cX3_areYears 10 = .ok (.i2l, 1) := dk_133 (dk_at dksX3_areYears_0 10 rfl rfl)
theorem dX3_areYears_11 : decode cX3_areYears 11 = .ok (.ldc2_w 47, 3) := dk_20 0 47 (dk_at dksX3_areYears_0 11 rfl rfl)
theorem dX3_areYears_14 : decode cX3_areYears 14 = .ok (.invokestatic 49, 3) := dk_184 0 49 (dk_at dksX3_areYears_0 14 rfl rfl)
theorem dX3_areYears_17 : decode cX3_areYears 17 = .ok (.ifCond .eq 7, 3) := dk_153 0 7 (dk_at dksX3_areYears_0 17 rfl rfl)
theorem dX3_areYears_20 : decode cX3_areYears 20 = .ok (.iconst 1, 1) := dk_4 (dk_at dksX3_areYears_0 20 rfl rfl)
theorem dX3_areYears_21 : decode cX3_areYears 21 = .ok (.goto 4, 3) := dk_167 0 4 (dk_at dksX3_areYears_0 21 rfl rfl)
theorem dX3_areYears_24 : decode cX3_areYears 24 = .ok (.iconst 0, 1) := dk_3 (dk_at dksX3_areYears_1 0 rfl rfl)
theorem dX3_areYears_25 : decode cX3_areYears 25 = .ok (.ireturn, 1) := dk_172 (dk_at dksX3_areYears_1 1 rfl rfl)
abbrev cX3_crack : ByteArray := prog_10_method_86_code
def yX3_crack : MethodName := ⟨RX3, "crack", "(II)I"⟩
def dkwX3_crack_2 : List UInt8 := [153, 0, 5, 3, 172, 42, 182, 1, 31, 42, 180, 0, 7, 27, 28, 184, 0, 204, 172]
abbrev dktX3_crack_2 : List UInt8 := dkwX3_crack_2 ++ []
def dkwX3_crack_1 : List UInt8 := [167, 0, 20, 42, 180, 0, 7, 27, 28, 184, 0, 200, 154, 0, 7, 6, 167, 0, 4, 3, 182, 0, 150]
abbrev dktX3_crack_1 : List UInt8 := dkwX3_crack_1 ++ dktX3_crack_2
def dkwX3_crack_0 : List UInt8 := [42, 42, 180, 0, 7, 27, 184, 0, 197, 154, 0, 7, 4, 167, 0, 31, 28, 184, 0, 129, 154, 0, 7, 5]
abbrev dktX3_crack_0 : List UInt8 := dkwX3_crack_0 ++ dktX3_crack_1
theorem dksX3_crack_0 : cX3_crack.data.toList.drop 0 = dktX3_crack_0 := by decide +kernel
theorem dksX3_crack_1 : cX3_crack.data.toList.drop 24 = dktX3_crack_1 := dk_seg dksX3_crack_0 24 rfl rfl
theorem dksX3_crack_2 : cX3_crack.data.toList.drop 47 = dktX3_crack_2 := dk_seg dksX3_crack_1 23 rfl rfl
theorem dX3_crack_0 : decode cX3_crack 0 = .ok (.aload_n 0, 1) := dk_42 (dk_at dksX3_crack_0 0 rfl rfl)
theorem dX3_crack_1 : decode cX3_crack 1 = .ok (.aload_n 0, 1) := dk_42 (dk_at dksX3_crack_0 1 rfl rfl)
theorem dX3_crack_2 : decode cX3_crack 2 = .ok (.getfield 7, 3) := dk_180 0 7 (dk_at dksX3_crack_0 2 rfl rfl)
theorem dX3_crack_5 : decode cX3_crack 5 = .ok (.iload_n 1, 1) := dk_27 (dk_at dksX3_crack_0 5 rfl rfl)
theorem dX3_crack_6 : decode cX3_crack 6 = .ok (.invokestatic 197, 3) := dk_184 0 197 (dk_at dksX3_crack_0 6 rfl rfl)
theorem dX3_crack_9 : decode cX3_crack 9 = .ok (.ifCond .ne 7, 3) := dk_154 0 7 (dk_at dksX3_crack_0 9 rfl rfl)
theorem dX3_crack_12 : decode cX3_crack 12 = .ok (.iconst 1, 1) := dk_4 (dk_at dksX3_crack_0 12 rfl rfl)
theorem dX3_crack_13 : decode cX3_crack 13 = .ok (.goto 31, 3) := dk_167 0 31 (dk_at dksX3_crack_0 13 rfl rfl)
theorem dX3_crack_16 : decode cX3_crack 16 = .ok (.iload_n 2, 1) := dk_28 (dk_at dksX3_crack_0 16 rfl rfl)
theorem dX3_crack_17 : decode cX3_crack 17 = .ok (.invokestatic 129, 3) := dk_184 0 129 (dk_at dksX3_crack_0 17 rfl rfl)
theorem dX3_crack_20 : decode cX3_crack 20 = .ok (.ifCond .ne 7, 3) := dk_154 0 7 (dk_at dksX3_crack_0 20 rfl rfl)
theorem dX3_crack_23 : decode cX3_crack 23 = .ok (.iconst 2, 1) := dk_5 (dk_at dksX3_crack_0 23 rfl rfl)
theorem dX3_crack_24 : decode cX3_crack 24 = .ok (.goto 20, 3) := dk_167 0 20 (dk_at dksX3_crack_1 0 rfl rfl)
theorem dX3_crack_27 : decode cX3_crack 27 = .ok (.aload_n 0, 1) := dk_42 (dk_at dksX3_crack_1 3 rfl rfl)
theorem dX3_crack_28 : decode cX3_crack 28 = .ok (.getfield 7, 3) := dk_180 0 7 (dk_at dksX3_crack_1 4 rfl rfl)
theorem dX3_crack_31 : decode cX3_crack 31 = .ok (.iload_n 1, 1) := dk_27 (dk_at dksX3_crack_1 7 rfl rfl)
theorem dX3_crack_32 : decode cX3_crack 32 = .ok (.iload_n 2, 1) := dk_28 (dk_at dksX3_crack_1 8 rfl rfl)
theorem dX3_crack_33 : decode cX3_crack 33 = .ok (.invokestatic 200, 3) := dk_184 0 200 (dk_at dksX3_crack_1 9 rfl rfl)
theorem dX3_crack_36 : decode cX3_crack 36 = .ok (.ifCond .ne 7, 3) := dk_154 0 7 (dk_at dksX3_crack_1 12 rfl rfl)
theorem dX3_crack_39 : decode cX3_crack 39 = .ok (.iconst 3, 1) := dk_6 (dk_at dksX3_crack_1 15 rfl rfl)
theorem dX3_crack_40 : decode cX3_crack 40 = .ok (.goto 4, 3) := dk_167 0 4 (dk_at dksX3_crack_1 16 rfl rfl)
theorem dX3_crack_43 : decode cX3_crack 43 = .ok (.iconst 0, 1) := dk_3 (dk_at dksX3_crack_1 19 rfl rfl)
theorem dX3_crack_44 : decode cX3_crack 44 = .ok (.invokevirtual 150, 3) := dk_182 0 150 (dk_at dksX3_crack_1 20 rfl rfl)
theorem dX3_crack_47 : decode cX3_crack 47 = .ok (.ifCond .eq 5, 3) := dk_153 0 5 (dk_at dksX3_crack_2 0 rfl rfl)
theorem dX3_crack_50 : decode cX3_crack 50 = .ok (.iconst 0, 1) := dk_3 (dk_at dksX3_crack_2 3 rfl rfl)
theorem dX3_crack_51 : decode cX3_crack 51 = .ok (.ireturn, 1) := dk_172 (dk_at dksX3_crack_2 4 rfl rfl)
theorem dX3_crack_52 : decode cX3_crack 52 = .ok (.aload_n 0, 1) := dk_42 (dk_at dksX3_crack_2 5 rfl rfl)
theorem dX3_crack_53 : decode cX3_crack 53 = .ok (.invokevirtual 287, 3) := dk_182 1 31 (dk_at dksX3_crack_2 6 rfl rfl)
theorem dX3_crack_56 : decode cX3_crack 56 = .ok (.aload_n 0, 1) := dk_42 (dk_at dksX3_crack_2 9 rfl rfl)
theorem dX3_crack_57 : decode cX3_crack 57 = .ok (.getfield 7, 3) := dk_180 0 7 (dk_at dksX3_crack_2 10 rfl rfl)
theorem dX3_crack_60 : decode cX3_crack 60 = .ok (.iload_n 1, 1) := dk_27 (dk_at dksX3_crack_2 13 rfl rfl)
theorem dX3_crack_61 : decode cX3_crack 61 = .ok (.iload_n 2, 1) := dk_28 (dk_at dksX3_crack_2 14 rfl rfl)
theorem dX3_crack_62 : decode cX3_crack 62 = .ok (.invokestatic 204, 3) := dk_184 0 204 (dk_at dksX3_crack_2 15 rfl rfl)
theorem dX3_crack_65 : decode cX3_crack 65 = .ok (.ireturn, 1) := dk_172 (dk_at dksX3_crack_2 18 rfl rfl)
abbrev cX3_seal : ByteArray := prog_10_method_87_code
def yX3_seal : MethodName := ⟨RX3, "seal", "(IIIII)I"⟩
def dkwX3_seal_3 : List UInt8 := [42, 180, 0, 7, 27, 28, 29, 21, 4, 21, 5, 184, 0, 210, 172]
abbrev dktX3_seal_3 : List UInt8 := dkwX3_seal_3 ++ []
def dkwX3_seal_2 : List UInt8 := [5, 46, 16, 24, 160, 0, 7, 6, 167, 0, 4, 3, 182, 0, 150, 153, 0, 5, 3, 172, 42, 182, 1, 31]
abbrev dktX3_seal_2 : List UInt8 := dkwX3_seal_2 ++ dktX3_seal_3
def dkwX3_seal_1 : List UInt8 := [153, 0, 16, 42, 180, 0, 7, 27, 21, 5, 184, 0, 207, 154, 0, 7, 5, 167, 0, 19, 42, 180, 0, 7]
abbrev dktX3_seal_1 : List UInt8 := dkwX3_seal_1 ++ dktX3_seal_2
def dkwX3_seal_0 : List UInt8 := [42, 42, 180, 0, 7, 27, 184, 0, 197, 154, 0, 7, 4, 167, 0, 46, 28, 29, 21, 4, 184, 1, 37]
abbrev dktX3_seal_0 : List UInt8 := dkwX3_seal_0 ++ dktX3_seal_1
theorem dksX3_seal_0 : cX3_seal.data.toList.drop 0 = dktX3_seal_0 := by decide +kernel
theorem dksX3_seal_1 : cX3_seal.data.toList.drop 23 = dktX3_seal_1 := dk_seg dksX3_seal_0 23 rfl rfl
theorem dksX3_seal_2 : cX3_seal.data.toList.drop 47 = dktX3_seal_2 := dk_seg dksX3_seal_1 24 rfl rfl
theorem dksX3_seal_3 : cX3_seal.data.toList.drop 71 = dktX3_seal_3 := dk_seg dksX3_seal_2 24 rfl rfl
theorem dX3_seal_0 : decode cX3_seal 0 = .ok (.aload_n 0, 1) := dk_42 (dk_at dksX3_seal_0 0 rfl rfl)
theorem dX3_seal_1 : decode cX3_seal 1 = .ok (.aload_n 0, 1) := dk_42 (dk_at dksX3_seal_0 1 rfl rfl)
theorem dX3_seal_2 : decode cX3_seal 2 = .ok (.getfield 7, 3) := dk_180 0 7 (dk_at dksX3_seal_0 2 rfl rfl)
theorem dX3_seal_5 : decode cX3_seal 5 = .ok (.iload_n 1, 1) := dk_27 (dk_at dksX3_seal_0 5 rfl rfl)
theorem dX3_seal_6 : decode cX3_seal 6 = .ok (.invokestatic 197, 3) := dk_184 0 197 (dk_at dksX3_seal_0 6 rfl rfl)
theorem dX3_seal_9 : decode cX3_seal 9 = .ok (.ifCond .ne 7, 3) := dk_154 0 7 (dk_at dksX3_seal_0 9 rfl rfl)
theorem dX3_seal_12 : decode cX3_seal 12 = .ok (.iconst 1, 1) := dk_4 (dk_at dksX3_seal_0 12 rfl rfl)
theorem dX3_seal_13 : decode cX3_seal 13 = .ok (.goto 46, 3) := dk_167 0 46 (dk_at dksX3_seal_0 13 rfl rfl)
theorem dX3_seal_16 : decode cX3_seal 16 = .ok (.iload_n 2, 1) := dk_28 (dk_at dksX3_seal_0 16 rfl rfl)
theorem dX3_seal_17 : decode cX3_seal 17 = .ok (.iload_n 3, 1) := dk_29 (dk_at dksX3_seal_0 17 rfl rfl)
theorem dX3_seal_18 : decode cX3_seal 18 = .ok (.iload 4, 2) := dk_21 4 (dk_at dksX3_seal_0 18 rfl rfl)
theorem dX3_seal_20 : decode cX3_seal 20 = .ok (.invokestatic 293, 3) := dk_184 1 37 (dk_at dksX3_seal_0 20 rfl rfl)
theorem dX3_seal_23 : decode cX3_seal 23 = .ok (.ifCond .eq 16, 3) := dk_153 0 16 (dk_at dksX3_seal_1 0 rfl rfl)
theorem dX3_seal_26 : decode cX3_seal 26 = .ok (.aload_n 0, 1) := dk_42 (dk_at dksX3_seal_1 3 rfl rfl)
theorem dX3_seal_27 : decode cX3_seal 27 = .ok (.getfield 7, 3) := dk_180 0 7 (dk_at dksX3_seal_1 4 rfl rfl)
theorem dX3_seal_30 : decode cX3_seal 30 = .ok (.iload_n 1, 1) := dk_27 (dk_at dksX3_seal_1 7 rfl rfl)
theorem dX3_seal_31 : decode cX3_seal 31 = .ok (.iload 5, 2) := dk_21 5 (dk_at dksX3_seal_1 8 rfl rfl)
theorem dX3_seal_33 : decode cX3_seal 33 = .ok (.invokestatic 207, 3) := dk_184 0 207 (dk_at dksX3_seal_1 10 rfl rfl)
theorem dX3_seal_36 : decode cX3_seal 36 = .ok (.ifCond .ne 7, 3) := dk_154 0 7 (dk_at dksX3_seal_1 13 rfl rfl)
theorem dX3_seal_39 : decode cX3_seal 39 = .ok (.iconst 2, 1) := dk_5 (dk_at dksX3_seal_1 16 rfl rfl)
theorem dX3_seal_40 : decode cX3_seal 40 = .ok (.goto 19, 3) := dk_167 0 19 (dk_at dksX3_seal_1 17 rfl rfl)
theorem dX3_seal_43 : decode cX3_seal 43 = .ok (.aload_n 0, 1) := dk_42 (dk_at dksX3_seal_1 20 rfl rfl)
theorem dX3_seal_44 : decode cX3_seal 44 = .ok (.getfield 7, 3) := dk_180 0 7 (dk_at dksX3_seal_1 21 rfl rfl)
theorem dX3_seal_47 : decode cX3_seal 47 = .ok (.iconst 2, 1) := dk_5 (dk_at dksX3_seal_2 0 rfl rfl)
theorem dX3_seal_48 : decode cX3_seal 48 = .ok (.iaload, 1) := dk_46 (dk_at dksX3_seal_2 1 rfl rfl)
theorem dX3_seal_49 : decode cX3_seal 49 = .ok (.bipush 24, 2) := dk_16 24 (dk_at dksX3_seal_2 2 rfl rfl)
theorem dX3_seal_51 : decode cX3_seal 51 = .ok (.if_icmp .ne 7, 3) := dk_160 0 7 (dk_at dksX3_seal_2 4 rfl rfl)
theorem dX3_seal_54 : decode cX3_seal 54 = .ok (.iconst 3, 1) := dk_6 (dk_at dksX3_seal_2 7 rfl rfl)
theorem dX3_seal_55 : decode cX3_seal 55 = .ok (.goto 4, 3) := dk_167 0 4 (dk_at dksX3_seal_2 8 rfl rfl)
theorem dX3_seal_58 : decode cX3_seal 58 = .ok (.iconst 0, 1) := dk_3 (dk_at dksX3_seal_2 11 rfl rfl)
theorem dX3_seal_59 : decode cX3_seal 59 = .ok (.invokevirtual 150, 3) := dk_182 0 150 (dk_at dksX3_seal_2 12 rfl rfl)
theorem dX3_seal_62 : decode cX3_seal 62 = .ok (.ifCond .eq 5, 3) := dk_153 0 5 (dk_at dksX3_seal_2 15 rfl rfl)
theorem dX3_seal_65 : decode cX3_seal 65 = .ok (.iconst 0, 1) := dk_3 (dk_at dksX3_seal_2 18 rfl rfl)
theorem dX3_seal_66 : decode cX3_seal 66 = .ok (.ireturn, 1) := dk_172 (dk_at dksX3_seal_2 19 rfl rfl)
theorem dX3_seal_67 : decode cX3_seal 67 = .ok (.aload_n 0, 1) := dk_42 (dk_at dksX3_seal_2 20 rfl rfl)
theorem dX3_seal_68 : decode cX3_seal 68 = .ok (.invokevirtual 287, 3) := dk_182 1 31 (dk_at dksX3_seal_2 21 rfl rfl)
theorem dX3_seal_71 : decode cX3_seal 71 = .ok (.aload_n 0, 1) := dk_42 (dk_at dksX3_seal_3 0 rfl rfl)
theorem dX3_seal_72 : decode cX3_seal 72 = .ok (.getfield 7, 3) := dk_180 0 7 (dk_at dksX3_seal_3 1 rfl rfl)
theorem dX3_seal_75 : decode cX3_seal 75 = .ok (.iload_n 1, 1) := dk_27 (dk_at dksX3_seal_3 4 rfl rfl)
theorem dX3_seal_76 : decode cX3_seal 76 = .ok (.iload_n 2, 1) := dk_28 (dk_at dksX3_seal_3 5 rfl rfl)
theorem dX3_seal_77 : decode cX3_seal 77 = .ok (.iload_n 3, 1) := dk_29 (dk_at dksX3_seal_3 6 rfl rfl)
theorem dX3_seal_78 : decode cX3_seal 78 = .ok (.iload 4, 2) := dk_21 4 (dk_at dksX3_seal_3 7 rfl rfl)
theorem dX3_seal_80 : decode cX3_seal 80 = .ok (.iload 5, 2) := dk_21 5 (dk_at dksX3_seal_3 9 rfl rfl)
theorem dX3_seal_82 : decode cX3_seal 82 = .ok (.invokestatic 210, 3) := dk_184 0 210 (dk_at dksX3_seal_3 11 rfl rfl)
theorem dX3_seal_85 : decode cX3_seal 85 = .ok (.ireturn, 1) := dk_172 (dk_at dksX3_seal_3 14 rfl rfl)
abbrev cX3_isKind : ByteArray := prog_10_method_44_code
def yX3_isKind : MethodName := ⟨RX3, "isKind", "(III)Z"⟩
def dkwX3_isKind_1 : List UInt8 := [28, 133, 9, 20, 0, 137, 184, 0, 49, 153, 0, 7, 4, 167, 0, 4, 3, 172]
abbrev dktX3_isKind_1 : List UInt8 := dkwX3_isKind_1 ++ []
def dkwX3_isKind_0 : List UInt8 := [26, 133, 9, 10, 184, 0, 49, 153, 0, 33, 27, 133, 20, 0, 133, 20, 0, 135, 184, 0, 49, 153, 0, 19]
abbrev dktX3_isKind_0 : List UInt8 := dkwX3_isKind_0 ++ dktX3_isKind_1
theorem dksX3_isKind_0 : cX3_isKind.data.toList.drop 0 = dktX3_isKind_0 := by decide +kernel
theorem dksX3_isKind_1 : cX3_isKind.data.toList.drop 24 = dktX3_isKind_1 := dk_seg dksX3_isKind_0 24 rfl rfl
theorem dX3_isKind_0 : decode cX3_isKind 0 = .ok (.iload_n 0, 1) := dk_26 (dk_at dksX3_isKind_0 0 rfl rfl)
theorem dX3_isKind_1 : decode cX3_isKind 1 = .ok (.i2l, 1) := dk_133 (dk_at dksX3_isKind_0 1 rfl rfl)
theorem dX3_isKind_2 : decode cX3_isKind 2 = .ok (.lconst 0, 1) := dk_9 (dk_at dksX3_isKind_0 2 rfl rfl)
theorem dX3_isKind_3 : decode cX3_isKind 3 = .ok (.lconst 1, 1) := dk_10 (dk_at dksX3_isKind_0 3 rfl rfl)
theorem dX3_isKind_4 : decode cX3_isKind 4 = .ok (.invokestatic 49, 3) := dk_184 0 49 (dk_at dksX3_isKind_0 4 rfl rfl)
theorem dX3_isKind_7 : decode cX3_isKind 7 = .ok (.ifCond .eq 33, 3) := dk_153 0 33 (dk_at dksX3_isKind_0 7 rfl rfl)
theorem dX3_isKind_10 : decode cX3_isKind 10 = .ok (.iload_n 1, 1) := dk_27 (dk_at dksX3_isKind_0 10 rfl rfl)
theorem dX3_isKind_11 : decode cX3_isKind 11 = .ok (.i2l, 1) := dk_133 (dk_at dksX3_isKind_0 11 rfl rfl)
theorem dX3_isKind_12 : decode cX3_isKind 12 = .ok (.ldc2_w 133, 3) := dk_20 0 133 (dk_at dksX3_isKind_0 12 rfl rfl)
theorem dX3_isKind_15 : decode cX3_isKind 15 = .ok (.ldc2_w 135, 3) := dk_20 0 135 (dk_at dksX3_isKind_0 15 rfl rfl)
theorem dX3_isKind_18 : decode cX3_isKind 18 = .ok (.invokestatic 49, 3) := dk_184 0 49 (dk_at dksX3_isKind_0 18 rfl rfl)
theorem dX3_isKind_21 : decode cX3_isKind 21 = .ok (.ifCond .eq 19, 3) := dk_153 0 19 (dk_at dksX3_isKind_0 21 rfl rfl)
theorem dX3_isKind_24 : decode cX3_isKind 24 = .ok (.iload_n 2, 1) := dk_28 (dk_at dksX3_isKind_1 0 rfl rfl)
theorem dX3_isKind_25 : decode cX3_isKind 25 = .ok (.i2l, 1) := dk_133 (dk_at dksX3_isKind_1 1 rfl rfl)
theorem dX3_isKind_26 : decode cX3_isKind 26 = .ok (.lconst 0, 1) := dk_9 (dk_at dksX3_isKind_1 2 rfl rfl)
theorem dX3_isKind_27 : decode cX3_isKind 27 = .ok (.ldc2_w 137, 3) := dk_20 0 137 (dk_at dksX3_isKind_1 3 rfl rfl)
theorem dX3_isKind_30 : decode cX3_isKind 30 = .ok (.invokestatic 49, 3) := dk_184 0 49 (dk_at dksX3_isKind_1 6 rfl rfl)
theorem dX3_isKind_33 : decode cX3_isKind 33 = .ok (.ifCond .eq 7, 3) := dk_153 0 7 (dk_at dksX3_isKind_1 9 rfl rfl)
theorem dX3_isKind_36 : decode cX3_isKind 36 = .ok (.iconst 1, 1) := dk_4 (dk_at dksX3_isKind_1 12 rfl rfl)
theorem dX3_isKind_37 : decode cX3_isKind 37 = .ok (.goto 4, 3) := dk_167 0 4 (dk_at dksX3_isKind_1 13 rfl rfl)
theorem dX3_isKind_40 : decode cX3_isKind 40 = .ok (.iconst 0, 1) := dk_3 (dk_at dksX3_isKind_1 16 rfl rfl)
theorem dX3_isKind_41 : decode cX3_isKind 41 = .ok (.ireturn, 1) := dk_172 (dk_at dksX3_isKind_1 17 rfl rfl)
abbrev cX3_show : ByteArray := prog_10_method_88_code
def yX3_show : MethodName := ⟨RX3, "show", "(II)I"⟩
def dkwX3_show_2 : List UInt8 := [172, 42, 182, 1, 31, 42, 180, 0, 7, 27, 28, 184, 1, 41, 172]
abbrev dktX3_show_2 : List UInt8 := dkwX3_show_2 ++ []
def dkwX3_show_1 : List UInt8 := [16, 105, 27, 96, 46, 28, 184, 0, 207, 154, 0, 7, 5, 167, 0, 4, 3, 182, 0, 150, 153, 0, 5, 3]
abbrev dktX3_show_1 : List UInt8 := dkwX3_show_1 ++ dktX3_show_2
def dkwX3_show_0 : List UInt8 := [42, 42, 180, 0, 7, 27, 184, 0, 214, 154, 0, 7, 4, 167, 0, 28, 42, 180, 0, 7, 42, 180, 0, 7]
abbrev dktX3_show_0 : List UInt8 := dkwX3_show_0 ++ dktX3_show_1
theorem dksX3_show_0 : cX3_show.data.toList.drop 0 = dktX3_show_0 := by decide +kernel
theorem dksX3_show_1 : cX3_show.data.toList.drop 24 = dktX3_show_1 := dk_seg dksX3_show_0 24 rfl rfl
theorem dksX3_show_2 : cX3_show.data.toList.drop 48 = dktX3_show_2 := dk_seg dksX3_show_1 24 rfl rfl
theorem dX3_show_0 : decode cX3_show 0 = .ok (.aload_n 0, 1) := dk_42 (dk_at dksX3_show_0 0 rfl rfl)
theorem dX3_show_1 : decode cX3_show 1 = .ok (.aload_n 0, 1) := dk_42 (dk_at dksX3_show_0 1 rfl rfl)
theorem dX3_show_2 : decode cX3_show 2 = .ok (.getfield 7, 3) := dk_180 0 7 (dk_at dksX3_show_0 2 rfl rfl)
theorem dX3_show_5 : decode cX3_show 5 = .ok (.iload_n 1, 1) := dk_27 (dk_at dksX3_show_0 5 rfl rfl)
theorem dX3_show_6 : decode cX3_show 6 = .ok (.invokestatic 214, 3) := dk_184 0 214 (dk_at dksX3_show_0 6 rfl rfl)
theorem dX3_show_9 : decode cX3_show 9 = .ok (.ifCond .ne 7, 3) := dk_154 0 7 (dk_at dksX3_show_0 9 rfl rfl)
theorem dX3_show_12 : decode cX3_show 12 = .ok (.iconst 1, 1) := dk_4 (dk_at dksX3_show_0 12 rfl rfl)
theorem dX3_show_13 : decode cX3_show 13 = .ok (.goto 28, 3) := dk_167 0 28 (dk_at dksX3_show_0 13 rfl rfl)
theorem dX3_show_16 : decode cX3_show 16 = .ok (.aload_n 0, 1) := dk_42 (dk_at dksX3_show_0 16 rfl rfl)
theorem dX3_show_17 : decode cX3_show 17 = .ok (.getfield 7, 3) := dk_180 0 7 (dk_at dksX3_show_0 17 rfl rfl)
theorem dX3_show_20 : decode cX3_show 20 = .ok (.aload_n 0, 1) := dk_42 (dk_at dksX3_show_0 20 rfl rfl)
theorem dX3_show_21 : decode cX3_show 21 = .ok (.getfield 7, 3) := dk_180 0 7 (dk_at dksX3_show_0 21 rfl rfl)
theorem dX3_show_24 : decode cX3_show 24 = .ok (.bipush 105, 2) := dk_16 105 (dk_at dksX3_show_1 0 rfl rfl)
theorem dX3_show_26 : decode cX3_show 26 = .ok (.iload_n 1, 1) := dk_27 (dk_at dksX3_show_1 2 rfl rfl)
theorem dX3_show_27 : decode cX3_show 27 = .ok (.iadd, 1) := dk_96 (dk_at dksX3_show_1 3 rfl rfl)
theorem dX3_show_28 : decode cX3_show 28 = .ok (.iaload, 1) := dk_46 (dk_at dksX3_show_1 4 rfl rfl)
theorem dX3_show_29 : decode cX3_show 29 = .ok (.iload_n 2, 1) := dk_28 (dk_at dksX3_show_1 5 rfl rfl)
theorem dX3_show_30 : decode cX3_show 30 = .ok (.invokestatic 207, 3) := dk_184 0 207 (dk_at dksX3_show_1 6 rfl rfl)
theorem dX3_show_33 : decode cX3_show 33 = .ok (.ifCond .ne 7, 3) := dk_154 0 7 (dk_at dksX3_show_1 9 rfl rfl)
theorem dX3_show_36 : decode cX3_show 36 = .ok (.iconst 2, 1) := dk_5 (dk_at dksX3_show_1 12 rfl rfl)
theorem dX3_show_37 : decode cX3_show 37 = .ok (.goto 4, 3) := dk_167 0 4 (dk_at dksX3_show_1 13 rfl rfl)
theorem dX3_show_40 : decode cX3_show 40 = .ok (.iconst 0, 1) := dk_3 (dk_at dksX3_show_1 16 rfl rfl)
theorem dX3_show_41 : decode cX3_show 41 = .ok (.invokevirtual 150, 3) := dk_182 0 150 (dk_at dksX3_show_1 17 rfl rfl)
theorem dX3_show_44 : decode cX3_show 44 = .ok (.ifCond .eq 5, 3) := dk_153 0 5 (dk_at dksX3_show_1 20 rfl rfl)
theorem dX3_show_47 : decode cX3_show 47 = .ok (.iconst 0, 1) := dk_3 (dk_at dksX3_show_1 23 rfl rfl)
theorem dX3_show_48 : decode cX3_show 48 = .ok (.ireturn, 1) := dk_172 (dk_at dksX3_show_2 0 rfl rfl)
theorem dX3_show_49 : decode cX3_show 49 = .ok (.aload_n 0, 1) := dk_42 (dk_at dksX3_show_2 1 rfl rfl)
theorem dX3_show_50 : decode cX3_show 50 = .ok (.invokevirtual 287, 3) := dk_182 1 31 (dk_at dksX3_show_2 2 rfl rfl)
theorem dX3_show_53 : decode cX3_show 53 = .ok (.aload_n 0, 1) := dk_42 (dk_at dksX3_show_2 5 rfl rfl)
theorem dX3_show_54 : decode cX3_show 54 = .ok (.getfield 7, 3) := dk_180 0 7 (dk_at dksX3_show_2 6 rfl rfl)
theorem dX3_show_57 : decode cX3_show 57 = .ok (.iload_n 1, 1) := dk_27 (dk_at dksX3_show_2 9 rfl rfl)
theorem dX3_show_58 : decode cX3_show 58 = .ok (.iload_n 2, 1) := dk_28 (dk_at dksX3_show_2 10 rfl rfl)
theorem dX3_show_59 : decode cX3_show 59 = .ok (.invokestatic 297, 3) := dk_184 1 41 (dk_at dksX3_show_2 11 rfl rfl)
theorem dX3_show_62 : decode cX3_show 62 = .ok (.ireturn, 1) := dk_172 (dk_at dksX3_show_2 14 rfl rfl)
abbrev cX3_goShow : ByteArray := prog_10_method_46_code
def yX3_goShow : MethodName := ⟨RX3, "goShow", "([III)I"⟩
def dkwX3_goShow_0 : List UInt8 := [42, 17, 0, 201, 27, 96, 46, 62, 42, 17, 0, 201, 27, 96, 28, 79, 29, 172]
abbrev dktX3_goShow_0 : List UInt8 := dkwX3_goShow_0 ++ []
theorem dksX3_goShow_0 : cX3_goShow.data.toList.drop 0 = dktX3_goShow_0 := by decide +kernel
theorem dX3_goShow_0 : decode cX3_goShow 0 = .ok (.aload_n 0, 1) := dk_42 (dk_at dksX3_goShow_0 0 rfl rfl)
theorem dX3_goShow_1 : decode cX3_goShow 1 = .ok (.sipush 201, 3) := dk_17 0 201 (dk_at dksX3_goShow_0 1 rfl rfl)
theorem dX3_goShow_4 : decode cX3_goShow 4 = .ok (.iload_n 1, 1) := dk_27 (dk_at dksX3_goShow_0 4 rfl rfl)
theorem dX3_goShow_5 : decode cX3_goShow 5 = .ok (.iadd, 1) := dk_96 (dk_at dksX3_goShow_0 5 rfl rfl)
theorem dX3_goShow_6 : decode cX3_goShow 6 = .ok (.iaload, 1) := dk_46 (dk_at dksX3_goShow_0 6 rfl rfl)
theorem dX3_goShow_7 : decode cX3_goShow 7 = .ok (.istore_n 3, 1) := dk_62 (dk_at dksX3_goShow_0 7 rfl rfl)
theorem dX3_goShow_8 : decode cX3_goShow 8 = .ok (.aload_n 0, 1) := dk_42 (dk_at dksX3_goShow_0 8 rfl rfl)
theorem dX3_goShow_9 : decode cX3_goShow 9 = .ok (.sipush 201, 3) := dk_17 0 201 (dk_at dksX3_goShow_0 9 rfl rfl)
theorem dX3_goShow_12 : decode cX3_goShow 12 = .ok (.iload_n 1, 1) := dk_27 (dk_at dksX3_goShow_0 12 rfl rfl)
theorem dX3_goShow_13 : decode cX3_goShow 13 = .ok (.iadd, 1) := dk_96 (dk_at dksX3_goShow_0 13 rfl rfl)
theorem dX3_goShow_14 : decode cX3_goShow 14 = .ok (.iload_n 2, 1) := dk_28 (dk_at dksX3_goShow_0 14 rfl rfl)
theorem dX3_goShow_15 : decode cX3_goShow 15 = .ok (.iastore, 1) := dk_79 (dk_at dksX3_goShow_0 15 rfl rfl)
theorem dX3_goShow_16 : decode cX3_goShow 16 = .ok (.iload_n 3, 1) := dk_29 (dk_at dksX3_goShow_0 16 rfl rfl)
theorem dX3_goShow_17 : decode cX3_goShow 17 = .ok (.ireturn, 1) := dk_172 (dk_at dksX3_goShow_0 17 rfl rfl)
abbrev cX3_hang : ByteArray := prog_10_method_89_code
def yX3_hang : MethodName := ⟨RX3, "hang", "(II)I"⟩
def dkwX3_hang_1 : List UInt8 := [182, 0, 150, 153, 0, 5, 3, 172, 42, 182, 1, 31, 42, 180, 0, 7, 27, 28, 184, 0, 217, 172]
abbrev dktX3_hang_1 : List UInt8 := dkwX3_hang_1 ++ []
def dkwX3_hang_0 : List UInt8 := [42, 42, 180, 0, 7, 27, 184, 0, 214, 153, 0, 14, 28, 184, 1, 23, 153, 0, 7, 3, 167, 0, 4, 4]
abbrev dktX3_hang_0 : List UInt8 := dkwX3_hang_0 ++ dktX3_hang_1
theorem dksX3_hang_0 : cX3_hang.data.toList.drop 0 = dktX3_hang_0 := by decide +kernel
theorem dksX3_hang_1 : cX3_hang.data.toList.drop 24 = dktX3_hang_1 := dk_seg dksX3_hang_0 24 rfl rfl
theorem dX3_hang_0 : decode cX3_hang 0 = .ok (.aload_n 0, 1) := dk_42 (dk_at dksX3_hang_0 0 rfl rfl)
theorem dX3_hang_1 : decode cX3_hang 1 = .ok (.aload_n 0, 1) := dk_42 (dk_at dksX3_hang_0 1 rfl rfl)
theorem dX3_hang_2 : decode cX3_hang 2 = .ok (.getfield 7, 3) := dk_180 0 7 (dk_at dksX3_hang_0 2 rfl rfl)
theorem dX3_hang_5 : decode cX3_hang 5 = .ok (.iload_n 1, 1) := dk_27 (dk_at dksX3_hang_0 5 rfl rfl)
theorem dX3_hang_6 : decode cX3_hang 6 = .ok (.invokestatic 214, 3) := dk_184 0 214 (dk_at dksX3_hang_0 6 rfl rfl)
theorem dX3_hang_9 : decode cX3_hang 9 = .ok (.ifCond .eq 14, 3) := dk_153 0 14 (dk_at dksX3_hang_0 9 rfl rfl)
theorem dX3_hang_12 : decode cX3_hang 12 = .ok (.iload_n 2, 1) := dk_28 (dk_at dksX3_hang_0 12 rfl rfl)
theorem dX3_hang_13 : decode cX3_hang 13 = .ok (.invokestatic 279, 3) := dk_184 1 23 (dk_at dksX3_hang_0 13 rfl rfl)
theorem dX3_hang_16 : decode cX3_hang 16 = .ok (.ifCond .eq 7, 3) := dk_153 0 7 (dk_at dksX3_hang_0 16 rfl rfl)
theorem dX3_hang_19 : decode cX3_hang 19 = .ok (.iconst 0, 1) := dk_3 (dk_at dksX3_hang_0 19 rfl rfl)
theorem dX3_hang_20 : decode cX3_hang 20 = .ok (.goto 4, 3) := dk_167 0 4 (dk_at dksX3_hang_0 20 rfl rfl)
theorem dX3_hang_23 : decode cX3_hang 23 = .ok (.iconst 1, 1) := dk_4 (dk_at dksX3_hang_0 23 rfl rfl)
theorem dX3_hang_24 : decode cX3_hang 24 = .ok (.invokevirtual 150, 3) := dk_182 0 150 (dk_at dksX3_hang_1 0 rfl rfl)
theorem dX3_hang_27 : decode cX3_hang 27 = .ok (.ifCond .eq 5, 3) := dk_153 0 5 (dk_at dksX3_hang_1 3 rfl rfl)
theorem dX3_hang_30 : decode cX3_hang 30 = .ok (.iconst 0, 1) := dk_3 (dk_at dksX3_hang_1 6 rfl rfl)
theorem dX3_hang_31 : decode cX3_hang 31 = .ok (.ireturn, 1) := dk_172 (dk_at dksX3_hang_1 7 rfl rfl)
theorem dX3_hang_32 : decode cX3_hang 32 = .ok (.aload_n 0, 1) := dk_42 (dk_at dksX3_hang_1 8 rfl rfl)
theorem dX3_hang_33 : decode cX3_hang 33 = .ok (.invokevirtual 287, 3) := dk_182 1 31 (dk_at dksX3_hang_1 9 rfl rfl)
theorem dX3_hang_36 : decode cX3_hang 36 = .ok (.aload_n 0, 1) := dk_42 (dk_at dksX3_hang_1 12 rfl rfl)
theorem dX3_hang_37 : decode cX3_hang 37 = .ok (.getfield 7, 3) := dk_180 0 7 (dk_at dksX3_hang_1 13 rfl rfl)
theorem dX3_hang_40 : decode cX3_hang 40 = .ok (.iload_n 1, 1) := dk_27 (dk_at dksX3_hang_1 16 rfl rfl)
theorem dX3_hang_41 : decode cX3_hang 41 = .ok (.iload_n 2, 1) := dk_28 (dk_at dksX3_hang_1 17 rfl rfl)
theorem dX3_hang_42 : decode cX3_hang 42 = .ok (.invokestatic 217, 3) := dk_184 0 217 (dk_at dksX3_hang_1 18 rfl rfl)
theorem dX3_hang_45 : decode cX3_hang 45 = .ok (.ireturn, 1) := dk_172 (dk_at dksX3_hang_1 21 rfl rfl)
abbrev cX3_cut : ByteArray := prog_10_method_90_code
def yX3_cut : MethodName := ⟨RX3, "cut", "(I)I"⟩
def dkwX3_cut_2 : List UInt8 := [180, 0, 7, 27, 184, 1, 44, 172]
abbrev dktX3_cut_2 : List UInt8 := dkwX3_cut_2 ++ []
def dkwX3_cut_1 : List UInt8 := [96, 46, 2, 160, 0, 7, 5, 167, 0, 4, 3, 182, 0, 150, 153, 0, 5, 3, 172, 42, 182, 1, 31, 42]
abbrev dktX3_cut_1 : List UInt8 := dkwX3_cut_1 ++ dktX3_cut_2
def dkwX3_cut_0 : List UInt8 := [42, 42, 180, 0, 7, 27, 184, 0, 214, 154, 0, 7, 4, 167, 0, 22, 42, 180, 0, 7, 17, 0, 225, 27]
abbrev dktX3_cut_0 : List UInt8 := dkwX3_cut_0 ++ dktX3_cut_1
theorem dksX3_cut_0 : cX3_cut.data.toList.drop 0 = dktX3_cut_0 := by decide +kernel
theorem dksX3_cut_1 : cX3_cut.data.toList.drop 24 = dktX3_cut_1 := dk_seg dksX3_cut_0 24 rfl rfl
theorem dksX3_cut_2 : cX3_cut.data.toList.drop 48 = dktX3_cut_2 := dk_seg dksX3_cut_1 24 rfl rfl
theorem dX3_cut_0 : decode cX3_cut 0 = .ok (.aload_n 0, 1) := dk_42 (dk_at dksX3_cut_0 0 rfl rfl)
theorem dX3_cut_1 : decode cX3_cut 1 = .ok (.aload_n 0, 1) := dk_42 (dk_at dksX3_cut_0 1 rfl rfl)
theorem dX3_cut_2 : decode cX3_cut 2 = .ok (.getfield 7, 3) := dk_180 0 7 (dk_at dksX3_cut_0 2 rfl rfl)
theorem dX3_cut_5 : decode cX3_cut 5 = .ok (.iload_n 1, 1) := dk_27 (dk_at dksX3_cut_0 5 rfl rfl)
theorem dX3_cut_6 : decode cX3_cut 6 = .ok (.invokestatic 214, 3) := dk_184 0 214 (dk_at dksX3_cut_0 6 rfl rfl)
theorem dX3_cut_9 : decode cX3_cut 9 = .ok (.ifCond .ne 7, 3) := dk_154 0 7 (dk_at dksX3_cut_0 9 rfl rfl)
theorem dX3_cut_12 : decode cX3_cut 12 = .ok (.iconst 1, 1) := dk_4 (dk_at dksX3_cut_0 12 rfl rfl)
theorem dX3_cut_13 : decode cX3_cut 13 = .ok (.goto 22, 3) := dk_167 0 22 (dk_at dksX3_cut_0 13 rfl rfl)
theorem dX3_cut_16 : decode cX3_cut 16 = .ok (.aload_n 0, 1) := dk_42 (dk_at dksX3_cut_0 16 rfl rfl)
theorem dX3_cut_17 : decode cX3_cut 17 = .ok (.getfield 7, 3) := dk_180 0 7 (dk_at dksX3_cut_0 17 rfl rfl)
theorem dX3_cut_20 : decode cX3_cut 20 = .ok (.sipush 225, 3) := dk_17 0 225 (dk_at dksX3_cut_0 20 rfl rfl)
theorem dX3_cut_23 : decode cX3_cut 23 = .ok (.iload_n 1, 1) := dk_27 (dk_at dksX3_cut_0 23 rfl rfl)
theorem dX3_cut_24 : decode cX3_cut 24 = .ok (.iadd, 1) := dk_96 (dk_at dksX3_cut_1 0 rfl rfl)
theorem dX3_cut_25 : decode cX3_cut 25 = .ok (.iaload, 1) := dk_46 (dk_at dksX3_cut_1 1 rfl rfl)
theorem dX3_cut_26 : decode cX3_cut 26 = .ok (.iconst (-1), 1) := dk_2 (dk_at dksX3_cut_1 2 rfl rfl)
theorem dX3_cut_27 : decode cX3_cut 27 = .ok (.if_icmp .ne 7, 3) := dk_160 0 7 (dk_at dksX3_cut_1 3 rfl rfl)
theorem dX3_cut_30 : decode cX3_cut 30 = .ok (.iconst 2, 1) := dk_5 (dk_at dksX3_cut_1 6 rfl rfl)
theorem dX3_cut_31 : decode cX3_cut 31 = .ok (.goto 4, 3) := dk_167 0 4 (dk_at dksX3_cut_1 7 rfl rfl)
theorem dX3_cut_34 : decode cX3_cut 34 = .ok (.iconst 0, 1) := dk_3 (dk_at dksX3_cut_1 10 rfl rfl)
theorem dX3_cut_35 : decode cX3_cut 35 = .ok (.invokevirtual 150, 3) := dk_182 0 150 (dk_at dksX3_cut_1 11 rfl rfl)
theorem dX3_cut_38 : decode cX3_cut 38 = .ok (.ifCond .eq 5, 3) := dk_153 0 5 (dk_at dksX3_cut_1 14 rfl rfl)
theorem dX3_cut_41 : decode cX3_cut 41 = .ok (.iconst 0, 1) := dk_3 (dk_at dksX3_cut_1 17 rfl rfl)
theorem dX3_cut_42 : decode cX3_cut 42 = .ok (.ireturn, 1) := dk_172 (dk_at dksX3_cut_1 18 rfl rfl)
theorem dX3_cut_43 : decode cX3_cut 43 = .ok (.aload_n 0, 1) := dk_42 (dk_at dksX3_cut_1 19 rfl rfl)
theorem dX3_cut_44 : decode cX3_cut 44 = .ok (.invokevirtual 287, 3) := dk_182 1 31 (dk_at dksX3_cut_1 20 rfl rfl)
theorem dX3_cut_47 : decode cX3_cut 47 = .ok (.aload_n 0, 1) := dk_42 (dk_at dksX3_cut_1 23 rfl rfl)
theorem dX3_cut_48 : decode cX3_cut 48 = .ok (.getfield 7, 3) := dk_180 0 7 (dk_at dksX3_cut_2 0 rfl rfl)
theorem dX3_cut_51 : decode cX3_cut 51 = .ok (.iload_n 1, 1) := dk_27 (dk_at dksX3_cut_2 3 rfl rfl)
theorem dX3_cut_52 : decode cX3_cut 52 = .ok (.invokestatic 300, 3) := dk_184 1 44 (dk_at dksX3_cut_2 4 rfl rfl)
theorem dX3_cut_55 : decode cX3_cut 55 = .ok (.ireturn, 1) := dk_172 (dk_at dksX3_cut_2 7 rfl rfl)
abbrev cX3_goCut : ByteArray := prog_10_method_49_code
def yX3_goCut : MethodName := ⟨RX3, "goCut", "([II)I"⟩
def dkwX3_goCut_0 : List UInt8 := [42, 17, 0, 225, 27, 96, 46, 61, 42, 17, 0, 225, 27, 96, 2, 79, 28, 172]
abbrev dktX3_goCut_0 : List UInt8 := dkwX3_goCut_0 ++ []
theorem dksX3_goCut_0 : cX3_goCut.data.toList.drop 0 = dktX3_goCut_0 := by decide +kernel
theorem dX3_goCut_0 : decode cX3_goCut 0 = .ok (.aload_n 0, 1) := dk_42 (dk_at dksX3_goCut_0 0 rfl rfl)
theorem dX3_goCut_1 : decode cX3_goCut 1 = .ok (.sipush 225, 3) := dk_17 0 225 (dk_at dksX3_goCut_0 1 rfl rfl)
theorem dX3_goCut_4 : decode cX3_goCut 4 = .ok (.iload_n 1, 1) := dk_27 (dk_at dksX3_goCut_0 4 rfl rfl)
theorem dX3_goCut_5 : decode cX3_goCut 5 = .ok (.iadd, 1) := dk_96 (dk_at dksX3_goCut_0 5 rfl rfl)
theorem dX3_goCut_6 : decode cX3_goCut 6 = .ok (.iaload, 1) := dk_46 (dk_at dksX3_goCut_0 6 rfl rfl)
theorem dX3_goCut_7 : decode cX3_goCut 7 = .ok (.istore_n 2, 1) := dk_61 (dk_at dksX3_goCut_0 7 rfl rfl)
theorem dX3_goCut_8 : decode cX3_goCut 8 = .ok (.aload_n 0, 1) := dk_42 (dk_at dksX3_goCut_0 8 rfl rfl)
theorem dX3_goCut_9 : decode cX3_goCut 9 = .ok (.sipush 225, 3) := dk_17 0 225 (dk_at dksX3_goCut_0 9 rfl rfl)
theorem dX3_goCut_12 : decode cX3_goCut 12 = .ok (.iload_n 1, 1) := dk_27 (dk_at dksX3_goCut_0 12 rfl rfl)
theorem dX3_goCut_13 : decode cX3_goCut 13 = .ok (.iadd, 1) := dk_96 (dk_at dksX3_goCut_0 13 rfl rfl)
theorem dX3_goCut_14 : decode cX3_goCut 14 = .ok (.iconst (-1), 1) := dk_2 (dk_at dksX3_goCut_0 14 rfl rfl)
theorem dX3_goCut_15 : decode cX3_goCut 15 = .ok (.iastore, 1) := dk_79 (dk_at dksX3_goCut_0 15 rfl rfl)
theorem dX3_goCut_16 : decode cX3_goCut 16 = .ok (.iload_n 2, 1) := dk_28 (dk_at dksX3_goCut_0 16 rfl rfl)
theorem dX3_goCut_17 : decode cX3_goCut 17 = .ok (.ireturn, 1) := dk_172 (dk_at dksX3_goCut_0 17 rfl rfl)
abbrev cX3_shelve : ByteArray := prog_10_method_91_code
def yX3_shelve : MethodName := ⟨RX3, "shelve", "(III)I"⟩
def dkwX3_shelve_3 : List UInt8 := [42, 182, 1, 31, 42, 180, 0, 7, 27, 28, 29, 184, 1, 50, 172]
abbrev dktX3_shelve_3 : List UInt8 := dkwX3_shelve_3 ++ []
def dkwX3_shelve_2 : List UInt8 := [180, 0, 7, 27, 28, 184, 1, 47, 154, 0, 7, 6, 167, 0, 4, 3, 182, 0, 150, 153, 0, 5, 3, 172]
abbrev dktX3_shelve_2 : List UInt8 := dkwX3_shelve_2 ++ dktX3_shelve_3
def dkwX3_shelve_1 : List UInt8 := [133, 9, 42, 180, 0, 7, 27, 28, 184, 0, 116, 133, 184, 0, 49, 154, 0, 7, 5, 167, 0, 20, 42]
abbrev dktX3_shelve_1 : List UInt8 := dkwX3_shelve_1 ++ dktX3_shelve_2
def dkwX3_shelve_0 : List UInt8 := [42, 42, 180, 0, 7, 27, 184, 0, 214, 153, 0, 10, 28, 184, 1, 28, 154, 0, 7, 4, 167, 0, 43, 29]
abbrev dktX3_shelve_0 : List UInt8 := dkwX3_shelve_0 ++ dktX3_shelve_1
theorem dksX3_shelve_0 : cX3_shelve.data.toList.drop 0 = dktX3_shelve_0 := by decide +kernel
theorem dksX3_shelve_1 : cX3_shelve.data.toList.drop 24 = dktX3_shelve_1 := dk_seg dksX3_shelve_0 24 rfl rfl
theorem dksX3_shelve_2 : cX3_shelve.data.toList.drop 47 = dktX3_shelve_2 := dk_seg dksX3_shelve_1 23 rfl rfl
theorem dksX3_shelve_3 : cX3_shelve.data.toList.drop 71 = dktX3_shelve_3 := dk_seg dksX3_shelve_2 24 rfl rfl
theorem dX3_shelve_0 : decode cX3_shelve 0 = .ok (.aload_n 0, 1) := dk_42 (dk_at dksX3_shelve_0 0 rfl rfl)
theorem dX3_shelve_1 : decode cX3_shelve 1 = .ok (.aload_n 0, 1) := dk_42 (dk_at dksX3_shelve_0 1 rfl rfl)
theorem dX3_shelve_2 : decode cX3_shelve 2 = .ok (.getfield 7, 3) := dk_180 0 7 (dk_at dksX3_shelve_0 2 rfl rfl)
theorem dX3_shelve_5 : decode cX3_shelve 5 = .ok (.iload_n 1, 1) := dk_27 (dk_at dksX3_shelve_0 5 rfl rfl)
theorem dX3_shelve_6 : decode cX3_shelve 6 = .ok (.invokestatic 214, 3) := dk_184 0 214 (dk_at dksX3_shelve_0 6 rfl rfl)
theorem dX3_shelve_9 : decode cX3_shelve 9 = .ok (.ifCond .eq 10, 3) := dk_153 0 10 (dk_at dksX3_shelve_0 9 rfl rfl)
theorem dX3_shelve_12 : decode cX3_shelve 12 = .ok (.iload_n 2, 1) := dk_28 (dk_at dksX3_shelve_0 12 rfl rfl)
theorem dX3_shelve_13 : decode cX3_shelve 13 = .ok (.invokestatic 284, 3) := dk_184 1 28 (dk_at dksX3_shelve_0 13 rfl rfl)
theorem dX3_shelve_16 : decode cX3_shelve 16 = .ok (.ifCond .ne 7, 3) := dk_154 0 7 (dk_at dksX3_shelve_0 16 rfl rfl)
theorem dX3_shelve_19 : decode cX3_shelve 19 = .ok (.iconst 1, 1) := dk_4 (dk_at dksX3_shelve_0 19 rfl rfl)
theorem dX3_shelve_20 : decode cX3_shelve 20 = .ok (.goto 43, 3) := dk_167 0 43 (dk_at dksX3_shelve_0 20 rfl rfl)
theorem dX3_shelve_23 : decode cX3_shelve 23 = .ok (.iload_n 3, 1) := dk_29 (dk_at dksX3_shelve_0 23 rfl rfl)
theorem dX3_shelve_24 : decode cX3_shelve 24 = .ok (.i2l, 1) := dk_133 (dk_at dksX3_shelve_1 0 rfl rfl)
theorem dX3_shelve_25 : decode cX3_shelve 25 = .ok (.lconst 0, 1) := dk_9 (dk_at dksX3_shelve_1 1 rfl rfl)
theorem dX3_shelve_26 : decode cX3_shelve 26 = .ok (.aload_n 0, 1) := dk_42 (dk_at dksX3_shelve_1 2 rfl rfl)
theorem dX3_shelve_27 : decode cX3_shelve 27 = .ok (.getfield 7, 3) := dk_180 0 7 (dk_at dksX3_shelve_1 3 rfl rfl)
theorem dX3_shelve_30 : decode cX3_shelve 30 = .ok (.iload_n 1, 1) := dk_27 (dk_at dksX3_shelve_1 6 rfl rfl)
theorem dX3_shelve_31 : decode cX3_shelve 31 = .ok (.iload_n 2, 1) := dk_28 (dk_at dksX3_shelve_1 7 rfl rfl)
theorem dX3_shelve_32 : decode cX3_shelve 32 = .ok (.invokestatic 116, 3) := dk_184 0 116 (dk_at dksX3_shelve_1 8 rfl rfl)
theorem dX3_shelve_35 : decode cX3_shelve 35 = .ok (.i2l, 1) := dk_133 (dk_at dksX3_shelve_1 11 rfl rfl)
theorem dX3_shelve_36 : decode cX3_shelve 36 = .ok (.invokestatic 49, 3) := dk_184 0 49 (dk_at dksX3_shelve_1 12 rfl rfl)
theorem dX3_shelve_39 : decode cX3_shelve 39 = .ok (.ifCond .ne 7, 3) := dk_154 0 7 (dk_at dksX3_shelve_1 15 rfl rfl)
theorem dX3_shelve_42 : decode cX3_shelve 42 = .ok (.iconst 2, 1) := dk_5 (dk_at dksX3_shelve_1 18 rfl rfl)
theorem dX3_shelve_43 : decode cX3_shelve 43 = .ok (.goto 20, 3) := dk_167 0 20 (dk_at dksX3_shelve_1 19 rfl rfl)
theorem dX3_shelve_46 : decode cX3_shelve 46 = .ok (.aload_n 0, 1) := dk_42 (dk_at dksX3_shelve_1 22 rfl rfl)
theorem dX3_shelve_47 : decode cX3_shelve 47 = .ok (.getfield 7, 3) := dk_180 0 7 (dk_at dksX3_shelve_2 0 rfl rfl)
theorem dX3_shelve_50 : decode cX3_shelve 50 = .ok (.iload_n 1, 1) := dk_27 (dk_at dksX3_shelve_2 3 rfl rfl)
theorem dX3_shelve_51 : decode cX3_shelve 51 = .ok (.iload_n 2, 1) := dk_28 (dk_at dksX3_shelve_2 4 rfl rfl)
theorem dX3_shelve_52 : decode cX3_shelve 52 = .ok (.invokestatic 303, 3) := dk_184 1 47 (dk_at dksX3_shelve_2 5 rfl rfl)
theorem dX3_shelve_55 : decode cX3_shelve 55 = .ok (.ifCond .ne 7, 3) := dk_154 0 7 (dk_at dksX3_shelve_2 8 rfl rfl)
theorem dX3_shelve_58 : decode cX3_shelve 58 = .ok (.iconst 3, 1) := dk_6 (dk_at dksX3_shelve_2 11 rfl rfl)
theorem dX3_shelve_59 : decode cX3_shelve 59 = .ok (.goto 4, 3) := dk_167 0 4 (dk_at dksX3_shelve_2 12 rfl rfl)
theorem dX3_shelve_62 : decode cX3_shelve 62 = .ok (.iconst 0, 1) := dk_3 (dk_at dksX3_shelve_2 15 rfl rfl)
theorem dX3_shelve_63 : decode cX3_shelve 63 = .ok (.invokevirtual 150, 3) := dk_182 0 150 (dk_at dksX3_shelve_2 16 rfl rfl)
theorem dX3_shelve_66 : decode cX3_shelve 66 = .ok (.ifCond .eq 5, 3) := dk_153 0 5 (dk_at dksX3_shelve_2 19 rfl rfl)
theorem dX3_shelve_69 : decode cX3_shelve 69 = .ok (.iconst 0, 1) := dk_3 (dk_at dksX3_shelve_2 22 rfl rfl)
theorem dX3_shelve_70 : decode cX3_shelve 70 = .ok (.ireturn, 1) := dk_172 (dk_at dksX3_shelve_2 23 rfl rfl)
theorem dX3_shelve_71 : decode cX3_shelve 71 = .ok (.aload_n 0, 1) := dk_42 (dk_at dksX3_shelve_3 0 rfl rfl)
theorem dX3_shelve_72 : decode cX3_shelve 72 = .ok (.invokevirtual 287, 3) := dk_182 1 31 (dk_at dksX3_shelve_3 1 rfl rfl)
theorem dX3_shelve_75 : decode cX3_shelve 75 = .ok (.aload_n 0, 1) := dk_42 (dk_at dksX3_shelve_3 4 rfl rfl)
theorem dX3_shelve_76 : decode cX3_shelve 76 = .ok (.getfield 7, 3) := dk_180 0 7 (dk_at dksX3_shelve_3 5 rfl rfl)
theorem dX3_shelve_79 : decode cX3_shelve 79 = .ok (.iload_n 1, 1) := dk_27 (dk_at dksX3_shelve_3 8 rfl rfl)
theorem dX3_shelve_80 : decode cX3_shelve 80 = .ok (.iload_n 2, 1) := dk_28 (dk_at dksX3_shelve_3 9 rfl rfl)
theorem dX3_shelve_81 : decode cX3_shelve 81 = .ok (.iload_n 3, 1) := dk_29 (dk_at dksX3_shelve_3 10 rfl rfl)
theorem dX3_shelve_82 : decode cX3_shelve 82 = .ok (.invokestatic 306, 3) := dk_184 1 50 (dk_at dksX3_shelve_3 11 rfl rfl)
theorem dX3_shelve_85 : decode cX3_shelve 85 = .ok (.ireturn, 1) := dk_172 (dk_at dksX3_shelve_3 14 rfl rfl)
abbrev cX3_others : ByteArray := prog_10_method_30_code
def yX3_others : MethodName := ⟨RX3, "others", "([III)I"⟩
def dkwX3_others_0 : List UInt8 := [42, 17, 0, 249, 28, 96, 46, 42, 27, 184, 0, 113, 28, 160, 0, 7, 4, 167, 0, 4, 3, 100, 172]
abbrev dktX3_others_0 : List UInt8 := dkwX3_others_0 ++ []
theorem dksX3_others_0 : cX3_others.data.toList.drop 0 = dktX3_others_0 := by decide +kernel
theorem dX3_others_0 : decode cX3_others 0 = .ok (.aload_n 0, 1) := dk_42 (dk_at dksX3_others_0 0 rfl rfl)
theorem dX3_others_1 : decode cX3_others 1 = .ok (.sipush 249, 3) := dk_17 0 249 (dk_at dksX3_others_0 1 rfl rfl)
theorem dX3_others_4 : decode cX3_others 4 = .ok (.iload_n 2, 1) := dk_28 (dk_at dksX3_others_0 4 rfl rfl)
theorem dX3_others_5 : decode cX3_others 5 = .ok (.iadd, 1) := dk_96 (dk_at dksX3_others_0 5 rfl rfl)
theorem dX3_others_6 : decode cX3_others 6 = .ok (.iaload, 1) := dk_46 (dk_at dksX3_others_0 6 rfl rfl)
theorem dX3_others_7 : decode cX3_others 7 = .ok (.aload_n 0, 1) := dk_42 (dk_at dksX3_others_0 7 rfl rfl)
theorem dX3_others_8 : decode cX3_others 8 = .ok (.iload_n 1, 1) := dk_27 (dk_at dksX3_others_0 8 rfl rfl)
theorem dX3_others_9 : decode cX3_others 9 = .ok (.invokestatic 113, 3) := dk_184 0 113 (dk_at dksX3_others_0 9 rfl rfl)
theorem dX3_others_12 : decode cX3_others 12 = .ok (.iload_n 2, 1) := dk_28 (dk_at dksX3_others_0 12 rfl rfl)
theorem dX3_others_13 : decode cX3_others 13 = .ok (.if_icmp .ne 7, 3) := dk_160 0 7 (dk_at dksX3_others_0 13 rfl rfl)
theorem dX3_others_16 : decode cX3_others 16 = .ok (.iconst 1, 1) := dk_4 (dk_at dksX3_others_0 16 rfl rfl)
theorem dX3_others_17 : decode cX3_others 17 = .ok (.goto 4, 3) := dk_167 0 4 (dk_at dksX3_others_0 17 rfl rfl)
theorem dX3_others_20 : decode cX3_others 20 = .ok (.iconst 0, 1) := dk_3 (dk_at dksX3_others_0 20 rfl rfl)
theorem dX3_others_21 : decode cX3_others 21 = .ok (.isub, 1) := dk_100 (dk_at dksX3_others_0 21 rfl rfl)
theorem dX3_others_22 : decode cX3_others 22 = .ok (.ireturn, 1) := dk_172 (dk_at dksX3_others_0 22 rfl rfl)
abbrev cX3_canShelve : ByteArray := prog_10_method_31_code
def yX3_canShelve : MethodName := ⟨RX3, "canShelve", "([III)Z"⟩
def dkwX3_canShelve_4 : List UInt8 := [167, 255, 184, 29, 172]
abbrev dktX3_canShelve_4 : List UInt8 := dkwX3_canShelve_4 ++ []
def dkwX3_canShelve_3 : List UInt8 := [16, 25, 42, 16, 105, 27, 96, 46, 96, 46, 160, 0, 7, 4, 167, 0, 4, 3, 62, 132, 4, 1]
abbrev dktX3_canShelve_3 : List UInt8 := dkwX3_canShelve_3 ++ dktX3_canShelve_4
def dkwX3_canShelve_2 : List UInt8 := [29, 153, 0, 39, 21, 5, 27, 159, 0, 29, 42, 16, 25, 42, 16, 105, 21, 5, 96, 46, 96, 46, 42]
abbrev dktX3_canShelve_2 : List UInt8 := dkwX3_canShelve_2 ++ dktX3_canShelve_3
def dkwX3_canShelve_1 : List UInt8 := [17, 0, 249, 28, 96, 46, 162, 0, 66, 42, 17, 0, 255, 16, 6, 28, 104, 96, 21, 4, 96, 46, 54, 5]
abbrev dktX3_canShelve_1 : List UInt8 := dkwX3_canShelve_1 ++ dktX3_canShelve_2
def dkwX3_canShelve_0 : List UInt8 := [42, 27, 28, 184, 0, 116, 16, 6, 162, 0, 7, 4, 167, 0, 4, 3, 62, 3, 54, 4, 21, 4, 42]
abbrev dktX3_canShelve_0 : List UInt8 := dkwX3_canShelve_0 ++ dktX3_canShelve_1
theorem dksX3_canShelve_0 : cX3_canShelve.data.toList.drop 0 = dktX3_canShelve_0 := by decide +kernel
theorem dksX3_canShelve_1 : cX3_canShelve.data.toList.drop 23 = dktX3_canShelve_1 := dk_seg dksX3_canShelve_0 23 rfl rfl
theorem dksX3_canShelve_2 : cX3_canShelve.data.toList.drop 47 = dktX3_canShelve_2 := dk_seg dksX3_canShelve_1 24 rfl rfl
theorem dksX3_canShelve_3 : cX3_canShelve.data.toList.drop 70 = dktX3_canShelve_3 := dk_seg dksX3_canShelve_2 23 rfl rfl
theorem dksX3_canShelve_4 : cX3_canShelve.data.toList.drop 92 = dktX3_canShelve_4 := dk_seg dksX3_canShelve_3 22 rfl rfl
theorem dX3_canShelve_0 : decode cX3_canShelve 0 = .ok (.aload_n 0, 1) := dk_42 (dk_at dksX3_canShelve_0 0 rfl rfl)
theorem dX3_canShelve_1 : decode cX3_canShelve 1 = .ok (.iload_n 1, 1) := dk_27 (dk_at dksX3_canShelve_0 1 rfl rfl)
theorem dX3_canShelve_2 : decode cX3_canShelve 2 = .ok (.iload_n 2, 1) := dk_28 (dk_at dksX3_canShelve_0 2 rfl rfl)
theorem dX3_canShelve_3 : decode cX3_canShelve 3 = .ok (.invokestatic 116, 3) := dk_184 0 116 (dk_at dksX3_canShelve_0 3 rfl rfl)
theorem dX3_canShelve_6 : decode cX3_canShelve 6 = .ok (.bipush 6, 2) := dk_16 6 (dk_at dksX3_canShelve_0 6 rfl rfl)
theorem dX3_canShelve_8 : decode cX3_canShelve 8 = .ok (.if_icmp .ge 7, 3) := dk_162 0 7 (dk_at dksX3_canShelve_0 8 rfl rfl)
theorem dX3_canShelve_11 : decode cX3_canShelve 11 = .ok (.iconst 1, 1) := dk_4 (dk_at dksX3_canShelve_0 11 rfl rfl)
theorem dX3_canShelve_12 : decode cX3_canShelve 12 = .ok (.goto 4, 3) := dk_167 0 4 (dk_at dksX3_canShelve_0 12 rfl rfl)
theorem dX3_canShelve_15 : decode cX3_canShelve 15 = .ok (.iconst 0, 1) := dk_3 (dk_at dksX3_canShelve_0 15 rfl rfl)
theorem dX3_canShelve_16 : decode cX3_canShelve 16 = .ok (.istore_n 3, 1) := dk_62 (dk_at dksX3_canShelve_0 16 rfl rfl)
theorem dX3_canShelve_17 : decode cX3_canShelve 17 = .ok (.iconst 0, 1) := dk_3 (dk_at dksX3_canShelve_0 17 rfl rfl)
theorem dX3_canShelve_18 : decode cX3_canShelve 18 = .ok (.istore 4, 2) := dk_54 4 (dk_at dksX3_canShelve_0 18 rfl rfl)
theorem dX3_canShelve_20 : decode cX3_canShelve 20 = .ok (.iload 4, 2) := dk_21 4 (dk_at dksX3_canShelve_0 20 rfl rfl)
theorem dX3_canShelve_22 : decode cX3_canShelve 22 = .ok (.aload_n 0, 1) := dk_42 (dk_at dksX3_canShelve_0 22 rfl rfl)
theorem dX3_canShelve_23 : decode cX3_canShelve 23 = .ok (.sipush 249, 3) := dk_17 0 249 (dk_at dksX3_canShelve_1 0 rfl rfl)
theorem dX3_canShelve_26 : decode cX3_canShelve 26 = .ok (.iload_n 2, 1) := dk_28 (dk_at dksX3_canShelve_1 3 rfl rfl)
theorem dX3_canShelve_27 : decode cX3_canShelve 27 = .ok (.iadd, 1) := dk_96 (dk_at dksX3_canShelve_1 4 rfl rfl)
theorem dX3_canShelve_28 : decode cX3_canShelve 28 = .ok (.iaload, 1) := dk_46 (dk_at dksX3_canShelve_1 5 rfl rfl)
theorem dX3_canShelve_29 : decode cX3_canShelve 29 = .ok (.if_icmp .ge 66, 3) := dk_162 0 66 (dk_at dksX3_canShelve_1 6 rfl rfl)
theorem dX3_canShelve_32 : decode cX3_canShelve 32 = .ok (.aload_n 0, 1) := dk_42 (dk_at dksX3_canShelve_1 9 rfl rfl)
theorem dX3_canShelve_33 : decode cX3_canShelve 33 = .ok (.sipush 255, 3) := dk_17 0 255 (dk_at dksX3_canShelve_1 10 rfl rfl)
theorem dX3_canShelve_36 : decode cX3_canShelve 36 = .ok (.bipush 6, 2) := dk_16 6 (dk_at dksX3_canShelve_1 13 rfl rfl)
theorem dX3_canShelve_38 : decode cX3_canShelve 38 = .ok (.iload_n 2, 1) := dk_28 (dk_at dksX3_canShelve_1 15 rfl rfl)
theorem dX3_canShelve_39 : decode cX3_canShelve 39 = .ok (.imul, 1) := dk_104 (dk_at dksX3_canShelve_1 16 rfl rfl)
theorem dX3_canShelve_40 : decode cX3_canShelve 40 = .ok (.iadd, 1) := dk_96 (dk_at dksX3_canShelve_1 17 rfl rfl)
theorem dX3_canShelve_41 : decode cX3_canShelve 41 = .ok (.iload 4, 2) := dk_21 4 (dk_at dksX3_canShelve_1 18 rfl rfl)
theorem dX3_canShelve_43 : decode cX3_canShelve 43 = .ok (.iadd, 1) := dk_96 (dk_at dksX3_canShelve_1 20 rfl rfl)
theorem dX3_canShelve_44 : decode cX3_canShelve 44 = .ok (.iaload, 1) := dk_46 (dk_at dksX3_canShelve_1 21 rfl rfl)
theorem dX3_canShelve_45 : decode cX3_canShelve 45 = .ok (.istore 5, 2) := dk_54 5 (dk_at dksX3_canShelve_1 22 rfl rfl)
theorem dX3_canShelve_47 : decode cX3_canShelve 47 = .ok (.iload_n 3, 1) := dk_29 (dk_at dksX3_canShelve_2 0 rfl rfl)
theorem dX3_canShelve_48 : decode cX3_canShelve 48 = .ok (.ifCond .eq 39, 3) := dk_153 0 39 (dk_at dksX3_canShelve_2 1 rfl rfl)
theorem dX3_canShelve_51 : decode cX3_canShelve 51 = .ok (.iload 5, 2) := dk_21 5 (dk_at dksX3_canShelve_2 4 rfl rfl)
theorem dX3_canShelve_53 : decode cX3_canShelve 53 = .ok (.iload_n 1, 1) := dk_27 (dk_at dksX3_canShelve_2 6 rfl rfl)
theorem dX3_canShelve_54 : decode cX3_canShelve 54 = .ok (.if_icmp .eq 29, 3) := dk_159 0 29 (dk_at dksX3_canShelve_2 7 rfl rfl)
theorem dX3_canShelve_57 : decode cX3_canShelve 57 = .ok (.aload_n 0, 1) := dk_42 (dk_at dksX3_canShelve_2 10 rfl rfl)
theorem dX3_canShelve_58 : decode cX3_canShelve 58 = .ok (.bipush 25, 2) := dk_16 25 (dk_at dksX3_canShelve_2 11 rfl rfl)
theorem dX3_canShelve_60 : decode cX3_canShelve 60 = .ok (.aload_n 0, 1) := dk_42 (dk_at dksX3_canShelve_2 13 rfl rfl)
theorem dX3_canShelve_61 : decode cX3_canShelve 61 = .ok (.bipush 105, 2) := dk_16 105 (dk_at dksX3_canShelve_2 14 rfl rfl)
theorem dX3_canShelve_63 : decode cX3_canShelve 63 = .ok (.iload 5, 2) := dk_21 5 (dk_at dksX3_canShelve_2 16 rfl rfl)
theorem dX3_canShelve_65 : decode cX3_canShelve 65 = .ok (.iadd, 1) := dk_96 (dk_at dksX3_canShelve_2 18 rfl rfl)
theorem dX3_canShelve_66 : decode cX3_canShelve 66 = .ok (.iaload, 1) := dk_46 (dk_at dksX3_canShelve_2 19 rfl rfl)
theorem dX3_canShelve_67 : decode cX3_canShelve 67 = .ok (.iadd, 1) := dk_96 (dk_at dksX3_canShelve_2 20 rfl rfl)
theorem dX3_canShelve_68 : decode cX3_canShelve 68 = .ok (.iaload, 1) := dk_46 (dk_at dksX3_canShelve_2 21 rfl rfl)
theorem dX3_canShelve_69 : decode cX3_canShelve 69 = .ok (.aload_n 0, 1) := dk_42 (dk_at dksX3_canShelve_2 22 rfl rfl)
theorem dX3_canShelve_70 : decode cX3_canShelve 70 = .ok (.bipush 25, 2) := dk_16 25 (dk_at dksX3_canShelve_3 0 rfl rfl)
theorem dX3_canShelve_72 : decode cX3_canShelve 72 = .ok (.aload_n 0, 1) := dk_42 (dk_at dksX3_canShelve_3 2 rfl rfl)
theorem dX3_canShelve_73 : decode cX3_canShelve 73 = .ok (.bipush 105, 2) := dk_16 105 (dk_at dksX3_canShelve_3 3 rfl rfl)
theorem dX3_canShelve_75 : decode cX3_canShelve 75 = .ok (.iload_n 1, 1) := dk_27 (dk_at dksX3_canShelve_3 5 rfl rfl)
theorem dX3_canShelve_76 : decode cX3_canShelve 76 = .ok (.iadd, 1) := dk_96 (dk_at dksX3_canShelve_3 6 rfl rfl)
theorem dX3_canShelve_77 : decode cX3_canShelve 77 = .ok (.iaload, 1) := dk_46 (dk_at dksX3_canShelve_3 7 rfl rfl)
theorem dX3_canShelve_78 : decode cX3_canShelve 78 = .ok (.iadd, 1) := dk_96 (dk_at dksX3_canShelve_3 8 rfl rfl)
theorem dX3_canShelve_79 : decode cX3_canShelve 79 = .ok (.iaload, 1) := dk_46 (dk_at dksX3_canShelve_3 9 rfl rfl)
theorem dX3_canShelve_80 : decode cX3_canShelve 80 = .ok (.if_icmp .ne 7, 3) := dk_160 0 7 (dk_at dksX3_canShelve_3 10 rfl rfl)
theorem dX3_canShelve_83 : decode cX3_canShelve 83 = .ok (.iconst 1, 1) := dk_4 (dk_at dksX3_canShelve_3 13 rfl rfl)
theorem dX3_canShelve_84 : decode cX3_canShelve 84 = .ok (.goto 4, 3) := dk_167 0 4 (dk_at dksX3_canShelve_3 14 rfl rfl)
theorem dX3_canShelve_87 : decode cX3_canShelve 87 = .ok (.iconst 0, 1) := dk_3 (dk_at dksX3_canShelve_3 17 rfl rfl)
theorem dX3_canShelve_88 : decode cX3_canShelve 88 = .ok (.istore_n 3, 1) := dk_62 (dk_at dksX3_canShelve_3 18 rfl rfl)
theorem dX3_canShelve_89 : decode cX3_canShelve 89 = .ok (.iinc 4 1, 3) := dk_132 4 1 (dk_at dksX3_canShelve_3 19 rfl rfl)
theorem dX3_canShelve_92 : decode cX3_canShelve 92 = .ok (.goto (-72), 3) := dk_167 255 184 (dk_at dksX3_canShelve_4 0 rfl rfl)
theorem dX3_canShelve_95 : decode cX3_canShelve 95 = .ok (.iload_n 3, 1) := dk_29 (dk_at dksX3_canShelve_4 3 rfl rfl)
theorem dX3_canShelve_96 : decode cX3_canShelve 96 = .ok (.ireturn, 1) := dk_172 (dk_at dksX3_canShelve_4 4 rfl rfl)
abbrev cX3_goShelve : ByteArray := prog_10_method_32_code
def yX3_goShelve : MethodName := ⟨RX3, "goShelve", "([IIII)I"⟩
def dkwX3_goShelve_3 : List UInt8 := [96, 92, 46, 4, 96, 79, 42, 17, 0, 249, 28, 96, 46, 172]
abbrev dktX3_goShelve_3 : List UInt8 := dkwX3_goShelve_3 ++ []
def dkwX3_goShelve_2 : List UInt8 := [132, 4, 255, 167, 255, 219, 42, 17, 0, 255, 16, 6, 28, 104, 96, 29, 96, 27, 79, 42, 17, 0, 249, 28]
abbrev dktX3_goShelve_2 : List UInt8 := dkwX3_goShelve_2 ++ dktX3_goShelve_3
def dkwX3_goShelve_1 : List UInt8 := [16, 6, 28, 104, 96, 21, 4, 96, 42, 17, 0, 255, 16, 6, 28, 104, 96, 21, 4, 96, 4, 100, 46, 79]
abbrev dktX3_goShelve_1 : List UInt8 := dkwX3_goShelve_1 ++ dktX3_goShelve_2
def dkwX3_goShelve_0 : List UInt8 := [42, 27, 184, 0, 119, 42, 17, 0, 249, 28, 96, 46, 54, 4, 21, 4, 29, 164, 0, 37, 42, 17, 0, 255]
abbrev dktX3_goShelve_0 : List UInt8 := dkwX3_goShelve_0 ++ dktX3_goShelve_1
theorem dksX3_goShelve_0 : cX3_goShelve.data.toList.drop 0 = dktX3_goShelve_0 := by decide +kernel
theorem dksX3_goShelve_1 : cX3_goShelve.data.toList.drop 24 = dktX3_goShelve_1 := dk_seg dksX3_goShelve_0 24 rfl rfl
theorem dksX3_goShelve_2 : cX3_goShelve.data.toList.drop 48 = dktX3_goShelve_2 := dk_seg dksX3_goShelve_1 24 rfl rfl
theorem dksX3_goShelve_3 : cX3_goShelve.data.toList.drop 72 = dktX3_goShelve_3 := dk_seg dksX3_goShelve_2 24 rfl rfl
theorem dX3_goShelve_0 : decode cX3_goShelve 0 = .ok (.aload_n 0, 1) := dk_42 (dk_at dksX3_goShelve_0 0 rfl rfl)
theorem dX3_goShelve_1 : decode cX3_goShelve 1 = .ok (.iload_n 1, 1) := dk_27 (dk_at dksX3_goShelve_0 1 rfl rfl)
theorem dX3_goShelve_2 : decode cX3_goShelve 2 = .ok (.invokestatic 119, 3) := dk_184 0 119 (dk_at dksX3_goShelve_0 2 rfl rfl)
theorem dX3_goShelve_5 : decode cX3_goShelve 5 = .ok (.aload_n 0, 1) := dk_42 (dk_at dksX3_goShelve_0 5 rfl rfl)
theorem dX3_goShelve_6 : decode cX3_goShelve 6 = .ok (.sipush 249, 3) := dk_17 0 249 (dk_at dksX3_goShelve_0 6 rfl rfl)
theorem dX3_goShelve_9 : decode cX3_goShelve 9 = .ok (.iload_n 2, 1) := dk_28 (dk_at dksX3_goShelve_0 9 rfl rfl)
theorem dX3_goShelve_10 : decode cX3_goShelve 10 = .ok (.iadd, 1) := dk_96 (dk_at dksX3_goShelve_0 10 rfl rfl)
theorem dX3_goShelve_11 : decode cX3_goShelve 11 = .ok (.iaload, 1) := dk_46 (dk_at dksX3_goShelve_0 11 rfl rfl)
theorem dX3_goShelve_12 : decode cX3_goShelve 12 = .ok (.istore 4, 2) := dk_54 4 (dk_at dksX3_goShelve_0 12 rfl rfl)
theorem dX3_goShelve_14 : decode cX3_goShelve 14 = .ok (.iload 4, 2) := dk_21 4 (dk_at dksX3_goShelve_0 14 rfl rfl)
theorem dX3_goShelve_16 : decode cX3_goShelve 16 = .ok (.iload_n 3, 1) := dk_29 (dk_at dksX3_goShelve_0 16 rfl rfl)
theorem dX3_goShelve_17 : decode cX3_goShelve 17 = .ok (.if_icmp .le 37, 3) := dk_164 0 37 (dk_at dksX3_goShelve_0 17 rfl rfl)
theorem dX3_goShelve_20 : decode cX3_goShelve 20 = .ok (.aload_n 0, 1) := dk_42 (dk_at dksX3_goShelve_0 20 rfl rfl)
theorem dX3_goShelve_21 : decode cX3_goShelve 21 = .ok (.sipush 255, 3) := dk_17 0 255 (dk_at dksX3_goShelve_0 21 rfl rfl)
theorem dX3_goShelve_24 : decode cX3_goShelve 24 = .ok (.bipush 6, 2) := dk_16 6 (dk_at dksX3_goShelve_1 0 rfl rfl)
theorem dX3_goShelve_26 : decode cX3_goShelve 26 = .ok (.iload_n 2, 1) := dk_28 (dk_at dksX3_goShelve_1 2 rfl rfl)
theorem dX3_goShelve_27 : decode cX3_goShelve 27 = .ok (.imul, 1) := dk_104 (dk_at dksX3_goShelve_1 3 rfl rfl)
theorem dX3_goShelve_28 : decode cX3_goShelve 28 = .ok (.iadd, 1) := dk_96 (dk_at dksX3_goShelve_1 4 rfl rfl)
theorem dX3_goShelve_29 : decode cX3_goShelve 29 = .ok (.iload 4, 2) := dk_21 4 (dk_at dksX3_goShelve_1 5 rfl rfl)
theorem dX3_goShelve_31 : decode cX3_goShelve 31 = .ok (.iadd, 1) := dk_96 (dk_at dksX3_goShelve_1 7 rfl rfl)
theorem dX3_goShelve_32 : decode cX3_goShelve 32 = .ok (.aload_n 0, 1) := dk_42 (dk_at dksX3_goShelve_1 8 rfl rfl)
theorem dX3_goShelve_33 : decode cX3_goShelve 33 = .ok (.sipush 255, 3) := dk_17 0 255 (dk_at dksX3_goShelve_1 9 rfl rfl)
theorem dX3_goShelve_36 : decode cX3_goShelve 36 = .ok (.bipush 6, 2) := dk_16 6 (dk_at dksX3_goShelve_1 12 rfl rfl)
theorem dX3_goShelve_38 : decode cX3_goShelve 38 = .ok (.iload_n 2, 1) := dk_28 (dk_at dksX3_goShelve_1 14 rfl rfl)
theorem dX3_goShelve_39 : decode cX3_goShelve 39 = .ok (.imul, 1) := dk_104 (dk_at dksX3_goShelve_1 15 rfl rfl)
theorem dX3_goShelve_40 : decode cX3_goShelve 40 = .ok (.iadd, 1) := dk_96 (dk_at dksX3_goShelve_1 16 rfl rfl)
theorem dX3_goShelve_41 : decode cX3_goShelve 41 = .ok (.iload 4, 2) := dk_21 4 (dk_at dksX3_goShelve_1 17 rfl rfl)
theorem dX3_goShelve_43 : decode cX3_goShelve 43 = .ok (.iadd, 1) := dk_96 (dk_at dksX3_goShelve_1 19 rfl rfl)
theorem dX3_goShelve_44 : decode cX3_goShelve 44 = .ok (.iconst 1, 1) := dk_4 (dk_at dksX3_goShelve_1 20 rfl rfl)
theorem dX3_goShelve_45 : decode cX3_goShelve 45 = .ok (.isub, 1) := dk_100 (dk_at dksX3_goShelve_1 21 rfl rfl)
theorem dX3_goShelve_46 : decode cX3_goShelve 46 = .ok (.iaload, 1) := dk_46 (dk_at dksX3_goShelve_1 22 rfl rfl)
theorem dX3_goShelve_47 : decode cX3_goShelve 47 = .ok (.iastore, 1) := dk_79 (dk_at dksX3_goShelve_1 23 rfl rfl)
theorem dX3_goShelve_48 : decode cX3_goShelve 48 = .ok (.iinc 4 (-1), 3) := dk_132 4 255 (dk_at dksX3_goShelve_2 0 rfl rfl)
theorem dX3_goShelve_51 : decode cX3_goShelve 51 = .ok (.goto (-37), 3) := dk_167 255 219 (dk_at dksX3_goShelve_2 3 rfl rfl)
theorem dX3_goShelve_54 : decode cX3_goShelve 54 = .ok (.aload_n 0, 1) := dk_42 (dk_at dksX3_goShelve_2 6 rfl rfl)
theorem dX3_goShelve_55 : decode cX3_goShelve 55 = .ok (.sipush 255, 3) := dk_17 0 255 (dk_at dksX3_goShelve_2 7 rfl rfl)
theorem dX3_goShelve_58 : decode cX3_goShelve 58 = .ok (.bipush 6, 2) := dk_16 6 (dk_at dksX3_goShelve_2 10 rfl rfl)
theorem dX3_goShelve_60 : decode cX3_goShelve 60 = .ok (.iload_n 2, 1) := dk_28 (dk_at dksX3_goShelve_2 12 rfl rfl)
theorem dX3_goShelve_61 : decode cX3_goShelve 61 = .ok (.imul, 1) := dk_104 (dk_at dksX3_goShelve_2 13 rfl rfl)
theorem dX3_goShelve_62 : decode cX3_goShelve 62 = .ok (.iadd, 1) := dk_96 (dk_at dksX3_goShelve_2 14 rfl rfl)
theorem dX3_goShelve_63 : decode cX3_goShelve 63 = .ok (.iload_n 3, 1) := dk_29 (dk_at dksX3_goShelve_2 15 rfl rfl)
theorem dX3_goShelve_64 : decode cX3_goShelve 64 = .ok (.iadd, 1) := dk_96 (dk_at dksX3_goShelve_2 16 rfl rfl)
theorem dX3_goShelve_65 : decode cX3_goShelve 65 = .ok (.iload_n 1, 1) := dk_27 (dk_at dksX3_goShelve_2 17 rfl rfl)
theorem dX3_goShelve_66 : decode cX3_goShelve 66 = .ok (.iastore, 1) := dk_79 (dk_at dksX3_goShelve_2 18 rfl rfl)
theorem dX3_goShelve_67 : decode cX3_goShelve 67 = .ok (.aload_n 0, 1) := dk_42 (dk_at dksX3_goShelve_2 19 rfl rfl)
theorem dX3_goShelve_68 : decode cX3_goShelve 68 = .ok (.sipush 249, 3) := dk_17 0 249 (dk_at dksX3_goShelve_2 20 rfl rfl)
theorem dX3_goShelve_71 : decode cX3_goShelve 71 = .ok (.iload_n 2, 1) := dk_28 (dk_at dksX3_goShelve_2 23 rfl rfl)
theorem dX3_goShelve_72 : decode cX3_goShelve 72 = .ok (.iadd, 1) := dk_96 (dk_at dksX3_goShelve_3 0 rfl rfl)
theorem dX3_goShelve_73 : decode cX3_goShelve 73 = .ok (.dup2, 1) := dk_92 (dk_at dksX3_goShelve_3 1 rfl rfl)
theorem dX3_goShelve_74 : decode cX3_goShelve 74 = .ok (.iaload, 1) := dk_46 (dk_at dksX3_goShelve_3 2 rfl rfl)
theorem dX3_goShelve_75 : decode cX3_goShelve 75 = .ok (.iconst 1, 1) := dk_4 (dk_at dksX3_goShelve_3 3 rfl rfl)
theorem dX3_goShelve_76 : decode cX3_goShelve 76 = .ok (.iadd, 1) := dk_96 (dk_at dksX3_goShelve_3 4 rfl rfl)
theorem dX3_goShelve_77 : decode cX3_goShelve 77 = .ok (.iastore, 1) := dk_79 (dk_at dksX3_goShelve_3 5 rfl rfl)
theorem dX3_goShelve_78 : decode cX3_goShelve 78 = .ok (.aload_n 0, 1) := dk_42 (dk_at dksX3_goShelve_3 6 rfl rfl)
theorem dX3_goShelve_79 : decode cX3_goShelve 79 = .ok (.sipush 249, 3) := dk_17 0 249 (dk_at dksX3_goShelve_3 7 rfl rfl)
theorem dX3_goShelve_82 : decode cX3_goShelve 82 = .ok (.iload_n 2, 1) := dk_28 (dk_at dksX3_goShelve_3 10 rfl rfl)
theorem dX3_goShelve_83 : decode cX3_goShelve 83 = .ok (.iadd, 1) := dk_96 (dk_at dksX3_goShelve_3 11 rfl rfl)
theorem dX3_goShelve_84 : decode cX3_goShelve 84 = .ok (.iaload, 1) := dk_46 (dk_at dksX3_goShelve_3 12 rfl rfl)
theorem dX3_goShelve_85 : decode cX3_goShelve 85 = .ok (.ireturn, 1) := dk_172 (dk_at dksX3_goShelve_3 13 rfl rfl)
abbrev cX3_goTake : ByteArray := prog_10_method_29_code
def yX3_goTake : MethodName := ⟨RX3, "goTake", "([II)V"⟩
def dkwX3_goTake_3 : List UInt8 := [132, 4, 1, 167, 255, 213, 177]
abbrev dktX3_goTake_3 : List UInt8 := dkwX3_goTake_3 ++ []
def dkwX3_goTake_2 : List UInt8 := [16, 6, 28, 104, 96, 21, 4, 96, 42, 17, 0, 255, 16, 6, 28, 104, 96, 21, 4, 96, 4, 96, 46, 79]
abbrev dktX3_goTake_2 : List UInt8 := dkwX3_goTake_2 ++ dktX3_goTake_3
def dkwX3_goTake_1 : List UInt8 := [92, 46, 4, 100, 79, 29, 54, 4, 21, 4, 42, 17, 0, 249, 28, 96, 46, 162, 0, 37, 42, 17, 0, 255]
abbrev dktX3_goTake_1 : List UInt8 := dkwX3_goTake_1 ++ dktX3_goTake_2
def dkwX3_goTake_0 : List UInt8 := [42, 27, 184, 0, 113, 61, 28, 2, 159, 0, 70, 42, 27, 28, 184, 0, 110, 62, 42, 17, 0, 249, 28, 96]
abbrev dktX3_goTake_0 : List UInt8 := dkwX3_goTake_0 ++ dktX3_goTake_1
theorem dksX3_goTake_0 : cX3_goTake.data.toList.drop 0 = dktX3_goTake_0 := by decide +kernel
theorem dksX3_goTake_1 : cX3_goTake.data.toList.drop 24 = dktX3_goTake_1 := dk_seg dksX3_goTake_0 24 rfl rfl
theorem dksX3_goTake_2 : cX3_goTake.data.toList.drop 48 = dktX3_goTake_2 := dk_seg dksX3_goTake_1 24 rfl rfl
theorem dksX3_goTake_3 : cX3_goTake.data.toList.drop 72 = dktX3_goTake_3 := dk_seg dksX3_goTake_2 24 rfl rfl
theorem dX3_goTake_0 : decode cX3_goTake 0 = .ok (.aload_n 0, 1) := dk_42 (dk_at dksX3_goTake_0 0 rfl rfl)
theorem dX3_goTake_1 : decode cX3_goTake 1 = .ok (.iload_n 1, 1) := dk_27 (dk_at dksX3_goTake_0 1 rfl rfl)
theorem dX3_goTake_2 : decode cX3_goTake 2 = .ok (.invokestatic 113, 3) := dk_184 0 113 (dk_at dksX3_goTake_0 2 rfl rfl)
theorem dX3_goTake_5 : decode cX3_goTake 5 = .ok (.istore_n 2, 1) := dk_61 (dk_at dksX3_goTake_0 5 rfl rfl)
theorem dX3_goTake_6 : decode cX3_goTake 6 = .ok (.iload_n 2, 1) := dk_28 (dk_at dksX3_goTake_0 6 rfl rfl)
theorem dX3_goTake_7 : decode cX3_goTake 7 = .ok (.iconst (-1), 1) := dk_2 (dk_at dksX3_goTake_0 7 rfl rfl)
theorem dX3_goTake_8 : decode cX3_goTake 8 = .ok (.if_icmp .eq 70, 3) := dk_159 0 70 (dk_at dksX3_goTake_0 8 rfl rfl)
theorem dX3_goTake_11 : decode cX3_goTake 11 = .ok (.aload_n 0, 1) := dk_42 (dk_at dksX3_goTake_0 11 rfl rfl)
theorem dX3_goTake_12 : decode cX3_goTake 12 = .ok (.iload_n 1, 1) := dk_27 (dk_at dksX3_goTake_0 12 rfl rfl)
theorem dX3_goTake_13 : decode cX3_goTake 13 = .ok (.iload_n 2, 1) := dk_28 (dk_at dksX3_goTake_0 13 rfl rfl)
theorem dX3_goTake_14 : decode cX3_goTake 14 = .ok (.invokestatic 110, 3) := dk_184 0 110 (dk_at dksX3_goTake_0 14 rfl rfl)
theorem dX3_goTake_17 : decode cX3_goTake 17 = .ok (.istore_n 3, 1) := dk_62 (dk_at dksX3_goTake_0 17 rfl rfl)
theorem dX3_goTake_18 : decode cX3_goTake 18 = .ok (.aload_n 0, 1) := dk_42 (dk_at dksX3_goTake_0 18 rfl rfl)
theorem dX3_goTake_19 : decode cX3_goTake 19 = .ok (.sipush 249, 3) := dk_17 0 249 (dk_at dksX3_goTake_0 19 rfl rfl)
theorem dX3_goTake_22 : decode cX3_goTake 22 = .ok (.iload_n 2, 1) := dk_28 (dk_at dksX3_goTake_0 22 rfl rfl)
theorem dX3_goTake_23 : decode cX3_goTake 23 = .ok (.iadd, 1) := dk_96 (dk_at dksX3_goTake_0 23 rfl rfl)
theorem dX3_goTake_24 : decode cX3_goTake 24 = .ok (.dup2, 1) := dk_92 (dk_at dksX3_goTake_1 0 rfl rfl)
theorem dX3_goTake_25 : decode cX3_goTake 25 = .ok (.iaload, 1) := dk_46 (dk_at dksX3_goTake_1 1 rfl rfl)
theorem dX3_goTake_26 : decode cX3_goTake 26 = .ok (.iconst 1, 1) := dk_4 (dk_at dksX3_goTake_1 2 rfl rfl)
theorem dX3_goTake_27 : decode cX3_goTake 27 = .ok (.isub, 1) := dk_100 (dk_at dksX3_goTake_1 3 rfl rfl)
theorem dX3_goTake_28 : decode cX3_goTake 28 = .ok (.iastore, 1) := dk_79 (dk_at dksX3_goTake_1 4 rfl rfl)
theorem dX3_goTake_29 : decode cX3_goTake 29 = .ok (.iload_n 3, 1) := dk_29 (dk_at dksX3_goTake_1 5 rfl rfl)
theorem dX3_goTake_30 : decode cX3_goTake 30 = .ok (.istore 4, 2) := dk_54 4 (dk_at dksX3_goTake_1 6 rfl rfl)
theorem dX3_goTake_32 : decode cX3_goTake 32 = .ok (.iload 4, 2) := dk_21 4 (dk_at dksX3_goTake_1 8 rfl rfl)
theorem dX3_goTake_34 : decode cX3_goTake 34 = .ok (.aload_n 0, 1) := dk_42 (dk_at dksX3_goTake_1 10 rfl rfl)
theorem dX3_goTake_35 : decode cX3_goTake 35 = .ok (.sipush 249, 3) := dk_17 0 249 (dk_at dksX3_goTake_1 11 rfl rfl)
theorem dX3_goTake_38 : decode cX3_goTake 38 = .ok (.iload_n 2, 1) := dk_28 (dk_at dksX3_goTake_1 14 rfl rfl)
theorem dX3_goTake_39 : decode cX3_goTake 39 = .ok (.iadd, 1) := dk_96 (dk_at dksX3_goTake_1 15 rfl rfl)
theorem dX3_goTake_40 : decode cX3_goTake 40 = .ok (.iaload, 1) := dk_46 (dk_at dksX3_goTake_1 16 rfl rfl)
theorem dX3_goTake_41 : decode cX3_goTake 41 = .ok (.if_icmp .ge 37, 3) := dk_162 0 37 (dk_at dksX3_goTake_1 17 rfl rfl)
theorem dX3_goTake_44 : decode cX3_goTake 44 = .ok (.aload_n 0, 1) := dk_42 (dk_at dksX3_goTake_1 20 rfl rfl)
theorem dX3_goTake_45 : decode cX3_goTake 45 = .ok (.sipush 255, 3) := dk_17 0 255 (dk_at dksX3_goTake_1 21 rfl rfl)
theorem dX3_goTake_48 : decode cX3_goTake 48 = .ok (.bipush 6, 2) := dk_16 6 (dk_at dksX3_goTake_2 0 rfl rfl)
theorem dX3_goTake_50 : decode cX3_goTake 50 = .ok (.iload_n 2, 1) := dk_28 (dk_at dksX3_goTake_2 2 rfl rfl)
theorem dX3_goTake_51 : decode cX3_goTake 51 = .ok (.imul, 1) := dk_104 (dk_at dksX3_goTake_2 3 rfl rfl)
theorem dX3_goTake_52 : decode cX3_goTake 52 = .ok (.iadd, 1) := dk_96 (dk_at dksX3_goTake_2 4 rfl rfl)
theorem dX3_goTake_53 : decode cX3_goTake 53 = .ok (.iload 4, 2) := dk_21 4 (dk_at dksX3_goTake_2 5 rfl rfl)
theorem dX3_goTake_55 : decode cX3_goTake 55 = .ok (.iadd, 1) := dk_96 (dk_at dksX3_goTake_2 7 rfl rfl)
theorem dX3_goTake_56 : decode cX3_goTake 56 = .ok (.aload_n 0, 1) := dk_42 (dk_at dksX3_goTake_2 8 rfl rfl)
theorem dX3_goTake_57 : decode cX3_goTake 57 = .ok (.sipush 255, 3) := dk_17 0 255 (dk_at dksX3_goTake_2 9 rfl rfl)
theorem dX3_goTake_60 : decode cX3_goTake 60 = .ok (.bipush 6, 2) := dk_16 6 (dk_at dksX3_goTake_2 12 rfl rfl)
theorem dX3_goTake_62 : decode cX3_goTake 62 = .ok (.iload_n 2, 1) := dk_28 (dk_at dksX3_goTake_2 14 rfl rfl)
theorem dX3_goTake_63 : decode cX3_goTake 63 = .ok (.imul, 1) := dk_104 (dk_at dksX3_goTake_2 15 rfl rfl)
theorem dX3_goTake_64 : decode cX3_goTake 64 = .ok (.iadd, 1) := dk_96 (dk_at dksX3_goTake_2 16 rfl rfl)
theorem dX3_goTake_65 : decode cX3_goTake 65 = .ok (.iload 4, 2) := dk_21 4 (dk_at dksX3_goTake_2 17 rfl rfl)
theorem dX3_goTake_67 : decode cX3_goTake 67 = .ok (.iadd, 1) := dk_96 (dk_at dksX3_goTake_2 19 rfl rfl)
theorem dX3_goTake_68 : decode cX3_goTake 68 = .ok (.iconst 1, 1) := dk_4 (dk_at dksX3_goTake_2 20 rfl rfl)
theorem dX3_goTake_69 : decode cX3_goTake 69 = .ok (.iadd, 1) := dk_96 (dk_at dksX3_goTake_2 21 rfl rfl)
theorem dX3_goTake_70 : decode cX3_goTake 70 = .ok (.iaload, 1) := dk_46 (dk_at dksX3_goTake_2 22 rfl rfl)
theorem dX3_goTake_71 : decode cX3_goTake 71 = .ok (.iastore, 1) := dk_79 (dk_at dksX3_goTake_2 23 rfl rfl)
theorem dX3_goTake_72 : decode cX3_goTake 72 = .ok (.iinc 4 1, 3) := dk_132 4 1 (dk_at dksX3_goTake_3 0 rfl rfl)
theorem dX3_goTake_75 : decode cX3_goTake 75 = .ok (.goto (-43), 3) := dk_167 255 213 (dk_at dksX3_goTake_3 3 rfl rfl)
theorem dX3_goTake_78 : decode cX3_goTake 78 = .ok (.return_, 1) := dk_177 (dk_at dksX3_goTake_3 6 rfl rfl)
abbrev cX3_take : ByteArray := prog_10_method_92_code
def yX3_take : MethodName := ⟨RX3, "take", "(I)I"⟩
def dkwX3_take_2 : List UInt8 := [180, 0, 7, 27, 184, 0, 113, 61, 42, 180, 0, 7, 27, 184, 0, 119, 28, 172]
abbrev dktX3_take_2 : List UInt8 := dkwX3_take_2 ++ []
def dkwX3_take_1 : List UInt8 := [2, 160, 0, 7, 5, 167, 0, 4, 3, 182, 0, 150, 153, 0, 5, 3, 172, 42, 182, 1, 31, 42]
abbrev dktX3_take_1 : List UInt8 := dkwX3_take_1 ++ dktX3_take_2
def dkwX3_take_0 : List UInt8 := [42, 42, 180, 0, 7, 27, 184, 0, 214, 154, 0, 7, 4, 167, 0, 20, 42, 180, 0, 7, 27, 184, 0, 113]
abbrev dktX3_take_0 : List UInt8 := dkwX3_take_0 ++ dktX3_take_1
theorem dksX3_take_0 : cX3_take.data.toList.drop 0 = dktX3_take_0 := by decide +kernel
theorem dksX3_take_1 : cX3_take.data.toList.drop 24 = dktX3_take_1 := dk_seg dksX3_take_0 24 rfl rfl
theorem dksX3_take_2 : cX3_take.data.toList.drop 46 = dktX3_take_2 := dk_seg dksX3_take_1 22 rfl rfl
theorem dX3_take_0 : decode cX3_take 0 = .ok (.aload_n 0, 1) := dk_42 (dk_at dksX3_take_0 0 rfl rfl)
theorem dX3_take_1 : decode cX3_take 1 = .ok (.aload_n 0, 1) := dk_42 (dk_at dksX3_take_0 1 rfl rfl)
theorem dX3_take_2 : decode cX3_take 2 = .ok (.getfield 7, 3) := dk_180 0 7 (dk_at dksX3_take_0 2 rfl rfl)
theorem dX3_take_5 : decode cX3_take 5 = .ok (.iload_n 1, 1) := dk_27 (dk_at dksX3_take_0 5 rfl rfl)
theorem dX3_take_6 : decode cX3_take 6 = .ok (.invokestatic 214, 3) := dk_184 0 214 (dk_at dksX3_take_0 6 rfl rfl)
theorem dX3_take_9 : decode cX3_take 9 = .ok (.ifCond .ne 7, 3) := dk_154 0 7 (dk_at dksX3_take_0 9 rfl rfl)
theorem dX3_take_12 : decode cX3_take 12 = .ok (.iconst 1, 1) := dk_4 (dk_at dksX3_take_0 12 rfl rfl)
theorem dX3_take_13 : decode cX3_take 13 = .ok (.goto 20, 3) := dk_167 0 20 (dk_at dksX3_take_0 13 rfl rfl)
theorem dX3_take_16 : decode cX3_take 16 = .ok (.aload_n 0, 1) := dk_42 (dk_at dksX3_take_0 16 rfl rfl)
theorem dX3_take_17 : decode cX3_take 17 = .ok (.getfield 7, 3) := dk_180 0 7 (dk_at dksX3_take_0 17 rfl rfl)
theorem dX3_take_20 : decode cX3_take 20 = .ok (.iload_n 1, 1) := dk_27 (dk_at dksX3_take_0 20 rfl rfl)
theorem dX3_take_21 : decode cX3_take 21 = .ok (.invokestatic 113, 3) := dk_184 0 113 (dk_at dksX3_take_0 21 rfl rfl)
theorem dX3_take_24 : decode cX3_take 24 = .ok (.iconst (-1), 1) := dk_2 (dk_at dksX3_take_1 0 rfl rfl)
theorem dX3_take_25 : decode cX3_take 25 = .ok (.if_icmp .ne 7, 3) := dk_160 0 7 (dk_at dksX3_take_1 1 rfl rfl)
theorem dX3_take_28 : decode cX3_take 28 = .ok (.iconst 2, 1) := dk_5 (dk_at dksX3_take_1 4 rfl rfl)
theorem dX3_take_29 : decode cX3_take 29 = .ok (.goto 4, 3) := dk_167 0 4 (dk_at dksX3_take_1 5 rfl rfl)
theorem dX3_take_32 : decode cX3_take 32 = .ok (.iconst 0, 1) := dk_3 (dk_at dksX3_take_1 8 rfl rfl)
theorem dX3_take_33 : decode cX3_take 33 = .ok (.invokevirtual 150, 3) := dk_182 0 150 (dk_at dksX3_take_1 9 rfl rfl)
theorem dX3_take_36 : decode cX3_take 36 = .ok (.ifCond .eq 5, 3) := dk_153 0 5 (dk_at dksX3_take_1 12 rfl rfl)
theorem dX3_take_39 : decode cX3_take 39 = .ok (.iconst 0, 1) := dk_3 (dk_at dksX3_take_1 15 rfl rfl)
theorem dX3_take_40 : decode cX3_take 40 = .ok (.ireturn, 1) := dk_172 (dk_at dksX3_take_1 16 rfl rfl)
theorem dX3_take_41 : decode cX3_take 41 = .ok (.aload_n 0, 1) := dk_42 (dk_at dksX3_take_1 17 rfl rfl)
theorem dX3_take_42 : decode cX3_take 42 = .ok (.invokevirtual 287, 3) := dk_182 1 31 (dk_at dksX3_take_1 18 rfl rfl)
theorem dX3_take_45 : decode cX3_take 45 = .ok (.aload_n 0, 1) := dk_42 (dk_at dksX3_take_1 21 rfl rfl)
theorem dX3_take_46 : decode cX3_take 46 = .ok (.getfield 7, 3) := dk_180 0 7 (dk_at dksX3_take_2 0 rfl rfl)
theorem dX3_take_49 : decode cX3_take 49 = .ok (.iload_n 1, 1) := dk_27 (dk_at dksX3_take_2 3 rfl rfl)
theorem dX3_take_50 : decode cX3_take 50 = .ok (.invokestatic 113, 3) := dk_184 0 113 (dk_at dksX3_take_2 4 rfl rfl)
theorem dX3_take_53 : decode cX3_take 53 = .ok (.istore_n 2, 1) := dk_61 (dk_at dksX3_take_2 7 rfl rfl)
theorem dX3_take_54 : decode cX3_take 54 = .ok (.aload_n 0, 1) := dk_42 (dk_at dksX3_take_2 8 rfl rfl)
theorem dX3_take_55 : decode cX3_take 55 = .ok (.getfield 7, 3) := dk_180 0 7 (dk_at dksX3_take_2 9 rfl rfl)
theorem dX3_take_58 : decode cX3_take 58 = .ok (.iload_n 1, 1) := dk_27 (dk_at dksX3_take_2 12 rfl rfl)
theorem dX3_take_59 : decode cX3_take 59 = .ok (.invokestatic 119, 3) := dk_184 0 119 (dk_at dksX3_take_2 13 rfl rfl)
theorem dX3_take_62 : decode cX3_take 62 = .ok (.iload_n 2, 1) := dk_28 (dk_at dksX3_take_2 16 rfl rfl)
theorem dX3_take_63 : decode cX3_take 63 = .ok (.ireturn, 1) := dk_172 (dk_at dksX3_take_2 17 rfl rfl)
abbrev cX3_sort : ByteArray := prog_10_method_93_code
def yX3_sort : MethodName := ⟨RX3, "sort", "(I)I"⟩
def dkwX3_sort_1 : List UInt8 := [182, 1, 31, 42, 42, 180, 0, 7, 27, 182, 1, 53, 172]
abbrev dktX3_sort_1 : List UInt8 := dkwX3_sort_1 ++ []
def dkwX3_sort_0 : List UInt8 := [42, 27, 184, 1, 28, 153, 0, 7, 3, 167, 0, 4, 4, 182, 0, 150, 153, 0, 5, 3, 172, 42]
abbrev dktX3_sort_0 : List UInt8 := dkwX3_sort_0 ++ dktX3_sort_1
theorem dksX3_sort_0 : cX3_sort.data.toList.drop 0 = dktX3_sort_0 := by decide +kernel
theorem dksX3_sort_1 : cX3_sort.data.toList.drop 22 = dktX3_sort_1 := dk_seg dksX3_sort_0 22 rfl rfl
theorem dX3_sort_0 : decode cX3_sort 0 = .ok (.aload_n 0, 1) := dk_42 (dk_at dksX3_sort_0 0 rfl rfl)
theorem dX3_sort_1 : decode cX3_sort 1 = .ok (.iload_n 1, 1) := dk_27 (dk_at dksX3_sort_0 1 rfl rfl)
theorem dX3_sort_2 : decode cX3_sort 2 = .ok (.invokestatic 284, 3) := dk_184 1 28 (dk_at dksX3_sort_0 2 rfl rfl)
theorem dX3_sort_5 : decode cX3_sort 5 = .ok (.ifCond .eq 7, 3) := dk_153 0 7 (dk_at dksX3_sort_0 5 rfl rfl)
theorem dX3_sort_8 : decode cX3_sort 8 = .ok (.iconst 0, 1) := dk_3 (dk_at dksX3_sort_0 8 rfl rfl)
theorem dX3_sort_9 : decode cX3_sort 9 = .ok (.goto 4, 3) := dk_167 0 4 (dk_at dksX3_sort_0 9 rfl rfl)
theorem dX3_sort_12 : decode cX3_sort 12 = .ok (.iconst 1, 1) := dk_4 (dk_at dksX3_sort_0 12 rfl rfl)
theorem dX3_sort_13 : decode cX3_sort 13 = .ok (.invokevirtual 150, 3) := dk_182 0 150 (dk_at dksX3_sort_0 13 rfl rfl)
theorem dX3_sort_16 : decode cX3_sort 16 = .ok (.ifCond .eq 5, 3) := dk_153 0 5 (dk_at dksX3_sort_0 16 rfl rfl)
theorem dX3_sort_19 : decode cX3_sort 19 = .ok (.iconst 0, 1) := dk_3 (dk_at dksX3_sort_0 19 rfl rfl)
theorem dX3_sort_20 : decode cX3_sort 20 = .ok (.ireturn, 1) := dk_172 (dk_at dksX3_sort_0 20 rfl rfl)
theorem dX3_sort_21 : decode cX3_sort 21 = .ok (.aload_n 0, 1) := dk_42 (dk_at dksX3_sort_0 21 rfl rfl)
theorem dX3_sort_22 : decode cX3_sort 22 = .ok (.invokevirtual 287, 3) := dk_182 1 31 (dk_at dksX3_sort_1 0 rfl rfl)
theorem dX3_sort_25 : decode cX3_sort 25 = .ok (.aload_n 0, 1) := dk_42 (dk_at dksX3_sort_1 3 rfl rfl)
theorem dX3_sort_26 : decode cX3_sort 26 = .ok (.aload_n 0, 1) := dk_42 (dk_at dksX3_sort_1 4 rfl rfl)
theorem dX3_sort_27 : decode cX3_sort 27 = .ok (.getfield 7, 3) := dk_180 0 7 (dk_at dksX3_sort_1 5 rfl rfl)
theorem dX3_sort_30 : decode cX3_sort 30 = .ok (.iload_n 1, 1) := dk_27 (dk_at dksX3_sort_1 8 rfl rfl)
theorem dX3_sort_31 : decode cX3_sort 31 = .ok (.invokevirtual 309, 3) := dk_182 1 53 (dk_at dksX3_sort_1 9 rfl rfl)
theorem dX3_sort_34 : decode cX3_sort 34 = .ok (.ireturn, 1) := dk_172 (dk_at dksX3_sort_1 12 rfl rfl)
abbrev cX3_goSort : ByteArray := prog_10_method_36_code
def yX3_goSort : MethodName := ⟨RX3, "goSort", "([II)I"⟩
def dkwX3_goSort_7 : List UInt8 := [21, 5, 96, 42, 180, 0, 32, 21, 5, 46, 79, 132, 5, 1, 167, 255, 227, 29, 172]
abbrev dktX3_goSort_7 : List UInt8 := dkwX3_goSort_7 ++ []
def dkwX3_goSort_6 : List UInt8 := [132, 5, 1, 167, 255, 129, 3, 54, 5, 21, 5, 43, 17, 0, 249, 28, 96, 46, 162, 0, 23, 43, 21, 4]
abbrev dktX3_goSort_6 : List UInt8 := dkwX3_goSort_6 ++ dktX3_goSort_7
def dkwX3_goSort_5 : List UInt8 := [21, 4, 21, 5, 96, 46, 79, 29, 21, 6, 21, 5, 160, 0, 7, 3, 167, 0, 4, 4, 96, 62]
abbrev dktX3_goSort_5 : List UInt8 := dkwX3_goSort_5 ++ dktX3_goSort_6
def dkwX3_goSort_4 : List UInt8 := [162, 0, 7, 4, 167, 0, 4, 3, 96, 54, 6, 132, 8, 1, 167, 255, 196, 42, 180, 0, 32, 21, 6, 43]
abbrev dktX3_goSort_4 : List UInt8 := dkwX3_goSort_4 ++ dktX3_goSort_5
def dkwX3_goSort_3 : List UInt8 := [54, 9, 21, 6, 21, 9, 21, 7, 161, 0, 17, 21, 9, 21, 7, 160, 0, 14, 21, 8, 21, 5]
abbrev dktX3_goSort_3 : List UInt8 := dkwX3_goSort_3 ++ dktX3_goSort_4
def dkwX3_goSort_2 : List UInt8 := [21, 8, 43, 17, 0, 249, 28, 96, 46, 162, 0, 54, 42, 43, 43, 21, 4, 21, 8, 96, 46, 182, 0, 126]
abbrev dktX3_goSort_2 : List UInt8 := dkwX3_goSort_2 ++ dktX3_goSort_3
def dkwX3_goSort_1 : List UInt8 := [162, 0, 121, 3, 54, 6, 42, 43, 43, 21, 4, 21, 5, 96, 46, 182, 0, 126, 54, 7, 3, 54, 8]
abbrev dktX3_goSort_1 : List UInt8 := dkwX3_goSort_1 ++ dktX3_goSort_2
def dkwX3_goSort_0 : List UInt8 := [3, 62, 17, 0, 255, 16, 6, 28, 104, 96, 54, 4, 3, 54, 5, 21, 5, 43, 17, 0, 249, 28, 96, 46]
abbrev dktX3_goSort_0 : List UInt8 := dkwX3_goSort_0 ++ dktX3_goSort_1
theorem dksX3_goSort_0 : cX3_goSort.data.toList.drop 0 = dktX3_goSort_0 := by decide +kernel
theorem dksX3_goSort_1 : cX3_goSort.data.toList.drop 24 = dktX3_goSort_1 := dk_seg dksX3_goSort_0 24 rfl rfl
theorem dksX3_goSort_2 : cX3_goSort.data.toList.drop 47 = dktX3_goSort_2 := dk_seg dksX3_goSort_1 23 rfl rfl
theorem dksX3_goSort_3 : cX3_goSort.data.toList.drop 71 = dktX3_goSort_3 := dk_seg dksX3_goSort_2 24 rfl rfl
theorem dksX3_goSort_4 : cX3_goSort.data.toList.drop 93 = dktX3_goSort_4 := dk_seg dksX3_goSort_3 22 rfl rfl
theorem dksX3_goSort_5 : cX3_goSort.data.toList.drop 117 = dktX3_goSort_5 := dk_seg dksX3_goSort_4 24 rfl rfl
theorem dksX3_goSort_6 : cX3_goSort.data.toList.drop 139 = dktX3_goSort_6 := dk_seg dksX3_goSort_5 22 rfl rfl
theorem dksX3_goSort_7 : cX3_goSort.data.toList.drop 163 = dktX3_goSort_7 := dk_seg dksX3_goSort_6 24 rfl rfl
theorem dX3_goSort_0 : decode cX3_goSort 0 = .ok (.iconst 0, 1) := dk_3 (dk_at dksX3_goSort_0 0 rfl rfl)
theorem dX3_goSort_1 : decode cX3_goSort 1 = .ok (.istore_n 3, 1) := dk_62 (dk_at dksX3_goSort_0 1 rfl rfl)
theorem dX3_goSort_2 : decode cX3_goSort 2 = .ok (.sipush 255, 3) := dk_17 0 255 (dk_at dksX3_goSort_0 2 rfl rfl)
theorem dX3_goSort_5 : decode cX3_goSort 5 = .ok (.bipush 6, 2) := dk_16 6 (dk_at dksX3_goSort_0 5 rfl rfl)
theorem dX3_goSort_7 : decode cX3_goSort 7 = .ok (.iload_n 2, 1) := dk_28 (dk_at dksX3_goSort_0 7 rfl rfl)
theorem dX3_goSort_8 : decode cX3_goSort 8 = .ok (.imul, 1) := dk_104 (dk_at dksX3_goSort_0 8 rfl rfl)
theorem dX3_goSort_9 : decode cX3_goSort 9 = .ok (.iadd, 1) := dk_96 (dk_at dksX3_goSort_0 9 rfl rfl)
theorem dX3_goSort_10 : decode cX3_goSort 10 = .ok (.istore 4, 2) := dk_54 4 (dk_at dksX3_goSort_0 10 rfl rfl)
theorem dX3_goSort_12 : decode cX3_goSort 12 = .ok (.iconst 0, 1) := dk_3 (dk_at dksX3_goSort_0 12 rfl rfl)
theorem dX3_goSort_13 : decode cX3_goSort 13 = .ok (.istore 5, 2) := dk_54 5 (dk_at dksX3_goSort_0 13 rfl rfl)
theorem dX3_goSort_15 : decode cX3_goSort 15 = .ok (.iload 5, 2) := dk_21 5 (dk_at dksX3_goSort_0 15 rfl rfl)
theorem dX3_goSort_17 : decode cX3_goSort 17 = .ok (.aload_n 1, 1) := dk_43 (dk_at dksX3_goSort_0 17 rfl rfl)
theorem dX3_goSort_18 : decode cX3_goSort 18 = .ok (.sipush 249, 3) := dk_17 0 249 (dk_at dksX3_goSort_0 18 rfl rfl)
theorem dX3_goSort_21 : decode cX3_goSort 21 = .ok (.iload_n 2, 1) := dk_28 (dk_at dksX3_goSort_0 21 rfl rfl)
theorem dX3_goSort_22 : decode cX3_goSort 22 = .ok (.iadd, 1) := dk_96 (dk_at dksX3_goSort_0 22 rfl rfl)
theorem dX3_goSort_23 : decode cX3_goSort 23 = .ok (.iaload, 1) := dk_46 (dk_at dksX3_goSort_0 23 rfl rfl)
theorem dX3_goSort_24 : decode cX3_goSort 24 = .ok (.if_icmp .ge 121, 3) := dk_162 0 121 (dk_at dksX3_goSort_1 0 rfl rfl)
theorem dX3_goSort_27 : decode cX3_goSort 27 = .ok (.iconst 0, 1) := dk_3 (dk_at dksX3_goSort_1 3 rfl rfl)
theorem dX3_goSort_28 : decode cX3_goSort 28 = .ok (.istore 6, 2) := dk_54 6 (dk_at dksX3_goSort_1 4 rfl rfl)
theorem dX3_goSort_30 : decode cX3_goSort 30 = .ok (.aload_n 0, 1) := dk_42 (dk_at dksX3_goSort_1 6 rfl rfl)
theorem dX3_goSort_31 : decode cX3_goSort 31 = .ok (.aload_n 1, 1) := dk_43 (dk_at dksX3_goSort_1 7 rfl rfl)
theorem dX3_goSort_32 : decode cX3_goSort 32 = .ok (.aload_n 1, 1) := dk_43 (dk_at dksX3_goSort_1 8 rfl rfl)
theorem dX3_goSort_33 : decode cX3_goSort 33 = .ok (.iload 4, 2) := dk_21 4 (dk_at dksX3_goSort_1 9 rfl rfl)
theorem dX3_goSort_35 : decode cX3_goSort 35 = .ok (.iload 5, 2) := dk_21 5 (dk_at dksX3_goSort_1 11 rfl rfl)
theorem dX3_goSort_37 : decode cX3_goSort 37 = .ok (.iadd, 1) := dk_96 (dk_at dksX3_goSort_1 13 rfl rfl)
theorem dX3_goSort_38 : decode cX3_goSort 38 = .ok (.iaload, 1) := dk_46 (dk_at dksX3_goSort_1 14 rfl rfl)
theorem dX3_goSort_39 : decode cX3_goSort 39 = .ok (.invokevirtual 126, 3) := dk_182 0 126 (dk_at dksX3_goSort_1 15 rfl rfl)
theorem dX3_goSort_42 : decode cX3_goSort 42 = .ok (.istore 7, 2) := dk_54 7 (dk_at dksX3_goSort_1 18 rfl rfl)
theorem dX3_goSort_44 : decode cX3_goSort 44 = .ok (.iconst 0, 1) := dk_3 (dk_at dksX3_goSort_1 20 rfl rfl)
theorem dX3_goSort_45 : decode cX3_goSort 45 = .ok (.istore 8, 2) := dk_54 8 (dk_at dksX3_goSort_1 21 rfl rfl)
theorem dX3_goSort_47 : decode cX3_goSort 47 = .ok (.iload 8, 2) := dk_21 8 (dk_at dksX3_goSort_2 0 rfl rfl)
theorem dX3_goSort_49 : decode cX3_goSort 49 = .ok (.aload_n 1, 1) := dk_43 (dk_at dksX3_goSort_2 2 rfl rfl)
theorem dX3_goSort_50 : decode cX3_goSort 50 = .ok (.sipush 249, 3) := dk_17 0 249 (dk_at dksX3_goSort_2 3 rfl rfl)
theorem dX3_goSort_53 : decode cX3_goSort 53 = .ok (.iload_n 2, 1) := dk_28 (dk_at dksX3_goSort_2 6 rfl rfl)
theorem dX3_goSort_54 : decode cX3_goSort 54 = .ok (.iadd, 1) := dk_96 (dk_at dksX3_goSort_2 7 rfl rfl)
theorem dX3_goSort_55 : decode cX3_goSort 55 = .ok (.iaload, 1) := dk_46 (dk_at dksX3_goSort_2 8 rfl rfl)
theorem dX3_goSort_56 : decode cX3_goSort 56 = .ok (.if_icmp .ge 54, 3) := dk_162 0 54 (dk_at dksX3_goSort_2 9 rfl rfl)
theorem dX3_goSort_59 : decode cX3_goSort 59 = .ok (.aload_n 0, 1) := dk_42 (dk_at dksX3_goSort_2 12 rfl rfl)
theorem dX3_goSort_60 : decode cX3_goSort 60 = .ok (.aload_n 1, 1) := dk_43 (dk_at dksX3_goSort_2 13 rfl rfl)
theorem dX3_goSort_61 : decode cX3_goSort 61 = .ok (.aload_n 1, 1) := dk_43 (dk_at dksX3_goSort_2 14 rfl rfl)
theorem dX3_goSort_62 : decode cX3_goSort 62 = .ok (.iload 4, 2) := dk_21 4 (dk_at dksX3_goSort_2 15 rfl rfl)
theorem dX3_goSort_64 : decode cX3_goSort 64 = .ok (.iload 8, 2) := dk_21 8 (dk_at dksX3_goSort_2 17 rfl rfl)
theorem dX3_goSort_66 : decode cX3_goSort 66 = .ok (.iadd, 1) := dk_96 (dk_at dksX3_goSort_2 19 rfl rfl)
theorem dX3_goSort_67 : decode cX3_goSort 67 = .ok (.iaload, 1) := dk_46 (dk_at dksX3_goSort_2 20 rfl rfl)
theorem dX3_goSort_68 : decode cX3_goSort 68 = .ok (.invokevirtual 126, 3) := dk_182 0 126 (dk_at dksX3_goSort_2 21 rfl rfl)
theorem dX3_goSort_71 : decode cX3_goSort 71 = .ok (.istore 9, 2) := dk_54 9 (dk_at dksX3_goSort_3 0 rfl rfl)
theorem dX3_goSort_73 : decode cX3_goSort 73 = .ok (.iload 6, 2) := dk_21 6 (dk_at dksX3_goSort_3 2 rfl rfl)
theorem dX3_goSort_75 : decode cX3_goSort 75 = .ok (.iload 9, 2) := dk_21 9 (dk_at dksX3_goSort_3 4 rfl rfl)
theorem dX3_goSort_77 : decode cX3_goSort 77 = .ok (.iload 7, 2) := dk_21 7 (dk_at dksX3_goSort_3 6 rfl rfl)
theorem dX3_goSort_79 : decode cX3_goSort 79 = .ok (.if_icmp .lt 17, 3) := dk_161 0 17 (dk_at dksX3_goSort_3 8 rfl rfl)
theorem dX3_goSort_82 : decode cX3_goSort 82 = .ok (.iload 9, 2) := dk_21 9 (dk_at dksX3_goSort_3 11 rfl rfl)
theorem dX3_goSort_84 : decode cX3_goSort 84 = .ok (.iload 7, 2) := dk_21 7 (dk_at dksX3_goSort_3 13 rfl rfl)
theorem dX3_goSort_86 : decode cX3_goSort 86 = .ok (.if_icmp .ne 14, 3) := dk_160 0 14 (dk_at dksX3_goSort_3 15 rfl rfl)
theorem dX3_goSort_89 : decode cX3_goSort 89 = .ok (.iload 8, 2) := dk_21 8 (dk_at dksX3_goSort_3 18 rfl rfl)
theorem dX3_goSort_91 : decode cX3_goSort 91 = .ok (.iload 5, 2) := dk_21 5 (dk_at dksX3_goSort_3 20 rfl rfl)
theorem dX3_goSort_93 : decode cX3_goSort 93 = .ok (.if_icmp .ge 7, 3) := dk_162 0 7 (dk_at dksX3_goSort_4 0 rfl rfl)
theorem dX3_goSort_96 : decode cX3_goSort 96 = .ok (.iconst 1, 1) := dk_4 (dk_at dksX3_goSort_4 3 rfl rfl)
theorem dX3_goSort_97 : decode cX3_goSort 97 = .ok (.goto 4, 3) := dk_167 0 4 (dk_at dksX3_goSort_4 4 rfl rfl)
theorem dX3_goSort_100 : decode cX3_goSort 100 = .ok (.iconst 0, 1) := dk_3 (dk_at dksX3_goSort_4 7 rfl rfl)
theorem dX3_goSort_101 : decode cX3_goSort 101 = .ok (.iadd, 1) := dk_96 (dk_at dksX3_goSort_4 8 rfl rfl)
theorem dX3_goSort_102 : decode cX3_goSort 102 = .ok (.istore 6, 2) := dk_54 6 (dk_at dksX3_goSort_4 9 rfl rfl)
theorem dX3_goSort_104 : decode cX3_goSort 104 = .ok (.iinc 8 1, 3) := dk_132 8 1 (dk_at dksX3_goSort_4 11 rfl rfl)
theorem dX3_goSort_107 : decode cX3_goSort 107 = .ok (.goto (-60), 3) := dk_167 255 196 (dk_at dksX3_goSort_4 14 rfl rfl)
theorem dX3_goSort_110 : decode cX3_goSort 110 = .ok (.aload_n 0, 1) := dk_42 (dk_at dksX3_goSort_4 17 rfl rfl)
theorem dX3_goSort_111 : decode cX3_goSort 111 = .ok (.getfield 32, 3) := dk_180 0 32 (dk_at dksX3_goSort_4 18 rfl rfl)
theorem dX3_goSort_114 : decode cX3_goSort 114 = .ok (.iload 6, 2) := dk_21 6 (dk_at dksX3_goSort_4 21 rfl rfl)
theorem dX3_goSort_116 : decode cX3_goSort 116 = .ok (.aload_n 1, 1) := dk_43 (dk_at dksX3_goSort_4 23 rfl rfl)
theorem dX3_goSort_117 : decode cX3_goSort 117 = .ok (.iload 4, 2) := dk_21 4 (dk_at dksX3_goSort_5 0 rfl rfl)
theorem dX3_goSort_119 : decode cX3_goSort 119 = .ok (.iload 5, 2) := dk_21 5 (dk_at dksX3_goSort_5 2 rfl rfl)
theorem dX3_goSort_121 : decode cX3_goSort 121 = .ok (.iadd, 1) := dk_96 (dk_at dksX3_goSort_5 4 rfl rfl)
theorem dX3_goSort_122 : decode cX3_goSort 122 = .ok (.iaload, 1) := dk_46 (dk_at dksX3_goSort_5 5 rfl rfl)
theorem dX3_goSort_123 : decode cX3_goSort 123 = .ok (.iastore, 1) := dk_79 (dk_at dksX3_goSort_5 6 rfl rfl)
theorem dX3_goSort_124 : decode cX3_goSort 124 = .ok (.iload_n 3, 1) := dk_29 (dk_at dksX3_goSort_5 7 rfl rfl)
theorem dX3_goSort_125 : decode cX3_goSort 125 = .ok (.iload 6, 2) := dk_21 6 (dk_at dksX3_goSort_5 8 rfl rfl)
theorem dX3_goSort_127 : decode cX3_goSort 127 = .ok (.iload 5, 2) := dk_21 5 (dk_at dksX3_goSort_5 10 rfl rfl)
theorem dX3_goSort_129 : decode cX3_goSort 129 = .ok (.if_icmp .ne 7, 3) := dk_160 0 7 (dk_at dksX3_goSort_5 12 rfl rfl)
theorem dX3_goSort_132 : decode cX3_goSort 132 = .ok (.iconst 0, 1) := dk_3 (dk_at dksX3_goSort_5 15 rfl rfl)
theorem dX3_goSort_133 : decode cX3_goSort 133 = .ok (.goto 4, 3) := dk_167 0 4 (dk_at dksX3_goSort_5 16 rfl rfl)
theorem dX3_goSort_136 : decode cX3_goSort 136 = .ok (.iconst 1, 1) := dk_4 (dk_at dksX3_goSort_5 19 rfl rfl)
theorem dX3_goSort_137 : decode cX3_goSort 137 = .ok (.iadd, 1) := dk_96 (dk_at dksX3_goSort_5 20 rfl rfl)
theorem dX3_goSort_138 : decode cX3_goSort 138 = .ok (.istore_n 3, 1) := dk_62 (dk_at dksX3_goSort_5 21 rfl rfl)
theorem dX3_goSort_139 : decode cX3_goSort 139 = .ok (.iinc 5 1, 3) := dk_132 5 1 (dk_at dksX3_goSort_6 0 rfl rfl)
theorem dX3_goSort_142 : decode cX3_goSort 142 = .ok (.goto (-127), 3) := dk_167 255 129 (dk_at dksX3_goSort_6 3 rfl rfl)
theorem dX3_goSort_145 : decode cX3_goSort 145 = .ok (.iconst 0, 1) := dk_3 (dk_at dksX3_goSort_6 6 rfl rfl)
theorem dX3_goSort_146 : decode cX3_goSort 146 = .ok (.istore 5, 2) := dk_54 5 (dk_at dksX3_goSort_6 7 rfl rfl)
theorem dX3_goSort_148 : decode cX3_goSort 148 = .ok (.iload 5, 2) := dk_21 5 (dk_at dksX3_goSort_6 9 rfl rfl)
theorem dX3_goSort_150 : decode cX3_goSort 150 = .ok (.aload_n 1, 1) := dk_43 (dk_at dksX3_goSort_6 11 rfl rfl)
theorem dX3_goSort_151 : decode cX3_goSort 151 = .ok (.sipush 249, 3) := dk_17 0 249 (dk_at dksX3_goSort_6 12 rfl rfl)
theorem dX3_goSort_154 : decode cX3_goSort 154 = .ok (.iload_n 2, 1) := dk_28 (dk_at dksX3_goSort_6 15 rfl rfl)
theorem dX3_goSort_155 : decode cX3_goSort 155 = .ok (.iadd, 1) := dk_96 (dk_at dksX3_goSort_6 16 rfl rfl)
theorem dX3_goSort_156 : decode cX3_goSort 156 = .ok (.iaload, 1) := dk_46 (dk_at dksX3_goSort_6 17 rfl rfl)
theorem dX3_goSort_157 : decode cX3_goSort 157 = .ok (.if_icmp .ge 23, 3) := dk_162 0 23 (dk_at dksX3_goSort_6 18 rfl rfl)
theorem dX3_goSort_160 : decode cX3_goSort 160 = .ok (.aload_n 1, 1) := dk_43 (dk_at dksX3_goSort_6 21 rfl rfl)
theorem dX3_goSort_161 : decode cX3_goSort 161 = .ok (.iload 4, 2) := dk_21 4 (dk_at dksX3_goSort_6 22 rfl rfl)
theorem dX3_goSort_163 : decode cX3_goSort 163 = .ok (.iload 5, 2) := dk_21 5 (dk_at dksX3_goSort_7 0 rfl rfl)
theorem dX3_goSort_165 : decode cX3_goSort 165 = .ok (.iadd, 1) := dk_96 (dk_at dksX3_goSort_7 2 rfl rfl)
theorem dX3_goSort_166 : decode cX3_goSort 166 = .ok (.aload_n 0, 1) := dk_42 (dk_at dksX3_goSort_7 3 rfl rfl)
theorem dX3_goSort_167 : decode cX3_goSort 167 = .ok (.getfield 32, 3) := dk_180 0 32 (dk_at dksX3_goSort_7 4 rfl rfl)
theorem dX3_goSort_170 : decode cX3_goSort 170 = .ok (.iload 5, 2) := dk_21 5 (dk_at dksX3_goSort_7 7 rfl rfl)
theorem dX3_goSort_172 : decode cX3_goSort 172 = .ok (.iaload, 1) := dk_46 (dk_at dksX3_goSort_7 9 rfl rfl)
theorem dX3_goSort_173 : decode cX3_goSort 173 = .ok (.iastore, 1) := dk_79 (dk_at dksX3_goSort_7 10 rfl rfl)
theorem dX3_goSort_174 : decode cX3_goSort 174 = .ok (.iinc 5 1, 3) := dk_132 5 1 (dk_at dksX3_goSort_7 11 rfl rfl)
theorem dX3_goSort_177 : decode cX3_goSort 177 = .ok (.goto (-29), 3) := dk_167 255 227 (dk_at dksX3_goSort_7 14 rfl rfl)
theorem dX3_goSort_180 : decode cX3_goSort 180 = .ok (.iload_n 3, 1) := dk_29 (dk_at dksX3_goSort_7 17 rfl rfl)
theorem dX3_goSort_181 : decode cX3_goSort 181 = .ok (.ireturn, 1) := dk_172 (dk_at dksX3_goSort_7 18 rfl rfl)
abbrev cX3_rank : ByteArray := prog_10_method_35_code
def yX3_rank : MethodName := ⟨RX3, "rank", "([II)I"⟩
def dkwX3_rank_0 : List UInt8 := [42, 43, 28, 182, 0, 107, 158, 0, 9, 17, 7, 208, 167, 0, 9, 43, 28, 3, 184, 0, 80, 172]
abbrev dktX3_rank_0 : List UInt8 := dkwX3_rank_0 ++ []
theorem dksX3_rank_0 : cX3_rank.data.toList.drop 0 = dktX3_rank_0 := by decide +kernel
theorem dX3_rank_0 : decode cX3_rank 0 = .ok (.aload_n 0, 1) := dk_42 (dk_at dksX3_rank_0 0 rfl rfl)
theorem dX3_rank_1 : decode cX3_rank 1 = .ok (.aload_n 1, 1) := dk_43 (dk_at dksX3_rank_0 1 rfl rfl)
theorem dX3_rank_2 : decode cX3_rank 2 = .ok (.iload_n 2, 1) := dk_28 (dk_at dksX3_rank_0 2 rfl rfl)
theorem dX3_rank_3 : decode cX3_rank 3 = .ok (.invokevirtual 107, 3) := dk_182 0 107 (dk_at dksX3_rank_0 3 rfl rfl)
theorem dX3_rank_6 : decode cX3_rank 6 = .ok (.ifCond .le 9, 3) := dk_158 0 9 (dk_at dksX3_rank_0 6 rfl rfl)
theorem dX3_rank_9 : decode cX3_rank 9 = .ok (.sipush 2000, 3) := dk_17 7 208 (dk_at dksX3_rank_0 9 rfl rfl)
theorem dX3_rank_12 : decode cX3_rank 12 = .ok (.goto 9, 3) := dk_167 0 9 (dk_at dksX3_rank_0 12 rfl rfl)
theorem dX3_rank_15 : decode cX3_rank 15 = .ok (.aload_n 1, 1) := dk_43 (dk_at dksX3_rank_0 15 rfl rfl)
theorem dX3_rank_16 : decode cX3_rank 16 = .ok (.iload_n 2, 1) := dk_28 (dk_at dksX3_rank_0 16 rfl rfl)
theorem dX3_rank_17 : decode cX3_rank 17 = .ok (.iconst 0, 1) := dk_3 (dk_at dksX3_rank_0 17 rfl rfl)
theorem dX3_rank_18 : decode cX3_rank 18 = .ok (.invokestatic 80, 3) := dk_184 0 80 (dk_at dksX3_rank_0 18 rfl rfl)
theorem dX3_rank_21 : decode cX3_rank 21 = .ok (.ireturn, 1) := dk_172 (dk_at dksX3_rank_0 21 rfl rfl)
abbrev cX3_set : ByteArray := prog_10_method_94_code
def yX3_set : MethodName := ⟨RX3, "set", "(II)I"⟩
def dkwX3_set_2 : List UInt8 := [184, 1, 56, 172]
abbrev dktX3_set_2 : List UInt8 := dkwX3_set_2 ++ []
def dkwX3_set_1 : List UInt8 := [167, 0, 4, 4, 182, 0, 150, 153, 0, 5, 3, 172, 42, 182, 1, 31, 42, 180, 0, 7, 27, 28]
abbrev dktX3_set_1 : List UInt8 := dkwX3_set_1 ++ dktX3_set_2
def dkwX3_set_0 : List UInt8 := [42, 27, 133, 9, 10, 184, 0, 49, 153, 0, 19, 28, 133, 9, 20, 0, 137, 184, 0, 49, 153, 0, 7, 3]
abbrev dktX3_set_0 : List UInt8 := dkwX3_set_0 ++ dktX3_set_1
theorem dksX3_set_0 : cX3_set.data.toList.drop 0 = dktX3_set_0 := by decide +kernel
theorem dksX3_set_1 : cX3_set.data.toList.drop 24 = dktX3_set_1 := dk_seg dksX3_set_0 24 rfl rfl
theorem dksX3_set_2 : cX3_set.data.toList.drop 46 = dktX3_set_2 := dk_seg dksX3_set_1 22 rfl rfl
theorem dX3_set_0 : decode cX3_set 0 = .ok (.aload_n 0, 1) := dk_42 (dk_at dksX3_set_0 0 rfl rfl)
theorem dX3_set_1 : decode cX3_set 1 = .ok (.iload_n 1, 1) := dk_27 (dk_at dksX3_set_0 1 rfl rfl)
theorem dX3_set_2 : decode cX3_set 2 = .ok (.i2l, 1) := dk_133 (dk_at dksX3_set_0 2 rfl rfl)
theorem dX3_set_3 : decode cX3_set 3 = .ok (.lconst 0, 1) := dk_9 (dk_at dksX3_set_0 3 rfl rfl)
theorem dX3_set_4 : decode cX3_set 4 = .ok (.lconst 1, 1) := dk_10 (dk_at dksX3_set_0 4 rfl rfl)
theorem dX3_set_5 : decode cX3_set 5 = .ok (.invokestatic 49, 3) := dk_184 0 49 (dk_at dksX3_set_0 5 rfl rfl)
theorem dX3_set_8 : decode cX3_set 8 = .ok (.ifCond .eq 19, 3) := dk_153 0 19 (dk_at dksX3_set_0 8 rfl rfl)
theorem dX3_set_11 : decode cX3_set 11 = .ok (.iload_n 2, 1) := dk_28 (dk_at dksX3_set_0 11 rfl rfl)
theorem dX3_set_12 : decode cX3_set 12 = .ok (.i2l, 1) := dk_133 (dk_at dksX3_set_0 12 rfl rfl)
theorem dX3_set_13 : decode cX3_set 13 = .ok (.lconst 0, 1) := dk_9 (dk_at dksX3_set_0 13 rfl rfl)
theorem dX3_set_14 : decode cX3_set 14 = .ok (.ldc2_w 137, 3) := dk_20 0 137 (dk_at dksX3_set_0 14 rfl rfl)
theorem dX3_set_17 : decode cX3_set 17 = .ok (.invokestatic 49, 3) := dk_184 0 49 (dk_at dksX3_set_0 17 rfl rfl)
theorem dX3_set_20 : decode cX3_set 20 = .ok (.ifCond .eq 7, 3) := dk_153 0 7 (dk_at dksX3_set_0 20 rfl rfl)
theorem dX3_set_23 : decode cX3_set 23 = .ok (.iconst 0, 1) := dk_3 (dk_at dksX3_set_0 23 rfl rfl)
theorem dX3_set_24 : decode cX3_set 24 = .ok (.goto 4, 3) := dk_167 0 4 (dk_at dksX3_set_1 0 rfl rfl)
theorem dX3_set_27 : decode cX3_set 27 = .ok (.iconst 1, 1) := dk_4 (dk_at dksX3_set_1 3 rfl rfl)
theorem dX3_set_28 : decode cX3_set 28 = .ok (.invokevirtual 150, 3) := dk_182 0 150 (dk_at dksX3_set_1 4 rfl rfl)
theorem dX3_set_31 : decode cX3_set 31 = .ok (.ifCond .eq 5, 3) := dk_153 0 5 (dk_at dksX3_set_1 7 rfl rfl)
theorem dX3_set_34 : decode cX3_set 34 = .ok (.iconst 0, 1) := dk_3 (dk_at dksX3_set_1 10 rfl rfl)
theorem dX3_set_35 : decode cX3_set 35 = .ok (.ireturn, 1) := dk_172 (dk_at dksX3_set_1 11 rfl rfl)
theorem dX3_set_36 : decode cX3_set 36 = .ok (.aload_n 0, 1) := dk_42 (dk_at dksX3_set_1 12 rfl rfl)
theorem dX3_set_37 : decode cX3_set 37 = .ok (.invokevirtual 287, 3) := dk_182 1 31 (dk_at dksX3_set_1 13 rfl rfl)
theorem dX3_set_40 : decode cX3_set 40 = .ok (.aload_n 0, 1) := dk_42 (dk_at dksX3_set_1 16 rfl rfl)
theorem dX3_set_41 : decode cX3_set 41 = .ok (.getfield 7, 3) := dk_180 0 7 (dk_at dksX3_set_1 17 rfl rfl)
theorem dX3_set_44 : decode cX3_set 44 = .ok (.iload_n 1, 1) := dk_27 (dk_at dksX3_set_1 20 rfl rfl)
theorem dX3_set_45 : decode cX3_set 45 = .ok (.iload_n 2, 1) := dk_28 (dk_at dksX3_set_1 21 rfl rfl)
theorem dX3_set_46 : decode cX3_set 46 = .ok (.invokestatic 312, 3) := dk_184 1 56 (dk_at dksX3_set_2 0 rfl rfl)
theorem dX3_set_49 : decode cX3_set 49 = .ok (.ireturn, 1) := dk_172 (dk_at dksX3_set_2 3 rfl rfl)
abbrev cX3_goSet : ByteArray := prog_10_method_50_code
def yX3_goSet : MethodName := ⟨RX3, "goSet", "([III)I"⟩
def dkwX3_goSet_0 : List UInt8 := [42, 6, 27, 96, 46, 62, 42, 6, 27, 96, 28, 79, 29, 172]
abbrev dktX3_goSet_0 : List UInt8 := dkwX3_goSet_0 ++ []
theorem dksX3_goSet_0 : cX3_goSet.data.toList.drop 0 = dktX3_goSet_0 := by decide +kernel
theorem dX3_goSet_0 : decode cX3_goSet 0 = .ok (.aload_n 0, 1) := dk_42 (dk_at dksX3_goSet_0 0 rfl rfl)
theorem dX3_goSet_1 : decode cX3_goSet 1 = .ok (.iconst 3, 1) := dk_6 (dk_at dksX3_goSet_0 1 rfl rfl)
theorem dX3_goSet_2 : decode cX3_goSet 2 = .ok (.iload_n 1, 1) := dk_27 (dk_at dksX3_goSet_0 2 rfl rfl)
theorem dX3_goSet_3 : decode cX3_goSet 3 = .ok (.iadd, 1) := dk_96 (dk_at dksX3_goSet_0 3 rfl rfl)
theorem dX3_goSet_4 : decode cX3_goSet 4 = .ok (.iaload, 1) := dk_46 (dk_at dksX3_goSet_0 4 rfl rfl)
theorem dX3_goSet_5 : decode cX3_goSet 5 = .ok (.istore_n 3, 1) := dk_62 (dk_at dksX3_goSet_0 5 rfl rfl)
theorem dX3_goSet_6 : decode cX3_goSet 6 = .ok (.aload_n 0, 1) := dk_42 (dk_at dksX3_goSet_0 6 rfl rfl)
theorem dX3_goSet_7 : decode cX3_goSet 7 = .ok (.iconst 3, 1) := dk_6 (dk_at dksX3_goSet_0 7 rfl rfl)
theorem dX3_goSet_8 : decode cX3_goSet 8 = .ok (.iload_n 1, 1) := dk_27 (dk_at dksX3_goSet_0 8 rfl rfl)
theorem dX3_goSet_9 : decode cX3_goSet 9 = .ok (.iadd, 1) := dk_96 (dk_at dksX3_goSet_0 9 rfl rfl)
theorem dX3_goSet_10 : decode cX3_goSet 10 = .ok (.iload_n 2, 1) := dk_28 (dk_at dksX3_goSet_0 10 rfl rfl)
theorem dX3_goSet_11 : decode cX3_goSet 11 = .ok (.iastore, 1) := dk_79 (dk_at dksX3_goSet_0 11 rfl rfl)
theorem dX3_goSet_12 : decode cX3_goSet 12 = .ok (.iload_n 3, 1) := dk_29 (dk_at dksX3_goSet_0 12 rfl rfl)
theorem dX3_goSet_13 : decode cX3_goSet 13 = .ok (.ireturn, 1) := dk_172 (dk_at dksX3_goSet_0 13 rfl rfl)
abbrev cX3_undo : ByteArray := prog_10_method_95_code
def yX3_undo : MethodName := ⟨RX3, "undo", "()I"⟩
def dkwX3_undo_3 : List UInt8 := [180, 0, 142, 172]
abbrev dktX3_undo_3 : List UInt8 := dkwX3_undo_3 ++ []
def dkwX3_undo_2 : List UInt8 := [180, 0, 19, 17, 1, 35, 42, 180, 0, 142, 104, 27, 96, 46, 79, 132, 1, 1, 167, 255, 225, 42]
abbrev dktX3_undo_2 : List UInt8 := dkwX3_undo_2 ++ dktX3_undo_3
def dkwX3_undo_1 : List UInt8 := [180, 0, 142, 4, 100, 181, 0, 142, 3, 60, 27, 17, 1, 35, 162, 0, 30, 42, 180, 0, 7, 27, 42]
abbrev dktX3_undo_1 : List UInt8 := dkwX3_undo_1 ++ dktX3_undo_2
def dkwX3_undo_0 : List UInt8 := [42, 42, 180, 0, 142, 154, 0, 7, 4, 167, 0, 4, 3, 182, 0, 150, 153, 0, 5, 3, 172, 42, 89]
abbrev dktX3_undo_0 : List UInt8 := dkwX3_undo_0 ++ dktX3_undo_1
theorem dksX3_undo_0 : cX3_undo.data.toList.drop 0 = dktX3_undo_0 := by decide +kernel
theorem dksX3_undo_1 : cX3_undo.data.toList.drop 23 = dktX3_undo_1 := dk_seg dksX3_undo_0 23 rfl rfl
theorem dksX3_undo_2 : cX3_undo.data.toList.drop 46 = dktX3_undo_2 := dk_seg dksX3_undo_1 23 rfl rfl
theorem dksX3_undo_3 : cX3_undo.data.toList.drop 68 = dktX3_undo_3 := dk_seg dksX3_undo_2 22 rfl rfl
theorem dX3_undo_0 : decode cX3_undo 0 = .ok (.aload_n 0, 1) := dk_42 (dk_at dksX3_undo_0 0 rfl rfl)
theorem dX3_undo_1 : decode cX3_undo 1 = .ok (.aload_n 0, 1) := dk_42 (dk_at dksX3_undo_0 1 rfl rfl)
theorem dX3_undo_2 : decode cX3_undo 2 = .ok (.getfield 142, 3) := dk_180 0 142 (dk_at dksX3_undo_0 2 rfl rfl)
theorem dX3_undo_5 : decode cX3_undo 5 = .ok (.ifCond .ne 7, 3) := dk_154 0 7 (dk_at dksX3_undo_0 5 rfl rfl)
theorem dX3_undo_8 : decode cX3_undo 8 = .ok (.iconst 1, 1) := dk_4 (dk_at dksX3_undo_0 8 rfl rfl)
theorem dX3_undo_9 : decode cX3_undo 9 = .ok (.goto 4, 3) := dk_167 0 4 (dk_at dksX3_undo_0 9 rfl rfl)
theorem dX3_undo_12 : decode cX3_undo 12 = .ok (.iconst 0, 1) := dk_3 (dk_at dksX3_undo_0 12 rfl rfl)
theorem dX3_undo_13 : decode cX3_undo 13 = .ok (.invokevirtual 150, 3) := dk_182 0 150 (dk_at dksX3_undo_0 13 rfl rfl)
theorem dX3_undo_16 : decode cX3_undo 16 = .ok (.ifCond .eq 5, 3) := dk_153 0 5 (dk_at dksX3_undo_0 16 rfl rfl)
theorem dX3_undo_19 : decode cX3_undo 19 = .ok (.iconst 0, 1) := dk_3 (dk_at dksX3_undo_0 19 rfl rfl)
theorem dX3_undo_20 : decode cX3_undo 20 = .ok (.ireturn, 1) := dk_172 (dk_at dksX3_undo_0 20 rfl rfl)
theorem dX3_undo_21 : decode cX3_undo 21 = .ok (.aload_n 0, 1) := dk_42 (dk_at dksX3_undo_0 21 rfl rfl)
theorem dX3_undo_22 : decode cX3_undo 22 = .ok (.dup, 1) := dk_89 (dk_at dksX3_undo_0 22 rfl rfl)
theorem dX3_undo_23 : decode cX3_undo 23 = .ok (.getfield 142, 3) := dk_180 0 142 (dk_at dksX3_undo_1 0 rfl rfl)
theorem dX3_undo_26 : decode cX3_undo 26 = .ok (.iconst 1, 1) := dk_4 (dk_at dksX3_undo_1 3 rfl rfl)
theorem dX3_undo_27 : decode cX3_undo 27 = .ok (.isub, 1) := dk_100 (dk_at dksX3_undo_1 4 rfl rfl)
theorem dX3_undo_28 : decode cX3_undo 28 = .ok (.putfield 142, 3) := dk_181 0 142 (dk_at dksX3_undo_1 5 rfl rfl)
theorem dX3_undo_31 : decode cX3_undo 31 = .ok (.iconst 0, 1) := dk_3 (dk_at dksX3_undo_1 8 rfl rfl)
theorem dX3_undo_32 : decode cX3_undo 32 = .ok (.istore_n 1, 1) := dk_60 (dk_at dksX3_undo_1 9 rfl rfl)
theorem dX3_undo_33 : decode cX3_undo 33 = .ok (.iload_n 1, 1) := dk_27 (dk_at dksX3_undo_1 10 rfl rfl)
theorem dX3_undo_34 : decode cX3_undo 34 = .ok (.sipush 291, 3) := dk_17 1 35 (dk_at dksX3_undo_1 11 rfl rfl)
theorem dX3_undo_37 : decode cX3_undo 37 = .ok (.if_icmp .ge 30, 3) := dk_162 0 30 (dk_at dksX3_undo_1 14 rfl rfl)
theorem dX3_undo_40 : decode cX3_undo 40 = .ok (.aload_n 0, 1) := dk_42 (dk_at dksX3_undo_1 17 rfl rfl)
theorem dX3_undo_41 : decode cX3_undo 41 = .ok (.getfield 7, 3) := dk_180 0 7 (dk_at dksX3_undo_1 18 rfl rfl)
theorem dX3_undo_44 : decode cX3_undo 44 = .ok (.iload_n 1, 1) := dk_27 (dk_at dksX3_undo_1 21 rfl rfl)
theorem dX3_undo_45 : decode cX3_undo 45 = .ok (.aload_n 0, 1) := dk_42 (dk_at dksX3_undo_1 22 rfl rfl)
theorem dX3_undo_46 : decode cX3_undo 46 = .ok (.getfield 19, 3) := dk_180 0 19 (dk_at dksX3_undo_2 0 rfl rfl)
theorem dX3_undo_49 : decode cX3_undo 49 = .ok (.sipush 291, 3) := dk_17 1 35 (dk_at dksX3_undo_2 3 rfl rfl)
theorem dX3_undo_52 : decode cX3_undo 52 = .ok (.aload_n 0, 1) := dk_42 (dk_at dksX3_undo_2 6 rfl rfl)
theorem dX3_undo_53 : decode cX3_undo 53 = .ok (.getfield 142, 3) := dk_180 0 142 (dk_at dksX3_undo_2 7 rfl rfl)
theorem dX3_undo_56 : decode cX3_undo 56 = .ok (.imul, 1) := dk_104 (dk_at dksX3_undo_2 10 rfl rfl)
theorem dX3_undo_57 : decode cX3_undo 57 = .ok (.iload_n 1, 1) := dk_27 (dk_at dksX3_undo_2 11 rfl rfl)
theorem dX3_undo_58 : decode cX3_undo 58 = .ok (.iadd, 1) := dk_96 (dk_at dksX3_undo_2 12 rfl rfl)
theorem dX3_undo_59 : decode cX3_undo 59 = .ok (.iaload, 1) := dk_46 (dk_at dksX3_undo_2 13 rfl rfl)
theorem dX3_undo_60 : decode cX3_undo 60 = .ok (.iastore, 1) := dk_79 (dk_at dksX3_undo_2 14 rfl rfl)
theorem dX3_undo_61 : decode cX3_undo 61 = .ok (.iinc 1 1, 3) := dk_132 1 1 (dk_at dksX3_undo_2 15 rfl rfl)
theorem dX3_undo_64 : decode cX3_undo 64 = .ok (.goto (-31), 3) := dk_167 255 225 (dk_at dksX3_undo_2 18 rfl rfl)
theorem dX3_undo_67 : decode cX3_undo 67 = .ok (.aload_n 0, 1) := dk_42 (dk_at dksX3_undo_2 21 rfl rfl)
theorem dX3_undo_68 : decode cX3_undo 68 = .ok (.getfield 142, 3) := dk_180 0 142 (dk_at dksX3_undo_3 0 rfl rfl)
theorem dX3_undo_71 : decode cX3_undo 71 = .ok (.ireturn, 1) := dk_172 (dk_at dksX3_undo_3 3 rfl rfl)
abbrev cX3_older : ByteArray := prog_10_method_96_code
def yX3_older : MethodName := ⟨RX3, "older", "(II)I"⟩
def dkwX3_older_4 : List UInt8 := [42, 180, 0, 7, 27, 3, 184, 0, 80, 162, 0, 7, 28, 167, 0, 4, 2, 172]
abbrev dktX3_older_4 : List UInt8 := dkwX3_older_4 ++ []
def dkwX3_older_3 : List UInt8 := [180, 0, 7, 28, 3, 184, 0, 80, 162, 0, 7, 27, 167, 0, 29, 42, 180, 0, 7, 28, 4, 184, 0, 80]
abbrev dktX3_older_3 : List UInt8 := dkwX3_older_3 ++ dktX3_older_4
def dkwX3_older_2 : List UInt8 := [42, 180, 0, 7, 28, 5, 184, 0, 80, 154, 0, 5, 2, 172, 42, 180, 0, 7, 27, 4, 184, 0, 80, 42]
abbrev dktX3_older_2 : List UInt8 := dkwX3_older_2 ++ dktX3_older_3
def dkwX3_older_1 : List UInt8 := [167, 0, 4, 4, 182, 0, 150, 153, 0, 5, 3, 172, 42, 180, 0, 7, 27, 5, 184, 0, 80, 153, 0, 15]
abbrev dktX3_older_1 : List UInt8 := dkwX3_older_1 ++ dktX3_older_2
def dkwX3_older_0 : List UInt8 := [42, 42, 180, 0, 7, 27, 184, 0, 214, 153, 0, 18, 42, 180, 0, 7, 28, 184, 0, 214, 153, 0, 7, 3]
abbrev dktX3_older_0 : List UInt8 := dkwX3_older_0 ++ dktX3_older_1
theorem dksX3_older_0 : cX3_older.data.toList.drop 0 = dktX3_older_0 := by decide +kernel
theorem dksX3_older_1 : cX3_older.data.toList.drop 24 = dktX3_older_1 := dk_seg dksX3_older_0 24 rfl rfl
theorem dksX3_older_2 : cX3_older.data.toList.drop 48 = dktX3_older_2 := dk_seg dksX3_older_1 24 rfl rfl
theorem dksX3_older_3 : cX3_older.data.toList.drop 72 = dktX3_older_3 := dk_seg dksX3_older_2 24 rfl rfl
theorem dksX3_older_4 : cX3_older.data.toList.drop 96 = dktX3_older_4 := dk_seg dksX3_older_3 24 rfl rfl
theorem dX3_older_0 : decode cX3_older 0 = .ok (.aload_n 0, 1) := dk_42 (dk_at dksX3_older_0 0 rfl rfl)
theorem dX3_older_1 : decode cX3_older 1 = .ok (.aload_n 0, 1) := dk_42 (dk_at dksX3_older_0 1 rfl rfl)
theorem dX3_older_2 : decode cX3_older 2 = .ok (.getfield 7, 3) := dk_180 0 7 (dk_at dksX3_older_0 2 rfl rfl)
theorem dX3_older_5 : decode cX3_older 5 = .ok (.iload_n 1, 1) := dk_27 (dk_at dksX3_older_0 5 rfl rfl)
theorem dX3_older_6 : decode cX3_older 6 = .ok (.invokestatic 214, 3) := dk_184 0 214 (dk_at dksX3_older_0 6 rfl rfl)
theorem dX3_older_9 : decode cX3_older 9 = .ok (.ifCond .eq 18, 3) := dk_153 0 18 (dk_at dksX3_older_0 9 rfl rfl)
theorem dX3_older_12 : decode cX3_older 12 = .ok (.aload_n 0, 1) := dk_42 (dk_at dksX3_older_0 12 rfl rfl)
theorem dX3_older_13 : decode cX3_older 13 = .ok (.getfield 7, 3) := dk_180 0 7 (dk_at dksX3_older_0 13 rfl rfl)
theorem dX3_older_16 : decode cX3_older 16 = .ok (.iload_n 2, 1) := dk_28 (dk_at dksX3_older_0 16 rfl rfl)
theorem dX3_older_17 : decode cX3_older 17 = .ok (.invokestatic 214, 3) := dk_184 0 214 (dk_at dksX3_older_0 17 rfl rfl)
theorem dX3_older_20 : decode cX3_older 20 = .ok (.ifCond .eq 7, 3) := dk_153 0 7 (dk_at dksX3_older_0 20 rfl rfl)
theorem dX3_older_23 : decode cX3_older 23 = .ok (.iconst 0, 1) := dk_3 (dk_at dksX3_older_0 23 rfl rfl)
theorem dX3_older_24 : decode cX3_older 24 = .ok (.goto 4, 3) := dk_167 0 4 (dk_at dksX3_older_1 0 rfl rfl)
theorem dX3_older_27 : decode cX3_older 27 = .ok (.iconst 1, 1) := dk_4 (dk_at dksX3_older_1 3 rfl rfl)
theorem dX3_older_28 : decode cX3_older 28 = .ok (.invokevirtual 150, 3) := dk_182 0 150 (dk_at dksX3_older_1 4 rfl rfl)
theorem dX3_older_31 : decode cX3_older 31 = .ok (.ifCond .eq 5, 3) := dk_153 0 5 (dk_at dksX3_older_1 7 rfl rfl)
theorem dX3_older_34 : decode cX3_older 34 = .ok (.iconst 0, 1) := dk_3 (dk_at dksX3_older_1 10 rfl rfl)
theorem dX3_older_35 : decode cX3_older 35 = .ok (.ireturn, 1) := dk_172 (dk_at dksX3_older_1 11 rfl rfl)
theorem dX3_older_36 : decode cX3_older 36 = .ok (.aload_n 0, 1) := dk_42 (dk_at dksX3_older_1 12 rfl rfl)
theorem dX3_older_37 : decode cX3_older 37 = .ok (.getfield 7, 3) := dk_180 0 7 (dk_at dksX3_older_1 13 rfl rfl)
theorem dX3_older_40 : decode cX3_older 40 = .ok (.iload_n 1, 1) := dk_27 (dk_at dksX3_older_1 16 rfl rfl)
theorem dX3_older_41 : decode cX3_older 41 = .ok (.iconst 2, 1) := dk_5 (dk_at dksX3_older_1 17 rfl rfl)
theorem dX3_older_42 : decode cX3_older 42 = .ok (.invokestatic 80, 3) := dk_184 0 80 (dk_at dksX3_older_1 18 rfl rfl)
theorem dX3_older_45 : decode cX3_older 45 = .ok (.ifCond .eq 15, 3) := dk_153 0 15 (dk_at dksX3_older_1 21 rfl rfl)
theorem dX3_older_48 : decode cX3_older 48 = .ok (.aload_n 0, 1) := dk_42 (dk_at dksX3_older_2 0 rfl rfl)
theorem dX3_older_49 : decode cX3_older 49 = .ok (.getfield 7, 3) := dk_180 0 7 (dk_at dksX3_older_2 1 rfl rfl)
theorem dX3_older_52 : decode cX3_older 52 = .ok (.iload_n 2, 1) := dk_28 (dk_at dksX3_older_2 4 rfl rfl)
theorem dX3_older_53 : decode cX3_older 53 = .ok (.iconst 2, 1) := dk_5 (dk_at dksX3_older_2 5 rfl rfl)
theorem dX3_older_54 : decode cX3_older 54 = .ok (.invokestatic 80, 3) := dk_184 0 80 (dk_at dksX3_older_2 6 rfl rfl)
theorem dX3_older_57 : decode cX3_older 57 = .ok (.ifCond .ne 5, 3) := dk_154 0 5 (dk_at dksX3_older_2 9 rfl rfl)
theorem dX3_older_60 : decode cX3_older 60 = .ok (.iconst (-1), 1) := dk_2 (dk_at dksX3_older_2 12 rfl rfl)
theorem dX3_older_61 : decode cX3_older 61 = .ok (.ireturn, 1) := dk_172 (dk_at dksX3_older_2 13 rfl rfl)
theorem dX3_older_62 : decode cX3_older 62 = .ok (.aload_n 0, 1) := dk_42 (dk_at dksX3_older_2 14 rfl rfl)
theorem dX3_older_63 : decode cX3_older 63 = .ok (.getfield 7, 3) := dk_180 0 7 (dk_at dksX3_older_2 15 rfl rfl)
theorem dX3_older_66 : decode cX3_older 66 = .ok (.iload_n 1, 1) := dk_27 (dk_at dksX3_older_2 18 rfl rfl)
theorem dX3_older_67 : decode cX3_older 67 = .ok (.iconst 1, 1) := dk_4 (dk_at dksX3_older_2 19 rfl rfl)
theorem dX3_older_68 : decode cX3_older 68 = .ok (.invokestatic 80, 3) := dk_184 0 80 (dk_at dksX3_older_2 20 rfl rfl)
theorem dX3_older_71 : decode cX3_older 71 = .ok (.aload_n 0, 1) := dk_42 (dk_at dksX3_older_2 23 rfl rfl)
theorem dX3_older_72 : decode cX3_older 72 = .ok (.getfield 7, 3) := dk_180 0 7 (dk_at dksX3_older_3 0 rfl rfl)
theorem dX3_older_75 : decode cX3_older 75 = .ok (.iload_n 2, 1) := dk_28 (dk_at dksX3_older_3 3 rfl rfl)
theorem dX3_older_76 : decode cX3_older 76 = .ok (.iconst 0, 1) := dk_3 (dk_at dksX3_older_3 4 rfl rfl)
theorem dX3_older_77 : decode cX3_older 77 = .ok (.invokestatic 80, 3) := dk_184 0 80 (dk_at dksX3_older_3 5 rfl rfl)
theorem dX3_older_80 : decode cX3_older 80 = .ok (.if_icmp .ge 7, 3) := dk_162 0 7 (dk_at dksX3_older_3 8 rfl rfl)
theorem dX3_older_83 : decode cX3_older 83 = .ok (.iload_n 1, 1) := dk_27 (dk_at dksX3_older_3 11 rfl rfl)
theorem dX3_older_84 : decode cX3_older 84 = .ok (.goto 29, 3) := dk_167 0 29 (dk_at dksX3_older_3 12 rfl rfl)
theorem dX3_older_87 : decode cX3_older 87 = .ok (.aload_n 0, 1) := dk_42 (dk_at dksX3_older_3 15 rfl rfl)
theorem dX3_older_88 : decode cX3_older 88 = .ok (.getfield 7, 3) := dk_180 0 7 (dk_at dksX3_older_3 16 rfl rfl)
theorem dX3_older_91 : decode cX3_older 91 = .ok (.iload_n 2, 1) := dk_28 (dk_at dksX3_older_3 19 rfl rfl)
theorem dX3_older_92 : decode cX3_older 92 = .ok (.iconst 1, 1) := dk_4 (dk_at dksX3_older_3 20 rfl rfl)
theorem dX3_older_93 : decode cX3_older 93 = .ok (.invokestatic 80, 3) := dk_184 0 80 (dk_at dksX3_older_3 21 rfl rfl)
theorem dX3_older_96 : decode cX3_older 96 = .ok (.aload_n 0, 1) := dk_42 (dk_at dksX3_older_4 0 rfl rfl)
theorem dX3_older_97 : decode cX3_older 97 = .ok (.getfield 7, 3) := dk_180 0 7 (dk_at dksX3_older_4 1 rfl rfl)
theorem dX3_older_100 : decode cX3_older 100 = .ok (.iload_n 1, 1) := dk_27 (dk_at dksX3_older_4 4 rfl rfl)
theorem dX3_older_101 : decode cX3_older 101 = .ok (.iconst 0, 1) := dk_3 (dk_at dksX3_older_4 5 rfl rfl)
theorem dX3_older_102 : decode cX3_older 102 = .ok (.invokestatic 80, 3) := dk_184 0 80 (dk_at dksX3_older_4 6 rfl rfl)
theorem dX3_older_105 : decode cX3_older 105 = .ok (.if_icmp .ge 7, 3) := dk_162 0 7 (dk_at dksX3_older_4 9 rfl rfl)
theorem dX3_older_108 : decode cX3_older 108 = .ok (.iload_n 2, 1) := dk_28 (dk_at dksX3_older_4 12 rfl rfl)
theorem dX3_older_109 : decode cX3_older 109 = .ok (.goto 4, 3) := dk_167 0 4 (dk_at dksX3_older_4 13 rfl rfl)
theorem dX3_older_112 : decode cX3_older 112 = .ok (.iconst (-1), 1) := dk_2 (dk_at dksX3_older_4 16 rfl rfl)
theorem dX3_older_113 : decode cX3_older 113 = .ok (.ireturn, 1) := dk_172 (dk_at dksX3_older_4 17 rfl rfl)
abbrev cX3_decides : ByteArray := prog_10_method_97_code
def yX3_decides : MethodName := ⟨RX3, "decides", "(I)I"⟩
def dkwX3_decides_4 : List UInt8 := [164, 0, 8, 21, 5, 167, 0, 4, 29, 62, 132, 4, 1, 167, 255, 175, 28, 172]
abbrev dktX3_decides_4 : List UInt8 := dkwX3_decides_4 ++ []
def dkwX3_decides_3 : List UInt8 := [21, 4, 5, 182, 0, 103, 54, 5, 21, 5, 29, 164, 0, 8, 21, 4, 167, 0, 4, 28, 61, 21, 5, 29]
abbrev dktX3_decides_3 : List UInt8 := dkwX3_decides_3 ++ dktX3_decides_4
def dkwX3_decides_2 : List UInt8 := [96, 46, 27, 160, 0, 55, 42, 180, 0, 7, 21, 4, 184, 0, 96, 154, 0, 43, 42, 42, 180, 0, 7, 27]
abbrev dktX3_decides_2 : List UInt8 := dkwX3_decides_2 ++ dktX3_decides_3
def dkwX3_decides_1 : List UInt8 := [62, 3, 54, 4, 21, 4, 42, 180, 0, 7, 5, 46, 162, 0, 76, 42, 180, 0, 7, 17, 0, 225, 21, 4]
abbrev dktX3_decides_1 : List UInt8 := dkwX3_decides_1 ++ dktX3_decides_2
def dkwX3_decides_0 : List UInt8 := [42, 27, 184, 1, 23, 153, 0, 7, 3, 167, 0, 4, 4, 182, 0, 150, 153, 0, 5, 3, 172, 2, 61, 2]
abbrev dktX3_decides_0 : List UInt8 := dkwX3_decides_0 ++ dktX3_decides_1
theorem dksX3_decides_0 : cX3_decides.data.toList.drop 0 = dktX3_decides_0 := by decide +kernel
theorem dksX3_decides_1 : cX3_decides.data.toList.drop 24 = dktX3_decides_1 := dk_seg dksX3_decides_0 24 rfl rfl
theorem dksX3_decides_2 : cX3_decides.data.toList.drop 48 = dktX3_decides_2 := dk_seg dksX3_decides_1 24 rfl rfl
theorem dksX3_decides_3 : cX3_decides.data.toList.drop 72 = dktX3_decides_3 := dk_seg dksX3_decides_2 24 rfl rfl
theorem dksX3_decides_4 : cX3_decides.data.toList.drop 96 = dktX3_decides_4 := dk_seg dksX3_decides_3 24 rfl rfl
theorem dX3_decides_0 : decode cX3_decides 0 = .ok (.aload_n 0, 1) := dk_42 (dk_at dksX3_decides_0 0 rfl rfl)
theorem dX3_decides_1 : decode cX3_decides 1 = .ok (.iload_n 1, 1) := dk_27 (dk_at dksX3_decides_0 1 rfl rfl)
theorem dX3_decides_2 : decode cX3_decides 2 = .ok (.invokestatic 279, 3) := dk_184 1 23 (dk_at dksX3_decides_0 2 rfl rfl)
theorem dX3_decides_5 : decode cX3_decides 5 = .ok (.ifCond .eq 7, 3) := dk_153 0 7 (dk_at dksX3_decides_0 5 rfl rfl)
theorem dX3_decides_8 : decode cX3_decides 8 = .ok (.iconst 0, 1) := dk_3 (dk_at dksX3_decides_0 8 rfl rfl)
theorem dX3_decides_9 : decode cX3_decides 9 = .ok (.goto 4, 3) := dk_167 0 4 (dk_at dksX3_decides_0 9 rfl rfl)
theorem dX3_decides_12 : decode cX3_decides 12 = .ok (.iconst 1, 1) := dk_4 (dk_at dksX3_decides_0 12 rfl rfl)
theorem dX3_decides_13 : decode cX3_decides 13 = .ok (.invokevirtual 150, 3) := dk_182 0 150 (dk_at dksX3_decides_0 13 rfl rfl)
theorem dX3_decides_16 : decode cX3_decides 16 = .ok (.ifCond .eq 5, 3) := dk_153 0 5 (dk_at dksX3_decides_0 16 rfl rfl)
theorem dX3_decides_19 : decode cX3_decides 19 = .ok (.iconst 0, 1) := dk_3 (dk_at dksX3_decides_0 19 rfl rfl)
theorem dX3_decides_20 : decode cX3_decides 20 = .ok (.ireturn, 1) := dk_172 (dk_at dksX3_decides_0 20 rfl rfl)
theorem dX3_decides_21 : decode cX3_decides 21 = .ok (.iconst (-1), 1) := dk_2 (dk_at dksX3_decides_0 21 rfl rfl)
theorem dX3_decides_22 : decode cX3_decides 22 = .ok (.istore_n 2, 1) := dk_61 (dk_at dksX3_decides_0 22 rfl rfl)
theorem dX3_decides_23 : decode cX3_decides 23 = .ok (.iconst (-1), 1) := dk_2 (dk_at dksX3_decides_0 23 rfl rfl)
theorem dX3_decides_24 : decode cX3_decides 24 = .ok (.istore_n 3, 1) := dk_62 (dk_at dksX3_decides_1 0 rfl rfl)
theorem dX3_decides_25 : decode cX3_decides 25 = .ok (.iconst 0, 1) := dk_3 (dk_at dksX3_decides_1 1 rfl rfl)
theorem dX3_decides_26 : decode cX3_decides 26 = .ok (.istore 4, 2) := dk_54 4 (dk_at dksX3_decides_1 2 rfl rfl)
theorem dX3_decides_28 : decode cX3_decides 28 = .ok (.iload 4, 2) := dk_21 4 (dk_at dksX3_decides_1 4 rfl rfl)
theorem dX3_decides_30 : decode cX3_decides 30 = .ok (.aload_n 0, 1) := dk_42 (dk_at dksX3_decides_1 6 rfl rfl)
theorem dX3_decides_31 : decode cX3_decides 31 = .ok (.getfield 7, 3) := dk_180 0 7 (dk_at dksX3_decides_1 7 rfl rfl)
theorem dX3_decides_34 : decode cX3_decides 34 = .ok (.iconst 2, 1) := dk_5 (dk_at dksX3_decides_1 10 rfl rfl)
theorem dX3_decides_35 : decode cX3_decides 35 = .ok (.iaload, 1) := dk_46 (dk_at dksX3_decides_1 11 rfl rfl)
theorem dX3_decides_36 : decode cX3_decides 36 = .ok (.if_icmp .ge 76, 3) := dk_162 0 76 (dk_at dksX3_decides_1 12 rfl rfl)
theorem dX3_decides_39 : decode cX3_decides 39 = .ok (.aload_n 0, 1) := dk_42 (dk_at dksX3_decides_1 15 rfl rfl)
theorem dX3_decides_40 : decode cX3_decides 40 = .ok (.getfield 7, 3) := dk_180 0 7 (dk_at dksX3_decides_1 16 rfl rfl)
theorem dX3_decides_43 : decode cX3_decides 43 = .ok (.sipush 225, 3) := dk_17 0 225 (dk_at dksX3_decides_1 19 rfl rfl)
theorem dX3_decides_46 : decode cX3_decides 46 = .ok (.iload 4, 2) := dk_21 4 (dk_at dksX3_decides_1 22 rfl rfl)
theorem dX3_decides_48 : decode cX3_decides 48 = .ok (.iadd, 1) := dk_96 (dk_at dksX3_decides_2 0 rfl rfl)
theorem dX3_decides_49 : decode cX3_decides 49 = .ok (.iaload, 1) := dk_46 (dk_at dksX3_decides_2 1 rfl rfl)
theorem dX3_decides_50 : decode cX3_decides 50 = .ok (.iload_n 1, 1) := dk_27 (dk_at dksX3_decides_2 2 rfl rfl)
theorem dX3_decides_51 : decode cX3_decides 51 = .ok (.if_icmp .ne 55, 3) := dk_160 0 55 (dk_at dksX3_decides_2 3 rfl rfl)
theorem dX3_decides_54 : decode cX3_decides 54 = .ok (.aload_n 0, 1) := dk_42 (dk_at dksX3_decides_2 6 rfl rfl)
theorem dX3_decides_55 : decode cX3_decides 55 = .ok (.getfield 7, 3) := dk_180 0 7 (dk_at dksX3_decides_2 7 rfl rfl)
theorem dX3_decides_58 : decode cX3_decides 58 = .ok (.iload 4, 2) := dk_21 4 (dk_at dksX3_decides_2 10 rfl rfl)
theorem dX3_decides_60 : decode cX3_decides 60 = .ok (.invokestatic 96, 3) := dk_184 0 96 (dk_at dksX3_decides_2 12 rfl rfl)
theorem dX3_decides_63 : decode cX3_decides 63 = .ok (.ifCond .ne 43, 3) := dk_154 0 43 (dk_at dksX3_decides_2 15 rfl rfl)
theorem dX3_decides_66 : decode cX3_decides 66 = .ok (.aload_n 0, 1) := dk_42 (dk_at dksX3_decides_2 18 rfl rfl)
theorem dX3_decides_67 : decode cX3_decides 67 = .ok (.aload_n 0, 1) := dk_42 (dk_at dksX3_decides_2 19 rfl rfl)
theorem dX3_decides_68 : decode cX3_decides 68 = .ok (.getfield 7, 3) := dk_180 0 7 (dk_at dksX3_decides_2 20 rfl rfl)
theorem dX3_decides_71 : decode cX3_decides 71 = .ok (.iload_n 1, 1) := dk_27 (dk_at dksX3_decides_2 23 rfl rfl)
theorem dX3_decides_72 : decode cX3_decides 72 = .ok (.iload 4, 2) := dk_21 4 (dk_at dksX3_decides_3 0 rfl rfl)
theorem dX3_decides_74 : decode cX3_decides 74 = .ok (.iconst 2, 1) := dk_5 (dk_at dksX3_decides_3 2 rfl rfl)
theorem dX3_decides_75 : decode cX3_decides 75 = .ok (.invokevirtual 103, 3) := dk_182 0 103 (dk_at dksX3_decides_3 3 rfl rfl)
theorem dX3_decides_78 : decode cX3_decides 78 = .ok (.istore 5, 2) := dk_54 5 (dk_at dksX3_decides_3 6 rfl rfl)
theorem dX3_decides_80 : decode cX3_decides 80 = .ok (.iload 5, 2) := dk_21 5 (dk_at dksX3_decides_3 8 rfl rfl)
theorem dX3_decides_82 : decode cX3_decides 82 = .ok (.iload_n 3, 1) := dk_29 (dk_at dksX3_decides_3 10 rfl rfl)
theorem dX3_decides_83 : decode cX3_decides 83 = .ok (.if_icmp .le 8, 3) := dk_164 0 8 (dk_at dksX3_decides_3 11 rfl rfl)
theorem dX3_decides_86 : decode cX3_decides 86 = .ok (.iload 4, 2) := dk_21 4 (dk_at dksX3_decides_3 14 rfl rfl)
theorem dX3_decides_88 : decode cX3_decides 88 = .ok (.goto 4, 3) := dk_167 0 4 (dk_at dksX3_decides_3 16 rfl rfl)
theorem dX3_decides_91 : decode cX3_decides 91 = .ok (.iload_n 2, 1) := dk_28 (dk_at dksX3_decides_3 19 rfl rfl)
theorem dX3_decides_92 : decode cX3_decides 92 = .ok (.istore_n 2, 1) := dk_61 (dk_at dksX3_decides_3 20 rfl rfl)
theorem dX3_decides_93 : decode cX3_decides 93 = .ok (.iload 5, 2) := dk_21 5 (dk_at dksX3_decides_3 21 rfl rfl)
theorem dX3_decides_95 : decode cX3_decides 95 = .ok (.iload_n 3, 1) := dk_29 (dk_at dksX3_decides_3 23 rfl rfl)
theorem dX3_decides_96 : decode cX3_decides 96 = .ok (.if_icmp .le 8, 3) := dk_164 0 8 (dk_at dksX3_decides_4 0 rfl rfl)
theorem dX3_decides_99 : decode cX3_decides 99 = .ok (.iload 5, 2) := dk_21 5 (dk_at dksX3_decides_4 3 rfl rfl)
theorem dX3_decides_101 : decode cX3_decides 101 = .ok (.goto 4, 3) := dk_167 0 4 (dk_at dksX3_decides_4 5 rfl rfl)
theorem dX3_decides_104 : decode cX3_decides 104 = .ok (.iload_n 3, 1) := dk_29 (dk_at dksX3_decides_4 8 rfl rfl)
theorem dX3_decides_105 : decode cX3_decides 105 = .ok (.istore_n 3, 1) := dk_62 (dk_at dksX3_decides_4 9 rfl rfl)
theorem dX3_decides_106 : decode cX3_decides 106 = .ok (.iinc 4 1, 3) := dk_132 4 1 (dk_at dksX3_decides_4 10 rfl rfl)
theorem dX3_decides_109 : decode cX3_decides 109 = .ok (.goto (-81), 3) := dk_167 255 175 (dk_at dksX3_decides_4 13 rfl rfl)
theorem dX3_decides_112 : decode cX3_decides 112 = .ok (.iload_n 2, 1) := dk_28 (dk_at dksX3_decides_4 16 rfl rfl)
theorem dX3_decides_113 : decode cX3_decides 113 = .ok (.ireturn, 1) := dk_172 (dk_at dksX3_decides_4 17 rfl rfl)
abbrev cX3_ifCracked : ByteArray := prog_10_method_98_code
def yX3_ifCracked : MethodName := ⟨RX3, "ifCracked", "(II)I"⟩
def dkwX3_ifCracked_3 : List UInt8 := [184, 0, 204, 87, 42, 42, 180, 0, 13, 182, 0, 252, 42, 42, 180, 0, 7, 182, 0, 252, 100, 172]
abbrev dktX3_ifCracked_3 : List UInt8 := dkwX3_ifCracked_3 ++ []
def dkwX3_ifCracked_2 : List UInt8 := [153, 0, 5, 3, 172, 42, 180, 0, 7, 42, 180, 0, 13, 184, 0, 242, 42, 180, 0, 13, 27, 28]
abbrev dktX3_ifCracked_2 : List UInt8 := dkwX3_ifCracked_2 ++ dktX3_ifCracked_3
def dkwX3_ifCracked_1 : List UInt8 := [167, 0, 20, 42, 180, 0, 7, 27, 28, 184, 0, 200, 154, 0, 7, 6, 167, 0, 4, 3, 182, 0, 150]
abbrev dktX3_ifCracked_1 : List UInt8 := dkwX3_ifCracked_1 ++ dktX3_ifCracked_2
def dkwX3_ifCracked_0 : List UInt8 := [42, 42, 180, 0, 7, 27, 184, 0, 197, 154, 0, 7, 4, 167, 0, 31, 28, 184, 0, 129, 154, 0, 7, 5]
abbrev dktX3_ifCracked_0 : List UInt8 := dkwX3_ifCracked_0 ++ dktX3_ifCracked_1
theorem dksX3_ifCracked_0 : cX3_ifCracked.data.toList.drop 0 = dktX3_ifCracked_0 := by decide +kernel
theorem dksX3_ifCracked_1 : cX3_ifCracked.data.toList.drop 24 = dktX3_ifCracked_1 := dk_seg dksX3_ifCracked_0 24 rfl rfl
theorem dksX3_ifCracked_2 : cX3_ifCracked.data.toList.drop 47 = dktX3_ifCracked_2 := dk_seg dksX3_ifCracked_1 23 rfl rfl
theorem dksX3_ifCracked_3 : cX3_ifCracked.data.toList.drop 69 = dktX3_ifCracked_3 := dk_seg dksX3_ifCracked_2 22 rfl rfl
theorem dX3_ifCracked_0 : decode cX3_ifCracked 0 = .ok (.aload_n 0, 1) := dk_42 (dk_at dksX3_ifCracked_0 0 rfl rfl)
theorem dX3_ifCracked_1 : decode cX3_ifCracked 1 = .ok (.aload_n 0, 1) := dk_42 (dk_at dksX3_ifCracked_0 1 rfl rfl)
theorem dX3_ifCracked_2 : decode cX3_ifCracked 2 = .ok (.getfield 7, 3) := dk_180 0 7 (dk_at dksX3_ifCracked_0 2 rfl rfl)
theorem dX3_ifCracked_5 : decode cX3_ifCracked 5 = .ok (.iload_n 1, 1) := dk_27 (dk_at dksX3_ifCracked_0 5 rfl rfl)
theorem dX3_ifCracked_6 : decode cX3_ifCracked 6 = .ok (.invokestatic 197, 3) := dk_184 0 197 (dk_at dksX3_ifCracked_0 6 rfl rfl)
theorem dX3_ifCracked_9 : decode cX3_ifCracked 9 = .ok (.ifCond .ne 7, 3) := dk_154 0 7 (dk_at dksX3_ifCracked_0 9 rfl rfl)
theorem dX3_ifCracked_12 : decode cX3_ifCracked 12 = .ok (.iconst 1, 1) := dk_4 (dk_at dksX3_ifCracked_0 12 rfl rfl)
theorem dX3_ifCracked_13 : decode cX3_ifCracked 13 = .ok (.goto 31, 3) := dk_167 0 31 (dk_at dksX3_ifCracked_0 13 rfl rfl)
theorem dX3_ifCracked_16 : decode cX3_ifCracked 16 = .ok (.iload_n 2, 1) := dk_28 (dk_at dksX3_ifCracked_0 16 rfl rfl)
theorem dX3_ifCracked_17 : decode cX3_ifCracked 17 = .ok (.invokestatic 129, 3) := dk_184 0 129 (dk_at dksX3_ifCracked_0 17 rfl rfl)
theorem dX3_ifCracked_20 : decode cX3_ifCracked 20 = .ok (.ifCond .ne 7, 3) := dk_154 0 7 (dk_at dksX3_ifCracked_0 20 rfl rfl)
theorem dX3_ifCracked_23 : decode cX3_ifCracked 23 = .ok (.iconst 2, 1) := dk_5 (dk_at dksX3_ifCracked_0 23 rfl rfl)
theorem dX3_ifCracked_24 : decode cX3_ifCracked 24 = .ok (.goto 20, 3) := dk_167 0 20 (dk_at dksX3_ifCracked_1 0 rfl rfl)
theorem dX3_ifCracked_27 : decode cX3_ifCracked 27 = .ok (.aload_n 0, 1) := dk_42 (dk_at dksX3_ifCracked_1 3 rfl rfl)
theorem dX3_ifCracked_28 : decode cX3_ifCracked 28 = .ok (.getfield 7, 3) := dk_180 0 7 (dk_at dksX3_ifCracked_1 4 rfl rfl)
theorem dX3_ifCracked_31 : decode cX3_ifCracked 31 = .ok (.iload_n 1, 1) := dk_27 (dk_at dksX3_ifCracked_1 7 rfl rfl)
theorem dX3_ifCracked_32 : decode cX3_ifCracked 32 = .ok (.iload_n 2, 1) := dk_28 (dk_at dksX3_ifCracked_1 8 rfl rfl)
theorem dX3_ifCracked_33 : decode cX3_ifCracked 33 = .ok (.invokestatic 200, 3) := dk_184 0 200 (dk_at dksX3_ifCracked_1 9 rfl rfl)
theorem dX3_ifCracked_36 : decode cX3_ifCracked 36 = .ok (.ifCond .ne 7, 3) := dk_154 0 7 (dk_at dksX3_ifCracked_1 12 rfl rfl)
theorem dX3_ifCracked_39 : decode cX3_ifCracked 39 = .ok (.iconst 3, 1) := dk_6 (dk_at dksX3_ifCracked_1 15 rfl rfl)
theorem dX3_ifCracked_40 : decode cX3_ifCracked 40 = .ok (.goto 4, 3) := dk_167 0 4 (dk_at dksX3_ifCracked_1 16 rfl rfl)
theorem dX3_ifCracked_43 : decode cX3_ifCracked 43 = .ok (.iconst 0, 1) := dk_3 (dk_at dksX3_ifCracked_1 19 rfl rfl)
theorem dX3_ifCracked_44 : decode cX3_ifCracked 44 = .ok (.invokevirtual 150, 3) := dk_182 0 150 (dk_at dksX3_ifCracked_1 20 rfl rfl)
theorem dX3_ifCracked_47 : decode cX3_ifCracked 47 = .ok (.ifCond .eq 5, 3) := dk_153 0 5 (dk_at dksX3_ifCracked_2 0 rfl rfl)
theorem dX3_ifCracked_50 : decode cX3_ifCracked 50 = .ok (.iconst 0, 1) := dk_3 (dk_at dksX3_ifCracked_2 3 rfl rfl)
theorem dX3_ifCracked_51 : decode cX3_ifCracked 51 = .ok (.ireturn, 1) := dk_172 (dk_at dksX3_ifCracked_2 4 rfl rfl)
theorem dX3_ifCracked_52 : decode cX3_ifCracked 52 = .ok (.aload_n 0, 1) := dk_42 (dk_at dksX3_ifCracked_2 5 rfl rfl)
theorem dX3_ifCracked_53 : decode cX3_ifCracked 53 = .ok (.getfield 7, 3) := dk_180 0 7 (dk_at dksX3_ifCracked_2 6 rfl rfl)
theorem dX3_ifCracked_56 : decode cX3_ifCracked 56 = .ok (.aload_n 0, 1) := dk_42 (dk_at dksX3_ifCracked_2 9 rfl rfl)
theorem dX3_ifCracked_57 : decode cX3_ifCracked 57 = .ok (.getfield 13, 3) := dk_180 0 13 (dk_at dksX3_ifCracked_2 10 rfl rfl)
theorem dX3_ifCracked_60 : decode cX3_ifCracked 60 = .ok (.invokestatic 242, 3) := dk_184 0 242 (dk_at dksX3_ifCracked_2 13 rfl rfl)
theorem dX3_ifCracked_63 : decode cX3_ifCracked 63 = .ok (.aload_n 0, 1) := dk_42 (dk_at dksX3_ifCracked_2 16 rfl rfl)
theorem dX3_ifCracked_64 : decode cX3_ifCracked 64 = .ok (.getfield 13, 3) := dk_180 0 13 (dk_at dksX3_ifCracked_2 17 rfl rfl)
theorem dX3_ifCracked_67 : decode cX3_ifCracked 67 = .ok (.iload_n 1, 1) := dk_27 (dk_at dksX3_ifCracked_2 20 rfl rfl)
theorem dX3_ifCracked_68 : decode cX3_ifCracked 68 = .ok (.iload_n 2, 1) := dk_28 (dk_at dksX3_ifCracked_2 21 rfl rfl)
theorem dX3_ifCracked_69 : decode cX3_ifCracked 69 = .ok (.invokestatic 204, 3) := dk_184 0 204 (dk_at dksX3_ifCracked_3 0 rfl rfl)
theorem dX3_ifCracked_72 : decode cX3_ifCracked 72 = .ok (.pop, 1) := dk_87 (dk_at dksX3_ifCracked_3 3 rfl rfl)
theorem dX3_ifCracked_73 : decode cX3_ifCracked 73 = .ok (.aload_n 0, 1) := dk_42 (dk_at dksX3_ifCracked_3 4 rfl rfl)
theorem dX3_ifCracked_74 : decode cX3_ifCracked 74 = .ok (.aload_n 0, 1) := dk_42 (dk_at dksX3_ifCracked_3 5 rfl rfl)
theorem dX3_ifCracked_75 : decode cX3_ifCracked 75 = .ok (.getfield 13, 3) := dk_180 0 13 (dk_at dksX3_ifCracked_3 6 rfl rfl)
theorem dX3_ifCracked_78 : decode cX3_ifCracked 78 = .ok (.invokevirtual 252, 3) := dk_182 0 252 (dk_at dksX3_ifCracked_3 9 rfl rfl)
theorem dX3_ifCracked_81 : decode cX3_ifCracked 81 = .ok (.aload_n 0, 1) := dk_42 (dk_at dksX3_ifCracked_3 12 rfl rfl)
theorem dX3_ifCracked_82 : decode cX3_ifCracked 82 = .ok (.aload_n 0, 1) := dk_42 (dk_at dksX3_ifCracked_3 13 rfl rfl)
theorem dX3_ifCracked_83 : decode cX3_ifCracked 83 = .ok (.getfield 7, 3) := dk_180 0 7 (dk_at dksX3_ifCracked_3 14 rfl rfl)
theorem dX3_ifCracked_86 : decode cX3_ifCracked 86 = .ok (.invokevirtual 252, 3) := dk_182 0 252 (dk_at dksX3_ifCracked_3 17 rfl rfl)
theorem dX3_ifCracked_89 : decode cX3_ifCracked 89 = .ok (.isub, 1) := dk_100 (dk_at dksX3_ifCracked_3 20 rfl rfl)
theorem dX3_ifCracked_90 : decode cX3_ifCracked 90 = .ok (.ireturn, 1) := dk_172 (dk_at dksX3_ifCracked_3 21 rfl rfl)
abbrev cX3_ifHung : ByteArray := prog_10_method_99_code
def yX3_ifHung : MethodName := ⟨RX3, "ifHung", "(II)I"⟩
def dkwX3_ifHung_2 : List UInt8 := [28, 184, 0, 217, 87, 42, 42, 180, 0, 13, 28, 2, 5, 182, 0, 103, 172]
abbrev dktX3_ifHung_2 : List UInt8 := dkwX3_ifHung_2 ++ []
def dkwX3_ifHung_1 : List UInt8 := [182, 0, 150, 153, 0, 5, 3, 172, 42, 180, 0, 7, 42, 180, 0, 13, 184, 0, 242, 42, 180, 0, 13, 27]
abbrev dktX3_ifHung_1 : List UInt8 := dkwX3_ifHung_1 ++ dktX3_ifHung_2
def dkwX3_ifHung_0 : List UInt8 := [42, 42, 180, 0, 7, 27, 184, 0, 214, 153, 0, 14, 28, 184, 1, 23, 153, 0, 7, 3, 167, 0, 4, 4]
abbrev dktX3_ifHung_0 : List UInt8 := dkwX3_ifHung_0 ++ dktX3_ifHung_1
theorem dksX3_ifHung_0 : cX3_ifHung.data.toList.drop 0 = dktX3_ifHung_0 := by decide +kernel
theorem dksX3_ifHung_1 : cX3_ifHung.data.toList.drop 24 = dktX3_ifHung_1 := dk_seg dksX3_ifHung_0 24 rfl rfl
theorem dksX3_ifHung_2 : cX3_ifHung.data.toList.drop 48 = dktX3_ifHung_2 := dk_seg dksX3_ifHung_1 24 rfl rfl
theorem dX3_ifHung_0 : decode cX3_ifHung 0 = .ok (.aload_n 0, 1) := dk_42 (dk_at dksX3_ifHung_0 0 rfl rfl)
theorem dX3_ifHung_1 : decode cX3_ifHung 1 = .ok (.aload_n 0, 1) := dk_42 (dk_at dksX3_ifHung_0 1 rfl rfl)
theorem dX3_ifHung_2 : decode cX3_ifHung 2 = .ok (.getfield 7, 3) := dk_180 0 7 (dk_at dksX3_ifHung_0 2 rfl rfl)
theorem dX3_ifHung_5 : decode cX3_ifHung 5 = .ok (.iload_n 1, 1) := dk_27 (dk_at dksX3_ifHung_0 5 rfl rfl)
theorem dX3_ifHung_6 : decode cX3_ifHung 6 = .ok (.invokestatic 214, 3) := dk_184 0 214 (dk_at dksX3_ifHung_0 6 rfl rfl)
theorem dX3_ifHung_9 : decode cX3_ifHung 9 = .ok (.ifCond .eq 14, 3) := dk_153 0 14 (dk_at dksX3_ifHung_0 9 rfl rfl)
theorem dX3_ifHung_12 : decode cX3_ifHung 12 = .ok (.iload_n 2, 1) := dk_28 (dk_at dksX3_ifHung_0 12 rfl rfl)
theorem dX3_ifHung_13 : decode cX3_ifHung 13 = .ok (.invokestatic 279, 3) := dk_184 1 23 (dk_at dksX3_ifHung_0 13 rfl rfl)
theorem dX3_ifHung_16 : decode cX3_ifHung 16 = .ok (.ifCond .eq 7, 3) := dk_153 0 7 (dk_at dksX3_ifHung_0 16 rfl rfl)
theorem dX3_ifHung_19 : decode cX3_ifHung 19 = .ok (.iconst 0, 1) := dk_3 (dk_at dksX3_ifHung_0 19 rfl rfl)
theorem dX3_ifHung_20 : decode cX3_ifHung 20 = .ok (.goto 4, 3) := dk_167 0 4 (dk_at dksX3_ifHung_0 20 rfl rfl)
theorem dX3_ifHung_23 : decode cX3_ifHung 23 = .ok (.iconst 1, 1) := dk_4 (dk_at dksX3_ifHung_0 23 rfl rfl)
theorem dX3_ifHung_24 : decode cX3_ifHung 24 = .ok (.invokevirtual 150, 3) := dk_182 0 150 (dk_at dksX3_ifHung_1 0 rfl rfl)
theorem dX3_ifHung_27 : decode cX3_ifHung 27 = .ok (.ifCond .eq 5, 3) := dk_153 0 5 (dk_at dksX3_ifHung_1 3 rfl rfl)
theorem dX3_ifHung_30 : decode cX3_ifHung 30 = .ok (.iconst 0, 1) := dk_3 (dk_at dksX3_ifHung_1 6 rfl rfl)
theorem dX3_ifHung_31 : decode cX3_ifHung 31 = .ok (.ireturn, 1) := dk_172 (dk_at dksX3_ifHung_1 7 rfl rfl)
theorem dX3_ifHung_32 : decode cX3_ifHung 32 = .ok (.aload_n 0, 1) := dk_42 (dk_at dksX3_ifHung_1 8 rfl rfl)
theorem dX3_ifHung_33 : decode cX3_ifHung 33 = .ok (.getfield 7, 3) := dk_180 0 7 (dk_at dksX3_ifHung_1 9 rfl rfl)
theorem dX3_ifHung_36 : decode cX3_ifHung 36 = .ok (.aload_n 0, 1) := dk_42 (dk_at dksX3_ifHung_1 12 rfl rfl)
theorem dX3_ifHung_37 : decode cX3_ifHung 37 = .ok (.getfield 13, 3) := dk_180 0 13 (dk_at dksX3_ifHung_1 13 rfl rfl)
theorem dX3_ifHung_40 : decode cX3_ifHung 40 = .ok (.invokestatic 242, 3) := dk_184 0 242 (dk_at dksX3_ifHung_1 16 rfl rfl)
theorem dX3_ifHung_43 : decode cX3_ifHung 43 = .ok (.aload_n 0, 1) := dk_42 (dk_at dksX3_ifHung_1 19 rfl rfl)
theorem dX3_ifHung_44 : decode cX3_ifHung 44 = .ok (.getfield 13, 3) := dk_180 0 13 (dk_at dksX3_ifHung_1 20 rfl rfl)
theorem dX3_ifHung_47 : decode cX3_ifHung 47 = .ok (.iload_n 1, 1) := dk_27 (dk_at dksX3_ifHung_1 23 rfl rfl)
theorem dX3_ifHung_48 : decode cX3_ifHung 48 = .ok (.iload_n 2, 1) := dk_28 (dk_at dksX3_ifHung_2 0 rfl rfl)
theorem dX3_ifHung_49 : decode cX3_ifHung 49 = .ok (.invokestatic 217, 3) := dk_184 0 217 (dk_at dksX3_ifHung_2 1 rfl rfl)
theorem dX3_ifHung_52 : decode cX3_ifHung 52 = .ok (.pop, 1) := dk_87 (dk_at dksX3_ifHung_2 4 rfl rfl)
theorem dX3_ifHung_53 : decode cX3_ifHung 53 = .ok (.aload_n 0, 1) := dk_42 (dk_at dksX3_ifHung_2 5 rfl rfl)
theorem dX3_ifHung_54 : decode cX3_ifHung 54 = .ok (.aload_n 0, 1) := dk_42 (dk_at dksX3_ifHung_2 6 rfl rfl)
theorem dX3_ifHung_55 : decode cX3_ifHung 55 = .ok (.getfield 13, 3) := dk_180 0 13 (dk_at dksX3_ifHung_2 7 rfl rfl)
theorem dX3_ifHung_58 : decode cX3_ifHung 58 = .ok (.iload_n 2, 1) := dk_28 (dk_at dksX3_ifHung_2 10 rfl rfl)
theorem dX3_ifHung_59 : decode cX3_ifHung 59 = .ok (.iconst (-1), 1) := dk_2 (dk_at dksX3_ifHung_2 11 rfl rfl)
theorem dX3_ifHung_60 : decode cX3_ifHung 60 = .ok (.iconst 2, 1) := dk_5 (dk_at dksX3_ifHung_2 12 rfl rfl)
theorem dX3_ifHung_61 : decode cX3_ifHung 61 = .ok (.invokevirtual 103, 3) := dk_182 0 103 (dk_at dksX3_ifHung_2 13 rfl rfl)
theorem dX3_ifHung_64 : decode cX3_ifHung 64 = .ok (.ireturn, 1) := dk_172 (dk_at dksX3_ifHung_2 16 rfl rfl)
abbrev cX3_inYear : ByteArray := prog_10_method_100_code
def yX3_inYear : MethodName := ⟨RX3, "inYear", "(I)I"⟩
def dkwX3_inYear_2 : List UInt8 := [42, 29, 27, 182, 1, 20, 153, 0, 7, 4, 167, 0, 4, 3, 96, 61, 132, 3, 1, 167, 255, 214, 28, 172]
abbrev dktX3_inYear_2 : List UInt8 := dkwX3_inYear_2 ++ []
def dkwX3_inYear_1 : List UInt8 := [62, 29, 42, 180, 0, 7, 5, 46, 162, 0, 38, 28, 42, 42, 180, 0, 7, 29, 182, 0, 107, 154, 0, 16]
abbrev dktX3_inYear_1 : List UInt8 := dkwX3_inYear_1 ++ dktX3_inYear_2
def dkwX3_inYear_0 : List UInt8 := [42, 27, 184, 0, 129, 153, 0, 7, 3, 167, 0, 4, 4, 182, 0, 150, 153, 0, 5, 3, 172, 3, 61, 3]
abbrev dktX3_inYear_0 : List UInt8 := dkwX3_inYear_0 ++ dktX3_inYear_1
theorem dksX3_inYear_0 : cX3_inYear.data.toList.drop 0 = dktX3_inYear_0 := by decide +kernel
theorem dksX3_inYear_1 : cX3_inYear.data.toList.drop 24 = dktX3_inYear_1 := dk_seg dksX3_inYear_0 24 rfl rfl
theorem dksX3_inYear_2 : cX3_inYear.data.toList.drop 48 = dktX3_inYear_2 := dk_seg dksX3_inYear_1 24 rfl rfl
theorem dX3_inYear_0 : decode cX3_inYear 0 = .ok (.aload_n 0, 1) := dk_42 (dk_at dksX3_inYear_0 0 rfl rfl)
theorem dX3_inYear_1 : decode cX3_inYear 1 = .ok (.iload_n 1, 1) := dk_27 (dk_at dksX3_inYear_0 1 rfl rfl)
theorem dX3_inYear_2 : decode cX3_inYear 2 = .ok (.invokestatic 129, 3) := dk_184 0 129 (dk_at dksX3_inYear_0 2 rfl rfl)
theorem dX3_inYear_5 : decode cX3_inYear 5 = .ok (.ifCond .eq 7, 3) := dk_153 0 7 (dk_at dksX3_inYear_0 5 rfl rfl)
theorem dX3_inYear_8 : decode cX3_inYear 8 = .ok (.iconst 0, 1) := dk_3 (dk_at dksX3_inYear_0 8 rfl rfl)
theorem dX3_inYear_9 : decode cX3_inYear 9 = .ok (.goto 4, 3) := dk_167 0 4 (dk_at dksX3_inYear_0 9 rfl rfl)
theorem dX3_inYear_12 : decode cX3_inYear 12 = .ok (.iconst 1, 1) := dk_4 (dk_at dksX3_inYear_0 12 rfl rfl)
theorem dX3_inYear_13 : decode cX3_inYear 13 = .ok (.invokevirtual 150, 3) := dk_182 0 150 (dk_at dksX3_inYear_0 13 rfl rfl)
theorem dX3_inYear_16 : decode cX3_inYear 16 = .ok (.ifCond .eq 5, 3) := dk_153 0 5 (dk_at dksX3_inYear_0 16 rfl rfl)
theorem dX3_inYear_19 : decode cX3_inYear 19 = .ok (.iconst 0, 1) := dk_3 (dk_at dksX3_inYear_0 19 rfl rfl)
theorem dX3_inYear_20 : decode cX3_inYear 20 = .ok (.ireturn, 1) := dk_172 (dk_at dksX3_inYear_0 20 rfl rfl)
theorem dX3_inYear_21 : decode cX3_inYear 21 = .ok (.iconst 0, 1) := dk_3 (dk_at dksX3_inYear_0 21 rfl rfl)
theorem dX3_inYear_22 : decode cX3_inYear 22 = .ok (.istore_n 2, 1) := dk_61 (dk_at dksX3_inYear_0 22 rfl rfl)
theorem dX3_inYear_23 : decode cX3_inYear 23 = .ok (.iconst 0, 1) := dk_3 (dk_at dksX3_inYear_0 23 rfl rfl)
theorem dX3_inYear_24 : decode cX3_inYear 24 = .ok (.istore_n 3, 1) := dk_62 (dk_at dksX3_inYear_1 0 rfl rfl)
theorem dX3_inYear_25 : decode cX3_inYear 25 = .ok (.iload_n 3, 1) := dk_29 (dk_at dksX3_inYear_1 1 rfl rfl)
theorem dX3_inYear_26 : decode cX3_inYear 26 = .ok (.aload_n 0, 1) := dk_42 (dk_at dksX3_inYear_1 2 rfl rfl)
theorem dX3_inYear_27 : decode cX3_inYear 27 = .ok (.getfield 7, 3) := dk_180 0 7 (dk_at dksX3_inYear_1 3 rfl rfl)
theorem dX3_inYear_30 : decode cX3_inYear 30 = .ok (.iconst 2, 1) := dk_5 (dk_at dksX3_inYear_1 6 rfl rfl)
theorem dX3_inYear_31 : decode cX3_inYear 31 = .ok (.iaload, 1) := dk_46 (dk_at dksX3_inYear_1 7 rfl rfl)
theorem dX3_inYear_32 : decode cX3_inYear 32 = .ok (.if_icmp .ge 38, 3) := dk_162 0 38 (dk_at dksX3_inYear_1 8 rfl rfl)
theorem dX3_inYear_35 : decode cX3_inYear 35 = .ok (.iload_n 2, 1) := dk_28 (dk_at dksX3_inYear_1 11 rfl rfl)
theorem dX3_inYear_36 : decode cX3_inYear 36 = .ok (.aload_n 0, 1) := dk_42 (dk_at dksX3_inYear_1 12 rfl rfl)
theorem dX3_inYear_37 : decode cX3_inYear 37 = .ok (.aload_n 0, 1) := dk_42 (dk_at dksX3_inYear_1 13 rfl rfl)
theorem dX3_inYear_38 : decode cX3_inYear 38 = .ok (.getfield 7, 3) := dk_180 0 7 (dk_at dksX3_inYear_1 14 rfl rfl)
theorem dX3_inYear_41 : decode cX3_inYear 41 = .ok (.iload_n 3, 1) := dk_29 (dk_at dksX3_inYear_1 17 rfl rfl)
theorem dX3_inYear_42 : decode cX3_inYear 42 = .ok (.invokevirtual 107, 3) := dk_182 0 107 (dk_at dksX3_inYear_1 18 rfl rfl)
theorem dX3_inYear_45 : decode cX3_inYear 45 = .ok (.ifCond .ne 16, 3) := dk_154 0 16 (dk_at dksX3_inYear_1 21 rfl rfl)
theorem dX3_inYear_48 : decode cX3_inYear 48 = .ok (.aload_n 0, 1) := dk_42 (dk_at dksX3_inYear_2 0 rfl rfl)
theorem dX3_inYear_49 : decode cX3_inYear 49 = .ok (.iload_n 3, 1) := dk_29 (dk_at dksX3_inYear_2 1 rfl rfl)
theorem dX3_inYear_50 : decode cX3_inYear 50 = .ok (.iload_n 1, 1) := dk_27 (dk_at dksX3_inYear_2 2 rfl rfl)
theorem dX3_inYear_51 : decode cX3_inYear 51 = .ok (.invokevirtual 276, 3) := dk_182 1 20 (dk_at dksX3_inYear_2 3 rfl rfl)
theorem dX3_inYear_54 : decode cX3_inYear 54 = .ok (.ifCond .eq 7, 3) := dk_153 0 7 (dk_at dksX3_inYear_2 6 rfl rfl)
theorem dX3_inYear_57 : decode cX3_inYear 57 = .ok (.iconst 1, 1) := dk_4 (dk_at dksX3_inYear_2 9 rfl rfl)
theorem dX3_inYear_58 : decode cX3_inYear 58 = .ok (.goto 4, 3) := dk_167 0 4 (dk_at dksX3_inYear_2 10 rfl rfl)
theorem dX3_inYear_61 : decode cX3_inYear 61 = .ok (.iconst 0, 1) := dk_3 (dk_at dksX3_inYear_2 13 rfl rfl)
theorem dX3_inYear_62 : decode cX3_inYear 62 = .ok (.iadd, 1) := dk_96 (dk_at dksX3_inYear_2 14 rfl rfl)
theorem dX3_inYear_63 : decode cX3_inYear 63 = .ok (.istore_n 2, 1) := dk_61 (dk_at dksX3_inYear_2 15 rfl rfl)
theorem dX3_inYear_64 : decode cX3_inYear 64 = .ok (.iinc 3 1, 3) := dk_132 3 1 (dk_at dksX3_inYear_2 16 rfl rfl)
theorem dX3_inYear_67 : decode cX3_inYear 67 = .ok (.goto (-42), 3) := dk_167 255 214 (dk_at dksX3_inYear_2 19 rfl rfl)
theorem dX3_inYear_70 : decode cX3_inYear 70 = .ok (.iload_n 2, 1) := dk_28 (dk_at dksX3_inYear_2 22 rfl rfl)
theorem dX3_inYear_71 : decode cX3_inYear 71 = .ok (.ireturn, 1) := dk_172 (dk_at dksX3_inYear_2 23 rfl rfl)
abbrev cX3_leastBubbles : ByteArray := prog_10_method_101_code
def yX3_leastBubbles : MethodName := ⟨RX3, "leastBubbles", "(II)I"⟩
def dkwX3_leastBubbles_3 : List UInt8 := [132, 3, 1, 167, 255, 224, 2, 172]
abbrev dktX3_leastBubbles_3 : List UInt8 := dkwX3_leastBubbles_3 ++ []
def dkwX3_leastBubbles_2 : List UInt8 := [42, 180, 0, 13, 6, 27, 96, 29, 79, 42, 42, 180, 0, 13, 182, 0, 252, 28, 163, 0, 5, 29, 172]
abbrev dktX3_leastBubbles_2 : List UInt8 := dkwX3_leastBubbles_2 ++ dktX3_leastBubbles_3
def dkwX3_leastBubbles_1 : List UInt8 := [153, 0, 5, 3, 172, 42, 180, 0, 7, 42, 180, 0, 13, 184, 0, 242, 3, 62, 29, 16, 100, 162, 0, 32]
abbrev dktX3_leastBubbles_1 : List UInt8 := dkwX3_leastBubbles_1 ++ dktX3_leastBubbles_2
def dkwX3_leastBubbles_0 : List UInt8 := [42, 27, 133, 9, 10, 184, 0, 49, 153, 0, 11, 28, 155, 0, 7, 3, 167, 0, 4, 4, 182, 0, 150]
abbrev dktX3_leastBubbles_0 : List UInt8 := dkwX3_leastBubbles_0 ++ dktX3_leastBubbles_1
theorem dksX3_leastBubbles_0 : cX3_leastBubbles.data.toList.drop 0 = dktX3_leastBubbles_0 := by decide +kernel
theorem dksX3_leastBubbles_1 : cX3_leastBubbles.data.toList.drop 23 = dktX3_leastBubbles_1 := dk_seg dksX3_leastBubbles_0 23 rfl rfl
theorem dksX3_leastBubbles_2 : cX3_leastBubbles.data.toList.drop 47 = dktX3_leastBubbles_2 := dk_seg dksX3_leastBubbles_1 24 rfl rfl
theorem dksX3_leastBubbles_3 : cX3_leastBubbles.data.toList.drop 70 = dktX3_leastBubbles_3 := dk_seg dksX3_leastBubbles_2 23 rfl rfl
theorem dX3_leastBubbles_0 : decode cX3_leastBubbles 0 = .ok (.aload_n 0, 1) := dk_42 (dk_at dksX3_leastBubbles_0 0 rfl rfl)
theorem dX3_leastBubbles_1 : decode cX3_leastBubbles 1 = .ok (.iload_n 1, 1) := dk_27 (dk_at dksX3_leastBubbles_0 1 rfl rfl)
theorem dX3_leastBubbles_2 : decode cX3_leastBubbles 2 = .ok (.i2l, 1) := dk_133 (dk_at dksX3_leastBubbles_0 2 rfl rfl)
theorem dX3_leastBubbles_3 : decode cX3_leastBubbles 3 = .ok (.lconst 0, 1) := dk_9 (dk_at dksX3_leastBubbles_0 3 rfl rfl)
theorem dX3_leastBubbles_4 : decode cX3_leastBubbles 4 = .ok (.lconst 1, 1) := dk_10 (dk_at dksX3_leastBubbles_0 4 rfl rfl)
theorem dX3_leastBubbles_5 : decode cX3_leastBubbles 5 = .ok (.invokestatic 49, 3) := dk_184 0 49 (dk_at dksX3_leastBubbles_0 5 rfl rfl)
theorem dX3_leastBubbles_8 : decode cX3_leastBubbles 8 = .ok (.ifCond .eq 11, 3) := dk_153 0 11 (dk_at dksX3_leastBubbles_0 8 rfl rfl)
theorem dX3_leastBubbles_11 : decode cX3_leastBubbles 11 = .ok (.iload_n 2, 1) := dk_28 (dk_at dksX3_leastBubbles_0 11 rfl rfl)
theorem dX3_leastBubbles_12 : decode cX3_leastBubbles 12 = .ok (.ifCond .lt 7, 3) := dk_155 0 7 (dk_at dksX3_leastBubbles_0 12 rfl rfl)
theorem dX3_leastBubbles_15 : decode cX3_leastBubbles 15 = .ok (.iconst 0, 1) := dk_3 (dk_at dksX3_leastBubbles_0 15 rfl rfl)
theorem dX3_leastBubbles_16 : decode cX3_leastBubbles 16 = .ok (.goto 4, 3) := dk_167 0 4 (dk_at dksX3_leastBubbles_0 16 rfl rfl)
theorem dX3_leastBubbles_19 : decode cX3_leastBubbles 19 = .ok (.iconst 1, 1) := dk_4 (dk_at dksX3_leastBubbles_0 19 rfl rfl)
theorem dX3_leastBubbles_20 : decode cX3_leastBubbles 20 = .ok (.invokevirtual 150, 3) := dk_182 0 150 (dk_at dksX3_leastBubbles_0 20 rfl rfl)
theorem dX3_leastBubbles_23 : decode cX3_leastBubbles 23 = .ok (.ifCond .eq 5, 3) := dk_153 0 5 (dk_at dksX3_leastBubbles_1 0 rfl rfl)
theorem dX3_leastBubbles_26 : decode cX3_leastBubbles 26 = .ok (.iconst 0, 1) := dk_3 (dk_at dksX3_leastBubbles_1 3 rfl rfl)
theorem dX3_leastBubbles_27 : decode cX3_leastBubbles 27 = .ok (.ireturn, 1) := dk_172 (dk_at dksX3_leastBubbles_1 4 rfl rfl)
theorem dX3_leastBubbles_28 : decode cX3_leastBubbles 28 = .ok (.aload_n 0, 1) := dk_42 (dk_at dksX3_leastBubbles_1 5 rfl rfl)
theorem dX3_leastBubbles_29 : decode cX3_leastBubbles 29 = .ok (.getfield 7, 3) := dk_180 0 7 (dk_at dksX3_leastBubbles_1 6 rfl rfl)
theorem dX3_leastBubbles_32 : decode cX3_leastBubbles 32 = .ok (.aload_n 0, 1) := dk_42 (dk_at dksX3_leastBubbles_1 9 rfl rfl)
theorem dX3_leastBubbles_33 : decode cX3_leastBubbles 33 = .ok (.getfield 13, 3) := dk_180 0 13 (dk_at dksX3_leastBubbles_1 10 rfl rfl)
theorem dX3_leastBubbles_36 : decode cX3_leastBubbles 36 = .ok (.invokestatic 242, 3) := dk_184 0 242 (dk_at dksX3_leastBubbles_1 13 rfl rfl)
theorem dX3_leastBubbles_39 : decode cX3_leastBubbles 39 = .ok (.iconst 0, 1) := dk_3 (dk_at dksX3_leastBubbles_1 16 rfl rfl)
theorem dX3_leastBubbles_40 : decode cX3_leastBubbles 40 = .ok (.istore_n 3, 1) := dk_62 (dk_at dksX3_leastBubbles_1 17 rfl rfl)
theorem dX3_leastBubbles_41 : decode cX3_leastBubbles 41 = .ok (.iload_n 3, 1) := dk_29 (dk_at dksX3_leastBubbles_1 18 rfl rfl)
theorem dX3_leastBubbles_42 : decode cX3_leastBubbles 42 = .ok (.bipush 100, 2) := dk_16 100 (dk_at dksX3_leastBubbles_1 19 rfl rfl)
theorem dX3_leastBubbles_44 : decode cX3_leastBubbles 44 = .ok (.if_icmp .ge 32, 3) := dk_162 0 32 (dk_at dksX3_leastBubbles_1 21 rfl rfl)
theorem dX3_leastBubbles_47 : decode cX3_leastBubbles 47 = .ok (.aload_n 0, 1) := dk_42 (dk_at dksX3_leastBubbles_2 0 rfl rfl)
theorem dX3_leastBubbles_48 : decode cX3_leastBubbles 48 = .ok (.getfield 13, 3) := dk_180 0 13 (dk_at dksX3_leastBubbles_2 1 rfl rfl)
theorem dX3_leastBubbles_51 : decode cX3_leastBubbles 51 = .ok (.iconst 3, 1) := dk_6 (dk_at dksX3_leastBubbles_2 4 rfl rfl)
theorem dX3_leastBubbles_52 : decode cX3_leastBubbles 52 = .ok (.iload_n 1, 1) := dk_27 (dk_at dksX3_leastBubbles_2 5 rfl rfl)
theorem dX3_leastBubbles_53 : decode cX3_leastBubbles 53 = .ok (.iadd, 1) := dk_96 (dk_at dksX3_leastBubbles_2 6 rfl rfl)
theorem dX3_leastBubbles_54 : decode cX3_leastBubbles 54 = .ok (.iload_n 3, 1) := dk_29 (dk_at dksX3_leastBubbles_2 7 rfl rfl)
theorem dX3_leastBubbles_55 : decode cX3_leastBubbles 55 = .ok (.iastore, 1) := dk_79 (dk_at dksX3_leastBubbles_2 8 rfl rfl)
theorem dX3_leastBubbles_56 : decode cX3_leastBubbles 56 = .ok (.aload_n 0, 1) := dk_42 (dk_at dksX3_leastBubbles_2 9 rfl rfl)
theorem dX3_leastBubbles_57 : decode cX3_leastBubbles 57 = .ok (.aload_n 0, 1) := dk_42 (dk_at dksX3_leastBubbles_2 10 rfl rfl)
theorem dX3_leastBubbles_58 : decode cX3_leastBubbles 58 = .ok (.getfield 13, 3) := dk_180 0 13 (dk_at dksX3_leastBubbles_2 11 rfl rfl)
theorem dX3_leastBubbles_61 : decode cX3_leastBubbles 61 = .ok (.invokevirtual 252, 3) := dk_182 0 252 (dk_at dksX3_leastBubbles_2 14 rfl rfl)
theorem dX3_leastBubbles_64 : decode cX3_leastBubbles 64 = .ok (.iload_n 2, 1) := dk_28 (dk_at dksX3_leastBubbles_2 17 rfl rfl)
theorem dX3_leastBubbles_65 : decode cX3_leastBubbles 65 = .ok (.if_icmp .gt 5, 3) := dk_163 0 5 (dk_at dksX3_leastBubbles_2 18 rfl rfl)
theorem dX3_leastBubbles_68 : decode cX3_leastBubbles 68 = .ok (.iload_n 3, 1) := dk_29 (dk_at dksX3_leastBubbles_2 21 rfl rfl)
theorem dX3_leastBubbles_69 : decode cX3_leastBubbles 69 = .ok (.ireturn, 1) := dk_172 (dk_at dksX3_leastBubbles_2 22 rfl rfl)
theorem dX3_leastBubbles_70 : decode cX3_leastBubbles 70 = .ok (.iinc 3 1, 3) := dk_132 3 1 (dk_at dksX3_leastBubbles_3 0 rfl rfl)
theorem dX3_leastBubbles_73 : decode cX3_leastBubbles 73 = .ok (.goto (-32), 3) := dk_167 255 224 (dk_at dksX3_leastBubbles_3 3 rfl rfl)
theorem dX3_leastBubbles_76 : decode cX3_leastBubbles 76 = .ok (.iconst (-1), 1) := dk_2 (dk_at dksX3_leastBubbles_3 6 rfl rfl)
theorem dX3_leastBubbles_77 : decode cX3_leastBubbles 77 = .ok (.ireturn, 1) := dk_172 (dk_at dksX3_leastBubbles_3 7 rfl rfl)
abbrev cX3_runScript : ByteArray := prog_10_method_110_code
def yX3_runScript : MethodName := ⟨RX3, "runScript", "(IJ)I"⟩
def dkwX3_runScript_4 : List UInt8 := [167, 255, 218, 2, 172]
abbrev dktX3_runScript_4 : List UInt8 := dkwX3_runScript_4 ++ []
def dkwX3_runScript_3 : List UInt8 := [100, 104, 184, 1, 81, 109, 20, 1, 85, 113, 136, 182, 1, 87, 154, 0, 6, 21, 4, 172, 132, 4, 1]
abbrev dktX3_runScript_3 : List UInt8 := dkwX3_runScript_3 ++ dktX3_runScript_4
def dkwX3_runScript_2 : List UInt8 := [180, 0, 13, 184, 0, 242, 3, 54, 4, 21, 4, 27, 162, 0, 38, 42, 32, 16, 6, 27, 4, 100, 21, 4]
abbrev dktX3_runScript_2 : List UInt8 := dkwX3_runScript_2 ++ dktX3_runScript_3
def dkwX3_runScript_1 : List UInt8 := [184, 0, 49, 153, 0, 7, 3, 167, 0, 4, 4, 182, 0, 150, 153, 0, 5, 3, 172, 42, 180, 0, 7, 42]
abbrev dktX3_runScript_1 : List UInt8 := dkwX3_runScript_1 ++ dktX3_runScript_2
def dkwX3_runScript_0 : List UInt8 := [42, 27, 133, 10, 20, 1, 18, 184, 0, 49, 153, 0, 24, 32, 9, 16, 6, 27, 104, 184, 1, 81, 10, 101]
abbrev dktX3_runScript_0 : List UInt8 := dkwX3_runScript_0 ++ dktX3_runScript_1
theorem dksX3_runScript_0 : cX3_runScript.data.toList.drop 0 = dktX3_runScript_0 := by decide +kernel
theorem dksX3_runScript_1 : cX3_runScript.data.toList.drop 24 = dktX3_runScript_1 := dk_seg dksX3_runScript_0 24 rfl rfl
theorem dksX3_runScript_2 : cX3_runScript.data.toList.drop 48 = dktX3_runScript_2 := dk_seg dksX3_runScript_1 24 rfl rfl
theorem dksX3_runScript_3 : cX3_runScript.data.toList.drop 72 = dktX3_runScript_3 := dk_seg dksX3_runScript_2 24 rfl rfl
theorem dksX3_runScript_4 : cX3_runScript.data.toList.drop 95 = dktX3_runScript_4 := dk_seg dksX3_runScript_3 23 rfl rfl
theorem dX3_runScript_0 : decode cX3_runScript 0 = .ok (.aload_n 0, 1) := dk_42 (dk_at dksX3_runScript_0 0 rfl rfl)
theorem dX3_runScript_1 : decode cX3_runScript 1 = .ok (.iload_n 1, 1) := dk_27 (dk_at dksX3_runScript_0 1 rfl rfl)
theorem dX3_runScript_2 : decode cX3_runScript 2 = .ok (.i2l, 1) := dk_133 (dk_at dksX3_runScript_0 2 rfl rfl)
theorem dX3_runScript_3 : decode cX3_runScript 3 = .ok (.lconst 1, 1) := dk_10 (dk_at dksX3_runScript_0 3 rfl rfl)
theorem dX3_runScript_4 : decode cX3_runScript 4 = .ok (.ldc2_w 274, 3) := dk_20 1 18 (dk_at dksX3_runScript_0 4 rfl rfl)
theorem dX3_runScript_7 : decode cX3_runScript 7 = .ok (.invokestatic 49, 3) := dk_184 0 49 (dk_at dksX3_runScript_0 7 rfl rfl)
theorem dX3_runScript_10 : decode cX3_runScript 10 = .ok (.ifCond .eq 24, 3) := dk_153 0 24 (dk_at dksX3_runScript_0 10 rfl rfl)
theorem dX3_runScript_13 : decode cX3_runScript 13 = .ok (.lload_n 2, 1) := dk_32 (dk_at dksX3_runScript_0 13 rfl rfl)
theorem dX3_runScript_14 : decode cX3_runScript 14 = .ok (.lconst 0, 1) := dk_9 (dk_at dksX3_runScript_0 14 rfl rfl)
theorem dX3_runScript_15 : decode cX3_runScript 15 = .ok (.bipush 6, 2) := dk_16 6 (dk_at dksX3_runScript_0 15 rfl rfl)
theorem dX3_runScript_17 : decode cX3_runScript 17 = .ok (.iload_n 1, 1) := dk_27 (dk_at dksX3_runScript_0 17 rfl rfl)
theorem dX3_runScript_18 : decode cX3_runScript 18 = .ok (.imul, 1) := dk_104 (dk_at dksX3_runScript_0 18 rfl rfl)
theorem dX3_runScript_19 : decode cX3_runScript 19 = .ok (.invokestatic 337, 3) := dk_184 1 81 (dk_at dksX3_runScript_0 19 rfl rfl)
theorem dX3_runScript_22 : decode cX3_runScript 22 = .ok (.lconst 1, 1) := dk_10 (dk_at dksX3_runScript_0 22 rfl rfl)
theorem dX3_runScript_23 : decode cX3_runScript 23 = .ok (.lsub, 1) := dk_101 (dk_at dksX3_runScript_0 23 rfl rfl)
theorem dX3_runScript_24 : decode cX3_runScript 24 = .ok (.invokestatic 49, 3) := dk_184 0 49 (dk_at dksX3_runScript_1 0 rfl rfl)
theorem dX3_runScript_27 : decode cX3_runScript 27 = .ok (.ifCond .eq 7, 3) := dk_153 0 7 (dk_at dksX3_runScript_1 3 rfl rfl)
theorem dX3_runScript_30 : decode cX3_runScript 30 = .ok (.iconst 0, 1) := dk_3 (dk_at dksX3_runScript_1 6 rfl rfl)
theorem dX3_runScript_31 : decode cX3_runScript 31 = .ok (.goto 4, 3) := dk_167 0 4 (dk_at dksX3_runScript_1 7 rfl rfl)
theorem dX3_runScript_34 : decode cX3_runScript 34 = .ok (.iconst 1, 1) := dk_4 (dk_at dksX3_runScript_1 10 rfl rfl)
theorem dX3_runScript_35 : decode cX3_runScript 35 = .ok (.invokevirtual 150, 3) := dk_182 0 150 (dk_at dksX3_runScript_1 11 rfl rfl)
theorem dX3_runScript_38 : decode cX3_runScript 38 = .ok (.ifCond .eq 5, 3) := dk_153 0 5 (dk_at dksX3_runScript_1 14 rfl rfl)
theorem dX3_runScript_41 : decode cX3_runScript 41 = .ok (.iconst 0, 1) := dk_3 (dk_at dksX3_runScript_1 17 rfl rfl)
theorem dX3_runScript_42 : decode cX3_runScript 42 = .ok (.ireturn, 1) := dk_172 (dk_at dksX3_runScript_1 18 rfl rfl)
theorem dX3_runScript_43 : decode cX3_runScript 43 = .ok (.aload_n 0, 1) := dk_42 (dk_at dksX3_runScript_1 19 rfl rfl)
theorem dX3_runScript_44 : decode cX3_runScript 44 = .ok (.getfield 7, 3) := dk_180 0 7 (dk_at dksX3_runScript_1 20 rfl rfl)
theorem dX3_runScript_47 : decode cX3_runScript 47 = .ok (.aload_n 0, 1) := dk_42 (dk_at dksX3_runScript_1 23 rfl rfl)
theorem dX3_runScript_48 : decode cX3_runScript 48 = .ok (.getfield 13, 3) := dk_180 0 13 (dk_at dksX3_runScript_2 0 rfl rfl)
theorem dX3_runScript_51 : decode cX3_runScript 51 = .ok (.invokestatic 242, 3) := dk_184 0 242 (dk_at dksX3_runScript_2 3 rfl rfl)
theorem dX3_runScript_54 : decode cX3_runScript 54 = .ok (.iconst 0, 1) := dk_3 (dk_at dksX3_runScript_2 6 rfl rfl)
theorem dX3_runScript_55 : decode cX3_runScript 55 = .ok (.istore 4, 2) := dk_54 4 (dk_at dksX3_runScript_2 7 rfl rfl)
theorem dX3_runScript_57 : decode cX3_runScript 57 = .ok (.iload 4, 2) := dk_21 4 (dk_at dksX3_runScript_2 9 rfl rfl)
theorem dX3_runScript_59 : decode cX3_runScript 59 = .ok (.iload_n 1, 1) := dk_27 (dk_at dksX3_runScript_2 11 rfl rfl)
theorem dX3_runScript_60 : decode cX3_runScript 60 = .ok (.if_icmp .ge 38, 3) := dk_162 0 38 (dk_at dksX3_runScript_2 12 rfl rfl)
theorem dX3_runScript_63 : decode cX3_runScript 63 = .ok (.aload_n 0, 1) := dk_42 (dk_at dksX3_runScript_2 15 rfl rfl)
theorem dX3_runScript_64 : decode cX3_runScript 64 = .ok (.lload_n 2, 1) := dk_32 (dk_at dksX3_runScript_2 16 rfl rfl)
theorem dX3_runScript_65 : decode cX3_runScript 65 = .ok (.bipush 6, 2) := dk_16 6 (dk_at dksX3_runScript_2 17 rfl rfl)
theorem dX3_runScript_67 : decode cX3_runScript 67 = .ok (.iload_n 1, 1) := dk_27 (dk_at dksX3_runScript_2 19 rfl rfl)
theorem dX3_runScript_68 : decode cX3_runScript 68 = .ok (.iconst 1, 1) := dk_4 (dk_at dksX3_runScript_2 20 rfl rfl)
theorem dX3_runScript_69 : decode cX3_runScript 69 = .ok (.isub, 1) := dk_100 (dk_at dksX3_runScript_2 21 rfl rfl)
theorem dX3_runScript_70 : decode cX3_runScript 70 = .ok (.iload 4, 2) := dk_21 4 (dk_at dksX3_runScript_2 22 rfl rfl)
theorem dX3_runScript_72 : decode cX3_runScript 72 = .ok (.isub, 1) := dk_100 (dk_at dksX3_runScript_3 0 rfl rfl)
theorem dX3_runScript_73 : decode cX3_runScript 73 = .ok (.imul, 1) := dk_104 (dk_at dksX3_runScript_3 1 rfl rfl)
theorem dX3_runScript_74 : decode cX3_runScript 74 = .ok (.invokestatic 337, 3) := dk_184 1 81 (dk_at dksX3_runScript_3 2 rfl rfl)
theorem dX3_runScript_77 : decode cX3_runScript 77 = .ok (.ldiv, 1) := dk_109 (dk_at dksX3_runScript_3 5 rfl rfl)
theorem dX3_runScript_78 : decode cX3_runScript 78 = .ok (.ldc2_w 341, 3) := dk_20 1 85 (dk_at dksX3_runScript_3 6 rfl rfl)
theorem dX3_runScript_81 : decode cX3_runScript 81 = .ok (.lrem, 1) := dk_113 (dk_at dksX3_runScript_3 9 rfl rfl)
theorem dX3_runScript_82 : decode cX3_runScript 82 = .ok (.l2i, 1) := dk_136 (dk_at dksX3_runScript_3 10 rfl rfl)
theorem dX3_runScript_83 : decode cX3_runScript 83 = .ok (.invokevirtual 343, 3) := dk_182 1 87 (dk_at dksX3_runScript_3 11 rfl rfl)
theorem dX3_runScript_86 : decode cX3_runScript 86 = .ok (.ifCond .ne 6, 3) := dk_154 0 6 (dk_at dksX3_runScript_3 14 rfl rfl)
theorem dX3_runScript_89 : decode cX3_runScript 89 = .ok (.iload 4, 2) := dk_21 4 (dk_at dksX3_runScript_3 17 rfl rfl)
theorem dX3_runScript_91 : decode cX3_runScript 91 = .ok (.ireturn, 1) := dk_172 (dk_at dksX3_runScript_3 19 rfl rfl)
theorem dX3_runScript_92 : decode cX3_runScript 92 = .ok (.iinc 4 1, 3) := dk_132 4 1 (dk_at dksX3_runScript_3 20 rfl rfl)
theorem dX3_runScript_95 : decode cX3_runScript 95 = .ok (.goto (-38), 3) := dk_167 255 218 (dk_at dksX3_runScript_4 0 rfl rfl)
theorem dX3_runScript_98 : decode cX3_runScript 98 = .ok (.iconst (-1), 1) := dk_2 (dk_at dksX3_runScript_4 3 rfl rfl)
theorem dX3_runScript_99 : decode cX3_runScript 99 = .ok (.ireturn, 1) := dk_172 (dk_at dksX3_runScript_4 4 rfl rfl)
abbrev cX3_tens : ByteArray := prog_10_method_6_code
def yX3_tens : MethodName := ⟨RX3, "tens", "(I)J"⟩
def dkwX3_tens_0 : List UInt8 := [10, 64, 3, 62, 29, 26, 162, 0, 15, 31, 20, 0, 43, 105, 64, 132, 3, 1, 167, 255, 242, 31, 173]
abbrev dktX3_tens_0 : List UInt8 := dkwX3_tens_0 ++ []
theorem dksX3_tens_0 : cX3_tens.data.toList.drop 0 = dktX3_tens_0 := by decide +kernel
theorem dX3_tens_0 : decode cX3_tens 0 = .ok (.lconst 1, 1) := dk_10 (dk_at dksX3_tens_0 0 rfl rfl)
theorem dX3_tens_1 : decode cX3_tens 1 = .ok (.lstore_n 1, 1) := dk_64 (dk_at dksX3_tens_0 1 rfl rfl)
theorem dX3_tens_2 : decode cX3_tens 2 = .ok (.iconst 0, 1) := dk_3 (dk_at dksX3_tens_0 2 rfl rfl)
theorem dX3_tens_3 : decode cX3_tens 3 = .ok (.istore_n 3, 1) := dk_62 (dk_at dksX3_tens_0 3 rfl rfl)
theorem dX3_tens_4 : decode cX3_tens 4 = .ok (.iload_n 3, 1) := dk_29 (dk_at dksX3_tens_0 4 rfl rfl)
theorem dX3_tens_5 : decode cX3_tens 5 = .ok (.iload_n 0, 1) := dk_26 (dk_at dksX3_tens_0 5 rfl rfl)
theorem dX3_tens_6 : decode cX3_tens 6 = .ok (.if_icmp .ge 15, 3) := dk_162 0 15 (dk_at dksX3_tens_0 6 rfl rfl)
theorem dX3_tens_9 : decode cX3_tens 9 = .ok (.lload_n 1, 1) := dk_31 (dk_at dksX3_tens_0 9 rfl rfl)
theorem dX3_tens_10 : decode cX3_tens 10 = .ok (.ldc2_w 43, 3) := dk_20 0 43 (dk_at dksX3_tens_0 10 rfl rfl)
theorem dX3_tens_13 : decode cX3_tens 13 = .ok (.lmul, 1) := dk_105 (dk_at dksX3_tens_0 13 rfl rfl)
theorem dX3_tens_14 : decode cX3_tens 14 = .ok (.lstore_n 1, 1) := dk_64 (dk_at dksX3_tens_0 14 rfl rfl)
theorem dX3_tens_15 : decode cX3_tens 15 = .ok (.iinc 3 1, 3) := dk_132 3 1 (dk_at dksX3_tens_0 15 rfl rfl)
theorem dX3_tens_18 : decode cX3_tens 18 = .ok (.goto (-14), 3) := dk_167 255 242 (dk_at dksX3_tens_0 18 rfl rfl)
theorem dX3_tens_21 : decode cX3_tens 21 = .ok (.lload_n 1, 1) := dk_31 (dk_at dksX3_tens_0 21 rfl rfl)
theorem dX3_tens_22 : decode cX3_tens 22 = .ok (.lreturn, 1) := dk_173 (dk_at dksX3_tens_0 22 rfl rfl)
abbrev cX3_command : ByteArray := prog_10_method_109_code
def yX3_command : MethodName := ⟨RX3, "command", "(I)Z"⟩
def dkwX3_command_12 : List UInt8 := [180, 0, 13, 29, 182, 0, 107, 21, 6, 160, 0, 7, 4, 167, 0, 4, 3, 172, 3, 172]
abbrev dktX3_command_12 : List UInt8 := dkwX3_command_12 ++ []
def dkwX3_command_11 : List UInt8 := [17, 3, 232, 112, 16, 10, 162, 0, 32, 42, 180, 0, 13, 29, 184, 0, 214, 153, 0, 21, 42, 42]
abbrev dktX3_command_11 : List UInt8 := dkwX3_command_11 ++ dktX3_command_12
def dkwX3_command_10 : List UInt8 := [162, 0, 20, 42, 42, 180, 0, 13, 182, 0, 252, 21, 5, 163, 0, 7, 4, 167, 0, 4, 3, 172, 27]
abbrev dktX3_command_10 : List UInt8 := dkwX3_command_10 ++ dktX3_command_11
def dkwX3_command_9 : List UInt8 := [16, 100, 112, 182, 1, 78, 153, 0, 7, 4, 167, 0, 4, 3, 172, 27, 19, 1, 59, 112, 16, 100]
abbrev dktX3_command_9 : List UInt8 := dkwX3_command_9 ++ dktX3_command_10
def dkwX3_command_8 : List UInt8 := [28, 182, 1, 75, 153, 0, 7, 4, 167, 0, 4, 3, 172, 21, 5, 154, 0, 22, 42, 28, 27, 16, 100, 108]
abbrev dktX3_command_8 : List UInt8 := dkwX3_command_8 ++ dktX3_command_9
def dkwX3_command_7 : List UInt8 := [16, 100, 112, 182, 1, 72, 153, 0, 7, 4, 167, 0, 4, 3, 172, 27, 17, 39, 16, 112, 154, 0, 15, 42]
abbrev dktX3_command_7 : List UInt8 := dkwX3_command_7 ++ dktX3_command_8
def dkwX3_command_6 : List UInt8 := [182, 1, 69, 153, 0, 7, 4, 167, 0, 4, 3, 172, 21, 6, 154, 0, 22, 42, 29, 27, 16, 10, 108]
abbrev dktX3_command_6 : List UInt8 := dkwX3_command_6 ++ dktX3_command_7
def dkwX3_command_5 : List UInt8 := [153, 0, 7, 4, 167, 0, 4, 3, 172, 21, 6, 154, 0, 22, 42, 29, 21, 4, 21, 5, 16, 10, 108]
abbrev dktX3_command_5 : List UInt8 := dkwX3_command_5 ++ dktX3_command_6
def dkwX3_command_4 : List UInt8 := [153, 0, 7, 4, 167, 0, 4, 3, 172, 27, 17, 3, 232, 112, 154, 0, 15, 42, 29, 182, 1, 66]
abbrev dktX3_command_4 : List UInt8 := dkwX3_command_4 ++ dktX3_command_5
def dkwX3_command_3 : List UInt8 := [42, 28, 27, 17, 39, 16, 112, 182, 1, 60, 172, 21, 5, 154, 0, 17, 42, 29, 21, 4, 182, 1, 63]
abbrev dktX3_command_3 : List UInt8 := dkwX3_command_3 ++ dktX3_command_4
def dkwX3_command_2 : List UInt8 := [170, 0, 0, 0, 0, 0, 1, 20, 0, 0, 0, 1, 0, 0, 0, 9, 0, 0, 0, 52, 0, 0, 0, 63, 0, 0, 0, 84, 0, 0, 0, 106, 0, 0, 0, 132, 0, 0, 0, 158, 0, 0, 0, 180, 0, 0, 0, 206, 0, 0, 0, 235]
abbrev dktX3_command_2 : List UInt8 := dkwX3_command_2 ++ dktX3_command_3
def dkwX3_command_1 : List UInt8 := [112, 54, 4, 27, 16, 100, 112, 54, 5, 27, 16, 10, 112, 54, 6, 27, 19, 1, 59, 108]
abbrev dktX3_command_1 : List UInt8 := dkwX3_command_1 ++ dktX3_command_2
def dkwX3_command_0 : List UInt8 := [27, 17, 39, 16, 108, 16, 10, 112, 61, 27, 17, 3, 232, 108, 16, 100, 112, 62, 27, 16, 100, 108, 16, 10]
abbrev dktX3_command_0 : List UInt8 := dkwX3_command_0 ++ dktX3_command_1
theorem dksX3_command_0 : cX3_command.data.toList.drop 0 = dktX3_command_0 := by decide +kernel
theorem dksX3_command_1 : cX3_command.data.toList.drop 24 = dktX3_command_1 := dk_seg dksX3_command_0 24 rfl rfl
theorem dksX3_command_2 : cX3_command.data.toList.drop 44 = dktX3_command_2 := dk_seg dksX3_command_1 20 rfl rfl
theorem dksX3_command_3 : cX3_command.data.toList.drop 96 = dktX3_command_3 := dk_seg dksX3_command_2 52 rfl rfl
theorem dksX3_command_4 : cX3_command.data.toList.drop 119 = dktX3_command_4 := dk_seg dksX3_command_3 23 rfl rfl
theorem dksX3_command_5 : cX3_command.data.toList.drop 141 = dktX3_command_5 := dk_seg dksX3_command_4 22 rfl rfl
theorem dksX3_command_6 : cX3_command.data.toList.drop 164 = dktX3_command_6 := dk_seg dksX3_command_5 23 rfl rfl
theorem dksX3_command_7 : cX3_command.data.toList.drop 187 = dktX3_command_7 := dk_seg dksX3_command_6 23 rfl rfl
theorem dksX3_command_8 : cX3_command.data.toList.drop 211 = dktX3_command_8 := dk_seg dksX3_command_7 24 rfl rfl
theorem dksX3_command_9 : cX3_command.data.toList.drop 235 = dktX3_command_9 := dk_seg dksX3_command_8 24 rfl rfl
theorem dksX3_command_10 : cX3_command.data.toList.drop 257 = dktX3_command_10 := dk_seg dksX3_command_9 22 rfl rfl
theorem dksX3_command_11 : cX3_command.data.toList.drop 280 = dktX3_command_11 := dk_seg dksX3_command_10 23 rfl rfl
theorem dksX3_command_12 : cX3_command.data.toList.drop 302 = dktX3_command_12 := dk_seg dksX3_command_11 22 rfl rfl
theorem dX3_command_0 : decode cX3_command 0 = .ok (.iload_n 1, 1) := dk_27 (dk_at dksX3_command_0 0 rfl rfl)
theorem dX3_command_1 : decode cX3_command 1 = .ok (.sipush 10000, 3) := dk_17 39 16 (dk_at dksX3_command_0 1 rfl rfl)
theorem dX3_command_4 : decode cX3_command 4 = .ok (.idiv, 1) := dk_108 (dk_at dksX3_command_0 4 rfl rfl)
theorem dX3_command_5 : decode cX3_command 5 = .ok (.bipush 10, 2) := dk_16 10 (dk_at dksX3_command_0 5 rfl rfl)
theorem dX3_command_7 : decode cX3_command 7 = .ok (.irem, 1) := dk_112 (dk_at dksX3_command_0 7 rfl rfl)
theorem dX3_command_8 : decode cX3_command 8 = .ok (.istore_n 2, 1) := dk_61 (dk_at dksX3_command_0 8 rfl rfl)
theorem dX3_command_9 : decode cX3_command 9 = .ok (.iload_n 1, 1) := dk_27 (dk_at dksX3_command_0 9 rfl rfl)
theorem dX3_command_10 : decode cX3_command 10 = .ok (.sipush 1000, 3) := dk_17 3 232 (dk_at dksX3_command_0 10 rfl rfl)
theorem dX3_command_13 : decode cX3_command 13 = .ok (.idiv, 1) := dk_108 (dk_at dksX3_command_0 13 rfl rfl)
theorem dX3_command_14 : decode cX3_command 14 = .ok (.bipush 100, 2) := dk_16 100 (dk_at dksX3_command_0 14 rfl rfl)
theorem dX3_command_16 : decode cX3_command 16 = .ok (.irem, 1) := dk_112 (dk_at dksX3_command_0 16 rfl rfl)
theorem dX3_command_17 : decode cX3_command 17 = .ok (.istore_n 3, 1) := dk_62 (dk_at dksX3_command_0 17 rfl rfl)
theorem dX3_command_18 : decode cX3_command 18 = .ok (.iload_n 1, 1) := dk_27 (dk_at dksX3_command_0 18 rfl rfl)
theorem dX3_command_19 : decode cX3_command 19 = .ok (.bipush 100, 2) := dk_16 100 (dk_at dksX3_command_0 19 rfl rfl)
theorem dX3_command_21 : decode cX3_command 21 = .ok (.idiv, 1) := dk_108 (dk_at dksX3_command_0 21 rfl rfl)
theorem dX3_command_22 : decode cX3_command 22 = .ok (.bipush 10, 2) := dk_16 10 (dk_at dksX3_command_0 22 rfl rfl)
theorem dX3_command_24 : decode cX3_command 24 = .ok (.irem, 1) := dk_112 (dk_at dksX3_command_1 0 rfl rfl)
theorem dX3_command_25 : decode cX3_command 25 = .ok (.istore 4, 2) := dk_54 4 (dk_at dksX3_command_1 1 rfl rfl)
theorem dX3_command_27 : decode cX3_command 27 = .ok (.iload_n 1, 1) := dk_27 (dk_at dksX3_command_1 3 rfl rfl)
theorem dX3_command_28 : decode cX3_command 28 = .ok (.bipush 100, 2) := dk_16 100 (dk_at dksX3_command_1 4 rfl rfl)
theorem dX3_command_30 : decode cX3_command 30 = .ok (.irem, 1) := dk_112 (dk_at dksX3_command_1 6 rfl rfl)
theorem dX3_command_31 : decode cX3_command 31 = .ok (.istore 5, 2) := dk_54 5 (dk_at dksX3_command_1 7 rfl rfl)
theorem dX3_command_33 : decode cX3_command 33 = .ok (.iload_n 1, 1) := dk_27 (dk_at dksX3_command_1 9 rfl rfl)
theorem dX3_command_34 : decode cX3_command 34 = .ok (.bipush 10, 2) := dk_16 10 (dk_at dksX3_command_1 10 rfl rfl)
theorem dX3_command_36 : decode cX3_command 36 = .ok (.irem, 1) := dk_112 (dk_at dksX3_command_1 12 rfl rfl)
theorem dX3_command_37 : decode cX3_command 37 = .ok (.istore 6, 2) := dk_54 6 (dk_at dksX3_command_1 13 rfl rfl)
theorem dX3_command_39 : decode cX3_command 39 = .ok (.iload_n 1, 1) := dk_27 (dk_at dksX3_command_1 15 rfl rfl)
theorem dX3_command_40 : decode cX3_command 40 = .ok (.ldc_w 315, 3) := dk_19 1 59 (dk_at dksX3_command_1 16 rfl rfl)
theorem dX3_command_43 : decode cX3_command 43 = .ok (.idiv, 1) := dk_108 (dk_at dksX3_command_1 19 rfl rfl)
theorem dX3_command_44 : decode cX3_command 44 = .ok (.tableswitch 276 1 9 #[52, 63, 84, 106, 132, 158, 180, 206, 235], 52) := by decide +kernel
theorem dX3_command_96 : decode cX3_command 96 = .ok (.aload_n 0, 1) := dk_42 (dk_at dksX3_command_3 0 rfl rfl)
theorem dX3_command_97 : decode cX3_command 97 = .ok (.iload_n 2, 1) := dk_28 (dk_at dksX3_command_3 1 rfl rfl)
theorem dX3_command_98 : decode cX3_command 98 = .ok (.iload_n 1, 1) := dk_27 (dk_at dksX3_command_3 2 rfl rfl)
theorem dX3_command_99 : decode cX3_command 99 = .ok (.sipush 10000, 3) := dk_17 39 16 (dk_at dksX3_command_3 3 rfl rfl)
theorem dX3_command_102 : decode cX3_command 102 = .ok (.irem, 1) := dk_112 (dk_at dksX3_command_3 6 rfl rfl)
theorem dX3_command_103 : decode cX3_command 103 = .ok (.invokevirtual 316, 3) := dk_182 1 60 (dk_at dksX3_command_3 7 rfl rfl)
theorem dX3_command_106 : decode cX3_command 106 = .ok (.ireturn, 1) := dk_172 (dk_at dksX3_command_3 10 rfl rfl)
theorem dX3_command_107 : decode cX3_command 107 = .ok (.iload 5, 2) := dk_21 5 (dk_at dksX3_command_3 11 rfl rfl)
theorem dX3_command_109 : decode cX3_command 109 = .ok (.ifCond .ne 17, 3) := dk_154 0 17 (dk_at dksX3_command_3 13 rfl rfl)
theorem dX3_command_112 : decode cX3_command 112 = .ok (.aload_n 0, 1) := dk_42 (dk_at dksX3_command_3 16 rfl rfl)
theorem dX3_command_113 : decode cX3_command 113 = .ok (.iload_n 3, 1) := dk_29 (dk_at dksX3_command_3 17 rfl rfl)
theorem dX3_command_114 : decode cX3_command 114 = .ok (.iload 4, 2) := dk_21 4 (dk_at dksX3_command_3 18 rfl rfl)
theorem dX3_command_116 : decode cX3_command 116 = .ok (.invokevirtual 319, 3) := dk_182 1 63 (dk_at dksX3_command_3 20 rfl rfl)
theorem dX3_command_119 : decode cX3_command 119 = .ok (.ifCond .eq 7, 3) := dk_153 0 7 (dk_at dksX3_command_4 0 rfl rfl)
theorem dX3_command_122 : decode cX3_command 122 = .ok (.iconst 1, 1) := dk_4 (dk_at dksX3_command_4 3 rfl rfl)
theorem dX3_command_123 : decode cX3_command 123 = .ok (.goto 4, 3) := dk_167 0 4 (dk_at dksX3_command_4 4 rfl rfl)
theorem dX3_command_126 : decode cX3_command 126 = .ok (.iconst 0, 1) := dk_3 (dk_at dksX3_command_4 7 rfl rfl)
theorem dX3_command_127 : decode cX3_command 127 = .ok (.ireturn, 1) := dk_172 (dk_at dksX3_command_4 8 rfl rfl)
theorem dX3_command_128 : decode cX3_command 128 = .ok (.iload_n 1, 1) := dk_27 (dk_at dksX3_command_4 9 rfl rfl)
theorem dX3_command_129 : decode cX3_command 129 = .ok (.sipush 1000, 3) := dk_17 3 232 (dk_at dksX3_command_4 10 rfl rfl)
theorem dX3_command_132 : decode cX3_command 132 = .ok (.irem, 1) := dk_112 (dk_at dksX3_command_4 13 rfl rfl)
theorem dX3_command_133 : decode cX3_command 133 = .ok (.ifCond .ne 15, 3) := dk_154 0 15 (dk_at dksX3_command_4 14 rfl rfl)
theorem dX3_command_136 : decode cX3_command 136 = .ok (.aload_n 0, 1) := dk_42 (dk_at dksX3_command_4 17 rfl rfl)
theorem dX3_command_137 : decode cX3_command 137 = .ok (.iload_n 3, 1) := dk_29 (dk_at dksX3_command_4 18 rfl rfl)
theorem dX3_command_138 : decode cX3_command 138 = .ok (.invokevirtual 322, 3) := dk_182 1 66 (dk_at dksX3_command_4 19 rfl rfl)
theorem dX3_command_141 : decode cX3_command 141 = .ok (.ifCond .eq 7, 3) := dk_153 0 7 (dk_at dksX3_command_5 0 rfl rfl)
theorem dX3_command_144 : decode cX3_command 144 = .ok (.iconst 1, 1) := dk_4 (dk_at dksX3_command_5 3 rfl rfl)
theorem dX3_command_145 : decode cX3_command 145 = .ok (.goto 4, 3) := dk_167 0 4 (dk_at dksX3_command_5 4 rfl rfl)
theorem dX3_command_148 : decode cX3_command 148 = .ok (.iconst 0, 1) := dk_3 (dk_at dksX3_command_5 7 rfl rfl)
theorem dX3_command_149 : decode cX3_command 149 = .ok (.ireturn, 1) := dk_172 (dk_at dksX3_command_5 8 rfl rfl)
theorem dX3_command_150 : decode cX3_command 150 = .ok (.iload 6, 2) := dk_21 6 (dk_at dksX3_command_5 9 rfl rfl)
theorem dX3_command_152 : decode cX3_command 152 = .ok (.ifCond .ne 22, 3) := dk_154 0 22 (dk_at dksX3_command_5 11 rfl rfl)
theorem dX3_command_155 : decode cX3_command 155 = .ok (.aload_n 0, 1) := dk_42 (dk_at dksX3_command_5 14 rfl rfl)
theorem dX3_command_156 : decode cX3_command 156 = .ok (.iload_n 3, 1) := dk_29 (dk_at dksX3_command_5 15 rfl rfl)
theorem dX3_command_157 : decode cX3_command 157 = .ok (.iload 4, 2) := dk_21 4 (dk_at dksX3_command_5 16 rfl rfl)
theorem dX3_command_159 : decode cX3_command 159 = .ok (.iload 5, 2) := dk_21 5 (dk_at dksX3_command_5 18 rfl rfl)
theorem dX3_command_161 : decode cX3_command 161 = .ok (.bipush 10, 2) := dk_16 10 (dk_at dksX3_command_5 20 rfl rfl)
theorem dX3_command_163 : decode cX3_command 163 = .ok (.idiv, 1) := dk_108 (dk_at dksX3_command_5 22 rfl rfl)
theorem dX3_command_164 : decode cX3_command 164 = .ok (.invokevirtual 325, 3) := dk_182 1 69 (dk_at dksX3_command_6 0 rfl rfl)
theorem dX3_command_167 : decode cX3_command 167 = .ok (.ifCond .eq 7, 3) := dk_153 0 7 (dk_at dksX3_command_6 3 rfl rfl)
theorem dX3_command_170 : decode cX3_command 170 = .ok (.iconst 1, 1) := dk_4 (dk_at dksX3_command_6 6 rfl rfl)
theorem dX3_command_171 : decode cX3_command 171 = .ok (.goto 4, 3) := dk_167 0 4 (dk_at dksX3_command_6 7 rfl rfl)
theorem dX3_command_174 : decode cX3_command 174 = .ok (.iconst 0, 1) := dk_3 (dk_at dksX3_command_6 10 rfl rfl)
theorem dX3_command_175 : decode cX3_command 175 = .ok (.ireturn, 1) := dk_172 (dk_at dksX3_command_6 11 rfl rfl)
theorem dX3_command_176 : decode cX3_command 176 = .ok (.iload 6, 2) := dk_21 6 (dk_at dksX3_command_6 12 rfl rfl)
theorem dX3_command_178 : decode cX3_command 178 = .ok (.ifCond .ne 22, 3) := dk_154 0 22 (dk_at dksX3_command_6 14 rfl rfl)
theorem dX3_command_181 : decode cX3_command 181 = .ok (.aload_n 0, 1) := dk_42 (dk_at dksX3_command_6 17 rfl rfl)
theorem dX3_command_182 : decode cX3_command 182 = .ok (.iload_n 3, 1) := dk_29 (dk_at dksX3_command_6 18 rfl rfl)
theorem dX3_command_183 : decode cX3_command 183 = .ok (.iload_n 1, 1) := dk_27 (dk_at dksX3_command_6 19 rfl rfl)
theorem dX3_command_184 : decode cX3_command 184 = .ok (.bipush 10, 2) := dk_16 10 (dk_at dksX3_command_6 20 rfl rfl)
theorem dX3_command_186 : decode cX3_command 186 = .ok (.idiv, 1) := dk_108 (dk_at dksX3_command_6 22 rfl rfl)
theorem dX3_command_187 : decode cX3_command 187 = .ok (.bipush 100, 2) := dk_16 100 (dk_at dksX3_command_7 0 rfl rfl)
theorem dX3_command_189 : decode cX3_command 189 = .ok (.irem, 1) := dk_112 (dk_at dksX3_command_7 2 rfl rfl)
theorem dX3_command_190 : decode cX3_command 190 = .ok (.invokevirtual 328, 3) := dk_182 1 72 (dk_at dksX3_command_7 3 rfl rfl)
theorem dX3_command_193 : decode cX3_command 193 = .ok (.ifCond .eq 7, 3) := dk_153 0 7 (dk_at dksX3_command_7 6 rfl rfl)
theorem dX3_command_196 : decode cX3_command 196 = .ok (.iconst 1, 1) := dk_4 (dk_at dksX3_command_7 9 rfl rfl)
theorem dX3_command_197 : decode cX3_command 197 = .ok (.goto 4, 3) := dk_167 0 4 (dk_at dksX3_command_7 10 rfl rfl)
theorem dX3_command_200 : decode cX3_command 200 = .ok (.iconst 0, 1) := dk_3 (dk_at dksX3_command_7 13 rfl rfl)
theorem dX3_command_201 : decode cX3_command 201 = .ok (.ireturn, 1) := dk_172 (dk_at dksX3_command_7 14 rfl rfl)
theorem dX3_command_202 : decode cX3_command 202 = .ok (.iload_n 1, 1) := dk_27 (dk_at dksX3_command_7 15 rfl rfl)
theorem dX3_command_203 : decode cX3_command 203 = .ok (.sipush 10000, 3) := dk_17 39 16 (dk_at dksX3_command_7 16 rfl rfl)
theorem dX3_command_206 : decode cX3_command 206 = .ok (.irem, 1) := dk_112 (dk_at dksX3_command_7 19 rfl rfl)
theorem dX3_command_207 : decode cX3_command 207 = .ok (.ifCond .ne 15, 3) := dk_154 0 15 (dk_at dksX3_command_7 20 rfl rfl)
theorem dX3_command_210 : decode cX3_command 210 = .ok (.aload_n 0, 1) := dk_42 (dk_at dksX3_command_7 23 rfl rfl)
theorem dX3_command_211 : decode cX3_command 211 = .ok (.iload_n 2, 1) := dk_28 (dk_at dksX3_command_8 0 rfl rfl)
theorem dX3_command_212 : decode cX3_command 212 = .ok (.invokevirtual 331, 3) := dk_182 1 75 (dk_at dksX3_command_8 1 rfl rfl)
theorem dX3_command_215 : decode cX3_command 215 = .ok (.ifCond .eq 7, 3) := dk_153 0 7 (dk_at dksX3_command_8 4 rfl rfl)
theorem dX3_command_218 : decode cX3_command 218 = .ok (.iconst 1, 1) := dk_4 (dk_at dksX3_command_8 7 rfl rfl)
theorem dX3_command_219 : decode cX3_command 219 = .ok (.goto 4, 3) := dk_167 0 4 (dk_at dksX3_command_8 8 rfl rfl)
theorem dX3_command_222 : decode cX3_command 222 = .ok (.iconst 0, 1) := dk_3 (dk_at dksX3_command_8 11 rfl rfl)
theorem dX3_command_223 : decode cX3_command 223 = .ok (.ireturn, 1) := dk_172 (dk_at dksX3_command_8 12 rfl rfl)
theorem dX3_command_224 : decode cX3_command 224 = .ok (.iload 5, 2) := dk_21 5 (dk_at dksX3_command_8 13 rfl rfl)
theorem dX3_command_226 : decode cX3_command 226 = .ok (.ifCond .ne 22, 3) := dk_154 0 22 (dk_at dksX3_command_8 15 rfl rfl)
theorem dX3_command_229 : decode cX3_command 229 = .ok (.aload_n 0, 1) := dk_42 (dk_at dksX3_command_8 18 rfl rfl)
theorem dX3_command_230 : decode cX3_command 230 = .ok (.iload_n 2, 1) := dk_28 (dk_at dksX3_command_8 19 rfl rfl)
theorem dX3_command_231 : decode cX3_command 231 = .ok (.iload_n 1, 1) := dk_27 (dk_at dksX3_command_8 20 rfl rfl)
theorem dX3_command_232 : decode cX3_command 232 = .ok (.bipush 100, 2) := dk_16 100 (dk_at dksX3_command_8 21 rfl rfl)
theorem dX3_command_234 : decode cX3_command 234 = .ok (.idiv, 1) := dk_108 (dk_at dksX3_command_8 23 rfl rfl)
theorem dX3_command_235 : decode cX3_command 235 = .ok (.bipush 100, 2) := dk_16 100 (dk_at dksX3_command_9 0 rfl rfl)
theorem dX3_command_237 : decode cX3_command 237 = .ok (.irem, 1) := dk_112 (dk_at dksX3_command_9 2 rfl rfl)
theorem dX3_command_238 : decode cX3_command 238 = .ok (.invokevirtual 334, 3) := dk_182 1 78 (dk_at dksX3_command_9 3 rfl rfl)
theorem dX3_command_241 : decode cX3_command 241 = .ok (.ifCond .eq 7, 3) := dk_153 0 7 (dk_at dksX3_command_9 6 rfl rfl)
theorem dX3_command_244 : decode cX3_command 244 = .ok (.iconst 1, 1) := dk_4 (dk_at dksX3_command_9 9 rfl rfl)
theorem dX3_command_245 : decode cX3_command 245 = .ok (.goto 4, 3) := dk_167 0 4 (dk_at dksX3_command_9 10 rfl rfl)
theorem dX3_command_248 : decode cX3_command 248 = .ok (.iconst 0, 1) := dk_3 (dk_at dksX3_command_9 13 rfl rfl)
theorem dX3_command_249 : decode cX3_command 249 = .ok (.ireturn, 1) := dk_172 (dk_at dksX3_command_9 14 rfl rfl)
theorem dX3_command_250 : decode cX3_command 250 = .ok (.iload_n 1, 1) := dk_27 (dk_at dksX3_command_9 15 rfl rfl)
theorem dX3_command_251 : decode cX3_command 251 = .ok (.ldc_w 315, 3) := dk_19 1 59 (dk_at dksX3_command_9 16 rfl rfl)
theorem dX3_command_254 : decode cX3_command 254 = .ok (.irem, 1) := dk_112 (dk_at dksX3_command_9 19 rfl rfl)
theorem dX3_command_255 : decode cX3_command 255 = .ok (.bipush 100, 2) := dk_16 100 (dk_at dksX3_command_9 20 rfl rfl)
theorem dX3_command_257 : decode cX3_command 257 = .ok (.if_icmp .ge 20, 3) := dk_162 0 20 (dk_at dksX3_command_10 0 rfl rfl)
theorem dX3_command_260 : decode cX3_command 260 = .ok (.aload_n 0, 1) := dk_42 (dk_at dksX3_command_10 3 rfl rfl)
theorem dX3_command_261 : decode cX3_command 261 = .ok (.aload_n 0, 1) := dk_42 (dk_at dksX3_command_10 4 rfl rfl)
theorem dX3_command_262 : decode cX3_command 262 = .ok (.getfield 13, 3) := dk_180 0 13 (dk_at dksX3_command_10 5 rfl rfl)
theorem dX3_command_265 : decode cX3_command 265 = .ok (.invokevirtual 252, 3) := dk_182 0 252 (dk_at dksX3_command_10 8 rfl rfl)
theorem dX3_command_268 : decode cX3_command 268 = .ok (.iload 5, 2) := dk_21 5 (dk_at dksX3_command_10 11 rfl rfl)
theorem dX3_command_270 : decode cX3_command 270 = .ok (.if_icmp .gt 7, 3) := dk_163 0 7 (dk_at dksX3_command_10 13 rfl rfl)
theorem dX3_command_273 : decode cX3_command 273 = .ok (.iconst 1, 1) := dk_4 (dk_at dksX3_command_10 16 rfl rfl)
theorem dX3_command_274 : decode cX3_command 274 = .ok (.goto 4, 3) := dk_167 0 4 (dk_at dksX3_command_10 17 rfl rfl)
theorem dX3_command_277 : decode cX3_command 277 = .ok (.iconst 0, 1) := dk_3 (dk_at dksX3_command_10 20 rfl rfl)
theorem dX3_command_278 : decode cX3_command 278 = .ok (.ireturn, 1) := dk_172 (dk_at dksX3_command_10 21 rfl rfl)
theorem dX3_command_279 : decode cX3_command 279 = .ok (.iload_n 1, 1) := dk_27 (dk_at dksX3_command_10 22 rfl rfl)
theorem dX3_command_280 : decode cX3_command 280 = .ok (.sipush 1000, 3) := dk_17 3 232 (dk_at dksX3_command_11 0 rfl rfl)
theorem dX3_command_283 : decode cX3_command 283 = .ok (.irem, 1) := dk_112 (dk_at dksX3_command_11 3 rfl rfl)
theorem dX3_command_284 : decode cX3_command 284 = .ok (.bipush 10, 2) := dk_16 10 (dk_at dksX3_command_11 4 rfl rfl)
theorem dX3_command_286 : decode cX3_command 286 = .ok (.if_icmp .ge 32, 3) := dk_162 0 32 (dk_at dksX3_command_11 6 rfl rfl)
theorem dX3_command_289 : decode cX3_command 289 = .ok (.aload_n 0, 1) := dk_42 (dk_at dksX3_command_11 9 rfl rfl)
theorem dX3_command_290 : decode cX3_command 290 = .ok (.getfield 13, 3) := dk_180 0 13 (dk_at dksX3_command_11 10 rfl rfl)
theorem dX3_command_293 : decode cX3_command 293 = .ok (.iload_n 3, 1) := dk_29 (dk_at dksX3_command_11 13 rfl rfl)
theorem dX3_command_294 : decode cX3_command 294 = .ok (.invokestatic 214, 3) := dk_184 0 214 (dk_at dksX3_command_11 14 rfl rfl)
theorem dX3_command_297 : decode cX3_command 297 = .ok (.ifCond .eq 21, 3) := dk_153 0 21 (dk_at dksX3_command_11 17 rfl rfl)
theorem dX3_command_300 : decode cX3_command 300 = .ok (.aload_n 0, 1) := dk_42 (dk_at dksX3_command_11 20 rfl rfl)
theorem dX3_command_301 : decode cX3_command 301 = .ok (.aload_n 0, 1) := dk_42 (dk_at dksX3_command_11 21 rfl rfl)
theorem dX3_command_302 : decode cX3_command 302 = .ok (.getfield 13, 3) := dk_180 0 13 (dk_at dksX3_command_12 0 rfl rfl)
theorem dX3_command_305 : decode cX3_command 305 = .ok (.iload_n 3, 1) := dk_29 (dk_at dksX3_command_12 3 rfl rfl)
theorem dX3_command_306 : decode cX3_command 306 = .ok (.invokevirtual 107, 3) := dk_182 0 107 (dk_at dksX3_command_12 4 rfl rfl)
theorem dX3_command_309 : decode cX3_command 309 = .ok (.iload 6, 2) := dk_21 6 (dk_at dksX3_command_12 7 rfl rfl)
theorem dX3_command_311 : decode cX3_command 311 = .ok (.if_icmp .ne 7, 3) := dk_160 0 7 (dk_at dksX3_command_12 9 rfl rfl)
theorem dX3_command_314 : decode cX3_command 314 = .ok (.iconst 1, 1) := dk_4 (dk_at dksX3_command_12 12 rfl rfl)
theorem dX3_command_315 : decode cX3_command 315 = .ok (.goto 4, 3) := dk_167 0 4 (dk_at dksX3_command_12 13 rfl rfl)
theorem dX3_command_318 : decode cX3_command 318 = .ok (.iconst 0, 1) := dk_3 (dk_at dksX3_command_12 16 rfl rfl)
theorem dX3_command_319 : decode cX3_command 319 = .ok (.ireturn, 1) := dk_172 (dk_at dksX3_command_12 17 rfl rfl)
theorem dX3_command_320 : decode cX3_command 320 = .ok (.iconst 0, 1) := dk_3 (dk_at dksX3_command_12 18 rfl rfl)
theorem dX3_command_321 : decode cX3_command 321 = .ok (.ireturn, 1) := dk_172 (dk_at dksX3_command_12 19 rfl rfl)
abbrev cX3_runCrack : ByteArray := prog_10_method_102_code
def yX3_runCrack : MethodName := ⟨RX3, "runCrack", "(II)Z"⟩
def dkwX3_runCrack_1 : List UInt8 := [184, 0, 200, 153, 0, 19, 42, 180, 0, 13, 27, 28, 184, 0, 204, 155, 0, 7, 4, 167, 0, 4, 3, 172]
abbrev dktX3_runCrack_1 : List UInt8 := dkwX3_runCrack_1 ++ []
def dkwX3_runCrack_0 : List UInt8 := [42, 180, 0, 13, 27, 184, 0, 197, 153, 0, 38, 28, 184, 0, 129, 153, 0, 31, 42, 180, 0, 13, 27, 28]
abbrev dktX3_runCrack_0 : List UInt8 := dkwX3_runCrack_0 ++ dktX3_runCrack_1
theorem dksX3_runCrack_0 : cX3_runCrack.data.toList.drop 0 = dktX3_runCrack_0 := by decide +kernel
theorem dksX3_runCrack_1 : cX3_runCrack.data.toList.drop 24 = dktX3_runCrack_1 := dk_seg dksX3_runCrack_0 24 rfl rfl
theorem dX3_runCrack_0 : decode cX3_runCrack 0 = .ok (.aload_n 0, 1) := dk_42 (dk_at dksX3_runCrack_0 0 rfl rfl)
theorem dX3_runCrack_1 : decode cX3_runCrack 1 = .ok (.getfield 13, 3) := dk_180 0 13 (dk_at dksX3_runCrack_0 1 rfl rfl)
theorem dX3_runCrack_4 : decode cX3_runCrack 4 = .ok (.iload_n 1, 1) := dk_27 (dk_at dksX3_runCrack_0 4 rfl rfl)
theorem dX3_runCrack_5 : decode cX3_runCrack 5 = .ok (.invokestatic 197, 3) := dk_184 0 197 (dk_at dksX3_runCrack_0 5 rfl rfl)
theorem dX3_runCrack_8 : decode cX3_runCrack 8 = .ok (.ifCond .eq 38, 3) := dk_153 0 38 (dk_at dksX3_runCrack_0 8 rfl rfl)
theorem dX3_runCrack_11 : decode cX3_runCrack 11 = .ok (.iload_n 2, 1) := dk_28 (dk_at dksX3_runCrack_0 11 rfl rfl)
theorem dX3_runCrack_12 : decode cX3_runCrack 12 = .ok (.invokestatic 129, 3) := dk_184 0 129 (dk_at dksX3_runCrack_0 12 rfl rfl)
theorem dX3_runCrack_15 : decode cX3_runCrack 15 = .ok (.ifCond .eq 31, 3) := dk_153 0 31 (dk_at dksX3_runCrack_0 15 rfl rfl)
theorem dX3_runCrack_18 : decode cX3_runCrack 18 = .ok (.aload_n 0, 1) := dk_42 (dk_at dksX3_runCrack_0 18 rfl rfl)
theorem dX3_runCrack_19 : decode cX3_runCrack 19 = .ok (.getfield 13, 3) := dk_180 0 13 (dk_at dksX3_runCrack_0 19 rfl rfl)
theorem dX3_runCrack_22 : decode cX3_runCrack 22 = .ok (.iload_n 1, 1) := dk_27 (dk_at dksX3_runCrack_0 22 rfl rfl)
theorem dX3_runCrack_23 : decode cX3_runCrack 23 = .ok (.iload_n 2, 1) := dk_28 (dk_at dksX3_runCrack_0 23 rfl rfl)
theorem dX3_runCrack_24 : decode cX3_runCrack 24 = .ok (.invokestatic 200, 3) := dk_184 0 200 (dk_at dksX3_runCrack_1 0 rfl rfl)
theorem dX3_runCrack_27 : decode cX3_runCrack 27 = .ok (.ifCond .eq 19, 3) := dk_153 0 19 (dk_at dksX3_runCrack_1 3 rfl rfl)
theorem dX3_runCrack_30 : decode cX3_runCrack 30 = .ok (.aload_n 0, 1) := dk_42 (dk_at dksX3_runCrack_1 6 rfl rfl)
theorem dX3_runCrack_31 : decode cX3_runCrack 31 = .ok (.getfield 13, 3) := dk_180 0 13 (dk_at dksX3_runCrack_1 7 rfl rfl)
theorem dX3_runCrack_34 : decode cX3_runCrack 34 = .ok (.iload_n 1, 1) := dk_27 (dk_at dksX3_runCrack_1 10 rfl rfl)
theorem dX3_runCrack_35 : decode cX3_runCrack 35 = .ok (.iload_n 2, 1) := dk_28 (dk_at dksX3_runCrack_1 11 rfl rfl)
theorem dX3_runCrack_36 : decode cX3_runCrack 36 = .ok (.invokestatic 204, 3) := dk_184 0 204 (dk_at dksX3_runCrack_1 12 rfl rfl)
theorem dX3_runCrack_39 : decode cX3_runCrack 39 = .ok (.ifCond .lt 7, 3) := dk_155 0 7 (dk_at dksX3_runCrack_1 15 rfl rfl)
theorem dX3_runCrack_42 : decode cX3_runCrack 42 = .ok (.iconst 1, 1) := dk_4 (dk_at dksX3_runCrack_1 18 rfl rfl)
theorem dX3_runCrack_43 : decode cX3_runCrack 43 = .ok (.goto 4, 3) := dk_167 0 4 (dk_at dksX3_runCrack_1 19 rfl rfl)
theorem dX3_runCrack_46 : decode cX3_runCrack 46 = .ok (.iconst 0, 1) := dk_3 (dk_at dksX3_runCrack_1 22 rfl rfl)
theorem dX3_runCrack_47 : decode cX3_runCrack 47 = .ok (.ireturn, 1) := dk_172 (dk_at dksX3_runCrack_1 23 rfl rfl)
abbrev cX3_runHang : ByteArray := prog_10_method_103_code
def yX3_runHang : MethodName := ⟨RX3, "runHang", "(II)Z"⟩
def dkwX3_runHang_1 : List UInt8 := [184, 0, 217, 158, 0, 7, 4, 167, 0, 4, 3, 172]
abbrev dktX3_runHang_1 : List UInt8 := dkwX3_runHang_1 ++ []
def dkwX3_runHang_0 : List UInt8 := [42, 180, 0, 13, 27, 184, 0, 214, 153, 0, 26, 28, 184, 1, 23, 153, 0, 19, 42, 180, 0, 13, 27, 28]
abbrev dktX3_runHang_0 : List UInt8 := dkwX3_runHang_0 ++ dktX3_runHang_1
theorem dksX3_runHang_0 : cX3_runHang.data.toList.drop 0 = dktX3_runHang_0 := by decide +kernel
theorem dksX3_runHang_1 : cX3_runHang.data.toList.drop 24 = dktX3_runHang_1 := dk_seg dksX3_runHang_0 24 rfl rfl
theorem dX3_runHang_0 : decode cX3_runHang 0 = .ok (.aload_n 0, 1) := dk_42 (dk_at dksX3_runHang_0 0 rfl rfl)
theorem dX3_runHang_1 : decode cX3_runHang 1 = .ok (.getfield 13, 3) := dk_180 0 13 (dk_at dksX3_runHang_0 1 rfl rfl)
theorem dX3_runHang_4 : decode cX3_runHang 4 = .ok (.iload_n 1, 1) := dk_27 (dk_at dksX3_runHang_0 4 rfl rfl)
theorem dX3_runHang_5 : decode cX3_runHang 5 = .ok (.invokestatic 214, 3) := dk_184 0 214 (dk_at dksX3_runHang_0 5 rfl rfl)
theorem dX3_runHang_8 : decode cX3_runHang 8 = .ok (.ifCond .eq 26, 3) := dk_153 0 26 (dk_at dksX3_runHang_0 8 rfl rfl)
theorem dX3_runHang_11 : decode cX3_runHang 11 = .ok (.iload_n 2, 1) := dk_28 (dk_at dksX3_runHang_0 11 rfl rfl)
theorem dX3_runHang_12 : decode cX3_runHang 12 = .ok (.invokestatic 279, 3) := dk_184 1 23 (dk_at dksX3_runHang_0 12 rfl rfl)
theorem dX3_runHang_15 : decode cX3_runHang 15 = .ok (.ifCond .eq 19, 3) := dk_153 0 19 (dk_at dksX3_runHang_0 15 rfl rfl)
theorem dX3_runHang_18 : decode cX3_runHang 18 = .ok (.aload_n 0, 1) := dk_42 (dk_at dksX3_runHang_0 18 rfl rfl)
theorem dX3_runHang_19 : decode cX3_runHang 19 = .ok (.getfield 13, 3) := dk_180 0 13 (dk_at dksX3_runHang_0 19 rfl rfl)
theorem dX3_runHang_22 : decode cX3_runHang 22 = .ok (.iload_n 1, 1) := dk_27 (dk_at dksX3_runHang_0 22 rfl rfl)
theorem dX3_runHang_23 : decode cX3_runHang 23 = .ok (.iload_n 2, 1) := dk_28 (dk_at dksX3_runHang_0 23 rfl rfl)
theorem dX3_runHang_24 : decode cX3_runHang 24 = .ok (.invokestatic 217, 3) := dk_184 0 217 (dk_at dksX3_runHang_1 0 rfl rfl)
theorem dX3_runHang_27 : decode cX3_runHang 27 = .ok (.ifCond .le 7, 3) := dk_158 0 7 (dk_at dksX3_runHang_1 3 rfl rfl)
theorem dX3_runHang_30 : decode cX3_runHang 30 = .ok (.iconst 1, 1) := dk_4 (dk_at dksX3_runHang_1 6 rfl rfl)
theorem dX3_runHang_31 : decode cX3_runHang 31 = .ok (.goto 4, 3) := dk_167 0 4 (dk_at dksX3_runHang_1 7 rfl rfl)
theorem dX3_runHang_34 : decode cX3_runHang 34 = .ok (.iconst 0, 1) := dk_3 (dk_at dksX3_runHang_1 10 rfl rfl)
theorem dX3_runHang_35 : decode cX3_runHang 35 = .ok (.ireturn, 1) := dk_172 (dk_at dksX3_runHang_1 11 rfl rfl)
abbrev cX3_runCut : ByteArray := prog_10_method_104_code
def yX3_runCut : MethodName := ⟨RX3, "runCut", "(I)Z"⟩
def dkwX3_runCut_1 : List UInt8 := [159, 0, 18, 42, 180, 0, 13, 27, 184, 1, 44, 155, 0, 7, 4, 167, 0, 4, 3, 172]
abbrev dktX3_runCut_1 : List UInt8 := dkwX3_runCut_1 ++ []
def dkwX3_runCut_0 : List UInt8 := [42, 180, 0, 13, 27, 184, 0, 214, 153, 0, 32, 42, 180, 0, 13, 17, 0, 225, 27, 96, 46, 2]
abbrev dktX3_runCut_0 : List UInt8 := dkwX3_runCut_0 ++ dktX3_runCut_1
theorem dksX3_runCut_0 : cX3_runCut.data.toList.drop 0 = dktX3_runCut_0 := by decide +kernel
theorem dksX3_runCut_1 : cX3_runCut.data.toList.drop 22 = dktX3_runCut_1 := dk_seg dksX3_runCut_0 22 rfl rfl
theorem dX3_runCut_0 : decode cX3_runCut 0 = .ok (.aload_n 0, 1) := dk_42 (dk_at dksX3_runCut_0 0 rfl rfl)
theorem dX3_runCut_1 : decode cX3_runCut 1 = .ok (.getfield 13, 3) := dk_180 0 13 (dk_at dksX3_runCut_0 1 rfl rfl)
theorem dX3_runCut_4 : decode cX3_runCut 4 = .ok (.iload_n 1, 1) := dk_27 (dk_at dksX3_runCut_0 4 rfl rfl)
theorem dX3_runCut_5 : decode cX3_runCut 5 = .ok (.invokestatic 214, 3) := dk_184 0 214 (dk_at dksX3_runCut_0 5 rfl rfl)
theorem dX3_runCut_8 : decode cX3_runCut 8 = .ok (.ifCond .eq 32, 3) := dk_153 0 32 (dk_at dksX3_runCut_0 8 rfl rfl)
theorem dX3_runCut_11 : decode cX3_runCut 11 = .ok (.aload_n 0, 1) := dk_42 (dk_at dksX3_runCut_0 11 rfl rfl)
theorem dX3_runCut_12 : decode cX3_runCut 12 = .ok (.getfield 13, 3) := dk_180 0 13 (dk_at dksX3_runCut_0 12 rfl rfl)
theorem dX3_runCut_15 : decode cX3_runCut 15 = .ok (.sipush 225, 3) := dk_17 0 225 (dk_at dksX3_runCut_0 15 rfl rfl)
theorem dX3_runCut_18 : decode cX3_runCut 18 = .ok (.iload_n 1, 1) := dk_27 (dk_at dksX3_runCut_0 18 rfl rfl)
theorem dX3_runCut_19 : decode cX3_runCut 19 = .ok (.iadd, 1) := dk_96 (dk_at dksX3_runCut_0 19 rfl rfl)
theorem dX3_runCut_20 : decode cX3_runCut 20 = .ok (.iaload, 1) := dk_46 (dk_at dksX3_runCut_0 20 rfl rfl)
theorem dX3_runCut_21 : decode cX3_runCut 21 = .ok (.iconst (-1), 1) := dk_2 (dk_at dksX3_runCut_0 21 rfl rfl)
theorem dX3_runCut_22 : decode cX3_runCut 22 = .ok (.if_icmp .eq 18, 3) := dk_159 0 18 (dk_at dksX3_runCut_1 0 rfl rfl)
theorem dX3_runCut_25 : decode cX3_runCut 25 = .ok (.aload_n 0, 1) := dk_42 (dk_at dksX3_runCut_1 3 rfl rfl)
theorem dX3_runCut_26 : decode cX3_runCut 26 = .ok (.getfield 13, 3) := dk_180 0 13 (dk_at dksX3_runCut_1 4 rfl rfl)
theorem dX3_runCut_29 : decode cX3_runCut 29 = .ok (.iload_n 1, 1) := dk_27 (dk_at dksX3_runCut_1 7 rfl rfl)
theorem dX3_runCut_30 : decode cX3_runCut 30 = .ok (.invokestatic 300, 3) := dk_184 1 44 (dk_at dksX3_runCut_1 8 rfl rfl)
theorem dX3_runCut_33 : decode cX3_runCut 33 = .ok (.ifCond .lt 7, 3) := dk_155 0 7 (dk_at dksX3_runCut_1 11 rfl rfl)
theorem dX3_runCut_36 : decode cX3_runCut 36 = .ok (.iconst 1, 1) := dk_4 (dk_at dksX3_runCut_1 14 rfl rfl)
theorem dX3_runCut_37 : decode cX3_runCut 37 = .ok (.goto 4, 3) := dk_167 0 4 (dk_at dksX3_runCut_1 15 rfl rfl)
theorem dX3_runCut_40 : decode cX3_runCut 40 = .ok (.iconst 0, 1) := dk_3 (dk_at dksX3_runCut_1 18 rfl rfl)
theorem dX3_runCut_41 : decode cX3_runCut 41 = .ok (.ireturn, 1) := dk_172 (dk_at dksX3_runCut_1 19 rfl rfl)
abbrev cX3_runShelve : ByteArray := prog_10_method_105_code
def yX3_runShelve : MethodName := ⟨RX3, "runShelve", "(III)Z"⟩
def dkwX3_runShelve_2 : List UInt8 := [153, 0, 20, 42, 180, 0, 13, 27, 28, 29, 184, 1, 50, 158, 0, 7, 4, 167, 0, 4, 3, 172]
abbrev dktX3_runShelve_2 : List UInt8 := dkwX3_runShelve_2 ++ []
def dkwX3_runShelve_1 : List UInt8 := [180, 0, 13, 27, 28, 184, 0, 116, 133, 184, 0, 49, 153, 0, 32, 42, 180, 0, 13, 27, 28, 184, 1, 47]
abbrev dktX3_runShelve_1 : List UInt8 := dkwX3_runShelve_1 ++ dktX3_runShelve_2
def dkwX3_runShelve_0 : List UInt8 := [42, 180, 0, 13, 27, 184, 0, 214, 153, 0, 58, 28, 184, 1, 28, 153, 0, 51, 29, 133, 9, 42]
abbrev dktX3_runShelve_0 : List UInt8 := dkwX3_runShelve_0 ++ dktX3_runShelve_1
theorem dksX3_runShelve_0 : cX3_runShelve.data.toList.drop 0 = dktX3_runShelve_0 := by decide +kernel
theorem dksX3_runShelve_1 : cX3_runShelve.data.toList.drop 22 = dktX3_runShelve_1 := dk_seg dksX3_runShelve_0 22 rfl rfl
theorem dksX3_runShelve_2 : cX3_runShelve.data.toList.drop 46 = dktX3_runShelve_2 := dk_seg dksX3_runShelve_1 24 rfl rfl
theorem dX3_runShelve_0 : decode cX3_runShelve 0 = .ok (.aload_n 0, 1) := dk_42 (dk_at dksX3_runShelve_0 0 rfl rfl)
theorem dX3_runShelve_1 : decode cX3_runShelve 1 = .ok (.getfield 13, 3) := dk_180 0 13 (dk_at dksX3_runShelve_0 1 rfl rfl)
theorem dX3_runShelve_4 : decode cX3_runShelve 4 = .ok (.iload_n 1, 1) := dk_27 (dk_at dksX3_runShelve_0 4 rfl rfl)
theorem dX3_runShelve_5 : decode cX3_runShelve 5 = .ok (.invokestatic 214, 3) := dk_184 0 214 (dk_at dksX3_runShelve_0 5 rfl rfl)
theorem dX3_runShelve_8 : decode cX3_runShelve 8 = .ok (.ifCond .eq 58, 3) := dk_153 0 58 (dk_at dksX3_runShelve_0 8 rfl rfl)
theorem dX3_runShelve_11 : decode cX3_runShelve 11 = .ok (.iload_n 2, 1) := dk_28 (dk_at dksX3_runShelve_0 11 rfl rfl)
theorem dX3_runShelve_12 : decode cX3_runShelve 12 = .ok (.invokestatic 284, 3) := dk_184 1 28 (dk_at dksX3_runShelve_0 12 rfl rfl)
theorem dX3_runShelve_15 : decode cX3_runShelve 15 = .ok (.ifCond .eq 51, 3) := dk_153 0 51 (dk_at dksX3_runShelve_0 15 rfl rfl)
theorem dX3_runShelve_18 : decode cX3_runShelve 18 = .ok (.iload_n 3, 1) := dk_29 (dk_at dksX3_runShelve_0 18 rfl rfl)
theorem dX3_runShelve_19 : decode cX3_runShelve 19 = .ok (.i2l, 1) := dk_133 (dk_at dksX3_runShelve_0 19 rfl rfl)
theorem dX3_runShelve_20 : decode cX3_runShelve 20 = .ok (.lconst 0, 1) := dk_9 (dk_at dksX3_runShelve_0 20 rfl rfl)
theorem dX3_runShelve_21 : decode cX3_runShelve 21 = .ok (.aload_n 0, 1) := dk_42 (dk_at dksX3_runShelve_0 21 rfl rfl)
theorem dX3_runShelve_22 : decode cX3_runShelve 22 = .ok (.getfield 13, 3) := dk_180 0 13 (dk_at dksX3_runShelve_1 0 rfl rfl)
theorem dX3_runShelve_25 : decode cX3_runShelve 25 = .ok (.iload_n 1, 1) := dk_27 (dk_at dksX3_runShelve_1 3 rfl rfl)
theorem dX3_runShelve_26 : decode cX3_runShelve 26 = .ok (.iload_n 2, 1) := dk_28 (dk_at dksX3_runShelve_1 4 rfl rfl)
theorem dX3_runShelve_27 : decode cX3_runShelve 27 = .ok (.invokestatic 116, 3) := dk_184 0 116 (dk_at dksX3_runShelve_1 5 rfl rfl)
theorem dX3_runShelve_30 : decode cX3_runShelve 30 = .ok (.i2l, 1) := dk_133 (dk_at dksX3_runShelve_1 8 rfl rfl)
theorem dX3_runShelve_31 : decode cX3_runShelve 31 = .ok (.invokestatic 49, 3) := dk_184 0 49 (dk_at dksX3_runShelve_1 9 rfl rfl)
theorem dX3_runShelve_34 : decode cX3_runShelve 34 = .ok (.ifCond .eq 32, 3) := dk_153 0 32 (dk_at dksX3_runShelve_1 12 rfl rfl)
theorem dX3_runShelve_37 : decode cX3_runShelve 37 = .ok (.aload_n 0, 1) := dk_42 (dk_at dksX3_runShelve_1 15 rfl rfl)
theorem dX3_runShelve_38 : decode cX3_runShelve 38 = .ok (.getfield 13, 3) := dk_180 0 13 (dk_at dksX3_runShelve_1 16 rfl rfl)
theorem dX3_runShelve_41 : decode cX3_runShelve 41 = .ok (.iload_n 1, 1) := dk_27 (dk_at dksX3_runShelve_1 19 rfl rfl)
theorem dX3_runShelve_42 : decode cX3_runShelve 42 = .ok (.iload_n 2, 1) := dk_28 (dk_at dksX3_runShelve_1 20 rfl rfl)
theorem dX3_runShelve_43 : decode cX3_runShelve 43 = .ok (.invokestatic 303, 3) := dk_184 1 47 (dk_at dksX3_runShelve_1 21 rfl rfl)
theorem dX3_runShelve_46 : decode cX3_runShelve 46 = .ok (.ifCond .eq 20, 3) := dk_153 0 20 (dk_at dksX3_runShelve_2 0 rfl rfl)
theorem dX3_runShelve_49 : decode cX3_runShelve 49 = .ok (.aload_n 0, 1) := dk_42 (dk_at dksX3_runShelve_2 3 rfl rfl)
theorem dX3_runShelve_50 : decode cX3_runShelve 50 = .ok (.getfield 13, 3) := dk_180 0 13 (dk_at dksX3_runShelve_2 4 rfl rfl)
theorem dX3_runShelve_53 : decode cX3_runShelve 53 = .ok (.iload_n 1, 1) := dk_27 (dk_at dksX3_runShelve_2 7 rfl rfl)
theorem dX3_runShelve_54 : decode cX3_runShelve 54 = .ok (.iload_n 2, 1) := dk_28 (dk_at dksX3_runShelve_2 8 rfl rfl)
theorem dX3_runShelve_55 : decode cX3_runShelve 55 = .ok (.iload_n 3, 1) := dk_29 (dk_at dksX3_runShelve_2 9 rfl rfl)
theorem dX3_runShelve_56 : decode cX3_runShelve 56 = .ok (.invokestatic 306, 3) := dk_184 1 50 (dk_at dksX3_runShelve_2 10 rfl rfl)
theorem dX3_runShelve_59 : decode cX3_runShelve 59 = .ok (.ifCond .le 7, 3) := dk_158 0 7 (dk_at dksX3_runShelve_2 13 rfl rfl)
theorem dX3_runShelve_62 : decode cX3_runShelve 62 = .ok (.iconst 1, 1) := dk_4 (dk_at dksX3_runShelve_2 16 rfl rfl)
theorem dX3_runShelve_63 : decode cX3_runShelve 63 = .ok (.goto 4, 3) := dk_167 0 4 (dk_at dksX3_runShelve_2 17 rfl rfl)
theorem dX3_runShelve_66 : decode cX3_runShelve 66 = .ok (.iconst 0, 1) := dk_3 (dk_at dksX3_runShelve_2 20 rfl rfl)
theorem dX3_runShelve_67 : decode cX3_runShelve 67 = .ok (.ireturn, 1) := dk_172 (dk_at dksX3_runShelve_2 21 rfl rfl)
abbrev cX3_runShow : ByteArray := prog_10_method_106_code
def yX3_runShow : MethodName := ⟨RX3, "runShow", "(II)Z"⟩
def dkwX3_runShow_2 : List UInt8 := [172]
abbrev dktX3_runShow_2 : List UInt8 := dkwX3_runShow_2 ++ []
def dkwX3_runShow_1 : List UInt8 := [28, 184, 0, 207, 153, 0, 19, 42, 180, 0, 13, 27, 28, 184, 1, 41, 155, 0, 7, 4, 167, 0, 4, 3]
abbrev dktX3_runShow_1 : List UInt8 := dkwX3_runShow_1 ++ dktX3_runShow_2
def dkwX3_runShow_0 : List UInt8 := [42, 180, 0, 13, 27, 184, 0, 214, 153, 0, 39, 42, 180, 0, 13, 42, 180, 0, 13, 16, 105, 27, 96, 46]
abbrev dktX3_runShow_0 : List UInt8 := dkwX3_runShow_0 ++ dktX3_runShow_1
theorem dksX3_runShow_0 : cX3_runShow.data.toList.drop 0 = dktX3_runShow_0 := by decide +kernel
theorem dksX3_runShow_1 : cX3_runShow.data.toList.drop 24 = dktX3_runShow_1 := dk_seg dksX3_runShow_0 24 rfl rfl
theorem dksX3_runShow_2 : cX3_runShow.data.toList.drop 48 = dktX3_runShow_2 := dk_seg dksX3_runShow_1 24 rfl rfl
theorem dX3_runShow_0 : decode cX3_runShow 0 = .ok (.aload_n 0, 1) := dk_42 (dk_at dksX3_runShow_0 0 rfl rfl)
theorem dX3_runShow_1 : decode cX3_runShow 1 = .ok (.getfield 13, 3) := dk_180 0 13 (dk_at dksX3_runShow_0 1 rfl rfl)
theorem dX3_runShow_4 : decode cX3_runShow 4 = .ok (.iload_n 1, 1) := dk_27 (dk_at dksX3_runShow_0 4 rfl rfl)
theorem dX3_runShow_5 : decode cX3_runShow 5 = .ok (.invokestatic 214, 3) := dk_184 0 214 (dk_at dksX3_runShow_0 5 rfl rfl)
theorem dX3_runShow_8 : decode cX3_runShow 8 = .ok (.ifCond .eq 39, 3) := dk_153 0 39 (dk_at dksX3_runShow_0 8 rfl rfl)
theorem dX3_runShow_11 : decode cX3_runShow 11 = .ok (.aload_n 0, 1) := dk_42 (dk_at dksX3_runShow_0 11 rfl rfl)
theorem dX3_runShow_12 : decode cX3_runShow 12 = .ok (.getfield 13, 3) := dk_180 0 13 (dk_at dksX3_runShow_0 12 rfl rfl)
theorem dX3_runShow_15 : decode cX3_runShow 15 = .ok (.aload_n 0, 1) := dk_42 (dk_at dksX3_runShow_0 15 rfl rfl)
theorem dX3_runShow_16 : decode cX3_runShow 16 = .ok (.getfield 13, 3) := dk_180 0 13 (dk_at dksX3_runShow_0 16 rfl rfl)
theorem dX3_runShow_19 : decode cX3_runShow 19 = .ok (.bipush 105, 2) := dk_16 105 (dk_at dksX3_runShow_0 19 rfl rfl)
theorem dX3_runShow_21 : decode cX3_runShow 21 = .ok (.iload_n 1, 1) := dk_27 (dk_at dksX3_runShow_0 21 rfl rfl)
theorem dX3_runShow_22 : decode cX3_runShow 22 = .ok (.iadd, 1) := dk_96 (dk_at dksX3_runShow_0 22 rfl rfl)
theorem dX3_runShow_23 : decode cX3_runShow 23 = .ok (.iaload, 1) := dk_46 (dk_at dksX3_runShow_0 23 rfl rfl)
theorem dX3_runShow_24 : decode cX3_runShow 24 = .ok (.iload_n 2, 1) := dk_28 (dk_at dksX3_runShow_1 0 rfl rfl)
theorem dX3_runShow_25 : decode cX3_runShow 25 = .ok (.invokestatic 207, 3) := dk_184 0 207 (dk_at dksX3_runShow_1 1 rfl rfl)
theorem dX3_runShow_28 : decode cX3_runShow 28 = .ok (.ifCond .eq 19, 3) := dk_153 0 19 (dk_at dksX3_runShow_1 4 rfl rfl)
theorem dX3_runShow_31 : decode cX3_runShow 31 = .ok (.aload_n 0, 1) := dk_42 (dk_at dksX3_runShow_1 7 rfl rfl)
theorem dX3_runShow_32 : decode cX3_runShow 32 = .ok (.getfield 13, 3) := dk_180 0 13 (dk_at dksX3_runShow_1 8 rfl rfl)
theorem dX3_runShow_35 : decode cX3_runShow 35 = .ok (.iload_n 1, 1) := dk_27 (dk_at dksX3_runShow_1 11 rfl rfl)
theorem dX3_runShow_36 : decode cX3_runShow 36 = .ok (.iload_n 2, 1) := dk_28 (dk_at dksX3_runShow_1 12 rfl rfl)
theorem dX3_runShow_37 : decode cX3_runShow 37 = .ok (.invokestatic 297, 3) := dk_184 1 41 (dk_at dksX3_runShow_1 13 rfl rfl)
theorem dX3_runShow_40 : decode cX3_runShow 40 = .ok (.ifCond .lt 7, 3) := dk_155 0 7 (dk_at dksX3_runShow_1 16 rfl rfl)
theorem dX3_runShow_43 : decode cX3_runShow 43 = .ok (.iconst 1, 1) := dk_4 (dk_at dksX3_runShow_1 19 rfl rfl)
theorem dX3_runShow_44 : decode cX3_runShow 44 = .ok (.goto 4, 3) := dk_167 0 4 (dk_at dksX3_runShow_1 20 rfl rfl)
theorem dX3_runShow_47 : decode cX3_runShow 47 = .ok (.iconst 0, 1) := dk_3 (dk_at dksX3_runShow_1 23 rfl rfl)
theorem dX3_runShow_48 : decode cX3_runShow 48 = .ok (.ireturn, 1) := dk_172 (dk_at dksX3_runShow_2 0 rfl rfl)
abbrev cX3_runSort : ByteArray := prog_10_method_107_code
def yX3_runSort : MethodName := ⟨RX3, "runSort", "(I)Z"⟩
def dkwX3_runSort_1 : List UInt8 := [172]
abbrev dktX3_runSort_1 : List UInt8 := dkwX3_runSort_1 ++ []
def dkwX3_runSort_0 : List UInt8 := [27, 184, 1, 28, 153, 0, 19, 42, 42, 180, 0, 13, 27, 182, 1, 53, 155, 0, 7, 4, 167, 0, 4, 3]
abbrev dktX3_runSort_0 : List UInt8 := dkwX3_runSort_0 ++ dktX3_runSort_1
theorem dksX3_runSort_0 : cX3_runSort.data.toList.drop 0 = dktX3_runSort_0 := by decide +kernel
theorem dksX3_runSort_1 : cX3_runSort.data.toList.drop 24 = dktX3_runSort_1 := dk_seg dksX3_runSort_0 24 rfl rfl
theorem dX3_runSort_0 : decode cX3_runSort 0 = .ok (.iload_n 1, 1) := dk_27 (dk_at dksX3_runSort_0 0 rfl rfl)
theorem dX3_runSort_1 : decode cX3_runSort 1 = .ok (.invokestatic 284, 3) := dk_184 1 28 (dk_at dksX3_runSort_0 1 rfl rfl)
theorem dX3_runSort_4 : decode cX3_runSort 4 = .ok (.ifCond .eq 19, 3) := dk_153 0 19 (dk_at dksX3_runSort_0 4 rfl rfl)
theorem dX3_runSort_7 : decode cX3_runSort 7 = .ok (.aload_n 0, 1) := dk_42 (dk_at dksX3_runSort_0 7 rfl rfl)
theorem dX3_runSort_8 : decode cX3_runSort 8 = .ok (.aload_n 0, 1) := dk_42 (dk_at dksX3_runSort_0 8 rfl rfl)
theorem dX3_runSort_9 : decode cX3_runSort 9 = .ok (.getfield 13, 3) := dk_180 0 13 (dk_at dksX3_runSort_0 9 rfl rfl)
theorem dX3_runSort_12 : decode cX3_runSort 12 = .ok (.iload_n 1, 1) := dk_27 (dk_at dksX3_runSort_0 12 rfl rfl)
theorem dX3_runSort_13 : decode cX3_runSort 13 = .ok (.invokevirtual 309, 3) := dk_182 1 53 (dk_at dksX3_runSort_0 13 rfl rfl)
theorem dX3_runSort_16 : decode cX3_runSort 16 = .ok (.ifCond .lt 7, 3) := dk_155 0 7 (dk_at dksX3_runSort_0 16 rfl rfl)
theorem dX3_runSort_19 : decode cX3_runSort 19 = .ok (.iconst 1, 1) := dk_4 (dk_at dksX3_runSort_0 19 rfl rfl)
theorem dX3_runSort_20 : decode cX3_runSort 20 = .ok (.goto 4, 3) := dk_167 0 4 (dk_at dksX3_runSort_0 20 rfl rfl)
theorem dX3_runSort_23 : decode cX3_runSort 23 = .ok (.iconst 0, 1) := dk_3 (dk_at dksX3_runSort_0 23 rfl rfl)
theorem dX3_runSort_24 : decode cX3_runSort 24 = .ok (.ireturn, 1) := dk_172 (dk_at dksX3_runSort_1 0 rfl rfl)
abbrev cX3_runSet : ByteArray := prog_10_method_108_code
def yX3_runSet : MethodName := ⟨RX3, "runSet", "(II)Z"⟩
def dkwX3_runSet_1 : List UInt8 := [167, 0, 4, 3, 172]
abbrev dktX3_runSet_1 : List UInt8 := dkwX3_runSet_1 ++ []
def dkwX3_runSet_0 : List UInt8 := [27, 133, 9, 10, 184, 0, 49, 153, 0, 19, 42, 180, 0, 13, 27, 28, 184, 1, 56, 155, 0, 7, 4]
abbrev dktX3_runSet_0 : List UInt8 := dkwX3_runSet_0 ++ dktX3_runSet_1
theorem dksX3_runSet_0 : cX3_runSet.data.toList.drop 0 = dktX3_runSet_0 := by decide +kernel
theorem dksX3_runSet_1 : cX3_runSet.data.toList.drop 23 = dktX3_runSet_1 := dk_seg dksX3_runSet_0 23 rfl rfl
theorem dX3_runSet_0 : decode cX3_runSet 0 = .ok (.iload_n 1, 1) := dk_27 (dk_at dksX3_runSet_0 0 rfl rfl)
theorem dX3_runSet_1 : decode cX3_runSet 1 = .ok (.i2l, 1) := dk_133 (dk_at dksX3_runSet_0 1 rfl rfl)
theorem dX3_runSet_2 : decode cX3_runSet 2 = .ok (.lconst 0, 1) := dk_9 (dk_at dksX3_runSet_0 2 rfl rfl)
theorem dX3_runSet_3 : decode cX3_runSet 3 = .ok (.lconst 1, 1) := dk_10 (dk_at dksX3_runSet_0 3 rfl rfl)
theorem dX3_runSet_4 : decode cX3_runSet 4 = .ok (.invokestatic 49, 3) := dk_184 0 49 (dk_at dksX3_runSet_0 4 rfl rfl)
theorem dX3_runSet_7 : decode cX3_runSet 7 = .ok (.ifCond .eq 19, 3) := dk_153 0 19 (dk_at dksX3_runSet_0 7 rfl rfl)
theorem dX3_runSet_10 : decode cX3_runSet 10 = .ok (.aload_n 0, 1) := dk_42 (dk_at dksX3_runSet_0 10 rfl rfl)
theorem dX3_runSet_11 : decode cX3_runSet 11 = .ok (.getfield 13, 3) := dk_180 0 13 (dk_at dksX3_runSet_0 11 rfl rfl)
theorem dX3_runSet_14 : decode cX3_runSet 14 = .ok (.iload_n 1, 1) := dk_27 (dk_at dksX3_runSet_0 14 rfl rfl)
theorem dX3_runSet_15 : decode cX3_runSet 15 = .ok (.iload_n 2, 1) := dk_28 (dk_at dksX3_runSet_0 15 rfl rfl)
theorem dX3_runSet_16 : decode cX3_runSet 16 = .ok (.invokestatic 312, 3) := dk_184 1 56 (dk_at dksX3_runSet_0 16 rfl rfl)
theorem dX3_runSet_19 : decode cX3_runSet 19 = .ok (.ifCond .lt 7, 3) := dk_155 0 7 (dk_at dksX3_runSet_0 19 rfl rfl)
theorem dX3_runSet_22 : decode cX3_runSet 22 = .ok (.iconst 1, 1) := dk_4 (dk_at dksX3_runSet_0 22 rfl rfl)
theorem dX3_runSet_23 : decode cX3_runSet 23 = .ok (.goto 4, 3) := dk_167 0 4 (dk_at dksX3_runSet_1 0 rfl rfl)
theorem dX3_runSet_26 : decode cX3_runSet 26 = .ok (.iconst 0, 1) := dk_3 (dk_at dksX3_runSet_1 3 rfl rfl)
theorem dX3_runSet_27 : decode cX3_runSet 27 = .ok (.ireturn, 1) := dk_172 (dk_at dksX3_runSet_1 4 rfl rfl)
abbrev cX3_simulate : ByteArray := prog_10_method_112_code
def yX3_simulate : MethodName := ⟨RX3, "simulate", "(JI)I"⟩
def dkwX3_simulate_4 : List UInt8 := [180, 0, 13, 182, 0, 252, 104, 96, 42, 42, 180, 0, 13, 182, 1, 3, 96, 172]
abbrev dktX3_simulate_4 : List UInt8 := dkwX3_simulate_4 ++ []
def dkwX3_simulate_3 : List UInt8 := [182, 1, 96, 132, 6, 1, 167, 255, 225, 17, 3, 232, 42, 180, 0, 13, 5, 46, 104, 16, 10, 42, 42]
abbrev dktX3_simulate_3 : List UInt8 := dkwX3_simulate_3 ++ dktX3_simulate_4
def dkwX3_simulate_2 : List UInt8 := [162, 0, 31, 22, 4, 20, 1, 92, 105, 20, 1, 94, 97, 55, 4, 42, 22, 4, 16, 33, 125, 136]
abbrev dktX3_simulate_2 : List UInt8 := dkwX3_simulate_2 ++ dktX3_simulate_3
def dkwX3_simulate_1 : List UInt8 := [3, 172, 42, 180, 0, 7, 42, 180, 0, 13, 184, 0, 242, 31, 55, 4, 3, 54, 6, 21, 6, 29]
abbrev dktX3_simulate_1 : List UInt8 := dkwX3_simulate_1 ++ dktX3_simulate_2
def dkwX3_simulate_0 : List UInt8 := [42, 29, 133, 10, 20, 1, 90, 184, 0, 49, 153, 0, 7, 3, 167, 0, 4, 4, 182, 0, 150, 153, 0, 5]
abbrev dktX3_simulate_0 : List UInt8 := dkwX3_simulate_0 ++ dktX3_simulate_1
theorem dksX3_simulate_0 : cX3_simulate.data.toList.drop 0 = dktX3_simulate_0 := by decide +kernel
theorem dksX3_simulate_1 : cX3_simulate.data.toList.drop 24 = dktX3_simulate_1 := dk_seg dksX3_simulate_0 24 rfl rfl
theorem dksX3_simulate_2 : cX3_simulate.data.toList.drop 46 = dktX3_simulate_2 := dk_seg dksX3_simulate_1 22 rfl rfl
theorem dksX3_simulate_3 : cX3_simulate.data.toList.drop 68 = dktX3_simulate_3 := dk_seg dksX3_simulate_2 22 rfl rfl
theorem dksX3_simulate_4 : cX3_simulate.data.toList.drop 91 = dktX3_simulate_4 := dk_seg dksX3_simulate_3 23 rfl rfl
theorem dX3_simulate_0 : decode cX3_simulate 0 = .ok (.aload_n 0, 1) := dk_42 (dk_at dksX3_simulate_0 0 rfl rfl)
theorem dX3_simulate_1 : decode cX3_simulate 1 = .ok (.iload_n 3, 1) := dk_29 (dk_at dksX3_simulate_0 1 rfl rfl)
theorem dX3_simulate_2 : decode cX3_simulate 2 = .ok (.i2l, 1) := dk_133 (dk_at dksX3_simulate_0 2 rfl rfl)
theorem dX3_simulate_3 : decode cX3_simulate 3 = .ok (.lconst 1, 1) := dk_10 (dk_at dksX3_simulate_0 3 rfl rfl)
theorem dX3_simulate_4 : decode cX3_simulate 4 = .ok (.ldc2_w 346, 3) := dk_20 1 90 (dk_at dksX3_simulate_0 4 rfl rfl)
theorem dX3_simulate_7 : decode cX3_simulate 7 = .ok (.invokestatic 49, 3) := dk_184 0 49 (dk_at dksX3_simulate_0 7 rfl rfl)
theorem dX3_simulate_10 : decode cX3_simulate 10 = .ok (.ifCond .eq 7, 3) := dk_153 0 7 (dk_at dksX3_simulate_0 10 rfl rfl)
theorem dX3_simulate_13 : decode cX3_simulate 13 = .ok (.iconst 0, 1) := dk_3 (dk_at dksX3_simulate_0 13 rfl rfl)
theorem dX3_simulate_14 : decode cX3_simulate 14 = .ok (.goto 4, 3) := dk_167 0 4 (dk_at dksX3_simulate_0 14 rfl rfl)
theorem dX3_simulate_17 : decode cX3_simulate 17 = .ok (.iconst 1, 1) := dk_4 (dk_at dksX3_simulate_0 17 rfl rfl)
theorem dX3_simulate_18 : decode cX3_simulate 18 = .ok (.invokevirtual 150, 3) := dk_182 0 150 (dk_at dksX3_simulate_0 18 rfl rfl)
theorem dX3_simulate_21 : decode cX3_simulate 21 = .ok (.ifCond .eq 5, 3) := dk_153 0 5 (dk_at dksX3_simulate_0 21 rfl rfl)
theorem dX3_simulate_24 : decode cX3_simulate 24 = .ok (.iconst 0, 1) := dk_3 (dk_at dksX3_simulate_1 0 rfl rfl)
theorem dX3_simulate_25 : decode cX3_simulate 25 = .ok (.ireturn, 1) := dk_172 (dk_at dksX3_simulate_1 1 rfl rfl)
theorem dX3_simulate_26 : decode cX3_simulate 26 = .ok (.aload_n 0, 1) := dk_42 (dk_at dksX3_simulate_1 2 rfl rfl)
theorem dX3_simulate_27 : decode cX3_simulate 27 = .ok (.getfield 7, 3) := dk_180 0 7 (dk_at dksX3_simulate_1 3 rfl rfl)
theorem dX3_simulate_30 : decode cX3_simulate 30 = .ok (.aload_n 0, 1) := dk_42 (dk_at dksX3_simulate_1 6 rfl rfl)
theorem dX3_simulate_31 : decode cX3_simulate 31 = .ok (.getfield 13, 3) := dk_180 0 13 (dk_at dksX3_simulate_1 7 rfl rfl)
theorem dX3_simulate_34 : decode cX3_simulate 34 = .ok (.invokestatic 242, 3) := dk_184 0 242 (dk_at dksX3_simulate_1 10 rfl rfl)
theorem dX3_simulate_37 : decode cX3_simulate 37 = .ok (.lload_n 1, 1) := dk_31 (dk_at dksX3_simulate_1 13 rfl rfl)
theorem dX3_simulate_38 : decode cX3_simulate 38 = .ok (.lstore 4, 2) := dk_55 4 (dk_at dksX3_simulate_1 14 rfl rfl)
theorem dX3_simulate_40 : decode cX3_simulate 40 = .ok (.iconst 0, 1) := dk_3 (dk_at dksX3_simulate_1 16 rfl rfl)
theorem dX3_simulate_41 : decode cX3_simulate 41 = .ok (.istore 6, 2) := dk_54 6 (dk_at dksX3_simulate_1 17 rfl rfl)
theorem dX3_simulate_43 : decode cX3_simulate 43 = .ok (.iload 6, 2) := dk_21 6 (dk_at dksX3_simulate_1 19 rfl rfl)
theorem dX3_simulate_45 : decode cX3_simulate 45 = .ok (.iload_n 3, 1) := dk_29 (dk_at dksX3_simulate_1 21 rfl rfl)
theorem dX3_simulate_46 : decode cX3_simulate 46 = .ok (.if_icmp .ge 31, 3) := dk_162 0 31 (dk_at dksX3_simulate_2 0 rfl rfl)
theorem dX3_simulate_49 : decode cX3_simulate 49 = .ok (.lload 4, 2) := dk_22 4 (dk_at dksX3_simulate_2 3 rfl rfl)
theorem dX3_simulate_51 : decode cX3_simulate 51 = .ok (.ldc2_w 348, 3) := dk_20 1 92 (dk_at dksX3_simulate_2 5 rfl rfl)
theorem dX3_simulate_54 : decode cX3_simulate 54 = .ok (.lmul, 1) := dk_105 (dk_at dksX3_simulate_2 8 rfl rfl)
theorem dX3_simulate_55 : decode cX3_simulate 55 = .ok (.ldc2_w 350, 3) := dk_20 1 94 (dk_at dksX3_simulate_2 9 rfl rfl)
theorem dX3_simulate_58 : decode cX3_simulate 58 = .ok (.ladd, 1) := dk_97 (dk_at dksX3_simulate_2 12 rfl rfl)
theorem dX3_simulate_59 : decode cX3_simulate 59 = .ok (.lstore 4, 2) := dk_55 4 (dk_at dksX3_simulate_2 13 rfl rfl)
theorem dX3_simulate_61 : decode cX3_simulate 61 = .ok (.aload_n 0, 1) := dk_42 (dk_at dksX3_simulate_2 15 rfl rfl)
theorem dX3_simulate_62 : decode cX3_simulate 62 = .ok (.lload 4, 2) := dk_22 4 (dk_at dksX3_simulate_2 16 rfl rfl)
theorem dX3_simulate_64 : decode cX3_simulate 64 = .ok (.bipush 33, 2) := dk_16 33 (dk_at dksX3_simulate_2 18 rfl rfl)
theorem dX3_simulate_66 : decode cX3_simulate 66 = .ok (.lushr, 1) := dk_125 (dk_at dksX3_simulate_2 20 rfl rfl)
theorem dX3_simulate_67 : decode cX3_simulate 67 = .ok (.l2i, 1) := dk_136 (dk_at dksX3_simulate_2 21 rfl rfl)
theorem dX3_simulate_68 : decode cX3_simulate 68 = .ok (.invokevirtual 352, 3) := dk_182 1 96 (dk_at dksX3_simulate_3 0 rfl rfl)
theorem dX3_simulate_71 : decode cX3_simulate 71 = .ok (.iinc 6 1, 3) := dk_132 6 1 (dk_at dksX3_simulate_3 3 rfl rfl)
theorem dX3_simulate_74 : decode cX3_simulate 74 = .ok (.goto (-31), 3) := dk_167 255 225 (dk_at dksX3_simulate_3 6 rfl rfl)
theorem dX3_simulate_77 : decode cX3_simulate 77 = .ok (.sipush 1000, 3) := dk_17 3 232 (dk_at dksX3_simulate_3 9 rfl rfl)
theorem dX3_simulate_80 : decode cX3_simulate 80 = .ok (.aload_n 0, 1) := dk_42 (dk_at dksX3_simulate_3 12 rfl rfl)
theorem dX3_simulate_81 : decode cX3_simulate 81 = .ok (.getfield 13, 3) := dk_180 0 13 (dk_at dksX3_simulate_3 13 rfl rfl)
theorem dX3_simulate_84 : decode cX3_simulate 84 = .ok (.iconst 2, 1) := dk_5 (dk_at dksX3_simulate_3 16 rfl rfl)
theorem dX3_simulate_85 : decode cX3_simulate 85 = .ok (.iaload, 1) := dk_46 (dk_at dksX3_simulate_3 17 rfl rfl)
theorem dX3_simulate_86 : decode cX3_simulate 86 = .ok (.imul, 1) := dk_104 (dk_at dksX3_simulate_3 18 rfl rfl)
theorem dX3_simulate_87 : decode cX3_simulate 87 = .ok (.bipush 10, 2) := dk_16 10 (dk_at dksX3_simulate_3 19 rfl rfl)
theorem dX3_simulate_89 : decode cX3_simulate 89 = .ok (.aload_n 0, 1) := dk_42 (dk_at dksX3_simulate_3 21 rfl rfl)
theorem dX3_simulate_90 : decode cX3_simulate 90 = .ok (.aload_n 0, 1) := dk_42 (dk_at dksX3_simulate_3 22 rfl rfl)
theorem dX3_simulate_91 : decode cX3_simulate 91 = .ok (.getfield 13, 3) := dk_180 0 13 (dk_at dksX3_simulate_4 0 rfl rfl)
theorem dX3_simulate_94 : decode cX3_simulate 94 = .ok (.invokevirtual 252, 3) := dk_182 0 252 (dk_at dksX3_simulate_4 3 rfl rfl)
theorem dX3_simulate_97 : decode cX3_simulate 97 = .ok (.imul, 1) := dk_104 (dk_at dksX3_simulate_4 6 rfl rfl)
theorem dX3_simulate_98 : decode cX3_simulate 98 = .ok (.iadd, 1) := dk_96 (dk_at dksX3_simulate_4 7 rfl rfl)
theorem dX3_simulate_99 : decode cX3_simulate 99 = .ok (.aload_n 0, 1) := dk_42 (dk_at dksX3_simulate_4 8 rfl rfl)
theorem dX3_simulate_100 : decode cX3_simulate 100 = .ok (.aload_n 0, 1) := dk_42 (dk_at dksX3_simulate_4 9 rfl rfl)
theorem dX3_simulate_101 : decode cX3_simulate 101 = .ok (.getfield 13, 3) := dk_180 0 13 (dk_at dksX3_simulate_4 10 rfl rfl)
theorem dX3_simulate_104 : decode cX3_simulate 104 = .ok (.invokevirtual 259, 3) := dk_182 1 3 (dk_at dksX3_simulate_4 13 rfl rfl)
theorem dX3_simulate_107 : decode cX3_simulate 107 = .ok (.iadd, 1) := dk_96 (dk_at dksX3_simulate_4 16 rfl rfl)
theorem dX3_simulate_108 : decode cX3_simulate 108 = .ok (.ireturn, 1) := dk_172 (dk_at dksX3_simulate_4 17 rfl rfl)
abbrev cX3_stir : ByteArray := prog_10_method_111_code
def yX3_stir : MethodName := ⟨RX3, "stir", "(I)V"⟩
def dkwX3_stir_9 : List UInt8 := [167, 0, 12, 42, 28, 16, 6, 112, 182, 1, 75, 62, 177]
abbrev dktX3_stir_9 : List UInt8 := dkwX3_stir_9 ++ []
def dkwX3_stir_8 : List UInt8 := [16, 32, 108, 16, 6, 112, 3, 182, 1, 69, 62, 167, 0, 24, 42, 28, 16, 24, 112, 182, 1, 66, 62]
abbrev dktX3_stir_8 : List UInt8 := dkwX3_stir_8 ++ dktX3_stir_9
def dkwX3_stir_7 : List UInt8 := [16, 24, 112, 28, 16, 32, 108, 16, 6, 112, 182, 1, 63, 62, 167, 0, 44, 42, 28, 16, 24, 112, 28]
abbrev dktX3_stir_7 : List UInt8 := dkwX3_stir_7 ++ dktX3_stir_8
def dkwX3_stir_6 : List UInt8 := [167, 0, 82, 42, 28, 16, 24, 112, 28, 16, 32, 108, 16, 16, 112, 182, 1, 72, 62, 167, 0, 63, 42, 28]
abbrev dktX3_stir_6 : List UInt8 := dkwX3_stir_6 ++ dktX3_stir_7
def dkwX3_stir_5 : List UInt8 := [167, 0, 106, 42, 28, 16, 10, 112, 17, 3, 232, 28, 16, 16, 108, 17, 3, 232, 112, 96, 182, 1, 60, 62]
abbrev dktX3_stir_5 : List UInt8 := dkwX3_stir_5 ++ dktX3_stir_6
def dkwX3_stir_4 : List UInt8 := [4, 100, 28, 17, 2, 0, 108, 16, 20, 112, 3, 184, 0, 210, 155, 0, 7, 4, 167, 0, 4, 3, 62]
abbrev dktX3_stir_4 : List UInt8 := dkwX3_stir_4 ++ dktX3_stir_5
def dkwX3_stir_3 : List UInt8 := [162, 0, 45, 42, 180, 0, 13, 28, 16, 10, 112, 28, 16, 16, 108, 5, 112, 28, 16, 32, 108, 16, 9, 112]
abbrev dktX3_stir_3 : List UInt8 := dkwX3_stir_3 ++ dktX3_stir_4
def dkwX3_stir_2 : List UInt8 := [42, 180, 0, 13, 28, 16, 10, 112, 184, 0, 197, 153, 0, 56, 42, 180, 0, 13, 5, 46, 16, 24]
abbrev dktX3_stir_2 : List UInt8 := dkwX3_stir_2 ++ dktX3_stir_3
def dkwX3_stir_1 : List UInt8 := [170, 0, 0, 0, 0, 0, 209, 0, 0, 0, 0, 0, 0, 0, 6, 0, 0, 0, 43, 0, 0, 0, 43, 0, 0, 0, 115, 0, 0, 0, 139, 0, 0, 0, 158, 0, 0, 0, 177, 0, 0, 0, 197]
abbrev dktX3_stir_1 : List UInt8 := dkwX3_stir_1 ++ dktX3_stir_2
def dkwX3_stir_0 : List UInt8 := [27, 16, 8, 108, 61, 27, 16, 8, 112]
abbrev dktX3_stir_0 : List UInt8 := dkwX3_stir_0 ++ dktX3_stir_1
theorem dksX3_stir_0 : cX3_stir.data.toList.drop 0 = dktX3_stir_0 := by decide +kernel
theorem dksX3_stir_1 : cX3_stir.data.toList.drop 9 = dktX3_stir_1 := dk_seg dksX3_stir_0 9 rfl rfl
theorem dksX3_stir_2 : cX3_stir.data.toList.drop 52 = dktX3_stir_2 := dk_seg dksX3_stir_1 43 rfl rfl
theorem dksX3_stir_3 : cX3_stir.data.toList.drop 74 = dktX3_stir_3 := dk_seg dksX3_stir_2 22 rfl rfl
theorem dksX3_stir_4 : cX3_stir.data.toList.drop 98 = dktX3_stir_4 := dk_seg dksX3_stir_3 24 rfl rfl
theorem dksX3_stir_5 : cX3_stir.data.toList.drop 121 = dktX3_stir_5 := dk_seg dksX3_stir_4 23 rfl rfl
theorem dksX3_stir_6 : cX3_stir.data.toList.drop 145 = dktX3_stir_6 := dk_seg dksX3_stir_5 24 rfl rfl
theorem dksX3_stir_7 : cX3_stir.data.toList.drop 169 = dktX3_stir_7 := dk_seg dksX3_stir_6 24 rfl rfl
theorem dksX3_stir_8 : cX3_stir.data.toList.drop 192 = dktX3_stir_8 := dk_seg dksX3_stir_7 23 rfl rfl
theorem dksX3_stir_9 : cX3_stir.data.toList.drop 215 = dktX3_stir_9 := dk_seg dksX3_stir_8 23 rfl rfl
theorem dX3_stir_0 : decode cX3_stir 0 = .ok (.iload_n 1, 1) := dk_27 (dk_at dksX3_stir_0 0 rfl rfl)
theorem dX3_stir_1 : decode cX3_stir 1 = .ok (.bipush 8, 2) := dk_16 8 (dk_at dksX3_stir_0 1 rfl rfl)
theorem dX3_stir_3 : decode cX3_stir 3 = .ok (.idiv, 1) := dk_108 (dk_at dksX3_stir_0 3 rfl rfl)
theorem dX3_stir_4 : decode cX3_stir 4 = .ok (.istore_n 2, 1) := dk_61 (dk_at dksX3_stir_0 4 rfl rfl)
theorem dX3_stir_5 : decode cX3_stir 5 = .ok (.iload_n 1, 1) := dk_27 (dk_at dksX3_stir_0 5 rfl rfl)
theorem dX3_stir_6 : decode cX3_stir 6 = .ok (.bipush 8, 2) := dk_16 8 (dk_at dksX3_stir_0 6 rfl rfl)
theorem dX3_stir_8 : decode cX3_stir 8 = .ok (.irem, 1) := dk_112 (dk_at dksX3_stir_0 8 rfl rfl)
theorem dX3_stir_9 : decode cX3_stir 9 = .ok (.tableswitch 209 0 6 #[43, 43, 115, 139, 158, 177, 197], 43) := by decide +kernel
theorem dX3_stir_52 : decode cX3_stir 52 = .ok (.aload_n 0, 1) := dk_42 (dk_at dksX3_stir_2 0 rfl rfl)
theorem dX3_stir_53 : decode cX3_stir 53 = .ok (.getfield 13, 3) := dk_180 0 13 (dk_at dksX3_stir_2 1 rfl rfl)
theorem dX3_stir_56 : decode cX3_stir 56 = .ok (.iload_n 2, 1) := dk_28 (dk_at dksX3_stir_2 4 rfl rfl)
theorem dX3_stir_57 : decode cX3_stir 57 = .ok (.bipush 10, 2) := dk_16 10 (dk_at dksX3_stir_2 5 rfl rfl)
theorem dX3_stir_59 : decode cX3_stir 59 = .ok (.irem, 1) := dk_112 (dk_at dksX3_stir_2 7 rfl rfl)
theorem dX3_stir_60 : decode cX3_stir 60 = .ok (.invokestatic 197, 3) := dk_184 0 197 (dk_at dksX3_stir_2 8 rfl rfl)
theorem dX3_stir_63 : decode cX3_stir 63 = .ok (.ifCond .eq 56, 3) := dk_153 0 56 (dk_at dksX3_stir_2 11 rfl rfl)
theorem dX3_stir_66 : decode cX3_stir 66 = .ok (.aload_n 0, 1) := dk_42 (dk_at dksX3_stir_2 14 rfl rfl)
theorem dX3_stir_67 : decode cX3_stir 67 = .ok (.getfield 13, 3) := dk_180 0 13 (dk_at dksX3_stir_2 15 rfl rfl)
theorem dX3_stir_70 : decode cX3_stir 70 = .ok (.iconst 2, 1) := dk_5 (dk_at dksX3_stir_2 18 rfl rfl)
theorem dX3_stir_71 : decode cX3_stir 71 = .ok (.iaload, 1) := dk_46 (dk_at dksX3_stir_2 19 rfl rfl)
theorem dX3_stir_72 : decode cX3_stir 72 = .ok (.bipush 24, 2) := dk_16 24 (dk_at dksX3_stir_2 20 rfl rfl)
theorem dX3_stir_74 : decode cX3_stir 74 = .ok (.if_icmp .ge 45, 3) := dk_162 0 45 (dk_at dksX3_stir_3 0 rfl rfl)
theorem dX3_stir_77 : decode cX3_stir 77 = .ok (.aload_n 0, 1) := dk_42 (dk_at dksX3_stir_3 3 rfl rfl)
theorem dX3_stir_78 : decode cX3_stir 78 = .ok (.getfield 13, 3) := dk_180 0 13 (dk_at dksX3_stir_3 4 rfl rfl)
theorem dX3_stir_81 : decode cX3_stir 81 = .ok (.iload_n 2, 1) := dk_28 (dk_at dksX3_stir_3 7 rfl rfl)
theorem dX3_stir_82 : decode cX3_stir 82 = .ok (.bipush 10, 2) := dk_16 10 (dk_at dksX3_stir_3 8 rfl rfl)
theorem dX3_stir_84 : decode cX3_stir 84 = .ok (.irem, 1) := dk_112 (dk_at dksX3_stir_3 10 rfl rfl)
theorem dX3_stir_85 : decode cX3_stir 85 = .ok (.iload_n 2, 1) := dk_28 (dk_at dksX3_stir_3 11 rfl rfl)
theorem dX3_stir_86 : decode cX3_stir 86 = .ok (.bipush 16, 2) := dk_16 16 (dk_at dksX3_stir_3 12 rfl rfl)
theorem dX3_stir_88 : decode cX3_stir 88 = .ok (.idiv, 1) := dk_108 (dk_at dksX3_stir_3 14 rfl rfl)
theorem dX3_stir_89 : decode cX3_stir 89 = .ok (.iconst 2, 1) := dk_5 (dk_at dksX3_stir_3 15 rfl rfl)
theorem dX3_stir_90 : decode cX3_stir 90 = .ok (.irem, 1) := dk_112 (dk_at dksX3_stir_3 16 rfl rfl)
theorem dX3_stir_91 : decode cX3_stir 91 = .ok (.iload_n 2, 1) := dk_28 (dk_at dksX3_stir_3 17 rfl rfl)
theorem dX3_stir_92 : decode cX3_stir 92 = .ok (.bipush 32, 2) := dk_16 32 (dk_at dksX3_stir_3 18 rfl rfl)
theorem dX3_stir_94 : decode cX3_stir 94 = .ok (.idiv, 1) := dk_108 (dk_at dksX3_stir_3 20 rfl rfl)
theorem dX3_stir_95 : decode cX3_stir 95 = .ok (.bipush 9, 2) := dk_16 9 (dk_at dksX3_stir_3 21 rfl rfl)
theorem dX3_stir_97 : decode cX3_stir 97 = .ok (.irem, 1) := dk_112 (dk_at dksX3_stir_3 23 rfl rfl)
theorem dX3_stir_98 : decode cX3_stir 98 = .ok (.iconst 1, 1) := dk_4 (dk_at dksX3_stir_4 0 rfl rfl)
theorem dX3_stir_99 : decode cX3_stir 99 = .ok (.isub, 1) := dk_100 (dk_at dksX3_stir_4 1 rfl rfl)
theorem dX3_stir_100 : decode cX3_stir 100 = .ok (.iload_n 2, 1) := dk_28 (dk_at dksX3_stir_4 2 rfl rfl)
theorem dX3_stir_101 : decode cX3_stir 101 = .ok (.sipush 512, 3) := dk_17 2 0 (dk_at dksX3_stir_4 3 rfl rfl)
theorem dX3_stir_104 : decode cX3_stir 104 = .ok (.idiv, 1) := dk_108 (dk_at dksX3_stir_4 6 rfl rfl)
theorem dX3_stir_105 : decode cX3_stir 105 = .ok (.bipush 20, 2) := dk_16 20 (dk_at dksX3_stir_4 7 rfl rfl)
theorem dX3_stir_107 : decode cX3_stir 107 = .ok (.irem, 1) := dk_112 (dk_at dksX3_stir_4 9 rfl rfl)
theorem dX3_stir_108 : decode cX3_stir 108 = .ok (.iconst 0, 1) := dk_3 (dk_at dksX3_stir_4 10 rfl rfl)
theorem dX3_stir_109 : decode cX3_stir 109 = .ok (.invokestatic 210, 3) := dk_184 0 210 (dk_at dksX3_stir_4 11 rfl rfl)
theorem dX3_stir_112 : decode cX3_stir 112 = .ok (.ifCond .lt 7, 3) := dk_155 0 7 (dk_at dksX3_stir_4 14 rfl rfl)
theorem dX3_stir_115 : decode cX3_stir 115 = .ok (.iconst 1, 1) := dk_4 (dk_at dksX3_stir_4 17 rfl rfl)
theorem dX3_stir_116 : decode cX3_stir 116 = .ok (.goto 4, 3) := dk_167 0 4 (dk_at dksX3_stir_4 18 rfl rfl)
theorem dX3_stir_119 : decode cX3_stir 119 = .ok (.iconst 0, 1) := dk_3 (dk_at dksX3_stir_4 21 rfl rfl)
theorem dX3_stir_120 : decode cX3_stir 120 = .ok (.istore_n 3, 1) := dk_62 (dk_at dksX3_stir_4 22 rfl rfl)
theorem dX3_stir_121 : decode cX3_stir 121 = .ok (.goto 106, 3) := dk_167 0 106 (dk_at dksX3_stir_5 0 rfl rfl)
theorem dX3_stir_124 : decode cX3_stir 124 = .ok (.aload_n 0, 1) := dk_42 (dk_at dksX3_stir_5 3 rfl rfl)
theorem dX3_stir_125 : decode cX3_stir 125 = .ok (.iload_n 2, 1) := dk_28 (dk_at dksX3_stir_5 4 rfl rfl)
theorem dX3_stir_126 : decode cX3_stir 126 = .ok (.bipush 10, 2) := dk_16 10 (dk_at dksX3_stir_5 5 rfl rfl)
theorem dX3_stir_128 : decode cX3_stir 128 = .ok (.irem, 1) := dk_112 (dk_at dksX3_stir_5 7 rfl rfl)
theorem dX3_stir_129 : decode cX3_stir 129 = .ok (.sipush 1000, 3) := dk_17 3 232 (dk_at dksX3_stir_5 8 rfl rfl)
theorem dX3_stir_132 : decode cX3_stir 132 = .ok (.iload_n 2, 1) := dk_28 (dk_at dksX3_stir_5 11 rfl rfl)
theorem dX3_stir_133 : decode cX3_stir 133 = .ok (.bipush 16, 2) := dk_16 16 (dk_at dksX3_stir_5 12 rfl rfl)
theorem dX3_stir_135 : decode cX3_stir 135 = .ok (.idiv, 1) := dk_108 (dk_at dksX3_stir_5 14 rfl rfl)
theorem dX3_stir_136 : decode cX3_stir 136 = .ok (.sipush 1000, 3) := dk_17 3 232 (dk_at dksX3_stir_5 15 rfl rfl)
theorem dX3_stir_139 : decode cX3_stir 139 = .ok (.irem, 1) := dk_112 (dk_at dksX3_stir_5 18 rfl rfl)
theorem dX3_stir_140 : decode cX3_stir 140 = .ok (.iadd, 1) := dk_96 (dk_at dksX3_stir_5 19 rfl rfl)
theorem dX3_stir_141 : decode cX3_stir 141 = .ok (.invokevirtual 316, 3) := dk_182 1 60 (dk_at dksX3_stir_5 20 rfl rfl)
theorem dX3_stir_144 : decode cX3_stir 144 = .ok (.istore_n 3, 1) := dk_62 (dk_at dksX3_stir_5 23 rfl rfl)
theorem dX3_stir_145 : decode cX3_stir 145 = .ok (.goto 82, 3) := dk_167 0 82 (dk_at dksX3_stir_6 0 rfl rfl)
theorem dX3_stir_148 : decode cX3_stir 148 = .ok (.aload_n 0, 1) := dk_42 (dk_at dksX3_stir_6 3 rfl rfl)
theorem dX3_stir_149 : decode cX3_stir 149 = .ok (.iload_n 2, 1) := dk_28 (dk_at dksX3_stir_6 4 rfl rfl)
theorem dX3_stir_150 : decode cX3_stir 150 = .ok (.bipush 24, 2) := dk_16 24 (dk_at dksX3_stir_6 5 rfl rfl)
theorem dX3_stir_152 : decode cX3_stir 152 = .ok (.irem, 1) := dk_112 (dk_at dksX3_stir_6 7 rfl rfl)
theorem dX3_stir_153 : decode cX3_stir 153 = .ok (.iload_n 2, 1) := dk_28 (dk_at dksX3_stir_6 8 rfl rfl)
theorem dX3_stir_154 : decode cX3_stir 154 = .ok (.bipush 32, 2) := dk_16 32 (dk_at dksX3_stir_6 9 rfl rfl)
theorem dX3_stir_156 : decode cX3_stir 156 = .ok (.idiv, 1) := dk_108 (dk_at dksX3_stir_6 11 rfl rfl)
theorem dX3_stir_157 : decode cX3_stir 157 = .ok (.bipush 16, 2) := dk_16 16 (dk_at dksX3_stir_6 12 rfl rfl)
theorem dX3_stir_159 : decode cX3_stir 159 = .ok (.irem, 1) := dk_112 (dk_at dksX3_stir_6 14 rfl rfl)
theorem dX3_stir_160 : decode cX3_stir 160 = .ok (.invokevirtual 328, 3) := dk_182 1 72 (dk_at dksX3_stir_6 15 rfl rfl)
theorem dX3_stir_163 : decode cX3_stir 163 = .ok (.istore_n 3, 1) := dk_62 (dk_at dksX3_stir_6 18 rfl rfl)
theorem dX3_stir_164 : decode cX3_stir 164 = .ok (.goto 63, 3) := dk_167 0 63 (dk_at dksX3_stir_6 19 rfl rfl)
theorem dX3_stir_167 : decode cX3_stir 167 = .ok (.aload_n 0, 1) := dk_42 (dk_at dksX3_stir_6 22 rfl rfl)
theorem dX3_stir_168 : decode cX3_stir 168 = .ok (.iload_n 2, 1) := dk_28 (dk_at dksX3_stir_6 23 rfl rfl)
theorem dX3_stir_169 : decode cX3_stir 169 = .ok (.bipush 24, 2) := dk_16 24 (dk_at dksX3_stir_7 0 rfl rfl)
theorem dX3_stir_171 : decode cX3_stir 171 = .ok (.irem, 1) := dk_112 (dk_at dksX3_stir_7 2 rfl rfl)
theorem dX3_stir_172 : decode cX3_stir 172 = .ok (.iload_n 2, 1) := dk_28 (dk_at dksX3_stir_7 3 rfl rfl)
theorem dX3_stir_173 : decode cX3_stir 173 = .ok (.bipush 32, 2) := dk_16 32 (dk_at dksX3_stir_7 4 rfl rfl)
theorem dX3_stir_175 : decode cX3_stir 175 = .ok (.idiv, 1) := dk_108 (dk_at dksX3_stir_7 6 rfl rfl)
theorem dX3_stir_176 : decode cX3_stir 176 = .ok (.bipush 6, 2) := dk_16 6 (dk_at dksX3_stir_7 7 rfl rfl)
theorem dX3_stir_178 : decode cX3_stir 178 = .ok (.irem, 1) := dk_112 (dk_at dksX3_stir_7 9 rfl rfl)
theorem dX3_stir_179 : decode cX3_stir 179 = .ok (.invokevirtual 319, 3) := dk_182 1 63 (dk_at dksX3_stir_7 10 rfl rfl)
theorem dX3_stir_182 : decode cX3_stir 182 = .ok (.istore_n 3, 1) := dk_62 (dk_at dksX3_stir_7 13 rfl rfl)
theorem dX3_stir_183 : decode cX3_stir 183 = .ok (.goto 44, 3) := dk_167 0 44 (dk_at dksX3_stir_7 14 rfl rfl)
theorem dX3_stir_186 : decode cX3_stir 186 = .ok (.aload_n 0, 1) := dk_42 (dk_at dksX3_stir_7 17 rfl rfl)
theorem dX3_stir_187 : decode cX3_stir 187 = .ok (.iload_n 2, 1) := dk_28 (dk_at dksX3_stir_7 18 rfl rfl)
theorem dX3_stir_188 : decode cX3_stir 188 = .ok (.bipush 24, 2) := dk_16 24 (dk_at dksX3_stir_7 19 rfl rfl)
theorem dX3_stir_190 : decode cX3_stir 190 = .ok (.irem, 1) := dk_112 (dk_at dksX3_stir_7 21 rfl rfl)
theorem dX3_stir_191 : decode cX3_stir 191 = .ok (.iload_n 2, 1) := dk_28 (dk_at dksX3_stir_7 22 rfl rfl)
theorem dX3_stir_192 : decode cX3_stir 192 = .ok (.bipush 32, 2) := dk_16 32 (dk_at dksX3_stir_8 0 rfl rfl)
theorem dX3_stir_194 : decode cX3_stir 194 = .ok (.idiv, 1) := dk_108 (dk_at dksX3_stir_8 2 rfl rfl)
theorem dX3_stir_195 : decode cX3_stir 195 = .ok (.bipush 6, 2) := dk_16 6 (dk_at dksX3_stir_8 3 rfl rfl)
theorem dX3_stir_197 : decode cX3_stir 197 = .ok (.irem, 1) := dk_112 (dk_at dksX3_stir_8 5 rfl rfl)
theorem dX3_stir_198 : decode cX3_stir 198 = .ok (.iconst 0, 1) := dk_3 (dk_at dksX3_stir_8 6 rfl rfl)
theorem dX3_stir_199 : decode cX3_stir 199 = .ok (.invokevirtual 325, 3) := dk_182 1 69 (dk_at dksX3_stir_8 7 rfl rfl)
theorem dX3_stir_202 : decode cX3_stir 202 = .ok (.istore_n 3, 1) := dk_62 (dk_at dksX3_stir_8 10 rfl rfl)
theorem dX3_stir_203 : decode cX3_stir 203 = .ok (.goto 24, 3) := dk_167 0 24 (dk_at dksX3_stir_8 11 rfl rfl)
theorem dX3_stir_206 : decode cX3_stir 206 = .ok (.aload_n 0, 1) := dk_42 (dk_at dksX3_stir_8 14 rfl rfl)
theorem dX3_stir_207 : decode cX3_stir 207 = .ok (.iload_n 2, 1) := dk_28 (dk_at dksX3_stir_8 15 rfl rfl)
theorem dX3_stir_208 : decode cX3_stir 208 = .ok (.bipush 24, 2) := dk_16 24 (dk_at dksX3_stir_8 16 rfl rfl)
theorem dX3_stir_210 : decode cX3_stir 210 = .ok (.irem, 1) := dk_112 (dk_at dksX3_stir_8 18 rfl rfl)
theorem dX3_stir_211 : decode cX3_stir 211 = .ok (.invokevirtual 322, 3) := dk_182 1 66 (dk_at dksX3_stir_8 19 rfl rfl)
theorem dX3_stir_214 : decode cX3_stir 214 = .ok (.istore_n 3, 1) := dk_62 (dk_at dksX3_stir_8 22 rfl rfl)
theorem dX3_stir_215 : decode cX3_stir 215 = .ok (.goto 12, 3) := dk_167 0 12 (dk_at dksX3_stir_9 0 rfl rfl)
theorem dX3_stir_218 : decode cX3_stir 218 = .ok (.aload_n 0, 1) := dk_42 (dk_at dksX3_stir_9 3 rfl rfl)
theorem dX3_stir_219 : decode cX3_stir 219 = .ok (.iload_n 2, 1) := dk_28 (dk_at dksX3_stir_9 4 rfl rfl)
theorem dX3_stir_220 : decode cX3_stir 220 = .ok (.bipush 6, 2) := dk_16 6 (dk_at dksX3_stir_9 5 rfl rfl)
theorem dX3_stir_222 : decode cX3_stir 222 = .ok (.irem, 1) := dk_112 (dk_at dksX3_stir_9 7 rfl rfl)
theorem dX3_stir_223 : decode cX3_stir 223 = .ok (.invokevirtual 331, 3) := dk_182 1 75 (dk_at dksX3_stir_9 8 rfl rfl)
theorem dX3_stir_226 : decode cX3_stir 226 = .ok (.istore_n 3, 1) := dk_62 (dk_at dksX3_stir_9 11 rfl rfl)
theorem dX3_stir_227 : decode cX3_stir 227 = .ok (.return_, 1) := dk_177 (dk_at dksX3_stir_9 12 rfl rfl)
abbrev cX3_save : ByteArray := prog_10_method_113_code
def yX3_save : MethodName := ⟨RX3, "save", "(I)I"⟩
def dkwX3_save_2 : List UInt8 := [28, 46, 79, 132, 2, 1, 167, 255, 228, 42, 180, 0, 25, 27, 4, 84, 42, 180, 0, 7, 5, 46, 172]
abbrev dktX3_save_2 : List UInt8 := dkwX3_save_2 ++ []
def dkwX3_save_1 : List UInt8 := [3, 61, 28, 17, 1, 35, 162, 0, 27, 42, 180, 0, 22, 17, 1, 35, 27, 104, 28, 96, 42, 180, 0, 7]
abbrev dktX3_save_1 : List UInt8 := dkwX3_save_1 ++ dktX3_save_2
def dkwX3_save_0 : List UInt8 := [42, 27, 133, 9, 10, 184, 0, 49, 153, 0, 7, 3, 167, 0, 4, 4, 182, 0, 150, 153, 0, 5, 3, 172]
abbrev dktX3_save_0 : List UInt8 := dkwX3_save_0 ++ dktX3_save_1
theorem dksX3_save_0 : cX3_save.data.toList.drop 0 = dktX3_save_0 := by decide +kernel
theorem dksX3_save_1 : cX3_save.data.toList.drop 24 = dktX3_save_1 := dk_seg dksX3_save_0 24 rfl rfl
theorem dksX3_save_2 : cX3_save.data.toList.drop 48 = dktX3_save_2 := dk_seg dksX3_save_1 24 rfl rfl
theorem dX3_save_0 : decode cX3_save 0 = .ok (.aload_n 0, 1) := dk_42 (dk_at dksX3_save_0 0 rfl rfl)
theorem dX3_save_1 : decode cX3_save 1 = .ok (.iload_n 1, 1) := dk_27 (dk_at dksX3_save_0 1 rfl rfl)
theorem dX3_save_2 : decode cX3_save 2 = .ok (.i2l, 1) := dk_133 (dk_at dksX3_save_0 2 rfl rfl)
theorem dX3_save_3 : decode cX3_save 3 = .ok (.lconst 0, 1) := dk_9 (dk_at dksX3_save_0 3 rfl rfl)
theorem dX3_save_4 : decode cX3_save 4 = .ok (.lconst 1, 1) := dk_10 (dk_at dksX3_save_0 4 rfl rfl)
theorem dX3_save_5 : decode cX3_save 5 = .ok (.invokestatic 49, 3) := dk_184 0 49 (dk_at dksX3_save_0 5 rfl rfl)
theorem dX3_save_8 : decode cX3_save 8 = .ok (.ifCond .eq 7, 3) := dk_153 0 7 (dk_at dksX3_save_0 8 rfl rfl)
theorem dX3_save_11 : decode cX3_save 11 = .ok (.iconst 0, 1) := dk_3 (dk_at dksX3_save_0 11 rfl rfl)
theorem dX3_save_12 : decode cX3_save 12 = .ok (.goto 4, 3) := dk_167 0 4 (dk_at dksX3_save_0 12 rfl rfl)
theorem dX3_save_15 : decode cX3_save 15 = .ok (.iconst 1, 1) := dk_4 (dk_at dksX3_save_0 15 rfl rfl)
theorem dX3_save_16 : decode cX3_save 16 = .ok (.invokevirtual 150, 3) := dk_182 0 150 (dk_at dksX3_save_0 16 rfl rfl)
theorem dX3_save_19 : decode cX3_save 19 = .ok (.ifCond .eq 5, 3) := dk_153 0 5 (dk_at dksX3_save_0 19 rfl rfl)
theorem dX3_save_22 : decode cX3_save 22 = .ok (.iconst 0, 1) := dk_3 (dk_at dksX3_save_0 22 rfl rfl)
theorem dX3_save_23 : decode cX3_save 23 = .ok (.ireturn, 1) := dk_172 (dk_at dksX3_save_0 23 rfl rfl)
theorem dX3_save_24 : decode cX3_save 24 = .ok (.iconst 0, 1) := dk_3 (dk_at dksX3_save_1 0 rfl rfl)
theorem dX3_save_25 : decode cX3_save 25 = .ok (.istore_n 2, 1) := dk_61 (dk_at dksX3_save_1 1 rfl rfl)
theorem dX3_save_26 : decode cX3_save 26 = .ok (.iload_n 2, 1) := dk_28 (dk_at dksX3_save_1 2 rfl rfl)
theorem dX3_save_27 : decode cX3_save 27 = .ok (.sipush 291, 3) := dk_17 1 35 (dk_at dksX3_save_1 3 rfl rfl)
theorem dX3_save_30 : decode cX3_save 30 = .ok (.if_icmp .ge 27, 3) := dk_162 0 27 (dk_at dksX3_save_1 6 rfl rfl)
theorem dX3_save_33 : decode cX3_save 33 = .ok (.aload_n 0, 1) := dk_42 (dk_at dksX3_save_1 9 rfl rfl)
theorem dX3_save_34 : decode cX3_save 34 = .ok (.getfield 22, 3) := dk_180 0 22 (dk_at dksX3_save_1 10 rfl rfl)
theorem dX3_save_37 : decode cX3_save 37 = .ok (.sipush 291, 3) := dk_17 1 35 (dk_at dksX3_save_1 13 rfl rfl)
theorem dX3_save_40 : decode cX3_save 40 = .ok (.iload_n 1, 1) := dk_27 (dk_at dksX3_save_1 16 rfl rfl)
theorem dX3_save_41 : decode cX3_save 41 = .ok (.imul, 1) := dk_104 (dk_at dksX3_save_1 17 rfl rfl)
theorem dX3_save_42 : decode cX3_save 42 = .ok (.iload_n 2, 1) := dk_28 (dk_at dksX3_save_1 18 rfl rfl)
theorem dX3_save_43 : decode cX3_save 43 = .ok (.iadd, 1) := dk_96 (dk_at dksX3_save_1 19 rfl rfl)
theorem dX3_save_44 : decode cX3_save 44 = .ok (.aload_n 0, 1) := dk_42 (dk_at dksX3_save_1 20 rfl rfl)
theorem dX3_save_45 : decode cX3_save 45 = .ok (.getfield 7, 3) := dk_180 0 7 (dk_at dksX3_save_1 21 rfl rfl)
theorem dX3_save_48 : decode cX3_save 48 = .ok (.iload_n 2, 1) := dk_28 (dk_at dksX3_save_2 0 rfl rfl)
theorem dX3_save_49 : decode cX3_save 49 = .ok (.iaload, 1) := dk_46 (dk_at dksX3_save_2 1 rfl rfl)
theorem dX3_save_50 : decode cX3_save 50 = .ok (.iastore, 1) := dk_79 (dk_at dksX3_save_2 2 rfl rfl)
theorem dX3_save_51 : decode cX3_save 51 = .ok (.iinc 2 1, 3) := dk_132 2 1 (dk_at dksX3_save_2 3 rfl rfl)
theorem dX3_save_54 : decode cX3_save 54 = .ok (.goto (-28), 3) := dk_167 255 228 (dk_at dksX3_save_2 6 rfl rfl)
theorem dX3_save_57 : decode cX3_save 57 = .ok (.aload_n 0, 1) := dk_42 (dk_at dksX3_save_2 9 rfl rfl)
theorem dX3_save_58 : decode cX3_save 58 = .ok (.getfield 25, 3) := dk_180 0 25 (dk_at dksX3_save_2 10 rfl rfl)
theorem dX3_save_61 : decode cX3_save 61 = .ok (.iload_n 1, 1) := dk_27 (dk_at dksX3_save_2 13 rfl rfl)
theorem dX3_save_62 : decode cX3_save 62 = .ok (.iconst 1, 1) := dk_4 (dk_at dksX3_save_2 14 rfl rfl)
theorem dX3_save_63 : decode cX3_save 63 = .ok (.bastore, 1) := dk_84 (dk_at dksX3_save_2 15 rfl rfl)
theorem dX3_save_64 : decode cX3_save 64 = .ok (.aload_n 0, 1) := dk_42 (dk_at dksX3_save_2 16 rfl rfl)
theorem dX3_save_65 : decode cX3_save 65 = .ok (.getfield 7, 3) := dk_180 0 7 (dk_at dksX3_save_2 17 rfl rfl)
theorem dX3_save_68 : decode cX3_save 68 = .ok (.iconst 2, 1) := dk_5 (dk_at dksX3_save_2 20 rfl rfl)
theorem dX3_save_69 : decode cX3_save 69 = .ok (.iaload, 1) := dk_46 (dk_at dksX3_save_2 21 rfl rfl)
theorem dX3_save_70 : decode cX3_save 70 = .ok (.ireturn, 1) := dk_172 (dk_at dksX3_save_2 22 rfl rfl)
abbrev cX3_restore : ByteArray := prog_10_method_114_code
def yX3_restore : MethodName := ⟨RX3, "restore", "(I)I"⟩
def dkwX3_restore_3 : List UInt8 := [3, 181, 0, 142, 42, 180, 0, 7, 5, 46, 172]
abbrev dktX3_restore_3 : List UInt8 := dkwX3_restore_3 ++ []
def dkwX3_restore_2 : List UInt8 := [180, 0, 7, 28, 42, 180, 0, 22, 17, 1, 35, 27, 104, 28, 96, 46, 79, 132, 2, 1, 167, 255, 228, 42]
abbrev dktX3_restore_2 : List UInt8 := dkwX3_restore_2 ++ dktX3_restore_3
def dkwX3_restore_1 : List UInt8 := [5, 167, 0, 4, 3, 182, 0, 150, 153, 0, 5, 3, 172, 3, 61, 28, 17, 1, 35, 162, 0, 27, 42]
abbrev dktX3_restore_1 : List UInt8 := dkwX3_restore_1 ++ dktX3_restore_2
def dkwX3_restore_0 : List UInt8 := [42, 27, 133, 9, 10, 184, 0, 49, 154, 0, 7, 4, 167, 0, 17, 42, 180, 0, 25, 27, 51, 154, 0, 7]
abbrev dktX3_restore_0 : List UInt8 := dkwX3_restore_0 ++ dktX3_restore_1
theorem dksX3_restore_0 : cX3_restore.data.toList.drop 0 = dktX3_restore_0 := by decide +kernel
theorem dksX3_restore_1 : cX3_restore.data.toList.drop 24 = dktX3_restore_1 := dk_seg dksX3_restore_0 24 rfl rfl
theorem dksX3_restore_2 : cX3_restore.data.toList.drop 47 = dktX3_restore_2 := dk_seg dksX3_restore_1 23 rfl rfl
theorem dksX3_restore_3 : cX3_restore.data.toList.drop 71 = dktX3_restore_3 := dk_seg dksX3_restore_2 24 rfl rfl
theorem dX3_restore_0 : decode cX3_restore 0 = .ok (.aload_n 0, 1) := dk_42 (dk_at dksX3_restore_0 0 rfl rfl)
theorem dX3_restore_1 : decode cX3_restore 1 = .ok (.iload_n 1, 1) := dk_27 (dk_at dksX3_restore_0 1 rfl rfl)
theorem dX3_restore_2 : decode cX3_restore 2 = .ok (.i2l, 1) := dk_133 (dk_at dksX3_restore_0 2 rfl rfl)
theorem dX3_restore_3 : decode cX3_restore 3 = .ok (.lconst 0, 1) := dk_9 (dk_at dksX3_restore_0 3 rfl rfl)
theorem dX3_restore_4 : decode cX3_restore 4 = .ok (.lconst 1, 1) := dk_10 (dk_at dksX3_restore_0 4 rfl rfl)
theorem dX3_restore_5 : decode cX3_restore 5 = .ok (.invokestatic 49, 3) := dk_184 0 49 (dk_at dksX3_restore_0 5 rfl rfl)
theorem dX3_restore_8 : decode cX3_restore 8 = .ok (.ifCond .ne 7, 3) := dk_154 0 7 (dk_at dksX3_restore_0 8 rfl rfl)
theorem dX3_restore_11 : decode cX3_restore 11 = .ok (.iconst 1, 1) := dk_4 (dk_at dksX3_restore_0 11 rfl rfl)
theorem dX3_restore_12 : decode cX3_restore 12 = .ok (.goto 17, 3) := dk_167 0 17 (dk_at dksX3_restore_0 12 rfl rfl)
theorem dX3_restore_15 : decode cX3_restore 15 = .ok (.aload_n 0, 1) := dk_42 (dk_at dksX3_restore_0 15 rfl rfl)
theorem dX3_restore_16 : decode cX3_restore 16 = .ok (.getfield 25, 3) := dk_180 0 25 (dk_at dksX3_restore_0 16 rfl rfl)
theorem dX3_restore_19 : decode cX3_restore 19 = .ok (.iload_n 1, 1) := dk_27 (dk_at dksX3_restore_0 19 rfl rfl)
theorem dX3_restore_20 : decode cX3_restore 20 = .ok (.baload, 1) := dk_51 (dk_at dksX3_restore_0 20 rfl rfl)
theorem dX3_restore_21 : decode cX3_restore 21 = .ok (.ifCond .ne 7, 3) := dk_154 0 7 (dk_at dksX3_restore_0 21 rfl rfl)
theorem dX3_restore_24 : decode cX3_restore 24 = .ok (.iconst 2, 1) := dk_5 (dk_at dksX3_restore_1 0 rfl rfl)
theorem dX3_restore_25 : decode cX3_restore 25 = .ok (.goto 4, 3) := dk_167 0 4 (dk_at dksX3_restore_1 1 rfl rfl)
theorem dX3_restore_28 : decode cX3_restore 28 = .ok (.iconst 0, 1) := dk_3 (dk_at dksX3_restore_1 4 rfl rfl)
theorem dX3_restore_29 : decode cX3_restore 29 = .ok (.invokevirtual 150, 3) := dk_182 0 150 (dk_at dksX3_restore_1 5 rfl rfl)
theorem dX3_restore_32 : decode cX3_restore 32 = .ok (.ifCond .eq 5, 3) := dk_153 0 5 (dk_at dksX3_restore_1 8 rfl rfl)
theorem dX3_restore_35 : decode cX3_restore 35 = .ok (.iconst 0, 1) := dk_3 (dk_at dksX3_restore_1 11 rfl rfl)
theorem dX3_restore_36 : decode cX3_restore 36 = .ok (.ireturn, 1) := dk_172 (dk_at dksX3_restore_1 12 rfl rfl)
theorem dX3_restore_37 : decode cX3_restore 37 = .ok (.iconst 0, 1) := dk_3 (dk_at dksX3_restore_1 13 rfl rfl)
theorem dX3_restore_38 : decode cX3_restore 38 = .ok (.istore_n 2, 1) := dk_61 (dk_at dksX3_restore_1 14 rfl rfl)
theorem dX3_restore_39 : decode cX3_restore 39 = .ok (.iload_n 2, 1) := dk_28 (dk_at dksX3_restore_1 15 rfl rfl)
theorem dX3_restore_40 : decode cX3_restore 40 = .ok (.sipush 291, 3) := dk_17 1 35 (dk_at dksX3_restore_1 16 rfl rfl)
theorem dX3_restore_43 : decode cX3_restore 43 = .ok (.if_icmp .ge 27, 3) := dk_162 0 27 (dk_at dksX3_restore_1 19 rfl rfl)
theorem dX3_restore_46 : decode cX3_restore 46 = .ok (.aload_n 0, 1) := dk_42 (dk_at dksX3_restore_1 22 rfl rfl)
theorem dX3_restore_47 : decode cX3_restore 47 = .ok (.getfield 7, 3) := dk_180 0 7 (dk_at dksX3_restore_2 0 rfl rfl)
theorem dX3_restore_50 : decode cX3_restore 50 = .ok (.iload_n 2, 1) := dk_28 (dk_at dksX3_restore_2 3 rfl rfl)
theorem dX3_restore_51 : decode cX3_restore 51 = .ok (.aload_n 0, 1) := dk_42 (dk_at dksX3_restore_2 4 rfl rfl)
theorem dX3_restore_52 : decode cX3_restore 52 = .ok (.getfield 22, 3) := dk_180 0 22 (dk_at dksX3_restore_2 5 rfl rfl)
theorem dX3_restore_55 : decode cX3_restore 55 = .ok (.sipush 291, 3) := dk_17 1 35 (dk_at dksX3_restore_2 8 rfl rfl)
theorem dX3_restore_58 : decode cX3_restore 58 = .ok (.iload_n 1, 1) := dk_27 (dk_at dksX3_restore_2 11 rfl rfl)
theorem dX3_restore_59 : decode cX3_restore 59 = .ok (.imul, 1) := dk_104 (dk_at dksX3_restore_2 12 rfl rfl)
theorem dX3_restore_60 : decode cX3_restore 60 = .ok (.iload_n 2, 1) := dk_28 (dk_at dksX3_restore_2 13 rfl rfl)
theorem dX3_restore_61 : decode cX3_restore 61 = .ok (.iadd, 1) := dk_96 (dk_at dksX3_restore_2 14 rfl rfl)
theorem dX3_restore_62 : decode cX3_restore 62 = .ok (.iaload, 1) := dk_46 (dk_at dksX3_restore_2 15 rfl rfl)
theorem dX3_restore_63 : decode cX3_restore 63 = .ok (.iastore, 1) := dk_79 (dk_at dksX3_restore_2 16 rfl rfl)
theorem dX3_restore_64 : decode cX3_restore 64 = .ok (.iinc 2 1, 3) := dk_132 2 1 (dk_at dksX3_restore_2 17 rfl rfl)
theorem dX3_restore_67 : decode cX3_restore 67 = .ok (.goto (-28), 3) := dk_167 255 228 (dk_at dksX3_restore_2 20 rfl rfl)
theorem dX3_restore_70 : decode cX3_restore 70 = .ok (.aload_n 0, 1) := dk_42 (dk_at dksX3_restore_2 23 rfl rfl)
theorem dX3_restore_71 : decode cX3_restore 71 = .ok (.iconst 0, 1) := dk_3 (dk_at dksX3_restore_3 0 rfl rfl)
theorem dX3_restore_72 : decode cX3_restore 72 = .ok (.putfield 142, 3) := dk_181 0 142 (dk_at dksX3_restore_3 1 rfl rfl)
theorem dX3_restore_75 : decode cX3_restore 75 = .ok (.aload_n 0, 1) := dk_42 (dk_at dksX3_restore_3 4 rfl rfl)
theorem dX3_restore_76 : decode cX3_restore 76 = .ok (.getfield 7, 3) := dk_180 0 7 (dk_at dksX3_restore_3 5 rfl rfl)
theorem dX3_restore_79 : decode cX3_restore 79 = .ok (.iconst 2, 1) := dk_5 (dk_at dksX3_restore_3 8 rfl rfl)
theorem dX3_restore_80 : decode cX3_restore 80 = .ok (.iaload, 1) := dk_46 (dk_at dksX3_restore_3 9 rfl rfl)
theorem dX3_restore_81 : decode cX3_restore 81 = .ok (.ireturn, 1) := dk_172 (dk_at dksX3_restore_3 10 rfl rfl)
theorem q90 : (Jvm.Cond.initialized "CordSealsModel") ∈ lw_all := lw_g (lw_at lw_m1 14 rfl) rfl
theorem q236 : (Jvm.Cond.selects "CordSealsModel" ({ cls := "java/lang/Object", name := "getClass", desc := "()Ljava/lang/Class;" } : Jvm.MethodName) ({ cls := "java/lang/Object", name := "getClass", desc := "()Ljava/lang/Class;" } : Jvm.MethodName)) ∈ lw_all := lw_g (lw_at lw_m1 160 rfl) rfl
theorem q943 : (Jvm.Cond.selects "CordSealsModel" ({ cls := "java/lang/Object", name := "equals", desc := "(Ljava/lang/Object;)Z" } : Jvm.MethodName) ({ cls := "java/lang/Object", name := "equals", desc := "(Ljava/lang/Object;)Z" } : Jvm.MethodName)) ∈ lw_all := lw_g (lw_at lw_m4 147 rfl) rfl
theorem q2147 : (Jvm.Cond.instantiable "CordSealsModel" (18 : Nat)) ∈ lw_all := lw_g (lw_at lw_m9 151 rfl) rfl
theorem q2149 : (Jvm.Cond.instanceMethod ({ cls := "CordSealsModel", name := "<init>", desc := "()V" } : Jvm.MethodName)) ∈ lw_all := lw_g (lw_at lw_m9 153 rfl) rfl
theorem q2150 : (Jvm.Cond.code ({ cls := "CordSealsModel", name := "<init>", desc := "()V" } : Jvm.MethodName) prog_10_method_1_code (1 : Nat) (Option.none : Option Jvm.ClassFile.FieldType)) ∈ lw_all := lw_g (lw_at lw_m9 154 rfl) rfl
theorem q2151 : (Jvm.Cond.methodLink "CordSealsModel" (1 : Nat) ({ cls := "java/lang/Object", name := "<init>", desc := "()V" } : Jvm.MethodName)) ∈ lw_all := lw_g (lw_at lw_m9 155 rfl) rfl
theorem q2152 : (Jvm.Cond.methodLink "CordSealsModel" (35 : Nat) ({ cls := "CordSealsModel", name := "fresh", desc := "([I)V" } : Jvm.MethodName)) ∈ lw_all := lw_g (lw_at lw_m9 156 rfl) rfl
theorem q2153 : (Jvm.Cond.static ({ cls := "CordSealsModel", name := "fresh", desc := "([I)V" } : Jvm.MethodName)) ∈ lw_all := lw_g (lw_at lw_m9 157 rfl) rfl
theorem q2154 : (Jvm.Cond.code ({ cls := "CordSealsModel", name := "fresh", desc := "([I)V" } : Jvm.MethodName) prog_10_method_7_code (2 : Nat) (Option.none : Option Jvm.ClassFile.FieldType)) ∈ lw_all := lw_g (lw_at lw_m9 158 rfl) rfl
theorem q2155 : (Jvm.Cond.fieldLink "CordSealsModel" (39 : Nat) "CordSealsModel" "refusal" "I") ∈ lw_all := lw_g (lw_at lw_m9 159 rfl) rfl
theorem q2156 : (Jvm.Cond.fieldLink "CordSealsModel" (7 : Nat) "CordSealsModel" "now" "[I") ∈ lw_all := lw_g (lw_at lw_m9 160 rfl) rfl
theorem q2157 : (Jvm.Cond.fieldLink "CordSealsModel" (13 : Nat) "CordSealsModel" "trial" "[I") ∈ lw_all := lw_g (lw_at lw_m9 161 rfl) rfl
theorem q2158 : (Jvm.Cond.fieldLink "CordSealsModel" (16 : Nat) "CordSealsModel" "read" "[I") ∈ lw_all := lw_g (lw_at lw_m9 162 rfl) rfl
theorem q2159 : (Jvm.Cond.fieldLink "CordSealsModel" (19 : Nat) "CordSealsModel" "book" "[I") ∈ lw_all := lw_g (lw_at lw_m9 163 rfl) rfl
theorem q2160 : (Jvm.Cond.fieldLink "CordSealsModel" (142 : Nat) "CordSealsModel" "states" "I") ∈ lw_all := lw_g (lw_at lw_m9 164 rfl) rfl
theorem q2161 : (Jvm.Cond.fieldLink "CordSealsModel" (22 : Nat) "CordSealsModel" "kept" "[I") ∈ lw_all := lw_g (lw_at lw_m9 165 rfl) rfl
theorem q2162 : (Jvm.Cond.fieldLink "CordSealsModel" (25 : Nat) "CordSealsModel" "isKept" "[Z") ∈ lw_all := lw_g (lw_at lw_m9 166 rfl) rfl
theorem q2163 : (Jvm.Cond.fieldLink "CordSealsModel" (29 : Nat) "CordSealsModel" "text" "[I") ∈ lw_all := lw_g (lw_at lw_m9 167 rfl) rfl
theorem q2164 : (Jvm.Cond.fieldLink "CordSealsModel" (147 : Nat) "CordSealsModel" "length" "I") ∈ lw_all := lw_g (lw_at lw_m9 168 rfl) rfl
theorem q2165 : (Jvm.Cond.fieldLink "CordSealsModel" (153 : Nat) "CordSealsModel" "at" "I") ∈ lw_all := lw_g (lw_at lw_m9 169 rfl) rfl
theorem q2166 : (Jvm.Cond.fieldLink "CordSealsModel" (156 : Nat) "CordSealsModel" "good" "Z") ∈ lw_all := lw_g (lw_at lw_m9 170 rfl) rfl
theorem q2167 : (Jvm.Cond.fieldLink "CordSealsModel" (172 : Nat) "CordSealsModel" "leftOut" "I") ∈ lw_all := lw_g (lw_at lw_m9 171 rfl) rfl
theorem q2168 : (Jvm.Cond.fieldLink "CordSealsModel" (84 : Nat) "CordSealsModel" "low" "I") ∈ lw_all := lw_g (lw_at lw_m9 172 rfl) rfl
theorem q2169 : (Jvm.Cond.fieldLink "CordSealsModel" (87 : Nat) "CordSealsModel" "high" "I") ∈ lw_all := lw_g (lw_at lw_m9 173 rfl) rfl
theorem q2170 : (Jvm.Cond.fieldLink "CordSealsModel" (90 : Nat) "CordSealsModel" "mask" "I") ∈ lw_all := lw_g (lw_at lw_m9 174 rfl) rfl
theorem q2171 : (Jvm.Cond.fieldLink "CordSealsModel" (93 : Nat) "CordSealsModel" "counted" "I") ∈ lw_all := lw_g (lw_at lw_m9 175 rfl) rfl
theorem q2172 : (Jvm.Cond.fieldLink "CordSealsModel" (32 : Nat) "CordSealsModel" "place" "[I") ∈ lw_all := lw_g (lw_at lw_m9 176 rfl) rfl
theorem q2173 : (Jvm.Cond.lays "CordSealsModel" "CordSealsModel" "refusal" "I") ∈ lw_all := lw_g (lw_at lw_m9 177 rfl) rfl
theorem q2174 : (Jvm.Cond.soleField "CordSealsModel" "refusal") ∈ lw_all := lw_g (lw_at lw_m9 178 rfl) rfl
theorem q2175 : (Jvm.Cond.laysFinal "CordSealsModel" "CordSealsModel" "now" "[I") ∈ lw_all := lw_g (lw_at lw_m9 179 rfl) rfl
theorem q2176 : (Jvm.Cond.soleField "CordSealsModel" "now") ∈ lw_all := lw_g (lw_at lw_m9 180 rfl) rfl
theorem q2177 : (Jvm.Cond.laysFinal "CordSealsModel" "CordSealsModel" "trial" "[I") ∈ lw_all := lw_g (lw_at lw_m9 181 rfl) rfl
theorem q2178 : (Jvm.Cond.soleField "CordSealsModel" "trial") ∈ lw_all := lw_g (lw_at lw_m9 182 rfl) rfl
theorem q2179 : (Jvm.Cond.laysFinal "CordSealsModel" "CordSealsModel" "read" "[I") ∈ lw_all := lw_g (lw_at lw_m9 183 rfl) rfl
theorem q2180 : (Jvm.Cond.soleField "CordSealsModel" "read") ∈ lw_all := lw_g (lw_at lw_m9 184 rfl) rfl
theorem q2181 : (Jvm.Cond.laysFinal "CordSealsModel" "CordSealsModel" "book" "[I") ∈ lw_all := lw_g (lw_at lw_m9 185 rfl) rfl
theorem q2182 : (Jvm.Cond.soleField "CordSealsModel" "book") ∈ lw_all := lw_g (lw_at lw_m9 186 rfl) rfl
theorem q2183 : (Jvm.Cond.lays "CordSealsModel" "CordSealsModel" "states" "I") ∈ lw_all := lw_g (lw_at lw_m9 187 rfl) rfl
theorem q2184 : (Jvm.Cond.soleField "CordSealsModel" "states") ∈ lw_all := lw_g (lw_at lw_m9 188 rfl) rfl
theorem q2185 : (Jvm.Cond.laysFinal "CordSealsModel" "CordSealsModel" "kept" "[I") ∈ lw_all := lw_g (lw_at lw_m9 189 rfl) rfl
theorem q2186 : (Jvm.Cond.soleField "CordSealsModel" "kept") ∈ lw_all := lw_g (lw_at lw_m9 190 rfl) rfl
theorem q2187 : (Jvm.Cond.laysFinal "CordSealsModel" "CordSealsModel" "isKept" "[Z") ∈ lw_all := lw_g (lw_at lw_m9 191 rfl) rfl
theorem q2188 : (Jvm.Cond.soleField "CordSealsModel" "isKept") ∈ lw_all := lw_g (lw_at lw_m9 192 rfl) rfl
theorem q2189 : (Jvm.Cond.laysFinal "CordSealsModel" "CordSealsModel" "text" "[I") ∈ lw_all := lw_g (lw_at lw_m9 193 rfl) rfl
theorem q2190 : (Jvm.Cond.soleField "CordSealsModel" "text") ∈ lw_all := lw_g (lw_at lw_m9 194 rfl) rfl
theorem q2191 : (Jvm.Cond.lays "CordSealsModel" "CordSealsModel" "length" "I") ∈ lw_all := lw_g (lw_at lw_m9 195 rfl) rfl
theorem q2192 : (Jvm.Cond.soleField "CordSealsModel" "length") ∈ lw_all := lw_g (lw_at lw_m9 196 rfl) rfl
theorem q2193 : (Jvm.Cond.lays "CordSealsModel" "CordSealsModel" "at" "I") ∈ lw_all := lw_g (lw_at lw_m9 197 rfl) rfl
theorem q2194 : (Jvm.Cond.soleField "CordSealsModel" "at") ∈ lw_all := lw_g (lw_at lw_m9 198 rfl) rfl
theorem q2195 : (Jvm.Cond.lays "CordSealsModel" "CordSealsModel" "good" "Z") ∈ lw_all := lw_g (lw_at lw_m9 199 rfl) rfl
theorem q2196 : (Jvm.Cond.soleField "CordSealsModel" "good") ∈ lw_all := lw_g (lw_at lw_m9 200 rfl) rfl
theorem q2197 : (Jvm.Cond.lays "CordSealsModel" "CordSealsModel" "leftOut" "I") ∈ lw_all := lw_g (lw_at lw_m9 201 rfl) rfl
theorem q2198 : (Jvm.Cond.soleField "CordSealsModel" "leftOut") ∈ lw_all := lw_g (lw_at lw_m9 202 rfl) rfl
theorem q2199 : (Jvm.Cond.lays "CordSealsModel" "CordSealsModel" "low" "I") ∈ lw_all := lw_g (lw_at lw_m9 203 rfl) rfl
theorem q2200 : (Jvm.Cond.soleField "CordSealsModel" "low") ∈ lw_all := lw_g (lw_at lw_m9 204 rfl) rfl
theorem q2201 : (Jvm.Cond.lays "CordSealsModel" "CordSealsModel" "high" "I") ∈ lw_all := lw_g (lw_at lw_m9 205 rfl) rfl
theorem q2202 : (Jvm.Cond.soleField "CordSealsModel" "high") ∈ lw_all := lw_g (lw_at lw_m9 206 rfl) rfl
theorem q2203 : (Jvm.Cond.lays "CordSealsModel" "CordSealsModel" "mask" "I") ∈ lw_all := lw_g (lw_at lw_m9 207 rfl) rfl
theorem q2204 : (Jvm.Cond.soleField "CordSealsModel" "mask") ∈ lw_all := lw_g (lw_at lw_m9 208 rfl) rfl
theorem q2205 : (Jvm.Cond.lays "CordSealsModel" "CordSealsModel" "counted" "I") ∈ lw_all := lw_g (lw_at lw_m9 209 rfl) rfl
theorem q2206 : (Jvm.Cond.soleField "CordSealsModel" "counted") ∈ lw_all := lw_g (lw_at lw_m9 210 rfl) rfl
theorem q2207 : (Jvm.Cond.laysFinal "CordSealsModel" "CordSealsModel" "place" "[I") ∈ lw_all := lw_g (lw_at lw_m9 211 rfl) rfl
theorem q2208 : (Jvm.Cond.soleField "CordSealsModel" "place") ∈ lw_all := lw_g (lw_at lw_m9 212 rfl) rfl
theorem q2209 : (Jvm.Cond.superclass "CordSealsModel" "java/lang/Object") ∈ lw_all := lw_g (lw_at lw_m9 213 rfl) rfl
theorem q2211 : (Jvm.Cond.instanceMethod ({ cls := "CordSealsModel", name := "thrown", desc := "()I" } : Jvm.MethodName)) ∈ lw_all := lw_g (lw_at lw_m9 215 rfl) rfl
theorem q2212 : (Jvm.Cond.selects "CordSealsModel" ({ cls := "CordSealsModel", name := "thrown", desc := "()I" } : Jvm.MethodName) ({ cls := "CordSealsModel", name := "thrown", desc := "()I" } : Jvm.MethodName)) ∈ lw_all := lw_g (lw_at lw_m9 216 rfl) rfl
theorem q2213 : (Jvm.Cond.code ({ cls := "CordSealsModel", name := "thrown", desc := "()I" } : Jvm.MethodName) prog_10_method_2_code (1 : Nat) (Option.some Jvm.ClassFile.FieldType.int)) ∈ lw_all := lw_g (lw_at lw_m9 217 rfl) rfl
theorem q2215 : (Jvm.Cond.instanceMethod ({ cls := "CordSealsModel", name := "append", desc := "(I)I" } : Jvm.MethodName)) ∈ lw_all := lw_g (lw_at lw_m9 219 rfl) rfl
theorem q2216 : (Jvm.Cond.selects "CordSealsModel" ({ cls := "CordSealsModel", name := "append", desc := "(I)I" } : Jvm.MethodName) ({ cls := "CordSealsModel", name := "append", desc := "(I)I" } : Jvm.MethodName)) ∈ lw_all := lw_g (lw_at lw_m9 220 rfl) rfl
theorem q2217 : (Jvm.Cond.code ({ cls := "CordSealsModel", name := "append", desc := "(I)I" } : Jvm.MethodName) prog_10_method_52_code (2 : Nat) (Option.some Jvm.ClassFile.FieldType.int)) ∈ lw_all := lw_g (lw_at lw_m9 221 rfl) rfl
theorem q2218 : (Jvm.Cond.constantLong "CordSealsModel" (145 : Nat) (255 : Int64)) ∈ lw_all := lw_g (lw_at lw_m9 222 rfl) rfl
theorem q2219 : (Jvm.Cond.methodLink "CordSealsModel" (49 : Nat) ({ cls := "CordSealsModel", name := "in", desc := "(JJJ)Z" } : Jvm.MethodName)) ∈ lw_all := lw_g (lw_at lw_m9 223 rfl) rfl
theorem q2220 : (Jvm.Cond.static ({ cls := "CordSealsModel", name := "in", desc := "(JJJ)Z" } : Jvm.MethodName)) ∈ lw_all := lw_g (lw_at lw_m9 224 rfl) rfl
theorem q2221 : (Jvm.Cond.code ({ cls := "CordSealsModel", name := "in", desc := "(JJJ)Z" } : Jvm.MethodName) prog_10_method_4_code (6 : Nat) (Option.some Jvm.ClassFile.FieldType.boolean)) ∈ lw_all := lw_g (lw_at lw_m9 225 rfl) rfl
theorem q2222 : (Jvm.Cond.methodLink "CordSealsModel" (150 : Nat) ({ cls := "CordSealsModel", name := "refused", desc := "(I)Z" } : Jvm.MethodName)) ∈ lw_all := lw_g (lw_at lw_m9 226 rfl) rfl
theorem q2223 : (Jvm.Cond.privateMethod ({ cls := "CordSealsModel", name := "refused", desc := "(I)Z" } : Jvm.MethodName)) ∈ lw_tbl := lw_at lw_m9 227 rfl
theorem q2224 : (Jvm.Cond.instanceMethod ({ cls := "CordSealsModel", name := "refused", desc := "(I)Z" } : Jvm.MethodName)) ∈ lw_all := lw_g (lw_at lw_m9 228 rfl) rfl
theorem q2225 : (Jvm.Cond.code ({ cls := "CordSealsModel", name := "refused", desc := "(I)Z" } : Jvm.MethodName) prog_10_method_3_code (2 : Nat) (Option.some Jvm.ClassFile.FieldType.boolean)) ∈ lw_all := lw_g (lw_at lw_m9 229 rfl) rfl
theorem q2227 : (Jvm.Cond.instanceMethod ({ cls := "CordSealsModel", name := "clearText", desc := "()I" } : Jvm.MethodName)) ∈ lw_all := lw_g (lw_at lw_m9 231 rfl) rfl
theorem q2228 : (Jvm.Cond.selects "CordSealsModel" ({ cls := "CordSealsModel", name := "clearText", desc := "()I" } : Jvm.MethodName) ({ cls := "CordSealsModel", name := "clearText", desc := "()I" } : Jvm.MethodName)) ∈ lw_all := lw_g (lw_at lw_m9 232 rfl) rfl
theorem q2229 : (Jvm.Cond.code ({ cls := "CordSealsModel", name := "clearText", desc := "()I" } : Jvm.MethodName) prog_10_method_53_code (2 : Nat) (Option.some Jvm.ClassFile.FieldType.int)) ∈ lw_all := lw_g (lw_at lw_m9 233 rfl) rfl
theorem q2231 : (Jvm.Cond.instanceMethod ({ cls := "CordSealsModel", name := "errorPosition", desc := "()I" } : Jvm.MethodName)) ∈ lw_all := lw_g (lw_at lw_m9 235 rfl) rfl
theorem q2232 : (Jvm.Cond.selects "CordSealsModel" ({ cls := "CordSealsModel", name := "errorPosition", desc := "()I" } : Jvm.MethodName) ({ cls := "CordSealsModel", name := "errorPosition", desc := "()I" } : Jvm.MethodName)) ∈ lw_all := lw_g (lw_at lw_m9 236 rfl) rfl
theorem q2233 : (Jvm.Cond.code ({ cls := "CordSealsModel", name := "errorPosition", desc := "()I" } : Jvm.MethodName) prog_10_method_68_code (1 : Nat) (Option.some Jvm.ClassFile.FieldType.int)) ∈ lw_all := lw_g (lw_at lw_m9 237 rfl) rfl
theorem q2234 : (Jvm.Cond.methodLink "CordSealsModel" (239 : Nat) ({ cls := "CordSealsModel", name := "readAll", desc := "()I" } : Jvm.MethodName)) ∈ lw_all := lw_g (lw_at lw_m9 238 rfl) rfl
theorem q2235 : (Jvm.Cond.privateMethod ({ cls := "CordSealsModel", name := "readAll", desc := "()I" } : Jvm.MethodName)) ∈ lw_tbl := lw_at lw_m9 239 rfl
theorem q2236 : (Jvm.Cond.instanceMethod ({ cls := "CordSealsModel", name := "readAll", desc := "()I" } : Jvm.MethodName)) ∈ lw_all := lw_g (lw_at lw_m10 0 rfl) rfl
theorem q2237 : (Jvm.Cond.code ({ cls := "CordSealsModel", name := "readAll", desc := "()I" } : Jvm.MethodName) prog_10_method_67_code (1 : Nat) (Option.some Jvm.ClassFile.FieldType.int)) ∈ lw_all := lw_g (lw_at lw_m10 1 rfl) rfl
theorem q2238 : (Jvm.Cond.methodLink "CordSealsModel" (236 : Nat) ({ cls := "CordSealsModel", name := "readEntry", desc := "()V" } : Jvm.MethodName)) ∈ lw_all := lw_g (lw_at lw_m10 2 rfl) rfl
theorem q2239 : (Jvm.Cond.privateMethod ({ cls := "CordSealsModel", name := "readEntry", desc := "()V" } : Jvm.MethodName)) ∈ lw_tbl := lw_at lw_m10 3 rfl
theorem q2240 : (Jvm.Cond.instanceMethod ({ cls := "CordSealsModel", name := "readEntry", desc := "()V" } : Jvm.MethodName)) ∈ lw_all := lw_g (lw_at lw_m10 4 rfl) rfl
theorem q2241 : (Jvm.Cond.code ({ cls := "CordSealsModel", name := "readEntry", desc := "()V" } : Jvm.MethodName) prog_10_method_66_code (2 : Nat) (Option.none : Option Jvm.ClassFile.FieldType)) ∈ lw_all := lw_g (lw_at lw_m10 5 rfl) rfl
theorem q2242 : (Jvm.Cond.methodLink "CordSealsModel" (160 : Nat) ({ cls := "CordSealsModel", name := "here", desc := "()I" } : Jvm.MethodName)) ∈ lw_all := lw_g (lw_at lw_m10 6 rfl) rfl
theorem q2243 : (Jvm.Cond.privateMethod ({ cls := "CordSealsModel", name := "here", desc := "()I" } : Jvm.MethodName)) ∈ lw_tbl := lw_at lw_m10 7 rfl
theorem q2244 : (Jvm.Cond.instanceMethod ({ cls := "CordSealsModel", name := "here", desc := "()I" } : Jvm.MethodName)) ∈ lw_all := lw_g (lw_at lw_m10 8 rfl) rfl
theorem q2245 : (Jvm.Cond.code ({ cls := "CordSealsModel", name := "here", desc := "()I" } : Jvm.MethodName) prog_10_method_54_code (1 : Nat) (Option.some Jvm.ClassFile.FieldType.int)) ∈ lw_all := lw_g (lw_at lw_m10 9 rfl) rfl
theorem q2246 : (Jvm.Cond.methodLink "CordSealsModel" (164 : Nat) ({ cls := "CordSealsModel", name := "eat", desc := "(Z)V" } : Jvm.MethodName)) ∈ lw_all := lw_g (lw_at lw_m10 10 rfl) rfl
theorem q2247 : (Jvm.Cond.privateMethod ({ cls := "CordSealsModel", name := "eat", desc := "(Z)V" } : Jvm.MethodName)) ∈ lw_tbl := lw_at lw_m10 11 rfl
theorem q2248 : (Jvm.Cond.instanceMethod ({ cls := "CordSealsModel", name := "eat", desc := "(Z)V" } : Jvm.MethodName)) ∈ lw_all := lw_g (lw_at lw_m10 12 rfl) rfl
theorem q2249 : (Jvm.Cond.code ({ cls := "CordSealsModel", name := "eat", desc := "(Z)V" } : Jvm.MethodName) prog_10_method_55_code (2 : Nat) (Option.none : Option Jvm.ClassFile.FieldType)) ∈ lw_all := lw_g (lw_at lw_m10 13 rfl) rfl
theorem q2250 : (Jvm.Cond.methodLink "CordSealsModel" (220 : Nat) ({ cls := "CordSealsModel", name := "readReign", desc := "()V" } : Jvm.MethodName)) ∈ lw_all := lw_g (lw_at lw_m10 14 rfl) rfl
theorem q2251 : (Jvm.Cond.privateMethod ({ cls := "CordSealsModel", name := "readReign", desc := "()V" } : Jvm.MethodName)) ∈ lw_tbl := lw_at lw_m10 15 rfl
theorem q2252 : (Jvm.Cond.instanceMethod ({ cls := "CordSealsModel", name := "readReign", desc := "()V" } : Jvm.MethodName)) ∈ lw_all := lw_g (lw_at lw_m10 16 rfl) rfl
theorem q2253 : (Jvm.Cond.code ({ cls := "CordSealsModel", name := "readReign", desc := "()V" } : Jvm.MethodName) prog_10_method_60_code (4 : Nat) (Option.none : Option Jvm.ClassFile.FieldType)) ∈ lw_all := lw_g (lw_at lw_m10 17 rfl) rfl
theorem q2254 : (Jvm.Cond.methodLink "CordSealsModel" (175 : Nat) ({ cls := "CordSealsModel", name := "readYear", desc := "()I" } : Jvm.MethodName)) ∈ lw_all := lw_g (lw_at lw_m10 18 rfl) rfl
theorem q2255 : (Jvm.Cond.privateMethod ({ cls := "CordSealsModel", name := "readYear", desc := "()I" } : Jvm.MethodName)) ∈ lw_tbl := lw_at lw_m10 19 rfl
theorem q2256 : (Jvm.Cond.instanceMethod ({ cls := "CordSealsModel", name := "readYear", desc := "()I" } : Jvm.MethodName)) ∈ lw_all := lw_g (lw_at lw_m10 20 rfl) rfl
theorem q2257 : (Jvm.Cond.code ({ cls := "CordSealsModel", name := "readYear", desc := "()I" } : Jvm.MethodName) prog_10_method_57_code (3 : Nat) (Option.some Jvm.ClassFile.FieldType.int)) ∈ lw_all := lw_g (lw_at lw_m10 21 rfl) rfl
theorem q2258 : (Jvm.Cond.methodLink "CordSealsModel" (168 : Nat) ({ cls := "CordSealsModel", name := "digit", desc := "(II)I" } : Jvm.MethodName)) ∈ lw_all := lw_g (lw_at lw_m10 22 rfl) rfl
theorem q2259 : (Jvm.Cond.privateMethod ({ cls := "CordSealsModel", name := "digit", desc := "(II)I" } : Jvm.MethodName)) ∈ lw_tbl := lw_at lw_m10 23 rfl
theorem q2260 : (Jvm.Cond.instanceMethod ({ cls := "CordSealsModel", name := "digit", desc := "(II)I" } : Jvm.MethodName)) ∈ lw_all := lw_g (lw_at lw_m10 24 rfl) rfl
theorem q2261 : (Jvm.Cond.code ({ cls := "CordSealsModel", name := "digit", desc := "(II)I" } : Jvm.MethodName) prog_10_method_56_code (4 : Nat) (Option.some Jvm.ClassFile.FieldType.int)) ∈ lw_all := lw_g (lw_at lw_m10 25 rfl) rfl
theorem q2262 : (Jvm.Cond.methodLink "CordSealsModel" (178 : Nat) ({ cls := "CordSealsModel", name := "ascending", desc := "(II)I" } : Jvm.MethodName)) ∈ lw_all := lw_g (lw_at lw_m10 26 rfl) rfl
theorem q2263 : (Jvm.Cond.privateMethod ({ cls := "CordSealsModel", name := "ascending", desc := "(II)I" } : Jvm.MethodName)) ∈ lw_tbl := lw_at lw_m10 27 rfl
theorem q2264 : (Jvm.Cond.instanceMethod ({ cls := "CordSealsModel", name := "ascending", desc := "(II)I" } : Jvm.MethodName)) ∈ lw_all := lw_g (lw_at lw_m10 28 rfl) rfl
theorem q2265 : (Jvm.Cond.code ({ cls := "CordSealsModel", name := "ascending", desc := "(II)I" } : Jvm.MethodName) prog_10_method_58_code (6 : Nat) (Option.some Jvm.ClassFile.FieldType.int)) ∈ lw_all := lw_g (lw_at lw_m10 29 rfl) rfl
theorem q2266 : (Jvm.Cond.methodLink "CordSealsModel" (181 : Nat) ({ cls := "CordSealsModel", name := "canReign", desc := "([II)Z" } : Jvm.MethodName)) ∈ lw_all := lw_g (lw_at lw_m10 30 rfl) rfl
theorem q2267 : (Jvm.Cond.static ({ cls := "CordSealsModel", name := "canReign", desc := "([II)Z" } : Jvm.MethodName)) ∈ lw_all := lw_g (lw_at lw_m10 31 rfl) rfl
theorem q2268 : (Jvm.Cond.code ({ cls := "CordSealsModel", name := "canReign", desc := "([II)Z" } : Jvm.MethodName) prog_10_method_37_code (2 : Nat) (Option.some Jvm.ClassFile.FieldType.boolean)) ∈ lw_all := lw_g (lw_at lw_m10 32 rfl) rfl
theorem q2269 : (Jvm.Cond.methodLink "CordSealsModel" (184 : Nat) ({ cls := "CordSealsModel", name := "goes", desc := "(Z)Z" } : Jvm.MethodName)) ∈ lw_all := lw_g (lw_at lw_m10 33 rfl) rfl
theorem q2270 : (Jvm.Cond.privateMethod ({ cls := "CordSealsModel", name := "goes", desc := "(Z)Z" } : Jvm.MethodName)) ∈ lw_tbl := lw_at lw_m10 34 rfl
theorem q2271 : (Jvm.Cond.instanceMethod ({ cls := "CordSealsModel", name := "goes", desc := "(Z)Z" } : Jvm.MethodName)) ∈ lw_all := lw_g (lw_at lw_m10 35 rfl) rfl
theorem q2272 : (Jvm.Cond.code ({ cls := "CordSealsModel", name := "goes", desc := "(Z)Z" } : Jvm.MethodName) prog_10_method_59_code (2 : Nat) (Option.some Jvm.ClassFile.FieldType.boolean)) ∈ lw_all := lw_g (lw_at lw_m10 36 rfl) rfl
theorem q2273 : (Jvm.Cond.methodLink "CordSealsModel" (188 : Nat) ({ cls := "CordSealsModel", name := "goReign", desc := "([III)I" } : Jvm.MethodName)) ∈ lw_all := lw_g (lw_at lw_m10 37 rfl) rfl
theorem q2274 : (Jvm.Cond.static ({ cls := "CordSealsModel", name := "goReign", desc := "([III)I" } : Jvm.MethodName)) ∈ lw_all := lw_g (lw_at lw_m10 38 rfl) rfl
theorem q2275 : (Jvm.Cond.code ({ cls := "CordSealsModel", name := "goReign", desc := "([III)I" } : Jvm.MethodName) prog_10_method_38_code (3 : Nat) (Option.some Jvm.ClassFile.FieldType.int)) ∈ lw_all := lw_g (lw_at lw_m10 39 rfl) rfl
theorem q2276 : (Jvm.Cond.methodLink "CordSealsModel" (223 : Nat) ({ cls := "CordSealsModel", name := "readDie", desc := "()V" } : Jvm.MethodName)) ∈ lw_all := lw_g (lw_at lw_m10 40 rfl) rfl
theorem q2277 : (Jvm.Cond.privateMethod ({ cls := "CordSealsModel", name := "readDie", desc := "()V" } : Jvm.MethodName)) ∈ lw_tbl := lw_at lw_m10 41 rfl
theorem q2278 : (Jvm.Cond.instanceMethod ({ cls := "CordSealsModel", name := "readDie", desc := "()V" } : Jvm.MethodName)) ∈ lw_all := lw_g (lw_at lw_m10 42 rfl) rfl
theorem q2279 : (Jvm.Cond.code ({ cls := "CordSealsModel", name := "readDie", desc := "()V" } : Jvm.MethodName) prog_10_method_61_code (4 : Nat) (Option.none : Option Jvm.ClassFile.FieldType)) ∈ lw_all := lw_g (lw_at lw_m10 43 rfl) rfl
theorem q2280 : (Jvm.Cond.methodLink "CordSealsModel" (191 : Nat) ({ cls := "CordSealsModel", name := "end", desc := "()V" } : Jvm.MethodName)) ∈ lw_all := lw_g (lw_at lw_m10 44 rfl) rfl
theorem q2281 : (Jvm.Cond.privateMethod ({ cls := "CordSealsModel", name := "end", desc := "()V" } : Jvm.MethodName)) ∈ lw_tbl := lw_at lw_m10 45 rfl
theorem q2282 : (Jvm.Cond.instanceMethod ({ cls := "CordSealsModel", name := "end", desc := "()V" } : Jvm.MethodName)) ∈ lw_all := lw_g (lw_at lw_m10 46 rfl) rfl
theorem q2283 : (Jvm.Cond.code ({ cls := "CordSealsModel", name := "end", desc := "()V" } : Jvm.MethodName) prog_10_method_65_code (1 : Nat) (Option.none : Option Jvm.ClassFile.FieldType)) ∈ lw_all := lw_g (lw_at lw_m10 47 rfl) rfl
theorem q2284 : (Jvm.Cond.methodLink "CordSealsModel" (194 : Nat) ({ cls := "CordSealsModel", name := "goDie", desc := "([IIII)I" } : Jvm.MethodName)) ∈ lw_all := lw_g (lw_at lw_m10 48 rfl) rfl
theorem q2285 : (Jvm.Cond.static ({ cls := "CordSealsModel", name := "goDie", desc := "([IIII)I" } : Jvm.MethodName)) ∈ lw_all := lw_g (lw_at lw_m10 49 rfl) rfl
theorem q2286 : (Jvm.Cond.code ({ cls := "CordSealsModel", name := "goDie", desc := "([IIII)I" } : Jvm.MethodName) prog_10_method_40_code (5 : Nat) (Option.some Jvm.ClassFile.FieldType.int)) ∈ lw_all := lw_g (lw_at lw_m10 50 rfl) rfl
theorem q2287 : (Jvm.Cond.methodLink "CordSealsModel" (226 : Nat) ({ cls := "CordSealsModel", name := "readCrack", desc := "()V" } : Jvm.MethodName)) ∈ lw_all := lw_g (lw_at lw_m10 51 rfl) rfl
theorem q2288 : (Jvm.Cond.privateMethod ({ cls := "CordSealsModel", name := "readCrack", desc := "()V" } : Jvm.MethodName)) ∈ lw_tbl := lw_at lw_m10 52 rfl
theorem q2289 : (Jvm.Cond.instanceMethod ({ cls := "CordSealsModel", name := "readCrack", desc := "()V" } : Jvm.MethodName)) ∈ lw_all := lw_g (lw_at lw_m10 53 rfl) rfl
theorem q2290 : (Jvm.Cond.code ({ cls := "CordSealsModel", name := "readCrack", desc := "()V" } : Jvm.MethodName) prog_10_method_62_code (3 : Nat) (Option.none : Option Jvm.ClassFile.FieldType)) ∈ lw_all := lw_g (lw_at lw_m10 54 rfl) rfl
theorem q2291 : (Jvm.Cond.methodLink "CordSealsModel" (197 : Nat) ({ cls := "CordSealsModel", name := "hasDie", desc := "([II)Z" } : Jvm.MethodName)) ∈ lw_all := lw_g (lw_at lw_m10 55 rfl) rfl
theorem q2292 : (Jvm.Cond.static ({ cls := "CordSealsModel", name := "hasDie", desc := "([II)Z" } : Jvm.MethodName)) ∈ lw_all := lw_g (lw_at lw_m10 56 rfl) rfl
theorem q2293 : (Jvm.Cond.code ({ cls := "CordSealsModel", name := "hasDie", desc := "([II)Z" } : Jvm.MethodName) prog_10_method_11_code (2 : Nat) (Option.some Jvm.ClassFile.FieldType.boolean)) ∈ lw_all := lw_g (lw_at lw_m10 57 rfl) rfl
theorem q2294 : (Jvm.Cond.methodLink "CordSealsModel" (200 : Nat) ({ cls := "CordSealsModel", name := "canCrack", desc := "([III)Z" } : Jvm.MethodName)) ∈ lw_all := lw_g (lw_at lw_m10 58 rfl) rfl
theorem q2295 : (Jvm.Cond.static ({ cls := "CordSealsModel", name := "canCrack", desc := "([III)Z" } : Jvm.MethodName)) ∈ lw_all := lw_g (lw_at lw_m10 59 rfl) rfl
theorem q2296 : (Jvm.Cond.code ({ cls := "CordSealsModel", name := "canCrack", desc := "([III)Z" } : Jvm.MethodName) prog_10_method_41_code (5 : Nat) (Option.some Jvm.ClassFile.FieldType.boolean)) ∈ lw_all := lw_g (lw_at lw_m10 60 rfl) rfl
theorem q2297 : (Jvm.Cond.methodLink "CordSealsModel" (204 : Nat) ({ cls := "CordSealsModel", name := "goCrack", desc := "([III)I" } : Jvm.MethodName)) ∈ lw_all := lw_g (lw_at lw_m10 61 rfl) rfl
theorem q2298 : (Jvm.Cond.static ({ cls := "CordSealsModel", name := "goCrack", desc := "([III)I" } : Jvm.MethodName)) ∈ lw_all := lw_g (lw_at lw_m10 62 rfl) rfl
theorem q2299 : (Jvm.Cond.code ({ cls := "CordSealsModel", name := "goCrack", desc := "([III)I" } : Jvm.MethodName) prog_10_method_42_code (3 : Nat) (Option.some Jvm.ClassFile.FieldType.int)) ∈ lw_all := lw_g (lw_at lw_m10 63 rfl) rfl
theorem q2300 : (Jvm.Cond.methodLink "CordSealsModel" (229 : Nat) ({ cls := "CordSealsModel", name := "readHang", desc := "()V" } : Jvm.MethodName)) ∈ lw_all := lw_g (lw_at lw_m10 64 rfl) rfl
theorem q2301 : (Jvm.Cond.privateMethod ({ cls := "CordSealsModel", name := "readHang", desc := "()V" } : Jvm.MethodName)) ∈ lw_tbl := lw_at lw_m10 65 rfl
theorem q2302 : (Jvm.Cond.instanceMethod ({ cls := "CordSealsModel", name := "readHang", desc := "()V" } : Jvm.MethodName)) ∈ lw_all := lw_g (lw_at lw_m10 66 rfl) rfl
theorem q2303 : (Jvm.Cond.code ({ cls := "CordSealsModel", name := "readHang", desc := "()V" } : Jvm.MethodName) prog_10_method_64_code (4 : Nat) (Option.none : Option Jvm.ClassFile.FieldType)) ∈ lw_all := lw_g (lw_at lw_m10 67 rfl) rfl
theorem q2304 : (Jvm.Cond.methodLink "CordSealsModel" (214 : Nat) ({ cls := "CordSealsModel", name := "hasSeal", desc := "([II)Z" } : Jvm.MethodName)) ∈ lw_all := lw_g (lw_at lw_m10 68 rfl) rfl
theorem q2305 : (Jvm.Cond.static ({ cls := "CordSealsModel", name := "hasSeal", desc := "([II)Z" } : Jvm.MethodName)) ∈ lw_all := lw_g (lw_at lw_m10 69 rfl) rfl
theorem q2306 : (Jvm.Cond.code ({ cls := "CordSealsModel", name := "hasSeal", desc := "([II)Z" } : Jvm.MethodName) prog_10_method_12_code (2 : Nat) (Option.some Jvm.ClassFile.FieldType.boolean)) ∈ lw_all := lw_g (lw_at lw_m10 70 rfl) rfl
theorem q2307 : (Jvm.Cond.methodLink "CordSealsModel" (217 : Nat) ({ cls := "CordSealsModel", name := "goHang", desc := "([III)I" } : Jvm.MethodName)) ∈ lw_all := lw_g (lw_at lw_m10 71 rfl) rfl
theorem q2308 : (Jvm.Cond.static ({ cls := "CordSealsModel", name := "goHang", desc := "([III)I" } : Jvm.MethodName)) ∈ lw_all := lw_g (lw_at lw_m10 72 rfl) rfl
theorem q2309 : (Jvm.Cond.code ({ cls := "CordSealsModel", name := "goHang", desc := "([III)I" } : Jvm.MethodName) prog_10_method_48_code (3 : Nat) (Option.some Jvm.ClassFile.FieldType.int)) ∈ lw_all := lw_g (lw_at lw_m10 73 rfl) rfl
theorem q2310 : (Jvm.Cond.methodLink "CordSealsModel" (139 : Nat) ({ cls := "CordSealsModel", name := "onCharter", desc := "([II)I" } : Jvm.MethodName)) ∈ lw_all := lw_g (lw_at lw_m10 74 rfl) rfl
theorem q2311 : (Jvm.Cond.static ({ cls := "CordSealsModel", name := "onCharter", desc := "([II)I" } : Jvm.MethodName)) ∈ lw_all := lw_g (lw_at lw_m10 75 rfl) rfl
theorem q2312 : (Jvm.Cond.code ({ cls := "CordSealsModel", name := "onCharter", desc := "([II)I" } : Jvm.MethodName) prog_10_method_47_code (4 : Nat) (Option.some Jvm.ClassFile.FieldType.int)) ∈ lw_all := lw_g (lw_at lw_m10 76 rfl) rfl
theorem q2313 : (Jvm.Cond.methodLink "CordSealsModel" (232 : Nat) ({ cls := "CordSealsModel", name := "readSeal", desc := "(I)V" } : Jvm.MethodName)) ∈ lw_all := lw_g (lw_at lw_m10 77 rfl) rfl
theorem q2314 : (Jvm.Cond.privateMethod ({ cls := "CordSealsModel", name := "readSeal", desc := "(I)V" } : Jvm.MethodName)) ∈ lw_tbl := lw_at lw_m10 78 rfl
theorem q2315 : (Jvm.Cond.instanceMethod ({ cls := "CordSealsModel", name := "readSeal", desc := "(I)V" } : Jvm.MethodName)) ∈ lw_all := lw_g (lw_at lw_m10 79 rfl) rfl
theorem q2316 : (Jvm.Cond.code ({ cls := "CordSealsModel", name := "readSeal", desc := "(I)V" } : Jvm.MethodName) prog_10_method_63_code (7 : Nat) (Option.none : Option Jvm.ClassFile.FieldType)) ∈ lw_all := lw_g (lw_at lw_m10 80 rfl) rfl
theorem q2317 : (Jvm.Cond.methodLink "CordSealsModel" (207 : Nat) ({ cls := "CordSealsModel", name := "areCracks", desc := "([III)Z" } : Jvm.MethodName)) ∈ lw_all := lw_g (lw_at lw_m10 81 rfl) rfl
theorem q2318 : (Jvm.Cond.static ({ cls := "CordSealsModel", name := "areCracks", desc := "([III)Z" } : Jvm.MethodName)) ∈ lw_all := lw_g (lw_at lw_m10 82 rfl) rfl
theorem q2319 : (Jvm.Cond.code ({ cls := "CordSealsModel", name := "areCracks", desc := "([III)Z" } : Jvm.MethodName) prog_10_method_43_code (3 : Nat) (Option.some Jvm.ClassFile.FieldType.boolean)) ∈ lw_all := lw_g (lw_at lw_m10 83 rfl) rfl
theorem q2320 : (Jvm.Cond.methodLink "CordSealsModel" (210 : Nat) ({ cls := "CordSealsModel", name := "goSeal", desc := "([IIIIII)I" } : Jvm.MethodName)) ∈ lw_all := lw_g (lw_at lw_m10 84 rfl) rfl
theorem q2321 : (Jvm.Cond.static ({ cls := "CordSealsModel", name := "goSeal", desc := "([IIIIII)I" } : Jvm.MethodName)) ∈ lw_all := lw_g (lw_at lw_m10 85 rfl) rfl
theorem q2322 : (Jvm.Cond.code ({ cls := "CordSealsModel", name := "goSeal", desc := "([IIIIII)I" } : Jvm.MethodName) prog_10_method_45_code (7 : Nat) (Option.some Jvm.ClassFile.FieldType.int)) ∈ lw_all := lw_g (lw_at lw_m10 86 rfl) rfl
theorem q2324 : (Jvm.Cond.instanceMethod ({ cls := "CordSealsModel", name := "load", desc := "()I" } : Jvm.MethodName)) ∈ lw_all := lw_g (lw_at lw_m10 88 rfl) rfl
theorem q2325 : (Jvm.Cond.selects "CordSealsModel" ({ cls := "CordSealsModel", name := "load", desc := "()I" } : Jvm.MethodName) ({ cls := "CordSealsModel", name := "load", desc := "()I" } : Jvm.MethodName)) ∈ lw_all := lw_g (lw_at lw_m10 89 rfl) rfl
theorem q2326 : (Jvm.Cond.code ({ cls := "CordSealsModel", name := "load", desc := "()I" } : Jvm.MethodName) prog_10_method_69_code (1 : Nat) (Option.some Jvm.ClassFile.FieldType.int)) ∈ lw_all := lw_g (lw_at lw_m10 90 rfl) rfl
theorem q2327 : (Jvm.Cond.methodLink "CordSealsModel" (242 : Nat) ({ cls := "CordSealsModel", name := "copy", desc := "([I[I)V" } : Jvm.MethodName)) ∈ lw_all := lw_g (lw_at lw_m10 91 rfl) rfl
theorem q2328 : (Jvm.Cond.static ({ cls := "CordSealsModel", name := "copy", desc := "([I[I)V" } : Jvm.MethodName)) ∈ lw_all := lw_g (lw_at lw_m10 92 rfl) rfl
theorem q2329 : (Jvm.Cond.code ({ cls := "CordSealsModel", name := "copy", desc := "([I[I)V" } : Jvm.MethodName) prog_10_method_8_code (3 : Nat) (Option.none : Option Jvm.ClassFile.FieldType)) ∈ lw_all := lw_g (lw_at lw_m10 93 rfl) rfl
theorem q2331 : (Jvm.Cond.instanceMethod ({ cls := "CordSealsModel", name := "about", desc := "(I)I" } : Jvm.MethodName)) ∈ lw_all := lw_g (lw_at lw_m10 95 rfl) rfl
theorem q2332 : (Jvm.Cond.selects "CordSealsModel" ({ cls := "CordSealsModel", name := "about", desc := "(I)I" } : Jvm.MethodName) ({ cls := "CordSealsModel", name := "about", desc := "(I)I" } : Jvm.MethodName)) ∈ lw_all := lw_g (lw_at lw_m10 96 rfl) rfl
theorem q2333 : (Jvm.Cond.code ({ cls := "CordSealsModel", name := "about", desc := "(I)I" } : Jvm.MethodName) prog_10_method_73_code (2 : Nat) (Option.some Jvm.ClassFile.FieldType.int)) ∈ lw_all := lw_g (lw_at lw_m10 97 rfl) rfl
theorem q2334 : (Jvm.Cond.constantLong "CordSealsModel" (250 : Nat) (8 : Int64)) ∈ lw_all := lw_g (lw_at lw_m10 98 rfl) rfl
theorem q2335 : (Jvm.Cond.methodLink "CordSealsModel" (252 : Nat) ({ cls := "CordSealsModel", name := "fakes", desc := "([I)I" } : Jvm.MethodName)) ∈ lw_all := lw_g (lw_at lw_m10 99 rfl) rfl
theorem q2336 : (Jvm.Cond.privateMethod ({ cls := "CordSealsModel", name := "fakes", desc := "([I)I" } : Jvm.MethodName)) ∈ lw_tbl := lw_at lw_m10 100 rfl
theorem q2337 : (Jvm.Cond.instanceMethod ({ cls := "CordSealsModel", name := "fakes", desc := "([I)I" } : Jvm.MethodName)) ∈ lw_all := lw_g (lw_at lw_m10 101 rfl) rfl
theorem q2338 : (Jvm.Cond.code ({ cls := "CordSealsModel", name := "fakes", desc := "([I)I" } : Jvm.MethodName) prog_10_method_26_code (4 : Nat) (Option.some Jvm.ClassFile.FieldType.int)) ∈ lw_all := lw_g (lw_at lw_m10 102 rfl) rfl
theorem q2339 : (Jvm.Cond.methodLink "CordSealsModel" (107 : Nat) ({ cls := "CordSealsModel", name := "fake", desc := "([II)I" } : Jvm.MethodName)) ∈ lw_all := lw_g (lw_at lw_m10 103 rfl) rfl
theorem q2340 : (Jvm.Cond.privateMethod ({ cls := "CordSealsModel", name := "fake", desc := "([II)I" } : Jvm.MethodName)) ∈ lw_tbl := lw_at lw_m10 104 rfl
theorem q2341 : (Jvm.Cond.instanceMethod ({ cls := "CordSealsModel", name := "fake", desc := "([II)I" } : Jvm.MethodName)) ∈ lw_all := lw_g (lw_at lw_m10 105 rfl) rfl
theorem q2342 : (Jvm.Cond.code ({ cls := "CordSealsModel", name := "fake", desc := "([II)I" } : Jvm.MethodName) prog_10_method_25_code (4 : Nat) (Option.some Jvm.ClassFile.FieldType.int)) ∈ lw_all := lw_g (lw_at lw_m10 106 rfl) rfl
theorem q2343 : (Jvm.Cond.methodLink "CordSealsModel" (96 : Nat) ({ cls := "CordSealsModel", name := "alone", desc := "([II)I" } : Jvm.MethodName)) ∈ lw_all := lw_g (lw_at lw_m10 107 rfl) rfl
theorem q2344 : (Jvm.Cond.static ({ cls := "CordSealsModel", name := "alone", desc := "([II)I" } : Jvm.MethodName)) ∈ lw_all := lw_g (lw_at lw_m10 108 rfl) rfl
theorem q2345 : (Jvm.Cond.code ({ cls := "CordSealsModel", name := "alone", desc := "([II)I" } : Jvm.MethodName) prog_10_method_22_code (2 : Nat) (Option.some Jvm.ClassFile.FieldType.int)) ∈ lw_all := lw_g (lw_at lw_m10 109 rfl) rfl
theorem q2346 : (Jvm.Cond.methodLink "CordSealsModel" (76 : Nat) ({ cls := "CordSealsModel", name := "isCast", desc := "([II)Z" } : Jvm.MethodName)) ∈ lw_all := lw_g (lw_at lw_m10 110 rfl) rfl
theorem q2347 : (Jvm.Cond.static ({ cls := "CordSealsModel", name := "isCast", desc := "([II)Z" } : Jvm.MethodName)) ∈ lw_all := lw_g (lw_at lw_m10 111 rfl) rfl
theorem q2348 : (Jvm.Cond.code ({ cls := "CordSealsModel", name := "isCast", desc := "([II)Z" } : Jvm.MethodName) prog_10_method_21_code (2 : Nat) (Option.some Jvm.ClassFile.FieldType.boolean)) ∈ lw_all := lw_g (lw_at lw_m10 112 rfl) rfl
theorem q2349 : (Jvm.Cond.methodLink "CordSealsModel" (69 : Nat) ({ cls := "CordSealsModel", name := "maskOf", desc := "([II)I" } : Jvm.MethodName)) ∈ lw_all := lw_g (lw_at lw_m10 113 rfl) rfl
theorem q2350 : (Jvm.Cond.static ({ cls := "CordSealsModel", name := "maskOf", desc := "([II)I" } : Jvm.MethodName)) ∈ lw_all := lw_g (lw_at lw_m10 114 rfl) rfl
theorem q2351 : (Jvm.Cond.code ({ cls := "CordSealsModel", name := "maskOf", desc := "([II)I" } : Jvm.MethodName) prog_10_method_18_code (2 : Nat) (Option.some Jvm.ClassFile.FieldType.int)) ∈ lw_all := lw_g (lw_at lw_m10 115 rfl) rfl
theorem q2352 : (Jvm.Cond.methodLink "CordSealsModel" (72 : Nat) ({ cls := "CordSealsModel", name := "years", desc := "([IIIII)I" } : Jvm.MethodName)) ∈ lw_all := lw_g (lw_at lw_m10 116 rfl) rfl
theorem q2353 : (Jvm.Cond.static ({ cls := "CordSealsModel", name := "years", desc := "([IIIII)I" } : Jvm.MethodName)) ∈ lw_all := lw_g (lw_at lw_m10 117 rfl) rfl
theorem q2354 : (Jvm.Cond.code ({ cls := "CordSealsModel", name := "years", desc := "([IIIII)I" } : Jvm.MethodName) prog_10_method_19_code (12 : Nat) (Option.some Jvm.ClassFile.FieldType.int)) ∈ lw_all := lw_g (lw_at lw_m10 118 rfl) rfl
theorem q2355 : (Jvm.Cond.methodLink "CordSealsModel" (59 : Nat) ({ cls := "CordSealsModel", name := "ends", desc := "([II)I" } : Jvm.MethodName)) ∈ lw_all := lw_g (lw_at lw_m10 119 rfl) rfl
theorem q2356 : (Jvm.Cond.static ({ cls := "CordSealsModel", name := "ends", desc := "([II)I" } : Jvm.MethodName)) ∈ lw_all := lw_g (lw_at lw_m10 120 rfl) rfl
theorem q2357 : (Jvm.Cond.code ({ cls := "CordSealsModel", name := "ends", desc := "([II)I" } : Jvm.MethodName) prog_10_method_15_code (2 : Nat) (Option.some Jvm.ClassFile.FieldType.int)) ∈ lw_all := lw_g (lw_at lw_m10 121 rfl) rfl
theorem q2358 : (Jvm.Cond.methodLink "CordSealsModel" (80 : Nat) ({ cls := "CordSealsModel", name := "yearsOf", desc := "([III)I" } : Jvm.MethodName)) ∈ lw_all := lw_g (lw_at lw_m10 122 rfl) rfl
theorem q2359 : (Jvm.Cond.static ({ cls := "CordSealsModel", name := "yearsOf", desc := "([III)I" } : Jvm.MethodName)) ∈ lw_all := lw_g (lw_at lw_m10 123 rfl) rfl
theorem q2360 : (Jvm.Cond.code ({ cls := "CordSealsModel", name := "yearsOf", desc := "([III)I" } : Jvm.MethodName) prog_10_method_20_code (3 : Nat) (Option.some Jvm.ClassFile.FieldType.int)) ∈ lw_all := lw_g (lw_at lw_m10 124 rfl) rfl
theorem q2361 : (Jvm.Cond.methodLink "CordSealsModel" (63 : Nat) ({ cls := "CordSealsModel", name := "lowOf", desc := "([II)I" } : Jvm.MethodName)) ∈ lw_all := lw_g (lw_at lw_m10 125 rfl) rfl
theorem q2362 : (Jvm.Cond.static ({ cls := "CordSealsModel", name := "lowOf", desc := "([II)I" } : Jvm.MethodName)) ∈ lw_all := lw_g (lw_at lw_m10 126 rfl) rfl
theorem q2363 : (Jvm.Cond.code ({ cls := "CordSealsModel", name := "lowOf", desc := "([II)I" } : Jvm.MethodName) prog_10_method_16_code (6 : Nat) (Option.some Jvm.ClassFile.FieldType.int)) ∈ lw_all := lw_g (lw_at lw_m10 127 rfl) rfl
theorem q2364 : (Jvm.Cond.methodLink "CordSealsModel" (55 : Nat) ({ cls := "CordSealsModel", name := "has", desc := "(II)Z" } : Jvm.MethodName)) ∈ lw_all := lw_g (lw_at lw_m10 128 rfl) rfl
theorem q2365 : (Jvm.Cond.static ({ cls := "CordSealsModel", name := "has", desc := "(II)Z" } : Jvm.MethodName)) ∈ lw_all := lw_g (lw_at lw_m10 129 rfl) rfl
theorem q2366 : (Jvm.Cond.code ({ cls := "CordSealsModel", name := "has", desc := "(II)Z" } : Jvm.MethodName) prog_10_method_5_code (2 : Nat) (Option.some Jvm.ClassFile.FieldType.boolean)) ∈ lw_all := lw_g (lw_at lw_m10 130 rfl) rfl
theorem q2367 : (Jvm.Cond.methodLink "CordSealsModel" (66 : Nat) ({ cls := "CordSealsModel", name := "highOf", desc := "([II)I" } : Jvm.MethodName)) ∈ lw_all := lw_g (lw_at lw_m10 131 rfl) rfl
theorem q2368 : (Jvm.Cond.static ({ cls := "CordSealsModel", name := "highOf", desc := "([II)I" } : Jvm.MethodName)) ∈ lw_all := lw_g (lw_at lw_m10 132 rfl) rfl
theorem q2369 : (Jvm.Cond.code ({ cls := "CordSealsModel", name := "highOf", desc := "([II)I" } : Jvm.MethodName) prog_10_method_17_code (6 : Nat) (Option.some Jvm.ClassFile.FieldType.int)) ∈ lw_all := lw_g (lw_at lw_m10 133 rfl) rfl
theorem q2370 : (Jvm.Cond.methodLink "CordSealsModel" (103 : Nat) ({ cls := "CordSealsModel", name := "ofCharter", desc := "([IIII)I" } : Jvm.MethodName)) ∈ lw_all := lw_g (lw_at lw_m10 134 rfl) rfl
theorem q2371 : (Jvm.Cond.privateMethod ({ cls := "CordSealsModel", name := "ofCharter", desc := "([IIII)I" } : Jvm.MethodName)) ∈ lw_tbl := lw_at lw_m10 135 rfl
theorem q2372 : (Jvm.Cond.instanceMethod ({ cls := "CordSealsModel", name := "ofCharter", desc := "([IIII)I" } : Jvm.MethodName)) ∈ lw_all := lw_g (lw_at lw_m10 136 rfl) rfl
theorem q2373 : (Jvm.Cond.code ({ cls := "CordSealsModel", name := "ofCharter", desc := "([IIII)I" } : Jvm.MethodName) prog_10_method_24_code (5 : Nat) (Option.some Jvm.ClassFile.FieldType.int)) ∈ lw_all := lw_g (lw_at lw_m10 137 rfl) rfl
theorem q2374 : (Jvm.Cond.methodLink "CordSealsModel" (99 : Nat) ({ cls := "CordSealsModel", name := "gather", desc := "([III)V" } : Jvm.MethodName)) ∈ lw_all := lw_g (lw_at lw_m10 138 rfl) rfl
theorem q2375 : (Jvm.Cond.privateMethod ({ cls := "CordSealsModel", name := "gather", desc := "([III)V" } : Jvm.MethodName)) ∈ lw_tbl := lw_at lw_m10 139 rfl
theorem q2376 : (Jvm.Cond.instanceMethod ({ cls := "CordSealsModel", name := "gather", desc := "([III)V" } : Jvm.MethodName)) ∈ lw_all := lw_g (lw_at lw_m10 140 rfl) rfl
theorem q2377 : (Jvm.Cond.code ({ cls := "CordSealsModel", name := "gather", desc := "([III)V" } : Jvm.MethodName) prog_10_method_23_code (5 : Nat) (Option.none : Option Jvm.ClassFile.FieldType)) ∈ lw_all := lw_g (lw_at lw_m10 141 rfl) rfl
theorem q2378 : (Jvm.Cond.methodLink "CordSealsModel" (256 : Nat) ({ cls := "CordSealsModel", name := "badCharters", desc := "()I" } : Jvm.MethodName)) ∈ lw_all := lw_g (lw_at lw_m10 142 rfl) rfl
theorem q2379 : (Jvm.Cond.privateMethod ({ cls := "CordSealsModel", name := "badCharters", desc := "()I" } : Jvm.MethodName)) ∈ lw_tbl := lw_at lw_m10 143 rfl
theorem q2380 : (Jvm.Cond.instanceMethod ({ cls := "CordSealsModel", name := "badCharters", desc := "()I" } : Jvm.MethodName)) ∈ lw_all := lw_g (lw_at lw_m10 144 rfl) rfl
theorem q2381 : (Jvm.Cond.code ({ cls := "CordSealsModel", name := "badCharters", desc := "()I" } : Jvm.MethodName) prog_10_method_72_code (3 : Nat) (Option.some Jvm.ClassFile.FieldType.int)) ∈ lw_all := lw_g (lw_at lw_m10 145 rfl) rfl
theorem q2382 : (Jvm.Cond.methodLink "CordSealsModel" (246 : Nat) ({ cls := "CordSealsModel", name := "fakesOn", desc := "(I)I" } : Jvm.MethodName)) ∈ lw_all := lw_g (lw_at lw_m10 146 rfl) rfl
theorem q2383 : (Jvm.Cond.privateMethod ({ cls := "CordSealsModel", name := "fakesOn", desc := "(I)I" } : Jvm.MethodName)) ∈ lw_tbl := lw_at lw_m10 147 rfl
theorem q2384 : (Jvm.Cond.instanceMethod ({ cls := "CordSealsModel", name := "fakesOn", desc := "(I)I" } : Jvm.MethodName)) ∈ lw_all := lw_g (lw_at lw_m10 148 rfl) rfl
theorem q2385 : (Jvm.Cond.code ({ cls := "CordSealsModel", name := "fakesOn", desc := "(I)I" } : Jvm.MethodName) prog_10_method_71_code (4 : Nat) (Option.some Jvm.ClassFile.FieldType.int)) ∈ lw_all := lw_g (lw_at lw_m10 149 rfl) rfl
theorem q2386 : (Jvm.Cond.methodLink "CordSealsModel" (259 : Nat) ({ cls := "CordSealsModel", name := "bad", desc := "([I)I" } : Jvm.MethodName)) ∈ lw_all := lw_g (lw_at lw_m10 150 rfl) rfl
theorem q2387 : (Jvm.Cond.privateMethod ({ cls := "CordSealsModel", name := "bad", desc := "([I)I" } : Jvm.MethodName)) ∈ lw_tbl := lw_at lw_m10 151 rfl
theorem q2388 : (Jvm.Cond.instanceMethod ({ cls := "CordSealsModel", name := "bad", desc := "([I)I" } : Jvm.MethodName)) ∈ lw_all := lw_g (lw_at lw_m10 152 rfl) rfl
theorem q2389 : (Jvm.Cond.code ({ cls := "CordSealsModel", name := "bad", desc := "([I)I" } : Jvm.MethodName) prog_10_method_34_code (4 : Nat) (Option.some Jvm.ClassFile.FieldType.int)) ∈ lw_all := lw_g (lw_at lw_m10 153 rfl) rfl
theorem q2390 : (Jvm.Cond.methodLink "CordSealsModel" (123 : Nat) ({ cls := "CordSealsModel", name := "isGood", desc := "([II)Z" } : Jvm.MethodName)) ∈ lw_all := lw_g (lw_at lw_m10 154 rfl) rfl
theorem q2391 : (Jvm.Cond.privateMethod ({ cls := "CordSealsModel", name := "isGood", desc := "([II)Z" } : Jvm.MethodName)) ∈ lw_tbl := lw_at lw_m10 155 rfl
theorem q2392 : (Jvm.Cond.instanceMethod ({ cls := "CordSealsModel", name := "isGood", desc := "([II)Z" } : Jvm.MethodName)) ∈ lw_all := lw_g (lw_at lw_m10 156 rfl) rfl
theorem q2393 : (Jvm.Cond.code ({ cls := "CordSealsModel", name := "isGood", desc := "([II)Z" } : Jvm.MethodName) prog_10_method_33_code (7 : Nat) (Option.some Jvm.ClassFile.FieldType.boolean)) ∈ lw_all := lw_g (lw_at lw_m10 157 rfl) rfl
theorem q2394 : (Jvm.Cond.methodLink "CordSealsModel" (262 : Nat) ({ cls := "CordSealsModel", name := "countOf", desc := "(I)I" } : Jvm.MethodName)) ∈ lw_all := lw_g (lw_at lw_m10 158 rfl) rfl
theorem q2395 : (Jvm.Cond.privateMethod ({ cls := "CordSealsModel", name := "countOf", desc := "(I)I" } : Jvm.MethodName)) ∈ lw_tbl := lw_at lw_m10 159 rfl
theorem q2396 : (Jvm.Cond.instanceMethod ({ cls := "CordSealsModel", name := "countOf", desc := "(I)I" } : Jvm.MethodName)) ∈ lw_all := lw_g (lw_at lw_m10 160 rfl) rfl
theorem q2397 : (Jvm.Cond.code ({ cls := "CordSealsModel", name := "countOf", desc := "(I)I" } : Jvm.MethodName) prog_10_method_70_code (5 : Nat) (Option.some Jvm.ClassFile.FieldType.int)) ∈ lw_all := lw_g (lw_at lw_m10 161 rfl) rfl
theorem q2398 : (Jvm.Cond.methodLink "CordSealsModel" (113 : Nat) ({ cls := "CordSealsModel", name := "shelfOf", desc := "([II)I" } : Jvm.MethodName)) ∈ lw_all := lw_g (lw_at lw_m10 162 rfl) rfl
theorem q2399 : (Jvm.Cond.static ({ cls := "CordSealsModel", name := "shelfOf", desc := "([II)I" } : Jvm.MethodName)) ∈ lw_all := lw_g (lw_at lw_m10 163 rfl) rfl
theorem q2400 : (Jvm.Cond.code ({ cls := "CordSealsModel", name := "shelfOf", desc := "([II)I" } : Jvm.MethodName) prog_10_method_27_code (4 : Nat) (Option.some Jvm.ClassFile.FieldType.int)) ∈ lw_all := lw_g (lw_at lw_m10 164 rfl) rfl
theorem q2401 : (Jvm.Cond.methodLink "CordSealsModel" (110 : Nat) ({ cls := "CordSealsModel", name := "placeOn", desc := "([III)I" } : Jvm.MethodName)) ∈ lw_all := lw_g (lw_at lw_m10 165 rfl) rfl
theorem q2402 : (Jvm.Cond.static ({ cls := "CordSealsModel", name := "placeOn", desc := "([III)I" } : Jvm.MethodName)) ∈ lw_all := lw_g (lw_at lw_m10 166 rfl) rfl
theorem q2403 : (Jvm.Cond.code ({ cls := "CordSealsModel", name := "placeOn", desc := "([III)I" } : Jvm.MethodName) prog_10_method_28_code (5 : Nat) (Option.some Jvm.ClassFile.FieldType.int)) ∈ lw_all := lw_g (lw_at lw_m10 167 rfl) rfl
theorem q2405 : (Jvm.Cond.instanceMethod ({ cls := "CordSealsModel", name := "ofReign", desc := "(II)I" } : Jvm.MethodName)) ∈ lw_all := lw_g (lw_at lw_m10 169 rfl) rfl
theorem q2406 : (Jvm.Cond.selects "CordSealsModel" ({ cls := "CordSealsModel", name := "ofReign", desc := "(II)I" } : Jvm.MethodName) ({ cls := "CordSealsModel", name := "ofReign", desc := "(II)I" } : Jvm.MethodName)) ∈ lw_all := lw_g (lw_at lw_m10 170 rfl) rfl
theorem q2407 : (Jvm.Cond.code ({ cls := "CordSealsModel", name := "ofReign", desc := "(II)I" } : Jvm.MethodName) prog_10_method_74_code (3 : Nat) (Option.some Jvm.ClassFile.FieldType.int)) ∈ lw_all := lw_g (lw_at lw_m10 171 rfl) rfl
theorem q2408 : (Jvm.Cond.methodLink "CordSealsModel" (265 : Nat) ({ cls := "CordSealsModel", name := "hasReign", desc := "([II)Z" } : Jvm.MethodName)) ∈ lw_all := lw_g (lw_at lw_m10 172 rfl) rfl
theorem q2409 : (Jvm.Cond.static ({ cls := "CordSealsModel", name := "hasReign", desc := "([II)Z" } : Jvm.MethodName)) ∈ lw_all := lw_g (lw_at lw_m10 173 rfl) rfl
theorem q2410 : (Jvm.Cond.code ({ cls := "CordSealsModel", name := "hasReign", desc := "([II)Z" } : Jvm.MethodName) prog_10_method_10_code (2 : Nat) (Option.some Jvm.ClassFile.FieldType.boolean)) ∈ lw_all := lw_g (lw_at lw_m10 174 rfl) rfl
theorem q2411 : (Jvm.Cond.constantLong "CordSealsModel" (268 : Nat) (2 : Int64)) ∈ lw_all := lw_g (lw_at lw_m10 175 rfl) rfl
theorem q2413 : (Jvm.Cond.instanceMethod ({ cls := "CordSealsModel", name := "ofDie", desc := "(II)I" } : Jvm.MethodName)) ∈ lw_all := lw_g (lw_at lw_m10 177 rfl) rfl
theorem q2414 : (Jvm.Cond.selects "CordSealsModel" ({ cls := "CordSealsModel", name := "ofDie", desc := "(II)I" } : Jvm.MethodName) ({ cls := "CordSealsModel", name := "ofDie", desc := "(II)I" } : Jvm.MethodName)) ∈ lw_all := lw_g (lw_at lw_m10 178 rfl) rfl
theorem q2415 : (Jvm.Cond.code ({ cls := "CordSealsModel", name := "ofDie", desc := "(II)I" } : Jvm.MethodName) prog_10_method_76_code (3 : Nat) (Option.some Jvm.ClassFile.FieldType.int)) ∈ lw_all := lw_g (lw_at lw_m10 179 rfl) rfl
theorem q2416 : (Jvm.Cond.constantLong "CordSealsModel" (53 : Nat) (5 : Int64)) ∈ lw_all := lw_g (lw_at lw_m10 180 rfl) rfl
theorem q2417 : (Jvm.Cond.methodLink "CordSealsModel" (270 : Nat) ({ cls := "CordSealsModel", name := "sealsOf", desc := "(IZ)I" } : Jvm.MethodName)) ∈ lw_all := lw_g (lw_at lw_m10 181 rfl) rfl
theorem q2418 : (Jvm.Cond.privateMethod ({ cls := "CordSealsModel", name := "sealsOf", desc := "(IZ)I" } : Jvm.MethodName)) ∈ lw_tbl := lw_at lw_m10 182 rfl
theorem q2419 : (Jvm.Cond.instanceMethod ({ cls := "CordSealsModel", name := "sealsOf", desc := "(IZ)I" } : Jvm.MethodName)) ∈ lw_all := lw_g (lw_at lw_m10 183 rfl) rfl
theorem q2420 : (Jvm.Cond.code ({ cls := "CordSealsModel", name := "sealsOf", desc := "(IZ)I" } : Jvm.MethodName) prog_10_method_75_code (5 : Nat) (Option.some Jvm.ClassFile.FieldType.int)) ∈ lw_all := lw_g (lw_at lw_m10 184 rfl) rfl
theorem q2422 : (Jvm.Cond.instanceMethod ({ cls := "CordSealsModel", name := "crackYear", desc := "(II)I" } : Jvm.MethodName)) ∈ lw_all := lw_g (lw_at lw_m10 186 rfl) rfl
theorem q2423 : (Jvm.Cond.selects "CordSealsModel" ({ cls := "CordSealsModel", name := "crackYear", desc := "(II)I" } : Jvm.MethodName) ({ cls := "CordSealsModel", name := "crackYear", desc := "(II)I" } : Jvm.MethodName)) ∈ lw_all := lw_g (lw_at lw_m10 187 rfl) rfl
theorem q2424 : (Jvm.Cond.code ({ cls := "CordSealsModel", name := "crackYear", desc := "(II)I" } : Jvm.MethodName) prog_10_method_77_code (3 : Nat) (Option.some Jvm.ClassFile.FieldType.int)) ∈ lw_all := lw_g (lw_at lw_m10 188 rfl) rfl
theorem q2426 : (Jvm.Cond.instanceMethod ({ cls := "CordSealsModel", name := "ofSeal", desc := "(II)I" } : Jvm.MethodName)) ∈ lw_all := lw_g (lw_at lw_m10 190 rfl) rfl
theorem q2427 : (Jvm.Cond.selects "CordSealsModel" ({ cls := "CordSealsModel", name := "ofSeal", desc := "(II)I" } : Jvm.MethodName) ({ cls := "CordSealsModel", name := "ofSeal", desc := "(II)I" } : Jvm.MethodName)) ∈ lw_all := lw_g (lw_at lw_m10 191 rfl) rfl
theorem q2428 : (Jvm.Cond.code ({ cls := "CordSealsModel", name := "ofSeal", desc := "(II)I" } : Jvm.MethodName) prog_10_method_78_code (4 : Nat) (Option.some Jvm.ClassFile.FieldType.int)) ∈ lw_all := lw_g (lw_at lw_m10 192 rfl) rfl
theorem q2429 : (Jvm.Cond.constantLong "CordSealsModel" (135 : Nat) (7 : Int64)) ∈ lw_all := lw_g (lw_at lw_m10 193 rfl) rfl
theorem q2431 : (Jvm.Cond.instanceMethod ({ cls := "CordSealsModel", name := "dated", desc := "(II)I" } : Jvm.MethodName)) ∈ lw_all := lw_g (lw_at lw_m10 195 rfl) rfl
theorem q2432 : (Jvm.Cond.selects "CordSealsModel" ({ cls := "CordSealsModel", name := "dated", desc := "(II)I" } : Jvm.MethodName) ({ cls := "CordSealsModel", name := "dated", desc := "(II)I" } : Jvm.MethodName)) ∈ lw_all := lw_g (lw_at lw_m10 196 rfl) rfl
theorem q2433 : (Jvm.Cond.code ({ cls := "CordSealsModel", name := "dated", desc := "(II)I" } : Jvm.MethodName) prog_10_method_79_code (3 : Nat) (Option.some Jvm.ClassFile.FieldType.int)) ∈ lw_all := lw_g (lw_at lw_m10 197 rfl) rfl
theorem q2434 : (Jvm.Cond.constantLong "CordSealsModel" (274 : Nat) (3 : Int64)) ∈ lw_all := lw_g (lw_at lw_m10 198 rfl) rfl
theorem q2436 : (Jvm.Cond.instanceMethod ({ cls := "CordSealsModel", name := "isPossible", desc := "(II)Z" } : Jvm.MethodName)) ∈ lw_all := lw_g (lw_at lw_m10 200 rfl) rfl
theorem q2437 : (Jvm.Cond.selects "CordSealsModel" ({ cls := "CordSealsModel", name := "isPossible", desc := "(II)Z" } : Jvm.MethodName) ({ cls := "CordSealsModel", name := "isPossible", desc := "(II)Z" } : Jvm.MethodName)) ∈ lw_all := lw_g (lw_at lw_m10 201 rfl) rfl
theorem q2438 : (Jvm.Cond.code ({ cls := "CordSealsModel", name := "isPossible", desc := "(II)Z" } : Jvm.MethodName) prog_10_method_80_code (3 : Nat) (Option.some Jvm.ClassFile.FieldType.boolean)) ∈ lw_all := lw_g (lw_at lw_m10 202 rfl) rfl
theorem q2439 : (Jvm.Cond.methodLink "CordSealsModel" (129 : Nat) ({ cls := "CordSealsModel", name := "isYear", desc := "(I)Z" } : Jvm.MethodName)) ∈ lw_all := lw_g (lw_at lw_m10 203 rfl) rfl
theorem q2440 : (Jvm.Cond.static ({ cls := "CordSealsModel", name := "isYear", desc := "(I)Z" } : Jvm.MethodName)) ∈ lw_all := lw_g (lw_at lw_m10 204 rfl) rfl
theorem q2441 : (Jvm.Cond.code ({ cls := "CordSealsModel", name := "isYear", desc := "(I)Z" } : Jvm.MethodName) prog_10_method_9_code (1 : Nat) (Option.some Jvm.ClassFile.FieldType.boolean)) ∈ lw_all := lw_g (lw_at lw_m10 205 rfl) rfl
theorem q2442 : (Jvm.Cond.constantLong "CordSealsModel" (45 : Nat) (1000 : Int64)) ∈ lw_all := lw_g (lw_at lw_m10 206 rfl) rfl
theorem q2443 : (Jvm.Cond.constantLong "CordSealsModel" (47 : Nat) (1999 : Int64)) ∈ lw_all := lw_g (lw_at lw_m10 207 rfl) rfl
theorem q2444 : (Jvm.Cond.methodLink "CordSealsModel" (276 : Nat) ({ cls := "CordSealsModel", name := "can", desc := "(II)Z" } : Jvm.MethodName)) ∈ lw_all := lw_g (lw_at lw_m10 208 rfl) rfl
theorem q2445 : (Jvm.Cond.privateMethod ({ cls := "CordSealsModel", name := "can", desc := "(II)Z" } : Jvm.MethodName)) ∈ lw_tbl := lw_at lw_m10 209 rfl
theorem q2446 : (Jvm.Cond.instanceMethod ({ cls := "CordSealsModel", name := "can", desc := "(II)Z" } : Jvm.MethodName)) ∈ lw_all := lw_g (lw_at lw_m10 210 rfl) rfl
theorem q2447 : (Jvm.Cond.code ({ cls := "CordSealsModel", name := "can", desc := "(II)Z" } : Jvm.MethodName) prog_10_method_81_code (3 : Nat) (Option.some Jvm.ClassFile.FieldType.boolean)) ∈ lw_all := lw_g (lw_at lw_m10 211 rfl) rfl
theorem q2449 : (Jvm.Cond.instanceMethod ({ cls := "CordSealsModel", name := "charter", desc := "(II)I" } : Jvm.MethodName)) ∈ lw_all := lw_g (lw_at lw_m10 213 rfl) rfl
theorem q2450 : (Jvm.Cond.selects "CordSealsModel" ({ cls := "CordSealsModel", name := "charter", desc := "(II)I" } : Jvm.MethodName) ({ cls := "CordSealsModel", name := "charter", desc := "(II)I" } : Jvm.MethodName)) ∈ lw_all := lw_g (lw_at lw_m10 214 rfl) rfl
theorem q2451 : (Jvm.Cond.code ({ cls := "CordSealsModel", name := "charter", desc := "(II)I" } : Jvm.MethodName) prog_10_method_82_code (3 : Nat) (Option.some Jvm.ClassFile.FieldType.int)) ∈ lw_all := lw_g (lw_at lw_m10 215 rfl) rfl
theorem q2452 : (Jvm.Cond.methodLink "CordSealsModel" (279 : Nat) ({ cls := "CordSealsModel", name := "isCharter", desc := "(I)Z" } : Jvm.MethodName)) ∈ lw_all := lw_g (lw_at lw_m10 216 rfl) rfl
theorem q2453 : (Jvm.Cond.static ({ cls := "CordSealsModel", name := "isCharter", desc := "(I)Z" } : Jvm.MethodName)) ∈ lw_all := lw_g (lw_at lw_m10 217 rfl) rfl
theorem q2454 : (Jvm.Cond.code ({ cls := "CordSealsModel", name := "isCharter", desc := "(I)Z" } : Jvm.MethodName) prog_10_method_13_code (1 : Nat) (Option.some Jvm.ClassFile.FieldType.boolean)) ∈ lw_all := lw_g (lw_at lw_m10 218 rfl) rfl
theorem q2455 : (Jvm.Cond.constantLong "CordSealsModel" (282 : Nat) (4 : Int64)) ∈ lw_all := lw_g (lw_at lw_m10 219 rfl) rfl
theorem q2457 : (Jvm.Cond.instanceMethod ({ cls := "CordSealsModel", name := "onShelf", desc := "(II)I" } : Jvm.MethodName)) ∈ lw_all := lw_g (lw_at lw_m10 221 rfl) rfl
theorem q2458 : (Jvm.Cond.selects "CordSealsModel" ({ cls := "CordSealsModel", name := "onShelf", desc := "(II)I" } : Jvm.MethodName) ({ cls := "CordSealsModel", name := "onShelf", desc := "(II)I" } : Jvm.MethodName)) ∈ lw_all := lw_g (lw_at lw_m10 222 rfl) rfl
theorem q2459 : (Jvm.Cond.code ({ cls := "CordSealsModel", name := "onShelf", desc := "(II)I" } : Jvm.MethodName) prog_10_method_83_code (3 : Nat) (Option.some Jvm.ClassFile.FieldType.int)) ∈ lw_all := lw_g (lw_at lw_m10 223 rfl) rfl
theorem q2460 : (Jvm.Cond.methodLink "CordSealsModel" (284 : Nat) ({ cls := "CordSealsModel", name := "isShelf", desc := "(I)Z" } : Jvm.MethodName)) ∈ lw_all := lw_g (lw_at lw_m10 224 rfl) rfl
theorem q2461 : (Jvm.Cond.static ({ cls := "CordSealsModel", name := "isShelf", desc := "(I)Z" } : Jvm.MethodName)) ∈ lw_all := lw_g (lw_at lw_m10 225 rfl) rfl
theorem q2462 : (Jvm.Cond.code ({ cls := "CordSealsModel", name := "isShelf", desc := "(I)Z" } : Jvm.MethodName) prog_10_method_14_code (1 : Nat) (Option.some Jvm.ClassFile.FieldType.boolean)) ∈ lw_all := lw_g (lw_at lw_m10 226 rfl) rfl
theorem q2464 : (Jvm.Cond.instanceMethod ({ cls := "CordSealsModel", name := "reign", desc := "(II)I" } : Jvm.MethodName)) ∈ lw_all := lw_g (lw_at lw_m10 228 rfl) rfl
theorem q2465 : (Jvm.Cond.selects "CordSealsModel" ({ cls := "CordSealsModel", name := "reign", desc := "(II)I" } : Jvm.MethodName) ({ cls := "CordSealsModel", name := "reign", desc := "(II)I" } : Jvm.MethodName)) ∈ lw_all := lw_g (lw_at lw_m10 229 rfl) rfl
theorem q2466 : (Jvm.Cond.code ({ cls := "CordSealsModel", name := "reign", desc := "(II)I" } : Jvm.MethodName) prog_10_method_84_code (3 : Nat) (Option.some Jvm.ClassFile.FieldType.int)) ∈ lw_all := lw_g (lw_at lw_m10 230 rfl) rfl
theorem q2467 : (Jvm.Cond.methodLink "CordSealsModel" (287 : Nat) ({ cls := "CordSealsModel", name := "remember", desc := "()V" } : Jvm.MethodName)) ∈ lw_all := lw_g (lw_at lw_m10 231 rfl) rfl
theorem q2468 : (Jvm.Cond.privateMethod ({ cls := "CordSealsModel", name := "remember", desc := "()V" } : Jvm.MethodName)) ∈ lw_tbl := lw_at lw_m10 232 rfl
theorem q2469 : (Jvm.Cond.instanceMethod ({ cls := "CordSealsModel", name := "remember", desc := "()V" } : Jvm.MethodName)) ∈ lw_all := lw_g (lw_at lw_m10 233 rfl) rfl
theorem q2470 : (Jvm.Cond.code ({ cls := "CordSealsModel", name := "remember", desc := "()V" } : Jvm.MethodName) prog_10_method_51_code (2 : Nat) (Option.none : Option Jvm.ClassFile.FieldType)) ∈ lw_all := lw_g (lw_at lw_m10 234 rfl) rfl
theorem q2472 : (Jvm.Cond.instanceMethod ({ cls := "CordSealsModel", name := "die", desc := "(III)I" } : Jvm.MethodName)) ∈ lw_all := lw_g (lw_at lw_m10 236 rfl) rfl
theorem q2473 : (Jvm.Cond.selects "CordSealsModel" ({ cls := "CordSealsModel", name := "die", desc := "(III)I" } : Jvm.MethodName) ({ cls := "CordSealsModel", name := "die", desc := "(III)I" } : Jvm.MethodName)) ∈ lw_all := lw_g (lw_at lw_m10 237 rfl) rfl
theorem q2474 : (Jvm.Cond.code ({ cls := "CordSealsModel", name := "die", desc := "(III)I" } : Jvm.MethodName) prog_10_method_85_code (4 : Nat) (Option.some Jvm.ClassFile.FieldType.int)) ∈ lw_all := lw_g (lw_at lw_m10 238 rfl) rfl
theorem q2475 : (Jvm.Cond.methodLink "CordSealsModel" (290 : Nat) ({ cls := "CordSealsModel", name := "areYears", desc := "(II)Z" } : Jvm.MethodName)) ∈ lw_all := lw_g (lw_at lw_m10 239 rfl) rfl
theorem q2476 : (Jvm.Cond.static ({ cls := "CordSealsModel", name := "areYears", desc := "(II)Z" } : Jvm.MethodName)) ∈ lw_all := lw_g (lw_at lw_m11 0 rfl) rfl
theorem q2477 : (Jvm.Cond.code ({ cls := "CordSealsModel", name := "areYears", desc := "(II)Z" } : Jvm.MethodName) prog_10_method_39_code (2 : Nat) (Option.some Jvm.ClassFile.FieldType.boolean)) ∈ lw_all := lw_g (lw_at lw_m11 1 rfl) rfl
theorem q2479 : (Jvm.Cond.instanceMethod ({ cls := "CordSealsModel", name := "crack", desc := "(II)I" } : Jvm.MethodName)) ∈ lw_all := lw_g (lw_at lw_m11 3 rfl) rfl
theorem q2480 : (Jvm.Cond.selects "CordSealsModel" ({ cls := "CordSealsModel", name := "crack", desc := "(II)I" } : Jvm.MethodName) ({ cls := "CordSealsModel", name := "crack", desc := "(II)I" } : Jvm.MethodName)) ∈ lw_all := lw_g (lw_at lw_m11 4 rfl) rfl
theorem q2481 : (Jvm.Cond.code ({ cls := "CordSealsModel", name := "crack", desc := "(II)I" } : Jvm.MethodName) prog_10_method_86_code (3 : Nat) (Option.some Jvm.ClassFile.FieldType.int)) ∈ lw_all := lw_g (lw_at lw_m11 5 rfl) rfl
theorem q2483 : (Jvm.Cond.instanceMethod ({ cls := "CordSealsModel", name := "seal", desc := "(IIIII)I" } : Jvm.MethodName)) ∈ lw_all := lw_g (lw_at lw_m11 7 rfl) rfl
theorem q2484 : (Jvm.Cond.selects "CordSealsModel" ({ cls := "CordSealsModel", name := "seal", desc := "(IIIII)I" } : Jvm.MethodName) ({ cls := "CordSealsModel", name := "seal", desc := "(IIIII)I" } : Jvm.MethodName)) ∈ lw_all := lw_g (lw_at lw_m11 8 rfl) rfl
theorem q2485 : (Jvm.Cond.code ({ cls := "CordSealsModel", name := "seal", desc := "(IIIII)I" } : Jvm.MethodName) prog_10_method_87_code (6 : Nat) (Option.some Jvm.ClassFile.FieldType.int)) ∈ lw_all := lw_g (lw_at lw_m11 9 rfl) rfl
theorem q2486 : (Jvm.Cond.methodLink "CordSealsModel" (293 : Nat) ({ cls := "CordSealsModel", name := "isKind", desc := "(III)Z" } : Jvm.MethodName)) ∈ lw_all := lw_g (lw_at lw_m11 10 rfl) rfl
theorem q2487 : (Jvm.Cond.static ({ cls := "CordSealsModel", name := "isKind", desc := "(III)Z" } : Jvm.MethodName)) ∈ lw_all := lw_g (lw_at lw_m11 11 rfl) rfl
theorem q2488 : (Jvm.Cond.code ({ cls := "CordSealsModel", name := "isKind", desc := "(III)Z" } : Jvm.MethodName) prog_10_method_44_code (3 : Nat) (Option.some Jvm.ClassFile.FieldType.boolean)) ∈ lw_all := lw_g (lw_at lw_m11 12 rfl) rfl
theorem q2489 : (Jvm.Cond.constantLong "CordSealsModel" (133 : Nat) (-1 : Int64)) ∈ lw_all := lw_g (lw_at lw_m11 13 rfl) rfl
theorem q2490 : (Jvm.Cond.constantLong "CordSealsModel" (137 : Nat) (99 : Int64)) ∈ lw_all := lw_g (lw_at lw_m11 14 rfl) rfl
theorem q2492 : (Jvm.Cond.instanceMethod ({ cls := "CordSealsModel", name := "show", desc := "(II)I" } : Jvm.MethodName)) ∈ lw_all := lw_g (lw_at lw_m11 16 rfl) rfl
theorem q2493 : (Jvm.Cond.selects "CordSealsModel" ({ cls := "CordSealsModel", name := "show", desc := "(II)I" } : Jvm.MethodName) ({ cls := "CordSealsModel", name := "show", desc := "(II)I" } : Jvm.MethodName)) ∈ lw_all := lw_g (lw_at lw_m11 17 rfl) rfl
theorem q2494 : (Jvm.Cond.code ({ cls := "CordSealsModel", name := "show", desc := "(II)I" } : Jvm.MethodName) prog_10_method_88_code (3 : Nat) (Option.some Jvm.ClassFile.FieldType.int)) ∈ lw_all := lw_g (lw_at lw_m11 18 rfl) rfl
theorem q2495 : (Jvm.Cond.methodLink "CordSealsModel" (297 : Nat) ({ cls := "CordSealsModel", name := "goShow", desc := "([III)I" } : Jvm.MethodName)) ∈ lw_all := lw_g (lw_at lw_m11 19 rfl) rfl
theorem q2496 : (Jvm.Cond.static ({ cls := "CordSealsModel", name := "goShow", desc := "([III)I" } : Jvm.MethodName)) ∈ lw_all := lw_g (lw_at lw_m11 20 rfl) rfl
theorem q2497 : (Jvm.Cond.code ({ cls := "CordSealsModel", name := "goShow", desc := "([III)I" } : Jvm.MethodName) prog_10_method_46_code (4 : Nat) (Option.some Jvm.ClassFile.FieldType.int)) ∈ lw_all := lw_g (lw_at lw_m11 21 rfl) rfl
theorem q2499 : (Jvm.Cond.instanceMethod ({ cls := "CordSealsModel", name := "hang", desc := "(II)I" } : Jvm.MethodName)) ∈ lw_all := lw_g (lw_at lw_m11 23 rfl) rfl
theorem q2500 : (Jvm.Cond.selects "CordSealsModel" ({ cls := "CordSealsModel", name := "hang", desc := "(II)I" } : Jvm.MethodName) ({ cls := "CordSealsModel", name := "hang", desc := "(II)I" } : Jvm.MethodName)) ∈ lw_all := lw_g (lw_at lw_m11 24 rfl) rfl
theorem q2501 : (Jvm.Cond.code ({ cls := "CordSealsModel", name := "hang", desc := "(II)I" } : Jvm.MethodName) prog_10_method_89_code (3 : Nat) (Option.some Jvm.ClassFile.FieldType.int)) ∈ lw_all := lw_g (lw_at lw_m11 25 rfl) rfl
theorem q2503 : (Jvm.Cond.instanceMethod ({ cls := "CordSealsModel", name := "cut", desc := "(I)I" } : Jvm.MethodName)) ∈ lw_all := lw_g (lw_at lw_m11 27 rfl) rfl
theorem q2504 : (Jvm.Cond.selects "CordSealsModel" ({ cls := "CordSealsModel", name := "cut", desc := "(I)I" } : Jvm.MethodName) ({ cls := "CordSealsModel", name := "cut", desc := "(I)I" } : Jvm.MethodName)) ∈ lw_all := lw_g (lw_at lw_m11 28 rfl) rfl
theorem q2505 : (Jvm.Cond.code ({ cls := "CordSealsModel", name := "cut", desc := "(I)I" } : Jvm.MethodName) prog_10_method_90_code (2 : Nat) (Option.some Jvm.ClassFile.FieldType.int)) ∈ lw_all := lw_g (lw_at lw_m11 29 rfl) rfl
theorem q2506 : (Jvm.Cond.methodLink "CordSealsModel" (300 : Nat) ({ cls := "CordSealsModel", name := "goCut", desc := "([II)I" } : Jvm.MethodName)) ∈ lw_all := lw_g (lw_at lw_m11 30 rfl) rfl
theorem q2507 : (Jvm.Cond.static ({ cls := "CordSealsModel", name := "goCut", desc := "([II)I" } : Jvm.MethodName)) ∈ lw_all := lw_g (lw_at lw_m11 31 rfl) rfl
theorem q2508 : (Jvm.Cond.code ({ cls := "CordSealsModel", name := "goCut", desc := "([II)I" } : Jvm.MethodName) prog_10_method_49_code (3 : Nat) (Option.some Jvm.ClassFile.FieldType.int)) ∈ lw_all := lw_g (lw_at lw_m11 32 rfl) rfl
theorem q2510 : (Jvm.Cond.instanceMethod ({ cls := "CordSealsModel", name := "shelve", desc := "(III)I" } : Jvm.MethodName)) ∈ lw_all := lw_g (lw_at lw_m11 34 rfl) rfl
theorem q2511 : (Jvm.Cond.selects "CordSealsModel" ({ cls := "CordSealsModel", name := "shelve", desc := "(III)I" } : Jvm.MethodName) ({ cls := "CordSealsModel", name := "shelve", desc := "(III)I" } : Jvm.MethodName)) ∈ lw_all := lw_g (lw_at lw_m11 35 rfl) rfl
theorem q2512 : (Jvm.Cond.code ({ cls := "CordSealsModel", name := "shelve", desc := "(III)I" } : Jvm.MethodName) prog_10_method_91_code (4 : Nat) (Option.some Jvm.ClassFile.FieldType.int)) ∈ lw_all := lw_g (lw_at lw_m11 36 rfl) rfl
theorem q2513 : (Jvm.Cond.methodLink "CordSealsModel" (116 : Nat) ({ cls := "CordSealsModel", name := "others", desc := "([III)I" } : Jvm.MethodName)) ∈ lw_all := lw_g (lw_at lw_m11 37 rfl) rfl
theorem q2514 : (Jvm.Cond.static ({ cls := "CordSealsModel", name := "others", desc := "([III)I" } : Jvm.MethodName)) ∈ lw_all := lw_g (lw_at lw_m11 38 rfl) rfl
theorem q2515 : (Jvm.Cond.code ({ cls := "CordSealsModel", name := "others", desc := "([III)I" } : Jvm.MethodName) prog_10_method_30_code (3 : Nat) (Option.some Jvm.ClassFile.FieldType.int)) ∈ lw_all := lw_g (lw_at lw_m11 39 rfl) rfl
theorem q2516 : (Jvm.Cond.methodLink "CordSealsModel" (303 : Nat) ({ cls := "CordSealsModel", name := "canShelve", desc := "([III)Z" } : Jvm.MethodName)) ∈ lw_all := lw_g (lw_at lw_m11 40 rfl) rfl
theorem q2517 : (Jvm.Cond.static ({ cls := "CordSealsModel", name := "canShelve", desc := "([III)Z" } : Jvm.MethodName)) ∈ lw_all := lw_g (lw_at lw_m11 41 rfl) rfl
theorem q2518 : (Jvm.Cond.code ({ cls := "CordSealsModel", name := "canShelve", desc := "([III)Z" } : Jvm.MethodName) prog_10_method_31_code (6 : Nat) (Option.some Jvm.ClassFile.FieldType.boolean)) ∈ lw_all := lw_g (lw_at lw_m11 42 rfl) rfl
theorem q2519 : (Jvm.Cond.methodLink "CordSealsModel" (306 : Nat) ({ cls := "CordSealsModel", name := "goShelve", desc := "([IIII)I" } : Jvm.MethodName)) ∈ lw_all := lw_g (lw_at lw_m11 43 rfl) rfl
theorem q2520 : (Jvm.Cond.static ({ cls := "CordSealsModel", name := "goShelve", desc := "([IIII)I" } : Jvm.MethodName)) ∈ lw_all := lw_g (lw_at lw_m11 44 rfl) rfl
theorem q2521 : (Jvm.Cond.code ({ cls := "CordSealsModel", name := "goShelve", desc := "([IIII)I" } : Jvm.MethodName) prog_10_method_32_code (5 : Nat) (Option.some Jvm.ClassFile.FieldType.int)) ∈ lw_all := lw_g (lw_at lw_m11 45 rfl) rfl
theorem q2522 : (Jvm.Cond.methodLink "CordSealsModel" (119 : Nat) ({ cls := "CordSealsModel", name := "goTake", desc := "([II)V" } : Jvm.MethodName)) ∈ lw_all := lw_g (lw_at lw_m11 46 rfl) rfl
theorem q2523 : (Jvm.Cond.static ({ cls := "CordSealsModel", name := "goTake", desc := "([II)V" } : Jvm.MethodName)) ∈ lw_all := lw_g (lw_at lw_m11 47 rfl) rfl
theorem q2524 : (Jvm.Cond.code ({ cls := "CordSealsModel", name := "goTake", desc := "([II)V" } : Jvm.MethodName) prog_10_method_29_code (5 : Nat) (Option.none : Option Jvm.ClassFile.FieldType)) ∈ lw_all := lw_g (lw_at lw_m11 48 rfl) rfl
theorem q2526 : (Jvm.Cond.instanceMethod ({ cls := "CordSealsModel", name := "take", desc := "(I)I" } : Jvm.MethodName)) ∈ lw_all := lw_g (lw_at lw_m11 50 rfl) rfl
theorem q2527 : (Jvm.Cond.selects "CordSealsModel" ({ cls := "CordSealsModel", name := "take", desc := "(I)I" } : Jvm.MethodName) ({ cls := "CordSealsModel", name := "take", desc := "(I)I" } : Jvm.MethodName)) ∈ lw_all := lw_g (lw_at lw_m11 51 rfl) rfl
theorem q2528 : (Jvm.Cond.code ({ cls := "CordSealsModel", name := "take", desc := "(I)I" } : Jvm.MethodName) prog_10_method_92_code (3 : Nat) (Option.some Jvm.ClassFile.FieldType.int)) ∈ lw_all := lw_g (lw_at lw_m11 52 rfl) rfl
theorem q2530 : (Jvm.Cond.instanceMethod ({ cls := "CordSealsModel", name := "sort", desc := "(I)I" } : Jvm.MethodName)) ∈ lw_all := lw_g (lw_at lw_m11 54 rfl) rfl
theorem q2531 : (Jvm.Cond.selects "CordSealsModel" ({ cls := "CordSealsModel", name := "sort", desc := "(I)I" } : Jvm.MethodName) ({ cls := "CordSealsModel", name := "sort", desc := "(I)I" } : Jvm.MethodName)) ∈ lw_all := lw_g (lw_at lw_m11 55 rfl) rfl
theorem q2532 : (Jvm.Cond.code ({ cls := "CordSealsModel", name := "sort", desc := "(I)I" } : Jvm.MethodName) prog_10_method_93_code (2 : Nat) (Option.some Jvm.ClassFile.FieldType.int)) ∈ lw_all := lw_g (lw_at lw_m11 56 rfl) rfl
theorem q2533 : (Jvm.Cond.methodLink "CordSealsModel" (309 : Nat) ({ cls := "CordSealsModel", name := "goSort", desc := "([II)I" } : Jvm.MethodName)) ∈ lw_all := lw_g (lw_at lw_m11 57 rfl) rfl
theorem q2534 : (Jvm.Cond.privateMethod ({ cls := "CordSealsModel", name := "goSort", desc := "([II)I" } : Jvm.MethodName)) ∈ lw_tbl := lw_at lw_m11 58 rfl
theorem q2535 : (Jvm.Cond.instanceMethod ({ cls := "CordSealsModel", name := "goSort", desc := "([II)I" } : Jvm.MethodName)) ∈ lw_all := lw_g (lw_at lw_m11 59 rfl) rfl
theorem q2536 : (Jvm.Cond.code ({ cls := "CordSealsModel", name := "goSort", desc := "([II)I" } : Jvm.MethodName) prog_10_method_36_code (10 : Nat) (Option.some Jvm.ClassFile.FieldType.int)) ∈ lw_all := lw_g (lw_at lw_m11 60 rfl) rfl
theorem q2537 : (Jvm.Cond.methodLink "CordSealsModel" (126 : Nat) ({ cls := "CordSealsModel", name := "rank", desc := "([II)I" } : Jvm.MethodName)) ∈ lw_all := lw_g (lw_at lw_m11 61 rfl) rfl
theorem q2538 : (Jvm.Cond.privateMethod ({ cls := "CordSealsModel", name := "rank", desc := "([II)I" } : Jvm.MethodName)) ∈ lw_tbl := lw_at lw_m11 62 rfl
theorem q2539 : (Jvm.Cond.instanceMethod ({ cls := "CordSealsModel", name := "rank", desc := "([II)I" } : Jvm.MethodName)) ∈ lw_all := lw_g (lw_at lw_m11 63 rfl) rfl
theorem q2540 : (Jvm.Cond.code ({ cls := "CordSealsModel", name := "rank", desc := "([II)I" } : Jvm.MethodName) prog_10_method_35_code (3 : Nat) (Option.some Jvm.ClassFile.FieldType.int)) ∈ lw_all := lw_g (lw_at lw_m11 64 rfl) rfl
theorem q2542 : (Jvm.Cond.instanceMethod ({ cls := "CordSealsModel", name := "set", desc := "(II)I" } : Jvm.MethodName)) ∈ lw_all := lw_g (lw_at lw_m11 66 rfl) rfl
theorem q2543 : (Jvm.Cond.selects "CordSealsModel" ({ cls := "CordSealsModel", name := "set", desc := "(II)I" } : Jvm.MethodName) ({ cls := "CordSealsModel", name := "set", desc := "(II)I" } : Jvm.MethodName)) ∈ lw_all := lw_g (lw_at lw_m11 67 rfl) rfl
theorem q2544 : (Jvm.Cond.code ({ cls := "CordSealsModel", name := "set", desc := "(II)I" } : Jvm.MethodName) prog_10_method_94_code (3 : Nat) (Option.some Jvm.ClassFile.FieldType.int)) ∈ lw_all := lw_g (lw_at lw_m11 68 rfl) rfl
theorem q2545 : (Jvm.Cond.methodLink "CordSealsModel" (312 : Nat) ({ cls := "CordSealsModel", name := "goSet", desc := "([III)I" } : Jvm.MethodName)) ∈ lw_all := lw_g (lw_at lw_m11 69 rfl) rfl
theorem q2546 : (Jvm.Cond.static ({ cls := "CordSealsModel", name := "goSet", desc := "([III)I" } : Jvm.MethodName)) ∈ lw_all := lw_g (lw_at lw_m11 70 rfl) rfl
theorem q2547 : (Jvm.Cond.code ({ cls := "CordSealsModel", name := "goSet", desc := "([III)I" } : Jvm.MethodName) prog_10_method_50_code (4 : Nat) (Option.some Jvm.ClassFile.FieldType.int)) ∈ lw_all := lw_g (lw_at lw_m11 71 rfl) rfl
theorem q2549 : (Jvm.Cond.instanceMethod ({ cls := "CordSealsModel", name := "undo", desc := "()I" } : Jvm.MethodName)) ∈ lw_all := lw_g (lw_at lw_m11 73 rfl) rfl
theorem q2550 : (Jvm.Cond.selects "CordSealsModel" ({ cls := "CordSealsModel", name := "undo", desc := "()I" } : Jvm.MethodName) ({ cls := "CordSealsModel", name := "undo", desc := "()I" } : Jvm.MethodName)) ∈ lw_all := lw_g (lw_at lw_m11 74 rfl) rfl
theorem q2551 : (Jvm.Cond.code ({ cls := "CordSealsModel", name := "undo", desc := "()I" } : Jvm.MethodName) prog_10_method_95_code (2 : Nat) (Option.some Jvm.ClassFile.FieldType.int)) ∈ lw_all := lw_g (lw_at lw_m11 75 rfl) rfl
theorem q2553 : (Jvm.Cond.instanceMethod ({ cls := "CordSealsModel", name := "older", desc := "(II)I" } : Jvm.MethodName)) ∈ lw_all := lw_g (lw_at lw_m11 77 rfl) rfl
theorem q2554 : (Jvm.Cond.selects "CordSealsModel" ({ cls := "CordSealsModel", name := "older", desc := "(II)I" } : Jvm.MethodName) ({ cls := "CordSealsModel", name := "older", desc := "(II)I" } : Jvm.MethodName)) ∈ lw_all := lw_g (lw_at lw_m11 78 rfl) rfl
theorem q2555 : (Jvm.Cond.code ({ cls := "CordSealsModel", name := "older", desc := "(II)I" } : Jvm.MethodName) prog_10_method_96_code (3 : Nat) (Option.some Jvm.ClassFile.FieldType.int)) ∈ lw_all := lw_g (lw_at lw_m11 79 rfl) rfl
theorem q2557 : (Jvm.Cond.instanceMethod ({ cls := "CordSealsModel", name := "decides", desc := "(I)I" } : Jvm.MethodName)) ∈ lw_all := lw_g (lw_at lw_m11 81 rfl) rfl
theorem q2558 : (Jvm.Cond.selects "CordSealsModel" ({ cls := "CordSealsModel", name := "decides", desc := "(I)I" } : Jvm.MethodName) ({ cls := "CordSealsModel", name := "decides", desc := "(I)I" } : Jvm.MethodName)) ∈ lw_all := lw_g (lw_at lw_m11 82 rfl) rfl
theorem q2559 : (Jvm.Cond.code ({ cls := "CordSealsModel", name := "decides", desc := "(I)I" } : Jvm.MethodName) prog_10_method_97_code (6 : Nat) (Option.some Jvm.ClassFile.FieldType.int)) ∈ lw_all := lw_g (lw_at lw_m11 83 rfl) rfl
theorem q2561 : (Jvm.Cond.instanceMethod ({ cls := "CordSealsModel", name := "ifCracked", desc := "(II)I" } : Jvm.MethodName)) ∈ lw_all := lw_g (lw_at lw_m11 85 rfl) rfl
theorem q2562 : (Jvm.Cond.selects "CordSealsModel" ({ cls := "CordSealsModel", name := "ifCracked", desc := "(II)I" } : Jvm.MethodName) ({ cls := "CordSealsModel", name := "ifCracked", desc := "(II)I" } : Jvm.MethodName)) ∈ lw_all := lw_g (lw_at lw_m11 86 rfl) rfl
theorem q2563 : (Jvm.Cond.code ({ cls := "CordSealsModel", name := "ifCracked", desc := "(II)I" } : Jvm.MethodName) prog_10_method_98_code (3 : Nat) (Option.some Jvm.ClassFile.FieldType.int)) ∈ lw_all := lw_g (lw_at lw_m11 87 rfl) rfl
theorem q2565 : (Jvm.Cond.instanceMethod ({ cls := "CordSealsModel", name := "ifHung", desc := "(II)I" } : Jvm.MethodName)) ∈ lw_all := lw_g (lw_at lw_m11 89 rfl) rfl
theorem q2566 : (Jvm.Cond.selects "CordSealsModel" ({ cls := "CordSealsModel", name := "ifHung", desc := "(II)I" } : Jvm.MethodName) ({ cls := "CordSealsModel", name := "ifHung", desc := "(II)I" } : Jvm.MethodName)) ∈ lw_all := lw_g (lw_at lw_m11 90 rfl) rfl
theorem q2567 : (Jvm.Cond.code ({ cls := "CordSealsModel", name := "ifHung", desc := "(II)I" } : Jvm.MethodName) prog_10_method_99_code (3 : Nat) (Option.some Jvm.ClassFile.FieldType.int)) ∈ lw_all := lw_g (lw_at lw_m11 91 rfl) rfl
theorem q2569 : (Jvm.Cond.instanceMethod ({ cls := "CordSealsModel", name := "inYear", desc := "(I)I" } : Jvm.MethodName)) ∈ lw_all := lw_g (lw_at lw_m11 93 rfl) rfl
theorem q2570 : (Jvm.Cond.selects "CordSealsModel" ({ cls := "CordSealsModel", name := "inYear", desc := "(I)I" } : Jvm.MethodName) ({ cls := "CordSealsModel", name := "inYear", desc := "(I)I" } : Jvm.MethodName)) ∈ lw_all := lw_g (lw_at lw_m11 94 rfl) rfl
theorem q2571 : (Jvm.Cond.code ({ cls := "CordSealsModel", name := "inYear", desc := "(I)I" } : Jvm.MethodName) prog_10_method_100_code (4 : Nat) (Option.some Jvm.ClassFile.FieldType.int)) ∈ lw_all := lw_g (lw_at lw_m11 95 rfl) rfl
theorem q2573 : (Jvm.Cond.instanceMethod ({ cls := "CordSealsModel", name := "leastBubbles", desc := "(II)I" } : Jvm.MethodName)) ∈ lw_all := lw_g (lw_at lw_m11 97 rfl) rfl
theorem q2574 : (Jvm.Cond.selects "CordSealsModel" ({ cls := "CordSealsModel", name := "leastBubbles", desc := "(II)I" } : Jvm.MethodName) ({ cls := "CordSealsModel", name := "leastBubbles", desc := "(II)I" } : Jvm.MethodName)) ∈ lw_all := lw_g (lw_at lw_m11 98 rfl) rfl
theorem q2575 : (Jvm.Cond.code ({ cls := "CordSealsModel", name := "leastBubbles", desc := "(II)I" } : Jvm.MethodName) prog_10_method_101_code (4 : Nat) (Option.some Jvm.ClassFile.FieldType.int)) ∈ lw_all := lw_g (lw_at lw_m11 99 rfl) rfl
theorem q2577 : (Jvm.Cond.instanceMethod ({ cls := "CordSealsModel", name := "runScript", desc := "(IJ)I" } : Jvm.MethodName)) ∈ lw_all := lw_g (lw_at lw_m11 101 rfl) rfl
theorem q2578 : (Jvm.Cond.selects "CordSealsModel" ({ cls := "CordSealsModel", name := "runScript", desc := "(IJ)I" } : Jvm.MethodName) ({ cls := "CordSealsModel", name := "runScript", desc := "(IJ)I" } : Jvm.MethodName)) ∈ lw_all := lw_g (lw_at lw_m11 102 rfl) rfl
theorem q2579 : (Jvm.Cond.code ({ cls := "CordSealsModel", name := "runScript", desc := "(IJ)I" } : Jvm.MethodName) prog_10_method_110_code (5 : Nat) (Option.some Jvm.ClassFile.FieldType.int)) ∈ lw_all := lw_g (lw_at lw_m11 103 rfl) rfl
theorem q2580 : (Jvm.Cond.methodLink "CordSealsModel" (337 : Nat) ({ cls := "CordSealsModel", name := "tens", desc := "(I)J" } : Jvm.MethodName)) ∈ lw_all := lw_g (lw_at lw_m11 104 rfl) rfl
theorem q2581 : (Jvm.Cond.static ({ cls := "CordSealsModel", name := "tens", desc := "(I)J" } : Jvm.MethodName)) ∈ lw_all := lw_g (lw_at lw_m11 105 rfl) rfl
theorem q2582 : (Jvm.Cond.code ({ cls := "CordSealsModel", name := "tens", desc := "(I)J" } : Jvm.MethodName) prog_10_method_6_code (4 : Nat) (Option.some Jvm.ClassFile.FieldType.long)) ∈ lw_all := lw_g (lw_at lw_m11 106 rfl) rfl
theorem q2583 : (Jvm.Cond.constantLong "CordSealsModel" (43 : Nat) (10 : Int64)) ∈ lw_all := lw_g (lw_at lw_m11 107 rfl) rfl
theorem q2584 : (Jvm.Cond.constantLong "CordSealsModel" (341 : Nat) (1000000 : Int64)) ∈ lw_all := lw_g (lw_at lw_m11 108 rfl) rfl
theorem q2585 : (Jvm.Cond.methodLink "CordSealsModel" (343 : Nat) ({ cls := "CordSealsModel", name := "command", desc := "(I)Z" } : Jvm.MethodName)) ∈ lw_all := lw_g (lw_at lw_m11 109 rfl) rfl
theorem q2586 : (Jvm.Cond.privateMethod ({ cls := "CordSealsModel", name := "command", desc := "(I)Z" } : Jvm.MethodName)) ∈ lw_tbl := lw_at lw_m11 110 rfl
theorem q2587 : (Jvm.Cond.instanceMethod ({ cls := "CordSealsModel", name := "command", desc := "(I)Z" } : Jvm.MethodName)) ∈ lw_all := lw_g (lw_at lw_m11 111 rfl) rfl
theorem q2588 : (Jvm.Cond.code ({ cls := "CordSealsModel", name := "command", desc := "(I)Z" } : Jvm.MethodName) prog_10_method_109_code (7 : Nat) (Option.some Jvm.ClassFile.FieldType.boolean)) ∈ lw_all := lw_g (lw_at lw_m11 112 rfl) rfl
theorem q2589 : (Jvm.Cond.constant "CordSealsModel" (315 : Nat) (100000 : Int32)) ∈ lw_all := lw_g (lw_at lw_m11 113 rfl) rfl
theorem q2590 : (Jvm.Cond.methodLink "CordSealsModel" (316 : Nat) ({ cls := "CordSealsModel", name := "runCrack", desc := "(II)Z" } : Jvm.MethodName)) ∈ lw_all := lw_g (lw_at lw_m11 114 rfl) rfl
theorem q2591 : (Jvm.Cond.privateMethod ({ cls := "CordSealsModel", name := "runCrack", desc := "(II)Z" } : Jvm.MethodName)) ∈ lw_tbl := lw_at lw_m11 115 rfl
theorem q2592 : (Jvm.Cond.instanceMethod ({ cls := "CordSealsModel", name := "runCrack", desc := "(II)Z" } : Jvm.MethodName)) ∈ lw_all := lw_g (lw_at lw_m11 116 rfl) rfl
theorem q2593 : (Jvm.Cond.code ({ cls := "CordSealsModel", name := "runCrack", desc := "(II)Z" } : Jvm.MethodName) prog_10_method_102_code (3 : Nat) (Option.some Jvm.ClassFile.FieldType.boolean)) ∈ lw_all := lw_g (lw_at lw_m11 117 rfl) rfl
theorem q2594 : (Jvm.Cond.methodLink "CordSealsModel" (319 : Nat) ({ cls := "CordSealsModel", name := "runHang", desc := "(II)Z" } : Jvm.MethodName)) ∈ lw_all := lw_g (lw_at lw_m11 118 rfl) rfl
theorem q2595 : (Jvm.Cond.privateMethod ({ cls := "CordSealsModel", name := "runHang", desc := "(II)Z" } : Jvm.MethodName)) ∈ lw_tbl := lw_at lw_m11 119 rfl
theorem q2596 : (Jvm.Cond.instanceMethod ({ cls := "CordSealsModel", name := "runHang", desc := "(II)Z" } : Jvm.MethodName)) ∈ lw_all := lw_g (lw_at lw_m11 120 rfl) rfl
theorem q2597 : (Jvm.Cond.code ({ cls := "CordSealsModel", name := "runHang", desc := "(II)Z" } : Jvm.MethodName) prog_10_method_103_code (3 : Nat) (Option.some Jvm.ClassFile.FieldType.boolean)) ∈ lw_all := lw_g (lw_at lw_m11 121 rfl) rfl
theorem q2598 : (Jvm.Cond.methodLink "CordSealsModel" (322 : Nat) ({ cls := "CordSealsModel", name := "runCut", desc := "(I)Z" } : Jvm.MethodName)) ∈ lw_all := lw_g (lw_at lw_m11 122 rfl) rfl
theorem q2599 : (Jvm.Cond.privateMethod ({ cls := "CordSealsModel", name := "runCut", desc := "(I)Z" } : Jvm.MethodName)) ∈ lw_tbl := lw_at lw_m11 123 rfl
theorem q2600 : (Jvm.Cond.instanceMethod ({ cls := "CordSealsModel", name := "runCut", desc := "(I)Z" } : Jvm.MethodName)) ∈ lw_all := lw_g (lw_at lw_m11 124 rfl) rfl
theorem q2601 : (Jvm.Cond.code ({ cls := "CordSealsModel", name := "runCut", desc := "(I)Z" } : Jvm.MethodName) prog_10_method_104_code (2 : Nat) (Option.some Jvm.ClassFile.FieldType.boolean)) ∈ lw_all := lw_g (lw_at lw_m11 125 rfl) rfl
theorem q2602 : (Jvm.Cond.methodLink "CordSealsModel" (325 : Nat) ({ cls := "CordSealsModel", name := "runShelve", desc := "(III)Z" } : Jvm.MethodName)) ∈ lw_all := lw_g (lw_at lw_m11 126 rfl) rfl
theorem q2603 : (Jvm.Cond.privateMethod ({ cls := "CordSealsModel", name := "runShelve", desc := "(III)Z" } : Jvm.MethodName)) ∈ lw_tbl := lw_at lw_m11 127 rfl
theorem q2604 : (Jvm.Cond.instanceMethod ({ cls := "CordSealsModel", name := "runShelve", desc := "(III)Z" } : Jvm.MethodName)) ∈ lw_all := lw_g (lw_at lw_m11 128 rfl) rfl
theorem q2605 : (Jvm.Cond.code ({ cls := "CordSealsModel", name := "runShelve", desc := "(III)Z" } : Jvm.MethodName) prog_10_method_105_code (4 : Nat) (Option.some Jvm.ClassFile.FieldType.boolean)) ∈ lw_all := lw_g (lw_at lw_m11 129 rfl) rfl
theorem q2606 : (Jvm.Cond.methodLink "CordSealsModel" (328 : Nat) ({ cls := "CordSealsModel", name := "runShow", desc := "(II)Z" } : Jvm.MethodName)) ∈ lw_all := lw_g (lw_at lw_m11 130 rfl) rfl
theorem q2607 : (Jvm.Cond.privateMethod ({ cls := "CordSealsModel", name := "runShow", desc := "(II)Z" } : Jvm.MethodName)) ∈ lw_tbl := lw_at lw_m11 131 rfl
theorem q2608 : (Jvm.Cond.instanceMethod ({ cls := "CordSealsModel", name := "runShow", desc := "(II)Z" } : Jvm.MethodName)) ∈ lw_all := lw_g (lw_at lw_m11 132 rfl) rfl
theorem q2609 : (Jvm.Cond.code ({ cls := "CordSealsModel", name := "runShow", desc := "(II)Z" } : Jvm.MethodName) prog_10_method_106_code (3 : Nat) (Option.some Jvm.ClassFile.FieldType.boolean)) ∈ lw_all := lw_g (lw_at lw_m11 133 rfl) rfl
theorem q2610 : (Jvm.Cond.methodLink "CordSealsModel" (331 : Nat) ({ cls := "CordSealsModel", name := "runSort", desc := "(I)Z" } : Jvm.MethodName)) ∈ lw_all := lw_g (lw_at lw_m11 134 rfl) rfl
theorem q2611 : (Jvm.Cond.privateMethod ({ cls := "CordSealsModel", name := "runSort", desc := "(I)Z" } : Jvm.MethodName)) ∈ lw_tbl := lw_at lw_m11 135 rfl
theorem q2612 : (Jvm.Cond.instanceMethod ({ cls := "CordSealsModel", name := "runSort", desc := "(I)Z" } : Jvm.MethodName)) ∈ lw_all := lw_g (lw_at lw_m11 136 rfl) rfl
theorem q2613 : (Jvm.Cond.code ({ cls := "CordSealsModel", name := "runSort", desc := "(I)Z" } : Jvm.MethodName) prog_10_method_107_code (2 : Nat) (Option.some Jvm.ClassFile.FieldType.boolean)) ∈ lw_all := lw_g (lw_at lw_m11 137 rfl) rfl
theorem q2614 : (Jvm.Cond.methodLink "CordSealsModel" (334 : Nat) ({ cls := "CordSealsModel", name := "runSet", desc := "(II)Z" } : Jvm.MethodName)) ∈ lw_all := lw_g (lw_at lw_m11 138 rfl) rfl
theorem q2615 : (Jvm.Cond.privateMethod ({ cls := "CordSealsModel", name := "runSet", desc := "(II)Z" } : Jvm.MethodName)) ∈ lw_tbl := lw_at lw_m11 139 rfl
theorem q2616 : (Jvm.Cond.instanceMethod ({ cls := "CordSealsModel", name := "runSet", desc := "(II)Z" } : Jvm.MethodName)) ∈ lw_all := lw_g (lw_at lw_m11 140 rfl) rfl
theorem q2617 : (Jvm.Cond.code ({ cls := "CordSealsModel", name := "runSet", desc := "(II)Z" } : Jvm.MethodName) prog_10_method_108_code (3 : Nat) (Option.some Jvm.ClassFile.FieldType.boolean)) ∈ lw_all := lw_g (lw_at lw_m11 141 rfl) rfl
theorem q2619 : (Jvm.Cond.instanceMethod ({ cls := "CordSealsModel", name := "simulate", desc := "(JI)I" } : Jvm.MethodName)) ∈ lw_all := lw_g (lw_at lw_m11 143 rfl) rfl
theorem q2620 : (Jvm.Cond.selects "CordSealsModel" ({ cls := "CordSealsModel", name := "simulate", desc := "(JI)I" } : Jvm.MethodName) ({ cls := "CordSealsModel", name := "simulate", desc := "(JI)I" } : Jvm.MethodName)) ∈ lw_all := lw_g (lw_at lw_m11 144 rfl) rfl
theorem q2621 : (Jvm.Cond.code ({ cls := "CordSealsModel", name := "simulate", desc := "(JI)I" } : Jvm.MethodName) prog_10_method_112_code (7 : Nat) (Option.some Jvm.ClassFile.FieldType.int)) ∈ lw_all := lw_g (lw_at lw_m11 145 rfl) rfl
theorem q2622 : (Jvm.Cond.constantLong "CordSealsModel" (346 : Nat) (60 : Int64)) ∈ lw_all := lw_g (lw_at lw_m11 146 rfl) rfl
theorem q2623 : (Jvm.Cond.constantLong "CordSealsModel" (348 : Nat) (6364136223846793005 : Int64)) ∈ lw_all := lw_g (lw_at lw_m11 147 rfl) rfl
theorem q2624 : (Jvm.Cond.constantLong "CordSealsModel" (350 : Nat) (1442695040888963407 : Int64)) ∈ lw_all := lw_g (lw_at lw_m11 148 rfl) rfl
theorem q2625 : (Jvm.Cond.methodLink "CordSealsModel" (352 : Nat) ({ cls := "CordSealsModel", name := "stir", desc := "(I)V" } : Jvm.MethodName)) ∈ lw_all := lw_g (lw_at lw_m11 149 rfl) rfl
theorem q2626 : (Jvm.Cond.privateMethod ({ cls := "CordSealsModel", name := "stir", desc := "(I)V" } : Jvm.MethodName)) ∈ lw_tbl := lw_at lw_m11 150 rfl
theorem q2627 : (Jvm.Cond.instanceMethod ({ cls := "CordSealsModel", name := "stir", desc := "(I)V" } : Jvm.MethodName)) ∈ lw_all := lw_g (lw_at lw_m11 151 rfl) rfl
theorem q2628 : (Jvm.Cond.code ({ cls := "CordSealsModel", name := "stir", desc := "(I)V" } : Jvm.MethodName) prog_10_method_111_code (4 : Nat) (Option.none : Option Jvm.ClassFile.FieldType)) ∈ lw_all := lw_g (lw_at lw_m11 152 rfl) rfl
theorem q2630 : (Jvm.Cond.instanceMethod ({ cls := "CordSealsModel", name := "save", desc := "(I)I" } : Jvm.MethodName)) ∈ lw_all := lw_g (lw_at lw_m11 154 rfl) rfl
theorem q2631 : (Jvm.Cond.selects "CordSealsModel" ({ cls := "CordSealsModel", name := "save", desc := "(I)I" } : Jvm.MethodName) ({ cls := "CordSealsModel", name := "save", desc := "(I)I" } : Jvm.MethodName)) ∈ lw_all := lw_g (lw_at lw_m11 155 rfl) rfl
theorem q2632 : (Jvm.Cond.code ({ cls := "CordSealsModel", name := "save", desc := "(I)I" } : Jvm.MethodName) prog_10_method_113_code (3 : Nat) (Option.some Jvm.ClassFile.FieldType.int)) ∈ lw_all := lw_g (lw_at lw_m11 156 rfl) rfl
theorem q2634 : (Jvm.Cond.instanceMethod ({ cls := "CordSealsModel", name := "restore", desc := "(I)I" } : Jvm.MethodName)) ∈ lw_all := lw_g (lw_at lw_m11 158 rfl) rfl
theorem q2635 : (Jvm.Cond.selects "CordSealsModel" ({ cls := "CordSealsModel", name := "restore", desc := "(I)I" } : Jvm.MethodName) ({ cls := "CordSealsModel", name := "restore", desc := "(I)I" } : Jvm.MethodName)) ∈ lw_all := lw_g (lw_at lw_m11 159 rfl) rfl
theorem q2636 : (Jvm.Cond.code ({ cls := "CordSealsModel", name := "restore", desc := "(I)I" } : Jvm.MethodName) prog_10_method_114_code (3 : Nat) (Option.some Jvm.ClassFile.FieldType.int)) ∈ lw_all := lw_g (lw_at lw_m11 160 rfl) rfl
theorem q2663 : (Jvm.Cond.castable "CordSealsModel" "java/lang/Object") ∈ lw_tbl := lw_at lw_m11 187 rfl
theorem in_X3 : ∀ w ∈ wsX30, w ∈ lw_all := lw_in wsX30 [2173, 2175, 2177, 2179, 2181, 2183, 2185, 2187, 2189, 2191, 2193, 2195, 2197, 2199, 2201, 2203, 2205, 2207] (by decide +kernel) (by decide +kernel)
def RX4 : String := "CordSeals$Reign"
def TX4 : u_T := fun k => match k with
  | 0 => ("CordSeals$Reign", "year", "I", true)
  | _ => ("CordSeals$Reign", "colours", "I", true)
def tyX4 : Nat → FieldType := fun k => match k with
  | 0 => .int
  | _ => .int
abbrev wsX40 : List Cond := u_ws RX4 TX4 2
theorem nmX4 : ∀ a, a < 2 → ∀ b, b < 2 → a ≠ b → (TX4 a).2.1 ≠ (TX4 b).2.1 := by decide +kernel
theorem tyX4_ok : ∀ k, k < 2 → parseFieldDescriptor (TX4 k).2.2.1 = some (tyX4 k) := by decide +kernel
abbrev cX4_init : ByteArray := prog_6_method_1_code
def yX4_init : MethodName := ⟨RX4, "<init>", "(II)V"⟩
def dkwX4_init_0 : List UInt8 := [42, 183, 0, 1, 42, 27, 181, 0, 7, 42, 28, 181, 0, 13, 177]
abbrev dktX4_init_0 : List UInt8 := dkwX4_init_0 ++ []
theorem dksX4_init_0 : cX4_init.data.toList.drop 0 = dktX4_init_0 := by decide +kernel
theorem dX4_init_0 : decode cX4_init 0 = .ok (.aload_n 0, 1) := dk_42 (dk_at dksX4_init_0 0 rfl rfl)
theorem dX4_init_1 : decode cX4_init 1 = .ok (.invokespecial 1, 3) := dk_183 0 1 (dk_at dksX4_init_0 1 rfl rfl)
theorem dX4_init_4 : decode cX4_init 4 = .ok (.aload_n 0, 1) := dk_42 (dk_at dksX4_init_0 4 rfl rfl)
theorem dX4_init_5 : decode cX4_init 5 = .ok (.iload_n 1, 1) := dk_27 (dk_at dksX4_init_0 5 rfl rfl)
theorem dX4_init_6 : decode cX4_init 6 = .ok (.putfield 7, 3) := dk_181 0 7 (dk_at dksX4_init_0 6 rfl rfl)
theorem dX4_init_9 : decode cX4_init 9 = .ok (.aload_n 0, 1) := dk_42 (dk_at dksX4_init_0 9 rfl rfl)
theorem dX4_init_10 : decode cX4_init 10 = .ok (.iload_n 2, 1) := dk_28 (dk_at dksX4_init_0 10 rfl rfl)
theorem dX4_init_11 : decode cX4_init 11 = .ok (.putfield 13, 3) := dk_181 0 13 (dk_at dksX4_init_0 11 rfl rfl)
theorem dX4_init_14 : decode cX4_init 14 = .ok (.return_, 1) := dk_177 (dk_at dksX4_init_0 14 rfl rfl)
theorem q106 : (Jvm.Cond.initialized "CordSeals$Reign") ∈ lw_all := lw_g (lw_at lw_m1 30 rfl) rfl
theorem q234 : (Jvm.Cond.selects "CordSeals$Reign" ({ cls := "java/lang/Object", name := "getClass", desc := "()Ljava/lang/Class;" } : Jvm.MethodName) ({ cls := "java/lang/Object", name := "getClass", desc := "()Ljava/lang/Class;" } : Jvm.MethodName)) ∈ lw_all := lw_g (lw_at lw_m1 158 rfl) rfl
theorem q808 : (Jvm.Cond.instantiable "CordSeals$Reign" (2 : Nat)) ∈ lw_all := lw_g (lw_at lw_m4 12 rfl) rfl
theorem q810 : (Jvm.Cond.instanceMethod ({ cls := "CordSeals$Reign", name := "<init>", desc := "(II)V" } : Jvm.MethodName)) ∈ lw_all := lw_g (lw_at lw_m4 14 rfl) rfl
theorem q811 : (Jvm.Cond.code ({ cls := "CordSeals$Reign", name := "<init>", desc := "(II)V" } : Jvm.MethodName) prog_6_method_1_code (3 : Nat) (Option.none : Option Jvm.ClassFile.FieldType)) ∈ lw_all := lw_g (lw_at lw_m4 15 rfl) rfl
theorem q812 : (Jvm.Cond.methodLink "CordSeals$Reign" (1 : Nat) ({ cls := "java/lang/Object", name := "<init>", desc := "()V" } : Jvm.MethodName)) ∈ lw_all := lw_g (lw_at lw_m4 16 rfl) rfl
theorem q813 : (Jvm.Cond.fieldLink "CordSeals$Reign" (7 : Nat) "CordSeals$Reign" "year" "I") ∈ lw_all := lw_g (lw_at lw_m4 17 rfl) rfl
theorem q816 : (Jvm.Cond.fieldLink "CordSeals$Reign" (13 : Nat) "CordSeals$Reign" "colours" "I") ∈ lw_all := lw_g (lw_at lw_m4 20 rfl) rfl
theorem q819 : (Jvm.Cond.laysFinal "CordSeals$Reign" "CordSeals$Reign" "year" "I") ∈ lw_all := lw_g (lw_at lw_m4 23 rfl) rfl
theorem q820 : (Jvm.Cond.soleField "CordSeals$Reign" "year") ∈ lw_all := lw_g (lw_at lw_m4 24 rfl) rfl
theorem q821 : (Jvm.Cond.laysFinal "CordSeals$Reign" "CordSeals$Reign" "colours" "I") ∈ lw_all := lw_g (lw_at lw_m4 25 rfl) rfl
theorem q822 : (Jvm.Cond.soleField "CordSeals$Reign" "colours") ∈ lw_all := lw_g (lw_at lw_m4 26 rfl) rfl
theorem q823 : (Jvm.Cond.superclass "CordSeals$Reign" "java/lang/Object") ∈ lw_all := lw_g (lw_at lw_m4 27 rfl) rfl
theorem q941 : (Jvm.Cond.selects "CordSeals$Reign" ({ cls := "java/lang/Object", name := "equals", desc := "(Ljava/lang/Object;)Z" } : Jvm.MethodName) ({ cls := "java/lang/Object", name := "equals", desc := "(Ljava/lang/Object;)Z" } : Jvm.MethodName)) ∈ lw_all := lw_g (lw_at lw_m4 145 rfl) rfl
theorem q2669 : (Jvm.Cond.castable "CordSeals$Reign" "java/lang/Object") ∈ lw_tbl := lw_at lw_m11 193 rfl
theorem in_X4 : ∀ w ∈ wsX40, w ∈ lw_all := lw_in wsX40 [819, 821] (by decide +kernel) (by decide +kernel)
def RX5 : String := "CordSeals$Die"
def TX5 : u_T := fun k => match k with
  | 0 => ("CordSeals$Die", "house", "I", true)
  | 1 => ("CordSeals$Die", "from", "I", true)
  | 2 => ("CordSeals$Die", "to", "I", true)
  | _ => ("CordSeals$Die", "cracks", "Ljava/util/List;", true)
def tyX5 : Nat → FieldType := fun k => match k with
  | 0 => .int
  | 1 => .int
  | 2 => .int
  | _ => .object "java/util/List"
abbrev wsX50 : List Cond := u_ws RX5 TX5 4
theorem nmX5 : ∀ a, a < 4 → ∀ b, b < 4 → a ≠ b → (TX5 a).2.1 ≠ (TX5 b).2.1 := by decide +kernel
theorem tyX5_ok : ∀ k, k < 4 → parseFieldDescriptor (TX5 k).2.2.1 = some (tyX5 k) := by decide +kernel
abbrev cX5_init : ByteArray := prog_5_method_1_code
def yX5_init : MethodName := ⟨RX5, "<init>", "(III)V"⟩
def dkwX5_init_1 : List UInt8 := [181, 0, 22, 42, 29, 181, 0, 25, 177]
abbrev dktX5_init_1 : List UInt8 := dkwX5_init_1 ++ []
def dkwX5_init_0 : List UInt8 := [42, 183, 0, 3, 42, 187, 0, 9, 89, 183, 0, 11, 181, 0, 12, 42, 27, 181, 0, 18, 42, 28]
abbrev dktX5_init_0 : List UInt8 := dkwX5_init_0 ++ dktX5_init_1
theorem dksX5_init_0 : cX5_init.data.toList.drop 0 = dktX5_init_0 := by decide +kernel
theorem dksX5_init_1 : cX5_init.data.toList.drop 22 = dktX5_init_1 := dk_seg dksX5_init_0 22 rfl rfl
theorem dX5_init_0 : decode cX5_init 0 = .ok (.aload_n 0, 1) := dk_42 (dk_at dksX5_init_0 0 rfl rfl)
theorem dX5_init_1 : decode cX5_init 1 = .ok (.invokespecial 3, 3) := dk_183 0 3 (dk_at dksX5_init_0 1 rfl rfl)
theorem dX5_init_4 : decode cX5_init 4 = .ok (.aload_n 0, 1) := dk_42 (dk_at dksX5_init_0 4 rfl rfl)
theorem dX5_init_5 : decode cX5_init 5 = .ok (.new 9, 3) := dk_187 0 9 (dk_at dksX5_init_0 5 rfl rfl)
theorem dX5_init_8 : decode cX5_init 8 = .ok (.dup, 1) := dk_89 (dk_at dksX5_init_0 8 rfl rfl)
theorem dX5_init_9 : decode cX5_init 9 = .ok (.invokespecial 11, 3) := dk_183 0 11 (dk_at dksX5_init_0 9 rfl rfl)
theorem dX5_init_12 : decode cX5_init 12 = .ok (.putfield 12, 3) := dk_181 0 12 (dk_at dksX5_init_0 12 rfl rfl)
theorem dX5_init_15 : decode cX5_init 15 = .ok (.aload_n 0, 1) := dk_42 (dk_at dksX5_init_0 15 rfl rfl)
theorem dX5_init_16 : decode cX5_init 16 = .ok (.iload_n 1, 1) := dk_27 (dk_at dksX5_init_0 16 rfl rfl)
theorem dX5_init_17 : decode cX5_init 17 = .ok (.putfield 18, 3) := dk_181 0 18 (dk_at dksX5_init_0 17 rfl rfl)
theorem dX5_init_20 : decode cX5_init 20 = .ok (.aload_n 0, 1) := dk_42 (dk_at dksX5_init_0 20 rfl rfl)
theorem dX5_init_21 : decode cX5_init 21 = .ok (.iload_n 2, 1) := dk_28 (dk_at dksX5_init_0 21 rfl rfl)
theorem dX5_init_22 : decode cX5_init 22 = .ok (.putfield 22, 3) := dk_181 0 22 (dk_at dksX5_init_1 0 rfl rfl)
theorem dX5_init_25 : decode cX5_init 25 = .ok (.aload_n 0, 1) := dk_42 (dk_at dksX5_init_1 3 rfl rfl)
theorem dX5_init_26 : decode cX5_init 26 = .ok (.iload_n 3, 1) := dk_29 (dk_at dksX5_init_1 4 rfl rfl)
theorem dX5_init_27 : decode cX5_init 27 = .ok (.putfield 25, 3) := dk_181 0 25 (dk_at dksX5_init_1 5 rfl rfl)
theorem dX5_init_30 : decode cX5_init 30 = .ok (.return_, 1) := dk_177 (dk_at dksX5_init_1 8 rfl rfl)
abbrev cX5_canCrack : ByteArray := prog_5_method_3_code
def yX5_canCrack : MethodName := ⟨RX5, "canCrack", "(I)Z"⟩
def dkwX5_canCrack_1 : List UInt8 := [185, 0, 64, 2, 0, 154, 0, 7, 4, 167, 0, 4, 3, 172]
abbrev dktX5_canCrack_1 : List UInt8 := dkwX5_canCrack_1 ++ []
def dkwX5_canCrack_0 : List UInt8 := [42, 180, 0, 12, 185, 0, 61, 1, 0, 7, 162, 0, 23, 42, 180, 0, 12, 27, 184, 0, 53]
abbrev dktX5_canCrack_0 : List UInt8 := dkwX5_canCrack_0 ++ dktX5_canCrack_1
theorem dksX5_canCrack_0 : cX5_canCrack.data.toList.drop 0 = dktX5_canCrack_0 := by decide +kernel
theorem dksX5_canCrack_1 : cX5_canCrack.data.toList.drop 21 = dktX5_canCrack_1 := dk_seg dksX5_canCrack_0 21 rfl rfl
theorem dX5_canCrack_0 : decode cX5_canCrack 0 = .ok (.aload_n 0, 1) := dk_42 (dk_at dksX5_canCrack_0 0 rfl rfl)
theorem dX5_canCrack_1 : decode cX5_canCrack 1 = .ok (.getfield 12, 3) := dk_180 0 12 (dk_at dksX5_canCrack_0 1 rfl rfl)
theorem dX5_canCrack_4 : decode cX5_canCrack 4 = .ok (.invokeinterface 61 1, 5) := by decide +kernel
theorem dX5_canCrack_9 : decode cX5_canCrack 9 = .ok (.iconst 4, 1) := dk_7 (dk_at dksX5_canCrack_0 9 rfl rfl)
theorem dX5_canCrack_10 : decode cX5_canCrack 10 = .ok (.if_icmp .ge 23, 3) := dk_162 0 23 (dk_at dksX5_canCrack_0 10 rfl rfl)
theorem dX5_canCrack_13 : decode cX5_canCrack 13 = .ok (.aload_n 0, 1) := dk_42 (dk_at dksX5_canCrack_0 13 rfl rfl)
theorem dX5_canCrack_14 : decode cX5_canCrack 14 = .ok (.getfield 12, 3) := dk_180 0 12 (dk_at dksX5_canCrack_0 14 rfl rfl)
theorem dX5_canCrack_17 : decode cX5_canCrack 17 = .ok (.iload_n 1, 1) := dk_27 (dk_at dksX5_canCrack_0 17 rfl rfl)
theorem dX5_canCrack_18 : decode cX5_canCrack 18 = .ok (.invokestatic 53, 3) := dk_184 0 53 (dk_at dksX5_canCrack_0 18 rfl rfl)
theorem dX5_canCrack_21 : decode cX5_canCrack 21 = .ok (.invokeinterface 64 2, 5) := by decide +kernel
theorem dX5_canCrack_26 : decode cX5_canCrack 26 = .ok (.ifCond .ne 7, 3) := dk_154 0 7 (dk_at dksX5_canCrack_1 5 rfl rfl)
theorem dX5_canCrack_29 : decode cX5_canCrack 29 = .ok (.iconst 1, 1) := dk_4 (dk_at dksX5_canCrack_1 8 rfl rfl)
theorem dX5_canCrack_30 : decode cX5_canCrack 30 = .ok (.goto 4, 3) := dk_167 0 4 (dk_at dksX5_canCrack_1 9 rfl rfl)
theorem dX5_canCrack_33 : decode cX5_canCrack 33 = .ok (.iconst 0, 1) := dk_3 (dk_at dksX5_canCrack_1 12 rfl rfl)
theorem dX5_canCrack_34 : decode cX5_canCrack 34 = .ok (.ireturn, 1) := dk_172 (dk_at dksX5_canCrack_1 13 rfl rfl)
abbrev cX5_hasCracks : ByteArray := prog_5_method_4_code
def yX5_hasCracks : MethodName := ⟨RX5, "hasCracks", "(I)Z"⟩
def dkwX5_hasCracks_0 : List UInt8 := [27, 133, 9, 4, 42, 180, 0, 12, 185, 0, 61, 1, 0, 120, 4, 100, 133, 184, 0, 67, 172]
abbrev dktX5_hasCracks_0 : List UInt8 := dkwX5_hasCracks_0 ++ []
theorem dksX5_hasCracks_0 : cX5_hasCracks.data.toList.drop 0 = dktX5_hasCracks_0 := by decide +kernel
theorem dX5_hasCracks_0 : decode cX5_hasCracks 0 = .ok (.iload_n 1, 1) := dk_27 (dk_at dksX5_hasCracks_0 0 rfl rfl)
theorem dX5_hasCracks_1 : decode cX5_hasCracks 1 = .ok (.i2l, 1) := dk_133 (dk_at dksX5_hasCracks_0 1 rfl rfl)
theorem dX5_hasCracks_2 : decode cX5_hasCracks 2 = .ok (.lconst 0, 1) := dk_9 (dk_at dksX5_hasCracks_0 2 rfl rfl)
theorem dX5_hasCracks_3 : decode cX5_hasCracks 3 = .ok (.iconst 1, 1) := dk_4 (dk_at dksX5_hasCracks_0 3 rfl rfl)
theorem dX5_hasCracks_4 : decode cX5_hasCracks 4 = .ok (.aload_n 0, 1) := dk_42 (dk_at dksX5_hasCracks_0 4 rfl rfl)
theorem dX5_hasCracks_5 : decode cX5_hasCracks 5 = .ok (.getfield 12, 3) := dk_180 0 12 (dk_at dksX5_hasCracks_0 5 rfl rfl)
theorem dX5_hasCracks_8 : decode cX5_hasCracks 8 = .ok (.invokeinterface 61 1, 5) := by decide +kernel
theorem dX5_hasCracks_13 : decode cX5_hasCracks 13 = .ok (.ishl, 1) := dk_120 (dk_at dksX5_hasCracks_0 13 rfl rfl)
theorem dX5_hasCracks_14 : decode cX5_hasCracks 14 = .ok (.iconst 1, 1) := dk_4 (dk_at dksX5_hasCracks_0 14 rfl rfl)
theorem dX5_hasCracks_15 : decode cX5_hasCracks 15 = .ok (.isub, 1) := dk_100 (dk_at dksX5_hasCracks_0 15 rfl rfl)
theorem dX5_hasCracks_16 : decode cX5_hasCracks 16 = .ok (.i2l, 1) := dk_133 (dk_at dksX5_hasCracks_0 16 rfl rfl)
theorem dX5_hasCracks_17 : decode cX5_hasCracks 17 = .ok (.invokestatic 67, 3) := dk_184 0 67 (dk_at dksX5_hasCracks_0 17 rfl rfl)
theorem dX5_hasCracks_20 : decode cX5_hasCracks 20 = .ok (.ireturn, 1) := dk_172 (dk_at dksX5_hasCracks_0 20 rfl rfl)
abbrev cX5_copy : ByteArray := prog_5_method_2_code
def yX5_copy : MethodName := ⟨RX5, "copy", "()LCordSeals$Die;"⟩
def dkwX5_copy_2 : List UInt8 := [182, 0, 49, 62, 43, 180, 0, 12, 29, 184, 0, 53, 185, 0, 57, 2, 0, 87, 167, 255, 220, 43, 176]
abbrev dktX5_copy_2 : List UInt8 := dkwX5_copy_2 ++ []
def dkwX5_copy_1 : List UInt8 := [185, 0, 31, 1, 0, 77, 44, 185, 0, 37, 1, 0, 153, 0, 33, 44, 185, 0, 43, 1, 0, 192, 0, 47]
abbrev dktX5_copy_1 : List UInt8 := dkwX5_copy_1 ++ dktX5_copy_2
def dkwX5_copy_0 : List UInt8 := [187, 0, 13, 89, 42, 180, 0, 18, 42, 180, 0, 22, 42, 180, 0, 25, 183, 0, 28, 76, 42, 180, 0, 12]
abbrev dktX5_copy_0 : List UInt8 := dkwX5_copy_0 ++ dktX5_copy_1
theorem dksX5_copy_0 : cX5_copy.data.toList.drop 0 = dktX5_copy_0 := by decide +kernel
theorem dksX5_copy_1 : cX5_copy.data.toList.drop 24 = dktX5_copy_1 := dk_seg dksX5_copy_0 24 rfl rfl
theorem dksX5_copy_2 : cX5_copy.data.toList.drop 48 = dktX5_copy_2 := dk_seg dksX5_copy_1 24 rfl rfl
theorem dX5_copy_0 : decode cX5_copy 0 = .ok (.new 13, 3) := dk_187 0 13 (dk_at dksX5_copy_0 0 rfl rfl)
theorem dX5_copy_3 : decode cX5_copy 3 = .ok (.dup, 1) := dk_89 (dk_at dksX5_copy_0 3 rfl rfl)
theorem dX5_copy_4 : decode cX5_copy 4 = .ok (.aload_n 0, 1) := dk_42 (dk_at dksX5_copy_0 4 rfl rfl)
theorem dX5_copy_5 : decode cX5_copy 5 = .ok (.getfield 18, 3) := dk_180 0 18 (dk_at dksX5_copy_0 5 rfl rfl)
theorem dX5_copy_8 : decode cX5_copy 8 = .ok (.aload_n 0, 1) := dk_42 (dk_at dksX5_copy_0 8 rfl rfl)
theorem dX5_copy_9 : decode cX5_copy 9 = .ok (.getfield 22, 3) := dk_180 0 22 (dk_at dksX5_copy_0 9 rfl rfl)
theorem dX5_copy_12 : decode cX5_copy 12 = .ok (.aload_n 0, 1) := dk_42 (dk_at dksX5_copy_0 12 rfl rfl)
theorem dX5_copy_13 : decode cX5_copy 13 = .ok (.getfield 25, 3) := dk_180 0 25 (dk_at dksX5_copy_0 13 rfl rfl)
theorem dX5_copy_16 : decode cX5_copy 16 = .ok (.invokespecial 28, 3) := dk_183 0 28 (dk_at dksX5_copy_0 16 rfl rfl)
theorem dX5_copy_19 : decode cX5_copy 19 = .ok (.astore_n 1, 1) := dk_76 (dk_at dksX5_copy_0 19 rfl rfl)
theorem dX5_copy_20 : decode cX5_copy 20 = .ok (.aload_n 0, 1) := dk_42 (dk_at dksX5_copy_0 20 rfl rfl)
theorem dX5_copy_21 : decode cX5_copy 21 = .ok (.getfield 12, 3) := dk_180 0 12 (dk_at dksX5_copy_0 21 rfl rfl)
theorem dX5_copy_24 : decode cX5_copy 24 = .ok (.invokeinterface 31 1, 5) := by decide +kernel
theorem dX5_copy_29 : decode cX5_copy 29 = .ok (.astore_n 2, 1) := dk_77 (dk_at dksX5_copy_1 5 rfl rfl)
theorem dX5_copy_30 : decode cX5_copy 30 = .ok (.aload_n 2, 1) := dk_44 (dk_at dksX5_copy_1 6 rfl rfl)
theorem dX5_copy_31 : decode cX5_copy 31 = .ok (.invokeinterface 37 1, 5) := by decide +kernel
theorem dX5_copy_36 : decode cX5_copy 36 = .ok (.ifCond .eq 33, 3) := dk_153 0 33 (dk_at dksX5_copy_1 12 rfl rfl)
theorem dX5_copy_39 : decode cX5_copy 39 = .ok (.aload_n 2, 1) := dk_44 (dk_at dksX5_copy_1 15 rfl rfl)
theorem dX5_copy_40 : decode cX5_copy 40 = .ok (.invokeinterface 43 1, 5) := by decide +kernel
theorem dX5_copy_45 : decode cX5_copy 45 = .ok (.checkcast 47, 3) := dk_192 0 47 (dk_at dksX5_copy_1 21 rfl rfl)
theorem dX5_copy_48 : decode cX5_copy 48 = .ok (.invokevirtual 49, 3) := dk_182 0 49 (dk_at dksX5_copy_2 0 rfl rfl)
theorem dX5_copy_51 : decode cX5_copy 51 = .ok (.istore_n 3, 1) := dk_62 (dk_at dksX5_copy_2 3 rfl rfl)
theorem dX5_copy_52 : decode cX5_copy 52 = .ok (.aload_n 1, 1) := dk_43 (dk_at dksX5_copy_2 4 rfl rfl)
theorem dX5_copy_53 : decode cX5_copy 53 = .ok (.getfield 12, 3) := dk_180 0 12 (dk_at dksX5_copy_2 5 rfl rfl)
theorem dX5_copy_56 : decode cX5_copy 56 = .ok (.iload_n 3, 1) := dk_29 (dk_at dksX5_copy_2 8 rfl rfl)
theorem dX5_copy_57 : decode cX5_copy 57 = .ok (.invokestatic 53, 3) := dk_184 0 53 (dk_at dksX5_copy_2 9 rfl rfl)
theorem dX5_copy_60 : decode cX5_copy 60 = .ok (.invokeinterface 57 2, 5) := by decide +kernel
theorem dX5_copy_65 : decode cX5_copy 65 = .ok (.pop, 1) := dk_87 (dk_at dksX5_copy_2 17 rfl rfl)
theorem dX5_copy_66 : decode cX5_copy 66 = .ok (.goto (-36), 3) := dk_167 255 220 (dk_at dksX5_copy_2 18 rfl rfl)
theorem dX5_copy_69 : decode cX5_copy 69 = .ok (.aload_n 1, 1) := dk_43 (dk_at dksX5_copy_2 21 rfl rfl)
theorem dX5_copy_70 : decode cX5_copy 70 = .ok (.areturn, 1) := dk_176 (dk_at dksX5_copy_2 22 rfl rfl)
theorem q107 : (Jvm.Cond.initialized "CordSeals$Die") ∈ lw_all := lw_g (lw_at lw_m1 31 rfl) rfl
theorem q233 : (Jvm.Cond.selects "CordSeals$Die" ({ cls := "java/lang/Object", name := "getClass", desc := "()Ljava/lang/Class;" } : Jvm.MethodName) ({ cls := "java/lang/Object", name := "getClass", desc := "()Ljava/lang/Class;" } : Jvm.MethodName)) ∈ lw_all := lw_g (lw_at lw_m1 157 rfl) rfl
theorem q848 : (Jvm.Cond.instantiable "CordSeals$Die" (4 : Nat)) ∈ lw_all := lw_g (lw_at lw_m4 52 rfl) rfl
theorem q850 : (Jvm.Cond.instanceMethod ({ cls := "CordSeals$Die", name := "<init>", desc := "(III)V" } : Jvm.MethodName)) ∈ lw_all := lw_g (lw_at lw_m4 54 rfl) rfl
theorem q851 : (Jvm.Cond.code ({ cls := "CordSeals$Die", name := "<init>", desc := "(III)V" } : Jvm.MethodName) prog_5_method_1_code (4 : Nat) (Option.none : Option Jvm.ClassFile.FieldType)) ∈ lw_all := lw_g (lw_at lw_m4 55 rfl) rfl
theorem q852 : (Jvm.Cond.methodLink "CordSeals$Die" (3 : Nat) ({ cls := "java/lang/Object", name := "<init>", desc := "()V" } : Jvm.MethodName)) ∈ lw_all := lw_g (lw_at lw_m4 56 rfl) rfl
theorem q853 : (Jvm.Cond.classLink "CordSeals$Die" (9 : Nat) "java/util/ArrayList") ∈ lw_all := lw_g (lw_at lw_m4 57 rfl) rfl
theorem q854 : (Jvm.Cond.methodLink "CordSeals$Die" (11 : Nat) ({ cls := "java/util/ArrayList", name := "<init>", desc := "()V" } : Jvm.MethodName)) ∈ lw_all := lw_g (lw_at lw_m4 58 rfl) rfl
theorem q855 : (Jvm.Cond.fieldLink "CordSeals$Die" (18 : Nat) "CordSeals$Die" "house" "I") ∈ lw_all := lw_g (lw_at lw_m4 59 rfl) rfl
theorem q858 : (Jvm.Cond.fieldLink "CordSeals$Die" (22 : Nat) "CordSeals$Die" "from" "I") ∈ lw_all := lw_g (lw_at lw_m4 62 rfl) rfl
theorem q861 : (Jvm.Cond.fieldLink "CordSeals$Die" (25 : Nat) "CordSeals$Die" "to" "I") ∈ lw_all := lw_g (lw_at lw_m4 65 rfl) rfl
theorem q864 : (Jvm.Cond.fieldLink "CordSeals$Die" (12 : Nat) "CordSeals$Die" "cracks" "Ljava/util/List;") ∈ lw_all := lw_g (lw_at lw_m4 68 rfl) rfl
theorem q868 : (Jvm.Cond.laysFinal "CordSeals$Die" "CordSeals$Die" "house" "I") ∈ lw_all := lw_g (lw_at lw_m4 72 rfl) rfl
theorem q869 : (Jvm.Cond.soleField "CordSeals$Die" "house") ∈ lw_all := lw_g (lw_at lw_m4 73 rfl) rfl
theorem q870 : (Jvm.Cond.laysFinal "CordSeals$Die" "CordSeals$Die" "from" "I") ∈ lw_all := lw_g (lw_at lw_m4 74 rfl) rfl
theorem q871 : (Jvm.Cond.soleField "CordSeals$Die" "from") ∈ lw_all := lw_g (lw_at lw_m4 75 rfl) rfl
theorem q872 : (Jvm.Cond.laysFinal "CordSeals$Die" "CordSeals$Die" "to" "I") ∈ lw_all := lw_g (lw_at lw_m4 76 rfl) rfl
theorem q873 : (Jvm.Cond.soleField "CordSeals$Die" "to") ∈ lw_all := lw_g (lw_at lw_m4 77 rfl) rfl
theorem q874 : (Jvm.Cond.laysFinal "CordSeals$Die" "CordSeals$Die" "cracks" "Ljava/util/List;") ∈ lw_all := lw_g (lw_at lw_m4 78 rfl) rfl
theorem q875 : (Jvm.Cond.soleField "CordSeals$Die" "cracks") ∈ lw_all := lw_g (lw_at lw_m4 79 rfl) rfl
theorem q876 : (Jvm.Cond.superclass "CordSeals$Die" "java/lang/Object") ∈ lw_all := lw_g (lw_at lw_m4 80 rfl) rfl
theorem q890 : (Jvm.Cond.instanceMethod ({ cls := "CordSeals$Die", name := "canCrack", desc := "(I)Z" } : Jvm.MethodName)) ∈ lw_all := lw_g (lw_at lw_m4 94 rfl) rfl
theorem q891 : (Jvm.Cond.selects "CordSeals$Die" ({ cls := "CordSeals$Die", name := "canCrack", desc := "(I)Z" } : Jvm.MethodName) ({ cls := "CordSeals$Die", name := "canCrack", desc := "(I)Z" } : Jvm.MethodName)) ∈ lw_all := lw_g (lw_at lw_m4 95 rfl) rfl
theorem q892 : (Jvm.Cond.code ({ cls := "CordSeals$Die", name := "canCrack", desc := "(I)Z" } : Jvm.MethodName) prog_5_method_3_code (2 : Nat) (Option.some Jvm.ClassFile.FieldType.boolean)) ∈ lw_all := lw_g (lw_at lw_m4 96 rfl) rfl
theorem q893 : (Jvm.Cond.interfaceEntry "CordSeals$Die" (61 : Nat)) ∈ lw_tbl := lw_at lw_m4 97 rfl
theorem q894 : (Jvm.Cond.methodLink "CordSeals$Die" (61 : Nat) ({ cls := "java/util/List", name := "size", desc := "()I" } : Jvm.MethodName)) ∈ lw_all := lw_g (lw_at lw_m4 98 rfl) rfl
theorem q895 : (Jvm.Cond.methodLink "CordSeals$Die" (53 : Nat) ({ cls := "java/lang/Integer", name := "valueOf", desc := "(I)Ljava/lang/Integer;" } : Jvm.MethodName)) ∈ lw_all := lw_g (lw_at lw_m4 99 rfl) rfl
theorem q915 : (Jvm.Cond.interfaceEntry "CordSeals$Die" (64 : Nat)) ∈ lw_tbl := lw_at lw_m4 119 rfl
theorem q916 : (Jvm.Cond.methodLink "CordSeals$Die" (64 : Nat) ({ cls := "java/util/List", name := "contains", desc := "(Ljava/lang/Object;)Z" } : Jvm.MethodName)) ∈ lw_all := lw_g (lw_at lw_m4 120 rfl) rfl
theorem q940 : (Jvm.Cond.selects "CordSeals$Die" ({ cls := "java/lang/Object", name := "equals", desc := "(Ljava/lang/Object;)Z" } : Jvm.MethodName) ({ cls := "java/lang/Object", name := "equals", desc := "(Ljava/lang/Object;)Z" } : Jvm.MethodName)) ∈ lw_all := lw_g (lw_at lw_m4 144 rfl) rfl
theorem q984 : (Jvm.Cond.instanceMethod ({ cls := "CordSeals$Die", name := "hasCracks", desc := "(I)Z" } : Jvm.MethodName)) ∈ lw_all := lw_g (lw_at lw_m4 188 rfl) rfl
theorem q985 : (Jvm.Cond.selects "CordSeals$Die" ({ cls := "CordSeals$Die", name := "hasCracks", desc := "(I)Z" } : Jvm.MethodName) ({ cls := "CordSeals$Die", name := "hasCracks", desc := "(I)Z" } : Jvm.MethodName)) ∈ lw_all := lw_g (lw_at lw_m4 189 rfl) rfl
theorem q986 : (Jvm.Cond.code ({ cls := "CordSeals$Die", name := "hasCracks", desc := "(I)Z" } : Jvm.MethodName) prog_5_method_4_code (2 : Nat) (Option.some Jvm.ClassFile.FieldType.boolean)) ∈ lw_all := lw_g (lw_at lw_m4 190 rfl) rfl
theorem q987 : (Jvm.Cond.methodLinkNest "CordSeals$Die" (67 : Nat) ({ cls := "CordSeals", name := "isIn", desc := "(JJJ)Z" } : Jvm.MethodName) "CordSeals") ∈ lw_tbl := lw_at lw_m4 191 rfl
theorem q1768 : (Jvm.Cond.instanceMethod ({ cls := "CordSeals$Die", name := "copy", desc := "()LCordSeals$Die;" } : Jvm.MethodName)) ∈ lw_all := lw_g (lw_at lw_m8 12 rfl) rfl
theorem q1769 : (Jvm.Cond.selects "CordSeals$Die" ({ cls := "CordSeals$Die", name := "copy", desc := "()LCordSeals$Die;" } : Jvm.MethodName) ({ cls := "CordSeals$Die", name := "copy", desc := "()LCordSeals$Die;" } : Jvm.MethodName)) ∈ lw_all := lw_g (lw_at lw_m8 13 rfl) rfl
theorem q1770 : (Jvm.Cond.code ({ cls := "CordSeals$Die", name := "copy", desc := "()LCordSeals$Die;" } : Jvm.MethodName) prog_5_method_2_code (4 : Nat) (Option.some (Jvm.ClassFile.FieldType.object "CordSeals$Die"))) ∈ lw_all := lw_g (lw_at lw_m8 14 rfl) rfl
theorem q1771 : (Jvm.Cond.classLink "CordSeals$Die" (13 : Nat) "CordSeals$Die") ∈ lw_all := lw_g (lw_at lw_m8 15 rfl) rfl
theorem q1772 : (Jvm.Cond.methodLink "CordSeals$Die" (28 : Nat) ({ cls := "CordSeals$Die", name := "<init>", desc := "(III)V" } : Jvm.MethodName)) ∈ lw_all := lw_g (lw_at lw_m8 16 rfl) rfl
theorem q1773 : (Jvm.Cond.interfaceEntry "CordSeals$Die" (31 : Nat)) ∈ lw_tbl := lw_at lw_m8 17 rfl
theorem q1774 : (Jvm.Cond.methodLink "CordSeals$Die" (31 : Nat) ({ cls := "java/util/List", name := "iterator", desc := "()Ljava/util/Iterator;" } : Jvm.MethodName)) ∈ lw_all := lw_g (lw_at lw_m8 18 rfl) rfl
theorem q1775 : (Jvm.Cond.interfaceEntry "CordSeals$Die" (37 : Nat)) ∈ lw_tbl := lw_at lw_m8 19 rfl
theorem q1776 : (Jvm.Cond.methodLink "CordSeals$Die" (37 : Nat) ({ cls := "java/util/Iterator", name := "hasNext", desc := "()Z" } : Jvm.MethodName)) ∈ lw_all := lw_g (lw_at lw_m8 20 rfl) rfl
theorem q1777 : (Jvm.Cond.interfaceEntry "CordSeals$Die" (43 : Nat)) ∈ lw_tbl := lw_at lw_m8 21 rfl
theorem q1778 : (Jvm.Cond.methodLink "CordSeals$Die" (43 : Nat) ({ cls := "java/util/Iterator", name := "next", desc := "()Ljava/lang/Object;" } : Jvm.MethodName)) ∈ lw_all := lw_g (lw_at lw_m8 22 rfl) rfl
theorem q1779 : (Jvm.Cond.classLink "CordSeals$Die" (47 : Nat) "java/lang/Integer") ∈ lw_all := lw_g (lw_at lw_m8 23 rfl) rfl
theorem q1780 : (Jvm.Cond.methodLink "CordSeals$Die" (49 : Nat) ({ cls := "java/lang/Integer", name := "intValue", desc := "()I" } : Jvm.MethodName)) ∈ lw_all := lw_g (lw_at lw_m8 24 rfl) rfl
theorem q1781 : (Jvm.Cond.interfaceEntry "CordSeals$Die" (57 : Nat)) ∈ lw_tbl := lw_at lw_m8 25 rfl
theorem q1782 : (Jvm.Cond.methodLink "CordSeals$Die" (57 : Nat) ({ cls := "java/util/List", name := "add", desc := "(Ljava/lang/Object;)Z" } : Jvm.MethodName)) ∈ lw_all := lw_g (lw_at lw_m8 26 rfl) rfl
theorem q2670 : (Jvm.Cond.castable "CordSeals$Die" "java/lang/Object") ∈ lw_tbl := lw_at lw_m11 194 rfl
theorem in_X5 : ∀ w ∈ wsX50, w ∈ lw_all := lw_in wsX50 [868, 870, 872, 874] (by decide +kernel) (by decide +kernel)
def RX6 : String := "CordSeals$Seal"
def TX6 : u_T := fun k => match k with
  | 0 => ("CordSeals$Seal", "die", "I", true)
  | 1 => ("CordSeals$Seal", "material", "I", true)
  | 2 => ("CordSeals$Seal", "colour", "I", true)
  | 3 => ("CordSeals$Seal", "bubbles", "I", true)
  | 4 => ("CordSeals$Seal", "cracks", "I", false)
  | _ => ("CordSeals$Seal", "charter", "I", false)
def tyX6 : Nat → FieldType := fun k => match k with
  | 0 => .int
  | 1 => .int
  | 2 => .int
  | 3 => .int
  | 4 => .int
  | _ => .int
abbrev wsX60 : List Cond := u_ws RX6 TX6 6
theorem nmX6 : ∀ a, a < 6 → ∀ b, b < 6 → a ≠ b → (TX6 a).2.1 ≠ (TX6 b).2.1 := by decide +kernel
theorem tyX6_ok : ∀ k, k < 6 → parseFieldDescriptor (TX6 k).2.2.1 = some (tyX6 k) := by decide +kernel
abbrev cX6_init : ByteArray := prog_8_method_1_code
def yX6_init : MethodName := ⟨RX6, "<init>", "(IIIII)V"⟩
def dkwX6_init_1 : List UInt8 := [42, 21, 4, 181, 0, 24, 42, 21, 5, 181, 0, 27, 177]
abbrev dktX6_init_1 : List UInt8 := dkwX6_init_1 ++ []
def dkwX6_init_0 : List UInt8 := [42, 183, 0, 3, 42, 2, 181, 0, 9, 42, 27, 181, 0, 15, 42, 28, 181, 0, 18, 42, 29, 181, 0, 21]
abbrev dktX6_init_0 : List UInt8 := dkwX6_init_0 ++ dktX6_init_1
theorem dksX6_init_0 : cX6_init.data.toList.drop 0 = dktX6_init_0 := by decide +kernel
theorem dksX6_init_1 : cX6_init.data.toList.drop 24 = dktX6_init_1 := dk_seg dksX6_init_0 24 rfl rfl
theorem dX6_init_0 : decode cX6_init 0 = .ok (.aload_n 0, 1) := dk_42 (dk_at dksX6_init_0 0 rfl rfl)
theorem dX6_init_1 : decode cX6_init 1 = .ok (.invokespecial 3, 3) := dk_183 0 3 (dk_at dksX6_init_0 1 rfl rfl)
theorem dX6_init_4 : decode cX6_init 4 = .ok (.aload_n 0, 1) := dk_42 (dk_at dksX6_init_0 4 rfl rfl)
theorem dX6_init_5 : decode cX6_init 5 = .ok (.iconst (-1), 1) := dk_2 (dk_at dksX6_init_0 5 rfl rfl)
theorem dX6_init_6 : decode cX6_init 6 = .ok (.putfield 9, 3) := dk_181 0 9 (dk_at dksX6_init_0 6 rfl rfl)
theorem dX6_init_9 : decode cX6_init 9 = .ok (.aload_n 0, 1) := dk_42 (dk_at dksX6_init_0 9 rfl rfl)
theorem dX6_init_10 : decode cX6_init 10 = .ok (.iload_n 1, 1) := dk_27 (dk_at dksX6_init_0 10 rfl rfl)
theorem dX6_init_11 : decode cX6_init 11 = .ok (.putfield 15, 3) := dk_181 0 15 (dk_at dksX6_init_0 11 rfl rfl)
theorem dX6_init_14 : decode cX6_init 14 = .ok (.aload_n 0, 1) := dk_42 (dk_at dksX6_init_0 14 rfl rfl)
theorem dX6_init_15 : decode cX6_init 15 = .ok (.iload_n 2, 1) := dk_28 (dk_at dksX6_init_0 15 rfl rfl)
theorem dX6_init_16 : decode cX6_init 16 = .ok (.putfield 18, 3) := dk_181 0 18 (dk_at dksX6_init_0 16 rfl rfl)
theorem dX6_init_19 : decode cX6_init 19 = .ok (.aload_n 0, 1) := dk_42 (dk_at dksX6_init_0 19 rfl rfl)
theorem dX6_init_20 : decode cX6_init 20 = .ok (.iload_n 3, 1) := dk_29 (dk_at dksX6_init_0 20 rfl rfl)
theorem dX6_init_21 : decode cX6_init 21 = .ok (.putfield 21, 3) := dk_181 0 21 (dk_at dksX6_init_0 21 rfl rfl)
theorem dX6_init_24 : decode cX6_init 24 = .ok (.aload_n 0, 1) := dk_42 (dk_at dksX6_init_1 0 rfl rfl)
theorem dX6_init_25 : decode cX6_init 25 = .ok (.iload 4, 2) := dk_21 4 (dk_at dksX6_init_1 1 rfl rfl)
theorem dX6_init_27 : decode cX6_init 27 = .ok (.putfield 24, 3) := dk_181 0 24 (dk_at dksX6_init_1 3 rfl rfl)
theorem dX6_init_30 : decode cX6_init 30 = .ok (.aload_n 0, 1) := dk_42 (dk_at dksX6_init_1 6 rfl rfl)
theorem dX6_init_31 : decode cX6_init 31 = .ok (.iload 5, 2) := dk_21 5 (dk_at dksX6_init_1 7 rfl rfl)
theorem dX6_init_33 : decode cX6_init 33 = .ok (.putfield 27, 3) := dk_181 0 27 (dk_at dksX6_init_1 9 rfl rfl)
theorem dX6_init_36 : decode cX6_init 36 = .ok (.return_, 1) := dk_177 (dk_at dksX6_init_1 12 rfl rfl)
abbrev cX6_copy : ByteArray := prog_8_method_2_code
def yX6_copy : MethodName := ⟨RX6, "copy", "()LCordSeals$Seal;"⟩
def dkwX6_copy_1 : List UInt8 := [183, 0, 30, 76, 43, 42, 180, 0, 9, 181, 0, 9, 43, 176]
abbrev dktX6_copy_1 : List UInt8 := dkwX6_copy_1 ++ []
def dkwX6_copy_0 : List UInt8 := [187, 0, 10, 89, 42, 180, 0, 15, 42, 180, 0, 18, 42, 180, 0, 21, 42, 180, 0, 24, 42, 180, 0, 27]
abbrev dktX6_copy_0 : List UInt8 := dkwX6_copy_0 ++ dktX6_copy_1
theorem dksX6_copy_0 : cX6_copy.data.toList.drop 0 = dktX6_copy_0 := by decide +kernel
theorem dksX6_copy_1 : cX6_copy.data.toList.drop 24 = dktX6_copy_1 := dk_seg dksX6_copy_0 24 rfl rfl
theorem dX6_copy_0 : decode cX6_copy 0 = .ok (.new 10, 3) := dk_187 0 10 (dk_at dksX6_copy_0 0 rfl rfl)
theorem dX6_copy_3 : decode cX6_copy 3 = .ok (.dup, 1) := dk_89 (dk_at dksX6_copy_0 3 rfl rfl)
theorem dX6_copy_4 : decode cX6_copy 4 = .ok (.aload_n 0, 1) := dk_42 (dk_at dksX6_copy_0 4 rfl rfl)
theorem dX6_copy_5 : decode cX6_copy 5 = .ok (.getfield 15, 3) := dk_180 0 15 (dk_at dksX6_copy_0 5 rfl rfl)
theorem dX6_copy_8 : decode cX6_copy 8 = .ok (.aload_n 0, 1) := dk_42 (dk_at dksX6_copy_0 8 rfl rfl)
theorem dX6_copy_9 : decode cX6_copy 9 = .ok (.getfield 18, 3) := dk_180 0 18 (dk_at dksX6_copy_0 9 rfl rfl)
theorem dX6_copy_12 : decode cX6_copy 12 = .ok (.aload_n 0, 1) := dk_42 (dk_at dksX6_copy_0 12 rfl rfl)
theorem dX6_copy_13 : decode cX6_copy 13 = .ok (.getfield 21, 3) := dk_180 0 21 (dk_at dksX6_copy_0 13 rfl rfl)
theorem dX6_copy_16 : decode cX6_copy 16 = .ok (.aload_n 0, 1) := dk_42 (dk_at dksX6_copy_0 16 rfl rfl)
theorem dX6_copy_17 : decode cX6_copy 17 = .ok (.getfield 24, 3) := dk_180 0 24 (dk_at dksX6_copy_0 17 rfl rfl)
theorem dX6_copy_20 : decode cX6_copy 20 = .ok (.aload_n 0, 1) := dk_42 (dk_at dksX6_copy_0 20 rfl rfl)
theorem dX6_copy_21 : decode cX6_copy 21 = .ok (.getfield 27, 3) := dk_180 0 27 (dk_at dksX6_copy_0 21 rfl rfl)
theorem dX6_copy_24 : decode cX6_copy 24 = .ok (.invokespecial 30, 3) := dk_183 0 30 (dk_at dksX6_copy_1 0 rfl rfl)
theorem dX6_copy_27 : decode cX6_copy 27 = .ok (.astore_n 1, 1) := dk_76 (dk_at dksX6_copy_1 3 rfl rfl)
theorem dX6_copy_28 : decode cX6_copy 28 = .ok (.aload_n 1, 1) := dk_43 (dk_at dksX6_copy_1 4 rfl rfl)
theorem dX6_copy_29 : decode cX6_copy 29 = .ok (.aload_n 0, 1) := dk_42 (dk_at dksX6_copy_1 5 rfl rfl)
theorem dX6_copy_30 : decode cX6_copy 30 = .ok (.getfield 9, 3) := dk_180 0 9 (dk_at dksX6_copy_1 6 rfl rfl)
theorem dX6_copy_33 : decode cX6_copy 33 = .ok (.putfield 9, 3) := dk_181 0 9 (dk_at dksX6_copy_1 9 rfl rfl)
theorem dX6_copy_36 : decode cX6_copy 36 = .ok (.aload_n 1, 1) := dk_43 (dk_at dksX6_copy_1 12 rfl rfl)
theorem dX6_copy_37 : decode cX6_copy 37 = .ok (.areturn, 1) := dk_176 (dk_at dksX6_copy_1 13 rfl rfl)
theorem q109 : (Jvm.Cond.initialized "CordSeals$Seal") ∈ lw_all := lw_g (lw_at lw_m1 33 rfl) rfl
theorem q235 : (Jvm.Cond.selects "CordSeals$Seal" ({ cls := "java/lang/Object", name := "getClass", desc := "()Ljava/lang/Class;" } : Jvm.MethodName) ({ cls := "java/lang/Object", name := "getClass", desc := "()Ljava/lang/Class;" } : Jvm.MethodName)) ∈ lw_all := lw_g (lw_at lw_m1 159 rfl) rfl
theorem q942 : (Jvm.Cond.selects "CordSeals$Seal" ({ cls := "java/lang/Object", name := "equals", desc := "(Ljava/lang/Object;)Z" } : Jvm.MethodName) ({ cls := "java/lang/Object", name := "equals", desc := "(Ljava/lang/Object;)Z" } : Jvm.MethodName)) ∈ lw_all := lw_g (lw_at lw_m4 146 rfl) rfl
theorem q993 : (Jvm.Cond.instantiable "CordSeals$Seal" (6 : Nat)) ∈ lw_all := lw_g (lw_at lw_m4 197 rfl) rfl
theorem q995 : (Jvm.Cond.instanceMethod ({ cls := "CordSeals$Seal", name := "<init>", desc := "(IIIII)V" } : Jvm.MethodName)) ∈ lw_all := lw_g (lw_at lw_m4 199 rfl) rfl
theorem q996 : (Jvm.Cond.code ({ cls := "CordSeals$Seal", name := "<init>", desc := "(IIIII)V" } : Jvm.MethodName) prog_8_method_1_code (6 : Nat) (Option.none : Option Jvm.ClassFile.FieldType)) ∈ lw_all := lw_g (lw_at lw_m4 200 rfl) rfl
theorem q997 : (Jvm.Cond.methodLink "CordSeals$Seal" (3 : Nat) ({ cls := "java/lang/Object", name := "<init>", desc := "()V" } : Jvm.MethodName)) ∈ lw_all := lw_g (lw_at lw_m4 201 rfl) rfl
theorem q998 : (Jvm.Cond.fieldLink "CordSeals$Seal" (15 : Nat) "CordSeals$Seal" "die" "I") ∈ lw_all := lw_g (lw_at lw_m4 202 rfl) rfl
theorem q1001 : (Jvm.Cond.fieldLink "CordSeals$Seal" (18 : Nat) "CordSeals$Seal" "material" "I") ∈ lw_all := lw_g (lw_at lw_m4 205 rfl) rfl
theorem q1004 : (Jvm.Cond.fieldLink "CordSeals$Seal" (21 : Nat) "CordSeals$Seal" "colour" "I") ∈ lw_all := lw_g (lw_at lw_m4 208 rfl) rfl
theorem q1008 : (Jvm.Cond.fieldLink "CordSeals$Seal" (24 : Nat) "CordSeals$Seal" "bubbles" "I") ∈ lw_all := lw_g (lw_at lw_m4 212 rfl) rfl
theorem q1011 : (Jvm.Cond.fieldLink "CordSeals$Seal" (27 : Nat) "CordSeals$Seal" "cracks" "I") ∈ lw_all := lw_g (lw_at lw_m4 215 rfl) rfl
theorem q1015 : (Jvm.Cond.fieldLink "CordSeals$Seal" (9 : Nat) "CordSeals$Seal" "charter" "I") ∈ lw_all := lw_g (lw_at lw_m4 219 rfl) rfl
theorem q1018 : (Jvm.Cond.laysFinal "CordSeals$Seal" "CordSeals$Seal" "die" "I") ∈ lw_all := lw_g (lw_at lw_m4 222 rfl) rfl
theorem q1019 : (Jvm.Cond.soleField "CordSeals$Seal" "die") ∈ lw_all := lw_g (lw_at lw_m4 223 rfl) rfl
theorem q1020 : (Jvm.Cond.laysFinal "CordSeals$Seal" "CordSeals$Seal" "material" "I") ∈ lw_all := lw_g (lw_at lw_m4 224 rfl) rfl
theorem q1021 : (Jvm.Cond.soleField "CordSeals$Seal" "material") ∈ lw_all := lw_g (lw_at lw_m4 225 rfl) rfl
theorem q1022 : (Jvm.Cond.laysFinal "CordSeals$Seal" "CordSeals$Seal" "colour" "I") ∈ lw_all := lw_g (lw_at lw_m4 226 rfl) rfl
theorem q1023 : (Jvm.Cond.soleField "CordSeals$Seal" "colour") ∈ lw_all := lw_g (lw_at lw_m4 227 rfl) rfl
theorem q1024 : (Jvm.Cond.laysFinal "CordSeals$Seal" "CordSeals$Seal" "bubbles" "I") ∈ lw_all := lw_g (lw_at lw_m4 228 rfl) rfl
theorem q1025 : (Jvm.Cond.soleField "CordSeals$Seal" "bubbles") ∈ lw_all := lw_g (lw_at lw_m4 229 rfl) rfl
theorem q1026 : (Jvm.Cond.lays "CordSeals$Seal" "CordSeals$Seal" "cracks" "I") ∈ lw_all := lw_g (lw_at lw_m4 230 rfl) rfl
theorem q1027 : (Jvm.Cond.soleField "CordSeals$Seal" "cracks") ∈ lw_all := lw_g (lw_at lw_m4 231 rfl) rfl
theorem q1028 : (Jvm.Cond.lays "CordSeals$Seal" "CordSeals$Seal" "charter" "I") ∈ lw_all := lw_g (lw_at lw_m4 232 rfl) rfl
theorem q1029 : (Jvm.Cond.soleField "CordSeals$Seal" "charter") ∈ lw_all := lw_g (lw_at lw_m4 233 rfl) rfl
theorem q1030 : (Jvm.Cond.superclass "CordSeals$Seal" "java/lang/Object") ∈ lw_all := lw_g (lw_at lw_m4 234 rfl) rfl
theorem q1784 : (Jvm.Cond.instanceMethod ({ cls := "CordSeals$Seal", name := "copy", desc := "()LCordSeals$Seal;" } : Jvm.MethodName)) ∈ lw_all := lw_g (lw_at lw_m8 28 rfl) rfl
theorem q1785 : (Jvm.Cond.selects "CordSeals$Seal" ({ cls := "CordSeals$Seal", name := "copy", desc := "()LCordSeals$Seal;" } : Jvm.MethodName) ({ cls := "CordSeals$Seal", name := "copy", desc := "()LCordSeals$Seal;" } : Jvm.MethodName)) ∈ lw_all := lw_g (lw_at lw_m8 29 rfl) rfl
theorem q1786 : (Jvm.Cond.code ({ cls := "CordSeals$Seal", name := "copy", desc := "()LCordSeals$Seal;" } : Jvm.MethodName) prog_8_method_2_code (2 : Nat) (Option.some (Jvm.ClassFile.FieldType.object "CordSeals$Seal"))) ∈ lw_all := lw_g (lw_at lw_m8 30 rfl) rfl
theorem q1787 : (Jvm.Cond.classLink "CordSeals$Seal" (10 : Nat) "CordSeals$Seal") ∈ lw_all := lw_g (lw_at lw_m8 31 rfl) rfl
theorem q1788 : (Jvm.Cond.methodLink "CordSeals$Seal" (30 : Nat) ({ cls := "CordSeals$Seal", name := "<init>", desc := "(IIIII)V" } : Jvm.MethodName)) ∈ lw_all := lw_g (lw_at lw_m8 32 rfl) rfl
theorem q2672 : (Jvm.Cond.castable "CordSeals$Seal" "java/lang/Object") ∈ lw_tbl := lw_at lw_m11 196 rfl
theorem in_X6 : ∀ w ∈ wsX60, w ∈ lw_all := lw_in wsX60 [1018, 1020, 1022, 1024, 1026, 1028] (by decide +kernel) (by decide +kernel)
def RX7 : String := "CordSeals$Collection$1"
def TX7 : u_T := fun k => match k with
  | 0 => ("CordSeals$Collection$1", "val$d", "LCordSeals$Die;", true)
  | 1 => ("CordSeals$Collection$1", "val$s", "LCordSeals$Seal;", true)
  | _ => ("CordSeals$Collection$1", "this$0", "LCordSeals$Collection;", true)
def tyX7 : Nat → FieldType := fun k => match k with
  | 0 => .object "CordSeals$Die"
  | 1 => .object "CordSeals$Seal"
  | _ => .object "CordSeals$Collection"
abbrev wsX70 : List Cond := u_ws RX7 TX7 3
theorem nmX7 : ∀ a, a < 3 → ∀ b, b < 3 → a ≠ b → (TX7 a).2.1 ≠ (TX7 b).2.1 := by decide +kernel
theorem tyX7_ok : ∀ k, k < 3 → parseFieldDescriptor (TX7 k).2.2.1 = some (tyX7 k) := by decide +kernel
abbrev cX7_init : ByteArray := prog_3_method_1_code
def yX7_init : MethodName := ⟨RX7, "<init>", "(LCordSeals$Collection;LCordSeals$Die;LCordSeals$Seal;)V"⟩
def dkwX7_init_0 : List UInt8 := [42, 43, 181, 0, 3, 42, 44, 181, 0, 9, 42, 45, 181, 0, 13, 42, 183, 0, 17, 177]
abbrev dktX7_init_0 : List UInt8 := dkwX7_init_0 ++ []
theorem dksX7_init_0 : cX7_init.data.toList.drop 0 = dktX7_init_0 := by decide +kernel
theorem dX7_init_0 : decode cX7_init 0 = .ok (.aload_n 0, 1) := dk_42 (dk_at dksX7_init_0 0 rfl rfl)
theorem dX7_init_1 : decode cX7_init 1 = .ok (.aload_n 1, 1) := dk_43 (dk_at dksX7_init_0 1 rfl rfl)
theorem dX7_init_2 : decode cX7_init 2 = .ok (.putfield 3, 3) := dk_181 0 3 (dk_at dksX7_init_0 2 rfl rfl)
theorem dX7_init_5 : decode cX7_init 5 = .ok (.aload_n 0, 1) := dk_42 (dk_at dksX7_init_0 5 rfl rfl)
theorem dX7_init_6 : decode cX7_init 6 = .ok (.aload_n 2, 1) := dk_44 (dk_at dksX7_init_0 6 rfl rfl)
theorem dX7_init_7 : decode cX7_init 7 = .ok (.putfield 9, 3) := dk_181 0 9 (dk_at dksX7_init_0 7 rfl rfl)
theorem dX7_init_10 : decode cX7_init 10 = .ok (.aload_n 0, 1) := dk_42 (dk_at dksX7_init_0 10 rfl rfl)
theorem dX7_init_11 : decode cX7_init 11 = .ok (.aload_n 3, 1) := dk_45 (dk_at dksX7_init_0 11 rfl rfl)
theorem dX7_init_12 : decode cX7_init 12 = .ok (.putfield 13, 3) := dk_181 0 13 (dk_at dksX7_init_0 12 rfl rfl)
theorem dX7_init_15 : decode cX7_init 15 = .ok (.aload_n 0, 1) := dk_42 (dk_at dksX7_init_0 15 rfl rfl)
theorem dX7_init_16 : decode cX7_init 16 = .ok (.invokespecial 17, 3) := dk_183 0 17 (dk_at dksX7_init_0 16 rfl rfl)
theorem dX7_init_19 : decode cX7_init 19 = .ok (.return_, 1) := dk_177 (dk_at dksX7_init_0 19 rfl rfl)
abbrev cX7_allows : ByteArray := prog_3_method_2_code
def yX7_allows : MethodName := ⟨RX7, "allows", "(I)Z"⟩
def dkwX7_allows_7 : List UInt8 := [167, 0, 4, 3, 126, 61, 132, 3, 1, 167, 255, 148, 28, 172]
abbrev dktX7_allows_7 : List UInt8 := dkwX7_allows_7 ++ []
def dkwX7_allows_6 : List UInt8 := [180, 0, 9, 180, 0, 47, 29, 185, 0, 59, 2, 0, 192, 0, 63, 182, 0, 65, 163, 0, 7, 4]
abbrev dktX7_allows_6 : List UInt8 := dkwX7_allows_6 ++ dktX7_allows_7
def dkwX7_allows_5 : List UInt8 := [185, 0, 59, 2, 0, 192, 0, 63, 182, 0, 65, 161, 0, 7, 4, 167, 0, 35, 3, 167, 0, 31, 27, 42]
abbrev dktX7_allows_5 : List UInt8 := dkwX7_allows_5 ++ dktX7_allows_6
def dkwX7_allows_4 : List UInt8 := [167, 0, 4, 3, 54, 4, 28, 21, 4, 153, 0, 34, 27, 42, 180, 0, 9, 180, 0, 47, 29]
abbrev dktX7_allows_4 : List UInt8 := dkwX7_allows_4 ++ dktX7_allows_5
def dkwX7_allows_3 : List UInt8 := [185, 0, 51, 1, 0, 162, 0, 98, 42, 180, 0, 13, 180, 0, 57, 29, 122, 4, 126, 4, 160, 0, 7, 4]
abbrev dktX7_allows_3 : List UInt8 := dkwX7_allows_3 ++ dktX7_allows_4
def dkwX7_allows_2 : List UInt8 := [182, 0, 41, 153, 0, 7, 4, 167, 0, 4, 3, 61, 3, 62, 29, 42, 180, 0, 9, 180, 0, 47]
abbrev dktX7_allows_2 : List UInt8 := dkwX7_allows_2 ++ dktX7_allows_3
def dkwX7_allows_1 : List UInt8 := [42, 180, 0, 13, 180, 0, 36, 2, 159, 0, 21, 42, 180, 0, 3, 42, 180, 0, 13, 180, 0, 36, 27]
abbrev dktX7_allows_1 : List UInt8 := dkwX7_allows_1 ++ dktX7_allows_2
def dkwX7_allows_0 : List UInt8 := [27, 133, 42, 180, 0, 9, 180, 0, 23, 133, 42, 180, 0, 9, 180, 0, 29, 133, 184, 0, 32, 153, 0, 36]
abbrev dktX7_allows_0 : List UInt8 := dkwX7_allows_0 ++ dktX7_allows_1
theorem dksX7_allows_0 : cX7_allows.data.toList.drop 0 = dktX7_allows_0 := by decide +kernel
theorem dksX7_allows_1 : cX7_allows.data.toList.drop 24 = dktX7_allows_1 := dk_seg dksX7_allows_0 24 rfl rfl
theorem dksX7_allows_2 : cX7_allows.data.toList.drop 47 = dktX7_allows_2 := dk_seg dksX7_allows_1 23 rfl rfl
theorem dksX7_allows_3 : cX7_allows.data.toList.drop 69 = dktX7_allows_3 := dk_seg dksX7_allows_2 22 rfl rfl
theorem dksX7_allows_4 : cX7_allows.data.toList.drop 93 = dktX7_allows_4 := dk_seg dksX7_allows_3 24 rfl rfl
theorem dksX7_allows_5 : cX7_allows.data.toList.drop 114 = dktX7_allows_5 := dk_seg dksX7_allows_4 21 rfl rfl
theorem dksX7_allows_6 : cX7_allows.data.toList.drop 138 = dktX7_allows_6 := dk_seg dksX7_allows_5 24 rfl rfl
theorem dksX7_allows_7 : cX7_allows.data.toList.drop 160 = dktX7_allows_7 := dk_seg dksX7_allows_6 22 rfl rfl
theorem dX7_allows_0 : decode cX7_allows 0 = .ok (.iload_n 1, 1) := dk_27 (dk_at dksX7_allows_0 0 rfl rfl)
theorem dX7_allows_1 : decode cX7_allows 1 = .ok (.i2l, 1) := dk_133 (dk_at dksX7_allows_0 1 rfl rfl)
theorem dX7_allows_2 : decode cX7_allows 2 = .ok (.aload_n 0, 1) := dk_42 (dk_at dksX7_allows_0 2 rfl rfl)
theorem dX7_allows_3 : decode cX7_allows 3 = .ok (.getfield 9, 3) := dk_180 0 9 (dk_at dksX7_allows_0 3 rfl rfl)
theorem dX7_allows_6 : decode cX7_allows 6 = .ok (.getfield 23, 3) := dk_180 0 23 (dk_at dksX7_allows_0 6 rfl rfl)
theorem dX7_allows_9 : decode cX7_allows 9 = .ok (.i2l, 1) := dk_133 (dk_at dksX7_allows_0 9 rfl rfl)
theorem dX7_allows_10 : decode cX7_allows 10 = .ok (.aload_n 0, 1) := dk_42 (dk_at dksX7_allows_0 10 rfl rfl)
theorem dX7_allows_11 : decode cX7_allows 11 = .ok (.getfield 9, 3) := dk_180 0 9 (dk_at dksX7_allows_0 11 rfl rfl)
theorem dX7_allows_14 : decode cX7_allows 14 = .ok (.getfield 29, 3) := dk_180 0 29 (dk_at dksX7_allows_0 14 rfl rfl)
theorem dX7_allows_17 : decode cX7_allows 17 = .ok (.i2l, 1) := dk_133 (dk_at dksX7_allows_0 17 rfl rfl)
theorem dX7_allows_18 : decode cX7_allows 18 = .ok (.invokestatic 32, 3) := dk_184 0 32 (dk_at dksX7_allows_0 18 rfl rfl)
theorem dX7_allows_21 : decode cX7_allows 21 = .ok (.ifCond .eq 36, 3) := dk_153 0 36 (dk_at dksX7_allows_0 21 rfl rfl)
theorem dX7_allows_24 : decode cX7_allows 24 = .ok (.aload_n 0, 1) := dk_42 (dk_at dksX7_allows_1 0 rfl rfl)
theorem dX7_allows_25 : decode cX7_allows 25 = .ok (.getfield 13, 3) := dk_180 0 13 (dk_at dksX7_allows_1 1 rfl rfl)
theorem dX7_allows_28 : decode cX7_allows 28 = .ok (.getfield 36, 3) := dk_180 0 36 (dk_at dksX7_allows_1 4 rfl rfl)
theorem dX7_allows_31 : decode cX7_allows 31 = .ok (.iconst (-1), 1) := dk_2 (dk_at dksX7_allows_1 7 rfl rfl)
theorem dX7_allows_32 : decode cX7_allows 32 = .ok (.if_icmp .eq 21, 3) := dk_159 0 21 (dk_at dksX7_allows_1 8 rfl rfl)
theorem dX7_allows_35 : decode cX7_allows 35 = .ok (.aload_n 0, 1) := dk_42 (dk_at dksX7_allows_1 11 rfl rfl)
theorem dX7_allows_36 : decode cX7_allows 36 = .ok (.getfield 3, 3) := dk_180 0 3 (dk_at dksX7_allows_1 12 rfl rfl)
theorem dX7_allows_39 : decode cX7_allows 39 = .ok (.aload_n 0, 1) := dk_42 (dk_at dksX7_allows_1 15 rfl rfl)
theorem dX7_allows_40 : decode cX7_allows 40 = .ok (.getfield 13, 3) := dk_180 0 13 (dk_at dksX7_allows_1 16 rfl rfl)
theorem dX7_allows_43 : decode cX7_allows 43 = .ok (.getfield 36, 3) := dk_180 0 36 (dk_at dksX7_allows_1 19 rfl rfl)
theorem dX7_allows_46 : decode cX7_allows 46 = .ok (.iload_n 1, 1) := dk_27 (dk_at dksX7_allows_1 22 rfl rfl)
theorem dX7_allows_47 : decode cX7_allows 47 = .ok (.invokevirtual 41, 3) := dk_182 0 41 (dk_at dksX7_allows_2 0 rfl rfl)
theorem dX7_allows_50 : decode cX7_allows 50 = .ok (.ifCond .eq 7, 3) := dk_153 0 7 (dk_at dksX7_allows_2 3 rfl rfl)
theorem dX7_allows_53 : decode cX7_allows 53 = .ok (.iconst 1, 1) := dk_4 (dk_at dksX7_allows_2 6 rfl rfl)
theorem dX7_allows_54 : decode cX7_allows 54 = .ok (.goto 4, 3) := dk_167 0 4 (dk_at dksX7_allows_2 7 rfl rfl)
theorem dX7_allows_57 : decode cX7_allows 57 = .ok (.iconst 0, 1) := dk_3 (dk_at dksX7_allows_2 10 rfl rfl)
theorem dX7_allows_58 : decode cX7_allows 58 = .ok (.istore_n 2, 1) := dk_61 (dk_at dksX7_allows_2 11 rfl rfl)
theorem dX7_allows_59 : decode cX7_allows 59 = .ok (.iconst 0, 1) := dk_3 (dk_at dksX7_allows_2 12 rfl rfl)
theorem dX7_allows_60 : decode cX7_allows 60 = .ok (.istore_n 3, 1) := dk_62 (dk_at dksX7_allows_2 13 rfl rfl)
theorem dX7_allows_61 : decode cX7_allows 61 = .ok (.iload_n 3, 1) := dk_29 (dk_at dksX7_allows_2 14 rfl rfl)
theorem dX7_allows_62 : decode cX7_allows 62 = .ok (.aload_n 0, 1) := dk_42 (dk_at dksX7_allows_2 15 rfl rfl)
theorem dX7_allows_63 : decode cX7_allows 63 = .ok (.getfield 9, 3) := dk_180 0 9 (dk_at dksX7_allows_2 16 rfl rfl)
theorem dX7_allows_66 : decode cX7_allows 66 = .ok (.getfield 47, 3) := dk_180 0 47 (dk_at dksX7_allows_2 19 rfl rfl)
theorem dX7_allows_69 : decode cX7_allows 69 = .ok (.invokeinterface 51 1, 5) := by decide +kernel
theorem dX7_allows_74 : decode cX7_allows 74 = .ok (.if_icmp .ge 98, 3) := dk_162 0 98 (dk_at dksX7_allows_3 5 rfl rfl)
theorem dX7_allows_77 : decode cX7_allows 77 = .ok (.aload_n 0, 1) := dk_42 (dk_at dksX7_allows_3 8 rfl rfl)
theorem dX7_allows_78 : decode cX7_allows 78 = .ok (.getfield 13, 3) := dk_180 0 13 (dk_at dksX7_allows_3 9 rfl rfl)
theorem dX7_allows_81 : decode cX7_allows 81 = .ok (.getfield 57, 3) := dk_180 0 57 (dk_at dksX7_allows_3 12 rfl rfl)
theorem dX7_allows_84 : decode cX7_allows 84 = .ok (.iload_n 3, 1) := dk_29 (dk_at dksX7_allows_3 15 rfl rfl)
theorem dX7_allows_85 : decode cX7_allows 85 = .ok (.ishr, 1) := dk_122 (dk_at dksX7_allows_3 16 rfl rfl)
theorem dX7_allows_86 : decode cX7_allows 86 = .ok (.iconst 1, 1) := dk_4 (dk_at dksX7_allows_3 17 rfl rfl)
theorem dX7_allows_87 : decode cX7_allows 87 = .ok (.iand, 1) := dk_126 (dk_at dksX7_allows_3 18 rfl rfl)
theorem dX7_allows_88 : decode cX7_allows 88 = .ok (.iconst 1, 1) := dk_4 (dk_at dksX7_allows_3 19 rfl rfl)
theorem dX7_allows_89 : decode cX7_allows 89 = .ok (.if_icmp .ne 7, 3) := dk_160 0 7 (dk_at dksX7_allows_3 20 rfl rfl)
theorem dX7_allows_92 : decode cX7_allows 92 = .ok (.iconst 1, 1) := dk_4 (dk_at dksX7_allows_3 23 rfl rfl)
theorem dX7_allows_93 : decode cX7_allows 93 = .ok (.goto 4, 3) := dk_167 0 4 (dk_at dksX7_allows_4 0 rfl rfl)
theorem dX7_allows_96 : decode cX7_allows 96 = .ok (.iconst 0, 1) := dk_3 (dk_at dksX7_allows_4 3 rfl rfl)
theorem dX7_allows_97 : decode cX7_allows 97 = .ok (.istore 4, 2) := dk_54 4 (dk_at dksX7_allows_4 4 rfl rfl)
theorem dX7_allows_99 : decode cX7_allows 99 = .ok (.iload_n 2, 1) := dk_28 (dk_at dksX7_allows_4 6 rfl rfl)
theorem dX7_allows_100 : decode cX7_allows 100 = .ok (.iload 4, 2) := dk_21 4 (dk_at dksX7_allows_4 7 rfl rfl)
theorem dX7_allows_102 : decode cX7_allows 102 = .ok (.ifCond .eq 34, 3) := dk_153 0 34 (dk_at dksX7_allows_4 9 rfl rfl)
theorem dX7_allows_105 : decode cX7_allows 105 = .ok (.iload_n 1, 1) := dk_27 (dk_at dksX7_allows_4 12 rfl rfl)
theorem dX7_allows_106 : decode cX7_allows 106 = .ok (.aload_n 0, 1) := dk_42 (dk_at dksX7_allows_4 13 rfl rfl)
theorem dX7_allows_107 : decode cX7_allows 107 = .ok (.getfield 9, 3) := dk_180 0 9 (dk_at dksX7_allows_4 14 rfl rfl)
theorem dX7_allows_110 : decode cX7_allows 110 = .ok (.getfield 47, 3) := dk_180 0 47 (dk_at dksX7_allows_4 17 rfl rfl)
theorem dX7_allows_113 : decode cX7_allows 113 = .ok (.iload_n 3, 1) := dk_29 (dk_at dksX7_allows_4 20 rfl rfl)
theorem dX7_allows_114 : decode cX7_allows 114 = .ok (.invokeinterface 59 2, 5) := by decide +kernel
theorem dX7_allows_119 : decode cX7_allows 119 = .ok (.checkcast 63, 3) := dk_192 0 63 (dk_at dksX7_allows_5 5 rfl rfl)
theorem dX7_allows_122 : decode cX7_allows 122 = .ok (.invokevirtual 65, 3) := dk_182 0 65 (dk_at dksX7_allows_5 8 rfl rfl)
theorem dX7_allows_125 : decode cX7_allows 125 = .ok (.if_icmp .lt 7, 3) := dk_161 0 7 (dk_at dksX7_allows_5 11 rfl rfl)
theorem dX7_allows_128 : decode cX7_allows 128 = .ok (.iconst 1, 1) := dk_4 (dk_at dksX7_allows_5 14 rfl rfl)
theorem dX7_allows_129 : decode cX7_allows 129 = .ok (.goto 35, 3) := dk_167 0 35 (dk_at dksX7_allows_5 15 rfl rfl)
theorem dX7_allows_132 : decode cX7_allows 132 = .ok (.iconst 0, 1) := dk_3 (dk_at dksX7_allows_5 18 rfl rfl)
theorem dX7_allows_133 : decode cX7_allows 133 = .ok (.goto 31, 3) := dk_167 0 31 (dk_at dksX7_allows_5 19 rfl rfl)
theorem dX7_allows_136 : decode cX7_allows 136 = .ok (.iload_n 1, 1) := dk_27 (dk_at dksX7_allows_5 22 rfl rfl)
theorem dX7_allows_137 : decode cX7_allows 137 = .ok (.aload_n 0, 1) := dk_42 (dk_at dksX7_allows_5 23 rfl rfl)
theorem dX7_allows_138 : decode cX7_allows 138 = .ok (.getfield 9, 3) := dk_180 0 9 (dk_at dksX7_allows_6 0 rfl rfl)
theorem dX7_allows_141 : decode cX7_allows 141 = .ok (.getfield 47, 3) := dk_180 0 47 (dk_at dksX7_allows_6 3 rfl rfl)
theorem dX7_allows_144 : decode cX7_allows 144 = .ok (.iload_n 3, 1) := dk_29 (dk_at dksX7_allows_6 6 rfl rfl)
theorem dX7_allows_145 : decode cX7_allows 145 = .ok (.invokeinterface 59 2, 5) := by decide +kernel
theorem dX7_allows_150 : decode cX7_allows 150 = .ok (.checkcast 63, 3) := dk_192 0 63 (dk_at dksX7_allows_6 12 rfl rfl)
theorem dX7_allows_153 : decode cX7_allows 153 = .ok (.invokevirtual 65, 3) := dk_182 0 65 (dk_at dksX7_allows_6 15 rfl rfl)
theorem dX7_allows_156 : decode cX7_allows 156 = .ok (.if_icmp .gt 7, 3) := dk_163 0 7 (dk_at dksX7_allows_6 18 rfl rfl)
theorem dX7_allows_159 : decode cX7_allows 159 = .ok (.iconst 1, 1) := dk_4 (dk_at dksX7_allows_6 21 rfl rfl)
theorem dX7_allows_160 : decode cX7_allows 160 = .ok (.goto 4, 3) := dk_167 0 4 (dk_at dksX7_allows_7 0 rfl rfl)
theorem dX7_allows_163 : decode cX7_allows 163 = .ok (.iconst 0, 1) := dk_3 (dk_at dksX7_allows_7 3 rfl rfl)
theorem dX7_allows_164 : decode cX7_allows 164 = .ok (.iand, 1) := dk_126 (dk_at dksX7_allows_7 4 rfl rfl)
theorem dX7_allows_165 : decode cX7_allows 165 = .ok (.istore_n 2, 1) := dk_61 (dk_at dksX7_allows_7 5 rfl rfl)
theorem dX7_allows_166 : decode cX7_allows 166 = .ok (.iinc 3 1, 3) := dk_132 3 1 (dk_at dksX7_allows_7 6 rfl rfl)
theorem dX7_allows_169 : decode cX7_allows 169 = .ok (.goto (-108), 3) := dk_167 255 148 (dk_at dksX7_allows_7 9 rfl rfl)
theorem dX7_allows_172 : decode cX7_allows 172 = .ok (.iload_n 2, 1) := dk_28 (dk_at dksX7_allows_7 12 rfl rfl)
theorem dX7_allows_173 : decode cX7_allows 173 = .ok (.ireturn, 1) := dk_172 (dk_at dksX7_allows_7 13 rfl rfl)
theorem q117 : (Jvm.Cond.initialized "CordSeals$Collection$1") ∈ lw_all := lw_g (lw_at lw_m1 41 rfl) rfl
theorem q231 : (Jvm.Cond.selects "CordSeals$Collection$1" ({ cls := "java/lang/Object", name := "getClass", desc := "()Ljava/lang/Class;" } : Jvm.MethodName) ({ cls := "java/lang/Object", name := "getClass", desc := "()Ljava/lang/Class;" } : Jvm.MethodName)) ∈ lw_all := lw_g (lw_at lw_m1 155 rfl) rfl
theorem q859 : (Jvm.Cond.fieldLinkNest "CordSeals$Collection$1" (23 : Nat) "CordSeals$Die" "from" "I" "CordSeals") ∈ lw_tbl := lw_at lw_m4 63 rfl
theorem q862 : (Jvm.Cond.fieldLinkNest "CordSeals$Collection$1" (29 : Nat) "CordSeals$Die" "to" "I" "CordSeals") ∈ lw_tbl := lw_at lw_m4 66 rfl
theorem q865 : (Jvm.Cond.fieldLinkNest "CordSeals$Collection$1" (47 : Nat) "CordSeals$Die" "cracks" "Ljava/util/List;" "CordSeals") ∈ lw_tbl := lw_at lw_m4 69 rfl
theorem q938 : (Jvm.Cond.selects "CordSeals$Collection$1" ({ cls := "java/lang/Object", name := "equals", desc := "(Ljava/lang/Object;)Z" } : Jvm.MethodName) ({ cls := "java/lang/Object", name := "equals", desc := "(Ljava/lang/Object;)Z" } : Jvm.MethodName)) ∈ lw_all := lw_g (lw_at lw_m4 142 rfl) rfl
theorem q1005 : (Jvm.Cond.fieldLinkNest "CordSeals$Collection$1" (36 : Nat) "CordSeals$Seal" "colour" "I" "CordSeals") ∈ lw_tbl := lw_at lw_m4 209 rfl
theorem q1012 : (Jvm.Cond.fieldLinkNest "CordSeals$Collection$1" (57 : Nat) "CordSeals$Seal" "cracks" "I" "CordSeals") ∈ lw_tbl := lw_at lw_m4 216 rfl
theorem q1434 : (Jvm.Cond.instantiable "CordSeals$Collection$1" (3 : Nat)) ∈ lw_all := lw_g (lw_at lw_m6 158 rfl) rfl
theorem q1436 : (Jvm.Cond.instanceMethod ({ cls := "CordSeals$Collection$1", name := "<init>", desc := "(LCordSeals$Collection;LCordSeals$Die;LCordSeals$Seal;)V" } : Jvm.MethodName)) ∈ lw_all := lw_g (lw_at lw_m6 160 rfl) rfl
theorem q1437 : (Jvm.Cond.code ({ cls := "CordSeals$Collection$1", name := "<init>", desc := "(LCordSeals$Collection;LCordSeals$Die;LCordSeals$Seal;)V" } : Jvm.MethodName) prog_3_method_1_code (4 : Nat) (Option.none : Option Jvm.ClassFile.FieldType)) ∈ lw_all := lw_g (lw_at lw_m6 161 rfl) rfl
theorem q1438 : (Jvm.Cond.methodLink "CordSeals$Collection$1" (17 : Nat) ({ cls := "java/lang/Object", name := "<init>", desc := "()V" } : Jvm.MethodName)) ∈ lw_all := lw_g (lw_at lw_m6 162 rfl) rfl
theorem q1439 : (Jvm.Cond.fieldLink "CordSeals$Collection$1" (9 : Nat) "CordSeals$Collection$1" "val$d" "LCordSeals$Die;") ∈ lw_all := lw_g (lw_at lw_m6 163 rfl) rfl
theorem q1440 : (Jvm.Cond.fieldLink "CordSeals$Collection$1" (13 : Nat) "CordSeals$Collection$1" "val$s" "LCordSeals$Seal;") ∈ lw_all := lw_g (lw_at lw_m6 164 rfl) rfl
theorem q1441 : (Jvm.Cond.fieldLink "CordSeals$Collection$1" (3 : Nat) "CordSeals$Collection$1" "this$0" "LCordSeals$Collection;") ∈ lw_all := lw_g (lw_at lw_m6 165 rfl) rfl
theorem q1442 : (Jvm.Cond.laysFinal "CordSeals$Collection$1" "CordSeals$Collection$1" "val$d" "LCordSeals$Die;") ∈ lw_all := lw_g (lw_at lw_m6 166 rfl) rfl
theorem q1443 : (Jvm.Cond.soleField "CordSeals$Collection$1" "val$d") ∈ lw_all := lw_g (lw_at lw_m6 167 rfl) rfl
theorem q1444 : (Jvm.Cond.laysFinal "CordSeals$Collection$1" "CordSeals$Collection$1" "val$s" "LCordSeals$Seal;") ∈ lw_all := lw_g (lw_at lw_m6 168 rfl) rfl
theorem q1445 : (Jvm.Cond.soleField "CordSeals$Collection$1" "val$s") ∈ lw_all := lw_g (lw_at lw_m6 169 rfl) rfl
theorem q1446 : (Jvm.Cond.laysFinal "CordSeals$Collection$1" "CordSeals$Collection$1" "this$0" "LCordSeals$Collection;") ∈ lw_all := lw_g (lw_at lw_m6 170 rfl) rfl
theorem q1447 : (Jvm.Cond.soleField "CordSeals$Collection$1" "this$0") ∈ lw_all := lw_g (lw_at lw_m6 171 rfl) rfl
theorem q1448 : (Jvm.Cond.superclass "CordSeals$Collection$1" "java/lang/Object") ∈ lw_all := lw_g (lw_at lw_m6 172 rfl) rfl
theorem q1458 : (Jvm.Cond.castable "CordSeals$Collection$1" "CordSeals$Rule") ∈ lw_tbl := lw_at lw_m6 182 rfl
theorem q1459 : (Jvm.Cond.selects "CordSeals$Collection$1" ({ cls := "CordSeals$Rule", name := "allows", desc := "(I)Z" } : Jvm.MethodName) ({ cls := "CordSeals$Collection$1", name := "allows", desc := "(I)Z" } : Jvm.MethodName)) ∈ lw_all := lw_g (lw_at lw_m6 183 rfl) rfl
theorem q1460 : (Jvm.Cond.unhidden "CordSeals$Collection$1" "allows" "(I)Z") ∈ lw_tbl := lw_at lw_m6 184 rfl
theorem q1461 : (Jvm.Cond.instanceMethod ({ cls := "CordSeals$Collection$1", name := "allows", desc := "(I)Z" } : Jvm.MethodName)) ∈ lw_all := lw_g (lw_at lw_m6 185 rfl) rfl
theorem q1462 : (Jvm.Cond.publicMethod ({ cls := "CordSeals$Collection$1", name := "allows", desc := "(I)Z" } : Jvm.MethodName)) ∈ lw_tbl := lw_at lw_m6 186 rfl
theorem q1463 : (Jvm.Cond.code ({ cls := "CordSeals$Collection$1", name := "allows", desc := "(I)Z" } : Jvm.MethodName) prog_3_method_2_code (5 : Nat) (Option.some Jvm.ClassFile.FieldType.boolean)) ∈ lw_all := lw_g (lw_at lw_m6 187 rfl) rfl
theorem q1464 : (Jvm.Cond.methodLinkNest "CordSeals$Collection$1" (32 : Nat) ({ cls := "CordSeals", name := "isIn", desc := "(JJJ)Z" } : Jvm.MethodName) "CordSeals") ∈ lw_tbl := lw_at lw_m6 188 rfl
theorem q1465 : (Jvm.Cond.methodLinkNest "CordSeals$Collection$1" (41 : Nat) ({ cls := "CordSeals$Collection", name := "used", desc := "(II)Z" } : Jvm.MethodName) "CordSeals") ∈ lw_tbl := lw_at lw_m6 189 rfl
theorem q1469 : (Jvm.Cond.interfaceEntry "CordSeals$Collection$1" (51 : Nat)) ∈ lw_tbl := lw_at lw_m6 193 rfl
theorem q1470 : (Jvm.Cond.methodLink "CordSeals$Collection$1" (51 : Nat) ({ cls := "java/util/List", name := "size", desc := "()I" } : Jvm.MethodName)) ∈ lw_all := lw_g (lw_at lw_m6 194 rfl) rfl
theorem q1471 : (Jvm.Cond.interfaceEntry "CordSeals$Collection$1" (59 : Nat)) ∈ lw_tbl := lw_at lw_m6 195 rfl
theorem q1472 : (Jvm.Cond.methodLink "CordSeals$Collection$1" (59 : Nat) ({ cls := "java/util/List", name := "get", desc := "(I)Ljava/lang/Object;" } : Jvm.MethodName)) ∈ lw_all := lw_g (lw_at lw_m6 196 rfl) rfl
theorem q1473 : (Jvm.Cond.classLink "CordSeals$Collection$1" (63 : Nat) "java/lang/Integer") ∈ lw_all := lw_g (lw_at lw_m6 197 rfl) rfl
theorem q1474 : (Jvm.Cond.methodLink "CordSeals$Collection$1" (65 : Nat) ({ cls := "java/lang/Integer", name := "intValue", desc := "()I" } : Jvm.MethodName)) ∈ lw_all := lw_g (lw_at lw_m6 198 rfl) rfl
theorem q2678 : (Jvm.Cond.castable "CordSeals$Collection$1" "java/lang/Object") ∈ lw_tbl := lw_at lw_m11 202 rfl
theorem in_X7 : ∀ w ∈ wsX70, w ∈ lw_all := lw_in wsX70 [1442, 1444, 1446] (by decide +kernel) (by decide +kernel)
def RX8 : String := "CordSeals$Collection$Walk"
def TX8 : u_T := fun k => match k with
  | 0 => ("CordSeals$Collection$Walk", "way", "Ljava/util/Iterator;", true)
  | 1 => ("CordSeals$Collection$Walk", "taken", "I", false)
  | _ => ("CordSeals$Collection$Walk", "this$0", "LCordSeals$Collection;", true)
def tyX8 : Nat → FieldType := fun k => match k with
  | 0 => .object "java/util/Iterator"
  | 1 => .int
  | _ => .object "CordSeals$Collection"
abbrev wsX80 : List Cond := u_ws RX8 TX8 3
theorem nmX8 : ∀ a, a < 3 → ∀ b, b < 3 → a ≠ b → (TX8 a).2.1 ≠ (TX8 b).2.1 := by decide +kernel
theorem tyX8_ok : ∀ k, k < 3 → parseFieldDescriptor (TX8 k).2.2.1 = some (tyX8 k) := by decide +kernel
abbrev cX8_hasNext : ByteArray := prog_4_method_2_code
def yX8_hasNext : MethodName := ⟨RX8, "hasNext", "()Z"⟩
def dkwX8_hasNext_0 : List UInt8 := [42, 180, 0, 31, 185, 0, 35, 1, 0, 172]
abbrev dktX8_hasNext_0 : List UInt8 := dkwX8_hasNext_0 ++ []
theorem dksX8_hasNext_0 : cX8_hasNext.data.toList.drop 0 = dktX8_hasNext_0 := by decide +kernel
theorem dX8_hasNext_0 : decode cX8_hasNext 0 = .ok (.aload_n 0, 1) := dk_42 (dk_at dksX8_hasNext_0 0 rfl rfl)
theorem dX8_hasNext_1 : decode cX8_hasNext 1 = .ok (.getfield 31, 3) := dk_180 0 31 (dk_at dksX8_hasNext_0 1 rfl rfl)
theorem dX8_hasNext_4 : decode cX8_hasNext 4 = .ok (.invokeinterface 35 1, 5) := by decide +kernel
theorem dX8_hasNext_9 : decode cX8_hasNext 9 = .ok (.ireturn, 1) := dk_172 (dk_at dksX8_hasNext_0 9 rfl rfl)
abbrev cX8_next : ByteArray := prog_4_method_5_code
def yX8_next : MethodName := ⟨RX8, "next", "()Ljava/lang/Object;"⟩
theorem dX8_next_0 : decode cX8_next 0 = .ok (.aload_n 0, 1) := by decide +kernel
theorem dX8_next_1 : decode cX8_next 1 = .ok (.invokevirtual 58, 3) := by decide +kernel
theorem dX8_next_4 : decode cX8_next 4 = .ok (.areturn, 1) := by decide +kernel
abbrev cX8_next_2 : ByteArray := prog_4_method_3_code
def yX8_next_2 : MethodName := ⟨RX8, "next", "()Ljava/lang/Integer;"⟩
def dkwX8_next_2_1 : List UInt8 := [192, 0, 49, 176]
abbrev dktX8_next_2_1 : List UInt8 := dkwX8_next_2_1 ++ []
def dkwX8_next_2_0 : List UInt8 := [42, 182, 0, 41, 154, 0, 11, 187, 0, 42, 89, 183, 0, 44, 191, 42, 180, 0, 31, 185, 0, 45, 1, 0]
abbrev dktX8_next_2_0 : List UInt8 := dkwX8_next_2_0 ++ dktX8_next_2_1
theorem dksX8_next_2_0 : cX8_next_2.data.toList.drop 0 = dktX8_next_2_0 := by decide +kernel
theorem dksX8_next_2_1 : cX8_next_2.data.toList.drop 24 = dktX8_next_2_1 := dk_seg dksX8_next_2_0 24 rfl rfl
theorem dX8_next_2_0 : decode cX8_next_2 0 = .ok (.aload_n 0, 1) := dk_42 (dk_at dksX8_next_2_0 0 rfl rfl)
theorem dX8_next_2_1 : decode cX8_next_2 1 = .ok (.invokevirtual 41, 3) := dk_182 0 41 (dk_at dksX8_next_2_0 1 rfl rfl)
theorem dX8_next_2_4 : decode cX8_next_2 4 = .ok (.ifCond .ne 11, 3) := dk_154 0 11 (dk_at dksX8_next_2_0 4 rfl rfl)
theorem dX8_next_2_7 : decode cX8_next_2 7 = .ok (.new 42, 3) := dk_187 0 42 (dk_at dksX8_next_2_0 7 rfl rfl)
theorem dX8_next_2_10 : decode cX8_next_2 10 = .ok (.dup, 1) := dk_89 (dk_at dksX8_next_2_0 10 rfl rfl)
theorem dX8_next_2_11 : decode cX8_next_2 11 = .ok (.invokespecial 44, 3) := dk_183 0 44 (dk_at dksX8_next_2_0 11 rfl rfl)
theorem dX8_next_2_14 : decode cX8_next_2 14 = .ok (.athrow, 1) := dk_191 (dk_at dksX8_next_2_0 14 rfl rfl)
theorem dX8_next_2_15 : decode cX8_next_2 15 = .ok (.aload_n 0, 1) := dk_42 (dk_at dksX8_next_2_0 15 rfl rfl)
theorem dX8_next_2_16 : decode cX8_next_2 16 = .ok (.getfield 31, 3) := dk_180 0 31 (dk_at dksX8_next_2_0 16 rfl rfl)
theorem dX8_next_2_19 : decode cX8_next_2 19 = .ok (.invokeinterface 45 1, 5) := by decide +kernel
theorem dX8_next_2_24 : decode cX8_next_2 24 = .ok (.checkcast 49, 3) := dk_192 0 49 (dk_at dksX8_next_2_1 0 rfl rfl)
theorem dX8_next_2_27 : decode cX8_next_2 27 = .ok (.areturn, 1) := dk_176 (dk_at dksX8_next_2_1 3 rfl rfl)
abbrev cX8_init : ByteArray := prog_4_method_1_code
def yX8_init : MethodName := ⟨RX8, "<init>", "(LCordSeals$Collection;I)V"⟩
def dkwX8_init_1 : List UInt8 := [182, 0, 27, 181, 0, 31, 177]
abbrev dktX8_init_1 : List UInt8 := dkwX8_init_1 ++ []
def dkwX8_init_0 : List UInt8 := [42, 43, 181, 0, 1, 42, 183, 0, 7, 42, 43, 180, 0, 13, 28, 185, 0, 19, 2, 0, 192, 0, 25]
abbrev dktX8_init_0 : List UInt8 := dkwX8_init_0 ++ dktX8_init_1
theorem dksX8_init_0 : cX8_init.data.toList.drop 0 = dktX8_init_0 := by decide +kernel
theorem dksX8_init_1 : cX8_init.data.toList.drop 23 = dktX8_init_1 := dk_seg dksX8_init_0 23 rfl rfl
theorem dX8_init_0 : decode cX8_init 0 = .ok (.aload_n 0, 1) := dk_42 (dk_at dksX8_init_0 0 rfl rfl)
theorem dX8_init_1 : decode cX8_init 1 = .ok (.aload_n 1, 1) := dk_43 (dk_at dksX8_init_0 1 rfl rfl)
theorem dX8_init_2 : decode cX8_init 2 = .ok (.putfield 1, 3) := dk_181 0 1 (dk_at dksX8_init_0 2 rfl rfl)
theorem dX8_init_5 : decode cX8_init 5 = .ok (.aload_n 0, 1) := dk_42 (dk_at dksX8_init_0 5 rfl rfl)
theorem dX8_init_6 : decode cX8_init 6 = .ok (.invokespecial 7, 3) := dk_183 0 7 (dk_at dksX8_init_0 6 rfl rfl)
theorem dX8_init_9 : decode cX8_init 9 = .ok (.aload_n 0, 1) := dk_42 (dk_at dksX8_init_0 9 rfl rfl)
theorem dX8_init_10 : decode cX8_init 10 = .ok (.aload_n 1, 1) := dk_43 (dk_at dksX8_init_0 10 rfl rfl)
theorem dX8_init_11 : decode cX8_init 11 = .ok (.getfield 13, 3) := dk_180 0 13 (dk_at dksX8_init_0 11 rfl rfl)
theorem dX8_init_14 : decode cX8_init 14 = .ok (.iload_n 2, 1) := dk_28 (dk_at dksX8_init_0 14 rfl rfl)
theorem dX8_init_15 : decode cX8_init 15 = .ok (.invokeinterface 19 2, 5) := by decide +kernel
theorem dX8_init_20 : decode cX8_init 20 = .ok (.checkcast 25, 3) := dk_192 0 25 (dk_at dksX8_init_0 20 rfl rfl)
theorem dX8_init_23 : decode cX8_init 23 = .ok (.invokevirtual 27, 3) := dk_182 0 27 (dk_at dksX8_init_1 0 rfl rfl)
theorem dX8_init_26 : decode cX8_init 26 = .ok (.putfield 31, 3) := dk_181 0 31 (dk_at dksX8_init_1 3 rfl rfl)
theorem dX8_init_29 : decode cX8_init 29 = .ok (.return_, 1) := dk_177 (dk_at dksX8_init_1 6 rfl rfl)
abbrev cX8_remove : ByteArray := prog_4_method_4_code
def yX8_remove : MethodName := ⟨RX8, "remove", "()V"⟩
def dkwX8_remove_0 : List UInt8 := [42, 180, 0, 31, 185, 0, 51, 1, 0, 42, 89, 180, 0, 54, 4, 96, 181, 0, 54, 177]
abbrev dktX8_remove_0 : List UInt8 := dkwX8_remove_0 ++ []
theorem dksX8_remove_0 : cX8_remove.data.toList.drop 0 = dktX8_remove_0 := by decide +kernel
theorem dX8_remove_0 : decode cX8_remove 0 = .ok (.aload_n 0, 1) := dk_42 (dk_at dksX8_remove_0 0 rfl rfl)
theorem dX8_remove_1 : decode cX8_remove 1 = .ok (.getfield 31, 3) := dk_180 0 31 (dk_at dksX8_remove_0 1 rfl rfl)
theorem dX8_remove_4 : decode cX8_remove 4 = .ok (.invokeinterface 51 1, 5) := by decide +kernel
theorem dX8_remove_9 : decode cX8_remove 9 = .ok (.aload_n 0, 1) := dk_42 (dk_at dksX8_remove_0 9 rfl rfl)
theorem dX8_remove_10 : decode cX8_remove 10 = .ok (.dup, 1) := dk_89 (dk_at dksX8_remove_0 10 rfl rfl)
theorem dX8_remove_11 : decode cX8_remove 11 = .ok (.getfield 54, 3) := dk_180 0 54 (dk_at dksX8_remove_0 11 rfl rfl)
theorem dX8_remove_14 : decode cX8_remove 14 = .ok (.iconst 1, 1) := dk_4 (dk_at dksX8_remove_0 14 rfl rfl)
theorem dX8_remove_15 : decode cX8_remove 15 = .ok (.iadd, 1) := dk_96 (dk_at dksX8_remove_0 15 rfl rfl)
theorem dX8_remove_16 : decode cX8_remove 16 = .ok (.putfield 54, 3) := dk_181 0 54 (dk_at dksX8_remove_0 16 rfl rfl)
theorem dX8_remove_19 : decode cX8_remove 19 = .ok (.return_, 1) := dk_177 (dk_at dksX8_remove_0 19 rfl rfl)
theorem q120 : (Jvm.Cond.initialized "CordSeals$Collection$Walk") ∈ lw_all := lw_g (lw_at lw_m1 44 rfl) rfl
theorem q232 : (Jvm.Cond.selects "CordSeals$Collection$Walk" ({ cls := "java/lang/Object", name := "getClass", desc := "()Ljava/lang/Class;" } : Jvm.MethodName) ({ cls := "java/lang/Object", name := "getClass", desc := "()Ljava/lang/Class;" } : Jvm.MethodName)) ∈ lw_all := lw_g (lw_at lw_m1 156 rfl) rfl
theorem q307 : (Jvm.Cond.fieldLinkNest "CordSeals$Collection$Walk" (13 : Nat) "CordSeals$Collection" "shelves" "Ljava/util/List;" "CordSeals") ∈ lw_tbl := lw_at lw_m1 231 rfl
theorem q939 : (Jvm.Cond.selects "CordSeals$Collection$Walk" ({ cls := "java/lang/Object", name := "equals", desc := "(Ljava/lang/Object;)Z" } : Jvm.MethodName) ({ cls := "java/lang/Object", name := "equals", desc := "(Ljava/lang/Object;)Z" } : Jvm.MethodName)) ∈ lw_all := lw_g (lw_at lw_m4 143 rfl) rfl
theorem q1164 : (Jvm.Cond.castable "CordSeals$Collection$Walk" "java/util/Iterator") ∈ lw_tbl := lw_at lw_m5 128 rfl
theorem q1165 : (Jvm.Cond.selects "CordSeals$Collection$Walk" ({ cls := "java/util/Iterator", name := "hasNext", desc := "()Z" } : Jvm.MethodName) ({ cls := "CordSeals$Collection$Walk", name := "hasNext", desc := "()Z" } : Jvm.MethodName)) ∈ lw_all := lw_g (lw_at lw_m5 129 rfl) rfl
theorem q1166 : (Jvm.Cond.unhidden "CordSeals$Collection$Walk" "hasNext" "()Z") ∈ lw_tbl := lw_at lw_m5 130 rfl
theorem q1167 : (Jvm.Cond.instanceMethod ({ cls := "CordSeals$Collection$Walk", name := "hasNext", desc := "()Z" } : Jvm.MethodName)) ∈ lw_all := lw_g (lw_at lw_m5 131 rfl) rfl
theorem q1168 : (Jvm.Cond.publicMethod ({ cls := "CordSeals$Collection$Walk", name := "hasNext", desc := "()Z" } : Jvm.MethodName)) ∈ lw_tbl := lw_at lw_m5 132 rfl
theorem q1169 : (Jvm.Cond.code ({ cls := "CordSeals$Collection$Walk", name := "hasNext", desc := "()Z" } : Jvm.MethodName) prog_4_method_2_code (1 : Nat) (Option.some Jvm.ClassFile.FieldType.boolean)) ∈ lw_all := lw_g (lw_at lw_m5 133 rfl) rfl
theorem q1170 : (Jvm.Cond.interfaceEntry "CordSeals$Collection$Walk" (35 : Nat)) ∈ lw_tbl := lw_at lw_m5 134 rfl
theorem q1171 : (Jvm.Cond.methodLink "CordSeals$Collection$Walk" (35 : Nat) ({ cls := "java/util/Iterator", name := "hasNext", desc := "()Z" } : Jvm.MethodName)) ∈ lw_all := lw_g (lw_at lw_m5 135 rfl) rfl
theorem q1201 : (Jvm.Cond.selects "CordSeals$Collection$Walk" ({ cls := "java/util/Iterator", name := "next", desc := "()Ljava/lang/Object;" } : Jvm.MethodName) ({ cls := "CordSeals$Collection$Walk", name := "next", desc := "()Ljava/lang/Object;" } : Jvm.MethodName)) ∈ lw_all := lw_g (lw_at lw_m5 165 rfl) rfl
theorem q1202 : (Jvm.Cond.unhidden "CordSeals$Collection$Walk" "next" "()Ljava/lang/Object;") ∈ lw_tbl := lw_at lw_m5 166 rfl
theorem q1203 : (Jvm.Cond.instanceMethod ({ cls := "CordSeals$Collection$Walk", name := "next", desc := "()Ljava/lang/Object;" } : Jvm.MethodName)) ∈ lw_all := lw_g (lw_at lw_m5 167 rfl) rfl
theorem q1204 : (Jvm.Cond.publicMethod ({ cls := "CordSeals$Collection$Walk", name := "next", desc := "()Ljava/lang/Object;" } : Jvm.MethodName)) ∈ lw_tbl := lw_at lw_m5 168 rfl
theorem q1205 : (Jvm.Cond.code ({ cls := "CordSeals$Collection$Walk", name := "next", desc := "()Ljava/lang/Object;" } : Jvm.MethodName) prog_4_method_5_code (1 : Nat) (Option.some (Jvm.ClassFile.FieldType.object "java/lang/Object"))) ∈ lw_all := lw_g (lw_at lw_m5 169 rfl) rfl
theorem q1206 : (Jvm.Cond.methodLink "CordSeals$Collection$Walk" (58 : Nat) ({ cls := "CordSeals$Collection$Walk", name := "next", desc := "()Ljava/lang/Integer;" } : Jvm.MethodName)) ∈ lw_all := lw_g (lw_at lw_m5 170 rfl) rfl
theorem q1207 : (Jvm.Cond.instanceMethod ({ cls := "CordSeals$Collection$Walk", name := "next", desc := "()Ljava/lang/Integer;" } : Jvm.MethodName)) ∈ lw_all := lw_g (lw_at lw_m5 171 rfl) rfl
theorem q1208 : (Jvm.Cond.selects "CordSeals$Collection$Walk" ({ cls := "CordSeals$Collection$Walk", name := "next", desc := "()Ljava/lang/Integer;" } : Jvm.MethodName) ({ cls := "CordSeals$Collection$Walk", name := "next", desc := "()Ljava/lang/Integer;" } : Jvm.MethodName)) ∈ lw_all := lw_g (lw_at lw_m5 172 rfl) rfl
theorem q1209 : (Jvm.Cond.code ({ cls := "CordSeals$Collection$Walk", name := "next", desc := "()Ljava/lang/Integer;" } : Jvm.MethodName) prog_4_method_3_code (1 : Nat) (Option.some (Jvm.ClassFile.FieldType.object "java/lang/Integer"))) ∈ lw_all := lw_g (lw_at lw_m5 173 rfl) rfl
theorem q1210 : (Jvm.Cond.methodLink "CordSeals$Collection$Walk" (41 : Nat) ({ cls := "CordSeals$Collection$Walk", name := "hasNext", desc := "()Z" } : Jvm.MethodName)) ∈ lw_all := lw_g (lw_at lw_m5 174 rfl) rfl
theorem q1211 : (Jvm.Cond.classLink "CordSeals$Collection$Walk" (42 : Nat) "java/util/NoSuchElementException") ∈ lw_all := lw_g (lw_at lw_m5 175 rfl) rfl
theorem q1220 : (Jvm.Cond.methodLink "CordSeals$Collection$Walk" (44 : Nat) ({ cls := "java/util/NoSuchElementException", name := "<init>", desc := "()V" } : Jvm.MethodName)) ∈ lw_all := lw_g (lw_at lw_m5 184 rfl) rfl
theorem q1232 : (Jvm.Cond.interfaceEntry "CordSeals$Collection$Walk" (45 : Nat)) ∈ lw_tbl := lw_at lw_m5 196 rfl
theorem q1233 : (Jvm.Cond.methodLink "CordSeals$Collection$Walk" (45 : Nat) ({ cls := "java/util/Iterator", name := "next", desc := "()Ljava/lang/Object;" } : Jvm.MethodName)) ∈ lw_all := lw_g (lw_at lw_m5 197 rfl) rfl
theorem q1321 : (Jvm.Cond.classLink "CordSeals$Collection$Walk" (49 : Nat) "java/lang/Integer") ∈ lw_all := lw_g (lw_at lw_m6 45 rfl) rfl
theorem q1894 : (Jvm.Cond.instantiable "CordSeals$Collection$Walk" (3 : Nat)) ∈ lw_all := lw_g (lw_at lw_m8 138 rfl) rfl
theorem q1896 : (Jvm.Cond.instanceMethod ({ cls := "CordSeals$Collection$Walk", name := "<init>", desc := "(LCordSeals$Collection;I)V" } : Jvm.MethodName)) ∈ lw_all := lw_g (lw_at lw_m8 140 rfl) rfl
theorem q1897 : (Jvm.Cond.code ({ cls := "CordSeals$Collection$Walk", name := "<init>", desc := "(LCordSeals$Collection;I)V" } : Jvm.MethodName) prog_4_method_1_code (3 : Nat) (Option.none : Option Jvm.ClassFile.FieldType)) ∈ lw_all := lw_g (lw_at lw_m8 141 rfl) rfl
theorem q1898 : (Jvm.Cond.methodLink "CordSeals$Collection$Walk" (7 : Nat) ({ cls := "java/lang/Object", name := "<init>", desc := "()V" } : Jvm.MethodName)) ∈ lw_all := lw_g (lw_at lw_m8 142 rfl) rfl
theorem q1899 : (Jvm.Cond.interfaceEntry "CordSeals$Collection$Walk" (19 : Nat)) ∈ lw_tbl := lw_at lw_m8 143 rfl
theorem q1900 : (Jvm.Cond.methodLink "CordSeals$Collection$Walk" (19 : Nat) ({ cls := "java/util/List", name := "get", desc := "(I)Ljava/lang/Object;" } : Jvm.MethodName)) ∈ lw_all := lw_g (lw_at lw_m8 144 rfl) rfl
theorem q1901 : (Jvm.Cond.classLink "CordSeals$Collection$Walk" (25 : Nat) "java/util/LinkedList") ∈ lw_all := lw_g (lw_at lw_m8 145 rfl) rfl
theorem q1902 : (Jvm.Cond.methodLink "CordSeals$Collection$Walk" (27 : Nat) ({ cls := "java/util/LinkedList", name := "iterator", desc := "()Ljava/util/Iterator;" } : Jvm.MethodName)) ∈ lw_all := lw_g (lw_at lw_m8 146 rfl) rfl
theorem q1903 : (Jvm.Cond.fieldLink "CordSeals$Collection$Walk" (31 : Nat) "CordSeals$Collection$Walk" "way" "Ljava/util/Iterator;") ∈ lw_all := lw_g (lw_at lw_m8 147 rfl) rfl
theorem q1904 : (Jvm.Cond.fieldLink "CordSeals$Collection$Walk" (54 : Nat) "CordSeals$Collection$Walk" "taken" "I") ∈ lw_all := lw_g (lw_at lw_m8 148 rfl) rfl
theorem q1906 : (Jvm.Cond.fieldLink "CordSeals$Collection$Walk" (1 : Nat) "CordSeals$Collection$Walk" "this$0" "LCordSeals$Collection;") ∈ lw_all := lw_g (lw_at lw_m8 150 rfl) rfl
theorem q1907 : (Jvm.Cond.laysFinal "CordSeals$Collection$Walk" "CordSeals$Collection$Walk" "way" "Ljava/util/Iterator;") ∈ lw_all := lw_g (lw_at lw_m8 151 rfl) rfl
theorem q1908 : (Jvm.Cond.soleField "CordSeals$Collection$Walk" "way") ∈ lw_all := lw_g (lw_at lw_m8 152 rfl) rfl
theorem q1909 : (Jvm.Cond.lays "CordSeals$Collection$Walk" "CordSeals$Collection$Walk" "taken" "I") ∈ lw_all := lw_g (lw_at lw_m8 153 rfl) rfl
theorem q1910 : (Jvm.Cond.soleField "CordSeals$Collection$Walk" "taken") ∈ lw_all := lw_g (lw_at lw_m8 154 rfl) rfl
theorem q1911 : (Jvm.Cond.laysFinal "CordSeals$Collection$Walk" "CordSeals$Collection$Walk" "this$0" "LCordSeals$Collection;") ∈ lw_all := lw_g (lw_at lw_m8 155 rfl) rfl
theorem q1912 : (Jvm.Cond.soleField "CordSeals$Collection$Walk" "this$0") ∈ lw_all := lw_g (lw_at lw_m8 156 rfl) rfl
theorem q1913 : (Jvm.Cond.superclass "CordSeals$Collection$Walk" "java/lang/Object") ∈ lw_all := lw_g (lw_at lw_m8 157 rfl) rfl
theorem q1916 : (Jvm.Cond.instanceMethod ({ cls := "CordSeals$Collection$Walk", name := "remove", desc := "()V" } : Jvm.MethodName)) ∈ lw_all := lw_g (lw_at lw_m8 160 rfl) rfl
theorem q1917 : (Jvm.Cond.selects "CordSeals$Collection$Walk" ({ cls := "CordSeals$Collection$Walk", name := "remove", desc := "()V" } : Jvm.MethodName) ({ cls := "CordSeals$Collection$Walk", name := "remove", desc := "()V" } : Jvm.MethodName)) ∈ lw_all := lw_g (lw_at lw_m8 161 rfl) rfl
theorem q1918 : (Jvm.Cond.code ({ cls := "CordSeals$Collection$Walk", name := "remove", desc := "()V" } : Jvm.MethodName) prog_4_method_4_code (1 : Nat) (Option.none : Option Jvm.ClassFile.FieldType)) ∈ lw_all := lw_g (lw_at lw_m8 162 rfl) rfl
theorem q1919 : (Jvm.Cond.interfaceEntry "CordSeals$Collection$Walk" (51 : Nat)) ∈ lw_tbl := lw_at lw_m8 163 rfl
theorem q1920 : (Jvm.Cond.methodLink "CordSeals$Collection$Walk" (51 : Nat) ({ cls := "java/util/Iterator", name := "remove", desc := "()V" } : Jvm.MethodName)) ∈ lw_all := lw_g (lw_at lw_m8 164 rfl) rfl
theorem q1923 : (Jvm.Cond.selects "CordSeals$Collection$Walk" ({ cls := "java/util/Iterator", name := "remove", desc := "()V" } : Jvm.MethodName) ({ cls := "CordSeals$Collection$Walk", name := "remove", desc := "()V" } : Jvm.MethodName)) ∈ lw_all := lw_g (lw_at lw_m8 167 rfl) rfl
theorem q1924 : (Jvm.Cond.unhidden "CordSeals$Collection$Walk" "remove" "()V") ∈ lw_tbl := lw_at lw_m8 168 rfl
theorem q1925 : (Jvm.Cond.publicMethod ({ cls := "CordSeals$Collection$Walk", name := "remove", desc := "()V" } : Jvm.MethodName)) ∈ lw_tbl := lw_at lw_m8 169 rfl
theorem q2647 : (Jvm.Cond.selects "CordSeals$Collection$Walk" ({ cls := "CordSeals$Collection$Walk", name := "hasNext", desc := "()Z" } : Jvm.MethodName) ({ cls := "CordSeals$Collection$Walk", name := "hasNext", desc := "()Z" } : Jvm.MethodName)) ∈ lw_all := lw_g (lw_at lw_m11 171 rfl) rfl
theorem q2680 : (Jvm.Cond.castable "CordSeals$Collection$Walk" "java/lang/Object") ∈ lw_tbl := lw_at lw_m11 204 rfl
theorem in_X8 : ∀ w ∈ wsX80, w ∈ lw_all := lw_in wsX80 [1907, 1909, 1911] (by decide +kernel) (by decide +kernel)
