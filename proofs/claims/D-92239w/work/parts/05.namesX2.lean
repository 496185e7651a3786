/-! TrailerYards$Trailer -/
set_option maxRecDepth 100000
def RX2 : String := "TrailerYards$Trailer"
def TX2 : u_T := fun k => match k with
  | 0 => ("TrailerYards$Trailer", "number", "I", true)
  | 1 => ("TrailerYards$Trailer", "worth", "I", true)
  | 2 => ("TrailerYards$Trailer", "yard", "I", false)
  | 3 => ("TrailerYards$Trailer", "tractor", "I", false)
  | 4 => ("TrailerYards$Trailer", "isLost", "Z", false)
  | 5 => ("TrailerYards$Trailer", "isSealed", "Z", false)
  | 6 => ("TrailerYards$Trailer", "axle", "I", false)
  | 7 => ("TrailerYards$Trailer", "loadMany", "I", false)
  | 8 => ("TrailerYards$Trailer", "weights", "[I", true)
  | 9 => ("TrailerYards$Trailer", "places", "[I", true)
  | _ => ("TrailerYards$Trailer", "this$0", "LTrailerYards;", true)
def tyX2 : Nat → FieldType := fun k => match k with
  | 0 => .int
  | 1 => .int
  | 2 => .int
  | 3 => .int
  | 4 => .boolean
  | 5 => .boolean
  | 6 => .int
  | 7 => .int
  | 8 => .array .int
  | 9 => .array .int
  | _ => .object "TrailerYards"
abbrev wsX20 : List Cond := u_ws RX2 TX2 11
theorem nmX2 : ∀ a, a < 11 → ∀ b, b < 11 → a ≠ b → (TX2 a).2.1 ≠ (TX2 b).2.1 := by decide +kernel
theorem tyX2_ok : ∀ k, k < 11 → parseFieldDescriptor (TX2 k).2.2.1 = some (tyX2 k) := by decide +kernel
abbrev cX2_init : ByteArray := prog_6_method_1_code
def yX2_init : MethodName := ⟨RX2, "<init>", "(LTrailerYards;III)V"⟩
def dkwX2_init_2 : List UInt8 := [21, 4, 181, 0, 35, 177]
abbrev dktX2_init_2 : List UInt8 := dkwX2_init_2 ++ []
def dkwX2_init_1 : List UInt8 := [188, 10, 181, 0, 22, 42, 16, 6, 188, 10, 181, 0, 26, 42, 28, 181, 0, 29, 42, 29, 181, 0, 32, 42]
abbrev dktX2_init_1 : List UInt8 := dkwX2_init_1 ++ dktX2_init_2
def dkwX2_init_0 : List UInt8 := [42, 43, 181, 0, 3, 42, 183, 0, 9, 42, 16, 247, 181, 0, 15, 42, 16, 100, 181, 0, 19, 42, 16, 6]
abbrev dktX2_init_0 : List UInt8 := dkwX2_init_0 ++ dktX2_init_1
theorem dksX2_init_0 : cX2_init.data.toList.drop 0 = dktX2_init_0 := by decide +kernel
theorem dksX2_init_1 : cX2_init.data.toList.drop 24 = dktX2_init_1 := dk_seg dksX2_init_0 24 rfl rfl
theorem dksX2_init_2 : cX2_init.data.toList.drop 48 = dktX2_init_2 := dk_seg dksX2_init_1 24 rfl rfl
theorem dX2_init_0 : decode cX2_init 0 = .ok (.aload_n 0, 1) := dk_42 (dk_at dksX2_init_0 0 rfl rfl)
theorem dX2_init_1 : decode cX2_init 1 = .ok (.aload_n 1, 1) := dk_43 (dk_at dksX2_init_0 1 rfl rfl)
theorem dX2_init_2 : decode cX2_init 2 = .ok (.putfield 3, 3) := dk_181 0 3 (dk_at dksX2_init_0 2 rfl rfl)
theorem dX2_init_5 : decode cX2_init 5 = .ok (.aload_n 0, 1) := dk_42 (dk_at dksX2_init_0 5 rfl rfl)
theorem dX2_init_6 : decode cX2_init 6 = .ok (.invokespecial 9, 3) := dk_183 0 9 (dk_at dksX2_init_0 6 rfl rfl)
theorem dX2_init_9 : decode cX2_init 9 = .ok (.aload_n 0, 1) := dk_42 (dk_at dksX2_init_0 9 rfl rfl)
theorem dX2_init_10 : decode cX2_init 10 = .ok (.bipush (-9), 2) := dk_16 247 (dk_at dksX2_init_0 10 rfl rfl)
theorem dX2_init_12 : decode cX2_init 12 = .ok (.putfield 15, 3) := dk_181 0 15 (dk_at dksX2_init_0 12 rfl rfl)
theorem dX2_init_15 : decode cX2_init 15 = .ok (.aload_n 0, 1) := dk_42 (dk_at dksX2_init_0 15 rfl rfl)
theorem dX2_init_16 : decode cX2_init 16 = .ok (.bipush 100, 2) := dk_16 100 (dk_at dksX2_init_0 16 rfl rfl)
theorem dX2_init_18 : decode cX2_init 18 = .ok (.putfield 19, 3) := dk_181 0 19 (dk_at dksX2_init_0 18 rfl rfl)
theorem dX2_init_21 : decode cX2_init 21 = .ok (.aload_n 0, 1) := dk_42 (dk_at dksX2_init_0 21 rfl rfl)
theorem dX2_init_22 : decode cX2_init 22 = .ok (.bipush 6, 2) := dk_16 6 (dk_at dksX2_init_0 22 rfl rfl)
theorem dX2_init_24 : decode cX2_init 24 = .ok (.newarray .int, 2) := dk_188_10 (dk_at dksX2_init_1 0 rfl rfl)
theorem dX2_init_26 : decode cX2_init 26 = .ok (.putfield 22, 3) := dk_181 0 22 (dk_at dksX2_init_1 2 rfl rfl)
theorem dX2_init_29 : decode cX2_init 29 = .ok (.aload_n 0, 1) := dk_42 (dk_at dksX2_init_1 5 rfl rfl)
theorem dX2_init_30 : decode cX2_init 30 = .ok (.bipush 6, 2) := dk_16 6 (dk_at dksX2_init_1 6 rfl rfl)
theorem dX2_init_32 : decode cX2_init 32 = .ok (.newarray .int, 2) := dk_188_10 (dk_at dksX2_init_1 8 rfl rfl)
theorem dX2_init_34 : decode cX2_init 34 = .ok (.putfield 26, 3) := dk_181 0 26 (dk_at dksX2_init_1 10 rfl rfl)
theorem dX2_init_37 : decode cX2_init 37 = .ok (.aload_n 0, 1) := dk_42 (dk_at dksX2_init_1 13 rfl rfl)
theorem dX2_init_38 : decode cX2_init 38 = .ok (.iload_n 2, 1) := dk_28 (dk_at dksX2_init_1 14 rfl rfl)
theorem dX2_init_39 : decode cX2_init 39 = .ok (.putfield 29, 3) := dk_181 0 29 (dk_at dksX2_init_1 15 rfl rfl)
theorem dX2_init_42 : decode cX2_init 42 = .ok (.aload_n 0, 1) := dk_42 (dk_at dksX2_init_1 18 rfl rfl)
theorem dX2_init_43 : decode cX2_init 43 = .ok (.iload_n 3, 1) := dk_29 (dk_at dksX2_init_1 19 rfl rfl)
theorem dX2_init_44 : decode cX2_init 44 = .ok (.putfield 32, 3) := dk_181 0 32 (dk_at dksX2_init_1 20 rfl rfl)
theorem dX2_init_47 : decode cX2_init 47 = .ok (.aload_n 0, 1) := dk_42 (dk_at dksX2_init_1 23 rfl rfl)
theorem dX2_init_48 : decode cX2_init 48 = .ok (.iload 4, 2) := dk_21 4 (dk_at dksX2_init_2 0 rfl rfl)
theorem dX2_init_50 : decode cX2_init 50 = .ok (.putfield 35, 3) := dk_181 0 35 (dk_at dksX2_init_2 2 rfl rfl)
theorem dX2_init_53 : decode cX2_init 53 = .ok (.return_, 1) := dk_177 (dk_at dksX2_init_2 5 rfl rfl)
abbrev cX2_kind : ByteArray := prog_6_method_2_code
def yX2_kind : MethodName := ⟨RX2, "kind", "()I"⟩
theorem dX2_kind_0 : decode cX2_kind 0 = .ok (.iconst 0, 1) := by decide +kernel
theorem dX2_kind_1 : decode cX2_kind 1 = .ok (.ireturn, 1) := by decide +kernel
abbrev cX2_turning : ByteArray := prog_6_method_4_code
def yX2_turning : MethodName := ⟨RX2, "turning", "()J"⟩
def dkwX2_turning_1 : List UInt8 := [29, 46, 133, 105, 97, 64, 132, 3, 1, 167, 255, 227, 31, 173]
abbrev dktX2_turning_1 : List UInt8 := dkwX2_turning_1 ++ []
def dkwX2_turning_0 : List UInt8 := [9, 64, 3, 62, 29, 42, 180, 0, 38, 162, 0, 27, 31, 42, 180, 0, 22, 29, 46, 133, 42, 180, 0, 26]
abbrev dktX2_turning_0 : List UInt8 := dkwX2_turning_0 ++ dktX2_turning_1
theorem dksX2_turning_0 : cX2_turning.data.toList.drop 0 = dktX2_turning_0 := by decide +kernel
theorem dksX2_turning_1 : cX2_turning.data.toList.drop 24 = dktX2_turning_1 := dk_seg dksX2_turning_0 24 rfl rfl
theorem dX2_turning_0 : decode cX2_turning 0 = .ok (.lconst 0, 1) := dk_9 (dk_at dksX2_turning_0 0 rfl rfl)
theorem dX2_turning_1 : decode cX2_turning 1 = .ok (.lstore_n 1, 1) := dk_64 (dk_at dksX2_turning_0 1 rfl rfl)
theorem dX2_turning_2 : decode cX2_turning 2 = .ok (.iconst 0, 1) := dk_3 (dk_at dksX2_turning_0 2 rfl rfl)
theorem dX2_turning_3 : decode cX2_turning 3 = .ok (.istore_n 3, 1) := dk_62 (dk_at dksX2_turning_0 3 rfl rfl)
theorem dX2_turning_4 : decode cX2_turning 4 = .ok (.iload_n 3, 1) := dk_29 (dk_at dksX2_turning_0 4 rfl rfl)
theorem dX2_turning_5 : decode cX2_turning 5 = .ok (.aload_n 0, 1) := dk_42 (dk_at dksX2_turning_0 5 rfl rfl)
theorem dX2_turning_6 : decode cX2_turning 6 = .ok (.getfield 38, 3) := dk_180 0 38 (dk_at dksX2_turning_0 6 rfl rfl)
theorem dX2_turning_9 : decode cX2_turning 9 = .ok (.if_icmp .ge 27, 3) := dk_162 0 27 (dk_at dksX2_turning_0 9 rfl rfl)
theorem dX2_turning_12 : decode cX2_turning 12 = .ok (.lload_n 1, 1) := dk_31 (dk_at dksX2_turning_0 12 rfl rfl)
theorem dX2_turning_13 : decode cX2_turning 13 = .ok (.aload_n 0, 1) := dk_42 (dk_at dksX2_turning_0 13 rfl rfl)
theorem dX2_turning_14 : decode cX2_turning 14 = .ok (.getfield 22, 3) := dk_180 0 22 (dk_at dksX2_turning_0 14 rfl rfl)
theorem dX2_turning_17 : decode cX2_turning 17 = .ok (.iload_n 3, 1) := dk_29 (dk_at dksX2_turning_0 17 rfl rfl)
theorem dX2_turning_18 : decode cX2_turning 18 = .ok (.iaload, 1) := dk_46 (dk_at dksX2_turning_0 18 rfl rfl)
theorem dX2_turning_19 : decode cX2_turning 19 = .ok (.i2l, 1) := dk_133 (dk_at dksX2_turning_0 19 rfl rfl)
theorem dX2_turning_20 : decode cX2_turning 20 = .ok (.aload_n 0, 1) := dk_42 (dk_at dksX2_turning_0 20 rfl rfl)
theorem dX2_turning_21 : decode cX2_turning 21 = .ok (.getfield 26, 3) := dk_180 0 26 (dk_at dksX2_turning_0 21 rfl rfl)
theorem dX2_turning_24 : decode cX2_turning 24 = .ok (.iload_n 3, 1) := dk_29 (dk_at dksX2_turning_1 0 rfl rfl)
theorem dX2_turning_25 : decode cX2_turning 25 = .ok (.iaload, 1) := dk_46 (dk_at dksX2_turning_1 1 rfl rfl)
theorem dX2_turning_26 : decode cX2_turning 26 = .ok (.i2l, 1) := dk_133 (dk_at dksX2_turning_1 2 rfl rfl)
theorem dX2_turning_27 : decode cX2_turning 27 = .ok (.lmul, 1) := dk_105 (dk_at dksX2_turning_1 3 rfl rfl)
theorem dX2_turning_28 : decode cX2_turning 28 = .ok (.ladd, 1) := dk_97 (dk_at dksX2_turning_1 4 rfl rfl)
theorem dX2_turning_29 : decode cX2_turning 29 = .ok (.lstore_n 1, 1) := dk_64 (dk_at dksX2_turning_1 5 rfl rfl)
theorem dX2_turning_30 : decode cX2_turning 30 = .ok (.iinc 3 1, 3) := dk_132 3 1 (dk_at dksX2_turning_1 6 rfl rfl)
theorem dX2_turning_33 : decode cX2_turning 33 = .ok (.goto (-29), 3) := dk_167 255 227 (dk_at dksX2_turning_1 9 rfl rfl)
theorem dX2_turning_36 : decode cX2_turning 36 = .ok (.lload_n 1, 1) := dk_31 (dk_at dksX2_turning_1 12 rfl rfl)
theorem dX2_turning_37 : decode cX2_turning 37 = .ok (.lreturn, 1) := dk_173 (dk_at dksX2_turning_1 13 rfl rfl)
abbrev cX2_all : ByteArray := prog_6_method_5_code
def yX2_all : MethodName := ⟨RX2, "all", "()J"⟩
def dkwX2_all_1 : List UInt8 := [132, 3, 1, 167, 255, 235, 31, 173]
abbrev dktX2_all_1 : List UInt8 := dkwX2_all_1 ++ []
def dkwX2_all_0 : List UInt8 := [9, 64, 3, 62, 29, 42, 180, 0, 38, 162, 0, 19, 31, 42, 180, 0, 22, 29, 46, 133, 97, 64]
abbrev dktX2_all_0 : List UInt8 := dkwX2_all_0 ++ dktX2_all_1
theorem dksX2_all_0 : cX2_all.data.toList.drop 0 = dktX2_all_0 := by decide +kernel
theorem dksX2_all_1 : cX2_all.data.toList.drop 22 = dktX2_all_1 := dk_seg dksX2_all_0 22 rfl rfl
theorem dX2_all_0 : decode cX2_all 0 = .ok (.lconst 0, 1) := dk_9 (dk_at dksX2_all_0 0 rfl rfl)
theorem dX2_all_1 : decode cX2_all 1 = .ok (.lstore_n 1, 1) := dk_64 (dk_at dksX2_all_0 1 rfl rfl)
theorem dX2_all_2 : decode cX2_all 2 = .ok (.iconst 0, 1) := dk_3 (dk_at dksX2_all_0 2 rfl rfl)
theorem dX2_all_3 : decode cX2_all 3 = .ok (.istore_n 3, 1) := dk_62 (dk_at dksX2_all_0 3 rfl rfl)
theorem dX2_all_4 : decode cX2_all 4 = .ok (.iload_n 3, 1) := dk_29 (dk_at dksX2_all_0 4 rfl rfl)
theorem dX2_all_5 : decode cX2_all 5 = .ok (.aload_n 0, 1) := dk_42 (dk_at dksX2_all_0 5 rfl rfl)
theorem dX2_all_6 : decode cX2_all 6 = .ok (.getfield 38, 3) := dk_180 0 38 (dk_at dksX2_all_0 6 rfl rfl)
theorem dX2_all_9 : decode cX2_all 9 = .ok (.if_icmp .ge 19, 3) := dk_162 0 19 (dk_at dksX2_all_0 9 rfl rfl)
theorem dX2_all_12 : decode cX2_all 12 = .ok (.lload_n 1, 1) := dk_31 (dk_at dksX2_all_0 12 rfl rfl)
theorem dX2_all_13 : decode cX2_all 13 = .ok (.aload_n 0, 1) := dk_42 (dk_at dksX2_all_0 13 rfl rfl)
theorem dX2_all_14 : decode cX2_all 14 = .ok (.getfield 22, 3) := dk_180 0 22 (dk_at dksX2_all_0 14 rfl rfl)
theorem dX2_all_17 : decode cX2_all 17 = .ok (.iload_n 3, 1) := dk_29 (dk_at dksX2_all_0 17 rfl rfl)
theorem dX2_all_18 : decode cX2_all 18 = .ok (.iaload, 1) := dk_46 (dk_at dksX2_all_0 18 rfl rfl)
theorem dX2_all_19 : decode cX2_all 19 = .ok (.i2l, 1) := dk_133 (dk_at dksX2_all_0 19 rfl rfl)
theorem dX2_all_20 : decode cX2_all 20 = .ok (.ladd, 1) := dk_97 (dk_at dksX2_all_0 20 rfl rfl)
theorem dX2_all_21 : decode cX2_all 21 = .ok (.lstore_n 1, 1) := dk_64 (dk_at dksX2_all_0 21 rfl rfl)
theorem dX2_all_22 : decode cX2_all 22 = .ok (.iinc 3 1, 3) := dk_132 3 1 (dk_at dksX2_all_1 0 rfl rfl)
theorem dX2_all_25 : decode cX2_all 25 = .ok (.goto (-21), 3) := dk_167 255 235 (dk_at dksX2_all_1 3 rfl rfl)
theorem dX2_all_28 : decode cX2_all 28 = .ok (.lload_n 1, 1) := dk_31 (dk_at dksX2_all_1 6 rfl rfl)
theorem dX2_all_29 : decode cX2_all 29 = .ok (.lreturn, 1) := dk_173 (dk_at dksX2_all_1 7 rfl rfl)
abbrev cX2_isLawful : ByteArray := prog_6_method_6_code
def yX2_isLawful : MethodName := ⟨RX2, "isLawful", "(I)Z"⟩
def dkwX2_isLawful_2 : List UInt8 := [157, 0, 14, 22, 4, 9, 148, 155, 0, 7, 4, 167, 0, 4, 3, 172]
abbrev dktX2_isLawful_2 : List UInt8 := dkwX2_isLawful_2 ++ []
def dkwX2_isLawful_1 : List UInt8 := [133, 27, 133, 105, 148, 157, 0, 31, 22, 4, 42, 180, 0, 3, 180, 0, 51, 133, 27, 133, 105, 148]
abbrev dktX2_isLawful_1 : List UInt8 := dkwX2_isLawful_1 ++ dktX2_isLawful_2
def dkwX2_isLawful_0 : List UInt8 := [42, 182, 0, 41, 65, 42, 182, 0, 45, 27, 133, 105, 32, 101, 55, 4, 32, 42, 180, 0, 3, 180, 0, 48]
abbrev dktX2_isLawful_0 : List UInt8 := dkwX2_isLawful_0 ++ dktX2_isLawful_1
theorem dksX2_isLawful_0 : cX2_isLawful.data.toList.drop 0 = dktX2_isLawful_0 := by decide +kernel
theorem dksX2_isLawful_1 : cX2_isLawful.data.toList.drop 24 = dktX2_isLawful_1 := dk_seg dksX2_isLawful_0 24 rfl rfl
theorem dksX2_isLawful_2 : cX2_isLawful.data.toList.drop 46 = dktX2_isLawful_2 := dk_seg dksX2_isLawful_1 22 rfl rfl
theorem dX2_isLawful_0 : decode cX2_isLawful 0 = .ok (.aload_n 0, 1) := dk_42 (dk_at dksX2_isLawful_0 0 rfl rfl)
theorem dX2_isLawful_1 : decode cX2_isLawful 1 = .ok (.invokevirtual 41, 3) := dk_182 0 41 (dk_at dksX2_isLawful_0 1 rfl rfl)
theorem dX2_isLawful_4 : decode cX2_isLawful 4 = .ok (.lstore_n 2, 1) := dk_65 (dk_at dksX2_isLawful_0 4 rfl rfl)
theorem dX2_isLawful_5 : decode cX2_isLawful 5 = .ok (.aload_n 0, 1) := dk_42 (dk_at dksX2_isLawful_0 5 rfl rfl)
theorem dX2_isLawful_6 : decode cX2_isLawful 6 = .ok (.invokevirtual 45, 3) := dk_182 0 45 (dk_at dksX2_isLawful_0 6 rfl rfl)
theorem dX2_isLawful_9 : decode cX2_isLawful 9 = .ok (.iload_n 1, 1) := dk_27 (dk_at dksX2_isLawful_0 9 rfl rfl)
theorem dX2_isLawful_10 : decode cX2_isLawful 10 = .ok (.i2l, 1) := dk_133 (dk_at dksX2_isLawful_0 10 rfl rfl)
theorem dX2_isLawful_11 : decode cX2_isLawful 11 = .ok (.lmul, 1) := dk_105 (dk_at dksX2_isLawful_0 11 rfl rfl)
theorem dX2_isLawful_12 : decode cX2_isLawful 12 = .ok (.lload_n 2, 1) := dk_32 (dk_at dksX2_isLawful_0 12 rfl rfl)
theorem dX2_isLawful_13 : decode cX2_isLawful 13 = .ok (.lsub, 1) := dk_101 (dk_at dksX2_isLawful_0 13 rfl rfl)
theorem dX2_isLawful_14 : decode cX2_isLawful 14 = .ok (.lstore 4, 2) := dk_55 4 (dk_at dksX2_isLawful_0 14 rfl rfl)
theorem dX2_isLawful_16 : decode cX2_isLawful 16 = .ok (.lload_n 2, 1) := dk_32 (dk_at dksX2_isLawful_0 16 rfl rfl)
theorem dX2_isLawful_17 : decode cX2_isLawful 17 = .ok (.aload_n 0, 1) := dk_42 (dk_at dksX2_isLawful_0 17 rfl rfl)
theorem dX2_isLawful_18 : decode cX2_isLawful 18 = .ok (.getfield 3, 3) := dk_180 0 3 (dk_at dksX2_isLawful_0 18 rfl rfl)
theorem dX2_isLawful_21 : decode cX2_isLawful 21 = .ok (.getfield 48, 3) := dk_180 0 48 (dk_at dksX2_isLawful_0 21 rfl rfl)
theorem dX2_isLawful_24 : decode cX2_isLawful 24 = .ok (.i2l, 1) := dk_133 (dk_at dksX2_isLawful_1 0 rfl rfl)
theorem dX2_isLawful_25 : decode cX2_isLawful 25 = .ok (.iload_n 1, 1) := dk_27 (dk_at dksX2_isLawful_1 1 rfl rfl)
theorem dX2_isLawful_26 : decode cX2_isLawful 26 = .ok (.i2l, 1) := dk_133 (dk_at dksX2_isLawful_1 2 rfl rfl)
theorem dX2_isLawful_27 : decode cX2_isLawful 27 = .ok (.lmul, 1) := dk_105 (dk_at dksX2_isLawful_1 3 rfl rfl)
theorem dX2_isLawful_28 : decode cX2_isLawful 28 = .ok (.lcmp, 1) := dk_148 (dk_at dksX2_isLawful_1 4 rfl rfl)
theorem dX2_isLawful_29 : decode cX2_isLawful 29 = .ok (.ifCond .gt 31, 3) := dk_157 0 31 (dk_at dksX2_isLawful_1 5 rfl rfl)
theorem dX2_isLawful_32 : decode cX2_isLawful 32 = .ok (.lload 4, 2) := dk_22 4 (dk_at dksX2_isLawful_1 8 rfl rfl)
theorem dX2_isLawful_34 : decode cX2_isLawful 34 = .ok (.aload_n 0, 1) := dk_42 (dk_at dksX2_isLawful_1 10 rfl rfl)
theorem dX2_isLawful_35 : decode cX2_isLawful 35 = .ok (.getfield 3, 3) := dk_180 0 3 (dk_at dksX2_isLawful_1 11 rfl rfl)
theorem dX2_isLawful_38 : decode cX2_isLawful 38 = .ok (.getfield 51, 3) := dk_180 0 51 (dk_at dksX2_isLawful_1 14 rfl rfl)
theorem dX2_isLawful_41 : decode cX2_isLawful 41 = .ok (.i2l, 1) := dk_133 (dk_at dksX2_isLawful_1 17 rfl rfl)
theorem dX2_isLawful_42 : decode cX2_isLawful 42 = .ok (.iload_n 1, 1) := dk_27 (dk_at dksX2_isLawful_1 18 rfl rfl)
theorem dX2_isLawful_43 : decode cX2_isLawful 43 = .ok (.i2l, 1) := dk_133 (dk_at dksX2_isLawful_1 19 rfl rfl)
theorem dX2_isLawful_44 : decode cX2_isLawful 44 = .ok (.lmul, 1) := dk_105 (dk_at dksX2_isLawful_1 20 rfl rfl)
theorem dX2_isLawful_45 : decode cX2_isLawful 45 = .ok (.lcmp, 1) := dk_148 (dk_at dksX2_isLawful_1 21 rfl rfl)
theorem dX2_isLawful_46 : decode cX2_isLawful 46 = .ok (.ifCond .gt 14, 3) := dk_157 0 14 (dk_at dksX2_isLawful_2 0 rfl rfl)
theorem dX2_isLawful_49 : decode cX2_isLawful 49 = .ok (.lload 4, 2) := dk_22 4 (dk_at dksX2_isLawful_2 3 rfl rfl)
theorem dX2_isLawful_51 : decode cX2_isLawful 51 = .ok (.lconst 0, 1) := dk_9 (dk_at dksX2_isLawful_2 5 rfl rfl)
theorem dX2_isLawful_52 : decode cX2_isLawful 52 = .ok (.lcmp, 1) := dk_148 (dk_at dksX2_isLawful_2 6 rfl rfl)
theorem dX2_isLawful_53 : decode cX2_isLawful 53 = .ok (.ifCond .lt 7, 3) := dk_155 0 7 (dk_at dksX2_isLawful_2 7 rfl rfl)
theorem dX2_isLawful_56 : decode cX2_isLawful 56 = .ok (.iconst 1, 1) := dk_4 (dk_at dksX2_isLawful_2 10 rfl rfl)
theorem dX2_isLawful_57 : decode cX2_isLawful 57 = .ok (.goto 4, 3) := dk_167 0 4 (dk_at dksX2_isLawful_2 11 rfl rfl)
theorem dX2_isLawful_60 : decode cX2_isLawful 60 = .ok (.iconst 0, 1) := dk_3 (dk_at dksX2_isLawful_2 14 rfl rfl)
theorem dX2_isLawful_61 : decode cX2_isLawful 61 = .ok (.ireturn, 1) := dk_172 (dk_at dksX2_isLawful_2 15 rfl rfl)
theorem q75 : (Jvm.Cond.initialized "TrailerYards$Trailer") ∈ lw_all := lw_g (lw_at lw_m1 13 rfl) rfl
theorem q122 : (Jvm.Cond.fieldLinkNest "TrailerYards$Trailer" (48 : Nat) "TrailerYards" "mostAxle" "I" "TrailerYards") ∈ lw_tbl := lw_at lw_m1 60 rfl
theorem q124 : (Jvm.Cond.fieldLinkNest "TrailerYards$Trailer" (51 : Nat) "TrailerYards" "mostPin" "I" "TrailerYards") ∈ lw_tbl := lw_at lw_m1 62 rfl
theorem q557 : (Jvm.Cond.instantiable "TrailerYards$Trailer" (11 : Nat)) ∈ lw_all := lw_g (lw_at lw_m3 15 rfl) rfl
theorem q559 : (Jvm.Cond.instanceMethod ({ cls := "TrailerYards$Trailer", name := "<init>", desc := "(LTrailerYards;III)V" } : Jvm.MethodName)) ∈ lw_all := lw_g (lw_at lw_m3 17 rfl) rfl
theorem q560 : (Jvm.Cond.code ({ cls := "TrailerYards$Trailer", name := "<init>", desc := "(LTrailerYards;III)V" } : Jvm.MethodName) prog_6_method_1_code (5 : Nat) (Option.none : Option Jvm.ClassFile.FieldType)) ∈ lw_all := lw_g (lw_at lw_m3 18 rfl) rfl
theorem q561 : (Jvm.Cond.methodLink "TrailerYards$Trailer" (9 : Nat) ({ cls := "java/lang/Object", name := "<init>", desc := "()V" } : Jvm.MethodName)) ∈ lw_all := lw_g (lw_at lw_m3 19 rfl) rfl
theorem q562 : (Jvm.Cond.fieldLink "TrailerYards$Trailer" (29 : Nat) "TrailerYards$Trailer" "number" "I") ∈ lw_all := lw_g (lw_at lw_m3 20 rfl) rfl
theorem q565 : (Jvm.Cond.fieldLink "TrailerYards$Trailer" (35 : Nat) "TrailerYards$Trailer" "worth" "I") ∈ lw_all := lw_g (lw_at lw_m3 23 rfl) rfl
theorem q567 : (Jvm.Cond.fieldLink "TrailerYards$Trailer" (32 : Nat) "TrailerYards$Trailer" "yard" "I") ∈ lw_all := lw_g (lw_at lw_m3 25 rfl) rfl
theorem q569 : (Jvm.Cond.fieldLink "TrailerYards$Trailer" (15 : Nat) "TrailerYards$Trailer" "tractor" "I") ∈ lw_all := lw_g (lw_at lw_m3 27 rfl) rfl
theorem q573 : (Jvm.Cond.fieldLink "TrailerYards$Trailer" (19 : Nat) "TrailerYards$Trailer" "axle" "I") ∈ lw_all := lw_g (lw_at lw_m3 31 rfl) rfl
theorem q575 : (Jvm.Cond.fieldLink "TrailerYards$Trailer" (38 : Nat) "TrailerYards$Trailer" "loadMany" "I") ∈ lw_all := lw_g (lw_at lw_m3 33 rfl) rfl
theorem q577 : (Jvm.Cond.fieldLink "TrailerYards$Trailer" (22 : Nat) "TrailerYards$Trailer" "weights" "[I") ∈ lw_all := lw_g (lw_at lw_m3 35 rfl) rfl
theorem q579 : (Jvm.Cond.fieldLink "TrailerYards$Trailer" (26 : Nat) "TrailerYards$Trailer" "places" "[I") ∈ lw_all := lw_g (lw_at lw_m3 37 rfl) rfl
theorem q581 : (Jvm.Cond.fieldLink "TrailerYards$Trailer" (3 : Nat) "TrailerYards$Trailer" "this$0" "LTrailerYards;") ∈ lw_all := lw_g (lw_at lw_m3 39 rfl) rfl
theorem q582 : (Jvm.Cond.laysFinal "TrailerYards$Trailer" "TrailerYards$Trailer" "number" "I") ∈ lw_all := lw_g (lw_at lw_m3 40 rfl) rfl
theorem q583 : (Jvm.Cond.soleField "TrailerYards$Trailer" "number") ∈ lw_all := lw_g (lw_at lw_m3 41 rfl) rfl
theorem q584 : (Jvm.Cond.laysFinal "TrailerYards$Trailer" "TrailerYards$Trailer" "worth" "I") ∈ lw_all := lw_g (lw_at lw_m3 42 rfl) rfl
theorem q585 : (Jvm.Cond.soleField "TrailerYards$Trailer" "worth") ∈ lw_all := lw_g (lw_at lw_m3 43 rfl) rfl
theorem q586 : (Jvm.Cond.lays "TrailerYards$Trailer" "TrailerYards$Trailer" "yard" "I") ∈ lw_all := lw_g (lw_at lw_m3 44 rfl) rfl
theorem q587 : (Jvm.Cond.soleField "TrailerYards$Trailer" "yard") ∈ lw_all := lw_g (lw_at lw_m3 45 rfl) rfl
theorem q588 : (Jvm.Cond.lays "TrailerYards$Trailer" "TrailerYards$Trailer" "tractor" "I") ∈ lw_all := lw_g (lw_at lw_m3 46 rfl) rfl
theorem q589 : (Jvm.Cond.soleField "TrailerYards$Trailer" "tractor") ∈ lw_all := lw_g (lw_at lw_m3 47 rfl) rfl
theorem q590 : (Jvm.Cond.lays "TrailerYards$Trailer" "TrailerYards$Trailer" "isLost" "Z") ∈ lw_all := lw_g (lw_at lw_m3 48 rfl) rfl
theorem q591 : (Jvm.Cond.soleField "TrailerYards$Trailer" "isLost") ∈ lw_all := lw_g (lw_at lw_m3 49 rfl) rfl
theorem q592 : (Jvm.Cond.lays "TrailerYards$Trailer" "TrailerYards$Trailer" "isSealed" "Z") ∈ lw_all := lw_g (lw_at lw_m3 50 rfl) rfl
theorem q593 : (Jvm.Cond.soleField "TrailerYards$Trailer" "isSealed") ∈ lw_all := lw_g (lw_at lw_m3 51 rfl) rfl
theorem q594 : (Jvm.Cond.lays "TrailerYards$Trailer" "TrailerYards$Trailer" "axle" "I") ∈ lw_all := lw_g (lw_at lw_m3 52 rfl) rfl
theorem q595 : (Jvm.Cond.soleField "TrailerYards$Trailer" "axle") ∈ lw_all := lw_g (lw_at lw_m3 53 rfl) rfl
theorem q596 : (Jvm.Cond.lays "TrailerYards$Trailer" "TrailerYards$Trailer" "loadMany" "I") ∈ lw_all := lw_g (lw_at lw_m3 54 rfl) rfl
theorem q597 : (Jvm.Cond.soleField "TrailerYards$Trailer" "loadMany") ∈ lw_all := lw_g (lw_at lw_m3 55 rfl) rfl
theorem q598 : (Jvm.Cond.laysFinal "TrailerYards$Trailer" "TrailerYards$Trailer" "weights" "[I") ∈ lw_all := lw_g (lw_at lw_m3 56 rfl) rfl
theorem q599 : (Jvm.Cond.soleField "TrailerYards$Trailer" "weights") ∈ lw_all := lw_g (lw_at lw_m3 57 rfl) rfl
theorem q600 : (Jvm.Cond.laysFinal "TrailerYards$Trailer" "TrailerYards$Trailer" "places" "[I") ∈ lw_all := lw_g (lw_at lw_m3 58 rfl) rfl
theorem q601 : (Jvm.Cond.soleField "TrailerYards$Trailer" "places") ∈ lw_all := lw_g (lw_at lw_m3 59 rfl) rfl
theorem q602 : (Jvm.Cond.laysFinal "TrailerYards$Trailer" "TrailerYards$Trailer" "this$0" "LTrailerYards;") ∈ lw_all := lw_g (lw_at lw_m3 60 rfl) rfl
theorem q603 : (Jvm.Cond.soleField "TrailerYards$Trailer" "this$0") ∈ lw_all := lw_g (lw_at lw_m3 61 rfl) rfl
theorem q604 : (Jvm.Cond.superclass "TrailerYards$Trailer" "java/lang/Object") ∈ lw_all := lw_g (lw_at lw_m3 62 rfl) rfl
theorem q695 : (Jvm.Cond.instanceMethod ({ cls := "TrailerYards$Trailer", name := "kind", desc := "()I" } : Jvm.MethodName)) ∈ lw_all := lw_g (lw_at lw_m3 153 rfl) rfl
theorem q696 : (Jvm.Cond.selects "TrailerYards$Trailer" ({ cls := "TrailerYards$Trailer", name := "kind", desc := "()I" } : Jvm.MethodName) ({ cls := "TrailerYards$Trailer", name := "kind", desc := "()I" } : Jvm.MethodName)) ∈ lw_all := lw_g (lw_at lw_m3 154 rfl) rfl
theorem q697 : (Jvm.Cond.sameMethod "TrailerYards$Trailer" "TrailerYards$Trailer" "kind" "()I") ∈ lw_all := lw_g (lw_at lw_m3 155 rfl) rfl
theorem q710 : (Jvm.Cond.code ({ cls := "TrailerYards$Trailer", name := "kind", desc := "()I" } : Jvm.MethodName) prog_6_method_2_code (1 : Nat) (Option.some Jvm.ClassFile.FieldType.int)) ∈ lw_all := lw_g (lw_at lw_m3 168 rfl) rfl
theorem q852 : (Jvm.Cond.instanceMethod ({ cls := "TrailerYards$Trailer", name := "turning", desc := "()J" } : Jvm.MethodName)) ∈ lw_all := lw_g (lw_at lw_m4 70 rfl) rfl
theorem q853 : (Jvm.Cond.selects "TrailerYards$Trailer" ({ cls := "TrailerYards$Trailer", name := "turning", desc := "()J" } : Jvm.MethodName) ({ cls := "TrailerYards$Trailer", name := "turning", desc := "()J" } : Jvm.MethodName)) ∈ lw_all := lw_g (lw_at lw_m4 71 rfl) rfl
theorem q854 : (Jvm.Cond.sameMethod "TrailerYards$Trailer" "TrailerYards$Trailer" "turning" "()J") ∈ lw_all := lw_g (lw_at lw_m4 72 rfl) rfl
theorem q858 : (Jvm.Cond.code ({ cls := "TrailerYards$Trailer", name := "turning", desc := "()J" } : Jvm.MethodName) prog_6_method_4_code (4 : Nat) (Option.some Jvm.ClassFile.FieldType.long)) ∈ lw_all := lw_g (lw_at lw_m4 76 rfl) rfl
theorem q860 : (Jvm.Cond.instanceMethod ({ cls := "TrailerYards$Trailer", name := "all", desc := "()J" } : Jvm.MethodName)) ∈ lw_all := lw_g (lw_at lw_m4 78 rfl) rfl
theorem q861 : (Jvm.Cond.selects "TrailerYards$Trailer" ({ cls := "TrailerYards$Trailer", name := "all", desc := "()J" } : Jvm.MethodName) ({ cls := "TrailerYards$Trailer", name := "all", desc := "()J" } : Jvm.MethodName)) ∈ lw_all := lw_g (lw_at lw_m4 79 rfl) rfl
theorem q862 : (Jvm.Cond.sameMethod "TrailerYards$Trailer" "TrailerYards$Trailer" "all" "()J") ∈ lw_all := lw_g (lw_at lw_m4 80 rfl) rfl
theorem q866 : (Jvm.Cond.code ({ cls := "TrailerYards$Trailer", name := "all", desc := "()J" } : Jvm.MethodName) prog_6_method_5_code (4 : Nat) (Option.some Jvm.ClassFile.FieldType.long)) ∈ lw_all := lw_g (lw_at lw_m4 84 rfl) rfl
theorem q879 : (Jvm.Cond.instanceMethod ({ cls := "TrailerYards$Trailer", name := "isLawful", desc := "(I)Z" } : Jvm.MethodName)) ∈ lw_all := lw_g (lw_at lw_m4 97 rfl) rfl
theorem q880 : (Jvm.Cond.selects "TrailerYards$Trailer" ({ cls := "TrailerYards$Trailer", name := "isLawful", desc := "(I)Z" } : Jvm.MethodName) ({ cls := "TrailerYards$Trailer", name := "isLawful", desc := "(I)Z" } : Jvm.MethodName)) ∈ lw_all := lw_g (lw_at lw_m4 98 rfl) rfl
theorem q881 : (Jvm.Cond.sameMethod "TrailerYards$Trailer" "TrailerYards$Trailer" "isLawful" "(I)Z") ∈ lw_all := lw_g (lw_at lw_m4 99 rfl) rfl
theorem q885 : (Jvm.Cond.code ({ cls := "TrailerYards$Trailer", name := "isLawful", desc := "(I)Z" } : Jvm.MethodName) prog_6_method_6_code (6 : Nat) (Option.some Jvm.ClassFile.FieldType.boolean)) ∈ lw_all := lw_g (lw_at lw_m4 103 rfl) rfl
theorem q886 : (Jvm.Cond.methodLink "TrailerYards$Trailer" (41 : Nat) ({ cls := "TrailerYards$Trailer", name := "turning", desc := "()J" } : Jvm.MethodName)) ∈ lw_all := lw_g (lw_at lw_m4 104 rfl) rfl
theorem q887 : (Jvm.Cond.methodLink "TrailerYards$Trailer" (45 : Nat) ({ cls := "TrailerYards$Trailer", name := "all", desc := "()J" } : Jvm.MethodName)) ∈ lw_all := lw_g (lw_at lw_m4 105 rfl) rfl
theorem q914 : (Jvm.Cond.castable "TrailerYards$Trailer" "TrailerYards$Judged") ∈ lw_tbl := lw_at lw_m4 132 rfl
theorem q915 : (Jvm.Cond.unhidden "TrailerYards$Trailer" "isCold" "()Z") ∈ lw_tbl := lw_at lw_m4 133 rfl
theorem in_X2 : ∀ w ∈ wsX20, w ∈ lw_all := lw_in wsX20 [582, 584, 586, 588, 590, 592, 594, 596, 598, 600, 602] (by decide +kernel) (by decide +kernel)
/-! TrailerYards$Cold -/
set_option maxRecDepth 100000
def RX3 : String := "TrailerYards$Cold"
def TX3 : u_T := fun k => match k with
  | 0 => ("TrailerYards$Trailer", "number", "I", true)
  | 1 => ("TrailerYards$Trailer", "worth", "I", true)
  | 2 => ("TrailerYards$Trailer", "yard", "I", false)
  | 3 => ("TrailerYards$Trailer", "tractor", "I", false)
  | 4 => ("TrailerYards$Trailer", "isLost", "Z", false)
  | 5 => ("TrailerYards$Trailer", "isSealed", "Z", false)
  | 6 => ("TrailerYards$Trailer", "axle", "I", false)
  | 7 => ("TrailerYards$Trailer", "loadMany", "I", false)
  | 8 => ("TrailerYards$Trailer", "weights", "[I", true)
  | 9 => ("TrailerYards$Trailer", "places", "[I", true)
  | 10 => ("TrailerYards$Trailer", "this$0", "LTrailerYards;", true)
  | 11 => ("TrailerYards$Cold", "limit", "I", false)
  | _ => ("TrailerYards$Cold", "this$0", "LTrailerYards;", true)
def tyX3 : Nat → FieldType := fun k => match k with
  | 0 => .int
  | 1 => .int
  | 2 => .int
  | 3 => .int
  | 4 => .boolean
  | 5 => .boolean
  | 6 => .int
  | 7 => .int
  | 8 => .array .int
  | 9 => .array .int
  | 10 => .object "TrailerYards"
  | 11 => .int
  | _ => .object "TrailerYards"
abbrev wsX30 : List Cond := u_ws RX3 TX3 13
-- two fields of one name: no nmX3
set_option maxRecDepth 100000 in
theorem tyX3_ok : ∀ k, k < 13 → parseFieldDescriptor (TX3 k).2.2.1 = some (tyX3 k) := by decide +kernel
abbrev cX3_init : ByteArray := prog_2_method_1_code
def yX3_init : MethodName := ⟨RX3, "<init>", "(LTrailerYards;III)V"⟩
def dkwX3_init_0 : List UInt8 := [42, 43, 181, 0, 1, 42, 43, 28, 29, 21, 4, 183, 0, 7, 42, 8, 181, 0, 13, 177]
abbrev dktX3_init_0 : List UInt8 := dkwX3_init_0 ++ []
theorem dksX3_init_0 : cX3_init.data.toList.drop 0 = dktX3_init_0 := by decide +kernel
theorem dX3_init_0 : decode cX3_init 0 = .ok (.aload_n 0, 1) := dk_42 (dk_at dksX3_init_0 0 rfl rfl)
theorem dX3_init_1 : decode cX3_init 1 = .ok (.aload_n 1, 1) := dk_43 (dk_at dksX3_init_0 1 rfl rfl)
theorem dX3_init_2 : decode cX3_init 2 = .ok (.putfield 1, 3) := dk_181 0 1 (dk_at dksX3_init_0 2 rfl rfl)
theorem dX3_init_5 : decode cX3_init 5 = .ok (.aload_n 0, 1) := dk_42 (dk_at dksX3_init_0 5 rfl rfl)
theorem dX3_init_6 : decode cX3_init 6 = .ok (.aload_n 1, 1) := dk_43 (dk_at dksX3_init_0 6 rfl rfl)
theorem dX3_init_7 : decode cX3_init 7 = .ok (.iload_n 2, 1) := dk_28 (dk_at dksX3_init_0 7 rfl rfl)
theorem dX3_init_8 : decode cX3_init 8 = .ok (.iload_n 3, 1) := dk_29 (dk_at dksX3_init_0 8 rfl rfl)
theorem dX3_init_9 : decode cX3_init 9 = .ok (.iload 4, 2) := dk_21 4 (dk_at dksX3_init_0 9 rfl rfl)
theorem dX3_init_11 : decode cX3_init 11 = .ok (.invokespecial 7, 3) := dk_183 0 7 (dk_at dksX3_init_0 11 rfl rfl)
theorem dX3_init_14 : decode cX3_init 14 = .ok (.aload_n 0, 1) := dk_42 (dk_at dksX3_init_0 14 rfl rfl)
theorem dX3_init_15 : decode cX3_init 15 = .ok (.iconst 5, 1) := dk_8 (dk_at dksX3_init_0 15 rfl rfl)
theorem dX3_init_16 : decode cX3_init 16 = .ok (.putfield 13, 3) := dk_181 0 13 (dk_at dksX3_init_0 16 rfl rfl)
theorem dX3_init_19 : decode cX3_init 19 = .ok (.return_, 1) := dk_177 (dk_at dksX3_init_0 19 rfl rfl)
abbrev cX3_kind : ByteArray := prog_2_method_2_code
def yX3_kind : MethodName := ⟨RX3, "kind", "()I"⟩
def dkwX3_kind_0 : List UInt8 := [42, 183, 0, 17, 4, 96, 172]
abbrev dktX3_kind_0 : List UInt8 := dkwX3_kind_0 ++ []
theorem dksX3_kind_0 : cX3_kind.data.toList.drop 0 = dktX3_kind_0 := by decide +kernel
theorem dX3_kind_0 : decode cX3_kind 0 = .ok (.aload_n 0, 1) := dk_42 (dk_at dksX3_kind_0 0 rfl rfl)
theorem dX3_kind_1 : decode cX3_kind 1 = .ok (.invokespecial 17, 3) := dk_183 0 17 (dk_at dksX3_kind_0 1 rfl rfl)
theorem dX3_kind_4 : decode cX3_kind 4 = .ok (.iconst 1, 1) := dk_4 (dk_at dksX3_kind_0 4 rfl rfl)
theorem dX3_kind_5 : decode cX3_kind 5 = .ok (.iadd, 1) := dk_96 (dk_at dksX3_kind_0 5 rfl rfl)
theorem dX3_kind_6 : decode cX3_kind 6 = .ok (.ireturn, 1) := dk_172 (dk_at dksX3_kind_0 6 rfl rfl)
abbrev cX3_mark : ByteArray := prog_2_method_4_code
def yX3_mark : MethodName := ⟨RX3, "mark", "()I"⟩
theorem dX3_mark_0 : decode cX3_mark 0 = .ok (.aload_n 0, 1) := by decide +kernel
theorem dX3_mark_1 : decode cX3_mark 1 = .ok (.getfield 13, 3) := by decide +kernel
theorem dX3_mark_4 : decode cX3_mark 4 = .ok (.ireturn, 1) := by decide +kernel
abbrev cX3_isCold : ByteArray := prog_2_method_3_code
def yX3_isCold : MethodName := ⟨RX3, "isCold", "()Z"⟩
theorem dX3_isCold_0 : decode cX3_isCold 0 = .ok (.iconst 1, 1) := by decide +kernel
theorem dX3_isCold_1 : decode cX3_isCold 1 = .ok (.ireturn, 1) := by decide +kernel
abbrev cX3_look : ByteArray := prog_2_method_5_code
def yX3_look : MethodName := ⟨RX3, "look", "()V"⟩
theorem dX3_look_0 : decode cX3_look 0 = .ok (.return_, 1) := by decide +kernel
theorem q76 : (Jvm.Cond.initialized "TrailerYards$Cold") ∈ lw_all := lw_g (lw_at lw_m1 14 rfl) rfl
theorem q606 : (Jvm.Cond.instantiable "TrailerYards$Cold" (13 : Nat)) ∈ lw_all := lw_g (lw_at lw_m3 64 rfl) rfl
theorem q608 : (Jvm.Cond.instanceMethod ({ cls := "TrailerYards$Cold", name := "<init>", desc := "(LTrailerYards;III)V" } : Jvm.MethodName)) ∈ lw_all := lw_g (lw_at lw_m3 66 rfl) rfl
theorem q609 : (Jvm.Cond.code ({ cls := "TrailerYards$Cold", name := "<init>", desc := "(LTrailerYards;III)V" } : Jvm.MethodName) prog_2_method_1_code (5 : Nat) (Option.none : Option Jvm.ClassFile.FieldType)) ∈ lw_all := lw_g (lw_at lw_m3 67 rfl) rfl
theorem q610 : (Jvm.Cond.methodLink "TrailerYards$Cold" (7 : Nat) ({ cls := "TrailerYards$Trailer", name := "<init>", desc := "(LTrailerYards;III)V" } : Jvm.MethodName)) ∈ lw_all := lw_g (lw_at lw_m3 68 rfl) rfl
theorem q611 : (Jvm.Cond.fieldLink "TrailerYards$Cold" (13 : Nat) "TrailerYards$Cold" "limit" "I") ∈ lw_all := lw_g (lw_at lw_m3 69 rfl) rfl
theorem q615 : (Jvm.Cond.fieldLink "TrailerYards$Cold" (1 : Nat) "TrailerYards$Cold" "this$0" "LTrailerYards;") ∈ lw_all := lw_g (lw_at lw_m3 73 rfl) rfl
theorem q616 : (Jvm.Cond.lays "TrailerYards$Cold" "TrailerYards$Cold" "limit" "I") ∈ lw_all := lw_g (lw_at lw_m3 74 rfl) rfl
theorem q617 : (Jvm.Cond.soleField "TrailerYards$Cold" "limit") ∈ lw_all := lw_g (lw_at lw_m3 75 rfl) rfl
theorem q618 : (Jvm.Cond.laysFinal "TrailerYards$Cold" "TrailerYards$Cold" "this$0" "LTrailerYards;") ∈ lw_all := lw_g (lw_at lw_m3 76 rfl) rfl
theorem q619 : (Jvm.Cond.soleField "TrailerYards$Cold" "this$0") ∈ lw_all := lw_g (lw_at lw_m3 77 rfl) rfl
theorem q620 : (Jvm.Cond.laysFinal "TrailerYards$Cold" "TrailerYards$Trailer" "number" "I") ∈ lw_all := lw_g (lw_at lw_m3 78 rfl) rfl
theorem q621 : (Jvm.Cond.laysFinal "TrailerYards$Cold" "TrailerYards$Trailer" "worth" "I") ∈ lw_all := lw_g (lw_at lw_m3 79 rfl) rfl
theorem q622 : (Jvm.Cond.lays "TrailerYards$Cold" "TrailerYards$Trailer" "yard" "I") ∈ lw_all := lw_g (lw_at lw_m3 80 rfl) rfl
theorem q623 : (Jvm.Cond.lays "TrailerYards$Cold" "TrailerYards$Trailer" "tractor" "I") ∈ lw_all := lw_g (lw_at lw_m3 81 rfl) rfl
theorem q624 : (Jvm.Cond.lays "TrailerYards$Cold" "TrailerYards$Trailer" "isLost" "Z") ∈ lw_all := lw_g (lw_at lw_m3 82 rfl) rfl
theorem q625 : (Jvm.Cond.lays "TrailerYards$Cold" "TrailerYards$Trailer" "isSealed" "Z") ∈ lw_all := lw_g (lw_at lw_m3 83 rfl) rfl
theorem q626 : (Jvm.Cond.lays "TrailerYards$Cold" "TrailerYards$Trailer" "axle" "I") ∈ lw_all := lw_g (lw_at lw_m3 84 rfl) rfl
theorem q627 : (Jvm.Cond.lays "TrailerYards$Cold" "TrailerYards$Trailer" "loadMany" "I") ∈ lw_all := lw_g (lw_at lw_m3 85 rfl) rfl
theorem q628 : (Jvm.Cond.laysFinal "TrailerYards$Cold" "TrailerYards$Trailer" "weights" "[I") ∈ lw_all := lw_g (lw_at lw_m3 86 rfl) rfl
theorem q629 : (Jvm.Cond.laysFinal "TrailerYards$Cold" "TrailerYards$Trailer" "places" "[I") ∈ lw_all := lw_g (lw_at lw_m3 87 rfl) rfl
theorem q630 : (Jvm.Cond.laysFinal "TrailerYards$Cold" "TrailerYards$Trailer" "this$0" "LTrailerYards;") ∈ lw_all := lw_g (lw_at lw_m3 88 rfl) rfl
theorem q631 : (Jvm.Cond.superclass "TrailerYards$Cold" "TrailerYards$Trailer") ∈ lw_all := lw_g (lw_at lw_m3 89 rfl) rfl
theorem q698 : (Jvm.Cond.selects "TrailerYards$Cold" ({ cls := "TrailerYards$Trailer", name := "kind", desc := "()I" } : Jvm.MethodName) ({ cls := "TrailerYards$Cold", name := "kind", desc := "()I" } : Jvm.MethodName)) ∈ lw_all := lw_g (lw_at lw_m3 156 rfl) rfl
theorem q699 : (Jvm.Cond.instanceMethod ({ cls := "TrailerYards$Cold", name := "kind", desc := "()I" } : Jvm.MethodName)) ∈ lw_all := lw_g (lw_at lw_m3 157 rfl) rfl
theorem q700 : (Jvm.Cond.code ({ cls := "TrailerYards$Cold", name := "kind", desc := "()I" } : Jvm.MethodName) prog_2_method_2_code (1 : Nat) (Option.some Jvm.ClassFile.FieldType.int)) ∈ lw_all := lw_g (lw_at lw_m3 158 rfl) rfl
theorem q701 : (Jvm.Cond.methodLink "TrailerYards$Cold" (17 : Nat) ({ cls := "TrailerYards$Trailer", name := "kind", desc := "()I" } : Jvm.MethodName)) ∈ lw_all := lw_g (lw_at lw_m3 159 rfl) rfl
theorem q734 : (Jvm.Cond.instanceMethod ({ cls := "TrailerYards$Cold", name := "mark", desc := "()I" } : Jvm.MethodName)) ∈ lw_all := lw_g (lw_at lw_m3 192 rfl) rfl
theorem q735 : (Jvm.Cond.code ({ cls := "TrailerYards$Cold", name := "mark", desc := "()I" } : Jvm.MethodName) prog_2_method_4_code (1 : Nat) (Option.some Jvm.ClassFile.FieldType.int)) ∈ lw_all := lw_g (lw_at lw_m3 193 rfl) rfl
theorem q855 : (Jvm.Cond.selects "TrailerYards$Cold" ({ cls := "TrailerYards$Trailer", name := "turning", desc := "()J" } : Jvm.MethodName) ({ cls := "TrailerYards$Trailer", name := "turning", desc := "()J" } : Jvm.MethodName)) ∈ lw_all := lw_g (lw_at lw_m4 73 rfl) rfl
theorem q863 : (Jvm.Cond.selects "TrailerYards$Cold" ({ cls := "TrailerYards$Trailer", name := "all", desc := "()J" } : Jvm.MethodName) ({ cls := "TrailerYards$Trailer", name := "all", desc := "()J" } : Jvm.MethodName)) ∈ lw_all := lw_g (lw_at lw_m4 81 rfl) rfl
theorem q882 : (Jvm.Cond.selects "TrailerYards$Cold" ({ cls := "TrailerYards$Trailer", name := "isLawful", desc := "(I)Z" } : Jvm.MethodName) ({ cls := "TrailerYards$Trailer", name := "isLawful", desc := "(I)Z" } : Jvm.MethodName)) ∈ lw_all := lw_g (lw_at lw_m4 100 rfl) rfl
theorem q900 : (Jvm.Cond.castable "TrailerYards$Cold" "TrailerYards$Judged") ∈ lw_tbl := lw_at lw_m4 118 rfl
theorem q901 : (Jvm.Cond.selects "TrailerYards$Cold" ({ cls := "TrailerYards$Judged", name := "isCold", desc := "()Z" } : Jvm.MethodName) ({ cls := "TrailerYards$Cold", name := "isCold", desc := "()Z" } : Jvm.MethodName)) ∈ lw_all := lw_g (lw_at lw_m4 119 rfl) rfl
theorem q902 : (Jvm.Cond.unhidden "TrailerYards$Cold" "isCold" "()Z") ∈ lw_tbl := lw_at lw_m4 120 rfl
theorem q903 : (Jvm.Cond.instanceMethod ({ cls := "TrailerYards$Cold", name := "isCold", desc := "()Z" } : Jvm.MethodName)) ∈ lw_all := lw_g (lw_at lw_m4 121 rfl) rfl
theorem q904 : (Jvm.Cond.publicMethod ({ cls := "TrailerYards$Cold", name := "isCold", desc := "()Z" } : Jvm.MethodName)) ∈ lw_tbl := lw_at lw_m4 122 rfl
theorem q905 : (Jvm.Cond.code ({ cls := "TrailerYards$Cold", name := "isCold", desc := "()Z" } : Jvm.MethodName) prog_2_method_3_code (1 : Nat) (Option.some Jvm.ClassFile.FieldType.boolean)) ∈ lw_all := lw_g (lw_at lw_m4 123 rfl) rfl
theorem q917 : (Jvm.Cond.instanceMethod ({ cls := "TrailerYards$Cold", name := "look", desc := "()V" } : Jvm.MethodName)) ∈ lw_all := lw_g (lw_at lw_m4 135 rfl) rfl
theorem q918 : (Jvm.Cond.selects "TrailerYards$Cold" ({ cls := "TrailerYards$Cold", name := "look", desc := "()V" } : Jvm.MethodName) ({ cls := "TrailerYards$Cold", name := "look", desc := "()V" } : Jvm.MethodName)) ∈ lw_all := lw_g (lw_at lw_m4 136 rfl) rfl
theorem q919 : (Jvm.Cond.sameMethod "TrailerYards$Cold" "TrailerYards$Cold" "look" "()V") ∈ lw_all := lw_g (lw_at lw_m4 137 rfl) rfl
theorem q923 : (Jvm.Cond.code ({ cls := "TrailerYards$Cold", name := "look", desc := "()V" } : Jvm.MethodName) prog_2_method_5_code (1 : Nat) (Option.none : Option Jvm.ClassFile.FieldType)) ∈ lw_all := lw_g (lw_at lw_m4 141 rfl) rfl
theorem q1689 : (Jvm.Cond.sameMethod "TrailerYards$Cold" "TrailerYards$Cold" "kind" "()I") ∈ lw_all := lw_g (lw_at lw_m7 187 rfl) rfl
theorem q1690 : (Jvm.Cond.sameMethod "TrailerYards$Cold" "TrailerYards$Cold" "mark" "()I") ∈ lw_all := lw_g (lw_at lw_m7 188 rfl) rfl
theorem q1691 : (Jvm.Cond.selects "TrailerYards$Cold" ({ cls := "TrailerYards$Cold", name := "mark", desc := "()I" } : Jvm.MethodName) ({ cls := "TrailerYards$Cold", name := "mark", desc := "()I" } : Jvm.MethodName)) ∈ lw_all := lw_g (lw_at lw_m7 189 rfl) rfl
theorem q1696 : (Jvm.Cond.castable "TrailerYards$Cold" "TrailerYards$Trailer") ∈ lw_tbl := lw_at lw_m7 194 rfl
theorem in_X3 : ∀ w ∈ wsX30, w ∈ lw_all := lw_in wsX30 [620, 621, 622, 623, 624, 625, 626, 627, 628, 629, 630, 616, 618] (by decide +kernel) (by decide +kernel)
/-! TrailerYards$Rented -/
set_option maxRecDepth 100000
def RX4 : String := "TrailerYards$Rented"
def TX4 : u_T := fun k => match k with
  | 0 => ("TrailerYards$Trailer", "number", "I", true)
  | 1 => ("TrailerYards$Trailer", "worth", "I", true)
  | 2 => ("TrailerYards$Trailer", "yard", "I", false)
  | 3 => ("TrailerYards$Trailer", "tractor", "I", false)
  | 4 => ("TrailerYards$Trailer", "isLost", "Z", false)
  | 5 => ("TrailerYards$Trailer", "isSealed", "Z", false)
  | 6 => ("TrailerYards$Trailer", "axle", "I", false)
  | 7 => ("TrailerYards$Trailer", "loadMany", "I", false)
  | 8 => ("TrailerYards$Trailer", "weights", "[I", true)
  | 9 => ("TrailerYards$Trailer", "places", "[I", true)
  | 10 => ("TrailerYards$Trailer", "this$0", "LTrailerYards;", true)
  | _ => ("TrailerYards$Rented", "this$0", "LTrailerYards;", true)
def tyX4 : Nat → FieldType := fun k => match k with
  | 0 => .int
  | 1 => .int
  | 2 => .int
  | 3 => .int
  | 4 => .boolean
  | 5 => .boolean
  | 6 => .int
  | 7 => .int
  | 8 => .array .int
  | 9 => .array .int
  | 10 => .object "TrailerYards"
  | _ => .object "TrailerYards"
abbrev wsX40 : List Cond := u_ws RX4 TX4 12
-- two fields of one name: no nmX4
theorem tyX4_ok : ∀ k, k < 12 → parseFieldDescriptor (TX4 k).2.2.1 = some (tyX4 k) := by decide +kernel
abbrev cX4_init : ByteArray := prog_5_method_1_code
def yX4_init : MethodName := ⟨RX4, "<init>", "(LTrailerYards;III)V"⟩
def dkwX4_init_0 : List UInt8 := [42, 43, 181, 0, 3, 42, 43, 28, 29, 21, 4, 183, 0, 9, 177]
abbrev dktX4_init_0 : List UInt8 := dkwX4_init_0 ++ []
theorem dksX4_init_0 : cX4_init.data.toList.drop 0 = dktX4_init_0 := by decide +kernel
theorem dX4_init_0 : decode cX4_init 0 = .ok (.aload_n 0, 1) := dk_42 (dk_at dksX4_init_0 0 rfl rfl)
theorem dX4_init_1 : decode cX4_init 1 = .ok (.aload_n 1, 1) := dk_43 (dk_at dksX4_init_0 1 rfl rfl)
theorem dX4_init_2 : decode cX4_init 2 = .ok (.putfield 3, 3) := dk_181 0 3 (dk_at dksX4_init_0 2 rfl rfl)
theorem dX4_init_5 : decode cX4_init 5 = .ok (.aload_n 0, 1) := dk_42 (dk_at dksX4_init_0 5 rfl rfl)
theorem dX4_init_6 : decode cX4_init 6 = .ok (.aload_n 1, 1) := dk_43 (dk_at dksX4_init_0 6 rfl rfl)
theorem dX4_init_7 : decode cX4_init 7 = .ok (.iload_n 2, 1) := dk_28 (dk_at dksX4_init_0 7 rfl rfl)
theorem dX4_init_8 : decode cX4_init 8 = .ok (.iload_n 3, 1) := dk_29 (dk_at dksX4_init_0 8 rfl rfl)
theorem dX4_init_9 : decode cX4_init 9 = .ok (.iload 4, 2) := dk_21 4 (dk_at dksX4_init_0 9 rfl rfl)
theorem dX4_init_11 : decode cX4_init 11 = .ok (.invokespecial 9, 3) := dk_183 0 9 (dk_at dksX4_init_0 11 rfl rfl)
theorem dX4_init_14 : decode cX4_init 14 = .ok (.return_, 1) := dk_177 (dk_at dksX4_init_0 14 rfl rfl)
abbrev cX4_kind : ByteArray := prog_5_method_2_code
def yX4_kind : MethodName := ⟨RX4, "kind", "()I"⟩
def dkwX4_kind_0 : List UInt8 := [42, 183, 0, 15, 5, 96, 172]
abbrev dktX4_kind_0 : List UInt8 := dkwX4_kind_0 ++ []
theorem dksX4_kind_0 : cX4_kind.data.toList.drop 0 = dktX4_kind_0 := by decide +kernel
theorem dX4_kind_0 : decode cX4_kind 0 = .ok (.aload_n 0, 1) := dk_42 (dk_at dksX4_kind_0 0 rfl rfl)
theorem dX4_kind_1 : decode cX4_kind 1 = .ok (.invokespecial 15, 3) := dk_183 0 15 (dk_at dksX4_kind_0 1 rfl rfl)
theorem dX4_kind_4 : decode cX4_kind 4 = .ok (.iconst 2, 1) := dk_5 (dk_at dksX4_kind_0 4 rfl rfl)
theorem dX4_kind_5 : decode cX4_kind 5 = .ok (.iadd, 1) := dk_96 (dk_at dksX4_kind_0 5 rfl rfl)
theorem dX4_kind_6 : decode cX4_kind 6 = .ok (.ireturn, 1) := dk_172 (dk_at dksX4_kind_0 6 rfl rfl)
abbrev cX4_mark : ByteArray := prog_5_method_3_code
def yX4_mark : MethodName := ⟨RX4, "mark", "()I"⟩
def dkwX4_mark_1 : List UInt8 := [180, 0, 27, 3, 182, 0, 30, 46, 17, 5, 160, 108, 100, 172]
abbrev dktX4_mark_1 : List UInt8 := dkwX4_mark_1 ++ []
def dkwX4_mark_0 : List UInt8 := [42, 180, 0, 3, 180, 0, 19, 17, 5, 160, 108, 42, 180, 0, 3, 180, 0, 23, 42, 180, 0, 3, 42]
abbrev dktX4_mark_0 : List UInt8 := dkwX4_mark_0 ++ dktX4_mark_1
theorem dksX4_mark_0 : cX4_mark.data.toList.drop 0 = dktX4_mark_0 := by decide +kernel
theorem dksX4_mark_1 : cX4_mark.data.toList.drop 23 = dktX4_mark_1 := dk_seg dksX4_mark_0 23 rfl rfl
theorem dX4_mark_0 : decode cX4_mark 0 = .ok (.aload_n 0, 1) := dk_42 (dk_at dksX4_mark_0 0 rfl rfl)
theorem dX4_mark_1 : decode cX4_mark 1 = .ok (.getfield 3, 3) := dk_180 0 3 (dk_at dksX4_mark_0 1 rfl rfl)
theorem dX4_mark_4 : decode cX4_mark 4 = .ok (.getfield 19, 3) := dk_180 0 19 (dk_at dksX4_mark_0 4 rfl rfl)
theorem dX4_mark_7 : decode cX4_mark 7 = .ok (.sipush 1440, 3) := dk_17 5 160 (dk_at dksX4_mark_0 7 rfl rfl)
theorem dX4_mark_10 : decode cX4_mark 10 = .ok (.idiv, 1) := dk_108 (dk_at dksX4_mark_0 10 rfl rfl)
theorem dX4_mark_11 : decode cX4_mark 11 = .ok (.aload_n 0, 1) := dk_42 (dk_at dksX4_mark_0 11 rfl rfl)
theorem dX4_mark_12 : decode cX4_mark 12 = .ok (.getfield 3, 3) := dk_180 0 3 (dk_at dksX4_mark_0 12 rfl rfl)
theorem dX4_mark_15 : decode cX4_mark 15 = .ok (.getfield 23, 3) := dk_180 0 23 (dk_at dksX4_mark_0 15 rfl rfl)
theorem dX4_mark_18 : decode cX4_mark 18 = .ok (.aload_n 0, 1) := dk_42 (dk_at dksX4_mark_0 18 rfl rfl)
theorem dX4_mark_19 : decode cX4_mark 19 = .ok (.getfield 3, 3) := dk_180 0 3 (dk_at dksX4_mark_0 19 rfl rfl)
theorem dX4_mark_22 : decode cX4_mark 22 = .ok (.aload_n 0, 1) := dk_42 (dk_at dksX4_mark_0 22 rfl rfl)
theorem dX4_mark_23 : decode cX4_mark 23 = .ok (.getfield 27, 3) := dk_180 0 27 (dk_at dksX4_mark_1 0 rfl rfl)
theorem dX4_mark_26 : decode cX4_mark 26 = .ok (.iconst 0, 1) := dk_3 (dk_at dksX4_mark_1 3 rfl rfl)
theorem dX4_mark_27 : decode cX4_mark 27 = .ok (.invokevirtual 30, 3) := dk_182 0 30 (dk_at dksX4_mark_1 4 rfl rfl)
theorem dX4_mark_30 : decode cX4_mark 30 = .ok (.iaload, 1) := dk_46 (dk_at dksX4_mark_1 7 rfl rfl)
theorem dX4_mark_31 : decode cX4_mark 31 = .ok (.sipush 1440, 3) := dk_17 5 160 (dk_at dksX4_mark_1 8 rfl rfl)
theorem dX4_mark_34 : decode cX4_mark 34 = .ok (.idiv, 1) := dk_108 (dk_at dksX4_mark_1 11 rfl rfl)
theorem dX4_mark_35 : decode cX4_mark 35 = .ok (.isub, 1) := dk_100 (dk_at dksX4_mark_1 12 rfl rfl)
theorem dX4_mark_36 : decode cX4_mark 36 = .ok (.ireturn, 1) := dk_172 (dk_at dksX4_mark_1 13 rfl rfl)
theorem q77 : (Jvm.Cond.initialized "TrailerYards$Rented") ∈ lw_all := lw_g (lw_at lw_m1 15 rfl) rfl
theorem q111 : (Jvm.Cond.fieldLinkNest "TrailerYards$Rented" (19 : Nat) "TrailerYards" "now" "I" "TrailerYards") ∈ lw_tbl := lw_at lw_m1 49 rfl
theorem q128 : (Jvm.Cond.fieldLinkNest "TrailerYards$Rented" (23 : Nat) "TrailerYards" "entryMinute" "[I" "TrailerYards") ∈ lw_tbl := lw_at lw_m1 66 rfl
theorem q563 : (Jvm.Cond.fieldLink "TrailerYards$Rented" (27 : Nat) "TrailerYards$Rented" "number" "I") ∈ lw_all := lw_g (lw_at lw_m3 21 rfl) rfl
theorem q564 : (Jvm.Cond.sameField "TrailerYards$Rented" "TrailerYards$Trailer" "number" "I") ∈ lw_all := lw_g (lw_at lw_m3 22 rfl) rfl
theorem q633 : (Jvm.Cond.instantiable "TrailerYards$Rented" (12 : Nat)) ∈ lw_all := lw_g (lw_at lw_m3 91 rfl) rfl
theorem q635 : (Jvm.Cond.instanceMethod ({ cls := "TrailerYards$Rented", name := "<init>", desc := "(LTrailerYards;III)V" } : Jvm.MethodName)) ∈ lw_all := lw_g (lw_at lw_m3 93 rfl) rfl
theorem q636 : (Jvm.Cond.code ({ cls := "TrailerYards$Rented", name := "<init>", desc := "(LTrailerYards;III)V" } : Jvm.MethodName) prog_5_method_1_code (5 : Nat) (Option.none : Option Jvm.ClassFile.FieldType)) ∈ lw_all := lw_g (lw_at lw_m3 94 rfl) rfl
theorem q637 : (Jvm.Cond.methodLink "TrailerYards$Rented" (9 : Nat) ({ cls := "TrailerYards$Trailer", name := "<init>", desc := "(LTrailerYards;III)V" } : Jvm.MethodName)) ∈ lw_all := lw_g (lw_at lw_m3 95 rfl) rfl
theorem q638 : (Jvm.Cond.fieldLink "TrailerYards$Rented" (3 : Nat) "TrailerYards$Rented" "this$0" "LTrailerYards;") ∈ lw_all := lw_g (lw_at lw_m3 96 rfl) rfl
theorem q639 : (Jvm.Cond.laysFinal "TrailerYards$Rented" "TrailerYards$Rented" "this$0" "LTrailerYards;") ∈ lw_all := lw_g (lw_at lw_m3 97 rfl) rfl
theorem q640 : (Jvm.Cond.soleField "TrailerYards$Rented" "this$0") ∈ lw_all := lw_g (lw_at lw_m3 98 rfl) rfl
theorem q641 : (Jvm.Cond.laysFinal "TrailerYards$Rented" "TrailerYards$Trailer" "number" "I") ∈ lw_all := lw_g (lw_at lw_m3 99 rfl) rfl
theorem q642 : (Jvm.Cond.laysFinal "TrailerYards$Rented" "TrailerYards$Trailer" "worth" "I") ∈ lw_all := lw_g (lw_at lw_m3 100 rfl) rfl
theorem q643 : (Jvm.Cond.lays "TrailerYards$Rented" "TrailerYards$Trailer" "yard" "I") ∈ lw_all := lw_g (lw_at lw_m3 101 rfl) rfl
theorem q644 : (Jvm.Cond.lays "TrailerYards$Rented" "TrailerYards$Trailer" "tractor" "I") ∈ lw_all := lw_g (lw_at lw_m3 102 rfl) rfl
theorem q645 : (Jvm.Cond.lays "TrailerYards$Rented" "TrailerYards$Trailer" "isLost" "Z") ∈ lw_all := lw_g (lw_at lw_m3 103 rfl) rfl
theorem q646 : (Jvm.Cond.lays "TrailerYards$Rented" "TrailerYards$Trailer" "isSealed" "Z") ∈ lw_all := lw_g (lw_at lw_m3 104 rfl) rfl
theorem q647 : (Jvm.Cond.lays "TrailerYards$Rented" "TrailerYards$Trailer" "axle" "I") ∈ lw_all := lw_g (lw_at lw_m3 105 rfl) rfl
theorem q648 : (Jvm.Cond.lays "TrailerYards$Rented" "TrailerYards$Trailer" "loadMany" "I") ∈ lw_all := lw_g (lw_at lw_m3 106 rfl) rfl
theorem q649 : (Jvm.Cond.laysFinal "TrailerYards$Rented" "TrailerYards$Trailer" "weights" "[I") ∈ lw_all := lw_g (lw_at lw_m3 107 rfl) rfl
theorem q650 : (Jvm.Cond.laysFinal "TrailerYards$Rented" "TrailerYards$Trailer" "places" "[I") ∈ lw_all := lw_g (lw_at lw_m3 108 rfl) rfl
theorem q651 : (Jvm.Cond.laysFinal "TrailerYards$Rented" "TrailerYards$Trailer" "this$0" "LTrailerYards;") ∈ lw_all := lw_g (lw_at lw_m3 109 rfl) rfl
theorem q652 : (Jvm.Cond.superclass "TrailerYards$Rented" "TrailerYards$Trailer") ∈ lw_all := lw_g (lw_at lw_m3 110 rfl) rfl
theorem q706 : (Jvm.Cond.selects "TrailerYards$Rented" ({ cls := "TrailerYards$Trailer", name := "kind", desc := "()I" } : Jvm.MethodName) ({ cls := "TrailerYards$Rented", name := "kind", desc := "()I" } : Jvm.MethodName)) ∈ lw_all := lw_g (lw_at lw_m3 164 rfl) rfl
theorem q707 : (Jvm.Cond.instanceMethod ({ cls := "TrailerYards$Rented", name := "kind", desc := "()I" } : Jvm.MethodName)) ∈ lw_all := lw_g (lw_at lw_m3 165 rfl) rfl
theorem q708 : (Jvm.Cond.code ({ cls := "TrailerYards$Rented", name := "kind", desc := "()I" } : Jvm.MethodName) prog_5_method_2_code (1 : Nat) (Option.some Jvm.ClassFile.FieldType.int)) ∈ lw_all := lw_g (lw_at lw_m3 166 rfl) rfl
theorem q709 : (Jvm.Cond.methodLink "TrailerYards$Rented" (15 : Nat) ({ cls := "TrailerYards$Trailer", name := "kind", desc := "()I" } : Jvm.MethodName)) ∈ lw_all := lw_g (lw_at lw_m3 167 rfl) rfl
theorem q740 : (Jvm.Cond.instanceMethod ({ cls := "TrailerYards$Rented", name := "mark", desc := "()I" } : Jvm.MethodName)) ∈ lw_all := lw_g (lw_at lw_m3 198 rfl) rfl
theorem q741 : (Jvm.Cond.selects "TrailerYards$Rented" ({ cls := "TrailerYards$Rented", name := "mark", desc := "()I" } : Jvm.MethodName) ({ cls := "TrailerYards$Rented", name := "mark", desc := "()I" } : Jvm.MethodName)) ∈ lw_all := lw_g (lw_at lw_m3 199 rfl) rfl
theorem q742 : (Jvm.Cond.code ({ cls := "TrailerYards$Rented", name := "mark", desc := "()I" } : Jvm.MethodName) prog_5_method_3_code (1 : Nat) (Option.some Jvm.ClassFile.FieldType.int)) ∈ lw_all := lw_g (lw_at lw_m3 200 rfl) rfl
theorem q743 : (Jvm.Cond.methodLinkNest "TrailerYards$Rented" (30 : Nat) ({ cls := "TrailerYards", name := "entryOf", desc := "(II)I" } : Jvm.MethodName) "TrailerYards") ∈ lw_tbl := lw_at lw_m3 201 rfl
theorem q857 : (Jvm.Cond.selects "TrailerYards$Rented" ({ cls := "TrailerYards$Trailer", name := "turning", desc := "()J" } : Jvm.MethodName) ({ cls := "TrailerYards$Trailer", name := "turning", desc := "()J" } : Jvm.MethodName)) ∈ lw_all := lw_g (lw_at lw_m4 75 rfl) rfl
theorem q865 : (Jvm.Cond.selects "TrailerYards$Rented" ({ cls := "TrailerYards$Trailer", name := "all", desc := "()J" } : Jvm.MethodName) ({ cls := "TrailerYards$Trailer", name := "all", desc := "()J" } : Jvm.MethodName)) ∈ lw_all := lw_g (lw_at lw_m4 83 rfl) rfl
theorem q884 : (Jvm.Cond.selects "TrailerYards$Rented" ({ cls := "TrailerYards$Trailer", name := "isLawful", desc := "(I)Z" } : Jvm.MethodName) ({ cls := "TrailerYards$Trailer", name := "isLawful", desc := "(I)Z" } : Jvm.MethodName)) ∈ lw_all := lw_g (lw_at lw_m4 102 rfl) rfl
theorem q909 : (Jvm.Cond.castable "TrailerYards$Rented" "TrailerYards$Judged") ∈ lw_tbl := lw_at lw_m4 127 rfl
theorem q910 : (Jvm.Cond.unhidden "TrailerYards$Rented" "isCold" "()Z") ∈ lw_tbl := lw_at lw_m4 128 rfl
theorem q1697 : (Jvm.Cond.castable "TrailerYards$Rented" "TrailerYards$Trailer") ∈ lw_tbl := lw_at lw_m7 195 rfl
theorem in_X4 : ∀ w ∈ wsX40, w ∈ lw_all := lw_in wsX40 [641, 642, 643, 644, 645, 646, 647, 648, 649, 650, 651, 639] (by decide +kernel) (by decide +kernel)
/-! TrailerYards$Frozen -/
set_option maxRecDepth 100000
def RX5 : String := "TrailerYards$Frozen"
def TX5 : u_T := fun k => match k with
  | 0 => ("TrailerYards$Trailer", "number", "I", true)
  | 1 => ("TrailerYards$Trailer", "worth", "I", true)
  | 2 => ("TrailerYards$Trailer", "yard", "I", false)
  | 3 => ("TrailerYards$Trailer", "tractor", "I", false)
  | 4 => ("TrailerYards$Trailer", "isLost", "Z", false)
  | 5 => ("TrailerYards$Trailer", "isSealed", "Z", false)
  | 6 => ("TrailerYards$Trailer", "axle", "I", false)
  | 7 => ("TrailerYards$Trailer", "loadMany", "I", false)
  | 8 => ("TrailerYards$Trailer", "weights", "[I", true)
  | 9 => ("TrailerYards$Trailer", "places", "[I", true)
  | 10 => ("TrailerYards$Trailer", "this$0", "LTrailerYards;", true)
  | 11 => ("TrailerYards$Cold", "limit", "I", false)
  | 12 => ("TrailerYards$Cold", "this$0", "LTrailerYards;", true)
  | 13 => ("TrailerYards$Frozen", "looks", "I", false)
  | _ => ("TrailerYards$Frozen", "this$0", "LTrailerYards;", true)
def tyX5 : Nat → FieldType := fun k => match k with
  | 0 => .int
  | 1 => .int
  | 2 => .int
  | 3 => .int
  | 4 => .boolean
  | 5 => .boolean
  | 6 => .int
  | 7 => .int
  | 8 => .array .int
  | 9 => .array .int
  | 10 => .object "TrailerYards"
  | 11 => .int
  | 12 => .object "TrailerYards"
  | 13 => .int
  | _ => .object "TrailerYards"
abbrev wsX50 : List Cond := u_ws RX5 TX5 15
-- two fields of one name: no nmX5
set_option maxRecDepth 100000 in
theorem tyX5_ok : ∀ k, k < 15 → parseFieldDescriptor (TX5 k).2.2.1 = some (tyX5 k) := by decide +kernel
abbrev cX5_init : ByteArray := prog_3_method_1_code
def yX5_init : MethodName := ⟨RX5, "<init>", "(LTrailerYards;III)V"⟩
def dkwX5_init_0 : List UInt8 := [42, 43, 181, 0, 1, 42, 43, 28, 29, 21, 4, 183, 0, 7, 42, 16, 238, 181, 0, 13, 177]
abbrev dktX5_init_0 : List UInt8 := dkwX5_init_0 ++ []
theorem dksX5_init_0 : cX5_init.data.toList.drop 0 = dktX5_init_0 := by decide +kernel
theorem dX5_init_0 : decode cX5_init 0 = .ok (.aload_n 0, 1) := dk_42 (dk_at dksX5_init_0 0 rfl rfl)
theorem dX5_init_1 : decode cX5_init 1 = .ok (.aload_n 1, 1) := dk_43 (dk_at dksX5_init_0 1 rfl rfl)
theorem dX5_init_2 : decode cX5_init 2 = .ok (.putfield 1, 3) := dk_181 0 1 (dk_at dksX5_init_0 2 rfl rfl)
theorem dX5_init_5 : decode cX5_init 5 = .ok (.aload_n 0, 1) := dk_42 (dk_at dksX5_init_0 5 rfl rfl)
theorem dX5_init_6 : decode cX5_init 6 = .ok (.aload_n 1, 1) := dk_43 (dk_at dksX5_init_0 6 rfl rfl)
theorem dX5_init_7 : decode cX5_init 7 = .ok (.iload_n 2, 1) := dk_28 (dk_at dksX5_init_0 7 rfl rfl)
theorem dX5_init_8 : decode cX5_init 8 = .ok (.iload_n 3, 1) := dk_29 (dk_at dksX5_init_0 8 rfl rfl)
theorem dX5_init_9 : decode cX5_init 9 = .ok (.iload 4, 2) := dk_21 4 (dk_at dksX5_init_0 9 rfl rfl)
theorem dX5_init_11 : decode cX5_init 11 = .ok (.invokespecial 7, 3) := dk_183 0 7 (dk_at dksX5_init_0 11 rfl rfl)
theorem dX5_init_14 : decode cX5_init 14 = .ok (.aload_n 0, 1) := dk_42 (dk_at dksX5_init_0 14 rfl rfl)
theorem dX5_init_15 : decode cX5_init 15 = .ok (.bipush (-18), 2) := dk_16 238 (dk_at dksX5_init_0 15 rfl rfl)
theorem dX5_init_17 : decode cX5_init 17 = .ok (.putfield 13, 3) := dk_181 0 13 (dk_at dksX5_init_0 17 rfl rfl)
theorem dX5_init_20 : decode cX5_init 20 = .ok (.return_, 1) := dk_177 (dk_at dksX5_init_0 20 rfl rfl)
abbrev cX5_kind : ByteArray := prog_3_method_2_code
def yX5_kind : MethodName := ⟨RX5, "kind", "()I"⟩
def dkwX5_kind_0 : List UInt8 := [42, 183, 0, 17, 5, 96, 172]
abbrev dktX5_kind_0 : List UInt8 := dkwX5_kind_0 ++ []
theorem dksX5_kind_0 : cX5_kind.data.toList.drop 0 = dktX5_kind_0 := by decide +kernel
theorem dX5_kind_0 : decode cX5_kind 0 = .ok (.aload_n 0, 1) := dk_42 (dk_at dksX5_kind_0 0 rfl rfl)
theorem dX5_kind_1 : decode cX5_kind 1 = .ok (.invokespecial 17, 3) := dk_183 0 17 (dk_at dksX5_kind_0 1 rfl rfl)
theorem dX5_kind_4 : decode cX5_kind 4 = .ok (.iconst 2, 1) := dk_5 (dk_at dksX5_kind_0 4 rfl rfl)
theorem dX5_kind_5 : decode cX5_kind 5 = .ok (.iadd, 1) := dk_96 (dk_at dksX5_kind_0 5 rfl rfl)
theorem dX5_kind_6 : decode cX5_kind 6 = .ok (.ireturn, 1) := dk_172 (dk_at dksX5_kind_0 6 rfl rfl)
abbrev cX5_asCold : ByteArray := prog_3_method_5_code
def yX5_asCold : MethodName := ⟨RX5, "asCold", "()I"⟩
theorem dX5_asCold_0 : decode cX5_asCold 0 = .ok (.aload_n 0, 1) := by decide +kernel
theorem dX5_asCold_1 : decode cX5_asCold 1 = .ok (.invokespecial 24, 3) := by decide +kernel
theorem dX5_asCold_4 : decode cX5_asCold 4 = .ok (.ireturn, 1) := by decide +kernel
abbrev cX5_mark : ByteArray := prog_3_method_4_code
def yX5_mark : MethodName := ⟨RX5, "mark", "()I"⟩
theorem dX5_mark_0 : decode cX5_mark 0 = .ok (.aload_n 0, 1) := by decide +kernel
theorem dX5_mark_1 : decode cX5_mark 1 = .ok (.getfield 21, 3) := by decide +kernel
theorem dX5_mark_4 : decode cX5_mark 4 = .ok (.ireturn, 1) := by decide +kernel
abbrev cX5_look : ByteArray := prog_3_method_3_code
def yX5_look : MethodName := ⟨RX5, "look", "()V"⟩
def dkwX5_look_0 : List UInt8 := [42, 89, 180, 0, 21, 4, 96, 181, 0, 21, 177]
abbrev dktX5_look_0 : List UInt8 := dkwX5_look_0 ++ []
theorem dksX5_look_0 : cX5_look.data.toList.drop 0 = dktX5_look_0 := by decide +kernel
theorem dX5_look_0 : decode cX5_look 0 = .ok (.aload_n 0, 1) := dk_42 (dk_at dksX5_look_0 0 rfl rfl)
theorem dX5_look_1 : decode cX5_look 1 = .ok (.dup, 1) := dk_89 (dk_at dksX5_look_0 1 rfl rfl)
theorem dX5_look_2 : decode cX5_look 2 = .ok (.getfield 21, 3) := dk_180 0 21 (dk_at dksX5_look_0 2 rfl rfl)
theorem dX5_look_5 : decode cX5_look 5 = .ok (.iconst 1, 1) := dk_4 (dk_at dksX5_look_0 5 rfl rfl)
theorem dX5_look_6 : decode cX5_look 6 = .ok (.iadd, 1) := dk_96 (dk_at dksX5_look_0 6 rfl rfl)
theorem dX5_look_7 : decode cX5_look 7 = .ok (.putfield 21, 3) := dk_181 0 21 (dk_at dksX5_look_0 7 rfl rfl)
theorem dX5_look_10 : decode cX5_look 10 = .ok (.return_, 1) := dk_177 (dk_at dksX5_look_0 10 rfl rfl)
theorem q78 : (Jvm.Cond.initialized "TrailerYards$Frozen") ∈ lw_all := lw_g (lw_at lw_m1 16 rfl) rfl
theorem q612 : (Jvm.Cond.fieldLink "TrailerYards$Frozen" (13 : Nat) "TrailerYards$Frozen" "limit" "I") ∈ lw_all := lw_g (lw_at lw_m3 70 rfl) rfl
theorem q613 : (Jvm.Cond.sameField "TrailerYards$Frozen" "TrailerYards$Cold" "limit" "I") ∈ lw_all := lw_g (lw_at lw_m3 71 rfl) rfl
theorem q654 : (Jvm.Cond.instantiable "TrailerYards$Frozen" (15 : Nat)) ∈ lw_all := lw_g (lw_at lw_m3 112 rfl) rfl
theorem q656 : (Jvm.Cond.instanceMethod ({ cls := "TrailerYards$Frozen", name := "<init>", desc := "(LTrailerYards;III)V" } : Jvm.MethodName)) ∈ lw_all := lw_g (lw_at lw_m3 114 rfl) rfl
theorem q657 : (Jvm.Cond.code ({ cls := "TrailerYards$Frozen", name := "<init>", desc := "(LTrailerYards;III)V" } : Jvm.MethodName) prog_3_method_1_code (5 : Nat) (Option.none : Option Jvm.ClassFile.FieldType)) ∈ lw_all := lw_g (lw_at lw_m3 115 rfl) rfl
theorem q658 : (Jvm.Cond.methodLink "TrailerYards$Frozen" (7 : Nat) ({ cls := "TrailerYards$Cold", name := "<init>", desc := "(LTrailerYards;III)V" } : Jvm.MethodName)) ∈ lw_all := lw_g (lw_at lw_m3 116 rfl) rfl
theorem q659 : (Jvm.Cond.fieldLink "TrailerYards$Frozen" (21 : Nat) "TrailerYards$Frozen" "looks" "I") ∈ lw_all := lw_g (lw_at lw_m3 117 rfl) rfl
theorem q660 : (Jvm.Cond.fieldLink "TrailerYards$Frozen" (1 : Nat) "TrailerYards$Frozen" "this$0" "LTrailerYards;") ∈ lw_all := lw_g (lw_at lw_m3 118 rfl) rfl
theorem q661 : (Jvm.Cond.lays "TrailerYards$Frozen" "TrailerYards$Frozen" "looks" "I") ∈ lw_all := lw_g (lw_at lw_m3 119 rfl) rfl
theorem q662 : (Jvm.Cond.soleField "TrailerYards$Frozen" "looks") ∈ lw_all := lw_g (lw_at lw_m3 120 rfl) rfl
theorem q663 : (Jvm.Cond.laysFinal "TrailerYards$Frozen" "TrailerYards$Frozen" "this$0" "LTrailerYards;") ∈ lw_all := lw_g (lw_at lw_m3 121 rfl) rfl
theorem q664 : (Jvm.Cond.soleField "TrailerYards$Frozen" "this$0") ∈ lw_all := lw_g (lw_at lw_m3 122 rfl) rfl
theorem q665 : (Jvm.Cond.lays "TrailerYards$Frozen" "TrailerYards$Cold" "limit" "I") ∈ lw_all := lw_g (lw_at lw_m3 123 rfl) rfl
theorem q666 : (Jvm.Cond.laysFinal "TrailerYards$Frozen" "TrailerYards$Cold" "this$0" "LTrailerYards;") ∈ lw_all := lw_g (lw_at lw_m3 124 rfl) rfl
theorem q667 : (Jvm.Cond.laysFinal "TrailerYards$Frozen" "TrailerYards$Trailer" "number" "I") ∈ lw_all := lw_g (lw_at lw_m3 125 rfl) rfl
theorem q668 : (Jvm.Cond.laysFinal "TrailerYards$Frozen" "TrailerYards$Trailer" "worth" "I") ∈ lw_all := lw_g (lw_at lw_m3 126 rfl) rfl
theorem q669 : (Jvm.Cond.lays "TrailerYards$Frozen" "TrailerYards$Trailer" "yard" "I") ∈ lw_all := lw_g (lw_at lw_m3 127 rfl) rfl
theorem q670 : (Jvm.Cond.lays "TrailerYards$Frozen" "TrailerYards$Trailer" "tractor" "I") ∈ lw_all := lw_g (lw_at lw_m3 128 rfl) rfl
theorem q671 : (Jvm.Cond.lays "TrailerYards$Frozen" "TrailerYards$Trailer" "isLost" "Z") ∈ lw_all := lw_g (lw_at lw_m3 129 rfl) rfl
theorem q672 : (Jvm.Cond.lays "TrailerYards$Frozen" "TrailerYards$Trailer" "isSealed" "Z") ∈ lw_all := lw_g (lw_at lw_m3 130 rfl) rfl
theorem q673 : (Jvm.Cond.lays "TrailerYards$Frozen" "TrailerYards$Trailer" "axle" "I") ∈ lw_all := lw_g (lw_at lw_m3 131 rfl) rfl
theorem q674 : (Jvm.Cond.lays "TrailerYards$Frozen" "TrailerYards$Trailer" "loadMany" "I") ∈ lw_all := lw_g (lw_at lw_m3 132 rfl) rfl
theorem q675 : (Jvm.Cond.laysFinal "TrailerYards$Frozen" "TrailerYards$Trailer" "weights" "[I") ∈ lw_all := lw_g (lw_at lw_m3 133 rfl) rfl
theorem q676 : (Jvm.Cond.laysFinal "TrailerYards$Frozen" "TrailerYards$Trailer" "places" "[I") ∈ lw_all := lw_g (lw_at lw_m3 134 rfl) rfl
theorem q677 : (Jvm.Cond.laysFinal "TrailerYards$Frozen" "TrailerYards$Trailer" "this$0" "LTrailerYards;") ∈ lw_all := lw_g (lw_at lw_m3 135 rfl) rfl
theorem q678 : (Jvm.Cond.superclass "TrailerYards$Frozen" "TrailerYards$Cold") ∈ lw_all := lw_g (lw_at lw_m3 136 rfl) rfl
theorem q702 : (Jvm.Cond.selects "TrailerYards$Frozen" ({ cls := "TrailerYards$Trailer", name := "kind", desc := "()I" } : Jvm.MethodName) ({ cls := "TrailerYards$Frozen", name := "kind", desc := "()I" } : Jvm.MethodName)) ∈ lw_all := lw_g (lw_at lw_m3 160 rfl) rfl
theorem q703 : (Jvm.Cond.instanceMethod ({ cls := "TrailerYards$Frozen", name := "kind", desc := "()I" } : Jvm.MethodName)) ∈ lw_all := lw_g (lw_at lw_m3 161 rfl) rfl
theorem q704 : (Jvm.Cond.code ({ cls := "TrailerYards$Frozen", name := "kind", desc := "()I" } : Jvm.MethodName) prog_3_method_2_code (1 : Nat) (Option.some Jvm.ClassFile.FieldType.int)) ∈ lw_all := lw_g (lw_at lw_m3 162 rfl) rfl
theorem q705 : (Jvm.Cond.methodLink "TrailerYards$Frozen" (17 : Nat) ({ cls := "TrailerYards$Cold", name := "kind", desc := "()I" } : Jvm.MethodName)) ∈ lw_all := lw_g (lw_at lw_m3 163 rfl) rfl
theorem q730 : (Jvm.Cond.instanceMethod ({ cls := "TrailerYards$Frozen", name := "asCold", desc := "()I" } : Jvm.MethodName)) ∈ lw_all := lw_g (lw_at lw_m3 188 rfl) rfl
theorem q731 : (Jvm.Cond.selects "TrailerYards$Frozen" ({ cls := "TrailerYards$Frozen", name := "asCold", desc := "()I" } : Jvm.MethodName) ({ cls := "TrailerYards$Frozen", name := "asCold", desc := "()I" } : Jvm.MethodName)) ∈ lw_all := lw_g (lw_at lw_m3 189 rfl) rfl
theorem q732 : (Jvm.Cond.code ({ cls := "TrailerYards$Frozen", name := "asCold", desc := "()I" } : Jvm.MethodName) prog_3_method_5_code (1 : Nat) (Option.some Jvm.ClassFile.FieldType.int)) ∈ lw_all := lw_g (lw_at lw_m3 190 rfl) rfl
theorem q733 : (Jvm.Cond.methodLink "TrailerYards$Frozen" (24 : Nat) ({ cls := "TrailerYards$Cold", name := "mark", desc := "()I" } : Jvm.MethodName)) ∈ lw_all := lw_g (lw_at lw_m3 191 rfl) rfl
theorem q737 : (Jvm.Cond.instanceMethod ({ cls := "TrailerYards$Frozen", name := "mark", desc := "()I" } : Jvm.MethodName)) ∈ lw_all := lw_g (lw_at lw_m3 195 rfl) rfl
theorem q738 : (Jvm.Cond.code ({ cls := "TrailerYards$Frozen", name := "mark", desc := "()I" } : Jvm.MethodName) prog_3_method_4_code (1 : Nat) (Option.some Jvm.ClassFile.FieldType.int)) ∈ lw_all := lw_g (lw_at lw_m3 196 rfl) rfl
theorem q856 : (Jvm.Cond.selects "TrailerYards$Frozen" ({ cls := "TrailerYards$Trailer", name := "turning", desc := "()J" } : Jvm.MethodName) ({ cls := "TrailerYards$Trailer", name := "turning", desc := "()J" } : Jvm.MethodName)) ∈ lw_all := lw_g (lw_at lw_m4 74 rfl) rfl
theorem q864 : (Jvm.Cond.selects "TrailerYards$Frozen" ({ cls := "TrailerYards$Trailer", name := "all", desc := "()J" } : Jvm.MethodName) ({ cls := "TrailerYards$Trailer", name := "all", desc := "()J" } : Jvm.MethodName)) ∈ lw_all := lw_g (lw_at lw_m4 82 rfl) rfl
theorem q883 : (Jvm.Cond.selects "TrailerYards$Frozen" ({ cls := "TrailerYards$Trailer", name := "isLawful", desc := "(I)Z" } : Jvm.MethodName) ({ cls := "TrailerYards$Trailer", name := "isLawful", desc := "(I)Z" } : Jvm.MethodName)) ∈ lw_all := lw_g (lw_at lw_m4 101 rfl) rfl
theorem q906 : (Jvm.Cond.castable "TrailerYards$Frozen" "TrailerYards$Judged") ∈ lw_tbl := lw_at lw_m4 124 rfl
theorem q907 : (Jvm.Cond.selects "TrailerYards$Frozen" ({ cls := "TrailerYards$Judged", name := "isCold", desc := "()Z" } : Jvm.MethodName) ({ cls := "TrailerYards$Cold", name := "isCold", desc := "()Z" } : Jvm.MethodName)) ∈ lw_all := lw_g (lw_at lw_m4 125 rfl) rfl
theorem q908 : (Jvm.Cond.unhidden "TrailerYards$Frozen" "isCold" "()Z") ∈ lw_tbl := lw_at lw_m4 126 rfl
theorem q920 : (Jvm.Cond.selects "TrailerYards$Frozen" ({ cls := "TrailerYards$Cold", name := "look", desc := "()V" } : Jvm.MethodName) ({ cls := "TrailerYards$Frozen", name := "look", desc := "()V" } : Jvm.MethodName)) ∈ lw_all := lw_g (lw_at lw_m4 138 rfl) rfl
theorem q921 : (Jvm.Cond.instanceMethod ({ cls := "TrailerYards$Frozen", name := "look", desc := "()V" } : Jvm.MethodName)) ∈ lw_all := lw_g (lw_at lw_m4 139 rfl) rfl
theorem q922 : (Jvm.Cond.code ({ cls := "TrailerYards$Frozen", name := "look", desc := "()V" } : Jvm.MethodName) prog_3_method_3_code (1 : Nat) (Option.none : Option Jvm.ClassFile.FieldType)) ∈ lw_all := lw_g (lw_at lw_m4 140 rfl) rfl
theorem q1692 : (Jvm.Cond.selects "TrailerYards$Frozen" ({ cls := "TrailerYards$Cold", name := "mark", desc := "()I" } : Jvm.MethodName) ({ cls := "TrailerYards$Frozen", name := "mark", desc := "()I" } : Jvm.MethodName)) ∈ lw_all := lw_g (lw_at lw_m7 190 rfl) rfl
theorem q1693 : (Jvm.Cond.selects "TrailerYards$Frozen" ({ cls := "TrailerYards$Frozen", name := "mark", desc := "()I" } : Jvm.MethodName) ({ cls := "TrailerYards$Frozen", name := "mark", desc := "()I" } : Jvm.MethodName)) ∈ lw_all := lw_g (lw_at lw_m7 191 rfl) rfl
theorem q1695 : (Jvm.Cond.castable "TrailerYards$Frozen" "TrailerYards$Cold") ∈ lw_tbl := lw_at lw_m7 193 rfl
theorem q1698 : (Jvm.Cond.castable "TrailerYards$Frozen" "TrailerYards$Trailer") ∈ lw_tbl := lw_at lw_m7 196 rfl
theorem in_X5 : ∀ w ∈ wsX50, w ∈ lw_all := lw_in wsX50 [667, 668, 669, 670, 671, 672, 673, 674, 675, 676, 677, 665, 666, 661, 663] (by decide +kernel) (by decide +kernel)
/-! TrailerYards$Judged -/
set_option maxRecDepth 100000
def RX6 : String := "TrailerYards$Judged"
abbrev cX6_isCold : ByteArray := prog_4_method_1_code
def yX6_isCold : MethodName := ⟨RX6, "isCold", "()Z"⟩
theorem dX6_isCold_0 : decode cX6_isCold 0 = .ok (.iconst 0, 1) := by decide +kernel
theorem dX6_isCold_1 : decode cX6_isCold 1 = .ok (.ireturn, 1) := by decide +kernel
theorem q898 : (Jvm.Cond.interfaceMethod "TrailerYards$Judged" "TrailerYards$Judged" "isCold" "()Z") ∈ lw_tbl := lw_at lw_m4 116 rfl
theorem q899 : (Jvm.Cond.declares ({ cls := "TrailerYards$Judged", name := "isCold", desc := "()Z" } : Jvm.MethodName)) ∈ lw_tbl := lw_at lw_m4 117 rfl
theorem q911 : (Jvm.Cond.instanceMethod ({ cls := "TrailerYards$Judged", name := "isCold", desc := "()Z" } : Jvm.MethodName)) ∈ lw_all := lw_g (lw_at lw_m4 129 rfl) rfl
theorem q912 : (Jvm.Cond.publicMethod ({ cls := "TrailerYards$Judged", name := "isCold", desc := "()Z" } : Jvm.MethodName)) ∈ lw_tbl := lw_at lw_m4 130 rfl
theorem q913 : (Jvm.Cond.code ({ cls := "TrailerYards$Judged", name := "isCold", desc := "()Z" } : Jvm.MethodName) prog_4_method_1_code (1 : Nat) (Option.some Jvm.ClassFile.FieldType.boolean)) ∈ lw_all := lw_g (lw_at lw_m4 131 rfl) rfl
