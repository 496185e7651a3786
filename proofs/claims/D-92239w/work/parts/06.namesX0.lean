/-! TrailerYards -/
set_option maxRecDepth 100000
def RX0 : String := "TrailerYards"
def TX0 : u_T := fun k => match k with
  | 0 => ("TrailerYards", "latest", "I", false)
  | 1 => ("TrailerYards", "came", "[I", true)
  | 2 => ("TrailerYards", "asked", "I", false)
  | 3 => ("TrailerYards", "upper", "J", false)
  | 4 => ("TrailerYards", "lower", "J", false)
  | 5 => ("TrailerYards", "rows", "[[I", true)
  | 6 => ("TrailerYards", "texts", "[[B", true)
  | 7 => ("TrailerYards", "itemMany", "I", false)
  | 8 => ("TrailerYards", "itemWhat", "[I", true)
  | 9 => ("TrailerYards", "itemYard", "[I", true)
  | 10 => ("TrailerYards", "itemNumber", "[I", true)
  | 11 => ("TrailerYards", "now", "I", false)
  | 12 => ("TrailerYards", "minutes", "[I", true)
  | 13 => ("TrailerYards", "tolls", "[I", true)
  | 14 => ("TrailerYards", "everies", "[I", true)
  | 15 => ("TrailerYards", "firsts", "[I", true)
  | 16 => ("TrailerYards", "reached", "[I", true)
  | 17 => ("TrailerYards", "isSettled", "[Z", true)
  | 18 => ("TrailerYards", "trailers", "[LTrailerYards$Trailer;", true)
  | 19 => ("TrailerYards", "trailerMany", "I", false)
  | 20 => ("TrailerYards", "mostAxle", "I", false)
  | 21 => ("TrailerYards", "mostPin", "I", false)
  | 22 => ("TrailerYards", "entryMany", "I", false)
  | 23 => ("TrailerYards", "entryTrailer", "[I", true)
  | 24 => ("TrailerYards", "entrySort", "[I", true)
  | 25 => ("TrailerYards", "entryMinute", "[I", true)
  | 26 => ("TrailerYards", "entryWhere", "[I", true)
  | 27 => ("TrailerYards", "entryYard", "[I", true)
  | 28 => ("TrailerYards", "tractorYard", "[I", true)
  | 29 => ("TrailerYards", "tractorSince", "[I", true)
  | 30 => ("TrailerYards", "hitched", "[I", true)
  | 31 => ("TrailerYards", "driven", "[I", true)
  | 32 => ("TrailerYards", "everDriven", "[I", true)
  | 33 => ("TrailerYards", "termMany", "I", false)
  | 34 => ("TrailerYards", "termTold", "[I", true)
  | 35 => ("TrailerYards", "termFrom", "[I", true)
  | 36 => ("TrailerYards", "termItems", "[I", true)
  | 37 => ("TrailerYards", "termWhat", "[I", true)
  | 38 => ("TrailerYards", "termYard", "[I", true)
  | 39 => ("TrailerYards", "termNumber", "[I", true)
  | 40 => ("TrailerYards", "pence", "J", false)
  | 41 => ("TrailerYards", "swapYard", "I", false)
  | 42 => ("TrailerYards", "swapEnd", "I", false)
  | 43 => ("TrailerYards", "partners", "[I", true)
  | 44 => ("TrailerYards", "triedPartner", "[I", true)
  | 45 => ("TrailerYards", "bestPartner", "[I", true)
  | 46 => ("TrailerYards", "bestEnd", "I", false)
  | 47 => ("TrailerYards", "lookMany", "I", false)
  | 48 => ("TrailerYards", "looks", "[I", true)
  | 49 => ("TrailerYards", "triedLook", "[I", true)
  | 50 => ("TrailerYards", "isLook", "Z", false)
  | 51 => ("TrailerYards", "leastSum", "I", false)
  | 52 => ("TrailerYards", "over", "[I", true)
  | 53 => ("TrailerYards", "lack", "[I", true)
  | 54 => ("TrailerYards", "costs", "[I", true)
  | 55 => ("TrailerYards", "brought", "[I", true)
  | 56 => ("TrailerYards", "cheapest", "[I", true)
  | 57 => ("TrailerYards", "cameFrom", "[I", true)
  | 58 => ("TrailerYards", "rentDays", "I", false)
  | 59 => ("TrailerYards", "rents", "[I", true)
  | 60 => ("TrailerYards", "rentCosts", "[I", true)
  | _ => ("TrailerYards", "h", "J", false)
def tyX0 : Nat → FieldType := fun k => match k with
  | 0 => .int
  | 1 => .array .int
  | 2 => .int
  | 3 => .long
  | 4 => .long
  | 5 => .array (.array .int)
  | 6 => .array (.array .byte)
  | 7 => .int
  | 8 => .array .int
  | 9 => .array .int
  | 10 => .array .int
  | 11 => .int
  | 12 => .array .int
  | 13 => .array .int
  | 14 => .array .int
  | 15 => .array .int
  | 16 => .array .int
  | 17 => .array .boolean
  | 18 => .array (.object "TrailerYards$Trailer")
  | 19 => .int
  | 20 => .int
  | 21 => .int
  | 22 => .int
  | 23 => .array .int
  | 24 => .array .int
  | 25 => .array .int
  | 26 => .array .int
  | 27 => .array .int
  | 28 => .array .int
  | 29 => .array .int
  | 30 => .array .int
  | 31 => .array .int
  | 32 => .array .int
  | 33 => .int
  | 34 => .array .int
  | 35 => .array .int
  | 36 => .array .int
  | 37 => .array .int
  | 38 => .array .int
  | 39 => .array .int
  | 40 => .long
  | 41 => .int
  | 42 => .int
  | 43 => .array .int
  | 44 => .array .int
  | 45 => .array .int
  | 46 => .int
  | 47 => .int
  | 48 => .array .int
  | 49 => .array .int
  | 50 => .boolean
  | 51 => .int
  | 52 => .array .int
  | 53 => .array .int
  | 54 => .array .int
  | 55 => .array .int
  | 56 => .array .int
  | 57 => .array .int
  | 58 => .int
  | 59 => .array .int
  | 60 => .array .int
  | _ => .long
abbrev wsX00 : List Cond := u_ws RX0 TX0 62
set_option maxRecDepth 100000 in
theorem nmX0 : ∀ a, a < 62 → ∀ b, b < 62 → a ≠ b → (TX0 a).2.1 ≠ (TX0 b).2.1 := by decide +kernel
set_option maxRecDepth 100000 in
theorem tyX0_ok : ∀ k, k < 62 → parseFieldDescriptor (TX0 k).2.2.1 = some (tyX0 k) := by decide +kernel
abbrev cX0_asked : ByteArray := prog_1_method_4_code
def yX0_asked : MethodName := ⟨RX0, "asked", "()I"⟩
theorem dX0_asked_0 : decode cX0_asked 0 = .ok (.aload_n 0, 1) := by decide +kernel
theorem dX0_asked_1 : decode cX0_asked 1 = .ok (.getfield 11, 3) := by decide +kernel
theorem dX0_asked_4 : decode cX0_asked 4 = .ok (.ireturn, 1) := by decide +kernel
abbrev cX0_init : ByteArray := prog_1_method_5_code
def yX0_init : MethodName := ⟨RX0, "<init>", "()V"⟩
def dkwX0_init_16 : List UInt8 := [42, 180, 0, 123, 27, 16, 247, 79, 132, 1, 1, 167, 255, 231, 177]
abbrev dktX0_init_16 : List UInt8 := dkwX0_init_16 ++ []
def dkwX0_init_15 : List UInt8 := [17, 1, 154, 188, 10, 181, 0, 159, 3, 60, 27, 16, 6, 162, 0, 25, 42, 180, 0, 96, 27, 16, 247, 79]
abbrev dktX0_init_15 : List UInt8 := dkwX0_init_15 ++ dktX0_init_16
def dkwX0_init_14 : List UInt8 := [16, 16, 188, 10, 181, 0, 150, 42, 16, 16, 188, 10, 181, 0, 153, 42, 16, 40, 188, 10, 181, 0, 156, 42]
abbrev dktX0_init_14 : List UInt8 := dkwX0_init_14 ++ dktX0_init_15
def dkwX0_init_13 : List UInt8 := [16, 8, 188, 10, 181, 0, 141, 42, 16, 64, 188, 10, 181, 0, 144, 42, 16, 64, 188, 10, 181, 0, 147, 42]
abbrev dktX0_init_13 : List UInt8 := dkwX0_init_13 ++ dktX0_init_14
def dkwX0_init_12 : List UInt8 := [16, 8, 188, 10, 181, 0, 132, 42, 16, 8, 188, 10, 181, 0, 135, 42, 16, 8, 188, 10, 181, 0, 138, 42]
abbrev dktX0_init_12 : List UInt8 := dkwX0_init_12 ++ dktX0_init_13
def dkwX0_init_11 : List UInt8 := [16, 6, 188, 10, 181, 0, 123, 42, 16, 6, 188, 10, 181, 0, 126, 42, 16, 6, 188, 10, 181, 0, 129, 42]
abbrev dktX0_init_11 : List UInt8 := dkwX0_init_11 ++ dktX0_init_12
def dkwX0_init_10 : List UInt8 := [188, 10, 181, 0, 114, 42, 17, 1, 144, 188, 10, 181, 0, 117, 42, 17, 1, 144, 188, 10, 181, 0, 120, 42]
abbrev dktX0_init_10 : List UInt8 := dkwX0_init_10 ++ dktX0_init_11
def dkwX0_init_9 : List UInt8 := [181, 0, 105, 42, 16, 20, 188, 10, 181, 0, 108, 42, 16, 20, 188, 10, 181, 0, 111, 42, 17, 1, 144]
abbrev dktX0_init_9 : List UInt8 := dkwX0_init_9 ++ dktX0_init_10
def dkwX0_init_8 : List UInt8 := [181, 0, 96, 42, 16, 6, 188, 10, 181, 0, 99, 42, 16, 6, 188, 10, 181, 0, 102, 42, 16, 20, 188, 10]
abbrev dktX0_init_8 : List UInt8 := dkwX0_init_8 ++ dktX0_init_9
def dkwX0_init_7 : List UInt8 := [181, 0, 87, 42, 16, 6, 188, 10, 181, 0, 90, 42, 16, 6, 188, 10, 181, 0, 93, 42, 16, 6, 188, 10]
abbrev dktX0_init_7 : List UInt8 := dkwX0_init_7 ++ dktX0_init_8
def dkwX0_init_6 : List UInt8 := [181, 0, 78, 42, 16, 60, 188, 10, 181, 0, 81, 42, 16, 60, 188, 10, 181, 0, 84, 42, 16, 60, 188, 10]
abbrev dktX0_init_6 : List UInt8 := dkwX0_init_6 ++ dktX0_init_7
def dkwX0_init_5 : List UInt8 := [181, 0, 69, 42, 17, 78, 32, 181, 0, 72, 42, 16, 60, 188, 10, 181, 0, 75, 42, 16, 60, 188, 10]
abbrev dktX0_init_5 : List UInt8 := dkwX0_init_5 ++ dktX0_init_6
def dkwX0_init_4 : List UInt8 := [181, 0, 56, 42, 16, 8, 188, 4, 181, 0, 59, 42, 16, 12, 189, 0, 63, 181, 0, 65, 42, 17, 78, 32]
abbrev dktX0_init_4 : List UInt8 := dkwX0_init_4 ++ dktX0_init_5
def dkwX0_init_3 : List UInt8 := [181, 0, 47, 42, 16, 64, 188, 10, 181, 0, 50, 42, 16, 64, 188, 10, 181, 0, 53, 42, 16, 8, 188, 10]
abbrev dktX0_init_3 : List UInt8 := dkwX0_init_3 ++ dktX0_init_4
def dkwX0_init_2 : List UInt8 := [181, 0, 38, 42, 16, 20, 188, 10, 181, 0, 41, 42, 16, 64, 188, 10, 181, 0, 44, 42, 16, 64, 188, 10]
abbrev dktX0_init_2 : List UInt8 := dkwX0_init_2 ++ dktX0_init_3
def dkwX0_init_1 : List UInt8 := [181, 0, 25, 42, 7, 189, 0, 29, 181, 0, 31, 42, 16, 20, 188, 10, 181, 0, 35, 42, 16, 20, 188, 10]
abbrev dktX0_init_1 : List UInt8 := dkwX0_init_1 ++ dktX0_init_2
def dkwX0_init_0 : List UInt8 := [42, 183, 0, 14, 42, 16, 6, 188, 10, 181, 0, 7, 42, 10, 181, 0, 20, 42, 16, 6, 189, 0, 24]
abbrev dktX0_init_0 : List UInt8 := dkwX0_init_0 ++ dktX0_init_1
theorem dksX0_init_0 : cX0_init.data.toList.drop 0 = dktX0_init_0 := by decide +kernel
theorem dksX0_init_1 : cX0_init.data.toList.drop 23 = dktX0_init_1 := dk_seg dksX0_init_0 23 rfl rfl
theorem dksX0_init_2 : cX0_init.data.toList.drop 47 = dktX0_init_2 := dk_seg dksX0_init_1 24 rfl rfl
theorem dksX0_init_3 : cX0_init.data.toList.drop 71 = dktX0_init_3 := dk_seg dksX0_init_2 24 rfl rfl
theorem dksX0_init_4 : cX0_init.data.toList.drop 95 = dktX0_init_4 := dk_seg dksX0_init_3 24 rfl rfl
theorem dksX0_init_5 : cX0_init.data.toList.drop 119 = dktX0_init_5 := dk_seg dksX0_init_4 24 rfl rfl
theorem dksX0_init_6 : cX0_init.data.toList.drop 142 = dktX0_init_6 := dk_seg dksX0_init_5 23 rfl rfl
theorem dksX0_init_7 : cX0_init.data.toList.drop 166 = dktX0_init_7 := dk_seg dksX0_init_6 24 rfl rfl
theorem dksX0_init_8 : cX0_init.data.toList.drop 190 = dktX0_init_8 := dk_seg dksX0_init_7 24 rfl rfl
theorem dksX0_init_9 : cX0_init.data.toList.drop 214 = dktX0_init_9 := dk_seg dksX0_init_8 24 rfl rfl
theorem dksX0_init_10 : cX0_init.data.toList.drop 237 = dktX0_init_10 := dk_seg dksX0_init_9 23 rfl rfl
theorem dksX0_init_11 : cX0_init.data.toList.drop 261 = dktX0_init_11 := dk_seg dksX0_init_10 24 rfl rfl
theorem dksX0_init_12 : cX0_init.data.toList.drop 285 = dktX0_init_12 := dk_seg dksX0_init_11 24 rfl rfl
theorem dksX0_init_13 : cX0_init.data.toList.drop 309 = dktX0_init_13 := dk_seg dksX0_init_12 24 rfl rfl
theorem dksX0_init_14 : cX0_init.data.toList.drop 333 = dktX0_init_14 := dk_seg dksX0_init_13 24 rfl rfl
theorem dksX0_init_15 : cX0_init.data.toList.drop 357 = dktX0_init_15 := dk_seg dksX0_init_14 24 rfl rfl
theorem dksX0_init_16 : cX0_init.data.toList.drop 381 = dktX0_init_16 := dk_seg dksX0_init_15 24 rfl rfl
theorem dX0_init_0 : decode cX0_init 0 = .ok (.aload_n 0, 1) := dk_42 (dk_at dksX0_init_0 0 rfl rfl)
theorem dX0_init_1 : decode cX0_init 1 = .ok (.invokespecial 14, 3) := dk_183 0 14 (dk_at dksX0_init_0 1 rfl rfl)
theorem dX0_init_4 : decode cX0_init 4 = .ok (.aload_n 0, 1) := dk_42 (dk_at dksX0_init_0 4 rfl rfl)
theorem dX0_init_5 : decode cX0_init 5 = .ok (.bipush 6, 2) := dk_16 6 (dk_at dksX0_init_0 5 rfl rfl)
theorem dX0_init_7 : decode cX0_init 7 = .ok (.newarray .int, 2) := dk_188_10 (dk_at dksX0_init_0 7 rfl rfl)
theorem dX0_init_9 : decode cX0_init 9 = .ok (.putfield 7, 3) := dk_181 0 7 (dk_at dksX0_init_0 9 rfl rfl)
theorem dX0_init_12 : decode cX0_init 12 = .ok (.aload_n 0, 1) := dk_42 (dk_at dksX0_init_0 12 rfl rfl)
theorem dX0_init_13 : decode cX0_init 13 = .ok (.lconst 1, 1) := dk_10 (dk_at dksX0_init_0 13 rfl rfl)
theorem dX0_init_14 : decode cX0_init 14 = .ok (.putfield 20, 3) := dk_181 0 20 (dk_at dksX0_init_0 14 rfl rfl)
theorem dX0_init_17 : decode cX0_init 17 = .ok (.aload_n 0, 1) := dk_42 (dk_at dksX0_init_0 17 rfl rfl)
theorem dX0_init_18 : decode cX0_init 18 = .ok (.bipush 6, 2) := dk_16 6 (dk_at dksX0_init_0 18 rfl rfl)
theorem dX0_init_20 : decode cX0_init 20 = .ok (.anewarray 24, 3) := dk_189 0 24 (dk_at dksX0_init_0 20 rfl rfl)
theorem dX0_init_23 : decode cX0_init 23 = .ok (.putfield 25, 3) := dk_181 0 25 (dk_at dksX0_init_1 0 rfl rfl)
theorem dX0_init_26 : decode cX0_init 26 = .ok (.aload_n 0, 1) := dk_42 (dk_at dksX0_init_1 3 rfl rfl)
theorem dX0_init_27 : decode cX0_init 27 = .ok (.iconst 4, 1) := dk_7 (dk_at dksX0_init_1 4 rfl rfl)
theorem dX0_init_28 : decode cX0_init 28 = .ok (.anewarray 29, 3) := dk_189 0 29 (dk_at dksX0_init_1 5 rfl rfl)
theorem dX0_init_31 : decode cX0_init 31 = .ok (.putfield 31, 3) := dk_181 0 31 (dk_at dksX0_init_1 8 rfl rfl)
theorem dX0_init_34 : decode cX0_init 34 = .ok (.aload_n 0, 1) := dk_42 (dk_at dksX0_init_1 11 rfl rfl)
theorem dX0_init_35 : decode cX0_init 35 = .ok (.bipush 20, 2) := dk_16 20 (dk_at dksX0_init_1 12 rfl rfl)
theorem dX0_init_37 : decode cX0_init 37 = .ok (.newarray .int, 2) := dk_188_10 (dk_at dksX0_init_1 14 rfl rfl)
theorem dX0_init_39 : decode cX0_init 39 = .ok (.putfield 35, 3) := dk_181 0 35 (dk_at dksX0_init_1 16 rfl rfl)
theorem dX0_init_42 : decode cX0_init 42 = .ok (.aload_n 0, 1) := dk_42 (dk_at dksX0_init_1 19 rfl rfl)
theorem dX0_init_43 : decode cX0_init 43 = .ok (.bipush 20, 2) := dk_16 20 (dk_at dksX0_init_1 20 rfl rfl)
theorem dX0_init_45 : decode cX0_init 45 = .ok (.newarray .int, 2) := dk_188_10 (dk_at dksX0_init_1 22 rfl rfl)
theorem dX0_init_47 : decode cX0_init 47 = .ok (.putfield 38, 3) := dk_181 0 38 (dk_at dksX0_init_2 0 rfl rfl)
theorem dX0_init_50 : decode cX0_init 50 = .ok (.aload_n 0, 1) := dk_42 (dk_at dksX0_init_2 3 rfl rfl)
theorem dX0_init_51 : decode cX0_init 51 = .ok (.bipush 20, 2) := dk_16 20 (dk_at dksX0_init_2 4 rfl rfl)
theorem dX0_init_53 : decode cX0_init 53 = .ok (.newarray .int, 2) := dk_188_10 (dk_at dksX0_init_2 6 rfl rfl)
theorem dX0_init_55 : decode cX0_init 55 = .ok (.putfield 41, 3) := dk_181 0 41 (dk_at dksX0_init_2 8 rfl rfl)
theorem dX0_init_58 : decode cX0_init 58 = .ok (.aload_n 0, 1) := dk_42 (dk_at dksX0_init_2 11 rfl rfl)
theorem dX0_init_59 : decode cX0_init 59 = .ok (.bipush 64, 2) := dk_16 64 (dk_at dksX0_init_2 12 rfl rfl)
theorem dX0_init_61 : decode cX0_init 61 = .ok (.newarray .int, 2) := dk_188_10 (dk_at dksX0_init_2 14 rfl rfl)
theorem dX0_init_63 : decode cX0_init 63 = .ok (.putfield 44, 3) := dk_181 0 44 (dk_at dksX0_init_2 16 rfl rfl)
theorem dX0_init_66 : decode cX0_init 66 = .ok (.aload_n 0, 1) := dk_42 (dk_at dksX0_init_2 19 rfl rfl)
theorem dX0_init_67 : decode cX0_init 67 = .ok (.bipush 64, 2) := dk_16 64 (dk_at dksX0_init_2 20 rfl rfl)
theorem dX0_init_69 : decode cX0_init 69 = .ok (.newarray .int, 2) := dk_188_10 (dk_at dksX0_init_2 22 rfl rfl)
theorem dX0_init_71 : decode cX0_init 71 = .ok (.putfield 47, 3) := dk_181 0 47 (dk_at dksX0_init_3 0 rfl rfl)
theorem dX0_init_74 : decode cX0_init 74 = .ok (.aload_n 0, 1) := dk_42 (dk_at dksX0_init_3 3 rfl rfl)
theorem dX0_init_75 : decode cX0_init 75 = .ok (.bipush 64, 2) := dk_16 64 (dk_at dksX0_init_3 4 rfl rfl)
theorem dX0_init_77 : decode cX0_init 77 = .ok (.newarray .int, 2) := dk_188_10 (dk_at dksX0_init_3 6 rfl rfl)
theorem dX0_init_79 : decode cX0_init 79 = .ok (.putfield 50, 3) := dk_181 0 50 (dk_at dksX0_init_3 8 rfl rfl)
theorem dX0_init_82 : decode cX0_init 82 = .ok (.aload_n 0, 1) := dk_42 (dk_at dksX0_init_3 11 rfl rfl)
theorem dX0_init_83 : decode cX0_init 83 = .ok (.bipush 64, 2) := dk_16 64 (dk_at dksX0_init_3 12 rfl rfl)
theorem dX0_init_85 : decode cX0_init 85 = .ok (.newarray .int, 2) := dk_188_10 (dk_at dksX0_init_3 14 rfl rfl)
theorem dX0_init_87 : decode cX0_init 87 = .ok (.putfield 53, 3) := dk_181 0 53 (dk_at dksX0_init_3 16 rfl rfl)
theorem dX0_init_90 : decode cX0_init 90 = .ok (.aload_n 0, 1) := dk_42 (dk_at dksX0_init_3 19 rfl rfl)
theorem dX0_init_91 : decode cX0_init 91 = .ok (.bipush 8, 2) := dk_16 8 (dk_at dksX0_init_3 20 rfl rfl)
theorem dX0_init_93 : decode cX0_init 93 = .ok (.newarray .int, 2) := dk_188_10 (dk_at dksX0_init_3 22 rfl rfl)
theorem dX0_init_95 : decode cX0_init 95 = .ok (.putfield 56, 3) := dk_181 0 56 (dk_at dksX0_init_4 0 rfl rfl)
theorem dX0_init_98 : decode cX0_init 98 = .ok (.aload_n 0, 1) := dk_42 (dk_at dksX0_init_4 3 rfl rfl)
theorem dX0_init_99 : decode cX0_init 99 = .ok (.bipush 8, 2) := dk_16 8 (dk_at dksX0_init_4 4 rfl rfl)
theorem dX0_init_101 : decode cX0_init 101 = .ok (.newarray .boolean, 2) := dk_188_4 (dk_at dksX0_init_4 6 rfl rfl)
theorem dX0_init_103 : decode cX0_init 103 = .ok (.putfield 59, 3) := dk_181 0 59 (dk_at dksX0_init_4 8 rfl rfl)
theorem dX0_init_106 : decode cX0_init 106 = .ok (.aload_n 0, 1) := dk_42 (dk_at dksX0_init_4 11 rfl rfl)
theorem dX0_init_107 : decode cX0_init 107 = .ok (.bipush 12, 2) := dk_16 12 (dk_at dksX0_init_4 12 rfl rfl)
theorem dX0_init_109 : decode cX0_init 109 = .ok (.anewarray 63, 3) := dk_189 0 63 (dk_at dksX0_init_4 14 rfl rfl)
theorem dX0_init_112 : decode cX0_init 112 = .ok (.putfield 65, 3) := dk_181 0 65 (dk_at dksX0_init_4 17 rfl rfl)
theorem dX0_init_115 : decode cX0_init 115 = .ok (.aload_n 0, 1) := dk_42 (dk_at dksX0_init_4 20 rfl rfl)
theorem dX0_init_116 : decode cX0_init 116 = .ok (.sipush 20000, 3) := dk_17 78 32 (dk_at dksX0_init_4 21 rfl rfl)
theorem dX0_init_119 : decode cX0_init 119 = .ok (.putfield 69, 3) := dk_181 0 69 (dk_at dksX0_init_5 0 rfl rfl)
theorem dX0_init_122 : decode cX0_init 122 = .ok (.aload_n 0, 1) := dk_42 (dk_at dksX0_init_5 3 rfl rfl)
theorem dX0_init_123 : decode cX0_init 123 = .ok (.sipush 20000, 3) := dk_17 78 32 (dk_at dksX0_init_5 4 rfl rfl)
theorem dX0_init_126 : decode cX0_init 126 = .ok (.putfield 72, 3) := dk_181 0 72 (dk_at dksX0_init_5 7 rfl rfl)
theorem dX0_init_129 : decode cX0_init 129 = .ok (.aload_n 0, 1) := dk_42 (dk_at dksX0_init_5 10 rfl rfl)
theorem dX0_init_130 : decode cX0_init 130 = .ok (.bipush 60, 2) := dk_16 60 (dk_at dksX0_init_5 11 rfl rfl)
theorem dX0_init_132 : decode cX0_init 132 = .ok (.newarray .int, 2) := dk_188_10 (dk_at dksX0_init_5 13 rfl rfl)
theorem dX0_init_134 : decode cX0_init 134 = .ok (.putfield 75, 3) := dk_181 0 75 (dk_at dksX0_init_5 15 rfl rfl)
theorem dX0_init_137 : decode cX0_init 137 = .ok (.aload_n 0, 1) := dk_42 (dk_at dksX0_init_5 18 rfl rfl)
theorem dX0_init_138 : decode cX0_init 138 = .ok (.bipush 60, 2) := dk_16 60 (dk_at dksX0_init_5 19 rfl rfl)
theorem dX0_init_140 : decode cX0_init 140 = .ok (.newarray .int, 2) := dk_188_10 (dk_at dksX0_init_5 21 rfl rfl)
theorem dX0_init_142 : decode cX0_init 142 = .ok (.putfield 78, 3) := dk_181 0 78 (dk_at dksX0_init_6 0 rfl rfl)
theorem dX0_init_145 : decode cX0_init 145 = .ok (.aload_n 0, 1) := dk_42 (dk_at dksX0_init_6 3 rfl rfl)
theorem dX0_init_146 : decode cX0_init 146 = .ok (.bipush 60, 2) := dk_16 60 (dk_at dksX0_init_6 4 rfl rfl)
theorem dX0_init_148 : decode cX0_init 148 = .ok (.newarray .int, 2) := dk_188_10 (dk_at dksX0_init_6 6 rfl rfl)
theorem dX0_init_150 : decode cX0_init 150 = .ok (.putfield 81, 3) := dk_181 0 81 (dk_at dksX0_init_6 8 rfl rfl)
theorem dX0_init_153 : decode cX0_init 153 = .ok (.aload_n 0, 1) := dk_42 (dk_at dksX0_init_6 11 rfl rfl)
theorem dX0_init_154 : decode cX0_init 154 = .ok (.bipush 60, 2) := dk_16 60 (dk_at dksX0_init_6 12 rfl rfl)
theorem dX0_init_156 : decode cX0_init 156 = .ok (.newarray .int, 2) := dk_188_10 (dk_at dksX0_init_6 14 rfl rfl)
theorem dX0_init_158 : decode cX0_init 158 = .ok (.putfield 84, 3) := dk_181 0 84 (dk_at dksX0_init_6 16 rfl rfl)
theorem dX0_init_161 : decode cX0_init 161 = .ok (.aload_n 0, 1) := dk_42 (dk_at dksX0_init_6 19 rfl rfl)
theorem dX0_init_162 : decode cX0_init 162 = .ok (.bipush 60, 2) := dk_16 60 (dk_at dksX0_init_6 20 rfl rfl)
theorem dX0_init_164 : decode cX0_init 164 = .ok (.newarray .int, 2) := dk_188_10 (dk_at dksX0_init_6 22 rfl rfl)
theorem dX0_init_166 : decode cX0_init 166 = .ok (.putfield 87, 3) := dk_181 0 87 (dk_at dksX0_init_7 0 rfl rfl)
theorem dX0_init_169 : decode cX0_init 169 = .ok (.aload_n 0, 1) := dk_42 (dk_at dksX0_init_7 3 rfl rfl)
theorem dX0_init_170 : decode cX0_init 170 = .ok (.bipush 6, 2) := dk_16 6 (dk_at dksX0_init_7 4 rfl rfl)
theorem dX0_init_172 : decode cX0_init 172 = .ok (.newarray .int, 2) := dk_188_10 (dk_at dksX0_init_7 6 rfl rfl)
theorem dX0_init_174 : decode cX0_init 174 = .ok (.putfield 90, 3) := dk_181 0 90 (dk_at dksX0_init_7 8 rfl rfl)
theorem dX0_init_177 : decode cX0_init 177 = .ok (.aload_n 0, 1) := dk_42 (dk_at dksX0_init_7 11 rfl rfl)
theorem dX0_init_178 : decode cX0_init 178 = .ok (.bipush 6, 2) := dk_16 6 (dk_at dksX0_init_7 12 rfl rfl)
theorem dX0_init_180 : decode cX0_init 180 = .ok (.newarray .int, 2) := dk_188_10 (dk_at dksX0_init_7 14 rfl rfl)
theorem dX0_init_182 : decode cX0_init 182 = .ok (.putfield 93, 3) := dk_181 0 93 (dk_at dksX0_init_7 16 rfl rfl)
theorem dX0_init_185 : decode cX0_init 185 = .ok (.aload_n 0, 1) := dk_42 (dk_at dksX0_init_7 19 rfl rfl)
theorem dX0_init_186 : decode cX0_init 186 = .ok (.bipush 6, 2) := dk_16 6 (dk_at dksX0_init_7 20 rfl rfl)
theorem dX0_init_188 : decode cX0_init 188 = .ok (.newarray .int, 2) := dk_188_10 (dk_at dksX0_init_7 22 rfl rfl)
theorem dX0_init_190 : decode cX0_init 190 = .ok (.putfield 96, 3) := dk_181 0 96 (dk_at dksX0_init_8 0 rfl rfl)
theorem dX0_init_193 : decode cX0_init 193 = .ok (.aload_n 0, 1) := dk_42 (dk_at dksX0_init_8 3 rfl rfl)
theorem dX0_init_194 : decode cX0_init 194 = .ok (.bipush 6, 2) := dk_16 6 (dk_at dksX0_init_8 4 rfl rfl)
theorem dX0_init_196 : decode cX0_init 196 = .ok (.newarray .int, 2) := dk_188_10 (dk_at dksX0_init_8 6 rfl rfl)
theorem dX0_init_198 : decode cX0_init 198 = .ok (.putfield 99, 3) := dk_181 0 99 (dk_at dksX0_init_8 8 rfl rfl)
theorem dX0_init_201 : decode cX0_init 201 = .ok (.aload_n 0, 1) := dk_42 (dk_at dksX0_init_8 11 rfl rfl)
theorem dX0_init_202 : decode cX0_init 202 = .ok (.bipush 6, 2) := dk_16 6 (dk_at dksX0_init_8 12 rfl rfl)
theorem dX0_init_204 : decode cX0_init 204 = .ok (.newarray .int, 2) := dk_188_10 (dk_at dksX0_init_8 14 rfl rfl)
theorem dX0_init_206 : decode cX0_init 206 = .ok (.putfield 102, 3) := dk_181 0 102 (dk_at dksX0_init_8 16 rfl rfl)
theorem dX0_init_209 : decode cX0_init 209 = .ok (.aload_n 0, 1) := dk_42 (dk_at dksX0_init_8 19 rfl rfl)
theorem dX0_init_210 : decode cX0_init 210 = .ok (.bipush 20, 2) := dk_16 20 (dk_at dksX0_init_8 20 rfl rfl)
theorem dX0_init_212 : decode cX0_init 212 = .ok (.newarray .int, 2) := dk_188_10 (dk_at dksX0_init_8 22 rfl rfl)
theorem dX0_init_214 : decode cX0_init 214 = .ok (.putfield 105, 3) := dk_181 0 105 (dk_at dksX0_init_9 0 rfl rfl)
theorem dX0_init_217 : decode cX0_init 217 = .ok (.aload_n 0, 1) := dk_42 (dk_at dksX0_init_9 3 rfl rfl)
theorem dX0_init_218 : decode cX0_init 218 = .ok (.bipush 20, 2) := dk_16 20 (dk_at dksX0_init_9 4 rfl rfl)
theorem dX0_init_220 : decode cX0_init 220 = .ok (.newarray .int, 2) := dk_188_10 (dk_at dksX0_init_9 6 rfl rfl)
theorem dX0_init_222 : decode cX0_init 222 = .ok (.putfield 108, 3) := dk_181 0 108 (dk_at dksX0_init_9 8 rfl rfl)
theorem dX0_init_225 : decode cX0_init 225 = .ok (.aload_n 0, 1) := dk_42 (dk_at dksX0_init_9 11 rfl rfl)
theorem dX0_init_226 : decode cX0_init 226 = .ok (.bipush 20, 2) := dk_16 20 (dk_at dksX0_init_9 12 rfl rfl)
theorem dX0_init_228 : decode cX0_init 228 = .ok (.newarray .int, 2) := dk_188_10 (dk_at dksX0_init_9 14 rfl rfl)
theorem dX0_init_230 : decode cX0_init 230 = .ok (.putfield 111, 3) := dk_181 0 111 (dk_at dksX0_init_9 16 rfl rfl)
theorem dX0_init_233 : decode cX0_init 233 = .ok (.aload_n 0, 1) := dk_42 (dk_at dksX0_init_9 19 rfl rfl)
theorem dX0_init_234 : decode cX0_init 234 = .ok (.sipush 400, 3) := dk_17 1 144 (dk_at dksX0_init_9 20 rfl rfl)
theorem dX0_init_237 : decode cX0_init 237 = .ok (.newarray .int, 2) := dk_188_10 (dk_at dksX0_init_10 0 rfl rfl)
theorem dX0_init_239 : decode cX0_init 239 = .ok (.putfield 114, 3) := dk_181 0 114 (dk_at dksX0_init_10 2 rfl rfl)
theorem dX0_init_242 : decode cX0_init 242 = .ok (.aload_n 0, 1) := dk_42 (dk_at dksX0_init_10 5 rfl rfl)
theorem dX0_init_243 : decode cX0_init 243 = .ok (.sipush 400, 3) := dk_17 1 144 (dk_at dksX0_init_10 6 rfl rfl)
theorem dX0_init_246 : decode cX0_init 246 = .ok (.newarray .int, 2) := dk_188_10 (dk_at dksX0_init_10 9 rfl rfl)
theorem dX0_init_248 : decode cX0_init 248 = .ok (.putfield 117, 3) := dk_181 0 117 (dk_at dksX0_init_10 11 rfl rfl)
theorem dX0_init_251 : decode cX0_init 251 = .ok (.aload_n 0, 1) := dk_42 (dk_at dksX0_init_10 14 rfl rfl)
theorem dX0_init_252 : decode cX0_init 252 = .ok (.sipush 400, 3) := dk_17 1 144 (dk_at dksX0_init_10 15 rfl rfl)
theorem dX0_init_255 : decode cX0_init 255 = .ok (.newarray .int, 2) := dk_188_10 (dk_at dksX0_init_10 18 rfl rfl)
theorem dX0_init_257 : decode cX0_init 257 = .ok (.putfield 120, 3) := dk_181 0 120 (dk_at dksX0_init_10 20 rfl rfl)
theorem dX0_init_260 : decode cX0_init 260 = .ok (.aload_n 0, 1) := dk_42 (dk_at dksX0_init_10 23 rfl rfl)
theorem dX0_init_261 : decode cX0_init 261 = .ok (.bipush 6, 2) := dk_16 6 (dk_at dksX0_init_11 0 rfl rfl)
theorem dX0_init_263 : decode cX0_init 263 = .ok (.newarray .int, 2) := dk_188_10 (dk_at dksX0_init_11 2 rfl rfl)
theorem dX0_init_265 : decode cX0_init 265 = .ok (.putfield 123, 3) := dk_181 0 123 (dk_at dksX0_init_11 4 rfl rfl)
theorem dX0_init_268 : decode cX0_init 268 = .ok (.aload_n 0, 1) := dk_42 (dk_at dksX0_init_11 7 rfl rfl)
theorem dX0_init_269 : decode cX0_init 269 = .ok (.bipush 6, 2) := dk_16 6 (dk_at dksX0_init_11 8 rfl rfl)
theorem dX0_init_271 : decode cX0_init 271 = .ok (.newarray .int, 2) := dk_188_10 (dk_at dksX0_init_11 10 rfl rfl)
theorem dX0_init_273 : decode cX0_init 273 = .ok (.putfield 126, 3) := dk_181 0 126 (dk_at dksX0_init_11 12 rfl rfl)
theorem dX0_init_276 : decode cX0_init 276 = .ok (.aload_n 0, 1) := dk_42 (dk_at dksX0_init_11 15 rfl rfl)
theorem dX0_init_277 : decode cX0_init 277 = .ok (.bipush 6, 2) := dk_16 6 (dk_at dksX0_init_11 16 rfl rfl)
theorem dX0_init_279 : decode cX0_init 279 = .ok (.newarray .int, 2) := dk_188_10 (dk_at dksX0_init_11 18 rfl rfl)
theorem dX0_init_281 : decode cX0_init 281 = .ok (.putfield 129, 3) := dk_181 0 129 (dk_at dksX0_init_11 20 rfl rfl)
theorem dX0_init_284 : decode cX0_init 284 = .ok (.aload_n 0, 1) := dk_42 (dk_at dksX0_init_11 23 rfl rfl)
theorem dX0_init_285 : decode cX0_init 285 = .ok (.bipush 8, 2) := dk_16 8 (dk_at dksX0_init_12 0 rfl rfl)
theorem dX0_init_287 : decode cX0_init 287 = .ok (.newarray .int, 2) := dk_188_10 (dk_at dksX0_init_12 2 rfl rfl)
theorem dX0_init_289 : decode cX0_init 289 = .ok (.putfield 132, 3) := dk_181 0 132 (dk_at dksX0_init_12 4 rfl rfl)
theorem dX0_init_292 : decode cX0_init 292 = .ok (.aload_n 0, 1) := dk_42 (dk_at dksX0_init_12 7 rfl rfl)
theorem dX0_init_293 : decode cX0_init 293 = .ok (.bipush 8, 2) := dk_16 8 (dk_at dksX0_init_12 8 rfl rfl)
theorem dX0_init_295 : decode cX0_init 295 = .ok (.newarray .int, 2) := dk_188_10 (dk_at dksX0_init_12 10 rfl rfl)
theorem dX0_init_297 : decode cX0_init 297 = .ok (.putfield 135, 3) := dk_181 0 135 (dk_at dksX0_init_12 12 rfl rfl)
theorem dX0_init_300 : decode cX0_init 300 = .ok (.aload_n 0, 1) := dk_42 (dk_at dksX0_init_12 15 rfl rfl)
theorem dX0_init_301 : decode cX0_init 301 = .ok (.bipush 8, 2) := dk_16 8 (dk_at dksX0_init_12 16 rfl rfl)
theorem dX0_init_303 : decode cX0_init 303 = .ok (.newarray .int, 2) := dk_188_10 (dk_at dksX0_init_12 18 rfl rfl)
theorem dX0_init_305 : decode cX0_init 305 = .ok (.putfield 138, 3) := dk_181 0 138 (dk_at dksX0_init_12 20 rfl rfl)
theorem dX0_init_308 : decode cX0_init 308 = .ok (.aload_n 0, 1) := dk_42 (dk_at dksX0_init_12 23 rfl rfl)
theorem dX0_init_309 : decode cX0_init 309 = .ok (.bipush 8, 2) := dk_16 8 (dk_at dksX0_init_13 0 rfl rfl)
theorem dX0_init_311 : decode cX0_init 311 = .ok (.newarray .int, 2) := dk_188_10 (dk_at dksX0_init_13 2 rfl rfl)
theorem dX0_init_313 : decode cX0_init 313 = .ok (.putfield 141, 3) := dk_181 0 141 (dk_at dksX0_init_13 4 rfl rfl)
theorem dX0_init_316 : decode cX0_init 316 = .ok (.aload_n 0, 1) := dk_42 (dk_at dksX0_init_13 7 rfl rfl)
theorem dX0_init_317 : decode cX0_init 317 = .ok (.bipush 64, 2) := dk_16 64 (dk_at dksX0_init_13 8 rfl rfl)
theorem dX0_init_319 : decode cX0_init 319 = .ok (.newarray .int, 2) := dk_188_10 (dk_at dksX0_init_13 10 rfl rfl)
theorem dX0_init_321 : decode cX0_init 321 = .ok (.putfield 144, 3) := dk_181 0 144 (dk_at dksX0_init_13 12 rfl rfl)
theorem dX0_init_324 : decode cX0_init 324 = .ok (.aload_n 0, 1) := dk_42 (dk_at dksX0_init_13 15 rfl rfl)
theorem dX0_init_325 : decode cX0_init 325 = .ok (.bipush 64, 2) := dk_16 64 (dk_at dksX0_init_13 16 rfl rfl)
theorem dX0_init_327 : decode cX0_init 327 = .ok (.newarray .int, 2) := dk_188_10 (dk_at dksX0_init_13 18 rfl rfl)
theorem dX0_init_329 : decode cX0_init 329 = .ok (.putfield 147, 3) := dk_181 0 147 (dk_at dksX0_init_13 20 rfl rfl)
theorem dX0_init_332 : decode cX0_init 332 = .ok (.aload_n 0, 1) := dk_42 (dk_at dksX0_init_13 23 rfl rfl)
theorem dX0_init_333 : decode cX0_init 333 = .ok (.bipush 16, 2) := dk_16 16 (dk_at dksX0_init_14 0 rfl rfl)
theorem dX0_init_335 : decode cX0_init 335 = .ok (.newarray .int, 2) := dk_188_10 (dk_at dksX0_init_14 2 rfl rfl)
theorem dX0_init_337 : decode cX0_init 337 = .ok (.putfield 150, 3) := dk_181 0 150 (dk_at dksX0_init_14 4 rfl rfl)
theorem dX0_init_340 : decode cX0_init 340 = .ok (.aload_n 0, 1) := dk_42 (dk_at dksX0_init_14 7 rfl rfl)
theorem dX0_init_341 : decode cX0_init 341 = .ok (.bipush 16, 2) := dk_16 16 (dk_at dksX0_init_14 8 rfl rfl)
theorem dX0_init_343 : decode cX0_init 343 = .ok (.newarray .int, 2) := dk_188_10 (dk_at dksX0_init_14 10 rfl rfl)
theorem dX0_init_345 : decode cX0_init 345 = .ok (.putfield 153, 3) := dk_181 0 153 (dk_at dksX0_init_14 12 rfl rfl)
theorem dX0_init_348 : decode cX0_init 348 = .ok (.aload_n 0, 1) := dk_42 (dk_at dksX0_init_14 15 rfl rfl)
theorem dX0_init_349 : decode cX0_init 349 = .ok (.bipush 40, 2) := dk_16 40 (dk_at dksX0_init_14 16 rfl rfl)
theorem dX0_init_351 : decode cX0_init 351 = .ok (.newarray .int, 2) := dk_188_10 (dk_at dksX0_init_14 18 rfl rfl)
theorem dX0_init_353 : decode cX0_init 353 = .ok (.putfield 156, 3) := dk_181 0 156 (dk_at dksX0_init_14 20 rfl rfl)
theorem dX0_init_356 : decode cX0_init 356 = .ok (.aload_n 0, 1) := dk_42 (dk_at dksX0_init_14 23 rfl rfl)
theorem dX0_init_357 : decode cX0_init 357 = .ok (.sipush 410, 3) := dk_17 1 154 (dk_at dksX0_init_15 0 rfl rfl)
theorem dX0_init_360 : decode cX0_init 360 = .ok (.newarray .int, 2) := dk_188_10 (dk_at dksX0_init_15 3 rfl rfl)
theorem dX0_init_362 : decode cX0_init 362 = .ok (.putfield 159, 3) := dk_181 0 159 (dk_at dksX0_init_15 5 rfl rfl)
theorem dX0_init_365 : decode cX0_init 365 = .ok (.iconst 0, 1) := dk_3 (dk_at dksX0_init_15 8 rfl rfl)
theorem dX0_init_366 : decode cX0_init 366 = .ok (.istore_n 1, 1) := dk_60 (dk_at dksX0_init_15 9 rfl rfl)
theorem dX0_init_367 : decode cX0_init 367 = .ok (.iload_n 1, 1) := dk_27 (dk_at dksX0_init_15 10 rfl rfl)
theorem dX0_init_368 : decode cX0_init 368 = .ok (.bipush 6, 2) := dk_16 6 (dk_at dksX0_init_15 11 rfl rfl)
theorem dX0_init_370 : decode cX0_init 370 = .ok (.if_icmp .ge 25, 3) := dk_162 0 25 (dk_at dksX0_init_15 13 rfl rfl)
theorem dX0_init_373 : decode cX0_init 373 = .ok (.aload_n 0, 1) := dk_42 (dk_at dksX0_init_15 16 rfl rfl)
theorem dX0_init_374 : decode cX0_init 374 = .ok (.getfield 96, 3) := dk_180 0 96 (dk_at dksX0_init_15 17 rfl rfl)
theorem dX0_init_377 : decode cX0_init 377 = .ok (.iload_n 1, 1) := dk_27 (dk_at dksX0_init_15 20 rfl rfl)
theorem dX0_init_378 : decode cX0_init 378 = .ok (.bipush (-9), 2) := dk_16 247 (dk_at dksX0_init_15 21 rfl rfl)
theorem dX0_init_380 : decode cX0_init 380 = .ok (.iastore, 1) := dk_79 (dk_at dksX0_init_15 23 rfl rfl)
theorem dX0_init_381 : decode cX0_init 381 = .ok (.aload_n 0, 1) := dk_42 (dk_at dksX0_init_16 0 rfl rfl)
theorem dX0_init_382 : decode cX0_init 382 = .ok (.getfield 123, 3) := dk_180 0 123 (dk_at dksX0_init_16 1 rfl rfl)
theorem dX0_init_385 : decode cX0_init 385 = .ok (.iload_n 1, 1) := dk_27 (dk_at dksX0_init_16 4 rfl rfl)
theorem dX0_init_386 : decode cX0_init 386 = .ok (.bipush (-9), 2) := dk_16 247 (dk_at dksX0_init_16 5 rfl rfl)
theorem dX0_init_388 : decode cX0_init 388 = .ok (.iastore, 1) := dk_79 (dk_at dksX0_init_16 7 rfl rfl)
theorem dX0_init_389 : decode cX0_init 389 = .ok (.iinc 1 1, 3) := dk_132 1 1 (dk_at dksX0_init_16 8 rfl rfl)
theorem dX0_init_392 : decode cX0_init 392 = .ok (.goto (-25), 3) := dk_167 255 231 (dk_at dksX0_init_16 11 rfl rfl)
theorem dX0_init_395 : decode cX0_init 395 = .ok (.return_, 1) := dk_177 (dk_at dksX0_init_16 14 rfl rfl)
abbrev cX0_upper : ByteArray := prog_1_method_7_code
def yX0_upper : MethodName := ⟨RX0, "upper", "()J"⟩
theorem dX0_upper_0 : decode cX0_upper 0 = .ok (.aload_n 0, 1) := by decide +kernel
theorem dX0_upper_1 : decode cX0_upper 1 = .ok (.getfield 168, 3) := by decide +kernel
theorem dX0_upper_4 : decode cX0_upper 4 = .ok (.lreturn, 1) := by decide +kernel
abbrev cX0_lower : ByteArray := prog_1_method_8_code
def yX0_lower : MethodName := ⟨RX0, "lower", "()J"⟩
theorem dX0_lower_0 : decode cX0_lower 0 = .ok (.aload_n 0, 1) := by decide +kernel
theorem dX0_lower_1 : decode cX0_lower 1 = .ok (.getfield 20, 3) := by decide +kernel
theorem dX0_lower_4 : decode cX0_lower 4 = .ok (.lreturn, 1) := by decide +kernel
abbrev cX0_row : ByteArray := prog_1_method_10_code
def yX0_row : MethodName := ⟨RX0, "row", "(II)I"⟩
def dkwX0_row_1 : List UInt8 := [28, 172, 78, 42, 8, 182, 0, 181, 172]
abbrev dktX0_row_1 : List UInt8 := dkwX0_row_1 ++ []
def dkwX0_row_0 : List UInt8 := [27, 184, 0, 175, 153, 0, 9, 28, 16, 40, 164, 0, 5, 2, 172, 42, 180, 0, 25, 27, 28, 188, 10, 83]
abbrev dktX0_row_0 : List UInt8 := dkwX0_row_0 ++ dktX0_row_1
theorem dksX0_row_0 : cX0_row.data.toList.drop 0 = dktX0_row_0 := by decide +kernel
theorem dksX0_row_1 : cX0_row.data.toList.drop 24 = dktX0_row_1 := dk_seg dksX0_row_0 24 rfl rfl
theorem dX0_row_0 : decode cX0_row 0 = .ok (.iload_n 1, 1) := dk_27 (dk_at dksX0_row_0 0 rfl rfl)
theorem dX0_row_1 : decode cX0_row 1 = .ok (.invokestatic 175, 3) := dk_184 0 175 (dk_at dksX0_row_0 1 rfl rfl)
theorem dX0_row_4 : decode cX0_row 4 = .ok (.ifCond .eq 9, 3) := dk_153 0 9 (dk_at dksX0_row_0 4 rfl rfl)
theorem dX0_row_7 : decode cX0_row 7 = .ok (.iload_n 2, 1) := dk_28 (dk_at dksX0_row_0 7 rfl rfl)
theorem dX0_row_8 : decode cX0_row 8 = .ok (.bipush 40, 2) := dk_16 40 (dk_at dksX0_row_0 8 rfl rfl)
theorem dX0_row_10 : decode cX0_row 10 = .ok (.if_icmp .le 5, 3) := dk_164 0 5 (dk_at dksX0_row_0 10 rfl rfl)
theorem dX0_row_13 : decode cX0_row 13 = .ok (.iconst (-1), 1) := dk_2 (dk_at dksX0_row_0 13 rfl rfl)
theorem dX0_row_14 : decode cX0_row 14 = .ok (.ireturn, 1) := dk_172 (dk_at dksX0_row_0 14 rfl rfl)
theorem dX0_row_15 : decode cX0_row 15 = .ok (.aload_n 0, 1) := dk_42 (dk_at dksX0_row_0 15 rfl rfl)
theorem dX0_row_16 : decode cX0_row 16 = .ok (.getfield 25, 3) := dk_180 0 25 (dk_at dksX0_row_0 16 rfl rfl)
theorem dX0_row_19 : decode cX0_row 19 = .ok (.iload_n 1, 1) := dk_27 (dk_at dksX0_row_0 19 rfl rfl)
theorem dX0_row_20 : decode cX0_row 20 = .ok (.iload_n 2, 1) := dk_28 (dk_at dksX0_row_0 20 rfl rfl)
theorem dX0_row_21 : decode cX0_row 21 = .ok (.newarray .int, 2) := dk_188_10 (dk_at dksX0_row_0 21 rfl rfl)
theorem dX0_row_23 : decode cX0_row 23 = .ok (.aastore, 1) := dk_83 (dk_at dksX0_row_0 23 rfl rfl)
theorem dX0_row_24 : decode cX0_row 24 = .ok (.iload_n 2, 1) := dk_28 (dk_at dksX0_row_1 0 rfl rfl)
theorem dX0_row_25 : decode cX0_row 25 = .ok (.ireturn, 1) := dk_172 (dk_at dksX0_row_1 1 rfl rfl)
theorem dX0_row_26 : decode cX0_row 26 = .ok (.astore_n 3, 1) := dk_78 (dk_at dksX0_row_1 2 rfl rfl)
theorem dX0_row_27 : decode cX0_row 27 = .ok (.aload_n 0, 1) := dk_42 (dk_at dksX0_row_1 3 rfl rfl)
theorem dX0_row_28 : decode cX0_row 28 = .ok (.iconst 5, 1) := dk_8 (dk_at dksX0_row_1 4 rfl rfl)
theorem dX0_row_29 : decode cX0_row 29 = .ok (.invokevirtual 181, 3) := dk_182 0 181 (dk_at dksX0_row_1 5 rfl rfl)
theorem dX0_row_32 : decode cX0_row 32 = .ok (.ireturn, 1) := dk_172 (dk_at dksX0_row_1 8 rfl rfl)
abbrev cX0_isRow : ByteArray := prog_1_method_9_code
def yX0_isRow : MethodName := ⟨RX0, "isRow", "(I)Z"⟩
def dkwX0_isRow_0 : List UInt8 := [26, 3, 8, 184, 0, 171, 172]
abbrev dktX0_isRow_0 : List UInt8 := dkwX0_isRow_0 ++ []
theorem dksX0_isRow_0 : cX0_isRow.data.toList.drop 0 = dktX0_isRow_0 := by decide +kernel
theorem dX0_isRow_0 : decode cX0_isRow 0 = .ok (.iload_n 0, 1) := dk_26 (dk_at dksX0_isRow_0 0 rfl rfl)
theorem dX0_isRow_1 : decode cX0_isRow 1 = .ok (.iconst 0, 1) := dk_3 (dk_at dksX0_isRow_0 1 rfl rfl)
theorem dX0_isRow_2 : decode cX0_isRow 2 = .ok (.iconst 5, 1) := dk_8 (dk_at dksX0_isRow_0 2 rfl rfl)
theorem dX0_isRow_3 : decode cX0_isRow 3 = .ok (.invokestatic 171, 3) := dk_184 0 171 (dk_at dksX0_isRow_0 3 rfl rfl)
theorem dX0_isRow_6 : decode cX0_isRow 6 = .ok (.ireturn, 1) := dk_172 (dk_at dksX0_isRow_0 6 rfl rfl)
abbrev cX0_in : ByteArray := prog_1_method_1_code
def yX0_in : MethodName := ⟨RX0, "in", "(III)Z"⟩
def dkwX0_in_0 : List UInt8 := [26, 27, 161, 0, 12, 26, 28, 163, 0, 7, 4, 167, 0, 4, 3, 172]
abbrev dktX0_in_0 : List UInt8 := dkwX0_in_0 ++ []
theorem dksX0_in_0 : cX0_in.data.toList.drop 0 = dktX0_in_0 := by decide +kernel
theorem dX0_in_0 : decode cX0_in 0 = .ok (.iload_n 0, 1) := dk_26 (dk_at dksX0_in_0 0 rfl rfl)
theorem dX0_in_1 : decode cX0_in 1 = .ok (.iload_n 1, 1) := dk_27 (dk_at dksX0_in_0 1 rfl rfl)
theorem dX0_in_2 : decode cX0_in 2 = .ok (.if_icmp .lt 12, 3) := dk_161 0 12 (dk_at dksX0_in_0 2 rfl rfl)
theorem dX0_in_5 : decode cX0_in 5 = .ok (.iload_n 0, 1) := dk_26 (dk_at dksX0_in_0 5 rfl rfl)
theorem dX0_in_6 : decode cX0_in 6 = .ok (.iload_n 2, 1) := dk_28 (dk_at dksX0_in_0 6 rfl rfl)
theorem dX0_in_7 : decode cX0_in 7 = .ok (.if_icmp .gt 7, 3) := dk_163 0 7 (dk_at dksX0_in_0 7 rfl rfl)
theorem dX0_in_10 : decode cX0_in 10 = .ok (.iconst 1, 1) := dk_4 (dk_at dksX0_in_0 10 rfl rfl)
theorem dX0_in_11 : decode cX0_in 11 = .ok (.goto 4, 3) := dk_167 0 4 (dk_at dksX0_in_0 11 rfl rfl)
theorem dX0_in_14 : decode cX0_in 14 = .ok (.iconst 0, 1) := dk_3 (dk_at dksX0_in_0 14 rfl rfl)
theorem dX0_in_15 : decode cX0_in 15 = .ok (.ireturn, 1) := dk_172 (dk_at dksX0_in_0 15 rfl rfl)
abbrev cX0_found : ByteArray := prog_1_method_2_code
def yX0_found : MethodName := ⟨RX0, "found", "(I)I"⟩
def dkwX0_found_0 : List UInt8 := [42, 27, 181, 0, 1, 42, 180, 0, 7, 27, 92, 46, 4, 96, 79, 16, 253, 172]
abbrev dktX0_found_0 : List UInt8 := dkwX0_found_0 ++ []
theorem dksX0_found_0 : cX0_found.data.toList.drop 0 = dktX0_found_0 := by decide +kernel
theorem dX0_found_0 : decode cX0_found 0 = .ok (.aload_n 0, 1) := dk_42 (dk_at dksX0_found_0 0 rfl rfl)
theorem dX0_found_1 : decode cX0_found 1 = .ok (.iload_n 1, 1) := dk_27 (dk_at dksX0_found_0 1 rfl rfl)
theorem dX0_found_2 : decode cX0_found 2 = .ok (.putfield 1, 3) := dk_181 0 1 (dk_at dksX0_found_0 2 rfl rfl)
theorem dX0_found_5 : decode cX0_found 5 = .ok (.aload_n 0, 1) := dk_42 (dk_at dksX0_found_0 5 rfl rfl)
theorem dX0_found_6 : decode cX0_found 6 = .ok (.getfield 7, 3) := dk_180 0 7 (dk_at dksX0_found_0 6 rfl rfl)
theorem dX0_found_9 : decode cX0_found 9 = .ok (.iload_n 1, 1) := dk_27 (dk_at dksX0_found_0 9 rfl rfl)
theorem dX0_found_10 : decode cX0_found 10 = .ok (.dup2, 1) := dk_92 (dk_at dksX0_found_0 10 rfl rfl)
theorem dX0_found_11 : decode cX0_found 11 = .ok (.iaload, 1) := dk_46 (dk_at dksX0_found_0 11 rfl rfl)
theorem dX0_found_12 : decode cX0_found 12 = .ok (.iconst 1, 1) := dk_4 (dk_at dksX0_found_0 12 rfl rfl)
theorem dX0_found_13 : decode cX0_found 13 = .ok (.iadd, 1) := dk_96 (dk_at dksX0_found_0 13 rfl rfl)
theorem dX0_found_14 : decode cX0_found 14 = .ok (.iastore, 1) := dk_79 (dk_at dksX0_found_0 14 rfl rfl)
theorem dX0_found_15 : decode cX0_found 15 = .ok (.bipush (-3), 2) := dk_16 253 (dk_at dksX0_found_0 15 rfl rfl)
theorem dX0_found_17 : decode cX0_found 17 = .ok (.ireturn, 1) := dk_172 (dk_at dksX0_found_0 17 rfl rfl)
abbrev cX0_lay : ByteArray := prog_1_method_11_code
def yX0_lay : MethodName := ⟨RX0, "lay", "(III)I"⟩
def dkwX0_lay_2 : List UInt8 := [182, 0, 181, 172]
abbrev dktX0_lay_2 : List UInt8 := dkwX0_lay_2 ++ []
def dkwX0_lay_1 : List UInt8 := [50, 28, 29, 79, 42, 21, 4, 4, 182, 0, 185, 172, 58, 4, 42, 4, 182, 0, 181, 172, 58, 4, 42, 5]
abbrev dktX0_lay_1 : List UInt8 := dkwX0_lay_1 ++ dktX0_lay_2
def dkwX0_lay_0 : List UInt8 := [27, 184, 0, 175, 154, 0, 5, 2, 172, 42, 180, 0, 25, 27, 50, 28, 46, 54, 4, 42, 180, 0, 25, 27]
abbrev dktX0_lay_0 : List UInt8 := dkwX0_lay_0 ++ dktX0_lay_1
theorem dksX0_lay_0 : cX0_lay.data.toList.drop 0 = dktX0_lay_0 := by decide +kernel
theorem dksX0_lay_1 : cX0_lay.data.toList.drop 24 = dktX0_lay_1 := dk_seg dksX0_lay_0 24 rfl rfl
theorem dksX0_lay_2 : cX0_lay.data.toList.drop 48 = dktX0_lay_2 := dk_seg dksX0_lay_1 24 rfl rfl
theorem dX0_lay_0 : decode cX0_lay 0 = .ok (.iload_n 1, 1) := dk_27 (dk_at dksX0_lay_0 0 rfl rfl)
theorem dX0_lay_1 : decode cX0_lay 1 = .ok (.invokestatic 175, 3) := dk_184 0 175 (dk_at dksX0_lay_0 1 rfl rfl)
theorem dX0_lay_4 : decode cX0_lay 4 = .ok (.ifCond .ne 5, 3) := dk_154 0 5 (dk_at dksX0_lay_0 4 rfl rfl)
theorem dX0_lay_7 : decode cX0_lay 7 = .ok (.iconst (-1), 1) := dk_2 (dk_at dksX0_lay_0 7 rfl rfl)
theorem dX0_lay_8 : decode cX0_lay 8 = .ok (.ireturn, 1) := dk_172 (dk_at dksX0_lay_0 8 rfl rfl)
theorem dX0_lay_9 : decode cX0_lay 9 = .ok (.aload_n 0, 1) := dk_42 (dk_at dksX0_lay_0 9 rfl rfl)
theorem dX0_lay_10 : decode cX0_lay 10 = .ok (.getfield 25, 3) := dk_180 0 25 (dk_at dksX0_lay_0 10 rfl rfl)
theorem dX0_lay_13 : decode cX0_lay 13 = .ok (.iload_n 1, 1) := dk_27 (dk_at dksX0_lay_0 13 rfl rfl)
theorem dX0_lay_14 : decode cX0_lay 14 = .ok (.aaload, 1) := dk_50 (dk_at dksX0_lay_0 14 rfl rfl)
theorem dX0_lay_15 : decode cX0_lay 15 = .ok (.iload_n 2, 1) := dk_28 (dk_at dksX0_lay_0 15 rfl rfl)
theorem dX0_lay_16 : decode cX0_lay 16 = .ok (.iaload, 1) := dk_46 (dk_at dksX0_lay_0 16 rfl rfl)
theorem dX0_lay_17 : decode cX0_lay 17 = .ok (.istore 4, 2) := dk_54 4 (dk_at dksX0_lay_0 17 rfl rfl)
theorem dX0_lay_19 : decode cX0_lay 19 = .ok (.aload_n 0, 1) := dk_42 (dk_at dksX0_lay_0 19 rfl rfl)
theorem dX0_lay_20 : decode cX0_lay 20 = .ok (.getfield 25, 3) := dk_180 0 25 (dk_at dksX0_lay_0 20 rfl rfl)
theorem dX0_lay_23 : decode cX0_lay 23 = .ok (.iload_n 1, 1) := dk_27 (dk_at dksX0_lay_0 23 rfl rfl)
theorem dX0_lay_24 : decode cX0_lay 24 = .ok (.aaload, 1) := dk_50 (dk_at dksX0_lay_1 0 rfl rfl)
theorem dX0_lay_25 : decode cX0_lay 25 = .ok (.iload_n 2, 1) := dk_28 (dk_at dksX0_lay_1 1 rfl rfl)
theorem dX0_lay_26 : decode cX0_lay 26 = .ok (.iload_n 3, 1) := dk_29 (dk_at dksX0_lay_1 2 rfl rfl)
theorem dX0_lay_27 : decode cX0_lay 27 = .ok (.iastore, 1) := dk_79 (dk_at dksX0_lay_1 3 rfl rfl)
theorem dX0_lay_28 : decode cX0_lay 28 = .ok (.aload_n 0, 1) := dk_42 (dk_at dksX0_lay_1 4 rfl rfl)
theorem dX0_lay_29 : decode cX0_lay 29 = .ok (.iload 4, 2) := dk_21 4 (dk_at dksX0_lay_1 5 rfl rfl)
theorem dX0_lay_31 : decode cX0_lay 31 = .ok (.iconst 1, 1) := dk_4 (dk_at dksX0_lay_1 7 rfl rfl)
theorem dX0_lay_32 : decode cX0_lay 32 = .ok (.invokevirtual 185, 3) := dk_182 0 185 (dk_at dksX0_lay_1 8 rfl rfl)
theorem dX0_lay_35 : decode cX0_lay 35 = .ok (.ireturn, 1) := dk_172 (dk_at dksX0_lay_1 11 rfl rfl)
theorem dX0_lay_36 : decode cX0_lay 36 = .ok (.astore 4, 2) := dk_58 4 (dk_at dksX0_lay_1 12 rfl rfl)
theorem dX0_lay_38 : decode cX0_lay 38 = .ok (.aload_n 0, 1) := dk_42 (dk_at dksX0_lay_1 14 rfl rfl)
theorem dX0_lay_39 : decode cX0_lay 39 = .ok (.iconst 1, 1) := dk_4 (dk_at dksX0_lay_1 15 rfl rfl)
theorem dX0_lay_40 : decode cX0_lay 40 = .ok (.invokevirtual 181, 3) := dk_182 0 181 (dk_at dksX0_lay_1 16 rfl rfl)
theorem dX0_lay_43 : decode cX0_lay 43 = .ok (.ireturn, 1) := dk_172 (dk_at dksX0_lay_1 19 rfl rfl)
theorem dX0_lay_44 : decode cX0_lay 44 = .ok (.astore 4, 2) := dk_58 4 (dk_at dksX0_lay_1 20 rfl rfl)
theorem dX0_lay_46 : decode cX0_lay 46 = .ok (.aload_n 0, 1) := dk_42 (dk_at dksX0_lay_1 22 rfl rfl)
theorem dX0_lay_47 : decode cX0_lay 47 = .ok (.iconst 2, 1) := dk_5 (dk_at dksX0_lay_1 23 rfl rfl)
theorem dX0_lay_48 : decode cX0_lay 48 = .ok (.invokevirtual 181, 3) := dk_182 0 181 (dk_at dksX0_lay_2 0 rfl rfl)
theorem dX0_lay_51 : decode cX0_lay 51 = .ok (.ireturn, 1) := dk_172 (dk_at dksX0_lay_2 3 rfl rfl)
abbrev cX0_say : ByteArray := prog_1_method_3_code
def yX0_say : MethodName := ⟨RX0, "say", "(II)I"⟩
def dkwX0_say_0 : List UInt8 := [42, 27, 181, 0, 11, 28, 172]
abbrev dktX0_say_0 : List UInt8 := dkwX0_say_0 ++ []
theorem dksX0_say_0 : cX0_say.data.toList.drop 0 = dktX0_say_0 := by decide +kernel
theorem dX0_say_0 : decode cX0_say 0 = .ok (.aload_n 0, 1) := dk_42 (dk_at dksX0_say_0 0 rfl rfl)
theorem dX0_say_1 : decode cX0_say 1 = .ok (.iload_n 1, 1) := dk_27 (dk_at dksX0_say_0 1 rfl rfl)
theorem dX0_say_2 : decode cX0_say 2 = .ok (.putfield 11, 3) := dk_181 0 11 (dk_at dksX0_say_0 2 rfl rfl)
theorem dX0_say_5 : decode cX0_say 5 = .ok (.iload_n 2, 1) := dk_28 (dk_at dksX0_say_0 5 rfl rfl)
theorem dX0_say_6 : decode cX0_say 6 = .ok (.ireturn, 1) := dk_172 (dk_at dksX0_say_0 6 rfl rfl)
abbrev cX0_tear : ByteArray := prog_1_method_12_code
def yX0_tear : MethodName := ⟨RX0, "tear", "(I)I"⟩
def dkwX0_tear_1 : List UInt8 := [42, 180, 0, 25, 27, 1, 83, 4, 172]
abbrev dktX0_tear_1 : List UInt8 := dkwX0_tear_1 ++ []
def dkwX0_tear_0 : List UInt8 := [27, 184, 0, 175, 154, 0, 5, 2, 172, 42, 180, 0, 25, 27, 50, 199, 0, 9, 42, 4, 182, 0, 181, 172]
abbrev dktX0_tear_0 : List UInt8 := dkwX0_tear_0 ++ dktX0_tear_1
theorem dksX0_tear_0 : cX0_tear.data.toList.drop 0 = dktX0_tear_0 := by decide +kernel
theorem dksX0_tear_1 : cX0_tear.data.toList.drop 24 = dktX0_tear_1 := dk_seg dksX0_tear_0 24 rfl rfl
theorem dX0_tear_0 : decode cX0_tear 0 = .ok (.iload_n 1, 1) := dk_27 (dk_at dksX0_tear_0 0 rfl rfl)
theorem dX0_tear_1 : decode cX0_tear 1 = .ok (.invokestatic 175, 3) := dk_184 0 175 (dk_at dksX0_tear_0 1 rfl rfl)
theorem dX0_tear_4 : decode cX0_tear 4 = .ok (.ifCond .ne 5, 3) := dk_154 0 5 (dk_at dksX0_tear_0 4 rfl rfl)
theorem dX0_tear_7 : decode cX0_tear 7 = .ok (.iconst (-1), 1) := dk_2 (dk_at dksX0_tear_0 7 rfl rfl)
theorem dX0_tear_8 : decode cX0_tear 8 = .ok (.ireturn, 1) := dk_172 (dk_at dksX0_tear_0 8 rfl rfl)
theorem dX0_tear_9 : decode cX0_tear 9 = .ok (.aload_n 0, 1) := dk_42 (dk_at dksX0_tear_0 9 rfl rfl)
theorem dX0_tear_10 : decode cX0_tear 10 = .ok (.getfield 25, 3) := dk_180 0 25 (dk_at dksX0_tear_0 10 rfl rfl)
theorem dX0_tear_13 : decode cX0_tear 13 = .ok (.iload_n 1, 1) := dk_27 (dk_at dksX0_tear_0 13 rfl rfl)
theorem dX0_tear_14 : decode cX0_tear 14 = .ok (.aaload, 1) := dk_50 (dk_at dksX0_tear_0 14 rfl rfl)
theorem dX0_tear_15 : decode cX0_tear 15 = .ok (.ifnonnull 9, 3) := dk_199 0 9 (dk_at dksX0_tear_0 15 rfl rfl)
theorem dX0_tear_18 : decode cX0_tear 18 = .ok (.aload_n 0, 1) := dk_42 (dk_at dksX0_tear_0 18 rfl rfl)
theorem dX0_tear_19 : decode cX0_tear 19 = .ok (.iconst 1, 1) := dk_4 (dk_at dksX0_tear_0 19 rfl rfl)
theorem dX0_tear_20 : decode cX0_tear 20 = .ok (.invokevirtual 181, 3) := dk_182 0 181 (dk_at dksX0_tear_0 20 rfl rfl)
theorem dX0_tear_23 : decode cX0_tear 23 = .ok (.ireturn, 1) := dk_172 (dk_at dksX0_tear_0 23 rfl rfl)
theorem dX0_tear_24 : decode cX0_tear 24 = .ok (.aload_n 0, 1) := dk_42 (dk_at dksX0_tear_1 0 rfl rfl)
theorem dX0_tear_25 : decode cX0_tear 25 = .ok (.getfield 25, 3) := dk_180 0 25 (dk_at dksX0_tear_1 1 rfl rfl)
theorem dX0_tear_28 : decode cX0_tear 28 = .ok (.iload_n 1, 1) := dk_27 (dk_at dksX0_tear_1 4 rfl rfl)
theorem dX0_tear_29 : decode cX0_tear 29 = .ok (.aconst_null, 1) := dk_1 (dk_at dksX0_tear_1 5 rfl rfl)
theorem dX0_tear_30 : decode cX0_tear 30 = .ok (.aastore, 1) := dk_83 (dk_at dksX0_tear_1 6 rfl rfl)
theorem dX0_tear_31 : decode cX0_tear 31 = .ok (.iconst 1, 1) := dk_4 (dk_at dksX0_tear_1 7 rfl rfl)
theorem dX0_tear_32 : decode cX0_tear 32 = .ok (.ireturn, 1) := dk_172 (dk_at dksX0_tear_1 8 rfl rfl)
abbrev cX0_copy : ByteArray := prog_1_method_13_code
def yX0_copy : MethodName := ⟨RX0, "copy", "(IIIII)I"⟩
def dkwX0_copy_2 : List UInt8 := [4, 172, 58, 6, 42, 4, 182, 0, 181, 172, 58, 6, 42, 5, 182, 0, 181, 172]
abbrev dktX0_copy_2 : List UInt8 := dkwX0_copy_2 ++ []
def dkwX0_copy_1 : List UInt8 := [182, 0, 181, 172, 42, 180, 0, 25, 27, 50, 28, 42, 180, 0, 25, 29, 50, 21, 4, 21, 5, 184, 0, 193]
abbrev dktX0_copy_1 : List UInt8 := dkwX0_copy_1 ++ dktX0_copy_2
def dkwX0_copy_0 : List UInt8 := [27, 184, 0, 175, 153, 0, 10, 29, 184, 0, 175, 154, 0, 5, 2, 172, 21, 5, 156, 0, 9, 42, 8]
abbrev dktX0_copy_0 : List UInt8 := dkwX0_copy_0 ++ dktX0_copy_1
theorem dksX0_copy_0 : cX0_copy.data.toList.drop 0 = dktX0_copy_0 := by decide +kernel
theorem dksX0_copy_1 : cX0_copy.data.toList.drop 23 = dktX0_copy_1 := dk_seg dksX0_copy_0 23 rfl rfl
theorem dksX0_copy_2 : cX0_copy.data.toList.drop 47 = dktX0_copy_2 := dk_seg dksX0_copy_1 24 rfl rfl
theorem dX0_copy_0 : decode cX0_copy 0 = .ok (.iload_n 1, 1) := dk_27 (dk_at dksX0_copy_0 0 rfl rfl)
theorem dX0_copy_1 : decode cX0_copy 1 = .ok (.invokestatic 175, 3) := dk_184 0 175 (dk_at dksX0_copy_0 1 rfl rfl)
theorem dX0_copy_4 : decode cX0_copy 4 = .ok (.ifCond .eq 10, 3) := dk_153 0 10 (dk_at dksX0_copy_0 4 rfl rfl)
theorem dX0_copy_7 : decode cX0_copy 7 = .ok (.iload_n 3, 1) := dk_29 (dk_at dksX0_copy_0 7 rfl rfl)
theorem dX0_copy_8 : decode cX0_copy 8 = .ok (.invokestatic 175, 3) := dk_184 0 175 (dk_at dksX0_copy_0 8 rfl rfl)
theorem dX0_copy_11 : decode cX0_copy 11 = .ok (.ifCond .ne 5, 3) := dk_154 0 5 (dk_at dksX0_copy_0 11 rfl rfl)
theorem dX0_copy_14 : decode cX0_copy 14 = .ok (.iconst (-1), 1) := dk_2 (dk_at dksX0_copy_0 14 rfl rfl)
theorem dX0_copy_15 : decode cX0_copy 15 = .ok (.ireturn, 1) := dk_172 (dk_at dksX0_copy_0 15 rfl rfl)
theorem dX0_copy_16 : decode cX0_copy 16 = .ok (.iload 5, 2) := dk_21 5 (dk_at dksX0_copy_0 16 rfl rfl)
theorem dX0_copy_18 : decode cX0_copy 18 = .ok (.ifCond .ge 9, 3) := dk_156 0 9 (dk_at dksX0_copy_0 18 rfl rfl)
theorem dX0_copy_21 : decode cX0_copy 21 = .ok (.aload_n 0, 1) := dk_42 (dk_at dksX0_copy_0 21 rfl rfl)
theorem dX0_copy_22 : decode cX0_copy 22 = .ok (.iconst 5, 1) := dk_8 (dk_at dksX0_copy_0 22 rfl rfl)
theorem dX0_copy_23 : decode cX0_copy 23 = .ok (.invokevirtual 181, 3) := dk_182 0 181 (dk_at dksX0_copy_1 0 rfl rfl)
theorem dX0_copy_26 : decode cX0_copy 26 = .ok (.ireturn, 1) := dk_172 (dk_at dksX0_copy_1 3 rfl rfl)
theorem dX0_copy_27 : decode cX0_copy 27 = .ok (.aload_n 0, 1) := dk_42 (dk_at dksX0_copy_1 4 rfl rfl)
theorem dX0_copy_28 : decode cX0_copy 28 = .ok (.getfield 25, 3) := dk_180 0 25 (dk_at dksX0_copy_1 5 rfl rfl)
theorem dX0_copy_31 : decode cX0_copy 31 = .ok (.iload_n 1, 1) := dk_27 (dk_at dksX0_copy_1 8 rfl rfl)
theorem dX0_copy_32 : decode cX0_copy 32 = .ok (.aaload, 1) := dk_50 (dk_at dksX0_copy_1 9 rfl rfl)
theorem dX0_copy_33 : decode cX0_copy 33 = .ok (.iload_n 2, 1) := dk_28 (dk_at dksX0_copy_1 10 rfl rfl)
theorem dX0_copy_34 : decode cX0_copy 34 = .ok (.aload_n 0, 1) := dk_42 (dk_at dksX0_copy_1 11 rfl rfl)
theorem dX0_copy_35 : decode cX0_copy 35 = .ok (.getfield 25, 3) := dk_180 0 25 (dk_at dksX0_copy_1 12 rfl rfl)
theorem dX0_copy_38 : decode cX0_copy 38 = .ok (.iload_n 3, 1) := dk_29 (dk_at dksX0_copy_1 15 rfl rfl)
theorem dX0_copy_39 : decode cX0_copy 39 = .ok (.aaload, 1) := dk_50 (dk_at dksX0_copy_1 16 rfl rfl)
theorem dX0_copy_40 : decode cX0_copy 40 = .ok (.iload 4, 2) := dk_21 4 (dk_at dksX0_copy_1 17 rfl rfl)
theorem dX0_copy_42 : decode cX0_copy 42 = .ok (.iload 5, 2) := dk_21 5 (dk_at dksX0_copy_1 19 rfl rfl)
theorem dX0_copy_44 : decode cX0_copy 44 = .ok (.invokestatic 193, 3) := dk_184 0 193 (dk_at dksX0_copy_1 21 rfl rfl)
theorem dX0_copy_47 : decode cX0_copy 47 = .ok (.iconst 1, 1) := dk_4 (dk_at dksX0_copy_2 0 rfl rfl)
theorem dX0_copy_48 : decode cX0_copy 48 = .ok (.ireturn, 1) := dk_172 (dk_at dksX0_copy_2 1 rfl rfl)
theorem dX0_copy_49 : decode cX0_copy 49 = .ok (.astore 6, 2) := dk_58 6 (dk_at dksX0_copy_2 2 rfl rfl)
theorem dX0_copy_51 : decode cX0_copy 51 = .ok (.aload_n 0, 1) := dk_42 (dk_at dksX0_copy_2 4 rfl rfl)
theorem dX0_copy_52 : decode cX0_copy 52 = .ok (.iconst 1, 1) := dk_4 (dk_at dksX0_copy_2 5 rfl rfl)
theorem dX0_copy_53 : decode cX0_copy 53 = .ok (.invokevirtual 181, 3) := dk_182 0 181 (dk_at dksX0_copy_2 6 rfl rfl)
theorem dX0_copy_56 : decode cX0_copy 56 = .ok (.ireturn, 1) := dk_172 (dk_at dksX0_copy_2 9 rfl rfl)
theorem dX0_copy_57 : decode cX0_copy 57 = .ok (.astore 6, 2) := dk_58 6 (dk_at dksX0_copy_2 10 rfl rfl)
theorem dX0_copy_59 : decode cX0_copy 59 = .ok (.aload_n 0, 1) := dk_42 (dk_at dksX0_copy_2 12 rfl rfl)
theorem dX0_copy_60 : decode cX0_copy 60 = .ok (.iconst 2, 1) := dk_5 (dk_at dksX0_copy_2 13 rfl rfl)
theorem dX0_copy_61 : decode cX0_copy 61 = .ok (.invokevirtual 181, 3) := dk_182 0 181 (dk_at dksX0_copy_2 14 rfl rfl)
theorem dX0_copy_64 : decode cX0_copy 64 = .ok (.ireturn, 1) := dk_172 (dk_at dksX0_copy_2 17 rfl rfl)
abbrev cX0_mean : ByteArray := prog_1_method_14_code
def yX0_mean : MethodName := ⟨RX0, "mean", "(I)I"⟩
def dkwX0_mean_5 : List UInt8 := [172, 58, 5, 42, 7, 182, 0, 181, 172]
abbrev dktX0_mean_5 : List UInt8 := dkwX0_mean_5 ++ []
def dkwX0_mean_4 : List UInt8 := [167, 0, 4, 3, 96, 54, 4, 132, 5, 1, 167, 255, 182, 42, 32, 21, 4, 133, 109, 136, 4, 182, 0, 185]
abbrev dktX0_mean_4 : List UInt8 := dkwX0_mean_4 ++ dktX0_mean_5
def dkwX0_mean_3 : List UInt8 := [42, 180, 0, 25, 27, 50, 21, 5, 46, 133, 167, 0, 4, 9, 97, 65, 21, 4, 21, 6, 153, 0, 7, 4]
abbrev dktX0_mean_3 : List UInt8 := dkwX0_mean_3 ++ dktX0_mean_4
def dkwX0_mean_2 : List UInt8 := [27, 50, 21, 5, 46, 17, 252, 25, 159, 0, 7, 4, 167, 0, 4, 3, 54, 6, 32, 21, 6, 153, 0, 16]
abbrev dktX0_mean_2 : List UInt8 := dkwX0_mean_2 ++ dktX0_mean_3
def dkwX0_mean_1 : List UInt8 := [9, 65, 3, 54, 4, 3, 54, 5, 21, 5, 42, 180, 0, 25, 27, 50, 190, 162, 0, 68, 42, 180, 0, 25]
abbrev dktX0_mean_1 : List UInt8 := dkwX0_mean_1 ++ dktX0_mean_2
def dkwX0_mean_0 : List UInt8 := [27, 184, 0, 175, 154, 0, 5, 2, 172, 42, 180, 0, 25, 27, 50, 199, 0, 9, 42, 4, 182, 0, 181, 172]
abbrev dktX0_mean_0 : List UInt8 := dkwX0_mean_0 ++ dktX0_mean_1
theorem dksX0_mean_0 : cX0_mean.data.toList.drop 0 = dktX0_mean_0 := by decide +kernel
theorem dksX0_mean_1 : cX0_mean.data.toList.drop 24 = dktX0_mean_1 := dk_seg dksX0_mean_0 24 rfl rfl
theorem dksX0_mean_2 : cX0_mean.data.toList.drop 48 = dktX0_mean_2 := dk_seg dksX0_mean_1 24 rfl rfl
theorem dksX0_mean_3 : cX0_mean.data.toList.drop 72 = dktX0_mean_3 := dk_seg dksX0_mean_2 24 rfl rfl
theorem dksX0_mean_4 : cX0_mean.data.toList.drop 96 = dktX0_mean_4 := dk_seg dksX0_mean_3 24 rfl rfl
theorem dksX0_mean_5 : cX0_mean.data.toList.drop 120 = dktX0_mean_5 := dk_seg dksX0_mean_4 24 rfl rfl
theorem dX0_mean_0 : decode cX0_mean 0 = .ok (.iload_n 1, 1) := dk_27 (dk_at dksX0_mean_0 0 rfl rfl)
theorem dX0_mean_1 : decode cX0_mean 1 = .ok (.invokestatic 175, 3) := dk_184 0 175 (dk_at dksX0_mean_0 1 rfl rfl)
theorem dX0_mean_4 : decode cX0_mean 4 = .ok (.ifCond .ne 5, 3) := dk_154 0 5 (dk_at dksX0_mean_0 4 rfl rfl)
theorem dX0_mean_7 : decode cX0_mean 7 = .ok (.iconst (-1), 1) := dk_2 (dk_at dksX0_mean_0 7 rfl rfl)
theorem dX0_mean_8 : decode cX0_mean 8 = .ok (.ireturn, 1) := dk_172 (dk_at dksX0_mean_0 8 rfl rfl)
theorem dX0_mean_9 : decode cX0_mean 9 = .ok (.aload_n 0, 1) := dk_42 (dk_at dksX0_mean_0 9 rfl rfl)
theorem dX0_mean_10 : decode cX0_mean 10 = .ok (.getfield 25, 3) := dk_180 0 25 (dk_at dksX0_mean_0 10 rfl rfl)
theorem dX0_mean_13 : decode cX0_mean 13 = .ok (.iload_n 1, 1) := dk_27 (dk_at dksX0_mean_0 13 rfl rfl)
theorem dX0_mean_14 : decode cX0_mean 14 = .ok (.aaload, 1) := dk_50 (dk_at dksX0_mean_0 14 rfl rfl)
theorem dX0_mean_15 : decode cX0_mean 15 = .ok (.ifnonnull 9, 3) := dk_199 0 9 (dk_at dksX0_mean_0 15 rfl rfl)
theorem dX0_mean_18 : decode cX0_mean 18 = .ok (.aload_n 0, 1) := dk_42 (dk_at dksX0_mean_0 18 rfl rfl)
theorem dX0_mean_19 : decode cX0_mean 19 = .ok (.iconst 1, 1) := dk_4 (dk_at dksX0_mean_0 19 rfl rfl)
theorem dX0_mean_20 : decode cX0_mean 20 = .ok (.invokevirtual 181, 3) := dk_182 0 181 (dk_at dksX0_mean_0 20 rfl rfl)
theorem dX0_mean_23 : decode cX0_mean 23 = .ok (.ireturn, 1) := dk_172 (dk_at dksX0_mean_0 23 rfl rfl)
theorem dX0_mean_24 : decode cX0_mean 24 = .ok (.lconst 0, 1) := dk_9 (dk_at dksX0_mean_1 0 rfl rfl)
theorem dX0_mean_25 : decode cX0_mean 25 = .ok (.lstore_n 2, 1) := dk_65 (dk_at dksX0_mean_1 1 rfl rfl)
theorem dX0_mean_26 : decode cX0_mean 26 = .ok (.iconst 0, 1) := dk_3 (dk_at dksX0_mean_1 2 rfl rfl)
theorem dX0_mean_27 : decode cX0_mean 27 = .ok (.istore 4, 2) := dk_54 4 (dk_at dksX0_mean_1 3 rfl rfl)
theorem dX0_mean_29 : decode cX0_mean 29 = .ok (.iconst 0, 1) := dk_3 (dk_at dksX0_mean_1 5 rfl rfl)
theorem dX0_mean_30 : decode cX0_mean 30 = .ok (.istore 5, 2) := dk_54 5 (dk_at dksX0_mean_1 6 rfl rfl)
theorem dX0_mean_32 : decode cX0_mean 32 = .ok (.iload 5, 2) := dk_21 5 (dk_at dksX0_mean_1 8 rfl rfl)
theorem dX0_mean_34 : decode cX0_mean 34 = .ok (.aload_n 0, 1) := dk_42 (dk_at dksX0_mean_1 10 rfl rfl)
theorem dX0_mean_35 : decode cX0_mean 35 = .ok (.getfield 25, 3) := dk_180 0 25 (dk_at dksX0_mean_1 11 rfl rfl)
theorem dX0_mean_38 : decode cX0_mean 38 = .ok (.iload_n 1, 1) := dk_27 (dk_at dksX0_mean_1 14 rfl rfl)
theorem dX0_mean_39 : decode cX0_mean 39 = .ok (.aaload, 1) := dk_50 (dk_at dksX0_mean_1 15 rfl rfl)
theorem dX0_mean_40 : decode cX0_mean 40 = .ok (.arraylength, 1) := dk_190 (dk_at dksX0_mean_1 16 rfl rfl)
theorem dX0_mean_41 : decode cX0_mean 41 = .ok (.if_icmp .ge 68, 3) := dk_162 0 68 (dk_at dksX0_mean_1 17 rfl rfl)
theorem dX0_mean_44 : decode cX0_mean 44 = .ok (.aload_n 0, 1) := dk_42 (dk_at dksX0_mean_1 20 rfl rfl)
theorem dX0_mean_45 : decode cX0_mean 45 = .ok (.getfield 25, 3) := dk_180 0 25 (dk_at dksX0_mean_1 21 rfl rfl)
theorem dX0_mean_48 : decode cX0_mean 48 = .ok (.iload_n 1, 1) := dk_27 (dk_at dksX0_mean_2 0 rfl rfl)
theorem dX0_mean_49 : decode cX0_mean 49 = .ok (.aaload, 1) := dk_50 (dk_at dksX0_mean_2 1 rfl rfl)
theorem dX0_mean_50 : decode cX0_mean 50 = .ok (.iload 5, 2) := dk_21 5 (dk_at dksX0_mean_2 2 rfl rfl)
theorem dX0_mean_52 : decode cX0_mean 52 = .ok (.iaload, 1) := dk_46 (dk_at dksX0_mean_2 4 rfl rfl)
theorem dX0_mean_53 : decode cX0_mean 53 = .ok (.sipush (-999), 3) := dk_17 252 25 (dk_at dksX0_mean_2 5 rfl rfl)
theorem dX0_mean_56 : decode cX0_mean 56 = .ok (.if_icmp .eq 7, 3) := dk_159 0 7 (dk_at dksX0_mean_2 8 rfl rfl)
theorem dX0_mean_59 : decode cX0_mean 59 = .ok (.iconst 1, 1) := dk_4 (dk_at dksX0_mean_2 11 rfl rfl)
theorem dX0_mean_60 : decode cX0_mean 60 = .ok (.goto 4, 3) := dk_167 0 4 (dk_at dksX0_mean_2 12 rfl rfl)
theorem dX0_mean_63 : decode cX0_mean 63 = .ok (.iconst 0, 1) := dk_3 (dk_at dksX0_mean_2 15 rfl rfl)
theorem dX0_mean_64 : decode cX0_mean 64 = .ok (.istore 6, 2) := dk_54 6 (dk_at dksX0_mean_2 16 rfl rfl)
theorem dX0_mean_66 : decode cX0_mean 66 = .ok (.lload_n 2, 1) := dk_32 (dk_at dksX0_mean_2 18 rfl rfl)
theorem dX0_mean_67 : decode cX0_mean 67 = .ok (.iload 6, 2) := dk_21 6 (dk_at dksX0_mean_2 19 rfl rfl)
theorem dX0_mean_69 : decode cX0_mean 69 = .ok (.ifCond .eq 16, 3) := dk_153 0 16 (dk_at dksX0_mean_2 21 rfl rfl)
theorem dX0_mean_72 : decode cX0_mean 72 = .ok (.aload_n 0, 1) := dk_42 (dk_at dksX0_mean_3 0 rfl rfl)
theorem dX0_mean_73 : decode cX0_mean 73 = .ok (.getfield 25, 3) := dk_180 0 25 (dk_at dksX0_mean_3 1 rfl rfl)
theorem dX0_mean_76 : decode cX0_mean 76 = .ok (.iload_n 1, 1) := dk_27 (dk_at dksX0_mean_3 4 rfl rfl)
theorem dX0_mean_77 : decode cX0_mean 77 = .ok (.aaload, 1) := dk_50 (dk_at dksX0_mean_3 5 rfl rfl)
theorem dX0_mean_78 : decode cX0_mean 78 = .ok (.iload 5, 2) := dk_21 5 (dk_at dksX0_mean_3 6 rfl rfl)
theorem dX0_mean_80 : decode cX0_mean 80 = .ok (.iaload, 1) := dk_46 (dk_at dksX0_mean_3 8 rfl rfl)
theorem dX0_mean_81 : decode cX0_mean 81 = .ok (.i2l, 1) := dk_133 (dk_at dksX0_mean_3 9 rfl rfl)
theorem dX0_mean_82 : decode cX0_mean 82 = .ok (.goto 4, 3) := dk_167 0 4 (dk_at dksX0_mean_3 10 rfl rfl)
theorem dX0_mean_85 : decode cX0_mean 85 = .ok (.lconst 0, 1) := dk_9 (dk_at dksX0_mean_3 13 rfl rfl)
theorem dX0_mean_86 : decode cX0_mean 86 = .ok (.ladd, 1) := dk_97 (dk_at dksX0_mean_3 14 rfl rfl)
theorem dX0_mean_87 : decode cX0_mean 87 = .ok (.lstore_n 2, 1) := dk_65 (dk_at dksX0_mean_3 15 rfl rfl)
theorem dX0_mean_88 : decode cX0_mean 88 = .ok (.iload 4, 2) := dk_21 4 (dk_at dksX0_mean_3 16 rfl rfl)
theorem dX0_mean_90 : decode cX0_mean 90 = .ok (.iload 6, 2) := dk_21 6 (dk_at dksX0_mean_3 18 rfl rfl)
theorem dX0_mean_92 : decode cX0_mean 92 = .ok (.ifCond .eq 7, 3) := dk_153 0 7 (dk_at dksX0_mean_3 20 rfl rfl)
theorem dX0_mean_95 : decode cX0_mean 95 = .ok (.iconst 1, 1) := dk_4 (dk_at dksX0_mean_3 23 rfl rfl)
theorem dX0_mean_96 : decode cX0_mean 96 = .ok (.goto 4, 3) := dk_167 0 4 (dk_at dksX0_mean_4 0 rfl rfl)
theorem dX0_mean_99 : decode cX0_mean 99 = .ok (.iconst 0, 1) := dk_3 (dk_at dksX0_mean_4 3 rfl rfl)
theorem dX0_mean_100 : decode cX0_mean 100 = .ok (.iadd, 1) := dk_96 (dk_at dksX0_mean_4 4 rfl rfl)
theorem dX0_mean_101 : decode cX0_mean 101 = .ok (.istore 4, 2) := dk_54 4 (dk_at dksX0_mean_4 5 rfl rfl)
theorem dX0_mean_103 : decode cX0_mean 103 = .ok (.iinc 5 1, 3) := dk_132 5 1 (dk_at dksX0_mean_4 7 rfl rfl)
theorem dX0_mean_106 : decode cX0_mean 106 = .ok (.goto (-74), 3) := dk_167 255 182 (dk_at dksX0_mean_4 10 rfl rfl)
theorem dX0_mean_109 : decode cX0_mean 109 = .ok (.aload_n 0, 1) := dk_42 (dk_at dksX0_mean_4 13 rfl rfl)
theorem dX0_mean_110 : decode cX0_mean 110 = .ok (.lload_n 2, 1) := dk_32 (dk_at dksX0_mean_4 14 rfl rfl)
theorem dX0_mean_111 : decode cX0_mean 111 = .ok (.iload 4, 2) := dk_21 4 (dk_at dksX0_mean_4 15 rfl rfl)
theorem dX0_mean_113 : decode cX0_mean 113 = .ok (.i2l, 1) := dk_133 (dk_at dksX0_mean_4 17 rfl rfl)
theorem dX0_mean_114 : decode cX0_mean 114 = .ok (.ldiv, 1) := dk_109 (dk_at dksX0_mean_4 18 rfl rfl)
theorem dX0_mean_115 : decode cX0_mean 115 = .ok (.l2i, 1) := dk_136 (dk_at dksX0_mean_4 19 rfl rfl)
theorem dX0_mean_116 : decode cX0_mean 116 = .ok (.iconst 1, 1) := dk_4 (dk_at dksX0_mean_4 20 rfl rfl)
theorem dX0_mean_117 : decode cX0_mean 117 = .ok (.invokevirtual 185, 3) := dk_182 0 185 (dk_at dksX0_mean_4 21 rfl rfl)
theorem dX0_mean_120 : decode cX0_mean 120 = .ok (.ireturn, 1) := dk_172 (dk_at dksX0_mean_5 0 rfl rfl)
theorem dX0_mean_121 : decode cX0_mean 121 = .ok (.astore 5, 2) := dk_58 5 (dk_at dksX0_mean_5 1 rfl rfl)
theorem dX0_mean_123 : decode cX0_mean 123 = .ok (.aload_n 0, 1) := dk_42 (dk_at dksX0_mean_5 3 rfl rfl)
theorem dX0_mean_124 : decode cX0_mean 124 = .ok (.iconst 4, 1) := dk_7 (dk_at dksX0_mean_5 4 rfl rfl)
theorem dX0_mean_125 : decode cX0_mean 125 = .ok (.invokevirtual 181, 3) := dk_182 0 181 (dk_at dksX0_mean_5 5 rfl rfl)
theorem dX0_mean_128 : decode cX0_mean 128 = .ok (.ireturn, 1) := dk_172 (dk_at dksX0_mean_5 8 rfl rfl)
abbrev cX0_text : ByteArray := prog_1_method_16_code
def yX0_text : MethodName := ⟨RX0, "text", "(II)I"⟩
def dkwX0_text_2 : List UInt8 := [172, 78, 42, 8, 182, 0, 181, 172]
abbrev dktX0_text_2 : List UInt8 := dkwX0_text_2 ++ []
def dkwX0_text_1 : List UInt8 := [28, 162, 0, 15, 45, 21, 4, 16, 32, 84, 132, 4, 1, 167, 255, 241, 42, 180, 0, 31, 27, 45, 83, 28]
abbrev dktX0_text_1 : List UInt8 := dkwX0_text_1 ++ dktX0_text_2
def dkwX0_text_0 : List UInt8 := [27, 184, 0, 201, 153, 0, 9, 28, 16, 40, 164, 0, 5, 2, 172, 28, 188, 8, 78, 3, 54, 4, 21, 4]
abbrev dktX0_text_0 : List UInt8 := dkwX0_text_0 ++ dktX0_text_1
theorem dksX0_text_0 : cX0_text.data.toList.drop 0 = dktX0_text_0 := by decide +kernel
theorem dksX0_text_1 : cX0_text.data.toList.drop 24 = dktX0_text_1 := dk_seg dksX0_text_0 24 rfl rfl
theorem dksX0_text_2 : cX0_text.data.toList.drop 48 = dktX0_text_2 := dk_seg dksX0_text_1 24 rfl rfl
theorem dX0_text_0 : decode cX0_text 0 = .ok (.iload_n 1, 1) := dk_27 (dk_at dksX0_text_0 0 rfl rfl)
theorem dX0_text_1 : decode cX0_text 1 = .ok (.invokestatic 201, 3) := dk_184 0 201 (dk_at dksX0_text_0 1 rfl rfl)
theorem dX0_text_4 : decode cX0_text 4 = .ok (.ifCond .eq 9, 3) := dk_153 0 9 (dk_at dksX0_text_0 4 rfl rfl)
theorem dX0_text_7 : decode cX0_text 7 = .ok (.iload_n 2, 1) := dk_28 (dk_at dksX0_text_0 7 rfl rfl)
theorem dX0_text_8 : decode cX0_text 8 = .ok (.bipush 40, 2) := dk_16 40 (dk_at dksX0_text_0 8 rfl rfl)
theorem dX0_text_10 : decode cX0_text 10 = .ok (.if_icmp .le 5, 3) := dk_164 0 5 (dk_at dksX0_text_0 10 rfl rfl)
theorem dX0_text_13 : decode cX0_text 13 = .ok (.iconst (-1), 1) := dk_2 (dk_at dksX0_text_0 13 rfl rfl)
theorem dX0_text_14 : decode cX0_text 14 = .ok (.ireturn, 1) := dk_172 (dk_at dksX0_text_0 14 rfl rfl)
theorem dX0_text_15 : decode cX0_text 15 = .ok (.iload_n 2, 1) := dk_28 (dk_at dksX0_text_0 15 rfl rfl)
theorem dX0_text_16 : decode cX0_text 16 = .ok (.newarray .byte, 2) := dk_188_8 (dk_at dksX0_text_0 16 rfl rfl)
theorem dX0_text_18 : decode cX0_text 18 = .ok (.astore_n 3, 1) := dk_78 (dk_at dksX0_text_0 18 rfl rfl)
theorem dX0_text_19 : decode cX0_text 19 = .ok (.iconst 0, 1) := dk_3 (dk_at dksX0_text_0 19 rfl rfl)
theorem dX0_text_20 : decode cX0_text 20 = .ok (.istore 4, 2) := dk_54 4 (dk_at dksX0_text_0 20 rfl rfl)
theorem dX0_text_22 : decode cX0_text 22 = .ok (.iload 4, 2) := dk_21 4 (dk_at dksX0_text_0 22 rfl rfl)
theorem dX0_text_24 : decode cX0_text 24 = .ok (.iload_n 2, 1) := dk_28 (dk_at dksX0_text_1 0 rfl rfl)
theorem dX0_text_25 : decode cX0_text 25 = .ok (.if_icmp .ge 15, 3) := dk_162 0 15 (dk_at dksX0_text_1 1 rfl rfl)
theorem dX0_text_28 : decode cX0_text 28 = .ok (.aload_n 3, 1) := dk_45 (dk_at dksX0_text_1 4 rfl rfl)
theorem dX0_text_29 : decode cX0_text 29 = .ok (.iload 4, 2) := dk_21 4 (dk_at dksX0_text_1 5 rfl rfl)
theorem dX0_text_31 : decode cX0_text 31 = .ok (.bipush 32, 2) := dk_16 32 (dk_at dksX0_text_1 7 rfl rfl)
theorem dX0_text_33 : decode cX0_text 33 = .ok (.bastore, 1) := dk_84 (dk_at dksX0_text_1 9 rfl rfl)
theorem dX0_text_34 : decode cX0_text 34 = .ok (.iinc 4 1, 3) := dk_132 4 1 (dk_at dksX0_text_1 10 rfl rfl)
theorem dX0_text_37 : decode cX0_text 37 = .ok (.goto (-15), 3) := dk_167 255 241 (dk_at dksX0_text_1 13 rfl rfl)
theorem dX0_text_40 : decode cX0_text 40 = .ok (.aload_n 0, 1) := dk_42 (dk_at dksX0_text_1 16 rfl rfl)
theorem dX0_text_41 : decode cX0_text 41 = .ok (.getfield 31, 3) := dk_180 0 31 (dk_at dksX0_text_1 17 rfl rfl)
theorem dX0_text_44 : decode cX0_text 44 = .ok (.iload_n 1, 1) := dk_27 (dk_at dksX0_text_1 20 rfl rfl)
theorem dX0_text_45 : decode cX0_text 45 = .ok (.aload_n 3, 1) := dk_45 (dk_at dksX0_text_1 21 rfl rfl)
theorem dX0_text_46 : decode cX0_text 46 = .ok (.aastore, 1) := dk_83 (dk_at dksX0_text_1 22 rfl rfl)
theorem dX0_text_47 : decode cX0_text 47 = .ok (.iload_n 2, 1) := dk_28 (dk_at dksX0_text_1 23 rfl rfl)
theorem dX0_text_48 : decode cX0_text 48 = .ok (.ireturn, 1) := dk_172 (dk_at dksX0_text_2 0 rfl rfl)
theorem dX0_text_49 : decode cX0_text 49 = .ok (.astore_n 3, 1) := dk_78 (dk_at dksX0_text_2 1 rfl rfl)
theorem dX0_text_50 : decode cX0_text 50 = .ok (.aload_n 0, 1) := dk_42 (dk_at dksX0_text_2 2 rfl rfl)
theorem dX0_text_51 : decode cX0_text 51 = .ok (.iconst 5, 1) := dk_8 (dk_at dksX0_text_2 3 rfl rfl)
theorem dX0_text_52 : decode cX0_text 52 = .ok (.invokevirtual 181, 3) := dk_182 0 181 (dk_at dksX0_text_2 4 rfl rfl)
theorem dX0_text_55 : decode cX0_text 55 = .ok (.ireturn, 1) := dk_172 (dk_at dksX0_text_2 7 rfl rfl)
abbrev cX0_isText : ByteArray := prog_1_method_15_code
def yX0_isText : MethodName := ⟨RX0, "isText", "(I)Z"⟩
def dkwX0_isText_0 : List UInt8 := [26, 3, 6, 184, 0, 171, 172]
abbrev dktX0_isText_0 : List UInt8 := dkwX0_isText_0 ++ []
theorem dksX0_isText_0 : cX0_isText.data.toList.drop 0 = dktX0_isText_0 := by decide +kernel
theorem dX0_isText_0 : decode cX0_isText 0 = .ok (.iload_n 0, 1) := dk_26 (dk_at dksX0_isText_0 0 rfl rfl)
theorem dX0_isText_1 : decode cX0_isText 1 = .ok (.iconst 0, 1) := dk_3 (dk_at dksX0_isText_0 1 rfl rfl)
theorem dX0_isText_2 : decode cX0_isText 2 = .ok (.iconst 3, 1) := dk_6 (dk_at dksX0_isText_0 2 rfl rfl)
theorem dX0_isText_3 : decode cX0_isText 3 = .ok (.invokestatic 171, 3) := dk_184 0 171 (dk_at dksX0_isText_0 3 rfl rfl)
theorem dX0_isText_6 : decode cX0_isText 6 = .ok (.ireturn, 1) := dk_172 (dk_at dksX0_isText_0 6 rfl rfl)
abbrev cX0_put : ByteArray := prog_1_method_17_code
def yX0_put : MethodName := ⟨RX0, "put", "(III)I"⟩
def dkwX0_put_2 : List UInt8 := [182, 0, 181, 172]
abbrev dktX0_put_2 : List UInt8 := dkwX0_put_2 ++ []
def dkwX0_put_1 : List UInt8 := [50, 28, 29, 145, 84, 17, 3, 232, 21, 4, 96, 172, 58, 4, 42, 4, 182, 0, 181, 172, 58, 4, 42, 5]
abbrev dktX0_put_1 : List UInt8 := dkwX0_put_1 ++ dktX0_put_2
def dkwX0_put_0 : List UInt8 := [27, 184, 0, 201, 154, 0, 5, 2, 172, 42, 180, 0, 31, 27, 50, 28, 51, 54, 4, 42, 180, 0, 31, 27]
abbrev dktX0_put_0 : List UInt8 := dkwX0_put_0 ++ dktX0_put_1
theorem dksX0_put_0 : cX0_put.data.toList.drop 0 = dktX0_put_0 := by decide +kernel
theorem dksX0_put_1 : cX0_put.data.toList.drop 24 = dktX0_put_1 := dk_seg dksX0_put_0 24 rfl rfl
theorem dksX0_put_2 : cX0_put.data.toList.drop 48 = dktX0_put_2 := dk_seg dksX0_put_1 24 rfl rfl
theorem dX0_put_0 : decode cX0_put 0 = .ok (.iload_n 1, 1) := dk_27 (dk_at dksX0_put_0 0 rfl rfl)
theorem dX0_put_1 : decode cX0_put 1 = .ok (.invokestatic 201, 3) := dk_184 0 201 (dk_at dksX0_put_0 1 rfl rfl)
theorem dX0_put_4 : decode cX0_put 4 = .ok (.ifCond .ne 5, 3) := dk_154 0 5 (dk_at dksX0_put_0 4 rfl rfl)
theorem dX0_put_7 : decode cX0_put 7 = .ok (.iconst (-1), 1) := dk_2 (dk_at dksX0_put_0 7 rfl rfl)
theorem dX0_put_8 : decode cX0_put 8 = .ok (.ireturn, 1) := dk_172 (dk_at dksX0_put_0 8 rfl rfl)
theorem dX0_put_9 : decode cX0_put 9 = .ok (.aload_n 0, 1) := dk_42 (dk_at dksX0_put_0 9 rfl rfl)
theorem dX0_put_10 : decode cX0_put 10 = .ok (.getfield 31, 3) := dk_180 0 31 (dk_at dksX0_put_0 10 rfl rfl)
theorem dX0_put_13 : decode cX0_put 13 = .ok (.iload_n 1, 1) := dk_27 (dk_at dksX0_put_0 13 rfl rfl)
theorem dX0_put_14 : decode cX0_put 14 = .ok (.aaload, 1) := dk_50 (dk_at dksX0_put_0 14 rfl rfl)
theorem dX0_put_15 : decode cX0_put 15 = .ok (.iload_n 2, 1) := dk_28 (dk_at dksX0_put_0 15 rfl rfl)
theorem dX0_put_16 : decode cX0_put 16 = .ok (.baload, 1) := dk_51 (dk_at dksX0_put_0 16 rfl rfl)
theorem dX0_put_17 : decode cX0_put 17 = .ok (.istore 4, 2) := dk_54 4 (dk_at dksX0_put_0 17 rfl rfl)
theorem dX0_put_19 : decode cX0_put 19 = .ok (.aload_n 0, 1) := dk_42 (dk_at dksX0_put_0 19 rfl rfl)
theorem dX0_put_20 : decode cX0_put 20 = .ok (.getfield 31, 3) := dk_180 0 31 (dk_at dksX0_put_0 20 rfl rfl)
theorem dX0_put_23 : decode cX0_put 23 = .ok (.iload_n 1, 1) := dk_27 (dk_at dksX0_put_0 23 rfl rfl)
theorem dX0_put_24 : decode cX0_put 24 = .ok (.aaload, 1) := dk_50 (dk_at dksX0_put_1 0 rfl rfl)
theorem dX0_put_25 : decode cX0_put 25 = .ok (.iload_n 2, 1) := dk_28 (dk_at dksX0_put_1 1 rfl rfl)
theorem dX0_put_26 : decode cX0_put 26 = .ok (.iload_n 3, 1) := dk_29 (dk_at dksX0_put_1 2 rfl rfl)
theorem dX0_put_27 : decode cX0_put 27 = .ok (.i2b, 1) := dk_145 (dk_at dksX0_put_1 3 rfl rfl)
theorem dX0_put_28 : decode cX0_put 28 = .ok (.bastore, 1) := dk_84 (dk_at dksX0_put_1 4 rfl rfl)
theorem dX0_put_29 : decode cX0_put 29 = .ok (.sipush 1000, 3) := dk_17 3 232 (dk_at dksX0_put_1 5 rfl rfl)
theorem dX0_put_32 : decode cX0_put 32 = .ok (.iload 4, 2) := dk_21 4 (dk_at dksX0_put_1 8 rfl rfl)
theorem dX0_put_34 : decode cX0_put 34 = .ok (.iadd, 1) := dk_96 (dk_at dksX0_put_1 10 rfl rfl)
theorem dX0_put_35 : decode cX0_put 35 = .ok (.ireturn, 1) := dk_172 (dk_at dksX0_put_1 11 rfl rfl)
theorem dX0_put_36 : decode cX0_put 36 = .ok (.astore 4, 2) := dk_58 4 (dk_at dksX0_put_1 12 rfl rfl)
theorem dX0_put_38 : decode cX0_put 38 = .ok (.aload_n 0, 1) := dk_42 (dk_at dksX0_put_1 14 rfl rfl)
theorem dX0_put_39 : decode cX0_put 39 = .ok (.iconst 1, 1) := dk_4 (dk_at dksX0_put_1 15 rfl rfl)
theorem dX0_put_40 : decode cX0_put 40 = .ok (.invokevirtual 181, 3) := dk_182 0 181 (dk_at dksX0_put_1 16 rfl rfl)
theorem dX0_put_43 : decode cX0_put 43 = .ok (.ireturn, 1) := dk_172 (dk_at dksX0_put_1 19 rfl rfl)
theorem dX0_put_44 : decode cX0_put 44 = .ok (.astore 4, 2) := dk_58 4 (dk_at dksX0_put_1 20 rfl rfl)
theorem dX0_put_46 : decode cX0_put 46 = .ok (.aload_n 0, 1) := dk_42 (dk_at dksX0_put_1 22 rfl rfl)
theorem dX0_put_47 : decode cX0_put 47 = .ok (.iconst 2, 1) := dk_5 (dk_at dksX0_put_1 23 rfl rfl)
theorem dX0_put_48 : decode cX0_put 48 = .ok (.invokevirtual 181, 3) := dk_182 0 181 (dk_at dksX0_put_2 0 rfl rfl)
theorem dX0_put_51 : decode cX0_put 51 = .ok (.ireturn, 1) := dk_172 (dk_at dksX0_put_2 3 rfl rfl)
abbrev cX0_fault : ByteArray := prog_1_method_21_code
def yX0_fault : MethodName := ⟨RX0, "fault", "(I)I"⟩
def dkwX0_fault_1 : List UInt8 := [167, 0, 13, 42, 42, 180, 0, 31, 27, 50, 182, 0, 214, 172]
abbrev dktX0_fault_1 : List UInt8 := dkwX0_fault_1 ++ []
def dkwX0_fault_0 : List UInt8 := [27, 184, 0, 201, 154, 0, 5, 2, 172, 42, 180, 0, 31, 27, 50, 199, 0, 11, 42, 4, 182, 0, 181]
abbrev dktX0_fault_0 : List UInt8 := dkwX0_fault_0 ++ dktX0_fault_1
theorem dksX0_fault_0 : cX0_fault.data.toList.drop 0 = dktX0_fault_0 := by decide +kernel
theorem dksX0_fault_1 : cX0_fault.data.toList.drop 23 = dktX0_fault_1 := dk_seg dksX0_fault_0 23 rfl rfl
theorem dX0_fault_0 : decode cX0_fault 0 = .ok (.iload_n 1, 1) := dk_27 (dk_at dksX0_fault_0 0 rfl rfl)
theorem dX0_fault_1 : decode cX0_fault 1 = .ok (.invokestatic 201, 3) := dk_184 0 201 (dk_at dksX0_fault_0 1 rfl rfl)
theorem dX0_fault_4 : decode cX0_fault 4 = .ok (.ifCond .ne 5, 3) := dk_154 0 5 (dk_at dksX0_fault_0 4 rfl rfl)
theorem dX0_fault_7 : decode cX0_fault 7 = .ok (.iconst (-1), 1) := dk_2 (dk_at dksX0_fault_0 7 rfl rfl)
theorem dX0_fault_8 : decode cX0_fault 8 = .ok (.ireturn, 1) := dk_172 (dk_at dksX0_fault_0 8 rfl rfl)
theorem dX0_fault_9 : decode cX0_fault 9 = .ok (.aload_n 0, 1) := dk_42 (dk_at dksX0_fault_0 9 rfl rfl)
theorem dX0_fault_10 : decode cX0_fault 10 = .ok (.getfield 31, 3) := dk_180 0 31 (dk_at dksX0_fault_0 10 rfl rfl)
theorem dX0_fault_13 : decode cX0_fault 13 = .ok (.iload_n 1, 1) := dk_27 (dk_at dksX0_fault_0 13 rfl rfl)
theorem dX0_fault_14 : decode cX0_fault 14 = .ok (.aaload, 1) := dk_50 (dk_at dksX0_fault_0 14 rfl rfl)
theorem dX0_fault_15 : decode cX0_fault 15 = .ok (.ifnonnull 11, 3) := dk_199 0 11 (dk_at dksX0_fault_0 15 rfl rfl)
theorem dX0_fault_18 : decode cX0_fault 18 = .ok (.aload_n 0, 1) := dk_42 (dk_at dksX0_fault_0 18 rfl rfl)
theorem dX0_fault_19 : decode cX0_fault 19 = .ok (.iconst 1, 1) := dk_4 (dk_at dksX0_fault_0 19 rfl rfl)
theorem dX0_fault_20 : decode cX0_fault 20 = .ok (.invokevirtual 181, 3) := dk_182 0 181 (dk_at dksX0_fault_0 20 rfl rfl)
theorem dX0_fault_23 : decode cX0_fault 23 = .ok (.goto 13, 3) := dk_167 0 13 (dk_at dksX0_fault_1 0 rfl rfl)
theorem dX0_fault_26 : decode cX0_fault 26 = .ok (.aload_n 0, 1) := dk_42 (dk_at dksX0_fault_1 3 rfl rfl)
theorem dX0_fault_27 : decode cX0_fault 27 = .ok (.aload_n 0, 1) := dk_42 (dk_at dksX0_fault_1 4 rfl rfl)
theorem dX0_fault_28 : decode cX0_fault 28 = .ok (.getfield 31, 3) := dk_180 0 31 (dk_at dksX0_fault_1 5 rfl rfl)
theorem dX0_fault_31 : decode cX0_fault 31 = .ok (.iload_n 1, 1) := dk_27 (dk_at dksX0_fault_1 8 rfl rfl)
theorem dX0_fault_32 : decode cX0_fault 32 = .ok (.aaload, 1) := dk_50 (dk_at dksX0_fault_1 9 rfl rfl)
theorem dX0_fault_33 : decode cX0_fault 33 = .ok (.invokevirtual 214, 3) := dk_182 0 214 (dk_at dksX0_fault_1 10 rfl rfl)
theorem dX0_fault_36 : decode cX0_fault 36 = .ok (.ireturn, 1) := dk_172 (dk_at dksX0_fault_1 13 rfl rfl)
abbrev cX0_read : ByteArray := prog_1_method_20_code
def yX0_read : MethodName := ⟨RX0, "read", "([B)I"⟩
def dkwX0_read_7 : List UInt8 := [89, 180, 0, 204, 4, 96, 181, 0, 204, 167, 255, 88, 16, 247, 172]
abbrev dktX0_read_7 : List UInt8 := dkwX0_read_7 ++ []
def dkwX0_read_6 : List UInt8 := [79, 42, 180, 0, 38, 42, 180, 0, 204, 21, 4, 79, 42, 180, 0, 41, 42, 180, 0, 204, 21, 5, 79, 42]
abbrev dktX0_read_6 : List UInt8 := dkwX0_read_6 ++ dktX0_read_7
def dkwX0_read_5 : List UInt8 := [96, 16, 48, 100, 54, 5, 132, 2, 1, 132, 6, 1, 167, 255, 220, 42, 180, 0, 35, 42, 180, 0, 204, 29]
abbrev dktX0_read_5 : List UInt8 := dkwX0_read_5 ++ dktX0_read_6
def dkwX0_read_4 : List UInt8 := [21, 6, 7, 162, 0, 36, 43, 28, 16, 9, 184, 0, 210, 153, 0, 26, 16, 10, 21, 5, 104, 43, 28, 51]
abbrev dktX0_read_4 : List UInt8 := dkwX0_read_4 ++ dktX0_read_5
def dkwX0_read_3 : List UInt8 := [54, 4, 132, 2, 1, 43, 28, 16, 9, 184, 0, 210, 154, 0, 5, 28, 172, 3, 54, 5, 3, 54, 6]
abbrev dktX0_read_3 : List UInt8 := dkwX0_read_3 ++ dktX0_read_4
def dkwX0_read_2 : List UInt8 := [29, 5, 162, 0, 26, 43, 28, 16, 7, 184, 0, 210, 154, 0, 5, 28, 172, 43, 28, 51, 16, 48, 100]
abbrev dktX0_read_2 : List UInt8 := dkwX0_read_2 ++ dktX0_read_3
def dkwX0_read_1 : List UInt8 := [167, 255, 239, 43, 28, 51, 184, 0, 207, 62, 29, 16, 247, 160, 0, 5, 28, 172, 132, 2, 1, 3, 54, 4]
abbrev dktX0_read_1 : List UInt8 := dkwX0_read_1 ++ dktX0_read_2
def dkwX0_read_0 : List UInt8 := [42, 3, 181, 0, 204, 3, 61, 28, 43, 190, 162, 0, 168, 43, 28, 51, 16, 32, 160, 0, 9, 132, 2, 1]
abbrev dktX0_read_0 : List UInt8 := dkwX0_read_0 ++ dktX0_read_1
theorem dksX0_read_0 : cX0_read.data.toList.drop 0 = dktX0_read_0 := by decide +kernel
theorem dksX0_read_1 : cX0_read.data.toList.drop 24 = dktX0_read_1 := dk_seg dksX0_read_0 24 rfl rfl
theorem dksX0_read_2 : cX0_read.data.toList.drop 48 = dktX0_read_2 := dk_seg dksX0_read_1 24 rfl rfl
theorem dksX0_read_3 : cX0_read.data.toList.drop 71 = dktX0_read_3 := dk_seg dksX0_read_2 23 rfl rfl
theorem dksX0_read_4 : cX0_read.data.toList.drop 94 = dktX0_read_4 := dk_seg dksX0_read_3 23 rfl rfl
theorem dksX0_read_5 : cX0_read.data.toList.drop 118 = dktX0_read_5 := dk_seg dksX0_read_4 24 rfl rfl
theorem dksX0_read_6 : cX0_read.data.toList.drop 142 = dktX0_read_6 := dk_seg dksX0_read_5 24 rfl rfl
theorem dksX0_read_7 : cX0_read.data.toList.drop 166 = dktX0_read_7 := dk_seg dksX0_read_6 24 rfl rfl
theorem dX0_read_0 : decode cX0_read 0 = .ok (.aload_n 0, 1) := dk_42 (dk_at dksX0_read_0 0 rfl rfl)
theorem dX0_read_1 : decode cX0_read 1 = .ok (.iconst 0, 1) := dk_3 (dk_at dksX0_read_0 1 rfl rfl)
theorem dX0_read_2 : decode cX0_read 2 = .ok (.putfield 204, 3) := dk_181 0 204 (dk_at dksX0_read_0 2 rfl rfl)
theorem dX0_read_5 : decode cX0_read 5 = .ok (.iconst 0, 1) := dk_3 (dk_at dksX0_read_0 5 rfl rfl)
theorem dX0_read_6 : decode cX0_read 6 = .ok (.istore_n 2, 1) := dk_61 (dk_at dksX0_read_0 6 rfl rfl)
theorem dX0_read_7 : decode cX0_read 7 = .ok (.iload_n 2, 1) := dk_28 (dk_at dksX0_read_0 7 rfl rfl)
theorem dX0_read_8 : decode cX0_read 8 = .ok (.aload_n 1, 1) := dk_43 (dk_at dksX0_read_0 8 rfl rfl)
theorem dX0_read_9 : decode cX0_read 9 = .ok (.arraylength, 1) := dk_190 (dk_at dksX0_read_0 9 rfl rfl)
theorem dX0_read_10 : decode cX0_read 10 = .ok (.if_icmp .ge 168, 3) := dk_162 0 168 (dk_at dksX0_read_0 10 rfl rfl)
theorem dX0_read_13 : decode cX0_read 13 = .ok (.aload_n 1, 1) := dk_43 (dk_at dksX0_read_0 13 rfl rfl)
theorem dX0_read_14 : decode cX0_read 14 = .ok (.iload_n 2, 1) := dk_28 (dk_at dksX0_read_0 14 rfl rfl)
theorem dX0_read_15 : decode cX0_read 15 = .ok (.baload, 1) := dk_51 (dk_at dksX0_read_0 15 rfl rfl)
theorem dX0_read_16 : decode cX0_read 16 = .ok (.bipush 32, 2) := dk_16 32 (dk_at dksX0_read_0 16 rfl rfl)
theorem dX0_read_18 : decode cX0_read 18 = .ok (.if_icmp .ne 9, 3) := dk_160 0 9 (dk_at dksX0_read_0 18 rfl rfl)
theorem dX0_read_21 : decode cX0_read 21 = .ok (.iinc 2 1, 3) := dk_132 2 1 (dk_at dksX0_read_0 21 rfl rfl)
theorem dX0_read_24 : decode cX0_read 24 = .ok (.goto (-17), 3) := dk_167 255 239 (dk_at dksX0_read_1 0 rfl rfl)
theorem dX0_read_27 : decode cX0_read 27 = .ok (.aload_n 1, 1) := dk_43 (dk_at dksX0_read_1 3 rfl rfl)
theorem dX0_read_28 : decode cX0_read 28 = .ok (.iload_n 2, 1) := dk_28 (dk_at dksX0_read_1 4 rfl rfl)
theorem dX0_read_29 : decode cX0_read 29 = .ok (.baload, 1) := dk_51 (dk_at dksX0_read_1 5 rfl rfl)
theorem dX0_read_30 : decode cX0_read 30 = .ok (.invokestatic 207, 3) := dk_184 0 207 (dk_at dksX0_read_1 6 rfl rfl)
theorem dX0_read_33 : decode cX0_read 33 = .ok (.istore_n 3, 1) := dk_62 (dk_at dksX0_read_1 9 rfl rfl)
theorem dX0_read_34 : decode cX0_read 34 = .ok (.iload_n 3, 1) := dk_29 (dk_at dksX0_read_1 10 rfl rfl)
theorem dX0_read_35 : decode cX0_read 35 = .ok (.bipush (-9), 2) := dk_16 247 (dk_at dksX0_read_1 11 rfl rfl)
theorem dX0_read_37 : decode cX0_read 37 = .ok (.if_icmp .ne 5, 3) := dk_160 0 5 (dk_at dksX0_read_1 13 rfl rfl)
theorem dX0_read_40 : decode cX0_read 40 = .ok (.iload_n 2, 1) := dk_28 (dk_at dksX0_read_1 16 rfl rfl)
theorem dX0_read_41 : decode cX0_read 41 = .ok (.ireturn, 1) := dk_172 (dk_at dksX0_read_1 17 rfl rfl)
theorem dX0_read_42 : decode cX0_read 42 = .ok (.iinc 2 1, 3) := dk_132 2 1 (dk_at dksX0_read_1 18 rfl rfl)
theorem dX0_read_45 : decode cX0_read 45 = .ok (.iconst 0, 1) := dk_3 (dk_at dksX0_read_1 21 rfl rfl)
theorem dX0_read_46 : decode cX0_read 46 = .ok (.istore 4, 2) := dk_54 4 (dk_at dksX0_read_1 22 rfl rfl)
theorem dX0_read_48 : decode cX0_read 48 = .ok (.iload_n 3, 1) := dk_29 (dk_at dksX0_read_2 0 rfl rfl)
theorem dX0_read_49 : decode cX0_read 49 = .ok (.iconst 2, 1) := dk_5 (dk_at dksX0_read_2 1 rfl rfl)
theorem dX0_read_50 : decode cX0_read 50 = .ok (.if_icmp .ge 26, 3) := dk_162 0 26 (dk_at dksX0_read_2 2 rfl rfl)
theorem dX0_read_53 : decode cX0_read 53 = .ok (.aload_n 1, 1) := dk_43 (dk_at dksX0_read_2 5 rfl rfl)
theorem dX0_read_54 : decode cX0_read 54 = .ok (.iload_n 2, 1) := dk_28 (dk_at dksX0_read_2 6 rfl rfl)
theorem dX0_read_55 : decode cX0_read 55 = .ok (.bipush 7, 2) := dk_16 7 (dk_at dksX0_read_2 7 rfl rfl)
theorem dX0_read_57 : decode cX0_read 57 = .ok (.invokestatic 210, 3) := dk_184 0 210 (dk_at dksX0_read_2 9 rfl rfl)
theorem dX0_read_60 : decode cX0_read 60 = .ok (.ifCond .ne 5, 3) := dk_154 0 5 (dk_at dksX0_read_2 12 rfl rfl)
theorem dX0_read_63 : decode cX0_read 63 = .ok (.iload_n 2, 1) := dk_28 (dk_at dksX0_read_2 15 rfl rfl)
theorem dX0_read_64 : decode cX0_read 64 = .ok (.ireturn, 1) := dk_172 (dk_at dksX0_read_2 16 rfl rfl)
theorem dX0_read_65 : decode cX0_read 65 = .ok (.aload_n 1, 1) := dk_43 (dk_at dksX0_read_2 17 rfl rfl)
theorem dX0_read_66 : decode cX0_read 66 = .ok (.iload_n 2, 1) := dk_28 (dk_at dksX0_read_2 18 rfl rfl)
theorem dX0_read_67 : decode cX0_read 67 = .ok (.baload, 1) := dk_51 (dk_at dksX0_read_2 19 rfl rfl)
theorem dX0_read_68 : decode cX0_read 68 = .ok (.bipush 48, 2) := dk_16 48 (dk_at dksX0_read_2 20 rfl rfl)
theorem dX0_read_70 : decode cX0_read 70 = .ok (.isub, 1) := dk_100 (dk_at dksX0_read_2 22 rfl rfl)
theorem dX0_read_71 : decode cX0_read 71 = .ok (.istore 4, 2) := dk_54 4 (dk_at dksX0_read_3 0 rfl rfl)
theorem dX0_read_73 : decode cX0_read 73 = .ok (.iinc 2 1, 3) := dk_132 2 1 (dk_at dksX0_read_3 2 rfl rfl)
theorem dX0_read_76 : decode cX0_read 76 = .ok (.aload_n 1, 1) := dk_43 (dk_at dksX0_read_3 5 rfl rfl)
theorem dX0_read_77 : decode cX0_read 77 = .ok (.iload_n 2, 1) := dk_28 (dk_at dksX0_read_3 6 rfl rfl)
theorem dX0_read_78 : decode cX0_read 78 = .ok (.bipush 9, 2) := dk_16 9 (dk_at dksX0_read_3 7 rfl rfl)
theorem dX0_read_80 : decode cX0_read 80 = .ok (.invokestatic 210, 3) := dk_184 0 210 (dk_at dksX0_read_3 9 rfl rfl)
theorem dX0_read_83 : decode cX0_read 83 = .ok (.ifCond .ne 5, 3) := dk_154 0 5 (dk_at dksX0_read_3 12 rfl rfl)
theorem dX0_read_86 : decode cX0_read 86 = .ok (.iload_n 2, 1) := dk_28 (dk_at dksX0_read_3 15 rfl rfl)
theorem dX0_read_87 : decode cX0_read 87 = .ok (.ireturn, 1) := dk_172 (dk_at dksX0_read_3 16 rfl rfl)
theorem dX0_read_88 : decode cX0_read 88 = .ok (.iconst 0, 1) := dk_3 (dk_at dksX0_read_3 17 rfl rfl)
theorem dX0_read_89 : decode cX0_read 89 = .ok (.istore 5, 2) := dk_54 5 (dk_at dksX0_read_3 18 rfl rfl)
theorem dX0_read_91 : decode cX0_read 91 = .ok (.iconst 0, 1) := dk_3 (dk_at dksX0_read_3 20 rfl rfl)
theorem dX0_read_92 : decode cX0_read 92 = .ok (.istore 6, 2) := dk_54 6 (dk_at dksX0_read_3 21 rfl rfl)
theorem dX0_read_94 : decode cX0_read 94 = .ok (.iload 6, 2) := dk_21 6 (dk_at dksX0_read_4 0 rfl rfl)
theorem dX0_read_96 : decode cX0_read 96 = .ok (.iconst 4, 1) := dk_7 (dk_at dksX0_read_4 2 rfl rfl)
theorem dX0_read_97 : decode cX0_read 97 = .ok (.if_icmp .ge 36, 3) := dk_162 0 36 (dk_at dksX0_read_4 3 rfl rfl)
theorem dX0_read_100 : decode cX0_read 100 = .ok (.aload_n 1, 1) := dk_43 (dk_at dksX0_read_4 6 rfl rfl)
theorem dX0_read_101 : decode cX0_read 101 = .ok (.iload_n 2, 1) := dk_28 (dk_at dksX0_read_4 7 rfl rfl)
theorem dX0_read_102 : decode cX0_read 102 = .ok (.bipush 9, 2) := dk_16 9 (dk_at dksX0_read_4 8 rfl rfl)
theorem dX0_read_104 : decode cX0_read 104 = .ok (.invokestatic 210, 3) := dk_184 0 210 (dk_at dksX0_read_4 10 rfl rfl)
theorem dX0_read_107 : decode cX0_read 107 = .ok (.ifCond .eq 26, 3) := dk_153 0 26 (dk_at dksX0_read_4 13 rfl rfl)
theorem dX0_read_110 : decode cX0_read 110 = .ok (.bipush 10, 2) := dk_16 10 (dk_at dksX0_read_4 16 rfl rfl)
theorem dX0_read_112 : decode cX0_read 112 = .ok (.iload 5, 2) := dk_21 5 (dk_at dksX0_read_4 18 rfl rfl)
theorem dX0_read_114 : decode cX0_read 114 = .ok (.imul, 1) := dk_104 (dk_at dksX0_read_4 20 rfl rfl)
theorem dX0_read_115 : decode cX0_read 115 = .ok (.aload_n 1, 1) := dk_43 (dk_at dksX0_read_4 21 rfl rfl)
theorem dX0_read_116 : decode cX0_read 116 = .ok (.iload_n 2, 1) := dk_28 (dk_at dksX0_read_4 22 rfl rfl)
theorem dX0_read_117 : decode cX0_read 117 = .ok (.baload, 1) := dk_51 (dk_at dksX0_read_4 23 rfl rfl)
theorem dX0_read_118 : decode cX0_read 118 = .ok (.iadd, 1) := dk_96 (dk_at dksX0_read_5 0 rfl rfl)
theorem dX0_read_119 : decode cX0_read 119 = .ok (.bipush 48, 2) := dk_16 48 (dk_at dksX0_read_5 1 rfl rfl)
theorem dX0_read_121 : decode cX0_read 121 = .ok (.isub, 1) := dk_100 (dk_at dksX0_read_5 3 rfl rfl)
theorem dX0_read_122 : decode cX0_read 122 = .ok (.istore 5, 2) := dk_54 5 (dk_at dksX0_read_5 4 rfl rfl)
theorem dX0_read_124 : decode cX0_read 124 = .ok (.iinc 2 1, 3) := dk_132 2 1 (dk_at dksX0_read_5 6 rfl rfl)
theorem dX0_read_127 : decode cX0_read 127 = .ok (.iinc 6 1, 3) := dk_132 6 1 (dk_at dksX0_read_5 9 rfl rfl)
theorem dX0_read_130 : decode cX0_read 130 = .ok (.goto (-36), 3) := dk_167 255 220 (dk_at dksX0_read_5 12 rfl rfl)
theorem dX0_read_133 : decode cX0_read 133 = .ok (.aload_n 0, 1) := dk_42 (dk_at dksX0_read_5 15 rfl rfl)
theorem dX0_read_134 : decode cX0_read 134 = .ok (.getfield 35, 3) := dk_180 0 35 (dk_at dksX0_read_5 16 rfl rfl)
theorem dX0_read_137 : decode cX0_read 137 = .ok (.aload_n 0, 1) := dk_42 (dk_at dksX0_read_5 19 rfl rfl)
theorem dX0_read_138 : decode cX0_read 138 = .ok (.getfield 204, 3) := dk_180 0 204 (dk_at dksX0_read_5 20 rfl rfl)
theorem dX0_read_141 : decode cX0_read 141 = .ok (.iload_n 3, 1) := dk_29 (dk_at dksX0_read_5 23 rfl rfl)
theorem dX0_read_142 : decode cX0_read 142 = .ok (.iastore, 1) := dk_79 (dk_at dksX0_read_6 0 rfl rfl)
theorem dX0_read_143 : decode cX0_read 143 = .ok (.aload_n 0, 1) := dk_42 (dk_at dksX0_read_6 1 rfl rfl)
theorem dX0_read_144 : decode cX0_read 144 = .ok (.getfield 38, 3) := dk_180 0 38 (dk_at dksX0_read_6 2 rfl rfl)
theorem dX0_read_147 : decode cX0_read 147 = .ok (.aload_n 0, 1) := dk_42 (dk_at dksX0_read_6 5 rfl rfl)
theorem dX0_read_148 : decode cX0_read 148 = .ok (.getfield 204, 3) := dk_180 0 204 (dk_at dksX0_read_6 6 rfl rfl)
theorem dX0_read_151 : decode cX0_read 151 = .ok (.iload 4, 2) := dk_21 4 (dk_at dksX0_read_6 9 rfl rfl)
theorem dX0_read_153 : decode cX0_read 153 = .ok (.iastore, 1) := dk_79 (dk_at dksX0_read_6 11 rfl rfl)
theorem dX0_read_154 : decode cX0_read 154 = .ok (.aload_n 0, 1) := dk_42 (dk_at dksX0_read_6 12 rfl rfl)
theorem dX0_read_155 : decode cX0_read 155 = .ok (.getfield 41, 3) := dk_180 0 41 (dk_at dksX0_read_6 13 rfl rfl)
theorem dX0_read_158 : decode cX0_read 158 = .ok (.aload_n 0, 1) := dk_42 (dk_at dksX0_read_6 16 rfl rfl)
theorem dX0_read_159 : decode cX0_read 159 = .ok (.getfield 204, 3) := dk_180 0 204 (dk_at dksX0_read_6 17 rfl rfl)
theorem dX0_read_162 : decode cX0_read 162 = .ok (.iload 5, 2) := dk_21 5 (dk_at dksX0_read_6 20 rfl rfl)
theorem dX0_read_164 : decode cX0_read 164 = .ok (.iastore, 1) := dk_79 (dk_at dksX0_read_6 22 rfl rfl)
theorem dX0_read_165 : decode cX0_read 165 = .ok (.aload_n 0, 1) := dk_42 (dk_at dksX0_read_6 23 rfl rfl)
theorem dX0_read_166 : decode cX0_read 166 = .ok (.dup, 1) := dk_89 (dk_at dksX0_read_7 0 rfl rfl)
theorem dX0_read_167 : decode cX0_read 167 = .ok (.getfield 204, 3) := dk_180 0 204 (dk_at dksX0_read_7 1 rfl rfl)
theorem dX0_read_170 : decode cX0_read 170 = .ok (.iconst 1, 1) := dk_4 (dk_at dksX0_read_7 4 rfl rfl)
theorem dX0_read_171 : decode cX0_read 171 = .ok (.iadd, 1) := dk_96 (dk_at dksX0_read_7 5 rfl rfl)
theorem dX0_read_172 : decode cX0_read 172 = .ok (.putfield 204, 3) := dk_181 0 204 (dk_at dksX0_read_7 6 rfl rfl)
theorem dX0_read_175 : decode cX0_read 175 = .ok (.goto (-168), 3) := dk_167 255 88 (dk_at dksX0_read_7 9 rfl rfl)
theorem dX0_read_178 : decode cX0_read 178 = .ok (.bipush (-9), 2) := dk_16 247 (dk_at dksX0_read_7 12 rfl rfl)
theorem dX0_read_180 : decode cX0_read 180 = .ok (.ireturn, 1) := dk_172 (dk_at dksX0_read_7 14 rfl rfl)
abbrev cX0_whatOf : ByteArray := prog_1_method_19_code
def yX0_whatOf : MethodName := ⟨RX0, "whatOf", "(I)I"⟩
def dkwX0_whatOf_1 : List UInt8 := [160, 0, 7, 5, 167, 0, 15, 26, 16, 82, 160, 0, 7, 6, 167, 0, 5, 16, 247, 172]
abbrev dktX0_whatOf_1 : List UInt8 := dkwX0_whatOf_1 ++ []
def dkwX0_whatOf_0 : List UInt8 := [26, 16, 70, 160, 0, 7, 3, 167, 0, 35, 26, 16, 68, 160, 0, 7, 4, 167, 0, 25, 26, 16, 72]
abbrev dktX0_whatOf_0 : List UInt8 := dkwX0_whatOf_0 ++ dktX0_whatOf_1
theorem dksX0_whatOf_0 : cX0_whatOf.data.toList.drop 0 = dktX0_whatOf_0 := by decide +kernel
theorem dksX0_whatOf_1 : cX0_whatOf.data.toList.drop 23 = dktX0_whatOf_1 := dk_seg dksX0_whatOf_0 23 rfl rfl
theorem dX0_whatOf_0 : decode cX0_whatOf 0 = .ok (.iload_n 0, 1) := dk_26 (dk_at dksX0_whatOf_0 0 rfl rfl)
theorem dX0_whatOf_1 : decode cX0_whatOf 1 = .ok (.bipush 70, 2) := dk_16 70 (dk_at dksX0_whatOf_0 1 rfl rfl)
theorem dX0_whatOf_3 : decode cX0_whatOf 3 = .ok (.if_icmp .ne 7, 3) := dk_160 0 7 (dk_at dksX0_whatOf_0 3 rfl rfl)
theorem dX0_whatOf_6 : decode cX0_whatOf 6 = .ok (.iconst 0, 1) := dk_3 (dk_at dksX0_whatOf_0 6 rfl rfl)
theorem dX0_whatOf_7 : decode cX0_whatOf 7 = .ok (.goto 35, 3) := dk_167 0 35 (dk_at dksX0_whatOf_0 7 rfl rfl)
theorem dX0_whatOf_10 : decode cX0_whatOf 10 = .ok (.iload_n 0, 1) := dk_26 (dk_at dksX0_whatOf_0 10 rfl rfl)
theorem dX0_whatOf_11 : decode cX0_whatOf 11 = .ok (.bipush 68, 2) := dk_16 68 (dk_at dksX0_whatOf_0 11 rfl rfl)
theorem dX0_whatOf_13 : decode cX0_whatOf 13 = .ok (.if_icmp .ne 7, 3) := dk_160 0 7 (dk_at dksX0_whatOf_0 13 rfl rfl)
theorem dX0_whatOf_16 : decode cX0_whatOf 16 = .ok (.iconst 1, 1) := dk_4 (dk_at dksX0_whatOf_0 16 rfl rfl)
theorem dX0_whatOf_17 : decode cX0_whatOf 17 = .ok (.goto 25, 3) := dk_167 0 25 (dk_at dksX0_whatOf_0 17 rfl rfl)
theorem dX0_whatOf_20 : decode cX0_whatOf 20 = .ok (.iload_n 0, 1) := dk_26 (dk_at dksX0_whatOf_0 20 rfl rfl)
theorem dX0_whatOf_21 : decode cX0_whatOf 21 = .ok (.bipush 72, 2) := dk_16 72 (dk_at dksX0_whatOf_0 21 rfl rfl)
theorem dX0_whatOf_23 : decode cX0_whatOf 23 = .ok (.if_icmp .ne 7, 3) := dk_160 0 7 (dk_at dksX0_whatOf_1 0 rfl rfl)
theorem dX0_whatOf_26 : decode cX0_whatOf 26 = .ok (.iconst 2, 1) := dk_5 (dk_at dksX0_whatOf_1 3 rfl rfl)
theorem dX0_whatOf_27 : decode cX0_whatOf 27 = .ok (.goto 15, 3) := dk_167 0 15 (dk_at dksX0_whatOf_1 4 rfl rfl)
theorem dX0_whatOf_30 : decode cX0_whatOf 30 = .ok (.iload_n 0, 1) := dk_26 (dk_at dksX0_whatOf_1 7 rfl rfl)
theorem dX0_whatOf_31 : decode cX0_whatOf 31 = .ok (.bipush 82, 2) := dk_16 82 (dk_at dksX0_whatOf_1 8 rfl rfl)
theorem dX0_whatOf_33 : decode cX0_whatOf 33 = .ok (.if_icmp .ne 7, 3) := dk_160 0 7 (dk_at dksX0_whatOf_1 10 rfl rfl)
theorem dX0_whatOf_36 : decode cX0_whatOf 36 = .ok (.iconst 3, 1) := dk_6 (dk_at dksX0_whatOf_1 13 rfl rfl)
theorem dX0_whatOf_37 : decode cX0_whatOf 37 = .ok (.goto 5, 3) := dk_167 0 5 (dk_at dksX0_whatOf_1 14 rfl rfl)
theorem dX0_whatOf_40 : decode cX0_whatOf 40 = .ok (.bipush (-9), 2) := dk_16 247 (dk_at dksX0_whatOf_1 17 rfl rfl)
theorem dX0_whatOf_42 : decode cX0_whatOf 42 = .ok (.ireturn, 1) := dk_172 (dk_at dksX0_whatOf_1 19 rfl rfl)
abbrev cX0_isFigure : ByteArray := prog_1_method_18_code
def yX0_isFigure : MethodName := ⟨RX0, "isFigure", "([BII)Z"⟩
def dkwX0_isFigure_1 : List UInt8 := [167, 0, 4, 3, 172]
abbrev dktX0_isFigure_1 : List UInt8 := dkwX0_isFigure_1 ++ []
def dkwX0_isFigure_0 : List UInt8 := [27, 42, 190, 162, 0, 22, 42, 27, 51, 16, 48, 16, 48, 28, 96, 184, 0, 171, 153, 0, 7, 4]
abbrev dktX0_isFigure_0 : List UInt8 := dkwX0_isFigure_0 ++ dktX0_isFigure_1
theorem dksX0_isFigure_0 : cX0_isFigure.data.toList.drop 0 = dktX0_isFigure_0 := by decide +kernel
theorem dksX0_isFigure_1 : cX0_isFigure.data.toList.drop 22 = dktX0_isFigure_1 := dk_seg dksX0_isFigure_0 22 rfl rfl
theorem dX0_isFigure_0 : decode cX0_isFigure 0 = .ok (.iload_n 1, 1) := dk_27 (dk_at dksX0_isFigure_0 0 rfl rfl)
theorem dX0_isFigure_1 : decode cX0_isFigure 1 = .ok (.aload_n 0, 1) := dk_42 (dk_at dksX0_isFigure_0 1 rfl rfl)
theorem dX0_isFigure_2 : decode cX0_isFigure 2 = .ok (.arraylength, 1) := dk_190 (dk_at dksX0_isFigure_0 2 rfl rfl)
theorem dX0_isFigure_3 : decode cX0_isFigure 3 = .ok (.if_icmp .ge 22, 3) := dk_162 0 22 (dk_at dksX0_isFigure_0 3 rfl rfl)
theorem dX0_isFigure_6 : decode cX0_isFigure 6 = .ok (.aload_n 0, 1) := dk_42 (dk_at dksX0_isFigure_0 6 rfl rfl)
theorem dX0_isFigure_7 : decode cX0_isFigure 7 = .ok (.iload_n 1, 1) := dk_27 (dk_at dksX0_isFigure_0 7 rfl rfl)
theorem dX0_isFigure_8 : decode cX0_isFigure 8 = .ok (.baload, 1) := dk_51 (dk_at dksX0_isFigure_0 8 rfl rfl)
theorem dX0_isFigure_9 : decode cX0_isFigure 9 = .ok (.bipush 48, 2) := dk_16 48 (dk_at dksX0_isFigure_0 9 rfl rfl)
theorem dX0_isFigure_11 : decode cX0_isFigure 11 = .ok (.bipush 48, 2) := dk_16 48 (dk_at dksX0_isFigure_0 11 rfl rfl)
theorem dX0_isFigure_13 : decode cX0_isFigure 13 = .ok (.iload_n 2, 1) := dk_28 (dk_at dksX0_isFigure_0 13 rfl rfl)
theorem dX0_isFigure_14 : decode cX0_isFigure 14 = .ok (.iadd, 1) := dk_96 (dk_at dksX0_isFigure_0 14 rfl rfl)
theorem dX0_isFigure_15 : decode cX0_isFigure 15 = .ok (.invokestatic 171, 3) := dk_184 0 171 (dk_at dksX0_isFigure_0 15 rfl rfl)
theorem dX0_isFigure_18 : decode cX0_isFigure 18 = .ok (.ifCond .eq 7, 3) := dk_153 0 7 (dk_at dksX0_isFigure_0 18 rfl rfl)
theorem dX0_isFigure_21 : decode cX0_isFigure 21 = .ok (.iconst 1, 1) := dk_4 (dk_at dksX0_isFigure_0 21 rfl rfl)
theorem dX0_isFigure_22 : decode cX0_isFigure 22 = .ok (.goto 4, 3) := dk_167 0 4 (dk_at dksX0_isFigure_1 0 rfl rfl)
theorem dX0_isFigure_25 : decode cX0_isFigure 25 = .ok (.iconst 0, 1) := dk_3 (dk_at dksX0_isFigure_1 3 rfl rfl)
theorem dX0_isFigure_26 : decode cX0_isFigure 26 = .ok (.ireturn, 1) := dk_172 (dk_at dksX0_isFigure_1 4 rfl rfl)
abbrev cX0_later : ByteArray := prog_1_method_23_code
def yX0_later : MethodName := ⟨RX0, "later", "(I)I"⟩
def dkwX0_later_1 : List UInt8 := [181, 0, 219, 42, 180, 0, 219, 172]
abbrev dktX0_later_1 : List UInt8 := dkwX0_later_1 ++ []
def dkwX0_later_0 : List UInt8 := [27, 155, 0, 14, 27, 18, 218, 42, 180, 0, 219, 100, 164, 0, 5, 2, 172, 42, 89, 180, 0, 219, 27, 96]
abbrev dktX0_later_0 : List UInt8 := dkwX0_later_0 ++ dktX0_later_1
theorem dksX0_later_0 : cX0_later.data.toList.drop 0 = dktX0_later_0 := by decide +kernel
theorem dksX0_later_1 : cX0_later.data.toList.drop 24 = dktX0_later_1 := dk_seg dksX0_later_0 24 rfl rfl
theorem dX0_later_0 : decode cX0_later 0 = .ok (.iload_n 1, 1) := dk_27 (dk_at dksX0_later_0 0 rfl rfl)
theorem dX0_later_1 : decode cX0_later 1 = .ok (.ifCond .lt 14, 3) := dk_155 0 14 (dk_at dksX0_later_0 1 rfl rfl)
theorem dX0_later_4 : decode cX0_later 4 = .ok (.iload_n 1, 1) := dk_27 (dk_at dksX0_later_0 4 rfl rfl)
theorem dX0_later_5 : decode cX0_later 5 = .ok (.ldc 218, 2) := dk_18 218 (dk_at dksX0_later_0 5 rfl rfl)
theorem dX0_later_7 : decode cX0_later 7 = .ok (.aload_n 0, 1) := dk_42 (dk_at dksX0_later_0 7 rfl rfl)
theorem dX0_later_8 : decode cX0_later 8 = .ok (.getfield 219, 3) := dk_180 0 219 (dk_at dksX0_later_0 8 rfl rfl)
theorem dX0_later_11 : decode cX0_later 11 = .ok (.isub, 1) := dk_100 (dk_at dksX0_later_0 11 rfl rfl)
theorem dX0_later_12 : decode cX0_later 12 = .ok (.if_icmp .le 5, 3) := dk_164 0 5 (dk_at dksX0_later_0 12 rfl rfl)
theorem dX0_later_15 : decode cX0_later 15 = .ok (.iconst (-1), 1) := dk_2 (dk_at dksX0_later_0 15 rfl rfl)
theorem dX0_later_16 : decode cX0_later 16 = .ok (.ireturn, 1) := dk_172 (dk_at dksX0_later_0 16 rfl rfl)
theorem dX0_later_17 : decode cX0_later 17 = .ok (.aload_n 0, 1) := dk_42 (dk_at dksX0_later_0 17 rfl rfl)
theorem dX0_later_18 : decode cX0_later 18 = .ok (.dup, 1) := dk_89 (dk_at dksX0_later_0 18 rfl rfl)
theorem dX0_later_19 : decode cX0_later 19 = .ok (.getfield 219, 3) := dk_180 0 219 (dk_at dksX0_later_0 19 rfl rfl)
theorem dX0_later_22 : decode cX0_later 22 = .ok (.iload_n 1, 1) := dk_27 (dk_at dksX0_later_0 22 rfl rfl)
theorem dX0_later_23 : decode cX0_later 23 = .ok (.iadd, 1) := dk_96 (dk_at dksX0_later_0 23 rfl rfl)
theorem dX0_later_24 : decode cX0_later 24 = .ok (.putfield 219, 3) := dk_181 0 219 (dk_at dksX0_later_1 0 rfl rfl)
theorem dX0_later_27 : decode cX0_later 27 = .ok (.aload_n 0, 1) := dk_42 (dk_at dksX0_later_1 3 rfl rfl)
theorem dX0_later_28 : decode cX0_later 28 = .ok (.getfield 219, 3) := dk_180 0 219 (dk_at dksX0_later_1 4 rfl rfl)
theorem dX0_later_31 : decode cX0_later 31 = .ok (.ireturn, 1) := dk_172 (dk_at dksX0_later_1 7 rfl rfl)
abbrev cX0_way : ByteArray := prog_1_method_26_code
def yX0_way : MethodName := ⟨RX0, "way", "(IIII)I"⟩
def dkwX0_way_3 : List UInt8 := [184, 0, 225, 42, 180, 0, 53, 27, 28, 3, 184, 0, 225, 4, 172]
abbrev dktX0_way_3 : List UInt8 := dkwX0_way_3 ++ []
def dkwX0_way_2 : List UInt8 := [27, 28, 29, 184, 0, 225, 42, 180, 0, 47, 27, 28, 21, 4, 184, 0, 225, 42, 180, 0, 50, 27, 28, 3]
abbrev dktX0_way_2 : List UInt8 := dkwX0_way_2 ++ dktX0_way_3
def dkwX0_way_1 : List UInt8 := [184, 0, 171, 153, 0, 15, 21, 4, 3, 17, 3, 231, 184, 0, 171, 154, 0, 5, 2, 172, 42, 180, 0, 44]
abbrev dktX0_way_1 : List UInt8 := dkwX0_way_1 ++ dktX0_way_2
def dkwX0_way_0 : List UInt8 := [27, 184, 0, 222, 153, 0, 38, 28, 184, 0, 222, 153, 0, 31, 27, 28, 159, 0, 26, 29, 4, 17, 2, 88]
abbrev dktX0_way_0 : List UInt8 := dkwX0_way_0 ++ dktX0_way_1
theorem dksX0_way_0 : cX0_way.data.toList.drop 0 = dktX0_way_0 := by decide +kernel
theorem dksX0_way_1 : cX0_way.data.toList.drop 24 = dktX0_way_1 := dk_seg dksX0_way_0 24 rfl rfl
theorem dksX0_way_2 : cX0_way.data.toList.drop 48 = dktX0_way_2 := dk_seg dksX0_way_1 24 rfl rfl
theorem dksX0_way_3 : cX0_way.data.toList.drop 72 = dktX0_way_3 := dk_seg dksX0_way_2 24 rfl rfl
theorem dX0_way_0 : decode cX0_way 0 = .ok (.iload_n 1, 1) := dk_27 (dk_at dksX0_way_0 0 rfl rfl)
theorem dX0_way_1 : decode cX0_way 1 = .ok (.invokestatic 222, 3) := dk_184 0 222 (dk_at dksX0_way_0 1 rfl rfl)
theorem dX0_way_4 : decode cX0_way 4 = .ok (.ifCond .eq 38, 3) := dk_153 0 38 (dk_at dksX0_way_0 4 rfl rfl)
theorem dX0_way_7 : decode cX0_way 7 = .ok (.iload_n 2, 1) := dk_28 (dk_at dksX0_way_0 7 rfl rfl)
theorem dX0_way_8 : decode cX0_way 8 = .ok (.invokestatic 222, 3) := dk_184 0 222 (dk_at dksX0_way_0 8 rfl rfl)
theorem dX0_way_11 : decode cX0_way 11 = .ok (.ifCond .eq 31, 3) := dk_153 0 31 (dk_at dksX0_way_0 11 rfl rfl)
theorem dX0_way_14 : decode cX0_way 14 = .ok (.iload_n 1, 1) := dk_27 (dk_at dksX0_way_0 14 rfl rfl)
theorem dX0_way_15 : decode cX0_way 15 = .ok (.iload_n 2, 1) := dk_28 (dk_at dksX0_way_0 15 rfl rfl)
theorem dX0_way_16 : decode cX0_way 16 = .ok (.if_icmp .eq 26, 3) := dk_159 0 26 (dk_at dksX0_way_0 16 rfl rfl)
theorem dX0_way_19 : decode cX0_way 19 = .ok (.iload_n 3, 1) := dk_29 (dk_at dksX0_way_0 19 rfl rfl)
theorem dX0_way_20 : decode cX0_way 20 = .ok (.iconst 1, 1) := dk_4 (dk_at dksX0_way_0 20 rfl rfl)
theorem dX0_way_21 : decode cX0_way 21 = .ok (.sipush 600, 3) := dk_17 2 88 (dk_at dksX0_way_0 21 rfl rfl)
theorem dX0_way_24 : decode cX0_way 24 = .ok (.invokestatic 171, 3) := dk_184 0 171 (dk_at dksX0_way_1 0 rfl rfl)
theorem dX0_way_27 : decode cX0_way 27 = .ok (.ifCond .eq 15, 3) := dk_153 0 15 (dk_at dksX0_way_1 3 rfl rfl)
theorem dX0_way_30 : decode cX0_way 30 = .ok (.iload 4, 2) := dk_21 4 (dk_at dksX0_way_1 6 rfl rfl)
theorem dX0_way_32 : decode cX0_way 32 = .ok (.iconst 0, 1) := dk_3 (dk_at dksX0_way_1 8 rfl rfl)
theorem dX0_way_33 : decode cX0_way 33 = .ok (.sipush 999, 3) := dk_17 3 231 (dk_at dksX0_way_1 9 rfl rfl)
theorem dX0_way_36 : decode cX0_way 36 = .ok (.invokestatic 171, 3) := dk_184 0 171 (dk_at dksX0_way_1 12 rfl rfl)
theorem dX0_way_39 : decode cX0_way 39 = .ok (.ifCond .ne 5, 3) := dk_154 0 5 (dk_at dksX0_way_1 15 rfl rfl)
theorem dX0_way_42 : decode cX0_way 42 = .ok (.iconst (-1), 1) := dk_2 (dk_at dksX0_way_1 18 rfl rfl)
theorem dX0_way_43 : decode cX0_way 43 = .ok (.ireturn, 1) := dk_172 (dk_at dksX0_way_1 19 rfl rfl)
theorem dX0_way_44 : decode cX0_way 44 = .ok (.aload_n 0, 1) := dk_42 (dk_at dksX0_way_1 20 rfl rfl)
theorem dX0_way_45 : decode cX0_way 45 = .ok (.getfield 44, 3) := dk_180 0 44 (dk_at dksX0_way_1 21 rfl rfl)
theorem dX0_way_48 : decode cX0_way 48 = .ok (.iload_n 1, 1) := dk_27 (dk_at dksX0_way_2 0 rfl rfl)
theorem dX0_way_49 : decode cX0_way 49 = .ok (.iload_n 2, 1) := dk_28 (dk_at dksX0_way_2 1 rfl rfl)
theorem dX0_way_50 : decode cX0_way 50 = .ok (.iload_n 3, 1) := dk_29 (dk_at dksX0_way_2 2 rfl rfl)
theorem dX0_way_51 : decode cX0_way 51 = .ok (.invokestatic 225, 3) := dk_184 0 225 (dk_at dksX0_way_2 3 rfl rfl)
theorem dX0_way_54 : decode cX0_way 54 = .ok (.aload_n 0, 1) := dk_42 (dk_at dksX0_way_2 6 rfl rfl)
theorem dX0_way_55 : decode cX0_way 55 = .ok (.getfield 47, 3) := dk_180 0 47 (dk_at dksX0_way_2 7 rfl rfl)
theorem dX0_way_58 : decode cX0_way 58 = .ok (.iload_n 1, 1) := dk_27 (dk_at dksX0_way_2 10 rfl rfl)
theorem dX0_way_59 : decode cX0_way 59 = .ok (.iload_n 2, 1) := dk_28 (dk_at dksX0_way_2 11 rfl rfl)
theorem dX0_way_60 : decode cX0_way 60 = .ok (.iload 4, 2) := dk_21 4 (dk_at dksX0_way_2 12 rfl rfl)
theorem dX0_way_62 : decode cX0_way 62 = .ok (.invokestatic 225, 3) := dk_184 0 225 (dk_at dksX0_way_2 14 rfl rfl)
theorem dX0_way_65 : decode cX0_way 65 = .ok (.aload_n 0, 1) := dk_42 (dk_at dksX0_way_2 17 rfl rfl)
theorem dX0_way_66 : decode cX0_way 66 = .ok (.getfield 50, 3) := dk_180 0 50 (dk_at dksX0_way_2 18 rfl rfl)
theorem dX0_way_69 : decode cX0_way 69 = .ok (.iload_n 1, 1) := dk_27 (dk_at dksX0_way_2 21 rfl rfl)
theorem dX0_way_70 : decode cX0_way 70 = .ok (.iload_n 2, 1) := dk_28 (dk_at dksX0_way_2 22 rfl rfl)
theorem dX0_way_71 : decode cX0_way 71 = .ok (.iconst 0, 1) := dk_3 (dk_at dksX0_way_2 23 rfl rfl)
theorem dX0_way_72 : decode cX0_way 72 = .ok (.invokestatic 225, 3) := dk_184 0 225 (dk_at dksX0_way_3 0 rfl rfl)
theorem dX0_way_75 : decode cX0_way 75 = .ok (.aload_n 0, 1) := dk_42 (dk_at dksX0_way_3 3 rfl rfl)
theorem dX0_way_76 : decode cX0_way 76 = .ok (.getfield 53, 3) := dk_180 0 53 (dk_at dksX0_way_3 4 rfl rfl)
theorem dX0_way_79 : decode cX0_way 79 = .ok (.iload_n 1, 1) := dk_27 (dk_at dksX0_way_3 7 rfl rfl)
theorem dX0_way_80 : decode cX0_way 80 = .ok (.iload_n 2, 1) := dk_28 (dk_at dksX0_way_3 8 rfl rfl)
theorem dX0_way_81 : decode cX0_way 81 = .ok (.iconst 0, 1) := dk_3 (dk_at dksX0_way_3 9 rfl rfl)
theorem dX0_way_82 : decode cX0_way 82 = .ok (.invokestatic 225, 3) := dk_184 0 225 (dk_at dksX0_way_3 10 rfl rfl)
theorem dX0_way_85 : decode cX0_way 85 = .ok (.iconst 1, 1) := dk_4 (dk_at dksX0_way_3 13 rfl rfl)
theorem dX0_way_86 : decode cX0_way 86 = .ok (.ireturn, 1) := dk_172 (dk_at dksX0_way_3 14 rfl rfl)
abbrev cX0_isYard : ByteArray := prog_1_method_24_code
def yX0_isYard : MethodName := ⟨RX0, "isYard", "(I)Z"⟩
def dkwX0_isYard_0 : List UInt8 := [26, 3, 16, 7, 184, 0, 171, 172]
abbrev dktX0_isYard_0 : List UInt8 := dkwX0_isYard_0 ++ []
theorem dksX0_isYard_0 : cX0_isYard.data.toList.drop 0 = dktX0_isYard_0 := by decide +kernel
theorem dX0_isYard_0 : decode cX0_isYard 0 = .ok (.iload_n 0, 1) := dk_26 (dk_at dksX0_isYard_0 0 rfl rfl)
theorem dX0_isYard_1 : decode cX0_isYard 1 = .ok (.iconst 0, 1) := dk_3 (dk_at dksX0_isYard_0 1 rfl rfl)
theorem dX0_isYard_2 : decode cX0_isYard 2 = .ok (.bipush 7, 2) := dk_16 7 (dk_at dksX0_isYard_0 2 rfl rfl)
theorem dX0_isYard_4 : decode cX0_isYard 4 = .ok (.invokestatic 171, 3) := dk_184 0 171 (dk_at dksX0_isYard_0 4 rfl rfl)
theorem dX0_isYard_7 : decode cX0_isYard 7 = .ok (.ireturn, 1) := dk_172 (dk_at dksX0_isYard_0 7 rfl rfl)
abbrev cX0_both : ByteArray := prog_1_method_25_code
def yX0_both : MethodName := ⟨RX0, "both", "([IIII)V"⟩
def dkwX0_both_0 : List UInt8 := [42, 16, 8, 27, 104, 28, 96, 29, 79, 42, 16, 8, 28, 104, 27, 96, 29, 79, 177]
abbrev dktX0_both_0 : List UInt8 := dkwX0_both_0 ++ []
theorem dksX0_both_0 : cX0_both.data.toList.drop 0 = dktX0_both_0 := by decide +kernel
theorem dX0_both_0 : decode cX0_both 0 = .ok (.aload_n 0, 1) := dk_42 (dk_at dksX0_both_0 0 rfl rfl)
theorem dX0_both_1 : decode cX0_both 1 = .ok (.bipush 8, 2) := dk_16 8 (dk_at dksX0_both_0 1 rfl rfl)
theorem dX0_both_3 : decode cX0_both 3 = .ok (.iload_n 1, 1) := dk_27 (dk_at dksX0_both_0 3 rfl rfl)
theorem dX0_both_4 : decode cX0_both 4 = .ok (.imul, 1) := dk_104 (dk_at dksX0_both_0 4 rfl rfl)
theorem dX0_both_5 : decode cX0_both 5 = .ok (.iload_n 2, 1) := dk_28 (dk_at dksX0_both_0 5 rfl rfl)
theorem dX0_both_6 : decode cX0_both 6 = .ok (.iadd, 1) := dk_96 (dk_at dksX0_both_0 6 rfl rfl)
theorem dX0_both_7 : decode cX0_both 7 = .ok (.iload_n 3, 1) := dk_29 (dk_at dksX0_both_0 7 rfl rfl)
theorem dX0_both_8 : decode cX0_both 8 = .ok (.iastore, 1) := dk_79 (dk_at dksX0_both_0 8 rfl rfl)
theorem dX0_both_9 : decode cX0_both 9 = .ok (.aload_n 0, 1) := dk_42 (dk_at dksX0_both_0 9 rfl rfl)
theorem dX0_both_10 : decode cX0_both 10 = .ok (.bipush 8, 2) := dk_16 8 (dk_at dksX0_both_0 10 rfl rfl)
theorem dX0_both_12 : decode cX0_both 12 = .ok (.iload_n 2, 1) := dk_28 (dk_at dksX0_both_0 12 rfl rfl)
theorem dX0_both_13 : decode cX0_both 13 = .ok (.imul, 1) := dk_104 (dk_at dksX0_both_0 13 rfl rfl)
theorem dX0_both_14 : decode cX0_both 14 = .ok (.iload_n 1, 1) := dk_27 (dk_at dksX0_both_0 14 rfl rfl)
theorem dX0_both_15 : decode cX0_both 15 = .ok (.iadd, 1) := dk_96 (dk_at dksX0_both_0 15 rfl rfl)
theorem dX0_both_16 : decode cX0_both 16 = .ok (.iload_n 3, 1) := dk_29 (dk_at dksX0_both_0 16 rfl rfl)
theorem dX0_both_17 : decode cX0_both 17 = .ok (.iastore, 1) := dk_79 (dk_at dksX0_both_0 17 rfl rfl)
theorem dX0_both_18 : decode cX0_both 18 = .ok (.return_, 1) := dk_177 (dk_at dksX0_both_0 18 rfl rfl)
abbrev cX0_ferry : ByteArray := prog_1_method_27_code
def yX0_ferry : MethodName := ⟨RX0, "ferry", "(IIII)I"⟩
def dkwX0_ferry_3 : List UInt8 := [180, 0, 53, 27, 28, 21, 4, 184, 0, 225, 4, 172]
abbrev dktX0_ferry_3 : List UInt8 := dkwX0_ferry_3 ++ []
def dkwX0_ferry_2 : List UInt8 := [104, 28, 96, 46, 154, 0, 9, 42, 4, 182, 0, 181, 172, 42, 180, 0, 50, 27, 28, 29, 184, 0, 225, 42]
abbrev dktX0_ferry_2 : List UInt8 := dkwX0_ferry_2 ++ dktX0_ferry_3
def dkwX0_ferry_1 : List UInt8 := [153, 0, 15, 21, 4, 3, 29, 4, 100, 184, 0, 171, 154, 0, 5, 2, 172, 42, 180, 0, 44, 16, 8, 27]
abbrev dktX0_ferry_1 : List UInt8 := dkwX0_ferry_1 ++ dktX0_ferry_2
def dkwX0_ferry_0 : List UInt8 := [27, 184, 0, 222, 153, 0, 33, 28, 184, 0, 222, 153, 0, 26, 29, 4, 17, 5, 160, 184, 0, 171]
abbrev dktX0_ferry_0 : List UInt8 := dkwX0_ferry_0 ++ dktX0_ferry_1
theorem dksX0_ferry_0 : cX0_ferry.data.toList.drop 0 = dktX0_ferry_0 := by decide +kernel
theorem dksX0_ferry_1 : cX0_ferry.data.toList.drop 22 = dktX0_ferry_1 := dk_seg dksX0_ferry_0 22 rfl rfl
theorem dksX0_ferry_2 : cX0_ferry.data.toList.drop 46 = dktX0_ferry_2 := dk_seg dksX0_ferry_1 24 rfl rfl
theorem dksX0_ferry_3 : cX0_ferry.data.toList.drop 70 = dktX0_ferry_3 := dk_seg dksX0_ferry_2 24 rfl rfl
theorem dX0_ferry_0 : decode cX0_ferry 0 = .ok (.iload_n 1, 1) := dk_27 (dk_at dksX0_ferry_0 0 rfl rfl)
theorem dX0_ferry_1 : decode cX0_ferry 1 = .ok (.invokestatic 222, 3) := dk_184 0 222 (dk_at dksX0_ferry_0 1 rfl rfl)
theorem dX0_ferry_4 : decode cX0_ferry 4 = .ok (.ifCond .eq 33, 3) := dk_153 0 33 (dk_at dksX0_ferry_0 4 rfl rfl)
theorem dX0_ferry_7 : decode cX0_ferry 7 = .ok (.iload_n 2, 1) := dk_28 (dk_at dksX0_ferry_0 7 rfl rfl)
theorem dX0_ferry_8 : decode cX0_ferry 8 = .ok (.invokestatic 222, 3) := dk_184 0 222 (dk_at dksX0_ferry_0 8 rfl rfl)
theorem dX0_ferry_11 : decode cX0_ferry 11 = .ok (.ifCond .eq 26, 3) := dk_153 0 26 (dk_at dksX0_ferry_0 11 rfl rfl)
theorem dX0_ferry_14 : decode cX0_ferry 14 = .ok (.iload_n 3, 1) := dk_29 (dk_at dksX0_ferry_0 14 rfl rfl)
theorem dX0_ferry_15 : decode cX0_ferry 15 = .ok (.iconst 1, 1) := dk_4 (dk_at dksX0_ferry_0 15 rfl rfl)
theorem dX0_ferry_16 : decode cX0_ferry 16 = .ok (.sipush 1440, 3) := dk_17 5 160 (dk_at dksX0_ferry_0 16 rfl rfl)
theorem dX0_ferry_19 : decode cX0_ferry 19 = .ok (.invokestatic 171, 3) := dk_184 0 171 (dk_at dksX0_ferry_0 19 rfl rfl)
theorem dX0_ferry_22 : decode cX0_ferry 22 = .ok (.ifCond .eq 15, 3) := dk_153 0 15 (dk_at dksX0_ferry_1 0 rfl rfl)
theorem dX0_ferry_25 : decode cX0_ferry 25 = .ok (.iload 4, 2) := dk_21 4 (dk_at dksX0_ferry_1 3 rfl rfl)
theorem dX0_ferry_27 : decode cX0_ferry 27 = .ok (.iconst 0, 1) := dk_3 (dk_at dksX0_ferry_1 5 rfl rfl)
theorem dX0_ferry_28 : decode cX0_ferry 28 = .ok (.iload_n 3, 1) := dk_29 (dk_at dksX0_ferry_1 6 rfl rfl)
theorem dX0_ferry_29 : decode cX0_ferry 29 = .ok (.iconst 1, 1) := dk_4 (dk_at dksX0_ferry_1 7 rfl rfl)
theorem dX0_ferry_30 : decode cX0_ferry 30 = .ok (.isub, 1) := dk_100 (dk_at dksX0_ferry_1 8 rfl rfl)
theorem dX0_ferry_31 : decode cX0_ferry 31 = .ok (.invokestatic 171, 3) := dk_184 0 171 (dk_at dksX0_ferry_1 9 rfl rfl)
theorem dX0_ferry_34 : decode cX0_ferry 34 = .ok (.ifCond .ne 5, 3) := dk_154 0 5 (dk_at dksX0_ferry_1 12 rfl rfl)
theorem dX0_ferry_37 : decode cX0_ferry 37 = .ok (.iconst (-1), 1) := dk_2 (dk_at dksX0_ferry_1 15 rfl rfl)
theorem dX0_ferry_38 : decode cX0_ferry 38 = .ok (.ireturn, 1) := dk_172 (dk_at dksX0_ferry_1 16 rfl rfl)
theorem dX0_ferry_39 : decode cX0_ferry 39 = .ok (.aload_n 0, 1) := dk_42 (dk_at dksX0_ferry_1 17 rfl rfl)
theorem dX0_ferry_40 : decode cX0_ferry 40 = .ok (.getfield 44, 3) := dk_180 0 44 (dk_at dksX0_ferry_1 18 rfl rfl)
theorem dX0_ferry_43 : decode cX0_ferry 43 = .ok (.bipush 8, 2) := dk_16 8 (dk_at dksX0_ferry_1 21 rfl rfl)
theorem dX0_ferry_45 : decode cX0_ferry 45 = .ok (.iload_n 1, 1) := dk_27 (dk_at dksX0_ferry_1 23 rfl rfl)
theorem dX0_ferry_46 : decode cX0_ferry 46 = .ok (.imul, 1) := dk_104 (dk_at dksX0_ferry_2 0 rfl rfl)
theorem dX0_ferry_47 : decode cX0_ferry 47 = .ok (.iload_n 2, 1) := dk_28 (dk_at dksX0_ferry_2 1 rfl rfl)
theorem dX0_ferry_48 : decode cX0_ferry 48 = .ok (.iadd, 1) := dk_96 (dk_at dksX0_ferry_2 2 rfl rfl)
theorem dX0_ferry_49 : decode cX0_ferry 49 = .ok (.iaload, 1) := dk_46 (dk_at dksX0_ferry_2 3 rfl rfl)
theorem dX0_ferry_50 : decode cX0_ferry 50 = .ok (.ifCond .ne 9, 3) := dk_154 0 9 (dk_at dksX0_ferry_2 4 rfl rfl)
theorem dX0_ferry_53 : decode cX0_ferry 53 = .ok (.aload_n 0, 1) := dk_42 (dk_at dksX0_ferry_2 7 rfl rfl)
theorem dX0_ferry_54 : decode cX0_ferry 54 = .ok (.iconst 1, 1) := dk_4 (dk_at dksX0_ferry_2 8 rfl rfl)
theorem dX0_ferry_55 : decode cX0_ferry 55 = .ok (.invokevirtual 181, 3) := dk_182 0 181 (dk_at dksX0_ferry_2 9 rfl rfl)
theorem dX0_ferry_58 : decode cX0_ferry 58 = .ok (.ireturn, 1) := dk_172 (dk_at dksX0_ferry_2 12 rfl rfl)
theorem dX0_ferry_59 : decode cX0_ferry 59 = .ok (.aload_n 0, 1) := dk_42 (dk_at dksX0_ferry_2 13 rfl rfl)
theorem dX0_ferry_60 : decode cX0_ferry 60 = .ok (.getfield 50, 3) := dk_180 0 50 (dk_at dksX0_ferry_2 14 rfl rfl)
theorem dX0_ferry_63 : decode cX0_ferry 63 = .ok (.iload_n 1, 1) := dk_27 (dk_at dksX0_ferry_2 17 rfl rfl)
theorem dX0_ferry_64 : decode cX0_ferry 64 = .ok (.iload_n 2, 1) := dk_28 (dk_at dksX0_ferry_2 18 rfl rfl)
theorem dX0_ferry_65 : decode cX0_ferry 65 = .ok (.iload_n 3, 1) := dk_29 (dk_at dksX0_ferry_2 19 rfl rfl)
theorem dX0_ferry_66 : decode cX0_ferry 66 = .ok (.invokestatic 225, 3) := dk_184 0 225 (dk_at dksX0_ferry_2 20 rfl rfl)
theorem dX0_ferry_69 : decode cX0_ferry 69 = .ok (.aload_n 0, 1) := dk_42 (dk_at dksX0_ferry_2 23 rfl rfl)
theorem dX0_ferry_70 : decode cX0_ferry 70 = .ok (.getfield 53, 3) := dk_180 0 53 (dk_at dksX0_ferry_3 0 rfl rfl)
theorem dX0_ferry_73 : decode cX0_ferry 73 = .ok (.iload_n 1, 1) := dk_27 (dk_at dksX0_ferry_3 3 rfl rfl)
theorem dX0_ferry_74 : decode cX0_ferry 74 = .ok (.iload_n 2, 1) := dk_28 (dk_at dksX0_ferry_3 4 rfl rfl)
theorem dX0_ferry_75 : decode cX0_ferry 75 = .ok (.iload 4, 2) := dk_21 4 (dk_at dksX0_ferry_3 5 rfl rfl)
theorem dX0_ferry_77 : decode cX0_ferry 77 = .ok (.invokestatic 225, 3) := dk_184 0 225 (dk_at dksX0_ferry_3 7 rfl rfl)
theorem dX0_ferry_80 : decode cX0_ferry 80 = .ok (.iconst 1, 1) := dk_4 (dk_at dksX0_ferry_3 10 rfl rfl)
theorem dX0_ferry_81 : decode cX0_ferry 81 = .ok (.ireturn, 1) := dk_172 (dk_at dksX0_ferry_3 11 rfl rfl)
abbrev cX0_comes : ByteArray := prog_1_method_31_code
def yX0_comes : MethodName := ⟨RX0, "comes", "(III)I"⟩
def dkwX0_comes_2 : List UInt8 := [21, 4, 172]
abbrev dktX0_comes_2 : List UInt8 := dkwX0_comes_2 ++ []
def dkwX0_comes_1 : List UInt8 := [27, 28, 29, 182, 0, 241, 54, 4, 21, 4, 16, 247, 160, 0, 11, 42, 4, 182, 0, 181, 167, 0, 5]
abbrev dktX0_comes_1 : List UInt8 := dkwX0_comes_1 ++ dktX0_comes_2
def dkwX0_comes_0 : List UInt8 := [27, 184, 0, 222, 153, 0, 17, 28, 184, 0, 238, 153, 0, 10, 29, 184, 0, 222, 154, 0, 5, 2, 172, 42]
abbrev dktX0_comes_0 : List UInt8 := dkwX0_comes_0 ++ dktX0_comes_1
theorem dksX0_comes_0 : cX0_comes.data.toList.drop 0 = dktX0_comes_0 := by decide +kernel
theorem dksX0_comes_1 : cX0_comes.data.toList.drop 24 = dktX0_comes_1 := dk_seg dksX0_comes_0 24 rfl rfl
theorem dksX0_comes_2 : cX0_comes.data.toList.drop 47 = dktX0_comes_2 := dk_seg dksX0_comes_1 23 rfl rfl
theorem dX0_comes_0 : decode cX0_comes 0 = .ok (.iload_n 1, 1) := dk_27 (dk_at dksX0_comes_0 0 rfl rfl)
theorem dX0_comes_1 : decode cX0_comes 1 = .ok (.invokestatic 222, 3) := dk_184 0 222 (dk_at dksX0_comes_0 1 rfl rfl)
theorem dX0_comes_4 : decode cX0_comes 4 = .ok (.ifCond .eq 17, 3) := dk_153 0 17 (dk_at dksX0_comes_0 4 rfl rfl)
theorem dX0_comes_7 : decode cX0_comes 7 = .ok (.iload_n 2, 1) := dk_28 (dk_at dksX0_comes_0 7 rfl rfl)
theorem dX0_comes_8 : decode cX0_comes 8 = .ok (.invokestatic 238, 3) := dk_184 0 238 (dk_at dksX0_comes_0 8 rfl rfl)
theorem dX0_comes_11 : decode cX0_comes 11 = .ok (.ifCond .eq 10, 3) := dk_153 0 10 (dk_at dksX0_comes_0 11 rfl rfl)
theorem dX0_comes_14 : decode cX0_comes 14 = .ok (.iload_n 3, 1) := dk_29 (dk_at dksX0_comes_0 14 rfl rfl)
theorem dX0_comes_15 : decode cX0_comes 15 = .ok (.invokestatic 222, 3) := dk_184 0 222 (dk_at dksX0_comes_0 15 rfl rfl)
theorem dX0_comes_18 : decode cX0_comes 18 = .ok (.ifCond .ne 5, 3) := dk_154 0 5 (dk_at dksX0_comes_0 18 rfl rfl)
theorem dX0_comes_21 : decode cX0_comes 21 = .ok (.iconst (-1), 1) := dk_2 (dk_at dksX0_comes_0 21 rfl rfl)
theorem dX0_comes_22 : decode cX0_comes 22 = .ok (.ireturn, 1) := dk_172 (dk_at dksX0_comes_0 22 rfl rfl)
theorem dX0_comes_23 : decode cX0_comes 23 = .ok (.aload_n 0, 1) := dk_42 (dk_at dksX0_comes_0 23 rfl rfl)
theorem dX0_comes_24 : decode cX0_comes 24 = .ok (.iload_n 1, 1) := dk_27 (dk_at dksX0_comes_1 0 rfl rfl)
theorem dX0_comes_25 : decode cX0_comes 25 = .ok (.iload_n 2, 1) := dk_28 (dk_at dksX0_comes_1 1 rfl rfl)
theorem dX0_comes_26 : decode cX0_comes 26 = .ok (.iload_n 3, 1) := dk_29 (dk_at dksX0_comes_1 2 rfl rfl)
theorem dX0_comes_27 : decode cX0_comes 27 = .ok (.invokevirtual 241, 3) := dk_182 0 241 (dk_at dksX0_comes_1 3 rfl rfl)
theorem dX0_comes_30 : decode cX0_comes 30 = .ok (.istore 4, 2) := dk_54 4 (dk_at dksX0_comes_1 6 rfl rfl)
theorem dX0_comes_32 : decode cX0_comes 32 = .ok (.iload 4, 2) := dk_21 4 (dk_at dksX0_comes_1 8 rfl rfl)
theorem dX0_comes_34 : decode cX0_comes 34 = .ok (.bipush (-9), 2) := dk_16 247 (dk_at dksX0_comes_1 10 rfl rfl)
theorem dX0_comes_36 : decode cX0_comes 36 = .ok (.if_icmp .ne 11, 3) := dk_160 0 11 (dk_at dksX0_comes_1 12 rfl rfl)
theorem dX0_comes_39 : decode cX0_comes 39 = .ok (.aload_n 0, 1) := dk_42 (dk_at dksX0_comes_1 15 rfl rfl)
theorem dX0_comes_40 : decode cX0_comes 40 = .ok (.iconst 1, 1) := dk_4 (dk_at dksX0_comes_1 16 rfl rfl)
theorem dX0_comes_41 : decode cX0_comes 41 = .ok (.invokevirtual 181, 3) := dk_182 0 181 (dk_at dksX0_comes_1 17 rfl rfl)
theorem dX0_comes_44 : decode cX0_comes 44 = .ok (.goto 5, 3) := dk_167 0 5 (dk_at dksX0_comes_1 20 rfl rfl)
theorem dX0_comes_47 : decode cX0_comes 47 = .ok (.iload 4, 2) := dk_21 4 (dk_at dksX0_comes_2 0 rfl rfl)
theorem dX0_comes_49 : decode cX0_comes 49 = .ok (.ireturn, 1) := dk_172 (dk_at dksX0_comes_2 2 rfl rfl)
abbrev cX0_isMinute : ByteArray := prog_1_method_22_code
def yX0_isMinute : MethodName := ⟨RX0, "isMinute", "(I)Z"⟩
def dkwX0_isMinute_0 : List UInt8 := [26, 3, 18, 218, 184, 0, 171, 172]
abbrev dktX0_isMinute_0 : List UInt8 := dkwX0_isMinute_0 ++ []
theorem dksX0_isMinute_0 : cX0_isMinute.data.toList.drop 0 = dktX0_isMinute_0 := by decide +kernel
theorem dX0_isMinute_0 : decode cX0_isMinute 0 = .ok (.iload_n 0, 1) := dk_26 (dk_at dksX0_isMinute_0 0 rfl rfl)
theorem dX0_isMinute_1 : decode cX0_isMinute 1 = .ok (.iconst 0, 1) := dk_3 (dk_at dksX0_isMinute_0 1 rfl rfl)
theorem dX0_isMinute_2 : decode cX0_isMinute 2 = .ok (.ldc 218, 2) := dk_18 218 (dk_at dksX0_isMinute_0 2 rfl rfl)
theorem dX0_isMinute_4 : decode cX0_isMinute 4 = .ok (.invokestatic 171, 3) := dk_184 0 171 (dk_at dksX0_isMinute_0 4 rfl rfl)
theorem dX0_isMinute_7 : decode cX0_isMinute 7 = .ok (.ireturn, 1) := dk_172 (dk_at dksX0_isMinute_0 7 rfl rfl)
abbrev cX0_comesTo : ByteArray := prog_1_method_30_code
def yX0_comesTo : MethodName := ⟨RX0, "comesTo", "(III)I"⟩
def dkwX0_comesTo_0 : List UInt8 := [42, 27, 28, 3, 182, 0, 234, 42, 180, 0, 56, 29, 46, 172]
abbrev dktX0_comesTo_0 : List UInt8 := dkwX0_comesTo_0 ++ []
theorem dksX0_comesTo_0 : cX0_comesTo.data.toList.drop 0 = dktX0_comesTo_0 := by decide +kernel
theorem dX0_comesTo_0 : decode cX0_comesTo 0 = .ok (.aload_n 0, 1) := dk_42 (dk_at dksX0_comesTo_0 0 rfl rfl)
theorem dX0_comesTo_1 : decode cX0_comesTo 1 = .ok (.iload_n 1, 1) := dk_27 (dk_at dksX0_comesTo_0 1 rfl rfl)
theorem dX0_comesTo_2 : decode cX0_comesTo 2 = .ok (.iload_n 2, 1) := dk_28 (dk_at dksX0_comesTo_0 2 rfl rfl)
theorem dX0_comesTo_3 : decode cX0_comesTo 3 = .ok (.iconst 0, 1) := dk_3 (dk_at dksX0_comesTo_0 3 rfl rfl)
theorem dX0_comesTo_4 : decode cX0_comesTo 4 = .ok (.invokevirtual 234, 3) := dk_182 0 234 (dk_at dksX0_comesTo_0 4 rfl rfl)
theorem dX0_comesTo_7 : decode cX0_comesTo 7 = .ok (.aload_n 0, 1) := dk_42 (dk_at dksX0_comesTo_0 7 rfl rfl)
theorem dX0_comesTo_8 : decode cX0_comesTo 8 = .ok (.getfield 56, 3) := dk_180 0 56 (dk_at dksX0_comesTo_0 8 rfl rfl)
theorem dX0_comesTo_11 : decode cX0_comesTo 11 = .ok (.iload_n 3, 1) := dk_29 (dk_at dksX0_comesTo_0 11 rfl rfl)
theorem dX0_comesTo_12 : decode cX0_comesTo 12 = .ok (.iaload, 1) := dk_46 (dk_at dksX0_comesTo_0 12 rfl rfl)
theorem dX0_comesTo_13 : decode cX0_comesTo 13 = .ok (.ireturn, 1) := dk_172 (dk_at dksX0_comesTo_0 13 rfl rfl)
abbrev cX0_lead : ByteArray := prog_1_method_29_code
def yX0_lead : MethodName := ⟨RX0, "lead", "(IIZ)V"⟩
def dkwX0_lead_11 : List UInt8 := [132, 6, 1, 167, 255, 146, 132, 4, 1, 167, 255, 39, 177]
abbrev dktX0_lead_11 : List UInt8 := dkwX0_lead_11 ++ []
def dkwX0_lead_10 : List UInt8 := [180, 0, 56, 21, 6, 46, 162, 0, 8, 21, 8, 167, 0, 10, 42, 180, 0, 56, 21, 6, 46, 79]
abbrev dktX0_lead_10 : List UInt8 := dkwX0_lead_10 ++ dktX0_lead_11
def dkwX0_lead_9 : List UInt8 := [54, 8, 42, 180, 0, 56, 21, 6, 42, 180, 0, 56, 21, 6, 46, 16, 247, 159, 0, 15, 21, 8, 42]
abbrev dktX0_lead_9 : List UInt8 := dkwX0_lead_9 ++ dktX0_lead_10
def dkwX0_lead_8 : List UInt8 := [42, 180, 0, 47, 21, 7, 46, 96, 167, 0, 16, 42, 21, 7, 42, 180, 0, 56, 21, 5, 46, 182, 0, 232]
abbrev dktX0_lead_8 : List UInt8 := dkwX0_lead_8 ++ dktX0_lead_9
def dkwX0_lead_7 : List UInt8 := [96, 54, 7, 42, 180, 0, 44, 21, 7, 46, 158, 0, 83, 29, 153, 0, 21, 42, 180, 0, 56, 21, 5, 46]
abbrev dktX0_lead_7 : List UInt8 := dkwX0_lead_7 ++ dktX0_lead_8
def dkwX0_lead_6 : List UInt8 := [180, 0, 59, 21, 5, 4, 84, 3, 54, 6, 21, 6, 16, 8, 162, 0, 109, 16, 8, 21, 5, 104, 21, 6]
abbrev dktX0_lead_6 : List UInt8 := dkwX0_lead_6 ++ dktX0_lead_7
def dkwX0_lead_5 : List UInt8 := [167, 0, 5, 21, 5, 54, 5, 132, 6, 1, 167, 255, 191, 21, 5, 16, 247, 160, 0, 4, 177, 42]
abbrev dktX0_lead_5 : List UInt8 := dkwX0_lead_5 ++ dktX0_lead_6
def dkwX0_lead_4 : List UInt8 := [16, 247, 159, 0, 20, 42, 180, 0, 56, 21, 6, 46, 42, 180, 0, 56, 21, 5, 46, 162, 0, 8, 21, 6]
abbrev dktX0_lead_4 : List UInt8 := dkwX0_lead_4 ++ dktX0_lead_5
def dkwX0_lead_3 : List UInt8 := [180, 0, 59, 21, 6, 51, 154, 0, 44, 42, 180, 0, 56, 21, 6, 46, 16, 247, 159, 0, 32, 21, 5]
abbrev dktX0_lead_3 : List UInt8 := dkwX0_lead_3 ++ dktX0_lead_4
def dkwX0_lead_2 : List UInt8 := [21, 4, 16, 8, 162, 0, 216, 16, 247, 54, 5, 3, 54, 6, 21, 6, 16, 8, 162, 0, 64, 42]
abbrev dktX0_lead_2 : List UInt8 := dkwX0_lead_2 ++ dktX0_lead_3
def dkwX0_lead_1 : List UInt8 := [167, 0, 5, 16, 247, 79, 42, 180, 0, 59, 21, 4, 3, 84, 132, 4, 1, 167, 255, 219, 3, 54, 4]
abbrev dktX0_lead_1 : List UInt8 := dkwX0_lead_1 ++ dktX0_lead_2
def dkwX0_lead_0 : List UInt8 := [3, 54, 4, 21, 4, 16, 8, 162, 0, 36, 42, 180, 0, 56, 21, 4, 21, 4, 27, 160, 0, 7, 28]
abbrev dktX0_lead_0 : List UInt8 := dkwX0_lead_0 ++ dktX0_lead_1
theorem dksX0_lead_0 : cX0_lead.data.toList.drop 0 = dktX0_lead_0 := by decide +kernel
theorem dksX0_lead_1 : cX0_lead.data.toList.drop 23 = dktX0_lead_1 := dk_seg dksX0_lead_0 23 rfl rfl
theorem dksX0_lead_2 : cX0_lead.data.toList.drop 46 = dktX0_lead_2 := dk_seg dksX0_lead_1 23 rfl rfl
theorem dksX0_lead_3 : cX0_lead.data.toList.drop 68 = dktX0_lead_3 := dk_seg dksX0_lead_2 22 rfl rfl
theorem dksX0_lead_4 : cX0_lead.data.toList.drop 91 = dktX0_lead_4 := dk_seg dksX0_lead_3 23 rfl rfl
theorem dksX0_lead_5 : cX0_lead.data.toList.drop 115 = dktX0_lead_5 := dk_seg dksX0_lead_4 24 rfl rfl
theorem dksX0_lead_6 : cX0_lead.data.toList.drop 137 = dktX0_lead_6 := dk_seg dksX0_lead_5 22 rfl rfl
theorem dksX0_lead_7 : cX0_lead.data.toList.drop 161 = dktX0_lead_7 := dk_seg dksX0_lead_6 24 rfl rfl
theorem dksX0_lead_8 : cX0_lead.data.toList.drop 185 = dktX0_lead_8 := dk_seg dksX0_lead_7 24 rfl rfl
theorem dksX0_lead_9 : cX0_lead.data.toList.drop 209 = dktX0_lead_9 := dk_seg dksX0_lead_8 24 rfl rfl
theorem dksX0_lead_10 : cX0_lead.data.toList.drop 232 = dktX0_lead_10 := dk_seg dksX0_lead_9 23 rfl rfl
theorem dksX0_lead_11 : cX0_lead.data.toList.drop 254 = dktX0_lead_11 := dk_seg dksX0_lead_10 22 rfl rfl
theorem dX0_lead_0 : decode cX0_lead 0 = .ok (.iconst 0, 1) := dk_3 (dk_at dksX0_lead_0 0 rfl rfl)
theorem dX0_lead_1 : decode cX0_lead 1 = .ok (.istore 4, 2) := dk_54 4 (dk_at dksX0_lead_0 1 rfl rfl)
theorem dX0_lead_3 : decode cX0_lead 3 = .ok (.iload 4, 2) := dk_21 4 (dk_at dksX0_lead_0 3 rfl rfl)
theorem dX0_lead_5 : decode cX0_lead 5 = .ok (.bipush 8, 2) := dk_16 8 (dk_at dksX0_lead_0 5 rfl rfl)
theorem dX0_lead_7 : decode cX0_lead 7 = .ok (.if_icmp .ge 36, 3) := dk_162 0 36 (dk_at dksX0_lead_0 7 rfl rfl)
theorem dX0_lead_10 : decode cX0_lead 10 = .ok (.aload_n 0, 1) := dk_42 (dk_at dksX0_lead_0 10 rfl rfl)
theorem dX0_lead_11 : decode cX0_lead 11 = .ok (.getfield 56, 3) := dk_180 0 56 (dk_at dksX0_lead_0 11 rfl rfl)
theorem dX0_lead_14 : decode cX0_lead 14 = .ok (.iload 4, 2) := dk_21 4 (dk_at dksX0_lead_0 14 rfl rfl)
theorem dX0_lead_16 : decode cX0_lead 16 = .ok (.iload 4, 2) := dk_21 4 (dk_at dksX0_lead_0 16 rfl rfl)
theorem dX0_lead_18 : decode cX0_lead 18 = .ok (.iload_n 1, 1) := dk_27 (dk_at dksX0_lead_0 18 rfl rfl)
theorem dX0_lead_19 : decode cX0_lead 19 = .ok (.if_icmp .ne 7, 3) := dk_160 0 7 (dk_at dksX0_lead_0 19 rfl rfl)
theorem dX0_lead_22 : decode cX0_lead 22 = .ok (.iload_n 2, 1) := dk_28 (dk_at dksX0_lead_0 22 rfl rfl)
theorem dX0_lead_23 : decode cX0_lead 23 = .ok (.goto 5, 3) := dk_167 0 5 (dk_at dksX0_lead_1 0 rfl rfl)
theorem dX0_lead_26 : decode cX0_lead 26 = .ok (.bipush (-9), 2) := dk_16 247 (dk_at dksX0_lead_1 3 rfl rfl)
theorem dX0_lead_28 : decode cX0_lead 28 = .ok (.iastore, 1) := dk_79 (dk_at dksX0_lead_1 5 rfl rfl)
theorem dX0_lead_29 : decode cX0_lead 29 = .ok (.aload_n 0, 1) := dk_42 (dk_at dksX0_lead_1 6 rfl rfl)
theorem dX0_lead_30 : decode cX0_lead 30 = .ok (.getfield 59, 3) := dk_180 0 59 (dk_at dksX0_lead_1 7 rfl rfl)
theorem dX0_lead_33 : decode cX0_lead 33 = .ok (.iload 4, 2) := dk_21 4 (dk_at dksX0_lead_1 10 rfl rfl)
theorem dX0_lead_35 : decode cX0_lead 35 = .ok (.iconst 0, 1) := dk_3 (dk_at dksX0_lead_1 12 rfl rfl)
theorem dX0_lead_36 : decode cX0_lead 36 = .ok (.bastore, 1) := dk_84 (dk_at dksX0_lead_1 13 rfl rfl)
theorem dX0_lead_37 : decode cX0_lead 37 = .ok (.iinc 4 1, 3) := dk_132 4 1 (dk_at dksX0_lead_1 14 rfl rfl)
theorem dX0_lead_40 : decode cX0_lead 40 = .ok (.goto (-37), 3) := dk_167 255 219 (dk_at dksX0_lead_1 17 rfl rfl)
theorem dX0_lead_43 : decode cX0_lead 43 = .ok (.iconst 0, 1) := dk_3 (dk_at dksX0_lead_1 20 rfl rfl)
theorem dX0_lead_44 : decode cX0_lead 44 = .ok (.istore 4, 2) := dk_54 4 (dk_at dksX0_lead_1 21 rfl rfl)
theorem dX0_lead_46 : decode cX0_lead 46 = .ok (.iload 4, 2) := dk_21 4 (dk_at dksX0_lead_2 0 rfl rfl)
theorem dX0_lead_48 : decode cX0_lead 48 = .ok (.bipush 8, 2) := dk_16 8 (dk_at dksX0_lead_2 2 rfl rfl)
theorem dX0_lead_50 : decode cX0_lead 50 = .ok (.if_icmp .ge 216, 3) := dk_162 0 216 (dk_at dksX0_lead_2 4 rfl rfl)
theorem dX0_lead_53 : decode cX0_lead 53 = .ok (.bipush (-9), 2) := dk_16 247 (dk_at dksX0_lead_2 7 rfl rfl)
theorem dX0_lead_55 : decode cX0_lead 55 = .ok (.istore 5, 2) := dk_54 5 (dk_at dksX0_lead_2 9 rfl rfl)
theorem dX0_lead_57 : decode cX0_lead 57 = .ok (.iconst 0, 1) := dk_3 (dk_at dksX0_lead_2 11 rfl rfl)
theorem dX0_lead_58 : decode cX0_lead 58 = .ok (.istore 6, 2) := dk_54 6 (dk_at dksX0_lead_2 12 rfl rfl)
theorem dX0_lead_60 : decode cX0_lead 60 = .ok (.iload 6, 2) := dk_21 6 (dk_at dksX0_lead_2 14 rfl rfl)
theorem dX0_lead_62 : decode cX0_lead 62 = .ok (.bipush 8, 2) := dk_16 8 (dk_at dksX0_lead_2 16 rfl rfl)
theorem dX0_lead_64 : decode cX0_lead 64 = .ok (.if_icmp .ge 64, 3) := dk_162 0 64 (dk_at dksX0_lead_2 18 rfl rfl)
theorem dX0_lead_67 : decode cX0_lead 67 = .ok (.aload_n 0, 1) := dk_42 (dk_at dksX0_lead_2 21 rfl rfl)
theorem dX0_lead_68 : decode cX0_lead 68 = .ok (.getfield 59, 3) := dk_180 0 59 (dk_at dksX0_lead_3 0 rfl rfl)
theorem dX0_lead_71 : decode cX0_lead 71 = .ok (.iload 6, 2) := dk_21 6 (dk_at dksX0_lead_3 3 rfl rfl)
theorem dX0_lead_73 : decode cX0_lead 73 = .ok (.baload, 1) := dk_51 (dk_at dksX0_lead_3 5 rfl rfl)
theorem dX0_lead_74 : decode cX0_lead 74 = .ok (.ifCond .ne 44, 3) := dk_154 0 44 (dk_at dksX0_lead_3 6 rfl rfl)
theorem dX0_lead_77 : decode cX0_lead 77 = .ok (.aload_n 0, 1) := dk_42 (dk_at dksX0_lead_3 9 rfl rfl)
theorem dX0_lead_78 : decode cX0_lead 78 = .ok (.getfield 56, 3) := dk_180 0 56 (dk_at dksX0_lead_3 10 rfl rfl)
theorem dX0_lead_81 : decode cX0_lead 81 = .ok (.iload 6, 2) := dk_21 6 (dk_at dksX0_lead_3 13 rfl rfl)
theorem dX0_lead_83 : decode cX0_lead 83 = .ok (.iaload, 1) := dk_46 (dk_at dksX0_lead_3 15 rfl rfl)
theorem dX0_lead_84 : decode cX0_lead 84 = .ok (.bipush (-9), 2) := dk_16 247 (dk_at dksX0_lead_3 16 rfl rfl)
theorem dX0_lead_86 : decode cX0_lead 86 = .ok (.if_icmp .eq 32, 3) := dk_159 0 32 (dk_at dksX0_lead_3 18 rfl rfl)
theorem dX0_lead_89 : decode cX0_lead 89 = .ok (.iload 5, 2) := dk_21 5 (dk_at dksX0_lead_3 21 rfl rfl)
theorem dX0_lead_91 : decode cX0_lead 91 = .ok (.bipush (-9), 2) := dk_16 247 (dk_at dksX0_lead_4 0 rfl rfl)
theorem dX0_lead_93 : decode cX0_lead 93 = .ok (.if_icmp .eq 20, 3) := dk_159 0 20 (dk_at dksX0_lead_4 2 rfl rfl)
theorem dX0_lead_96 : decode cX0_lead 96 = .ok (.aload_n 0, 1) := dk_42 (dk_at dksX0_lead_4 5 rfl rfl)
theorem dX0_lead_97 : decode cX0_lead 97 = .ok (.getfield 56, 3) := dk_180 0 56 (dk_at dksX0_lead_4 6 rfl rfl)
theorem dX0_lead_100 : decode cX0_lead 100 = .ok (.iload 6, 2) := dk_21 6 (dk_at dksX0_lead_4 9 rfl rfl)
theorem dX0_lead_102 : decode cX0_lead 102 = .ok (.iaload, 1) := dk_46 (dk_at dksX0_lead_4 11 rfl rfl)
theorem dX0_lead_103 : decode cX0_lead 103 = .ok (.aload_n 0, 1) := dk_42 (dk_at dksX0_lead_4 12 rfl rfl)
theorem dX0_lead_104 : decode cX0_lead 104 = .ok (.getfield 56, 3) := dk_180 0 56 (dk_at dksX0_lead_4 13 rfl rfl)
theorem dX0_lead_107 : decode cX0_lead 107 = .ok (.iload 5, 2) := dk_21 5 (dk_at dksX0_lead_4 16 rfl rfl)
theorem dX0_lead_109 : decode cX0_lead 109 = .ok (.iaload, 1) := dk_46 (dk_at dksX0_lead_4 18 rfl rfl)
theorem dX0_lead_110 : decode cX0_lead 110 = .ok (.if_icmp .ge 8, 3) := dk_162 0 8 (dk_at dksX0_lead_4 19 rfl rfl)
theorem dX0_lead_113 : decode cX0_lead 113 = .ok (.iload 6, 2) := dk_21 6 (dk_at dksX0_lead_4 22 rfl rfl)
theorem dX0_lead_115 : decode cX0_lead 115 = .ok (.goto 5, 3) := dk_167 0 5 (dk_at dksX0_lead_5 0 rfl rfl)
theorem dX0_lead_118 : decode cX0_lead 118 = .ok (.iload 5, 2) := dk_21 5 (dk_at dksX0_lead_5 3 rfl rfl)
theorem dX0_lead_120 : decode cX0_lead 120 = .ok (.istore 5, 2) := dk_54 5 (dk_at dksX0_lead_5 5 rfl rfl)
theorem dX0_lead_122 : decode cX0_lead 122 = .ok (.iinc 6 1, 3) := dk_132 6 1 (dk_at dksX0_lead_5 7 rfl rfl)
theorem dX0_lead_125 : decode cX0_lead 125 = .ok (.goto (-65), 3) := dk_167 255 191 (dk_at dksX0_lead_5 10 rfl rfl)
theorem dX0_lead_128 : decode cX0_lead 128 = .ok (.iload 5, 2) := dk_21 5 (dk_at dksX0_lead_5 13 rfl rfl)
theorem dX0_lead_130 : decode cX0_lead 130 = .ok (.bipush (-9), 2) := dk_16 247 (dk_at dksX0_lead_5 15 rfl rfl)
theorem dX0_lead_132 : decode cX0_lead 132 = .ok (.if_icmp .ne 4, 3) := dk_160 0 4 (dk_at dksX0_lead_5 17 rfl rfl)
theorem dX0_lead_135 : decode cX0_lead 135 = .ok (.return_, 1) := dk_177 (dk_at dksX0_lead_5 20 rfl rfl)
theorem dX0_lead_136 : decode cX0_lead 136 = .ok (.aload_n 0, 1) := dk_42 (dk_at dksX0_lead_5 21 rfl rfl)
theorem dX0_lead_137 : decode cX0_lead 137 = .ok (.getfield 59, 3) := dk_180 0 59 (dk_at dksX0_lead_6 0 rfl rfl)
theorem dX0_lead_140 : decode cX0_lead 140 = .ok (.iload 5, 2) := dk_21 5 (dk_at dksX0_lead_6 3 rfl rfl)
theorem dX0_lead_142 : decode cX0_lead 142 = .ok (.iconst 1, 1) := dk_4 (dk_at dksX0_lead_6 5 rfl rfl)
theorem dX0_lead_143 : decode cX0_lead 143 = .ok (.bastore, 1) := dk_84 (dk_at dksX0_lead_6 6 rfl rfl)
theorem dX0_lead_144 : decode cX0_lead 144 = .ok (.iconst 0, 1) := dk_3 (dk_at dksX0_lead_6 7 rfl rfl)
theorem dX0_lead_145 : decode cX0_lead 145 = .ok (.istore 6, 2) := dk_54 6 (dk_at dksX0_lead_6 8 rfl rfl)
theorem dX0_lead_147 : decode cX0_lead 147 = .ok (.iload 6, 2) := dk_21 6 (dk_at dksX0_lead_6 10 rfl rfl)
theorem dX0_lead_149 : decode cX0_lead 149 = .ok (.bipush 8, 2) := dk_16 8 (dk_at dksX0_lead_6 12 rfl rfl)
theorem dX0_lead_151 : decode cX0_lead 151 = .ok (.if_icmp .ge 109, 3) := dk_162 0 109 (dk_at dksX0_lead_6 14 rfl rfl)
theorem dX0_lead_154 : decode cX0_lead 154 = .ok (.bipush 8, 2) := dk_16 8 (dk_at dksX0_lead_6 17 rfl rfl)
theorem dX0_lead_156 : decode cX0_lead 156 = .ok (.iload 5, 2) := dk_21 5 (dk_at dksX0_lead_6 19 rfl rfl)
theorem dX0_lead_158 : decode cX0_lead 158 = .ok (.imul, 1) := dk_104 (dk_at dksX0_lead_6 21 rfl rfl)
theorem dX0_lead_159 : decode cX0_lead 159 = .ok (.iload 6, 2) := dk_21 6 (dk_at dksX0_lead_6 22 rfl rfl)
theorem dX0_lead_161 : decode cX0_lead 161 = .ok (.iadd, 1) := dk_96 (dk_at dksX0_lead_7 0 rfl rfl)
theorem dX0_lead_162 : decode cX0_lead 162 = .ok (.istore 7, 2) := dk_54 7 (dk_at dksX0_lead_7 1 rfl rfl)
theorem dX0_lead_164 : decode cX0_lead 164 = .ok (.aload_n 0, 1) := dk_42 (dk_at dksX0_lead_7 3 rfl rfl)
theorem dX0_lead_165 : decode cX0_lead 165 = .ok (.getfield 44, 3) := dk_180 0 44 (dk_at dksX0_lead_7 4 rfl rfl)
theorem dX0_lead_168 : decode cX0_lead 168 = .ok (.iload 7, 2) := dk_21 7 (dk_at dksX0_lead_7 7 rfl rfl)
theorem dX0_lead_170 : decode cX0_lead 170 = .ok (.iaload, 1) := dk_46 (dk_at dksX0_lead_7 9 rfl rfl)
theorem dX0_lead_171 : decode cX0_lead 171 = .ok (.ifCond .le 83, 3) := dk_158 0 83 (dk_at dksX0_lead_7 10 rfl rfl)
theorem dX0_lead_174 : decode cX0_lead 174 = .ok (.iload_n 3, 1) := dk_29 (dk_at dksX0_lead_7 13 rfl rfl)
theorem dX0_lead_175 : decode cX0_lead 175 = .ok (.ifCond .eq 21, 3) := dk_153 0 21 (dk_at dksX0_lead_7 14 rfl rfl)
theorem dX0_lead_178 : decode cX0_lead 178 = .ok (.aload_n 0, 1) := dk_42 (dk_at dksX0_lead_7 17 rfl rfl)
theorem dX0_lead_179 : decode cX0_lead 179 = .ok (.getfield 56, 3) := dk_180 0 56 (dk_at dksX0_lead_7 18 rfl rfl)
theorem dX0_lead_182 : decode cX0_lead 182 = .ok (.iload 5, 2) := dk_21 5 (dk_at dksX0_lead_7 21 rfl rfl)
theorem dX0_lead_184 : decode cX0_lead 184 = .ok (.iaload, 1) := dk_46 (dk_at dksX0_lead_7 23 rfl rfl)
theorem dX0_lead_185 : decode cX0_lead 185 = .ok (.aload_n 0, 1) := dk_42 (dk_at dksX0_lead_8 0 rfl rfl)
theorem dX0_lead_186 : decode cX0_lead 186 = .ok (.getfield 47, 3) := dk_180 0 47 (dk_at dksX0_lead_8 1 rfl rfl)
theorem dX0_lead_189 : decode cX0_lead 189 = .ok (.iload 7, 2) := dk_21 7 (dk_at dksX0_lead_8 4 rfl rfl)
theorem dX0_lead_191 : decode cX0_lead 191 = .ok (.iaload, 1) := dk_46 (dk_at dksX0_lead_8 6 rfl rfl)
theorem dX0_lead_192 : decode cX0_lead 192 = .ok (.iadd, 1) := dk_96 (dk_at dksX0_lead_8 7 rfl rfl)
theorem dX0_lead_193 : decode cX0_lead 193 = .ok (.goto 16, 3) := dk_167 0 16 (dk_at dksX0_lead_8 8 rfl rfl)
theorem dX0_lead_196 : decode cX0_lead 196 = .ok (.aload_n 0, 1) := dk_42 (dk_at dksX0_lead_8 11 rfl rfl)
theorem dX0_lead_197 : decode cX0_lead 197 = .ok (.iload 7, 2) := dk_21 7 (dk_at dksX0_lead_8 12 rfl rfl)
theorem dX0_lead_199 : decode cX0_lead 199 = .ok (.aload_n 0, 1) := dk_42 (dk_at dksX0_lead_8 14 rfl rfl)
theorem dX0_lead_200 : decode cX0_lead 200 = .ok (.getfield 56, 3) := dk_180 0 56 (dk_at dksX0_lead_8 15 rfl rfl)
theorem dX0_lead_203 : decode cX0_lead 203 = .ok (.iload 5, 2) := dk_21 5 (dk_at dksX0_lead_8 18 rfl rfl)
theorem dX0_lead_205 : decode cX0_lead 205 = .ok (.iaload, 1) := dk_46 (dk_at dksX0_lead_8 20 rfl rfl)
theorem dX0_lead_206 : decode cX0_lead 206 = .ok (.invokevirtual 232, 3) := dk_182 0 232 (dk_at dksX0_lead_8 21 rfl rfl)
theorem dX0_lead_209 : decode cX0_lead 209 = .ok (.istore 8, 2) := dk_54 8 (dk_at dksX0_lead_9 0 rfl rfl)
theorem dX0_lead_211 : decode cX0_lead 211 = .ok (.aload_n 0, 1) := dk_42 (dk_at dksX0_lead_9 2 rfl rfl)
theorem dX0_lead_212 : decode cX0_lead 212 = .ok (.getfield 56, 3) := dk_180 0 56 (dk_at dksX0_lead_9 3 rfl rfl)
theorem dX0_lead_215 : decode cX0_lead 215 = .ok (.iload 6, 2) := dk_21 6 (dk_at dksX0_lead_9 6 rfl rfl)
theorem dX0_lead_217 : decode cX0_lead 217 = .ok (.aload_n 0, 1) := dk_42 (dk_at dksX0_lead_9 8 rfl rfl)
theorem dX0_lead_218 : decode cX0_lead 218 = .ok (.getfield 56, 3) := dk_180 0 56 (dk_at dksX0_lead_9 9 rfl rfl)
theorem dX0_lead_221 : decode cX0_lead 221 = .ok (.iload 6, 2) := dk_21 6 (dk_at dksX0_lead_9 12 rfl rfl)
theorem dX0_lead_223 : decode cX0_lead 223 = .ok (.iaload, 1) := dk_46 (dk_at dksX0_lead_9 14 rfl rfl)
theorem dX0_lead_224 : decode cX0_lead 224 = .ok (.bipush (-9), 2) := dk_16 247 (dk_at dksX0_lead_9 15 rfl rfl)
theorem dX0_lead_226 : decode cX0_lead 226 = .ok (.if_icmp .eq 15, 3) := dk_159 0 15 (dk_at dksX0_lead_9 17 rfl rfl)
theorem dX0_lead_229 : decode cX0_lead 229 = .ok (.iload 8, 2) := dk_21 8 (dk_at dksX0_lead_9 20 rfl rfl)
theorem dX0_lead_231 : decode cX0_lead 231 = .ok (.aload_n 0, 1) := dk_42 (dk_at dksX0_lead_9 22 rfl rfl)
theorem dX0_lead_232 : decode cX0_lead 232 = .ok (.getfield 56, 3) := dk_180 0 56 (dk_at dksX0_lead_10 0 rfl rfl)
theorem dX0_lead_235 : decode cX0_lead 235 = .ok (.iload 6, 2) := dk_21 6 (dk_at dksX0_lead_10 3 rfl rfl)
theorem dX0_lead_237 : decode cX0_lead 237 = .ok (.iaload, 1) := dk_46 (dk_at dksX0_lead_10 5 rfl rfl)
theorem dX0_lead_238 : decode cX0_lead 238 = .ok (.if_icmp .ge 8, 3) := dk_162 0 8 (dk_at dksX0_lead_10 6 rfl rfl)
theorem dX0_lead_241 : decode cX0_lead 241 = .ok (.iload 8, 2) := dk_21 8 (dk_at dksX0_lead_10 9 rfl rfl)
theorem dX0_lead_243 : decode cX0_lead 243 = .ok (.goto 10, 3) := dk_167 0 10 (dk_at dksX0_lead_10 11 rfl rfl)
theorem dX0_lead_246 : decode cX0_lead 246 = .ok (.aload_n 0, 1) := dk_42 (dk_at dksX0_lead_10 14 rfl rfl)
theorem dX0_lead_247 : decode cX0_lead 247 = .ok (.getfield 56, 3) := dk_180 0 56 (dk_at dksX0_lead_10 15 rfl rfl)
theorem dX0_lead_250 : decode cX0_lead 250 = .ok (.iload 6, 2) := dk_21 6 (dk_at dksX0_lead_10 18 rfl rfl)
theorem dX0_lead_252 : decode cX0_lead 252 = .ok (.iaload, 1) := dk_46 (dk_at dksX0_lead_10 20 rfl rfl)
theorem dX0_lead_253 : decode cX0_lead 253 = .ok (.iastore, 1) := dk_79 (dk_at dksX0_lead_10 21 rfl rfl)
theorem dX0_lead_254 : decode cX0_lead 254 = .ok (.iinc 6 1, 3) := dk_132 6 1 (dk_at dksX0_lead_11 0 rfl rfl)
theorem dX0_lead_257 : decode cX0_lead 257 = .ok (.goto (-110), 3) := dk_167 255 146 (dk_at dksX0_lead_11 3 rfl rfl)
theorem dX0_lead_260 : decode cX0_lead 260 = .ok (.iinc 4 1, 3) := dk_132 4 1 (dk_at dksX0_lead_11 6 rfl rfl)
theorem dX0_lead_263 : decode cX0_lead 263 = .ok (.goto (-217), 3) := dk_167 255 39 (dk_at dksX0_lead_11 9 rfl rfl)
theorem dX0_lead_266 : decode cX0_lead 266 = .ok (.return_, 1) := dk_177 (dk_at dksX0_lead_11 12 rfl rfl)
abbrev cX0_over : ByteArray := prog_1_method_28_code
def yX0_over : MethodName := ⟨RX0, "over", "(II)I"⟩
def dkwX0_over_1 : List UInt8 := [184, 0, 229, 54, 4, 28, 21, 4, 96, 42, 180, 0, 44, 27, 46, 96, 172]
abbrev dktX0_over_1 : List UInt8 := dkwX0_over_1 ++ []
def dkwX0_over_0 : List UInt8 := [42, 180, 0, 50, 27, 46, 62, 29, 154, 0, 7, 3, 167, 0, 15, 42, 180, 0, 53, 27, 46, 28, 100, 29]
abbrev dktX0_over_0 : List UInt8 := dkwX0_over_0 ++ dktX0_over_1
theorem dksX0_over_0 : cX0_over.data.toList.drop 0 = dktX0_over_0 := by decide +kernel
theorem dksX0_over_1 : cX0_over.data.toList.drop 24 = dktX0_over_1 := dk_seg dksX0_over_0 24 rfl rfl
theorem dX0_over_0 : decode cX0_over 0 = .ok (.aload_n 0, 1) := dk_42 (dk_at dksX0_over_0 0 rfl rfl)
theorem dX0_over_1 : decode cX0_over 1 = .ok (.getfield 50, 3) := dk_180 0 50 (dk_at dksX0_over_0 1 rfl rfl)
theorem dX0_over_4 : decode cX0_over 4 = .ok (.iload_n 1, 1) := dk_27 (dk_at dksX0_over_0 4 rfl rfl)
theorem dX0_over_5 : decode cX0_over 5 = .ok (.iaload, 1) := dk_46 (dk_at dksX0_over_0 5 rfl rfl)
theorem dX0_over_6 : decode cX0_over 6 = .ok (.istore_n 3, 1) := dk_62 (dk_at dksX0_over_0 6 rfl rfl)
theorem dX0_over_7 : decode cX0_over 7 = .ok (.iload_n 3, 1) := dk_29 (dk_at dksX0_over_0 7 rfl rfl)
theorem dX0_over_8 : decode cX0_over 8 = .ok (.ifCond .ne 7, 3) := dk_154 0 7 (dk_at dksX0_over_0 8 rfl rfl)
theorem dX0_over_11 : decode cX0_over 11 = .ok (.iconst 0, 1) := dk_3 (dk_at dksX0_over_0 11 rfl rfl)
theorem dX0_over_12 : decode cX0_over 12 = .ok (.goto 15, 3) := dk_167 0 15 (dk_at dksX0_over_0 12 rfl rfl)
theorem dX0_over_15 : decode cX0_over 15 = .ok (.aload_n 0, 1) := dk_42 (dk_at dksX0_over_0 15 rfl rfl)
theorem dX0_over_16 : decode cX0_over 16 = .ok (.getfield 53, 3) := dk_180 0 53 (dk_at dksX0_over_0 16 rfl rfl)
theorem dX0_over_19 : decode cX0_over 19 = .ok (.iload_n 1, 1) := dk_27 (dk_at dksX0_over_0 19 rfl rfl)
theorem dX0_over_20 : decode cX0_over 20 = .ok (.iaload, 1) := dk_46 (dk_at dksX0_over_0 20 rfl rfl)
theorem dX0_over_21 : decode cX0_over 21 = .ok (.iload_n 2, 1) := dk_28 (dk_at dksX0_over_0 21 rfl rfl)
theorem dX0_over_22 : decode cX0_over 22 = .ok (.isub, 1) := dk_100 (dk_at dksX0_over_0 22 rfl rfl)
theorem dX0_over_23 : decode cX0_over 23 = .ok (.iload_n 3, 1) := dk_29 (dk_at dksX0_over_0 23 rfl rfl)
theorem dX0_over_24 : decode cX0_over 24 = .ok (.invokestatic 229, 3) := dk_184 0 229 (dk_at dksX0_over_1 0 rfl rfl)
theorem dX0_over_27 : decode cX0_over 27 = .ok (.istore 4, 2) := dk_54 4 (dk_at dksX0_over_1 3 rfl rfl)
theorem dX0_over_29 : decode cX0_over 29 = .ok (.iload_n 2, 1) := dk_28 (dk_at dksX0_over_1 5 rfl rfl)
theorem dX0_over_30 : decode cX0_over 30 = .ok (.iload 4, 2) := dk_21 4 (dk_at dksX0_over_1 6 rfl rfl)
theorem dX0_over_32 : decode cX0_over 32 = .ok (.iadd, 1) := dk_96 (dk_at dksX0_over_1 8 rfl rfl)
theorem dX0_over_33 : decode cX0_over 33 = .ok (.aload_n 0, 1) := dk_42 (dk_at dksX0_over_1 9 rfl rfl)
theorem dX0_over_34 : decode cX0_over 34 = .ok (.getfield 44, 3) := dk_180 0 44 (dk_at dksX0_over_1 10 rfl rfl)
theorem dX0_over_37 : decode cX0_over 37 = .ok (.iload_n 1, 1) := dk_27 (dk_at dksX0_over_1 13 rfl rfl)
theorem dX0_over_38 : decode cX0_over 38 = .ok (.iaload, 1) := dk_46 (dk_at dksX0_over_1 14 rfl rfl)
theorem dX0_over_39 : decode cX0_over 39 = .ok (.iadd, 1) := dk_96 (dk_at dksX0_over_1 15 rfl rfl)
theorem dX0_over_40 : decode cX0_over 40 = .ok (.ireturn, 1) := dk_172 (dk_at dksX0_over_1 16 rfl rfl)
abbrev cX0_toll : ByteArray := prog_1_method_32_code
def yX0_toll : MethodName := ⟨RX0, "toll", "(II)I"⟩
def dkwX0_toll_2 : List UInt8 := [172]
abbrev dktX0_toll_2 : List UInt8 := dkwX0_toll_2 ++ []
def dkwX0_toll_1 : List UInt8 := [180, 0, 56, 28, 46, 16, 247, 160, 0, 11, 42, 4, 182, 0, 181, 167, 0, 9, 42, 180, 0, 56, 28, 46]
abbrev dktX0_toll_1 : List UInt8 := dkwX0_toll_1 ++ dktX0_toll_2
def dkwX0_toll_0 : List UInt8 := [27, 184, 0, 222, 153, 0, 10, 28, 184, 0, 222, 154, 0, 5, 2, 172, 42, 27, 3, 4, 182, 0, 234, 42]
abbrev dktX0_toll_0 : List UInt8 := dkwX0_toll_0 ++ dktX0_toll_1
theorem dksX0_toll_0 : cX0_toll.data.toList.drop 0 = dktX0_toll_0 := by decide +kernel
theorem dksX0_toll_1 : cX0_toll.data.toList.drop 24 = dktX0_toll_1 := dk_seg dksX0_toll_0 24 rfl rfl
theorem dksX0_toll_2 : cX0_toll.data.toList.drop 48 = dktX0_toll_2 := dk_seg dksX0_toll_1 24 rfl rfl
theorem dX0_toll_0 : decode cX0_toll 0 = .ok (.iload_n 1, 1) := dk_27 (dk_at dksX0_toll_0 0 rfl rfl)
theorem dX0_toll_1 : decode cX0_toll 1 = .ok (.invokestatic 222, 3) := dk_184 0 222 (dk_at dksX0_toll_0 1 rfl rfl)
theorem dX0_toll_4 : decode cX0_toll 4 = .ok (.ifCond .eq 10, 3) := dk_153 0 10 (dk_at dksX0_toll_0 4 rfl rfl)
theorem dX0_toll_7 : decode cX0_toll 7 = .ok (.iload_n 2, 1) := dk_28 (dk_at dksX0_toll_0 7 rfl rfl)
theorem dX0_toll_8 : decode cX0_toll 8 = .ok (.invokestatic 222, 3) := dk_184 0 222 (dk_at dksX0_toll_0 8 rfl rfl)
theorem dX0_toll_11 : decode cX0_toll 11 = .ok (.ifCond .ne 5, 3) := dk_154 0 5 (dk_at dksX0_toll_0 11 rfl rfl)
theorem dX0_toll_14 : decode cX0_toll 14 = .ok (.iconst (-1), 1) := dk_2 (dk_at dksX0_toll_0 14 rfl rfl)
theorem dX0_toll_15 : decode cX0_toll 15 = .ok (.ireturn, 1) := dk_172 (dk_at dksX0_toll_0 15 rfl rfl)
theorem dX0_toll_16 : decode cX0_toll 16 = .ok (.aload_n 0, 1) := dk_42 (dk_at dksX0_toll_0 16 rfl rfl)
theorem dX0_toll_17 : decode cX0_toll 17 = .ok (.iload_n 1, 1) := dk_27 (dk_at dksX0_toll_0 17 rfl rfl)
theorem dX0_toll_18 : decode cX0_toll 18 = .ok (.iconst 0, 1) := dk_3 (dk_at dksX0_toll_0 18 rfl rfl)
theorem dX0_toll_19 : decode cX0_toll 19 = .ok (.iconst 1, 1) := dk_4 (dk_at dksX0_toll_0 19 rfl rfl)
theorem dX0_toll_20 : decode cX0_toll 20 = .ok (.invokevirtual 234, 3) := dk_182 0 234 (dk_at dksX0_toll_0 20 rfl rfl)
theorem dX0_toll_23 : decode cX0_toll 23 = .ok (.aload_n 0, 1) := dk_42 (dk_at dksX0_toll_0 23 rfl rfl)
theorem dX0_toll_24 : decode cX0_toll 24 = .ok (.getfield 56, 3) := dk_180 0 56 (dk_at dksX0_toll_1 0 rfl rfl)
theorem dX0_toll_27 : decode cX0_toll 27 = .ok (.iload_n 2, 1) := dk_28 (dk_at dksX0_toll_1 3 rfl rfl)
theorem dX0_toll_28 : decode cX0_toll 28 = .ok (.iaload, 1) := dk_46 (dk_at dksX0_toll_1 4 rfl rfl)
theorem dX0_toll_29 : decode cX0_toll 29 = .ok (.bipush (-9), 2) := dk_16 247 (dk_at dksX0_toll_1 5 rfl rfl)
theorem dX0_toll_31 : decode cX0_toll 31 = .ok (.if_icmp .ne 11, 3) := dk_160 0 11 (dk_at dksX0_toll_1 7 rfl rfl)
theorem dX0_toll_34 : decode cX0_toll 34 = .ok (.aload_n 0, 1) := dk_42 (dk_at dksX0_toll_1 10 rfl rfl)
theorem dX0_toll_35 : decode cX0_toll 35 = .ok (.iconst 1, 1) := dk_4 (dk_at dksX0_toll_1 11 rfl rfl)
theorem dX0_toll_36 : decode cX0_toll 36 = .ok (.invokevirtual 181, 3) := dk_182 0 181 (dk_at dksX0_toll_1 12 rfl rfl)
theorem dX0_toll_39 : decode cX0_toll 39 = .ok (.goto 9, 3) := dk_167 0 9 (dk_at dksX0_toll_1 15 rfl rfl)
theorem dX0_toll_42 : decode cX0_toll 42 = .ok (.aload_n 0, 1) := dk_42 (dk_at dksX0_toll_1 18 rfl rfl)
theorem dX0_toll_43 : decode cX0_toll 43 = .ok (.getfield 56, 3) := dk_180 0 56 (dk_at dksX0_toll_1 19 rfl rfl)
theorem dX0_toll_46 : decode cX0_toll 46 = .ok (.iload_n 2, 1) := dk_28 (dk_at dksX0_toll_1 22 rfl rfl)
theorem dX0_toll_47 : decode cX0_toll 47 = .ok (.iaload, 1) := dk_46 (dk_at dksX0_toll_1 23 rfl rfl)
theorem dX0_toll_48 : decode cX0_toll 48 = .ok (.ireturn, 1) := dk_172 (dk_at dksX0_toll_2 0 rfl rfl)
abbrev cX0_trailer : ByteArray := prog_1_method_36_code
def yX0_trailer : MethodName := ⟨RX0, "trailer", "(III)I"⟩
def dkwX0_trailer_6 : List UInt8 := [181, 0, 245, 42, 21, 4, 3, 28, 28, 182, 1, 8, 21, 4, 172]
abbrev dktX0_trailer_6 : List UInt8 := dkwX0_trailer_6 ++ []
def dkwX0_trailer_5 : List UInt8 := [167, 0, 15, 187, 1, 5, 89, 42, 21, 4, 28, 29, 183, 1, 7, 83, 42, 89, 180, 0, 245, 4, 96]
abbrev dktX0_trailer_5 : List UInt8 := dkwX0_trailer_5 ++ dktX0_trailer_6
def dkwX0_trailer_4 : List UInt8 := [183, 1, 1, 167, 0, 35, 27, 5, 160, 0, 18, 187, 1, 2, 89, 42, 21, 4, 28, 29, 183, 1, 4]
abbrev dktX0_trailer_4 : List UInt8 := dkwX0_trailer_4 ++ dktX0_trailer_5
def dkwX0_trailer_3 : List UInt8 := [21, 4, 28, 29, 183, 0, 252, 167, 0, 55, 27, 4, 160, 0, 18, 187, 0, 255, 89, 42, 21, 4, 28, 29]
abbrev dktX0_trailer_3 : List UInt8 := dkwX0_trailer_3 ++ dktX0_trailer_4
def dkwX0_trailer_2 : List UInt8 := [16, 254, 172, 42, 180, 0, 245, 54, 4, 42, 180, 0, 65, 21, 4, 27, 154, 0, 18, 187, 0, 63, 89, 42]
abbrev dktX0_trailer_2 : List UInt8 := dkwX0_trailer_2 ++ dktX0_trailer_3
def dkwX0_trailer_1 : List UInt8 := [154, 0, 5, 2, 172, 42, 180, 0, 245, 16, 12, 159, 0, 12, 42, 180, 0, 248, 16, 60, 160, 0, 6]
abbrev dktX0_trailer_1 : List UInt8 := dkwX0_trailer_1 ++ dktX0_trailer_2
def dkwX0_trailer_0 : List UInt8 := [27, 3, 6, 184, 0, 171, 153, 0, 20, 28, 184, 0, 222, 153, 0, 13, 29, 3, 18, 251, 184, 0, 171]
abbrev dktX0_trailer_0 : List UInt8 := dkwX0_trailer_0 ++ dktX0_trailer_1
theorem dksX0_trailer_0 : cX0_trailer.data.toList.drop 0 = dktX0_trailer_0 := by decide +kernel
theorem dksX0_trailer_1 : cX0_trailer.data.toList.drop 23 = dktX0_trailer_1 := dk_seg dksX0_trailer_0 23 rfl rfl
theorem dksX0_trailer_2 : cX0_trailer.data.toList.drop 46 = dktX0_trailer_2 := dk_seg dksX0_trailer_1 23 rfl rfl
theorem dksX0_trailer_3 : cX0_trailer.data.toList.drop 70 = dktX0_trailer_3 := dk_seg dksX0_trailer_2 24 rfl rfl
theorem dksX0_trailer_4 : cX0_trailer.data.toList.drop 94 = dktX0_trailer_4 := dk_seg dksX0_trailer_3 24 rfl rfl
theorem dksX0_trailer_5 : cX0_trailer.data.toList.drop 117 = dktX0_trailer_5 := dk_seg dksX0_trailer_4 23 rfl rfl
theorem dksX0_trailer_6 : cX0_trailer.data.toList.drop 140 = dktX0_trailer_6 := dk_seg dksX0_trailer_5 23 rfl rfl
theorem dX0_trailer_0 : decode cX0_trailer 0 = .ok (.iload_n 1, 1) := dk_27 (dk_at dksX0_trailer_0 0 rfl rfl)
theorem dX0_trailer_1 : decode cX0_trailer 1 = .ok (.iconst 0, 1) := dk_3 (dk_at dksX0_trailer_0 1 rfl rfl)
theorem dX0_trailer_2 : decode cX0_trailer 2 = .ok (.iconst 3, 1) := dk_6 (dk_at dksX0_trailer_0 2 rfl rfl)
theorem dX0_trailer_3 : decode cX0_trailer 3 = .ok (.invokestatic 171, 3) := dk_184 0 171 (dk_at dksX0_trailer_0 3 rfl rfl)
theorem dX0_trailer_6 : decode cX0_trailer 6 = .ok (.ifCond .eq 20, 3) := dk_153 0 20 (dk_at dksX0_trailer_0 6 rfl rfl)
theorem dX0_trailer_9 : decode cX0_trailer 9 = .ok (.iload_n 2, 1) := dk_28 (dk_at dksX0_trailer_0 9 rfl rfl)
theorem dX0_trailer_10 : decode cX0_trailer 10 = .ok (.invokestatic 222, 3) := dk_184 0 222 (dk_at dksX0_trailer_0 10 rfl rfl)
theorem dX0_trailer_13 : decode cX0_trailer 13 = .ok (.ifCond .eq 13, 3) := dk_153 0 13 (dk_at dksX0_trailer_0 13 rfl rfl)
theorem dX0_trailer_16 : decode cX0_trailer 16 = .ok (.iload_n 3, 1) := dk_29 (dk_at dksX0_trailer_0 16 rfl rfl)
theorem dX0_trailer_17 : decode cX0_trailer 17 = .ok (.iconst 0, 1) := dk_3 (dk_at dksX0_trailer_0 17 rfl rfl)
theorem dX0_trailer_18 : decode cX0_trailer 18 = .ok (.ldc 251, 2) := dk_18 251 (dk_at dksX0_trailer_0 18 rfl rfl)
theorem dX0_trailer_20 : decode cX0_trailer 20 = .ok (.invokestatic 171, 3) := dk_184 0 171 (dk_at dksX0_trailer_0 20 rfl rfl)
theorem dX0_trailer_23 : decode cX0_trailer 23 = .ok (.ifCond .ne 5, 3) := dk_154 0 5 (dk_at dksX0_trailer_1 0 rfl rfl)
theorem dX0_trailer_26 : decode cX0_trailer 26 = .ok (.iconst (-1), 1) := dk_2 (dk_at dksX0_trailer_1 3 rfl rfl)
theorem dX0_trailer_27 : decode cX0_trailer 27 = .ok (.ireturn, 1) := dk_172 (dk_at dksX0_trailer_1 4 rfl rfl)
theorem dX0_trailer_28 : decode cX0_trailer 28 = .ok (.aload_n 0, 1) := dk_42 (dk_at dksX0_trailer_1 5 rfl rfl)
theorem dX0_trailer_29 : decode cX0_trailer 29 = .ok (.getfield 245, 3) := dk_180 0 245 (dk_at dksX0_trailer_1 6 rfl rfl)
theorem dX0_trailer_32 : decode cX0_trailer 32 = .ok (.bipush 12, 2) := dk_16 12 (dk_at dksX0_trailer_1 9 rfl rfl)
theorem dX0_trailer_34 : decode cX0_trailer 34 = .ok (.if_icmp .eq 12, 3) := dk_159 0 12 (dk_at dksX0_trailer_1 11 rfl rfl)
theorem dX0_trailer_37 : decode cX0_trailer 37 = .ok (.aload_n 0, 1) := dk_42 (dk_at dksX0_trailer_1 14 rfl rfl)
theorem dX0_trailer_38 : decode cX0_trailer 38 = .ok (.getfield 248, 3) := dk_180 0 248 (dk_at dksX0_trailer_1 15 rfl rfl)
theorem dX0_trailer_41 : decode cX0_trailer 41 = .ok (.bipush 60, 2) := dk_16 60 (dk_at dksX0_trailer_1 18 rfl rfl)
theorem dX0_trailer_43 : decode cX0_trailer 43 = .ok (.if_icmp .ne 6, 3) := dk_160 0 6 (dk_at dksX0_trailer_1 20 rfl rfl)
theorem dX0_trailer_46 : decode cX0_trailer 46 = .ok (.bipush (-2), 2) := dk_16 254 (dk_at dksX0_trailer_2 0 rfl rfl)
theorem dX0_trailer_48 : decode cX0_trailer 48 = .ok (.ireturn, 1) := dk_172 (dk_at dksX0_trailer_2 2 rfl rfl)
theorem dX0_trailer_49 : decode cX0_trailer 49 = .ok (.aload_n 0, 1) := dk_42 (dk_at dksX0_trailer_2 3 rfl rfl)
theorem dX0_trailer_50 : decode cX0_trailer 50 = .ok (.getfield 245, 3) := dk_180 0 245 (dk_at dksX0_trailer_2 4 rfl rfl)
theorem dX0_trailer_53 : decode cX0_trailer 53 = .ok (.istore 4, 2) := dk_54 4 (dk_at dksX0_trailer_2 7 rfl rfl)
theorem dX0_trailer_55 : decode cX0_trailer 55 = .ok (.aload_n 0, 1) := dk_42 (dk_at dksX0_trailer_2 9 rfl rfl)
theorem dX0_trailer_56 : decode cX0_trailer 56 = .ok (.getfield 65, 3) := dk_180 0 65 (dk_at dksX0_trailer_2 10 rfl rfl)
theorem dX0_trailer_59 : decode cX0_trailer 59 = .ok (.iload 4, 2) := dk_21 4 (dk_at dksX0_trailer_2 13 rfl rfl)
theorem dX0_trailer_61 : decode cX0_trailer 61 = .ok (.iload_n 1, 1) := dk_27 (dk_at dksX0_trailer_2 15 rfl rfl)
theorem dX0_trailer_62 : decode cX0_trailer 62 = .ok (.ifCond .ne 18, 3) := dk_154 0 18 (dk_at dksX0_trailer_2 16 rfl rfl)
theorem dX0_trailer_65 : decode cX0_trailer 65 = .ok (.new 63, 3) := dk_187 0 63 (dk_at dksX0_trailer_2 19 rfl rfl)
theorem dX0_trailer_68 : decode cX0_trailer 68 = .ok (.dup, 1) := dk_89 (dk_at dksX0_trailer_2 22 rfl rfl)
theorem dX0_trailer_69 : decode cX0_trailer 69 = .ok (.aload_n 0, 1) := dk_42 (dk_at dksX0_trailer_2 23 rfl rfl)
theorem dX0_trailer_70 : decode cX0_trailer 70 = .ok (.iload 4, 2) := dk_21 4 (dk_at dksX0_trailer_3 0 rfl rfl)
theorem dX0_trailer_72 : decode cX0_trailer 72 = .ok (.iload_n 2, 1) := dk_28 (dk_at dksX0_trailer_3 2 rfl rfl)
theorem dX0_trailer_73 : decode cX0_trailer 73 = .ok (.iload_n 3, 1) := dk_29 (dk_at dksX0_trailer_3 3 rfl rfl)
theorem dX0_trailer_74 : decode cX0_trailer 74 = .ok (.invokespecial 252, 3) := dk_183 0 252 (dk_at dksX0_trailer_3 4 rfl rfl)
theorem dX0_trailer_77 : decode cX0_trailer 77 = .ok (.goto 55, 3) := dk_167 0 55 (dk_at dksX0_trailer_3 7 rfl rfl)
theorem dX0_trailer_80 : decode cX0_trailer 80 = .ok (.iload_n 1, 1) := dk_27 (dk_at dksX0_trailer_3 10 rfl rfl)
theorem dX0_trailer_81 : decode cX0_trailer 81 = .ok (.iconst 1, 1) := dk_4 (dk_at dksX0_trailer_3 11 rfl rfl)
theorem dX0_trailer_82 : decode cX0_trailer 82 = .ok (.if_icmp .ne 18, 3) := dk_160 0 18 (dk_at dksX0_trailer_3 12 rfl rfl)
theorem dX0_trailer_85 : decode cX0_trailer 85 = .ok (.new 255, 3) := dk_187 0 255 (dk_at dksX0_trailer_3 15 rfl rfl)
theorem dX0_trailer_88 : decode cX0_trailer 88 = .ok (.dup, 1) := dk_89 (dk_at dksX0_trailer_3 18 rfl rfl)
theorem dX0_trailer_89 : decode cX0_trailer 89 = .ok (.aload_n 0, 1) := dk_42 (dk_at dksX0_trailer_3 19 rfl rfl)
theorem dX0_trailer_90 : decode cX0_trailer 90 = .ok (.iload 4, 2) := dk_21 4 (dk_at dksX0_trailer_3 20 rfl rfl)
theorem dX0_trailer_92 : decode cX0_trailer 92 = .ok (.iload_n 2, 1) := dk_28 (dk_at dksX0_trailer_3 22 rfl rfl)
theorem dX0_trailer_93 : decode cX0_trailer 93 = .ok (.iload_n 3, 1) := dk_29 (dk_at dksX0_trailer_3 23 rfl rfl)
theorem dX0_trailer_94 : decode cX0_trailer 94 = .ok (.invokespecial 257, 3) := dk_183 1 1 (dk_at dksX0_trailer_4 0 rfl rfl)
theorem dX0_trailer_97 : decode cX0_trailer 97 = .ok (.goto 35, 3) := dk_167 0 35 (dk_at dksX0_trailer_4 3 rfl rfl)
theorem dX0_trailer_100 : decode cX0_trailer 100 = .ok (.iload_n 1, 1) := dk_27 (dk_at dksX0_trailer_4 6 rfl rfl)
theorem dX0_trailer_101 : decode cX0_trailer 101 = .ok (.iconst 2, 1) := dk_5 (dk_at dksX0_trailer_4 7 rfl rfl)
theorem dX0_trailer_102 : decode cX0_trailer 102 = .ok (.if_icmp .ne 18, 3) := dk_160 0 18 (dk_at dksX0_trailer_4 8 rfl rfl)
theorem dX0_trailer_105 : decode cX0_trailer 105 = .ok (.new 258, 3) := dk_187 1 2 (dk_at dksX0_trailer_4 11 rfl rfl)
theorem dX0_trailer_108 : decode cX0_trailer 108 = .ok (.dup, 1) := dk_89 (dk_at dksX0_trailer_4 14 rfl rfl)
theorem dX0_trailer_109 : decode cX0_trailer 109 = .ok (.aload_n 0, 1) := dk_42 (dk_at dksX0_trailer_4 15 rfl rfl)
theorem dX0_trailer_110 : decode cX0_trailer 110 = .ok (.iload 4, 2) := dk_21 4 (dk_at dksX0_trailer_4 16 rfl rfl)
theorem dX0_trailer_112 : decode cX0_trailer 112 = .ok (.iload_n 2, 1) := dk_28 (dk_at dksX0_trailer_4 18 rfl rfl)
theorem dX0_trailer_113 : decode cX0_trailer 113 = .ok (.iload_n 3, 1) := dk_29 (dk_at dksX0_trailer_4 19 rfl rfl)
theorem dX0_trailer_114 : decode cX0_trailer 114 = .ok (.invokespecial 260, 3) := dk_183 1 4 (dk_at dksX0_trailer_4 20 rfl rfl)
theorem dX0_trailer_117 : decode cX0_trailer 117 = .ok (.goto 15, 3) := dk_167 0 15 (dk_at dksX0_trailer_5 0 rfl rfl)
theorem dX0_trailer_120 : decode cX0_trailer 120 = .ok (.new 261, 3) := dk_187 1 5 (dk_at dksX0_trailer_5 3 rfl rfl)
theorem dX0_trailer_123 : decode cX0_trailer 123 = .ok (.dup, 1) := dk_89 (dk_at dksX0_trailer_5 6 rfl rfl)
theorem dX0_trailer_124 : decode cX0_trailer 124 = .ok (.aload_n 0, 1) := dk_42 (dk_at dksX0_trailer_5 7 rfl rfl)
theorem dX0_trailer_125 : decode cX0_trailer 125 = .ok (.iload 4, 2) := dk_21 4 (dk_at dksX0_trailer_5 8 rfl rfl)
theorem dX0_trailer_127 : decode cX0_trailer 127 = .ok (.iload_n 2, 1) := dk_28 (dk_at dksX0_trailer_5 10 rfl rfl)
theorem dX0_trailer_128 : decode cX0_trailer 128 = .ok (.iload_n 3, 1) := dk_29 (dk_at dksX0_trailer_5 11 rfl rfl)
theorem dX0_trailer_129 : decode cX0_trailer 129 = .ok (.invokespecial 263, 3) := dk_183 1 7 (dk_at dksX0_trailer_5 12 rfl rfl)
theorem dX0_trailer_132 : decode cX0_trailer 132 = .ok (.aastore, 1) := dk_83 (dk_at dksX0_trailer_5 15 rfl rfl)
theorem dX0_trailer_133 : decode cX0_trailer 133 = .ok (.aload_n 0, 1) := dk_42 (dk_at dksX0_trailer_5 16 rfl rfl)
theorem dX0_trailer_134 : decode cX0_trailer 134 = .ok (.dup, 1) := dk_89 (dk_at dksX0_trailer_5 17 rfl rfl)
theorem dX0_trailer_135 : decode cX0_trailer 135 = .ok (.getfield 245, 3) := dk_180 0 245 (dk_at dksX0_trailer_5 18 rfl rfl)
theorem dX0_trailer_138 : decode cX0_trailer 138 = .ok (.iconst 1, 1) := dk_4 (dk_at dksX0_trailer_5 21 rfl rfl)
theorem dX0_trailer_139 : decode cX0_trailer 139 = .ok (.iadd, 1) := dk_96 (dk_at dksX0_trailer_5 22 rfl rfl)
theorem dX0_trailer_140 : decode cX0_trailer 140 = .ok (.putfield 245, 3) := dk_181 0 245 (dk_at dksX0_trailer_6 0 rfl rfl)
theorem dX0_trailer_143 : decode cX0_trailer 143 = .ok (.aload_n 0, 1) := dk_42 (dk_at dksX0_trailer_6 3 rfl rfl)
theorem dX0_trailer_144 : decode cX0_trailer 144 = .ok (.iload 4, 2) := dk_21 4 (dk_at dksX0_trailer_6 4 rfl rfl)
theorem dX0_trailer_146 : decode cX0_trailer 146 = .ok (.iconst 0, 1) := dk_3 (dk_at dksX0_trailer_6 6 rfl rfl)
theorem dX0_trailer_147 : decode cX0_trailer 147 = .ok (.iload_n 2, 1) := dk_28 (dk_at dksX0_trailer_6 7 rfl rfl)
theorem dX0_trailer_148 : decode cX0_trailer 148 = .ok (.iload_n 2, 1) := dk_28 (dk_at dksX0_trailer_6 8 rfl rfl)
theorem dX0_trailer_149 : decode cX0_trailer 149 = .ok (.invokevirtual 264, 3) := dk_182 1 8 (dk_at dksX0_trailer_6 9 rfl rfl)
theorem dX0_trailer_152 : decode cX0_trailer 152 = .ok (.iload 4, 2) := dk_21 4 (dk_at dksX0_trailer_6 12 rfl rfl)
theorem dX0_trailer_154 : decode cX0_trailer 154 = .ok (.ireturn, 1) := dk_172 (dk_at dksX0_trailer_6 14 rfl rfl)
abbrev cX0_enter : ByteArray := prog_1_method_34_code
def yX0_enter : MethodName := ⟨RX0, "enter", "(IIII)V"⟩
def dkwX0_enter_2 : List UInt8 := [180, 0, 248, 21, 4, 79, 42, 89, 180, 0, 248, 4, 96, 181, 0, 248, 177]
abbrev dktX0_enter_2 : List UInt8 := dkwX0_enter_2 ++ []
def dkwX0_enter_1 : List UInt8 := [42, 180, 0, 248, 42, 180, 0, 219, 79, 42, 180, 0, 84, 42, 180, 0, 248, 29, 79, 42, 180, 0, 87, 42]
abbrev dktX0_enter_1 : List UInt8 := dkwX0_enter_1 ++ dktX0_enter_2
def dkwX0_enter_0 : List UInt8 := [42, 180, 0, 75, 42, 180, 0, 248, 27, 79, 42, 180, 0, 78, 42, 180, 0, 248, 28, 79, 42, 180, 0, 81]
abbrev dktX0_enter_0 : List UInt8 := dkwX0_enter_0 ++ dktX0_enter_1
theorem dksX0_enter_0 : cX0_enter.data.toList.drop 0 = dktX0_enter_0 := by decide +kernel
theorem dksX0_enter_1 : cX0_enter.data.toList.drop 24 = dktX0_enter_1 := dk_seg dksX0_enter_0 24 rfl rfl
theorem dksX0_enter_2 : cX0_enter.data.toList.drop 48 = dktX0_enter_2 := dk_seg dksX0_enter_1 24 rfl rfl
theorem dX0_enter_0 : decode cX0_enter 0 = .ok (.aload_n 0, 1) := dk_42 (dk_at dksX0_enter_0 0 rfl rfl)
theorem dX0_enter_1 : decode cX0_enter 1 = .ok (.getfield 75, 3) := dk_180 0 75 (dk_at dksX0_enter_0 1 rfl rfl)
theorem dX0_enter_4 : decode cX0_enter 4 = .ok (.aload_n 0, 1) := dk_42 (dk_at dksX0_enter_0 4 rfl rfl)
theorem dX0_enter_5 : decode cX0_enter 5 = .ok (.getfield 248, 3) := dk_180 0 248 (dk_at dksX0_enter_0 5 rfl rfl)
theorem dX0_enter_8 : decode cX0_enter 8 = .ok (.iload_n 1, 1) := dk_27 (dk_at dksX0_enter_0 8 rfl rfl)
theorem dX0_enter_9 : decode cX0_enter 9 = .ok (.iastore, 1) := dk_79 (dk_at dksX0_enter_0 9 rfl rfl)
theorem dX0_enter_10 : decode cX0_enter 10 = .ok (.aload_n 0, 1) := dk_42 (dk_at dksX0_enter_0 10 rfl rfl)
theorem dX0_enter_11 : decode cX0_enter 11 = .ok (.getfield 78, 3) := dk_180 0 78 (dk_at dksX0_enter_0 11 rfl rfl)
theorem dX0_enter_14 : decode cX0_enter 14 = .ok (.aload_n 0, 1) := dk_42 (dk_at dksX0_enter_0 14 rfl rfl)
theorem dX0_enter_15 : decode cX0_enter 15 = .ok (.getfield 248, 3) := dk_180 0 248 (dk_at dksX0_enter_0 15 rfl rfl)
theorem dX0_enter_18 : decode cX0_enter 18 = .ok (.iload_n 2, 1) := dk_28 (dk_at dksX0_enter_0 18 rfl rfl)
theorem dX0_enter_19 : decode cX0_enter 19 = .ok (.iastore, 1) := dk_79 (dk_at dksX0_enter_0 19 rfl rfl)
theorem dX0_enter_20 : decode cX0_enter 20 = .ok (.aload_n 0, 1) := dk_42 (dk_at dksX0_enter_0 20 rfl rfl)
theorem dX0_enter_21 : decode cX0_enter 21 = .ok (.getfield 81, 3) := dk_180 0 81 (dk_at dksX0_enter_0 21 rfl rfl)
theorem dX0_enter_24 : decode cX0_enter 24 = .ok (.aload_n 0, 1) := dk_42 (dk_at dksX0_enter_1 0 rfl rfl)
theorem dX0_enter_25 : decode cX0_enter 25 = .ok (.getfield 248, 3) := dk_180 0 248 (dk_at dksX0_enter_1 1 rfl rfl)
theorem dX0_enter_28 : decode cX0_enter 28 = .ok (.aload_n 0, 1) := dk_42 (dk_at dksX0_enter_1 4 rfl rfl)
theorem dX0_enter_29 : decode cX0_enter 29 = .ok (.getfield 219, 3) := dk_180 0 219 (dk_at dksX0_enter_1 5 rfl rfl)
theorem dX0_enter_32 : decode cX0_enter 32 = .ok (.iastore, 1) := dk_79 (dk_at dksX0_enter_1 8 rfl rfl)
theorem dX0_enter_33 : decode cX0_enter 33 = .ok (.aload_n 0, 1) := dk_42 (dk_at dksX0_enter_1 9 rfl rfl)
theorem dX0_enter_34 : decode cX0_enter 34 = .ok (.getfield 84, 3) := dk_180 0 84 (dk_at dksX0_enter_1 10 rfl rfl)
theorem dX0_enter_37 : decode cX0_enter 37 = .ok (.aload_n 0, 1) := dk_42 (dk_at dksX0_enter_1 13 rfl rfl)
theorem dX0_enter_38 : decode cX0_enter 38 = .ok (.getfield 248, 3) := dk_180 0 248 (dk_at dksX0_enter_1 14 rfl rfl)
theorem dX0_enter_41 : decode cX0_enter 41 = .ok (.iload_n 3, 1) := dk_29 (dk_at dksX0_enter_1 17 rfl rfl)
theorem dX0_enter_42 : decode cX0_enter 42 = .ok (.iastore, 1) := dk_79 (dk_at dksX0_enter_1 18 rfl rfl)
theorem dX0_enter_43 : decode cX0_enter 43 = .ok (.aload_n 0, 1) := dk_42 (dk_at dksX0_enter_1 19 rfl rfl)
theorem dX0_enter_44 : decode cX0_enter 44 = .ok (.getfield 87, 3) := dk_180 0 87 (dk_at dksX0_enter_1 20 rfl rfl)
theorem dX0_enter_47 : decode cX0_enter 47 = .ok (.aload_n 0, 1) := dk_42 (dk_at dksX0_enter_1 23 rfl rfl)
theorem dX0_enter_48 : decode cX0_enter 48 = .ok (.getfield 248, 3) := dk_180 0 248 (dk_at dksX0_enter_2 0 rfl rfl)
theorem dX0_enter_51 : decode cX0_enter 51 = .ok (.iload 4, 2) := dk_21 4 (dk_at dksX0_enter_2 3 rfl rfl)
theorem dX0_enter_53 : decode cX0_enter 53 = .ok (.iastore, 1) := dk_79 (dk_at dksX0_enter_2 5 rfl rfl)
theorem dX0_enter_54 : decode cX0_enter 54 = .ok (.aload_n 0, 1) := dk_42 (dk_at dksX0_enter_2 6 rfl rfl)
theorem dX0_enter_55 : decode cX0_enter 55 = .ok (.dup, 1) := dk_89 (dk_at dksX0_enter_2 7 rfl rfl)
theorem dX0_enter_56 : decode cX0_enter 56 = .ok (.getfield 248, 3) := dk_180 0 248 (dk_at dksX0_enter_2 8 rfl rfl)
theorem dX0_enter_59 : decode cX0_enter 59 = .ok (.iconst 1, 1) := dk_4 (dk_at dksX0_enter_2 11 rfl rfl)
theorem dX0_enter_60 : decode cX0_enter 60 = .ok (.iadd, 1) := dk_96 (dk_at dksX0_enter_2 12 rfl rfl)
theorem dX0_enter_61 : decode cX0_enter 61 = .ok (.putfield 248, 3) := dk_181 0 248 (dk_at dksX0_enter_2 13 rfl rfl)
theorem dX0_enter_64 : decode cX0_enter 64 = .ok (.return_, 1) := dk_177 (dk_at dksX0_enter_2 16 rfl rfl)
abbrev cX0_told : ByteArray := prog_1_method_38_code
def yX0_told : MethodName := ⟨RX0, "told", "(II)I"⟩
def dkwX0_told_1 : List UInt8 := [50, 28, 184, 1, 41, 4, 182, 0, 185, 167, 0, 4, 2, 172]
abbrev dktX0_told_1 : List UInt8 := dkwX0_told_1 ++ []
def dkwX0_told_0 : List UInt8 := [42, 27, 182, 1, 38, 153, 0, 31, 28, 3, 16, 7, 184, 0, 171, 153, 0, 21, 42, 42, 180, 0, 65, 27]
abbrev dktX0_told_0 : List UInt8 := dkwX0_told_0 ++ dktX0_told_1
theorem dksX0_told_0 : cX0_told.data.toList.drop 0 = dktX0_told_0 := by decide +kernel
theorem dksX0_told_1 : cX0_told.data.toList.drop 24 = dktX0_told_1 := dk_seg dksX0_told_0 24 rfl rfl
theorem dX0_told_0 : decode cX0_told 0 = .ok (.aload_n 0, 1) := dk_42 (dk_at dksX0_told_0 0 rfl rfl)
theorem dX0_told_1 : decode cX0_told 1 = .ok (.iload_n 1, 1) := dk_27 (dk_at dksX0_told_0 1 rfl rfl)
theorem dX0_told_2 : decode cX0_told 2 = .ok (.invokevirtual 294, 3) := dk_182 1 38 (dk_at dksX0_told_0 2 rfl rfl)
theorem dX0_told_5 : decode cX0_told 5 = .ok (.ifCond .eq 31, 3) := dk_153 0 31 (dk_at dksX0_told_0 5 rfl rfl)
theorem dX0_told_8 : decode cX0_told 8 = .ok (.iload_n 2, 1) := dk_28 (dk_at dksX0_told_0 8 rfl rfl)
theorem dX0_told_9 : decode cX0_told 9 = .ok (.iconst 0, 1) := dk_3 (dk_at dksX0_told_0 9 rfl rfl)
theorem dX0_told_10 : decode cX0_told 10 = .ok (.bipush 7, 2) := dk_16 7 (dk_at dksX0_told_0 10 rfl rfl)
theorem dX0_told_12 : decode cX0_told 12 = .ok (.invokestatic 171, 3) := dk_184 0 171 (dk_at dksX0_told_0 12 rfl rfl)
theorem dX0_told_15 : decode cX0_told 15 = .ok (.ifCond .eq 21, 3) := dk_153 0 21 (dk_at dksX0_told_0 15 rfl rfl)
theorem dX0_told_18 : decode cX0_told 18 = .ok (.aload_n 0, 1) := dk_42 (dk_at dksX0_told_0 18 rfl rfl)
theorem dX0_told_19 : decode cX0_told 19 = .ok (.aload_n 0, 1) := dk_42 (dk_at dksX0_told_0 19 rfl rfl)
theorem dX0_told_20 : decode cX0_told 20 = .ok (.getfield 65, 3) := dk_180 0 65 (dk_at dksX0_told_0 20 rfl rfl)
theorem dX0_told_23 : decode cX0_told 23 = .ok (.iload_n 1, 1) := dk_27 (dk_at dksX0_told_0 23 rfl rfl)
theorem dX0_told_24 : decode cX0_told 24 = .ok (.aaload, 1) := dk_50 (dk_at dksX0_told_1 0 rfl rfl)
theorem dX0_told_25 : decode cX0_told 25 = .ok (.iload_n 2, 1) := dk_28 (dk_at dksX0_told_1 1 rfl rfl)
theorem dX0_told_26 : decode cX0_told 26 = .ok (.invokestatic 297, 3) := dk_184 1 41 (dk_at dksX0_told_1 2 rfl rfl)
theorem dX0_told_29 : decode cX0_told 29 = .ok (.iconst 1, 1) := dk_4 (dk_at dksX0_told_1 5 rfl rfl)
theorem dX0_told_30 : decode cX0_told 30 = .ok (.invokevirtual 185, 3) := dk_182 0 185 (dk_at dksX0_told_1 6 rfl rfl)
theorem dX0_told_33 : decode cX0_told 33 = .ok (.goto 4, 3) := dk_167 0 4 (dk_at dksX0_told_1 9 rfl rfl)
theorem dX0_told_36 : decode cX0_told 36 = .ok (.iconst (-1), 1) := dk_2 (dk_at dksX0_told_1 12 rfl rfl)
theorem dX0_told_37 : decode cX0_told 37 = .ok (.ireturn, 1) := dk_172 (dk_at dksX0_told_1 13 rfl rfl)
abbrev cX0_isTrailer : ByteArray := prog_1_method_33_code
def yX0_isTrailer : MethodName := ⟨RX0, "isTrailer", "(I)Z"⟩
def dkwX0_isTrailer_0 : List UInt8 := [27, 3, 42, 180, 0, 245, 4, 100, 184, 0, 171, 172]
abbrev dktX0_isTrailer_0 : List UInt8 := dkwX0_isTrailer_0 ++ []
theorem dksX0_isTrailer_0 : cX0_isTrailer.data.toList.drop 0 = dktX0_isTrailer_0 := by decide +kernel
theorem dX0_isTrailer_0 : decode cX0_isTrailer 0 = .ok (.iload_n 1, 1) := dk_27 (dk_at dksX0_isTrailer_0 0 rfl rfl)
theorem dX0_isTrailer_1 : decode cX0_isTrailer 1 = .ok (.iconst 0, 1) := dk_3 (dk_at dksX0_isTrailer_0 1 rfl rfl)
theorem dX0_isTrailer_2 : decode cX0_isTrailer 2 = .ok (.aload_n 0, 1) := dk_42 (dk_at dksX0_isTrailer_0 2 rfl rfl)
theorem dX0_isTrailer_3 : decode cX0_isTrailer 3 = .ok (.getfield 245, 3) := dk_180 0 245 (dk_at dksX0_isTrailer_0 3 rfl rfl)
theorem dX0_isTrailer_6 : decode cX0_isTrailer 6 = .ok (.iconst 1, 1) := dk_4 (dk_at dksX0_isTrailer_0 6 rfl rfl)
theorem dX0_isTrailer_7 : decode cX0_isTrailer 7 = .ok (.isub, 1) := dk_100 (dk_at dksX0_isTrailer_0 7 rfl rfl)
theorem dX0_isTrailer_8 : decode cX0_isTrailer 8 = .ok (.invokestatic 171, 3) := dk_184 0 171 (dk_at dksX0_isTrailer_0 8 rfl rfl)
theorem dX0_isTrailer_11 : decode cX0_isTrailer 11 = .ok (.ireturn, 1) := dk_172 (dk_at dksX0_isTrailer_0 11 rfl rfl)
abbrev cX0_tells : ByteArray := prog_1_method_37_code
def yX0_tells : MethodName := ⟨RX0, "tells", "(LTrailerYards$Trailer;I)I"⟩
def dkwX0_tells_4 : List UInt8 := [153, 0, 7, 4, 167, 0, 4, 3, 172]
abbrev dktX0_tells_4 : List UInt8 := dkwX0_tells_4 ++ []
def dkwX0_tells_3 : List UInt8 := [167, 0, 4, 3, 172, 42, 180, 1, 26, 172, 42, 180, 1, 29, 172, 42, 180, 1, 32, 172, 42, 180, 1, 35]
abbrev dktX0_tells_3 : List UInt8 := dkwX0_tells_3 ++ dktX0_tells_4
def dkwX0_tells_2 : List UInt8 := [42, 182, 1, 12, 172, 42, 180, 1, 16, 172, 42, 180, 1, 19, 172, 42, 180, 1, 22, 153, 0, 7, 4]
abbrev dktX0_tells_2 : List UInt8 := dkwX0_tells_2 ++ dktX0_tells_3
def dkwX0_tells_1 : List UInt8 := [170, 0, 0, 0, 0, 0, 86, 0, 0, 0, 0, 0, 0, 0, 6, 0, 0, 0, 43, 0, 0, 0, 48, 0, 0, 0, 53, 0, 0, 0, 58, 0, 0, 0, 71, 0, 0, 0, 76, 0, 0, 0, 81]
abbrev dktX0_tells_1 : List UInt8 := dkwX0_tells_1 ++ dktX0_tells_2
def dkwX0_tells_0 : List UInt8 := [27]
abbrev dktX0_tells_0 : List UInt8 := dkwX0_tells_0 ++ dktX0_tells_1
theorem dksX0_tells_0 : cX0_tells.data.toList.drop 0 = dktX0_tells_0 := by decide +kernel
theorem dksX0_tells_1 : cX0_tells.data.toList.drop 1 = dktX0_tells_1 := dk_seg dksX0_tells_0 1 rfl rfl
theorem dksX0_tells_2 : cX0_tells.data.toList.drop 44 = dktX0_tells_2 := dk_seg dksX0_tells_1 43 rfl rfl
theorem dksX0_tells_3 : cX0_tells.data.toList.drop 67 = dktX0_tells_3 := dk_seg dksX0_tells_2 23 rfl rfl
theorem dksX0_tells_4 : cX0_tells.data.toList.drop 91 = dktX0_tells_4 := dk_seg dksX0_tells_3 24 rfl rfl
theorem dX0_tells_0 : decode cX0_tells 0 = .ok (.iload_n 1, 1) := dk_27 (dk_at dksX0_tells_0 0 rfl rfl)
theorem dX0_tells_1 : decode cX0_tells 1 = .ok (.tableswitch 86 0 6 #[43, 48, 53, 58, 71, 76, 81], 43) := by decide +kernel
theorem dX0_tells_44 : decode cX0_tells 44 = .ok (.aload_n 0, 1) := dk_42 (dk_at dksX0_tells_2 0 rfl rfl)
theorem dX0_tells_45 : decode cX0_tells 45 = .ok (.invokevirtual 268, 3) := dk_182 1 12 (dk_at dksX0_tells_2 1 rfl rfl)
theorem dX0_tells_48 : decode cX0_tells 48 = .ok (.ireturn, 1) := dk_172 (dk_at dksX0_tells_2 4 rfl rfl)
theorem dX0_tells_49 : decode cX0_tells 49 = .ok (.aload_n 0, 1) := dk_42 (dk_at dksX0_tells_2 5 rfl rfl)
theorem dX0_tells_50 : decode cX0_tells 50 = .ok (.getfield 272, 3) := dk_180 1 16 (dk_at dksX0_tells_2 6 rfl rfl)
theorem dX0_tells_53 : decode cX0_tells 53 = .ok (.ireturn, 1) := dk_172 (dk_at dksX0_tells_2 9 rfl rfl)
theorem dX0_tells_54 : decode cX0_tells 54 = .ok (.aload_n 0, 1) := dk_42 (dk_at dksX0_tells_2 10 rfl rfl)
theorem dX0_tells_55 : decode cX0_tells 55 = .ok (.getfield 275, 3) := dk_180 1 19 (dk_at dksX0_tells_2 11 rfl rfl)
theorem dX0_tells_58 : decode cX0_tells 58 = .ok (.ireturn, 1) := dk_172 (dk_at dksX0_tells_2 14 rfl rfl)
theorem dX0_tells_59 : decode cX0_tells 59 = .ok (.aload_n 0, 1) := dk_42 (dk_at dksX0_tells_2 15 rfl rfl)
theorem dX0_tells_60 : decode cX0_tells 60 = .ok (.getfield 278, 3) := dk_180 1 22 (dk_at dksX0_tells_2 16 rfl rfl)
theorem dX0_tells_63 : decode cX0_tells 63 = .ok (.ifCond .eq 7, 3) := dk_153 0 7 (dk_at dksX0_tells_2 19 rfl rfl)
theorem dX0_tells_66 : decode cX0_tells 66 = .ok (.iconst 1, 1) := dk_4 (dk_at dksX0_tells_2 22 rfl rfl)
theorem dX0_tells_67 : decode cX0_tells 67 = .ok (.goto 4, 3) := dk_167 0 4 (dk_at dksX0_tells_3 0 rfl rfl)
theorem dX0_tells_70 : decode cX0_tells 70 = .ok (.iconst 0, 1) := dk_3 (dk_at dksX0_tells_3 3 rfl rfl)
theorem dX0_tells_71 : decode cX0_tells 71 = .ok (.ireturn, 1) := dk_172 (dk_at dksX0_tells_3 4 rfl rfl)
theorem dX0_tells_72 : decode cX0_tells 72 = .ok (.aload_n 0, 1) := dk_42 (dk_at dksX0_tells_3 5 rfl rfl)
theorem dX0_tells_73 : decode cX0_tells 73 = .ok (.getfield 282, 3) := dk_180 1 26 (dk_at dksX0_tells_3 6 rfl rfl)
theorem dX0_tells_76 : decode cX0_tells 76 = .ok (.ireturn, 1) := dk_172 (dk_at dksX0_tells_3 9 rfl rfl)
theorem dX0_tells_77 : decode cX0_tells 77 = .ok (.aload_n 0, 1) := dk_42 (dk_at dksX0_tells_3 10 rfl rfl)
theorem dX0_tells_78 : decode cX0_tells 78 = .ok (.getfield 285, 3) := dk_180 1 29 (dk_at dksX0_tells_3 11 rfl rfl)
theorem dX0_tells_81 : decode cX0_tells 81 = .ok (.ireturn, 1) := dk_172 (dk_at dksX0_tells_3 14 rfl rfl)
theorem dX0_tells_82 : decode cX0_tells 82 = .ok (.aload_n 0, 1) := dk_42 (dk_at dksX0_tells_3 15 rfl rfl)
theorem dX0_tells_83 : decode cX0_tells 83 = .ok (.getfield 288, 3) := dk_180 1 32 (dk_at dksX0_tells_3 16 rfl rfl)
theorem dX0_tells_86 : decode cX0_tells 86 = .ok (.ireturn, 1) := dk_172 (dk_at dksX0_tells_3 19 rfl rfl)
theorem dX0_tells_87 : decode cX0_tells 87 = .ok (.aload_n 0, 1) := dk_42 (dk_at dksX0_tells_3 20 rfl rfl)
theorem dX0_tells_88 : decode cX0_tells 88 = .ok (.getfield 291, 3) := dk_180 1 35 (dk_at dksX0_tells_3 21 rfl rfl)
theorem dX0_tells_91 : decode cX0_tells 91 = .ok (.ifCond .eq 7, 3) := dk_153 0 7 (dk_at dksX0_tells_4 0 rfl rfl)
theorem dX0_tells_94 : decode cX0_tells 94 = .ok (.iconst 1, 1) := dk_4 (dk_at dksX0_tells_4 3 rfl rfl)
theorem dX0_tells_95 : decode cX0_tells 95 = .ok (.goto 4, 3) := dk_167 0 4 (dk_at dksX0_tells_4 4 rfl rfl)
theorem dX0_tells_98 : decode cX0_tells 98 = .ok (.iconst 0, 1) := dk_3 (dk_at dksX0_tells_4 7 rfl rfl)
theorem dX0_tells_99 : decode cX0_tells 99 = .ok (.ireturn, 1) := dk_172 (dk_at dksX0_tells_4 8 rfl rfl)
abbrev cX0_mark : ByteArray := prog_1_method_39_code
def yX0_mark : MethodName := ⟨RX0, "mark", "(II)I"⟩
def dkwX0_mark_5 : List UInt8 := [192, 1, 5, 58, 6, 25, 6, 182, 1, 52, 172, 58, 4, 42, 6, 182, 0, 181, 172]
abbrev dktX0_mark_5 : List UInt8 := dkwX0_mark_5 ++ []
def dkwX0_mark_4 : List UInt8 := [167, 0, 8, 25, 4, 182, 1, 48, 172, 45, 192, 1, 2, 58, 5, 25, 5, 182, 1, 51, 172, 45]
abbrev dktX0_mark_4 : List UInt8 := dkwX0_mark_4 ++ dktX0_mark_5
def dkwX0_mark_3 : List UInt8 := [45, 192, 0, 255, 58, 4, 25, 4, 193, 1, 5, 153, 0, 14, 25, 4, 192, 1, 5, 182, 1, 45]
abbrev dktX0_mark_3 : List UInt8 := dkwX0_mark_3 ++ dktX0_mark_4
def dkwX0_mark_2 : List UInt8 := [171, 0, 0, 0, 68, 0, 0, 0, 2, 0, 0, 0, 1, 0, 0, 0, 25, 0, 0, 0, 2, 0, 0, 0, 56]
abbrev dktX0_mark_2 : List UInt8 := dkwX0_mark_2 ++ dktX0_mark_3
def dkwX0_mark_1 : List UInt8 := [50, 78, 28]
abbrev dktX0_mark_1 : List UInt8 := dkwX0_mark_1 ++ dktX0_mark_2
def dkwX0_mark_0 : List UInt8 := [42, 27, 182, 1, 38, 153, 0, 12, 28, 4, 6, 184, 0, 171, 154, 0, 5, 2, 172, 42, 180, 0, 65, 27]
abbrev dktX0_mark_0 : List UInt8 := dkwX0_mark_0 ++ dktX0_mark_1
theorem dksX0_mark_0 : cX0_mark.data.toList.drop 0 = dktX0_mark_0 := by decide +kernel
theorem dksX0_mark_1 : cX0_mark.data.toList.drop 24 = dktX0_mark_1 := dk_seg dksX0_mark_0 24 rfl rfl
theorem dksX0_mark_2 : cX0_mark.data.toList.drop 27 = dktX0_mark_2 := dk_seg dksX0_mark_1 3 rfl rfl
theorem dksX0_mark_3 : cX0_mark.data.toList.drop 52 = dktX0_mark_3 := dk_seg dksX0_mark_2 25 rfl rfl
theorem dksX0_mark_4 : cX0_mark.data.toList.drop 74 = dktX0_mark_4 := dk_seg dksX0_mark_3 22 rfl rfl
theorem dksX0_mark_5 : cX0_mark.data.toList.drop 96 = dktX0_mark_5 := dk_seg dksX0_mark_4 22 rfl rfl
theorem dX0_mark_0 : decode cX0_mark 0 = .ok (.aload_n 0, 1) := dk_42 (dk_at dksX0_mark_0 0 rfl rfl)
theorem dX0_mark_1 : decode cX0_mark 1 = .ok (.iload_n 1, 1) := dk_27 (dk_at dksX0_mark_0 1 rfl rfl)
theorem dX0_mark_2 : decode cX0_mark 2 = .ok (.invokevirtual 294, 3) := dk_182 1 38 (dk_at dksX0_mark_0 2 rfl rfl)
theorem dX0_mark_5 : decode cX0_mark 5 = .ok (.ifCond .eq 12, 3) := dk_153 0 12 (dk_at dksX0_mark_0 5 rfl rfl)
theorem dX0_mark_8 : decode cX0_mark 8 = .ok (.iload_n 2, 1) := dk_28 (dk_at dksX0_mark_0 8 rfl rfl)
theorem dX0_mark_9 : decode cX0_mark 9 = .ok (.iconst 1, 1) := dk_4 (dk_at dksX0_mark_0 9 rfl rfl)
theorem dX0_mark_10 : decode cX0_mark 10 = .ok (.iconst 3, 1) := dk_6 (dk_at dksX0_mark_0 10 rfl rfl)
theorem dX0_mark_11 : decode cX0_mark 11 = .ok (.invokestatic 171, 3) := dk_184 0 171 (dk_at dksX0_mark_0 11 rfl rfl)
theorem dX0_mark_14 : decode cX0_mark 14 = .ok (.ifCond .ne 5, 3) := dk_154 0 5 (dk_at dksX0_mark_0 14 rfl rfl)
theorem dX0_mark_17 : decode cX0_mark 17 = .ok (.iconst (-1), 1) := dk_2 (dk_at dksX0_mark_0 17 rfl rfl)
theorem dX0_mark_18 : decode cX0_mark 18 = .ok (.ireturn, 1) := dk_172 (dk_at dksX0_mark_0 18 rfl rfl)
theorem dX0_mark_19 : decode cX0_mark 19 = .ok (.aload_n 0, 1) := dk_42 (dk_at dksX0_mark_0 19 rfl rfl)
theorem dX0_mark_20 : decode cX0_mark 20 = .ok (.getfield 65, 3) := dk_180 0 65 (dk_at dksX0_mark_0 20 rfl rfl)
theorem dX0_mark_23 : decode cX0_mark 23 = .ok (.iload_n 1, 1) := dk_27 (dk_at dksX0_mark_0 23 rfl rfl)
theorem dX0_mark_24 : decode cX0_mark 24 = .ok (.aaload, 1) := dk_50 (dk_at dksX0_mark_1 0 rfl rfl)
theorem dX0_mark_25 : decode cX0_mark 25 = .ok (.astore_n 3, 1) := dk_78 (dk_at dksX0_mark_1 1 rfl rfl)
theorem dX0_mark_26 : decode cX0_mark 26 = .ok (.iload_n 2, 1) := dk_28 (dk_at dksX0_mark_1 2 rfl rfl)
theorem dX0_mark_27 : decode cX0_mark 27 = .ok (.lookupswitch 68 #[(1, 25), (2, 56)], 25) := by decide +kernel
theorem dX0_mark_52 : decode cX0_mark 52 = .ok (.aload_n 3, 1) := dk_45 (dk_at dksX0_mark_3 0 rfl rfl)
theorem dX0_mark_53 : decode cX0_mark 53 = .ok (.checkcast 255, 3) := dk_192 0 255 (dk_at dksX0_mark_3 1 rfl rfl)
theorem dX0_mark_56 : decode cX0_mark 56 = .ok (.astore 4, 2) := dk_58 4 (dk_at dksX0_mark_3 4 rfl rfl)
theorem dX0_mark_58 : decode cX0_mark 58 = .ok (.aload 4, 2) := dk_25 4 (dk_at dksX0_mark_3 6 rfl rfl)
theorem dX0_mark_60 : decode cX0_mark 60 = .ok (.instanceof 261, 3) := dk_193 1 5 (dk_at dksX0_mark_3 8 rfl rfl)
theorem dX0_mark_63 : decode cX0_mark 63 = .ok (.ifCond .eq 14, 3) := dk_153 0 14 (dk_at dksX0_mark_3 11 rfl rfl)
theorem dX0_mark_66 : decode cX0_mark 66 = .ok (.aload 4, 2) := dk_25 4 (dk_at dksX0_mark_3 14 rfl rfl)
theorem dX0_mark_68 : decode cX0_mark 68 = .ok (.checkcast 261, 3) := dk_192 1 5 (dk_at dksX0_mark_3 16 rfl rfl)
theorem dX0_mark_71 : decode cX0_mark 71 = .ok (.invokevirtual 301, 3) := dk_182 1 45 (dk_at dksX0_mark_3 19 rfl rfl)
theorem dX0_mark_74 : decode cX0_mark 74 = .ok (.goto 8, 3) := dk_167 0 8 (dk_at dksX0_mark_4 0 rfl rfl)
theorem dX0_mark_77 : decode cX0_mark 77 = .ok (.aload 4, 2) := dk_25 4 (dk_at dksX0_mark_4 3 rfl rfl)
theorem dX0_mark_79 : decode cX0_mark 79 = .ok (.invokevirtual 304, 3) := dk_182 1 48 (dk_at dksX0_mark_4 5 rfl rfl)
theorem dX0_mark_82 : decode cX0_mark 82 = .ok (.ireturn, 1) := dk_172 (dk_at dksX0_mark_4 8 rfl rfl)
theorem dX0_mark_83 : decode cX0_mark 83 = .ok (.aload_n 3, 1) := dk_45 (dk_at dksX0_mark_4 9 rfl rfl)
theorem dX0_mark_84 : decode cX0_mark 84 = .ok (.checkcast 258, 3) := dk_192 1 2 (dk_at dksX0_mark_4 10 rfl rfl)
theorem dX0_mark_87 : decode cX0_mark 87 = .ok (.astore 5, 2) := dk_58 5 (dk_at dksX0_mark_4 13 rfl rfl)
theorem dX0_mark_89 : decode cX0_mark 89 = .ok (.aload 5, 2) := dk_25 5 (dk_at dksX0_mark_4 15 rfl rfl)
theorem dX0_mark_91 : decode cX0_mark 91 = .ok (.invokevirtual 307, 3) := dk_182 1 51 (dk_at dksX0_mark_4 17 rfl rfl)
theorem dX0_mark_94 : decode cX0_mark 94 = .ok (.ireturn, 1) := dk_172 (dk_at dksX0_mark_4 20 rfl rfl)
theorem dX0_mark_95 : decode cX0_mark 95 = .ok (.aload_n 3, 1) := dk_45 (dk_at dksX0_mark_4 21 rfl rfl)
theorem dX0_mark_96 : decode cX0_mark 96 = .ok (.checkcast 261, 3) := dk_192 1 5 (dk_at dksX0_mark_5 0 rfl rfl)
theorem dX0_mark_99 : decode cX0_mark 99 = .ok (.astore 6, 2) := dk_58 6 (dk_at dksX0_mark_5 3 rfl rfl)
theorem dX0_mark_101 : decode cX0_mark 101 = .ok (.aload 6, 2) := dk_25 6 (dk_at dksX0_mark_5 5 rfl rfl)
theorem dX0_mark_103 : decode cX0_mark 103 = .ok (.invokevirtual 308, 3) := dk_182 1 52 (dk_at dksX0_mark_5 7 rfl rfl)
theorem dX0_mark_106 : decode cX0_mark 106 = .ok (.ireturn, 1) := dk_172 (dk_at dksX0_mark_5 10 rfl rfl)
theorem dX0_mark_107 : decode cX0_mark 107 = .ok (.astore 4, 2) := dk_58 4 (dk_at dksX0_mark_5 11 rfl rfl)
theorem dX0_mark_109 : decode cX0_mark 109 = .ok (.aload_n 0, 1) := dk_42 (dk_at dksX0_mark_5 13 rfl rfl)
theorem dX0_mark_110 : decode cX0_mark 110 = .ok (.iconst 3, 1) := dk_6 (dk_at dksX0_mark_5 14 rfl rfl)
theorem dX0_mark_111 : decode cX0_mark 111 = .ok (.invokevirtual 181, 3) := dk_182 0 181 (dk_at dksX0_mark_5 15 rfl rfl)
theorem dX0_mark_114 : decode cX0_mark 114 = .ok (.ireturn, 1) := dk_172 (dk_at dksX0_mark_5 18 rfl rfl)
abbrev cX0_entryOf : ByteArray := prog_1_method_35_code
def yX0_entryOf : MethodName := ⟨RX0, "entryOf", "(II)I"⟩
def dkwX0_entryOf_1 : List UInt8 := [160, 0, 14, 29, 28, 160, 0, 6, 21, 4, 172, 132, 3, 1, 132, 4, 1, 167, 255, 222, 16, 247, 172]
abbrev dktX0_entryOf_1 : List UInt8 := dkwX0_entryOf_1 ++ []
def dkwX0_entryOf_0 : List UInt8 := [3, 62, 3, 54, 4, 21, 4, 42, 180, 0, 248, 162, 0, 31, 42, 180, 0, 75, 21, 4, 46, 27]
abbrev dktX0_entryOf_0 : List UInt8 := dkwX0_entryOf_0 ++ dktX0_entryOf_1
theorem dksX0_entryOf_0 : cX0_entryOf.data.toList.drop 0 = dktX0_entryOf_0 := by decide +kernel
theorem dksX0_entryOf_1 : cX0_entryOf.data.toList.drop 22 = dktX0_entryOf_1 := dk_seg dksX0_entryOf_0 22 rfl rfl
theorem dX0_entryOf_0 : decode cX0_entryOf 0 = .ok (.iconst 0, 1) := dk_3 (dk_at dksX0_entryOf_0 0 rfl rfl)
theorem dX0_entryOf_1 : decode cX0_entryOf 1 = .ok (.istore_n 3, 1) := dk_62 (dk_at dksX0_entryOf_0 1 rfl rfl)
theorem dX0_entryOf_2 : decode cX0_entryOf 2 = .ok (.iconst 0, 1) := dk_3 (dk_at dksX0_entryOf_0 2 rfl rfl)
theorem dX0_entryOf_3 : decode cX0_entryOf 3 = .ok (.istore 4, 2) := dk_54 4 (dk_at dksX0_entryOf_0 3 rfl rfl)
theorem dX0_entryOf_5 : decode cX0_entryOf 5 = .ok (.iload 4, 2) := dk_21 4 (dk_at dksX0_entryOf_0 5 rfl rfl)
theorem dX0_entryOf_7 : decode cX0_entryOf 7 = .ok (.aload_n 0, 1) := dk_42 (dk_at dksX0_entryOf_0 7 rfl rfl)
theorem dX0_entryOf_8 : decode cX0_entryOf 8 = .ok (.getfield 248, 3) := dk_180 0 248 (dk_at dksX0_entryOf_0 8 rfl rfl)
theorem dX0_entryOf_11 : decode cX0_entryOf 11 = .ok (.if_icmp .ge 31, 3) := dk_162 0 31 (dk_at dksX0_entryOf_0 11 rfl rfl)
theorem dX0_entryOf_14 : decode cX0_entryOf 14 = .ok (.aload_n 0, 1) := dk_42 (dk_at dksX0_entryOf_0 14 rfl rfl)
theorem dX0_entryOf_15 : decode cX0_entryOf 15 = .ok (.getfield 75, 3) := dk_180 0 75 (dk_at dksX0_entryOf_0 15 rfl rfl)
theorem dX0_entryOf_18 : decode cX0_entryOf 18 = .ok (.iload 4, 2) := dk_21 4 (dk_at dksX0_entryOf_0 18 rfl rfl)
theorem dX0_entryOf_20 : decode cX0_entryOf 20 = .ok (.iaload, 1) := dk_46 (dk_at dksX0_entryOf_0 20 rfl rfl)
theorem dX0_entryOf_21 : decode cX0_entryOf 21 = .ok (.iload_n 1, 1) := dk_27 (dk_at dksX0_entryOf_0 21 rfl rfl)
theorem dX0_entryOf_22 : decode cX0_entryOf 22 = .ok (.if_icmp .ne 14, 3) := dk_160 0 14 (dk_at dksX0_entryOf_1 0 rfl rfl)
theorem dX0_entryOf_25 : decode cX0_entryOf 25 = .ok (.iload_n 3, 1) := dk_29 (dk_at dksX0_entryOf_1 3 rfl rfl)
theorem dX0_entryOf_26 : decode cX0_entryOf 26 = .ok (.iload_n 2, 1) := dk_28 (dk_at dksX0_entryOf_1 4 rfl rfl)
theorem dX0_entryOf_27 : decode cX0_entryOf 27 = .ok (.if_icmp .ne 6, 3) := dk_160 0 6 (dk_at dksX0_entryOf_1 5 rfl rfl)
theorem dX0_entryOf_30 : decode cX0_entryOf 30 = .ok (.iload 4, 2) := dk_21 4 (dk_at dksX0_entryOf_1 8 rfl rfl)
theorem dX0_entryOf_32 : decode cX0_entryOf 32 = .ok (.ireturn, 1) := dk_172 (dk_at dksX0_entryOf_1 10 rfl rfl)
theorem dX0_entryOf_33 : decode cX0_entryOf 33 = .ok (.iinc 3 1, 3) := dk_132 3 1 (dk_at dksX0_entryOf_1 11 rfl rfl)
theorem dX0_entryOf_36 : decode cX0_entryOf 36 = .ok (.iinc 4 1, 3) := dk_132 4 1 (dk_at dksX0_entryOf_1 14 rfl rfl)
theorem dX0_entryOf_39 : decode cX0_entryOf 39 = .ok (.goto (-34), 3) := dk_167 255 222 (dk_at dksX0_entryOf_1 17 rfl rfl)
theorem dX0_entryOf_42 : decode cX0_entryOf 42 = .ok (.bipush (-9), 2) := dk_16 247 (dk_at dksX0_entryOf_1 20 rfl rfl)
theorem dX0_entryOf_44 : decode cX0_entryOf 44 = .ok (.ireturn, 1) := dk_172 (dk_at dksX0_entryOf_1 22 rfl rfl)
abbrev cX0_limit : ByteArray := prog_1_method_40_code
def yX0_limit : MethodName := ⟨RX0, "limit", "(II)I"⟩
def dkwX0_limit_2 : List UInt8 := [182, 0, 185, 172, 78, 42, 6, 182, 0, 181, 172]
abbrev dktX0_limit_2 : List UInt8 := dkwX0_limit_2 ++ []
def dkwX0_limit_1 : List UInt8 := [180, 0, 65, 27, 50, 192, 0, 255, 78, 45, 180, 1, 55, 54, 4, 45, 28, 181, 1, 55, 42, 21, 4, 4]
abbrev dktX0_limit_1 : List UInt8 := dkwX0_limit_1 ++ dktX0_limit_2
def dkwX0_limit_0 : List UInt8 := [42, 27, 182, 1, 38, 153, 0, 14, 28, 16, 206, 16, 50, 184, 0, 171, 154, 0, 5, 2, 172, 42]
abbrev dktX0_limit_0 : List UInt8 := dkwX0_limit_0 ++ dktX0_limit_1
theorem dksX0_limit_0 : cX0_limit.data.toList.drop 0 = dktX0_limit_0 := by decide +kernel
theorem dksX0_limit_1 : cX0_limit.data.toList.drop 22 = dktX0_limit_1 := dk_seg dksX0_limit_0 22 rfl rfl
theorem dksX0_limit_2 : cX0_limit.data.toList.drop 46 = dktX0_limit_2 := dk_seg dksX0_limit_1 24 rfl rfl
theorem dX0_limit_0 : decode cX0_limit 0 = .ok (.aload_n 0, 1) := dk_42 (dk_at dksX0_limit_0 0 rfl rfl)
theorem dX0_limit_1 : decode cX0_limit 1 = .ok (.iload_n 1, 1) := dk_27 (dk_at dksX0_limit_0 1 rfl rfl)
theorem dX0_limit_2 : decode cX0_limit 2 = .ok (.invokevirtual 294, 3) := dk_182 1 38 (dk_at dksX0_limit_0 2 rfl rfl)
theorem dX0_limit_5 : decode cX0_limit 5 = .ok (.ifCond .eq 14, 3) := dk_153 0 14 (dk_at dksX0_limit_0 5 rfl rfl)
theorem dX0_limit_8 : decode cX0_limit 8 = .ok (.iload_n 2, 1) := dk_28 (dk_at dksX0_limit_0 8 rfl rfl)
theorem dX0_limit_9 : decode cX0_limit 9 = .ok (.bipush (-50), 2) := dk_16 206 (dk_at dksX0_limit_0 9 rfl rfl)
theorem dX0_limit_11 : decode cX0_limit 11 = .ok (.bipush 50, 2) := dk_16 50 (dk_at dksX0_limit_0 11 rfl rfl)
theorem dX0_limit_13 : decode cX0_limit 13 = .ok (.invokestatic 171, 3) := dk_184 0 171 (dk_at dksX0_limit_0 13 rfl rfl)
theorem dX0_limit_16 : decode cX0_limit 16 = .ok (.ifCond .ne 5, 3) := dk_154 0 5 (dk_at dksX0_limit_0 16 rfl rfl)
theorem dX0_limit_19 : decode cX0_limit 19 = .ok (.iconst (-1), 1) := dk_2 (dk_at dksX0_limit_0 19 rfl rfl)
theorem dX0_limit_20 : decode cX0_limit 20 = .ok (.ireturn, 1) := dk_172 (dk_at dksX0_limit_0 20 rfl rfl)
theorem dX0_limit_21 : decode cX0_limit 21 = .ok (.aload_n 0, 1) := dk_42 (dk_at dksX0_limit_0 21 rfl rfl)
theorem dX0_limit_22 : decode cX0_limit 22 = .ok (.getfield 65, 3) := dk_180 0 65 (dk_at dksX0_limit_1 0 rfl rfl)
theorem dX0_limit_25 : decode cX0_limit 25 = .ok (.iload_n 1, 1) := dk_27 (dk_at dksX0_limit_1 3 rfl rfl)
theorem dX0_limit_26 : decode cX0_limit 26 = .ok (.aaload, 1) := dk_50 (dk_at dksX0_limit_1 4 rfl rfl)
theorem dX0_limit_27 : decode cX0_limit 27 = .ok (.checkcast 255, 3) := dk_192 0 255 (dk_at dksX0_limit_1 5 rfl rfl)
theorem dX0_limit_30 : decode cX0_limit 30 = .ok (.astore_n 3, 1) := dk_78 (dk_at dksX0_limit_1 8 rfl rfl)
theorem dX0_limit_31 : decode cX0_limit 31 = .ok (.aload_n 3, 1) := dk_45 (dk_at dksX0_limit_1 9 rfl rfl)
theorem dX0_limit_32 : decode cX0_limit 32 = .ok (.getfield 311, 3) := dk_180 1 55 (dk_at dksX0_limit_1 10 rfl rfl)
theorem dX0_limit_35 : decode cX0_limit 35 = .ok (.istore 4, 2) := dk_54 4 (dk_at dksX0_limit_1 13 rfl rfl)
theorem dX0_limit_37 : decode cX0_limit 37 = .ok (.aload_n 3, 1) := dk_45 (dk_at dksX0_limit_1 15 rfl rfl)
theorem dX0_limit_38 : decode cX0_limit 38 = .ok (.iload_n 2, 1) := dk_28 (dk_at dksX0_limit_1 16 rfl rfl)
theorem dX0_limit_39 : decode cX0_limit 39 = .ok (.putfield 311, 3) := dk_181 1 55 (dk_at dksX0_limit_1 17 rfl rfl)
theorem dX0_limit_42 : decode cX0_limit 42 = .ok (.aload_n 0, 1) := dk_42 (dk_at dksX0_limit_1 20 rfl rfl)
theorem dX0_limit_43 : decode cX0_limit 43 = .ok (.iload 4, 2) := dk_21 4 (dk_at dksX0_limit_1 21 rfl rfl)
theorem dX0_limit_45 : decode cX0_limit 45 = .ok (.iconst 1, 1) := dk_4 (dk_at dksX0_limit_1 23 rfl rfl)
theorem dX0_limit_46 : decode cX0_limit 46 = .ok (.invokevirtual 185, 3) := dk_182 0 185 (dk_at dksX0_limit_2 0 rfl rfl)
theorem dX0_limit_49 : decode cX0_limit 49 = .ok (.ireturn, 1) := dk_172 (dk_at dksX0_limit_2 3 rfl rfl)
theorem dX0_limit_50 : decode cX0_limit 50 = .ok (.astore_n 3, 1) := dk_78 (dk_at dksX0_limit_2 4 rfl rfl)
theorem dX0_limit_51 : decode cX0_limit 51 = .ok (.aload_n 0, 1) := dk_42 (dk_at dksX0_limit_2 5 rfl rfl)
theorem dX0_limit_52 : decode cX0_limit 52 = .ok (.iconst 3, 1) := dk_6 (dk_at dksX0_limit_2 6 rfl rfl)
theorem dX0_limit_53 : decode cX0_limit 53 = .ok (.invokevirtual 181, 3) := dk_182 0 181 (dk_at dksX0_limit_2 7 rfl rfl)
theorem dX0_limit_56 : decode cX0_limit 56 = .ok (.ireturn, 1) := dk_172 (dk_at dksX0_limit_2 10 rfl rfl)
abbrev cX0_park : ByteArray := prog_1_method_43_code
def yX0_park : MethodName := ⟨RX0, "park", "(II)I"⟩
def dkwX0_park_2 : List UInt8 := [27, 3, 79, 4, 172]
abbrev dktX0_park_2 : List UInt8 := dkwX0_park_2 ++ []
def dkwX0_park_1 : List UInt8 := [16, 252, 172, 42, 180, 0, 90, 27, 28, 79, 42, 180, 0, 93, 27, 42, 180, 0, 219, 79, 42, 180, 0, 99]
abbrev dktX0_park_1 : List UInt8 := dkwX0_park_1 ++ dktX0_park_2
def dkwX0_park_0 : List UInt8 := [27, 184, 1, 58, 153, 0, 10, 28, 184, 0, 222, 154, 0, 5, 2, 172, 42, 27, 182, 1, 61, 153, 0, 6]
abbrev dktX0_park_0 : List UInt8 := dkwX0_park_0 ++ dktX0_park_1
theorem dksX0_park_0 : cX0_park.data.toList.drop 0 = dktX0_park_0 := by decide +kernel
theorem dksX0_park_1 : cX0_park.data.toList.drop 24 = dktX0_park_1 := dk_seg dksX0_park_0 24 rfl rfl
theorem dksX0_park_2 : cX0_park.data.toList.drop 48 = dktX0_park_2 := dk_seg dksX0_park_1 24 rfl rfl
theorem dX0_park_0 : decode cX0_park 0 = .ok (.iload_n 1, 1) := dk_27 (dk_at dksX0_park_0 0 rfl rfl)
theorem dX0_park_1 : decode cX0_park 1 = .ok (.invokestatic 314, 3) := dk_184 1 58 (dk_at dksX0_park_0 1 rfl rfl)
theorem dX0_park_4 : decode cX0_park 4 = .ok (.ifCond .eq 10, 3) := dk_153 0 10 (dk_at dksX0_park_0 4 rfl rfl)
theorem dX0_park_7 : decode cX0_park 7 = .ok (.iload_n 2, 1) := dk_28 (dk_at dksX0_park_0 7 rfl rfl)
theorem dX0_park_8 : decode cX0_park 8 = .ok (.invokestatic 222, 3) := dk_184 0 222 (dk_at dksX0_park_0 8 rfl rfl)
theorem dX0_park_11 : decode cX0_park 11 = .ok (.ifCond .ne 5, 3) := dk_154 0 5 (dk_at dksX0_park_0 11 rfl rfl)
theorem dX0_park_14 : decode cX0_park 14 = .ok (.iconst (-1), 1) := dk_2 (dk_at dksX0_park_0 14 rfl rfl)
theorem dX0_park_15 : decode cX0_park 15 = .ok (.ireturn, 1) := dk_172 (dk_at dksX0_park_0 15 rfl rfl)
theorem dX0_park_16 : decode cX0_park 16 = .ok (.aload_n 0, 1) := dk_42 (dk_at dksX0_park_0 16 rfl rfl)
theorem dX0_park_17 : decode cX0_park 17 = .ok (.iload_n 1, 1) := dk_27 (dk_at dksX0_park_0 17 rfl rfl)
theorem dX0_park_18 : decode cX0_park 18 = .ok (.invokevirtual 317, 3) := dk_182 1 61 (dk_at dksX0_park_0 18 rfl rfl)
theorem dX0_park_21 : decode cX0_park 21 = .ok (.ifCond .eq 6, 3) := dk_153 0 6 (dk_at dksX0_park_0 21 rfl rfl)
theorem dX0_park_24 : decode cX0_park 24 = .ok (.bipush (-4), 2) := dk_16 252 (dk_at dksX0_park_1 0 rfl rfl)
theorem dX0_park_26 : decode cX0_park 26 = .ok (.ireturn, 1) := dk_172 (dk_at dksX0_park_1 2 rfl rfl)
theorem dX0_park_27 : decode cX0_park 27 = .ok (.aload_n 0, 1) := dk_42 (dk_at dksX0_park_1 3 rfl rfl)
theorem dX0_park_28 : decode cX0_park 28 = .ok (.getfield 90, 3) := dk_180 0 90 (dk_at dksX0_park_1 4 rfl rfl)
theorem dX0_park_31 : decode cX0_park 31 = .ok (.iload_n 1, 1) := dk_27 (dk_at dksX0_park_1 7 rfl rfl)
theorem dX0_park_32 : decode cX0_park 32 = .ok (.iload_n 2, 1) := dk_28 (dk_at dksX0_park_1 8 rfl rfl)
theorem dX0_park_33 : decode cX0_park 33 = .ok (.iastore, 1) := dk_79 (dk_at dksX0_park_1 9 rfl rfl)
theorem dX0_park_34 : decode cX0_park 34 = .ok (.aload_n 0, 1) := dk_42 (dk_at dksX0_park_1 10 rfl rfl)
theorem dX0_park_35 : decode cX0_park 35 = .ok (.getfield 93, 3) := dk_180 0 93 (dk_at dksX0_park_1 11 rfl rfl)
theorem dX0_park_38 : decode cX0_park 38 = .ok (.iload_n 1, 1) := dk_27 (dk_at dksX0_park_1 14 rfl rfl)
theorem dX0_park_39 : decode cX0_park 39 = .ok (.aload_n 0, 1) := dk_42 (dk_at dksX0_park_1 15 rfl rfl)
theorem dX0_park_40 : decode cX0_park 40 = .ok (.getfield 219, 3) := dk_180 0 219 (dk_at dksX0_park_1 16 rfl rfl)
theorem dX0_park_43 : decode cX0_park 43 = .ok (.iastore, 1) := dk_79 (dk_at dksX0_park_1 19 rfl rfl)
theorem dX0_park_44 : decode cX0_park 44 = .ok (.aload_n 0, 1) := dk_42 (dk_at dksX0_park_1 20 rfl rfl)
theorem dX0_park_45 : decode cX0_park 45 = .ok (.getfield 99, 3) := dk_180 0 99 (dk_at dksX0_park_1 21 rfl rfl)
theorem dX0_park_48 : decode cX0_park 48 = .ok (.iload_n 1, 1) := dk_27 (dk_at dksX0_park_2 0 rfl rfl)
theorem dX0_park_49 : decode cX0_park 49 = .ok (.iconst 0, 1) := dk_3 (dk_at dksX0_park_2 1 rfl rfl)
theorem dX0_park_50 : decode cX0_park 50 = .ok (.iastore, 1) := dk_79 (dk_at dksX0_park_2 2 rfl rfl)
theorem dX0_park_51 : decode cX0_park 51 = .ok (.iconst 1, 1) := dk_4 (dk_at dksX0_park_2 3 rfl rfl)
theorem dX0_park_52 : decode cX0_park 52 = .ok (.ireturn, 1) := dk_172 (dk_at dksX0_park_2 4 rfl rfl)
abbrev cX0_isTractor : ByteArray := prog_1_method_41_code
def yX0_isTractor : MethodName := ⟨RX0, "isTractor", "(I)Z"⟩
def dkwX0_isTractor_0 : List UInt8 := [26, 3, 8, 184, 0, 171, 172]
abbrev dktX0_isTractor_0 : List UInt8 := dkwX0_isTractor_0 ++ []
theorem dksX0_isTractor_0 : cX0_isTractor.data.toList.drop 0 = dktX0_isTractor_0 := by decide +kernel
theorem dX0_isTractor_0 : decode cX0_isTractor 0 = .ok (.iload_n 0, 1) := dk_26 (dk_at dksX0_isTractor_0 0 rfl rfl)
theorem dX0_isTractor_1 : decode cX0_isTractor 1 = .ok (.iconst 0, 1) := dk_3 (dk_at dksX0_isTractor_0 1 rfl rfl)
theorem dX0_isTractor_2 : decode cX0_isTractor 2 = .ok (.iconst 5, 1) := dk_8 (dk_at dksX0_isTractor_0 2 rfl rfl)
theorem dX0_isTractor_3 : decode cX0_isTractor 3 = .ok (.invokestatic 171, 3) := dk_184 0 171 (dk_at dksX0_isTractor_0 3 rfl rfl)
theorem dX0_isTractor_6 : decode cX0_isTractor 6 = .ok (.ireturn, 1) := dk_172 (dk_at dksX0_isTractor_0 6 rfl rfl)
abbrev cX0_isOnWay : ByteArray := prog_1_method_42_code
def yX0_isOnWay : MethodName := ⟨RX0, "isOnWay", "(I)Z"⟩
def dkwX0_isOnWay_0 : List UInt8 := [42, 180, 0, 93, 27, 46, 42, 180, 0, 219, 164, 0, 7, 4, 167, 0, 4, 3, 172]
abbrev dktX0_isOnWay_0 : List UInt8 := dkwX0_isOnWay_0 ++ []
theorem dksX0_isOnWay_0 : cX0_isOnWay.data.toList.drop 0 = dktX0_isOnWay_0 := by decide +kernel
theorem dX0_isOnWay_0 : decode cX0_isOnWay 0 = .ok (.aload_n 0, 1) := dk_42 (dk_at dksX0_isOnWay_0 0 rfl rfl)
theorem dX0_isOnWay_1 : decode cX0_isOnWay 1 = .ok (.getfield 93, 3) := dk_180 0 93 (dk_at dksX0_isOnWay_0 1 rfl rfl)
theorem dX0_isOnWay_4 : decode cX0_isOnWay 4 = .ok (.iload_n 1, 1) := dk_27 (dk_at dksX0_isOnWay_0 4 rfl rfl)
theorem dX0_isOnWay_5 : decode cX0_isOnWay 5 = .ok (.iaload, 1) := dk_46 (dk_at dksX0_isOnWay_0 5 rfl rfl)
theorem dX0_isOnWay_6 : decode cX0_isOnWay 6 = .ok (.aload_n 0, 1) := dk_42 (dk_at dksX0_isOnWay_0 6 rfl rfl)
theorem dX0_isOnWay_7 : decode cX0_isOnWay 7 = .ok (.getfield 219, 3) := dk_180 0 219 (dk_at dksX0_isOnWay_0 7 rfl rfl)
theorem dX0_isOnWay_10 : decode cX0_isOnWay 10 = .ok (.if_icmp .le 7, 3) := dk_164 0 7 (dk_at dksX0_isOnWay_0 10 rfl rfl)
theorem dX0_isOnWay_13 : decode cX0_isOnWay 13 = .ok (.iconst 1, 1) := dk_4 (dk_at dksX0_isOnWay_0 13 rfl rfl)
theorem dX0_isOnWay_14 : decode cX0_isOnWay 14 = .ok (.goto 4, 3) := dk_167 0 4 (dk_at dksX0_isOnWay_0 14 rfl rfl)
theorem dX0_isOnWay_17 : decode cX0_isOnWay 17 = .ok (.iconst 0, 1) := dk_3 (dk_at dksX0_isOnWay_0 17 rfl rfl)
theorem dX0_isOnWay_18 : decode cX0_isOnWay 18 = .ok (.ireturn, 1) := dk_172 (dk_at dksX0_isOnWay_0 18 rfl rfl)
abbrev cX0_hitch : ByteArray := prog_1_method_44_code
def yX0_hitch : MethodName := ⟨RX0, "hitch", "(II)I"⟩
def dkwX0_hitch_4 : List UInt8 := [16, 247, 181, 1, 16, 4, 172]
abbrev dktX0_hitch_4 : List UInt8 := dkwX0_hitch_4 ++ []
def dkwX0_hitch_3 : List UInt8 := [28, 4, 27, 45, 180, 1, 16, 182, 1, 8, 42, 180, 0, 96, 27, 28, 79, 45, 27, 181, 1, 19, 45]
abbrev dktX0_hitch_3 : List UInt8 := dkwX0_hitch_3 ++ dktX0_hitch_4
def dkwX0_hitch_2 : List UInt8 := [180, 0, 90, 27, 46, 159, 0, 6, 16, 252, 172, 42, 180, 0, 248, 16, 60, 160, 0, 6, 16, 254, 172, 42]
abbrev dktX0_hitch_2 : List UInt8 := dkwX0_hitch_2 ++ dktX0_hitch_3
def dkwX0_hitch_1 : List UInt8 := [42, 27, 182, 1, 61, 154, 0, 27, 42, 180, 0, 96, 27, 46, 16, 247, 160, 0, 16, 45, 180, 1, 16, 42]
abbrev dktX0_hitch_1 : List UInt8 := dkwX0_hitch_1 ++ dktX0_hitch_2
def dkwX0_hitch_0 : List UInt8 := [27, 184, 1, 58, 153, 0, 11, 42, 28, 182, 1, 38, 154, 0, 5, 2, 172, 42, 180, 0, 65, 28, 50, 78]
abbrev dktX0_hitch_0 : List UInt8 := dkwX0_hitch_0 ++ dktX0_hitch_1
theorem dksX0_hitch_0 : cX0_hitch.data.toList.drop 0 = dktX0_hitch_0 := by decide +kernel
theorem dksX0_hitch_1 : cX0_hitch.data.toList.drop 24 = dktX0_hitch_1 := dk_seg dksX0_hitch_0 24 rfl rfl
theorem dksX0_hitch_2 : cX0_hitch.data.toList.drop 48 = dktX0_hitch_2 := dk_seg dksX0_hitch_1 24 rfl rfl
theorem dksX0_hitch_3 : cX0_hitch.data.toList.drop 72 = dktX0_hitch_3 := dk_seg dksX0_hitch_2 24 rfl rfl
theorem dksX0_hitch_4 : cX0_hitch.data.toList.drop 95 = dktX0_hitch_4 := dk_seg dksX0_hitch_3 23 rfl rfl
theorem dX0_hitch_0 : decode cX0_hitch 0 = .ok (.iload_n 1, 1) := dk_27 (dk_at dksX0_hitch_0 0 rfl rfl)
theorem dX0_hitch_1 : decode cX0_hitch 1 = .ok (.invokestatic 314, 3) := dk_184 1 58 (dk_at dksX0_hitch_0 1 rfl rfl)
theorem dX0_hitch_4 : decode cX0_hitch 4 = .ok (.ifCond .eq 11, 3) := dk_153 0 11 (dk_at dksX0_hitch_0 4 rfl rfl)
theorem dX0_hitch_7 : decode cX0_hitch 7 = .ok (.aload_n 0, 1) := dk_42 (dk_at dksX0_hitch_0 7 rfl rfl)
theorem dX0_hitch_8 : decode cX0_hitch 8 = .ok (.iload_n 2, 1) := dk_28 (dk_at dksX0_hitch_0 8 rfl rfl)
theorem dX0_hitch_9 : decode cX0_hitch 9 = .ok (.invokevirtual 294, 3) := dk_182 1 38 (dk_at dksX0_hitch_0 9 rfl rfl)
theorem dX0_hitch_12 : decode cX0_hitch 12 = .ok (.ifCond .ne 5, 3) := dk_154 0 5 (dk_at dksX0_hitch_0 12 rfl rfl)
theorem dX0_hitch_15 : decode cX0_hitch 15 = .ok (.iconst (-1), 1) := dk_2 (dk_at dksX0_hitch_0 15 rfl rfl)
theorem dX0_hitch_16 : decode cX0_hitch 16 = .ok (.ireturn, 1) := dk_172 (dk_at dksX0_hitch_0 16 rfl rfl)
theorem dX0_hitch_17 : decode cX0_hitch 17 = .ok (.aload_n 0, 1) := dk_42 (dk_at dksX0_hitch_0 17 rfl rfl)
theorem dX0_hitch_18 : decode cX0_hitch 18 = .ok (.getfield 65, 3) := dk_180 0 65 (dk_at dksX0_hitch_0 18 rfl rfl)
theorem dX0_hitch_21 : decode cX0_hitch 21 = .ok (.iload_n 2, 1) := dk_28 (dk_at dksX0_hitch_0 21 rfl rfl)
theorem dX0_hitch_22 : decode cX0_hitch 22 = .ok (.aaload, 1) := dk_50 (dk_at dksX0_hitch_0 22 rfl rfl)
theorem dX0_hitch_23 : decode cX0_hitch 23 = .ok (.astore_n 3, 1) := dk_78 (dk_at dksX0_hitch_0 23 rfl rfl)
theorem dX0_hitch_24 : decode cX0_hitch 24 = .ok (.aload_n 0, 1) := dk_42 (dk_at dksX0_hitch_1 0 rfl rfl)
theorem dX0_hitch_25 : decode cX0_hitch 25 = .ok (.iload_n 1, 1) := dk_27 (dk_at dksX0_hitch_1 1 rfl rfl)
theorem dX0_hitch_26 : decode cX0_hitch 26 = .ok (.invokevirtual 317, 3) := dk_182 1 61 (dk_at dksX0_hitch_1 2 rfl rfl)
theorem dX0_hitch_29 : decode cX0_hitch 29 = .ok (.ifCond .ne 27, 3) := dk_154 0 27 (dk_at dksX0_hitch_1 5 rfl rfl)
theorem dX0_hitch_32 : decode cX0_hitch 32 = .ok (.aload_n 0, 1) := dk_42 (dk_at dksX0_hitch_1 8 rfl rfl)
theorem dX0_hitch_33 : decode cX0_hitch 33 = .ok (.getfield 96, 3) := dk_180 0 96 (dk_at dksX0_hitch_1 9 rfl rfl)
theorem dX0_hitch_36 : decode cX0_hitch 36 = .ok (.iload_n 1, 1) := dk_27 (dk_at dksX0_hitch_1 12 rfl rfl)
theorem dX0_hitch_37 : decode cX0_hitch 37 = .ok (.iaload, 1) := dk_46 (dk_at dksX0_hitch_1 13 rfl rfl)
theorem dX0_hitch_38 : decode cX0_hitch 38 = .ok (.bipush (-9), 2) := dk_16 247 (dk_at dksX0_hitch_1 14 rfl rfl)
theorem dX0_hitch_40 : decode cX0_hitch 40 = .ok (.if_icmp .ne 16, 3) := dk_160 0 16 (dk_at dksX0_hitch_1 16 rfl rfl)
theorem dX0_hitch_43 : decode cX0_hitch 43 = .ok (.aload_n 3, 1) := dk_45 (dk_at dksX0_hitch_1 19 rfl rfl)
theorem dX0_hitch_44 : decode cX0_hitch 44 = .ok (.getfield 272, 3) := dk_180 1 16 (dk_at dksX0_hitch_1 20 rfl rfl)
theorem dX0_hitch_47 : decode cX0_hitch 47 = .ok (.aload_n 0, 1) := dk_42 (dk_at dksX0_hitch_1 23 rfl rfl)
theorem dX0_hitch_48 : decode cX0_hitch 48 = .ok (.getfield 90, 3) := dk_180 0 90 (dk_at dksX0_hitch_2 0 rfl rfl)
theorem dX0_hitch_51 : decode cX0_hitch 51 = .ok (.iload_n 1, 1) := dk_27 (dk_at dksX0_hitch_2 3 rfl rfl)
theorem dX0_hitch_52 : decode cX0_hitch 52 = .ok (.iaload, 1) := dk_46 (dk_at dksX0_hitch_2 4 rfl rfl)
theorem dX0_hitch_53 : decode cX0_hitch 53 = .ok (.if_icmp .eq 6, 3) := dk_159 0 6 (dk_at dksX0_hitch_2 5 rfl rfl)
theorem dX0_hitch_56 : decode cX0_hitch 56 = .ok (.bipush (-4), 2) := dk_16 252 (dk_at dksX0_hitch_2 8 rfl rfl)
theorem dX0_hitch_58 : decode cX0_hitch 58 = .ok (.ireturn, 1) := dk_172 (dk_at dksX0_hitch_2 10 rfl rfl)
theorem dX0_hitch_59 : decode cX0_hitch 59 = .ok (.aload_n 0, 1) := dk_42 (dk_at dksX0_hitch_2 11 rfl rfl)
theorem dX0_hitch_60 : decode cX0_hitch 60 = .ok (.getfield 248, 3) := dk_180 0 248 (dk_at dksX0_hitch_2 12 rfl rfl)
theorem dX0_hitch_63 : decode cX0_hitch 63 = .ok (.bipush 60, 2) := dk_16 60 (dk_at dksX0_hitch_2 15 rfl rfl)
theorem dX0_hitch_65 : decode cX0_hitch 65 = .ok (.if_icmp .ne 6, 3) := dk_160 0 6 (dk_at dksX0_hitch_2 17 rfl rfl)
theorem dX0_hitch_68 : decode cX0_hitch 68 = .ok (.bipush (-2), 2) := dk_16 254 (dk_at dksX0_hitch_2 20 rfl rfl)
theorem dX0_hitch_70 : decode cX0_hitch 70 = .ok (.ireturn, 1) := dk_172 (dk_at dksX0_hitch_2 22 rfl rfl)
theorem dX0_hitch_71 : decode cX0_hitch 71 = .ok (.aload_n 0, 1) := dk_42 (dk_at dksX0_hitch_2 23 rfl rfl)
theorem dX0_hitch_72 : decode cX0_hitch 72 = .ok (.iload_n 2, 1) := dk_28 (dk_at dksX0_hitch_3 0 rfl rfl)
theorem dX0_hitch_73 : decode cX0_hitch 73 = .ok (.iconst 1, 1) := dk_4 (dk_at dksX0_hitch_3 1 rfl rfl)
theorem dX0_hitch_74 : decode cX0_hitch 74 = .ok (.iload_n 1, 1) := dk_27 (dk_at dksX0_hitch_3 2 rfl rfl)
theorem dX0_hitch_75 : decode cX0_hitch 75 = .ok (.aload_n 3, 1) := dk_45 (dk_at dksX0_hitch_3 3 rfl rfl)
theorem dX0_hitch_76 : decode cX0_hitch 76 = .ok (.getfield 272, 3) := dk_180 1 16 (dk_at dksX0_hitch_3 4 rfl rfl)
theorem dX0_hitch_79 : decode cX0_hitch 79 = .ok (.invokevirtual 264, 3) := dk_182 1 8 (dk_at dksX0_hitch_3 7 rfl rfl)
theorem dX0_hitch_82 : decode cX0_hitch 82 = .ok (.aload_n 0, 1) := dk_42 (dk_at dksX0_hitch_3 10 rfl rfl)
theorem dX0_hitch_83 : decode cX0_hitch 83 = .ok (.getfield 96, 3) := dk_180 0 96 (dk_at dksX0_hitch_3 11 rfl rfl)
theorem dX0_hitch_86 : decode cX0_hitch 86 = .ok (.iload_n 1, 1) := dk_27 (dk_at dksX0_hitch_3 14 rfl rfl)
theorem dX0_hitch_87 : decode cX0_hitch 87 = .ok (.iload_n 2, 1) := dk_28 (dk_at dksX0_hitch_3 15 rfl rfl)
theorem dX0_hitch_88 : decode cX0_hitch 88 = .ok (.iastore, 1) := dk_79 (dk_at dksX0_hitch_3 16 rfl rfl)
theorem dX0_hitch_89 : decode cX0_hitch 89 = .ok (.aload_n 3, 1) := dk_45 (dk_at dksX0_hitch_3 17 rfl rfl)
theorem dX0_hitch_90 : decode cX0_hitch 90 = .ok (.iload_n 1, 1) := dk_27 (dk_at dksX0_hitch_3 18 rfl rfl)
theorem dX0_hitch_91 : decode cX0_hitch 91 = .ok (.putfield 275, 3) := dk_181 1 19 (dk_at dksX0_hitch_3 19 rfl rfl)
theorem dX0_hitch_94 : decode cX0_hitch 94 = .ok (.aload_n 3, 1) := dk_45 (dk_at dksX0_hitch_3 22 rfl rfl)
theorem dX0_hitch_95 : decode cX0_hitch 95 = .ok (.bipush (-9), 2) := dk_16 247 (dk_at dksX0_hitch_4 0 rfl rfl)
theorem dX0_hitch_97 : decode cX0_hitch 97 = .ok (.putfield 272, 3) := dk_181 1 16 (dk_at dksX0_hitch_4 2 rfl rfl)
theorem dX0_hitch_100 : decode cX0_hitch 100 = .ok (.iconst 1, 1) := dk_4 (dk_at dksX0_hitch_4 5 rfl rfl)
theorem dX0_hitch_101 : decode cX0_hitch 101 = .ok (.ireturn, 1) := dk_172 (dk_at dksX0_hitch_4 6 rfl rfl)
abbrev cX0_drop : ByteArray := prog_1_method_45_code
def yX0_drop : MethodName := ⟨RX0, "drop", "(I)I"⟩
def dkwX0_drop_4 : List UInt8 := [180, 0, 90, 27, 46, 182, 1, 8, 28, 172]
abbrev dktX0_drop_4 : List UInt8 := dkwX0_drop_4 ++ []
def dkwX0_drop_3 : List UInt8 := [27, 46, 181, 1, 16, 42, 180, 0, 96, 27, 16, 247, 79, 42, 28, 3, 42, 180, 0, 90, 27, 46, 42]
abbrev dktX0_drop_3 : List UInt8 := dkwX0_drop_3 ++ dktX0_drop_4
def dkwX0_drop_2 : List UInt8 := [27, 46, 61, 42, 180, 0, 65, 28, 50, 16, 247, 181, 1, 19, 42, 180, 0, 65, 28, 50, 42, 180, 0, 90]
abbrev dktX0_drop_2 : List UInt8 := dkwX0_drop_2 ++ dktX0_drop_3
def dkwX0_drop_1 : List UInt8 := [16, 247, 160, 0, 6, 16, 252, 172, 42, 180, 0, 248, 16, 60, 160, 0, 6, 16, 254, 172, 42, 180, 0, 96]
abbrev dktX0_drop_1 : List UInt8 := dkwX0_drop_1 ++ dktX0_drop_2
def dkwX0_drop_0 : List UInt8 := [27, 184, 1, 58, 154, 0, 5, 2, 172, 42, 27, 182, 1, 61, 154, 0, 14, 42, 180, 0, 96, 27, 46]
abbrev dktX0_drop_0 : List UInt8 := dkwX0_drop_0 ++ dktX0_drop_1
theorem dksX0_drop_0 : cX0_drop.data.toList.drop 0 = dktX0_drop_0 := by decide +kernel
theorem dksX0_drop_1 : cX0_drop.data.toList.drop 23 = dktX0_drop_1 := dk_seg dksX0_drop_0 23 rfl rfl
theorem dksX0_drop_2 : cX0_drop.data.toList.drop 47 = dktX0_drop_2 := dk_seg dksX0_drop_1 24 rfl rfl
theorem dksX0_drop_3 : cX0_drop.data.toList.drop 71 = dktX0_drop_3 := dk_seg dksX0_drop_2 24 rfl rfl
theorem dksX0_drop_4 : cX0_drop.data.toList.drop 94 = dktX0_drop_4 := dk_seg dksX0_drop_3 23 rfl rfl
theorem dX0_drop_0 : decode cX0_drop 0 = .ok (.iload_n 1, 1) := dk_27 (dk_at dksX0_drop_0 0 rfl rfl)
theorem dX0_drop_1 : decode cX0_drop 1 = .ok (.invokestatic 314, 3) := dk_184 1 58 (dk_at dksX0_drop_0 1 rfl rfl)
theorem dX0_drop_4 : decode cX0_drop 4 = .ok (.ifCond .ne 5, 3) := dk_154 0 5 (dk_at dksX0_drop_0 4 rfl rfl)
theorem dX0_drop_7 : decode cX0_drop 7 = .ok (.iconst (-1), 1) := dk_2 (dk_at dksX0_drop_0 7 rfl rfl)
theorem dX0_drop_8 : decode cX0_drop 8 = .ok (.ireturn, 1) := dk_172 (dk_at dksX0_drop_0 8 rfl rfl)
theorem dX0_drop_9 : decode cX0_drop 9 = .ok (.aload_n 0, 1) := dk_42 (dk_at dksX0_drop_0 9 rfl rfl)
theorem dX0_drop_10 : decode cX0_drop 10 = .ok (.iload_n 1, 1) := dk_27 (dk_at dksX0_drop_0 10 rfl rfl)
theorem dX0_drop_11 : decode cX0_drop 11 = .ok (.invokevirtual 317, 3) := dk_182 1 61 (dk_at dksX0_drop_0 11 rfl rfl)
theorem dX0_drop_14 : decode cX0_drop 14 = .ok (.ifCond .ne 14, 3) := dk_154 0 14 (dk_at dksX0_drop_0 14 rfl rfl)
theorem dX0_drop_17 : decode cX0_drop 17 = .ok (.aload_n 0, 1) := dk_42 (dk_at dksX0_drop_0 17 rfl rfl)
theorem dX0_drop_18 : decode cX0_drop 18 = .ok (.getfield 96, 3) := dk_180 0 96 (dk_at dksX0_drop_0 18 rfl rfl)
theorem dX0_drop_21 : decode cX0_drop 21 = .ok (.iload_n 1, 1) := dk_27 (dk_at dksX0_drop_0 21 rfl rfl)
theorem dX0_drop_22 : decode cX0_drop 22 = .ok (.iaload, 1) := dk_46 (dk_at dksX0_drop_0 22 rfl rfl)
theorem dX0_drop_23 : decode cX0_drop 23 = .ok (.bipush (-9), 2) := dk_16 247 (dk_at dksX0_drop_1 0 rfl rfl)
theorem dX0_drop_25 : decode cX0_drop 25 = .ok (.if_icmp .ne 6, 3) := dk_160 0 6 (dk_at dksX0_drop_1 2 rfl rfl)
theorem dX0_drop_28 : decode cX0_drop 28 = .ok (.bipush (-4), 2) := dk_16 252 (dk_at dksX0_drop_1 5 rfl rfl)
theorem dX0_drop_30 : decode cX0_drop 30 = .ok (.ireturn, 1) := dk_172 (dk_at dksX0_drop_1 7 rfl rfl)
theorem dX0_drop_31 : decode cX0_drop 31 = .ok (.aload_n 0, 1) := dk_42 (dk_at dksX0_drop_1 8 rfl rfl)
theorem dX0_drop_32 : decode cX0_drop 32 = .ok (.getfield 248, 3) := dk_180 0 248 (dk_at dksX0_drop_1 9 rfl rfl)
theorem dX0_drop_35 : decode cX0_drop 35 = .ok (.bipush 60, 2) := dk_16 60 (dk_at dksX0_drop_1 12 rfl rfl)
theorem dX0_drop_37 : decode cX0_drop 37 = .ok (.if_icmp .ne 6, 3) := dk_160 0 6 (dk_at dksX0_drop_1 14 rfl rfl)
theorem dX0_drop_40 : decode cX0_drop 40 = .ok (.bipush (-2), 2) := dk_16 254 (dk_at dksX0_drop_1 17 rfl rfl)
theorem dX0_drop_42 : decode cX0_drop 42 = .ok (.ireturn, 1) := dk_172 (dk_at dksX0_drop_1 19 rfl rfl)
theorem dX0_drop_43 : decode cX0_drop 43 = .ok (.aload_n 0, 1) := dk_42 (dk_at dksX0_drop_1 20 rfl rfl)
theorem dX0_drop_44 : decode cX0_drop 44 = .ok (.getfield 96, 3) := dk_180 0 96 (dk_at dksX0_drop_1 21 rfl rfl)
theorem dX0_drop_47 : decode cX0_drop 47 = .ok (.iload_n 1, 1) := dk_27 (dk_at dksX0_drop_2 0 rfl rfl)
theorem dX0_drop_48 : decode cX0_drop 48 = .ok (.iaload, 1) := dk_46 (dk_at dksX0_drop_2 1 rfl rfl)
theorem dX0_drop_49 : decode cX0_drop 49 = .ok (.istore_n 2, 1) := dk_61 (dk_at dksX0_drop_2 2 rfl rfl)
theorem dX0_drop_50 : decode cX0_drop 50 = .ok (.aload_n 0, 1) := dk_42 (dk_at dksX0_drop_2 3 rfl rfl)
theorem dX0_drop_51 : decode cX0_drop 51 = .ok (.getfield 65, 3) := dk_180 0 65 (dk_at dksX0_drop_2 4 rfl rfl)
theorem dX0_drop_54 : decode cX0_drop 54 = .ok (.iload_n 2, 1) := dk_28 (dk_at dksX0_drop_2 7 rfl rfl)
theorem dX0_drop_55 : decode cX0_drop 55 = .ok (.aaload, 1) := dk_50 (dk_at dksX0_drop_2 8 rfl rfl)
theorem dX0_drop_56 : decode cX0_drop 56 = .ok (.bipush (-9), 2) := dk_16 247 (dk_at dksX0_drop_2 9 rfl rfl)
theorem dX0_drop_58 : decode cX0_drop 58 = .ok (.putfield 275, 3) := dk_181 1 19 (dk_at dksX0_drop_2 11 rfl rfl)
theorem dX0_drop_61 : decode cX0_drop 61 = .ok (.aload_n 0, 1) := dk_42 (dk_at dksX0_drop_2 14 rfl rfl)
theorem dX0_drop_62 : decode cX0_drop 62 = .ok (.getfield 65, 3) := dk_180 0 65 (dk_at dksX0_drop_2 15 rfl rfl)
theorem dX0_drop_65 : decode cX0_drop 65 = .ok (.iload_n 2, 1) := dk_28 (dk_at dksX0_drop_2 18 rfl rfl)
theorem dX0_drop_66 : decode cX0_drop 66 = .ok (.aaload, 1) := dk_50 (dk_at dksX0_drop_2 19 rfl rfl)
theorem dX0_drop_67 : decode cX0_drop 67 = .ok (.aload_n 0, 1) := dk_42 (dk_at dksX0_drop_2 20 rfl rfl)
theorem dX0_drop_68 : decode cX0_drop 68 = .ok (.getfield 90, 3) := dk_180 0 90 (dk_at dksX0_drop_2 21 rfl rfl)
theorem dX0_drop_71 : decode cX0_drop 71 = .ok (.iload_n 1, 1) := dk_27 (dk_at dksX0_drop_3 0 rfl rfl)
theorem dX0_drop_72 : decode cX0_drop 72 = .ok (.iaload, 1) := dk_46 (dk_at dksX0_drop_3 1 rfl rfl)
theorem dX0_drop_73 : decode cX0_drop 73 = .ok (.putfield 272, 3) := dk_181 1 16 (dk_at dksX0_drop_3 2 rfl rfl)
theorem dX0_drop_76 : decode cX0_drop 76 = .ok (.aload_n 0, 1) := dk_42 (dk_at dksX0_drop_3 5 rfl rfl)
theorem dX0_drop_77 : decode cX0_drop 77 = .ok (.getfield 96, 3) := dk_180 0 96 (dk_at dksX0_drop_3 6 rfl rfl)
theorem dX0_drop_80 : decode cX0_drop 80 = .ok (.iload_n 1, 1) := dk_27 (dk_at dksX0_drop_3 9 rfl rfl)
theorem dX0_drop_81 : decode cX0_drop 81 = .ok (.bipush (-9), 2) := dk_16 247 (dk_at dksX0_drop_3 10 rfl rfl)
theorem dX0_drop_83 : decode cX0_drop 83 = .ok (.iastore, 1) := dk_79 (dk_at dksX0_drop_3 12 rfl rfl)
theorem dX0_drop_84 : decode cX0_drop 84 = .ok (.aload_n 0, 1) := dk_42 (dk_at dksX0_drop_3 13 rfl rfl)
theorem dX0_drop_85 : decode cX0_drop 85 = .ok (.iload_n 2, 1) := dk_28 (dk_at dksX0_drop_3 14 rfl rfl)
theorem dX0_drop_86 : decode cX0_drop 86 = .ok (.iconst 0, 1) := dk_3 (dk_at dksX0_drop_3 15 rfl rfl)
theorem dX0_drop_87 : decode cX0_drop 87 = .ok (.aload_n 0, 1) := dk_42 (dk_at dksX0_drop_3 16 rfl rfl)
theorem dX0_drop_88 : decode cX0_drop 88 = .ok (.getfield 90, 3) := dk_180 0 90 (dk_at dksX0_drop_3 17 rfl rfl)
theorem dX0_drop_91 : decode cX0_drop 91 = .ok (.iload_n 1, 1) := dk_27 (dk_at dksX0_drop_3 20 rfl rfl)
theorem dX0_drop_92 : decode cX0_drop 92 = .ok (.iaload, 1) := dk_46 (dk_at dksX0_drop_3 21 rfl rfl)
theorem dX0_drop_93 : decode cX0_drop 93 = .ok (.aload_n 0, 1) := dk_42 (dk_at dksX0_drop_3 22 rfl rfl)
theorem dX0_drop_94 : decode cX0_drop 94 = .ok (.getfield 90, 3) := dk_180 0 90 (dk_at dksX0_drop_4 0 rfl rfl)
theorem dX0_drop_97 : decode cX0_drop 97 = .ok (.iload_n 1, 1) := dk_27 (dk_at dksX0_drop_4 3 rfl rfl)
theorem dX0_drop_98 : decode cX0_drop 98 = .ok (.iaload, 1) := dk_46 (dk_at dksX0_drop_4 4 rfl rfl)
theorem dX0_drop_99 : decode cX0_drop 99 = .ok (.invokevirtual 264, 3) := dk_182 1 8 (dk_at dksX0_drop_4 5 rfl rfl)
theorem dX0_drop_102 : decode cX0_drop 102 = .ok (.iload_n 2, 1) := dk_28 (dk_at dksX0_drop_4 8 rfl rfl)
theorem dX0_drop_103 : decode cX0_drop 103 = .ok (.ireturn, 1) := dk_172 (dk_at dksX0_drop_4 9 rfl rfl)
abbrev cX0_go : ByteArray := prog_1_method_46_code
def yX0_go : MethodName := ⟨RX0, "go", "(II)I"⟩
def dkwX0_go_8 : List UInt8 := [42, 180, 0, 93, 27, 29, 79, 29, 172]
abbrev dktX0_go_8 : List UInt8 := dkwX0_go_8 ++ []
def dkwX0_go_7 : List UInt8 := [100, 79, 42, 180, 0, 102, 27, 92, 46, 29, 42, 180, 0, 219, 100, 96, 79, 42, 180, 0, 90, 27, 28, 79]
abbrev dktX0_go_7 : List UInt8 := dkwX0_go_7 ++ dktX0_go_8
def dkwX0_go_6 : List UInt8 := [21, 4, 182, 1, 64, 164, 0, 6, 16, 252, 172, 42, 180, 0, 99, 27, 21, 6, 29, 96, 42, 180, 0, 219]
abbrev dktX0_go_6 : List UInt8 := dkwX0_go_6 ++ dktX0_go_7
def dkwX0_go_5 : List UInt8 := [46, 54, 6, 29, 18, 218, 163, 0, 25, 21, 6, 29, 96, 42, 180, 0, 219, 100, 42, 5, 3, 21, 4]
abbrev dktX0_go_5 : List UInt8 := dkwX0_go_5 ++ dktX0_go_6
def dkwX0_go_4 : List UInt8 := [161, 0, 7, 4, 167, 0, 4, 3, 54, 5, 21, 5, 153, 0, 7, 3, 167, 0, 9, 42, 180, 0, 99, 27]
abbrev dktX0_go_4 : List UInt8 := dkwX0_go_4 ++ dktX0_go_5
def dkwX0_go_3 : List UInt8 := [108, 54, 4, 42, 180, 0, 219, 42, 180, 0, 93, 27, 46, 100, 42, 6, 3, 21, 4, 21, 4, 182, 1, 64]
abbrev dktX0_go_3 : List UInt8 := dkwX0_go_3 ++ dktX0_go_4
def dkwX0_go_2 : List UInt8 := [28, 182, 0, 241, 62, 29, 16, 247, 160, 0, 9, 42, 4, 182, 0, 181, 172, 42, 180, 0, 219, 17, 5, 160]
abbrev dktX0_go_2 : List UInt8 := dkwX0_go_2 ++ dktX0_go_3
def dkwX0_go_1 : List UInt8 := [2, 172, 42, 27, 182, 1, 61, 153, 0, 6, 16, 252, 172, 42, 42, 180, 0, 90, 27, 46, 42, 180, 0, 219]
abbrev dktX0_go_1 : List UInt8 := dkwX0_go_1 ++ dktX0_go_2
def dkwX0_go_0 : List UInt8 := [27, 184, 1, 58, 153, 0, 20, 28, 184, 0, 222, 153, 0, 13, 28, 42, 180, 0, 90, 27, 46, 160, 0, 5]
abbrev dktX0_go_0 : List UInt8 := dkwX0_go_0 ++ dktX0_go_1
theorem dksX0_go_0 : cX0_go.data.toList.drop 0 = dktX0_go_0 := by decide +kernel
theorem dksX0_go_1 : cX0_go.data.toList.drop 24 = dktX0_go_1 := dk_seg dksX0_go_0 24 rfl rfl
theorem dksX0_go_2 : cX0_go.data.toList.drop 48 = dktX0_go_2 := dk_seg dksX0_go_1 24 rfl rfl
theorem dksX0_go_3 : cX0_go.data.toList.drop 72 = dktX0_go_3 := dk_seg dksX0_go_2 24 rfl rfl
theorem dksX0_go_4 : cX0_go.data.toList.drop 96 = dktX0_go_4 := dk_seg dksX0_go_3 24 rfl rfl
theorem dksX0_go_5 : cX0_go.data.toList.drop 120 = dktX0_go_5 := dk_seg dksX0_go_4 24 rfl rfl
theorem dksX0_go_6 : cX0_go.data.toList.drop 143 = dktX0_go_6 := dk_seg dksX0_go_5 23 rfl rfl
theorem dksX0_go_7 : cX0_go.data.toList.drop 167 = dktX0_go_7 := dk_seg dksX0_go_6 24 rfl rfl
theorem dksX0_go_8 : cX0_go.data.toList.drop 191 = dktX0_go_8 := dk_seg dksX0_go_7 24 rfl rfl
theorem dX0_go_0 : decode cX0_go 0 = .ok (.iload_n 1, 1) := dk_27 (dk_at dksX0_go_0 0 rfl rfl)
theorem dX0_go_1 : decode cX0_go 1 = .ok (.invokestatic 314, 3) := dk_184 1 58 (dk_at dksX0_go_0 1 rfl rfl)
theorem dX0_go_4 : decode cX0_go 4 = .ok (.ifCond .eq 20, 3) := dk_153 0 20 (dk_at dksX0_go_0 4 rfl rfl)
theorem dX0_go_7 : decode cX0_go 7 = .ok (.iload_n 2, 1) := dk_28 (dk_at dksX0_go_0 7 rfl rfl)
theorem dX0_go_8 : decode cX0_go 8 = .ok (.invokestatic 222, 3) := dk_184 0 222 (dk_at dksX0_go_0 8 rfl rfl)
theorem dX0_go_11 : decode cX0_go 11 = .ok (.ifCond .eq 13, 3) := dk_153 0 13 (dk_at dksX0_go_0 11 rfl rfl)
theorem dX0_go_14 : decode cX0_go 14 = .ok (.iload_n 2, 1) := dk_28 (dk_at dksX0_go_0 14 rfl rfl)
theorem dX0_go_15 : decode cX0_go 15 = .ok (.aload_n 0, 1) := dk_42 (dk_at dksX0_go_0 15 rfl rfl)
theorem dX0_go_16 : decode cX0_go 16 = .ok (.getfield 90, 3) := dk_180 0 90 (dk_at dksX0_go_0 16 rfl rfl)
theorem dX0_go_19 : decode cX0_go 19 = .ok (.iload_n 1, 1) := dk_27 (dk_at dksX0_go_0 19 rfl rfl)
theorem dX0_go_20 : decode cX0_go 20 = .ok (.iaload, 1) := dk_46 (dk_at dksX0_go_0 20 rfl rfl)
theorem dX0_go_21 : decode cX0_go 21 = .ok (.if_icmp .ne 5, 3) := dk_160 0 5 (dk_at dksX0_go_0 21 rfl rfl)
theorem dX0_go_24 : decode cX0_go 24 = .ok (.iconst (-1), 1) := dk_2 (dk_at dksX0_go_1 0 rfl rfl)
theorem dX0_go_25 : decode cX0_go 25 = .ok (.ireturn, 1) := dk_172 (dk_at dksX0_go_1 1 rfl rfl)
theorem dX0_go_26 : decode cX0_go 26 = .ok (.aload_n 0, 1) := dk_42 (dk_at dksX0_go_1 2 rfl rfl)
theorem dX0_go_27 : decode cX0_go 27 = .ok (.iload_n 1, 1) := dk_27 (dk_at dksX0_go_1 3 rfl rfl)
theorem dX0_go_28 : decode cX0_go 28 = .ok (.invokevirtual 317, 3) := dk_182 1 61 (dk_at dksX0_go_1 4 rfl rfl)
theorem dX0_go_31 : decode cX0_go 31 = .ok (.ifCond .eq 6, 3) := dk_153 0 6 (dk_at dksX0_go_1 7 rfl rfl)
theorem dX0_go_34 : decode cX0_go 34 = .ok (.bipush (-4), 2) := dk_16 252 (dk_at dksX0_go_1 10 rfl rfl)
theorem dX0_go_36 : decode cX0_go 36 = .ok (.ireturn, 1) := dk_172 (dk_at dksX0_go_1 12 rfl rfl)
theorem dX0_go_37 : decode cX0_go 37 = .ok (.aload_n 0, 1) := dk_42 (dk_at dksX0_go_1 13 rfl rfl)
theorem dX0_go_38 : decode cX0_go 38 = .ok (.aload_n 0, 1) := dk_42 (dk_at dksX0_go_1 14 rfl rfl)
theorem dX0_go_39 : decode cX0_go 39 = .ok (.getfield 90, 3) := dk_180 0 90 (dk_at dksX0_go_1 15 rfl rfl)
theorem dX0_go_42 : decode cX0_go 42 = .ok (.iload_n 1, 1) := dk_27 (dk_at dksX0_go_1 18 rfl rfl)
theorem dX0_go_43 : decode cX0_go 43 = .ok (.iaload, 1) := dk_46 (dk_at dksX0_go_1 19 rfl rfl)
theorem dX0_go_44 : decode cX0_go 44 = .ok (.aload_n 0, 1) := dk_42 (dk_at dksX0_go_1 20 rfl rfl)
theorem dX0_go_45 : decode cX0_go 45 = .ok (.getfield 219, 3) := dk_180 0 219 (dk_at dksX0_go_1 21 rfl rfl)
theorem dX0_go_48 : decode cX0_go 48 = .ok (.iload_n 2, 1) := dk_28 (dk_at dksX0_go_2 0 rfl rfl)
theorem dX0_go_49 : decode cX0_go 49 = .ok (.invokevirtual 241, 3) := dk_182 0 241 (dk_at dksX0_go_2 1 rfl rfl)
theorem dX0_go_52 : decode cX0_go 52 = .ok (.istore_n 3, 1) := dk_62 (dk_at dksX0_go_2 4 rfl rfl)
theorem dX0_go_53 : decode cX0_go 53 = .ok (.iload_n 3, 1) := dk_29 (dk_at dksX0_go_2 5 rfl rfl)
theorem dX0_go_54 : decode cX0_go 54 = .ok (.bipush (-9), 2) := dk_16 247 (dk_at dksX0_go_2 6 rfl rfl)
theorem dX0_go_56 : decode cX0_go 56 = .ok (.if_icmp .ne 9, 3) := dk_160 0 9 (dk_at dksX0_go_2 8 rfl rfl)
theorem dX0_go_59 : decode cX0_go 59 = .ok (.aload_n 0, 1) := dk_42 (dk_at dksX0_go_2 11 rfl rfl)
theorem dX0_go_60 : decode cX0_go 60 = .ok (.iconst 1, 1) := dk_4 (dk_at dksX0_go_2 12 rfl rfl)
theorem dX0_go_61 : decode cX0_go 61 = .ok (.invokevirtual 181, 3) := dk_182 0 181 (dk_at dksX0_go_2 13 rfl rfl)
theorem dX0_go_64 : decode cX0_go 64 = .ok (.ireturn, 1) := dk_172 (dk_at dksX0_go_2 16 rfl rfl)
theorem dX0_go_65 : decode cX0_go 65 = .ok (.aload_n 0, 1) := dk_42 (dk_at dksX0_go_2 17 rfl rfl)
theorem dX0_go_66 : decode cX0_go 66 = .ok (.getfield 219, 3) := dk_180 0 219 (dk_at dksX0_go_2 18 rfl rfl)
theorem dX0_go_69 : decode cX0_go 69 = .ok (.sipush 1440, 3) := dk_17 5 160 (dk_at dksX0_go_2 21 rfl rfl)
theorem dX0_go_72 : decode cX0_go 72 = .ok (.idiv, 1) := dk_108 (dk_at dksX0_go_3 0 rfl rfl)
theorem dX0_go_73 : decode cX0_go 73 = .ok (.istore 4, 2) := dk_54 4 (dk_at dksX0_go_3 1 rfl rfl)
theorem dX0_go_75 : decode cX0_go 75 = .ok (.aload_n 0, 1) := dk_42 (dk_at dksX0_go_3 3 rfl rfl)
theorem dX0_go_76 : decode cX0_go 76 = .ok (.getfield 219, 3) := dk_180 0 219 (dk_at dksX0_go_3 4 rfl rfl)
theorem dX0_go_79 : decode cX0_go 79 = .ok (.aload_n 0, 1) := dk_42 (dk_at dksX0_go_3 7 rfl rfl)
theorem dX0_go_80 : decode cX0_go 80 = .ok (.getfield 93, 3) := dk_180 0 93 (dk_at dksX0_go_3 8 rfl rfl)
theorem dX0_go_83 : decode cX0_go 83 = .ok (.iload_n 1, 1) := dk_27 (dk_at dksX0_go_3 11 rfl rfl)
theorem dX0_go_84 : decode cX0_go 84 = .ok (.iaload, 1) := dk_46 (dk_at dksX0_go_3 12 rfl rfl)
theorem dX0_go_85 : decode cX0_go 85 = .ok (.isub, 1) := dk_100 (dk_at dksX0_go_3 13 rfl rfl)
theorem dX0_go_86 : decode cX0_go 86 = .ok (.aload_n 0, 1) := dk_42 (dk_at dksX0_go_3 14 rfl rfl)
theorem dX0_go_87 : decode cX0_go 87 = .ok (.iconst 3, 1) := dk_6 (dk_at dksX0_go_3 15 rfl rfl)
theorem dX0_go_88 : decode cX0_go 88 = .ok (.iconst 0, 1) := dk_3 (dk_at dksX0_go_3 16 rfl rfl)
theorem dX0_go_89 : decode cX0_go 89 = .ok (.iload 4, 2) := dk_21 4 (dk_at dksX0_go_3 17 rfl rfl)
theorem dX0_go_91 : decode cX0_go 91 = .ok (.iload 4, 2) := dk_21 4 (dk_at dksX0_go_3 19 rfl rfl)
theorem dX0_go_93 : decode cX0_go 93 = .ok (.invokevirtual 320, 3) := dk_182 1 64 (dk_at dksX0_go_3 21 rfl rfl)
theorem dX0_go_96 : decode cX0_go 96 = .ok (.if_icmp .lt 7, 3) := dk_161 0 7 (dk_at dksX0_go_4 0 rfl rfl)
theorem dX0_go_99 : decode cX0_go 99 = .ok (.iconst 1, 1) := dk_4 (dk_at dksX0_go_4 3 rfl rfl)
theorem dX0_go_100 : decode cX0_go 100 = .ok (.goto 4, 3) := dk_167 0 4 (dk_at dksX0_go_4 4 rfl rfl)
theorem dX0_go_103 : decode cX0_go 103 = .ok (.iconst 0, 1) := dk_3 (dk_at dksX0_go_4 7 rfl rfl)
theorem dX0_go_104 : decode cX0_go 104 = .ok (.istore 5, 2) := dk_54 5 (dk_at dksX0_go_4 8 rfl rfl)
theorem dX0_go_106 : decode cX0_go 106 = .ok (.iload 5, 2) := dk_21 5 (dk_at dksX0_go_4 10 rfl rfl)
theorem dX0_go_108 : decode cX0_go 108 = .ok (.ifCond .eq 7, 3) := dk_153 0 7 (dk_at dksX0_go_4 12 rfl rfl)
theorem dX0_go_111 : decode cX0_go 111 = .ok (.iconst 0, 1) := dk_3 (dk_at dksX0_go_4 15 rfl rfl)
theorem dX0_go_112 : decode cX0_go 112 = .ok (.goto 9, 3) := dk_167 0 9 (dk_at dksX0_go_4 16 rfl rfl)
theorem dX0_go_115 : decode cX0_go 115 = .ok (.aload_n 0, 1) := dk_42 (dk_at dksX0_go_4 19 rfl rfl)
theorem dX0_go_116 : decode cX0_go 116 = .ok (.getfield 99, 3) := dk_180 0 99 (dk_at dksX0_go_4 20 rfl rfl)
theorem dX0_go_119 : decode cX0_go 119 = .ok (.iload_n 1, 1) := dk_27 (dk_at dksX0_go_4 23 rfl rfl)
theorem dX0_go_120 : decode cX0_go 120 = .ok (.iaload, 1) := dk_46 (dk_at dksX0_go_5 0 rfl rfl)
theorem dX0_go_121 : decode cX0_go 121 = .ok (.istore 6, 2) := dk_54 6 (dk_at dksX0_go_5 1 rfl rfl)
theorem dX0_go_123 : decode cX0_go 123 = .ok (.iload_n 3, 1) := dk_29 (dk_at dksX0_go_5 3 rfl rfl)
theorem dX0_go_124 : decode cX0_go 124 = .ok (.ldc 218, 2) := dk_18 218 (dk_at dksX0_go_5 4 rfl rfl)
theorem dX0_go_126 : decode cX0_go 126 = .ok (.if_icmp .gt 25, 3) := dk_163 0 25 (dk_at dksX0_go_5 6 rfl rfl)
theorem dX0_go_129 : decode cX0_go 129 = .ok (.iload 6, 2) := dk_21 6 (dk_at dksX0_go_5 9 rfl rfl)
theorem dX0_go_131 : decode cX0_go 131 = .ok (.iload_n 3, 1) := dk_29 (dk_at dksX0_go_5 11 rfl rfl)
theorem dX0_go_132 : decode cX0_go 132 = .ok (.iadd, 1) := dk_96 (dk_at dksX0_go_5 12 rfl rfl)
theorem dX0_go_133 : decode cX0_go 133 = .ok (.aload_n 0, 1) := dk_42 (dk_at dksX0_go_5 13 rfl rfl)
theorem dX0_go_134 : decode cX0_go 134 = .ok (.getfield 219, 3) := dk_180 0 219 (dk_at dksX0_go_5 14 rfl rfl)
theorem dX0_go_137 : decode cX0_go 137 = .ok (.isub, 1) := dk_100 (dk_at dksX0_go_5 17 rfl rfl)
theorem dX0_go_138 : decode cX0_go 138 = .ok (.aload_n 0, 1) := dk_42 (dk_at dksX0_go_5 18 rfl rfl)
theorem dX0_go_139 : decode cX0_go 139 = .ok (.iconst 2, 1) := dk_5 (dk_at dksX0_go_5 19 rfl rfl)
theorem dX0_go_140 : decode cX0_go 140 = .ok (.iconst 0, 1) := dk_3 (dk_at dksX0_go_5 20 rfl rfl)
theorem dX0_go_141 : decode cX0_go 141 = .ok (.iload 4, 2) := dk_21 4 (dk_at dksX0_go_5 21 rfl rfl)
theorem dX0_go_143 : decode cX0_go 143 = .ok (.iload 4, 2) := dk_21 4 (dk_at dksX0_go_6 0 rfl rfl)
theorem dX0_go_145 : decode cX0_go 145 = .ok (.invokevirtual 320, 3) := dk_182 1 64 (dk_at dksX0_go_6 2 rfl rfl)
theorem dX0_go_148 : decode cX0_go 148 = .ok (.if_icmp .le 6, 3) := dk_164 0 6 (dk_at dksX0_go_6 5 rfl rfl)
theorem dX0_go_151 : decode cX0_go 151 = .ok (.bipush (-4), 2) := dk_16 252 (dk_at dksX0_go_6 8 rfl rfl)
theorem dX0_go_153 : decode cX0_go 153 = .ok (.ireturn, 1) := dk_172 (dk_at dksX0_go_6 10 rfl rfl)
theorem dX0_go_154 : decode cX0_go 154 = .ok (.aload_n 0, 1) := dk_42 (dk_at dksX0_go_6 11 rfl rfl)
theorem dX0_go_155 : decode cX0_go 155 = .ok (.getfield 99, 3) := dk_180 0 99 (dk_at dksX0_go_6 12 rfl rfl)
theorem dX0_go_158 : decode cX0_go 158 = .ok (.iload_n 1, 1) := dk_27 (dk_at dksX0_go_6 15 rfl rfl)
theorem dX0_go_159 : decode cX0_go 159 = .ok (.iload 6, 2) := dk_21 6 (dk_at dksX0_go_6 16 rfl rfl)
theorem dX0_go_161 : decode cX0_go 161 = .ok (.iload_n 3, 1) := dk_29 (dk_at dksX0_go_6 18 rfl rfl)
theorem dX0_go_162 : decode cX0_go 162 = .ok (.iadd, 1) := dk_96 (dk_at dksX0_go_6 19 rfl rfl)
theorem dX0_go_163 : decode cX0_go 163 = .ok (.aload_n 0, 1) := dk_42 (dk_at dksX0_go_6 20 rfl rfl)
theorem dX0_go_164 : decode cX0_go 164 = .ok (.getfield 219, 3) := dk_180 0 219 (dk_at dksX0_go_6 21 rfl rfl)
theorem dX0_go_167 : decode cX0_go 167 = .ok (.isub, 1) := dk_100 (dk_at dksX0_go_7 0 rfl rfl)
theorem dX0_go_168 : decode cX0_go 168 = .ok (.iastore, 1) := dk_79 (dk_at dksX0_go_7 1 rfl rfl)
theorem dX0_go_169 : decode cX0_go 169 = .ok (.aload_n 0, 1) := dk_42 (dk_at dksX0_go_7 2 rfl rfl)
theorem dX0_go_170 : decode cX0_go 170 = .ok (.getfield 102, 3) := dk_180 0 102 (dk_at dksX0_go_7 3 rfl rfl)
theorem dX0_go_173 : decode cX0_go 173 = .ok (.iload_n 1, 1) := dk_27 (dk_at dksX0_go_7 6 rfl rfl)
theorem dX0_go_174 : decode cX0_go 174 = .ok (.dup2, 1) := dk_92 (dk_at dksX0_go_7 7 rfl rfl)
theorem dX0_go_175 : decode cX0_go 175 = .ok (.iaload, 1) := dk_46 (dk_at dksX0_go_7 8 rfl rfl)
theorem dX0_go_176 : decode cX0_go 176 = .ok (.iload_n 3, 1) := dk_29 (dk_at dksX0_go_7 9 rfl rfl)
theorem dX0_go_177 : decode cX0_go 177 = .ok (.aload_n 0, 1) := dk_42 (dk_at dksX0_go_7 10 rfl rfl)
theorem dX0_go_178 : decode cX0_go 178 = .ok (.getfield 219, 3) := dk_180 0 219 (dk_at dksX0_go_7 11 rfl rfl)
theorem dX0_go_181 : decode cX0_go 181 = .ok (.isub, 1) := dk_100 (dk_at dksX0_go_7 14 rfl rfl)
theorem dX0_go_182 : decode cX0_go 182 = .ok (.iadd, 1) := dk_96 (dk_at dksX0_go_7 15 rfl rfl)
theorem dX0_go_183 : decode cX0_go 183 = .ok (.iastore, 1) := dk_79 (dk_at dksX0_go_7 16 rfl rfl)
theorem dX0_go_184 : decode cX0_go 184 = .ok (.aload_n 0, 1) := dk_42 (dk_at dksX0_go_7 17 rfl rfl)
theorem dX0_go_185 : decode cX0_go 185 = .ok (.getfield 90, 3) := dk_180 0 90 (dk_at dksX0_go_7 18 rfl rfl)
theorem dX0_go_188 : decode cX0_go 188 = .ok (.iload_n 1, 1) := dk_27 (dk_at dksX0_go_7 21 rfl rfl)
theorem dX0_go_189 : decode cX0_go 189 = .ok (.iload_n 2, 1) := dk_28 (dk_at dksX0_go_7 22 rfl rfl)
theorem dX0_go_190 : decode cX0_go 190 = .ok (.iastore, 1) := dk_79 (dk_at dksX0_go_7 23 rfl rfl)
theorem dX0_go_191 : decode cX0_go 191 = .ok (.aload_n 0, 1) := dk_42 (dk_at dksX0_go_8 0 rfl rfl)
theorem dX0_go_192 : decode cX0_go 192 = .ok (.getfield 93, 3) := dk_180 0 93 (dk_at dksX0_go_8 1 rfl rfl)
theorem dX0_go_195 : decode cX0_go 195 = .ok (.iload_n 1, 1) := dk_27 (dk_at dksX0_go_8 4 rfl rfl)
theorem dX0_go_196 : decode cX0_go 196 = .ok (.iload_n 3, 1) := dk_29 (dk_at dksX0_go_8 5 rfl rfl)
theorem dX0_go_197 : decode cX0_go 197 = .ok (.iastore, 1) := dk_79 (dk_at dksX0_go_8 6 rfl rfl)
theorem dX0_go_198 : decode cX0_go 198 = .ok (.iload_n 3, 1) := dk_29 (dk_at dksX0_go_8 7 rfl rfl)
theorem dX0_go_199 : decode cX0_go 199 = .ok (.ireturn, 1) := dk_172 (dk_at dksX0_go_8 8 rfl rfl)
abbrev cX0_forceOf : ByteArray := prog_1_method_56_code
def yX0_forceOf : MethodName := ⟨RX0, "forceOf", "(IIII)I"⟩
def dkwX0_forceOf_7 : List UInt8 := [54, 6, 132, 8, 1, 167, 255, 143, 132, 7, 1, 167, 255, 121, 21, 5, 172]
abbrev dktX0_forceOf_7 : List UInt8 := dkwX0_forceOf_7 ++ []
def dkwX0_forceOf_6 : List UInt8 := [21, 7, 46, 21, 6, 161, 0, 21, 42, 180, 0, 120, 21, 8, 46, 54, 5, 42, 180, 0, 108, 21, 7, 46]
abbrev dktX0_forceOf_6 : List UInt8 := dkwX0_forceOf_6 ++ dktX0_forceOf_7
def dkwX0_forceOf_5 : List UInt8 := [21, 7, 46, 21, 4, 163, 0, 44, 42, 180, 0, 108, 21, 7, 46, 29, 163, 0, 33, 42, 180, 0, 108]
abbrev dktX0_forceOf_5 : List UInt8 := dkwX0_forceOf_5 ++ dktX0_forceOf_6
def dkwX0_forceOf_4 : List UInt8 := [21, 8, 46, 28, 160, 0, 7, 4, 167, 0, 4, 3, 54, 9, 21, 9, 153, 0, 56, 42, 180, 0, 105]
abbrev dktX0_forceOf_4 : List UInt8 := dkwX0_forceOf_4 ++ dktX0_forceOf_5
def dkwX0_forceOf_3 : List UInt8 := [96, 162, 0, 101, 42, 180, 0, 114, 21, 8, 46, 27, 160, 0, 23, 27, 4, 163, 0, 14, 42, 180, 0, 117]
abbrev dktX0_forceOf_3 : List UInt8 := dkwX0_forceOf_3 ++ dktX0_forceOf_4
def dkwX0_forceOf_2 : List UInt8 := [162, 0, 132, 16, 20, 21, 7, 104, 54, 8, 21, 8, 16, 20, 21, 7, 104, 42, 180, 0, 111, 21, 7, 46]
abbrev dktX0_forceOf_2 : List UInt8 := dkwX0_forceOf_2 ++ dktX0_forceOf_3
def dkwX0_forceOf_1 : List UInt8 := [17, 2, 88, 167, 0, 6, 17, 1, 224, 54, 5, 16, 247, 54, 6, 3, 54, 7, 21, 7, 42, 180, 1, 77]
abbrev dktX0_forceOf_1 : List UInt8 := dkwX0_forceOf_1 ++ dktX0_forceOf_2
def dkwX0_forceOf_0 : List UInt8 := [27, 154, 0, 8, 16, 120, 167, 0, 26, 27, 4, 160, 0, 7, 3, 167, 0, 17, 27, 5, 160, 0, 9]
abbrev dktX0_forceOf_0 : List UInt8 := dkwX0_forceOf_0 ++ dktX0_forceOf_1
theorem dksX0_forceOf_0 : cX0_forceOf.data.toList.drop 0 = dktX0_forceOf_0 := by decide +kernel
theorem dksX0_forceOf_1 : cX0_forceOf.data.toList.drop 23 = dktX0_forceOf_1 := dk_seg dksX0_forceOf_0 23 rfl rfl
theorem dksX0_forceOf_2 : cX0_forceOf.data.toList.drop 47 = dktX0_forceOf_2 := dk_seg dksX0_forceOf_1 24 rfl rfl
theorem dksX0_forceOf_3 : cX0_forceOf.data.toList.drop 71 = dktX0_forceOf_3 := dk_seg dksX0_forceOf_2 24 rfl rfl
theorem dksX0_forceOf_4 : cX0_forceOf.data.toList.drop 95 = dktX0_forceOf_4 := dk_seg dksX0_forceOf_3 24 rfl rfl
theorem dksX0_forceOf_5 : cX0_forceOf.data.toList.drop 118 = dktX0_forceOf_5 := dk_seg dksX0_forceOf_4 23 rfl rfl
theorem dksX0_forceOf_6 : cX0_forceOf.data.toList.drop 141 = dktX0_forceOf_6 := dk_seg dksX0_forceOf_5 23 rfl rfl
theorem dksX0_forceOf_7 : cX0_forceOf.data.toList.drop 165 = dktX0_forceOf_7 := dk_seg dksX0_forceOf_6 24 rfl rfl
theorem dX0_forceOf_0 : decode cX0_forceOf 0 = .ok (.iload_n 1, 1) := dk_27 (dk_at dksX0_forceOf_0 0 rfl rfl)
theorem dX0_forceOf_1 : decode cX0_forceOf 1 = .ok (.ifCond .ne 8, 3) := dk_154 0 8 (dk_at dksX0_forceOf_0 1 rfl rfl)
theorem dX0_forceOf_4 : decode cX0_forceOf 4 = .ok (.bipush 120, 2) := dk_16 120 (dk_at dksX0_forceOf_0 4 rfl rfl)
theorem dX0_forceOf_6 : decode cX0_forceOf 6 = .ok (.goto 26, 3) := dk_167 0 26 (dk_at dksX0_forceOf_0 6 rfl rfl)
theorem dX0_forceOf_9 : decode cX0_forceOf 9 = .ok (.iload_n 1, 1) := dk_27 (dk_at dksX0_forceOf_0 9 rfl rfl)
theorem dX0_forceOf_10 : decode cX0_forceOf 10 = .ok (.iconst 1, 1) := dk_4 (dk_at dksX0_forceOf_0 10 rfl rfl)
theorem dX0_forceOf_11 : decode cX0_forceOf 11 = .ok (.if_icmp .ne 7, 3) := dk_160 0 7 (dk_at dksX0_forceOf_0 11 rfl rfl)
theorem dX0_forceOf_14 : decode cX0_forceOf 14 = .ok (.iconst 0, 1) := dk_3 (dk_at dksX0_forceOf_0 14 rfl rfl)
theorem dX0_forceOf_15 : decode cX0_forceOf 15 = .ok (.goto 17, 3) := dk_167 0 17 (dk_at dksX0_forceOf_0 15 rfl rfl)
theorem dX0_forceOf_18 : decode cX0_forceOf 18 = .ok (.iload_n 1, 1) := dk_27 (dk_at dksX0_forceOf_0 18 rfl rfl)
theorem dX0_forceOf_19 : decode cX0_forceOf 19 = .ok (.iconst 2, 1) := dk_5 (dk_at dksX0_forceOf_0 19 rfl rfl)
theorem dX0_forceOf_20 : decode cX0_forceOf 20 = .ok (.if_icmp .ne 9, 3) := dk_160 0 9 (dk_at dksX0_forceOf_0 20 rfl rfl)
theorem dX0_forceOf_23 : decode cX0_forceOf 23 = .ok (.sipush 600, 3) := dk_17 2 88 (dk_at dksX0_forceOf_1 0 rfl rfl)
theorem dX0_forceOf_26 : decode cX0_forceOf 26 = .ok (.goto 6, 3) := dk_167 0 6 (dk_at dksX0_forceOf_1 3 rfl rfl)
theorem dX0_forceOf_29 : decode cX0_forceOf 29 = .ok (.sipush 480, 3) := dk_17 1 224 (dk_at dksX0_forceOf_1 6 rfl rfl)
theorem dX0_forceOf_32 : decode cX0_forceOf 32 = .ok (.istore 5, 2) := dk_54 5 (dk_at dksX0_forceOf_1 9 rfl rfl)
theorem dX0_forceOf_34 : decode cX0_forceOf 34 = .ok (.bipush (-9), 2) := dk_16 247 (dk_at dksX0_forceOf_1 11 rfl rfl)
theorem dX0_forceOf_36 : decode cX0_forceOf 36 = .ok (.istore 6, 2) := dk_54 6 (dk_at dksX0_forceOf_1 13 rfl rfl)
theorem dX0_forceOf_38 : decode cX0_forceOf 38 = .ok (.iconst 0, 1) := dk_3 (dk_at dksX0_forceOf_1 15 rfl rfl)
theorem dX0_forceOf_39 : decode cX0_forceOf 39 = .ok (.istore 7, 2) := dk_54 7 (dk_at dksX0_forceOf_1 16 rfl rfl)
theorem dX0_forceOf_41 : decode cX0_forceOf 41 = .ok (.iload 7, 2) := dk_21 7 (dk_at dksX0_forceOf_1 18 rfl rfl)
theorem dX0_forceOf_43 : decode cX0_forceOf 43 = .ok (.aload_n 0, 1) := dk_42 (dk_at dksX0_forceOf_1 20 rfl rfl)
theorem dX0_forceOf_44 : decode cX0_forceOf 44 = .ok (.getfield 333, 3) := dk_180 1 77 (dk_at dksX0_forceOf_1 21 rfl rfl)
theorem dX0_forceOf_47 : decode cX0_forceOf 47 = .ok (.if_icmp .ge 132, 3) := dk_162 0 132 (dk_at dksX0_forceOf_2 0 rfl rfl)
theorem dX0_forceOf_50 : decode cX0_forceOf 50 = .ok (.bipush 20, 2) := dk_16 20 (dk_at dksX0_forceOf_2 3 rfl rfl)
theorem dX0_forceOf_52 : decode cX0_forceOf 52 = .ok (.iload 7, 2) := dk_21 7 (dk_at dksX0_forceOf_2 5 rfl rfl)
theorem dX0_forceOf_54 : decode cX0_forceOf 54 = .ok (.imul, 1) := dk_104 (dk_at dksX0_forceOf_2 7 rfl rfl)
theorem dX0_forceOf_55 : decode cX0_forceOf 55 = .ok (.istore 8, 2) := dk_54 8 (dk_at dksX0_forceOf_2 8 rfl rfl)
theorem dX0_forceOf_57 : decode cX0_forceOf 57 = .ok (.iload 8, 2) := dk_21 8 (dk_at dksX0_forceOf_2 10 rfl rfl)
theorem dX0_forceOf_59 : decode cX0_forceOf 59 = .ok (.bipush 20, 2) := dk_16 20 (dk_at dksX0_forceOf_2 12 rfl rfl)
theorem dX0_forceOf_61 : decode cX0_forceOf 61 = .ok (.iload 7, 2) := dk_21 7 (dk_at dksX0_forceOf_2 14 rfl rfl)
theorem dX0_forceOf_63 : decode cX0_forceOf 63 = .ok (.imul, 1) := dk_104 (dk_at dksX0_forceOf_2 16 rfl rfl)
theorem dX0_forceOf_64 : decode cX0_forceOf 64 = .ok (.aload_n 0, 1) := dk_42 (dk_at dksX0_forceOf_2 17 rfl rfl)
theorem dX0_forceOf_65 : decode cX0_forceOf 65 = .ok (.getfield 111, 3) := dk_180 0 111 (dk_at dksX0_forceOf_2 18 rfl rfl)
theorem dX0_forceOf_68 : decode cX0_forceOf 68 = .ok (.iload 7, 2) := dk_21 7 (dk_at dksX0_forceOf_2 21 rfl rfl)
theorem dX0_forceOf_70 : decode cX0_forceOf 70 = .ok (.iaload, 1) := dk_46 (dk_at dksX0_forceOf_2 23 rfl rfl)
theorem dX0_forceOf_71 : decode cX0_forceOf 71 = .ok (.iadd, 1) := dk_96 (dk_at dksX0_forceOf_3 0 rfl rfl)
theorem dX0_forceOf_72 : decode cX0_forceOf 72 = .ok (.if_icmp .ge 101, 3) := dk_162 0 101 (dk_at dksX0_forceOf_3 1 rfl rfl)
theorem dX0_forceOf_75 : decode cX0_forceOf 75 = .ok (.aload_n 0, 1) := dk_42 (dk_at dksX0_forceOf_3 4 rfl rfl)
theorem dX0_forceOf_76 : decode cX0_forceOf 76 = .ok (.getfield 114, 3) := dk_180 0 114 (dk_at dksX0_forceOf_3 5 rfl rfl)
theorem dX0_forceOf_79 : decode cX0_forceOf 79 = .ok (.iload 8, 2) := dk_21 8 (dk_at dksX0_forceOf_3 8 rfl rfl)
theorem dX0_forceOf_81 : decode cX0_forceOf 81 = .ok (.iaload, 1) := dk_46 (dk_at dksX0_forceOf_3 10 rfl rfl)
theorem dX0_forceOf_82 : decode cX0_forceOf 82 = .ok (.iload_n 1, 1) := dk_27 (dk_at dksX0_forceOf_3 11 rfl rfl)
theorem dX0_forceOf_83 : decode cX0_forceOf 83 = .ok (.if_icmp .ne 23, 3) := dk_160 0 23 (dk_at dksX0_forceOf_3 12 rfl rfl)
theorem dX0_forceOf_86 : decode cX0_forceOf 86 = .ok (.iload_n 1, 1) := dk_27 (dk_at dksX0_forceOf_3 15 rfl rfl)
theorem dX0_forceOf_87 : decode cX0_forceOf 87 = .ok (.iconst 1, 1) := dk_4 (dk_at dksX0_forceOf_3 16 rfl rfl)
theorem dX0_forceOf_88 : decode cX0_forceOf 88 = .ok (.if_icmp .gt 14, 3) := dk_163 0 14 (dk_at dksX0_forceOf_3 17 rfl rfl)
theorem dX0_forceOf_91 : decode cX0_forceOf 91 = .ok (.aload_n 0, 1) := dk_42 (dk_at dksX0_forceOf_3 20 rfl rfl)
theorem dX0_forceOf_92 : decode cX0_forceOf 92 = .ok (.getfield 117, 3) := dk_180 0 117 (dk_at dksX0_forceOf_3 21 rfl rfl)
theorem dX0_forceOf_95 : decode cX0_forceOf 95 = .ok (.iload 8, 2) := dk_21 8 (dk_at dksX0_forceOf_4 0 rfl rfl)
theorem dX0_forceOf_97 : decode cX0_forceOf 97 = .ok (.iaload, 1) := dk_46 (dk_at dksX0_forceOf_4 2 rfl rfl)
theorem dX0_forceOf_98 : decode cX0_forceOf 98 = .ok (.iload_n 2, 1) := dk_28 (dk_at dksX0_forceOf_4 3 rfl rfl)
theorem dX0_forceOf_99 : decode cX0_forceOf 99 = .ok (.if_icmp .ne 7, 3) := dk_160 0 7 (dk_at dksX0_forceOf_4 4 rfl rfl)
theorem dX0_forceOf_102 : decode cX0_forceOf 102 = .ok (.iconst 1, 1) := dk_4 (dk_at dksX0_forceOf_4 7 rfl rfl)
theorem dX0_forceOf_103 : decode cX0_forceOf 103 = .ok (.goto 4, 3) := dk_167 0 4 (dk_at dksX0_forceOf_4 8 rfl rfl)
theorem dX0_forceOf_106 : decode cX0_forceOf 106 = .ok (.iconst 0, 1) := dk_3 (dk_at dksX0_forceOf_4 11 rfl rfl)
theorem dX0_forceOf_107 : decode cX0_forceOf 107 = .ok (.istore 9, 2) := dk_54 9 (dk_at dksX0_forceOf_4 12 rfl rfl)
theorem dX0_forceOf_109 : decode cX0_forceOf 109 = .ok (.iload 9, 2) := dk_21 9 (dk_at dksX0_forceOf_4 14 rfl rfl)
theorem dX0_forceOf_111 : decode cX0_forceOf 111 = .ok (.ifCond .eq 56, 3) := dk_153 0 56 (dk_at dksX0_forceOf_4 16 rfl rfl)
theorem dX0_forceOf_114 : decode cX0_forceOf 114 = .ok (.aload_n 0, 1) := dk_42 (dk_at dksX0_forceOf_4 19 rfl rfl)
theorem dX0_forceOf_115 : decode cX0_forceOf 115 = .ok (.getfield 105, 3) := dk_180 0 105 (dk_at dksX0_forceOf_4 20 rfl rfl)
theorem dX0_forceOf_118 : decode cX0_forceOf 118 = .ok (.iload 7, 2) := dk_21 7 (dk_at dksX0_forceOf_5 0 rfl rfl)
theorem dX0_forceOf_120 : decode cX0_forceOf 120 = .ok (.iaload, 1) := dk_46 (dk_at dksX0_forceOf_5 2 rfl rfl)
theorem dX0_forceOf_121 : decode cX0_forceOf 121 = .ok (.iload 4, 2) := dk_21 4 (dk_at dksX0_forceOf_5 3 rfl rfl)
theorem dX0_forceOf_123 : decode cX0_forceOf 123 = .ok (.if_icmp .gt 44, 3) := dk_163 0 44 (dk_at dksX0_forceOf_5 5 rfl rfl)
theorem dX0_forceOf_126 : decode cX0_forceOf 126 = .ok (.aload_n 0, 1) := dk_42 (dk_at dksX0_forceOf_5 8 rfl rfl)
theorem dX0_forceOf_127 : decode cX0_forceOf 127 = .ok (.getfield 108, 3) := dk_180 0 108 (dk_at dksX0_forceOf_5 9 rfl rfl)
theorem dX0_forceOf_130 : decode cX0_forceOf 130 = .ok (.iload 7, 2) := dk_21 7 (dk_at dksX0_forceOf_5 12 rfl rfl)
theorem dX0_forceOf_132 : decode cX0_forceOf 132 = .ok (.iaload, 1) := dk_46 (dk_at dksX0_forceOf_5 14 rfl rfl)
theorem dX0_forceOf_133 : decode cX0_forceOf 133 = .ok (.iload_n 3, 1) := dk_29 (dk_at dksX0_forceOf_5 15 rfl rfl)
theorem dX0_forceOf_134 : decode cX0_forceOf 134 = .ok (.if_icmp .gt 33, 3) := dk_163 0 33 (dk_at dksX0_forceOf_5 16 rfl rfl)
theorem dX0_forceOf_137 : decode cX0_forceOf 137 = .ok (.aload_n 0, 1) := dk_42 (dk_at dksX0_forceOf_5 19 rfl rfl)
theorem dX0_forceOf_138 : decode cX0_forceOf 138 = .ok (.getfield 108, 3) := dk_180 0 108 (dk_at dksX0_forceOf_5 20 rfl rfl)
theorem dX0_forceOf_141 : decode cX0_forceOf 141 = .ok (.iload 7, 2) := dk_21 7 (dk_at dksX0_forceOf_6 0 rfl rfl)
theorem dX0_forceOf_143 : decode cX0_forceOf 143 = .ok (.iaload, 1) := dk_46 (dk_at dksX0_forceOf_6 2 rfl rfl)
theorem dX0_forceOf_144 : decode cX0_forceOf 144 = .ok (.iload 6, 2) := dk_21 6 (dk_at dksX0_forceOf_6 3 rfl rfl)
theorem dX0_forceOf_146 : decode cX0_forceOf 146 = .ok (.if_icmp .lt 21, 3) := dk_161 0 21 (dk_at dksX0_forceOf_6 5 rfl rfl)
theorem dX0_forceOf_149 : decode cX0_forceOf 149 = .ok (.aload_n 0, 1) := dk_42 (dk_at dksX0_forceOf_6 8 rfl rfl)
theorem dX0_forceOf_150 : decode cX0_forceOf 150 = .ok (.getfield 120, 3) := dk_180 0 120 (dk_at dksX0_forceOf_6 9 rfl rfl)
theorem dX0_forceOf_153 : decode cX0_forceOf 153 = .ok (.iload 8, 2) := dk_21 8 (dk_at dksX0_forceOf_6 12 rfl rfl)
theorem dX0_forceOf_155 : decode cX0_forceOf 155 = .ok (.iaload, 1) := dk_46 (dk_at dksX0_forceOf_6 14 rfl rfl)
theorem dX0_forceOf_156 : decode cX0_forceOf 156 = .ok (.istore 5, 2) := dk_54 5 (dk_at dksX0_forceOf_6 15 rfl rfl)
theorem dX0_forceOf_158 : decode cX0_forceOf 158 = .ok (.aload_n 0, 1) := dk_42 (dk_at dksX0_forceOf_6 17 rfl rfl)
theorem dX0_forceOf_159 : decode cX0_forceOf 159 = .ok (.getfield 108, 3) := dk_180 0 108 (dk_at dksX0_forceOf_6 18 rfl rfl)
theorem dX0_forceOf_162 : decode cX0_forceOf 162 = .ok (.iload 7, 2) := dk_21 7 (dk_at dksX0_forceOf_6 21 rfl rfl)
theorem dX0_forceOf_164 : decode cX0_forceOf 164 = .ok (.iaload, 1) := dk_46 (dk_at dksX0_forceOf_6 23 rfl rfl)
theorem dX0_forceOf_165 : decode cX0_forceOf 165 = .ok (.istore 6, 2) := dk_54 6 (dk_at dksX0_forceOf_7 0 rfl rfl)
theorem dX0_forceOf_167 : decode cX0_forceOf 167 = .ok (.iinc 8 1, 3) := dk_132 8 1 (dk_at dksX0_forceOf_7 2 rfl rfl)
theorem dX0_forceOf_170 : decode cX0_forceOf 170 = .ok (.goto (-113), 3) := dk_167 255 143 (dk_at dksX0_forceOf_7 5 rfl rfl)
theorem dX0_forceOf_173 : decode cX0_forceOf 173 = .ok (.iinc 7 1, 3) := dk_132 7 1 (dk_at dksX0_forceOf_7 8 rfl rfl)
theorem dX0_forceOf_176 : decode cX0_forceOf 176 = .ok (.goto (-135), 3) := dk_167 255 121 (dk_at dksX0_forceOf_7 11 rfl rfl)
theorem dX0_forceOf_179 : decode cX0_forceOf 179 = .ok (.iload 5, 2) := dk_21 5 (dk_at dksX0_forceOf_7 14 rfl rfl)
theorem dX0_forceOf_181 : decode cX0_forceOf 181 = .ok (.ireturn, 1) := dk_172 (dk_at dksX0_forceOf_7 16 rfl rfl)
abbrev cX0_tractor : ByteArray := prog_1_method_48_code
def yX0_tractor : MethodName := ⟨RX0, "tractor", "(II)I"⟩
def dkwX0_tractor_1 : List UInt8 := [182, 0, 185, 167, 0, 4, 2, 172]
abbrev dktX0_tractor_1 : List UInt8 := dkwX0_tractor_1 ++ []
def dkwX0_tractor_0 : List UInt8 := [27, 184, 1, 58, 153, 0, 26, 28, 3, 7, 184, 0, 171, 153, 0, 17, 42, 42, 27, 28, 182, 1, 68, 4]
abbrev dktX0_tractor_0 : List UInt8 := dkwX0_tractor_0 ++ dktX0_tractor_1
theorem dksX0_tractor_0 : cX0_tractor.data.toList.drop 0 = dktX0_tractor_0 := by decide +kernel
theorem dksX0_tractor_1 : cX0_tractor.data.toList.drop 24 = dktX0_tractor_1 := dk_seg dksX0_tractor_0 24 rfl rfl
theorem dX0_tractor_0 : decode cX0_tractor 0 = .ok (.iload_n 1, 1) := dk_27 (dk_at dksX0_tractor_0 0 rfl rfl)
theorem dX0_tractor_1 : decode cX0_tractor 1 = .ok (.invokestatic 314, 3) := dk_184 1 58 (dk_at dksX0_tractor_0 1 rfl rfl)
theorem dX0_tractor_4 : decode cX0_tractor 4 = .ok (.ifCond .eq 26, 3) := dk_153 0 26 (dk_at dksX0_tractor_0 4 rfl rfl)
theorem dX0_tractor_7 : decode cX0_tractor 7 = .ok (.iload_n 2, 1) := dk_28 (dk_at dksX0_tractor_0 7 rfl rfl)
theorem dX0_tractor_8 : decode cX0_tractor 8 = .ok (.iconst 0, 1) := dk_3 (dk_at dksX0_tractor_0 8 rfl rfl)
theorem dX0_tractor_9 : decode cX0_tractor 9 = .ok (.iconst 4, 1) := dk_7 (dk_at dksX0_tractor_0 9 rfl rfl)
theorem dX0_tractor_10 : decode cX0_tractor 10 = .ok (.invokestatic 171, 3) := dk_184 0 171 (dk_at dksX0_tractor_0 10 rfl rfl)
theorem dX0_tractor_13 : decode cX0_tractor 13 = .ok (.ifCond .eq 17, 3) := dk_153 0 17 (dk_at dksX0_tractor_0 13 rfl rfl)
theorem dX0_tractor_16 : decode cX0_tractor 16 = .ok (.aload_n 0, 1) := dk_42 (dk_at dksX0_tractor_0 16 rfl rfl)
theorem dX0_tractor_17 : decode cX0_tractor 17 = .ok (.aload_n 0, 1) := dk_42 (dk_at dksX0_tractor_0 17 rfl rfl)
theorem dX0_tractor_18 : decode cX0_tractor 18 = .ok (.iload_n 1, 1) := dk_27 (dk_at dksX0_tractor_0 18 rfl rfl)
theorem dX0_tractor_19 : decode cX0_tractor 19 = .ok (.iload_n 2, 1) := dk_28 (dk_at dksX0_tractor_0 19 rfl rfl)
theorem dX0_tractor_20 : decode cX0_tractor 20 = .ok (.invokevirtual 324, 3) := dk_182 1 68 (dk_at dksX0_tractor_0 20 rfl rfl)
theorem dX0_tractor_23 : decode cX0_tractor 23 = .ok (.iconst 1, 1) := dk_4 (dk_at dksX0_tractor_0 23 rfl rfl)
theorem dX0_tractor_24 : decode cX0_tractor 24 = .ok (.invokevirtual 185, 3) := dk_182 0 185 (dk_at dksX0_tractor_1 0 rfl rfl)
theorem dX0_tractor_27 : decode cX0_tractor 27 = .ok (.goto 4, 3) := dk_167 0 4 (dk_at dksX0_tractor_1 3 rfl rfl)
theorem dX0_tractor_30 : decode cX0_tractor 30 = .ok (.iconst (-1), 1) := dk_2 (dk_at dksX0_tractor_1 6 rfl rfl)
theorem dX0_tractor_31 : decode cX0_tractor 31 = .ok (.ireturn, 1) := dk_172 (dk_at dksX0_tractor_1 7 rfl rfl)
abbrev cX0_tractorTells : ByteArray := prog_1_method_47_code
def yX0_tractorTells : MethodName := ⟨RX0, "tractorTells", "(II)I"⟩
def dkwX0_tractorTells_3 : List UInt8 := [180, 0, 99, 27, 46, 172, 42, 180, 0, 102, 27, 46, 172]
abbrev dktX0_tractorTells_3 : List UInt8 := dkwX0_tractorTells_3 ++ []
def dkwX0_tractorTells_2 : List UInt8 := [42, 180, 0, 90, 27, 46, 172, 42, 180, 0, 93, 27, 46, 172, 42, 180, 0, 96, 27, 46, 172, 42]
abbrev dktX0_tractorTells_2 : List UInt8 := dkwX0_tractorTells_2 ++ dktX0_tractorTells_3
def dkwX0_tractorTells_1 : List UInt8 := [170, 0, 0, 0, 0, 0, 59, 0, 0, 0, 0, 0, 0, 0, 3, 0, 0, 0, 31, 0, 0, 0, 38, 0, 0, 0, 45, 0, 0, 0, 52]
abbrev dktX0_tractorTells_1 : List UInt8 := dkwX0_tractorTells_1 ++ dktX0_tractorTells_2
def dkwX0_tractorTells_0 : List UInt8 := [28]
abbrev dktX0_tractorTells_0 : List UInt8 := dkwX0_tractorTells_0 ++ dktX0_tractorTells_1
theorem dksX0_tractorTells_0 : cX0_tractorTells.data.toList.drop 0 = dktX0_tractorTells_0 := by decide +kernel
theorem dksX0_tractorTells_1 : cX0_tractorTells.data.toList.drop 1 = dktX0_tractorTells_1 := dk_seg dksX0_tractorTells_0 1 rfl rfl
theorem dksX0_tractorTells_2 : cX0_tractorTells.data.toList.drop 32 = dktX0_tractorTells_2 := dk_seg dksX0_tractorTells_1 31 rfl rfl
theorem dksX0_tractorTells_3 : cX0_tractorTells.data.toList.drop 54 = dktX0_tractorTells_3 := dk_seg dksX0_tractorTells_2 22 rfl rfl
theorem dX0_tractorTells_0 : decode cX0_tractorTells 0 = .ok (.iload_n 2, 1) := dk_28 (dk_at dksX0_tractorTells_0 0 rfl rfl)
theorem dX0_tractorTells_1 : decode cX0_tractorTells 1 = .ok (.tableswitch 59 0 3 #[31, 38, 45, 52], 31) := by decide +kernel
theorem dX0_tractorTells_32 : decode cX0_tractorTells 32 = .ok (.aload_n 0, 1) := dk_42 (dk_at dksX0_tractorTells_2 0 rfl rfl)
theorem dX0_tractorTells_33 : decode cX0_tractorTells 33 = .ok (.getfield 90, 3) := dk_180 0 90 (dk_at dksX0_tractorTells_2 1 rfl rfl)
theorem dX0_tractorTells_36 : decode cX0_tractorTells 36 = .ok (.iload_n 1, 1) := dk_27 (dk_at dksX0_tractorTells_2 4 rfl rfl)
theorem dX0_tractorTells_37 : decode cX0_tractorTells 37 = .ok (.iaload, 1) := dk_46 (dk_at dksX0_tractorTells_2 5 rfl rfl)
theorem dX0_tractorTells_38 : decode cX0_tractorTells 38 = .ok (.ireturn, 1) := dk_172 (dk_at dksX0_tractorTells_2 6 rfl rfl)
theorem dX0_tractorTells_39 : decode cX0_tractorTells 39 = .ok (.aload_n 0, 1) := dk_42 (dk_at dksX0_tractorTells_2 7 rfl rfl)
theorem dX0_tractorTells_40 : decode cX0_tractorTells 40 = .ok (.getfield 93, 3) := dk_180 0 93 (dk_at dksX0_tractorTells_2 8 rfl rfl)
theorem dX0_tractorTells_43 : decode cX0_tractorTells 43 = .ok (.iload_n 1, 1) := dk_27 (dk_at dksX0_tractorTells_2 11 rfl rfl)
theorem dX0_tractorTells_44 : decode cX0_tractorTells 44 = .ok (.iaload, 1) := dk_46 (dk_at dksX0_tractorTells_2 12 rfl rfl)
theorem dX0_tractorTells_45 : decode cX0_tractorTells 45 = .ok (.ireturn, 1) := dk_172 (dk_at dksX0_tractorTells_2 13 rfl rfl)
theorem dX0_tractorTells_46 : decode cX0_tractorTells 46 = .ok (.aload_n 0, 1) := dk_42 (dk_at dksX0_tractorTells_2 14 rfl rfl)
theorem dX0_tractorTells_47 : decode cX0_tractorTells 47 = .ok (.getfield 96, 3) := dk_180 0 96 (dk_at dksX0_tractorTells_2 15 rfl rfl)
theorem dX0_tractorTells_50 : decode cX0_tractorTells 50 = .ok (.iload_n 1, 1) := dk_27 (dk_at dksX0_tractorTells_2 18 rfl rfl)
theorem dX0_tractorTells_51 : decode cX0_tractorTells 51 = .ok (.iaload, 1) := dk_46 (dk_at dksX0_tractorTells_2 19 rfl rfl)
theorem dX0_tractorTells_52 : decode cX0_tractorTells 52 = .ok (.ireturn, 1) := dk_172 (dk_at dksX0_tractorTells_2 20 rfl rfl)
theorem dX0_tractorTells_53 : decode cX0_tractorTells 53 = .ok (.aload_n 0, 1) := dk_42 (dk_at dksX0_tractorTells_2 21 rfl rfl)
theorem dX0_tractorTells_54 : decode cX0_tractorTells 54 = .ok (.getfield 99, 3) := dk_180 0 99 (dk_at dksX0_tractorTells_3 0 rfl rfl)
theorem dX0_tractorTells_57 : decode cX0_tractorTells 57 = .ok (.iload_n 1, 1) := dk_27 (dk_at dksX0_tractorTells_3 3 rfl rfl)
theorem dX0_tractorTells_58 : decode cX0_tractorTells 58 = .ok (.iaload, 1) := dk_46 (dk_at dksX0_tractorTells_3 4 rfl rfl)
theorem dX0_tractorTells_59 : decode cX0_tractorTells 59 = .ok (.ireturn, 1) := dk_172 (dk_at dksX0_tractorTells_3 5 rfl rfl)
theorem dX0_tractorTells_60 : decode cX0_tractorTells 60 = .ok (.aload_n 0, 1) := dk_42 (dk_at dksX0_tractorTells_3 6 rfl rfl)
theorem dX0_tractorTells_61 : decode cX0_tractorTells 61 = .ok (.getfield 102, 3) := dk_180 0 102 (dk_at dksX0_tractorTells_3 7 rfl rfl)
theorem dX0_tractorTells_64 : decode cX0_tractorTells 64 = .ok (.iload_n 1, 1) := dk_27 (dk_at dksX0_tractorTells_3 10 rfl rfl)
theorem dX0_tractorTells_65 : decode cX0_tractorTells 65 = .ok (.iaload, 1) := dk_46 (dk_at dksX0_tractorTells_3 11 rfl rfl)
theorem dX0_tractorTells_66 : decode cX0_tractorTells 66 = .ok (.ireturn, 1) := dk_172 (dk_at dksX0_tractorTells_3 12 rfl rfl)
abbrev cX0_lose : ByteArray := prog_1_method_49_code
def yX0_lose : MethodName := ⟨RX0, "lose", "(I)I"⟩
def dkwX0_lose_3 : List UInt8 := [4, 181, 1, 22, 42, 27, 5, 16, 247, 16, 247, 182, 1, 8, 4, 172]
abbrev dktX0_lose_3 : List UInt8 := dkwX0_lose_3 ++ []
def dkwX0_lose_2 : List UInt8 := [42, 180, 0, 96, 44, 180, 1, 19, 16, 247, 79, 44, 16, 247, 181, 1, 19, 44, 16, 247, 181, 1, 16, 44]
abbrev dktX0_lose_2 : List UInt8 := dkwX0_lose_2 ++ dktX0_lose_3
def dkwX0_lose_1 : List UInt8 := [16, 252, 172, 42, 180, 0, 248, 16, 60, 160, 0, 6, 16, 254, 172, 44, 180, 1, 19, 16, 247, 159, 0, 14]
abbrev dktX0_lose_1 : List UInt8 := dkwX0_lose_1 ++ dktX0_lose_2
def dkwX0_lose_0 : List UInt8 := [42, 27, 182, 1, 38, 154, 0, 5, 2, 172, 42, 180, 0, 65, 27, 50, 77, 44, 180, 1, 22, 153, 0, 6]
abbrev dktX0_lose_0 : List UInt8 := dkwX0_lose_0 ++ dktX0_lose_1
theorem dksX0_lose_0 : cX0_lose.data.toList.drop 0 = dktX0_lose_0 := by decide +kernel
theorem dksX0_lose_1 : cX0_lose.data.toList.drop 24 = dktX0_lose_1 := dk_seg dksX0_lose_0 24 rfl rfl
theorem dksX0_lose_2 : cX0_lose.data.toList.drop 48 = dktX0_lose_2 := dk_seg dksX0_lose_1 24 rfl rfl
theorem dksX0_lose_3 : cX0_lose.data.toList.drop 72 = dktX0_lose_3 := dk_seg dksX0_lose_2 24 rfl rfl
theorem dX0_lose_0 : decode cX0_lose 0 = .ok (.aload_n 0, 1) := dk_42 (dk_at dksX0_lose_0 0 rfl rfl)
theorem dX0_lose_1 : decode cX0_lose 1 = .ok (.iload_n 1, 1) := dk_27 (dk_at dksX0_lose_0 1 rfl rfl)
theorem dX0_lose_2 : decode cX0_lose 2 = .ok (.invokevirtual 294, 3) := dk_182 1 38 (dk_at dksX0_lose_0 2 rfl rfl)
theorem dX0_lose_5 : decode cX0_lose 5 = .ok (.ifCond .ne 5, 3) := dk_154 0 5 (dk_at dksX0_lose_0 5 rfl rfl)
theorem dX0_lose_8 : decode cX0_lose 8 = .ok (.iconst (-1), 1) := dk_2 (dk_at dksX0_lose_0 8 rfl rfl)
theorem dX0_lose_9 : decode cX0_lose 9 = .ok (.ireturn, 1) := dk_172 (dk_at dksX0_lose_0 9 rfl rfl)
theorem dX0_lose_10 : decode cX0_lose 10 = .ok (.aload_n 0, 1) := dk_42 (dk_at dksX0_lose_0 10 rfl rfl)
theorem dX0_lose_11 : decode cX0_lose 11 = .ok (.getfield 65, 3) := dk_180 0 65 (dk_at dksX0_lose_0 11 rfl rfl)
theorem dX0_lose_14 : decode cX0_lose 14 = .ok (.iload_n 1, 1) := dk_27 (dk_at dksX0_lose_0 14 rfl rfl)
theorem dX0_lose_15 : decode cX0_lose 15 = .ok (.aaload, 1) := dk_50 (dk_at dksX0_lose_0 15 rfl rfl)
theorem dX0_lose_16 : decode cX0_lose 16 = .ok (.astore_n 2, 1) := dk_77 (dk_at dksX0_lose_0 16 rfl rfl)
theorem dX0_lose_17 : decode cX0_lose 17 = .ok (.aload_n 2, 1) := dk_44 (dk_at dksX0_lose_0 17 rfl rfl)
theorem dX0_lose_18 : decode cX0_lose 18 = .ok (.getfield 278, 3) := dk_180 1 22 (dk_at dksX0_lose_0 18 rfl rfl)
theorem dX0_lose_21 : decode cX0_lose 21 = .ok (.ifCond .eq 6, 3) := dk_153 0 6 (dk_at dksX0_lose_0 21 rfl rfl)
theorem dX0_lose_24 : decode cX0_lose 24 = .ok (.bipush (-4), 2) := dk_16 252 (dk_at dksX0_lose_1 0 rfl rfl)
theorem dX0_lose_26 : decode cX0_lose 26 = .ok (.ireturn, 1) := dk_172 (dk_at dksX0_lose_1 2 rfl rfl)
theorem dX0_lose_27 : decode cX0_lose 27 = .ok (.aload_n 0, 1) := dk_42 (dk_at dksX0_lose_1 3 rfl rfl)
theorem dX0_lose_28 : decode cX0_lose 28 = .ok (.getfield 248, 3) := dk_180 0 248 (dk_at dksX0_lose_1 4 rfl rfl)
theorem dX0_lose_31 : decode cX0_lose 31 = .ok (.bipush 60, 2) := dk_16 60 (dk_at dksX0_lose_1 7 rfl rfl)
theorem dX0_lose_33 : decode cX0_lose 33 = .ok (.if_icmp .ne 6, 3) := dk_160 0 6 (dk_at dksX0_lose_1 9 rfl rfl)
theorem dX0_lose_36 : decode cX0_lose 36 = .ok (.bipush (-2), 2) := dk_16 254 (dk_at dksX0_lose_1 12 rfl rfl)
theorem dX0_lose_38 : decode cX0_lose 38 = .ok (.ireturn, 1) := dk_172 (dk_at dksX0_lose_1 14 rfl rfl)
theorem dX0_lose_39 : decode cX0_lose 39 = .ok (.aload_n 2, 1) := dk_44 (dk_at dksX0_lose_1 15 rfl rfl)
theorem dX0_lose_40 : decode cX0_lose 40 = .ok (.getfield 275, 3) := dk_180 1 19 (dk_at dksX0_lose_1 16 rfl rfl)
theorem dX0_lose_43 : decode cX0_lose 43 = .ok (.bipush (-9), 2) := dk_16 247 (dk_at dksX0_lose_1 19 rfl rfl)
theorem dX0_lose_45 : decode cX0_lose 45 = .ok (.if_icmp .eq 14, 3) := dk_159 0 14 (dk_at dksX0_lose_1 21 rfl rfl)
theorem dX0_lose_48 : decode cX0_lose 48 = .ok (.aload_n 0, 1) := dk_42 (dk_at dksX0_lose_2 0 rfl rfl)
theorem dX0_lose_49 : decode cX0_lose 49 = .ok (.getfield 96, 3) := dk_180 0 96 (dk_at dksX0_lose_2 1 rfl rfl)
theorem dX0_lose_52 : decode cX0_lose 52 = .ok (.aload_n 2, 1) := dk_44 (dk_at dksX0_lose_2 4 rfl rfl)
theorem dX0_lose_53 : decode cX0_lose 53 = .ok (.getfield 275, 3) := dk_180 1 19 (dk_at dksX0_lose_2 5 rfl rfl)
theorem dX0_lose_56 : decode cX0_lose 56 = .ok (.bipush (-9), 2) := dk_16 247 (dk_at dksX0_lose_2 8 rfl rfl)
theorem dX0_lose_58 : decode cX0_lose 58 = .ok (.iastore, 1) := dk_79 (dk_at dksX0_lose_2 10 rfl rfl)
theorem dX0_lose_59 : decode cX0_lose 59 = .ok (.aload_n 2, 1) := dk_44 (dk_at dksX0_lose_2 11 rfl rfl)
theorem dX0_lose_60 : decode cX0_lose 60 = .ok (.bipush (-9), 2) := dk_16 247 (dk_at dksX0_lose_2 12 rfl rfl)
theorem dX0_lose_62 : decode cX0_lose 62 = .ok (.putfield 275, 3) := dk_181 1 19 (dk_at dksX0_lose_2 14 rfl rfl)
theorem dX0_lose_65 : decode cX0_lose 65 = .ok (.aload_n 2, 1) := dk_44 (dk_at dksX0_lose_2 17 rfl rfl)
theorem dX0_lose_66 : decode cX0_lose 66 = .ok (.bipush (-9), 2) := dk_16 247 (dk_at dksX0_lose_2 18 rfl rfl)
theorem dX0_lose_68 : decode cX0_lose 68 = .ok (.putfield 272, 3) := dk_181 1 16 (dk_at dksX0_lose_2 20 rfl rfl)
theorem dX0_lose_71 : decode cX0_lose 71 = .ok (.aload_n 2, 1) := dk_44 (dk_at dksX0_lose_2 23 rfl rfl)
theorem dX0_lose_72 : decode cX0_lose 72 = .ok (.iconst 1, 1) := dk_4 (dk_at dksX0_lose_3 0 rfl rfl)
theorem dX0_lose_73 : decode cX0_lose 73 = .ok (.putfield 278, 3) := dk_181 1 22 (dk_at dksX0_lose_3 1 rfl rfl)
theorem dX0_lose_76 : decode cX0_lose 76 = .ok (.aload_n 0, 1) := dk_42 (dk_at dksX0_lose_3 4 rfl rfl)
theorem dX0_lose_77 : decode cX0_lose 77 = .ok (.iload_n 1, 1) := dk_27 (dk_at dksX0_lose_3 5 rfl rfl)
theorem dX0_lose_78 : decode cX0_lose 78 = .ok (.iconst 2, 1) := dk_5 (dk_at dksX0_lose_3 6 rfl rfl)
theorem dX0_lose_79 : decode cX0_lose 79 = .ok (.bipush (-9), 2) := dk_16 247 (dk_at dksX0_lose_3 7 rfl rfl)
theorem dX0_lose_81 : decode cX0_lose 81 = .ok (.bipush (-9), 2) := dk_16 247 (dk_at dksX0_lose_3 9 rfl rfl)
theorem dX0_lose_83 : decode cX0_lose 83 = .ok (.invokevirtual 264, 3) := dk_182 1 8 (dk_at dksX0_lose_3 11 rfl rfl)
theorem dX0_lose_86 : decode cX0_lose 86 = .ok (.iconst 1, 1) := dk_4 (dk_at dksX0_lose_3 14 rfl rfl)
theorem dX0_lose_87 : decode cX0_lose 87 = .ok (.ireturn, 1) := dk_172 (dk_at dksX0_lose_3 15 rfl rfl)
abbrev cX0_find : ByteArray := prog_1_method_50_code
def yX0_find : MethodName := ⟨RX0, "find", "(II)I"⟩
def dkwX0_find_2 : List UInt8 := [181, 1, 22, 45, 28, 181, 1, 16, 42, 27, 3, 28, 28, 182, 1, 8, 4, 172]
abbrev dktX0_find_2 : List UInt8 := dkwX0_find_2 ++ []
def dkwX0_find_1 : List UInt8 := [45, 180, 1, 22, 154, 0, 6, 16, 252, 172, 42, 180, 0, 248, 16, 60, 160, 0, 6, 16, 254, 172, 45, 3]
abbrev dktX0_find_1 : List UInt8 := dkwX0_find_1 ++ dktX0_find_2
def dkwX0_find_0 : List UInt8 := [42, 27, 182, 1, 38, 153, 0, 10, 28, 184, 0, 222, 154, 0, 5, 2, 172, 42, 180, 0, 65, 27, 50, 78]
abbrev dktX0_find_0 : List UInt8 := dkwX0_find_0 ++ dktX0_find_1
theorem dksX0_find_0 : cX0_find.data.toList.drop 0 = dktX0_find_0 := by decide +kernel
theorem dksX0_find_1 : cX0_find.data.toList.drop 24 = dktX0_find_1 := dk_seg dksX0_find_0 24 rfl rfl
theorem dksX0_find_2 : cX0_find.data.toList.drop 48 = dktX0_find_2 := dk_seg dksX0_find_1 24 rfl rfl
theorem dX0_find_0 : decode cX0_find 0 = .ok (.aload_n 0, 1) := dk_42 (dk_at dksX0_find_0 0 rfl rfl)
theorem dX0_find_1 : decode cX0_find 1 = .ok (.iload_n 1, 1) := dk_27 (dk_at dksX0_find_0 1 rfl rfl)
theorem dX0_find_2 : decode cX0_find 2 = .ok (.invokevirtual 294, 3) := dk_182 1 38 (dk_at dksX0_find_0 2 rfl rfl)
theorem dX0_find_5 : decode cX0_find 5 = .ok (.ifCond .eq 10, 3) := dk_153 0 10 (dk_at dksX0_find_0 5 rfl rfl)
theorem dX0_find_8 : decode cX0_find 8 = .ok (.iload_n 2, 1) := dk_28 (dk_at dksX0_find_0 8 rfl rfl)
theorem dX0_find_9 : decode cX0_find 9 = .ok (.invokestatic 222, 3) := dk_184 0 222 (dk_at dksX0_find_0 9 rfl rfl)
theorem dX0_find_12 : decode cX0_find 12 = .ok (.ifCond .ne 5, 3) := dk_154 0 5 (dk_at dksX0_find_0 12 rfl rfl)
theorem dX0_find_15 : decode cX0_find 15 = .ok (.iconst (-1), 1) := dk_2 (dk_at dksX0_find_0 15 rfl rfl)
theorem dX0_find_16 : decode cX0_find 16 = .ok (.ireturn, 1) := dk_172 (dk_at dksX0_find_0 16 rfl rfl)
theorem dX0_find_17 : decode cX0_find 17 = .ok (.aload_n 0, 1) := dk_42 (dk_at dksX0_find_0 17 rfl rfl)
theorem dX0_find_18 : decode cX0_find 18 = .ok (.getfield 65, 3) := dk_180 0 65 (dk_at dksX0_find_0 18 rfl rfl)
theorem dX0_find_21 : decode cX0_find 21 = .ok (.iload_n 1, 1) := dk_27 (dk_at dksX0_find_0 21 rfl rfl)
theorem dX0_find_22 : decode cX0_find 22 = .ok (.aaload, 1) := dk_50 (dk_at dksX0_find_0 22 rfl rfl)
theorem dX0_find_23 : decode cX0_find 23 = .ok (.astore_n 3, 1) := dk_78 (dk_at dksX0_find_0 23 rfl rfl)
theorem dX0_find_24 : decode cX0_find 24 = .ok (.aload_n 3, 1) := dk_45 (dk_at dksX0_find_1 0 rfl rfl)
theorem dX0_find_25 : decode cX0_find 25 = .ok (.getfield 278, 3) := dk_180 1 22 (dk_at dksX0_find_1 1 rfl rfl)
theorem dX0_find_28 : decode cX0_find 28 = .ok (.ifCond .ne 6, 3) := dk_154 0 6 (dk_at dksX0_find_1 4 rfl rfl)
theorem dX0_find_31 : decode cX0_find 31 = .ok (.bipush (-4), 2) := dk_16 252 (dk_at dksX0_find_1 7 rfl rfl)
theorem dX0_find_33 : decode cX0_find 33 = .ok (.ireturn, 1) := dk_172 (dk_at dksX0_find_1 9 rfl rfl)
theorem dX0_find_34 : decode cX0_find 34 = .ok (.aload_n 0, 1) := dk_42 (dk_at dksX0_find_1 10 rfl rfl)
theorem dX0_find_35 : decode cX0_find 35 = .ok (.getfield 248, 3) := dk_180 0 248 (dk_at dksX0_find_1 11 rfl rfl)
theorem dX0_find_38 : decode cX0_find 38 = .ok (.bipush 60, 2) := dk_16 60 (dk_at dksX0_find_1 14 rfl rfl)
theorem dX0_find_40 : decode cX0_find 40 = .ok (.if_icmp .ne 6, 3) := dk_160 0 6 (dk_at dksX0_find_1 16 rfl rfl)
theorem dX0_find_43 : decode cX0_find 43 = .ok (.bipush (-2), 2) := dk_16 254 (dk_at dksX0_find_1 19 rfl rfl)
theorem dX0_find_45 : decode cX0_find 45 = .ok (.ireturn, 1) := dk_172 (dk_at dksX0_find_1 21 rfl rfl)
theorem dX0_find_46 : decode cX0_find 46 = .ok (.aload_n 3, 1) := dk_45 (dk_at dksX0_find_1 22 rfl rfl)
theorem dX0_find_47 : decode cX0_find 47 = .ok (.iconst 0, 1) := dk_3 (dk_at dksX0_find_1 23 rfl rfl)
theorem dX0_find_48 : decode cX0_find 48 = .ok (.putfield 278, 3) := dk_181 1 22 (dk_at dksX0_find_2 0 rfl rfl)
theorem dX0_find_51 : decode cX0_find 51 = .ok (.aload_n 3, 1) := dk_45 (dk_at dksX0_find_2 3 rfl rfl)
theorem dX0_find_52 : decode cX0_find 52 = .ok (.iload_n 2, 1) := dk_28 (dk_at dksX0_find_2 4 rfl rfl)
theorem dX0_find_53 : decode cX0_find 53 = .ok (.putfield 272, 3) := dk_181 1 16 (dk_at dksX0_find_2 5 rfl rfl)
theorem dX0_find_56 : decode cX0_find 56 = .ok (.aload_n 0, 1) := dk_42 (dk_at dksX0_find_2 8 rfl rfl)
theorem dX0_find_57 : decode cX0_find 57 = .ok (.iload_n 1, 1) := dk_27 (dk_at dksX0_find_2 9 rfl rfl)
theorem dX0_find_58 : decode cX0_find 58 = .ok (.iconst 0, 1) := dk_3 (dk_at dksX0_find_2 10 rfl rfl)
theorem dX0_find_59 : decode cX0_find 59 = .ok (.iload_n 2, 1) := dk_28 (dk_at dksX0_find_2 11 rfl rfl)
theorem dX0_find_60 : decode cX0_find 60 = .ok (.iload_n 2, 1) := dk_28 (dk_at dksX0_find_2 12 rfl rfl)
theorem dX0_find_61 : decode cX0_find 61 = .ok (.invokevirtual 264, 3) := dk_182 1 8 (dk_at dksX0_find_2 13 rfl rfl)
theorem dX0_find_64 : decode cX0_find 64 = .ok (.iconst 1, 1) := dk_4 (dk_at dksX0_find_2 16 rfl rfl)
theorem dX0_find_65 : decode cX0_find 65 = .ok (.ireturn, 1) := dk_172 (dk_at dksX0_find_2 17 rfl rfl)
abbrev cX0_seal : ByteArray := prog_1_method_51_code
def yX0_seal : MethodName := ⟨RX0, "seal", "(II)I"⟩
def dkwX0_seal_3 : List UInt8 := [4, 167, 0, 4, 3, 181, 1, 35, 42, 27, 28, 16, 247, 16, 247, 182, 1, 8, 4, 172]
abbrev dktX0_seal_3 : List UInt8 := dkwX0_seal_3 ++ []
def dkwX0_seal_2 : List UInt8 := [160, 0, 6, 16, 252, 172, 42, 180, 0, 248, 16, 60, 160, 0, 6, 16, 254, 172, 45, 28, 8, 159, 0, 7]
abbrev dktX0_seal_2 : List UInt8 := dkwX0_seal_2 ++ dktX0_seal_3
def dkwX0_seal_1 : List UInt8 := [50, 78, 45, 180, 1, 22, 154, 0, 20, 45, 180, 1, 35, 28, 6, 160, 0, 7, 4, 167, 0, 4, 3]
abbrev dktX0_seal_1 : List UInt8 := dkwX0_seal_1 ++ dktX0_seal_2
def dkwX0_seal_0 : List UInt8 := [42, 27, 182, 1, 38, 153, 0, 12, 28, 6, 8, 184, 0, 171, 154, 0, 5, 2, 172, 42, 180, 0, 65, 27]
abbrev dktX0_seal_0 : List UInt8 := dkwX0_seal_0 ++ dktX0_seal_1
theorem dksX0_seal_0 : cX0_seal.data.toList.drop 0 = dktX0_seal_0 := by decide +kernel
theorem dksX0_seal_1 : cX0_seal.data.toList.drop 24 = dktX0_seal_1 := dk_seg dksX0_seal_0 24 rfl rfl
theorem dksX0_seal_2 : cX0_seal.data.toList.drop 47 = dktX0_seal_2 := dk_seg dksX0_seal_1 23 rfl rfl
theorem dksX0_seal_3 : cX0_seal.data.toList.drop 71 = dktX0_seal_3 := dk_seg dksX0_seal_2 24 rfl rfl
theorem dX0_seal_0 : decode cX0_seal 0 = .ok (.aload_n 0, 1) := dk_42 (dk_at dksX0_seal_0 0 rfl rfl)
theorem dX0_seal_1 : decode cX0_seal 1 = .ok (.iload_n 1, 1) := dk_27 (dk_at dksX0_seal_0 1 rfl rfl)
theorem dX0_seal_2 : decode cX0_seal 2 = .ok (.invokevirtual 294, 3) := dk_182 1 38 (dk_at dksX0_seal_0 2 rfl rfl)
theorem dX0_seal_5 : decode cX0_seal 5 = .ok (.ifCond .eq 12, 3) := dk_153 0 12 (dk_at dksX0_seal_0 5 rfl rfl)
theorem dX0_seal_8 : decode cX0_seal 8 = .ok (.iload_n 2, 1) := dk_28 (dk_at dksX0_seal_0 8 rfl rfl)
theorem dX0_seal_9 : decode cX0_seal 9 = .ok (.iconst 3, 1) := dk_6 (dk_at dksX0_seal_0 9 rfl rfl)
theorem dX0_seal_10 : decode cX0_seal 10 = .ok (.iconst 5, 1) := dk_8 (dk_at dksX0_seal_0 10 rfl rfl)
theorem dX0_seal_11 : decode cX0_seal 11 = .ok (.invokestatic 171, 3) := dk_184 0 171 (dk_at dksX0_seal_0 11 rfl rfl)
theorem dX0_seal_14 : decode cX0_seal 14 = .ok (.ifCond .ne 5, 3) := dk_154 0 5 (dk_at dksX0_seal_0 14 rfl rfl)
theorem dX0_seal_17 : decode cX0_seal 17 = .ok (.iconst (-1), 1) := dk_2 (dk_at dksX0_seal_0 17 rfl rfl)
theorem dX0_seal_18 : decode cX0_seal 18 = .ok (.ireturn, 1) := dk_172 (dk_at dksX0_seal_0 18 rfl rfl)
theorem dX0_seal_19 : decode cX0_seal 19 = .ok (.aload_n 0, 1) := dk_42 (dk_at dksX0_seal_0 19 rfl rfl)
theorem dX0_seal_20 : decode cX0_seal 20 = .ok (.getfield 65, 3) := dk_180 0 65 (dk_at dksX0_seal_0 20 rfl rfl)
theorem dX0_seal_23 : decode cX0_seal 23 = .ok (.iload_n 1, 1) := dk_27 (dk_at dksX0_seal_0 23 rfl rfl)
theorem dX0_seal_24 : decode cX0_seal 24 = .ok (.aaload, 1) := dk_50 (dk_at dksX0_seal_1 0 rfl rfl)
theorem dX0_seal_25 : decode cX0_seal 25 = .ok (.astore_n 3, 1) := dk_78 (dk_at dksX0_seal_1 1 rfl rfl)
theorem dX0_seal_26 : decode cX0_seal 26 = .ok (.aload_n 3, 1) := dk_45 (dk_at dksX0_seal_1 2 rfl rfl)
theorem dX0_seal_27 : decode cX0_seal 27 = .ok (.getfield 278, 3) := dk_180 1 22 (dk_at dksX0_seal_1 3 rfl rfl)
theorem dX0_seal_30 : decode cX0_seal 30 = .ok (.ifCond .ne 20, 3) := dk_154 0 20 (dk_at dksX0_seal_1 6 rfl rfl)
theorem dX0_seal_33 : decode cX0_seal 33 = .ok (.aload_n 3, 1) := dk_45 (dk_at dksX0_seal_1 9 rfl rfl)
theorem dX0_seal_34 : decode cX0_seal 34 = .ok (.getfield 291, 3) := dk_180 1 35 (dk_at dksX0_seal_1 10 rfl rfl)
theorem dX0_seal_37 : decode cX0_seal 37 = .ok (.iload_n 2, 1) := dk_28 (dk_at dksX0_seal_1 13 rfl rfl)
theorem dX0_seal_38 : decode cX0_seal 38 = .ok (.iconst 3, 1) := dk_6 (dk_at dksX0_seal_1 14 rfl rfl)
theorem dX0_seal_39 : decode cX0_seal 39 = .ok (.if_icmp .ne 7, 3) := dk_160 0 7 (dk_at dksX0_seal_1 15 rfl rfl)
theorem dX0_seal_42 : decode cX0_seal 42 = .ok (.iconst 1, 1) := dk_4 (dk_at dksX0_seal_1 18 rfl rfl)
theorem dX0_seal_43 : decode cX0_seal 43 = .ok (.goto 4, 3) := dk_167 0 4 (dk_at dksX0_seal_1 19 rfl rfl)
theorem dX0_seal_46 : decode cX0_seal 46 = .ok (.iconst 0, 1) := dk_3 (dk_at dksX0_seal_1 22 rfl rfl)
theorem dX0_seal_47 : decode cX0_seal 47 = .ok (.if_icmp .ne 6, 3) := dk_160 0 6 (dk_at dksX0_seal_2 0 rfl rfl)
theorem dX0_seal_50 : decode cX0_seal 50 = .ok (.bipush (-4), 2) := dk_16 252 (dk_at dksX0_seal_2 3 rfl rfl)
theorem dX0_seal_52 : decode cX0_seal 52 = .ok (.ireturn, 1) := dk_172 (dk_at dksX0_seal_2 5 rfl rfl)
theorem dX0_seal_53 : decode cX0_seal 53 = .ok (.aload_n 0, 1) := dk_42 (dk_at dksX0_seal_2 6 rfl rfl)
theorem dX0_seal_54 : decode cX0_seal 54 = .ok (.getfield 248, 3) := dk_180 0 248 (dk_at dksX0_seal_2 7 rfl rfl)
theorem dX0_seal_57 : decode cX0_seal 57 = .ok (.bipush 60, 2) := dk_16 60 (dk_at dksX0_seal_2 10 rfl rfl)
theorem dX0_seal_59 : decode cX0_seal 59 = .ok (.if_icmp .ne 6, 3) := dk_160 0 6 (dk_at dksX0_seal_2 12 rfl rfl)
theorem dX0_seal_62 : decode cX0_seal 62 = .ok (.bipush (-2), 2) := dk_16 254 (dk_at dksX0_seal_2 15 rfl rfl)
theorem dX0_seal_64 : decode cX0_seal 64 = .ok (.ireturn, 1) := dk_172 (dk_at dksX0_seal_2 17 rfl rfl)
theorem dX0_seal_65 : decode cX0_seal 65 = .ok (.aload_n 3, 1) := dk_45 (dk_at dksX0_seal_2 18 rfl rfl)
theorem dX0_seal_66 : decode cX0_seal 66 = .ok (.iload_n 2, 1) := dk_28 (dk_at dksX0_seal_2 19 rfl rfl)
theorem dX0_seal_67 : decode cX0_seal 67 = .ok (.iconst 5, 1) := dk_8 (dk_at dksX0_seal_2 20 rfl rfl)
theorem dX0_seal_68 : decode cX0_seal 68 = .ok (.if_icmp .eq 7, 3) := dk_159 0 7 (dk_at dksX0_seal_2 21 rfl rfl)
theorem dX0_seal_71 : decode cX0_seal 71 = .ok (.iconst 1, 1) := dk_4 (dk_at dksX0_seal_3 0 rfl rfl)
theorem dX0_seal_72 : decode cX0_seal 72 = .ok (.goto 4, 3) := dk_167 0 4 (dk_at dksX0_seal_3 1 rfl rfl)
theorem dX0_seal_75 : decode cX0_seal 75 = .ok (.iconst 0, 1) := dk_3 (dk_at dksX0_seal_3 4 rfl rfl)
theorem dX0_seal_76 : decode cX0_seal 76 = .ok (.putfield 291, 3) := dk_181 1 35 (dk_at dksX0_seal_3 5 rfl rfl)
theorem dX0_seal_79 : decode cX0_seal 79 = .ok (.aload_n 0, 1) := dk_42 (dk_at dksX0_seal_3 8 rfl rfl)
theorem dX0_seal_80 : decode cX0_seal 80 = .ok (.iload_n 1, 1) := dk_27 (dk_at dksX0_seal_3 9 rfl rfl)
theorem dX0_seal_81 : decode cX0_seal 81 = .ok (.iload_n 2, 1) := dk_28 (dk_at dksX0_seal_3 10 rfl rfl)
theorem dX0_seal_82 : decode cX0_seal 82 = .ok (.bipush (-9), 2) := dk_16 247 (dk_at dksX0_seal_3 11 rfl rfl)
theorem dX0_seal_84 : decode cX0_seal 84 = .ok (.bipush (-9), 2) := dk_16 247 (dk_at dksX0_seal_3 13 rfl rfl)
theorem dX0_seal_86 : decode cX0_seal 86 = .ok (.invokevirtual 264, 3) := dk_182 1 8 (dk_at dksX0_seal_3 15 rfl rfl)
theorem dX0_seal_89 : decode cX0_seal 89 = .ok (.iconst 1, 1) := dk_4 (dk_at dksX0_seal_3 18 rfl rfl)
theorem dX0_seal_90 : decode cX0_seal 90 = .ok (.ireturn, 1) := dk_172 (dk_at dksX0_seal_3 19 rfl rfl)
abbrev cX0_book : ByteArray := prog_1_method_52_code
def yX0_book : MethodName := ⟨RX0, "book", "(III)I"⟩
def dkwX0_book_3 : List UInt8 := [42, 180, 0, 84, 21, 4, 46, 172]
abbrev dktX0_book_3 : List UInt8 := dkwX0_book_3 ++ []
def dkwX0_book_2 : List UInt8 := [180, 0, 78, 21, 4, 46, 167, 0, 25, 29, 4, 160, 0, 13, 42, 180, 0, 81, 21, 4, 46, 167, 0, 10]
abbrev dktX0_book_2 : List UInt8 := dkwX0_book_2 ++ dktX0_book_3
def dkwX0_book_1 : List UInt8 := [182, 1, 71, 54, 4, 21, 4, 16, 247, 160, 0, 8, 16, 247, 167, 0, 39, 29, 154, 0, 13, 42]
abbrev dktX0_book_1 : List UInt8 := dkwX0_book_1 ++ dktX0_book_2
def dkwX0_book_0 : List UInt8 := [42, 27, 182, 1, 38, 153, 0, 12, 29, 3, 5, 184, 0, 171, 154, 0, 5, 2, 172, 42, 27, 28]
abbrev dktX0_book_0 : List UInt8 := dkwX0_book_0 ++ dktX0_book_1
theorem dksX0_book_0 : cX0_book.data.toList.drop 0 = dktX0_book_0 := by decide +kernel
theorem dksX0_book_1 : cX0_book.data.toList.drop 22 = dktX0_book_1 := dk_seg dksX0_book_0 22 rfl rfl
theorem dksX0_book_2 : cX0_book.data.toList.drop 44 = dktX0_book_2 := dk_seg dksX0_book_1 22 rfl rfl
theorem dksX0_book_3 : cX0_book.data.toList.drop 68 = dktX0_book_3 := dk_seg dksX0_book_2 24 rfl rfl
theorem dX0_book_0 : decode cX0_book 0 = .ok (.aload_n 0, 1) := dk_42 (dk_at dksX0_book_0 0 rfl rfl)
theorem dX0_book_1 : decode cX0_book 1 = .ok (.iload_n 1, 1) := dk_27 (dk_at dksX0_book_0 1 rfl rfl)
theorem dX0_book_2 : decode cX0_book 2 = .ok (.invokevirtual 294, 3) := dk_182 1 38 (dk_at dksX0_book_0 2 rfl rfl)
theorem dX0_book_5 : decode cX0_book 5 = .ok (.ifCond .eq 12, 3) := dk_153 0 12 (dk_at dksX0_book_0 5 rfl rfl)
theorem dX0_book_8 : decode cX0_book 8 = .ok (.iload_n 3, 1) := dk_29 (dk_at dksX0_book_0 8 rfl rfl)
theorem dX0_book_9 : decode cX0_book 9 = .ok (.iconst 0, 1) := dk_3 (dk_at dksX0_book_0 9 rfl rfl)
theorem dX0_book_10 : decode cX0_book 10 = .ok (.iconst 2, 1) := dk_5 (dk_at dksX0_book_0 10 rfl rfl)
theorem dX0_book_11 : decode cX0_book 11 = .ok (.invokestatic 171, 3) := dk_184 0 171 (dk_at dksX0_book_0 11 rfl rfl)
theorem dX0_book_14 : decode cX0_book 14 = .ok (.ifCond .ne 5, 3) := dk_154 0 5 (dk_at dksX0_book_0 14 rfl rfl)
theorem dX0_book_17 : decode cX0_book 17 = .ok (.iconst (-1), 1) := dk_2 (dk_at dksX0_book_0 17 rfl rfl)
theorem dX0_book_18 : decode cX0_book 18 = .ok (.ireturn, 1) := dk_172 (dk_at dksX0_book_0 18 rfl rfl)
theorem dX0_book_19 : decode cX0_book 19 = .ok (.aload_n 0, 1) := dk_42 (dk_at dksX0_book_0 19 rfl rfl)
theorem dX0_book_20 : decode cX0_book 20 = .ok (.iload_n 1, 1) := dk_27 (dk_at dksX0_book_0 20 rfl rfl)
theorem dX0_book_21 : decode cX0_book 21 = .ok (.iload_n 2, 1) := dk_28 (dk_at dksX0_book_0 21 rfl rfl)
theorem dX0_book_22 : decode cX0_book 22 = .ok (.invokevirtual 327, 3) := dk_182 1 71 (dk_at dksX0_book_1 0 rfl rfl)
theorem dX0_book_25 : decode cX0_book 25 = .ok (.istore 4, 2) := dk_54 4 (dk_at dksX0_book_1 3 rfl rfl)
theorem dX0_book_27 : decode cX0_book 27 = .ok (.iload 4, 2) := dk_21 4 (dk_at dksX0_book_1 5 rfl rfl)
theorem dX0_book_29 : decode cX0_book 29 = .ok (.bipush (-9), 2) := dk_16 247 (dk_at dksX0_book_1 7 rfl rfl)
theorem dX0_book_31 : decode cX0_book 31 = .ok (.if_icmp .ne 8, 3) := dk_160 0 8 (dk_at dksX0_book_1 9 rfl rfl)
theorem dX0_book_34 : decode cX0_book 34 = .ok (.bipush (-9), 2) := dk_16 247 (dk_at dksX0_book_1 12 rfl rfl)
theorem dX0_book_36 : decode cX0_book 36 = .ok (.goto 39, 3) := dk_167 0 39 (dk_at dksX0_book_1 14 rfl rfl)
theorem dX0_book_39 : decode cX0_book 39 = .ok (.iload_n 3, 1) := dk_29 (dk_at dksX0_book_1 17 rfl rfl)
theorem dX0_book_40 : decode cX0_book 40 = .ok (.ifCond .ne 13, 3) := dk_154 0 13 (dk_at dksX0_book_1 18 rfl rfl)
theorem dX0_book_43 : decode cX0_book 43 = .ok (.aload_n 0, 1) := dk_42 (dk_at dksX0_book_1 21 rfl rfl)
theorem dX0_book_44 : decode cX0_book 44 = .ok (.getfield 78, 3) := dk_180 0 78 (dk_at dksX0_book_2 0 rfl rfl)
theorem dX0_book_47 : decode cX0_book 47 = .ok (.iload 4, 2) := dk_21 4 (dk_at dksX0_book_2 3 rfl rfl)
theorem dX0_book_49 : decode cX0_book 49 = .ok (.iaload, 1) := dk_46 (dk_at dksX0_book_2 5 rfl rfl)
theorem dX0_book_50 : decode cX0_book 50 = .ok (.goto 25, 3) := dk_167 0 25 (dk_at dksX0_book_2 6 rfl rfl)
theorem dX0_book_53 : decode cX0_book 53 = .ok (.iload_n 3, 1) := dk_29 (dk_at dksX0_book_2 9 rfl rfl)
theorem dX0_book_54 : decode cX0_book 54 = .ok (.iconst 1, 1) := dk_4 (dk_at dksX0_book_2 10 rfl rfl)
theorem dX0_book_55 : decode cX0_book 55 = .ok (.if_icmp .ne 13, 3) := dk_160 0 13 (dk_at dksX0_book_2 11 rfl rfl)
theorem dX0_book_58 : decode cX0_book 58 = .ok (.aload_n 0, 1) := dk_42 (dk_at dksX0_book_2 14 rfl rfl)
theorem dX0_book_59 : decode cX0_book 59 = .ok (.getfield 81, 3) := dk_180 0 81 (dk_at dksX0_book_2 15 rfl rfl)
theorem dX0_book_62 : decode cX0_book 62 = .ok (.iload 4, 2) := dk_21 4 (dk_at dksX0_book_2 18 rfl rfl)
theorem dX0_book_64 : decode cX0_book 64 = .ok (.iaload, 1) := dk_46 (dk_at dksX0_book_2 20 rfl rfl)
theorem dX0_book_65 : decode cX0_book 65 = .ok (.goto 10, 3) := dk_167 0 10 (dk_at dksX0_book_2 21 rfl rfl)
theorem dX0_book_68 : decode cX0_book 68 = .ok (.aload_n 0, 1) := dk_42 (dk_at dksX0_book_3 0 rfl rfl)
theorem dX0_book_69 : decode cX0_book 69 = .ok (.getfield 84, 3) := dk_180 0 84 (dk_at dksX0_book_3 1 rfl rfl)
theorem dX0_book_72 : decode cX0_book 72 = .ok (.iload 4, 2) := dk_21 4 (dk_at dksX0_book_3 4 rfl rfl)
theorem dX0_book_74 : decode cX0_book 74 = .ok (.iaload, 1) := dk_46 (dk_at dksX0_book_3 6 rfl rfl)
theorem dX0_book_75 : decode cX0_book 75 = .ok (.ireturn, 1) := dk_172 (dk_at dksX0_book_3 7 rfl rfl)
abbrev cX0_where : ByteArray := prog_1_method_53_code
def yX0_where : MethodName := ⟨RX0, "where", "(II)I"⟩
def dkwX0_where_5 : List UInt8 := [132, 4, 1, 167, 255, 164, 29, 172]
abbrev dktX0_where_5 : List UInt8 := dkwX0_where_5 ++ []
def dkwX0_where_4 : List UInt8 := [21, 4, 46, 4, 160, 0, 16, 16, 10, 42, 180, 0, 84, 21, 4, 46, 96, 167, 0, 5, 16, 20, 62]
abbrev dktX0_where_4 : List UInt8 := dkwX0_where_4 ++ dktX0_where_5
def dkwX0_where_3 : List UInt8 := [180, 0, 78, 21, 4, 46, 154, 0, 13, 42, 180, 0, 84, 21, 4, 46, 167, 0, 29, 42, 180, 0, 78]
abbrev dktX0_where_3 : List UInt8 := dkwX0_where_3 ++ dktX0_where_4
def dkwX0_where_2 : List UInt8 := [42, 180, 0, 78, 21, 4, 46, 6, 162, 0, 61, 42, 180, 0, 81, 21, 4, 46, 28, 163, 0, 50, 42]
abbrev dktX0_where_2 : List UInt8 := dkwX0_where_2 ++ dktX0_where_3
def dkwX0_where_1 : List UInt8 := [62, 3, 54, 4, 21, 4, 42, 180, 0, 248, 162, 0, 89, 42, 180, 0, 75, 21, 4, 46, 27, 160, 0, 72]
abbrev dktX0_where_1 : List UInt8 := dkwX0_where_1 ++ dktX0_where_2
def dkwX0_where_0 : List UInt8 := [42, 27, 182, 1, 38, 153, 0, 15, 28, 3, 42, 180, 0, 219, 184, 0, 171, 154, 0, 5, 2, 172, 16, 247]
abbrev dktX0_where_0 : List UInt8 := dkwX0_where_0 ++ dktX0_where_1
theorem dksX0_where_0 : cX0_where.data.toList.drop 0 = dktX0_where_0 := by decide +kernel
theorem dksX0_where_1 : cX0_where.data.toList.drop 24 = dktX0_where_1 := dk_seg dksX0_where_0 24 rfl rfl
theorem dksX0_where_2 : cX0_where.data.toList.drop 48 = dktX0_where_2 := dk_seg dksX0_where_1 24 rfl rfl
theorem dksX0_where_3 : cX0_where.data.toList.drop 71 = dktX0_where_3 := dk_seg dksX0_where_2 23 rfl rfl
theorem dksX0_where_4 : cX0_where.data.toList.drop 94 = dktX0_where_4 := dk_seg dksX0_where_3 23 rfl rfl
theorem dksX0_where_5 : cX0_where.data.toList.drop 117 = dktX0_where_5 := dk_seg dksX0_where_4 23 rfl rfl
theorem dX0_where_0 : decode cX0_where 0 = .ok (.aload_n 0, 1) := dk_42 (dk_at dksX0_where_0 0 rfl rfl)
theorem dX0_where_1 : decode cX0_where 1 = .ok (.iload_n 1, 1) := dk_27 (dk_at dksX0_where_0 1 rfl rfl)
theorem dX0_where_2 : decode cX0_where 2 = .ok (.invokevirtual 294, 3) := dk_182 1 38 (dk_at dksX0_where_0 2 rfl rfl)
theorem dX0_where_5 : decode cX0_where 5 = .ok (.ifCond .eq 15, 3) := dk_153 0 15 (dk_at dksX0_where_0 5 rfl rfl)
theorem dX0_where_8 : decode cX0_where 8 = .ok (.iload_n 2, 1) := dk_28 (dk_at dksX0_where_0 8 rfl rfl)
theorem dX0_where_9 : decode cX0_where 9 = .ok (.iconst 0, 1) := dk_3 (dk_at dksX0_where_0 9 rfl rfl)
theorem dX0_where_10 : decode cX0_where 10 = .ok (.aload_n 0, 1) := dk_42 (dk_at dksX0_where_0 10 rfl rfl)
theorem dX0_where_11 : decode cX0_where 11 = .ok (.getfield 219, 3) := dk_180 0 219 (dk_at dksX0_where_0 11 rfl rfl)
theorem dX0_where_14 : decode cX0_where 14 = .ok (.invokestatic 171, 3) := dk_184 0 171 (dk_at dksX0_where_0 14 rfl rfl)
theorem dX0_where_17 : decode cX0_where 17 = .ok (.ifCond .ne 5, 3) := dk_154 0 5 (dk_at dksX0_where_0 17 rfl rfl)
theorem dX0_where_20 : decode cX0_where 20 = .ok (.iconst (-1), 1) := dk_2 (dk_at dksX0_where_0 20 rfl rfl)
theorem dX0_where_21 : decode cX0_where 21 = .ok (.ireturn, 1) := dk_172 (dk_at dksX0_where_0 21 rfl rfl)
theorem dX0_where_22 : decode cX0_where 22 = .ok (.bipush (-9), 2) := dk_16 247 (dk_at dksX0_where_0 22 rfl rfl)
theorem dX0_where_24 : decode cX0_where 24 = .ok (.istore_n 3, 1) := dk_62 (dk_at dksX0_where_1 0 rfl rfl)
theorem dX0_where_25 : decode cX0_where 25 = .ok (.iconst 0, 1) := dk_3 (dk_at dksX0_where_1 1 rfl rfl)
theorem dX0_where_26 : decode cX0_where 26 = .ok (.istore 4, 2) := dk_54 4 (dk_at dksX0_where_1 2 rfl rfl)
theorem dX0_where_28 : decode cX0_where 28 = .ok (.iload 4, 2) := dk_21 4 (dk_at dksX0_where_1 4 rfl rfl)
theorem dX0_where_30 : decode cX0_where 30 = .ok (.aload_n 0, 1) := dk_42 (dk_at dksX0_where_1 6 rfl rfl)
theorem dX0_where_31 : decode cX0_where 31 = .ok (.getfield 248, 3) := dk_180 0 248 (dk_at dksX0_where_1 7 rfl rfl)
theorem dX0_where_34 : decode cX0_where 34 = .ok (.if_icmp .ge 89, 3) := dk_162 0 89 (dk_at dksX0_where_1 10 rfl rfl)
theorem dX0_where_37 : decode cX0_where 37 = .ok (.aload_n 0, 1) := dk_42 (dk_at dksX0_where_1 13 rfl rfl)
theorem dX0_where_38 : decode cX0_where 38 = .ok (.getfield 75, 3) := dk_180 0 75 (dk_at dksX0_where_1 14 rfl rfl)
theorem dX0_where_41 : decode cX0_where 41 = .ok (.iload 4, 2) := dk_21 4 (dk_at dksX0_where_1 17 rfl rfl)
theorem dX0_where_43 : decode cX0_where 43 = .ok (.iaload, 1) := dk_46 (dk_at dksX0_where_1 19 rfl rfl)
theorem dX0_where_44 : decode cX0_where 44 = .ok (.iload_n 1, 1) := dk_27 (dk_at dksX0_where_1 20 rfl rfl)
theorem dX0_where_45 : decode cX0_where 45 = .ok (.if_icmp .ne 72, 3) := dk_160 0 72 (dk_at dksX0_where_1 21 rfl rfl)
theorem dX0_where_48 : decode cX0_where 48 = .ok (.aload_n 0, 1) := dk_42 (dk_at dksX0_where_2 0 rfl rfl)
theorem dX0_where_49 : decode cX0_where 49 = .ok (.getfield 78, 3) := dk_180 0 78 (dk_at dksX0_where_2 1 rfl rfl)
theorem dX0_where_52 : decode cX0_where 52 = .ok (.iload 4, 2) := dk_21 4 (dk_at dksX0_where_2 4 rfl rfl)
theorem dX0_where_54 : decode cX0_where 54 = .ok (.iaload, 1) := dk_46 (dk_at dksX0_where_2 6 rfl rfl)
theorem dX0_where_55 : decode cX0_where 55 = .ok (.iconst 3, 1) := dk_6 (dk_at dksX0_where_2 7 rfl rfl)
theorem dX0_where_56 : decode cX0_where 56 = .ok (.if_icmp .ge 61, 3) := dk_162 0 61 (dk_at dksX0_where_2 8 rfl rfl)
theorem dX0_where_59 : decode cX0_where 59 = .ok (.aload_n 0, 1) := dk_42 (dk_at dksX0_where_2 11 rfl rfl)
theorem dX0_where_60 : decode cX0_where 60 = .ok (.getfield 81, 3) := dk_180 0 81 (dk_at dksX0_where_2 12 rfl rfl)
theorem dX0_where_63 : decode cX0_where 63 = .ok (.iload 4, 2) := dk_21 4 (dk_at dksX0_where_2 15 rfl rfl)
theorem dX0_where_65 : decode cX0_where 65 = .ok (.iaload, 1) := dk_46 (dk_at dksX0_where_2 17 rfl rfl)
theorem dX0_where_66 : decode cX0_where 66 = .ok (.iload_n 2, 1) := dk_28 (dk_at dksX0_where_2 18 rfl rfl)
theorem dX0_where_67 : decode cX0_where 67 = .ok (.if_icmp .gt 50, 3) := dk_163 0 50 (dk_at dksX0_where_2 19 rfl rfl)
theorem dX0_where_70 : decode cX0_where 70 = .ok (.aload_n 0, 1) := dk_42 (dk_at dksX0_where_2 22 rfl rfl)
theorem dX0_where_71 : decode cX0_where 71 = .ok (.getfield 78, 3) := dk_180 0 78 (dk_at dksX0_where_3 0 rfl rfl)
theorem dX0_where_74 : decode cX0_where 74 = .ok (.iload 4, 2) := dk_21 4 (dk_at dksX0_where_3 3 rfl rfl)
theorem dX0_where_76 : decode cX0_where 76 = .ok (.iaload, 1) := dk_46 (dk_at dksX0_where_3 5 rfl rfl)
theorem dX0_where_77 : decode cX0_where 77 = .ok (.ifCond .ne 13, 3) := dk_154 0 13 (dk_at dksX0_where_3 6 rfl rfl)
theorem dX0_where_80 : decode cX0_where 80 = .ok (.aload_n 0, 1) := dk_42 (dk_at dksX0_where_3 9 rfl rfl)
theorem dX0_where_81 : decode cX0_where 81 = .ok (.getfield 84, 3) := dk_180 0 84 (dk_at dksX0_where_3 10 rfl rfl)
theorem dX0_where_84 : decode cX0_where 84 = .ok (.iload 4, 2) := dk_21 4 (dk_at dksX0_where_3 13 rfl rfl)
theorem dX0_where_86 : decode cX0_where 86 = .ok (.iaload, 1) := dk_46 (dk_at dksX0_where_3 15 rfl rfl)
theorem dX0_where_87 : decode cX0_where 87 = .ok (.goto 29, 3) := dk_167 0 29 (dk_at dksX0_where_3 16 rfl rfl)
theorem dX0_where_90 : decode cX0_where 90 = .ok (.aload_n 0, 1) := dk_42 (dk_at dksX0_where_3 19 rfl rfl)
theorem dX0_where_91 : decode cX0_where 91 = .ok (.getfield 78, 3) := dk_180 0 78 (dk_at dksX0_where_3 20 rfl rfl)
theorem dX0_where_94 : decode cX0_where 94 = .ok (.iload 4, 2) := dk_21 4 (dk_at dksX0_where_4 0 rfl rfl)
theorem dX0_where_96 : decode cX0_where 96 = .ok (.iaload, 1) := dk_46 (dk_at dksX0_where_4 2 rfl rfl)
theorem dX0_where_97 : decode cX0_where 97 = .ok (.iconst 1, 1) := dk_4 (dk_at dksX0_where_4 3 rfl rfl)
theorem dX0_where_98 : decode cX0_where 98 = .ok (.if_icmp .ne 16, 3) := dk_160 0 16 (dk_at dksX0_where_4 4 rfl rfl)
theorem dX0_where_101 : decode cX0_where 101 = .ok (.bipush 10, 2) := dk_16 10 (dk_at dksX0_where_4 7 rfl rfl)
theorem dX0_where_103 : decode cX0_where 103 = .ok (.aload_n 0, 1) := dk_42 (dk_at dksX0_where_4 9 rfl rfl)
theorem dX0_where_104 : decode cX0_where 104 = .ok (.getfield 84, 3) := dk_180 0 84 (dk_at dksX0_where_4 10 rfl rfl)
theorem dX0_where_107 : decode cX0_where 107 = .ok (.iload 4, 2) := dk_21 4 (dk_at dksX0_where_4 13 rfl rfl)
theorem dX0_where_109 : decode cX0_where 109 = .ok (.iaload, 1) := dk_46 (dk_at dksX0_where_4 15 rfl rfl)
theorem dX0_where_110 : decode cX0_where 110 = .ok (.iadd, 1) := dk_96 (dk_at dksX0_where_4 16 rfl rfl)
theorem dX0_where_111 : decode cX0_where 111 = .ok (.goto 5, 3) := dk_167 0 5 (dk_at dksX0_where_4 17 rfl rfl)
theorem dX0_where_114 : decode cX0_where 114 = .ok (.bipush 20, 2) := dk_16 20 (dk_at dksX0_where_4 20 rfl rfl)
theorem dX0_where_116 : decode cX0_where 116 = .ok (.istore_n 3, 1) := dk_62 (dk_at dksX0_where_4 22 rfl rfl)
theorem dX0_where_117 : decode cX0_where 117 = .ok (.iinc 4 1, 3) := dk_132 4 1 (dk_at dksX0_where_5 0 rfl rfl)
theorem dX0_where_120 : decode cX0_where 120 = .ok (.goto (-92), 3) := dk_167 255 164 (dk_at dksX0_where_5 3 rfl rfl)
theorem dX0_where_123 : decode cX0_where 123 = .ok (.iload_n 3, 1) := dk_29 (dk_at dksX0_where_5 6 rfl rfl)
theorem dX0_where_124 : decode cX0_where 124 = .ok (.ireturn, 1) := dk_172 (dk_at dksX0_where_5 7 rfl rfl)
abbrev cX0_terms : ByteArray := prog_1_method_55_code
def yX0_terms : MethodName := ⟨RX0, "terms", "(II)I"⟩
def dkwX0_terms_7 : List UInt8 := [180, 0, 204, 184, 0, 193, 42, 89, 180, 1, 77, 4, 96, 181, 1, 77, 42, 180, 1, 77, 4, 100, 172]
abbrev dktX0_terms_7 : List UInt8 := dkwX0_terms_7 ++ []
def dkwX0_terms_6 : List UInt8 := [180, 0, 204, 184, 0, 193, 42, 180, 0, 41, 3, 42, 180, 0, 120, 16, 20, 42, 180, 1, 77, 104, 42]
abbrev dktX0_terms_6 : List UInt8 := dkwX0_terms_6 ++ dktX0_terms_7
def dkwX0_terms_5 : List UInt8 := [42, 180, 0, 204, 184, 0, 193, 42, 180, 0, 38, 3, 42, 180, 0, 117, 16, 20, 42, 180, 1, 77, 104, 42]
abbrev dktX0_terms_5 : List UInt8 := dkwX0_terms_5 ++ dktX0_terms_6
def dkwX0_terms_4 : List UInt8 := [180, 1, 77, 42, 180, 0, 204, 79, 42, 180, 0, 35, 3, 42, 180, 0, 114, 16, 20, 42, 180, 1, 77, 104]
abbrev dktX0_terms_4 : List UInt8 := dkwX0_terms_4 ++ dktX0_terms_5
def dkwX0_terms_3 : List UInt8 := [42, 180, 0, 219, 17, 5, 160, 108, 79, 42, 180, 0, 108, 42, 180, 1, 77, 28, 79, 42, 180, 0, 111, 42]
abbrev dktX0_terms_3 : List UInt8 := dkwX0_terms_3 ++ dktX0_terms_4
def dkwX0_terms_2 : List UInt8 := [180, 0, 31, 27, 50, 182, 0, 214, 16, 247, 159, 0, 6, 16, 252, 172, 42, 180, 0, 105, 42, 180, 1, 77]
abbrev dktX0_terms_2 : List UInt8 := dkwX0_terms_2 ++ dktX0_terms_3
def dkwX0_terms_1 : List UInt8 := [160, 0, 6, 16, 254, 172, 42, 180, 0, 31, 27, 50, 199, 0, 9, 42, 4, 182, 0, 181, 172, 42, 42]
abbrev dktX0_terms_1 : List UInt8 := dkwX0_terms_1 ++ dktX0_terms_2
def dkwX0_terms_0 : List UInt8 := [27, 184, 0, 201, 153, 0, 10, 28, 184, 1, 74, 154, 0, 5, 2, 172, 42, 180, 1, 77, 16, 20]
abbrev dktX0_terms_0 : List UInt8 := dkwX0_terms_0 ++ dktX0_terms_1
theorem dksX0_terms_0 : cX0_terms.data.toList.drop 0 = dktX0_terms_0 := by decide +kernel
theorem dksX0_terms_1 : cX0_terms.data.toList.drop 22 = dktX0_terms_1 := dk_seg dksX0_terms_0 22 rfl rfl
theorem dksX0_terms_2 : cX0_terms.data.toList.drop 45 = dktX0_terms_2 := dk_seg dksX0_terms_1 23 rfl rfl
theorem dksX0_terms_3 : cX0_terms.data.toList.drop 69 = dktX0_terms_3 := dk_seg dksX0_terms_2 24 rfl rfl
theorem dksX0_terms_4 : cX0_terms.data.toList.drop 93 = dktX0_terms_4 := dk_seg dksX0_terms_3 24 rfl rfl
theorem dksX0_terms_5 : cX0_terms.data.toList.drop 117 = dktX0_terms_5 := dk_seg dksX0_terms_4 24 rfl rfl
theorem dksX0_terms_6 : cX0_terms.data.toList.drop 141 = dktX0_terms_6 := dk_seg dksX0_terms_5 24 rfl rfl
theorem dksX0_terms_7 : cX0_terms.data.toList.drop 164 = dktX0_terms_7 := dk_seg dksX0_terms_6 23 rfl rfl
theorem dX0_terms_0 : decode cX0_terms 0 = .ok (.iload_n 1, 1) := dk_27 (dk_at dksX0_terms_0 0 rfl rfl)
theorem dX0_terms_1 : decode cX0_terms 1 = .ok (.invokestatic 201, 3) := dk_184 0 201 (dk_at dksX0_terms_0 1 rfl rfl)
theorem dX0_terms_4 : decode cX0_terms 4 = .ok (.ifCond .eq 10, 3) := dk_153 0 10 (dk_at dksX0_terms_0 4 rfl rfl)
theorem dX0_terms_7 : decode cX0_terms 7 = .ok (.iload_n 2, 1) := dk_28 (dk_at dksX0_terms_0 7 rfl rfl)
theorem dX0_terms_8 : decode cX0_terms 8 = .ok (.invokestatic 330, 3) := dk_184 1 74 (dk_at dksX0_terms_0 8 rfl rfl)
theorem dX0_terms_11 : decode cX0_terms 11 = .ok (.ifCond .ne 5, 3) := dk_154 0 5 (dk_at dksX0_terms_0 11 rfl rfl)
theorem dX0_terms_14 : decode cX0_terms 14 = .ok (.iconst (-1), 1) := dk_2 (dk_at dksX0_terms_0 14 rfl rfl)
theorem dX0_terms_15 : decode cX0_terms 15 = .ok (.ireturn, 1) := dk_172 (dk_at dksX0_terms_0 15 rfl rfl)
theorem dX0_terms_16 : decode cX0_terms 16 = .ok (.aload_n 0, 1) := dk_42 (dk_at dksX0_terms_0 16 rfl rfl)
theorem dX0_terms_17 : decode cX0_terms 17 = .ok (.getfield 333, 3) := dk_180 1 77 (dk_at dksX0_terms_0 17 rfl rfl)
theorem dX0_terms_20 : decode cX0_terms 20 = .ok (.bipush 20, 2) := dk_16 20 (dk_at dksX0_terms_0 20 rfl rfl)
theorem dX0_terms_22 : decode cX0_terms 22 = .ok (.if_icmp .ne 6, 3) := dk_160 0 6 (dk_at dksX0_terms_1 0 rfl rfl)
theorem dX0_terms_25 : decode cX0_terms 25 = .ok (.bipush (-2), 2) := dk_16 254 (dk_at dksX0_terms_1 3 rfl rfl)
theorem dX0_terms_27 : decode cX0_terms 27 = .ok (.ireturn, 1) := dk_172 (dk_at dksX0_terms_1 5 rfl rfl)
theorem dX0_terms_28 : decode cX0_terms 28 = .ok (.aload_n 0, 1) := dk_42 (dk_at dksX0_terms_1 6 rfl rfl)
theorem dX0_terms_29 : decode cX0_terms 29 = .ok (.getfield 31, 3) := dk_180 0 31 (dk_at dksX0_terms_1 7 rfl rfl)
theorem dX0_terms_32 : decode cX0_terms 32 = .ok (.iload_n 1, 1) := dk_27 (dk_at dksX0_terms_1 10 rfl rfl)
theorem dX0_terms_33 : decode cX0_terms 33 = .ok (.aaload, 1) := dk_50 (dk_at dksX0_terms_1 11 rfl rfl)
theorem dX0_terms_34 : decode cX0_terms 34 = .ok (.ifnonnull 9, 3) := dk_199 0 9 (dk_at dksX0_terms_1 12 rfl rfl)
theorem dX0_terms_37 : decode cX0_terms 37 = .ok (.aload_n 0, 1) := dk_42 (dk_at dksX0_terms_1 15 rfl rfl)
theorem dX0_terms_38 : decode cX0_terms 38 = .ok (.iconst 1, 1) := dk_4 (dk_at dksX0_terms_1 16 rfl rfl)
theorem dX0_terms_39 : decode cX0_terms 39 = .ok (.invokevirtual 181, 3) := dk_182 0 181 (dk_at dksX0_terms_1 17 rfl rfl)
theorem dX0_terms_42 : decode cX0_terms 42 = .ok (.ireturn, 1) := dk_172 (dk_at dksX0_terms_1 20 rfl rfl)
theorem dX0_terms_43 : decode cX0_terms 43 = .ok (.aload_n 0, 1) := dk_42 (dk_at dksX0_terms_1 21 rfl rfl)
theorem dX0_terms_44 : decode cX0_terms 44 = .ok (.aload_n 0, 1) := dk_42 (dk_at dksX0_terms_1 22 rfl rfl)
theorem dX0_terms_45 : decode cX0_terms 45 = .ok (.getfield 31, 3) := dk_180 0 31 (dk_at dksX0_terms_2 0 rfl rfl)
theorem dX0_terms_48 : decode cX0_terms 48 = .ok (.iload_n 1, 1) := dk_27 (dk_at dksX0_terms_2 3 rfl rfl)
theorem dX0_terms_49 : decode cX0_terms 49 = .ok (.aaload, 1) := dk_50 (dk_at dksX0_terms_2 4 rfl rfl)
theorem dX0_terms_50 : decode cX0_terms 50 = .ok (.invokevirtual 214, 3) := dk_182 0 214 (dk_at dksX0_terms_2 5 rfl rfl)
theorem dX0_terms_53 : decode cX0_terms 53 = .ok (.bipush (-9), 2) := dk_16 247 (dk_at dksX0_terms_2 8 rfl rfl)
theorem dX0_terms_55 : decode cX0_terms 55 = .ok (.if_icmp .eq 6, 3) := dk_159 0 6 (dk_at dksX0_terms_2 10 rfl rfl)
theorem dX0_terms_58 : decode cX0_terms 58 = .ok (.bipush (-4), 2) := dk_16 252 (dk_at dksX0_terms_2 13 rfl rfl)
theorem dX0_terms_60 : decode cX0_terms 60 = .ok (.ireturn, 1) := dk_172 (dk_at dksX0_terms_2 15 rfl rfl)
theorem dX0_terms_61 : decode cX0_terms 61 = .ok (.aload_n 0, 1) := dk_42 (dk_at dksX0_terms_2 16 rfl rfl)
theorem dX0_terms_62 : decode cX0_terms 62 = .ok (.getfield 105, 3) := dk_180 0 105 (dk_at dksX0_terms_2 17 rfl rfl)
theorem dX0_terms_65 : decode cX0_terms 65 = .ok (.aload_n 0, 1) := dk_42 (dk_at dksX0_terms_2 20 rfl rfl)
theorem dX0_terms_66 : decode cX0_terms 66 = .ok (.getfield 333, 3) := dk_180 1 77 (dk_at dksX0_terms_2 21 rfl rfl)
theorem dX0_terms_69 : decode cX0_terms 69 = .ok (.aload_n 0, 1) := dk_42 (dk_at dksX0_terms_3 0 rfl rfl)
theorem dX0_terms_70 : decode cX0_terms 70 = .ok (.getfield 219, 3) := dk_180 0 219 (dk_at dksX0_terms_3 1 rfl rfl)
theorem dX0_terms_73 : decode cX0_terms 73 = .ok (.sipush 1440, 3) := dk_17 5 160 (dk_at dksX0_terms_3 4 rfl rfl)
theorem dX0_terms_76 : decode cX0_terms 76 = .ok (.idiv, 1) := dk_108 (dk_at dksX0_terms_3 7 rfl rfl)
theorem dX0_terms_77 : decode cX0_terms 77 = .ok (.iastore, 1) := dk_79 (dk_at dksX0_terms_3 8 rfl rfl)
theorem dX0_terms_78 : decode cX0_terms 78 = .ok (.aload_n 0, 1) := dk_42 (dk_at dksX0_terms_3 9 rfl rfl)
theorem dX0_terms_79 : decode cX0_terms 79 = .ok (.getfield 108, 3) := dk_180 0 108 (dk_at dksX0_terms_3 10 rfl rfl)
theorem dX0_terms_82 : decode cX0_terms 82 = .ok (.aload_n 0, 1) := dk_42 (dk_at dksX0_terms_3 13 rfl rfl)
theorem dX0_terms_83 : decode cX0_terms 83 = .ok (.getfield 333, 3) := dk_180 1 77 (dk_at dksX0_terms_3 14 rfl rfl)
theorem dX0_terms_86 : decode cX0_terms 86 = .ok (.iload_n 2, 1) := dk_28 (dk_at dksX0_terms_3 17 rfl rfl)
theorem dX0_terms_87 : decode cX0_terms 87 = .ok (.iastore, 1) := dk_79 (dk_at dksX0_terms_3 18 rfl rfl)
theorem dX0_terms_88 : decode cX0_terms 88 = .ok (.aload_n 0, 1) := dk_42 (dk_at dksX0_terms_3 19 rfl rfl)
theorem dX0_terms_89 : decode cX0_terms 89 = .ok (.getfield 111, 3) := dk_180 0 111 (dk_at dksX0_terms_3 20 rfl rfl)
theorem dX0_terms_92 : decode cX0_terms 92 = .ok (.aload_n 0, 1) := dk_42 (dk_at dksX0_terms_3 23 rfl rfl)
theorem dX0_terms_93 : decode cX0_terms 93 = .ok (.getfield 333, 3) := dk_180 1 77 (dk_at dksX0_terms_4 0 rfl rfl)
theorem dX0_terms_96 : decode cX0_terms 96 = .ok (.aload_n 0, 1) := dk_42 (dk_at dksX0_terms_4 3 rfl rfl)
theorem dX0_terms_97 : decode cX0_terms 97 = .ok (.getfield 204, 3) := dk_180 0 204 (dk_at dksX0_terms_4 4 rfl rfl)
theorem dX0_terms_100 : decode cX0_terms 100 = .ok (.iastore, 1) := dk_79 (dk_at dksX0_terms_4 7 rfl rfl)
theorem dX0_terms_101 : decode cX0_terms 101 = .ok (.aload_n 0, 1) := dk_42 (dk_at dksX0_terms_4 8 rfl rfl)
theorem dX0_terms_102 : decode cX0_terms 102 = .ok (.getfield 35, 3) := dk_180 0 35 (dk_at dksX0_terms_4 9 rfl rfl)
theorem dX0_terms_105 : decode cX0_terms 105 = .ok (.iconst 0, 1) := dk_3 (dk_at dksX0_terms_4 12 rfl rfl)
theorem dX0_terms_106 : decode cX0_terms 106 = .ok (.aload_n 0, 1) := dk_42 (dk_at dksX0_terms_4 13 rfl rfl)
theorem dX0_terms_107 : decode cX0_terms 107 = .ok (.getfield 114, 3) := dk_180 0 114 (dk_at dksX0_terms_4 14 rfl rfl)
theorem dX0_terms_110 : decode cX0_terms 110 = .ok (.bipush 20, 2) := dk_16 20 (dk_at dksX0_terms_4 17 rfl rfl)
theorem dX0_terms_112 : decode cX0_terms 112 = .ok (.aload_n 0, 1) := dk_42 (dk_at dksX0_terms_4 19 rfl rfl)
theorem dX0_terms_113 : decode cX0_terms 113 = .ok (.getfield 333, 3) := dk_180 1 77 (dk_at dksX0_terms_4 20 rfl rfl)
theorem dX0_terms_116 : decode cX0_terms 116 = .ok (.imul, 1) := dk_104 (dk_at dksX0_terms_4 23 rfl rfl)
theorem dX0_terms_117 : decode cX0_terms 117 = .ok (.aload_n 0, 1) := dk_42 (dk_at dksX0_terms_5 0 rfl rfl)
theorem dX0_terms_118 : decode cX0_terms 118 = .ok (.getfield 204, 3) := dk_180 0 204 (dk_at dksX0_terms_5 1 rfl rfl)
theorem dX0_terms_121 : decode cX0_terms 121 = .ok (.invokestatic 193, 3) := dk_184 0 193 (dk_at dksX0_terms_5 4 rfl rfl)
theorem dX0_terms_124 : decode cX0_terms 124 = .ok (.aload_n 0, 1) := dk_42 (dk_at dksX0_terms_5 7 rfl rfl)
theorem dX0_terms_125 : decode cX0_terms 125 = .ok (.getfield 38, 3) := dk_180 0 38 (dk_at dksX0_terms_5 8 rfl rfl)
theorem dX0_terms_128 : decode cX0_terms 128 = .ok (.iconst 0, 1) := dk_3 (dk_at dksX0_terms_5 11 rfl rfl)
theorem dX0_terms_129 : decode cX0_terms 129 = .ok (.aload_n 0, 1) := dk_42 (dk_at dksX0_terms_5 12 rfl rfl)
theorem dX0_terms_130 : decode cX0_terms 130 = .ok (.getfield 117, 3) := dk_180 0 117 (dk_at dksX0_terms_5 13 rfl rfl)
theorem dX0_terms_133 : decode cX0_terms 133 = .ok (.bipush 20, 2) := dk_16 20 (dk_at dksX0_terms_5 16 rfl rfl)
theorem dX0_terms_135 : decode cX0_terms 135 = .ok (.aload_n 0, 1) := dk_42 (dk_at dksX0_terms_5 18 rfl rfl)
theorem dX0_terms_136 : decode cX0_terms 136 = .ok (.getfield 333, 3) := dk_180 1 77 (dk_at dksX0_terms_5 19 rfl rfl)
theorem dX0_terms_139 : decode cX0_terms 139 = .ok (.imul, 1) := dk_104 (dk_at dksX0_terms_5 22 rfl rfl)
theorem dX0_terms_140 : decode cX0_terms 140 = .ok (.aload_n 0, 1) := dk_42 (dk_at dksX0_terms_5 23 rfl rfl)
theorem dX0_terms_141 : decode cX0_terms 141 = .ok (.getfield 204, 3) := dk_180 0 204 (dk_at dksX0_terms_6 0 rfl rfl)
theorem dX0_terms_144 : decode cX0_terms 144 = .ok (.invokestatic 193, 3) := dk_184 0 193 (dk_at dksX0_terms_6 3 rfl rfl)
theorem dX0_terms_147 : decode cX0_terms 147 = .ok (.aload_n 0, 1) := dk_42 (dk_at dksX0_terms_6 6 rfl rfl)
theorem dX0_terms_148 : decode cX0_terms 148 = .ok (.getfield 41, 3) := dk_180 0 41 (dk_at dksX0_terms_6 7 rfl rfl)
theorem dX0_terms_151 : decode cX0_terms 151 = .ok (.iconst 0, 1) := dk_3 (dk_at dksX0_terms_6 10 rfl rfl)
theorem dX0_terms_152 : decode cX0_terms 152 = .ok (.aload_n 0, 1) := dk_42 (dk_at dksX0_terms_6 11 rfl rfl)
theorem dX0_terms_153 : decode cX0_terms 153 = .ok (.getfield 120, 3) := dk_180 0 120 (dk_at dksX0_terms_6 12 rfl rfl)
theorem dX0_terms_156 : decode cX0_terms 156 = .ok (.bipush 20, 2) := dk_16 20 (dk_at dksX0_terms_6 15 rfl rfl)
theorem dX0_terms_158 : decode cX0_terms 158 = .ok (.aload_n 0, 1) := dk_42 (dk_at dksX0_terms_6 17 rfl rfl)
theorem dX0_terms_159 : decode cX0_terms 159 = .ok (.getfield 333, 3) := dk_180 1 77 (dk_at dksX0_terms_6 18 rfl rfl)
theorem dX0_terms_162 : decode cX0_terms 162 = .ok (.imul, 1) := dk_104 (dk_at dksX0_terms_6 21 rfl rfl)
theorem dX0_terms_163 : decode cX0_terms 163 = .ok (.aload_n 0, 1) := dk_42 (dk_at dksX0_terms_6 22 rfl rfl)
theorem dX0_terms_164 : decode cX0_terms 164 = .ok (.getfield 204, 3) := dk_180 0 204 (dk_at dksX0_terms_7 0 rfl rfl)
theorem dX0_terms_167 : decode cX0_terms 167 = .ok (.invokestatic 193, 3) := dk_184 0 193 (dk_at dksX0_terms_7 3 rfl rfl)
theorem dX0_terms_170 : decode cX0_terms 170 = .ok (.aload_n 0, 1) := dk_42 (dk_at dksX0_terms_7 6 rfl rfl)
theorem dX0_terms_171 : decode cX0_terms 171 = .ok (.dup, 1) := dk_89 (dk_at dksX0_terms_7 7 rfl rfl)
theorem dX0_terms_172 : decode cX0_terms 172 = .ok (.getfield 333, 3) := dk_180 1 77 (dk_at dksX0_terms_7 8 rfl rfl)
theorem dX0_terms_175 : decode cX0_terms 175 = .ok (.iconst 1, 1) := dk_4 (dk_at dksX0_terms_7 11 rfl rfl)
theorem dX0_terms_176 : decode cX0_terms 176 = .ok (.iadd, 1) := dk_96 (dk_at dksX0_terms_7 12 rfl rfl)
theorem dX0_terms_177 : decode cX0_terms 177 = .ok (.putfield 333, 3) := dk_181 1 77 (dk_at dksX0_terms_7 13 rfl rfl)
theorem dX0_terms_180 : decode cX0_terms 180 = .ok (.aload_n 0, 1) := dk_42 (dk_at dksX0_terms_7 16 rfl rfl)
theorem dX0_terms_181 : decode cX0_terms 181 = .ok (.getfield 333, 3) := dk_180 1 77 (dk_at dksX0_terms_7 17 rfl rfl)
theorem dX0_terms_184 : decode cX0_terms 184 = .ok (.iconst 1, 1) := dk_4 (dk_at dksX0_terms_7 20 rfl rfl)
theorem dX0_terms_185 : decode cX0_terms 185 = .ok (.isub, 1) := dk_100 (dk_at dksX0_terms_7 21 rfl rfl)
theorem dX0_terms_186 : decode cX0_terms 186 = .ok (.ireturn, 1) := dk_172 (dk_at dksX0_terms_7 22 rfl rfl)
abbrev cX0_isDay : ByteArray := prog_1_method_54_code
def yX0_isDay : MethodName := ⟨RX0, "isDay", "(I)Z"⟩
def dkwX0_isDay_0 : List UInt8 := [26, 3, 16, 69, 184, 0, 171, 172]
abbrev dktX0_isDay_0 : List UInt8 := dkwX0_isDay_0 ++ []
theorem dksX0_isDay_0 : cX0_isDay.data.toList.drop 0 = dktX0_isDay_0 := by decide +kernel
theorem dX0_isDay_0 : decode cX0_isDay 0 = .ok (.iload_n 0, 1) := dk_26 (dk_at dksX0_isDay_0 0 rfl rfl)
theorem dX0_isDay_1 : decode cX0_isDay 1 = .ok (.iconst 0, 1) := dk_3 (dk_at dksX0_isDay_0 1 rfl rfl)
theorem dX0_isDay_2 : decode cX0_isDay 2 = .ok (.bipush 69, 2) := dk_16 69 (dk_at dksX0_isDay_0 2 rfl rfl)
theorem dX0_isDay_4 : decode cX0_isDay 4 = .ok (.invokestatic 171, 3) := dk_184 0 171 (dk_at dksX0_isDay_0 4 rfl rfl)
theorem dX0_isDay_7 : decode cX0_isDay 7 = .ok (.ireturn, 1) := dk_172 (dk_at dksX0_isDay_0 7 rfl rfl)
abbrev cX0_force : ByteArray := prog_1_method_57_code
def yX0_force : MethodName := ⟨RX0, "force", "(IIII)I"⟩
def dkwX0_force_2 : List UInt8 := [167, 0, 4, 2, 172]
abbrev dktX0_force_2 : List UInt8 := dkwX0_force_2 ++ []
def dkwX0_force_1 : List UInt8 := [184, 1, 74, 153, 0, 23, 21, 4, 184, 1, 74, 153, 0, 15, 42, 27, 28, 29, 21, 4, 182, 1, 64]
abbrev dktX0_force_1 : List UInt8 := dkwX0_force_1 ++ dktX0_force_2
def dkwX0_force_0 : List UInt8 := [27, 3, 6, 184, 0, 171, 153, 0, 42, 27, 4, 163, 0, 10, 28, 184, 0, 222, 153, 0, 30, 29]
abbrev dktX0_force_0 : List UInt8 := dkwX0_force_0 ++ dktX0_force_1
theorem dksX0_force_0 : cX0_force.data.toList.drop 0 = dktX0_force_0 := by decide +kernel
theorem dksX0_force_1 : cX0_force.data.toList.drop 22 = dktX0_force_1 := dk_seg dksX0_force_0 22 rfl rfl
theorem dksX0_force_2 : cX0_force.data.toList.drop 45 = dktX0_force_2 := dk_seg dksX0_force_1 23 rfl rfl
theorem dX0_force_0 : decode cX0_force 0 = .ok (.iload_n 1, 1) := dk_27 (dk_at dksX0_force_0 0 rfl rfl)
theorem dX0_force_1 : decode cX0_force 1 = .ok (.iconst 0, 1) := dk_3 (dk_at dksX0_force_0 1 rfl rfl)
theorem dX0_force_2 : decode cX0_force 2 = .ok (.iconst 3, 1) := dk_6 (dk_at dksX0_force_0 2 rfl rfl)
theorem dX0_force_3 : decode cX0_force 3 = .ok (.invokestatic 171, 3) := dk_184 0 171 (dk_at dksX0_force_0 3 rfl rfl)
theorem dX0_force_6 : decode cX0_force 6 = .ok (.ifCond .eq 42, 3) := dk_153 0 42 (dk_at dksX0_force_0 6 rfl rfl)
theorem dX0_force_9 : decode cX0_force 9 = .ok (.iload_n 1, 1) := dk_27 (dk_at dksX0_force_0 9 rfl rfl)
theorem dX0_force_10 : decode cX0_force 10 = .ok (.iconst 1, 1) := dk_4 (dk_at dksX0_force_0 10 rfl rfl)
theorem dX0_force_11 : decode cX0_force 11 = .ok (.if_icmp .gt 10, 3) := dk_163 0 10 (dk_at dksX0_force_0 11 rfl rfl)
theorem dX0_force_14 : decode cX0_force 14 = .ok (.iload_n 2, 1) := dk_28 (dk_at dksX0_force_0 14 rfl rfl)
theorem dX0_force_15 : decode cX0_force 15 = .ok (.invokestatic 222, 3) := dk_184 0 222 (dk_at dksX0_force_0 15 rfl rfl)
theorem dX0_force_18 : decode cX0_force 18 = .ok (.ifCond .eq 30, 3) := dk_153 0 30 (dk_at dksX0_force_0 18 rfl rfl)
theorem dX0_force_21 : decode cX0_force 21 = .ok (.iload_n 3, 1) := dk_29 (dk_at dksX0_force_0 21 rfl rfl)
theorem dX0_force_22 : decode cX0_force 22 = .ok (.invokestatic 330, 3) := dk_184 1 74 (dk_at dksX0_force_1 0 rfl rfl)
theorem dX0_force_25 : decode cX0_force 25 = .ok (.ifCond .eq 23, 3) := dk_153 0 23 (dk_at dksX0_force_1 3 rfl rfl)
theorem dX0_force_28 : decode cX0_force 28 = .ok (.iload 4, 2) := dk_21 4 (dk_at dksX0_force_1 6 rfl rfl)
theorem dX0_force_30 : decode cX0_force 30 = .ok (.invokestatic 330, 3) := dk_184 1 74 (dk_at dksX0_force_1 8 rfl rfl)
theorem dX0_force_33 : decode cX0_force 33 = .ok (.ifCond .eq 15, 3) := dk_153 0 15 (dk_at dksX0_force_1 11 rfl rfl)
theorem dX0_force_36 : decode cX0_force 36 = .ok (.aload_n 0, 1) := dk_42 (dk_at dksX0_force_1 14 rfl rfl)
theorem dX0_force_37 : decode cX0_force 37 = .ok (.iload_n 1, 1) := dk_27 (dk_at dksX0_force_1 15 rfl rfl)
theorem dX0_force_38 : decode cX0_force 38 = .ok (.iload_n 2, 1) := dk_28 (dk_at dksX0_force_1 16 rfl rfl)
theorem dX0_force_39 : decode cX0_force 39 = .ok (.iload_n 3, 1) := dk_29 (dk_at dksX0_force_1 17 rfl rfl)
theorem dX0_force_40 : decode cX0_force 40 = .ok (.iload 4, 2) := dk_21 4 (dk_at dksX0_force_1 18 rfl rfl)
theorem dX0_force_42 : decode cX0_force 42 = .ok (.invokevirtual 320, 3) := dk_182 1 64 (dk_at dksX0_force_1 20 rfl rfl)
theorem dX0_force_45 : decode cX0_force 45 = .ok (.goto 4, 3) := dk_167 0 4 (dk_at dksX0_force_2 0 rfl rfl)
theorem dX0_force_48 : decode cX0_force 48 = .ok (.iconst (-1), 1) := dk_2 (dk_at dksX0_force_2 3 rfl rfl)
theorem dX0_force_49 : decode cX0_force 49 = .ok (.ireturn, 1) := dk_172 (dk_at dksX0_force_2 4 rfl rfl)
abbrev cX0_pence : ByteArray := prog_1_method_58_code
def yX0_pence : MethodName := ⟨RX0, "pence", "()J"⟩
theorem dX0_pence_0 : decode cX0_pence 0 = .ok (.aload_n 0, 1) := by decide +kernel
theorem dX0_pence_1 : decode cX0_pence 1 = .ok (.getfield 336, 3) := by decide +kernel
theorem dX0_pence_4 : decode cX0_pence 4 = .ok (.lreturn, 1) := by decide +kernel
abbrev cX0_detention : ByteArray := prog_1_method_60_code
def yX0_detention : MethodName := ⟨RX0, "detention", "(I)I"⟩
def dkwX0_detention_6 : List UInt8 := [181, 1, 80, 21, 4, 172]
abbrev dktX0_detention_6 : List UInt8 := dkwX0_detention_6 ++ []
def dkwX0_detention_5 : List UInt8 := [21, 5, 46, 21, 6, 21, 6, 182, 1, 64, 133, 105, 97, 65, 132, 5, 1, 167, 255, 139, 42, 32]
abbrev dktX0_detention_5 : List UInt8 := dkwX0_detention_5 ++ dktX0_detention_6
def dkwX0_detention_4 : List UInt8 := [21, 7, 158, 0, 36, 132, 4, 1, 32, 21, 7, 16, 59, 96, 16, 60, 108, 133, 42, 4, 42, 180, 0, 84]
abbrev dktX0_detention_4 : List UInt8 := dkwX0_detention_4 ++ dktX0_detention_5
def dkwX0_detention_3 : List UInt8 := [21, 5, 46, 100, 42, 3, 42, 180, 0, 84, 21, 5, 46, 21, 6, 21, 6, 182, 1, 64, 100, 54, 7]
abbrev dktX0_detention_3 : List UInt8 := dkwX0_detention_3 ++ dktX0_detention_4
def dkwX0_detention_2 : List UInt8 := [42, 180, 0, 81, 21, 5, 46, 17, 5, 160, 108, 54, 6, 42, 21, 5, 182, 1, 83, 42, 180, 0, 81]
abbrev dktX0_detention_2 : List UInt8 := dkwX0_detention_2 ++ dktX0_detention_3
def dkwX0_detention_1 : List UInt8 := [162, 0, 114, 42, 180, 0, 75, 21, 5, 46, 27, 160, 0, 97, 42, 180, 0, 78, 21, 5, 46, 154, 0, 87]
abbrev dktX0_detention_1 : List UInt8 := dkwX0_detention_1 ++ dktX0_detention_2
def dkwX0_detention_0 : List UInt8 := [42, 27, 182, 1, 38, 154, 0, 5, 2, 172, 9, 65, 3, 54, 4, 3, 54, 5, 21, 5, 42, 180, 0, 248]
abbrev dktX0_detention_0 : List UInt8 := dkwX0_detention_0 ++ dktX0_detention_1
theorem dksX0_detention_0 : cX0_detention.data.toList.drop 0 = dktX0_detention_0 := by decide +kernel
theorem dksX0_detention_1 : cX0_detention.data.toList.drop 24 = dktX0_detention_1 := dk_seg dksX0_detention_0 24 rfl rfl
theorem dksX0_detention_2 : cX0_detention.data.toList.drop 48 = dktX0_detention_2 := dk_seg dksX0_detention_1 24 rfl rfl
theorem dksX0_detention_3 : cX0_detention.data.toList.drop 71 = dktX0_detention_3 := dk_seg dksX0_detention_2 23 rfl rfl
theorem dksX0_detention_4 : cX0_detention.data.toList.drop 94 = dktX0_detention_4 := dk_seg dksX0_detention_3 23 rfl rfl
theorem dksX0_detention_5 : cX0_detention.data.toList.drop 118 = dktX0_detention_5 := dk_seg dksX0_detention_4 24 rfl rfl
theorem dksX0_detention_6 : cX0_detention.data.toList.drop 140 = dktX0_detention_6 := dk_seg dksX0_detention_5 22 rfl rfl
theorem dX0_detention_0 : decode cX0_detention 0 = .ok (.aload_n 0, 1) := dk_42 (dk_at dksX0_detention_0 0 rfl rfl)
theorem dX0_detention_1 : decode cX0_detention 1 = .ok (.iload_n 1, 1) := dk_27 (dk_at dksX0_detention_0 1 rfl rfl)
theorem dX0_detention_2 : decode cX0_detention 2 = .ok (.invokevirtual 294, 3) := dk_182 1 38 (dk_at dksX0_detention_0 2 rfl rfl)
theorem dX0_detention_5 : decode cX0_detention 5 = .ok (.ifCond .ne 5, 3) := dk_154 0 5 (dk_at dksX0_detention_0 5 rfl rfl)
theorem dX0_detention_8 : decode cX0_detention 8 = .ok (.iconst (-1), 1) := dk_2 (dk_at dksX0_detention_0 8 rfl rfl)
theorem dX0_detention_9 : decode cX0_detention 9 = .ok (.ireturn, 1) := dk_172 (dk_at dksX0_detention_0 9 rfl rfl)
theorem dX0_detention_10 : decode cX0_detention 10 = .ok (.lconst 0, 1) := dk_9 (dk_at dksX0_detention_0 10 rfl rfl)
theorem dX0_detention_11 : decode cX0_detention 11 = .ok (.lstore_n 2, 1) := dk_65 (dk_at dksX0_detention_0 11 rfl rfl)
theorem dX0_detention_12 : decode cX0_detention 12 = .ok (.iconst 0, 1) := dk_3 (dk_at dksX0_detention_0 12 rfl rfl)
theorem dX0_detention_13 : decode cX0_detention 13 = .ok (.istore 4, 2) := dk_54 4 (dk_at dksX0_detention_0 13 rfl rfl)
theorem dX0_detention_15 : decode cX0_detention 15 = .ok (.iconst 0, 1) := dk_3 (dk_at dksX0_detention_0 15 rfl rfl)
theorem dX0_detention_16 : decode cX0_detention 16 = .ok (.istore 5, 2) := dk_54 5 (dk_at dksX0_detention_0 16 rfl rfl)
theorem dX0_detention_18 : decode cX0_detention 18 = .ok (.iload 5, 2) := dk_21 5 (dk_at dksX0_detention_0 18 rfl rfl)
theorem dX0_detention_20 : decode cX0_detention 20 = .ok (.aload_n 0, 1) := dk_42 (dk_at dksX0_detention_0 20 rfl rfl)
theorem dX0_detention_21 : decode cX0_detention 21 = .ok (.getfield 248, 3) := dk_180 0 248 (dk_at dksX0_detention_0 21 rfl rfl)
theorem dX0_detention_24 : decode cX0_detention 24 = .ok (.if_icmp .ge 114, 3) := dk_162 0 114 (dk_at dksX0_detention_1 0 rfl rfl)
theorem dX0_detention_27 : decode cX0_detention 27 = .ok (.aload_n 0, 1) := dk_42 (dk_at dksX0_detention_1 3 rfl rfl)
theorem dX0_detention_28 : decode cX0_detention 28 = .ok (.getfield 75, 3) := dk_180 0 75 (dk_at dksX0_detention_1 4 rfl rfl)
theorem dX0_detention_31 : decode cX0_detention 31 = .ok (.iload 5, 2) := dk_21 5 (dk_at dksX0_detention_1 7 rfl rfl)
theorem dX0_detention_33 : decode cX0_detention 33 = .ok (.iaload, 1) := dk_46 (dk_at dksX0_detention_1 9 rfl rfl)
theorem dX0_detention_34 : decode cX0_detention 34 = .ok (.iload_n 1, 1) := dk_27 (dk_at dksX0_detention_1 10 rfl rfl)
theorem dX0_detention_35 : decode cX0_detention 35 = .ok (.if_icmp .ne 97, 3) := dk_160 0 97 (dk_at dksX0_detention_1 11 rfl rfl)
theorem dX0_detention_38 : decode cX0_detention 38 = .ok (.aload_n 0, 1) := dk_42 (dk_at dksX0_detention_1 14 rfl rfl)
theorem dX0_detention_39 : decode cX0_detention 39 = .ok (.getfield 78, 3) := dk_180 0 78 (dk_at dksX0_detention_1 15 rfl rfl)
theorem dX0_detention_42 : decode cX0_detention 42 = .ok (.iload 5, 2) := dk_21 5 (dk_at dksX0_detention_1 18 rfl rfl)
theorem dX0_detention_44 : decode cX0_detention 44 = .ok (.iaload, 1) := dk_46 (dk_at dksX0_detention_1 20 rfl rfl)
theorem dX0_detention_45 : decode cX0_detention 45 = .ok (.ifCond .ne 87, 3) := dk_154 0 87 (dk_at dksX0_detention_1 21 rfl rfl)
theorem dX0_detention_48 : decode cX0_detention 48 = .ok (.aload_n 0, 1) := dk_42 (dk_at dksX0_detention_2 0 rfl rfl)
theorem dX0_detention_49 : decode cX0_detention 49 = .ok (.getfield 81, 3) := dk_180 0 81 (dk_at dksX0_detention_2 1 rfl rfl)
theorem dX0_detention_52 : decode cX0_detention 52 = .ok (.iload 5, 2) := dk_21 5 (dk_at dksX0_detention_2 4 rfl rfl)
theorem dX0_detention_54 : decode cX0_detention 54 = .ok (.iaload, 1) := dk_46 (dk_at dksX0_detention_2 6 rfl rfl)
theorem dX0_detention_55 : decode cX0_detention 55 = .ok (.sipush 1440, 3) := dk_17 5 160 (dk_at dksX0_detention_2 7 rfl rfl)
theorem dX0_detention_58 : decode cX0_detention 58 = .ok (.idiv, 1) := dk_108 (dk_at dksX0_detention_2 10 rfl rfl)
theorem dX0_detention_59 : decode cX0_detention 59 = .ok (.istore 6, 2) := dk_54 6 (dk_at dksX0_detention_2 11 rfl rfl)
theorem dX0_detention_61 : decode cX0_detention 61 = .ok (.aload_n 0, 1) := dk_42 (dk_at dksX0_detention_2 13 rfl rfl)
theorem dX0_detention_62 : decode cX0_detention 62 = .ok (.iload 5, 2) := dk_21 5 (dk_at dksX0_detention_2 14 rfl rfl)
theorem dX0_detention_64 : decode cX0_detention 64 = .ok (.invokevirtual 339, 3) := dk_182 1 83 (dk_at dksX0_detention_2 16 rfl rfl)
theorem dX0_detention_67 : decode cX0_detention 67 = .ok (.aload_n 0, 1) := dk_42 (dk_at dksX0_detention_2 19 rfl rfl)
theorem dX0_detention_68 : decode cX0_detention 68 = .ok (.getfield 81, 3) := dk_180 0 81 (dk_at dksX0_detention_2 20 rfl rfl)
theorem dX0_detention_71 : decode cX0_detention 71 = .ok (.iload 5, 2) := dk_21 5 (dk_at dksX0_detention_3 0 rfl rfl)
theorem dX0_detention_73 : decode cX0_detention 73 = .ok (.iaload, 1) := dk_46 (dk_at dksX0_detention_3 2 rfl rfl)
theorem dX0_detention_74 : decode cX0_detention 74 = .ok (.isub, 1) := dk_100 (dk_at dksX0_detention_3 3 rfl rfl)
theorem dX0_detention_75 : decode cX0_detention 75 = .ok (.aload_n 0, 1) := dk_42 (dk_at dksX0_detention_3 4 rfl rfl)
theorem dX0_detention_76 : decode cX0_detention 76 = .ok (.iconst 0, 1) := dk_3 (dk_at dksX0_detention_3 5 rfl rfl)
theorem dX0_detention_77 : decode cX0_detention 77 = .ok (.aload_n 0, 1) := dk_42 (dk_at dksX0_detention_3 6 rfl rfl)
theorem dX0_detention_78 : decode cX0_detention 78 = .ok (.getfield 84, 3) := dk_180 0 84 (dk_at dksX0_detention_3 7 rfl rfl)
theorem dX0_detention_81 : decode cX0_detention 81 = .ok (.iload 5, 2) := dk_21 5 (dk_at dksX0_detention_3 10 rfl rfl)
theorem dX0_detention_83 : decode cX0_detention 83 = .ok (.iaload, 1) := dk_46 (dk_at dksX0_detention_3 12 rfl rfl)
theorem dX0_detention_84 : decode cX0_detention 84 = .ok (.iload 6, 2) := dk_21 6 (dk_at dksX0_detention_3 13 rfl rfl)
theorem dX0_detention_86 : decode cX0_detention 86 = .ok (.iload 6, 2) := dk_21 6 (dk_at dksX0_detention_3 15 rfl rfl)
theorem dX0_detention_88 : decode cX0_detention 88 = .ok (.invokevirtual 320, 3) := dk_182 1 64 (dk_at dksX0_detention_3 17 rfl rfl)
theorem dX0_detention_91 : decode cX0_detention 91 = .ok (.isub, 1) := dk_100 (dk_at dksX0_detention_3 20 rfl rfl)
theorem dX0_detention_92 : decode cX0_detention 92 = .ok (.istore 7, 2) := dk_54 7 (dk_at dksX0_detention_3 21 rfl rfl)
theorem dX0_detention_94 : decode cX0_detention 94 = .ok (.iload 7, 2) := dk_21 7 (dk_at dksX0_detention_4 0 rfl rfl)
theorem dX0_detention_96 : decode cX0_detention 96 = .ok (.ifCond .le 36, 3) := dk_158 0 36 (dk_at dksX0_detention_4 2 rfl rfl)
theorem dX0_detention_99 : decode cX0_detention 99 = .ok (.iinc 4 1, 3) := dk_132 4 1 (dk_at dksX0_detention_4 5 rfl rfl)
theorem dX0_detention_102 : decode cX0_detention 102 = .ok (.lload_n 2, 1) := dk_32 (dk_at dksX0_detention_4 8 rfl rfl)
theorem dX0_detention_103 : decode cX0_detention 103 = .ok (.iload 7, 2) := dk_21 7 (dk_at dksX0_detention_4 9 rfl rfl)
theorem dX0_detention_105 : decode cX0_detention 105 = .ok (.bipush 59, 2) := dk_16 59 (dk_at dksX0_detention_4 11 rfl rfl)
theorem dX0_detention_107 : decode cX0_detention 107 = .ok (.iadd, 1) := dk_96 (dk_at dksX0_detention_4 13 rfl rfl)
theorem dX0_detention_108 : decode cX0_detention 108 = .ok (.bipush 60, 2) := dk_16 60 (dk_at dksX0_detention_4 14 rfl rfl)
theorem dX0_detention_110 : decode cX0_detention 110 = .ok (.idiv, 1) := dk_108 (dk_at dksX0_detention_4 16 rfl rfl)
theorem dX0_detention_111 : decode cX0_detention 111 = .ok (.i2l, 1) := dk_133 (dk_at dksX0_detention_4 17 rfl rfl)
theorem dX0_detention_112 : decode cX0_detention 112 = .ok (.aload_n 0, 1) := dk_42 (dk_at dksX0_detention_4 18 rfl rfl)
theorem dX0_detention_113 : decode cX0_detention 113 = .ok (.iconst 1, 1) := dk_4 (dk_at dksX0_detention_4 19 rfl rfl)
theorem dX0_detention_114 : decode cX0_detention 114 = .ok (.aload_n 0, 1) := dk_42 (dk_at dksX0_detention_4 20 rfl rfl)
theorem dX0_detention_115 : decode cX0_detention 115 = .ok (.getfield 84, 3) := dk_180 0 84 (dk_at dksX0_detention_4 21 rfl rfl)
theorem dX0_detention_118 : decode cX0_detention 118 = .ok (.iload 5, 2) := dk_21 5 (dk_at dksX0_detention_5 0 rfl rfl)
theorem dX0_detention_120 : decode cX0_detention 120 = .ok (.iaload, 1) := dk_46 (dk_at dksX0_detention_5 2 rfl rfl)
theorem dX0_detention_121 : decode cX0_detention 121 = .ok (.iload 6, 2) := dk_21 6 (dk_at dksX0_detention_5 3 rfl rfl)
theorem dX0_detention_123 : decode cX0_detention 123 = .ok (.iload 6, 2) := dk_21 6 (dk_at dksX0_detention_5 5 rfl rfl)
theorem dX0_detention_125 : decode cX0_detention 125 = .ok (.invokevirtual 320, 3) := dk_182 1 64 (dk_at dksX0_detention_5 7 rfl rfl)
theorem dX0_detention_128 : decode cX0_detention 128 = .ok (.i2l, 1) := dk_133 (dk_at dksX0_detention_5 10 rfl rfl)
theorem dX0_detention_129 : decode cX0_detention 129 = .ok (.lmul, 1) := dk_105 (dk_at dksX0_detention_5 11 rfl rfl)
theorem dX0_detention_130 : decode cX0_detention 130 = .ok (.ladd, 1) := dk_97 (dk_at dksX0_detention_5 12 rfl rfl)
theorem dX0_detention_131 : decode cX0_detention 131 = .ok (.lstore_n 2, 1) := dk_65 (dk_at dksX0_detention_5 13 rfl rfl)
theorem dX0_detention_132 : decode cX0_detention 132 = .ok (.iinc 5 1, 3) := dk_132 5 1 (dk_at dksX0_detention_5 14 rfl rfl)
theorem dX0_detention_135 : decode cX0_detention 135 = .ok (.goto (-117), 3) := dk_167 255 139 (dk_at dksX0_detention_5 17 rfl rfl)
theorem dX0_detention_138 : decode cX0_detention 138 = .ok (.aload_n 0, 1) := dk_42 (dk_at dksX0_detention_5 20 rfl rfl)
theorem dX0_detention_139 : decode cX0_detention 139 = .ok (.lload_n 2, 1) := dk_32 (dk_at dksX0_detention_5 21 rfl rfl)
theorem dX0_detention_140 : decode cX0_detention 140 = .ok (.putfield 336, 3) := dk_181 1 80 (dk_at dksX0_detention_6 0 rfl rfl)
theorem dX0_detention_143 : decode cX0_detention 143 = .ok (.iload 4, 2) := dk_21 4 (dk_at dksX0_detention_6 3 rfl rfl)
theorem dX0_detention_145 : decode cX0_detention 145 = .ok (.ireturn, 1) := dk_172 (dk_at dksX0_detention_6 5 rfl rfl)
abbrev cX0_leftAt : ByteArray := prog_1_method_59_code
def yX0_leftAt : MethodName := ⟨RX0, "leftAt", "(I)I"⟩
def dkwX0_leftAt_2 : List UInt8 := [180, 0, 81, 28, 46, 172, 132, 2, 1, 167, 255, 203, 42, 180, 0, 219, 172]
abbrev dktX0_leftAt_2 : List UInt8 := dkwX0_leftAt_2 ++ []
def dkwX0_leftAt_1 : List UInt8 := [160, 0, 30, 42, 180, 0, 78, 28, 46, 4, 159, 0, 13, 42, 180, 0, 78, 28, 46, 5, 160, 0, 10, 42]
abbrev dktX0_leftAt_1 : List UInt8 := dkwX0_leftAt_1 ++ dktX0_leftAt_2
def dkwX0_leftAt_0 : List UInt8 := [27, 4, 96, 61, 28, 42, 180, 0, 248, 162, 0, 51, 42, 180, 0, 75, 28, 46, 42, 180, 0, 75, 27, 46]
abbrev dktX0_leftAt_0 : List UInt8 := dkwX0_leftAt_0 ++ dktX0_leftAt_1
theorem dksX0_leftAt_0 : cX0_leftAt.data.toList.drop 0 = dktX0_leftAt_0 := by decide +kernel
theorem dksX0_leftAt_1 : cX0_leftAt.data.toList.drop 24 = dktX0_leftAt_1 := dk_seg dksX0_leftAt_0 24 rfl rfl
theorem dksX0_leftAt_2 : cX0_leftAt.data.toList.drop 48 = dktX0_leftAt_2 := dk_seg dksX0_leftAt_1 24 rfl rfl
theorem dX0_leftAt_0 : decode cX0_leftAt 0 = .ok (.iload_n 1, 1) := dk_27 (dk_at dksX0_leftAt_0 0 rfl rfl)
theorem dX0_leftAt_1 : decode cX0_leftAt 1 = .ok (.iconst 1, 1) := dk_4 (dk_at dksX0_leftAt_0 1 rfl rfl)
theorem dX0_leftAt_2 : decode cX0_leftAt 2 = .ok (.iadd, 1) := dk_96 (dk_at dksX0_leftAt_0 2 rfl rfl)
theorem dX0_leftAt_3 : decode cX0_leftAt 3 = .ok (.istore_n 2, 1) := dk_61 (dk_at dksX0_leftAt_0 3 rfl rfl)
theorem dX0_leftAt_4 : decode cX0_leftAt 4 = .ok (.iload_n 2, 1) := dk_28 (dk_at dksX0_leftAt_0 4 rfl rfl)
theorem dX0_leftAt_5 : decode cX0_leftAt 5 = .ok (.aload_n 0, 1) := dk_42 (dk_at dksX0_leftAt_0 5 rfl rfl)
theorem dX0_leftAt_6 : decode cX0_leftAt 6 = .ok (.getfield 248, 3) := dk_180 0 248 (dk_at dksX0_leftAt_0 6 rfl rfl)
theorem dX0_leftAt_9 : decode cX0_leftAt 9 = .ok (.if_icmp .ge 51, 3) := dk_162 0 51 (dk_at dksX0_leftAt_0 9 rfl rfl)
theorem dX0_leftAt_12 : decode cX0_leftAt 12 = .ok (.aload_n 0, 1) := dk_42 (dk_at dksX0_leftAt_0 12 rfl rfl)
theorem dX0_leftAt_13 : decode cX0_leftAt 13 = .ok (.getfield 75, 3) := dk_180 0 75 (dk_at dksX0_leftAt_0 13 rfl rfl)
theorem dX0_leftAt_16 : decode cX0_leftAt 16 = .ok (.iload_n 2, 1) := dk_28 (dk_at dksX0_leftAt_0 16 rfl rfl)
theorem dX0_leftAt_17 : decode cX0_leftAt 17 = .ok (.iaload, 1) := dk_46 (dk_at dksX0_leftAt_0 17 rfl rfl)
theorem dX0_leftAt_18 : decode cX0_leftAt 18 = .ok (.aload_n 0, 1) := dk_42 (dk_at dksX0_leftAt_0 18 rfl rfl)
theorem dX0_leftAt_19 : decode cX0_leftAt 19 = .ok (.getfield 75, 3) := dk_180 0 75 (dk_at dksX0_leftAt_0 19 rfl rfl)
theorem dX0_leftAt_22 : decode cX0_leftAt 22 = .ok (.iload_n 1, 1) := dk_27 (dk_at dksX0_leftAt_0 22 rfl rfl)
theorem dX0_leftAt_23 : decode cX0_leftAt 23 = .ok (.iaload, 1) := dk_46 (dk_at dksX0_leftAt_0 23 rfl rfl)
theorem dX0_leftAt_24 : decode cX0_leftAt 24 = .ok (.if_icmp .ne 30, 3) := dk_160 0 30 (dk_at dksX0_leftAt_1 0 rfl rfl)
theorem dX0_leftAt_27 : decode cX0_leftAt 27 = .ok (.aload_n 0, 1) := dk_42 (dk_at dksX0_leftAt_1 3 rfl rfl)
theorem dX0_leftAt_28 : decode cX0_leftAt 28 = .ok (.getfield 78, 3) := dk_180 0 78 (dk_at dksX0_leftAt_1 4 rfl rfl)
theorem dX0_leftAt_31 : decode cX0_leftAt 31 = .ok (.iload_n 2, 1) := dk_28 (dk_at dksX0_leftAt_1 7 rfl rfl)
theorem dX0_leftAt_32 : decode cX0_leftAt 32 = .ok (.iaload, 1) := dk_46 (dk_at dksX0_leftAt_1 8 rfl rfl)
theorem dX0_leftAt_33 : decode cX0_leftAt 33 = .ok (.iconst 1, 1) := dk_4 (dk_at dksX0_leftAt_1 9 rfl rfl)
theorem dX0_leftAt_34 : decode cX0_leftAt 34 = .ok (.if_icmp .eq 13, 3) := dk_159 0 13 (dk_at dksX0_leftAt_1 10 rfl rfl)
theorem dX0_leftAt_37 : decode cX0_leftAt 37 = .ok (.aload_n 0, 1) := dk_42 (dk_at dksX0_leftAt_1 13 rfl rfl)
theorem dX0_leftAt_38 : decode cX0_leftAt 38 = .ok (.getfield 78, 3) := dk_180 0 78 (dk_at dksX0_leftAt_1 14 rfl rfl)
theorem dX0_leftAt_41 : decode cX0_leftAt 41 = .ok (.iload_n 2, 1) := dk_28 (dk_at dksX0_leftAt_1 17 rfl rfl)
theorem dX0_leftAt_42 : decode cX0_leftAt 42 = .ok (.iaload, 1) := dk_46 (dk_at dksX0_leftAt_1 18 rfl rfl)
theorem dX0_leftAt_43 : decode cX0_leftAt 43 = .ok (.iconst 2, 1) := dk_5 (dk_at dksX0_leftAt_1 19 rfl rfl)
theorem dX0_leftAt_44 : decode cX0_leftAt 44 = .ok (.if_icmp .ne 10, 3) := dk_160 0 10 (dk_at dksX0_leftAt_1 20 rfl rfl)
theorem dX0_leftAt_47 : decode cX0_leftAt 47 = .ok (.aload_n 0, 1) := dk_42 (dk_at dksX0_leftAt_1 23 rfl rfl)
theorem dX0_leftAt_48 : decode cX0_leftAt 48 = .ok (.getfield 81, 3) := dk_180 0 81 (dk_at dksX0_leftAt_2 0 rfl rfl)
theorem dX0_leftAt_51 : decode cX0_leftAt 51 = .ok (.iload_n 2, 1) := dk_28 (dk_at dksX0_leftAt_2 3 rfl rfl)
theorem dX0_leftAt_52 : decode cX0_leftAt 52 = .ok (.iaload, 1) := dk_46 (dk_at dksX0_leftAt_2 4 rfl rfl)
theorem dX0_leftAt_53 : decode cX0_leftAt 53 = .ok (.ireturn, 1) := dk_172 (dk_at dksX0_leftAt_2 5 rfl rfl)
theorem dX0_leftAt_54 : decode cX0_leftAt 54 = .ok (.iinc 2 1, 3) := dk_132 2 1 (dk_at dksX0_leftAt_2 6 rfl rfl)
theorem dX0_leftAt_57 : decode cX0_leftAt 57 = .ok (.goto (-53), 3) := dk_167 255 203 (dk_at dksX0_leftAt_2 9 rfl rfl)
theorem dX0_leftAt_60 : decode cX0_leftAt 60 = .ok (.aload_n 0, 1) := dk_42 (dk_at dksX0_leftAt_2 12 rfl rfl)
theorem dX0_leftAt_61 : decode cX0_leftAt 61 = .ok (.getfield 219, 3) := dk_180 0 219 (dk_at dksX0_leftAt_2 13 rfl rfl)
theorem dX0_leftAt_64 : decode cX0_leftAt 64 = .ok (.ireturn, 1) := dk_172 (dk_at dksX0_leftAt_2 16 rfl rfl)
abbrev cX0_law : ByteArray := prog_1_method_61_code
def yX0_law : MethodName := ⟨RX0, "law", "(II)I"⟩
def dkwX0_law_1 : List UInt8 := [181, 0, 69, 42, 28, 181, 0, 72, 4, 172]
abbrev dktX0_law_1 : List UInt8 := dkwX0_law_1 ++ []
def dkwX0_law_0 : List UInt8 := [27, 3, 18, 251, 184, 0, 171, 153, 0, 13, 28, 3, 18, 251, 184, 0, 171, 154, 0, 5, 2, 172, 42, 27]
abbrev dktX0_law_0 : List UInt8 := dkwX0_law_0 ++ dktX0_law_1
theorem dksX0_law_0 : cX0_law.data.toList.drop 0 = dktX0_law_0 := by decide +kernel
theorem dksX0_law_1 : cX0_law.data.toList.drop 24 = dktX0_law_1 := dk_seg dksX0_law_0 24 rfl rfl
theorem dX0_law_0 : decode cX0_law 0 = .ok (.iload_n 1, 1) := dk_27 (dk_at dksX0_law_0 0 rfl rfl)
theorem dX0_law_1 : decode cX0_law 1 = .ok (.iconst 0, 1) := dk_3 (dk_at dksX0_law_0 1 rfl rfl)
theorem dX0_law_2 : decode cX0_law 2 = .ok (.ldc 251, 2) := dk_18 251 (dk_at dksX0_law_0 2 rfl rfl)
theorem dX0_law_4 : decode cX0_law 4 = .ok (.invokestatic 171, 3) := dk_184 0 171 (dk_at dksX0_law_0 4 rfl rfl)
theorem dX0_law_7 : decode cX0_law 7 = .ok (.ifCond .eq 13, 3) := dk_153 0 13 (dk_at dksX0_law_0 7 rfl rfl)
theorem dX0_law_10 : decode cX0_law 10 = .ok (.iload_n 2, 1) := dk_28 (dk_at dksX0_law_0 10 rfl rfl)
theorem dX0_law_11 : decode cX0_law 11 = .ok (.iconst 0, 1) := dk_3 (dk_at dksX0_law_0 11 rfl rfl)
theorem dX0_law_12 : decode cX0_law 12 = .ok (.ldc 251, 2) := dk_18 251 (dk_at dksX0_law_0 12 rfl rfl)
theorem dX0_law_14 : decode cX0_law 14 = .ok (.invokestatic 171, 3) := dk_184 0 171 (dk_at dksX0_law_0 14 rfl rfl)
theorem dX0_law_17 : decode cX0_law 17 = .ok (.ifCond .ne 5, 3) := dk_154 0 5 (dk_at dksX0_law_0 17 rfl rfl)
theorem dX0_law_20 : decode cX0_law 20 = .ok (.iconst (-1), 1) := dk_2 (dk_at dksX0_law_0 20 rfl rfl)
theorem dX0_law_21 : decode cX0_law 21 = .ok (.ireturn, 1) := dk_172 (dk_at dksX0_law_0 21 rfl rfl)
theorem dX0_law_22 : decode cX0_law 22 = .ok (.aload_n 0, 1) := dk_42 (dk_at dksX0_law_0 22 rfl rfl)
theorem dX0_law_23 : decode cX0_law 23 = .ok (.iload_n 1, 1) := dk_27 (dk_at dksX0_law_0 23 rfl rfl)
theorem dX0_law_24 : decode cX0_law 24 = .ok (.putfield 69, 3) := dk_181 0 69 (dk_at dksX0_law_1 0 rfl rfl)
theorem dX0_law_27 : decode cX0_law 27 = .ok (.aload_n 0, 1) := dk_42 (dk_at dksX0_law_1 3 rfl rfl)
theorem dX0_law_28 : decode cX0_law 28 = .ok (.iload_n 2, 1) := dk_28 (dk_at dksX0_law_1 4 rfl rfl)
theorem dX0_law_29 : decode cX0_law 29 = .ok (.putfield 72, 3) := dk_181 0 72 (dk_at dksX0_law_1 5 rfl rfl)
theorem dX0_law_32 : decode cX0_law 32 = .ok (.iconst 1, 1) := dk_4 (dk_at dksX0_law_1 8 rfl rfl)
theorem dX0_law_33 : decode cX0_law 33 = .ok (.ireturn, 1) := dk_172 (dk_at dksX0_law_1 9 rfl rfl)
abbrev cX0_load : ByteArray := prog_1_method_62_code
def yX0_load : MethodName := ⟨RX0, "load", "(III)I"⟩
def dkwX0_load_3 : List UInt8 := [25, 4, 180, 1, 32, 29, 79, 25, 4, 89, 180, 1, 32, 4, 96, 181, 1, 32, 25, 4, 180, 1, 32, 172]
abbrev dktX0_load_3 : List UInt8 := dkwX0_load_3 ++ []
def dkwX0_load_2 : List UInt8 := [160, 0, 6, 16, 254, 172, 25, 4, 180, 1, 86, 25, 4, 180, 1, 32, 28, 79, 25, 4, 180, 1, 89]
abbrev dktX0_load_2 : List UInt8 := dkwX0_load_2 ++ dktX0_load_3
def dkwX0_load_1 : List UInt8 := [184, 0, 171, 154, 0, 5, 2, 172, 42, 180, 0, 65, 27, 50, 58, 4, 25, 4, 180, 1, 32, 16, 6]
abbrev dktX0_load_1 : List UInt8 := dkwX0_load_1 ++ dktX0_load_2
def dkwX0_load_0 : List UInt8 := [42, 27, 182, 1, 38, 153, 0, 25, 28, 4, 17, 78, 32, 184, 0, 171, 153, 0, 14, 29, 3, 17, 0, 130]
abbrev dktX0_load_0 : List UInt8 := dkwX0_load_0 ++ dktX0_load_1
theorem dksX0_load_0 : cX0_load.data.toList.drop 0 = dktX0_load_0 := by decide +kernel
theorem dksX0_load_1 : cX0_load.data.toList.drop 24 = dktX0_load_1 := dk_seg dksX0_load_0 24 rfl rfl
theorem dksX0_load_2 : cX0_load.data.toList.drop 47 = dktX0_load_2 := dk_seg dksX0_load_1 23 rfl rfl
theorem dksX0_load_3 : cX0_load.data.toList.drop 70 = dktX0_load_3 := dk_seg dksX0_load_2 23 rfl rfl
theorem dX0_load_0 : decode cX0_load 0 = .ok (.aload_n 0, 1) := dk_42 (dk_at dksX0_load_0 0 rfl rfl)
theorem dX0_load_1 : decode cX0_load 1 = .ok (.iload_n 1, 1) := dk_27 (dk_at dksX0_load_0 1 rfl rfl)
theorem dX0_load_2 : decode cX0_load 2 = .ok (.invokevirtual 294, 3) := dk_182 1 38 (dk_at dksX0_load_0 2 rfl rfl)
theorem dX0_load_5 : decode cX0_load 5 = .ok (.ifCond .eq 25, 3) := dk_153 0 25 (dk_at dksX0_load_0 5 rfl rfl)
theorem dX0_load_8 : decode cX0_load 8 = .ok (.iload_n 2, 1) := dk_28 (dk_at dksX0_load_0 8 rfl rfl)
theorem dX0_load_9 : decode cX0_load 9 = .ok (.iconst 1, 1) := dk_4 (dk_at dksX0_load_0 9 rfl rfl)
theorem dX0_load_10 : decode cX0_load 10 = .ok (.sipush 20000, 3) := dk_17 78 32 (dk_at dksX0_load_0 10 rfl rfl)
theorem dX0_load_13 : decode cX0_load 13 = .ok (.invokestatic 171, 3) := dk_184 0 171 (dk_at dksX0_load_0 13 rfl rfl)
theorem dX0_load_16 : decode cX0_load 16 = .ok (.ifCond .eq 14, 3) := dk_153 0 14 (dk_at dksX0_load_0 16 rfl rfl)
theorem dX0_load_19 : decode cX0_load 19 = .ok (.iload_n 3, 1) := dk_29 (dk_at dksX0_load_0 19 rfl rfl)
theorem dX0_load_20 : decode cX0_load 20 = .ok (.iconst 0, 1) := dk_3 (dk_at dksX0_load_0 20 rfl rfl)
theorem dX0_load_21 : decode cX0_load 21 = .ok (.sipush 130, 3) := dk_17 0 130 (dk_at dksX0_load_0 21 rfl rfl)
theorem dX0_load_24 : decode cX0_load 24 = .ok (.invokestatic 171, 3) := dk_184 0 171 (dk_at dksX0_load_1 0 rfl rfl)
theorem dX0_load_27 : decode cX0_load 27 = .ok (.ifCond .ne 5, 3) := dk_154 0 5 (dk_at dksX0_load_1 3 rfl rfl)
theorem dX0_load_30 : decode cX0_load 30 = .ok (.iconst (-1), 1) := dk_2 (dk_at dksX0_load_1 6 rfl rfl)
theorem dX0_load_31 : decode cX0_load 31 = .ok (.ireturn, 1) := dk_172 (dk_at dksX0_load_1 7 rfl rfl)
theorem dX0_load_32 : decode cX0_load 32 = .ok (.aload_n 0, 1) := dk_42 (dk_at dksX0_load_1 8 rfl rfl)
theorem dX0_load_33 : decode cX0_load 33 = .ok (.getfield 65, 3) := dk_180 0 65 (dk_at dksX0_load_1 9 rfl rfl)
theorem dX0_load_36 : decode cX0_load 36 = .ok (.iload_n 1, 1) := dk_27 (dk_at dksX0_load_1 12 rfl rfl)
theorem dX0_load_37 : decode cX0_load 37 = .ok (.aaload, 1) := dk_50 (dk_at dksX0_load_1 13 rfl rfl)
theorem dX0_load_38 : decode cX0_load 38 = .ok (.astore 4, 2) := dk_58 4 (dk_at dksX0_load_1 14 rfl rfl)
theorem dX0_load_40 : decode cX0_load 40 = .ok (.aload 4, 2) := dk_25 4 (dk_at dksX0_load_1 16 rfl rfl)
theorem dX0_load_42 : decode cX0_load 42 = .ok (.getfield 288, 3) := dk_180 1 32 (dk_at dksX0_load_1 18 rfl rfl)
theorem dX0_load_45 : decode cX0_load 45 = .ok (.bipush 6, 2) := dk_16 6 (dk_at dksX0_load_1 21 rfl rfl)
theorem dX0_load_47 : decode cX0_load 47 = .ok (.if_icmp .ne 6, 3) := dk_160 0 6 (dk_at dksX0_load_2 0 rfl rfl)
theorem dX0_load_50 : decode cX0_load 50 = .ok (.bipush (-2), 2) := dk_16 254 (dk_at dksX0_load_2 3 rfl rfl)
theorem dX0_load_52 : decode cX0_load 52 = .ok (.ireturn, 1) := dk_172 (dk_at dksX0_load_2 5 rfl rfl)
theorem dX0_load_53 : decode cX0_load 53 = .ok (.aload 4, 2) := dk_25 4 (dk_at dksX0_load_2 6 rfl rfl)
theorem dX0_load_55 : decode cX0_load 55 = .ok (.getfield 342, 3) := dk_180 1 86 (dk_at dksX0_load_2 8 rfl rfl)
theorem dX0_load_58 : decode cX0_load 58 = .ok (.aload 4, 2) := dk_25 4 (dk_at dksX0_load_2 11 rfl rfl)
theorem dX0_load_60 : decode cX0_load 60 = .ok (.getfield 288, 3) := dk_180 1 32 (dk_at dksX0_load_2 13 rfl rfl)
theorem dX0_load_63 : decode cX0_load 63 = .ok (.iload_n 2, 1) := dk_28 (dk_at dksX0_load_2 16 rfl rfl)
theorem dX0_load_64 : decode cX0_load 64 = .ok (.iastore, 1) := dk_79 (dk_at dksX0_load_2 17 rfl rfl)
theorem dX0_load_65 : decode cX0_load 65 = .ok (.aload 4, 2) := dk_25 4 (dk_at dksX0_load_2 18 rfl rfl)
theorem dX0_load_67 : decode cX0_load 67 = .ok (.getfield 345, 3) := dk_180 1 89 (dk_at dksX0_load_2 20 rfl rfl)
theorem dX0_load_70 : decode cX0_load 70 = .ok (.aload 4, 2) := dk_25 4 (dk_at dksX0_load_3 0 rfl rfl)
theorem dX0_load_72 : decode cX0_load 72 = .ok (.getfield 288, 3) := dk_180 1 32 (dk_at dksX0_load_3 2 rfl rfl)
theorem dX0_load_75 : decode cX0_load 75 = .ok (.iload_n 3, 1) := dk_29 (dk_at dksX0_load_3 5 rfl rfl)
theorem dX0_load_76 : decode cX0_load 76 = .ok (.iastore, 1) := dk_79 (dk_at dksX0_load_3 6 rfl rfl)
theorem dX0_load_77 : decode cX0_load 77 = .ok (.aload 4, 2) := dk_25 4 (dk_at dksX0_load_3 7 rfl rfl)
theorem dX0_load_79 : decode cX0_load 79 = .ok (.dup, 1) := dk_89 (dk_at dksX0_load_3 9 rfl rfl)
theorem dX0_load_80 : decode cX0_load 80 = .ok (.getfield 288, 3) := dk_180 1 32 (dk_at dksX0_load_3 10 rfl rfl)
theorem dX0_load_83 : decode cX0_load 83 = .ok (.iconst 1, 1) := dk_4 (dk_at dksX0_load_3 13 rfl rfl)
theorem dX0_load_84 : decode cX0_load 84 = .ok (.iadd, 1) := dk_96 (dk_at dksX0_load_3 14 rfl rfl)
theorem dX0_load_85 : decode cX0_load 85 = .ok (.putfield 288, 3) := dk_181 1 32 (dk_at dksX0_load_3 15 rfl rfl)
theorem dX0_load_88 : decode cX0_load 88 = .ok (.aload 4, 2) := dk_25 4 (dk_at dksX0_load_3 18 rfl rfl)
theorem dX0_load_90 : decode cX0_load 90 = .ok (.getfield 288, 3) := dk_180 1 32 (dk_at dksX0_load_3 20 rfl rfl)
theorem dX0_load_93 : decode cX0_load 93 = .ok (.ireturn, 1) := dk_172 (dk_at dksX0_load_3 23 rfl rfl)
abbrev cX0_unload : ByteArray := prog_1_method_63_code
def yX0_unload : MethodName := ⟨RX0, "unload", "(I)I"⟩
def dkwX0_unload_1 : List UInt8 := [27, 50, 3, 181, 1, 32, 28, 172]
abbrev dktX0_unload_1 : List UInt8 := dkwX0_unload_1 ++ []
def dkwX0_unload_0 : List UInt8 := [42, 27, 182, 1, 38, 154, 0, 5, 2, 172, 42, 180, 0, 65, 27, 50, 180, 1, 32, 61, 42, 180, 0, 65]
abbrev dktX0_unload_0 : List UInt8 := dkwX0_unload_0 ++ dktX0_unload_1
theorem dksX0_unload_0 : cX0_unload.data.toList.drop 0 = dktX0_unload_0 := by decide +kernel
theorem dksX0_unload_1 : cX0_unload.data.toList.drop 24 = dktX0_unload_1 := dk_seg dksX0_unload_0 24 rfl rfl
theorem dX0_unload_0 : decode cX0_unload 0 = .ok (.aload_n 0, 1) := dk_42 (dk_at dksX0_unload_0 0 rfl rfl)
theorem dX0_unload_1 : decode cX0_unload 1 = .ok (.iload_n 1, 1) := dk_27 (dk_at dksX0_unload_0 1 rfl rfl)
theorem dX0_unload_2 : decode cX0_unload 2 = .ok (.invokevirtual 294, 3) := dk_182 1 38 (dk_at dksX0_unload_0 2 rfl rfl)
theorem dX0_unload_5 : decode cX0_unload 5 = .ok (.ifCond .ne 5, 3) := dk_154 0 5 (dk_at dksX0_unload_0 5 rfl rfl)
theorem dX0_unload_8 : decode cX0_unload 8 = .ok (.iconst (-1), 1) := dk_2 (dk_at dksX0_unload_0 8 rfl rfl)
theorem dX0_unload_9 : decode cX0_unload 9 = .ok (.ireturn, 1) := dk_172 (dk_at dksX0_unload_0 9 rfl rfl)
theorem dX0_unload_10 : decode cX0_unload 10 = .ok (.aload_n 0, 1) := dk_42 (dk_at dksX0_unload_0 10 rfl rfl)
theorem dX0_unload_11 : decode cX0_unload 11 = .ok (.getfield 65, 3) := dk_180 0 65 (dk_at dksX0_unload_0 11 rfl rfl)
theorem dX0_unload_14 : decode cX0_unload 14 = .ok (.iload_n 1, 1) := dk_27 (dk_at dksX0_unload_0 14 rfl rfl)
theorem dX0_unload_15 : decode cX0_unload 15 = .ok (.aaload, 1) := dk_50 (dk_at dksX0_unload_0 15 rfl rfl)
theorem dX0_unload_16 : decode cX0_unload 16 = .ok (.getfield 288, 3) := dk_180 1 32 (dk_at dksX0_unload_0 16 rfl rfl)
theorem dX0_unload_19 : decode cX0_unload 19 = .ok (.istore_n 2, 1) := dk_61 (dk_at dksX0_unload_0 19 rfl rfl)
theorem dX0_unload_20 : decode cX0_unload 20 = .ok (.aload_n 0, 1) := dk_42 (dk_at dksX0_unload_0 20 rfl rfl)
theorem dX0_unload_21 : decode cX0_unload 21 = .ok (.getfield 65, 3) := dk_180 0 65 (dk_at dksX0_unload_0 21 rfl rfl)
theorem dX0_unload_24 : decode cX0_unload 24 = .ok (.iload_n 1, 1) := dk_27 (dk_at dksX0_unload_1 0 rfl rfl)
theorem dX0_unload_25 : decode cX0_unload 25 = .ok (.aaload, 1) := dk_50 (dk_at dksX0_unload_1 1 rfl rfl)
theorem dX0_unload_26 : decode cX0_unload 26 = .ok (.iconst 0, 1) := dk_3 (dk_at dksX0_unload_1 2 rfl rfl)
theorem dX0_unload_27 : decode cX0_unload 27 = .ok (.putfield 288, 3) := dk_181 1 32 (dk_at dksX0_unload_1 3 rfl rfl)
theorem dX0_unload_30 : decode cX0_unload 30 = .ok (.iload_n 2, 1) := dk_28 (dk_at dksX0_unload_1 6 rfl rfl)
theorem dX0_unload_31 : decode cX0_unload 31 = .ok (.ireturn, 1) := dk_172 (dk_at dksX0_unload_1 7 rfl rfl)
abbrev cX0_slide : ByteArray := prog_1_method_64_code
def yX0_slide : MethodName := ⟨RX0, "slide", "(II)I"⟩
def dkwX0_slide_1 : List UInt8 := [180, 0, 65, 27, 50, 180, 1, 29, 62, 42, 180, 0, 65, 27, 50, 28, 181, 1, 29, 29, 172]
abbrev dktX0_slide_1 : List UInt8 := dkwX0_slide_1 ++ []
def dkwX0_slide_0 : List UInt8 := [42, 27, 182, 1, 38, 153, 0, 14, 28, 16, 60, 16, 120, 184, 0, 171, 154, 0, 5, 2, 172, 42]
abbrev dktX0_slide_0 : List UInt8 := dkwX0_slide_0 ++ dktX0_slide_1
theorem dksX0_slide_0 : cX0_slide.data.toList.drop 0 = dktX0_slide_0 := by decide +kernel
theorem dksX0_slide_1 : cX0_slide.data.toList.drop 22 = dktX0_slide_1 := dk_seg dksX0_slide_0 22 rfl rfl
theorem dX0_slide_0 : decode cX0_slide 0 = .ok (.aload_n 0, 1) := dk_42 (dk_at dksX0_slide_0 0 rfl rfl)
theorem dX0_slide_1 : decode cX0_slide 1 = .ok (.iload_n 1, 1) := dk_27 (dk_at dksX0_slide_0 1 rfl rfl)
theorem dX0_slide_2 : decode cX0_slide 2 = .ok (.invokevirtual 294, 3) := dk_182 1 38 (dk_at dksX0_slide_0 2 rfl rfl)
theorem dX0_slide_5 : decode cX0_slide 5 = .ok (.ifCond .eq 14, 3) := dk_153 0 14 (dk_at dksX0_slide_0 5 rfl rfl)
theorem dX0_slide_8 : decode cX0_slide 8 = .ok (.iload_n 2, 1) := dk_28 (dk_at dksX0_slide_0 8 rfl rfl)
theorem dX0_slide_9 : decode cX0_slide 9 = .ok (.bipush 60, 2) := dk_16 60 (dk_at dksX0_slide_0 9 rfl rfl)
theorem dX0_slide_11 : decode cX0_slide 11 = .ok (.bipush 120, 2) := dk_16 120 (dk_at dksX0_slide_0 11 rfl rfl)
theorem dX0_slide_13 : decode cX0_slide 13 = .ok (.invokestatic 171, 3) := dk_184 0 171 (dk_at dksX0_slide_0 13 rfl rfl)
theorem dX0_slide_16 : decode cX0_slide 16 = .ok (.ifCond .ne 5, 3) := dk_154 0 5 (dk_at dksX0_slide_0 16 rfl rfl)
theorem dX0_slide_19 : decode cX0_slide 19 = .ok (.iconst (-1), 1) := dk_2 (dk_at dksX0_slide_0 19 rfl rfl)
theorem dX0_slide_20 : decode cX0_slide 20 = .ok (.ireturn, 1) := dk_172 (dk_at dksX0_slide_0 20 rfl rfl)
theorem dX0_slide_21 : decode cX0_slide 21 = .ok (.aload_n 0, 1) := dk_42 (dk_at dksX0_slide_0 21 rfl rfl)
theorem dX0_slide_22 : decode cX0_slide 22 = .ok (.getfield 65, 3) := dk_180 0 65 (dk_at dksX0_slide_1 0 rfl rfl)
theorem dX0_slide_25 : decode cX0_slide 25 = .ok (.iload_n 1, 1) := dk_27 (dk_at dksX0_slide_1 3 rfl rfl)
theorem dX0_slide_26 : decode cX0_slide 26 = .ok (.aaload, 1) := dk_50 (dk_at dksX0_slide_1 4 rfl rfl)
theorem dX0_slide_27 : decode cX0_slide 27 = .ok (.getfield 285, 3) := dk_180 1 29 (dk_at dksX0_slide_1 5 rfl rfl)
theorem dX0_slide_30 : decode cX0_slide 30 = .ok (.istore_n 3, 1) := dk_62 (dk_at dksX0_slide_1 8 rfl rfl)
theorem dX0_slide_31 : decode cX0_slide 31 = .ok (.aload_n 0, 1) := dk_42 (dk_at dksX0_slide_1 9 rfl rfl)
theorem dX0_slide_32 : decode cX0_slide 32 = .ok (.getfield 65, 3) := dk_180 0 65 (dk_at dksX0_slide_1 10 rfl rfl)
theorem dX0_slide_35 : decode cX0_slide 35 = .ok (.iload_n 1, 1) := dk_27 (dk_at dksX0_slide_1 13 rfl rfl)
theorem dX0_slide_36 : decode cX0_slide 36 = .ok (.aaload, 1) := dk_50 (dk_at dksX0_slide_1 14 rfl rfl)
theorem dX0_slide_37 : decode cX0_slide 37 = .ok (.iload_n 2, 1) := dk_28 (dk_at dksX0_slide_1 15 rfl rfl)
theorem dX0_slide_38 : decode cX0_slide 38 = .ok (.putfield 285, 3) := dk_181 1 29 (dk_at dksX0_slide_1 16 rfl rfl)
theorem dX0_slide_41 : decode cX0_slide 41 = .ok (.iload_n 3, 1) := dk_29 (dk_at dksX0_slide_1 19 rfl rfl)
theorem dX0_slide_42 : decode cX0_slide 42 = .ok (.ireturn, 1) := dk_172 (dk_at dksX0_slide_1 20 rfl rfl)
abbrev cX0_weight : ByteArray := prog_1_method_65_code
def yX0_weight : MethodName := ⟨RX0, "weight", "(IZ)I"⟩
def dkwX0_weight_2 : List UInt8 := [180, 1, 29, 133, 4, 182, 1, 99, 172]
abbrev dktX0_weight_2 : List UInt8 := dkwX0_weight_2 ++ []
def dkwX0_weight_1 : List UInt8 := [28, 153, 0, 19, 45, 182, 1, 96, 45, 180, 1, 29, 133, 105, 22, 4, 101, 167, 0, 5, 22, 4, 45]
abbrev dktX0_weight_1 : List UInt8 := dkwX0_weight_1 ++ dktX0_weight_2
def dkwX0_weight_0 : List UInt8 := [42, 27, 182, 1, 38, 154, 0, 5, 2, 172, 42, 180, 0, 65, 27, 50, 78, 45, 182, 1, 92, 55, 4, 42]
abbrev dktX0_weight_0 : List UInt8 := dkwX0_weight_0 ++ dktX0_weight_1
theorem dksX0_weight_0 : cX0_weight.data.toList.drop 0 = dktX0_weight_0 := by decide +kernel
theorem dksX0_weight_1 : cX0_weight.data.toList.drop 24 = dktX0_weight_1 := dk_seg dksX0_weight_0 24 rfl rfl
theorem dksX0_weight_2 : cX0_weight.data.toList.drop 47 = dktX0_weight_2 := dk_seg dksX0_weight_1 23 rfl rfl
theorem dX0_weight_0 : decode cX0_weight 0 = .ok (.aload_n 0, 1) := dk_42 (dk_at dksX0_weight_0 0 rfl rfl)
theorem dX0_weight_1 : decode cX0_weight 1 = .ok (.iload_n 1, 1) := dk_27 (dk_at dksX0_weight_0 1 rfl rfl)
theorem dX0_weight_2 : decode cX0_weight 2 = .ok (.invokevirtual 294, 3) := dk_182 1 38 (dk_at dksX0_weight_0 2 rfl rfl)
theorem dX0_weight_5 : decode cX0_weight 5 = .ok (.ifCond .ne 5, 3) := dk_154 0 5 (dk_at dksX0_weight_0 5 rfl rfl)
theorem dX0_weight_8 : decode cX0_weight 8 = .ok (.iconst (-1), 1) := dk_2 (dk_at dksX0_weight_0 8 rfl rfl)
theorem dX0_weight_9 : decode cX0_weight 9 = .ok (.ireturn, 1) := dk_172 (dk_at dksX0_weight_0 9 rfl rfl)
theorem dX0_weight_10 : decode cX0_weight 10 = .ok (.aload_n 0, 1) := dk_42 (dk_at dksX0_weight_0 10 rfl rfl)
theorem dX0_weight_11 : decode cX0_weight 11 = .ok (.getfield 65, 3) := dk_180 0 65 (dk_at dksX0_weight_0 11 rfl rfl)
theorem dX0_weight_14 : decode cX0_weight 14 = .ok (.iload_n 1, 1) := dk_27 (dk_at dksX0_weight_0 14 rfl rfl)
theorem dX0_weight_15 : decode cX0_weight 15 = .ok (.aaload, 1) := dk_50 (dk_at dksX0_weight_0 15 rfl rfl)
theorem dX0_weight_16 : decode cX0_weight 16 = .ok (.astore_n 3, 1) := dk_78 (dk_at dksX0_weight_0 16 rfl rfl)
theorem dX0_weight_17 : decode cX0_weight 17 = .ok (.aload_n 3, 1) := dk_45 (dk_at dksX0_weight_0 17 rfl rfl)
theorem dX0_weight_18 : decode cX0_weight 18 = .ok (.invokevirtual 348, 3) := dk_182 1 92 (dk_at dksX0_weight_0 18 rfl rfl)
theorem dX0_weight_21 : decode cX0_weight 21 = .ok (.lstore 4, 2) := dk_55 4 (dk_at dksX0_weight_0 21 rfl rfl)
theorem dX0_weight_23 : decode cX0_weight 23 = .ok (.aload_n 0, 1) := dk_42 (dk_at dksX0_weight_0 23 rfl rfl)
theorem dX0_weight_24 : decode cX0_weight 24 = .ok (.iload_n 2, 1) := dk_28 (dk_at dksX0_weight_1 0 rfl rfl)
theorem dX0_weight_25 : decode cX0_weight 25 = .ok (.ifCond .eq 19, 3) := dk_153 0 19 (dk_at dksX0_weight_1 1 rfl rfl)
theorem dX0_weight_28 : decode cX0_weight 28 = .ok (.aload_n 3, 1) := dk_45 (dk_at dksX0_weight_1 4 rfl rfl)
theorem dX0_weight_29 : decode cX0_weight 29 = .ok (.invokevirtual 352, 3) := dk_182 1 96 (dk_at dksX0_weight_1 5 rfl rfl)
theorem dX0_weight_32 : decode cX0_weight 32 = .ok (.aload_n 3, 1) := dk_45 (dk_at dksX0_weight_1 8 rfl rfl)
theorem dX0_weight_33 : decode cX0_weight 33 = .ok (.getfield 285, 3) := dk_180 1 29 (dk_at dksX0_weight_1 9 rfl rfl)
theorem dX0_weight_36 : decode cX0_weight 36 = .ok (.i2l, 1) := dk_133 (dk_at dksX0_weight_1 12 rfl rfl)
theorem dX0_weight_37 : decode cX0_weight 37 = .ok (.lmul, 1) := dk_105 (dk_at dksX0_weight_1 13 rfl rfl)
theorem dX0_weight_38 : decode cX0_weight 38 = .ok (.lload 4, 2) := dk_22 4 (dk_at dksX0_weight_1 14 rfl rfl)
theorem dX0_weight_40 : decode cX0_weight 40 = .ok (.lsub, 1) := dk_101 (dk_at dksX0_weight_1 16 rfl rfl)
theorem dX0_weight_41 : decode cX0_weight 41 = .ok (.goto 5, 3) := dk_167 0 5 (dk_at dksX0_weight_1 17 rfl rfl)
theorem dX0_weight_44 : decode cX0_weight 44 = .ok (.lload 4, 2) := dk_22 4 (dk_at dksX0_weight_1 20 rfl rfl)
theorem dX0_weight_46 : decode cX0_weight 46 = .ok (.aload_n 3, 1) := dk_45 (dk_at dksX0_weight_1 22 rfl rfl)
theorem dX0_weight_47 : decode cX0_weight 47 = .ok (.getfield 285, 3) := dk_180 1 29 (dk_at dksX0_weight_2 0 rfl rfl)
theorem dX0_weight_50 : decode cX0_weight 50 = .ok (.i2l, 1) := dk_133 (dk_at dksX0_weight_2 3 rfl rfl)
theorem dX0_weight_51 : decode cX0_weight 51 = .ok (.iconst 1, 1) := dk_4 (dk_at dksX0_weight_2 4 rfl rfl)
theorem dX0_weight_52 : decode cX0_weight 52 = .ok (.invokevirtual 355, 3) := dk_182 1 99 (dk_at dksX0_weight_2 5 rfl rfl)
theorem dX0_weight_55 : decode cX0_weight 55 = .ok (.ireturn, 1) := dk_172 (dk_at dksX0_weight_2 8 rfl rfl)
abbrev cX0_fraction : ByteArray := prog_1_method_6_code
def yX0_fraction : MethodName := ⟨RX0, "fraction", "(JJI)I"⟩
def dkwX0_fraction_2 : List UInt8 := [181, 0, 20, 21, 5, 172]
abbrev dktX0_fraction_2 : List UInt8 := dkwX0_fraction_2 ++ []
def dkwX0_fraction_1 : List UInt8 := [22, 8, 55, 6, 22, 10, 55, 8, 167, 255, 234, 42, 31, 22, 6, 109, 181, 0, 168, 42, 33, 22, 6, 109]
abbrev dktX0_fraction_1 : List UInt8 := dkwX0_fraction_1 ++ dktX0_fraction_2
def dkwX0_fraction_0 : List UInt8 := [31, 184, 0, 162, 55, 6, 33, 55, 8, 22, 8, 9, 148, 153, 0, 21, 22, 6, 22, 8, 113, 55, 10]
abbrev dktX0_fraction_0 : List UInt8 := dkwX0_fraction_0 ++ dktX0_fraction_1
theorem dksX0_fraction_0 : cX0_fraction.data.toList.drop 0 = dktX0_fraction_0 := by decide +kernel
theorem dksX0_fraction_1 : cX0_fraction.data.toList.drop 23 = dktX0_fraction_1 := dk_seg dksX0_fraction_0 23 rfl rfl
theorem dksX0_fraction_2 : cX0_fraction.data.toList.drop 47 = dktX0_fraction_2 := dk_seg dksX0_fraction_1 24 rfl rfl
theorem dX0_fraction_0 : decode cX0_fraction 0 = .ok (.lload_n 1, 1) := dk_31 (dk_at dksX0_fraction_0 0 rfl rfl)
theorem dX0_fraction_1 : decode cX0_fraction 1 = .ok (.invokestatic 162, 3) := dk_184 0 162 (dk_at dksX0_fraction_0 1 rfl rfl)
theorem dX0_fraction_4 : decode cX0_fraction 4 = .ok (.lstore 6, 2) := dk_55 6 (dk_at dksX0_fraction_0 4 rfl rfl)
theorem dX0_fraction_6 : decode cX0_fraction 6 = .ok (.lload_n 3, 1) := dk_33 (dk_at dksX0_fraction_0 6 rfl rfl)
theorem dX0_fraction_7 : decode cX0_fraction 7 = .ok (.lstore 8, 2) := dk_55 8 (dk_at dksX0_fraction_0 7 rfl rfl)
theorem dX0_fraction_9 : decode cX0_fraction 9 = .ok (.lload 8, 2) := dk_22 8 (dk_at dksX0_fraction_0 9 rfl rfl)
theorem dX0_fraction_11 : decode cX0_fraction 11 = .ok (.lconst 0, 1) := dk_9 (dk_at dksX0_fraction_0 11 rfl rfl)
theorem dX0_fraction_12 : decode cX0_fraction 12 = .ok (.lcmp, 1) := dk_148 (dk_at dksX0_fraction_0 12 rfl rfl)
theorem dX0_fraction_13 : decode cX0_fraction 13 = .ok (.ifCond .eq 21, 3) := dk_153 0 21 (dk_at dksX0_fraction_0 13 rfl rfl)
theorem dX0_fraction_16 : decode cX0_fraction 16 = .ok (.lload 6, 2) := dk_22 6 (dk_at dksX0_fraction_0 16 rfl rfl)
theorem dX0_fraction_18 : decode cX0_fraction 18 = .ok (.lload 8, 2) := dk_22 8 (dk_at dksX0_fraction_0 18 rfl rfl)
theorem dX0_fraction_20 : decode cX0_fraction 20 = .ok (.lrem, 1) := dk_113 (dk_at dksX0_fraction_0 20 rfl rfl)
theorem dX0_fraction_21 : decode cX0_fraction 21 = .ok (.lstore 10, 2) := dk_55 10 (dk_at dksX0_fraction_0 21 rfl rfl)
theorem dX0_fraction_23 : decode cX0_fraction 23 = .ok (.lload 8, 2) := dk_22 8 (dk_at dksX0_fraction_1 0 rfl rfl)
theorem dX0_fraction_25 : decode cX0_fraction 25 = .ok (.lstore 6, 2) := dk_55 6 (dk_at dksX0_fraction_1 2 rfl rfl)
theorem dX0_fraction_27 : decode cX0_fraction 27 = .ok (.lload 10, 2) := dk_22 10 (dk_at dksX0_fraction_1 4 rfl rfl)
theorem dX0_fraction_29 : decode cX0_fraction 29 = .ok (.lstore 8, 2) := dk_55 8 (dk_at dksX0_fraction_1 6 rfl rfl)
theorem dX0_fraction_31 : decode cX0_fraction 31 = .ok (.goto (-22), 3) := dk_167 255 234 (dk_at dksX0_fraction_1 8 rfl rfl)
theorem dX0_fraction_34 : decode cX0_fraction 34 = .ok (.aload_n 0, 1) := dk_42 (dk_at dksX0_fraction_1 11 rfl rfl)
theorem dX0_fraction_35 : decode cX0_fraction 35 = .ok (.lload_n 1, 1) := dk_31 (dk_at dksX0_fraction_1 12 rfl rfl)
theorem dX0_fraction_36 : decode cX0_fraction 36 = .ok (.lload 6, 2) := dk_22 6 (dk_at dksX0_fraction_1 13 rfl rfl)
theorem dX0_fraction_38 : decode cX0_fraction 38 = .ok (.ldiv, 1) := dk_109 (dk_at dksX0_fraction_1 15 rfl rfl)
theorem dX0_fraction_39 : decode cX0_fraction 39 = .ok (.putfield 168, 3) := dk_181 0 168 (dk_at dksX0_fraction_1 16 rfl rfl)
theorem dX0_fraction_42 : decode cX0_fraction 42 = .ok (.aload_n 0, 1) := dk_42 (dk_at dksX0_fraction_1 19 rfl rfl)
theorem dX0_fraction_43 : decode cX0_fraction 43 = .ok (.lload_n 3, 1) := dk_33 (dk_at dksX0_fraction_1 20 rfl rfl)
theorem dX0_fraction_44 : decode cX0_fraction 44 = .ok (.lload 6, 2) := dk_22 6 (dk_at dksX0_fraction_1 21 rfl rfl)
theorem dX0_fraction_46 : decode cX0_fraction 46 = .ok (.ldiv, 1) := dk_109 (dk_at dksX0_fraction_1 23 rfl rfl)
theorem dX0_fraction_47 : decode cX0_fraction 47 = .ok (.putfield 20, 3) := dk_181 0 20 (dk_at dksX0_fraction_2 0 rfl rfl)
theorem dX0_fraction_50 : decode cX0_fraction 50 = .ok (.iload 5, 2) := dk_21 5 (dk_at dksX0_fraction_2 3 rfl rfl)
theorem dX0_fraction_52 : decode cX0_fraction 52 = .ok (.ireturn, 1) := dk_172 (dk_at dksX0_fraction_2 5 rfl rfl)
abbrev cX0_lawful : ByteArray := prog_1_method_66_code
def yX0_lawful : MethodName := ⟨RX0, "lawful", "(I)I"⟩
def dkwX0_lawful_1 : List UInt8 := [180, 1, 29, 182, 1, 103, 153, 0, 7, 4, 167, 0, 4, 3, 172]
abbrev dktX0_lawful_1 : List UInt8 := dkwX0_lawful_1 ++ []
def dkwX0_lawful_0 : List UInt8 := [42, 27, 182, 1, 38, 154, 0, 7, 2, 167, 0, 29, 42, 180, 0, 65, 27, 50, 42, 180, 0, 65, 27, 50]
abbrev dktX0_lawful_0 : List UInt8 := dkwX0_lawful_0 ++ dktX0_lawful_1
theorem dksX0_lawful_0 : cX0_lawful.data.toList.drop 0 = dktX0_lawful_0 := by decide +kernel
theorem dksX0_lawful_1 : cX0_lawful.data.toList.drop 24 = dktX0_lawful_1 := dk_seg dksX0_lawful_0 24 rfl rfl
theorem dX0_lawful_0 : decode cX0_lawful 0 = .ok (.aload_n 0, 1) := dk_42 (dk_at dksX0_lawful_0 0 rfl rfl)
theorem dX0_lawful_1 : decode cX0_lawful 1 = .ok (.iload_n 1, 1) := dk_27 (dk_at dksX0_lawful_0 1 rfl rfl)
theorem dX0_lawful_2 : decode cX0_lawful 2 = .ok (.invokevirtual 294, 3) := dk_182 1 38 (dk_at dksX0_lawful_0 2 rfl rfl)
theorem dX0_lawful_5 : decode cX0_lawful 5 = .ok (.ifCond .ne 7, 3) := dk_154 0 7 (dk_at dksX0_lawful_0 5 rfl rfl)
theorem dX0_lawful_8 : decode cX0_lawful 8 = .ok (.iconst (-1), 1) := dk_2 (dk_at dksX0_lawful_0 8 rfl rfl)
theorem dX0_lawful_9 : decode cX0_lawful 9 = .ok (.goto 29, 3) := dk_167 0 29 (dk_at dksX0_lawful_0 9 rfl rfl)
theorem dX0_lawful_12 : decode cX0_lawful 12 = .ok (.aload_n 0, 1) := dk_42 (dk_at dksX0_lawful_0 12 rfl rfl)
theorem dX0_lawful_13 : decode cX0_lawful 13 = .ok (.getfield 65, 3) := dk_180 0 65 (dk_at dksX0_lawful_0 13 rfl rfl)
theorem dX0_lawful_16 : decode cX0_lawful 16 = .ok (.iload_n 1, 1) := dk_27 (dk_at dksX0_lawful_0 16 rfl rfl)
theorem dX0_lawful_17 : decode cX0_lawful 17 = .ok (.aaload, 1) := dk_50 (dk_at dksX0_lawful_0 17 rfl rfl)
theorem dX0_lawful_18 : decode cX0_lawful 18 = .ok (.aload_n 0, 1) := dk_42 (dk_at dksX0_lawful_0 18 rfl rfl)
theorem dX0_lawful_19 : decode cX0_lawful 19 = .ok (.getfield 65, 3) := dk_180 0 65 (dk_at dksX0_lawful_0 19 rfl rfl)
theorem dX0_lawful_22 : decode cX0_lawful 22 = .ok (.iload_n 1, 1) := dk_27 (dk_at dksX0_lawful_0 22 rfl rfl)
theorem dX0_lawful_23 : decode cX0_lawful 23 = .ok (.aaload, 1) := dk_50 (dk_at dksX0_lawful_0 23 rfl rfl)
theorem dX0_lawful_24 : decode cX0_lawful 24 = .ok (.getfield 285, 3) := dk_180 1 29 (dk_at dksX0_lawful_1 0 rfl rfl)
theorem dX0_lawful_27 : decode cX0_lawful 27 = .ok (.invokevirtual 359, 3) := dk_182 1 103 (dk_at dksX0_lawful_1 3 rfl rfl)
theorem dX0_lawful_30 : decode cX0_lawful 30 = .ok (.ifCond .eq 7, 3) := dk_153 0 7 (dk_at dksX0_lawful_1 6 rfl rfl)
theorem dX0_lawful_33 : decode cX0_lawful 33 = .ok (.iconst 1, 1) := dk_4 (dk_at dksX0_lawful_1 9 rfl rfl)
theorem dX0_lawful_34 : decode cX0_lawful 34 = .ok (.goto 4, 3) := dk_167 0 4 (dk_at dksX0_lawful_1 10 rfl rfl)
theorem dX0_lawful_37 : decode cX0_lawful 37 = .ok (.iconst 0, 1) := dk_3 (dk_at dksX0_lawful_1 13 rfl rfl)
theorem dX0_lawful_38 : decode cX0_lawful 38 = .ok (.ireturn, 1) := dk_172 (dk_at dksX0_lawful_1 14 rfl rfl)
abbrev cX0_shift : ByteArray := prog_1_method_67_code
def yX0_shift : MethodName := ⟨RX0, "shift", "(I)I"⟩
def dkwX0_shift_4 : List UInt8 := [16, 247, 172]
abbrev dktX0_shift_4 : List UInt8 := dkwX0_shift_4 ++ []
def dkwX0_shift_3 : List UInt8 := [180, 1, 29, 29, 96, 182, 1, 103, 153, 0, 10, 44, 180, 1, 29, 29, 96, 172, 132, 3, 1, 167, 255, 185]
abbrev dktX0_shift_3 : List UInt8 := dkwX0_shift_3 ++ dktX0_shift_4
def dkwX0_shift_2 : List UInt8 := [153, 0, 10, 44, 180, 1, 29, 29, 100, 172, 44, 180, 1, 29, 29, 96, 16, 120, 163, 0, 23, 44, 44]
abbrev dktX0_shift_2 : List UInt8 := dkwX0_shift_2 ++ dktX0_shift_3
def dkwX0_shift_1 : List UInt8 := [163, 0, 71, 44, 180, 1, 29, 29, 100, 16, 60, 161, 0, 23, 44, 44, 180, 1, 29, 29, 100, 182, 1, 103]
abbrev dktX0_shift_1 : List UInt8 := dkwX0_shift_1 ++ dktX0_shift_2
def dkwX0_shift_0 : List UInt8 := [42, 27, 182, 1, 38, 154, 0, 5, 2, 172, 42, 180, 0, 65, 27, 50, 77, 3, 62, 29, 16, 60]
abbrev dktX0_shift_0 : List UInt8 := dkwX0_shift_0 ++ dktX0_shift_1
theorem dksX0_shift_0 : cX0_shift.data.toList.drop 0 = dktX0_shift_0 := by decide +kernel
theorem dksX0_shift_1 : cX0_shift.data.toList.drop 22 = dktX0_shift_1 := dk_seg dksX0_shift_0 22 rfl rfl
theorem dksX0_shift_2 : cX0_shift.data.toList.drop 46 = dktX0_shift_2 := dk_seg dksX0_shift_1 24 rfl rfl
theorem dksX0_shift_3 : cX0_shift.data.toList.drop 69 = dktX0_shift_3 := dk_seg dksX0_shift_2 23 rfl rfl
theorem dksX0_shift_4 : cX0_shift.data.toList.drop 93 = dktX0_shift_4 := dk_seg dksX0_shift_3 24 rfl rfl
theorem dX0_shift_0 : decode cX0_shift 0 = .ok (.aload_n 0, 1) := dk_42 (dk_at dksX0_shift_0 0 rfl rfl)
theorem dX0_shift_1 : decode cX0_shift 1 = .ok (.iload_n 1, 1) := dk_27 (dk_at dksX0_shift_0 1 rfl rfl)
theorem dX0_shift_2 : decode cX0_shift 2 = .ok (.invokevirtual 294, 3) := dk_182 1 38 (dk_at dksX0_shift_0 2 rfl rfl)
theorem dX0_shift_5 : decode cX0_shift 5 = .ok (.ifCond .ne 5, 3) := dk_154 0 5 (dk_at dksX0_shift_0 5 rfl rfl)
theorem dX0_shift_8 : decode cX0_shift 8 = .ok (.iconst (-1), 1) := dk_2 (dk_at dksX0_shift_0 8 rfl rfl)
theorem dX0_shift_9 : decode cX0_shift 9 = .ok (.ireturn, 1) := dk_172 (dk_at dksX0_shift_0 9 rfl rfl)
theorem dX0_shift_10 : decode cX0_shift 10 = .ok (.aload_n 0, 1) := dk_42 (dk_at dksX0_shift_0 10 rfl rfl)
theorem dX0_shift_11 : decode cX0_shift 11 = .ok (.getfield 65, 3) := dk_180 0 65 (dk_at dksX0_shift_0 11 rfl rfl)
theorem dX0_shift_14 : decode cX0_shift 14 = .ok (.iload_n 1, 1) := dk_27 (dk_at dksX0_shift_0 14 rfl rfl)
theorem dX0_shift_15 : decode cX0_shift 15 = .ok (.aaload, 1) := dk_50 (dk_at dksX0_shift_0 15 rfl rfl)
theorem dX0_shift_16 : decode cX0_shift 16 = .ok (.astore_n 2, 1) := dk_77 (dk_at dksX0_shift_0 16 rfl rfl)
theorem dX0_shift_17 : decode cX0_shift 17 = .ok (.iconst 0, 1) := dk_3 (dk_at dksX0_shift_0 17 rfl rfl)
theorem dX0_shift_18 : decode cX0_shift 18 = .ok (.istore_n 3, 1) := dk_62 (dk_at dksX0_shift_0 18 rfl rfl)
theorem dX0_shift_19 : decode cX0_shift 19 = .ok (.iload_n 3, 1) := dk_29 (dk_at dksX0_shift_0 19 rfl rfl)
theorem dX0_shift_20 : decode cX0_shift 20 = .ok (.bipush 60, 2) := dk_16 60 (dk_at dksX0_shift_0 20 rfl rfl)
theorem dX0_shift_22 : decode cX0_shift 22 = .ok (.if_icmp .gt 71, 3) := dk_163 0 71 (dk_at dksX0_shift_1 0 rfl rfl)
theorem dX0_shift_25 : decode cX0_shift 25 = .ok (.aload_n 2, 1) := dk_44 (dk_at dksX0_shift_1 3 rfl rfl)
theorem dX0_shift_26 : decode cX0_shift 26 = .ok (.getfield 285, 3) := dk_180 1 29 (dk_at dksX0_shift_1 4 rfl rfl)
theorem dX0_shift_29 : decode cX0_shift 29 = .ok (.iload_n 3, 1) := dk_29 (dk_at dksX0_shift_1 7 rfl rfl)
theorem dX0_shift_30 : decode cX0_shift 30 = .ok (.isub, 1) := dk_100 (dk_at dksX0_shift_1 8 rfl rfl)
theorem dX0_shift_31 : decode cX0_shift 31 = .ok (.bipush 60, 2) := dk_16 60 (dk_at dksX0_shift_1 9 rfl rfl)
theorem dX0_shift_33 : decode cX0_shift 33 = .ok (.if_icmp .lt 23, 3) := dk_161 0 23 (dk_at dksX0_shift_1 11 rfl rfl)
theorem dX0_shift_36 : decode cX0_shift 36 = .ok (.aload_n 2, 1) := dk_44 (dk_at dksX0_shift_1 14 rfl rfl)
theorem dX0_shift_37 : decode cX0_shift 37 = .ok (.aload_n 2, 1) := dk_44 (dk_at dksX0_shift_1 15 rfl rfl)
theorem dX0_shift_38 : decode cX0_shift 38 = .ok (.getfield 285, 3) := dk_180 1 29 (dk_at dksX0_shift_1 16 rfl rfl)
theorem dX0_shift_41 : decode cX0_shift 41 = .ok (.iload_n 3, 1) := dk_29 (dk_at dksX0_shift_1 19 rfl rfl)
theorem dX0_shift_42 : decode cX0_shift 42 = .ok (.isub, 1) := dk_100 (dk_at dksX0_shift_1 20 rfl rfl)
theorem dX0_shift_43 : decode cX0_shift 43 = .ok (.invokevirtual 359, 3) := dk_182 1 103 (dk_at dksX0_shift_1 21 rfl rfl)
theorem dX0_shift_46 : decode cX0_shift 46 = .ok (.ifCond .eq 10, 3) := dk_153 0 10 (dk_at dksX0_shift_2 0 rfl rfl)
theorem dX0_shift_49 : decode cX0_shift 49 = .ok (.aload_n 2, 1) := dk_44 (dk_at dksX0_shift_2 3 rfl rfl)
theorem dX0_shift_50 : decode cX0_shift 50 = .ok (.getfield 285, 3) := dk_180 1 29 (dk_at dksX0_shift_2 4 rfl rfl)
theorem dX0_shift_53 : decode cX0_shift 53 = .ok (.iload_n 3, 1) := dk_29 (dk_at dksX0_shift_2 7 rfl rfl)
theorem dX0_shift_54 : decode cX0_shift 54 = .ok (.isub, 1) := dk_100 (dk_at dksX0_shift_2 8 rfl rfl)
theorem dX0_shift_55 : decode cX0_shift 55 = .ok (.ireturn, 1) := dk_172 (dk_at dksX0_shift_2 9 rfl rfl)
theorem dX0_shift_56 : decode cX0_shift 56 = .ok (.aload_n 2, 1) := dk_44 (dk_at dksX0_shift_2 10 rfl rfl)
theorem dX0_shift_57 : decode cX0_shift 57 = .ok (.getfield 285, 3) := dk_180 1 29 (dk_at dksX0_shift_2 11 rfl rfl)
theorem dX0_shift_60 : decode cX0_shift 60 = .ok (.iload_n 3, 1) := dk_29 (dk_at dksX0_shift_2 14 rfl rfl)
theorem dX0_shift_61 : decode cX0_shift 61 = .ok (.iadd, 1) := dk_96 (dk_at dksX0_shift_2 15 rfl rfl)
theorem dX0_shift_62 : decode cX0_shift 62 = .ok (.bipush 120, 2) := dk_16 120 (dk_at dksX0_shift_2 16 rfl rfl)
theorem dX0_shift_64 : decode cX0_shift 64 = .ok (.if_icmp .gt 23, 3) := dk_163 0 23 (dk_at dksX0_shift_2 18 rfl rfl)
theorem dX0_shift_67 : decode cX0_shift 67 = .ok (.aload_n 2, 1) := dk_44 (dk_at dksX0_shift_2 21 rfl rfl)
theorem dX0_shift_68 : decode cX0_shift 68 = .ok (.aload_n 2, 1) := dk_44 (dk_at dksX0_shift_2 22 rfl rfl)
theorem dX0_shift_69 : decode cX0_shift 69 = .ok (.getfield 285, 3) := dk_180 1 29 (dk_at dksX0_shift_3 0 rfl rfl)
theorem dX0_shift_72 : decode cX0_shift 72 = .ok (.iload_n 3, 1) := dk_29 (dk_at dksX0_shift_3 3 rfl rfl)
theorem dX0_shift_73 : decode cX0_shift 73 = .ok (.iadd, 1) := dk_96 (dk_at dksX0_shift_3 4 rfl rfl)
theorem dX0_shift_74 : decode cX0_shift 74 = .ok (.invokevirtual 359, 3) := dk_182 1 103 (dk_at dksX0_shift_3 5 rfl rfl)
theorem dX0_shift_77 : decode cX0_shift 77 = .ok (.ifCond .eq 10, 3) := dk_153 0 10 (dk_at dksX0_shift_3 8 rfl rfl)
theorem dX0_shift_80 : decode cX0_shift 80 = .ok (.aload_n 2, 1) := dk_44 (dk_at dksX0_shift_3 11 rfl rfl)
theorem dX0_shift_81 : decode cX0_shift 81 = .ok (.getfield 285, 3) := dk_180 1 29 (dk_at dksX0_shift_3 12 rfl rfl)
theorem dX0_shift_84 : decode cX0_shift 84 = .ok (.iload_n 3, 1) := dk_29 (dk_at dksX0_shift_3 15 rfl rfl)
theorem dX0_shift_85 : decode cX0_shift 85 = .ok (.iadd, 1) := dk_96 (dk_at dksX0_shift_3 16 rfl rfl)
theorem dX0_shift_86 : decode cX0_shift 86 = .ok (.ireturn, 1) := dk_172 (dk_at dksX0_shift_3 17 rfl rfl)
theorem dX0_shift_87 : decode cX0_shift 87 = .ok (.iinc 3 1, 3) := dk_132 3 1 (dk_at dksX0_shift_3 18 rfl rfl)
theorem dX0_shift_90 : decode cX0_shift 90 = .ok (.goto (-71), 3) := dk_167 255 185 (dk_at dksX0_shift_3 21 rfl rfl)
theorem dX0_shift_93 : decode cX0_shift 93 = .ok (.bipush (-9), 2) := dk_16 247 (dk_at dksX0_shift_4 0 rfl rfl)
theorem dX0_shift_95 : decode cX0_shift 95 = .ok (.ireturn, 1) := dk_172 (dk_at dksX0_shift_4 2 rfl rfl)
abbrev cX0_cold : ByteArray := prog_1_method_68_code
def yX0_cold : MethodName := ⟨RX0, "cold", "(III)I"⟩
def dkwX0_cold_10 : List UInt8 := [29, 4, 160, 0, 11, 21, 6, 21, 7, 96, 167, 0, 5, 21, 9, 104, 172]
abbrev dktX0_cold_10 : List UInt8 := dkwX0_cold_10 ++ []
def dkwX0_cold_9 : List UInt8 := [21, 8, 184, 1, 115, 54, 9, 132, 10, 1, 167, 255, 131, 16, 10, 29, 154, 0, 8, 21, 6, 167, 0, 18]
abbrev dktX0_cold_9 : List UInt8 := dkwX0_cold_9 ++ dktX0_cold_10
def dkwX0_cold_8 : List UInt8 := [54, 7, 21, 12, 154, 0, 8, 21, 11, 153, 0, 10, 21, 8, 4, 96, 167, 0, 4, 3, 54, 8, 21, 9]
abbrev dktX0_cold_8 : List UInt8 := dkwX0_cold_8 ++ dktX0_cold_9
def dkwX0_cold_7 : List UInt8 := [153, 0, 7, 4, 167, 0, 4, 3, 96, 54, 6, 21, 7, 21, 11, 153, 0, 7, 4, 167, 0, 4, 3, 96]
abbrev dktX0_cold_7 : List UInt8 := dkwX0_cold_7 ++ dktX0_cold_8
def dkwX0_cold_6 : List UInt8 := [21, 10, 46, 25, 5, 180, 1, 55, 164, 0, 7, 4, 167, 0, 4, 3, 54, 12, 21, 6, 21, 12]
abbrev dktX0_cold_6 : List UInt8 := dkwX0_cold_6 ++ dktX0_cold_7
def dkwX0_cold_5 : List UInt8 := [17, 252, 25, 160, 0, 7, 4, 167, 0, 4, 3, 54, 11, 21, 11, 154, 0, 24, 42, 180, 0, 25, 28, 50]
abbrev dktX0_cold_5 : List UInt8 := dkwX0_cold_5 ++ dktX0_cold_6
def dkwX0_cold_4 : List UInt8 := [54, 10, 21, 10, 42, 180, 0, 25, 28, 50, 190, 162, 0, 119, 42, 180, 0, 25, 28, 50, 21, 10, 46]
abbrev dktX0_cold_4 : List UInt8 := dkwX0_cold_4 ++ dktX0_cold_5
def dkwX0_cold_3 : List UInt8 := [50, 192, 0, 255, 58, 5, 25, 5, 182, 1, 112, 3, 54, 6, 3, 54, 7, 3, 54, 8, 3, 54, 9, 3]
abbrev dktX0_cold_3 : List UInt8 := dkwX0_cold_3 ++ dktX0_cold_4
def dkwX0_cold_2 : List UInt8 := [182, 0, 181, 172, 42, 180, 0, 25, 28, 50, 199, 0, 9, 42, 4, 182, 0, 181, 172, 42, 180, 0, 65, 27]
abbrev dktX0_cold_2 : List UInt8 := dkwX0_cold_2 ++ dktX0_cold_3
def dkwX0_cold_1 : List UInt8 := [2, 172, 42, 180, 0, 65, 27, 50, 58, 4, 25, 4, 185, 1, 106, 1, 0, 154, 0, 9, 42, 6]
abbrev dktX0_cold_1 : List UInt8 := dkwX0_cold_1 ++ dktX0_cold_2
def dkwX0_cold_0 : List UInt8 := [42, 27, 182, 1, 38, 153, 0, 19, 28, 184, 0, 175, 153, 0, 12, 29, 3, 5, 184, 0, 171, 154, 0, 5]
abbrev dktX0_cold_0 : List UInt8 := dkwX0_cold_0 ++ dktX0_cold_1
theorem dksX0_cold_0 : cX0_cold.data.toList.drop 0 = dktX0_cold_0 := by decide +kernel
theorem dksX0_cold_1 : cX0_cold.data.toList.drop 24 = dktX0_cold_1 := dk_seg dksX0_cold_0 24 rfl rfl
theorem dksX0_cold_2 : cX0_cold.data.toList.drop 46 = dktX0_cold_2 := dk_seg dksX0_cold_1 22 rfl rfl
theorem dksX0_cold_3 : cX0_cold.data.toList.drop 70 = dktX0_cold_3 := dk_seg dksX0_cold_2 24 rfl rfl
theorem dksX0_cold_4 : cX0_cold.data.toList.drop 94 = dktX0_cold_4 := dk_seg dksX0_cold_3 24 rfl rfl
theorem dksX0_cold_5 : cX0_cold.data.toList.drop 117 = dktX0_cold_5 := dk_seg dksX0_cold_4 23 rfl rfl
theorem dksX0_cold_6 : cX0_cold.data.toList.drop 141 = dktX0_cold_6 := dk_seg dksX0_cold_5 24 rfl rfl
theorem dksX0_cold_7 : cX0_cold.data.toList.drop 163 = dktX0_cold_7 := dk_seg dksX0_cold_6 22 rfl rfl
theorem dksX0_cold_8 : cX0_cold.data.toList.drop 187 = dktX0_cold_8 := dk_seg dksX0_cold_7 24 rfl rfl
theorem dksX0_cold_9 : cX0_cold.data.toList.drop 211 = dktX0_cold_9 := dk_seg dksX0_cold_8 24 rfl rfl
theorem dksX0_cold_10 : cX0_cold.data.toList.drop 235 = dktX0_cold_10 := dk_seg dksX0_cold_9 24 rfl rfl
theorem dX0_cold_0 : decode cX0_cold 0 = .ok (.aload_n 0, 1) := dk_42 (dk_at dksX0_cold_0 0 rfl rfl)
theorem dX0_cold_1 : decode cX0_cold 1 = .ok (.iload_n 1, 1) := dk_27 (dk_at dksX0_cold_0 1 rfl rfl)
theorem dX0_cold_2 : decode cX0_cold 2 = .ok (.invokevirtual 294, 3) := dk_182 1 38 (dk_at dksX0_cold_0 2 rfl rfl)
theorem dX0_cold_5 : decode cX0_cold 5 = .ok (.ifCond .eq 19, 3) := dk_153 0 19 (dk_at dksX0_cold_0 5 rfl rfl)
theorem dX0_cold_8 : decode cX0_cold 8 = .ok (.iload_n 2, 1) := dk_28 (dk_at dksX0_cold_0 8 rfl rfl)
theorem dX0_cold_9 : decode cX0_cold 9 = .ok (.invokestatic 175, 3) := dk_184 0 175 (dk_at dksX0_cold_0 9 rfl rfl)
theorem dX0_cold_12 : decode cX0_cold 12 = .ok (.ifCond .eq 12, 3) := dk_153 0 12 (dk_at dksX0_cold_0 12 rfl rfl)
theorem dX0_cold_15 : decode cX0_cold 15 = .ok (.iload_n 3, 1) := dk_29 (dk_at dksX0_cold_0 15 rfl rfl)
theorem dX0_cold_16 : decode cX0_cold 16 = .ok (.iconst 0, 1) := dk_3 (dk_at dksX0_cold_0 16 rfl rfl)
theorem dX0_cold_17 : decode cX0_cold 17 = .ok (.iconst 2, 1) := dk_5 (dk_at dksX0_cold_0 17 rfl rfl)
theorem dX0_cold_18 : decode cX0_cold 18 = .ok (.invokestatic 171, 3) := dk_184 0 171 (dk_at dksX0_cold_0 18 rfl rfl)
theorem dX0_cold_21 : decode cX0_cold 21 = .ok (.ifCond .ne 5, 3) := dk_154 0 5 (dk_at dksX0_cold_0 21 rfl rfl)
theorem dX0_cold_24 : decode cX0_cold 24 = .ok (.iconst (-1), 1) := dk_2 (dk_at dksX0_cold_1 0 rfl rfl)
theorem dX0_cold_25 : decode cX0_cold 25 = .ok (.ireturn, 1) := dk_172 (dk_at dksX0_cold_1 1 rfl rfl)
theorem dX0_cold_26 : decode cX0_cold 26 = .ok (.aload_n 0, 1) := dk_42 (dk_at dksX0_cold_1 2 rfl rfl)
theorem dX0_cold_27 : decode cX0_cold 27 = .ok (.getfield 65, 3) := dk_180 0 65 (dk_at dksX0_cold_1 3 rfl rfl)
theorem dX0_cold_30 : decode cX0_cold 30 = .ok (.iload_n 1, 1) := dk_27 (dk_at dksX0_cold_1 6 rfl rfl)
theorem dX0_cold_31 : decode cX0_cold 31 = .ok (.aaload, 1) := dk_50 (dk_at dksX0_cold_1 7 rfl rfl)
theorem dX0_cold_32 : decode cX0_cold 32 = .ok (.astore 4, 2) := dk_58 4 (dk_at dksX0_cold_1 8 rfl rfl)
theorem dX0_cold_34 : decode cX0_cold 34 = .ok (.aload 4, 2) := dk_25 4 (dk_at dksX0_cold_1 10 rfl rfl)
theorem dX0_cold_36 : decode cX0_cold 36 = .ok (.invokeinterface 362 1, 5) := by decide +kernel
theorem dX0_cold_41 : decode cX0_cold 41 = .ok (.ifCond .ne 9, 3) := dk_154 0 9 (dk_at dksX0_cold_1 17 rfl rfl)
theorem dX0_cold_44 : decode cX0_cold 44 = .ok (.aload_n 0, 1) := dk_42 (dk_at dksX0_cold_1 20 rfl rfl)
theorem dX0_cold_45 : decode cX0_cold 45 = .ok (.iconst 3, 1) := dk_6 (dk_at dksX0_cold_1 21 rfl rfl)
theorem dX0_cold_46 : decode cX0_cold 46 = .ok (.invokevirtual 181, 3) := dk_182 0 181 (dk_at dksX0_cold_2 0 rfl rfl)
theorem dX0_cold_49 : decode cX0_cold 49 = .ok (.ireturn, 1) := dk_172 (dk_at dksX0_cold_2 3 rfl rfl)
theorem dX0_cold_50 : decode cX0_cold 50 = .ok (.aload_n 0, 1) := dk_42 (dk_at dksX0_cold_2 4 rfl rfl)
theorem dX0_cold_51 : decode cX0_cold 51 = .ok (.getfield 25, 3) := dk_180 0 25 (dk_at dksX0_cold_2 5 rfl rfl)
theorem dX0_cold_54 : decode cX0_cold 54 = .ok (.iload_n 2, 1) := dk_28 (dk_at dksX0_cold_2 8 rfl rfl)
theorem dX0_cold_55 : decode cX0_cold 55 = .ok (.aaload, 1) := dk_50 (dk_at dksX0_cold_2 9 rfl rfl)
theorem dX0_cold_56 : decode cX0_cold 56 = .ok (.ifnonnull 9, 3) := dk_199 0 9 (dk_at dksX0_cold_2 10 rfl rfl)
theorem dX0_cold_59 : decode cX0_cold 59 = .ok (.aload_n 0, 1) := dk_42 (dk_at dksX0_cold_2 13 rfl rfl)
theorem dX0_cold_60 : decode cX0_cold 60 = .ok (.iconst 1, 1) := dk_4 (dk_at dksX0_cold_2 14 rfl rfl)
theorem dX0_cold_61 : decode cX0_cold 61 = .ok (.invokevirtual 181, 3) := dk_182 0 181 (dk_at dksX0_cold_2 15 rfl rfl)
theorem dX0_cold_64 : decode cX0_cold 64 = .ok (.ireturn, 1) := dk_172 (dk_at dksX0_cold_2 18 rfl rfl)
theorem dX0_cold_65 : decode cX0_cold 65 = .ok (.aload_n 0, 1) := dk_42 (dk_at dksX0_cold_2 19 rfl rfl)
theorem dX0_cold_66 : decode cX0_cold 66 = .ok (.getfield 65, 3) := dk_180 0 65 (dk_at dksX0_cold_2 20 rfl rfl)
theorem dX0_cold_69 : decode cX0_cold 69 = .ok (.iload_n 1, 1) := dk_27 (dk_at dksX0_cold_2 23 rfl rfl)
theorem dX0_cold_70 : decode cX0_cold 70 = .ok (.aaload, 1) := dk_50 (dk_at dksX0_cold_3 0 rfl rfl)
theorem dX0_cold_71 : decode cX0_cold 71 = .ok (.checkcast 255, 3) := dk_192 0 255 (dk_at dksX0_cold_3 1 rfl rfl)
theorem dX0_cold_74 : decode cX0_cold 74 = .ok (.astore 5, 2) := dk_58 5 (dk_at dksX0_cold_3 4 rfl rfl)
theorem dX0_cold_76 : decode cX0_cold 76 = .ok (.aload 5, 2) := dk_25 5 (dk_at dksX0_cold_3 6 rfl rfl)
theorem dX0_cold_78 : decode cX0_cold 78 = .ok (.invokevirtual 368, 3) := dk_182 1 112 (dk_at dksX0_cold_3 8 rfl rfl)
theorem dX0_cold_81 : decode cX0_cold 81 = .ok (.iconst 0, 1) := dk_3 (dk_at dksX0_cold_3 11 rfl rfl)
theorem dX0_cold_82 : decode cX0_cold 82 = .ok (.istore 6, 2) := dk_54 6 (dk_at dksX0_cold_3 12 rfl rfl)
theorem dX0_cold_84 : decode cX0_cold 84 = .ok (.iconst 0, 1) := dk_3 (dk_at dksX0_cold_3 14 rfl rfl)
theorem dX0_cold_85 : decode cX0_cold 85 = .ok (.istore 7, 2) := dk_54 7 (dk_at dksX0_cold_3 15 rfl rfl)
theorem dX0_cold_87 : decode cX0_cold 87 = .ok (.iconst 0, 1) := dk_3 (dk_at dksX0_cold_3 17 rfl rfl)
theorem dX0_cold_88 : decode cX0_cold 88 = .ok (.istore 8, 2) := dk_54 8 (dk_at dksX0_cold_3 18 rfl rfl)
theorem dX0_cold_90 : decode cX0_cold 90 = .ok (.iconst 0, 1) := dk_3 (dk_at dksX0_cold_3 20 rfl rfl)
theorem dX0_cold_91 : decode cX0_cold 91 = .ok (.istore 9, 2) := dk_54 9 (dk_at dksX0_cold_3 21 rfl rfl)
theorem dX0_cold_93 : decode cX0_cold 93 = .ok (.iconst 0, 1) := dk_3 (dk_at dksX0_cold_3 23 rfl rfl)
theorem dX0_cold_94 : decode cX0_cold 94 = .ok (.istore 10, 2) := dk_54 10 (dk_at dksX0_cold_4 0 rfl rfl)
theorem dX0_cold_96 : decode cX0_cold 96 = .ok (.iload 10, 2) := dk_21 10 (dk_at dksX0_cold_4 2 rfl rfl)
theorem dX0_cold_98 : decode cX0_cold 98 = .ok (.aload_n 0, 1) := dk_42 (dk_at dksX0_cold_4 4 rfl rfl)
theorem dX0_cold_99 : decode cX0_cold 99 = .ok (.getfield 25, 3) := dk_180 0 25 (dk_at dksX0_cold_4 5 rfl rfl)
theorem dX0_cold_102 : decode cX0_cold 102 = .ok (.iload_n 2, 1) := dk_28 (dk_at dksX0_cold_4 8 rfl rfl)
theorem dX0_cold_103 : decode cX0_cold 103 = .ok (.aaload, 1) := dk_50 (dk_at dksX0_cold_4 9 rfl rfl)
theorem dX0_cold_104 : decode cX0_cold 104 = .ok (.arraylength, 1) := dk_190 (dk_at dksX0_cold_4 10 rfl rfl)
theorem dX0_cold_105 : decode cX0_cold 105 = .ok (.if_icmp .ge 119, 3) := dk_162 0 119 (dk_at dksX0_cold_4 11 rfl rfl)
theorem dX0_cold_108 : decode cX0_cold 108 = .ok (.aload_n 0, 1) := dk_42 (dk_at dksX0_cold_4 14 rfl rfl)
theorem dX0_cold_109 : decode cX0_cold 109 = .ok (.getfield 25, 3) := dk_180 0 25 (dk_at dksX0_cold_4 15 rfl rfl)
theorem dX0_cold_112 : decode cX0_cold 112 = .ok (.iload_n 2, 1) := dk_28 (dk_at dksX0_cold_4 18 rfl rfl)
theorem dX0_cold_113 : decode cX0_cold 113 = .ok (.aaload, 1) := dk_50 (dk_at dksX0_cold_4 19 rfl rfl)
theorem dX0_cold_114 : decode cX0_cold 114 = .ok (.iload 10, 2) := dk_21 10 (dk_at dksX0_cold_4 20 rfl rfl)
theorem dX0_cold_116 : decode cX0_cold 116 = .ok (.iaload, 1) := dk_46 (dk_at dksX0_cold_4 22 rfl rfl)
theorem dX0_cold_117 : decode cX0_cold 117 = .ok (.sipush (-999), 3) := dk_17 252 25 (dk_at dksX0_cold_5 0 rfl rfl)
theorem dX0_cold_120 : decode cX0_cold 120 = .ok (.if_icmp .ne 7, 3) := dk_160 0 7 (dk_at dksX0_cold_5 3 rfl rfl)
theorem dX0_cold_123 : decode cX0_cold 123 = .ok (.iconst 1, 1) := dk_4 (dk_at dksX0_cold_5 6 rfl rfl)
theorem dX0_cold_124 : decode cX0_cold 124 = .ok (.goto 4, 3) := dk_167 0 4 (dk_at dksX0_cold_5 7 rfl rfl)
theorem dX0_cold_127 : decode cX0_cold 127 = .ok (.iconst 0, 1) := dk_3 (dk_at dksX0_cold_5 10 rfl rfl)
theorem dX0_cold_128 : decode cX0_cold 128 = .ok (.istore 11, 2) := dk_54 11 (dk_at dksX0_cold_5 11 rfl rfl)
theorem dX0_cold_130 : decode cX0_cold 130 = .ok (.iload 11, 2) := dk_21 11 (dk_at dksX0_cold_5 13 rfl rfl)
theorem dX0_cold_132 : decode cX0_cold 132 = .ok (.ifCond .ne 24, 3) := dk_154 0 24 (dk_at dksX0_cold_5 15 rfl rfl)
theorem dX0_cold_135 : decode cX0_cold 135 = .ok (.aload_n 0, 1) := dk_42 (dk_at dksX0_cold_5 18 rfl rfl)
theorem dX0_cold_136 : decode cX0_cold 136 = .ok (.getfield 25, 3) := dk_180 0 25 (dk_at dksX0_cold_5 19 rfl rfl)
theorem dX0_cold_139 : decode cX0_cold 139 = .ok (.iload_n 2, 1) := dk_28 (dk_at dksX0_cold_5 22 rfl rfl)
theorem dX0_cold_140 : decode cX0_cold 140 = .ok (.aaload, 1) := dk_50 (dk_at dksX0_cold_5 23 rfl rfl)
theorem dX0_cold_141 : decode cX0_cold 141 = .ok (.iload 10, 2) := dk_21 10 (dk_at dksX0_cold_6 0 rfl rfl)
theorem dX0_cold_143 : decode cX0_cold 143 = .ok (.iaload, 1) := dk_46 (dk_at dksX0_cold_6 2 rfl rfl)
theorem dX0_cold_144 : decode cX0_cold 144 = .ok (.aload 5, 2) := dk_25 5 (dk_at dksX0_cold_6 3 rfl rfl)
theorem dX0_cold_146 : decode cX0_cold 146 = .ok (.getfield 311, 3) := dk_180 1 55 (dk_at dksX0_cold_6 5 rfl rfl)
theorem dX0_cold_149 : decode cX0_cold 149 = .ok (.if_icmp .le 7, 3) := dk_164 0 7 (dk_at dksX0_cold_6 8 rfl rfl)
theorem dX0_cold_152 : decode cX0_cold 152 = .ok (.iconst 1, 1) := dk_4 (dk_at dksX0_cold_6 11 rfl rfl)
theorem dX0_cold_153 : decode cX0_cold 153 = .ok (.goto 4, 3) := dk_167 0 4 (dk_at dksX0_cold_6 12 rfl rfl)
theorem dX0_cold_156 : decode cX0_cold 156 = .ok (.iconst 0, 1) := dk_3 (dk_at dksX0_cold_6 15 rfl rfl)
theorem dX0_cold_157 : decode cX0_cold 157 = .ok (.istore 12, 2) := dk_54 12 (dk_at dksX0_cold_6 16 rfl rfl)
theorem dX0_cold_159 : decode cX0_cold 159 = .ok (.iload 6, 2) := dk_21 6 (dk_at dksX0_cold_6 18 rfl rfl)
theorem dX0_cold_161 : decode cX0_cold 161 = .ok (.iload 12, 2) := dk_21 12 (dk_at dksX0_cold_6 20 rfl rfl)
theorem dX0_cold_163 : decode cX0_cold 163 = .ok (.ifCond .eq 7, 3) := dk_153 0 7 (dk_at dksX0_cold_7 0 rfl rfl)
theorem dX0_cold_166 : decode cX0_cold 166 = .ok (.iconst 1, 1) := dk_4 (dk_at dksX0_cold_7 3 rfl rfl)
theorem dX0_cold_167 : decode cX0_cold 167 = .ok (.goto 4, 3) := dk_167 0 4 (dk_at dksX0_cold_7 4 rfl rfl)
theorem dX0_cold_170 : decode cX0_cold 170 = .ok (.iconst 0, 1) := dk_3 (dk_at dksX0_cold_7 7 rfl rfl)
theorem dX0_cold_171 : decode cX0_cold 171 = .ok (.iadd, 1) := dk_96 (dk_at dksX0_cold_7 8 rfl rfl)
theorem dX0_cold_172 : decode cX0_cold 172 = .ok (.istore 6, 2) := dk_54 6 (dk_at dksX0_cold_7 9 rfl rfl)
theorem dX0_cold_174 : decode cX0_cold 174 = .ok (.iload 7, 2) := dk_21 7 (dk_at dksX0_cold_7 11 rfl rfl)
theorem dX0_cold_176 : decode cX0_cold 176 = .ok (.iload 11, 2) := dk_21 11 (dk_at dksX0_cold_7 13 rfl rfl)
theorem dX0_cold_178 : decode cX0_cold 178 = .ok (.ifCond .eq 7, 3) := dk_153 0 7 (dk_at dksX0_cold_7 15 rfl rfl)
theorem dX0_cold_181 : decode cX0_cold 181 = .ok (.iconst 1, 1) := dk_4 (dk_at dksX0_cold_7 18 rfl rfl)
theorem dX0_cold_182 : decode cX0_cold 182 = .ok (.goto 4, 3) := dk_167 0 4 (dk_at dksX0_cold_7 19 rfl rfl)
theorem dX0_cold_185 : decode cX0_cold 185 = .ok (.iconst 0, 1) := dk_3 (dk_at dksX0_cold_7 22 rfl rfl)
theorem dX0_cold_186 : decode cX0_cold 186 = .ok (.iadd, 1) := dk_96 (dk_at dksX0_cold_7 23 rfl rfl)
theorem dX0_cold_187 : decode cX0_cold 187 = .ok (.istore 7, 2) := dk_54 7 (dk_at dksX0_cold_8 0 rfl rfl)
theorem dX0_cold_189 : decode cX0_cold 189 = .ok (.iload 12, 2) := dk_21 12 (dk_at dksX0_cold_8 2 rfl rfl)
theorem dX0_cold_191 : decode cX0_cold 191 = .ok (.ifCond .ne 8, 3) := dk_154 0 8 (dk_at dksX0_cold_8 4 rfl rfl)
theorem dX0_cold_194 : decode cX0_cold 194 = .ok (.iload 11, 2) := dk_21 11 (dk_at dksX0_cold_8 7 rfl rfl)
theorem dX0_cold_196 : decode cX0_cold 196 = .ok (.ifCond .eq 10, 3) := dk_153 0 10 (dk_at dksX0_cold_8 9 rfl rfl)
theorem dX0_cold_199 : decode cX0_cold 199 = .ok (.iload 8, 2) := dk_21 8 (dk_at dksX0_cold_8 12 rfl rfl)
theorem dX0_cold_201 : decode cX0_cold 201 = .ok (.iconst 1, 1) := dk_4 (dk_at dksX0_cold_8 14 rfl rfl)
theorem dX0_cold_202 : decode cX0_cold 202 = .ok (.iadd, 1) := dk_96 (dk_at dksX0_cold_8 15 rfl rfl)
theorem dX0_cold_203 : decode cX0_cold 203 = .ok (.goto 4, 3) := dk_167 0 4 (dk_at dksX0_cold_8 16 rfl rfl)
theorem dX0_cold_206 : decode cX0_cold 206 = .ok (.iconst 0, 1) := dk_3 (dk_at dksX0_cold_8 19 rfl rfl)
theorem dX0_cold_207 : decode cX0_cold 207 = .ok (.istore 8, 2) := dk_54 8 (dk_at dksX0_cold_8 20 rfl rfl)
theorem dX0_cold_209 : decode cX0_cold 209 = .ok (.iload 9, 2) := dk_21 9 (dk_at dksX0_cold_8 22 rfl rfl)
theorem dX0_cold_211 : decode cX0_cold 211 = .ok (.iload 8, 2) := dk_21 8 (dk_at dksX0_cold_9 0 rfl rfl)
theorem dX0_cold_213 : decode cX0_cold 213 = .ok (.invokestatic 371, 3) := dk_184 1 115 (dk_at dksX0_cold_9 2 rfl rfl)
theorem dX0_cold_216 : decode cX0_cold 216 = .ok (.istore 9, 2) := dk_54 9 (dk_at dksX0_cold_9 5 rfl rfl)
theorem dX0_cold_218 : decode cX0_cold 218 = .ok (.iinc 10 1, 3) := dk_132 10 1 (dk_at dksX0_cold_9 7 rfl rfl)
theorem dX0_cold_221 : decode cX0_cold 221 = .ok (.goto (-125), 3) := dk_167 255 131 (dk_at dksX0_cold_9 10 rfl rfl)
theorem dX0_cold_224 : decode cX0_cold 224 = .ok (.bipush 10, 2) := dk_16 10 (dk_at dksX0_cold_9 13 rfl rfl)
theorem dX0_cold_226 : decode cX0_cold 226 = .ok (.iload_n 3, 1) := dk_29 (dk_at dksX0_cold_9 15 rfl rfl)
theorem dX0_cold_227 : decode cX0_cold 227 = .ok (.ifCond .ne 8, 3) := dk_154 0 8 (dk_at dksX0_cold_9 16 rfl rfl)
theorem dX0_cold_230 : decode cX0_cold 230 = .ok (.iload 6, 2) := dk_21 6 (dk_at dksX0_cold_9 19 rfl rfl)
theorem dX0_cold_232 : decode cX0_cold 232 = .ok (.goto 18, 3) := dk_167 0 18 (dk_at dksX0_cold_9 21 rfl rfl)
theorem dX0_cold_235 : decode cX0_cold 235 = .ok (.iload_n 3, 1) := dk_29 (dk_at dksX0_cold_10 0 rfl rfl)
theorem dX0_cold_236 : decode cX0_cold 236 = .ok (.iconst 1, 1) := dk_4 (dk_at dksX0_cold_10 1 rfl rfl)
theorem dX0_cold_237 : decode cX0_cold 237 = .ok (.if_icmp .ne 11, 3) := dk_160 0 11 (dk_at dksX0_cold_10 2 rfl rfl)
theorem dX0_cold_240 : decode cX0_cold 240 = .ok (.iload 6, 2) := dk_21 6 (dk_at dksX0_cold_10 5 rfl rfl)
theorem dX0_cold_242 : decode cX0_cold 242 = .ok (.iload 7, 2) := dk_21 7 (dk_at dksX0_cold_10 7 rfl rfl)
theorem dX0_cold_244 : decode cX0_cold 244 = .ok (.iadd, 1) := dk_96 (dk_at dksX0_cold_10 9 rfl rfl)
theorem dX0_cold_245 : decode cX0_cold 245 = .ok (.goto 5, 3) := dk_167 0 5 (dk_at dksX0_cold_10 10 rfl rfl)
theorem dX0_cold_248 : decode cX0_cold 248 = .ok (.iload 9, 2) := dk_21 9 (dk_at dksX0_cold_10 13 rfl rfl)
theorem dX0_cold_250 : decode cX0_cold 250 = .ok (.imul, 1) := dk_104 (dk_at dksX0_cold_10 15 rfl rfl)
theorem dX0_cold_251 : decode cX0_cold 251 = .ok (.ireturn, 1) := dk_172 (dk_at dksX0_cold_10 16 rfl rfl)
abbrev cX0_theft : ByteArray := prog_1_method_70_code
def yX0_theft : MethodName := ⟨RX0, "theft", "(I)I"⟩
def dkwX0_theft_2 : List UInt8 := [42, 180, 0, 81, 28, 46, 42, 180, 0, 81, 29, 46, 100, 182, 0, 185, 172]
abbrev dktX0_theft_2 : List UInt8 := dkwX0_theft_2 ++ []
def dkwX0_theft_1 : List UInt8 := [16, 247, 160, 0, 6, 16, 252, 172, 42, 27, 28, 6, 7, 182, 1, 118, 62, 42, 42, 180, 0, 81, 29, 46]
abbrev dktX0_theft_1 : List UInt8 := dkwX0_theft_1 ++ dktX0_theft_2
def dkwX0_theft_0 : List UInt8 := [42, 27, 182, 1, 38, 154, 0, 5, 2, 172, 42, 27, 42, 180, 0, 248, 8, 8, 182, 1, 118, 61, 28]
abbrev dktX0_theft_0 : List UInt8 := dkwX0_theft_0 ++ dktX0_theft_1
theorem dksX0_theft_0 : cX0_theft.data.toList.drop 0 = dktX0_theft_0 := by decide +kernel
theorem dksX0_theft_1 : cX0_theft.data.toList.drop 23 = dktX0_theft_1 := dk_seg dksX0_theft_0 23 rfl rfl
theorem dksX0_theft_2 : cX0_theft.data.toList.drop 47 = dktX0_theft_2 := dk_seg dksX0_theft_1 24 rfl rfl
theorem dX0_theft_0 : decode cX0_theft 0 = .ok (.aload_n 0, 1) := dk_42 (dk_at dksX0_theft_0 0 rfl rfl)
theorem dX0_theft_1 : decode cX0_theft 1 = .ok (.iload_n 1, 1) := dk_27 (dk_at dksX0_theft_0 1 rfl rfl)
theorem dX0_theft_2 : decode cX0_theft 2 = .ok (.invokevirtual 294, 3) := dk_182 1 38 (dk_at dksX0_theft_0 2 rfl rfl)
theorem dX0_theft_5 : decode cX0_theft 5 = .ok (.ifCond .ne 5, 3) := dk_154 0 5 (dk_at dksX0_theft_0 5 rfl rfl)
theorem dX0_theft_8 : decode cX0_theft 8 = .ok (.iconst (-1), 1) := dk_2 (dk_at dksX0_theft_0 8 rfl rfl)
theorem dX0_theft_9 : decode cX0_theft 9 = .ok (.ireturn, 1) := dk_172 (dk_at dksX0_theft_0 9 rfl rfl)
theorem dX0_theft_10 : decode cX0_theft 10 = .ok (.aload_n 0, 1) := dk_42 (dk_at dksX0_theft_0 10 rfl rfl)
theorem dX0_theft_11 : decode cX0_theft 11 = .ok (.iload_n 1, 1) := dk_27 (dk_at dksX0_theft_0 11 rfl rfl)
theorem dX0_theft_12 : decode cX0_theft 12 = .ok (.aload_n 0, 1) := dk_42 (dk_at dksX0_theft_0 12 rfl rfl)
theorem dX0_theft_13 : decode cX0_theft 13 = .ok (.getfield 248, 3) := dk_180 0 248 (dk_at dksX0_theft_0 13 rfl rfl)
theorem dX0_theft_16 : decode cX0_theft 16 = .ok (.iconst 5, 1) := dk_8 (dk_at dksX0_theft_0 16 rfl rfl)
theorem dX0_theft_17 : decode cX0_theft 17 = .ok (.iconst 5, 1) := dk_8 (dk_at dksX0_theft_0 17 rfl rfl)
theorem dX0_theft_18 : decode cX0_theft 18 = .ok (.invokevirtual 374, 3) := dk_182 1 118 (dk_at dksX0_theft_0 18 rfl rfl)
theorem dX0_theft_21 : decode cX0_theft 21 = .ok (.istore_n 2, 1) := dk_61 (dk_at dksX0_theft_0 21 rfl rfl)
theorem dX0_theft_22 : decode cX0_theft 22 = .ok (.iload_n 2, 1) := dk_28 (dk_at dksX0_theft_0 22 rfl rfl)
theorem dX0_theft_23 : decode cX0_theft 23 = .ok (.bipush (-9), 2) := dk_16 247 (dk_at dksX0_theft_1 0 rfl rfl)
theorem dX0_theft_25 : decode cX0_theft 25 = .ok (.if_icmp .ne 6, 3) := dk_160 0 6 (dk_at dksX0_theft_1 2 rfl rfl)
theorem dX0_theft_28 : decode cX0_theft 28 = .ok (.bipush (-4), 2) := dk_16 252 (dk_at dksX0_theft_1 5 rfl rfl)
theorem dX0_theft_30 : decode cX0_theft 30 = .ok (.ireturn, 1) := dk_172 (dk_at dksX0_theft_1 7 rfl rfl)
theorem dX0_theft_31 : decode cX0_theft 31 = .ok (.aload_n 0, 1) := dk_42 (dk_at dksX0_theft_1 8 rfl rfl)
theorem dX0_theft_32 : decode cX0_theft 32 = .ok (.iload_n 1, 1) := dk_27 (dk_at dksX0_theft_1 9 rfl rfl)
theorem dX0_theft_33 : decode cX0_theft 33 = .ok (.iload_n 2, 1) := dk_28 (dk_at dksX0_theft_1 10 rfl rfl)
theorem dX0_theft_34 : decode cX0_theft 34 = .ok (.iconst 3, 1) := dk_6 (dk_at dksX0_theft_1 11 rfl rfl)
theorem dX0_theft_35 : decode cX0_theft 35 = .ok (.iconst 4, 1) := dk_7 (dk_at dksX0_theft_1 12 rfl rfl)
theorem dX0_theft_36 : decode cX0_theft 36 = .ok (.invokevirtual 374, 3) := dk_182 1 118 (dk_at dksX0_theft_1 13 rfl rfl)
theorem dX0_theft_39 : decode cX0_theft 39 = .ok (.istore_n 3, 1) := dk_62 (dk_at dksX0_theft_1 16 rfl rfl)
theorem dX0_theft_40 : decode cX0_theft 40 = .ok (.aload_n 0, 1) := dk_42 (dk_at dksX0_theft_1 17 rfl rfl)
theorem dX0_theft_41 : decode cX0_theft 41 = .ok (.aload_n 0, 1) := dk_42 (dk_at dksX0_theft_1 18 rfl rfl)
theorem dX0_theft_42 : decode cX0_theft 42 = .ok (.getfield 81, 3) := dk_180 0 81 (dk_at dksX0_theft_1 19 rfl rfl)
theorem dX0_theft_45 : decode cX0_theft 45 = .ok (.iload_n 3, 1) := dk_29 (dk_at dksX0_theft_1 22 rfl rfl)
theorem dX0_theft_46 : decode cX0_theft 46 = .ok (.iaload, 1) := dk_46 (dk_at dksX0_theft_1 23 rfl rfl)
theorem dX0_theft_47 : decode cX0_theft 47 = .ok (.aload_n 0, 1) := dk_42 (dk_at dksX0_theft_2 0 rfl rfl)
theorem dX0_theft_48 : decode cX0_theft 48 = .ok (.getfield 81, 3) := dk_180 0 81 (dk_at dksX0_theft_2 1 rfl rfl)
theorem dX0_theft_51 : decode cX0_theft 51 = .ok (.iload_n 2, 1) := dk_28 (dk_at dksX0_theft_2 4 rfl rfl)
theorem dX0_theft_52 : decode cX0_theft 52 = .ok (.iaload, 1) := dk_46 (dk_at dksX0_theft_2 5 rfl rfl)
theorem dX0_theft_53 : decode cX0_theft 53 = .ok (.aload_n 0, 1) := dk_42 (dk_at dksX0_theft_2 6 rfl rfl)
theorem dX0_theft_54 : decode cX0_theft 54 = .ok (.getfield 81, 3) := dk_180 0 81 (dk_at dksX0_theft_2 7 rfl rfl)
theorem dX0_theft_57 : decode cX0_theft 57 = .ok (.iload_n 3, 1) := dk_29 (dk_at dksX0_theft_2 10 rfl rfl)
theorem dX0_theft_58 : decode cX0_theft 58 = .ok (.iaload, 1) := dk_46 (dk_at dksX0_theft_2 11 rfl rfl)
theorem dX0_theft_59 : decode cX0_theft 59 = .ok (.isub, 1) := dk_100 (dk_at dksX0_theft_2 12 rfl rfl)
theorem dX0_theft_60 : decode cX0_theft 60 = .ok (.invokevirtual 185, 3) := dk_182 0 185 (dk_at dksX0_theft_2 13 rfl rfl)
theorem dX0_theft_63 : decode cX0_theft 63 = .ok (.ireturn, 1) := dk_172 (dk_at dksX0_theft_2 16 rfl rfl)
abbrev cX0_entryAhead : ByteArray := prog_1_method_69_code
def yX0_entryAhead : MethodName := ⟨RX0, "entryAhead", "(IIII)I"⟩
def dkwX0_entryAhead_2 : List UInt8 := [132, 5, 255, 167, 255, 214, 21, 5, 156, 0, 8, 16, 247, 167, 0, 5, 21, 5, 172]
abbrev dktX0_entryAhead_2 : List UInt8 := dkwX0_entryAhead_2 ++ []
def dkwX0_entryAhead_1 : List UInt8 := [180, 0, 78, 21, 5, 46, 29, 159, 0, 21, 42, 180, 0, 78, 21, 5, 46, 21, 4, 159, 0, 9]
abbrev dktX0_entryAhead_1 : List UInt8 := dkwX0_entryAhead_1 ++ dktX0_entryAhead_2
def dkwX0_entryAhead_0 : List UInt8 := [28, 4, 100, 54, 5, 21, 5, 155, 0, 43, 42, 180, 0, 75, 21, 5, 46, 27, 160, 0, 26, 42]
abbrev dktX0_entryAhead_0 : List UInt8 := dkwX0_entryAhead_0 ++ dktX0_entryAhead_1
theorem dksX0_entryAhead_0 : cX0_entryAhead.data.toList.drop 0 = dktX0_entryAhead_0 := by decide +kernel
theorem dksX0_entryAhead_1 : cX0_entryAhead.data.toList.drop 22 = dktX0_entryAhead_1 := dk_seg dksX0_entryAhead_0 22 rfl rfl
theorem dksX0_entryAhead_2 : cX0_entryAhead.data.toList.drop 44 = dktX0_entryAhead_2 := dk_seg dksX0_entryAhead_1 22 rfl rfl
theorem dX0_entryAhead_0 : decode cX0_entryAhead 0 = .ok (.iload_n 2, 1) := dk_28 (dk_at dksX0_entryAhead_0 0 rfl rfl)
theorem dX0_entryAhead_1 : decode cX0_entryAhead 1 = .ok (.iconst 1, 1) := dk_4 (dk_at dksX0_entryAhead_0 1 rfl rfl)
theorem dX0_entryAhead_2 : decode cX0_entryAhead 2 = .ok (.isub, 1) := dk_100 (dk_at dksX0_entryAhead_0 2 rfl rfl)
theorem dX0_entryAhead_3 : decode cX0_entryAhead 3 = .ok (.istore 5, 2) := dk_54 5 (dk_at dksX0_entryAhead_0 3 rfl rfl)
theorem dX0_entryAhead_5 : decode cX0_entryAhead 5 = .ok (.iload 5, 2) := dk_21 5 (dk_at dksX0_entryAhead_0 5 rfl rfl)
theorem dX0_entryAhead_7 : decode cX0_entryAhead 7 = .ok (.ifCond .lt 43, 3) := dk_155 0 43 (dk_at dksX0_entryAhead_0 7 rfl rfl)
theorem dX0_entryAhead_10 : decode cX0_entryAhead 10 = .ok (.aload_n 0, 1) := dk_42 (dk_at dksX0_entryAhead_0 10 rfl rfl)
theorem dX0_entryAhead_11 : decode cX0_entryAhead 11 = .ok (.getfield 75, 3) := dk_180 0 75 (dk_at dksX0_entryAhead_0 11 rfl rfl)
theorem dX0_entryAhead_14 : decode cX0_entryAhead 14 = .ok (.iload 5, 2) := dk_21 5 (dk_at dksX0_entryAhead_0 14 rfl rfl)
theorem dX0_entryAhead_16 : decode cX0_entryAhead 16 = .ok (.iaload, 1) := dk_46 (dk_at dksX0_entryAhead_0 16 rfl rfl)
theorem dX0_entryAhead_17 : decode cX0_entryAhead 17 = .ok (.iload_n 1, 1) := dk_27 (dk_at dksX0_entryAhead_0 17 rfl rfl)
theorem dX0_entryAhead_18 : decode cX0_entryAhead 18 = .ok (.if_icmp .ne 26, 3) := dk_160 0 26 (dk_at dksX0_entryAhead_0 18 rfl rfl)
theorem dX0_entryAhead_21 : decode cX0_entryAhead 21 = .ok (.aload_n 0, 1) := dk_42 (dk_at dksX0_entryAhead_0 21 rfl rfl)
theorem dX0_entryAhead_22 : decode cX0_entryAhead 22 = .ok (.getfield 78, 3) := dk_180 0 78 (dk_at dksX0_entryAhead_1 0 rfl rfl)
theorem dX0_entryAhead_25 : decode cX0_entryAhead 25 = .ok (.iload 5, 2) := dk_21 5 (dk_at dksX0_entryAhead_1 3 rfl rfl)
theorem dX0_entryAhead_27 : decode cX0_entryAhead 27 = .ok (.iaload, 1) := dk_46 (dk_at dksX0_entryAhead_1 5 rfl rfl)
theorem dX0_entryAhead_28 : decode cX0_entryAhead 28 = .ok (.iload_n 3, 1) := dk_29 (dk_at dksX0_entryAhead_1 6 rfl rfl)
theorem dX0_entryAhead_29 : decode cX0_entryAhead 29 = .ok (.if_icmp .eq 21, 3) := dk_159 0 21 (dk_at dksX0_entryAhead_1 7 rfl rfl)
theorem dX0_entryAhead_32 : decode cX0_entryAhead 32 = .ok (.aload_n 0, 1) := dk_42 (dk_at dksX0_entryAhead_1 10 rfl rfl)
theorem dX0_entryAhead_33 : decode cX0_entryAhead 33 = .ok (.getfield 78, 3) := dk_180 0 78 (dk_at dksX0_entryAhead_1 11 rfl rfl)
theorem dX0_entryAhead_36 : decode cX0_entryAhead 36 = .ok (.iload 5, 2) := dk_21 5 (dk_at dksX0_entryAhead_1 14 rfl rfl)
theorem dX0_entryAhead_38 : decode cX0_entryAhead 38 = .ok (.iaload, 1) := dk_46 (dk_at dksX0_entryAhead_1 16 rfl rfl)
theorem dX0_entryAhead_39 : decode cX0_entryAhead 39 = .ok (.iload 4, 2) := dk_21 4 (dk_at dksX0_entryAhead_1 17 rfl rfl)
theorem dX0_entryAhead_41 : decode cX0_entryAhead 41 = .ok (.if_icmp .eq 9, 3) := dk_159 0 9 (dk_at dksX0_entryAhead_1 19 rfl rfl)
theorem dX0_entryAhead_44 : decode cX0_entryAhead 44 = .ok (.iinc 5 (-1), 3) := dk_132 5 255 (dk_at dksX0_entryAhead_2 0 rfl rfl)
theorem dX0_entryAhead_47 : decode cX0_entryAhead 47 = .ok (.goto (-42), 3) := dk_167 255 214 (dk_at dksX0_entryAhead_2 3 rfl rfl)
theorem dX0_entryAhead_50 : decode cX0_entryAhead 50 = .ok (.iload 5, 2) := dk_21 5 (dk_at dksX0_entryAhead_2 6 rfl rfl)
theorem dX0_entryAhead_52 : decode cX0_entryAhead 52 = .ok (.ifCond .ge 8, 3) := dk_156 0 8 (dk_at dksX0_entryAhead_2 8 rfl rfl)
theorem dX0_entryAhead_55 : decode cX0_entryAhead 55 = .ok (.bipush (-9), 2) := dk_16 247 (dk_at dksX0_entryAhead_2 11 rfl rfl)
theorem dX0_entryAhead_57 : decode cX0_entryAhead 57 = .ok (.goto 5, 3) := dk_167 0 5 (dk_at dksX0_entryAhead_2 13 rfl rfl)
theorem dX0_entryAhead_60 : decode cX0_entryAhead 60 = .ok (.iload 5, 2) := dk_21 5 (dk_at dksX0_entryAhead_2 16 rfl rfl)
theorem dX0_entryAhead_62 : decode cX0_entryAhead 62 = .ok (.ireturn, 1) := dk_172 (dk_at dksX0_entryAhead_2 18 rfl rfl)
abbrev cX0_hands : ByteArray := prog_1_method_72_code
def yX0_hands : MethodName := ⟨RX0, "hands", "(I)I"⟩
def dkwX0_hands_5 : List UInt8 := [167, 255, 197, 42, 21, 4, 21, 4, 184, 1, 124, 182, 0, 185, 172]
abbrev dktX0_hands_5 : List UInt8 := dkwX0_hands_5 ++ []
def dkwX0_hands_4 : List UInt8 := [21, 6, 29, 164, 0, 12, 42, 21, 6, 182, 1, 121, 167, 0, 4, 3, 128, 54, 4, 132, 6, 1]
abbrev dktX0_hands_4 : List UInt8 := dkwX0_hands_4 ++ dktX0_hands_5
def dkwX0_hands_3 : List UInt8 := [46, 27, 160, 0, 36, 42, 180, 0, 78, 21, 6, 46, 5, 162, 0, 25, 21, 6, 21, 5, 159, 0, 9]
abbrev dktX0_hands_3 : List UInt8 := dkwX0_hands_3 ++ dktX0_hands_4
def dkwX0_hands_2 : List UInt8 := [4, 182, 1, 118, 54, 5, 21, 5, 54, 6, 21, 6, 28, 162, 0, 59, 21, 4, 42, 180, 0, 75, 21, 6]
abbrev dktX0_hands_2 : List UInt8 := dkwX0_hands_2 ++ dktX0_hands_3
def dkwX0_hands_1 : List UInt8 := [16, 247, 160, 0, 6, 16, 252, 172, 42, 27, 28, 6, 7, 182, 1, 118, 62, 3, 54, 4, 42, 27, 29, 3]
abbrev dktX0_hands_1 : List UInt8 := dkwX0_hands_1 ++ dktX0_hands_2
def dkwX0_hands_0 : List UInt8 := [42, 27, 182, 1, 38, 154, 0, 5, 2, 172, 42, 27, 42, 180, 0, 248, 8, 8, 182, 1, 118, 61, 28]
abbrev dktX0_hands_0 : List UInt8 := dkwX0_hands_0 ++ dktX0_hands_1
theorem dksX0_hands_0 : cX0_hands.data.toList.drop 0 = dktX0_hands_0 := by decide +kernel
theorem dksX0_hands_1 : cX0_hands.data.toList.drop 23 = dktX0_hands_1 := dk_seg dksX0_hands_0 23 rfl rfl
theorem dksX0_hands_2 : cX0_hands.data.toList.drop 47 = dktX0_hands_2 := dk_seg dksX0_hands_1 24 rfl rfl
theorem dksX0_hands_3 : cX0_hands.data.toList.drop 71 = dktX0_hands_3 := dk_seg dksX0_hands_2 24 rfl rfl
theorem dksX0_hands_4 : cX0_hands.data.toList.drop 94 = dktX0_hands_4 := dk_seg dksX0_hands_3 23 rfl rfl
theorem dksX0_hands_5 : cX0_hands.data.toList.drop 116 = dktX0_hands_5 := dk_seg dksX0_hands_4 22 rfl rfl
theorem dX0_hands_0 : decode cX0_hands 0 = .ok (.aload_n 0, 1) := dk_42 (dk_at dksX0_hands_0 0 rfl rfl)
theorem dX0_hands_1 : decode cX0_hands 1 = .ok (.iload_n 1, 1) := dk_27 (dk_at dksX0_hands_0 1 rfl rfl)
theorem dX0_hands_2 : decode cX0_hands 2 = .ok (.invokevirtual 294, 3) := dk_182 1 38 (dk_at dksX0_hands_0 2 rfl rfl)
theorem dX0_hands_5 : decode cX0_hands 5 = .ok (.ifCond .ne 5, 3) := dk_154 0 5 (dk_at dksX0_hands_0 5 rfl rfl)
theorem dX0_hands_8 : decode cX0_hands 8 = .ok (.iconst (-1), 1) := dk_2 (dk_at dksX0_hands_0 8 rfl rfl)
theorem dX0_hands_9 : decode cX0_hands 9 = .ok (.ireturn, 1) := dk_172 (dk_at dksX0_hands_0 9 rfl rfl)
theorem dX0_hands_10 : decode cX0_hands 10 = .ok (.aload_n 0, 1) := dk_42 (dk_at dksX0_hands_0 10 rfl rfl)
theorem dX0_hands_11 : decode cX0_hands 11 = .ok (.iload_n 1, 1) := dk_27 (dk_at dksX0_hands_0 11 rfl rfl)
theorem dX0_hands_12 : decode cX0_hands 12 = .ok (.aload_n 0, 1) := dk_42 (dk_at dksX0_hands_0 12 rfl rfl)
theorem dX0_hands_13 : decode cX0_hands 13 = .ok (.getfield 248, 3) := dk_180 0 248 (dk_at dksX0_hands_0 13 rfl rfl)
theorem dX0_hands_16 : decode cX0_hands 16 = .ok (.iconst 5, 1) := dk_8 (dk_at dksX0_hands_0 16 rfl rfl)
theorem dX0_hands_17 : decode cX0_hands 17 = .ok (.iconst 5, 1) := dk_8 (dk_at dksX0_hands_0 17 rfl rfl)
theorem dX0_hands_18 : decode cX0_hands 18 = .ok (.invokevirtual 374, 3) := dk_182 1 118 (dk_at dksX0_hands_0 18 rfl rfl)
theorem dX0_hands_21 : decode cX0_hands 21 = .ok (.istore_n 2, 1) := dk_61 (dk_at dksX0_hands_0 21 rfl rfl)
theorem dX0_hands_22 : decode cX0_hands 22 = .ok (.iload_n 2, 1) := dk_28 (dk_at dksX0_hands_0 22 rfl rfl)
theorem dX0_hands_23 : decode cX0_hands 23 = .ok (.bipush (-9), 2) := dk_16 247 (dk_at dksX0_hands_1 0 rfl rfl)
theorem dX0_hands_25 : decode cX0_hands 25 = .ok (.if_icmp .ne 6, 3) := dk_160 0 6 (dk_at dksX0_hands_1 2 rfl rfl)
theorem dX0_hands_28 : decode cX0_hands 28 = .ok (.bipush (-4), 2) := dk_16 252 (dk_at dksX0_hands_1 5 rfl rfl)
theorem dX0_hands_30 : decode cX0_hands 30 = .ok (.ireturn, 1) := dk_172 (dk_at dksX0_hands_1 7 rfl rfl)
theorem dX0_hands_31 : decode cX0_hands 31 = .ok (.aload_n 0, 1) := dk_42 (dk_at dksX0_hands_1 8 rfl rfl)
theorem dX0_hands_32 : decode cX0_hands 32 = .ok (.iload_n 1, 1) := dk_27 (dk_at dksX0_hands_1 9 rfl rfl)
theorem dX0_hands_33 : decode cX0_hands 33 = .ok (.iload_n 2, 1) := dk_28 (dk_at dksX0_hands_1 10 rfl rfl)
theorem dX0_hands_34 : decode cX0_hands 34 = .ok (.iconst 3, 1) := dk_6 (dk_at dksX0_hands_1 11 rfl rfl)
theorem dX0_hands_35 : decode cX0_hands 35 = .ok (.iconst 4, 1) := dk_7 (dk_at dksX0_hands_1 12 rfl rfl)
theorem dX0_hands_36 : decode cX0_hands 36 = .ok (.invokevirtual 374, 3) := dk_182 1 118 (dk_at dksX0_hands_1 13 rfl rfl)
theorem dX0_hands_39 : decode cX0_hands 39 = .ok (.istore_n 3, 1) := dk_62 (dk_at dksX0_hands_1 16 rfl rfl)
theorem dX0_hands_40 : decode cX0_hands 40 = .ok (.iconst 0, 1) := dk_3 (dk_at dksX0_hands_1 17 rfl rfl)
theorem dX0_hands_41 : decode cX0_hands 41 = .ok (.istore 4, 2) := dk_54 4 (dk_at dksX0_hands_1 18 rfl rfl)
theorem dX0_hands_43 : decode cX0_hands 43 = .ok (.aload_n 0, 1) := dk_42 (dk_at dksX0_hands_1 20 rfl rfl)
theorem dX0_hands_44 : decode cX0_hands 44 = .ok (.iload_n 1, 1) := dk_27 (dk_at dksX0_hands_1 21 rfl rfl)
theorem dX0_hands_45 : decode cX0_hands 45 = .ok (.iload_n 3, 1) := dk_29 (dk_at dksX0_hands_1 22 rfl rfl)
theorem dX0_hands_46 : decode cX0_hands 46 = .ok (.iconst 0, 1) := dk_3 (dk_at dksX0_hands_1 23 rfl rfl)
theorem dX0_hands_47 : decode cX0_hands 47 = .ok (.iconst 1, 1) := dk_4 (dk_at dksX0_hands_2 0 rfl rfl)
theorem dX0_hands_48 : decode cX0_hands 48 = .ok (.invokevirtual 374, 3) := dk_182 1 118 (dk_at dksX0_hands_2 1 rfl rfl)
theorem dX0_hands_51 : decode cX0_hands 51 = .ok (.istore 5, 2) := dk_54 5 (dk_at dksX0_hands_2 4 rfl rfl)
theorem dX0_hands_53 : decode cX0_hands 53 = .ok (.iload 5, 2) := dk_21 5 (dk_at dksX0_hands_2 6 rfl rfl)
theorem dX0_hands_55 : decode cX0_hands 55 = .ok (.istore 6, 2) := dk_54 6 (dk_at dksX0_hands_2 8 rfl rfl)
theorem dX0_hands_57 : decode cX0_hands 57 = .ok (.iload 6, 2) := dk_21 6 (dk_at dksX0_hands_2 10 rfl rfl)
theorem dX0_hands_59 : decode cX0_hands 59 = .ok (.iload_n 2, 1) := dk_28 (dk_at dksX0_hands_2 12 rfl rfl)
theorem dX0_hands_60 : decode cX0_hands 60 = .ok (.if_icmp .ge 59, 3) := dk_162 0 59 (dk_at dksX0_hands_2 13 rfl rfl)
theorem dX0_hands_63 : decode cX0_hands 63 = .ok (.iload 4, 2) := dk_21 4 (dk_at dksX0_hands_2 16 rfl rfl)
theorem dX0_hands_65 : decode cX0_hands 65 = .ok (.aload_n 0, 1) := dk_42 (dk_at dksX0_hands_2 18 rfl rfl)
theorem dX0_hands_66 : decode cX0_hands 66 = .ok (.getfield 75, 3) := dk_180 0 75 (dk_at dksX0_hands_2 19 rfl rfl)
theorem dX0_hands_69 : decode cX0_hands 69 = .ok (.iload 6, 2) := dk_21 6 (dk_at dksX0_hands_2 22 rfl rfl)
theorem dX0_hands_71 : decode cX0_hands 71 = .ok (.iaload, 1) := dk_46 (dk_at dksX0_hands_3 0 rfl rfl)
theorem dX0_hands_72 : decode cX0_hands 72 = .ok (.iload_n 1, 1) := dk_27 (dk_at dksX0_hands_3 1 rfl rfl)
theorem dX0_hands_73 : decode cX0_hands 73 = .ok (.if_icmp .ne 36, 3) := dk_160 0 36 (dk_at dksX0_hands_3 2 rfl rfl)
theorem dX0_hands_76 : decode cX0_hands 76 = .ok (.aload_n 0, 1) := dk_42 (dk_at dksX0_hands_3 5 rfl rfl)
theorem dX0_hands_77 : decode cX0_hands 77 = .ok (.getfield 78, 3) := dk_180 0 78 (dk_at dksX0_hands_3 6 rfl rfl)
theorem dX0_hands_80 : decode cX0_hands 80 = .ok (.iload 6, 2) := dk_21 6 (dk_at dksX0_hands_3 9 rfl rfl)
theorem dX0_hands_82 : decode cX0_hands 82 = .ok (.iaload, 1) := dk_46 (dk_at dksX0_hands_3 11 rfl rfl)
theorem dX0_hands_83 : decode cX0_hands 83 = .ok (.iconst 2, 1) := dk_5 (dk_at dksX0_hands_3 12 rfl rfl)
theorem dX0_hands_84 : decode cX0_hands 84 = .ok (.if_icmp .ge 25, 3) := dk_162 0 25 (dk_at dksX0_hands_3 13 rfl rfl)
theorem dX0_hands_87 : decode cX0_hands 87 = .ok (.iload 6, 2) := dk_21 6 (dk_at dksX0_hands_3 16 rfl rfl)
theorem dX0_hands_89 : decode cX0_hands 89 = .ok (.iload 5, 2) := dk_21 5 (dk_at dksX0_hands_3 18 rfl rfl)
theorem dX0_hands_91 : decode cX0_hands 91 = .ok (.if_icmp .eq 9, 3) := dk_159 0 9 (dk_at dksX0_hands_3 20 rfl rfl)
theorem dX0_hands_94 : decode cX0_hands 94 = .ok (.iload 6, 2) := dk_21 6 (dk_at dksX0_hands_4 0 rfl rfl)
theorem dX0_hands_96 : decode cX0_hands 96 = .ok (.iload_n 3, 1) := dk_29 (dk_at dksX0_hands_4 2 rfl rfl)
theorem dX0_hands_97 : decode cX0_hands 97 = .ok (.if_icmp .le 12, 3) := dk_164 0 12 (dk_at dksX0_hands_4 3 rfl rfl)
theorem dX0_hands_100 : decode cX0_hands 100 = .ok (.aload_n 0, 1) := dk_42 (dk_at dksX0_hands_4 6 rfl rfl)
theorem dX0_hands_101 : decode cX0_hands 101 = .ok (.iload 6, 2) := dk_21 6 (dk_at dksX0_hands_4 7 rfl rfl)
theorem dX0_hands_103 : decode cX0_hands 103 = .ok (.invokevirtual 377, 3) := dk_182 1 121 (dk_at dksX0_hands_4 9 rfl rfl)
theorem dX0_hands_106 : decode cX0_hands 106 = .ok (.goto 4, 3) := dk_167 0 4 (dk_at dksX0_hands_4 12 rfl rfl)
theorem dX0_hands_109 : decode cX0_hands 109 = .ok (.iconst 0, 1) := dk_3 (dk_at dksX0_hands_4 15 rfl rfl)
theorem dX0_hands_110 : decode cX0_hands 110 = .ok (.ior, 1) := dk_128 (dk_at dksX0_hands_4 16 rfl rfl)
theorem dX0_hands_111 : decode cX0_hands 111 = .ok (.istore 4, 2) := dk_54 4 (dk_at dksX0_hands_4 17 rfl rfl)
theorem dX0_hands_113 : decode cX0_hands 113 = .ok (.iinc 6 1, 3) := dk_132 6 1 (dk_at dksX0_hands_4 19 rfl rfl)
theorem dX0_hands_116 : decode cX0_hands 116 = .ok (.goto (-59), 3) := dk_167 255 197 (dk_at dksX0_hands_5 0 rfl rfl)
theorem dX0_hands_119 : decode cX0_hands 119 = .ok (.aload_n 0, 1) := dk_42 (dk_at dksX0_hands_5 3 rfl rfl)
theorem dX0_hands_120 : decode cX0_hands 120 = .ok (.iload 4, 2) := dk_21 4 (dk_at dksX0_hands_5 4 rfl rfl)
theorem dX0_hands_122 : decode cX0_hands 122 = .ok (.iload 4, 2) := dk_21 4 (dk_at dksX0_hands_5 6 rfl rfl)
theorem dX0_hands_124 : decode cX0_hands 124 = .ok (.invokestatic 380, 3) := dk_184 1 124 (dk_at dksX0_hands_5 8 rfl rfl)
theorem dX0_hands_127 : decode cX0_hands 127 = .ok (.invokevirtual 185, 3) := dk_182 0 185 (dk_at dksX0_hands_5 11 rfl rfl)
theorem dX0_hands_130 : decode cX0_hands 130 = .ok (.ireturn, 1) := dk_172 (dk_at dksX0_hands_5 14 rfl rfl)
abbrev cX0_handOf : ByteArray := prog_1_method_71_code
def yX0_handOf : MethodName := ⟨RX0, "handOf", "(I)I"⟩
def dkwX0_handOf_1 : List UInt8 := [180, 0, 84, 27, 46, 96, 120, 172]
abbrev dktX0_handOf_1 : List UInt8 := dkwX0_handOf_1 ++ []
def dkwX0_handOf_0 : List UInt8 := [42, 180, 0, 78, 27, 46, 154, 0, 14, 4, 42, 180, 0, 84, 27, 46, 120, 167, 0, 14, 4, 16, 8, 42]
abbrev dktX0_handOf_0 : List UInt8 := dkwX0_handOf_0 ++ dktX0_handOf_1
theorem dksX0_handOf_0 : cX0_handOf.data.toList.drop 0 = dktX0_handOf_0 := by decide +kernel
theorem dksX0_handOf_1 : cX0_handOf.data.toList.drop 24 = dktX0_handOf_1 := dk_seg dksX0_handOf_0 24 rfl rfl
theorem dX0_handOf_0 : decode cX0_handOf 0 = .ok (.aload_n 0, 1) := dk_42 (dk_at dksX0_handOf_0 0 rfl rfl)
theorem dX0_handOf_1 : decode cX0_handOf 1 = .ok (.getfield 78, 3) := dk_180 0 78 (dk_at dksX0_handOf_0 1 rfl rfl)
theorem dX0_handOf_4 : decode cX0_handOf 4 = .ok (.iload_n 1, 1) := dk_27 (dk_at dksX0_handOf_0 4 rfl rfl)
theorem dX0_handOf_5 : decode cX0_handOf 5 = .ok (.iaload, 1) := dk_46 (dk_at dksX0_handOf_0 5 rfl rfl)
theorem dX0_handOf_6 : decode cX0_handOf 6 = .ok (.ifCond .ne 14, 3) := dk_154 0 14 (dk_at dksX0_handOf_0 6 rfl rfl)
theorem dX0_handOf_9 : decode cX0_handOf 9 = .ok (.iconst 1, 1) := dk_4 (dk_at dksX0_handOf_0 9 rfl rfl)
theorem dX0_handOf_10 : decode cX0_handOf 10 = .ok (.aload_n 0, 1) := dk_42 (dk_at dksX0_handOf_0 10 rfl rfl)
theorem dX0_handOf_11 : decode cX0_handOf 11 = .ok (.getfield 84, 3) := dk_180 0 84 (dk_at dksX0_handOf_0 11 rfl rfl)
theorem dX0_handOf_14 : decode cX0_handOf 14 = .ok (.iload_n 1, 1) := dk_27 (dk_at dksX0_handOf_0 14 rfl rfl)
theorem dX0_handOf_15 : decode cX0_handOf 15 = .ok (.iaload, 1) := dk_46 (dk_at dksX0_handOf_0 15 rfl rfl)
theorem dX0_handOf_16 : decode cX0_handOf 16 = .ok (.ishl, 1) := dk_120 (dk_at dksX0_handOf_0 16 rfl rfl)
theorem dX0_handOf_17 : decode cX0_handOf 17 = .ok (.goto 14, 3) := dk_167 0 14 (dk_at dksX0_handOf_0 17 rfl rfl)
theorem dX0_handOf_20 : decode cX0_handOf 20 = .ok (.iconst 1, 1) := dk_4 (dk_at dksX0_handOf_0 20 rfl rfl)
theorem dX0_handOf_21 : decode cX0_handOf 21 = .ok (.bipush 8, 2) := dk_16 8 (dk_at dksX0_handOf_0 21 rfl rfl)
theorem dX0_handOf_23 : decode cX0_handOf 23 = .ok (.aload_n 0, 1) := dk_42 (dk_at dksX0_handOf_0 23 rfl rfl)
theorem dX0_handOf_24 : decode cX0_handOf 24 = .ok (.getfield 84, 3) := dk_180 0 84 (dk_at dksX0_handOf_1 0 rfl rfl)
theorem dX0_handOf_27 : decode cX0_handOf 27 = .ok (.iload_n 1, 1) := dk_27 (dk_at dksX0_handOf_1 3 rfl rfl)
theorem dX0_handOf_28 : decode cX0_handOf 28 = .ok (.iaload, 1) := dk_46 (dk_at dksX0_handOf_1 4 rfl rfl)
theorem dX0_handOf_29 : decode cX0_handOf 29 = .ok (.iadd, 1) := dk_96 (dk_at dksX0_handOf_1 5 rfl rfl)
theorem dX0_handOf_30 : decode cX0_handOf 30 = .ok (.ishl, 1) := dk_120 (dk_at dksX0_handOf_1 6 rfl rfl)
theorem dX0_handOf_31 : decode cX0_handOf 31 = .ok (.ireturn, 1) := dk_172 (dk_at dksX0_handOf_1 7 rfl rfl)
abbrev cX0_swap : ByteArray := prog_1_method_76_code
def yX0_swap : MethodName := ⟨RX0, "swap", "(IIII)I"⟩
def dkwX0_swap_3 : List UInt8 := [180, 1, 135, 42, 180, 1, 129, 182, 0, 185, 167, 0, 8, 42, 4, 182, 0, 181, 172]
abbrev dktX0_swap_3 : List UInt8 := dkwX0_swap_3 ++ []
def dkwX0_swap_2 : List UInt8 := [182, 1, 138, 154, 0, 6, 16, 252, 172, 42, 27, 28, 29, 21, 4, 182, 1, 141, 153, 0, 18, 42, 42]
abbrev dktX0_swap_2 : List UInt8 := dkwX0_swap_2 ++ dktX0_swap_3
def dkwX0_swap_1 : List UInt8 := [153, 0, 11, 21, 4, 184, 0, 222, 154, 0, 5, 2, 172, 42, 27, 182, 1, 138, 153, 0, 11, 42, 28]
abbrev dktX0_swap_1 : List UInt8 := dkwX0_swap_1 ++ dktX0_swap_2
def dkwX0_swap_0 : List UInt8 := [27, 184, 1, 58, 153, 0, 30, 28, 184, 1, 58, 153, 0, 23, 27, 28, 159, 0, 18, 29, 184, 0, 222]
abbrev dktX0_swap_0 : List UInt8 := dkwX0_swap_0 ++ dktX0_swap_1
theorem dksX0_swap_0 : cX0_swap.data.toList.drop 0 = dktX0_swap_0 := by decide +kernel
theorem dksX0_swap_1 : cX0_swap.data.toList.drop 23 = dktX0_swap_1 := dk_seg dksX0_swap_0 23 rfl rfl
theorem dksX0_swap_2 : cX0_swap.data.toList.drop 46 = dktX0_swap_2 := dk_seg dksX0_swap_1 23 rfl rfl
theorem dksX0_swap_3 : cX0_swap.data.toList.drop 69 = dktX0_swap_3 := dk_seg dksX0_swap_2 23 rfl rfl
theorem dX0_swap_0 : decode cX0_swap 0 = .ok (.iload_n 1, 1) := dk_27 (dk_at dksX0_swap_0 0 rfl rfl)
theorem dX0_swap_1 : decode cX0_swap 1 = .ok (.invokestatic 314, 3) := dk_184 1 58 (dk_at dksX0_swap_0 1 rfl rfl)
theorem dX0_swap_4 : decode cX0_swap 4 = .ok (.ifCond .eq 30, 3) := dk_153 0 30 (dk_at dksX0_swap_0 4 rfl rfl)
theorem dX0_swap_7 : decode cX0_swap 7 = .ok (.iload_n 2, 1) := dk_28 (dk_at dksX0_swap_0 7 rfl rfl)
theorem dX0_swap_8 : decode cX0_swap 8 = .ok (.invokestatic 314, 3) := dk_184 1 58 (dk_at dksX0_swap_0 8 rfl rfl)
theorem dX0_swap_11 : decode cX0_swap 11 = .ok (.ifCond .eq 23, 3) := dk_153 0 23 (dk_at dksX0_swap_0 11 rfl rfl)
theorem dX0_swap_14 : decode cX0_swap 14 = .ok (.iload_n 1, 1) := dk_27 (dk_at dksX0_swap_0 14 rfl rfl)
theorem dX0_swap_15 : decode cX0_swap 15 = .ok (.iload_n 2, 1) := dk_28 (dk_at dksX0_swap_0 15 rfl rfl)
theorem dX0_swap_16 : decode cX0_swap 16 = .ok (.if_icmp .eq 18, 3) := dk_159 0 18 (dk_at dksX0_swap_0 16 rfl rfl)
theorem dX0_swap_19 : decode cX0_swap 19 = .ok (.iload_n 3, 1) := dk_29 (dk_at dksX0_swap_0 19 rfl rfl)
theorem dX0_swap_20 : decode cX0_swap 20 = .ok (.invokestatic 222, 3) := dk_184 0 222 (dk_at dksX0_swap_0 20 rfl rfl)
theorem dX0_swap_23 : decode cX0_swap 23 = .ok (.ifCond .eq 11, 3) := dk_153 0 11 (dk_at dksX0_swap_1 0 rfl rfl)
theorem dX0_swap_26 : decode cX0_swap 26 = .ok (.iload 4, 2) := dk_21 4 (dk_at dksX0_swap_1 3 rfl rfl)
theorem dX0_swap_28 : decode cX0_swap 28 = .ok (.invokestatic 222, 3) := dk_184 0 222 (dk_at dksX0_swap_1 5 rfl rfl)
theorem dX0_swap_31 : decode cX0_swap 31 = .ok (.ifCond .ne 5, 3) := dk_154 0 5 (dk_at dksX0_swap_1 8 rfl rfl)
theorem dX0_swap_34 : decode cX0_swap 34 = .ok (.iconst (-1), 1) := dk_2 (dk_at dksX0_swap_1 11 rfl rfl)
theorem dX0_swap_35 : decode cX0_swap 35 = .ok (.ireturn, 1) := dk_172 (dk_at dksX0_swap_1 12 rfl rfl)
theorem dX0_swap_36 : decode cX0_swap 36 = .ok (.aload_n 0, 1) := dk_42 (dk_at dksX0_swap_1 13 rfl rfl)
theorem dX0_swap_37 : decode cX0_swap 37 = .ok (.iload_n 1, 1) := dk_27 (dk_at dksX0_swap_1 14 rfl rfl)
theorem dX0_swap_38 : decode cX0_swap 38 = .ok (.invokevirtual 394, 3) := dk_182 1 138 (dk_at dksX0_swap_1 15 rfl rfl)
theorem dX0_swap_41 : decode cX0_swap 41 = .ok (.ifCond .eq 11, 3) := dk_153 0 11 (dk_at dksX0_swap_1 18 rfl rfl)
theorem dX0_swap_44 : decode cX0_swap 44 = .ok (.aload_n 0, 1) := dk_42 (dk_at dksX0_swap_1 21 rfl rfl)
theorem dX0_swap_45 : decode cX0_swap 45 = .ok (.iload_n 2, 1) := dk_28 (dk_at dksX0_swap_1 22 rfl rfl)
theorem dX0_swap_46 : decode cX0_swap 46 = .ok (.invokevirtual 394, 3) := dk_182 1 138 (dk_at dksX0_swap_2 0 rfl rfl)
theorem dX0_swap_49 : decode cX0_swap 49 = .ok (.ifCond .ne 6, 3) := dk_154 0 6 (dk_at dksX0_swap_2 3 rfl rfl)
theorem dX0_swap_52 : decode cX0_swap 52 = .ok (.bipush (-4), 2) := dk_16 252 (dk_at dksX0_swap_2 6 rfl rfl)
theorem dX0_swap_54 : decode cX0_swap 54 = .ok (.ireturn, 1) := dk_172 (dk_at dksX0_swap_2 8 rfl rfl)
theorem dX0_swap_55 : decode cX0_swap 55 = .ok (.aload_n 0, 1) := dk_42 (dk_at dksX0_swap_2 9 rfl rfl)
theorem dX0_swap_56 : decode cX0_swap 56 = .ok (.iload_n 1, 1) := dk_27 (dk_at dksX0_swap_2 10 rfl rfl)
theorem dX0_swap_57 : decode cX0_swap 57 = .ok (.iload_n 2, 1) := dk_28 (dk_at dksX0_swap_2 11 rfl rfl)
theorem dX0_swap_58 : decode cX0_swap 58 = .ok (.iload_n 3, 1) := dk_29 (dk_at dksX0_swap_2 12 rfl rfl)
theorem dX0_swap_59 : decode cX0_swap 59 = .ok (.iload 4, 2) := dk_21 4 (dk_at dksX0_swap_2 13 rfl rfl)
theorem dX0_swap_61 : decode cX0_swap 61 = .ok (.invokevirtual 397, 3) := dk_182 1 141 (dk_at dksX0_swap_2 15 rfl rfl)
theorem dX0_swap_64 : decode cX0_swap 64 = .ok (.ifCond .eq 18, 3) := dk_153 0 18 (dk_at dksX0_swap_2 18 rfl rfl)
theorem dX0_swap_67 : decode cX0_swap 67 = .ok (.aload_n 0, 1) := dk_42 (dk_at dksX0_swap_2 21 rfl rfl)
theorem dX0_swap_68 : decode cX0_swap 68 = .ok (.aload_n 0, 1) := dk_42 (dk_at dksX0_swap_2 22 rfl rfl)
theorem dX0_swap_69 : decode cX0_swap 69 = .ok (.getfield 391, 3) := dk_180 1 135 (dk_at dksX0_swap_3 0 rfl rfl)
theorem dX0_swap_72 : decode cX0_swap 72 = .ok (.aload_n 0, 1) := dk_42 (dk_at dksX0_swap_3 3 rfl rfl)
theorem dX0_swap_73 : decode cX0_swap 73 = .ok (.getfield 385, 3) := dk_180 1 129 (dk_at dksX0_swap_3 4 rfl rfl)
theorem dX0_swap_76 : decode cX0_swap 76 = .ok (.invokevirtual 185, 3) := dk_182 0 185 (dk_at dksX0_swap_3 7 rfl rfl)
theorem dX0_swap_79 : decode cX0_swap 79 = .ok (.goto 8, 3) := dk_167 0 8 (dk_at dksX0_swap_3 10 rfl rfl)
theorem dX0_swap_82 : decode cX0_swap 82 = .ok (.aload_n 0, 1) := dk_42 (dk_at dksX0_swap_3 13 rfl rfl)
theorem dX0_swap_83 : decode cX0_swap 83 = .ok (.iconst 1, 1) := dk_4 (dk_at dksX0_swap_3 14 rfl rfl)
theorem dX0_swap_84 : decode cX0_swap 84 = .ok (.invokevirtual 181, 3) := dk_182 0 181 (dk_at dksX0_swap_3 15 rfl rfl)
theorem dX0_swap_87 : decode cX0_swap 87 = .ok (.ireturn, 1) := dk_172 (dk_at dksX0_swap_3 18 rfl rfl)
abbrev cX0_maySwap : ByteArray := prog_1_method_73_code
def yX0_maySwap : MethodName := ⟨RX0, "maySwap", "(I)Z"⟩
def dkwX0_maySwap_1 : List UInt8 := [172]
abbrev dktX0_maySwap_1 : List UInt8 := dkwX0_maySwap_1 ++ []
def dkwX0_maySwap_0 : List UInt8 := [42, 27, 182, 1, 61, 154, 0, 18, 42, 180, 0, 96, 27, 46, 16, 247, 159, 0, 7, 4, 167, 0, 4, 3]
abbrev dktX0_maySwap_0 : List UInt8 := dkwX0_maySwap_0 ++ dktX0_maySwap_1
theorem dksX0_maySwap_0 : cX0_maySwap.data.toList.drop 0 = dktX0_maySwap_0 := by decide +kernel
theorem dksX0_maySwap_1 : cX0_maySwap.data.toList.drop 24 = dktX0_maySwap_1 := dk_seg dksX0_maySwap_0 24 rfl rfl
theorem dX0_maySwap_0 : decode cX0_maySwap 0 = .ok (.aload_n 0, 1) := dk_42 (dk_at dksX0_maySwap_0 0 rfl rfl)
theorem dX0_maySwap_1 : decode cX0_maySwap 1 = .ok (.iload_n 1, 1) := dk_27 (dk_at dksX0_maySwap_0 1 rfl rfl)
theorem dX0_maySwap_2 : decode cX0_maySwap 2 = .ok (.invokevirtual 317, 3) := dk_182 1 61 (dk_at dksX0_maySwap_0 2 rfl rfl)
theorem dX0_maySwap_5 : decode cX0_maySwap 5 = .ok (.ifCond .ne 18, 3) := dk_154 0 18 (dk_at dksX0_maySwap_0 5 rfl rfl)
theorem dX0_maySwap_8 : decode cX0_maySwap 8 = .ok (.aload_n 0, 1) := dk_42 (dk_at dksX0_maySwap_0 8 rfl rfl)
theorem dX0_maySwap_9 : decode cX0_maySwap 9 = .ok (.getfield 96, 3) := dk_180 0 96 (dk_at dksX0_maySwap_0 9 rfl rfl)
theorem dX0_maySwap_12 : decode cX0_maySwap 12 = .ok (.iload_n 1, 1) := dk_27 (dk_at dksX0_maySwap_0 12 rfl rfl)
theorem dX0_maySwap_13 : decode cX0_maySwap 13 = .ok (.iaload, 1) := dk_46 (dk_at dksX0_maySwap_0 13 rfl rfl)
theorem dX0_maySwap_14 : decode cX0_maySwap 14 = .ok (.bipush (-9), 2) := dk_16 247 (dk_at dksX0_maySwap_0 14 rfl rfl)
theorem dX0_maySwap_16 : decode cX0_maySwap 16 = .ok (.if_icmp .eq 7, 3) := dk_159 0 7 (dk_at dksX0_maySwap_0 16 rfl rfl)
theorem dX0_maySwap_19 : decode cX0_maySwap 19 = .ok (.iconst 1, 1) := dk_4 (dk_at dksX0_maySwap_0 19 rfl rfl)
theorem dX0_maySwap_20 : decode cX0_maySwap 20 = .ok (.goto 4, 3) := dk_167 0 4 (dk_at dksX0_maySwap_0 20 rfl rfl)
theorem dX0_maySwap_23 : decode cX0_maySwap 23 = .ok (.iconst 0, 1) := dk_3 (dk_at dksX0_maySwap_0 23 rfl rfl)
theorem dX0_maySwap_24 : decode cX0_maySwap 24 = .ok (.ireturn, 1) := dk_172 (dk_at dksX0_maySwap_1 0 rfl rfl)
abbrev cX0_laySwap : ByteArray := prog_1_method_75_code
def yX0_laySwap : MethodName := ⟨RX0, "laySwap", "(IIII)Z"⟩
def dkwX0_laySwap_9 : List UInt8 := [159, 0, 7, 4, 167, 0, 4, 3, 172]
abbrev dktX0_laySwap_9 : List UInt8 := dkwX0_laySwap_9 ++ []
def dkwX0_laySwap_8 : List UInt8 := [181, 1, 135, 21, 10, 21, 11, 96, 54, 5, 132, 6, 1, 167, 255, 70, 42, 180, 1, 129, 16, 247]
abbrev dktX0_laySwap_8 : List UInt8 := dkwX0_laySwap_8 ++ dktX0_laySwap_9
def dkwX0_laySwap_7 : List UInt8 := [160, 0, 32, 21, 10, 21, 11, 96, 21, 5, 162, 0, 22, 42, 21, 6, 181, 1, 129, 42, 21, 12]
abbrev dktX0_laySwap_7 : List UInt8 := dkwX0_laySwap_7 ++ dktX0_laySwap_8
def dkwX0_laySwap_6 : List UInt8 := [180, 1, 129, 16, 247, 159, 0, 31, 21, 12, 42, 180, 1, 135, 161, 0, 22, 21, 12, 42, 180, 1, 135]
abbrev dktX0_laySwap_6 : List UInt8 := dkwX0_laySwap_6 ++ dktX0_laySwap_7
def dkwX0_laySwap_5 : List UInt8 := [159, 0, 14, 21, 11, 16, 247, 159, 0, 7, 4, 167, 0, 4, 3, 54, 13, 21, 13, 153, 0, 59, 42]
abbrev dktX0_laySwap_5 : List UInt8 := dkwX0_laySwap_5 ++ dktX0_laySwap_6
def dkwX0_laySwap_4 : List UInt8 := [21, 9, 21, 4, 182, 1, 132, 54, 11, 21, 10, 21, 11, 184, 1, 115, 54, 12, 21, 10, 16, 247]
abbrev dktX0_laySwap_4 : List UInt8 := dkwX0_laySwap_4 ++ dktX0_laySwap_5
def dkwX0_laySwap_3 : List UInt8 := [21, 8, 184, 1, 115, 16, 10, 96, 54, 9, 42, 21, 6, 21, 9, 29, 182, 1, 132, 54, 10, 42, 21, 6]
abbrev dktX0_laySwap_3 : List UInt8 := dkwX0_laySwap_3 ++ dktX0_laySwap_4
def dkwX0_laySwap_2 : List UInt8 := [21, 6, 182, 0, 241, 54, 8, 21, 7, 16, 247, 159, 0, 136, 21, 8, 16, 247, 159, 0, 129, 21, 7]
abbrev dktX0_laySwap_2 : List UInt8 := dkwX0_laySwap_2 ++ dktX0_laySwap_3
def dkwX0_laySwap_1 : List UInt8 := [27, 46, 42, 180, 0, 219, 21, 6, 182, 0, 241, 54, 7, 42, 42, 180, 0, 90, 28, 46, 42, 180, 0, 219]
abbrev dktX0_laySwap_1 : List UInt8 := dkwX0_laySwap_1 ++ dktX0_laySwap_2
def dkwX0_laySwap_0 : List UInt8 := [42, 16, 247, 181, 1, 129, 3, 54, 5, 3, 54, 6, 21, 6, 16, 8, 162, 0, 185, 42, 42, 180, 0, 90]
abbrev dktX0_laySwap_0 : List UInt8 := dkwX0_laySwap_0 ++ dktX0_laySwap_1
theorem dksX0_laySwap_0 : cX0_laySwap.data.toList.drop 0 = dktX0_laySwap_0 := by decide +kernel
theorem dksX0_laySwap_1 : cX0_laySwap.data.toList.drop 24 = dktX0_laySwap_1 := dk_seg dksX0_laySwap_0 24 rfl rfl
theorem dksX0_laySwap_2 : cX0_laySwap.data.toList.drop 48 = dktX0_laySwap_2 := dk_seg dksX0_laySwap_1 24 rfl rfl
theorem dksX0_laySwap_3 : cX0_laySwap.data.toList.drop 71 = dktX0_laySwap_3 := dk_seg dksX0_laySwap_2 23 rfl rfl
theorem dksX0_laySwap_4 : cX0_laySwap.data.toList.drop 95 = dktX0_laySwap_4 := dk_seg dksX0_laySwap_3 24 rfl rfl
theorem dksX0_laySwap_5 : cX0_laySwap.data.toList.drop 117 = dktX0_laySwap_5 := dk_seg dksX0_laySwap_4 22 rfl rfl
theorem dksX0_laySwap_6 : cX0_laySwap.data.toList.drop 140 = dktX0_laySwap_6 := dk_seg dksX0_laySwap_5 23 rfl rfl
theorem dksX0_laySwap_7 : cX0_laySwap.data.toList.drop 163 = dktX0_laySwap_7 := dk_seg dksX0_laySwap_6 23 rfl rfl
theorem dksX0_laySwap_8 : cX0_laySwap.data.toList.drop 185 = dktX0_laySwap_8 := dk_seg dksX0_laySwap_7 22 rfl rfl
theorem dksX0_laySwap_9 : cX0_laySwap.data.toList.drop 207 = dktX0_laySwap_9 := dk_seg dksX0_laySwap_8 22 rfl rfl
theorem dX0_laySwap_0 : decode cX0_laySwap 0 = .ok (.aload_n 0, 1) := dk_42 (dk_at dksX0_laySwap_0 0 rfl rfl)
theorem dX0_laySwap_1 : decode cX0_laySwap 1 = .ok (.bipush (-9), 2) := dk_16 247 (dk_at dksX0_laySwap_0 1 rfl rfl)
theorem dX0_laySwap_3 : decode cX0_laySwap 3 = .ok (.putfield 385, 3) := dk_181 1 129 (dk_at dksX0_laySwap_0 3 rfl rfl)
theorem dX0_laySwap_6 : decode cX0_laySwap 6 = .ok (.iconst 0, 1) := dk_3 (dk_at dksX0_laySwap_0 6 rfl rfl)
theorem dX0_laySwap_7 : decode cX0_laySwap 7 = .ok (.istore 5, 2) := dk_54 5 (dk_at dksX0_laySwap_0 7 rfl rfl)
theorem dX0_laySwap_9 : decode cX0_laySwap 9 = .ok (.iconst 0, 1) := dk_3 (dk_at dksX0_laySwap_0 9 rfl rfl)
theorem dX0_laySwap_10 : decode cX0_laySwap 10 = .ok (.istore 6, 2) := dk_54 6 (dk_at dksX0_laySwap_0 10 rfl rfl)
theorem dX0_laySwap_12 : decode cX0_laySwap 12 = .ok (.iload 6, 2) := dk_21 6 (dk_at dksX0_laySwap_0 12 rfl rfl)
theorem dX0_laySwap_14 : decode cX0_laySwap 14 = .ok (.bipush 8, 2) := dk_16 8 (dk_at dksX0_laySwap_0 14 rfl rfl)
theorem dX0_laySwap_16 : decode cX0_laySwap 16 = .ok (.if_icmp .ge 185, 3) := dk_162 0 185 (dk_at dksX0_laySwap_0 16 rfl rfl)
theorem dX0_laySwap_19 : decode cX0_laySwap 19 = .ok (.aload_n 0, 1) := dk_42 (dk_at dksX0_laySwap_0 19 rfl rfl)
theorem dX0_laySwap_20 : decode cX0_laySwap 20 = .ok (.aload_n 0, 1) := dk_42 (dk_at dksX0_laySwap_0 20 rfl rfl)
theorem dX0_laySwap_21 : decode cX0_laySwap 21 = .ok (.getfield 90, 3) := dk_180 0 90 (dk_at dksX0_laySwap_0 21 rfl rfl)
theorem dX0_laySwap_24 : decode cX0_laySwap 24 = .ok (.iload_n 1, 1) := dk_27 (dk_at dksX0_laySwap_1 0 rfl rfl)
theorem dX0_laySwap_25 : decode cX0_laySwap 25 = .ok (.iaload, 1) := dk_46 (dk_at dksX0_laySwap_1 1 rfl rfl)
theorem dX0_laySwap_26 : decode cX0_laySwap 26 = .ok (.aload_n 0, 1) := dk_42 (dk_at dksX0_laySwap_1 2 rfl rfl)
theorem dX0_laySwap_27 : decode cX0_laySwap 27 = .ok (.getfield 219, 3) := dk_180 0 219 (dk_at dksX0_laySwap_1 3 rfl rfl)
theorem dX0_laySwap_30 : decode cX0_laySwap 30 = .ok (.iload 6, 2) := dk_21 6 (dk_at dksX0_laySwap_1 6 rfl rfl)
theorem dX0_laySwap_32 : decode cX0_laySwap 32 = .ok (.invokevirtual 241, 3) := dk_182 0 241 (dk_at dksX0_laySwap_1 8 rfl rfl)
theorem dX0_laySwap_35 : decode cX0_laySwap 35 = .ok (.istore 7, 2) := dk_54 7 (dk_at dksX0_laySwap_1 11 rfl rfl)
theorem dX0_laySwap_37 : decode cX0_laySwap 37 = .ok (.aload_n 0, 1) := dk_42 (dk_at dksX0_laySwap_1 13 rfl rfl)
theorem dX0_laySwap_38 : decode cX0_laySwap 38 = .ok (.aload_n 0, 1) := dk_42 (dk_at dksX0_laySwap_1 14 rfl rfl)
theorem dX0_laySwap_39 : decode cX0_laySwap 39 = .ok (.getfield 90, 3) := dk_180 0 90 (dk_at dksX0_laySwap_1 15 rfl rfl)
theorem dX0_laySwap_42 : decode cX0_laySwap 42 = .ok (.iload_n 2, 1) := dk_28 (dk_at dksX0_laySwap_1 18 rfl rfl)
theorem dX0_laySwap_43 : decode cX0_laySwap 43 = .ok (.iaload, 1) := dk_46 (dk_at dksX0_laySwap_1 19 rfl rfl)
theorem dX0_laySwap_44 : decode cX0_laySwap 44 = .ok (.aload_n 0, 1) := dk_42 (dk_at dksX0_laySwap_1 20 rfl rfl)
theorem dX0_laySwap_45 : decode cX0_laySwap 45 = .ok (.getfield 219, 3) := dk_180 0 219 (dk_at dksX0_laySwap_1 21 rfl rfl)
theorem dX0_laySwap_48 : decode cX0_laySwap 48 = .ok (.iload 6, 2) := dk_21 6 (dk_at dksX0_laySwap_2 0 rfl rfl)
theorem dX0_laySwap_50 : decode cX0_laySwap 50 = .ok (.invokevirtual 241, 3) := dk_182 0 241 (dk_at dksX0_laySwap_2 2 rfl rfl)
theorem dX0_laySwap_53 : decode cX0_laySwap 53 = .ok (.istore 8, 2) := dk_54 8 (dk_at dksX0_laySwap_2 5 rfl rfl)
theorem dX0_laySwap_55 : decode cX0_laySwap 55 = .ok (.iload 7, 2) := dk_21 7 (dk_at dksX0_laySwap_2 7 rfl rfl)
theorem dX0_laySwap_57 : decode cX0_laySwap 57 = .ok (.bipush (-9), 2) := dk_16 247 (dk_at dksX0_laySwap_2 9 rfl rfl)
theorem dX0_laySwap_59 : decode cX0_laySwap 59 = .ok (.if_icmp .eq 136, 3) := dk_159 0 136 (dk_at dksX0_laySwap_2 11 rfl rfl)
theorem dX0_laySwap_62 : decode cX0_laySwap 62 = .ok (.iload 8, 2) := dk_21 8 (dk_at dksX0_laySwap_2 14 rfl rfl)
theorem dX0_laySwap_64 : decode cX0_laySwap 64 = .ok (.bipush (-9), 2) := dk_16 247 (dk_at dksX0_laySwap_2 16 rfl rfl)
theorem dX0_laySwap_66 : decode cX0_laySwap 66 = .ok (.if_icmp .eq 129, 3) := dk_159 0 129 (dk_at dksX0_laySwap_2 18 rfl rfl)
theorem dX0_laySwap_69 : decode cX0_laySwap 69 = .ok (.iload 7, 2) := dk_21 7 (dk_at dksX0_laySwap_2 21 rfl rfl)
theorem dX0_laySwap_71 : decode cX0_laySwap 71 = .ok (.iload 8, 2) := dk_21 8 (dk_at dksX0_laySwap_3 0 rfl rfl)
theorem dX0_laySwap_73 : decode cX0_laySwap 73 = .ok (.invokestatic 371, 3) := dk_184 1 115 (dk_at dksX0_laySwap_3 2 rfl rfl)
theorem dX0_laySwap_76 : decode cX0_laySwap 76 = .ok (.bipush 10, 2) := dk_16 10 (dk_at dksX0_laySwap_3 5 rfl rfl)
theorem dX0_laySwap_78 : decode cX0_laySwap 78 = .ok (.iadd, 1) := dk_96 (dk_at dksX0_laySwap_3 7 rfl rfl)
theorem dX0_laySwap_79 : decode cX0_laySwap 79 = .ok (.istore 9, 2) := dk_54 9 (dk_at dksX0_laySwap_3 8 rfl rfl)
theorem dX0_laySwap_81 : decode cX0_laySwap 81 = .ok (.aload_n 0, 1) := dk_42 (dk_at dksX0_laySwap_3 10 rfl rfl)
theorem dX0_laySwap_82 : decode cX0_laySwap 82 = .ok (.iload 6, 2) := dk_21 6 (dk_at dksX0_laySwap_3 11 rfl rfl)
theorem dX0_laySwap_84 : decode cX0_laySwap 84 = .ok (.iload 9, 2) := dk_21 9 (dk_at dksX0_laySwap_3 13 rfl rfl)
theorem dX0_laySwap_86 : decode cX0_laySwap 86 = .ok (.iload_n 3, 1) := dk_29 (dk_at dksX0_laySwap_3 15 rfl rfl)
theorem dX0_laySwap_87 : decode cX0_laySwap 87 = .ok (.invokevirtual 388, 3) := dk_182 1 132 (dk_at dksX0_laySwap_3 16 rfl rfl)
theorem dX0_laySwap_90 : decode cX0_laySwap 90 = .ok (.istore 10, 2) := dk_54 10 (dk_at dksX0_laySwap_3 19 rfl rfl)
theorem dX0_laySwap_92 : decode cX0_laySwap 92 = .ok (.aload_n 0, 1) := dk_42 (dk_at dksX0_laySwap_3 21 rfl rfl)
theorem dX0_laySwap_93 : decode cX0_laySwap 93 = .ok (.iload 6, 2) := dk_21 6 (dk_at dksX0_laySwap_3 22 rfl rfl)
theorem dX0_laySwap_95 : decode cX0_laySwap 95 = .ok (.iload 9, 2) := dk_21 9 (dk_at dksX0_laySwap_4 0 rfl rfl)
theorem dX0_laySwap_97 : decode cX0_laySwap 97 = .ok (.iload 4, 2) := dk_21 4 (dk_at dksX0_laySwap_4 2 rfl rfl)
theorem dX0_laySwap_99 : decode cX0_laySwap 99 = .ok (.invokevirtual 388, 3) := dk_182 1 132 (dk_at dksX0_laySwap_4 4 rfl rfl)
theorem dX0_laySwap_102 : decode cX0_laySwap 102 = .ok (.istore 11, 2) := dk_54 11 (dk_at dksX0_laySwap_4 7 rfl rfl)
theorem dX0_laySwap_104 : decode cX0_laySwap 104 = .ok (.iload 10, 2) := dk_21 10 (dk_at dksX0_laySwap_4 9 rfl rfl)
theorem dX0_laySwap_106 : decode cX0_laySwap 106 = .ok (.iload 11, 2) := dk_21 11 (dk_at dksX0_laySwap_4 11 rfl rfl)
theorem dX0_laySwap_108 : decode cX0_laySwap 108 = .ok (.invokestatic 371, 3) := dk_184 1 115 (dk_at dksX0_laySwap_4 13 rfl rfl)
theorem dX0_laySwap_111 : decode cX0_laySwap 111 = .ok (.istore 12, 2) := dk_54 12 (dk_at dksX0_laySwap_4 16 rfl rfl)
theorem dX0_laySwap_113 : decode cX0_laySwap 113 = .ok (.iload 10, 2) := dk_21 10 (dk_at dksX0_laySwap_4 18 rfl rfl)
theorem dX0_laySwap_115 : decode cX0_laySwap 115 = .ok (.bipush (-9), 2) := dk_16 247 (dk_at dksX0_laySwap_4 20 rfl rfl)
theorem dX0_laySwap_117 : decode cX0_laySwap 117 = .ok (.if_icmp .eq 14, 3) := dk_159 0 14 (dk_at dksX0_laySwap_5 0 rfl rfl)
theorem dX0_laySwap_120 : decode cX0_laySwap 120 = .ok (.iload 11, 2) := dk_21 11 (dk_at dksX0_laySwap_5 3 rfl rfl)
theorem dX0_laySwap_122 : decode cX0_laySwap 122 = .ok (.bipush (-9), 2) := dk_16 247 (dk_at dksX0_laySwap_5 5 rfl rfl)
theorem dX0_laySwap_124 : decode cX0_laySwap 124 = .ok (.if_icmp .eq 7, 3) := dk_159 0 7 (dk_at dksX0_laySwap_5 7 rfl rfl)
theorem dX0_laySwap_127 : decode cX0_laySwap 127 = .ok (.iconst 1, 1) := dk_4 (dk_at dksX0_laySwap_5 10 rfl rfl)
theorem dX0_laySwap_128 : decode cX0_laySwap 128 = .ok (.goto 4, 3) := dk_167 0 4 (dk_at dksX0_laySwap_5 11 rfl rfl)
theorem dX0_laySwap_131 : decode cX0_laySwap 131 = .ok (.iconst 0, 1) := dk_3 (dk_at dksX0_laySwap_5 14 rfl rfl)
theorem dX0_laySwap_132 : decode cX0_laySwap 132 = .ok (.istore 13, 2) := dk_54 13 (dk_at dksX0_laySwap_5 15 rfl rfl)
theorem dX0_laySwap_134 : decode cX0_laySwap 134 = .ok (.iload 13, 2) := dk_21 13 (dk_at dksX0_laySwap_5 17 rfl rfl)
theorem dX0_laySwap_136 : decode cX0_laySwap 136 = .ok (.ifCond .eq 59, 3) := dk_153 0 59 (dk_at dksX0_laySwap_5 19 rfl rfl)
theorem dX0_laySwap_139 : decode cX0_laySwap 139 = .ok (.aload_n 0, 1) := dk_42 (dk_at dksX0_laySwap_5 22 rfl rfl)
theorem dX0_laySwap_140 : decode cX0_laySwap 140 = .ok (.getfield 385, 3) := dk_180 1 129 (dk_at dksX0_laySwap_6 0 rfl rfl)
theorem dX0_laySwap_143 : decode cX0_laySwap 143 = .ok (.bipush (-9), 2) := dk_16 247 (dk_at dksX0_laySwap_6 3 rfl rfl)
theorem dX0_laySwap_145 : decode cX0_laySwap 145 = .ok (.if_icmp .eq 31, 3) := dk_159 0 31 (dk_at dksX0_laySwap_6 5 rfl rfl)
theorem dX0_laySwap_148 : decode cX0_laySwap 148 = .ok (.iload 12, 2) := dk_21 12 (dk_at dksX0_laySwap_6 8 rfl rfl)
theorem dX0_laySwap_150 : decode cX0_laySwap 150 = .ok (.aload_n 0, 1) := dk_42 (dk_at dksX0_laySwap_6 10 rfl rfl)
theorem dX0_laySwap_151 : decode cX0_laySwap 151 = .ok (.getfield 391, 3) := dk_180 1 135 (dk_at dksX0_laySwap_6 11 rfl rfl)
theorem dX0_laySwap_154 : decode cX0_laySwap 154 = .ok (.if_icmp .lt 22, 3) := dk_161 0 22 (dk_at dksX0_laySwap_6 14 rfl rfl)
theorem dX0_laySwap_157 : decode cX0_laySwap 157 = .ok (.iload 12, 2) := dk_21 12 (dk_at dksX0_laySwap_6 17 rfl rfl)
theorem dX0_laySwap_159 : decode cX0_laySwap 159 = .ok (.aload_n 0, 1) := dk_42 (dk_at dksX0_laySwap_6 19 rfl rfl)
theorem dX0_laySwap_160 : decode cX0_laySwap 160 = .ok (.getfield 391, 3) := dk_180 1 135 (dk_at dksX0_laySwap_6 20 rfl rfl)
theorem dX0_laySwap_163 : decode cX0_laySwap 163 = .ok (.if_icmp .ne 32, 3) := dk_160 0 32 (dk_at dksX0_laySwap_7 0 rfl rfl)
theorem dX0_laySwap_166 : decode cX0_laySwap 166 = .ok (.iload 10, 2) := dk_21 10 (dk_at dksX0_laySwap_7 3 rfl rfl)
theorem dX0_laySwap_168 : decode cX0_laySwap 168 = .ok (.iload 11, 2) := dk_21 11 (dk_at dksX0_laySwap_7 5 rfl rfl)
theorem dX0_laySwap_170 : decode cX0_laySwap 170 = .ok (.iadd, 1) := dk_96 (dk_at dksX0_laySwap_7 7 rfl rfl)
theorem dX0_laySwap_171 : decode cX0_laySwap 171 = .ok (.iload 5, 2) := dk_21 5 (dk_at dksX0_laySwap_7 8 rfl rfl)
theorem dX0_laySwap_173 : decode cX0_laySwap 173 = .ok (.if_icmp .ge 22, 3) := dk_162 0 22 (dk_at dksX0_laySwap_7 10 rfl rfl)
theorem dX0_laySwap_176 : decode cX0_laySwap 176 = .ok (.aload_n 0, 1) := dk_42 (dk_at dksX0_laySwap_7 13 rfl rfl)
theorem dX0_laySwap_177 : decode cX0_laySwap 177 = .ok (.iload 6, 2) := dk_21 6 (dk_at dksX0_laySwap_7 14 rfl rfl)
theorem dX0_laySwap_179 : decode cX0_laySwap 179 = .ok (.putfield 385, 3) := dk_181 1 129 (dk_at dksX0_laySwap_7 16 rfl rfl)
theorem dX0_laySwap_182 : decode cX0_laySwap 182 = .ok (.aload_n 0, 1) := dk_42 (dk_at dksX0_laySwap_7 19 rfl rfl)
theorem dX0_laySwap_183 : decode cX0_laySwap 183 = .ok (.iload 12, 2) := dk_21 12 (dk_at dksX0_laySwap_7 20 rfl rfl)
theorem dX0_laySwap_185 : decode cX0_laySwap 185 = .ok (.putfield 391, 3) := dk_181 1 135 (dk_at dksX0_laySwap_8 0 rfl rfl)
theorem dX0_laySwap_188 : decode cX0_laySwap 188 = .ok (.iload 10, 2) := dk_21 10 (dk_at dksX0_laySwap_8 3 rfl rfl)
theorem dX0_laySwap_190 : decode cX0_laySwap 190 = .ok (.iload 11, 2) := dk_21 11 (dk_at dksX0_laySwap_8 5 rfl rfl)
theorem dX0_laySwap_192 : decode cX0_laySwap 192 = .ok (.iadd, 1) := dk_96 (dk_at dksX0_laySwap_8 7 rfl rfl)
theorem dX0_laySwap_193 : decode cX0_laySwap 193 = .ok (.istore 5, 2) := dk_54 5 (dk_at dksX0_laySwap_8 8 rfl rfl)
theorem dX0_laySwap_195 : decode cX0_laySwap 195 = .ok (.iinc 6 1, 3) := dk_132 6 1 (dk_at dksX0_laySwap_8 10 rfl rfl)
theorem dX0_laySwap_198 : decode cX0_laySwap 198 = .ok (.goto (-186), 3) := dk_167 255 70 (dk_at dksX0_laySwap_8 13 rfl rfl)
theorem dX0_laySwap_201 : decode cX0_laySwap 201 = .ok (.aload_n 0, 1) := dk_42 (dk_at dksX0_laySwap_8 16 rfl rfl)
theorem dX0_laySwap_202 : decode cX0_laySwap 202 = .ok (.getfield 385, 3) := dk_180 1 129 (dk_at dksX0_laySwap_8 17 rfl rfl)
theorem dX0_laySwap_205 : decode cX0_laySwap 205 = .ok (.bipush (-9), 2) := dk_16 247 (dk_at dksX0_laySwap_8 20 rfl rfl)
theorem dX0_laySwap_207 : decode cX0_laySwap 207 = .ok (.if_icmp .eq 7, 3) := dk_159 0 7 (dk_at dksX0_laySwap_9 0 rfl rfl)
theorem dX0_laySwap_210 : decode cX0_laySwap 210 = .ok (.iconst 1, 1) := dk_4 (dk_at dksX0_laySwap_9 3 rfl rfl)
theorem dX0_laySwap_211 : decode cX0_laySwap 211 = .ok (.goto 4, 3) := dk_167 0 4 (dk_at dksX0_laySwap_9 4 rfl rfl)
theorem dX0_laySwap_214 : decode cX0_laySwap 214 = .ok (.iconst 0, 1) := dk_3 (dk_at dksX0_laySwap_9 7 rfl rfl)
theorem dX0_laySwap_215 : decode cX0_laySwap 215 = .ok (.ireturn, 1) := dk_172 (dk_at dksX0_laySwap_9 8 rfl rfl)
abbrev cX0_homeAt : ByteArray := prog_1_method_74_code
def yX0_homeAt : MethodName := ⟨RX0, "homeAt", "(III)I"⟩
def dkwX0_homeAt_0 : List UInt8 := [42, 27, 28, 29, 182, 0, 241, 172]
abbrev dktX0_homeAt_0 : List UInt8 := dkwX0_homeAt_0 ++ []
theorem dksX0_homeAt_0 : cX0_homeAt.data.toList.drop 0 = dktX0_homeAt_0 := by decide +kernel
theorem dX0_homeAt_0 : decode cX0_homeAt 0 = .ok (.aload_n 0, 1) := dk_42 (dk_at dksX0_homeAt_0 0 rfl rfl)
theorem dX0_homeAt_1 : decode cX0_homeAt 1 = .ok (.iload_n 1, 1) := dk_27 (dk_at dksX0_homeAt_0 1 rfl rfl)
theorem dX0_homeAt_2 : decode cX0_homeAt 2 = .ok (.iload_n 2, 1) := dk_28 (dk_at dksX0_homeAt_0 2 rfl rfl)
theorem dX0_homeAt_3 : decode cX0_homeAt 3 = .ok (.iload_n 3, 1) := dk_29 (dk_at dksX0_homeAt_0 3 rfl rfl)
theorem dX0_homeAt_4 : decode cX0_homeAt 4 = .ok (.invokevirtual 241, 3) := dk_182 0 241 (dk_at dksX0_homeAt_0 4 rfl rfl)
theorem dX0_homeAt_7 : decode cX0_homeAt 7 = .ok (.ireturn, 1) := dk_172 (dk_at dksX0_homeAt_0 7 rfl rfl)
abbrev cX0_pairs : ByteArray := prog_1_method_78_code
def yX0_pairs : MethodName := ⟨RX0, "pairs", "(II)I"⟩
def dkwX0_pairs_10 : List UInt8 := [42, 180, 1, 145, 172]
abbrev dktX0_pairs_10 : List UInt8 := dkwX0_pairs_10 ++ []
def dkwX0_pairs_9 : List UInt8 := [160, 0, 9, 42, 4, 182, 0, 181, 172, 42, 180, 0, 129, 3, 42, 180, 0, 123, 3, 16, 6, 184, 0, 193]
abbrev dktX0_pairs_9 : List UInt8 := dkwX0_pairs_9 ++ dktX0_pairs_10
def dkwX0_pairs_8 : List UInt8 := [132, 6, 1, 167, 255, 237, 42, 27, 42, 180, 0, 25, 28, 50, 3, 182, 1, 148, 42, 180, 1, 145, 16, 247]
abbrev dktX0_pairs_8 : List UInt8 := dkwX0_pairs_8 ++ dktX0_pairs_9
def dkwX0_pairs_7 : List UInt8 := [16, 247, 181, 1, 145, 3, 54, 6, 21, 6, 16, 6, 162, 0, 18, 42, 180, 0, 126, 21, 6, 16, 247, 79]
abbrev dktX0_pairs_7 : List UInt8 := dkwX0_pairs_7 ++ dktX0_pairs_8
def dkwX0_pairs_6 : List UInt8 := [167, 255, 201, 21, 4, 154, 0, 9, 42, 6, 182, 0, 181, 172, 21, 5, 154, 0, 6, 16, 252, 172, 42]
abbrev dktX0_pairs_6 : List UInt8 := dkwX0_pairs_6 ++ dktX0_pairs_7
def dkwX0_pairs_5 : List UInt8 := [153, 0, 12, 42, 21, 6, 182, 1, 138, 153, 0, 7, 4, 167, 0, 4, 3, 126, 54, 5, 132, 6, 1]
abbrev dktX0_pairs_5 : List UInt8 := dkwX0_pairs_5 ++ dktX0_pairs_6
def dkwX0_pairs_4 : List UInt8 := [180, 0, 25, 28, 50, 21, 6, 46, 184, 0, 222, 126, 54, 4, 21, 5, 27, 21, 6, 122, 4, 126]
abbrev dktX0_pairs_4 : List UInt8 := dkwX0_pairs_4 ++ dktX0_pairs_5
def dkwX0_pairs_3 : List UInt8 := [182, 0, 181, 172, 4, 54, 4, 4, 54, 5, 3, 54, 6, 21, 6, 16, 6, 162, 0, 54, 21, 4, 42]
abbrev dktX0_pairs_3 : List UInt8 := dkwX0_pairs_3 ++ dktX0_pairs_4
def dkwX0_pairs_2 : List UInt8 := [199, 0, 9, 42, 4, 182, 0, 181, 172, 42, 180, 0, 25, 28, 50, 190, 16, 6, 159, 0, 9, 42, 8]
abbrev dktX0_pairs_2 : List UInt8 := dkwX0_pairs_2 ++ dktX0_pairs_3
def dkwX0_pairs_1 : List UInt8 := [29, 5, 112, 4, 159, 0, 10, 28, 184, 0, 175, 154, 0, 5, 2, 172, 42, 180, 0, 25, 28, 50]
abbrev dktX0_pairs_1 : List UInt8 := dkwX0_pairs_1 ++ dktX0_pairs_2
def dkwX0_pairs_0 : List UInt8 := [27, 3, 16, 63, 184, 0, 171, 153, 0, 10, 27, 184, 1, 124, 167, 0, 4, 3, 62, 29, 5, 161, 0, 17]
abbrev dktX0_pairs_0 : List UInt8 := dkwX0_pairs_0 ++ dktX0_pairs_1
theorem dksX0_pairs_0 : cX0_pairs.data.toList.drop 0 = dktX0_pairs_0 := by decide +kernel
theorem dksX0_pairs_1 : cX0_pairs.data.toList.drop 24 = dktX0_pairs_1 := dk_seg dksX0_pairs_0 24 rfl rfl
theorem dksX0_pairs_2 : cX0_pairs.data.toList.drop 46 = dktX0_pairs_2 := dk_seg dksX0_pairs_1 22 rfl rfl
theorem dksX0_pairs_3 : cX0_pairs.data.toList.drop 69 = dktX0_pairs_3 := dk_seg dksX0_pairs_2 23 rfl rfl
theorem dksX0_pairs_4 : cX0_pairs.data.toList.drop 92 = dktX0_pairs_4 := dk_seg dksX0_pairs_3 23 rfl rfl
theorem dksX0_pairs_5 : cX0_pairs.data.toList.drop 114 = dktX0_pairs_5 := dk_seg dksX0_pairs_4 22 rfl rfl
theorem dksX0_pairs_6 : cX0_pairs.data.toList.drop 137 = dktX0_pairs_6 := dk_seg dksX0_pairs_5 23 rfl rfl
theorem dksX0_pairs_7 : cX0_pairs.data.toList.drop 160 = dktX0_pairs_7 := dk_seg dksX0_pairs_6 23 rfl rfl
theorem dksX0_pairs_8 : cX0_pairs.data.toList.drop 184 = dktX0_pairs_8 := dk_seg dksX0_pairs_7 24 rfl rfl
theorem dksX0_pairs_9 : cX0_pairs.data.toList.drop 208 = dktX0_pairs_9 := dk_seg dksX0_pairs_8 24 rfl rfl
theorem dksX0_pairs_10 : cX0_pairs.data.toList.drop 232 = dktX0_pairs_10 := dk_seg dksX0_pairs_9 24 rfl rfl
theorem dX0_pairs_0 : decode cX0_pairs 0 = .ok (.iload_n 1, 1) := dk_27 (dk_at dksX0_pairs_0 0 rfl rfl)
theorem dX0_pairs_1 : decode cX0_pairs 1 = .ok (.iconst 0, 1) := dk_3 (dk_at dksX0_pairs_0 1 rfl rfl)
theorem dX0_pairs_2 : decode cX0_pairs 2 = .ok (.bipush 63, 2) := dk_16 63 (dk_at dksX0_pairs_0 2 rfl rfl)
theorem dX0_pairs_4 : decode cX0_pairs 4 = .ok (.invokestatic 171, 3) := dk_184 0 171 (dk_at dksX0_pairs_0 4 rfl rfl)
theorem dX0_pairs_7 : decode cX0_pairs 7 = .ok (.ifCond .eq 10, 3) := dk_153 0 10 (dk_at dksX0_pairs_0 7 rfl rfl)
theorem dX0_pairs_10 : decode cX0_pairs 10 = .ok (.iload_n 1, 1) := dk_27 (dk_at dksX0_pairs_0 10 rfl rfl)
theorem dX0_pairs_11 : decode cX0_pairs 11 = .ok (.invokestatic 380, 3) := dk_184 1 124 (dk_at dksX0_pairs_0 11 rfl rfl)
theorem dX0_pairs_14 : decode cX0_pairs 14 = .ok (.goto 4, 3) := dk_167 0 4 (dk_at dksX0_pairs_0 14 rfl rfl)
theorem dX0_pairs_17 : decode cX0_pairs 17 = .ok (.iconst 0, 1) := dk_3 (dk_at dksX0_pairs_0 17 rfl rfl)
theorem dX0_pairs_18 : decode cX0_pairs 18 = .ok (.istore_n 3, 1) := dk_62 (dk_at dksX0_pairs_0 18 rfl rfl)
theorem dX0_pairs_19 : decode cX0_pairs 19 = .ok (.iload_n 3, 1) := dk_29 (dk_at dksX0_pairs_0 19 rfl rfl)
theorem dX0_pairs_20 : decode cX0_pairs 20 = .ok (.iconst 2, 1) := dk_5 (dk_at dksX0_pairs_0 20 rfl rfl)
theorem dX0_pairs_21 : decode cX0_pairs 21 = .ok (.if_icmp .lt 17, 3) := dk_161 0 17 (dk_at dksX0_pairs_0 21 rfl rfl)
theorem dX0_pairs_24 : decode cX0_pairs 24 = .ok (.iload_n 3, 1) := dk_29 (dk_at dksX0_pairs_1 0 rfl rfl)
theorem dX0_pairs_25 : decode cX0_pairs 25 = .ok (.iconst 2, 1) := dk_5 (dk_at dksX0_pairs_1 1 rfl rfl)
theorem dX0_pairs_26 : decode cX0_pairs 26 = .ok (.irem, 1) := dk_112 (dk_at dksX0_pairs_1 2 rfl rfl)
theorem dX0_pairs_27 : decode cX0_pairs 27 = .ok (.iconst 1, 1) := dk_4 (dk_at dksX0_pairs_1 3 rfl rfl)
theorem dX0_pairs_28 : decode cX0_pairs 28 = .ok (.if_icmp .eq 10, 3) := dk_159 0 10 (dk_at dksX0_pairs_1 4 rfl rfl)
theorem dX0_pairs_31 : decode cX0_pairs 31 = .ok (.iload_n 2, 1) := dk_28 (dk_at dksX0_pairs_1 7 rfl rfl)
theorem dX0_pairs_32 : decode cX0_pairs 32 = .ok (.invokestatic 175, 3) := dk_184 0 175 (dk_at dksX0_pairs_1 8 rfl rfl)
theorem dX0_pairs_35 : decode cX0_pairs 35 = .ok (.ifCond .ne 5, 3) := dk_154 0 5 (dk_at dksX0_pairs_1 11 rfl rfl)
theorem dX0_pairs_38 : decode cX0_pairs 38 = .ok (.iconst (-1), 1) := dk_2 (dk_at dksX0_pairs_1 14 rfl rfl)
theorem dX0_pairs_39 : decode cX0_pairs 39 = .ok (.ireturn, 1) := dk_172 (dk_at dksX0_pairs_1 15 rfl rfl)
theorem dX0_pairs_40 : decode cX0_pairs 40 = .ok (.aload_n 0, 1) := dk_42 (dk_at dksX0_pairs_1 16 rfl rfl)
theorem dX0_pairs_41 : decode cX0_pairs 41 = .ok (.getfield 25, 3) := dk_180 0 25 (dk_at dksX0_pairs_1 17 rfl rfl)
theorem dX0_pairs_44 : decode cX0_pairs 44 = .ok (.iload_n 2, 1) := dk_28 (dk_at dksX0_pairs_1 20 rfl rfl)
theorem dX0_pairs_45 : decode cX0_pairs 45 = .ok (.aaload, 1) := dk_50 (dk_at dksX0_pairs_1 21 rfl rfl)
theorem dX0_pairs_46 : decode cX0_pairs 46 = .ok (.ifnonnull 9, 3) := dk_199 0 9 (dk_at dksX0_pairs_2 0 rfl rfl)
theorem dX0_pairs_49 : decode cX0_pairs 49 = .ok (.aload_n 0, 1) := dk_42 (dk_at dksX0_pairs_2 3 rfl rfl)
theorem dX0_pairs_50 : decode cX0_pairs 50 = .ok (.iconst 1, 1) := dk_4 (dk_at dksX0_pairs_2 4 rfl rfl)
theorem dX0_pairs_51 : decode cX0_pairs 51 = .ok (.invokevirtual 181, 3) := dk_182 0 181 (dk_at dksX0_pairs_2 5 rfl rfl)
theorem dX0_pairs_54 : decode cX0_pairs 54 = .ok (.ireturn, 1) := dk_172 (dk_at dksX0_pairs_2 8 rfl rfl)
theorem dX0_pairs_55 : decode cX0_pairs 55 = .ok (.aload_n 0, 1) := dk_42 (dk_at dksX0_pairs_2 9 rfl rfl)
theorem dX0_pairs_56 : decode cX0_pairs 56 = .ok (.getfield 25, 3) := dk_180 0 25 (dk_at dksX0_pairs_2 10 rfl rfl)
theorem dX0_pairs_59 : decode cX0_pairs 59 = .ok (.iload_n 2, 1) := dk_28 (dk_at dksX0_pairs_2 13 rfl rfl)
theorem dX0_pairs_60 : decode cX0_pairs 60 = .ok (.aaload, 1) := dk_50 (dk_at dksX0_pairs_2 14 rfl rfl)
theorem dX0_pairs_61 : decode cX0_pairs 61 = .ok (.arraylength, 1) := dk_190 (dk_at dksX0_pairs_2 15 rfl rfl)
theorem dX0_pairs_62 : decode cX0_pairs 62 = .ok (.bipush 6, 2) := dk_16 6 (dk_at dksX0_pairs_2 16 rfl rfl)
theorem dX0_pairs_64 : decode cX0_pairs 64 = .ok (.if_icmp .eq 9, 3) := dk_159 0 9 (dk_at dksX0_pairs_2 18 rfl rfl)
theorem dX0_pairs_67 : decode cX0_pairs 67 = .ok (.aload_n 0, 1) := dk_42 (dk_at dksX0_pairs_2 21 rfl rfl)
theorem dX0_pairs_68 : decode cX0_pairs 68 = .ok (.iconst 5, 1) := dk_8 (dk_at dksX0_pairs_2 22 rfl rfl)
theorem dX0_pairs_69 : decode cX0_pairs 69 = .ok (.invokevirtual 181, 3) := dk_182 0 181 (dk_at dksX0_pairs_3 0 rfl rfl)
theorem dX0_pairs_72 : decode cX0_pairs 72 = .ok (.ireturn, 1) := dk_172 (dk_at dksX0_pairs_3 3 rfl rfl)
theorem dX0_pairs_73 : decode cX0_pairs 73 = .ok (.iconst 1, 1) := dk_4 (dk_at dksX0_pairs_3 4 rfl rfl)
theorem dX0_pairs_74 : decode cX0_pairs 74 = .ok (.istore 4, 2) := dk_54 4 (dk_at dksX0_pairs_3 5 rfl rfl)
theorem dX0_pairs_76 : decode cX0_pairs 76 = .ok (.iconst 1, 1) := dk_4 (dk_at dksX0_pairs_3 7 rfl rfl)
theorem dX0_pairs_77 : decode cX0_pairs 77 = .ok (.istore 5, 2) := dk_54 5 (dk_at dksX0_pairs_3 8 rfl rfl)
theorem dX0_pairs_79 : decode cX0_pairs 79 = .ok (.iconst 0, 1) := dk_3 (dk_at dksX0_pairs_3 10 rfl rfl)
theorem dX0_pairs_80 : decode cX0_pairs 80 = .ok (.istore 6, 2) := dk_54 6 (dk_at dksX0_pairs_3 11 rfl rfl)
theorem dX0_pairs_82 : decode cX0_pairs 82 = .ok (.iload 6, 2) := dk_21 6 (dk_at dksX0_pairs_3 13 rfl rfl)
theorem dX0_pairs_84 : decode cX0_pairs 84 = .ok (.bipush 6, 2) := dk_16 6 (dk_at dksX0_pairs_3 15 rfl rfl)
theorem dX0_pairs_86 : decode cX0_pairs 86 = .ok (.if_icmp .ge 54, 3) := dk_162 0 54 (dk_at dksX0_pairs_3 17 rfl rfl)
theorem dX0_pairs_89 : decode cX0_pairs 89 = .ok (.iload 4, 2) := dk_21 4 (dk_at dksX0_pairs_3 20 rfl rfl)
theorem dX0_pairs_91 : decode cX0_pairs 91 = .ok (.aload_n 0, 1) := dk_42 (dk_at dksX0_pairs_3 22 rfl rfl)
theorem dX0_pairs_92 : decode cX0_pairs 92 = .ok (.getfield 25, 3) := dk_180 0 25 (dk_at dksX0_pairs_4 0 rfl rfl)
theorem dX0_pairs_95 : decode cX0_pairs 95 = .ok (.iload_n 2, 1) := dk_28 (dk_at dksX0_pairs_4 3 rfl rfl)
theorem dX0_pairs_96 : decode cX0_pairs 96 = .ok (.aaload, 1) := dk_50 (dk_at dksX0_pairs_4 4 rfl rfl)
theorem dX0_pairs_97 : decode cX0_pairs 97 = .ok (.iload 6, 2) := dk_21 6 (dk_at dksX0_pairs_4 5 rfl rfl)
theorem dX0_pairs_99 : decode cX0_pairs 99 = .ok (.iaload, 1) := dk_46 (dk_at dksX0_pairs_4 7 rfl rfl)
theorem dX0_pairs_100 : decode cX0_pairs 100 = .ok (.invokestatic 222, 3) := dk_184 0 222 (dk_at dksX0_pairs_4 8 rfl rfl)
theorem dX0_pairs_103 : decode cX0_pairs 103 = .ok (.iand, 1) := dk_126 (dk_at dksX0_pairs_4 11 rfl rfl)
theorem dX0_pairs_104 : decode cX0_pairs 104 = .ok (.istore 4, 2) := dk_54 4 (dk_at dksX0_pairs_4 12 rfl rfl)
theorem dX0_pairs_106 : decode cX0_pairs 106 = .ok (.iload 5, 2) := dk_21 5 (dk_at dksX0_pairs_4 14 rfl rfl)
theorem dX0_pairs_108 : decode cX0_pairs 108 = .ok (.iload_n 1, 1) := dk_27 (dk_at dksX0_pairs_4 16 rfl rfl)
theorem dX0_pairs_109 : decode cX0_pairs 109 = .ok (.iload 6, 2) := dk_21 6 (dk_at dksX0_pairs_4 17 rfl rfl)
theorem dX0_pairs_111 : decode cX0_pairs 111 = .ok (.ishr, 1) := dk_122 (dk_at dksX0_pairs_4 19 rfl rfl)
theorem dX0_pairs_112 : decode cX0_pairs 112 = .ok (.iconst 1, 1) := dk_4 (dk_at dksX0_pairs_4 20 rfl rfl)
theorem dX0_pairs_113 : decode cX0_pairs 113 = .ok (.iand, 1) := dk_126 (dk_at dksX0_pairs_4 21 rfl rfl)
theorem dX0_pairs_114 : decode cX0_pairs 114 = .ok (.ifCond .eq 12, 3) := dk_153 0 12 (dk_at dksX0_pairs_5 0 rfl rfl)
theorem dX0_pairs_117 : decode cX0_pairs 117 = .ok (.aload_n 0, 1) := dk_42 (dk_at dksX0_pairs_5 3 rfl rfl)
theorem dX0_pairs_118 : decode cX0_pairs 118 = .ok (.iload 6, 2) := dk_21 6 (dk_at dksX0_pairs_5 4 rfl rfl)
theorem dX0_pairs_120 : decode cX0_pairs 120 = .ok (.invokevirtual 394, 3) := dk_182 1 138 (dk_at dksX0_pairs_5 6 rfl rfl)
theorem dX0_pairs_123 : decode cX0_pairs 123 = .ok (.ifCond .eq 7, 3) := dk_153 0 7 (dk_at dksX0_pairs_5 9 rfl rfl)
theorem dX0_pairs_126 : decode cX0_pairs 126 = .ok (.iconst 1, 1) := dk_4 (dk_at dksX0_pairs_5 12 rfl rfl)
theorem dX0_pairs_127 : decode cX0_pairs 127 = .ok (.goto 4, 3) := dk_167 0 4 (dk_at dksX0_pairs_5 13 rfl rfl)
theorem dX0_pairs_130 : decode cX0_pairs 130 = .ok (.iconst 0, 1) := dk_3 (dk_at dksX0_pairs_5 16 rfl rfl)
theorem dX0_pairs_131 : decode cX0_pairs 131 = .ok (.iand, 1) := dk_126 (dk_at dksX0_pairs_5 17 rfl rfl)
theorem dX0_pairs_132 : decode cX0_pairs 132 = .ok (.istore 5, 2) := dk_54 5 (dk_at dksX0_pairs_5 18 rfl rfl)
theorem dX0_pairs_134 : decode cX0_pairs 134 = .ok (.iinc 6 1, 3) := dk_132 6 1 (dk_at dksX0_pairs_5 20 rfl rfl)
theorem dX0_pairs_137 : decode cX0_pairs 137 = .ok (.goto (-55), 3) := dk_167 255 201 (dk_at dksX0_pairs_6 0 rfl rfl)
theorem dX0_pairs_140 : decode cX0_pairs 140 = .ok (.iload 4, 2) := dk_21 4 (dk_at dksX0_pairs_6 3 rfl rfl)
theorem dX0_pairs_142 : decode cX0_pairs 142 = .ok (.ifCond .ne 9, 3) := dk_154 0 9 (dk_at dksX0_pairs_6 5 rfl rfl)
theorem dX0_pairs_145 : decode cX0_pairs 145 = .ok (.aload_n 0, 1) := dk_42 (dk_at dksX0_pairs_6 8 rfl rfl)
theorem dX0_pairs_146 : decode cX0_pairs 146 = .ok (.iconst 3, 1) := dk_6 (dk_at dksX0_pairs_6 9 rfl rfl)
theorem dX0_pairs_147 : decode cX0_pairs 147 = .ok (.invokevirtual 181, 3) := dk_182 0 181 (dk_at dksX0_pairs_6 10 rfl rfl)
theorem dX0_pairs_150 : decode cX0_pairs 150 = .ok (.ireturn, 1) := dk_172 (dk_at dksX0_pairs_6 13 rfl rfl)
theorem dX0_pairs_151 : decode cX0_pairs 151 = .ok (.iload 5, 2) := dk_21 5 (dk_at dksX0_pairs_6 14 rfl rfl)
theorem dX0_pairs_153 : decode cX0_pairs 153 = .ok (.ifCond .ne 6, 3) := dk_154 0 6 (dk_at dksX0_pairs_6 16 rfl rfl)
theorem dX0_pairs_156 : decode cX0_pairs 156 = .ok (.bipush (-4), 2) := dk_16 252 (dk_at dksX0_pairs_6 19 rfl rfl)
theorem dX0_pairs_158 : decode cX0_pairs 158 = .ok (.ireturn, 1) := dk_172 (dk_at dksX0_pairs_6 21 rfl rfl)
theorem dX0_pairs_159 : decode cX0_pairs 159 = .ok (.aload_n 0, 1) := dk_42 (dk_at dksX0_pairs_6 22 rfl rfl)
theorem dX0_pairs_160 : decode cX0_pairs 160 = .ok (.bipush (-9), 2) := dk_16 247 (dk_at dksX0_pairs_7 0 rfl rfl)
theorem dX0_pairs_162 : decode cX0_pairs 162 = .ok (.putfield 401, 3) := dk_181 1 145 (dk_at dksX0_pairs_7 2 rfl rfl)
theorem dX0_pairs_165 : decode cX0_pairs 165 = .ok (.iconst 0, 1) := dk_3 (dk_at dksX0_pairs_7 5 rfl rfl)
theorem dX0_pairs_166 : decode cX0_pairs 166 = .ok (.istore 6, 2) := dk_54 6 (dk_at dksX0_pairs_7 6 rfl rfl)
theorem dX0_pairs_168 : decode cX0_pairs 168 = .ok (.iload 6, 2) := dk_21 6 (dk_at dksX0_pairs_7 8 rfl rfl)
theorem dX0_pairs_170 : decode cX0_pairs 170 = .ok (.bipush 6, 2) := dk_16 6 (dk_at dksX0_pairs_7 10 rfl rfl)
theorem dX0_pairs_172 : decode cX0_pairs 172 = .ok (.if_icmp .ge 18, 3) := dk_162 0 18 (dk_at dksX0_pairs_7 12 rfl rfl)
theorem dX0_pairs_175 : decode cX0_pairs 175 = .ok (.aload_n 0, 1) := dk_42 (dk_at dksX0_pairs_7 15 rfl rfl)
theorem dX0_pairs_176 : decode cX0_pairs 176 = .ok (.getfield 126, 3) := dk_180 0 126 (dk_at dksX0_pairs_7 16 rfl rfl)
theorem dX0_pairs_179 : decode cX0_pairs 179 = .ok (.iload 6, 2) := dk_21 6 (dk_at dksX0_pairs_7 19 rfl rfl)
theorem dX0_pairs_181 : decode cX0_pairs 181 = .ok (.bipush (-9), 2) := dk_16 247 (dk_at dksX0_pairs_7 21 rfl rfl)
theorem dX0_pairs_183 : decode cX0_pairs 183 = .ok (.iastore, 1) := dk_79 (dk_at dksX0_pairs_7 23 rfl rfl)
theorem dX0_pairs_184 : decode cX0_pairs 184 = .ok (.iinc 6 1, 3) := dk_132 6 1 (dk_at dksX0_pairs_8 0 rfl rfl)
theorem dX0_pairs_187 : decode cX0_pairs 187 = .ok (.goto (-19), 3) := dk_167 255 237 (dk_at dksX0_pairs_8 3 rfl rfl)
theorem dX0_pairs_190 : decode cX0_pairs 190 = .ok (.aload_n 0, 1) := dk_42 (dk_at dksX0_pairs_8 6 rfl rfl)
theorem dX0_pairs_191 : decode cX0_pairs 191 = .ok (.iload_n 1, 1) := dk_27 (dk_at dksX0_pairs_8 7 rfl rfl)
theorem dX0_pairs_192 : decode cX0_pairs 192 = .ok (.aload_n 0, 1) := dk_42 (dk_at dksX0_pairs_8 8 rfl rfl)
theorem dX0_pairs_193 : decode cX0_pairs 193 = .ok (.getfield 25, 3) := dk_180 0 25 (dk_at dksX0_pairs_8 9 rfl rfl)
theorem dX0_pairs_196 : decode cX0_pairs 196 = .ok (.iload_n 2, 1) := dk_28 (dk_at dksX0_pairs_8 12 rfl rfl)
theorem dX0_pairs_197 : decode cX0_pairs 197 = .ok (.aaload, 1) := dk_50 (dk_at dksX0_pairs_8 13 rfl rfl)
theorem dX0_pairs_198 : decode cX0_pairs 198 = .ok (.iconst 0, 1) := dk_3 (dk_at dksX0_pairs_8 14 rfl rfl)
theorem dX0_pairs_199 : decode cX0_pairs 199 = .ok (.invokevirtual 404, 3) := dk_182 1 148 (dk_at dksX0_pairs_8 15 rfl rfl)
theorem dX0_pairs_202 : decode cX0_pairs 202 = .ok (.aload_n 0, 1) := dk_42 (dk_at dksX0_pairs_8 18 rfl rfl)
theorem dX0_pairs_203 : decode cX0_pairs 203 = .ok (.getfield 401, 3) := dk_180 1 145 (dk_at dksX0_pairs_8 19 rfl rfl)
theorem dX0_pairs_206 : decode cX0_pairs 206 = .ok (.bipush (-9), 2) := dk_16 247 (dk_at dksX0_pairs_8 22 rfl rfl)
theorem dX0_pairs_208 : decode cX0_pairs 208 = .ok (.if_icmp .ne 9, 3) := dk_160 0 9 (dk_at dksX0_pairs_9 0 rfl rfl)
theorem dX0_pairs_211 : decode cX0_pairs 211 = .ok (.aload_n 0, 1) := dk_42 (dk_at dksX0_pairs_9 3 rfl rfl)
theorem dX0_pairs_212 : decode cX0_pairs 212 = .ok (.iconst 1, 1) := dk_4 (dk_at dksX0_pairs_9 4 rfl rfl)
theorem dX0_pairs_213 : decode cX0_pairs 213 = .ok (.invokevirtual 181, 3) := dk_182 0 181 (dk_at dksX0_pairs_9 5 rfl rfl)
theorem dX0_pairs_216 : decode cX0_pairs 216 = .ok (.ireturn, 1) := dk_172 (dk_at dksX0_pairs_9 8 rfl rfl)
theorem dX0_pairs_217 : decode cX0_pairs 217 = .ok (.aload_n 0, 1) := dk_42 (dk_at dksX0_pairs_9 9 rfl rfl)
theorem dX0_pairs_218 : decode cX0_pairs 218 = .ok (.getfield 129, 3) := dk_180 0 129 (dk_at dksX0_pairs_9 10 rfl rfl)
theorem dX0_pairs_221 : decode cX0_pairs 221 = .ok (.iconst 0, 1) := dk_3 (dk_at dksX0_pairs_9 13 rfl rfl)
theorem dX0_pairs_222 : decode cX0_pairs 222 = .ok (.aload_n 0, 1) := dk_42 (dk_at dksX0_pairs_9 14 rfl rfl)
theorem dX0_pairs_223 : decode cX0_pairs 223 = .ok (.getfield 123, 3) := dk_180 0 123 (dk_at dksX0_pairs_9 15 rfl rfl)
theorem dX0_pairs_226 : decode cX0_pairs 226 = .ok (.iconst 0, 1) := dk_3 (dk_at dksX0_pairs_9 18 rfl rfl)
theorem dX0_pairs_227 : decode cX0_pairs 227 = .ok (.bipush 6, 2) := dk_16 6 (dk_at dksX0_pairs_9 19 rfl rfl)
theorem dX0_pairs_229 : decode cX0_pairs 229 = .ok (.invokestatic 193, 3) := dk_184 0 193 (dk_at dksX0_pairs_9 21 rfl rfl)
theorem dX0_pairs_232 : decode cX0_pairs 232 = .ok (.aload_n 0, 1) := dk_42 (dk_at dksX0_pairs_10 0 rfl rfl)
theorem dX0_pairs_233 : decode cX0_pairs 233 = .ok (.getfield 401, 3) := dk_180 1 145 (dk_at dksX0_pairs_10 1 rfl rfl)
theorem dX0_pairs_236 : decode cX0_pairs 236 = .ok (.ireturn, 1) := dk_172 (dk_at dksX0_pairs_10 4 rfl rfl)
abbrev cX0_tryPairs : ByteArray := prog_1_method_77_code
def yX0_tryPairs : MethodName := ⟨RX0, "tryPairs", "(I[II)V"⟩
def dkwX0_tryPairs_6 : List UInt8 := [29, 21, 6, 184, 1, 115, 182, 1, 148, 132, 5, 1, 167, 255, 169, 177]
abbrev dktX0_tryPairs_6 : List UInt8 := dkwX0_tryPairs_6 ++ []
def dkwX0_tryPairs_5 : List UInt8 := [42, 180, 0, 126, 21, 5, 21, 4, 79, 42, 27, 4, 21, 4, 120, 4, 21, 5, 120, 128, 2, 130, 126, 44]
abbrev dktX0_tryPairs_5 : List UInt8 := dkwX0_tryPairs_5 ++ dktX0_tryPairs_6
def dkwX0_tryPairs_4 : List UInt8 := [21, 5, 46, 182, 1, 141, 153, 0, 51, 42, 180, 1, 135, 54, 6, 42, 180, 0, 126, 21, 4, 21, 5, 79]
abbrev dktX0_tryPairs_4 : List UInt8 := dkwX0_tryPairs_4 ++ dktX0_tryPairs_5
def dkwX0_tryPairs_3 : List UInt8 := [162, 0, 86, 27, 21, 5, 122, 4, 126, 4, 160, 0, 70, 42, 21, 4, 21, 5, 44, 21, 4, 46, 44]
abbrev dktX0_tryPairs_3 : List UInt8 := dkwX0_tryPairs_3 ++ dktX0_tryPairs_4
def dkwX0_tryPairs_2 : List UInt8 := [21, 4, 122, 4, 126, 154, 0, 9, 132, 4, 1, 167, 255, 244, 21, 4, 4, 96, 54, 5, 21, 5, 16, 6]
abbrev dktX0_tryPairs_2 : List UInt8 := dkwX0_tryPairs_2 ++ dktX0_tryPairs_3
def dkwX0_tryPairs_1 : List UInt8 := [181, 1, 145, 42, 180, 0, 126, 3, 42, 180, 0, 129, 3, 16, 6, 184, 0, 193, 177, 3, 54, 4, 27]
abbrev dktX0_tryPairs_1 : List UInt8 := dkwX0_tryPairs_1 ++ dktX0_tryPairs_2
def dkwX0_tryPairs_0 : List UInt8 := [42, 180, 1, 145, 16, 247, 159, 0, 12, 29, 42, 180, 1, 145, 161, 0, 4, 177, 27, 154, 0, 24, 42, 29]
abbrev dktX0_tryPairs_0 : List UInt8 := dkwX0_tryPairs_0 ++ dktX0_tryPairs_1
theorem dksX0_tryPairs_0 : cX0_tryPairs.data.toList.drop 0 = dktX0_tryPairs_0 := by decide +kernel
theorem dksX0_tryPairs_1 : cX0_tryPairs.data.toList.drop 24 = dktX0_tryPairs_1 := dk_seg dksX0_tryPairs_0 24 rfl rfl
theorem dksX0_tryPairs_2 : cX0_tryPairs.data.toList.drop 47 = dktX0_tryPairs_2 := dk_seg dksX0_tryPairs_1 23 rfl rfl
theorem dksX0_tryPairs_3 : cX0_tryPairs.data.toList.drop 71 = dktX0_tryPairs_3 := dk_seg dksX0_tryPairs_2 24 rfl rfl
theorem dksX0_tryPairs_4 : cX0_tryPairs.data.toList.drop 94 = dktX0_tryPairs_4 := dk_seg dksX0_tryPairs_3 23 rfl rfl
theorem dksX0_tryPairs_5 : cX0_tryPairs.data.toList.drop 118 = dktX0_tryPairs_5 := dk_seg dksX0_tryPairs_4 24 rfl rfl
theorem dksX0_tryPairs_6 : cX0_tryPairs.data.toList.drop 142 = dktX0_tryPairs_6 := dk_seg dksX0_tryPairs_5 24 rfl rfl
theorem dX0_tryPairs_0 : decode cX0_tryPairs 0 = .ok (.aload_n 0, 1) := dk_42 (dk_at dksX0_tryPairs_0 0 rfl rfl)
theorem dX0_tryPairs_1 : decode cX0_tryPairs 1 = .ok (.getfield 401, 3) := dk_180 1 145 (dk_at dksX0_tryPairs_0 1 rfl rfl)
theorem dX0_tryPairs_4 : decode cX0_tryPairs 4 = .ok (.bipush (-9), 2) := dk_16 247 (dk_at dksX0_tryPairs_0 4 rfl rfl)
theorem dX0_tryPairs_6 : decode cX0_tryPairs 6 = .ok (.if_icmp .eq 12, 3) := dk_159 0 12 (dk_at dksX0_tryPairs_0 6 rfl rfl)
theorem dX0_tryPairs_9 : decode cX0_tryPairs 9 = .ok (.iload_n 3, 1) := dk_29 (dk_at dksX0_tryPairs_0 9 rfl rfl)
theorem dX0_tryPairs_10 : decode cX0_tryPairs 10 = .ok (.aload_n 0, 1) := dk_42 (dk_at dksX0_tryPairs_0 10 rfl rfl)
theorem dX0_tryPairs_11 : decode cX0_tryPairs 11 = .ok (.getfield 401, 3) := dk_180 1 145 (dk_at dksX0_tryPairs_0 11 rfl rfl)
theorem dX0_tryPairs_14 : decode cX0_tryPairs 14 = .ok (.if_icmp .lt 4, 3) := dk_161 0 4 (dk_at dksX0_tryPairs_0 14 rfl rfl)
theorem dX0_tryPairs_17 : decode cX0_tryPairs 17 = .ok (.return_, 1) := dk_177 (dk_at dksX0_tryPairs_0 17 rfl rfl)
theorem dX0_tryPairs_18 : decode cX0_tryPairs 18 = .ok (.iload_n 1, 1) := dk_27 (dk_at dksX0_tryPairs_0 18 rfl rfl)
theorem dX0_tryPairs_19 : decode cX0_tryPairs 19 = .ok (.ifCond .ne 24, 3) := dk_154 0 24 (dk_at dksX0_tryPairs_0 19 rfl rfl)
theorem dX0_tryPairs_22 : decode cX0_tryPairs 22 = .ok (.aload_n 0, 1) := dk_42 (dk_at dksX0_tryPairs_0 22 rfl rfl)
theorem dX0_tryPairs_23 : decode cX0_tryPairs 23 = .ok (.iload_n 3, 1) := dk_29 (dk_at dksX0_tryPairs_0 23 rfl rfl)
theorem dX0_tryPairs_24 : decode cX0_tryPairs 24 = .ok (.putfield 401, 3) := dk_181 1 145 (dk_at dksX0_tryPairs_1 0 rfl rfl)
theorem dX0_tryPairs_27 : decode cX0_tryPairs 27 = .ok (.aload_n 0, 1) := dk_42 (dk_at dksX0_tryPairs_1 3 rfl rfl)
theorem dX0_tryPairs_28 : decode cX0_tryPairs 28 = .ok (.getfield 126, 3) := dk_180 0 126 (dk_at dksX0_tryPairs_1 4 rfl rfl)
theorem dX0_tryPairs_31 : decode cX0_tryPairs 31 = .ok (.iconst 0, 1) := dk_3 (dk_at dksX0_tryPairs_1 7 rfl rfl)
theorem dX0_tryPairs_32 : decode cX0_tryPairs 32 = .ok (.aload_n 0, 1) := dk_42 (dk_at dksX0_tryPairs_1 8 rfl rfl)
theorem dX0_tryPairs_33 : decode cX0_tryPairs 33 = .ok (.getfield 129, 3) := dk_180 0 129 (dk_at dksX0_tryPairs_1 9 rfl rfl)
theorem dX0_tryPairs_36 : decode cX0_tryPairs 36 = .ok (.iconst 0, 1) := dk_3 (dk_at dksX0_tryPairs_1 12 rfl rfl)
theorem dX0_tryPairs_37 : decode cX0_tryPairs 37 = .ok (.bipush 6, 2) := dk_16 6 (dk_at dksX0_tryPairs_1 13 rfl rfl)
theorem dX0_tryPairs_39 : decode cX0_tryPairs 39 = .ok (.invokestatic 193, 3) := dk_184 0 193 (dk_at dksX0_tryPairs_1 15 rfl rfl)
theorem dX0_tryPairs_42 : decode cX0_tryPairs 42 = .ok (.return_, 1) := dk_177 (dk_at dksX0_tryPairs_1 18 rfl rfl)
theorem dX0_tryPairs_43 : decode cX0_tryPairs 43 = .ok (.iconst 0, 1) := dk_3 (dk_at dksX0_tryPairs_1 19 rfl rfl)
theorem dX0_tryPairs_44 : decode cX0_tryPairs 44 = .ok (.istore 4, 2) := dk_54 4 (dk_at dksX0_tryPairs_1 20 rfl rfl)
theorem dX0_tryPairs_46 : decode cX0_tryPairs 46 = .ok (.iload_n 1, 1) := dk_27 (dk_at dksX0_tryPairs_1 22 rfl rfl)
theorem dX0_tryPairs_47 : decode cX0_tryPairs 47 = .ok (.iload 4, 2) := dk_21 4 (dk_at dksX0_tryPairs_2 0 rfl rfl)
theorem dX0_tryPairs_49 : decode cX0_tryPairs 49 = .ok (.ishr, 1) := dk_122 (dk_at dksX0_tryPairs_2 2 rfl rfl)
theorem dX0_tryPairs_50 : decode cX0_tryPairs 50 = .ok (.iconst 1, 1) := dk_4 (dk_at dksX0_tryPairs_2 3 rfl rfl)
theorem dX0_tryPairs_51 : decode cX0_tryPairs 51 = .ok (.iand, 1) := dk_126 (dk_at dksX0_tryPairs_2 4 rfl rfl)
theorem dX0_tryPairs_52 : decode cX0_tryPairs 52 = .ok (.ifCond .ne 9, 3) := dk_154 0 9 (dk_at dksX0_tryPairs_2 5 rfl rfl)
theorem dX0_tryPairs_55 : decode cX0_tryPairs 55 = .ok (.iinc 4 1, 3) := dk_132 4 1 (dk_at dksX0_tryPairs_2 8 rfl rfl)
theorem dX0_tryPairs_58 : decode cX0_tryPairs 58 = .ok (.goto (-12), 3) := dk_167 255 244 (dk_at dksX0_tryPairs_2 11 rfl rfl)
theorem dX0_tryPairs_61 : decode cX0_tryPairs 61 = .ok (.iload 4, 2) := dk_21 4 (dk_at dksX0_tryPairs_2 14 rfl rfl)
theorem dX0_tryPairs_63 : decode cX0_tryPairs 63 = .ok (.iconst 1, 1) := dk_4 (dk_at dksX0_tryPairs_2 16 rfl rfl)
theorem dX0_tryPairs_64 : decode cX0_tryPairs 64 = .ok (.iadd, 1) := dk_96 (dk_at dksX0_tryPairs_2 17 rfl rfl)
theorem dX0_tryPairs_65 : decode cX0_tryPairs 65 = .ok (.istore 5, 2) := dk_54 5 (dk_at dksX0_tryPairs_2 18 rfl rfl)
theorem dX0_tryPairs_67 : decode cX0_tryPairs 67 = .ok (.iload 5, 2) := dk_21 5 (dk_at dksX0_tryPairs_2 20 rfl rfl)
theorem dX0_tryPairs_69 : decode cX0_tryPairs 69 = .ok (.bipush 6, 2) := dk_16 6 (dk_at dksX0_tryPairs_2 22 rfl rfl)
theorem dX0_tryPairs_71 : decode cX0_tryPairs 71 = .ok (.if_icmp .ge 86, 3) := dk_162 0 86 (dk_at dksX0_tryPairs_3 0 rfl rfl)
theorem dX0_tryPairs_74 : decode cX0_tryPairs 74 = .ok (.iload_n 1, 1) := dk_27 (dk_at dksX0_tryPairs_3 3 rfl rfl)
theorem dX0_tryPairs_75 : decode cX0_tryPairs 75 = .ok (.iload 5, 2) := dk_21 5 (dk_at dksX0_tryPairs_3 4 rfl rfl)
theorem dX0_tryPairs_77 : decode cX0_tryPairs 77 = .ok (.ishr, 1) := dk_122 (dk_at dksX0_tryPairs_3 6 rfl rfl)
theorem dX0_tryPairs_78 : decode cX0_tryPairs 78 = .ok (.iconst 1, 1) := dk_4 (dk_at dksX0_tryPairs_3 7 rfl rfl)
theorem dX0_tryPairs_79 : decode cX0_tryPairs 79 = .ok (.iand, 1) := dk_126 (dk_at dksX0_tryPairs_3 8 rfl rfl)
theorem dX0_tryPairs_80 : decode cX0_tryPairs 80 = .ok (.iconst 1, 1) := dk_4 (dk_at dksX0_tryPairs_3 9 rfl rfl)
theorem dX0_tryPairs_81 : decode cX0_tryPairs 81 = .ok (.if_icmp .ne 70, 3) := dk_160 0 70 (dk_at dksX0_tryPairs_3 10 rfl rfl)
theorem dX0_tryPairs_84 : decode cX0_tryPairs 84 = .ok (.aload_n 0, 1) := dk_42 (dk_at dksX0_tryPairs_3 13 rfl rfl)
theorem dX0_tryPairs_85 : decode cX0_tryPairs 85 = .ok (.iload 4, 2) := dk_21 4 (dk_at dksX0_tryPairs_3 14 rfl rfl)
theorem dX0_tryPairs_87 : decode cX0_tryPairs 87 = .ok (.iload 5, 2) := dk_21 5 (dk_at dksX0_tryPairs_3 16 rfl rfl)
theorem dX0_tryPairs_89 : decode cX0_tryPairs 89 = .ok (.aload_n 2, 1) := dk_44 (dk_at dksX0_tryPairs_3 18 rfl rfl)
theorem dX0_tryPairs_90 : decode cX0_tryPairs 90 = .ok (.iload 4, 2) := dk_21 4 (dk_at dksX0_tryPairs_3 19 rfl rfl)
theorem dX0_tryPairs_92 : decode cX0_tryPairs 92 = .ok (.iaload, 1) := dk_46 (dk_at dksX0_tryPairs_3 21 rfl rfl)
theorem dX0_tryPairs_93 : decode cX0_tryPairs 93 = .ok (.aload_n 2, 1) := dk_44 (dk_at dksX0_tryPairs_3 22 rfl rfl)
theorem dX0_tryPairs_94 : decode cX0_tryPairs 94 = .ok (.iload 5, 2) := dk_21 5 (dk_at dksX0_tryPairs_4 0 rfl rfl)
theorem dX0_tryPairs_96 : decode cX0_tryPairs 96 = .ok (.iaload, 1) := dk_46 (dk_at dksX0_tryPairs_4 2 rfl rfl)
theorem dX0_tryPairs_97 : decode cX0_tryPairs 97 = .ok (.invokevirtual 397, 3) := dk_182 1 141 (dk_at dksX0_tryPairs_4 3 rfl rfl)
theorem dX0_tryPairs_100 : decode cX0_tryPairs 100 = .ok (.ifCond .eq 51, 3) := dk_153 0 51 (dk_at dksX0_tryPairs_4 6 rfl rfl)
theorem dX0_tryPairs_103 : decode cX0_tryPairs 103 = .ok (.aload_n 0, 1) := dk_42 (dk_at dksX0_tryPairs_4 9 rfl rfl)
theorem dX0_tryPairs_104 : decode cX0_tryPairs 104 = .ok (.getfield 391, 3) := dk_180 1 135 (dk_at dksX0_tryPairs_4 10 rfl rfl)
theorem dX0_tryPairs_107 : decode cX0_tryPairs 107 = .ok (.istore 6, 2) := dk_54 6 (dk_at dksX0_tryPairs_4 13 rfl rfl)
theorem dX0_tryPairs_109 : decode cX0_tryPairs 109 = .ok (.aload_n 0, 1) := dk_42 (dk_at dksX0_tryPairs_4 15 rfl rfl)
theorem dX0_tryPairs_110 : decode cX0_tryPairs 110 = .ok (.getfield 126, 3) := dk_180 0 126 (dk_at dksX0_tryPairs_4 16 rfl rfl)
theorem dX0_tryPairs_113 : decode cX0_tryPairs 113 = .ok (.iload 4, 2) := dk_21 4 (dk_at dksX0_tryPairs_4 19 rfl rfl)
theorem dX0_tryPairs_115 : decode cX0_tryPairs 115 = .ok (.iload 5, 2) := dk_21 5 (dk_at dksX0_tryPairs_4 21 rfl rfl)
theorem dX0_tryPairs_117 : decode cX0_tryPairs 117 = .ok (.iastore, 1) := dk_79 (dk_at dksX0_tryPairs_4 23 rfl rfl)
theorem dX0_tryPairs_118 : decode cX0_tryPairs 118 = .ok (.aload_n 0, 1) := dk_42 (dk_at dksX0_tryPairs_5 0 rfl rfl)
theorem dX0_tryPairs_119 : decode cX0_tryPairs 119 = .ok (.getfield 126, 3) := dk_180 0 126 (dk_at dksX0_tryPairs_5 1 rfl rfl)
theorem dX0_tryPairs_122 : decode cX0_tryPairs 122 = .ok (.iload 5, 2) := dk_21 5 (dk_at dksX0_tryPairs_5 4 rfl rfl)
theorem dX0_tryPairs_124 : decode cX0_tryPairs 124 = .ok (.iload 4, 2) := dk_21 4 (dk_at dksX0_tryPairs_5 6 rfl rfl)
theorem dX0_tryPairs_126 : decode cX0_tryPairs 126 = .ok (.iastore, 1) := dk_79 (dk_at dksX0_tryPairs_5 8 rfl rfl)
theorem dX0_tryPairs_127 : decode cX0_tryPairs 127 = .ok (.aload_n 0, 1) := dk_42 (dk_at dksX0_tryPairs_5 9 rfl rfl)
theorem dX0_tryPairs_128 : decode cX0_tryPairs 128 = .ok (.iload_n 1, 1) := dk_27 (dk_at dksX0_tryPairs_5 10 rfl rfl)
theorem dX0_tryPairs_129 : decode cX0_tryPairs 129 = .ok (.iconst 1, 1) := dk_4 (dk_at dksX0_tryPairs_5 11 rfl rfl)
theorem dX0_tryPairs_130 : decode cX0_tryPairs 130 = .ok (.iload 4, 2) := dk_21 4 (dk_at dksX0_tryPairs_5 12 rfl rfl)
theorem dX0_tryPairs_132 : decode cX0_tryPairs 132 = .ok (.ishl, 1) := dk_120 (dk_at dksX0_tryPairs_5 14 rfl rfl)
theorem dX0_tryPairs_133 : decode cX0_tryPairs 133 = .ok (.iconst 1, 1) := dk_4 (dk_at dksX0_tryPairs_5 15 rfl rfl)
theorem dX0_tryPairs_134 : decode cX0_tryPairs 134 = .ok (.iload 5, 2) := dk_21 5 (dk_at dksX0_tryPairs_5 16 rfl rfl)
theorem dX0_tryPairs_136 : decode cX0_tryPairs 136 = .ok (.ishl, 1) := dk_120 (dk_at dksX0_tryPairs_5 18 rfl rfl)
theorem dX0_tryPairs_137 : decode cX0_tryPairs 137 = .ok (.ior, 1) := dk_128 (dk_at dksX0_tryPairs_5 19 rfl rfl)
theorem dX0_tryPairs_138 : decode cX0_tryPairs 138 = .ok (.iconst (-1), 1) := dk_2 (dk_at dksX0_tryPairs_5 20 rfl rfl)
theorem dX0_tryPairs_139 : decode cX0_tryPairs 139 = .ok (.ixor, 1) := dk_130 (dk_at dksX0_tryPairs_5 21 rfl rfl)
theorem dX0_tryPairs_140 : decode cX0_tryPairs 140 = .ok (.iand, 1) := dk_126 (dk_at dksX0_tryPairs_5 22 rfl rfl)
theorem dX0_tryPairs_141 : decode cX0_tryPairs 141 = .ok (.aload_n 2, 1) := dk_44 (dk_at dksX0_tryPairs_5 23 rfl rfl)
theorem dX0_tryPairs_142 : decode cX0_tryPairs 142 = .ok (.iload_n 3, 1) := dk_29 (dk_at dksX0_tryPairs_6 0 rfl rfl)
theorem dX0_tryPairs_143 : decode cX0_tryPairs 143 = .ok (.iload 6, 2) := dk_21 6 (dk_at dksX0_tryPairs_6 1 rfl rfl)
theorem dX0_tryPairs_145 : decode cX0_tryPairs 145 = .ok (.invokestatic 371, 3) := dk_184 1 115 (dk_at dksX0_tryPairs_6 3 rfl rfl)
theorem dX0_tryPairs_148 : decode cX0_tryPairs 148 = .ok (.invokevirtual 404, 3) := dk_182 1 148 (dk_at dksX0_tryPairs_6 6 rfl rfl)
theorem dX0_tryPairs_151 : decode cX0_tryPairs 151 = .ok (.iinc 5 1, 3) := dk_132 5 1 (dk_at dksX0_tryPairs_6 9 rfl rfl)
theorem dX0_tryPairs_154 : decode cX0_tryPairs 154 = .ok (.goto (-87), 3) := dk_167 255 169 (dk_at dksX0_tryPairs_6 12 rfl rfl)
theorem dX0_tryPairs_157 : decode cX0_tryPairs 157 = .ok (.return_, 1) := dk_177 (dk_at dksX0_tryPairs_6 15 rfl rfl)
abbrev cX0_partner : ByteArray := prog_1_method_79_code
def yX0_partner : MethodName := ⟨RX0, "partner", "(I)I"⟩
def dkwX0_partner_0 : List UInt8 := [27, 184, 1, 58, 153, 0, 12, 42, 180, 0, 123, 27, 46, 167, 0, 4, 2, 172]
abbrev dktX0_partner_0 : List UInt8 := dkwX0_partner_0 ++ []
theorem dksX0_partner_0 : cX0_partner.data.toList.drop 0 = dktX0_partner_0 := by decide +kernel
theorem dX0_partner_0 : decode cX0_partner 0 = .ok (.iload_n 1, 1) := dk_27 (dk_at dksX0_partner_0 0 rfl rfl)
theorem dX0_partner_1 : decode cX0_partner 1 = .ok (.invokestatic 314, 3) := dk_184 1 58 (dk_at dksX0_partner_0 1 rfl rfl)
theorem dX0_partner_4 : decode cX0_partner 4 = .ok (.ifCond .eq 12, 3) := dk_153 0 12 (dk_at dksX0_partner_0 4 rfl rfl)
theorem dX0_partner_7 : decode cX0_partner 7 = .ok (.aload_n 0, 1) := dk_42 (dk_at dksX0_partner_0 7 rfl rfl)
theorem dX0_partner_8 : decode cX0_partner 8 = .ok (.getfield 123, 3) := dk_180 0 123 (dk_at dksX0_partner_0 8 rfl rfl)
theorem dX0_partner_11 : decode cX0_partner 11 = .ok (.iload_n 1, 1) := dk_27 (dk_at dksX0_partner_0 11 rfl rfl)
theorem dX0_partner_12 : decode cX0_partner 12 = .ok (.iaload, 1) := dk_46 (dk_at dksX0_partner_0 12 rfl rfl)
theorem dX0_partner_13 : decode cX0_partner 13 = .ok (.goto 4, 3) := dk_167 0 4 (dk_at dksX0_partner_0 13 rfl rfl)
theorem dX0_partner_16 : decode cX0_partner 16 = .ok (.iconst (-1), 1) := dk_2 (dk_at dksX0_partner_0 16 rfl rfl)
theorem dX0_partner_17 : decode cX0_partner 17 = .ok (.ireturn, 1) := dk_172 (dk_at dksX0_partner_0 17 rfl rfl)
abbrev cX0_late : ByteArray := prog_1_method_80_code
def yX0_late : MethodName := ⟨RX0, "late", "(IIIIII)I"⟩
def dkwX0_late_10 : List UInt8 := [157, 0, 14, 42, 22, 12, 136, 4, 182, 0, 185, 167, 0, 11, 42, 22, 14, 136, 3, 182, 0, 185, 172]
abbrev dktX0_late_10 : List UInt8 := dkwX0_late_10 ++ []
def dkwX0_late_9 : List UInt8 := [133, 105, 20, 1, 152, 109, 55, 12, 21, 10, 21, 11, 96, 16, 10, 108, 133, 55, 14, 22, 12, 22, 14, 148]
abbrev dktX0_late_9 : List UInt8 := dkwX0_late_9 ++ dktX0_late_10
def dkwX0_late_8 : List UInt8 := [42, 180, 0, 96, 28, 46, 50, 180, 1, 26, 54, 11, 3, 21, 9, 21, 6, 100, 184, 1, 115, 133, 21, 11]
abbrev dktX0_late_8 : List UInt8 := dkwX0_late_8 ++ dktX0_late_9
def dkwX0_late_7 : List UInt8 := [182, 0, 181, 172, 42, 180, 0, 65, 42, 180, 0, 96, 27, 46, 50, 180, 1, 26, 54, 10, 42, 180, 0, 65]
abbrev dktX0_late_7 : List UInt8 := dkwX0_late_7 ++ dktX0_late_8
def dkwX0_late_6 : List UInt8 := [21, 8, 184, 1, 115, 16, 10, 96, 29, 182, 1, 132, 54, 9, 21, 9, 16, 247, 160, 0, 9, 42, 4]
abbrev dktX0_late_6 : List UInt8 := dkwX0_late_6 ++ dktX0_late_7
def dkwX0_late_5 : List UInt8 := [159, 0, 10, 21, 8, 16, 247, 160, 0, 9, 42, 4, 182, 0, 181, 172, 42, 21, 4, 21, 7, 21, 5, 96]
abbrev dktX0_late_5 : List UInt8 := dkwX0_late_5 ++ dktX0_late_6
def dkwX0_late_4 : List UInt8 := [42, 42, 180, 0, 90, 28, 46, 42, 180, 0, 219, 21, 4, 182, 0, 241, 54, 8, 21, 7, 16, 247]
abbrev dktX0_late_4 : List UInt8 := dkwX0_late_4 ++ dktX0_late_5
def dkwX0_late_3 : List UInt8 := [154, 0, 6, 16, 252, 172, 42, 42, 180, 0, 90, 27, 46, 42, 180, 0, 219, 21, 4, 182, 0, 241, 54, 7]
abbrev dktX0_late_3 : List UInt8 := dkwX0_late_3 ++ dktX0_late_4
def dkwX0_late_2 : List UInt8 := [21, 6, 184, 0, 238, 154, 0, 5, 2, 172, 42, 27, 182, 1, 138, 153, 0, 11, 42, 28, 182, 1, 138]
abbrev dktX0_late_2 : List UInt8 := dkwX0_late_2 ++ dktX0_late_3
def dkwX0_late_1 : List UInt8 := [153, 0, 31, 21, 4, 184, 0, 222, 153, 0, 23, 21, 5, 3, 17, 7, 208, 184, 0, 171, 153, 0, 11]
abbrev dktX0_late_1 : List UInt8 := dkwX0_late_1 ++ dktX0_late_2
def dkwX0_late_0 : List UInt8 := [27, 184, 1, 58, 153, 0, 50, 28, 184, 1, 58, 153, 0, 43, 27, 28, 159, 0, 38, 29, 184, 0, 222]
abbrev dktX0_late_0 : List UInt8 := dkwX0_late_0 ++ dktX0_late_1
theorem dksX0_late_0 : cX0_late.data.toList.drop 0 = dktX0_late_0 := by decide +kernel
theorem dksX0_late_1 : cX0_late.data.toList.drop 23 = dktX0_late_1 := dk_seg dksX0_late_0 23 rfl rfl
theorem dksX0_late_2 : cX0_late.data.toList.drop 46 = dktX0_late_2 := dk_seg dksX0_late_1 23 rfl rfl
theorem dksX0_late_3 : cX0_late.data.toList.drop 69 = dktX0_late_3 := dk_seg dksX0_late_2 23 rfl rfl
theorem dksX0_late_4 : cX0_late.data.toList.drop 93 = dktX0_late_4 := dk_seg dksX0_late_3 24 rfl rfl
theorem dksX0_late_5 : cX0_late.data.toList.drop 115 = dktX0_late_5 := dk_seg dksX0_late_4 22 rfl rfl
theorem dksX0_late_6 : cX0_late.data.toList.drop 139 = dktX0_late_6 := dk_seg dksX0_late_5 24 rfl rfl
theorem dksX0_late_7 : cX0_late.data.toList.drop 162 = dktX0_late_7 := dk_seg dksX0_late_6 23 rfl rfl
theorem dksX0_late_8 : cX0_late.data.toList.drop 186 = dktX0_late_8 := dk_seg dksX0_late_7 24 rfl rfl
theorem dksX0_late_9 : cX0_late.data.toList.drop 210 = dktX0_late_9 := dk_seg dksX0_late_8 24 rfl rfl
theorem dksX0_late_10 : cX0_late.data.toList.drop 234 = dktX0_late_10 := dk_seg dksX0_late_9 24 rfl rfl
theorem dX0_late_0 : decode cX0_late 0 = .ok (.iload_n 1, 1) := dk_27 (dk_at dksX0_late_0 0 rfl rfl)
theorem dX0_late_1 : decode cX0_late 1 = .ok (.invokestatic 314, 3) := dk_184 1 58 (dk_at dksX0_late_0 1 rfl rfl)
theorem dX0_late_4 : decode cX0_late 4 = .ok (.ifCond .eq 50, 3) := dk_153 0 50 (dk_at dksX0_late_0 4 rfl rfl)
theorem dX0_late_7 : decode cX0_late 7 = .ok (.iload_n 2, 1) := dk_28 (dk_at dksX0_late_0 7 rfl rfl)
theorem dX0_late_8 : decode cX0_late 8 = .ok (.invokestatic 314, 3) := dk_184 1 58 (dk_at dksX0_late_0 8 rfl rfl)
theorem dX0_late_11 : decode cX0_late 11 = .ok (.ifCond .eq 43, 3) := dk_153 0 43 (dk_at dksX0_late_0 11 rfl rfl)
theorem dX0_late_14 : decode cX0_late 14 = .ok (.iload_n 1, 1) := dk_27 (dk_at dksX0_late_0 14 rfl rfl)
theorem dX0_late_15 : decode cX0_late 15 = .ok (.iload_n 2, 1) := dk_28 (dk_at dksX0_late_0 15 rfl rfl)
theorem dX0_late_16 : decode cX0_late 16 = .ok (.if_icmp .eq 38, 3) := dk_159 0 38 (dk_at dksX0_late_0 16 rfl rfl)
theorem dX0_late_19 : decode cX0_late 19 = .ok (.iload_n 3, 1) := dk_29 (dk_at dksX0_late_0 19 rfl rfl)
theorem dX0_late_20 : decode cX0_late 20 = .ok (.invokestatic 222, 3) := dk_184 0 222 (dk_at dksX0_late_0 20 rfl rfl)
theorem dX0_late_23 : decode cX0_late 23 = .ok (.ifCond .eq 31, 3) := dk_153 0 31 (dk_at dksX0_late_1 0 rfl rfl)
theorem dX0_late_26 : decode cX0_late 26 = .ok (.iload 4, 2) := dk_21 4 (dk_at dksX0_late_1 3 rfl rfl)
theorem dX0_late_28 : decode cX0_late 28 = .ok (.invokestatic 222, 3) := dk_184 0 222 (dk_at dksX0_late_1 5 rfl rfl)
theorem dX0_late_31 : decode cX0_late 31 = .ok (.ifCond .eq 23, 3) := dk_153 0 23 (dk_at dksX0_late_1 8 rfl rfl)
theorem dX0_late_34 : decode cX0_late 34 = .ok (.iload 5, 2) := dk_21 5 (dk_at dksX0_late_1 11 rfl rfl)
theorem dX0_late_36 : decode cX0_late 36 = .ok (.iconst 0, 1) := dk_3 (dk_at dksX0_late_1 13 rfl rfl)
theorem dX0_late_37 : decode cX0_late 37 = .ok (.sipush 2000, 3) := dk_17 7 208 (dk_at dksX0_late_1 14 rfl rfl)
theorem dX0_late_40 : decode cX0_late 40 = .ok (.invokestatic 171, 3) := dk_184 0 171 (dk_at dksX0_late_1 17 rfl rfl)
theorem dX0_late_43 : decode cX0_late 43 = .ok (.ifCond .eq 11, 3) := dk_153 0 11 (dk_at dksX0_late_1 20 rfl rfl)
theorem dX0_late_46 : decode cX0_late 46 = .ok (.iload 6, 2) := dk_21 6 (dk_at dksX0_late_2 0 rfl rfl)
theorem dX0_late_48 : decode cX0_late 48 = .ok (.invokestatic 238, 3) := dk_184 0 238 (dk_at dksX0_late_2 2 rfl rfl)
theorem dX0_late_51 : decode cX0_late 51 = .ok (.ifCond .ne 5, 3) := dk_154 0 5 (dk_at dksX0_late_2 5 rfl rfl)
theorem dX0_late_54 : decode cX0_late 54 = .ok (.iconst (-1), 1) := dk_2 (dk_at dksX0_late_2 8 rfl rfl)
theorem dX0_late_55 : decode cX0_late 55 = .ok (.ireturn, 1) := dk_172 (dk_at dksX0_late_2 9 rfl rfl)
theorem dX0_late_56 : decode cX0_late 56 = .ok (.aload_n 0, 1) := dk_42 (dk_at dksX0_late_2 10 rfl rfl)
theorem dX0_late_57 : decode cX0_late 57 = .ok (.iload_n 1, 1) := dk_27 (dk_at dksX0_late_2 11 rfl rfl)
theorem dX0_late_58 : decode cX0_late 58 = .ok (.invokevirtual 394, 3) := dk_182 1 138 (dk_at dksX0_late_2 12 rfl rfl)
theorem dX0_late_61 : decode cX0_late 61 = .ok (.ifCond .eq 11, 3) := dk_153 0 11 (dk_at dksX0_late_2 15 rfl rfl)
theorem dX0_late_64 : decode cX0_late 64 = .ok (.aload_n 0, 1) := dk_42 (dk_at dksX0_late_2 18 rfl rfl)
theorem dX0_late_65 : decode cX0_late 65 = .ok (.iload_n 2, 1) := dk_28 (dk_at dksX0_late_2 19 rfl rfl)
theorem dX0_late_66 : decode cX0_late 66 = .ok (.invokevirtual 394, 3) := dk_182 1 138 (dk_at dksX0_late_2 20 rfl rfl)
theorem dX0_late_69 : decode cX0_late 69 = .ok (.ifCond .ne 6, 3) := dk_154 0 6 (dk_at dksX0_late_3 0 rfl rfl)
theorem dX0_late_72 : decode cX0_late 72 = .ok (.bipush (-4), 2) := dk_16 252 (dk_at dksX0_late_3 3 rfl rfl)
theorem dX0_late_74 : decode cX0_late 74 = .ok (.ireturn, 1) := dk_172 (dk_at dksX0_late_3 5 rfl rfl)
theorem dX0_late_75 : decode cX0_late 75 = .ok (.aload_n 0, 1) := dk_42 (dk_at dksX0_late_3 6 rfl rfl)
theorem dX0_late_76 : decode cX0_late 76 = .ok (.aload_n 0, 1) := dk_42 (dk_at dksX0_late_3 7 rfl rfl)
theorem dX0_late_77 : decode cX0_late 77 = .ok (.getfield 90, 3) := dk_180 0 90 (dk_at dksX0_late_3 8 rfl rfl)
theorem dX0_late_80 : decode cX0_late 80 = .ok (.iload_n 1, 1) := dk_27 (dk_at dksX0_late_3 11 rfl rfl)
theorem dX0_late_81 : decode cX0_late 81 = .ok (.iaload, 1) := dk_46 (dk_at dksX0_late_3 12 rfl rfl)
theorem dX0_late_82 : decode cX0_late 82 = .ok (.aload_n 0, 1) := dk_42 (dk_at dksX0_late_3 13 rfl rfl)
theorem dX0_late_83 : decode cX0_late 83 = .ok (.getfield 219, 3) := dk_180 0 219 (dk_at dksX0_late_3 14 rfl rfl)
theorem dX0_late_86 : decode cX0_late 86 = .ok (.iload 4, 2) := dk_21 4 (dk_at dksX0_late_3 17 rfl rfl)
theorem dX0_late_88 : decode cX0_late 88 = .ok (.invokevirtual 241, 3) := dk_182 0 241 (dk_at dksX0_late_3 19 rfl rfl)
theorem dX0_late_91 : decode cX0_late 91 = .ok (.istore 7, 2) := dk_54 7 (dk_at dksX0_late_3 22 rfl rfl)
theorem dX0_late_93 : decode cX0_late 93 = .ok (.aload_n 0, 1) := dk_42 (dk_at dksX0_late_4 0 rfl rfl)
theorem dX0_late_94 : decode cX0_late 94 = .ok (.aload_n 0, 1) := dk_42 (dk_at dksX0_late_4 1 rfl rfl)
theorem dX0_late_95 : decode cX0_late 95 = .ok (.getfield 90, 3) := dk_180 0 90 (dk_at dksX0_late_4 2 rfl rfl)
theorem dX0_late_98 : decode cX0_late 98 = .ok (.iload_n 2, 1) := dk_28 (dk_at dksX0_late_4 5 rfl rfl)
theorem dX0_late_99 : decode cX0_late 99 = .ok (.iaload, 1) := dk_46 (dk_at dksX0_late_4 6 rfl rfl)
theorem dX0_late_100 : decode cX0_late 100 = .ok (.aload_n 0, 1) := dk_42 (dk_at dksX0_late_4 7 rfl rfl)
theorem dX0_late_101 : decode cX0_late 101 = .ok (.getfield 219, 3) := dk_180 0 219 (dk_at dksX0_late_4 8 rfl rfl)
theorem dX0_late_104 : decode cX0_late 104 = .ok (.iload 4, 2) := dk_21 4 (dk_at dksX0_late_4 11 rfl rfl)
theorem dX0_late_106 : decode cX0_late 106 = .ok (.invokevirtual 241, 3) := dk_182 0 241 (dk_at dksX0_late_4 13 rfl rfl)
theorem dX0_late_109 : decode cX0_late 109 = .ok (.istore 8, 2) := dk_54 8 (dk_at dksX0_late_4 16 rfl rfl)
theorem dX0_late_111 : decode cX0_late 111 = .ok (.iload 7, 2) := dk_21 7 (dk_at dksX0_late_4 18 rfl rfl)
theorem dX0_late_113 : decode cX0_late 113 = .ok (.bipush (-9), 2) := dk_16 247 (dk_at dksX0_late_4 20 rfl rfl)
theorem dX0_late_115 : decode cX0_late 115 = .ok (.if_icmp .eq 10, 3) := dk_159 0 10 (dk_at dksX0_late_5 0 rfl rfl)
theorem dX0_late_118 : decode cX0_late 118 = .ok (.iload 8, 2) := dk_21 8 (dk_at dksX0_late_5 3 rfl rfl)
theorem dX0_late_120 : decode cX0_late 120 = .ok (.bipush (-9), 2) := dk_16 247 (dk_at dksX0_late_5 5 rfl rfl)
theorem dX0_late_122 : decode cX0_late 122 = .ok (.if_icmp .ne 9, 3) := dk_160 0 9 (dk_at dksX0_late_5 7 rfl rfl)
theorem dX0_late_125 : decode cX0_late 125 = .ok (.aload_n 0, 1) := dk_42 (dk_at dksX0_late_5 10 rfl rfl)
theorem dX0_late_126 : decode cX0_late 126 = .ok (.iconst 1, 1) := dk_4 (dk_at dksX0_late_5 11 rfl rfl)
theorem dX0_late_127 : decode cX0_late 127 = .ok (.invokevirtual 181, 3) := dk_182 0 181 (dk_at dksX0_late_5 12 rfl rfl)
theorem dX0_late_130 : decode cX0_late 130 = .ok (.ireturn, 1) := dk_172 (dk_at dksX0_late_5 15 rfl rfl)
theorem dX0_late_131 : decode cX0_late 131 = .ok (.aload_n 0, 1) := dk_42 (dk_at dksX0_late_5 16 rfl rfl)
theorem dX0_late_132 : decode cX0_late 132 = .ok (.iload 4, 2) := dk_21 4 (dk_at dksX0_late_5 17 rfl rfl)
theorem dX0_late_134 : decode cX0_late 134 = .ok (.iload 7, 2) := dk_21 7 (dk_at dksX0_late_5 19 rfl rfl)
theorem dX0_late_136 : decode cX0_late 136 = .ok (.iload 5, 2) := dk_21 5 (dk_at dksX0_late_5 21 rfl rfl)
theorem dX0_late_138 : decode cX0_late 138 = .ok (.iadd, 1) := dk_96 (dk_at dksX0_late_5 23 rfl rfl)
theorem dX0_late_139 : decode cX0_late 139 = .ok (.iload 8, 2) := dk_21 8 (dk_at dksX0_late_6 0 rfl rfl)
theorem dX0_late_141 : decode cX0_late 141 = .ok (.invokestatic 371, 3) := dk_184 1 115 (dk_at dksX0_late_6 2 rfl rfl)
theorem dX0_late_144 : decode cX0_late 144 = .ok (.bipush 10, 2) := dk_16 10 (dk_at dksX0_late_6 5 rfl rfl)
theorem dX0_late_146 : decode cX0_late 146 = .ok (.iadd, 1) := dk_96 (dk_at dksX0_late_6 7 rfl rfl)
theorem dX0_late_147 : decode cX0_late 147 = .ok (.iload_n 3, 1) := dk_29 (dk_at dksX0_late_6 8 rfl rfl)
theorem dX0_late_148 : decode cX0_late 148 = .ok (.invokevirtual 388, 3) := dk_182 1 132 (dk_at dksX0_late_6 9 rfl rfl)
theorem dX0_late_151 : decode cX0_late 151 = .ok (.istore 9, 2) := dk_54 9 (dk_at dksX0_late_6 12 rfl rfl)
theorem dX0_late_153 : decode cX0_late 153 = .ok (.iload 9, 2) := dk_21 9 (dk_at dksX0_late_6 14 rfl rfl)
theorem dX0_late_155 : decode cX0_late 155 = .ok (.bipush (-9), 2) := dk_16 247 (dk_at dksX0_late_6 16 rfl rfl)
theorem dX0_late_157 : decode cX0_late 157 = .ok (.if_icmp .ne 9, 3) := dk_160 0 9 (dk_at dksX0_late_6 18 rfl rfl)
theorem dX0_late_160 : decode cX0_late 160 = .ok (.aload_n 0, 1) := dk_42 (dk_at dksX0_late_6 21 rfl rfl)
theorem dX0_late_161 : decode cX0_late 161 = .ok (.iconst 1, 1) := dk_4 (dk_at dksX0_late_6 22 rfl rfl)
theorem dX0_late_162 : decode cX0_late 162 = .ok (.invokevirtual 181, 3) := dk_182 0 181 (dk_at dksX0_late_7 0 rfl rfl)
theorem dX0_late_165 : decode cX0_late 165 = .ok (.ireturn, 1) := dk_172 (dk_at dksX0_late_7 3 rfl rfl)
theorem dX0_late_166 : decode cX0_late 166 = .ok (.aload_n 0, 1) := dk_42 (dk_at dksX0_late_7 4 rfl rfl)
theorem dX0_late_167 : decode cX0_late 167 = .ok (.getfield 65, 3) := dk_180 0 65 (dk_at dksX0_late_7 5 rfl rfl)
theorem dX0_late_170 : decode cX0_late 170 = .ok (.aload_n 0, 1) := dk_42 (dk_at dksX0_late_7 8 rfl rfl)
theorem dX0_late_171 : decode cX0_late 171 = .ok (.getfield 96, 3) := dk_180 0 96 (dk_at dksX0_late_7 9 rfl rfl)
theorem dX0_late_174 : decode cX0_late 174 = .ok (.iload_n 1, 1) := dk_27 (dk_at dksX0_late_7 12 rfl rfl)
theorem dX0_late_175 : decode cX0_late 175 = .ok (.iaload, 1) := dk_46 (dk_at dksX0_late_7 13 rfl rfl)
theorem dX0_late_176 : decode cX0_late 176 = .ok (.aaload, 1) := dk_50 (dk_at dksX0_late_7 14 rfl rfl)
theorem dX0_late_177 : decode cX0_late 177 = .ok (.getfield 282, 3) := dk_180 1 26 (dk_at dksX0_late_7 15 rfl rfl)
theorem dX0_late_180 : decode cX0_late 180 = .ok (.istore 10, 2) := dk_54 10 (dk_at dksX0_late_7 18 rfl rfl)
theorem dX0_late_182 : decode cX0_late 182 = .ok (.aload_n 0, 1) := dk_42 (dk_at dksX0_late_7 20 rfl rfl)
theorem dX0_late_183 : decode cX0_late 183 = .ok (.getfield 65, 3) := dk_180 0 65 (dk_at dksX0_late_7 21 rfl rfl)
theorem dX0_late_186 : decode cX0_late 186 = .ok (.aload_n 0, 1) := dk_42 (dk_at dksX0_late_8 0 rfl rfl)
theorem dX0_late_187 : decode cX0_late 187 = .ok (.getfield 96, 3) := dk_180 0 96 (dk_at dksX0_late_8 1 rfl rfl)
theorem dX0_late_190 : decode cX0_late 190 = .ok (.iload_n 2, 1) := dk_28 (dk_at dksX0_late_8 4 rfl rfl)
theorem dX0_late_191 : decode cX0_late 191 = .ok (.iaload, 1) := dk_46 (dk_at dksX0_late_8 5 rfl rfl)
theorem dX0_late_192 : decode cX0_late 192 = .ok (.aaload, 1) := dk_50 (dk_at dksX0_late_8 6 rfl rfl)
theorem dX0_late_193 : decode cX0_late 193 = .ok (.getfield 282, 3) := dk_180 1 26 (dk_at dksX0_late_8 7 rfl rfl)
theorem dX0_late_196 : decode cX0_late 196 = .ok (.istore 11, 2) := dk_54 11 (dk_at dksX0_late_8 10 rfl rfl)
theorem dX0_late_198 : decode cX0_late 198 = .ok (.iconst 0, 1) := dk_3 (dk_at dksX0_late_8 12 rfl rfl)
theorem dX0_late_199 : decode cX0_late 199 = .ok (.iload 9, 2) := dk_21 9 (dk_at dksX0_late_8 13 rfl rfl)
theorem dX0_late_201 : decode cX0_late 201 = .ok (.iload 6, 2) := dk_21 6 (dk_at dksX0_late_8 15 rfl rfl)
theorem dX0_late_203 : decode cX0_late 203 = .ok (.isub, 1) := dk_100 (dk_at dksX0_late_8 17 rfl rfl)
theorem dX0_late_204 : decode cX0_late 204 = .ok (.invokestatic 371, 3) := dk_184 1 115 (dk_at dksX0_late_8 18 rfl rfl)
theorem dX0_late_207 : decode cX0_late 207 = .ok (.i2l, 1) := dk_133 (dk_at dksX0_late_8 21 rfl rfl)
theorem dX0_late_208 : decode cX0_late 208 = .ok (.iload 11, 2) := dk_21 11 (dk_at dksX0_late_8 22 rfl rfl)
theorem dX0_late_210 : decode cX0_late 210 = .ok (.i2l, 1) := dk_133 (dk_at dksX0_late_9 0 rfl rfl)
theorem dX0_late_211 : decode cX0_late 211 = .ok (.lmul, 1) := dk_105 (dk_at dksX0_late_9 1 rfl rfl)
theorem dX0_late_212 : decode cX0_late 212 = .ok (.ldc2_w 408, 3) := dk_20 1 152 (dk_at dksX0_late_9 2 rfl rfl)
theorem dX0_late_215 : decode cX0_late 215 = .ok (.ldiv, 1) := dk_109 (dk_at dksX0_late_9 5 rfl rfl)
theorem dX0_late_216 : decode cX0_late 216 = .ok (.lstore 12, 2) := dk_55 12 (dk_at dksX0_late_9 6 rfl rfl)
theorem dX0_late_218 : decode cX0_late 218 = .ok (.iload 10, 2) := dk_21 10 (dk_at dksX0_late_9 8 rfl rfl)
theorem dX0_late_220 : decode cX0_late 220 = .ok (.iload 11, 2) := dk_21 11 (dk_at dksX0_late_9 10 rfl rfl)
theorem dX0_late_222 : decode cX0_late 222 = .ok (.iadd, 1) := dk_96 (dk_at dksX0_late_9 12 rfl rfl)
theorem dX0_late_223 : decode cX0_late 223 = .ok (.bipush 10, 2) := dk_16 10 (dk_at dksX0_late_9 13 rfl rfl)
theorem dX0_late_225 : decode cX0_late 225 = .ok (.idiv, 1) := dk_108 (dk_at dksX0_late_9 15 rfl rfl)
theorem dX0_late_226 : decode cX0_late 226 = .ok (.i2l, 1) := dk_133 (dk_at dksX0_late_9 16 rfl rfl)
theorem dX0_late_227 : decode cX0_late 227 = .ok (.lstore 14, 2) := dk_55 14 (dk_at dksX0_late_9 17 rfl rfl)
theorem dX0_late_229 : decode cX0_late 229 = .ok (.lload 12, 2) := dk_22 12 (dk_at dksX0_late_9 19 rfl rfl)
theorem dX0_late_231 : decode cX0_late 231 = .ok (.lload 14, 2) := dk_22 14 (dk_at dksX0_late_9 21 rfl rfl)
theorem dX0_late_233 : decode cX0_late 233 = .ok (.lcmp, 1) := dk_148 (dk_at dksX0_late_9 23 rfl rfl)
theorem dX0_late_234 : decode cX0_late 234 = .ok (.ifCond .gt 14, 3) := dk_157 0 14 (dk_at dksX0_late_10 0 rfl rfl)
theorem dX0_late_237 : decode cX0_late 237 = .ok (.aload_n 0, 1) := dk_42 (dk_at dksX0_late_10 3 rfl rfl)
theorem dX0_late_238 : decode cX0_late 238 = .ok (.lload 12, 2) := dk_22 12 (dk_at dksX0_late_10 4 rfl rfl)
theorem dX0_late_240 : decode cX0_late 240 = .ok (.l2i, 1) := dk_136 (dk_at dksX0_late_10 6 rfl rfl)
theorem dX0_late_241 : decode cX0_late 241 = .ok (.iconst 1, 1) := dk_4 (dk_at dksX0_late_10 7 rfl rfl)
theorem dX0_late_242 : decode cX0_late 242 = .ok (.invokevirtual 185, 3) := dk_182 0 185 (dk_at dksX0_late_10 8 rfl rfl)
theorem dX0_late_245 : decode cX0_late 245 = .ok (.goto 11, 3) := dk_167 0 11 (dk_at dksX0_late_10 11 rfl rfl)
theorem dX0_late_248 : decode cX0_late 248 = .ok (.aload_n 0, 1) := dk_42 (dk_at dksX0_late_10 14 rfl rfl)
theorem dX0_late_249 : decode cX0_late 249 = .ok (.lload 14, 2) := dk_22 14 (dk_at dksX0_late_10 15 rfl rfl)
theorem dX0_late_251 : decode cX0_late 251 = .ok (.l2i, 1) := dk_136 (dk_at dksX0_late_10 17 rfl rfl)
theorem dX0_late_252 : decode cX0_late 252 = .ok (.iconst 0, 1) := dk_3 (dk_at dksX0_late_10 18 rfl rfl)
theorem dX0_late_253 : decode cX0_late 253 = .ok (.invokevirtual 185, 3) := dk_182 0 185 (dk_at dksX0_late_10 19 rfl rfl)
theorem dX0_late_256 : decode cX0_late 256 = .ok (.ireturn, 1) := dk_172 (dk_at dksX0_late_10 22 rfl rfl)
abbrev cX0_canBe : ByteArray := prog_1_method_83_code
def yX0_canBe : MethodName := ⟨RX0, "canBe", "(I)I"⟩
def dkwX0_canBe_1 : List UInt8 := [16, 252, 167, 0, 8, 42, 27, 182, 1, 157, 172]
abbrev dktX0_canBe_1 : List UInt8 := dkwX0_canBe_1 ++ []
def dkwX0_canBe_0 : List UInt8 := [42, 27, 182, 1, 38, 154, 0, 7, 2, 167, 0, 25, 42, 180, 0, 65, 27, 50, 180, 1, 22, 154, 0, 8]
abbrev dktX0_canBe_0 : List UInt8 := dkwX0_canBe_0 ++ dktX0_canBe_1
theorem dksX0_canBe_0 : cX0_canBe.data.toList.drop 0 = dktX0_canBe_0 := by decide +kernel
theorem dksX0_canBe_1 : cX0_canBe.data.toList.drop 24 = dktX0_canBe_1 := dk_seg dksX0_canBe_0 24 rfl rfl
theorem dX0_canBe_0 : decode cX0_canBe 0 = .ok (.aload_n 0, 1) := dk_42 (dk_at dksX0_canBe_0 0 rfl rfl)
theorem dX0_canBe_1 : decode cX0_canBe 1 = .ok (.iload_n 1, 1) := dk_27 (dk_at dksX0_canBe_0 1 rfl rfl)
theorem dX0_canBe_2 : decode cX0_canBe 2 = .ok (.invokevirtual 294, 3) := dk_182 1 38 (dk_at dksX0_canBe_0 2 rfl rfl)
theorem dX0_canBe_5 : decode cX0_canBe 5 = .ok (.ifCond .ne 7, 3) := dk_154 0 7 (dk_at dksX0_canBe_0 5 rfl rfl)
theorem dX0_canBe_8 : decode cX0_canBe 8 = .ok (.iconst (-1), 1) := dk_2 (dk_at dksX0_canBe_0 8 rfl rfl)
theorem dX0_canBe_9 : decode cX0_canBe 9 = .ok (.goto 25, 3) := dk_167 0 25 (dk_at dksX0_canBe_0 9 rfl rfl)
theorem dX0_canBe_12 : decode cX0_canBe 12 = .ok (.aload_n 0, 1) := dk_42 (dk_at dksX0_canBe_0 12 rfl rfl)
theorem dX0_canBe_13 : decode cX0_canBe 13 = .ok (.getfield 65, 3) := dk_180 0 65 (dk_at dksX0_canBe_0 13 rfl rfl)
theorem dX0_canBe_16 : decode cX0_canBe 16 = .ok (.iload_n 1, 1) := dk_27 (dk_at dksX0_canBe_0 16 rfl rfl)
theorem dX0_canBe_17 : decode cX0_canBe 17 = .ok (.aaload, 1) := dk_50 (dk_at dksX0_canBe_0 17 rfl rfl)
theorem dX0_canBe_18 : decode cX0_canBe 18 = .ok (.getfield 278, 3) := dk_180 1 22 (dk_at dksX0_canBe_0 18 rfl rfl)
theorem dX0_canBe_21 : decode cX0_canBe 21 = .ok (.ifCond .ne 8, 3) := dk_154 0 8 (dk_at dksX0_canBe_0 21 rfl rfl)
theorem dX0_canBe_24 : decode cX0_canBe 24 = .ok (.bipush (-4), 2) := dk_16 252 (dk_at dksX0_canBe_1 0 rfl rfl)
theorem dX0_canBe_26 : decode cX0_canBe 26 = .ok (.goto 8, 3) := dk_167 0 8 (dk_at dksX0_canBe_1 2 rfl rfl)
theorem dX0_canBe_29 : decode cX0_canBe 29 = .ok (.aload_n 0, 1) := dk_42 (dk_at dksX0_canBe_1 5 rfl rfl)
theorem dX0_canBe_30 : decode cX0_canBe 30 = .ok (.iload_n 1, 1) := dk_27 (dk_at dksX0_canBe_1 6 rfl rfl)
theorem dX0_canBe_31 : decode cX0_canBe 31 = .ok (.invokevirtual 413, 3) := dk_182 1 157 (dk_at dksX0_canBe_1 7 rfl rfl)
theorem dX0_canBe_34 : decode cX0_canBe 34 = .ok (.ireturn, 1) := dk_172 (dk_at dksX0_canBe_1 10 rfl rfl)
abbrev cX0_canBeOf : ByteArray := prog_1_method_82_code
def yX0_canBeOf : MethodName := ⟨RX0, "canBeOf", "(I)I"⟩
def dkwX0_canBeOf_3 : List UInt8 := [132, 4, 1, 167, 255, 209, 29, 172]
abbrev dktX0_canBeOf_3 : List UInt8 := dkwX0_canBeOf_3 ++ []
def dkwX0_canBeOf_2 : List UInt8 := [42, 180, 0, 56, 21, 4, 46, 42, 180, 0, 219, 163, 0, 10, 4, 21, 4, 120, 167, 0, 4, 3, 128, 62]
abbrev dktX0_canBeOf_2 : List UInt8 := dkwX0_canBeOf_2 ++ dktX0_canBeOf_3
def dkwX0_canBeOf_1 : List UInt8 := [62, 3, 54, 4, 21, 4, 16, 8, 162, 0, 46, 29, 42, 180, 0, 56, 21, 4, 46, 16, 247, 159, 0, 24]
abbrev dktX0_canBeOf_1 : List UInt8 := dkwX0_canBeOf_1 ++ dktX0_canBeOf_2
def dkwX0_canBeOf_0 : List UInt8 := [42, 27, 182, 1, 154, 61, 42, 42, 180, 0, 87, 28, 46, 42, 180, 0, 81, 28, 46, 3, 182, 0, 234, 3]
abbrev dktX0_canBeOf_0 : List UInt8 := dkwX0_canBeOf_0 ++ dktX0_canBeOf_1
theorem dksX0_canBeOf_0 : cX0_canBeOf.data.toList.drop 0 = dktX0_canBeOf_0 := by decide +kernel
theorem dksX0_canBeOf_1 : cX0_canBeOf.data.toList.drop 24 = dktX0_canBeOf_1 := dk_seg dksX0_canBeOf_0 24 rfl rfl
theorem dksX0_canBeOf_2 : cX0_canBeOf.data.toList.drop 48 = dktX0_canBeOf_2 := dk_seg dksX0_canBeOf_1 24 rfl rfl
theorem dksX0_canBeOf_3 : cX0_canBeOf.data.toList.drop 72 = dktX0_canBeOf_3 := dk_seg dksX0_canBeOf_2 24 rfl rfl
theorem dX0_canBeOf_0 : decode cX0_canBeOf 0 = .ok (.aload_n 0, 1) := dk_42 (dk_at dksX0_canBeOf_0 0 rfl rfl)
theorem dX0_canBeOf_1 : decode cX0_canBeOf 1 = .ok (.iload_n 1, 1) := dk_27 (dk_at dksX0_canBeOf_0 1 rfl rfl)
theorem dX0_canBeOf_2 : decode cX0_canBeOf 2 = .ok (.invokevirtual 410, 3) := dk_182 1 154 (dk_at dksX0_canBeOf_0 2 rfl rfl)
theorem dX0_canBeOf_5 : decode cX0_canBeOf 5 = .ok (.istore_n 2, 1) := dk_61 (dk_at dksX0_canBeOf_0 5 rfl rfl)
theorem dX0_canBeOf_6 : decode cX0_canBeOf 6 = .ok (.aload_n 0, 1) := dk_42 (dk_at dksX0_canBeOf_0 6 rfl rfl)
theorem dX0_canBeOf_7 : decode cX0_canBeOf 7 = .ok (.aload_n 0, 1) := dk_42 (dk_at dksX0_canBeOf_0 7 rfl rfl)
theorem dX0_canBeOf_8 : decode cX0_canBeOf 8 = .ok (.getfield 87, 3) := dk_180 0 87 (dk_at dksX0_canBeOf_0 8 rfl rfl)
theorem dX0_canBeOf_11 : decode cX0_canBeOf 11 = .ok (.iload_n 2, 1) := dk_28 (dk_at dksX0_canBeOf_0 11 rfl rfl)
theorem dX0_canBeOf_12 : decode cX0_canBeOf 12 = .ok (.iaload, 1) := dk_46 (dk_at dksX0_canBeOf_0 12 rfl rfl)
theorem dX0_canBeOf_13 : decode cX0_canBeOf 13 = .ok (.aload_n 0, 1) := dk_42 (dk_at dksX0_canBeOf_0 13 rfl rfl)
theorem dX0_canBeOf_14 : decode cX0_canBeOf 14 = .ok (.getfield 81, 3) := dk_180 0 81 (dk_at dksX0_canBeOf_0 14 rfl rfl)
theorem dX0_canBeOf_17 : decode cX0_canBeOf 17 = .ok (.iload_n 2, 1) := dk_28 (dk_at dksX0_canBeOf_0 17 rfl rfl)
theorem dX0_canBeOf_18 : decode cX0_canBeOf 18 = .ok (.iaload, 1) := dk_46 (dk_at dksX0_canBeOf_0 18 rfl rfl)
theorem dX0_canBeOf_19 : decode cX0_canBeOf 19 = .ok (.iconst 0, 1) := dk_3 (dk_at dksX0_canBeOf_0 19 rfl rfl)
theorem dX0_canBeOf_20 : decode cX0_canBeOf 20 = .ok (.invokevirtual 234, 3) := dk_182 0 234 (dk_at dksX0_canBeOf_0 20 rfl rfl)
theorem dX0_canBeOf_23 : decode cX0_canBeOf 23 = .ok (.iconst 0, 1) := dk_3 (dk_at dksX0_canBeOf_0 23 rfl rfl)
theorem dX0_canBeOf_24 : decode cX0_canBeOf 24 = .ok (.istore_n 3, 1) := dk_62 (dk_at dksX0_canBeOf_1 0 rfl rfl)
theorem dX0_canBeOf_25 : decode cX0_canBeOf 25 = .ok (.iconst 0, 1) := dk_3 (dk_at dksX0_canBeOf_1 1 rfl rfl)
theorem dX0_canBeOf_26 : decode cX0_canBeOf 26 = .ok (.istore 4, 2) := dk_54 4 (dk_at dksX0_canBeOf_1 2 rfl rfl)
theorem dX0_canBeOf_28 : decode cX0_canBeOf 28 = .ok (.iload 4, 2) := dk_21 4 (dk_at dksX0_canBeOf_1 4 rfl rfl)
theorem dX0_canBeOf_30 : decode cX0_canBeOf 30 = .ok (.bipush 8, 2) := dk_16 8 (dk_at dksX0_canBeOf_1 6 rfl rfl)
theorem dX0_canBeOf_32 : decode cX0_canBeOf 32 = .ok (.if_icmp .ge 46, 3) := dk_162 0 46 (dk_at dksX0_canBeOf_1 8 rfl rfl)
theorem dX0_canBeOf_35 : decode cX0_canBeOf 35 = .ok (.iload_n 3, 1) := dk_29 (dk_at dksX0_canBeOf_1 11 rfl rfl)
theorem dX0_canBeOf_36 : decode cX0_canBeOf 36 = .ok (.aload_n 0, 1) := dk_42 (dk_at dksX0_canBeOf_1 12 rfl rfl)
theorem dX0_canBeOf_37 : decode cX0_canBeOf 37 = .ok (.getfield 56, 3) := dk_180 0 56 (dk_at dksX0_canBeOf_1 13 rfl rfl)
theorem dX0_canBeOf_40 : decode cX0_canBeOf 40 = .ok (.iload 4, 2) := dk_21 4 (dk_at dksX0_canBeOf_1 16 rfl rfl)
theorem dX0_canBeOf_42 : decode cX0_canBeOf 42 = .ok (.iaload, 1) := dk_46 (dk_at dksX0_canBeOf_1 18 rfl rfl)
theorem dX0_canBeOf_43 : decode cX0_canBeOf 43 = .ok (.bipush (-9), 2) := dk_16 247 (dk_at dksX0_canBeOf_1 19 rfl rfl)
theorem dX0_canBeOf_45 : decode cX0_canBeOf 45 = .ok (.if_icmp .eq 24, 3) := dk_159 0 24 (dk_at dksX0_canBeOf_1 21 rfl rfl)
theorem dX0_canBeOf_48 : decode cX0_canBeOf 48 = .ok (.aload_n 0, 1) := dk_42 (dk_at dksX0_canBeOf_2 0 rfl rfl)
theorem dX0_canBeOf_49 : decode cX0_canBeOf 49 = .ok (.getfield 56, 3) := dk_180 0 56 (dk_at dksX0_canBeOf_2 1 rfl rfl)
theorem dX0_canBeOf_52 : decode cX0_canBeOf 52 = .ok (.iload 4, 2) := dk_21 4 (dk_at dksX0_canBeOf_2 4 rfl rfl)
theorem dX0_canBeOf_54 : decode cX0_canBeOf 54 = .ok (.iaload, 1) := dk_46 (dk_at dksX0_canBeOf_2 6 rfl rfl)
theorem dX0_canBeOf_55 : decode cX0_canBeOf 55 = .ok (.aload_n 0, 1) := dk_42 (dk_at dksX0_canBeOf_2 7 rfl rfl)
theorem dX0_canBeOf_56 : decode cX0_canBeOf 56 = .ok (.getfield 219, 3) := dk_180 0 219 (dk_at dksX0_canBeOf_2 8 rfl rfl)
theorem dX0_canBeOf_59 : decode cX0_canBeOf 59 = .ok (.if_icmp .gt 10, 3) := dk_163 0 10 (dk_at dksX0_canBeOf_2 11 rfl rfl)
theorem dX0_canBeOf_62 : decode cX0_canBeOf 62 = .ok (.iconst 1, 1) := dk_4 (dk_at dksX0_canBeOf_2 14 rfl rfl)
theorem dX0_canBeOf_63 : decode cX0_canBeOf 63 = .ok (.iload 4, 2) := dk_21 4 (dk_at dksX0_canBeOf_2 15 rfl rfl)
theorem dX0_canBeOf_65 : decode cX0_canBeOf 65 = .ok (.ishl, 1) := dk_120 (dk_at dksX0_canBeOf_2 17 rfl rfl)
theorem dX0_canBeOf_66 : decode cX0_canBeOf 66 = .ok (.goto 4, 3) := dk_167 0 4 (dk_at dksX0_canBeOf_2 18 rfl rfl)
theorem dX0_canBeOf_69 : decode cX0_canBeOf 69 = .ok (.iconst 0, 1) := dk_3 (dk_at dksX0_canBeOf_2 21 rfl rfl)
theorem dX0_canBeOf_70 : decode cX0_canBeOf 70 = .ok (.ior, 1) := dk_128 (dk_at dksX0_canBeOf_2 22 rfl rfl)
theorem dX0_canBeOf_71 : decode cX0_canBeOf 71 = .ok (.istore_n 3, 1) := dk_62 (dk_at dksX0_canBeOf_2 23 rfl rfl)
theorem dX0_canBeOf_72 : decode cX0_canBeOf 72 = .ok (.iinc 4 1, 3) := dk_132 4 1 (dk_at dksX0_canBeOf_3 0 rfl rfl)
theorem dX0_canBeOf_75 : decode cX0_canBeOf 75 = .ok (.goto (-47), 3) := dk_167 255 209 (dk_at dksX0_canBeOf_3 3 rfl rfl)
theorem dX0_canBeOf_78 : decode cX0_canBeOf 78 = .ok (.iload_n 3, 1) := dk_29 (dk_at dksX0_canBeOf_3 6 rfl rfl)
theorem dX0_canBeOf_79 : decode cX0_canBeOf 79 = .ok (.ireturn, 1) := dk_172 (dk_at dksX0_canBeOf_3 7 rfl rfl)
abbrev cX0_lastSeen : ByteArray := prog_1_method_81_code
def yX0_lastSeen : MethodName := ⟨RX0, "lastSeen", "(I)I"⟩
def dkwX0_lastSeen_0 : List UInt8 := [42, 27, 42, 27, 42, 180, 0, 248, 5, 5, 182, 1, 118, 3, 4, 182, 1, 118, 172]
abbrev dktX0_lastSeen_0 : List UInt8 := dkwX0_lastSeen_0 ++ []
theorem dksX0_lastSeen_0 : cX0_lastSeen.data.toList.drop 0 = dktX0_lastSeen_0 := by decide +kernel
theorem dX0_lastSeen_0 : decode cX0_lastSeen 0 = .ok (.aload_n 0, 1) := dk_42 (dk_at dksX0_lastSeen_0 0 rfl rfl)
theorem dX0_lastSeen_1 : decode cX0_lastSeen 1 = .ok (.iload_n 1, 1) := dk_27 (dk_at dksX0_lastSeen_0 1 rfl rfl)
theorem dX0_lastSeen_2 : decode cX0_lastSeen 2 = .ok (.aload_n 0, 1) := dk_42 (dk_at dksX0_lastSeen_0 2 rfl rfl)
theorem dX0_lastSeen_3 : decode cX0_lastSeen 3 = .ok (.iload_n 1, 1) := dk_27 (dk_at dksX0_lastSeen_0 3 rfl rfl)
theorem dX0_lastSeen_4 : decode cX0_lastSeen 4 = .ok (.aload_n 0, 1) := dk_42 (dk_at dksX0_lastSeen_0 4 rfl rfl)
theorem dX0_lastSeen_5 : decode cX0_lastSeen 5 = .ok (.getfield 248, 3) := dk_180 0 248 (dk_at dksX0_lastSeen_0 5 rfl rfl)
theorem dX0_lastSeen_8 : decode cX0_lastSeen 8 = .ok (.iconst 2, 1) := dk_5 (dk_at dksX0_lastSeen_0 8 rfl rfl)
theorem dX0_lastSeen_9 : decode cX0_lastSeen 9 = .ok (.iconst 2, 1) := dk_5 (dk_at dksX0_lastSeen_0 9 rfl rfl)
theorem dX0_lastSeen_10 : decode cX0_lastSeen 10 = .ok (.invokevirtual 374, 3) := dk_182 1 118 (dk_at dksX0_lastSeen_0 10 rfl rfl)
theorem dX0_lastSeen_13 : decode cX0_lastSeen 13 = .ok (.iconst 0, 1) := dk_3 (dk_at dksX0_lastSeen_0 13 rfl rfl)
theorem dX0_lastSeen_14 : decode cX0_lastSeen 14 = .ok (.iconst 1, 1) := dk_4 (dk_at dksX0_lastSeen_0 14 rfl rfl)
theorem dX0_lastSeen_15 : decode cX0_lastSeen 15 = .ok (.invokevirtual 374, 3) := dk_182 1 118 (dk_at dksX0_lastSeen_0 15 rfl rfl)
theorem dX0_lastSeen_18 : decode cX0_lastSeen 18 = .ok (.ireturn, 1) := dk_172 (dk_at dksX0_lastSeen_0 18 rfl rfl)
abbrev cX0_look : ByteArray := prog_1_method_85_code
def yX0_look : MethodName := ⟨RX0, "look", "(III)I"⟩
def dkwX0_look_11 : List UInt8 := [181, 1, 170, 42, 42, 180, 1, 163, 42, 180, 1, 170, 182, 0, 185, 172]
abbrev dktX0_look_11 : List UInt8 := dkwX0_look_11 ++ []
def dkwX0_look_10 : List UInt8 := [21, 4, 3, 28, 42, 180, 0, 219, 42, 180, 0, 25, 29, 50, 3, 182, 1, 166, 42, 21, 4, 184, 1, 124]
abbrev dktX0_look_10 : List UInt8 := dkwX0_look_10 ++ dktX0_look_11
def dkwX0_look_9 : List UInt8 := [16, 247, 160, 0, 9, 42, 4, 182, 0, 181, 172, 132, 6, 1, 167, 255, 217, 42, 3, 181, 1, 160, 42]
abbrev dktX0_look_9 : List UInt8 := dkwX0_look_9 ++ dktX0_look_10
def dkwX0_look_8 : List UInt8 := [16, 8, 162, 0, 38, 21, 4, 21, 6, 122, 4, 126, 4, 160, 0, 21, 42, 180, 0, 56, 21, 6, 46]
abbrev dktX0_look_8 : List UInt8 := dkwX0_look_8 ++ dktX0_look_9
def dkwX0_look_7 : List UInt8 := [16, 6, 164, 0, 6, 16, 254, 172, 42, 28, 42, 180, 0, 219, 3, 182, 0, 234, 3, 54, 6, 21, 6]
abbrev dktX0_look_7 : List UInt8 := dkwX0_look_7 ++ dktX0_look_8
def dkwX0_look_6 : List UInt8 := [154, 0, 9, 42, 6, 182, 0, 181, 172, 21, 4, 42, 27, 182, 1, 157, 126, 54, 4, 21, 4, 184, 1, 124]
abbrev dktX0_look_6 : List UInt8 := dkwX0_look_6 ++ dktX0_look_7
def dkwX0_look_5 : List UInt8 := [158, 0, 10, 4, 21, 6, 120, 167, 0, 4, 3, 128, 54, 4, 132, 6, 1, 167, 255, 201, 21, 5]
abbrev dktX0_look_5 : List UInt8 := dkwX0_look_5 ++ dktX0_look_6
def dkwX0_look_4 : List UInt8 := [21, 6, 46, 3, 16, 100, 184, 0, 171, 126, 54, 5, 21, 4, 42, 180, 0, 25, 29, 50, 21, 6, 46]
abbrev dktX0_look_4 : List UInt8 := dkwX0_look_4 ++ dktX0_look_5
def dkwX0_look_3 : List UInt8 := [3, 54, 4, 4, 54, 5, 3, 54, 6, 21, 6, 16, 8, 162, 0, 54, 21, 5, 42, 180, 0, 25, 29, 50]
abbrev dktX0_look_3 : List UInt8 := dkwX0_look_3 ++ dktX0_look_4
def dkwX0_look_2 : List UInt8 := [42, 4, 182, 0, 181, 172, 42, 180, 0, 25, 29, 50, 190, 16, 8, 159, 0, 9, 42, 8, 182, 0, 181, 172]
abbrev dktX0_look_2 : List UInt8 := dkwX0_look_2 ++ dktX0_look_3
def dkwX0_look_1 : List UInt8 := [42, 180, 0, 65, 27, 50, 180, 1, 22, 154, 0, 6, 16, 252, 172, 42, 180, 0, 25, 29, 50, 199, 0, 9]
abbrev dktX0_look_1 : List UInt8 := dkwX0_look_1 ++ dktX0_look_2
def dkwX0_look_0 : List UInt8 := [42, 27, 182, 1, 38, 153, 0, 17, 28, 184, 0, 222, 153, 0, 10, 29, 184, 0, 175, 154, 0, 5, 2, 172]
abbrev dktX0_look_0 : List UInt8 := dkwX0_look_0 ++ dktX0_look_1
theorem dksX0_look_0 : cX0_look.data.toList.drop 0 = dktX0_look_0 := by decide +kernel
theorem dksX0_look_1 : cX0_look.data.toList.drop 24 = dktX0_look_1 := dk_seg dksX0_look_0 24 rfl rfl
theorem dksX0_look_2 : cX0_look.data.toList.drop 48 = dktX0_look_2 := dk_seg dksX0_look_1 24 rfl rfl
theorem dksX0_look_3 : cX0_look.data.toList.drop 72 = dktX0_look_3 := dk_seg dksX0_look_2 24 rfl rfl
theorem dksX0_look_4 : cX0_look.data.toList.drop 96 = dktX0_look_4 := dk_seg dksX0_look_3 24 rfl rfl
theorem dksX0_look_5 : cX0_look.data.toList.drop 119 = dktX0_look_5 := dk_seg dksX0_look_4 23 rfl rfl
theorem dksX0_look_6 : cX0_look.data.toList.drop 141 = dktX0_look_6 := dk_seg dksX0_look_5 22 rfl rfl
theorem dksX0_look_7 : cX0_look.data.toList.drop 165 = dktX0_look_7 := dk_seg dksX0_look_6 24 rfl rfl
theorem dksX0_look_8 : cX0_look.data.toList.drop 188 = dktX0_look_8 := dk_seg dksX0_look_7 23 rfl rfl
theorem dksX0_look_9 : cX0_look.data.toList.drop 211 = dktX0_look_9 := dk_seg dksX0_look_8 23 rfl rfl
theorem dksX0_look_10 : cX0_look.data.toList.drop 234 = dktX0_look_10 := dk_seg dksX0_look_9 23 rfl rfl
theorem dksX0_look_11 : cX0_look.data.toList.drop 258 = dktX0_look_11 := dk_seg dksX0_look_10 24 rfl rfl
theorem dX0_look_0 : decode cX0_look 0 = .ok (.aload_n 0, 1) := dk_42 (dk_at dksX0_look_0 0 rfl rfl)
theorem dX0_look_1 : decode cX0_look 1 = .ok (.iload_n 1, 1) := dk_27 (dk_at dksX0_look_0 1 rfl rfl)
theorem dX0_look_2 : decode cX0_look 2 = .ok (.invokevirtual 294, 3) := dk_182 1 38 (dk_at dksX0_look_0 2 rfl rfl)
theorem dX0_look_5 : decode cX0_look 5 = .ok (.ifCond .eq 17, 3) := dk_153 0 17 (dk_at dksX0_look_0 5 rfl rfl)
theorem dX0_look_8 : decode cX0_look 8 = .ok (.iload_n 2, 1) := dk_28 (dk_at dksX0_look_0 8 rfl rfl)
theorem dX0_look_9 : decode cX0_look 9 = .ok (.invokestatic 222, 3) := dk_184 0 222 (dk_at dksX0_look_0 9 rfl rfl)
theorem dX0_look_12 : decode cX0_look 12 = .ok (.ifCond .eq 10, 3) := dk_153 0 10 (dk_at dksX0_look_0 12 rfl rfl)
theorem dX0_look_15 : decode cX0_look 15 = .ok (.iload_n 3, 1) := dk_29 (dk_at dksX0_look_0 15 rfl rfl)
theorem dX0_look_16 : decode cX0_look 16 = .ok (.invokestatic 175, 3) := dk_184 0 175 (dk_at dksX0_look_0 16 rfl rfl)
theorem dX0_look_19 : decode cX0_look 19 = .ok (.ifCond .ne 5, 3) := dk_154 0 5 (dk_at dksX0_look_0 19 rfl rfl)
theorem dX0_look_22 : decode cX0_look 22 = .ok (.iconst (-1), 1) := dk_2 (dk_at dksX0_look_0 22 rfl rfl)
theorem dX0_look_23 : decode cX0_look 23 = .ok (.ireturn, 1) := dk_172 (dk_at dksX0_look_0 23 rfl rfl)
theorem dX0_look_24 : decode cX0_look 24 = .ok (.aload_n 0, 1) := dk_42 (dk_at dksX0_look_1 0 rfl rfl)
theorem dX0_look_25 : decode cX0_look 25 = .ok (.getfield 65, 3) := dk_180 0 65 (dk_at dksX0_look_1 1 rfl rfl)
theorem dX0_look_28 : decode cX0_look 28 = .ok (.iload_n 1, 1) := dk_27 (dk_at dksX0_look_1 4 rfl rfl)
theorem dX0_look_29 : decode cX0_look 29 = .ok (.aaload, 1) := dk_50 (dk_at dksX0_look_1 5 rfl rfl)
theorem dX0_look_30 : decode cX0_look 30 = .ok (.getfield 278, 3) := dk_180 1 22 (dk_at dksX0_look_1 6 rfl rfl)
theorem dX0_look_33 : decode cX0_look 33 = .ok (.ifCond .ne 6, 3) := dk_154 0 6 (dk_at dksX0_look_1 9 rfl rfl)
theorem dX0_look_36 : decode cX0_look 36 = .ok (.bipush (-4), 2) := dk_16 252 (dk_at dksX0_look_1 12 rfl rfl)
theorem dX0_look_38 : decode cX0_look 38 = .ok (.ireturn, 1) := dk_172 (dk_at dksX0_look_1 14 rfl rfl)
theorem dX0_look_39 : decode cX0_look 39 = .ok (.aload_n 0, 1) := dk_42 (dk_at dksX0_look_1 15 rfl rfl)
theorem dX0_look_40 : decode cX0_look 40 = .ok (.getfield 25, 3) := dk_180 0 25 (dk_at dksX0_look_1 16 rfl rfl)
theorem dX0_look_43 : decode cX0_look 43 = .ok (.iload_n 3, 1) := dk_29 (dk_at dksX0_look_1 19 rfl rfl)
theorem dX0_look_44 : decode cX0_look 44 = .ok (.aaload, 1) := dk_50 (dk_at dksX0_look_1 20 rfl rfl)
theorem dX0_look_45 : decode cX0_look 45 = .ok (.ifnonnull 9, 3) := dk_199 0 9 (dk_at dksX0_look_1 21 rfl rfl)
theorem dX0_look_48 : decode cX0_look 48 = .ok (.aload_n 0, 1) := dk_42 (dk_at dksX0_look_2 0 rfl rfl)
theorem dX0_look_49 : decode cX0_look 49 = .ok (.iconst 1, 1) := dk_4 (dk_at dksX0_look_2 1 rfl rfl)
theorem dX0_look_50 : decode cX0_look 50 = .ok (.invokevirtual 181, 3) := dk_182 0 181 (dk_at dksX0_look_2 2 rfl rfl)
theorem dX0_look_53 : decode cX0_look 53 = .ok (.ireturn, 1) := dk_172 (dk_at dksX0_look_2 5 rfl rfl)
theorem dX0_look_54 : decode cX0_look 54 = .ok (.aload_n 0, 1) := dk_42 (dk_at dksX0_look_2 6 rfl rfl)
theorem dX0_look_55 : decode cX0_look 55 = .ok (.getfield 25, 3) := dk_180 0 25 (dk_at dksX0_look_2 7 rfl rfl)
theorem dX0_look_58 : decode cX0_look 58 = .ok (.iload_n 3, 1) := dk_29 (dk_at dksX0_look_2 10 rfl rfl)
theorem dX0_look_59 : decode cX0_look 59 = .ok (.aaload, 1) := dk_50 (dk_at dksX0_look_2 11 rfl rfl)
theorem dX0_look_60 : decode cX0_look 60 = .ok (.arraylength, 1) := dk_190 (dk_at dksX0_look_2 12 rfl rfl)
theorem dX0_look_61 : decode cX0_look 61 = .ok (.bipush 8, 2) := dk_16 8 (dk_at dksX0_look_2 13 rfl rfl)
theorem dX0_look_63 : decode cX0_look 63 = .ok (.if_icmp .eq 9, 3) := dk_159 0 9 (dk_at dksX0_look_2 15 rfl rfl)
theorem dX0_look_66 : decode cX0_look 66 = .ok (.aload_n 0, 1) := dk_42 (dk_at dksX0_look_2 18 rfl rfl)
theorem dX0_look_67 : decode cX0_look 67 = .ok (.iconst 5, 1) := dk_8 (dk_at dksX0_look_2 19 rfl rfl)
theorem dX0_look_68 : decode cX0_look 68 = .ok (.invokevirtual 181, 3) := dk_182 0 181 (dk_at dksX0_look_2 20 rfl rfl)
theorem dX0_look_71 : decode cX0_look 71 = .ok (.ireturn, 1) := dk_172 (dk_at dksX0_look_2 23 rfl rfl)
theorem dX0_look_72 : decode cX0_look 72 = .ok (.iconst 0, 1) := dk_3 (dk_at dksX0_look_3 0 rfl rfl)
theorem dX0_look_73 : decode cX0_look 73 = .ok (.istore 4, 2) := dk_54 4 (dk_at dksX0_look_3 1 rfl rfl)
theorem dX0_look_75 : decode cX0_look 75 = .ok (.iconst 1, 1) := dk_4 (dk_at dksX0_look_3 3 rfl rfl)
theorem dX0_look_76 : decode cX0_look 76 = .ok (.istore 5, 2) := dk_54 5 (dk_at dksX0_look_3 4 rfl rfl)
theorem dX0_look_78 : decode cX0_look 78 = .ok (.iconst 0, 1) := dk_3 (dk_at dksX0_look_3 6 rfl rfl)
theorem dX0_look_79 : decode cX0_look 79 = .ok (.istore 6, 2) := dk_54 6 (dk_at dksX0_look_3 7 rfl rfl)
theorem dX0_look_81 : decode cX0_look 81 = .ok (.iload 6, 2) := dk_21 6 (dk_at dksX0_look_3 9 rfl rfl)
theorem dX0_look_83 : decode cX0_look 83 = .ok (.bipush 8, 2) := dk_16 8 (dk_at dksX0_look_3 11 rfl rfl)
theorem dX0_look_85 : decode cX0_look 85 = .ok (.if_icmp .ge 54, 3) := dk_162 0 54 (dk_at dksX0_look_3 13 rfl rfl)
theorem dX0_look_88 : decode cX0_look 88 = .ok (.iload 5, 2) := dk_21 5 (dk_at dksX0_look_3 16 rfl rfl)
theorem dX0_look_90 : decode cX0_look 90 = .ok (.aload_n 0, 1) := dk_42 (dk_at dksX0_look_3 18 rfl rfl)
theorem dX0_look_91 : decode cX0_look 91 = .ok (.getfield 25, 3) := dk_180 0 25 (dk_at dksX0_look_3 19 rfl rfl)
theorem dX0_look_94 : decode cX0_look 94 = .ok (.iload_n 3, 1) := dk_29 (dk_at dksX0_look_3 22 rfl rfl)
theorem dX0_look_95 : decode cX0_look 95 = .ok (.aaload, 1) := dk_50 (dk_at dksX0_look_3 23 rfl rfl)
theorem dX0_look_96 : decode cX0_look 96 = .ok (.iload 6, 2) := dk_21 6 (dk_at dksX0_look_4 0 rfl rfl)
theorem dX0_look_98 : decode cX0_look 98 = .ok (.iaload, 1) := dk_46 (dk_at dksX0_look_4 2 rfl rfl)
theorem dX0_look_99 : decode cX0_look 99 = .ok (.iconst 0, 1) := dk_3 (dk_at dksX0_look_4 3 rfl rfl)
theorem dX0_look_100 : decode cX0_look 100 = .ok (.bipush 100, 2) := dk_16 100 (dk_at dksX0_look_4 4 rfl rfl)
theorem dX0_look_102 : decode cX0_look 102 = .ok (.invokestatic 171, 3) := dk_184 0 171 (dk_at dksX0_look_4 6 rfl rfl)
theorem dX0_look_105 : decode cX0_look 105 = .ok (.iand, 1) := dk_126 (dk_at dksX0_look_4 9 rfl rfl)
theorem dX0_look_106 : decode cX0_look 106 = .ok (.istore 5, 2) := dk_54 5 (dk_at dksX0_look_4 10 rfl rfl)
theorem dX0_look_108 : decode cX0_look 108 = .ok (.iload 4, 2) := dk_21 4 (dk_at dksX0_look_4 12 rfl rfl)
theorem dX0_look_110 : decode cX0_look 110 = .ok (.aload_n 0, 1) := dk_42 (dk_at dksX0_look_4 14 rfl rfl)
theorem dX0_look_111 : decode cX0_look 111 = .ok (.getfield 25, 3) := dk_180 0 25 (dk_at dksX0_look_4 15 rfl rfl)
theorem dX0_look_114 : decode cX0_look 114 = .ok (.iload_n 3, 1) := dk_29 (dk_at dksX0_look_4 18 rfl rfl)
theorem dX0_look_115 : decode cX0_look 115 = .ok (.aaload, 1) := dk_50 (dk_at dksX0_look_4 19 rfl rfl)
theorem dX0_look_116 : decode cX0_look 116 = .ok (.iload 6, 2) := dk_21 6 (dk_at dksX0_look_4 20 rfl rfl)
theorem dX0_look_118 : decode cX0_look 118 = .ok (.iaload, 1) := dk_46 (dk_at dksX0_look_4 22 rfl rfl)
theorem dX0_look_119 : decode cX0_look 119 = .ok (.ifCond .le 10, 3) := dk_158 0 10 (dk_at dksX0_look_5 0 rfl rfl)
theorem dX0_look_122 : decode cX0_look 122 = .ok (.iconst 1, 1) := dk_4 (dk_at dksX0_look_5 3 rfl rfl)
theorem dX0_look_123 : decode cX0_look 123 = .ok (.iload 6, 2) := dk_21 6 (dk_at dksX0_look_5 4 rfl rfl)
theorem dX0_look_125 : decode cX0_look 125 = .ok (.ishl, 1) := dk_120 (dk_at dksX0_look_5 6 rfl rfl)
theorem dX0_look_126 : decode cX0_look 126 = .ok (.goto 4, 3) := dk_167 0 4 (dk_at dksX0_look_5 7 rfl rfl)
theorem dX0_look_129 : decode cX0_look 129 = .ok (.iconst 0, 1) := dk_3 (dk_at dksX0_look_5 10 rfl rfl)
theorem dX0_look_130 : decode cX0_look 130 = .ok (.ior, 1) := dk_128 (dk_at dksX0_look_5 11 rfl rfl)
theorem dX0_look_131 : decode cX0_look 131 = .ok (.istore 4, 2) := dk_54 4 (dk_at dksX0_look_5 12 rfl rfl)
theorem dX0_look_133 : decode cX0_look 133 = .ok (.iinc 6 1, 3) := dk_132 6 1 (dk_at dksX0_look_5 14 rfl rfl)
theorem dX0_look_136 : decode cX0_look 136 = .ok (.goto (-55), 3) := dk_167 255 201 (dk_at dksX0_look_5 17 rfl rfl)
theorem dX0_look_139 : decode cX0_look 139 = .ok (.iload 5, 2) := dk_21 5 (dk_at dksX0_look_5 20 rfl rfl)
theorem dX0_look_141 : decode cX0_look 141 = .ok (.ifCond .ne 9, 3) := dk_154 0 9 (dk_at dksX0_look_6 0 rfl rfl)
theorem dX0_look_144 : decode cX0_look 144 = .ok (.aload_n 0, 1) := dk_42 (dk_at dksX0_look_6 3 rfl rfl)
theorem dX0_look_145 : decode cX0_look 145 = .ok (.iconst 3, 1) := dk_6 (dk_at dksX0_look_6 4 rfl rfl)
theorem dX0_look_146 : decode cX0_look 146 = .ok (.invokevirtual 181, 3) := dk_182 0 181 (dk_at dksX0_look_6 5 rfl rfl)
theorem dX0_look_149 : decode cX0_look 149 = .ok (.ireturn, 1) := dk_172 (dk_at dksX0_look_6 8 rfl rfl)
theorem dX0_look_150 : decode cX0_look 150 = .ok (.iload 4, 2) := dk_21 4 (dk_at dksX0_look_6 9 rfl rfl)
theorem dX0_look_152 : decode cX0_look 152 = .ok (.aload_n 0, 1) := dk_42 (dk_at dksX0_look_6 11 rfl rfl)
theorem dX0_look_153 : decode cX0_look 153 = .ok (.iload_n 1, 1) := dk_27 (dk_at dksX0_look_6 12 rfl rfl)
theorem dX0_look_154 : decode cX0_look 154 = .ok (.invokevirtual 413, 3) := dk_182 1 157 (dk_at dksX0_look_6 13 rfl rfl)
theorem dX0_look_157 : decode cX0_look 157 = .ok (.iand, 1) := dk_126 (dk_at dksX0_look_6 16 rfl rfl)
theorem dX0_look_158 : decode cX0_look 158 = .ok (.istore 4, 2) := dk_54 4 (dk_at dksX0_look_6 17 rfl rfl)
theorem dX0_look_160 : decode cX0_look 160 = .ok (.iload 4, 2) := dk_21 4 (dk_at dksX0_look_6 19 rfl rfl)
theorem dX0_look_162 : decode cX0_look 162 = .ok (.invokestatic 380, 3) := dk_184 1 124 (dk_at dksX0_look_6 21 rfl rfl)
theorem dX0_look_165 : decode cX0_look 165 = .ok (.bipush 6, 2) := dk_16 6 (dk_at dksX0_look_7 0 rfl rfl)
theorem dX0_look_167 : decode cX0_look 167 = .ok (.if_icmp .le 6, 3) := dk_164 0 6 (dk_at dksX0_look_7 2 rfl rfl)
theorem dX0_look_170 : decode cX0_look 170 = .ok (.bipush (-2), 2) := dk_16 254 (dk_at dksX0_look_7 5 rfl rfl)
theorem dX0_look_172 : decode cX0_look 172 = .ok (.ireturn, 1) := dk_172 (dk_at dksX0_look_7 7 rfl rfl)
theorem dX0_look_173 : decode cX0_look 173 = .ok (.aload_n 0, 1) := dk_42 (dk_at dksX0_look_7 8 rfl rfl)
theorem dX0_look_174 : decode cX0_look 174 = .ok (.iload_n 2, 1) := dk_28 (dk_at dksX0_look_7 9 rfl rfl)
theorem dX0_look_175 : decode cX0_look 175 = .ok (.aload_n 0, 1) := dk_42 (dk_at dksX0_look_7 10 rfl rfl)
theorem dX0_look_176 : decode cX0_look 176 = .ok (.getfield 219, 3) := dk_180 0 219 (dk_at dksX0_look_7 11 rfl rfl)
theorem dX0_look_179 : decode cX0_look 179 = .ok (.iconst 0, 1) := dk_3 (dk_at dksX0_look_7 14 rfl rfl)
theorem dX0_look_180 : decode cX0_look 180 = .ok (.invokevirtual 234, 3) := dk_182 0 234 (dk_at dksX0_look_7 15 rfl rfl)
theorem dX0_look_183 : decode cX0_look 183 = .ok (.iconst 0, 1) := dk_3 (dk_at dksX0_look_7 18 rfl rfl)
theorem dX0_look_184 : decode cX0_look 184 = .ok (.istore 6, 2) := dk_54 6 (dk_at dksX0_look_7 19 rfl rfl)
theorem dX0_look_186 : decode cX0_look 186 = .ok (.iload 6, 2) := dk_21 6 (dk_at dksX0_look_7 21 rfl rfl)
theorem dX0_look_188 : decode cX0_look 188 = .ok (.bipush 8, 2) := dk_16 8 (dk_at dksX0_look_8 0 rfl rfl)
theorem dX0_look_190 : decode cX0_look 190 = .ok (.if_icmp .ge 38, 3) := dk_162 0 38 (dk_at dksX0_look_8 2 rfl rfl)
theorem dX0_look_193 : decode cX0_look 193 = .ok (.iload 4, 2) := dk_21 4 (dk_at dksX0_look_8 5 rfl rfl)
theorem dX0_look_195 : decode cX0_look 195 = .ok (.iload 6, 2) := dk_21 6 (dk_at dksX0_look_8 7 rfl rfl)
theorem dX0_look_197 : decode cX0_look 197 = .ok (.ishr, 1) := dk_122 (dk_at dksX0_look_8 9 rfl rfl)
theorem dX0_look_198 : decode cX0_look 198 = .ok (.iconst 1, 1) := dk_4 (dk_at dksX0_look_8 10 rfl rfl)
theorem dX0_look_199 : decode cX0_look 199 = .ok (.iand, 1) := dk_126 (dk_at dksX0_look_8 11 rfl rfl)
theorem dX0_look_200 : decode cX0_look 200 = .ok (.iconst 1, 1) := dk_4 (dk_at dksX0_look_8 12 rfl rfl)
theorem dX0_look_201 : decode cX0_look 201 = .ok (.if_icmp .ne 21, 3) := dk_160 0 21 (dk_at dksX0_look_8 13 rfl rfl)
theorem dX0_look_204 : decode cX0_look 204 = .ok (.aload_n 0, 1) := dk_42 (dk_at dksX0_look_8 16 rfl rfl)
theorem dX0_look_205 : decode cX0_look 205 = .ok (.getfield 56, 3) := dk_180 0 56 (dk_at dksX0_look_8 17 rfl rfl)
theorem dX0_look_208 : decode cX0_look 208 = .ok (.iload 6, 2) := dk_21 6 (dk_at dksX0_look_8 20 rfl rfl)
theorem dX0_look_210 : decode cX0_look 210 = .ok (.iaload, 1) := dk_46 (dk_at dksX0_look_8 22 rfl rfl)
theorem dX0_look_211 : decode cX0_look 211 = .ok (.bipush (-9), 2) := dk_16 247 (dk_at dksX0_look_9 0 rfl rfl)
theorem dX0_look_213 : decode cX0_look 213 = .ok (.if_icmp .ne 9, 3) := dk_160 0 9 (dk_at dksX0_look_9 2 rfl rfl)
theorem dX0_look_216 : decode cX0_look 216 = .ok (.aload_n 0, 1) := dk_42 (dk_at dksX0_look_9 5 rfl rfl)
theorem dX0_look_217 : decode cX0_look 217 = .ok (.iconst 1, 1) := dk_4 (dk_at dksX0_look_9 6 rfl rfl)
theorem dX0_look_218 : decode cX0_look 218 = .ok (.invokevirtual 181, 3) := dk_182 0 181 (dk_at dksX0_look_9 7 rfl rfl)
theorem dX0_look_221 : decode cX0_look 221 = .ok (.ireturn, 1) := dk_172 (dk_at dksX0_look_9 10 rfl rfl)
theorem dX0_look_222 : decode cX0_look 222 = .ok (.iinc 6 1, 3) := dk_132 6 1 (dk_at dksX0_look_9 11 rfl rfl)
theorem dX0_look_225 : decode cX0_look 225 = .ok (.goto (-39), 3) := dk_167 255 217 (dk_at dksX0_look_9 14 rfl rfl)
theorem dX0_look_228 : decode cX0_look 228 = .ok (.aload_n 0, 1) := dk_42 (dk_at dksX0_look_9 17 rfl rfl)
theorem dX0_look_229 : decode cX0_look 229 = .ok (.iconst 0, 1) := dk_3 (dk_at dksX0_look_9 18 rfl rfl)
theorem dX0_look_230 : decode cX0_look 230 = .ok (.putfield 416, 3) := dk_181 1 160 (dk_at dksX0_look_9 19 rfl rfl)
theorem dX0_look_233 : decode cX0_look 233 = .ok (.aload_n 0, 1) := dk_42 (dk_at dksX0_look_9 22 rfl rfl)
theorem dX0_look_234 : decode cX0_look 234 = .ok (.iload 4, 2) := dk_21 4 (dk_at dksX0_look_10 0 rfl rfl)
theorem dX0_look_236 : decode cX0_look 236 = .ok (.iconst 0, 1) := dk_3 (dk_at dksX0_look_10 2 rfl rfl)
theorem dX0_look_237 : decode cX0_look 237 = .ok (.iload_n 2, 1) := dk_28 (dk_at dksX0_look_10 3 rfl rfl)
theorem dX0_look_238 : decode cX0_look 238 = .ok (.aload_n 0, 1) := dk_42 (dk_at dksX0_look_10 4 rfl rfl)
theorem dX0_look_239 : decode cX0_look 239 = .ok (.getfield 219, 3) := dk_180 0 219 (dk_at dksX0_look_10 5 rfl rfl)
theorem dX0_look_242 : decode cX0_look 242 = .ok (.aload_n 0, 1) := dk_42 (dk_at dksX0_look_10 8 rfl rfl)
theorem dX0_look_243 : decode cX0_look 243 = .ok (.getfield 25, 3) := dk_180 0 25 (dk_at dksX0_look_10 9 rfl rfl)
theorem dX0_look_246 : decode cX0_look 246 = .ok (.iload_n 3, 1) := dk_29 (dk_at dksX0_look_10 12 rfl rfl)
theorem dX0_look_247 : decode cX0_look 247 = .ok (.aaload, 1) := dk_50 (dk_at dksX0_look_10 13 rfl rfl)
theorem dX0_look_248 : decode cX0_look 248 = .ok (.iconst 0, 1) := dk_3 (dk_at dksX0_look_10 14 rfl rfl)
theorem dX0_look_249 : decode cX0_look 249 = .ok (.invokevirtual 422, 3) := dk_182 1 166 (dk_at dksX0_look_10 15 rfl rfl)
theorem dX0_look_252 : decode cX0_look 252 = .ok (.aload_n 0, 1) := dk_42 (dk_at dksX0_look_10 18 rfl rfl)
theorem dX0_look_253 : decode cX0_look 253 = .ok (.iload 4, 2) := dk_21 4 (dk_at dksX0_look_10 19 rfl rfl)
theorem dX0_look_255 : decode cX0_look 255 = .ok (.invokestatic 380, 3) := dk_184 1 124 (dk_at dksX0_look_10 21 rfl rfl)
theorem dX0_look_258 : decode cX0_look 258 = .ok (.putfield 426, 3) := dk_181 1 170 (dk_at dksX0_look_11 0 rfl rfl)
theorem dX0_look_261 : decode cX0_look 261 = .ok (.aload_n 0, 1) := dk_42 (dk_at dksX0_look_11 3 rfl rfl)
theorem dX0_look_262 : decode cX0_look 262 = .ok (.aload_n 0, 1) := dk_42 (dk_at dksX0_look_11 4 rfl rfl)
theorem dX0_look_263 : decode cX0_look 263 = .ok (.getfield 419, 3) := dk_180 1 163 (dk_at dksX0_look_11 5 rfl rfl)
theorem dX0_look_266 : decode cX0_look 266 = .ok (.aload_n 0, 1) := dk_42 (dk_at dksX0_look_11 8 rfl rfl)
theorem dX0_look_267 : decode cX0_look 267 = .ok (.getfield 426, 3) := dk_180 1 170 (dk_at dksX0_look_11 9 rfl rfl)
theorem dX0_look_270 : decode cX0_look 270 = .ok (.invokevirtual 185, 3) := dk_182 0 185 (dk_at dksX0_look_11 12 rfl rfl)
theorem dX0_look_273 : decode cX0_look 273 = .ok (.ireturn, 1) := dk_172 (dk_at dksX0_look_11 15 rfl rfl)
abbrev cX0_tryLooks : ByteArray := prog_1_method_84_code
def yX0_tryLooks : MethodName := ⟨RX0, "tryLooks", "(IIII[II)V"⟩
def dkwX0_tryLooks_5 : List UInt8 := [100, 104, 96, 182, 1, 166, 132, 7, 1, 167, 255, 180, 177]
abbrev dktX0_tryLooks_5 : List UInt8 := dkwX0_tryLooks_5 ++ []
def dkwX0_tryLooks_4 : List UInt8 := [130, 126, 28, 4, 96, 21, 7, 21, 8, 25, 5, 21, 6, 25, 5, 21, 7, 46, 21, 8, 42, 180, 0, 219]
abbrev dktX0_tryLooks_4 : List UInt8 := dkwX0_tryLooks_4 ++ dktX0_tryLooks_5
def dkwX0_tryLooks_3 : List UInt8 := [21, 4, 21, 7, 182, 0, 241, 54, 8, 42, 180, 0, 135, 28, 21, 7, 79, 42, 27, 4, 21, 7, 120, 2]
abbrev dktX0_tryLooks_3 : List UInt8 := dkwX0_tryLooks_3 ++ dktX0_tryLooks_4
def dkwX0_tryLooks_2 : List UInt8 := [177, 3, 54, 7, 21, 7, 16, 8, 162, 0, 75, 27, 21, 7, 122, 4, 126, 4, 160, 0, 59, 42, 29]
abbrev dktX0_tryLooks_2 : List UInt8 := dkwX0_tryLooks_2 ++ dktX0_tryLooks_3
def dkwX0_tryLooks_1 : List UInt8 := [181, 1, 160, 42, 21, 6, 181, 1, 163, 42, 180, 0, 135, 3, 42, 180, 0, 132, 3, 16, 8, 184, 0, 193]
abbrev dktX0_tryLooks_1 : List UInt8 := dkwX0_tryLooks_1 ++ dktX0_tryLooks_2
def dkwX0_tryLooks_0 : List UInt8 := [27, 154, 0, 46, 42, 180, 1, 160, 153, 0, 12, 21, 6, 42, 180, 1, 163, 162, 0, 29, 42, 4]
abbrev dktX0_tryLooks_0 : List UInt8 := dkwX0_tryLooks_0 ++ dktX0_tryLooks_1
theorem dksX0_tryLooks_0 : cX0_tryLooks.data.toList.drop 0 = dktX0_tryLooks_0 := by decide +kernel
theorem dksX0_tryLooks_1 : cX0_tryLooks.data.toList.drop 22 = dktX0_tryLooks_1 := dk_seg dksX0_tryLooks_0 22 rfl rfl
theorem dksX0_tryLooks_2 : cX0_tryLooks.data.toList.drop 46 = dktX0_tryLooks_2 := dk_seg dksX0_tryLooks_1 24 rfl rfl
theorem dksX0_tryLooks_3 : cX0_tryLooks.data.toList.drop 69 = dktX0_tryLooks_3 := dk_seg dksX0_tryLooks_2 23 rfl rfl
theorem dksX0_tryLooks_4 : cX0_tryLooks.data.toList.drop 93 = dktX0_tryLooks_4 := dk_seg dksX0_tryLooks_3 24 rfl rfl
theorem dksX0_tryLooks_5 : cX0_tryLooks.data.toList.drop 117 = dktX0_tryLooks_5 := dk_seg dksX0_tryLooks_4 24 rfl rfl
theorem dX0_tryLooks_0 : decode cX0_tryLooks 0 = .ok (.iload_n 1, 1) := dk_27 (dk_at dksX0_tryLooks_0 0 rfl rfl)
theorem dX0_tryLooks_1 : decode cX0_tryLooks 1 = .ok (.ifCond .ne 46, 3) := dk_154 0 46 (dk_at dksX0_tryLooks_0 1 rfl rfl)
theorem dX0_tryLooks_4 : decode cX0_tryLooks 4 = .ok (.aload_n 0, 1) := dk_42 (dk_at dksX0_tryLooks_0 4 rfl rfl)
theorem dX0_tryLooks_5 : decode cX0_tryLooks 5 = .ok (.getfield 416, 3) := dk_180 1 160 (dk_at dksX0_tryLooks_0 5 rfl rfl)
theorem dX0_tryLooks_8 : decode cX0_tryLooks 8 = .ok (.ifCond .eq 12, 3) := dk_153 0 12 (dk_at dksX0_tryLooks_0 8 rfl rfl)
theorem dX0_tryLooks_11 : decode cX0_tryLooks 11 = .ok (.iload 6, 2) := dk_21 6 (dk_at dksX0_tryLooks_0 11 rfl rfl)
theorem dX0_tryLooks_13 : decode cX0_tryLooks 13 = .ok (.aload_n 0, 1) := dk_42 (dk_at dksX0_tryLooks_0 13 rfl rfl)
theorem dX0_tryLooks_14 : decode cX0_tryLooks 14 = .ok (.getfield 419, 3) := dk_180 1 163 (dk_at dksX0_tryLooks_0 14 rfl rfl)
theorem dX0_tryLooks_17 : decode cX0_tryLooks 17 = .ok (.if_icmp .ge 29, 3) := dk_162 0 29 (dk_at dksX0_tryLooks_0 17 rfl rfl)
theorem dX0_tryLooks_20 : decode cX0_tryLooks 20 = .ok (.aload_n 0, 1) := dk_42 (dk_at dksX0_tryLooks_0 20 rfl rfl)
theorem dX0_tryLooks_21 : decode cX0_tryLooks 21 = .ok (.iconst 1, 1) := dk_4 (dk_at dksX0_tryLooks_0 21 rfl rfl)
theorem dX0_tryLooks_22 : decode cX0_tryLooks 22 = .ok (.putfield 416, 3) := dk_181 1 160 (dk_at dksX0_tryLooks_1 0 rfl rfl)
theorem dX0_tryLooks_25 : decode cX0_tryLooks 25 = .ok (.aload_n 0, 1) := dk_42 (dk_at dksX0_tryLooks_1 3 rfl rfl)
theorem dX0_tryLooks_26 : decode cX0_tryLooks 26 = .ok (.iload 6, 2) := dk_21 6 (dk_at dksX0_tryLooks_1 4 rfl rfl)
theorem dX0_tryLooks_28 : decode cX0_tryLooks 28 = .ok (.putfield 419, 3) := dk_181 1 163 (dk_at dksX0_tryLooks_1 6 rfl rfl)
theorem dX0_tryLooks_31 : decode cX0_tryLooks 31 = .ok (.aload_n 0, 1) := dk_42 (dk_at dksX0_tryLooks_1 9 rfl rfl)
theorem dX0_tryLooks_32 : decode cX0_tryLooks 32 = .ok (.getfield 135, 3) := dk_180 0 135 (dk_at dksX0_tryLooks_1 10 rfl rfl)
theorem dX0_tryLooks_35 : decode cX0_tryLooks 35 = .ok (.iconst 0, 1) := dk_3 (dk_at dksX0_tryLooks_1 13 rfl rfl)
theorem dX0_tryLooks_36 : decode cX0_tryLooks 36 = .ok (.aload_n 0, 1) := dk_42 (dk_at dksX0_tryLooks_1 14 rfl rfl)
theorem dX0_tryLooks_37 : decode cX0_tryLooks 37 = .ok (.getfield 132, 3) := dk_180 0 132 (dk_at dksX0_tryLooks_1 15 rfl rfl)
theorem dX0_tryLooks_40 : decode cX0_tryLooks 40 = .ok (.iconst 0, 1) := dk_3 (dk_at dksX0_tryLooks_1 18 rfl rfl)
theorem dX0_tryLooks_41 : decode cX0_tryLooks 41 = .ok (.bipush 8, 2) := dk_16 8 (dk_at dksX0_tryLooks_1 19 rfl rfl)
theorem dX0_tryLooks_43 : decode cX0_tryLooks 43 = .ok (.invokestatic 193, 3) := dk_184 0 193 (dk_at dksX0_tryLooks_1 21 rfl rfl)
theorem dX0_tryLooks_46 : decode cX0_tryLooks 46 = .ok (.return_, 1) := dk_177 (dk_at dksX0_tryLooks_2 0 rfl rfl)
theorem dX0_tryLooks_47 : decode cX0_tryLooks 47 = .ok (.iconst 0, 1) := dk_3 (dk_at dksX0_tryLooks_2 1 rfl rfl)
theorem dX0_tryLooks_48 : decode cX0_tryLooks 48 = .ok (.istore 7, 2) := dk_54 7 (dk_at dksX0_tryLooks_2 2 rfl rfl)
theorem dX0_tryLooks_50 : decode cX0_tryLooks 50 = .ok (.iload 7, 2) := dk_21 7 (dk_at dksX0_tryLooks_2 4 rfl rfl)
theorem dX0_tryLooks_52 : decode cX0_tryLooks 52 = .ok (.bipush 8, 2) := dk_16 8 (dk_at dksX0_tryLooks_2 6 rfl rfl)
theorem dX0_tryLooks_54 : decode cX0_tryLooks 54 = .ok (.if_icmp .ge 75, 3) := dk_162 0 75 (dk_at dksX0_tryLooks_2 8 rfl rfl)
theorem dX0_tryLooks_57 : decode cX0_tryLooks 57 = .ok (.iload_n 1, 1) := dk_27 (dk_at dksX0_tryLooks_2 11 rfl rfl)
theorem dX0_tryLooks_58 : decode cX0_tryLooks 58 = .ok (.iload 7, 2) := dk_21 7 (dk_at dksX0_tryLooks_2 12 rfl rfl)
theorem dX0_tryLooks_60 : decode cX0_tryLooks 60 = .ok (.ishr, 1) := dk_122 (dk_at dksX0_tryLooks_2 14 rfl rfl)
theorem dX0_tryLooks_61 : decode cX0_tryLooks 61 = .ok (.iconst 1, 1) := dk_4 (dk_at dksX0_tryLooks_2 15 rfl rfl)
theorem dX0_tryLooks_62 : decode cX0_tryLooks 62 = .ok (.iand, 1) := dk_126 (dk_at dksX0_tryLooks_2 16 rfl rfl)
theorem dX0_tryLooks_63 : decode cX0_tryLooks 63 = .ok (.iconst 1, 1) := dk_4 (dk_at dksX0_tryLooks_2 17 rfl rfl)
theorem dX0_tryLooks_64 : decode cX0_tryLooks 64 = .ok (.if_icmp .ne 59, 3) := dk_160 0 59 (dk_at dksX0_tryLooks_2 18 rfl rfl)
theorem dX0_tryLooks_67 : decode cX0_tryLooks 67 = .ok (.aload_n 0, 1) := dk_42 (dk_at dksX0_tryLooks_2 21 rfl rfl)
theorem dX0_tryLooks_68 : decode cX0_tryLooks 68 = .ok (.iload_n 3, 1) := dk_29 (dk_at dksX0_tryLooks_2 22 rfl rfl)
theorem dX0_tryLooks_69 : decode cX0_tryLooks 69 = .ok (.iload 4, 2) := dk_21 4 (dk_at dksX0_tryLooks_3 0 rfl rfl)
theorem dX0_tryLooks_71 : decode cX0_tryLooks 71 = .ok (.iload 7, 2) := dk_21 7 (dk_at dksX0_tryLooks_3 2 rfl rfl)
theorem dX0_tryLooks_73 : decode cX0_tryLooks 73 = .ok (.invokevirtual 241, 3) := dk_182 0 241 (dk_at dksX0_tryLooks_3 4 rfl rfl)
theorem dX0_tryLooks_76 : decode cX0_tryLooks 76 = .ok (.istore 8, 2) := dk_54 8 (dk_at dksX0_tryLooks_3 7 rfl rfl)
theorem dX0_tryLooks_78 : decode cX0_tryLooks 78 = .ok (.aload_n 0, 1) := dk_42 (dk_at dksX0_tryLooks_3 9 rfl rfl)
theorem dX0_tryLooks_79 : decode cX0_tryLooks 79 = .ok (.getfield 135, 3) := dk_180 0 135 (dk_at dksX0_tryLooks_3 10 rfl rfl)
theorem dX0_tryLooks_82 : decode cX0_tryLooks 82 = .ok (.iload_n 2, 1) := dk_28 (dk_at dksX0_tryLooks_3 13 rfl rfl)
theorem dX0_tryLooks_83 : decode cX0_tryLooks 83 = .ok (.iload 7, 2) := dk_21 7 (dk_at dksX0_tryLooks_3 14 rfl rfl)
theorem dX0_tryLooks_85 : decode cX0_tryLooks 85 = .ok (.iastore, 1) := dk_79 (dk_at dksX0_tryLooks_3 16 rfl rfl)
theorem dX0_tryLooks_86 : decode cX0_tryLooks 86 = .ok (.aload_n 0, 1) := dk_42 (dk_at dksX0_tryLooks_3 17 rfl rfl)
theorem dX0_tryLooks_87 : decode cX0_tryLooks 87 = .ok (.iload_n 1, 1) := dk_27 (dk_at dksX0_tryLooks_3 18 rfl rfl)
theorem dX0_tryLooks_88 : decode cX0_tryLooks 88 = .ok (.iconst 1, 1) := dk_4 (dk_at dksX0_tryLooks_3 19 rfl rfl)
theorem dX0_tryLooks_89 : decode cX0_tryLooks 89 = .ok (.iload 7, 2) := dk_21 7 (dk_at dksX0_tryLooks_3 20 rfl rfl)
theorem dX0_tryLooks_91 : decode cX0_tryLooks 91 = .ok (.ishl, 1) := dk_120 (dk_at dksX0_tryLooks_3 22 rfl rfl)
theorem dX0_tryLooks_92 : decode cX0_tryLooks 92 = .ok (.iconst (-1), 1) := dk_2 (dk_at dksX0_tryLooks_3 23 rfl rfl)
theorem dX0_tryLooks_93 : decode cX0_tryLooks 93 = .ok (.ixor, 1) := dk_130 (dk_at dksX0_tryLooks_4 0 rfl rfl)
theorem dX0_tryLooks_94 : decode cX0_tryLooks 94 = .ok (.iand, 1) := dk_126 (dk_at dksX0_tryLooks_4 1 rfl rfl)
theorem dX0_tryLooks_95 : decode cX0_tryLooks 95 = .ok (.iload_n 2, 1) := dk_28 (dk_at dksX0_tryLooks_4 2 rfl rfl)
theorem dX0_tryLooks_96 : decode cX0_tryLooks 96 = .ok (.iconst 1, 1) := dk_4 (dk_at dksX0_tryLooks_4 3 rfl rfl)
theorem dX0_tryLooks_97 : decode cX0_tryLooks 97 = .ok (.iadd, 1) := dk_96 (dk_at dksX0_tryLooks_4 4 rfl rfl)
theorem dX0_tryLooks_98 : decode cX0_tryLooks 98 = .ok (.iload 7, 2) := dk_21 7 (dk_at dksX0_tryLooks_4 5 rfl rfl)
theorem dX0_tryLooks_100 : decode cX0_tryLooks 100 = .ok (.iload 8, 2) := dk_21 8 (dk_at dksX0_tryLooks_4 7 rfl rfl)
theorem dX0_tryLooks_102 : decode cX0_tryLooks 102 = .ok (.aload 5, 2) := dk_25 5 (dk_at dksX0_tryLooks_4 9 rfl rfl)
theorem dX0_tryLooks_104 : decode cX0_tryLooks 104 = .ok (.iload 6, 2) := dk_21 6 (dk_at dksX0_tryLooks_4 11 rfl rfl)
theorem dX0_tryLooks_106 : decode cX0_tryLooks 106 = .ok (.aload 5, 2) := dk_25 5 (dk_at dksX0_tryLooks_4 13 rfl rfl)
theorem dX0_tryLooks_108 : decode cX0_tryLooks 108 = .ok (.iload 7, 2) := dk_21 7 (dk_at dksX0_tryLooks_4 15 rfl rfl)
theorem dX0_tryLooks_110 : decode cX0_tryLooks 110 = .ok (.iaload, 1) := dk_46 (dk_at dksX0_tryLooks_4 17 rfl rfl)
theorem dX0_tryLooks_111 : decode cX0_tryLooks 111 = .ok (.iload 8, 2) := dk_21 8 (dk_at dksX0_tryLooks_4 18 rfl rfl)
theorem dX0_tryLooks_113 : decode cX0_tryLooks 113 = .ok (.aload_n 0, 1) := dk_42 (dk_at dksX0_tryLooks_4 20 rfl rfl)
theorem dX0_tryLooks_114 : decode cX0_tryLooks 114 = .ok (.getfield 219, 3) := dk_180 0 219 (dk_at dksX0_tryLooks_4 21 rfl rfl)
theorem dX0_tryLooks_117 : decode cX0_tryLooks 117 = .ok (.isub, 1) := dk_100 (dk_at dksX0_tryLooks_5 0 rfl rfl)
theorem dX0_tryLooks_118 : decode cX0_tryLooks 118 = .ok (.imul, 1) := dk_104 (dk_at dksX0_tryLooks_5 1 rfl rfl)
theorem dX0_tryLooks_119 : decode cX0_tryLooks 119 = .ok (.iadd, 1) := dk_96 (dk_at dksX0_tryLooks_5 2 rfl rfl)
theorem dX0_tryLooks_120 : decode cX0_tryLooks 120 = .ok (.invokevirtual 422, 3) := dk_182 1 166 (dk_at dksX0_tryLooks_5 3 rfl rfl)
theorem dX0_tryLooks_123 : decode cX0_tryLooks 123 = .ok (.iinc 7 1, 3) := dk_132 7 1 (dk_at dksX0_tryLooks_5 6 rfl rfl)
theorem dX0_tryLooks_126 : decode cX0_tryLooks 126 = .ok (.goto (-76), 3) := dk_167 255 180 (dk_at dksX0_tryLooks_5 9 rfl rfl)
theorem dX0_tryLooks_129 : decode cX0_tryLooks 129 = .ok (.return_, 1) := dk_177 (dk_at dksX0_tryLooks_5 12 rfl rfl)
abbrev cX0_looked : ByteArray := prog_1_method_86_code
def yX0_looked : MethodName := ⟨RX0, "looked", "(I)I"⟩
def dkwX0_looked_1 : List UInt8 := [16, 247, 172]
abbrev dktX0_looked_1 : List UInt8 := dkwX0_looked_1 ++ []
def dkwX0_looked_0 : List UInt8 := [27, 3, 42, 180, 1, 170, 4, 100, 184, 0, 171, 153, 0, 12, 42, 180, 0, 132, 27, 46, 167, 0, 5]
abbrev dktX0_looked_0 : List UInt8 := dkwX0_looked_0 ++ dktX0_looked_1
theorem dksX0_looked_0 : cX0_looked.data.toList.drop 0 = dktX0_looked_0 := by decide +kernel
theorem dksX0_looked_1 : cX0_looked.data.toList.drop 23 = dktX0_looked_1 := dk_seg dksX0_looked_0 23 rfl rfl
theorem dX0_looked_0 : decode cX0_looked 0 = .ok (.iload_n 1, 1) := dk_27 (dk_at dksX0_looked_0 0 rfl rfl)
theorem dX0_looked_1 : decode cX0_looked 1 = .ok (.iconst 0, 1) := dk_3 (dk_at dksX0_looked_0 1 rfl rfl)
theorem dX0_looked_2 : decode cX0_looked 2 = .ok (.aload_n 0, 1) := dk_42 (dk_at dksX0_looked_0 2 rfl rfl)
theorem dX0_looked_3 : decode cX0_looked 3 = .ok (.getfield 426, 3) := dk_180 1 170 (dk_at dksX0_looked_0 3 rfl rfl)
theorem dX0_looked_6 : decode cX0_looked 6 = .ok (.iconst 1, 1) := dk_4 (dk_at dksX0_looked_0 6 rfl rfl)
theorem dX0_looked_7 : decode cX0_looked 7 = .ok (.isub, 1) := dk_100 (dk_at dksX0_looked_0 7 rfl rfl)
theorem dX0_looked_8 : decode cX0_looked 8 = .ok (.invokestatic 171, 3) := dk_184 0 171 (dk_at dksX0_looked_0 8 rfl rfl)
theorem dX0_looked_11 : decode cX0_looked 11 = .ok (.ifCond .eq 12, 3) := dk_153 0 12 (dk_at dksX0_looked_0 11 rfl rfl)
theorem dX0_looked_14 : decode cX0_looked 14 = .ok (.aload_n 0, 1) := dk_42 (dk_at dksX0_looked_0 14 rfl rfl)
theorem dX0_looked_15 : decode cX0_looked 15 = .ok (.getfield 132, 3) := dk_180 0 132 (dk_at dksX0_looked_0 15 rfl rfl)
theorem dX0_looked_18 : decode cX0_looked 18 = .ok (.iload_n 1, 1) := dk_27 (dk_at dksX0_looked_0 18 rfl rfl)
theorem dX0_looked_19 : decode cX0_looked 19 = .ok (.iaload, 1) := dk_46 (dk_at dksX0_looked_0 19 rfl rfl)
theorem dX0_looked_20 : decode cX0_looked 20 = .ok (.goto 5, 3) := dk_167 0 5 (dk_at dksX0_looked_0 20 rfl rfl)
theorem dX0_looked_23 : decode cX0_looked 23 = .ok (.bipush (-9), 2) := dk_16 247 (dk_at dksX0_looked_1 0 rfl rfl)
theorem dX0_looked_25 : decode cX0_looked 25 = .ok (.ireturn, 1) := dk_172 (dk_at dksX0_looked_1 2 rfl rfl)
abbrev cX0_pool : ByteArray := prog_1_method_89_code
def yX0_pool : MethodName := ⟨RX0, "pool", "(II)I"⟩
def dkwX0_pool_16 : List UInt8 := [21, 7, 46, 96, 54, 6, 132, 7, 1, 167, 255, 234, 42, 21, 4, 21, 6, 182, 0, 185, 172]
abbrev dktX0_pool_16 : List UInt8 := dkwX0_pool_16 ++ []
def dkwX0_pool_15 : List UInt8 := [54, 5, 167, 255, 222, 3, 54, 6, 3, 54, 7, 21, 7, 16, 8, 162, 0, 21, 21, 6, 42, 180, 0, 141]
abbrev dktX0_pool_15 : List UInt8 := dkwX0_pool_15 ++ dktX0_pool_16
def dkwX0_pool_14 : List UInt8 := [42, 180, 0, 150, 16, 8, 21, 5, 96, 46, 96, 54, 4, 42, 21, 5, 182, 1, 177, 42, 182, 1, 174]
abbrev dktX0_pool_14 : List UInt8 := dkwX0_pool_14 ++ dktX0_pool_15
def dkwX0_pool_13 : List UInt8 := [132, 4, 1, 167, 255, 156, 3, 54, 4, 42, 182, 1, 174, 54, 5, 21, 5, 16, 247, 159, 0, 33, 21, 4]
abbrev dktX0_pool_13 : List UInt8 := dkwX0_pool_13 ++ dktX0_pool_14
def dkwX0_pool_12 : List UInt8 := [100, 79, 42, 180, 0, 147, 16, 8, 21, 4, 104, 21, 5, 96, 3, 79, 132, 5, 1, 167, 255, 183]
abbrev dktX0_pool_12 : List UInt8 := dkwX0_pool_12 ++ dktX0_pool_13
def dkwX0_pool_11 : List UInt8 := [21, 5, 46, 16, 247, 160, 0, 8, 16, 247, 167, 0, 15, 42, 180, 0, 56, 21, 5, 46, 42, 180, 0, 219]
abbrev dktX0_pool_11 : List UInt8 := dkwX0_pool_11 ++ dktX0_pool_12
def dkwX0_pool_10 : List UInt8 := [42, 180, 0, 144, 16, 8, 21, 4, 104, 21, 5, 96, 21, 4, 21, 5, 159, 0, 15, 42, 180, 0, 56]
abbrev dktX0_pool_10 : List UInt8 := dkwX0_pool_10 ++ dktX0_pool_11
def dkwX0_pool_9 : List UInt8 := [162, 0, 99, 42, 21, 4, 42, 180, 0, 219, 3, 182, 0, 234, 3, 54, 5, 21, 5, 16, 8, 162, 0, 72]
abbrev dktX0_pool_9 : List UInt8 := dkwX0_pool_9 ++ dktX0_pool_10
def dkwX0_pool_8 : List UInt8 := [132, 4, 1, 167, 255, 142, 29, 154, 0, 9, 42, 6, 182, 0, 181, 172, 3, 54, 4, 21, 4, 16, 8]
abbrev dktX0_pool_8 : List UInt8 := dkwX0_pool_8 ++ dktX0_pool_9
def dkwX0_pool_7 : List UInt8 := [42, 180, 0, 25, 28, 50, 21, 4, 46, 42, 180, 0, 25, 27, 50, 21, 4, 46, 100, 184, 1, 115, 79]
abbrev dktX0_pool_7 : List UInt8 := dkwX0_pool_7 ++ dktX0_pool_8
def dkwX0_pool_6 : List UInt8 := [21, 4, 46, 42, 180, 0, 25, 28, 50, 21, 4, 46, 100, 184, 1, 115, 79, 42, 180, 0, 141, 21, 4, 3]
abbrev dktX0_pool_6 : List UInt8 := dkwX0_pool_6 ++ dktX0_pool_7
def dkwX0_pool_5 : List UInt8 := [153, 0, 7, 4, 167, 0, 4, 3, 126, 62, 42, 180, 0, 138, 21, 4, 3, 42, 180, 0, 25, 27, 50]
abbrev dktX0_pool_5 : List UInt8 := dkwX0_pool_5 ++ dktX0_pool_6
def dkwX0_pool_4 : List UInt8 := [16, 30, 184, 0, 171, 153, 0, 25, 42, 180, 0, 25, 28, 50, 21, 4, 46, 3, 16, 30, 184, 0, 171]
abbrev dktX0_pool_4 : List UInt8 := dkwX0_pool_4 ++ dktX0_pool_5
def dkwX0_pool_3 : List UInt8 := [4, 62, 3, 54, 4, 21, 4, 16, 8, 162, 0, 113, 29, 42, 180, 0, 25, 27, 50, 21, 4, 46, 3]
abbrev dktX0_pool_3 : List UInt8 := dkwX0_pool_3 ++ dktX0_pool_4
def dkwX0_pool_2 : List UInt8 := [190, 16, 8, 160, 0, 15, 42, 180, 0, 25, 28, 50, 190, 16, 8, 159, 0, 9, 42, 8, 182, 0, 181, 172]
abbrev dktX0_pool_2 : List UInt8 := dkwX0_pool_2 ++ dktX0_pool_3
def dkwX0_pool_1 : List UInt8 := [198, 0, 12, 42, 180, 0, 25, 28, 50, 199, 0, 9, 42, 4, 182, 0, 181, 172, 42, 180, 0, 25, 27, 50]
abbrev dktX0_pool_1 : List UInt8 := dkwX0_pool_1 ++ dktX0_pool_2
def dkwX0_pool_0 : List UInt8 := [27, 184, 0, 175, 153, 0, 10, 28, 184, 0, 175, 154, 0, 5, 2, 172, 42, 180, 0, 25, 27, 50]
abbrev dktX0_pool_0 : List UInt8 := dkwX0_pool_0 ++ dktX0_pool_1
theorem dksX0_pool_0 : cX0_pool.data.toList.drop 0 = dktX0_pool_0 := by decide +kernel
theorem dksX0_pool_1 : cX0_pool.data.toList.drop 22 = dktX0_pool_1 := dk_seg dksX0_pool_0 22 rfl rfl
theorem dksX0_pool_2 : cX0_pool.data.toList.drop 46 = dktX0_pool_2 := dk_seg dksX0_pool_1 24 rfl rfl
theorem dksX0_pool_3 : cX0_pool.data.toList.drop 70 = dktX0_pool_3 := dk_seg dksX0_pool_2 24 rfl rfl
theorem dksX0_pool_4 : cX0_pool.data.toList.drop 93 = dktX0_pool_4 := dk_seg dksX0_pool_3 23 rfl rfl
theorem dksX0_pool_5 : cX0_pool.data.toList.drop 116 = dktX0_pool_5 := dk_seg dksX0_pool_4 23 rfl rfl
theorem dksX0_pool_6 : cX0_pool.data.toList.drop 139 = dktX0_pool_6 := dk_seg dksX0_pool_5 23 rfl rfl
theorem dksX0_pool_7 : cX0_pool.data.toList.drop 163 = dktX0_pool_7 := dk_seg dksX0_pool_6 24 rfl rfl
theorem dksX0_pool_8 : cX0_pool.data.toList.drop 186 = dktX0_pool_8 := dk_seg dksX0_pool_7 23 rfl rfl
theorem dksX0_pool_9 : cX0_pool.data.toList.drop 209 = dktX0_pool_9 := dk_seg dksX0_pool_8 23 rfl rfl
theorem dksX0_pool_10 : cX0_pool.data.toList.drop 233 = dktX0_pool_10 := dk_seg dksX0_pool_9 24 rfl rfl
theorem dksX0_pool_11 : cX0_pool.data.toList.drop 256 = dktX0_pool_11 := dk_seg dksX0_pool_10 23 rfl rfl
theorem dksX0_pool_12 : cX0_pool.data.toList.drop 280 = dktX0_pool_12 := dk_seg dksX0_pool_11 24 rfl rfl
theorem dksX0_pool_13 : cX0_pool.data.toList.drop 302 = dktX0_pool_13 := dk_seg dksX0_pool_12 22 rfl rfl
theorem dksX0_pool_14 : cX0_pool.data.toList.drop 326 = dktX0_pool_14 := dk_seg dksX0_pool_13 24 rfl rfl
theorem dksX0_pool_15 : cX0_pool.data.toList.drop 349 = dktX0_pool_15 := dk_seg dksX0_pool_14 23 rfl rfl
theorem dksX0_pool_16 : cX0_pool.data.toList.drop 373 = dktX0_pool_16 := dk_seg dksX0_pool_15 24 rfl rfl
theorem dX0_pool_0 : decode cX0_pool 0 = .ok (.iload_n 1, 1) := dk_27 (dk_at dksX0_pool_0 0 rfl rfl)
theorem dX0_pool_1 : decode cX0_pool 1 = .ok (.invokestatic 175, 3) := dk_184 0 175 (dk_at dksX0_pool_0 1 rfl rfl)
theorem dX0_pool_4 : decode cX0_pool 4 = .ok (.ifCond .eq 10, 3) := dk_153 0 10 (dk_at dksX0_pool_0 4 rfl rfl)
theorem dX0_pool_7 : decode cX0_pool 7 = .ok (.iload_n 2, 1) := dk_28 (dk_at dksX0_pool_0 7 rfl rfl)
theorem dX0_pool_8 : decode cX0_pool 8 = .ok (.invokestatic 175, 3) := dk_184 0 175 (dk_at dksX0_pool_0 8 rfl rfl)
theorem dX0_pool_11 : decode cX0_pool 11 = .ok (.ifCond .ne 5, 3) := dk_154 0 5 (dk_at dksX0_pool_0 11 rfl rfl)
theorem dX0_pool_14 : decode cX0_pool 14 = .ok (.iconst (-1), 1) := dk_2 (dk_at dksX0_pool_0 14 rfl rfl)
theorem dX0_pool_15 : decode cX0_pool 15 = .ok (.ireturn, 1) := dk_172 (dk_at dksX0_pool_0 15 rfl rfl)
theorem dX0_pool_16 : decode cX0_pool 16 = .ok (.aload_n 0, 1) := dk_42 (dk_at dksX0_pool_0 16 rfl rfl)
theorem dX0_pool_17 : decode cX0_pool 17 = .ok (.getfield 25, 3) := dk_180 0 25 (dk_at dksX0_pool_0 17 rfl rfl)
theorem dX0_pool_20 : decode cX0_pool 20 = .ok (.iload_n 1, 1) := dk_27 (dk_at dksX0_pool_0 20 rfl rfl)
theorem dX0_pool_21 : decode cX0_pool 21 = .ok (.aaload, 1) := dk_50 (dk_at dksX0_pool_0 21 rfl rfl)
theorem dX0_pool_22 : decode cX0_pool 22 = .ok (.ifnull 12, 3) := dk_198 0 12 (dk_at dksX0_pool_1 0 rfl rfl)
theorem dX0_pool_25 : decode cX0_pool 25 = .ok (.aload_n 0, 1) := dk_42 (dk_at dksX0_pool_1 3 rfl rfl)
theorem dX0_pool_26 : decode cX0_pool 26 = .ok (.getfield 25, 3) := dk_180 0 25 (dk_at dksX0_pool_1 4 rfl rfl)
theorem dX0_pool_29 : decode cX0_pool 29 = .ok (.iload_n 2, 1) := dk_28 (dk_at dksX0_pool_1 7 rfl rfl)
theorem dX0_pool_30 : decode cX0_pool 30 = .ok (.aaload, 1) := dk_50 (dk_at dksX0_pool_1 8 rfl rfl)
theorem dX0_pool_31 : decode cX0_pool 31 = .ok (.ifnonnull 9, 3) := dk_199 0 9 (dk_at dksX0_pool_1 9 rfl rfl)
theorem dX0_pool_34 : decode cX0_pool 34 = .ok (.aload_n 0, 1) := dk_42 (dk_at dksX0_pool_1 12 rfl rfl)
theorem dX0_pool_35 : decode cX0_pool 35 = .ok (.iconst 1, 1) := dk_4 (dk_at dksX0_pool_1 13 rfl rfl)
theorem dX0_pool_36 : decode cX0_pool 36 = .ok (.invokevirtual 181, 3) := dk_182 0 181 (dk_at dksX0_pool_1 14 rfl rfl)
theorem dX0_pool_39 : decode cX0_pool 39 = .ok (.ireturn, 1) := dk_172 (dk_at dksX0_pool_1 17 rfl rfl)
theorem dX0_pool_40 : decode cX0_pool 40 = .ok (.aload_n 0, 1) := dk_42 (dk_at dksX0_pool_1 18 rfl rfl)
theorem dX0_pool_41 : decode cX0_pool 41 = .ok (.getfield 25, 3) := dk_180 0 25 (dk_at dksX0_pool_1 19 rfl rfl)
theorem dX0_pool_44 : decode cX0_pool 44 = .ok (.iload_n 1, 1) := dk_27 (dk_at dksX0_pool_1 22 rfl rfl)
theorem dX0_pool_45 : decode cX0_pool 45 = .ok (.aaload, 1) := dk_50 (dk_at dksX0_pool_1 23 rfl rfl)
theorem dX0_pool_46 : decode cX0_pool 46 = .ok (.arraylength, 1) := dk_190 (dk_at dksX0_pool_2 0 rfl rfl)
theorem dX0_pool_47 : decode cX0_pool 47 = .ok (.bipush 8, 2) := dk_16 8 (dk_at dksX0_pool_2 1 rfl rfl)
theorem dX0_pool_49 : decode cX0_pool 49 = .ok (.if_icmp .ne 15, 3) := dk_160 0 15 (dk_at dksX0_pool_2 3 rfl rfl)
theorem dX0_pool_52 : decode cX0_pool 52 = .ok (.aload_n 0, 1) := dk_42 (dk_at dksX0_pool_2 6 rfl rfl)
theorem dX0_pool_53 : decode cX0_pool 53 = .ok (.getfield 25, 3) := dk_180 0 25 (dk_at dksX0_pool_2 7 rfl rfl)
theorem dX0_pool_56 : decode cX0_pool 56 = .ok (.iload_n 2, 1) := dk_28 (dk_at dksX0_pool_2 10 rfl rfl)
theorem dX0_pool_57 : decode cX0_pool 57 = .ok (.aaload, 1) := dk_50 (dk_at dksX0_pool_2 11 rfl rfl)
theorem dX0_pool_58 : decode cX0_pool 58 = .ok (.arraylength, 1) := dk_190 (dk_at dksX0_pool_2 12 rfl rfl)
theorem dX0_pool_59 : decode cX0_pool 59 = .ok (.bipush 8, 2) := dk_16 8 (dk_at dksX0_pool_2 13 rfl rfl)
theorem dX0_pool_61 : decode cX0_pool 61 = .ok (.if_icmp .eq 9, 3) := dk_159 0 9 (dk_at dksX0_pool_2 15 rfl rfl)
theorem dX0_pool_64 : decode cX0_pool 64 = .ok (.aload_n 0, 1) := dk_42 (dk_at dksX0_pool_2 18 rfl rfl)
theorem dX0_pool_65 : decode cX0_pool 65 = .ok (.iconst 5, 1) := dk_8 (dk_at dksX0_pool_2 19 rfl rfl)
theorem dX0_pool_66 : decode cX0_pool 66 = .ok (.invokevirtual 181, 3) := dk_182 0 181 (dk_at dksX0_pool_2 20 rfl rfl)
theorem dX0_pool_69 : decode cX0_pool 69 = .ok (.ireturn, 1) := dk_172 (dk_at dksX0_pool_2 23 rfl rfl)
theorem dX0_pool_70 : decode cX0_pool 70 = .ok (.iconst 1, 1) := dk_4 (dk_at dksX0_pool_3 0 rfl rfl)
theorem dX0_pool_71 : decode cX0_pool 71 = .ok (.istore_n 3, 1) := dk_62 (dk_at dksX0_pool_3 1 rfl rfl)
theorem dX0_pool_72 : decode cX0_pool 72 = .ok (.iconst 0, 1) := dk_3 (dk_at dksX0_pool_3 2 rfl rfl)
theorem dX0_pool_73 : decode cX0_pool 73 = .ok (.istore 4, 2) := dk_54 4 (dk_at dksX0_pool_3 3 rfl rfl)
theorem dX0_pool_75 : decode cX0_pool 75 = .ok (.iload 4, 2) := dk_21 4 (dk_at dksX0_pool_3 5 rfl rfl)
theorem dX0_pool_77 : decode cX0_pool 77 = .ok (.bipush 8, 2) := dk_16 8 (dk_at dksX0_pool_3 7 rfl rfl)
theorem dX0_pool_79 : decode cX0_pool 79 = .ok (.if_icmp .ge 113, 3) := dk_162 0 113 (dk_at dksX0_pool_3 9 rfl rfl)
theorem dX0_pool_82 : decode cX0_pool 82 = .ok (.iload_n 3, 1) := dk_29 (dk_at dksX0_pool_3 12 rfl rfl)
theorem dX0_pool_83 : decode cX0_pool 83 = .ok (.aload_n 0, 1) := dk_42 (dk_at dksX0_pool_3 13 rfl rfl)
theorem dX0_pool_84 : decode cX0_pool 84 = .ok (.getfield 25, 3) := dk_180 0 25 (dk_at dksX0_pool_3 14 rfl rfl)
theorem dX0_pool_87 : decode cX0_pool 87 = .ok (.iload_n 1, 1) := dk_27 (dk_at dksX0_pool_3 17 rfl rfl)
theorem dX0_pool_88 : decode cX0_pool 88 = .ok (.aaload, 1) := dk_50 (dk_at dksX0_pool_3 18 rfl rfl)
theorem dX0_pool_89 : decode cX0_pool 89 = .ok (.iload 4, 2) := dk_21 4 (dk_at dksX0_pool_3 19 rfl rfl)
theorem dX0_pool_91 : decode cX0_pool 91 = .ok (.iaload, 1) := dk_46 (dk_at dksX0_pool_3 21 rfl rfl)
theorem dX0_pool_92 : decode cX0_pool 92 = .ok (.iconst 0, 1) := dk_3 (dk_at dksX0_pool_3 22 rfl rfl)
theorem dX0_pool_93 : decode cX0_pool 93 = .ok (.bipush 30, 2) := dk_16 30 (dk_at dksX0_pool_4 0 rfl rfl)
theorem dX0_pool_95 : decode cX0_pool 95 = .ok (.invokestatic 171, 3) := dk_184 0 171 (dk_at dksX0_pool_4 2 rfl rfl)
theorem dX0_pool_98 : decode cX0_pool 98 = .ok (.ifCond .eq 25, 3) := dk_153 0 25 (dk_at dksX0_pool_4 5 rfl rfl)
theorem dX0_pool_101 : decode cX0_pool 101 = .ok (.aload_n 0, 1) := dk_42 (dk_at dksX0_pool_4 8 rfl rfl)
theorem dX0_pool_102 : decode cX0_pool 102 = .ok (.getfield 25, 3) := dk_180 0 25 (dk_at dksX0_pool_4 9 rfl rfl)
theorem dX0_pool_105 : decode cX0_pool 105 = .ok (.iload_n 2, 1) := dk_28 (dk_at dksX0_pool_4 12 rfl rfl)
theorem dX0_pool_106 : decode cX0_pool 106 = .ok (.aaload, 1) := dk_50 (dk_at dksX0_pool_4 13 rfl rfl)
theorem dX0_pool_107 : decode cX0_pool 107 = .ok (.iload 4, 2) := dk_21 4 (dk_at dksX0_pool_4 14 rfl rfl)
theorem dX0_pool_109 : decode cX0_pool 109 = .ok (.iaload, 1) := dk_46 (dk_at dksX0_pool_4 16 rfl rfl)
theorem dX0_pool_110 : decode cX0_pool 110 = .ok (.iconst 0, 1) := dk_3 (dk_at dksX0_pool_4 17 rfl rfl)
theorem dX0_pool_111 : decode cX0_pool 111 = .ok (.bipush 30, 2) := dk_16 30 (dk_at dksX0_pool_4 18 rfl rfl)
theorem dX0_pool_113 : decode cX0_pool 113 = .ok (.invokestatic 171, 3) := dk_184 0 171 (dk_at dksX0_pool_4 20 rfl rfl)
theorem dX0_pool_116 : decode cX0_pool 116 = .ok (.ifCond .eq 7, 3) := dk_153 0 7 (dk_at dksX0_pool_5 0 rfl rfl)
theorem dX0_pool_119 : decode cX0_pool 119 = .ok (.iconst 1, 1) := dk_4 (dk_at dksX0_pool_5 3 rfl rfl)
theorem dX0_pool_120 : decode cX0_pool 120 = .ok (.goto 4, 3) := dk_167 0 4 (dk_at dksX0_pool_5 4 rfl rfl)
theorem dX0_pool_123 : decode cX0_pool 123 = .ok (.iconst 0, 1) := dk_3 (dk_at dksX0_pool_5 7 rfl rfl)
theorem dX0_pool_124 : decode cX0_pool 124 = .ok (.iand, 1) := dk_126 (dk_at dksX0_pool_5 8 rfl rfl)
theorem dX0_pool_125 : decode cX0_pool 125 = .ok (.istore_n 3, 1) := dk_62 (dk_at dksX0_pool_5 9 rfl rfl)
theorem dX0_pool_126 : decode cX0_pool 126 = .ok (.aload_n 0, 1) := dk_42 (dk_at dksX0_pool_5 10 rfl rfl)
theorem dX0_pool_127 : decode cX0_pool 127 = .ok (.getfield 138, 3) := dk_180 0 138 (dk_at dksX0_pool_5 11 rfl rfl)
theorem dX0_pool_130 : decode cX0_pool 130 = .ok (.iload 4, 2) := dk_21 4 (dk_at dksX0_pool_5 14 rfl rfl)
theorem dX0_pool_132 : decode cX0_pool 132 = .ok (.iconst 0, 1) := dk_3 (dk_at dksX0_pool_5 16 rfl rfl)
theorem dX0_pool_133 : decode cX0_pool 133 = .ok (.aload_n 0, 1) := dk_42 (dk_at dksX0_pool_5 17 rfl rfl)
theorem dX0_pool_134 : decode cX0_pool 134 = .ok (.getfield 25, 3) := dk_180 0 25 (dk_at dksX0_pool_5 18 rfl rfl)
theorem dX0_pool_137 : decode cX0_pool 137 = .ok (.iload_n 1, 1) := dk_27 (dk_at dksX0_pool_5 21 rfl rfl)
theorem dX0_pool_138 : decode cX0_pool 138 = .ok (.aaload, 1) := dk_50 (dk_at dksX0_pool_5 22 rfl rfl)
theorem dX0_pool_139 : decode cX0_pool 139 = .ok (.iload 4, 2) := dk_21 4 (dk_at dksX0_pool_6 0 rfl rfl)
theorem dX0_pool_141 : decode cX0_pool 141 = .ok (.iaload, 1) := dk_46 (dk_at dksX0_pool_6 2 rfl rfl)
theorem dX0_pool_142 : decode cX0_pool 142 = .ok (.aload_n 0, 1) := dk_42 (dk_at dksX0_pool_6 3 rfl rfl)
theorem dX0_pool_143 : decode cX0_pool 143 = .ok (.getfield 25, 3) := dk_180 0 25 (dk_at dksX0_pool_6 4 rfl rfl)
theorem dX0_pool_146 : decode cX0_pool 146 = .ok (.iload_n 2, 1) := dk_28 (dk_at dksX0_pool_6 7 rfl rfl)
theorem dX0_pool_147 : decode cX0_pool 147 = .ok (.aaload, 1) := dk_50 (dk_at dksX0_pool_6 8 rfl rfl)
theorem dX0_pool_148 : decode cX0_pool 148 = .ok (.iload 4, 2) := dk_21 4 (dk_at dksX0_pool_6 9 rfl rfl)
theorem dX0_pool_150 : decode cX0_pool 150 = .ok (.iaload, 1) := dk_46 (dk_at dksX0_pool_6 11 rfl rfl)
theorem dX0_pool_151 : decode cX0_pool 151 = .ok (.isub, 1) := dk_100 (dk_at dksX0_pool_6 12 rfl rfl)
theorem dX0_pool_152 : decode cX0_pool 152 = .ok (.invokestatic 371, 3) := dk_184 1 115 (dk_at dksX0_pool_6 13 rfl rfl)
theorem dX0_pool_155 : decode cX0_pool 155 = .ok (.iastore, 1) := dk_79 (dk_at dksX0_pool_6 16 rfl rfl)
theorem dX0_pool_156 : decode cX0_pool 156 = .ok (.aload_n 0, 1) := dk_42 (dk_at dksX0_pool_6 17 rfl rfl)
theorem dX0_pool_157 : decode cX0_pool 157 = .ok (.getfield 141, 3) := dk_180 0 141 (dk_at dksX0_pool_6 18 rfl rfl)
theorem dX0_pool_160 : decode cX0_pool 160 = .ok (.iload 4, 2) := dk_21 4 (dk_at dksX0_pool_6 21 rfl rfl)
theorem dX0_pool_162 : decode cX0_pool 162 = .ok (.iconst 0, 1) := dk_3 (dk_at dksX0_pool_6 23 rfl rfl)
theorem dX0_pool_163 : decode cX0_pool 163 = .ok (.aload_n 0, 1) := dk_42 (dk_at dksX0_pool_7 0 rfl rfl)
theorem dX0_pool_164 : decode cX0_pool 164 = .ok (.getfield 25, 3) := dk_180 0 25 (dk_at dksX0_pool_7 1 rfl rfl)
theorem dX0_pool_167 : decode cX0_pool 167 = .ok (.iload_n 2, 1) := dk_28 (dk_at dksX0_pool_7 4 rfl rfl)
theorem dX0_pool_168 : decode cX0_pool 168 = .ok (.aaload, 1) := dk_50 (dk_at dksX0_pool_7 5 rfl rfl)
theorem dX0_pool_169 : decode cX0_pool 169 = .ok (.iload 4, 2) := dk_21 4 (dk_at dksX0_pool_7 6 rfl rfl)
theorem dX0_pool_171 : decode cX0_pool 171 = .ok (.iaload, 1) := dk_46 (dk_at dksX0_pool_7 8 rfl rfl)
theorem dX0_pool_172 : decode cX0_pool 172 = .ok (.aload_n 0, 1) := dk_42 (dk_at dksX0_pool_7 9 rfl rfl)
theorem dX0_pool_173 : decode cX0_pool 173 = .ok (.getfield 25, 3) := dk_180 0 25 (dk_at dksX0_pool_7 10 rfl rfl)
theorem dX0_pool_176 : decode cX0_pool 176 = .ok (.iload_n 1, 1) := dk_27 (dk_at dksX0_pool_7 13 rfl rfl)
theorem dX0_pool_177 : decode cX0_pool 177 = .ok (.aaload, 1) := dk_50 (dk_at dksX0_pool_7 14 rfl rfl)
theorem dX0_pool_178 : decode cX0_pool 178 = .ok (.iload 4, 2) := dk_21 4 (dk_at dksX0_pool_7 15 rfl rfl)
theorem dX0_pool_180 : decode cX0_pool 180 = .ok (.iaload, 1) := dk_46 (dk_at dksX0_pool_7 17 rfl rfl)
theorem dX0_pool_181 : decode cX0_pool 181 = .ok (.isub, 1) := dk_100 (dk_at dksX0_pool_7 18 rfl rfl)
theorem dX0_pool_182 : decode cX0_pool 182 = .ok (.invokestatic 371, 3) := dk_184 1 115 (dk_at dksX0_pool_7 19 rfl rfl)
theorem dX0_pool_185 : decode cX0_pool 185 = .ok (.iastore, 1) := dk_79 (dk_at dksX0_pool_7 22 rfl rfl)
theorem dX0_pool_186 : decode cX0_pool 186 = .ok (.iinc 4 1, 3) := dk_132 4 1 (dk_at dksX0_pool_8 0 rfl rfl)
theorem dX0_pool_189 : decode cX0_pool 189 = .ok (.goto (-114), 3) := dk_167 255 142 (dk_at dksX0_pool_8 3 rfl rfl)
theorem dX0_pool_192 : decode cX0_pool 192 = .ok (.iload_n 3, 1) := dk_29 (dk_at dksX0_pool_8 6 rfl rfl)
theorem dX0_pool_193 : decode cX0_pool 193 = .ok (.ifCond .ne 9, 3) := dk_154 0 9 (dk_at dksX0_pool_8 7 rfl rfl)
theorem dX0_pool_196 : decode cX0_pool 196 = .ok (.aload_n 0, 1) := dk_42 (dk_at dksX0_pool_8 10 rfl rfl)
theorem dX0_pool_197 : decode cX0_pool 197 = .ok (.iconst 3, 1) := dk_6 (dk_at dksX0_pool_8 11 rfl rfl)
theorem dX0_pool_198 : decode cX0_pool 198 = .ok (.invokevirtual 181, 3) := dk_182 0 181 (dk_at dksX0_pool_8 12 rfl rfl)
theorem dX0_pool_201 : decode cX0_pool 201 = .ok (.ireturn, 1) := dk_172 (dk_at dksX0_pool_8 15 rfl rfl)
theorem dX0_pool_202 : decode cX0_pool 202 = .ok (.iconst 0, 1) := dk_3 (dk_at dksX0_pool_8 16 rfl rfl)
theorem dX0_pool_203 : decode cX0_pool 203 = .ok (.istore 4, 2) := dk_54 4 (dk_at dksX0_pool_8 17 rfl rfl)
theorem dX0_pool_205 : decode cX0_pool 205 = .ok (.iload 4, 2) := dk_21 4 (dk_at dksX0_pool_8 19 rfl rfl)
theorem dX0_pool_207 : decode cX0_pool 207 = .ok (.bipush 8, 2) := dk_16 8 (dk_at dksX0_pool_8 21 rfl rfl)
theorem dX0_pool_209 : decode cX0_pool 209 = .ok (.if_icmp .ge 99, 3) := dk_162 0 99 (dk_at dksX0_pool_9 0 rfl rfl)
theorem dX0_pool_212 : decode cX0_pool 212 = .ok (.aload_n 0, 1) := dk_42 (dk_at dksX0_pool_9 3 rfl rfl)
theorem dX0_pool_213 : decode cX0_pool 213 = .ok (.iload 4, 2) := dk_21 4 (dk_at dksX0_pool_9 4 rfl rfl)
theorem dX0_pool_215 : decode cX0_pool 215 = .ok (.aload_n 0, 1) := dk_42 (dk_at dksX0_pool_9 6 rfl rfl)
theorem dX0_pool_216 : decode cX0_pool 216 = .ok (.getfield 219, 3) := dk_180 0 219 (dk_at dksX0_pool_9 7 rfl rfl)
theorem dX0_pool_219 : decode cX0_pool 219 = .ok (.iconst 0, 1) := dk_3 (dk_at dksX0_pool_9 10 rfl rfl)
theorem dX0_pool_220 : decode cX0_pool 220 = .ok (.invokevirtual 234, 3) := dk_182 0 234 (dk_at dksX0_pool_9 11 rfl rfl)
theorem dX0_pool_223 : decode cX0_pool 223 = .ok (.iconst 0, 1) := dk_3 (dk_at dksX0_pool_9 14 rfl rfl)
theorem dX0_pool_224 : decode cX0_pool 224 = .ok (.istore 5, 2) := dk_54 5 (dk_at dksX0_pool_9 15 rfl rfl)
theorem dX0_pool_226 : decode cX0_pool 226 = .ok (.iload 5, 2) := dk_21 5 (dk_at dksX0_pool_9 17 rfl rfl)
theorem dX0_pool_228 : decode cX0_pool 228 = .ok (.bipush 8, 2) := dk_16 8 (dk_at dksX0_pool_9 19 rfl rfl)
theorem dX0_pool_230 : decode cX0_pool 230 = .ok (.if_icmp .ge 72, 3) := dk_162 0 72 (dk_at dksX0_pool_9 21 rfl rfl)
theorem dX0_pool_233 : decode cX0_pool 233 = .ok (.aload_n 0, 1) := dk_42 (dk_at dksX0_pool_10 0 rfl rfl)
theorem dX0_pool_234 : decode cX0_pool 234 = .ok (.getfield 144, 3) := dk_180 0 144 (dk_at dksX0_pool_10 1 rfl rfl)
theorem dX0_pool_237 : decode cX0_pool 237 = .ok (.bipush 8, 2) := dk_16 8 (dk_at dksX0_pool_10 4 rfl rfl)
theorem dX0_pool_239 : decode cX0_pool 239 = .ok (.iload 4, 2) := dk_21 4 (dk_at dksX0_pool_10 6 rfl rfl)
theorem dX0_pool_241 : decode cX0_pool 241 = .ok (.imul, 1) := dk_104 (dk_at dksX0_pool_10 8 rfl rfl)
theorem dX0_pool_242 : decode cX0_pool 242 = .ok (.iload 5, 2) := dk_21 5 (dk_at dksX0_pool_10 9 rfl rfl)
theorem dX0_pool_244 : decode cX0_pool 244 = .ok (.iadd, 1) := dk_96 (dk_at dksX0_pool_10 11 rfl rfl)
theorem dX0_pool_245 : decode cX0_pool 245 = .ok (.iload 4, 2) := dk_21 4 (dk_at dksX0_pool_10 12 rfl rfl)
theorem dX0_pool_247 : decode cX0_pool 247 = .ok (.iload 5, 2) := dk_21 5 (dk_at dksX0_pool_10 14 rfl rfl)
theorem dX0_pool_249 : decode cX0_pool 249 = .ok (.if_icmp .eq 15, 3) := dk_159 0 15 (dk_at dksX0_pool_10 16 rfl rfl)
theorem dX0_pool_252 : decode cX0_pool 252 = .ok (.aload_n 0, 1) := dk_42 (dk_at dksX0_pool_10 19 rfl rfl)
theorem dX0_pool_253 : decode cX0_pool 253 = .ok (.getfield 56, 3) := dk_180 0 56 (dk_at dksX0_pool_10 20 rfl rfl)
theorem dX0_pool_256 : decode cX0_pool 256 = .ok (.iload 5, 2) := dk_21 5 (dk_at dksX0_pool_11 0 rfl rfl)
theorem dX0_pool_258 : decode cX0_pool 258 = .ok (.iaload, 1) := dk_46 (dk_at dksX0_pool_11 2 rfl rfl)
theorem dX0_pool_259 : decode cX0_pool 259 = .ok (.bipush (-9), 2) := dk_16 247 (dk_at dksX0_pool_11 3 rfl rfl)
theorem dX0_pool_261 : decode cX0_pool 261 = .ok (.if_icmp .ne 8, 3) := dk_160 0 8 (dk_at dksX0_pool_11 5 rfl rfl)
theorem dX0_pool_264 : decode cX0_pool 264 = .ok (.bipush (-9), 2) := dk_16 247 (dk_at dksX0_pool_11 8 rfl rfl)
theorem dX0_pool_266 : decode cX0_pool 266 = .ok (.goto 15, 3) := dk_167 0 15 (dk_at dksX0_pool_11 10 rfl rfl)
theorem dX0_pool_269 : decode cX0_pool 269 = .ok (.aload_n 0, 1) := dk_42 (dk_at dksX0_pool_11 13 rfl rfl)
theorem dX0_pool_270 : decode cX0_pool 270 = .ok (.getfield 56, 3) := dk_180 0 56 (dk_at dksX0_pool_11 14 rfl rfl)
theorem dX0_pool_273 : decode cX0_pool 273 = .ok (.iload 5, 2) := dk_21 5 (dk_at dksX0_pool_11 17 rfl rfl)
theorem dX0_pool_275 : decode cX0_pool 275 = .ok (.iaload, 1) := dk_46 (dk_at dksX0_pool_11 19 rfl rfl)
theorem dX0_pool_276 : decode cX0_pool 276 = .ok (.aload_n 0, 1) := dk_42 (dk_at dksX0_pool_11 20 rfl rfl)
theorem dX0_pool_277 : decode cX0_pool 277 = .ok (.getfield 219, 3) := dk_180 0 219 (dk_at dksX0_pool_11 21 rfl rfl)
theorem dX0_pool_280 : decode cX0_pool 280 = .ok (.isub, 1) := dk_100 (dk_at dksX0_pool_12 0 rfl rfl)
theorem dX0_pool_281 : decode cX0_pool 281 = .ok (.iastore, 1) := dk_79 (dk_at dksX0_pool_12 1 rfl rfl)
theorem dX0_pool_282 : decode cX0_pool 282 = .ok (.aload_n 0, 1) := dk_42 (dk_at dksX0_pool_12 2 rfl rfl)
theorem dX0_pool_283 : decode cX0_pool 283 = .ok (.getfield 147, 3) := dk_180 0 147 (dk_at dksX0_pool_12 3 rfl rfl)
theorem dX0_pool_286 : decode cX0_pool 286 = .ok (.bipush 8, 2) := dk_16 8 (dk_at dksX0_pool_12 6 rfl rfl)
theorem dX0_pool_288 : decode cX0_pool 288 = .ok (.iload 4, 2) := dk_21 4 (dk_at dksX0_pool_12 8 rfl rfl)
theorem dX0_pool_290 : decode cX0_pool 290 = .ok (.imul, 1) := dk_104 (dk_at dksX0_pool_12 10 rfl rfl)
theorem dX0_pool_291 : decode cX0_pool 291 = .ok (.iload 5, 2) := dk_21 5 (dk_at dksX0_pool_12 11 rfl rfl)
theorem dX0_pool_293 : decode cX0_pool 293 = .ok (.iadd, 1) := dk_96 (dk_at dksX0_pool_12 13 rfl rfl)
theorem dX0_pool_294 : decode cX0_pool 294 = .ok (.iconst 0, 1) := dk_3 (dk_at dksX0_pool_12 14 rfl rfl)
theorem dX0_pool_295 : decode cX0_pool 295 = .ok (.iastore, 1) := dk_79 (dk_at dksX0_pool_12 15 rfl rfl)
theorem dX0_pool_296 : decode cX0_pool 296 = .ok (.iinc 5 1, 3) := dk_132 5 1 (dk_at dksX0_pool_12 16 rfl rfl)
theorem dX0_pool_299 : decode cX0_pool 299 = .ok (.goto (-73), 3) := dk_167 255 183 (dk_at dksX0_pool_12 19 rfl rfl)
theorem dX0_pool_302 : decode cX0_pool 302 = .ok (.iinc 4 1, 3) := dk_132 4 1 (dk_at dksX0_pool_13 0 rfl rfl)
theorem dX0_pool_305 : decode cX0_pool 305 = .ok (.goto (-100), 3) := dk_167 255 156 (dk_at dksX0_pool_13 3 rfl rfl)
theorem dX0_pool_308 : decode cX0_pool 308 = .ok (.iconst 0, 1) := dk_3 (dk_at dksX0_pool_13 6 rfl rfl)
theorem dX0_pool_309 : decode cX0_pool 309 = .ok (.istore 4, 2) := dk_54 4 (dk_at dksX0_pool_13 7 rfl rfl)
theorem dX0_pool_311 : decode cX0_pool 311 = .ok (.aload_n 0, 1) := dk_42 (dk_at dksX0_pool_13 9 rfl rfl)
theorem dX0_pool_312 : decode cX0_pool 312 = .ok (.invokevirtual 430, 3) := dk_182 1 174 (dk_at dksX0_pool_13 10 rfl rfl)
theorem dX0_pool_315 : decode cX0_pool 315 = .ok (.istore 5, 2) := dk_54 5 (dk_at dksX0_pool_13 13 rfl rfl)
theorem dX0_pool_317 : decode cX0_pool 317 = .ok (.iload 5, 2) := dk_21 5 (dk_at dksX0_pool_13 15 rfl rfl)
theorem dX0_pool_319 : decode cX0_pool 319 = .ok (.bipush (-9), 2) := dk_16 247 (dk_at dksX0_pool_13 17 rfl rfl)
theorem dX0_pool_321 : decode cX0_pool 321 = .ok (.if_icmp .eq 33, 3) := dk_159 0 33 (dk_at dksX0_pool_13 19 rfl rfl)
theorem dX0_pool_324 : decode cX0_pool 324 = .ok (.iload 4, 2) := dk_21 4 (dk_at dksX0_pool_13 22 rfl rfl)
theorem dX0_pool_326 : decode cX0_pool 326 = .ok (.aload_n 0, 1) := dk_42 (dk_at dksX0_pool_14 0 rfl rfl)
theorem dX0_pool_327 : decode cX0_pool 327 = .ok (.getfield 150, 3) := dk_180 0 150 (dk_at dksX0_pool_14 1 rfl rfl)
theorem dX0_pool_330 : decode cX0_pool 330 = .ok (.bipush 8, 2) := dk_16 8 (dk_at dksX0_pool_14 4 rfl rfl)
theorem dX0_pool_332 : decode cX0_pool 332 = .ok (.iload 5, 2) := dk_21 5 (dk_at dksX0_pool_14 6 rfl rfl)
theorem dX0_pool_334 : decode cX0_pool 334 = .ok (.iadd, 1) := dk_96 (dk_at dksX0_pool_14 8 rfl rfl)
theorem dX0_pool_335 : decode cX0_pool 335 = .ok (.iaload, 1) := dk_46 (dk_at dksX0_pool_14 9 rfl rfl)
theorem dX0_pool_336 : decode cX0_pool 336 = .ok (.iadd, 1) := dk_96 (dk_at dksX0_pool_14 10 rfl rfl)
theorem dX0_pool_337 : decode cX0_pool 337 = .ok (.istore 4, 2) := dk_54 4 (dk_at dksX0_pool_14 11 rfl rfl)
theorem dX0_pool_339 : decode cX0_pool 339 = .ok (.aload_n 0, 1) := dk_42 (dk_at dksX0_pool_14 13 rfl rfl)
theorem dX0_pool_340 : decode cX0_pool 340 = .ok (.iload 5, 2) := dk_21 5 (dk_at dksX0_pool_14 14 rfl rfl)
theorem dX0_pool_342 : decode cX0_pool 342 = .ok (.invokevirtual 433, 3) := dk_182 1 177 (dk_at dksX0_pool_14 16 rfl rfl)
theorem dX0_pool_345 : decode cX0_pool 345 = .ok (.aload_n 0, 1) := dk_42 (dk_at dksX0_pool_14 19 rfl rfl)
theorem dX0_pool_346 : decode cX0_pool 346 = .ok (.invokevirtual 430, 3) := dk_182 1 174 (dk_at dksX0_pool_14 20 rfl rfl)
theorem dX0_pool_349 : decode cX0_pool 349 = .ok (.istore 5, 2) := dk_54 5 (dk_at dksX0_pool_15 0 rfl rfl)
theorem dX0_pool_351 : decode cX0_pool 351 = .ok (.goto (-34), 3) := dk_167 255 222 (dk_at dksX0_pool_15 2 rfl rfl)
theorem dX0_pool_354 : decode cX0_pool 354 = .ok (.iconst 0, 1) := dk_3 (dk_at dksX0_pool_15 5 rfl rfl)
theorem dX0_pool_355 : decode cX0_pool 355 = .ok (.istore 6, 2) := dk_54 6 (dk_at dksX0_pool_15 6 rfl rfl)
theorem dX0_pool_357 : decode cX0_pool 357 = .ok (.iconst 0, 1) := dk_3 (dk_at dksX0_pool_15 8 rfl rfl)
theorem dX0_pool_358 : decode cX0_pool 358 = .ok (.istore 7, 2) := dk_54 7 (dk_at dksX0_pool_15 9 rfl rfl)
theorem dX0_pool_360 : decode cX0_pool 360 = .ok (.iload 7, 2) := dk_21 7 (dk_at dksX0_pool_15 11 rfl rfl)
theorem dX0_pool_362 : decode cX0_pool 362 = .ok (.bipush 8, 2) := dk_16 8 (dk_at dksX0_pool_15 13 rfl rfl)
theorem dX0_pool_364 : decode cX0_pool 364 = .ok (.if_icmp .ge 21, 3) := dk_162 0 21 (dk_at dksX0_pool_15 15 rfl rfl)
theorem dX0_pool_367 : decode cX0_pool 367 = .ok (.iload 6, 2) := dk_21 6 (dk_at dksX0_pool_15 18 rfl rfl)
theorem dX0_pool_369 : decode cX0_pool 369 = .ok (.aload_n 0, 1) := dk_42 (dk_at dksX0_pool_15 20 rfl rfl)
theorem dX0_pool_370 : decode cX0_pool 370 = .ok (.getfield 141, 3) := dk_180 0 141 (dk_at dksX0_pool_15 21 rfl rfl)
theorem dX0_pool_373 : decode cX0_pool 373 = .ok (.iload 7, 2) := dk_21 7 (dk_at dksX0_pool_16 0 rfl rfl)
theorem dX0_pool_375 : decode cX0_pool 375 = .ok (.iaload, 1) := dk_46 (dk_at dksX0_pool_16 2 rfl rfl)
theorem dX0_pool_376 : decode cX0_pool 376 = .ok (.iadd, 1) := dk_96 (dk_at dksX0_pool_16 3 rfl rfl)
theorem dX0_pool_377 : decode cX0_pool 377 = .ok (.istore 6, 2) := dk_54 6 (dk_at dksX0_pool_16 4 rfl rfl)
theorem dX0_pool_379 : decode cX0_pool 379 = .ok (.iinc 7 1, 3) := dk_132 7 1 (dk_at dksX0_pool_16 6 rfl rfl)
theorem dX0_pool_382 : decode cX0_pool 382 = .ok (.goto (-22), 3) := dk_167 255 234 (dk_at dksX0_pool_16 9 rfl rfl)
theorem dX0_pool_385 : decode cX0_pool 385 = .ok (.aload_n 0, 1) := dk_42 (dk_at dksX0_pool_16 12 rfl rfl)
theorem dX0_pool_386 : decode cX0_pool 386 = .ok (.iload 4, 2) := dk_21 4 (dk_at dksX0_pool_16 13 rfl rfl)
theorem dX0_pool_388 : decode cX0_pool 388 = .ok (.iload 6, 2) := dk_21 6 (dk_at dksX0_pool_16 15 rfl rfl)
theorem dX0_pool_390 : decode cX0_pool 390 = .ok (.invokevirtual 185, 3) := dk_182 0 185 (dk_at dksX0_pool_16 17 rfl rfl)
theorem dX0_pool_393 : decode cX0_pool 393 = .ok (.ireturn, 1) := dk_172 (dk_at dksX0_pool_16 20 rfl rfl)
abbrev cX0_cheapestWay : ByteArray := prog_1_method_87_code
def yX0_cheapestWay : MethodName := ⟨RX0, "cheapestWay", "()I"⟩
def dkwX0_cheapestWay_14 : List UInt8 := [162, 0, 7, 29, 167, 0, 4, 28, 61, 132, 3, 1, 167, 255, 178, 28, 172]
abbrev dktX0_cheapestWay_14 : List UInt8 := dkwX0_cheapestWay_14 ++ []
def dkwX0_cheapestWay_13 : List UInt8 := [16, 247, 159, 0, 24, 42, 180, 0, 150, 16, 8, 29, 96, 46, 42, 180, 0, 150, 16, 8, 28, 96, 46]
abbrev dktX0_cheapestWay_13 : List UInt8 := dkwX0_cheapestWay_13 ++ dktX0_cheapestWay_14
def dkwX0_cheapestWay_12 : List UInt8 := [16, 8, 29, 96, 46, 19, 1, 173, 159, 0, 7, 4, 167, 0, 4, 3, 54, 4, 21, 4, 153, 0, 34, 28]
abbrev dktX0_cheapestWay_12 : List UInt8 := dkwX0_cheapestWay_12 ++ dktX0_cheapestWay_13
def dkwX0_cheapestWay_11 : List UInt8 := [16, 247, 61, 3, 62, 29, 16, 8, 162, 0, 78, 42, 180, 0, 141, 29, 46, 158, 0, 22, 42, 180, 0, 150]
abbrev dktX0_cheapestWay_11 : List UInt8 := dkwX0_cheapestWay_11 ++ dktX0_cheapestWay_12
def dkwX0_cheapestWay_10 : List UInt8 := [28, 46, 100, 79, 42, 180, 0, 153, 29, 21, 4, 79, 4, 60, 132, 2, 1, 167, 255, 82, 167, 255, 71]
abbrev dktX0_cheapestWay_10 : List UInt8 := dkwX0_cheapestWay_10 ++ dktX0_cheapestWay_11
def dkwX0_cheapestWay_9 : List UInt8 := [180, 0, 150, 29, 46, 162, 0, 33, 42, 180, 0, 150, 29, 42, 180, 0, 150, 21, 4, 46, 42, 180, 0, 144]
abbrev dktX0_cheapestWay_9 : List UInt8 := dkwX0_cheapestWay_9 ++ dktX0_cheapestWay_10
def dkwX0_cheapestWay_8 : List UInt8 := [46, 19, 1, 173, 159, 0, 56, 42, 180, 0, 150, 21, 4, 46, 42, 180, 0, 144, 28, 46, 100, 42]
abbrev dktX0_cheapestWay_8 : List UInt8 := dkwX0_cheapestWay_8 ++ dktX0_cheapestWay_9
def dkwX0_cheapestWay_7 : List UInt8 := [180, 0, 153, 21, 4, 29, 79, 4, 60, 42, 180, 0, 147, 28, 46, 158, 0, 69, 42, 180, 0, 150, 21, 4]
abbrev dktX0_cheapestWay_7 : List UInt8 := dkwX0_cheapestWay_7 ++ dktX0_cheapestWay_8
def dkwX0_cheapestWay_6 : List UInt8 := [162, 0, 33, 42, 180, 0, 150, 21, 4, 42, 180, 0, 150, 29, 46, 42, 180, 0, 144, 28, 46, 96, 79, 42]
abbrev dktX0_cheapestWay_6 : List UInt8 := dkwX0_cheapestWay_6 ++ dktX0_cheapestWay_7
def dkwX0_cheapestWay_5 : List UInt8 := [159, 0, 56, 42, 180, 0, 150, 29, 46, 42, 180, 0, 144, 28, 46, 96, 42, 180, 0, 150, 21, 4, 46]
abbrev dktX0_cheapestWay_5 : List UInt8 := dkwX0_cheapestWay_5 ++ dktX0_cheapestWay_6
def dkwX0_cheapestWay_4 : List UInt8 := [96, 54, 4, 42, 180, 0, 144, 28, 46, 16, 247, 159, 0, 68, 42, 180, 0, 150, 29, 46, 19, 1, 173]
abbrev dktX0_cheapestWay_4 : List UInt8 := dkwX0_cheapestWay_4 ++ dktX0_cheapestWay_5
def dkwX0_cheapestWay_3 : List UInt8 := [153, 0, 187, 3, 60, 3, 61, 28, 16, 64, 162, 0, 174, 28, 16, 8, 108, 62, 16, 8, 28, 16, 8, 112]
abbrev dktX0_cheapestWay_3 : List UInt8 := dkwX0_cheapestWay_3 ++ dktX0_cheapestWay_4
def dkwX0_cheapestWay_2 : List UInt8 := [16, 247, 79, 42, 180, 0, 153, 16, 8, 27, 96, 16, 247, 79, 132, 1, 1, 167, 255, 194, 4, 60, 27]
abbrev dktX0_cheapestWay_2 : List UInt8 := dkwX0_cheapestWay_2 ++ dktX0_cheapestWay_3
def dkwX0_cheapestWay_1 : List UInt8 := [167, 0, 6, 19, 1, 173, 79, 42, 180, 0, 150, 16, 8, 27, 96, 19, 1, 173, 79, 42, 180, 0, 153, 27]
abbrev dktX0_cheapestWay_1 : List UInt8 := dkwX0_cheapestWay_1 ++ dktX0_cheapestWay_2
def dkwX0_cheapestWay_0 : List UInt8 := [3, 60, 27, 16, 8, 162, 0, 62, 42, 180, 0, 150, 27, 42, 180, 0, 138, 27, 46, 158, 0, 7, 3]
abbrev dktX0_cheapestWay_0 : List UInt8 := dkwX0_cheapestWay_0 ++ dktX0_cheapestWay_1
theorem dksX0_cheapestWay_0 : cX0_cheapestWay.data.toList.drop 0 = dktX0_cheapestWay_0 := by decide +kernel
theorem dksX0_cheapestWay_1 : cX0_cheapestWay.data.toList.drop 23 = dktX0_cheapestWay_1 := dk_seg dksX0_cheapestWay_0 23 rfl rfl
theorem dksX0_cheapestWay_2 : cX0_cheapestWay.data.toList.drop 47 = dktX0_cheapestWay_2 := dk_seg dksX0_cheapestWay_1 24 rfl rfl
theorem dksX0_cheapestWay_3 : cX0_cheapestWay.data.toList.drop 70 = dktX0_cheapestWay_3 := dk_seg dksX0_cheapestWay_2 23 rfl rfl
theorem dksX0_cheapestWay_4 : cX0_cheapestWay.data.toList.drop 94 = dktX0_cheapestWay_4 := dk_seg dksX0_cheapestWay_3 24 rfl rfl
theorem dksX0_cheapestWay_5 : cX0_cheapestWay.data.toList.drop 117 = dktX0_cheapestWay_5 := dk_seg dksX0_cheapestWay_4 23 rfl rfl
theorem dksX0_cheapestWay_6 : cX0_cheapestWay.data.toList.drop 140 = dktX0_cheapestWay_6 := dk_seg dksX0_cheapestWay_5 23 rfl rfl
theorem dksX0_cheapestWay_7 : cX0_cheapestWay.data.toList.drop 164 = dktX0_cheapestWay_7 := dk_seg dksX0_cheapestWay_6 24 rfl rfl
theorem dksX0_cheapestWay_8 : cX0_cheapestWay.data.toList.drop 188 = dktX0_cheapestWay_8 := dk_seg dksX0_cheapestWay_7 24 rfl rfl
theorem dksX0_cheapestWay_9 : cX0_cheapestWay.data.toList.drop 210 = dktX0_cheapestWay_9 := dk_seg dksX0_cheapestWay_8 22 rfl rfl
theorem dksX0_cheapestWay_10 : cX0_cheapestWay.data.toList.drop 234 = dktX0_cheapestWay_10 := dk_seg dksX0_cheapestWay_9 24 rfl rfl
theorem dksX0_cheapestWay_11 : cX0_cheapestWay.data.toList.drop 257 = dktX0_cheapestWay_11 := dk_seg dksX0_cheapestWay_10 23 rfl rfl
theorem dksX0_cheapestWay_12 : cX0_cheapestWay.data.toList.drop 281 = dktX0_cheapestWay_12 := dk_seg dksX0_cheapestWay_11 24 rfl rfl
theorem dksX0_cheapestWay_13 : cX0_cheapestWay.data.toList.drop 305 = dktX0_cheapestWay_13 := dk_seg dksX0_cheapestWay_12 24 rfl rfl
theorem dksX0_cheapestWay_14 : cX0_cheapestWay.data.toList.drop 328 = dktX0_cheapestWay_14 := dk_seg dksX0_cheapestWay_13 23 rfl rfl
theorem dX0_cheapestWay_0 : decode cX0_cheapestWay 0 = .ok (.iconst 0, 1) := dk_3 (dk_at dksX0_cheapestWay_0 0 rfl rfl)
theorem dX0_cheapestWay_1 : decode cX0_cheapestWay 1 = .ok (.istore_n 1, 1) := dk_60 (dk_at dksX0_cheapestWay_0 1 rfl rfl)
theorem dX0_cheapestWay_2 : decode cX0_cheapestWay 2 = .ok (.iload_n 1, 1) := dk_27 (dk_at dksX0_cheapestWay_0 2 rfl rfl)
theorem dX0_cheapestWay_3 : decode cX0_cheapestWay 3 = .ok (.bipush 8, 2) := dk_16 8 (dk_at dksX0_cheapestWay_0 3 rfl rfl)
theorem dX0_cheapestWay_5 : decode cX0_cheapestWay 5 = .ok (.if_icmp .ge 62, 3) := dk_162 0 62 (dk_at dksX0_cheapestWay_0 5 rfl rfl)
theorem dX0_cheapestWay_8 : decode cX0_cheapestWay 8 = .ok (.aload_n 0, 1) := dk_42 (dk_at dksX0_cheapestWay_0 8 rfl rfl)
theorem dX0_cheapestWay_9 : decode cX0_cheapestWay 9 = .ok (.getfield 150, 3) := dk_180 0 150 (dk_at dksX0_cheapestWay_0 9 rfl rfl)
theorem dX0_cheapestWay_12 : decode cX0_cheapestWay 12 = .ok (.iload_n 1, 1) := dk_27 (dk_at dksX0_cheapestWay_0 12 rfl rfl)
theorem dX0_cheapestWay_13 : decode cX0_cheapestWay 13 = .ok (.aload_n 0, 1) := dk_42 (dk_at dksX0_cheapestWay_0 13 rfl rfl)
theorem dX0_cheapestWay_14 : decode cX0_cheapestWay 14 = .ok (.getfield 138, 3) := dk_180 0 138 (dk_at dksX0_cheapestWay_0 14 rfl rfl)
theorem dX0_cheapestWay_17 : decode cX0_cheapestWay 17 = .ok (.iload_n 1, 1) := dk_27 (dk_at dksX0_cheapestWay_0 17 rfl rfl)
theorem dX0_cheapestWay_18 : decode cX0_cheapestWay 18 = .ok (.iaload, 1) := dk_46 (dk_at dksX0_cheapestWay_0 18 rfl rfl)
theorem dX0_cheapestWay_19 : decode cX0_cheapestWay 19 = .ok (.ifCond .le 7, 3) := dk_158 0 7 (dk_at dksX0_cheapestWay_0 19 rfl rfl)
theorem dX0_cheapestWay_22 : decode cX0_cheapestWay 22 = .ok (.iconst 0, 1) := dk_3 (dk_at dksX0_cheapestWay_0 22 rfl rfl)
theorem dX0_cheapestWay_23 : decode cX0_cheapestWay 23 = .ok (.goto 6, 3) := dk_167 0 6 (dk_at dksX0_cheapestWay_1 0 rfl rfl)
theorem dX0_cheapestWay_26 : decode cX0_cheapestWay 26 = .ok (.ldc_w 429, 3) := dk_19 1 173 (dk_at dksX0_cheapestWay_1 3 rfl rfl)
theorem dX0_cheapestWay_29 : decode cX0_cheapestWay 29 = .ok (.iastore, 1) := dk_79 (dk_at dksX0_cheapestWay_1 6 rfl rfl)
theorem dX0_cheapestWay_30 : decode cX0_cheapestWay 30 = .ok (.aload_n 0, 1) := dk_42 (dk_at dksX0_cheapestWay_1 7 rfl rfl)
theorem dX0_cheapestWay_31 : decode cX0_cheapestWay 31 = .ok (.getfield 150, 3) := dk_180 0 150 (dk_at dksX0_cheapestWay_1 8 rfl rfl)
theorem dX0_cheapestWay_34 : decode cX0_cheapestWay 34 = .ok (.bipush 8, 2) := dk_16 8 (dk_at dksX0_cheapestWay_1 11 rfl rfl)
theorem dX0_cheapestWay_36 : decode cX0_cheapestWay 36 = .ok (.iload_n 1, 1) := dk_27 (dk_at dksX0_cheapestWay_1 13 rfl rfl)
theorem dX0_cheapestWay_37 : decode cX0_cheapestWay 37 = .ok (.iadd, 1) := dk_96 (dk_at dksX0_cheapestWay_1 14 rfl rfl)
theorem dX0_cheapestWay_38 : decode cX0_cheapestWay 38 = .ok (.ldc_w 429, 3) := dk_19 1 173 (dk_at dksX0_cheapestWay_1 15 rfl rfl)
theorem dX0_cheapestWay_41 : decode cX0_cheapestWay 41 = .ok (.iastore, 1) := dk_79 (dk_at dksX0_cheapestWay_1 18 rfl rfl)
theorem dX0_cheapestWay_42 : decode cX0_cheapestWay 42 = .ok (.aload_n 0, 1) := dk_42 (dk_at dksX0_cheapestWay_1 19 rfl rfl)
theorem dX0_cheapestWay_43 : decode cX0_cheapestWay 43 = .ok (.getfield 153, 3) := dk_180 0 153 (dk_at dksX0_cheapestWay_1 20 rfl rfl)
theorem dX0_cheapestWay_46 : decode cX0_cheapestWay 46 = .ok (.iload_n 1, 1) := dk_27 (dk_at dksX0_cheapestWay_1 23 rfl rfl)
theorem dX0_cheapestWay_47 : decode cX0_cheapestWay 47 = .ok (.bipush (-9), 2) := dk_16 247 (dk_at dksX0_cheapestWay_2 0 rfl rfl)
theorem dX0_cheapestWay_49 : decode cX0_cheapestWay 49 = .ok (.iastore, 1) := dk_79 (dk_at dksX0_cheapestWay_2 2 rfl rfl)
theorem dX0_cheapestWay_50 : decode cX0_cheapestWay 50 = .ok (.aload_n 0, 1) := dk_42 (dk_at dksX0_cheapestWay_2 3 rfl rfl)
theorem dX0_cheapestWay_51 : decode cX0_cheapestWay 51 = .ok (.getfield 153, 3) := dk_180 0 153 (dk_at dksX0_cheapestWay_2 4 rfl rfl)
theorem dX0_cheapestWay_54 : decode cX0_cheapestWay 54 = .ok (.bipush 8, 2) := dk_16 8 (dk_at dksX0_cheapestWay_2 7 rfl rfl)
theorem dX0_cheapestWay_56 : decode cX0_cheapestWay 56 = .ok (.iload_n 1, 1) := dk_27 (dk_at dksX0_cheapestWay_2 9 rfl rfl)
theorem dX0_cheapestWay_57 : decode cX0_cheapestWay 57 = .ok (.iadd, 1) := dk_96 (dk_at dksX0_cheapestWay_2 10 rfl rfl)
theorem dX0_cheapestWay_58 : decode cX0_cheapestWay 58 = .ok (.bipush (-9), 2) := dk_16 247 (dk_at dksX0_cheapestWay_2 11 rfl rfl)
theorem dX0_cheapestWay_60 : decode cX0_cheapestWay 60 = .ok (.iastore, 1) := dk_79 (dk_at dksX0_cheapestWay_2 13 rfl rfl)
theorem dX0_cheapestWay_61 : decode cX0_cheapestWay 61 = .ok (.iinc 1 1, 3) := dk_132 1 1 (dk_at dksX0_cheapestWay_2 14 rfl rfl)
theorem dX0_cheapestWay_64 : decode cX0_cheapestWay 64 = .ok (.goto (-62), 3) := dk_167 255 194 (dk_at dksX0_cheapestWay_2 17 rfl rfl)
theorem dX0_cheapestWay_67 : decode cX0_cheapestWay 67 = .ok (.iconst 1, 1) := dk_4 (dk_at dksX0_cheapestWay_2 20 rfl rfl)
theorem dX0_cheapestWay_68 : decode cX0_cheapestWay 68 = .ok (.istore_n 1, 1) := dk_60 (dk_at dksX0_cheapestWay_2 21 rfl rfl)
theorem dX0_cheapestWay_69 : decode cX0_cheapestWay 69 = .ok (.iload_n 1, 1) := dk_27 (dk_at dksX0_cheapestWay_2 22 rfl rfl)
theorem dX0_cheapestWay_70 : decode cX0_cheapestWay 70 = .ok (.ifCond .eq 187, 3) := dk_153 0 187 (dk_at dksX0_cheapestWay_3 0 rfl rfl)
theorem dX0_cheapestWay_73 : decode cX0_cheapestWay 73 = .ok (.iconst 0, 1) := dk_3 (dk_at dksX0_cheapestWay_3 3 rfl rfl)
theorem dX0_cheapestWay_74 : decode cX0_cheapestWay 74 = .ok (.istore_n 1, 1) := dk_60 (dk_at dksX0_cheapestWay_3 4 rfl rfl)
theorem dX0_cheapestWay_75 : decode cX0_cheapestWay 75 = .ok (.iconst 0, 1) := dk_3 (dk_at dksX0_cheapestWay_3 5 rfl rfl)
theorem dX0_cheapestWay_76 : decode cX0_cheapestWay 76 = .ok (.istore_n 2, 1) := dk_61 (dk_at dksX0_cheapestWay_3 6 rfl rfl)
theorem dX0_cheapestWay_77 : decode cX0_cheapestWay 77 = .ok (.iload_n 2, 1) := dk_28 (dk_at dksX0_cheapestWay_3 7 rfl rfl)
theorem dX0_cheapestWay_78 : decode cX0_cheapestWay 78 = .ok (.bipush 64, 2) := dk_16 64 (dk_at dksX0_cheapestWay_3 8 rfl rfl)
theorem dX0_cheapestWay_80 : decode cX0_cheapestWay 80 = .ok (.if_icmp .ge 174, 3) := dk_162 0 174 (dk_at dksX0_cheapestWay_3 10 rfl rfl)
theorem dX0_cheapestWay_83 : decode cX0_cheapestWay 83 = .ok (.iload_n 2, 1) := dk_28 (dk_at dksX0_cheapestWay_3 13 rfl rfl)
theorem dX0_cheapestWay_84 : decode cX0_cheapestWay 84 = .ok (.bipush 8, 2) := dk_16 8 (dk_at dksX0_cheapestWay_3 14 rfl rfl)
theorem dX0_cheapestWay_86 : decode cX0_cheapestWay 86 = .ok (.idiv, 1) := dk_108 (dk_at dksX0_cheapestWay_3 16 rfl rfl)
theorem dX0_cheapestWay_87 : decode cX0_cheapestWay 87 = .ok (.istore_n 3, 1) := dk_62 (dk_at dksX0_cheapestWay_3 17 rfl rfl)
theorem dX0_cheapestWay_88 : decode cX0_cheapestWay 88 = .ok (.bipush 8, 2) := dk_16 8 (dk_at dksX0_cheapestWay_3 18 rfl rfl)
theorem dX0_cheapestWay_90 : decode cX0_cheapestWay 90 = .ok (.iload_n 2, 1) := dk_28 (dk_at dksX0_cheapestWay_3 20 rfl rfl)
theorem dX0_cheapestWay_91 : decode cX0_cheapestWay 91 = .ok (.bipush 8, 2) := dk_16 8 (dk_at dksX0_cheapestWay_3 21 rfl rfl)
theorem dX0_cheapestWay_93 : decode cX0_cheapestWay 93 = .ok (.irem, 1) := dk_112 (dk_at dksX0_cheapestWay_3 23 rfl rfl)
theorem dX0_cheapestWay_94 : decode cX0_cheapestWay 94 = .ok (.iadd, 1) := dk_96 (dk_at dksX0_cheapestWay_4 0 rfl rfl)
theorem dX0_cheapestWay_95 : decode cX0_cheapestWay 95 = .ok (.istore 4, 2) := dk_54 4 (dk_at dksX0_cheapestWay_4 1 rfl rfl)
theorem dX0_cheapestWay_97 : decode cX0_cheapestWay 97 = .ok (.aload_n 0, 1) := dk_42 (dk_at dksX0_cheapestWay_4 3 rfl rfl)
theorem dX0_cheapestWay_98 : decode cX0_cheapestWay 98 = .ok (.getfield 144, 3) := dk_180 0 144 (dk_at dksX0_cheapestWay_4 4 rfl rfl)
theorem dX0_cheapestWay_101 : decode cX0_cheapestWay 101 = .ok (.iload_n 2, 1) := dk_28 (dk_at dksX0_cheapestWay_4 7 rfl rfl)
theorem dX0_cheapestWay_102 : decode cX0_cheapestWay 102 = .ok (.iaload, 1) := dk_46 (dk_at dksX0_cheapestWay_4 8 rfl rfl)
theorem dX0_cheapestWay_103 : decode cX0_cheapestWay 103 = .ok (.bipush (-9), 2) := dk_16 247 (dk_at dksX0_cheapestWay_4 9 rfl rfl)
theorem dX0_cheapestWay_105 : decode cX0_cheapestWay 105 = .ok (.if_icmp .eq 68, 3) := dk_159 0 68 (dk_at dksX0_cheapestWay_4 11 rfl rfl)
theorem dX0_cheapestWay_108 : decode cX0_cheapestWay 108 = .ok (.aload_n 0, 1) := dk_42 (dk_at dksX0_cheapestWay_4 14 rfl rfl)
theorem dX0_cheapestWay_109 : decode cX0_cheapestWay 109 = .ok (.getfield 150, 3) := dk_180 0 150 (dk_at dksX0_cheapestWay_4 15 rfl rfl)
theorem dX0_cheapestWay_112 : decode cX0_cheapestWay 112 = .ok (.iload_n 3, 1) := dk_29 (dk_at dksX0_cheapestWay_4 18 rfl rfl)
theorem dX0_cheapestWay_113 : decode cX0_cheapestWay 113 = .ok (.iaload, 1) := dk_46 (dk_at dksX0_cheapestWay_4 19 rfl rfl)
theorem dX0_cheapestWay_114 : decode cX0_cheapestWay 114 = .ok (.ldc_w 429, 3) := dk_19 1 173 (dk_at dksX0_cheapestWay_4 20 rfl rfl)
theorem dX0_cheapestWay_117 : decode cX0_cheapestWay 117 = .ok (.if_icmp .eq 56, 3) := dk_159 0 56 (dk_at dksX0_cheapestWay_5 0 rfl rfl)
theorem dX0_cheapestWay_120 : decode cX0_cheapestWay 120 = .ok (.aload_n 0, 1) := dk_42 (dk_at dksX0_cheapestWay_5 3 rfl rfl)
theorem dX0_cheapestWay_121 : decode cX0_cheapestWay 121 = .ok (.getfield 150, 3) := dk_180 0 150 (dk_at dksX0_cheapestWay_5 4 rfl rfl)
theorem dX0_cheapestWay_124 : decode cX0_cheapestWay 124 = .ok (.iload_n 3, 1) := dk_29 (dk_at dksX0_cheapestWay_5 7 rfl rfl)
theorem dX0_cheapestWay_125 : decode cX0_cheapestWay 125 = .ok (.iaload, 1) := dk_46 (dk_at dksX0_cheapestWay_5 8 rfl rfl)
theorem dX0_cheapestWay_126 : decode cX0_cheapestWay 126 = .ok (.aload_n 0, 1) := dk_42 (dk_at dksX0_cheapestWay_5 9 rfl rfl)
theorem dX0_cheapestWay_127 : decode cX0_cheapestWay 127 = .ok (.getfield 144, 3) := dk_180 0 144 (dk_at dksX0_cheapestWay_5 10 rfl rfl)
theorem dX0_cheapestWay_130 : decode cX0_cheapestWay 130 = .ok (.iload_n 2, 1) := dk_28 (dk_at dksX0_cheapestWay_5 13 rfl rfl)
theorem dX0_cheapestWay_131 : decode cX0_cheapestWay 131 = .ok (.iaload, 1) := dk_46 (dk_at dksX0_cheapestWay_5 14 rfl rfl)
theorem dX0_cheapestWay_132 : decode cX0_cheapestWay 132 = .ok (.iadd, 1) := dk_96 (dk_at dksX0_cheapestWay_5 15 rfl rfl)
theorem dX0_cheapestWay_133 : decode cX0_cheapestWay 133 = .ok (.aload_n 0, 1) := dk_42 (dk_at dksX0_cheapestWay_5 16 rfl rfl)
theorem dX0_cheapestWay_134 : decode cX0_cheapestWay 134 = .ok (.getfield 150, 3) := dk_180 0 150 (dk_at dksX0_cheapestWay_5 17 rfl rfl)
theorem dX0_cheapestWay_137 : decode cX0_cheapestWay 137 = .ok (.iload 4, 2) := dk_21 4 (dk_at dksX0_cheapestWay_5 20 rfl rfl)
theorem dX0_cheapestWay_139 : decode cX0_cheapestWay 139 = .ok (.iaload, 1) := dk_46 (dk_at dksX0_cheapestWay_5 22 rfl rfl)
theorem dX0_cheapestWay_140 : decode cX0_cheapestWay 140 = .ok (.if_icmp .ge 33, 3) := dk_162 0 33 (dk_at dksX0_cheapestWay_6 0 rfl rfl)
theorem dX0_cheapestWay_143 : decode cX0_cheapestWay 143 = .ok (.aload_n 0, 1) := dk_42 (dk_at dksX0_cheapestWay_6 3 rfl rfl)
theorem dX0_cheapestWay_144 : decode cX0_cheapestWay 144 = .ok (.getfield 150, 3) := dk_180 0 150 (dk_at dksX0_cheapestWay_6 4 rfl rfl)
theorem dX0_cheapestWay_147 : decode cX0_cheapestWay 147 = .ok (.iload 4, 2) := dk_21 4 (dk_at dksX0_cheapestWay_6 7 rfl rfl)
theorem dX0_cheapestWay_149 : decode cX0_cheapestWay 149 = .ok (.aload_n 0, 1) := dk_42 (dk_at dksX0_cheapestWay_6 9 rfl rfl)
theorem dX0_cheapestWay_150 : decode cX0_cheapestWay 150 = .ok (.getfield 150, 3) := dk_180 0 150 (dk_at dksX0_cheapestWay_6 10 rfl rfl)
theorem dX0_cheapestWay_153 : decode cX0_cheapestWay 153 = .ok (.iload_n 3, 1) := dk_29 (dk_at dksX0_cheapestWay_6 13 rfl rfl)
theorem dX0_cheapestWay_154 : decode cX0_cheapestWay 154 = .ok (.iaload, 1) := dk_46 (dk_at dksX0_cheapestWay_6 14 rfl rfl)
theorem dX0_cheapestWay_155 : decode cX0_cheapestWay 155 = .ok (.aload_n 0, 1) := dk_42 (dk_at dksX0_cheapestWay_6 15 rfl rfl)
theorem dX0_cheapestWay_156 : decode cX0_cheapestWay 156 = .ok (.getfield 144, 3) := dk_180 0 144 (dk_at dksX0_cheapestWay_6 16 rfl rfl)
theorem dX0_cheapestWay_159 : decode cX0_cheapestWay 159 = .ok (.iload_n 2, 1) := dk_28 (dk_at dksX0_cheapestWay_6 19 rfl rfl)
theorem dX0_cheapestWay_160 : decode cX0_cheapestWay 160 = .ok (.iaload, 1) := dk_46 (dk_at dksX0_cheapestWay_6 20 rfl rfl)
theorem dX0_cheapestWay_161 : decode cX0_cheapestWay 161 = .ok (.iadd, 1) := dk_96 (dk_at dksX0_cheapestWay_6 21 rfl rfl)
theorem dX0_cheapestWay_162 : decode cX0_cheapestWay 162 = .ok (.iastore, 1) := dk_79 (dk_at dksX0_cheapestWay_6 22 rfl rfl)
theorem dX0_cheapestWay_163 : decode cX0_cheapestWay 163 = .ok (.aload_n 0, 1) := dk_42 (dk_at dksX0_cheapestWay_6 23 rfl rfl)
theorem dX0_cheapestWay_164 : decode cX0_cheapestWay 164 = .ok (.getfield 153, 3) := dk_180 0 153 (dk_at dksX0_cheapestWay_7 0 rfl rfl)
theorem dX0_cheapestWay_167 : decode cX0_cheapestWay 167 = .ok (.iload 4, 2) := dk_21 4 (dk_at dksX0_cheapestWay_7 3 rfl rfl)
theorem dX0_cheapestWay_169 : decode cX0_cheapestWay 169 = .ok (.iload_n 3, 1) := dk_29 (dk_at dksX0_cheapestWay_7 5 rfl rfl)
theorem dX0_cheapestWay_170 : decode cX0_cheapestWay 170 = .ok (.iastore, 1) := dk_79 (dk_at dksX0_cheapestWay_7 6 rfl rfl)
theorem dX0_cheapestWay_171 : decode cX0_cheapestWay 171 = .ok (.iconst 1, 1) := dk_4 (dk_at dksX0_cheapestWay_7 7 rfl rfl)
theorem dX0_cheapestWay_172 : decode cX0_cheapestWay 172 = .ok (.istore_n 1, 1) := dk_60 (dk_at dksX0_cheapestWay_7 8 rfl rfl)
theorem dX0_cheapestWay_173 : decode cX0_cheapestWay 173 = .ok (.aload_n 0, 1) := dk_42 (dk_at dksX0_cheapestWay_7 9 rfl rfl)
theorem dX0_cheapestWay_174 : decode cX0_cheapestWay 174 = .ok (.getfield 147, 3) := dk_180 0 147 (dk_at dksX0_cheapestWay_7 10 rfl rfl)
theorem dX0_cheapestWay_177 : decode cX0_cheapestWay 177 = .ok (.iload_n 2, 1) := dk_28 (dk_at dksX0_cheapestWay_7 13 rfl rfl)
theorem dX0_cheapestWay_178 : decode cX0_cheapestWay 178 = .ok (.iaload, 1) := dk_46 (dk_at dksX0_cheapestWay_7 14 rfl rfl)
theorem dX0_cheapestWay_179 : decode cX0_cheapestWay 179 = .ok (.ifCond .le 69, 3) := dk_158 0 69 (dk_at dksX0_cheapestWay_7 15 rfl rfl)
theorem dX0_cheapestWay_182 : decode cX0_cheapestWay 182 = .ok (.aload_n 0, 1) := dk_42 (dk_at dksX0_cheapestWay_7 18 rfl rfl)
theorem dX0_cheapestWay_183 : decode cX0_cheapestWay 183 = .ok (.getfield 150, 3) := dk_180 0 150 (dk_at dksX0_cheapestWay_7 19 rfl rfl)
theorem dX0_cheapestWay_186 : decode cX0_cheapestWay 186 = .ok (.iload 4, 2) := dk_21 4 (dk_at dksX0_cheapestWay_7 22 rfl rfl)
theorem dX0_cheapestWay_188 : decode cX0_cheapestWay 188 = .ok (.iaload, 1) := dk_46 (dk_at dksX0_cheapestWay_8 0 rfl rfl)
theorem dX0_cheapestWay_189 : decode cX0_cheapestWay 189 = .ok (.ldc_w 429, 3) := dk_19 1 173 (dk_at dksX0_cheapestWay_8 1 rfl rfl)
theorem dX0_cheapestWay_192 : decode cX0_cheapestWay 192 = .ok (.if_icmp .eq 56, 3) := dk_159 0 56 (dk_at dksX0_cheapestWay_8 4 rfl rfl)
theorem dX0_cheapestWay_195 : decode cX0_cheapestWay 195 = .ok (.aload_n 0, 1) := dk_42 (dk_at dksX0_cheapestWay_8 7 rfl rfl)
theorem dX0_cheapestWay_196 : decode cX0_cheapestWay 196 = .ok (.getfield 150, 3) := dk_180 0 150 (dk_at dksX0_cheapestWay_8 8 rfl rfl)
theorem dX0_cheapestWay_199 : decode cX0_cheapestWay 199 = .ok (.iload 4, 2) := dk_21 4 (dk_at dksX0_cheapestWay_8 11 rfl rfl)
theorem dX0_cheapestWay_201 : decode cX0_cheapestWay 201 = .ok (.iaload, 1) := dk_46 (dk_at dksX0_cheapestWay_8 13 rfl rfl)
theorem dX0_cheapestWay_202 : decode cX0_cheapestWay 202 = .ok (.aload_n 0, 1) := dk_42 (dk_at dksX0_cheapestWay_8 14 rfl rfl)
theorem dX0_cheapestWay_203 : decode cX0_cheapestWay 203 = .ok (.getfield 144, 3) := dk_180 0 144 (dk_at dksX0_cheapestWay_8 15 rfl rfl)
theorem dX0_cheapestWay_206 : decode cX0_cheapestWay 206 = .ok (.iload_n 2, 1) := dk_28 (dk_at dksX0_cheapestWay_8 18 rfl rfl)
theorem dX0_cheapestWay_207 : decode cX0_cheapestWay 207 = .ok (.iaload, 1) := dk_46 (dk_at dksX0_cheapestWay_8 19 rfl rfl)
theorem dX0_cheapestWay_208 : decode cX0_cheapestWay 208 = .ok (.isub, 1) := dk_100 (dk_at dksX0_cheapestWay_8 20 rfl rfl)
theorem dX0_cheapestWay_209 : decode cX0_cheapestWay 209 = .ok (.aload_n 0, 1) := dk_42 (dk_at dksX0_cheapestWay_8 21 rfl rfl)
theorem dX0_cheapestWay_210 : decode cX0_cheapestWay 210 = .ok (.getfield 150, 3) := dk_180 0 150 (dk_at dksX0_cheapestWay_9 0 rfl rfl)
theorem dX0_cheapestWay_213 : decode cX0_cheapestWay 213 = .ok (.iload_n 3, 1) := dk_29 (dk_at dksX0_cheapestWay_9 3 rfl rfl)
theorem dX0_cheapestWay_214 : decode cX0_cheapestWay 214 = .ok (.iaload, 1) := dk_46 (dk_at dksX0_cheapestWay_9 4 rfl rfl)
theorem dX0_cheapestWay_215 : decode cX0_cheapestWay 215 = .ok (.if_icmp .ge 33, 3) := dk_162 0 33 (dk_at dksX0_cheapestWay_9 5 rfl rfl)
theorem dX0_cheapestWay_218 : decode cX0_cheapestWay 218 = .ok (.aload_n 0, 1) := dk_42 (dk_at dksX0_cheapestWay_9 8 rfl rfl)
theorem dX0_cheapestWay_219 : decode cX0_cheapestWay 219 = .ok (.getfield 150, 3) := dk_180 0 150 (dk_at dksX0_cheapestWay_9 9 rfl rfl)
theorem dX0_cheapestWay_222 : decode cX0_cheapestWay 222 = .ok (.iload_n 3, 1) := dk_29 (dk_at dksX0_cheapestWay_9 12 rfl rfl)
theorem dX0_cheapestWay_223 : decode cX0_cheapestWay 223 = .ok (.aload_n 0, 1) := dk_42 (dk_at dksX0_cheapestWay_9 13 rfl rfl)
theorem dX0_cheapestWay_224 : decode cX0_cheapestWay 224 = .ok (.getfield 150, 3) := dk_180 0 150 (dk_at dksX0_cheapestWay_9 14 rfl rfl)
theorem dX0_cheapestWay_227 : decode cX0_cheapestWay 227 = .ok (.iload 4, 2) := dk_21 4 (dk_at dksX0_cheapestWay_9 17 rfl rfl)
theorem dX0_cheapestWay_229 : decode cX0_cheapestWay 229 = .ok (.iaload, 1) := dk_46 (dk_at dksX0_cheapestWay_9 19 rfl rfl)
theorem dX0_cheapestWay_230 : decode cX0_cheapestWay 230 = .ok (.aload_n 0, 1) := dk_42 (dk_at dksX0_cheapestWay_9 20 rfl rfl)
theorem dX0_cheapestWay_231 : decode cX0_cheapestWay 231 = .ok (.getfield 144, 3) := dk_180 0 144 (dk_at dksX0_cheapestWay_9 21 rfl rfl)
theorem dX0_cheapestWay_234 : decode cX0_cheapestWay 234 = .ok (.iload_n 2, 1) := dk_28 (dk_at dksX0_cheapestWay_10 0 rfl rfl)
theorem dX0_cheapestWay_235 : decode cX0_cheapestWay 235 = .ok (.iaload, 1) := dk_46 (dk_at dksX0_cheapestWay_10 1 rfl rfl)
theorem dX0_cheapestWay_236 : decode cX0_cheapestWay 236 = .ok (.isub, 1) := dk_100 (dk_at dksX0_cheapestWay_10 2 rfl rfl)
theorem dX0_cheapestWay_237 : decode cX0_cheapestWay 237 = .ok (.iastore, 1) := dk_79 (dk_at dksX0_cheapestWay_10 3 rfl rfl)
theorem dX0_cheapestWay_238 : decode cX0_cheapestWay 238 = .ok (.aload_n 0, 1) := dk_42 (dk_at dksX0_cheapestWay_10 4 rfl rfl)
theorem dX0_cheapestWay_239 : decode cX0_cheapestWay 239 = .ok (.getfield 153, 3) := dk_180 0 153 (dk_at dksX0_cheapestWay_10 5 rfl rfl)
theorem dX0_cheapestWay_242 : decode cX0_cheapestWay 242 = .ok (.iload_n 3, 1) := dk_29 (dk_at dksX0_cheapestWay_10 8 rfl rfl)
theorem dX0_cheapestWay_243 : decode cX0_cheapestWay 243 = .ok (.iload 4, 2) := dk_21 4 (dk_at dksX0_cheapestWay_10 9 rfl rfl)
theorem dX0_cheapestWay_245 : decode cX0_cheapestWay 245 = .ok (.iastore, 1) := dk_79 (dk_at dksX0_cheapestWay_10 11 rfl rfl)
theorem dX0_cheapestWay_246 : decode cX0_cheapestWay 246 = .ok (.iconst 1, 1) := dk_4 (dk_at dksX0_cheapestWay_10 12 rfl rfl)
theorem dX0_cheapestWay_247 : decode cX0_cheapestWay 247 = .ok (.istore_n 1, 1) := dk_60 (dk_at dksX0_cheapestWay_10 13 rfl rfl)
theorem dX0_cheapestWay_248 : decode cX0_cheapestWay 248 = .ok (.iinc 2 1, 3) := dk_132 2 1 (dk_at dksX0_cheapestWay_10 14 rfl rfl)
theorem dX0_cheapestWay_251 : decode cX0_cheapestWay 251 = .ok (.goto (-174), 3) := dk_167 255 82 (dk_at dksX0_cheapestWay_10 17 rfl rfl)
theorem dX0_cheapestWay_254 : decode cX0_cheapestWay 254 = .ok (.goto (-185), 3) := dk_167 255 71 (dk_at dksX0_cheapestWay_10 20 rfl rfl)
theorem dX0_cheapestWay_257 : decode cX0_cheapestWay 257 = .ok (.bipush (-9), 2) := dk_16 247 (dk_at dksX0_cheapestWay_11 0 rfl rfl)
theorem dX0_cheapestWay_259 : decode cX0_cheapestWay 259 = .ok (.istore_n 2, 1) := dk_61 (dk_at dksX0_cheapestWay_11 2 rfl rfl)
theorem dX0_cheapestWay_260 : decode cX0_cheapestWay 260 = .ok (.iconst 0, 1) := dk_3 (dk_at dksX0_cheapestWay_11 3 rfl rfl)
theorem dX0_cheapestWay_261 : decode cX0_cheapestWay 261 = .ok (.istore_n 3, 1) := dk_62 (dk_at dksX0_cheapestWay_11 4 rfl rfl)
theorem dX0_cheapestWay_262 : decode cX0_cheapestWay 262 = .ok (.iload_n 3, 1) := dk_29 (dk_at dksX0_cheapestWay_11 5 rfl rfl)
theorem dX0_cheapestWay_263 : decode cX0_cheapestWay 263 = .ok (.bipush 8, 2) := dk_16 8 (dk_at dksX0_cheapestWay_11 6 rfl rfl)
theorem dX0_cheapestWay_265 : decode cX0_cheapestWay 265 = .ok (.if_icmp .ge 78, 3) := dk_162 0 78 (dk_at dksX0_cheapestWay_11 8 rfl rfl)
theorem dX0_cheapestWay_268 : decode cX0_cheapestWay 268 = .ok (.aload_n 0, 1) := dk_42 (dk_at dksX0_cheapestWay_11 11 rfl rfl)
theorem dX0_cheapestWay_269 : decode cX0_cheapestWay 269 = .ok (.getfield 141, 3) := dk_180 0 141 (dk_at dksX0_cheapestWay_11 12 rfl rfl)
theorem dX0_cheapestWay_272 : decode cX0_cheapestWay 272 = .ok (.iload_n 3, 1) := dk_29 (dk_at dksX0_cheapestWay_11 15 rfl rfl)
theorem dX0_cheapestWay_273 : decode cX0_cheapestWay 273 = .ok (.iaload, 1) := dk_46 (dk_at dksX0_cheapestWay_11 16 rfl rfl)
theorem dX0_cheapestWay_274 : decode cX0_cheapestWay 274 = .ok (.ifCond .le 22, 3) := dk_158 0 22 (dk_at dksX0_cheapestWay_11 17 rfl rfl)
theorem dX0_cheapestWay_277 : decode cX0_cheapestWay 277 = .ok (.aload_n 0, 1) := dk_42 (dk_at dksX0_cheapestWay_11 20 rfl rfl)
theorem dX0_cheapestWay_278 : decode cX0_cheapestWay 278 = .ok (.getfield 150, 3) := dk_180 0 150 (dk_at dksX0_cheapestWay_11 21 rfl rfl)
theorem dX0_cheapestWay_281 : decode cX0_cheapestWay 281 = .ok (.bipush 8, 2) := dk_16 8 (dk_at dksX0_cheapestWay_12 0 rfl rfl)
theorem dX0_cheapestWay_283 : decode cX0_cheapestWay 283 = .ok (.iload_n 3, 1) := dk_29 (dk_at dksX0_cheapestWay_12 2 rfl rfl)
theorem dX0_cheapestWay_284 : decode cX0_cheapestWay 284 = .ok (.iadd, 1) := dk_96 (dk_at dksX0_cheapestWay_12 3 rfl rfl)
theorem dX0_cheapestWay_285 : decode cX0_cheapestWay 285 = .ok (.iaload, 1) := dk_46 (dk_at dksX0_cheapestWay_12 4 rfl rfl)
theorem dX0_cheapestWay_286 : decode cX0_cheapestWay 286 = .ok (.ldc_w 429, 3) := dk_19 1 173 (dk_at dksX0_cheapestWay_12 5 rfl rfl)
theorem dX0_cheapestWay_289 : decode cX0_cheapestWay 289 = .ok (.if_icmp .eq 7, 3) := dk_159 0 7 (dk_at dksX0_cheapestWay_12 8 rfl rfl)
theorem dX0_cheapestWay_292 : decode cX0_cheapestWay 292 = .ok (.iconst 1, 1) := dk_4 (dk_at dksX0_cheapestWay_12 11 rfl rfl)
theorem dX0_cheapestWay_293 : decode cX0_cheapestWay 293 = .ok (.goto 4, 3) := dk_167 0 4 (dk_at dksX0_cheapestWay_12 12 rfl rfl)
theorem dX0_cheapestWay_296 : decode cX0_cheapestWay 296 = .ok (.iconst 0, 1) := dk_3 (dk_at dksX0_cheapestWay_12 15 rfl rfl)
theorem dX0_cheapestWay_297 : decode cX0_cheapestWay 297 = .ok (.istore 4, 2) := dk_54 4 (dk_at dksX0_cheapestWay_12 16 rfl rfl)
theorem dX0_cheapestWay_299 : decode cX0_cheapestWay 299 = .ok (.iload 4, 2) := dk_21 4 (dk_at dksX0_cheapestWay_12 18 rfl rfl)
theorem dX0_cheapestWay_301 : decode cX0_cheapestWay 301 = .ok (.ifCond .eq 34, 3) := dk_153 0 34 (dk_at dksX0_cheapestWay_12 20 rfl rfl)
theorem dX0_cheapestWay_304 : decode cX0_cheapestWay 304 = .ok (.iload_n 2, 1) := dk_28 (dk_at dksX0_cheapestWay_12 23 rfl rfl)
theorem dX0_cheapestWay_305 : decode cX0_cheapestWay 305 = .ok (.bipush (-9), 2) := dk_16 247 (dk_at dksX0_cheapestWay_13 0 rfl rfl)
theorem dX0_cheapestWay_307 : decode cX0_cheapestWay 307 = .ok (.if_icmp .eq 24, 3) := dk_159 0 24 (dk_at dksX0_cheapestWay_13 2 rfl rfl)
theorem dX0_cheapestWay_310 : decode cX0_cheapestWay 310 = .ok (.aload_n 0, 1) := dk_42 (dk_at dksX0_cheapestWay_13 5 rfl rfl)
theorem dX0_cheapestWay_311 : decode cX0_cheapestWay 311 = .ok (.getfield 150, 3) := dk_180 0 150 (dk_at dksX0_cheapestWay_13 6 rfl rfl)
theorem dX0_cheapestWay_314 : decode cX0_cheapestWay 314 = .ok (.bipush 8, 2) := dk_16 8 (dk_at dksX0_cheapestWay_13 9 rfl rfl)
theorem dX0_cheapestWay_316 : decode cX0_cheapestWay 316 = .ok (.iload_n 3, 1) := dk_29 (dk_at dksX0_cheapestWay_13 11 rfl rfl)
theorem dX0_cheapestWay_317 : decode cX0_cheapestWay 317 = .ok (.iadd, 1) := dk_96 (dk_at dksX0_cheapestWay_13 12 rfl rfl)
theorem dX0_cheapestWay_318 : decode cX0_cheapestWay 318 = .ok (.iaload, 1) := dk_46 (dk_at dksX0_cheapestWay_13 13 rfl rfl)
theorem dX0_cheapestWay_319 : decode cX0_cheapestWay 319 = .ok (.aload_n 0, 1) := dk_42 (dk_at dksX0_cheapestWay_13 14 rfl rfl)
theorem dX0_cheapestWay_320 : decode cX0_cheapestWay 320 = .ok (.getfield 150, 3) := dk_180 0 150 (dk_at dksX0_cheapestWay_13 15 rfl rfl)
theorem dX0_cheapestWay_323 : decode cX0_cheapestWay 323 = .ok (.bipush 8, 2) := dk_16 8 (dk_at dksX0_cheapestWay_13 18 rfl rfl)
theorem dX0_cheapestWay_325 : decode cX0_cheapestWay 325 = .ok (.iload_n 2, 1) := dk_28 (dk_at dksX0_cheapestWay_13 20 rfl rfl)
theorem dX0_cheapestWay_326 : decode cX0_cheapestWay 326 = .ok (.iadd, 1) := dk_96 (dk_at dksX0_cheapestWay_13 21 rfl rfl)
theorem dX0_cheapestWay_327 : decode cX0_cheapestWay 327 = .ok (.iaload, 1) := dk_46 (dk_at dksX0_cheapestWay_13 22 rfl rfl)
theorem dX0_cheapestWay_328 : decode cX0_cheapestWay 328 = .ok (.if_icmp .ge 7, 3) := dk_162 0 7 (dk_at dksX0_cheapestWay_14 0 rfl rfl)
theorem dX0_cheapestWay_331 : decode cX0_cheapestWay 331 = .ok (.iload_n 3, 1) := dk_29 (dk_at dksX0_cheapestWay_14 3 rfl rfl)
theorem dX0_cheapestWay_332 : decode cX0_cheapestWay 332 = .ok (.goto 4, 3) := dk_167 0 4 (dk_at dksX0_cheapestWay_14 4 rfl rfl)
theorem dX0_cheapestWay_335 : decode cX0_cheapestWay 335 = .ok (.iload_n 2, 1) := dk_28 (dk_at dksX0_cheapestWay_14 7 rfl rfl)
theorem dX0_cheapestWay_336 : decode cX0_cheapestWay 336 = .ok (.istore_n 2, 1) := dk_61 (dk_at dksX0_cheapestWay_14 8 rfl rfl)
theorem dX0_cheapestWay_337 : decode cX0_cheapestWay 337 = .ok (.iinc 3 1, 3) := dk_132 3 1 (dk_at dksX0_cheapestWay_14 9 rfl rfl)
theorem dX0_cheapestWay_340 : decode cX0_cheapestWay 340 = .ok (.goto (-78), 3) := dk_167 255 178 (dk_at dksX0_cheapestWay_14 12 rfl rfl)
theorem dX0_cheapestWay_343 : decode cX0_cheapestWay 343 = .ok (.iload_n 2, 1) := dk_28 (dk_at dksX0_cheapestWay_14 15 rfl rfl)
theorem dX0_cheapestWay_344 : decode cX0_cheapestWay 344 = .ok (.ireturn, 1) := dk_172 (dk_at dksX0_cheapestWay_14 16 rfl rfl)
abbrev cX0_bringOne : ByteArray := prog_1_method_88_code
def yX0_bringOne : MethodName := ⟨RX0, "bringOne", "(I)V"⟩
def dkwX0_bringOne_3 : List UInt8 := [16, 8, 100, 92, 46, 4, 100, 79, 29, 61, 167, 255, 191, 42, 180, 0, 138, 28, 92, 46, 4, 100, 79, 177]
abbrev dktX0_bringOne_3 : List UInt8 := dkwX0_bringOne_3 ++ []
def dkwX0_bringOne_2 : List UInt8 := [28, 96, 16, 8, 100, 92, 46, 4, 96, 79, 167, 0, 21, 42, 180, 0, 147, 16, 8, 28, 104, 29, 96]
abbrev dktX0_bringOne_2 : List UInt8 := dkwX0_bringOne_2 ++ dktX0_bringOne_3
def dkwX0_bringOne_1 : List UInt8 := [159, 0, 60, 42, 180, 0, 153, 28, 46, 62, 28, 16, 8, 161, 0, 24, 42, 180, 0, 147, 16, 8, 29, 104]
abbrev dktX0_bringOne_1 : List UInt8 := dkwX0_bringOne_1 ++ dktX0_bringOne_2
def dkwX0_bringOne_0 : List UInt8 := [42, 180, 0, 141, 27, 92, 46, 4, 100, 79, 16, 8, 27, 96, 61, 42, 180, 0, 153, 28, 46, 16, 247]
abbrev dktX0_bringOne_0 : List UInt8 := dkwX0_bringOne_0 ++ dktX0_bringOne_1
theorem dksX0_bringOne_0 : cX0_bringOne.data.toList.drop 0 = dktX0_bringOne_0 := by decide +kernel
theorem dksX0_bringOne_1 : cX0_bringOne.data.toList.drop 23 = dktX0_bringOne_1 := dk_seg dksX0_bringOne_0 23 rfl rfl
theorem dksX0_bringOne_2 : cX0_bringOne.data.toList.drop 47 = dktX0_bringOne_2 := dk_seg dksX0_bringOne_1 24 rfl rfl
theorem dksX0_bringOne_3 : cX0_bringOne.data.toList.drop 70 = dktX0_bringOne_3 := dk_seg dksX0_bringOne_2 23 rfl rfl
theorem dX0_bringOne_0 : decode cX0_bringOne 0 = .ok (.aload_n 0, 1) := dk_42 (dk_at dksX0_bringOne_0 0 rfl rfl)
theorem dX0_bringOne_1 : decode cX0_bringOne 1 = .ok (.getfield 141, 3) := dk_180 0 141 (dk_at dksX0_bringOne_0 1 rfl rfl)
theorem dX0_bringOne_4 : decode cX0_bringOne 4 = .ok (.iload_n 1, 1) := dk_27 (dk_at dksX0_bringOne_0 4 rfl rfl)
theorem dX0_bringOne_5 : decode cX0_bringOne 5 = .ok (.dup2, 1) := dk_92 (dk_at dksX0_bringOne_0 5 rfl rfl)
theorem dX0_bringOne_6 : decode cX0_bringOne 6 = .ok (.iaload, 1) := dk_46 (dk_at dksX0_bringOne_0 6 rfl rfl)
theorem dX0_bringOne_7 : decode cX0_bringOne 7 = .ok (.iconst 1, 1) := dk_4 (dk_at dksX0_bringOne_0 7 rfl rfl)
theorem dX0_bringOne_8 : decode cX0_bringOne 8 = .ok (.isub, 1) := dk_100 (dk_at dksX0_bringOne_0 8 rfl rfl)
theorem dX0_bringOne_9 : decode cX0_bringOne 9 = .ok (.iastore, 1) := dk_79 (dk_at dksX0_bringOne_0 9 rfl rfl)
theorem dX0_bringOne_10 : decode cX0_bringOne 10 = .ok (.bipush 8, 2) := dk_16 8 (dk_at dksX0_bringOne_0 10 rfl rfl)
theorem dX0_bringOne_12 : decode cX0_bringOne 12 = .ok (.iload_n 1, 1) := dk_27 (dk_at dksX0_bringOne_0 12 rfl rfl)
theorem dX0_bringOne_13 : decode cX0_bringOne 13 = .ok (.iadd, 1) := dk_96 (dk_at dksX0_bringOne_0 13 rfl rfl)
theorem dX0_bringOne_14 : decode cX0_bringOne 14 = .ok (.istore_n 2, 1) := dk_61 (dk_at dksX0_bringOne_0 14 rfl rfl)
theorem dX0_bringOne_15 : decode cX0_bringOne 15 = .ok (.aload_n 0, 1) := dk_42 (dk_at dksX0_bringOne_0 15 rfl rfl)
theorem dX0_bringOne_16 : decode cX0_bringOne 16 = .ok (.getfield 153, 3) := dk_180 0 153 (dk_at dksX0_bringOne_0 16 rfl rfl)
theorem dX0_bringOne_19 : decode cX0_bringOne 19 = .ok (.iload_n 2, 1) := dk_28 (dk_at dksX0_bringOne_0 19 rfl rfl)
theorem dX0_bringOne_20 : decode cX0_bringOne 20 = .ok (.iaload, 1) := dk_46 (dk_at dksX0_bringOne_0 20 rfl rfl)
theorem dX0_bringOne_21 : decode cX0_bringOne 21 = .ok (.bipush (-9), 2) := dk_16 247 (dk_at dksX0_bringOne_0 21 rfl rfl)
theorem dX0_bringOne_23 : decode cX0_bringOne 23 = .ok (.if_icmp .eq 60, 3) := dk_159 0 60 (dk_at dksX0_bringOne_1 0 rfl rfl)
theorem dX0_bringOne_26 : decode cX0_bringOne 26 = .ok (.aload_n 0, 1) := dk_42 (dk_at dksX0_bringOne_1 3 rfl rfl)
theorem dX0_bringOne_27 : decode cX0_bringOne 27 = .ok (.getfield 153, 3) := dk_180 0 153 (dk_at dksX0_bringOne_1 4 rfl rfl)
theorem dX0_bringOne_30 : decode cX0_bringOne 30 = .ok (.iload_n 2, 1) := dk_28 (dk_at dksX0_bringOne_1 7 rfl rfl)
theorem dX0_bringOne_31 : decode cX0_bringOne 31 = .ok (.iaload, 1) := dk_46 (dk_at dksX0_bringOne_1 8 rfl rfl)
theorem dX0_bringOne_32 : decode cX0_bringOne 32 = .ok (.istore_n 3, 1) := dk_62 (dk_at dksX0_bringOne_1 9 rfl rfl)
theorem dX0_bringOne_33 : decode cX0_bringOne 33 = .ok (.iload_n 2, 1) := dk_28 (dk_at dksX0_bringOne_1 10 rfl rfl)
theorem dX0_bringOne_34 : decode cX0_bringOne 34 = .ok (.bipush 8, 2) := dk_16 8 (dk_at dksX0_bringOne_1 11 rfl rfl)
theorem dX0_bringOne_36 : decode cX0_bringOne 36 = .ok (.if_icmp .lt 24, 3) := dk_161 0 24 (dk_at dksX0_bringOne_1 13 rfl rfl)
theorem dX0_bringOne_39 : decode cX0_bringOne 39 = .ok (.aload_n 0, 1) := dk_42 (dk_at dksX0_bringOne_1 16 rfl rfl)
theorem dX0_bringOne_40 : decode cX0_bringOne 40 = .ok (.getfield 147, 3) := dk_180 0 147 (dk_at dksX0_bringOne_1 17 rfl rfl)
theorem dX0_bringOne_43 : decode cX0_bringOne 43 = .ok (.bipush 8, 2) := dk_16 8 (dk_at dksX0_bringOne_1 20 rfl rfl)
theorem dX0_bringOne_45 : decode cX0_bringOne 45 = .ok (.iload_n 3, 1) := dk_29 (dk_at dksX0_bringOne_1 22 rfl rfl)
theorem dX0_bringOne_46 : decode cX0_bringOne 46 = .ok (.imul, 1) := dk_104 (dk_at dksX0_bringOne_1 23 rfl rfl)
theorem dX0_bringOne_47 : decode cX0_bringOne 47 = .ok (.iload_n 2, 1) := dk_28 (dk_at dksX0_bringOne_2 0 rfl rfl)
theorem dX0_bringOne_48 : decode cX0_bringOne 48 = .ok (.iadd, 1) := dk_96 (dk_at dksX0_bringOne_2 1 rfl rfl)
theorem dX0_bringOne_49 : decode cX0_bringOne 49 = .ok (.bipush 8, 2) := dk_16 8 (dk_at dksX0_bringOne_2 2 rfl rfl)
theorem dX0_bringOne_51 : decode cX0_bringOne 51 = .ok (.isub, 1) := dk_100 (dk_at dksX0_bringOne_2 4 rfl rfl)
theorem dX0_bringOne_52 : decode cX0_bringOne 52 = .ok (.dup2, 1) := dk_92 (dk_at dksX0_bringOne_2 5 rfl rfl)
theorem dX0_bringOne_53 : decode cX0_bringOne 53 = .ok (.iaload, 1) := dk_46 (dk_at dksX0_bringOne_2 6 rfl rfl)
theorem dX0_bringOne_54 : decode cX0_bringOne 54 = .ok (.iconst 1, 1) := dk_4 (dk_at dksX0_bringOne_2 7 rfl rfl)
theorem dX0_bringOne_55 : decode cX0_bringOne 55 = .ok (.iadd, 1) := dk_96 (dk_at dksX0_bringOne_2 8 rfl rfl)
theorem dX0_bringOne_56 : decode cX0_bringOne 56 = .ok (.iastore, 1) := dk_79 (dk_at dksX0_bringOne_2 9 rfl rfl)
theorem dX0_bringOne_57 : decode cX0_bringOne 57 = .ok (.goto 21, 3) := dk_167 0 21 (dk_at dksX0_bringOne_2 10 rfl rfl)
theorem dX0_bringOne_60 : decode cX0_bringOne 60 = .ok (.aload_n 0, 1) := dk_42 (dk_at dksX0_bringOne_2 13 rfl rfl)
theorem dX0_bringOne_61 : decode cX0_bringOne 61 = .ok (.getfield 147, 3) := dk_180 0 147 (dk_at dksX0_bringOne_2 14 rfl rfl)
theorem dX0_bringOne_64 : decode cX0_bringOne 64 = .ok (.bipush 8, 2) := dk_16 8 (dk_at dksX0_bringOne_2 17 rfl rfl)
theorem dX0_bringOne_66 : decode cX0_bringOne 66 = .ok (.iload_n 2, 1) := dk_28 (dk_at dksX0_bringOne_2 19 rfl rfl)
theorem dX0_bringOne_67 : decode cX0_bringOne 67 = .ok (.imul, 1) := dk_104 (dk_at dksX0_bringOne_2 20 rfl rfl)
theorem dX0_bringOne_68 : decode cX0_bringOne 68 = .ok (.iload_n 3, 1) := dk_29 (dk_at dksX0_bringOne_2 21 rfl rfl)
theorem dX0_bringOne_69 : decode cX0_bringOne 69 = .ok (.iadd, 1) := dk_96 (dk_at dksX0_bringOne_2 22 rfl rfl)
theorem dX0_bringOne_70 : decode cX0_bringOne 70 = .ok (.bipush 8, 2) := dk_16 8 (dk_at dksX0_bringOne_3 0 rfl rfl)
theorem dX0_bringOne_72 : decode cX0_bringOne 72 = .ok (.isub, 1) := dk_100 (dk_at dksX0_bringOne_3 2 rfl rfl)
theorem dX0_bringOne_73 : decode cX0_bringOne 73 = .ok (.dup2, 1) := dk_92 (dk_at dksX0_bringOne_3 3 rfl rfl)
theorem dX0_bringOne_74 : decode cX0_bringOne 74 = .ok (.iaload, 1) := dk_46 (dk_at dksX0_bringOne_3 4 rfl rfl)
theorem dX0_bringOne_75 : decode cX0_bringOne 75 = .ok (.iconst 1, 1) := dk_4 (dk_at dksX0_bringOne_3 5 rfl rfl)
theorem dX0_bringOne_76 : decode cX0_bringOne 76 = .ok (.isub, 1) := dk_100 (dk_at dksX0_bringOne_3 6 rfl rfl)
theorem dX0_bringOne_77 : decode cX0_bringOne 77 = .ok (.iastore, 1) := dk_79 (dk_at dksX0_bringOne_3 7 rfl rfl)
theorem dX0_bringOne_78 : decode cX0_bringOne 78 = .ok (.iload_n 3, 1) := dk_29 (dk_at dksX0_bringOne_3 8 rfl rfl)
theorem dX0_bringOne_79 : decode cX0_bringOne 79 = .ok (.istore_n 2, 1) := dk_61 (dk_at dksX0_bringOne_3 9 rfl rfl)
theorem dX0_bringOne_80 : decode cX0_bringOne 80 = .ok (.goto (-65), 3) := dk_167 255 191 (dk_at dksX0_bringOne_3 10 rfl rfl)
theorem dX0_bringOne_83 : decode cX0_bringOne 83 = .ok (.aload_n 0, 1) := dk_42 (dk_at dksX0_bringOne_3 13 rfl rfl)
theorem dX0_bringOne_84 : decode cX0_bringOne 84 = .ok (.getfield 138, 3) := dk_180 0 138 (dk_at dksX0_bringOne_3 14 rfl rfl)
theorem dX0_bringOne_87 : decode cX0_bringOne 87 = .ok (.iload_n 2, 1) := dk_28 (dk_at dksX0_bringOne_3 17 rfl rfl)
theorem dX0_bringOne_88 : decode cX0_bringOne 88 = .ok (.dup2, 1) := dk_92 (dk_at dksX0_bringOne_3 18 rfl rfl)
theorem dX0_bringOne_89 : decode cX0_bringOne 89 = .ok (.iaload, 1) := dk_46 (dk_at dksX0_bringOne_3 19 rfl rfl)
theorem dX0_bringOne_90 : decode cX0_bringOne 90 = .ok (.iconst 1, 1) := dk_4 (dk_at dksX0_bringOne_3 20 rfl rfl)
theorem dX0_bringOne_91 : decode cX0_bringOne 91 = .ok (.isub, 1) := dk_100 (dk_at dksX0_bringOne_3 21 rfl rfl)
theorem dX0_bringOne_92 : decode cX0_bringOne 92 = .ok (.iastore, 1) := dk_79 (dk_at dksX0_bringOne_3 22 rfl rfl)
theorem dX0_bringOne_93 : decode cX0_bringOne 93 = .ok (.return_, 1) := dk_177 (dk_at dksX0_bringOne_3 23 rfl rfl)
abbrev cX0_rent : ByteArray := prog_1_method_90_code
def yX0_rent : MethodName := ⟨RX0, "rent", "(IIIII)I"⟩
def dkwX0_rent_16 : List UInt8 := [172]
abbrev dktX0_rent_16 : List UInt8 := dkwX0_rent_16 ++ []
def dkwX0_rent_15 : List UInt8 := [180, 0, 156, 21, 10, 21, 11, 79, 21, 11, 54, 9, 132, 10, 1, 167, 255, 186, 42, 180, 0, 159, 3, 46]
abbrev dktX0_rent_15 : List UInt8 := dkwX0_rent_15 ++ dktX0_rent_16
def dkwX0_rent_14 : List UInt8 := [42, 180, 0, 159, 16, 10, 21, 10, 104, 21, 9, 96, 46, 159, 0, 9, 132, 11, 1, 167, 255, 215, 42]
abbrev dktX0_rent_14 : List UInt8 := dkwX0_rent_14 ++ dktX0_rent_15
def dkwX0_rent_13 : List UInt8 := [54, 11, 42, 21, 10, 21, 9, 21, 11, 25, 6, 21, 10, 46, 28, 100, 29, 21, 4, 21, 5, 182, 1, 181]
abbrev dktX0_rent_13 : List UInt8 := dkwX0_rent_13 ++ dktX0_rent_14
def dkwX0_rent_12 : List UInt8 := [167, 255, 150, 42, 21, 8, 181, 1, 185, 3, 54, 9, 3, 54, 10, 21, 10, 21, 8, 162, 0, 69, 3]
abbrev dktX0_rent_12 : List UInt8 := dkwX0_rent_12 ++ dktX0_rent_13
def dkwX0_rent_11 : List UInt8 := [180, 0, 159, 16, 10, 21, 9, 104, 21, 10, 96, 21, 11, 79, 132, 10, 1, 167, 255, 164, 132, 9, 255]
abbrev dktX0_rent_11 : List UInt8 := dkwX0_rent_11 ++ dktX0_rent_12
def dkwX0_rent_10 : List UInt8 := [21, 13, 21, 11, 162, 0, 8, 21, 13, 167, 0, 5, 21, 11, 54, 11, 132, 12, 1, 167, 255, 199, 42]
abbrev dktX0_rent_10 : List UInt8 := dkwX0_rent_10 ++ dktX0_rent_11
def dkwX0_rent_9 : List UInt8 := [25, 6, 21, 9, 46, 28, 100, 29, 21, 4, 21, 5, 182, 1, 181, 54, 13, 21, 11, 16, 247, 159, 0, 10]
abbrev dktX0_rent_9 : List UInt8 := dkwX0_rent_9 ++ dktX0_rent_10
def dkwX0_rent_8 : List UInt8 := [162, 0, 91, 16, 247, 54, 11, 3, 54, 12, 21, 12, 16, 10, 162, 0, 56, 42, 21, 9, 21, 10, 21, 12]
abbrev dktX0_rent_8 : List UInt8 := dkwX0_rent_8 ++ dktX0_rent_9
def dkwX0_rent_7 : List UInt8 := [132, 9, 1, 167, 255, 232, 21, 8, 4, 100, 54, 9, 21, 9, 155, 0, 107, 3, 54, 10, 21, 10, 16, 10]
abbrev dktX0_rent_7 : List UInt8 := dkwX0_rent_7 ++ dktX0_rent_8
def dkwX0_rent_6 : List UInt8 := [54, 9, 21, 9, 16, 10, 162, 0, 23, 42, 180, 0, 159, 16, 10, 21, 8, 104, 21, 9, 96, 3, 79]
abbrev dktX0_rent_6 : List UInt8 := dkwX0_rent_6 ++ dktX0_rent_7
def dkwX0_rent_5 : List UInt8 := [132, 8, 1, 167, 255, 229, 21, 7, 154, 0, 9, 42, 6, 182, 0, 181, 172, 25, 6, 190, 54, 8, 3]
abbrev dktX0_rent_5 : List UInt8 := dkwX0_rent_5 ++ dktX0_rent_6
def dkwX0_rent_4 : List UInt8 := [25, 6, 190, 162, 0, 25, 21, 7, 25, 6, 21, 8, 46, 3, 16, 9, 184, 0, 171, 126, 54, 7]
abbrev dktX0_rent_4 : List UInt8 := dkwX0_rent_4 ++ dktX0_rent_5
def dkwX0_rent_3 : List UInt8 := [182, 0, 181, 172, 25, 6, 190, 154, 0, 9, 42, 8, 182, 0, 181, 172, 4, 54, 7, 3, 54, 8, 21, 8]
abbrev dktX0_rent_3 : List UInt8 := dkwX0_rent_3 ++ dktX0_rent_4
def dkwX0_rent_2 : List UInt8 := [184, 0, 171, 154, 0, 5, 2, 172, 42, 180, 0, 25, 27, 50, 58, 6, 25, 6, 199, 0, 9, 42, 4]
abbrev dktX0_rent_2 : List UInt8 := dkwX0_rent_2 ++ dktX0_rent_3
def dkwX0_rent_1 : List UInt8 := [184, 0, 171, 153, 0, 27, 21, 4, 3, 17, 3, 232, 184, 0, 171, 153, 0, 15, 21, 5, 3, 17, 3, 232]
abbrev dktX0_rent_1 : List UInt8 := dkwX0_rent_1 ++ dktX0_rent_2
def dkwX0_rent_0 : List UInt8 := [27, 184, 0, 175, 153, 0, 48, 28, 3, 16, 9, 184, 0, 171, 153, 0, 38, 29, 3, 17, 3, 232]
abbrev dktX0_rent_0 : List UInt8 := dkwX0_rent_0 ++ dktX0_rent_1
theorem dksX0_rent_0 : cX0_rent.data.toList.drop 0 = dktX0_rent_0 := by decide +kernel
theorem dksX0_rent_1 : cX0_rent.data.toList.drop 22 = dktX0_rent_1 := dk_seg dksX0_rent_0 22 rfl rfl
theorem dksX0_rent_2 : cX0_rent.data.toList.drop 46 = dktX0_rent_2 := dk_seg dksX0_rent_1 24 rfl rfl
theorem dksX0_rent_3 : cX0_rent.data.toList.drop 69 = dktX0_rent_3 := dk_seg dksX0_rent_2 23 rfl rfl
theorem dksX0_rent_4 : cX0_rent.data.toList.drop 93 = dktX0_rent_4 := dk_seg dksX0_rent_3 24 rfl rfl
theorem dksX0_rent_5 : cX0_rent.data.toList.drop 115 = dktX0_rent_5 := dk_seg dksX0_rent_4 22 rfl rfl
theorem dksX0_rent_6 : cX0_rent.data.toList.drop 138 = dktX0_rent_6 := dk_seg dksX0_rent_5 23 rfl rfl
theorem dksX0_rent_7 : cX0_rent.data.toList.drop 161 = dktX0_rent_7 := dk_seg dksX0_rent_6 23 rfl rfl
theorem dksX0_rent_8 : cX0_rent.data.toList.drop 185 = dktX0_rent_8 := dk_seg dksX0_rent_7 24 rfl rfl
theorem dksX0_rent_9 : cX0_rent.data.toList.drop 209 = dktX0_rent_9 := dk_seg dksX0_rent_8 24 rfl rfl
theorem dksX0_rent_10 : cX0_rent.data.toList.drop 233 = dktX0_rent_10 := dk_seg dksX0_rent_9 24 rfl rfl
theorem dksX0_rent_11 : cX0_rent.data.toList.drop 256 = dktX0_rent_11 := dk_seg dksX0_rent_10 23 rfl rfl
theorem dksX0_rent_12 : cX0_rent.data.toList.drop 279 = dktX0_rent_12 := dk_seg dksX0_rent_11 23 rfl rfl
theorem dksX0_rent_13 : cX0_rent.data.toList.drop 302 = dktX0_rent_13 := dk_seg dksX0_rent_12 23 rfl rfl
theorem dksX0_rent_14 : cX0_rent.data.toList.drop 326 = dktX0_rent_14 := dk_seg dksX0_rent_13 24 rfl rfl
theorem dksX0_rent_15 : cX0_rent.data.toList.drop 349 = dktX0_rent_15 := dk_seg dksX0_rent_14 23 rfl rfl
theorem dksX0_rent_16 : cX0_rent.data.toList.drop 373 = dktX0_rent_16 := dk_seg dksX0_rent_15 24 rfl rfl
theorem dX0_rent_0 : decode cX0_rent 0 = .ok (.iload_n 1, 1) := dk_27 (dk_at dksX0_rent_0 0 rfl rfl)
theorem dX0_rent_1 : decode cX0_rent 1 = .ok (.invokestatic 175, 3) := dk_184 0 175 (dk_at dksX0_rent_0 1 rfl rfl)
theorem dX0_rent_4 : decode cX0_rent 4 = .ok (.ifCond .eq 48, 3) := dk_153 0 48 (dk_at dksX0_rent_0 4 rfl rfl)
theorem dX0_rent_7 : decode cX0_rent 7 = .ok (.iload_n 2, 1) := dk_28 (dk_at dksX0_rent_0 7 rfl rfl)
theorem dX0_rent_8 : decode cX0_rent 8 = .ok (.iconst 0, 1) := dk_3 (dk_at dksX0_rent_0 8 rfl rfl)
theorem dX0_rent_9 : decode cX0_rent 9 = .ok (.bipush 9, 2) := dk_16 9 (dk_at dksX0_rent_0 9 rfl rfl)
theorem dX0_rent_11 : decode cX0_rent 11 = .ok (.invokestatic 171, 3) := dk_184 0 171 (dk_at dksX0_rent_0 11 rfl rfl)
theorem dX0_rent_14 : decode cX0_rent 14 = .ok (.ifCond .eq 38, 3) := dk_153 0 38 (dk_at dksX0_rent_0 14 rfl rfl)
theorem dX0_rent_17 : decode cX0_rent 17 = .ok (.iload_n 3, 1) := dk_29 (dk_at dksX0_rent_0 17 rfl rfl)
theorem dX0_rent_18 : decode cX0_rent 18 = .ok (.iconst 0, 1) := dk_3 (dk_at dksX0_rent_0 18 rfl rfl)
theorem dX0_rent_19 : decode cX0_rent 19 = .ok (.sipush 1000, 3) := dk_17 3 232 (dk_at dksX0_rent_0 19 rfl rfl)
theorem dX0_rent_22 : decode cX0_rent 22 = .ok (.invokestatic 171, 3) := dk_184 0 171 (dk_at dksX0_rent_1 0 rfl rfl)
theorem dX0_rent_25 : decode cX0_rent 25 = .ok (.ifCond .eq 27, 3) := dk_153 0 27 (dk_at dksX0_rent_1 3 rfl rfl)
theorem dX0_rent_28 : decode cX0_rent 28 = .ok (.iload 4, 2) := dk_21 4 (dk_at dksX0_rent_1 6 rfl rfl)
theorem dX0_rent_30 : decode cX0_rent 30 = .ok (.iconst 0, 1) := dk_3 (dk_at dksX0_rent_1 8 rfl rfl)
theorem dX0_rent_31 : decode cX0_rent 31 = .ok (.sipush 1000, 3) := dk_17 3 232 (dk_at dksX0_rent_1 9 rfl rfl)
theorem dX0_rent_34 : decode cX0_rent 34 = .ok (.invokestatic 171, 3) := dk_184 0 171 (dk_at dksX0_rent_1 12 rfl rfl)
theorem dX0_rent_37 : decode cX0_rent 37 = .ok (.ifCond .eq 15, 3) := dk_153 0 15 (dk_at dksX0_rent_1 15 rfl rfl)
theorem dX0_rent_40 : decode cX0_rent 40 = .ok (.iload 5, 2) := dk_21 5 (dk_at dksX0_rent_1 18 rfl rfl)
theorem dX0_rent_42 : decode cX0_rent 42 = .ok (.iconst 0, 1) := dk_3 (dk_at dksX0_rent_1 20 rfl rfl)
theorem dX0_rent_43 : decode cX0_rent 43 = .ok (.sipush 1000, 3) := dk_17 3 232 (dk_at dksX0_rent_1 21 rfl rfl)
theorem dX0_rent_46 : decode cX0_rent 46 = .ok (.invokestatic 171, 3) := dk_184 0 171 (dk_at dksX0_rent_2 0 rfl rfl)
theorem dX0_rent_49 : decode cX0_rent 49 = .ok (.ifCond .ne 5, 3) := dk_154 0 5 (dk_at dksX0_rent_2 3 rfl rfl)
theorem dX0_rent_52 : decode cX0_rent 52 = .ok (.iconst (-1), 1) := dk_2 (dk_at dksX0_rent_2 6 rfl rfl)
theorem dX0_rent_53 : decode cX0_rent 53 = .ok (.ireturn, 1) := dk_172 (dk_at dksX0_rent_2 7 rfl rfl)
theorem dX0_rent_54 : decode cX0_rent 54 = .ok (.aload_n 0, 1) := dk_42 (dk_at dksX0_rent_2 8 rfl rfl)
theorem dX0_rent_55 : decode cX0_rent 55 = .ok (.getfield 25, 3) := dk_180 0 25 (dk_at dksX0_rent_2 9 rfl rfl)
theorem dX0_rent_58 : decode cX0_rent 58 = .ok (.iload_n 1, 1) := dk_27 (dk_at dksX0_rent_2 12 rfl rfl)
theorem dX0_rent_59 : decode cX0_rent 59 = .ok (.aaload, 1) := dk_50 (dk_at dksX0_rent_2 13 rfl rfl)
theorem dX0_rent_60 : decode cX0_rent 60 = .ok (.astore 6, 2) := dk_58 6 (dk_at dksX0_rent_2 14 rfl rfl)
theorem dX0_rent_62 : decode cX0_rent 62 = .ok (.aload 6, 2) := dk_25 6 (dk_at dksX0_rent_2 16 rfl rfl)
theorem dX0_rent_64 : decode cX0_rent 64 = .ok (.ifnonnull 9, 3) := dk_199 0 9 (dk_at dksX0_rent_2 18 rfl rfl)
theorem dX0_rent_67 : decode cX0_rent 67 = .ok (.aload_n 0, 1) := dk_42 (dk_at dksX0_rent_2 21 rfl rfl)
theorem dX0_rent_68 : decode cX0_rent 68 = .ok (.iconst 1, 1) := dk_4 (dk_at dksX0_rent_2 22 rfl rfl)
theorem dX0_rent_69 : decode cX0_rent 69 = .ok (.invokevirtual 181, 3) := dk_182 0 181 (dk_at dksX0_rent_3 0 rfl rfl)
theorem dX0_rent_72 : decode cX0_rent 72 = .ok (.ireturn, 1) := dk_172 (dk_at dksX0_rent_3 3 rfl rfl)
theorem dX0_rent_73 : decode cX0_rent 73 = .ok (.aload 6, 2) := dk_25 6 (dk_at dksX0_rent_3 4 rfl rfl)
theorem dX0_rent_75 : decode cX0_rent 75 = .ok (.arraylength, 1) := dk_190 (dk_at dksX0_rent_3 6 rfl rfl)
theorem dX0_rent_76 : decode cX0_rent 76 = .ok (.ifCond .ne 9, 3) := dk_154 0 9 (dk_at dksX0_rent_3 7 rfl rfl)
theorem dX0_rent_79 : decode cX0_rent 79 = .ok (.aload_n 0, 1) := dk_42 (dk_at dksX0_rent_3 10 rfl rfl)
theorem dX0_rent_80 : decode cX0_rent 80 = .ok (.iconst 5, 1) := dk_8 (dk_at dksX0_rent_3 11 rfl rfl)
theorem dX0_rent_81 : decode cX0_rent 81 = .ok (.invokevirtual 181, 3) := dk_182 0 181 (dk_at dksX0_rent_3 12 rfl rfl)
theorem dX0_rent_84 : decode cX0_rent 84 = .ok (.ireturn, 1) := dk_172 (dk_at dksX0_rent_3 15 rfl rfl)
theorem dX0_rent_85 : decode cX0_rent 85 = .ok (.iconst 1, 1) := dk_4 (dk_at dksX0_rent_3 16 rfl rfl)
theorem dX0_rent_86 : decode cX0_rent 86 = .ok (.istore 7, 2) := dk_54 7 (dk_at dksX0_rent_3 17 rfl rfl)
theorem dX0_rent_88 : decode cX0_rent 88 = .ok (.iconst 0, 1) := dk_3 (dk_at dksX0_rent_3 19 rfl rfl)
theorem dX0_rent_89 : decode cX0_rent 89 = .ok (.istore 8, 2) := dk_54 8 (dk_at dksX0_rent_3 20 rfl rfl)
theorem dX0_rent_91 : decode cX0_rent 91 = .ok (.iload 8, 2) := dk_21 8 (dk_at dksX0_rent_3 22 rfl rfl)
theorem dX0_rent_93 : decode cX0_rent 93 = .ok (.aload 6, 2) := dk_25 6 (dk_at dksX0_rent_4 0 rfl rfl)
theorem dX0_rent_95 : decode cX0_rent 95 = .ok (.arraylength, 1) := dk_190 (dk_at dksX0_rent_4 2 rfl rfl)
theorem dX0_rent_96 : decode cX0_rent 96 = .ok (.if_icmp .ge 25, 3) := dk_162 0 25 (dk_at dksX0_rent_4 3 rfl rfl)
theorem dX0_rent_99 : decode cX0_rent 99 = .ok (.iload 7, 2) := dk_21 7 (dk_at dksX0_rent_4 6 rfl rfl)
theorem dX0_rent_101 : decode cX0_rent 101 = .ok (.aload 6, 2) := dk_25 6 (dk_at dksX0_rent_4 8 rfl rfl)
theorem dX0_rent_103 : decode cX0_rent 103 = .ok (.iload 8, 2) := dk_21 8 (dk_at dksX0_rent_4 10 rfl rfl)
theorem dX0_rent_105 : decode cX0_rent 105 = .ok (.iaload, 1) := dk_46 (dk_at dksX0_rent_4 12 rfl rfl)
theorem dX0_rent_106 : decode cX0_rent 106 = .ok (.iconst 0, 1) := dk_3 (dk_at dksX0_rent_4 13 rfl rfl)
theorem dX0_rent_107 : decode cX0_rent 107 = .ok (.bipush 9, 2) := dk_16 9 (dk_at dksX0_rent_4 14 rfl rfl)
theorem dX0_rent_109 : decode cX0_rent 109 = .ok (.invokestatic 171, 3) := dk_184 0 171 (dk_at dksX0_rent_4 16 rfl rfl)
theorem dX0_rent_112 : decode cX0_rent 112 = .ok (.iand, 1) := dk_126 (dk_at dksX0_rent_4 19 rfl rfl)
theorem dX0_rent_113 : decode cX0_rent 113 = .ok (.istore 7, 2) := dk_54 7 (dk_at dksX0_rent_4 20 rfl rfl)
theorem dX0_rent_115 : decode cX0_rent 115 = .ok (.iinc 8 1, 3) := dk_132 8 1 (dk_at dksX0_rent_5 0 rfl rfl)
theorem dX0_rent_118 : decode cX0_rent 118 = .ok (.goto (-27), 3) := dk_167 255 229 (dk_at dksX0_rent_5 3 rfl rfl)
theorem dX0_rent_121 : decode cX0_rent 121 = .ok (.iload 7, 2) := dk_21 7 (dk_at dksX0_rent_5 6 rfl rfl)
theorem dX0_rent_123 : decode cX0_rent 123 = .ok (.ifCond .ne 9, 3) := dk_154 0 9 (dk_at dksX0_rent_5 8 rfl rfl)
theorem dX0_rent_126 : decode cX0_rent 126 = .ok (.aload_n 0, 1) := dk_42 (dk_at dksX0_rent_5 11 rfl rfl)
theorem dX0_rent_127 : decode cX0_rent 127 = .ok (.iconst 3, 1) := dk_6 (dk_at dksX0_rent_5 12 rfl rfl)
theorem dX0_rent_128 : decode cX0_rent 128 = .ok (.invokevirtual 181, 3) := dk_182 0 181 (dk_at dksX0_rent_5 13 rfl rfl)
theorem dX0_rent_131 : decode cX0_rent 131 = .ok (.ireturn, 1) := dk_172 (dk_at dksX0_rent_5 16 rfl rfl)
theorem dX0_rent_132 : decode cX0_rent 132 = .ok (.aload 6, 2) := dk_25 6 (dk_at dksX0_rent_5 17 rfl rfl)
theorem dX0_rent_134 : decode cX0_rent 134 = .ok (.arraylength, 1) := dk_190 (dk_at dksX0_rent_5 19 rfl rfl)
theorem dX0_rent_135 : decode cX0_rent 135 = .ok (.istore 8, 2) := dk_54 8 (dk_at dksX0_rent_5 20 rfl rfl)
theorem dX0_rent_137 : decode cX0_rent 137 = .ok (.iconst 0, 1) := dk_3 (dk_at dksX0_rent_5 22 rfl rfl)
theorem dX0_rent_138 : decode cX0_rent 138 = .ok (.istore 9, 2) := dk_54 9 (dk_at dksX0_rent_6 0 rfl rfl)
theorem dX0_rent_140 : decode cX0_rent 140 = .ok (.iload 9, 2) := dk_21 9 (dk_at dksX0_rent_6 2 rfl rfl)
theorem dX0_rent_142 : decode cX0_rent 142 = .ok (.bipush 10, 2) := dk_16 10 (dk_at dksX0_rent_6 4 rfl rfl)
theorem dX0_rent_144 : decode cX0_rent 144 = .ok (.if_icmp .ge 23, 3) := dk_162 0 23 (dk_at dksX0_rent_6 6 rfl rfl)
theorem dX0_rent_147 : decode cX0_rent 147 = .ok (.aload_n 0, 1) := dk_42 (dk_at dksX0_rent_6 9 rfl rfl)
theorem dX0_rent_148 : decode cX0_rent 148 = .ok (.getfield 159, 3) := dk_180 0 159 (dk_at dksX0_rent_6 10 rfl rfl)
theorem dX0_rent_151 : decode cX0_rent 151 = .ok (.bipush 10, 2) := dk_16 10 (dk_at dksX0_rent_6 13 rfl rfl)
theorem dX0_rent_153 : decode cX0_rent 153 = .ok (.iload 8, 2) := dk_21 8 (dk_at dksX0_rent_6 15 rfl rfl)
theorem dX0_rent_155 : decode cX0_rent 155 = .ok (.imul, 1) := dk_104 (dk_at dksX0_rent_6 17 rfl rfl)
theorem dX0_rent_156 : decode cX0_rent 156 = .ok (.iload 9, 2) := dk_21 9 (dk_at dksX0_rent_6 18 rfl rfl)
theorem dX0_rent_158 : decode cX0_rent 158 = .ok (.iadd, 1) := dk_96 (dk_at dksX0_rent_6 20 rfl rfl)
theorem dX0_rent_159 : decode cX0_rent 159 = .ok (.iconst 0, 1) := dk_3 (dk_at dksX0_rent_6 21 rfl rfl)
theorem dX0_rent_160 : decode cX0_rent 160 = .ok (.iastore, 1) := dk_79 (dk_at dksX0_rent_6 22 rfl rfl)
theorem dX0_rent_161 : decode cX0_rent 161 = .ok (.iinc 9 1, 3) := dk_132 9 1 (dk_at dksX0_rent_7 0 rfl rfl)
theorem dX0_rent_164 : decode cX0_rent 164 = .ok (.goto (-24), 3) := dk_167 255 232 (dk_at dksX0_rent_7 3 rfl rfl)
theorem dX0_rent_167 : decode cX0_rent 167 = .ok (.iload 8, 2) := dk_21 8 (dk_at dksX0_rent_7 6 rfl rfl)
theorem dX0_rent_169 : decode cX0_rent 169 = .ok (.iconst 1, 1) := dk_4 (dk_at dksX0_rent_7 8 rfl rfl)
theorem dX0_rent_170 : decode cX0_rent 170 = .ok (.isub, 1) := dk_100 (dk_at dksX0_rent_7 9 rfl rfl)
theorem dX0_rent_171 : decode cX0_rent 171 = .ok (.istore 9, 2) := dk_54 9 (dk_at dksX0_rent_7 10 rfl rfl)
theorem dX0_rent_173 : decode cX0_rent 173 = .ok (.iload 9, 2) := dk_21 9 (dk_at dksX0_rent_7 12 rfl rfl)
theorem dX0_rent_175 : decode cX0_rent 175 = .ok (.ifCond .lt 107, 3) := dk_155 0 107 (dk_at dksX0_rent_7 14 rfl rfl)
theorem dX0_rent_178 : decode cX0_rent 178 = .ok (.iconst 0, 1) := dk_3 (dk_at dksX0_rent_7 17 rfl rfl)
theorem dX0_rent_179 : decode cX0_rent 179 = .ok (.istore 10, 2) := dk_54 10 (dk_at dksX0_rent_7 18 rfl rfl)
theorem dX0_rent_181 : decode cX0_rent 181 = .ok (.iload 10, 2) := dk_21 10 (dk_at dksX0_rent_7 20 rfl rfl)
theorem dX0_rent_183 : decode cX0_rent 183 = .ok (.bipush 10, 2) := dk_16 10 (dk_at dksX0_rent_7 22 rfl rfl)
theorem dX0_rent_185 : decode cX0_rent 185 = .ok (.if_icmp .ge 91, 3) := dk_162 0 91 (dk_at dksX0_rent_8 0 rfl rfl)
theorem dX0_rent_188 : decode cX0_rent 188 = .ok (.bipush (-9), 2) := dk_16 247 (dk_at dksX0_rent_8 3 rfl rfl)
theorem dX0_rent_190 : decode cX0_rent 190 = .ok (.istore 11, 2) := dk_54 11 (dk_at dksX0_rent_8 5 rfl rfl)
theorem dX0_rent_192 : decode cX0_rent 192 = .ok (.iconst 0, 1) := dk_3 (dk_at dksX0_rent_8 7 rfl rfl)
theorem dX0_rent_193 : decode cX0_rent 193 = .ok (.istore 12, 2) := dk_54 12 (dk_at dksX0_rent_8 8 rfl rfl)
theorem dX0_rent_195 : decode cX0_rent 195 = .ok (.iload 12, 2) := dk_21 12 (dk_at dksX0_rent_8 10 rfl rfl)
theorem dX0_rent_197 : decode cX0_rent 197 = .ok (.bipush 10, 2) := dk_16 10 (dk_at dksX0_rent_8 12 rfl rfl)
theorem dX0_rent_199 : decode cX0_rent 199 = .ok (.if_icmp .ge 56, 3) := dk_162 0 56 (dk_at dksX0_rent_8 14 rfl rfl)
theorem dX0_rent_202 : decode cX0_rent 202 = .ok (.aload_n 0, 1) := dk_42 (dk_at dksX0_rent_8 17 rfl rfl)
theorem dX0_rent_203 : decode cX0_rent 203 = .ok (.iload 9, 2) := dk_21 9 (dk_at dksX0_rent_8 18 rfl rfl)
theorem dX0_rent_205 : decode cX0_rent 205 = .ok (.iload 10, 2) := dk_21 10 (dk_at dksX0_rent_8 20 rfl rfl)
theorem dX0_rent_207 : decode cX0_rent 207 = .ok (.iload 12, 2) := dk_21 12 (dk_at dksX0_rent_8 22 rfl rfl)
theorem dX0_rent_209 : decode cX0_rent 209 = .ok (.aload 6, 2) := dk_25 6 (dk_at dksX0_rent_9 0 rfl rfl)
theorem dX0_rent_211 : decode cX0_rent 211 = .ok (.iload 9, 2) := dk_21 9 (dk_at dksX0_rent_9 2 rfl rfl)
theorem dX0_rent_213 : decode cX0_rent 213 = .ok (.iaload, 1) := dk_46 (dk_at dksX0_rent_9 4 rfl rfl)
theorem dX0_rent_214 : decode cX0_rent 214 = .ok (.iload_n 2, 1) := dk_28 (dk_at dksX0_rent_9 5 rfl rfl)
theorem dX0_rent_215 : decode cX0_rent 215 = .ok (.isub, 1) := dk_100 (dk_at dksX0_rent_9 6 rfl rfl)
theorem dX0_rent_216 : decode cX0_rent 216 = .ok (.iload_n 3, 1) := dk_29 (dk_at dksX0_rent_9 7 rfl rfl)
theorem dX0_rent_217 : decode cX0_rent 217 = .ok (.iload 4, 2) := dk_21 4 (dk_at dksX0_rent_9 8 rfl rfl)
theorem dX0_rent_219 : decode cX0_rent 219 = .ok (.iload 5, 2) := dk_21 5 (dk_at dksX0_rent_9 10 rfl rfl)
theorem dX0_rent_221 : decode cX0_rent 221 = .ok (.invokevirtual 437, 3) := dk_182 1 181 (dk_at dksX0_rent_9 12 rfl rfl)
theorem dX0_rent_224 : decode cX0_rent 224 = .ok (.istore 13, 2) := dk_54 13 (dk_at dksX0_rent_9 15 rfl rfl)
theorem dX0_rent_226 : decode cX0_rent 226 = .ok (.iload 11, 2) := dk_21 11 (dk_at dksX0_rent_9 17 rfl rfl)
theorem dX0_rent_228 : decode cX0_rent 228 = .ok (.bipush (-9), 2) := dk_16 247 (dk_at dksX0_rent_9 19 rfl rfl)
theorem dX0_rent_230 : decode cX0_rent 230 = .ok (.if_icmp .eq 10, 3) := dk_159 0 10 (dk_at dksX0_rent_9 21 rfl rfl)
theorem dX0_rent_233 : decode cX0_rent 233 = .ok (.iload 13, 2) := dk_21 13 (dk_at dksX0_rent_10 0 rfl rfl)
theorem dX0_rent_235 : decode cX0_rent 235 = .ok (.iload 11, 2) := dk_21 11 (dk_at dksX0_rent_10 2 rfl rfl)
theorem dX0_rent_237 : decode cX0_rent 237 = .ok (.if_icmp .ge 8, 3) := dk_162 0 8 (dk_at dksX0_rent_10 4 rfl rfl)
theorem dX0_rent_240 : decode cX0_rent 240 = .ok (.iload 13, 2) := dk_21 13 (dk_at dksX0_rent_10 7 rfl rfl)
theorem dX0_rent_242 : decode cX0_rent 242 = .ok (.goto 5, 3) := dk_167 0 5 (dk_at dksX0_rent_10 9 rfl rfl)
theorem dX0_rent_245 : decode cX0_rent 245 = .ok (.iload 11, 2) := dk_21 11 (dk_at dksX0_rent_10 12 rfl rfl)
theorem dX0_rent_247 : decode cX0_rent 247 = .ok (.istore 11, 2) := dk_54 11 (dk_at dksX0_rent_10 14 rfl rfl)
theorem dX0_rent_249 : decode cX0_rent 249 = .ok (.iinc 12 1, 3) := dk_132 12 1 (dk_at dksX0_rent_10 16 rfl rfl)
theorem dX0_rent_252 : decode cX0_rent 252 = .ok (.goto (-57), 3) := dk_167 255 199 (dk_at dksX0_rent_10 19 rfl rfl)
theorem dX0_rent_255 : decode cX0_rent 255 = .ok (.aload_n 0, 1) := dk_42 (dk_at dksX0_rent_10 22 rfl rfl)
theorem dX0_rent_256 : decode cX0_rent 256 = .ok (.getfield 159, 3) := dk_180 0 159 (dk_at dksX0_rent_11 0 rfl rfl)
theorem dX0_rent_259 : decode cX0_rent 259 = .ok (.bipush 10, 2) := dk_16 10 (dk_at dksX0_rent_11 3 rfl rfl)
theorem dX0_rent_261 : decode cX0_rent 261 = .ok (.iload 9, 2) := dk_21 9 (dk_at dksX0_rent_11 5 rfl rfl)
theorem dX0_rent_263 : decode cX0_rent 263 = .ok (.imul, 1) := dk_104 (dk_at dksX0_rent_11 7 rfl rfl)
theorem dX0_rent_264 : decode cX0_rent 264 = .ok (.iload 10, 2) := dk_21 10 (dk_at dksX0_rent_11 8 rfl rfl)
theorem dX0_rent_266 : decode cX0_rent 266 = .ok (.iadd, 1) := dk_96 (dk_at dksX0_rent_11 10 rfl rfl)
theorem dX0_rent_267 : decode cX0_rent 267 = .ok (.iload 11, 2) := dk_21 11 (dk_at dksX0_rent_11 11 rfl rfl)
theorem dX0_rent_269 : decode cX0_rent 269 = .ok (.iastore, 1) := dk_79 (dk_at dksX0_rent_11 13 rfl rfl)
theorem dX0_rent_270 : decode cX0_rent 270 = .ok (.iinc 10 1, 3) := dk_132 10 1 (dk_at dksX0_rent_11 14 rfl rfl)
theorem dX0_rent_273 : decode cX0_rent 273 = .ok (.goto (-92), 3) := dk_167 255 164 (dk_at dksX0_rent_11 17 rfl rfl)
theorem dX0_rent_276 : decode cX0_rent 276 = .ok (.iinc 9 (-1), 3) := dk_132 9 255 (dk_at dksX0_rent_11 20 rfl rfl)
theorem dX0_rent_279 : decode cX0_rent 279 = .ok (.goto (-106), 3) := dk_167 255 150 (dk_at dksX0_rent_12 0 rfl rfl)
theorem dX0_rent_282 : decode cX0_rent 282 = .ok (.aload_n 0, 1) := dk_42 (dk_at dksX0_rent_12 3 rfl rfl)
theorem dX0_rent_283 : decode cX0_rent 283 = .ok (.iload 8, 2) := dk_21 8 (dk_at dksX0_rent_12 4 rfl rfl)
theorem dX0_rent_285 : decode cX0_rent 285 = .ok (.putfield 441, 3) := dk_181 1 185 (dk_at dksX0_rent_12 6 rfl rfl)
theorem dX0_rent_288 : decode cX0_rent 288 = .ok (.iconst 0, 1) := dk_3 (dk_at dksX0_rent_12 9 rfl rfl)
theorem dX0_rent_289 : decode cX0_rent 289 = .ok (.istore 9, 2) := dk_54 9 (dk_at dksX0_rent_12 10 rfl rfl)
theorem dX0_rent_291 : decode cX0_rent 291 = .ok (.iconst 0, 1) := dk_3 (dk_at dksX0_rent_12 12 rfl rfl)
theorem dX0_rent_292 : decode cX0_rent 292 = .ok (.istore 10, 2) := dk_54 10 (dk_at dksX0_rent_12 13 rfl rfl)
theorem dX0_rent_294 : decode cX0_rent 294 = .ok (.iload 10, 2) := dk_21 10 (dk_at dksX0_rent_12 15 rfl rfl)
theorem dX0_rent_296 : decode cX0_rent 296 = .ok (.iload 8, 2) := dk_21 8 (dk_at dksX0_rent_12 17 rfl rfl)
theorem dX0_rent_298 : decode cX0_rent 298 = .ok (.if_icmp .ge 69, 3) := dk_162 0 69 (dk_at dksX0_rent_12 19 rfl rfl)
theorem dX0_rent_301 : decode cX0_rent 301 = .ok (.iconst 0, 1) := dk_3 (dk_at dksX0_rent_12 22 rfl rfl)
theorem dX0_rent_302 : decode cX0_rent 302 = .ok (.istore 11, 2) := dk_54 11 (dk_at dksX0_rent_13 0 rfl rfl)
theorem dX0_rent_304 : decode cX0_rent 304 = .ok (.aload_n 0, 1) := dk_42 (dk_at dksX0_rent_13 2 rfl rfl)
theorem dX0_rent_305 : decode cX0_rent 305 = .ok (.iload 10, 2) := dk_21 10 (dk_at dksX0_rent_13 3 rfl rfl)
theorem dX0_rent_307 : decode cX0_rent 307 = .ok (.iload 9, 2) := dk_21 9 (dk_at dksX0_rent_13 5 rfl rfl)
theorem dX0_rent_309 : decode cX0_rent 309 = .ok (.iload 11, 2) := dk_21 11 (dk_at dksX0_rent_13 7 rfl rfl)
theorem dX0_rent_311 : decode cX0_rent 311 = .ok (.aload 6, 2) := dk_25 6 (dk_at dksX0_rent_13 9 rfl rfl)
theorem dX0_rent_313 : decode cX0_rent 313 = .ok (.iload 10, 2) := dk_21 10 (dk_at dksX0_rent_13 11 rfl rfl)
theorem dX0_rent_315 : decode cX0_rent 315 = .ok (.iaload, 1) := dk_46 (dk_at dksX0_rent_13 13 rfl rfl)
theorem dX0_rent_316 : decode cX0_rent 316 = .ok (.iload_n 2, 1) := dk_28 (dk_at dksX0_rent_13 14 rfl rfl)
theorem dX0_rent_317 : decode cX0_rent 317 = .ok (.isub, 1) := dk_100 (dk_at dksX0_rent_13 15 rfl rfl)
theorem dX0_rent_318 : decode cX0_rent 318 = .ok (.iload_n 3, 1) := dk_29 (dk_at dksX0_rent_13 16 rfl rfl)
theorem dX0_rent_319 : decode cX0_rent 319 = .ok (.iload 4, 2) := dk_21 4 (dk_at dksX0_rent_13 17 rfl rfl)
theorem dX0_rent_321 : decode cX0_rent 321 = .ok (.iload 5, 2) := dk_21 5 (dk_at dksX0_rent_13 19 rfl rfl)
theorem dX0_rent_323 : decode cX0_rent 323 = .ok (.invokevirtual 437, 3) := dk_182 1 181 (dk_at dksX0_rent_13 21 rfl rfl)
theorem dX0_rent_326 : decode cX0_rent 326 = .ok (.aload_n 0, 1) := dk_42 (dk_at dksX0_rent_14 0 rfl rfl)
theorem dX0_rent_327 : decode cX0_rent 327 = .ok (.getfield 159, 3) := dk_180 0 159 (dk_at dksX0_rent_14 1 rfl rfl)
theorem dX0_rent_330 : decode cX0_rent 330 = .ok (.bipush 10, 2) := dk_16 10 (dk_at dksX0_rent_14 4 rfl rfl)
theorem dX0_rent_332 : decode cX0_rent 332 = .ok (.iload 10, 2) := dk_21 10 (dk_at dksX0_rent_14 6 rfl rfl)
theorem dX0_rent_334 : decode cX0_rent 334 = .ok (.imul, 1) := dk_104 (dk_at dksX0_rent_14 8 rfl rfl)
theorem dX0_rent_335 : decode cX0_rent 335 = .ok (.iload 9, 2) := dk_21 9 (dk_at dksX0_rent_14 9 rfl rfl)
theorem dX0_rent_337 : decode cX0_rent 337 = .ok (.iadd, 1) := dk_96 (dk_at dksX0_rent_14 11 rfl rfl)
theorem dX0_rent_338 : decode cX0_rent 338 = .ok (.iaload, 1) := dk_46 (dk_at dksX0_rent_14 12 rfl rfl)
theorem dX0_rent_339 : decode cX0_rent 339 = .ok (.if_icmp .eq 9, 3) := dk_159 0 9 (dk_at dksX0_rent_14 13 rfl rfl)
theorem dX0_rent_342 : decode cX0_rent 342 = .ok (.iinc 11 1, 3) := dk_132 11 1 (dk_at dksX0_rent_14 16 rfl rfl)
theorem dX0_rent_345 : decode cX0_rent 345 = .ok (.goto (-41), 3) := dk_167 255 215 (dk_at dksX0_rent_14 19 rfl rfl)
theorem dX0_rent_348 : decode cX0_rent 348 = .ok (.aload_n 0, 1) := dk_42 (dk_at dksX0_rent_14 22 rfl rfl)
theorem dX0_rent_349 : decode cX0_rent 349 = .ok (.getfield 156, 3) := dk_180 0 156 (dk_at dksX0_rent_15 0 rfl rfl)
theorem dX0_rent_352 : decode cX0_rent 352 = .ok (.iload 10, 2) := dk_21 10 (dk_at dksX0_rent_15 3 rfl rfl)
theorem dX0_rent_354 : decode cX0_rent 354 = .ok (.iload 11, 2) := dk_21 11 (dk_at dksX0_rent_15 5 rfl rfl)
theorem dX0_rent_356 : decode cX0_rent 356 = .ok (.iastore, 1) := dk_79 (dk_at dksX0_rent_15 7 rfl rfl)
theorem dX0_rent_357 : decode cX0_rent 357 = .ok (.iload 11, 2) := dk_21 11 (dk_at dksX0_rent_15 8 rfl rfl)
theorem dX0_rent_359 : decode cX0_rent 359 = .ok (.istore 9, 2) := dk_54 9 (dk_at dksX0_rent_15 10 rfl rfl)
theorem dX0_rent_361 : decode cX0_rent 361 = .ok (.iinc 10 1, 3) := dk_132 10 1 (dk_at dksX0_rent_15 12 rfl rfl)
theorem dX0_rent_364 : decode cX0_rent 364 = .ok (.goto (-70), 3) := dk_167 255 186 (dk_at dksX0_rent_15 15 rfl rfl)
theorem dX0_rent_367 : decode cX0_rent 367 = .ok (.aload_n 0, 1) := dk_42 (dk_at dksX0_rent_15 18 rfl rfl)
theorem dX0_rent_368 : decode cX0_rent 368 = .ok (.getfield 159, 3) := dk_180 0 159 (dk_at dksX0_rent_15 19 rfl rfl)
theorem dX0_rent_371 : decode cX0_rent 371 = .ok (.iconst 0, 1) := dk_3 (dk_at dksX0_rent_15 22 rfl rfl)
theorem dX0_rent_372 : decode cX0_rent 372 = .ok (.iaload, 1) := dk_46 (dk_at dksX0_rent_15 23 rfl rfl)
theorem dX0_rent_373 : decode cX0_rent 373 = .ok (.ireturn, 1) := dk_172 (dk_at dksX0_rent_16 0 rfl rfl)
abbrev cX0_rentCost : ByteArray := prog_1_method_91_code
def yX0_rentCost : MethodName := ⟨RX0, "rentCost", "(IIIIIII)I"⟩
def dkwX0_rentCost_1 : List UInt8 := [184, 1, 115, 104, 96, 42, 180, 0, 159, 16, 10, 27, 4, 96, 104, 29, 96, 46, 96, 172]
abbrev dktX0_rentCost_1 : List UInt8 := dkwX0_rentCost_1 ++ []
def dkwX0_rentCost_0 : List UInt8 := [21, 5, 29, 104, 21, 6, 3, 29, 28, 100, 184, 1, 115, 104, 96, 21, 7, 3, 21, 4, 29, 100]
abbrev dktX0_rentCost_0 : List UInt8 := dkwX0_rentCost_0 ++ dktX0_rentCost_1
theorem dksX0_rentCost_0 : cX0_rentCost.data.toList.drop 0 = dktX0_rentCost_0 := by decide +kernel
theorem dksX0_rentCost_1 : cX0_rentCost.data.toList.drop 22 = dktX0_rentCost_1 := dk_seg dksX0_rentCost_0 22 rfl rfl
theorem dX0_rentCost_0 : decode cX0_rentCost 0 = .ok (.iload 5, 2) := dk_21 5 (dk_at dksX0_rentCost_0 0 rfl rfl)
theorem dX0_rentCost_2 : decode cX0_rentCost 2 = .ok (.iload_n 3, 1) := dk_29 (dk_at dksX0_rentCost_0 2 rfl rfl)
theorem dX0_rentCost_3 : decode cX0_rentCost 3 = .ok (.imul, 1) := dk_104 (dk_at dksX0_rentCost_0 3 rfl rfl)
theorem dX0_rentCost_4 : decode cX0_rentCost 4 = .ok (.iload 6, 2) := dk_21 6 (dk_at dksX0_rentCost_0 4 rfl rfl)
theorem dX0_rentCost_6 : decode cX0_rentCost 6 = .ok (.iconst 0, 1) := dk_3 (dk_at dksX0_rentCost_0 6 rfl rfl)
theorem dX0_rentCost_7 : decode cX0_rentCost 7 = .ok (.iload_n 3, 1) := dk_29 (dk_at dksX0_rentCost_0 7 rfl rfl)
theorem dX0_rentCost_8 : decode cX0_rentCost 8 = .ok (.iload_n 2, 1) := dk_28 (dk_at dksX0_rentCost_0 8 rfl rfl)
theorem dX0_rentCost_9 : decode cX0_rentCost 9 = .ok (.isub, 1) := dk_100 (dk_at dksX0_rentCost_0 9 rfl rfl)
theorem dX0_rentCost_10 : decode cX0_rentCost 10 = .ok (.invokestatic 371, 3) := dk_184 1 115 (dk_at dksX0_rentCost_0 10 rfl rfl)
theorem dX0_rentCost_13 : decode cX0_rentCost 13 = .ok (.imul, 1) := dk_104 (dk_at dksX0_rentCost_0 13 rfl rfl)
theorem dX0_rentCost_14 : decode cX0_rentCost 14 = .ok (.iadd, 1) := dk_96 (dk_at dksX0_rentCost_0 14 rfl rfl)
theorem dX0_rentCost_15 : decode cX0_rentCost 15 = .ok (.iload 7, 2) := dk_21 7 (dk_at dksX0_rentCost_0 15 rfl rfl)
theorem dX0_rentCost_17 : decode cX0_rentCost 17 = .ok (.iconst 0, 1) := dk_3 (dk_at dksX0_rentCost_0 17 rfl rfl)
theorem dX0_rentCost_18 : decode cX0_rentCost 18 = .ok (.iload 4, 2) := dk_21 4 (dk_at dksX0_rentCost_0 18 rfl rfl)
theorem dX0_rentCost_20 : decode cX0_rentCost 20 = .ok (.iload_n 3, 1) := dk_29 (dk_at dksX0_rentCost_0 20 rfl rfl)
theorem dX0_rentCost_21 : decode cX0_rentCost 21 = .ok (.isub, 1) := dk_100 (dk_at dksX0_rentCost_0 21 rfl rfl)
theorem dX0_rentCost_22 : decode cX0_rentCost 22 = .ok (.invokestatic 371, 3) := dk_184 1 115 (dk_at dksX0_rentCost_1 0 rfl rfl)
theorem dX0_rentCost_25 : decode cX0_rentCost 25 = .ok (.imul, 1) := dk_104 (dk_at dksX0_rentCost_1 3 rfl rfl)
theorem dX0_rentCost_26 : decode cX0_rentCost 26 = .ok (.iadd, 1) := dk_96 (dk_at dksX0_rentCost_1 4 rfl rfl)
theorem dX0_rentCost_27 : decode cX0_rentCost 27 = .ok (.aload_n 0, 1) := dk_42 (dk_at dksX0_rentCost_1 5 rfl rfl)
theorem dX0_rentCost_28 : decode cX0_rentCost 28 = .ok (.getfield 159, 3) := dk_180 0 159 (dk_at dksX0_rentCost_1 6 rfl rfl)
theorem dX0_rentCost_31 : decode cX0_rentCost 31 = .ok (.bipush 10, 2) := dk_16 10 (dk_at dksX0_rentCost_1 9 rfl rfl)
theorem dX0_rentCost_33 : decode cX0_rentCost 33 = .ok (.iload_n 1, 1) := dk_27 (dk_at dksX0_rentCost_1 11 rfl rfl)
theorem dX0_rentCost_34 : decode cX0_rentCost 34 = .ok (.iconst 1, 1) := dk_4 (dk_at dksX0_rentCost_1 12 rfl rfl)
theorem dX0_rentCost_35 : decode cX0_rentCost 35 = .ok (.iadd, 1) := dk_96 (dk_at dksX0_rentCost_1 13 rfl rfl)
theorem dX0_rentCost_36 : decode cX0_rentCost 36 = .ok (.imul, 1) := dk_104 (dk_at dksX0_rentCost_1 14 rfl rfl)
theorem dX0_rentCost_37 : decode cX0_rentCost 37 = .ok (.iload_n 3, 1) := dk_29 (dk_at dksX0_rentCost_1 15 rfl rfl)
theorem dX0_rentCost_38 : decode cX0_rentCost 38 = .ok (.iadd, 1) := dk_96 (dk_at dksX0_rentCost_1 16 rfl rfl)
theorem dX0_rentCost_39 : decode cX0_rentCost 39 = .ok (.iaload, 1) := dk_46 (dk_at dksX0_rentCost_1 17 rfl rfl)
theorem dX0_rentCost_40 : decode cX0_rentCost 40 = .ok (.iadd, 1) := dk_96 (dk_at dksX0_rentCost_1 18 rfl rfl)
theorem dX0_rentCost_41 : decode cX0_rentCost 41 = .ok (.ireturn, 1) := dk_172 (dk_at dksX0_rentCost_1 19 rfl rfl)
abbrev cX0_rented : ByteArray := prog_1_method_92_code
def yX0_rented : MethodName := ⟨RX0, "rented", "(I)I"⟩
def dkwX0_rented_1 : List UInt8 := [16, 247, 172]
abbrev dktX0_rented_1 : List UInt8 := dkwX0_rented_1 ++ []
def dkwX0_rented_0 : List UInt8 := [27, 3, 42, 180, 1, 185, 4, 100, 184, 0, 171, 153, 0, 12, 42, 180, 0, 156, 27, 46, 167, 0, 5]
abbrev dktX0_rented_0 : List UInt8 := dkwX0_rented_0 ++ dktX0_rented_1
theorem dksX0_rented_0 : cX0_rented.data.toList.drop 0 = dktX0_rented_0 := by decide +kernel
theorem dksX0_rented_1 : cX0_rented.data.toList.drop 23 = dktX0_rented_1 := dk_seg dksX0_rented_0 23 rfl rfl
theorem dX0_rented_0 : decode cX0_rented 0 = .ok (.iload_n 1, 1) := dk_27 (dk_at dksX0_rented_0 0 rfl rfl)
theorem dX0_rented_1 : decode cX0_rented 1 = .ok (.iconst 0, 1) := dk_3 (dk_at dksX0_rented_0 1 rfl rfl)
theorem dX0_rented_2 : decode cX0_rented 2 = .ok (.aload_n 0, 1) := dk_42 (dk_at dksX0_rented_0 2 rfl rfl)
theorem dX0_rented_3 : decode cX0_rented 3 = .ok (.getfield 441, 3) := dk_180 1 185 (dk_at dksX0_rented_0 3 rfl rfl)
theorem dX0_rented_6 : decode cX0_rented 6 = .ok (.iconst 1, 1) := dk_4 (dk_at dksX0_rented_0 6 rfl rfl)
theorem dX0_rented_7 : decode cX0_rented 7 = .ok (.isub, 1) := dk_100 (dk_at dksX0_rented_0 7 rfl rfl)
theorem dX0_rented_8 : decode cX0_rented 8 = .ok (.invokestatic 171, 3) := dk_184 0 171 (dk_at dksX0_rented_0 8 rfl rfl)
theorem dX0_rented_11 : decode cX0_rented 11 = .ok (.ifCond .eq 12, 3) := dk_153 0 12 (dk_at dksX0_rented_0 11 rfl rfl)
theorem dX0_rented_14 : decode cX0_rented 14 = .ok (.aload_n 0, 1) := dk_42 (dk_at dksX0_rented_0 14 rfl rfl)
theorem dX0_rented_15 : decode cX0_rented 15 = .ok (.getfield 156, 3) := dk_180 0 156 (dk_at dksX0_rented_0 15 rfl rfl)
theorem dX0_rented_18 : decode cX0_rented 18 = .ok (.iload_n 1, 1) := dk_27 (dk_at dksX0_rented_0 18 rfl rfl)
theorem dX0_rented_19 : decode cX0_rented 19 = .ok (.iaload, 1) := dk_46 (dk_at dksX0_rented_0 19 rfl rfl)
theorem dX0_rented_20 : decode cX0_rented 20 = .ok (.goto 5, 3) := dk_167 0 5 (dk_at dksX0_rented_0 20 rfl rfl)
theorem dX0_rented_23 : decode cX0_rented 23 = .ok (.bipush (-9), 2) := dk_16 247 (dk_at dksX0_rented_1 0 rfl rfl)
theorem dX0_rented_25 : decode cX0_rented 25 = .ok (.ireturn, 1) := dk_172 (dk_at dksX0_rented_1 2 rfl rfl)
abbrev cX0_count : ByteArray := prog_1_method_94_code
def yX0_count : MethodName := ⟨RX0, "count", "(I)I"⟩
def dkwX0_count_0 : List UInt8 := [27, 3, 16, 7, 184, 0, 171, 153, 0, 11, 42, 27, 182, 1, 188, 167, 0, 4, 2, 172]
abbrev dktX0_count_0 : List UInt8 := dkwX0_count_0 ++ []
theorem dksX0_count_0 : cX0_count.data.toList.drop 0 = dktX0_count_0 := by decide +kernel
theorem dX0_count_0 : decode cX0_count 0 = .ok (.iload_n 1, 1) := dk_27 (dk_at dksX0_count_0 0 rfl rfl)
theorem dX0_count_1 : decode cX0_count 1 = .ok (.iconst 0, 1) := dk_3 (dk_at dksX0_count_0 1 rfl rfl)
theorem dX0_count_2 : decode cX0_count 2 = .ok (.bipush 7, 2) := dk_16 7 (dk_at dksX0_count_0 2 rfl rfl)
theorem dX0_count_4 : decode cX0_count 4 = .ok (.invokestatic 171, 3) := dk_184 0 171 (dk_at dksX0_count_0 4 rfl rfl)
theorem dX0_count_7 : decode cX0_count 7 = .ok (.ifCond .eq 11, 3) := dk_153 0 11 (dk_at dksX0_count_0 7 rfl rfl)
theorem dX0_count_10 : decode cX0_count 10 = .ok (.aload_n 0, 1) := dk_42 (dk_at dksX0_count_0 10 rfl rfl)
theorem dX0_count_11 : decode cX0_count 11 = .ok (.iload_n 1, 1) := dk_27 (dk_at dksX0_count_0 11 rfl rfl)
theorem dX0_count_12 : decode cX0_count 12 = .ok (.invokevirtual 444, 3) := dk_182 1 188 (dk_at dksX0_count_0 12 rfl rfl)
theorem dX0_count_15 : decode cX0_count 15 = .ok (.goto 4, 3) := dk_167 0 4 (dk_at dksX0_count_0 15 rfl rfl)
theorem dX0_count_18 : decode cX0_count 18 = .ok (.iconst (-1), 1) := dk_2 (dk_at dksX0_count_0 18 rfl rfl)
theorem dX0_count_19 : decode cX0_count 19 = .ok (.ireturn, 1) := dk_172 (dk_at dksX0_count_0 19 rfl rfl)
abbrev cX0_counted : ByteArray := prog_1_method_93_code
def yX0_counted : MethodName := ⟨RX0, "counted", "(I)I"⟩
def dkwX0_counted_8 : List UInt8 := [199, 0, 7, 3, 167, 0, 4, 4, 96, 61, 132, 3, 1, 167, 255, 231, 28, 172]
abbrev dktX0_counted_8 : List UInt8 := dkwX0_counted_8 ++ []
def dkwX0_counted_7 : List UInt8 := [132, 3, 1, 167, 255, 230, 28, 172, 3, 62, 29, 7, 162, 0, 26, 28, 42, 180, 0, 31, 29, 50]
abbrev dktX0_counted_7 : List UInt8 := dkwX0_counted_7 ++ dktX0_counted_8
def dkwX0_counted_6 : List UInt8 := [62, 29, 16, 6, 162, 0, 26, 28, 42, 180, 0, 25, 29, 50, 199, 0, 7, 3, 167, 0, 4, 4, 96, 61]
abbrev dktX0_counted_6 : List UInt8 := dkwX0_counted_6 ++ dktX0_counted_7
def dkwX0_counted_5 : List UInt8 := [3, 96, 61, 132, 3, 1, 167, 255, 230, 28, 5, 108, 172, 42, 180, 1, 77, 172, 42, 180, 0, 248, 172, 3]
abbrev dktX0_counted_5 : List UInt8 := dkwX0_counted_5 ++ dktX0_counted_6
def dkwX0_counted_4 : List UInt8 := [28, 172, 3, 62, 29, 16, 64, 162, 0, 26, 28, 42, 180, 0, 44, 29, 46, 158, 0, 7, 4, 167, 0, 4]
abbrev dktX0_counted_4 : List UInt8 := dkwX0_counted_4 ++ dktX0_counted_5
def dkwX0_counted_3 : List UInt8 := [180, 0, 65, 29, 50, 180, 1, 22, 153, 0, 7, 4, 167, 0, 4, 3, 96, 61, 132, 3, 1, 167, 255, 225]
abbrev dktX0_counted_3 : List UInt8 := dkwX0_counted_3 ++ dktX0_counted_4
def dkwX0_counted_2 : List UInt8 := [42, 180, 0, 219, 172, 42, 180, 0, 245, 172, 3, 62, 29, 42, 180, 0, 245, 162, 0, 29, 28, 42]
abbrev dktX0_counted_2 : List UInt8 := dkwX0_counted_2 ++ dktX0_counted_3
def dkwX0_counted_1 : List UInt8 := [170, 0, 0, 0, 167, 0, 0, 0, 0, 0, 0, 0, 6, 0, 0, 0, 41, 0, 0, 0, 46, 0, 0, 0, 51, 0, 0, 0, 89, 0, 0, 0, 124, 0, 0, 0, 129, 0, 0, 0, 134]
abbrev dktX0_counted_1 : List UInt8 := dkwX0_counted_1 ++ dktX0_counted_2
def dkwX0_counted_0 : List UInt8 := [3, 61, 27]
abbrev dktX0_counted_0 : List UInt8 := dkwX0_counted_0 ++ dktX0_counted_1
theorem dksX0_counted_0 : cX0_counted.data.toList.drop 0 = dktX0_counted_0 := by decide +kernel
theorem dksX0_counted_1 : cX0_counted.data.toList.drop 3 = dktX0_counted_1 := dk_seg dksX0_counted_0 3 rfl rfl
theorem dksX0_counted_2 : cX0_counted.data.toList.drop 44 = dktX0_counted_2 := dk_seg dksX0_counted_1 41 rfl rfl
theorem dksX0_counted_3 : cX0_counted.data.toList.drop 66 = dktX0_counted_3 := dk_seg dksX0_counted_2 22 rfl rfl
theorem dksX0_counted_4 : cX0_counted.data.toList.drop 90 = dktX0_counted_4 := dk_seg dksX0_counted_3 24 rfl rfl
theorem dksX0_counted_5 : cX0_counted.data.toList.drop 114 = dktX0_counted_5 := dk_seg dksX0_counted_4 24 rfl rfl
theorem dksX0_counted_6 : cX0_counted.data.toList.drop 138 = dktX0_counted_6 := dk_seg dksX0_counted_5 24 rfl rfl
theorem dksX0_counted_7 : cX0_counted.data.toList.drop 162 = dktX0_counted_7 := dk_seg dksX0_counted_6 24 rfl rfl
theorem dksX0_counted_8 : cX0_counted.data.toList.drop 184 = dktX0_counted_8 := dk_seg dksX0_counted_7 22 rfl rfl
theorem dX0_counted_0 : decode cX0_counted 0 = .ok (.iconst 0, 1) := dk_3 (dk_at dksX0_counted_0 0 rfl rfl)
theorem dX0_counted_1 : decode cX0_counted 1 = .ok (.istore_n 2, 1) := dk_61 (dk_at dksX0_counted_0 1 rfl rfl)
theorem dX0_counted_2 : decode cX0_counted 2 = .ok (.iload_n 1, 1) := dk_27 (dk_at dksX0_counted_0 2 rfl rfl)
theorem dX0_counted_3 : decode cX0_counted 3 = .ok (.tableswitch 167 0 6 #[41, 46, 51, 89, 124, 129, 134], 41) := by decide +kernel
theorem dX0_counted_44 : decode cX0_counted 44 = .ok (.aload_n 0, 1) := dk_42 (dk_at dksX0_counted_2 0 rfl rfl)
theorem dX0_counted_45 : decode cX0_counted 45 = .ok (.getfield 219, 3) := dk_180 0 219 (dk_at dksX0_counted_2 1 rfl rfl)
theorem dX0_counted_48 : decode cX0_counted 48 = .ok (.ireturn, 1) := dk_172 (dk_at dksX0_counted_2 4 rfl rfl)
theorem dX0_counted_49 : decode cX0_counted 49 = .ok (.aload_n 0, 1) := dk_42 (dk_at dksX0_counted_2 5 rfl rfl)
theorem dX0_counted_50 : decode cX0_counted 50 = .ok (.getfield 245, 3) := dk_180 0 245 (dk_at dksX0_counted_2 6 rfl rfl)
theorem dX0_counted_53 : decode cX0_counted 53 = .ok (.ireturn, 1) := dk_172 (dk_at dksX0_counted_2 9 rfl rfl)
theorem dX0_counted_54 : decode cX0_counted 54 = .ok (.iconst 0, 1) := dk_3 (dk_at dksX0_counted_2 10 rfl rfl)
theorem dX0_counted_55 : decode cX0_counted 55 = .ok (.istore_n 3, 1) := dk_62 (dk_at dksX0_counted_2 11 rfl rfl)
theorem dX0_counted_56 : decode cX0_counted 56 = .ok (.iload_n 3, 1) := dk_29 (dk_at dksX0_counted_2 12 rfl rfl)
theorem dX0_counted_57 : decode cX0_counted 57 = .ok (.aload_n 0, 1) := dk_42 (dk_at dksX0_counted_2 13 rfl rfl)
theorem dX0_counted_58 : decode cX0_counted 58 = .ok (.getfield 245, 3) := dk_180 0 245 (dk_at dksX0_counted_2 14 rfl rfl)
theorem dX0_counted_61 : decode cX0_counted 61 = .ok (.if_icmp .ge 29, 3) := dk_162 0 29 (dk_at dksX0_counted_2 17 rfl rfl)
theorem dX0_counted_64 : decode cX0_counted 64 = .ok (.iload_n 2, 1) := dk_28 (dk_at dksX0_counted_2 20 rfl rfl)
theorem dX0_counted_65 : decode cX0_counted 65 = .ok (.aload_n 0, 1) := dk_42 (dk_at dksX0_counted_2 21 rfl rfl)
theorem dX0_counted_66 : decode cX0_counted 66 = .ok (.getfield 65, 3) := dk_180 0 65 (dk_at dksX0_counted_3 0 rfl rfl)
theorem dX0_counted_69 : decode cX0_counted 69 = .ok (.iload_n 3, 1) := dk_29 (dk_at dksX0_counted_3 3 rfl rfl)
theorem dX0_counted_70 : decode cX0_counted 70 = .ok (.aaload, 1) := dk_50 (dk_at dksX0_counted_3 4 rfl rfl)
theorem dX0_counted_71 : decode cX0_counted 71 = .ok (.getfield 278, 3) := dk_180 1 22 (dk_at dksX0_counted_3 5 rfl rfl)
theorem dX0_counted_74 : decode cX0_counted 74 = .ok (.ifCond .eq 7, 3) := dk_153 0 7 (dk_at dksX0_counted_3 8 rfl rfl)
theorem dX0_counted_77 : decode cX0_counted 77 = .ok (.iconst 1, 1) := dk_4 (dk_at dksX0_counted_3 11 rfl rfl)
theorem dX0_counted_78 : decode cX0_counted 78 = .ok (.goto 4, 3) := dk_167 0 4 (dk_at dksX0_counted_3 12 rfl rfl)
theorem dX0_counted_81 : decode cX0_counted 81 = .ok (.iconst 0, 1) := dk_3 (dk_at dksX0_counted_3 15 rfl rfl)
theorem dX0_counted_82 : decode cX0_counted 82 = .ok (.iadd, 1) := dk_96 (dk_at dksX0_counted_3 16 rfl rfl)
theorem dX0_counted_83 : decode cX0_counted 83 = .ok (.istore_n 2, 1) := dk_61 (dk_at dksX0_counted_3 17 rfl rfl)
theorem dX0_counted_84 : decode cX0_counted 84 = .ok (.iinc 3 1, 3) := dk_132 3 1 (dk_at dksX0_counted_3 18 rfl rfl)
theorem dX0_counted_87 : decode cX0_counted 87 = .ok (.goto (-31), 3) := dk_167 255 225 (dk_at dksX0_counted_3 21 rfl rfl)
theorem dX0_counted_90 : decode cX0_counted 90 = .ok (.iload_n 2, 1) := dk_28 (dk_at dksX0_counted_4 0 rfl rfl)
theorem dX0_counted_91 : decode cX0_counted 91 = .ok (.ireturn, 1) := dk_172 (dk_at dksX0_counted_4 1 rfl rfl)
theorem dX0_counted_92 : decode cX0_counted 92 = .ok (.iconst 0, 1) := dk_3 (dk_at dksX0_counted_4 2 rfl rfl)
theorem dX0_counted_93 : decode cX0_counted 93 = .ok (.istore_n 3, 1) := dk_62 (dk_at dksX0_counted_4 3 rfl rfl)
theorem dX0_counted_94 : decode cX0_counted 94 = .ok (.iload_n 3, 1) := dk_29 (dk_at dksX0_counted_4 4 rfl rfl)
theorem dX0_counted_95 : decode cX0_counted 95 = .ok (.bipush 64, 2) := dk_16 64 (dk_at dksX0_counted_4 5 rfl rfl)
theorem dX0_counted_97 : decode cX0_counted 97 = .ok (.if_icmp .ge 26, 3) := dk_162 0 26 (dk_at dksX0_counted_4 7 rfl rfl)
theorem dX0_counted_100 : decode cX0_counted 100 = .ok (.iload_n 2, 1) := dk_28 (dk_at dksX0_counted_4 10 rfl rfl)
theorem dX0_counted_101 : decode cX0_counted 101 = .ok (.aload_n 0, 1) := dk_42 (dk_at dksX0_counted_4 11 rfl rfl)
theorem dX0_counted_102 : decode cX0_counted 102 = .ok (.getfield 44, 3) := dk_180 0 44 (dk_at dksX0_counted_4 12 rfl rfl)
theorem dX0_counted_105 : decode cX0_counted 105 = .ok (.iload_n 3, 1) := dk_29 (dk_at dksX0_counted_4 15 rfl rfl)
theorem dX0_counted_106 : decode cX0_counted 106 = .ok (.iaload, 1) := dk_46 (dk_at dksX0_counted_4 16 rfl rfl)
theorem dX0_counted_107 : decode cX0_counted 107 = .ok (.ifCond .le 7, 3) := dk_158 0 7 (dk_at dksX0_counted_4 17 rfl rfl)
theorem dX0_counted_110 : decode cX0_counted 110 = .ok (.iconst 1, 1) := dk_4 (dk_at dksX0_counted_4 20 rfl rfl)
theorem dX0_counted_111 : decode cX0_counted 111 = .ok (.goto 4, 3) := dk_167 0 4 (dk_at dksX0_counted_4 21 rfl rfl)
theorem dX0_counted_114 : decode cX0_counted 114 = .ok (.iconst 0, 1) := dk_3 (dk_at dksX0_counted_5 0 rfl rfl)
theorem dX0_counted_115 : decode cX0_counted 115 = .ok (.iadd, 1) := dk_96 (dk_at dksX0_counted_5 1 rfl rfl)
theorem dX0_counted_116 : decode cX0_counted 116 = .ok (.istore_n 2, 1) := dk_61 (dk_at dksX0_counted_5 2 rfl rfl)
theorem dX0_counted_117 : decode cX0_counted 117 = .ok (.iinc 3 1, 3) := dk_132 3 1 (dk_at dksX0_counted_5 3 rfl rfl)
theorem dX0_counted_120 : decode cX0_counted 120 = .ok (.goto (-26), 3) := dk_167 255 230 (dk_at dksX0_counted_5 6 rfl rfl)
theorem dX0_counted_123 : decode cX0_counted 123 = .ok (.iload_n 2, 1) := dk_28 (dk_at dksX0_counted_5 9 rfl rfl)
theorem dX0_counted_124 : decode cX0_counted 124 = .ok (.iconst 2, 1) := dk_5 (dk_at dksX0_counted_5 10 rfl rfl)
theorem dX0_counted_125 : decode cX0_counted 125 = .ok (.idiv, 1) := dk_108 (dk_at dksX0_counted_5 11 rfl rfl)
theorem dX0_counted_126 : decode cX0_counted 126 = .ok (.ireturn, 1) := dk_172 (dk_at dksX0_counted_5 12 rfl rfl)
theorem dX0_counted_127 : decode cX0_counted 127 = .ok (.aload_n 0, 1) := dk_42 (dk_at dksX0_counted_5 13 rfl rfl)
theorem dX0_counted_128 : decode cX0_counted 128 = .ok (.getfield 333, 3) := dk_180 1 77 (dk_at dksX0_counted_5 14 rfl rfl)
theorem dX0_counted_131 : decode cX0_counted 131 = .ok (.ireturn, 1) := dk_172 (dk_at dksX0_counted_5 17 rfl rfl)
theorem dX0_counted_132 : decode cX0_counted 132 = .ok (.aload_n 0, 1) := dk_42 (dk_at dksX0_counted_5 18 rfl rfl)
theorem dX0_counted_133 : decode cX0_counted 133 = .ok (.getfield 248, 3) := dk_180 0 248 (dk_at dksX0_counted_5 19 rfl rfl)
theorem dX0_counted_136 : decode cX0_counted 136 = .ok (.ireturn, 1) := dk_172 (dk_at dksX0_counted_5 22 rfl rfl)
theorem dX0_counted_137 : decode cX0_counted 137 = .ok (.iconst 0, 1) := dk_3 (dk_at dksX0_counted_5 23 rfl rfl)
theorem dX0_counted_138 : decode cX0_counted 138 = .ok (.istore_n 3, 1) := dk_62 (dk_at dksX0_counted_6 0 rfl rfl)
theorem dX0_counted_139 : decode cX0_counted 139 = .ok (.iload_n 3, 1) := dk_29 (dk_at dksX0_counted_6 1 rfl rfl)
theorem dX0_counted_140 : decode cX0_counted 140 = .ok (.bipush 6, 2) := dk_16 6 (dk_at dksX0_counted_6 2 rfl rfl)
theorem dX0_counted_142 : decode cX0_counted 142 = .ok (.if_icmp .ge 26, 3) := dk_162 0 26 (dk_at dksX0_counted_6 4 rfl rfl)
theorem dX0_counted_145 : decode cX0_counted 145 = .ok (.iload_n 2, 1) := dk_28 (dk_at dksX0_counted_6 7 rfl rfl)
theorem dX0_counted_146 : decode cX0_counted 146 = .ok (.aload_n 0, 1) := dk_42 (dk_at dksX0_counted_6 8 rfl rfl)
theorem dX0_counted_147 : decode cX0_counted 147 = .ok (.getfield 25, 3) := dk_180 0 25 (dk_at dksX0_counted_6 9 rfl rfl)
theorem dX0_counted_150 : decode cX0_counted 150 = .ok (.iload_n 3, 1) := dk_29 (dk_at dksX0_counted_6 12 rfl rfl)
theorem dX0_counted_151 : decode cX0_counted 151 = .ok (.aaload, 1) := dk_50 (dk_at dksX0_counted_6 13 rfl rfl)
theorem dX0_counted_152 : decode cX0_counted 152 = .ok (.ifnonnull 7, 3) := dk_199 0 7 (dk_at dksX0_counted_6 14 rfl rfl)
theorem dX0_counted_155 : decode cX0_counted 155 = .ok (.iconst 0, 1) := dk_3 (dk_at dksX0_counted_6 17 rfl rfl)
theorem dX0_counted_156 : decode cX0_counted 156 = .ok (.goto 4, 3) := dk_167 0 4 (dk_at dksX0_counted_6 18 rfl rfl)
theorem dX0_counted_159 : decode cX0_counted 159 = .ok (.iconst 1, 1) := dk_4 (dk_at dksX0_counted_6 21 rfl rfl)
theorem dX0_counted_160 : decode cX0_counted 160 = .ok (.iadd, 1) := dk_96 (dk_at dksX0_counted_6 22 rfl rfl)
theorem dX0_counted_161 : decode cX0_counted 161 = .ok (.istore_n 2, 1) := dk_61 (dk_at dksX0_counted_6 23 rfl rfl)
theorem dX0_counted_162 : decode cX0_counted 162 = .ok (.iinc 3 1, 3) := dk_132 3 1 (dk_at dksX0_counted_7 0 rfl rfl)
theorem dX0_counted_165 : decode cX0_counted 165 = .ok (.goto (-26), 3) := dk_167 255 230 (dk_at dksX0_counted_7 3 rfl rfl)
theorem dX0_counted_168 : decode cX0_counted 168 = .ok (.iload_n 2, 1) := dk_28 (dk_at dksX0_counted_7 6 rfl rfl)
theorem dX0_counted_169 : decode cX0_counted 169 = .ok (.ireturn, 1) := dk_172 (dk_at dksX0_counted_7 7 rfl rfl)
theorem dX0_counted_170 : decode cX0_counted 170 = .ok (.iconst 0, 1) := dk_3 (dk_at dksX0_counted_7 8 rfl rfl)
theorem dX0_counted_171 : decode cX0_counted 171 = .ok (.istore_n 3, 1) := dk_62 (dk_at dksX0_counted_7 9 rfl rfl)
theorem dX0_counted_172 : decode cX0_counted 172 = .ok (.iload_n 3, 1) := dk_29 (dk_at dksX0_counted_7 10 rfl rfl)
theorem dX0_counted_173 : decode cX0_counted 173 = .ok (.iconst 4, 1) := dk_7 (dk_at dksX0_counted_7 11 rfl rfl)
theorem dX0_counted_174 : decode cX0_counted 174 = .ok (.if_icmp .ge 26, 3) := dk_162 0 26 (dk_at dksX0_counted_7 12 rfl rfl)
theorem dX0_counted_177 : decode cX0_counted 177 = .ok (.iload_n 2, 1) := dk_28 (dk_at dksX0_counted_7 15 rfl rfl)
theorem dX0_counted_178 : decode cX0_counted 178 = .ok (.aload_n 0, 1) := dk_42 (dk_at dksX0_counted_7 16 rfl rfl)
theorem dX0_counted_179 : decode cX0_counted 179 = .ok (.getfield 31, 3) := dk_180 0 31 (dk_at dksX0_counted_7 17 rfl rfl)
theorem dX0_counted_182 : decode cX0_counted 182 = .ok (.iload_n 3, 1) := dk_29 (dk_at dksX0_counted_7 20 rfl rfl)
theorem dX0_counted_183 : decode cX0_counted 183 = .ok (.aaload, 1) := dk_50 (dk_at dksX0_counted_7 21 rfl rfl)
theorem dX0_counted_184 : decode cX0_counted 184 = .ok (.ifnonnull 7, 3) := dk_199 0 7 (dk_at dksX0_counted_8 0 rfl rfl)
theorem dX0_counted_187 : decode cX0_counted 187 = .ok (.iconst 0, 1) := dk_3 (dk_at dksX0_counted_8 3 rfl rfl)
theorem dX0_counted_188 : decode cX0_counted 188 = .ok (.goto 4, 3) := dk_167 0 4 (dk_at dksX0_counted_8 4 rfl rfl)
theorem dX0_counted_191 : decode cX0_counted 191 = .ok (.iconst 1, 1) := dk_4 (dk_at dksX0_counted_8 7 rfl rfl)
theorem dX0_counted_192 : decode cX0_counted 192 = .ok (.iadd, 1) := dk_96 (dk_at dksX0_counted_8 8 rfl rfl)
theorem dX0_counted_193 : decode cX0_counted 193 = .ok (.istore_n 2, 1) := dk_61 (dk_at dksX0_counted_8 9 rfl rfl)
theorem dX0_counted_194 : decode cX0_counted 194 = .ok (.iinc 3 1, 3) := dk_132 3 1 (dk_at dksX0_counted_8 10 rfl rfl)
theorem dX0_counted_197 : decode cX0_counted 197 = .ok (.goto (-25), 3) := dk_167 255 231 (dk_at dksX0_counted_8 13 rfl rfl)
theorem dX0_counted_200 : decode cX0_counted 200 = .ok (.iload_n 2, 1) := dk_28 (dk_at dksX0_counted_8 16 rfl rfl)
theorem dX0_counted_201 : decode cX0_counted 201 = .ok (.ireturn, 1) := dk_172 (dk_at dksX0_counted_8 17 rfl rfl)
abbrev cX0_finding : ByteArray := prog_1_method_95_code
def yX0_finding : MethodName := ⟨RX0, "finding", "()I"⟩
theorem dX0_finding_0 : decode cX0_finding 0 = .ok (.aload_n 0, 1) := by decide +kernel
theorem dX0_finding_1 : decode cX0_finding 1 = .ok (.getfield 1, 3) := by decide +kernel
theorem dX0_finding_4 : decode cX0_finding 4 = .ok (.ireturn, 1) := by decide +kernel
abbrev cX0_findings : ByteArray := prog_1_method_96_code
def yX0_findings : MethodName := ⟨RX0, "findings", "(I)I"⟩
def dkwX0_findings_0 : List UInt8 := [27, 4, 8, 184, 0, 171, 153, 0, 12, 42, 180, 0, 7, 27, 46, 167, 0, 4, 2, 172]
abbrev dktX0_findings_0 : List UInt8 := dkwX0_findings_0 ++ []
theorem dksX0_findings_0 : cX0_findings.data.toList.drop 0 = dktX0_findings_0 := by decide +kernel
theorem dX0_findings_0 : decode cX0_findings 0 = .ok (.iload_n 1, 1) := dk_27 (dk_at dksX0_findings_0 0 rfl rfl)
theorem dX0_findings_1 : decode cX0_findings 1 = .ok (.iconst 1, 1) := dk_4 (dk_at dksX0_findings_0 1 rfl rfl)
theorem dX0_findings_2 : decode cX0_findings 2 = .ok (.iconst 5, 1) := dk_8 (dk_at dksX0_findings_0 2 rfl rfl)
theorem dX0_findings_3 : decode cX0_findings 3 = .ok (.invokestatic 171, 3) := dk_184 0 171 (dk_at dksX0_findings_0 3 rfl rfl)
theorem dX0_findings_6 : decode cX0_findings 6 = .ok (.ifCond .eq 12, 3) := dk_153 0 12 (dk_at dksX0_findings_0 6 rfl rfl)
theorem dX0_findings_9 : decode cX0_findings 9 = .ok (.aload_n 0, 1) := dk_42 (dk_at dksX0_findings_0 9 rfl rfl)
theorem dX0_findings_10 : decode cX0_findings 10 = .ok (.getfield 7, 3) := dk_180 0 7 (dk_at dksX0_findings_0 10 rfl rfl)
theorem dX0_findings_13 : decode cX0_findings 13 = .ok (.iload_n 1, 1) := dk_27 (dk_at dksX0_findings_0 13 rfl rfl)
theorem dX0_findings_14 : decode cX0_findings 14 = .ok (.iaload, 1) := dk_46 (dk_at dksX0_findings_0 14 rfl rfl)
theorem dX0_findings_15 : decode cX0_findings 15 = .ok (.goto 4, 3) := dk_167 0 4 (dk_at dksX0_findings_0 15 rfl rfl)
theorem dX0_findings_18 : decode cX0_findings 18 = .ok (.iconst (-1), 1) := dk_2 (dk_at dksX0_findings_0 18 rfl rfl)
theorem dX0_findings_19 : decode cX0_findings 19 = .ok (.ireturn, 1) := dk_172 (dk_at dksX0_findings_0 19 rfl rfl)
abbrev cX0_digest : ByteArray := prog_1_method_99_code
def yX0_digest : MethodName := ⟨RX0, "digest", "()J"⟩
def dkwX0_digest_15 : List UInt8 := [132, 3, 1, 167, 255, 235, 132, 1, 1, 167, 255, 198, 42, 180, 1, 193, 173]
abbrev dktX0_digest_15 : List UInt8 := dkwX0_digest_15 ++ []
def dkwX0_digest_14 : List UInt8 := [182, 1, 196, 3, 62, 44, 198, 0, 23, 29, 44, 190, 162, 0, 17, 42, 44, 29, 51, 133, 182, 1, 196]
abbrev dktX0_digest_14 : List UInt8 := dkwX0_digest_14 ++ dktX0_digest_15
def dkwX0_digest_13 : List UInt8 := [162, 0, 59, 42, 180, 0, 31, 27, 50, 77, 42, 44, 199, 0, 9, 20, 1, 205, 167, 0, 6, 44, 190, 133]
abbrev dktX0_digest_13 : List UInt8 := dkwX0_digest_13 ++ dktX0_digest_14
def dkwX0_digest_12 : List UInt8 := [42, 44, 29, 46, 133, 182, 1, 196, 132, 3, 1, 167, 255, 235, 132, 1, 1, 167, 255, 197, 3, 60, 27, 7]
abbrev dktX0_digest_12 : List UInt8 := dkwX0_digest_12 ++ dktX0_digest_13
def dkwX0_digest_11 : List UInt8 := [20, 1, 205, 167, 0, 6, 44, 190, 133, 182, 1, 196, 3, 62, 44, 198, 0, 23, 29, 44, 190, 162, 0, 17]
abbrev dktX0_digest_11 : List UInt8 := dkwX0_digest_11 ++ dktX0_digest_12
def dkwX0_digest_10 : List UInt8 := [182, 1, 196, 3, 60, 27, 16, 6, 162, 0, 59, 42, 180, 0, 25, 27, 50, 77, 42, 44, 199, 0, 9]
abbrev dktX0_digest_10 : List UInt8 := dkwX0_digest_10 ++ dktX0_digest_11
def dkwX0_digest_9 : List UInt8 := [182, 1, 196, 132, 1, 1, 167, 255, 223, 42, 42, 180, 0, 69, 133, 182, 1, 196, 42, 42, 180, 0, 72, 133]
abbrev dktX0_digest_9 : List UInt8 := dkwX0_digest_9 ++ dktX0_digest_10
def dkwX0_digest_8 : List UInt8 := [162, 0, 31, 42, 42, 180, 0, 105, 27, 46, 133, 182, 1, 196, 42, 42, 180, 0, 108, 27, 46, 133]
abbrev dktX0_digest_8 : List UInt8 := dkwX0_digest_8 ++ dktX0_digest_9
def dkwX0_digest_7 : List UInt8 := [180, 0, 84, 27, 46, 133, 182, 1, 196, 132, 1, 1, 167, 255, 201, 3, 60, 27, 42, 180, 1, 77]
abbrev dktX0_digest_7 : List UInt8 := dkwX0_digest_7 ++ dktX0_digest_8
def dkwX0_digest_6 : List UInt8 := [42, 42, 180, 0, 78, 27, 46, 133, 182, 1, 196, 42, 42, 180, 0, 81, 27, 46, 133, 182, 1, 196, 42, 42]
abbrev dktX0_digest_6 : List UInt8 := dkwX0_digest_6 ++ dktX0_digest_7
def dkwX0_digest_5 : List UInt8 := [167, 255, 223, 3, 60, 27, 42, 180, 0, 248, 162, 0, 53, 42, 42, 180, 0, 75, 27, 46, 133, 182, 1, 196]
abbrev dktX0_digest_5 : List UInt8 := dkwX0_digest_5 ++ dktX0_digest_6
def dkwX0_digest_4 : List UInt8 := [162, 0, 20, 42, 42, 27, 28, 182, 1, 68, 133, 182, 1, 196, 132, 2, 1, 167, 255, 237, 132, 1, 1]
abbrev dktX0_digest_4 : List UInt8 := dkwX0_digest_4 ++ dktX0_digest_5
def dkwX0_digest_3 : List UInt8 := [132, 2, 1, 167, 255, 232, 132, 1, 1, 167, 255, 216, 3, 60, 27, 16, 6, 162, 0, 33, 3, 61, 28, 8]
abbrev dktX0_digest_3 : List UInt8 := dkwX0_digest_3 ++ dktX0_digest_4
def dkwX0_digest_2 : List UInt8 := [61, 28, 16, 8, 162, 0, 24, 42, 42, 180, 0, 65, 27, 50, 28, 184, 1, 41, 133, 182, 1, 196]
abbrev dktX0_digest_2 : List UInt8 := dkwX0_digest_2 ++ dktX0_digest_3
def dkwX0_digest_1 : List UInt8 := [182, 1, 196, 132, 1, 1, 167, 255, 237, 42, 182, 1, 202, 3, 60, 27, 42, 180, 0, 245, 162, 0, 38, 3]
abbrev dktX0_digest_1 : List UInt8 := dkwX0_digest_1 ++ dktX0_digest_2
def dkwX0_digest_0 : List UInt8 := [42, 20, 1, 200, 181, 1, 193, 3, 60, 27, 16, 8, 162, 0, 19, 42, 42, 27, 182, 1, 188, 133]
abbrev dktX0_digest_0 : List UInt8 := dkwX0_digest_0 ++ dktX0_digest_1
theorem dksX0_digest_0 : cX0_digest.data.toList.drop 0 = dktX0_digest_0 := by decide +kernel
theorem dksX0_digest_1 : cX0_digest.data.toList.drop 22 = dktX0_digest_1 := dk_seg dksX0_digest_0 22 rfl rfl
theorem dksX0_digest_2 : cX0_digest.data.toList.drop 46 = dktX0_digest_2 := dk_seg dksX0_digest_1 24 rfl rfl
theorem dksX0_digest_3 : cX0_digest.data.toList.drop 68 = dktX0_digest_3 := dk_seg dksX0_digest_2 22 rfl rfl
theorem dksX0_digest_4 : cX0_digest.data.toList.drop 92 = dktX0_digest_4 := dk_seg dksX0_digest_3 24 rfl rfl
theorem dksX0_digest_5 : cX0_digest.data.toList.drop 115 = dktX0_digest_5 := dk_seg dksX0_digest_4 23 rfl rfl
theorem dksX0_digest_6 : cX0_digest.data.toList.drop 139 = dktX0_digest_6 := dk_seg dksX0_digest_5 24 rfl rfl
theorem dksX0_digest_7 : cX0_digest.data.toList.drop 163 = dktX0_digest_7 := dk_seg dksX0_digest_6 24 rfl rfl
theorem dksX0_digest_8 : cX0_digest.data.toList.drop 185 = dktX0_digest_8 := dk_seg dksX0_digest_7 22 rfl rfl
theorem dksX0_digest_9 : cX0_digest.data.toList.drop 207 = dktX0_digest_9 := dk_seg dksX0_digest_8 22 rfl rfl
theorem dksX0_digest_10 : cX0_digest.data.toList.drop 231 = dktX0_digest_10 := dk_seg dksX0_digest_9 24 rfl rfl
theorem dksX0_digest_11 : cX0_digest.data.toList.drop 254 = dktX0_digest_11 := dk_seg dksX0_digest_10 23 rfl rfl
theorem dksX0_digest_12 : cX0_digest.data.toList.drop 278 = dktX0_digest_12 := dk_seg dksX0_digest_11 24 rfl rfl
theorem dksX0_digest_13 : cX0_digest.data.toList.drop 302 = dktX0_digest_13 := dk_seg dksX0_digest_12 24 rfl rfl
theorem dksX0_digest_14 : cX0_digest.data.toList.drop 326 = dktX0_digest_14 := dk_seg dksX0_digest_13 24 rfl rfl
theorem dksX0_digest_15 : cX0_digest.data.toList.drop 349 = dktX0_digest_15 := dk_seg dksX0_digest_14 23 rfl rfl
theorem dX0_digest_0 : decode cX0_digest 0 = .ok (.aload_n 0, 1) := dk_42 (dk_at dksX0_digest_0 0 rfl rfl)
theorem dX0_digest_1 : decode cX0_digest 1 = .ok (.ldc2_w 456, 3) := dk_20 1 200 (dk_at dksX0_digest_0 1 rfl rfl)
theorem dX0_digest_4 : decode cX0_digest 4 = .ok (.putfield 449, 3) := dk_181 1 193 (dk_at dksX0_digest_0 4 rfl rfl)
theorem dX0_digest_7 : decode cX0_digest 7 = .ok (.iconst 0, 1) := dk_3 (dk_at dksX0_digest_0 7 rfl rfl)
theorem dX0_digest_8 : decode cX0_digest 8 = .ok (.istore_n 1, 1) := dk_60 (dk_at dksX0_digest_0 8 rfl rfl)
theorem dX0_digest_9 : decode cX0_digest 9 = .ok (.iload_n 1, 1) := dk_27 (dk_at dksX0_digest_0 9 rfl rfl)
theorem dX0_digest_10 : decode cX0_digest 10 = .ok (.bipush 8, 2) := dk_16 8 (dk_at dksX0_digest_0 10 rfl rfl)
theorem dX0_digest_12 : decode cX0_digest 12 = .ok (.if_icmp .ge 19, 3) := dk_162 0 19 (dk_at dksX0_digest_0 12 rfl rfl)
theorem dX0_digest_15 : decode cX0_digest 15 = .ok (.aload_n 0, 1) := dk_42 (dk_at dksX0_digest_0 15 rfl rfl)
theorem dX0_digest_16 : decode cX0_digest 16 = .ok (.aload_n 0, 1) := dk_42 (dk_at dksX0_digest_0 16 rfl rfl)
theorem dX0_digest_17 : decode cX0_digest 17 = .ok (.iload_n 1, 1) := dk_27 (dk_at dksX0_digest_0 17 rfl rfl)
theorem dX0_digest_18 : decode cX0_digest 18 = .ok (.invokevirtual 444, 3) := dk_182 1 188 (dk_at dksX0_digest_0 18 rfl rfl)
theorem dX0_digest_21 : decode cX0_digest 21 = .ok (.i2l, 1) := dk_133 (dk_at dksX0_digest_0 21 rfl rfl)
theorem dX0_digest_22 : decode cX0_digest 22 = .ok (.invokevirtual 452, 3) := dk_182 1 196 (dk_at dksX0_digest_1 0 rfl rfl)
theorem dX0_digest_25 : decode cX0_digest 25 = .ok (.iinc 1 1, 3) := dk_132 1 1 (dk_at dksX0_digest_1 3 rfl rfl)
theorem dX0_digest_28 : decode cX0_digest 28 = .ok (.goto (-19), 3) := dk_167 255 237 (dk_at dksX0_digest_1 6 rfl rfl)
theorem dX0_digest_31 : decode cX0_digest 31 = .ok (.aload_n 0, 1) := dk_42 (dk_at dksX0_digest_1 9 rfl rfl)
theorem dX0_digest_32 : decode cX0_digest 32 = .ok (.invokevirtual 458, 3) := dk_182 1 202 (dk_at dksX0_digest_1 10 rfl rfl)
theorem dX0_digest_35 : decode cX0_digest 35 = .ok (.iconst 0, 1) := dk_3 (dk_at dksX0_digest_1 13 rfl rfl)
theorem dX0_digest_36 : decode cX0_digest 36 = .ok (.istore_n 1, 1) := dk_60 (dk_at dksX0_digest_1 14 rfl rfl)
theorem dX0_digest_37 : decode cX0_digest 37 = .ok (.iload_n 1, 1) := dk_27 (dk_at dksX0_digest_1 15 rfl rfl)
theorem dX0_digest_38 : decode cX0_digest 38 = .ok (.aload_n 0, 1) := dk_42 (dk_at dksX0_digest_1 16 rfl rfl)
theorem dX0_digest_39 : decode cX0_digest 39 = .ok (.getfield 245, 3) := dk_180 0 245 (dk_at dksX0_digest_1 17 rfl rfl)
theorem dX0_digest_42 : decode cX0_digest 42 = .ok (.if_icmp .ge 38, 3) := dk_162 0 38 (dk_at dksX0_digest_1 20 rfl rfl)
theorem dX0_digest_45 : decode cX0_digest 45 = .ok (.iconst 0, 1) := dk_3 (dk_at dksX0_digest_1 23 rfl rfl)
theorem dX0_digest_46 : decode cX0_digest 46 = .ok (.istore_n 2, 1) := dk_61 (dk_at dksX0_digest_2 0 rfl rfl)
theorem dX0_digest_47 : decode cX0_digest 47 = .ok (.iload_n 2, 1) := dk_28 (dk_at dksX0_digest_2 1 rfl rfl)
theorem dX0_digest_48 : decode cX0_digest 48 = .ok (.bipush 8, 2) := dk_16 8 (dk_at dksX0_digest_2 2 rfl rfl)
theorem dX0_digest_50 : decode cX0_digest 50 = .ok (.if_icmp .ge 24, 3) := dk_162 0 24 (dk_at dksX0_digest_2 4 rfl rfl)
theorem dX0_digest_53 : decode cX0_digest 53 = .ok (.aload_n 0, 1) := dk_42 (dk_at dksX0_digest_2 7 rfl rfl)
theorem dX0_digest_54 : decode cX0_digest 54 = .ok (.aload_n 0, 1) := dk_42 (dk_at dksX0_digest_2 8 rfl rfl)
theorem dX0_digest_55 : decode cX0_digest 55 = .ok (.getfield 65, 3) := dk_180 0 65 (dk_at dksX0_digest_2 9 rfl rfl)
theorem dX0_digest_58 : decode cX0_digest 58 = .ok (.iload_n 1, 1) := dk_27 (dk_at dksX0_digest_2 12 rfl rfl)
theorem dX0_digest_59 : decode cX0_digest 59 = .ok (.aaload, 1) := dk_50 (dk_at dksX0_digest_2 13 rfl rfl)
theorem dX0_digest_60 : decode cX0_digest 60 = .ok (.iload_n 2, 1) := dk_28 (dk_at dksX0_digest_2 14 rfl rfl)
theorem dX0_digest_61 : decode cX0_digest 61 = .ok (.invokestatic 297, 3) := dk_184 1 41 (dk_at dksX0_digest_2 15 rfl rfl)
theorem dX0_digest_64 : decode cX0_digest 64 = .ok (.i2l, 1) := dk_133 (dk_at dksX0_digest_2 18 rfl rfl)
theorem dX0_digest_65 : decode cX0_digest 65 = .ok (.invokevirtual 452, 3) := dk_182 1 196 (dk_at dksX0_digest_2 19 rfl rfl)
theorem dX0_digest_68 : decode cX0_digest 68 = .ok (.iinc 2 1, 3) := dk_132 2 1 (dk_at dksX0_digest_3 0 rfl rfl)
theorem dX0_digest_71 : decode cX0_digest 71 = .ok (.goto (-24), 3) := dk_167 255 232 (dk_at dksX0_digest_3 3 rfl rfl)
theorem dX0_digest_74 : decode cX0_digest 74 = .ok (.iinc 1 1, 3) := dk_132 1 1 (dk_at dksX0_digest_3 6 rfl rfl)
theorem dX0_digest_77 : decode cX0_digest 77 = .ok (.goto (-40), 3) := dk_167 255 216 (dk_at dksX0_digest_3 9 rfl rfl)
theorem dX0_digest_80 : decode cX0_digest 80 = .ok (.iconst 0, 1) := dk_3 (dk_at dksX0_digest_3 12 rfl rfl)
theorem dX0_digest_81 : decode cX0_digest 81 = .ok (.istore_n 1, 1) := dk_60 (dk_at dksX0_digest_3 13 rfl rfl)
theorem dX0_digest_82 : decode cX0_digest 82 = .ok (.iload_n 1, 1) := dk_27 (dk_at dksX0_digest_3 14 rfl rfl)
theorem dX0_digest_83 : decode cX0_digest 83 = .ok (.bipush 6, 2) := dk_16 6 (dk_at dksX0_digest_3 15 rfl rfl)
theorem dX0_digest_85 : decode cX0_digest 85 = .ok (.if_icmp .ge 33, 3) := dk_162 0 33 (dk_at dksX0_digest_3 17 rfl rfl)
theorem dX0_digest_88 : decode cX0_digest 88 = .ok (.iconst 0, 1) := dk_3 (dk_at dksX0_digest_3 20 rfl rfl)
theorem dX0_digest_89 : decode cX0_digest 89 = .ok (.istore_n 2, 1) := dk_61 (dk_at dksX0_digest_3 21 rfl rfl)
theorem dX0_digest_90 : decode cX0_digest 90 = .ok (.iload_n 2, 1) := dk_28 (dk_at dksX0_digest_3 22 rfl rfl)
theorem dX0_digest_91 : decode cX0_digest 91 = .ok (.iconst 5, 1) := dk_8 (dk_at dksX0_digest_3 23 rfl rfl)
theorem dX0_digest_92 : decode cX0_digest 92 = .ok (.if_icmp .ge 20, 3) := dk_162 0 20 (dk_at dksX0_digest_4 0 rfl rfl)
theorem dX0_digest_95 : decode cX0_digest 95 = .ok (.aload_n 0, 1) := dk_42 (dk_at dksX0_digest_4 3 rfl rfl)
theorem dX0_digest_96 : decode cX0_digest 96 = .ok (.aload_n 0, 1) := dk_42 (dk_at dksX0_digest_4 4 rfl rfl)
theorem dX0_digest_97 : decode cX0_digest 97 = .ok (.iload_n 1, 1) := dk_27 (dk_at dksX0_digest_4 5 rfl rfl)
theorem dX0_digest_98 : decode cX0_digest 98 = .ok (.iload_n 2, 1) := dk_28 (dk_at dksX0_digest_4 6 rfl rfl)
theorem dX0_digest_99 : decode cX0_digest 99 = .ok (.invokevirtual 324, 3) := dk_182 1 68 (dk_at dksX0_digest_4 7 rfl rfl)
theorem dX0_digest_102 : decode cX0_digest 102 = .ok (.i2l, 1) := dk_133 (dk_at dksX0_digest_4 10 rfl rfl)
theorem dX0_digest_103 : decode cX0_digest 103 = .ok (.invokevirtual 452, 3) := dk_182 1 196 (dk_at dksX0_digest_4 11 rfl rfl)
theorem dX0_digest_106 : decode cX0_digest 106 = .ok (.iinc 2 1, 3) := dk_132 2 1 (dk_at dksX0_digest_4 14 rfl rfl)
theorem dX0_digest_109 : decode cX0_digest 109 = .ok (.goto (-19), 3) := dk_167 255 237 (dk_at dksX0_digest_4 17 rfl rfl)
theorem dX0_digest_112 : decode cX0_digest 112 = .ok (.iinc 1 1, 3) := dk_132 1 1 (dk_at dksX0_digest_4 20 rfl rfl)
theorem dX0_digest_115 : decode cX0_digest 115 = .ok (.goto (-33), 3) := dk_167 255 223 (dk_at dksX0_digest_5 0 rfl rfl)
theorem dX0_digest_118 : decode cX0_digest 118 = .ok (.iconst 0, 1) := dk_3 (dk_at dksX0_digest_5 3 rfl rfl)
theorem dX0_digest_119 : decode cX0_digest 119 = .ok (.istore_n 1, 1) := dk_60 (dk_at dksX0_digest_5 4 rfl rfl)
theorem dX0_digest_120 : decode cX0_digest 120 = .ok (.iload_n 1, 1) := dk_27 (dk_at dksX0_digest_5 5 rfl rfl)
theorem dX0_digest_121 : decode cX0_digest 121 = .ok (.aload_n 0, 1) := dk_42 (dk_at dksX0_digest_5 6 rfl rfl)
theorem dX0_digest_122 : decode cX0_digest 122 = .ok (.getfield 248, 3) := dk_180 0 248 (dk_at dksX0_digest_5 7 rfl rfl)
theorem dX0_digest_125 : decode cX0_digest 125 = .ok (.if_icmp .ge 53, 3) := dk_162 0 53 (dk_at dksX0_digest_5 10 rfl rfl)
theorem dX0_digest_128 : decode cX0_digest 128 = .ok (.aload_n 0, 1) := dk_42 (dk_at dksX0_digest_5 13 rfl rfl)
theorem dX0_digest_129 : decode cX0_digest 129 = .ok (.aload_n 0, 1) := dk_42 (dk_at dksX0_digest_5 14 rfl rfl)
theorem dX0_digest_130 : decode cX0_digest 130 = .ok (.getfield 75, 3) := dk_180 0 75 (dk_at dksX0_digest_5 15 rfl rfl)
theorem dX0_digest_133 : decode cX0_digest 133 = .ok (.iload_n 1, 1) := dk_27 (dk_at dksX0_digest_5 18 rfl rfl)
theorem dX0_digest_134 : decode cX0_digest 134 = .ok (.iaload, 1) := dk_46 (dk_at dksX0_digest_5 19 rfl rfl)
theorem dX0_digest_135 : decode cX0_digest 135 = .ok (.i2l, 1) := dk_133 (dk_at dksX0_digest_5 20 rfl rfl)
theorem dX0_digest_136 : decode cX0_digest 136 = .ok (.invokevirtual 452, 3) := dk_182 1 196 (dk_at dksX0_digest_5 21 rfl rfl)
theorem dX0_digest_139 : decode cX0_digest 139 = .ok (.aload_n 0, 1) := dk_42 (dk_at dksX0_digest_6 0 rfl rfl)
theorem dX0_digest_140 : decode cX0_digest 140 = .ok (.aload_n 0, 1) := dk_42 (dk_at dksX0_digest_6 1 rfl rfl)
theorem dX0_digest_141 : decode cX0_digest 141 = .ok (.getfield 78, 3) := dk_180 0 78 (dk_at dksX0_digest_6 2 rfl rfl)
theorem dX0_digest_144 : decode cX0_digest 144 = .ok (.iload_n 1, 1) := dk_27 (dk_at dksX0_digest_6 5 rfl rfl)
theorem dX0_digest_145 : decode cX0_digest 145 = .ok (.iaload, 1) := dk_46 (dk_at dksX0_digest_6 6 rfl rfl)
theorem dX0_digest_146 : decode cX0_digest 146 = .ok (.i2l, 1) := dk_133 (dk_at dksX0_digest_6 7 rfl rfl)
theorem dX0_digest_147 : decode cX0_digest 147 = .ok (.invokevirtual 452, 3) := dk_182 1 196 (dk_at dksX0_digest_6 8 rfl rfl)
theorem dX0_digest_150 : decode cX0_digest 150 = .ok (.aload_n 0, 1) := dk_42 (dk_at dksX0_digest_6 11 rfl rfl)
theorem dX0_digest_151 : decode cX0_digest 151 = .ok (.aload_n 0, 1) := dk_42 (dk_at dksX0_digest_6 12 rfl rfl)
theorem dX0_digest_152 : decode cX0_digest 152 = .ok (.getfield 81, 3) := dk_180 0 81 (dk_at dksX0_digest_6 13 rfl rfl)
theorem dX0_digest_155 : decode cX0_digest 155 = .ok (.iload_n 1, 1) := dk_27 (dk_at dksX0_digest_6 16 rfl rfl)
theorem dX0_digest_156 : decode cX0_digest 156 = .ok (.iaload, 1) := dk_46 (dk_at dksX0_digest_6 17 rfl rfl)
theorem dX0_digest_157 : decode cX0_digest 157 = .ok (.i2l, 1) := dk_133 (dk_at dksX0_digest_6 18 rfl rfl)
theorem dX0_digest_158 : decode cX0_digest 158 = .ok (.invokevirtual 452, 3) := dk_182 1 196 (dk_at dksX0_digest_6 19 rfl rfl)
theorem dX0_digest_161 : decode cX0_digest 161 = .ok (.aload_n 0, 1) := dk_42 (dk_at dksX0_digest_6 22 rfl rfl)
theorem dX0_digest_162 : decode cX0_digest 162 = .ok (.aload_n 0, 1) := dk_42 (dk_at dksX0_digest_6 23 rfl rfl)
theorem dX0_digest_163 : decode cX0_digest 163 = .ok (.getfield 84, 3) := dk_180 0 84 (dk_at dksX0_digest_7 0 rfl rfl)
theorem dX0_digest_166 : decode cX0_digest 166 = .ok (.iload_n 1, 1) := dk_27 (dk_at dksX0_digest_7 3 rfl rfl)
theorem dX0_digest_167 : decode cX0_digest 167 = .ok (.iaload, 1) := dk_46 (dk_at dksX0_digest_7 4 rfl rfl)
theorem dX0_digest_168 : decode cX0_digest 168 = .ok (.i2l, 1) := dk_133 (dk_at dksX0_digest_7 5 rfl rfl)
theorem dX0_digest_169 : decode cX0_digest 169 = .ok (.invokevirtual 452, 3) := dk_182 1 196 (dk_at dksX0_digest_7 6 rfl rfl)
theorem dX0_digest_172 : decode cX0_digest 172 = .ok (.iinc 1 1, 3) := dk_132 1 1 (dk_at dksX0_digest_7 9 rfl rfl)
theorem dX0_digest_175 : decode cX0_digest 175 = .ok (.goto (-55), 3) := dk_167 255 201 (dk_at dksX0_digest_7 12 rfl rfl)
theorem dX0_digest_178 : decode cX0_digest 178 = .ok (.iconst 0, 1) := dk_3 (dk_at dksX0_digest_7 15 rfl rfl)
theorem dX0_digest_179 : decode cX0_digest 179 = .ok (.istore_n 1, 1) := dk_60 (dk_at dksX0_digest_7 16 rfl rfl)
theorem dX0_digest_180 : decode cX0_digest 180 = .ok (.iload_n 1, 1) := dk_27 (dk_at dksX0_digest_7 17 rfl rfl)
theorem dX0_digest_181 : decode cX0_digest 181 = .ok (.aload_n 0, 1) := dk_42 (dk_at dksX0_digest_7 18 rfl rfl)
theorem dX0_digest_182 : decode cX0_digest 182 = .ok (.getfield 333, 3) := dk_180 1 77 (dk_at dksX0_digest_7 19 rfl rfl)
theorem dX0_digest_185 : decode cX0_digest 185 = .ok (.if_icmp .ge 31, 3) := dk_162 0 31 (dk_at dksX0_digest_8 0 rfl rfl)
theorem dX0_digest_188 : decode cX0_digest 188 = .ok (.aload_n 0, 1) := dk_42 (dk_at dksX0_digest_8 3 rfl rfl)
theorem dX0_digest_189 : decode cX0_digest 189 = .ok (.aload_n 0, 1) := dk_42 (dk_at dksX0_digest_8 4 rfl rfl)
theorem dX0_digest_190 : decode cX0_digest 190 = .ok (.getfield 105, 3) := dk_180 0 105 (dk_at dksX0_digest_8 5 rfl rfl)
theorem dX0_digest_193 : decode cX0_digest 193 = .ok (.iload_n 1, 1) := dk_27 (dk_at dksX0_digest_8 8 rfl rfl)
theorem dX0_digest_194 : decode cX0_digest 194 = .ok (.iaload, 1) := dk_46 (dk_at dksX0_digest_8 9 rfl rfl)
theorem dX0_digest_195 : decode cX0_digest 195 = .ok (.i2l, 1) := dk_133 (dk_at dksX0_digest_8 10 rfl rfl)
theorem dX0_digest_196 : decode cX0_digest 196 = .ok (.invokevirtual 452, 3) := dk_182 1 196 (dk_at dksX0_digest_8 11 rfl rfl)
theorem dX0_digest_199 : decode cX0_digest 199 = .ok (.aload_n 0, 1) := dk_42 (dk_at dksX0_digest_8 14 rfl rfl)
theorem dX0_digest_200 : decode cX0_digest 200 = .ok (.aload_n 0, 1) := dk_42 (dk_at dksX0_digest_8 15 rfl rfl)
theorem dX0_digest_201 : decode cX0_digest 201 = .ok (.getfield 108, 3) := dk_180 0 108 (dk_at dksX0_digest_8 16 rfl rfl)
theorem dX0_digest_204 : decode cX0_digest 204 = .ok (.iload_n 1, 1) := dk_27 (dk_at dksX0_digest_8 19 rfl rfl)
theorem dX0_digest_205 : decode cX0_digest 205 = .ok (.iaload, 1) := dk_46 (dk_at dksX0_digest_8 20 rfl rfl)
theorem dX0_digest_206 : decode cX0_digest 206 = .ok (.i2l, 1) := dk_133 (dk_at dksX0_digest_8 21 rfl rfl)
theorem dX0_digest_207 : decode cX0_digest 207 = .ok (.invokevirtual 452, 3) := dk_182 1 196 (dk_at dksX0_digest_9 0 rfl rfl)
theorem dX0_digest_210 : decode cX0_digest 210 = .ok (.iinc 1 1, 3) := dk_132 1 1 (dk_at dksX0_digest_9 3 rfl rfl)
theorem dX0_digest_213 : decode cX0_digest 213 = .ok (.goto (-33), 3) := dk_167 255 223 (dk_at dksX0_digest_9 6 rfl rfl)
theorem dX0_digest_216 : decode cX0_digest 216 = .ok (.aload_n 0, 1) := dk_42 (dk_at dksX0_digest_9 9 rfl rfl)
theorem dX0_digest_217 : decode cX0_digest 217 = .ok (.aload_n 0, 1) := dk_42 (dk_at dksX0_digest_9 10 rfl rfl)
theorem dX0_digest_218 : decode cX0_digest 218 = .ok (.getfield 69, 3) := dk_180 0 69 (dk_at dksX0_digest_9 11 rfl rfl)
theorem dX0_digest_221 : decode cX0_digest 221 = .ok (.i2l, 1) := dk_133 (dk_at dksX0_digest_9 14 rfl rfl)
theorem dX0_digest_222 : decode cX0_digest 222 = .ok (.invokevirtual 452, 3) := dk_182 1 196 (dk_at dksX0_digest_9 15 rfl rfl)
theorem dX0_digest_225 : decode cX0_digest 225 = .ok (.aload_n 0, 1) := dk_42 (dk_at dksX0_digest_9 18 rfl rfl)
theorem dX0_digest_226 : decode cX0_digest 226 = .ok (.aload_n 0, 1) := dk_42 (dk_at dksX0_digest_9 19 rfl rfl)
theorem dX0_digest_227 : decode cX0_digest 227 = .ok (.getfield 72, 3) := dk_180 0 72 (dk_at dksX0_digest_9 20 rfl rfl)
theorem dX0_digest_230 : decode cX0_digest 230 = .ok (.i2l, 1) := dk_133 (dk_at dksX0_digest_9 23 rfl rfl)
theorem dX0_digest_231 : decode cX0_digest 231 = .ok (.invokevirtual 452, 3) := dk_182 1 196 (dk_at dksX0_digest_10 0 rfl rfl)
theorem dX0_digest_234 : decode cX0_digest 234 = .ok (.iconst 0, 1) := dk_3 (dk_at dksX0_digest_10 3 rfl rfl)
theorem dX0_digest_235 : decode cX0_digest 235 = .ok (.istore_n 1, 1) := dk_60 (dk_at dksX0_digest_10 4 rfl rfl)
theorem dX0_digest_236 : decode cX0_digest 236 = .ok (.iload_n 1, 1) := dk_27 (dk_at dksX0_digest_10 5 rfl rfl)
theorem dX0_digest_237 : decode cX0_digest 237 = .ok (.bipush 6, 2) := dk_16 6 (dk_at dksX0_digest_10 6 rfl rfl)
theorem dX0_digest_239 : decode cX0_digest 239 = .ok (.if_icmp .ge 59, 3) := dk_162 0 59 (dk_at dksX0_digest_10 8 rfl rfl)
theorem dX0_digest_242 : decode cX0_digest 242 = .ok (.aload_n 0, 1) := dk_42 (dk_at dksX0_digest_10 11 rfl rfl)
theorem dX0_digest_243 : decode cX0_digest 243 = .ok (.getfield 25, 3) := dk_180 0 25 (dk_at dksX0_digest_10 12 rfl rfl)
theorem dX0_digest_246 : decode cX0_digest 246 = .ok (.iload_n 1, 1) := dk_27 (dk_at dksX0_digest_10 15 rfl rfl)
theorem dX0_digest_247 : decode cX0_digest 247 = .ok (.aaload, 1) := dk_50 (dk_at dksX0_digest_10 16 rfl rfl)
theorem dX0_digest_248 : decode cX0_digest 248 = .ok (.astore_n 2, 1) := dk_77 (dk_at dksX0_digest_10 17 rfl rfl)
theorem dX0_digest_249 : decode cX0_digest 249 = .ok (.aload_n 0, 1) := dk_42 (dk_at dksX0_digest_10 18 rfl rfl)
theorem dX0_digest_250 : decode cX0_digest 250 = .ok (.aload_n 2, 1) := dk_44 (dk_at dksX0_digest_10 19 rfl rfl)
theorem dX0_digest_251 : decode cX0_digest 251 = .ok (.ifnonnull 9, 3) := dk_199 0 9 (dk_at dksX0_digest_10 20 rfl rfl)
theorem dX0_digest_254 : decode cX0_digest 254 = .ok (.ldc2_w 461, 3) := dk_20 1 205 (dk_at dksX0_digest_11 0 rfl rfl)
theorem dX0_digest_257 : decode cX0_digest 257 = .ok (.goto 6, 3) := dk_167 0 6 (dk_at dksX0_digest_11 3 rfl rfl)
theorem dX0_digest_260 : decode cX0_digest 260 = .ok (.aload_n 2, 1) := dk_44 (dk_at dksX0_digest_11 6 rfl rfl)
theorem dX0_digest_261 : decode cX0_digest 261 = .ok (.arraylength, 1) := dk_190 (dk_at dksX0_digest_11 7 rfl rfl)
theorem dX0_digest_262 : decode cX0_digest 262 = .ok (.i2l, 1) := dk_133 (dk_at dksX0_digest_11 8 rfl rfl)
theorem dX0_digest_263 : decode cX0_digest 263 = .ok (.invokevirtual 452, 3) := dk_182 1 196 (dk_at dksX0_digest_11 9 rfl rfl)
theorem dX0_digest_266 : decode cX0_digest 266 = .ok (.iconst 0, 1) := dk_3 (dk_at dksX0_digest_11 12 rfl rfl)
theorem dX0_digest_267 : decode cX0_digest 267 = .ok (.istore_n 3, 1) := dk_62 (dk_at dksX0_digest_11 13 rfl rfl)
theorem dX0_digest_268 : decode cX0_digest 268 = .ok (.aload_n 2, 1) := dk_44 (dk_at dksX0_digest_11 14 rfl rfl)
theorem dX0_digest_269 : decode cX0_digest 269 = .ok (.ifnull 23, 3) := dk_198 0 23 (dk_at dksX0_digest_11 15 rfl rfl)
theorem dX0_digest_272 : decode cX0_digest 272 = .ok (.iload_n 3, 1) := dk_29 (dk_at dksX0_digest_11 18 rfl rfl)
theorem dX0_digest_273 : decode cX0_digest 273 = .ok (.aload_n 2, 1) := dk_44 (dk_at dksX0_digest_11 19 rfl rfl)
theorem dX0_digest_274 : decode cX0_digest 274 = .ok (.arraylength, 1) := dk_190 (dk_at dksX0_digest_11 20 rfl rfl)
theorem dX0_digest_275 : decode cX0_digest 275 = .ok (.if_icmp .ge 17, 3) := dk_162 0 17 (dk_at dksX0_digest_11 21 rfl rfl)
theorem dX0_digest_278 : decode cX0_digest 278 = .ok (.aload_n 0, 1) := dk_42 (dk_at dksX0_digest_12 0 rfl rfl)
theorem dX0_digest_279 : decode cX0_digest 279 = .ok (.aload_n 2, 1) := dk_44 (dk_at dksX0_digest_12 1 rfl rfl)
theorem dX0_digest_280 : decode cX0_digest 280 = .ok (.iload_n 3, 1) := dk_29 (dk_at dksX0_digest_12 2 rfl rfl)
theorem dX0_digest_281 : decode cX0_digest 281 = .ok (.iaload, 1) := dk_46 (dk_at dksX0_digest_12 3 rfl rfl)
theorem dX0_digest_282 : decode cX0_digest 282 = .ok (.i2l, 1) := dk_133 (dk_at dksX0_digest_12 4 rfl rfl)
theorem dX0_digest_283 : decode cX0_digest 283 = .ok (.invokevirtual 452, 3) := dk_182 1 196 (dk_at dksX0_digest_12 5 rfl rfl)
theorem dX0_digest_286 : decode cX0_digest 286 = .ok (.iinc 3 1, 3) := dk_132 3 1 (dk_at dksX0_digest_12 8 rfl rfl)
theorem dX0_digest_289 : decode cX0_digest 289 = .ok (.goto (-21), 3) := dk_167 255 235 (dk_at dksX0_digest_12 11 rfl rfl)
theorem dX0_digest_292 : decode cX0_digest 292 = .ok (.iinc 1 1, 3) := dk_132 1 1 (dk_at dksX0_digest_12 14 rfl rfl)
theorem dX0_digest_295 : decode cX0_digest 295 = .ok (.goto (-59), 3) := dk_167 255 197 (dk_at dksX0_digest_12 17 rfl rfl)
theorem dX0_digest_298 : decode cX0_digest 298 = .ok (.iconst 0, 1) := dk_3 (dk_at dksX0_digest_12 20 rfl rfl)
theorem dX0_digest_299 : decode cX0_digest 299 = .ok (.istore_n 1, 1) := dk_60 (dk_at dksX0_digest_12 21 rfl rfl)
theorem dX0_digest_300 : decode cX0_digest 300 = .ok (.iload_n 1, 1) := dk_27 (dk_at dksX0_digest_12 22 rfl rfl)
theorem dX0_digest_301 : decode cX0_digest 301 = .ok (.iconst 4, 1) := dk_7 (dk_at dksX0_digest_12 23 rfl rfl)
theorem dX0_digest_302 : decode cX0_digest 302 = .ok (.if_icmp .ge 59, 3) := dk_162 0 59 (dk_at dksX0_digest_13 0 rfl rfl)
theorem dX0_digest_305 : decode cX0_digest 305 = .ok (.aload_n 0, 1) := dk_42 (dk_at dksX0_digest_13 3 rfl rfl)
theorem dX0_digest_306 : decode cX0_digest 306 = .ok (.getfield 31, 3) := dk_180 0 31 (dk_at dksX0_digest_13 4 rfl rfl)
theorem dX0_digest_309 : decode cX0_digest 309 = .ok (.iload_n 1, 1) := dk_27 (dk_at dksX0_digest_13 7 rfl rfl)
theorem dX0_digest_310 : decode cX0_digest 310 = .ok (.aaload, 1) := dk_50 (dk_at dksX0_digest_13 8 rfl rfl)
theorem dX0_digest_311 : decode cX0_digest 311 = .ok (.astore_n 2, 1) := dk_77 (dk_at dksX0_digest_13 9 rfl rfl)
theorem dX0_digest_312 : decode cX0_digest 312 = .ok (.aload_n 0, 1) := dk_42 (dk_at dksX0_digest_13 10 rfl rfl)
theorem dX0_digest_313 : decode cX0_digest 313 = .ok (.aload_n 2, 1) := dk_44 (dk_at dksX0_digest_13 11 rfl rfl)
theorem dX0_digest_314 : decode cX0_digest 314 = .ok (.ifnonnull 9, 3) := dk_199 0 9 (dk_at dksX0_digest_13 12 rfl rfl)
theorem dX0_digest_317 : decode cX0_digest 317 = .ok (.ldc2_w 461, 3) := dk_20 1 205 (dk_at dksX0_digest_13 15 rfl rfl)
theorem dX0_digest_320 : decode cX0_digest 320 = .ok (.goto 6, 3) := dk_167 0 6 (dk_at dksX0_digest_13 18 rfl rfl)
theorem dX0_digest_323 : decode cX0_digest 323 = .ok (.aload_n 2, 1) := dk_44 (dk_at dksX0_digest_13 21 rfl rfl)
theorem dX0_digest_324 : decode cX0_digest 324 = .ok (.arraylength, 1) := dk_190 (dk_at dksX0_digest_13 22 rfl rfl)
theorem dX0_digest_325 : decode cX0_digest 325 = .ok (.i2l, 1) := dk_133 (dk_at dksX0_digest_13 23 rfl rfl)
theorem dX0_digest_326 : decode cX0_digest 326 = .ok (.invokevirtual 452, 3) := dk_182 1 196 (dk_at dksX0_digest_14 0 rfl rfl)
theorem dX0_digest_329 : decode cX0_digest 329 = .ok (.iconst 0, 1) := dk_3 (dk_at dksX0_digest_14 3 rfl rfl)
theorem dX0_digest_330 : decode cX0_digest 330 = .ok (.istore_n 3, 1) := dk_62 (dk_at dksX0_digest_14 4 rfl rfl)
theorem dX0_digest_331 : decode cX0_digest 331 = .ok (.aload_n 2, 1) := dk_44 (dk_at dksX0_digest_14 5 rfl rfl)
theorem dX0_digest_332 : decode cX0_digest 332 = .ok (.ifnull 23, 3) := dk_198 0 23 (dk_at dksX0_digest_14 6 rfl rfl)
theorem dX0_digest_335 : decode cX0_digest 335 = .ok (.iload_n 3, 1) := dk_29 (dk_at dksX0_digest_14 9 rfl rfl)
theorem dX0_digest_336 : decode cX0_digest 336 = .ok (.aload_n 2, 1) := dk_44 (dk_at dksX0_digest_14 10 rfl rfl)
theorem dX0_digest_337 : decode cX0_digest 337 = .ok (.arraylength, 1) := dk_190 (dk_at dksX0_digest_14 11 rfl rfl)
theorem dX0_digest_338 : decode cX0_digest 338 = .ok (.if_icmp .ge 17, 3) := dk_162 0 17 (dk_at dksX0_digest_14 12 rfl rfl)
theorem dX0_digest_341 : decode cX0_digest 341 = .ok (.aload_n 0, 1) := dk_42 (dk_at dksX0_digest_14 15 rfl rfl)
theorem dX0_digest_342 : decode cX0_digest 342 = .ok (.aload_n 2, 1) := dk_44 (dk_at dksX0_digest_14 16 rfl rfl)
theorem dX0_digest_343 : decode cX0_digest 343 = .ok (.iload_n 3, 1) := dk_29 (dk_at dksX0_digest_14 17 rfl rfl)
theorem dX0_digest_344 : decode cX0_digest 344 = .ok (.baload, 1) := dk_51 (dk_at dksX0_digest_14 18 rfl rfl)
theorem dX0_digest_345 : decode cX0_digest 345 = .ok (.i2l, 1) := dk_133 (dk_at dksX0_digest_14 19 rfl rfl)
theorem dX0_digest_346 : decode cX0_digest 346 = .ok (.invokevirtual 452, 3) := dk_182 1 196 (dk_at dksX0_digest_14 20 rfl rfl)
theorem dX0_digest_349 : decode cX0_digest 349 = .ok (.iinc 3 1, 3) := dk_132 3 1 (dk_at dksX0_digest_15 0 rfl rfl)
theorem dX0_digest_352 : decode cX0_digest 352 = .ok (.goto (-21), 3) := dk_167 255 235 (dk_at dksX0_digest_15 3 rfl rfl)
theorem dX0_digest_355 : decode cX0_digest 355 = .ok (.iinc 1 1, 3) := dk_132 1 1 (dk_at dksX0_digest_15 6 rfl rfl)
theorem dX0_digest_358 : decode cX0_digest 358 = .ok (.goto (-58), 3) := dk_167 255 198 (dk_at dksX0_digest_15 9 rfl rfl)
theorem dX0_digest_361 : decode cX0_digest 361 = .ok (.aload_n 0, 1) := dk_42 (dk_at dksX0_digest_15 12 rfl rfl)
theorem dX0_digest_362 : decode cX0_digest 362 = .ok (.getfield 449, 3) := dk_180 1 193 (dk_at dksX0_digest_15 13 rfl rfl)
theorem dX0_digest_365 : decode cX0_digest 365 = .ok (.lreturn, 1) := dk_173 (dk_at dksX0_digest_15 16 rfl rfl)
abbrev cX0_mix : ByteArray := prog_1_method_97_code
def yX0_mix : MethodName := ⟨RX0, "mix", "(J)V"⟩
def dkwX0_mix_0 : List UInt8 := [42, 20, 1, 191, 42, 180, 1, 193, 105, 31, 97, 181, 1, 193, 177]
abbrev dktX0_mix_0 : List UInt8 := dkwX0_mix_0 ++ []
theorem dksX0_mix_0 : cX0_mix.data.toList.drop 0 = dktX0_mix_0 := by decide +kernel
theorem dX0_mix_0 : decode cX0_mix 0 = .ok (.aload_n 0, 1) := dk_42 (dk_at dksX0_mix_0 0 rfl rfl)
theorem dX0_mix_1 : decode cX0_mix 1 = .ok (.ldc2_w 447, 3) := dk_20 1 191 (dk_at dksX0_mix_0 1 rfl rfl)
theorem dX0_mix_4 : decode cX0_mix 4 = .ok (.aload_n 0, 1) := dk_42 (dk_at dksX0_mix_0 4 rfl rfl)
theorem dX0_mix_5 : decode cX0_mix 5 = .ok (.getfield 449, 3) := dk_180 1 193 (dk_at dksX0_mix_0 5 rfl rfl)
theorem dX0_mix_8 : decode cX0_mix 8 = .ok (.lmul, 1) := dk_105 (dk_at dksX0_mix_0 8 rfl rfl)
theorem dX0_mix_9 : decode cX0_mix 9 = .ok (.lload_n 1, 1) := dk_31 (dk_at dksX0_mix_0 9 rfl rfl)
theorem dX0_mix_10 : decode cX0_mix 10 = .ok (.ladd, 1) := dk_97 (dk_at dksX0_mix_0 10 rfl rfl)
theorem dX0_mix_11 : decode cX0_mix 11 = .ok (.putfield 449, 3) := dk_181 1 193 (dk_at dksX0_mix_0 11 rfl rfl)
theorem dX0_mix_14 : decode cX0_mix 14 = .ok (.return_, 1) := dk_177 (dk_at dksX0_mix_0 14 rfl rfl)
abbrev cX0_mixWays : ByteArray := prog_1_method_98_code
def yX0_mixWays : MethodName := ⟨RX0, "mixWays", "()V"⟩
def dkwX0_mixWays_3 : List UInt8 := [167, 255, 196, 132, 1, 1, 167, 255, 180, 177]
abbrev dktX0_mixWays_3 : List UInt8 := dkwX0_mixWays_3 ++ []
def dkwX0_mixWays_2 : List UInt8 := [42, 180, 0, 50, 29, 46, 133, 182, 1, 196, 42, 42, 180, 0, 53, 29, 46, 133, 182, 1, 196, 132, 2, 1]
abbrev dktX0_mixWays_2 : List UInt8 := dkwX0_mixWays_2 ++ dktX0_mixWays_3
def dkwX0_mixWays_1 : List UInt8 := [62, 42, 42, 180, 0, 44, 29, 46, 133, 182, 1, 196, 42, 42, 180, 0, 47, 29, 46, 133, 182, 1, 196, 42]
abbrev dktX0_mixWays_1 : List UInt8 := dkwX0_mixWays_1 ++ dktX0_mixWays_2
def dkwX0_mixWays_0 : List UInt8 := [3, 60, 27, 16, 8, 162, 0, 76, 27, 4, 96, 61, 28, 16, 8, 162, 0, 60, 16, 8, 27, 104, 28, 96]
abbrev dktX0_mixWays_0 : List UInt8 := dkwX0_mixWays_0 ++ dktX0_mixWays_1
theorem dksX0_mixWays_0 : cX0_mixWays.data.toList.drop 0 = dktX0_mixWays_0 := by decide +kernel
theorem dksX0_mixWays_1 : cX0_mixWays.data.toList.drop 24 = dktX0_mixWays_1 := dk_seg dksX0_mixWays_0 24 rfl rfl
theorem dksX0_mixWays_2 : cX0_mixWays.data.toList.drop 48 = dktX0_mixWays_2 := dk_seg dksX0_mixWays_1 24 rfl rfl
theorem dksX0_mixWays_3 : cX0_mixWays.data.toList.drop 72 = dktX0_mixWays_3 := dk_seg dksX0_mixWays_2 24 rfl rfl
theorem dX0_mixWays_0 : decode cX0_mixWays 0 = .ok (.iconst 0, 1) := dk_3 (dk_at dksX0_mixWays_0 0 rfl rfl)
theorem dX0_mixWays_1 : decode cX0_mixWays 1 = .ok (.istore_n 1, 1) := dk_60 (dk_at dksX0_mixWays_0 1 rfl rfl)
theorem dX0_mixWays_2 : decode cX0_mixWays 2 = .ok (.iload_n 1, 1) := dk_27 (dk_at dksX0_mixWays_0 2 rfl rfl)
theorem dX0_mixWays_3 : decode cX0_mixWays 3 = .ok (.bipush 8, 2) := dk_16 8 (dk_at dksX0_mixWays_0 3 rfl rfl)
theorem dX0_mixWays_5 : decode cX0_mixWays 5 = .ok (.if_icmp .ge 76, 3) := dk_162 0 76 (dk_at dksX0_mixWays_0 5 rfl rfl)
theorem dX0_mixWays_8 : decode cX0_mixWays 8 = .ok (.iload_n 1, 1) := dk_27 (dk_at dksX0_mixWays_0 8 rfl rfl)
theorem dX0_mixWays_9 : decode cX0_mixWays 9 = .ok (.iconst 1, 1) := dk_4 (dk_at dksX0_mixWays_0 9 rfl rfl)
theorem dX0_mixWays_10 : decode cX0_mixWays 10 = .ok (.iadd, 1) := dk_96 (dk_at dksX0_mixWays_0 10 rfl rfl)
theorem dX0_mixWays_11 : decode cX0_mixWays 11 = .ok (.istore_n 2, 1) := dk_61 (dk_at dksX0_mixWays_0 11 rfl rfl)
theorem dX0_mixWays_12 : decode cX0_mixWays 12 = .ok (.iload_n 2, 1) := dk_28 (dk_at dksX0_mixWays_0 12 rfl rfl)
theorem dX0_mixWays_13 : decode cX0_mixWays 13 = .ok (.bipush 8, 2) := dk_16 8 (dk_at dksX0_mixWays_0 13 rfl rfl)
theorem dX0_mixWays_15 : decode cX0_mixWays 15 = .ok (.if_icmp .ge 60, 3) := dk_162 0 60 (dk_at dksX0_mixWays_0 15 rfl rfl)
theorem dX0_mixWays_18 : decode cX0_mixWays 18 = .ok (.bipush 8, 2) := dk_16 8 (dk_at dksX0_mixWays_0 18 rfl rfl)
theorem dX0_mixWays_20 : decode cX0_mixWays 20 = .ok (.iload_n 1, 1) := dk_27 (dk_at dksX0_mixWays_0 20 rfl rfl)
theorem dX0_mixWays_21 : decode cX0_mixWays 21 = .ok (.imul, 1) := dk_104 (dk_at dksX0_mixWays_0 21 rfl rfl)
theorem dX0_mixWays_22 : decode cX0_mixWays 22 = .ok (.iload_n 2, 1) := dk_28 (dk_at dksX0_mixWays_0 22 rfl rfl)
theorem dX0_mixWays_23 : decode cX0_mixWays 23 = .ok (.iadd, 1) := dk_96 (dk_at dksX0_mixWays_0 23 rfl rfl)
theorem dX0_mixWays_24 : decode cX0_mixWays 24 = .ok (.istore_n 3, 1) := dk_62 (dk_at dksX0_mixWays_1 0 rfl rfl)
theorem dX0_mixWays_25 : decode cX0_mixWays 25 = .ok (.aload_n 0, 1) := dk_42 (dk_at dksX0_mixWays_1 1 rfl rfl)
theorem dX0_mixWays_26 : decode cX0_mixWays 26 = .ok (.aload_n 0, 1) := dk_42 (dk_at dksX0_mixWays_1 2 rfl rfl)
theorem dX0_mixWays_27 : decode cX0_mixWays 27 = .ok (.getfield 44, 3) := dk_180 0 44 (dk_at dksX0_mixWays_1 3 rfl rfl)
theorem dX0_mixWays_30 : decode cX0_mixWays 30 = .ok (.iload_n 3, 1) := dk_29 (dk_at dksX0_mixWays_1 6 rfl rfl)
theorem dX0_mixWays_31 : decode cX0_mixWays 31 = .ok (.iaload, 1) := dk_46 (dk_at dksX0_mixWays_1 7 rfl rfl)
theorem dX0_mixWays_32 : decode cX0_mixWays 32 = .ok (.i2l, 1) := dk_133 (dk_at dksX0_mixWays_1 8 rfl rfl)
theorem dX0_mixWays_33 : decode cX0_mixWays 33 = .ok (.invokevirtual 452, 3) := dk_182 1 196 (dk_at dksX0_mixWays_1 9 rfl rfl)
theorem dX0_mixWays_36 : decode cX0_mixWays 36 = .ok (.aload_n 0, 1) := dk_42 (dk_at dksX0_mixWays_1 12 rfl rfl)
theorem dX0_mixWays_37 : decode cX0_mixWays 37 = .ok (.aload_n 0, 1) := dk_42 (dk_at dksX0_mixWays_1 13 rfl rfl)
theorem dX0_mixWays_38 : decode cX0_mixWays 38 = .ok (.getfield 47, 3) := dk_180 0 47 (dk_at dksX0_mixWays_1 14 rfl rfl)
theorem dX0_mixWays_41 : decode cX0_mixWays 41 = .ok (.iload_n 3, 1) := dk_29 (dk_at dksX0_mixWays_1 17 rfl rfl)
theorem dX0_mixWays_42 : decode cX0_mixWays 42 = .ok (.iaload, 1) := dk_46 (dk_at dksX0_mixWays_1 18 rfl rfl)
theorem dX0_mixWays_43 : decode cX0_mixWays 43 = .ok (.i2l, 1) := dk_133 (dk_at dksX0_mixWays_1 19 rfl rfl)
theorem dX0_mixWays_44 : decode cX0_mixWays 44 = .ok (.invokevirtual 452, 3) := dk_182 1 196 (dk_at dksX0_mixWays_1 20 rfl rfl)
theorem dX0_mixWays_47 : decode cX0_mixWays 47 = .ok (.aload_n 0, 1) := dk_42 (dk_at dksX0_mixWays_1 23 rfl rfl)
theorem dX0_mixWays_48 : decode cX0_mixWays 48 = .ok (.aload_n 0, 1) := dk_42 (dk_at dksX0_mixWays_2 0 rfl rfl)
theorem dX0_mixWays_49 : decode cX0_mixWays 49 = .ok (.getfield 50, 3) := dk_180 0 50 (dk_at dksX0_mixWays_2 1 rfl rfl)
theorem dX0_mixWays_52 : decode cX0_mixWays 52 = .ok (.iload_n 3, 1) := dk_29 (dk_at dksX0_mixWays_2 4 rfl rfl)
theorem dX0_mixWays_53 : decode cX0_mixWays 53 = .ok (.iaload, 1) := dk_46 (dk_at dksX0_mixWays_2 5 rfl rfl)
theorem dX0_mixWays_54 : decode cX0_mixWays 54 = .ok (.i2l, 1) := dk_133 (dk_at dksX0_mixWays_2 6 rfl rfl)
theorem dX0_mixWays_55 : decode cX0_mixWays 55 = .ok (.invokevirtual 452, 3) := dk_182 1 196 (dk_at dksX0_mixWays_2 7 rfl rfl)
theorem dX0_mixWays_58 : decode cX0_mixWays 58 = .ok (.aload_n 0, 1) := dk_42 (dk_at dksX0_mixWays_2 10 rfl rfl)
theorem dX0_mixWays_59 : decode cX0_mixWays 59 = .ok (.aload_n 0, 1) := dk_42 (dk_at dksX0_mixWays_2 11 rfl rfl)
theorem dX0_mixWays_60 : decode cX0_mixWays 60 = .ok (.getfield 53, 3) := dk_180 0 53 (dk_at dksX0_mixWays_2 12 rfl rfl)
theorem dX0_mixWays_63 : decode cX0_mixWays 63 = .ok (.iload_n 3, 1) := dk_29 (dk_at dksX0_mixWays_2 15 rfl rfl)
theorem dX0_mixWays_64 : decode cX0_mixWays 64 = .ok (.iaload, 1) := dk_46 (dk_at dksX0_mixWays_2 16 rfl rfl)
theorem dX0_mixWays_65 : decode cX0_mixWays 65 = .ok (.i2l, 1) := dk_133 (dk_at dksX0_mixWays_2 17 rfl rfl)
theorem dX0_mixWays_66 : decode cX0_mixWays 66 = .ok (.invokevirtual 452, 3) := dk_182 1 196 (dk_at dksX0_mixWays_2 18 rfl rfl)
theorem dX0_mixWays_69 : decode cX0_mixWays 69 = .ok (.iinc 2 1, 3) := dk_132 2 1 (dk_at dksX0_mixWays_2 21 rfl rfl)
theorem dX0_mixWays_72 : decode cX0_mixWays 72 = .ok (.goto (-60), 3) := dk_167 255 196 (dk_at dksX0_mixWays_3 0 rfl rfl)
theorem dX0_mixWays_75 : decode cX0_mixWays 75 = .ok (.iinc 1 1, 3) := dk_132 1 1 (dk_at dksX0_mixWays_3 3 rfl rfl)
theorem dX0_mixWays_78 : decode cX0_mixWays 78 = .ok (.goto (-76), 3) := dk_167 255 180 (dk_at dksX0_mixWays_3 6 rfl rfl)
theorem dX0_mixWays_81 : decode cX0_mixWays 81 = .ok (.return_, 1) := dk_177 (dk_at dksX0_mixWays_3 9 rfl rfl)
theorem q63 : (Jvm.Cond.initialized "TrailerYards") ∈ lw_all := lw_g (lw_at lw_m1 1 rfl) rfl
theorem q83 : (Jvm.Cond.instanceMethod ({ cls := "TrailerYards", name := "asked", desc := "()I" } : Jvm.MethodName)) ∈ lw_all := lw_g (lw_at lw_m1 21 rfl) rfl
theorem q84 : (Jvm.Cond.selects "TrailerYards" ({ cls := "TrailerYards", name := "asked", desc := "()I" } : Jvm.MethodName) ({ cls := "TrailerYards", name := "asked", desc := "()I" } : Jvm.MethodName)) ∈ lw_all := lw_g (lw_at lw_m1 22 rfl) rfl
theorem q85 : (Jvm.Cond.code ({ cls := "TrailerYards", name := "asked", desc := "()I" } : Jvm.MethodName) prog_1_method_4_code (1 : Nat) (Option.some Jvm.ClassFile.FieldType.int)) ∈ lw_all := lw_g (lw_at lw_m1 23 rfl) rfl
theorem q87 : (Jvm.Cond.instantiable "TrailerYards" (62 : Nat)) ∈ lw_all := lw_g (lw_at lw_m1 25 rfl) rfl
theorem q89 : (Jvm.Cond.instanceMethod ({ cls := "TrailerYards", name := "<init>", desc := "()V" } : Jvm.MethodName)) ∈ lw_all := lw_g (lw_at lw_m1 27 rfl) rfl
theorem q90 : (Jvm.Cond.code ({ cls := "TrailerYards", name := "<init>", desc := "()V" } : Jvm.MethodName) prog_1_method_5_code (2 : Nat) (Option.none : Option Jvm.ClassFile.FieldType)) ∈ lw_all := lw_g (lw_at lw_m1 28 rfl) rfl
theorem q91 : (Jvm.Cond.methodLink "TrailerYards" (14 : Nat) ({ cls := "java/lang/Object", name := "<init>", desc := "()V" } : Jvm.MethodName)) ∈ lw_all := lw_g (lw_at lw_m1 29 rfl) rfl
theorem q94 : (Jvm.Cond.classLink "TrailerYards" (24 : Nat) "[I") ∈ lw_all := lw_g (lw_at lw_m1 32 rfl) rfl
theorem q96 : (Jvm.Cond.classLink "TrailerYards" (29 : Nat) "[B") ∈ lw_all := lw_g (lw_at lw_m1 34 rfl) rfl
theorem q98 : (Jvm.Cond.classLink "TrailerYards" (63 : Nat) "TrailerYards$Trailer") ∈ lw_all := lw_g (lw_at lw_m1 36 rfl) rfl
theorem q100 : (Jvm.Cond.fieldLink "TrailerYards" (1 : Nat) "TrailerYards" "latest" "I") ∈ lw_all := lw_g (lw_at lw_m1 38 rfl) rfl
theorem q101 : (Jvm.Cond.fieldLink "TrailerYards" (7 : Nat) "TrailerYards" "came" "[I") ∈ lw_all := lw_g (lw_at lw_m1 39 rfl) rfl
theorem q102 : (Jvm.Cond.fieldLink "TrailerYards" (11 : Nat) "TrailerYards" "asked" "I") ∈ lw_all := lw_g (lw_at lw_m1 40 rfl) rfl
theorem q103 : (Jvm.Cond.fieldLink "TrailerYards" (168 : Nat) "TrailerYards" "upper" "J") ∈ lw_all := lw_g (lw_at lw_m1 41 rfl) rfl
theorem q104 : (Jvm.Cond.fieldLink "TrailerYards" (20 : Nat) "TrailerYards" "lower" "J") ∈ lw_all := lw_g (lw_at lw_m1 42 rfl) rfl
theorem q105 : (Jvm.Cond.fieldLink "TrailerYards" (25 : Nat) "TrailerYards" "rows" "[[I") ∈ lw_all := lw_g (lw_at lw_m1 43 rfl) rfl
theorem q106 : (Jvm.Cond.fieldLink "TrailerYards" (31 : Nat) "TrailerYards" "texts" "[[B") ∈ lw_all := lw_g (lw_at lw_m1 44 rfl) rfl
theorem q107 : (Jvm.Cond.fieldLink "TrailerYards" (204 : Nat) "TrailerYards" "itemMany" "I") ∈ lw_all := lw_g (lw_at lw_m1 45 rfl) rfl
theorem q108 : (Jvm.Cond.fieldLink "TrailerYards" (35 : Nat) "TrailerYards" "itemWhat" "[I") ∈ lw_all := lw_g (lw_at lw_m1 46 rfl) rfl
theorem q109 : (Jvm.Cond.fieldLink "TrailerYards" (38 : Nat) "TrailerYards" "itemYard" "[I") ∈ lw_all := lw_g (lw_at lw_m1 47 rfl) rfl
theorem q110 : (Jvm.Cond.fieldLink "TrailerYards" (41 : Nat) "TrailerYards" "itemNumber" "[I") ∈ lw_all := lw_g (lw_at lw_m1 48 rfl) rfl
theorem q112 : (Jvm.Cond.fieldLink "TrailerYards" (219 : Nat) "TrailerYards" "now" "I") ∈ lw_all := lw_g (lw_at lw_m1 50 rfl) rfl
theorem q113 : (Jvm.Cond.fieldLink "TrailerYards" (44 : Nat) "TrailerYards" "minutes" "[I") ∈ lw_all := lw_g (lw_at lw_m1 51 rfl) rfl
theorem q114 : (Jvm.Cond.fieldLink "TrailerYards" (47 : Nat) "TrailerYards" "tolls" "[I") ∈ lw_all := lw_g (lw_at lw_m1 52 rfl) rfl
theorem q115 : (Jvm.Cond.fieldLink "TrailerYards" (50 : Nat) "TrailerYards" "everies" "[I") ∈ lw_all := lw_g (lw_at lw_m1 53 rfl) rfl
theorem q116 : (Jvm.Cond.fieldLink "TrailerYards" (53 : Nat) "TrailerYards" "firsts" "[I") ∈ lw_all := lw_g (lw_at lw_m1 54 rfl) rfl
theorem q117 : (Jvm.Cond.fieldLink "TrailerYards" (56 : Nat) "TrailerYards" "reached" "[I") ∈ lw_all := lw_g (lw_at lw_m1 55 rfl) rfl
theorem q118 : (Jvm.Cond.fieldLink "TrailerYards" (59 : Nat) "TrailerYards" "isSettled" "[Z") ∈ lw_all := lw_g (lw_at lw_m1 56 rfl) rfl
theorem q119 : (Jvm.Cond.fieldLink "TrailerYards" (65 : Nat) "TrailerYards" "trailers" "[LTrailerYards$Trailer;") ∈ lw_all := lw_g (lw_at lw_m1 57 rfl) rfl
theorem q120 : (Jvm.Cond.fieldLink "TrailerYards" (245 : Nat) "TrailerYards" "trailerMany" "I") ∈ lw_all := lw_g (lw_at lw_m1 58 rfl) rfl
theorem q121 : (Jvm.Cond.fieldLink "TrailerYards" (69 : Nat) "TrailerYards" "mostAxle" "I") ∈ lw_all := lw_g (lw_at lw_m1 59 rfl) rfl
theorem q123 : (Jvm.Cond.fieldLink "TrailerYards" (72 : Nat) "TrailerYards" "mostPin" "I") ∈ lw_all := lw_g (lw_at lw_m1 61 rfl) rfl
theorem q125 : (Jvm.Cond.fieldLink "TrailerYards" (248 : Nat) "TrailerYards" "entryMany" "I") ∈ lw_all := lw_g (lw_at lw_m1 63 rfl) rfl
theorem q126 : (Jvm.Cond.fieldLink "TrailerYards" (75 : Nat) "TrailerYards" "entryTrailer" "[I") ∈ lw_all := lw_g (lw_at lw_m1 64 rfl) rfl
theorem q127 : (Jvm.Cond.fieldLink "TrailerYards" (78 : Nat) "TrailerYards" "entrySort" "[I") ∈ lw_all := lw_g (lw_at lw_m1 65 rfl) rfl
theorem q129 : (Jvm.Cond.fieldLink "TrailerYards" (81 : Nat) "TrailerYards" "entryMinute" "[I") ∈ lw_all := lw_g (lw_at lw_m1 67 rfl) rfl
theorem q130 : (Jvm.Cond.fieldLink "TrailerYards" (84 : Nat) "TrailerYards" "entryWhere" "[I") ∈ lw_all := lw_g (lw_at lw_m1 68 rfl) rfl
theorem q131 : (Jvm.Cond.fieldLink "TrailerYards" (87 : Nat) "TrailerYards" "entryYard" "[I") ∈ lw_all := lw_g (lw_at lw_m1 69 rfl) rfl
theorem q132 : (Jvm.Cond.fieldLink "TrailerYards" (90 : Nat) "TrailerYards" "tractorYard" "[I") ∈ lw_all := lw_g (lw_at lw_m1 70 rfl) rfl
theorem q133 : (Jvm.Cond.fieldLink "TrailerYards" (93 : Nat) "TrailerYards" "tractorSince" "[I") ∈ lw_all := lw_g (lw_at lw_m1 71 rfl) rfl
theorem q134 : (Jvm.Cond.fieldLink "TrailerYards" (96 : Nat) "TrailerYards" "hitched" "[I") ∈ lw_all := lw_g (lw_at lw_m1 72 rfl) rfl
theorem q135 : (Jvm.Cond.fieldLink "TrailerYards" (99 : Nat) "TrailerYards" "driven" "[I") ∈ lw_all := lw_g (lw_at lw_m1 73 rfl) rfl
theorem q136 : (Jvm.Cond.fieldLink "TrailerYards" (102 : Nat) "TrailerYards" "everDriven" "[I") ∈ lw_all := lw_g (lw_at lw_m1 74 rfl) rfl
theorem q137 : (Jvm.Cond.fieldLink "TrailerYards" (333 : Nat) "TrailerYards" "termMany" "I") ∈ lw_all := lw_g (lw_at lw_m1 75 rfl) rfl
theorem q138 : (Jvm.Cond.fieldLink "TrailerYards" (105 : Nat) "TrailerYards" "termTold" "[I") ∈ lw_all := lw_g (lw_at lw_m1 76 rfl) rfl
theorem q139 : (Jvm.Cond.fieldLink "TrailerYards" (108 : Nat) "TrailerYards" "termFrom" "[I") ∈ lw_all := lw_g (lw_at lw_m1 77 rfl) rfl
theorem q140 : (Jvm.Cond.fieldLink "TrailerYards" (111 : Nat) "TrailerYards" "termItems" "[I") ∈ lw_all := lw_g (lw_at lw_m1 78 rfl) rfl
theorem q141 : (Jvm.Cond.fieldLink "TrailerYards" (114 : Nat) "TrailerYards" "termWhat" "[I") ∈ lw_all := lw_g (lw_at lw_m1 79 rfl) rfl
theorem q142 : (Jvm.Cond.fieldLink "TrailerYards" (117 : Nat) "TrailerYards" "termYard" "[I") ∈ lw_all := lw_g (lw_at lw_m1 80 rfl) rfl
theorem q143 : (Jvm.Cond.fieldLink "TrailerYards" (120 : Nat) "TrailerYards" "termNumber" "[I") ∈ lw_all := lw_g (lw_at lw_m1 81 rfl) rfl
theorem q144 : (Jvm.Cond.fieldLink "TrailerYards" (336 : Nat) "TrailerYards" "pence" "J") ∈ lw_all := lw_g (lw_at lw_m1 82 rfl) rfl
theorem q145 : (Jvm.Cond.fieldLink "TrailerYards" (385 : Nat) "TrailerYards" "swapYard" "I") ∈ lw_all := lw_g (lw_at lw_m1 83 rfl) rfl
theorem q146 : (Jvm.Cond.fieldLink "TrailerYards" (391 : Nat) "TrailerYards" "swapEnd" "I") ∈ lw_all := lw_g (lw_at lw_m1 84 rfl) rfl
theorem q147 : (Jvm.Cond.fieldLink "TrailerYards" (123 : Nat) "TrailerYards" "partners" "[I") ∈ lw_all := lw_g (lw_at lw_m1 85 rfl) rfl
theorem q148 : (Jvm.Cond.fieldLink "TrailerYards" (126 : Nat) "TrailerYards" "triedPartner" "[I") ∈ lw_all := lw_g (lw_at lw_m1 86 rfl) rfl
theorem q149 : (Jvm.Cond.fieldLink "TrailerYards" (129 : Nat) "TrailerYards" "bestPartner" "[I") ∈ lw_all := lw_g (lw_at lw_m1 87 rfl) rfl
theorem q150 : (Jvm.Cond.fieldLink "TrailerYards" (401 : Nat) "TrailerYards" "bestEnd" "I") ∈ lw_all := lw_g (lw_at lw_m1 88 rfl) rfl
theorem q151 : (Jvm.Cond.fieldLink "TrailerYards" (426 : Nat) "TrailerYards" "lookMany" "I") ∈ lw_all := lw_g (lw_at lw_m1 89 rfl) rfl
theorem q152 : (Jvm.Cond.fieldLink "TrailerYards" (132 : Nat) "TrailerYards" "looks" "[I") ∈ lw_all := lw_g (lw_at lw_m1 90 rfl) rfl
theorem q153 : (Jvm.Cond.fieldLink "TrailerYards" (135 : Nat) "TrailerYards" "triedLook" "[I") ∈ lw_all := lw_g (lw_at lw_m1 91 rfl) rfl
theorem q154 : (Jvm.Cond.fieldLink "TrailerYards" (416 : Nat) "TrailerYards" "isLook" "Z") ∈ lw_all := lw_g (lw_at lw_m1 92 rfl) rfl
theorem q155 : (Jvm.Cond.fieldLink "TrailerYards" (419 : Nat) "TrailerYards" "leastSum" "I") ∈ lw_all := lw_g (lw_at lw_m1 93 rfl) rfl
theorem q156 : (Jvm.Cond.fieldLink "TrailerYards" (138 : Nat) "TrailerYards" "over" "[I") ∈ lw_all := lw_g (lw_at lw_m1 94 rfl) rfl
theorem q157 : (Jvm.Cond.fieldLink "TrailerYards" (141 : Nat) "TrailerYards" "lack" "[I") ∈ lw_all := lw_g (lw_at lw_m1 95 rfl) rfl
theorem q158 : (Jvm.Cond.fieldLink "TrailerYards" (144 : Nat) "TrailerYards" "costs" "[I") ∈ lw_all := lw_g (lw_at lw_m1 96 rfl) rfl
theorem q159 : (Jvm.Cond.fieldLink "TrailerYards" (147 : Nat) "TrailerYards" "brought" "[I") ∈ lw_all := lw_g (lw_at lw_m1 97 rfl) rfl
theorem q160 : (Jvm.Cond.fieldLink "TrailerYards" (150 : Nat) "TrailerYards" "cheapest" "[I") ∈ lw_all := lw_g (lw_at lw_m1 98 rfl) rfl
theorem q161 : (Jvm.Cond.fieldLink "TrailerYards" (153 : Nat) "TrailerYards" "cameFrom" "[I") ∈ lw_all := lw_g (lw_at lw_m1 99 rfl) rfl
theorem q162 : (Jvm.Cond.fieldLink "TrailerYards" (441 : Nat) "TrailerYards" "rentDays" "I") ∈ lw_all := lw_g (lw_at lw_m1 100 rfl) rfl
theorem q163 : (Jvm.Cond.fieldLink "TrailerYards" (156 : Nat) "TrailerYards" "rents" "[I") ∈ lw_all := lw_g (lw_at lw_m1 101 rfl) rfl
theorem q164 : (Jvm.Cond.fieldLink "TrailerYards" (159 : Nat) "TrailerYards" "rentCosts" "[I") ∈ lw_all := lw_g (lw_at lw_m1 102 rfl) rfl
theorem q165 : (Jvm.Cond.fieldLink "TrailerYards" (449 : Nat) "TrailerYards" "h" "J") ∈ lw_all := lw_g (lw_at lw_m1 103 rfl) rfl
theorem q166 : (Jvm.Cond.lays "TrailerYards" "TrailerYards" "latest" "I") ∈ lw_all := lw_g (lw_at lw_m1 104 rfl) rfl
theorem q167 : (Jvm.Cond.soleField "TrailerYards" "latest") ∈ lw_all := lw_g (lw_at lw_m1 105 rfl) rfl
theorem q168 : (Jvm.Cond.laysFinal "TrailerYards" "TrailerYards" "came" "[I") ∈ lw_all := lw_g (lw_at lw_m1 106 rfl) rfl
theorem q169 : (Jvm.Cond.soleField "TrailerYards" "came") ∈ lw_all := lw_g (lw_at lw_m1 107 rfl) rfl
theorem q170 : (Jvm.Cond.lays "TrailerYards" "TrailerYards" "asked" "I") ∈ lw_all := lw_g (lw_at lw_m1 108 rfl) rfl
theorem q171 : (Jvm.Cond.soleField "TrailerYards" "asked") ∈ lw_all := lw_g (lw_at lw_m1 109 rfl) rfl
theorem q172 : (Jvm.Cond.lays "TrailerYards" "TrailerYards" "upper" "J") ∈ lw_all := lw_g (lw_at lw_m1 110 rfl) rfl
theorem q173 : (Jvm.Cond.soleField "TrailerYards" "upper") ∈ lw_all := lw_g (lw_at lw_m1 111 rfl) rfl
theorem q174 : (Jvm.Cond.lays "TrailerYards" "TrailerYards" "lower" "J") ∈ lw_all := lw_g (lw_at lw_m1 112 rfl) rfl
theorem q175 : (Jvm.Cond.soleField "TrailerYards" "lower") ∈ lw_all := lw_g (lw_at lw_m1 113 rfl) rfl
theorem q176 : (Jvm.Cond.laysFinal "TrailerYards" "TrailerYards" "rows" "[[I") ∈ lw_all := lw_g (lw_at lw_m1 114 rfl) rfl
theorem q177 : (Jvm.Cond.soleField "TrailerYards" "rows") ∈ lw_all := lw_g (lw_at lw_m1 115 rfl) rfl
theorem q178 : (Jvm.Cond.laysFinal "TrailerYards" "TrailerYards" "texts" "[[B") ∈ lw_all := lw_g (lw_at lw_m1 116 rfl) rfl
theorem q179 : (Jvm.Cond.soleField "TrailerYards" "texts") ∈ lw_all := lw_g (lw_at lw_m1 117 rfl) rfl
theorem q180 : (Jvm.Cond.lays "TrailerYards" "TrailerYards" "itemMany" "I") ∈ lw_all := lw_g (lw_at lw_m1 118 rfl) rfl
theorem q181 : (Jvm.Cond.soleField "TrailerYards" "itemMany") ∈ lw_all := lw_g (lw_at lw_m1 119 rfl) rfl
theorem q182 : (Jvm.Cond.laysFinal "TrailerYards" "TrailerYards" "itemWhat" "[I") ∈ lw_all := lw_g (lw_at lw_m1 120 rfl) rfl
theorem q183 : (Jvm.Cond.soleField "TrailerYards" "itemWhat") ∈ lw_all := lw_g (lw_at lw_m1 121 rfl) rfl
theorem q184 : (Jvm.Cond.laysFinal "TrailerYards" "TrailerYards" "itemYard" "[I") ∈ lw_all := lw_g (lw_at lw_m1 122 rfl) rfl
theorem q185 : (Jvm.Cond.soleField "TrailerYards" "itemYard") ∈ lw_all := lw_g (lw_at lw_m1 123 rfl) rfl
theorem q186 : (Jvm.Cond.laysFinal "TrailerYards" "TrailerYards" "itemNumber" "[I") ∈ lw_all := lw_g (lw_at lw_m1 124 rfl) rfl
theorem q187 : (Jvm.Cond.soleField "TrailerYards" "itemNumber") ∈ lw_all := lw_g (lw_at lw_m1 125 rfl) rfl
theorem q188 : (Jvm.Cond.lays "TrailerYards" "TrailerYards" "now" "I") ∈ lw_all := lw_g (lw_at lw_m1 126 rfl) rfl
theorem q189 : (Jvm.Cond.soleField "TrailerYards" "now") ∈ lw_all := lw_g (lw_at lw_m1 127 rfl) rfl
theorem q190 : (Jvm.Cond.laysFinal "TrailerYards" "TrailerYards" "minutes" "[I") ∈ lw_all := lw_g (lw_at lw_m1 128 rfl) rfl
theorem q191 : (Jvm.Cond.soleField "TrailerYards" "minutes") ∈ lw_all := lw_g (lw_at lw_m1 129 rfl) rfl
theorem q192 : (Jvm.Cond.laysFinal "TrailerYards" "TrailerYards" "tolls" "[I") ∈ lw_all := lw_g (lw_at lw_m1 130 rfl) rfl
theorem q193 : (Jvm.Cond.soleField "TrailerYards" "tolls") ∈ lw_all := lw_g (lw_at lw_m1 131 rfl) rfl
theorem q194 : (Jvm.Cond.laysFinal "TrailerYards" "TrailerYards" "everies" "[I") ∈ lw_all := lw_g (lw_at lw_m1 132 rfl) rfl
theorem q195 : (Jvm.Cond.soleField "TrailerYards" "everies") ∈ lw_all := lw_g (lw_at lw_m1 133 rfl) rfl
theorem q196 : (Jvm.Cond.laysFinal "TrailerYards" "TrailerYards" "firsts" "[I") ∈ lw_all := lw_g (lw_at lw_m1 134 rfl) rfl
theorem q197 : (Jvm.Cond.soleField "TrailerYards" "firsts") ∈ lw_all := lw_g (lw_at lw_m1 135 rfl) rfl
theorem q198 : (Jvm.Cond.laysFinal "TrailerYards" "TrailerYards" "reached" "[I") ∈ lw_all := lw_g (lw_at lw_m1 136 rfl) rfl
theorem q199 : (Jvm.Cond.soleField "TrailerYards" "reached") ∈ lw_all := lw_g (lw_at lw_m1 137 rfl) rfl
theorem q200 : (Jvm.Cond.laysFinal "TrailerYards" "TrailerYards" "isSettled" "[Z") ∈ lw_all := lw_g (lw_at lw_m1 138 rfl) rfl
theorem q201 : (Jvm.Cond.soleField "TrailerYards" "isSettled") ∈ lw_all := lw_g (lw_at lw_m1 139 rfl) rfl
theorem q202 : (Jvm.Cond.laysFinal "TrailerYards" "TrailerYards" "trailers" "[LTrailerYards$Trailer;") ∈ lw_all := lw_g (lw_at lw_m1 140 rfl) rfl
theorem q203 : (Jvm.Cond.soleField "TrailerYards" "trailers") ∈ lw_all := lw_g (lw_at lw_m1 141 rfl) rfl
theorem q204 : (Jvm.Cond.lays "TrailerYards" "TrailerYards" "trailerMany" "I") ∈ lw_all := lw_g (lw_at lw_m1 142 rfl) rfl
theorem q205 : (Jvm.Cond.soleField "TrailerYards" "trailerMany") ∈ lw_all := lw_g (lw_at lw_m1 143 rfl) rfl
theorem q206 : (Jvm.Cond.lays "TrailerYards" "TrailerYards" "mostAxle" "I") ∈ lw_all := lw_g (lw_at lw_m1 144 rfl) rfl
theorem q207 : (Jvm.Cond.soleField "TrailerYards" "mostAxle") ∈ lw_all := lw_g (lw_at lw_m1 145 rfl) rfl
theorem q208 : (Jvm.Cond.lays "TrailerYards" "TrailerYards" "mostPin" "I") ∈ lw_all := lw_g (lw_at lw_m1 146 rfl) rfl
theorem q209 : (Jvm.Cond.soleField "TrailerYards" "mostPin") ∈ lw_all := lw_g (lw_at lw_m1 147 rfl) rfl
theorem q210 : (Jvm.Cond.lays "TrailerYards" "TrailerYards" "entryMany" "I") ∈ lw_all := lw_g (lw_at lw_m1 148 rfl) rfl
theorem q211 : (Jvm.Cond.soleField "TrailerYards" "entryMany") ∈ lw_all := lw_g (lw_at lw_m1 149 rfl) rfl
theorem q212 : (Jvm.Cond.laysFinal "TrailerYards" "TrailerYards" "entryTrailer" "[I") ∈ lw_all := lw_g (lw_at lw_m1 150 rfl) rfl
theorem q213 : (Jvm.Cond.soleField "TrailerYards" "entryTrailer") ∈ lw_all := lw_g (lw_at lw_m1 151 rfl) rfl
theorem q214 : (Jvm.Cond.laysFinal "TrailerYards" "TrailerYards" "entrySort" "[I") ∈ lw_all := lw_g (lw_at lw_m1 152 rfl) rfl
theorem q215 : (Jvm.Cond.soleField "TrailerYards" "entrySort") ∈ lw_all := lw_g (lw_at lw_m1 153 rfl) rfl
theorem q216 : (Jvm.Cond.laysFinal "TrailerYards" "TrailerYards" "entryMinute" "[I") ∈ lw_all := lw_g (lw_at lw_m1 154 rfl) rfl
theorem q217 : (Jvm.Cond.soleField "TrailerYards" "entryMinute") ∈ lw_all := lw_g (lw_at lw_m1 155 rfl) rfl
theorem q218 : (Jvm.Cond.laysFinal "TrailerYards" "TrailerYards" "entryWhere" "[I") ∈ lw_all := lw_g (lw_at lw_m1 156 rfl) rfl
theorem q219 : (Jvm.Cond.soleField "TrailerYards" "entryWhere") ∈ lw_all := lw_g (lw_at lw_m1 157 rfl) rfl
theorem q220 : (Jvm.Cond.laysFinal "TrailerYards" "TrailerYards" "entryYard" "[I") ∈ lw_all := lw_g (lw_at lw_m1 158 rfl) rfl
theorem q221 : (Jvm.Cond.soleField "TrailerYards" "entryYard") ∈ lw_all := lw_g (lw_at lw_m1 159 rfl) rfl
theorem q222 : (Jvm.Cond.laysFinal "TrailerYards" "TrailerYards" "tractorYard" "[I") ∈ lw_all := lw_g (lw_at lw_m1 160 rfl) rfl
theorem q223 : (Jvm.Cond.soleField "TrailerYards" "tractorYard") ∈ lw_all := lw_g (lw_at lw_m1 161 rfl) rfl
theorem q224 : (Jvm.Cond.laysFinal "TrailerYards" "TrailerYards" "tractorSince" "[I") ∈ lw_all := lw_g (lw_at lw_m1 162 rfl) rfl
theorem q225 : (Jvm.Cond.soleField "TrailerYards" "tractorSince") ∈ lw_all := lw_g (lw_at lw_m1 163 rfl) rfl
theorem q226 : (Jvm.Cond.laysFinal "TrailerYards" "TrailerYards" "hitched" "[I") ∈ lw_all := lw_g (lw_at lw_m1 164 rfl) rfl
theorem q227 : (Jvm.Cond.soleField "TrailerYards" "hitched") ∈ lw_all := lw_g (lw_at lw_m1 165 rfl) rfl
theorem q228 : (Jvm.Cond.laysFinal "TrailerYards" "TrailerYards" "driven" "[I") ∈ lw_all := lw_g (lw_at lw_m1 166 rfl) rfl
theorem q229 : (Jvm.Cond.soleField "TrailerYards" "driven") ∈ lw_all := lw_g (lw_at lw_m1 167 rfl) rfl
theorem q230 : (Jvm.Cond.laysFinal "TrailerYards" "TrailerYards" "everDriven" "[I") ∈ lw_all := lw_g (lw_at lw_m1 168 rfl) rfl
theorem q231 : (Jvm.Cond.soleField "TrailerYards" "everDriven") ∈ lw_all := lw_g (lw_at lw_m1 169 rfl) rfl
theorem q232 : (Jvm.Cond.lays "TrailerYards" "TrailerYards" "termMany" "I") ∈ lw_all := lw_g (lw_at lw_m1 170 rfl) rfl
theorem q233 : (Jvm.Cond.soleField "TrailerYards" "termMany") ∈ lw_all := lw_g (lw_at lw_m1 171 rfl) rfl
theorem q234 : (Jvm.Cond.laysFinal "TrailerYards" "TrailerYards" "termTold" "[I") ∈ lw_all := lw_g (lw_at lw_m1 172 rfl) rfl
theorem q235 : (Jvm.Cond.soleField "TrailerYards" "termTold") ∈ lw_all := lw_g (lw_at lw_m1 173 rfl) rfl
theorem q236 : (Jvm.Cond.laysFinal "TrailerYards" "TrailerYards" "termFrom" "[I") ∈ lw_all := lw_g (lw_at lw_m1 174 rfl) rfl
theorem q237 : (Jvm.Cond.soleField "TrailerYards" "termFrom") ∈ lw_all := lw_g (lw_at lw_m1 175 rfl) rfl
theorem q238 : (Jvm.Cond.laysFinal "TrailerYards" "TrailerYards" "termItems" "[I") ∈ lw_all := lw_g (lw_at lw_m1 176 rfl) rfl
theorem q239 : (Jvm.Cond.soleField "TrailerYards" "termItems") ∈ lw_all := lw_g (lw_at lw_m1 177 rfl) rfl
theorem q240 : (Jvm.Cond.laysFinal "TrailerYards" "TrailerYards" "termWhat" "[I") ∈ lw_all := lw_g (lw_at lw_m1 178 rfl) rfl
theorem q241 : (Jvm.Cond.soleField "TrailerYards" "termWhat") ∈ lw_all := lw_g (lw_at lw_m1 179 rfl) rfl
theorem q242 : (Jvm.Cond.laysFinal "TrailerYards" "TrailerYards" "termYard" "[I") ∈ lw_all := lw_g (lw_at lw_m1 180 rfl) rfl
theorem q243 : (Jvm.Cond.soleField "TrailerYards" "termYard") ∈ lw_all := lw_g (lw_at lw_m1 181 rfl) rfl
theorem q244 : (Jvm.Cond.laysFinal "TrailerYards" "TrailerYards" "termNumber" "[I") ∈ lw_all := lw_g (lw_at lw_m1 182 rfl) rfl
theorem q245 : (Jvm.Cond.soleField "TrailerYards" "termNumber") ∈ lw_all := lw_g (lw_at lw_m1 183 rfl) rfl
theorem q246 : (Jvm.Cond.lays "TrailerYards" "TrailerYards" "pence" "J") ∈ lw_all := lw_g (lw_at lw_m1 184 rfl) rfl
theorem q247 : (Jvm.Cond.soleField "TrailerYards" "pence") ∈ lw_all := lw_g (lw_at lw_m1 185 rfl) rfl
theorem q248 : (Jvm.Cond.lays "TrailerYards" "TrailerYards" "swapYard" "I") ∈ lw_all := lw_g (lw_at lw_m1 186 rfl) rfl
theorem q249 : (Jvm.Cond.soleField "TrailerYards" "swapYard") ∈ lw_all := lw_g (lw_at lw_m1 187 rfl) rfl
theorem q250 : (Jvm.Cond.lays "TrailerYards" "TrailerYards" "swapEnd" "I") ∈ lw_all := lw_g (lw_at lw_m1 188 rfl) rfl
theorem q251 : (Jvm.Cond.soleField "TrailerYards" "swapEnd") ∈ lw_all := lw_g (lw_at lw_m1 189 rfl) rfl
theorem q252 : (Jvm.Cond.laysFinal "TrailerYards" "TrailerYards" "partners" "[I") ∈ lw_all := lw_g (lw_at lw_m1 190 rfl) rfl
theorem q253 : (Jvm.Cond.soleField "TrailerYards" "partners") ∈ lw_all := lw_g (lw_at lw_m1 191 rfl) rfl
theorem q254 : (Jvm.Cond.laysFinal "TrailerYards" "TrailerYards" "triedPartner" "[I") ∈ lw_all := lw_g (lw_at lw_m1 192 rfl) rfl
theorem q255 : (Jvm.Cond.soleField "TrailerYards" "triedPartner") ∈ lw_all := lw_g (lw_at lw_m1 193 rfl) rfl
theorem q256 : (Jvm.Cond.laysFinal "TrailerYards" "TrailerYards" "bestPartner" "[I") ∈ lw_all := lw_g (lw_at lw_m1 194 rfl) rfl
theorem q257 : (Jvm.Cond.soleField "TrailerYards" "bestPartner") ∈ lw_all := lw_g (lw_at lw_m1 195 rfl) rfl
theorem q258 : (Jvm.Cond.lays "TrailerYards" "TrailerYards" "bestEnd" "I") ∈ lw_all := lw_g (lw_at lw_m1 196 rfl) rfl
theorem q259 : (Jvm.Cond.soleField "TrailerYards" "bestEnd") ∈ lw_all := lw_g (lw_at lw_m1 197 rfl) rfl
theorem q260 : (Jvm.Cond.lays "TrailerYards" "TrailerYards" "lookMany" "I") ∈ lw_all := lw_g (lw_at lw_m1 198 rfl) rfl
theorem q261 : (Jvm.Cond.soleField "TrailerYards" "lookMany") ∈ lw_all := lw_g (lw_at lw_m1 199 rfl) rfl
theorem q262 : (Jvm.Cond.laysFinal "TrailerYards" "TrailerYards" "looks" "[I") ∈ lw_all := lw_g (lw_at lw_m1 200 rfl) rfl
theorem q263 : (Jvm.Cond.soleField "TrailerYards" "looks") ∈ lw_all := lw_g (lw_at lw_m1 201 rfl) rfl
theorem q264 : (Jvm.Cond.laysFinal "TrailerYards" "TrailerYards" "triedLook" "[I") ∈ lw_all := lw_g (lw_at lw_m1 202 rfl) rfl
theorem q265 : (Jvm.Cond.soleField "TrailerYards" "triedLook") ∈ lw_all := lw_g (lw_at lw_m1 203 rfl) rfl
theorem q266 : (Jvm.Cond.lays "TrailerYards" "TrailerYards" "isLook" "Z") ∈ lw_all := lw_g (lw_at lw_m1 204 rfl) rfl
theorem q267 : (Jvm.Cond.soleField "TrailerYards" "isLook") ∈ lw_all := lw_g (lw_at lw_m1 205 rfl) rfl
theorem q268 : (Jvm.Cond.lays "TrailerYards" "TrailerYards" "leastSum" "I") ∈ lw_all := lw_g (lw_at lw_m1 206 rfl) rfl
theorem q269 : (Jvm.Cond.soleField "TrailerYards" "leastSum") ∈ lw_all := lw_g (lw_at lw_m1 207 rfl) rfl
theorem q270 : (Jvm.Cond.laysFinal "TrailerYards" "TrailerYards" "over" "[I") ∈ lw_all := lw_g (lw_at lw_m1 208 rfl) rfl
theorem q271 : (Jvm.Cond.soleField "TrailerYards" "over") ∈ lw_all := lw_g (lw_at lw_m1 209 rfl) rfl
theorem q272 : (Jvm.Cond.laysFinal "TrailerYards" "TrailerYards" "lack" "[I") ∈ lw_all := lw_g (lw_at lw_m1 210 rfl) rfl
theorem q273 : (Jvm.Cond.soleField "TrailerYards" "lack") ∈ lw_all := lw_g (lw_at lw_m1 211 rfl) rfl
theorem q274 : (Jvm.Cond.laysFinal "TrailerYards" "TrailerYards" "costs" "[I") ∈ lw_all := lw_g (lw_at lw_m1 212 rfl) rfl
theorem q275 : (Jvm.Cond.soleField "TrailerYards" "costs") ∈ lw_all := lw_g (lw_at lw_m1 213 rfl) rfl
theorem q276 : (Jvm.Cond.laysFinal "TrailerYards" "TrailerYards" "brought" "[I") ∈ lw_all := lw_g (lw_at lw_m1 214 rfl) rfl
theorem q277 : (Jvm.Cond.soleField "TrailerYards" "brought") ∈ lw_all := lw_g (lw_at lw_m1 215 rfl) rfl
theorem q278 : (Jvm.Cond.laysFinal "TrailerYards" "TrailerYards" "cheapest" "[I") ∈ lw_all := lw_g (lw_at lw_m1 216 rfl) rfl
theorem q279 : (Jvm.Cond.soleField "TrailerYards" "cheapest") ∈ lw_all := lw_g (lw_at lw_m1 217 rfl) rfl
theorem q280 : (Jvm.Cond.laysFinal "TrailerYards" "TrailerYards" "cameFrom" "[I") ∈ lw_all := lw_g (lw_at lw_m1 218 rfl) rfl
theorem q281 : (Jvm.Cond.soleField "TrailerYards" "cameFrom") ∈ lw_all := lw_g (lw_at lw_m1 219 rfl) rfl
theorem q282 : (Jvm.Cond.lays "TrailerYards" "TrailerYards" "rentDays" "I") ∈ lw_all := lw_g (lw_at lw_m1 220 rfl) rfl
theorem q283 : (Jvm.Cond.soleField "TrailerYards" "rentDays") ∈ lw_all := lw_g (lw_at lw_m1 221 rfl) rfl
theorem q284 : (Jvm.Cond.laysFinal "TrailerYards" "TrailerYards" "rents" "[I") ∈ lw_all := lw_g (lw_at lw_m1 222 rfl) rfl
theorem q285 : (Jvm.Cond.soleField "TrailerYards" "rents") ∈ lw_all := lw_g (lw_at lw_m1 223 rfl) rfl
theorem q286 : (Jvm.Cond.laysFinal "TrailerYards" "TrailerYards" "rentCosts" "[I") ∈ lw_all := lw_g (lw_at lw_m1 224 rfl) rfl
theorem q287 : (Jvm.Cond.soleField "TrailerYards" "rentCosts") ∈ lw_all := lw_g (lw_at lw_m1 225 rfl) rfl
theorem q288 : (Jvm.Cond.lays "TrailerYards" "TrailerYards" "h" "J") ∈ lw_all := lw_g (lw_at lw_m1 226 rfl) rfl
theorem q289 : (Jvm.Cond.soleField "TrailerYards" "h") ∈ lw_all := lw_g (lw_at lw_m1 227 rfl) rfl
theorem q290 : (Jvm.Cond.superclass "TrailerYards" "java/lang/Object") ∈ lw_all := lw_g (lw_at lw_m1 228 rfl) rfl
theorem q294 : (Jvm.Cond.instanceMethod ({ cls := "TrailerYards", name := "upper", desc := "()J" } : Jvm.MethodName)) ∈ lw_all := lw_g (lw_at lw_m1 232 rfl) rfl
theorem q295 : (Jvm.Cond.selects "TrailerYards" ({ cls := "TrailerYards", name := "upper", desc := "()J" } : Jvm.MethodName) ({ cls := "TrailerYards", name := "upper", desc := "()J" } : Jvm.MethodName)) ∈ lw_all := lw_g (lw_at lw_m1 233 rfl) rfl
theorem q296 : (Jvm.Cond.code ({ cls := "TrailerYards", name := "upper", desc := "()J" } : Jvm.MethodName) prog_1_method_7_code (1 : Nat) (Option.some Jvm.ClassFile.FieldType.long)) ∈ lw_all := lw_g (lw_at lw_m1 234 rfl) rfl
theorem q298 : (Jvm.Cond.instanceMethod ({ cls := "TrailerYards", name := "lower", desc := "()J" } : Jvm.MethodName)) ∈ lw_all := lw_g (lw_at lw_m1 236 rfl) rfl
theorem q299 : (Jvm.Cond.selects "TrailerYards" ({ cls := "TrailerYards", name := "lower", desc := "()J" } : Jvm.MethodName) ({ cls := "TrailerYards", name := "lower", desc := "()J" } : Jvm.MethodName)) ∈ lw_all := lw_g (lw_at lw_m1 237 rfl) rfl
theorem q300 : (Jvm.Cond.code ({ cls := "TrailerYards", name := "lower", desc := "()J" } : Jvm.MethodName) prog_1_method_8_code (1 : Nat) (Option.some Jvm.ClassFile.FieldType.long)) ∈ lw_all := lw_g (lw_at lw_m1 238 rfl) rfl
theorem q302 : (Jvm.Cond.instanceMethod ({ cls := "TrailerYards", name := "row", desc := "(II)I" } : Jvm.MethodName)) ∈ lw_all := lw_g (lw_at lw_m2 0 rfl) rfl
theorem q303 : (Jvm.Cond.selects "TrailerYards" ({ cls := "TrailerYards", name := "row", desc := "(II)I" } : Jvm.MethodName) ({ cls := "TrailerYards", name := "row", desc := "(II)I" } : Jvm.MethodName)) ∈ lw_all := lw_g (lw_at lw_m2 1 rfl) rfl
theorem q304 : (Jvm.Cond.codeWith ({ cls := "TrailerYards", name := "row", desc := "(II)I" } : Jvm.MethodName) prog_1_method_10_code (4 : Nat) (Option.some Jvm.ClassFile.FieldType.int) [((15 : Nat), (25 : Nat), (26 : Nat), (179 : Nat))]) ∈ lw_all := lw_g (lw_at lw_m2 2 rfl) rfl
theorem q305 : (Jvm.Cond.classLink "TrailerYards" (179 : Nat) "java/lang/NegativeArraySizeException") ∈ lw_all := lw_g (lw_at lw_m2 3 rfl) rfl
theorem q391 : (Jvm.Cond.methodLink "TrailerYards" (175 : Nat) ({ cls := "TrailerYards", name := "isRow", desc := "(I)Z" } : Jvm.MethodName)) ∈ lw_all := lw_g (lw_at lw_m2 89 rfl) rfl
theorem q392 : (Jvm.Cond.static ({ cls := "TrailerYards", name := "isRow", desc := "(I)Z" } : Jvm.MethodName)) ∈ lw_all := lw_g (lw_at lw_m2 90 rfl) rfl
theorem q393 : (Jvm.Cond.code ({ cls := "TrailerYards", name := "isRow", desc := "(I)Z" } : Jvm.MethodName) prog_1_method_9_code (1 : Nat) (Option.some Jvm.ClassFile.FieldType.boolean)) ∈ lw_all := lw_g (lw_at lw_m2 91 rfl) rfl
theorem q394 : (Jvm.Cond.methodLink "TrailerYards" (171 : Nat) ({ cls := "TrailerYards", name := "in", desc := "(III)Z" } : Jvm.MethodName)) ∈ lw_all := lw_g (lw_at lw_m2 92 rfl) rfl
theorem q395 : (Jvm.Cond.static ({ cls := "TrailerYards", name := "in", desc := "(III)Z" } : Jvm.MethodName)) ∈ lw_all := lw_g (lw_at lw_m2 93 rfl) rfl
theorem q396 : (Jvm.Cond.code ({ cls := "TrailerYards", name := "in", desc := "(III)Z" } : Jvm.MethodName) prog_1_method_1_code (3 : Nat) (Option.some Jvm.ClassFile.FieldType.boolean)) ∈ lw_all := lw_g (lw_at lw_m2 94 rfl) rfl
theorem q397 : (Jvm.Cond.methodLink "TrailerYards" (181 : Nat) ({ cls := "TrailerYards", name := "found", desc := "(I)I" } : Jvm.MethodName)) ∈ lw_all := lw_g (lw_at lw_m2 95 rfl) rfl
theorem q398 : (Jvm.Cond.privateMethod ({ cls := "TrailerYards", name := "found", desc := "(I)I" } : Jvm.MethodName)) ∈ lw_tbl := lw_at lw_m2 96 rfl
theorem q399 : (Jvm.Cond.instanceMethod ({ cls := "TrailerYards", name := "found", desc := "(I)I" } : Jvm.MethodName)) ∈ lw_all := lw_g (lw_at lw_m2 97 rfl) rfl
theorem q400 : (Jvm.Cond.code ({ cls := "TrailerYards", name := "found", desc := "(I)I" } : Jvm.MethodName) prog_1_method_2_code (2 : Nat) (Option.some Jvm.ClassFile.FieldType.int)) ∈ lw_all := lw_g (lw_at lw_m2 98 rfl) rfl
theorem q402 : (Jvm.Cond.instanceMethod ({ cls := "TrailerYards", name := "lay", desc := "(III)I" } : Jvm.MethodName)) ∈ lw_all := lw_g (lw_at lw_m2 100 rfl) rfl
theorem q403 : (Jvm.Cond.selects "TrailerYards" ({ cls := "TrailerYards", name := "lay", desc := "(III)I" } : Jvm.MethodName) ({ cls := "TrailerYards", name := "lay", desc := "(III)I" } : Jvm.MethodName)) ∈ lw_all := lw_g (lw_at lw_m2 101 rfl) rfl
theorem q404 : (Jvm.Cond.codeWith ({ cls := "TrailerYards", name := "lay", desc := "(III)I" } : Jvm.MethodName) prog_1_method_11_code (5 : Nat) (Option.some Jvm.ClassFile.FieldType.int) [((9 : Nat), (35 : Nat), (36 : Nat), (189 : Nat)), ((9 : Nat), (35 : Nat), (44 : Nat), (191 : Nat))]) ∈ lw_all := lw_g (lw_at lw_m2 102 rfl) rfl
theorem q405 : (Jvm.Cond.classLink "TrailerYards" (189 : Nat) "java/lang/NullPointerException") ∈ lw_all := lw_g (lw_at lw_m2 103 rfl) rfl
theorem q430 : (Jvm.Cond.classLink "TrailerYards" (191 : Nat) "java/lang/IndexOutOfBoundsException") ∈ lw_all := lw_g (lw_at lw_m2 128 rfl) rfl
theorem q449 : (Jvm.Cond.methodLink "TrailerYards" (185 : Nat) ({ cls := "TrailerYards", name := "say", desc := "(II)I" } : Jvm.MethodName)) ∈ lw_all := lw_g (lw_at lw_m2 147 rfl) rfl
theorem q450 : (Jvm.Cond.privateMethod ({ cls := "TrailerYards", name := "say", desc := "(II)I" } : Jvm.MethodName)) ∈ lw_tbl := lw_at lw_m2 148 rfl
theorem q451 : (Jvm.Cond.instanceMethod ({ cls := "TrailerYards", name := "say", desc := "(II)I" } : Jvm.MethodName)) ∈ lw_all := lw_g (lw_at lw_m2 149 rfl) rfl
theorem q452 : (Jvm.Cond.code ({ cls := "TrailerYards", name := "say", desc := "(II)I" } : Jvm.MethodName) prog_1_method_3_code (3 : Nat) (Option.some Jvm.ClassFile.FieldType.int)) ∈ lw_all := lw_g (lw_at lw_m2 150 rfl) rfl
theorem q454 : (Jvm.Cond.instanceMethod ({ cls := "TrailerYards", name := "tear", desc := "(I)I" } : Jvm.MethodName)) ∈ lw_all := lw_g (lw_at lw_m2 152 rfl) rfl
theorem q455 : (Jvm.Cond.selects "TrailerYards" ({ cls := "TrailerYards", name := "tear", desc := "(I)I" } : Jvm.MethodName) ({ cls := "TrailerYards", name := "tear", desc := "(I)I" } : Jvm.MethodName)) ∈ lw_all := lw_g (lw_at lw_m2 153 rfl) rfl
theorem q456 : (Jvm.Cond.code ({ cls := "TrailerYards", name := "tear", desc := "(I)I" } : Jvm.MethodName) prog_1_method_12_code (2 : Nat) (Option.some Jvm.ClassFile.FieldType.int)) ∈ lw_all := lw_g (lw_at lw_m2 154 rfl) rfl
theorem q458 : (Jvm.Cond.instanceMethod ({ cls := "TrailerYards", name := "copy", desc := "(IIIII)I" } : Jvm.MethodName)) ∈ lw_all := lw_g (lw_at lw_m2 156 rfl) rfl
theorem q459 : (Jvm.Cond.selects "TrailerYards" ({ cls := "TrailerYards", name := "copy", desc := "(IIIII)I" } : Jvm.MethodName) ({ cls := "TrailerYards", name := "copy", desc := "(IIIII)I" } : Jvm.MethodName)) ∈ lw_all := lw_g (lw_at lw_m2 157 rfl) rfl
theorem q460 : (Jvm.Cond.codeWith ({ cls := "TrailerYards", name := "copy", desc := "(IIIII)I" } : Jvm.MethodName) prog_1_method_13_code (7 : Nat) (Option.some Jvm.ClassFile.FieldType.int) [((27 : Nat), (48 : Nat), (49 : Nat), (189 : Nat)), ((27 : Nat), (48 : Nat), (57 : Nat), (191 : Nat))]) ∈ lw_all := lw_g (lw_at lw_m2 158 rfl) rfl
theorem q461 : (Jvm.Cond.methodLink "TrailerYards" (193 : Nat) ({ cls := "java/lang/System", name := "arraycopy", desc := "(Ljava/lang/Object;ILjava/lang/Object;II)V" } : Jvm.MethodName)) ∈ lw_all := lw_g (lw_at lw_m2 159 rfl) rfl
theorem q465 : (Jvm.Cond.instanceMethod ({ cls := "TrailerYards", name := "mean", desc := "(I)I" } : Jvm.MethodName)) ∈ lw_all := lw_g (lw_at lw_m2 163 rfl) rfl
theorem q466 : (Jvm.Cond.selects "TrailerYards" ({ cls := "TrailerYards", name := "mean", desc := "(I)I" } : Jvm.MethodName) ({ cls := "TrailerYards", name := "mean", desc := "(I)I" } : Jvm.MethodName)) ∈ lw_all := lw_g (lw_at lw_m2 164 rfl) rfl
theorem q467 : (Jvm.Cond.codeWith ({ cls := "TrailerYards", name := "mean", desc := "(I)I" } : Jvm.MethodName) prog_1_method_14_code (7 : Nat) (Option.some Jvm.ClassFile.FieldType.int) [((109 : Nat), (120 : Nat), (121 : Nat), (199 : Nat))]) ∈ lw_all := lw_g (lw_at lw_m2 165 rfl) rfl
theorem q468 : (Jvm.Cond.classLink "TrailerYards" (199 : Nat) "java/lang/ArithmeticException") ∈ lw_all := lw_g (lw_at lw_m2 166 rfl) rfl
theorem q483 : (Jvm.Cond.instanceMethod ({ cls := "TrailerYards", name := "text", desc := "(II)I" } : Jvm.MethodName)) ∈ lw_all := lw_g (lw_at lw_m2 181 rfl) rfl
theorem q484 : (Jvm.Cond.selects "TrailerYards" ({ cls := "TrailerYards", name := "text", desc := "(II)I" } : Jvm.MethodName) ({ cls := "TrailerYards", name := "text", desc := "(II)I" } : Jvm.MethodName)) ∈ lw_all := lw_g (lw_at lw_m2 182 rfl) rfl
theorem q485 : (Jvm.Cond.codeWith ({ cls := "TrailerYards", name := "text", desc := "(II)I" } : Jvm.MethodName) prog_1_method_16_code (5 : Nat) (Option.some Jvm.ClassFile.FieldType.int) [((15 : Nat), (48 : Nat), (49 : Nat), (179 : Nat))]) ∈ lw_all := lw_g (lw_at lw_m2 183 rfl) rfl
theorem q486 : (Jvm.Cond.methodLink "TrailerYards" (201 : Nat) ({ cls := "TrailerYards", name := "isText", desc := "(I)Z" } : Jvm.MethodName)) ∈ lw_all := lw_g (lw_at lw_m2 184 rfl) rfl
theorem q487 : (Jvm.Cond.static ({ cls := "TrailerYards", name := "isText", desc := "(I)Z" } : Jvm.MethodName)) ∈ lw_all := lw_g (lw_at lw_m2 185 rfl) rfl
theorem q488 : (Jvm.Cond.code ({ cls := "TrailerYards", name := "isText", desc := "(I)Z" } : Jvm.MethodName) prog_1_method_15_code (1 : Nat) (Option.some Jvm.ClassFile.FieldType.boolean)) ∈ lw_all := lw_g (lw_at lw_m2 186 rfl) rfl
theorem q490 : (Jvm.Cond.instanceMethod ({ cls := "TrailerYards", name := "put", desc := "(III)I" } : Jvm.MethodName)) ∈ lw_all := lw_g (lw_at lw_m2 188 rfl) rfl
theorem q491 : (Jvm.Cond.selects "TrailerYards" ({ cls := "TrailerYards", name := "put", desc := "(III)I" } : Jvm.MethodName) ({ cls := "TrailerYards", name := "put", desc := "(III)I" } : Jvm.MethodName)) ∈ lw_all := lw_g (lw_at lw_m2 189 rfl) rfl
theorem q492 : (Jvm.Cond.codeWith ({ cls := "TrailerYards", name := "put", desc := "(III)I" } : Jvm.MethodName) prog_1_method_17_code (5 : Nat) (Option.some Jvm.ClassFile.FieldType.int) [((9 : Nat), (35 : Nat), (36 : Nat), (189 : Nat)), ((9 : Nat), (35 : Nat), (44 : Nat), (191 : Nat))]) ∈ lw_all := lw_g (lw_at lw_m2 190 rfl) rfl
theorem q494 : (Jvm.Cond.instanceMethod ({ cls := "TrailerYards", name := "fault", desc := "(I)I" } : Jvm.MethodName)) ∈ lw_all := lw_g (lw_at lw_m2 192 rfl) rfl
theorem q495 : (Jvm.Cond.selects "TrailerYards" ({ cls := "TrailerYards", name := "fault", desc := "(I)I" } : Jvm.MethodName) ({ cls := "TrailerYards", name := "fault", desc := "(I)I" } : Jvm.MethodName)) ∈ lw_all := lw_g (lw_at lw_m2 193 rfl) rfl
theorem q496 : (Jvm.Cond.code ({ cls := "TrailerYards", name := "fault", desc := "(I)I" } : Jvm.MethodName) prog_1_method_21_code (2 : Nat) (Option.some Jvm.ClassFile.FieldType.int)) ∈ lw_all := lw_g (lw_at lw_m2 194 rfl) rfl
theorem q497 : (Jvm.Cond.methodLink "TrailerYards" (214 : Nat) ({ cls := "TrailerYards", name := "read", desc := "([B)I" } : Jvm.MethodName)) ∈ lw_all := lw_g (lw_at lw_m2 195 rfl) rfl
theorem q498 : (Jvm.Cond.privateMethod ({ cls := "TrailerYards", name := "read", desc := "([B)I" } : Jvm.MethodName)) ∈ lw_tbl := lw_at lw_m2 196 rfl
theorem q499 : (Jvm.Cond.instanceMethod ({ cls := "TrailerYards", name := "read", desc := "([B)I" } : Jvm.MethodName)) ∈ lw_all := lw_g (lw_at lw_m2 197 rfl) rfl
theorem q500 : (Jvm.Cond.code ({ cls := "TrailerYards", name := "read", desc := "([B)I" } : Jvm.MethodName) prog_1_method_20_code (7 : Nat) (Option.some Jvm.ClassFile.FieldType.int)) ∈ lw_all := lw_g (lw_at lw_m2 198 rfl) rfl
theorem q501 : (Jvm.Cond.methodLink "TrailerYards" (207 : Nat) ({ cls := "TrailerYards", name := "whatOf", desc := "(I)I" } : Jvm.MethodName)) ∈ lw_all := lw_g (lw_at lw_m2 199 rfl) rfl
theorem q502 : (Jvm.Cond.static ({ cls := "TrailerYards", name := "whatOf", desc := "(I)I" } : Jvm.MethodName)) ∈ lw_all := lw_g (lw_at lw_m2 200 rfl) rfl
theorem q503 : (Jvm.Cond.code ({ cls := "TrailerYards", name := "whatOf", desc := "(I)I" } : Jvm.MethodName) prog_1_method_19_code (1 : Nat) (Option.some Jvm.ClassFile.FieldType.int)) ∈ lw_all := lw_g (lw_at lw_m2 201 rfl) rfl
theorem q504 : (Jvm.Cond.methodLink "TrailerYards" (210 : Nat) ({ cls := "TrailerYards", name := "isFigure", desc := "([BII)Z" } : Jvm.MethodName)) ∈ lw_all := lw_g (lw_at lw_m2 202 rfl) rfl
theorem q505 : (Jvm.Cond.static ({ cls := "TrailerYards", name := "isFigure", desc := "([BII)Z" } : Jvm.MethodName)) ∈ lw_all := lw_g (lw_at lw_m2 203 rfl) rfl
theorem q506 : (Jvm.Cond.code ({ cls := "TrailerYards", name := "isFigure", desc := "([BII)Z" } : Jvm.MethodName) prog_1_method_18_code (3 : Nat) (Option.some Jvm.ClassFile.FieldType.boolean)) ∈ lw_all := lw_g (lw_at lw_m2 204 rfl) rfl
theorem q508 : (Jvm.Cond.instanceMethod ({ cls := "TrailerYards", name := "later", desc := "(I)I" } : Jvm.MethodName)) ∈ lw_all := lw_g (lw_at lw_m2 206 rfl) rfl
theorem q509 : (Jvm.Cond.selects "TrailerYards" ({ cls := "TrailerYards", name := "later", desc := "(I)I" } : Jvm.MethodName) ({ cls := "TrailerYards", name := "later", desc := "(I)I" } : Jvm.MethodName)) ∈ lw_all := lw_g (lw_at lw_m2 207 rfl) rfl
theorem q510 : (Jvm.Cond.code ({ cls := "TrailerYards", name := "later", desc := "(I)I" } : Jvm.MethodName) prog_1_method_23_code (2 : Nat) (Option.some Jvm.ClassFile.FieldType.int)) ∈ lw_all := lw_g (lw_at lw_m2 208 rfl) rfl
theorem q511 : (Jvm.Cond.constant "TrailerYards" (218 : Nat) (99999 : Int32)) ∈ lw_all := lw_g (lw_at lw_m2 209 rfl) rfl
theorem q513 : (Jvm.Cond.instanceMethod ({ cls := "TrailerYards", name := "way", desc := "(IIII)I" } : Jvm.MethodName)) ∈ lw_all := lw_g (lw_at lw_m2 211 rfl) rfl
theorem q514 : (Jvm.Cond.selects "TrailerYards" ({ cls := "TrailerYards", name := "way", desc := "(IIII)I" } : Jvm.MethodName) ({ cls := "TrailerYards", name := "way", desc := "(IIII)I" } : Jvm.MethodName)) ∈ lw_all := lw_g (lw_at lw_m2 212 rfl) rfl
theorem q515 : (Jvm.Cond.code ({ cls := "TrailerYards", name := "way", desc := "(IIII)I" } : Jvm.MethodName) prog_1_method_26_code (5 : Nat) (Option.some Jvm.ClassFile.FieldType.int)) ∈ lw_all := lw_g (lw_at lw_m2 213 rfl) rfl
theorem q516 : (Jvm.Cond.methodLink "TrailerYards" (222 : Nat) ({ cls := "TrailerYards", name := "isYard", desc := "(I)Z" } : Jvm.MethodName)) ∈ lw_all := lw_g (lw_at lw_m2 214 rfl) rfl
theorem q517 : (Jvm.Cond.static ({ cls := "TrailerYards", name := "isYard", desc := "(I)Z" } : Jvm.MethodName)) ∈ lw_all := lw_g (lw_at lw_m2 215 rfl) rfl
theorem q518 : (Jvm.Cond.code ({ cls := "TrailerYards", name := "isYard", desc := "(I)Z" } : Jvm.MethodName) prog_1_method_24_code (1 : Nat) (Option.some Jvm.ClassFile.FieldType.boolean)) ∈ lw_all := lw_g (lw_at lw_m2 216 rfl) rfl
theorem q519 : (Jvm.Cond.methodLink "TrailerYards" (225 : Nat) ({ cls := "TrailerYards", name := "both", desc := "([IIII)V" } : Jvm.MethodName)) ∈ lw_all := lw_g (lw_at lw_m2 217 rfl) rfl
theorem q520 : (Jvm.Cond.static ({ cls := "TrailerYards", name := "both", desc := "([IIII)V" } : Jvm.MethodName)) ∈ lw_all := lw_g (lw_at lw_m2 218 rfl) rfl
theorem q521 : (Jvm.Cond.code ({ cls := "TrailerYards", name := "both", desc := "([IIII)V" } : Jvm.MethodName) prog_1_method_25_code (4 : Nat) (Option.none : Option Jvm.ClassFile.FieldType)) ∈ lw_all := lw_g (lw_at lw_m2 219 rfl) rfl
theorem q523 : (Jvm.Cond.instanceMethod ({ cls := "TrailerYards", name := "ferry", desc := "(IIII)I" } : Jvm.MethodName)) ∈ lw_all := lw_g (lw_at lw_m2 221 rfl) rfl
theorem q524 : (Jvm.Cond.selects "TrailerYards" ({ cls := "TrailerYards", name := "ferry", desc := "(IIII)I" } : Jvm.MethodName) ({ cls := "TrailerYards", name := "ferry", desc := "(IIII)I" } : Jvm.MethodName)) ∈ lw_all := lw_g (lw_at lw_m2 222 rfl) rfl
theorem q525 : (Jvm.Cond.code ({ cls := "TrailerYards", name := "ferry", desc := "(IIII)I" } : Jvm.MethodName) prog_1_method_27_code (5 : Nat) (Option.some Jvm.ClassFile.FieldType.int)) ∈ lw_all := lw_g (lw_at lw_m2 223 rfl) rfl
theorem q527 : (Jvm.Cond.instanceMethod ({ cls := "TrailerYards", name := "comes", desc := "(III)I" } : Jvm.MethodName)) ∈ lw_all := lw_g (lw_at lw_m2 225 rfl) rfl
theorem q528 : (Jvm.Cond.selects "TrailerYards" ({ cls := "TrailerYards", name := "comes", desc := "(III)I" } : Jvm.MethodName) ({ cls := "TrailerYards", name := "comes", desc := "(III)I" } : Jvm.MethodName)) ∈ lw_all := lw_g (lw_at lw_m2 226 rfl) rfl
theorem q529 : (Jvm.Cond.code ({ cls := "TrailerYards", name := "comes", desc := "(III)I" } : Jvm.MethodName) prog_1_method_31_code (5 : Nat) (Option.some Jvm.ClassFile.FieldType.int)) ∈ lw_all := lw_g (lw_at lw_m2 227 rfl) rfl
theorem q530 : (Jvm.Cond.methodLink "TrailerYards" (238 : Nat) ({ cls := "TrailerYards", name := "isMinute", desc := "(I)Z" } : Jvm.MethodName)) ∈ lw_all := lw_g (lw_at lw_m2 228 rfl) rfl
theorem q531 : (Jvm.Cond.static ({ cls := "TrailerYards", name := "isMinute", desc := "(I)Z" } : Jvm.MethodName)) ∈ lw_all := lw_g (lw_at lw_m2 229 rfl) rfl
theorem q532 : (Jvm.Cond.code ({ cls := "TrailerYards", name := "isMinute", desc := "(I)Z" } : Jvm.MethodName) prog_1_method_22_code (1 : Nat) (Option.some Jvm.ClassFile.FieldType.boolean)) ∈ lw_all := lw_g (lw_at lw_m2 230 rfl) rfl
theorem q533 : (Jvm.Cond.methodLink "TrailerYards" (241 : Nat) ({ cls := "TrailerYards", name := "comesTo", desc := "(III)I" } : Jvm.MethodName)) ∈ lw_all := lw_g (lw_at lw_m2 231 rfl) rfl
theorem q534 : (Jvm.Cond.privateMethod ({ cls := "TrailerYards", name := "comesTo", desc := "(III)I" } : Jvm.MethodName)) ∈ lw_tbl := lw_at lw_m2 232 rfl
theorem q535 : (Jvm.Cond.instanceMethod ({ cls := "TrailerYards", name := "comesTo", desc := "(III)I" } : Jvm.MethodName)) ∈ lw_all := lw_g (lw_at lw_m2 233 rfl) rfl
theorem q536 : (Jvm.Cond.code ({ cls := "TrailerYards", name := "comesTo", desc := "(III)I" } : Jvm.MethodName) prog_1_method_30_code (4 : Nat) (Option.some Jvm.ClassFile.FieldType.int)) ∈ lw_all := lw_g (lw_at lw_m2 234 rfl) rfl
theorem q537 : (Jvm.Cond.methodLink "TrailerYards" (234 : Nat) ({ cls := "TrailerYards", name := "lead", desc := "(IIZ)V" } : Jvm.MethodName)) ∈ lw_all := lw_g (lw_at lw_m2 235 rfl) rfl
theorem q538 : (Jvm.Cond.privateMethod ({ cls := "TrailerYards", name := "lead", desc := "(IIZ)V" } : Jvm.MethodName)) ∈ lw_tbl := lw_at lw_m2 236 rfl
theorem q539 : (Jvm.Cond.instanceMethod ({ cls := "TrailerYards", name := "lead", desc := "(IIZ)V" } : Jvm.MethodName)) ∈ lw_all := lw_g (lw_at lw_m2 237 rfl) rfl
theorem q540 : (Jvm.Cond.code ({ cls := "TrailerYards", name := "lead", desc := "(IIZ)V" } : Jvm.MethodName) prog_1_method_29_code (9 : Nat) (Option.none : Option Jvm.ClassFile.FieldType)) ∈ lw_all := lw_g (lw_at lw_m2 238 rfl) rfl
theorem q541 : (Jvm.Cond.methodLink "TrailerYards" (232 : Nat) ({ cls := "TrailerYards", name := "over", desc := "(II)I" } : Jvm.MethodName)) ∈ lw_all := lw_g (lw_at lw_m2 239 rfl) rfl
theorem q542 : (Jvm.Cond.privateMethod ({ cls := "TrailerYards", name := "over", desc := "(II)I" } : Jvm.MethodName)) ∈ lw_tbl := lw_at lw_m3 0 rfl
theorem q543 : (Jvm.Cond.instanceMethod ({ cls := "TrailerYards", name := "over", desc := "(II)I" } : Jvm.MethodName)) ∈ lw_all := lw_g (lw_at lw_m3 1 rfl) rfl
theorem q544 : (Jvm.Cond.code ({ cls := "TrailerYards", name := "over", desc := "(II)I" } : Jvm.MethodName) prog_1_method_28_code (5 : Nat) (Option.some Jvm.ClassFile.FieldType.int)) ∈ lw_all := lw_g (lw_at lw_m3 2 rfl) rfl
theorem q545 : (Jvm.Cond.methodLink "TrailerYards" (229 : Nat) ({ cls := "java/lang/Math", name := "floorMod", desc := "(II)I" } : Jvm.MethodName)) ∈ lw_all := lw_g (lw_at lw_m3 3 rfl) rfl
theorem q549 : (Jvm.Cond.instanceMethod ({ cls := "TrailerYards", name := "toll", desc := "(II)I" } : Jvm.MethodName)) ∈ lw_all := lw_g (lw_at lw_m3 7 rfl) rfl
theorem q550 : (Jvm.Cond.selects "TrailerYards" ({ cls := "TrailerYards", name := "toll", desc := "(II)I" } : Jvm.MethodName) ({ cls := "TrailerYards", name := "toll", desc := "(II)I" } : Jvm.MethodName)) ∈ lw_all := lw_g (lw_at lw_m3 8 rfl) rfl
theorem q551 : (Jvm.Cond.code ({ cls := "TrailerYards", name := "toll", desc := "(II)I" } : Jvm.MethodName) prog_1_method_32_code (3 : Nat) (Option.some Jvm.ClassFile.FieldType.int)) ∈ lw_all := lw_g (lw_at lw_m3 9 rfl) rfl
theorem q553 : (Jvm.Cond.instanceMethod ({ cls := "TrailerYards", name := "trailer", desc := "(III)I" } : Jvm.MethodName)) ∈ lw_all := lw_g (lw_at lw_m3 11 rfl) rfl
theorem q554 : (Jvm.Cond.selects "TrailerYards" ({ cls := "TrailerYards", name := "trailer", desc := "(III)I" } : Jvm.MethodName) ({ cls := "TrailerYards", name := "trailer", desc := "(III)I" } : Jvm.MethodName)) ∈ lw_all := lw_g (lw_at lw_m3 12 rfl) rfl
theorem q555 : (Jvm.Cond.code ({ cls := "TrailerYards", name := "trailer", desc := "(III)I" } : Jvm.MethodName) prog_1_method_36_code (5 : Nat) (Option.some Jvm.ClassFile.FieldType.int)) ∈ lw_all := lw_g (lw_at lw_m3 13 rfl) rfl
theorem q556 : (Jvm.Cond.constant "TrailerYards" (251 : Nat) (100000 : Int32)) ∈ lw_all := lw_g (lw_at lw_m3 14 rfl) rfl
theorem q558 : (Jvm.Cond.methodLink "TrailerYards" (252 : Nat) ({ cls := "TrailerYards$Trailer", name := "<init>", desc := "(LTrailerYards;III)V" } : Jvm.MethodName)) ∈ lw_all := lw_g (lw_at lw_m3 16 rfl) rfl
theorem q566 : (Jvm.Cond.fieldLink "TrailerYards" (282 : Nat) "TrailerYards$Trailer" "worth" "I") ∈ lw_all := lw_g (lw_at lw_m3 24 rfl) rfl
theorem q568 : (Jvm.Cond.fieldLink "TrailerYards" (272 : Nat) "TrailerYards$Trailer" "yard" "I") ∈ lw_all := lw_g (lw_at lw_m3 26 rfl) rfl
theorem q570 : (Jvm.Cond.fieldLink "TrailerYards" (275 : Nat) "TrailerYards$Trailer" "tractor" "I") ∈ lw_all := lw_g (lw_at lw_m3 28 rfl) rfl
theorem q571 : (Jvm.Cond.fieldLink "TrailerYards" (278 : Nat) "TrailerYards$Trailer" "isLost" "Z") ∈ lw_all := lw_g (lw_at lw_m3 29 rfl) rfl
theorem q572 : (Jvm.Cond.fieldLink "TrailerYards" (291 : Nat) "TrailerYards$Trailer" "isSealed" "Z") ∈ lw_all := lw_g (lw_at lw_m3 30 rfl) rfl
theorem q574 : (Jvm.Cond.fieldLink "TrailerYards" (285 : Nat) "TrailerYards$Trailer" "axle" "I") ∈ lw_all := lw_g (lw_at lw_m3 32 rfl) rfl
theorem q576 : (Jvm.Cond.fieldLink "TrailerYards" (288 : Nat) "TrailerYards$Trailer" "loadMany" "I") ∈ lw_all := lw_g (lw_at lw_m3 34 rfl) rfl
theorem q578 : (Jvm.Cond.fieldLink "TrailerYards" (342 : Nat) "TrailerYards$Trailer" "weights" "[I") ∈ lw_all := lw_g (lw_at lw_m3 36 rfl) rfl
theorem q580 : (Jvm.Cond.fieldLink "TrailerYards" (345 : Nat) "TrailerYards$Trailer" "places" "[I") ∈ lw_all := lw_g (lw_at lw_m3 38 rfl) rfl
theorem q605 : (Jvm.Cond.classLink "TrailerYards" (255 : Nat) "TrailerYards$Cold") ∈ lw_all := lw_g (lw_at lw_m3 63 rfl) rfl
theorem q607 : (Jvm.Cond.methodLink "TrailerYards" (257 : Nat) ({ cls := "TrailerYards$Cold", name := "<init>", desc := "(LTrailerYards;III)V" } : Jvm.MethodName)) ∈ lw_all := lw_g (lw_at lw_m3 65 rfl) rfl
theorem q614 : (Jvm.Cond.fieldLink "TrailerYards" (311 : Nat) "TrailerYards$Cold" "limit" "I") ∈ lw_all := lw_g (lw_at lw_m3 72 rfl) rfl
theorem q632 : (Jvm.Cond.classLink "TrailerYards" (258 : Nat) "TrailerYards$Rented") ∈ lw_all := lw_g (lw_at lw_m3 90 rfl) rfl
theorem q634 : (Jvm.Cond.methodLink "TrailerYards" (260 : Nat) ({ cls := "TrailerYards$Rented", name := "<init>", desc := "(LTrailerYards;III)V" } : Jvm.MethodName)) ∈ lw_all := lw_g (lw_at lw_m3 92 rfl) rfl
theorem q653 : (Jvm.Cond.classLink "TrailerYards" (261 : Nat) "TrailerYards$Frozen") ∈ lw_all := lw_g (lw_at lw_m3 111 rfl) rfl
theorem q655 : (Jvm.Cond.methodLink "TrailerYards" (263 : Nat) ({ cls := "TrailerYards$Frozen", name := "<init>", desc := "(LTrailerYards;III)V" } : Jvm.MethodName)) ∈ lw_all := lw_g (lw_at lw_m3 113 rfl) rfl
theorem q679 : (Jvm.Cond.methodLink "TrailerYards" (264 : Nat) ({ cls := "TrailerYards", name := "enter", desc := "(IIII)V" } : Jvm.MethodName)) ∈ lw_all := lw_g (lw_at lw_m3 137 rfl) rfl
theorem q680 : (Jvm.Cond.privateMethod ({ cls := "TrailerYards", name := "enter", desc := "(IIII)V" } : Jvm.MethodName)) ∈ lw_tbl := lw_at lw_m3 138 rfl
theorem q681 : (Jvm.Cond.instanceMethod ({ cls := "TrailerYards", name := "enter", desc := "(IIII)V" } : Jvm.MethodName)) ∈ lw_all := lw_g (lw_at lw_m3 139 rfl) rfl
theorem q682 : (Jvm.Cond.code ({ cls := "TrailerYards", name := "enter", desc := "(IIII)V" } : Jvm.MethodName) prog_1_method_34_code (5 : Nat) (Option.none : Option Jvm.ClassFile.FieldType)) ∈ lw_all := lw_g (lw_at lw_m3 140 rfl) rfl
theorem q684 : (Jvm.Cond.instanceMethod ({ cls := "TrailerYards", name := "told", desc := "(II)I" } : Jvm.MethodName)) ∈ lw_all := lw_g (lw_at lw_m3 142 rfl) rfl
theorem q685 : (Jvm.Cond.selects "TrailerYards" ({ cls := "TrailerYards", name := "told", desc := "(II)I" } : Jvm.MethodName) ({ cls := "TrailerYards", name := "told", desc := "(II)I" } : Jvm.MethodName)) ∈ lw_all := lw_g (lw_at lw_m3 143 rfl) rfl
theorem q686 : (Jvm.Cond.code ({ cls := "TrailerYards", name := "told", desc := "(II)I" } : Jvm.MethodName) prog_1_method_38_code (3 : Nat) (Option.some Jvm.ClassFile.FieldType.int)) ∈ lw_all := lw_g (lw_at lw_m3 144 rfl) rfl
theorem q687 : (Jvm.Cond.methodLink "TrailerYards" (294 : Nat) ({ cls := "TrailerYards", name := "isTrailer", desc := "(I)Z" } : Jvm.MethodName)) ∈ lw_all := lw_g (lw_at lw_m3 145 rfl) rfl
theorem q688 : (Jvm.Cond.privateMethod ({ cls := "TrailerYards", name := "isTrailer", desc := "(I)Z" } : Jvm.MethodName)) ∈ lw_tbl := lw_at lw_m3 146 rfl
theorem q689 : (Jvm.Cond.instanceMethod ({ cls := "TrailerYards", name := "isTrailer", desc := "(I)Z" } : Jvm.MethodName)) ∈ lw_all := lw_g (lw_at lw_m3 147 rfl) rfl
theorem q690 : (Jvm.Cond.code ({ cls := "TrailerYards", name := "isTrailer", desc := "(I)Z" } : Jvm.MethodName) prog_1_method_33_code (2 : Nat) (Option.some Jvm.ClassFile.FieldType.boolean)) ∈ lw_all := lw_g (lw_at lw_m3 148 rfl) rfl
theorem q691 : (Jvm.Cond.methodLink "TrailerYards" (297 : Nat) ({ cls := "TrailerYards", name := "tells", desc := "(LTrailerYards$Trailer;I)I" } : Jvm.MethodName)) ∈ lw_all := lw_g (lw_at lw_m3 149 rfl) rfl
theorem q692 : (Jvm.Cond.static ({ cls := "TrailerYards", name := "tells", desc := "(LTrailerYards$Trailer;I)I" } : Jvm.MethodName)) ∈ lw_all := lw_g (lw_at lw_m3 150 rfl) rfl
theorem q693 : (Jvm.Cond.code ({ cls := "TrailerYards", name := "tells", desc := "(LTrailerYards$Trailer;I)I" } : Jvm.MethodName) prog_1_method_37_code (2 : Nat) (Option.some Jvm.ClassFile.FieldType.int)) ∈ lw_all := lw_g (lw_at lw_m3 151 rfl) rfl
theorem q694 : (Jvm.Cond.methodLink "TrailerYards" (268 : Nat) ({ cls := "TrailerYards$Trailer", name := "kind", desc := "()I" } : Jvm.MethodName)) ∈ lw_all := lw_g (lw_at lw_m3 152 rfl) rfl
theorem q712 : (Jvm.Cond.instanceMethod ({ cls := "TrailerYards", name := "mark", desc := "(II)I" } : Jvm.MethodName)) ∈ lw_all := lw_g (lw_at lw_m3 170 rfl) rfl
theorem q713 : (Jvm.Cond.selects "TrailerYards" ({ cls := "TrailerYards", name := "mark", desc := "(II)I" } : Jvm.MethodName) ({ cls := "TrailerYards", name := "mark", desc := "(II)I" } : Jvm.MethodName)) ∈ lw_all := lw_g (lw_at lw_m3 171 rfl) rfl
theorem q714 : (Jvm.Cond.codeWith ({ cls := "TrailerYards", name := "mark", desc := "(II)I" } : Jvm.MethodName) prog_1_method_39_code (7 : Nat) (Option.some Jvm.ClassFile.FieldType.int) [((26 : Nat), (82 : Nat), (107 : Nat), (309 : Nat)), ((83 : Nat), (94 : Nat), (107 : Nat), (309 : Nat)), ((95 : Nat), (106 : Nat), (107 : Nat), (309 : Nat))]) ∈ lw_all := lw_g (lw_at lw_m3 172 rfl) rfl
theorem q715 : (Jvm.Cond.classLink "TrailerYards" (309 : Nat) "java/lang/ClassCastException") ∈ lw_all := lw_g (lw_at lw_m3 173 rfl) rfl
theorem q729 : (Jvm.Cond.methodLink "TrailerYards" (301 : Nat) ({ cls := "TrailerYards$Frozen", name := "asCold", desc := "()I" } : Jvm.MethodName)) ∈ lw_all := lw_g (lw_at lw_m3 187 rfl) rfl
theorem q736 : (Jvm.Cond.methodLink "TrailerYards" (304 : Nat) ({ cls := "TrailerYards$Cold", name := "mark", desc := "()I" } : Jvm.MethodName)) ∈ lw_all := lw_g (lw_at lw_m3 194 rfl) rfl
theorem q739 : (Jvm.Cond.methodLink "TrailerYards" (307 : Nat) ({ cls := "TrailerYards$Rented", name := "mark", desc := "()I" } : Jvm.MethodName)) ∈ lw_all := lw_g (lw_at lw_m3 197 rfl) rfl
theorem q744 : (Jvm.Cond.privateMethod ({ cls := "TrailerYards", name := "entryOf", desc := "(II)I" } : Jvm.MethodName)) ∈ lw_tbl := lw_at lw_m3 202 rfl
theorem q745 : (Jvm.Cond.instanceMethod ({ cls := "TrailerYards", name := "entryOf", desc := "(II)I" } : Jvm.MethodName)) ∈ lw_all := lw_g (lw_at lw_m3 203 rfl) rfl
theorem q746 : (Jvm.Cond.code ({ cls := "TrailerYards", name := "entryOf", desc := "(II)I" } : Jvm.MethodName) prog_1_method_35_code (5 : Nat) (Option.some Jvm.ClassFile.FieldType.int)) ∈ lw_all := lw_g (lw_at lw_m3 204 rfl) rfl
theorem q747 : (Jvm.Cond.methodLink "TrailerYards" (308 : Nat) ({ cls := "TrailerYards$Frozen", name := "mark", desc := "()I" } : Jvm.MethodName)) ∈ lw_all := lw_g (lw_at lw_m3 205 rfl) rfl
theorem q749 : (Jvm.Cond.instanceMethod ({ cls := "TrailerYards", name := "limit", desc := "(II)I" } : Jvm.MethodName)) ∈ lw_all := lw_g (lw_at lw_m3 207 rfl) rfl
theorem q750 : (Jvm.Cond.selects "TrailerYards" ({ cls := "TrailerYards", name := "limit", desc := "(II)I" } : Jvm.MethodName) ({ cls := "TrailerYards", name := "limit", desc := "(II)I" } : Jvm.MethodName)) ∈ lw_all := lw_g (lw_at lw_m3 208 rfl) rfl
theorem q751 : (Jvm.Cond.codeWith ({ cls := "TrailerYards", name := "limit", desc := "(II)I" } : Jvm.MethodName) prog_1_method_40_code (5 : Nat) (Option.some Jvm.ClassFile.FieldType.int) [((21 : Nat), (49 : Nat), (50 : Nat), (309 : Nat))]) ∈ lw_all := lw_g (lw_at lw_m3 209 rfl) rfl
theorem q753 : (Jvm.Cond.instanceMethod ({ cls := "TrailerYards", name := "park", desc := "(II)I" } : Jvm.MethodName)) ∈ lw_all := lw_g (lw_at lw_m3 211 rfl) rfl
theorem q754 : (Jvm.Cond.selects "TrailerYards" ({ cls := "TrailerYards", name := "park", desc := "(II)I" } : Jvm.MethodName) ({ cls := "TrailerYards", name := "park", desc := "(II)I" } : Jvm.MethodName)) ∈ lw_all := lw_g (lw_at lw_m3 212 rfl) rfl
theorem q755 : (Jvm.Cond.code ({ cls := "TrailerYards", name := "park", desc := "(II)I" } : Jvm.MethodName) prog_1_method_43_code (3 : Nat) (Option.some Jvm.ClassFile.FieldType.int)) ∈ lw_all := lw_g (lw_at lw_m3 213 rfl) rfl
theorem q756 : (Jvm.Cond.methodLink "TrailerYards" (314 : Nat) ({ cls := "TrailerYards", name := "isTractor", desc := "(I)Z" } : Jvm.MethodName)) ∈ lw_all := lw_g (lw_at lw_m3 214 rfl) rfl
theorem q757 : (Jvm.Cond.static ({ cls := "TrailerYards", name := "isTractor", desc := "(I)Z" } : Jvm.MethodName)) ∈ lw_all := lw_g (lw_at lw_m3 215 rfl) rfl
theorem q758 : (Jvm.Cond.code ({ cls := "TrailerYards", name := "isTractor", desc := "(I)Z" } : Jvm.MethodName) prog_1_method_41_code (1 : Nat) (Option.some Jvm.ClassFile.FieldType.boolean)) ∈ lw_all := lw_g (lw_at lw_m3 216 rfl) rfl
theorem q759 : (Jvm.Cond.methodLink "TrailerYards" (317 : Nat) ({ cls := "TrailerYards", name := "isOnWay", desc := "(I)Z" } : Jvm.MethodName)) ∈ lw_all := lw_g (lw_at lw_m3 217 rfl) rfl
theorem q760 : (Jvm.Cond.privateMethod ({ cls := "TrailerYards", name := "isOnWay", desc := "(I)Z" } : Jvm.MethodName)) ∈ lw_tbl := lw_at lw_m3 218 rfl
theorem q761 : (Jvm.Cond.instanceMethod ({ cls := "TrailerYards", name := "isOnWay", desc := "(I)Z" } : Jvm.MethodName)) ∈ lw_all := lw_g (lw_at lw_m3 219 rfl) rfl
theorem q762 : (Jvm.Cond.code ({ cls := "TrailerYards", name := "isOnWay", desc := "(I)Z" } : Jvm.MethodName) prog_1_method_42_code (2 : Nat) (Option.some Jvm.ClassFile.FieldType.boolean)) ∈ lw_all := lw_g (lw_at lw_m3 220 rfl) rfl
theorem q764 : (Jvm.Cond.instanceMethod ({ cls := "TrailerYards", name := "hitch", desc := "(II)I" } : Jvm.MethodName)) ∈ lw_all := lw_g (lw_at lw_m3 222 rfl) rfl
theorem q765 : (Jvm.Cond.selects "TrailerYards" ({ cls := "TrailerYards", name := "hitch", desc := "(II)I" } : Jvm.MethodName) ({ cls := "TrailerYards", name := "hitch", desc := "(II)I" } : Jvm.MethodName)) ∈ lw_all := lw_g (lw_at lw_m3 223 rfl) rfl
theorem q766 : (Jvm.Cond.code ({ cls := "TrailerYards", name := "hitch", desc := "(II)I" } : Jvm.MethodName) prog_1_method_44_code (4 : Nat) (Option.some Jvm.ClassFile.FieldType.int)) ∈ lw_all := lw_g (lw_at lw_m3 224 rfl) rfl
theorem q768 : (Jvm.Cond.instanceMethod ({ cls := "TrailerYards", name := "drop", desc := "(I)I" } : Jvm.MethodName)) ∈ lw_all := lw_g (lw_at lw_m3 226 rfl) rfl
theorem q769 : (Jvm.Cond.selects "TrailerYards" ({ cls := "TrailerYards", name := "drop", desc := "(I)I" } : Jvm.MethodName) ({ cls := "TrailerYards", name := "drop", desc := "(I)I" } : Jvm.MethodName)) ∈ lw_all := lw_g (lw_at lw_m3 227 rfl) rfl
theorem q770 : (Jvm.Cond.code ({ cls := "TrailerYards", name := "drop", desc := "(I)I" } : Jvm.MethodName) prog_1_method_45_code (3 : Nat) (Option.some Jvm.ClassFile.FieldType.int)) ∈ lw_all := lw_g (lw_at lw_m3 228 rfl) rfl
theorem q772 : (Jvm.Cond.instanceMethod ({ cls := "TrailerYards", name := "go", desc := "(II)I" } : Jvm.MethodName)) ∈ lw_all := lw_g (lw_at lw_m3 230 rfl) rfl
theorem q773 : (Jvm.Cond.selects "TrailerYards" ({ cls := "TrailerYards", name := "go", desc := "(II)I" } : Jvm.MethodName) ({ cls := "TrailerYards", name := "go", desc := "(II)I" } : Jvm.MethodName)) ∈ lw_all := lw_g (lw_at lw_m3 231 rfl) rfl
theorem q774 : (Jvm.Cond.code ({ cls := "TrailerYards", name := "go", desc := "(II)I" } : Jvm.MethodName) prog_1_method_46_code (7 : Nat) (Option.some Jvm.ClassFile.FieldType.int)) ∈ lw_all := lw_g (lw_at lw_m3 232 rfl) rfl
theorem q775 : (Jvm.Cond.methodLink "TrailerYards" (320 : Nat) ({ cls := "TrailerYards", name := "forceOf", desc := "(IIII)I" } : Jvm.MethodName)) ∈ lw_all := lw_g (lw_at lw_m3 233 rfl) rfl
theorem q776 : (Jvm.Cond.privateMethod ({ cls := "TrailerYards", name := "forceOf", desc := "(IIII)I" } : Jvm.MethodName)) ∈ lw_tbl := lw_at lw_m3 234 rfl
theorem q777 : (Jvm.Cond.instanceMethod ({ cls := "TrailerYards", name := "forceOf", desc := "(IIII)I" } : Jvm.MethodName)) ∈ lw_all := lw_g (lw_at lw_m3 235 rfl) rfl
theorem q778 : (Jvm.Cond.code ({ cls := "TrailerYards", name := "forceOf", desc := "(IIII)I" } : Jvm.MethodName) prog_1_method_56_code (10 : Nat) (Option.some Jvm.ClassFile.FieldType.int)) ∈ lw_all := lw_g (lw_at lw_m3 236 rfl) rfl
theorem q780 : (Jvm.Cond.instanceMethod ({ cls := "TrailerYards", name := "tractor", desc := "(II)I" } : Jvm.MethodName)) ∈ lw_all := lw_g (lw_at lw_m3 238 rfl) rfl
theorem q781 : (Jvm.Cond.selects "TrailerYards" ({ cls := "TrailerYards", name := "tractor", desc := "(II)I" } : Jvm.MethodName) ({ cls := "TrailerYards", name := "tractor", desc := "(II)I" } : Jvm.MethodName)) ∈ lw_all := lw_g (lw_at lw_m3 239 rfl) rfl
theorem q782 : (Jvm.Cond.code ({ cls := "TrailerYards", name := "tractor", desc := "(II)I" } : Jvm.MethodName) prog_1_method_48_code (3 : Nat) (Option.some Jvm.ClassFile.FieldType.int)) ∈ lw_all := lw_g (lw_at lw_m4 0 rfl) rfl
theorem q783 : (Jvm.Cond.methodLink "TrailerYards" (324 : Nat) ({ cls := "TrailerYards", name := "tractorTells", desc := "(II)I" } : Jvm.MethodName)) ∈ lw_all := lw_g (lw_at lw_m4 1 rfl) rfl
theorem q784 : (Jvm.Cond.privateMethod ({ cls := "TrailerYards", name := "tractorTells", desc := "(II)I" } : Jvm.MethodName)) ∈ lw_tbl := lw_at lw_m4 2 rfl
theorem q785 : (Jvm.Cond.instanceMethod ({ cls := "TrailerYards", name := "tractorTells", desc := "(II)I" } : Jvm.MethodName)) ∈ lw_all := lw_g (lw_at lw_m4 3 rfl) rfl
theorem q786 : (Jvm.Cond.code ({ cls := "TrailerYards", name := "tractorTells", desc := "(II)I" } : Jvm.MethodName) prog_1_method_47_code (3 : Nat) (Option.some Jvm.ClassFile.FieldType.int)) ∈ lw_all := lw_g (lw_at lw_m4 4 rfl) rfl
theorem q788 : (Jvm.Cond.instanceMethod ({ cls := "TrailerYards", name := "lose", desc := "(I)I" } : Jvm.MethodName)) ∈ lw_all := lw_g (lw_at lw_m4 6 rfl) rfl
theorem q789 : (Jvm.Cond.selects "TrailerYards" ({ cls := "TrailerYards", name := "lose", desc := "(I)I" } : Jvm.MethodName) ({ cls := "TrailerYards", name := "lose", desc := "(I)I" } : Jvm.MethodName)) ∈ lw_all := lw_g (lw_at lw_m4 7 rfl) rfl
theorem q790 : (Jvm.Cond.code ({ cls := "TrailerYards", name := "lose", desc := "(I)I" } : Jvm.MethodName) prog_1_method_49_code (3 : Nat) (Option.some Jvm.ClassFile.FieldType.int)) ∈ lw_all := lw_g (lw_at lw_m4 8 rfl) rfl
theorem q792 : (Jvm.Cond.instanceMethod ({ cls := "TrailerYards", name := "find", desc := "(II)I" } : Jvm.MethodName)) ∈ lw_all := lw_g (lw_at lw_m4 10 rfl) rfl
theorem q793 : (Jvm.Cond.selects "TrailerYards" ({ cls := "TrailerYards", name := "find", desc := "(II)I" } : Jvm.MethodName) ({ cls := "TrailerYards", name := "find", desc := "(II)I" } : Jvm.MethodName)) ∈ lw_all := lw_g (lw_at lw_m4 11 rfl) rfl
theorem q794 : (Jvm.Cond.code ({ cls := "TrailerYards", name := "find", desc := "(II)I" } : Jvm.MethodName) prog_1_method_50_code (4 : Nat) (Option.some Jvm.ClassFile.FieldType.int)) ∈ lw_all := lw_g (lw_at lw_m4 12 rfl) rfl
theorem q796 : (Jvm.Cond.instanceMethod ({ cls := "TrailerYards", name := "seal", desc := "(II)I" } : Jvm.MethodName)) ∈ lw_all := lw_g (lw_at lw_m4 14 rfl) rfl
theorem q797 : (Jvm.Cond.selects "TrailerYards" ({ cls := "TrailerYards", name := "seal", desc := "(II)I" } : Jvm.MethodName) ({ cls := "TrailerYards", name := "seal", desc := "(II)I" } : Jvm.MethodName)) ∈ lw_all := lw_g (lw_at lw_m4 15 rfl) rfl
theorem q798 : (Jvm.Cond.code ({ cls := "TrailerYards", name := "seal", desc := "(II)I" } : Jvm.MethodName) prog_1_method_51_code (4 : Nat) (Option.some Jvm.ClassFile.FieldType.int)) ∈ lw_all := lw_g (lw_at lw_m4 16 rfl) rfl
theorem q800 : (Jvm.Cond.instanceMethod ({ cls := "TrailerYards", name := "book", desc := "(III)I" } : Jvm.MethodName)) ∈ lw_all := lw_g (lw_at lw_m4 18 rfl) rfl
theorem q801 : (Jvm.Cond.selects "TrailerYards" ({ cls := "TrailerYards", name := "book", desc := "(III)I" } : Jvm.MethodName) ({ cls := "TrailerYards", name := "book", desc := "(III)I" } : Jvm.MethodName)) ∈ lw_all := lw_g (lw_at lw_m4 19 rfl) rfl
theorem q802 : (Jvm.Cond.code ({ cls := "TrailerYards", name := "book", desc := "(III)I" } : Jvm.MethodName) prog_1_method_52_code (5 : Nat) (Option.some Jvm.ClassFile.FieldType.int)) ∈ lw_all := lw_g (lw_at lw_m4 20 rfl) rfl
theorem q803 : (Jvm.Cond.methodLink "TrailerYards" (327 : Nat) ({ cls := "TrailerYards", name := "entryOf", desc := "(II)I" } : Jvm.MethodName)) ∈ lw_all := lw_g (lw_at lw_m4 21 rfl) rfl
theorem q805 : (Jvm.Cond.instanceMethod ({ cls := "TrailerYards", name := "where", desc := "(II)I" } : Jvm.MethodName)) ∈ lw_all := lw_g (lw_at lw_m4 23 rfl) rfl
theorem q806 : (Jvm.Cond.selects "TrailerYards" ({ cls := "TrailerYards", name := "where", desc := "(II)I" } : Jvm.MethodName) ({ cls := "TrailerYards", name := "where", desc := "(II)I" } : Jvm.MethodName)) ∈ lw_all := lw_g (lw_at lw_m4 24 rfl) rfl
theorem q807 : (Jvm.Cond.code ({ cls := "TrailerYards", name := "where", desc := "(II)I" } : Jvm.MethodName) prog_1_method_53_code (5 : Nat) (Option.some Jvm.ClassFile.FieldType.int)) ∈ lw_all := lw_g (lw_at lw_m4 25 rfl) rfl
theorem q809 : (Jvm.Cond.instanceMethod ({ cls := "TrailerYards", name := "terms", desc := "(II)I" } : Jvm.MethodName)) ∈ lw_all := lw_g (lw_at lw_m4 27 rfl) rfl
theorem q810 : (Jvm.Cond.selects "TrailerYards" ({ cls := "TrailerYards", name := "terms", desc := "(II)I" } : Jvm.MethodName) ({ cls := "TrailerYards", name := "terms", desc := "(II)I" } : Jvm.MethodName)) ∈ lw_all := lw_g (lw_at lw_m4 28 rfl) rfl
theorem q811 : (Jvm.Cond.code ({ cls := "TrailerYards", name := "terms", desc := "(II)I" } : Jvm.MethodName) prog_1_method_55_code (3 : Nat) (Option.some Jvm.ClassFile.FieldType.int)) ∈ lw_all := lw_g (lw_at lw_m4 29 rfl) rfl
theorem q812 : (Jvm.Cond.methodLink "TrailerYards" (330 : Nat) ({ cls := "TrailerYards", name := "isDay", desc := "(I)Z" } : Jvm.MethodName)) ∈ lw_all := lw_g (lw_at lw_m4 30 rfl) rfl
theorem q813 : (Jvm.Cond.static ({ cls := "TrailerYards", name := "isDay", desc := "(I)Z" } : Jvm.MethodName)) ∈ lw_all := lw_g (lw_at lw_m4 31 rfl) rfl
theorem q814 : (Jvm.Cond.code ({ cls := "TrailerYards", name := "isDay", desc := "(I)Z" } : Jvm.MethodName) prog_1_method_54_code (1 : Nat) (Option.some Jvm.ClassFile.FieldType.boolean)) ∈ lw_all := lw_g (lw_at lw_m4 32 rfl) rfl
theorem q816 : (Jvm.Cond.instanceMethod ({ cls := "TrailerYards", name := "force", desc := "(IIII)I" } : Jvm.MethodName)) ∈ lw_all := lw_g (lw_at lw_m4 34 rfl) rfl
theorem q817 : (Jvm.Cond.selects "TrailerYards" ({ cls := "TrailerYards", name := "force", desc := "(IIII)I" } : Jvm.MethodName) ({ cls := "TrailerYards", name := "force", desc := "(IIII)I" } : Jvm.MethodName)) ∈ lw_all := lw_g (lw_at lw_m4 35 rfl) rfl
theorem q818 : (Jvm.Cond.code ({ cls := "TrailerYards", name := "force", desc := "(IIII)I" } : Jvm.MethodName) prog_1_method_57_code (5 : Nat) (Option.some Jvm.ClassFile.FieldType.int)) ∈ lw_all := lw_g (lw_at lw_m4 36 rfl) rfl
theorem q820 : (Jvm.Cond.instanceMethod ({ cls := "TrailerYards", name := "pence", desc := "()J" } : Jvm.MethodName)) ∈ lw_all := lw_g (lw_at lw_m4 38 rfl) rfl
theorem q821 : (Jvm.Cond.selects "TrailerYards" ({ cls := "TrailerYards", name := "pence", desc := "()J" } : Jvm.MethodName) ({ cls := "TrailerYards", name := "pence", desc := "()J" } : Jvm.MethodName)) ∈ lw_all := lw_g (lw_at lw_m4 39 rfl) rfl
theorem q822 : (Jvm.Cond.code ({ cls := "TrailerYards", name := "pence", desc := "()J" } : Jvm.MethodName) prog_1_method_58_code (1 : Nat) (Option.some Jvm.ClassFile.FieldType.long)) ∈ lw_all := lw_g (lw_at lw_m4 40 rfl) rfl
theorem q824 : (Jvm.Cond.instanceMethod ({ cls := "TrailerYards", name := "detention", desc := "(I)I" } : Jvm.MethodName)) ∈ lw_all := lw_g (lw_at lw_m4 42 rfl) rfl
theorem q825 : (Jvm.Cond.selects "TrailerYards" ({ cls := "TrailerYards", name := "detention", desc := "(I)I" } : Jvm.MethodName) ({ cls := "TrailerYards", name := "detention", desc := "(I)I" } : Jvm.MethodName)) ∈ lw_all := lw_g (lw_at lw_m4 43 rfl) rfl
theorem q826 : (Jvm.Cond.code ({ cls := "TrailerYards", name := "detention", desc := "(I)I" } : Jvm.MethodName) prog_1_method_60_code (8 : Nat) (Option.some Jvm.ClassFile.FieldType.int)) ∈ lw_all := lw_g (lw_at lw_m4 44 rfl) rfl
theorem q827 : (Jvm.Cond.methodLink "TrailerYards" (339 : Nat) ({ cls := "TrailerYards", name := "leftAt", desc := "(I)I" } : Jvm.MethodName)) ∈ lw_all := lw_g (lw_at lw_m4 45 rfl) rfl
theorem q828 : (Jvm.Cond.privateMethod ({ cls := "TrailerYards", name := "leftAt", desc := "(I)I" } : Jvm.MethodName)) ∈ lw_tbl := lw_at lw_m4 46 rfl
theorem q829 : (Jvm.Cond.instanceMethod ({ cls := "TrailerYards", name := "leftAt", desc := "(I)I" } : Jvm.MethodName)) ∈ lw_all := lw_g (lw_at lw_m4 47 rfl) rfl
theorem q830 : (Jvm.Cond.code ({ cls := "TrailerYards", name := "leftAt", desc := "(I)I" } : Jvm.MethodName) prog_1_method_59_code (3 : Nat) (Option.some Jvm.ClassFile.FieldType.int)) ∈ lw_all := lw_g (lw_at lw_m4 48 rfl) rfl
theorem q832 : (Jvm.Cond.instanceMethod ({ cls := "TrailerYards", name := "law", desc := "(II)I" } : Jvm.MethodName)) ∈ lw_all := lw_g (lw_at lw_m4 50 rfl) rfl
theorem q833 : (Jvm.Cond.selects "TrailerYards" ({ cls := "TrailerYards", name := "law", desc := "(II)I" } : Jvm.MethodName) ({ cls := "TrailerYards", name := "law", desc := "(II)I" } : Jvm.MethodName)) ∈ lw_all := lw_g (lw_at lw_m4 51 rfl) rfl
theorem q834 : (Jvm.Cond.code ({ cls := "TrailerYards", name := "law", desc := "(II)I" } : Jvm.MethodName) prog_1_method_61_code (3 : Nat) (Option.some Jvm.ClassFile.FieldType.int)) ∈ lw_all := lw_g (lw_at lw_m4 52 rfl) rfl
theorem q836 : (Jvm.Cond.instanceMethod ({ cls := "TrailerYards", name := "load", desc := "(III)I" } : Jvm.MethodName)) ∈ lw_all := lw_g (lw_at lw_m4 54 rfl) rfl
theorem q837 : (Jvm.Cond.selects "TrailerYards" ({ cls := "TrailerYards", name := "load", desc := "(III)I" } : Jvm.MethodName) ({ cls := "TrailerYards", name := "load", desc := "(III)I" } : Jvm.MethodName)) ∈ lw_all := lw_g (lw_at lw_m4 55 rfl) rfl
theorem q838 : (Jvm.Cond.code ({ cls := "TrailerYards", name := "load", desc := "(III)I" } : Jvm.MethodName) prog_1_method_62_code (5 : Nat) (Option.some Jvm.ClassFile.FieldType.int)) ∈ lw_all := lw_g (lw_at lw_m4 56 rfl) rfl
theorem q840 : (Jvm.Cond.instanceMethod ({ cls := "TrailerYards", name := "unload", desc := "(I)I" } : Jvm.MethodName)) ∈ lw_all := lw_g (lw_at lw_m4 58 rfl) rfl
theorem q841 : (Jvm.Cond.selects "TrailerYards" ({ cls := "TrailerYards", name := "unload", desc := "(I)I" } : Jvm.MethodName) ({ cls := "TrailerYards", name := "unload", desc := "(I)I" } : Jvm.MethodName)) ∈ lw_all := lw_g (lw_at lw_m4 59 rfl) rfl
theorem q842 : (Jvm.Cond.code ({ cls := "TrailerYards", name := "unload", desc := "(I)I" } : Jvm.MethodName) prog_1_method_63_code (3 : Nat) (Option.some Jvm.ClassFile.FieldType.int)) ∈ lw_all := lw_g (lw_at lw_m4 60 rfl) rfl
theorem q844 : (Jvm.Cond.instanceMethod ({ cls := "TrailerYards", name := "slide", desc := "(II)I" } : Jvm.MethodName)) ∈ lw_all := lw_g (lw_at lw_m4 62 rfl) rfl
theorem q845 : (Jvm.Cond.selects "TrailerYards" ({ cls := "TrailerYards", name := "slide", desc := "(II)I" } : Jvm.MethodName) ({ cls := "TrailerYards", name := "slide", desc := "(II)I" } : Jvm.MethodName)) ∈ lw_all := lw_g (lw_at lw_m4 63 rfl) rfl
theorem q846 : (Jvm.Cond.code ({ cls := "TrailerYards", name := "slide", desc := "(II)I" } : Jvm.MethodName) prog_1_method_64_code (4 : Nat) (Option.some Jvm.ClassFile.FieldType.int)) ∈ lw_all := lw_g (lw_at lw_m4 64 rfl) rfl
theorem q848 : (Jvm.Cond.instanceMethod ({ cls := "TrailerYards", name := "weight", desc := "(IZ)I" } : Jvm.MethodName)) ∈ lw_all := lw_g (lw_at lw_m4 66 rfl) rfl
theorem q849 : (Jvm.Cond.selects "TrailerYards" ({ cls := "TrailerYards", name := "weight", desc := "(IZ)I" } : Jvm.MethodName) ({ cls := "TrailerYards", name := "weight", desc := "(IZ)I" } : Jvm.MethodName)) ∈ lw_all := lw_g (lw_at lw_m4 67 rfl) rfl
theorem q850 : (Jvm.Cond.code ({ cls := "TrailerYards", name := "weight", desc := "(IZ)I" } : Jvm.MethodName) prog_1_method_65_code (6 : Nat) (Option.some Jvm.ClassFile.FieldType.int)) ∈ lw_all := lw_g (lw_at lw_m4 68 rfl) rfl
theorem q851 : (Jvm.Cond.methodLink "TrailerYards" (348 : Nat) ({ cls := "TrailerYards$Trailer", name := "turning", desc := "()J" } : Jvm.MethodName)) ∈ lw_all := lw_g (lw_at lw_m4 69 rfl) rfl
theorem q859 : (Jvm.Cond.methodLink "TrailerYards" (352 : Nat) ({ cls := "TrailerYards$Trailer", name := "all", desc := "()J" } : Jvm.MethodName)) ∈ lw_all := lw_g (lw_at lw_m4 77 rfl) rfl
theorem q867 : (Jvm.Cond.methodLink "TrailerYards" (355 : Nat) ({ cls := "TrailerYards", name := "fraction", desc := "(JJI)I" } : Jvm.MethodName)) ∈ lw_all := lw_g (lw_at lw_m4 85 rfl) rfl
theorem q868 : (Jvm.Cond.privateMethod ({ cls := "TrailerYards", name := "fraction", desc := "(JJI)I" } : Jvm.MethodName)) ∈ lw_tbl := lw_at lw_m4 86 rfl
theorem q869 : (Jvm.Cond.instanceMethod ({ cls := "TrailerYards", name := "fraction", desc := "(JJI)I" } : Jvm.MethodName)) ∈ lw_all := lw_g (lw_at lw_m4 87 rfl) rfl
theorem q870 : (Jvm.Cond.code ({ cls := "TrailerYards", name := "fraction", desc := "(JJI)I" } : Jvm.MethodName) prog_1_method_6_code (12 : Nat) (Option.some Jvm.ClassFile.FieldType.int)) ∈ lw_all := lw_g (lw_at lw_m4 88 rfl) rfl
theorem q871 : (Jvm.Cond.methodLink "TrailerYards" (162 : Nat) ({ cls := "java/lang/Math", name := "abs", desc := "(J)J" } : Jvm.MethodName)) ∈ lw_all := lw_g (lw_at lw_m4 89 rfl) rfl
theorem q875 : (Jvm.Cond.instanceMethod ({ cls := "TrailerYards", name := "lawful", desc := "(I)I" } : Jvm.MethodName)) ∈ lw_all := lw_g (lw_at lw_m4 93 rfl) rfl
theorem q876 : (Jvm.Cond.selects "TrailerYards" ({ cls := "TrailerYards", name := "lawful", desc := "(I)I" } : Jvm.MethodName) ({ cls := "TrailerYards", name := "lawful", desc := "(I)I" } : Jvm.MethodName)) ∈ lw_all := lw_g (lw_at lw_m4 94 rfl) rfl
theorem q877 : (Jvm.Cond.code ({ cls := "TrailerYards", name := "lawful", desc := "(I)I" } : Jvm.MethodName) prog_1_method_66_code (2 : Nat) (Option.some Jvm.ClassFile.FieldType.int)) ∈ lw_all := lw_g (lw_at lw_m4 95 rfl) rfl
theorem q878 : (Jvm.Cond.methodLink "TrailerYards" (359 : Nat) ({ cls := "TrailerYards$Trailer", name := "isLawful", desc := "(I)Z" } : Jvm.MethodName)) ∈ lw_all := lw_g (lw_at lw_m4 96 rfl) rfl
theorem q889 : (Jvm.Cond.instanceMethod ({ cls := "TrailerYards", name := "shift", desc := "(I)I" } : Jvm.MethodName)) ∈ lw_all := lw_g (lw_at lw_m4 107 rfl) rfl
theorem q890 : (Jvm.Cond.selects "TrailerYards" ({ cls := "TrailerYards", name := "shift", desc := "(I)I" } : Jvm.MethodName) ({ cls := "TrailerYards", name := "shift", desc := "(I)I" } : Jvm.MethodName)) ∈ lw_all := lw_g (lw_at lw_m4 108 rfl) rfl
theorem q891 : (Jvm.Cond.code ({ cls := "TrailerYards", name := "shift", desc := "(I)I" } : Jvm.MethodName) prog_1_method_67_code (4 : Nat) (Option.some Jvm.ClassFile.FieldType.int)) ∈ lw_all := lw_g (lw_at lw_m4 109 rfl) rfl
theorem q893 : (Jvm.Cond.instanceMethod ({ cls := "TrailerYards", name := "cold", desc := "(III)I" } : Jvm.MethodName)) ∈ lw_all := lw_g (lw_at lw_m4 111 rfl) rfl
theorem q894 : (Jvm.Cond.selects "TrailerYards" ({ cls := "TrailerYards", name := "cold", desc := "(III)I" } : Jvm.MethodName) ({ cls := "TrailerYards", name := "cold", desc := "(III)I" } : Jvm.MethodName)) ∈ lw_all := lw_g (lw_at lw_m4 112 rfl) rfl
theorem q895 : (Jvm.Cond.code ({ cls := "TrailerYards", name := "cold", desc := "(III)I" } : Jvm.MethodName) prog_1_method_68_code (13 : Nat) (Option.some Jvm.ClassFile.FieldType.int)) ∈ lw_all := lw_g (lw_at lw_m4 113 rfl) rfl
theorem q896 : (Jvm.Cond.interfaceEntry "TrailerYards" (362 : Nat)) ∈ lw_tbl := lw_at lw_m4 114 rfl
theorem q897 : (Jvm.Cond.methodLink "TrailerYards" (362 : Nat) ({ cls := "TrailerYards$Judged", name := "isCold", desc := "()Z" } : Jvm.MethodName)) ∈ lw_all := lw_g (lw_at lw_m4 115 rfl) rfl
theorem q916 : (Jvm.Cond.methodLink "TrailerYards" (368 : Nat) ({ cls := "TrailerYards$Cold", name := "look", desc := "()V" } : Jvm.MethodName)) ∈ lw_all := lw_g (lw_at lw_m4 134 rfl) rfl
theorem q924 : (Jvm.Cond.methodLink "TrailerYards" (371 : Nat) ({ cls := "java/lang/Math", name := "max", desc := "(II)I" } : Jvm.MethodName)) ∈ lw_all := lw_g (lw_at lw_m4 142 rfl) rfl
theorem q928 : (Jvm.Cond.instanceMethod ({ cls := "TrailerYards", name := "theft", desc := "(I)I" } : Jvm.MethodName)) ∈ lw_all := lw_g (lw_at lw_m4 146 rfl) rfl
theorem q929 : (Jvm.Cond.selects "TrailerYards" ({ cls := "TrailerYards", name := "theft", desc := "(I)I" } : Jvm.MethodName) ({ cls := "TrailerYards", name := "theft", desc := "(I)I" } : Jvm.MethodName)) ∈ lw_all := lw_g (lw_at lw_m4 147 rfl) rfl
theorem q930 : (Jvm.Cond.code ({ cls := "TrailerYards", name := "theft", desc := "(I)I" } : Jvm.MethodName) prog_1_method_70_code (4 : Nat) (Option.some Jvm.ClassFile.FieldType.int)) ∈ lw_all := lw_g (lw_at lw_m4 148 rfl) rfl
theorem q931 : (Jvm.Cond.methodLink "TrailerYards" (374 : Nat) ({ cls := "TrailerYards", name := "entryAhead", desc := "(IIII)I" } : Jvm.MethodName)) ∈ lw_all := lw_g (lw_at lw_m4 149 rfl) rfl
theorem q932 : (Jvm.Cond.privateMethod ({ cls := "TrailerYards", name := "entryAhead", desc := "(IIII)I" } : Jvm.MethodName)) ∈ lw_tbl := lw_at lw_m4 150 rfl
theorem q933 : (Jvm.Cond.instanceMethod ({ cls := "TrailerYards", name := "entryAhead", desc := "(IIII)I" } : Jvm.MethodName)) ∈ lw_all := lw_g (lw_at lw_m4 151 rfl) rfl
theorem q934 : (Jvm.Cond.code ({ cls := "TrailerYards", name := "entryAhead", desc := "(IIII)I" } : Jvm.MethodName) prog_1_method_69_code (6 : Nat) (Option.some Jvm.ClassFile.FieldType.int)) ∈ lw_all := lw_g (lw_at lw_m4 152 rfl) rfl
theorem q936 : (Jvm.Cond.instanceMethod ({ cls := "TrailerYards", name := "hands", desc := "(I)I" } : Jvm.MethodName)) ∈ lw_all := lw_g (lw_at lw_m4 154 rfl) rfl
theorem q937 : (Jvm.Cond.selects "TrailerYards" ({ cls := "TrailerYards", name := "hands", desc := "(I)I" } : Jvm.MethodName) ({ cls := "TrailerYards", name := "hands", desc := "(I)I" } : Jvm.MethodName)) ∈ lw_all := lw_g (lw_at lw_m4 155 rfl) rfl
theorem q938 : (Jvm.Cond.code ({ cls := "TrailerYards", name := "hands", desc := "(I)I" } : Jvm.MethodName) prog_1_method_72_code (7 : Nat) (Option.some Jvm.ClassFile.FieldType.int)) ∈ lw_all := lw_g (lw_at lw_m4 156 rfl) rfl
theorem q939 : (Jvm.Cond.methodLink "TrailerYards" (377 : Nat) ({ cls := "TrailerYards", name := "handOf", desc := "(I)I" } : Jvm.MethodName)) ∈ lw_all := lw_g (lw_at lw_m4 157 rfl) rfl
theorem q940 : (Jvm.Cond.privateMethod ({ cls := "TrailerYards", name := "handOf", desc := "(I)I" } : Jvm.MethodName)) ∈ lw_tbl := lw_at lw_m4 158 rfl
theorem q941 : (Jvm.Cond.instanceMethod ({ cls := "TrailerYards", name := "handOf", desc := "(I)I" } : Jvm.MethodName)) ∈ lw_all := lw_g (lw_at lw_m4 159 rfl) rfl
theorem q942 : (Jvm.Cond.code ({ cls := "TrailerYards", name := "handOf", desc := "(I)I" } : Jvm.MethodName) prog_1_method_71_code (2 : Nat) (Option.some Jvm.ClassFile.FieldType.int)) ∈ lw_all := lw_g (lw_at lw_m4 160 rfl) rfl
theorem q943 : (Jvm.Cond.methodLink "TrailerYards" (380 : Nat) ({ cls := "java/lang/Integer", name := "bitCount", desc := "(I)I" } : Jvm.MethodName)) ∈ lw_all := lw_g (lw_at lw_m4 161 rfl) rfl
theorem q950 : (Jvm.Cond.instanceMethod ({ cls := "TrailerYards", name := "swap", desc := "(IIII)I" } : Jvm.MethodName)) ∈ lw_all := lw_g (lw_at lw_m4 168 rfl) rfl
theorem q951 : (Jvm.Cond.selects "TrailerYards" ({ cls := "TrailerYards", name := "swap", desc := "(IIII)I" } : Jvm.MethodName) ({ cls := "TrailerYards", name := "swap", desc := "(IIII)I" } : Jvm.MethodName)) ∈ lw_all := lw_g (lw_at lw_m4 169 rfl) rfl
theorem q952 : (Jvm.Cond.code ({ cls := "TrailerYards", name := "swap", desc := "(IIII)I" } : Jvm.MethodName) prog_1_method_76_code (5 : Nat) (Option.some Jvm.ClassFile.FieldType.int)) ∈ lw_all := lw_g (lw_at lw_m4 170 rfl) rfl
theorem q953 : (Jvm.Cond.methodLink "TrailerYards" (394 : Nat) ({ cls := "TrailerYards", name := "maySwap", desc := "(I)Z" } : Jvm.MethodName)) ∈ lw_all := lw_g (lw_at lw_m4 171 rfl) rfl
theorem q954 : (Jvm.Cond.privateMethod ({ cls := "TrailerYards", name := "maySwap", desc := "(I)Z" } : Jvm.MethodName)) ∈ lw_tbl := lw_at lw_m4 172 rfl
theorem q955 : (Jvm.Cond.instanceMethod ({ cls := "TrailerYards", name := "maySwap", desc := "(I)Z" } : Jvm.MethodName)) ∈ lw_all := lw_g (lw_at lw_m4 173 rfl) rfl
theorem q956 : (Jvm.Cond.code ({ cls := "TrailerYards", name := "maySwap", desc := "(I)Z" } : Jvm.MethodName) prog_1_method_73_code (2 : Nat) (Option.some Jvm.ClassFile.FieldType.boolean)) ∈ lw_all := lw_g (lw_at lw_m4 174 rfl) rfl
theorem q957 : (Jvm.Cond.methodLink "TrailerYards" (397 : Nat) ({ cls := "TrailerYards", name := "laySwap", desc := "(IIII)Z" } : Jvm.MethodName)) ∈ lw_all := lw_g (lw_at lw_m4 175 rfl) rfl
theorem q958 : (Jvm.Cond.privateMethod ({ cls := "TrailerYards", name := "laySwap", desc := "(IIII)Z" } : Jvm.MethodName)) ∈ lw_tbl := lw_at lw_m4 176 rfl
theorem q959 : (Jvm.Cond.instanceMethod ({ cls := "TrailerYards", name := "laySwap", desc := "(IIII)Z" } : Jvm.MethodName)) ∈ lw_all := lw_g (lw_at lw_m4 177 rfl) rfl
theorem q960 : (Jvm.Cond.code ({ cls := "TrailerYards", name := "laySwap", desc := "(IIII)Z" } : Jvm.MethodName) prog_1_method_75_code (14 : Nat) (Option.some Jvm.ClassFile.FieldType.boolean)) ∈ lw_all := lw_g (lw_at lw_m4 178 rfl) rfl
theorem q961 : (Jvm.Cond.methodLink "TrailerYards" (388 : Nat) ({ cls := "TrailerYards", name := "homeAt", desc := "(III)I" } : Jvm.MethodName)) ∈ lw_all := lw_g (lw_at lw_m4 179 rfl) rfl
theorem q962 : (Jvm.Cond.privateMethod ({ cls := "TrailerYards", name := "homeAt", desc := "(III)I" } : Jvm.MethodName)) ∈ lw_tbl := lw_at lw_m4 180 rfl
theorem q963 : (Jvm.Cond.instanceMethod ({ cls := "TrailerYards", name := "homeAt", desc := "(III)I" } : Jvm.MethodName)) ∈ lw_all := lw_g (lw_at lw_m4 181 rfl) rfl
theorem q964 : (Jvm.Cond.code ({ cls := "TrailerYards", name := "homeAt", desc := "(III)I" } : Jvm.MethodName) prog_1_method_74_code (4 : Nat) (Option.some Jvm.ClassFile.FieldType.int)) ∈ lw_all := lw_g (lw_at lw_m4 182 rfl) rfl
theorem q966 : (Jvm.Cond.instanceMethod ({ cls := "TrailerYards", name := "pairs", desc := "(II)I" } : Jvm.MethodName)) ∈ lw_all := lw_g (lw_at lw_m4 184 rfl) rfl
theorem q967 : (Jvm.Cond.selects "TrailerYards" ({ cls := "TrailerYards", name := "pairs", desc := "(II)I" } : Jvm.MethodName) ({ cls := "TrailerYards", name := "pairs", desc := "(II)I" } : Jvm.MethodName)) ∈ lw_all := lw_g (lw_at lw_m4 185 rfl) rfl
theorem q968 : (Jvm.Cond.code ({ cls := "TrailerYards", name := "pairs", desc := "(II)I" } : Jvm.MethodName) prog_1_method_78_code (7 : Nat) (Option.some Jvm.ClassFile.FieldType.int)) ∈ lw_all := lw_g (lw_at lw_m4 186 rfl) rfl
theorem q969 : (Jvm.Cond.methodLink "TrailerYards" (404 : Nat) ({ cls := "TrailerYards", name := "tryPairs", desc := "(I[II)V" } : Jvm.MethodName)) ∈ lw_all := lw_g (lw_at lw_m4 187 rfl) rfl
theorem q970 : (Jvm.Cond.privateMethod ({ cls := "TrailerYards", name := "tryPairs", desc := "(I[II)V" } : Jvm.MethodName)) ∈ lw_tbl := lw_at lw_m4 188 rfl
theorem q971 : (Jvm.Cond.instanceMethod ({ cls := "TrailerYards", name := "tryPairs", desc := "(I[II)V" } : Jvm.MethodName)) ∈ lw_all := lw_g (lw_at lw_m4 189 rfl) rfl
theorem q972 : (Jvm.Cond.code ({ cls := "TrailerYards", name := "tryPairs", desc := "(I[II)V" } : Jvm.MethodName) prog_1_method_77_code (7 : Nat) (Option.none : Option Jvm.ClassFile.FieldType)) ∈ lw_all := lw_g (lw_at lw_m4 190 rfl) rfl
theorem q974 : (Jvm.Cond.instanceMethod ({ cls := "TrailerYards", name := "partner", desc := "(I)I" } : Jvm.MethodName)) ∈ lw_all := lw_g (lw_at lw_m4 192 rfl) rfl
theorem q975 : (Jvm.Cond.selects "TrailerYards" ({ cls := "TrailerYards", name := "partner", desc := "(I)I" } : Jvm.MethodName) ({ cls := "TrailerYards", name := "partner", desc := "(I)I" } : Jvm.MethodName)) ∈ lw_all := lw_g (lw_at lw_m4 193 rfl) rfl
theorem q976 : (Jvm.Cond.code ({ cls := "TrailerYards", name := "partner", desc := "(I)I" } : Jvm.MethodName) prog_1_method_79_code (2 : Nat) (Option.some Jvm.ClassFile.FieldType.int)) ∈ lw_all := lw_g (lw_at lw_m4 194 rfl) rfl
theorem q978 : (Jvm.Cond.instanceMethod ({ cls := "TrailerYards", name := "late", desc := "(IIIIII)I" } : Jvm.MethodName)) ∈ lw_all := lw_g (lw_at lw_m4 196 rfl) rfl
theorem q979 : (Jvm.Cond.selects "TrailerYards" ({ cls := "TrailerYards", name := "late", desc := "(IIIIII)I" } : Jvm.MethodName) ({ cls := "TrailerYards", name := "late", desc := "(IIIIII)I" } : Jvm.MethodName)) ∈ lw_all := lw_g (lw_at lw_m4 197 rfl) rfl
theorem q980 : (Jvm.Cond.code ({ cls := "TrailerYards", name := "late", desc := "(IIIIII)I" } : Jvm.MethodName) prog_1_method_80_code (16 : Nat) (Option.some Jvm.ClassFile.FieldType.int)) ∈ lw_all := lw_g (lw_at lw_m4 198 rfl) rfl
theorem q981 : (Jvm.Cond.constantLong "TrailerYards" (408 : Nat) (1000 : Int64)) ∈ lw_all := lw_g (lw_at lw_m4 199 rfl) rfl
theorem q983 : (Jvm.Cond.instanceMethod ({ cls := "TrailerYards", name := "canBe", desc := "(I)I" } : Jvm.MethodName)) ∈ lw_all := lw_g (lw_at lw_m4 201 rfl) rfl
theorem q984 : (Jvm.Cond.selects "TrailerYards" ({ cls := "TrailerYards", name := "canBe", desc := "(I)I" } : Jvm.MethodName) ({ cls := "TrailerYards", name := "canBe", desc := "(I)I" } : Jvm.MethodName)) ∈ lw_all := lw_g (lw_at lw_m4 202 rfl) rfl
theorem q985 : (Jvm.Cond.code ({ cls := "TrailerYards", name := "canBe", desc := "(I)I" } : Jvm.MethodName) prog_1_method_83_code (2 : Nat) (Option.some Jvm.ClassFile.FieldType.int)) ∈ lw_all := lw_g (lw_at lw_m4 203 rfl) rfl
theorem q986 : (Jvm.Cond.methodLink "TrailerYards" (413 : Nat) ({ cls := "TrailerYards", name := "canBeOf", desc := "(I)I" } : Jvm.MethodName)) ∈ lw_all := lw_g (lw_at lw_m4 204 rfl) rfl
theorem q987 : (Jvm.Cond.privateMethod ({ cls := "TrailerYards", name := "canBeOf", desc := "(I)I" } : Jvm.MethodName)) ∈ lw_tbl := lw_at lw_m4 205 rfl
theorem q988 : (Jvm.Cond.instanceMethod ({ cls := "TrailerYards", name := "canBeOf", desc := "(I)I" } : Jvm.MethodName)) ∈ lw_all := lw_g (lw_at lw_m4 206 rfl) rfl
theorem q989 : (Jvm.Cond.code ({ cls := "TrailerYards", name := "canBeOf", desc := "(I)I" } : Jvm.MethodName) prog_1_method_82_code (5 : Nat) (Option.some Jvm.ClassFile.FieldType.int)) ∈ lw_all := lw_g (lw_at lw_m4 207 rfl) rfl
theorem q990 : (Jvm.Cond.methodLink "TrailerYards" (410 : Nat) ({ cls := "TrailerYards", name := "lastSeen", desc := "(I)I" } : Jvm.MethodName)) ∈ lw_all := lw_g (lw_at lw_m4 208 rfl) rfl
theorem q991 : (Jvm.Cond.privateMethod ({ cls := "TrailerYards", name := "lastSeen", desc := "(I)I" } : Jvm.MethodName)) ∈ lw_tbl := lw_at lw_m4 209 rfl
theorem q992 : (Jvm.Cond.instanceMethod ({ cls := "TrailerYards", name := "lastSeen", desc := "(I)I" } : Jvm.MethodName)) ∈ lw_all := lw_g (lw_at lw_m4 210 rfl) rfl
theorem q993 : (Jvm.Cond.code ({ cls := "TrailerYards", name := "lastSeen", desc := "(I)I" } : Jvm.MethodName) prog_1_method_81_code (2 : Nat) (Option.some Jvm.ClassFile.FieldType.int)) ∈ lw_all := lw_g (lw_at lw_m4 211 rfl) rfl
theorem q995 : (Jvm.Cond.instanceMethod ({ cls := "TrailerYards", name := "look", desc := "(III)I" } : Jvm.MethodName)) ∈ lw_all := lw_g (lw_at lw_m4 213 rfl) rfl
theorem q996 : (Jvm.Cond.selects "TrailerYards" ({ cls := "TrailerYards", name := "look", desc := "(III)I" } : Jvm.MethodName) ({ cls := "TrailerYards", name := "look", desc := "(III)I" } : Jvm.MethodName)) ∈ lw_all := lw_g (lw_at lw_m4 214 rfl) rfl
theorem q997 : (Jvm.Cond.code ({ cls := "TrailerYards", name := "look", desc := "(III)I" } : Jvm.MethodName) prog_1_method_85_code (7 : Nat) (Option.some Jvm.ClassFile.FieldType.int)) ∈ lw_all := lw_g (lw_at lw_m4 215 rfl) rfl
theorem q998 : (Jvm.Cond.methodLink "TrailerYards" (422 : Nat) ({ cls := "TrailerYards", name := "tryLooks", desc := "(IIII[II)V" } : Jvm.MethodName)) ∈ lw_all := lw_g (lw_at lw_m4 216 rfl) rfl
theorem q999 : (Jvm.Cond.privateMethod ({ cls := "TrailerYards", name := "tryLooks", desc := "(IIII[II)V" } : Jvm.MethodName)) ∈ lw_tbl := lw_at lw_m4 217 rfl
theorem q1000 : (Jvm.Cond.instanceMethod ({ cls := "TrailerYards", name := "tryLooks", desc := "(IIII[II)V" } : Jvm.MethodName)) ∈ lw_all := lw_g (lw_at lw_m4 218 rfl) rfl
theorem q1001 : (Jvm.Cond.code ({ cls := "TrailerYards", name := "tryLooks", desc := "(IIII[II)V" } : Jvm.MethodName) prog_1_method_84_code (9 : Nat) (Option.none : Option Jvm.ClassFile.FieldType)) ∈ lw_all := lw_g (lw_at lw_m4 219 rfl) rfl
theorem q1003 : (Jvm.Cond.instanceMethod ({ cls := "TrailerYards", name := "looked", desc := "(I)I" } : Jvm.MethodName)) ∈ lw_all := lw_g (lw_at lw_m4 221 rfl) rfl
theorem q1004 : (Jvm.Cond.selects "TrailerYards" ({ cls := "TrailerYards", name := "looked", desc := "(I)I" } : Jvm.MethodName) ({ cls := "TrailerYards", name := "looked", desc := "(I)I" } : Jvm.MethodName)) ∈ lw_all := lw_g (lw_at lw_m4 222 rfl) rfl
theorem q1005 : (Jvm.Cond.code ({ cls := "TrailerYards", name := "looked", desc := "(I)I" } : Jvm.MethodName) prog_1_method_86_code (2 : Nat) (Option.some Jvm.ClassFile.FieldType.int)) ∈ lw_all := lw_g (lw_at lw_m4 223 rfl) rfl
theorem q1007 : (Jvm.Cond.instanceMethod ({ cls := "TrailerYards", name := "pool", desc := "(II)I" } : Jvm.MethodName)) ∈ lw_all := lw_g (lw_at lw_m4 225 rfl) rfl
theorem q1008 : (Jvm.Cond.selects "TrailerYards" ({ cls := "TrailerYards", name := "pool", desc := "(II)I" } : Jvm.MethodName) ({ cls := "TrailerYards", name := "pool", desc := "(II)I" } : Jvm.MethodName)) ∈ lw_all := lw_g (lw_at lw_m4 226 rfl) rfl
theorem q1009 : (Jvm.Cond.code ({ cls := "TrailerYards", name := "pool", desc := "(II)I" } : Jvm.MethodName) prog_1_method_89_code (8 : Nat) (Option.some Jvm.ClassFile.FieldType.int)) ∈ lw_all := lw_g (lw_at lw_m4 227 rfl) rfl
theorem q1010 : (Jvm.Cond.methodLink "TrailerYards" (430 : Nat) ({ cls := "TrailerYards", name := "cheapestWay", desc := "()I" } : Jvm.MethodName)) ∈ lw_all := lw_g (lw_at lw_m4 228 rfl) rfl
theorem q1011 : (Jvm.Cond.privateMethod ({ cls := "TrailerYards", name := "cheapestWay", desc := "()I" } : Jvm.MethodName)) ∈ lw_tbl := lw_at lw_m4 229 rfl
theorem q1012 : (Jvm.Cond.instanceMethod ({ cls := "TrailerYards", name := "cheapestWay", desc := "()I" } : Jvm.MethodName)) ∈ lw_all := lw_g (lw_at lw_m4 230 rfl) rfl
theorem q1013 : (Jvm.Cond.code ({ cls := "TrailerYards", name := "cheapestWay", desc := "()I" } : Jvm.MethodName) prog_1_method_87_code (5 : Nat) (Option.some Jvm.ClassFile.FieldType.int)) ∈ lw_all := lw_g (lw_at lw_m4 231 rfl) rfl
theorem q1014 : (Jvm.Cond.constant "TrailerYards" (429 : Nat) (1000000000 : Int32)) ∈ lw_all := lw_g (lw_at lw_m4 232 rfl) rfl
theorem q1015 : (Jvm.Cond.methodLink "TrailerYards" (433 : Nat) ({ cls := "TrailerYards", name := "bringOne", desc := "(I)V" } : Jvm.MethodName)) ∈ lw_all := lw_g (lw_at lw_m4 233 rfl) rfl
theorem q1016 : (Jvm.Cond.privateMethod ({ cls := "TrailerYards", name := "bringOne", desc := "(I)V" } : Jvm.MethodName)) ∈ lw_tbl := lw_at lw_m4 234 rfl
theorem q1017 : (Jvm.Cond.instanceMethod ({ cls := "TrailerYards", name := "bringOne", desc := "(I)V" } : Jvm.MethodName)) ∈ lw_all := lw_g (lw_at lw_m4 235 rfl) rfl
theorem q1018 : (Jvm.Cond.code ({ cls := "TrailerYards", name := "bringOne", desc := "(I)V" } : Jvm.MethodName) prog_1_method_88_code (4 : Nat) (Option.none : Option Jvm.ClassFile.FieldType)) ∈ lw_all := lw_g (lw_at lw_m4 236 rfl) rfl
theorem q1020 : (Jvm.Cond.instanceMethod ({ cls := "TrailerYards", name := "rent", desc := "(IIIII)I" } : Jvm.MethodName)) ∈ lw_all := lw_g (lw_at lw_m4 238 rfl) rfl
theorem q1021 : (Jvm.Cond.selects "TrailerYards" ({ cls := "TrailerYards", name := "rent", desc := "(IIIII)I" } : Jvm.MethodName) ({ cls := "TrailerYards", name := "rent", desc := "(IIIII)I" } : Jvm.MethodName)) ∈ lw_all := lw_g (lw_at lw_m4 239 rfl) rfl
theorem q1022 : (Jvm.Cond.code ({ cls := "TrailerYards", name := "rent", desc := "(IIIII)I" } : Jvm.MethodName) prog_1_method_90_code (14 : Nat) (Option.some Jvm.ClassFile.FieldType.int)) ∈ lw_all := lw_g (lw_at lw_m5 0 rfl) rfl
theorem q1023 : (Jvm.Cond.methodLink "TrailerYards" (437 : Nat) ({ cls := "TrailerYards", name := "rentCost", desc := "(IIIIIII)I" } : Jvm.MethodName)) ∈ lw_all := lw_g (lw_at lw_m5 1 rfl) rfl
theorem q1024 : (Jvm.Cond.privateMethod ({ cls := "TrailerYards", name := "rentCost", desc := "(IIIIIII)I" } : Jvm.MethodName)) ∈ lw_tbl := lw_at lw_m5 2 rfl
theorem q1025 : (Jvm.Cond.instanceMethod ({ cls := "TrailerYards", name := "rentCost", desc := "(IIIIIII)I" } : Jvm.MethodName)) ∈ lw_all := lw_g (lw_at lw_m5 3 rfl) rfl
theorem q1026 : (Jvm.Cond.code ({ cls := "TrailerYards", name := "rentCost", desc := "(IIIIIII)I" } : Jvm.MethodName) prog_1_method_91_code (8 : Nat) (Option.some Jvm.ClassFile.FieldType.int)) ∈ lw_all := lw_g (lw_at lw_m5 4 rfl) rfl
theorem q1028 : (Jvm.Cond.instanceMethod ({ cls := "TrailerYards", name := "rented", desc := "(I)I" } : Jvm.MethodName)) ∈ lw_all := lw_g (lw_at lw_m5 6 rfl) rfl
theorem q1029 : (Jvm.Cond.selects "TrailerYards" ({ cls := "TrailerYards", name := "rented", desc := "(I)I" } : Jvm.MethodName) ({ cls := "TrailerYards", name := "rented", desc := "(I)I" } : Jvm.MethodName)) ∈ lw_all := lw_g (lw_at lw_m5 7 rfl) rfl
theorem q1030 : (Jvm.Cond.code ({ cls := "TrailerYards", name := "rented", desc := "(I)I" } : Jvm.MethodName) prog_1_method_92_code (2 : Nat) (Option.some Jvm.ClassFile.FieldType.int)) ∈ lw_all := lw_g (lw_at lw_m5 8 rfl) rfl
theorem q1032 : (Jvm.Cond.instanceMethod ({ cls := "TrailerYards", name := "count", desc := "(I)I" } : Jvm.MethodName)) ∈ lw_all := lw_g (lw_at lw_m5 10 rfl) rfl
theorem q1033 : (Jvm.Cond.selects "TrailerYards" ({ cls := "TrailerYards", name := "count", desc := "(I)I" } : Jvm.MethodName) ({ cls := "TrailerYards", name := "count", desc := "(I)I" } : Jvm.MethodName)) ∈ lw_all := lw_g (lw_at lw_m5 11 rfl) rfl
theorem q1034 : (Jvm.Cond.code ({ cls := "TrailerYards", name := "count", desc := "(I)I" } : Jvm.MethodName) prog_1_method_94_code (2 : Nat) (Option.some Jvm.ClassFile.FieldType.int)) ∈ lw_all := lw_g (lw_at lw_m5 12 rfl) rfl
theorem q1035 : (Jvm.Cond.methodLink "TrailerYards" (444 : Nat) ({ cls := "TrailerYards", name := "counted", desc := "(I)I" } : Jvm.MethodName)) ∈ lw_all := lw_g (lw_at lw_m5 13 rfl) rfl
theorem q1036 : (Jvm.Cond.privateMethod ({ cls := "TrailerYards", name := "counted", desc := "(I)I" } : Jvm.MethodName)) ∈ lw_tbl := lw_at lw_m5 14 rfl
theorem q1037 : (Jvm.Cond.instanceMethod ({ cls := "TrailerYards", name := "counted", desc := "(I)I" } : Jvm.MethodName)) ∈ lw_all := lw_g (lw_at lw_m5 15 rfl) rfl
theorem q1038 : (Jvm.Cond.code ({ cls := "TrailerYards", name := "counted", desc := "(I)I" } : Jvm.MethodName) prog_1_method_93_code (4 : Nat) (Option.some Jvm.ClassFile.FieldType.int)) ∈ lw_all := lw_g (lw_at lw_m5 16 rfl) rfl
theorem q1040 : (Jvm.Cond.instanceMethod ({ cls := "TrailerYards", name := "finding", desc := "()I" } : Jvm.MethodName)) ∈ lw_all := lw_g (lw_at lw_m5 18 rfl) rfl
theorem q1041 : (Jvm.Cond.selects "TrailerYards" ({ cls := "TrailerYards", name := "finding", desc := "()I" } : Jvm.MethodName) ({ cls := "TrailerYards", name := "finding", desc := "()I" } : Jvm.MethodName)) ∈ lw_all := lw_g (lw_at lw_m5 19 rfl) rfl
theorem q1042 : (Jvm.Cond.code ({ cls := "TrailerYards", name := "finding", desc := "()I" } : Jvm.MethodName) prog_1_method_95_code (1 : Nat) (Option.some Jvm.ClassFile.FieldType.int)) ∈ lw_all := lw_g (lw_at lw_m5 20 rfl) rfl
theorem q1044 : (Jvm.Cond.instanceMethod ({ cls := "TrailerYards", name := "findings", desc := "(I)I" } : Jvm.MethodName)) ∈ lw_all := lw_g (lw_at lw_m5 22 rfl) rfl
theorem q1045 : (Jvm.Cond.selects "TrailerYards" ({ cls := "TrailerYards", name := "findings", desc := "(I)I" } : Jvm.MethodName) ({ cls := "TrailerYards", name := "findings", desc := "(I)I" } : Jvm.MethodName)) ∈ lw_all := lw_g (lw_at lw_m5 23 rfl) rfl
theorem q1046 : (Jvm.Cond.code ({ cls := "TrailerYards", name := "findings", desc := "(I)I" } : Jvm.MethodName) prog_1_method_96_code (2 : Nat) (Option.some Jvm.ClassFile.FieldType.int)) ∈ lw_all := lw_g (lw_at lw_m5 24 rfl) rfl
theorem q1048 : (Jvm.Cond.instanceMethod ({ cls := "TrailerYards", name := "digest", desc := "()J" } : Jvm.MethodName)) ∈ lw_all := lw_g (lw_at lw_m5 26 rfl) rfl
theorem q1049 : (Jvm.Cond.selects "TrailerYards" ({ cls := "TrailerYards", name := "digest", desc := "()J" } : Jvm.MethodName) ({ cls := "TrailerYards", name := "digest", desc := "()J" } : Jvm.MethodName)) ∈ lw_all := lw_g (lw_at lw_m5 27 rfl) rfl
theorem q1050 : (Jvm.Cond.code ({ cls := "TrailerYards", name := "digest", desc := "()J" } : Jvm.MethodName) prog_1_method_99_code (4 : Nat) (Option.some Jvm.ClassFile.FieldType.long)) ∈ lw_all := lw_g (lw_at lw_m5 28 rfl) rfl
theorem q1051 : (Jvm.Cond.constantLong "TrailerYards" (456 : Nat) (17 : Int64)) ∈ lw_all := lw_g (lw_at lw_m5 29 rfl) rfl
theorem q1052 : (Jvm.Cond.methodLink "TrailerYards" (452 : Nat) ({ cls := "TrailerYards", name := "mix", desc := "(J)V" } : Jvm.MethodName)) ∈ lw_all := lw_g (lw_at lw_m5 30 rfl) rfl
theorem q1053 : (Jvm.Cond.privateMethod ({ cls := "TrailerYards", name := "mix", desc := "(J)V" } : Jvm.MethodName)) ∈ lw_tbl := lw_at lw_m5 31 rfl
theorem q1054 : (Jvm.Cond.instanceMethod ({ cls := "TrailerYards", name := "mix", desc := "(J)V" } : Jvm.MethodName)) ∈ lw_all := lw_g (lw_at lw_m5 32 rfl) rfl
theorem q1055 : (Jvm.Cond.code ({ cls := "TrailerYards", name := "mix", desc := "(J)V" } : Jvm.MethodName) prog_1_method_97_code (3 : Nat) (Option.none : Option Jvm.ClassFile.FieldType)) ∈ lw_all := lw_g (lw_at lw_m5 33 rfl) rfl
theorem q1056 : (Jvm.Cond.constantLong "TrailerYards" (447 : Nat) (31 : Int64)) ∈ lw_all := lw_g (lw_at lw_m5 34 rfl) rfl
theorem q1057 : (Jvm.Cond.methodLink "TrailerYards" (458 : Nat) ({ cls := "TrailerYards", name := "mixWays", desc := "()V" } : Jvm.MethodName)) ∈ lw_all := lw_g (lw_at lw_m5 35 rfl) rfl
theorem q1058 : (Jvm.Cond.privateMethod ({ cls := "TrailerYards", name := "mixWays", desc := "()V" } : Jvm.MethodName)) ∈ lw_tbl := lw_at lw_m5 36 rfl
theorem q1059 : (Jvm.Cond.instanceMethod ({ cls := "TrailerYards", name := "mixWays", desc := "()V" } : Jvm.MethodName)) ∈ lw_all := lw_g (lw_at lw_m5 37 rfl) rfl
theorem q1060 : (Jvm.Cond.code ({ cls := "TrailerYards", name := "mixWays", desc := "()V" } : Jvm.MethodName) prog_1_method_98_code (4 : Nat) (Option.none : Option Jvm.ClassFile.FieldType)) ∈ lw_all := lw_g (lw_at lw_m5 38 rfl) rfl
theorem q1061 : (Jvm.Cond.constantLong "TrailerYards" (461 : Nat) (-1 : Int64)) ∈ lw_all := lw_g (lw_at lw_m5 39 rfl) rfl
theorem in_X0 : ∀ w ∈ wsX00, w ∈ lw_all := lw_in wsX00 [166, 168, 170, 172, 174, 176, 178, 180, 182, 184, 186, 188, 190, 192, 194, 196, 198, 200, 202, 204, 206, 208, 210, 212, 214, 216, 218, 220, 222, 224, 226, 228, 230, 232, 234, 236, 238, 240, 242, 244, 246, 248, 250, 252, 254, 256, 258, 260, 262, 264, 266, 268, 270, 272, 274, 276, 278, 280, 282, 284, 286, 288] (by decide +kernel) (by decide +kernel)
