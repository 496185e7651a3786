/-! TrailerYardsModel -/
set_option maxRecDepth 100000
def RX1 : String := "TrailerYardsModel"
def TX1 : u_T := fun k => match k with
  | 0 => ("TrailerYardsModel", "finding", "I", false)
  | 1 => ("TrailerYardsModel", "findings", "[I", true)
  | 2 => ("TrailerYardsModel", "asked", "I", false)
  | 3 => ("TrailerYardsModel", "upper", "J", false)
  | 4 => ("TrailerYardsModel", "lower", "J", false)
  | 5 => ("TrailerYardsModel", "now", "I", false)
  | 6 => ("TrailerYardsModel", "sizes", "[I", true)
  | 7 => ("TrailerYardsModel", "rows", "[I", true)
  | 8 => ("TrailerYardsModel", "moving", "[I", true)
  | 9 => ("TrailerYardsModel", "lengths", "[I", true)
  | 10 => ("TrailerYardsModel", "texts", "[I", true)
  | 11 => ("TrailerYardsModel", "minutes", "[I", true)
  | 12 => ("TrailerYardsModel", "tolls", "[I", true)
  | 13 => ("TrailerYardsModel", "every", "[I", true)
  | 14 => ("TrailerYardsModel", "firsts", "[I", true)
  | 15 => ("TrailerYardsModel", "there", "[I", true)
  | 16 => ("TrailerYardsModel", "trailers", "I", false)
  | 17 => ("TrailerYardsModel", "kinds", "[I", true)
  | 18 => ("TrailerYardsModel", "stands", "[I", true)
  | 19 => ("TrailerYardsModel", "hitched", "[I", true)
  | 20 => ("TrailerYardsModel", "isLost", "[Z", true)
  | 21 => ("TrailerYardsModel", "worths", "[I", true)
  | 22 => ("TrailerYardsModel", "axles", "[I", true)
  | 23 => ("TrailerYardsModel", "loads", "[I", true)
  | 24 => ("TrailerYardsModel", "loadW", "[I", true)
  | 25 => ("TrailerYardsModel", "loadP", "[I", true)
  | 26 => ("TrailerYardsModel", "isSealed", "[Z", true)
  | 27 => ("TrailerYardsModel", "limits", "[I", true)
  | 28 => ("TrailerYardsModel", "looks", "[I", true)
  | 29 => ("TrailerYardsModel", "yards", "[I", true)
  | 30 => ("TrailerYardsModel", "since", "[I", true)
  | 31 => ("TrailerYardsModel", "has", "[I", true)
  | 32 => ("TrailerYardsModel", "driven", "[I", true)
  | 33 => ("TrailerYardsModel", "drove", "[I", true)
  | 34 => ("TrailerYardsModel", "entries", "I", false)
  | 35 => ("TrailerYardsModel", "entryOf", "[I", true)
  | 36 => ("TrailerYardsModel", "entrySort", "[I", true)
  | 37 => ("TrailerYardsModel", "entryMinute", "[I", true)
  | 38 => ("TrailerYardsModel", "entryBy", "[I", true)
  | 39 => ("TrailerYardsModel", "entryYard", "[I", true)
  | 40 => ("TrailerYardsModel", "terms", "I", false)
  | 41 => ("TrailerYardsModel", "termTold", "[I", true)
  | 42 => ("TrailerYardsModel", "termFrom", "[I", true)
  | 43 => ("TrailerYardsModel", "termSays", "[I", true)
  | 44 => ("TrailerYardsModel", "items", "[I", true)
  | 45 => ("TrailerYardsModel", "pence", "J", false)
  | 46 => ("TrailerYardsModel", "mostAxle", "I", false)
  | 47 => ("TrailerYardsModel", "mostKingpin", "I", false)
  | 48 => ("TrailerYardsModel", "theftFrom", "I", false)
  | 49 => ("TrailerYardsModel", "theftTo", "I", false)
  | 50 => ("TrailerYardsModel", "endOf", "I", false)
  | 51 => ("TrailerYardsModel", "sumOfBoth", "I", false)
  | 52 => ("TrailerYardsModel", "comesFirst", "I", false)
  | 53 => ("TrailerYardsModel", "comesSecond", "I", false)
  | 54 => ("TrailerYardsModel", "bestEnd", "I", false)
  | 55 => ("TrailerYardsModel", "partners", "[I", true)
  | 56 => ("TrailerYardsModel", "trial", "[I", true)
  | 57 => ("TrailerYardsModel", "kept", "[I", true)
  | 58 => ("TrailerYardsModel", "lookMany", "I", false)
  | 59 => ("TrailerYardsModel", "lookOrder", "[I", true)
  | 60 => ("TrailerYardsModel", "goals", "[I", true)
  | 61 => ("TrailerYardsModel", "order", "[I", true)
  | 62 => ("TrailerYardsModel", "bestSum", "I", false)
  | 63 => ("TrailerYardsModel", "brought", "[I", true)
  | 64 => ("TrailerYardsModel", "more", "[I", true)
  | 65 => ("TrailerYardsModel", "lacks", "[I", true)
  | 66 => ("TrailerYardsModel", "costs", "[I", true)
  | 67 => ("TrailerYardsModel", "reach", "[I", true)
  | 68 => ("TrailerYardsModel", "came", "[I", true)
  | 69 => ("TrailerYardsModel", "rentDays", "I", false)
  | 70 => ("TrailerYardsModel", "rentedOn", "[I", true)
  | 71 => ("TrailerYardsModel", "least", "[J", true)
  | _ => ("TrailerYardsModel", "h", "J", false)
def tyX1 : Nat → FieldType := fun k => match k with
  | 0 => .int
  | 1 => .array .int
  | 2 => .int
  | 3 => .long
  | 4 => .long
  | 5 => .int
  | 6 => .array .int
  | 7 => .array .int
  | 8 => .array .int
  | 9 => .array .int
  | 10 => .array .int
  | 11 => .array .int
  | 12 => .array .int
  | 13 => .array .int
  | 14 => .array .int
  | 15 => .array .int
  | 16 => .int
  | 17 => .array .int
  | 18 => .array .int
  | 19 => .array .int
  | 20 => .array .boolean
  | 21 => .array .int
  | 22 => .array .int
  | 23 => .array .int
  | 24 => .array .int
  | 25 => .array .int
  | 26 => .array .boolean
  | 27 => .array .int
  | 28 => .array .int
  | 29 => .array .int
  | 30 => .array .int
  | 31 => .array .int
  | 32 => .array .int
  | 33 => .array .int
  | 34 => .int
  | 35 => .array .int
  | 36 => .array .int
  | 37 => .array .int
  | 38 => .array .int
  | 39 => .array .int
  | 40 => .int
  | 41 => .array .int
  | 42 => .array .int
  | 43 => .array .int
  | 44 => .array .int
  | 45 => .long
  | 46 => .int
  | 47 => .int
  | 48 => .int
  | 49 => .int
  | 50 => .int
  | 51 => .int
  | 52 => .int
  | 53 => .int
  | 54 => .int
  | 55 => .array .int
  | 56 => .array .int
  | 57 => .array .int
  | 58 => .int
  | 59 => .array .int
  | 60 => .array .int
  | 61 => .array .int
  | 62 => .int
  | 63 => .array .int
  | 64 => .array .int
  | 65 => .array .int
  | 66 => .array .int
  | 67 => .array .int
  | 68 => .array .int
  | 69 => .int
  | 70 => .array .int
  | 71 => .array .long
  | _ => .long
abbrev wsX10 : List Cond := u_ws RX1 TX1 73
set_option maxRecDepth 100000 in
theorem nmX1 : ∀ a, a < 73 → ∀ b, b < 73 → a ≠ b → (TX1 a).2.1 ≠ (TX1 b).2.1 := by decide +kernel
set_option maxRecDepth 100000 in
theorem tyX1_ok : ∀ k, k < 73 → parseFieldDescriptor (TX1 k).2.2.1 = some (tyX1 k) := by decide +kernel
abbrev cX1_init : ByteArray := prog_8_method_1_code
def yX1_init : MethodName := ⟨RX1, "<init>", "()V"⟩
def dkwX1_init_21 : List UInt8 := [16, 247, 79, 132, 1, 1, 167, 255, 231, 177]
abbrev dktX1_init_21 : List UInt8 := dkwX1_init_21 ++ []
def dkwX1_init_20 : List UInt8 := [167, 255, 240, 3, 60, 27, 16, 6, 162, 0, 25, 42, 180, 0, 90, 27, 16, 247, 79, 42, 180, 0, 133, 27]
abbrev dktX1_init_20 : List UInt8 := dkwX1_init_20 ++ dktX1_init_21
def dkwX1_init_19 : List UInt8 := [132, 1, 1, 167, 255, 239, 3, 60, 27, 7, 162, 0, 17, 42, 180, 0, 26, 27, 16, 247, 79, 132, 1, 1]
abbrev dktX1_init_19 : List UInt8 := dkwX1_init_19 ++ dktX1_init_20
def dkwX1_init_18 : List UInt8 := [17, 1, 154, 188, 11, 181, 0, 172, 3, 60, 27, 16, 6, 162, 0, 17, 42, 180, 0, 17, 27, 16, 247, 79]
abbrev dktX1_init_18 : List UInt8 := dkwX1_init_18 ++ dktX1_init_19
def dkwX1_init_17 : List UInt8 := [188, 10, 181, 0, 163, 42, 16, 16, 188, 10, 181, 0, 166, 42, 16, 40, 188, 10, 181, 0, 169, 42]
abbrev dktX1_init_17 : List UInt8 := dkwX1_init_17 ++ dktX1_init_18
def dkwX1_init_16 : List UInt8 := [188, 10, 181, 0, 154, 42, 16, 8, 188, 10, 181, 0, 157, 42, 16, 64, 188, 10, 181, 0, 160, 42, 16, 16]
abbrev dktX1_init_16 : List UInt8 := dkwX1_init_16 ++ dktX1_init_17
def dkwX1_init_15 : List UInt8 := [188, 10, 181, 0, 145, 42, 16, 6, 188, 10, 181, 0, 148, 42, 16, 64, 188, 10, 181, 0, 151, 42, 16, 8]
abbrev dktX1_init_15 : List UInt8 := dkwX1_init_15 ++ dktX1_init_16
def dkwX1_init_14 : List UInt8 := [188, 10, 181, 0, 136, 42, 16, 6, 188, 10, 181, 0, 139, 42, 16, 6, 188, 10, 181, 0, 142, 42, 16, 6]
abbrev dktX1_init_14 : List UInt8 := dkwX1_init_14 ++ dktX1_init_15
def dkwX1_init_13 : List UInt8 := [17, 78, 32, 181, 0, 126, 42, 17, 78, 32, 181, 0, 130, 42, 16, 6, 188, 10, 181, 0, 133, 42, 16, 6]
abbrev dktX1_init_13 : List UInt8 := dkwX1_init_13 ++ dktX1_init_14
def dkwX1_init_12 : List UInt8 := [188, 10, 181, 0, 117, 42, 17, 1, 104, 188, 10, 181, 0, 120, 42, 16, 18, 188, 10, 181, 0, 123, 42]
abbrev dktX1_init_12 : List UInt8 := dkwX1_init_12 ++ dktX1_init_13
def dkwX1_init_11 : List UInt8 := [188, 10, 181, 0, 108, 42, 16, 60, 188, 10, 181, 0, 111, 42, 16, 20, 188, 10, 181, 0, 114, 42, 16, 20]
abbrev dktX1_init_11 : List UInt8 := dkwX1_init_11 ++ dktX1_init_12
def dkwX1_init_10 : List UInt8 := [188, 10, 181, 0, 99, 42, 16, 60, 188, 10, 181, 0, 102, 42, 16, 60, 188, 10, 181, 0, 105, 42, 16, 60]
abbrev dktX1_init_10 : List UInt8 := dkwX1_init_10 ++ dktX1_init_11
def dkwX1_init_9 : List UInt8 := [188, 10, 181, 0, 90, 42, 16, 6, 188, 10, 181, 0, 93, 42, 16, 6, 188, 10, 181, 0, 96, 42, 16, 60]
abbrev dktX1_init_9 : List UInt8 := dkwX1_init_9 ++ dktX1_init_10
def dkwX1_init_8 : List UInt8 := [188, 10, 181, 0, 81, 42, 16, 6, 188, 10, 181, 0, 84, 42, 16, 6, 188, 10, 181, 0, 87, 42, 16, 6]
abbrev dktX1_init_8 : List UInt8 := dkwX1_init_8 ++ dktX1_init_9
def dkwX1_init_7 : List UInt8 := [188, 10, 181, 0, 72, 42, 16, 12, 188, 4, 181, 0, 75, 42, 16, 12, 188, 10, 181, 0, 78, 42, 16, 12]
abbrev dktX1_init_7 : List UInt8 := dkwX1_init_7 ++ dktX1_init_8
def dkwX1_init_6 : List UInt8 := [188, 10, 181, 0, 63, 42, 16, 12, 188, 10, 181, 0, 66, 42, 16, 72, 188, 10, 181, 0, 69, 42, 16, 72]
abbrev dktX1_init_6 : List UInt8 := dkwX1_init_6 ++ dktX1_init_7
def dkwX1_init_5 : List UInt8 := [188, 10, 181, 0, 53, 42, 16, 12, 188, 4, 181, 0, 56, 42, 16, 12, 188, 10, 181, 0, 60, 42, 16, 12]
abbrev dktX1_init_5 : List UInt8 := dkwX1_init_5 ++ dktX1_init_6
def dkwX1_init_4 : List UInt8 := [188, 10, 181, 0, 44, 42, 16, 12, 188, 10, 181, 0, 47, 42, 16, 12, 188, 10, 181, 0, 50, 42, 16, 12]
abbrev dktX1_init_4 : List UInt8 := dkwX1_init_4 ++ dktX1_init_5
def dkwX1_init_3 : List UInt8 := [188, 10, 181, 0, 35, 42, 16, 64, 188, 10, 181, 0, 38, 42, 16, 64, 188, 10, 181, 0, 41, 42, 16, 8]
abbrev dktX1_init_3 : List UInt8 := dkwX1_init_3 ++ dktX1_init_4
def dkwX1_init_2 : List UInt8 := [181, 0, 26, 42, 17, 0, 160, 188, 10, 181, 0, 29, 42, 16, 64, 188, 10, 181, 0, 32, 42, 16, 64]
abbrev dktX1_init_2 : List UInt8 := dkwX1_init_2 ++ dktX1_init_3
def dkwX1_init_1 : List UInt8 := [181, 0, 17, 42, 17, 0, 240, 188, 10, 181, 0, 20, 42, 16, 40, 188, 10, 181, 0, 23, 42, 7, 188, 10]
abbrev dktX1_init_1 : List UInt8 := dkwX1_init_1 ++ dktX1_init_2
def dkwX1_init_0 : List UInt8 := [42, 183, 0, 1, 42, 16, 6, 188, 10, 181, 0, 7, 42, 10, 181, 0, 13, 42, 16, 6, 188, 10]
abbrev dktX1_init_0 : List UInt8 := dkwX1_init_0 ++ dktX1_init_1
theorem dksX1_init_0 : cX1_init.data.toList.drop 0 = dktX1_init_0 := by decide +kernel
theorem dksX1_init_1 : cX1_init.data.toList.drop 22 = dktX1_init_1 := dk_seg dksX1_init_0 22 rfl rfl
theorem dksX1_init_2 : cX1_init.data.toList.drop 46 = dktX1_init_2 := dk_seg dksX1_init_1 24 rfl rfl
theorem dksX1_init_3 : cX1_init.data.toList.drop 69 = dktX1_init_3 := dk_seg dksX1_init_2 23 rfl rfl
theorem dksX1_init_4 : cX1_init.data.toList.drop 93 = dktX1_init_4 := dk_seg dksX1_init_3 24 rfl rfl
theorem dksX1_init_5 : cX1_init.data.toList.drop 117 = dktX1_init_5 := dk_seg dksX1_init_4 24 rfl rfl
theorem dksX1_init_6 : cX1_init.data.toList.drop 141 = dktX1_init_6 := dk_seg dksX1_init_5 24 rfl rfl
theorem dksX1_init_7 : cX1_init.data.toList.drop 165 = dktX1_init_7 := dk_seg dksX1_init_6 24 rfl rfl
theorem dksX1_init_8 : cX1_init.data.toList.drop 189 = dktX1_init_8 := dk_seg dksX1_init_7 24 rfl rfl
theorem dksX1_init_9 : cX1_init.data.toList.drop 213 = dktX1_init_9 := dk_seg dksX1_init_8 24 rfl rfl
theorem dksX1_init_10 : cX1_init.data.toList.drop 237 = dktX1_init_10 := dk_seg dksX1_init_9 24 rfl rfl
theorem dksX1_init_11 : cX1_init.data.toList.drop 261 = dktX1_init_11 := dk_seg dksX1_init_10 24 rfl rfl
theorem dksX1_init_12 : cX1_init.data.toList.drop 285 = dktX1_init_12 := dk_seg dksX1_init_11 24 rfl rfl
theorem dksX1_init_13 : cX1_init.data.toList.drop 308 = dktX1_init_13 := dk_seg dksX1_init_12 23 rfl rfl
theorem dksX1_init_14 : cX1_init.data.toList.drop 332 = dktX1_init_14 := dk_seg dksX1_init_13 24 rfl rfl
theorem dksX1_init_15 : cX1_init.data.toList.drop 356 = dktX1_init_15 := dk_seg dksX1_init_14 24 rfl rfl
theorem dksX1_init_16 : cX1_init.data.toList.drop 380 = dktX1_init_16 := dk_seg dksX1_init_15 24 rfl rfl
theorem dksX1_init_17 : cX1_init.data.toList.drop 404 = dktX1_init_17 := dk_seg dksX1_init_16 24 rfl rfl
theorem dksX1_init_18 : cX1_init.data.toList.drop 426 = dktX1_init_18 := dk_seg dksX1_init_17 22 rfl rfl
theorem dksX1_init_19 : cX1_init.data.toList.drop 450 = dktX1_init_19 := dk_seg dksX1_init_18 24 rfl rfl
theorem dksX1_init_20 : cX1_init.data.toList.drop 474 = dktX1_init_20 := dk_seg dksX1_init_19 24 rfl rfl
theorem dksX1_init_21 : cX1_init.data.toList.drop 498 = dktX1_init_21 := dk_seg dksX1_init_20 24 rfl rfl
theorem dX1_init_0 : decode cX1_init 0 = .ok (.aload_n 0, 1) := dk_42 (dk_at dksX1_init_0 0 rfl rfl)
theorem dX1_init_1 : decode cX1_init 1 = .ok (.invokespecial 1, 3) := dk_183 0 1 (dk_at dksX1_init_0 1 rfl rfl)
theorem dX1_init_4 : decode cX1_init 4 = .ok (.aload_n 0, 1) := dk_42 (dk_at dksX1_init_0 4 rfl rfl)
theorem dX1_init_5 : decode cX1_init 5 = .ok (.bipush 6, 2) := dk_16 6 (dk_at dksX1_init_0 5 rfl rfl)
theorem dX1_init_7 : decode cX1_init 7 = .ok (.newarray .int, 2) := dk_188_10 (dk_at dksX1_init_0 7 rfl rfl)
theorem dX1_init_9 : decode cX1_init 9 = .ok (.putfield 7, 3) := dk_181 0 7 (dk_at dksX1_init_0 9 rfl rfl)
theorem dX1_init_12 : decode cX1_init 12 = .ok (.aload_n 0, 1) := dk_42 (dk_at dksX1_init_0 12 rfl rfl)
theorem dX1_init_13 : decode cX1_init 13 = .ok (.lconst 1, 1) := dk_10 (dk_at dksX1_init_0 13 rfl rfl)
theorem dX1_init_14 : decode cX1_init 14 = .ok (.putfield 13, 3) := dk_181 0 13 (dk_at dksX1_init_0 14 rfl rfl)
theorem dX1_init_17 : decode cX1_init 17 = .ok (.aload_n 0, 1) := dk_42 (dk_at dksX1_init_0 17 rfl rfl)
theorem dX1_init_18 : decode cX1_init 18 = .ok (.bipush 6, 2) := dk_16 6 (dk_at dksX1_init_0 18 rfl rfl)
theorem dX1_init_20 : decode cX1_init 20 = .ok (.newarray .int, 2) := dk_188_10 (dk_at dksX1_init_0 20 rfl rfl)
theorem dX1_init_22 : decode cX1_init 22 = .ok (.putfield 17, 3) := dk_181 0 17 (dk_at dksX1_init_1 0 rfl rfl)
theorem dX1_init_25 : decode cX1_init 25 = .ok (.aload_n 0, 1) := dk_42 (dk_at dksX1_init_1 3 rfl rfl)
theorem dX1_init_26 : decode cX1_init 26 = .ok (.sipush 240, 3) := dk_17 0 240 (dk_at dksX1_init_1 4 rfl rfl)
theorem dX1_init_29 : decode cX1_init 29 = .ok (.newarray .int, 2) := dk_188_10 (dk_at dksX1_init_1 7 rfl rfl)
theorem dX1_init_31 : decode cX1_init 31 = .ok (.putfield 20, 3) := dk_181 0 20 (dk_at dksX1_init_1 9 rfl rfl)
theorem dX1_init_34 : decode cX1_init 34 = .ok (.aload_n 0, 1) := dk_42 (dk_at dksX1_init_1 12 rfl rfl)
theorem dX1_init_35 : decode cX1_init 35 = .ok (.bipush 40, 2) := dk_16 40 (dk_at dksX1_init_1 13 rfl rfl)
theorem dX1_init_37 : decode cX1_init 37 = .ok (.newarray .int, 2) := dk_188_10 (dk_at dksX1_init_1 15 rfl rfl)
theorem dX1_init_39 : decode cX1_init 39 = .ok (.putfield 23, 3) := dk_181 0 23 (dk_at dksX1_init_1 17 rfl rfl)
theorem dX1_init_42 : decode cX1_init 42 = .ok (.aload_n 0, 1) := dk_42 (dk_at dksX1_init_1 20 rfl rfl)
theorem dX1_init_43 : decode cX1_init 43 = .ok (.iconst 4, 1) := dk_7 (dk_at dksX1_init_1 21 rfl rfl)
theorem dX1_init_44 : decode cX1_init 44 = .ok (.newarray .int, 2) := dk_188_10 (dk_at dksX1_init_1 22 rfl rfl)
theorem dX1_init_46 : decode cX1_init 46 = .ok (.putfield 26, 3) := dk_181 0 26 (dk_at dksX1_init_2 0 rfl rfl)
theorem dX1_init_49 : decode cX1_init 49 = .ok (.aload_n 0, 1) := dk_42 (dk_at dksX1_init_2 3 rfl rfl)
theorem dX1_init_50 : decode cX1_init 50 = .ok (.sipush 160, 3) := dk_17 0 160 (dk_at dksX1_init_2 4 rfl rfl)
theorem dX1_init_53 : decode cX1_init 53 = .ok (.newarray .int, 2) := dk_188_10 (dk_at dksX1_init_2 7 rfl rfl)
theorem dX1_init_55 : decode cX1_init 55 = .ok (.putfield 29, 3) := dk_181 0 29 (dk_at dksX1_init_2 9 rfl rfl)
theorem dX1_init_58 : decode cX1_init 58 = .ok (.aload_n 0, 1) := dk_42 (dk_at dksX1_init_2 12 rfl rfl)
theorem dX1_init_59 : decode cX1_init 59 = .ok (.bipush 64, 2) := dk_16 64 (dk_at dksX1_init_2 13 rfl rfl)
theorem dX1_init_61 : decode cX1_init 61 = .ok (.newarray .int, 2) := dk_188_10 (dk_at dksX1_init_2 15 rfl rfl)
theorem dX1_init_63 : decode cX1_init 63 = .ok (.putfield 32, 3) := dk_181 0 32 (dk_at dksX1_init_2 17 rfl rfl)
theorem dX1_init_66 : decode cX1_init 66 = .ok (.aload_n 0, 1) := dk_42 (dk_at dksX1_init_2 20 rfl rfl)
theorem dX1_init_67 : decode cX1_init 67 = .ok (.bipush 64, 2) := dk_16 64 (dk_at dksX1_init_2 21 rfl rfl)
theorem dX1_init_69 : decode cX1_init 69 = .ok (.newarray .int, 2) := dk_188_10 (dk_at dksX1_init_3 0 rfl rfl)
theorem dX1_init_71 : decode cX1_init 71 = .ok (.putfield 35, 3) := dk_181 0 35 (dk_at dksX1_init_3 2 rfl rfl)
theorem dX1_init_74 : decode cX1_init 74 = .ok (.aload_n 0, 1) := dk_42 (dk_at dksX1_init_3 5 rfl rfl)
theorem dX1_init_75 : decode cX1_init 75 = .ok (.bipush 64, 2) := dk_16 64 (dk_at dksX1_init_3 6 rfl rfl)
theorem dX1_init_77 : decode cX1_init 77 = .ok (.newarray .int, 2) := dk_188_10 (dk_at dksX1_init_3 8 rfl rfl)
theorem dX1_init_79 : decode cX1_init 79 = .ok (.putfield 38, 3) := dk_181 0 38 (dk_at dksX1_init_3 10 rfl rfl)
theorem dX1_init_82 : decode cX1_init 82 = .ok (.aload_n 0, 1) := dk_42 (dk_at dksX1_init_3 13 rfl rfl)
theorem dX1_init_83 : decode cX1_init 83 = .ok (.bipush 64, 2) := dk_16 64 (dk_at dksX1_init_3 14 rfl rfl)
theorem dX1_init_85 : decode cX1_init 85 = .ok (.newarray .int, 2) := dk_188_10 (dk_at dksX1_init_3 16 rfl rfl)
theorem dX1_init_87 : decode cX1_init 87 = .ok (.putfield 41, 3) := dk_181 0 41 (dk_at dksX1_init_3 18 rfl rfl)
theorem dX1_init_90 : decode cX1_init 90 = .ok (.aload_n 0, 1) := dk_42 (dk_at dksX1_init_3 21 rfl rfl)
theorem dX1_init_91 : decode cX1_init 91 = .ok (.bipush 8, 2) := dk_16 8 (dk_at dksX1_init_3 22 rfl rfl)
theorem dX1_init_93 : decode cX1_init 93 = .ok (.newarray .int, 2) := dk_188_10 (dk_at dksX1_init_4 0 rfl rfl)
theorem dX1_init_95 : decode cX1_init 95 = .ok (.putfield 44, 3) := dk_181 0 44 (dk_at dksX1_init_4 2 rfl rfl)
theorem dX1_init_98 : decode cX1_init 98 = .ok (.aload_n 0, 1) := dk_42 (dk_at dksX1_init_4 5 rfl rfl)
theorem dX1_init_99 : decode cX1_init 99 = .ok (.bipush 12, 2) := dk_16 12 (dk_at dksX1_init_4 6 rfl rfl)
theorem dX1_init_101 : decode cX1_init 101 = .ok (.newarray .int, 2) := dk_188_10 (dk_at dksX1_init_4 8 rfl rfl)
theorem dX1_init_103 : decode cX1_init 103 = .ok (.putfield 47, 3) := dk_181 0 47 (dk_at dksX1_init_4 10 rfl rfl)
theorem dX1_init_106 : decode cX1_init 106 = .ok (.aload_n 0, 1) := dk_42 (dk_at dksX1_init_4 13 rfl rfl)
theorem dX1_init_107 : decode cX1_init 107 = .ok (.bipush 12, 2) := dk_16 12 (dk_at dksX1_init_4 14 rfl rfl)
theorem dX1_init_109 : decode cX1_init 109 = .ok (.newarray .int, 2) := dk_188_10 (dk_at dksX1_init_4 16 rfl rfl)
theorem dX1_init_111 : decode cX1_init 111 = .ok (.putfield 50, 3) := dk_181 0 50 (dk_at dksX1_init_4 18 rfl rfl)
theorem dX1_init_114 : decode cX1_init 114 = .ok (.aload_n 0, 1) := dk_42 (dk_at dksX1_init_4 21 rfl rfl)
theorem dX1_init_115 : decode cX1_init 115 = .ok (.bipush 12, 2) := dk_16 12 (dk_at dksX1_init_4 22 rfl rfl)
theorem dX1_init_117 : decode cX1_init 117 = .ok (.newarray .int, 2) := dk_188_10 (dk_at dksX1_init_5 0 rfl rfl)
theorem dX1_init_119 : decode cX1_init 119 = .ok (.putfield 53, 3) := dk_181 0 53 (dk_at dksX1_init_5 2 rfl rfl)
theorem dX1_init_122 : decode cX1_init 122 = .ok (.aload_n 0, 1) := dk_42 (dk_at dksX1_init_5 5 rfl rfl)
theorem dX1_init_123 : decode cX1_init 123 = .ok (.bipush 12, 2) := dk_16 12 (dk_at dksX1_init_5 6 rfl rfl)
theorem dX1_init_125 : decode cX1_init 125 = .ok (.newarray .boolean, 2) := dk_188_4 (dk_at dksX1_init_5 8 rfl rfl)
theorem dX1_init_127 : decode cX1_init 127 = .ok (.putfield 56, 3) := dk_181 0 56 (dk_at dksX1_init_5 10 rfl rfl)
theorem dX1_init_130 : decode cX1_init 130 = .ok (.aload_n 0, 1) := dk_42 (dk_at dksX1_init_5 13 rfl rfl)
theorem dX1_init_131 : decode cX1_init 131 = .ok (.bipush 12, 2) := dk_16 12 (dk_at dksX1_init_5 14 rfl rfl)
theorem dX1_init_133 : decode cX1_init 133 = .ok (.newarray .int, 2) := dk_188_10 (dk_at dksX1_init_5 16 rfl rfl)
theorem dX1_init_135 : decode cX1_init 135 = .ok (.putfield 60, 3) := dk_181 0 60 (dk_at dksX1_init_5 18 rfl rfl)
theorem dX1_init_138 : decode cX1_init 138 = .ok (.aload_n 0, 1) := dk_42 (dk_at dksX1_init_5 21 rfl rfl)
theorem dX1_init_139 : decode cX1_init 139 = .ok (.bipush 12, 2) := dk_16 12 (dk_at dksX1_init_5 22 rfl rfl)
theorem dX1_init_141 : decode cX1_init 141 = .ok (.newarray .int, 2) := dk_188_10 (dk_at dksX1_init_6 0 rfl rfl)
theorem dX1_init_143 : decode cX1_init 143 = .ok (.putfield 63, 3) := dk_181 0 63 (dk_at dksX1_init_6 2 rfl rfl)
theorem dX1_init_146 : decode cX1_init 146 = .ok (.aload_n 0, 1) := dk_42 (dk_at dksX1_init_6 5 rfl rfl)
theorem dX1_init_147 : decode cX1_init 147 = .ok (.bipush 12, 2) := dk_16 12 (dk_at dksX1_init_6 6 rfl rfl)
theorem dX1_init_149 : decode cX1_init 149 = .ok (.newarray .int, 2) := dk_188_10 (dk_at dksX1_init_6 8 rfl rfl)
theorem dX1_init_151 : decode cX1_init 151 = .ok (.putfield 66, 3) := dk_181 0 66 (dk_at dksX1_init_6 10 rfl rfl)
theorem dX1_init_154 : decode cX1_init 154 = .ok (.aload_n 0, 1) := dk_42 (dk_at dksX1_init_6 13 rfl rfl)
theorem dX1_init_155 : decode cX1_init 155 = .ok (.bipush 72, 2) := dk_16 72 (dk_at dksX1_init_6 14 rfl rfl)
theorem dX1_init_157 : decode cX1_init 157 = .ok (.newarray .int, 2) := dk_188_10 (dk_at dksX1_init_6 16 rfl rfl)
theorem dX1_init_159 : decode cX1_init 159 = .ok (.putfield 69, 3) := dk_181 0 69 (dk_at dksX1_init_6 18 rfl rfl)
theorem dX1_init_162 : decode cX1_init 162 = .ok (.aload_n 0, 1) := dk_42 (dk_at dksX1_init_6 21 rfl rfl)
theorem dX1_init_163 : decode cX1_init 163 = .ok (.bipush 72, 2) := dk_16 72 (dk_at dksX1_init_6 22 rfl rfl)
theorem dX1_init_165 : decode cX1_init 165 = .ok (.newarray .int, 2) := dk_188_10 (dk_at dksX1_init_7 0 rfl rfl)
theorem dX1_init_167 : decode cX1_init 167 = .ok (.putfield 72, 3) := dk_181 0 72 (dk_at dksX1_init_7 2 rfl rfl)
theorem dX1_init_170 : decode cX1_init 170 = .ok (.aload_n 0, 1) := dk_42 (dk_at dksX1_init_7 5 rfl rfl)
theorem dX1_init_171 : decode cX1_init 171 = .ok (.bipush 12, 2) := dk_16 12 (dk_at dksX1_init_7 6 rfl rfl)
theorem dX1_init_173 : decode cX1_init 173 = .ok (.newarray .boolean, 2) := dk_188_4 (dk_at dksX1_init_7 8 rfl rfl)
theorem dX1_init_175 : decode cX1_init 175 = .ok (.putfield 75, 3) := dk_181 0 75 (dk_at dksX1_init_7 10 rfl rfl)
theorem dX1_init_178 : decode cX1_init 178 = .ok (.aload_n 0, 1) := dk_42 (dk_at dksX1_init_7 13 rfl rfl)
theorem dX1_init_179 : decode cX1_init 179 = .ok (.bipush 12, 2) := dk_16 12 (dk_at dksX1_init_7 14 rfl rfl)
theorem dX1_init_181 : decode cX1_init 181 = .ok (.newarray .int, 2) := dk_188_10 (dk_at dksX1_init_7 16 rfl rfl)
theorem dX1_init_183 : decode cX1_init 183 = .ok (.putfield 78, 3) := dk_181 0 78 (dk_at dksX1_init_7 18 rfl rfl)
theorem dX1_init_186 : decode cX1_init 186 = .ok (.aload_n 0, 1) := dk_42 (dk_at dksX1_init_7 21 rfl rfl)
theorem dX1_init_187 : decode cX1_init 187 = .ok (.bipush 12, 2) := dk_16 12 (dk_at dksX1_init_7 22 rfl rfl)
theorem dX1_init_189 : decode cX1_init 189 = .ok (.newarray .int, 2) := dk_188_10 (dk_at dksX1_init_8 0 rfl rfl)
theorem dX1_init_191 : decode cX1_init 191 = .ok (.putfield 81, 3) := dk_181 0 81 (dk_at dksX1_init_8 2 rfl rfl)
theorem dX1_init_194 : decode cX1_init 194 = .ok (.aload_n 0, 1) := dk_42 (dk_at dksX1_init_8 5 rfl rfl)
theorem dX1_init_195 : decode cX1_init 195 = .ok (.bipush 6, 2) := dk_16 6 (dk_at dksX1_init_8 6 rfl rfl)
theorem dX1_init_197 : decode cX1_init 197 = .ok (.newarray .int, 2) := dk_188_10 (dk_at dksX1_init_8 8 rfl rfl)
theorem dX1_init_199 : decode cX1_init 199 = .ok (.putfield 84, 3) := dk_181 0 84 (dk_at dksX1_init_8 10 rfl rfl)
theorem dX1_init_202 : decode cX1_init 202 = .ok (.aload_n 0, 1) := dk_42 (dk_at dksX1_init_8 13 rfl rfl)
theorem dX1_init_203 : decode cX1_init 203 = .ok (.bipush 6, 2) := dk_16 6 (dk_at dksX1_init_8 14 rfl rfl)
theorem dX1_init_205 : decode cX1_init 205 = .ok (.newarray .int, 2) := dk_188_10 (dk_at dksX1_init_8 16 rfl rfl)
theorem dX1_init_207 : decode cX1_init 207 = .ok (.putfield 87, 3) := dk_181 0 87 (dk_at dksX1_init_8 18 rfl rfl)
theorem dX1_init_210 : decode cX1_init 210 = .ok (.aload_n 0, 1) := dk_42 (dk_at dksX1_init_8 21 rfl rfl)
theorem dX1_init_211 : decode cX1_init 211 = .ok (.bipush 6, 2) := dk_16 6 (dk_at dksX1_init_8 22 rfl rfl)
theorem dX1_init_213 : decode cX1_init 213 = .ok (.newarray .int, 2) := dk_188_10 (dk_at dksX1_init_9 0 rfl rfl)
theorem dX1_init_215 : decode cX1_init 215 = .ok (.putfield 90, 3) := dk_181 0 90 (dk_at dksX1_init_9 2 rfl rfl)
theorem dX1_init_218 : decode cX1_init 218 = .ok (.aload_n 0, 1) := dk_42 (dk_at dksX1_init_9 5 rfl rfl)
theorem dX1_init_219 : decode cX1_init 219 = .ok (.bipush 6, 2) := dk_16 6 (dk_at dksX1_init_9 6 rfl rfl)
theorem dX1_init_221 : decode cX1_init 221 = .ok (.newarray .int, 2) := dk_188_10 (dk_at dksX1_init_9 8 rfl rfl)
theorem dX1_init_223 : decode cX1_init 223 = .ok (.putfield 93, 3) := dk_181 0 93 (dk_at dksX1_init_9 10 rfl rfl)
theorem dX1_init_226 : decode cX1_init 226 = .ok (.aload_n 0, 1) := dk_42 (dk_at dksX1_init_9 13 rfl rfl)
theorem dX1_init_227 : decode cX1_init 227 = .ok (.bipush 6, 2) := dk_16 6 (dk_at dksX1_init_9 14 rfl rfl)
theorem dX1_init_229 : decode cX1_init 229 = .ok (.newarray .int, 2) := dk_188_10 (dk_at dksX1_init_9 16 rfl rfl)
theorem dX1_init_231 : decode cX1_init 231 = .ok (.putfield 96, 3) := dk_181 0 96 (dk_at dksX1_init_9 18 rfl rfl)
theorem dX1_init_234 : decode cX1_init 234 = .ok (.aload_n 0, 1) := dk_42 (dk_at dksX1_init_9 21 rfl rfl)
theorem dX1_init_235 : decode cX1_init 235 = .ok (.bipush 60, 2) := dk_16 60 (dk_at dksX1_init_9 22 rfl rfl)
theorem dX1_init_237 : decode cX1_init 237 = .ok (.newarray .int, 2) := dk_188_10 (dk_at dksX1_init_10 0 rfl rfl)
theorem dX1_init_239 : decode cX1_init 239 = .ok (.putfield 99, 3) := dk_181 0 99 (dk_at dksX1_init_10 2 rfl rfl)
theorem dX1_init_242 : decode cX1_init 242 = .ok (.aload_n 0, 1) := dk_42 (dk_at dksX1_init_10 5 rfl rfl)
theorem dX1_init_243 : decode cX1_init 243 = .ok (.bipush 60, 2) := dk_16 60 (dk_at dksX1_init_10 6 rfl rfl)
theorem dX1_init_245 : decode cX1_init 245 = .ok (.newarray .int, 2) := dk_188_10 (dk_at dksX1_init_10 8 rfl rfl)
theorem dX1_init_247 : decode cX1_init 247 = .ok (.putfield 102, 3) := dk_181 0 102 (dk_at dksX1_init_10 10 rfl rfl)
theorem dX1_init_250 : decode cX1_init 250 = .ok (.aload_n 0, 1) := dk_42 (dk_at dksX1_init_10 13 rfl rfl)
theorem dX1_init_251 : decode cX1_init 251 = .ok (.bipush 60, 2) := dk_16 60 (dk_at dksX1_init_10 14 rfl rfl)
theorem dX1_init_253 : decode cX1_init 253 = .ok (.newarray .int, 2) := dk_188_10 (dk_at dksX1_init_10 16 rfl rfl)
theorem dX1_init_255 : decode cX1_init 255 = .ok (.putfield 105, 3) := dk_181 0 105 (dk_at dksX1_init_10 18 rfl rfl)
theorem dX1_init_258 : decode cX1_init 258 = .ok (.aload_n 0, 1) := dk_42 (dk_at dksX1_init_10 21 rfl rfl)
theorem dX1_init_259 : decode cX1_init 259 = .ok (.bipush 60, 2) := dk_16 60 (dk_at dksX1_init_10 22 rfl rfl)
theorem dX1_init_261 : decode cX1_init 261 = .ok (.newarray .int, 2) := dk_188_10 (dk_at dksX1_init_11 0 rfl rfl)
theorem dX1_init_263 : decode cX1_init 263 = .ok (.putfield 108, 3) := dk_181 0 108 (dk_at dksX1_init_11 2 rfl rfl)
theorem dX1_init_266 : decode cX1_init 266 = .ok (.aload_n 0, 1) := dk_42 (dk_at dksX1_init_11 5 rfl rfl)
theorem dX1_init_267 : decode cX1_init 267 = .ok (.bipush 60, 2) := dk_16 60 (dk_at dksX1_init_11 6 rfl rfl)
theorem dX1_init_269 : decode cX1_init 269 = .ok (.newarray .int, 2) := dk_188_10 (dk_at dksX1_init_11 8 rfl rfl)
theorem dX1_init_271 : decode cX1_init 271 = .ok (.putfield 111, 3) := dk_181 0 111 (dk_at dksX1_init_11 10 rfl rfl)
theorem dX1_init_274 : decode cX1_init 274 = .ok (.aload_n 0, 1) := dk_42 (dk_at dksX1_init_11 13 rfl rfl)
theorem dX1_init_275 : decode cX1_init 275 = .ok (.bipush 20, 2) := dk_16 20 (dk_at dksX1_init_11 14 rfl rfl)
theorem dX1_init_277 : decode cX1_init 277 = .ok (.newarray .int, 2) := dk_188_10 (dk_at dksX1_init_11 16 rfl rfl)
theorem dX1_init_279 : decode cX1_init 279 = .ok (.putfield 114, 3) := dk_181 0 114 (dk_at dksX1_init_11 18 rfl rfl)
theorem dX1_init_282 : decode cX1_init 282 = .ok (.aload_n 0, 1) := dk_42 (dk_at dksX1_init_11 21 rfl rfl)
theorem dX1_init_283 : decode cX1_init 283 = .ok (.bipush 20, 2) := dk_16 20 (dk_at dksX1_init_11 22 rfl rfl)
theorem dX1_init_285 : decode cX1_init 285 = .ok (.newarray .int, 2) := dk_188_10 (dk_at dksX1_init_12 0 rfl rfl)
theorem dX1_init_287 : decode cX1_init 287 = .ok (.putfield 117, 3) := dk_181 0 117 (dk_at dksX1_init_12 2 rfl rfl)
theorem dX1_init_290 : decode cX1_init 290 = .ok (.aload_n 0, 1) := dk_42 (dk_at dksX1_init_12 5 rfl rfl)
theorem dX1_init_291 : decode cX1_init 291 = .ok (.sipush 360, 3) := dk_17 1 104 (dk_at dksX1_init_12 6 rfl rfl)
theorem dX1_init_294 : decode cX1_init 294 = .ok (.newarray .int, 2) := dk_188_10 (dk_at dksX1_init_12 9 rfl rfl)
theorem dX1_init_296 : decode cX1_init 296 = .ok (.putfield 120, 3) := dk_181 0 120 (dk_at dksX1_init_12 11 rfl rfl)
theorem dX1_init_299 : decode cX1_init 299 = .ok (.aload_n 0, 1) := dk_42 (dk_at dksX1_init_12 14 rfl rfl)
theorem dX1_init_300 : decode cX1_init 300 = .ok (.bipush 18, 2) := dk_16 18 (dk_at dksX1_init_12 15 rfl rfl)
theorem dX1_init_302 : decode cX1_init 302 = .ok (.newarray .int, 2) := dk_188_10 (dk_at dksX1_init_12 17 rfl rfl)
theorem dX1_init_304 : decode cX1_init 304 = .ok (.putfield 123, 3) := dk_181 0 123 (dk_at dksX1_init_12 19 rfl rfl)
theorem dX1_init_307 : decode cX1_init 307 = .ok (.aload_n 0, 1) := dk_42 (dk_at dksX1_init_12 22 rfl rfl)
theorem dX1_init_308 : decode cX1_init 308 = .ok (.sipush 20000, 3) := dk_17 78 32 (dk_at dksX1_init_13 0 rfl rfl)
theorem dX1_init_311 : decode cX1_init 311 = .ok (.putfield 126, 3) := dk_181 0 126 (dk_at dksX1_init_13 3 rfl rfl)
theorem dX1_init_314 : decode cX1_init 314 = .ok (.aload_n 0, 1) := dk_42 (dk_at dksX1_init_13 6 rfl rfl)
theorem dX1_init_315 : decode cX1_init 315 = .ok (.sipush 20000, 3) := dk_17 78 32 (dk_at dksX1_init_13 7 rfl rfl)
theorem dX1_init_318 : decode cX1_init 318 = .ok (.putfield 130, 3) := dk_181 0 130 (dk_at dksX1_init_13 10 rfl rfl)
theorem dX1_init_321 : decode cX1_init 321 = .ok (.aload_n 0, 1) := dk_42 (dk_at dksX1_init_13 13 rfl rfl)
theorem dX1_init_322 : decode cX1_init 322 = .ok (.bipush 6, 2) := dk_16 6 (dk_at dksX1_init_13 14 rfl rfl)
theorem dX1_init_324 : decode cX1_init 324 = .ok (.newarray .int, 2) := dk_188_10 (dk_at dksX1_init_13 16 rfl rfl)
theorem dX1_init_326 : decode cX1_init 326 = .ok (.putfield 133, 3) := dk_181 0 133 (dk_at dksX1_init_13 18 rfl rfl)
theorem dX1_init_329 : decode cX1_init 329 = .ok (.aload_n 0, 1) := dk_42 (dk_at dksX1_init_13 21 rfl rfl)
theorem dX1_init_330 : decode cX1_init 330 = .ok (.bipush 6, 2) := dk_16 6 (dk_at dksX1_init_13 22 rfl rfl)
theorem dX1_init_332 : decode cX1_init 332 = .ok (.newarray .int, 2) := dk_188_10 (dk_at dksX1_init_14 0 rfl rfl)
theorem dX1_init_334 : decode cX1_init 334 = .ok (.putfield 136, 3) := dk_181 0 136 (dk_at dksX1_init_14 2 rfl rfl)
theorem dX1_init_337 : decode cX1_init 337 = .ok (.aload_n 0, 1) := dk_42 (dk_at dksX1_init_14 5 rfl rfl)
theorem dX1_init_338 : decode cX1_init 338 = .ok (.bipush 6, 2) := dk_16 6 (dk_at dksX1_init_14 6 rfl rfl)
theorem dX1_init_340 : decode cX1_init 340 = .ok (.newarray .int, 2) := dk_188_10 (dk_at dksX1_init_14 8 rfl rfl)
theorem dX1_init_342 : decode cX1_init 342 = .ok (.putfield 139, 3) := dk_181 0 139 (dk_at dksX1_init_14 10 rfl rfl)
theorem dX1_init_345 : decode cX1_init 345 = .ok (.aload_n 0, 1) := dk_42 (dk_at dksX1_init_14 13 rfl rfl)
theorem dX1_init_346 : decode cX1_init 346 = .ok (.bipush 6, 2) := dk_16 6 (dk_at dksX1_init_14 14 rfl rfl)
theorem dX1_init_348 : decode cX1_init 348 = .ok (.newarray .int, 2) := dk_188_10 (dk_at dksX1_init_14 16 rfl rfl)
theorem dX1_init_350 : decode cX1_init 350 = .ok (.putfield 142, 3) := dk_181 0 142 (dk_at dksX1_init_14 18 rfl rfl)
theorem dX1_init_353 : decode cX1_init 353 = .ok (.aload_n 0, 1) := dk_42 (dk_at dksX1_init_14 21 rfl rfl)
theorem dX1_init_354 : decode cX1_init 354 = .ok (.bipush 6, 2) := dk_16 6 (dk_at dksX1_init_14 22 rfl rfl)
theorem dX1_init_356 : decode cX1_init 356 = .ok (.newarray .int, 2) := dk_188_10 (dk_at dksX1_init_15 0 rfl rfl)
theorem dX1_init_358 : decode cX1_init 358 = .ok (.putfield 145, 3) := dk_181 0 145 (dk_at dksX1_init_15 2 rfl rfl)
theorem dX1_init_361 : decode cX1_init 361 = .ok (.aload_n 0, 1) := dk_42 (dk_at dksX1_init_15 5 rfl rfl)
theorem dX1_init_362 : decode cX1_init 362 = .ok (.bipush 6, 2) := dk_16 6 (dk_at dksX1_init_15 6 rfl rfl)
theorem dX1_init_364 : decode cX1_init 364 = .ok (.newarray .int, 2) := dk_188_10 (dk_at dksX1_init_15 8 rfl rfl)
theorem dX1_init_366 : decode cX1_init 366 = .ok (.putfield 148, 3) := dk_181 0 148 (dk_at dksX1_init_15 10 rfl rfl)
theorem dX1_init_369 : decode cX1_init 369 = .ok (.aload_n 0, 1) := dk_42 (dk_at dksX1_init_15 13 rfl rfl)
theorem dX1_init_370 : decode cX1_init 370 = .ok (.bipush 64, 2) := dk_16 64 (dk_at dksX1_init_15 14 rfl rfl)
theorem dX1_init_372 : decode cX1_init 372 = .ok (.newarray .int, 2) := dk_188_10 (dk_at dksX1_init_15 16 rfl rfl)
theorem dX1_init_374 : decode cX1_init 374 = .ok (.putfield 151, 3) := dk_181 0 151 (dk_at dksX1_init_15 18 rfl rfl)
theorem dX1_init_377 : decode cX1_init 377 = .ok (.aload_n 0, 1) := dk_42 (dk_at dksX1_init_15 21 rfl rfl)
theorem dX1_init_378 : decode cX1_init 378 = .ok (.bipush 8, 2) := dk_16 8 (dk_at dksX1_init_15 22 rfl rfl)
theorem dX1_init_380 : decode cX1_init 380 = .ok (.newarray .int, 2) := dk_188_10 (dk_at dksX1_init_16 0 rfl rfl)
theorem dX1_init_382 : decode cX1_init 382 = .ok (.putfield 154, 3) := dk_181 0 154 (dk_at dksX1_init_16 2 rfl rfl)
theorem dX1_init_385 : decode cX1_init 385 = .ok (.aload_n 0, 1) := dk_42 (dk_at dksX1_init_16 5 rfl rfl)
theorem dX1_init_386 : decode cX1_init 386 = .ok (.bipush 8, 2) := dk_16 8 (dk_at dksX1_init_16 6 rfl rfl)
theorem dX1_init_388 : decode cX1_init 388 = .ok (.newarray .int, 2) := dk_188_10 (dk_at dksX1_init_16 8 rfl rfl)
theorem dX1_init_390 : decode cX1_init 390 = .ok (.putfield 157, 3) := dk_181 0 157 (dk_at dksX1_init_16 10 rfl rfl)
theorem dX1_init_393 : decode cX1_init 393 = .ok (.aload_n 0, 1) := dk_42 (dk_at dksX1_init_16 13 rfl rfl)
theorem dX1_init_394 : decode cX1_init 394 = .ok (.bipush 64, 2) := dk_16 64 (dk_at dksX1_init_16 14 rfl rfl)
theorem dX1_init_396 : decode cX1_init 396 = .ok (.newarray .int, 2) := dk_188_10 (dk_at dksX1_init_16 16 rfl rfl)
theorem dX1_init_398 : decode cX1_init 398 = .ok (.putfield 160, 3) := dk_181 0 160 (dk_at dksX1_init_16 18 rfl rfl)
theorem dX1_init_401 : decode cX1_init 401 = .ok (.aload_n 0, 1) := dk_42 (dk_at dksX1_init_16 21 rfl rfl)
theorem dX1_init_402 : decode cX1_init 402 = .ok (.bipush 16, 2) := dk_16 16 (dk_at dksX1_init_16 22 rfl rfl)
theorem dX1_init_404 : decode cX1_init 404 = .ok (.newarray .int, 2) := dk_188_10 (dk_at dksX1_init_17 0 rfl rfl)
theorem dX1_init_406 : decode cX1_init 406 = .ok (.putfield 163, 3) := dk_181 0 163 (dk_at dksX1_init_17 2 rfl rfl)
theorem dX1_init_409 : decode cX1_init 409 = .ok (.aload_n 0, 1) := dk_42 (dk_at dksX1_init_17 5 rfl rfl)
theorem dX1_init_410 : decode cX1_init 410 = .ok (.bipush 16, 2) := dk_16 16 (dk_at dksX1_init_17 6 rfl rfl)
theorem dX1_init_412 : decode cX1_init 412 = .ok (.newarray .int, 2) := dk_188_10 (dk_at dksX1_init_17 8 rfl rfl)
theorem dX1_init_414 : decode cX1_init 414 = .ok (.putfield 166, 3) := dk_181 0 166 (dk_at dksX1_init_17 10 rfl rfl)
theorem dX1_init_417 : decode cX1_init 417 = .ok (.aload_n 0, 1) := dk_42 (dk_at dksX1_init_17 13 rfl rfl)
theorem dX1_init_418 : decode cX1_init 418 = .ok (.bipush 40, 2) := dk_16 40 (dk_at dksX1_init_17 14 rfl rfl)
theorem dX1_init_420 : decode cX1_init 420 = .ok (.newarray .int, 2) := dk_188_10 (dk_at dksX1_init_17 16 rfl rfl)
theorem dX1_init_422 : decode cX1_init 422 = .ok (.putfield 169, 3) := dk_181 0 169 (dk_at dksX1_init_17 18 rfl rfl)
theorem dX1_init_425 : decode cX1_init 425 = .ok (.aload_n 0, 1) := dk_42 (dk_at dksX1_init_17 21 rfl rfl)
theorem dX1_init_426 : decode cX1_init 426 = .ok (.sipush 410, 3) := dk_17 1 154 (dk_at dksX1_init_18 0 rfl rfl)
theorem dX1_init_429 : decode cX1_init 429 = .ok (.newarray .long, 2) := dk_188_11 (dk_at dksX1_init_18 3 rfl rfl)
theorem dX1_init_431 : decode cX1_init 431 = .ok (.putfield 172, 3) := dk_181 0 172 (dk_at dksX1_init_18 5 rfl rfl)
theorem dX1_init_434 : decode cX1_init 434 = .ok (.iconst 0, 1) := dk_3 (dk_at dksX1_init_18 8 rfl rfl)
theorem dX1_init_435 : decode cX1_init 435 = .ok (.istore_n 1, 1) := dk_60 (dk_at dksX1_init_18 9 rfl rfl)
theorem dX1_init_436 : decode cX1_init 436 = .ok (.iload_n 1, 1) := dk_27 (dk_at dksX1_init_18 10 rfl rfl)
theorem dX1_init_437 : decode cX1_init 437 = .ok (.bipush 6, 2) := dk_16 6 (dk_at dksX1_init_18 11 rfl rfl)
theorem dX1_init_439 : decode cX1_init 439 = .ok (.if_icmp .ge 17, 3) := dk_162 0 17 (dk_at dksX1_init_18 13 rfl rfl)
theorem dX1_init_442 : decode cX1_init 442 = .ok (.aload_n 0, 1) := dk_42 (dk_at dksX1_init_18 16 rfl rfl)
theorem dX1_init_443 : decode cX1_init 443 = .ok (.getfield 17, 3) := dk_180 0 17 (dk_at dksX1_init_18 17 rfl rfl)
theorem dX1_init_446 : decode cX1_init 446 = .ok (.iload_n 1, 1) := dk_27 (dk_at dksX1_init_18 20 rfl rfl)
theorem dX1_init_447 : decode cX1_init 447 = .ok (.bipush (-9), 2) := dk_16 247 (dk_at dksX1_init_18 21 rfl rfl)
theorem dX1_init_449 : decode cX1_init 449 = .ok (.iastore, 1) := dk_79 (dk_at dksX1_init_18 23 rfl rfl)
theorem dX1_init_450 : decode cX1_init 450 = .ok (.iinc 1 1, 3) := dk_132 1 1 (dk_at dksX1_init_19 0 rfl rfl)
theorem dX1_init_453 : decode cX1_init 453 = .ok (.goto (-17), 3) := dk_167 255 239 (dk_at dksX1_init_19 3 rfl rfl)
theorem dX1_init_456 : decode cX1_init 456 = .ok (.iconst 0, 1) := dk_3 (dk_at dksX1_init_19 6 rfl rfl)
theorem dX1_init_457 : decode cX1_init 457 = .ok (.istore_n 1, 1) := dk_60 (dk_at dksX1_init_19 7 rfl rfl)
theorem dX1_init_458 : decode cX1_init 458 = .ok (.iload_n 1, 1) := dk_27 (dk_at dksX1_init_19 8 rfl rfl)
theorem dX1_init_459 : decode cX1_init 459 = .ok (.iconst 4, 1) := dk_7 (dk_at dksX1_init_19 9 rfl rfl)
theorem dX1_init_460 : decode cX1_init 460 = .ok (.if_icmp .ge 17, 3) := dk_162 0 17 (dk_at dksX1_init_19 10 rfl rfl)
theorem dX1_init_463 : decode cX1_init 463 = .ok (.aload_n 0, 1) := dk_42 (dk_at dksX1_init_19 13 rfl rfl)
theorem dX1_init_464 : decode cX1_init 464 = .ok (.getfield 26, 3) := dk_180 0 26 (dk_at dksX1_init_19 14 rfl rfl)
theorem dX1_init_467 : decode cX1_init 467 = .ok (.iload_n 1, 1) := dk_27 (dk_at dksX1_init_19 17 rfl rfl)
theorem dX1_init_468 : decode cX1_init 468 = .ok (.bipush (-9), 2) := dk_16 247 (dk_at dksX1_init_19 18 rfl rfl)
theorem dX1_init_470 : decode cX1_init 470 = .ok (.iastore, 1) := dk_79 (dk_at dksX1_init_19 20 rfl rfl)
theorem dX1_init_471 : decode cX1_init 471 = .ok (.iinc 1 1, 3) := dk_132 1 1 (dk_at dksX1_init_19 21 rfl rfl)
theorem dX1_init_474 : decode cX1_init 474 = .ok (.goto (-16), 3) := dk_167 255 240 (dk_at dksX1_init_20 0 rfl rfl)
theorem dX1_init_477 : decode cX1_init 477 = .ok (.iconst 0, 1) := dk_3 (dk_at dksX1_init_20 3 rfl rfl)
theorem dX1_init_478 : decode cX1_init 478 = .ok (.istore_n 1, 1) := dk_60 (dk_at dksX1_init_20 4 rfl rfl)
theorem dX1_init_479 : decode cX1_init 479 = .ok (.iload_n 1, 1) := dk_27 (dk_at dksX1_init_20 5 rfl rfl)
theorem dX1_init_480 : decode cX1_init 480 = .ok (.bipush 6, 2) := dk_16 6 (dk_at dksX1_init_20 6 rfl rfl)
theorem dX1_init_482 : decode cX1_init 482 = .ok (.if_icmp .ge 25, 3) := dk_162 0 25 (dk_at dksX1_init_20 8 rfl rfl)
theorem dX1_init_485 : decode cX1_init 485 = .ok (.aload_n 0, 1) := dk_42 (dk_at dksX1_init_20 11 rfl rfl)
theorem dX1_init_486 : decode cX1_init 486 = .ok (.getfield 90, 3) := dk_180 0 90 (dk_at dksX1_init_20 12 rfl rfl)
theorem dX1_init_489 : decode cX1_init 489 = .ok (.iload_n 1, 1) := dk_27 (dk_at dksX1_init_20 15 rfl rfl)
theorem dX1_init_490 : decode cX1_init 490 = .ok (.bipush (-9), 2) := dk_16 247 (dk_at dksX1_init_20 16 rfl rfl)
theorem dX1_init_492 : decode cX1_init 492 = .ok (.iastore, 1) := dk_79 (dk_at dksX1_init_20 18 rfl rfl)
theorem dX1_init_493 : decode cX1_init 493 = .ok (.aload_n 0, 1) := dk_42 (dk_at dksX1_init_20 19 rfl rfl)
theorem dX1_init_494 : decode cX1_init 494 = .ok (.getfield 133, 3) := dk_180 0 133 (dk_at dksX1_init_20 20 rfl rfl)
theorem dX1_init_497 : decode cX1_init 497 = .ok (.iload_n 1, 1) := dk_27 (dk_at dksX1_init_20 23 rfl rfl)
theorem dX1_init_498 : decode cX1_init 498 = .ok (.bipush (-9), 2) := dk_16 247 (dk_at dksX1_init_21 0 rfl rfl)
theorem dX1_init_500 : decode cX1_init 500 = .ok (.iastore, 1) := dk_79 (dk_at dksX1_init_21 2 rfl rfl)
theorem dX1_init_501 : decode cX1_init 501 = .ok (.iinc 1 1, 3) := dk_132 1 1 (dk_at dksX1_init_21 3 rfl rfl)
theorem dX1_init_504 : decode cX1_init 504 = .ok (.goto (-25), 3) := dk_167 255 231 (dk_at dksX1_init_21 6 rfl rfl)
theorem dX1_init_507 : decode cX1_init 507 = .ok (.return_, 1) := dk_177 (dk_at dksX1_init_21 9 rfl rfl)
abbrev cX1_row : ByteArray := prog_8_method_10_code
def yX1_row : MethodName := ⟨RX1, "row", "(II)I"⟩
def dkwX1_row_2 : List UInt8 := [29, 96, 3, 79, 132, 3, 1, 167, 255, 235, 28, 172]
abbrev dktX1_row_2 : List UInt8 := dkwX1_row_2 ++ []
def dkwX1_row_1 : List UInt8 := [172, 42, 180, 0, 17, 27, 28, 79, 3, 62, 29, 16, 40, 162, 0, 21, 42, 180, 0, 20, 16, 40, 27, 104]
abbrev dktX1_row_1 : List UInt8 := dkwX1_row_1 ++ dktX1_row_2
def dkwX1_row_0 : List UInt8 := [27, 184, 0, 189, 153, 0, 9, 28, 16, 40, 164, 0, 5, 2, 172, 28, 156, 0, 9, 42, 8, 182, 0, 193]
abbrev dktX1_row_0 : List UInt8 := dkwX1_row_0 ++ dktX1_row_1
theorem dksX1_row_0 : cX1_row.data.toList.drop 0 = dktX1_row_0 := by decide +kernel
theorem dksX1_row_1 : cX1_row.data.toList.drop 24 = dktX1_row_1 := dk_seg dksX1_row_0 24 rfl rfl
theorem dksX1_row_2 : cX1_row.data.toList.drop 48 = dktX1_row_2 := dk_seg dksX1_row_1 24 rfl rfl
theorem dX1_row_0 : decode cX1_row 0 = .ok (.iload_n 1, 1) := dk_27 (dk_at dksX1_row_0 0 rfl rfl)
theorem dX1_row_1 : decode cX1_row 1 = .ok (.invokestatic 189, 3) := dk_184 0 189 (dk_at dksX1_row_0 1 rfl rfl)
theorem dX1_row_4 : decode cX1_row 4 = .ok (.ifCond .eq 9, 3) := dk_153 0 9 (dk_at dksX1_row_0 4 rfl rfl)
theorem dX1_row_7 : decode cX1_row 7 = .ok (.iload_n 2, 1) := dk_28 (dk_at dksX1_row_0 7 rfl rfl)
theorem dX1_row_8 : decode cX1_row 8 = .ok (.bipush 40, 2) := dk_16 40 (dk_at dksX1_row_0 8 rfl rfl)
theorem dX1_row_10 : decode cX1_row 10 = .ok (.if_icmp .le 5, 3) := dk_164 0 5 (dk_at dksX1_row_0 10 rfl rfl)
theorem dX1_row_13 : decode cX1_row 13 = .ok (.iconst (-1), 1) := dk_2 (dk_at dksX1_row_0 13 rfl rfl)
theorem dX1_row_14 : decode cX1_row 14 = .ok (.ireturn, 1) := dk_172 (dk_at dksX1_row_0 14 rfl rfl)
theorem dX1_row_15 : decode cX1_row 15 = .ok (.iload_n 2, 1) := dk_28 (dk_at dksX1_row_0 15 rfl rfl)
theorem dX1_row_16 : decode cX1_row 16 = .ok (.ifCond .ge 9, 3) := dk_156 0 9 (dk_at dksX1_row_0 16 rfl rfl)
theorem dX1_row_19 : decode cX1_row 19 = .ok (.aload_n 0, 1) := dk_42 (dk_at dksX1_row_0 19 rfl rfl)
theorem dX1_row_20 : decode cX1_row 20 = .ok (.iconst 5, 1) := dk_8 (dk_at dksX1_row_0 20 rfl rfl)
theorem dX1_row_21 : decode cX1_row 21 = .ok (.invokevirtual 193, 3) := dk_182 0 193 (dk_at dksX1_row_0 21 rfl rfl)
theorem dX1_row_24 : decode cX1_row 24 = .ok (.ireturn, 1) := dk_172 (dk_at dksX1_row_1 0 rfl rfl)
theorem dX1_row_25 : decode cX1_row 25 = .ok (.aload_n 0, 1) := dk_42 (dk_at dksX1_row_1 1 rfl rfl)
theorem dX1_row_26 : decode cX1_row 26 = .ok (.getfield 17, 3) := dk_180 0 17 (dk_at dksX1_row_1 2 rfl rfl)
theorem dX1_row_29 : decode cX1_row 29 = .ok (.iload_n 1, 1) := dk_27 (dk_at dksX1_row_1 5 rfl rfl)
theorem dX1_row_30 : decode cX1_row 30 = .ok (.iload_n 2, 1) := dk_28 (dk_at dksX1_row_1 6 rfl rfl)
theorem dX1_row_31 : decode cX1_row 31 = .ok (.iastore, 1) := dk_79 (dk_at dksX1_row_1 7 rfl rfl)
theorem dX1_row_32 : decode cX1_row 32 = .ok (.iconst 0, 1) := dk_3 (dk_at dksX1_row_1 8 rfl rfl)
theorem dX1_row_33 : decode cX1_row 33 = .ok (.istore_n 3, 1) := dk_62 (dk_at dksX1_row_1 9 rfl rfl)
theorem dX1_row_34 : decode cX1_row 34 = .ok (.iload_n 3, 1) := dk_29 (dk_at dksX1_row_1 10 rfl rfl)
theorem dX1_row_35 : decode cX1_row 35 = .ok (.bipush 40, 2) := dk_16 40 (dk_at dksX1_row_1 11 rfl rfl)
theorem dX1_row_37 : decode cX1_row 37 = .ok (.if_icmp .ge 21, 3) := dk_162 0 21 (dk_at dksX1_row_1 13 rfl rfl)
theorem dX1_row_40 : decode cX1_row 40 = .ok (.aload_n 0, 1) := dk_42 (dk_at dksX1_row_1 16 rfl rfl)
theorem dX1_row_41 : decode cX1_row 41 = .ok (.getfield 20, 3) := dk_180 0 20 (dk_at dksX1_row_1 17 rfl rfl)
theorem dX1_row_44 : decode cX1_row 44 = .ok (.bipush 40, 2) := dk_16 40 (dk_at dksX1_row_1 20 rfl rfl)
theorem dX1_row_46 : decode cX1_row 46 = .ok (.iload_n 1, 1) := dk_27 (dk_at dksX1_row_1 22 rfl rfl)
theorem dX1_row_47 : decode cX1_row 47 = .ok (.imul, 1) := dk_104 (dk_at dksX1_row_1 23 rfl rfl)
theorem dX1_row_48 : decode cX1_row 48 = .ok (.iload_n 3, 1) := dk_29 (dk_at dksX1_row_2 0 rfl rfl)
theorem dX1_row_49 : decode cX1_row 49 = .ok (.iadd, 1) := dk_96 (dk_at dksX1_row_2 1 rfl rfl)
theorem dX1_row_50 : decode cX1_row 50 = .ok (.iconst 0, 1) := dk_3 (dk_at dksX1_row_2 2 rfl rfl)
theorem dX1_row_51 : decode cX1_row 51 = .ok (.iastore, 1) := dk_79 (dk_at dksX1_row_2 3 rfl rfl)
theorem dX1_row_52 : decode cX1_row 52 = .ok (.iinc 3 1, 3) := dk_132 3 1 (dk_at dksX1_row_2 4 rfl rfl)
theorem dX1_row_55 : decode cX1_row 55 = .ok (.goto (-21), 3) := dk_167 255 235 (dk_at dksX1_row_2 7 rfl rfl)
theorem dX1_row_58 : decode cX1_row 58 = .ok (.iload_n 2, 1) := dk_28 (dk_at dksX1_row_2 10 rfl rfl)
theorem dX1_row_59 : decode cX1_row 59 = .ok (.ireturn, 1) := dk_172 (dk_at dksX1_row_2 11 rfl rfl)
abbrev cX1_isRow : ByteArray := prog_8_method_8_code
def yX1_isRow : MethodName := ⟨RX1, "isRow", "(I)Z"⟩
def dkwX1_isRow_0 : List UInt8 := [26, 3, 8, 184, 0, 185, 172]
abbrev dktX1_isRow_0 : List UInt8 := dkwX1_isRow_0 ++ []
theorem dksX1_isRow_0 : cX1_isRow.data.toList.drop 0 = dktX1_isRow_0 := by decide +kernel
theorem dX1_isRow_0 : decode cX1_isRow 0 = .ok (.iload_n 0, 1) := dk_26 (dk_at dksX1_isRow_0 0 rfl rfl)
theorem dX1_isRow_1 : decode cX1_isRow 1 = .ok (.iconst 0, 1) := dk_3 (dk_at dksX1_isRow_0 1 rfl rfl)
theorem dX1_isRow_2 : decode cX1_isRow 2 = .ok (.iconst 5, 1) := dk_8 (dk_at dksX1_isRow_0 2 rfl rfl)
theorem dX1_isRow_3 : decode cX1_isRow 3 = .ok (.invokestatic 185, 3) := dk_184 0 185 (dk_at dksX1_isRow_0 3 rfl rfl)
theorem dX1_isRow_6 : decode cX1_isRow 6 = .ok (.ireturn, 1) := dk_172 (dk_at dksX1_isRow_0 6 rfl rfl)
abbrev cX1_in : ByteArray := prog_8_method_3_code
def yX1_in : MethodName := ⟨RX1, "in", "(III)Z"⟩
def dkwX1_in_0 : List UInt8 := [26, 27, 161, 0, 12, 26, 28, 163, 0, 7, 4, 167, 0, 4, 3, 172]
abbrev dktX1_in_0 : List UInt8 := dkwX1_in_0 ++ []
theorem dksX1_in_0 : cX1_in.data.toList.drop 0 = dktX1_in_0 := by decide +kernel
theorem dX1_in_0 : decode cX1_in 0 = .ok (.iload_n 0, 1) := dk_26 (dk_at dksX1_in_0 0 rfl rfl)
theorem dX1_in_1 : decode cX1_in 1 = .ok (.iload_n 1, 1) := dk_27 (dk_at dksX1_in_0 1 rfl rfl)
theorem dX1_in_2 : decode cX1_in 2 = .ok (.if_icmp .lt 12, 3) := dk_161 0 12 (dk_at dksX1_in_0 2 rfl rfl)
theorem dX1_in_5 : decode cX1_in 5 = .ok (.iload_n 0, 1) := dk_26 (dk_at dksX1_in_0 5 rfl rfl)
theorem dX1_in_6 : decode cX1_in 6 = .ok (.iload_n 2, 1) := dk_28 (dk_at dksX1_in_0 6 rfl rfl)
theorem dX1_in_7 : decode cX1_in 7 = .ok (.if_icmp .gt 7, 3) := dk_163 0 7 (dk_at dksX1_in_0 7 rfl rfl)
theorem dX1_in_10 : decode cX1_in 10 = .ok (.iconst 1, 1) := dk_4 (dk_at dksX1_in_0 10 rfl rfl)
theorem dX1_in_11 : decode cX1_in 11 = .ok (.goto 4, 3) := dk_167 0 4 (dk_at dksX1_in_0 11 rfl rfl)
theorem dX1_in_14 : decode cX1_in 14 = .ok (.iconst 0, 1) := dk_3 (dk_at dksX1_in_0 14 rfl rfl)
theorem dX1_in_15 : decode cX1_in 15 = .ok (.ireturn, 1) := dk_172 (dk_at dksX1_in_0 15 rfl rfl)
abbrev cX1_meets : ByteArray := prog_8_method_4_code
def yX1_meets : MethodName := ⟨RX1, "meets", "(I)I"⟩
def dkwX1_meets_0 : List UInt8 := [42, 27, 181, 0, 176, 42, 180, 0, 7, 27, 92, 46, 4, 96, 79, 16, 253, 172]
abbrev dktX1_meets_0 : List UInt8 := dkwX1_meets_0 ++ []
theorem dksX1_meets_0 : cX1_meets.data.toList.drop 0 = dktX1_meets_0 := by decide +kernel
theorem dX1_meets_0 : decode cX1_meets 0 = .ok (.aload_n 0, 1) := dk_42 (dk_at dksX1_meets_0 0 rfl rfl)
theorem dX1_meets_1 : decode cX1_meets 1 = .ok (.iload_n 1, 1) := dk_27 (dk_at dksX1_meets_0 1 rfl rfl)
theorem dX1_meets_2 : decode cX1_meets 2 = .ok (.putfield 176, 3) := dk_181 0 176 (dk_at dksX1_meets_0 2 rfl rfl)
theorem dX1_meets_5 : decode cX1_meets 5 = .ok (.aload_n 0, 1) := dk_42 (dk_at dksX1_meets_0 5 rfl rfl)
theorem dX1_meets_6 : decode cX1_meets 6 = .ok (.getfield 7, 3) := dk_180 0 7 (dk_at dksX1_meets_0 6 rfl rfl)
theorem dX1_meets_9 : decode cX1_meets 9 = .ok (.iload_n 1, 1) := dk_27 (dk_at dksX1_meets_0 9 rfl rfl)
theorem dX1_meets_10 : decode cX1_meets 10 = .ok (.dup2, 1) := dk_92 (dk_at dksX1_meets_0 10 rfl rfl)
theorem dX1_meets_11 : decode cX1_meets 11 = .ok (.iaload, 1) := dk_46 (dk_at dksX1_meets_0 11 rfl rfl)
theorem dX1_meets_12 : decode cX1_meets 12 = .ok (.iconst 1, 1) := dk_4 (dk_at dksX1_meets_0 12 rfl rfl)
theorem dX1_meets_13 : decode cX1_meets 13 = .ok (.iadd, 1) := dk_96 (dk_at dksX1_meets_0 13 rfl rfl)
theorem dX1_meets_14 : decode cX1_meets 14 = .ok (.iastore, 1) := dk_79 (dk_at dksX1_meets_0 14 rfl rfl)
theorem dX1_meets_15 : decode cX1_meets 15 = .ok (.bipush (-3), 2) := dk_16 253 (dk_at dksX1_meets_0 15 rfl rfl)
theorem dX1_meets_17 : decode cX1_meets 17 = .ok (.ireturn, 1) := dk_172 (dk_at dksX1_meets_0 17 rfl rfl)
abbrev cX1_lay : ByteArray := prog_8_method_11_code
def yX1_lay : MethodName := ⟨RX1, "lay", "(III)I"⟩
def dkwX1_lay_2 : List UInt8 := [46, 181, 0, 179, 42, 180, 0, 20, 16, 40, 27, 104, 28, 96, 29, 79, 4, 172]
abbrev dktX1_lay_2 : List UInt8 := dkwX1_lay_2 ++ []
def dkwX1_lay_1 : List UInt8 := [100, 184, 0, 185, 154, 0, 9, 42, 5, 182, 0, 193, 172, 42, 42, 180, 0, 20, 16, 40, 27, 104, 28, 96]
abbrev dktX1_lay_1 : List UInt8 := dkwX1_lay_1 ++ dktX1_lay_2
def dkwX1_lay_0 : List UInt8 := [42, 27, 182, 0, 197, 54, 4, 21, 4, 156, 0, 6, 21, 4, 172, 28, 3, 42, 180, 0, 17, 27, 46, 4]
abbrev dktX1_lay_0 : List UInt8 := dkwX1_lay_0 ++ dktX1_lay_1
theorem dksX1_lay_0 : cX1_lay.data.toList.drop 0 = dktX1_lay_0 := by decide +kernel
theorem dksX1_lay_1 : cX1_lay.data.toList.drop 24 = dktX1_lay_1 := dk_seg dksX1_lay_0 24 rfl rfl
theorem dksX1_lay_2 : cX1_lay.data.toList.drop 48 = dktX1_lay_2 := dk_seg dksX1_lay_1 24 rfl rfl
theorem dX1_lay_0 : decode cX1_lay 0 = .ok (.aload_n 0, 1) := dk_42 (dk_at dksX1_lay_0 0 rfl rfl)
theorem dX1_lay_1 : decode cX1_lay 1 = .ok (.iload_n 1, 1) := dk_27 (dk_at dksX1_lay_0 1 rfl rfl)
theorem dX1_lay_2 : decode cX1_lay 2 = .ok (.invokevirtual 197, 3) := dk_182 0 197 (dk_at dksX1_lay_0 2 rfl rfl)
theorem dX1_lay_5 : decode cX1_lay 5 = .ok (.istore 4, 2) := dk_54 4 (dk_at dksX1_lay_0 5 rfl rfl)
theorem dX1_lay_7 : decode cX1_lay 7 = .ok (.iload 4, 2) := dk_21 4 (dk_at dksX1_lay_0 7 rfl rfl)
theorem dX1_lay_9 : decode cX1_lay 9 = .ok (.ifCond .ge 6, 3) := dk_156 0 6 (dk_at dksX1_lay_0 9 rfl rfl)
theorem dX1_lay_12 : decode cX1_lay 12 = .ok (.iload 4, 2) := dk_21 4 (dk_at dksX1_lay_0 12 rfl rfl)
theorem dX1_lay_14 : decode cX1_lay 14 = .ok (.ireturn, 1) := dk_172 (dk_at dksX1_lay_0 14 rfl rfl)
theorem dX1_lay_15 : decode cX1_lay 15 = .ok (.iload_n 2, 1) := dk_28 (dk_at dksX1_lay_0 15 rfl rfl)
theorem dX1_lay_16 : decode cX1_lay 16 = .ok (.iconst 0, 1) := dk_3 (dk_at dksX1_lay_0 16 rfl rfl)
theorem dX1_lay_17 : decode cX1_lay 17 = .ok (.aload_n 0, 1) := dk_42 (dk_at dksX1_lay_0 17 rfl rfl)
theorem dX1_lay_18 : decode cX1_lay 18 = .ok (.getfield 17, 3) := dk_180 0 17 (dk_at dksX1_lay_0 18 rfl rfl)
theorem dX1_lay_21 : decode cX1_lay 21 = .ok (.iload_n 1, 1) := dk_27 (dk_at dksX1_lay_0 21 rfl rfl)
theorem dX1_lay_22 : decode cX1_lay 22 = .ok (.iaload, 1) := dk_46 (dk_at dksX1_lay_0 22 rfl rfl)
theorem dX1_lay_23 : decode cX1_lay 23 = .ok (.iconst 1, 1) := dk_4 (dk_at dksX1_lay_0 23 rfl rfl)
theorem dX1_lay_24 : decode cX1_lay 24 = .ok (.isub, 1) := dk_100 (dk_at dksX1_lay_1 0 rfl rfl)
theorem dX1_lay_25 : decode cX1_lay 25 = .ok (.invokestatic 185, 3) := dk_184 0 185 (dk_at dksX1_lay_1 1 rfl rfl)
theorem dX1_lay_28 : decode cX1_lay 28 = .ok (.ifCond .ne 9, 3) := dk_154 0 9 (dk_at dksX1_lay_1 4 rfl rfl)
theorem dX1_lay_31 : decode cX1_lay 31 = .ok (.aload_n 0, 1) := dk_42 (dk_at dksX1_lay_1 7 rfl rfl)
theorem dX1_lay_32 : decode cX1_lay 32 = .ok (.iconst 2, 1) := dk_5 (dk_at dksX1_lay_1 8 rfl rfl)
theorem dX1_lay_33 : decode cX1_lay 33 = .ok (.invokevirtual 193, 3) := dk_182 0 193 (dk_at dksX1_lay_1 9 rfl rfl)
theorem dX1_lay_36 : decode cX1_lay 36 = .ok (.ireturn, 1) := dk_172 (dk_at dksX1_lay_1 12 rfl rfl)
theorem dX1_lay_37 : decode cX1_lay 37 = .ok (.aload_n 0, 1) := dk_42 (dk_at dksX1_lay_1 13 rfl rfl)
theorem dX1_lay_38 : decode cX1_lay 38 = .ok (.aload_n 0, 1) := dk_42 (dk_at dksX1_lay_1 14 rfl rfl)
theorem dX1_lay_39 : decode cX1_lay 39 = .ok (.getfield 20, 3) := dk_180 0 20 (dk_at dksX1_lay_1 15 rfl rfl)
theorem dX1_lay_42 : decode cX1_lay 42 = .ok (.bipush 40, 2) := dk_16 40 (dk_at dksX1_lay_1 18 rfl rfl)
theorem dX1_lay_44 : decode cX1_lay 44 = .ok (.iload_n 1, 1) := dk_27 (dk_at dksX1_lay_1 20 rfl rfl)
theorem dX1_lay_45 : decode cX1_lay 45 = .ok (.imul, 1) := dk_104 (dk_at dksX1_lay_1 21 rfl rfl)
theorem dX1_lay_46 : decode cX1_lay 46 = .ok (.iload_n 2, 1) := dk_28 (dk_at dksX1_lay_1 22 rfl rfl)
theorem dX1_lay_47 : decode cX1_lay 47 = .ok (.iadd, 1) := dk_96 (dk_at dksX1_lay_1 23 rfl rfl)
theorem dX1_lay_48 : decode cX1_lay 48 = .ok (.iaload, 1) := dk_46 (dk_at dksX1_lay_2 0 rfl rfl)
theorem dX1_lay_49 : decode cX1_lay 49 = .ok (.putfield 179, 3) := dk_181 0 179 (dk_at dksX1_lay_2 1 rfl rfl)
theorem dX1_lay_52 : decode cX1_lay 52 = .ok (.aload_n 0, 1) := dk_42 (dk_at dksX1_lay_2 4 rfl rfl)
theorem dX1_lay_53 : decode cX1_lay 53 = .ok (.getfield 20, 3) := dk_180 0 20 (dk_at dksX1_lay_2 5 rfl rfl)
theorem dX1_lay_56 : decode cX1_lay 56 = .ok (.bipush 40, 2) := dk_16 40 (dk_at dksX1_lay_2 8 rfl rfl)
theorem dX1_lay_58 : decode cX1_lay 58 = .ok (.iload_n 1, 1) := dk_27 (dk_at dksX1_lay_2 10 rfl rfl)
theorem dX1_lay_59 : decode cX1_lay 59 = .ok (.imul, 1) := dk_104 (dk_at dksX1_lay_2 11 rfl rfl)
theorem dX1_lay_60 : decode cX1_lay 60 = .ok (.iload_n 2, 1) := dk_28 (dk_at dksX1_lay_2 12 rfl rfl)
theorem dX1_lay_61 : decode cX1_lay 61 = .ok (.iadd, 1) := dk_96 (dk_at dksX1_lay_2 13 rfl rfl)
theorem dX1_lay_62 : decode cX1_lay 62 = .ok (.iload_n 3, 1) := dk_29 (dk_at dksX1_lay_2 14 rfl rfl)
theorem dX1_lay_63 : decode cX1_lay 63 = .ok (.iastore, 1) := dk_79 (dk_at dksX1_lay_2 15 rfl rfl)
theorem dX1_lay_64 : decode cX1_lay 64 = .ok (.iconst 1, 1) := dk_4 (dk_at dksX1_lay_2 16 rfl rfl)
theorem dX1_lay_65 : decode cX1_lay 65 = .ok (.ireturn, 1) := dk_172 (dk_at dksX1_lay_2 17 rfl rfl)
abbrev cX1_askedRow : ByteArray := prog_8_method_9_code
def yX1_askedRow : MethodName := ⟨RX1, "askedRow", "(I)I"⟩
def dkwX1_askedRow_1 : List UInt8 := [182, 0, 193, 167, 0, 4, 3, 172]
abbrev dktX1_askedRow_1 : List UInt8 := dkwX1_askedRow_1 ++ []
def dkwX1_askedRow_0 : List UInt8 := [27, 184, 0, 189, 154, 0, 7, 2, 167, 0, 21, 42, 180, 0, 17, 27, 46, 156, 0, 11, 42, 4]
abbrev dktX1_askedRow_0 : List UInt8 := dkwX1_askedRow_0 ++ dktX1_askedRow_1
theorem dksX1_askedRow_0 : cX1_askedRow.data.toList.drop 0 = dktX1_askedRow_0 := by decide +kernel
theorem dksX1_askedRow_1 : cX1_askedRow.data.toList.drop 22 = dktX1_askedRow_1 := dk_seg dksX1_askedRow_0 22 rfl rfl
theorem dX1_askedRow_0 : decode cX1_askedRow 0 = .ok (.iload_n 1, 1) := dk_27 (dk_at dksX1_askedRow_0 0 rfl rfl)
theorem dX1_askedRow_1 : decode cX1_askedRow 1 = .ok (.invokestatic 189, 3) := dk_184 0 189 (dk_at dksX1_askedRow_0 1 rfl rfl)
theorem dX1_askedRow_4 : decode cX1_askedRow 4 = .ok (.ifCond .ne 7, 3) := dk_154 0 7 (dk_at dksX1_askedRow_0 4 rfl rfl)
theorem dX1_askedRow_7 : decode cX1_askedRow 7 = .ok (.iconst (-1), 1) := dk_2 (dk_at dksX1_askedRow_0 7 rfl rfl)
theorem dX1_askedRow_8 : decode cX1_askedRow 8 = .ok (.goto 21, 3) := dk_167 0 21 (dk_at dksX1_askedRow_0 8 rfl rfl)
theorem dX1_askedRow_11 : decode cX1_askedRow 11 = .ok (.aload_n 0, 1) := dk_42 (dk_at dksX1_askedRow_0 11 rfl rfl)
theorem dX1_askedRow_12 : decode cX1_askedRow 12 = .ok (.getfield 17, 3) := dk_180 0 17 (dk_at dksX1_askedRow_0 12 rfl rfl)
theorem dX1_askedRow_15 : decode cX1_askedRow 15 = .ok (.iload_n 1, 1) := dk_27 (dk_at dksX1_askedRow_0 15 rfl rfl)
theorem dX1_askedRow_16 : decode cX1_askedRow 16 = .ok (.iaload, 1) := dk_46 (dk_at dksX1_askedRow_0 16 rfl rfl)
theorem dX1_askedRow_17 : decode cX1_askedRow 17 = .ok (.ifCond .ge 11, 3) := dk_156 0 11 (dk_at dksX1_askedRow_0 17 rfl rfl)
theorem dX1_askedRow_20 : decode cX1_askedRow 20 = .ok (.aload_n 0, 1) := dk_42 (dk_at dksX1_askedRow_0 20 rfl rfl)
theorem dX1_askedRow_21 : decode cX1_askedRow 21 = .ok (.iconst 1, 1) := dk_4 (dk_at dksX1_askedRow_0 21 rfl rfl)
theorem dX1_askedRow_22 : decode cX1_askedRow 22 = .ok (.invokevirtual 193, 3) := dk_182 0 193 (dk_at dksX1_askedRow_1 0 rfl rfl)
theorem dX1_askedRow_25 : decode cX1_askedRow 25 = .ok (.goto 4, 3) := dk_167 0 4 (dk_at dksX1_askedRow_1 3 rfl rfl)
theorem dX1_askedRow_28 : decode cX1_askedRow 28 = .ok (.iconst 0, 1) := dk_3 (dk_at dksX1_askedRow_1 6 rfl rfl)
theorem dX1_askedRow_29 : decode cX1_askedRow 29 = .ok (.ireturn, 1) := dk_172 (dk_at dksX1_askedRow_1 7 rfl rfl)
abbrev cX1_tear : ByteArray := prog_8_method_12_code
def yX1_tear : MethodName := ⟨RX1, "tear", "(I)I"⟩
def dkwX1_tear_0 : List UInt8 := [42, 27, 182, 0, 197, 61, 28, 156, 0, 5, 28, 172, 42, 180, 0, 17, 27, 16, 247, 79, 4, 172]
abbrev dktX1_tear_0 : List UInt8 := dkwX1_tear_0 ++ []
theorem dksX1_tear_0 : cX1_tear.data.toList.drop 0 = dktX1_tear_0 := by decide +kernel
theorem dX1_tear_0 : decode cX1_tear 0 = .ok (.aload_n 0, 1) := dk_42 (dk_at dksX1_tear_0 0 rfl rfl)
theorem dX1_tear_1 : decode cX1_tear 1 = .ok (.iload_n 1, 1) := dk_27 (dk_at dksX1_tear_0 1 rfl rfl)
theorem dX1_tear_2 : decode cX1_tear 2 = .ok (.invokevirtual 197, 3) := dk_182 0 197 (dk_at dksX1_tear_0 2 rfl rfl)
theorem dX1_tear_5 : decode cX1_tear 5 = .ok (.istore_n 2, 1) := dk_61 (dk_at dksX1_tear_0 5 rfl rfl)
theorem dX1_tear_6 : decode cX1_tear 6 = .ok (.iload_n 2, 1) := dk_28 (dk_at dksX1_tear_0 6 rfl rfl)
theorem dX1_tear_7 : decode cX1_tear 7 = .ok (.ifCond .ge 5, 3) := dk_156 0 5 (dk_at dksX1_tear_0 7 rfl rfl)
theorem dX1_tear_10 : decode cX1_tear 10 = .ok (.iload_n 2, 1) := dk_28 (dk_at dksX1_tear_0 10 rfl rfl)
theorem dX1_tear_11 : decode cX1_tear 11 = .ok (.ireturn, 1) := dk_172 (dk_at dksX1_tear_0 11 rfl rfl)
theorem dX1_tear_12 : decode cX1_tear 12 = .ok (.aload_n 0, 1) := dk_42 (dk_at dksX1_tear_0 12 rfl rfl)
theorem dX1_tear_13 : decode cX1_tear 13 = .ok (.getfield 17, 3) := dk_180 0 17 (dk_at dksX1_tear_0 13 rfl rfl)
theorem dX1_tear_16 : decode cX1_tear 16 = .ok (.iload_n 1, 1) := dk_27 (dk_at dksX1_tear_0 16 rfl rfl)
theorem dX1_tear_17 : decode cX1_tear 17 = .ok (.bipush (-9), 2) := dk_16 247 (dk_at dksX1_tear_0 17 rfl rfl)
theorem dX1_tear_19 : decode cX1_tear 19 = .ok (.iastore, 1) := dk_79 (dk_at dksX1_tear_0 19 rfl rfl)
theorem dX1_tear_20 : decode cX1_tear 20 = .ok (.iconst 1, 1) := dk_4 (dk_at dksX1_tear_0 20 rfl rfl)
theorem dX1_tear_21 : decode cX1_tear 21 = .ok (.ireturn, 1) := dk_172 (dk_at dksX1_tear_0 21 rfl rfl)
abbrev cX1_copy : ByteArray := prog_8_method_13_code
def yX1_copy : MethodName := ⟨RX1, "copy", "(IIIII)I"⟩
def dkwX1_copy_7 : List UInt8 := [180, 0, 23, 21, 6, 46, 79, 132, 6, 1, 167, 255, 224, 4, 172]
abbrev dktX1_copy_7 : List UInt8 := dkwX1_copy_7 ++ []
def dkwX1_copy_6 : List UInt8 := [21, 6, 21, 5, 162, 0, 31, 42, 180, 0, 20, 16, 40, 29, 104, 21, 4, 96, 21, 6, 96, 42]
abbrev dktX1_copy_6 : List UInt8 := dkwX1_copy_6 ++ dktX1_copy_7
def dkwX1_copy_5 : List UInt8 := [180, 0, 20, 16, 40, 27, 104, 28, 96, 21, 6, 96, 46, 79, 132, 6, 1, 167, 255, 225, 3, 54, 6]
abbrev dktX1_copy_5 : List UInt8 := dkwX1_copy_5 ++ dktX1_copy_6
def dkwX1_copy_4 : List UInt8 := [42, 5, 182, 0, 193, 172, 3, 54, 6, 21, 6, 21, 5, 162, 0, 30, 42, 180, 0, 23, 21, 6, 42]
abbrev dktX1_copy_4 : List UInt8 := dkwX1_copy_4 ++ dktX1_copy_5
def dkwX1_copy_3 : List UInt8 := [46, 133, 148, 157, 0, 21, 21, 4, 133, 21, 5, 133, 97, 42, 180, 0, 17, 29, 46, 133, 148, 158, 0, 9]
abbrev dktX1_copy_3 : List UInt8 := dkwX1_copy_3 ++ dktX1_copy_4
def dkwX1_copy_2 : List UInt8 := [182, 0, 193, 172, 28, 155, 0, 43, 21, 4, 155, 0, 38, 28, 133, 21, 5, 133, 97, 42, 180, 0, 17, 27]
abbrev dktX1_copy_2 : List UInt8 := dkwX1_copy_2 ++ dktX1_copy_3
def dkwX1_copy_1 : List UInt8 := [182, 0, 193, 172, 42, 180, 0, 17, 27, 46, 155, 0, 12, 42, 180, 0, 17, 29, 46, 156, 0, 9, 42, 4]
abbrev dktX1_copy_1 : List UInt8 := dkwX1_copy_1 ++ dktX1_copy_2
def dkwX1_copy_0 : List UInt8 := [27, 184, 0, 189, 153, 0, 10, 29, 184, 0, 189, 154, 0, 5, 2, 172, 21, 5, 156, 0, 9, 42, 8]
abbrev dktX1_copy_0 : List UInt8 := dkwX1_copy_0 ++ dktX1_copy_1
theorem dksX1_copy_0 : cX1_copy.data.toList.drop 0 = dktX1_copy_0 := by decide +kernel
theorem dksX1_copy_1 : cX1_copy.data.toList.drop 23 = dktX1_copy_1 := dk_seg dksX1_copy_0 23 rfl rfl
theorem dksX1_copy_2 : cX1_copy.data.toList.drop 47 = dktX1_copy_2 := dk_seg dksX1_copy_1 24 rfl rfl
theorem dksX1_copy_3 : cX1_copy.data.toList.drop 71 = dktX1_copy_3 := dk_seg dksX1_copy_2 24 rfl rfl
theorem dksX1_copy_4 : cX1_copy.data.toList.drop 95 = dktX1_copy_4 := dk_seg dksX1_copy_3 24 rfl rfl
theorem dksX1_copy_5 : cX1_copy.data.toList.drop 118 = dktX1_copy_5 := dk_seg dksX1_copy_4 23 rfl rfl
theorem dksX1_copy_6 : cX1_copy.data.toList.drop 141 = dktX1_copy_6 := dk_seg dksX1_copy_5 23 rfl rfl
theorem dksX1_copy_7 : cX1_copy.data.toList.drop 163 = dktX1_copy_7 := dk_seg dksX1_copy_6 22 rfl rfl
theorem dX1_copy_0 : decode cX1_copy 0 = .ok (.iload_n 1, 1) := dk_27 (dk_at dksX1_copy_0 0 rfl rfl)
theorem dX1_copy_1 : decode cX1_copy 1 = .ok (.invokestatic 189, 3) := dk_184 0 189 (dk_at dksX1_copy_0 1 rfl rfl)
theorem dX1_copy_4 : decode cX1_copy 4 = .ok (.ifCond .eq 10, 3) := dk_153 0 10 (dk_at dksX1_copy_0 4 rfl rfl)
theorem dX1_copy_7 : decode cX1_copy 7 = .ok (.iload_n 3, 1) := dk_29 (dk_at dksX1_copy_0 7 rfl rfl)
theorem dX1_copy_8 : decode cX1_copy 8 = .ok (.invokestatic 189, 3) := dk_184 0 189 (dk_at dksX1_copy_0 8 rfl rfl)
theorem dX1_copy_11 : decode cX1_copy 11 = .ok (.ifCond .ne 5, 3) := dk_154 0 5 (dk_at dksX1_copy_0 11 rfl rfl)
theorem dX1_copy_14 : decode cX1_copy 14 = .ok (.iconst (-1), 1) := dk_2 (dk_at dksX1_copy_0 14 rfl rfl)
theorem dX1_copy_15 : decode cX1_copy 15 = .ok (.ireturn, 1) := dk_172 (dk_at dksX1_copy_0 15 rfl rfl)
theorem dX1_copy_16 : decode cX1_copy 16 = .ok (.iload 5, 2) := dk_21 5 (dk_at dksX1_copy_0 16 rfl rfl)
theorem dX1_copy_18 : decode cX1_copy 18 = .ok (.ifCond .ge 9, 3) := dk_156 0 9 (dk_at dksX1_copy_0 18 rfl rfl)
theorem dX1_copy_21 : decode cX1_copy 21 = .ok (.aload_n 0, 1) := dk_42 (dk_at dksX1_copy_0 21 rfl rfl)
theorem dX1_copy_22 : decode cX1_copy 22 = .ok (.iconst 5, 1) := dk_8 (dk_at dksX1_copy_0 22 rfl rfl)
theorem dX1_copy_23 : decode cX1_copy 23 = .ok (.invokevirtual 193, 3) := dk_182 0 193 (dk_at dksX1_copy_1 0 rfl rfl)
theorem dX1_copy_26 : decode cX1_copy 26 = .ok (.ireturn, 1) := dk_172 (dk_at dksX1_copy_1 3 rfl rfl)
theorem dX1_copy_27 : decode cX1_copy 27 = .ok (.aload_n 0, 1) := dk_42 (dk_at dksX1_copy_1 4 rfl rfl)
theorem dX1_copy_28 : decode cX1_copy 28 = .ok (.getfield 17, 3) := dk_180 0 17 (dk_at dksX1_copy_1 5 rfl rfl)
theorem dX1_copy_31 : decode cX1_copy 31 = .ok (.iload_n 1, 1) := dk_27 (dk_at dksX1_copy_1 8 rfl rfl)
theorem dX1_copy_32 : decode cX1_copy 32 = .ok (.iaload, 1) := dk_46 (dk_at dksX1_copy_1 9 rfl rfl)
theorem dX1_copy_33 : decode cX1_copy 33 = .ok (.ifCond .lt 12, 3) := dk_155 0 12 (dk_at dksX1_copy_1 10 rfl rfl)
theorem dX1_copy_36 : decode cX1_copy 36 = .ok (.aload_n 0, 1) := dk_42 (dk_at dksX1_copy_1 13 rfl rfl)
theorem dX1_copy_37 : decode cX1_copy 37 = .ok (.getfield 17, 3) := dk_180 0 17 (dk_at dksX1_copy_1 14 rfl rfl)
theorem dX1_copy_40 : decode cX1_copy 40 = .ok (.iload_n 3, 1) := dk_29 (dk_at dksX1_copy_1 17 rfl rfl)
theorem dX1_copy_41 : decode cX1_copy 41 = .ok (.iaload, 1) := dk_46 (dk_at dksX1_copy_1 18 rfl rfl)
theorem dX1_copy_42 : decode cX1_copy 42 = .ok (.ifCond .ge 9, 3) := dk_156 0 9 (dk_at dksX1_copy_1 19 rfl rfl)
theorem dX1_copy_45 : decode cX1_copy 45 = .ok (.aload_n 0, 1) := dk_42 (dk_at dksX1_copy_1 22 rfl rfl)
theorem dX1_copy_46 : decode cX1_copy 46 = .ok (.iconst 1, 1) := dk_4 (dk_at dksX1_copy_1 23 rfl rfl)
theorem dX1_copy_47 : decode cX1_copy 47 = .ok (.invokevirtual 193, 3) := dk_182 0 193 (dk_at dksX1_copy_2 0 rfl rfl)
theorem dX1_copy_50 : decode cX1_copy 50 = .ok (.ireturn, 1) := dk_172 (dk_at dksX1_copy_2 3 rfl rfl)
theorem dX1_copy_51 : decode cX1_copy 51 = .ok (.iload_n 2, 1) := dk_28 (dk_at dksX1_copy_2 4 rfl rfl)
theorem dX1_copy_52 : decode cX1_copy 52 = .ok (.ifCond .lt 43, 3) := dk_155 0 43 (dk_at dksX1_copy_2 5 rfl rfl)
theorem dX1_copy_55 : decode cX1_copy 55 = .ok (.iload 4, 2) := dk_21 4 (dk_at dksX1_copy_2 8 rfl rfl)
theorem dX1_copy_57 : decode cX1_copy 57 = .ok (.ifCond .lt 38, 3) := dk_155 0 38 (dk_at dksX1_copy_2 10 rfl rfl)
theorem dX1_copy_60 : decode cX1_copy 60 = .ok (.iload_n 2, 1) := dk_28 (dk_at dksX1_copy_2 13 rfl rfl)
theorem dX1_copy_61 : decode cX1_copy 61 = .ok (.i2l, 1) := dk_133 (dk_at dksX1_copy_2 14 rfl rfl)
theorem dX1_copy_62 : decode cX1_copy 62 = .ok (.iload 5, 2) := dk_21 5 (dk_at dksX1_copy_2 15 rfl rfl)
theorem dX1_copy_64 : decode cX1_copy 64 = .ok (.i2l, 1) := dk_133 (dk_at dksX1_copy_2 17 rfl rfl)
theorem dX1_copy_65 : decode cX1_copy 65 = .ok (.ladd, 1) := dk_97 (dk_at dksX1_copy_2 18 rfl rfl)
theorem dX1_copy_66 : decode cX1_copy 66 = .ok (.aload_n 0, 1) := dk_42 (dk_at dksX1_copy_2 19 rfl rfl)
theorem dX1_copy_67 : decode cX1_copy 67 = .ok (.getfield 17, 3) := dk_180 0 17 (dk_at dksX1_copy_2 20 rfl rfl)
theorem dX1_copy_70 : decode cX1_copy 70 = .ok (.iload_n 1, 1) := dk_27 (dk_at dksX1_copy_2 23 rfl rfl)
theorem dX1_copy_71 : decode cX1_copy 71 = .ok (.iaload, 1) := dk_46 (dk_at dksX1_copy_3 0 rfl rfl)
theorem dX1_copy_72 : decode cX1_copy 72 = .ok (.i2l, 1) := dk_133 (dk_at dksX1_copy_3 1 rfl rfl)
theorem dX1_copy_73 : decode cX1_copy 73 = .ok (.lcmp, 1) := dk_148 (dk_at dksX1_copy_3 2 rfl rfl)
theorem dX1_copy_74 : decode cX1_copy 74 = .ok (.ifCond .gt 21, 3) := dk_157 0 21 (dk_at dksX1_copy_3 3 rfl rfl)
theorem dX1_copy_77 : decode cX1_copy 77 = .ok (.iload 4, 2) := dk_21 4 (dk_at dksX1_copy_3 6 rfl rfl)
theorem dX1_copy_79 : decode cX1_copy 79 = .ok (.i2l, 1) := dk_133 (dk_at dksX1_copy_3 8 rfl rfl)
theorem dX1_copy_80 : decode cX1_copy 80 = .ok (.iload 5, 2) := dk_21 5 (dk_at dksX1_copy_3 9 rfl rfl)
theorem dX1_copy_82 : decode cX1_copy 82 = .ok (.i2l, 1) := dk_133 (dk_at dksX1_copy_3 11 rfl rfl)
theorem dX1_copy_83 : decode cX1_copy 83 = .ok (.ladd, 1) := dk_97 (dk_at dksX1_copy_3 12 rfl rfl)
theorem dX1_copy_84 : decode cX1_copy 84 = .ok (.aload_n 0, 1) := dk_42 (dk_at dksX1_copy_3 13 rfl rfl)
theorem dX1_copy_85 : decode cX1_copy 85 = .ok (.getfield 17, 3) := dk_180 0 17 (dk_at dksX1_copy_3 14 rfl rfl)
theorem dX1_copy_88 : decode cX1_copy 88 = .ok (.iload_n 3, 1) := dk_29 (dk_at dksX1_copy_3 17 rfl rfl)
theorem dX1_copy_89 : decode cX1_copy 89 = .ok (.iaload, 1) := dk_46 (dk_at dksX1_copy_3 18 rfl rfl)
theorem dX1_copy_90 : decode cX1_copy 90 = .ok (.i2l, 1) := dk_133 (dk_at dksX1_copy_3 19 rfl rfl)
theorem dX1_copy_91 : decode cX1_copy 91 = .ok (.lcmp, 1) := dk_148 (dk_at dksX1_copy_3 20 rfl rfl)
theorem dX1_copy_92 : decode cX1_copy 92 = .ok (.ifCond .le 9, 3) := dk_158 0 9 (dk_at dksX1_copy_3 21 rfl rfl)
theorem dX1_copy_95 : decode cX1_copy 95 = .ok (.aload_n 0, 1) := dk_42 (dk_at dksX1_copy_4 0 rfl rfl)
theorem dX1_copy_96 : decode cX1_copy 96 = .ok (.iconst 2, 1) := dk_5 (dk_at dksX1_copy_4 1 rfl rfl)
theorem dX1_copy_97 : decode cX1_copy 97 = .ok (.invokevirtual 193, 3) := dk_182 0 193 (dk_at dksX1_copy_4 2 rfl rfl)
theorem dX1_copy_100 : decode cX1_copy 100 = .ok (.ireturn, 1) := dk_172 (dk_at dksX1_copy_4 5 rfl rfl)
theorem dX1_copy_101 : decode cX1_copy 101 = .ok (.iconst 0, 1) := dk_3 (dk_at dksX1_copy_4 6 rfl rfl)
theorem dX1_copy_102 : decode cX1_copy 102 = .ok (.istore 6, 2) := dk_54 6 (dk_at dksX1_copy_4 7 rfl rfl)
theorem dX1_copy_104 : decode cX1_copy 104 = .ok (.iload 6, 2) := dk_21 6 (dk_at dksX1_copy_4 9 rfl rfl)
theorem dX1_copy_106 : decode cX1_copy 106 = .ok (.iload 5, 2) := dk_21 5 (dk_at dksX1_copy_4 11 rfl rfl)
theorem dX1_copy_108 : decode cX1_copy 108 = .ok (.if_icmp .ge 30, 3) := dk_162 0 30 (dk_at dksX1_copy_4 13 rfl rfl)
theorem dX1_copy_111 : decode cX1_copy 111 = .ok (.aload_n 0, 1) := dk_42 (dk_at dksX1_copy_4 16 rfl rfl)
theorem dX1_copy_112 : decode cX1_copy 112 = .ok (.getfield 23, 3) := dk_180 0 23 (dk_at dksX1_copy_4 17 rfl rfl)
theorem dX1_copy_115 : decode cX1_copy 115 = .ok (.iload 6, 2) := dk_21 6 (dk_at dksX1_copy_4 20 rfl rfl)
theorem dX1_copy_117 : decode cX1_copy 117 = .ok (.aload_n 0, 1) := dk_42 (dk_at dksX1_copy_4 22 rfl rfl)
theorem dX1_copy_118 : decode cX1_copy 118 = .ok (.getfield 20, 3) := dk_180 0 20 (dk_at dksX1_copy_5 0 rfl rfl)
theorem dX1_copy_121 : decode cX1_copy 121 = .ok (.bipush 40, 2) := dk_16 40 (dk_at dksX1_copy_5 3 rfl rfl)
theorem dX1_copy_123 : decode cX1_copy 123 = .ok (.iload_n 1, 1) := dk_27 (dk_at dksX1_copy_5 5 rfl rfl)
theorem dX1_copy_124 : decode cX1_copy 124 = .ok (.imul, 1) := dk_104 (dk_at dksX1_copy_5 6 rfl rfl)
theorem dX1_copy_125 : decode cX1_copy 125 = .ok (.iload_n 2, 1) := dk_28 (dk_at dksX1_copy_5 7 rfl rfl)
theorem dX1_copy_126 : decode cX1_copy 126 = .ok (.iadd, 1) := dk_96 (dk_at dksX1_copy_5 8 rfl rfl)
theorem dX1_copy_127 : decode cX1_copy 127 = .ok (.iload 6, 2) := dk_21 6 (dk_at dksX1_copy_5 9 rfl rfl)
theorem dX1_copy_129 : decode cX1_copy 129 = .ok (.iadd, 1) := dk_96 (dk_at dksX1_copy_5 11 rfl rfl)
theorem dX1_copy_130 : decode cX1_copy 130 = .ok (.iaload, 1) := dk_46 (dk_at dksX1_copy_5 12 rfl rfl)
theorem dX1_copy_131 : decode cX1_copy 131 = .ok (.iastore, 1) := dk_79 (dk_at dksX1_copy_5 13 rfl rfl)
theorem dX1_copy_132 : decode cX1_copy 132 = .ok (.iinc 6 1, 3) := dk_132 6 1 (dk_at dksX1_copy_5 14 rfl rfl)
theorem dX1_copy_135 : decode cX1_copy 135 = .ok (.goto (-31), 3) := dk_167 255 225 (dk_at dksX1_copy_5 17 rfl rfl)
theorem dX1_copy_138 : decode cX1_copy 138 = .ok (.iconst 0, 1) := dk_3 (dk_at dksX1_copy_5 20 rfl rfl)
theorem dX1_copy_139 : decode cX1_copy 139 = .ok (.istore 6, 2) := dk_54 6 (dk_at dksX1_copy_5 21 rfl rfl)
theorem dX1_copy_141 : decode cX1_copy 141 = .ok (.iload 6, 2) := dk_21 6 (dk_at dksX1_copy_6 0 rfl rfl)
theorem dX1_copy_143 : decode cX1_copy 143 = .ok (.iload 5, 2) := dk_21 5 (dk_at dksX1_copy_6 2 rfl rfl)
theorem dX1_copy_145 : decode cX1_copy 145 = .ok (.if_icmp .ge 31, 3) := dk_162 0 31 (dk_at dksX1_copy_6 4 rfl rfl)
theorem dX1_copy_148 : decode cX1_copy 148 = .ok (.aload_n 0, 1) := dk_42 (dk_at dksX1_copy_6 7 rfl rfl)
theorem dX1_copy_149 : decode cX1_copy 149 = .ok (.getfield 20, 3) := dk_180 0 20 (dk_at dksX1_copy_6 8 rfl rfl)
theorem dX1_copy_152 : decode cX1_copy 152 = .ok (.bipush 40, 2) := dk_16 40 (dk_at dksX1_copy_6 11 rfl rfl)
theorem dX1_copy_154 : decode cX1_copy 154 = .ok (.iload_n 3, 1) := dk_29 (dk_at dksX1_copy_6 13 rfl rfl)
theorem dX1_copy_155 : decode cX1_copy 155 = .ok (.imul, 1) := dk_104 (dk_at dksX1_copy_6 14 rfl rfl)
theorem dX1_copy_156 : decode cX1_copy 156 = .ok (.iload 4, 2) := dk_21 4 (dk_at dksX1_copy_6 15 rfl rfl)
theorem dX1_copy_158 : decode cX1_copy 158 = .ok (.iadd, 1) := dk_96 (dk_at dksX1_copy_6 17 rfl rfl)
theorem dX1_copy_159 : decode cX1_copy 159 = .ok (.iload 6, 2) := dk_21 6 (dk_at dksX1_copy_6 18 rfl rfl)
theorem dX1_copy_161 : decode cX1_copy 161 = .ok (.iadd, 1) := dk_96 (dk_at dksX1_copy_6 20 rfl rfl)
theorem dX1_copy_162 : decode cX1_copy 162 = .ok (.aload_n 0, 1) := dk_42 (dk_at dksX1_copy_6 21 rfl rfl)
theorem dX1_copy_163 : decode cX1_copy 163 = .ok (.getfield 23, 3) := dk_180 0 23 (dk_at dksX1_copy_7 0 rfl rfl)
theorem dX1_copy_166 : decode cX1_copy 166 = .ok (.iload 6, 2) := dk_21 6 (dk_at dksX1_copy_7 3 rfl rfl)
theorem dX1_copy_168 : decode cX1_copy 168 = .ok (.iaload, 1) := dk_46 (dk_at dksX1_copy_7 5 rfl rfl)
theorem dX1_copy_169 : decode cX1_copy 169 = .ok (.iastore, 1) := dk_79 (dk_at dksX1_copy_7 6 rfl rfl)
theorem dX1_copy_170 : decode cX1_copy 170 = .ok (.iinc 6 1, 3) := dk_132 6 1 (dk_at dksX1_copy_7 7 rfl rfl)
theorem dX1_copy_173 : decode cX1_copy 173 = .ok (.goto (-32), 3) := dk_167 255 224 (dk_at dksX1_copy_7 10 rfl rfl)
theorem dX1_copy_176 : decode cX1_copy 176 = .ok (.iconst 1, 1) := dk_4 (dk_at dksX1_copy_7 13 rfl rfl)
theorem dX1_copy_177 : decode cX1_copy 177 = .ok (.ireturn, 1) := dk_172 (dk_at dksX1_copy_7 14 rfl rfl)
abbrev cX1_text : ByteArray := prog_8_method_16_code
def yX1_text : MethodName := ⟨RX1, "text", "(II)I"⟩
def dkwX1_text_2 : List UInt8 := [29, 96, 16, 32, 79, 132, 3, 1, 167, 255, 234, 28, 172]
abbrev dktX1_text_2 : List UInt8 := dkwX1_text_2 ++ []
def dkwX1_text_1 : List UInt8 := [172, 42, 180, 0, 26, 27, 28, 79, 3, 62, 29, 16, 40, 162, 0, 22, 42, 180, 0, 29, 16, 40, 27, 104]
abbrev dktX1_text_1 : List UInt8 := dkwX1_text_1 ++ dktX1_text_2
def dkwX1_text_0 : List UInt8 := [27, 184, 0, 200, 153, 0, 9, 28, 16, 40, 164, 0, 5, 2, 172, 28, 156, 0, 9, 42, 8, 182, 0, 193]
abbrev dktX1_text_0 : List UInt8 := dkwX1_text_0 ++ dktX1_text_1
theorem dksX1_text_0 : cX1_text.data.toList.drop 0 = dktX1_text_0 := by decide +kernel
theorem dksX1_text_1 : cX1_text.data.toList.drop 24 = dktX1_text_1 := dk_seg dksX1_text_0 24 rfl rfl
theorem dksX1_text_2 : cX1_text.data.toList.drop 48 = dktX1_text_2 := dk_seg dksX1_text_1 24 rfl rfl
theorem dX1_text_0 : decode cX1_text 0 = .ok (.iload_n 1, 1) := dk_27 (dk_at dksX1_text_0 0 rfl rfl)
theorem dX1_text_1 : decode cX1_text 1 = .ok (.invokestatic 200, 3) := dk_184 0 200 (dk_at dksX1_text_0 1 rfl rfl)
theorem dX1_text_4 : decode cX1_text 4 = .ok (.ifCond .eq 9, 3) := dk_153 0 9 (dk_at dksX1_text_0 4 rfl rfl)
theorem dX1_text_7 : decode cX1_text 7 = .ok (.iload_n 2, 1) := dk_28 (dk_at dksX1_text_0 7 rfl rfl)
theorem dX1_text_8 : decode cX1_text 8 = .ok (.bipush 40, 2) := dk_16 40 (dk_at dksX1_text_0 8 rfl rfl)
theorem dX1_text_10 : decode cX1_text 10 = .ok (.if_icmp .le 5, 3) := dk_164 0 5 (dk_at dksX1_text_0 10 rfl rfl)
theorem dX1_text_13 : decode cX1_text 13 = .ok (.iconst (-1), 1) := dk_2 (dk_at dksX1_text_0 13 rfl rfl)
theorem dX1_text_14 : decode cX1_text 14 = .ok (.ireturn, 1) := dk_172 (dk_at dksX1_text_0 14 rfl rfl)
theorem dX1_text_15 : decode cX1_text 15 = .ok (.iload_n 2, 1) := dk_28 (dk_at dksX1_text_0 15 rfl rfl)
theorem dX1_text_16 : decode cX1_text 16 = .ok (.ifCond .ge 9, 3) := dk_156 0 9 (dk_at dksX1_text_0 16 rfl rfl)
theorem dX1_text_19 : decode cX1_text 19 = .ok (.aload_n 0, 1) := dk_42 (dk_at dksX1_text_0 19 rfl rfl)
theorem dX1_text_20 : decode cX1_text 20 = .ok (.iconst 5, 1) := dk_8 (dk_at dksX1_text_0 20 rfl rfl)
theorem dX1_text_21 : decode cX1_text 21 = .ok (.invokevirtual 193, 3) := dk_182 0 193 (dk_at dksX1_text_0 21 rfl rfl)
theorem dX1_text_24 : decode cX1_text 24 = .ok (.ireturn, 1) := dk_172 (dk_at dksX1_text_1 0 rfl rfl)
theorem dX1_text_25 : decode cX1_text 25 = .ok (.aload_n 0, 1) := dk_42 (dk_at dksX1_text_1 1 rfl rfl)
theorem dX1_text_26 : decode cX1_text 26 = .ok (.getfield 26, 3) := dk_180 0 26 (dk_at dksX1_text_1 2 rfl rfl)
theorem dX1_text_29 : decode cX1_text 29 = .ok (.iload_n 1, 1) := dk_27 (dk_at dksX1_text_1 5 rfl rfl)
theorem dX1_text_30 : decode cX1_text 30 = .ok (.iload_n 2, 1) := dk_28 (dk_at dksX1_text_1 6 rfl rfl)
theorem dX1_text_31 : decode cX1_text 31 = .ok (.iastore, 1) := dk_79 (dk_at dksX1_text_1 7 rfl rfl)
theorem dX1_text_32 : decode cX1_text 32 = .ok (.iconst 0, 1) := dk_3 (dk_at dksX1_text_1 8 rfl rfl)
theorem dX1_text_33 : decode cX1_text 33 = .ok (.istore_n 3, 1) := dk_62 (dk_at dksX1_text_1 9 rfl rfl)
theorem dX1_text_34 : decode cX1_text 34 = .ok (.iload_n 3, 1) := dk_29 (dk_at dksX1_text_1 10 rfl rfl)
theorem dX1_text_35 : decode cX1_text 35 = .ok (.bipush 40, 2) := dk_16 40 (dk_at dksX1_text_1 11 rfl rfl)
theorem dX1_text_37 : decode cX1_text 37 = .ok (.if_icmp .ge 22, 3) := dk_162 0 22 (dk_at dksX1_text_1 13 rfl rfl)
theorem dX1_text_40 : decode cX1_text 40 = .ok (.aload_n 0, 1) := dk_42 (dk_at dksX1_text_1 16 rfl rfl)
theorem dX1_text_41 : decode cX1_text 41 = .ok (.getfield 29, 3) := dk_180 0 29 (dk_at dksX1_text_1 17 rfl rfl)
theorem dX1_text_44 : decode cX1_text 44 = .ok (.bipush 40, 2) := dk_16 40 (dk_at dksX1_text_1 20 rfl rfl)
theorem dX1_text_46 : decode cX1_text 46 = .ok (.iload_n 1, 1) := dk_27 (dk_at dksX1_text_1 22 rfl rfl)
theorem dX1_text_47 : decode cX1_text 47 = .ok (.imul, 1) := dk_104 (dk_at dksX1_text_1 23 rfl rfl)
theorem dX1_text_48 : decode cX1_text 48 = .ok (.iload_n 3, 1) := dk_29 (dk_at dksX1_text_2 0 rfl rfl)
theorem dX1_text_49 : decode cX1_text 49 = .ok (.iadd, 1) := dk_96 (dk_at dksX1_text_2 1 rfl rfl)
theorem dX1_text_50 : decode cX1_text 50 = .ok (.bipush 32, 2) := dk_16 32 (dk_at dksX1_text_2 2 rfl rfl)
theorem dX1_text_52 : decode cX1_text 52 = .ok (.iastore, 1) := dk_79 (dk_at dksX1_text_2 4 rfl rfl)
theorem dX1_text_53 : decode cX1_text 53 = .ok (.iinc 3 1, 3) := dk_132 3 1 (dk_at dksX1_text_2 5 rfl rfl)
theorem dX1_text_56 : decode cX1_text 56 = .ok (.goto (-22), 3) := dk_167 255 234 (dk_at dksX1_text_2 8 rfl rfl)
theorem dX1_text_59 : decode cX1_text 59 = .ok (.iload_n 2, 1) := dk_28 (dk_at dksX1_text_2 11 rfl rfl)
theorem dX1_text_60 : decode cX1_text 60 = .ok (.ireturn, 1) := dk_172 (dk_at dksX1_text_2 12 rfl rfl)
abbrev cX1_isText : ByteArray := prog_8_method_14_code
def yX1_isText : MethodName := ⟨RX1, "isText", "(I)Z"⟩
def dkwX1_isText_0 : List UInt8 := [26, 3, 6, 184, 0, 185, 172]
abbrev dktX1_isText_0 : List UInt8 := dkwX1_isText_0 ++ []
theorem dksX1_isText_0 : cX1_isText.data.toList.drop 0 = dktX1_isText_0 := by decide +kernel
theorem dX1_isText_0 : decode cX1_isText 0 = .ok (.iload_n 0, 1) := dk_26 (dk_at dksX1_isText_0 0 rfl rfl)
theorem dX1_isText_1 : decode cX1_isText 1 = .ok (.iconst 0, 1) := dk_3 (dk_at dksX1_isText_0 1 rfl rfl)
theorem dX1_isText_2 : decode cX1_isText 2 = .ok (.iconst 3, 1) := dk_6 (dk_at dksX1_isText_0 2 rfl rfl)
theorem dX1_isText_3 : decode cX1_isText 3 = .ok (.invokestatic 185, 3) := dk_184 0 185 (dk_at dksX1_isText_0 3 rfl rfl)
theorem dX1_isText_6 : decode cX1_isText 6 = .ok (.ireturn, 1) := dk_172 (dk_at dksX1_isText_0 6 rfl rfl)
abbrev cX1_put : ByteArray := prog_8_method_17_code
def yX1_put : MethodName := ⟨RX1, "put", "(III)I"⟩
def dkwX1_put_2 : List UInt8 := [54, 5, 42, 180, 0, 29, 16, 40, 27, 104, 28, 96, 29, 145, 79, 21, 5, 17, 3, 232, 96, 172]
abbrev dktX1_put_2 : List UInt8 := dkwX1_put_2 ++ []
def dkwX1_put_1 : List UInt8 := [100, 184, 0, 185, 154, 0, 9, 42, 5, 182, 0, 193, 172, 42, 180, 0, 29, 16, 40, 27, 104, 28, 96, 46]
abbrev dktX1_put_1 : List UInt8 := dkwX1_put_1 ++ dktX1_put_2
def dkwX1_put_0 : List UInt8 := [42, 27, 182, 0, 203, 54, 4, 21, 4, 156, 0, 6, 21, 4, 172, 28, 3, 42, 180, 0, 26, 27, 46, 4]
abbrev dktX1_put_0 : List UInt8 := dkwX1_put_0 ++ dktX1_put_1
theorem dksX1_put_0 : cX1_put.data.toList.drop 0 = dktX1_put_0 := by decide +kernel
theorem dksX1_put_1 : cX1_put.data.toList.drop 24 = dktX1_put_1 := dk_seg dksX1_put_0 24 rfl rfl
theorem dksX1_put_2 : cX1_put.data.toList.drop 48 = dktX1_put_2 := dk_seg dksX1_put_1 24 rfl rfl
theorem dX1_put_0 : decode cX1_put 0 = .ok (.aload_n 0, 1) := dk_42 (dk_at dksX1_put_0 0 rfl rfl)
theorem dX1_put_1 : decode cX1_put 1 = .ok (.iload_n 1, 1) := dk_27 (dk_at dksX1_put_0 1 rfl rfl)
theorem dX1_put_2 : decode cX1_put 2 = .ok (.invokevirtual 203, 3) := dk_182 0 203 (dk_at dksX1_put_0 2 rfl rfl)
theorem dX1_put_5 : decode cX1_put 5 = .ok (.istore 4, 2) := dk_54 4 (dk_at dksX1_put_0 5 rfl rfl)
theorem dX1_put_7 : decode cX1_put 7 = .ok (.iload 4, 2) := dk_21 4 (dk_at dksX1_put_0 7 rfl rfl)
theorem dX1_put_9 : decode cX1_put 9 = .ok (.ifCond .ge 6, 3) := dk_156 0 6 (dk_at dksX1_put_0 9 rfl rfl)
theorem dX1_put_12 : decode cX1_put 12 = .ok (.iload 4, 2) := dk_21 4 (dk_at dksX1_put_0 12 rfl rfl)
theorem dX1_put_14 : decode cX1_put 14 = .ok (.ireturn, 1) := dk_172 (dk_at dksX1_put_0 14 rfl rfl)
theorem dX1_put_15 : decode cX1_put 15 = .ok (.iload_n 2, 1) := dk_28 (dk_at dksX1_put_0 15 rfl rfl)
theorem dX1_put_16 : decode cX1_put 16 = .ok (.iconst 0, 1) := dk_3 (dk_at dksX1_put_0 16 rfl rfl)
theorem dX1_put_17 : decode cX1_put 17 = .ok (.aload_n 0, 1) := dk_42 (dk_at dksX1_put_0 17 rfl rfl)
theorem dX1_put_18 : decode cX1_put 18 = .ok (.getfield 26, 3) := dk_180 0 26 (dk_at dksX1_put_0 18 rfl rfl)
theorem dX1_put_21 : decode cX1_put 21 = .ok (.iload_n 1, 1) := dk_27 (dk_at dksX1_put_0 21 rfl rfl)
theorem dX1_put_22 : decode cX1_put 22 = .ok (.iaload, 1) := dk_46 (dk_at dksX1_put_0 22 rfl rfl)
theorem dX1_put_23 : decode cX1_put 23 = .ok (.iconst 1, 1) := dk_4 (dk_at dksX1_put_0 23 rfl rfl)
theorem dX1_put_24 : decode cX1_put 24 = .ok (.isub, 1) := dk_100 (dk_at dksX1_put_1 0 rfl rfl)
theorem dX1_put_25 : decode cX1_put 25 = .ok (.invokestatic 185, 3) := dk_184 0 185 (dk_at dksX1_put_1 1 rfl rfl)
theorem dX1_put_28 : decode cX1_put 28 = .ok (.ifCond .ne 9, 3) := dk_154 0 9 (dk_at dksX1_put_1 4 rfl rfl)
theorem dX1_put_31 : decode cX1_put 31 = .ok (.aload_n 0, 1) := dk_42 (dk_at dksX1_put_1 7 rfl rfl)
theorem dX1_put_32 : decode cX1_put 32 = .ok (.iconst 2, 1) := dk_5 (dk_at dksX1_put_1 8 rfl rfl)
theorem dX1_put_33 : decode cX1_put 33 = .ok (.invokevirtual 193, 3) := dk_182 0 193 (dk_at dksX1_put_1 9 rfl rfl)
theorem dX1_put_36 : decode cX1_put 36 = .ok (.ireturn, 1) := dk_172 (dk_at dksX1_put_1 12 rfl rfl)
theorem dX1_put_37 : decode cX1_put 37 = .ok (.aload_n 0, 1) := dk_42 (dk_at dksX1_put_1 13 rfl rfl)
theorem dX1_put_38 : decode cX1_put 38 = .ok (.getfield 29, 3) := dk_180 0 29 (dk_at dksX1_put_1 14 rfl rfl)
theorem dX1_put_41 : decode cX1_put 41 = .ok (.bipush 40, 2) := dk_16 40 (dk_at dksX1_put_1 17 rfl rfl)
theorem dX1_put_43 : decode cX1_put 43 = .ok (.iload_n 1, 1) := dk_27 (dk_at dksX1_put_1 19 rfl rfl)
theorem dX1_put_44 : decode cX1_put 44 = .ok (.imul, 1) := dk_104 (dk_at dksX1_put_1 20 rfl rfl)
theorem dX1_put_45 : decode cX1_put 45 = .ok (.iload_n 2, 1) := dk_28 (dk_at dksX1_put_1 21 rfl rfl)
theorem dX1_put_46 : decode cX1_put 46 = .ok (.iadd, 1) := dk_96 (dk_at dksX1_put_1 22 rfl rfl)
theorem dX1_put_47 : decode cX1_put 47 = .ok (.iaload, 1) := dk_46 (dk_at dksX1_put_1 23 rfl rfl)
theorem dX1_put_48 : decode cX1_put 48 = .ok (.istore 5, 2) := dk_54 5 (dk_at dksX1_put_2 0 rfl rfl)
theorem dX1_put_50 : decode cX1_put 50 = .ok (.aload_n 0, 1) := dk_42 (dk_at dksX1_put_2 2 rfl rfl)
theorem dX1_put_51 : decode cX1_put 51 = .ok (.getfield 29, 3) := dk_180 0 29 (dk_at dksX1_put_2 3 rfl rfl)
theorem dX1_put_54 : decode cX1_put 54 = .ok (.bipush 40, 2) := dk_16 40 (dk_at dksX1_put_2 6 rfl rfl)
theorem dX1_put_56 : decode cX1_put 56 = .ok (.iload_n 1, 1) := dk_27 (dk_at dksX1_put_2 8 rfl rfl)
theorem dX1_put_57 : decode cX1_put 57 = .ok (.imul, 1) := dk_104 (dk_at dksX1_put_2 9 rfl rfl)
theorem dX1_put_58 : decode cX1_put 58 = .ok (.iload_n 2, 1) := dk_28 (dk_at dksX1_put_2 10 rfl rfl)
theorem dX1_put_59 : decode cX1_put 59 = .ok (.iadd, 1) := dk_96 (dk_at dksX1_put_2 11 rfl rfl)
theorem dX1_put_60 : decode cX1_put 60 = .ok (.iload_n 3, 1) := dk_29 (dk_at dksX1_put_2 12 rfl rfl)
theorem dX1_put_61 : decode cX1_put 61 = .ok (.i2b, 1) := dk_145 (dk_at dksX1_put_2 13 rfl rfl)
theorem dX1_put_62 : decode cX1_put 62 = .ok (.iastore, 1) := dk_79 (dk_at dksX1_put_2 14 rfl rfl)
theorem dX1_put_63 : decode cX1_put 63 = .ok (.iload 5, 2) := dk_21 5 (dk_at dksX1_put_2 15 rfl rfl)
theorem dX1_put_65 : decode cX1_put 65 = .ok (.sipush 1000, 3) := dk_17 3 232 (dk_at dksX1_put_2 17 rfl rfl)
theorem dX1_put_68 : decode cX1_put 68 = .ok (.iadd, 1) := dk_96 (dk_at dksX1_put_2 20 rfl rfl)
theorem dX1_put_69 : decode cX1_put 69 = .ok (.ireturn, 1) := dk_172 (dk_at dksX1_put_2 21 rfl rfl)
abbrev cX1_askedText : ByteArray := prog_8_method_15_code
def yX1_askedText : MethodName := ⟨RX1, "askedText", "(I)I"⟩
def dkwX1_askedText_1 : List UInt8 := [182, 0, 193, 167, 0, 4, 3, 172]
abbrev dktX1_askedText_1 : List UInt8 := dkwX1_askedText_1 ++ []
def dkwX1_askedText_0 : List UInt8 := [27, 184, 0, 200, 154, 0, 7, 2, 167, 0, 21, 42, 180, 0, 26, 27, 46, 156, 0, 11, 42, 4]
abbrev dktX1_askedText_0 : List UInt8 := dkwX1_askedText_0 ++ dktX1_askedText_1
theorem dksX1_askedText_0 : cX1_askedText.data.toList.drop 0 = dktX1_askedText_0 := by decide +kernel
theorem dksX1_askedText_1 : cX1_askedText.data.toList.drop 22 = dktX1_askedText_1 := dk_seg dksX1_askedText_0 22 rfl rfl
theorem dX1_askedText_0 : decode cX1_askedText 0 = .ok (.iload_n 1, 1) := dk_27 (dk_at dksX1_askedText_0 0 rfl rfl)
theorem dX1_askedText_1 : decode cX1_askedText 1 = .ok (.invokestatic 200, 3) := dk_184 0 200 (dk_at dksX1_askedText_0 1 rfl rfl)
theorem dX1_askedText_4 : decode cX1_askedText 4 = .ok (.ifCond .ne 7, 3) := dk_154 0 7 (dk_at dksX1_askedText_0 4 rfl rfl)
theorem dX1_askedText_7 : decode cX1_askedText 7 = .ok (.iconst (-1), 1) := dk_2 (dk_at dksX1_askedText_0 7 rfl rfl)
theorem dX1_askedText_8 : decode cX1_askedText 8 = .ok (.goto 21, 3) := dk_167 0 21 (dk_at dksX1_askedText_0 8 rfl rfl)
theorem dX1_askedText_11 : decode cX1_askedText 11 = .ok (.aload_n 0, 1) := dk_42 (dk_at dksX1_askedText_0 11 rfl rfl)
theorem dX1_askedText_12 : decode cX1_askedText 12 = .ok (.getfield 26, 3) := dk_180 0 26 (dk_at dksX1_askedText_0 12 rfl rfl)
theorem dX1_askedText_15 : decode cX1_askedText 15 = .ok (.iload_n 1, 1) := dk_27 (dk_at dksX1_askedText_0 15 rfl rfl)
theorem dX1_askedText_16 : decode cX1_askedText 16 = .ok (.iaload, 1) := dk_46 (dk_at dksX1_askedText_0 16 rfl rfl)
theorem dX1_askedText_17 : decode cX1_askedText 17 = .ok (.ifCond .ge 11, 3) := dk_156 0 11 (dk_at dksX1_askedText_0 17 rfl rfl)
theorem dX1_askedText_20 : decode cX1_askedText 20 = .ok (.aload_n 0, 1) := dk_42 (dk_at dksX1_askedText_0 20 rfl rfl)
theorem dX1_askedText_21 : decode cX1_askedText 21 = .ok (.iconst 1, 1) := dk_4 (dk_at dksX1_askedText_0 21 rfl rfl)
theorem dX1_askedText_22 : decode cX1_askedText 22 = .ok (.invokevirtual 193, 3) := dk_182 0 193 (dk_at dksX1_askedText_1 0 rfl rfl)
theorem dX1_askedText_25 : decode cX1_askedText 25 = .ok (.goto 4, 3) := dk_167 0 4 (dk_at dksX1_askedText_1 3 rfl rfl)
theorem dX1_askedText_28 : decode cX1_askedText 28 = .ok (.iconst 0, 1) := dk_3 (dk_at dksX1_askedText_1 6 rfl rfl)
theorem dX1_askedText_29 : decode cX1_askedText 29 = .ok (.ireturn, 1) := dk_172 (dk_at dksX1_askedText_1 7 rfl rfl)
abbrev cX1_later : ByteArray := prog_8_method_18_code
def yX1_later : MethodName := ⟨RX1, "later", "(I)I"⟩
def dkwX1_later_1 : List UInt8 := [181, 0, 207, 42, 180, 0, 207, 172]
abbrev dktX1_later_1 : List UInt8 := dkwX1_later_1 ++ []
def dkwX1_later_0 : List UInt8 := [27, 155, 0, 14, 27, 18, 206, 42, 180, 0, 207, 100, 164, 0, 5, 2, 172, 42, 89, 180, 0, 207, 27, 96]
abbrev dktX1_later_0 : List UInt8 := dkwX1_later_0 ++ dktX1_later_1
theorem dksX1_later_0 : cX1_later.data.toList.drop 0 = dktX1_later_0 := by decide +kernel
theorem dksX1_later_1 : cX1_later.data.toList.drop 24 = dktX1_later_1 := dk_seg dksX1_later_0 24 rfl rfl
theorem dX1_later_0 : decode cX1_later 0 = .ok (.iload_n 1, 1) := dk_27 (dk_at dksX1_later_0 0 rfl rfl)
theorem dX1_later_1 : decode cX1_later 1 = .ok (.ifCond .lt 14, 3) := dk_155 0 14 (dk_at dksX1_later_0 1 rfl rfl)
theorem dX1_later_4 : decode cX1_later 4 = .ok (.iload_n 1, 1) := dk_27 (dk_at dksX1_later_0 4 rfl rfl)
theorem dX1_later_5 : decode cX1_later 5 = .ok (.ldc 206, 2) := dk_18 206 (dk_at dksX1_later_0 5 rfl rfl)
theorem dX1_later_7 : decode cX1_later 7 = .ok (.aload_n 0, 1) := dk_42 (dk_at dksX1_later_0 7 rfl rfl)
theorem dX1_later_8 : decode cX1_later 8 = .ok (.getfield 207, 3) := dk_180 0 207 (dk_at dksX1_later_0 8 rfl rfl)
theorem dX1_later_11 : decode cX1_later 11 = .ok (.isub, 1) := dk_100 (dk_at dksX1_later_0 11 rfl rfl)
theorem dX1_later_12 : decode cX1_later 12 = .ok (.if_icmp .le 5, 3) := dk_164 0 5 (dk_at dksX1_later_0 12 rfl rfl)
theorem dX1_later_15 : decode cX1_later 15 = .ok (.iconst (-1), 1) := dk_2 (dk_at dksX1_later_0 15 rfl rfl)
theorem dX1_later_16 : decode cX1_later 16 = .ok (.ireturn, 1) := dk_172 (dk_at dksX1_later_0 16 rfl rfl)
theorem dX1_later_17 : decode cX1_later 17 = .ok (.aload_n 0, 1) := dk_42 (dk_at dksX1_later_0 17 rfl rfl)
theorem dX1_later_18 : decode cX1_later 18 = .ok (.dup, 1) := dk_89 (dk_at dksX1_later_0 18 rfl rfl)
theorem dX1_later_19 : decode cX1_later 19 = .ok (.getfield 207, 3) := dk_180 0 207 (dk_at dksX1_later_0 19 rfl rfl)
theorem dX1_later_22 : decode cX1_later 22 = .ok (.iload_n 1, 1) := dk_27 (dk_at dksX1_later_0 22 rfl rfl)
theorem dX1_later_23 : decode cX1_later 23 = .ok (.iadd, 1) := dk_96 (dk_at dksX1_later_0 23 rfl rfl)
theorem dX1_later_24 : decode cX1_later 24 = .ok (.putfield 207, 3) := dk_181 0 207 (dk_at dksX1_later_1 0 rfl rfl)
theorem dX1_later_27 : decode cX1_later 27 = .ok (.aload_n 0, 1) := dk_42 (dk_at dksX1_later_1 3 rfl rfl)
theorem dX1_later_28 : decode cX1_later 28 = .ok (.getfield 207, 3) := dk_180 0 207 (dk_at dksX1_later_1 4 rfl rfl)
theorem dX1_later_31 : decode cX1_later 31 = .ok (.ireturn, 1) := dk_172 (dk_at dksX1_later_1 7 rfl rfl)
abbrev cX1_way : ByteArray := prog_8_method_21_code
def yX1_way : MethodName := ⟨RX1, "way", "(IIII)I"⟩
def dkwX1_way_2 : List UInt8 := [21, 4, 3, 3, 182, 0, 213, 42, 28, 27, 29, 21, 4, 3, 3, 182, 0, 213, 4, 172]
abbrev dktX1_way_2 : List UInt8 := dkwX1_way_2 ++ []
def dkwX1_way_1 : List UInt8 := [184, 0, 185, 153, 0, 15, 21, 4, 3, 17, 3, 231, 184, 0, 185, 154, 0, 5, 2, 172, 42, 27, 28, 29]
abbrev dktX1_way_1 : List UInt8 := dkwX1_way_1 ++ dktX1_way_2
def dkwX1_way_0 : List UInt8 := [27, 184, 0, 210, 153, 0, 38, 28, 184, 0, 210, 153, 0, 31, 27, 28, 159, 0, 26, 29, 4, 17, 2, 88]
abbrev dktX1_way_0 : List UInt8 := dkwX1_way_0 ++ dktX1_way_1
theorem dksX1_way_0 : cX1_way.data.toList.drop 0 = dktX1_way_0 := by decide +kernel
theorem dksX1_way_1 : cX1_way.data.toList.drop 24 = dktX1_way_1 := dk_seg dksX1_way_0 24 rfl rfl
theorem dksX1_way_2 : cX1_way.data.toList.drop 48 = dktX1_way_2 := dk_seg dksX1_way_1 24 rfl rfl
theorem dX1_way_0 : decode cX1_way 0 = .ok (.iload_n 1, 1) := dk_27 (dk_at dksX1_way_0 0 rfl rfl)
theorem dX1_way_1 : decode cX1_way 1 = .ok (.invokestatic 210, 3) := dk_184 0 210 (dk_at dksX1_way_0 1 rfl rfl)
theorem dX1_way_4 : decode cX1_way 4 = .ok (.ifCond .eq 38, 3) := dk_153 0 38 (dk_at dksX1_way_0 4 rfl rfl)
theorem dX1_way_7 : decode cX1_way 7 = .ok (.iload_n 2, 1) := dk_28 (dk_at dksX1_way_0 7 rfl rfl)
theorem dX1_way_8 : decode cX1_way 8 = .ok (.invokestatic 210, 3) := dk_184 0 210 (dk_at dksX1_way_0 8 rfl rfl)
theorem dX1_way_11 : decode cX1_way 11 = .ok (.ifCond .eq 31, 3) := dk_153 0 31 (dk_at dksX1_way_0 11 rfl rfl)
theorem dX1_way_14 : decode cX1_way 14 = .ok (.iload_n 1, 1) := dk_27 (dk_at dksX1_way_0 14 rfl rfl)
theorem dX1_way_15 : decode cX1_way 15 = .ok (.iload_n 2, 1) := dk_28 (dk_at dksX1_way_0 15 rfl rfl)
theorem dX1_way_16 : decode cX1_way 16 = .ok (.if_icmp .eq 26, 3) := dk_159 0 26 (dk_at dksX1_way_0 16 rfl rfl)
theorem dX1_way_19 : decode cX1_way 19 = .ok (.iload_n 3, 1) := dk_29 (dk_at dksX1_way_0 19 rfl rfl)
theorem dX1_way_20 : decode cX1_way 20 = .ok (.iconst 1, 1) := dk_4 (dk_at dksX1_way_0 20 rfl rfl)
theorem dX1_way_21 : decode cX1_way 21 = .ok (.sipush 600, 3) := dk_17 2 88 (dk_at dksX1_way_0 21 rfl rfl)
theorem dX1_way_24 : decode cX1_way 24 = .ok (.invokestatic 185, 3) := dk_184 0 185 (dk_at dksX1_way_1 0 rfl rfl)
theorem dX1_way_27 : decode cX1_way 27 = .ok (.ifCond .eq 15, 3) := dk_153 0 15 (dk_at dksX1_way_1 3 rfl rfl)
theorem dX1_way_30 : decode cX1_way 30 = .ok (.iload 4, 2) := dk_21 4 (dk_at dksX1_way_1 6 rfl rfl)
theorem dX1_way_32 : decode cX1_way 32 = .ok (.iconst 0, 1) := dk_3 (dk_at dksX1_way_1 8 rfl rfl)
theorem dX1_way_33 : decode cX1_way 33 = .ok (.sipush 999, 3) := dk_17 3 231 (dk_at dksX1_way_1 9 rfl rfl)
theorem dX1_way_36 : decode cX1_way 36 = .ok (.invokestatic 185, 3) := dk_184 0 185 (dk_at dksX1_way_1 12 rfl rfl)
theorem dX1_way_39 : decode cX1_way 39 = .ok (.ifCond .ne 5, 3) := dk_154 0 5 (dk_at dksX1_way_1 15 rfl rfl)
theorem dX1_way_42 : decode cX1_way 42 = .ok (.iconst (-1), 1) := dk_2 (dk_at dksX1_way_1 18 rfl rfl)
theorem dX1_way_43 : decode cX1_way 43 = .ok (.ireturn, 1) := dk_172 (dk_at dksX1_way_1 19 rfl rfl)
theorem dX1_way_44 : decode cX1_way 44 = .ok (.aload_n 0, 1) := dk_42 (dk_at dksX1_way_1 20 rfl rfl)
theorem dX1_way_45 : decode cX1_way 45 = .ok (.iload_n 1, 1) := dk_27 (dk_at dksX1_way_1 21 rfl rfl)
theorem dX1_way_46 : decode cX1_way 46 = .ok (.iload_n 2, 1) := dk_28 (dk_at dksX1_way_1 22 rfl rfl)
theorem dX1_way_47 : decode cX1_way 47 = .ok (.iload_n 3, 1) := dk_29 (dk_at dksX1_way_1 23 rfl rfl)
theorem dX1_way_48 : decode cX1_way 48 = .ok (.iload 4, 2) := dk_21 4 (dk_at dksX1_way_2 0 rfl rfl)
theorem dX1_way_50 : decode cX1_way 50 = .ok (.iconst 0, 1) := dk_3 (dk_at dksX1_way_2 2 rfl rfl)
theorem dX1_way_51 : decode cX1_way 51 = .ok (.iconst 0, 1) := dk_3 (dk_at dksX1_way_2 3 rfl rfl)
theorem dX1_way_52 : decode cX1_way 52 = .ok (.invokevirtual 213, 3) := dk_182 0 213 (dk_at dksX1_way_2 4 rfl rfl)
theorem dX1_way_55 : decode cX1_way 55 = .ok (.aload_n 0, 1) := dk_42 (dk_at dksX1_way_2 7 rfl rfl)
theorem dX1_way_56 : decode cX1_way 56 = .ok (.iload_n 2, 1) := dk_28 (dk_at dksX1_way_2 8 rfl rfl)
theorem dX1_way_57 : decode cX1_way 57 = .ok (.iload_n 1, 1) := dk_27 (dk_at dksX1_way_2 9 rfl rfl)
theorem dX1_way_58 : decode cX1_way 58 = .ok (.iload_n 3, 1) := dk_29 (dk_at dksX1_way_2 10 rfl rfl)
theorem dX1_way_59 : decode cX1_way 59 = .ok (.iload 4, 2) := dk_21 4 (dk_at dksX1_way_2 11 rfl rfl)
theorem dX1_way_61 : decode cX1_way 61 = .ok (.iconst 0, 1) := dk_3 (dk_at dksX1_way_2 13 rfl rfl)
theorem dX1_way_62 : decode cX1_way 62 = .ok (.iconst 0, 1) := dk_3 (dk_at dksX1_way_2 14 rfl rfl)
theorem dX1_way_63 : decode cX1_way 63 = .ok (.invokevirtual 213, 3) := dk_182 0 213 (dk_at dksX1_way_2 15 rfl rfl)
theorem dX1_way_66 : decode cX1_way 66 = .ok (.iconst 1, 1) := dk_4 (dk_at dksX1_way_2 18 rfl rfl)
theorem dX1_way_67 : decode cX1_way 67 = .ok (.ireturn, 1) := dk_172 (dk_at dksX1_way_2 19 rfl rfl)
abbrev cX1_isYard : ByteArray := prog_8_method_19_code
def yX1_isYard : MethodName := ⟨RX1, "isYard", "(I)Z"⟩
def dkwX1_isYard_0 : List UInt8 := [26, 3, 16, 7, 184, 0, 185, 172]
abbrev dktX1_isYard_0 : List UInt8 := dkwX1_isYard_0 ++ []
theorem dksX1_isYard_0 : cX1_isYard.data.toList.drop 0 = dktX1_isYard_0 := by decide +kernel
theorem dX1_isYard_0 : decode cX1_isYard 0 = .ok (.iload_n 0, 1) := dk_26 (dk_at dksX1_isYard_0 0 rfl rfl)
theorem dX1_isYard_1 : decode cX1_isYard 1 = .ok (.iconst 0, 1) := dk_3 (dk_at dksX1_isYard_0 1 rfl rfl)
theorem dX1_isYard_2 : decode cX1_isYard 2 = .ok (.bipush 7, 2) := dk_16 7 (dk_at dksX1_isYard_0 2 rfl rfl)
theorem dX1_isYard_4 : decode cX1_isYard 4 = .ok (.invokestatic 185, 3) := dk_184 0 185 (dk_at dksX1_isYard_0 4 rfl rfl)
theorem dX1_isYard_7 : decode cX1_isYard 7 = .ok (.ireturn, 1) := dk_172 (dk_at dksX1_isYard_0 7 rfl rfl)
abbrev cX1_setWay : ByteArray := prog_8_method_20_code
def yX1_setWay : MethodName := ⟨RX1, "setWay", "(IIIIII)V"⟩
def dkwX1_setWay_1 : List UInt8 := [79, 42, 180, 0, 38, 21, 7, 21, 5, 79, 42, 180, 0, 41, 21, 7, 21, 6, 79, 177]
abbrev dktX1_setWay_1 : List UInt8 := dkwX1_setWay_1 ++ []
def dkwX1_setWay_0 : List UInt8 := [16, 8, 27, 104, 28, 96, 54, 7, 42, 180, 0, 32, 21, 7, 29, 79, 42, 180, 0, 35, 21, 7, 21, 4]
abbrev dktX1_setWay_0 : List UInt8 := dkwX1_setWay_0 ++ dktX1_setWay_1
theorem dksX1_setWay_0 : cX1_setWay.data.toList.drop 0 = dktX1_setWay_0 := by decide +kernel
theorem dksX1_setWay_1 : cX1_setWay.data.toList.drop 24 = dktX1_setWay_1 := dk_seg dksX1_setWay_0 24 rfl rfl
theorem dX1_setWay_0 : decode cX1_setWay 0 = .ok (.bipush 8, 2) := dk_16 8 (dk_at dksX1_setWay_0 0 rfl rfl)
theorem dX1_setWay_2 : decode cX1_setWay 2 = .ok (.iload_n 1, 1) := dk_27 (dk_at dksX1_setWay_0 2 rfl rfl)
theorem dX1_setWay_3 : decode cX1_setWay 3 = .ok (.imul, 1) := dk_104 (dk_at dksX1_setWay_0 3 rfl rfl)
theorem dX1_setWay_4 : decode cX1_setWay 4 = .ok (.iload_n 2, 1) := dk_28 (dk_at dksX1_setWay_0 4 rfl rfl)
theorem dX1_setWay_5 : decode cX1_setWay 5 = .ok (.iadd, 1) := dk_96 (dk_at dksX1_setWay_0 5 rfl rfl)
theorem dX1_setWay_6 : decode cX1_setWay 6 = .ok (.istore 7, 2) := dk_54 7 (dk_at dksX1_setWay_0 6 rfl rfl)
theorem dX1_setWay_8 : decode cX1_setWay 8 = .ok (.aload_n 0, 1) := dk_42 (dk_at dksX1_setWay_0 8 rfl rfl)
theorem dX1_setWay_9 : decode cX1_setWay 9 = .ok (.getfield 32, 3) := dk_180 0 32 (dk_at dksX1_setWay_0 9 rfl rfl)
theorem dX1_setWay_12 : decode cX1_setWay 12 = .ok (.iload 7, 2) := dk_21 7 (dk_at dksX1_setWay_0 12 rfl rfl)
theorem dX1_setWay_14 : decode cX1_setWay 14 = .ok (.iload_n 3, 1) := dk_29 (dk_at dksX1_setWay_0 14 rfl rfl)
theorem dX1_setWay_15 : decode cX1_setWay 15 = .ok (.iastore, 1) := dk_79 (dk_at dksX1_setWay_0 15 rfl rfl)
theorem dX1_setWay_16 : decode cX1_setWay 16 = .ok (.aload_n 0, 1) := dk_42 (dk_at dksX1_setWay_0 16 rfl rfl)
theorem dX1_setWay_17 : decode cX1_setWay 17 = .ok (.getfield 35, 3) := dk_180 0 35 (dk_at dksX1_setWay_0 17 rfl rfl)
theorem dX1_setWay_20 : decode cX1_setWay 20 = .ok (.iload 7, 2) := dk_21 7 (dk_at dksX1_setWay_0 20 rfl rfl)
theorem dX1_setWay_22 : decode cX1_setWay 22 = .ok (.iload 4, 2) := dk_21 4 (dk_at dksX1_setWay_0 22 rfl rfl)
theorem dX1_setWay_24 : decode cX1_setWay 24 = .ok (.iastore, 1) := dk_79 (dk_at dksX1_setWay_1 0 rfl rfl)
theorem dX1_setWay_25 : decode cX1_setWay 25 = .ok (.aload_n 0, 1) := dk_42 (dk_at dksX1_setWay_1 1 rfl rfl)
theorem dX1_setWay_26 : decode cX1_setWay 26 = .ok (.getfield 38, 3) := dk_180 0 38 (dk_at dksX1_setWay_1 2 rfl rfl)
theorem dX1_setWay_29 : decode cX1_setWay 29 = .ok (.iload 7, 2) := dk_21 7 (dk_at dksX1_setWay_1 5 rfl rfl)
theorem dX1_setWay_31 : decode cX1_setWay 31 = .ok (.iload 5, 2) := dk_21 5 (dk_at dksX1_setWay_1 7 rfl rfl)
theorem dX1_setWay_33 : decode cX1_setWay 33 = .ok (.iastore, 1) := dk_79 (dk_at dksX1_setWay_1 9 rfl rfl)
theorem dX1_setWay_34 : decode cX1_setWay 34 = .ok (.aload_n 0, 1) := dk_42 (dk_at dksX1_setWay_1 10 rfl rfl)
theorem dX1_setWay_35 : decode cX1_setWay 35 = .ok (.getfield 41, 3) := dk_180 0 41 (dk_at dksX1_setWay_1 11 rfl rfl)
theorem dX1_setWay_38 : decode cX1_setWay 38 = .ok (.iload 7, 2) := dk_21 7 (dk_at dksX1_setWay_1 14 rfl rfl)
theorem dX1_setWay_40 : decode cX1_setWay 40 = .ok (.iload 6, 2) := dk_21 6 (dk_at dksX1_setWay_1 16 rfl rfl)
theorem dX1_setWay_42 : decode cX1_setWay 42 = .ok (.iastore, 1) := dk_79 (dk_at dksX1_setWay_1 18 rfl rfl)
theorem dX1_setWay_43 : decode cX1_setWay 43 = .ok (.return_, 1) := dk_177 (dk_at dksX1_setWay_1 19 rfl rfl)
abbrev cX1_ferry : ByteArray := prog_8_method_22_code
def yX1_ferry : MethodName := ⟨RX1, "ferry", "(IIII)I"⟩
def dkwX1_ferry_4 : List UInt8 := [180, 0, 32, 21, 5, 46, 42, 180, 0, 35, 21, 5, 46, 29, 21, 4, 182, 0, 213, 4, 172]
abbrev dktX1_ferry_4 : List UInt8 := dkwX1_ferry_4 ++ []
def dkwX1_ferry_3 : List UInt8 := [180, 0, 32, 21, 5, 46, 42, 180, 0, 35, 21, 5, 46, 29, 21, 4, 182, 0, 213, 42, 28, 27, 42]
abbrev dktX1_ferry_3 : List UInt8 := dkwX1_ferry_3 ++ dktX1_ferry_4
def dkwX1_ferry_2 : List UInt8 := [54, 5, 42, 180, 0, 32, 21, 5, 46, 154, 0, 9, 42, 4, 182, 0, 193, 172, 42, 27, 28, 42]
abbrev dktX1_ferry_2 : List UInt8 := dkwX1_ferry_2 ++ dktX1_ferry_3
def dkwX1_ferry_1 : List UInt8 := [153, 0, 15, 21, 4, 3, 29, 4, 100, 184, 0, 185, 154, 0, 5, 2, 172, 16, 8, 27, 104, 28, 96]
abbrev dktX1_ferry_1 : List UInt8 := dkwX1_ferry_1 ++ dktX1_ferry_2
def dkwX1_ferry_0 : List UInt8 := [27, 184, 0, 210, 153, 0, 33, 28, 184, 0, 210, 153, 0, 26, 29, 4, 17, 5, 160, 184, 0, 185]
abbrev dktX1_ferry_0 : List UInt8 := dkwX1_ferry_0 ++ dktX1_ferry_1
theorem dksX1_ferry_0 : cX1_ferry.data.toList.drop 0 = dktX1_ferry_0 := by decide +kernel
theorem dksX1_ferry_1 : cX1_ferry.data.toList.drop 22 = dktX1_ferry_1 := dk_seg dksX1_ferry_0 22 rfl rfl
theorem dksX1_ferry_2 : cX1_ferry.data.toList.drop 45 = dktX1_ferry_2 := dk_seg dksX1_ferry_1 23 rfl rfl
theorem dksX1_ferry_3 : cX1_ferry.data.toList.drop 67 = dktX1_ferry_3 := dk_seg dksX1_ferry_2 22 rfl rfl
theorem dksX1_ferry_4 : cX1_ferry.data.toList.drop 90 = dktX1_ferry_4 := dk_seg dksX1_ferry_3 23 rfl rfl
theorem dX1_ferry_0 : decode cX1_ferry 0 = .ok (.iload_n 1, 1) := dk_27 (dk_at dksX1_ferry_0 0 rfl rfl)
theorem dX1_ferry_1 : decode cX1_ferry 1 = .ok (.invokestatic 210, 3) := dk_184 0 210 (dk_at dksX1_ferry_0 1 rfl rfl)
theorem dX1_ferry_4 : decode cX1_ferry 4 = .ok (.ifCond .eq 33, 3) := dk_153 0 33 (dk_at dksX1_ferry_0 4 rfl rfl)
theorem dX1_ferry_7 : decode cX1_ferry 7 = .ok (.iload_n 2, 1) := dk_28 (dk_at dksX1_ferry_0 7 rfl rfl)
theorem dX1_ferry_8 : decode cX1_ferry 8 = .ok (.invokestatic 210, 3) := dk_184 0 210 (dk_at dksX1_ferry_0 8 rfl rfl)
theorem dX1_ferry_11 : decode cX1_ferry 11 = .ok (.ifCond .eq 26, 3) := dk_153 0 26 (dk_at dksX1_ferry_0 11 rfl rfl)
theorem dX1_ferry_14 : decode cX1_ferry 14 = .ok (.iload_n 3, 1) := dk_29 (dk_at dksX1_ferry_0 14 rfl rfl)
theorem dX1_ferry_15 : decode cX1_ferry 15 = .ok (.iconst 1, 1) := dk_4 (dk_at dksX1_ferry_0 15 rfl rfl)
theorem dX1_ferry_16 : decode cX1_ferry 16 = .ok (.sipush 1440, 3) := dk_17 5 160 (dk_at dksX1_ferry_0 16 rfl rfl)
theorem dX1_ferry_19 : decode cX1_ferry 19 = .ok (.invokestatic 185, 3) := dk_184 0 185 (dk_at dksX1_ferry_0 19 rfl rfl)
theorem dX1_ferry_22 : decode cX1_ferry 22 = .ok (.ifCond .eq 15, 3) := dk_153 0 15 (dk_at dksX1_ferry_1 0 rfl rfl)
theorem dX1_ferry_25 : decode cX1_ferry 25 = .ok (.iload 4, 2) := dk_21 4 (dk_at dksX1_ferry_1 3 rfl rfl)
theorem dX1_ferry_27 : decode cX1_ferry 27 = .ok (.iconst 0, 1) := dk_3 (dk_at dksX1_ferry_1 5 rfl rfl)
theorem dX1_ferry_28 : decode cX1_ferry 28 = .ok (.iload_n 3, 1) := dk_29 (dk_at dksX1_ferry_1 6 rfl rfl)
theorem dX1_ferry_29 : decode cX1_ferry 29 = .ok (.iconst 1, 1) := dk_4 (dk_at dksX1_ferry_1 7 rfl rfl)
theorem dX1_ferry_30 : decode cX1_ferry 30 = .ok (.isub, 1) := dk_100 (dk_at dksX1_ferry_1 8 rfl rfl)
theorem dX1_ferry_31 : decode cX1_ferry 31 = .ok (.invokestatic 185, 3) := dk_184 0 185 (dk_at dksX1_ferry_1 9 rfl rfl)
theorem dX1_ferry_34 : decode cX1_ferry 34 = .ok (.ifCond .ne 5, 3) := dk_154 0 5 (dk_at dksX1_ferry_1 12 rfl rfl)
theorem dX1_ferry_37 : decode cX1_ferry 37 = .ok (.iconst (-1), 1) := dk_2 (dk_at dksX1_ferry_1 15 rfl rfl)
theorem dX1_ferry_38 : decode cX1_ferry 38 = .ok (.ireturn, 1) := dk_172 (dk_at dksX1_ferry_1 16 rfl rfl)
theorem dX1_ferry_39 : decode cX1_ferry 39 = .ok (.bipush 8, 2) := dk_16 8 (dk_at dksX1_ferry_1 17 rfl rfl)
theorem dX1_ferry_41 : decode cX1_ferry 41 = .ok (.iload_n 1, 1) := dk_27 (dk_at dksX1_ferry_1 19 rfl rfl)
theorem dX1_ferry_42 : decode cX1_ferry 42 = .ok (.imul, 1) := dk_104 (dk_at dksX1_ferry_1 20 rfl rfl)
theorem dX1_ferry_43 : decode cX1_ferry 43 = .ok (.iload_n 2, 1) := dk_28 (dk_at dksX1_ferry_1 21 rfl rfl)
theorem dX1_ferry_44 : decode cX1_ferry 44 = .ok (.iadd, 1) := dk_96 (dk_at dksX1_ferry_1 22 rfl rfl)
theorem dX1_ferry_45 : decode cX1_ferry 45 = .ok (.istore 5, 2) := dk_54 5 (dk_at dksX1_ferry_2 0 rfl rfl)
theorem dX1_ferry_47 : decode cX1_ferry 47 = .ok (.aload_n 0, 1) := dk_42 (dk_at dksX1_ferry_2 2 rfl rfl)
theorem dX1_ferry_48 : decode cX1_ferry 48 = .ok (.getfield 32, 3) := dk_180 0 32 (dk_at dksX1_ferry_2 3 rfl rfl)
theorem dX1_ferry_51 : decode cX1_ferry 51 = .ok (.iload 5, 2) := dk_21 5 (dk_at dksX1_ferry_2 6 rfl rfl)
theorem dX1_ferry_53 : decode cX1_ferry 53 = .ok (.iaload, 1) := dk_46 (dk_at dksX1_ferry_2 8 rfl rfl)
theorem dX1_ferry_54 : decode cX1_ferry 54 = .ok (.ifCond .ne 9, 3) := dk_154 0 9 (dk_at dksX1_ferry_2 9 rfl rfl)
theorem dX1_ferry_57 : decode cX1_ferry 57 = .ok (.aload_n 0, 1) := dk_42 (dk_at dksX1_ferry_2 12 rfl rfl)
theorem dX1_ferry_58 : decode cX1_ferry 58 = .ok (.iconst 1, 1) := dk_4 (dk_at dksX1_ferry_2 13 rfl rfl)
theorem dX1_ferry_59 : decode cX1_ferry 59 = .ok (.invokevirtual 193, 3) := dk_182 0 193 (dk_at dksX1_ferry_2 14 rfl rfl)
theorem dX1_ferry_62 : decode cX1_ferry 62 = .ok (.ireturn, 1) := dk_172 (dk_at dksX1_ferry_2 17 rfl rfl)
theorem dX1_ferry_63 : decode cX1_ferry 63 = .ok (.aload_n 0, 1) := dk_42 (dk_at dksX1_ferry_2 18 rfl rfl)
theorem dX1_ferry_64 : decode cX1_ferry 64 = .ok (.iload_n 1, 1) := dk_27 (dk_at dksX1_ferry_2 19 rfl rfl)
theorem dX1_ferry_65 : decode cX1_ferry 65 = .ok (.iload_n 2, 1) := dk_28 (dk_at dksX1_ferry_2 20 rfl rfl)
theorem dX1_ferry_66 : decode cX1_ferry 66 = .ok (.aload_n 0, 1) := dk_42 (dk_at dksX1_ferry_2 21 rfl rfl)
theorem dX1_ferry_67 : decode cX1_ferry 67 = .ok (.getfield 32, 3) := dk_180 0 32 (dk_at dksX1_ferry_3 0 rfl rfl)
theorem dX1_ferry_70 : decode cX1_ferry 70 = .ok (.iload 5, 2) := dk_21 5 (dk_at dksX1_ferry_3 3 rfl rfl)
theorem dX1_ferry_72 : decode cX1_ferry 72 = .ok (.iaload, 1) := dk_46 (dk_at dksX1_ferry_3 5 rfl rfl)
theorem dX1_ferry_73 : decode cX1_ferry 73 = .ok (.aload_n 0, 1) := dk_42 (dk_at dksX1_ferry_3 6 rfl rfl)
theorem dX1_ferry_74 : decode cX1_ferry 74 = .ok (.getfield 35, 3) := dk_180 0 35 (dk_at dksX1_ferry_3 7 rfl rfl)
theorem dX1_ferry_77 : decode cX1_ferry 77 = .ok (.iload 5, 2) := dk_21 5 (dk_at dksX1_ferry_3 10 rfl rfl)
theorem dX1_ferry_79 : decode cX1_ferry 79 = .ok (.iaload, 1) := dk_46 (dk_at dksX1_ferry_3 12 rfl rfl)
theorem dX1_ferry_80 : decode cX1_ferry 80 = .ok (.iload_n 3, 1) := dk_29 (dk_at dksX1_ferry_3 13 rfl rfl)
theorem dX1_ferry_81 : decode cX1_ferry 81 = .ok (.iload 4, 2) := dk_21 4 (dk_at dksX1_ferry_3 14 rfl rfl)
theorem dX1_ferry_83 : decode cX1_ferry 83 = .ok (.invokevirtual 213, 3) := dk_182 0 213 (dk_at dksX1_ferry_3 16 rfl rfl)
theorem dX1_ferry_86 : decode cX1_ferry 86 = .ok (.aload_n 0, 1) := dk_42 (dk_at dksX1_ferry_3 19 rfl rfl)
theorem dX1_ferry_87 : decode cX1_ferry 87 = .ok (.iload_n 2, 1) := dk_28 (dk_at dksX1_ferry_3 20 rfl rfl)
theorem dX1_ferry_88 : decode cX1_ferry 88 = .ok (.iload_n 1, 1) := dk_27 (dk_at dksX1_ferry_3 21 rfl rfl)
theorem dX1_ferry_89 : decode cX1_ferry 89 = .ok (.aload_n 0, 1) := dk_42 (dk_at dksX1_ferry_3 22 rfl rfl)
theorem dX1_ferry_90 : decode cX1_ferry 90 = .ok (.getfield 32, 3) := dk_180 0 32 (dk_at dksX1_ferry_4 0 rfl rfl)
theorem dX1_ferry_93 : decode cX1_ferry 93 = .ok (.iload 5, 2) := dk_21 5 (dk_at dksX1_ferry_4 3 rfl rfl)
theorem dX1_ferry_95 : decode cX1_ferry 95 = .ok (.iaload, 1) := dk_46 (dk_at dksX1_ferry_4 5 rfl rfl)
theorem dX1_ferry_96 : decode cX1_ferry 96 = .ok (.aload_n 0, 1) := dk_42 (dk_at dksX1_ferry_4 6 rfl rfl)
theorem dX1_ferry_97 : decode cX1_ferry 97 = .ok (.getfield 35, 3) := dk_180 0 35 (dk_at dksX1_ferry_4 7 rfl rfl)
theorem dX1_ferry_100 : decode cX1_ferry 100 = .ok (.iload 5, 2) := dk_21 5 (dk_at dksX1_ferry_4 10 rfl rfl)
theorem dX1_ferry_102 : decode cX1_ferry 102 = .ok (.iaload, 1) := dk_46 (dk_at dksX1_ferry_4 12 rfl rfl)
theorem dX1_ferry_103 : decode cX1_ferry 103 = .ok (.iload_n 3, 1) := dk_29 (dk_at dksX1_ferry_4 13 rfl rfl)
theorem dX1_ferry_104 : decode cX1_ferry 104 = .ok (.iload 4, 2) := dk_21 4 (dk_at dksX1_ferry_4 14 rfl rfl)
theorem dX1_ferry_106 : decode cX1_ferry 106 = .ok (.invokevirtual 213, 3) := dk_182 0 213 (dk_at dksX1_ferry_4 16 rfl rfl)
theorem dX1_ferry_109 : decode cX1_ferry 109 = .ok (.iconst 1, 1) := dk_4 (dk_at dksX1_ferry_4 19 rfl rfl)
theorem dX1_ferry_110 : decode cX1_ferry 110 = .ok (.ireturn, 1) := dk_172 (dk_at dksX1_ferry_4 20 rfl rfl)
abbrev cX1_comes : ByteArray := prog_8_method_25_code
def yX1_comes : MethodName := ⟨RX1, "comes", "(III)I"⟩
def dkwX1_comes_2 : List UInt8 := [4, 182, 0, 193, 172]
abbrev dktX1_comes_2 : List UInt8 := dkwX1_comes_2 ++ []
def dkwX1_comes_1 : List UInt8 := [2, 172, 42, 27, 28, 29, 182, 0, 222, 54, 4, 21, 4, 18, 217, 162, 0, 8, 21, 4, 167, 0, 8, 42]
abbrev dktX1_comes_1 : List UInt8 := dkwX1_comes_1 ++ dktX1_comes_2
def dkwX1_comes_0 : List UInt8 := [27, 184, 0, 210, 153, 0, 20, 28, 3, 18, 206, 184, 0, 185, 153, 0, 10, 29, 184, 0, 210, 154, 0, 5]
abbrev dktX1_comes_0 : List UInt8 := dkwX1_comes_0 ++ dktX1_comes_1
theorem dksX1_comes_0 : cX1_comes.data.toList.drop 0 = dktX1_comes_0 := by decide +kernel
theorem dksX1_comes_1 : cX1_comes.data.toList.drop 24 = dktX1_comes_1 := dk_seg dksX1_comes_0 24 rfl rfl
theorem dksX1_comes_2 : cX1_comes.data.toList.drop 48 = dktX1_comes_2 := dk_seg dksX1_comes_1 24 rfl rfl
theorem dX1_comes_0 : decode cX1_comes 0 = .ok (.iload_n 1, 1) := dk_27 (dk_at dksX1_comes_0 0 rfl rfl)
theorem dX1_comes_1 : decode cX1_comes 1 = .ok (.invokestatic 210, 3) := dk_184 0 210 (dk_at dksX1_comes_0 1 rfl rfl)
theorem dX1_comes_4 : decode cX1_comes 4 = .ok (.ifCond .eq 20, 3) := dk_153 0 20 (dk_at dksX1_comes_0 4 rfl rfl)
theorem dX1_comes_7 : decode cX1_comes 7 = .ok (.iload_n 2, 1) := dk_28 (dk_at dksX1_comes_0 7 rfl rfl)
theorem dX1_comes_8 : decode cX1_comes 8 = .ok (.iconst 0, 1) := dk_3 (dk_at dksX1_comes_0 8 rfl rfl)
theorem dX1_comes_9 : decode cX1_comes 9 = .ok (.ldc 206, 2) := dk_18 206 (dk_at dksX1_comes_0 9 rfl rfl)
theorem dX1_comes_11 : decode cX1_comes 11 = .ok (.invokestatic 185, 3) := dk_184 0 185 (dk_at dksX1_comes_0 11 rfl rfl)
theorem dX1_comes_14 : decode cX1_comes 14 = .ok (.ifCond .eq 10, 3) := dk_153 0 10 (dk_at dksX1_comes_0 14 rfl rfl)
theorem dX1_comes_17 : decode cX1_comes 17 = .ok (.iload_n 3, 1) := dk_29 (dk_at dksX1_comes_0 17 rfl rfl)
theorem dX1_comes_18 : decode cX1_comes 18 = .ok (.invokestatic 210, 3) := dk_184 0 210 (dk_at dksX1_comes_0 18 rfl rfl)
theorem dX1_comes_21 : decode cX1_comes 21 = .ok (.ifCond .ne 5, 3) := dk_154 0 5 (dk_at dksX1_comes_0 21 rfl rfl)
theorem dX1_comes_24 : decode cX1_comes 24 = .ok (.iconst (-1), 1) := dk_2 (dk_at dksX1_comes_1 0 rfl rfl)
theorem dX1_comes_25 : decode cX1_comes 25 = .ok (.ireturn, 1) := dk_172 (dk_at dksX1_comes_1 1 rfl rfl)
theorem dX1_comes_26 : decode cX1_comes 26 = .ok (.aload_n 0, 1) := dk_42 (dk_at dksX1_comes_1 2 rfl rfl)
theorem dX1_comes_27 : decode cX1_comes 27 = .ok (.iload_n 1, 1) := dk_27 (dk_at dksX1_comes_1 3 rfl rfl)
theorem dX1_comes_28 : decode cX1_comes 28 = .ok (.iload_n 2, 1) := dk_28 (dk_at dksX1_comes_1 4 rfl rfl)
theorem dX1_comes_29 : decode cX1_comes 29 = .ok (.iload_n 3, 1) := dk_29 (dk_at dksX1_comes_1 5 rfl rfl)
theorem dX1_comes_30 : decode cX1_comes 30 = .ok (.invokevirtual 222, 3) := dk_182 0 222 (dk_at dksX1_comes_1 6 rfl rfl)
theorem dX1_comes_33 : decode cX1_comes 33 = .ok (.istore 4, 2) := dk_54 4 (dk_at dksX1_comes_1 9 rfl rfl)
theorem dX1_comes_35 : decode cX1_comes 35 = .ok (.iload 4, 2) := dk_21 4 (dk_at dksX1_comes_1 11 rfl rfl)
theorem dX1_comes_37 : decode cX1_comes 37 = .ok (.ldc 217, 2) := dk_18 217 (dk_at dksX1_comes_1 13 rfl rfl)
theorem dX1_comes_39 : decode cX1_comes 39 = .ok (.if_icmp .ge 8, 3) := dk_162 0 8 (dk_at dksX1_comes_1 15 rfl rfl)
theorem dX1_comes_42 : decode cX1_comes 42 = .ok (.iload 4, 2) := dk_21 4 (dk_at dksX1_comes_1 18 rfl rfl)
theorem dX1_comes_44 : decode cX1_comes 44 = .ok (.goto 8, 3) := dk_167 0 8 (dk_at dksX1_comes_1 20 rfl rfl)
theorem dX1_comes_47 : decode cX1_comes 47 = .ok (.aload_n 0, 1) := dk_42 (dk_at dksX1_comes_1 23 rfl rfl)
theorem dX1_comes_48 : decode cX1_comes 48 = .ok (.iconst 1, 1) := dk_4 (dk_at dksX1_comes_2 0 rfl rfl)
theorem dX1_comes_49 : decode cX1_comes 49 = .ok (.invokevirtual 193, 3) := dk_182 0 193 (dk_at dksX1_comes_2 1 rfl rfl)
theorem dX1_comes_52 : decode cX1_comes 52 = .ok (.ireturn, 1) := dk_172 (dk_at dksX1_comes_2 4 rfl rfl)
abbrev cX1_comesTo : ByteArray := prog_8_method_24_code
def yX1_comesTo : MethodName := ⟨RX1, "comesTo", "(III)I"⟩
def dkwX1_comesTo_6 : List UInt8 := [54, 4, 132, 6, 1, 167, 255, 168, 132, 5, 1, 167, 255, 152, 167, 255, 138, 42, 180, 0, 44, 29, 46, 172]
abbrev dktX1_comesTo_6 : List UInt8 := dkwX1_comesTo_6 ++ []
def dkwX1_comesTo_5 : List UInt8 := [162, 0, 26, 42, 180, 0, 44, 21, 6, 42, 21, 7, 42, 180, 0, 44, 21, 5, 46, 182, 0, 218, 79, 4]
abbrev dktX1_comesTo_5 : List UInt8 := dkwX1_comesTo_5 ++ dktX1_comesTo_6
def dkwX1_comesTo_4 : List UInt8 := [162, 0, 49, 42, 21, 7, 42, 180, 0, 44, 21, 5, 46, 182, 0, 218, 42, 180, 0, 44, 21, 6, 46]
abbrev dktX1_comesTo_4 : List UInt8 := dkwX1_comesTo_4 ++ dktX1_comesTo_5
def dkwX1_comesTo_3 : List UInt8 := [21, 6, 96, 54, 7, 42, 180, 0, 32, 21, 7, 46, 158, 0, 61, 42, 180, 0, 44, 21, 5, 46, 18, 217]
abbrev dktX1_comesTo_3 : List UInt8 := dkwX1_comesTo_3 ++ dktX1_comesTo_4
def dkwX1_comesTo_2 : List UInt8 := [54, 5, 21, 5, 16, 8, 162, 0, 103, 3, 54, 6, 21, 6, 16, 8, 162, 0, 87, 16, 8, 21, 5, 104]
abbrev dktX1_comesTo_2 : List UInt8 := dkwX1_comesTo_2 ++ dktX1_comesTo_3
def dkwX1_comesTo_1 : List UInt8 := [167, 0, 5, 18, 217, 79, 132, 4, 1, 167, 255, 227, 4, 54, 4, 21, 4, 153, 0, 119, 3, 54, 4, 3]
abbrev dktX1_comesTo_1 : List UInt8 := dkwX1_comesTo_1 ++ dktX1_comesTo_2
def dkwX1_comesTo_0 : List UInt8 := [3, 54, 4, 21, 4, 16, 8, 162, 0, 28, 42, 180, 0, 44, 21, 4, 21, 4, 27, 160, 0, 7, 28]
abbrev dktX1_comesTo_0 : List UInt8 := dkwX1_comesTo_0 ++ dktX1_comesTo_1
theorem dksX1_comesTo_0 : cX1_comesTo.data.toList.drop 0 = dktX1_comesTo_0 := by decide +kernel
theorem dksX1_comesTo_1 : cX1_comesTo.data.toList.drop 23 = dktX1_comesTo_1 := dk_seg dksX1_comesTo_0 23 rfl rfl
theorem dksX1_comesTo_2 : cX1_comesTo.data.toList.drop 47 = dktX1_comesTo_2 := dk_seg dksX1_comesTo_1 24 rfl rfl
theorem dksX1_comesTo_3 : cX1_comesTo.data.toList.drop 71 = dktX1_comesTo_3 := dk_seg dksX1_comesTo_2 24 rfl rfl
theorem dksX1_comesTo_4 : cX1_comesTo.data.toList.drop 95 = dktX1_comesTo_4 := dk_seg dksX1_comesTo_3 24 rfl rfl
theorem dksX1_comesTo_5 : cX1_comesTo.data.toList.drop 118 = dktX1_comesTo_5 := dk_seg dksX1_comesTo_4 23 rfl rfl
theorem dksX1_comesTo_6 : cX1_comesTo.data.toList.drop 142 = dktX1_comesTo_6 := dk_seg dksX1_comesTo_5 24 rfl rfl
theorem dX1_comesTo_0 : decode cX1_comesTo 0 = .ok (.iconst 0, 1) := dk_3 (dk_at dksX1_comesTo_0 0 rfl rfl)
theorem dX1_comesTo_1 : decode cX1_comesTo 1 = .ok (.istore 4, 2) := dk_54 4 (dk_at dksX1_comesTo_0 1 rfl rfl)
theorem dX1_comesTo_3 : decode cX1_comesTo 3 = .ok (.iload 4, 2) := dk_21 4 (dk_at dksX1_comesTo_0 3 rfl rfl)
theorem dX1_comesTo_5 : decode cX1_comesTo 5 = .ok (.bipush 8, 2) := dk_16 8 (dk_at dksX1_comesTo_0 5 rfl rfl)
theorem dX1_comesTo_7 : decode cX1_comesTo 7 = .ok (.if_icmp .ge 28, 3) := dk_162 0 28 (dk_at dksX1_comesTo_0 7 rfl rfl)
theorem dX1_comesTo_10 : decode cX1_comesTo 10 = .ok (.aload_n 0, 1) := dk_42 (dk_at dksX1_comesTo_0 10 rfl rfl)
theorem dX1_comesTo_11 : decode cX1_comesTo 11 = .ok (.getfield 44, 3) := dk_180 0 44 (dk_at dksX1_comesTo_0 11 rfl rfl)
theorem dX1_comesTo_14 : decode cX1_comesTo 14 = .ok (.iload 4, 2) := dk_21 4 (dk_at dksX1_comesTo_0 14 rfl rfl)
theorem dX1_comesTo_16 : decode cX1_comesTo 16 = .ok (.iload 4, 2) := dk_21 4 (dk_at dksX1_comesTo_0 16 rfl rfl)
theorem dX1_comesTo_18 : decode cX1_comesTo 18 = .ok (.iload_n 1, 1) := dk_27 (dk_at dksX1_comesTo_0 18 rfl rfl)
theorem dX1_comesTo_19 : decode cX1_comesTo 19 = .ok (.if_icmp .ne 7, 3) := dk_160 0 7 (dk_at dksX1_comesTo_0 19 rfl rfl)
theorem dX1_comesTo_22 : decode cX1_comesTo 22 = .ok (.iload_n 2, 1) := dk_28 (dk_at dksX1_comesTo_0 22 rfl rfl)
theorem dX1_comesTo_23 : decode cX1_comesTo 23 = .ok (.goto 5, 3) := dk_167 0 5 (dk_at dksX1_comesTo_1 0 rfl rfl)
theorem dX1_comesTo_26 : decode cX1_comesTo 26 = .ok (.ldc 217, 2) := dk_18 217 (dk_at dksX1_comesTo_1 3 rfl rfl)
theorem dX1_comesTo_28 : decode cX1_comesTo 28 = .ok (.iastore, 1) := dk_79 (dk_at dksX1_comesTo_1 5 rfl rfl)
theorem dX1_comesTo_29 : decode cX1_comesTo 29 = .ok (.iinc 4 1, 3) := dk_132 4 1 (dk_at dksX1_comesTo_1 6 rfl rfl)
theorem dX1_comesTo_32 : decode cX1_comesTo 32 = .ok (.goto (-29), 3) := dk_167 255 227 (dk_at dksX1_comesTo_1 9 rfl rfl)
theorem dX1_comesTo_35 : decode cX1_comesTo 35 = .ok (.iconst 1, 1) := dk_4 (dk_at dksX1_comesTo_1 12 rfl rfl)
theorem dX1_comesTo_36 : decode cX1_comesTo 36 = .ok (.istore 4, 2) := dk_54 4 (dk_at dksX1_comesTo_1 13 rfl rfl)
theorem dX1_comesTo_38 : decode cX1_comesTo 38 = .ok (.iload 4, 2) := dk_21 4 (dk_at dksX1_comesTo_1 15 rfl rfl)
theorem dX1_comesTo_40 : decode cX1_comesTo 40 = .ok (.ifCond .eq 119, 3) := dk_153 0 119 (dk_at dksX1_comesTo_1 17 rfl rfl)
theorem dX1_comesTo_43 : decode cX1_comesTo 43 = .ok (.iconst 0, 1) := dk_3 (dk_at dksX1_comesTo_1 20 rfl rfl)
theorem dX1_comesTo_44 : decode cX1_comesTo 44 = .ok (.istore 4, 2) := dk_54 4 (dk_at dksX1_comesTo_1 21 rfl rfl)
theorem dX1_comesTo_46 : decode cX1_comesTo 46 = .ok (.iconst 0, 1) := dk_3 (dk_at dksX1_comesTo_1 23 rfl rfl)
theorem dX1_comesTo_47 : decode cX1_comesTo 47 = .ok (.istore 5, 2) := dk_54 5 (dk_at dksX1_comesTo_2 0 rfl rfl)
theorem dX1_comesTo_49 : decode cX1_comesTo 49 = .ok (.iload 5, 2) := dk_21 5 (dk_at dksX1_comesTo_2 2 rfl rfl)
theorem dX1_comesTo_51 : decode cX1_comesTo 51 = .ok (.bipush 8, 2) := dk_16 8 (dk_at dksX1_comesTo_2 4 rfl rfl)
theorem dX1_comesTo_53 : decode cX1_comesTo 53 = .ok (.if_icmp .ge 103, 3) := dk_162 0 103 (dk_at dksX1_comesTo_2 6 rfl rfl)
theorem dX1_comesTo_56 : decode cX1_comesTo 56 = .ok (.iconst 0, 1) := dk_3 (dk_at dksX1_comesTo_2 9 rfl rfl)
theorem dX1_comesTo_57 : decode cX1_comesTo 57 = .ok (.istore 6, 2) := dk_54 6 (dk_at dksX1_comesTo_2 10 rfl rfl)
theorem dX1_comesTo_59 : decode cX1_comesTo 59 = .ok (.iload 6, 2) := dk_21 6 (dk_at dksX1_comesTo_2 12 rfl rfl)
theorem dX1_comesTo_61 : decode cX1_comesTo 61 = .ok (.bipush 8, 2) := dk_16 8 (dk_at dksX1_comesTo_2 14 rfl rfl)
theorem dX1_comesTo_63 : decode cX1_comesTo 63 = .ok (.if_icmp .ge 87, 3) := dk_162 0 87 (dk_at dksX1_comesTo_2 16 rfl rfl)
theorem dX1_comesTo_66 : decode cX1_comesTo 66 = .ok (.bipush 8, 2) := dk_16 8 (dk_at dksX1_comesTo_2 19 rfl rfl)
theorem dX1_comesTo_68 : decode cX1_comesTo 68 = .ok (.iload 5, 2) := dk_21 5 (dk_at dksX1_comesTo_2 21 rfl rfl)
theorem dX1_comesTo_70 : decode cX1_comesTo 70 = .ok (.imul, 1) := dk_104 (dk_at dksX1_comesTo_2 23 rfl rfl)
theorem dX1_comesTo_71 : decode cX1_comesTo 71 = .ok (.iload 6, 2) := dk_21 6 (dk_at dksX1_comesTo_3 0 rfl rfl)
theorem dX1_comesTo_73 : decode cX1_comesTo 73 = .ok (.iadd, 1) := dk_96 (dk_at dksX1_comesTo_3 2 rfl rfl)
theorem dX1_comesTo_74 : decode cX1_comesTo 74 = .ok (.istore 7, 2) := dk_54 7 (dk_at dksX1_comesTo_3 3 rfl rfl)
theorem dX1_comesTo_76 : decode cX1_comesTo 76 = .ok (.aload_n 0, 1) := dk_42 (dk_at dksX1_comesTo_3 5 rfl rfl)
theorem dX1_comesTo_77 : decode cX1_comesTo 77 = .ok (.getfield 32, 3) := dk_180 0 32 (dk_at dksX1_comesTo_3 6 rfl rfl)
theorem dX1_comesTo_80 : decode cX1_comesTo 80 = .ok (.iload 7, 2) := dk_21 7 (dk_at dksX1_comesTo_3 9 rfl rfl)
theorem dX1_comesTo_82 : decode cX1_comesTo 82 = .ok (.iaload, 1) := dk_46 (dk_at dksX1_comesTo_3 11 rfl rfl)
theorem dX1_comesTo_83 : decode cX1_comesTo 83 = .ok (.ifCond .le 61, 3) := dk_158 0 61 (dk_at dksX1_comesTo_3 12 rfl rfl)
theorem dX1_comesTo_86 : decode cX1_comesTo 86 = .ok (.aload_n 0, 1) := dk_42 (dk_at dksX1_comesTo_3 15 rfl rfl)
theorem dX1_comesTo_87 : decode cX1_comesTo 87 = .ok (.getfield 44, 3) := dk_180 0 44 (dk_at dksX1_comesTo_3 16 rfl rfl)
theorem dX1_comesTo_90 : decode cX1_comesTo 90 = .ok (.iload 5, 2) := dk_21 5 (dk_at dksX1_comesTo_3 19 rfl rfl)
theorem dX1_comesTo_92 : decode cX1_comesTo 92 = .ok (.iaload, 1) := dk_46 (dk_at dksX1_comesTo_3 21 rfl rfl)
theorem dX1_comesTo_93 : decode cX1_comesTo 93 = .ok (.ldc 217, 2) := dk_18 217 (dk_at dksX1_comesTo_3 22 rfl rfl)
theorem dX1_comesTo_95 : decode cX1_comesTo 95 = .ok (.if_icmp .ge 49, 3) := dk_162 0 49 (dk_at dksX1_comesTo_4 0 rfl rfl)
theorem dX1_comesTo_98 : decode cX1_comesTo 98 = .ok (.aload_n 0, 1) := dk_42 (dk_at dksX1_comesTo_4 3 rfl rfl)
theorem dX1_comesTo_99 : decode cX1_comesTo 99 = .ok (.iload 7, 2) := dk_21 7 (dk_at dksX1_comesTo_4 4 rfl rfl)
theorem dX1_comesTo_101 : decode cX1_comesTo 101 = .ok (.aload_n 0, 1) := dk_42 (dk_at dksX1_comesTo_4 6 rfl rfl)
theorem dX1_comesTo_102 : decode cX1_comesTo 102 = .ok (.getfield 44, 3) := dk_180 0 44 (dk_at dksX1_comesTo_4 7 rfl rfl)
theorem dX1_comesTo_105 : decode cX1_comesTo 105 = .ok (.iload 5, 2) := dk_21 5 (dk_at dksX1_comesTo_4 10 rfl rfl)
theorem dX1_comesTo_107 : decode cX1_comesTo 107 = .ok (.iaload, 1) := dk_46 (dk_at dksX1_comesTo_4 12 rfl rfl)
theorem dX1_comesTo_108 : decode cX1_comesTo 108 = .ok (.invokevirtual 218, 3) := dk_182 0 218 (dk_at dksX1_comesTo_4 13 rfl rfl)
theorem dX1_comesTo_111 : decode cX1_comesTo 111 = .ok (.aload_n 0, 1) := dk_42 (dk_at dksX1_comesTo_4 16 rfl rfl)
theorem dX1_comesTo_112 : decode cX1_comesTo 112 = .ok (.getfield 44, 3) := dk_180 0 44 (dk_at dksX1_comesTo_4 17 rfl rfl)
theorem dX1_comesTo_115 : decode cX1_comesTo 115 = .ok (.iload 6, 2) := dk_21 6 (dk_at dksX1_comesTo_4 20 rfl rfl)
theorem dX1_comesTo_117 : decode cX1_comesTo 117 = .ok (.iaload, 1) := dk_46 (dk_at dksX1_comesTo_4 22 rfl rfl)
theorem dX1_comesTo_118 : decode cX1_comesTo 118 = .ok (.if_icmp .ge 26, 3) := dk_162 0 26 (dk_at dksX1_comesTo_5 0 rfl rfl)
theorem dX1_comesTo_121 : decode cX1_comesTo 121 = .ok (.aload_n 0, 1) := dk_42 (dk_at dksX1_comesTo_5 3 rfl rfl)
theorem dX1_comesTo_122 : decode cX1_comesTo 122 = .ok (.getfield 44, 3) := dk_180 0 44 (dk_at dksX1_comesTo_5 4 rfl rfl)
theorem dX1_comesTo_125 : decode cX1_comesTo 125 = .ok (.iload 6, 2) := dk_21 6 (dk_at dksX1_comesTo_5 7 rfl rfl)
theorem dX1_comesTo_127 : decode cX1_comesTo 127 = .ok (.aload_n 0, 1) := dk_42 (dk_at dksX1_comesTo_5 9 rfl rfl)
theorem dX1_comesTo_128 : decode cX1_comesTo 128 = .ok (.iload 7, 2) := dk_21 7 (dk_at dksX1_comesTo_5 10 rfl rfl)
theorem dX1_comesTo_130 : decode cX1_comesTo 130 = .ok (.aload_n 0, 1) := dk_42 (dk_at dksX1_comesTo_5 12 rfl rfl)
theorem dX1_comesTo_131 : decode cX1_comesTo 131 = .ok (.getfield 44, 3) := dk_180 0 44 (dk_at dksX1_comesTo_5 13 rfl rfl)
theorem dX1_comesTo_134 : decode cX1_comesTo 134 = .ok (.iload 5, 2) := dk_21 5 (dk_at dksX1_comesTo_5 16 rfl rfl)
theorem dX1_comesTo_136 : decode cX1_comesTo 136 = .ok (.iaload, 1) := dk_46 (dk_at dksX1_comesTo_5 18 rfl rfl)
theorem dX1_comesTo_137 : decode cX1_comesTo 137 = .ok (.invokevirtual 218, 3) := dk_182 0 218 (dk_at dksX1_comesTo_5 19 rfl rfl)
theorem dX1_comesTo_140 : decode cX1_comesTo 140 = .ok (.iastore, 1) := dk_79 (dk_at dksX1_comesTo_5 22 rfl rfl)
theorem dX1_comesTo_141 : decode cX1_comesTo 141 = .ok (.iconst 1, 1) := dk_4 (dk_at dksX1_comesTo_5 23 rfl rfl)
theorem dX1_comesTo_142 : decode cX1_comesTo 142 = .ok (.istore 4, 2) := dk_54 4 (dk_at dksX1_comesTo_6 0 rfl rfl)
theorem dX1_comesTo_144 : decode cX1_comesTo 144 = .ok (.iinc 6 1, 3) := dk_132 6 1 (dk_at dksX1_comesTo_6 2 rfl rfl)
theorem dX1_comesTo_147 : decode cX1_comesTo 147 = .ok (.goto (-88), 3) := dk_167 255 168 (dk_at dksX1_comesTo_6 5 rfl rfl)
theorem dX1_comesTo_150 : decode cX1_comesTo 150 = .ok (.iinc 5 1, 3) := dk_132 5 1 (dk_at dksX1_comesTo_6 8 rfl rfl)
theorem dX1_comesTo_153 : decode cX1_comesTo 153 = .ok (.goto (-104), 3) := dk_167 255 152 (dk_at dksX1_comesTo_6 11 rfl rfl)
theorem dX1_comesTo_156 : decode cX1_comesTo 156 = .ok (.goto (-118), 3) := dk_167 255 138 (dk_at dksX1_comesTo_6 14 rfl rfl)
theorem dX1_comesTo_159 : decode cX1_comesTo 159 = .ok (.aload_n 0, 1) := dk_42 (dk_at dksX1_comesTo_6 17 rfl rfl)
theorem dX1_comesTo_160 : decode cX1_comesTo 160 = .ok (.getfield 44, 3) := dk_180 0 44 (dk_at dksX1_comesTo_6 18 rfl rfl)
theorem dX1_comesTo_163 : decode cX1_comesTo 163 = .ok (.iload_n 3, 1) := dk_29 (dk_at dksX1_comesTo_6 21 rfl rfl)
theorem dX1_comesTo_164 : decode cX1_comesTo 164 = .ok (.iaload, 1) := dk_46 (dk_at dksX1_comesTo_6 22 rfl rfl)
theorem dX1_comesTo_165 : decode cX1_comesTo 165 = .ok (.ireturn, 1) := dk_172 (dk_at dksX1_comesTo_6 23 rfl rfl)
abbrev cX1_beyond : ByteArray := prog_8_method_23_code
def yX1_beyond : MethodName := ⟨RX1, "beyond", "(II)I"⟩
def dkwX1_beyond_3 : List UInt8 := [62, 29, 42, 180, 0, 32, 27, 46, 96, 172]
abbrev dktX1_beyond_3 : List UInt8 := dkwX1_beyond_3 ++ []
def dkwX1_beyond_2 : List UInt8 := [180, 0, 41, 27, 46, 167, 0, 19, 42, 180, 0, 41, 27, 46, 21, 4, 42, 180, 0, 38, 27, 46, 104, 96]
abbrev dktX1_beyond_2 : List UInt8 := dkwX1_beyond_2 ++ dktX1_beyond_3
def dkwX1_beyond_1 : List UInt8 := [46, 96, 4, 100, 42, 180, 0, 38, 27, 46, 108, 54, 4, 28, 42, 180, 0, 41, 27, 46, 163, 0, 12, 42]
abbrev dktX1_beyond_1 : List UInt8 := dkwX1_beyond_1 ++ dktX1_beyond_2
def dkwX1_beyond_0 : List UInt8 := [28, 62, 42, 180, 0, 38, 27, 46, 158, 0, 65, 28, 42, 180, 0, 41, 27, 46, 100, 42, 180, 0, 38, 27]
abbrev dktX1_beyond_0 : List UInt8 := dkwX1_beyond_0 ++ dktX1_beyond_1
theorem dksX1_beyond_0 : cX1_beyond.data.toList.drop 0 = dktX1_beyond_0 := by decide +kernel
theorem dksX1_beyond_1 : cX1_beyond.data.toList.drop 24 = dktX1_beyond_1 := dk_seg dksX1_beyond_0 24 rfl rfl
theorem dksX1_beyond_2 : cX1_beyond.data.toList.drop 48 = dktX1_beyond_2 := dk_seg dksX1_beyond_1 24 rfl rfl
theorem dksX1_beyond_3 : cX1_beyond.data.toList.drop 72 = dktX1_beyond_3 := dk_seg dksX1_beyond_2 24 rfl rfl
theorem dX1_beyond_0 : decode cX1_beyond 0 = .ok (.iload_n 2, 1) := dk_28 (dk_at dksX1_beyond_0 0 rfl rfl)
theorem dX1_beyond_1 : decode cX1_beyond 1 = .ok (.istore_n 3, 1) := dk_62 (dk_at dksX1_beyond_0 1 rfl rfl)
theorem dX1_beyond_2 : decode cX1_beyond 2 = .ok (.aload_n 0, 1) := dk_42 (dk_at dksX1_beyond_0 2 rfl rfl)
theorem dX1_beyond_3 : decode cX1_beyond 3 = .ok (.getfield 38, 3) := dk_180 0 38 (dk_at dksX1_beyond_0 3 rfl rfl)
theorem dX1_beyond_6 : decode cX1_beyond 6 = .ok (.iload_n 1, 1) := dk_27 (dk_at dksX1_beyond_0 6 rfl rfl)
theorem dX1_beyond_7 : decode cX1_beyond 7 = .ok (.iaload, 1) := dk_46 (dk_at dksX1_beyond_0 7 rfl rfl)
theorem dX1_beyond_8 : decode cX1_beyond 8 = .ok (.ifCond .le 65, 3) := dk_158 0 65 (dk_at dksX1_beyond_0 8 rfl rfl)
theorem dX1_beyond_11 : decode cX1_beyond 11 = .ok (.iload_n 2, 1) := dk_28 (dk_at dksX1_beyond_0 11 rfl rfl)
theorem dX1_beyond_12 : decode cX1_beyond 12 = .ok (.aload_n 0, 1) := dk_42 (dk_at dksX1_beyond_0 12 rfl rfl)
theorem dX1_beyond_13 : decode cX1_beyond 13 = .ok (.getfield 41, 3) := dk_180 0 41 (dk_at dksX1_beyond_0 13 rfl rfl)
theorem dX1_beyond_16 : decode cX1_beyond 16 = .ok (.iload_n 1, 1) := dk_27 (dk_at dksX1_beyond_0 16 rfl rfl)
theorem dX1_beyond_17 : decode cX1_beyond 17 = .ok (.iaload, 1) := dk_46 (dk_at dksX1_beyond_0 17 rfl rfl)
theorem dX1_beyond_18 : decode cX1_beyond 18 = .ok (.isub, 1) := dk_100 (dk_at dksX1_beyond_0 18 rfl rfl)
theorem dX1_beyond_19 : decode cX1_beyond 19 = .ok (.aload_n 0, 1) := dk_42 (dk_at dksX1_beyond_0 19 rfl rfl)
theorem dX1_beyond_20 : decode cX1_beyond 20 = .ok (.getfield 38, 3) := dk_180 0 38 (dk_at dksX1_beyond_0 20 rfl rfl)
theorem dX1_beyond_23 : decode cX1_beyond 23 = .ok (.iload_n 1, 1) := dk_27 (dk_at dksX1_beyond_0 23 rfl rfl)
theorem dX1_beyond_24 : decode cX1_beyond 24 = .ok (.iaload, 1) := dk_46 (dk_at dksX1_beyond_1 0 rfl rfl)
theorem dX1_beyond_25 : decode cX1_beyond 25 = .ok (.iadd, 1) := dk_96 (dk_at dksX1_beyond_1 1 rfl rfl)
theorem dX1_beyond_26 : decode cX1_beyond 26 = .ok (.iconst 1, 1) := dk_4 (dk_at dksX1_beyond_1 2 rfl rfl)
theorem dX1_beyond_27 : decode cX1_beyond 27 = .ok (.isub, 1) := dk_100 (dk_at dksX1_beyond_1 3 rfl rfl)
theorem dX1_beyond_28 : decode cX1_beyond 28 = .ok (.aload_n 0, 1) := dk_42 (dk_at dksX1_beyond_1 4 rfl rfl)
theorem dX1_beyond_29 : decode cX1_beyond 29 = .ok (.getfield 38, 3) := dk_180 0 38 (dk_at dksX1_beyond_1 5 rfl rfl)
theorem dX1_beyond_32 : decode cX1_beyond 32 = .ok (.iload_n 1, 1) := dk_27 (dk_at dksX1_beyond_1 8 rfl rfl)
theorem dX1_beyond_33 : decode cX1_beyond 33 = .ok (.iaload, 1) := dk_46 (dk_at dksX1_beyond_1 9 rfl rfl)
theorem dX1_beyond_34 : decode cX1_beyond 34 = .ok (.idiv, 1) := dk_108 (dk_at dksX1_beyond_1 10 rfl rfl)
theorem dX1_beyond_35 : decode cX1_beyond 35 = .ok (.istore 4, 2) := dk_54 4 (dk_at dksX1_beyond_1 11 rfl rfl)
theorem dX1_beyond_37 : decode cX1_beyond 37 = .ok (.iload_n 2, 1) := dk_28 (dk_at dksX1_beyond_1 13 rfl rfl)
theorem dX1_beyond_38 : decode cX1_beyond 38 = .ok (.aload_n 0, 1) := dk_42 (dk_at dksX1_beyond_1 14 rfl rfl)
theorem dX1_beyond_39 : decode cX1_beyond 39 = .ok (.getfield 41, 3) := dk_180 0 41 (dk_at dksX1_beyond_1 15 rfl rfl)
theorem dX1_beyond_42 : decode cX1_beyond 42 = .ok (.iload_n 1, 1) := dk_27 (dk_at dksX1_beyond_1 18 rfl rfl)
theorem dX1_beyond_43 : decode cX1_beyond 43 = .ok (.iaload, 1) := dk_46 (dk_at dksX1_beyond_1 19 rfl rfl)
theorem dX1_beyond_44 : decode cX1_beyond 44 = .ok (.if_icmp .gt 12, 3) := dk_163 0 12 (dk_at dksX1_beyond_1 20 rfl rfl)
theorem dX1_beyond_47 : decode cX1_beyond 47 = .ok (.aload_n 0, 1) := dk_42 (dk_at dksX1_beyond_1 23 rfl rfl)
theorem dX1_beyond_48 : decode cX1_beyond 48 = .ok (.getfield 41, 3) := dk_180 0 41 (dk_at dksX1_beyond_2 0 rfl rfl)
theorem dX1_beyond_51 : decode cX1_beyond 51 = .ok (.iload_n 1, 1) := dk_27 (dk_at dksX1_beyond_2 3 rfl rfl)
theorem dX1_beyond_52 : decode cX1_beyond 52 = .ok (.iaload, 1) := dk_46 (dk_at dksX1_beyond_2 4 rfl rfl)
theorem dX1_beyond_53 : decode cX1_beyond 53 = .ok (.goto 19, 3) := dk_167 0 19 (dk_at dksX1_beyond_2 5 rfl rfl)
theorem dX1_beyond_56 : decode cX1_beyond 56 = .ok (.aload_n 0, 1) := dk_42 (dk_at dksX1_beyond_2 8 rfl rfl)
theorem dX1_beyond_57 : decode cX1_beyond 57 = .ok (.getfield 41, 3) := dk_180 0 41 (dk_at dksX1_beyond_2 9 rfl rfl)
theorem dX1_beyond_60 : decode cX1_beyond 60 = .ok (.iload_n 1, 1) := dk_27 (dk_at dksX1_beyond_2 12 rfl rfl)
theorem dX1_beyond_61 : decode cX1_beyond 61 = .ok (.iaload, 1) := dk_46 (dk_at dksX1_beyond_2 13 rfl rfl)
theorem dX1_beyond_62 : decode cX1_beyond 62 = .ok (.iload 4, 2) := dk_21 4 (dk_at dksX1_beyond_2 14 rfl rfl)
theorem dX1_beyond_64 : decode cX1_beyond 64 = .ok (.aload_n 0, 1) := dk_42 (dk_at dksX1_beyond_2 16 rfl rfl)
theorem dX1_beyond_65 : decode cX1_beyond 65 = .ok (.getfield 38, 3) := dk_180 0 38 (dk_at dksX1_beyond_2 17 rfl rfl)
theorem dX1_beyond_68 : decode cX1_beyond 68 = .ok (.iload_n 1, 1) := dk_27 (dk_at dksX1_beyond_2 20 rfl rfl)
theorem dX1_beyond_69 : decode cX1_beyond 69 = .ok (.iaload, 1) := dk_46 (dk_at dksX1_beyond_2 21 rfl rfl)
theorem dX1_beyond_70 : decode cX1_beyond 70 = .ok (.imul, 1) := dk_104 (dk_at dksX1_beyond_2 22 rfl rfl)
theorem dX1_beyond_71 : decode cX1_beyond 71 = .ok (.iadd, 1) := dk_96 (dk_at dksX1_beyond_2 23 rfl rfl)
theorem dX1_beyond_72 : decode cX1_beyond 72 = .ok (.istore_n 3, 1) := dk_62 (dk_at dksX1_beyond_3 0 rfl rfl)
theorem dX1_beyond_73 : decode cX1_beyond 73 = .ok (.iload_n 3, 1) := dk_29 (dk_at dksX1_beyond_3 1 rfl rfl)
theorem dX1_beyond_74 : decode cX1_beyond 74 = .ok (.aload_n 0, 1) := dk_42 (dk_at dksX1_beyond_3 2 rfl rfl)
theorem dX1_beyond_75 : decode cX1_beyond 75 = .ok (.getfield 32, 3) := dk_180 0 32 (dk_at dksX1_beyond_3 3 rfl rfl)
theorem dX1_beyond_78 : decode cX1_beyond 78 = .ok (.iload_n 1, 1) := dk_27 (dk_at dksX1_beyond_3 6 rfl rfl)
theorem dX1_beyond_79 : decode cX1_beyond 79 = .ok (.iaload, 1) := dk_46 (dk_at dksX1_beyond_3 7 rfl rfl)
theorem dX1_beyond_80 : decode cX1_beyond 80 = .ok (.iadd, 1) := dk_96 (dk_at dksX1_beyond_3 8 rfl rfl)
theorem dX1_beyond_81 : decode cX1_beyond 81 = .ok (.ireturn, 1) := dk_172 (dk_at dksX1_beyond_3 9 rfl rfl)
abbrev cX1_toll : ByteArray := prog_8_method_26_code
def yX1_toll : MethodName := ⟨RX1, "toll", "(II)I"⟩
def dkwX1_toll_7 : List UInt8 := [28, 46, 167, 0, 8, 42, 4, 182, 0, 193, 172]
abbrev dktX1_toll_7 : List UInt8 := dkwX1_toll_7 ++ []
def dkwX1_toll_6 : List UInt8 := [167, 255, 171, 132, 3, 1, 167, 255, 156, 42, 180, 0, 44, 28, 46, 18, 217, 162, 0, 12, 42, 180, 0, 44]
abbrev dktX1_toll_6 : List UInt8 := dkwX1_toll_6 ++ dktX1_toll_7
def dkwX1_toll_5 : List UInt8 := [46, 162, 0, 8, 21, 5, 167, 0, 13, 42, 180, 0, 44, 21, 4, 16, 8, 112, 46, 79, 132, 4, 1]
abbrev dktX1_toll_5 : List UInt8 := dkwX1_toll_5 ++ dktX1_toll_6
def dkwX1_toll_4 : List UInt8 := [18, 217, 54, 5, 42, 180, 0, 44, 21, 4, 16, 8, 112, 21, 5, 42, 180, 0, 44, 21, 4, 16, 8, 112]
abbrev dktX1_toll_4 : List UInt8 := dkwX1_toll_4 ++ dktX1_toll_5
def dkwX1_toll_3 : List UInt8 := [158, 0, 24, 42, 180, 0, 44, 21, 4, 16, 8, 108, 46, 42, 180, 0, 35, 21, 4, 46, 96, 167, 0, 5]
abbrev dktX1_toll_3 : List UInt8 := dkwX1_toll_3 ++ dktX1_toll_4
def dkwX1_toll_2 : List UInt8 := [62, 29, 16, 8, 162, 0, 100, 3, 54, 4, 21, 4, 16, 64, 162, 0, 84, 42, 180, 0, 32, 21, 4, 46]
abbrev dktX1_toll_2 : List UInt8 := dkwX1_toll_2 ++ dktX1_toll_3
def dkwX1_toll_1 : List UInt8 := [42, 180, 0, 44, 29, 29, 27, 160, 0, 7, 3, 167, 0, 5, 18, 217, 79, 132, 3, 1, 167, 255, 230, 3]
abbrev dktX1_toll_1 : List UInt8 := dkwX1_toll_1 ++ dktX1_toll_2
def dkwX1_toll_0 : List UInt8 := [27, 184, 0, 210, 153, 0, 10, 28, 184, 0, 210, 154, 0, 5, 2, 172, 3, 62, 29, 16, 8, 162, 0, 26]
abbrev dktX1_toll_0 : List UInt8 := dkwX1_toll_0 ++ dktX1_toll_1
theorem dksX1_toll_0 : cX1_toll.data.toList.drop 0 = dktX1_toll_0 := by decide +kernel
theorem dksX1_toll_1 : cX1_toll.data.toList.drop 24 = dktX1_toll_1 := dk_seg dksX1_toll_0 24 rfl rfl
theorem dksX1_toll_2 : cX1_toll.data.toList.drop 48 = dktX1_toll_2 := dk_seg dksX1_toll_1 24 rfl rfl
theorem dksX1_toll_3 : cX1_toll.data.toList.drop 72 = dktX1_toll_3 := dk_seg dksX1_toll_2 24 rfl rfl
theorem dksX1_toll_4 : cX1_toll.data.toList.drop 96 = dktX1_toll_4 := dk_seg dksX1_toll_3 24 rfl rfl
theorem dksX1_toll_5 : cX1_toll.data.toList.drop 120 = dktX1_toll_5 := dk_seg dksX1_toll_4 24 rfl rfl
theorem dksX1_toll_6 : cX1_toll.data.toList.drop 143 = dktX1_toll_6 := dk_seg dksX1_toll_5 23 rfl rfl
theorem dksX1_toll_7 : cX1_toll.data.toList.drop 167 = dktX1_toll_7 := dk_seg dksX1_toll_6 24 rfl rfl
theorem dX1_toll_0 : decode cX1_toll 0 = .ok (.iload_n 1, 1) := dk_27 (dk_at dksX1_toll_0 0 rfl rfl)
theorem dX1_toll_1 : decode cX1_toll 1 = .ok (.invokestatic 210, 3) := dk_184 0 210 (dk_at dksX1_toll_0 1 rfl rfl)
theorem dX1_toll_4 : decode cX1_toll 4 = .ok (.ifCond .eq 10, 3) := dk_153 0 10 (dk_at dksX1_toll_0 4 rfl rfl)
theorem dX1_toll_7 : decode cX1_toll 7 = .ok (.iload_n 2, 1) := dk_28 (dk_at dksX1_toll_0 7 rfl rfl)
theorem dX1_toll_8 : decode cX1_toll 8 = .ok (.invokestatic 210, 3) := dk_184 0 210 (dk_at dksX1_toll_0 8 rfl rfl)
theorem dX1_toll_11 : decode cX1_toll 11 = .ok (.ifCond .ne 5, 3) := dk_154 0 5 (dk_at dksX1_toll_0 11 rfl rfl)
theorem dX1_toll_14 : decode cX1_toll 14 = .ok (.iconst (-1), 1) := dk_2 (dk_at dksX1_toll_0 14 rfl rfl)
theorem dX1_toll_15 : decode cX1_toll 15 = .ok (.ireturn, 1) := dk_172 (dk_at dksX1_toll_0 15 rfl rfl)
theorem dX1_toll_16 : decode cX1_toll 16 = .ok (.iconst 0, 1) := dk_3 (dk_at dksX1_toll_0 16 rfl rfl)
theorem dX1_toll_17 : decode cX1_toll 17 = .ok (.istore_n 3, 1) := dk_62 (dk_at dksX1_toll_0 17 rfl rfl)
theorem dX1_toll_18 : decode cX1_toll 18 = .ok (.iload_n 3, 1) := dk_29 (dk_at dksX1_toll_0 18 rfl rfl)
theorem dX1_toll_19 : decode cX1_toll 19 = .ok (.bipush 8, 2) := dk_16 8 (dk_at dksX1_toll_0 19 rfl rfl)
theorem dX1_toll_21 : decode cX1_toll 21 = .ok (.if_icmp .ge 26, 3) := dk_162 0 26 (dk_at dksX1_toll_0 21 rfl rfl)
theorem dX1_toll_24 : decode cX1_toll 24 = .ok (.aload_n 0, 1) := dk_42 (dk_at dksX1_toll_1 0 rfl rfl)
theorem dX1_toll_25 : decode cX1_toll 25 = .ok (.getfield 44, 3) := dk_180 0 44 (dk_at dksX1_toll_1 1 rfl rfl)
theorem dX1_toll_28 : decode cX1_toll 28 = .ok (.iload_n 3, 1) := dk_29 (dk_at dksX1_toll_1 4 rfl rfl)
theorem dX1_toll_29 : decode cX1_toll 29 = .ok (.iload_n 3, 1) := dk_29 (dk_at dksX1_toll_1 5 rfl rfl)
theorem dX1_toll_30 : decode cX1_toll 30 = .ok (.iload_n 1, 1) := dk_27 (dk_at dksX1_toll_1 6 rfl rfl)
theorem dX1_toll_31 : decode cX1_toll 31 = .ok (.if_icmp .ne 7, 3) := dk_160 0 7 (dk_at dksX1_toll_1 7 rfl rfl)
theorem dX1_toll_34 : decode cX1_toll 34 = .ok (.iconst 0, 1) := dk_3 (dk_at dksX1_toll_1 10 rfl rfl)
theorem dX1_toll_35 : decode cX1_toll 35 = .ok (.goto 5, 3) := dk_167 0 5 (dk_at dksX1_toll_1 11 rfl rfl)
theorem dX1_toll_38 : decode cX1_toll 38 = .ok (.ldc 217, 2) := dk_18 217 (dk_at dksX1_toll_1 14 rfl rfl)
theorem dX1_toll_40 : decode cX1_toll 40 = .ok (.iastore, 1) := dk_79 (dk_at dksX1_toll_1 16 rfl rfl)
theorem dX1_toll_41 : decode cX1_toll 41 = .ok (.iinc 3 1, 3) := dk_132 3 1 (dk_at dksX1_toll_1 17 rfl rfl)
theorem dX1_toll_44 : decode cX1_toll 44 = .ok (.goto (-26), 3) := dk_167 255 230 (dk_at dksX1_toll_1 20 rfl rfl)
theorem dX1_toll_47 : decode cX1_toll 47 = .ok (.iconst 0, 1) := dk_3 (dk_at dksX1_toll_1 23 rfl rfl)
theorem dX1_toll_48 : decode cX1_toll 48 = .ok (.istore_n 3, 1) := dk_62 (dk_at dksX1_toll_2 0 rfl rfl)
theorem dX1_toll_49 : decode cX1_toll 49 = .ok (.iload_n 3, 1) := dk_29 (dk_at dksX1_toll_2 1 rfl rfl)
theorem dX1_toll_50 : decode cX1_toll 50 = .ok (.bipush 8, 2) := dk_16 8 (dk_at dksX1_toll_2 2 rfl rfl)
theorem dX1_toll_52 : decode cX1_toll 52 = .ok (.if_icmp .ge 100, 3) := dk_162 0 100 (dk_at dksX1_toll_2 4 rfl rfl)
theorem dX1_toll_55 : decode cX1_toll 55 = .ok (.iconst 0, 1) := dk_3 (dk_at dksX1_toll_2 7 rfl rfl)
theorem dX1_toll_56 : decode cX1_toll 56 = .ok (.istore 4, 2) := dk_54 4 (dk_at dksX1_toll_2 8 rfl rfl)
theorem dX1_toll_58 : decode cX1_toll 58 = .ok (.iload 4, 2) := dk_21 4 (dk_at dksX1_toll_2 10 rfl rfl)
theorem dX1_toll_60 : decode cX1_toll 60 = .ok (.bipush 64, 2) := dk_16 64 (dk_at dksX1_toll_2 12 rfl rfl)
theorem dX1_toll_62 : decode cX1_toll 62 = .ok (.if_icmp .ge 84, 3) := dk_162 0 84 (dk_at dksX1_toll_2 14 rfl rfl)
theorem dX1_toll_65 : decode cX1_toll 65 = .ok (.aload_n 0, 1) := dk_42 (dk_at dksX1_toll_2 17 rfl rfl)
theorem dX1_toll_66 : decode cX1_toll 66 = .ok (.getfield 32, 3) := dk_180 0 32 (dk_at dksX1_toll_2 18 rfl rfl)
theorem dX1_toll_69 : decode cX1_toll 69 = .ok (.iload 4, 2) := dk_21 4 (dk_at dksX1_toll_2 21 rfl rfl)
theorem dX1_toll_71 : decode cX1_toll 71 = .ok (.iaload, 1) := dk_46 (dk_at dksX1_toll_2 23 rfl rfl)
theorem dX1_toll_72 : decode cX1_toll 72 = .ok (.ifCond .le 24, 3) := dk_158 0 24 (dk_at dksX1_toll_3 0 rfl rfl)
theorem dX1_toll_75 : decode cX1_toll 75 = .ok (.aload_n 0, 1) := dk_42 (dk_at dksX1_toll_3 3 rfl rfl)
theorem dX1_toll_76 : decode cX1_toll 76 = .ok (.getfield 44, 3) := dk_180 0 44 (dk_at dksX1_toll_3 4 rfl rfl)
theorem dX1_toll_79 : decode cX1_toll 79 = .ok (.iload 4, 2) := dk_21 4 (dk_at dksX1_toll_3 7 rfl rfl)
theorem dX1_toll_81 : decode cX1_toll 81 = .ok (.bipush 8, 2) := dk_16 8 (dk_at dksX1_toll_3 9 rfl rfl)
theorem dX1_toll_83 : decode cX1_toll 83 = .ok (.idiv, 1) := dk_108 (dk_at dksX1_toll_3 11 rfl rfl)
theorem dX1_toll_84 : decode cX1_toll 84 = .ok (.iaload, 1) := dk_46 (dk_at dksX1_toll_3 12 rfl rfl)
theorem dX1_toll_85 : decode cX1_toll 85 = .ok (.aload_n 0, 1) := dk_42 (dk_at dksX1_toll_3 13 rfl rfl)
theorem dX1_toll_86 : decode cX1_toll 86 = .ok (.getfield 35, 3) := dk_180 0 35 (dk_at dksX1_toll_3 14 rfl rfl)
theorem dX1_toll_89 : decode cX1_toll 89 = .ok (.iload 4, 2) := dk_21 4 (dk_at dksX1_toll_3 17 rfl rfl)
theorem dX1_toll_91 : decode cX1_toll 91 = .ok (.iaload, 1) := dk_46 (dk_at dksX1_toll_3 19 rfl rfl)
theorem dX1_toll_92 : decode cX1_toll 92 = .ok (.iadd, 1) := dk_96 (dk_at dksX1_toll_3 20 rfl rfl)
theorem dX1_toll_93 : decode cX1_toll 93 = .ok (.goto 5, 3) := dk_167 0 5 (dk_at dksX1_toll_3 21 rfl rfl)
theorem dX1_toll_96 : decode cX1_toll 96 = .ok (.ldc 217, 2) := dk_18 217 (dk_at dksX1_toll_4 0 rfl rfl)
theorem dX1_toll_98 : decode cX1_toll 98 = .ok (.istore 5, 2) := dk_54 5 (dk_at dksX1_toll_4 2 rfl rfl)
theorem dX1_toll_100 : decode cX1_toll 100 = .ok (.aload_n 0, 1) := dk_42 (dk_at dksX1_toll_4 4 rfl rfl)
theorem dX1_toll_101 : decode cX1_toll 101 = .ok (.getfield 44, 3) := dk_180 0 44 (dk_at dksX1_toll_4 5 rfl rfl)
theorem dX1_toll_104 : decode cX1_toll 104 = .ok (.iload 4, 2) := dk_21 4 (dk_at dksX1_toll_4 8 rfl rfl)
theorem dX1_toll_106 : decode cX1_toll 106 = .ok (.bipush 8, 2) := dk_16 8 (dk_at dksX1_toll_4 10 rfl rfl)
theorem dX1_toll_108 : decode cX1_toll 108 = .ok (.irem, 1) := dk_112 (dk_at dksX1_toll_4 12 rfl rfl)
theorem dX1_toll_109 : decode cX1_toll 109 = .ok (.iload 5, 2) := dk_21 5 (dk_at dksX1_toll_4 13 rfl rfl)
theorem dX1_toll_111 : decode cX1_toll 111 = .ok (.aload_n 0, 1) := dk_42 (dk_at dksX1_toll_4 15 rfl rfl)
theorem dX1_toll_112 : decode cX1_toll 112 = .ok (.getfield 44, 3) := dk_180 0 44 (dk_at dksX1_toll_4 16 rfl rfl)
theorem dX1_toll_115 : decode cX1_toll 115 = .ok (.iload 4, 2) := dk_21 4 (dk_at dksX1_toll_4 19 rfl rfl)
theorem dX1_toll_117 : decode cX1_toll 117 = .ok (.bipush 8, 2) := dk_16 8 (dk_at dksX1_toll_4 21 rfl rfl)
theorem dX1_toll_119 : decode cX1_toll 119 = .ok (.irem, 1) := dk_112 (dk_at dksX1_toll_4 23 rfl rfl)
theorem dX1_toll_120 : decode cX1_toll 120 = .ok (.iaload, 1) := dk_46 (dk_at dksX1_toll_5 0 rfl rfl)
theorem dX1_toll_121 : decode cX1_toll 121 = .ok (.if_icmp .ge 8, 3) := dk_162 0 8 (dk_at dksX1_toll_5 1 rfl rfl)
theorem dX1_toll_124 : decode cX1_toll 124 = .ok (.iload 5, 2) := dk_21 5 (dk_at dksX1_toll_5 4 rfl rfl)
theorem dX1_toll_126 : decode cX1_toll 126 = .ok (.goto 13, 3) := dk_167 0 13 (dk_at dksX1_toll_5 6 rfl rfl)
theorem dX1_toll_129 : decode cX1_toll 129 = .ok (.aload_n 0, 1) := dk_42 (dk_at dksX1_toll_5 9 rfl rfl)
theorem dX1_toll_130 : decode cX1_toll 130 = .ok (.getfield 44, 3) := dk_180 0 44 (dk_at dksX1_toll_5 10 rfl rfl)
theorem dX1_toll_133 : decode cX1_toll 133 = .ok (.iload 4, 2) := dk_21 4 (dk_at dksX1_toll_5 13 rfl rfl)
theorem dX1_toll_135 : decode cX1_toll 135 = .ok (.bipush 8, 2) := dk_16 8 (dk_at dksX1_toll_5 15 rfl rfl)
theorem dX1_toll_137 : decode cX1_toll 137 = .ok (.irem, 1) := dk_112 (dk_at dksX1_toll_5 17 rfl rfl)
theorem dX1_toll_138 : decode cX1_toll 138 = .ok (.iaload, 1) := dk_46 (dk_at dksX1_toll_5 18 rfl rfl)
theorem dX1_toll_139 : decode cX1_toll 139 = .ok (.iastore, 1) := dk_79 (dk_at dksX1_toll_5 19 rfl rfl)
theorem dX1_toll_140 : decode cX1_toll 140 = .ok (.iinc 4 1, 3) := dk_132 4 1 (dk_at dksX1_toll_5 20 rfl rfl)
theorem dX1_toll_143 : decode cX1_toll 143 = .ok (.goto (-85), 3) := dk_167 255 171 (dk_at dksX1_toll_6 0 rfl rfl)
theorem dX1_toll_146 : decode cX1_toll 146 = .ok (.iinc 3 1, 3) := dk_132 3 1 (dk_at dksX1_toll_6 3 rfl rfl)
theorem dX1_toll_149 : decode cX1_toll 149 = .ok (.goto (-100), 3) := dk_167 255 156 (dk_at dksX1_toll_6 6 rfl rfl)
theorem dX1_toll_152 : decode cX1_toll 152 = .ok (.aload_n 0, 1) := dk_42 (dk_at dksX1_toll_6 9 rfl rfl)
theorem dX1_toll_153 : decode cX1_toll 153 = .ok (.getfield 44, 3) := dk_180 0 44 (dk_at dksX1_toll_6 10 rfl rfl)
theorem dX1_toll_156 : decode cX1_toll 156 = .ok (.iload_n 2, 1) := dk_28 (dk_at dksX1_toll_6 13 rfl rfl)
theorem dX1_toll_157 : decode cX1_toll 157 = .ok (.iaload, 1) := dk_46 (dk_at dksX1_toll_6 14 rfl rfl)
theorem dX1_toll_158 : decode cX1_toll 158 = .ok (.ldc 217, 2) := dk_18 217 (dk_at dksX1_toll_6 15 rfl rfl)
theorem dX1_toll_160 : decode cX1_toll 160 = .ok (.if_icmp .ge 12, 3) := dk_162 0 12 (dk_at dksX1_toll_6 17 rfl rfl)
theorem dX1_toll_163 : decode cX1_toll 163 = .ok (.aload_n 0, 1) := dk_42 (dk_at dksX1_toll_6 20 rfl rfl)
theorem dX1_toll_164 : decode cX1_toll 164 = .ok (.getfield 44, 3) := dk_180 0 44 (dk_at dksX1_toll_6 21 rfl rfl)
theorem dX1_toll_167 : decode cX1_toll 167 = .ok (.iload_n 2, 1) := dk_28 (dk_at dksX1_toll_7 0 rfl rfl)
theorem dX1_toll_168 : decode cX1_toll 168 = .ok (.iaload, 1) := dk_46 (dk_at dksX1_toll_7 1 rfl rfl)
theorem dX1_toll_169 : decode cX1_toll 169 = .ok (.goto 8, 3) := dk_167 0 8 (dk_at dksX1_toll_7 2 rfl rfl)
theorem dX1_toll_172 : decode cX1_toll 172 = .ok (.aload_n 0, 1) := dk_42 (dk_at dksX1_toll_7 5 rfl rfl)
theorem dX1_toll_173 : decode cX1_toll 173 = .ok (.iconst 1, 1) := dk_4 (dk_at dksX1_toll_7 6 rfl rfl)
theorem dX1_toll_174 : decode cX1_toll 174 = .ok (.invokevirtual 193, 3) := dk_182 0 193 (dk_at dksX1_toll_7 7 rfl rfl)
theorem dX1_toll_177 : decode cX1_toll 177 = .ok (.ireturn, 1) := dk_172 (dk_at dksX1_toll_7 10 rfl rfl)
abbrev cX1_trailer : ByteArray := prog_8_method_31_code
def yX1_trailer : MethodName := ⟨RX1, "trailer", "(III)I"⟩
def dkwX1_trailer_6 : List UInt8 := [4, 100, 172]
abbrev dktX1_trailer_6 : List UInt8 := dkwX1_trailer_6 ++ []
def dkwX1_trailer_5 : List UInt8 := [42, 180, 0, 229, 3, 28, 28, 182, 0, 236, 42, 89, 180, 0, 229, 4, 96, 181, 0, 229, 42, 180, 0, 229]
abbrev dktX1_trailer_5 : List UInt8 := dkwX1_trailer_5 ++ dktX1_trailer_6
def dkwX1_trailer_4 : List UInt8 := [16, 100, 79, 42, 180, 0, 78, 42, 180, 0, 229, 27, 6, 160, 0, 8, 16, 238, 167, 0, 4, 8, 79, 42]
abbrev dktX1_trailer_4 : List UInt8 := dkwX1_trailer_4 ++ dktX1_trailer_5
def dkwX1_trailer_3 : List UInt8 := [180, 0, 229, 16, 247, 79, 42, 180, 0, 60, 42, 180, 0, 229, 29, 79, 42, 180, 0, 63, 42, 180, 0, 229]
abbrev dktX1_trailer_3 : List UInt8 := dkwX1_trailer_3 ++ dktX1_trailer_4
def dkwX1_trailer_2 : List UInt8 := [180, 0, 47, 42, 180, 0, 229, 27, 79, 42, 180, 0, 50, 42, 180, 0, 229, 28, 79, 42, 180, 0, 53, 42]
abbrev dktX1_trailer_2 : List UInt8 := dkwX1_trailer_2 ++ dktX1_trailer_3
def dkwX1_trailer_1 : List UInt8 := [172, 42, 180, 0, 229, 16, 12, 159, 0, 12, 42, 180, 0, 226, 16, 60, 160, 0, 6, 16, 254, 172, 42]
abbrev dktX1_trailer_1 : List UInt8 := dkwX1_trailer_1 ++ dktX1_trailer_2
def dkwX1_trailer_0 : List UInt8 := [27, 3, 6, 184, 0, 185, 153, 0, 17, 28, 184, 0, 210, 153, 0, 10, 29, 184, 0, 233, 154, 0, 5, 2]
abbrev dktX1_trailer_0 : List UInt8 := dkwX1_trailer_0 ++ dktX1_trailer_1
theorem dksX1_trailer_0 : cX1_trailer.data.toList.drop 0 = dktX1_trailer_0 := by decide +kernel
theorem dksX1_trailer_1 : cX1_trailer.data.toList.drop 24 = dktX1_trailer_1 := dk_seg dksX1_trailer_0 24 rfl rfl
theorem dksX1_trailer_2 : cX1_trailer.data.toList.drop 47 = dktX1_trailer_2 := dk_seg dksX1_trailer_1 23 rfl rfl
theorem dksX1_trailer_3 : cX1_trailer.data.toList.drop 71 = dktX1_trailer_3 := dk_seg dksX1_trailer_2 24 rfl rfl
theorem dksX1_trailer_4 : cX1_trailer.data.toList.drop 95 = dktX1_trailer_4 := dk_seg dksX1_trailer_3 24 rfl rfl
theorem dksX1_trailer_5 : cX1_trailer.data.toList.drop 119 = dktX1_trailer_5 := dk_seg dksX1_trailer_4 24 rfl rfl
theorem dksX1_trailer_6 : cX1_trailer.data.toList.drop 143 = dktX1_trailer_6 := dk_seg dksX1_trailer_5 24 rfl rfl
theorem dX1_trailer_0 : decode cX1_trailer 0 = .ok (.iload_n 1, 1) := dk_27 (dk_at dksX1_trailer_0 0 rfl rfl)
theorem dX1_trailer_1 : decode cX1_trailer 1 = .ok (.iconst 0, 1) := dk_3 (dk_at dksX1_trailer_0 1 rfl rfl)
theorem dX1_trailer_2 : decode cX1_trailer 2 = .ok (.iconst 3, 1) := dk_6 (dk_at dksX1_trailer_0 2 rfl rfl)
theorem dX1_trailer_3 : decode cX1_trailer 3 = .ok (.invokestatic 185, 3) := dk_184 0 185 (dk_at dksX1_trailer_0 3 rfl rfl)
theorem dX1_trailer_6 : decode cX1_trailer 6 = .ok (.ifCond .eq 17, 3) := dk_153 0 17 (dk_at dksX1_trailer_0 6 rfl rfl)
theorem dX1_trailer_9 : decode cX1_trailer 9 = .ok (.iload_n 2, 1) := dk_28 (dk_at dksX1_trailer_0 9 rfl rfl)
theorem dX1_trailer_10 : decode cX1_trailer 10 = .ok (.invokestatic 210, 3) := dk_184 0 210 (dk_at dksX1_trailer_0 10 rfl rfl)
theorem dX1_trailer_13 : decode cX1_trailer 13 = .ok (.ifCond .eq 10, 3) := dk_153 0 10 (dk_at dksX1_trailer_0 13 rfl rfl)
theorem dX1_trailer_16 : decode cX1_trailer 16 = .ok (.iload_n 3, 1) := dk_29 (dk_at dksX1_trailer_0 16 rfl rfl)
theorem dX1_trailer_17 : decode cX1_trailer 17 = .ok (.invokestatic 233, 3) := dk_184 0 233 (dk_at dksX1_trailer_0 17 rfl rfl)
theorem dX1_trailer_20 : decode cX1_trailer 20 = .ok (.ifCond .ne 5, 3) := dk_154 0 5 (dk_at dksX1_trailer_0 20 rfl rfl)
theorem dX1_trailer_23 : decode cX1_trailer 23 = .ok (.iconst (-1), 1) := dk_2 (dk_at dksX1_trailer_0 23 rfl rfl)
theorem dX1_trailer_24 : decode cX1_trailer 24 = .ok (.ireturn, 1) := dk_172 (dk_at dksX1_trailer_1 0 rfl rfl)
theorem dX1_trailer_25 : decode cX1_trailer 25 = .ok (.aload_n 0, 1) := dk_42 (dk_at dksX1_trailer_1 1 rfl rfl)
theorem dX1_trailer_26 : decode cX1_trailer 26 = .ok (.getfield 229, 3) := dk_180 0 229 (dk_at dksX1_trailer_1 2 rfl rfl)
theorem dX1_trailer_29 : decode cX1_trailer 29 = .ok (.bipush 12, 2) := dk_16 12 (dk_at dksX1_trailer_1 5 rfl rfl)
theorem dX1_trailer_31 : decode cX1_trailer 31 = .ok (.if_icmp .eq 12, 3) := dk_159 0 12 (dk_at dksX1_trailer_1 7 rfl rfl)
theorem dX1_trailer_34 : decode cX1_trailer 34 = .ok (.aload_n 0, 1) := dk_42 (dk_at dksX1_trailer_1 10 rfl rfl)
theorem dX1_trailer_35 : decode cX1_trailer 35 = .ok (.getfield 226, 3) := dk_180 0 226 (dk_at dksX1_trailer_1 11 rfl rfl)
theorem dX1_trailer_38 : decode cX1_trailer 38 = .ok (.bipush 60, 2) := dk_16 60 (dk_at dksX1_trailer_1 14 rfl rfl)
theorem dX1_trailer_40 : decode cX1_trailer 40 = .ok (.if_icmp .ne 6, 3) := dk_160 0 6 (dk_at dksX1_trailer_1 16 rfl rfl)
theorem dX1_trailer_43 : decode cX1_trailer 43 = .ok (.bipush (-2), 2) := dk_16 254 (dk_at dksX1_trailer_1 19 rfl rfl)
theorem dX1_trailer_45 : decode cX1_trailer 45 = .ok (.ireturn, 1) := dk_172 (dk_at dksX1_trailer_1 21 rfl rfl)
theorem dX1_trailer_46 : decode cX1_trailer 46 = .ok (.aload_n 0, 1) := dk_42 (dk_at dksX1_trailer_1 22 rfl rfl)
theorem dX1_trailer_47 : decode cX1_trailer 47 = .ok (.getfield 47, 3) := dk_180 0 47 (dk_at dksX1_trailer_2 0 rfl rfl)
theorem dX1_trailer_50 : decode cX1_trailer 50 = .ok (.aload_n 0, 1) := dk_42 (dk_at dksX1_trailer_2 3 rfl rfl)
theorem dX1_trailer_51 : decode cX1_trailer 51 = .ok (.getfield 229, 3) := dk_180 0 229 (dk_at dksX1_trailer_2 4 rfl rfl)
theorem dX1_trailer_54 : decode cX1_trailer 54 = .ok (.iload_n 1, 1) := dk_27 (dk_at dksX1_trailer_2 7 rfl rfl)
theorem dX1_trailer_55 : decode cX1_trailer 55 = .ok (.iastore, 1) := dk_79 (dk_at dksX1_trailer_2 8 rfl rfl)
theorem dX1_trailer_56 : decode cX1_trailer 56 = .ok (.aload_n 0, 1) := dk_42 (dk_at dksX1_trailer_2 9 rfl rfl)
theorem dX1_trailer_57 : decode cX1_trailer 57 = .ok (.getfield 50, 3) := dk_180 0 50 (dk_at dksX1_trailer_2 10 rfl rfl)
theorem dX1_trailer_60 : decode cX1_trailer 60 = .ok (.aload_n 0, 1) := dk_42 (dk_at dksX1_trailer_2 13 rfl rfl)
theorem dX1_trailer_61 : decode cX1_trailer 61 = .ok (.getfield 229, 3) := dk_180 0 229 (dk_at dksX1_trailer_2 14 rfl rfl)
theorem dX1_trailer_64 : decode cX1_trailer 64 = .ok (.iload_n 2, 1) := dk_28 (dk_at dksX1_trailer_2 17 rfl rfl)
theorem dX1_trailer_65 : decode cX1_trailer 65 = .ok (.iastore, 1) := dk_79 (dk_at dksX1_trailer_2 18 rfl rfl)
theorem dX1_trailer_66 : decode cX1_trailer 66 = .ok (.aload_n 0, 1) := dk_42 (dk_at dksX1_trailer_2 19 rfl rfl)
theorem dX1_trailer_67 : decode cX1_trailer 67 = .ok (.getfield 53, 3) := dk_180 0 53 (dk_at dksX1_trailer_2 20 rfl rfl)
theorem dX1_trailer_70 : decode cX1_trailer 70 = .ok (.aload_n 0, 1) := dk_42 (dk_at dksX1_trailer_2 23 rfl rfl)
theorem dX1_trailer_71 : decode cX1_trailer 71 = .ok (.getfield 229, 3) := dk_180 0 229 (dk_at dksX1_trailer_3 0 rfl rfl)
theorem dX1_trailer_74 : decode cX1_trailer 74 = .ok (.bipush (-9), 2) := dk_16 247 (dk_at dksX1_trailer_3 3 rfl rfl)
theorem dX1_trailer_76 : decode cX1_trailer 76 = .ok (.iastore, 1) := dk_79 (dk_at dksX1_trailer_3 5 rfl rfl)
theorem dX1_trailer_77 : decode cX1_trailer 77 = .ok (.aload_n 0, 1) := dk_42 (dk_at dksX1_trailer_3 6 rfl rfl)
theorem dX1_trailer_78 : decode cX1_trailer 78 = .ok (.getfield 60, 3) := dk_180 0 60 (dk_at dksX1_trailer_3 7 rfl rfl)
theorem dX1_trailer_81 : decode cX1_trailer 81 = .ok (.aload_n 0, 1) := dk_42 (dk_at dksX1_trailer_3 10 rfl rfl)
theorem dX1_trailer_82 : decode cX1_trailer 82 = .ok (.getfield 229, 3) := dk_180 0 229 (dk_at dksX1_trailer_3 11 rfl rfl)
theorem dX1_trailer_85 : decode cX1_trailer 85 = .ok (.iload_n 3, 1) := dk_29 (dk_at dksX1_trailer_3 14 rfl rfl)
theorem dX1_trailer_86 : decode cX1_trailer 86 = .ok (.iastore, 1) := dk_79 (dk_at dksX1_trailer_3 15 rfl rfl)
theorem dX1_trailer_87 : decode cX1_trailer 87 = .ok (.aload_n 0, 1) := dk_42 (dk_at dksX1_trailer_3 16 rfl rfl)
theorem dX1_trailer_88 : decode cX1_trailer 88 = .ok (.getfield 63, 3) := dk_180 0 63 (dk_at dksX1_trailer_3 17 rfl rfl)
theorem dX1_trailer_91 : decode cX1_trailer 91 = .ok (.aload_n 0, 1) := dk_42 (dk_at dksX1_trailer_3 20 rfl rfl)
theorem dX1_trailer_92 : decode cX1_trailer 92 = .ok (.getfield 229, 3) := dk_180 0 229 (dk_at dksX1_trailer_3 21 rfl rfl)
theorem dX1_trailer_95 : decode cX1_trailer 95 = .ok (.bipush 100, 2) := dk_16 100 (dk_at dksX1_trailer_4 0 rfl rfl)
theorem dX1_trailer_97 : decode cX1_trailer 97 = .ok (.iastore, 1) := dk_79 (dk_at dksX1_trailer_4 2 rfl rfl)
theorem dX1_trailer_98 : decode cX1_trailer 98 = .ok (.aload_n 0, 1) := dk_42 (dk_at dksX1_trailer_4 3 rfl rfl)
theorem dX1_trailer_99 : decode cX1_trailer 99 = .ok (.getfield 78, 3) := dk_180 0 78 (dk_at dksX1_trailer_4 4 rfl rfl)
theorem dX1_trailer_102 : decode cX1_trailer 102 = .ok (.aload_n 0, 1) := dk_42 (dk_at dksX1_trailer_4 7 rfl rfl)
theorem dX1_trailer_103 : decode cX1_trailer 103 = .ok (.getfield 229, 3) := dk_180 0 229 (dk_at dksX1_trailer_4 8 rfl rfl)
theorem dX1_trailer_106 : decode cX1_trailer 106 = .ok (.iload_n 1, 1) := dk_27 (dk_at dksX1_trailer_4 11 rfl rfl)
theorem dX1_trailer_107 : decode cX1_trailer 107 = .ok (.iconst 3, 1) := dk_6 (dk_at dksX1_trailer_4 12 rfl rfl)
theorem dX1_trailer_108 : decode cX1_trailer 108 = .ok (.if_icmp .ne 8, 3) := dk_160 0 8 (dk_at dksX1_trailer_4 13 rfl rfl)
theorem dX1_trailer_111 : decode cX1_trailer 111 = .ok (.bipush (-18), 2) := dk_16 238 (dk_at dksX1_trailer_4 16 rfl rfl)
theorem dX1_trailer_113 : decode cX1_trailer 113 = .ok (.goto 4, 3) := dk_167 0 4 (dk_at dksX1_trailer_4 18 rfl rfl)
theorem dX1_trailer_116 : decode cX1_trailer 116 = .ok (.iconst 5, 1) := dk_8 (dk_at dksX1_trailer_4 21 rfl rfl)
theorem dX1_trailer_117 : decode cX1_trailer 117 = .ok (.iastore, 1) := dk_79 (dk_at dksX1_trailer_4 22 rfl rfl)
theorem dX1_trailer_118 : decode cX1_trailer 118 = .ok (.aload_n 0, 1) := dk_42 (dk_at dksX1_trailer_4 23 rfl rfl)
theorem dX1_trailer_119 : decode cX1_trailer 119 = .ok (.aload_n 0, 1) := dk_42 (dk_at dksX1_trailer_5 0 rfl rfl)
theorem dX1_trailer_120 : decode cX1_trailer 120 = .ok (.getfield 229, 3) := dk_180 0 229 (dk_at dksX1_trailer_5 1 rfl rfl)
theorem dX1_trailer_123 : decode cX1_trailer 123 = .ok (.iconst 0, 1) := dk_3 (dk_at dksX1_trailer_5 4 rfl rfl)
theorem dX1_trailer_124 : decode cX1_trailer 124 = .ok (.iload_n 2, 1) := dk_28 (dk_at dksX1_trailer_5 5 rfl rfl)
theorem dX1_trailer_125 : decode cX1_trailer 125 = .ok (.iload_n 2, 1) := dk_28 (dk_at dksX1_trailer_5 6 rfl rfl)
theorem dX1_trailer_126 : decode cX1_trailer 126 = .ok (.invokevirtual 236, 3) := dk_182 0 236 (dk_at dksX1_trailer_5 7 rfl rfl)
theorem dX1_trailer_129 : decode cX1_trailer 129 = .ok (.aload_n 0, 1) := dk_42 (dk_at dksX1_trailer_5 10 rfl rfl)
theorem dX1_trailer_130 : decode cX1_trailer 130 = .ok (.dup, 1) := dk_89 (dk_at dksX1_trailer_5 11 rfl rfl)
theorem dX1_trailer_131 : decode cX1_trailer 131 = .ok (.getfield 229, 3) := dk_180 0 229 (dk_at dksX1_trailer_5 12 rfl rfl)
theorem dX1_trailer_134 : decode cX1_trailer 134 = .ok (.iconst 1, 1) := dk_4 (dk_at dksX1_trailer_5 15 rfl rfl)
theorem dX1_trailer_135 : decode cX1_trailer 135 = .ok (.iadd, 1) := dk_96 (dk_at dksX1_trailer_5 16 rfl rfl)
theorem dX1_trailer_136 : decode cX1_trailer 136 = .ok (.putfield 229, 3) := dk_181 0 229 (dk_at dksX1_trailer_5 17 rfl rfl)
theorem dX1_trailer_139 : decode cX1_trailer 139 = .ok (.aload_n 0, 1) := dk_42 (dk_at dksX1_trailer_5 20 rfl rfl)
theorem dX1_trailer_140 : decode cX1_trailer 140 = .ok (.getfield 229, 3) := dk_180 0 229 (dk_at dksX1_trailer_5 21 rfl rfl)
theorem dX1_trailer_143 : decode cX1_trailer 143 = .ok (.iconst 1, 1) := dk_4 (dk_at dksX1_trailer_6 0 rfl rfl)
theorem dX1_trailer_144 : decode cX1_trailer 144 = .ok (.isub, 1) := dk_100 (dk_at dksX1_trailer_6 1 rfl rfl)
theorem dX1_trailer_145 : decode cX1_trailer 145 = .ok (.ireturn, 1) := dk_172 (dk_at dksX1_trailer_6 2 rfl rfl)
abbrev cX1_isWorth : ByteArray := prog_8_method_30_code
def yX1_isWorth : MethodName := ⟨RX1, "isWorth", "(I)Z"⟩
def dkwX1_isWorth_0 : List UInt8 := [26, 3, 18, 232, 184, 0, 185, 172]
abbrev dktX1_isWorth_0 : List UInt8 := dkwX1_isWorth_0 ++ []
theorem dksX1_isWorth_0 : cX1_isWorth.data.toList.drop 0 = dktX1_isWorth_0 := by decide +kernel
theorem dX1_isWorth_0 : decode cX1_isWorth 0 = .ok (.iload_n 0, 1) := dk_26 (dk_at dksX1_isWorth_0 0 rfl rfl)
theorem dX1_isWorth_1 : decode cX1_isWorth 1 = .ok (.iconst 0, 1) := dk_3 (dk_at dksX1_isWorth_0 1 rfl rfl)
theorem dX1_isWorth_2 : decode cX1_isWorth 2 = .ok (.ldc 232, 2) := dk_18 232 (dk_at dksX1_isWorth_0 2 rfl rfl)
theorem dX1_isWorth_4 : decode cX1_isWorth 4 = .ok (.invokestatic 185, 3) := dk_184 0 185 (dk_at dksX1_isWorth_0 4 rfl rfl)
theorem dX1_isWorth_7 : decode cX1_isWorth 7 = .ok (.ireturn, 1) := dk_172 (dk_at dksX1_isWorth_0 7 rfl rfl)
abbrev cX1_enter : ByteArray := prog_8_method_27_code
def yX1_enter : MethodName := ⟨RX1, "enter", "(IIII)V"⟩
def dkwX1_enter_2 : List UInt8 := [180, 0, 226, 21, 4, 79, 42, 89, 180, 0, 226, 4, 96, 181, 0, 226, 177]
abbrev dktX1_enter_2 : List UInt8 := dkwX1_enter_2 ++ []
def dkwX1_enter_1 : List UInt8 := [42, 180, 0, 226, 42, 180, 0, 207, 79, 42, 180, 0, 108, 42, 180, 0, 226, 29, 79, 42, 180, 0, 111, 42]
abbrev dktX1_enter_1 : List UInt8 := dkwX1_enter_1 ++ dktX1_enter_2
def dkwX1_enter_0 : List UInt8 := [42, 180, 0, 99, 42, 180, 0, 226, 27, 79, 42, 180, 0, 102, 42, 180, 0, 226, 28, 79, 42, 180, 0, 105]
abbrev dktX1_enter_0 : List UInt8 := dkwX1_enter_0 ++ dktX1_enter_1
theorem dksX1_enter_0 : cX1_enter.data.toList.drop 0 = dktX1_enter_0 := by decide +kernel
theorem dksX1_enter_1 : cX1_enter.data.toList.drop 24 = dktX1_enter_1 := dk_seg dksX1_enter_0 24 rfl rfl
theorem dksX1_enter_2 : cX1_enter.data.toList.drop 48 = dktX1_enter_2 := dk_seg dksX1_enter_1 24 rfl rfl
theorem dX1_enter_0 : decode cX1_enter 0 = .ok (.aload_n 0, 1) := dk_42 (dk_at dksX1_enter_0 0 rfl rfl)
theorem dX1_enter_1 : decode cX1_enter 1 = .ok (.getfield 99, 3) := dk_180 0 99 (dk_at dksX1_enter_0 1 rfl rfl)
theorem dX1_enter_4 : decode cX1_enter 4 = .ok (.aload_n 0, 1) := dk_42 (dk_at dksX1_enter_0 4 rfl rfl)
theorem dX1_enter_5 : decode cX1_enter 5 = .ok (.getfield 226, 3) := dk_180 0 226 (dk_at dksX1_enter_0 5 rfl rfl)
theorem dX1_enter_8 : decode cX1_enter 8 = .ok (.iload_n 1, 1) := dk_27 (dk_at dksX1_enter_0 8 rfl rfl)
theorem dX1_enter_9 : decode cX1_enter 9 = .ok (.iastore, 1) := dk_79 (dk_at dksX1_enter_0 9 rfl rfl)
theorem dX1_enter_10 : decode cX1_enter 10 = .ok (.aload_n 0, 1) := dk_42 (dk_at dksX1_enter_0 10 rfl rfl)
theorem dX1_enter_11 : decode cX1_enter 11 = .ok (.getfield 102, 3) := dk_180 0 102 (dk_at dksX1_enter_0 11 rfl rfl)
theorem dX1_enter_14 : decode cX1_enter 14 = .ok (.aload_n 0, 1) := dk_42 (dk_at dksX1_enter_0 14 rfl rfl)
theorem dX1_enter_15 : decode cX1_enter 15 = .ok (.getfield 226, 3) := dk_180 0 226 (dk_at dksX1_enter_0 15 rfl rfl)
theorem dX1_enter_18 : decode cX1_enter 18 = .ok (.iload_n 2, 1) := dk_28 (dk_at dksX1_enter_0 18 rfl rfl)
theorem dX1_enter_19 : decode cX1_enter 19 = .ok (.iastore, 1) := dk_79 (dk_at dksX1_enter_0 19 rfl rfl)
theorem dX1_enter_20 : decode cX1_enter 20 = .ok (.aload_n 0, 1) := dk_42 (dk_at dksX1_enter_0 20 rfl rfl)
theorem dX1_enter_21 : decode cX1_enter 21 = .ok (.getfield 105, 3) := dk_180 0 105 (dk_at dksX1_enter_0 21 rfl rfl)
theorem dX1_enter_24 : decode cX1_enter 24 = .ok (.aload_n 0, 1) := dk_42 (dk_at dksX1_enter_1 0 rfl rfl)
theorem dX1_enter_25 : decode cX1_enter 25 = .ok (.getfield 226, 3) := dk_180 0 226 (dk_at dksX1_enter_1 1 rfl rfl)
theorem dX1_enter_28 : decode cX1_enter 28 = .ok (.aload_n 0, 1) := dk_42 (dk_at dksX1_enter_1 4 rfl rfl)
theorem dX1_enter_29 : decode cX1_enter 29 = .ok (.getfield 207, 3) := dk_180 0 207 (dk_at dksX1_enter_1 5 rfl rfl)
theorem dX1_enter_32 : decode cX1_enter 32 = .ok (.iastore, 1) := dk_79 (dk_at dksX1_enter_1 8 rfl rfl)
theorem dX1_enter_33 : decode cX1_enter 33 = .ok (.aload_n 0, 1) := dk_42 (dk_at dksX1_enter_1 9 rfl rfl)
theorem dX1_enter_34 : decode cX1_enter 34 = .ok (.getfield 108, 3) := dk_180 0 108 (dk_at dksX1_enter_1 10 rfl rfl)
theorem dX1_enter_37 : decode cX1_enter 37 = .ok (.aload_n 0, 1) := dk_42 (dk_at dksX1_enter_1 13 rfl rfl)
theorem dX1_enter_38 : decode cX1_enter 38 = .ok (.getfield 226, 3) := dk_180 0 226 (dk_at dksX1_enter_1 14 rfl rfl)
theorem dX1_enter_41 : decode cX1_enter 41 = .ok (.iload_n 3, 1) := dk_29 (dk_at dksX1_enter_1 17 rfl rfl)
theorem dX1_enter_42 : decode cX1_enter 42 = .ok (.iastore, 1) := dk_79 (dk_at dksX1_enter_1 18 rfl rfl)
theorem dX1_enter_43 : decode cX1_enter 43 = .ok (.aload_n 0, 1) := dk_42 (dk_at dksX1_enter_1 19 rfl rfl)
theorem dX1_enter_44 : decode cX1_enter 44 = .ok (.getfield 111, 3) := dk_180 0 111 (dk_at dksX1_enter_1 20 rfl rfl)
theorem dX1_enter_47 : decode cX1_enter 47 = .ok (.aload_n 0, 1) := dk_42 (dk_at dksX1_enter_1 23 rfl rfl)
theorem dX1_enter_48 : decode cX1_enter 48 = .ok (.getfield 226, 3) := dk_180 0 226 (dk_at dksX1_enter_2 0 rfl rfl)
theorem dX1_enter_51 : decode cX1_enter 51 = .ok (.iload 4, 2) := dk_21 4 (dk_at dksX1_enter_2 3 rfl rfl)
theorem dX1_enter_53 : decode cX1_enter 53 = .ok (.iastore, 1) := dk_79 (dk_at dksX1_enter_2 5 rfl rfl)
theorem dX1_enter_54 : decode cX1_enter 54 = .ok (.aload_n 0, 1) := dk_42 (dk_at dksX1_enter_2 6 rfl rfl)
theorem dX1_enter_55 : decode cX1_enter 55 = .ok (.dup, 1) := dk_89 (dk_at dksX1_enter_2 7 rfl rfl)
theorem dX1_enter_56 : decode cX1_enter 56 = .ok (.getfield 226, 3) := dk_180 0 226 (dk_at dksX1_enter_2 8 rfl rfl)
theorem dX1_enter_59 : decode cX1_enter 59 = .ok (.iconst 1, 1) := dk_4 (dk_at dksX1_enter_2 11 rfl rfl)
theorem dX1_enter_60 : decode cX1_enter 60 = .ok (.iadd, 1) := dk_96 (dk_at dksX1_enter_2 12 rfl rfl)
theorem dX1_enter_61 : decode cX1_enter 61 = .ok (.putfield 226, 3) := dk_181 0 226 (dk_at dksX1_enter_2 13 rfl rfl)
theorem dX1_enter_64 : decode cX1_enter 64 = .ok (.return_, 1) := dk_177 (dk_at dksX1_enter_2 16 rfl rfl)
abbrev cX1_told : ByteArray := prog_8_method_33_code
def yX1_told : MethodName := ⟨RX1, "told", "(II)I"⟩
def dkwX1_told_1 : List UInt8 := [182, 0, 243, 4, 182, 0, 246, 167, 0, 4, 2, 172]
abbrev dktX1_told_1 : List UInt8 := dkwX1_told_1 ++ []
def dkwX1_told_0 : List UInt8 := [42, 27, 182, 0, 240, 153, 0, 27, 28, 3, 16, 7, 184, 0, 185, 153, 0, 17, 42, 42, 27, 28]
abbrev dktX1_told_0 : List UInt8 := dkwX1_told_0 ++ dktX1_told_1
theorem dksX1_told_0 : cX1_told.data.toList.drop 0 = dktX1_told_0 := by decide +kernel
theorem dksX1_told_1 : cX1_told.data.toList.drop 22 = dktX1_told_1 := dk_seg dksX1_told_0 22 rfl rfl
theorem dX1_told_0 : decode cX1_told 0 = .ok (.aload_n 0, 1) := dk_42 (dk_at dksX1_told_0 0 rfl rfl)
theorem dX1_told_1 : decode cX1_told 1 = .ok (.iload_n 1, 1) := dk_27 (dk_at dksX1_told_0 1 rfl rfl)
theorem dX1_told_2 : decode cX1_told 2 = .ok (.invokevirtual 240, 3) := dk_182 0 240 (dk_at dksX1_told_0 2 rfl rfl)
theorem dX1_told_5 : decode cX1_told 5 = .ok (.ifCond .eq 27, 3) := dk_153 0 27 (dk_at dksX1_told_0 5 rfl rfl)
theorem dX1_told_8 : decode cX1_told 8 = .ok (.iload_n 2, 1) := dk_28 (dk_at dksX1_told_0 8 rfl rfl)
theorem dX1_told_9 : decode cX1_told 9 = .ok (.iconst 0, 1) := dk_3 (dk_at dksX1_told_0 9 rfl rfl)
theorem dX1_told_10 : decode cX1_told 10 = .ok (.bipush 7, 2) := dk_16 7 (dk_at dksX1_told_0 10 rfl rfl)
theorem dX1_told_12 : decode cX1_told 12 = .ok (.invokestatic 185, 3) := dk_184 0 185 (dk_at dksX1_told_0 12 rfl rfl)
theorem dX1_told_15 : decode cX1_told 15 = .ok (.ifCond .eq 17, 3) := dk_153 0 17 (dk_at dksX1_told_0 15 rfl rfl)
theorem dX1_told_18 : decode cX1_told 18 = .ok (.aload_n 0, 1) := dk_42 (dk_at dksX1_told_0 18 rfl rfl)
theorem dX1_told_19 : decode cX1_told 19 = .ok (.aload_n 0, 1) := dk_42 (dk_at dksX1_told_0 19 rfl rfl)
theorem dX1_told_20 : decode cX1_told 20 = .ok (.iload_n 1, 1) := dk_27 (dk_at dksX1_told_0 20 rfl rfl)
theorem dX1_told_21 : decode cX1_told 21 = .ok (.iload_n 2, 1) := dk_28 (dk_at dksX1_told_0 21 rfl rfl)
theorem dX1_told_22 : decode cX1_told 22 = .ok (.invokevirtual 243, 3) := dk_182 0 243 (dk_at dksX1_told_1 0 rfl rfl)
theorem dX1_told_25 : decode cX1_told 25 = .ok (.iconst 1, 1) := dk_4 (dk_at dksX1_told_1 3 rfl rfl)
theorem dX1_told_26 : decode cX1_told 26 = .ok (.invokevirtual 246, 3) := dk_182 0 246 (dk_at dksX1_told_1 4 rfl rfl)
theorem dX1_told_29 : decode cX1_told 29 = .ok (.goto 4, 3) := dk_167 0 4 (dk_at dksX1_told_1 7 rfl rfl)
theorem dX1_told_32 : decode cX1_told 32 = .ok (.iconst (-1), 1) := dk_2 (dk_at dksX1_told_1 10 rfl rfl)
theorem dX1_told_33 : decode cX1_told 33 = .ok (.ireturn, 1) := dk_172 (dk_at dksX1_told_1 11 rfl rfl)
abbrev cX1_isTrailer : ByteArray := prog_8_method_28_code
def yX1_isTrailer : MethodName := ⟨RX1, "isTrailer", "(I)Z"⟩
def dkwX1_isTrailer_0 : List UInt8 := [27, 3, 42, 180, 0, 229, 4, 100, 184, 0, 185, 172]
abbrev dktX1_isTrailer_0 : List UInt8 := dkwX1_isTrailer_0 ++ []
theorem dksX1_isTrailer_0 : cX1_isTrailer.data.toList.drop 0 = dktX1_isTrailer_0 := by decide +kernel
theorem dX1_isTrailer_0 : decode cX1_isTrailer 0 = .ok (.iload_n 1, 1) := dk_27 (dk_at dksX1_isTrailer_0 0 rfl rfl)
theorem dX1_isTrailer_1 : decode cX1_isTrailer 1 = .ok (.iconst 0, 1) := dk_3 (dk_at dksX1_isTrailer_0 1 rfl rfl)
theorem dX1_isTrailer_2 : decode cX1_isTrailer 2 = .ok (.aload_n 0, 1) := dk_42 (dk_at dksX1_isTrailer_0 2 rfl rfl)
theorem dX1_isTrailer_3 : decode cX1_isTrailer 3 = .ok (.getfield 229, 3) := dk_180 0 229 (dk_at dksX1_isTrailer_0 3 rfl rfl)
theorem dX1_isTrailer_6 : decode cX1_isTrailer 6 = .ok (.iconst 1, 1) := dk_4 (dk_at dksX1_isTrailer_0 6 rfl rfl)
theorem dX1_isTrailer_7 : decode cX1_isTrailer 7 = .ok (.isub, 1) := dk_100 (dk_at dksX1_isTrailer_0 7 rfl rfl)
theorem dX1_isTrailer_8 : decode cX1_isTrailer 8 = .ok (.invokestatic 185, 3) := dk_184 0 185 (dk_at dksX1_isTrailer_0 8 rfl rfl)
theorem dX1_isTrailer_11 : decode cX1_isTrailer 11 = .ok (.ireturn, 1) := dk_172 (dk_at dksX1_isTrailer_0 11 rfl rfl)
abbrev cX1_trailerTells : ByteArray := prog_8_method_32_code
def yX1_trailerTells : MethodName := ⟨RX1, "trailerTells", "(II)I"⟩
def dkwX1_trailerTells_5 : List UInt8 := [167, 0, 4, 3, 172]
abbrev dktX1_trailerTells_5 : List UInt8 := dkwX1_trailerTells_5 ++ []
def dkwX1_trailerTells_4 : List UInt8 := [180, 0, 63, 27, 46, 172, 42, 180, 0, 66, 27, 46, 172, 42, 180, 0, 75, 27, 51, 153, 0, 7, 4]
abbrev dktX1_trailerTells_4 : List UInt8 := dkwX1_trailerTells_4 ++ dktX1_trailerTells_5
def dkwX1_trailerTells_3 : List UInt8 := [180, 0, 56, 27, 51, 153, 0, 7, 4, 167, 0, 4, 3, 172, 42, 180, 0, 60, 27, 46, 172, 42]
abbrev dktX1_trailerTells_3 : List UInt8 := dkwX1_trailerTells_3 ++ dktX1_trailerTells_4
def dkwX1_trailerTells_2 : List UInt8 := [42, 180, 0, 47, 27, 46, 172, 42, 180, 0, 50, 27, 46, 172, 42, 180, 0, 53, 27, 46, 172, 42]
abbrev dktX1_trailerTells_2 : List UInt8 := dkwX1_trailerTells_2 ++ dktX1_trailerTells_3
def dkwX1_trailerTells_1 : List UInt8 := [170, 0, 0, 0, 0, 0, 100, 0, 0, 0, 0, 0, 0, 0, 6, 0, 0, 0, 43, 0, 0, 0, 50, 0, 0, 0, 57, 0, 0, 0, 64, 0, 0, 0, 79, 0, 0, 0, 86, 0, 0, 0, 93]
abbrev dktX1_trailerTells_1 : List UInt8 := dkwX1_trailerTells_1 ++ dktX1_trailerTells_2
def dkwX1_trailerTells_0 : List UInt8 := [28]
abbrev dktX1_trailerTells_0 : List UInt8 := dkwX1_trailerTells_0 ++ dktX1_trailerTells_1
theorem dksX1_trailerTells_0 : cX1_trailerTells.data.toList.drop 0 = dktX1_trailerTells_0 := by decide +kernel
theorem dksX1_trailerTells_1 : cX1_trailerTells.data.toList.drop 1 = dktX1_trailerTells_1 := dk_seg dksX1_trailerTells_0 1 rfl rfl
theorem dksX1_trailerTells_2 : cX1_trailerTells.data.toList.drop 44 = dktX1_trailerTells_2 := dk_seg dksX1_trailerTells_1 43 rfl rfl
theorem dksX1_trailerTells_3 : cX1_trailerTells.data.toList.drop 66 = dktX1_trailerTells_3 := dk_seg dksX1_trailerTells_2 22 rfl rfl
theorem dksX1_trailerTells_4 : cX1_trailerTells.data.toList.drop 88 = dktX1_trailerTells_4 := dk_seg dksX1_trailerTells_3 22 rfl rfl
theorem dksX1_trailerTells_5 : cX1_trailerTells.data.toList.drop 111 = dktX1_trailerTells_5 := dk_seg dksX1_trailerTells_4 23 rfl rfl
theorem dX1_trailerTells_0 : decode cX1_trailerTells 0 = .ok (.iload_n 2, 1) := dk_28 (dk_at dksX1_trailerTells_0 0 rfl rfl)
theorem dX1_trailerTells_1 : decode cX1_trailerTells 1 = .ok (.tableswitch 100 0 6 #[43, 50, 57, 64, 79, 86, 93], 43) := by decide +kernel
theorem dX1_trailerTells_44 : decode cX1_trailerTells 44 = .ok (.aload_n 0, 1) := dk_42 (dk_at dksX1_trailerTells_2 0 rfl rfl)
theorem dX1_trailerTells_45 : decode cX1_trailerTells 45 = .ok (.getfield 47, 3) := dk_180 0 47 (dk_at dksX1_trailerTells_2 1 rfl rfl)
theorem dX1_trailerTells_48 : decode cX1_trailerTells 48 = .ok (.iload_n 1, 1) := dk_27 (dk_at dksX1_trailerTells_2 4 rfl rfl)
theorem dX1_trailerTells_49 : decode cX1_trailerTells 49 = .ok (.iaload, 1) := dk_46 (dk_at dksX1_trailerTells_2 5 rfl rfl)
theorem dX1_trailerTells_50 : decode cX1_trailerTells 50 = .ok (.ireturn, 1) := dk_172 (dk_at dksX1_trailerTells_2 6 rfl rfl)
theorem dX1_trailerTells_51 : decode cX1_trailerTells 51 = .ok (.aload_n 0, 1) := dk_42 (dk_at dksX1_trailerTells_2 7 rfl rfl)
theorem dX1_trailerTells_52 : decode cX1_trailerTells 52 = .ok (.getfield 50, 3) := dk_180 0 50 (dk_at dksX1_trailerTells_2 8 rfl rfl)
theorem dX1_trailerTells_55 : decode cX1_trailerTells 55 = .ok (.iload_n 1, 1) := dk_27 (dk_at dksX1_trailerTells_2 11 rfl rfl)
theorem dX1_trailerTells_56 : decode cX1_trailerTells 56 = .ok (.iaload, 1) := dk_46 (dk_at dksX1_trailerTells_2 12 rfl rfl)
theorem dX1_trailerTells_57 : decode cX1_trailerTells 57 = .ok (.ireturn, 1) := dk_172 (dk_at dksX1_trailerTells_2 13 rfl rfl)
theorem dX1_trailerTells_58 : decode cX1_trailerTells 58 = .ok (.aload_n 0, 1) := dk_42 (dk_at dksX1_trailerTells_2 14 rfl rfl)
theorem dX1_trailerTells_59 : decode cX1_trailerTells 59 = .ok (.getfield 53, 3) := dk_180 0 53 (dk_at dksX1_trailerTells_2 15 rfl rfl)
theorem dX1_trailerTells_62 : decode cX1_trailerTells 62 = .ok (.iload_n 1, 1) := dk_27 (dk_at dksX1_trailerTells_2 18 rfl rfl)
theorem dX1_trailerTells_63 : decode cX1_trailerTells 63 = .ok (.iaload, 1) := dk_46 (dk_at dksX1_trailerTells_2 19 rfl rfl)
theorem dX1_trailerTells_64 : decode cX1_trailerTells 64 = .ok (.ireturn, 1) := dk_172 (dk_at dksX1_trailerTells_2 20 rfl rfl)
theorem dX1_trailerTells_65 : decode cX1_trailerTells 65 = .ok (.aload_n 0, 1) := dk_42 (dk_at dksX1_trailerTells_2 21 rfl rfl)
theorem dX1_trailerTells_66 : decode cX1_trailerTells 66 = .ok (.getfield 56, 3) := dk_180 0 56 (dk_at dksX1_trailerTells_3 0 rfl rfl)
theorem dX1_trailerTells_69 : decode cX1_trailerTells 69 = .ok (.iload_n 1, 1) := dk_27 (dk_at dksX1_trailerTells_3 3 rfl rfl)
theorem dX1_trailerTells_70 : decode cX1_trailerTells 70 = .ok (.baload, 1) := dk_51 (dk_at dksX1_trailerTells_3 4 rfl rfl)
theorem dX1_trailerTells_71 : decode cX1_trailerTells 71 = .ok (.ifCond .eq 7, 3) := dk_153 0 7 (dk_at dksX1_trailerTells_3 5 rfl rfl)
theorem dX1_trailerTells_74 : decode cX1_trailerTells 74 = .ok (.iconst 1, 1) := dk_4 (dk_at dksX1_trailerTells_3 8 rfl rfl)
theorem dX1_trailerTells_75 : decode cX1_trailerTells 75 = .ok (.goto 4, 3) := dk_167 0 4 (dk_at dksX1_trailerTells_3 9 rfl rfl)
theorem dX1_trailerTells_78 : decode cX1_trailerTells 78 = .ok (.iconst 0, 1) := dk_3 (dk_at dksX1_trailerTells_3 12 rfl rfl)
theorem dX1_trailerTells_79 : decode cX1_trailerTells 79 = .ok (.ireturn, 1) := dk_172 (dk_at dksX1_trailerTells_3 13 rfl rfl)
theorem dX1_trailerTells_80 : decode cX1_trailerTells 80 = .ok (.aload_n 0, 1) := dk_42 (dk_at dksX1_trailerTells_3 14 rfl rfl)
theorem dX1_trailerTells_81 : decode cX1_trailerTells 81 = .ok (.getfield 60, 3) := dk_180 0 60 (dk_at dksX1_trailerTells_3 15 rfl rfl)
theorem dX1_trailerTells_84 : decode cX1_trailerTells 84 = .ok (.iload_n 1, 1) := dk_27 (dk_at dksX1_trailerTells_3 18 rfl rfl)
theorem dX1_trailerTells_85 : decode cX1_trailerTells 85 = .ok (.iaload, 1) := dk_46 (dk_at dksX1_trailerTells_3 19 rfl rfl)
theorem dX1_trailerTells_86 : decode cX1_trailerTells 86 = .ok (.ireturn, 1) := dk_172 (dk_at dksX1_trailerTells_3 20 rfl rfl)
theorem dX1_trailerTells_87 : decode cX1_trailerTells 87 = .ok (.aload_n 0, 1) := dk_42 (dk_at dksX1_trailerTells_3 21 rfl rfl)
theorem dX1_trailerTells_88 : decode cX1_trailerTells 88 = .ok (.getfield 63, 3) := dk_180 0 63 (dk_at dksX1_trailerTells_4 0 rfl rfl)
theorem dX1_trailerTells_91 : decode cX1_trailerTells 91 = .ok (.iload_n 1, 1) := dk_27 (dk_at dksX1_trailerTells_4 3 rfl rfl)
theorem dX1_trailerTells_92 : decode cX1_trailerTells 92 = .ok (.iaload, 1) := dk_46 (dk_at dksX1_trailerTells_4 4 rfl rfl)
theorem dX1_trailerTells_93 : decode cX1_trailerTells 93 = .ok (.ireturn, 1) := dk_172 (dk_at dksX1_trailerTells_4 5 rfl rfl)
theorem dX1_trailerTells_94 : decode cX1_trailerTells 94 = .ok (.aload_n 0, 1) := dk_42 (dk_at dksX1_trailerTells_4 6 rfl rfl)
theorem dX1_trailerTells_95 : decode cX1_trailerTells 95 = .ok (.getfield 66, 3) := dk_180 0 66 (dk_at dksX1_trailerTells_4 7 rfl rfl)
theorem dX1_trailerTells_98 : decode cX1_trailerTells 98 = .ok (.iload_n 1, 1) := dk_27 (dk_at dksX1_trailerTells_4 10 rfl rfl)
theorem dX1_trailerTells_99 : decode cX1_trailerTells 99 = .ok (.iaload, 1) := dk_46 (dk_at dksX1_trailerTells_4 11 rfl rfl)
theorem dX1_trailerTells_100 : decode cX1_trailerTells 100 = .ok (.ireturn, 1) := dk_172 (dk_at dksX1_trailerTells_4 12 rfl rfl)
theorem dX1_trailerTells_101 : decode cX1_trailerTells 101 = .ok (.aload_n 0, 1) := dk_42 (dk_at dksX1_trailerTells_4 13 rfl rfl)
theorem dX1_trailerTells_102 : decode cX1_trailerTells 102 = .ok (.getfield 75, 3) := dk_180 0 75 (dk_at dksX1_trailerTells_4 14 rfl rfl)
theorem dX1_trailerTells_105 : decode cX1_trailerTells 105 = .ok (.iload_n 1, 1) := dk_27 (dk_at dksX1_trailerTells_4 17 rfl rfl)
theorem dX1_trailerTells_106 : decode cX1_trailerTells 106 = .ok (.baload, 1) := dk_51 (dk_at dksX1_trailerTells_4 18 rfl rfl)
theorem dX1_trailerTells_107 : decode cX1_trailerTells 107 = .ok (.ifCond .eq 7, 3) := dk_153 0 7 (dk_at dksX1_trailerTells_4 19 rfl rfl)
theorem dX1_trailerTells_110 : decode cX1_trailerTells 110 = .ok (.iconst 1, 1) := dk_4 (dk_at dksX1_trailerTells_4 22 rfl rfl)
theorem dX1_trailerTells_111 : decode cX1_trailerTells 111 = .ok (.goto 4, 3) := dk_167 0 4 (dk_at dksX1_trailerTells_5 0 rfl rfl)
theorem dX1_trailerTells_114 : decode cX1_trailerTells 114 = .ok (.iconst 0, 1) := dk_3 (dk_at dksX1_trailerTells_5 3 rfl rfl)
theorem dX1_trailerTells_115 : decode cX1_trailerTells 115 = .ok (.ireturn, 1) := dk_172 (dk_at dksX1_trailerTells_5 4 rfl rfl)
abbrev cX1_ask : ByteArray := prog_8_method_5_code
def yX1_ask : MethodName := ⟨RX1, "ask", "(II)I"⟩
def dkwX1_ask_0 : List UInt8 := [42, 27, 181, 0, 179, 28, 172]
abbrev dktX1_ask_0 : List UInt8 := dkwX1_ask_0 ++ []
theorem dksX1_ask_0 : cX1_ask.data.toList.drop 0 = dktX1_ask_0 := by decide +kernel
theorem dX1_ask_0 : decode cX1_ask 0 = .ok (.aload_n 0, 1) := dk_42 (dk_at dksX1_ask_0 0 rfl rfl)
theorem dX1_ask_1 : decode cX1_ask 1 = .ok (.iload_n 1, 1) := dk_27 (dk_at dksX1_ask_0 1 rfl rfl)
theorem dX1_ask_2 : decode cX1_ask 2 = .ok (.putfield 179, 3) := dk_181 0 179 (dk_at dksX1_ask_0 2 rfl rfl)
theorem dX1_ask_5 : decode cX1_ask 5 = .ok (.iload_n 2, 1) := dk_28 (dk_at dksX1_ask_0 5 rfl rfl)
theorem dX1_ask_6 : decode cX1_ask 6 = .ok (.ireturn, 1) := dk_172 (dk_at dksX1_ask_0 6 rfl rfl)
abbrev cX1_mark : ByteArray := prog_8_method_36_code
def yX1_mark : MethodName := ⟨RX1, "mark", "(II)I"⟩
def dkwX1_mark_4 : List UInt8 := [180, 0, 81, 27, 46, 172]
abbrev dktX1_mark_4 : List UInt8 := dkwX1_mark_4 ++ []
def dkwX1_mark_3 : List UInt8 := [184, 0, 252, 42, 180, 0, 105, 42, 27, 3, 182, 0, 255, 46, 184, 0, 252, 100, 167, 0, 9, 42]
abbrev dktX1_mark_3 : List UInt8 := dkwX1_mark_3 ++ dktX1_mark_4
def dkwX1_mark_2 : List UInt8 := [28, 4, 160, 0, 12, 42, 180, 0, 78, 27, 46, 167, 0, 39, 28, 5, 160, 0, 28, 42, 180, 0, 207]
abbrev dktX1_mark_2 : List UInt8 := dkwX1_mark_2 ++ dktX1_mark_3
def dkwX1_mark_1 : List UInt8 := [46, 28, 159, 0, 22, 28, 4, 160, 0, 11, 42, 27, 182, 0, 249, 154, 0, 9, 42, 6, 182, 0, 193, 172]
abbrev dktX1_mark_1 : List UInt8 := dkwX1_mark_1 ++ dktX1_mark_2
def dkwX1_mark_0 : List UInt8 := [42, 27, 182, 0, 240, 153, 0, 12, 28, 4, 6, 184, 0, 185, 154, 0, 5, 2, 172, 42, 180, 0, 47, 27]
abbrev dktX1_mark_0 : List UInt8 := dkwX1_mark_0 ++ dktX1_mark_1
theorem dksX1_mark_0 : cX1_mark.data.toList.drop 0 = dktX1_mark_0 := by decide +kernel
theorem dksX1_mark_1 : cX1_mark.data.toList.drop 24 = dktX1_mark_1 := dk_seg dksX1_mark_0 24 rfl rfl
theorem dksX1_mark_2 : cX1_mark.data.toList.drop 48 = dktX1_mark_2 := dk_seg dksX1_mark_1 24 rfl rfl
theorem dksX1_mark_3 : cX1_mark.data.toList.drop 71 = dktX1_mark_3 := dk_seg dksX1_mark_2 23 rfl rfl
theorem dksX1_mark_4 : cX1_mark.data.toList.drop 93 = dktX1_mark_4 := dk_seg dksX1_mark_3 22 rfl rfl
theorem dX1_mark_0 : decode cX1_mark 0 = .ok (.aload_n 0, 1) := dk_42 (dk_at dksX1_mark_0 0 rfl rfl)
theorem dX1_mark_1 : decode cX1_mark 1 = .ok (.iload_n 1, 1) := dk_27 (dk_at dksX1_mark_0 1 rfl rfl)
theorem dX1_mark_2 : decode cX1_mark 2 = .ok (.invokevirtual 240, 3) := dk_182 0 240 (dk_at dksX1_mark_0 2 rfl rfl)
theorem dX1_mark_5 : decode cX1_mark 5 = .ok (.ifCond .eq 12, 3) := dk_153 0 12 (dk_at dksX1_mark_0 5 rfl rfl)
theorem dX1_mark_8 : decode cX1_mark 8 = .ok (.iload_n 2, 1) := dk_28 (dk_at dksX1_mark_0 8 rfl rfl)
theorem dX1_mark_9 : decode cX1_mark 9 = .ok (.iconst 1, 1) := dk_4 (dk_at dksX1_mark_0 9 rfl rfl)
theorem dX1_mark_10 : decode cX1_mark 10 = .ok (.iconst 3, 1) := dk_6 (dk_at dksX1_mark_0 10 rfl rfl)
theorem dX1_mark_11 : decode cX1_mark 11 = .ok (.invokestatic 185, 3) := dk_184 0 185 (dk_at dksX1_mark_0 11 rfl rfl)
theorem dX1_mark_14 : decode cX1_mark 14 = .ok (.ifCond .ne 5, 3) := dk_154 0 5 (dk_at dksX1_mark_0 14 rfl rfl)
theorem dX1_mark_17 : decode cX1_mark 17 = .ok (.iconst (-1), 1) := dk_2 (dk_at dksX1_mark_0 17 rfl rfl)
theorem dX1_mark_18 : decode cX1_mark 18 = .ok (.ireturn, 1) := dk_172 (dk_at dksX1_mark_0 18 rfl rfl)
theorem dX1_mark_19 : decode cX1_mark 19 = .ok (.aload_n 0, 1) := dk_42 (dk_at dksX1_mark_0 19 rfl rfl)
theorem dX1_mark_20 : decode cX1_mark 20 = .ok (.getfield 47, 3) := dk_180 0 47 (dk_at dksX1_mark_0 20 rfl rfl)
theorem dX1_mark_23 : decode cX1_mark 23 = .ok (.iload_n 1, 1) := dk_27 (dk_at dksX1_mark_0 23 rfl rfl)
theorem dX1_mark_24 : decode cX1_mark 24 = .ok (.iaload, 1) := dk_46 (dk_at dksX1_mark_1 0 rfl rfl)
theorem dX1_mark_25 : decode cX1_mark 25 = .ok (.iload_n 2, 1) := dk_28 (dk_at dksX1_mark_1 1 rfl rfl)
theorem dX1_mark_26 : decode cX1_mark 26 = .ok (.if_icmp .eq 22, 3) := dk_159 0 22 (dk_at dksX1_mark_1 2 rfl rfl)
theorem dX1_mark_29 : decode cX1_mark 29 = .ok (.iload_n 2, 1) := dk_28 (dk_at dksX1_mark_1 5 rfl rfl)
theorem dX1_mark_30 : decode cX1_mark 30 = .ok (.iconst 1, 1) := dk_4 (dk_at dksX1_mark_1 6 rfl rfl)
theorem dX1_mark_31 : decode cX1_mark 31 = .ok (.if_icmp .ne 11, 3) := dk_160 0 11 (dk_at dksX1_mark_1 7 rfl rfl)
theorem dX1_mark_34 : decode cX1_mark 34 = .ok (.aload_n 0, 1) := dk_42 (dk_at dksX1_mark_1 10 rfl rfl)
theorem dX1_mark_35 : decode cX1_mark 35 = .ok (.iload_n 1, 1) := dk_27 (dk_at dksX1_mark_1 11 rfl rfl)
theorem dX1_mark_36 : decode cX1_mark 36 = .ok (.invokevirtual 249, 3) := dk_182 0 249 (dk_at dksX1_mark_1 12 rfl rfl)
theorem dX1_mark_39 : decode cX1_mark 39 = .ok (.ifCond .ne 9, 3) := dk_154 0 9 (dk_at dksX1_mark_1 15 rfl rfl)
theorem dX1_mark_42 : decode cX1_mark 42 = .ok (.aload_n 0, 1) := dk_42 (dk_at dksX1_mark_1 18 rfl rfl)
theorem dX1_mark_43 : decode cX1_mark 43 = .ok (.iconst 3, 1) := dk_6 (dk_at dksX1_mark_1 19 rfl rfl)
theorem dX1_mark_44 : decode cX1_mark 44 = .ok (.invokevirtual 193, 3) := dk_182 0 193 (dk_at dksX1_mark_1 20 rfl rfl)
theorem dX1_mark_47 : decode cX1_mark 47 = .ok (.ireturn, 1) := dk_172 (dk_at dksX1_mark_1 23 rfl rfl)
theorem dX1_mark_48 : decode cX1_mark 48 = .ok (.iload_n 2, 1) := dk_28 (dk_at dksX1_mark_2 0 rfl rfl)
theorem dX1_mark_49 : decode cX1_mark 49 = .ok (.iconst 1, 1) := dk_4 (dk_at dksX1_mark_2 1 rfl rfl)
theorem dX1_mark_50 : decode cX1_mark 50 = .ok (.if_icmp .ne 12, 3) := dk_160 0 12 (dk_at dksX1_mark_2 2 rfl rfl)
theorem dX1_mark_53 : decode cX1_mark 53 = .ok (.aload_n 0, 1) := dk_42 (dk_at dksX1_mark_2 5 rfl rfl)
theorem dX1_mark_54 : decode cX1_mark 54 = .ok (.getfield 78, 3) := dk_180 0 78 (dk_at dksX1_mark_2 6 rfl rfl)
theorem dX1_mark_57 : decode cX1_mark 57 = .ok (.iload_n 1, 1) := dk_27 (dk_at dksX1_mark_2 9 rfl rfl)
theorem dX1_mark_58 : decode cX1_mark 58 = .ok (.iaload, 1) := dk_46 (dk_at dksX1_mark_2 10 rfl rfl)
theorem dX1_mark_59 : decode cX1_mark 59 = .ok (.goto 39, 3) := dk_167 0 39 (dk_at dksX1_mark_2 11 rfl rfl)
theorem dX1_mark_62 : decode cX1_mark 62 = .ok (.iload_n 2, 1) := dk_28 (dk_at dksX1_mark_2 14 rfl rfl)
theorem dX1_mark_63 : decode cX1_mark 63 = .ok (.iconst 2, 1) := dk_5 (dk_at dksX1_mark_2 15 rfl rfl)
theorem dX1_mark_64 : decode cX1_mark 64 = .ok (.if_icmp .ne 28, 3) := dk_160 0 28 (dk_at dksX1_mark_2 16 rfl rfl)
theorem dX1_mark_67 : decode cX1_mark 67 = .ok (.aload_n 0, 1) := dk_42 (dk_at dksX1_mark_2 19 rfl rfl)
theorem dX1_mark_68 : decode cX1_mark 68 = .ok (.getfield 207, 3) := dk_180 0 207 (dk_at dksX1_mark_2 20 rfl rfl)
theorem dX1_mark_71 : decode cX1_mark 71 = .ok (.invokestatic 252, 3) := dk_184 0 252 (dk_at dksX1_mark_3 0 rfl rfl)
theorem dX1_mark_74 : decode cX1_mark 74 = .ok (.aload_n 0, 1) := dk_42 (dk_at dksX1_mark_3 3 rfl rfl)
theorem dX1_mark_75 : decode cX1_mark 75 = .ok (.getfield 105, 3) := dk_180 0 105 (dk_at dksX1_mark_3 4 rfl rfl)
theorem dX1_mark_78 : decode cX1_mark 78 = .ok (.aload_n 0, 1) := dk_42 (dk_at dksX1_mark_3 7 rfl rfl)
theorem dX1_mark_79 : decode cX1_mark 79 = .ok (.iload_n 1, 1) := dk_27 (dk_at dksX1_mark_3 8 rfl rfl)
theorem dX1_mark_80 : decode cX1_mark 80 = .ok (.iconst 0, 1) := dk_3 (dk_at dksX1_mark_3 9 rfl rfl)
theorem dX1_mark_81 : decode cX1_mark 81 = .ok (.invokevirtual 255, 3) := dk_182 0 255 (dk_at dksX1_mark_3 10 rfl rfl)
theorem dX1_mark_84 : decode cX1_mark 84 = .ok (.iaload, 1) := dk_46 (dk_at dksX1_mark_3 13 rfl rfl)
theorem dX1_mark_85 : decode cX1_mark 85 = .ok (.invokestatic 252, 3) := dk_184 0 252 (dk_at dksX1_mark_3 14 rfl rfl)
theorem dX1_mark_88 : decode cX1_mark 88 = .ok (.isub, 1) := dk_100 (dk_at dksX1_mark_3 17 rfl rfl)
theorem dX1_mark_89 : decode cX1_mark 89 = .ok (.goto 9, 3) := dk_167 0 9 (dk_at dksX1_mark_3 18 rfl rfl)
theorem dX1_mark_92 : decode cX1_mark 92 = .ok (.aload_n 0, 1) := dk_42 (dk_at dksX1_mark_3 21 rfl rfl)
theorem dX1_mark_93 : decode cX1_mark 93 = .ok (.getfield 81, 3) := dk_180 0 81 (dk_at dksX1_mark_4 0 rfl rfl)
theorem dX1_mark_96 : decode cX1_mark 96 = .ok (.iload_n 1, 1) := dk_27 (dk_at dksX1_mark_4 3 rfl rfl)
theorem dX1_mark_97 : decode cX1_mark 97 = .ok (.iaload, 1) := dk_46 (dk_at dksX1_mark_4 4 rfl rfl)
theorem dX1_mark_98 : decode cX1_mark 98 = .ok (.ireturn, 1) := dk_172 (dk_at dksX1_mark_4 5 rfl rfl)
abbrev cX1_isCold : ByteArray := prog_8_method_34_code
def yX1_isCold : MethodName := ⟨RX1, "isCold", "(I)Z"⟩
def dkwX1_isCold_1 : List UInt8 := [3, 172]
abbrev dktX1_isCold_1 : List UInt8 := dkwX1_isCold_1 ++ []
def dkwX1_isCold_0 : List UInt8 := [42, 180, 0, 47, 27, 46, 4, 159, 0, 13, 42, 180, 0, 47, 27, 46, 6, 160, 0, 7, 4, 167, 0, 4]
abbrev dktX1_isCold_0 : List UInt8 := dkwX1_isCold_0 ++ dktX1_isCold_1
theorem dksX1_isCold_0 : cX1_isCold.data.toList.drop 0 = dktX1_isCold_0 := by decide +kernel
theorem dksX1_isCold_1 : cX1_isCold.data.toList.drop 24 = dktX1_isCold_1 := dk_seg dksX1_isCold_0 24 rfl rfl
theorem dX1_isCold_0 : decode cX1_isCold 0 = .ok (.aload_n 0, 1) := dk_42 (dk_at dksX1_isCold_0 0 rfl rfl)
theorem dX1_isCold_1 : decode cX1_isCold 1 = .ok (.getfield 47, 3) := dk_180 0 47 (dk_at dksX1_isCold_0 1 rfl rfl)
theorem dX1_isCold_4 : decode cX1_isCold 4 = .ok (.iload_n 1, 1) := dk_27 (dk_at dksX1_isCold_0 4 rfl rfl)
theorem dX1_isCold_5 : decode cX1_isCold 5 = .ok (.iaload, 1) := dk_46 (dk_at dksX1_isCold_0 5 rfl rfl)
theorem dX1_isCold_6 : decode cX1_isCold 6 = .ok (.iconst 1, 1) := dk_4 (dk_at dksX1_isCold_0 6 rfl rfl)
theorem dX1_isCold_7 : decode cX1_isCold 7 = .ok (.if_icmp .eq 13, 3) := dk_159 0 13 (dk_at dksX1_isCold_0 7 rfl rfl)
theorem dX1_isCold_10 : decode cX1_isCold 10 = .ok (.aload_n 0, 1) := dk_42 (dk_at dksX1_isCold_0 10 rfl rfl)
theorem dX1_isCold_11 : decode cX1_isCold 11 = .ok (.getfield 47, 3) := dk_180 0 47 (dk_at dksX1_isCold_0 11 rfl rfl)
theorem dX1_isCold_14 : decode cX1_isCold 14 = .ok (.iload_n 1, 1) := dk_27 (dk_at dksX1_isCold_0 14 rfl rfl)
theorem dX1_isCold_15 : decode cX1_isCold 15 = .ok (.iaload, 1) := dk_46 (dk_at dksX1_isCold_0 15 rfl rfl)
theorem dX1_isCold_16 : decode cX1_isCold 16 = .ok (.iconst 3, 1) := dk_6 (dk_at dksX1_isCold_0 16 rfl rfl)
theorem dX1_isCold_17 : decode cX1_isCold 17 = .ok (.if_icmp .ne 7, 3) := dk_160 0 7 (dk_at dksX1_isCold_0 17 rfl rfl)
theorem dX1_isCold_20 : decode cX1_isCold 20 = .ok (.iconst 1, 1) := dk_4 (dk_at dksX1_isCold_0 20 rfl rfl)
theorem dX1_isCold_21 : decode cX1_isCold 21 = .ok (.goto 4, 3) := dk_167 0 4 (dk_at dksX1_isCold_0 21 rfl rfl)
theorem dX1_isCold_24 : decode cX1_isCold 24 = .ok (.iconst 0, 1) := dk_3 (dk_at dksX1_isCold_1 0 rfl rfl)
theorem dX1_isCold_25 : decode cX1_isCold 25 = .ok (.ireturn, 1) := dk_172 (dk_at dksX1_isCold_1 1 rfl rfl)
abbrev cX1_day : ByteArray := prog_8_method_7_code
def yX1_day : MethodName := ⟨RX1, "day", "(I)I"⟩
def dkwX1_day_0 : List UInt8 := [26, 17, 5, 160, 108, 172]
abbrev dktX1_day_0 : List UInt8 := dkwX1_day_0 ++ []
theorem dksX1_day_0 : cX1_day.data.toList.drop 0 = dktX1_day_0 := by decide +kernel
theorem dX1_day_0 : decode cX1_day 0 = .ok (.iload_n 0, 1) := dk_26 (dk_at dksX1_day_0 0 rfl rfl)
theorem dX1_day_1 : decode cX1_day 1 = .ok (.sipush 1440, 3) := dk_17 5 160 (dk_at dksX1_day_0 1 rfl rfl)
theorem dX1_day_4 : decode cX1_day 4 = .ok (.idiv, 1) := dk_108 (dk_at dksX1_day_0 4 rfl rfl)
theorem dX1_day_5 : decode cX1_day 5 = .ok (.ireturn, 1) := dk_172 (dk_at dksX1_day_0 5 rfl rfl)
abbrev cX1_entryFrom : ByteArray := prog_8_method_35_code
def yX1_entryFrom : MethodName := ⟨RX1, "entryFrom", "(II)I"⟩
def dkwX1_entryFrom_1 : List UInt8 := [167, 255, 235, 29, 42, 180, 0, 226, 162, 0, 7, 29, 167, 0, 5, 16, 247, 172]
abbrev dktX1_entryFrom_1 : List UInt8 := dkwX1_entryFrom_1 ++ []
def dkwX1_entryFrom_0 : List UInt8 := [28, 62, 29, 42, 180, 0, 226, 162, 0, 19, 42, 180, 0, 99, 29, 46, 27, 159, 0, 9, 132, 3, 1]
abbrev dktX1_entryFrom_0 : List UInt8 := dkwX1_entryFrom_0 ++ dktX1_entryFrom_1
theorem dksX1_entryFrom_0 : cX1_entryFrom.data.toList.drop 0 = dktX1_entryFrom_0 := by decide +kernel
theorem dksX1_entryFrom_1 : cX1_entryFrom.data.toList.drop 23 = dktX1_entryFrom_1 := dk_seg dksX1_entryFrom_0 23 rfl rfl
theorem dX1_entryFrom_0 : decode cX1_entryFrom 0 = .ok (.iload_n 2, 1) := dk_28 (dk_at dksX1_entryFrom_0 0 rfl rfl)
theorem dX1_entryFrom_1 : decode cX1_entryFrom 1 = .ok (.istore_n 3, 1) := dk_62 (dk_at dksX1_entryFrom_0 1 rfl rfl)
theorem dX1_entryFrom_2 : decode cX1_entryFrom 2 = .ok (.iload_n 3, 1) := dk_29 (dk_at dksX1_entryFrom_0 2 rfl rfl)
theorem dX1_entryFrom_3 : decode cX1_entryFrom 3 = .ok (.aload_n 0, 1) := dk_42 (dk_at dksX1_entryFrom_0 3 rfl rfl)
theorem dX1_entryFrom_4 : decode cX1_entryFrom 4 = .ok (.getfield 226, 3) := dk_180 0 226 (dk_at dksX1_entryFrom_0 4 rfl rfl)
theorem dX1_entryFrom_7 : decode cX1_entryFrom 7 = .ok (.if_icmp .ge 19, 3) := dk_162 0 19 (dk_at dksX1_entryFrom_0 7 rfl rfl)
theorem dX1_entryFrom_10 : decode cX1_entryFrom 10 = .ok (.aload_n 0, 1) := dk_42 (dk_at dksX1_entryFrom_0 10 rfl rfl)
theorem dX1_entryFrom_11 : decode cX1_entryFrom 11 = .ok (.getfield 99, 3) := dk_180 0 99 (dk_at dksX1_entryFrom_0 11 rfl rfl)
theorem dX1_entryFrom_14 : decode cX1_entryFrom 14 = .ok (.iload_n 3, 1) := dk_29 (dk_at dksX1_entryFrom_0 14 rfl rfl)
theorem dX1_entryFrom_15 : decode cX1_entryFrom 15 = .ok (.iaload, 1) := dk_46 (dk_at dksX1_entryFrom_0 15 rfl rfl)
theorem dX1_entryFrom_16 : decode cX1_entryFrom 16 = .ok (.iload_n 1, 1) := dk_27 (dk_at dksX1_entryFrom_0 16 rfl rfl)
theorem dX1_entryFrom_17 : decode cX1_entryFrom 17 = .ok (.if_icmp .eq 9, 3) := dk_159 0 9 (dk_at dksX1_entryFrom_0 17 rfl rfl)
theorem dX1_entryFrom_20 : decode cX1_entryFrom 20 = .ok (.iinc 3 1, 3) := dk_132 3 1 (dk_at dksX1_entryFrom_0 20 rfl rfl)
theorem dX1_entryFrom_23 : decode cX1_entryFrom 23 = .ok (.goto (-21), 3) := dk_167 255 235 (dk_at dksX1_entryFrom_1 0 rfl rfl)
theorem dX1_entryFrom_26 : decode cX1_entryFrom 26 = .ok (.iload_n 3, 1) := dk_29 (dk_at dksX1_entryFrom_1 3 rfl rfl)
theorem dX1_entryFrom_27 : decode cX1_entryFrom 27 = .ok (.aload_n 0, 1) := dk_42 (dk_at dksX1_entryFrom_1 4 rfl rfl)
theorem dX1_entryFrom_28 : decode cX1_entryFrom 28 = .ok (.getfield 226, 3) := dk_180 0 226 (dk_at dksX1_entryFrom_1 5 rfl rfl)
theorem dX1_entryFrom_31 : decode cX1_entryFrom 31 = .ok (.if_icmp .ge 7, 3) := dk_162 0 7 (dk_at dksX1_entryFrom_1 8 rfl rfl)
theorem dX1_entryFrom_34 : decode cX1_entryFrom 34 = .ok (.iload_n 3, 1) := dk_29 (dk_at dksX1_entryFrom_1 11 rfl rfl)
theorem dX1_entryFrom_35 : decode cX1_entryFrom 35 = .ok (.goto 5, 3) := dk_167 0 5 (dk_at dksX1_entryFrom_1 12 rfl rfl)
theorem dX1_entryFrom_38 : decode cX1_entryFrom 38 = .ok (.bipush (-9), 2) := dk_16 247 (dk_at dksX1_entryFrom_1 15 rfl rfl)
theorem dX1_entryFrom_40 : decode cX1_entryFrom 40 = .ok (.ireturn, 1) := dk_172 (dk_at dksX1_entryFrom_1 17 rfl rfl)
abbrev cX1_limit : ByteArray := prog_8_method_37_code
def yX1_limit : MethodName := ⟨RX1, "limit", "(II)I"⟩
def dkwX1_limit_2 : List UInt8 := [180, 0, 78, 27, 28, 79, 4, 172]
abbrev dktX1_limit_2 : List UInt8 := dkwX1_limit_2 ++ []
def dkwX1_limit_1 : List UInt8 := [182, 0, 249, 154, 0, 9, 42, 6, 182, 0, 193, 172, 42, 42, 180, 0, 78, 27, 46, 181, 0, 179, 42]
abbrev dktX1_limit_1 : List UInt8 := dkwX1_limit_1 ++ dktX1_limit_2
def dkwX1_limit_0 : List UInt8 := [42, 27, 182, 0, 240, 153, 0, 14, 28, 16, 206, 16, 50, 184, 0, 185, 154, 0, 5, 2, 172, 42, 27]
abbrev dktX1_limit_0 : List UInt8 := dkwX1_limit_0 ++ dktX1_limit_1
theorem dksX1_limit_0 : cX1_limit.data.toList.drop 0 = dktX1_limit_0 := by decide +kernel
theorem dksX1_limit_1 : cX1_limit.data.toList.drop 23 = dktX1_limit_1 := dk_seg dksX1_limit_0 23 rfl rfl
theorem dksX1_limit_2 : cX1_limit.data.toList.drop 46 = dktX1_limit_2 := dk_seg dksX1_limit_1 23 rfl rfl
theorem dX1_limit_0 : decode cX1_limit 0 = .ok (.aload_n 0, 1) := dk_42 (dk_at dksX1_limit_0 0 rfl rfl)
theorem dX1_limit_1 : decode cX1_limit 1 = .ok (.iload_n 1, 1) := dk_27 (dk_at dksX1_limit_0 1 rfl rfl)
theorem dX1_limit_2 : decode cX1_limit 2 = .ok (.invokevirtual 240, 3) := dk_182 0 240 (dk_at dksX1_limit_0 2 rfl rfl)
theorem dX1_limit_5 : decode cX1_limit 5 = .ok (.ifCond .eq 14, 3) := dk_153 0 14 (dk_at dksX1_limit_0 5 rfl rfl)
theorem dX1_limit_8 : decode cX1_limit 8 = .ok (.iload_n 2, 1) := dk_28 (dk_at dksX1_limit_0 8 rfl rfl)
theorem dX1_limit_9 : decode cX1_limit 9 = .ok (.bipush (-50), 2) := dk_16 206 (dk_at dksX1_limit_0 9 rfl rfl)
theorem dX1_limit_11 : decode cX1_limit 11 = .ok (.bipush 50, 2) := dk_16 50 (dk_at dksX1_limit_0 11 rfl rfl)
theorem dX1_limit_13 : decode cX1_limit 13 = .ok (.invokestatic 185, 3) := dk_184 0 185 (dk_at dksX1_limit_0 13 rfl rfl)
theorem dX1_limit_16 : decode cX1_limit 16 = .ok (.ifCond .ne 5, 3) := dk_154 0 5 (dk_at dksX1_limit_0 16 rfl rfl)
theorem dX1_limit_19 : decode cX1_limit 19 = .ok (.iconst (-1), 1) := dk_2 (dk_at dksX1_limit_0 19 rfl rfl)
theorem dX1_limit_20 : decode cX1_limit 20 = .ok (.ireturn, 1) := dk_172 (dk_at dksX1_limit_0 20 rfl rfl)
theorem dX1_limit_21 : decode cX1_limit 21 = .ok (.aload_n 0, 1) := dk_42 (dk_at dksX1_limit_0 21 rfl rfl)
theorem dX1_limit_22 : decode cX1_limit 22 = .ok (.iload_n 1, 1) := dk_27 (dk_at dksX1_limit_0 22 rfl rfl)
theorem dX1_limit_23 : decode cX1_limit 23 = .ok (.invokevirtual 249, 3) := dk_182 0 249 (dk_at dksX1_limit_1 0 rfl rfl)
theorem dX1_limit_26 : decode cX1_limit 26 = .ok (.ifCond .ne 9, 3) := dk_154 0 9 (dk_at dksX1_limit_1 3 rfl rfl)
theorem dX1_limit_29 : decode cX1_limit 29 = .ok (.aload_n 0, 1) := dk_42 (dk_at dksX1_limit_1 6 rfl rfl)
theorem dX1_limit_30 : decode cX1_limit 30 = .ok (.iconst 3, 1) := dk_6 (dk_at dksX1_limit_1 7 rfl rfl)
theorem dX1_limit_31 : decode cX1_limit 31 = .ok (.invokevirtual 193, 3) := dk_182 0 193 (dk_at dksX1_limit_1 8 rfl rfl)
theorem dX1_limit_34 : decode cX1_limit 34 = .ok (.ireturn, 1) := dk_172 (dk_at dksX1_limit_1 11 rfl rfl)
theorem dX1_limit_35 : decode cX1_limit 35 = .ok (.aload_n 0, 1) := dk_42 (dk_at dksX1_limit_1 12 rfl rfl)
theorem dX1_limit_36 : decode cX1_limit 36 = .ok (.aload_n 0, 1) := dk_42 (dk_at dksX1_limit_1 13 rfl rfl)
theorem dX1_limit_37 : decode cX1_limit 37 = .ok (.getfield 78, 3) := dk_180 0 78 (dk_at dksX1_limit_1 14 rfl rfl)
theorem dX1_limit_40 : decode cX1_limit 40 = .ok (.iload_n 1, 1) := dk_27 (dk_at dksX1_limit_1 17 rfl rfl)
theorem dX1_limit_41 : decode cX1_limit 41 = .ok (.iaload, 1) := dk_46 (dk_at dksX1_limit_1 18 rfl rfl)
theorem dX1_limit_42 : decode cX1_limit 42 = .ok (.putfield 179, 3) := dk_181 0 179 (dk_at dksX1_limit_1 19 rfl rfl)
theorem dX1_limit_45 : decode cX1_limit 45 = .ok (.aload_n 0, 1) := dk_42 (dk_at dksX1_limit_1 22 rfl rfl)
theorem dX1_limit_46 : decode cX1_limit 46 = .ok (.getfield 78, 3) := dk_180 0 78 (dk_at dksX1_limit_2 0 rfl rfl)
theorem dX1_limit_49 : decode cX1_limit 49 = .ok (.iload_n 1, 1) := dk_27 (dk_at dksX1_limit_2 3 rfl rfl)
theorem dX1_limit_50 : decode cX1_limit 50 = .ok (.iload_n 2, 1) := dk_28 (dk_at dksX1_limit_2 4 rfl rfl)
theorem dX1_limit_51 : decode cX1_limit 51 = .ok (.iastore, 1) := dk_79 (dk_at dksX1_limit_2 5 rfl rfl)
theorem dX1_limit_52 : decode cX1_limit 52 = .ok (.iconst 1, 1) := dk_4 (dk_at dksX1_limit_2 6 rfl rfl)
theorem dX1_limit_53 : decode cX1_limit 53 = .ok (.ireturn, 1) := dk_172 (dk_at dksX1_limit_2 7 rfl rfl)
abbrev cX1_park : ByteArray := prog_8_method_39_code
def yX1_park : MethodName := ⟨RX1, "park", "(II)I"⟩
def dkwX1_park_2 : List UInt8 := [27, 3, 79, 4, 172]
abbrev dktX1_park_2 : List UInt8 := dkwX1_park_2 ++ []
def dkwX1_park_1 : List UInt8 := [16, 252, 172, 42, 180, 0, 84, 27, 28, 79, 42, 180, 0, 87, 27, 42, 180, 0, 207, 79, 42, 180, 0, 93]
abbrev dktX1_park_1 : List UInt8 := dkwX1_park_1 ++ dktX1_park_2
def dkwX1_park_0 : List UInt8 := [27, 184, 1, 2, 153, 0, 10, 28, 184, 0, 210, 154, 0, 5, 2, 172, 42, 27, 182, 1, 5, 153, 0, 6]
abbrev dktX1_park_0 : List UInt8 := dkwX1_park_0 ++ dktX1_park_1
theorem dksX1_park_0 : cX1_park.data.toList.drop 0 = dktX1_park_0 := by decide +kernel
theorem dksX1_park_1 : cX1_park.data.toList.drop 24 = dktX1_park_1 := dk_seg dksX1_park_0 24 rfl rfl
theorem dksX1_park_2 : cX1_park.data.toList.drop 48 = dktX1_park_2 := dk_seg dksX1_park_1 24 rfl rfl
theorem dX1_park_0 : decode cX1_park 0 = .ok (.iload_n 1, 1) := dk_27 (dk_at dksX1_park_0 0 rfl rfl)
theorem dX1_park_1 : decode cX1_park 1 = .ok (.invokestatic 258, 3) := dk_184 1 2 (dk_at dksX1_park_0 1 rfl rfl)
theorem dX1_park_4 : decode cX1_park 4 = .ok (.ifCond .eq 10, 3) := dk_153 0 10 (dk_at dksX1_park_0 4 rfl rfl)
theorem dX1_park_7 : decode cX1_park 7 = .ok (.iload_n 2, 1) := dk_28 (dk_at dksX1_park_0 7 rfl rfl)
theorem dX1_park_8 : decode cX1_park 8 = .ok (.invokestatic 210, 3) := dk_184 0 210 (dk_at dksX1_park_0 8 rfl rfl)
theorem dX1_park_11 : decode cX1_park 11 = .ok (.ifCond .ne 5, 3) := dk_154 0 5 (dk_at dksX1_park_0 11 rfl rfl)
theorem dX1_park_14 : decode cX1_park 14 = .ok (.iconst (-1), 1) := dk_2 (dk_at dksX1_park_0 14 rfl rfl)
theorem dX1_park_15 : decode cX1_park 15 = .ok (.ireturn, 1) := dk_172 (dk_at dksX1_park_0 15 rfl rfl)
theorem dX1_park_16 : decode cX1_park 16 = .ok (.aload_n 0, 1) := dk_42 (dk_at dksX1_park_0 16 rfl rfl)
theorem dX1_park_17 : decode cX1_park 17 = .ok (.iload_n 1, 1) := dk_27 (dk_at dksX1_park_0 17 rfl rfl)
theorem dX1_park_18 : decode cX1_park 18 = .ok (.invokevirtual 261, 3) := dk_182 1 5 (dk_at dksX1_park_0 18 rfl rfl)
theorem dX1_park_21 : decode cX1_park 21 = .ok (.ifCond .eq 6, 3) := dk_153 0 6 (dk_at dksX1_park_0 21 rfl rfl)
theorem dX1_park_24 : decode cX1_park 24 = .ok (.bipush (-4), 2) := dk_16 252 (dk_at dksX1_park_1 0 rfl rfl)
theorem dX1_park_26 : decode cX1_park 26 = .ok (.ireturn, 1) := dk_172 (dk_at dksX1_park_1 2 rfl rfl)
theorem dX1_park_27 : decode cX1_park 27 = .ok (.aload_n 0, 1) := dk_42 (dk_at dksX1_park_1 3 rfl rfl)
theorem dX1_park_28 : decode cX1_park 28 = .ok (.getfield 84, 3) := dk_180 0 84 (dk_at dksX1_park_1 4 rfl rfl)
theorem dX1_park_31 : decode cX1_park 31 = .ok (.iload_n 1, 1) := dk_27 (dk_at dksX1_park_1 7 rfl rfl)
theorem dX1_park_32 : decode cX1_park 32 = .ok (.iload_n 2, 1) := dk_28 (dk_at dksX1_park_1 8 rfl rfl)
theorem dX1_park_33 : decode cX1_park 33 = .ok (.iastore, 1) := dk_79 (dk_at dksX1_park_1 9 rfl rfl)
theorem dX1_park_34 : decode cX1_park 34 = .ok (.aload_n 0, 1) := dk_42 (dk_at dksX1_park_1 10 rfl rfl)
theorem dX1_park_35 : decode cX1_park 35 = .ok (.getfield 87, 3) := dk_180 0 87 (dk_at dksX1_park_1 11 rfl rfl)
theorem dX1_park_38 : decode cX1_park 38 = .ok (.iload_n 1, 1) := dk_27 (dk_at dksX1_park_1 14 rfl rfl)
theorem dX1_park_39 : decode cX1_park 39 = .ok (.aload_n 0, 1) := dk_42 (dk_at dksX1_park_1 15 rfl rfl)
theorem dX1_park_40 : decode cX1_park 40 = .ok (.getfield 207, 3) := dk_180 0 207 (dk_at dksX1_park_1 16 rfl rfl)
theorem dX1_park_43 : decode cX1_park 43 = .ok (.iastore, 1) := dk_79 (dk_at dksX1_park_1 19 rfl rfl)
theorem dX1_park_44 : decode cX1_park 44 = .ok (.aload_n 0, 1) := dk_42 (dk_at dksX1_park_1 20 rfl rfl)
theorem dX1_park_45 : decode cX1_park 45 = .ok (.getfield 93, 3) := dk_180 0 93 (dk_at dksX1_park_1 21 rfl rfl)
theorem dX1_park_48 : decode cX1_park 48 = .ok (.iload_n 1, 1) := dk_27 (dk_at dksX1_park_2 0 rfl rfl)
theorem dX1_park_49 : decode cX1_park 49 = .ok (.iconst 0, 1) := dk_3 (dk_at dksX1_park_2 1 rfl rfl)
theorem dX1_park_50 : decode cX1_park 50 = .ok (.iastore, 1) := dk_79 (dk_at dksX1_park_2 2 rfl rfl)
theorem dX1_park_51 : decode cX1_park 51 = .ok (.iconst 1, 1) := dk_4 (dk_at dksX1_park_2 3 rfl rfl)
theorem dX1_park_52 : decode cX1_park 52 = .ok (.ireturn, 1) := dk_172 (dk_at dksX1_park_2 4 rfl rfl)
abbrev cX1_isTractor : ByteArray := prog_8_method_29_code
def yX1_isTractor : MethodName := ⟨RX1, "isTractor", "(I)Z"⟩
def dkwX1_isTractor_0 : List UInt8 := [26, 3, 8, 184, 0, 185, 172]
abbrev dktX1_isTractor_0 : List UInt8 := dkwX1_isTractor_0 ++ []
theorem dksX1_isTractor_0 : cX1_isTractor.data.toList.drop 0 = dktX1_isTractor_0 := by decide +kernel
theorem dX1_isTractor_0 : decode cX1_isTractor 0 = .ok (.iload_n 0, 1) := dk_26 (dk_at dksX1_isTractor_0 0 rfl rfl)
theorem dX1_isTractor_1 : decode cX1_isTractor 1 = .ok (.iconst 0, 1) := dk_3 (dk_at dksX1_isTractor_0 1 rfl rfl)
theorem dX1_isTractor_2 : decode cX1_isTractor 2 = .ok (.iconst 5, 1) := dk_8 (dk_at dksX1_isTractor_0 2 rfl rfl)
theorem dX1_isTractor_3 : decode cX1_isTractor 3 = .ok (.invokestatic 185, 3) := dk_184 0 185 (dk_at dksX1_isTractor_0 3 rfl rfl)
theorem dX1_isTractor_6 : decode cX1_isTractor 6 = .ok (.ireturn, 1) := dk_172 (dk_at dksX1_isTractor_0 6 rfl rfl)
abbrev cX1_isOnWay : ByteArray := prog_8_method_38_code
def yX1_isOnWay : MethodName := ⟨RX1, "isOnWay", "(I)Z"⟩
def dkwX1_isOnWay_0 : List UInt8 := [42, 180, 0, 207, 42, 180, 0, 87, 27, 46, 162, 0, 7, 4, 167, 0, 4, 3, 172]
abbrev dktX1_isOnWay_0 : List UInt8 := dkwX1_isOnWay_0 ++ []
theorem dksX1_isOnWay_0 : cX1_isOnWay.data.toList.drop 0 = dktX1_isOnWay_0 := by decide +kernel
theorem dX1_isOnWay_0 : decode cX1_isOnWay 0 = .ok (.aload_n 0, 1) := dk_42 (dk_at dksX1_isOnWay_0 0 rfl rfl)
theorem dX1_isOnWay_1 : decode cX1_isOnWay 1 = .ok (.getfield 207, 3) := dk_180 0 207 (dk_at dksX1_isOnWay_0 1 rfl rfl)
theorem dX1_isOnWay_4 : decode cX1_isOnWay 4 = .ok (.aload_n 0, 1) := dk_42 (dk_at dksX1_isOnWay_0 4 rfl rfl)
theorem dX1_isOnWay_5 : decode cX1_isOnWay 5 = .ok (.getfield 87, 3) := dk_180 0 87 (dk_at dksX1_isOnWay_0 5 rfl rfl)
theorem dX1_isOnWay_8 : decode cX1_isOnWay 8 = .ok (.iload_n 1, 1) := dk_27 (dk_at dksX1_isOnWay_0 8 rfl rfl)
theorem dX1_isOnWay_9 : decode cX1_isOnWay 9 = .ok (.iaload, 1) := dk_46 (dk_at dksX1_isOnWay_0 9 rfl rfl)
theorem dX1_isOnWay_10 : decode cX1_isOnWay 10 = .ok (.if_icmp .ge 7, 3) := dk_162 0 7 (dk_at dksX1_isOnWay_0 10 rfl rfl)
theorem dX1_isOnWay_13 : decode cX1_isOnWay 13 = .ok (.iconst 1, 1) := dk_4 (dk_at dksX1_isOnWay_0 13 rfl rfl)
theorem dX1_isOnWay_14 : decode cX1_isOnWay 14 = .ok (.goto 4, 3) := dk_167 0 4 (dk_at dksX1_isOnWay_0 14 rfl rfl)
theorem dX1_isOnWay_17 : decode cX1_isOnWay 17 = .ok (.iconst 0, 1) := dk_3 (dk_at dksX1_isOnWay_0 17 rfl rfl)
theorem dX1_isOnWay_18 : decode cX1_isOnWay 18 = .ok (.ireturn, 1) := dk_172 (dk_at dksX1_isOnWay_0 18 rfl rfl)
abbrev cX1_hitch : ByteArray := prog_8_method_40_code
def yX1_hitch : MethodName := ⟨RX1, "hitch", "(II)I"⟩
def dkwX1_hitch_4 : List UInt8 := [180, 0, 90, 27, 28, 79, 4, 172]
abbrev dktX1_hitch_4 : List UInt8 := dkwX1_hitch_4 ++ []
def dkwX1_hitch_3 : List UInt8 := [180, 0, 50, 28, 46, 182, 0, 236, 42, 180, 0, 50, 28, 16, 247, 79, 42, 180, 0, 53, 28, 27, 79, 42]
abbrev dktX1_hitch_3 : List UInt8 := dkwX1_hitch_3 ++ dktX1_hitch_4
def dkwX1_hitch_2 : List UInt8 := [159, 0, 6, 16, 252, 172, 42, 180, 0, 226, 16, 60, 160, 0, 6, 16, 254, 172, 42, 28, 4, 27, 42]
abbrev dktX1_hitch_2 : List UInt8 := dkwX1_hitch_2 ++ dktX1_hitch_3
def dkwX1_hitch_1 : List UInt8 := [154, 0, 27, 42, 180, 0, 90, 27, 46, 156, 0, 18, 42, 180, 0, 50, 28, 46, 42, 180, 0, 84, 27, 46]
abbrev dktX1_hitch_1 : List UInt8 := dkwX1_hitch_1 ++ dktX1_hitch_2
def dkwX1_hitch_0 : List UInt8 := [27, 184, 1, 2, 153, 0, 11, 42, 28, 182, 0, 240, 154, 0, 5, 2, 172, 42, 27, 182, 1, 5]
abbrev dktX1_hitch_0 : List UInt8 := dkwX1_hitch_0 ++ dktX1_hitch_1
theorem dksX1_hitch_0 : cX1_hitch.data.toList.drop 0 = dktX1_hitch_0 := by decide +kernel
theorem dksX1_hitch_1 : cX1_hitch.data.toList.drop 22 = dktX1_hitch_1 := dk_seg dksX1_hitch_0 22 rfl rfl
theorem dksX1_hitch_2 : cX1_hitch.data.toList.drop 46 = dktX1_hitch_2 := dk_seg dksX1_hitch_1 24 rfl rfl
theorem dksX1_hitch_3 : cX1_hitch.data.toList.drop 69 = dktX1_hitch_3 := dk_seg dksX1_hitch_2 23 rfl rfl
theorem dksX1_hitch_4 : cX1_hitch.data.toList.drop 93 = dktX1_hitch_4 := dk_seg dksX1_hitch_3 24 rfl rfl
theorem dX1_hitch_0 : decode cX1_hitch 0 = .ok (.iload_n 1, 1) := dk_27 (dk_at dksX1_hitch_0 0 rfl rfl)
theorem dX1_hitch_1 : decode cX1_hitch 1 = .ok (.invokestatic 258, 3) := dk_184 1 2 (dk_at dksX1_hitch_0 1 rfl rfl)
theorem dX1_hitch_4 : decode cX1_hitch 4 = .ok (.ifCond .eq 11, 3) := dk_153 0 11 (dk_at dksX1_hitch_0 4 rfl rfl)
theorem dX1_hitch_7 : decode cX1_hitch 7 = .ok (.aload_n 0, 1) := dk_42 (dk_at dksX1_hitch_0 7 rfl rfl)
theorem dX1_hitch_8 : decode cX1_hitch 8 = .ok (.iload_n 2, 1) := dk_28 (dk_at dksX1_hitch_0 8 rfl rfl)
theorem dX1_hitch_9 : decode cX1_hitch 9 = .ok (.invokevirtual 240, 3) := dk_182 0 240 (dk_at dksX1_hitch_0 9 rfl rfl)
theorem dX1_hitch_12 : decode cX1_hitch 12 = .ok (.ifCond .ne 5, 3) := dk_154 0 5 (dk_at dksX1_hitch_0 12 rfl rfl)
theorem dX1_hitch_15 : decode cX1_hitch 15 = .ok (.iconst (-1), 1) := dk_2 (dk_at dksX1_hitch_0 15 rfl rfl)
theorem dX1_hitch_16 : decode cX1_hitch 16 = .ok (.ireturn, 1) := dk_172 (dk_at dksX1_hitch_0 16 rfl rfl)
theorem dX1_hitch_17 : decode cX1_hitch 17 = .ok (.aload_n 0, 1) := dk_42 (dk_at dksX1_hitch_0 17 rfl rfl)
theorem dX1_hitch_18 : decode cX1_hitch 18 = .ok (.iload_n 1, 1) := dk_27 (dk_at dksX1_hitch_0 18 rfl rfl)
theorem dX1_hitch_19 : decode cX1_hitch 19 = .ok (.invokevirtual 261, 3) := dk_182 1 5 (dk_at dksX1_hitch_0 19 rfl rfl)
theorem dX1_hitch_22 : decode cX1_hitch 22 = .ok (.ifCond .ne 27, 3) := dk_154 0 27 (dk_at dksX1_hitch_1 0 rfl rfl)
theorem dX1_hitch_25 : decode cX1_hitch 25 = .ok (.aload_n 0, 1) := dk_42 (dk_at dksX1_hitch_1 3 rfl rfl)
theorem dX1_hitch_26 : decode cX1_hitch 26 = .ok (.getfield 90, 3) := dk_180 0 90 (dk_at dksX1_hitch_1 4 rfl rfl)
theorem dX1_hitch_29 : decode cX1_hitch 29 = .ok (.iload_n 1, 1) := dk_27 (dk_at dksX1_hitch_1 7 rfl rfl)
theorem dX1_hitch_30 : decode cX1_hitch 30 = .ok (.iaload, 1) := dk_46 (dk_at dksX1_hitch_1 8 rfl rfl)
theorem dX1_hitch_31 : decode cX1_hitch 31 = .ok (.ifCond .ge 18, 3) := dk_156 0 18 (dk_at dksX1_hitch_1 9 rfl rfl)
theorem dX1_hitch_34 : decode cX1_hitch 34 = .ok (.aload_n 0, 1) := dk_42 (dk_at dksX1_hitch_1 12 rfl rfl)
theorem dX1_hitch_35 : decode cX1_hitch 35 = .ok (.getfield 50, 3) := dk_180 0 50 (dk_at dksX1_hitch_1 13 rfl rfl)
theorem dX1_hitch_38 : decode cX1_hitch 38 = .ok (.iload_n 2, 1) := dk_28 (dk_at dksX1_hitch_1 16 rfl rfl)
theorem dX1_hitch_39 : decode cX1_hitch 39 = .ok (.iaload, 1) := dk_46 (dk_at dksX1_hitch_1 17 rfl rfl)
theorem dX1_hitch_40 : decode cX1_hitch 40 = .ok (.aload_n 0, 1) := dk_42 (dk_at dksX1_hitch_1 18 rfl rfl)
theorem dX1_hitch_41 : decode cX1_hitch 41 = .ok (.getfield 84, 3) := dk_180 0 84 (dk_at dksX1_hitch_1 19 rfl rfl)
theorem dX1_hitch_44 : decode cX1_hitch 44 = .ok (.iload_n 1, 1) := dk_27 (dk_at dksX1_hitch_1 22 rfl rfl)
theorem dX1_hitch_45 : decode cX1_hitch 45 = .ok (.iaload, 1) := dk_46 (dk_at dksX1_hitch_1 23 rfl rfl)
theorem dX1_hitch_46 : decode cX1_hitch 46 = .ok (.if_icmp .eq 6, 3) := dk_159 0 6 (dk_at dksX1_hitch_2 0 rfl rfl)
theorem dX1_hitch_49 : decode cX1_hitch 49 = .ok (.bipush (-4), 2) := dk_16 252 (dk_at dksX1_hitch_2 3 rfl rfl)
theorem dX1_hitch_51 : decode cX1_hitch 51 = .ok (.ireturn, 1) := dk_172 (dk_at dksX1_hitch_2 5 rfl rfl)
theorem dX1_hitch_52 : decode cX1_hitch 52 = .ok (.aload_n 0, 1) := dk_42 (dk_at dksX1_hitch_2 6 rfl rfl)
theorem dX1_hitch_53 : decode cX1_hitch 53 = .ok (.getfield 226, 3) := dk_180 0 226 (dk_at dksX1_hitch_2 7 rfl rfl)
theorem dX1_hitch_56 : decode cX1_hitch 56 = .ok (.bipush 60, 2) := dk_16 60 (dk_at dksX1_hitch_2 10 rfl rfl)
theorem dX1_hitch_58 : decode cX1_hitch 58 = .ok (.if_icmp .ne 6, 3) := dk_160 0 6 (dk_at dksX1_hitch_2 12 rfl rfl)
theorem dX1_hitch_61 : decode cX1_hitch 61 = .ok (.bipush (-2), 2) := dk_16 254 (dk_at dksX1_hitch_2 15 rfl rfl)
theorem dX1_hitch_63 : decode cX1_hitch 63 = .ok (.ireturn, 1) := dk_172 (dk_at dksX1_hitch_2 17 rfl rfl)
theorem dX1_hitch_64 : decode cX1_hitch 64 = .ok (.aload_n 0, 1) := dk_42 (dk_at dksX1_hitch_2 18 rfl rfl)
theorem dX1_hitch_65 : decode cX1_hitch 65 = .ok (.iload_n 2, 1) := dk_28 (dk_at dksX1_hitch_2 19 rfl rfl)
theorem dX1_hitch_66 : decode cX1_hitch 66 = .ok (.iconst 1, 1) := dk_4 (dk_at dksX1_hitch_2 20 rfl rfl)
theorem dX1_hitch_67 : decode cX1_hitch 67 = .ok (.iload_n 1, 1) := dk_27 (dk_at dksX1_hitch_2 21 rfl rfl)
theorem dX1_hitch_68 : decode cX1_hitch 68 = .ok (.aload_n 0, 1) := dk_42 (dk_at dksX1_hitch_2 22 rfl rfl)
theorem dX1_hitch_69 : decode cX1_hitch 69 = .ok (.getfield 50, 3) := dk_180 0 50 (dk_at dksX1_hitch_3 0 rfl rfl)
theorem dX1_hitch_72 : decode cX1_hitch 72 = .ok (.iload_n 2, 1) := dk_28 (dk_at dksX1_hitch_3 3 rfl rfl)
theorem dX1_hitch_73 : decode cX1_hitch 73 = .ok (.iaload, 1) := dk_46 (dk_at dksX1_hitch_3 4 rfl rfl)
theorem dX1_hitch_74 : decode cX1_hitch 74 = .ok (.invokevirtual 236, 3) := dk_182 0 236 (dk_at dksX1_hitch_3 5 rfl rfl)
theorem dX1_hitch_77 : decode cX1_hitch 77 = .ok (.aload_n 0, 1) := dk_42 (dk_at dksX1_hitch_3 8 rfl rfl)
theorem dX1_hitch_78 : decode cX1_hitch 78 = .ok (.getfield 50, 3) := dk_180 0 50 (dk_at dksX1_hitch_3 9 rfl rfl)
theorem dX1_hitch_81 : decode cX1_hitch 81 = .ok (.iload_n 2, 1) := dk_28 (dk_at dksX1_hitch_3 12 rfl rfl)
theorem dX1_hitch_82 : decode cX1_hitch 82 = .ok (.bipush (-9), 2) := dk_16 247 (dk_at dksX1_hitch_3 13 rfl rfl)
theorem dX1_hitch_84 : decode cX1_hitch 84 = .ok (.iastore, 1) := dk_79 (dk_at dksX1_hitch_3 15 rfl rfl)
theorem dX1_hitch_85 : decode cX1_hitch 85 = .ok (.aload_n 0, 1) := dk_42 (dk_at dksX1_hitch_3 16 rfl rfl)
theorem dX1_hitch_86 : decode cX1_hitch 86 = .ok (.getfield 53, 3) := dk_180 0 53 (dk_at dksX1_hitch_3 17 rfl rfl)
theorem dX1_hitch_89 : decode cX1_hitch 89 = .ok (.iload_n 2, 1) := dk_28 (dk_at dksX1_hitch_3 20 rfl rfl)
theorem dX1_hitch_90 : decode cX1_hitch 90 = .ok (.iload_n 1, 1) := dk_27 (dk_at dksX1_hitch_3 21 rfl rfl)
theorem dX1_hitch_91 : decode cX1_hitch 91 = .ok (.iastore, 1) := dk_79 (dk_at dksX1_hitch_3 22 rfl rfl)
theorem dX1_hitch_92 : decode cX1_hitch 92 = .ok (.aload_n 0, 1) := dk_42 (dk_at dksX1_hitch_3 23 rfl rfl)
theorem dX1_hitch_93 : decode cX1_hitch 93 = .ok (.getfield 90, 3) := dk_180 0 90 (dk_at dksX1_hitch_4 0 rfl rfl)
theorem dX1_hitch_96 : decode cX1_hitch 96 = .ok (.iload_n 1, 1) := dk_27 (dk_at dksX1_hitch_4 3 rfl rfl)
theorem dX1_hitch_97 : decode cX1_hitch 97 = .ok (.iload_n 2, 1) := dk_28 (dk_at dksX1_hitch_4 4 rfl rfl)
theorem dX1_hitch_98 : decode cX1_hitch 98 = .ok (.iastore, 1) := dk_79 (dk_at dksX1_hitch_4 5 rfl rfl)
theorem dX1_hitch_99 : decode cX1_hitch 99 = .ok (.iconst 1, 1) := dk_4 (dk_at dksX1_hitch_4 6 rfl rfl)
theorem dX1_hitch_100 : decode cX1_hitch 100 = .ok (.ireturn, 1) := dk_172 (dk_at dksX1_hitch_4 7 rfl rfl)
abbrev cX1_drop : ByteArray := prog_8_method_41_code
def yX1_drop : MethodName := ⟨RX1, "drop", "(I)I"⟩
def dkwX1_drop_4 : List UInt8 := [28, 172]
abbrev dktX1_drop_4 : List UInt8 := dkwX1_drop_4 ++ []
def dkwX1_drop_3 : List UInt8 := [180, 0, 84, 27, 46, 79, 42, 28, 3, 42, 180, 0, 84, 27, 46, 42, 180, 0, 84, 27, 46, 182, 0, 236]
abbrev dktX1_drop_3 : List UInt8 := dkwX1_drop_3 ++ dktX1_drop_4
def dkwX1_drop_2 : List UInt8 := [61, 42, 180, 0, 90, 27, 16, 247, 79, 42, 180, 0, 53, 28, 16, 247, 79, 42, 180, 0, 50, 28, 42]
abbrev dktX1_drop_2 : List UInt8 := dkwX1_drop_2 ++ dktX1_drop_3
def dkwX1_drop_1 : List UInt8 := [156, 0, 6, 16, 252, 172, 42, 180, 0, 226, 16, 60, 160, 0, 6, 16, 254, 172, 42, 180, 0, 90, 27, 46]
abbrev dktX1_drop_1 : List UInt8 := dkwX1_drop_1 ++ dktX1_drop_2
def dkwX1_drop_0 : List UInt8 := [27, 184, 1, 2, 154, 0, 5, 2, 172, 42, 27, 182, 1, 5, 154, 0, 12, 42, 180, 0, 90, 27, 46]
abbrev dktX1_drop_0 : List UInt8 := dkwX1_drop_0 ++ dktX1_drop_1
theorem dksX1_drop_0 : cX1_drop.data.toList.drop 0 = dktX1_drop_0 := by decide +kernel
theorem dksX1_drop_1 : cX1_drop.data.toList.drop 23 = dktX1_drop_1 := dk_seg dksX1_drop_0 23 rfl rfl
theorem dksX1_drop_2 : cX1_drop.data.toList.drop 47 = dktX1_drop_2 := dk_seg dksX1_drop_1 24 rfl rfl
theorem dksX1_drop_3 : cX1_drop.data.toList.drop 70 = dktX1_drop_3 := dk_seg dksX1_drop_2 23 rfl rfl
theorem dksX1_drop_4 : cX1_drop.data.toList.drop 94 = dktX1_drop_4 := dk_seg dksX1_drop_3 24 rfl rfl
theorem dX1_drop_0 : decode cX1_drop 0 = .ok (.iload_n 1, 1) := dk_27 (dk_at dksX1_drop_0 0 rfl rfl)
theorem dX1_drop_1 : decode cX1_drop 1 = .ok (.invokestatic 258, 3) := dk_184 1 2 (dk_at dksX1_drop_0 1 rfl rfl)
theorem dX1_drop_4 : decode cX1_drop 4 = .ok (.ifCond .ne 5, 3) := dk_154 0 5 (dk_at dksX1_drop_0 4 rfl rfl)
theorem dX1_drop_7 : decode cX1_drop 7 = .ok (.iconst (-1), 1) := dk_2 (dk_at dksX1_drop_0 7 rfl rfl)
theorem dX1_drop_8 : decode cX1_drop 8 = .ok (.ireturn, 1) := dk_172 (dk_at dksX1_drop_0 8 rfl rfl)
theorem dX1_drop_9 : decode cX1_drop 9 = .ok (.aload_n 0, 1) := dk_42 (dk_at dksX1_drop_0 9 rfl rfl)
theorem dX1_drop_10 : decode cX1_drop 10 = .ok (.iload_n 1, 1) := dk_27 (dk_at dksX1_drop_0 10 rfl rfl)
theorem dX1_drop_11 : decode cX1_drop 11 = .ok (.invokevirtual 261, 3) := dk_182 1 5 (dk_at dksX1_drop_0 11 rfl rfl)
theorem dX1_drop_14 : decode cX1_drop 14 = .ok (.ifCond .ne 12, 3) := dk_154 0 12 (dk_at dksX1_drop_0 14 rfl rfl)
theorem dX1_drop_17 : decode cX1_drop 17 = .ok (.aload_n 0, 1) := dk_42 (dk_at dksX1_drop_0 17 rfl rfl)
theorem dX1_drop_18 : decode cX1_drop 18 = .ok (.getfield 90, 3) := dk_180 0 90 (dk_at dksX1_drop_0 18 rfl rfl)
theorem dX1_drop_21 : decode cX1_drop 21 = .ok (.iload_n 1, 1) := dk_27 (dk_at dksX1_drop_0 21 rfl rfl)
theorem dX1_drop_22 : decode cX1_drop 22 = .ok (.iaload, 1) := dk_46 (dk_at dksX1_drop_0 22 rfl rfl)
theorem dX1_drop_23 : decode cX1_drop 23 = .ok (.ifCond .ge 6, 3) := dk_156 0 6 (dk_at dksX1_drop_1 0 rfl rfl)
theorem dX1_drop_26 : decode cX1_drop 26 = .ok (.bipush (-4), 2) := dk_16 252 (dk_at dksX1_drop_1 3 rfl rfl)
theorem dX1_drop_28 : decode cX1_drop 28 = .ok (.ireturn, 1) := dk_172 (dk_at dksX1_drop_1 5 rfl rfl)
theorem dX1_drop_29 : decode cX1_drop 29 = .ok (.aload_n 0, 1) := dk_42 (dk_at dksX1_drop_1 6 rfl rfl)
theorem dX1_drop_30 : decode cX1_drop 30 = .ok (.getfield 226, 3) := dk_180 0 226 (dk_at dksX1_drop_1 7 rfl rfl)
theorem dX1_drop_33 : decode cX1_drop 33 = .ok (.bipush 60, 2) := dk_16 60 (dk_at dksX1_drop_1 10 rfl rfl)
theorem dX1_drop_35 : decode cX1_drop 35 = .ok (.if_icmp .ne 6, 3) := dk_160 0 6 (dk_at dksX1_drop_1 12 rfl rfl)
theorem dX1_drop_38 : decode cX1_drop 38 = .ok (.bipush (-2), 2) := dk_16 254 (dk_at dksX1_drop_1 15 rfl rfl)
theorem dX1_drop_40 : decode cX1_drop 40 = .ok (.ireturn, 1) := dk_172 (dk_at dksX1_drop_1 17 rfl rfl)
theorem dX1_drop_41 : decode cX1_drop 41 = .ok (.aload_n 0, 1) := dk_42 (dk_at dksX1_drop_1 18 rfl rfl)
theorem dX1_drop_42 : decode cX1_drop 42 = .ok (.getfield 90, 3) := dk_180 0 90 (dk_at dksX1_drop_1 19 rfl rfl)
theorem dX1_drop_45 : decode cX1_drop 45 = .ok (.iload_n 1, 1) := dk_27 (dk_at dksX1_drop_1 22 rfl rfl)
theorem dX1_drop_46 : decode cX1_drop 46 = .ok (.iaload, 1) := dk_46 (dk_at dksX1_drop_1 23 rfl rfl)
theorem dX1_drop_47 : decode cX1_drop 47 = .ok (.istore_n 2, 1) := dk_61 (dk_at dksX1_drop_2 0 rfl rfl)
theorem dX1_drop_48 : decode cX1_drop 48 = .ok (.aload_n 0, 1) := dk_42 (dk_at dksX1_drop_2 1 rfl rfl)
theorem dX1_drop_49 : decode cX1_drop 49 = .ok (.getfield 90, 3) := dk_180 0 90 (dk_at dksX1_drop_2 2 rfl rfl)
theorem dX1_drop_52 : decode cX1_drop 52 = .ok (.iload_n 1, 1) := dk_27 (dk_at dksX1_drop_2 5 rfl rfl)
theorem dX1_drop_53 : decode cX1_drop 53 = .ok (.bipush (-9), 2) := dk_16 247 (dk_at dksX1_drop_2 6 rfl rfl)
theorem dX1_drop_55 : decode cX1_drop 55 = .ok (.iastore, 1) := dk_79 (dk_at dksX1_drop_2 8 rfl rfl)
theorem dX1_drop_56 : decode cX1_drop 56 = .ok (.aload_n 0, 1) := dk_42 (dk_at dksX1_drop_2 9 rfl rfl)
theorem dX1_drop_57 : decode cX1_drop 57 = .ok (.getfield 53, 3) := dk_180 0 53 (dk_at dksX1_drop_2 10 rfl rfl)
theorem dX1_drop_60 : decode cX1_drop 60 = .ok (.iload_n 2, 1) := dk_28 (dk_at dksX1_drop_2 13 rfl rfl)
theorem dX1_drop_61 : decode cX1_drop 61 = .ok (.bipush (-9), 2) := dk_16 247 (dk_at dksX1_drop_2 14 rfl rfl)
theorem dX1_drop_63 : decode cX1_drop 63 = .ok (.iastore, 1) := dk_79 (dk_at dksX1_drop_2 16 rfl rfl)
theorem dX1_drop_64 : decode cX1_drop 64 = .ok (.aload_n 0, 1) := dk_42 (dk_at dksX1_drop_2 17 rfl rfl)
theorem dX1_drop_65 : decode cX1_drop 65 = .ok (.getfield 50, 3) := dk_180 0 50 (dk_at dksX1_drop_2 18 rfl rfl)
theorem dX1_drop_68 : decode cX1_drop 68 = .ok (.iload_n 2, 1) := dk_28 (dk_at dksX1_drop_2 21 rfl rfl)
theorem dX1_drop_69 : decode cX1_drop 69 = .ok (.aload_n 0, 1) := dk_42 (dk_at dksX1_drop_2 22 rfl rfl)
theorem dX1_drop_70 : decode cX1_drop 70 = .ok (.getfield 84, 3) := dk_180 0 84 (dk_at dksX1_drop_3 0 rfl rfl)
theorem dX1_drop_73 : decode cX1_drop 73 = .ok (.iload_n 1, 1) := dk_27 (dk_at dksX1_drop_3 3 rfl rfl)
theorem dX1_drop_74 : decode cX1_drop 74 = .ok (.iaload, 1) := dk_46 (dk_at dksX1_drop_3 4 rfl rfl)
theorem dX1_drop_75 : decode cX1_drop 75 = .ok (.iastore, 1) := dk_79 (dk_at dksX1_drop_3 5 rfl rfl)
theorem dX1_drop_76 : decode cX1_drop 76 = .ok (.aload_n 0, 1) := dk_42 (dk_at dksX1_drop_3 6 rfl rfl)
theorem dX1_drop_77 : decode cX1_drop 77 = .ok (.iload_n 2, 1) := dk_28 (dk_at dksX1_drop_3 7 rfl rfl)
theorem dX1_drop_78 : decode cX1_drop 78 = .ok (.iconst 0, 1) := dk_3 (dk_at dksX1_drop_3 8 rfl rfl)
theorem dX1_drop_79 : decode cX1_drop 79 = .ok (.aload_n 0, 1) := dk_42 (dk_at dksX1_drop_3 9 rfl rfl)
theorem dX1_drop_80 : decode cX1_drop 80 = .ok (.getfield 84, 3) := dk_180 0 84 (dk_at dksX1_drop_3 10 rfl rfl)
theorem dX1_drop_83 : decode cX1_drop 83 = .ok (.iload_n 1, 1) := dk_27 (dk_at dksX1_drop_3 13 rfl rfl)
theorem dX1_drop_84 : decode cX1_drop 84 = .ok (.iaload, 1) := dk_46 (dk_at dksX1_drop_3 14 rfl rfl)
theorem dX1_drop_85 : decode cX1_drop 85 = .ok (.aload_n 0, 1) := dk_42 (dk_at dksX1_drop_3 15 rfl rfl)
theorem dX1_drop_86 : decode cX1_drop 86 = .ok (.getfield 84, 3) := dk_180 0 84 (dk_at dksX1_drop_3 16 rfl rfl)
theorem dX1_drop_89 : decode cX1_drop 89 = .ok (.iload_n 1, 1) := dk_27 (dk_at dksX1_drop_3 19 rfl rfl)
theorem dX1_drop_90 : decode cX1_drop 90 = .ok (.iaload, 1) := dk_46 (dk_at dksX1_drop_3 20 rfl rfl)
theorem dX1_drop_91 : decode cX1_drop 91 = .ok (.invokevirtual 236, 3) := dk_182 0 236 (dk_at dksX1_drop_3 21 rfl rfl)
theorem dX1_drop_94 : decode cX1_drop 94 = .ok (.iload_n 2, 1) := dk_28 (dk_at dksX1_drop_4 0 rfl rfl)
theorem dX1_drop_95 : decode cX1_drop 95 = .ok (.ireturn, 1) := dk_172 (dk_at dksX1_drop_4 1 rfl rfl)
abbrev cX1_go : ByteArray := prog_8_method_42_code
def yX1_go : MethodName := ⟨RX1, "go", "(II)I"⟩
def dkwX1_go_8 : List UInt8 := [27, 29, 79, 29, 172]
abbrev dktX1_go_8 : List UInt8 := dkwX1_go_8 ++ []
def dkwX1_go_7 : List UInt8 := [96, 79, 42, 180, 0, 96, 27, 92, 46, 21, 5, 96, 79, 42, 180, 0, 84, 27, 28, 79, 42, 180, 0, 87]
abbrev dktX1_go_7 : List UInt8 := dkwX1_go_7 ++ dktX1_go_8
def dkwX1_go_6 : List UInt8 := [180, 0, 207, 184, 0, 252, 182, 1, 8, 164, 0, 6, 16, 252, 172, 42, 180, 0, 93, 27, 21, 4, 21, 5]
abbrev dktX1_go_6 : List UInt8 := dkwX1_go_6 ++ dktX1_go_7
def dkwX1_go_5 : List UInt8 := [54, 5, 29, 18, 206, 163, 0, 31, 21, 4, 21, 5, 96, 42, 5, 3, 42, 180, 0, 207, 184, 0, 252, 42]
abbrev dktX1_go_5 : List UInt8 := dkwX1_go_5 ++ dktX1_go_6
def dkwX1_go_4 : List UInt8 := [182, 1, 8, 161, 0, 7, 3, 167, 0, 9, 42, 180, 0, 93, 27, 46, 54, 4, 29, 42, 180, 0, 207, 100]
abbrev dktX1_go_4 : List UInt8 := dkwX1_go_4 ++ dktX1_go_5
def dkwX1_go_3 : List UInt8 := [180, 0, 87, 27, 46, 100, 42, 6, 3, 42, 180, 0, 207, 184, 0, 252, 42, 180, 0, 207, 184, 0, 252]
abbrev dktX1_go_3 : List UInt8 := dkwX1_go_3 ++ dktX1_go_4
def dkwX1_go_2 : List UInt8 := [28, 182, 0, 222, 62, 29, 18, 217, 160, 0, 9, 42, 4, 182, 0, 193, 172, 42, 180, 0, 207, 42]
abbrev dktX1_go_2 : List UInt8 := dkwX1_go_2 ++ dktX1_go_3
def dkwX1_go_1 : List UInt8 := [2, 172, 42, 27, 182, 1, 5, 153, 0, 6, 16, 252, 172, 42, 42, 180, 0, 84, 27, 46, 42, 180, 0, 207]
abbrev dktX1_go_1 : List UInt8 := dkwX1_go_1 ++ dktX1_go_2
def dkwX1_go_0 : List UInt8 := [27, 184, 1, 2, 153, 0, 20, 28, 184, 0, 210, 153, 0, 13, 42, 180, 0, 84, 27, 46, 28, 160, 0, 5]
abbrev dktX1_go_0 : List UInt8 := dkwX1_go_0 ++ dktX1_go_1
theorem dksX1_go_0 : cX1_go.data.toList.drop 0 = dktX1_go_0 := by decide +kernel
theorem dksX1_go_1 : cX1_go.data.toList.drop 24 = dktX1_go_1 := dk_seg dksX1_go_0 24 rfl rfl
theorem dksX1_go_2 : cX1_go.data.toList.drop 48 = dktX1_go_2 := dk_seg dksX1_go_1 24 rfl rfl
theorem dksX1_go_3 : cX1_go.data.toList.drop 70 = dktX1_go_3 := dk_seg dksX1_go_2 22 rfl rfl
theorem dksX1_go_4 : cX1_go.data.toList.drop 93 = dktX1_go_4 := dk_seg dksX1_go_3 23 rfl rfl
theorem dksX1_go_5 : cX1_go.data.toList.drop 117 = dktX1_go_5 := dk_seg dksX1_go_4 24 rfl rfl
theorem dksX1_go_6 : cX1_go.data.toList.drop 141 = dktX1_go_6 := dk_seg dksX1_go_5 24 rfl rfl
theorem dksX1_go_7 : cX1_go.data.toList.drop 165 = dktX1_go_7 := dk_seg dksX1_go_6 24 rfl rfl
theorem dksX1_go_8 : cX1_go.data.toList.drop 189 = dktX1_go_8 := dk_seg dksX1_go_7 24 rfl rfl
theorem dX1_go_0 : decode cX1_go 0 = .ok (.iload_n 1, 1) := dk_27 (dk_at dksX1_go_0 0 rfl rfl)
theorem dX1_go_1 : decode cX1_go 1 = .ok (.invokestatic 258, 3) := dk_184 1 2 (dk_at dksX1_go_0 1 rfl rfl)
theorem dX1_go_4 : decode cX1_go 4 = .ok (.ifCond .eq 20, 3) := dk_153 0 20 (dk_at dksX1_go_0 4 rfl rfl)
theorem dX1_go_7 : decode cX1_go 7 = .ok (.iload_n 2, 1) := dk_28 (dk_at dksX1_go_0 7 rfl rfl)
theorem dX1_go_8 : decode cX1_go 8 = .ok (.invokestatic 210, 3) := dk_184 0 210 (dk_at dksX1_go_0 8 rfl rfl)
theorem dX1_go_11 : decode cX1_go 11 = .ok (.ifCond .eq 13, 3) := dk_153 0 13 (dk_at dksX1_go_0 11 rfl rfl)
theorem dX1_go_14 : decode cX1_go 14 = .ok (.aload_n 0, 1) := dk_42 (dk_at dksX1_go_0 14 rfl rfl)
theorem dX1_go_15 : decode cX1_go 15 = .ok (.getfield 84, 3) := dk_180 0 84 (dk_at dksX1_go_0 15 rfl rfl)
theorem dX1_go_18 : decode cX1_go 18 = .ok (.iload_n 1, 1) := dk_27 (dk_at dksX1_go_0 18 rfl rfl)
theorem dX1_go_19 : decode cX1_go 19 = .ok (.iaload, 1) := dk_46 (dk_at dksX1_go_0 19 rfl rfl)
theorem dX1_go_20 : decode cX1_go 20 = .ok (.iload_n 2, 1) := dk_28 (dk_at dksX1_go_0 20 rfl rfl)
theorem dX1_go_21 : decode cX1_go 21 = .ok (.if_icmp .ne 5, 3) := dk_160 0 5 (dk_at dksX1_go_0 21 rfl rfl)
theorem dX1_go_24 : decode cX1_go 24 = .ok (.iconst (-1), 1) := dk_2 (dk_at dksX1_go_1 0 rfl rfl)
theorem dX1_go_25 : decode cX1_go 25 = .ok (.ireturn, 1) := dk_172 (dk_at dksX1_go_1 1 rfl rfl)
theorem dX1_go_26 : decode cX1_go 26 = .ok (.aload_n 0, 1) := dk_42 (dk_at dksX1_go_1 2 rfl rfl)
theorem dX1_go_27 : decode cX1_go 27 = .ok (.iload_n 1, 1) := dk_27 (dk_at dksX1_go_1 3 rfl rfl)
theorem dX1_go_28 : decode cX1_go 28 = .ok (.invokevirtual 261, 3) := dk_182 1 5 (dk_at dksX1_go_1 4 rfl rfl)
theorem dX1_go_31 : decode cX1_go 31 = .ok (.ifCond .eq 6, 3) := dk_153 0 6 (dk_at dksX1_go_1 7 rfl rfl)
theorem dX1_go_34 : decode cX1_go 34 = .ok (.bipush (-4), 2) := dk_16 252 (dk_at dksX1_go_1 10 rfl rfl)
theorem dX1_go_36 : decode cX1_go 36 = .ok (.ireturn, 1) := dk_172 (dk_at dksX1_go_1 12 rfl rfl)
theorem dX1_go_37 : decode cX1_go 37 = .ok (.aload_n 0, 1) := dk_42 (dk_at dksX1_go_1 13 rfl rfl)
theorem dX1_go_38 : decode cX1_go 38 = .ok (.aload_n 0, 1) := dk_42 (dk_at dksX1_go_1 14 rfl rfl)
theorem dX1_go_39 : decode cX1_go 39 = .ok (.getfield 84, 3) := dk_180 0 84 (dk_at dksX1_go_1 15 rfl rfl)
theorem dX1_go_42 : decode cX1_go 42 = .ok (.iload_n 1, 1) := dk_27 (dk_at dksX1_go_1 18 rfl rfl)
theorem dX1_go_43 : decode cX1_go 43 = .ok (.iaload, 1) := dk_46 (dk_at dksX1_go_1 19 rfl rfl)
theorem dX1_go_44 : decode cX1_go 44 = .ok (.aload_n 0, 1) := dk_42 (dk_at dksX1_go_1 20 rfl rfl)
theorem dX1_go_45 : decode cX1_go 45 = .ok (.getfield 207, 3) := dk_180 0 207 (dk_at dksX1_go_1 21 rfl rfl)
theorem dX1_go_48 : decode cX1_go 48 = .ok (.iload_n 2, 1) := dk_28 (dk_at dksX1_go_2 0 rfl rfl)
theorem dX1_go_49 : decode cX1_go 49 = .ok (.invokevirtual 222, 3) := dk_182 0 222 (dk_at dksX1_go_2 1 rfl rfl)
theorem dX1_go_52 : decode cX1_go 52 = .ok (.istore_n 3, 1) := dk_62 (dk_at dksX1_go_2 4 rfl rfl)
theorem dX1_go_53 : decode cX1_go 53 = .ok (.iload_n 3, 1) := dk_29 (dk_at dksX1_go_2 5 rfl rfl)
theorem dX1_go_54 : decode cX1_go 54 = .ok (.ldc 217, 2) := dk_18 217 (dk_at dksX1_go_2 6 rfl rfl)
theorem dX1_go_56 : decode cX1_go 56 = .ok (.if_icmp .ne 9, 3) := dk_160 0 9 (dk_at dksX1_go_2 8 rfl rfl)
theorem dX1_go_59 : decode cX1_go 59 = .ok (.aload_n 0, 1) := dk_42 (dk_at dksX1_go_2 11 rfl rfl)
theorem dX1_go_60 : decode cX1_go 60 = .ok (.iconst 1, 1) := dk_4 (dk_at dksX1_go_2 12 rfl rfl)
theorem dX1_go_61 : decode cX1_go 61 = .ok (.invokevirtual 193, 3) := dk_182 0 193 (dk_at dksX1_go_2 13 rfl rfl)
theorem dX1_go_64 : decode cX1_go 64 = .ok (.ireturn, 1) := dk_172 (dk_at dksX1_go_2 16 rfl rfl)
theorem dX1_go_65 : decode cX1_go 65 = .ok (.aload_n 0, 1) := dk_42 (dk_at dksX1_go_2 17 rfl rfl)
theorem dX1_go_66 : decode cX1_go 66 = .ok (.getfield 207, 3) := dk_180 0 207 (dk_at dksX1_go_2 18 rfl rfl)
theorem dX1_go_69 : decode cX1_go 69 = .ok (.aload_n 0, 1) := dk_42 (dk_at dksX1_go_2 21 rfl rfl)
theorem dX1_go_70 : decode cX1_go 70 = .ok (.getfield 87, 3) := dk_180 0 87 (dk_at dksX1_go_3 0 rfl rfl)
theorem dX1_go_73 : decode cX1_go 73 = .ok (.iload_n 1, 1) := dk_27 (dk_at dksX1_go_3 3 rfl rfl)
theorem dX1_go_74 : decode cX1_go 74 = .ok (.iaload, 1) := dk_46 (dk_at dksX1_go_3 4 rfl rfl)
theorem dX1_go_75 : decode cX1_go 75 = .ok (.isub, 1) := dk_100 (dk_at dksX1_go_3 5 rfl rfl)
theorem dX1_go_76 : decode cX1_go 76 = .ok (.aload_n 0, 1) := dk_42 (dk_at dksX1_go_3 6 rfl rfl)
theorem dX1_go_77 : decode cX1_go 77 = .ok (.iconst 3, 1) := dk_6 (dk_at dksX1_go_3 7 rfl rfl)
theorem dX1_go_78 : decode cX1_go 78 = .ok (.iconst 0, 1) := dk_3 (dk_at dksX1_go_3 8 rfl rfl)
theorem dX1_go_79 : decode cX1_go 79 = .ok (.aload_n 0, 1) := dk_42 (dk_at dksX1_go_3 9 rfl rfl)
theorem dX1_go_80 : decode cX1_go 80 = .ok (.getfield 207, 3) := dk_180 0 207 (dk_at dksX1_go_3 10 rfl rfl)
theorem dX1_go_83 : decode cX1_go 83 = .ok (.invokestatic 252, 3) := dk_184 0 252 (dk_at dksX1_go_3 13 rfl rfl)
theorem dX1_go_86 : decode cX1_go 86 = .ok (.aload_n 0, 1) := dk_42 (dk_at dksX1_go_3 16 rfl rfl)
theorem dX1_go_87 : decode cX1_go 87 = .ok (.getfield 207, 3) := dk_180 0 207 (dk_at dksX1_go_3 17 rfl rfl)
theorem dX1_go_90 : decode cX1_go 90 = .ok (.invokestatic 252, 3) := dk_184 0 252 (dk_at dksX1_go_3 20 rfl rfl)
theorem dX1_go_93 : decode cX1_go 93 = .ok (.invokevirtual 264, 3) := dk_182 1 8 (dk_at dksX1_go_4 0 rfl rfl)
theorem dX1_go_96 : decode cX1_go 96 = .ok (.if_icmp .lt 7, 3) := dk_161 0 7 (dk_at dksX1_go_4 3 rfl rfl)
theorem dX1_go_99 : decode cX1_go 99 = .ok (.iconst 0, 1) := dk_3 (dk_at dksX1_go_4 6 rfl rfl)
theorem dX1_go_100 : decode cX1_go 100 = .ok (.goto 9, 3) := dk_167 0 9 (dk_at dksX1_go_4 7 rfl rfl)
theorem dX1_go_103 : decode cX1_go 103 = .ok (.aload_n 0, 1) := dk_42 (dk_at dksX1_go_4 10 rfl rfl)
theorem dX1_go_104 : decode cX1_go 104 = .ok (.getfield 93, 3) := dk_180 0 93 (dk_at dksX1_go_4 11 rfl rfl)
theorem dX1_go_107 : decode cX1_go 107 = .ok (.iload_n 1, 1) := dk_27 (dk_at dksX1_go_4 14 rfl rfl)
theorem dX1_go_108 : decode cX1_go 108 = .ok (.iaload, 1) := dk_46 (dk_at dksX1_go_4 15 rfl rfl)
theorem dX1_go_109 : decode cX1_go 109 = .ok (.istore 4, 2) := dk_54 4 (dk_at dksX1_go_4 16 rfl rfl)
theorem dX1_go_111 : decode cX1_go 111 = .ok (.iload_n 3, 1) := dk_29 (dk_at dksX1_go_4 18 rfl rfl)
theorem dX1_go_112 : decode cX1_go 112 = .ok (.aload_n 0, 1) := dk_42 (dk_at dksX1_go_4 19 rfl rfl)
theorem dX1_go_113 : decode cX1_go 113 = .ok (.getfield 207, 3) := dk_180 0 207 (dk_at dksX1_go_4 20 rfl rfl)
theorem dX1_go_116 : decode cX1_go 116 = .ok (.isub, 1) := dk_100 (dk_at dksX1_go_4 23 rfl rfl)
theorem dX1_go_117 : decode cX1_go 117 = .ok (.istore 5, 2) := dk_54 5 (dk_at dksX1_go_5 0 rfl rfl)
theorem dX1_go_119 : decode cX1_go 119 = .ok (.iload_n 3, 1) := dk_29 (dk_at dksX1_go_5 2 rfl rfl)
theorem dX1_go_120 : decode cX1_go 120 = .ok (.ldc 206, 2) := dk_18 206 (dk_at dksX1_go_5 3 rfl rfl)
theorem dX1_go_122 : decode cX1_go 122 = .ok (.if_icmp .gt 31, 3) := dk_163 0 31 (dk_at dksX1_go_5 5 rfl rfl)
theorem dX1_go_125 : decode cX1_go 125 = .ok (.iload 4, 2) := dk_21 4 (dk_at dksX1_go_5 8 rfl rfl)
theorem dX1_go_127 : decode cX1_go 127 = .ok (.iload 5, 2) := dk_21 5 (dk_at dksX1_go_5 10 rfl rfl)
theorem dX1_go_129 : decode cX1_go 129 = .ok (.iadd, 1) := dk_96 (dk_at dksX1_go_5 12 rfl rfl)
theorem dX1_go_130 : decode cX1_go 130 = .ok (.aload_n 0, 1) := dk_42 (dk_at dksX1_go_5 13 rfl rfl)
theorem dX1_go_131 : decode cX1_go 131 = .ok (.iconst 2, 1) := dk_5 (dk_at dksX1_go_5 14 rfl rfl)
theorem dX1_go_132 : decode cX1_go 132 = .ok (.iconst 0, 1) := dk_3 (dk_at dksX1_go_5 15 rfl rfl)
theorem dX1_go_133 : decode cX1_go 133 = .ok (.aload_n 0, 1) := dk_42 (dk_at dksX1_go_5 16 rfl rfl)
theorem dX1_go_134 : decode cX1_go 134 = .ok (.getfield 207, 3) := dk_180 0 207 (dk_at dksX1_go_5 17 rfl rfl)
theorem dX1_go_137 : decode cX1_go 137 = .ok (.invokestatic 252, 3) := dk_184 0 252 (dk_at dksX1_go_5 20 rfl rfl)
theorem dX1_go_140 : decode cX1_go 140 = .ok (.aload_n 0, 1) := dk_42 (dk_at dksX1_go_5 23 rfl rfl)
theorem dX1_go_141 : decode cX1_go 141 = .ok (.getfield 207, 3) := dk_180 0 207 (dk_at dksX1_go_6 0 rfl rfl)
theorem dX1_go_144 : decode cX1_go 144 = .ok (.invokestatic 252, 3) := dk_184 0 252 (dk_at dksX1_go_6 3 rfl rfl)
theorem dX1_go_147 : decode cX1_go 147 = .ok (.invokevirtual 264, 3) := dk_182 1 8 (dk_at dksX1_go_6 6 rfl rfl)
theorem dX1_go_150 : decode cX1_go 150 = .ok (.if_icmp .le 6, 3) := dk_164 0 6 (dk_at dksX1_go_6 9 rfl rfl)
theorem dX1_go_153 : decode cX1_go 153 = .ok (.bipush (-4), 2) := dk_16 252 (dk_at dksX1_go_6 12 rfl rfl)
theorem dX1_go_155 : decode cX1_go 155 = .ok (.ireturn, 1) := dk_172 (dk_at dksX1_go_6 14 rfl rfl)
theorem dX1_go_156 : decode cX1_go 156 = .ok (.aload_n 0, 1) := dk_42 (dk_at dksX1_go_6 15 rfl rfl)
theorem dX1_go_157 : decode cX1_go 157 = .ok (.getfield 93, 3) := dk_180 0 93 (dk_at dksX1_go_6 16 rfl rfl)
theorem dX1_go_160 : decode cX1_go 160 = .ok (.iload_n 1, 1) := dk_27 (dk_at dksX1_go_6 19 rfl rfl)
theorem dX1_go_161 : decode cX1_go 161 = .ok (.iload 4, 2) := dk_21 4 (dk_at dksX1_go_6 20 rfl rfl)
theorem dX1_go_163 : decode cX1_go 163 = .ok (.iload 5, 2) := dk_21 5 (dk_at dksX1_go_6 22 rfl rfl)
theorem dX1_go_165 : decode cX1_go 165 = .ok (.iadd, 1) := dk_96 (dk_at dksX1_go_7 0 rfl rfl)
theorem dX1_go_166 : decode cX1_go 166 = .ok (.iastore, 1) := dk_79 (dk_at dksX1_go_7 1 rfl rfl)
theorem dX1_go_167 : decode cX1_go 167 = .ok (.aload_n 0, 1) := dk_42 (dk_at dksX1_go_7 2 rfl rfl)
theorem dX1_go_168 : decode cX1_go 168 = .ok (.getfield 96, 3) := dk_180 0 96 (dk_at dksX1_go_7 3 rfl rfl)
theorem dX1_go_171 : decode cX1_go 171 = .ok (.iload_n 1, 1) := dk_27 (dk_at dksX1_go_7 6 rfl rfl)
theorem dX1_go_172 : decode cX1_go 172 = .ok (.dup2, 1) := dk_92 (dk_at dksX1_go_7 7 rfl rfl)
theorem dX1_go_173 : decode cX1_go 173 = .ok (.iaload, 1) := dk_46 (dk_at dksX1_go_7 8 rfl rfl)
theorem dX1_go_174 : decode cX1_go 174 = .ok (.iload 5, 2) := dk_21 5 (dk_at dksX1_go_7 9 rfl rfl)
theorem dX1_go_176 : decode cX1_go 176 = .ok (.iadd, 1) := dk_96 (dk_at dksX1_go_7 11 rfl rfl)
theorem dX1_go_177 : decode cX1_go 177 = .ok (.iastore, 1) := dk_79 (dk_at dksX1_go_7 12 rfl rfl)
theorem dX1_go_178 : decode cX1_go 178 = .ok (.aload_n 0, 1) := dk_42 (dk_at dksX1_go_7 13 rfl rfl)
theorem dX1_go_179 : decode cX1_go 179 = .ok (.getfield 84, 3) := dk_180 0 84 (dk_at dksX1_go_7 14 rfl rfl)
theorem dX1_go_182 : decode cX1_go 182 = .ok (.iload_n 1, 1) := dk_27 (dk_at dksX1_go_7 17 rfl rfl)
theorem dX1_go_183 : decode cX1_go 183 = .ok (.iload_n 2, 1) := dk_28 (dk_at dksX1_go_7 18 rfl rfl)
theorem dX1_go_184 : decode cX1_go 184 = .ok (.iastore, 1) := dk_79 (dk_at dksX1_go_7 19 rfl rfl)
theorem dX1_go_185 : decode cX1_go 185 = .ok (.aload_n 0, 1) := dk_42 (dk_at dksX1_go_7 20 rfl rfl)
theorem dX1_go_186 : decode cX1_go 186 = .ok (.getfield 87, 3) := dk_180 0 87 (dk_at dksX1_go_7 21 rfl rfl)
theorem dX1_go_189 : decode cX1_go 189 = .ok (.iload_n 1, 1) := dk_27 (dk_at dksX1_go_8 0 rfl rfl)
theorem dX1_go_190 : decode cX1_go 190 = .ok (.iload_n 3, 1) := dk_29 (dk_at dksX1_go_8 1 rfl rfl)
theorem dX1_go_191 : decode cX1_go 191 = .ok (.iastore, 1) := dk_79 (dk_at dksX1_go_8 2 rfl rfl)
theorem dX1_go_192 : decode cX1_go 192 = .ok (.iload_n 3, 1) := dk_29 (dk_at dksX1_go_8 3 rfl rfl)
theorem dX1_go_193 : decode cX1_go 193 = .ok (.ireturn, 1) := dk_172 (dk_at dksX1_go_8 4 rfl rfl)
abbrev cX1_inForce : ByteArray := prog_8_method_55_code
def yX1_inForce : MethodName := ⟨RX1, "inForce", "(IIII)I"⟩
def dkwX1_inForce_7 : List UInt8 := [3, 167, 0, 17, 27, 5, 160, 0, 9, 17, 2, 88, 167, 0, 6, 17, 1, 224, 172]
abbrev dktX1_inForce_7 : List UInt8 := dkwX1_inForce_7 ++ []
def dkwX1_inForce_6 : List UInt8 := [21, 6, 104, 21, 5, 96, 46, 167, 0, 35, 27, 154, 0, 8, 16, 120, 167, 0, 26, 27, 4, 160, 0, 7]
abbrev dktX1_inForce_6 : List UInt8 := dkwX1_inForce_6 ++ dktX1_inForce_7
def dkwX1_inForce_5 : List UInt8 := [167, 0, 5, 21, 6, 54, 6, 132, 7, 1, 167, 255, 162, 21, 6, 155, 0, 19, 42, 180, 0, 120, 16, 18]
abbrev dktX1_inForce_5 : List UInt8 := dkwX1_inForce_5 ++ dktX1_inForce_6
def dkwX1_inForce_4 : List UInt8 := [155, 0, 20, 42, 180, 0, 117, 21, 7, 46, 42, 180, 0, 117, 21, 6, 46, 161, 0, 8, 21, 7]
abbrev dktX1_inForce_4 : List UInt8 := dkwX1_inForce_4 ++ dktX1_inForce_5
def dkwX1_inForce_3 : List UInt8 := [21, 7, 104, 21, 5, 96, 46, 155, 0, 7, 4, 167, 0, 4, 3, 54, 8, 21, 8, 153, 0, 30, 21, 6]
abbrev dktX1_inForce_3 : List UInt8 := dkwX1_inForce_3 ++ dktX1_inForce_4
def dkwX1_inForce_2 : List UInt8 := [46, 21, 4, 163, 0, 34, 42, 180, 0, 117, 21, 7, 46, 29, 163, 0, 23, 42, 180, 0, 120, 16, 18]
abbrev dktX1_inForce_2 : List UInt8 := dkwX1_inForce_2 ++ dktX1_inForce_3
def dkwX1_inForce_1 : List UInt8 := [54, 5, 16, 247, 54, 6, 3, 54, 7, 21, 7, 42, 180, 1, 24, 162, 0, 91, 42, 180, 0, 114, 21, 7]
abbrev dktX1_inForce_1 : List UInt8 := dkwX1_inForce_1 ++ dktX1_inForce_2
def dkwX1_inForce_0 : List UInt8 := [27, 154, 0, 7, 28, 167, 0, 19, 27, 4, 160, 0, 10, 16, 8, 28, 96, 167, 0, 7, 16, 14, 27, 96]
abbrev dktX1_inForce_0 : List UInt8 := dkwX1_inForce_0 ++ dktX1_inForce_1
theorem dksX1_inForce_0 : cX1_inForce.data.toList.drop 0 = dktX1_inForce_0 := by decide +kernel
theorem dksX1_inForce_1 : cX1_inForce.data.toList.drop 24 = dktX1_inForce_1 := dk_seg dksX1_inForce_0 24 rfl rfl
theorem dksX1_inForce_2 : cX1_inForce.data.toList.drop 48 = dktX1_inForce_2 := dk_seg dksX1_inForce_1 24 rfl rfl
theorem dksX1_inForce_3 : cX1_inForce.data.toList.drop 71 = dktX1_inForce_3 := dk_seg dksX1_inForce_2 23 rfl rfl
theorem dksX1_inForce_4 : cX1_inForce.data.toList.drop 95 = dktX1_inForce_4 := dk_seg dksX1_inForce_3 24 rfl rfl
theorem dksX1_inForce_5 : cX1_inForce.data.toList.drop 117 = dktX1_inForce_5 := dk_seg dksX1_inForce_4 22 rfl rfl
theorem dksX1_inForce_6 : cX1_inForce.data.toList.drop 141 = dktX1_inForce_6 := dk_seg dksX1_inForce_5 24 rfl rfl
theorem dksX1_inForce_7 : cX1_inForce.data.toList.drop 165 = dktX1_inForce_7 := dk_seg dksX1_inForce_6 24 rfl rfl
theorem dX1_inForce_0 : decode cX1_inForce 0 = .ok (.iload_n 1, 1) := dk_27 (dk_at dksX1_inForce_0 0 rfl rfl)
theorem dX1_inForce_1 : decode cX1_inForce 1 = .ok (.ifCond .ne 7, 3) := dk_154 0 7 (dk_at dksX1_inForce_0 1 rfl rfl)
theorem dX1_inForce_4 : decode cX1_inForce 4 = .ok (.iload_n 2, 1) := dk_28 (dk_at dksX1_inForce_0 4 rfl rfl)
theorem dX1_inForce_5 : decode cX1_inForce 5 = .ok (.goto 19, 3) := dk_167 0 19 (dk_at dksX1_inForce_0 5 rfl rfl)
theorem dX1_inForce_8 : decode cX1_inForce 8 = .ok (.iload_n 1, 1) := dk_27 (dk_at dksX1_inForce_0 8 rfl rfl)
theorem dX1_inForce_9 : decode cX1_inForce 9 = .ok (.iconst 1, 1) := dk_4 (dk_at dksX1_inForce_0 9 rfl rfl)
theorem dX1_inForce_10 : decode cX1_inForce 10 = .ok (.if_icmp .ne 10, 3) := dk_160 0 10 (dk_at dksX1_inForce_0 10 rfl rfl)
theorem dX1_inForce_13 : decode cX1_inForce 13 = .ok (.bipush 8, 2) := dk_16 8 (dk_at dksX1_inForce_0 13 rfl rfl)
theorem dX1_inForce_15 : decode cX1_inForce 15 = .ok (.iload_n 2, 1) := dk_28 (dk_at dksX1_inForce_0 15 rfl rfl)
theorem dX1_inForce_16 : decode cX1_inForce 16 = .ok (.iadd, 1) := dk_96 (dk_at dksX1_inForce_0 16 rfl rfl)
theorem dX1_inForce_17 : decode cX1_inForce 17 = .ok (.goto 7, 3) := dk_167 0 7 (dk_at dksX1_inForce_0 17 rfl rfl)
theorem dX1_inForce_20 : decode cX1_inForce 20 = .ok (.bipush 14, 2) := dk_16 14 (dk_at dksX1_inForce_0 20 rfl rfl)
theorem dX1_inForce_22 : decode cX1_inForce 22 = .ok (.iload_n 1, 1) := dk_27 (dk_at dksX1_inForce_0 22 rfl rfl)
theorem dX1_inForce_23 : decode cX1_inForce 23 = .ok (.iadd, 1) := dk_96 (dk_at dksX1_inForce_0 23 rfl rfl)
theorem dX1_inForce_24 : decode cX1_inForce 24 = .ok (.istore 5, 2) := dk_54 5 (dk_at dksX1_inForce_1 0 rfl rfl)
theorem dX1_inForce_26 : decode cX1_inForce 26 = .ok (.bipush (-9), 2) := dk_16 247 (dk_at dksX1_inForce_1 2 rfl rfl)
theorem dX1_inForce_28 : decode cX1_inForce 28 = .ok (.istore 6, 2) := dk_54 6 (dk_at dksX1_inForce_1 4 rfl rfl)
theorem dX1_inForce_30 : decode cX1_inForce 30 = .ok (.iconst 0, 1) := dk_3 (dk_at dksX1_inForce_1 6 rfl rfl)
theorem dX1_inForce_31 : decode cX1_inForce 31 = .ok (.istore 7, 2) := dk_54 7 (dk_at dksX1_inForce_1 7 rfl rfl)
theorem dX1_inForce_33 : decode cX1_inForce 33 = .ok (.iload 7, 2) := dk_21 7 (dk_at dksX1_inForce_1 9 rfl rfl)
theorem dX1_inForce_35 : decode cX1_inForce 35 = .ok (.aload_n 0, 1) := dk_42 (dk_at dksX1_inForce_1 11 rfl rfl)
theorem dX1_inForce_36 : decode cX1_inForce 36 = .ok (.getfield 280, 3) := dk_180 1 24 (dk_at dksX1_inForce_1 12 rfl rfl)
theorem dX1_inForce_39 : decode cX1_inForce 39 = .ok (.if_icmp .ge 91, 3) := dk_162 0 91 (dk_at dksX1_inForce_1 15 rfl rfl)
theorem dX1_inForce_42 : decode cX1_inForce 42 = .ok (.aload_n 0, 1) := dk_42 (dk_at dksX1_inForce_1 18 rfl rfl)
theorem dX1_inForce_43 : decode cX1_inForce 43 = .ok (.getfield 114, 3) := dk_180 0 114 (dk_at dksX1_inForce_1 19 rfl rfl)
theorem dX1_inForce_46 : decode cX1_inForce 46 = .ok (.iload 7, 2) := dk_21 7 (dk_at dksX1_inForce_1 22 rfl rfl)
theorem dX1_inForce_48 : decode cX1_inForce 48 = .ok (.iaload, 1) := dk_46 (dk_at dksX1_inForce_2 0 rfl rfl)
theorem dX1_inForce_49 : decode cX1_inForce 49 = .ok (.iload 4, 2) := dk_21 4 (dk_at dksX1_inForce_2 1 rfl rfl)
theorem dX1_inForce_51 : decode cX1_inForce 51 = .ok (.if_icmp .gt 34, 3) := dk_163 0 34 (dk_at dksX1_inForce_2 3 rfl rfl)
theorem dX1_inForce_54 : decode cX1_inForce 54 = .ok (.aload_n 0, 1) := dk_42 (dk_at dksX1_inForce_2 6 rfl rfl)
theorem dX1_inForce_55 : decode cX1_inForce 55 = .ok (.getfield 117, 3) := dk_180 0 117 (dk_at dksX1_inForce_2 7 rfl rfl)
theorem dX1_inForce_58 : decode cX1_inForce 58 = .ok (.iload 7, 2) := dk_21 7 (dk_at dksX1_inForce_2 10 rfl rfl)
theorem dX1_inForce_60 : decode cX1_inForce 60 = .ok (.iaload, 1) := dk_46 (dk_at dksX1_inForce_2 12 rfl rfl)
theorem dX1_inForce_61 : decode cX1_inForce 61 = .ok (.iload_n 3, 1) := dk_29 (dk_at dksX1_inForce_2 13 rfl rfl)
theorem dX1_inForce_62 : decode cX1_inForce 62 = .ok (.if_icmp .gt 23, 3) := dk_163 0 23 (dk_at dksX1_inForce_2 14 rfl rfl)
theorem dX1_inForce_65 : decode cX1_inForce 65 = .ok (.aload_n 0, 1) := dk_42 (dk_at dksX1_inForce_2 17 rfl rfl)
theorem dX1_inForce_66 : decode cX1_inForce 66 = .ok (.getfield 120, 3) := dk_180 0 120 (dk_at dksX1_inForce_2 18 rfl rfl)
theorem dX1_inForce_69 : decode cX1_inForce 69 = .ok (.bipush 18, 2) := dk_16 18 (dk_at dksX1_inForce_2 21 rfl rfl)
theorem dX1_inForce_71 : decode cX1_inForce 71 = .ok (.iload 7, 2) := dk_21 7 (dk_at dksX1_inForce_3 0 rfl rfl)
theorem dX1_inForce_73 : decode cX1_inForce 73 = .ok (.imul, 1) := dk_104 (dk_at dksX1_inForce_3 2 rfl rfl)
theorem dX1_inForce_74 : decode cX1_inForce 74 = .ok (.iload 5, 2) := dk_21 5 (dk_at dksX1_inForce_3 3 rfl rfl)
theorem dX1_inForce_76 : decode cX1_inForce 76 = .ok (.iadd, 1) := dk_96 (dk_at dksX1_inForce_3 5 rfl rfl)
theorem dX1_inForce_77 : decode cX1_inForce 77 = .ok (.iaload, 1) := dk_46 (dk_at dksX1_inForce_3 6 rfl rfl)
theorem dX1_inForce_78 : decode cX1_inForce 78 = .ok (.ifCond .lt 7, 3) := dk_155 0 7 (dk_at dksX1_inForce_3 7 rfl rfl)
theorem dX1_inForce_81 : decode cX1_inForce 81 = .ok (.iconst 1, 1) := dk_4 (dk_at dksX1_inForce_3 10 rfl rfl)
theorem dX1_inForce_82 : decode cX1_inForce 82 = .ok (.goto 4, 3) := dk_167 0 4 (dk_at dksX1_inForce_3 11 rfl rfl)
theorem dX1_inForce_85 : decode cX1_inForce 85 = .ok (.iconst 0, 1) := dk_3 (dk_at dksX1_inForce_3 14 rfl rfl)
theorem dX1_inForce_86 : decode cX1_inForce 86 = .ok (.istore 8, 2) := dk_54 8 (dk_at dksX1_inForce_3 15 rfl rfl)
theorem dX1_inForce_88 : decode cX1_inForce 88 = .ok (.iload 8, 2) := dk_21 8 (dk_at dksX1_inForce_3 17 rfl rfl)
theorem dX1_inForce_90 : decode cX1_inForce 90 = .ok (.ifCond .eq 30, 3) := dk_153 0 30 (dk_at dksX1_inForce_3 19 rfl rfl)
theorem dX1_inForce_93 : decode cX1_inForce 93 = .ok (.iload 6, 2) := dk_21 6 (dk_at dksX1_inForce_3 22 rfl rfl)
theorem dX1_inForce_95 : decode cX1_inForce 95 = .ok (.ifCond .lt 20, 3) := dk_155 0 20 (dk_at dksX1_inForce_4 0 rfl rfl)
theorem dX1_inForce_98 : decode cX1_inForce 98 = .ok (.aload_n 0, 1) := dk_42 (dk_at dksX1_inForce_4 3 rfl rfl)
theorem dX1_inForce_99 : decode cX1_inForce 99 = .ok (.getfield 117, 3) := dk_180 0 117 (dk_at dksX1_inForce_4 4 rfl rfl)
theorem dX1_inForce_102 : decode cX1_inForce 102 = .ok (.iload 7, 2) := dk_21 7 (dk_at dksX1_inForce_4 7 rfl rfl)
theorem dX1_inForce_104 : decode cX1_inForce 104 = .ok (.iaload, 1) := dk_46 (dk_at dksX1_inForce_4 9 rfl rfl)
theorem dX1_inForce_105 : decode cX1_inForce 105 = .ok (.aload_n 0, 1) := dk_42 (dk_at dksX1_inForce_4 10 rfl rfl)
theorem dX1_inForce_106 : decode cX1_inForce 106 = .ok (.getfield 117, 3) := dk_180 0 117 (dk_at dksX1_inForce_4 11 rfl rfl)
theorem dX1_inForce_109 : decode cX1_inForce 109 = .ok (.iload 6, 2) := dk_21 6 (dk_at dksX1_inForce_4 14 rfl rfl)
theorem dX1_inForce_111 : decode cX1_inForce 111 = .ok (.iaload, 1) := dk_46 (dk_at dksX1_inForce_4 16 rfl rfl)
theorem dX1_inForce_112 : decode cX1_inForce 112 = .ok (.if_icmp .lt 8, 3) := dk_161 0 8 (dk_at dksX1_inForce_4 17 rfl rfl)
theorem dX1_inForce_115 : decode cX1_inForce 115 = .ok (.iload 7, 2) := dk_21 7 (dk_at dksX1_inForce_4 20 rfl rfl)
theorem dX1_inForce_117 : decode cX1_inForce 117 = .ok (.goto 5, 3) := dk_167 0 5 (dk_at dksX1_inForce_5 0 rfl rfl)
theorem dX1_inForce_120 : decode cX1_inForce 120 = .ok (.iload 6, 2) := dk_21 6 (dk_at dksX1_inForce_5 3 rfl rfl)
theorem dX1_inForce_122 : decode cX1_inForce 122 = .ok (.istore 6, 2) := dk_54 6 (dk_at dksX1_inForce_5 5 rfl rfl)
theorem dX1_inForce_124 : decode cX1_inForce 124 = .ok (.iinc 7 1, 3) := dk_132 7 1 (dk_at dksX1_inForce_5 7 rfl rfl)
theorem dX1_inForce_127 : decode cX1_inForce 127 = .ok (.goto (-94), 3) := dk_167 255 162 (dk_at dksX1_inForce_5 10 rfl rfl)
theorem dX1_inForce_130 : decode cX1_inForce 130 = .ok (.iload 6, 2) := dk_21 6 (dk_at dksX1_inForce_5 13 rfl rfl)
theorem dX1_inForce_132 : decode cX1_inForce 132 = .ok (.ifCond .lt 19, 3) := dk_155 0 19 (dk_at dksX1_inForce_5 15 rfl rfl)
theorem dX1_inForce_135 : decode cX1_inForce 135 = .ok (.aload_n 0, 1) := dk_42 (dk_at dksX1_inForce_5 18 rfl rfl)
theorem dX1_inForce_136 : decode cX1_inForce 136 = .ok (.getfield 120, 3) := dk_180 0 120 (dk_at dksX1_inForce_5 19 rfl rfl)
theorem dX1_inForce_139 : decode cX1_inForce 139 = .ok (.bipush 18, 2) := dk_16 18 (dk_at dksX1_inForce_5 22 rfl rfl)
theorem dX1_inForce_141 : decode cX1_inForce 141 = .ok (.iload 6, 2) := dk_21 6 (dk_at dksX1_inForce_6 0 rfl rfl)
theorem dX1_inForce_143 : decode cX1_inForce 143 = .ok (.imul, 1) := dk_104 (dk_at dksX1_inForce_6 2 rfl rfl)
theorem dX1_inForce_144 : decode cX1_inForce 144 = .ok (.iload 5, 2) := dk_21 5 (dk_at dksX1_inForce_6 3 rfl rfl)
theorem dX1_inForce_146 : decode cX1_inForce 146 = .ok (.iadd, 1) := dk_96 (dk_at dksX1_inForce_6 5 rfl rfl)
theorem dX1_inForce_147 : decode cX1_inForce 147 = .ok (.iaload, 1) := dk_46 (dk_at dksX1_inForce_6 6 rfl rfl)
theorem dX1_inForce_148 : decode cX1_inForce 148 = .ok (.goto 35, 3) := dk_167 0 35 (dk_at dksX1_inForce_6 7 rfl rfl)
theorem dX1_inForce_151 : decode cX1_inForce 151 = .ok (.iload_n 1, 1) := dk_27 (dk_at dksX1_inForce_6 10 rfl rfl)
theorem dX1_inForce_152 : decode cX1_inForce 152 = .ok (.ifCond .ne 8, 3) := dk_154 0 8 (dk_at dksX1_inForce_6 11 rfl rfl)
theorem dX1_inForce_155 : decode cX1_inForce 155 = .ok (.bipush 120, 2) := dk_16 120 (dk_at dksX1_inForce_6 14 rfl rfl)
theorem dX1_inForce_157 : decode cX1_inForce 157 = .ok (.goto 26, 3) := dk_167 0 26 (dk_at dksX1_inForce_6 16 rfl rfl)
theorem dX1_inForce_160 : decode cX1_inForce 160 = .ok (.iload_n 1, 1) := dk_27 (dk_at dksX1_inForce_6 19 rfl rfl)
theorem dX1_inForce_161 : decode cX1_inForce 161 = .ok (.iconst 1, 1) := dk_4 (dk_at dksX1_inForce_6 20 rfl rfl)
theorem dX1_inForce_162 : decode cX1_inForce 162 = .ok (.if_icmp .ne 7, 3) := dk_160 0 7 (dk_at dksX1_inForce_6 21 rfl rfl)
theorem dX1_inForce_165 : decode cX1_inForce 165 = .ok (.iconst 0, 1) := dk_3 (dk_at dksX1_inForce_7 0 rfl rfl)
theorem dX1_inForce_166 : decode cX1_inForce 166 = .ok (.goto 17, 3) := dk_167 0 17 (dk_at dksX1_inForce_7 1 rfl rfl)
theorem dX1_inForce_169 : decode cX1_inForce 169 = .ok (.iload_n 1, 1) := dk_27 (dk_at dksX1_inForce_7 4 rfl rfl)
theorem dX1_inForce_170 : decode cX1_inForce 170 = .ok (.iconst 2, 1) := dk_5 (dk_at dksX1_inForce_7 5 rfl rfl)
theorem dX1_inForce_171 : decode cX1_inForce 171 = .ok (.if_icmp .ne 9, 3) := dk_160 0 9 (dk_at dksX1_inForce_7 6 rfl rfl)
theorem dX1_inForce_174 : decode cX1_inForce 174 = .ok (.sipush 600, 3) := dk_17 2 88 (dk_at dksX1_inForce_7 9 rfl rfl)
theorem dX1_inForce_177 : decode cX1_inForce 177 = .ok (.goto 6, 3) := dk_167 0 6 (dk_at dksX1_inForce_7 12 rfl rfl)
theorem dX1_inForce_180 : decode cX1_inForce 180 = .ok (.sipush 480, 3) := dk_17 1 224 (dk_at dksX1_inForce_7 15 rfl rfl)
theorem dX1_inForce_183 : decode cX1_inForce 183 = .ok (.ireturn, 1) := dk_172 (dk_at dksX1_inForce_7 18 rfl rfl)
abbrev cX1_tractor : ByteArray := prog_8_method_44_code
def yX1_tractor : MethodName := ⟨RX1, "tractor", "(II)I"⟩
def dkwX1_tractor_1 : List UInt8 := [182, 0, 246, 167, 0, 4, 2, 172]
abbrev dktX1_tractor_1 : List UInt8 := dkwX1_tractor_1 ++ []
def dkwX1_tractor_0 : List UInt8 := [27, 184, 1, 2, 153, 0, 26, 28, 3, 7, 184, 0, 185, 153, 0, 17, 42, 42, 27, 28, 182, 1, 12, 4]
abbrev dktX1_tractor_0 : List UInt8 := dkwX1_tractor_0 ++ dktX1_tractor_1
theorem dksX1_tractor_0 : cX1_tractor.data.toList.drop 0 = dktX1_tractor_0 := by decide +kernel
theorem dksX1_tractor_1 : cX1_tractor.data.toList.drop 24 = dktX1_tractor_1 := dk_seg dksX1_tractor_0 24 rfl rfl
theorem dX1_tractor_0 : decode cX1_tractor 0 = .ok (.iload_n 1, 1) := dk_27 (dk_at dksX1_tractor_0 0 rfl rfl)
theorem dX1_tractor_1 : decode cX1_tractor 1 = .ok (.invokestatic 258, 3) := dk_184 1 2 (dk_at dksX1_tractor_0 1 rfl rfl)
theorem dX1_tractor_4 : decode cX1_tractor 4 = .ok (.ifCond .eq 26, 3) := dk_153 0 26 (dk_at dksX1_tractor_0 4 rfl rfl)
theorem dX1_tractor_7 : decode cX1_tractor 7 = .ok (.iload_n 2, 1) := dk_28 (dk_at dksX1_tractor_0 7 rfl rfl)
theorem dX1_tractor_8 : decode cX1_tractor 8 = .ok (.iconst 0, 1) := dk_3 (dk_at dksX1_tractor_0 8 rfl rfl)
theorem dX1_tractor_9 : decode cX1_tractor 9 = .ok (.iconst 4, 1) := dk_7 (dk_at dksX1_tractor_0 9 rfl rfl)
theorem dX1_tractor_10 : decode cX1_tractor 10 = .ok (.invokestatic 185, 3) := dk_184 0 185 (dk_at dksX1_tractor_0 10 rfl rfl)
theorem dX1_tractor_13 : decode cX1_tractor 13 = .ok (.ifCond .eq 17, 3) := dk_153 0 17 (dk_at dksX1_tractor_0 13 rfl rfl)
theorem dX1_tractor_16 : decode cX1_tractor 16 = .ok (.aload_n 0, 1) := dk_42 (dk_at dksX1_tractor_0 16 rfl rfl)
theorem dX1_tractor_17 : decode cX1_tractor 17 = .ok (.aload_n 0, 1) := dk_42 (dk_at dksX1_tractor_0 17 rfl rfl)
theorem dX1_tractor_18 : decode cX1_tractor 18 = .ok (.iload_n 1, 1) := dk_27 (dk_at dksX1_tractor_0 18 rfl rfl)
theorem dX1_tractor_19 : decode cX1_tractor 19 = .ok (.iload_n 2, 1) := dk_28 (dk_at dksX1_tractor_0 19 rfl rfl)
theorem dX1_tractor_20 : decode cX1_tractor 20 = .ok (.invokevirtual 268, 3) := dk_182 1 12 (dk_at dksX1_tractor_0 20 rfl rfl)
theorem dX1_tractor_23 : decode cX1_tractor 23 = .ok (.iconst 1, 1) := dk_4 (dk_at dksX1_tractor_0 23 rfl rfl)
theorem dX1_tractor_24 : decode cX1_tractor 24 = .ok (.invokevirtual 246, 3) := dk_182 0 246 (dk_at dksX1_tractor_1 0 rfl rfl)
theorem dX1_tractor_27 : decode cX1_tractor 27 = .ok (.goto 4, 3) := dk_167 0 4 (dk_at dksX1_tractor_1 3 rfl rfl)
theorem dX1_tractor_30 : decode cX1_tractor 30 = .ok (.iconst (-1), 1) := dk_2 (dk_at dksX1_tractor_1 6 rfl rfl)
theorem dX1_tractor_31 : decode cX1_tractor 31 = .ok (.ireturn, 1) := dk_172 (dk_at dksX1_tractor_1 7 rfl rfl)
abbrev cX1_tractorTells : ByteArray := prog_8_method_43_code
def yX1_tractorTells : MethodName := ⟨RX1, "tractorTells", "(II)I"⟩
def dkwX1_tractorTells_3 : List UInt8 := [180, 0, 93, 27, 46, 172, 42, 180, 0, 96, 27, 46, 172]
abbrev dktX1_tractorTells_3 : List UInt8 := dkwX1_tractorTells_3 ++ []
def dkwX1_tractorTells_2 : List UInt8 := [42, 180, 0, 84, 27, 46, 172, 42, 180, 0, 87, 27, 46, 172, 42, 180, 0, 90, 27, 46, 172, 42]
abbrev dktX1_tractorTells_2 : List UInt8 := dkwX1_tractorTells_2 ++ dktX1_tractorTells_3
def dkwX1_tractorTells_1 : List UInt8 := [170, 0, 0, 0, 0, 0, 59, 0, 0, 0, 0, 0, 0, 0, 3, 0, 0, 0, 31, 0, 0, 0, 38, 0, 0, 0, 45, 0, 0, 0, 52]
abbrev dktX1_tractorTells_1 : List UInt8 := dkwX1_tractorTells_1 ++ dktX1_tractorTells_2
def dkwX1_tractorTells_0 : List UInt8 := [28]
abbrev dktX1_tractorTells_0 : List UInt8 := dkwX1_tractorTells_0 ++ dktX1_tractorTells_1
theorem dksX1_tractorTells_0 : cX1_tractorTells.data.toList.drop 0 = dktX1_tractorTells_0 := by decide +kernel
theorem dksX1_tractorTells_1 : cX1_tractorTells.data.toList.drop 1 = dktX1_tractorTells_1 := dk_seg dksX1_tractorTells_0 1 rfl rfl
theorem dksX1_tractorTells_2 : cX1_tractorTells.data.toList.drop 32 = dktX1_tractorTells_2 := dk_seg dksX1_tractorTells_1 31 rfl rfl
theorem dksX1_tractorTells_3 : cX1_tractorTells.data.toList.drop 54 = dktX1_tractorTells_3 := dk_seg dksX1_tractorTells_2 22 rfl rfl
theorem dX1_tractorTells_0 : decode cX1_tractorTells 0 = .ok (.iload_n 2, 1) := dk_28 (dk_at dksX1_tractorTells_0 0 rfl rfl)
theorem dX1_tractorTells_1 : decode cX1_tractorTells 1 = .ok (.tableswitch 59 0 3 #[31, 38, 45, 52], 31) := by decide +kernel
theorem dX1_tractorTells_32 : decode cX1_tractorTells 32 = .ok (.aload_n 0, 1) := dk_42 (dk_at dksX1_tractorTells_2 0 rfl rfl)
theorem dX1_tractorTells_33 : decode cX1_tractorTells 33 = .ok (.getfield 84, 3) := dk_180 0 84 (dk_at dksX1_tractorTells_2 1 rfl rfl)
theorem dX1_tractorTells_36 : decode cX1_tractorTells 36 = .ok (.iload_n 1, 1) := dk_27 (dk_at dksX1_tractorTells_2 4 rfl rfl)
theorem dX1_tractorTells_37 : decode cX1_tractorTells 37 = .ok (.iaload, 1) := dk_46 (dk_at dksX1_tractorTells_2 5 rfl rfl)
theorem dX1_tractorTells_38 : decode cX1_tractorTells 38 = .ok (.ireturn, 1) := dk_172 (dk_at dksX1_tractorTells_2 6 rfl rfl)
theorem dX1_tractorTells_39 : decode cX1_tractorTells 39 = .ok (.aload_n 0, 1) := dk_42 (dk_at dksX1_tractorTells_2 7 rfl rfl)
theorem dX1_tractorTells_40 : decode cX1_tractorTells 40 = .ok (.getfield 87, 3) := dk_180 0 87 (dk_at dksX1_tractorTells_2 8 rfl rfl)
theorem dX1_tractorTells_43 : decode cX1_tractorTells 43 = .ok (.iload_n 1, 1) := dk_27 (dk_at dksX1_tractorTells_2 11 rfl rfl)
theorem dX1_tractorTells_44 : decode cX1_tractorTells 44 = .ok (.iaload, 1) := dk_46 (dk_at dksX1_tractorTells_2 12 rfl rfl)
theorem dX1_tractorTells_45 : decode cX1_tractorTells 45 = .ok (.ireturn, 1) := dk_172 (dk_at dksX1_tractorTells_2 13 rfl rfl)
theorem dX1_tractorTells_46 : decode cX1_tractorTells 46 = .ok (.aload_n 0, 1) := dk_42 (dk_at dksX1_tractorTells_2 14 rfl rfl)
theorem dX1_tractorTells_47 : decode cX1_tractorTells 47 = .ok (.getfield 90, 3) := dk_180 0 90 (dk_at dksX1_tractorTells_2 15 rfl rfl)
theorem dX1_tractorTells_50 : decode cX1_tractorTells 50 = .ok (.iload_n 1, 1) := dk_27 (dk_at dksX1_tractorTells_2 18 rfl rfl)
theorem dX1_tractorTells_51 : decode cX1_tractorTells 51 = .ok (.iaload, 1) := dk_46 (dk_at dksX1_tractorTells_2 19 rfl rfl)
theorem dX1_tractorTells_52 : decode cX1_tractorTells 52 = .ok (.ireturn, 1) := dk_172 (dk_at dksX1_tractorTells_2 20 rfl rfl)
theorem dX1_tractorTells_53 : decode cX1_tractorTells 53 = .ok (.aload_n 0, 1) := dk_42 (dk_at dksX1_tractorTells_2 21 rfl rfl)
theorem dX1_tractorTells_54 : decode cX1_tractorTells 54 = .ok (.getfield 93, 3) := dk_180 0 93 (dk_at dksX1_tractorTells_3 0 rfl rfl)
theorem dX1_tractorTells_57 : decode cX1_tractorTells 57 = .ok (.iload_n 1, 1) := dk_27 (dk_at dksX1_tractorTells_3 3 rfl rfl)
theorem dX1_tractorTells_58 : decode cX1_tractorTells 58 = .ok (.iaload, 1) := dk_46 (dk_at dksX1_tractorTells_3 4 rfl rfl)
theorem dX1_tractorTells_59 : decode cX1_tractorTells 59 = .ok (.ireturn, 1) := dk_172 (dk_at dksX1_tractorTells_3 5 rfl rfl)
theorem dX1_tractorTells_60 : decode cX1_tractorTells 60 = .ok (.aload_n 0, 1) := dk_42 (dk_at dksX1_tractorTells_3 6 rfl rfl)
theorem dX1_tractorTells_61 : decode cX1_tractorTells 61 = .ok (.getfield 96, 3) := dk_180 0 96 (dk_at dksX1_tractorTells_3 7 rfl rfl)
theorem dX1_tractorTells_64 : decode cX1_tractorTells 64 = .ok (.iload_n 1, 1) := dk_27 (dk_at dksX1_tractorTells_3 10 rfl rfl)
theorem dX1_tractorTells_65 : decode cX1_tractorTells 65 = .ok (.iaload, 1) := dk_46 (dk_at dksX1_tractorTells_3 11 rfl rfl)
theorem dX1_tractorTells_66 : decode cX1_tractorTells 66 = .ok (.ireturn, 1) := dk_172 (dk_at dksX1_tractorTells_3 12 rfl rfl)
abbrev cX1_lose : ByteArray := prog_8_method_45_code
def yX1_lose : MethodName := ⟨RX1, "lose", "(I)I"⟩
def dkwX1_lose_3 : List UInt8 := [79, 42, 180, 0, 56, 27, 4, 84, 42, 27, 5, 16, 247, 16, 247, 182, 0, 236, 4, 172]
abbrev dktX1_lose_3 : List UInt8 := dkwX1_lose_3 ++ []
def dkwX1_lose_2 : List UInt8 := [42, 180, 0, 53, 27, 46, 16, 247, 79, 42, 180, 0, 53, 27, 16, 247, 79, 42, 180, 0, 50, 27, 16, 247]
abbrev dktX1_lose_2 : List UInt8 := dkwX1_lose_2 ++ dktX1_lose_3
def dkwX1_lose_1 : List UInt8 := [180, 0, 226, 16, 60, 160, 0, 6, 16, 254, 172, 42, 180, 0, 53, 27, 46, 155, 0, 16, 42, 180, 0, 90]
abbrev dktX1_lose_1 : List UInt8 := dkwX1_lose_1 ++ dktX1_lose_2
def dkwX1_lose_0 : List UInt8 := [42, 27, 182, 0, 240, 154, 0, 5, 2, 172, 42, 180, 0, 56, 27, 51, 153, 0, 6, 16, 252, 172, 42]
abbrev dktX1_lose_0 : List UInt8 := dkwX1_lose_0 ++ dktX1_lose_1
theorem dksX1_lose_0 : cX1_lose.data.toList.drop 0 = dktX1_lose_0 := by decide +kernel
theorem dksX1_lose_1 : cX1_lose.data.toList.drop 23 = dktX1_lose_1 := dk_seg dksX1_lose_0 23 rfl rfl
theorem dksX1_lose_2 : cX1_lose.data.toList.drop 47 = dktX1_lose_2 := dk_seg dksX1_lose_1 24 rfl rfl
theorem dksX1_lose_3 : cX1_lose.data.toList.drop 71 = dktX1_lose_3 := dk_seg dksX1_lose_2 24 rfl rfl
theorem dX1_lose_0 : decode cX1_lose 0 = .ok (.aload_n 0, 1) := dk_42 (dk_at dksX1_lose_0 0 rfl rfl)
theorem dX1_lose_1 : decode cX1_lose 1 = .ok (.iload_n 1, 1) := dk_27 (dk_at dksX1_lose_0 1 rfl rfl)
theorem dX1_lose_2 : decode cX1_lose 2 = .ok (.invokevirtual 240, 3) := dk_182 0 240 (dk_at dksX1_lose_0 2 rfl rfl)
theorem dX1_lose_5 : decode cX1_lose 5 = .ok (.ifCond .ne 5, 3) := dk_154 0 5 (dk_at dksX1_lose_0 5 rfl rfl)
theorem dX1_lose_8 : decode cX1_lose 8 = .ok (.iconst (-1), 1) := dk_2 (dk_at dksX1_lose_0 8 rfl rfl)
theorem dX1_lose_9 : decode cX1_lose 9 = .ok (.ireturn, 1) := dk_172 (dk_at dksX1_lose_0 9 rfl rfl)
theorem dX1_lose_10 : decode cX1_lose 10 = .ok (.aload_n 0, 1) := dk_42 (dk_at dksX1_lose_0 10 rfl rfl)
theorem dX1_lose_11 : decode cX1_lose 11 = .ok (.getfield 56, 3) := dk_180 0 56 (dk_at dksX1_lose_0 11 rfl rfl)
theorem dX1_lose_14 : decode cX1_lose 14 = .ok (.iload_n 1, 1) := dk_27 (dk_at dksX1_lose_0 14 rfl rfl)
theorem dX1_lose_15 : decode cX1_lose 15 = .ok (.baload, 1) := dk_51 (dk_at dksX1_lose_0 15 rfl rfl)
theorem dX1_lose_16 : decode cX1_lose 16 = .ok (.ifCond .eq 6, 3) := dk_153 0 6 (dk_at dksX1_lose_0 16 rfl rfl)
theorem dX1_lose_19 : decode cX1_lose 19 = .ok (.bipush (-4), 2) := dk_16 252 (dk_at dksX1_lose_0 19 rfl rfl)
theorem dX1_lose_21 : decode cX1_lose 21 = .ok (.ireturn, 1) := dk_172 (dk_at dksX1_lose_0 21 rfl rfl)
theorem dX1_lose_22 : decode cX1_lose 22 = .ok (.aload_n 0, 1) := dk_42 (dk_at dksX1_lose_0 22 rfl rfl)
theorem dX1_lose_23 : decode cX1_lose 23 = .ok (.getfield 226, 3) := dk_180 0 226 (dk_at dksX1_lose_1 0 rfl rfl)
theorem dX1_lose_26 : decode cX1_lose 26 = .ok (.bipush 60, 2) := dk_16 60 (dk_at dksX1_lose_1 3 rfl rfl)
theorem dX1_lose_28 : decode cX1_lose 28 = .ok (.if_icmp .ne 6, 3) := dk_160 0 6 (dk_at dksX1_lose_1 5 rfl rfl)
theorem dX1_lose_31 : decode cX1_lose 31 = .ok (.bipush (-2), 2) := dk_16 254 (dk_at dksX1_lose_1 8 rfl rfl)
theorem dX1_lose_33 : decode cX1_lose 33 = .ok (.ireturn, 1) := dk_172 (dk_at dksX1_lose_1 10 rfl rfl)
theorem dX1_lose_34 : decode cX1_lose 34 = .ok (.aload_n 0, 1) := dk_42 (dk_at dksX1_lose_1 11 rfl rfl)
theorem dX1_lose_35 : decode cX1_lose 35 = .ok (.getfield 53, 3) := dk_180 0 53 (dk_at dksX1_lose_1 12 rfl rfl)
theorem dX1_lose_38 : decode cX1_lose 38 = .ok (.iload_n 1, 1) := dk_27 (dk_at dksX1_lose_1 15 rfl rfl)
theorem dX1_lose_39 : decode cX1_lose 39 = .ok (.iaload, 1) := dk_46 (dk_at dksX1_lose_1 16 rfl rfl)
theorem dX1_lose_40 : decode cX1_lose 40 = .ok (.ifCond .lt 16, 3) := dk_155 0 16 (dk_at dksX1_lose_1 17 rfl rfl)
theorem dX1_lose_43 : decode cX1_lose 43 = .ok (.aload_n 0, 1) := dk_42 (dk_at dksX1_lose_1 20 rfl rfl)
theorem dX1_lose_44 : decode cX1_lose 44 = .ok (.getfield 90, 3) := dk_180 0 90 (dk_at dksX1_lose_1 21 rfl rfl)
theorem dX1_lose_47 : decode cX1_lose 47 = .ok (.aload_n 0, 1) := dk_42 (dk_at dksX1_lose_2 0 rfl rfl)
theorem dX1_lose_48 : decode cX1_lose 48 = .ok (.getfield 53, 3) := dk_180 0 53 (dk_at dksX1_lose_2 1 rfl rfl)
theorem dX1_lose_51 : decode cX1_lose 51 = .ok (.iload_n 1, 1) := dk_27 (dk_at dksX1_lose_2 4 rfl rfl)
theorem dX1_lose_52 : decode cX1_lose 52 = .ok (.iaload, 1) := dk_46 (dk_at dksX1_lose_2 5 rfl rfl)
theorem dX1_lose_53 : decode cX1_lose 53 = .ok (.bipush (-9), 2) := dk_16 247 (dk_at dksX1_lose_2 6 rfl rfl)
theorem dX1_lose_55 : decode cX1_lose 55 = .ok (.iastore, 1) := dk_79 (dk_at dksX1_lose_2 8 rfl rfl)
theorem dX1_lose_56 : decode cX1_lose 56 = .ok (.aload_n 0, 1) := dk_42 (dk_at dksX1_lose_2 9 rfl rfl)
theorem dX1_lose_57 : decode cX1_lose 57 = .ok (.getfield 53, 3) := dk_180 0 53 (dk_at dksX1_lose_2 10 rfl rfl)
theorem dX1_lose_60 : decode cX1_lose 60 = .ok (.iload_n 1, 1) := dk_27 (dk_at dksX1_lose_2 13 rfl rfl)
theorem dX1_lose_61 : decode cX1_lose 61 = .ok (.bipush (-9), 2) := dk_16 247 (dk_at dksX1_lose_2 14 rfl rfl)
theorem dX1_lose_63 : decode cX1_lose 63 = .ok (.iastore, 1) := dk_79 (dk_at dksX1_lose_2 16 rfl rfl)
theorem dX1_lose_64 : decode cX1_lose 64 = .ok (.aload_n 0, 1) := dk_42 (dk_at dksX1_lose_2 17 rfl rfl)
theorem dX1_lose_65 : decode cX1_lose 65 = .ok (.getfield 50, 3) := dk_180 0 50 (dk_at dksX1_lose_2 18 rfl rfl)
theorem dX1_lose_68 : decode cX1_lose 68 = .ok (.iload_n 1, 1) := dk_27 (dk_at dksX1_lose_2 21 rfl rfl)
theorem dX1_lose_69 : decode cX1_lose 69 = .ok (.bipush (-9), 2) := dk_16 247 (dk_at dksX1_lose_2 22 rfl rfl)
theorem dX1_lose_71 : decode cX1_lose 71 = .ok (.iastore, 1) := dk_79 (dk_at dksX1_lose_3 0 rfl rfl)
theorem dX1_lose_72 : decode cX1_lose 72 = .ok (.aload_n 0, 1) := dk_42 (dk_at dksX1_lose_3 1 rfl rfl)
theorem dX1_lose_73 : decode cX1_lose 73 = .ok (.getfield 56, 3) := dk_180 0 56 (dk_at dksX1_lose_3 2 rfl rfl)
theorem dX1_lose_76 : decode cX1_lose 76 = .ok (.iload_n 1, 1) := dk_27 (dk_at dksX1_lose_3 5 rfl rfl)
theorem dX1_lose_77 : decode cX1_lose 77 = .ok (.iconst 1, 1) := dk_4 (dk_at dksX1_lose_3 6 rfl rfl)
theorem dX1_lose_78 : decode cX1_lose 78 = .ok (.bastore, 1) := dk_84 (dk_at dksX1_lose_3 7 rfl rfl)
theorem dX1_lose_79 : decode cX1_lose 79 = .ok (.aload_n 0, 1) := dk_42 (dk_at dksX1_lose_3 8 rfl rfl)
theorem dX1_lose_80 : decode cX1_lose 80 = .ok (.iload_n 1, 1) := dk_27 (dk_at dksX1_lose_3 9 rfl rfl)
theorem dX1_lose_81 : decode cX1_lose 81 = .ok (.iconst 2, 1) := dk_5 (dk_at dksX1_lose_3 10 rfl rfl)
theorem dX1_lose_82 : decode cX1_lose 82 = .ok (.bipush (-9), 2) := dk_16 247 (dk_at dksX1_lose_3 11 rfl rfl)
theorem dX1_lose_84 : decode cX1_lose 84 = .ok (.bipush (-9), 2) := dk_16 247 (dk_at dksX1_lose_3 13 rfl rfl)
theorem dX1_lose_86 : decode cX1_lose 86 = .ok (.invokevirtual 236, 3) := dk_182 0 236 (dk_at dksX1_lose_3 15 rfl rfl)
theorem dX1_lose_89 : decode cX1_lose 89 = .ok (.iconst 1, 1) := dk_4 (dk_at dksX1_lose_3 18 rfl rfl)
theorem dX1_lose_90 : decode cX1_lose 90 = .ok (.ireturn, 1) := dk_172 (dk_at dksX1_lose_3 19 rfl rfl)
abbrev cX1_find : ByteArray := prog_8_method_46_code
def yX1_find : MethodName := ⟨RX1, "find", "(II)I"⟩
def dkwX1_find_2 : List UInt8 := [84, 42, 180, 0, 50, 27, 28, 79, 42, 27, 3, 28, 28, 182, 0, 236, 4, 172]
abbrev dktX1_find_2 : List UInt8 := dkwX1_find_2 ++ []
def dkwX1_find_1 : List UInt8 := [154, 0, 6, 16, 252, 172, 42, 180, 0, 226, 16, 60, 160, 0, 6, 16, 254, 172, 42, 180, 0, 56, 27, 3]
abbrev dktX1_find_1 : List UInt8 := dkwX1_find_1 ++ dktX1_find_2
def dkwX1_find_0 : List UInt8 := [42, 27, 182, 0, 240, 153, 0, 10, 28, 184, 0, 210, 154, 0, 5, 2, 172, 42, 180, 0, 56, 27, 51]
abbrev dktX1_find_0 : List UInt8 := dkwX1_find_0 ++ dktX1_find_1
theorem dksX1_find_0 : cX1_find.data.toList.drop 0 = dktX1_find_0 := by decide +kernel
theorem dksX1_find_1 : cX1_find.data.toList.drop 23 = dktX1_find_1 := dk_seg dksX1_find_0 23 rfl rfl
theorem dksX1_find_2 : cX1_find.data.toList.drop 47 = dktX1_find_2 := dk_seg dksX1_find_1 24 rfl rfl
theorem dX1_find_0 : decode cX1_find 0 = .ok (.aload_n 0, 1) := dk_42 (dk_at dksX1_find_0 0 rfl rfl)
theorem dX1_find_1 : decode cX1_find 1 = .ok (.iload_n 1, 1) := dk_27 (dk_at dksX1_find_0 1 rfl rfl)
theorem dX1_find_2 : decode cX1_find 2 = .ok (.invokevirtual 240, 3) := dk_182 0 240 (dk_at dksX1_find_0 2 rfl rfl)
theorem dX1_find_5 : decode cX1_find 5 = .ok (.ifCond .eq 10, 3) := dk_153 0 10 (dk_at dksX1_find_0 5 rfl rfl)
theorem dX1_find_8 : decode cX1_find 8 = .ok (.iload_n 2, 1) := dk_28 (dk_at dksX1_find_0 8 rfl rfl)
theorem dX1_find_9 : decode cX1_find 9 = .ok (.invokestatic 210, 3) := dk_184 0 210 (dk_at dksX1_find_0 9 rfl rfl)
theorem dX1_find_12 : decode cX1_find 12 = .ok (.ifCond .ne 5, 3) := dk_154 0 5 (dk_at dksX1_find_0 12 rfl rfl)
theorem dX1_find_15 : decode cX1_find 15 = .ok (.iconst (-1), 1) := dk_2 (dk_at dksX1_find_0 15 rfl rfl)
theorem dX1_find_16 : decode cX1_find 16 = .ok (.ireturn, 1) := dk_172 (dk_at dksX1_find_0 16 rfl rfl)
theorem dX1_find_17 : decode cX1_find 17 = .ok (.aload_n 0, 1) := dk_42 (dk_at dksX1_find_0 17 rfl rfl)
theorem dX1_find_18 : decode cX1_find 18 = .ok (.getfield 56, 3) := dk_180 0 56 (dk_at dksX1_find_0 18 rfl rfl)
theorem dX1_find_21 : decode cX1_find 21 = .ok (.iload_n 1, 1) := dk_27 (dk_at dksX1_find_0 21 rfl rfl)
theorem dX1_find_22 : decode cX1_find 22 = .ok (.baload, 1) := dk_51 (dk_at dksX1_find_0 22 rfl rfl)
theorem dX1_find_23 : decode cX1_find 23 = .ok (.ifCond .ne 6, 3) := dk_154 0 6 (dk_at dksX1_find_1 0 rfl rfl)
theorem dX1_find_26 : decode cX1_find 26 = .ok (.bipush (-4), 2) := dk_16 252 (dk_at dksX1_find_1 3 rfl rfl)
theorem dX1_find_28 : decode cX1_find 28 = .ok (.ireturn, 1) := dk_172 (dk_at dksX1_find_1 5 rfl rfl)
theorem dX1_find_29 : decode cX1_find 29 = .ok (.aload_n 0, 1) := dk_42 (dk_at dksX1_find_1 6 rfl rfl)
theorem dX1_find_30 : decode cX1_find 30 = .ok (.getfield 226, 3) := dk_180 0 226 (dk_at dksX1_find_1 7 rfl rfl)
theorem dX1_find_33 : decode cX1_find 33 = .ok (.bipush 60, 2) := dk_16 60 (dk_at dksX1_find_1 10 rfl rfl)
theorem dX1_find_35 : decode cX1_find 35 = .ok (.if_icmp .ne 6, 3) := dk_160 0 6 (dk_at dksX1_find_1 12 rfl rfl)
theorem dX1_find_38 : decode cX1_find 38 = .ok (.bipush (-2), 2) := dk_16 254 (dk_at dksX1_find_1 15 rfl rfl)
theorem dX1_find_40 : decode cX1_find 40 = .ok (.ireturn, 1) := dk_172 (dk_at dksX1_find_1 17 rfl rfl)
theorem dX1_find_41 : decode cX1_find 41 = .ok (.aload_n 0, 1) := dk_42 (dk_at dksX1_find_1 18 rfl rfl)
theorem dX1_find_42 : decode cX1_find 42 = .ok (.getfield 56, 3) := dk_180 0 56 (dk_at dksX1_find_1 19 rfl rfl)
theorem dX1_find_45 : decode cX1_find 45 = .ok (.iload_n 1, 1) := dk_27 (dk_at dksX1_find_1 22 rfl rfl)
theorem dX1_find_46 : decode cX1_find 46 = .ok (.iconst 0, 1) := dk_3 (dk_at dksX1_find_1 23 rfl rfl)
theorem dX1_find_47 : decode cX1_find 47 = .ok (.bastore, 1) := dk_84 (dk_at dksX1_find_2 0 rfl rfl)
theorem dX1_find_48 : decode cX1_find 48 = .ok (.aload_n 0, 1) := dk_42 (dk_at dksX1_find_2 1 rfl rfl)
theorem dX1_find_49 : decode cX1_find 49 = .ok (.getfield 50, 3) := dk_180 0 50 (dk_at dksX1_find_2 2 rfl rfl)
theorem dX1_find_52 : decode cX1_find 52 = .ok (.iload_n 1, 1) := dk_27 (dk_at dksX1_find_2 5 rfl rfl)
theorem dX1_find_53 : decode cX1_find 53 = .ok (.iload_n 2, 1) := dk_28 (dk_at dksX1_find_2 6 rfl rfl)
theorem dX1_find_54 : decode cX1_find 54 = .ok (.iastore, 1) := dk_79 (dk_at dksX1_find_2 7 rfl rfl)
theorem dX1_find_55 : decode cX1_find 55 = .ok (.aload_n 0, 1) := dk_42 (dk_at dksX1_find_2 8 rfl rfl)
theorem dX1_find_56 : decode cX1_find 56 = .ok (.iload_n 1, 1) := dk_27 (dk_at dksX1_find_2 9 rfl rfl)
theorem dX1_find_57 : decode cX1_find 57 = .ok (.iconst 0, 1) := dk_3 (dk_at dksX1_find_2 10 rfl rfl)
theorem dX1_find_58 : decode cX1_find 58 = .ok (.iload_n 2, 1) := dk_28 (dk_at dksX1_find_2 11 rfl rfl)
theorem dX1_find_59 : decode cX1_find 59 = .ok (.iload_n 2, 1) := dk_28 (dk_at dksX1_find_2 12 rfl rfl)
theorem dX1_find_60 : decode cX1_find 60 = .ok (.invokevirtual 236, 3) := dk_182 0 236 (dk_at dksX1_find_2 13 rfl rfl)
theorem dX1_find_63 : decode cX1_find 63 = .ok (.iconst 1, 1) := dk_4 (dk_at dksX1_find_2 16 rfl rfl)
theorem dX1_find_64 : decode cX1_find 64 = .ok (.ireturn, 1) := dk_172 (dk_at dksX1_find_2 17 rfl rfl)
abbrev cX1_seal : ByteArray := prog_8_method_47_code
def yX1_seal : MethodName := ⟨RX1, "seal", "(II)I"⟩
def dkwX1_seal_3 : List UInt8 := [159, 0, 7, 4, 167, 0, 4, 3, 84, 42, 27, 28, 16, 247, 16, 247, 182, 0, 236, 4, 172]
abbrev dktX1_seal_3 : List UInt8 := dkwX1_seal_3 ++ []
def dkwX1_seal_2 : List UInt8 := [16, 252, 172, 42, 180, 0, 226, 16, 60, 160, 0, 6, 16, 254, 172, 42, 180, 0, 75, 27, 28, 8]
abbrev dktX1_seal_2 : List UInt8 := dkwX1_seal_2 ++ dktX1_seal_3
def dkwX1_seal_1 : List UInt8 := [51, 154, 0, 22, 42, 180, 0, 75, 27, 51, 28, 6, 160, 0, 7, 4, 167, 0, 4, 3, 160, 0, 6]
abbrev dktX1_seal_1 : List UInt8 := dkwX1_seal_1 ++ dktX1_seal_2
def dkwX1_seal_0 : List UInt8 := [42, 27, 182, 0, 240, 153, 0, 12, 28, 6, 8, 184, 0, 185, 154, 0, 5, 2, 172, 42, 180, 0, 56, 27]
abbrev dktX1_seal_0 : List UInt8 := dkwX1_seal_0 ++ dktX1_seal_1
theorem dksX1_seal_0 : cX1_seal.data.toList.drop 0 = dktX1_seal_0 := by decide +kernel
theorem dksX1_seal_1 : cX1_seal.data.toList.drop 24 = dktX1_seal_1 := dk_seg dksX1_seal_0 24 rfl rfl
theorem dksX1_seal_2 : cX1_seal.data.toList.drop 47 = dktX1_seal_2 := dk_seg dksX1_seal_1 23 rfl rfl
theorem dksX1_seal_3 : cX1_seal.data.toList.drop 69 = dktX1_seal_3 := dk_seg dksX1_seal_2 22 rfl rfl
theorem dX1_seal_0 : decode cX1_seal 0 = .ok (.aload_n 0, 1) := dk_42 (dk_at dksX1_seal_0 0 rfl rfl)
theorem dX1_seal_1 : decode cX1_seal 1 = .ok (.iload_n 1, 1) := dk_27 (dk_at dksX1_seal_0 1 rfl rfl)
theorem dX1_seal_2 : decode cX1_seal 2 = .ok (.invokevirtual 240, 3) := dk_182 0 240 (dk_at dksX1_seal_0 2 rfl rfl)
theorem dX1_seal_5 : decode cX1_seal 5 = .ok (.ifCond .eq 12, 3) := dk_153 0 12 (dk_at dksX1_seal_0 5 rfl rfl)
theorem dX1_seal_8 : decode cX1_seal 8 = .ok (.iload_n 2, 1) := dk_28 (dk_at dksX1_seal_0 8 rfl rfl)
theorem dX1_seal_9 : decode cX1_seal 9 = .ok (.iconst 3, 1) := dk_6 (dk_at dksX1_seal_0 9 rfl rfl)
theorem dX1_seal_10 : decode cX1_seal 10 = .ok (.iconst 5, 1) := dk_8 (dk_at dksX1_seal_0 10 rfl rfl)
theorem dX1_seal_11 : decode cX1_seal 11 = .ok (.invokestatic 185, 3) := dk_184 0 185 (dk_at dksX1_seal_0 11 rfl rfl)
theorem dX1_seal_14 : decode cX1_seal 14 = .ok (.ifCond .ne 5, 3) := dk_154 0 5 (dk_at dksX1_seal_0 14 rfl rfl)
theorem dX1_seal_17 : decode cX1_seal 17 = .ok (.iconst (-1), 1) := dk_2 (dk_at dksX1_seal_0 17 rfl rfl)
theorem dX1_seal_18 : decode cX1_seal 18 = .ok (.ireturn, 1) := dk_172 (dk_at dksX1_seal_0 18 rfl rfl)
theorem dX1_seal_19 : decode cX1_seal 19 = .ok (.aload_n 0, 1) := dk_42 (dk_at dksX1_seal_0 19 rfl rfl)
theorem dX1_seal_20 : decode cX1_seal 20 = .ok (.getfield 56, 3) := dk_180 0 56 (dk_at dksX1_seal_0 20 rfl rfl)
theorem dX1_seal_23 : decode cX1_seal 23 = .ok (.iload_n 1, 1) := dk_27 (dk_at dksX1_seal_0 23 rfl rfl)
theorem dX1_seal_24 : decode cX1_seal 24 = .ok (.baload, 1) := dk_51 (dk_at dksX1_seal_1 0 rfl rfl)
theorem dX1_seal_25 : decode cX1_seal 25 = .ok (.ifCond .ne 22, 3) := dk_154 0 22 (dk_at dksX1_seal_1 1 rfl rfl)
theorem dX1_seal_28 : decode cX1_seal 28 = .ok (.aload_n 0, 1) := dk_42 (dk_at dksX1_seal_1 4 rfl rfl)
theorem dX1_seal_29 : decode cX1_seal 29 = .ok (.getfield 75, 3) := dk_180 0 75 (dk_at dksX1_seal_1 5 rfl rfl)
theorem dX1_seal_32 : decode cX1_seal 32 = .ok (.iload_n 1, 1) := dk_27 (dk_at dksX1_seal_1 8 rfl rfl)
theorem dX1_seal_33 : decode cX1_seal 33 = .ok (.baload, 1) := dk_51 (dk_at dksX1_seal_1 9 rfl rfl)
theorem dX1_seal_34 : decode cX1_seal 34 = .ok (.iload_n 2, 1) := dk_28 (dk_at dksX1_seal_1 10 rfl rfl)
theorem dX1_seal_35 : decode cX1_seal 35 = .ok (.iconst 3, 1) := dk_6 (dk_at dksX1_seal_1 11 rfl rfl)
theorem dX1_seal_36 : decode cX1_seal 36 = .ok (.if_icmp .ne 7, 3) := dk_160 0 7 (dk_at dksX1_seal_1 12 rfl rfl)
theorem dX1_seal_39 : decode cX1_seal 39 = .ok (.iconst 1, 1) := dk_4 (dk_at dksX1_seal_1 15 rfl rfl)
theorem dX1_seal_40 : decode cX1_seal 40 = .ok (.goto 4, 3) := dk_167 0 4 (dk_at dksX1_seal_1 16 rfl rfl)
theorem dX1_seal_43 : decode cX1_seal 43 = .ok (.iconst 0, 1) := dk_3 (dk_at dksX1_seal_1 19 rfl rfl)
theorem dX1_seal_44 : decode cX1_seal 44 = .ok (.if_icmp .ne 6, 3) := dk_160 0 6 (dk_at dksX1_seal_1 20 rfl rfl)
theorem dX1_seal_47 : decode cX1_seal 47 = .ok (.bipush (-4), 2) := dk_16 252 (dk_at dksX1_seal_2 0 rfl rfl)
theorem dX1_seal_49 : decode cX1_seal 49 = .ok (.ireturn, 1) := dk_172 (dk_at dksX1_seal_2 2 rfl rfl)
theorem dX1_seal_50 : decode cX1_seal 50 = .ok (.aload_n 0, 1) := dk_42 (dk_at dksX1_seal_2 3 rfl rfl)
theorem dX1_seal_51 : decode cX1_seal 51 = .ok (.getfield 226, 3) := dk_180 0 226 (dk_at dksX1_seal_2 4 rfl rfl)
theorem dX1_seal_54 : decode cX1_seal 54 = .ok (.bipush 60, 2) := dk_16 60 (dk_at dksX1_seal_2 7 rfl rfl)
theorem dX1_seal_56 : decode cX1_seal 56 = .ok (.if_icmp .ne 6, 3) := dk_160 0 6 (dk_at dksX1_seal_2 9 rfl rfl)
theorem dX1_seal_59 : decode cX1_seal 59 = .ok (.bipush (-2), 2) := dk_16 254 (dk_at dksX1_seal_2 12 rfl rfl)
theorem dX1_seal_61 : decode cX1_seal 61 = .ok (.ireturn, 1) := dk_172 (dk_at dksX1_seal_2 14 rfl rfl)
theorem dX1_seal_62 : decode cX1_seal 62 = .ok (.aload_n 0, 1) := dk_42 (dk_at dksX1_seal_2 15 rfl rfl)
theorem dX1_seal_63 : decode cX1_seal 63 = .ok (.getfield 75, 3) := dk_180 0 75 (dk_at dksX1_seal_2 16 rfl rfl)
theorem dX1_seal_66 : decode cX1_seal 66 = .ok (.iload_n 1, 1) := dk_27 (dk_at dksX1_seal_2 19 rfl rfl)
theorem dX1_seal_67 : decode cX1_seal 67 = .ok (.iload_n 2, 1) := dk_28 (dk_at dksX1_seal_2 20 rfl rfl)
theorem dX1_seal_68 : decode cX1_seal 68 = .ok (.iconst 5, 1) := dk_8 (dk_at dksX1_seal_2 21 rfl rfl)
theorem dX1_seal_69 : decode cX1_seal 69 = .ok (.if_icmp .eq 7, 3) := dk_159 0 7 (dk_at dksX1_seal_3 0 rfl rfl)
theorem dX1_seal_72 : decode cX1_seal 72 = .ok (.iconst 1, 1) := dk_4 (dk_at dksX1_seal_3 3 rfl rfl)
theorem dX1_seal_73 : decode cX1_seal 73 = .ok (.goto 4, 3) := dk_167 0 4 (dk_at dksX1_seal_3 4 rfl rfl)
theorem dX1_seal_76 : decode cX1_seal 76 = .ok (.iconst 0, 1) := dk_3 (dk_at dksX1_seal_3 7 rfl rfl)
theorem dX1_seal_77 : decode cX1_seal 77 = .ok (.bastore, 1) := dk_84 (dk_at dksX1_seal_3 8 rfl rfl)
theorem dX1_seal_78 : decode cX1_seal 78 = .ok (.aload_n 0, 1) := dk_42 (dk_at dksX1_seal_3 9 rfl rfl)
theorem dX1_seal_79 : decode cX1_seal 79 = .ok (.iload_n 1, 1) := dk_27 (dk_at dksX1_seal_3 10 rfl rfl)
theorem dX1_seal_80 : decode cX1_seal 80 = .ok (.iload_n 2, 1) := dk_28 (dk_at dksX1_seal_3 11 rfl rfl)
theorem dX1_seal_81 : decode cX1_seal 81 = .ok (.bipush (-9), 2) := dk_16 247 (dk_at dksX1_seal_3 12 rfl rfl)
theorem dX1_seal_83 : decode cX1_seal 83 = .ok (.bipush (-9), 2) := dk_16 247 (dk_at dksX1_seal_3 14 rfl rfl)
theorem dX1_seal_85 : decode cX1_seal 85 = .ok (.invokevirtual 236, 3) := dk_182 0 236 (dk_at dksX1_seal_3 16 rfl rfl)
theorem dX1_seal_88 : decode cX1_seal 88 = .ok (.iconst 1, 1) := dk_4 (dk_at dksX1_seal_3 19 rfl rfl)
theorem dX1_seal_89 : decode cX1_seal 89 = .ok (.ireturn, 1) := dk_172 (dk_at dksX1_seal_3 20 rfl rfl)
abbrev cX1_book : ByteArray := prog_8_method_48_code
def yX1_book : MethodName := ⟨RX1, "book", "(III)I"⟩
def dkwX1_book_4 : List UInt8 := [160, 0, 13, 42, 180, 0, 105, 21, 4, 46, 167, 0, 10, 42, 180, 0, 108, 21, 4, 46, 172]
abbrev dktX1_book_4 : List UInt8 := dkwX1_book_4 ++ []
def dkwX1_book_3 : List UInt8 := [156, 0, 8, 16, 247, 167, 0, 39, 29, 154, 0, 13, 42, 180, 0, 102, 21, 4, 46, 167, 0, 25, 29, 4]
abbrev dktX1_book_3 : List UInt8 := dkwX1_book_3 ++ dktX1_book_4
def dkwX1_book_2 : List UInt8 := [155, 0, 20, 42, 27, 21, 4, 4, 96, 182, 0, 255, 54, 4, 132, 5, 1, 167, 255, 231, 21, 4]
abbrev dktX1_book_2 : List UInt8 := dkwX1_book_2 ++ dktX1_book_3
def dkwX1_book_1 : List UInt8 := [16, 247, 167, 0, 9, 42, 27, 3, 182, 0, 255, 54, 4, 3, 54, 5, 21, 5, 28, 162, 0, 25, 21, 4]
abbrev dktX1_book_1 : List UInt8 := dkwX1_book_1 ++ dktX1_book_2
def dkwX1_book_0 : List UInt8 := [42, 27, 182, 0, 240, 153, 0, 12, 29, 3, 5, 184, 0, 185, 154, 0, 5, 2, 172, 28, 156, 0, 8]
abbrev dktX1_book_0 : List UInt8 := dkwX1_book_0 ++ dktX1_book_1
theorem dksX1_book_0 : cX1_book.data.toList.drop 0 = dktX1_book_0 := by decide +kernel
theorem dksX1_book_1 : cX1_book.data.toList.drop 23 = dktX1_book_1 := dk_seg dksX1_book_0 23 rfl rfl
theorem dksX1_book_2 : cX1_book.data.toList.drop 47 = dktX1_book_2 := dk_seg dksX1_book_1 24 rfl rfl
theorem dksX1_book_3 : cX1_book.data.toList.drop 69 = dktX1_book_3 := dk_seg dksX1_book_2 22 rfl rfl
theorem dksX1_book_4 : cX1_book.data.toList.drop 93 = dktX1_book_4 := dk_seg dksX1_book_3 24 rfl rfl
theorem dX1_book_0 : decode cX1_book 0 = .ok (.aload_n 0, 1) := dk_42 (dk_at dksX1_book_0 0 rfl rfl)
theorem dX1_book_1 : decode cX1_book 1 = .ok (.iload_n 1, 1) := dk_27 (dk_at dksX1_book_0 1 rfl rfl)
theorem dX1_book_2 : decode cX1_book 2 = .ok (.invokevirtual 240, 3) := dk_182 0 240 (dk_at dksX1_book_0 2 rfl rfl)
theorem dX1_book_5 : decode cX1_book 5 = .ok (.ifCond .eq 12, 3) := dk_153 0 12 (dk_at dksX1_book_0 5 rfl rfl)
theorem dX1_book_8 : decode cX1_book 8 = .ok (.iload_n 3, 1) := dk_29 (dk_at dksX1_book_0 8 rfl rfl)
theorem dX1_book_9 : decode cX1_book 9 = .ok (.iconst 0, 1) := dk_3 (dk_at dksX1_book_0 9 rfl rfl)
theorem dX1_book_10 : decode cX1_book 10 = .ok (.iconst 2, 1) := dk_5 (dk_at dksX1_book_0 10 rfl rfl)
theorem dX1_book_11 : decode cX1_book 11 = .ok (.invokestatic 185, 3) := dk_184 0 185 (dk_at dksX1_book_0 11 rfl rfl)
theorem dX1_book_14 : decode cX1_book 14 = .ok (.ifCond .ne 5, 3) := dk_154 0 5 (dk_at dksX1_book_0 14 rfl rfl)
theorem dX1_book_17 : decode cX1_book 17 = .ok (.iconst (-1), 1) := dk_2 (dk_at dksX1_book_0 17 rfl rfl)
theorem dX1_book_18 : decode cX1_book 18 = .ok (.ireturn, 1) := dk_172 (dk_at dksX1_book_0 18 rfl rfl)
theorem dX1_book_19 : decode cX1_book 19 = .ok (.iload_n 2, 1) := dk_28 (dk_at dksX1_book_0 19 rfl rfl)
theorem dX1_book_20 : decode cX1_book 20 = .ok (.ifCond .ge 8, 3) := dk_156 0 8 (dk_at dksX1_book_0 20 rfl rfl)
theorem dX1_book_23 : decode cX1_book 23 = .ok (.bipush (-9), 2) := dk_16 247 (dk_at dksX1_book_1 0 rfl rfl)
theorem dX1_book_25 : decode cX1_book 25 = .ok (.goto 9, 3) := dk_167 0 9 (dk_at dksX1_book_1 2 rfl rfl)
theorem dX1_book_28 : decode cX1_book 28 = .ok (.aload_n 0, 1) := dk_42 (dk_at dksX1_book_1 5 rfl rfl)
theorem dX1_book_29 : decode cX1_book 29 = .ok (.iload_n 1, 1) := dk_27 (dk_at dksX1_book_1 6 rfl rfl)
theorem dX1_book_30 : decode cX1_book 30 = .ok (.iconst 0, 1) := dk_3 (dk_at dksX1_book_1 7 rfl rfl)
theorem dX1_book_31 : decode cX1_book 31 = .ok (.invokevirtual 255, 3) := dk_182 0 255 (dk_at dksX1_book_1 8 rfl rfl)
theorem dX1_book_34 : decode cX1_book 34 = .ok (.istore 4, 2) := dk_54 4 (dk_at dksX1_book_1 11 rfl rfl)
theorem dX1_book_36 : decode cX1_book 36 = .ok (.iconst 0, 1) := dk_3 (dk_at dksX1_book_1 13 rfl rfl)
theorem dX1_book_37 : decode cX1_book 37 = .ok (.istore 5, 2) := dk_54 5 (dk_at dksX1_book_1 14 rfl rfl)
theorem dX1_book_39 : decode cX1_book 39 = .ok (.iload 5, 2) := dk_21 5 (dk_at dksX1_book_1 16 rfl rfl)
theorem dX1_book_41 : decode cX1_book 41 = .ok (.iload_n 2, 1) := dk_28 (dk_at dksX1_book_1 18 rfl rfl)
theorem dX1_book_42 : decode cX1_book 42 = .ok (.if_icmp .ge 25, 3) := dk_162 0 25 (dk_at dksX1_book_1 19 rfl rfl)
theorem dX1_book_45 : decode cX1_book 45 = .ok (.iload 4, 2) := dk_21 4 (dk_at dksX1_book_1 22 rfl rfl)
theorem dX1_book_47 : decode cX1_book 47 = .ok (.ifCond .lt 20, 3) := dk_155 0 20 (dk_at dksX1_book_2 0 rfl rfl)
theorem dX1_book_50 : decode cX1_book 50 = .ok (.aload_n 0, 1) := dk_42 (dk_at dksX1_book_2 3 rfl rfl)
theorem dX1_book_51 : decode cX1_book 51 = .ok (.iload_n 1, 1) := dk_27 (dk_at dksX1_book_2 4 rfl rfl)
theorem dX1_book_52 : decode cX1_book 52 = .ok (.iload 4, 2) := dk_21 4 (dk_at dksX1_book_2 5 rfl rfl)
theorem dX1_book_54 : decode cX1_book 54 = .ok (.iconst 1, 1) := dk_4 (dk_at dksX1_book_2 7 rfl rfl)
theorem dX1_book_55 : decode cX1_book 55 = .ok (.iadd, 1) := dk_96 (dk_at dksX1_book_2 8 rfl rfl)
theorem dX1_book_56 : decode cX1_book 56 = .ok (.invokevirtual 255, 3) := dk_182 0 255 (dk_at dksX1_book_2 9 rfl rfl)
theorem dX1_book_59 : decode cX1_book 59 = .ok (.istore 4, 2) := dk_54 4 (dk_at dksX1_book_2 12 rfl rfl)
theorem dX1_book_61 : decode cX1_book 61 = .ok (.iinc 5 1, 3) := dk_132 5 1 (dk_at dksX1_book_2 14 rfl rfl)
theorem dX1_book_64 : decode cX1_book 64 = .ok (.goto (-25), 3) := dk_167 255 231 (dk_at dksX1_book_2 17 rfl rfl)
theorem dX1_book_67 : decode cX1_book 67 = .ok (.iload 4, 2) := dk_21 4 (dk_at dksX1_book_2 20 rfl rfl)
theorem dX1_book_69 : decode cX1_book 69 = .ok (.ifCond .ge 8, 3) := dk_156 0 8 (dk_at dksX1_book_3 0 rfl rfl)
theorem dX1_book_72 : decode cX1_book 72 = .ok (.bipush (-9), 2) := dk_16 247 (dk_at dksX1_book_3 3 rfl rfl)
theorem dX1_book_74 : decode cX1_book 74 = .ok (.goto 39, 3) := dk_167 0 39 (dk_at dksX1_book_3 5 rfl rfl)
theorem dX1_book_77 : decode cX1_book 77 = .ok (.iload_n 3, 1) := dk_29 (dk_at dksX1_book_3 8 rfl rfl)
theorem dX1_book_78 : decode cX1_book 78 = .ok (.ifCond .ne 13, 3) := dk_154 0 13 (dk_at dksX1_book_3 9 rfl rfl)
theorem dX1_book_81 : decode cX1_book 81 = .ok (.aload_n 0, 1) := dk_42 (dk_at dksX1_book_3 12 rfl rfl)
theorem dX1_book_82 : decode cX1_book 82 = .ok (.getfield 102, 3) := dk_180 0 102 (dk_at dksX1_book_3 13 rfl rfl)
theorem dX1_book_85 : decode cX1_book 85 = .ok (.iload 4, 2) := dk_21 4 (dk_at dksX1_book_3 16 rfl rfl)
theorem dX1_book_87 : decode cX1_book 87 = .ok (.iaload, 1) := dk_46 (dk_at dksX1_book_3 18 rfl rfl)
theorem dX1_book_88 : decode cX1_book 88 = .ok (.goto 25, 3) := dk_167 0 25 (dk_at dksX1_book_3 19 rfl rfl)
theorem dX1_book_91 : decode cX1_book 91 = .ok (.iload_n 3, 1) := dk_29 (dk_at dksX1_book_3 22 rfl rfl)
theorem dX1_book_92 : decode cX1_book 92 = .ok (.iconst 1, 1) := dk_4 (dk_at dksX1_book_3 23 rfl rfl)
theorem dX1_book_93 : decode cX1_book 93 = .ok (.if_icmp .ne 13, 3) := dk_160 0 13 (dk_at dksX1_book_4 0 rfl rfl)
theorem dX1_book_96 : decode cX1_book 96 = .ok (.aload_n 0, 1) := dk_42 (dk_at dksX1_book_4 3 rfl rfl)
theorem dX1_book_97 : decode cX1_book 97 = .ok (.getfield 105, 3) := dk_180 0 105 (dk_at dksX1_book_4 4 rfl rfl)
theorem dX1_book_100 : decode cX1_book 100 = .ok (.iload 4, 2) := dk_21 4 (dk_at dksX1_book_4 7 rfl rfl)
theorem dX1_book_102 : decode cX1_book 102 = .ok (.iaload, 1) := dk_46 (dk_at dksX1_book_4 9 rfl rfl)
theorem dX1_book_103 : decode cX1_book 103 = .ok (.goto 10, 3) := dk_167 0 10 (dk_at dksX1_book_4 10 rfl rfl)
theorem dX1_book_106 : decode cX1_book 106 = .ok (.aload_n 0, 1) := dk_42 (dk_at dksX1_book_4 13 rfl rfl)
theorem dX1_book_107 : decode cX1_book 107 = .ok (.getfield 108, 3) := dk_180 0 108 (dk_at dksX1_book_4 14 rfl rfl)
theorem dX1_book_110 : decode cX1_book 110 = .ok (.iload 4, 2) := dk_21 4 (dk_at dksX1_book_4 17 rfl rfl)
theorem dX1_book_112 : decode cX1_book 112 = .ok (.iaload, 1) := dk_46 (dk_at dksX1_book_4 19 rfl rfl)
theorem dX1_book_113 : decode cX1_book 113 = .ok (.ireturn, 1) := dk_172 (dk_at dksX1_book_4 20 rfl rfl)
abbrev cX1_where : ByteArray := prog_8_method_49_code
def yX1_where : MethodName := ⟨RX1, "where", "(II)I"⟩
def dkwX1_where_5 : List UInt8 := [132, 4, 1, 167, 255, 164, 29, 172]
abbrev dktX1_where_5 : List UInt8 := dkwX1_where_5 ++ []
def dkwX1_where_4 : List UInt8 := [21, 4, 46, 4, 160, 0, 16, 16, 10, 42, 180, 0, 108, 21, 4, 46, 96, 167, 0, 5, 16, 20, 62]
abbrev dktX1_where_4 : List UInt8 := dkwX1_where_4 ++ dktX1_where_5
def dkwX1_where_3 : List UInt8 := [180, 0, 102, 21, 4, 46, 154, 0, 13, 42, 180, 0, 108, 21, 4, 46, 167, 0, 29, 42, 180, 0, 102]
abbrev dktX1_where_3 : List UInt8 := dkwX1_where_3 ++ dktX1_where_4
def dkwX1_where_2 : List UInt8 := [42, 180, 0, 105, 21, 4, 46, 28, 163, 0, 61, 42, 180, 0, 102, 21, 4, 46, 6, 162, 0, 50, 42]
abbrev dktX1_where_2 : List UInt8 := dkwX1_where_2 ++ dktX1_where_3
def dkwX1_where_1 : List UInt8 := [62, 3, 54, 4, 21, 4, 42, 180, 0, 226, 162, 0, 89, 42, 180, 0, 99, 21, 4, 46, 27, 160, 0, 72]
abbrev dktX1_where_1 : List UInt8 := dkwX1_where_1 ++ dktX1_where_2
def dkwX1_where_0 : List UInt8 := [42, 27, 182, 0, 240, 153, 0, 15, 28, 3, 42, 180, 0, 207, 184, 0, 185, 154, 0, 5, 2, 172, 16, 247]
abbrev dktX1_where_0 : List UInt8 := dkwX1_where_0 ++ dktX1_where_1
theorem dksX1_where_0 : cX1_where.data.toList.drop 0 = dktX1_where_0 := by decide +kernel
theorem dksX1_where_1 : cX1_where.data.toList.drop 24 = dktX1_where_1 := dk_seg dksX1_where_0 24 rfl rfl
theorem dksX1_where_2 : cX1_where.data.toList.drop 48 = dktX1_where_2 := dk_seg dksX1_where_1 24 rfl rfl
theorem dksX1_where_3 : cX1_where.data.toList.drop 71 = dktX1_where_3 := dk_seg dksX1_where_2 23 rfl rfl
theorem dksX1_where_4 : cX1_where.data.toList.drop 94 = dktX1_where_4 := dk_seg dksX1_where_3 23 rfl rfl
theorem dksX1_where_5 : cX1_where.data.toList.drop 117 = dktX1_where_5 := dk_seg dksX1_where_4 23 rfl rfl
theorem dX1_where_0 : decode cX1_where 0 = .ok (.aload_n 0, 1) := dk_42 (dk_at dksX1_where_0 0 rfl rfl)
theorem dX1_where_1 : decode cX1_where 1 = .ok (.iload_n 1, 1) := dk_27 (dk_at dksX1_where_0 1 rfl rfl)
theorem dX1_where_2 : decode cX1_where 2 = .ok (.invokevirtual 240, 3) := dk_182 0 240 (dk_at dksX1_where_0 2 rfl rfl)
theorem dX1_where_5 : decode cX1_where 5 = .ok (.ifCond .eq 15, 3) := dk_153 0 15 (dk_at dksX1_where_0 5 rfl rfl)
theorem dX1_where_8 : decode cX1_where 8 = .ok (.iload_n 2, 1) := dk_28 (dk_at dksX1_where_0 8 rfl rfl)
theorem dX1_where_9 : decode cX1_where 9 = .ok (.iconst 0, 1) := dk_3 (dk_at dksX1_where_0 9 rfl rfl)
theorem dX1_where_10 : decode cX1_where 10 = .ok (.aload_n 0, 1) := dk_42 (dk_at dksX1_where_0 10 rfl rfl)
theorem dX1_where_11 : decode cX1_where 11 = .ok (.getfield 207, 3) := dk_180 0 207 (dk_at dksX1_where_0 11 rfl rfl)
theorem dX1_where_14 : decode cX1_where 14 = .ok (.invokestatic 185, 3) := dk_184 0 185 (dk_at dksX1_where_0 14 rfl rfl)
theorem dX1_where_17 : decode cX1_where 17 = .ok (.ifCond .ne 5, 3) := dk_154 0 5 (dk_at dksX1_where_0 17 rfl rfl)
theorem dX1_where_20 : decode cX1_where 20 = .ok (.iconst (-1), 1) := dk_2 (dk_at dksX1_where_0 20 rfl rfl)
theorem dX1_where_21 : decode cX1_where 21 = .ok (.ireturn, 1) := dk_172 (dk_at dksX1_where_0 21 rfl rfl)
theorem dX1_where_22 : decode cX1_where 22 = .ok (.bipush (-9), 2) := dk_16 247 (dk_at dksX1_where_0 22 rfl rfl)
theorem dX1_where_24 : decode cX1_where 24 = .ok (.istore_n 3, 1) := dk_62 (dk_at dksX1_where_1 0 rfl rfl)
theorem dX1_where_25 : decode cX1_where 25 = .ok (.iconst 0, 1) := dk_3 (dk_at dksX1_where_1 1 rfl rfl)
theorem dX1_where_26 : decode cX1_where 26 = .ok (.istore 4, 2) := dk_54 4 (dk_at dksX1_where_1 2 rfl rfl)
theorem dX1_where_28 : decode cX1_where 28 = .ok (.iload 4, 2) := dk_21 4 (dk_at dksX1_where_1 4 rfl rfl)
theorem dX1_where_30 : decode cX1_where 30 = .ok (.aload_n 0, 1) := dk_42 (dk_at dksX1_where_1 6 rfl rfl)
theorem dX1_where_31 : decode cX1_where 31 = .ok (.getfield 226, 3) := dk_180 0 226 (dk_at dksX1_where_1 7 rfl rfl)
theorem dX1_where_34 : decode cX1_where 34 = .ok (.if_icmp .ge 89, 3) := dk_162 0 89 (dk_at dksX1_where_1 10 rfl rfl)
theorem dX1_where_37 : decode cX1_where 37 = .ok (.aload_n 0, 1) := dk_42 (dk_at dksX1_where_1 13 rfl rfl)
theorem dX1_where_38 : decode cX1_where 38 = .ok (.getfield 99, 3) := dk_180 0 99 (dk_at dksX1_where_1 14 rfl rfl)
theorem dX1_where_41 : decode cX1_where 41 = .ok (.iload 4, 2) := dk_21 4 (dk_at dksX1_where_1 17 rfl rfl)
theorem dX1_where_43 : decode cX1_where 43 = .ok (.iaload, 1) := dk_46 (dk_at dksX1_where_1 19 rfl rfl)
theorem dX1_where_44 : decode cX1_where 44 = .ok (.iload_n 1, 1) := dk_27 (dk_at dksX1_where_1 20 rfl rfl)
theorem dX1_where_45 : decode cX1_where 45 = .ok (.if_icmp .ne 72, 3) := dk_160 0 72 (dk_at dksX1_where_1 21 rfl rfl)
theorem dX1_where_48 : decode cX1_where 48 = .ok (.aload_n 0, 1) := dk_42 (dk_at dksX1_where_2 0 rfl rfl)
theorem dX1_where_49 : decode cX1_where 49 = .ok (.getfield 105, 3) := dk_180 0 105 (dk_at dksX1_where_2 1 rfl rfl)
theorem dX1_where_52 : decode cX1_where 52 = .ok (.iload 4, 2) := dk_21 4 (dk_at dksX1_where_2 4 rfl rfl)
theorem dX1_where_54 : decode cX1_where 54 = .ok (.iaload, 1) := dk_46 (dk_at dksX1_where_2 6 rfl rfl)
theorem dX1_where_55 : decode cX1_where 55 = .ok (.iload_n 2, 1) := dk_28 (dk_at dksX1_where_2 7 rfl rfl)
theorem dX1_where_56 : decode cX1_where 56 = .ok (.if_icmp .gt 61, 3) := dk_163 0 61 (dk_at dksX1_where_2 8 rfl rfl)
theorem dX1_where_59 : decode cX1_where 59 = .ok (.aload_n 0, 1) := dk_42 (dk_at dksX1_where_2 11 rfl rfl)
theorem dX1_where_60 : decode cX1_where 60 = .ok (.getfield 102, 3) := dk_180 0 102 (dk_at dksX1_where_2 12 rfl rfl)
theorem dX1_where_63 : decode cX1_where 63 = .ok (.iload 4, 2) := dk_21 4 (dk_at dksX1_where_2 15 rfl rfl)
theorem dX1_where_65 : decode cX1_where 65 = .ok (.iaload, 1) := dk_46 (dk_at dksX1_where_2 17 rfl rfl)
theorem dX1_where_66 : decode cX1_where 66 = .ok (.iconst 3, 1) := dk_6 (dk_at dksX1_where_2 18 rfl rfl)
theorem dX1_where_67 : decode cX1_where 67 = .ok (.if_icmp .ge 50, 3) := dk_162 0 50 (dk_at dksX1_where_2 19 rfl rfl)
theorem dX1_where_70 : decode cX1_where 70 = .ok (.aload_n 0, 1) := dk_42 (dk_at dksX1_where_2 22 rfl rfl)
theorem dX1_where_71 : decode cX1_where 71 = .ok (.getfield 102, 3) := dk_180 0 102 (dk_at dksX1_where_3 0 rfl rfl)
theorem dX1_where_74 : decode cX1_where 74 = .ok (.iload 4, 2) := dk_21 4 (dk_at dksX1_where_3 3 rfl rfl)
theorem dX1_where_76 : decode cX1_where 76 = .ok (.iaload, 1) := dk_46 (dk_at dksX1_where_3 5 rfl rfl)
theorem dX1_where_77 : decode cX1_where 77 = .ok (.ifCond .ne 13, 3) := dk_154 0 13 (dk_at dksX1_where_3 6 rfl rfl)
theorem dX1_where_80 : decode cX1_where 80 = .ok (.aload_n 0, 1) := dk_42 (dk_at dksX1_where_3 9 rfl rfl)
theorem dX1_where_81 : decode cX1_where 81 = .ok (.getfield 108, 3) := dk_180 0 108 (dk_at dksX1_where_3 10 rfl rfl)
theorem dX1_where_84 : decode cX1_where 84 = .ok (.iload 4, 2) := dk_21 4 (dk_at dksX1_where_3 13 rfl rfl)
theorem dX1_where_86 : decode cX1_where 86 = .ok (.iaload, 1) := dk_46 (dk_at dksX1_where_3 15 rfl rfl)
theorem dX1_where_87 : decode cX1_where 87 = .ok (.goto 29, 3) := dk_167 0 29 (dk_at dksX1_where_3 16 rfl rfl)
theorem dX1_where_90 : decode cX1_where 90 = .ok (.aload_n 0, 1) := dk_42 (dk_at dksX1_where_3 19 rfl rfl)
theorem dX1_where_91 : decode cX1_where 91 = .ok (.getfield 102, 3) := dk_180 0 102 (dk_at dksX1_where_3 20 rfl rfl)
theorem dX1_where_94 : decode cX1_where 94 = .ok (.iload 4, 2) := dk_21 4 (dk_at dksX1_where_4 0 rfl rfl)
theorem dX1_where_96 : decode cX1_where 96 = .ok (.iaload, 1) := dk_46 (dk_at dksX1_where_4 2 rfl rfl)
theorem dX1_where_97 : decode cX1_where 97 = .ok (.iconst 1, 1) := dk_4 (dk_at dksX1_where_4 3 rfl rfl)
theorem dX1_where_98 : decode cX1_where 98 = .ok (.if_icmp .ne 16, 3) := dk_160 0 16 (dk_at dksX1_where_4 4 rfl rfl)
theorem dX1_where_101 : decode cX1_where 101 = .ok (.bipush 10, 2) := dk_16 10 (dk_at dksX1_where_4 7 rfl rfl)
theorem dX1_where_103 : decode cX1_where 103 = .ok (.aload_n 0, 1) := dk_42 (dk_at dksX1_where_4 9 rfl rfl)
theorem dX1_where_104 : decode cX1_where 104 = .ok (.getfield 108, 3) := dk_180 0 108 (dk_at dksX1_where_4 10 rfl rfl)
theorem dX1_where_107 : decode cX1_where 107 = .ok (.iload 4, 2) := dk_21 4 (dk_at dksX1_where_4 13 rfl rfl)
theorem dX1_where_109 : decode cX1_where 109 = .ok (.iaload, 1) := dk_46 (dk_at dksX1_where_4 15 rfl rfl)
theorem dX1_where_110 : decode cX1_where 110 = .ok (.iadd, 1) := dk_96 (dk_at dksX1_where_4 16 rfl rfl)
theorem dX1_where_111 : decode cX1_where 111 = .ok (.goto 5, 3) := dk_167 0 5 (dk_at dksX1_where_4 17 rfl rfl)
theorem dX1_where_114 : decode cX1_where 114 = .ok (.bipush 20, 2) := dk_16 20 (dk_at dksX1_where_4 20 rfl rfl)
theorem dX1_where_116 : decode cX1_where 116 = .ok (.istore_n 3, 1) := dk_62 (dk_at dksX1_where_4 22 rfl rfl)
theorem dX1_where_117 : decode cX1_where 117 = .ok (.iinc 4 1, 3) := dk_132 4 1 (dk_at dksX1_where_5 0 rfl rfl)
theorem dX1_where_120 : decode cX1_where 120 = .ok (.goto (-92), 3) := dk_167 255 164 (dk_at dksX1_where_5 3 rfl rfl)
theorem dX1_where_123 : decode cX1_where 123 = .ok (.iload_n 3, 1) := dk_29 (dk_at dksX1_where_5 6 rfl rfl)
theorem dX1_where_124 : decode cX1_where 124 = .ok (.ireturn, 1) := dk_172 (dk_at dksX1_where_5 7 rfl rfl)
abbrev cX1_fault : ByteArray := prog_8_method_52_code
def yX1_fault : MethodName := ⟨RX1, "fault", "(I)I"⟩
def dkwX1_fault_0 : List UInt8 := [42, 27, 182, 0, 203, 61, 28, 156, 0, 7, 28, 167, 0, 8, 42, 27, 182, 1, 18, 172]
abbrev dktX1_fault_0 : List UInt8 := dkwX1_fault_0 ++ []
theorem dksX1_fault_0 : cX1_fault.data.toList.drop 0 = dktX1_fault_0 := by decide +kernel
theorem dX1_fault_0 : decode cX1_fault 0 = .ok (.aload_n 0, 1) := dk_42 (dk_at dksX1_fault_0 0 rfl rfl)
theorem dX1_fault_1 : decode cX1_fault 1 = .ok (.iload_n 1, 1) := dk_27 (dk_at dksX1_fault_0 1 rfl rfl)
theorem dX1_fault_2 : decode cX1_fault 2 = .ok (.invokevirtual 203, 3) := dk_182 0 203 (dk_at dksX1_fault_0 2 rfl rfl)
theorem dX1_fault_5 : decode cX1_fault 5 = .ok (.istore_n 2, 1) := dk_61 (dk_at dksX1_fault_0 5 rfl rfl)
theorem dX1_fault_6 : decode cX1_fault 6 = .ok (.iload_n 2, 1) := dk_28 (dk_at dksX1_fault_0 6 rfl rfl)
theorem dX1_fault_7 : decode cX1_fault 7 = .ok (.ifCond .ge 7, 3) := dk_156 0 7 (dk_at dksX1_fault_0 7 rfl rfl)
theorem dX1_fault_10 : decode cX1_fault 10 = .ok (.iload_n 2, 1) := dk_28 (dk_at dksX1_fault_0 10 rfl rfl)
theorem dX1_fault_11 : decode cX1_fault 11 = .ok (.goto 8, 3) := dk_167 0 8 (dk_at dksX1_fault_0 11 rfl rfl)
theorem dX1_fault_14 : decode cX1_fault 14 = .ok (.aload_n 0, 1) := dk_42 (dk_at dksX1_fault_0 14 rfl rfl)
theorem dX1_fault_15 : decode cX1_fault 15 = .ok (.iload_n 1, 1) := dk_27 (dk_at dksX1_fault_0 15 rfl rfl)
theorem dX1_fault_16 : decode cX1_fault 16 = .ok (.invokevirtual 274, 3) := dk_182 1 18 (dk_at dksX1_fault_0 16 rfl rfl)
theorem dX1_fault_19 : decode cX1_fault 19 = .ok (.ireturn, 1) := dk_172 (dk_at dksX1_fault_0 19 rfl rfl)
abbrev cX1_reads : ByteArray := prog_8_method_51_code
def yX1_reads : MethodName := ⟨RX1, "reads", "(I)I"⟩
def dkwX1_reads_11 : List UInt8 := [21, 7, 154, 0, 6, 21, 4, 172, 42, 180, 0, 123, 21, 6, 21, 8, 79, 167, 255, 20, 16, 247, 172]
abbrev dktX1_reads_11 : List UInt8 := dkwX1_reads_11 ++ []
def dkwX1_reads_10 : List UInt8 := [180, 0, 29, 28, 21, 4, 96, 46, 96, 16, 48, 100, 54, 8, 132, 7, 1, 132, 4, 1, 167, 255, 203]
abbrev dktX1_reads_10 : List UInt8 := dkwX1_reads_10 ++ dktX1_reads_11
def dkwX1_reads_9 : List UInt8 := [162, 0, 47, 42, 180, 0, 29, 28, 21, 4, 96, 46, 184, 1, 15, 153, 0, 32, 16, 10, 21, 8, 104, 42]
abbrev dktX1_reads_9 : List UInt8 := dkwX1_reads_9 ++ dktX1_reads_10
def dkwX1_reads_8 : List UInt8 := [16, 48, 100, 96, 54, 6, 132, 4, 1, 3, 54, 7, 3, 54, 8, 21, 4, 29, 162, 0, 53, 21, 7, 7]
abbrev dktX1_reads_8 : List UInt8 := dkwX1_reads_8 ++ dktX1_reads_9
def dkwX1_reads_7 : List UInt8 := [16, 48, 16, 55, 184, 0, 185, 154, 0, 6, 21, 4, 172, 21, 6, 42, 180, 0, 29, 28, 21, 4, 96, 46]
abbrev dktX1_reads_7 : List UInt8 := dkwX1_reads_7 ++ dktX1_reads_8
def dkwX1_reads_6 : List UInt8 := [54, 6, 21, 6, 16, 16, 162, 0, 51, 21, 4, 29, 159, 0, 22, 42, 180, 0, 29, 28, 21, 4, 96, 46]
abbrev dktX1_reads_6 : List UInt8 := dkwX1_reads_6 ++ dktX1_reads_7
def dkwX1_reads_5 : List UInt8 := [16, 82, 160, 0, 8, 16, 17, 167, 0, 16, 21, 5, 16, 68, 160, 0, 8, 16, 8, 167, 0, 4, 3]
abbrev dktX1_reads_5 : List UInt8 := dkwX1_reads_5 ++ dktX1_reads_6
def dkwX1_reads_4 : List UInt8 := [16, 82, 159, 0, 8, 21, 4, 4, 100, 172, 21, 5, 16, 72, 160, 0, 8, 16, 16, 167, 0, 28, 21, 5]
abbrev dktX1_reads_4 : List UInt8 := dkwX1_reads_4 ++ dktX1_reads_5
def dkwX1_reads_3 : List UInt8 := [21, 5, 16, 70, 159, 0, 29, 21, 5, 16, 68, 159, 0, 22, 21, 5, 16, 72, 159, 0, 15, 21, 5]
abbrev dktX1_reads_3 : List UInt8 := dkwX1_reads_3 ++ dktX1_reads_4
def dkwX1_reads_2 : List UInt8 := [180, 0, 29, 28, 21, 4, 96, 46, 54, 5, 132, 4, 1, 21, 5, 16, 32, 160, 0, 6, 167, 255, 229]
abbrev dktX1_reads_2 : List UInt8 := dkwX1_reads_2 ++ dktX1_reads_3
def dkwX1_reads_1 : List UInt8 := [180, 0, 123, 21, 4, 16, 247, 79, 132, 4, 1, 167, 255, 237, 3, 54, 4, 21, 4, 29, 162, 0, 236, 42]
abbrev dktX1_reads_1 : List UInt8 := dkwX1_reads_1 ++ dktX1_reads_2
def dkwX1_reads_0 : List UInt8 := [16, 40, 27, 104, 61, 42, 180, 0, 26, 27, 46, 62, 3, 54, 4, 21, 4, 16, 18, 162, 0, 18, 42]
abbrev dktX1_reads_0 : List UInt8 := dkwX1_reads_0 ++ dktX1_reads_1
theorem dksX1_reads_0 : cX1_reads.data.toList.drop 0 = dktX1_reads_0 := by decide +kernel
theorem dksX1_reads_1 : cX1_reads.data.toList.drop 23 = dktX1_reads_1 := dk_seg dksX1_reads_0 23 rfl rfl
theorem dksX1_reads_2 : cX1_reads.data.toList.drop 47 = dktX1_reads_2 := dk_seg dksX1_reads_1 24 rfl rfl
theorem dksX1_reads_3 : cX1_reads.data.toList.drop 70 = dktX1_reads_3 := dk_seg dksX1_reads_2 23 rfl rfl
theorem dksX1_reads_4 : cX1_reads.data.toList.drop 93 = dktX1_reads_4 := dk_seg dksX1_reads_3 23 rfl rfl
theorem dksX1_reads_5 : cX1_reads.data.toList.drop 117 = dktX1_reads_5 := dk_seg dksX1_reads_4 24 rfl rfl
theorem dksX1_reads_6 : cX1_reads.data.toList.drop 140 = dktX1_reads_6 := dk_seg dksX1_reads_5 23 rfl rfl
theorem dksX1_reads_7 : cX1_reads.data.toList.drop 164 = dktX1_reads_7 := dk_seg dksX1_reads_6 24 rfl rfl
theorem dksX1_reads_8 : cX1_reads.data.toList.drop 188 = dktX1_reads_8 := dk_seg dksX1_reads_7 24 rfl rfl
theorem dksX1_reads_9 : cX1_reads.data.toList.drop 212 = dktX1_reads_9 := dk_seg dksX1_reads_8 24 rfl rfl
theorem dksX1_reads_10 : cX1_reads.data.toList.drop 236 = dktX1_reads_10 := dk_seg dksX1_reads_9 24 rfl rfl
theorem dksX1_reads_11 : cX1_reads.data.toList.drop 259 = dktX1_reads_11 := dk_seg dksX1_reads_10 23 rfl rfl
theorem dX1_reads_0 : decode cX1_reads 0 = .ok (.bipush 40, 2) := dk_16 40 (dk_at dksX1_reads_0 0 rfl rfl)
theorem dX1_reads_2 : decode cX1_reads 2 = .ok (.iload_n 1, 1) := dk_27 (dk_at dksX1_reads_0 2 rfl rfl)
theorem dX1_reads_3 : decode cX1_reads 3 = .ok (.imul, 1) := dk_104 (dk_at dksX1_reads_0 3 rfl rfl)
theorem dX1_reads_4 : decode cX1_reads 4 = .ok (.istore_n 2, 1) := dk_61 (dk_at dksX1_reads_0 4 rfl rfl)
theorem dX1_reads_5 : decode cX1_reads 5 = .ok (.aload_n 0, 1) := dk_42 (dk_at dksX1_reads_0 5 rfl rfl)
theorem dX1_reads_6 : decode cX1_reads 6 = .ok (.getfield 26, 3) := dk_180 0 26 (dk_at dksX1_reads_0 6 rfl rfl)
theorem dX1_reads_9 : decode cX1_reads 9 = .ok (.iload_n 1, 1) := dk_27 (dk_at dksX1_reads_0 9 rfl rfl)
theorem dX1_reads_10 : decode cX1_reads 10 = .ok (.iaload, 1) := dk_46 (dk_at dksX1_reads_0 10 rfl rfl)
theorem dX1_reads_11 : decode cX1_reads 11 = .ok (.istore_n 3, 1) := dk_62 (dk_at dksX1_reads_0 11 rfl rfl)
theorem dX1_reads_12 : decode cX1_reads 12 = .ok (.iconst 0, 1) := dk_3 (dk_at dksX1_reads_0 12 rfl rfl)
theorem dX1_reads_13 : decode cX1_reads 13 = .ok (.istore 4, 2) := dk_54 4 (dk_at dksX1_reads_0 13 rfl rfl)
theorem dX1_reads_15 : decode cX1_reads 15 = .ok (.iload 4, 2) := dk_21 4 (dk_at dksX1_reads_0 15 rfl rfl)
theorem dX1_reads_17 : decode cX1_reads 17 = .ok (.bipush 18, 2) := dk_16 18 (dk_at dksX1_reads_0 17 rfl rfl)
theorem dX1_reads_19 : decode cX1_reads 19 = .ok (.if_icmp .ge 18, 3) := dk_162 0 18 (dk_at dksX1_reads_0 19 rfl rfl)
theorem dX1_reads_22 : decode cX1_reads 22 = .ok (.aload_n 0, 1) := dk_42 (dk_at dksX1_reads_0 22 rfl rfl)
theorem dX1_reads_23 : decode cX1_reads 23 = .ok (.getfield 123, 3) := dk_180 0 123 (dk_at dksX1_reads_1 0 rfl rfl)
theorem dX1_reads_26 : decode cX1_reads 26 = .ok (.iload 4, 2) := dk_21 4 (dk_at dksX1_reads_1 3 rfl rfl)
theorem dX1_reads_28 : decode cX1_reads 28 = .ok (.bipush (-9), 2) := dk_16 247 (dk_at dksX1_reads_1 5 rfl rfl)
theorem dX1_reads_30 : decode cX1_reads 30 = .ok (.iastore, 1) := dk_79 (dk_at dksX1_reads_1 7 rfl rfl)
theorem dX1_reads_31 : decode cX1_reads 31 = .ok (.iinc 4 1, 3) := dk_132 4 1 (dk_at dksX1_reads_1 8 rfl rfl)
theorem dX1_reads_34 : decode cX1_reads 34 = .ok (.goto (-19), 3) := dk_167 255 237 (dk_at dksX1_reads_1 11 rfl rfl)
theorem dX1_reads_37 : decode cX1_reads 37 = .ok (.iconst 0, 1) := dk_3 (dk_at dksX1_reads_1 14 rfl rfl)
theorem dX1_reads_38 : decode cX1_reads 38 = .ok (.istore 4, 2) := dk_54 4 (dk_at dksX1_reads_1 15 rfl rfl)
theorem dX1_reads_40 : decode cX1_reads 40 = .ok (.iload 4, 2) := dk_21 4 (dk_at dksX1_reads_1 17 rfl rfl)
theorem dX1_reads_42 : decode cX1_reads 42 = .ok (.iload_n 3, 1) := dk_29 (dk_at dksX1_reads_1 19 rfl rfl)
theorem dX1_reads_43 : decode cX1_reads 43 = .ok (.if_icmp .ge 236, 3) := dk_162 0 236 (dk_at dksX1_reads_1 20 rfl rfl)
theorem dX1_reads_46 : decode cX1_reads 46 = .ok (.aload_n 0, 1) := dk_42 (dk_at dksX1_reads_1 23 rfl rfl)
theorem dX1_reads_47 : decode cX1_reads 47 = .ok (.getfield 29, 3) := dk_180 0 29 (dk_at dksX1_reads_2 0 rfl rfl)
theorem dX1_reads_50 : decode cX1_reads 50 = .ok (.iload_n 2, 1) := dk_28 (dk_at dksX1_reads_2 3 rfl rfl)
theorem dX1_reads_51 : decode cX1_reads 51 = .ok (.iload 4, 2) := dk_21 4 (dk_at dksX1_reads_2 4 rfl rfl)
theorem dX1_reads_53 : decode cX1_reads 53 = .ok (.iadd, 1) := dk_96 (dk_at dksX1_reads_2 6 rfl rfl)
theorem dX1_reads_54 : decode cX1_reads 54 = .ok (.iaload, 1) := dk_46 (dk_at dksX1_reads_2 7 rfl rfl)
theorem dX1_reads_55 : decode cX1_reads 55 = .ok (.istore 5, 2) := dk_54 5 (dk_at dksX1_reads_2 8 rfl rfl)
theorem dX1_reads_57 : decode cX1_reads 57 = .ok (.iinc 4 1, 3) := dk_132 4 1 (dk_at dksX1_reads_2 10 rfl rfl)
theorem dX1_reads_60 : decode cX1_reads 60 = .ok (.iload 5, 2) := dk_21 5 (dk_at dksX1_reads_2 13 rfl rfl)
theorem dX1_reads_62 : decode cX1_reads 62 = .ok (.bipush 32, 2) := dk_16 32 (dk_at dksX1_reads_2 15 rfl rfl)
theorem dX1_reads_64 : decode cX1_reads 64 = .ok (.if_icmp .ne 6, 3) := dk_160 0 6 (dk_at dksX1_reads_2 17 rfl rfl)
theorem dX1_reads_67 : decode cX1_reads 67 = .ok (.goto (-27), 3) := dk_167 255 229 (dk_at dksX1_reads_2 20 rfl rfl)
theorem dX1_reads_70 : decode cX1_reads 70 = .ok (.iload 5, 2) := dk_21 5 (dk_at dksX1_reads_3 0 rfl rfl)
theorem dX1_reads_72 : decode cX1_reads 72 = .ok (.bipush 70, 2) := dk_16 70 (dk_at dksX1_reads_3 2 rfl rfl)
theorem dX1_reads_74 : decode cX1_reads 74 = .ok (.if_icmp .eq 29, 3) := dk_159 0 29 (dk_at dksX1_reads_3 4 rfl rfl)
theorem dX1_reads_77 : decode cX1_reads 77 = .ok (.iload 5, 2) := dk_21 5 (dk_at dksX1_reads_3 7 rfl rfl)
theorem dX1_reads_79 : decode cX1_reads 79 = .ok (.bipush 68, 2) := dk_16 68 (dk_at dksX1_reads_3 9 rfl rfl)
theorem dX1_reads_81 : decode cX1_reads 81 = .ok (.if_icmp .eq 22, 3) := dk_159 0 22 (dk_at dksX1_reads_3 11 rfl rfl)
theorem dX1_reads_84 : decode cX1_reads 84 = .ok (.iload 5, 2) := dk_21 5 (dk_at dksX1_reads_3 14 rfl rfl)
theorem dX1_reads_86 : decode cX1_reads 86 = .ok (.bipush 72, 2) := dk_16 72 (dk_at dksX1_reads_3 16 rfl rfl)
theorem dX1_reads_88 : decode cX1_reads 88 = .ok (.if_icmp .eq 15, 3) := dk_159 0 15 (dk_at dksX1_reads_3 18 rfl rfl)
theorem dX1_reads_91 : decode cX1_reads 91 = .ok (.iload 5, 2) := dk_21 5 (dk_at dksX1_reads_3 21 rfl rfl)
theorem dX1_reads_93 : decode cX1_reads 93 = .ok (.bipush 82, 2) := dk_16 82 (dk_at dksX1_reads_4 0 rfl rfl)
theorem dX1_reads_95 : decode cX1_reads 95 = .ok (.if_icmp .eq 8, 3) := dk_159 0 8 (dk_at dksX1_reads_4 2 rfl rfl)
theorem dX1_reads_98 : decode cX1_reads 98 = .ok (.iload 4, 2) := dk_21 4 (dk_at dksX1_reads_4 5 rfl rfl)
theorem dX1_reads_100 : decode cX1_reads 100 = .ok (.iconst 1, 1) := dk_4 (dk_at dksX1_reads_4 7 rfl rfl)
theorem dX1_reads_101 : decode cX1_reads 101 = .ok (.isub, 1) := dk_100 (dk_at dksX1_reads_4 8 rfl rfl)
theorem dX1_reads_102 : decode cX1_reads 102 = .ok (.ireturn, 1) := dk_172 (dk_at dksX1_reads_4 9 rfl rfl)
theorem dX1_reads_103 : decode cX1_reads 103 = .ok (.iload 5, 2) := dk_21 5 (dk_at dksX1_reads_4 10 rfl rfl)
theorem dX1_reads_105 : decode cX1_reads 105 = .ok (.bipush 72, 2) := dk_16 72 (dk_at dksX1_reads_4 12 rfl rfl)
theorem dX1_reads_107 : decode cX1_reads 107 = .ok (.if_icmp .ne 8, 3) := dk_160 0 8 (dk_at dksX1_reads_4 14 rfl rfl)
theorem dX1_reads_110 : decode cX1_reads 110 = .ok (.bipush 16, 2) := dk_16 16 (dk_at dksX1_reads_4 17 rfl rfl)
theorem dX1_reads_112 : decode cX1_reads 112 = .ok (.goto 28, 3) := dk_167 0 28 (dk_at dksX1_reads_4 19 rfl rfl)
theorem dX1_reads_115 : decode cX1_reads 115 = .ok (.iload 5, 2) := dk_21 5 (dk_at dksX1_reads_4 22 rfl rfl)
theorem dX1_reads_117 : decode cX1_reads 117 = .ok (.bipush 82, 2) := dk_16 82 (dk_at dksX1_reads_5 0 rfl rfl)
theorem dX1_reads_119 : decode cX1_reads 119 = .ok (.if_icmp .ne 8, 3) := dk_160 0 8 (dk_at dksX1_reads_5 2 rfl rfl)
theorem dX1_reads_122 : decode cX1_reads 122 = .ok (.bipush 17, 2) := dk_16 17 (dk_at dksX1_reads_5 5 rfl rfl)
theorem dX1_reads_124 : decode cX1_reads 124 = .ok (.goto 16, 3) := dk_167 0 16 (dk_at dksX1_reads_5 7 rfl rfl)
theorem dX1_reads_127 : decode cX1_reads 127 = .ok (.iload 5, 2) := dk_21 5 (dk_at dksX1_reads_5 10 rfl rfl)
theorem dX1_reads_129 : decode cX1_reads 129 = .ok (.bipush 68, 2) := dk_16 68 (dk_at dksX1_reads_5 12 rfl rfl)
theorem dX1_reads_131 : decode cX1_reads 131 = .ok (.if_icmp .ne 8, 3) := dk_160 0 8 (dk_at dksX1_reads_5 14 rfl rfl)
theorem dX1_reads_134 : decode cX1_reads 134 = .ok (.bipush 8, 2) := dk_16 8 (dk_at dksX1_reads_5 17 rfl rfl)
theorem dX1_reads_136 : decode cX1_reads 136 = .ok (.goto 4, 3) := dk_167 0 4 (dk_at dksX1_reads_5 19 rfl rfl)
theorem dX1_reads_139 : decode cX1_reads 139 = .ok (.iconst 0, 1) := dk_3 (dk_at dksX1_reads_5 22 rfl rfl)
theorem dX1_reads_140 : decode cX1_reads 140 = .ok (.istore 6, 2) := dk_54 6 (dk_at dksX1_reads_6 0 rfl rfl)
theorem dX1_reads_142 : decode cX1_reads 142 = .ok (.iload 6, 2) := dk_21 6 (dk_at dksX1_reads_6 2 rfl rfl)
theorem dX1_reads_144 : decode cX1_reads 144 = .ok (.bipush 16, 2) := dk_16 16 (dk_at dksX1_reads_6 4 rfl rfl)
theorem dX1_reads_146 : decode cX1_reads 146 = .ok (.if_icmp .ge 51, 3) := dk_162 0 51 (dk_at dksX1_reads_6 6 rfl rfl)
theorem dX1_reads_149 : decode cX1_reads 149 = .ok (.iload 4, 2) := dk_21 4 (dk_at dksX1_reads_6 9 rfl rfl)
theorem dX1_reads_151 : decode cX1_reads 151 = .ok (.iload_n 3, 1) := dk_29 (dk_at dksX1_reads_6 11 rfl rfl)
theorem dX1_reads_152 : decode cX1_reads 152 = .ok (.if_icmp .eq 22, 3) := dk_159 0 22 (dk_at dksX1_reads_6 12 rfl rfl)
theorem dX1_reads_155 : decode cX1_reads 155 = .ok (.aload_n 0, 1) := dk_42 (dk_at dksX1_reads_6 15 rfl rfl)
theorem dX1_reads_156 : decode cX1_reads 156 = .ok (.getfield 29, 3) := dk_180 0 29 (dk_at dksX1_reads_6 16 rfl rfl)
theorem dX1_reads_159 : decode cX1_reads 159 = .ok (.iload_n 2, 1) := dk_28 (dk_at dksX1_reads_6 19 rfl rfl)
theorem dX1_reads_160 : decode cX1_reads 160 = .ok (.iload 4, 2) := dk_21 4 (dk_at dksX1_reads_6 20 rfl rfl)
theorem dX1_reads_162 : decode cX1_reads 162 = .ok (.iadd, 1) := dk_96 (dk_at dksX1_reads_6 22 rfl rfl)
theorem dX1_reads_163 : decode cX1_reads 163 = .ok (.iaload, 1) := dk_46 (dk_at dksX1_reads_6 23 rfl rfl)
theorem dX1_reads_164 : decode cX1_reads 164 = .ok (.bipush 48, 2) := dk_16 48 (dk_at dksX1_reads_7 0 rfl rfl)
theorem dX1_reads_166 : decode cX1_reads 166 = .ok (.bipush 55, 2) := dk_16 55 (dk_at dksX1_reads_7 2 rfl rfl)
theorem dX1_reads_168 : decode cX1_reads 168 = .ok (.invokestatic 185, 3) := dk_184 0 185 (dk_at dksX1_reads_7 4 rfl rfl)
theorem dX1_reads_171 : decode cX1_reads 171 = .ok (.ifCond .ne 6, 3) := dk_154 0 6 (dk_at dksX1_reads_7 7 rfl rfl)
theorem dX1_reads_174 : decode cX1_reads 174 = .ok (.iload 4, 2) := dk_21 4 (dk_at dksX1_reads_7 10 rfl rfl)
theorem dX1_reads_176 : decode cX1_reads 176 = .ok (.ireturn, 1) := dk_172 (dk_at dksX1_reads_7 12 rfl rfl)
theorem dX1_reads_177 : decode cX1_reads 177 = .ok (.iload 6, 2) := dk_21 6 (dk_at dksX1_reads_7 13 rfl rfl)
theorem dX1_reads_179 : decode cX1_reads 179 = .ok (.aload_n 0, 1) := dk_42 (dk_at dksX1_reads_7 15 rfl rfl)
theorem dX1_reads_180 : decode cX1_reads 180 = .ok (.getfield 29, 3) := dk_180 0 29 (dk_at dksX1_reads_7 16 rfl rfl)
theorem dX1_reads_183 : decode cX1_reads 183 = .ok (.iload_n 2, 1) := dk_28 (dk_at dksX1_reads_7 19 rfl rfl)
theorem dX1_reads_184 : decode cX1_reads 184 = .ok (.iload 4, 2) := dk_21 4 (dk_at dksX1_reads_7 20 rfl rfl)
theorem dX1_reads_186 : decode cX1_reads 186 = .ok (.iadd, 1) := dk_96 (dk_at dksX1_reads_7 22 rfl rfl)
theorem dX1_reads_187 : decode cX1_reads 187 = .ok (.iaload, 1) := dk_46 (dk_at dksX1_reads_7 23 rfl rfl)
theorem dX1_reads_188 : decode cX1_reads 188 = .ok (.bipush 48, 2) := dk_16 48 (dk_at dksX1_reads_8 0 rfl rfl)
theorem dX1_reads_190 : decode cX1_reads 190 = .ok (.isub, 1) := dk_100 (dk_at dksX1_reads_8 2 rfl rfl)
theorem dX1_reads_191 : decode cX1_reads 191 = .ok (.iadd, 1) := dk_96 (dk_at dksX1_reads_8 3 rfl rfl)
theorem dX1_reads_192 : decode cX1_reads 192 = .ok (.istore 6, 2) := dk_54 6 (dk_at dksX1_reads_8 4 rfl rfl)
theorem dX1_reads_194 : decode cX1_reads 194 = .ok (.iinc 4 1, 3) := dk_132 4 1 (dk_at dksX1_reads_8 6 rfl rfl)
theorem dX1_reads_197 : decode cX1_reads 197 = .ok (.iconst 0, 1) := dk_3 (dk_at dksX1_reads_8 9 rfl rfl)
theorem dX1_reads_198 : decode cX1_reads 198 = .ok (.istore 7, 2) := dk_54 7 (dk_at dksX1_reads_8 10 rfl rfl)
theorem dX1_reads_200 : decode cX1_reads 200 = .ok (.iconst 0, 1) := dk_3 (dk_at dksX1_reads_8 12 rfl rfl)
theorem dX1_reads_201 : decode cX1_reads 201 = .ok (.istore 8, 2) := dk_54 8 (dk_at dksX1_reads_8 13 rfl rfl)
theorem dX1_reads_203 : decode cX1_reads 203 = .ok (.iload 4, 2) := dk_21 4 (dk_at dksX1_reads_8 15 rfl rfl)
theorem dX1_reads_205 : decode cX1_reads 205 = .ok (.iload_n 3, 1) := dk_29 (dk_at dksX1_reads_8 17 rfl rfl)
theorem dX1_reads_206 : decode cX1_reads 206 = .ok (.if_icmp .ge 53, 3) := dk_162 0 53 (dk_at dksX1_reads_8 18 rfl rfl)
theorem dX1_reads_209 : decode cX1_reads 209 = .ok (.iload 7, 2) := dk_21 7 (dk_at dksX1_reads_8 21 rfl rfl)
theorem dX1_reads_211 : decode cX1_reads 211 = .ok (.iconst 4, 1) := dk_7 (dk_at dksX1_reads_8 23 rfl rfl)
theorem dX1_reads_212 : decode cX1_reads 212 = .ok (.if_icmp .ge 47, 3) := dk_162 0 47 (dk_at dksX1_reads_9 0 rfl rfl)
theorem dX1_reads_215 : decode cX1_reads 215 = .ok (.aload_n 0, 1) := dk_42 (dk_at dksX1_reads_9 3 rfl rfl)
theorem dX1_reads_216 : decode cX1_reads 216 = .ok (.getfield 29, 3) := dk_180 0 29 (dk_at dksX1_reads_9 4 rfl rfl)
theorem dX1_reads_219 : decode cX1_reads 219 = .ok (.iload_n 2, 1) := dk_28 (dk_at dksX1_reads_9 7 rfl rfl)
theorem dX1_reads_220 : decode cX1_reads 220 = .ok (.iload 4, 2) := dk_21 4 (dk_at dksX1_reads_9 8 rfl rfl)
theorem dX1_reads_222 : decode cX1_reads 222 = .ok (.iadd, 1) := dk_96 (dk_at dksX1_reads_9 10 rfl rfl)
theorem dX1_reads_223 : decode cX1_reads 223 = .ok (.iaload, 1) := dk_46 (dk_at dksX1_reads_9 11 rfl rfl)
theorem dX1_reads_224 : decode cX1_reads 224 = .ok (.invokestatic 271, 3) := dk_184 1 15 (dk_at dksX1_reads_9 12 rfl rfl)
theorem dX1_reads_227 : decode cX1_reads 227 = .ok (.ifCond .eq 32, 3) := dk_153 0 32 (dk_at dksX1_reads_9 15 rfl rfl)
theorem dX1_reads_230 : decode cX1_reads 230 = .ok (.bipush 10, 2) := dk_16 10 (dk_at dksX1_reads_9 18 rfl rfl)
theorem dX1_reads_232 : decode cX1_reads 232 = .ok (.iload 8, 2) := dk_21 8 (dk_at dksX1_reads_9 20 rfl rfl)
theorem dX1_reads_234 : decode cX1_reads 234 = .ok (.imul, 1) := dk_104 (dk_at dksX1_reads_9 22 rfl rfl)
theorem dX1_reads_235 : decode cX1_reads 235 = .ok (.aload_n 0, 1) := dk_42 (dk_at dksX1_reads_9 23 rfl rfl)
theorem dX1_reads_236 : decode cX1_reads 236 = .ok (.getfield 29, 3) := dk_180 0 29 (dk_at dksX1_reads_10 0 rfl rfl)
theorem dX1_reads_239 : decode cX1_reads 239 = .ok (.iload_n 2, 1) := dk_28 (dk_at dksX1_reads_10 3 rfl rfl)
theorem dX1_reads_240 : decode cX1_reads 240 = .ok (.iload 4, 2) := dk_21 4 (dk_at dksX1_reads_10 4 rfl rfl)
theorem dX1_reads_242 : decode cX1_reads 242 = .ok (.iadd, 1) := dk_96 (dk_at dksX1_reads_10 6 rfl rfl)
theorem dX1_reads_243 : decode cX1_reads 243 = .ok (.iaload, 1) := dk_46 (dk_at dksX1_reads_10 7 rfl rfl)
theorem dX1_reads_244 : decode cX1_reads 244 = .ok (.iadd, 1) := dk_96 (dk_at dksX1_reads_10 8 rfl rfl)
theorem dX1_reads_245 : decode cX1_reads 245 = .ok (.bipush 48, 2) := dk_16 48 (dk_at dksX1_reads_10 9 rfl rfl)
theorem dX1_reads_247 : decode cX1_reads 247 = .ok (.isub, 1) := dk_100 (dk_at dksX1_reads_10 11 rfl rfl)
theorem dX1_reads_248 : decode cX1_reads 248 = .ok (.istore 8, 2) := dk_54 8 (dk_at dksX1_reads_10 12 rfl rfl)
theorem dX1_reads_250 : decode cX1_reads 250 = .ok (.iinc 7 1, 3) := dk_132 7 1 (dk_at dksX1_reads_10 14 rfl rfl)
theorem dX1_reads_253 : decode cX1_reads 253 = .ok (.iinc 4 1, 3) := dk_132 4 1 (dk_at dksX1_reads_10 17 rfl rfl)
theorem dX1_reads_256 : decode cX1_reads 256 = .ok (.goto (-53), 3) := dk_167 255 203 (dk_at dksX1_reads_10 20 rfl rfl)
theorem dX1_reads_259 : decode cX1_reads 259 = .ok (.iload 7, 2) := dk_21 7 (dk_at dksX1_reads_11 0 rfl rfl)
theorem dX1_reads_261 : decode cX1_reads 261 = .ok (.ifCond .ne 6, 3) := dk_154 0 6 (dk_at dksX1_reads_11 2 rfl rfl)
theorem dX1_reads_264 : decode cX1_reads 264 = .ok (.iload 4, 2) := dk_21 4 (dk_at dksX1_reads_11 5 rfl rfl)
theorem dX1_reads_266 : decode cX1_reads 266 = .ok (.ireturn, 1) := dk_172 (dk_at dksX1_reads_11 7 rfl rfl)
theorem dX1_reads_267 : decode cX1_reads 267 = .ok (.aload_n 0, 1) := dk_42 (dk_at dksX1_reads_11 8 rfl rfl)
theorem dX1_reads_268 : decode cX1_reads 268 = .ok (.getfield 123, 3) := dk_180 0 123 (dk_at dksX1_reads_11 9 rfl rfl)
theorem dX1_reads_271 : decode cX1_reads 271 = .ok (.iload 6, 2) := dk_21 6 (dk_at dksX1_reads_11 12 rfl rfl)
theorem dX1_reads_273 : decode cX1_reads 273 = .ok (.iload 8, 2) := dk_21 8 (dk_at dksX1_reads_11 14 rfl rfl)
theorem dX1_reads_275 : decode cX1_reads 275 = .ok (.iastore, 1) := dk_79 (dk_at dksX1_reads_11 16 rfl rfl)
theorem dX1_reads_276 : decode cX1_reads 276 = .ok (.goto (-236), 3) := dk_167 255 20 (dk_at dksX1_reads_11 17 rfl rfl)
theorem dX1_reads_279 : decode cX1_reads 279 = .ok (.bipush (-9), 2) := dk_16 247 (dk_at dksX1_reads_11 20 rfl rfl)
theorem dX1_reads_281 : decode cX1_reads 281 = .ok (.ireturn, 1) := dk_172 (dk_at dksX1_reads_11 22 rfl rfl)
abbrev cX1_isDigit : ByteArray := prog_8_method_50_code
def yX1_isDigit : MethodName := ⟨RX1, "isDigit", "(I)Z"⟩
def dkwX1_isDigit_0 : List UInt8 := [26, 16, 48, 16, 57, 184, 0, 185, 172]
abbrev dktX1_isDigit_0 : List UInt8 := dkwX1_isDigit_0 ++ []
theorem dksX1_isDigit_0 : cX1_isDigit.data.toList.drop 0 = dktX1_isDigit_0 := by decide +kernel
theorem dX1_isDigit_0 : decode cX1_isDigit 0 = .ok (.iload_n 0, 1) := dk_26 (dk_at dksX1_isDigit_0 0 rfl rfl)
theorem dX1_isDigit_1 : decode cX1_isDigit 1 = .ok (.bipush 48, 2) := dk_16 48 (dk_at dksX1_isDigit_0 1 rfl rfl)
theorem dX1_isDigit_3 : decode cX1_isDigit 3 = .ok (.bipush 57, 2) := dk_16 57 (dk_at dksX1_isDigit_0 3 rfl rfl)
theorem dX1_isDigit_5 : decode cX1_isDigit 5 = .ok (.invokestatic 185, 3) := dk_184 0 185 (dk_at dksX1_isDigit_0 5 rfl rfl)
theorem dX1_isDigit_8 : decode cX1_isDigit 8 = .ok (.ireturn, 1) := dk_172 (dk_at dksX1_isDigit_0 8 rfl rfl)
abbrev cX1_terms : ByteArray := prog_8_method_54_code
def yX1_terms : MethodName := ⟨RX1, "terms", "(II)I"⟩
def dkwX1_terms_5 : List UInt8 := [167, 255, 227, 42, 89, 180, 1, 24, 4, 96, 181, 1, 24, 42, 180, 1, 24, 4, 100, 172]
abbrev dktX1_terms_5 : List UInt8 := dkwX1_terms_5 ++ []
def dkwX1_terms_4 : List UInt8 := [180, 0, 120, 16, 18, 42, 180, 1, 24, 104, 29, 96, 42, 180, 0, 123, 29, 46, 79, 132, 3, 1]
abbrev dktX1_terms_4 : List UInt8 := dkwX1_terms_4 ++ dktX1_terms_5
def dkwX1_terms_3 : List UInt8 := [184, 0, 252, 79, 42, 180, 0, 117, 42, 180, 1, 24, 28, 79, 3, 62, 29, 16, 18, 162, 0, 29, 42]
abbrev dktX1_terms_3 : List UInt8 := dkwX1_terms_3 ++ dktX1_terms_4
def dkwX1_terms_2 : List UInt8 := [182, 1, 18, 16, 247, 159, 0, 6, 16, 252, 172, 42, 180, 0, 114, 42, 180, 1, 24, 42, 180, 0, 207]
abbrev dktX1_terms_2 : List UInt8 := dkwX1_terms_2 ++ dktX1_terms_3
def dkwX1_terms_1 : List UInt8 := [160, 0, 6, 16, 254, 172, 42, 180, 0, 26, 27, 46, 156, 0, 9, 42, 4, 182, 0, 193, 172, 42, 27]
abbrev dktX1_terms_1 : List UInt8 := dkwX1_terms_1 ++ dktX1_terms_2
def dkwX1_terms_0 : List UInt8 := [27, 184, 0, 200, 153, 0, 10, 28, 184, 1, 21, 154, 0, 5, 2, 172, 42, 180, 1, 24, 16, 20]
abbrev dktX1_terms_0 : List UInt8 := dkwX1_terms_0 ++ dktX1_terms_1
theorem dksX1_terms_0 : cX1_terms.data.toList.drop 0 = dktX1_terms_0 := by decide +kernel
theorem dksX1_terms_1 : cX1_terms.data.toList.drop 22 = dktX1_terms_1 := dk_seg dksX1_terms_0 22 rfl rfl
theorem dksX1_terms_2 : cX1_terms.data.toList.drop 45 = dktX1_terms_2 := dk_seg dksX1_terms_1 23 rfl rfl
theorem dksX1_terms_3 : cX1_terms.data.toList.drop 68 = dktX1_terms_3 := dk_seg dksX1_terms_2 23 rfl rfl
theorem dksX1_terms_4 : cX1_terms.data.toList.drop 91 = dktX1_terms_4 := dk_seg dksX1_terms_3 23 rfl rfl
theorem dksX1_terms_5 : cX1_terms.data.toList.drop 113 = dktX1_terms_5 := dk_seg dksX1_terms_4 22 rfl rfl
theorem dX1_terms_0 : decode cX1_terms 0 = .ok (.iload_n 1, 1) := dk_27 (dk_at dksX1_terms_0 0 rfl rfl)
theorem dX1_terms_1 : decode cX1_terms 1 = .ok (.invokestatic 200, 3) := dk_184 0 200 (dk_at dksX1_terms_0 1 rfl rfl)
theorem dX1_terms_4 : decode cX1_terms 4 = .ok (.ifCond .eq 10, 3) := dk_153 0 10 (dk_at dksX1_terms_0 4 rfl rfl)
theorem dX1_terms_7 : decode cX1_terms 7 = .ok (.iload_n 2, 1) := dk_28 (dk_at dksX1_terms_0 7 rfl rfl)
theorem dX1_terms_8 : decode cX1_terms 8 = .ok (.invokestatic 277, 3) := dk_184 1 21 (dk_at dksX1_terms_0 8 rfl rfl)
theorem dX1_terms_11 : decode cX1_terms 11 = .ok (.ifCond .ne 5, 3) := dk_154 0 5 (dk_at dksX1_terms_0 11 rfl rfl)
theorem dX1_terms_14 : decode cX1_terms 14 = .ok (.iconst (-1), 1) := dk_2 (dk_at dksX1_terms_0 14 rfl rfl)
theorem dX1_terms_15 : decode cX1_terms 15 = .ok (.ireturn, 1) := dk_172 (dk_at dksX1_terms_0 15 rfl rfl)
theorem dX1_terms_16 : decode cX1_terms 16 = .ok (.aload_n 0, 1) := dk_42 (dk_at dksX1_terms_0 16 rfl rfl)
theorem dX1_terms_17 : decode cX1_terms 17 = .ok (.getfield 280, 3) := dk_180 1 24 (dk_at dksX1_terms_0 17 rfl rfl)
theorem dX1_terms_20 : decode cX1_terms 20 = .ok (.bipush 20, 2) := dk_16 20 (dk_at dksX1_terms_0 20 rfl rfl)
theorem dX1_terms_22 : decode cX1_terms 22 = .ok (.if_icmp .ne 6, 3) := dk_160 0 6 (dk_at dksX1_terms_1 0 rfl rfl)
theorem dX1_terms_25 : decode cX1_terms 25 = .ok (.bipush (-2), 2) := dk_16 254 (dk_at dksX1_terms_1 3 rfl rfl)
theorem dX1_terms_27 : decode cX1_terms 27 = .ok (.ireturn, 1) := dk_172 (dk_at dksX1_terms_1 5 rfl rfl)
theorem dX1_terms_28 : decode cX1_terms 28 = .ok (.aload_n 0, 1) := dk_42 (dk_at dksX1_terms_1 6 rfl rfl)
theorem dX1_terms_29 : decode cX1_terms 29 = .ok (.getfield 26, 3) := dk_180 0 26 (dk_at dksX1_terms_1 7 rfl rfl)
theorem dX1_terms_32 : decode cX1_terms 32 = .ok (.iload_n 1, 1) := dk_27 (dk_at dksX1_terms_1 10 rfl rfl)
theorem dX1_terms_33 : decode cX1_terms 33 = .ok (.iaload, 1) := dk_46 (dk_at dksX1_terms_1 11 rfl rfl)
theorem dX1_terms_34 : decode cX1_terms 34 = .ok (.ifCond .ge 9, 3) := dk_156 0 9 (dk_at dksX1_terms_1 12 rfl rfl)
theorem dX1_terms_37 : decode cX1_terms 37 = .ok (.aload_n 0, 1) := dk_42 (dk_at dksX1_terms_1 15 rfl rfl)
theorem dX1_terms_38 : decode cX1_terms 38 = .ok (.iconst 1, 1) := dk_4 (dk_at dksX1_terms_1 16 rfl rfl)
theorem dX1_terms_39 : decode cX1_terms 39 = .ok (.invokevirtual 193, 3) := dk_182 0 193 (dk_at dksX1_terms_1 17 rfl rfl)
theorem dX1_terms_42 : decode cX1_terms 42 = .ok (.ireturn, 1) := dk_172 (dk_at dksX1_terms_1 20 rfl rfl)
theorem dX1_terms_43 : decode cX1_terms 43 = .ok (.aload_n 0, 1) := dk_42 (dk_at dksX1_terms_1 21 rfl rfl)
theorem dX1_terms_44 : decode cX1_terms 44 = .ok (.iload_n 1, 1) := dk_27 (dk_at dksX1_terms_1 22 rfl rfl)
theorem dX1_terms_45 : decode cX1_terms 45 = .ok (.invokevirtual 274, 3) := dk_182 1 18 (dk_at dksX1_terms_2 0 rfl rfl)
theorem dX1_terms_48 : decode cX1_terms 48 = .ok (.bipush (-9), 2) := dk_16 247 (dk_at dksX1_terms_2 3 rfl rfl)
theorem dX1_terms_50 : decode cX1_terms 50 = .ok (.if_icmp .eq 6, 3) := dk_159 0 6 (dk_at dksX1_terms_2 5 rfl rfl)
theorem dX1_terms_53 : decode cX1_terms 53 = .ok (.bipush (-4), 2) := dk_16 252 (dk_at dksX1_terms_2 8 rfl rfl)
theorem dX1_terms_55 : decode cX1_terms 55 = .ok (.ireturn, 1) := dk_172 (dk_at dksX1_terms_2 10 rfl rfl)
theorem dX1_terms_56 : decode cX1_terms 56 = .ok (.aload_n 0, 1) := dk_42 (dk_at dksX1_terms_2 11 rfl rfl)
theorem dX1_terms_57 : decode cX1_terms 57 = .ok (.getfield 114, 3) := dk_180 0 114 (dk_at dksX1_terms_2 12 rfl rfl)
theorem dX1_terms_60 : decode cX1_terms 60 = .ok (.aload_n 0, 1) := dk_42 (dk_at dksX1_terms_2 15 rfl rfl)
theorem dX1_terms_61 : decode cX1_terms 61 = .ok (.getfield 280, 3) := dk_180 1 24 (dk_at dksX1_terms_2 16 rfl rfl)
theorem dX1_terms_64 : decode cX1_terms 64 = .ok (.aload_n 0, 1) := dk_42 (dk_at dksX1_terms_2 19 rfl rfl)
theorem dX1_terms_65 : decode cX1_terms 65 = .ok (.getfield 207, 3) := dk_180 0 207 (dk_at dksX1_terms_2 20 rfl rfl)
theorem dX1_terms_68 : decode cX1_terms 68 = .ok (.invokestatic 252, 3) := dk_184 0 252 (dk_at dksX1_terms_3 0 rfl rfl)
theorem dX1_terms_71 : decode cX1_terms 71 = .ok (.iastore, 1) := dk_79 (dk_at dksX1_terms_3 3 rfl rfl)
theorem dX1_terms_72 : decode cX1_terms 72 = .ok (.aload_n 0, 1) := dk_42 (dk_at dksX1_terms_3 4 rfl rfl)
theorem dX1_terms_73 : decode cX1_terms 73 = .ok (.getfield 117, 3) := dk_180 0 117 (dk_at dksX1_terms_3 5 rfl rfl)
theorem dX1_terms_76 : decode cX1_terms 76 = .ok (.aload_n 0, 1) := dk_42 (dk_at dksX1_terms_3 8 rfl rfl)
theorem dX1_terms_77 : decode cX1_terms 77 = .ok (.getfield 280, 3) := dk_180 1 24 (dk_at dksX1_terms_3 9 rfl rfl)
theorem dX1_terms_80 : decode cX1_terms 80 = .ok (.iload_n 2, 1) := dk_28 (dk_at dksX1_terms_3 12 rfl rfl)
theorem dX1_terms_81 : decode cX1_terms 81 = .ok (.iastore, 1) := dk_79 (dk_at dksX1_terms_3 13 rfl rfl)
theorem dX1_terms_82 : decode cX1_terms 82 = .ok (.iconst 0, 1) := dk_3 (dk_at dksX1_terms_3 14 rfl rfl)
theorem dX1_terms_83 : decode cX1_terms 83 = .ok (.istore_n 3, 1) := dk_62 (dk_at dksX1_terms_3 15 rfl rfl)
theorem dX1_terms_84 : decode cX1_terms 84 = .ok (.iload_n 3, 1) := dk_29 (dk_at dksX1_terms_3 16 rfl rfl)
theorem dX1_terms_85 : decode cX1_terms 85 = .ok (.bipush 18, 2) := dk_16 18 (dk_at dksX1_terms_3 17 rfl rfl)
theorem dX1_terms_87 : decode cX1_terms 87 = .ok (.if_icmp .ge 29, 3) := dk_162 0 29 (dk_at dksX1_terms_3 19 rfl rfl)
theorem dX1_terms_90 : decode cX1_terms 90 = .ok (.aload_n 0, 1) := dk_42 (dk_at dksX1_terms_3 22 rfl rfl)
theorem dX1_terms_91 : decode cX1_terms 91 = .ok (.getfield 120, 3) := dk_180 0 120 (dk_at dksX1_terms_4 0 rfl rfl)
theorem dX1_terms_94 : decode cX1_terms 94 = .ok (.bipush 18, 2) := dk_16 18 (dk_at dksX1_terms_4 3 rfl rfl)
theorem dX1_terms_96 : decode cX1_terms 96 = .ok (.aload_n 0, 1) := dk_42 (dk_at dksX1_terms_4 5 rfl rfl)
theorem dX1_terms_97 : decode cX1_terms 97 = .ok (.getfield 280, 3) := dk_180 1 24 (dk_at dksX1_terms_4 6 rfl rfl)
theorem dX1_terms_100 : decode cX1_terms 100 = .ok (.imul, 1) := dk_104 (dk_at dksX1_terms_4 9 rfl rfl)
theorem dX1_terms_101 : decode cX1_terms 101 = .ok (.iload_n 3, 1) := dk_29 (dk_at dksX1_terms_4 10 rfl rfl)
theorem dX1_terms_102 : decode cX1_terms 102 = .ok (.iadd, 1) := dk_96 (dk_at dksX1_terms_4 11 rfl rfl)
theorem dX1_terms_103 : decode cX1_terms 103 = .ok (.aload_n 0, 1) := dk_42 (dk_at dksX1_terms_4 12 rfl rfl)
theorem dX1_terms_104 : decode cX1_terms 104 = .ok (.getfield 123, 3) := dk_180 0 123 (dk_at dksX1_terms_4 13 rfl rfl)
theorem dX1_terms_107 : decode cX1_terms 107 = .ok (.iload_n 3, 1) := dk_29 (dk_at dksX1_terms_4 16 rfl rfl)
theorem dX1_terms_108 : decode cX1_terms 108 = .ok (.iaload, 1) := dk_46 (dk_at dksX1_terms_4 17 rfl rfl)
theorem dX1_terms_109 : decode cX1_terms 109 = .ok (.iastore, 1) := dk_79 (dk_at dksX1_terms_4 18 rfl rfl)
theorem dX1_terms_110 : decode cX1_terms 110 = .ok (.iinc 3 1, 3) := dk_132 3 1 (dk_at dksX1_terms_4 19 rfl rfl)
theorem dX1_terms_113 : decode cX1_terms 113 = .ok (.goto (-29), 3) := dk_167 255 227 (dk_at dksX1_terms_5 0 rfl rfl)
theorem dX1_terms_116 : decode cX1_terms 116 = .ok (.aload_n 0, 1) := dk_42 (dk_at dksX1_terms_5 3 rfl rfl)
theorem dX1_terms_117 : decode cX1_terms 117 = .ok (.dup, 1) := dk_89 (dk_at dksX1_terms_5 4 rfl rfl)
theorem dX1_terms_118 : decode cX1_terms 118 = .ok (.getfield 280, 3) := dk_180 1 24 (dk_at dksX1_terms_5 5 rfl rfl)
theorem dX1_terms_121 : decode cX1_terms 121 = .ok (.iconst 1, 1) := dk_4 (dk_at dksX1_terms_5 8 rfl rfl)
theorem dX1_terms_122 : decode cX1_terms 122 = .ok (.iadd, 1) := dk_96 (dk_at dksX1_terms_5 9 rfl rfl)
theorem dX1_terms_123 : decode cX1_terms 123 = .ok (.putfield 280, 3) := dk_181 1 24 (dk_at dksX1_terms_5 10 rfl rfl)
theorem dX1_terms_126 : decode cX1_terms 126 = .ok (.aload_n 0, 1) := dk_42 (dk_at dksX1_terms_5 13 rfl rfl)
theorem dX1_terms_127 : decode cX1_terms 127 = .ok (.getfield 280, 3) := dk_180 1 24 (dk_at dksX1_terms_5 14 rfl rfl)
theorem dX1_terms_130 : decode cX1_terms 130 = .ok (.iconst 1, 1) := dk_4 (dk_at dksX1_terms_5 17 rfl rfl)
theorem dX1_terms_131 : decode cX1_terms 131 = .ok (.isub, 1) := dk_100 (dk_at dksX1_terms_5 18 rfl rfl)
theorem dX1_terms_132 : decode cX1_terms 132 = .ok (.ireturn, 1) := dk_172 (dk_at dksX1_terms_5 19 rfl rfl)
abbrev cX1_isDay : ByteArray := prog_8_method_53_code
def yX1_isDay : MethodName := ⟨RX1, "isDay", "(I)Z"⟩
def dkwX1_isDay_0 : List UInt8 := [26, 3, 16, 69, 184, 0, 185, 172]
abbrev dktX1_isDay_0 : List UInt8 := dkwX1_isDay_0 ++ []
theorem dksX1_isDay_0 : cX1_isDay.data.toList.drop 0 = dktX1_isDay_0 := by decide +kernel
theorem dX1_isDay_0 : decode cX1_isDay 0 = .ok (.iload_n 0, 1) := dk_26 (dk_at dksX1_isDay_0 0 rfl rfl)
theorem dX1_isDay_1 : decode cX1_isDay 1 = .ok (.iconst 0, 1) := dk_3 (dk_at dksX1_isDay_0 1 rfl rfl)
theorem dX1_isDay_2 : decode cX1_isDay 2 = .ok (.bipush 69, 2) := dk_16 69 (dk_at dksX1_isDay_0 2 rfl rfl)
theorem dX1_isDay_4 : decode cX1_isDay 4 = .ok (.invokestatic 185, 3) := dk_184 0 185 (dk_at dksX1_isDay_0 4 rfl rfl)
theorem dX1_isDay_7 : decode cX1_isDay 7 = .ok (.ireturn, 1) := dk_172 (dk_at dksX1_isDay_0 7 rfl rfl)
abbrev cX1_force : ByteArray := prog_8_method_56_code
def yX1_force : MethodName := ⟨RX1, "force", "(IIII)I"⟩
def dkwX1_force_2 : List UInt8 := [182, 1, 8, 172]
abbrev dktX1_force_2 : List UInt8 := dkwX1_force_2 ++ []
def dkwX1_force_1 : List UInt8 := [184, 1, 21, 153, 0, 11, 21, 4, 184, 1, 21, 154, 0, 5, 2, 172, 42, 27, 28, 29, 21, 4]
abbrev dktX1_force_1 : List UInt8 := dkwX1_force_1 ++ dktX1_force_2
def dkwX1_force_0 : List UInt8 := [27, 3, 6, 184, 0, 185, 153, 0, 30, 27, 5, 162, 0, 10, 28, 184, 0, 210, 153, 0, 18, 29]
abbrev dktX1_force_0 : List UInt8 := dkwX1_force_0 ++ dktX1_force_1
theorem dksX1_force_0 : cX1_force.data.toList.drop 0 = dktX1_force_0 := by decide +kernel
theorem dksX1_force_1 : cX1_force.data.toList.drop 22 = dktX1_force_1 := dk_seg dksX1_force_0 22 rfl rfl
theorem dksX1_force_2 : cX1_force.data.toList.drop 44 = dktX1_force_2 := dk_seg dksX1_force_1 22 rfl rfl
theorem dX1_force_0 : decode cX1_force 0 = .ok (.iload_n 1, 1) := dk_27 (dk_at dksX1_force_0 0 rfl rfl)
theorem dX1_force_1 : decode cX1_force 1 = .ok (.iconst 0, 1) := dk_3 (dk_at dksX1_force_0 1 rfl rfl)
theorem dX1_force_2 : decode cX1_force 2 = .ok (.iconst 3, 1) := dk_6 (dk_at dksX1_force_0 2 rfl rfl)
theorem dX1_force_3 : decode cX1_force 3 = .ok (.invokestatic 185, 3) := dk_184 0 185 (dk_at dksX1_force_0 3 rfl rfl)
theorem dX1_force_6 : decode cX1_force 6 = .ok (.ifCond .eq 30, 3) := dk_153 0 30 (dk_at dksX1_force_0 6 rfl rfl)
theorem dX1_force_9 : decode cX1_force 9 = .ok (.iload_n 1, 1) := dk_27 (dk_at dksX1_force_0 9 rfl rfl)
theorem dX1_force_10 : decode cX1_force 10 = .ok (.iconst 2, 1) := dk_5 (dk_at dksX1_force_0 10 rfl rfl)
theorem dX1_force_11 : decode cX1_force 11 = .ok (.if_icmp .ge 10, 3) := dk_162 0 10 (dk_at dksX1_force_0 11 rfl rfl)
theorem dX1_force_14 : decode cX1_force 14 = .ok (.iload_n 2, 1) := dk_28 (dk_at dksX1_force_0 14 rfl rfl)
theorem dX1_force_15 : decode cX1_force 15 = .ok (.invokestatic 210, 3) := dk_184 0 210 (dk_at dksX1_force_0 15 rfl rfl)
theorem dX1_force_18 : decode cX1_force 18 = .ok (.ifCond .eq 18, 3) := dk_153 0 18 (dk_at dksX1_force_0 18 rfl rfl)
theorem dX1_force_21 : decode cX1_force 21 = .ok (.iload_n 3, 1) := dk_29 (dk_at dksX1_force_0 21 rfl rfl)
theorem dX1_force_22 : decode cX1_force 22 = .ok (.invokestatic 277, 3) := dk_184 1 21 (dk_at dksX1_force_1 0 rfl rfl)
theorem dX1_force_25 : decode cX1_force 25 = .ok (.ifCond .eq 11, 3) := dk_153 0 11 (dk_at dksX1_force_1 3 rfl rfl)
theorem dX1_force_28 : decode cX1_force 28 = .ok (.iload 4, 2) := dk_21 4 (dk_at dksX1_force_1 6 rfl rfl)
theorem dX1_force_30 : decode cX1_force 30 = .ok (.invokestatic 277, 3) := dk_184 1 21 (dk_at dksX1_force_1 8 rfl rfl)
theorem dX1_force_33 : decode cX1_force 33 = .ok (.ifCond .ne 5, 3) := dk_154 0 5 (dk_at dksX1_force_1 11 rfl rfl)
theorem dX1_force_36 : decode cX1_force 36 = .ok (.iconst (-1), 1) := dk_2 (dk_at dksX1_force_1 14 rfl rfl)
theorem dX1_force_37 : decode cX1_force 37 = .ok (.ireturn, 1) := dk_172 (dk_at dksX1_force_1 15 rfl rfl)
theorem dX1_force_38 : decode cX1_force 38 = .ok (.aload_n 0, 1) := dk_42 (dk_at dksX1_force_1 16 rfl rfl)
theorem dX1_force_39 : decode cX1_force 39 = .ok (.iload_n 1, 1) := dk_27 (dk_at dksX1_force_1 17 rfl rfl)
theorem dX1_force_40 : decode cX1_force 40 = .ok (.iload_n 2, 1) := dk_28 (dk_at dksX1_force_1 18 rfl rfl)
theorem dX1_force_41 : decode cX1_force 41 = .ok (.iload_n 3, 1) := dk_29 (dk_at dksX1_force_1 19 rfl rfl)
theorem dX1_force_42 : decode cX1_force 42 = .ok (.iload 4, 2) := dk_21 4 (dk_at dksX1_force_1 20 rfl rfl)
theorem dX1_force_44 : decode cX1_force 44 = .ok (.invokevirtual 264, 3) := dk_182 1 8 (dk_at dksX1_force_2 0 rfl rfl)
theorem dX1_force_47 : decode cX1_force 47 = .ok (.ireturn, 1) := dk_172 (dk_at dksX1_force_2 3 rfl rfl)
abbrev cX1_detention : ByteArray := prog_8_method_57_code
def yX1_detention : MethodName := ⟨RX1, "detention", "(I)I"⟩
def dkwX1_detention_8 : List UInt8 := [46, 21, 5, 21, 5, 182, 1, 8, 133, 105, 97, 181, 1, 27, 132, 3, 1, 167, 255, 72, 28, 172]
abbrev dktX1_detention_8 : List UInt8 := dkwX1_detention_8 ++ []
def dkwX1_detention_7 : List UInt8 := [132, 2, 1, 42, 89, 180, 1, 27, 21, 6, 16, 59, 96, 16, 60, 108, 133, 42, 4, 42, 180, 0, 108, 29]
abbrev dktX1_detention_7 : List UInt8 := dkwX1_detention_7 ++ dktX1_detention_8
def dkwX1_detention_6 : List UInt8 := [3, 42, 180, 0, 108, 29, 46, 21, 5, 21, 5, 182, 1, 8, 100, 54, 6, 21, 6, 158, 0, 41]
abbrev dktX1_detention_6 : List UInt8 := dkwX1_detention_6 ++ dktX1_detention_7
def dkwX1_detention_5 : List UInt8 := [167, 255, 200, 42, 180, 0, 105, 29, 46, 184, 0, 252, 54, 5, 21, 4, 42, 180, 0, 105, 29, 46, 100, 42]
abbrev dktX1_detention_5 : List UInt8 := dkwX1_detention_5 ++ dktX1_detention_6
def dkwX1_detention_4 : List UInt8 := [46, 5, 160, 0, 13, 42, 180, 0, 105, 21, 5, 46, 167, 0, 5, 21, 4, 54, 4, 132, 5, 255]
abbrev dktX1_detention_4 : List UInt8 := dkwX1_detention_4 ++ dktX1_detention_5
def dkwX1_detention_3 : List UInt8 := [21, 5, 46, 27, 160, 0, 35, 42, 180, 0, 102, 21, 5, 46, 4, 159, 0, 14, 42, 180, 0, 102, 21, 5]
abbrev dktX1_detention_3 : List UInt8 := dkwX1_detention_3 ++ dktX1_detention_4
def dkwX1_detention_2 : List UInt8 := [180, 0, 207, 54, 4, 42, 180, 0, 226, 4, 100, 54, 5, 21, 5, 29, 164, 0, 56, 42, 180, 0, 99]
abbrev dktX1_detention_2 : List UInt8 := dkwX1_detention_2 ++ dktX1_detention_3
def dkwX1_detention_1 : List UInt8 := [162, 0, 182, 42, 180, 0, 99, 29, 46, 27, 160, 0, 166, 42, 180, 0, 102, 29, 46, 154, 0, 157, 42]
abbrev dktX1_detention_1 : List UInt8 := dkwX1_detention_1 ++ dktX1_detention_2
def dkwX1_detention_0 : List UInt8 := [42, 27, 182, 0, 240, 154, 0, 5, 2, 172, 42, 9, 181, 1, 27, 3, 61, 3, 62, 29, 42, 180, 0, 226]
abbrev dktX1_detention_0 : List UInt8 := dkwX1_detention_0 ++ dktX1_detention_1
theorem dksX1_detention_0 : cX1_detention.data.toList.drop 0 = dktX1_detention_0 := by decide +kernel
theorem dksX1_detention_1 : cX1_detention.data.toList.drop 24 = dktX1_detention_1 := dk_seg dksX1_detention_0 24 rfl rfl
theorem dksX1_detention_2 : cX1_detention.data.toList.drop 47 = dktX1_detention_2 := dk_seg dksX1_detention_1 23 rfl rfl
theorem dksX1_detention_3 : cX1_detention.data.toList.drop 70 = dktX1_detention_3 := dk_seg dksX1_detention_2 23 rfl rfl
theorem dksX1_detention_4 : cX1_detention.data.toList.drop 94 = dktX1_detention_4 := dk_seg dksX1_detention_3 24 rfl rfl
theorem dksX1_detention_5 : cX1_detention.data.toList.drop 116 = dktX1_detention_5 := dk_seg dksX1_detention_4 22 rfl rfl
theorem dksX1_detention_6 : cX1_detention.data.toList.drop 140 = dktX1_detention_6 := dk_seg dksX1_detention_5 24 rfl rfl
theorem dksX1_detention_7 : cX1_detention.data.toList.drop 162 = dktX1_detention_7 := dk_seg dksX1_detention_6 22 rfl rfl
theorem dksX1_detention_8 : cX1_detention.data.toList.drop 186 = dktX1_detention_8 := dk_seg dksX1_detention_7 24 rfl rfl
theorem dX1_detention_0 : decode cX1_detention 0 = .ok (.aload_n 0, 1) := dk_42 (dk_at dksX1_detention_0 0 rfl rfl)
theorem dX1_detention_1 : decode cX1_detention 1 = .ok (.iload_n 1, 1) := dk_27 (dk_at dksX1_detention_0 1 rfl rfl)
theorem dX1_detention_2 : decode cX1_detention 2 = .ok (.invokevirtual 240, 3) := dk_182 0 240 (dk_at dksX1_detention_0 2 rfl rfl)
theorem dX1_detention_5 : decode cX1_detention 5 = .ok (.ifCond .ne 5, 3) := dk_154 0 5 (dk_at dksX1_detention_0 5 rfl rfl)
theorem dX1_detention_8 : decode cX1_detention 8 = .ok (.iconst (-1), 1) := dk_2 (dk_at dksX1_detention_0 8 rfl rfl)
theorem dX1_detention_9 : decode cX1_detention 9 = .ok (.ireturn, 1) := dk_172 (dk_at dksX1_detention_0 9 rfl rfl)
theorem dX1_detention_10 : decode cX1_detention 10 = .ok (.aload_n 0, 1) := dk_42 (dk_at dksX1_detention_0 10 rfl rfl)
theorem dX1_detention_11 : decode cX1_detention 11 = .ok (.lconst 0, 1) := dk_9 (dk_at dksX1_detention_0 11 rfl rfl)
theorem dX1_detention_12 : decode cX1_detention 12 = .ok (.putfield 283, 3) := dk_181 1 27 (dk_at dksX1_detention_0 12 rfl rfl)
theorem dX1_detention_15 : decode cX1_detention 15 = .ok (.iconst 0, 1) := dk_3 (dk_at dksX1_detention_0 15 rfl rfl)
theorem dX1_detention_16 : decode cX1_detention 16 = .ok (.istore_n 2, 1) := dk_61 (dk_at dksX1_detention_0 16 rfl rfl)
theorem dX1_detention_17 : decode cX1_detention 17 = .ok (.iconst 0, 1) := dk_3 (dk_at dksX1_detention_0 17 rfl rfl)
theorem dX1_detention_18 : decode cX1_detention 18 = .ok (.istore_n 3, 1) := dk_62 (dk_at dksX1_detention_0 18 rfl rfl)
theorem dX1_detention_19 : decode cX1_detention 19 = .ok (.iload_n 3, 1) := dk_29 (dk_at dksX1_detention_0 19 rfl rfl)
theorem dX1_detention_20 : decode cX1_detention 20 = .ok (.aload_n 0, 1) := dk_42 (dk_at dksX1_detention_0 20 rfl rfl)
theorem dX1_detention_21 : decode cX1_detention 21 = .ok (.getfield 226, 3) := dk_180 0 226 (dk_at dksX1_detention_0 21 rfl rfl)
theorem dX1_detention_24 : decode cX1_detention 24 = .ok (.if_icmp .ge 182, 3) := dk_162 0 182 (dk_at dksX1_detention_1 0 rfl rfl)
theorem dX1_detention_27 : decode cX1_detention 27 = .ok (.aload_n 0, 1) := dk_42 (dk_at dksX1_detention_1 3 rfl rfl)
theorem dX1_detention_28 : decode cX1_detention 28 = .ok (.getfield 99, 3) := dk_180 0 99 (dk_at dksX1_detention_1 4 rfl rfl)
theorem dX1_detention_31 : decode cX1_detention 31 = .ok (.iload_n 3, 1) := dk_29 (dk_at dksX1_detention_1 7 rfl rfl)
theorem dX1_detention_32 : decode cX1_detention 32 = .ok (.iaload, 1) := dk_46 (dk_at dksX1_detention_1 8 rfl rfl)
theorem dX1_detention_33 : decode cX1_detention 33 = .ok (.iload_n 1, 1) := dk_27 (dk_at dksX1_detention_1 9 rfl rfl)
theorem dX1_detention_34 : decode cX1_detention 34 = .ok (.if_icmp .ne 166, 3) := dk_160 0 166 (dk_at dksX1_detention_1 10 rfl rfl)
theorem dX1_detention_37 : decode cX1_detention 37 = .ok (.aload_n 0, 1) := dk_42 (dk_at dksX1_detention_1 13 rfl rfl)
theorem dX1_detention_38 : decode cX1_detention 38 = .ok (.getfield 102, 3) := dk_180 0 102 (dk_at dksX1_detention_1 14 rfl rfl)
theorem dX1_detention_41 : decode cX1_detention 41 = .ok (.iload_n 3, 1) := dk_29 (dk_at dksX1_detention_1 17 rfl rfl)
theorem dX1_detention_42 : decode cX1_detention 42 = .ok (.iaload, 1) := dk_46 (dk_at dksX1_detention_1 18 rfl rfl)
theorem dX1_detention_43 : decode cX1_detention 43 = .ok (.ifCond .ne 157, 3) := dk_154 0 157 (dk_at dksX1_detention_1 19 rfl rfl)
theorem dX1_detention_46 : decode cX1_detention 46 = .ok (.aload_n 0, 1) := dk_42 (dk_at dksX1_detention_1 22 rfl rfl)
theorem dX1_detention_47 : decode cX1_detention 47 = .ok (.getfield 207, 3) := dk_180 0 207 (dk_at dksX1_detention_2 0 rfl rfl)
theorem dX1_detention_50 : decode cX1_detention 50 = .ok (.istore 4, 2) := dk_54 4 (dk_at dksX1_detention_2 3 rfl rfl)
theorem dX1_detention_52 : decode cX1_detention 52 = .ok (.aload_n 0, 1) := dk_42 (dk_at dksX1_detention_2 5 rfl rfl)
theorem dX1_detention_53 : decode cX1_detention 53 = .ok (.getfield 226, 3) := dk_180 0 226 (dk_at dksX1_detention_2 6 rfl rfl)
theorem dX1_detention_56 : decode cX1_detention 56 = .ok (.iconst 1, 1) := dk_4 (dk_at dksX1_detention_2 9 rfl rfl)
theorem dX1_detention_57 : decode cX1_detention 57 = .ok (.isub, 1) := dk_100 (dk_at dksX1_detention_2 10 rfl rfl)
theorem dX1_detention_58 : decode cX1_detention 58 = .ok (.istore 5, 2) := dk_54 5 (dk_at dksX1_detention_2 11 rfl rfl)
theorem dX1_detention_60 : decode cX1_detention 60 = .ok (.iload 5, 2) := dk_21 5 (dk_at dksX1_detention_2 13 rfl rfl)
theorem dX1_detention_62 : decode cX1_detention 62 = .ok (.iload_n 3, 1) := dk_29 (dk_at dksX1_detention_2 15 rfl rfl)
theorem dX1_detention_63 : decode cX1_detention 63 = .ok (.if_icmp .le 56, 3) := dk_164 0 56 (dk_at dksX1_detention_2 16 rfl rfl)
theorem dX1_detention_66 : decode cX1_detention 66 = .ok (.aload_n 0, 1) := dk_42 (dk_at dksX1_detention_2 19 rfl rfl)
theorem dX1_detention_67 : decode cX1_detention 67 = .ok (.getfield 99, 3) := dk_180 0 99 (dk_at dksX1_detention_2 20 rfl rfl)
theorem dX1_detention_70 : decode cX1_detention 70 = .ok (.iload 5, 2) := dk_21 5 (dk_at dksX1_detention_3 0 rfl rfl)
theorem dX1_detention_72 : decode cX1_detention 72 = .ok (.iaload, 1) := dk_46 (dk_at dksX1_detention_3 2 rfl rfl)
theorem dX1_detention_73 : decode cX1_detention 73 = .ok (.iload_n 1, 1) := dk_27 (dk_at dksX1_detention_3 3 rfl rfl)
theorem dX1_detention_74 : decode cX1_detention 74 = .ok (.if_icmp .ne 35, 3) := dk_160 0 35 (dk_at dksX1_detention_3 4 rfl rfl)
theorem dX1_detention_77 : decode cX1_detention 77 = .ok (.aload_n 0, 1) := dk_42 (dk_at dksX1_detention_3 7 rfl rfl)
theorem dX1_detention_78 : decode cX1_detention 78 = .ok (.getfield 102, 3) := dk_180 0 102 (dk_at dksX1_detention_3 8 rfl rfl)
theorem dX1_detention_81 : decode cX1_detention 81 = .ok (.iload 5, 2) := dk_21 5 (dk_at dksX1_detention_3 11 rfl rfl)
theorem dX1_detention_83 : decode cX1_detention 83 = .ok (.iaload, 1) := dk_46 (dk_at dksX1_detention_3 13 rfl rfl)
theorem dX1_detention_84 : decode cX1_detention 84 = .ok (.iconst 1, 1) := dk_4 (dk_at dksX1_detention_3 14 rfl rfl)
theorem dX1_detention_85 : decode cX1_detention 85 = .ok (.if_icmp .eq 14, 3) := dk_159 0 14 (dk_at dksX1_detention_3 15 rfl rfl)
theorem dX1_detention_88 : decode cX1_detention 88 = .ok (.aload_n 0, 1) := dk_42 (dk_at dksX1_detention_3 18 rfl rfl)
theorem dX1_detention_89 : decode cX1_detention 89 = .ok (.getfield 102, 3) := dk_180 0 102 (dk_at dksX1_detention_3 19 rfl rfl)
theorem dX1_detention_92 : decode cX1_detention 92 = .ok (.iload 5, 2) := dk_21 5 (dk_at dksX1_detention_3 22 rfl rfl)
theorem dX1_detention_94 : decode cX1_detention 94 = .ok (.iaload, 1) := dk_46 (dk_at dksX1_detention_4 0 rfl rfl)
theorem dX1_detention_95 : decode cX1_detention 95 = .ok (.iconst 2, 1) := dk_5 (dk_at dksX1_detention_4 1 rfl rfl)
theorem dX1_detention_96 : decode cX1_detention 96 = .ok (.if_icmp .ne 13, 3) := dk_160 0 13 (dk_at dksX1_detention_4 2 rfl rfl)
theorem dX1_detention_99 : decode cX1_detention 99 = .ok (.aload_n 0, 1) := dk_42 (dk_at dksX1_detention_4 5 rfl rfl)
theorem dX1_detention_100 : decode cX1_detention 100 = .ok (.getfield 105, 3) := dk_180 0 105 (dk_at dksX1_detention_4 6 rfl rfl)
theorem dX1_detention_103 : decode cX1_detention 103 = .ok (.iload 5, 2) := dk_21 5 (dk_at dksX1_detention_4 9 rfl rfl)
theorem dX1_detention_105 : decode cX1_detention 105 = .ok (.iaload, 1) := dk_46 (dk_at dksX1_detention_4 11 rfl rfl)
theorem dX1_detention_106 : decode cX1_detention 106 = .ok (.goto 5, 3) := dk_167 0 5 (dk_at dksX1_detention_4 12 rfl rfl)
theorem dX1_detention_109 : decode cX1_detention 109 = .ok (.iload 4, 2) := dk_21 4 (dk_at dksX1_detention_4 15 rfl rfl)
theorem dX1_detention_111 : decode cX1_detention 111 = .ok (.istore 4, 2) := dk_54 4 (dk_at dksX1_detention_4 17 rfl rfl)
theorem dX1_detention_113 : decode cX1_detention 113 = .ok (.iinc 5 (-1), 3) := dk_132 5 255 (dk_at dksX1_detention_4 19 rfl rfl)
theorem dX1_detention_116 : decode cX1_detention 116 = .ok (.goto (-56), 3) := dk_167 255 200 (dk_at dksX1_detention_5 0 rfl rfl)
theorem dX1_detention_119 : decode cX1_detention 119 = .ok (.aload_n 0, 1) := dk_42 (dk_at dksX1_detention_5 3 rfl rfl)
theorem dX1_detention_120 : decode cX1_detention 120 = .ok (.getfield 105, 3) := dk_180 0 105 (dk_at dksX1_detention_5 4 rfl rfl)
theorem dX1_detention_123 : decode cX1_detention 123 = .ok (.iload_n 3, 1) := dk_29 (dk_at dksX1_detention_5 7 rfl rfl)
theorem dX1_detention_124 : decode cX1_detention 124 = .ok (.iaload, 1) := dk_46 (dk_at dksX1_detention_5 8 rfl rfl)
theorem dX1_detention_125 : decode cX1_detention 125 = .ok (.invokestatic 252, 3) := dk_184 0 252 (dk_at dksX1_detention_5 9 rfl rfl)
theorem dX1_detention_128 : decode cX1_detention 128 = .ok (.istore 5, 2) := dk_54 5 (dk_at dksX1_detention_5 12 rfl rfl)
theorem dX1_detention_130 : decode cX1_detention 130 = .ok (.iload 4, 2) := dk_21 4 (dk_at dksX1_detention_5 14 rfl rfl)
theorem dX1_detention_132 : decode cX1_detention 132 = .ok (.aload_n 0, 1) := dk_42 (dk_at dksX1_detention_5 16 rfl rfl)
theorem dX1_detention_133 : decode cX1_detention 133 = .ok (.getfield 105, 3) := dk_180 0 105 (dk_at dksX1_detention_5 17 rfl rfl)
theorem dX1_detention_136 : decode cX1_detention 136 = .ok (.iload_n 3, 1) := dk_29 (dk_at dksX1_detention_5 20 rfl rfl)
theorem dX1_detention_137 : decode cX1_detention 137 = .ok (.iaload, 1) := dk_46 (dk_at dksX1_detention_5 21 rfl rfl)
theorem dX1_detention_138 : decode cX1_detention 138 = .ok (.isub, 1) := dk_100 (dk_at dksX1_detention_5 22 rfl rfl)
theorem dX1_detention_139 : decode cX1_detention 139 = .ok (.aload_n 0, 1) := dk_42 (dk_at dksX1_detention_5 23 rfl rfl)
theorem dX1_detention_140 : decode cX1_detention 140 = .ok (.iconst 0, 1) := dk_3 (dk_at dksX1_detention_6 0 rfl rfl)
theorem dX1_detention_141 : decode cX1_detention 141 = .ok (.aload_n 0, 1) := dk_42 (dk_at dksX1_detention_6 1 rfl rfl)
theorem dX1_detention_142 : decode cX1_detention 142 = .ok (.getfield 108, 3) := dk_180 0 108 (dk_at dksX1_detention_6 2 rfl rfl)
theorem dX1_detention_145 : decode cX1_detention 145 = .ok (.iload_n 3, 1) := dk_29 (dk_at dksX1_detention_6 5 rfl rfl)
theorem dX1_detention_146 : decode cX1_detention 146 = .ok (.iaload, 1) := dk_46 (dk_at dksX1_detention_6 6 rfl rfl)
theorem dX1_detention_147 : decode cX1_detention 147 = .ok (.iload 5, 2) := dk_21 5 (dk_at dksX1_detention_6 7 rfl rfl)
theorem dX1_detention_149 : decode cX1_detention 149 = .ok (.iload 5, 2) := dk_21 5 (dk_at dksX1_detention_6 9 rfl rfl)
theorem dX1_detention_151 : decode cX1_detention 151 = .ok (.invokevirtual 264, 3) := dk_182 1 8 (dk_at dksX1_detention_6 11 rfl rfl)
theorem dX1_detention_154 : decode cX1_detention 154 = .ok (.isub, 1) := dk_100 (dk_at dksX1_detention_6 14 rfl rfl)
theorem dX1_detention_155 : decode cX1_detention 155 = .ok (.istore 6, 2) := dk_54 6 (dk_at dksX1_detention_6 15 rfl rfl)
theorem dX1_detention_157 : decode cX1_detention 157 = .ok (.iload 6, 2) := dk_21 6 (dk_at dksX1_detention_6 17 rfl rfl)
theorem dX1_detention_159 : decode cX1_detention 159 = .ok (.ifCond .le 41, 3) := dk_158 0 41 (dk_at dksX1_detention_6 19 rfl rfl)
theorem dX1_detention_162 : decode cX1_detention 162 = .ok (.iinc 2 1, 3) := dk_132 2 1 (dk_at dksX1_detention_7 0 rfl rfl)
theorem dX1_detention_165 : decode cX1_detention 165 = .ok (.aload_n 0, 1) := dk_42 (dk_at dksX1_detention_7 3 rfl rfl)
theorem dX1_detention_166 : decode cX1_detention 166 = .ok (.dup, 1) := dk_89 (dk_at dksX1_detention_7 4 rfl rfl)
theorem dX1_detention_167 : decode cX1_detention 167 = .ok (.getfield 283, 3) := dk_180 1 27 (dk_at dksX1_detention_7 5 rfl rfl)
theorem dX1_detention_170 : decode cX1_detention 170 = .ok (.iload 6, 2) := dk_21 6 (dk_at dksX1_detention_7 8 rfl rfl)
theorem dX1_detention_172 : decode cX1_detention 172 = .ok (.bipush 59, 2) := dk_16 59 (dk_at dksX1_detention_7 10 rfl rfl)
theorem dX1_detention_174 : decode cX1_detention 174 = .ok (.iadd, 1) := dk_96 (dk_at dksX1_detention_7 12 rfl rfl)
theorem dX1_detention_175 : decode cX1_detention 175 = .ok (.bipush 60, 2) := dk_16 60 (dk_at dksX1_detention_7 13 rfl rfl)
theorem dX1_detention_177 : decode cX1_detention 177 = .ok (.idiv, 1) := dk_108 (dk_at dksX1_detention_7 15 rfl rfl)
theorem dX1_detention_178 : decode cX1_detention 178 = .ok (.i2l, 1) := dk_133 (dk_at dksX1_detention_7 16 rfl rfl)
theorem dX1_detention_179 : decode cX1_detention 179 = .ok (.aload_n 0, 1) := dk_42 (dk_at dksX1_detention_7 17 rfl rfl)
theorem dX1_detention_180 : decode cX1_detention 180 = .ok (.iconst 1, 1) := dk_4 (dk_at dksX1_detention_7 18 rfl rfl)
theorem dX1_detention_181 : decode cX1_detention 181 = .ok (.aload_n 0, 1) := dk_42 (dk_at dksX1_detention_7 19 rfl rfl)
theorem dX1_detention_182 : decode cX1_detention 182 = .ok (.getfield 108, 3) := dk_180 0 108 (dk_at dksX1_detention_7 20 rfl rfl)
theorem dX1_detention_185 : decode cX1_detention 185 = .ok (.iload_n 3, 1) := dk_29 (dk_at dksX1_detention_7 23 rfl rfl)
theorem dX1_detention_186 : decode cX1_detention 186 = .ok (.iaload, 1) := dk_46 (dk_at dksX1_detention_8 0 rfl rfl)
theorem dX1_detention_187 : decode cX1_detention 187 = .ok (.iload 5, 2) := dk_21 5 (dk_at dksX1_detention_8 1 rfl rfl)
theorem dX1_detention_189 : decode cX1_detention 189 = .ok (.iload 5, 2) := dk_21 5 (dk_at dksX1_detention_8 3 rfl rfl)
theorem dX1_detention_191 : decode cX1_detention 191 = .ok (.invokevirtual 264, 3) := dk_182 1 8 (dk_at dksX1_detention_8 5 rfl rfl)
theorem dX1_detention_194 : decode cX1_detention 194 = .ok (.i2l, 1) := dk_133 (dk_at dksX1_detention_8 8 rfl rfl)
theorem dX1_detention_195 : decode cX1_detention 195 = .ok (.lmul, 1) := dk_105 (dk_at dksX1_detention_8 9 rfl rfl)
theorem dX1_detention_196 : decode cX1_detention 196 = .ok (.ladd, 1) := dk_97 (dk_at dksX1_detention_8 10 rfl rfl)
theorem dX1_detention_197 : decode cX1_detention 197 = .ok (.putfield 283, 3) := dk_181 1 27 (dk_at dksX1_detention_8 11 rfl rfl)
theorem dX1_detention_200 : decode cX1_detention 200 = .ok (.iinc 3 1, 3) := dk_132 3 1 (dk_at dksX1_detention_8 14 rfl rfl)
theorem dX1_detention_203 : decode cX1_detention 203 = .ok (.goto (-184), 3) := dk_167 255 72 (dk_at dksX1_detention_8 17 rfl rfl)
theorem dX1_detention_206 : decode cX1_detention 206 = .ok (.iload_n 2, 1) := dk_28 (dk_at dksX1_detention_8 20 rfl rfl)
theorem dX1_detention_207 : decode cX1_detention 207 = .ok (.ireturn, 1) := dk_172 (dk_at dksX1_detention_8 21 rfl rfl)
abbrev cX1_pence : ByteArray := prog_8_method_58_code
def yX1_pence : MethodName := ⟨RX1, "pence", "()J"⟩
theorem dX1_pence_0 : decode cX1_pence 0 = .ok (.aload_n 0, 1) := by decide +kernel
theorem dX1_pence_1 : decode cX1_pence 1 = .ok (.getfield 283, 3) := by decide +kernel
theorem dX1_pence_4 : decode cX1_pence 4 = .ok (.lreturn, 1) := by decide +kernel
abbrev cX1_law : ByteArray := prog_8_method_59_code
def yX1_law : MethodName := ⟨RX1, "law", "(II)I"⟩
def dkwX1_law_1 : List UInt8 := [181, 0, 130, 4, 172]
abbrev dktX1_law_1 : List UInt8 := dkwX1_law_1 ++ []
def dkwX1_law_0 : List UInt8 := [27, 184, 0, 233, 153, 0, 10, 28, 184, 0, 233, 154, 0, 5, 2, 172, 42, 27, 181, 0, 126, 42, 28]
abbrev dktX1_law_0 : List UInt8 := dkwX1_law_0 ++ dktX1_law_1
theorem dksX1_law_0 : cX1_law.data.toList.drop 0 = dktX1_law_0 := by decide +kernel
theorem dksX1_law_1 : cX1_law.data.toList.drop 23 = dktX1_law_1 := dk_seg dksX1_law_0 23 rfl rfl
theorem dX1_law_0 : decode cX1_law 0 = .ok (.iload_n 1, 1) := dk_27 (dk_at dksX1_law_0 0 rfl rfl)
theorem dX1_law_1 : decode cX1_law 1 = .ok (.invokestatic 233, 3) := dk_184 0 233 (dk_at dksX1_law_0 1 rfl rfl)
theorem dX1_law_4 : decode cX1_law 4 = .ok (.ifCond .eq 10, 3) := dk_153 0 10 (dk_at dksX1_law_0 4 rfl rfl)
theorem dX1_law_7 : decode cX1_law 7 = .ok (.iload_n 2, 1) := dk_28 (dk_at dksX1_law_0 7 rfl rfl)
theorem dX1_law_8 : decode cX1_law 8 = .ok (.invokestatic 233, 3) := dk_184 0 233 (dk_at dksX1_law_0 8 rfl rfl)
theorem dX1_law_11 : decode cX1_law 11 = .ok (.ifCond .ne 5, 3) := dk_154 0 5 (dk_at dksX1_law_0 11 rfl rfl)
theorem dX1_law_14 : decode cX1_law 14 = .ok (.iconst (-1), 1) := dk_2 (dk_at dksX1_law_0 14 rfl rfl)
theorem dX1_law_15 : decode cX1_law 15 = .ok (.ireturn, 1) := dk_172 (dk_at dksX1_law_0 15 rfl rfl)
theorem dX1_law_16 : decode cX1_law 16 = .ok (.aload_n 0, 1) := dk_42 (dk_at dksX1_law_0 16 rfl rfl)
theorem dX1_law_17 : decode cX1_law 17 = .ok (.iload_n 1, 1) := dk_27 (dk_at dksX1_law_0 17 rfl rfl)
theorem dX1_law_18 : decode cX1_law 18 = .ok (.putfield 126, 3) := dk_181 0 126 (dk_at dksX1_law_0 18 rfl rfl)
theorem dX1_law_21 : decode cX1_law 21 = .ok (.aload_n 0, 1) := dk_42 (dk_at dksX1_law_0 21 rfl rfl)
theorem dX1_law_22 : decode cX1_law 22 = .ok (.iload_n 2, 1) := dk_28 (dk_at dksX1_law_0 22 rfl rfl)
theorem dX1_law_23 : decode cX1_law 23 = .ok (.putfield 130, 3) := dk_181 0 130 (dk_at dksX1_law_1 0 rfl rfl)
theorem dX1_law_26 : decode cX1_law 26 = .ok (.iconst 1, 1) := dk_4 (dk_at dksX1_law_1 3 rfl rfl)
theorem dX1_law_27 : decode cX1_law 27 = .ok (.ireturn, 1) := dk_172 (dk_at dksX1_law_1 4 rfl rfl)
abbrev cX1_load : ByteArray := prog_8_method_60_code
def yX1_load : MethodName := ⟨RX1, "load", "(III)I"⟩
def dkwX1_load_4 : List UInt8 := [46, 172]
abbrev dktX1_load_4 : List UInt8 := dkwX1_load_4 ++ []
def dkwX1_load_3 : List UInt8 := [42, 180, 0, 66, 27, 46, 96, 29, 79, 42, 180, 0, 66, 27, 92, 46, 4, 96, 79, 42, 180, 0, 66, 27]
abbrev dktX1_load_3 : List UInt8 := dkwX1_load_3 ++ dktX1_load_4
def dkwX1_load_2 : List UInt8 := [180, 0, 69, 16, 6, 27, 104, 42, 180, 0, 66, 27, 46, 96, 28, 79, 42, 180, 0, 72, 16, 6, 27, 104]
abbrev dktX1_load_2 : List UInt8 := dkwX1_load_2 ++ dktX1_load_3
def dkwX1_load_1 : List UInt8 := [184, 0, 185, 154, 0, 5, 2, 172, 42, 180, 0, 66, 27, 46, 16, 6, 160, 0, 6, 16, 254, 172, 42]
abbrev dktX1_load_1 : List UInt8 := dkwX1_load_1 ++ dktX1_load_2
def dkwX1_load_0 : List UInt8 := [42, 27, 182, 0, 240, 153, 0, 25, 28, 4, 17, 78, 32, 184, 0, 185, 153, 0, 14, 29, 3, 17, 0, 130]
abbrev dktX1_load_0 : List UInt8 := dkwX1_load_0 ++ dktX1_load_1
theorem dksX1_load_0 : cX1_load.data.toList.drop 0 = dktX1_load_0 := by decide +kernel
theorem dksX1_load_1 : cX1_load.data.toList.drop 24 = dktX1_load_1 := dk_seg dksX1_load_0 24 rfl rfl
theorem dksX1_load_2 : cX1_load.data.toList.drop 47 = dktX1_load_2 := dk_seg dksX1_load_1 23 rfl rfl
theorem dksX1_load_3 : cX1_load.data.toList.drop 71 = dktX1_load_3 := dk_seg dksX1_load_2 24 rfl rfl
theorem dksX1_load_4 : cX1_load.data.toList.drop 95 = dktX1_load_4 := dk_seg dksX1_load_3 24 rfl rfl
theorem dX1_load_0 : decode cX1_load 0 = .ok (.aload_n 0, 1) := dk_42 (dk_at dksX1_load_0 0 rfl rfl)
theorem dX1_load_1 : decode cX1_load 1 = .ok (.iload_n 1, 1) := dk_27 (dk_at dksX1_load_0 1 rfl rfl)
theorem dX1_load_2 : decode cX1_load 2 = .ok (.invokevirtual 240, 3) := dk_182 0 240 (dk_at dksX1_load_0 2 rfl rfl)
theorem dX1_load_5 : decode cX1_load 5 = .ok (.ifCond .eq 25, 3) := dk_153 0 25 (dk_at dksX1_load_0 5 rfl rfl)
theorem dX1_load_8 : decode cX1_load 8 = .ok (.iload_n 2, 1) := dk_28 (dk_at dksX1_load_0 8 rfl rfl)
theorem dX1_load_9 : decode cX1_load 9 = .ok (.iconst 1, 1) := dk_4 (dk_at dksX1_load_0 9 rfl rfl)
theorem dX1_load_10 : decode cX1_load 10 = .ok (.sipush 20000, 3) := dk_17 78 32 (dk_at dksX1_load_0 10 rfl rfl)
theorem dX1_load_13 : decode cX1_load 13 = .ok (.invokestatic 185, 3) := dk_184 0 185 (dk_at dksX1_load_0 13 rfl rfl)
theorem dX1_load_16 : decode cX1_load 16 = .ok (.ifCond .eq 14, 3) := dk_153 0 14 (dk_at dksX1_load_0 16 rfl rfl)
theorem dX1_load_19 : decode cX1_load 19 = .ok (.iload_n 3, 1) := dk_29 (dk_at dksX1_load_0 19 rfl rfl)
theorem dX1_load_20 : decode cX1_load 20 = .ok (.iconst 0, 1) := dk_3 (dk_at dksX1_load_0 20 rfl rfl)
theorem dX1_load_21 : decode cX1_load 21 = .ok (.sipush 130, 3) := dk_17 0 130 (dk_at dksX1_load_0 21 rfl rfl)
theorem dX1_load_24 : decode cX1_load 24 = .ok (.invokestatic 185, 3) := dk_184 0 185 (dk_at dksX1_load_1 0 rfl rfl)
theorem dX1_load_27 : decode cX1_load 27 = .ok (.ifCond .ne 5, 3) := dk_154 0 5 (dk_at dksX1_load_1 3 rfl rfl)
theorem dX1_load_30 : decode cX1_load 30 = .ok (.iconst (-1), 1) := dk_2 (dk_at dksX1_load_1 6 rfl rfl)
theorem dX1_load_31 : decode cX1_load 31 = .ok (.ireturn, 1) := dk_172 (dk_at dksX1_load_1 7 rfl rfl)
theorem dX1_load_32 : decode cX1_load 32 = .ok (.aload_n 0, 1) := dk_42 (dk_at dksX1_load_1 8 rfl rfl)
theorem dX1_load_33 : decode cX1_load 33 = .ok (.getfield 66, 3) := dk_180 0 66 (dk_at dksX1_load_1 9 rfl rfl)
theorem dX1_load_36 : decode cX1_load 36 = .ok (.iload_n 1, 1) := dk_27 (dk_at dksX1_load_1 12 rfl rfl)
theorem dX1_load_37 : decode cX1_load 37 = .ok (.iaload, 1) := dk_46 (dk_at dksX1_load_1 13 rfl rfl)
theorem dX1_load_38 : decode cX1_load 38 = .ok (.bipush 6, 2) := dk_16 6 (dk_at dksX1_load_1 14 rfl rfl)
theorem dX1_load_40 : decode cX1_load 40 = .ok (.if_icmp .ne 6, 3) := dk_160 0 6 (dk_at dksX1_load_1 16 rfl rfl)
theorem dX1_load_43 : decode cX1_load 43 = .ok (.bipush (-2), 2) := dk_16 254 (dk_at dksX1_load_1 19 rfl rfl)
theorem dX1_load_45 : decode cX1_load 45 = .ok (.ireturn, 1) := dk_172 (dk_at dksX1_load_1 21 rfl rfl)
theorem dX1_load_46 : decode cX1_load 46 = .ok (.aload_n 0, 1) := dk_42 (dk_at dksX1_load_1 22 rfl rfl)
theorem dX1_load_47 : decode cX1_load 47 = .ok (.getfield 69, 3) := dk_180 0 69 (dk_at dksX1_load_2 0 rfl rfl)
theorem dX1_load_50 : decode cX1_load 50 = .ok (.bipush 6, 2) := dk_16 6 (dk_at dksX1_load_2 3 rfl rfl)
theorem dX1_load_52 : decode cX1_load 52 = .ok (.iload_n 1, 1) := dk_27 (dk_at dksX1_load_2 5 rfl rfl)
theorem dX1_load_53 : decode cX1_load 53 = .ok (.imul, 1) := dk_104 (dk_at dksX1_load_2 6 rfl rfl)
theorem dX1_load_54 : decode cX1_load 54 = .ok (.aload_n 0, 1) := dk_42 (dk_at dksX1_load_2 7 rfl rfl)
theorem dX1_load_55 : decode cX1_load 55 = .ok (.getfield 66, 3) := dk_180 0 66 (dk_at dksX1_load_2 8 rfl rfl)
theorem dX1_load_58 : decode cX1_load 58 = .ok (.iload_n 1, 1) := dk_27 (dk_at dksX1_load_2 11 rfl rfl)
theorem dX1_load_59 : decode cX1_load 59 = .ok (.iaload, 1) := dk_46 (dk_at dksX1_load_2 12 rfl rfl)
theorem dX1_load_60 : decode cX1_load 60 = .ok (.iadd, 1) := dk_96 (dk_at dksX1_load_2 13 rfl rfl)
theorem dX1_load_61 : decode cX1_load 61 = .ok (.iload_n 2, 1) := dk_28 (dk_at dksX1_load_2 14 rfl rfl)
theorem dX1_load_62 : decode cX1_load 62 = .ok (.iastore, 1) := dk_79 (dk_at dksX1_load_2 15 rfl rfl)
theorem dX1_load_63 : decode cX1_load 63 = .ok (.aload_n 0, 1) := dk_42 (dk_at dksX1_load_2 16 rfl rfl)
theorem dX1_load_64 : decode cX1_load 64 = .ok (.getfield 72, 3) := dk_180 0 72 (dk_at dksX1_load_2 17 rfl rfl)
theorem dX1_load_67 : decode cX1_load 67 = .ok (.bipush 6, 2) := dk_16 6 (dk_at dksX1_load_2 20 rfl rfl)
theorem dX1_load_69 : decode cX1_load 69 = .ok (.iload_n 1, 1) := dk_27 (dk_at dksX1_load_2 22 rfl rfl)
theorem dX1_load_70 : decode cX1_load 70 = .ok (.imul, 1) := dk_104 (dk_at dksX1_load_2 23 rfl rfl)
theorem dX1_load_71 : decode cX1_load 71 = .ok (.aload_n 0, 1) := dk_42 (dk_at dksX1_load_3 0 rfl rfl)
theorem dX1_load_72 : decode cX1_load 72 = .ok (.getfield 66, 3) := dk_180 0 66 (dk_at dksX1_load_3 1 rfl rfl)
theorem dX1_load_75 : decode cX1_load 75 = .ok (.iload_n 1, 1) := dk_27 (dk_at dksX1_load_3 4 rfl rfl)
theorem dX1_load_76 : decode cX1_load 76 = .ok (.iaload, 1) := dk_46 (dk_at dksX1_load_3 5 rfl rfl)
theorem dX1_load_77 : decode cX1_load 77 = .ok (.iadd, 1) := dk_96 (dk_at dksX1_load_3 6 rfl rfl)
theorem dX1_load_78 : decode cX1_load 78 = .ok (.iload_n 3, 1) := dk_29 (dk_at dksX1_load_3 7 rfl rfl)
theorem dX1_load_79 : decode cX1_load 79 = .ok (.iastore, 1) := dk_79 (dk_at dksX1_load_3 8 rfl rfl)
theorem dX1_load_80 : decode cX1_load 80 = .ok (.aload_n 0, 1) := dk_42 (dk_at dksX1_load_3 9 rfl rfl)
theorem dX1_load_81 : decode cX1_load 81 = .ok (.getfield 66, 3) := dk_180 0 66 (dk_at dksX1_load_3 10 rfl rfl)
theorem dX1_load_84 : decode cX1_load 84 = .ok (.iload_n 1, 1) := dk_27 (dk_at dksX1_load_3 13 rfl rfl)
theorem dX1_load_85 : decode cX1_load 85 = .ok (.dup2, 1) := dk_92 (dk_at dksX1_load_3 14 rfl rfl)
theorem dX1_load_86 : decode cX1_load 86 = .ok (.iaload, 1) := dk_46 (dk_at dksX1_load_3 15 rfl rfl)
theorem dX1_load_87 : decode cX1_load 87 = .ok (.iconst 1, 1) := dk_4 (dk_at dksX1_load_3 16 rfl rfl)
theorem dX1_load_88 : decode cX1_load 88 = .ok (.iadd, 1) := dk_96 (dk_at dksX1_load_3 17 rfl rfl)
theorem dX1_load_89 : decode cX1_load 89 = .ok (.iastore, 1) := dk_79 (dk_at dksX1_load_3 18 rfl rfl)
theorem dX1_load_90 : decode cX1_load 90 = .ok (.aload_n 0, 1) := dk_42 (dk_at dksX1_load_3 19 rfl rfl)
theorem dX1_load_91 : decode cX1_load 91 = .ok (.getfield 66, 3) := dk_180 0 66 (dk_at dksX1_load_3 20 rfl rfl)
theorem dX1_load_94 : decode cX1_load 94 = .ok (.iload_n 1, 1) := dk_27 (dk_at dksX1_load_3 23 rfl rfl)
theorem dX1_load_95 : decode cX1_load 95 = .ok (.iaload, 1) := dk_46 (dk_at dksX1_load_4 0 rfl rfl)
theorem dX1_load_96 : decode cX1_load 96 = .ok (.ireturn, 1) := dk_172 (dk_at dksX1_load_4 1 rfl rfl)
abbrev cX1_unload : ByteArray := prog_8_method_61_code
def yX1_unload : MethodName := ⟨RX1, "unload", "(I)I"⟩
def dkwX1_unload_1 : List UInt8 := [28, 172]
abbrev dktX1_unload_1 : List UInt8 := dkwX1_unload_1 ++ []
def dkwX1_unload_0 : List UInt8 := [42, 27, 182, 0, 240, 154, 0, 5, 2, 172, 42, 180, 0, 66, 27, 46, 61, 42, 180, 0, 66, 27, 3, 79]
abbrev dktX1_unload_0 : List UInt8 := dkwX1_unload_0 ++ dktX1_unload_1
theorem dksX1_unload_0 : cX1_unload.data.toList.drop 0 = dktX1_unload_0 := by decide +kernel
theorem dksX1_unload_1 : cX1_unload.data.toList.drop 24 = dktX1_unload_1 := dk_seg dksX1_unload_0 24 rfl rfl
theorem dX1_unload_0 : decode cX1_unload 0 = .ok (.aload_n 0, 1) := dk_42 (dk_at dksX1_unload_0 0 rfl rfl)
theorem dX1_unload_1 : decode cX1_unload 1 = .ok (.iload_n 1, 1) := dk_27 (dk_at dksX1_unload_0 1 rfl rfl)
theorem dX1_unload_2 : decode cX1_unload 2 = .ok (.invokevirtual 240, 3) := dk_182 0 240 (dk_at dksX1_unload_0 2 rfl rfl)
theorem dX1_unload_5 : decode cX1_unload 5 = .ok (.ifCond .ne 5, 3) := dk_154 0 5 (dk_at dksX1_unload_0 5 rfl rfl)
theorem dX1_unload_8 : decode cX1_unload 8 = .ok (.iconst (-1), 1) := dk_2 (dk_at dksX1_unload_0 8 rfl rfl)
theorem dX1_unload_9 : decode cX1_unload 9 = .ok (.ireturn, 1) := dk_172 (dk_at dksX1_unload_0 9 rfl rfl)
theorem dX1_unload_10 : decode cX1_unload 10 = .ok (.aload_n 0, 1) := dk_42 (dk_at dksX1_unload_0 10 rfl rfl)
theorem dX1_unload_11 : decode cX1_unload 11 = .ok (.getfield 66, 3) := dk_180 0 66 (dk_at dksX1_unload_0 11 rfl rfl)
theorem dX1_unload_14 : decode cX1_unload 14 = .ok (.iload_n 1, 1) := dk_27 (dk_at dksX1_unload_0 14 rfl rfl)
theorem dX1_unload_15 : decode cX1_unload 15 = .ok (.iaload, 1) := dk_46 (dk_at dksX1_unload_0 15 rfl rfl)
theorem dX1_unload_16 : decode cX1_unload 16 = .ok (.istore_n 2, 1) := dk_61 (dk_at dksX1_unload_0 16 rfl rfl)
theorem dX1_unload_17 : decode cX1_unload 17 = .ok (.aload_n 0, 1) := dk_42 (dk_at dksX1_unload_0 17 rfl rfl)
theorem dX1_unload_18 : decode cX1_unload 18 = .ok (.getfield 66, 3) := dk_180 0 66 (dk_at dksX1_unload_0 18 rfl rfl)
theorem dX1_unload_21 : decode cX1_unload 21 = .ok (.iload_n 1, 1) := dk_27 (dk_at dksX1_unload_0 21 rfl rfl)
theorem dX1_unload_22 : decode cX1_unload 22 = .ok (.iconst 0, 1) := dk_3 (dk_at dksX1_unload_0 22 rfl rfl)
theorem dX1_unload_23 : decode cX1_unload 23 = .ok (.iastore, 1) := dk_79 (dk_at dksX1_unload_0 23 rfl rfl)
theorem dX1_unload_24 : decode cX1_unload 24 = .ok (.iload_n 2, 1) := dk_28 (dk_at dksX1_unload_1 0 rfl rfl)
theorem dX1_unload_25 : decode cX1_unload 25 = .ok (.ireturn, 1) := dk_172 (dk_at dksX1_unload_1 1 rfl rfl)
abbrev cX1_slide : ByteArray := prog_8_method_63_code
def yX1_slide : MethodName := ⟨RX1, "slide", "(II)I"⟩
def dkwX1_slide_1 : List UInt8 := [42, 180, 0, 63, 27, 28, 79, 29, 172]
abbrev dktX1_slide_1 : List UInt8 := dkwX1_slide_1 ++ []
def dkwX1_slide_0 : List UInt8 := [42, 27, 182, 0, 240, 153, 0, 10, 28, 184, 1, 30, 154, 0, 5, 2, 172, 42, 180, 0, 63, 27, 46, 62]
abbrev dktX1_slide_0 : List UInt8 := dkwX1_slide_0 ++ dktX1_slide_1
theorem dksX1_slide_0 : cX1_slide.data.toList.drop 0 = dktX1_slide_0 := by decide +kernel
theorem dksX1_slide_1 : cX1_slide.data.toList.drop 24 = dktX1_slide_1 := dk_seg dksX1_slide_0 24 rfl rfl
theorem dX1_slide_0 : decode cX1_slide 0 = .ok (.aload_n 0, 1) := dk_42 (dk_at dksX1_slide_0 0 rfl rfl)
theorem dX1_slide_1 : decode cX1_slide 1 = .ok (.iload_n 1, 1) := dk_27 (dk_at dksX1_slide_0 1 rfl rfl)
theorem dX1_slide_2 : decode cX1_slide 2 = .ok (.invokevirtual 240, 3) := dk_182 0 240 (dk_at dksX1_slide_0 2 rfl rfl)
theorem dX1_slide_5 : decode cX1_slide 5 = .ok (.ifCond .eq 10, 3) := dk_153 0 10 (dk_at dksX1_slide_0 5 rfl rfl)
theorem dX1_slide_8 : decode cX1_slide 8 = .ok (.iload_n 2, 1) := dk_28 (dk_at dksX1_slide_0 8 rfl rfl)
theorem dX1_slide_9 : decode cX1_slide 9 = .ok (.invokestatic 286, 3) := dk_184 1 30 (dk_at dksX1_slide_0 9 rfl rfl)
theorem dX1_slide_12 : decode cX1_slide 12 = .ok (.ifCond .ne 5, 3) := dk_154 0 5 (dk_at dksX1_slide_0 12 rfl rfl)
theorem dX1_slide_15 : decode cX1_slide 15 = .ok (.iconst (-1), 1) := dk_2 (dk_at dksX1_slide_0 15 rfl rfl)
theorem dX1_slide_16 : decode cX1_slide 16 = .ok (.ireturn, 1) := dk_172 (dk_at dksX1_slide_0 16 rfl rfl)
theorem dX1_slide_17 : decode cX1_slide 17 = .ok (.aload_n 0, 1) := dk_42 (dk_at dksX1_slide_0 17 rfl rfl)
theorem dX1_slide_18 : decode cX1_slide 18 = .ok (.getfield 63, 3) := dk_180 0 63 (dk_at dksX1_slide_0 18 rfl rfl)
theorem dX1_slide_21 : decode cX1_slide 21 = .ok (.iload_n 1, 1) := dk_27 (dk_at dksX1_slide_0 21 rfl rfl)
theorem dX1_slide_22 : decode cX1_slide 22 = .ok (.iaload, 1) := dk_46 (dk_at dksX1_slide_0 22 rfl rfl)
theorem dX1_slide_23 : decode cX1_slide 23 = .ok (.istore_n 3, 1) := dk_62 (dk_at dksX1_slide_0 23 rfl rfl)
theorem dX1_slide_24 : decode cX1_slide 24 = .ok (.aload_n 0, 1) := dk_42 (dk_at dksX1_slide_1 0 rfl rfl)
theorem dX1_slide_25 : decode cX1_slide 25 = .ok (.getfield 63, 3) := dk_180 0 63 (dk_at dksX1_slide_1 1 rfl rfl)
theorem dX1_slide_28 : decode cX1_slide 28 = .ok (.iload_n 1, 1) := dk_27 (dk_at dksX1_slide_1 4 rfl rfl)
theorem dX1_slide_29 : decode cX1_slide 29 = .ok (.iload_n 2, 1) := dk_28 (dk_at dksX1_slide_1 5 rfl rfl)
theorem dX1_slide_30 : decode cX1_slide 30 = .ok (.iastore, 1) := dk_79 (dk_at dksX1_slide_1 6 rfl rfl)
theorem dX1_slide_31 : decode cX1_slide 31 = .ok (.iload_n 3, 1) := dk_29 (dk_at dksX1_slide_1 7 rfl rfl)
theorem dX1_slide_32 : decode cX1_slide 32 = .ok (.ireturn, 1) := dk_172 (dk_at dksX1_slide_1 8 rfl rfl)
abbrev cX1_isAxle : ByteArray := prog_8_method_62_code
def yX1_isAxle : MethodName := ⟨RX1, "isAxle", "(I)Z"⟩
def dkwX1_isAxle_0 : List UInt8 := [26, 16, 60, 16, 120, 184, 0, 185, 172]
abbrev dktX1_isAxle_0 : List UInt8 := dkwX1_isAxle_0 ++ []
theorem dksX1_isAxle_0 : cX1_isAxle.data.toList.drop 0 = dktX1_isAxle_0 := by decide +kernel
theorem dX1_isAxle_0 : decode cX1_isAxle 0 = .ok (.iload_n 0, 1) := dk_26 (dk_at dksX1_isAxle_0 0 rfl rfl)
theorem dX1_isAxle_1 : decode cX1_isAxle 1 = .ok (.bipush 60, 2) := dk_16 60 (dk_at dksX1_isAxle_0 1 rfl rfl)
theorem dX1_isAxle_3 : decode cX1_isAxle 3 = .ok (.bipush 120, 2) := dk_16 120 (dk_at dksX1_isAxle_0 3 rfl rfl)
theorem dX1_isAxle_5 : decode cX1_isAxle 5 = .ok (.invokestatic 185, 3) := dk_184 0 185 (dk_at dksX1_isAxle_0 5 rfl rfl)
theorem dX1_isAxle_8 : decode cX1_isAxle 8 = .ok (.ireturn, 1) := dk_172 (dk_at dksX1_isAxle_0 8 rfl rfl)
abbrev cX1_weight : ByteArray := prog_8_method_66_code
def yX1_weight : MethodName := ⟨RX1, "weight", "(IZ)I"⟩
def dkwX1_weight_1 : List UInt8 := [180, 0, 63, 27, 46, 133, 182, 1, 41, 167, 0, 4, 2, 172]
abbrev dktX1_weight_1 : List UInt8 := dkwX1_weight_1 ++ []
def dkwX1_weight_0 : List UInt8 := [42, 27, 182, 0, 240, 153, 0, 29, 42, 42, 27, 42, 180, 0, 63, 27, 46, 28, 182, 1, 37, 42]
abbrev dktX1_weight_0 : List UInt8 := dkwX1_weight_0 ++ dktX1_weight_1
theorem dksX1_weight_0 : cX1_weight.data.toList.drop 0 = dktX1_weight_0 := by decide +kernel
theorem dksX1_weight_1 : cX1_weight.data.toList.drop 22 = dktX1_weight_1 := dk_seg dksX1_weight_0 22 rfl rfl
theorem dX1_weight_0 : decode cX1_weight 0 = .ok (.aload_n 0, 1) := dk_42 (dk_at dksX1_weight_0 0 rfl rfl)
theorem dX1_weight_1 : decode cX1_weight 1 = .ok (.iload_n 1, 1) := dk_27 (dk_at dksX1_weight_0 1 rfl rfl)
theorem dX1_weight_2 : decode cX1_weight 2 = .ok (.invokevirtual 240, 3) := dk_182 0 240 (dk_at dksX1_weight_0 2 rfl rfl)
theorem dX1_weight_5 : decode cX1_weight 5 = .ok (.ifCond .eq 29, 3) := dk_153 0 29 (dk_at dksX1_weight_0 5 rfl rfl)
theorem dX1_weight_8 : decode cX1_weight 8 = .ok (.aload_n 0, 1) := dk_42 (dk_at dksX1_weight_0 8 rfl rfl)
theorem dX1_weight_9 : decode cX1_weight 9 = .ok (.aload_n 0, 1) := dk_42 (dk_at dksX1_weight_0 9 rfl rfl)
theorem dX1_weight_10 : decode cX1_weight 10 = .ok (.iload_n 1, 1) := dk_27 (dk_at dksX1_weight_0 10 rfl rfl)
theorem dX1_weight_11 : decode cX1_weight 11 = .ok (.aload_n 0, 1) := dk_42 (dk_at dksX1_weight_0 11 rfl rfl)
theorem dX1_weight_12 : decode cX1_weight 12 = .ok (.getfield 63, 3) := dk_180 0 63 (dk_at dksX1_weight_0 12 rfl rfl)
theorem dX1_weight_15 : decode cX1_weight 15 = .ok (.iload_n 1, 1) := dk_27 (dk_at dksX1_weight_0 15 rfl rfl)
theorem dX1_weight_16 : decode cX1_weight 16 = .ok (.iaload, 1) := dk_46 (dk_at dksX1_weight_0 16 rfl rfl)
theorem dX1_weight_17 : decode cX1_weight 17 = .ok (.iload_n 2, 1) := dk_28 (dk_at dksX1_weight_0 17 rfl rfl)
theorem dX1_weight_18 : decode cX1_weight 18 = .ok (.invokevirtual 293, 3) := dk_182 1 37 (dk_at dksX1_weight_0 18 rfl rfl)
theorem dX1_weight_21 : decode cX1_weight 21 = .ok (.aload_n 0, 1) := dk_42 (dk_at dksX1_weight_0 21 rfl rfl)
theorem dX1_weight_22 : decode cX1_weight 22 = .ok (.getfield 63, 3) := dk_180 0 63 (dk_at dksX1_weight_1 0 rfl rfl)
theorem dX1_weight_25 : decode cX1_weight 25 = .ok (.iload_n 1, 1) := dk_27 (dk_at dksX1_weight_1 3 rfl rfl)
theorem dX1_weight_26 : decode cX1_weight 26 = .ok (.iaload, 1) := dk_46 (dk_at dksX1_weight_1 4 rfl rfl)
theorem dX1_weight_27 : decode cX1_weight 27 = .ok (.i2l, 1) := dk_133 (dk_at dksX1_weight_1 5 rfl rfl)
theorem dX1_weight_28 : decode cX1_weight 28 = .ok (.invokevirtual 297, 3) := dk_182 1 41 (dk_at dksX1_weight_1 6 rfl rfl)
theorem dX1_weight_31 : decode cX1_weight 31 = .ok (.goto 4, 3) := dk_167 0 4 (dk_at dksX1_weight_1 9 rfl rfl)
theorem dX1_weight_34 : decode cX1_weight 34 = .ok (.iconst (-1), 1) := dk_2 (dk_at dksX1_weight_1 12 rfl rfl)
theorem dX1_weight_35 : decode cX1_weight 35 = .ok (.ireturn, 1) := dk_172 (dk_at dksX1_weight_1 13 rfl rfl)
abbrev cX1_liesOn : ByteArray := prog_8_method_65_code
def yX1_liesOn : MethodName := ⟨RX1, "liesOn", "(IIZ)J"⟩
def dkwX1_liesOn_1 : List UInt8 := [27, 4, 182, 1, 33, 173]
abbrev dktX1_liesOn_1 : List UInt8 := dkwX1_liesOn_1 ++ []
def dkwX1_liesOn_0 : List UInt8 := [29, 153, 0, 22, 42, 27, 3, 182, 1, 33, 28, 133, 105, 42, 27, 4, 182, 1, 33, 101, 167, 0, 9, 42]
abbrev dktX1_liesOn_0 : List UInt8 := dkwX1_liesOn_0 ++ dktX1_liesOn_1
theorem dksX1_liesOn_0 : cX1_liesOn.data.toList.drop 0 = dktX1_liesOn_0 := by decide +kernel
theorem dksX1_liesOn_1 : cX1_liesOn.data.toList.drop 24 = dktX1_liesOn_1 := dk_seg dksX1_liesOn_0 24 rfl rfl
theorem dX1_liesOn_0 : decode cX1_liesOn 0 = .ok (.iload_n 3, 1) := dk_29 (dk_at dksX1_liesOn_0 0 rfl rfl)
theorem dX1_liesOn_1 : decode cX1_liesOn 1 = .ok (.ifCond .eq 22, 3) := dk_153 0 22 (dk_at dksX1_liesOn_0 1 rfl rfl)
theorem dX1_liesOn_4 : decode cX1_liesOn 4 = .ok (.aload_n 0, 1) := dk_42 (dk_at dksX1_liesOn_0 4 rfl rfl)
theorem dX1_liesOn_5 : decode cX1_liesOn 5 = .ok (.iload_n 1, 1) := dk_27 (dk_at dksX1_liesOn_0 5 rfl rfl)
theorem dX1_liesOn_6 : decode cX1_liesOn 6 = .ok (.iconst 0, 1) := dk_3 (dk_at dksX1_liesOn_0 6 rfl rfl)
theorem dX1_liesOn_7 : decode cX1_liesOn 7 = .ok (.invokevirtual 289, 3) := dk_182 1 33 (dk_at dksX1_liesOn_0 7 rfl rfl)
theorem dX1_liesOn_10 : decode cX1_liesOn 10 = .ok (.iload_n 2, 1) := dk_28 (dk_at dksX1_liesOn_0 10 rfl rfl)
theorem dX1_liesOn_11 : decode cX1_liesOn 11 = .ok (.i2l, 1) := dk_133 (dk_at dksX1_liesOn_0 11 rfl rfl)
theorem dX1_liesOn_12 : decode cX1_liesOn 12 = .ok (.lmul, 1) := dk_105 (dk_at dksX1_liesOn_0 12 rfl rfl)
theorem dX1_liesOn_13 : decode cX1_liesOn 13 = .ok (.aload_n 0, 1) := dk_42 (dk_at dksX1_liesOn_0 13 rfl rfl)
theorem dX1_liesOn_14 : decode cX1_liesOn 14 = .ok (.iload_n 1, 1) := dk_27 (dk_at dksX1_liesOn_0 14 rfl rfl)
theorem dX1_liesOn_15 : decode cX1_liesOn 15 = .ok (.iconst 1, 1) := dk_4 (dk_at dksX1_liesOn_0 15 rfl rfl)
theorem dX1_liesOn_16 : decode cX1_liesOn 16 = .ok (.invokevirtual 289, 3) := dk_182 1 33 (dk_at dksX1_liesOn_0 16 rfl rfl)
theorem dX1_liesOn_19 : decode cX1_liesOn 19 = .ok (.lsub, 1) := dk_101 (dk_at dksX1_liesOn_0 19 rfl rfl)
theorem dX1_liesOn_20 : decode cX1_liesOn 20 = .ok (.goto 9, 3) := dk_167 0 9 (dk_at dksX1_liesOn_0 20 rfl rfl)
theorem dX1_liesOn_23 : decode cX1_liesOn 23 = .ok (.aload_n 0, 1) := dk_42 (dk_at dksX1_liesOn_0 23 rfl rfl)
theorem dX1_liesOn_24 : decode cX1_liesOn 24 = .ok (.iload_n 1, 1) := dk_27 (dk_at dksX1_liesOn_1 0 rfl rfl)
theorem dX1_liesOn_25 : decode cX1_liesOn 25 = .ok (.iconst 1, 1) := dk_4 (dk_at dksX1_liesOn_1 1 rfl rfl)
theorem dX1_liesOn_26 : decode cX1_liesOn 26 = .ok (.invokevirtual 289, 3) := dk_182 1 33 (dk_at dksX1_liesOn_1 2 rfl rfl)
theorem dX1_liesOn_29 : decode cX1_liesOn 29 = .ok (.lreturn, 1) := dk_173 (dk_at dksX1_liesOn_1 5 rfl rfl)
abbrev cX1_sumOf : ByteArray := prog_8_method_64_code
def yX1_sumOf : MethodName := ⟨RX1, "sumOf", "(IZ)J"⟩
def dkwX1_sumOf_3 : List UInt8 := [167, 255, 192, 33, 173]
abbrev dktX1_sumOf_3 : List UInt8 := dkwX1_sumOf_3 ++ []
def dkwX1_sumOf_2 : List UInt8 := [133, 105, 167, 0, 16, 42, 180, 0, 69, 16, 6, 27, 104, 21, 5, 96, 46, 133, 97, 66, 132, 5, 1]
abbrev dktX1_sumOf_2 : List UInt8 := dkwX1_sumOf_2 ++ dktX1_sumOf_3
def dkwX1_sumOf_1 : List UInt8 := [180, 0, 69, 16, 6, 27, 104, 21, 5, 96, 46, 133, 42, 180, 0, 72, 16, 6, 27, 104, 21, 5, 96, 46]
abbrev dktX1_sumOf_1 : List UInt8 := dkwX1_sumOf_1 ++ dktX1_sumOf_2
def dkwX1_sumOf_0 : List UInt8 := [9, 66, 3, 54, 5, 21, 5, 42, 180, 0, 66, 27, 46, 162, 0, 59, 33, 28, 153, 0, 33, 42]
abbrev dktX1_sumOf_0 : List UInt8 := dkwX1_sumOf_0 ++ dktX1_sumOf_1
theorem dksX1_sumOf_0 : cX1_sumOf.data.toList.drop 0 = dktX1_sumOf_0 := by decide +kernel
theorem dksX1_sumOf_1 : cX1_sumOf.data.toList.drop 22 = dktX1_sumOf_1 := dk_seg dksX1_sumOf_0 22 rfl rfl
theorem dksX1_sumOf_2 : cX1_sumOf.data.toList.drop 46 = dktX1_sumOf_2 := dk_seg dksX1_sumOf_1 24 rfl rfl
theorem dksX1_sumOf_3 : cX1_sumOf.data.toList.drop 69 = dktX1_sumOf_3 := dk_seg dksX1_sumOf_2 23 rfl rfl
theorem dX1_sumOf_0 : decode cX1_sumOf 0 = .ok (.lconst 0, 1) := dk_9 (dk_at dksX1_sumOf_0 0 rfl rfl)
theorem dX1_sumOf_1 : decode cX1_sumOf 1 = .ok (.lstore_n 3, 1) := dk_66 (dk_at dksX1_sumOf_0 1 rfl rfl)
theorem dX1_sumOf_2 : decode cX1_sumOf 2 = .ok (.iconst 0, 1) := dk_3 (dk_at dksX1_sumOf_0 2 rfl rfl)
theorem dX1_sumOf_3 : decode cX1_sumOf 3 = .ok (.istore 5, 2) := dk_54 5 (dk_at dksX1_sumOf_0 3 rfl rfl)
theorem dX1_sumOf_5 : decode cX1_sumOf 5 = .ok (.iload 5, 2) := dk_21 5 (dk_at dksX1_sumOf_0 5 rfl rfl)
theorem dX1_sumOf_7 : decode cX1_sumOf 7 = .ok (.aload_n 0, 1) := dk_42 (dk_at dksX1_sumOf_0 7 rfl rfl)
theorem dX1_sumOf_8 : decode cX1_sumOf 8 = .ok (.getfield 66, 3) := dk_180 0 66 (dk_at dksX1_sumOf_0 8 rfl rfl)
theorem dX1_sumOf_11 : decode cX1_sumOf 11 = .ok (.iload_n 1, 1) := dk_27 (dk_at dksX1_sumOf_0 11 rfl rfl)
theorem dX1_sumOf_12 : decode cX1_sumOf 12 = .ok (.iaload, 1) := dk_46 (dk_at dksX1_sumOf_0 12 rfl rfl)
theorem dX1_sumOf_13 : decode cX1_sumOf 13 = .ok (.if_icmp .ge 59, 3) := dk_162 0 59 (dk_at dksX1_sumOf_0 13 rfl rfl)
theorem dX1_sumOf_16 : decode cX1_sumOf 16 = .ok (.lload_n 3, 1) := dk_33 (dk_at dksX1_sumOf_0 16 rfl rfl)
theorem dX1_sumOf_17 : decode cX1_sumOf 17 = .ok (.iload_n 2, 1) := dk_28 (dk_at dksX1_sumOf_0 17 rfl rfl)
theorem dX1_sumOf_18 : decode cX1_sumOf 18 = .ok (.ifCond .eq 33, 3) := dk_153 0 33 (dk_at dksX1_sumOf_0 18 rfl rfl)
theorem dX1_sumOf_21 : decode cX1_sumOf 21 = .ok (.aload_n 0, 1) := dk_42 (dk_at dksX1_sumOf_0 21 rfl rfl)
theorem dX1_sumOf_22 : decode cX1_sumOf 22 = .ok (.getfield 69, 3) := dk_180 0 69 (dk_at dksX1_sumOf_1 0 rfl rfl)
theorem dX1_sumOf_25 : decode cX1_sumOf 25 = .ok (.bipush 6, 2) := dk_16 6 (dk_at dksX1_sumOf_1 3 rfl rfl)
theorem dX1_sumOf_27 : decode cX1_sumOf 27 = .ok (.iload_n 1, 1) := dk_27 (dk_at dksX1_sumOf_1 5 rfl rfl)
theorem dX1_sumOf_28 : decode cX1_sumOf 28 = .ok (.imul, 1) := dk_104 (dk_at dksX1_sumOf_1 6 rfl rfl)
theorem dX1_sumOf_29 : decode cX1_sumOf 29 = .ok (.iload 5, 2) := dk_21 5 (dk_at dksX1_sumOf_1 7 rfl rfl)
theorem dX1_sumOf_31 : decode cX1_sumOf 31 = .ok (.iadd, 1) := dk_96 (dk_at dksX1_sumOf_1 9 rfl rfl)
theorem dX1_sumOf_32 : decode cX1_sumOf 32 = .ok (.iaload, 1) := dk_46 (dk_at dksX1_sumOf_1 10 rfl rfl)
theorem dX1_sumOf_33 : decode cX1_sumOf 33 = .ok (.i2l, 1) := dk_133 (dk_at dksX1_sumOf_1 11 rfl rfl)
theorem dX1_sumOf_34 : decode cX1_sumOf 34 = .ok (.aload_n 0, 1) := dk_42 (dk_at dksX1_sumOf_1 12 rfl rfl)
theorem dX1_sumOf_35 : decode cX1_sumOf 35 = .ok (.getfield 72, 3) := dk_180 0 72 (dk_at dksX1_sumOf_1 13 rfl rfl)
theorem dX1_sumOf_38 : decode cX1_sumOf 38 = .ok (.bipush 6, 2) := dk_16 6 (dk_at dksX1_sumOf_1 16 rfl rfl)
theorem dX1_sumOf_40 : decode cX1_sumOf 40 = .ok (.iload_n 1, 1) := dk_27 (dk_at dksX1_sumOf_1 18 rfl rfl)
theorem dX1_sumOf_41 : decode cX1_sumOf 41 = .ok (.imul, 1) := dk_104 (dk_at dksX1_sumOf_1 19 rfl rfl)
theorem dX1_sumOf_42 : decode cX1_sumOf 42 = .ok (.iload 5, 2) := dk_21 5 (dk_at dksX1_sumOf_1 20 rfl rfl)
theorem dX1_sumOf_44 : decode cX1_sumOf 44 = .ok (.iadd, 1) := dk_96 (dk_at dksX1_sumOf_1 22 rfl rfl)
theorem dX1_sumOf_45 : decode cX1_sumOf 45 = .ok (.iaload, 1) := dk_46 (dk_at dksX1_sumOf_1 23 rfl rfl)
theorem dX1_sumOf_46 : decode cX1_sumOf 46 = .ok (.i2l, 1) := dk_133 (dk_at dksX1_sumOf_2 0 rfl rfl)
theorem dX1_sumOf_47 : decode cX1_sumOf 47 = .ok (.lmul, 1) := dk_105 (dk_at dksX1_sumOf_2 1 rfl rfl)
theorem dX1_sumOf_48 : decode cX1_sumOf 48 = .ok (.goto 16, 3) := dk_167 0 16 (dk_at dksX1_sumOf_2 2 rfl rfl)
theorem dX1_sumOf_51 : decode cX1_sumOf 51 = .ok (.aload_n 0, 1) := dk_42 (dk_at dksX1_sumOf_2 5 rfl rfl)
theorem dX1_sumOf_52 : decode cX1_sumOf 52 = .ok (.getfield 69, 3) := dk_180 0 69 (dk_at dksX1_sumOf_2 6 rfl rfl)
theorem dX1_sumOf_55 : decode cX1_sumOf 55 = .ok (.bipush 6, 2) := dk_16 6 (dk_at dksX1_sumOf_2 9 rfl rfl)
theorem dX1_sumOf_57 : decode cX1_sumOf 57 = .ok (.iload_n 1, 1) := dk_27 (dk_at dksX1_sumOf_2 11 rfl rfl)
theorem dX1_sumOf_58 : decode cX1_sumOf 58 = .ok (.imul, 1) := dk_104 (dk_at dksX1_sumOf_2 12 rfl rfl)
theorem dX1_sumOf_59 : decode cX1_sumOf 59 = .ok (.iload 5, 2) := dk_21 5 (dk_at dksX1_sumOf_2 13 rfl rfl)
theorem dX1_sumOf_61 : decode cX1_sumOf 61 = .ok (.iadd, 1) := dk_96 (dk_at dksX1_sumOf_2 15 rfl rfl)
theorem dX1_sumOf_62 : decode cX1_sumOf 62 = .ok (.iaload, 1) := dk_46 (dk_at dksX1_sumOf_2 16 rfl rfl)
theorem dX1_sumOf_63 : decode cX1_sumOf 63 = .ok (.i2l, 1) := dk_133 (dk_at dksX1_sumOf_2 17 rfl rfl)
theorem dX1_sumOf_64 : decode cX1_sumOf 64 = .ok (.ladd, 1) := dk_97 (dk_at dksX1_sumOf_2 18 rfl rfl)
theorem dX1_sumOf_65 : decode cX1_sumOf 65 = .ok (.lstore_n 3, 1) := dk_66 (dk_at dksX1_sumOf_2 19 rfl rfl)
theorem dX1_sumOf_66 : decode cX1_sumOf 66 = .ok (.iinc 5 1, 3) := dk_132 5 1 (dk_at dksX1_sumOf_2 20 rfl rfl)
theorem dX1_sumOf_69 : decode cX1_sumOf 69 = .ok (.goto (-64), 3) := dk_167 255 192 (dk_at dksX1_sumOf_3 0 rfl rfl)
theorem dX1_sumOf_72 : decode cX1_sumOf 72 = .ok (.lload_n 3, 1) := dk_33 (dk_at dksX1_sumOf_3 3 rfl rfl)
theorem dX1_sumOf_73 : decode cX1_sumOf 73 = .ok (.lreturn, 1) := dk_173 (dk_at dksX1_sumOf_3 4 rfl rfl)
abbrev cX1_share : ByteArray := prog_8_method_6_code
def yX1_share : MethodName := ⟨RX1, "share", "(JJ)I"⟩
def dkwX1_share_2 : List UInt8 := [181, 0, 182, 42, 33, 22, 5, 109, 181, 0, 13, 4, 172]
abbrev dktX1_share_2 : List UInt8 := dkwX1_share_2 ++ []
def dkwX1_share_1 : List UInt8 := [22, 5, 22, 7, 113, 55, 9, 22, 7, 55, 5, 22, 9, 55, 7, 167, 255, 234, 42, 31, 22, 5, 109]
abbrev dktX1_share_1 : List UInt8 := dkwX1_share_1 ++ dktX1_share_2
def dkwX1_share_0 : List UInt8 := [31, 9, 148, 156, 0, 8, 31, 117, 167, 0, 4, 31, 55, 5, 33, 55, 7, 22, 7, 9, 148, 153, 0, 21]
abbrev dktX1_share_0 : List UInt8 := dkwX1_share_0 ++ dktX1_share_1
theorem dksX1_share_0 : cX1_share.data.toList.drop 0 = dktX1_share_0 := by decide +kernel
theorem dksX1_share_1 : cX1_share.data.toList.drop 24 = dktX1_share_1 := dk_seg dksX1_share_0 24 rfl rfl
theorem dksX1_share_2 : cX1_share.data.toList.drop 47 = dktX1_share_2 := dk_seg dksX1_share_1 23 rfl rfl
theorem dX1_share_0 : decode cX1_share 0 = .ok (.lload_n 1, 1) := dk_31 (dk_at dksX1_share_0 0 rfl rfl)
theorem dX1_share_1 : decode cX1_share 1 = .ok (.lconst 0, 1) := dk_9 (dk_at dksX1_share_0 1 rfl rfl)
theorem dX1_share_2 : decode cX1_share 2 = .ok (.lcmp, 1) := dk_148 (dk_at dksX1_share_0 2 rfl rfl)
theorem dX1_share_3 : decode cX1_share 3 = .ok (.ifCond .ge 8, 3) := dk_156 0 8 (dk_at dksX1_share_0 3 rfl rfl)
theorem dX1_share_6 : decode cX1_share 6 = .ok (.lload_n 1, 1) := dk_31 (dk_at dksX1_share_0 6 rfl rfl)
theorem dX1_share_7 : decode cX1_share 7 = .ok (.lneg, 1) := dk_117 (dk_at dksX1_share_0 7 rfl rfl)
theorem dX1_share_8 : decode cX1_share 8 = .ok (.goto 4, 3) := dk_167 0 4 (dk_at dksX1_share_0 8 rfl rfl)
theorem dX1_share_11 : decode cX1_share 11 = .ok (.lload_n 1, 1) := dk_31 (dk_at dksX1_share_0 11 rfl rfl)
theorem dX1_share_12 : decode cX1_share 12 = .ok (.lstore 5, 2) := dk_55 5 (dk_at dksX1_share_0 12 rfl rfl)
theorem dX1_share_14 : decode cX1_share 14 = .ok (.lload_n 3, 1) := dk_33 (dk_at dksX1_share_0 14 rfl rfl)
theorem dX1_share_15 : decode cX1_share 15 = .ok (.lstore 7, 2) := dk_55 7 (dk_at dksX1_share_0 15 rfl rfl)
theorem dX1_share_17 : decode cX1_share 17 = .ok (.lload 7, 2) := dk_22 7 (dk_at dksX1_share_0 17 rfl rfl)
theorem dX1_share_19 : decode cX1_share 19 = .ok (.lconst 0, 1) := dk_9 (dk_at dksX1_share_0 19 rfl rfl)
theorem dX1_share_20 : decode cX1_share 20 = .ok (.lcmp, 1) := dk_148 (dk_at dksX1_share_0 20 rfl rfl)
theorem dX1_share_21 : decode cX1_share 21 = .ok (.ifCond .eq 21, 3) := dk_153 0 21 (dk_at dksX1_share_0 21 rfl rfl)
theorem dX1_share_24 : decode cX1_share 24 = .ok (.lload 5, 2) := dk_22 5 (dk_at dksX1_share_1 0 rfl rfl)
theorem dX1_share_26 : decode cX1_share 26 = .ok (.lload 7, 2) := dk_22 7 (dk_at dksX1_share_1 2 rfl rfl)
theorem dX1_share_28 : decode cX1_share 28 = .ok (.lrem, 1) := dk_113 (dk_at dksX1_share_1 4 rfl rfl)
theorem dX1_share_29 : decode cX1_share 29 = .ok (.lstore 9, 2) := dk_55 9 (dk_at dksX1_share_1 5 rfl rfl)
theorem dX1_share_31 : decode cX1_share 31 = .ok (.lload 7, 2) := dk_22 7 (dk_at dksX1_share_1 7 rfl rfl)
theorem dX1_share_33 : decode cX1_share 33 = .ok (.lstore 5, 2) := dk_55 5 (dk_at dksX1_share_1 9 rfl rfl)
theorem dX1_share_35 : decode cX1_share 35 = .ok (.lload 9, 2) := dk_22 9 (dk_at dksX1_share_1 11 rfl rfl)
theorem dX1_share_37 : decode cX1_share 37 = .ok (.lstore 7, 2) := dk_55 7 (dk_at dksX1_share_1 13 rfl rfl)
theorem dX1_share_39 : decode cX1_share 39 = .ok (.goto (-22), 3) := dk_167 255 234 (dk_at dksX1_share_1 15 rfl rfl)
theorem dX1_share_42 : decode cX1_share 42 = .ok (.aload_n 0, 1) := dk_42 (dk_at dksX1_share_1 18 rfl rfl)
theorem dX1_share_43 : decode cX1_share 43 = .ok (.lload_n 1, 1) := dk_31 (dk_at dksX1_share_1 19 rfl rfl)
theorem dX1_share_44 : decode cX1_share 44 = .ok (.lload 5, 2) := dk_22 5 (dk_at dksX1_share_1 20 rfl rfl)
theorem dX1_share_46 : decode cX1_share 46 = .ok (.ldiv, 1) := dk_109 (dk_at dksX1_share_1 22 rfl rfl)
theorem dX1_share_47 : decode cX1_share 47 = .ok (.putfield 182, 3) := dk_181 0 182 (dk_at dksX1_share_2 0 rfl rfl)
theorem dX1_share_50 : decode cX1_share 50 = .ok (.aload_n 0, 1) := dk_42 (dk_at dksX1_share_2 3 rfl rfl)
theorem dX1_share_51 : decode cX1_share 51 = .ok (.lload_n 3, 1) := dk_33 (dk_at dksX1_share_2 4 rfl rfl)
theorem dX1_share_52 : decode cX1_share 52 = .ok (.lload 5, 2) := dk_22 5 (dk_at dksX1_share_2 5 rfl rfl)
theorem dX1_share_54 : decode cX1_share 54 = .ok (.ldiv, 1) := dk_109 (dk_at dksX1_share_2 7 rfl rfl)
theorem dX1_share_55 : decode cX1_share 55 = .ok (.putfield 13, 3) := dk_181 0 13 (dk_at dksX1_share_2 8 rfl rfl)
theorem dX1_share_58 : decode cX1_share 58 = .ok (.iconst 1, 1) := dk_4 (dk_at dksX1_share_2 11 rfl rfl)
theorem dX1_share_59 : decode cX1_share 59 = .ok (.ireturn, 1) := dk_172 (dk_at dksX1_share_2 12 rfl rfl)
abbrev cX1_lawful : ByteArray := prog_8_method_68_code
def yX1_lawful : MethodName := ⟨RX1, "lawful", "(I)I"⟩
def dkwX1_lawful_1 : List UInt8 := [167, 0, 8, 3, 167, 0, 4, 2, 172]
abbrev dktX1_lawful_1 : List UInt8 := dkwX1_lawful_1 ++ []
def dkwX1_lawful_0 : List UInt8 := [42, 27, 182, 0, 240, 153, 0, 25, 42, 27, 42, 180, 0, 63, 27, 46, 182, 1, 45, 153, 0, 7, 4]
abbrev dktX1_lawful_0 : List UInt8 := dkwX1_lawful_0 ++ dktX1_lawful_1
theorem dksX1_lawful_0 : cX1_lawful.data.toList.drop 0 = dktX1_lawful_0 := by decide +kernel
theorem dksX1_lawful_1 : cX1_lawful.data.toList.drop 23 = dktX1_lawful_1 := dk_seg dksX1_lawful_0 23 rfl rfl
theorem dX1_lawful_0 : decode cX1_lawful 0 = .ok (.aload_n 0, 1) := dk_42 (dk_at dksX1_lawful_0 0 rfl rfl)
theorem dX1_lawful_1 : decode cX1_lawful 1 = .ok (.iload_n 1, 1) := dk_27 (dk_at dksX1_lawful_0 1 rfl rfl)
theorem dX1_lawful_2 : decode cX1_lawful 2 = .ok (.invokevirtual 240, 3) := dk_182 0 240 (dk_at dksX1_lawful_0 2 rfl rfl)
theorem dX1_lawful_5 : decode cX1_lawful 5 = .ok (.ifCond .eq 25, 3) := dk_153 0 25 (dk_at dksX1_lawful_0 5 rfl rfl)
theorem dX1_lawful_8 : decode cX1_lawful 8 = .ok (.aload_n 0, 1) := dk_42 (dk_at dksX1_lawful_0 8 rfl rfl)
theorem dX1_lawful_9 : decode cX1_lawful 9 = .ok (.iload_n 1, 1) := dk_27 (dk_at dksX1_lawful_0 9 rfl rfl)
theorem dX1_lawful_10 : decode cX1_lawful 10 = .ok (.aload_n 0, 1) := dk_42 (dk_at dksX1_lawful_0 10 rfl rfl)
theorem dX1_lawful_11 : decode cX1_lawful 11 = .ok (.getfield 63, 3) := dk_180 0 63 (dk_at dksX1_lawful_0 11 rfl rfl)
theorem dX1_lawful_14 : decode cX1_lawful 14 = .ok (.iload_n 1, 1) := dk_27 (dk_at dksX1_lawful_0 14 rfl rfl)
theorem dX1_lawful_15 : decode cX1_lawful 15 = .ok (.iaload, 1) := dk_46 (dk_at dksX1_lawful_0 15 rfl rfl)
theorem dX1_lawful_16 : decode cX1_lawful 16 = .ok (.invokevirtual 301, 3) := dk_182 1 45 (dk_at dksX1_lawful_0 16 rfl rfl)
theorem dX1_lawful_19 : decode cX1_lawful 19 = .ok (.ifCond .eq 7, 3) := dk_153 0 7 (dk_at dksX1_lawful_0 19 rfl rfl)
theorem dX1_lawful_22 : decode cX1_lawful 22 = .ok (.iconst 1, 1) := dk_4 (dk_at dksX1_lawful_0 22 rfl rfl)
theorem dX1_lawful_23 : decode cX1_lawful 23 = .ok (.goto 8, 3) := dk_167 0 8 (dk_at dksX1_lawful_1 0 rfl rfl)
theorem dX1_lawful_26 : decode cX1_lawful 26 = .ok (.iconst 0, 1) := dk_3 (dk_at dksX1_lawful_1 3 rfl rfl)
theorem dX1_lawful_27 : decode cX1_lawful 27 = .ok (.goto 4, 3) := dk_167 0 4 (dk_at dksX1_lawful_1 4 rfl rfl)
theorem dX1_lawful_30 : decode cX1_lawful 30 = .ok (.iconst (-1), 1) := dk_2 (dk_at dksX1_lawful_1 7 rfl rfl)
theorem dX1_lawful_31 : decode cX1_lawful 31 = .ok (.ireturn, 1) := dk_172 (dk_at dksX1_lawful_1 8 rfl rfl)
abbrev cX1_isLawful : ByteArray := prog_8_method_67_code
def yX1_isLawful : MethodName := ⟨RX1, "isLawful", "(II)Z"⟩
def dkwX1_isLawful_2 : List UInt8 := [167, 0, 4, 3, 172]
abbrev dktX1_isLawful_2 : List UInt8 := dkwX1_isLawful_2 ++ []
def dkwX1_isLawful_1 : List UInt8 := [157, 0, 26, 33, 9, 148, 155, 0, 20, 33, 42, 180, 0, 130, 133, 28, 133, 105, 148, 157, 0, 7, 4]
abbrev dktX1_isLawful_1 : List UInt8 := dkwX1_isLawful_1 ++ dktX1_isLawful_2
def dkwX1_isLawful_0 : List UInt8 := [42, 27, 28, 4, 182, 1, 37, 66, 42, 27, 28, 3, 182, 1, 37, 42, 180, 0, 126, 133, 28, 133, 105, 148]
abbrev dktX1_isLawful_0 : List UInt8 := dkwX1_isLawful_0 ++ dktX1_isLawful_1
theorem dksX1_isLawful_0 : cX1_isLawful.data.toList.drop 0 = dktX1_isLawful_0 := by decide +kernel
theorem dksX1_isLawful_1 : cX1_isLawful.data.toList.drop 24 = dktX1_isLawful_1 := dk_seg dksX1_isLawful_0 24 rfl rfl
theorem dksX1_isLawful_2 : cX1_isLawful.data.toList.drop 47 = dktX1_isLawful_2 := dk_seg dksX1_isLawful_1 23 rfl rfl
theorem dX1_isLawful_0 : decode cX1_isLawful 0 = .ok (.aload_n 0, 1) := dk_42 (dk_at dksX1_isLawful_0 0 rfl rfl)
theorem dX1_isLawful_1 : decode cX1_isLawful 1 = .ok (.iload_n 1, 1) := dk_27 (dk_at dksX1_isLawful_0 1 rfl rfl)
theorem dX1_isLawful_2 : decode cX1_isLawful 2 = .ok (.iload_n 2, 1) := dk_28 (dk_at dksX1_isLawful_0 2 rfl rfl)
theorem dX1_isLawful_3 : decode cX1_isLawful 3 = .ok (.iconst 1, 1) := dk_4 (dk_at dksX1_isLawful_0 3 rfl rfl)
theorem dX1_isLawful_4 : decode cX1_isLawful 4 = .ok (.invokevirtual 293, 3) := dk_182 1 37 (dk_at dksX1_isLawful_0 4 rfl rfl)
theorem dX1_isLawful_7 : decode cX1_isLawful 7 = .ok (.lstore_n 3, 1) := dk_66 (dk_at dksX1_isLawful_0 7 rfl rfl)
theorem dX1_isLawful_8 : decode cX1_isLawful 8 = .ok (.aload_n 0, 1) := dk_42 (dk_at dksX1_isLawful_0 8 rfl rfl)
theorem dX1_isLawful_9 : decode cX1_isLawful 9 = .ok (.iload_n 1, 1) := dk_27 (dk_at dksX1_isLawful_0 9 rfl rfl)
theorem dX1_isLawful_10 : decode cX1_isLawful 10 = .ok (.iload_n 2, 1) := dk_28 (dk_at dksX1_isLawful_0 10 rfl rfl)
theorem dX1_isLawful_11 : decode cX1_isLawful 11 = .ok (.iconst 0, 1) := dk_3 (dk_at dksX1_isLawful_0 11 rfl rfl)
theorem dX1_isLawful_12 : decode cX1_isLawful 12 = .ok (.invokevirtual 293, 3) := dk_182 1 37 (dk_at dksX1_isLawful_0 12 rfl rfl)
theorem dX1_isLawful_15 : decode cX1_isLawful 15 = .ok (.aload_n 0, 1) := dk_42 (dk_at dksX1_isLawful_0 15 rfl rfl)
theorem dX1_isLawful_16 : decode cX1_isLawful 16 = .ok (.getfield 126, 3) := dk_180 0 126 (dk_at dksX1_isLawful_0 16 rfl rfl)
theorem dX1_isLawful_19 : decode cX1_isLawful 19 = .ok (.i2l, 1) := dk_133 (dk_at dksX1_isLawful_0 19 rfl rfl)
theorem dX1_isLawful_20 : decode cX1_isLawful 20 = .ok (.iload_n 2, 1) := dk_28 (dk_at dksX1_isLawful_0 20 rfl rfl)
theorem dX1_isLawful_21 : decode cX1_isLawful 21 = .ok (.i2l, 1) := dk_133 (dk_at dksX1_isLawful_0 21 rfl rfl)
theorem dX1_isLawful_22 : decode cX1_isLawful 22 = .ok (.lmul, 1) := dk_105 (dk_at dksX1_isLawful_0 22 rfl rfl)
theorem dX1_isLawful_23 : decode cX1_isLawful 23 = .ok (.lcmp, 1) := dk_148 (dk_at dksX1_isLawful_0 23 rfl rfl)
theorem dX1_isLawful_24 : decode cX1_isLawful 24 = .ok (.ifCond .gt 26, 3) := dk_157 0 26 (dk_at dksX1_isLawful_1 0 rfl rfl)
theorem dX1_isLawful_27 : decode cX1_isLawful 27 = .ok (.lload_n 3, 1) := dk_33 (dk_at dksX1_isLawful_1 3 rfl rfl)
theorem dX1_isLawful_28 : decode cX1_isLawful 28 = .ok (.lconst 0, 1) := dk_9 (dk_at dksX1_isLawful_1 4 rfl rfl)
theorem dX1_isLawful_29 : decode cX1_isLawful 29 = .ok (.lcmp, 1) := dk_148 (dk_at dksX1_isLawful_1 5 rfl rfl)
theorem dX1_isLawful_30 : decode cX1_isLawful 30 = .ok (.ifCond .lt 20, 3) := dk_155 0 20 (dk_at dksX1_isLawful_1 6 rfl rfl)
theorem dX1_isLawful_33 : decode cX1_isLawful 33 = .ok (.lload_n 3, 1) := dk_33 (dk_at dksX1_isLawful_1 9 rfl rfl)
theorem dX1_isLawful_34 : decode cX1_isLawful 34 = .ok (.aload_n 0, 1) := dk_42 (dk_at dksX1_isLawful_1 10 rfl rfl)
theorem dX1_isLawful_35 : decode cX1_isLawful 35 = .ok (.getfield 130, 3) := dk_180 0 130 (dk_at dksX1_isLawful_1 11 rfl rfl)
theorem dX1_isLawful_38 : decode cX1_isLawful 38 = .ok (.i2l, 1) := dk_133 (dk_at dksX1_isLawful_1 14 rfl rfl)
theorem dX1_isLawful_39 : decode cX1_isLawful 39 = .ok (.iload_n 2, 1) := dk_28 (dk_at dksX1_isLawful_1 15 rfl rfl)
theorem dX1_isLawful_40 : decode cX1_isLawful 40 = .ok (.i2l, 1) := dk_133 (dk_at dksX1_isLawful_1 16 rfl rfl)
theorem dX1_isLawful_41 : decode cX1_isLawful 41 = .ok (.lmul, 1) := dk_105 (dk_at dksX1_isLawful_1 17 rfl rfl)
theorem dX1_isLawful_42 : decode cX1_isLawful 42 = .ok (.lcmp, 1) := dk_148 (dk_at dksX1_isLawful_1 18 rfl rfl)
theorem dX1_isLawful_43 : decode cX1_isLawful 43 = .ok (.ifCond .gt 7, 3) := dk_157 0 7 (dk_at dksX1_isLawful_1 19 rfl rfl)
theorem dX1_isLawful_46 : decode cX1_isLawful 46 = .ok (.iconst 1, 1) := dk_4 (dk_at dksX1_isLawful_1 22 rfl rfl)
theorem dX1_isLawful_47 : decode cX1_isLawful 47 = .ok (.goto 4, 3) := dk_167 0 4 (dk_at dksX1_isLawful_2 0 rfl rfl)
theorem dX1_isLawful_50 : decode cX1_isLawful 50 = .ok (.iconst 0, 1) := dk_3 (dk_at dksX1_isLawful_2 3 rfl rfl)
theorem dX1_isLawful_51 : decode cX1_isLawful 51 = .ok (.ireturn, 1) := dk_172 (dk_at dksX1_isLawful_2 4 rfl rfl)
abbrev cX1_shift : ByteArray := prog_8_method_69_code
def yX1_shift : MethodName := ⟨RX1, "shift", "(I)I"⟩
def dkwX1_shift_4 : List UInt8 := [132, 2, 1, 167, 255, 169, 16, 247, 172]
abbrev dktX1_shift_4 : List UInt8 := dkwX1_shift_4 ++ []
def dkwX1_shift_3 : List UInt8 := [27, 42, 180, 0, 63, 27, 46, 28, 96, 182, 1, 45, 153, 0, 12, 42, 180, 0, 63, 27, 46, 28, 96, 172]
abbrev dktX1_shift_3 : List UInt8 := dkwX1_shift_3 ++ dktX1_shift_4
def dkwX1_shift_2 : List UInt8 := [42, 180, 0, 63, 27, 46, 28, 100, 172, 42, 180, 0, 63, 27, 46, 28, 96, 184, 1, 30, 153, 0, 28, 42]
abbrev dktX1_shift_2 : List UInt8 := dkwX1_shift_2 ++ dktX1_shift_3
def dkwX1_shift_1 : List UInt8 := [28, 100, 184, 1, 30, 153, 0, 28, 42, 27, 42, 180, 0, 63, 27, 46, 28, 100, 182, 1, 45, 153, 0, 12]
abbrev dktX1_shift_1 : List UInt8 := dkwX1_shift_1 ++ dktX1_shift_2
def dkwX1_shift_0 : List UInt8 := [42, 27, 182, 0, 240, 154, 0, 5, 2, 172, 3, 61, 28, 16, 60, 163, 0, 87, 42, 180, 0, 63, 27, 46]
abbrev dktX1_shift_0 : List UInt8 := dkwX1_shift_0 ++ dktX1_shift_1
theorem dksX1_shift_0 : cX1_shift.data.toList.drop 0 = dktX1_shift_0 := by decide +kernel
theorem dksX1_shift_1 : cX1_shift.data.toList.drop 24 = dktX1_shift_1 := dk_seg dksX1_shift_0 24 rfl rfl
theorem dksX1_shift_2 : cX1_shift.data.toList.drop 48 = dktX1_shift_2 := dk_seg dksX1_shift_1 24 rfl rfl
theorem dksX1_shift_3 : cX1_shift.data.toList.drop 72 = dktX1_shift_3 := dk_seg dksX1_shift_2 24 rfl rfl
theorem dksX1_shift_4 : cX1_shift.data.toList.drop 96 = dktX1_shift_4 := dk_seg dksX1_shift_3 24 rfl rfl
theorem dX1_shift_0 : decode cX1_shift 0 = .ok (.aload_n 0, 1) := dk_42 (dk_at dksX1_shift_0 0 rfl rfl)
theorem dX1_shift_1 : decode cX1_shift 1 = .ok (.iload_n 1, 1) := dk_27 (dk_at dksX1_shift_0 1 rfl rfl)
theorem dX1_shift_2 : decode cX1_shift 2 = .ok (.invokevirtual 240, 3) := dk_182 0 240 (dk_at dksX1_shift_0 2 rfl rfl)
theorem dX1_shift_5 : decode cX1_shift 5 = .ok (.ifCond .ne 5, 3) := dk_154 0 5 (dk_at dksX1_shift_0 5 rfl rfl)
theorem dX1_shift_8 : decode cX1_shift 8 = .ok (.iconst (-1), 1) := dk_2 (dk_at dksX1_shift_0 8 rfl rfl)
theorem dX1_shift_9 : decode cX1_shift 9 = .ok (.ireturn, 1) := dk_172 (dk_at dksX1_shift_0 9 rfl rfl)
theorem dX1_shift_10 : decode cX1_shift 10 = .ok (.iconst 0, 1) := dk_3 (dk_at dksX1_shift_0 10 rfl rfl)
theorem dX1_shift_11 : decode cX1_shift 11 = .ok (.istore_n 2, 1) := dk_61 (dk_at dksX1_shift_0 11 rfl rfl)
theorem dX1_shift_12 : decode cX1_shift 12 = .ok (.iload_n 2, 1) := dk_28 (dk_at dksX1_shift_0 12 rfl rfl)
theorem dX1_shift_13 : decode cX1_shift 13 = .ok (.bipush 60, 2) := dk_16 60 (dk_at dksX1_shift_0 13 rfl rfl)
theorem dX1_shift_15 : decode cX1_shift 15 = .ok (.if_icmp .gt 87, 3) := dk_163 0 87 (dk_at dksX1_shift_0 15 rfl rfl)
theorem dX1_shift_18 : decode cX1_shift 18 = .ok (.aload_n 0, 1) := dk_42 (dk_at dksX1_shift_0 18 rfl rfl)
theorem dX1_shift_19 : decode cX1_shift 19 = .ok (.getfield 63, 3) := dk_180 0 63 (dk_at dksX1_shift_0 19 rfl rfl)
theorem dX1_shift_22 : decode cX1_shift 22 = .ok (.iload_n 1, 1) := dk_27 (dk_at dksX1_shift_0 22 rfl rfl)
theorem dX1_shift_23 : decode cX1_shift 23 = .ok (.iaload, 1) := dk_46 (dk_at dksX1_shift_0 23 rfl rfl)
theorem dX1_shift_24 : decode cX1_shift 24 = .ok (.iload_n 2, 1) := dk_28 (dk_at dksX1_shift_1 0 rfl rfl)
theorem dX1_shift_25 : decode cX1_shift 25 = .ok (.isub, 1) := dk_100 (dk_at dksX1_shift_1 1 rfl rfl)
theorem dX1_shift_26 : decode cX1_shift 26 = .ok (.invokestatic 286, 3) := dk_184 1 30 (dk_at dksX1_shift_1 2 rfl rfl)
theorem dX1_shift_29 : decode cX1_shift 29 = .ok (.ifCond .eq 28, 3) := dk_153 0 28 (dk_at dksX1_shift_1 5 rfl rfl)
theorem dX1_shift_32 : decode cX1_shift 32 = .ok (.aload_n 0, 1) := dk_42 (dk_at dksX1_shift_1 8 rfl rfl)
theorem dX1_shift_33 : decode cX1_shift 33 = .ok (.iload_n 1, 1) := dk_27 (dk_at dksX1_shift_1 9 rfl rfl)
theorem dX1_shift_34 : decode cX1_shift 34 = .ok (.aload_n 0, 1) := dk_42 (dk_at dksX1_shift_1 10 rfl rfl)
theorem dX1_shift_35 : decode cX1_shift 35 = .ok (.getfield 63, 3) := dk_180 0 63 (dk_at dksX1_shift_1 11 rfl rfl)
theorem dX1_shift_38 : decode cX1_shift 38 = .ok (.iload_n 1, 1) := dk_27 (dk_at dksX1_shift_1 14 rfl rfl)
theorem dX1_shift_39 : decode cX1_shift 39 = .ok (.iaload, 1) := dk_46 (dk_at dksX1_shift_1 15 rfl rfl)
theorem dX1_shift_40 : decode cX1_shift 40 = .ok (.iload_n 2, 1) := dk_28 (dk_at dksX1_shift_1 16 rfl rfl)
theorem dX1_shift_41 : decode cX1_shift 41 = .ok (.isub, 1) := dk_100 (dk_at dksX1_shift_1 17 rfl rfl)
theorem dX1_shift_42 : decode cX1_shift 42 = .ok (.invokevirtual 301, 3) := dk_182 1 45 (dk_at dksX1_shift_1 18 rfl rfl)
theorem dX1_shift_45 : decode cX1_shift 45 = .ok (.ifCond .eq 12, 3) := dk_153 0 12 (dk_at dksX1_shift_1 21 rfl rfl)
theorem dX1_shift_48 : decode cX1_shift 48 = .ok (.aload_n 0, 1) := dk_42 (dk_at dksX1_shift_2 0 rfl rfl)
theorem dX1_shift_49 : decode cX1_shift 49 = .ok (.getfield 63, 3) := dk_180 0 63 (dk_at dksX1_shift_2 1 rfl rfl)
theorem dX1_shift_52 : decode cX1_shift 52 = .ok (.iload_n 1, 1) := dk_27 (dk_at dksX1_shift_2 4 rfl rfl)
theorem dX1_shift_53 : decode cX1_shift 53 = .ok (.iaload, 1) := dk_46 (dk_at dksX1_shift_2 5 rfl rfl)
theorem dX1_shift_54 : decode cX1_shift 54 = .ok (.iload_n 2, 1) := dk_28 (dk_at dksX1_shift_2 6 rfl rfl)
theorem dX1_shift_55 : decode cX1_shift 55 = .ok (.isub, 1) := dk_100 (dk_at dksX1_shift_2 7 rfl rfl)
theorem dX1_shift_56 : decode cX1_shift 56 = .ok (.ireturn, 1) := dk_172 (dk_at dksX1_shift_2 8 rfl rfl)
theorem dX1_shift_57 : decode cX1_shift 57 = .ok (.aload_n 0, 1) := dk_42 (dk_at dksX1_shift_2 9 rfl rfl)
theorem dX1_shift_58 : decode cX1_shift 58 = .ok (.getfield 63, 3) := dk_180 0 63 (dk_at dksX1_shift_2 10 rfl rfl)
theorem dX1_shift_61 : decode cX1_shift 61 = .ok (.iload_n 1, 1) := dk_27 (dk_at dksX1_shift_2 13 rfl rfl)
theorem dX1_shift_62 : decode cX1_shift 62 = .ok (.iaload, 1) := dk_46 (dk_at dksX1_shift_2 14 rfl rfl)
theorem dX1_shift_63 : decode cX1_shift 63 = .ok (.iload_n 2, 1) := dk_28 (dk_at dksX1_shift_2 15 rfl rfl)
theorem dX1_shift_64 : decode cX1_shift 64 = .ok (.iadd, 1) := dk_96 (dk_at dksX1_shift_2 16 rfl rfl)
theorem dX1_shift_65 : decode cX1_shift 65 = .ok (.invokestatic 286, 3) := dk_184 1 30 (dk_at dksX1_shift_2 17 rfl rfl)
theorem dX1_shift_68 : decode cX1_shift 68 = .ok (.ifCond .eq 28, 3) := dk_153 0 28 (dk_at dksX1_shift_2 20 rfl rfl)
theorem dX1_shift_71 : decode cX1_shift 71 = .ok (.aload_n 0, 1) := dk_42 (dk_at dksX1_shift_2 23 rfl rfl)
theorem dX1_shift_72 : decode cX1_shift 72 = .ok (.iload_n 1, 1) := dk_27 (dk_at dksX1_shift_3 0 rfl rfl)
theorem dX1_shift_73 : decode cX1_shift 73 = .ok (.aload_n 0, 1) := dk_42 (dk_at dksX1_shift_3 1 rfl rfl)
theorem dX1_shift_74 : decode cX1_shift 74 = .ok (.getfield 63, 3) := dk_180 0 63 (dk_at dksX1_shift_3 2 rfl rfl)
theorem dX1_shift_77 : decode cX1_shift 77 = .ok (.iload_n 1, 1) := dk_27 (dk_at dksX1_shift_3 5 rfl rfl)
theorem dX1_shift_78 : decode cX1_shift 78 = .ok (.iaload, 1) := dk_46 (dk_at dksX1_shift_3 6 rfl rfl)
theorem dX1_shift_79 : decode cX1_shift 79 = .ok (.iload_n 2, 1) := dk_28 (dk_at dksX1_shift_3 7 rfl rfl)
theorem dX1_shift_80 : decode cX1_shift 80 = .ok (.iadd, 1) := dk_96 (dk_at dksX1_shift_3 8 rfl rfl)
theorem dX1_shift_81 : decode cX1_shift 81 = .ok (.invokevirtual 301, 3) := dk_182 1 45 (dk_at dksX1_shift_3 9 rfl rfl)
theorem dX1_shift_84 : decode cX1_shift 84 = .ok (.ifCond .eq 12, 3) := dk_153 0 12 (dk_at dksX1_shift_3 12 rfl rfl)
theorem dX1_shift_87 : decode cX1_shift 87 = .ok (.aload_n 0, 1) := dk_42 (dk_at dksX1_shift_3 15 rfl rfl)
theorem dX1_shift_88 : decode cX1_shift 88 = .ok (.getfield 63, 3) := dk_180 0 63 (dk_at dksX1_shift_3 16 rfl rfl)
theorem dX1_shift_91 : decode cX1_shift 91 = .ok (.iload_n 1, 1) := dk_27 (dk_at dksX1_shift_3 19 rfl rfl)
theorem dX1_shift_92 : decode cX1_shift 92 = .ok (.iaload, 1) := dk_46 (dk_at dksX1_shift_3 20 rfl rfl)
theorem dX1_shift_93 : decode cX1_shift 93 = .ok (.iload_n 2, 1) := dk_28 (dk_at dksX1_shift_3 21 rfl rfl)
theorem dX1_shift_94 : decode cX1_shift 94 = .ok (.iadd, 1) := dk_96 (dk_at dksX1_shift_3 22 rfl rfl)
theorem dX1_shift_95 : decode cX1_shift 95 = .ok (.ireturn, 1) := dk_172 (dk_at dksX1_shift_3 23 rfl rfl)
theorem dX1_shift_96 : decode cX1_shift 96 = .ok (.iinc 2 1, 3) := dk_132 2 1 (dk_at dksX1_shift_4 0 rfl rfl)
theorem dX1_shift_99 : decode cX1_shift 99 = .ok (.goto (-87), 3) := dk_167 255 169 (dk_at dksX1_shift_4 3 rfl rfl)
theorem dX1_shift_102 : decode cX1_shift 102 = .ok (.bipush (-9), 2) := dk_16 247 (dk_at dksX1_shift_4 6 rfl rfl)
theorem dX1_shift_104 : decode cX1_shift 104 = .ok (.ireturn, 1) := dk_172 (dk_at dksX1_shift_4 8 rfl rfl)
abbrev cX1_cold : ByteArray := prog_8_method_70_code
def yX1_cold : MethodName := ⟨RX1, "cold", "(III)I"⟩
def dkwX1_cold_10 : List UInt8 := [29, 4, 160, 0, 8, 21, 5, 167, 0, 5, 21, 7, 104, 172]
abbrev dktX1_cold_10 : List UInt8 := dkwX1_cold_10 ++ []
def dkwX1_cold_9 : List UInt8 := [167, 0, 5, 21, 7, 54, 7, 132, 8, 1, 167, 255, 119, 16, 10, 29, 154, 0, 8, 21, 4, 167, 0, 15]
abbrev dktX1_cold_9 : List UInt8 := dkwX1_cold_9 ++ dktX1_cold_10
def dkwX1_cold_8 : List UInt8 := [21, 10, 153, 0, 10, 21, 6, 4, 96, 167, 0, 4, 3, 54, 6, 21, 6, 21, 7, 164, 0, 8, 21, 6]
abbrev dktX1_cold_8 : List UInt8 := dkwX1_cold_8 ++ dktX1_cold_9
def dkwX1_cold_7 : List UInt8 := [21, 11, 154, 0, 8, 21, 10, 153, 0, 7, 4, 167, 0, 4, 3, 96, 54, 5, 21, 11, 154, 0, 8]
abbrev dktX1_cold_7 : List UInt8 := dkwX1_cold_7 ++ dktX1_cold_8
def dkwX1_cold_6 : List UInt8 := [167, 0, 4, 3, 54, 11, 21, 4, 21, 11, 153, 0, 7, 4, 167, 0, 4, 3, 96, 54, 4, 21, 5]
abbrev dktX1_cold_6 : List UInt8 := dkwX1_cold_6 ++ dktX1_cold_7
def dkwX1_cold_5 : List UInt8 := [167, 0, 4, 3, 54, 10, 21, 10, 154, 0, 18, 21, 9, 42, 180, 0, 78, 27, 46, 164, 0, 7, 4]
abbrev dktX1_cold_5 : List UInt8 := dkwX1_cold_5 ++ dktX1_cold_6
def dkwX1_cold_4 : List UInt8 := [180, 0, 20, 16, 40, 28, 104, 21, 8, 96, 46, 54, 9, 21, 9, 17, 252, 25, 160, 0, 7, 4]
abbrev dktX1_cold_4 : List UInt8 := dkwX1_cold_4 ++ dktX1_cold_5
def dkwX1_cold_3 : List UInt8 := [54, 5, 3, 54, 6, 3, 54, 7, 3, 54, 8, 21, 8, 42, 180, 0, 17, 28, 46, 162, 0, 132, 42]
abbrev dktX1_cold_3 : List UInt8 := dkwX1_cold_3 ++ dktX1_cold_4
def dkwX1_cold_2 : List UInt8 := [156, 0, 9, 42, 4, 182, 0, 193, 172, 42, 180, 0, 81, 27, 92, 46, 4, 96, 79, 3, 54, 4, 3]
abbrev dktX1_cold_2 : List UInt8 := dkwX1_cold_2 ++ dktX1_cold_3
def dkwX1_cold_1 : List UInt8 := [2, 172, 42, 27, 182, 0, 249, 154, 0, 9, 42, 6, 182, 0, 193, 172, 42, 180, 0, 17, 28, 46]
abbrev dktX1_cold_1 : List UInt8 := dkwX1_cold_1 ++ dktX1_cold_2
def dkwX1_cold_0 : List UInt8 := [42, 27, 182, 0, 240, 153, 0, 19, 28, 184, 0, 189, 153, 0, 12, 29, 3, 5, 184, 0, 185, 154, 0, 5]
abbrev dktX1_cold_0 : List UInt8 := dkwX1_cold_0 ++ dktX1_cold_1
theorem dksX1_cold_0 : cX1_cold.data.toList.drop 0 = dktX1_cold_0 := by decide +kernel
theorem dksX1_cold_1 : cX1_cold.data.toList.drop 24 = dktX1_cold_1 := dk_seg dksX1_cold_0 24 rfl rfl
theorem dksX1_cold_2 : cX1_cold.data.toList.drop 46 = dktX1_cold_2 := dk_seg dksX1_cold_1 22 rfl rfl
theorem dksX1_cold_3 : cX1_cold.data.toList.drop 69 = dktX1_cold_3 := dk_seg dksX1_cold_2 23 rfl rfl
theorem dksX1_cold_4 : cX1_cold.data.toList.drop 92 = dktX1_cold_4 := dk_seg dksX1_cold_3 23 rfl rfl
theorem dksX1_cold_5 : cX1_cold.data.toList.drop 114 = dktX1_cold_5 := dk_seg dksX1_cold_4 22 rfl rfl
theorem dksX1_cold_6 : cX1_cold.data.toList.drop 137 = dktX1_cold_6 := dk_seg dksX1_cold_5 23 rfl rfl
theorem dksX1_cold_7 : cX1_cold.data.toList.drop 160 = dktX1_cold_7 := dk_seg dksX1_cold_6 23 rfl rfl
theorem dksX1_cold_8 : cX1_cold.data.toList.drop 183 = dktX1_cold_8 := dk_seg dksX1_cold_7 23 rfl rfl
theorem dksX1_cold_9 : cX1_cold.data.toList.drop 207 = dktX1_cold_9 := dk_seg dksX1_cold_8 24 rfl rfl
theorem dksX1_cold_10 : cX1_cold.data.toList.drop 231 = dktX1_cold_10 := dk_seg dksX1_cold_9 24 rfl rfl
theorem dX1_cold_0 : decode cX1_cold 0 = .ok (.aload_n 0, 1) := dk_42 (dk_at dksX1_cold_0 0 rfl rfl)
theorem dX1_cold_1 : decode cX1_cold 1 = .ok (.iload_n 1, 1) := dk_27 (dk_at dksX1_cold_0 1 rfl rfl)
theorem dX1_cold_2 : decode cX1_cold 2 = .ok (.invokevirtual 240, 3) := dk_182 0 240 (dk_at dksX1_cold_0 2 rfl rfl)
theorem dX1_cold_5 : decode cX1_cold 5 = .ok (.ifCond .eq 19, 3) := dk_153 0 19 (dk_at dksX1_cold_0 5 rfl rfl)
theorem dX1_cold_8 : decode cX1_cold 8 = .ok (.iload_n 2, 1) := dk_28 (dk_at dksX1_cold_0 8 rfl rfl)
theorem dX1_cold_9 : decode cX1_cold 9 = .ok (.invokestatic 189, 3) := dk_184 0 189 (dk_at dksX1_cold_0 9 rfl rfl)
theorem dX1_cold_12 : decode cX1_cold 12 = .ok (.ifCond .eq 12, 3) := dk_153 0 12 (dk_at dksX1_cold_0 12 rfl rfl)
theorem dX1_cold_15 : decode cX1_cold 15 = .ok (.iload_n 3, 1) := dk_29 (dk_at dksX1_cold_0 15 rfl rfl)
theorem dX1_cold_16 : decode cX1_cold 16 = .ok (.iconst 0, 1) := dk_3 (dk_at dksX1_cold_0 16 rfl rfl)
theorem dX1_cold_17 : decode cX1_cold 17 = .ok (.iconst 2, 1) := dk_5 (dk_at dksX1_cold_0 17 rfl rfl)
theorem dX1_cold_18 : decode cX1_cold 18 = .ok (.invokestatic 185, 3) := dk_184 0 185 (dk_at dksX1_cold_0 18 rfl rfl)
theorem dX1_cold_21 : decode cX1_cold 21 = .ok (.ifCond .ne 5, 3) := dk_154 0 5 (dk_at dksX1_cold_0 21 rfl rfl)
theorem dX1_cold_24 : decode cX1_cold 24 = .ok (.iconst (-1), 1) := dk_2 (dk_at dksX1_cold_1 0 rfl rfl)
theorem dX1_cold_25 : decode cX1_cold 25 = .ok (.ireturn, 1) := dk_172 (dk_at dksX1_cold_1 1 rfl rfl)
theorem dX1_cold_26 : decode cX1_cold 26 = .ok (.aload_n 0, 1) := dk_42 (dk_at dksX1_cold_1 2 rfl rfl)
theorem dX1_cold_27 : decode cX1_cold 27 = .ok (.iload_n 1, 1) := dk_27 (dk_at dksX1_cold_1 3 rfl rfl)
theorem dX1_cold_28 : decode cX1_cold 28 = .ok (.invokevirtual 249, 3) := dk_182 0 249 (dk_at dksX1_cold_1 4 rfl rfl)
theorem dX1_cold_31 : decode cX1_cold 31 = .ok (.ifCond .ne 9, 3) := dk_154 0 9 (dk_at dksX1_cold_1 7 rfl rfl)
theorem dX1_cold_34 : decode cX1_cold 34 = .ok (.aload_n 0, 1) := dk_42 (dk_at dksX1_cold_1 10 rfl rfl)
theorem dX1_cold_35 : decode cX1_cold 35 = .ok (.iconst 3, 1) := dk_6 (dk_at dksX1_cold_1 11 rfl rfl)
theorem dX1_cold_36 : decode cX1_cold 36 = .ok (.invokevirtual 193, 3) := dk_182 0 193 (dk_at dksX1_cold_1 12 rfl rfl)
theorem dX1_cold_39 : decode cX1_cold 39 = .ok (.ireturn, 1) := dk_172 (dk_at dksX1_cold_1 15 rfl rfl)
theorem dX1_cold_40 : decode cX1_cold 40 = .ok (.aload_n 0, 1) := dk_42 (dk_at dksX1_cold_1 16 rfl rfl)
theorem dX1_cold_41 : decode cX1_cold 41 = .ok (.getfield 17, 3) := dk_180 0 17 (dk_at dksX1_cold_1 17 rfl rfl)
theorem dX1_cold_44 : decode cX1_cold 44 = .ok (.iload_n 2, 1) := dk_28 (dk_at dksX1_cold_1 20 rfl rfl)
theorem dX1_cold_45 : decode cX1_cold 45 = .ok (.iaload, 1) := dk_46 (dk_at dksX1_cold_1 21 rfl rfl)
theorem dX1_cold_46 : decode cX1_cold 46 = .ok (.ifCond .ge 9, 3) := dk_156 0 9 (dk_at dksX1_cold_2 0 rfl rfl)
theorem dX1_cold_49 : decode cX1_cold 49 = .ok (.aload_n 0, 1) := dk_42 (dk_at dksX1_cold_2 3 rfl rfl)
theorem dX1_cold_50 : decode cX1_cold 50 = .ok (.iconst 1, 1) := dk_4 (dk_at dksX1_cold_2 4 rfl rfl)
theorem dX1_cold_51 : decode cX1_cold 51 = .ok (.invokevirtual 193, 3) := dk_182 0 193 (dk_at dksX1_cold_2 5 rfl rfl)
theorem dX1_cold_54 : decode cX1_cold 54 = .ok (.ireturn, 1) := dk_172 (dk_at dksX1_cold_2 8 rfl rfl)
theorem dX1_cold_55 : decode cX1_cold 55 = .ok (.aload_n 0, 1) := dk_42 (dk_at dksX1_cold_2 9 rfl rfl)
theorem dX1_cold_56 : decode cX1_cold 56 = .ok (.getfield 81, 3) := dk_180 0 81 (dk_at dksX1_cold_2 10 rfl rfl)
theorem dX1_cold_59 : decode cX1_cold 59 = .ok (.iload_n 1, 1) := dk_27 (dk_at dksX1_cold_2 13 rfl rfl)
theorem dX1_cold_60 : decode cX1_cold 60 = .ok (.dup2, 1) := dk_92 (dk_at dksX1_cold_2 14 rfl rfl)
theorem dX1_cold_61 : decode cX1_cold 61 = .ok (.iaload, 1) := dk_46 (dk_at dksX1_cold_2 15 rfl rfl)
theorem dX1_cold_62 : decode cX1_cold 62 = .ok (.iconst 1, 1) := dk_4 (dk_at dksX1_cold_2 16 rfl rfl)
theorem dX1_cold_63 : decode cX1_cold 63 = .ok (.iadd, 1) := dk_96 (dk_at dksX1_cold_2 17 rfl rfl)
theorem dX1_cold_64 : decode cX1_cold 64 = .ok (.iastore, 1) := dk_79 (dk_at dksX1_cold_2 18 rfl rfl)
theorem dX1_cold_65 : decode cX1_cold 65 = .ok (.iconst 0, 1) := dk_3 (dk_at dksX1_cold_2 19 rfl rfl)
theorem dX1_cold_66 : decode cX1_cold 66 = .ok (.istore 4, 2) := dk_54 4 (dk_at dksX1_cold_2 20 rfl rfl)
theorem dX1_cold_68 : decode cX1_cold 68 = .ok (.iconst 0, 1) := dk_3 (dk_at dksX1_cold_2 22 rfl rfl)
theorem dX1_cold_69 : decode cX1_cold 69 = .ok (.istore 5, 2) := dk_54 5 (dk_at dksX1_cold_3 0 rfl rfl)
theorem dX1_cold_71 : decode cX1_cold 71 = .ok (.iconst 0, 1) := dk_3 (dk_at dksX1_cold_3 2 rfl rfl)
theorem dX1_cold_72 : decode cX1_cold 72 = .ok (.istore 6, 2) := dk_54 6 (dk_at dksX1_cold_3 3 rfl rfl)
theorem dX1_cold_74 : decode cX1_cold 74 = .ok (.iconst 0, 1) := dk_3 (dk_at dksX1_cold_3 5 rfl rfl)
theorem dX1_cold_75 : decode cX1_cold 75 = .ok (.istore 7, 2) := dk_54 7 (dk_at dksX1_cold_3 6 rfl rfl)
theorem dX1_cold_77 : decode cX1_cold 77 = .ok (.iconst 0, 1) := dk_3 (dk_at dksX1_cold_3 8 rfl rfl)
theorem dX1_cold_78 : decode cX1_cold 78 = .ok (.istore 8, 2) := dk_54 8 (dk_at dksX1_cold_3 9 rfl rfl)
theorem dX1_cold_80 : decode cX1_cold 80 = .ok (.iload 8, 2) := dk_21 8 (dk_at dksX1_cold_3 11 rfl rfl)
theorem dX1_cold_82 : decode cX1_cold 82 = .ok (.aload_n 0, 1) := dk_42 (dk_at dksX1_cold_3 13 rfl rfl)
theorem dX1_cold_83 : decode cX1_cold 83 = .ok (.getfield 17, 3) := dk_180 0 17 (dk_at dksX1_cold_3 14 rfl rfl)
theorem dX1_cold_86 : decode cX1_cold 86 = .ok (.iload_n 2, 1) := dk_28 (dk_at dksX1_cold_3 17 rfl rfl)
theorem dX1_cold_87 : decode cX1_cold 87 = .ok (.iaload, 1) := dk_46 (dk_at dksX1_cold_3 18 rfl rfl)
theorem dX1_cold_88 : decode cX1_cold 88 = .ok (.if_icmp .ge 132, 3) := dk_162 0 132 (dk_at dksX1_cold_3 19 rfl rfl)
theorem dX1_cold_91 : decode cX1_cold 91 = .ok (.aload_n 0, 1) := dk_42 (dk_at dksX1_cold_3 22 rfl rfl)
theorem dX1_cold_92 : decode cX1_cold 92 = .ok (.getfield 20, 3) := dk_180 0 20 (dk_at dksX1_cold_4 0 rfl rfl)
theorem dX1_cold_95 : decode cX1_cold 95 = .ok (.bipush 40, 2) := dk_16 40 (dk_at dksX1_cold_4 3 rfl rfl)
theorem dX1_cold_97 : decode cX1_cold 97 = .ok (.iload_n 2, 1) := dk_28 (dk_at dksX1_cold_4 5 rfl rfl)
theorem dX1_cold_98 : decode cX1_cold 98 = .ok (.imul, 1) := dk_104 (dk_at dksX1_cold_4 6 rfl rfl)
theorem dX1_cold_99 : decode cX1_cold 99 = .ok (.iload 8, 2) := dk_21 8 (dk_at dksX1_cold_4 7 rfl rfl)
theorem dX1_cold_101 : decode cX1_cold 101 = .ok (.iadd, 1) := dk_96 (dk_at dksX1_cold_4 9 rfl rfl)
theorem dX1_cold_102 : decode cX1_cold 102 = .ok (.iaload, 1) := dk_46 (dk_at dksX1_cold_4 10 rfl rfl)
theorem dX1_cold_103 : decode cX1_cold 103 = .ok (.istore 9, 2) := dk_54 9 (dk_at dksX1_cold_4 11 rfl rfl)
theorem dX1_cold_105 : decode cX1_cold 105 = .ok (.iload 9, 2) := dk_21 9 (dk_at dksX1_cold_4 13 rfl rfl)
theorem dX1_cold_107 : decode cX1_cold 107 = .ok (.sipush (-999), 3) := dk_17 252 25 (dk_at dksX1_cold_4 15 rfl rfl)
theorem dX1_cold_110 : decode cX1_cold 110 = .ok (.if_icmp .ne 7, 3) := dk_160 0 7 (dk_at dksX1_cold_4 18 rfl rfl)
theorem dX1_cold_113 : decode cX1_cold 113 = .ok (.iconst 1, 1) := dk_4 (dk_at dksX1_cold_4 21 rfl rfl)
theorem dX1_cold_114 : decode cX1_cold 114 = .ok (.goto 4, 3) := dk_167 0 4 (dk_at dksX1_cold_5 0 rfl rfl)
theorem dX1_cold_117 : decode cX1_cold 117 = .ok (.iconst 0, 1) := dk_3 (dk_at dksX1_cold_5 3 rfl rfl)
theorem dX1_cold_118 : decode cX1_cold 118 = .ok (.istore 10, 2) := dk_54 10 (dk_at dksX1_cold_5 4 rfl rfl)
theorem dX1_cold_120 : decode cX1_cold 120 = .ok (.iload 10, 2) := dk_21 10 (dk_at dksX1_cold_5 6 rfl rfl)
theorem dX1_cold_122 : decode cX1_cold 122 = .ok (.ifCond .ne 18, 3) := dk_154 0 18 (dk_at dksX1_cold_5 8 rfl rfl)
theorem dX1_cold_125 : decode cX1_cold 125 = .ok (.iload 9, 2) := dk_21 9 (dk_at dksX1_cold_5 11 rfl rfl)
theorem dX1_cold_127 : decode cX1_cold 127 = .ok (.aload_n 0, 1) := dk_42 (dk_at dksX1_cold_5 13 rfl rfl)
theorem dX1_cold_128 : decode cX1_cold 128 = .ok (.getfield 78, 3) := dk_180 0 78 (dk_at dksX1_cold_5 14 rfl rfl)
theorem dX1_cold_131 : decode cX1_cold 131 = .ok (.iload_n 1, 1) := dk_27 (dk_at dksX1_cold_5 17 rfl rfl)
theorem dX1_cold_132 : decode cX1_cold 132 = .ok (.iaload, 1) := dk_46 (dk_at dksX1_cold_5 18 rfl rfl)
theorem dX1_cold_133 : decode cX1_cold 133 = .ok (.if_icmp .le 7, 3) := dk_164 0 7 (dk_at dksX1_cold_5 19 rfl rfl)
theorem dX1_cold_136 : decode cX1_cold 136 = .ok (.iconst 1, 1) := dk_4 (dk_at dksX1_cold_5 22 rfl rfl)
theorem dX1_cold_137 : decode cX1_cold 137 = .ok (.goto 4, 3) := dk_167 0 4 (dk_at dksX1_cold_6 0 rfl rfl)
theorem dX1_cold_140 : decode cX1_cold 140 = .ok (.iconst 0, 1) := dk_3 (dk_at dksX1_cold_6 3 rfl rfl)
theorem dX1_cold_141 : decode cX1_cold 141 = .ok (.istore 11, 2) := dk_54 11 (dk_at dksX1_cold_6 4 rfl rfl)
theorem dX1_cold_143 : decode cX1_cold 143 = .ok (.iload 4, 2) := dk_21 4 (dk_at dksX1_cold_6 6 rfl rfl)
theorem dX1_cold_145 : decode cX1_cold 145 = .ok (.iload 11, 2) := dk_21 11 (dk_at dksX1_cold_6 8 rfl rfl)
theorem dX1_cold_147 : decode cX1_cold 147 = .ok (.ifCond .eq 7, 3) := dk_153 0 7 (dk_at dksX1_cold_6 10 rfl rfl)
theorem dX1_cold_150 : decode cX1_cold 150 = .ok (.iconst 1, 1) := dk_4 (dk_at dksX1_cold_6 13 rfl rfl)
theorem dX1_cold_151 : decode cX1_cold 151 = .ok (.goto 4, 3) := dk_167 0 4 (dk_at dksX1_cold_6 14 rfl rfl)
theorem dX1_cold_154 : decode cX1_cold 154 = .ok (.iconst 0, 1) := dk_3 (dk_at dksX1_cold_6 17 rfl rfl)
theorem dX1_cold_155 : decode cX1_cold 155 = .ok (.iadd, 1) := dk_96 (dk_at dksX1_cold_6 18 rfl rfl)
theorem dX1_cold_156 : decode cX1_cold 156 = .ok (.istore 4, 2) := dk_54 4 (dk_at dksX1_cold_6 19 rfl rfl)
theorem dX1_cold_158 : decode cX1_cold 158 = .ok (.iload 5, 2) := dk_21 5 (dk_at dksX1_cold_6 21 rfl rfl)
theorem dX1_cold_160 : decode cX1_cold 160 = .ok (.iload 11, 2) := dk_21 11 (dk_at dksX1_cold_7 0 rfl rfl)
theorem dX1_cold_162 : decode cX1_cold 162 = .ok (.ifCond .ne 8, 3) := dk_154 0 8 (dk_at dksX1_cold_7 2 rfl rfl)
theorem dX1_cold_165 : decode cX1_cold 165 = .ok (.iload 10, 2) := dk_21 10 (dk_at dksX1_cold_7 5 rfl rfl)
theorem dX1_cold_167 : decode cX1_cold 167 = .ok (.ifCond .eq 7, 3) := dk_153 0 7 (dk_at dksX1_cold_7 7 rfl rfl)
theorem dX1_cold_170 : decode cX1_cold 170 = .ok (.iconst 1, 1) := dk_4 (dk_at dksX1_cold_7 10 rfl rfl)
theorem dX1_cold_171 : decode cX1_cold 171 = .ok (.goto 4, 3) := dk_167 0 4 (dk_at dksX1_cold_7 11 rfl rfl)
theorem dX1_cold_174 : decode cX1_cold 174 = .ok (.iconst 0, 1) := dk_3 (dk_at dksX1_cold_7 14 rfl rfl)
theorem dX1_cold_175 : decode cX1_cold 175 = .ok (.iadd, 1) := dk_96 (dk_at dksX1_cold_7 15 rfl rfl)
theorem dX1_cold_176 : decode cX1_cold 176 = .ok (.istore 5, 2) := dk_54 5 (dk_at dksX1_cold_7 16 rfl rfl)
theorem dX1_cold_178 : decode cX1_cold 178 = .ok (.iload 11, 2) := dk_21 11 (dk_at dksX1_cold_7 18 rfl rfl)
theorem dX1_cold_180 : decode cX1_cold 180 = .ok (.ifCond .ne 8, 3) := dk_154 0 8 (dk_at dksX1_cold_7 20 rfl rfl)
theorem dX1_cold_183 : decode cX1_cold 183 = .ok (.iload 10, 2) := dk_21 10 (dk_at dksX1_cold_8 0 rfl rfl)
theorem dX1_cold_185 : decode cX1_cold 185 = .ok (.ifCond .eq 10, 3) := dk_153 0 10 (dk_at dksX1_cold_8 2 rfl rfl)
theorem dX1_cold_188 : decode cX1_cold 188 = .ok (.iload 6, 2) := dk_21 6 (dk_at dksX1_cold_8 5 rfl rfl)
theorem dX1_cold_190 : decode cX1_cold 190 = .ok (.iconst 1, 1) := dk_4 (dk_at dksX1_cold_8 7 rfl rfl)
theorem dX1_cold_191 : decode cX1_cold 191 = .ok (.iadd, 1) := dk_96 (dk_at dksX1_cold_8 8 rfl rfl)
theorem dX1_cold_192 : decode cX1_cold 192 = .ok (.goto 4, 3) := dk_167 0 4 (dk_at dksX1_cold_8 9 rfl rfl)
theorem dX1_cold_195 : decode cX1_cold 195 = .ok (.iconst 0, 1) := dk_3 (dk_at dksX1_cold_8 12 rfl rfl)
theorem dX1_cold_196 : decode cX1_cold 196 = .ok (.istore 6, 2) := dk_54 6 (dk_at dksX1_cold_8 13 rfl rfl)
theorem dX1_cold_198 : decode cX1_cold 198 = .ok (.iload 6, 2) := dk_21 6 (dk_at dksX1_cold_8 15 rfl rfl)
theorem dX1_cold_200 : decode cX1_cold 200 = .ok (.iload 7, 2) := dk_21 7 (dk_at dksX1_cold_8 17 rfl rfl)
theorem dX1_cold_202 : decode cX1_cold 202 = .ok (.if_icmp .le 8, 3) := dk_164 0 8 (dk_at dksX1_cold_8 19 rfl rfl)
theorem dX1_cold_205 : decode cX1_cold 205 = .ok (.iload 6, 2) := dk_21 6 (dk_at dksX1_cold_8 22 rfl rfl)
theorem dX1_cold_207 : decode cX1_cold 207 = .ok (.goto 5, 3) := dk_167 0 5 (dk_at dksX1_cold_9 0 rfl rfl)
theorem dX1_cold_210 : decode cX1_cold 210 = .ok (.iload 7, 2) := dk_21 7 (dk_at dksX1_cold_9 3 rfl rfl)
theorem dX1_cold_212 : decode cX1_cold 212 = .ok (.istore 7, 2) := dk_54 7 (dk_at dksX1_cold_9 5 rfl rfl)
theorem dX1_cold_214 : decode cX1_cold 214 = .ok (.iinc 8 1, 3) := dk_132 8 1 (dk_at dksX1_cold_9 7 rfl rfl)
theorem dX1_cold_217 : decode cX1_cold 217 = .ok (.goto (-137), 3) := dk_167 255 119 (dk_at dksX1_cold_9 10 rfl rfl)
theorem dX1_cold_220 : decode cX1_cold 220 = .ok (.bipush 10, 2) := dk_16 10 (dk_at dksX1_cold_9 13 rfl rfl)
theorem dX1_cold_222 : decode cX1_cold 222 = .ok (.iload_n 3, 1) := dk_29 (dk_at dksX1_cold_9 15 rfl rfl)
theorem dX1_cold_223 : decode cX1_cold 223 = .ok (.ifCond .ne 8, 3) := dk_154 0 8 (dk_at dksX1_cold_9 16 rfl rfl)
theorem dX1_cold_226 : decode cX1_cold 226 = .ok (.iload 4, 2) := dk_21 4 (dk_at dksX1_cold_9 19 rfl rfl)
theorem dX1_cold_228 : decode cX1_cold 228 = .ok (.goto 15, 3) := dk_167 0 15 (dk_at dksX1_cold_9 21 rfl rfl)
theorem dX1_cold_231 : decode cX1_cold 231 = .ok (.iload_n 3, 1) := dk_29 (dk_at dksX1_cold_10 0 rfl rfl)
theorem dX1_cold_232 : decode cX1_cold 232 = .ok (.iconst 1, 1) := dk_4 (dk_at dksX1_cold_10 1 rfl rfl)
theorem dX1_cold_233 : decode cX1_cold 233 = .ok (.if_icmp .ne 8, 3) := dk_160 0 8 (dk_at dksX1_cold_10 2 rfl rfl)
theorem dX1_cold_236 : decode cX1_cold 236 = .ok (.iload 5, 2) := dk_21 5 (dk_at dksX1_cold_10 5 rfl rfl)
theorem dX1_cold_238 : decode cX1_cold 238 = .ok (.goto 5, 3) := dk_167 0 5 (dk_at dksX1_cold_10 7 rfl rfl)
theorem dX1_cold_241 : decode cX1_cold 241 = .ok (.iload 7, 2) := dk_21 7 (dk_at dksX1_cold_10 10 rfl rfl)
theorem dX1_cold_243 : decode cX1_cold 243 = .ok (.imul, 1) := dk_104 (dk_at dksX1_cold_10 12 rfl rfl)
theorem dX1_cold_244 : decode cX1_cold 244 = .ok (.ireturn, 1) := dk_172 (dk_at dksX1_cold_10 13 rfl rfl)
abbrev cX1_mean : ByteArray := prog_8_method_71_code
def yX1_mean : MethodName := ⟨RX1, "mean", "(I)I"⟩
def dkwX1_mean_4 : List UInt8 := [7, 182, 0, 193, 167, 0, 14, 42, 22, 4, 29, 133, 109, 136, 4, 182, 0, 246, 172]
abbrev dktX1_mean_4 : List UInt8 := dkwX1_mean_4 ++ []
def dkwX1_mean_3 : List UInt8 := [160, 0, 7, 9, 167, 0, 6, 21, 7, 133, 97, 55, 4, 132, 6, 1, 167, 255, 192, 29, 154, 0, 11, 42]
abbrev dktX1_mean_3 : List UInt8 := dkwX1_mean_3 ++ dktX1_mean_4
def dkwX1_mean_2 : List UInt8 := [21, 7, 17, 252, 25, 160, 0, 7, 3, 167, 0, 4, 4, 96, 62, 22, 4, 21, 7, 17, 252, 25]
abbrev dktX1_mean_2 : List UInt8 := dkwX1_mean_2 ++ dktX1_mean_3
def dkwX1_mean_1 : List UInt8 := [180, 0, 17, 27, 46, 162, 0, 59, 42, 180, 0, 20, 16, 40, 27, 104, 21, 6, 96, 46, 54, 7, 29]
abbrev dktX1_mean_1 : List UInt8 := dkwX1_mean_1 ++ dktX1_mean_2
def dkwX1_mean_0 : List UInt8 := [42, 27, 182, 0, 197, 61, 28, 156, 0, 5, 28, 172, 3, 62, 9, 55, 4, 3, 54, 6, 21, 6, 42]
abbrev dktX1_mean_0 : List UInt8 := dkwX1_mean_0 ++ dktX1_mean_1
theorem dksX1_mean_0 : cX1_mean.data.toList.drop 0 = dktX1_mean_0 := by decide +kernel
theorem dksX1_mean_1 : cX1_mean.data.toList.drop 23 = dktX1_mean_1 := dk_seg dksX1_mean_0 23 rfl rfl
theorem dksX1_mean_2 : cX1_mean.data.toList.drop 46 = dktX1_mean_2 := dk_seg dksX1_mean_1 23 rfl rfl
theorem dksX1_mean_3 : cX1_mean.data.toList.drop 68 = dktX1_mean_3 := dk_seg dksX1_mean_2 22 rfl rfl
theorem dksX1_mean_4 : cX1_mean.data.toList.drop 92 = dktX1_mean_4 := dk_seg dksX1_mean_3 24 rfl rfl
theorem dX1_mean_0 : decode cX1_mean 0 = .ok (.aload_n 0, 1) := dk_42 (dk_at dksX1_mean_0 0 rfl rfl)
theorem dX1_mean_1 : decode cX1_mean 1 = .ok (.iload_n 1, 1) := dk_27 (dk_at dksX1_mean_0 1 rfl rfl)
theorem dX1_mean_2 : decode cX1_mean 2 = .ok (.invokevirtual 197, 3) := dk_182 0 197 (dk_at dksX1_mean_0 2 rfl rfl)
theorem dX1_mean_5 : decode cX1_mean 5 = .ok (.istore_n 2, 1) := dk_61 (dk_at dksX1_mean_0 5 rfl rfl)
theorem dX1_mean_6 : decode cX1_mean 6 = .ok (.iload_n 2, 1) := dk_28 (dk_at dksX1_mean_0 6 rfl rfl)
theorem dX1_mean_7 : decode cX1_mean 7 = .ok (.ifCond .ge 5, 3) := dk_156 0 5 (dk_at dksX1_mean_0 7 rfl rfl)
theorem dX1_mean_10 : decode cX1_mean 10 = .ok (.iload_n 2, 1) := dk_28 (dk_at dksX1_mean_0 10 rfl rfl)
theorem dX1_mean_11 : decode cX1_mean 11 = .ok (.ireturn, 1) := dk_172 (dk_at dksX1_mean_0 11 rfl rfl)
theorem dX1_mean_12 : decode cX1_mean 12 = .ok (.iconst 0, 1) := dk_3 (dk_at dksX1_mean_0 12 rfl rfl)
theorem dX1_mean_13 : decode cX1_mean 13 = .ok (.istore_n 3, 1) := dk_62 (dk_at dksX1_mean_0 13 rfl rfl)
theorem dX1_mean_14 : decode cX1_mean 14 = .ok (.lconst 0, 1) := dk_9 (dk_at dksX1_mean_0 14 rfl rfl)
theorem dX1_mean_15 : decode cX1_mean 15 = .ok (.lstore 4, 2) := dk_55 4 (dk_at dksX1_mean_0 15 rfl rfl)
theorem dX1_mean_17 : decode cX1_mean 17 = .ok (.iconst 0, 1) := dk_3 (dk_at dksX1_mean_0 17 rfl rfl)
theorem dX1_mean_18 : decode cX1_mean 18 = .ok (.istore 6, 2) := dk_54 6 (dk_at dksX1_mean_0 18 rfl rfl)
theorem dX1_mean_20 : decode cX1_mean 20 = .ok (.iload 6, 2) := dk_21 6 (dk_at dksX1_mean_0 20 rfl rfl)
theorem dX1_mean_22 : decode cX1_mean 22 = .ok (.aload_n 0, 1) := dk_42 (dk_at dksX1_mean_0 22 rfl rfl)
theorem dX1_mean_23 : decode cX1_mean 23 = .ok (.getfield 17, 3) := dk_180 0 17 (dk_at dksX1_mean_1 0 rfl rfl)
theorem dX1_mean_26 : decode cX1_mean 26 = .ok (.iload_n 1, 1) := dk_27 (dk_at dksX1_mean_1 3 rfl rfl)
theorem dX1_mean_27 : decode cX1_mean 27 = .ok (.iaload, 1) := dk_46 (dk_at dksX1_mean_1 4 rfl rfl)
theorem dX1_mean_28 : decode cX1_mean 28 = .ok (.if_icmp .ge 59, 3) := dk_162 0 59 (dk_at dksX1_mean_1 5 rfl rfl)
theorem dX1_mean_31 : decode cX1_mean 31 = .ok (.aload_n 0, 1) := dk_42 (dk_at dksX1_mean_1 8 rfl rfl)
theorem dX1_mean_32 : decode cX1_mean 32 = .ok (.getfield 20, 3) := dk_180 0 20 (dk_at dksX1_mean_1 9 rfl rfl)
theorem dX1_mean_35 : decode cX1_mean 35 = .ok (.bipush 40, 2) := dk_16 40 (dk_at dksX1_mean_1 12 rfl rfl)
theorem dX1_mean_37 : decode cX1_mean 37 = .ok (.iload_n 1, 1) := dk_27 (dk_at dksX1_mean_1 14 rfl rfl)
theorem dX1_mean_38 : decode cX1_mean 38 = .ok (.imul, 1) := dk_104 (dk_at dksX1_mean_1 15 rfl rfl)
theorem dX1_mean_39 : decode cX1_mean 39 = .ok (.iload 6, 2) := dk_21 6 (dk_at dksX1_mean_1 16 rfl rfl)
theorem dX1_mean_41 : decode cX1_mean 41 = .ok (.iadd, 1) := dk_96 (dk_at dksX1_mean_1 18 rfl rfl)
theorem dX1_mean_42 : decode cX1_mean 42 = .ok (.iaload, 1) := dk_46 (dk_at dksX1_mean_1 19 rfl rfl)
theorem dX1_mean_43 : decode cX1_mean 43 = .ok (.istore 7, 2) := dk_54 7 (dk_at dksX1_mean_1 20 rfl rfl)
theorem dX1_mean_45 : decode cX1_mean 45 = .ok (.iload_n 3, 1) := dk_29 (dk_at dksX1_mean_1 22 rfl rfl)
theorem dX1_mean_46 : decode cX1_mean 46 = .ok (.iload 7, 2) := dk_21 7 (dk_at dksX1_mean_2 0 rfl rfl)
theorem dX1_mean_48 : decode cX1_mean 48 = .ok (.sipush (-999), 3) := dk_17 252 25 (dk_at dksX1_mean_2 2 rfl rfl)
theorem dX1_mean_51 : decode cX1_mean 51 = .ok (.if_icmp .ne 7, 3) := dk_160 0 7 (dk_at dksX1_mean_2 5 rfl rfl)
theorem dX1_mean_54 : decode cX1_mean 54 = .ok (.iconst 0, 1) := dk_3 (dk_at dksX1_mean_2 8 rfl rfl)
theorem dX1_mean_55 : decode cX1_mean 55 = .ok (.goto 4, 3) := dk_167 0 4 (dk_at dksX1_mean_2 9 rfl rfl)
theorem dX1_mean_58 : decode cX1_mean 58 = .ok (.iconst 1, 1) := dk_4 (dk_at dksX1_mean_2 12 rfl rfl)
theorem dX1_mean_59 : decode cX1_mean 59 = .ok (.iadd, 1) := dk_96 (dk_at dksX1_mean_2 13 rfl rfl)
theorem dX1_mean_60 : decode cX1_mean 60 = .ok (.istore_n 3, 1) := dk_62 (dk_at dksX1_mean_2 14 rfl rfl)
theorem dX1_mean_61 : decode cX1_mean 61 = .ok (.lload 4, 2) := dk_22 4 (dk_at dksX1_mean_2 15 rfl rfl)
theorem dX1_mean_63 : decode cX1_mean 63 = .ok (.iload 7, 2) := dk_21 7 (dk_at dksX1_mean_2 17 rfl rfl)
theorem dX1_mean_65 : decode cX1_mean 65 = .ok (.sipush (-999), 3) := dk_17 252 25 (dk_at dksX1_mean_2 19 rfl rfl)
theorem dX1_mean_68 : decode cX1_mean 68 = .ok (.if_icmp .ne 7, 3) := dk_160 0 7 (dk_at dksX1_mean_3 0 rfl rfl)
theorem dX1_mean_71 : decode cX1_mean 71 = .ok (.lconst 0, 1) := dk_9 (dk_at dksX1_mean_3 3 rfl rfl)
theorem dX1_mean_72 : decode cX1_mean 72 = .ok (.goto 6, 3) := dk_167 0 6 (dk_at dksX1_mean_3 4 rfl rfl)
theorem dX1_mean_75 : decode cX1_mean 75 = .ok (.iload 7, 2) := dk_21 7 (dk_at dksX1_mean_3 7 rfl rfl)
theorem dX1_mean_77 : decode cX1_mean 77 = .ok (.i2l, 1) := dk_133 (dk_at dksX1_mean_3 9 rfl rfl)
theorem dX1_mean_78 : decode cX1_mean 78 = .ok (.ladd, 1) := dk_97 (dk_at dksX1_mean_3 10 rfl rfl)
theorem dX1_mean_79 : decode cX1_mean 79 = .ok (.lstore 4, 2) := dk_55 4 (dk_at dksX1_mean_3 11 rfl rfl)
theorem dX1_mean_81 : decode cX1_mean 81 = .ok (.iinc 6 1, 3) := dk_132 6 1 (dk_at dksX1_mean_3 13 rfl rfl)
theorem dX1_mean_84 : decode cX1_mean 84 = .ok (.goto (-64), 3) := dk_167 255 192 (dk_at dksX1_mean_3 16 rfl rfl)
theorem dX1_mean_87 : decode cX1_mean 87 = .ok (.iload_n 3, 1) := dk_29 (dk_at dksX1_mean_3 19 rfl rfl)
theorem dX1_mean_88 : decode cX1_mean 88 = .ok (.ifCond .ne 11, 3) := dk_154 0 11 (dk_at dksX1_mean_3 20 rfl rfl)
theorem dX1_mean_91 : decode cX1_mean 91 = .ok (.aload_n 0, 1) := dk_42 (dk_at dksX1_mean_3 23 rfl rfl)
theorem dX1_mean_92 : decode cX1_mean 92 = .ok (.iconst 4, 1) := dk_7 (dk_at dksX1_mean_4 0 rfl rfl)
theorem dX1_mean_93 : decode cX1_mean 93 = .ok (.invokevirtual 193, 3) := dk_182 0 193 (dk_at dksX1_mean_4 1 rfl rfl)
theorem dX1_mean_96 : decode cX1_mean 96 = .ok (.goto 14, 3) := dk_167 0 14 (dk_at dksX1_mean_4 4 rfl rfl)
theorem dX1_mean_99 : decode cX1_mean 99 = .ok (.aload_n 0, 1) := dk_42 (dk_at dksX1_mean_4 7 rfl rfl)
theorem dX1_mean_100 : decode cX1_mean 100 = .ok (.lload 4, 2) := dk_22 4 (dk_at dksX1_mean_4 8 rfl rfl)
theorem dX1_mean_102 : decode cX1_mean 102 = .ok (.iload_n 3, 1) := dk_29 (dk_at dksX1_mean_4 10 rfl rfl)
theorem dX1_mean_103 : decode cX1_mean 103 = .ok (.i2l, 1) := dk_133 (dk_at dksX1_mean_4 11 rfl rfl)
theorem dX1_mean_104 : decode cX1_mean 104 = .ok (.ldiv, 1) := dk_109 (dk_at dksX1_mean_4 12 rfl rfl)
theorem dX1_mean_105 : decode cX1_mean 105 = .ok (.l2i, 1) := dk_136 (dk_at dksX1_mean_4 13 rfl rfl)
theorem dX1_mean_106 : decode cX1_mean 106 = .ok (.iconst 1, 1) := dk_4 (dk_at dksX1_mean_4 14 rfl rfl)
theorem dX1_mean_107 : decode cX1_mean 107 = .ok (.invokevirtual 246, 3) := dk_182 0 246 (dk_at dksX1_mean_4 15 rfl rfl)
theorem dX1_mean_110 : decode cX1_mean 110 = .ok (.ireturn, 1) := dk_172 (dk_at dksX1_mean_4 18 rfl rfl)
abbrev cX1_theft : ByteArray := prog_8_method_73_code
def yX1_theft : MethodName := ⟨RX1, "theft", "(I)I"⟩
def dkwX1_theft_2 : List UInt8 := [182, 0, 246, 167, 0, 5, 16, 252, 172]
abbrev dktX1_theft_2 : List UInt8 := dkwX1_theft_2 ++ []
def dkwX1_theft_1 : List UInt8 := [180, 1, 49, 46, 42, 180, 0, 105, 42, 180, 1, 52, 46, 42, 180, 0, 105, 42, 180, 1, 49, 46, 100]
abbrev dktX1_theft_1 : List UInt8 := dkwX1_theft_1 ++ dktX1_theft_2
def dkwX1_theft_0 : List UInt8 := [42, 27, 182, 0, 240, 154, 0, 5, 2, 172, 42, 27, 182, 1, 55, 153, 0, 38, 42, 42, 180, 0, 105, 42]
abbrev dktX1_theft_0 : List UInt8 := dkwX1_theft_0 ++ dktX1_theft_1
theorem dksX1_theft_0 : cX1_theft.data.toList.drop 0 = dktX1_theft_0 := by decide +kernel
theorem dksX1_theft_1 : cX1_theft.data.toList.drop 24 = dktX1_theft_1 := dk_seg dksX1_theft_0 24 rfl rfl
theorem dksX1_theft_2 : cX1_theft.data.toList.drop 47 = dktX1_theft_2 := dk_seg dksX1_theft_1 23 rfl rfl
theorem dX1_theft_0 : decode cX1_theft 0 = .ok (.aload_n 0, 1) := dk_42 (dk_at dksX1_theft_0 0 rfl rfl)
theorem dX1_theft_1 : decode cX1_theft 1 = .ok (.iload_n 1, 1) := dk_27 (dk_at dksX1_theft_0 1 rfl rfl)
theorem dX1_theft_2 : decode cX1_theft 2 = .ok (.invokevirtual 240, 3) := dk_182 0 240 (dk_at dksX1_theft_0 2 rfl rfl)
theorem dX1_theft_5 : decode cX1_theft 5 = .ok (.ifCond .ne 5, 3) := dk_154 0 5 (dk_at dksX1_theft_0 5 rfl rfl)
theorem dX1_theft_8 : decode cX1_theft 8 = .ok (.iconst (-1), 1) := dk_2 (dk_at dksX1_theft_0 8 rfl rfl)
theorem dX1_theft_9 : decode cX1_theft 9 = .ok (.ireturn, 1) := dk_172 (dk_at dksX1_theft_0 9 rfl rfl)
theorem dX1_theft_10 : decode cX1_theft 10 = .ok (.aload_n 0, 1) := dk_42 (dk_at dksX1_theft_0 10 rfl rfl)
theorem dX1_theft_11 : decode cX1_theft 11 = .ok (.iload_n 1, 1) := dk_27 (dk_at dksX1_theft_0 11 rfl rfl)
theorem dX1_theft_12 : decode cX1_theft 12 = .ok (.invokevirtual 311, 3) := dk_182 1 55 (dk_at dksX1_theft_0 12 rfl rfl)
theorem dX1_theft_15 : decode cX1_theft 15 = .ok (.ifCond .eq 38, 3) := dk_153 0 38 (dk_at dksX1_theft_0 15 rfl rfl)
theorem dX1_theft_18 : decode cX1_theft 18 = .ok (.aload_n 0, 1) := dk_42 (dk_at dksX1_theft_0 18 rfl rfl)
theorem dX1_theft_19 : decode cX1_theft 19 = .ok (.aload_n 0, 1) := dk_42 (dk_at dksX1_theft_0 19 rfl rfl)
theorem dX1_theft_20 : decode cX1_theft 20 = .ok (.getfield 105, 3) := dk_180 0 105 (dk_at dksX1_theft_0 20 rfl rfl)
theorem dX1_theft_23 : decode cX1_theft 23 = .ok (.aload_n 0, 1) := dk_42 (dk_at dksX1_theft_0 23 rfl rfl)
theorem dX1_theft_24 : decode cX1_theft 24 = .ok (.getfield 305, 3) := dk_180 1 49 (dk_at dksX1_theft_1 0 rfl rfl)
theorem dX1_theft_27 : decode cX1_theft 27 = .ok (.iaload, 1) := dk_46 (dk_at dksX1_theft_1 3 rfl rfl)
theorem dX1_theft_28 : decode cX1_theft 28 = .ok (.aload_n 0, 1) := dk_42 (dk_at dksX1_theft_1 4 rfl rfl)
theorem dX1_theft_29 : decode cX1_theft 29 = .ok (.getfield 105, 3) := dk_180 0 105 (dk_at dksX1_theft_1 5 rfl rfl)
theorem dX1_theft_32 : decode cX1_theft 32 = .ok (.aload_n 0, 1) := dk_42 (dk_at dksX1_theft_1 8 rfl rfl)
theorem dX1_theft_33 : decode cX1_theft 33 = .ok (.getfield 308, 3) := dk_180 1 52 (dk_at dksX1_theft_1 9 rfl rfl)
theorem dX1_theft_36 : decode cX1_theft 36 = .ok (.iaload, 1) := dk_46 (dk_at dksX1_theft_1 12 rfl rfl)
theorem dX1_theft_37 : decode cX1_theft 37 = .ok (.aload_n 0, 1) := dk_42 (dk_at dksX1_theft_1 13 rfl rfl)
theorem dX1_theft_38 : decode cX1_theft 38 = .ok (.getfield 105, 3) := dk_180 0 105 (dk_at dksX1_theft_1 14 rfl rfl)
theorem dX1_theft_41 : decode cX1_theft 41 = .ok (.aload_n 0, 1) := dk_42 (dk_at dksX1_theft_1 17 rfl rfl)
theorem dX1_theft_42 : decode cX1_theft 42 = .ok (.getfield 305, 3) := dk_180 1 49 (dk_at dksX1_theft_1 18 rfl rfl)
theorem dX1_theft_45 : decode cX1_theft 45 = .ok (.iaload, 1) := dk_46 (dk_at dksX1_theft_1 21 rfl rfl)
theorem dX1_theft_46 : decode cX1_theft 46 = .ok (.isub, 1) := dk_100 (dk_at dksX1_theft_1 22 rfl rfl)
theorem dX1_theft_47 : decode cX1_theft 47 = .ok (.invokevirtual 246, 3) := dk_182 0 246 (dk_at dksX1_theft_2 0 rfl rfl)
theorem dX1_theft_50 : decode cX1_theft 50 = .ok (.goto 5, 3) := dk_167 0 5 (dk_at dksX1_theft_2 3 rfl rfl)
theorem dX1_theft_53 : decode cX1_theft 53 = .ok (.bipush (-4), 2) := dk_16 252 (dk_at dksX1_theft_2 6 rfl rfl)
theorem dX1_theft_55 : decode cX1_theft 55 = .ok (.ireturn, 1) := dk_172 (dk_at dksX1_theft_2 8 rfl rfl)
abbrev cX1_findTheft : ByteArray := prog_8_method_72_code
def yX1_findTheft : MethodName := ⟨RX1, "findTheft", "(I)Z"⟩
def dkwX1_findTheft_5 : List UInt8 := [180, 1, 52, 155, 0, 7, 4, 167, 0, 4, 3, 172]
abbrev dktX1_findTheft_5 : List UInt8 := dkwX1_findTheft_5 ++ []
def dkwX1_findTheft_4 : List UInt8 := [46, 7, 160, 0, 7, 28, 167, 0, 7, 42, 180, 1, 49, 181, 1, 49, 132, 2, 1, 167, 255, 203, 42]
abbrev dktX1_findTheft_4 : List UInt8 := dkwX1_findTheft_4 ++ dktX1_findTheft_5
def dkwX1_findTheft_3 : List UInt8 := [180, 0, 99, 28, 46, 27, 160, 0, 27, 42, 180, 0, 102, 28, 46, 6, 159, 0, 13, 42, 180, 0, 102, 28]
abbrev dktX1_findTheft_3 : List UInt8 := dkwX1_findTheft_3 ++ dktX1_findTheft_4
def dkwX1_findTheft_2 : List UInt8 := [180, 1, 52, 181, 1, 52, 132, 2, 1, 167, 255, 213, 3, 61, 28, 42, 180, 1, 52, 162, 0, 51, 42, 42]
abbrev dktX1_findTheft_2 : List UInt8 := dkwX1_findTheft_2 ++ dktX1_findTheft_3
def dkwX1_findTheft_1 : List UInt8 := [180, 0, 99, 28, 46, 27, 160, 0, 17, 42, 180, 0, 102, 28, 46, 8, 160, 0, 7, 28, 167, 0, 7, 42]
abbrev dktX1_findTheft_1 : List UInt8 := dkwX1_findTheft_1 ++ dktX1_findTheft_2
def dkwX1_findTheft_0 : List UInt8 := [42, 16, 247, 181, 1, 49, 42, 16, 247, 181, 1, 52, 3, 61, 28, 42, 180, 0, 226, 162, 0, 41, 42, 42]
abbrev dktX1_findTheft_0 : List UInt8 := dkwX1_findTheft_0 ++ dktX1_findTheft_1
theorem dksX1_findTheft_0 : cX1_findTheft.data.toList.drop 0 = dktX1_findTheft_0 := by decide +kernel
theorem dksX1_findTheft_1 : cX1_findTheft.data.toList.drop 24 = dktX1_findTheft_1 := dk_seg dksX1_findTheft_0 24 rfl rfl
theorem dksX1_findTheft_2 : cX1_findTheft.data.toList.drop 48 = dktX1_findTheft_2 := dk_seg dksX1_findTheft_1 24 rfl rfl
theorem dksX1_findTheft_3 : cX1_findTheft.data.toList.drop 72 = dktX1_findTheft_3 := dk_seg dksX1_findTheft_2 24 rfl rfl
theorem dksX1_findTheft_4 : cX1_findTheft.data.toList.drop 96 = dktX1_findTheft_4 := dk_seg dksX1_findTheft_3 24 rfl rfl
theorem dksX1_findTheft_5 : cX1_findTheft.data.toList.drop 119 = dktX1_findTheft_5 := dk_seg dksX1_findTheft_4 23 rfl rfl
theorem dX1_findTheft_0 : decode cX1_findTheft 0 = .ok (.aload_n 0, 1) := dk_42 (dk_at dksX1_findTheft_0 0 rfl rfl)
theorem dX1_findTheft_1 : decode cX1_findTheft 1 = .ok (.bipush (-9), 2) := dk_16 247 (dk_at dksX1_findTheft_0 1 rfl rfl)
theorem dX1_findTheft_3 : decode cX1_findTheft 3 = .ok (.putfield 305, 3) := dk_181 1 49 (dk_at dksX1_findTheft_0 3 rfl rfl)
theorem dX1_findTheft_6 : decode cX1_findTheft 6 = .ok (.aload_n 0, 1) := dk_42 (dk_at dksX1_findTheft_0 6 rfl rfl)
theorem dX1_findTheft_7 : decode cX1_findTheft 7 = .ok (.bipush (-9), 2) := dk_16 247 (dk_at dksX1_findTheft_0 7 rfl rfl)
theorem dX1_findTheft_9 : decode cX1_findTheft 9 = .ok (.putfield 308, 3) := dk_181 1 52 (dk_at dksX1_findTheft_0 9 rfl rfl)
theorem dX1_findTheft_12 : decode cX1_findTheft 12 = .ok (.iconst 0, 1) := dk_3 (dk_at dksX1_findTheft_0 12 rfl rfl)
theorem dX1_findTheft_13 : decode cX1_findTheft 13 = .ok (.istore_n 2, 1) := dk_61 (dk_at dksX1_findTheft_0 13 rfl rfl)
theorem dX1_findTheft_14 : decode cX1_findTheft 14 = .ok (.iload_n 2, 1) := dk_28 (dk_at dksX1_findTheft_0 14 rfl rfl)
theorem dX1_findTheft_15 : decode cX1_findTheft 15 = .ok (.aload_n 0, 1) := dk_42 (dk_at dksX1_findTheft_0 15 rfl rfl)
theorem dX1_findTheft_16 : decode cX1_findTheft 16 = .ok (.getfield 226, 3) := dk_180 0 226 (dk_at dksX1_findTheft_0 16 rfl rfl)
theorem dX1_findTheft_19 : decode cX1_findTheft 19 = .ok (.if_icmp .ge 41, 3) := dk_162 0 41 (dk_at dksX1_findTheft_0 19 rfl rfl)
theorem dX1_findTheft_22 : decode cX1_findTheft 22 = .ok (.aload_n 0, 1) := dk_42 (dk_at dksX1_findTheft_0 22 rfl rfl)
theorem dX1_findTheft_23 : decode cX1_findTheft 23 = .ok (.aload_n 0, 1) := dk_42 (dk_at dksX1_findTheft_0 23 rfl rfl)
theorem dX1_findTheft_24 : decode cX1_findTheft 24 = .ok (.getfield 99, 3) := dk_180 0 99 (dk_at dksX1_findTheft_1 0 rfl rfl)
theorem dX1_findTheft_27 : decode cX1_findTheft 27 = .ok (.iload_n 2, 1) := dk_28 (dk_at dksX1_findTheft_1 3 rfl rfl)
theorem dX1_findTheft_28 : decode cX1_findTheft 28 = .ok (.iaload, 1) := dk_46 (dk_at dksX1_findTheft_1 4 rfl rfl)
theorem dX1_findTheft_29 : decode cX1_findTheft 29 = .ok (.iload_n 1, 1) := dk_27 (dk_at dksX1_findTheft_1 5 rfl rfl)
theorem dX1_findTheft_30 : decode cX1_findTheft 30 = .ok (.if_icmp .ne 17, 3) := dk_160 0 17 (dk_at dksX1_findTheft_1 6 rfl rfl)
theorem dX1_findTheft_33 : decode cX1_findTheft 33 = .ok (.aload_n 0, 1) := dk_42 (dk_at dksX1_findTheft_1 9 rfl rfl)
theorem dX1_findTheft_34 : decode cX1_findTheft 34 = .ok (.getfield 102, 3) := dk_180 0 102 (dk_at dksX1_findTheft_1 10 rfl rfl)
theorem dX1_findTheft_37 : decode cX1_findTheft 37 = .ok (.iload_n 2, 1) := dk_28 (dk_at dksX1_findTheft_1 13 rfl rfl)
theorem dX1_findTheft_38 : decode cX1_findTheft 38 = .ok (.iaload, 1) := dk_46 (dk_at dksX1_findTheft_1 14 rfl rfl)
theorem dX1_findTheft_39 : decode cX1_findTheft 39 = .ok (.iconst 5, 1) := dk_8 (dk_at dksX1_findTheft_1 15 rfl rfl)
theorem dX1_findTheft_40 : decode cX1_findTheft 40 = .ok (.if_icmp .ne 7, 3) := dk_160 0 7 (dk_at dksX1_findTheft_1 16 rfl rfl)
theorem dX1_findTheft_43 : decode cX1_findTheft 43 = .ok (.iload_n 2, 1) := dk_28 (dk_at dksX1_findTheft_1 19 rfl rfl)
theorem dX1_findTheft_44 : decode cX1_findTheft 44 = .ok (.goto 7, 3) := dk_167 0 7 (dk_at dksX1_findTheft_1 20 rfl rfl)
theorem dX1_findTheft_47 : decode cX1_findTheft 47 = .ok (.aload_n 0, 1) := dk_42 (dk_at dksX1_findTheft_1 23 rfl rfl)
theorem dX1_findTheft_48 : decode cX1_findTheft 48 = .ok (.getfield 308, 3) := dk_180 1 52 (dk_at dksX1_findTheft_2 0 rfl rfl)
theorem dX1_findTheft_51 : decode cX1_findTheft 51 = .ok (.putfield 308, 3) := dk_181 1 52 (dk_at dksX1_findTheft_2 3 rfl rfl)
theorem dX1_findTheft_54 : decode cX1_findTheft 54 = .ok (.iinc 2 1, 3) := dk_132 2 1 (dk_at dksX1_findTheft_2 6 rfl rfl)
theorem dX1_findTheft_57 : decode cX1_findTheft 57 = .ok (.goto (-43), 3) := dk_167 255 213 (dk_at dksX1_findTheft_2 9 rfl rfl)
theorem dX1_findTheft_60 : decode cX1_findTheft 60 = .ok (.iconst 0, 1) := dk_3 (dk_at dksX1_findTheft_2 12 rfl rfl)
theorem dX1_findTheft_61 : decode cX1_findTheft 61 = .ok (.istore_n 2, 1) := dk_61 (dk_at dksX1_findTheft_2 13 rfl rfl)
theorem dX1_findTheft_62 : decode cX1_findTheft 62 = .ok (.iload_n 2, 1) := dk_28 (dk_at dksX1_findTheft_2 14 rfl rfl)
theorem dX1_findTheft_63 : decode cX1_findTheft 63 = .ok (.aload_n 0, 1) := dk_42 (dk_at dksX1_findTheft_2 15 rfl rfl)
theorem dX1_findTheft_64 : decode cX1_findTheft 64 = .ok (.getfield 308, 3) := dk_180 1 52 (dk_at dksX1_findTheft_2 16 rfl rfl)
theorem dX1_findTheft_67 : decode cX1_findTheft 67 = .ok (.if_icmp .ge 51, 3) := dk_162 0 51 (dk_at dksX1_findTheft_2 19 rfl rfl)
theorem dX1_findTheft_70 : decode cX1_findTheft 70 = .ok (.aload_n 0, 1) := dk_42 (dk_at dksX1_findTheft_2 22 rfl rfl)
theorem dX1_findTheft_71 : decode cX1_findTheft 71 = .ok (.aload_n 0, 1) := dk_42 (dk_at dksX1_findTheft_2 23 rfl rfl)
theorem dX1_findTheft_72 : decode cX1_findTheft 72 = .ok (.getfield 99, 3) := dk_180 0 99 (dk_at dksX1_findTheft_3 0 rfl rfl)
theorem dX1_findTheft_75 : decode cX1_findTheft 75 = .ok (.iload_n 2, 1) := dk_28 (dk_at dksX1_findTheft_3 3 rfl rfl)
theorem dX1_findTheft_76 : decode cX1_findTheft 76 = .ok (.iaload, 1) := dk_46 (dk_at dksX1_findTheft_3 4 rfl rfl)
theorem dX1_findTheft_77 : decode cX1_findTheft 77 = .ok (.iload_n 1, 1) := dk_27 (dk_at dksX1_findTheft_3 5 rfl rfl)
theorem dX1_findTheft_78 : decode cX1_findTheft 78 = .ok (.if_icmp .ne 27, 3) := dk_160 0 27 (dk_at dksX1_findTheft_3 6 rfl rfl)
theorem dX1_findTheft_81 : decode cX1_findTheft 81 = .ok (.aload_n 0, 1) := dk_42 (dk_at dksX1_findTheft_3 9 rfl rfl)
theorem dX1_findTheft_82 : decode cX1_findTheft 82 = .ok (.getfield 102, 3) := dk_180 0 102 (dk_at dksX1_findTheft_3 10 rfl rfl)
theorem dX1_findTheft_85 : decode cX1_findTheft 85 = .ok (.iload_n 2, 1) := dk_28 (dk_at dksX1_findTheft_3 13 rfl rfl)
theorem dX1_findTheft_86 : decode cX1_findTheft 86 = .ok (.iaload, 1) := dk_46 (dk_at dksX1_findTheft_3 14 rfl rfl)
theorem dX1_findTheft_87 : decode cX1_findTheft 87 = .ok (.iconst 3, 1) := dk_6 (dk_at dksX1_findTheft_3 15 rfl rfl)
theorem dX1_findTheft_88 : decode cX1_findTheft 88 = .ok (.if_icmp .eq 13, 3) := dk_159 0 13 (dk_at dksX1_findTheft_3 16 rfl rfl)
theorem dX1_findTheft_91 : decode cX1_findTheft 91 = .ok (.aload_n 0, 1) := dk_42 (dk_at dksX1_findTheft_3 19 rfl rfl)
theorem dX1_findTheft_92 : decode cX1_findTheft 92 = .ok (.getfield 102, 3) := dk_180 0 102 (dk_at dksX1_findTheft_3 20 rfl rfl)
theorem dX1_findTheft_95 : decode cX1_findTheft 95 = .ok (.iload_n 2, 1) := dk_28 (dk_at dksX1_findTheft_3 23 rfl rfl)
theorem dX1_findTheft_96 : decode cX1_findTheft 96 = .ok (.iaload, 1) := dk_46 (dk_at dksX1_findTheft_4 0 rfl rfl)
theorem dX1_findTheft_97 : decode cX1_findTheft 97 = .ok (.iconst 4, 1) := dk_7 (dk_at dksX1_findTheft_4 1 rfl rfl)
theorem dX1_findTheft_98 : decode cX1_findTheft 98 = .ok (.if_icmp .ne 7, 3) := dk_160 0 7 (dk_at dksX1_findTheft_4 2 rfl rfl)
theorem dX1_findTheft_101 : decode cX1_findTheft 101 = .ok (.iload_n 2, 1) := dk_28 (dk_at dksX1_findTheft_4 5 rfl rfl)
theorem dX1_findTheft_102 : decode cX1_findTheft 102 = .ok (.goto 7, 3) := dk_167 0 7 (dk_at dksX1_findTheft_4 6 rfl rfl)
theorem dX1_findTheft_105 : decode cX1_findTheft 105 = .ok (.aload_n 0, 1) := dk_42 (dk_at dksX1_findTheft_4 9 rfl rfl)
theorem dX1_findTheft_106 : decode cX1_findTheft 106 = .ok (.getfield 305, 3) := dk_180 1 49 (dk_at dksX1_findTheft_4 10 rfl rfl)
theorem dX1_findTheft_109 : decode cX1_findTheft 109 = .ok (.putfield 305, 3) := dk_181 1 49 (dk_at dksX1_findTheft_4 13 rfl rfl)
theorem dX1_findTheft_112 : decode cX1_findTheft 112 = .ok (.iinc 2 1, 3) := dk_132 2 1 (dk_at dksX1_findTheft_4 16 rfl rfl)
theorem dX1_findTheft_115 : decode cX1_findTheft 115 = .ok (.goto (-53), 3) := dk_167 255 203 (dk_at dksX1_findTheft_4 19 rfl rfl)
theorem dX1_findTheft_118 : decode cX1_findTheft 118 = .ok (.aload_n 0, 1) := dk_42 (dk_at dksX1_findTheft_4 22 rfl rfl)
theorem dX1_findTheft_119 : decode cX1_findTheft 119 = .ok (.getfield 308, 3) := dk_180 1 52 (dk_at dksX1_findTheft_5 0 rfl rfl)
theorem dX1_findTheft_122 : decode cX1_findTheft 122 = .ok (.ifCond .lt 7, 3) := dk_155 0 7 (dk_at dksX1_findTheft_5 3 rfl rfl)
theorem dX1_findTheft_125 : decode cX1_findTheft 125 = .ok (.iconst 1, 1) := dk_4 (dk_at dksX1_findTheft_5 6 rfl rfl)
theorem dX1_findTheft_126 : decode cX1_findTheft 126 = .ok (.goto 4, 3) := dk_167 0 4 (dk_at dksX1_findTheft_5 7 rfl rfl)
theorem dX1_findTheft_129 : decode cX1_findTheft 129 = .ok (.iconst 0, 1) := dk_3 (dk_at dksX1_findTheft_5 10 rfl rfl)
theorem dX1_findTheft_130 : decode cX1_findTheft 130 = .ok (.ireturn, 1) := dk_172 (dk_at dksX1_findTheft_5 11 rfl rfl)
abbrev cX1_hands : ByteArray := prog_8_method_75_code
def yX1_hands : MethodName := ⟨RX1, "hands", "(I)I"⟩
def dkwX1_hands_4 : List UInt8 := [167, 255, 187, 42, 28, 28, 184, 1, 58, 182, 0, 246, 172]
abbrev dktX1_hands_4 : List UInt8 := dkwX1_hands_4 ++ []
def dkwX1_hands_3 : List UInt8 := [54, 4, 29, 42, 180, 1, 49, 162, 0, 8, 21, 4, 167, 0, 7, 28, 21, 4, 128, 61, 132, 3, 1]
abbrev dktX1_hands_3 : List UInt8 := dkwX1_hands_3 ++ dktX1_hands_4
def dkwX1_hands_2 : List UInt8 := [46, 5, 162, 0, 41, 4, 42, 180, 0, 108, 29, 46, 16, 8, 42, 180, 0, 102, 29, 46, 104, 96, 120]
abbrev dktX1_hands_2 : List UInt8 := dkwX1_hands_2 ++ dktX1_hands_3
def dkwX1_hands_1 : List UInt8 := [62, 29, 42, 180, 1, 52, 162, 0, 67, 42, 180, 0, 99, 29, 46, 27, 160, 0, 51, 42, 180, 0, 102, 29]
abbrev dktX1_hands_1 : List UInt8 := dkwX1_hands_1 ++ dktX1_hands_2
def dkwX1_hands_0 : List UInt8 := [42, 27, 182, 0, 240, 154, 0, 5, 2, 172, 42, 27, 182, 1, 55, 154, 0, 6, 16, 252, 172, 3, 61, 3]
abbrev dktX1_hands_0 : List UInt8 := dkwX1_hands_0 ++ dktX1_hands_1
theorem dksX1_hands_0 : cX1_hands.data.toList.drop 0 = dktX1_hands_0 := by decide +kernel
theorem dksX1_hands_1 : cX1_hands.data.toList.drop 24 = dktX1_hands_1 := dk_seg dksX1_hands_0 24 rfl rfl
theorem dksX1_hands_2 : cX1_hands.data.toList.drop 48 = dktX1_hands_2 := dk_seg dksX1_hands_1 24 rfl rfl
theorem dksX1_hands_3 : cX1_hands.data.toList.drop 71 = dktX1_hands_3 := dk_seg dksX1_hands_2 23 rfl rfl
theorem dksX1_hands_4 : cX1_hands.data.toList.drop 94 = dktX1_hands_4 := dk_seg dksX1_hands_3 23 rfl rfl
theorem dX1_hands_0 : decode cX1_hands 0 = .ok (.aload_n 0, 1) := dk_42 (dk_at dksX1_hands_0 0 rfl rfl)
theorem dX1_hands_1 : decode cX1_hands 1 = .ok (.iload_n 1, 1) := dk_27 (dk_at dksX1_hands_0 1 rfl rfl)
theorem dX1_hands_2 : decode cX1_hands 2 = .ok (.invokevirtual 240, 3) := dk_182 0 240 (dk_at dksX1_hands_0 2 rfl rfl)
theorem dX1_hands_5 : decode cX1_hands 5 = .ok (.ifCond .ne 5, 3) := dk_154 0 5 (dk_at dksX1_hands_0 5 rfl rfl)
theorem dX1_hands_8 : decode cX1_hands 8 = .ok (.iconst (-1), 1) := dk_2 (dk_at dksX1_hands_0 8 rfl rfl)
theorem dX1_hands_9 : decode cX1_hands 9 = .ok (.ireturn, 1) := dk_172 (dk_at dksX1_hands_0 9 rfl rfl)
theorem dX1_hands_10 : decode cX1_hands 10 = .ok (.aload_n 0, 1) := dk_42 (dk_at dksX1_hands_0 10 rfl rfl)
theorem dX1_hands_11 : decode cX1_hands 11 = .ok (.iload_n 1, 1) := dk_27 (dk_at dksX1_hands_0 11 rfl rfl)
theorem dX1_hands_12 : decode cX1_hands 12 = .ok (.invokevirtual 311, 3) := dk_182 1 55 (dk_at dksX1_hands_0 12 rfl rfl)
theorem dX1_hands_15 : decode cX1_hands 15 = .ok (.ifCond .ne 6, 3) := dk_154 0 6 (dk_at dksX1_hands_0 15 rfl rfl)
theorem dX1_hands_18 : decode cX1_hands 18 = .ok (.bipush (-4), 2) := dk_16 252 (dk_at dksX1_hands_0 18 rfl rfl)
theorem dX1_hands_20 : decode cX1_hands 20 = .ok (.ireturn, 1) := dk_172 (dk_at dksX1_hands_0 20 rfl rfl)
theorem dX1_hands_21 : decode cX1_hands 21 = .ok (.iconst 0, 1) := dk_3 (dk_at dksX1_hands_0 21 rfl rfl)
theorem dX1_hands_22 : decode cX1_hands 22 = .ok (.istore_n 2, 1) := dk_61 (dk_at dksX1_hands_0 22 rfl rfl)
theorem dX1_hands_23 : decode cX1_hands 23 = .ok (.iconst 0, 1) := dk_3 (dk_at dksX1_hands_0 23 rfl rfl)
theorem dX1_hands_24 : decode cX1_hands 24 = .ok (.istore_n 3, 1) := dk_62 (dk_at dksX1_hands_1 0 rfl rfl)
theorem dX1_hands_25 : decode cX1_hands 25 = .ok (.iload_n 3, 1) := dk_29 (dk_at dksX1_hands_1 1 rfl rfl)
theorem dX1_hands_26 : decode cX1_hands 26 = .ok (.aload_n 0, 1) := dk_42 (dk_at dksX1_hands_1 2 rfl rfl)
theorem dX1_hands_27 : decode cX1_hands 27 = .ok (.getfield 308, 3) := dk_180 1 52 (dk_at dksX1_hands_1 3 rfl rfl)
theorem dX1_hands_30 : decode cX1_hands 30 = .ok (.if_icmp .ge 67, 3) := dk_162 0 67 (dk_at dksX1_hands_1 6 rfl rfl)
theorem dX1_hands_33 : decode cX1_hands 33 = .ok (.aload_n 0, 1) := dk_42 (dk_at dksX1_hands_1 9 rfl rfl)
theorem dX1_hands_34 : decode cX1_hands 34 = .ok (.getfield 99, 3) := dk_180 0 99 (dk_at dksX1_hands_1 10 rfl rfl)
theorem dX1_hands_37 : decode cX1_hands 37 = .ok (.iload_n 3, 1) := dk_29 (dk_at dksX1_hands_1 13 rfl rfl)
theorem dX1_hands_38 : decode cX1_hands 38 = .ok (.iaload, 1) := dk_46 (dk_at dksX1_hands_1 14 rfl rfl)
theorem dX1_hands_39 : decode cX1_hands 39 = .ok (.iload_n 1, 1) := dk_27 (dk_at dksX1_hands_1 15 rfl rfl)
theorem dX1_hands_40 : decode cX1_hands 40 = .ok (.if_icmp .ne 51, 3) := dk_160 0 51 (dk_at dksX1_hands_1 16 rfl rfl)
theorem dX1_hands_43 : decode cX1_hands 43 = .ok (.aload_n 0, 1) := dk_42 (dk_at dksX1_hands_1 19 rfl rfl)
theorem dX1_hands_44 : decode cX1_hands 44 = .ok (.getfield 102, 3) := dk_180 0 102 (dk_at dksX1_hands_1 20 rfl rfl)
theorem dX1_hands_47 : decode cX1_hands 47 = .ok (.iload_n 3, 1) := dk_29 (dk_at dksX1_hands_1 23 rfl rfl)
theorem dX1_hands_48 : decode cX1_hands 48 = .ok (.iaload, 1) := dk_46 (dk_at dksX1_hands_2 0 rfl rfl)
theorem dX1_hands_49 : decode cX1_hands 49 = .ok (.iconst 2, 1) := dk_5 (dk_at dksX1_hands_2 1 rfl rfl)
theorem dX1_hands_50 : decode cX1_hands 50 = .ok (.if_icmp .ge 41, 3) := dk_162 0 41 (dk_at dksX1_hands_2 2 rfl rfl)
theorem dX1_hands_53 : decode cX1_hands 53 = .ok (.iconst 1, 1) := dk_4 (dk_at dksX1_hands_2 5 rfl rfl)
theorem dX1_hands_54 : decode cX1_hands 54 = .ok (.aload_n 0, 1) := dk_42 (dk_at dksX1_hands_2 6 rfl rfl)
theorem dX1_hands_55 : decode cX1_hands 55 = .ok (.getfield 108, 3) := dk_180 0 108 (dk_at dksX1_hands_2 7 rfl rfl)
theorem dX1_hands_58 : decode cX1_hands 58 = .ok (.iload_n 3, 1) := dk_29 (dk_at dksX1_hands_2 10 rfl rfl)
theorem dX1_hands_59 : decode cX1_hands 59 = .ok (.iaload, 1) := dk_46 (dk_at dksX1_hands_2 11 rfl rfl)
theorem dX1_hands_60 : decode cX1_hands 60 = .ok (.bipush 8, 2) := dk_16 8 (dk_at dksX1_hands_2 12 rfl rfl)
theorem dX1_hands_62 : decode cX1_hands 62 = .ok (.aload_n 0, 1) := dk_42 (dk_at dksX1_hands_2 14 rfl rfl)
theorem dX1_hands_63 : decode cX1_hands 63 = .ok (.getfield 102, 3) := dk_180 0 102 (dk_at dksX1_hands_2 15 rfl rfl)
theorem dX1_hands_66 : decode cX1_hands 66 = .ok (.iload_n 3, 1) := dk_29 (dk_at dksX1_hands_2 18 rfl rfl)
theorem dX1_hands_67 : decode cX1_hands 67 = .ok (.iaload, 1) := dk_46 (dk_at dksX1_hands_2 19 rfl rfl)
theorem dX1_hands_68 : decode cX1_hands 68 = .ok (.imul, 1) := dk_104 (dk_at dksX1_hands_2 20 rfl rfl)
theorem dX1_hands_69 : decode cX1_hands 69 = .ok (.iadd, 1) := dk_96 (dk_at dksX1_hands_2 21 rfl rfl)
theorem dX1_hands_70 : decode cX1_hands 70 = .ok (.ishl, 1) := dk_120 (dk_at dksX1_hands_2 22 rfl rfl)
theorem dX1_hands_71 : decode cX1_hands 71 = .ok (.istore 4, 2) := dk_54 4 (dk_at dksX1_hands_3 0 rfl rfl)
theorem dX1_hands_73 : decode cX1_hands 73 = .ok (.iload_n 3, 1) := dk_29 (dk_at dksX1_hands_3 2 rfl rfl)
theorem dX1_hands_74 : decode cX1_hands 74 = .ok (.aload_n 0, 1) := dk_42 (dk_at dksX1_hands_3 3 rfl rfl)
theorem dX1_hands_75 : decode cX1_hands 75 = .ok (.getfield 305, 3) := dk_180 1 49 (dk_at dksX1_hands_3 4 rfl rfl)
theorem dX1_hands_78 : decode cX1_hands 78 = .ok (.if_icmp .ge 8, 3) := dk_162 0 8 (dk_at dksX1_hands_3 7 rfl rfl)
theorem dX1_hands_81 : decode cX1_hands 81 = .ok (.iload 4, 2) := dk_21 4 (dk_at dksX1_hands_3 10 rfl rfl)
theorem dX1_hands_83 : decode cX1_hands 83 = .ok (.goto 7, 3) := dk_167 0 7 (dk_at dksX1_hands_3 12 rfl rfl)
theorem dX1_hands_86 : decode cX1_hands 86 = .ok (.iload_n 2, 1) := dk_28 (dk_at dksX1_hands_3 15 rfl rfl)
theorem dX1_hands_87 : decode cX1_hands 87 = .ok (.iload 4, 2) := dk_21 4 (dk_at dksX1_hands_3 16 rfl rfl)
theorem dX1_hands_89 : decode cX1_hands 89 = .ok (.ior, 1) := dk_128 (dk_at dksX1_hands_3 18 rfl rfl)
theorem dX1_hands_90 : decode cX1_hands 90 = .ok (.istore_n 2, 1) := dk_61 (dk_at dksX1_hands_3 19 rfl rfl)
theorem dX1_hands_91 : decode cX1_hands 91 = .ok (.iinc 3 1, 3) := dk_132 3 1 (dk_at dksX1_hands_3 20 rfl rfl)
theorem dX1_hands_94 : decode cX1_hands 94 = .ok (.goto (-69), 3) := dk_167 255 187 (dk_at dksX1_hands_4 0 rfl rfl)
theorem dX1_hands_97 : decode cX1_hands 97 = .ok (.aload_n 0, 1) := dk_42 (dk_at dksX1_hands_4 3 rfl rfl)
theorem dX1_hands_98 : decode cX1_hands 98 = .ok (.iload_n 2, 1) := dk_28 (dk_at dksX1_hands_4 4 rfl rfl)
theorem dX1_hands_99 : decode cX1_hands 99 = .ok (.iload_n 2, 1) := dk_28 (dk_at dksX1_hands_4 5 rfl rfl)
theorem dX1_hands_100 : decode cX1_hands 100 = .ok (.invokestatic 314, 3) := dk_184 1 58 (dk_at dksX1_hands_4 6 rfl rfl)
theorem dX1_hands_103 : decode cX1_hands 103 = .ok (.invokevirtual 246, 3) := dk_182 0 246 (dk_at dksX1_hands_4 9 rfl rfl)
theorem dX1_hands_106 : decode cX1_hands 106 = .ok (.ireturn, 1) := dk_172 (dk_at dksX1_hands_4 12 rfl rfl)
abbrev cX1_bits : ByteArray := prog_8_method_74_code
def yX1_bits : MethodName := ⟨RX1, "bits", "(I)I"⟩
def dkwX1_bits_1 : List UInt8 := [27, 172]
abbrev dktX1_bits_1 : List UInt8 := dkwX1_bits_1 ++ []
def dkwX1_bits_0 : List UInt8 := [3, 60, 3, 61, 28, 16, 14, 162, 0, 17, 27, 26, 28, 122, 4, 126, 96, 60, 132, 2, 1, 167, 255, 239]
abbrev dktX1_bits_0 : List UInt8 := dkwX1_bits_0 ++ dktX1_bits_1
theorem dksX1_bits_0 : cX1_bits.data.toList.drop 0 = dktX1_bits_0 := by decide +kernel
theorem dksX1_bits_1 : cX1_bits.data.toList.drop 24 = dktX1_bits_1 := dk_seg dksX1_bits_0 24 rfl rfl
theorem dX1_bits_0 : decode cX1_bits 0 = .ok (.iconst 0, 1) := dk_3 (dk_at dksX1_bits_0 0 rfl rfl)
theorem dX1_bits_1 : decode cX1_bits 1 = .ok (.istore_n 1, 1) := dk_60 (dk_at dksX1_bits_0 1 rfl rfl)
theorem dX1_bits_2 : decode cX1_bits 2 = .ok (.iconst 0, 1) := dk_3 (dk_at dksX1_bits_0 2 rfl rfl)
theorem dX1_bits_3 : decode cX1_bits 3 = .ok (.istore_n 2, 1) := dk_61 (dk_at dksX1_bits_0 3 rfl rfl)
theorem dX1_bits_4 : decode cX1_bits 4 = .ok (.iload_n 2, 1) := dk_28 (dk_at dksX1_bits_0 4 rfl rfl)
theorem dX1_bits_5 : decode cX1_bits 5 = .ok (.bipush 14, 2) := dk_16 14 (dk_at dksX1_bits_0 5 rfl rfl)
theorem dX1_bits_7 : decode cX1_bits 7 = .ok (.if_icmp .ge 17, 3) := dk_162 0 17 (dk_at dksX1_bits_0 7 rfl rfl)
theorem dX1_bits_10 : decode cX1_bits 10 = .ok (.iload_n 1, 1) := dk_27 (dk_at dksX1_bits_0 10 rfl rfl)
theorem dX1_bits_11 : decode cX1_bits 11 = .ok (.iload_n 0, 1) := dk_26 (dk_at dksX1_bits_0 11 rfl rfl)
theorem dX1_bits_12 : decode cX1_bits 12 = .ok (.iload_n 2, 1) := dk_28 (dk_at dksX1_bits_0 12 rfl rfl)
theorem dX1_bits_13 : decode cX1_bits 13 = .ok (.ishr, 1) := dk_122 (dk_at dksX1_bits_0 13 rfl rfl)
theorem dX1_bits_14 : decode cX1_bits 14 = .ok (.iconst 1, 1) := dk_4 (dk_at dksX1_bits_0 14 rfl rfl)
theorem dX1_bits_15 : decode cX1_bits 15 = .ok (.iand, 1) := dk_126 (dk_at dksX1_bits_0 15 rfl rfl)
theorem dX1_bits_16 : decode cX1_bits 16 = .ok (.iadd, 1) := dk_96 (dk_at dksX1_bits_0 16 rfl rfl)
theorem dX1_bits_17 : decode cX1_bits 17 = .ok (.istore_n 1, 1) := dk_60 (dk_at dksX1_bits_0 17 rfl rfl)
theorem dX1_bits_18 : decode cX1_bits 18 = .ok (.iinc 2 1, 3) := dk_132 2 1 (dk_at dksX1_bits_0 18 rfl rfl)
theorem dX1_bits_21 : decode cX1_bits 21 = .ok (.goto (-17), 3) := dk_167 255 239 (dk_at dksX1_bits_0 21 rfl rfl)
theorem dX1_bits_24 : decode cX1_bits 24 = .ok (.iload_n 1, 1) := dk_27 (dk_at dksX1_bits_1 0 rfl rfl)
theorem dX1_bits_25 : decode cX1_bits 25 = .ok (.ireturn, 1) := dk_172 (dk_at dksX1_bits_1 1 rfl rfl)
abbrev cX1_swap : ByteArray := prog_8_method_79_code
def yX1_swap : MethodName := ⟨RX1, "swap", "(IIII)I"⟩
def dkwX1_swap_3 : List UInt8 := [156, 0, 11, 42, 4, 182, 0, 193, 167, 0, 13, 42, 42, 180, 1, 77, 21, 5, 182, 0, 246, 172]
abbrev dktX1_swap_3 : List UInt8 := dkwX1_swap_3 ++ []
def dkwX1_swap_2 : List UInt8 := [182, 1, 80, 154, 0, 6, 16, 252, 172, 42, 27, 28, 29, 21, 4, 182, 1, 83, 54, 5, 21, 5]
abbrev dktX1_swap_2 : List UInt8 := dkwX1_swap_2 ++ dktX1_swap_3
def dkwX1_swap_1 : List UInt8 := [153, 0, 11, 21, 4, 184, 0, 210, 154, 0, 5, 2, 172, 42, 27, 182, 1, 80, 153, 0, 11, 42, 28]
abbrev dktX1_swap_1 : List UInt8 := dkwX1_swap_1 ++ dktX1_swap_2
def dkwX1_swap_0 : List UInt8 := [27, 184, 1, 2, 153, 0, 30, 28, 184, 1, 2, 153, 0, 23, 27, 28, 159, 0, 18, 29, 184, 0, 210]
abbrev dktX1_swap_0 : List UInt8 := dkwX1_swap_0 ++ dktX1_swap_1
theorem dksX1_swap_0 : cX1_swap.data.toList.drop 0 = dktX1_swap_0 := by decide +kernel
theorem dksX1_swap_1 : cX1_swap.data.toList.drop 23 = dktX1_swap_1 := dk_seg dksX1_swap_0 23 rfl rfl
theorem dksX1_swap_2 : cX1_swap.data.toList.drop 46 = dktX1_swap_2 := dk_seg dksX1_swap_1 23 rfl rfl
theorem dksX1_swap_3 : cX1_swap.data.toList.drop 68 = dktX1_swap_3 := dk_seg dksX1_swap_2 22 rfl rfl
theorem dX1_swap_0 : decode cX1_swap 0 = .ok (.iload_n 1, 1) := dk_27 (dk_at dksX1_swap_0 0 rfl rfl)
theorem dX1_swap_1 : decode cX1_swap 1 = .ok (.invokestatic 258, 3) := dk_184 1 2 (dk_at dksX1_swap_0 1 rfl rfl)
theorem dX1_swap_4 : decode cX1_swap 4 = .ok (.ifCond .eq 30, 3) := dk_153 0 30 (dk_at dksX1_swap_0 4 rfl rfl)
theorem dX1_swap_7 : decode cX1_swap 7 = .ok (.iload_n 2, 1) := dk_28 (dk_at dksX1_swap_0 7 rfl rfl)
theorem dX1_swap_8 : decode cX1_swap 8 = .ok (.invokestatic 258, 3) := dk_184 1 2 (dk_at dksX1_swap_0 8 rfl rfl)
theorem dX1_swap_11 : decode cX1_swap 11 = .ok (.ifCond .eq 23, 3) := dk_153 0 23 (dk_at dksX1_swap_0 11 rfl rfl)
theorem dX1_swap_14 : decode cX1_swap 14 = .ok (.iload_n 1, 1) := dk_27 (dk_at dksX1_swap_0 14 rfl rfl)
theorem dX1_swap_15 : decode cX1_swap 15 = .ok (.iload_n 2, 1) := dk_28 (dk_at dksX1_swap_0 15 rfl rfl)
theorem dX1_swap_16 : decode cX1_swap 16 = .ok (.if_icmp .eq 18, 3) := dk_159 0 18 (dk_at dksX1_swap_0 16 rfl rfl)
theorem dX1_swap_19 : decode cX1_swap 19 = .ok (.iload_n 3, 1) := dk_29 (dk_at dksX1_swap_0 19 rfl rfl)
theorem dX1_swap_20 : decode cX1_swap 20 = .ok (.invokestatic 210, 3) := dk_184 0 210 (dk_at dksX1_swap_0 20 rfl rfl)
theorem dX1_swap_23 : decode cX1_swap 23 = .ok (.ifCond .eq 11, 3) := dk_153 0 11 (dk_at dksX1_swap_1 0 rfl rfl)
theorem dX1_swap_26 : decode cX1_swap 26 = .ok (.iload 4, 2) := dk_21 4 (dk_at dksX1_swap_1 3 rfl rfl)
theorem dX1_swap_28 : decode cX1_swap 28 = .ok (.invokestatic 210, 3) := dk_184 0 210 (dk_at dksX1_swap_1 5 rfl rfl)
theorem dX1_swap_31 : decode cX1_swap 31 = .ok (.ifCond .ne 5, 3) := dk_154 0 5 (dk_at dksX1_swap_1 8 rfl rfl)
theorem dX1_swap_34 : decode cX1_swap 34 = .ok (.iconst (-1), 1) := dk_2 (dk_at dksX1_swap_1 11 rfl rfl)
theorem dX1_swap_35 : decode cX1_swap 35 = .ok (.ireturn, 1) := dk_172 (dk_at dksX1_swap_1 12 rfl rfl)
theorem dX1_swap_36 : decode cX1_swap 36 = .ok (.aload_n 0, 1) := dk_42 (dk_at dksX1_swap_1 13 rfl rfl)
theorem dX1_swap_37 : decode cX1_swap 37 = .ok (.iload_n 1, 1) := dk_27 (dk_at dksX1_swap_1 14 rfl rfl)
theorem dX1_swap_38 : decode cX1_swap 38 = .ok (.invokevirtual 336, 3) := dk_182 1 80 (dk_at dksX1_swap_1 15 rfl rfl)
theorem dX1_swap_41 : decode cX1_swap 41 = .ok (.ifCond .eq 11, 3) := dk_153 0 11 (dk_at dksX1_swap_1 18 rfl rfl)
theorem dX1_swap_44 : decode cX1_swap 44 = .ok (.aload_n 0, 1) := dk_42 (dk_at dksX1_swap_1 21 rfl rfl)
theorem dX1_swap_45 : decode cX1_swap 45 = .ok (.iload_n 2, 1) := dk_28 (dk_at dksX1_swap_1 22 rfl rfl)
theorem dX1_swap_46 : decode cX1_swap 46 = .ok (.invokevirtual 336, 3) := dk_182 1 80 (dk_at dksX1_swap_2 0 rfl rfl)
theorem dX1_swap_49 : decode cX1_swap 49 = .ok (.ifCond .ne 6, 3) := dk_154 0 6 (dk_at dksX1_swap_2 3 rfl rfl)
theorem dX1_swap_52 : decode cX1_swap 52 = .ok (.bipush (-4), 2) := dk_16 252 (dk_at dksX1_swap_2 6 rfl rfl)
theorem dX1_swap_54 : decode cX1_swap 54 = .ok (.ireturn, 1) := dk_172 (dk_at dksX1_swap_2 8 rfl rfl)
theorem dX1_swap_55 : decode cX1_swap 55 = .ok (.aload_n 0, 1) := dk_42 (dk_at dksX1_swap_2 9 rfl rfl)
theorem dX1_swap_56 : decode cX1_swap 56 = .ok (.iload_n 1, 1) := dk_27 (dk_at dksX1_swap_2 10 rfl rfl)
theorem dX1_swap_57 : decode cX1_swap 57 = .ok (.iload_n 2, 1) := dk_28 (dk_at dksX1_swap_2 11 rfl rfl)
theorem dX1_swap_58 : decode cX1_swap 58 = .ok (.iload_n 3, 1) := dk_29 (dk_at dksX1_swap_2 12 rfl rfl)
theorem dX1_swap_59 : decode cX1_swap 59 = .ok (.iload 4, 2) := dk_21 4 (dk_at dksX1_swap_2 13 rfl rfl)
theorem dX1_swap_61 : decode cX1_swap 61 = .ok (.invokevirtual 339, 3) := dk_182 1 83 (dk_at dksX1_swap_2 15 rfl rfl)
theorem dX1_swap_64 : decode cX1_swap 64 = .ok (.istore 5, 2) := dk_54 5 (dk_at dksX1_swap_2 18 rfl rfl)
theorem dX1_swap_66 : decode cX1_swap 66 = .ok (.iload 5, 2) := dk_21 5 (dk_at dksX1_swap_2 20 rfl rfl)
theorem dX1_swap_68 : decode cX1_swap 68 = .ok (.ifCond .ge 11, 3) := dk_156 0 11 (dk_at dksX1_swap_3 0 rfl rfl)
theorem dX1_swap_71 : decode cX1_swap 71 = .ok (.aload_n 0, 1) := dk_42 (dk_at dksX1_swap_3 3 rfl rfl)
theorem dX1_swap_72 : decode cX1_swap 72 = .ok (.iconst 1, 1) := dk_4 (dk_at dksX1_swap_3 4 rfl rfl)
theorem dX1_swap_73 : decode cX1_swap 73 = .ok (.invokevirtual 193, 3) := dk_182 0 193 (dk_at dksX1_swap_3 5 rfl rfl)
theorem dX1_swap_76 : decode cX1_swap 76 = .ok (.goto 13, 3) := dk_167 0 13 (dk_at dksX1_swap_3 8 rfl rfl)
theorem dX1_swap_79 : decode cX1_swap 79 = .ok (.aload_n 0, 1) := dk_42 (dk_at dksX1_swap_3 11 rfl rfl)
theorem dX1_swap_80 : decode cX1_swap 80 = .ok (.aload_n 0, 1) := dk_42 (dk_at dksX1_swap_3 12 rfl rfl)
theorem dX1_swap_81 : decode cX1_swap 81 = .ok (.getfield 333, 3) := dk_180 1 77 (dk_at dksX1_swap_3 13 rfl rfl)
theorem dX1_swap_84 : decode cX1_swap 84 = .ok (.iload 5, 2) := dk_21 5 (dk_at dksX1_swap_3 16 rfl rfl)
theorem dX1_swap_86 : decode cX1_swap 86 = .ok (.invokevirtual 246, 3) := dk_182 0 246 (dk_at dksX1_swap_3 18 rfl rfl)
theorem dX1_swap_89 : decode cX1_swap 89 = .ok (.ireturn, 1) := dk_172 (dk_at dksX1_swap_3 21 rfl rfl)
abbrev cX1_maySwap : ByteArray := prog_8_method_77_code
def yX1_maySwap : MethodName := ⟨RX1, "maySwap", "(I)Z"⟩
def dkwX1_maySwap_0 : List UInt8 := [42, 27, 182, 1, 5, 154, 0, 16, 42, 180, 0, 90, 27, 46, 155, 0, 7, 4, 167, 0, 4, 3, 172]
abbrev dktX1_maySwap_0 : List UInt8 := dkwX1_maySwap_0 ++ []
theorem dksX1_maySwap_0 : cX1_maySwap.data.toList.drop 0 = dktX1_maySwap_0 := by decide +kernel
theorem dX1_maySwap_0 : decode cX1_maySwap 0 = .ok (.aload_n 0, 1) := dk_42 (dk_at dksX1_maySwap_0 0 rfl rfl)
theorem dX1_maySwap_1 : decode cX1_maySwap 1 = .ok (.iload_n 1, 1) := dk_27 (dk_at dksX1_maySwap_0 1 rfl rfl)
theorem dX1_maySwap_2 : decode cX1_maySwap 2 = .ok (.invokevirtual 261, 3) := dk_182 1 5 (dk_at dksX1_maySwap_0 2 rfl rfl)
theorem dX1_maySwap_5 : decode cX1_maySwap 5 = .ok (.ifCond .ne 16, 3) := dk_154 0 16 (dk_at dksX1_maySwap_0 5 rfl rfl)
theorem dX1_maySwap_8 : decode cX1_maySwap 8 = .ok (.aload_n 0, 1) := dk_42 (dk_at dksX1_maySwap_0 8 rfl rfl)
theorem dX1_maySwap_9 : decode cX1_maySwap 9 = .ok (.getfield 90, 3) := dk_180 0 90 (dk_at dksX1_maySwap_0 9 rfl rfl)
theorem dX1_maySwap_12 : decode cX1_maySwap 12 = .ok (.iload_n 1, 1) := dk_27 (dk_at dksX1_maySwap_0 12 rfl rfl)
theorem dX1_maySwap_13 : decode cX1_maySwap 13 = .ok (.iaload, 1) := dk_46 (dk_at dksX1_maySwap_0 13 rfl rfl)
theorem dX1_maySwap_14 : decode cX1_maySwap 14 = .ok (.ifCond .lt 7, 3) := dk_155 0 7 (dk_at dksX1_maySwap_0 14 rfl rfl)
theorem dX1_maySwap_17 : decode cX1_maySwap 17 = .ok (.iconst 1, 1) := dk_4 (dk_at dksX1_maySwap_0 17 rfl rfl)
theorem dX1_maySwap_18 : decode cX1_maySwap 18 = .ok (.goto 4, 3) := dk_167 0 4 (dk_at dksX1_maySwap_0 18 rfl rfl)
theorem dX1_maySwap_21 : decode cX1_maySwap 21 = .ok (.iconst 0, 1) := dk_3 (dk_at dksX1_maySwap_0 21 rfl rfl)
theorem dX1_maySwap_22 : decode cX1_maySwap 22 = .ok (.ireturn, 1) := dk_172 (dk_at dksX1_maySwap_0 22 rfl rfl)
abbrev cX1_bestSwap : ByteArray := prog_8_method_78_code
def yX1_bestSwap : MethodName := ⟨RX1, "bestSwap", "(IIII)I"⟩
def dkwX1_bestSwap_4 : List UInt8 := [21, 5, 172]
abbrev dktX1_bestSwap_4 : List UInt8 := dkwX1_bestSwap_4 ++ []
def dkwX1_bestSwap_3 : List UInt8 := [21, 7, 54, 5, 42, 42, 180, 1, 67, 181, 1, 77, 42, 180, 1, 70, 54, 6, 132, 7, 1, 167, 255, 177]
abbrev dktX1_bestSwap_3 : List UInt8 := dkwX1_bestSwap_3 ++ dktX1_bestSwap_4
def dkwX1_bestSwap_2 : List UInt8 := [161, 0, 23, 42, 180, 1, 67, 42, 180, 1, 77, 160, 0, 30, 42, 180, 1, 70, 21, 6, 162, 0, 21]
abbrev dktX1_bestSwap_2 : List UInt8 := dkwX1_bestSwap_2 ++ dktX1_bestSwap_3
def dkwX1_bestSwap_1 : List UInt8 := [21, 7, 3, 182, 1, 73, 153, 0, 57, 21, 5, 155, 0, 34, 42, 180, 1, 67, 42, 180, 1, 77]
abbrev dktX1_bestSwap_1 : List UInt8 := dkwX1_bestSwap_1 ++ dktX1_bestSwap_2
def dkwX1_bestSwap_0 : List UInt8 := [16, 247, 54, 5, 3, 54, 6, 3, 54, 7, 21, 7, 16, 8, 162, 0, 78, 42, 27, 28, 29, 21, 4]
abbrev dktX1_bestSwap_0 : List UInt8 := dkwX1_bestSwap_0 ++ dktX1_bestSwap_1
theorem dksX1_bestSwap_0 : cX1_bestSwap.data.toList.drop 0 = dktX1_bestSwap_0 := by decide +kernel
theorem dksX1_bestSwap_1 : cX1_bestSwap.data.toList.drop 23 = dktX1_bestSwap_1 := dk_seg dksX1_bestSwap_0 23 rfl rfl
theorem dksX1_bestSwap_2 : cX1_bestSwap.data.toList.drop 45 = dktX1_bestSwap_2 := dk_seg dksX1_bestSwap_1 22 rfl rfl
theorem dksX1_bestSwap_3 : cX1_bestSwap.data.toList.drop 68 = dktX1_bestSwap_3 := dk_seg dksX1_bestSwap_2 23 rfl rfl
theorem dksX1_bestSwap_4 : cX1_bestSwap.data.toList.drop 92 = dktX1_bestSwap_4 := dk_seg dksX1_bestSwap_3 24 rfl rfl
theorem dX1_bestSwap_0 : decode cX1_bestSwap 0 = .ok (.bipush (-9), 2) := dk_16 247 (dk_at dksX1_bestSwap_0 0 rfl rfl)
theorem dX1_bestSwap_2 : decode cX1_bestSwap 2 = .ok (.istore 5, 2) := dk_54 5 (dk_at dksX1_bestSwap_0 2 rfl rfl)
theorem dX1_bestSwap_4 : decode cX1_bestSwap 4 = .ok (.iconst 0, 1) := dk_3 (dk_at dksX1_bestSwap_0 4 rfl rfl)
theorem dX1_bestSwap_5 : decode cX1_bestSwap 5 = .ok (.istore 6, 2) := dk_54 6 (dk_at dksX1_bestSwap_0 5 rfl rfl)
theorem dX1_bestSwap_7 : decode cX1_bestSwap 7 = .ok (.iconst 0, 1) := dk_3 (dk_at dksX1_bestSwap_0 7 rfl rfl)
theorem dX1_bestSwap_8 : decode cX1_bestSwap 8 = .ok (.istore 7, 2) := dk_54 7 (dk_at dksX1_bestSwap_0 8 rfl rfl)
theorem dX1_bestSwap_10 : decode cX1_bestSwap 10 = .ok (.iload 7, 2) := dk_21 7 (dk_at dksX1_bestSwap_0 10 rfl rfl)
theorem dX1_bestSwap_12 : decode cX1_bestSwap 12 = .ok (.bipush 8, 2) := dk_16 8 (dk_at dksX1_bestSwap_0 12 rfl rfl)
theorem dX1_bestSwap_14 : decode cX1_bestSwap 14 = .ok (.if_icmp .ge 78, 3) := dk_162 0 78 (dk_at dksX1_bestSwap_0 14 rfl rfl)
theorem dX1_bestSwap_17 : decode cX1_bestSwap 17 = .ok (.aload_n 0, 1) := dk_42 (dk_at dksX1_bestSwap_0 17 rfl rfl)
theorem dX1_bestSwap_18 : decode cX1_bestSwap 18 = .ok (.iload_n 1, 1) := dk_27 (dk_at dksX1_bestSwap_0 18 rfl rfl)
theorem dX1_bestSwap_19 : decode cX1_bestSwap 19 = .ok (.iload_n 2, 1) := dk_28 (dk_at dksX1_bestSwap_0 19 rfl rfl)
theorem dX1_bestSwap_20 : decode cX1_bestSwap 20 = .ok (.iload_n 3, 1) := dk_29 (dk_at dksX1_bestSwap_0 20 rfl rfl)
theorem dX1_bestSwap_21 : decode cX1_bestSwap 21 = .ok (.iload 4, 2) := dk_21 4 (dk_at dksX1_bestSwap_0 21 rfl rfl)
theorem dX1_bestSwap_23 : decode cX1_bestSwap 23 = .ok (.iload 7, 2) := dk_21 7 (dk_at dksX1_bestSwap_1 0 rfl rfl)
theorem dX1_bestSwap_25 : decode cX1_bestSwap 25 = .ok (.iconst 0, 1) := dk_3 (dk_at dksX1_bestSwap_1 2 rfl rfl)
theorem dX1_bestSwap_26 : decode cX1_bestSwap 26 = .ok (.invokevirtual 329, 3) := dk_182 1 73 (dk_at dksX1_bestSwap_1 3 rfl rfl)
theorem dX1_bestSwap_29 : decode cX1_bestSwap 29 = .ok (.ifCond .eq 57, 3) := dk_153 0 57 (dk_at dksX1_bestSwap_1 6 rfl rfl)
theorem dX1_bestSwap_32 : decode cX1_bestSwap 32 = .ok (.iload 5, 2) := dk_21 5 (dk_at dksX1_bestSwap_1 9 rfl rfl)
theorem dX1_bestSwap_34 : decode cX1_bestSwap 34 = .ok (.ifCond .lt 34, 3) := dk_155 0 34 (dk_at dksX1_bestSwap_1 11 rfl rfl)
theorem dX1_bestSwap_37 : decode cX1_bestSwap 37 = .ok (.aload_n 0, 1) := dk_42 (dk_at dksX1_bestSwap_1 14 rfl rfl)
theorem dX1_bestSwap_38 : decode cX1_bestSwap 38 = .ok (.getfield 323, 3) := dk_180 1 67 (dk_at dksX1_bestSwap_1 15 rfl rfl)
theorem dX1_bestSwap_41 : decode cX1_bestSwap 41 = .ok (.aload_n 0, 1) := dk_42 (dk_at dksX1_bestSwap_1 18 rfl rfl)
theorem dX1_bestSwap_42 : decode cX1_bestSwap 42 = .ok (.getfield 333, 3) := dk_180 1 77 (dk_at dksX1_bestSwap_1 19 rfl rfl)
theorem dX1_bestSwap_45 : decode cX1_bestSwap 45 = .ok (.if_icmp .lt 23, 3) := dk_161 0 23 (dk_at dksX1_bestSwap_2 0 rfl rfl)
theorem dX1_bestSwap_48 : decode cX1_bestSwap 48 = .ok (.aload_n 0, 1) := dk_42 (dk_at dksX1_bestSwap_2 3 rfl rfl)
theorem dX1_bestSwap_49 : decode cX1_bestSwap 49 = .ok (.getfield 323, 3) := dk_180 1 67 (dk_at dksX1_bestSwap_2 4 rfl rfl)
theorem dX1_bestSwap_52 : decode cX1_bestSwap 52 = .ok (.aload_n 0, 1) := dk_42 (dk_at dksX1_bestSwap_2 7 rfl rfl)
theorem dX1_bestSwap_53 : decode cX1_bestSwap 53 = .ok (.getfield 333, 3) := dk_180 1 77 (dk_at dksX1_bestSwap_2 8 rfl rfl)
theorem dX1_bestSwap_56 : decode cX1_bestSwap 56 = .ok (.if_icmp .ne 30, 3) := dk_160 0 30 (dk_at dksX1_bestSwap_2 11 rfl rfl)
theorem dX1_bestSwap_59 : decode cX1_bestSwap 59 = .ok (.aload_n 0, 1) := dk_42 (dk_at dksX1_bestSwap_2 14 rfl rfl)
theorem dX1_bestSwap_60 : decode cX1_bestSwap 60 = .ok (.getfield 326, 3) := dk_180 1 70 (dk_at dksX1_bestSwap_2 15 rfl rfl)
theorem dX1_bestSwap_63 : decode cX1_bestSwap 63 = .ok (.iload 6, 2) := dk_21 6 (dk_at dksX1_bestSwap_2 18 rfl rfl)
theorem dX1_bestSwap_65 : decode cX1_bestSwap 65 = .ok (.if_icmp .ge 21, 3) := dk_162 0 21 (dk_at dksX1_bestSwap_2 20 rfl rfl)
theorem dX1_bestSwap_68 : decode cX1_bestSwap 68 = .ok (.iload 7, 2) := dk_21 7 (dk_at dksX1_bestSwap_3 0 rfl rfl)
theorem dX1_bestSwap_70 : decode cX1_bestSwap 70 = .ok (.istore 5, 2) := dk_54 5 (dk_at dksX1_bestSwap_3 2 rfl rfl)
theorem dX1_bestSwap_72 : decode cX1_bestSwap 72 = .ok (.aload_n 0, 1) := dk_42 (dk_at dksX1_bestSwap_3 4 rfl rfl)
theorem dX1_bestSwap_73 : decode cX1_bestSwap 73 = .ok (.aload_n 0, 1) := dk_42 (dk_at dksX1_bestSwap_3 5 rfl rfl)
theorem dX1_bestSwap_74 : decode cX1_bestSwap 74 = .ok (.getfield 323, 3) := dk_180 1 67 (dk_at dksX1_bestSwap_3 6 rfl rfl)
theorem dX1_bestSwap_77 : decode cX1_bestSwap 77 = .ok (.putfield 333, 3) := dk_181 1 77 (dk_at dksX1_bestSwap_3 9 rfl rfl)
theorem dX1_bestSwap_80 : decode cX1_bestSwap 80 = .ok (.aload_n 0, 1) := dk_42 (dk_at dksX1_bestSwap_3 12 rfl rfl)
theorem dX1_bestSwap_81 : decode cX1_bestSwap 81 = .ok (.getfield 326, 3) := dk_180 1 70 (dk_at dksX1_bestSwap_3 13 rfl rfl)
theorem dX1_bestSwap_84 : decode cX1_bestSwap 84 = .ok (.istore 6, 2) := dk_54 6 (dk_at dksX1_bestSwap_3 16 rfl rfl)
theorem dX1_bestSwap_86 : decode cX1_bestSwap 86 = .ok (.iinc 7 1, 3) := dk_132 7 1 (dk_at dksX1_bestSwap_3 18 rfl rfl)
theorem dX1_bestSwap_89 : decode cX1_bestSwap 89 = .ok (.goto (-79), 3) := dk_167 255 177 (dk_at dksX1_bestSwap_3 21 rfl rfl)
theorem dX1_bestSwap_92 : decode cX1_bestSwap 92 = .ok (.iload 5, 2) := dk_21 5 (dk_at dksX1_bestSwap_4 0 rfl rfl)
theorem dX1_bestSwap_94 : decode cX1_bestSwap 94 = .ok (.ireturn, 1) := dk_172 (dk_at dksX1_bestSwap_4 2 rfl rfl)
abbrev cX1_swapsAt : ByteArray := prog_8_method_76_code
def yX1_swapsAt : MethodName := ⟨RX1, "swapsAt", "(IIIIII)Z"⟩
def dkwX1_swapsAt_6 : List UInt8 := [181, 1, 70, 42, 180, 1, 67, 18, 217, 162, 0, 7, 4, 167, 0, 4, 3, 172]
abbrev dktX1_swapsAt_6 : List UInt8 := dkwX1_swapsAt_6 ++ []
def dkwX1_swapsAt_5 : List UInt8 := [180, 1, 61, 167, 0, 7, 42, 180, 1, 64, 181, 1, 67, 42, 42, 180, 1, 61, 42, 180, 1, 64, 96]
abbrev dktX1_swapsAt_5 : List UInt8 := dkwX1_swapsAt_5 ++ dktX1_swapsAt_6
def dkwX1_swapsAt_4 : List UInt8 := [21, 9, 21, 4, 182, 0, 222, 181, 1, 64, 42, 42, 180, 1, 61, 42, 180, 1, 64, 164, 0, 10, 42]
abbrev dktX1_swapsAt_4 : List UInt8 := dkwX1_swapsAt_4 ++ dktX1_swapsAt_5
def dkwX1_swapsAt_3 : List UInt8 := [21, 8, 16, 10, 96, 54, 9, 42, 42, 21, 5, 21, 9, 29, 182, 0, 222, 181, 1, 61, 42, 42, 21, 5]
abbrev dktX1_swapsAt_3 : List UInt8 := dkwX1_swapsAt_3 ++ dktX1_swapsAt_4
def dkwX1_swapsAt_2 : List UInt8 := [160, 0, 5, 3, 172, 21, 7, 21, 6, 96, 54, 7, 21, 7, 21, 8, 164, 0, 8, 21, 7, 167, 0, 5]
abbrev dktX1_swapsAt_2 : List UInt8 := dkwX1_swapsAt_2 ++ dktX1_swapsAt_3
def dkwX1_swapsAt_1 : List UInt8 := [46, 42, 180, 0, 207, 21, 5, 182, 0, 222, 54, 8, 21, 7, 18, 217, 159, 0, 10, 21, 8, 18, 217]
abbrev dktX1_swapsAt_1 : List UInt8 := dkwX1_swapsAt_1 ++ dktX1_swapsAt_2
def dkwX1_swapsAt_0 : List UInt8 := [42, 42, 180, 0, 84, 27, 46, 42, 180, 0, 207, 21, 5, 182, 0, 222, 54, 7, 42, 42, 180, 0, 84, 28]
abbrev dktX1_swapsAt_0 : List UInt8 := dkwX1_swapsAt_0 ++ dktX1_swapsAt_1
theorem dksX1_swapsAt_0 : cX1_swapsAt.data.toList.drop 0 = dktX1_swapsAt_0 := by decide +kernel
theorem dksX1_swapsAt_1 : cX1_swapsAt.data.toList.drop 24 = dktX1_swapsAt_1 := dk_seg dksX1_swapsAt_0 24 rfl rfl
theorem dksX1_swapsAt_2 : cX1_swapsAt.data.toList.drop 47 = dktX1_swapsAt_2 := dk_seg dksX1_swapsAt_1 23 rfl rfl
theorem dksX1_swapsAt_3 : cX1_swapsAt.data.toList.drop 71 = dktX1_swapsAt_3 := dk_seg dksX1_swapsAt_2 24 rfl rfl
theorem dksX1_swapsAt_4 : cX1_swapsAt.data.toList.drop 95 = dktX1_swapsAt_4 := dk_seg dksX1_swapsAt_3 24 rfl rfl
theorem dksX1_swapsAt_5 : cX1_swapsAt.data.toList.drop 118 = dktX1_swapsAt_5 := dk_seg dksX1_swapsAt_4 23 rfl rfl
theorem dksX1_swapsAt_6 : cX1_swapsAt.data.toList.drop 141 = dktX1_swapsAt_6 := dk_seg dksX1_swapsAt_5 23 rfl rfl
theorem dX1_swapsAt_0 : decode cX1_swapsAt 0 = .ok (.aload_n 0, 1) := dk_42 (dk_at dksX1_swapsAt_0 0 rfl rfl)
theorem dX1_swapsAt_1 : decode cX1_swapsAt 1 = .ok (.aload_n 0, 1) := dk_42 (dk_at dksX1_swapsAt_0 1 rfl rfl)
theorem dX1_swapsAt_2 : decode cX1_swapsAt 2 = .ok (.getfield 84, 3) := dk_180 0 84 (dk_at dksX1_swapsAt_0 2 rfl rfl)
theorem dX1_swapsAt_5 : decode cX1_swapsAt 5 = .ok (.iload_n 1, 1) := dk_27 (dk_at dksX1_swapsAt_0 5 rfl rfl)
theorem dX1_swapsAt_6 : decode cX1_swapsAt 6 = .ok (.iaload, 1) := dk_46 (dk_at dksX1_swapsAt_0 6 rfl rfl)
theorem dX1_swapsAt_7 : decode cX1_swapsAt 7 = .ok (.aload_n 0, 1) := dk_42 (dk_at dksX1_swapsAt_0 7 rfl rfl)
theorem dX1_swapsAt_8 : decode cX1_swapsAt 8 = .ok (.getfield 207, 3) := dk_180 0 207 (dk_at dksX1_swapsAt_0 8 rfl rfl)
theorem dX1_swapsAt_11 : decode cX1_swapsAt 11 = .ok (.iload 5, 2) := dk_21 5 (dk_at dksX1_swapsAt_0 11 rfl rfl)
theorem dX1_swapsAt_13 : decode cX1_swapsAt 13 = .ok (.invokevirtual 222, 3) := dk_182 0 222 (dk_at dksX1_swapsAt_0 13 rfl rfl)
theorem dX1_swapsAt_16 : decode cX1_swapsAt 16 = .ok (.istore 7, 2) := dk_54 7 (dk_at dksX1_swapsAt_0 16 rfl rfl)
theorem dX1_swapsAt_18 : decode cX1_swapsAt 18 = .ok (.aload_n 0, 1) := dk_42 (dk_at dksX1_swapsAt_0 18 rfl rfl)
theorem dX1_swapsAt_19 : decode cX1_swapsAt 19 = .ok (.aload_n 0, 1) := dk_42 (dk_at dksX1_swapsAt_0 19 rfl rfl)
theorem dX1_swapsAt_20 : decode cX1_swapsAt 20 = .ok (.getfield 84, 3) := dk_180 0 84 (dk_at dksX1_swapsAt_0 20 rfl rfl)
theorem dX1_swapsAt_23 : decode cX1_swapsAt 23 = .ok (.iload_n 2, 1) := dk_28 (dk_at dksX1_swapsAt_0 23 rfl rfl)
theorem dX1_swapsAt_24 : decode cX1_swapsAt 24 = .ok (.iaload, 1) := dk_46 (dk_at dksX1_swapsAt_1 0 rfl rfl)
theorem dX1_swapsAt_25 : decode cX1_swapsAt 25 = .ok (.aload_n 0, 1) := dk_42 (dk_at dksX1_swapsAt_1 1 rfl rfl)
theorem dX1_swapsAt_26 : decode cX1_swapsAt 26 = .ok (.getfield 207, 3) := dk_180 0 207 (dk_at dksX1_swapsAt_1 2 rfl rfl)
theorem dX1_swapsAt_29 : decode cX1_swapsAt 29 = .ok (.iload 5, 2) := dk_21 5 (dk_at dksX1_swapsAt_1 5 rfl rfl)
theorem dX1_swapsAt_31 : decode cX1_swapsAt 31 = .ok (.invokevirtual 222, 3) := dk_182 0 222 (dk_at dksX1_swapsAt_1 7 rfl rfl)
theorem dX1_swapsAt_34 : decode cX1_swapsAt 34 = .ok (.istore 8, 2) := dk_54 8 (dk_at dksX1_swapsAt_1 10 rfl rfl)
theorem dX1_swapsAt_36 : decode cX1_swapsAt 36 = .ok (.iload 7, 2) := dk_21 7 (dk_at dksX1_swapsAt_1 12 rfl rfl)
theorem dX1_swapsAt_38 : decode cX1_swapsAt 38 = .ok (.ldc 217, 2) := dk_18 217 (dk_at dksX1_swapsAt_1 14 rfl rfl)
theorem dX1_swapsAt_40 : decode cX1_swapsAt 40 = .ok (.if_icmp .eq 10, 3) := dk_159 0 10 (dk_at dksX1_swapsAt_1 16 rfl rfl)
theorem dX1_swapsAt_43 : decode cX1_swapsAt 43 = .ok (.iload 8, 2) := dk_21 8 (dk_at dksX1_swapsAt_1 19 rfl rfl)
theorem dX1_swapsAt_45 : decode cX1_swapsAt 45 = .ok (.ldc 217, 2) := dk_18 217 (dk_at dksX1_swapsAt_1 21 rfl rfl)
theorem dX1_swapsAt_47 : decode cX1_swapsAt 47 = .ok (.if_icmp .ne 5, 3) := dk_160 0 5 (dk_at dksX1_swapsAt_2 0 rfl rfl)
theorem dX1_swapsAt_50 : decode cX1_swapsAt 50 = .ok (.iconst 0, 1) := dk_3 (dk_at dksX1_swapsAt_2 3 rfl rfl)
theorem dX1_swapsAt_51 : decode cX1_swapsAt 51 = .ok (.ireturn, 1) := dk_172 (dk_at dksX1_swapsAt_2 4 rfl rfl)
theorem dX1_swapsAt_52 : decode cX1_swapsAt 52 = .ok (.iload 7, 2) := dk_21 7 (dk_at dksX1_swapsAt_2 5 rfl rfl)
theorem dX1_swapsAt_54 : decode cX1_swapsAt 54 = .ok (.iload 6, 2) := dk_21 6 (dk_at dksX1_swapsAt_2 7 rfl rfl)
theorem dX1_swapsAt_56 : decode cX1_swapsAt 56 = .ok (.iadd, 1) := dk_96 (dk_at dksX1_swapsAt_2 9 rfl rfl)
theorem dX1_swapsAt_57 : decode cX1_swapsAt 57 = .ok (.istore 7, 2) := dk_54 7 (dk_at dksX1_swapsAt_2 10 rfl rfl)
theorem dX1_swapsAt_59 : decode cX1_swapsAt 59 = .ok (.iload 7, 2) := dk_21 7 (dk_at dksX1_swapsAt_2 12 rfl rfl)
theorem dX1_swapsAt_61 : decode cX1_swapsAt 61 = .ok (.iload 8, 2) := dk_21 8 (dk_at dksX1_swapsAt_2 14 rfl rfl)
theorem dX1_swapsAt_63 : decode cX1_swapsAt 63 = .ok (.if_icmp .le 8, 3) := dk_164 0 8 (dk_at dksX1_swapsAt_2 16 rfl rfl)
theorem dX1_swapsAt_66 : decode cX1_swapsAt 66 = .ok (.iload 7, 2) := dk_21 7 (dk_at dksX1_swapsAt_2 19 rfl rfl)
theorem dX1_swapsAt_68 : decode cX1_swapsAt 68 = .ok (.goto 5, 3) := dk_167 0 5 (dk_at dksX1_swapsAt_2 21 rfl rfl)
theorem dX1_swapsAt_71 : decode cX1_swapsAt 71 = .ok (.iload 8, 2) := dk_21 8 (dk_at dksX1_swapsAt_3 0 rfl rfl)
theorem dX1_swapsAt_73 : decode cX1_swapsAt 73 = .ok (.bipush 10, 2) := dk_16 10 (dk_at dksX1_swapsAt_3 2 rfl rfl)
theorem dX1_swapsAt_75 : decode cX1_swapsAt 75 = .ok (.iadd, 1) := dk_96 (dk_at dksX1_swapsAt_3 4 rfl rfl)
theorem dX1_swapsAt_76 : decode cX1_swapsAt 76 = .ok (.istore 9, 2) := dk_54 9 (dk_at dksX1_swapsAt_3 5 rfl rfl)
theorem dX1_swapsAt_78 : decode cX1_swapsAt 78 = .ok (.aload_n 0, 1) := dk_42 (dk_at dksX1_swapsAt_3 7 rfl rfl)
theorem dX1_swapsAt_79 : decode cX1_swapsAt 79 = .ok (.aload_n 0, 1) := dk_42 (dk_at dksX1_swapsAt_3 8 rfl rfl)
theorem dX1_swapsAt_80 : decode cX1_swapsAt 80 = .ok (.iload 5, 2) := dk_21 5 (dk_at dksX1_swapsAt_3 9 rfl rfl)
theorem dX1_swapsAt_82 : decode cX1_swapsAt 82 = .ok (.iload 9, 2) := dk_21 9 (dk_at dksX1_swapsAt_3 11 rfl rfl)
theorem dX1_swapsAt_84 : decode cX1_swapsAt 84 = .ok (.iload_n 3, 1) := dk_29 (dk_at dksX1_swapsAt_3 13 rfl rfl)
theorem dX1_swapsAt_85 : decode cX1_swapsAt 85 = .ok (.invokevirtual 222, 3) := dk_182 0 222 (dk_at dksX1_swapsAt_3 14 rfl rfl)
theorem dX1_swapsAt_88 : decode cX1_swapsAt 88 = .ok (.putfield 317, 3) := dk_181 1 61 (dk_at dksX1_swapsAt_3 17 rfl rfl)
theorem dX1_swapsAt_91 : decode cX1_swapsAt 91 = .ok (.aload_n 0, 1) := dk_42 (dk_at dksX1_swapsAt_3 20 rfl rfl)
theorem dX1_swapsAt_92 : decode cX1_swapsAt 92 = .ok (.aload_n 0, 1) := dk_42 (dk_at dksX1_swapsAt_3 21 rfl rfl)
theorem dX1_swapsAt_93 : decode cX1_swapsAt 93 = .ok (.iload 5, 2) := dk_21 5 (dk_at dksX1_swapsAt_3 22 rfl rfl)
theorem dX1_swapsAt_95 : decode cX1_swapsAt 95 = .ok (.iload 9, 2) := dk_21 9 (dk_at dksX1_swapsAt_4 0 rfl rfl)
theorem dX1_swapsAt_97 : decode cX1_swapsAt 97 = .ok (.iload 4, 2) := dk_21 4 (dk_at dksX1_swapsAt_4 2 rfl rfl)
theorem dX1_swapsAt_99 : decode cX1_swapsAt 99 = .ok (.invokevirtual 222, 3) := dk_182 0 222 (dk_at dksX1_swapsAt_4 4 rfl rfl)
theorem dX1_swapsAt_102 : decode cX1_swapsAt 102 = .ok (.putfield 320, 3) := dk_181 1 64 (dk_at dksX1_swapsAt_4 7 rfl rfl)
theorem dX1_swapsAt_105 : decode cX1_swapsAt 105 = .ok (.aload_n 0, 1) := dk_42 (dk_at dksX1_swapsAt_4 10 rfl rfl)
theorem dX1_swapsAt_106 : decode cX1_swapsAt 106 = .ok (.aload_n 0, 1) := dk_42 (dk_at dksX1_swapsAt_4 11 rfl rfl)
theorem dX1_swapsAt_107 : decode cX1_swapsAt 107 = .ok (.getfield 317, 3) := dk_180 1 61 (dk_at dksX1_swapsAt_4 12 rfl rfl)
theorem dX1_swapsAt_110 : decode cX1_swapsAt 110 = .ok (.aload_n 0, 1) := dk_42 (dk_at dksX1_swapsAt_4 15 rfl rfl)
theorem dX1_swapsAt_111 : decode cX1_swapsAt 111 = .ok (.getfield 320, 3) := dk_180 1 64 (dk_at dksX1_swapsAt_4 16 rfl rfl)
theorem dX1_swapsAt_114 : decode cX1_swapsAt 114 = .ok (.if_icmp .le 10, 3) := dk_164 0 10 (dk_at dksX1_swapsAt_4 19 rfl rfl)
theorem dX1_swapsAt_117 : decode cX1_swapsAt 117 = .ok (.aload_n 0, 1) := dk_42 (dk_at dksX1_swapsAt_4 22 rfl rfl)
theorem dX1_swapsAt_118 : decode cX1_swapsAt 118 = .ok (.getfield 317, 3) := dk_180 1 61 (dk_at dksX1_swapsAt_5 0 rfl rfl)
theorem dX1_swapsAt_121 : decode cX1_swapsAt 121 = .ok (.goto 7, 3) := dk_167 0 7 (dk_at dksX1_swapsAt_5 3 rfl rfl)
theorem dX1_swapsAt_124 : decode cX1_swapsAt 124 = .ok (.aload_n 0, 1) := dk_42 (dk_at dksX1_swapsAt_5 6 rfl rfl)
theorem dX1_swapsAt_125 : decode cX1_swapsAt 125 = .ok (.getfield 320, 3) := dk_180 1 64 (dk_at dksX1_swapsAt_5 7 rfl rfl)
theorem dX1_swapsAt_128 : decode cX1_swapsAt 128 = .ok (.putfield 323, 3) := dk_181 1 67 (dk_at dksX1_swapsAt_5 10 rfl rfl)
theorem dX1_swapsAt_131 : decode cX1_swapsAt 131 = .ok (.aload_n 0, 1) := dk_42 (dk_at dksX1_swapsAt_5 13 rfl rfl)
theorem dX1_swapsAt_132 : decode cX1_swapsAt 132 = .ok (.aload_n 0, 1) := dk_42 (dk_at dksX1_swapsAt_5 14 rfl rfl)
theorem dX1_swapsAt_133 : decode cX1_swapsAt 133 = .ok (.getfield 317, 3) := dk_180 1 61 (dk_at dksX1_swapsAt_5 15 rfl rfl)
theorem dX1_swapsAt_136 : decode cX1_swapsAt 136 = .ok (.aload_n 0, 1) := dk_42 (dk_at dksX1_swapsAt_5 18 rfl rfl)
theorem dX1_swapsAt_137 : decode cX1_swapsAt 137 = .ok (.getfield 320, 3) := dk_180 1 64 (dk_at dksX1_swapsAt_5 19 rfl rfl)
theorem dX1_swapsAt_140 : decode cX1_swapsAt 140 = .ok (.iadd, 1) := dk_96 (dk_at dksX1_swapsAt_5 22 rfl rfl)
theorem dX1_swapsAt_141 : decode cX1_swapsAt 141 = .ok (.putfield 326, 3) := dk_181 1 70 (dk_at dksX1_swapsAt_6 0 rfl rfl)
theorem dX1_swapsAt_144 : decode cX1_swapsAt 144 = .ok (.aload_n 0, 1) := dk_42 (dk_at dksX1_swapsAt_6 3 rfl rfl)
theorem dX1_swapsAt_145 : decode cX1_swapsAt 145 = .ok (.getfield 323, 3) := dk_180 1 67 (dk_at dksX1_swapsAt_6 4 rfl rfl)
theorem dX1_swapsAt_148 : decode cX1_swapsAt 148 = .ok (.ldc 217, 2) := dk_18 217 (dk_at dksX1_swapsAt_6 7 rfl rfl)
theorem dX1_swapsAt_150 : decode cX1_swapsAt 150 = .ok (.if_icmp .ge 7, 3) := dk_162 0 7 (dk_at dksX1_swapsAt_6 9 rfl rfl)
theorem dX1_swapsAt_153 : decode cX1_swapsAt 153 = .ok (.iconst 1, 1) := dk_4 (dk_at dksX1_swapsAt_6 12 rfl rfl)
theorem dX1_swapsAt_154 : decode cX1_swapsAt 154 = .ok (.goto 4, 3) := dk_167 0 4 (dk_at dksX1_swapsAt_6 13 rfl rfl)
theorem dX1_swapsAt_157 : decode cX1_swapsAt 157 = .ok (.iconst 0, 1) := dk_3 (dk_at dksX1_swapsAt_6 16 rfl rfl)
theorem dX1_swapsAt_158 : decode cX1_swapsAt 158 = .ok (.ireturn, 1) := dk_172 (dk_at dksX1_swapsAt_6 17 rfl rfl)
abbrev cX1_pairs : ByteArray := prog_8_method_81_code
def yX1_pairs : MethodName := ⟨RX1, "pairs", "(II)I"⟩
def dkwX1_pairs_12 : List UInt8 := [180, 0, 139, 21, 7, 46, 79, 132, 7, 1, 167, 255, 232, 21, 6, 172]
abbrev dktX1_pairs_12 : List UInt8 := dkwX1_pairs_12 ++ []
def dkwX1_pairs_11 : List UInt8 := [4, 182, 0, 193, 172, 3, 54, 7, 21, 7, 16, 6, 162, 0, 23, 42, 180, 0, 133, 21, 7, 42]
abbrev dktX1_pairs_11 : List UInt8 := dkwX1_pairs_11 ++ dktX1_pairs_12
def dkwX1_pairs_10 : List UInt8 := [21, 9, 46, 79, 132, 9, 1, 167, 255, 232, 132, 7, 1, 167, 255, 194, 21, 6, 18, 217, 160, 0, 9, 42]
abbrev dktX1_pairs_10 : List UInt8 := dkwX1_pairs_10 ++ dktX1_pairs_11
def dkwX1_pairs_9 : List UInt8 := [21, 8, 54, 6, 3, 54, 9, 21, 9, 16, 6, 162, 0, 23, 42, 180, 0, 139, 21, 9, 42, 180, 0, 136]
abbrev dktX1_pairs_9 : List UInt8 := dkwX1_pairs_9 ++ dktX1_pairs_10
def dkwX1_pairs_8 : List UInt8 := [17, 0, 216, 162, 0, 60, 42, 27, 28, 21, 7, 182, 1, 86, 54, 8, 21, 8, 21, 6, 162, 0, 37]
abbrev dktX1_pairs_8 : List UInt8 := dkwX1_pairs_8 ++ dktX1_pairs_9
def dkwX1_pairs_7 : List UInt8 := [42, 6, 182, 0, 193, 172, 21, 5, 154, 0, 6, 16, 252, 172, 18, 217, 54, 6, 3, 54, 7, 21, 7]
abbrev dktX1_pairs_7 : List UInt8 := dkwX1_pairs_7 ++ dktX1_pairs_8
def dkwX1_pairs_6 : List UInt8 := [182, 1, 80, 153, 0, 7, 4, 167, 0, 4, 3, 54, 5, 132, 6, 1, 167, 255, 186, 21, 4, 154, 0, 9]
abbrev dktX1_pairs_6 : List UInt8 := dkwX1_pairs_6 ++ dktX1_pairs_7
def dkwX1_pairs_5 : List UInt8 := [167, 0, 4, 3, 54, 4, 21, 5, 153, 0, 25, 27, 21, 6, 122, 4, 126, 153, 0, 12, 42, 21, 6]
abbrev dktX1_pairs_5 : List UInt8 := dkwX1_pairs_5 ++ dktX1_pairs_6
def dkwX1_pairs_4 : List UInt8 := [153, 0, 25, 42, 180, 0, 20, 16, 40, 28, 104, 21, 6, 96, 46, 184, 0, 210, 153, 0, 7, 4]
abbrev dktX1_pairs_4 : List UInt8 := dkwX1_pairs_4 ++ dktX1_pairs_5
def dkwX1_pairs_3 : List UInt8 := [182, 0, 193, 172, 4, 54, 4, 4, 54, 5, 3, 54, 6, 21, 6, 16, 6, 162, 0, 69, 21, 4]
abbrev dktX1_pairs_3 : List UInt8 := dkwX1_pairs_3 ++ dktX1_pairs_4
def dkwX1_pairs_2 : List UInt8 := [156, 0, 9, 42, 4, 182, 0, 193, 172, 42, 180, 0, 17, 28, 46, 16, 6, 159, 0, 9, 42, 8]
abbrev dktX1_pairs_2 : List UInt8 := dkwX1_pairs_2 ++ dktX1_pairs_3
def dkwX1_pairs_1 : List UInt8 := [159, 0, 9, 29, 16, 6, 160, 0, 10, 28, 184, 0, 189, 154, 0, 5, 2, 172, 42, 180, 0, 17, 28, 46]
abbrev dktX1_pairs_1 : List UInt8 := dkwX1_pairs_1 ++ dktX1_pairs_2
def dkwX1_pairs_0 : List UInt8 := [27, 184, 1, 58, 62, 27, 3, 16, 63, 184, 0, 185, 153, 0, 26, 29, 5, 159, 0, 14, 29, 7]
abbrev dktX1_pairs_0 : List UInt8 := dkwX1_pairs_0 ++ dktX1_pairs_1
theorem dksX1_pairs_0 : cX1_pairs.data.toList.drop 0 = dktX1_pairs_0 := by decide +kernel
theorem dksX1_pairs_1 : cX1_pairs.data.toList.drop 22 = dktX1_pairs_1 := dk_seg dksX1_pairs_0 22 rfl rfl
theorem dksX1_pairs_2 : cX1_pairs.data.toList.drop 46 = dktX1_pairs_2 := dk_seg dksX1_pairs_1 24 rfl rfl
theorem dksX1_pairs_3 : cX1_pairs.data.toList.drop 68 = dktX1_pairs_3 := dk_seg dksX1_pairs_2 22 rfl rfl
theorem dksX1_pairs_4 : cX1_pairs.data.toList.drop 90 = dktX1_pairs_4 := dk_seg dksX1_pairs_3 22 rfl rfl
theorem dksX1_pairs_5 : cX1_pairs.data.toList.drop 112 = dktX1_pairs_5 := dk_seg dksX1_pairs_4 22 rfl rfl
theorem dksX1_pairs_6 : cX1_pairs.data.toList.drop 135 = dktX1_pairs_6 := dk_seg dksX1_pairs_5 23 rfl rfl
theorem dksX1_pairs_7 : cX1_pairs.data.toList.drop 159 = dktX1_pairs_7 := dk_seg dksX1_pairs_6 24 rfl rfl
theorem dksX1_pairs_8 : cX1_pairs.data.toList.drop 182 = dktX1_pairs_8 := dk_seg dksX1_pairs_7 23 rfl rfl
theorem dksX1_pairs_9 : cX1_pairs.data.toList.drop 205 = dktX1_pairs_9 := dk_seg dksX1_pairs_8 23 rfl rfl
theorem dksX1_pairs_10 : cX1_pairs.data.toList.drop 229 = dktX1_pairs_10 := dk_seg dksX1_pairs_9 24 rfl rfl
theorem dksX1_pairs_11 : cX1_pairs.data.toList.drop 253 = dktX1_pairs_11 := dk_seg dksX1_pairs_10 24 rfl rfl
theorem dksX1_pairs_12 : cX1_pairs.data.toList.drop 275 = dktX1_pairs_12 := dk_seg dksX1_pairs_11 22 rfl rfl
theorem dX1_pairs_0 : decode cX1_pairs 0 = .ok (.iload_n 1, 1) := dk_27 (dk_at dksX1_pairs_0 0 rfl rfl)
theorem dX1_pairs_1 : decode cX1_pairs 1 = .ok (.invokestatic 314, 3) := dk_184 1 58 (dk_at dksX1_pairs_0 1 rfl rfl)
theorem dX1_pairs_4 : decode cX1_pairs 4 = .ok (.istore_n 3, 1) := dk_62 (dk_at dksX1_pairs_0 4 rfl rfl)
theorem dX1_pairs_5 : decode cX1_pairs 5 = .ok (.iload_n 1, 1) := dk_27 (dk_at dksX1_pairs_0 5 rfl rfl)
theorem dX1_pairs_6 : decode cX1_pairs 6 = .ok (.iconst 0, 1) := dk_3 (dk_at dksX1_pairs_0 6 rfl rfl)
theorem dX1_pairs_7 : decode cX1_pairs 7 = .ok (.bipush 63, 2) := dk_16 63 (dk_at dksX1_pairs_0 7 rfl rfl)
theorem dX1_pairs_9 : decode cX1_pairs 9 = .ok (.invokestatic 185, 3) := dk_184 0 185 (dk_at dksX1_pairs_0 9 rfl rfl)
theorem dX1_pairs_12 : decode cX1_pairs 12 = .ok (.ifCond .eq 26, 3) := dk_153 0 26 (dk_at dksX1_pairs_0 12 rfl rfl)
theorem dX1_pairs_15 : decode cX1_pairs 15 = .ok (.iload_n 3, 1) := dk_29 (dk_at dksX1_pairs_0 15 rfl rfl)
theorem dX1_pairs_16 : decode cX1_pairs 16 = .ok (.iconst 2, 1) := dk_5 (dk_at dksX1_pairs_0 16 rfl rfl)
theorem dX1_pairs_17 : decode cX1_pairs 17 = .ok (.if_icmp .eq 14, 3) := dk_159 0 14 (dk_at dksX1_pairs_0 17 rfl rfl)
theorem dX1_pairs_20 : decode cX1_pairs 20 = .ok (.iload_n 3, 1) := dk_29 (dk_at dksX1_pairs_0 20 rfl rfl)
theorem dX1_pairs_21 : decode cX1_pairs 21 = .ok (.iconst 4, 1) := dk_7 (dk_at dksX1_pairs_0 21 rfl rfl)
theorem dX1_pairs_22 : decode cX1_pairs 22 = .ok (.if_icmp .eq 9, 3) := dk_159 0 9 (dk_at dksX1_pairs_1 0 rfl rfl)
theorem dX1_pairs_25 : decode cX1_pairs 25 = .ok (.iload_n 3, 1) := dk_29 (dk_at dksX1_pairs_1 3 rfl rfl)
theorem dX1_pairs_26 : decode cX1_pairs 26 = .ok (.bipush 6, 2) := dk_16 6 (dk_at dksX1_pairs_1 4 rfl rfl)
theorem dX1_pairs_28 : decode cX1_pairs 28 = .ok (.if_icmp .ne 10, 3) := dk_160 0 10 (dk_at dksX1_pairs_1 6 rfl rfl)
theorem dX1_pairs_31 : decode cX1_pairs 31 = .ok (.iload_n 2, 1) := dk_28 (dk_at dksX1_pairs_1 9 rfl rfl)
theorem dX1_pairs_32 : decode cX1_pairs 32 = .ok (.invokestatic 189, 3) := dk_184 0 189 (dk_at dksX1_pairs_1 10 rfl rfl)
theorem dX1_pairs_35 : decode cX1_pairs 35 = .ok (.ifCond .ne 5, 3) := dk_154 0 5 (dk_at dksX1_pairs_1 13 rfl rfl)
theorem dX1_pairs_38 : decode cX1_pairs 38 = .ok (.iconst (-1), 1) := dk_2 (dk_at dksX1_pairs_1 16 rfl rfl)
theorem dX1_pairs_39 : decode cX1_pairs 39 = .ok (.ireturn, 1) := dk_172 (dk_at dksX1_pairs_1 17 rfl rfl)
theorem dX1_pairs_40 : decode cX1_pairs 40 = .ok (.aload_n 0, 1) := dk_42 (dk_at dksX1_pairs_1 18 rfl rfl)
theorem dX1_pairs_41 : decode cX1_pairs 41 = .ok (.getfield 17, 3) := dk_180 0 17 (dk_at dksX1_pairs_1 19 rfl rfl)
theorem dX1_pairs_44 : decode cX1_pairs 44 = .ok (.iload_n 2, 1) := dk_28 (dk_at dksX1_pairs_1 22 rfl rfl)
theorem dX1_pairs_45 : decode cX1_pairs 45 = .ok (.iaload, 1) := dk_46 (dk_at dksX1_pairs_1 23 rfl rfl)
theorem dX1_pairs_46 : decode cX1_pairs 46 = .ok (.ifCond .ge 9, 3) := dk_156 0 9 (dk_at dksX1_pairs_2 0 rfl rfl)
theorem dX1_pairs_49 : decode cX1_pairs 49 = .ok (.aload_n 0, 1) := dk_42 (dk_at dksX1_pairs_2 3 rfl rfl)
theorem dX1_pairs_50 : decode cX1_pairs 50 = .ok (.iconst 1, 1) := dk_4 (dk_at dksX1_pairs_2 4 rfl rfl)
theorem dX1_pairs_51 : decode cX1_pairs 51 = .ok (.invokevirtual 193, 3) := dk_182 0 193 (dk_at dksX1_pairs_2 5 rfl rfl)
theorem dX1_pairs_54 : decode cX1_pairs 54 = .ok (.ireturn, 1) := dk_172 (dk_at dksX1_pairs_2 8 rfl rfl)
theorem dX1_pairs_55 : decode cX1_pairs 55 = .ok (.aload_n 0, 1) := dk_42 (dk_at dksX1_pairs_2 9 rfl rfl)
theorem dX1_pairs_56 : decode cX1_pairs 56 = .ok (.getfield 17, 3) := dk_180 0 17 (dk_at dksX1_pairs_2 10 rfl rfl)
theorem dX1_pairs_59 : decode cX1_pairs 59 = .ok (.iload_n 2, 1) := dk_28 (dk_at dksX1_pairs_2 13 rfl rfl)
theorem dX1_pairs_60 : decode cX1_pairs 60 = .ok (.iaload, 1) := dk_46 (dk_at dksX1_pairs_2 14 rfl rfl)
theorem dX1_pairs_61 : decode cX1_pairs 61 = .ok (.bipush 6, 2) := dk_16 6 (dk_at dksX1_pairs_2 15 rfl rfl)
theorem dX1_pairs_63 : decode cX1_pairs 63 = .ok (.if_icmp .eq 9, 3) := dk_159 0 9 (dk_at dksX1_pairs_2 17 rfl rfl)
theorem dX1_pairs_66 : decode cX1_pairs 66 = .ok (.aload_n 0, 1) := dk_42 (dk_at dksX1_pairs_2 20 rfl rfl)
theorem dX1_pairs_67 : decode cX1_pairs 67 = .ok (.iconst 5, 1) := dk_8 (dk_at dksX1_pairs_2 21 rfl rfl)
theorem dX1_pairs_68 : decode cX1_pairs 68 = .ok (.invokevirtual 193, 3) := dk_182 0 193 (dk_at dksX1_pairs_3 0 rfl rfl)
theorem dX1_pairs_71 : decode cX1_pairs 71 = .ok (.ireturn, 1) := dk_172 (dk_at dksX1_pairs_3 3 rfl rfl)
theorem dX1_pairs_72 : decode cX1_pairs 72 = .ok (.iconst 1, 1) := dk_4 (dk_at dksX1_pairs_3 4 rfl rfl)
theorem dX1_pairs_73 : decode cX1_pairs 73 = .ok (.istore 4, 2) := dk_54 4 (dk_at dksX1_pairs_3 5 rfl rfl)
theorem dX1_pairs_75 : decode cX1_pairs 75 = .ok (.iconst 1, 1) := dk_4 (dk_at dksX1_pairs_3 7 rfl rfl)
theorem dX1_pairs_76 : decode cX1_pairs 76 = .ok (.istore 5, 2) := dk_54 5 (dk_at dksX1_pairs_3 8 rfl rfl)
theorem dX1_pairs_78 : decode cX1_pairs 78 = .ok (.iconst 0, 1) := dk_3 (dk_at dksX1_pairs_3 10 rfl rfl)
theorem dX1_pairs_79 : decode cX1_pairs 79 = .ok (.istore 6, 2) := dk_54 6 (dk_at dksX1_pairs_3 11 rfl rfl)
theorem dX1_pairs_81 : decode cX1_pairs 81 = .ok (.iload 6, 2) := dk_21 6 (dk_at dksX1_pairs_3 13 rfl rfl)
theorem dX1_pairs_83 : decode cX1_pairs 83 = .ok (.bipush 6, 2) := dk_16 6 (dk_at dksX1_pairs_3 15 rfl rfl)
theorem dX1_pairs_85 : decode cX1_pairs 85 = .ok (.if_icmp .ge 69, 3) := dk_162 0 69 (dk_at dksX1_pairs_3 17 rfl rfl)
theorem dX1_pairs_88 : decode cX1_pairs 88 = .ok (.iload 4, 2) := dk_21 4 (dk_at dksX1_pairs_3 20 rfl rfl)
theorem dX1_pairs_90 : decode cX1_pairs 90 = .ok (.ifCond .eq 25, 3) := dk_153 0 25 (dk_at dksX1_pairs_4 0 rfl rfl)
theorem dX1_pairs_93 : decode cX1_pairs 93 = .ok (.aload_n 0, 1) := dk_42 (dk_at dksX1_pairs_4 3 rfl rfl)
theorem dX1_pairs_94 : decode cX1_pairs 94 = .ok (.getfield 20, 3) := dk_180 0 20 (dk_at dksX1_pairs_4 4 rfl rfl)
theorem dX1_pairs_97 : decode cX1_pairs 97 = .ok (.bipush 40, 2) := dk_16 40 (dk_at dksX1_pairs_4 7 rfl rfl)
theorem dX1_pairs_99 : decode cX1_pairs 99 = .ok (.iload_n 2, 1) := dk_28 (dk_at dksX1_pairs_4 9 rfl rfl)
theorem dX1_pairs_100 : decode cX1_pairs 100 = .ok (.imul, 1) := dk_104 (dk_at dksX1_pairs_4 10 rfl rfl)
theorem dX1_pairs_101 : decode cX1_pairs 101 = .ok (.iload 6, 2) := dk_21 6 (dk_at dksX1_pairs_4 11 rfl rfl)
theorem dX1_pairs_103 : decode cX1_pairs 103 = .ok (.iadd, 1) := dk_96 (dk_at dksX1_pairs_4 13 rfl rfl)
theorem dX1_pairs_104 : decode cX1_pairs 104 = .ok (.iaload, 1) := dk_46 (dk_at dksX1_pairs_4 14 rfl rfl)
theorem dX1_pairs_105 : decode cX1_pairs 105 = .ok (.invokestatic 210, 3) := dk_184 0 210 (dk_at dksX1_pairs_4 15 rfl rfl)
theorem dX1_pairs_108 : decode cX1_pairs 108 = .ok (.ifCond .eq 7, 3) := dk_153 0 7 (dk_at dksX1_pairs_4 18 rfl rfl)
theorem dX1_pairs_111 : decode cX1_pairs 111 = .ok (.iconst 1, 1) := dk_4 (dk_at dksX1_pairs_4 21 rfl rfl)
theorem dX1_pairs_112 : decode cX1_pairs 112 = .ok (.goto 4, 3) := dk_167 0 4 (dk_at dksX1_pairs_5 0 rfl rfl)
theorem dX1_pairs_115 : decode cX1_pairs 115 = .ok (.iconst 0, 1) := dk_3 (dk_at dksX1_pairs_5 3 rfl rfl)
theorem dX1_pairs_116 : decode cX1_pairs 116 = .ok (.istore 4, 2) := dk_54 4 (dk_at dksX1_pairs_5 4 rfl rfl)
theorem dX1_pairs_118 : decode cX1_pairs 118 = .ok (.iload 5, 2) := dk_21 5 (dk_at dksX1_pairs_5 6 rfl rfl)
theorem dX1_pairs_120 : decode cX1_pairs 120 = .ok (.ifCond .eq 25, 3) := dk_153 0 25 (dk_at dksX1_pairs_5 8 rfl rfl)
theorem dX1_pairs_123 : decode cX1_pairs 123 = .ok (.iload_n 1, 1) := dk_27 (dk_at dksX1_pairs_5 11 rfl rfl)
theorem dX1_pairs_124 : decode cX1_pairs 124 = .ok (.iload 6, 2) := dk_21 6 (dk_at dksX1_pairs_5 12 rfl rfl)
theorem dX1_pairs_126 : decode cX1_pairs 126 = .ok (.ishr, 1) := dk_122 (dk_at dksX1_pairs_5 14 rfl rfl)
theorem dX1_pairs_127 : decode cX1_pairs 127 = .ok (.iconst 1, 1) := dk_4 (dk_at dksX1_pairs_5 15 rfl rfl)
theorem dX1_pairs_128 : decode cX1_pairs 128 = .ok (.iand, 1) := dk_126 (dk_at dksX1_pairs_5 16 rfl rfl)
theorem dX1_pairs_129 : decode cX1_pairs 129 = .ok (.ifCond .eq 12, 3) := dk_153 0 12 (dk_at dksX1_pairs_5 17 rfl rfl)
theorem dX1_pairs_132 : decode cX1_pairs 132 = .ok (.aload_n 0, 1) := dk_42 (dk_at dksX1_pairs_5 20 rfl rfl)
theorem dX1_pairs_133 : decode cX1_pairs 133 = .ok (.iload 6, 2) := dk_21 6 (dk_at dksX1_pairs_5 21 rfl rfl)
theorem dX1_pairs_135 : decode cX1_pairs 135 = .ok (.invokevirtual 336, 3) := dk_182 1 80 (dk_at dksX1_pairs_6 0 rfl rfl)
theorem dX1_pairs_138 : decode cX1_pairs 138 = .ok (.ifCond .eq 7, 3) := dk_153 0 7 (dk_at dksX1_pairs_6 3 rfl rfl)
theorem dX1_pairs_141 : decode cX1_pairs 141 = .ok (.iconst 1, 1) := dk_4 (dk_at dksX1_pairs_6 6 rfl rfl)
theorem dX1_pairs_142 : decode cX1_pairs 142 = .ok (.goto 4, 3) := dk_167 0 4 (dk_at dksX1_pairs_6 7 rfl rfl)
theorem dX1_pairs_145 : decode cX1_pairs 145 = .ok (.iconst 0, 1) := dk_3 (dk_at dksX1_pairs_6 10 rfl rfl)
theorem dX1_pairs_146 : decode cX1_pairs 146 = .ok (.istore 5, 2) := dk_54 5 (dk_at dksX1_pairs_6 11 rfl rfl)
theorem dX1_pairs_148 : decode cX1_pairs 148 = .ok (.iinc 6 1, 3) := dk_132 6 1 (dk_at dksX1_pairs_6 13 rfl rfl)
theorem dX1_pairs_151 : decode cX1_pairs 151 = .ok (.goto (-70), 3) := dk_167 255 186 (dk_at dksX1_pairs_6 16 rfl rfl)
theorem dX1_pairs_154 : decode cX1_pairs 154 = .ok (.iload 4, 2) := dk_21 4 (dk_at dksX1_pairs_6 19 rfl rfl)
theorem dX1_pairs_156 : decode cX1_pairs 156 = .ok (.ifCond .ne 9, 3) := dk_154 0 9 (dk_at dksX1_pairs_6 21 rfl rfl)
theorem dX1_pairs_159 : decode cX1_pairs 159 = .ok (.aload_n 0, 1) := dk_42 (dk_at dksX1_pairs_7 0 rfl rfl)
theorem dX1_pairs_160 : decode cX1_pairs 160 = .ok (.iconst 3, 1) := dk_6 (dk_at dksX1_pairs_7 1 rfl rfl)
theorem dX1_pairs_161 : decode cX1_pairs 161 = .ok (.invokevirtual 193, 3) := dk_182 0 193 (dk_at dksX1_pairs_7 2 rfl rfl)
theorem dX1_pairs_164 : decode cX1_pairs 164 = .ok (.ireturn, 1) := dk_172 (dk_at dksX1_pairs_7 5 rfl rfl)
theorem dX1_pairs_165 : decode cX1_pairs 165 = .ok (.iload 5, 2) := dk_21 5 (dk_at dksX1_pairs_7 6 rfl rfl)
theorem dX1_pairs_167 : decode cX1_pairs 167 = .ok (.ifCond .ne 6, 3) := dk_154 0 6 (dk_at dksX1_pairs_7 8 rfl rfl)
theorem dX1_pairs_170 : decode cX1_pairs 170 = .ok (.bipush (-4), 2) := dk_16 252 (dk_at dksX1_pairs_7 11 rfl rfl)
theorem dX1_pairs_172 : decode cX1_pairs 172 = .ok (.ireturn, 1) := dk_172 (dk_at dksX1_pairs_7 13 rfl rfl)
theorem dX1_pairs_173 : decode cX1_pairs 173 = .ok (.ldc 217, 2) := dk_18 217 (dk_at dksX1_pairs_7 14 rfl rfl)
theorem dX1_pairs_175 : decode cX1_pairs 175 = .ok (.istore 6, 2) := dk_54 6 (dk_at dksX1_pairs_7 16 rfl rfl)
theorem dX1_pairs_177 : decode cX1_pairs 177 = .ok (.iconst 0, 1) := dk_3 (dk_at dksX1_pairs_7 18 rfl rfl)
theorem dX1_pairs_178 : decode cX1_pairs 178 = .ok (.istore 7, 2) := dk_54 7 (dk_at dksX1_pairs_7 19 rfl rfl)
theorem dX1_pairs_180 : decode cX1_pairs 180 = .ok (.iload 7, 2) := dk_21 7 (dk_at dksX1_pairs_7 21 rfl rfl)
theorem dX1_pairs_182 : decode cX1_pairs 182 = .ok (.sipush 216, 3) := dk_17 0 216 (dk_at dksX1_pairs_8 0 rfl rfl)
theorem dX1_pairs_185 : decode cX1_pairs 185 = .ok (.if_icmp .ge 60, 3) := dk_162 0 60 (dk_at dksX1_pairs_8 3 rfl rfl)
theorem dX1_pairs_188 : decode cX1_pairs 188 = .ok (.aload_n 0, 1) := dk_42 (dk_at dksX1_pairs_8 6 rfl rfl)
theorem dX1_pairs_189 : decode cX1_pairs 189 = .ok (.iload_n 1, 1) := dk_27 (dk_at dksX1_pairs_8 7 rfl rfl)
theorem dX1_pairs_190 : decode cX1_pairs 190 = .ok (.iload_n 2, 1) := dk_28 (dk_at dksX1_pairs_8 8 rfl rfl)
theorem dX1_pairs_191 : decode cX1_pairs 191 = .ok (.iload 7, 2) := dk_21 7 (dk_at dksX1_pairs_8 9 rfl rfl)
theorem dX1_pairs_193 : decode cX1_pairs 193 = .ok (.invokevirtual 342, 3) := dk_182 1 86 (dk_at dksX1_pairs_8 11 rfl rfl)
theorem dX1_pairs_196 : decode cX1_pairs 196 = .ok (.istore 8, 2) := dk_54 8 (dk_at dksX1_pairs_8 14 rfl rfl)
theorem dX1_pairs_198 : decode cX1_pairs 198 = .ok (.iload 8, 2) := dk_21 8 (dk_at dksX1_pairs_8 16 rfl rfl)
theorem dX1_pairs_200 : decode cX1_pairs 200 = .ok (.iload 6, 2) := dk_21 6 (dk_at dksX1_pairs_8 18 rfl rfl)
theorem dX1_pairs_202 : decode cX1_pairs 202 = .ok (.if_icmp .ge 37, 3) := dk_162 0 37 (dk_at dksX1_pairs_8 20 rfl rfl)
theorem dX1_pairs_205 : decode cX1_pairs 205 = .ok (.iload 8, 2) := dk_21 8 (dk_at dksX1_pairs_9 0 rfl rfl)
theorem dX1_pairs_207 : decode cX1_pairs 207 = .ok (.istore 6, 2) := dk_54 6 (dk_at dksX1_pairs_9 2 rfl rfl)
theorem dX1_pairs_209 : decode cX1_pairs 209 = .ok (.iconst 0, 1) := dk_3 (dk_at dksX1_pairs_9 4 rfl rfl)
theorem dX1_pairs_210 : decode cX1_pairs 210 = .ok (.istore 9, 2) := dk_54 9 (dk_at dksX1_pairs_9 5 rfl rfl)
theorem dX1_pairs_212 : decode cX1_pairs 212 = .ok (.iload 9, 2) := dk_21 9 (dk_at dksX1_pairs_9 7 rfl rfl)
theorem dX1_pairs_214 : decode cX1_pairs 214 = .ok (.bipush 6, 2) := dk_16 6 (dk_at dksX1_pairs_9 9 rfl rfl)
theorem dX1_pairs_216 : decode cX1_pairs 216 = .ok (.if_icmp .ge 23, 3) := dk_162 0 23 (dk_at dksX1_pairs_9 11 rfl rfl)
theorem dX1_pairs_219 : decode cX1_pairs 219 = .ok (.aload_n 0, 1) := dk_42 (dk_at dksX1_pairs_9 14 rfl rfl)
theorem dX1_pairs_220 : decode cX1_pairs 220 = .ok (.getfield 139, 3) := dk_180 0 139 (dk_at dksX1_pairs_9 15 rfl rfl)
theorem dX1_pairs_223 : decode cX1_pairs 223 = .ok (.iload 9, 2) := dk_21 9 (dk_at dksX1_pairs_9 18 rfl rfl)
theorem dX1_pairs_225 : decode cX1_pairs 225 = .ok (.aload_n 0, 1) := dk_42 (dk_at dksX1_pairs_9 20 rfl rfl)
theorem dX1_pairs_226 : decode cX1_pairs 226 = .ok (.getfield 136, 3) := dk_180 0 136 (dk_at dksX1_pairs_9 21 rfl rfl)
theorem dX1_pairs_229 : decode cX1_pairs 229 = .ok (.iload 9, 2) := dk_21 9 (dk_at dksX1_pairs_10 0 rfl rfl)
theorem dX1_pairs_231 : decode cX1_pairs 231 = .ok (.iaload, 1) := dk_46 (dk_at dksX1_pairs_10 2 rfl rfl)
theorem dX1_pairs_232 : decode cX1_pairs 232 = .ok (.iastore, 1) := dk_79 (dk_at dksX1_pairs_10 3 rfl rfl)
theorem dX1_pairs_233 : decode cX1_pairs 233 = .ok (.iinc 9 1, 3) := dk_132 9 1 (dk_at dksX1_pairs_10 4 rfl rfl)
theorem dX1_pairs_236 : decode cX1_pairs 236 = .ok (.goto (-24), 3) := dk_167 255 232 (dk_at dksX1_pairs_10 7 rfl rfl)
theorem dX1_pairs_239 : decode cX1_pairs 239 = .ok (.iinc 7 1, 3) := dk_132 7 1 (dk_at dksX1_pairs_10 10 rfl rfl)
theorem dX1_pairs_242 : decode cX1_pairs 242 = .ok (.goto (-62), 3) := dk_167 255 194 (dk_at dksX1_pairs_10 13 rfl rfl)
theorem dX1_pairs_245 : decode cX1_pairs 245 = .ok (.iload 6, 2) := dk_21 6 (dk_at dksX1_pairs_10 16 rfl rfl)
theorem dX1_pairs_247 : decode cX1_pairs 247 = .ok (.ldc 217, 2) := dk_18 217 (dk_at dksX1_pairs_10 18 rfl rfl)
theorem dX1_pairs_249 : decode cX1_pairs 249 = .ok (.if_icmp .ne 9, 3) := dk_160 0 9 (dk_at dksX1_pairs_10 20 rfl rfl)
theorem dX1_pairs_252 : decode cX1_pairs 252 = .ok (.aload_n 0, 1) := dk_42 (dk_at dksX1_pairs_10 23 rfl rfl)
theorem dX1_pairs_253 : decode cX1_pairs 253 = .ok (.iconst 1, 1) := dk_4 (dk_at dksX1_pairs_11 0 rfl rfl)
theorem dX1_pairs_254 : decode cX1_pairs 254 = .ok (.invokevirtual 193, 3) := dk_182 0 193 (dk_at dksX1_pairs_11 1 rfl rfl)
theorem dX1_pairs_257 : decode cX1_pairs 257 = .ok (.ireturn, 1) := dk_172 (dk_at dksX1_pairs_11 4 rfl rfl)
theorem dX1_pairs_258 : decode cX1_pairs 258 = .ok (.iconst 0, 1) := dk_3 (dk_at dksX1_pairs_11 5 rfl rfl)
theorem dX1_pairs_259 : decode cX1_pairs 259 = .ok (.istore 7, 2) := dk_54 7 (dk_at dksX1_pairs_11 6 rfl rfl)
theorem dX1_pairs_261 : decode cX1_pairs 261 = .ok (.iload 7, 2) := dk_21 7 (dk_at dksX1_pairs_11 8 rfl rfl)
theorem dX1_pairs_263 : decode cX1_pairs 263 = .ok (.bipush 6, 2) := dk_16 6 (dk_at dksX1_pairs_11 10 rfl rfl)
theorem dX1_pairs_265 : decode cX1_pairs 265 = .ok (.if_icmp .ge 23, 3) := dk_162 0 23 (dk_at dksX1_pairs_11 12 rfl rfl)
theorem dX1_pairs_268 : decode cX1_pairs 268 = .ok (.aload_n 0, 1) := dk_42 (dk_at dksX1_pairs_11 15 rfl rfl)
theorem dX1_pairs_269 : decode cX1_pairs 269 = .ok (.getfield 133, 3) := dk_180 0 133 (dk_at dksX1_pairs_11 16 rfl rfl)
theorem dX1_pairs_272 : decode cX1_pairs 272 = .ok (.iload 7, 2) := dk_21 7 (dk_at dksX1_pairs_11 19 rfl rfl)
theorem dX1_pairs_274 : decode cX1_pairs 274 = .ok (.aload_n 0, 1) := dk_42 (dk_at dksX1_pairs_11 21 rfl rfl)
theorem dX1_pairs_275 : decode cX1_pairs 275 = .ok (.getfield 139, 3) := dk_180 0 139 (dk_at dksX1_pairs_12 0 rfl rfl)
theorem dX1_pairs_278 : decode cX1_pairs 278 = .ok (.iload 7, 2) := dk_21 7 (dk_at dksX1_pairs_12 3 rfl rfl)
theorem dX1_pairs_280 : decode cX1_pairs 280 = .ok (.iaload, 1) := dk_46 (dk_at dksX1_pairs_12 5 rfl rfl)
theorem dX1_pairs_281 : decode cX1_pairs 281 = .ok (.iastore, 1) := dk_79 (dk_at dksX1_pairs_12 6 rfl rfl)
theorem dX1_pairs_282 : decode cX1_pairs 282 = .ok (.iinc 7 1, 3) := dk_132 7 1 (dk_at dksX1_pairs_12 7 rfl rfl)
theorem dX1_pairs_285 : decode cX1_pairs 285 = .ok (.goto (-24), 3) := dk_167 255 232 (dk_at dksX1_pairs_12 10 rfl rfl)
theorem dX1_pairs_288 : decode cX1_pairs 288 = .ok (.iload 6, 2) := dk_21 6 (dk_at dksX1_pairs_12 13 rfl rfl)
theorem dX1_pairs_290 : decode cX1_pairs 290 = .ok (.ireturn, 1) := dk_172 (dk_at dksX1_pairs_12 15 rfl rfl)
abbrev cX1_partWays : ByteArray := prog_8_method_82_code
def yX1_partWays : MethodName := ⟨RX1, "partWays", "(III)I"⟩
def dkwX1_partWays_8 : List UInt8 := [167, 255, 100, 21, 5, 172]
abbrev dktX1_partWays_8 : List UInt8 := dkwX1_partWays_8 ++ []
def dkwX1_partWays_7 : List UInt8 := [182, 1, 89, 54, 9, 21, 9, 21, 5, 164, 0, 8, 21, 9, 167, 0, 5, 21, 5, 54, 5, 132, 6, 1]
abbrev dktX1_partWays_7 : List UInt8 := dkwX1_partWays_7 ++ dktX1_partWays_8
def dkwX1_partWays_6 : List UInt8 := [180, 0, 136, 21, 8, 21, 7, 79, 42, 180, 0, 136, 21, 7, 21, 8, 79, 42, 28, 21, 8, 21, 7]
abbrev dktX1_partWays_6 : List UInt8 := dkwX1_partWays_6 ++ dktX1_partWays_7
def dkwX1_partWays_5 : List UInt8 := [154, 0, 6, 18, 217, 172, 21, 4, 4, 21, 8, 120, 4, 21, 7, 120, 128, 2, 130, 126, 54, 4, 42]
abbrev dktX1_partWays_5 : List UInt8 := dkwX1_partWays_5 ++ dktX1_partWays_6
def dkwX1_partWays_4 : List UInt8 := [126, 154, 0, 9, 132, 8, 1, 167, 255, 243, 21, 7, 21, 8, 159, 0, 13, 21, 4, 21, 7, 122, 4, 126]
abbrev dktX1_partWays_4 : List UInt8 := dkwX1_partWays_4 ++ dktX1_partWays_5
def dkwX1_partWays_3 : List UInt8 := [54, 7, 21, 4, 154, 0, 11, 21, 7, 158, 0, 106, 18, 217, 172, 3, 54, 8, 21, 4, 21, 8, 122, 4]
abbrev dktX1_partWays_3 : List UInt8 := dkwX1_partWays_3 ++ dktX1_partWays_4
def dkwX1_partWays_2 : List UInt8 := [108, 167, 0, 23, 21, 6, 4, 160, 0, 13, 29, 16, 6, 108, 16, 6, 112, 167, 0, 7, 29, 16, 6, 112]
abbrev dktX1_partWays_2 : List UInt8 := dkwX1_partWays_2 ++ dktX1_partWays_3
def dkwX1_partWays_1 : List UInt8 := [79, 132, 6, 1, 167, 255, 237, 3, 54, 6, 21, 6, 6, 162, 0, 156, 21, 6, 154, 0, 10, 29, 16, 36]
abbrev dktX1_partWays_1 : List UInt8 := dkwX1_partWays_1 ++ dktX1_partWays_2
def dkwX1_partWays_0 : List UInt8 := [27, 54, 4, 3, 54, 5, 3, 54, 6, 21, 6, 16, 6, 162, 0, 18, 42, 180, 0, 136, 21, 6, 16, 247]
abbrev dktX1_partWays_0 : List UInt8 := dkwX1_partWays_0 ++ dktX1_partWays_1
theorem dksX1_partWays_0 : cX1_partWays.data.toList.drop 0 = dktX1_partWays_0 := by decide +kernel
theorem dksX1_partWays_1 : cX1_partWays.data.toList.drop 24 = dktX1_partWays_1 := dk_seg dksX1_partWays_0 24 rfl rfl
theorem dksX1_partWays_2 : cX1_partWays.data.toList.drop 48 = dktX1_partWays_2 := dk_seg dksX1_partWays_1 24 rfl rfl
theorem dksX1_partWays_3 : cX1_partWays.data.toList.drop 72 = dktX1_partWays_3 := dk_seg dksX1_partWays_2 24 rfl rfl
theorem dksX1_partWays_4 : cX1_partWays.data.toList.drop 96 = dktX1_partWays_4 := dk_seg dksX1_partWays_3 24 rfl rfl
theorem dksX1_partWays_5 : cX1_partWays.data.toList.drop 120 = dktX1_partWays_5 := dk_seg dksX1_partWays_4 24 rfl rfl
theorem dksX1_partWays_6 : cX1_partWays.data.toList.drop 143 = dktX1_partWays_6 := dk_seg dksX1_partWays_5 23 rfl rfl
theorem dksX1_partWays_7 : cX1_partWays.data.toList.drop 166 = dktX1_partWays_7 := dk_seg dksX1_partWays_6 23 rfl rfl
theorem dksX1_partWays_8 : cX1_partWays.data.toList.drop 190 = dktX1_partWays_8 := dk_seg dksX1_partWays_7 24 rfl rfl
theorem dX1_partWays_0 : decode cX1_partWays 0 = .ok (.iload_n 1, 1) := dk_27 (dk_at dksX1_partWays_0 0 rfl rfl)
theorem dX1_partWays_1 : decode cX1_partWays 1 = .ok (.istore 4, 2) := dk_54 4 (dk_at dksX1_partWays_0 1 rfl rfl)
theorem dX1_partWays_3 : decode cX1_partWays 3 = .ok (.iconst 0, 1) := dk_3 (dk_at dksX1_partWays_0 3 rfl rfl)
theorem dX1_partWays_4 : decode cX1_partWays 4 = .ok (.istore 5, 2) := dk_54 5 (dk_at dksX1_partWays_0 4 rfl rfl)
theorem dX1_partWays_6 : decode cX1_partWays 6 = .ok (.iconst 0, 1) := dk_3 (dk_at dksX1_partWays_0 6 rfl rfl)
theorem dX1_partWays_7 : decode cX1_partWays 7 = .ok (.istore 6, 2) := dk_54 6 (dk_at dksX1_partWays_0 7 rfl rfl)
theorem dX1_partWays_9 : decode cX1_partWays 9 = .ok (.iload 6, 2) := dk_21 6 (dk_at dksX1_partWays_0 9 rfl rfl)
theorem dX1_partWays_11 : decode cX1_partWays 11 = .ok (.bipush 6, 2) := dk_16 6 (dk_at dksX1_partWays_0 11 rfl rfl)
theorem dX1_partWays_13 : decode cX1_partWays 13 = .ok (.if_icmp .ge 18, 3) := dk_162 0 18 (dk_at dksX1_partWays_0 13 rfl rfl)
theorem dX1_partWays_16 : decode cX1_partWays 16 = .ok (.aload_n 0, 1) := dk_42 (dk_at dksX1_partWays_0 16 rfl rfl)
theorem dX1_partWays_17 : decode cX1_partWays 17 = .ok (.getfield 136, 3) := dk_180 0 136 (dk_at dksX1_partWays_0 17 rfl rfl)
theorem dX1_partWays_20 : decode cX1_partWays 20 = .ok (.iload 6, 2) := dk_21 6 (dk_at dksX1_partWays_0 20 rfl rfl)
theorem dX1_partWays_22 : decode cX1_partWays 22 = .ok (.bipush (-9), 2) := dk_16 247 (dk_at dksX1_partWays_0 22 rfl rfl)
theorem dX1_partWays_24 : decode cX1_partWays 24 = .ok (.iastore, 1) := dk_79 (dk_at dksX1_partWays_1 0 rfl rfl)
theorem dX1_partWays_25 : decode cX1_partWays 25 = .ok (.iinc 6 1, 3) := dk_132 6 1 (dk_at dksX1_partWays_1 1 rfl rfl)
theorem dX1_partWays_28 : decode cX1_partWays 28 = .ok (.goto (-19), 3) := dk_167 255 237 (dk_at dksX1_partWays_1 4 rfl rfl)
theorem dX1_partWays_31 : decode cX1_partWays 31 = .ok (.iconst 0, 1) := dk_3 (dk_at dksX1_partWays_1 7 rfl rfl)
theorem dX1_partWays_32 : decode cX1_partWays 32 = .ok (.istore 6, 2) := dk_54 6 (dk_at dksX1_partWays_1 8 rfl rfl)
theorem dX1_partWays_34 : decode cX1_partWays 34 = .ok (.iload 6, 2) := dk_21 6 (dk_at dksX1_partWays_1 10 rfl rfl)
theorem dX1_partWays_36 : decode cX1_partWays 36 = .ok (.iconst 3, 1) := dk_6 (dk_at dksX1_partWays_1 12 rfl rfl)
theorem dX1_partWays_37 : decode cX1_partWays 37 = .ok (.if_icmp .ge 156, 3) := dk_162 0 156 (dk_at dksX1_partWays_1 13 rfl rfl)
theorem dX1_partWays_40 : decode cX1_partWays 40 = .ok (.iload 6, 2) := dk_21 6 (dk_at dksX1_partWays_1 16 rfl rfl)
theorem dX1_partWays_42 : decode cX1_partWays 42 = .ok (.ifCond .ne 10, 3) := dk_154 0 10 (dk_at dksX1_partWays_1 18 rfl rfl)
theorem dX1_partWays_45 : decode cX1_partWays 45 = .ok (.iload_n 3, 1) := dk_29 (dk_at dksX1_partWays_1 21 rfl rfl)
theorem dX1_partWays_46 : decode cX1_partWays 46 = .ok (.bipush 36, 2) := dk_16 36 (dk_at dksX1_partWays_1 22 rfl rfl)
theorem dX1_partWays_48 : decode cX1_partWays 48 = .ok (.idiv, 1) := dk_108 (dk_at dksX1_partWays_2 0 rfl rfl)
theorem dX1_partWays_49 : decode cX1_partWays 49 = .ok (.goto 23, 3) := dk_167 0 23 (dk_at dksX1_partWays_2 1 rfl rfl)
theorem dX1_partWays_52 : decode cX1_partWays 52 = .ok (.iload 6, 2) := dk_21 6 (dk_at dksX1_partWays_2 4 rfl rfl)
theorem dX1_partWays_54 : decode cX1_partWays 54 = .ok (.iconst 1, 1) := dk_4 (dk_at dksX1_partWays_2 6 rfl rfl)
theorem dX1_partWays_55 : decode cX1_partWays 55 = .ok (.if_icmp .ne 13, 3) := dk_160 0 13 (dk_at dksX1_partWays_2 7 rfl rfl)
theorem dX1_partWays_58 : decode cX1_partWays 58 = .ok (.iload_n 3, 1) := dk_29 (dk_at dksX1_partWays_2 10 rfl rfl)
theorem dX1_partWays_59 : decode cX1_partWays 59 = .ok (.bipush 6, 2) := dk_16 6 (dk_at dksX1_partWays_2 11 rfl rfl)
theorem dX1_partWays_61 : decode cX1_partWays 61 = .ok (.idiv, 1) := dk_108 (dk_at dksX1_partWays_2 13 rfl rfl)
theorem dX1_partWays_62 : decode cX1_partWays 62 = .ok (.bipush 6, 2) := dk_16 6 (dk_at dksX1_partWays_2 14 rfl rfl)
theorem dX1_partWays_64 : decode cX1_partWays 64 = .ok (.irem, 1) := dk_112 (dk_at dksX1_partWays_2 16 rfl rfl)
theorem dX1_partWays_65 : decode cX1_partWays 65 = .ok (.goto 7, 3) := dk_167 0 7 (dk_at dksX1_partWays_2 17 rfl rfl)
theorem dX1_partWays_68 : decode cX1_partWays 68 = .ok (.iload_n 3, 1) := dk_29 (dk_at dksX1_partWays_2 20 rfl rfl)
theorem dX1_partWays_69 : decode cX1_partWays 69 = .ok (.bipush 6, 2) := dk_16 6 (dk_at dksX1_partWays_2 21 rfl rfl)
theorem dX1_partWays_71 : decode cX1_partWays 71 = .ok (.irem, 1) := dk_112 (dk_at dksX1_partWays_2 23 rfl rfl)
theorem dX1_partWays_72 : decode cX1_partWays 72 = .ok (.istore 7, 2) := dk_54 7 (dk_at dksX1_partWays_3 0 rfl rfl)
theorem dX1_partWays_74 : decode cX1_partWays 74 = .ok (.iload 4, 2) := dk_21 4 (dk_at dksX1_partWays_3 2 rfl rfl)
theorem dX1_partWays_76 : decode cX1_partWays 76 = .ok (.ifCond .ne 11, 3) := dk_154 0 11 (dk_at dksX1_partWays_3 4 rfl rfl)
theorem dX1_partWays_79 : decode cX1_partWays 79 = .ok (.iload 7, 2) := dk_21 7 (dk_at dksX1_partWays_3 7 rfl rfl)
theorem dX1_partWays_81 : decode cX1_partWays 81 = .ok (.ifCond .le 106, 3) := dk_158 0 106 (dk_at dksX1_partWays_3 9 rfl rfl)
theorem dX1_partWays_84 : decode cX1_partWays 84 = .ok (.ldc 217, 2) := dk_18 217 (dk_at dksX1_partWays_3 12 rfl rfl)
theorem dX1_partWays_86 : decode cX1_partWays 86 = .ok (.ireturn, 1) := dk_172 (dk_at dksX1_partWays_3 14 rfl rfl)
theorem dX1_partWays_87 : decode cX1_partWays 87 = .ok (.iconst 0, 1) := dk_3 (dk_at dksX1_partWays_3 15 rfl rfl)
theorem dX1_partWays_88 : decode cX1_partWays 88 = .ok (.istore 8, 2) := dk_54 8 (dk_at dksX1_partWays_3 16 rfl rfl)
theorem dX1_partWays_90 : decode cX1_partWays 90 = .ok (.iload 4, 2) := dk_21 4 (dk_at dksX1_partWays_3 18 rfl rfl)
theorem dX1_partWays_92 : decode cX1_partWays 92 = .ok (.iload 8, 2) := dk_21 8 (dk_at dksX1_partWays_3 20 rfl rfl)
theorem dX1_partWays_94 : decode cX1_partWays 94 = .ok (.ishr, 1) := dk_122 (dk_at dksX1_partWays_3 22 rfl rfl)
theorem dX1_partWays_95 : decode cX1_partWays 95 = .ok (.iconst 1, 1) := dk_4 (dk_at dksX1_partWays_3 23 rfl rfl)
theorem dX1_partWays_96 : decode cX1_partWays 96 = .ok (.iand, 1) := dk_126 (dk_at dksX1_partWays_4 0 rfl rfl)
theorem dX1_partWays_97 : decode cX1_partWays 97 = .ok (.ifCond .ne 9, 3) := dk_154 0 9 (dk_at dksX1_partWays_4 1 rfl rfl)
theorem dX1_partWays_100 : decode cX1_partWays 100 = .ok (.iinc 8 1, 3) := dk_132 8 1 (dk_at dksX1_partWays_4 4 rfl rfl)
theorem dX1_partWays_103 : decode cX1_partWays 103 = .ok (.goto (-13), 3) := dk_167 255 243 (dk_at dksX1_partWays_4 7 rfl rfl)
theorem dX1_partWays_106 : decode cX1_partWays 106 = .ok (.iload 7, 2) := dk_21 7 (dk_at dksX1_partWays_4 10 rfl rfl)
theorem dX1_partWays_108 : decode cX1_partWays 108 = .ok (.iload 8, 2) := dk_21 8 (dk_at dksX1_partWays_4 12 rfl rfl)
theorem dX1_partWays_110 : decode cX1_partWays 110 = .ok (.if_icmp .eq 13, 3) := dk_159 0 13 (dk_at dksX1_partWays_4 14 rfl rfl)
theorem dX1_partWays_113 : decode cX1_partWays 113 = .ok (.iload 4, 2) := dk_21 4 (dk_at dksX1_partWays_4 17 rfl rfl)
theorem dX1_partWays_115 : decode cX1_partWays 115 = .ok (.iload 7, 2) := dk_21 7 (dk_at dksX1_partWays_4 19 rfl rfl)
theorem dX1_partWays_117 : decode cX1_partWays 117 = .ok (.ishr, 1) := dk_122 (dk_at dksX1_partWays_4 21 rfl rfl)
theorem dX1_partWays_118 : decode cX1_partWays 118 = .ok (.iconst 1, 1) := dk_4 (dk_at dksX1_partWays_4 22 rfl rfl)
theorem dX1_partWays_119 : decode cX1_partWays 119 = .ok (.iand, 1) := dk_126 (dk_at dksX1_partWays_4 23 rfl rfl)
theorem dX1_partWays_120 : decode cX1_partWays 120 = .ok (.ifCond .ne 6, 3) := dk_154 0 6 (dk_at dksX1_partWays_5 0 rfl rfl)
theorem dX1_partWays_123 : decode cX1_partWays 123 = .ok (.ldc 217, 2) := dk_18 217 (dk_at dksX1_partWays_5 3 rfl rfl)
theorem dX1_partWays_125 : decode cX1_partWays 125 = .ok (.ireturn, 1) := dk_172 (dk_at dksX1_partWays_5 5 rfl rfl)
theorem dX1_partWays_126 : decode cX1_partWays 126 = .ok (.iload 4, 2) := dk_21 4 (dk_at dksX1_partWays_5 6 rfl rfl)
theorem dX1_partWays_128 : decode cX1_partWays 128 = .ok (.iconst 1, 1) := dk_4 (dk_at dksX1_partWays_5 8 rfl rfl)
theorem dX1_partWays_129 : decode cX1_partWays 129 = .ok (.iload 8, 2) := dk_21 8 (dk_at dksX1_partWays_5 9 rfl rfl)
theorem dX1_partWays_131 : decode cX1_partWays 131 = .ok (.ishl, 1) := dk_120 (dk_at dksX1_partWays_5 11 rfl rfl)
theorem dX1_partWays_132 : decode cX1_partWays 132 = .ok (.iconst 1, 1) := dk_4 (dk_at dksX1_partWays_5 12 rfl rfl)
theorem dX1_partWays_133 : decode cX1_partWays 133 = .ok (.iload 7, 2) := dk_21 7 (dk_at dksX1_partWays_5 13 rfl rfl)
theorem dX1_partWays_135 : decode cX1_partWays 135 = .ok (.ishl, 1) := dk_120 (dk_at dksX1_partWays_5 15 rfl rfl)
theorem dX1_partWays_136 : decode cX1_partWays 136 = .ok (.ior, 1) := dk_128 (dk_at dksX1_partWays_5 16 rfl rfl)
theorem dX1_partWays_137 : decode cX1_partWays 137 = .ok (.iconst (-1), 1) := dk_2 (dk_at dksX1_partWays_5 17 rfl rfl)
theorem dX1_partWays_138 : decode cX1_partWays 138 = .ok (.ixor, 1) := dk_130 (dk_at dksX1_partWays_5 18 rfl rfl)
theorem dX1_partWays_139 : decode cX1_partWays 139 = .ok (.iand, 1) := dk_126 (dk_at dksX1_partWays_5 19 rfl rfl)
theorem dX1_partWays_140 : decode cX1_partWays 140 = .ok (.istore 4, 2) := dk_54 4 (dk_at dksX1_partWays_5 20 rfl rfl)
theorem dX1_partWays_142 : decode cX1_partWays 142 = .ok (.aload_n 0, 1) := dk_42 (dk_at dksX1_partWays_5 22 rfl rfl)
theorem dX1_partWays_143 : decode cX1_partWays 143 = .ok (.getfield 136, 3) := dk_180 0 136 (dk_at dksX1_partWays_6 0 rfl rfl)
theorem dX1_partWays_146 : decode cX1_partWays 146 = .ok (.iload 8, 2) := dk_21 8 (dk_at dksX1_partWays_6 3 rfl rfl)
theorem dX1_partWays_148 : decode cX1_partWays 148 = .ok (.iload 7, 2) := dk_21 7 (dk_at dksX1_partWays_6 5 rfl rfl)
theorem dX1_partWays_150 : decode cX1_partWays 150 = .ok (.iastore, 1) := dk_79 (dk_at dksX1_partWays_6 7 rfl rfl)
theorem dX1_partWays_151 : decode cX1_partWays 151 = .ok (.aload_n 0, 1) := dk_42 (dk_at dksX1_partWays_6 8 rfl rfl)
theorem dX1_partWays_152 : decode cX1_partWays 152 = .ok (.getfield 136, 3) := dk_180 0 136 (dk_at dksX1_partWays_6 9 rfl rfl)
theorem dX1_partWays_155 : decode cX1_partWays 155 = .ok (.iload 7, 2) := dk_21 7 (dk_at dksX1_partWays_6 12 rfl rfl)
theorem dX1_partWays_157 : decode cX1_partWays 157 = .ok (.iload 8, 2) := dk_21 8 (dk_at dksX1_partWays_6 14 rfl rfl)
theorem dX1_partWays_159 : decode cX1_partWays 159 = .ok (.iastore, 1) := dk_79 (dk_at dksX1_partWays_6 16 rfl rfl)
theorem dX1_partWays_160 : decode cX1_partWays 160 = .ok (.aload_n 0, 1) := dk_42 (dk_at dksX1_partWays_6 17 rfl rfl)
theorem dX1_partWays_161 : decode cX1_partWays 161 = .ok (.iload_n 2, 1) := dk_28 (dk_at dksX1_partWays_6 18 rfl rfl)
theorem dX1_partWays_162 : decode cX1_partWays 162 = .ok (.iload 8, 2) := dk_21 8 (dk_at dksX1_partWays_6 19 rfl rfl)
theorem dX1_partWays_164 : decode cX1_partWays 164 = .ok (.iload 7, 2) := dk_21 7 (dk_at dksX1_partWays_6 21 rfl rfl)
theorem dX1_partWays_166 : decode cX1_partWays 166 = .ok (.invokevirtual 345, 3) := dk_182 1 89 (dk_at dksX1_partWays_7 0 rfl rfl)
theorem dX1_partWays_169 : decode cX1_partWays 169 = .ok (.istore 9, 2) := dk_54 9 (dk_at dksX1_partWays_7 3 rfl rfl)
theorem dX1_partWays_171 : decode cX1_partWays 171 = .ok (.iload 9, 2) := dk_21 9 (dk_at dksX1_partWays_7 5 rfl rfl)
theorem dX1_partWays_173 : decode cX1_partWays 173 = .ok (.iload 5, 2) := dk_21 5 (dk_at dksX1_partWays_7 7 rfl rfl)
theorem dX1_partWays_175 : decode cX1_partWays 175 = .ok (.if_icmp .le 8, 3) := dk_164 0 8 (dk_at dksX1_partWays_7 9 rfl rfl)
theorem dX1_partWays_178 : decode cX1_partWays 178 = .ok (.iload 9, 2) := dk_21 9 (dk_at dksX1_partWays_7 12 rfl rfl)
theorem dX1_partWays_180 : decode cX1_partWays 180 = .ok (.goto 5, 3) := dk_167 0 5 (dk_at dksX1_partWays_7 14 rfl rfl)
theorem dX1_partWays_183 : decode cX1_partWays 183 = .ok (.iload 5, 2) := dk_21 5 (dk_at dksX1_partWays_7 17 rfl rfl)
theorem dX1_partWays_185 : decode cX1_partWays 185 = .ok (.istore 5, 2) := dk_54 5 (dk_at dksX1_partWays_7 19 rfl rfl)
theorem dX1_partWays_187 : decode cX1_partWays 187 = .ok (.iinc 6 1, 3) := dk_132 6 1 (dk_at dksX1_partWays_7 21 rfl rfl)
theorem dX1_partWays_190 : decode cX1_partWays 190 = .ok (.goto (-156), 3) := dk_167 255 100 (dk_at dksX1_partWays_8 0 rfl rfl)
theorem dX1_partWays_193 : decode cX1_partWays 193 = .ok (.iload 5, 2) := dk_21 5 (dk_at dksX1_partWays_8 3 rfl rfl)
theorem dX1_partWays_195 : decode cX1_partWays 195 = .ok (.ireturn, 1) := dk_172 (dk_at dksX1_partWays_8 5 rfl rfl)
abbrev cX1_pairEnd : ByteArray := prog_8_method_80_code
def yX1_pairEnd : MethodName := ⟨RX1, "pairEnd", "(III)I"⟩
def dkwX1_pairEnd_1 : List UInt8 := [46, 182, 1, 83, 54, 4, 21, 4, 156, 0, 8, 18, 217, 167, 0, 7, 42, 180, 1, 77, 172]
abbrev dktX1_pairEnd_1 : List UInt8 := dkwX1_pairEnd_1 ++ []
def dkwX1_pairEnd_0 : List UInt8 := [42, 28, 29, 42, 180, 0, 20, 16, 40, 27, 104, 28, 96, 46, 42, 180, 0, 20, 16, 40, 27, 104, 29, 96]
abbrev dktX1_pairEnd_0 : List UInt8 := dkwX1_pairEnd_0 ++ dktX1_pairEnd_1
theorem dksX1_pairEnd_0 : cX1_pairEnd.data.toList.drop 0 = dktX1_pairEnd_0 := by decide +kernel
theorem dksX1_pairEnd_1 : cX1_pairEnd.data.toList.drop 24 = dktX1_pairEnd_1 := dk_seg dksX1_pairEnd_0 24 rfl rfl
theorem dX1_pairEnd_0 : decode cX1_pairEnd 0 = .ok (.aload_n 0, 1) := dk_42 (dk_at dksX1_pairEnd_0 0 rfl rfl)
theorem dX1_pairEnd_1 : decode cX1_pairEnd 1 = .ok (.iload_n 2, 1) := dk_28 (dk_at dksX1_pairEnd_0 1 rfl rfl)
theorem dX1_pairEnd_2 : decode cX1_pairEnd 2 = .ok (.iload_n 3, 1) := dk_29 (dk_at dksX1_pairEnd_0 2 rfl rfl)
theorem dX1_pairEnd_3 : decode cX1_pairEnd 3 = .ok (.aload_n 0, 1) := dk_42 (dk_at dksX1_pairEnd_0 3 rfl rfl)
theorem dX1_pairEnd_4 : decode cX1_pairEnd 4 = .ok (.getfield 20, 3) := dk_180 0 20 (dk_at dksX1_pairEnd_0 4 rfl rfl)
theorem dX1_pairEnd_7 : decode cX1_pairEnd 7 = .ok (.bipush 40, 2) := dk_16 40 (dk_at dksX1_pairEnd_0 7 rfl rfl)
theorem dX1_pairEnd_9 : decode cX1_pairEnd 9 = .ok (.iload_n 1, 1) := dk_27 (dk_at dksX1_pairEnd_0 9 rfl rfl)
theorem dX1_pairEnd_10 : decode cX1_pairEnd 10 = .ok (.imul, 1) := dk_104 (dk_at dksX1_pairEnd_0 10 rfl rfl)
theorem dX1_pairEnd_11 : decode cX1_pairEnd 11 = .ok (.iload_n 2, 1) := dk_28 (dk_at dksX1_pairEnd_0 11 rfl rfl)
theorem dX1_pairEnd_12 : decode cX1_pairEnd 12 = .ok (.iadd, 1) := dk_96 (dk_at dksX1_pairEnd_0 12 rfl rfl)
theorem dX1_pairEnd_13 : decode cX1_pairEnd 13 = .ok (.iaload, 1) := dk_46 (dk_at dksX1_pairEnd_0 13 rfl rfl)
theorem dX1_pairEnd_14 : decode cX1_pairEnd 14 = .ok (.aload_n 0, 1) := dk_42 (dk_at dksX1_pairEnd_0 14 rfl rfl)
theorem dX1_pairEnd_15 : decode cX1_pairEnd 15 = .ok (.getfield 20, 3) := dk_180 0 20 (dk_at dksX1_pairEnd_0 15 rfl rfl)
theorem dX1_pairEnd_18 : decode cX1_pairEnd 18 = .ok (.bipush 40, 2) := dk_16 40 (dk_at dksX1_pairEnd_0 18 rfl rfl)
theorem dX1_pairEnd_20 : decode cX1_pairEnd 20 = .ok (.iload_n 1, 1) := dk_27 (dk_at dksX1_pairEnd_0 20 rfl rfl)
theorem dX1_pairEnd_21 : decode cX1_pairEnd 21 = .ok (.imul, 1) := dk_104 (dk_at dksX1_pairEnd_0 21 rfl rfl)
theorem dX1_pairEnd_22 : decode cX1_pairEnd 22 = .ok (.iload_n 3, 1) := dk_29 (dk_at dksX1_pairEnd_0 22 rfl rfl)
theorem dX1_pairEnd_23 : decode cX1_pairEnd 23 = .ok (.iadd, 1) := dk_96 (dk_at dksX1_pairEnd_0 23 rfl rfl)
theorem dX1_pairEnd_24 : decode cX1_pairEnd 24 = .ok (.iaload, 1) := dk_46 (dk_at dksX1_pairEnd_1 0 rfl rfl)
theorem dX1_pairEnd_25 : decode cX1_pairEnd 25 = .ok (.invokevirtual 339, 3) := dk_182 1 83 (dk_at dksX1_pairEnd_1 1 rfl rfl)
theorem dX1_pairEnd_28 : decode cX1_pairEnd 28 = .ok (.istore 4, 2) := dk_54 4 (dk_at dksX1_pairEnd_1 4 rfl rfl)
theorem dX1_pairEnd_30 : decode cX1_pairEnd 30 = .ok (.iload 4, 2) := dk_21 4 (dk_at dksX1_pairEnd_1 6 rfl rfl)
theorem dX1_pairEnd_32 : decode cX1_pairEnd 32 = .ok (.ifCond .ge 8, 3) := dk_156 0 8 (dk_at dksX1_pairEnd_1 8 rfl rfl)
theorem dX1_pairEnd_35 : decode cX1_pairEnd 35 = .ok (.ldc 217, 2) := dk_18 217 (dk_at dksX1_pairEnd_1 11 rfl rfl)
theorem dX1_pairEnd_37 : decode cX1_pairEnd 37 = .ok (.goto 7, 3) := dk_167 0 7 (dk_at dksX1_pairEnd_1 13 rfl rfl)
theorem dX1_pairEnd_40 : decode cX1_pairEnd 40 = .ok (.aload_n 0, 1) := dk_42 (dk_at dksX1_pairEnd_1 16 rfl rfl)
theorem dX1_pairEnd_41 : decode cX1_pairEnd 41 = .ok (.getfield 333, 3) := dk_180 1 77 (dk_at dksX1_pairEnd_1 17 rfl rfl)
theorem dX1_pairEnd_44 : decode cX1_pairEnd 44 = .ok (.ireturn, 1) := dk_172 (dk_at dksX1_pairEnd_1 20 rfl rfl)
abbrev cX1_partner : ByteArray := prog_8_method_83_code
def yX1_partner : MethodName := ⟨RX1, "partner", "(I)I"⟩
def dkwX1_partner_0 : List UInt8 := [27, 184, 1, 2, 153, 0, 12, 42, 180, 0, 133, 27, 46, 167, 0, 4, 2, 172]
abbrev dktX1_partner_0 : List UInt8 := dkwX1_partner_0 ++ []
theorem dksX1_partner_0 : cX1_partner.data.toList.drop 0 = dktX1_partner_0 := by decide +kernel
theorem dX1_partner_0 : decode cX1_partner 0 = .ok (.iload_n 1, 1) := dk_27 (dk_at dksX1_partner_0 0 rfl rfl)
theorem dX1_partner_1 : decode cX1_partner 1 = .ok (.invokestatic 258, 3) := dk_184 1 2 (dk_at dksX1_partner_0 1 rfl rfl)
theorem dX1_partner_4 : decode cX1_partner 4 = .ok (.ifCond .eq 12, 3) := dk_153 0 12 (dk_at dksX1_partner_0 4 rfl rfl)
theorem dX1_partner_7 : decode cX1_partner 7 = .ok (.aload_n 0, 1) := dk_42 (dk_at dksX1_partner_0 7 rfl rfl)
theorem dX1_partner_8 : decode cX1_partner 8 = .ok (.getfield 133, 3) := dk_180 0 133 (dk_at dksX1_partner_0 8 rfl rfl)
theorem dX1_partner_11 : decode cX1_partner 11 = .ok (.iload_n 1, 1) := dk_27 (dk_at dksX1_partner_0 11 rfl rfl)
theorem dX1_partner_12 : decode cX1_partner 12 = .ok (.iaload, 1) := dk_46 (dk_at dksX1_partner_0 12 rfl rfl)
theorem dX1_partner_13 : decode cX1_partner 13 = .ok (.goto 4, 3) := dk_167 0 4 (dk_at dksX1_partner_0 13 rfl rfl)
theorem dX1_partner_16 : decode cX1_partner 16 = .ok (.iconst (-1), 1) := dk_2 (dk_at dksX1_partner_0 16 rfl rfl)
theorem dX1_partner_17 : decode cX1_partner 17 = .ok (.ireturn, 1) := dk_172 (dk_at dksX1_partner_0 17 rfl rfl)
abbrev cX1_late : ByteArray := prog_8_method_84_code
def yX1_late : MethodName := ⟨RX1, "late", "(IIIIII)I"⟩
def dkwX1_late_8 : List UInt8 := [167, 0, 11, 42, 22, 11, 136, 3, 182, 0, 246, 172]
abbrev dktX1_late_8 : List UInt8 := dkwX1_late_8 ++ []
def dkwX1_late_7 : List UInt8 := [46, 96, 16, 10, 108, 133, 55, 11, 22, 9, 22, 11, 148, 157, 0, 14, 42, 22, 9, 136, 4, 182, 0, 246]
abbrev dktX1_late_7 : List UInt8 := dkwX1_late_7 ++ dktX1_late_8
def dkwX1_late_6 : List UInt8 := [109, 55, 9, 42, 180, 0, 60, 42, 180, 0, 90, 27, 46, 46, 42, 180, 0, 60, 42, 180, 0, 90, 28, 46]
abbrev dktX1_late_6 : List UInt8 := dkwX1_late_6 ++ dktX1_late_7
def dkwX1_late_5 : List UInt8 := [167, 0, 4, 9, 55, 7, 22, 7, 42, 180, 0, 60, 42, 180, 0, 90, 28, 46, 46, 133, 105, 20, 1, 92]
abbrev dktX1_late_5 : List UInt8 := dkwX1_late_5 ++ dktX1_late_6
def dkwX1_late_4 : List UInt8 := [42, 4, 182, 0, 193, 172, 42, 180, 1, 64, 21, 6, 164, 0, 14, 42, 180, 1, 64, 21, 6, 100, 133]
abbrev dktX1_late_4 : List UInt8 := dkwX1_late_4 ++ dktX1_late_5
def dkwX1_late_3 : List UInt8 := [182, 1, 80, 154, 0, 6, 16, 252, 172, 42, 27, 28, 29, 29, 21, 4, 21, 5, 182, 1, 73, 154, 0, 9]
abbrev dktX1_late_3 : List UInt8 := dkwX1_late_3 ++ dktX1_late_4
def dkwX1_late_2 : List UInt8 := [21, 6, 3, 18, 206, 184, 0, 185, 154, 0, 5, 2, 172, 42, 27, 182, 1, 80, 153, 0, 11, 42, 28]
abbrev dktX1_late_2 : List UInt8 := dkwX1_late_2 ++ dktX1_late_3
def dkwX1_late_1 : List UInt8 := [153, 0, 34, 21, 4, 184, 0, 210, 153, 0, 26, 21, 5, 3, 17, 7, 208, 184, 0, 185, 153, 0, 14]
abbrev dktX1_late_1 : List UInt8 := dkwX1_late_1 ++ dktX1_late_2
def dkwX1_late_0 : List UInt8 := [27, 184, 1, 2, 153, 0, 53, 28, 184, 1, 2, 153, 0, 46, 27, 28, 159, 0, 41, 29, 184, 0, 210]
abbrev dktX1_late_0 : List UInt8 := dkwX1_late_0 ++ dktX1_late_1
theorem dksX1_late_0 : cX1_late.data.toList.drop 0 = dktX1_late_0 := by decide +kernel
theorem dksX1_late_1 : cX1_late.data.toList.drop 23 = dktX1_late_1 := dk_seg dksX1_late_0 23 rfl rfl
theorem dksX1_late_2 : cX1_late.data.toList.drop 46 = dktX1_late_2 := dk_seg dksX1_late_1 23 rfl rfl
theorem dksX1_late_3 : cX1_late.data.toList.drop 69 = dktX1_late_3 := dk_seg dksX1_late_2 23 rfl rfl
theorem dksX1_late_4 : cX1_late.data.toList.drop 93 = dktX1_late_4 := dk_seg dksX1_late_3 24 rfl rfl
theorem dksX1_late_5 : cX1_late.data.toList.drop 116 = dktX1_late_5 := dk_seg dksX1_late_4 23 rfl rfl
theorem dksX1_late_6 : cX1_late.data.toList.drop 140 = dktX1_late_6 := dk_seg dksX1_late_5 24 rfl rfl
theorem dksX1_late_7 : cX1_late.data.toList.drop 164 = dktX1_late_7 := dk_seg dksX1_late_6 24 rfl rfl
theorem dksX1_late_8 : cX1_late.data.toList.drop 188 = dktX1_late_8 := dk_seg dksX1_late_7 24 rfl rfl
theorem dX1_late_0 : decode cX1_late 0 = .ok (.iload_n 1, 1) := dk_27 (dk_at dksX1_late_0 0 rfl rfl)
theorem dX1_late_1 : decode cX1_late 1 = .ok (.invokestatic 258, 3) := dk_184 1 2 (dk_at dksX1_late_0 1 rfl rfl)
theorem dX1_late_4 : decode cX1_late 4 = .ok (.ifCond .eq 53, 3) := dk_153 0 53 (dk_at dksX1_late_0 4 rfl rfl)
theorem dX1_late_7 : decode cX1_late 7 = .ok (.iload_n 2, 1) := dk_28 (dk_at dksX1_late_0 7 rfl rfl)
theorem dX1_late_8 : decode cX1_late 8 = .ok (.invokestatic 258, 3) := dk_184 1 2 (dk_at dksX1_late_0 8 rfl rfl)
theorem dX1_late_11 : decode cX1_late 11 = .ok (.ifCond .eq 46, 3) := dk_153 0 46 (dk_at dksX1_late_0 11 rfl rfl)
theorem dX1_late_14 : decode cX1_late 14 = .ok (.iload_n 1, 1) := dk_27 (dk_at dksX1_late_0 14 rfl rfl)
theorem dX1_late_15 : decode cX1_late 15 = .ok (.iload_n 2, 1) := dk_28 (dk_at dksX1_late_0 15 rfl rfl)
theorem dX1_late_16 : decode cX1_late 16 = .ok (.if_icmp .eq 41, 3) := dk_159 0 41 (dk_at dksX1_late_0 16 rfl rfl)
theorem dX1_late_19 : decode cX1_late 19 = .ok (.iload_n 3, 1) := dk_29 (dk_at dksX1_late_0 19 rfl rfl)
theorem dX1_late_20 : decode cX1_late 20 = .ok (.invokestatic 210, 3) := dk_184 0 210 (dk_at dksX1_late_0 20 rfl rfl)
theorem dX1_late_23 : decode cX1_late 23 = .ok (.ifCond .eq 34, 3) := dk_153 0 34 (dk_at dksX1_late_1 0 rfl rfl)
theorem dX1_late_26 : decode cX1_late 26 = .ok (.iload 4, 2) := dk_21 4 (dk_at dksX1_late_1 3 rfl rfl)
theorem dX1_late_28 : decode cX1_late 28 = .ok (.invokestatic 210, 3) := dk_184 0 210 (dk_at dksX1_late_1 5 rfl rfl)
theorem dX1_late_31 : decode cX1_late 31 = .ok (.ifCond .eq 26, 3) := dk_153 0 26 (dk_at dksX1_late_1 8 rfl rfl)
theorem dX1_late_34 : decode cX1_late 34 = .ok (.iload 5, 2) := dk_21 5 (dk_at dksX1_late_1 11 rfl rfl)
theorem dX1_late_36 : decode cX1_late 36 = .ok (.iconst 0, 1) := dk_3 (dk_at dksX1_late_1 13 rfl rfl)
theorem dX1_late_37 : decode cX1_late 37 = .ok (.sipush 2000, 3) := dk_17 7 208 (dk_at dksX1_late_1 14 rfl rfl)
theorem dX1_late_40 : decode cX1_late 40 = .ok (.invokestatic 185, 3) := dk_184 0 185 (dk_at dksX1_late_1 17 rfl rfl)
theorem dX1_late_43 : decode cX1_late 43 = .ok (.ifCond .eq 14, 3) := dk_153 0 14 (dk_at dksX1_late_1 20 rfl rfl)
theorem dX1_late_46 : decode cX1_late 46 = .ok (.iload 6, 2) := dk_21 6 (dk_at dksX1_late_2 0 rfl rfl)
theorem dX1_late_48 : decode cX1_late 48 = .ok (.iconst 0, 1) := dk_3 (dk_at dksX1_late_2 2 rfl rfl)
theorem dX1_late_49 : decode cX1_late 49 = .ok (.ldc 206, 2) := dk_18 206 (dk_at dksX1_late_2 3 rfl rfl)
theorem dX1_late_51 : decode cX1_late 51 = .ok (.invokestatic 185, 3) := dk_184 0 185 (dk_at dksX1_late_2 5 rfl rfl)
theorem dX1_late_54 : decode cX1_late 54 = .ok (.ifCond .ne 5, 3) := dk_154 0 5 (dk_at dksX1_late_2 8 rfl rfl)
theorem dX1_late_57 : decode cX1_late 57 = .ok (.iconst (-1), 1) := dk_2 (dk_at dksX1_late_2 11 rfl rfl)
theorem dX1_late_58 : decode cX1_late 58 = .ok (.ireturn, 1) := dk_172 (dk_at dksX1_late_2 12 rfl rfl)
theorem dX1_late_59 : decode cX1_late 59 = .ok (.aload_n 0, 1) := dk_42 (dk_at dksX1_late_2 13 rfl rfl)
theorem dX1_late_60 : decode cX1_late 60 = .ok (.iload_n 1, 1) := dk_27 (dk_at dksX1_late_2 14 rfl rfl)
theorem dX1_late_61 : decode cX1_late 61 = .ok (.invokevirtual 336, 3) := dk_182 1 80 (dk_at dksX1_late_2 15 rfl rfl)
theorem dX1_late_64 : decode cX1_late 64 = .ok (.ifCond .eq 11, 3) := dk_153 0 11 (dk_at dksX1_late_2 18 rfl rfl)
theorem dX1_late_67 : decode cX1_late 67 = .ok (.aload_n 0, 1) := dk_42 (dk_at dksX1_late_2 21 rfl rfl)
theorem dX1_late_68 : decode cX1_late 68 = .ok (.iload_n 2, 1) := dk_28 (dk_at dksX1_late_2 22 rfl rfl)
theorem dX1_late_69 : decode cX1_late 69 = .ok (.invokevirtual 336, 3) := dk_182 1 80 (dk_at dksX1_late_3 0 rfl rfl)
theorem dX1_late_72 : decode cX1_late 72 = .ok (.ifCond .ne 6, 3) := dk_154 0 6 (dk_at dksX1_late_3 3 rfl rfl)
theorem dX1_late_75 : decode cX1_late 75 = .ok (.bipush (-4), 2) := dk_16 252 (dk_at dksX1_late_3 6 rfl rfl)
theorem dX1_late_77 : decode cX1_late 77 = .ok (.ireturn, 1) := dk_172 (dk_at dksX1_late_3 8 rfl rfl)
theorem dX1_late_78 : decode cX1_late 78 = .ok (.aload_n 0, 1) := dk_42 (dk_at dksX1_late_3 9 rfl rfl)
theorem dX1_late_79 : decode cX1_late 79 = .ok (.iload_n 1, 1) := dk_27 (dk_at dksX1_late_3 10 rfl rfl)
theorem dX1_late_80 : decode cX1_late 80 = .ok (.iload_n 2, 1) := dk_28 (dk_at dksX1_late_3 11 rfl rfl)
theorem dX1_late_81 : decode cX1_late 81 = .ok (.iload_n 3, 1) := dk_29 (dk_at dksX1_late_3 12 rfl rfl)
theorem dX1_late_82 : decode cX1_late 82 = .ok (.iload_n 3, 1) := dk_29 (dk_at dksX1_late_3 13 rfl rfl)
theorem dX1_late_83 : decode cX1_late 83 = .ok (.iload 4, 2) := dk_21 4 (dk_at dksX1_late_3 14 rfl rfl)
theorem dX1_late_85 : decode cX1_late 85 = .ok (.iload 5, 2) := dk_21 5 (dk_at dksX1_late_3 16 rfl rfl)
theorem dX1_late_87 : decode cX1_late 87 = .ok (.invokevirtual 329, 3) := dk_182 1 73 (dk_at dksX1_late_3 18 rfl rfl)
theorem dX1_late_90 : decode cX1_late 90 = .ok (.ifCond .ne 9, 3) := dk_154 0 9 (dk_at dksX1_late_3 21 rfl rfl)
theorem dX1_late_93 : decode cX1_late 93 = .ok (.aload_n 0, 1) := dk_42 (dk_at dksX1_late_4 0 rfl rfl)
theorem dX1_late_94 : decode cX1_late 94 = .ok (.iconst 1, 1) := dk_4 (dk_at dksX1_late_4 1 rfl rfl)
theorem dX1_late_95 : decode cX1_late 95 = .ok (.invokevirtual 193, 3) := dk_182 0 193 (dk_at dksX1_late_4 2 rfl rfl)
theorem dX1_late_98 : decode cX1_late 98 = .ok (.ireturn, 1) := dk_172 (dk_at dksX1_late_4 5 rfl rfl)
theorem dX1_late_99 : decode cX1_late 99 = .ok (.aload_n 0, 1) := dk_42 (dk_at dksX1_late_4 6 rfl rfl)
theorem dX1_late_100 : decode cX1_late 100 = .ok (.getfield 320, 3) := dk_180 1 64 (dk_at dksX1_late_4 7 rfl rfl)
theorem dX1_late_103 : decode cX1_late 103 = .ok (.iload 6, 2) := dk_21 6 (dk_at dksX1_late_4 10 rfl rfl)
theorem dX1_late_105 : decode cX1_late 105 = .ok (.if_icmp .le 14, 3) := dk_164 0 14 (dk_at dksX1_late_4 12 rfl rfl)
theorem dX1_late_108 : decode cX1_late 108 = .ok (.aload_n 0, 1) := dk_42 (dk_at dksX1_late_4 15 rfl rfl)
theorem dX1_late_109 : decode cX1_late 109 = .ok (.getfield 320, 3) := dk_180 1 64 (dk_at dksX1_late_4 16 rfl rfl)
theorem dX1_late_112 : decode cX1_late 112 = .ok (.iload 6, 2) := dk_21 6 (dk_at dksX1_late_4 19 rfl rfl)
theorem dX1_late_114 : decode cX1_late 114 = .ok (.isub, 1) := dk_100 (dk_at dksX1_late_4 21 rfl rfl)
theorem dX1_late_115 : decode cX1_late 115 = .ok (.i2l, 1) := dk_133 (dk_at dksX1_late_4 22 rfl rfl)
theorem dX1_late_116 : decode cX1_late 116 = .ok (.goto 4, 3) := dk_167 0 4 (dk_at dksX1_late_5 0 rfl rfl)
theorem dX1_late_119 : decode cX1_late 119 = .ok (.lconst 0, 1) := dk_9 (dk_at dksX1_late_5 3 rfl rfl)
theorem dX1_late_120 : decode cX1_late 120 = .ok (.lstore 7, 2) := dk_55 7 (dk_at dksX1_late_5 4 rfl rfl)
theorem dX1_late_122 : decode cX1_late 122 = .ok (.lload 7, 2) := dk_22 7 (dk_at dksX1_late_5 6 rfl rfl)
theorem dX1_late_124 : decode cX1_late 124 = .ok (.aload_n 0, 1) := dk_42 (dk_at dksX1_late_5 8 rfl rfl)
theorem dX1_late_125 : decode cX1_late 125 = .ok (.getfield 60, 3) := dk_180 0 60 (dk_at dksX1_late_5 9 rfl rfl)
theorem dX1_late_128 : decode cX1_late 128 = .ok (.aload_n 0, 1) := dk_42 (dk_at dksX1_late_5 12 rfl rfl)
theorem dX1_late_129 : decode cX1_late 129 = .ok (.getfield 90, 3) := dk_180 0 90 (dk_at dksX1_late_5 13 rfl rfl)
theorem dX1_late_132 : decode cX1_late 132 = .ok (.iload_n 2, 1) := dk_28 (dk_at dksX1_late_5 16 rfl rfl)
theorem dX1_late_133 : decode cX1_late 133 = .ok (.iaload, 1) := dk_46 (dk_at dksX1_late_5 17 rfl rfl)
theorem dX1_late_134 : decode cX1_late 134 = .ok (.iaload, 1) := dk_46 (dk_at dksX1_late_5 18 rfl rfl)
theorem dX1_late_135 : decode cX1_late 135 = .ok (.i2l, 1) := dk_133 (dk_at dksX1_late_5 19 rfl rfl)
theorem dX1_late_136 : decode cX1_late 136 = .ok (.lmul, 1) := dk_105 (dk_at dksX1_late_5 20 rfl rfl)
theorem dX1_late_137 : decode cX1_late 137 = .ok (.ldc2_w 348, 3) := dk_20 1 92 (dk_at dksX1_late_5 21 rfl rfl)
theorem dX1_late_140 : decode cX1_late 140 = .ok (.ldiv, 1) := dk_109 (dk_at dksX1_late_6 0 rfl rfl)
theorem dX1_late_141 : decode cX1_late 141 = .ok (.lstore 9, 2) := dk_55 9 (dk_at dksX1_late_6 1 rfl rfl)
theorem dX1_late_143 : decode cX1_late 143 = .ok (.aload_n 0, 1) := dk_42 (dk_at dksX1_late_6 3 rfl rfl)
theorem dX1_late_144 : decode cX1_late 144 = .ok (.getfield 60, 3) := dk_180 0 60 (dk_at dksX1_late_6 4 rfl rfl)
theorem dX1_late_147 : decode cX1_late 147 = .ok (.aload_n 0, 1) := dk_42 (dk_at dksX1_late_6 7 rfl rfl)
theorem dX1_late_148 : decode cX1_late 148 = .ok (.getfield 90, 3) := dk_180 0 90 (dk_at dksX1_late_6 8 rfl rfl)
theorem dX1_late_151 : decode cX1_late 151 = .ok (.iload_n 1, 1) := dk_27 (dk_at dksX1_late_6 11 rfl rfl)
theorem dX1_late_152 : decode cX1_late 152 = .ok (.iaload, 1) := dk_46 (dk_at dksX1_late_6 12 rfl rfl)
theorem dX1_late_153 : decode cX1_late 153 = .ok (.iaload, 1) := dk_46 (dk_at dksX1_late_6 13 rfl rfl)
theorem dX1_late_154 : decode cX1_late 154 = .ok (.aload_n 0, 1) := dk_42 (dk_at dksX1_late_6 14 rfl rfl)
theorem dX1_late_155 : decode cX1_late 155 = .ok (.getfield 60, 3) := dk_180 0 60 (dk_at dksX1_late_6 15 rfl rfl)
theorem dX1_late_158 : decode cX1_late 158 = .ok (.aload_n 0, 1) := dk_42 (dk_at dksX1_late_6 18 rfl rfl)
theorem dX1_late_159 : decode cX1_late 159 = .ok (.getfield 90, 3) := dk_180 0 90 (dk_at dksX1_late_6 19 rfl rfl)
theorem dX1_late_162 : decode cX1_late 162 = .ok (.iload_n 2, 1) := dk_28 (dk_at dksX1_late_6 22 rfl rfl)
theorem dX1_late_163 : decode cX1_late 163 = .ok (.iaload, 1) := dk_46 (dk_at dksX1_late_6 23 rfl rfl)
theorem dX1_late_164 : decode cX1_late 164 = .ok (.iaload, 1) := dk_46 (dk_at dksX1_late_7 0 rfl rfl)
theorem dX1_late_165 : decode cX1_late 165 = .ok (.iadd, 1) := dk_96 (dk_at dksX1_late_7 1 rfl rfl)
theorem dX1_late_166 : decode cX1_late 166 = .ok (.bipush 10, 2) := dk_16 10 (dk_at dksX1_late_7 2 rfl rfl)
theorem dX1_late_168 : decode cX1_late 168 = .ok (.idiv, 1) := dk_108 (dk_at dksX1_late_7 4 rfl rfl)
theorem dX1_late_169 : decode cX1_late 169 = .ok (.i2l, 1) := dk_133 (dk_at dksX1_late_7 5 rfl rfl)
theorem dX1_late_170 : decode cX1_late 170 = .ok (.lstore 11, 2) := dk_55 11 (dk_at dksX1_late_7 6 rfl rfl)
theorem dX1_late_172 : decode cX1_late 172 = .ok (.lload 9, 2) := dk_22 9 (dk_at dksX1_late_7 8 rfl rfl)
theorem dX1_late_174 : decode cX1_late 174 = .ok (.lload 11, 2) := dk_22 11 (dk_at dksX1_late_7 10 rfl rfl)
theorem dX1_late_176 : decode cX1_late 176 = .ok (.lcmp, 1) := dk_148 (dk_at dksX1_late_7 12 rfl rfl)
theorem dX1_late_177 : decode cX1_late 177 = .ok (.ifCond .gt 14, 3) := dk_157 0 14 (dk_at dksX1_late_7 13 rfl rfl)
theorem dX1_late_180 : decode cX1_late 180 = .ok (.aload_n 0, 1) := dk_42 (dk_at dksX1_late_7 16 rfl rfl)
theorem dX1_late_181 : decode cX1_late 181 = .ok (.lload 9, 2) := dk_22 9 (dk_at dksX1_late_7 17 rfl rfl)
theorem dX1_late_183 : decode cX1_late 183 = .ok (.l2i, 1) := dk_136 (dk_at dksX1_late_7 19 rfl rfl)
theorem dX1_late_184 : decode cX1_late 184 = .ok (.iconst 1, 1) := dk_4 (dk_at dksX1_late_7 20 rfl rfl)
theorem dX1_late_185 : decode cX1_late 185 = .ok (.invokevirtual 246, 3) := dk_182 0 246 (dk_at dksX1_late_7 21 rfl rfl)
theorem dX1_late_188 : decode cX1_late 188 = .ok (.goto 11, 3) := dk_167 0 11 (dk_at dksX1_late_8 0 rfl rfl)
theorem dX1_late_191 : decode cX1_late 191 = .ok (.aload_n 0, 1) := dk_42 (dk_at dksX1_late_8 3 rfl rfl)
theorem dX1_late_192 : decode cX1_late 192 = .ok (.lload 11, 2) := dk_22 11 (dk_at dksX1_late_8 4 rfl rfl)
theorem dX1_late_194 : decode cX1_late 194 = .ok (.l2i, 1) := dk_136 (dk_at dksX1_late_8 6 rfl rfl)
theorem dX1_late_195 : decode cX1_late 195 = .ok (.iconst 0, 1) := dk_3 (dk_at dksX1_late_8 7 rfl rfl)
theorem dX1_late_196 : decode cX1_late 196 = .ok (.invokevirtual 246, 3) := dk_182 0 246 (dk_at dksX1_late_8 8 rfl rfl)
theorem dX1_late_199 : decode cX1_late 199 = .ok (.ireturn, 1) := dk_172 (dk_at dksX1_late_8 11 rfl rfl)
abbrev cX1_canBe : ByteArray := prog_8_method_86_code
def yX1_canBe : MethodName := ⟨RX1, "canBe", "(I)I"⟩
def dkwX1_canBe_1 : List UInt8 := [182, 1, 94, 167, 0, 5, 16, 252, 172]
abbrev dktX1_canBe_1 : List UInt8 := dkwX1_canBe_1 ++ []
def dkwX1_canBe_0 : List UInt8 := [42, 27, 182, 0, 240, 154, 0, 7, 2, 167, 0, 22, 42, 180, 0, 56, 27, 51, 153, 0, 11, 42, 27]
abbrev dktX1_canBe_0 : List UInt8 := dkwX1_canBe_0 ++ dktX1_canBe_1
theorem dksX1_canBe_0 : cX1_canBe.data.toList.drop 0 = dktX1_canBe_0 := by decide +kernel
theorem dksX1_canBe_1 : cX1_canBe.data.toList.drop 23 = dktX1_canBe_1 := dk_seg dksX1_canBe_0 23 rfl rfl
theorem dX1_canBe_0 : decode cX1_canBe 0 = .ok (.aload_n 0, 1) := dk_42 (dk_at dksX1_canBe_0 0 rfl rfl)
theorem dX1_canBe_1 : decode cX1_canBe 1 = .ok (.iload_n 1, 1) := dk_27 (dk_at dksX1_canBe_0 1 rfl rfl)
theorem dX1_canBe_2 : decode cX1_canBe 2 = .ok (.invokevirtual 240, 3) := dk_182 0 240 (dk_at dksX1_canBe_0 2 rfl rfl)
theorem dX1_canBe_5 : decode cX1_canBe 5 = .ok (.ifCond .ne 7, 3) := dk_154 0 7 (dk_at dksX1_canBe_0 5 rfl rfl)
theorem dX1_canBe_8 : decode cX1_canBe 8 = .ok (.iconst (-1), 1) := dk_2 (dk_at dksX1_canBe_0 8 rfl rfl)
theorem dX1_canBe_9 : decode cX1_canBe 9 = .ok (.goto 22, 3) := dk_167 0 22 (dk_at dksX1_canBe_0 9 rfl rfl)
theorem dX1_canBe_12 : decode cX1_canBe 12 = .ok (.aload_n 0, 1) := dk_42 (dk_at dksX1_canBe_0 12 rfl rfl)
theorem dX1_canBe_13 : decode cX1_canBe 13 = .ok (.getfield 56, 3) := dk_180 0 56 (dk_at dksX1_canBe_0 13 rfl rfl)
theorem dX1_canBe_16 : decode cX1_canBe 16 = .ok (.iload_n 1, 1) := dk_27 (dk_at dksX1_canBe_0 16 rfl rfl)
theorem dX1_canBe_17 : decode cX1_canBe 17 = .ok (.baload, 1) := dk_51 (dk_at dksX1_canBe_0 17 rfl rfl)
theorem dX1_canBe_18 : decode cX1_canBe 18 = .ok (.ifCond .eq 11, 3) := dk_153 0 11 (dk_at dksX1_canBe_0 18 rfl rfl)
theorem dX1_canBe_21 : decode cX1_canBe 21 = .ok (.aload_n 0, 1) := dk_42 (dk_at dksX1_canBe_0 21 rfl rfl)
theorem dX1_canBe_22 : decode cX1_canBe 22 = .ok (.iload_n 1, 1) := dk_27 (dk_at dksX1_canBe_0 22 rfl rfl)
theorem dX1_canBe_23 : decode cX1_canBe 23 = .ok (.invokevirtual 350, 3) := dk_182 1 94 (dk_at dksX1_canBe_1 0 rfl rfl)
theorem dX1_canBe_26 : decode cX1_canBe 26 = .ok (.goto 5, 3) := dk_167 0 5 (dk_at dksX1_canBe_1 3 rfl rfl)
theorem dX1_canBe_29 : decode cX1_canBe 29 = .ok (.bipush (-4), 2) := dk_16 252 (dk_at dksX1_canBe_1 6 rfl rfl)
theorem dX1_canBe_31 : decode cX1_canBe 31 = .ok (.ireturn, 1) := dk_172 (dk_at dksX1_canBe_1 8 rfl rfl)
abbrev cX1_yardsOf : ByteArray := prog_8_method_85_code
def yX1_yardsOf : MethodName := ⟨RX1, "yardsOf", "(I)I"⟩
def dkwX1_yardsOf_4 : List UInt8 := [132, 4, 1, 167, 255, 210, 29, 172]
abbrev dktX1_yardsOf_4 : List UInt8 := dkwX1_yardsOf_4 ++ []
def dkwX1_yardsOf_3 : List UInt8 := [21, 4, 182, 0, 222, 42, 180, 0, 207, 163, 0, 10, 4, 21, 4, 120, 167, 0, 4, 3, 128, 62]
abbrev dktX1_yardsOf_3 : List UInt8 := dkwX1_yardsOf_3 ++ dktX1_yardsOf_4
def dkwX1_yardsOf_2 : List UInt8 := [54, 4, 21, 4, 16, 8, 162, 0, 45, 29, 42, 42, 180, 0, 111, 28, 46, 42, 180, 0, 105, 28, 46]
abbrev dktX1_yardsOf_2 : List UInt8 := dkwX1_yardsOf_2 ++ dktX1_yardsOf_3
def dkwX1_yardsOf_1 : List UInt8 := [180, 0, 102, 29, 46, 5, 162, 0, 7, 29, 167, 0, 4, 28, 61, 132, 3, 1, 167, 255, 219, 3, 62, 3]
abbrev dktX1_yardsOf_1 : List UInt8 := dkwX1_yardsOf_1 ++ dktX1_yardsOf_2
def dkwX1_yardsOf_0 : List UInt8 := [16, 247, 61, 3, 62, 29, 42, 180, 0, 226, 162, 0, 35, 42, 180, 0, 99, 29, 46, 27, 160, 0, 17, 42]
abbrev dktX1_yardsOf_0 : List UInt8 := dkwX1_yardsOf_0 ++ dktX1_yardsOf_1
theorem dksX1_yardsOf_0 : cX1_yardsOf.data.toList.drop 0 = dktX1_yardsOf_0 := by decide +kernel
theorem dksX1_yardsOf_1 : cX1_yardsOf.data.toList.drop 24 = dktX1_yardsOf_1 := dk_seg dksX1_yardsOf_0 24 rfl rfl
theorem dksX1_yardsOf_2 : cX1_yardsOf.data.toList.drop 48 = dktX1_yardsOf_2 := dk_seg dksX1_yardsOf_1 24 rfl rfl
theorem dksX1_yardsOf_3 : cX1_yardsOf.data.toList.drop 71 = dktX1_yardsOf_3 := dk_seg dksX1_yardsOf_2 23 rfl rfl
theorem dksX1_yardsOf_4 : cX1_yardsOf.data.toList.drop 93 = dktX1_yardsOf_4 := dk_seg dksX1_yardsOf_3 22 rfl rfl
theorem dX1_yardsOf_0 : decode cX1_yardsOf 0 = .ok (.bipush (-9), 2) := dk_16 247 (dk_at dksX1_yardsOf_0 0 rfl rfl)
theorem dX1_yardsOf_2 : decode cX1_yardsOf 2 = .ok (.istore_n 2, 1) := dk_61 (dk_at dksX1_yardsOf_0 2 rfl rfl)
theorem dX1_yardsOf_3 : decode cX1_yardsOf 3 = .ok (.iconst 0, 1) := dk_3 (dk_at dksX1_yardsOf_0 3 rfl rfl)
theorem dX1_yardsOf_4 : decode cX1_yardsOf 4 = .ok (.istore_n 3, 1) := dk_62 (dk_at dksX1_yardsOf_0 4 rfl rfl)
theorem dX1_yardsOf_5 : decode cX1_yardsOf 5 = .ok (.iload_n 3, 1) := dk_29 (dk_at dksX1_yardsOf_0 5 rfl rfl)
theorem dX1_yardsOf_6 : decode cX1_yardsOf 6 = .ok (.aload_n 0, 1) := dk_42 (dk_at dksX1_yardsOf_0 6 rfl rfl)
theorem dX1_yardsOf_7 : decode cX1_yardsOf 7 = .ok (.getfield 226, 3) := dk_180 0 226 (dk_at dksX1_yardsOf_0 7 rfl rfl)
theorem dX1_yardsOf_10 : decode cX1_yardsOf 10 = .ok (.if_icmp .ge 35, 3) := dk_162 0 35 (dk_at dksX1_yardsOf_0 10 rfl rfl)
theorem dX1_yardsOf_13 : decode cX1_yardsOf 13 = .ok (.aload_n 0, 1) := dk_42 (dk_at dksX1_yardsOf_0 13 rfl rfl)
theorem dX1_yardsOf_14 : decode cX1_yardsOf 14 = .ok (.getfield 99, 3) := dk_180 0 99 (dk_at dksX1_yardsOf_0 14 rfl rfl)
theorem dX1_yardsOf_17 : decode cX1_yardsOf 17 = .ok (.iload_n 3, 1) := dk_29 (dk_at dksX1_yardsOf_0 17 rfl rfl)
theorem dX1_yardsOf_18 : decode cX1_yardsOf 18 = .ok (.iaload, 1) := dk_46 (dk_at dksX1_yardsOf_0 18 rfl rfl)
theorem dX1_yardsOf_19 : decode cX1_yardsOf 19 = .ok (.iload_n 1, 1) := dk_27 (dk_at dksX1_yardsOf_0 19 rfl rfl)
theorem dX1_yardsOf_20 : decode cX1_yardsOf 20 = .ok (.if_icmp .ne 17, 3) := dk_160 0 17 (dk_at dksX1_yardsOf_0 20 rfl rfl)
theorem dX1_yardsOf_23 : decode cX1_yardsOf 23 = .ok (.aload_n 0, 1) := dk_42 (dk_at dksX1_yardsOf_0 23 rfl rfl)
theorem dX1_yardsOf_24 : decode cX1_yardsOf 24 = .ok (.getfield 102, 3) := dk_180 0 102 (dk_at dksX1_yardsOf_1 0 rfl rfl)
theorem dX1_yardsOf_27 : decode cX1_yardsOf 27 = .ok (.iload_n 3, 1) := dk_29 (dk_at dksX1_yardsOf_1 3 rfl rfl)
theorem dX1_yardsOf_28 : decode cX1_yardsOf 28 = .ok (.iaload, 1) := dk_46 (dk_at dksX1_yardsOf_1 4 rfl rfl)
theorem dX1_yardsOf_29 : decode cX1_yardsOf 29 = .ok (.iconst 2, 1) := dk_5 (dk_at dksX1_yardsOf_1 5 rfl rfl)
theorem dX1_yardsOf_30 : decode cX1_yardsOf 30 = .ok (.if_icmp .ge 7, 3) := dk_162 0 7 (dk_at dksX1_yardsOf_1 6 rfl rfl)
theorem dX1_yardsOf_33 : decode cX1_yardsOf 33 = .ok (.iload_n 3, 1) := dk_29 (dk_at dksX1_yardsOf_1 9 rfl rfl)
theorem dX1_yardsOf_34 : decode cX1_yardsOf 34 = .ok (.goto 4, 3) := dk_167 0 4 (dk_at dksX1_yardsOf_1 10 rfl rfl)
theorem dX1_yardsOf_37 : decode cX1_yardsOf 37 = .ok (.iload_n 2, 1) := dk_28 (dk_at dksX1_yardsOf_1 13 rfl rfl)
theorem dX1_yardsOf_38 : decode cX1_yardsOf 38 = .ok (.istore_n 2, 1) := dk_61 (dk_at dksX1_yardsOf_1 14 rfl rfl)
theorem dX1_yardsOf_39 : decode cX1_yardsOf 39 = .ok (.iinc 3 1, 3) := dk_132 3 1 (dk_at dksX1_yardsOf_1 15 rfl rfl)
theorem dX1_yardsOf_42 : decode cX1_yardsOf 42 = .ok (.goto (-37), 3) := dk_167 255 219 (dk_at dksX1_yardsOf_1 18 rfl rfl)
theorem dX1_yardsOf_45 : decode cX1_yardsOf 45 = .ok (.iconst 0, 1) := dk_3 (dk_at dksX1_yardsOf_1 21 rfl rfl)
theorem dX1_yardsOf_46 : decode cX1_yardsOf 46 = .ok (.istore_n 3, 1) := dk_62 (dk_at dksX1_yardsOf_1 22 rfl rfl)
theorem dX1_yardsOf_47 : decode cX1_yardsOf 47 = .ok (.iconst 0, 1) := dk_3 (dk_at dksX1_yardsOf_1 23 rfl rfl)
theorem dX1_yardsOf_48 : decode cX1_yardsOf 48 = .ok (.istore 4, 2) := dk_54 4 (dk_at dksX1_yardsOf_2 0 rfl rfl)
theorem dX1_yardsOf_50 : decode cX1_yardsOf 50 = .ok (.iload 4, 2) := dk_21 4 (dk_at dksX1_yardsOf_2 2 rfl rfl)
theorem dX1_yardsOf_52 : decode cX1_yardsOf 52 = .ok (.bipush 8, 2) := dk_16 8 (dk_at dksX1_yardsOf_2 4 rfl rfl)
theorem dX1_yardsOf_54 : decode cX1_yardsOf 54 = .ok (.if_icmp .ge 45, 3) := dk_162 0 45 (dk_at dksX1_yardsOf_2 6 rfl rfl)
theorem dX1_yardsOf_57 : decode cX1_yardsOf 57 = .ok (.iload_n 3, 1) := dk_29 (dk_at dksX1_yardsOf_2 9 rfl rfl)
theorem dX1_yardsOf_58 : decode cX1_yardsOf 58 = .ok (.aload_n 0, 1) := dk_42 (dk_at dksX1_yardsOf_2 10 rfl rfl)
theorem dX1_yardsOf_59 : decode cX1_yardsOf 59 = .ok (.aload_n 0, 1) := dk_42 (dk_at dksX1_yardsOf_2 11 rfl rfl)
theorem dX1_yardsOf_60 : decode cX1_yardsOf 60 = .ok (.getfield 111, 3) := dk_180 0 111 (dk_at dksX1_yardsOf_2 12 rfl rfl)
theorem dX1_yardsOf_63 : decode cX1_yardsOf 63 = .ok (.iload_n 2, 1) := dk_28 (dk_at dksX1_yardsOf_2 15 rfl rfl)
theorem dX1_yardsOf_64 : decode cX1_yardsOf 64 = .ok (.iaload, 1) := dk_46 (dk_at dksX1_yardsOf_2 16 rfl rfl)
theorem dX1_yardsOf_65 : decode cX1_yardsOf 65 = .ok (.aload_n 0, 1) := dk_42 (dk_at dksX1_yardsOf_2 17 rfl rfl)
theorem dX1_yardsOf_66 : decode cX1_yardsOf 66 = .ok (.getfield 105, 3) := dk_180 0 105 (dk_at dksX1_yardsOf_2 18 rfl rfl)
theorem dX1_yardsOf_69 : decode cX1_yardsOf 69 = .ok (.iload_n 2, 1) := dk_28 (dk_at dksX1_yardsOf_2 21 rfl rfl)
theorem dX1_yardsOf_70 : decode cX1_yardsOf 70 = .ok (.iaload, 1) := dk_46 (dk_at dksX1_yardsOf_2 22 rfl rfl)
theorem dX1_yardsOf_71 : decode cX1_yardsOf 71 = .ok (.iload 4, 2) := dk_21 4 (dk_at dksX1_yardsOf_3 0 rfl rfl)
theorem dX1_yardsOf_73 : decode cX1_yardsOf 73 = .ok (.invokevirtual 222, 3) := dk_182 0 222 (dk_at dksX1_yardsOf_3 2 rfl rfl)
theorem dX1_yardsOf_76 : decode cX1_yardsOf 76 = .ok (.aload_n 0, 1) := dk_42 (dk_at dksX1_yardsOf_3 5 rfl rfl)
theorem dX1_yardsOf_77 : decode cX1_yardsOf 77 = .ok (.getfield 207, 3) := dk_180 0 207 (dk_at dksX1_yardsOf_3 6 rfl rfl)
theorem dX1_yardsOf_80 : decode cX1_yardsOf 80 = .ok (.if_icmp .gt 10, 3) := dk_163 0 10 (dk_at dksX1_yardsOf_3 9 rfl rfl)
theorem dX1_yardsOf_83 : decode cX1_yardsOf 83 = .ok (.iconst 1, 1) := dk_4 (dk_at dksX1_yardsOf_3 12 rfl rfl)
theorem dX1_yardsOf_84 : decode cX1_yardsOf 84 = .ok (.iload 4, 2) := dk_21 4 (dk_at dksX1_yardsOf_3 13 rfl rfl)
theorem dX1_yardsOf_86 : decode cX1_yardsOf 86 = .ok (.ishl, 1) := dk_120 (dk_at dksX1_yardsOf_3 15 rfl rfl)
theorem dX1_yardsOf_87 : decode cX1_yardsOf 87 = .ok (.goto 4, 3) := dk_167 0 4 (dk_at dksX1_yardsOf_3 16 rfl rfl)
theorem dX1_yardsOf_90 : decode cX1_yardsOf 90 = .ok (.iconst 0, 1) := dk_3 (dk_at dksX1_yardsOf_3 19 rfl rfl)
theorem dX1_yardsOf_91 : decode cX1_yardsOf 91 = .ok (.ior, 1) := dk_128 (dk_at dksX1_yardsOf_3 20 rfl rfl)
theorem dX1_yardsOf_92 : decode cX1_yardsOf 92 = .ok (.istore_n 3, 1) := dk_62 (dk_at dksX1_yardsOf_3 21 rfl rfl)
theorem dX1_yardsOf_93 : decode cX1_yardsOf 93 = .ok (.iinc 4 1, 3) := dk_132 4 1 (dk_at dksX1_yardsOf_4 0 rfl rfl)
theorem dX1_yardsOf_96 : decode cX1_yardsOf 96 = .ok (.goto (-46), 3) := dk_167 255 210 (dk_at dksX1_yardsOf_4 3 rfl rfl)
theorem dX1_yardsOf_99 : decode cX1_yardsOf 99 = .ok (.iload_n 3, 1) := dk_29 (dk_at dksX1_yardsOf_4 6 rfl rfl)
theorem dX1_yardsOf_100 : decode cX1_yardsOf 100 = .ok (.ireturn, 1) := dk_172 (dk_at dksX1_yardsOf_4 7 rfl rfl)
abbrev cX1_look : ByteArray := prog_8_method_88_code
def yX1_look : MethodName := ⟨RX1, "look", "(III)I"⟩
def dkwX1_look_18 : List UInt8 := [167, 255, 103, 42, 21, 6, 181, 1, 103, 42, 42, 180, 1, 97, 21, 6, 182, 0, 246, 172]
abbrev dktX1_look_18 : List UInt8 := dkwX1_look_18 ++ []
def dkwX1_look_17 : List UInt8 := [180, 0, 148, 21, 12, 46, 46, 79, 132, 12, 1, 167, 255, 227, 42, 21, 6, 182, 1, 100, 54, 8]
abbrev dktX1_look_17 : List UInt8 := dkwX1_look_17 ++ dktX1_look_18
def dkwX1_look_16 : List UInt8 := [181, 1, 97, 3, 54, 12, 21, 12, 21, 6, 162, 0, 28, 42, 180, 0, 142, 21, 12, 42, 180, 0, 145, 42]
abbrev dktX1_look_16 : List UInt8 := dkwX1_look_16 ++ dktX1_look_17
def dkwX1_look_15 : List UInt8 := [167, 255, 191, 42, 180, 1, 97, 155, 0, 12, 21, 9, 42, 180, 1, 97, 162, 0, 44, 42, 21, 9]
abbrev dktX1_look_15 : List UInt8 := dkwX1_look_15 ++ dktX1_look_16
def dkwX1_look_14 : List UInt8 := [16, 40, 29, 104, 21, 13, 96, 46, 21, 11, 42, 180, 0, 207, 100, 104, 96, 54, 9, 132, 12, 1]
abbrev dktX1_look_14 : List UInt8 := dkwX1_look_14 ++ dktX1_look_15
def dkwX1_look_13 : List UInt8 := [54, 13, 42, 21, 10, 21, 11, 21, 13, 182, 0, 222, 54, 11, 21, 13, 54, 10, 21, 9, 42, 180, 0, 20]
abbrev dktX1_look_13 : List UInt8 := dkwX1_look_13 ++ dktX1_look_14
def dkwX1_look_12 : List UInt8 := [54, 11, 3, 54, 12, 21, 12, 21, 6, 162, 0, 64, 42, 180, 0, 145, 42, 180, 0, 148, 21, 12, 46, 46]
abbrev dktX1_look_12 : List UInt8 := dkwX1_look_12 ++ dktX1_look_13
def dkwX1_look_11 : List UInt8 := [16, 247, 181, 1, 97, 4, 54, 8, 21, 8, 153, 0, 154, 3, 54, 9, 28, 54, 10, 42, 180, 0, 207]
abbrev dktX1_look_11 : List UInt8 := dkwX1_look_11 ++ dktX1_look_12
def dkwX1_look_10 : List UInt8 := [21, 8, 21, 6, 162, 0, 18, 42, 180, 0, 148, 21, 8, 21, 8, 79, 132, 8, 1, 167, 255, 237, 42]
abbrev dktX1_look_10 : List UInt8 := dkwX1_look_10 ++ dktX1_look_11
def dkwX1_look_9 : List UInt8 := [21, 6, 16, 6, 164, 0, 6, 16, 254, 172, 21, 7, 154, 0, 9, 42, 4, 182, 0, 193, 172, 3, 54, 8]
abbrev dktX1_look_9 : List UInt8 := dkwX1_look_9 ++ dktX1_look_10
def dkwX1_look_8 : List UInt8 := [167, 0, 4, 3, 54, 7, 132, 8, 1, 167, 255, 146, 21, 5, 154, 0, 9, 42, 6, 182, 0, 193, 172]
abbrev dktX1_look_8 : List UInt8 := dkwX1_look_8 ++ dktX1_look_9
def dkwX1_look_7 : List UInt8 := [21, 7, 153, 0, 23, 42, 28, 42, 180, 0, 207, 21, 8, 182, 0, 222, 18, 217, 162, 0, 7, 4]
abbrev dktX1_look_7 : List UInt8 := dkwX1_look_7 ++ dktX1_look_8
def dkwX1_look_6 : List UInt8 := [126, 4, 160, 0, 50, 21, 6, 16, 6, 162, 0, 12, 42, 180, 0, 145, 21, 6, 21, 8, 79, 132, 6, 1]
abbrev dktX1_look_6 : List UInt8 := dkwX1_look_6 ++ dktX1_look_7
def dkwX1_look_5 : List UInt8 := [184, 0, 185, 153, 0, 7, 4, 167, 0, 4, 3, 54, 5, 21, 9, 158, 0, 61, 21, 4, 21, 8, 122, 4]
abbrev dktX1_look_5 : List UInt8 := dkwX1_look_5 ++ dktX1_look_6
def dkwX1_look_4 : List UInt8 := [42, 180, 0, 20, 16, 40, 29, 104, 21, 8, 96, 46, 54, 9, 21, 5, 153, 0, 18, 21, 9, 3, 16, 100]
abbrev dktX1_look_4 : List UInt8 := dkwX1_look_4 ++ dktX1_look_5
def dkwX1_look_3 : List UInt8 := [182, 1, 94, 54, 4, 4, 54, 5, 3, 54, 6, 4, 54, 7, 3, 54, 8, 21, 8, 16, 8, 162, 0, 109]
abbrev dktX1_look_3 : List UInt8 := dkwX1_look_3 ++ dktX1_look_4
def dkwX1_look_2 : List UInt8 := [182, 0, 193, 172, 42, 180, 0, 17, 29, 46, 16, 8, 159, 0, 9, 42, 8, 182, 0, 193, 172, 42, 27]
abbrev dktX1_look_2 : List UInt8 := dkwX1_look_2 ++ dktX1_look_3
def dkwX1_look_1 : List UInt8 := [42, 180, 0, 56, 27, 51, 154, 0, 6, 16, 252, 172, 42, 180, 0, 17, 29, 46, 156, 0, 9, 42, 4]
abbrev dktX1_look_1 : List UInt8 := dkwX1_look_1 ++ dktX1_look_2
def dkwX1_look_0 : List UInt8 := [42, 27, 182, 0, 240, 153, 0, 17, 28, 184, 0, 210, 153, 0, 10, 29, 184, 0, 189, 154, 0, 5, 2, 172]
abbrev dktX1_look_0 : List UInt8 := dkwX1_look_0 ++ dktX1_look_1
theorem dksX1_look_0 : cX1_look.data.toList.drop 0 = dktX1_look_0 := by decide +kernel
theorem dksX1_look_1 : cX1_look.data.toList.drop 24 = dktX1_look_1 := dk_seg dksX1_look_0 24 rfl rfl
theorem dksX1_look_2 : cX1_look.data.toList.drop 47 = dktX1_look_2 := dk_seg dksX1_look_1 23 rfl rfl
theorem dksX1_look_3 : cX1_look.data.toList.drop 70 = dktX1_look_3 := dk_seg dksX1_look_2 23 rfl rfl
theorem dksX1_look_4 : cX1_look.data.toList.drop 94 = dktX1_look_4 := dk_seg dksX1_look_3 24 rfl rfl
theorem dksX1_look_5 : cX1_look.data.toList.drop 118 = dktX1_look_5 := dk_seg dksX1_look_4 24 rfl rfl
theorem dksX1_look_6 : cX1_look.data.toList.drop 142 = dktX1_look_6 := dk_seg dksX1_look_5 24 rfl rfl
theorem dksX1_look_7 : cX1_look.data.toList.drop 166 = dktX1_look_7 := dk_seg dksX1_look_6 24 rfl rfl
theorem dksX1_look_8 : cX1_look.data.toList.drop 188 = dktX1_look_8 := dk_seg dksX1_look_7 22 rfl rfl
theorem dksX1_look_9 : cX1_look.data.toList.drop 211 = dktX1_look_9 := dk_seg dksX1_look_8 23 rfl rfl
theorem dksX1_look_10 : cX1_look.data.toList.drop 235 = dktX1_look_10 := dk_seg dksX1_look_9 24 rfl rfl
theorem dksX1_look_11 : cX1_look.data.toList.drop 258 = dktX1_look_11 := dk_seg dksX1_look_10 23 rfl rfl
theorem dksX1_look_12 : cX1_look.data.toList.drop 281 = dktX1_look_12 := dk_seg dksX1_look_11 23 rfl rfl
theorem dksX1_look_13 : cX1_look.data.toList.drop 305 = dktX1_look_13 := dk_seg dksX1_look_12 24 rfl rfl
theorem dksX1_look_14 : cX1_look.data.toList.drop 329 = dktX1_look_14 := dk_seg dksX1_look_13 24 rfl rfl
theorem dksX1_look_15 : cX1_look.data.toList.drop 351 = dktX1_look_15 := dk_seg dksX1_look_14 22 rfl rfl
theorem dksX1_look_16 : cX1_look.data.toList.drop 373 = dktX1_look_16 := dk_seg dksX1_look_15 22 rfl rfl
theorem dksX1_look_17 : cX1_look.data.toList.drop 397 = dktX1_look_17 := dk_seg dksX1_look_16 24 rfl rfl
theorem dksX1_look_18 : cX1_look.data.toList.drop 419 = dktX1_look_18 := dk_seg dksX1_look_17 22 rfl rfl
theorem dX1_look_0 : decode cX1_look 0 = .ok (.aload_n 0, 1) := dk_42 (dk_at dksX1_look_0 0 rfl rfl)
theorem dX1_look_1 : decode cX1_look 1 = .ok (.iload_n 1, 1) := dk_27 (dk_at dksX1_look_0 1 rfl rfl)
theorem dX1_look_2 : decode cX1_look 2 = .ok (.invokevirtual 240, 3) := dk_182 0 240 (dk_at dksX1_look_0 2 rfl rfl)
theorem dX1_look_5 : decode cX1_look 5 = .ok (.ifCond .eq 17, 3) := dk_153 0 17 (dk_at dksX1_look_0 5 rfl rfl)
theorem dX1_look_8 : decode cX1_look 8 = .ok (.iload_n 2, 1) := dk_28 (dk_at dksX1_look_0 8 rfl rfl)
theorem dX1_look_9 : decode cX1_look 9 = .ok (.invokestatic 210, 3) := dk_184 0 210 (dk_at dksX1_look_0 9 rfl rfl)
theorem dX1_look_12 : decode cX1_look 12 = .ok (.ifCond .eq 10, 3) := dk_153 0 10 (dk_at dksX1_look_0 12 rfl rfl)
theorem dX1_look_15 : decode cX1_look 15 = .ok (.iload_n 3, 1) := dk_29 (dk_at dksX1_look_0 15 rfl rfl)
theorem dX1_look_16 : decode cX1_look 16 = .ok (.invokestatic 189, 3) := dk_184 0 189 (dk_at dksX1_look_0 16 rfl rfl)
theorem dX1_look_19 : decode cX1_look 19 = .ok (.ifCond .ne 5, 3) := dk_154 0 5 (dk_at dksX1_look_0 19 rfl rfl)
theorem dX1_look_22 : decode cX1_look 22 = .ok (.iconst (-1), 1) := dk_2 (dk_at dksX1_look_0 22 rfl rfl)
theorem dX1_look_23 : decode cX1_look 23 = .ok (.ireturn, 1) := dk_172 (dk_at dksX1_look_0 23 rfl rfl)
theorem dX1_look_24 : decode cX1_look 24 = .ok (.aload_n 0, 1) := dk_42 (dk_at dksX1_look_1 0 rfl rfl)
theorem dX1_look_25 : decode cX1_look 25 = .ok (.getfield 56, 3) := dk_180 0 56 (dk_at dksX1_look_1 1 rfl rfl)
theorem dX1_look_28 : decode cX1_look 28 = .ok (.iload_n 1, 1) := dk_27 (dk_at dksX1_look_1 4 rfl rfl)
theorem dX1_look_29 : decode cX1_look 29 = .ok (.baload, 1) := dk_51 (dk_at dksX1_look_1 5 rfl rfl)
theorem dX1_look_30 : decode cX1_look 30 = .ok (.ifCond .ne 6, 3) := dk_154 0 6 (dk_at dksX1_look_1 6 rfl rfl)
theorem dX1_look_33 : decode cX1_look 33 = .ok (.bipush (-4), 2) := dk_16 252 (dk_at dksX1_look_1 9 rfl rfl)
theorem dX1_look_35 : decode cX1_look 35 = .ok (.ireturn, 1) := dk_172 (dk_at dksX1_look_1 11 rfl rfl)
theorem dX1_look_36 : decode cX1_look 36 = .ok (.aload_n 0, 1) := dk_42 (dk_at dksX1_look_1 12 rfl rfl)
theorem dX1_look_37 : decode cX1_look 37 = .ok (.getfield 17, 3) := dk_180 0 17 (dk_at dksX1_look_1 13 rfl rfl)
theorem dX1_look_40 : decode cX1_look 40 = .ok (.iload_n 3, 1) := dk_29 (dk_at dksX1_look_1 16 rfl rfl)
theorem dX1_look_41 : decode cX1_look 41 = .ok (.iaload, 1) := dk_46 (dk_at dksX1_look_1 17 rfl rfl)
theorem dX1_look_42 : decode cX1_look 42 = .ok (.ifCond .ge 9, 3) := dk_156 0 9 (dk_at dksX1_look_1 18 rfl rfl)
theorem dX1_look_45 : decode cX1_look 45 = .ok (.aload_n 0, 1) := dk_42 (dk_at dksX1_look_1 21 rfl rfl)
theorem dX1_look_46 : decode cX1_look 46 = .ok (.iconst 1, 1) := dk_4 (dk_at dksX1_look_1 22 rfl rfl)
theorem dX1_look_47 : decode cX1_look 47 = .ok (.invokevirtual 193, 3) := dk_182 0 193 (dk_at dksX1_look_2 0 rfl rfl)
theorem dX1_look_50 : decode cX1_look 50 = .ok (.ireturn, 1) := dk_172 (dk_at dksX1_look_2 3 rfl rfl)
theorem dX1_look_51 : decode cX1_look 51 = .ok (.aload_n 0, 1) := dk_42 (dk_at dksX1_look_2 4 rfl rfl)
theorem dX1_look_52 : decode cX1_look 52 = .ok (.getfield 17, 3) := dk_180 0 17 (dk_at dksX1_look_2 5 rfl rfl)
theorem dX1_look_55 : decode cX1_look 55 = .ok (.iload_n 3, 1) := dk_29 (dk_at dksX1_look_2 8 rfl rfl)
theorem dX1_look_56 : decode cX1_look 56 = .ok (.iaload, 1) := dk_46 (dk_at dksX1_look_2 9 rfl rfl)
theorem dX1_look_57 : decode cX1_look 57 = .ok (.bipush 8, 2) := dk_16 8 (dk_at dksX1_look_2 10 rfl rfl)
theorem dX1_look_59 : decode cX1_look 59 = .ok (.if_icmp .eq 9, 3) := dk_159 0 9 (dk_at dksX1_look_2 12 rfl rfl)
theorem dX1_look_62 : decode cX1_look 62 = .ok (.aload_n 0, 1) := dk_42 (dk_at dksX1_look_2 15 rfl rfl)
theorem dX1_look_63 : decode cX1_look 63 = .ok (.iconst 5, 1) := dk_8 (dk_at dksX1_look_2 16 rfl rfl)
theorem dX1_look_64 : decode cX1_look 64 = .ok (.invokevirtual 193, 3) := dk_182 0 193 (dk_at dksX1_look_2 17 rfl rfl)
theorem dX1_look_67 : decode cX1_look 67 = .ok (.ireturn, 1) := dk_172 (dk_at dksX1_look_2 20 rfl rfl)
theorem dX1_look_68 : decode cX1_look 68 = .ok (.aload_n 0, 1) := dk_42 (dk_at dksX1_look_2 21 rfl rfl)
theorem dX1_look_69 : decode cX1_look 69 = .ok (.iload_n 1, 1) := dk_27 (dk_at dksX1_look_2 22 rfl rfl)
theorem dX1_look_70 : decode cX1_look 70 = .ok (.invokevirtual 350, 3) := dk_182 1 94 (dk_at dksX1_look_3 0 rfl rfl)
theorem dX1_look_73 : decode cX1_look 73 = .ok (.istore 4, 2) := dk_54 4 (dk_at dksX1_look_3 3 rfl rfl)
theorem dX1_look_75 : decode cX1_look 75 = .ok (.iconst 1, 1) := dk_4 (dk_at dksX1_look_3 5 rfl rfl)
theorem dX1_look_76 : decode cX1_look 76 = .ok (.istore 5, 2) := dk_54 5 (dk_at dksX1_look_3 6 rfl rfl)
theorem dX1_look_78 : decode cX1_look 78 = .ok (.iconst 0, 1) := dk_3 (dk_at dksX1_look_3 8 rfl rfl)
theorem dX1_look_79 : decode cX1_look 79 = .ok (.istore 6, 2) := dk_54 6 (dk_at dksX1_look_3 9 rfl rfl)
theorem dX1_look_81 : decode cX1_look 81 = .ok (.iconst 1, 1) := dk_4 (dk_at dksX1_look_3 11 rfl rfl)
theorem dX1_look_82 : decode cX1_look 82 = .ok (.istore 7, 2) := dk_54 7 (dk_at dksX1_look_3 12 rfl rfl)
theorem dX1_look_84 : decode cX1_look 84 = .ok (.iconst 0, 1) := dk_3 (dk_at dksX1_look_3 14 rfl rfl)
theorem dX1_look_85 : decode cX1_look 85 = .ok (.istore 8, 2) := dk_54 8 (dk_at dksX1_look_3 15 rfl rfl)
theorem dX1_look_87 : decode cX1_look 87 = .ok (.iload 8, 2) := dk_21 8 (dk_at dksX1_look_3 17 rfl rfl)
theorem dX1_look_89 : decode cX1_look 89 = .ok (.bipush 8, 2) := dk_16 8 (dk_at dksX1_look_3 19 rfl rfl)
theorem dX1_look_91 : decode cX1_look 91 = .ok (.if_icmp .ge 109, 3) := dk_162 0 109 (dk_at dksX1_look_3 21 rfl rfl)
theorem dX1_look_94 : decode cX1_look 94 = .ok (.aload_n 0, 1) := dk_42 (dk_at dksX1_look_4 0 rfl rfl)
theorem dX1_look_95 : decode cX1_look 95 = .ok (.getfield 20, 3) := dk_180 0 20 (dk_at dksX1_look_4 1 rfl rfl)
theorem dX1_look_98 : decode cX1_look 98 = .ok (.bipush 40, 2) := dk_16 40 (dk_at dksX1_look_4 4 rfl rfl)
theorem dX1_look_100 : decode cX1_look 100 = .ok (.iload_n 3, 1) := dk_29 (dk_at dksX1_look_4 6 rfl rfl)
theorem dX1_look_101 : decode cX1_look 101 = .ok (.imul, 1) := dk_104 (dk_at dksX1_look_4 7 rfl rfl)
theorem dX1_look_102 : decode cX1_look 102 = .ok (.iload 8, 2) := dk_21 8 (dk_at dksX1_look_4 8 rfl rfl)
theorem dX1_look_104 : decode cX1_look 104 = .ok (.iadd, 1) := dk_96 (dk_at dksX1_look_4 10 rfl rfl)
theorem dX1_look_105 : decode cX1_look 105 = .ok (.iaload, 1) := dk_46 (dk_at dksX1_look_4 11 rfl rfl)
theorem dX1_look_106 : decode cX1_look 106 = .ok (.istore 9, 2) := dk_54 9 (dk_at dksX1_look_4 12 rfl rfl)
theorem dX1_look_108 : decode cX1_look 108 = .ok (.iload 5, 2) := dk_21 5 (dk_at dksX1_look_4 14 rfl rfl)
theorem dX1_look_110 : decode cX1_look 110 = .ok (.ifCond .eq 18, 3) := dk_153 0 18 (dk_at dksX1_look_4 16 rfl rfl)
theorem dX1_look_113 : decode cX1_look 113 = .ok (.iload 9, 2) := dk_21 9 (dk_at dksX1_look_4 19 rfl rfl)
theorem dX1_look_115 : decode cX1_look 115 = .ok (.iconst 0, 1) := dk_3 (dk_at dksX1_look_4 21 rfl rfl)
theorem dX1_look_116 : decode cX1_look 116 = .ok (.bipush 100, 2) := dk_16 100 (dk_at dksX1_look_4 22 rfl rfl)
theorem dX1_look_118 : decode cX1_look 118 = .ok (.invokestatic 185, 3) := dk_184 0 185 (dk_at dksX1_look_5 0 rfl rfl)
theorem dX1_look_121 : decode cX1_look 121 = .ok (.ifCond .eq 7, 3) := dk_153 0 7 (dk_at dksX1_look_5 3 rfl rfl)
theorem dX1_look_124 : decode cX1_look 124 = .ok (.iconst 1, 1) := dk_4 (dk_at dksX1_look_5 6 rfl rfl)
theorem dX1_look_125 : decode cX1_look 125 = .ok (.goto 4, 3) := dk_167 0 4 (dk_at dksX1_look_5 7 rfl rfl)
theorem dX1_look_128 : decode cX1_look 128 = .ok (.iconst 0, 1) := dk_3 (dk_at dksX1_look_5 10 rfl rfl)
theorem dX1_look_129 : decode cX1_look 129 = .ok (.istore 5, 2) := dk_54 5 (dk_at dksX1_look_5 11 rfl rfl)
theorem dX1_look_131 : decode cX1_look 131 = .ok (.iload 9, 2) := dk_21 9 (dk_at dksX1_look_5 13 rfl rfl)
theorem dX1_look_133 : decode cX1_look 133 = .ok (.ifCond .le 61, 3) := dk_158 0 61 (dk_at dksX1_look_5 15 rfl rfl)
theorem dX1_look_136 : decode cX1_look 136 = .ok (.iload 4, 2) := dk_21 4 (dk_at dksX1_look_5 18 rfl rfl)
theorem dX1_look_138 : decode cX1_look 138 = .ok (.iload 8, 2) := dk_21 8 (dk_at dksX1_look_5 20 rfl rfl)
theorem dX1_look_140 : decode cX1_look 140 = .ok (.ishr, 1) := dk_122 (dk_at dksX1_look_5 22 rfl rfl)
theorem dX1_look_141 : decode cX1_look 141 = .ok (.iconst 1, 1) := dk_4 (dk_at dksX1_look_5 23 rfl rfl)
theorem dX1_look_142 : decode cX1_look 142 = .ok (.iand, 1) := dk_126 (dk_at dksX1_look_6 0 rfl rfl)
theorem dX1_look_143 : decode cX1_look 143 = .ok (.iconst 1, 1) := dk_4 (dk_at dksX1_look_6 1 rfl rfl)
theorem dX1_look_144 : decode cX1_look 144 = .ok (.if_icmp .ne 50, 3) := dk_160 0 50 (dk_at dksX1_look_6 2 rfl rfl)
theorem dX1_look_147 : decode cX1_look 147 = .ok (.iload 6, 2) := dk_21 6 (dk_at dksX1_look_6 5 rfl rfl)
theorem dX1_look_149 : decode cX1_look 149 = .ok (.bipush 6, 2) := dk_16 6 (dk_at dksX1_look_6 7 rfl rfl)
theorem dX1_look_151 : decode cX1_look 151 = .ok (.if_icmp .ge 12, 3) := dk_162 0 12 (dk_at dksX1_look_6 9 rfl rfl)
theorem dX1_look_154 : decode cX1_look 154 = .ok (.aload_n 0, 1) := dk_42 (dk_at dksX1_look_6 12 rfl rfl)
theorem dX1_look_155 : decode cX1_look 155 = .ok (.getfield 145, 3) := dk_180 0 145 (dk_at dksX1_look_6 13 rfl rfl)
theorem dX1_look_158 : decode cX1_look 158 = .ok (.iload 6, 2) := dk_21 6 (dk_at dksX1_look_6 16 rfl rfl)
theorem dX1_look_160 : decode cX1_look 160 = .ok (.iload 8, 2) := dk_21 8 (dk_at dksX1_look_6 18 rfl rfl)
theorem dX1_look_162 : decode cX1_look 162 = .ok (.iastore, 1) := dk_79 (dk_at dksX1_look_6 20 rfl rfl)
theorem dX1_look_163 : decode cX1_look 163 = .ok (.iinc 6 1, 3) := dk_132 6 1 (dk_at dksX1_look_6 21 rfl rfl)
theorem dX1_look_166 : decode cX1_look 166 = .ok (.iload 7, 2) := dk_21 7 (dk_at dksX1_look_7 0 rfl rfl)
theorem dX1_look_168 : decode cX1_look 168 = .ok (.ifCond .eq 23, 3) := dk_153 0 23 (dk_at dksX1_look_7 2 rfl rfl)
theorem dX1_look_171 : decode cX1_look 171 = .ok (.aload_n 0, 1) := dk_42 (dk_at dksX1_look_7 5 rfl rfl)
theorem dX1_look_172 : decode cX1_look 172 = .ok (.iload_n 2, 1) := dk_28 (dk_at dksX1_look_7 6 rfl rfl)
theorem dX1_look_173 : decode cX1_look 173 = .ok (.aload_n 0, 1) := dk_42 (dk_at dksX1_look_7 7 rfl rfl)
theorem dX1_look_174 : decode cX1_look 174 = .ok (.getfield 207, 3) := dk_180 0 207 (dk_at dksX1_look_7 8 rfl rfl)
theorem dX1_look_177 : decode cX1_look 177 = .ok (.iload 8, 2) := dk_21 8 (dk_at dksX1_look_7 11 rfl rfl)
theorem dX1_look_179 : decode cX1_look 179 = .ok (.invokevirtual 222, 3) := dk_182 0 222 (dk_at dksX1_look_7 13 rfl rfl)
theorem dX1_look_182 : decode cX1_look 182 = .ok (.ldc 217, 2) := dk_18 217 (dk_at dksX1_look_7 16 rfl rfl)
theorem dX1_look_184 : decode cX1_look 184 = .ok (.if_icmp .ge 7, 3) := dk_162 0 7 (dk_at dksX1_look_7 18 rfl rfl)
theorem dX1_look_187 : decode cX1_look 187 = .ok (.iconst 1, 1) := dk_4 (dk_at dksX1_look_7 21 rfl rfl)
theorem dX1_look_188 : decode cX1_look 188 = .ok (.goto 4, 3) := dk_167 0 4 (dk_at dksX1_look_8 0 rfl rfl)
theorem dX1_look_191 : decode cX1_look 191 = .ok (.iconst 0, 1) := dk_3 (dk_at dksX1_look_8 3 rfl rfl)
theorem dX1_look_192 : decode cX1_look 192 = .ok (.istore 7, 2) := dk_54 7 (dk_at dksX1_look_8 4 rfl rfl)
theorem dX1_look_194 : decode cX1_look 194 = .ok (.iinc 8 1, 3) := dk_132 8 1 (dk_at dksX1_look_8 6 rfl rfl)
theorem dX1_look_197 : decode cX1_look 197 = .ok (.goto (-110), 3) := dk_167 255 146 (dk_at dksX1_look_8 9 rfl rfl)
theorem dX1_look_200 : decode cX1_look 200 = .ok (.iload 5, 2) := dk_21 5 (dk_at dksX1_look_8 12 rfl rfl)
theorem dX1_look_202 : decode cX1_look 202 = .ok (.ifCond .ne 9, 3) := dk_154 0 9 (dk_at dksX1_look_8 14 rfl rfl)
theorem dX1_look_205 : decode cX1_look 205 = .ok (.aload_n 0, 1) := dk_42 (dk_at dksX1_look_8 17 rfl rfl)
theorem dX1_look_206 : decode cX1_look 206 = .ok (.iconst 3, 1) := dk_6 (dk_at dksX1_look_8 18 rfl rfl)
theorem dX1_look_207 : decode cX1_look 207 = .ok (.invokevirtual 193, 3) := dk_182 0 193 (dk_at dksX1_look_8 19 rfl rfl)
theorem dX1_look_210 : decode cX1_look 210 = .ok (.ireturn, 1) := dk_172 (dk_at dksX1_look_8 22 rfl rfl)
theorem dX1_look_211 : decode cX1_look 211 = .ok (.iload 6, 2) := dk_21 6 (dk_at dksX1_look_9 0 rfl rfl)
theorem dX1_look_213 : decode cX1_look 213 = .ok (.bipush 6, 2) := dk_16 6 (dk_at dksX1_look_9 2 rfl rfl)
theorem dX1_look_215 : decode cX1_look 215 = .ok (.if_icmp .le 6, 3) := dk_164 0 6 (dk_at dksX1_look_9 4 rfl rfl)
theorem dX1_look_218 : decode cX1_look 218 = .ok (.bipush (-2), 2) := dk_16 254 (dk_at dksX1_look_9 7 rfl rfl)
theorem dX1_look_220 : decode cX1_look 220 = .ok (.ireturn, 1) := dk_172 (dk_at dksX1_look_9 9 rfl rfl)
theorem dX1_look_221 : decode cX1_look 221 = .ok (.iload 7, 2) := dk_21 7 (dk_at dksX1_look_9 10 rfl rfl)
theorem dX1_look_223 : decode cX1_look 223 = .ok (.ifCond .ne 9, 3) := dk_154 0 9 (dk_at dksX1_look_9 12 rfl rfl)
theorem dX1_look_226 : decode cX1_look 226 = .ok (.aload_n 0, 1) := dk_42 (dk_at dksX1_look_9 15 rfl rfl)
theorem dX1_look_227 : decode cX1_look 227 = .ok (.iconst 1, 1) := dk_4 (dk_at dksX1_look_9 16 rfl rfl)
theorem dX1_look_228 : decode cX1_look 228 = .ok (.invokevirtual 193, 3) := dk_182 0 193 (dk_at dksX1_look_9 17 rfl rfl)
theorem dX1_look_231 : decode cX1_look 231 = .ok (.ireturn, 1) := dk_172 (dk_at dksX1_look_9 20 rfl rfl)
theorem dX1_look_232 : decode cX1_look 232 = .ok (.iconst 0, 1) := dk_3 (dk_at dksX1_look_9 21 rfl rfl)
theorem dX1_look_233 : decode cX1_look 233 = .ok (.istore 8, 2) := dk_54 8 (dk_at dksX1_look_9 22 rfl rfl)
theorem dX1_look_235 : decode cX1_look 235 = .ok (.iload 8, 2) := dk_21 8 (dk_at dksX1_look_10 0 rfl rfl)
theorem dX1_look_237 : decode cX1_look 237 = .ok (.iload 6, 2) := dk_21 6 (dk_at dksX1_look_10 2 rfl rfl)
theorem dX1_look_239 : decode cX1_look 239 = .ok (.if_icmp .ge 18, 3) := dk_162 0 18 (dk_at dksX1_look_10 4 rfl rfl)
theorem dX1_look_242 : decode cX1_look 242 = .ok (.aload_n 0, 1) := dk_42 (dk_at dksX1_look_10 7 rfl rfl)
theorem dX1_look_243 : decode cX1_look 243 = .ok (.getfield 148, 3) := dk_180 0 148 (dk_at dksX1_look_10 8 rfl rfl)
theorem dX1_look_246 : decode cX1_look 246 = .ok (.iload 8, 2) := dk_21 8 (dk_at dksX1_look_10 11 rfl rfl)
theorem dX1_look_248 : decode cX1_look 248 = .ok (.iload 8, 2) := dk_21 8 (dk_at dksX1_look_10 13 rfl rfl)
theorem dX1_look_250 : decode cX1_look 250 = .ok (.iastore, 1) := dk_79 (dk_at dksX1_look_10 15 rfl rfl)
theorem dX1_look_251 : decode cX1_look 251 = .ok (.iinc 8 1, 3) := dk_132 8 1 (dk_at dksX1_look_10 16 rfl rfl)
theorem dX1_look_254 : decode cX1_look 254 = .ok (.goto (-19), 3) := dk_167 255 237 (dk_at dksX1_look_10 19 rfl rfl)
theorem dX1_look_257 : decode cX1_look 257 = .ok (.aload_n 0, 1) := dk_42 (dk_at dksX1_look_10 22 rfl rfl)
theorem dX1_look_258 : decode cX1_look 258 = .ok (.bipush (-9), 2) := dk_16 247 (dk_at dksX1_look_11 0 rfl rfl)
theorem dX1_look_260 : decode cX1_look 260 = .ok (.putfield 353, 3) := dk_181 1 97 (dk_at dksX1_look_11 2 rfl rfl)
theorem dX1_look_263 : decode cX1_look 263 = .ok (.iconst 1, 1) := dk_4 (dk_at dksX1_look_11 5 rfl rfl)
theorem dX1_look_264 : decode cX1_look 264 = .ok (.istore 8, 2) := dk_54 8 (dk_at dksX1_look_11 6 rfl rfl)
theorem dX1_look_266 : decode cX1_look 266 = .ok (.iload 8, 2) := dk_21 8 (dk_at dksX1_look_11 8 rfl rfl)
theorem dX1_look_268 : decode cX1_look 268 = .ok (.ifCond .eq 154, 3) := dk_153 0 154 (dk_at dksX1_look_11 10 rfl rfl)
theorem dX1_look_271 : decode cX1_look 271 = .ok (.iconst 0, 1) := dk_3 (dk_at dksX1_look_11 13 rfl rfl)
theorem dX1_look_272 : decode cX1_look 272 = .ok (.istore 9, 2) := dk_54 9 (dk_at dksX1_look_11 14 rfl rfl)
theorem dX1_look_274 : decode cX1_look 274 = .ok (.iload_n 2, 1) := dk_28 (dk_at dksX1_look_11 16 rfl rfl)
theorem dX1_look_275 : decode cX1_look 275 = .ok (.istore 10, 2) := dk_54 10 (dk_at dksX1_look_11 17 rfl rfl)
theorem dX1_look_277 : decode cX1_look 277 = .ok (.aload_n 0, 1) := dk_42 (dk_at dksX1_look_11 19 rfl rfl)
theorem dX1_look_278 : decode cX1_look 278 = .ok (.getfield 207, 3) := dk_180 0 207 (dk_at dksX1_look_11 20 rfl rfl)
theorem dX1_look_281 : decode cX1_look 281 = .ok (.istore 11, 2) := dk_54 11 (dk_at dksX1_look_12 0 rfl rfl)
theorem dX1_look_283 : decode cX1_look 283 = .ok (.iconst 0, 1) := dk_3 (dk_at dksX1_look_12 2 rfl rfl)
theorem dX1_look_284 : decode cX1_look 284 = .ok (.istore 12, 2) := dk_54 12 (dk_at dksX1_look_12 3 rfl rfl)
theorem dX1_look_286 : decode cX1_look 286 = .ok (.iload 12, 2) := dk_21 12 (dk_at dksX1_look_12 5 rfl rfl)
theorem dX1_look_288 : decode cX1_look 288 = .ok (.iload 6, 2) := dk_21 6 (dk_at dksX1_look_12 7 rfl rfl)
theorem dX1_look_290 : decode cX1_look 290 = .ok (.if_icmp .ge 64, 3) := dk_162 0 64 (dk_at dksX1_look_12 9 rfl rfl)
theorem dX1_look_293 : decode cX1_look 293 = .ok (.aload_n 0, 1) := dk_42 (dk_at dksX1_look_12 12 rfl rfl)
theorem dX1_look_294 : decode cX1_look 294 = .ok (.getfield 145, 3) := dk_180 0 145 (dk_at dksX1_look_12 13 rfl rfl)
theorem dX1_look_297 : decode cX1_look 297 = .ok (.aload_n 0, 1) := dk_42 (dk_at dksX1_look_12 16 rfl rfl)
theorem dX1_look_298 : decode cX1_look 298 = .ok (.getfield 148, 3) := dk_180 0 148 (dk_at dksX1_look_12 17 rfl rfl)
theorem dX1_look_301 : decode cX1_look 301 = .ok (.iload 12, 2) := dk_21 12 (dk_at dksX1_look_12 20 rfl rfl)
theorem dX1_look_303 : decode cX1_look 303 = .ok (.iaload, 1) := dk_46 (dk_at dksX1_look_12 22 rfl rfl)
theorem dX1_look_304 : decode cX1_look 304 = .ok (.iaload, 1) := dk_46 (dk_at dksX1_look_12 23 rfl rfl)
theorem dX1_look_305 : decode cX1_look 305 = .ok (.istore 13, 2) := dk_54 13 (dk_at dksX1_look_13 0 rfl rfl)
theorem dX1_look_307 : decode cX1_look 307 = .ok (.aload_n 0, 1) := dk_42 (dk_at dksX1_look_13 2 rfl rfl)
theorem dX1_look_308 : decode cX1_look 308 = .ok (.iload 10, 2) := dk_21 10 (dk_at dksX1_look_13 3 rfl rfl)
theorem dX1_look_310 : decode cX1_look 310 = .ok (.iload 11, 2) := dk_21 11 (dk_at dksX1_look_13 5 rfl rfl)
theorem dX1_look_312 : decode cX1_look 312 = .ok (.iload 13, 2) := dk_21 13 (dk_at dksX1_look_13 7 rfl rfl)
theorem dX1_look_314 : decode cX1_look 314 = .ok (.invokevirtual 222, 3) := dk_182 0 222 (dk_at dksX1_look_13 9 rfl rfl)
theorem dX1_look_317 : decode cX1_look 317 = .ok (.istore 11, 2) := dk_54 11 (dk_at dksX1_look_13 12 rfl rfl)
theorem dX1_look_319 : decode cX1_look 319 = .ok (.iload 13, 2) := dk_21 13 (dk_at dksX1_look_13 14 rfl rfl)
theorem dX1_look_321 : decode cX1_look 321 = .ok (.istore 10, 2) := dk_54 10 (dk_at dksX1_look_13 16 rfl rfl)
theorem dX1_look_323 : decode cX1_look 323 = .ok (.iload 9, 2) := dk_21 9 (dk_at dksX1_look_13 18 rfl rfl)
theorem dX1_look_325 : decode cX1_look 325 = .ok (.aload_n 0, 1) := dk_42 (dk_at dksX1_look_13 20 rfl rfl)
theorem dX1_look_326 : decode cX1_look 326 = .ok (.getfield 20, 3) := dk_180 0 20 (dk_at dksX1_look_13 21 rfl rfl)
theorem dX1_look_329 : decode cX1_look 329 = .ok (.bipush 40, 2) := dk_16 40 (dk_at dksX1_look_14 0 rfl rfl)
theorem dX1_look_331 : decode cX1_look 331 = .ok (.iload_n 3, 1) := dk_29 (dk_at dksX1_look_14 2 rfl rfl)
theorem dX1_look_332 : decode cX1_look 332 = .ok (.imul, 1) := dk_104 (dk_at dksX1_look_14 3 rfl rfl)
theorem dX1_look_333 : decode cX1_look 333 = .ok (.iload 13, 2) := dk_21 13 (dk_at dksX1_look_14 4 rfl rfl)
theorem dX1_look_335 : decode cX1_look 335 = .ok (.iadd, 1) := dk_96 (dk_at dksX1_look_14 6 rfl rfl)
theorem dX1_look_336 : decode cX1_look 336 = .ok (.iaload, 1) := dk_46 (dk_at dksX1_look_14 7 rfl rfl)
theorem dX1_look_337 : decode cX1_look 337 = .ok (.iload 11, 2) := dk_21 11 (dk_at dksX1_look_14 8 rfl rfl)
theorem dX1_look_339 : decode cX1_look 339 = .ok (.aload_n 0, 1) := dk_42 (dk_at dksX1_look_14 10 rfl rfl)
theorem dX1_look_340 : decode cX1_look 340 = .ok (.getfield 207, 3) := dk_180 0 207 (dk_at dksX1_look_14 11 rfl rfl)
theorem dX1_look_343 : decode cX1_look 343 = .ok (.isub, 1) := dk_100 (dk_at dksX1_look_14 14 rfl rfl)
theorem dX1_look_344 : decode cX1_look 344 = .ok (.imul, 1) := dk_104 (dk_at dksX1_look_14 15 rfl rfl)
theorem dX1_look_345 : decode cX1_look 345 = .ok (.iadd, 1) := dk_96 (dk_at dksX1_look_14 16 rfl rfl)
theorem dX1_look_346 : decode cX1_look 346 = .ok (.istore 9, 2) := dk_54 9 (dk_at dksX1_look_14 17 rfl rfl)
theorem dX1_look_348 : decode cX1_look 348 = .ok (.iinc 12 1, 3) := dk_132 12 1 (dk_at dksX1_look_14 19 rfl rfl)
theorem dX1_look_351 : decode cX1_look 351 = .ok (.goto (-65), 3) := dk_167 255 191 (dk_at dksX1_look_15 0 rfl rfl)
theorem dX1_look_354 : decode cX1_look 354 = .ok (.aload_n 0, 1) := dk_42 (dk_at dksX1_look_15 3 rfl rfl)
theorem dX1_look_355 : decode cX1_look 355 = .ok (.getfield 353, 3) := dk_180 1 97 (dk_at dksX1_look_15 4 rfl rfl)
theorem dX1_look_358 : decode cX1_look 358 = .ok (.ifCond .lt 12, 3) := dk_155 0 12 (dk_at dksX1_look_15 7 rfl rfl)
theorem dX1_look_361 : decode cX1_look 361 = .ok (.iload 9, 2) := dk_21 9 (dk_at dksX1_look_15 10 rfl rfl)
theorem dX1_look_363 : decode cX1_look 363 = .ok (.aload_n 0, 1) := dk_42 (dk_at dksX1_look_15 12 rfl rfl)
theorem dX1_look_364 : decode cX1_look 364 = .ok (.getfield 353, 3) := dk_180 1 97 (dk_at dksX1_look_15 13 rfl rfl)
theorem dX1_look_367 : decode cX1_look 367 = .ok (.if_icmp .ge 44, 3) := dk_162 0 44 (dk_at dksX1_look_15 16 rfl rfl)
theorem dX1_look_370 : decode cX1_look 370 = .ok (.aload_n 0, 1) := dk_42 (dk_at dksX1_look_15 19 rfl rfl)
theorem dX1_look_371 : decode cX1_look 371 = .ok (.iload 9, 2) := dk_21 9 (dk_at dksX1_look_15 20 rfl rfl)
theorem dX1_look_373 : decode cX1_look 373 = .ok (.putfield 353, 3) := dk_181 1 97 (dk_at dksX1_look_16 0 rfl rfl)
theorem dX1_look_376 : decode cX1_look 376 = .ok (.iconst 0, 1) := dk_3 (dk_at dksX1_look_16 3 rfl rfl)
theorem dX1_look_377 : decode cX1_look 377 = .ok (.istore 12, 2) := dk_54 12 (dk_at dksX1_look_16 4 rfl rfl)
theorem dX1_look_379 : decode cX1_look 379 = .ok (.iload 12, 2) := dk_21 12 (dk_at dksX1_look_16 6 rfl rfl)
theorem dX1_look_381 : decode cX1_look 381 = .ok (.iload 6, 2) := dk_21 6 (dk_at dksX1_look_16 8 rfl rfl)
theorem dX1_look_383 : decode cX1_look 383 = .ok (.if_icmp .ge 28, 3) := dk_162 0 28 (dk_at dksX1_look_16 10 rfl rfl)
theorem dX1_look_386 : decode cX1_look 386 = .ok (.aload_n 0, 1) := dk_42 (dk_at dksX1_look_16 13 rfl rfl)
theorem dX1_look_387 : decode cX1_look 387 = .ok (.getfield 142, 3) := dk_180 0 142 (dk_at dksX1_look_16 14 rfl rfl)
theorem dX1_look_390 : decode cX1_look 390 = .ok (.iload 12, 2) := dk_21 12 (dk_at dksX1_look_16 17 rfl rfl)
theorem dX1_look_392 : decode cX1_look 392 = .ok (.aload_n 0, 1) := dk_42 (dk_at dksX1_look_16 19 rfl rfl)
theorem dX1_look_393 : decode cX1_look 393 = .ok (.getfield 145, 3) := dk_180 0 145 (dk_at dksX1_look_16 20 rfl rfl)
theorem dX1_look_396 : decode cX1_look 396 = .ok (.aload_n 0, 1) := dk_42 (dk_at dksX1_look_16 23 rfl rfl)
theorem dX1_look_397 : decode cX1_look 397 = .ok (.getfield 148, 3) := dk_180 0 148 (dk_at dksX1_look_17 0 rfl rfl)
theorem dX1_look_400 : decode cX1_look 400 = .ok (.iload 12, 2) := dk_21 12 (dk_at dksX1_look_17 3 rfl rfl)
theorem dX1_look_402 : decode cX1_look 402 = .ok (.iaload, 1) := dk_46 (dk_at dksX1_look_17 5 rfl rfl)
theorem dX1_look_403 : decode cX1_look 403 = .ok (.iaload, 1) := dk_46 (dk_at dksX1_look_17 6 rfl rfl)
theorem dX1_look_404 : decode cX1_look 404 = .ok (.iastore, 1) := dk_79 (dk_at dksX1_look_17 7 rfl rfl)
theorem dX1_look_405 : decode cX1_look 405 = .ok (.iinc 12 1, 3) := dk_132 12 1 (dk_at dksX1_look_17 8 rfl rfl)
theorem dX1_look_408 : decode cX1_look 408 = .ok (.goto (-29), 3) := dk_167 255 227 (dk_at dksX1_look_17 11 rfl rfl)
theorem dX1_look_411 : decode cX1_look 411 = .ok (.aload_n 0, 1) := dk_42 (dk_at dksX1_look_17 14 rfl rfl)
theorem dX1_look_412 : decode cX1_look 412 = .ok (.iload 6, 2) := dk_21 6 (dk_at dksX1_look_17 15 rfl rfl)
theorem dX1_look_414 : decode cX1_look 414 = .ok (.invokevirtual 356, 3) := dk_182 1 100 (dk_at dksX1_look_17 17 rfl rfl)
theorem dX1_look_417 : decode cX1_look 417 = .ok (.istore 8, 2) := dk_54 8 (dk_at dksX1_look_17 20 rfl rfl)
theorem dX1_look_419 : decode cX1_look 419 = .ok (.goto (-153), 3) := dk_167 255 103 (dk_at dksX1_look_18 0 rfl rfl)
theorem dX1_look_422 : decode cX1_look 422 = .ok (.aload_n 0, 1) := dk_42 (dk_at dksX1_look_18 3 rfl rfl)
theorem dX1_look_423 : decode cX1_look 423 = .ok (.iload 6, 2) := dk_21 6 (dk_at dksX1_look_18 4 rfl rfl)
theorem dX1_look_425 : decode cX1_look 425 = .ok (.putfield 359, 3) := dk_181 1 103 (dk_at dksX1_look_18 6 rfl rfl)
theorem dX1_look_428 : decode cX1_look 428 = .ok (.aload_n 0, 1) := dk_42 (dk_at dksX1_look_18 9 rfl rfl)
theorem dX1_look_429 : decode cX1_look 429 = .ok (.aload_n 0, 1) := dk_42 (dk_at dksX1_look_18 10 rfl rfl)
theorem dX1_look_430 : decode cX1_look 430 = .ok (.getfield 353, 3) := dk_180 1 97 (dk_at dksX1_look_18 11 rfl rfl)
theorem dX1_look_433 : decode cX1_look 433 = .ok (.iload 6, 2) := dk_21 6 (dk_at dksX1_look_18 14 rfl rfl)
theorem dX1_look_435 : decode cX1_look 435 = .ok (.invokevirtual 246, 3) := dk_182 0 246 (dk_at dksX1_look_18 16 rfl rfl)
theorem dX1_look_438 : decode cX1_look 438 = .ok (.ireturn, 1) := dk_172 (dk_at dksX1_look_18 19 rfl rfl)
abbrev cX1_nextOrder : ByteArray := prog_8_method_87_code
def yX1_nextOrder : MethodName := ⟨RX1, "nextOrder", "(I)Z"⟩
def dkwX1_nextOrder_6 : List UInt8 := [132, 5, 1, 132, 6, 255, 167, 255, 211, 4, 172]
abbrev dktX1_nextOrder_6 : List UInt8 := dkwX1_nextOrder_6 ++ []
def dkwX1_nextOrder_5 : List UInt8 := [180, 0, 148, 21, 5, 42, 180, 0, 148, 21, 6, 46, 79, 42, 180, 0, 148, 21, 6, 21, 7, 79]
abbrev dktX1_nextOrder_5 : List UInt8 := dkwX1_nextOrder_5 ++ dktX1_nextOrder_6
def dkwX1_nextOrder_4 : List UInt8 := [54, 5, 27, 4, 100, 54, 6, 21, 5, 21, 6, 162, 0, 44, 42, 180, 0, 148, 21, 5, 46, 54, 7, 42]
abbrev dktX1_nextOrder_4 : List UInt8 := dkwX1_nextOrder_4 ++ dktX1_nextOrder_5
def dkwX1_nextOrder_3 : List UInt8 := [42, 180, 0, 148, 28, 42, 180, 0, 148, 29, 46, 79, 42, 180, 0, 148, 29, 21, 4, 79, 28, 4, 96]
abbrev dktX1_nextOrder_3 : List UInt8 := dkwX1_nextOrder_3 ++ dktX1_nextOrder_4
def dkwX1_nextOrder_2 : List UInt8 := [46, 42, 180, 0, 148, 28, 46, 162, 0, 9, 132, 3, 255, 167, 255, 238, 42, 180, 0, 148, 28, 46, 54, 4]
abbrev dktX1_nextOrder_2 : List UInt8 := dkwX1_nextOrder_2 ++ dktX1_nextOrder_3
def dkwX1_nextOrder_1 : List UInt8 := [164, 0, 9, 132, 2, 255, 167, 255, 232, 28, 156, 0, 5, 3, 172, 27, 4, 100, 62, 42, 180, 0, 148, 29]
abbrev dktX1_nextOrder_1 : List UInt8 := dkwX1_nextOrder_1 ++ dktX1_nextOrder_2
def dkwX1_nextOrder_0 : List UInt8 := [27, 5, 100, 61, 28, 155, 0, 26, 42, 180, 0, 148, 28, 46, 42, 180, 0, 148, 28, 4, 96, 46]
abbrev dktX1_nextOrder_0 : List UInt8 := dkwX1_nextOrder_0 ++ dktX1_nextOrder_1
theorem dksX1_nextOrder_0 : cX1_nextOrder.data.toList.drop 0 = dktX1_nextOrder_0 := by decide +kernel
theorem dksX1_nextOrder_1 : cX1_nextOrder.data.toList.drop 22 = dktX1_nextOrder_1 := dk_seg dksX1_nextOrder_0 22 rfl rfl
theorem dksX1_nextOrder_2 : cX1_nextOrder.data.toList.drop 46 = dktX1_nextOrder_2 := dk_seg dksX1_nextOrder_1 24 rfl rfl
theorem dksX1_nextOrder_3 : cX1_nextOrder.data.toList.drop 70 = dktX1_nextOrder_3 := dk_seg dksX1_nextOrder_2 24 rfl rfl
theorem dksX1_nextOrder_4 : cX1_nextOrder.data.toList.drop 93 = dktX1_nextOrder_4 := dk_seg dksX1_nextOrder_3 23 rfl rfl
theorem dksX1_nextOrder_5 : cX1_nextOrder.data.toList.drop 117 = dktX1_nextOrder_5 := dk_seg dksX1_nextOrder_4 24 rfl rfl
theorem dksX1_nextOrder_6 : cX1_nextOrder.data.toList.drop 139 = dktX1_nextOrder_6 := dk_seg dksX1_nextOrder_5 22 rfl rfl
theorem dX1_nextOrder_0 : decode cX1_nextOrder 0 = .ok (.iload_n 1, 1) := dk_27 (dk_at dksX1_nextOrder_0 0 rfl rfl)
theorem dX1_nextOrder_1 : decode cX1_nextOrder 1 = .ok (.iconst 2, 1) := dk_5 (dk_at dksX1_nextOrder_0 1 rfl rfl)
theorem dX1_nextOrder_2 : decode cX1_nextOrder 2 = .ok (.isub, 1) := dk_100 (dk_at dksX1_nextOrder_0 2 rfl rfl)
theorem dX1_nextOrder_3 : decode cX1_nextOrder 3 = .ok (.istore_n 2, 1) := dk_61 (dk_at dksX1_nextOrder_0 3 rfl rfl)
theorem dX1_nextOrder_4 : decode cX1_nextOrder 4 = .ok (.iload_n 2, 1) := dk_28 (dk_at dksX1_nextOrder_0 4 rfl rfl)
theorem dX1_nextOrder_5 : decode cX1_nextOrder 5 = .ok (.ifCond .lt 26, 3) := dk_155 0 26 (dk_at dksX1_nextOrder_0 5 rfl rfl)
theorem dX1_nextOrder_8 : decode cX1_nextOrder 8 = .ok (.aload_n 0, 1) := dk_42 (dk_at dksX1_nextOrder_0 8 rfl rfl)
theorem dX1_nextOrder_9 : decode cX1_nextOrder 9 = .ok (.getfield 148, 3) := dk_180 0 148 (dk_at dksX1_nextOrder_0 9 rfl rfl)
theorem dX1_nextOrder_12 : decode cX1_nextOrder 12 = .ok (.iload_n 2, 1) := dk_28 (dk_at dksX1_nextOrder_0 12 rfl rfl)
theorem dX1_nextOrder_13 : decode cX1_nextOrder 13 = .ok (.iaload, 1) := dk_46 (dk_at dksX1_nextOrder_0 13 rfl rfl)
theorem dX1_nextOrder_14 : decode cX1_nextOrder 14 = .ok (.aload_n 0, 1) := dk_42 (dk_at dksX1_nextOrder_0 14 rfl rfl)
theorem dX1_nextOrder_15 : decode cX1_nextOrder 15 = .ok (.getfield 148, 3) := dk_180 0 148 (dk_at dksX1_nextOrder_0 15 rfl rfl)
theorem dX1_nextOrder_18 : decode cX1_nextOrder 18 = .ok (.iload_n 2, 1) := dk_28 (dk_at dksX1_nextOrder_0 18 rfl rfl)
theorem dX1_nextOrder_19 : decode cX1_nextOrder 19 = .ok (.iconst 1, 1) := dk_4 (dk_at dksX1_nextOrder_0 19 rfl rfl)
theorem dX1_nextOrder_20 : decode cX1_nextOrder 20 = .ok (.iadd, 1) := dk_96 (dk_at dksX1_nextOrder_0 20 rfl rfl)
theorem dX1_nextOrder_21 : decode cX1_nextOrder 21 = .ok (.iaload, 1) := dk_46 (dk_at dksX1_nextOrder_0 21 rfl rfl)
theorem dX1_nextOrder_22 : decode cX1_nextOrder 22 = .ok (.if_icmp .le 9, 3) := dk_164 0 9 (dk_at dksX1_nextOrder_1 0 rfl rfl)
theorem dX1_nextOrder_25 : decode cX1_nextOrder 25 = .ok (.iinc 2 (-1), 3) := dk_132 2 255 (dk_at dksX1_nextOrder_1 3 rfl rfl)
theorem dX1_nextOrder_28 : decode cX1_nextOrder 28 = .ok (.goto (-24), 3) := dk_167 255 232 (dk_at dksX1_nextOrder_1 6 rfl rfl)
theorem dX1_nextOrder_31 : decode cX1_nextOrder 31 = .ok (.iload_n 2, 1) := dk_28 (dk_at dksX1_nextOrder_1 9 rfl rfl)
theorem dX1_nextOrder_32 : decode cX1_nextOrder 32 = .ok (.ifCond .ge 5, 3) := dk_156 0 5 (dk_at dksX1_nextOrder_1 10 rfl rfl)
theorem dX1_nextOrder_35 : decode cX1_nextOrder 35 = .ok (.iconst 0, 1) := dk_3 (dk_at dksX1_nextOrder_1 13 rfl rfl)
theorem dX1_nextOrder_36 : decode cX1_nextOrder 36 = .ok (.ireturn, 1) := dk_172 (dk_at dksX1_nextOrder_1 14 rfl rfl)
theorem dX1_nextOrder_37 : decode cX1_nextOrder 37 = .ok (.iload_n 1, 1) := dk_27 (dk_at dksX1_nextOrder_1 15 rfl rfl)
theorem dX1_nextOrder_38 : decode cX1_nextOrder 38 = .ok (.iconst 1, 1) := dk_4 (dk_at dksX1_nextOrder_1 16 rfl rfl)
theorem dX1_nextOrder_39 : decode cX1_nextOrder 39 = .ok (.isub, 1) := dk_100 (dk_at dksX1_nextOrder_1 17 rfl rfl)
theorem dX1_nextOrder_40 : decode cX1_nextOrder 40 = .ok (.istore_n 3, 1) := dk_62 (dk_at dksX1_nextOrder_1 18 rfl rfl)
theorem dX1_nextOrder_41 : decode cX1_nextOrder 41 = .ok (.aload_n 0, 1) := dk_42 (dk_at dksX1_nextOrder_1 19 rfl rfl)
theorem dX1_nextOrder_42 : decode cX1_nextOrder 42 = .ok (.getfield 148, 3) := dk_180 0 148 (dk_at dksX1_nextOrder_1 20 rfl rfl)
theorem dX1_nextOrder_45 : decode cX1_nextOrder 45 = .ok (.iload_n 3, 1) := dk_29 (dk_at dksX1_nextOrder_1 23 rfl rfl)
theorem dX1_nextOrder_46 : decode cX1_nextOrder 46 = .ok (.iaload, 1) := dk_46 (dk_at dksX1_nextOrder_2 0 rfl rfl)
theorem dX1_nextOrder_47 : decode cX1_nextOrder 47 = .ok (.aload_n 0, 1) := dk_42 (dk_at dksX1_nextOrder_2 1 rfl rfl)
theorem dX1_nextOrder_48 : decode cX1_nextOrder 48 = .ok (.getfield 148, 3) := dk_180 0 148 (dk_at dksX1_nextOrder_2 2 rfl rfl)
theorem dX1_nextOrder_51 : decode cX1_nextOrder 51 = .ok (.iload_n 2, 1) := dk_28 (dk_at dksX1_nextOrder_2 5 rfl rfl)
theorem dX1_nextOrder_52 : decode cX1_nextOrder 52 = .ok (.iaload, 1) := dk_46 (dk_at dksX1_nextOrder_2 6 rfl rfl)
theorem dX1_nextOrder_53 : decode cX1_nextOrder 53 = .ok (.if_icmp .ge 9, 3) := dk_162 0 9 (dk_at dksX1_nextOrder_2 7 rfl rfl)
theorem dX1_nextOrder_56 : decode cX1_nextOrder 56 = .ok (.iinc 3 (-1), 3) := dk_132 3 255 (dk_at dksX1_nextOrder_2 10 rfl rfl)
theorem dX1_nextOrder_59 : decode cX1_nextOrder 59 = .ok (.goto (-18), 3) := dk_167 255 238 (dk_at dksX1_nextOrder_2 13 rfl rfl)
theorem dX1_nextOrder_62 : decode cX1_nextOrder 62 = .ok (.aload_n 0, 1) := dk_42 (dk_at dksX1_nextOrder_2 16 rfl rfl)
theorem dX1_nextOrder_63 : decode cX1_nextOrder 63 = .ok (.getfield 148, 3) := dk_180 0 148 (dk_at dksX1_nextOrder_2 17 rfl rfl)
theorem dX1_nextOrder_66 : decode cX1_nextOrder 66 = .ok (.iload_n 2, 1) := dk_28 (dk_at dksX1_nextOrder_2 20 rfl rfl)
theorem dX1_nextOrder_67 : decode cX1_nextOrder 67 = .ok (.iaload, 1) := dk_46 (dk_at dksX1_nextOrder_2 21 rfl rfl)
theorem dX1_nextOrder_68 : decode cX1_nextOrder 68 = .ok (.istore 4, 2) := dk_54 4 (dk_at dksX1_nextOrder_2 22 rfl rfl)
theorem dX1_nextOrder_70 : decode cX1_nextOrder 70 = .ok (.aload_n 0, 1) := dk_42 (dk_at dksX1_nextOrder_3 0 rfl rfl)
theorem dX1_nextOrder_71 : decode cX1_nextOrder 71 = .ok (.getfield 148, 3) := dk_180 0 148 (dk_at dksX1_nextOrder_3 1 rfl rfl)
theorem dX1_nextOrder_74 : decode cX1_nextOrder 74 = .ok (.iload_n 2, 1) := dk_28 (dk_at dksX1_nextOrder_3 4 rfl rfl)
theorem dX1_nextOrder_75 : decode cX1_nextOrder 75 = .ok (.aload_n 0, 1) := dk_42 (dk_at dksX1_nextOrder_3 5 rfl rfl)
theorem dX1_nextOrder_76 : decode cX1_nextOrder 76 = .ok (.getfield 148, 3) := dk_180 0 148 (dk_at dksX1_nextOrder_3 6 rfl rfl)
theorem dX1_nextOrder_79 : decode cX1_nextOrder 79 = .ok (.iload_n 3, 1) := dk_29 (dk_at dksX1_nextOrder_3 9 rfl rfl)
theorem dX1_nextOrder_80 : decode cX1_nextOrder 80 = .ok (.iaload, 1) := dk_46 (dk_at dksX1_nextOrder_3 10 rfl rfl)
theorem dX1_nextOrder_81 : decode cX1_nextOrder 81 = .ok (.iastore, 1) := dk_79 (dk_at dksX1_nextOrder_3 11 rfl rfl)
theorem dX1_nextOrder_82 : decode cX1_nextOrder 82 = .ok (.aload_n 0, 1) := dk_42 (dk_at dksX1_nextOrder_3 12 rfl rfl)
theorem dX1_nextOrder_83 : decode cX1_nextOrder 83 = .ok (.getfield 148, 3) := dk_180 0 148 (dk_at dksX1_nextOrder_3 13 rfl rfl)
theorem dX1_nextOrder_86 : decode cX1_nextOrder 86 = .ok (.iload_n 3, 1) := dk_29 (dk_at dksX1_nextOrder_3 16 rfl rfl)
theorem dX1_nextOrder_87 : decode cX1_nextOrder 87 = .ok (.iload 4, 2) := dk_21 4 (dk_at dksX1_nextOrder_3 17 rfl rfl)
theorem dX1_nextOrder_89 : decode cX1_nextOrder 89 = .ok (.iastore, 1) := dk_79 (dk_at dksX1_nextOrder_3 19 rfl rfl)
theorem dX1_nextOrder_90 : decode cX1_nextOrder 90 = .ok (.iload_n 2, 1) := dk_28 (dk_at dksX1_nextOrder_3 20 rfl rfl)
theorem dX1_nextOrder_91 : decode cX1_nextOrder 91 = .ok (.iconst 1, 1) := dk_4 (dk_at dksX1_nextOrder_3 21 rfl rfl)
theorem dX1_nextOrder_92 : decode cX1_nextOrder 92 = .ok (.iadd, 1) := dk_96 (dk_at dksX1_nextOrder_3 22 rfl rfl)
theorem dX1_nextOrder_93 : decode cX1_nextOrder 93 = .ok (.istore 5, 2) := dk_54 5 (dk_at dksX1_nextOrder_4 0 rfl rfl)
theorem dX1_nextOrder_95 : decode cX1_nextOrder 95 = .ok (.iload_n 1, 1) := dk_27 (dk_at dksX1_nextOrder_4 2 rfl rfl)
theorem dX1_nextOrder_96 : decode cX1_nextOrder 96 = .ok (.iconst 1, 1) := dk_4 (dk_at dksX1_nextOrder_4 3 rfl rfl)
theorem dX1_nextOrder_97 : decode cX1_nextOrder 97 = .ok (.isub, 1) := dk_100 (dk_at dksX1_nextOrder_4 4 rfl rfl)
theorem dX1_nextOrder_98 : decode cX1_nextOrder 98 = .ok (.istore 6, 2) := dk_54 6 (dk_at dksX1_nextOrder_4 5 rfl rfl)
theorem dX1_nextOrder_100 : decode cX1_nextOrder 100 = .ok (.iload 5, 2) := dk_21 5 (dk_at dksX1_nextOrder_4 7 rfl rfl)
theorem dX1_nextOrder_102 : decode cX1_nextOrder 102 = .ok (.iload 6, 2) := dk_21 6 (dk_at dksX1_nextOrder_4 9 rfl rfl)
theorem dX1_nextOrder_104 : decode cX1_nextOrder 104 = .ok (.if_icmp .ge 44, 3) := dk_162 0 44 (dk_at dksX1_nextOrder_4 11 rfl rfl)
theorem dX1_nextOrder_107 : decode cX1_nextOrder 107 = .ok (.aload_n 0, 1) := dk_42 (dk_at dksX1_nextOrder_4 14 rfl rfl)
theorem dX1_nextOrder_108 : decode cX1_nextOrder 108 = .ok (.getfield 148, 3) := dk_180 0 148 (dk_at dksX1_nextOrder_4 15 rfl rfl)
theorem dX1_nextOrder_111 : decode cX1_nextOrder 111 = .ok (.iload 5, 2) := dk_21 5 (dk_at dksX1_nextOrder_4 18 rfl rfl)
theorem dX1_nextOrder_113 : decode cX1_nextOrder 113 = .ok (.iaload, 1) := dk_46 (dk_at dksX1_nextOrder_4 20 rfl rfl)
theorem dX1_nextOrder_114 : decode cX1_nextOrder 114 = .ok (.istore 7, 2) := dk_54 7 (dk_at dksX1_nextOrder_4 21 rfl rfl)
theorem dX1_nextOrder_116 : decode cX1_nextOrder 116 = .ok (.aload_n 0, 1) := dk_42 (dk_at dksX1_nextOrder_4 23 rfl rfl)
theorem dX1_nextOrder_117 : decode cX1_nextOrder 117 = .ok (.getfield 148, 3) := dk_180 0 148 (dk_at dksX1_nextOrder_5 0 rfl rfl)
theorem dX1_nextOrder_120 : decode cX1_nextOrder 120 = .ok (.iload 5, 2) := dk_21 5 (dk_at dksX1_nextOrder_5 3 rfl rfl)
theorem dX1_nextOrder_122 : decode cX1_nextOrder 122 = .ok (.aload_n 0, 1) := dk_42 (dk_at dksX1_nextOrder_5 5 rfl rfl)
theorem dX1_nextOrder_123 : decode cX1_nextOrder 123 = .ok (.getfield 148, 3) := dk_180 0 148 (dk_at dksX1_nextOrder_5 6 rfl rfl)
theorem dX1_nextOrder_126 : decode cX1_nextOrder 126 = .ok (.iload 6, 2) := dk_21 6 (dk_at dksX1_nextOrder_5 9 rfl rfl)
theorem dX1_nextOrder_128 : decode cX1_nextOrder 128 = .ok (.iaload, 1) := dk_46 (dk_at dksX1_nextOrder_5 11 rfl rfl)
theorem dX1_nextOrder_129 : decode cX1_nextOrder 129 = .ok (.iastore, 1) := dk_79 (dk_at dksX1_nextOrder_5 12 rfl rfl)
theorem dX1_nextOrder_130 : decode cX1_nextOrder 130 = .ok (.aload_n 0, 1) := dk_42 (dk_at dksX1_nextOrder_5 13 rfl rfl)
theorem dX1_nextOrder_131 : decode cX1_nextOrder 131 = .ok (.getfield 148, 3) := dk_180 0 148 (dk_at dksX1_nextOrder_5 14 rfl rfl)
theorem dX1_nextOrder_134 : decode cX1_nextOrder 134 = .ok (.iload 6, 2) := dk_21 6 (dk_at dksX1_nextOrder_5 17 rfl rfl)
theorem dX1_nextOrder_136 : decode cX1_nextOrder 136 = .ok (.iload 7, 2) := dk_21 7 (dk_at dksX1_nextOrder_5 19 rfl rfl)
theorem dX1_nextOrder_138 : decode cX1_nextOrder 138 = .ok (.iastore, 1) := dk_79 (dk_at dksX1_nextOrder_5 21 rfl rfl)
theorem dX1_nextOrder_139 : decode cX1_nextOrder 139 = .ok (.iinc 5 1, 3) := dk_132 5 1 (dk_at dksX1_nextOrder_6 0 rfl rfl)
theorem dX1_nextOrder_142 : decode cX1_nextOrder 142 = .ok (.iinc 6 (-1), 3) := dk_132 6 255 (dk_at dksX1_nextOrder_6 3 rfl rfl)
theorem dX1_nextOrder_145 : decode cX1_nextOrder 145 = .ok (.goto (-45), 3) := dk_167 255 211 (dk_at dksX1_nextOrder_6 6 rfl rfl)
theorem dX1_nextOrder_148 : decode cX1_nextOrder 148 = .ok (.iconst 1, 1) := dk_4 (dk_at dksX1_nextOrder_6 9 rfl rfl)
theorem dX1_nextOrder_149 : decode cX1_nextOrder 149 = .ok (.ireturn, 1) := dk_172 (dk_at dksX1_nextOrder_6 10 rfl rfl)
abbrev cX1_looked : ByteArray := prog_8_method_89_code
def yX1_looked : MethodName := ⟨RX1, "looked", "(I)I"⟩
def dkwX1_looked_1 : List UInt8 := [16, 247, 172]
abbrev dktX1_looked_1 : List UInt8 := dkwX1_looked_1 ++ []
def dkwX1_looked_0 : List UInt8 := [27, 3, 42, 180, 1, 103, 4, 100, 184, 0, 185, 153, 0, 12, 42, 180, 0, 142, 27, 46, 167, 0, 5]
abbrev dktX1_looked_0 : List UInt8 := dkwX1_looked_0 ++ dktX1_looked_1
theorem dksX1_looked_0 : cX1_looked.data.toList.drop 0 = dktX1_looked_0 := by decide +kernel
theorem dksX1_looked_1 : cX1_looked.data.toList.drop 23 = dktX1_looked_1 := dk_seg dksX1_looked_0 23 rfl rfl
theorem dX1_looked_0 : decode cX1_looked 0 = .ok (.iload_n 1, 1) := dk_27 (dk_at dksX1_looked_0 0 rfl rfl)
theorem dX1_looked_1 : decode cX1_looked 1 = .ok (.iconst 0, 1) := dk_3 (dk_at dksX1_looked_0 1 rfl rfl)
theorem dX1_looked_2 : decode cX1_looked 2 = .ok (.aload_n 0, 1) := dk_42 (dk_at dksX1_looked_0 2 rfl rfl)
theorem dX1_looked_3 : decode cX1_looked 3 = .ok (.getfield 359, 3) := dk_180 1 103 (dk_at dksX1_looked_0 3 rfl rfl)
theorem dX1_looked_6 : decode cX1_looked 6 = .ok (.iconst 1, 1) := dk_4 (dk_at dksX1_looked_0 6 rfl rfl)
theorem dX1_looked_7 : decode cX1_looked 7 = .ok (.isub, 1) := dk_100 (dk_at dksX1_looked_0 7 rfl rfl)
theorem dX1_looked_8 : decode cX1_looked 8 = .ok (.invokestatic 185, 3) := dk_184 0 185 (dk_at dksX1_looked_0 8 rfl rfl)
theorem dX1_looked_11 : decode cX1_looked 11 = .ok (.ifCond .eq 12, 3) := dk_153 0 12 (dk_at dksX1_looked_0 11 rfl rfl)
theorem dX1_looked_14 : decode cX1_looked 14 = .ok (.aload_n 0, 1) := dk_42 (dk_at dksX1_looked_0 14 rfl rfl)
theorem dX1_looked_15 : decode cX1_looked 15 = .ok (.getfield 142, 3) := dk_180 0 142 (dk_at dksX1_looked_0 15 rfl rfl)
theorem dX1_looked_18 : decode cX1_looked 18 = .ok (.iload_n 1, 1) := dk_27 (dk_at dksX1_looked_0 18 rfl rfl)
theorem dX1_looked_19 : decode cX1_looked 19 = .ok (.iaload, 1) := dk_46 (dk_at dksX1_looked_0 19 rfl rfl)
theorem dX1_looked_20 : decode cX1_looked 20 = .ok (.goto 5, 3) := dk_167 0 5 (dk_at dksX1_looked_0 20 rfl rfl)
theorem dX1_looked_23 : decode cX1_looked 23 = .ok (.bipush (-9), 2) := dk_16 247 (dk_at dksX1_looked_1 0 rfl rfl)
theorem dX1_looked_25 : decode cX1_looked 25 = .ok (.ireturn, 1) := dk_172 (dk_at dksX1_looked_1 2 rfl rfl)
abbrev cX1_pool : ByteArray := prog_8_method_91_code
def yX1_pool : MethodName := ⟨RX1, "pool", "(II)I"⟩
def dkwX1_pool_17 : List UInt8 := [21, 6, 92, 46, 4, 100, 79, 42, 182, 1, 106, 54, 5, 167, 255, 123, 42, 21, 4, 29, 182, 0, 246, 172]
abbrev dktX1_pool_17 : List UInt8 := dkwX1_pool_17 ++ []
def dkwX1_pool_16 : List UInt8 := [16, 8, 161, 0, 7, 4, 167, 0, 4, 2, 96, 79, 21, 7, 54, 6, 167, 255, 181, 42, 180, 0, 154]
abbrev dktX1_pool_16 : List UInt8 := dkwX1_pool_16 ++ dktX1_pool_17
def dkwX1_pool_15 : List UInt8 := [21, 6, 96, 16, 8, 100, 167, 0, 14, 16, 8, 21, 6, 104, 21, 7, 96, 16, 8, 100, 92, 46, 21, 6]
abbrev dktX1_pool_15 : List UInt8 := dkwX1_pool_15 ++ dktX1_pool_16
def dkwX1_pool_14 : List UInt8 := [180, 0, 166, 21, 6, 46, 54, 7, 42, 180, 0, 151, 21, 6, 16, 8, 161, 0, 17, 16, 8, 21, 7, 104]
abbrev dktX1_pool_14 : List UInt8 := dkwX1_pool_14 ++ dktX1_pool_15
def dkwX1_pool_13 : List UInt8 := [16, 8, 100, 92, 46, 4, 100, 79, 21, 5, 54, 6, 42, 180, 0, 166, 21, 6, 46, 155, 0, 71, 42]
abbrev dktX1_pool_13 : List UInt8 := dkwX1_pool_13 ++ dktX1_pool_14
def dkwX1_pool_12 : List UInt8 := [155, 0, 134, 21, 4, 42, 180, 0, 163, 21, 5, 46, 96, 54, 4, 132, 3, 255, 42, 180, 0, 157, 21, 5]
abbrev dktX1_pool_12 : List UInt8 := dkwX1_pool_12 ++ dktX1_pool_13
def dkwX1_pool_11 : List UInt8 := [100, 167, 0, 5, 18, 217, 79, 132, 4, 1, 167, 255, 192, 3, 54, 4, 42, 182, 1, 106, 54, 5, 21, 5]
abbrev dktX1_pool_11 : List UInt8 := dkwX1_pool_11 ++ dktX1_pool_12
def dkwX1_pool_10 : List UInt8 := [182, 0, 222, 54, 5, 42, 180, 0, 160, 21, 4, 21, 5, 18, 217, 162, 0, 13, 21, 5, 42, 180, 0, 207]
abbrev dktX1_pool_10 : List UInt8 := dkwX1_pool_10 ++ dktX1_pool_11
def dkwX1_pool_9 : List UInt8 := [180, 0, 151, 21, 4, 3, 79, 42, 21, 4, 16, 8, 108, 42, 180, 0, 207, 21, 4, 16, 8, 112]
abbrev dktX1_pool_9 : List UInt8 := dkwX1_pool_9 ++ dktX1_pool_10
def dkwX1_pool_8 : List UInt8 := [21, 4, 46, 96, 62, 132, 4, 1, 167, 255, 134, 3, 54, 4, 21, 4, 16, 64, 162, 0, 63, 42]
abbrev dktX1_pool_8 : List UInt8 := dkwX1_pool_8 ++ dktX1_pool_9
def dkwX1_pool_7 : List UInt8 := [21, 4, 21, 6, 21, 5, 164, 0, 11, 21, 6, 21, 5, 100, 167, 0, 4, 3, 79, 29, 42, 180, 0, 157]
abbrev dktX1_pool_7 : List UInt8 := dkwX1_pool_7 ++ dktX1_pool_8
def dkwX1_pool_6 : List UInt8 := [21, 4, 21, 5, 21, 6, 164, 0, 11, 21, 5, 21, 6, 100, 167, 0, 4, 3, 79, 42, 180, 0, 157]
abbrev dktX1_pool_6 : List UInt8 := dkwX1_pool_6 ++ dktX1_pool_7
def dkwX1_pool_5 : List UInt8 := [153, 0, 14, 21, 6, 3, 16, 30, 184, 0, 185, 154, 0, 9, 42, 6, 182, 0, 193, 172, 42, 180, 0, 154]
abbrev dktX1_pool_5 : List UInt8 := dkwX1_pool_5 ++ dktX1_pool_6
def dkwX1_pool_4 : List UInt8 := [42, 180, 0, 20, 16, 40, 28, 104, 21, 4, 96, 46, 54, 6, 21, 5, 3, 16, 30, 184, 0, 185]
abbrev dktX1_pool_4 : List UInt8 := dkwX1_pool_4 ++ dktX1_pool_5
def dkwX1_pool_3 : List UInt8 := [3, 54, 4, 21, 4, 16, 8, 162, 0, 121, 42, 180, 0, 20, 16, 40, 27, 104, 21, 4, 96, 46, 54, 5]
abbrev dktX1_pool_3 : List UInt8 := dkwX1_pool_3 ++ dktX1_pool_4
def dkwX1_pool_2 : List UInt8 := [16, 8, 160, 0, 14, 42, 180, 0, 17, 28, 46, 16, 8, 159, 0, 9, 42, 8, 182, 0, 193, 172, 3, 62]
abbrev dktX1_pool_2 : List UInt8 := dkwX1_pool_2 ++ dktX1_pool_3
def dkwX1_pool_1 : List UInt8 := [155, 0, 12, 42, 180, 0, 17, 28, 46, 156, 0, 9, 42, 4, 182, 0, 193, 172, 42, 180, 0, 17, 27, 46]
abbrev dktX1_pool_1 : List UInt8 := dkwX1_pool_1 ++ dktX1_pool_2
def dkwX1_pool_0 : List UInt8 := [27, 184, 0, 189, 153, 0, 10, 28, 184, 0, 189, 154, 0, 5, 2, 172, 42, 180, 0, 17, 27, 46]
abbrev dktX1_pool_0 : List UInt8 := dkwX1_pool_0 ++ dktX1_pool_1
theorem dksX1_pool_0 : cX1_pool.data.toList.drop 0 = dktX1_pool_0 := by decide +kernel
theorem dksX1_pool_1 : cX1_pool.data.toList.drop 22 = dktX1_pool_1 := dk_seg dksX1_pool_0 22 rfl rfl
theorem dksX1_pool_2 : cX1_pool.data.toList.drop 46 = dktX1_pool_2 := dk_seg dksX1_pool_1 24 rfl rfl
theorem dksX1_pool_3 : cX1_pool.data.toList.drop 70 = dktX1_pool_3 := dk_seg dksX1_pool_2 24 rfl rfl
theorem dksX1_pool_4 : cX1_pool.data.toList.drop 94 = dktX1_pool_4 := dk_seg dksX1_pool_3 24 rfl rfl
theorem dksX1_pool_5 : cX1_pool.data.toList.drop 116 = dktX1_pool_5 := dk_seg dksX1_pool_4 22 rfl rfl
theorem dksX1_pool_6 : cX1_pool.data.toList.drop 140 = dktX1_pool_6 := dk_seg dksX1_pool_5 24 rfl rfl
theorem dksX1_pool_7 : cX1_pool.data.toList.drop 163 = dktX1_pool_7 := dk_seg dksX1_pool_6 23 rfl rfl
theorem dksX1_pool_8 : cX1_pool.data.toList.drop 187 = dktX1_pool_8 := dk_seg dksX1_pool_7 24 rfl rfl
theorem dksX1_pool_9 : cX1_pool.data.toList.drop 209 = dktX1_pool_9 := dk_seg dksX1_pool_8 22 rfl rfl
theorem dksX1_pool_10 : cX1_pool.data.toList.drop 231 = dktX1_pool_10 := dk_seg dksX1_pool_9 22 rfl rfl
theorem dksX1_pool_11 : cX1_pool.data.toList.drop 255 = dktX1_pool_11 := dk_seg dksX1_pool_10 24 rfl rfl
theorem dksX1_pool_12 : cX1_pool.data.toList.drop 279 = dktX1_pool_12 := dk_seg dksX1_pool_11 24 rfl rfl
theorem dksX1_pool_13 : cX1_pool.data.toList.drop 303 = dktX1_pool_13 := dk_seg dksX1_pool_12 24 rfl rfl
theorem dksX1_pool_14 : cX1_pool.data.toList.drop 326 = dktX1_pool_14 := dk_seg dksX1_pool_13 23 rfl rfl
theorem dksX1_pool_15 : cX1_pool.data.toList.drop 350 = dktX1_pool_15 := dk_seg dksX1_pool_14 24 rfl rfl
theorem dksX1_pool_16 : cX1_pool.data.toList.drop 374 = dktX1_pool_16 := dk_seg dksX1_pool_15 24 rfl rfl
theorem dksX1_pool_17 : cX1_pool.data.toList.drop 397 = dktX1_pool_17 := dk_seg dksX1_pool_16 23 rfl rfl
theorem dX1_pool_0 : decode cX1_pool 0 = .ok (.iload_n 1, 1) := dk_27 (dk_at dksX1_pool_0 0 rfl rfl)
theorem dX1_pool_1 : decode cX1_pool 1 = .ok (.invokestatic 189, 3) := dk_184 0 189 (dk_at dksX1_pool_0 1 rfl rfl)
theorem dX1_pool_4 : decode cX1_pool 4 = .ok (.ifCond .eq 10, 3) := dk_153 0 10 (dk_at dksX1_pool_0 4 rfl rfl)
theorem dX1_pool_7 : decode cX1_pool 7 = .ok (.iload_n 2, 1) := dk_28 (dk_at dksX1_pool_0 7 rfl rfl)
theorem dX1_pool_8 : decode cX1_pool 8 = .ok (.invokestatic 189, 3) := dk_184 0 189 (dk_at dksX1_pool_0 8 rfl rfl)
theorem dX1_pool_11 : decode cX1_pool 11 = .ok (.ifCond .ne 5, 3) := dk_154 0 5 (dk_at dksX1_pool_0 11 rfl rfl)
theorem dX1_pool_14 : decode cX1_pool 14 = .ok (.iconst (-1), 1) := dk_2 (dk_at dksX1_pool_0 14 rfl rfl)
theorem dX1_pool_15 : decode cX1_pool 15 = .ok (.ireturn, 1) := dk_172 (dk_at dksX1_pool_0 15 rfl rfl)
theorem dX1_pool_16 : decode cX1_pool 16 = .ok (.aload_n 0, 1) := dk_42 (dk_at dksX1_pool_0 16 rfl rfl)
theorem dX1_pool_17 : decode cX1_pool 17 = .ok (.getfield 17, 3) := dk_180 0 17 (dk_at dksX1_pool_0 17 rfl rfl)
theorem dX1_pool_20 : decode cX1_pool 20 = .ok (.iload_n 1, 1) := dk_27 (dk_at dksX1_pool_0 20 rfl rfl)
theorem dX1_pool_21 : decode cX1_pool 21 = .ok (.iaload, 1) := dk_46 (dk_at dksX1_pool_0 21 rfl rfl)
theorem dX1_pool_22 : decode cX1_pool 22 = .ok (.ifCond .lt 12, 3) := dk_155 0 12 (dk_at dksX1_pool_1 0 rfl rfl)
theorem dX1_pool_25 : decode cX1_pool 25 = .ok (.aload_n 0, 1) := dk_42 (dk_at dksX1_pool_1 3 rfl rfl)
theorem dX1_pool_26 : decode cX1_pool 26 = .ok (.getfield 17, 3) := dk_180 0 17 (dk_at dksX1_pool_1 4 rfl rfl)
theorem dX1_pool_29 : decode cX1_pool 29 = .ok (.iload_n 2, 1) := dk_28 (dk_at dksX1_pool_1 7 rfl rfl)
theorem dX1_pool_30 : decode cX1_pool 30 = .ok (.iaload, 1) := dk_46 (dk_at dksX1_pool_1 8 rfl rfl)
theorem dX1_pool_31 : decode cX1_pool 31 = .ok (.ifCond .ge 9, 3) := dk_156 0 9 (dk_at dksX1_pool_1 9 rfl rfl)
theorem dX1_pool_34 : decode cX1_pool 34 = .ok (.aload_n 0, 1) := dk_42 (dk_at dksX1_pool_1 12 rfl rfl)
theorem dX1_pool_35 : decode cX1_pool 35 = .ok (.iconst 1, 1) := dk_4 (dk_at dksX1_pool_1 13 rfl rfl)
theorem dX1_pool_36 : decode cX1_pool 36 = .ok (.invokevirtual 193, 3) := dk_182 0 193 (dk_at dksX1_pool_1 14 rfl rfl)
theorem dX1_pool_39 : decode cX1_pool 39 = .ok (.ireturn, 1) := dk_172 (dk_at dksX1_pool_1 17 rfl rfl)
theorem dX1_pool_40 : decode cX1_pool 40 = .ok (.aload_n 0, 1) := dk_42 (dk_at dksX1_pool_1 18 rfl rfl)
theorem dX1_pool_41 : decode cX1_pool 41 = .ok (.getfield 17, 3) := dk_180 0 17 (dk_at dksX1_pool_1 19 rfl rfl)
theorem dX1_pool_44 : decode cX1_pool 44 = .ok (.iload_n 1, 1) := dk_27 (dk_at dksX1_pool_1 22 rfl rfl)
theorem dX1_pool_45 : decode cX1_pool 45 = .ok (.iaload, 1) := dk_46 (dk_at dksX1_pool_1 23 rfl rfl)
theorem dX1_pool_46 : decode cX1_pool 46 = .ok (.bipush 8, 2) := dk_16 8 (dk_at dksX1_pool_2 0 rfl rfl)
theorem dX1_pool_48 : decode cX1_pool 48 = .ok (.if_icmp .ne 14, 3) := dk_160 0 14 (dk_at dksX1_pool_2 2 rfl rfl)
theorem dX1_pool_51 : decode cX1_pool 51 = .ok (.aload_n 0, 1) := dk_42 (dk_at dksX1_pool_2 5 rfl rfl)
theorem dX1_pool_52 : decode cX1_pool 52 = .ok (.getfield 17, 3) := dk_180 0 17 (dk_at dksX1_pool_2 6 rfl rfl)
theorem dX1_pool_55 : decode cX1_pool 55 = .ok (.iload_n 2, 1) := dk_28 (dk_at dksX1_pool_2 9 rfl rfl)
theorem dX1_pool_56 : decode cX1_pool 56 = .ok (.iaload, 1) := dk_46 (dk_at dksX1_pool_2 10 rfl rfl)
theorem dX1_pool_57 : decode cX1_pool 57 = .ok (.bipush 8, 2) := dk_16 8 (dk_at dksX1_pool_2 11 rfl rfl)
theorem dX1_pool_59 : decode cX1_pool 59 = .ok (.if_icmp .eq 9, 3) := dk_159 0 9 (dk_at dksX1_pool_2 13 rfl rfl)
theorem dX1_pool_62 : decode cX1_pool 62 = .ok (.aload_n 0, 1) := dk_42 (dk_at dksX1_pool_2 16 rfl rfl)
theorem dX1_pool_63 : decode cX1_pool 63 = .ok (.iconst 5, 1) := dk_8 (dk_at dksX1_pool_2 17 rfl rfl)
theorem dX1_pool_64 : decode cX1_pool 64 = .ok (.invokevirtual 193, 3) := dk_182 0 193 (dk_at dksX1_pool_2 18 rfl rfl)
theorem dX1_pool_67 : decode cX1_pool 67 = .ok (.ireturn, 1) := dk_172 (dk_at dksX1_pool_2 21 rfl rfl)
theorem dX1_pool_68 : decode cX1_pool 68 = .ok (.iconst 0, 1) := dk_3 (dk_at dksX1_pool_2 22 rfl rfl)
theorem dX1_pool_69 : decode cX1_pool 69 = .ok (.istore_n 3, 1) := dk_62 (dk_at dksX1_pool_2 23 rfl rfl)
theorem dX1_pool_70 : decode cX1_pool 70 = .ok (.iconst 0, 1) := dk_3 (dk_at dksX1_pool_3 0 rfl rfl)
theorem dX1_pool_71 : decode cX1_pool 71 = .ok (.istore 4, 2) := dk_54 4 (dk_at dksX1_pool_3 1 rfl rfl)
theorem dX1_pool_73 : decode cX1_pool 73 = .ok (.iload 4, 2) := dk_21 4 (dk_at dksX1_pool_3 3 rfl rfl)
theorem dX1_pool_75 : decode cX1_pool 75 = .ok (.bipush 8, 2) := dk_16 8 (dk_at dksX1_pool_3 5 rfl rfl)
theorem dX1_pool_77 : decode cX1_pool 77 = .ok (.if_icmp .ge 121, 3) := dk_162 0 121 (dk_at dksX1_pool_3 7 rfl rfl)
theorem dX1_pool_80 : decode cX1_pool 80 = .ok (.aload_n 0, 1) := dk_42 (dk_at dksX1_pool_3 10 rfl rfl)
theorem dX1_pool_81 : decode cX1_pool 81 = .ok (.getfield 20, 3) := dk_180 0 20 (dk_at dksX1_pool_3 11 rfl rfl)
theorem dX1_pool_84 : decode cX1_pool 84 = .ok (.bipush 40, 2) := dk_16 40 (dk_at dksX1_pool_3 14 rfl rfl)
theorem dX1_pool_86 : decode cX1_pool 86 = .ok (.iload_n 1, 1) := dk_27 (dk_at dksX1_pool_3 16 rfl rfl)
theorem dX1_pool_87 : decode cX1_pool 87 = .ok (.imul, 1) := dk_104 (dk_at dksX1_pool_3 17 rfl rfl)
theorem dX1_pool_88 : decode cX1_pool 88 = .ok (.iload 4, 2) := dk_21 4 (dk_at dksX1_pool_3 18 rfl rfl)
theorem dX1_pool_90 : decode cX1_pool 90 = .ok (.iadd, 1) := dk_96 (dk_at dksX1_pool_3 20 rfl rfl)
theorem dX1_pool_91 : decode cX1_pool 91 = .ok (.iaload, 1) := dk_46 (dk_at dksX1_pool_3 21 rfl rfl)
theorem dX1_pool_92 : decode cX1_pool 92 = .ok (.istore 5, 2) := dk_54 5 (dk_at dksX1_pool_3 22 rfl rfl)
theorem dX1_pool_94 : decode cX1_pool 94 = .ok (.aload_n 0, 1) := dk_42 (dk_at dksX1_pool_4 0 rfl rfl)
theorem dX1_pool_95 : decode cX1_pool 95 = .ok (.getfield 20, 3) := dk_180 0 20 (dk_at dksX1_pool_4 1 rfl rfl)
theorem dX1_pool_98 : decode cX1_pool 98 = .ok (.bipush 40, 2) := dk_16 40 (dk_at dksX1_pool_4 4 rfl rfl)
theorem dX1_pool_100 : decode cX1_pool 100 = .ok (.iload_n 2, 1) := dk_28 (dk_at dksX1_pool_4 6 rfl rfl)
theorem dX1_pool_101 : decode cX1_pool 101 = .ok (.imul, 1) := dk_104 (dk_at dksX1_pool_4 7 rfl rfl)
theorem dX1_pool_102 : decode cX1_pool 102 = .ok (.iload 4, 2) := dk_21 4 (dk_at dksX1_pool_4 8 rfl rfl)
theorem dX1_pool_104 : decode cX1_pool 104 = .ok (.iadd, 1) := dk_96 (dk_at dksX1_pool_4 10 rfl rfl)
theorem dX1_pool_105 : decode cX1_pool 105 = .ok (.iaload, 1) := dk_46 (dk_at dksX1_pool_4 11 rfl rfl)
theorem dX1_pool_106 : decode cX1_pool 106 = .ok (.istore 6, 2) := dk_54 6 (dk_at dksX1_pool_4 12 rfl rfl)
theorem dX1_pool_108 : decode cX1_pool 108 = .ok (.iload 5, 2) := dk_21 5 (dk_at dksX1_pool_4 14 rfl rfl)
theorem dX1_pool_110 : decode cX1_pool 110 = .ok (.iconst 0, 1) := dk_3 (dk_at dksX1_pool_4 16 rfl rfl)
theorem dX1_pool_111 : decode cX1_pool 111 = .ok (.bipush 30, 2) := dk_16 30 (dk_at dksX1_pool_4 17 rfl rfl)
theorem dX1_pool_113 : decode cX1_pool 113 = .ok (.invokestatic 185, 3) := dk_184 0 185 (dk_at dksX1_pool_4 19 rfl rfl)
theorem dX1_pool_116 : decode cX1_pool 116 = .ok (.ifCond .eq 14, 3) := dk_153 0 14 (dk_at dksX1_pool_5 0 rfl rfl)
theorem dX1_pool_119 : decode cX1_pool 119 = .ok (.iload 6, 2) := dk_21 6 (dk_at dksX1_pool_5 3 rfl rfl)
theorem dX1_pool_121 : decode cX1_pool 121 = .ok (.iconst 0, 1) := dk_3 (dk_at dksX1_pool_5 5 rfl rfl)
theorem dX1_pool_122 : decode cX1_pool 122 = .ok (.bipush 30, 2) := dk_16 30 (dk_at dksX1_pool_5 6 rfl rfl)
theorem dX1_pool_124 : decode cX1_pool 124 = .ok (.invokestatic 185, 3) := dk_184 0 185 (dk_at dksX1_pool_5 8 rfl rfl)
theorem dX1_pool_127 : decode cX1_pool 127 = .ok (.ifCond .ne 9, 3) := dk_154 0 9 (dk_at dksX1_pool_5 11 rfl rfl)
theorem dX1_pool_130 : decode cX1_pool 130 = .ok (.aload_n 0, 1) := dk_42 (dk_at dksX1_pool_5 14 rfl rfl)
theorem dX1_pool_131 : decode cX1_pool 131 = .ok (.iconst 3, 1) := dk_6 (dk_at dksX1_pool_5 15 rfl rfl)
theorem dX1_pool_132 : decode cX1_pool 132 = .ok (.invokevirtual 193, 3) := dk_182 0 193 (dk_at dksX1_pool_5 16 rfl rfl)
theorem dX1_pool_135 : decode cX1_pool 135 = .ok (.ireturn, 1) := dk_172 (dk_at dksX1_pool_5 19 rfl rfl)
theorem dX1_pool_136 : decode cX1_pool 136 = .ok (.aload_n 0, 1) := dk_42 (dk_at dksX1_pool_5 20 rfl rfl)
theorem dX1_pool_137 : decode cX1_pool 137 = .ok (.getfield 154, 3) := dk_180 0 154 (dk_at dksX1_pool_5 21 rfl rfl)
theorem dX1_pool_140 : decode cX1_pool 140 = .ok (.iload 4, 2) := dk_21 4 (dk_at dksX1_pool_6 0 rfl rfl)
theorem dX1_pool_142 : decode cX1_pool 142 = .ok (.iload 5, 2) := dk_21 5 (dk_at dksX1_pool_6 2 rfl rfl)
theorem dX1_pool_144 : decode cX1_pool 144 = .ok (.iload 6, 2) := dk_21 6 (dk_at dksX1_pool_6 4 rfl rfl)
theorem dX1_pool_146 : decode cX1_pool 146 = .ok (.if_icmp .le 11, 3) := dk_164 0 11 (dk_at dksX1_pool_6 6 rfl rfl)
theorem dX1_pool_149 : decode cX1_pool 149 = .ok (.iload 5, 2) := dk_21 5 (dk_at dksX1_pool_6 9 rfl rfl)
theorem dX1_pool_151 : decode cX1_pool 151 = .ok (.iload 6, 2) := dk_21 6 (dk_at dksX1_pool_6 11 rfl rfl)
theorem dX1_pool_153 : decode cX1_pool 153 = .ok (.isub, 1) := dk_100 (dk_at dksX1_pool_6 13 rfl rfl)
theorem dX1_pool_154 : decode cX1_pool 154 = .ok (.goto 4, 3) := dk_167 0 4 (dk_at dksX1_pool_6 14 rfl rfl)
theorem dX1_pool_157 : decode cX1_pool 157 = .ok (.iconst 0, 1) := dk_3 (dk_at dksX1_pool_6 17 rfl rfl)
theorem dX1_pool_158 : decode cX1_pool 158 = .ok (.iastore, 1) := dk_79 (dk_at dksX1_pool_6 18 rfl rfl)
theorem dX1_pool_159 : decode cX1_pool 159 = .ok (.aload_n 0, 1) := dk_42 (dk_at dksX1_pool_6 19 rfl rfl)
theorem dX1_pool_160 : decode cX1_pool 160 = .ok (.getfield 157, 3) := dk_180 0 157 (dk_at dksX1_pool_6 20 rfl rfl)
theorem dX1_pool_163 : decode cX1_pool 163 = .ok (.iload 4, 2) := dk_21 4 (dk_at dksX1_pool_7 0 rfl rfl)
theorem dX1_pool_165 : decode cX1_pool 165 = .ok (.iload 6, 2) := dk_21 6 (dk_at dksX1_pool_7 2 rfl rfl)
theorem dX1_pool_167 : decode cX1_pool 167 = .ok (.iload 5, 2) := dk_21 5 (dk_at dksX1_pool_7 4 rfl rfl)
theorem dX1_pool_169 : decode cX1_pool 169 = .ok (.if_icmp .le 11, 3) := dk_164 0 11 (dk_at dksX1_pool_7 6 rfl rfl)
theorem dX1_pool_172 : decode cX1_pool 172 = .ok (.iload 6, 2) := dk_21 6 (dk_at dksX1_pool_7 9 rfl rfl)
theorem dX1_pool_174 : decode cX1_pool 174 = .ok (.iload 5, 2) := dk_21 5 (dk_at dksX1_pool_7 11 rfl rfl)
theorem dX1_pool_176 : decode cX1_pool 176 = .ok (.isub, 1) := dk_100 (dk_at dksX1_pool_7 13 rfl rfl)
theorem dX1_pool_177 : decode cX1_pool 177 = .ok (.goto 4, 3) := dk_167 0 4 (dk_at dksX1_pool_7 14 rfl rfl)
theorem dX1_pool_180 : decode cX1_pool 180 = .ok (.iconst 0, 1) := dk_3 (dk_at dksX1_pool_7 17 rfl rfl)
theorem dX1_pool_181 : decode cX1_pool 181 = .ok (.iastore, 1) := dk_79 (dk_at dksX1_pool_7 18 rfl rfl)
theorem dX1_pool_182 : decode cX1_pool 182 = .ok (.iload_n 3, 1) := dk_29 (dk_at dksX1_pool_7 19 rfl rfl)
theorem dX1_pool_183 : decode cX1_pool 183 = .ok (.aload_n 0, 1) := dk_42 (dk_at dksX1_pool_7 20 rfl rfl)
theorem dX1_pool_184 : decode cX1_pool 184 = .ok (.getfield 157, 3) := dk_180 0 157 (dk_at dksX1_pool_7 21 rfl rfl)
theorem dX1_pool_187 : decode cX1_pool 187 = .ok (.iload 4, 2) := dk_21 4 (dk_at dksX1_pool_8 0 rfl rfl)
theorem dX1_pool_189 : decode cX1_pool 189 = .ok (.iaload, 1) := dk_46 (dk_at dksX1_pool_8 2 rfl rfl)
theorem dX1_pool_190 : decode cX1_pool 190 = .ok (.iadd, 1) := dk_96 (dk_at dksX1_pool_8 3 rfl rfl)
theorem dX1_pool_191 : decode cX1_pool 191 = .ok (.istore_n 3, 1) := dk_62 (dk_at dksX1_pool_8 4 rfl rfl)
theorem dX1_pool_192 : decode cX1_pool 192 = .ok (.iinc 4 1, 3) := dk_132 4 1 (dk_at dksX1_pool_8 5 rfl rfl)
theorem dX1_pool_195 : decode cX1_pool 195 = .ok (.goto (-122), 3) := dk_167 255 134 (dk_at dksX1_pool_8 8 rfl rfl)
theorem dX1_pool_198 : decode cX1_pool 198 = .ok (.iconst 0, 1) := dk_3 (dk_at dksX1_pool_8 11 rfl rfl)
theorem dX1_pool_199 : decode cX1_pool 199 = .ok (.istore 4, 2) := dk_54 4 (dk_at dksX1_pool_8 12 rfl rfl)
theorem dX1_pool_201 : decode cX1_pool 201 = .ok (.iload 4, 2) := dk_21 4 (dk_at dksX1_pool_8 14 rfl rfl)
theorem dX1_pool_203 : decode cX1_pool 203 = .ok (.bipush 64, 2) := dk_16 64 (dk_at dksX1_pool_8 16 rfl rfl)
theorem dX1_pool_205 : decode cX1_pool 205 = .ok (.if_icmp .ge 63, 3) := dk_162 0 63 (dk_at dksX1_pool_8 18 rfl rfl)
theorem dX1_pool_208 : decode cX1_pool 208 = .ok (.aload_n 0, 1) := dk_42 (dk_at dksX1_pool_8 21 rfl rfl)
theorem dX1_pool_209 : decode cX1_pool 209 = .ok (.getfield 151, 3) := dk_180 0 151 (dk_at dksX1_pool_9 0 rfl rfl)
theorem dX1_pool_212 : decode cX1_pool 212 = .ok (.iload 4, 2) := dk_21 4 (dk_at dksX1_pool_9 3 rfl rfl)
theorem dX1_pool_214 : decode cX1_pool 214 = .ok (.iconst 0, 1) := dk_3 (dk_at dksX1_pool_9 5 rfl rfl)
theorem dX1_pool_215 : decode cX1_pool 215 = .ok (.iastore, 1) := dk_79 (dk_at dksX1_pool_9 6 rfl rfl)
theorem dX1_pool_216 : decode cX1_pool 216 = .ok (.aload_n 0, 1) := dk_42 (dk_at dksX1_pool_9 7 rfl rfl)
theorem dX1_pool_217 : decode cX1_pool 217 = .ok (.iload 4, 2) := dk_21 4 (dk_at dksX1_pool_9 8 rfl rfl)
theorem dX1_pool_219 : decode cX1_pool 219 = .ok (.bipush 8, 2) := dk_16 8 (dk_at dksX1_pool_9 10 rfl rfl)
theorem dX1_pool_221 : decode cX1_pool 221 = .ok (.idiv, 1) := dk_108 (dk_at dksX1_pool_9 12 rfl rfl)
theorem dX1_pool_222 : decode cX1_pool 222 = .ok (.aload_n 0, 1) := dk_42 (dk_at dksX1_pool_9 13 rfl rfl)
theorem dX1_pool_223 : decode cX1_pool 223 = .ok (.getfield 207, 3) := dk_180 0 207 (dk_at dksX1_pool_9 14 rfl rfl)
theorem dX1_pool_226 : decode cX1_pool 226 = .ok (.iload 4, 2) := dk_21 4 (dk_at dksX1_pool_9 17 rfl rfl)
theorem dX1_pool_228 : decode cX1_pool 228 = .ok (.bipush 8, 2) := dk_16 8 (dk_at dksX1_pool_9 19 rfl rfl)
theorem dX1_pool_230 : decode cX1_pool 230 = .ok (.irem, 1) := dk_112 (dk_at dksX1_pool_9 21 rfl rfl)
theorem dX1_pool_231 : decode cX1_pool 231 = .ok (.invokevirtual 222, 3) := dk_182 0 222 (dk_at dksX1_pool_10 0 rfl rfl)
theorem dX1_pool_234 : decode cX1_pool 234 = .ok (.istore 5, 2) := dk_54 5 (dk_at dksX1_pool_10 3 rfl rfl)
theorem dX1_pool_236 : decode cX1_pool 236 = .ok (.aload_n 0, 1) := dk_42 (dk_at dksX1_pool_10 5 rfl rfl)
theorem dX1_pool_237 : decode cX1_pool 237 = .ok (.getfield 160, 3) := dk_180 0 160 (dk_at dksX1_pool_10 6 rfl rfl)
theorem dX1_pool_240 : decode cX1_pool 240 = .ok (.iload 4, 2) := dk_21 4 (dk_at dksX1_pool_10 9 rfl rfl)
theorem dX1_pool_242 : decode cX1_pool 242 = .ok (.iload 5, 2) := dk_21 5 (dk_at dksX1_pool_10 11 rfl rfl)
theorem dX1_pool_244 : decode cX1_pool 244 = .ok (.ldc 217, 2) := dk_18 217 (dk_at dksX1_pool_10 13 rfl rfl)
theorem dX1_pool_246 : decode cX1_pool 246 = .ok (.if_icmp .ge 13, 3) := dk_162 0 13 (dk_at dksX1_pool_10 15 rfl rfl)
theorem dX1_pool_249 : decode cX1_pool 249 = .ok (.iload 5, 2) := dk_21 5 (dk_at dksX1_pool_10 18 rfl rfl)
theorem dX1_pool_251 : decode cX1_pool 251 = .ok (.aload_n 0, 1) := dk_42 (dk_at dksX1_pool_10 20 rfl rfl)
theorem dX1_pool_252 : decode cX1_pool 252 = .ok (.getfield 207, 3) := dk_180 0 207 (dk_at dksX1_pool_10 21 rfl rfl)
theorem dX1_pool_255 : decode cX1_pool 255 = .ok (.isub, 1) := dk_100 (dk_at dksX1_pool_11 0 rfl rfl)
theorem dX1_pool_256 : decode cX1_pool 256 = .ok (.goto 5, 3) := dk_167 0 5 (dk_at dksX1_pool_11 1 rfl rfl)
theorem dX1_pool_259 : decode cX1_pool 259 = .ok (.ldc 217, 2) := dk_18 217 (dk_at dksX1_pool_11 4 rfl rfl)
theorem dX1_pool_261 : decode cX1_pool 261 = .ok (.iastore, 1) := dk_79 (dk_at dksX1_pool_11 6 rfl rfl)
theorem dX1_pool_262 : decode cX1_pool 262 = .ok (.iinc 4 1, 3) := dk_132 4 1 (dk_at dksX1_pool_11 7 rfl rfl)
theorem dX1_pool_265 : decode cX1_pool 265 = .ok (.goto (-64), 3) := dk_167 255 192 (dk_at dksX1_pool_11 10 rfl rfl)
theorem dX1_pool_268 : decode cX1_pool 268 = .ok (.iconst 0, 1) := dk_3 (dk_at dksX1_pool_11 13 rfl rfl)
theorem dX1_pool_269 : decode cX1_pool 269 = .ok (.istore 4, 2) := dk_54 4 (dk_at dksX1_pool_11 14 rfl rfl)
theorem dX1_pool_271 : decode cX1_pool 271 = .ok (.aload_n 0, 1) := dk_42 (dk_at dksX1_pool_11 16 rfl rfl)
theorem dX1_pool_272 : decode cX1_pool 272 = .ok (.invokevirtual 362, 3) := dk_182 1 106 (dk_at dksX1_pool_11 17 rfl rfl)
theorem dX1_pool_275 : decode cX1_pool 275 = .ok (.istore 5, 2) := dk_54 5 (dk_at dksX1_pool_11 20 rfl rfl)
theorem dX1_pool_277 : decode cX1_pool 277 = .ok (.iload 5, 2) := dk_21 5 (dk_at dksX1_pool_11 22 rfl rfl)
theorem dX1_pool_279 : decode cX1_pool 279 = .ok (.ifCond .lt 134, 3) := dk_155 0 134 (dk_at dksX1_pool_12 0 rfl rfl)
theorem dX1_pool_282 : decode cX1_pool 282 = .ok (.iload 4, 2) := dk_21 4 (dk_at dksX1_pool_12 3 rfl rfl)
theorem dX1_pool_284 : decode cX1_pool 284 = .ok (.aload_n 0, 1) := dk_42 (dk_at dksX1_pool_12 5 rfl rfl)
theorem dX1_pool_285 : decode cX1_pool 285 = .ok (.getfield 163, 3) := dk_180 0 163 (dk_at dksX1_pool_12 6 rfl rfl)
theorem dX1_pool_288 : decode cX1_pool 288 = .ok (.iload 5, 2) := dk_21 5 (dk_at dksX1_pool_12 9 rfl rfl)
theorem dX1_pool_290 : decode cX1_pool 290 = .ok (.iaload, 1) := dk_46 (dk_at dksX1_pool_12 11 rfl rfl)
theorem dX1_pool_291 : decode cX1_pool 291 = .ok (.iadd, 1) := dk_96 (dk_at dksX1_pool_12 12 rfl rfl)
theorem dX1_pool_292 : decode cX1_pool 292 = .ok (.istore 4, 2) := dk_54 4 (dk_at dksX1_pool_12 13 rfl rfl)
theorem dX1_pool_294 : decode cX1_pool 294 = .ok (.iinc 3 (-1), 3) := dk_132 3 255 (dk_at dksX1_pool_12 15 rfl rfl)
theorem dX1_pool_297 : decode cX1_pool 297 = .ok (.aload_n 0, 1) := dk_42 (dk_at dksX1_pool_12 18 rfl rfl)
theorem dX1_pool_298 : decode cX1_pool 298 = .ok (.getfield 157, 3) := dk_180 0 157 (dk_at dksX1_pool_12 19 rfl rfl)
theorem dX1_pool_301 : decode cX1_pool 301 = .ok (.iload 5, 2) := dk_21 5 (dk_at dksX1_pool_12 22 rfl rfl)
theorem dX1_pool_303 : decode cX1_pool 303 = .ok (.bipush 8, 2) := dk_16 8 (dk_at dksX1_pool_13 0 rfl rfl)
theorem dX1_pool_305 : decode cX1_pool 305 = .ok (.isub, 1) := dk_100 (dk_at dksX1_pool_13 2 rfl rfl)
theorem dX1_pool_306 : decode cX1_pool 306 = .ok (.dup2, 1) := dk_92 (dk_at dksX1_pool_13 3 rfl rfl)
theorem dX1_pool_307 : decode cX1_pool 307 = .ok (.iaload, 1) := dk_46 (dk_at dksX1_pool_13 4 rfl rfl)
theorem dX1_pool_308 : decode cX1_pool 308 = .ok (.iconst 1, 1) := dk_4 (dk_at dksX1_pool_13 5 rfl rfl)
theorem dX1_pool_309 : decode cX1_pool 309 = .ok (.isub, 1) := dk_100 (dk_at dksX1_pool_13 6 rfl rfl)
theorem dX1_pool_310 : decode cX1_pool 310 = .ok (.iastore, 1) := dk_79 (dk_at dksX1_pool_13 7 rfl rfl)
theorem dX1_pool_311 : decode cX1_pool 311 = .ok (.iload 5, 2) := dk_21 5 (dk_at dksX1_pool_13 8 rfl rfl)
theorem dX1_pool_313 : decode cX1_pool 313 = .ok (.istore 6, 2) := dk_54 6 (dk_at dksX1_pool_13 10 rfl rfl)
theorem dX1_pool_315 : decode cX1_pool 315 = .ok (.aload_n 0, 1) := dk_42 (dk_at dksX1_pool_13 12 rfl rfl)
theorem dX1_pool_316 : decode cX1_pool 316 = .ok (.getfield 166, 3) := dk_180 0 166 (dk_at dksX1_pool_13 13 rfl rfl)
theorem dX1_pool_319 : decode cX1_pool 319 = .ok (.iload 6, 2) := dk_21 6 (dk_at dksX1_pool_13 16 rfl rfl)
theorem dX1_pool_321 : decode cX1_pool 321 = .ok (.iaload, 1) := dk_46 (dk_at dksX1_pool_13 18 rfl rfl)
theorem dX1_pool_322 : decode cX1_pool 322 = .ok (.ifCond .lt 71, 3) := dk_155 0 71 (dk_at dksX1_pool_13 19 rfl rfl)
theorem dX1_pool_325 : decode cX1_pool 325 = .ok (.aload_n 0, 1) := dk_42 (dk_at dksX1_pool_13 22 rfl rfl)
theorem dX1_pool_326 : decode cX1_pool 326 = .ok (.getfield 166, 3) := dk_180 0 166 (dk_at dksX1_pool_14 0 rfl rfl)
theorem dX1_pool_329 : decode cX1_pool 329 = .ok (.iload 6, 2) := dk_21 6 (dk_at dksX1_pool_14 3 rfl rfl)
theorem dX1_pool_331 : decode cX1_pool 331 = .ok (.iaload, 1) := dk_46 (dk_at dksX1_pool_14 5 rfl rfl)
theorem dX1_pool_332 : decode cX1_pool 332 = .ok (.istore 7, 2) := dk_54 7 (dk_at dksX1_pool_14 6 rfl rfl)
theorem dX1_pool_334 : decode cX1_pool 334 = .ok (.aload_n 0, 1) := dk_42 (dk_at dksX1_pool_14 8 rfl rfl)
theorem dX1_pool_335 : decode cX1_pool 335 = .ok (.getfield 151, 3) := dk_180 0 151 (dk_at dksX1_pool_14 9 rfl rfl)
theorem dX1_pool_338 : decode cX1_pool 338 = .ok (.iload 6, 2) := dk_21 6 (dk_at dksX1_pool_14 12 rfl rfl)
theorem dX1_pool_340 : decode cX1_pool 340 = .ok (.bipush 8, 2) := dk_16 8 (dk_at dksX1_pool_14 14 rfl rfl)
theorem dX1_pool_342 : decode cX1_pool 342 = .ok (.if_icmp .lt 17, 3) := dk_161 0 17 (dk_at dksX1_pool_14 16 rfl rfl)
theorem dX1_pool_345 : decode cX1_pool 345 = .ok (.bipush 8, 2) := dk_16 8 (dk_at dksX1_pool_14 19 rfl rfl)
theorem dX1_pool_347 : decode cX1_pool 347 = .ok (.iload 7, 2) := dk_21 7 (dk_at dksX1_pool_14 21 rfl rfl)
theorem dX1_pool_349 : decode cX1_pool 349 = .ok (.imul, 1) := dk_104 (dk_at dksX1_pool_14 23 rfl rfl)
theorem dX1_pool_350 : decode cX1_pool 350 = .ok (.iload 6, 2) := dk_21 6 (dk_at dksX1_pool_15 0 rfl rfl)
theorem dX1_pool_352 : decode cX1_pool 352 = .ok (.iadd, 1) := dk_96 (dk_at dksX1_pool_15 2 rfl rfl)
theorem dX1_pool_353 : decode cX1_pool 353 = .ok (.bipush 8, 2) := dk_16 8 (dk_at dksX1_pool_15 3 rfl rfl)
theorem dX1_pool_355 : decode cX1_pool 355 = .ok (.isub, 1) := dk_100 (dk_at dksX1_pool_15 5 rfl rfl)
theorem dX1_pool_356 : decode cX1_pool 356 = .ok (.goto 14, 3) := dk_167 0 14 (dk_at dksX1_pool_15 6 rfl rfl)
theorem dX1_pool_359 : decode cX1_pool 359 = .ok (.bipush 8, 2) := dk_16 8 (dk_at dksX1_pool_15 9 rfl rfl)
theorem dX1_pool_361 : decode cX1_pool 361 = .ok (.iload 6, 2) := dk_21 6 (dk_at dksX1_pool_15 11 rfl rfl)
theorem dX1_pool_363 : decode cX1_pool 363 = .ok (.imul, 1) := dk_104 (dk_at dksX1_pool_15 13 rfl rfl)
theorem dX1_pool_364 : decode cX1_pool 364 = .ok (.iload 7, 2) := dk_21 7 (dk_at dksX1_pool_15 14 rfl rfl)
theorem dX1_pool_366 : decode cX1_pool 366 = .ok (.iadd, 1) := dk_96 (dk_at dksX1_pool_15 16 rfl rfl)
theorem dX1_pool_367 : decode cX1_pool 367 = .ok (.bipush 8, 2) := dk_16 8 (dk_at dksX1_pool_15 17 rfl rfl)
theorem dX1_pool_369 : decode cX1_pool 369 = .ok (.isub, 1) := dk_100 (dk_at dksX1_pool_15 19 rfl rfl)
theorem dX1_pool_370 : decode cX1_pool 370 = .ok (.dup2, 1) := dk_92 (dk_at dksX1_pool_15 20 rfl rfl)
theorem dX1_pool_371 : decode cX1_pool 371 = .ok (.iaload, 1) := dk_46 (dk_at dksX1_pool_15 21 rfl rfl)
theorem dX1_pool_372 : decode cX1_pool 372 = .ok (.iload 6, 2) := dk_21 6 (dk_at dksX1_pool_15 22 rfl rfl)
theorem dX1_pool_374 : decode cX1_pool 374 = .ok (.bipush 8, 2) := dk_16 8 (dk_at dksX1_pool_16 0 rfl rfl)
theorem dX1_pool_376 : decode cX1_pool 376 = .ok (.if_icmp .lt 7, 3) := dk_161 0 7 (dk_at dksX1_pool_16 2 rfl rfl)
theorem dX1_pool_379 : decode cX1_pool 379 = .ok (.iconst 1, 1) := dk_4 (dk_at dksX1_pool_16 5 rfl rfl)
theorem dX1_pool_380 : decode cX1_pool 380 = .ok (.goto 4, 3) := dk_167 0 4 (dk_at dksX1_pool_16 6 rfl rfl)
theorem dX1_pool_383 : decode cX1_pool 383 = .ok (.iconst (-1), 1) := dk_2 (dk_at dksX1_pool_16 9 rfl rfl)
theorem dX1_pool_384 : decode cX1_pool 384 = .ok (.iadd, 1) := dk_96 (dk_at dksX1_pool_16 10 rfl rfl)
theorem dX1_pool_385 : decode cX1_pool 385 = .ok (.iastore, 1) := dk_79 (dk_at dksX1_pool_16 11 rfl rfl)
theorem dX1_pool_386 : decode cX1_pool 386 = .ok (.iload 7, 2) := dk_21 7 (dk_at dksX1_pool_16 12 rfl rfl)
theorem dX1_pool_388 : decode cX1_pool 388 = .ok (.istore 6, 2) := dk_54 6 (dk_at dksX1_pool_16 14 rfl rfl)
theorem dX1_pool_390 : decode cX1_pool 390 = .ok (.goto (-75), 3) := dk_167 255 181 (dk_at dksX1_pool_16 16 rfl rfl)
theorem dX1_pool_393 : decode cX1_pool 393 = .ok (.aload_n 0, 1) := dk_42 (dk_at dksX1_pool_16 19 rfl rfl)
theorem dX1_pool_394 : decode cX1_pool 394 = .ok (.getfield 154, 3) := dk_180 0 154 (dk_at dksX1_pool_16 20 rfl rfl)
theorem dX1_pool_397 : decode cX1_pool 397 = .ok (.iload 6, 2) := dk_21 6 (dk_at dksX1_pool_17 0 rfl rfl)
theorem dX1_pool_399 : decode cX1_pool 399 = .ok (.dup2, 1) := dk_92 (dk_at dksX1_pool_17 2 rfl rfl)
theorem dX1_pool_400 : decode cX1_pool 400 = .ok (.iaload, 1) := dk_46 (dk_at dksX1_pool_17 3 rfl rfl)
theorem dX1_pool_401 : decode cX1_pool 401 = .ok (.iconst 1, 1) := dk_4 (dk_at dksX1_pool_17 4 rfl rfl)
theorem dX1_pool_402 : decode cX1_pool 402 = .ok (.isub, 1) := dk_100 (dk_at dksX1_pool_17 5 rfl rfl)
theorem dX1_pool_403 : decode cX1_pool 403 = .ok (.iastore, 1) := dk_79 (dk_at dksX1_pool_17 6 rfl rfl)
theorem dX1_pool_404 : decode cX1_pool 404 = .ok (.aload_n 0, 1) := dk_42 (dk_at dksX1_pool_17 7 rfl rfl)
theorem dX1_pool_405 : decode cX1_pool 405 = .ok (.invokevirtual 362, 3) := dk_182 1 106 (dk_at dksX1_pool_17 8 rfl rfl)
theorem dX1_pool_408 : decode cX1_pool 408 = .ok (.istore 5, 2) := dk_54 5 (dk_at dksX1_pool_17 11 rfl rfl)
theorem dX1_pool_410 : decode cX1_pool 410 = .ok (.goto (-133), 3) := dk_167 255 123 (dk_at dksX1_pool_17 13 rfl rfl)
theorem dX1_pool_413 : decode cX1_pool 413 = .ok (.aload_n 0, 1) := dk_42 (dk_at dksX1_pool_17 16 rfl rfl)
theorem dX1_pool_414 : decode cX1_pool 414 = .ok (.iload 4, 2) := dk_21 4 (dk_at dksX1_pool_17 17 rfl rfl)
theorem dX1_pool_416 : decode cX1_pool 416 = .ok (.iload_n 3, 1) := dk_29 (dk_at dksX1_pool_17 19 rfl rfl)
theorem dX1_pool_417 : decode cX1_pool 417 = .ok (.invokevirtual 246, 3) := dk_182 0 246 (dk_at dksX1_pool_17 20 rfl rfl)
theorem dX1_pool_420 : decode cX1_pool 420 = .ok (.ireturn, 1) := dk_172 (dk_at dksX1_pool_17 23 rfl rfl)
abbrev cX1_nextBrought : ByteArray := prog_8_method_90_code
def yX1_nextBrought : MethodName := ⟨RX1, "nextBrought", "()I"⟩
def dkwX1_nextBrought_13 : List UInt8 := [29, 167, 0, 4, 28, 61, 132, 3, 1, 167, 255, 199, 28, 172]
abbrev dktX1_nextBrought_13 : List UInt8 := dkwX1_nextBrought_13 ++ []
def dkwX1_nextBrought_12 : List UInt8 := [18, 217, 162, 0, 26, 28, 155, 0, 18, 42, 180, 0, 163, 29, 46, 42, 180, 0, 163, 28, 46, 162, 0, 7]
abbrev dktX1_nextBrought_12 : List UInt8 := dkwX1_nextBrought_12 ++ dktX1_nextBrought_13
def dkwX1_nextBrought_11 : List UInt8 := [29, 16, 16, 162, 0, 57, 42, 180, 0, 157, 29, 16, 8, 100, 46, 158, 0, 37, 42, 180, 0, 163, 29, 46]
abbrev dktX1_nextBrought_11 : List UInt8 := dkwX1_nextBrought_11 ++ dktX1_nextBrought_12
def dkwX1_nextBrought_10 : List UInt8 := [180, 0, 166, 29, 21, 4, 79, 4, 60, 132, 2, 1, 167, 255, 84, 167, 255, 73, 16, 247, 61, 16, 8, 62]
abbrev dktX1_nextBrought_10 : List UInt8 := dkwX1_nextBrought_10 ++ dktX1_nextBrought_11
def dkwX1_nextBrought_9 : List UInt8 := [162, 0, 33, 42, 180, 0, 163, 29, 42, 180, 0, 163, 21, 4, 46, 42, 180, 0, 160, 28, 46, 100, 79, 42]
abbrev dktX1_nextBrought_9 : List UInt8 := dkwX1_nextBrought_9 ++ dktX1_nextBrought_10
def dkwX1_nextBrought_8 : List UInt8 := [162, 0, 56, 42, 180, 0, 163, 21, 4, 46, 42, 180, 0, 160, 28, 46, 100, 42, 180, 0, 163, 29, 46]
abbrev dktX1_nextBrought_8 : List UInt8 := dkwX1_nextBrought_8 ++ dktX1_nextBrought_9
def dkwX1_nextBrought_7 : List UInt8 := [21, 4, 29, 79, 4, 60, 42, 180, 0, 151, 28, 46, 158, 0, 68, 42, 180, 0, 163, 21, 4, 46, 18, 217]
abbrev dktX1_nextBrought_7 : List UInt8 := dkwX1_nextBrought_7 ++ dktX1_nextBrought_8
def dkwX1_nextBrought_6 : List UInt8 := [180, 0, 163, 21, 4, 42, 180, 0, 163, 29, 46, 42, 180, 0, 160, 28, 46, 96, 79, 42, 180, 0, 166]
abbrev dktX1_nextBrought_6 : List UInt8 := dkwX1_nextBrought_6 ++ dktX1_nextBrought_7
def dkwX1_nextBrought_5 : List UInt8 := [180, 0, 163, 29, 46, 42, 180, 0, 160, 28, 46, 96, 42, 180, 0, 163, 21, 4, 46, 162, 0, 33, 42]
abbrev dktX1_nextBrought_5 : List UInt8 := dkwX1_nextBrought_5 ++ dktX1_nextBrought_6
def dkwX1_nextBrought_4 : List UInt8 := [42, 180, 0, 160, 28, 46, 18, 217, 162, 0, 67, 42, 180, 0, 163, 29, 46, 18, 217, 162, 0, 56, 42]
abbrev dktX1_nextBrought_4 : List UInt8 := dkwX1_nextBrought_4 ++ dktX1_nextBrought_5
def dkwX1_nextBrought_3 : List UInt8 := [3, 60, 3, 61, 28, 16, 64, 162, 0, 172, 28, 16, 8, 108, 62, 16, 8, 28, 16, 8, 112, 96, 54, 4]
abbrev dktX1_nextBrought_3 : List UInt8 := dkwX1_nextBrought_3 ++ dktX1_nextBrought_4
def dkwX1_nextBrought_2 : List UInt8 := [79, 42, 180, 0, 166, 16, 8, 27, 96, 16, 247, 79, 132, 1, 1, 167, 255, 196, 4, 60, 27, 153, 0, 185]
abbrev dktX1_nextBrought_2 : List UInt8 := dkwX1_nextBrought_2 ++ dktX1_nextBrought_3
def dkwX1_nextBrought_1 : List UInt8 := [167, 0, 5, 18, 217, 79, 42, 180, 0, 163, 16, 8, 27, 96, 18, 217, 79, 42, 180, 0, 166, 27, 16, 247]
abbrev dktX1_nextBrought_1 : List UInt8 := dkwX1_nextBrought_1 ++ dktX1_nextBrought_2
def dkwX1_nextBrought_0 : List UInt8 := [3, 60, 27, 16, 8, 162, 0, 60, 42, 180, 0, 163, 27, 42, 180, 0, 154, 27, 46, 158, 0, 7, 3]
abbrev dktX1_nextBrought_0 : List UInt8 := dkwX1_nextBrought_0 ++ dktX1_nextBrought_1
theorem dksX1_nextBrought_0 : cX1_nextBrought.data.toList.drop 0 = dktX1_nextBrought_0 := by decide +kernel
theorem dksX1_nextBrought_1 : cX1_nextBrought.data.toList.drop 23 = dktX1_nextBrought_1 := dk_seg dksX1_nextBrought_0 23 rfl rfl
theorem dksX1_nextBrought_2 : cX1_nextBrought.data.toList.drop 47 = dktX1_nextBrought_2 := dk_seg dksX1_nextBrought_1 24 rfl rfl
theorem dksX1_nextBrought_3 : cX1_nextBrought.data.toList.drop 71 = dktX1_nextBrought_3 := dk_seg dksX1_nextBrought_2 24 rfl rfl
theorem dksX1_nextBrought_4 : cX1_nextBrought.data.toList.drop 95 = dktX1_nextBrought_4 := dk_seg dksX1_nextBrought_3 24 rfl rfl
theorem dksX1_nextBrought_5 : cX1_nextBrought.data.toList.drop 118 = dktX1_nextBrought_5 := dk_seg dksX1_nextBrought_4 23 rfl rfl
theorem dksX1_nextBrought_6 : cX1_nextBrought.data.toList.drop 141 = dktX1_nextBrought_6 := dk_seg dksX1_nextBrought_5 23 rfl rfl
theorem dksX1_nextBrought_7 : cX1_nextBrought.data.toList.drop 164 = dktX1_nextBrought_7 := dk_seg dksX1_nextBrought_6 23 rfl rfl
theorem dksX1_nextBrought_8 : cX1_nextBrought.data.toList.drop 188 = dktX1_nextBrought_8 := dk_seg dksX1_nextBrought_7 24 rfl rfl
theorem dksX1_nextBrought_9 : cX1_nextBrought.data.toList.drop 211 = dktX1_nextBrought_9 := dk_seg dksX1_nextBrought_8 23 rfl rfl
theorem dksX1_nextBrought_10 : cX1_nextBrought.data.toList.drop 235 = dktX1_nextBrought_10 := dk_seg dksX1_nextBrought_9 24 rfl rfl
theorem dksX1_nextBrought_11 : cX1_nextBrought.data.toList.drop 259 = dktX1_nextBrought_11 := dk_seg dksX1_nextBrought_10 24 rfl rfl
theorem dksX1_nextBrought_12 : cX1_nextBrought.data.toList.drop 283 = dktX1_nextBrought_12 := dk_seg dksX1_nextBrought_11 24 rfl rfl
theorem dksX1_nextBrought_13 : cX1_nextBrought.data.toList.drop 307 = dktX1_nextBrought_13 := dk_seg dksX1_nextBrought_12 24 rfl rfl
theorem dX1_nextBrought_0 : decode cX1_nextBrought 0 = .ok (.iconst 0, 1) := dk_3 (dk_at dksX1_nextBrought_0 0 rfl rfl)
theorem dX1_nextBrought_1 : decode cX1_nextBrought 1 = .ok (.istore_n 1, 1) := dk_60 (dk_at dksX1_nextBrought_0 1 rfl rfl)
theorem dX1_nextBrought_2 : decode cX1_nextBrought 2 = .ok (.iload_n 1, 1) := dk_27 (dk_at dksX1_nextBrought_0 2 rfl rfl)
theorem dX1_nextBrought_3 : decode cX1_nextBrought 3 = .ok (.bipush 8, 2) := dk_16 8 (dk_at dksX1_nextBrought_0 3 rfl rfl)
theorem dX1_nextBrought_5 : decode cX1_nextBrought 5 = .ok (.if_icmp .ge 60, 3) := dk_162 0 60 (dk_at dksX1_nextBrought_0 5 rfl rfl)
theorem dX1_nextBrought_8 : decode cX1_nextBrought 8 = .ok (.aload_n 0, 1) := dk_42 (dk_at dksX1_nextBrought_0 8 rfl rfl)
theorem dX1_nextBrought_9 : decode cX1_nextBrought 9 = .ok (.getfield 163, 3) := dk_180 0 163 (dk_at dksX1_nextBrought_0 9 rfl rfl)
theorem dX1_nextBrought_12 : decode cX1_nextBrought 12 = .ok (.iload_n 1, 1) := dk_27 (dk_at dksX1_nextBrought_0 12 rfl rfl)
theorem dX1_nextBrought_13 : decode cX1_nextBrought 13 = .ok (.aload_n 0, 1) := dk_42 (dk_at dksX1_nextBrought_0 13 rfl rfl)
theorem dX1_nextBrought_14 : decode cX1_nextBrought 14 = .ok (.getfield 154, 3) := dk_180 0 154 (dk_at dksX1_nextBrought_0 14 rfl rfl)
theorem dX1_nextBrought_17 : decode cX1_nextBrought 17 = .ok (.iload_n 1, 1) := dk_27 (dk_at dksX1_nextBrought_0 17 rfl rfl)
theorem dX1_nextBrought_18 : decode cX1_nextBrought 18 = .ok (.iaload, 1) := dk_46 (dk_at dksX1_nextBrought_0 18 rfl rfl)
theorem dX1_nextBrought_19 : decode cX1_nextBrought 19 = .ok (.ifCond .le 7, 3) := dk_158 0 7 (dk_at dksX1_nextBrought_0 19 rfl rfl)
theorem dX1_nextBrought_22 : decode cX1_nextBrought 22 = .ok (.iconst 0, 1) := dk_3 (dk_at dksX1_nextBrought_0 22 rfl rfl)
theorem dX1_nextBrought_23 : decode cX1_nextBrought 23 = .ok (.goto 5, 3) := dk_167 0 5 (dk_at dksX1_nextBrought_1 0 rfl rfl)
theorem dX1_nextBrought_26 : decode cX1_nextBrought 26 = .ok (.ldc 217, 2) := dk_18 217 (dk_at dksX1_nextBrought_1 3 rfl rfl)
theorem dX1_nextBrought_28 : decode cX1_nextBrought 28 = .ok (.iastore, 1) := dk_79 (dk_at dksX1_nextBrought_1 5 rfl rfl)
theorem dX1_nextBrought_29 : decode cX1_nextBrought 29 = .ok (.aload_n 0, 1) := dk_42 (dk_at dksX1_nextBrought_1 6 rfl rfl)
theorem dX1_nextBrought_30 : decode cX1_nextBrought 30 = .ok (.getfield 163, 3) := dk_180 0 163 (dk_at dksX1_nextBrought_1 7 rfl rfl)
theorem dX1_nextBrought_33 : decode cX1_nextBrought 33 = .ok (.bipush 8, 2) := dk_16 8 (dk_at dksX1_nextBrought_1 10 rfl rfl)
theorem dX1_nextBrought_35 : decode cX1_nextBrought 35 = .ok (.iload_n 1, 1) := dk_27 (dk_at dksX1_nextBrought_1 12 rfl rfl)
theorem dX1_nextBrought_36 : decode cX1_nextBrought 36 = .ok (.iadd, 1) := dk_96 (dk_at dksX1_nextBrought_1 13 rfl rfl)
theorem dX1_nextBrought_37 : decode cX1_nextBrought 37 = .ok (.ldc 217, 2) := dk_18 217 (dk_at dksX1_nextBrought_1 14 rfl rfl)
theorem dX1_nextBrought_39 : decode cX1_nextBrought 39 = .ok (.iastore, 1) := dk_79 (dk_at dksX1_nextBrought_1 16 rfl rfl)
theorem dX1_nextBrought_40 : decode cX1_nextBrought 40 = .ok (.aload_n 0, 1) := dk_42 (dk_at dksX1_nextBrought_1 17 rfl rfl)
theorem dX1_nextBrought_41 : decode cX1_nextBrought 41 = .ok (.getfield 166, 3) := dk_180 0 166 (dk_at dksX1_nextBrought_1 18 rfl rfl)
theorem dX1_nextBrought_44 : decode cX1_nextBrought 44 = .ok (.iload_n 1, 1) := dk_27 (dk_at dksX1_nextBrought_1 21 rfl rfl)
theorem dX1_nextBrought_45 : decode cX1_nextBrought 45 = .ok (.bipush (-9), 2) := dk_16 247 (dk_at dksX1_nextBrought_1 22 rfl rfl)
theorem dX1_nextBrought_47 : decode cX1_nextBrought 47 = .ok (.iastore, 1) := dk_79 (dk_at dksX1_nextBrought_2 0 rfl rfl)
theorem dX1_nextBrought_48 : decode cX1_nextBrought 48 = .ok (.aload_n 0, 1) := dk_42 (dk_at dksX1_nextBrought_2 1 rfl rfl)
theorem dX1_nextBrought_49 : decode cX1_nextBrought 49 = .ok (.getfield 166, 3) := dk_180 0 166 (dk_at dksX1_nextBrought_2 2 rfl rfl)
theorem dX1_nextBrought_52 : decode cX1_nextBrought 52 = .ok (.bipush 8, 2) := dk_16 8 (dk_at dksX1_nextBrought_2 5 rfl rfl)
theorem dX1_nextBrought_54 : decode cX1_nextBrought 54 = .ok (.iload_n 1, 1) := dk_27 (dk_at dksX1_nextBrought_2 7 rfl rfl)
theorem dX1_nextBrought_55 : decode cX1_nextBrought 55 = .ok (.iadd, 1) := dk_96 (dk_at dksX1_nextBrought_2 8 rfl rfl)
theorem dX1_nextBrought_56 : decode cX1_nextBrought 56 = .ok (.bipush (-9), 2) := dk_16 247 (dk_at dksX1_nextBrought_2 9 rfl rfl)
theorem dX1_nextBrought_58 : decode cX1_nextBrought 58 = .ok (.iastore, 1) := dk_79 (dk_at dksX1_nextBrought_2 11 rfl rfl)
theorem dX1_nextBrought_59 : decode cX1_nextBrought 59 = .ok (.iinc 1 1, 3) := dk_132 1 1 (dk_at dksX1_nextBrought_2 12 rfl rfl)
theorem dX1_nextBrought_62 : decode cX1_nextBrought 62 = .ok (.goto (-60), 3) := dk_167 255 196 (dk_at dksX1_nextBrought_2 15 rfl rfl)
theorem dX1_nextBrought_65 : decode cX1_nextBrought 65 = .ok (.iconst 1, 1) := dk_4 (dk_at dksX1_nextBrought_2 18 rfl rfl)
theorem dX1_nextBrought_66 : decode cX1_nextBrought 66 = .ok (.istore_n 1, 1) := dk_60 (dk_at dksX1_nextBrought_2 19 rfl rfl)
theorem dX1_nextBrought_67 : decode cX1_nextBrought 67 = .ok (.iload_n 1, 1) := dk_27 (dk_at dksX1_nextBrought_2 20 rfl rfl)
theorem dX1_nextBrought_68 : decode cX1_nextBrought 68 = .ok (.ifCond .eq 185, 3) := dk_153 0 185 (dk_at dksX1_nextBrought_2 21 rfl rfl)
theorem dX1_nextBrought_71 : decode cX1_nextBrought 71 = .ok (.iconst 0, 1) := dk_3 (dk_at dksX1_nextBrought_3 0 rfl rfl)
theorem dX1_nextBrought_72 : decode cX1_nextBrought 72 = .ok (.istore_n 1, 1) := dk_60 (dk_at dksX1_nextBrought_3 1 rfl rfl)
theorem dX1_nextBrought_73 : decode cX1_nextBrought 73 = .ok (.iconst 0, 1) := dk_3 (dk_at dksX1_nextBrought_3 2 rfl rfl)
theorem dX1_nextBrought_74 : decode cX1_nextBrought 74 = .ok (.istore_n 2, 1) := dk_61 (dk_at dksX1_nextBrought_3 3 rfl rfl)
theorem dX1_nextBrought_75 : decode cX1_nextBrought 75 = .ok (.iload_n 2, 1) := dk_28 (dk_at dksX1_nextBrought_3 4 rfl rfl)
theorem dX1_nextBrought_76 : decode cX1_nextBrought 76 = .ok (.bipush 64, 2) := dk_16 64 (dk_at dksX1_nextBrought_3 5 rfl rfl)
theorem dX1_nextBrought_78 : decode cX1_nextBrought 78 = .ok (.if_icmp .ge 172, 3) := dk_162 0 172 (dk_at dksX1_nextBrought_3 7 rfl rfl)
theorem dX1_nextBrought_81 : decode cX1_nextBrought 81 = .ok (.iload_n 2, 1) := dk_28 (dk_at dksX1_nextBrought_3 10 rfl rfl)
theorem dX1_nextBrought_82 : decode cX1_nextBrought 82 = .ok (.bipush 8, 2) := dk_16 8 (dk_at dksX1_nextBrought_3 11 rfl rfl)
theorem dX1_nextBrought_84 : decode cX1_nextBrought 84 = .ok (.idiv, 1) := dk_108 (dk_at dksX1_nextBrought_3 13 rfl rfl)
theorem dX1_nextBrought_85 : decode cX1_nextBrought 85 = .ok (.istore_n 3, 1) := dk_62 (dk_at dksX1_nextBrought_3 14 rfl rfl)
theorem dX1_nextBrought_86 : decode cX1_nextBrought 86 = .ok (.bipush 8, 2) := dk_16 8 (dk_at dksX1_nextBrought_3 15 rfl rfl)
theorem dX1_nextBrought_88 : decode cX1_nextBrought 88 = .ok (.iload_n 2, 1) := dk_28 (dk_at dksX1_nextBrought_3 17 rfl rfl)
theorem dX1_nextBrought_89 : decode cX1_nextBrought 89 = .ok (.bipush 8, 2) := dk_16 8 (dk_at dksX1_nextBrought_3 18 rfl rfl)
theorem dX1_nextBrought_91 : decode cX1_nextBrought 91 = .ok (.irem, 1) := dk_112 (dk_at dksX1_nextBrought_3 20 rfl rfl)
theorem dX1_nextBrought_92 : decode cX1_nextBrought 92 = .ok (.iadd, 1) := dk_96 (dk_at dksX1_nextBrought_3 21 rfl rfl)
theorem dX1_nextBrought_93 : decode cX1_nextBrought 93 = .ok (.istore 4, 2) := dk_54 4 (dk_at dksX1_nextBrought_3 22 rfl rfl)
theorem dX1_nextBrought_95 : decode cX1_nextBrought 95 = .ok (.aload_n 0, 1) := dk_42 (dk_at dksX1_nextBrought_4 0 rfl rfl)
theorem dX1_nextBrought_96 : decode cX1_nextBrought 96 = .ok (.getfield 160, 3) := dk_180 0 160 (dk_at dksX1_nextBrought_4 1 rfl rfl)
theorem dX1_nextBrought_99 : decode cX1_nextBrought 99 = .ok (.iload_n 2, 1) := dk_28 (dk_at dksX1_nextBrought_4 4 rfl rfl)
theorem dX1_nextBrought_100 : decode cX1_nextBrought 100 = .ok (.iaload, 1) := dk_46 (dk_at dksX1_nextBrought_4 5 rfl rfl)
theorem dX1_nextBrought_101 : decode cX1_nextBrought 101 = .ok (.ldc 217, 2) := dk_18 217 (dk_at dksX1_nextBrought_4 6 rfl rfl)
theorem dX1_nextBrought_103 : decode cX1_nextBrought 103 = .ok (.if_icmp .ge 67, 3) := dk_162 0 67 (dk_at dksX1_nextBrought_4 8 rfl rfl)
theorem dX1_nextBrought_106 : decode cX1_nextBrought 106 = .ok (.aload_n 0, 1) := dk_42 (dk_at dksX1_nextBrought_4 11 rfl rfl)
theorem dX1_nextBrought_107 : decode cX1_nextBrought 107 = .ok (.getfield 163, 3) := dk_180 0 163 (dk_at dksX1_nextBrought_4 12 rfl rfl)
theorem dX1_nextBrought_110 : decode cX1_nextBrought 110 = .ok (.iload_n 3, 1) := dk_29 (dk_at dksX1_nextBrought_4 15 rfl rfl)
theorem dX1_nextBrought_111 : decode cX1_nextBrought 111 = .ok (.iaload, 1) := dk_46 (dk_at dksX1_nextBrought_4 16 rfl rfl)
theorem dX1_nextBrought_112 : decode cX1_nextBrought 112 = .ok (.ldc 217, 2) := dk_18 217 (dk_at dksX1_nextBrought_4 17 rfl rfl)
theorem dX1_nextBrought_114 : decode cX1_nextBrought 114 = .ok (.if_icmp .ge 56, 3) := dk_162 0 56 (dk_at dksX1_nextBrought_4 19 rfl rfl)
theorem dX1_nextBrought_117 : decode cX1_nextBrought 117 = .ok (.aload_n 0, 1) := dk_42 (dk_at dksX1_nextBrought_4 22 rfl rfl)
theorem dX1_nextBrought_118 : decode cX1_nextBrought 118 = .ok (.getfield 163, 3) := dk_180 0 163 (dk_at dksX1_nextBrought_5 0 rfl rfl)
theorem dX1_nextBrought_121 : decode cX1_nextBrought 121 = .ok (.iload_n 3, 1) := dk_29 (dk_at dksX1_nextBrought_5 3 rfl rfl)
theorem dX1_nextBrought_122 : decode cX1_nextBrought 122 = .ok (.iaload, 1) := dk_46 (dk_at dksX1_nextBrought_5 4 rfl rfl)
theorem dX1_nextBrought_123 : decode cX1_nextBrought 123 = .ok (.aload_n 0, 1) := dk_42 (dk_at dksX1_nextBrought_5 5 rfl rfl)
theorem dX1_nextBrought_124 : decode cX1_nextBrought 124 = .ok (.getfield 160, 3) := dk_180 0 160 (dk_at dksX1_nextBrought_5 6 rfl rfl)
theorem dX1_nextBrought_127 : decode cX1_nextBrought 127 = .ok (.iload_n 2, 1) := dk_28 (dk_at dksX1_nextBrought_5 9 rfl rfl)
theorem dX1_nextBrought_128 : decode cX1_nextBrought 128 = .ok (.iaload, 1) := dk_46 (dk_at dksX1_nextBrought_5 10 rfl rfl)
theorem dX1_nextBrought_129 : decode cX1_nextBrought 129 = .ok (.iadd, 1) := dk_96 (dk_at dksX1_nextBrought_5 11 rfl rfl)
theorem dX1_nextBrought_130 : decode cX1_nextBrought 130 = .ok (.aload_n 0, 1) := dk_42 (dk_at dksX1_nextBrought_5 12 rfl rfl)
theorem dX1_nextBrought_131 : decode cX1_nextBrought 131 = .ok (.getfield 163, 3) := dk_180 0 163 (dk_at dksX1_nextBrought_5 13 rfl rfl)
theorem dX1_nextBrought_134 : decode cX1_nextBrought 134 = .ok (.iload 4, 2) := dk_21 4 (dk_at dksX1_nextBrought_5 16 rfl rfl)
theorem dX1_nextBrought_136 : decode cX1_nextBrought 136 = .ok (.iaload, 1) := dk_46 (dk_at dksX1_nextBrought_5 18 rfl rfl)
theorem dX1_nextBrought_137 : decode cX1_nextBrought 137 = .ok (.if_icmp .ge 33, 3) := dk_162 0 33 (dk_at dksX1_nextBrought_5 19 rfl rfl)
theorem dX1_nextBrought_140 : decode cX1_nextBrought 140 = .ok (.aload_n 0, 1) := dk_42 (dk_at dksX1_nextBrought_5 22 rfl rfl)
theorem dX1_nextBrought_141 : decode cX1_nextBrought 141 = .ok (.getfield 163, 3) := dk_180 0 163 (dk_at dksX1_nextBrought_6 0 rfl rfl)
theorem dX1_nextBrought_144 : decode cX1_nextBrought 144 = .ok (.iload 4, 2) := dk_21 4 (dk_at dksX1_nextBrought_6 3 rfl rfl)
theorem dX1_nextBrought_146 : decode cX1_nextBrought 146 = .ok (.aload_n 0, 1) := dk_42 (dk_at dksX1_nextBrought_6 5 rfl rfl)
theorem dX1_nextBrought_147 : decode cX1_nextBrought 147 = .ok (.getfield 163, 3) := dk_180 0 163 (dk_at dksX1_nextBrought_6 6 rfl rfl)
theorem dX1_nextBrought_150 : decode cX1_nextBrought 150 = .ok (.iload_n 3, 1) := dk_29 (dk_at dksX1_nextBrought_6 9 rfl rfl)
theorem dX1_nextBrought_151 : decode cX1_nextBrought 151 = .ok (.iaload, 1) := dk_46 (dk_at dksX1_nextBrought_6 10 rfl rfl)
theorem dX1_nextBrought_152 : decode cX1_nextBrought 152 = .ok (.aload_n 0, 1) := dk_42 (dk_at dksX1_nextBrought_6 11 rfl rfl)
theorem dX1_nextBrought_153 : decode cX1_nextBrought 153 = .ok (.getfield 160, 3) := dk_180 0 160 (dk_at dksX1_nextBrought_6 12 rfl rfl)
theorem dX1_nextBrought_156 : decode cX1_nextBrought 156 = .ok (.iload_n 2, 1) := dk_28 (dk_at dksX1_nextBrought_6 15 rfl rfl)
theorem dX1_nextBrought_157 : decode cX1_nextBrought 157 = .ok (.iaload, 1) := dk_46 (dk_at dksX1_nextBrought_6 16 rfl rfl)
theorem dX1_nextBrought_158 : decode cX1_nextBrought 158 = .ok (.iadd, 1) := dk_96 (dk_at dksX1_nextBrought_6 17 rfl rfl)
theorem dX1_nextBrought_159 : decode cX1_nextBrought 159 = .ok (.iastore, 1) := dk_79 (dk_at dksX1_nextBrought_6 18 rfl rfl)
theorem dX1_nextBrought_160 : decode cX1_nextBrought 160 = .ok (.aload_n 0, 1) := dk_42 (dk_at dksX1_nextBrought_6 19 rfl rfl)
theorem dX1_nextBrought_161 : decode cX1_nextBrought 161 = .ok (.getfield 166, 3) := dk_180 0 166 (dk_at dksX1_nextBrought_6 20 rfl rfl)
theorem dX1_nextBrought_164 : decode cX1_nextBrought 164 = .ok (.iload 4, 2) := dk_21 4 (dk_at dksX1_nextBrought_7 0 rfl rfl)
theorem dX1_nextBrought_166 : decode cX1_nextBrought 166 = .ok (.iload_n 3, 1) := dk_29 (dk_at dksX1_nextBrought_7 2 rfl rfl)
theorem dX1_nextBrought_167 : decode cX1_nextBrought 167 = .ok (.iastore, 1) := dk_79 (dk_at dksX1_nextBrought_7 3 rfl rfl)
theorem dX1_nextBrought_168 : decode cX1_nextBrought 168 = .ok (.iconst 1, 1) := dk_4 (dk_at dksX1_nextBrought_7 4 rfl rfl)
theorem dX1_nextBrought_169 : decode cX1_nextBrought 169 = .ok (.istore_n 1, 1) := dk_60 (dk_at dksX1_nextBrought_7 5 rfl rfl)
theorem dX1_nextBrought_170 : decode cX1_nextBrought 170 = .ok (.aload_n 0, 1) := dk_42 (dk_at dksX1_nextBrought_7 6 rfl rfl)
theorem dX1_nextBrought_171 : decode cX1_nextBrought 171 = .ok (.getfield 151, 3) := dk_180 0 151 (dk_at dksX1_nextBrought_7 7 rfl rfl)
theorem dX1_nextBrought_174 : decode cX1_nextBrought 174 = .ok (.iload_n 2, 1) := dk_28 (dk_at dksX1_nextBrought_7 10 rfl rfl)
theorem dX1_nextBrought_175 : decode cX1_nextBrought 175 = .ok (.iaload, 1) := dk_46 (dk_at dksX1_nextBrought_7 11 rfl rfl)
theorem dX1_nextBrought_176 : decode cX1_nextBrought 176 = .ok (.ifCond .le 68, 3) := dk_158 0 68 (dk_at dksX1_nextBrought_7 12 rfl rfl)
theorem dX1_nextBrought_179 : decode cX1_nextBrought 179 = .ok (.aload_n 0, 1) := dk_42 (dk_at dksX1_nextBrought_7 15 rfl rfl)
theorem dX1_nextBrought_180 : decode cX1_nextBrought 180 = .ok (.getfield 163, 3) := dk_180 0 163 (dk_at dksX1_nextBrought_7 16 rfl rfl)
theorem dX1_nextBrought_183 : decode cX1_nextBrought 183 = .ok (.iload 4, 2) := dk_21 4 (dk_at dksX1_nextBrought_7 19 rfl rfl)
theorem dX1_nextBrought_185 : decode cX1_nextBrought 185 = .ok (.iaload, 1) := dk_46 (dk_at dksX1_nextBrought_7 21 rfl rfl)
theorem dX1_nextBrought_186 : decode cX1_nextBrought 186 = .ok (.ldc 217, 2) := dk_18 217 (dk_at dksX1_nextBrought_7 22 rfl rfl)
theorem dX1_nextBrought_188 : decode cX1_nextBrought 188 = .ok (.if_icmp .ge 56, 3) := dk_162 0 56 (dk_at dksX1_nextBrought_8 0 rfl rfl)
theorem dX1_nextBrought_191 : decode cX1_nextBrought 191 = .ok (.aload_n 0, 1) := dk_42 (dk_at dksX1_nextBrought_8 3 rfl rfl)
theorem dX1_nextBrought_192 : decode cX1_nextBrought 192 = .ok (.getfield 163, 3) := dk_180 0 163 (dk_at dksX1_nextBrought_8 4 rfl rfl)
theorem dX1_nextBrought_195 : decode cX1_nextBrought 195 = .ok (.iload 4, 2) := dk_21 4 (dk_at dksX1_nextBrought_8 7 rfl rfl)
theorem dX1_nextBrought_197 : decode cX1_nextBrought 197 = .ok (.iaload, 1) := dk_46 (dk_at dksX1_nextBrought_8 9 rfl rfl)
theorem dX1_nextBrought_198 : decode cX1_nextBrought 198 = .ok (.aload_n 0, 1) := dk_42 (dk_at dksX1_nextBrought_8 10 rfl rfl)
theorem dX1_nextBrought_199 : decode cX1_nextBrought 199 = .ok (.getfield 160, 3) := dk_180 0 160 (dk_at dksX1_nextBrought_8 11 rfl rfl)
theorem dX1_nextBrought_202 : decode cX1_nextBrought 202 = .ok (.iload_n 2, 1) := dk_28 (dk_at dksX1_nextBrought_8 14 rfl rfl)
theorem dX1_nextBrought_203 : decode cX1_nextBrought 203 = .ok (.iaload, 1) := dk_46 (dk_at dksX1_nextBrought_8 15 rfl rfl)
theorem dX1_nextBrought_204 : decode cX1_nextBrought 204 = .ok (.isub, 1) := dk_100 (dk_at dksX1_nextBrought_8 16 rfl rfl)
theorem dX1_nextBrought_205 : decode cX1_nextBrought 205 = .ok (.aload_n 0, 1) := dk_42 (dk_at dksX1_nextBrought_8 17 rfl rfl)
theorem dX1_nextBrought_206 : decode cX1_nextBrought 206 = .ok (.getfield 163, 3) := dk_180 0 163 (dk_at dksX1_nextBrought_8 18 rfl rfl)
theorem dX1_nextBrought_209 : decode cX1_nextBrought 209 = .ok (.iload_n 3, 1) := dk_29 (dk_at dksX1_nextBrought_8 21 rfl rfl)
theorem dX1_nextBrought_210 : decode cX1_nextBrought 210 = .ok (.iaload, 1) := dk_46 (dk_at dksX1_nextBrought_8 22 rfl rfl)
theorem dX1_nextBrought_211 : decode cX1_nextBrought 211 = .ok (.if_icmp .ge 33, 3) := dk_162 0 33 (dk_at dksX1_nextBrought_9 0 rfl rfl)
theorem dX1_nextBrought_214 : decode cX1_nextBrought 214 = .ok (.aload_n 0, 1) := dk_42 (dk_at dksX1_nextBrought_9 3 rfl rfl)
theorem dX1_nextBrought_215 : decode cX1_nextBrought 215 = .ok (.getfield 163, 3) := dk_180 0 163 (dk_at dksX1_nextBrought_9 4 rfl rfl)
theorem dX1_nextBrought_218 : decode cX1_nextBrought 218 = .ok (.iload_n 3, 1) := dk_29 (dk_at dksX1_nextBrought_9 7 rfl rfl)
theorem dX1_nextBrought_219 : decode cX1_nextBrought 219 = .ok (.aload_n 0, 1) := dk_42 (dk_at dksX1_nextBrought_9 8 rfl rfl)
theorem dX1_nextBrought_220 : decode cX1_nextBrought 220 = .ok (.getfield 163, 3) := dk_180 0 163 (dk_at dksX1_nextBrought_9 9 rfl rfl)
theorem dX1_nextBrought_223 : decode cX1_nextBrought 223 = .ok (.iload 4, 2) := dk_21 4 (dk_at dksX1_nextBrought_9 12 rfl rfl)
theorem dX1_nextBrought_225 : decode cX1_nextBrought 225 = .ok (.iaload, 1) := dk_46 (dk_at dksX1_nextBrought_9 14 rfl rfl)
theorem dX1_nextBrought_226 : decode cX1_nextBrought 226 = .ok (.aload_n 0, 1) := dk_42 (dk_at dksX1_nextBrought_9 15 rfl rfl)
theorem dX1_nextBrought_227 : decode cX1_nextBrought 227 = .ok (.getfield 160, 3) := dk_180 0 160 (dk_at dksX1_nextBrought_9 16 rfl rfl)
theorem dX1_nextBrought_230 : decode cX1_nextBrought 230 = .ok (.iload_n 2, 1) := dk_28 (dk_at dksX1_nextBrought_9 19 rfl rfl)
theorem dX1_nextBrought_231 : decode cX1_nextBrought 231 = .ok (.iaload, 1) := dk_46 (dk_at dksX1_nextBrought_9 20 rfl rfl)
theorem dX1_nextBrought_232 : decode cX1_nextBrought 232 = .ok (.isub, 1) := dk_100 (dk_at dksX1_nextBrought_9 21 rfl rfl)
theorem dX1_nextBrought_233 : decode cX1_nextBrought 233 = .ok (.iastore, 1) := dk_79 (dk_at dksX1_nextBrought_9 22 rfl rfl)
theorem dX1_nextBrought_234 : decode cX1_nextBrought 234 = .ok (.aload_n 0, 1) := dk_42 (dk_at dksX1_nextBrought_9 23 rfl rfl)
theorem dX1_nextBrought_235 : decode cX1_nextBrought 235 = .ok (.getfield 166, 3) := dk_180 0 166 (dk_at dksX1_nextBrought_10 0 rfl rfl)
theorem dX1_nextBrought_238 : decode cX1_nextBrought 238 = .ok (.iload_n 3, 1) := dk_29 (dk_at dksX1_nextBrought_10 3 rfl rfl)
theorem dX1_nextBrought_239 : decode cX1_nextBrought 239 = .ok (.iload 4, 2) := dk_21 4 (dk_at dksX1_nextBrought_10 4 rfl rfl)
theorem dX1_nextBrought_241 : decode cX1_nextBrought 241 = .ok (.iastore, 1) := dk_79 (dk_at dksX1_nextBrought_10 6 rfl rfl)
theorem dX1_nextBrought_242 : decode cX1_nextBrought 242 = .ok (.iconst 1, 1) := dk_4 (dk_at dksX1_nextBrought_10 7 rfl rfl)
theorem dX1_nextBrought_243 : decode cX1_nextBrought 243 = .ok (.istore_n 1, 1) := dk_60 (dk_at dksX1_nextBrought_10 8 rfl rfl)
theorem dX1_nextBrought_244 : decode cX1_nextBrought 244 = .ok (.iinc 2 1, 3) := dk_132 2 1 (dk_at dksX1_nextBrought_10 9 rfl rfl)
theorem dX1_nextBrought_247 : decode cX1_nextBrought 247 = .ok (.goto (-172), 3) := dk_167 255 84 (dk_at dksX1_nextBrought_10 12 rfl rfl)
theorem dX1_nextBrought_250 : decode cX1_nextBrought 250 = .ok (.goto (-183), 3) := dk_167 255 73 (dk_at dksX1_nextBrought_10 15 rfl rfl)
theorem dX1_nextBrought_253 : decode cX1_nextBrought 253 = .ok (.bipush (-9), 2) := dk_16 247 (dk_at dksX1_nextBrought_10 18 rfl rfl)
theorem dX1_nextBrought_255 : decode cX1_nextBrought 255 = .ok (.istore_n 2, 1) := dk_61 (dk_at dksX1_nextBrought_10 20 rfl rfl)
theorem dX1_nextBrought_256 : decode cX1_nextBrought 256 = .ok (.bipush 8, 2) := dk_16 8 (dk_at dksX1_nextBrought_10 21 rfl rfl)
theorem dX1_nextBrought_258 : decode cX1_nextBrought 258 = .ok (.istore_n 3, 1) := dk_62 (dk_at dksX1_nextBrought_10 23 rfl rfl)
theorem dX1_nextBrought_259 : decode cX1_nextBrought 259 = .ok (.iload_n 3, 1) := dk_29 (dk_at dksX1_nextBrought_11 0 rfl rfl)
theorem dX1_nextBrought_260 : decode cX1_nextBrought 260 = .ok (.bipush 16, 2) := dk_16 16 (dk_at dksX1_nextBrought_11 1 rfl rfl)
theorem dX1_nextBrought_262 : decode cX1_nextBrought 262 = .ok (.if_icmp .ge 57, 3) := dk_162 0 57 (dk_at dksX1_nextBrought_11 3 rfl rfl)
theorem dX1_nextBrought_265 : decode cX1_nextBrought 265 = .ok (.aload_n 0, 1) := dk_42 (dk_at dksX1_nextBrought_11 6 rfl rfl)
theorem dX1_nextBrought_266 : decode cX1_nextBrought 266 = .ok (.getfield 157, 3) := dk_180 0 157 (dk_at dksX1_nextBrought_11 7 rfl rfl)
theorem dX1_nextBrought_269 : decode cX1_nextBrought 269 = .ok (.iload_n 3, 1) := dk_29 (dk_at dksX1_nextBrought_11 10 rfl rfl)
theorem dX1_nextBrought_270 : decode cX1_nextBrought 270 = .ok (.bipush 8, 2) := dk_16 8 (dk_at dksX1_nextBrought_11 11 rfl rfl)
theorem dX1_nextBrought_272 : decode cX1_nextBrought 272 = .ok (.isub, 1) := dk_100 (dk_at dksX1_nextBrought_11 13 rfl rfl)
theorem dX1_nextBrought_273 : decode cX1_nextBrought 273 = .ok (.iaload, 1) := dk_46 (dk_at dksX1_nextBrought_11 14 rfl rfl)
theorem dX1_nextBrought_274 : decode cX1_nextBrought 274 = .ok (.ifCond .le 37, 3) := dk_158 0 37 (dk_at dksX1_nextBrought_11 15 rfl rfl)
theorem dX1_nextBrought_277 : decode cX1_nextBrought 277 = .ok (.aload_n 0, 1) := dk_42 (dk_at dksX1_nextBrought_11 18 rfl rfl)
theorem dX1_nextBrought_278 : decode cX1_nextBrought 278 = .ok (.getfield 163, 3) := dk_180 0 163 (dk_at dksX1_nextBrought_11 19 rfl rfl)
theorem dX1_nextBrought_281 : decode cX1_nextBrought 281 = .ok (.iload_n 3, 1) := dk_29 (dk_at dksX1_nextBrought_11 22 rfl rfl)
theorem dX1_nextBrought_282 : decode cX1_nextBrought 282 = .ok (.iaload, 1) := dk_46 (dk_at dksX1_nextBrought_11 23 rfl rfl)
theorem dX1_nextBrought_283 : decode cX1_nextBrought 283 = .ok (.ldc 217, 2) := dk_18 217 (dk_at dksX1_nextBrought_12 0 rfl rfl)
theorem dX1_nextBrought_285 : decode cX1_nextBrought 285 = .ok (.if_icmp .ge 26, 3) := dk_162 0 26 (dk_at dksX1_nextBrought_12 2 rfl rfl)
theorem dX1_nextBrought_288 : decode cX1_nextBrought 288 = .ok (.iload_n 2, 1) := dk_28 (dk_at dksX1_nextBrought_12 5 rfl rfl)
theorem dX1_nextBrought_289 : decode cX1_nextBrought 289 = .ok (.ifCond .lt 18, 3) := dk_155 0 18 (dk_at dksX1_nextBrought_12 6 rfl rfl)
theorem dX1_nextBrought_292 : decode cX1_nextBrought 292 = .ok (.aload_n 0, 1) := dk_42 (dk_at dksX1_nextBrought_12 9 rfl rfl)
theorem dX1_nextBrought_293 : decode cX1_nextBrought 293 = .ok (.getfield 163, 3) := dk_180 0 163 (dk_at dksX1_nextBrought_12 10 rfl rfl)
theorem dX1_nextBrought_296 : decode cX1_nextBrought 296 = .ok (.iload_n 3, 1) := dk_29 (dk_at dksX1_nextBrought_12 13 rfl rfl)
theorem dX1_nextBrought_297 : decode cX1_nextBrought 297 = .ok (.iaload, 1) := dk_46 (dk_at dksX1_nextBrought_12 14 rfl rfl)
theorem dX1_nextBrought_298 : decode cX1_nextBrought 298 = .ok (.aload_n 0, 1) := dk_42 (dk_at dksX1_nextBrought_12 15 rfl rfl)
theorem dX1_nextBrought_299 : decode cX1_nextBrought 299 = .ok (.getfield 163, 3) := dk_180 0 163 (dk_at dksX1_nextBrought_12 16 rfl rfl)
theorem dX1_nextBrought_302 : decode cX1_nextBrought 302 = .ok (.iload_n 2, 1) := dk_28 (dk_at dksX1_nextBrought_12 19 rfl rfl)
theorem dX1_nextBrought_303 : decode cX1_nextBrought 303 = .ok (.iaload, 1) := dk_46 (dk_at dksX1_nextBrought_12 20 rfl rfl)
theorem dX1_nextBrought_304 : decode cX1_nextBrought 304 = .ok (.if_icmp .ge 7, 3) := dk_162 0 7 (dk_at dksX1_nextBrought_12 21 rfl rfl)
theorem dX1_nextBrought_307 : decode cX1_nextBrought 307 = .ok (.iload_n 3, 1) := dk_29 (dk_at dksX1_nextBrought_13 0 rfl rfl)
theorem dX1_nextBrought_308 : decode cX1_nextBrought 308 = .ok (.goto 4, 3) := dk_167 0 4 (dk_at dksX1_nextBrought_13 1 rfl rfl)
theorem dX1_nextBrought_311 : decode cX1_nextBrought 311 = .ok (.iload_n 2, 1) := dk_28 (dk_at dksX1_nextBrought_13 4 rfl rfl)
theorem dX1_nextBrought_312 : decode cX1_nextBrought 312 = .ok (.istore_n 2, 1) := dk_61 (dk_at dksX1_nextBrought_13 5 rfl rfl)
theorem dX1_nextBrought_313 : decode cX1_nextBrought 313 = .ok (.iinc 3 1, 3) := dk_132 3 1 (dk_at dksX1_nextBrought_13 6 rfl rfl)
theorem dX1_nextBrought_316 : decode cX1_nextBrought 316 = .ok (.goto (-57), 3) := dk_167 255 199 (dk_at dksX1_nextBrought_13 9 rfl rfl)
theorem dX1_nextBrought_319 : decode cX1_nextBrought 319 = .ok (.iload_n 2, 1) := dk_28 (dk_at dksX1_nextBrought_13 12 rfl rfl)
theorem dX1_nextBrought_320 : decode cX1_nextBrought 320 = .ok (.ireturn, 1) := dk_172 (dk_at dksX1_nextBrought_13 13 rfl rfl)
abbrev cX1_rent : ByteArray := prog_8_method_93_code
def yX1_rent : MethodName := ⟨RX1, "rent", "(IIIII)I"⟩
def dkwX1_rent_17 : List UInt8 := [132, 8, 1, 167, 255, 165, 42, 180, 0, 172, 3, 47, 136, 172]
abbrev dktX1_rent_17 : List UInt8 := dkwX1_rent_17 ++ []
def dkwX1_rent_16 : List UInt8 := [148, 153, 0, 9, 132, 9, 1, 167, 255, 194, 42, 180, 0, 169, 21, 8, 21, 9, 79, 21, 9, 54, 7]
abbrev dktX1_rent_16 : List UInt8 := dkwX1_rent_16 ++ dktX1_rent_17
def dkwX1_rent_15 : List UInt8 := [21, 8, 104, 16, 10, 96, 21, 9, 96, 47, 97, 42, 180, 0, 172, 16, 10, 21, 8, 104, 21, 7, 96, 47]
abbrev dktX1_rent_15 : List UInt8 := dkwX1_rent_15 ++ dktX1_rent_16
def dkwX1_rent_14 : List UInt8 := [16, 40, 27, 104, 21, 8, 96, 46, 28, 29, 21, 4, 21, 5, 184, 1, 112, 42, 180, 0, 172, 16, 10]
abbrev dktX1_rent_14 : List UInt8 := dkwX1_rent_14 ++ dktX1_rent_15
def dkwX1_rent_13 : List UInt8 := [3, 54, 7, 3, 54, 8, 21, 8, 21, 6, 162, 0, 90, 3, 54, 9, 21, 9, 21, 7, 42, 180, 0, 20]
abbrev dktX1_rent_13 : List UInt8 := dkwX1_rent_13 ++ dktX1_rent_14
def dkwX1_rent_12 : List UInt8 := [21, 8, 96, 22, 9, 80, 132, 8, 1, 167, 255, 142, 132, 7, 255, 167, 255, 128, 42, 21, 6, 181, 1, 116]
abbrev dktX1_rent_12 : List UInt8 := dkwX1_rent_12 ++ dktX1_rent_13
def dkwX1_rent_11 : List UInt8 := [22, 12, 167, 0, 5, 22, 9, 55, 9, 132, 11, 1, 167, 255, 178, 42, 180, 0, 172, 16, 10, 21, 7, 104]
abbrev dktX1_rent_11 : List UInt8 := dkwX1_rent_11 ++ dktX1_rent_12
def dkwX1_rent_10 : List UInt8 := [96, 21, 11, 96, 47, 97, 55, 12, 22, 9, 9, 148, 155, 0, 11, 22, 12, 22, 9, 148, 156, 0, 8]
abbrev dktX1_rent_10 : List UInt8 := dkwX1_rent_10 ++ dktX1_rent_11
def dkwX1_rent_9 : List UInt8 := [21, 7, 96, 46, 28, 29, 21, 4, 21, 5, 184, 1, 112, 42, 180, 0, 172, 16, 10, 21, 7, 104, 16, 10]
abbrev dktX1_rent_9 : List UInt8 := dkwX1_rent_9 ++ dktX1_rent_10
def dkwX1_rent_8 : List UInt8 := [55, 9, 3, 54, 11, 21, 11, 16, 10, 162, 0, 77, 21, 11, 21, 8, 42, 180, 0, 20, 16, 40, 27, 104]
abbrev dktX1_rent_8 : List UInt8 := dkwX1_rent_8 ++ dktX1_rent_9
def dkwX1_rent_7 : List UInt8 := [21, 6, 4, 100, 54, 7, 21, 7, 155, 0, 129, 3, 54, 8, 21, 8, 16, 10, 162, 0, 113, 20, 1, 110]
abbrev dktX1_rent_7 : List UInt8 := dkwX1_rent_7 ++ dktX1_rent_8
def dkwX1_rent_6 : List UInt8 := [162, 0, 23, 42, 180, 0, 172, 16, 10, 21, 6, 104, 21, 7, 96, 9, 80, 132, 7, 1, 167, 255, 232]
abbrev dktX1_rent_6 : List UInt8 := dkwX1_rent_6 ++ dktX1_rent_7
def dkwX1_rent_5 : List UInt8 := [154, 0, 9, 42, 6, 182, 0, 193, 172, 132, 7, 1, 167, 255, 219, 3, 54, 7, 21, 7, 16, 10]
abbrev dktX1_rent_5 : List UInt8 := dkwX1_rent_5 ++ dktX1_rent_6
def dkwX1_rent_4 : List UInt8 := [21, 6, 162, 0, 36, 42, 180, 0, 20, 16, 40, 27, 104, 21, 7, 96, 46, 3, 16, 9, 184, 0, 185]
abbrev dktX1_rent_4 : List UInt8 := dkwX1_rent_4 ++ dktX1_rent_5
def dkwX1_rent_3 : List UInt8 := [180, 0, 17, 27, 46, 54, 6, 21, 6, 154, 0, 9, 42, 8, 182, 0, 193, 172, 3, 54, 7, 21, 7]
abbrev dktX1_rent_3 : List UInt8 := dkwX1_rent_3 ++ dktX1_rent_4
def dkwX1_rent_2 : List UInt8 := [184, 0, 185, 154, 0, 5, 2, 172, 42, 180, 0, 17, 27, 46, 156, 0, 9, 42, 4, 182, 0, 193, 172, 42]
abbrev dktX1_rent_2 : List UInt8 := dkwX1_rent_2 ++ dktX1_rent_3
def dkwX1_rent_1 : List UInt8 := [184, 0, 185, 153, 0, 27, 21, 4, 3, 17, 3, 232, 184, 0, 185, 153, 0, 15, 21, 5, 3, 17, 3, 232]
abbrev dktX1_rent_1 : List UInt8 := dkwX1_rent_1 ++ dktX1_rent_2
def dkwX1_rent_0 : List UInt8 := [27, 184, 0, 189, 153, 0, 48, 28, 3, 16, 9, 184, 0, 185, 153, 0, 38, 29, 3, 17, 3, 232]
abbrev dktX1_rent_0 : List UInt8 := dkwX1_rent_0 ++ dktX1_rent_1
theorem dksX1_rent_0 : cX1_rent.data.toList.drop 0 = dktX1_rent_0 := by decide +kernel
theorem dksX1_rent_1 : cX1_rent.data.toList.drop 22 = dktX1_rent_1 := dk_seg dksX1_rent_0 22 rfl rfl
theorem dksX1_rent_2 : cX1_rent.data.toList.drop 46 = dktX1_rent_2 := dk_seg dksX1_rent_1 24 rfl rfl
theorem dksX1_rent_3 : cX1_rent.data.toList.drop 70 = dktX1_rent_3 := dk_seg dksX1_rent_2 24 rfl rfl
theorem dksX1_rent_4 : cX1_rent.data.toList.drop 93 = dktX1_rent_4 := dk_seg dksX1_rent_3 23 rfl rfl
theorem dksX1_rent_5 : cX1_rent.data.toList.drop 116 = dktX1_rent_5 := dk_seg dksX1_rent_4 23 rfl rfl
theorem dksX1_rent_6 : cX1_rent.data.toList.drop 138 = dktX1_rent_6 := dk_seg dksX1_rent_5 22 rfl rfl
theorem dksX1_rent_7 : cX1_rent.data.toList.drop 161 = dktX1_rent_7 := dk_seg dksX1_rent_6 23 rfl rfl
theorem dksX1_rent_8 : cX1_rent.data.toList.drop 185 = dktX1_rent_8 := dk_seg dksX1_rent_7 24 rfl rfl
theorem dksX1_rent_9 : cX1_rent.data.toList.drop 209 = dktX1_rent_9 := dk_seg dksX1_rent_8 24 rfl rfl
theorem dksX1_rent_10 : cX1_rent.data.toList.drop 233 = dktX1_rent_10 := dk_seg dksX1_rent_9 24 rfl rfl
theorem dksX1_rent_11 : cX1_rent.data.toList.drop 256 = dktX1_rent_11 := dk_seg dksX1_rent_10 23 rfl rfl
theorem dksX1_rent_12 : cX1_rent.data.toList.drop 280 = dktX1_rent_12 := dk_seg dksX1_rent_11 24 rfl rfl
theorem dksX1_rent_13 : cX1_rent.data.toList.drop 304 = dktX1_rent_13 := dk_seg dksX1_rent_12 24 rfl rfl
theorem dksX1_rent_14 : cX1_rent.data.toList.drop 328 = dktX1_rent_14 := dk_seg dksX1_rent_13 24 rfl rfl
theorem dksX1_rent_15 : cX1_rent.data.toList.drop 351 = dktX1_rent_15 := dk_seg dksX1_rent_14 23 rfl rfl
theorem dksX1_rent_16 : cX1_rent.data.toList.drop 375 = dktX1_rent_16 := dk_seg dksX1_rent_15 24 rfl rfl
theorem dksX1_rent_17 : cX1_rent.data.toList.drop 398 = dktX1_rent_17 := dk_seg dksX1_rent_16 23 rfl rfl
theorem dX1_rent_0 : decode cX1_rent 0 = .ok (.iload_n 1, 1) := dk_27 (dk_at dksX1_rent_0 0 rfl rfl)
theorem dX1_rent_1 : decode cX1_rent 1 = .ok (.invokestatic 189, 3) := dk_184 0 189 (dk_at dksX1_rent_0 1 rfl rfl)
theorem dX1_rent_4 : decode cX1_rent 4 = .ok (.ifCond .eq 48, 3) := dk_153 0 48 (dk_at dksX1_rent_0 4 rfl rfl)
theorem dX1_rent_7 : decode cX1_rent 7 = .ok (.iload_n 2, 1) := dk_28 (dk_at dksX1_rent_0 7 rfl rfl)
theorem dX1_rent_8 : decode cX1_rent 8 = .ok (.iconst 0, 1) := dk_3 (dk_at dksX1_rent_0 8 rfl rfl)
theorem dX1_rent_9 : decode cX1_rent 9 = .ok (.bipush 9, 2) := dk_16 9 (dk_at dksX1_rent_0 9 rfl rfl)
theorem dX1_rent_11 : decode cX1_rent 11 = .ok (.invokestatic 185, 3) := dk_184 0 185 (dk_at dksX1_rent_0 11 rfl rfl)
theorem dX1_rent_14 : decode cX1_rent 14 = .ok (.ifCond .eq 38, 3) := dk_153 0 38 (dk_at dksX1_rent_0 14 rfl rfl)
theorem dX1_rent_17 : decode cX1_rent 17 = .ok (.iload_n 3, 1) := dk_29 (dk_at dksX1_rent_0 17 rfl rfl)
theorem dX1_rent_18 : decode cX1_rent 18 = .ok (.iconst 0, 1) := dk_3 (dk_at dksX1_rent_0 18 rfl rfl)
theorem dX1_rent_19 : decode cX1_rent 19 = .ok (.sipush 1000, 3) := dk_17 3 232 (dk_at dksX1_rent_0 19 rfl rfl)
theorem dX1_rent_22 : decode cX1_rent 22 = .ok (.invokestatic 185, 3) := dk_184 0 185 (dk_at dksX1_rent_1 0 rfl rfl)
theorem dX1_rent_25 : decode cX1_rent 25 = .ok (.ifCond .eq 27, 3) := dk_153 0 27 (dk_at dksX1_rent_1 3 rfl rfl)
theorem dX1_rent_28 : decode cX1_rent 28 = .ok (.iload 4, 2) := dk_21 4 (dk_at dksX1_rent_1 6 rfl rfl)
theorem dX1_rent_30 : decode cX1_rent 30 = .ok (.iconst 0, 1) := dk_3 (dk_at dksX1_rent_1 8 rfl rfl)
theorem dX1_rent_31 : decode cX1_rent 31 = .ok (.sipush 1000, 3) := dk_17 3 232 (dk_at dksX1_rent_1 9 rfl rfl)
theorem dX1_rent_34 : decode cX1_rent 34 = .ok (.invokestatic 185, 3) := dk_184 0 185 (dk_at dksX1_rent_1 12 rfl rfl)
theorem dX1_rent_37 : decode cX1_rent 37 = .ok (.ifCond .eq 15, 3) := dk_153 0 15 (dk_at dksX1_rent_1 15 rfl rfl)
theorem dX1_rent_40 : decode cX1_rent 40 = .ok (.iload 5, 2) := dk_21 5 (dk_at dksX1_rent_1 18 rfl rfl)
theorem dX1_rent_42 : decode cX1_rent 42 = .ok (.iconst 0, 1) := dk_3 (dk_at dksX1_rent_1 20 rfl rfl)
theorem dX1_rent_43 : decode cX1_rent 43 = .ok (.sipush 1000, 3) := dk_17 3 232 (dk_at dksX1_rent_1 21 rfl rfl)
theorem dX1_rent_46 : decode cX1_rent 46 = .ok (.invokestatic 185, 3) := dk_184 0 185 (dk_at dksX1_rent_2 0 rfl rfl)
theorem dX1_rent_49 : decode cX1_rent 49 = .ok (.ifCond .ne 5, 3) := dk_154 0 5 (dk_at dksX1_rent_2 3 rfl rfl)
theorem dX1_rent_52 : decode cX1_rent 52 = .ok (.iconst (-1), 1) := dk_2 (dk_at dksX1_rent_2 6 rfl rfl)
theorem dX1_rent_53 : decode cX1_rent 53 = .ok (.ireturn, 1) := dk_172 (dk_at dksX1_rent_2 7 rfl rfl)
theorem dX1_rent_54 : decode cX1_rent 54 = .ok (.aload_n 0, 1) := dk_42 (dk_at dksX1_rent_2 8 rfl rfl)
theorem dX1_rent_55 : decode cX1_rent 55 = .ok (.getfield 17, 3) := dk_180 0 17 (dk_at dksX1_rent_2 9 rfl rfl)
theorem dX1_rent_58 : decode cX1_rent 58 = .ok (.iload_n 1, 1) := dk_27 (dk_at dksX1_rent_2 12 rfl rfl)
theorem dX1_rent_59 : decode cX1_rent 59 = .ok (.iaload, 1) := dk_46 (dk_at dksX1_rent_2 13 rfl rfl)
theorem dX1_rent_60 : decode cX1_rent 60 = .ok (.ifCond .ge 9, 3) := dk_156 0 9 (dk_at dksX1_rent_2 14 rfl rfl)
theorem dX1_rent_63 : decode cX1_rent 63 = .ok (.aload_n 0, 1) := dk_42 (dk_at dksX1_rent_2 17 rfl rfl)
theorem dX1_rent_64 : decode cX1_rent 64 = .ok (.iconst 1, 1) := dk_4 (dk_at dksX1_rent_2 18 rfl rfl)
theorem dX1_rent_65 : decode cX1_rent 65 = .ok (.invokevirtual 193, 3) := dk_182 0 193 (dk_at dksX1_rent_2 19 rfl rfl)
theorem dX1_rent_68 : decode cX1_rent 68 = .ok (.ireturn, 1) := dk_172 (dk_at dksX1_rent_2 22 rfl rfl)
theorem dX1_rent_69 : decode cX1_rent 69 = .ok (.aload_n 0, 1) := dk_42 (dk_at dksX1_rent_2 23 rfl rfl)
theorem dX1_rent_70 : decode cX1_rent 70 = .ok (.getfield 17, 3) := dk_180 0 17 (dk_at dksX1_rent_3 0 rfl rfl)
theorem dX1_rent_73 : decode cX1_rent 73 = .ok (.iload_n 1, 1) := dk_27 (dk_at dksX1_rent_3 3 rfl rfl)
theorem dX1_rent_74 : decode cX1_rent 74 = .ok (.iaload, 1) := dk_46 (dk_at dksX1_rent_3 4 rfl rfl)
theorem dX1_rent_75 : decode cX1_rent 75 = .ok (.istore 6, 2) := dk_54 6 (dk_at dksX1_rent_3 5 rfl rfl)
theorem dX1_rent_77 : decode cX1_rent 77 = .ok (.iload 6, 2) := dk_21 6 (dk_at dksX1_rent_3 7 rfl rfl)
theorem dX1_rent_79 : decode cX1_rent 79 = .ok (.ifCond .ne 9, 3) := dk_154 0 9 (dk_at dksX1_rent_3 9 rfl rfl)
theorem dX1_rent_82 : decode cX1_rent 82 = .ok (.aload_n 0, 1) := dk_42 (dk_at dksX1_rent_3 12 rfl rfl)
theorem dX1_rent_83 : decode cX1_rent 83 = .ok (.iconst 5, 1) := dk_8 (dk_at dksX1_rent_3 13 rfl rfl)
theorem dX1_rent_84 : decode cX1_rent 84 = .ok (.invokevirtual 193, 3) := dk_182 0 193 (dk_at dksX1_rent_3 14 rfl rfl)
theorem dX1_rent_87 : decode cX1_rent 87 = .ok (.ireturn, 1) := dk_172 (dk_at dksX1_rent_3 17 rfl rfl)
theorem dX1_rent_88 : decode cX1_rent 88 = .ok (.iconst 0, 1) := dk_3 (dk_at dksX1_rent_3 18 rfl rfl)
theorem dX1_rent_89 : decode cX1_rent 89 = .ok (.istore 7, 2) := dk_54 7 (dk_at dksX1_rent_3 19 rfl rfl)
theorem dX1_rent_91 : decode cX1_rent 91 = .ok (.iload 7, 2) := dk_21 7 (dk_at dksX1_rent_3 21 rfl rfl)
theorem dX1_rent_93 : decode cX1_rent 93 = .ok (.iload 6, 2) := dk_21 6 (dk_at dksX1_rent_4 0 rfl rfl)
theorem dX1_rent_95 : decode cX1_rent 95 = .ok (.if_icmp .ge 36, 3) := dk_162 0 36 (dk_at dksX1_rent_4 2 rfl rfl)
theorem dX1_rent_98 : decode cX1_rent 98 = .ok (.aload_n 0, 1) := dk_42 (dk_at dksX1_rent_4 5 rfl rfl)
theorem dX1_rent_99 : decode cX1_rent 99 = .ok (.getfield 20, 3) := dk_180 0 20 (dk_at dksX1_rent_4 6 rfl rfl)
theorem dX1_rent_102 : decode cX1_rent 102 = .ok (.bipush 40, 2) := dk_16 40 (dk_at dksX1_rent_4 9 rfl rfl)
theorem dX1_rent_104 : decode cX1_rent 104 = .ok (.iload_n 1, 1) := dk_27 (dk_at dksX1_rent_4 11 rfl rfl)
theorem dX1_rent_105 : decode cX1_rent 105 = .ok (.imul, 1) := dk_104 (dk_at dksX1_rent_4 12 rfl rfl)
theorem dX1_rent_106 : decode cX1_rent 106 = .ok (.iload 7, 2) := dk_21 7 (dk_at dksX1_rent_4 13 rfl rfl)
theorem dX1_rent_108 : decode cX1_rent 108 = .ok (.iadd, 1) := dk_96 (dk_at dksX1_rent_4 15 rfl rfl)
theorem dX1_rent_109 : decode cX1_rent 109 = .ok (.iaload, 1) := dk_46 (dk_at dksX1_rent_4 16 rfl rfl)
theorem dX1_rent_110 : decode cX1_rent 110 = .ok (.iconst 0, 1) := dk_3 (dk_at dksX1_rent_4 17 rfl rfl)
theorem dX1_rent_111 : decode cX1_rent 111 = .ok (.bipush 9, 2) := dk_16 9 (dk_at dksX1_rent_4 18 rfl rfl)
theorem dX1_rent_113 : decode cX1_rent 113 = .ok (.invokestatic 185, 3) := dk_184 0 185 (dk_at dksX1_rent_4 20 rfl rfl)
theorem dX1_rent_116 : decode cX1_rent 116 = .ok (.ifCond .ne 9, 3) := dk_154 0 9 (dk_at dksX1_rent_5 0 rfl rfl)
theorem dX1_rent_119 : decode cX1_rent 119 = .ok (.aload_n 0, 1) := dk_42 (dk_at dksX1_rent_5 3 rfl rfl)
theorem dX1_rent_120 : decode cX1_rent 120 = .ok (.iconst 3, 1) := dk_6 (dk_at dksX1_rent_5 4 rfl rfl)
theorem dX1_rent_121 : decode cX1_rent 121 = .ok (.invokevirtual 193, 3) := dk_182 0 193 (dk_at dksX1_rent_5 5 rfl rfl)
theorem dX1_rent_124 : decode cX1_rent 124 = .ok (.ireturn, 1) := dk_172 (dk_at dksX1_rent_5 8 rfl rfl)
theorem dX1_rent_125 : decode cX1_rent 125 = .ok (.iinc 7 1, 3) := dk_132 7 1 (dk_at dksX1_rent_5 9 rfl rfl)
theorem dX1_rent_128 : decode cX1_rent 128 = .ok (.goto (-37), 3) := dk_167 255 219 (dk_at dksX1_rent_5 12 rfl rfl)
theorem dX1_rent_131 : decode cX1_rent 131 = .ok (.iconst 0, 1) := dk_3 (dk_at dksX1_rent_5 15 rfl rfl)
theorem dX1_rent_132 : decode cX1_rent 132 = .ok (.istore 7, 2) := dk_54 7 (dk_at dksX1_rent_5 16 rfl rfl)
theorem dX1_rent_134 : decode cX1_rent 134 = .ok (.iload 7, 2) := dk_21 7 (dk_at dksX1_rent_5 18 rfl rfl)
theorem dX1_rent_136 : decode cX1_rent 136 = .ok (.bipush 10, 2) := dk_16 10 (dk_at dksX1_rent_5 20 rfl rfl)
theorem dX1_rent_138 : decode cX1_rent 138 = .ok (.if_icmp .ge 23, 3) := dk_162 0 23 (dk_at dksX1_rent_6 0 rfl rfl)
theorem dX1_rent_141 : decode cX1_rent 141 = .ok (.aload_n 0, 1) := dk_42 (dk_at dksX1_rent_6 3 rfl rfl)
theorem dX1_rent_142 : decode cX1_rent 142 = .ok (.getfield 172, 3) := dk_180 0 172 (dk_at dksX1_rent_6 4 rfl rfl)
theorem dX1_rent_145 : decode cX1_rent 145 = .ok (.bipush 10, 2) := dk_16 10 (dk_at dksX1_rent_6 7 rfl rfl)
theorem dX1_rent_147 : decode cX1_rent 147 = .ok (.iload 6, 2) := dk_21 6 (dk_at dksX1_rent_6 9 rfl rfl)
theorem dX1_rent_149 : decode cX1_rent 149 = .ok (.imul, 1) := dk_104 (dk_at dksX1_rent_6 11 rfl rfl)
theorem dX1_rent_150 : decode cX1_rent 150 = .ok (.iload 7, 2) := dk_21 7 (dk_at dksX1_rent_6 12 rfl rfl)
theorem dX1_rent_152 : decode cX1_rent 152 = .ok (.iadd, 1) := dk_96 (dk_at dksX1_rent_6 14 rfl rfl)
theorem dX1_rent_153 : decode cX1_rent 153 = .ok (.lconst 0, 1) := dk_9 (dk_at dksX1_rent_6 15 rfl rfl)
theorem dX1_rent_154 : decode cX1_rent 154 = .ok (.lastore, 1) := dk_80 (dk_at dksX1_rent_6 16 rfl rfl)
theorem dX1_rent_155 : decode cX1_rent 155 = .ok (.iinc 7 1, 3) := dk_132 7 1 (dk_at dksX1_rent_6 17 rfl rfl)
theorem dX1_rent_158 : decode cX1_rent 158 = .ok (.goto (-24), 3) := dk_167 255 232 (dk_at dksX1_rent_6 20 rfl rfl)
theorem dX1_rent_161 : decode cX1_rent 161 = .ok (.iload 6, 2) := dk_21 6 (dk_at dksX1_rent_7 0 rfl rfl)
theorem dX1_rent_163 : decode cX1_rent 163 = .ok (.iconst 1, 1) := dk_4 (dk_at dksX1_rent_7 2 rfl rfl)
theorem dX1_rent_164 : decode cX1_rent 164 = .ok (.isub, 1) := dk_100 (dk_at dksX1_rent_7 3 rfl rfl)
theorem dX1_rent_165 : decode cX1_rent 165 = .ok (.istore 7, 2) := dk_54 7 (dk_at dksX1_rent_7 4 rfl rfl)
theorem dX1_rent_167 : decode cX1_rent 167 = .ok (.iload 7, 2) := dk_21 7 (dk_at dksX1_rent_7 6 rfl rfl)
theorem dX1_rent_169 : decode cX1_rent 169 = .ok (.ifCond .lt 129, 3) := dk_155 0 129 (dk_at dksX1_rent_7 8 rfl rfl)
theorem dX1_rent_172 : decode cX1_rent 172 = .ok (.iconst 0, 1) := dk_3 (dk_at dksX1_rent_7 11 rfl rfl)
theorem dX1_rent_173 : decode cX1_rent 173 = .ok (.istore 8, 2) := dk_54 8 (dk_at dksX1_rent_7 12 rfl rfl)
theorem dX1_rent_175 : decode cX1_rent 175 = .ok (.iload 8, 2) := dk_21 8 (dk_at dksX1_rent_7 14 rfl rfl)
theorem dX1_rent_177 : decode cX1_rent 177 = .ok (.bipush 10, 2) := dk_16 10 (dk_at dksX1_rent_7 16 rfl rfl)
theorem dX1_rent_179 : decode cX1_rent 179 = .ok (.if_icmp .ge 113, 3) := dk_162 0 113 (dk_at dksX1_rent_7 18 rfl rfl)
theorem dX1_rent_182 : decode cX1_rent 182 = .ok (.ldc2_w 366, 3) := dk_20 1 110 (dk_at dksX1_rent_7 21 rfl rfl)
theorem dX1_rent_185 : decode cX1_rent 185 = .ok (.lstore 9, 2) := dk_55 9 (dk_at dksX1_rent_8 0 rfl rfl)
theorem dX1_rent_187 : decode cX1_rent 187 = .ok (.iconst 0, 1) := dk_3 (dk_at dksX1_rent_8 2 rfl rfl)
theorem dX1_rent_188 : decode cX1_rent 188 = .ok (.istore 11, 2) := dk_54 11 (dk_at dksX1_rent_8 3 rfl rfl)
theorem dX1_rent_190 : decode cX1_rent 190 = .ok (.iload 11, 2) := dk_21 11 (dk_at dksX1_rent_8 5 rfl rfl)
theorem dX1_rent_192 : decode cX1_rent 192 = .ok (.bipush 10, 2) := dk_16 10 (dk_at dksX1_rent_8 7 rfl rfl)
theorem dX1_rent_194 : decode cX1_rent 194 = .ok (.if_icmp .ge 77, 3) := dk_162 0 77 (dk_at dksX1_rent_8 9 rfl rfl)
theorem dX1_rent_197 : decode cX1_rent 197 = .ok (.iload 11, 2) := dk_21 11 (dk_at dksX1_rent_8 12 rfl rfl)
theorem dX1_rent_199 : decode cX1_rent 199 = .ok (.iload 8, 2) := dk_21 8 (dk_at dksX1_rent_8 14 rfl rfl)
theorem dX1_rent_201 : decode cX1_rent 201 = .ok (.aload_n 0, 1) := dk_42 (dk_at dksX1_rent_8 16 rfl rfl)
theorem dX1_rent_202 : decode cX1_rent 202 = .ok (.getfield 20, 3) := dk_180 0 20 (dk_at dksX1_rent_8 17 rfl rfl)
theorem dX1_rent_205 : decode cX1_rent 205 = .ok (.bipush 40, 2) := dk_16 40 (dk_at dksX1_rent_8 20 rfl rfl)
theorem dX1_rent_207 : decode cX1_rent 207 = .ok (.iload_n 1, 1) := dk_27 (dk_at dksX1_rent_8 22 rfl rfl)
theorem dX1_rent_208 : decode cX1_rent 208 = .ok (.imul, 1) := dk_104 (dk_at dksX1_rent_8 23 rfl rfl)
theorem dX1_rent_209 : decode cX1_rent 209 = .ok (.iload 7, 2) := dk_21 7 (dk_at dksX1_rent_9 0 rfl rfl)
theorem dX1_rent_211 : decode cX1_rent 211 = .ok (.iadd, 1) := dk_96 (dk_at dksX1_rent_9 2 rfl rfl)
theorem dX1_rent_212 : decode cX1_rent 212 = .ok (.iaload, 1) := dk_46 (dk_at dksX1_rent_9 3 rfl rfl)
theorem dX1_rent_213 : decode cX1_rent 213 = .ok (.iload_n 2, 1) := dk_28 (dk_at dksX1_rent_9 4 rfl rfl)
theorem dX1_rent_214 : decode cX1_rent 214 = .ok (.iload_n 3, 1) := dk_29 (dk_at dksX1_rent_9 5 rfl rfl)
theorem dX1_rent_215 : decode cX1_rent 215 = .ok (.iload 4, 2) := dk_21 4 (dk_at dksX1_rent_9 6 rfl rfl)
theorem dX1_rent_217 : decode cX1_rent 217 = .ok (.iload 5, 2) := dk_21 5 (dk_at dksX1_rent_9 8 rfl rfl)
theorem dX1_rent_219 : decode cX1_rent 219 = .ok (.invokestatic 368, 3) := dk_184 1 112 (dk_at dksX1_rent_9 10 rfl rfl)
theorem dX1_rent_222 : decode cX1_rent 222 = .ok (.aload_n 0, 1) := dk_42 (dk_at dksX1_rent_9 13 rfl rfl)
theorem dX1_rent_223 : decode cX1_rent 223 = .ok (.getfield 172, 3) := dk_180 0 172 (dk_at dksX1_rent_9 14 rfl rfl)
theorem dX1_rent_226 : decode cX1_rent 226 = .ok (.bipush 10, 2) := dk_16 10 (dk_at dksX1_rent_9 17 rfl rfl)
theorem dX1_rent_228 : decode cX1_rent 228 = .ok (.iload 7, 2) := dk_21 7 (dk_at dksX1_rent_9 19 rfl rfl)
theorem dX1_rent_230 : decode cX1_rent 230 = .ok (.imul, 1) := dk_104 (dk_at dksX1_rent_9 21 rfl rfl)
theorem dX1_rent_231 : decode cX1_rent 231 = .ok (.bipush 10, 2) := dk_16 10 (dk_at dksX1_rent_9 22 rfl rfl)
theorem dX1_rent_233 : decode cX1_rent 233 = .ok (.iadd, 1) := dk_96 (dk_at dksX1_rent_10 0 rfl rfl)
theorem dX1_rent_234 : decode cX1_rent 234 = .ok (.iload 11, 2) := dk_21 11 (dk_at dksX1_rent_10 1 rfl rfl)
theorem dX1_rent_236 : decode cX1_rent 236 = .ok (.iadd, 1) := dk_96 (dk_at dksX1_rent_10 3 rfl rfl)
theorem dX1_rent_237 : decode cX1_rent 237 = .ok (.laload, 1) := dk_47 (dk_at dksX1_rent_10 4 rfl rfl)
theorem dX1_rent_238 : decode cX1_rent 238 = .ok (.ladd, 1) := dk_97 (dk_at dksX1_rent_10 5 rfl rfl)
theorem dX1_rent_239 : decode cX1_rent 239 = .ok (.lstore 12, 2) := dk_55 12 (dk_at dksX1_rent_10 6 rfl rfl)
theorem dX1_rent_241 : decode cX1_rent 241 = .ok (.lload 9, 2) := dk_22 9 (dk_at dksX1_rent_10 8 rfl rfl)
theorem dX1_rent_243 : decode cX1_rent 243 = .ok (.lconst 0, 1) := dk_9 (dk_at dksX1_rent_10 10 rfl rfl)
theorem dX1_rent_244 : decode cX1_rent 244 = .ok (.lcmp, 1) := dk_148 (dk_at dksX1_rent_10 11 rfl rfl)
theorem dX1_rent_245 : decode cX1_rent 245 = .ok (.ifCond .lt 11, 3) := dk_155 0 11 (dk_at dksX1_rent_10 12 rfl rfl)
theorem dX1_rent_248 : decode cX1_rent 248 = .ok (.lload 12, 2) := dk_22 12 (dk_at dksX1_rent_10 15 rfl rfl)
theorem dX1_rent_250 : decode cX1_rent 250 = .ok (.lload 9, 2) := dk_22 9 (dk_at dksX1_rent_10 17 rfl rfl)
theorem dX1_rent_252 : decode cX1_rent 252 = .ok (.lcmp, 1) := dk_148 (dk_at dksX1_rent_10 19 rfl rfl)
theorem dX1_rent_253 : decode cX1_rent 253 = .ok (.ifCond .ge 8, 3) := dk_156 0 8 (dk_at dksX1_rent_10 20 rfl rfl)
theorem dX1_rent_256 : decode cX1_rent 256 = .ok (.lload 12, 2) := dk_22 12 (dk_at dksX1_rent_11 0 rfl rfl)
theorem dX1_rent_258 : decode cX1_rent 258 = .ok (.goto 5, 3) := dk_167 0 5 (dk_at dksX1_rent_11 2 rfl rfl)
theorem dX1_rent_261 : decode cX1_rent 261 = .ok (.lload 9, 2) := dk_22 9 (dk_at dksX1_rent_11 5 rfl rfl)
theorem dX1_rent_263 : decode cX1_rent 263 = .ok (.lstore 9, 2) := dk_55 9 (dk_at dksX1_rent_11 7 rfl rfl)
theorem dX1_rent_265 : decode cX1_rent 265 = .ok (.iinc 11 1, 3) := dk_132 11 1 (dk_at dksX1_rent_11 9 rfl rfl)
theorem dX1_rent_268 : decode cX1_rent 268 = .ok (.goto (-78), 3) := dk_167 255 178 (dk_at dksX1_rent_11 12 rfl rfl)
theorem dX1_rent_271 : decode cX1_rent 271 = .ok (.aload_n 0, 1) := dk_42 (dk_at dksX1_rent_11 15 rfl rfl)
theorem dX1_rent_272 : decode cX1_rent 272 = .ok (.getfield 172, 3) := dk_180 0 172 (dk_at dksX1_rent_11 16 rfl rfl)
theorem dX1_rent_275 : decode cX1_rent 275 = .ok (.bipush 10, 2) := dk_16 10 (dk_at dksX1_rent_11 19 rfl rfl)
theorem dX1_rent_277 : decode cX1_rent 277 = .ok (.iload 7, 2) := dk_21 7 (dk_at dksX1_rent_11 21 rfl rfl)
theorem dX1_rent_279 : decode cX1_rent 279 = .ok (.imul, 1) := dk_104 (dk_at dksX1_rent_11 23 rfl rfl)
theorem dX1_rent_280 : decode cX1_rent 280 = .ok (.iload 8, 2) := dk_21 8 (dk_at dksX1_rent_12 0 rfl rfl)
theorem dX1_rent_282 : decode cX1_rent 282 = .ok (.iadd, 1) := dk_96 (dk_at dksX1_rent_12 2 rfl rfl)
theorem dX1_rent_283 : decode cX1_rent 283 = .ok (.lload 9, 2) := dk_22 9 (dk_at dksX1_rent_12 3 rfl rfl)
theorem dX1_rent_285 : decode cX1_rent 285 = .ok (.lastore, 1) := dk_80 (dk_at dksX1_rent_12 5 rfl rfl)
theorem dX1_rent_286 : decode cX1_rent 286 = .ok (.iinc 8 1, 3) := dk_132 8 1 (dk_at dksX1_rent_12 6 rfl rfl)
theorem dX1_rent_289 : decode cX1_rent 289 = .ok (.goto (-114), 3) := dk_167 255 142 (dk_at dksX1_rent_12 9 rfl rfl)
theorem dX1_rent_292 : decode cX1_rent 292 = .ok (.iinc 7 (-1), 3) := dk_132 7 255 (dk_at dksX1_rent_12 12 rfl rfl)
theorem dX1_rent_295 : decode cX1_rent 295 = .ok (.goto (-128), 3) := dk_167 255 128 (dk_at dksX1_rent_12 15 rfl rfl)
theorem dX1_rent_298 : decode cX1_rent 298 = .ok (.aload_n 0, 1) := dk_42 (dk_at dksX1_rent_12 18 rfl rfl)
theorem dX1_rent_299 : decode cX1_rent 299 = .ok (.iload 6, 2) := dk_21 6 (dk_at dksX1_rent_12 19 rfl rfl)
theorem dX1_rent_301 : decode cX1_rent 301 = .ok (.putfield 372, 3) := dk_181 1 116 (dk_at dksX1_rent_12 21 rfl rfl)
theorem dX1_rent_304 : decode cX1_rent 304 = .ok (.iconst 0, 1) := dk_3 (dk_at dksX1_rent_13 0 rfl rfl)
theorem dX1_rent_305 : decode cX1_rent 305 = .ok (.istore 7, 2) := dk_54 7 (dk_at dksX1_rent_13 1 rfl rfl)
theorem dX1_rent_307 : decode cX1_rent 307 = .ok (.iconst 0, 1) := dk_3 (dk_at dksX1_rent_13 3 rfl rfl)
theorem dX1_rent_308 : decode cX1_rent 308 = .ok (.istore 8, 2) := dk_54 8 (dk_at dksX1_rent_13 4 rfl rfl)
theorem dX1_rent_310 : decode cX1_rent 310 = .ok (.iload 8, 2) := dk_21 8 (dk_at dksX1_rent_13 6 rfl rfl)
theorem dX1_rent_312 : decode cX1_rent 312 = .ok (.iload 6, 2) := dk_21 6 (dk_at dksX1_rent_13 8 rfl rfl)
theorem dX1_rent_314 : decode cX1_rent 314 = .ok (.if_icmp .ge 90, 3) := dk_162 0 90 (dk_at dksX1_rent_13 10 rfl rfl)
theorem dX1_rent_317 : decode cX1_rent 317 = .ok (.iconst 0, 1) := dk_3 (dk_at dksX1_rent_13 13 rfl rfl)
theorem dX1_rent_318 : decode cX1_rent 318 = .ok (.istore 9, 2) := dk_54 9 (dk_at dksX1_rent_13 14 rfl rfl)
theorem dX1_rent_320 : decode cX1_rent 320 = .ok (.iload 9, 2) := dk_21 9 (dk_at dksX1_rent_13 16 rfl rfl)
theorem dX1_rent_322 : decode cX1_rent 322 = .ok (.iload 7, 2) := dk_21 7 (dk_at dksX1_rent_13 18 rfl rfl)
theorem dX1_rent_324 : decode cX1_rent 324 = .ok (.aload_n 0, 1) := dk_42 (dk_at dksX1_rent_13 20 rfl rfl)
theorem dX1_rent_325 : decode cX1_rent 325 = .ok (.getfield 20, 3) := dk_180 0 20 (dk_at dksX1_rent_13 21 rfl rfl)
theorem dX1_rent_328 : decode cX1_rent 328 = .ok (.bipush 40, 2) := dk_16 40 (dk_at dksX1_rent_14 0 rfl rfl)
theorem dX1_rent_330 : decode cX1_rent 330 = .ok (.iload_n 1, 1) := dk_27 (dk_at dksX1_rent_14 2 rfl rfl)
theorem dX1_rent_331 : decode cX1_rent 331 = .ok (.imul, 1) := dk_104 (dk_at dksX1_rent_14 3 rfl rfl)
theorem dX1_rent_332 : decode cX1_rent 332 = .ok (.iload 8, 2) := dk_21 8 (dk_at dksX1_rent_14 4 rfl rfl)
theorem dX1_rent_334 : decode cX1_rent 334 = .ok (.iadd, 1) := dk_96 (dk_at dksX1_rent_14 6 rfl rfl)
theorem dX1_rent_335 : decode cX1_rent 335 = .ok (.iaload, 1) := dk_46 (dk_at dksX1_rent_14 7 rfl rfl)
theorem dX1_rent_336 : decode cX1_rent 336 = .ok (.iload_n 2, 1) := dk_28 (dk_at dksX1_rent_14 8 rfl rfl)
theorem dX1_rent_337 : decode cX1_rent 337 = .ok (.iload_n 3, 1) := dk_29 (dk_at dksX1_rent_14 9 rfl rfl)
theorem dX1_rent_338 : decode cX1_rent 338 = .ok (.iload 4, 2) := dk_21 4 (dk_at dksX1_rent_14 10 rfl rfl)
theorem dX1_rent_340 : decode cX1_rent 340 = .ok (.iload 5, 2) := dk_21 5 (dk_at dksX1_rent_14 12 rfl rfl)
theorem dX1_rent_342 : decode cX1_rent 342 = .ok (.invokestatic 368, 3) := dk_184 1 112 (dk_at dksX1_rent_14 14 rfl rfl)
theorem dX1_rent_345 : decode cX1_rent 345 = .ok (.aload_n 0, 1) := dk_42 (dk_at dksX1_rent_14 17 rfl rfl)
theorem dX1_rent_346 : decode cX1_rent 346 = .ok (.getfield 172, 3) := dk_180 0 172 (dk_at dksX1_rent_14 18 rfl rfl)
theorem dX1_rent_349 : decode cX1_rent 349 = .ok (.bipush 10, 2) := dk_16 10 (dk_at dksX1_rent_14 21 rfl rfl)
theorem dX1_rent_351 : decode cX1_rent 351 = .ok (.iload 8, 2) := dk_21 8 (dk_at dksX1_rent_15 0 rfl rfl)
theorem dX1_rent_353 : decode cX1_rent 353 = .ok (.imul, 1) := dk_104 (dk_at dksX1_rent_15 2 rfl rfl)
theorem dX1_rent_354 : decode cX1_rent 354 = .ok (.bipush 10, 2) := dk_16 10 (dk_at dksX1_rent_15 3 rfl rfl)
theorem dX1_rent_356 : decode cX1_rent 356 = .ok (.iadd, 1) := dk_96 (dk_at dksX1_rent_15 5 rfl rfl)
theorem dX1_rent_357 : decode cX1_rent 357 = .ok (.iload 9, 2) := dk_21 9 (dk_at dksX1_rent_15 6 rfl rfl)
theorem dX1_rent_359 : decode cX1_rent 359 = .ok (.iadd, 1) := dk_96 (dk_at dksX1_rent_15 8 rfl rfl)
theorem dX1_rent_360 : decode cX1_rent 360 = .ok (.laload, 1) := dk_47 (dk_at dksX1_rent_15 9 rfl rfl)
theorem dX1_rent_361 : decode cX1_rent 361 = .ok (.ladd, 1) := dk_97 (dk_at dksX1_rent_15 10 rfl rfl)
theorem dX1_rent_362 : decode cX1_rent 362 = .ok (.aload_n 0, 1) := dk_42 (dk_at dksX1_rent_15 11 rfl rfl)
theorem dX1_rent_363 : decode cX1_rent 363 = .ok (.getfield 172, 3) := dk_180 0 172 (dk_at dksX1_rent_15 12 rfl rfl)
theorem dX1_rent_366 : decode cX1_rent 366 = .ok (.bipush 10, 2) := dk_16 10 (dk_at dksX1_rent_15 15 rfl rfl)
theorem dX1_rent_368 : decode cX1_rent 368 = .ok (.iload 8, 2) := dk_21 8 (dk_at dksX1_rent_15 17 rfl rfl)
theorem dX1_rent_370 : decode cX1_rent 370 = .ok (.imul, 1) := dk_104 (dk_at dksX1_rent_15 19 rfl rfl)
theorem dX1_rent_371 : decode cX1_rent 371 = .ok (.iload 7, 2) := dk_21 7 (dk_at dksX1_rent_15 20 rfl rfl)
theorem dX1_rent_373 : decode cX1_rent 373 = .ok (.iadd, 1) := dk_96 (dk_at dksX1_rent_15 22 rfl rfl)
theorem dX1_rent_374 : decode cX1_rent 374 = .ok (.laload, 1) := dk_47 (dk_at dksX1_rent_15 23 rfl rfl)
theorem dX1_rent_375 : decode cX1_rent 375 = .ok (.lcmp, 1) := dk_148 (dk_at dksX1_rent_16 0 rfl rfl)
theorem dX1_rent_376 : decode cX1_rent 376 = .ok (.ifCond .eq 9, 3) := dk_153 0 9 (dk_at dksX1_rent_16 1 rfl rfl)
theorem dX1_rent_379 : decode cX1_rent 379 = .ok (.iinc 9 1, 3) := dk_132 9 1 (dk_at dksX1_rent_16 4 rfl rfl)
theorem dX1_rent_382 : decode cX1_rent 382 = .ok (.goto (-62), 3) := dk_167 255 194 (dk_at dksX1_rent_16 7 rfl rfl)
theorem dX1_rent_385 : decode cX1_rent 385 = .ok (.aload_n 0, 1) := dk_42 (dk_at dksX1_rent_16 10 rfl rfl)
theorem dX1_rent_386 : decode cX1_rent 386 = .ok (.getfield 169, 3) := dk_180 0 169 (dk_at dksX1_rent_16 11 rfl rfl)
theorem dX1_rent_389 : decode cX1_rent 389 = .ok (.iload 8, 2) := dk_21 8 (dk_at dksX1_rent_16 14 rfl rfl)
theorem dX1_rent_391 : decode cX1_rent 391 = .ok (.iload 9, 2) := dk_21 9 (dk_at dksX1_rent_16 16 rfl rfl)
theorem dX1_rent_393 : decode cX1_rent 393 = .ok (.iastore, 1) := dk_79 (dk_at dksX1_rent_16 18 rfl rfl)
theorem dX1_rent_394 : decode cX1_rent 394 = .ok (.iload 9, 2) := dk_21 9 (dk_at dksX1_rent_16 19 rfl rfl)
theorem dX1_rent_396 : decode cX1_rent 396 = .ok (.istore 7, 2) := dk_54 7 (dk_at dksX1_rent_16 21 rfl rfl)
theorem dX1_rent_398 : decode cX1_rent 398 = .ok (.iinc 8 1, 3) := dk_132 8 1 (dk_at dksX1_rent_17 0 rfl rfl)
theorem dX1_rent_401 : decode cX1_rent 401 = .ok (.goto (-91), 3) := dk_167 255 165 (dk_at dksX1_rent_17 3 rfl rfl)
theorem dX1_rent_404 : decode cX1_rent 404 = .ok (.aload_n 0, 1) := dk_42 (dk_at dksX1_rent_17 6 rfl rfl)
theorem dX1_rent_405 : decode cX1_rent 405 = .ok (.getfield 172, 3) := dk_180 0 172 (dk_at dksX1_rent_17 7 rfl rfl)
theorem dX1_rent_408 : decode cX1_rent 408 = .ok (.iconst 0, 1) := dk_3 (dk_at dksX1_rent_17 10 rfl rfl)
theorem dX1_rent_409 : decode cX1_rent 409 = .ok (.laload, 1) := dk_47 (dk_at dksX1_rent_17 11 rfl rfl)
theorem dX1_rent_410 : decode cX1_rent 410 = .ok (.l2i, 1) := dk_136 (dk_at dksX1_rent_17 12 rfl rfl)
theorem dX1_rent_411 : decode cX1_rent 411 = .ok (.ireturn, 1) := dk_172 (dk_at dksX1_rent_17 13 rfl rfl)
abbrev cX1_costOf : ByteArray := prog_8_method_92_code
def yX1_costOf : MethodName := ⟨RX1, "costOf", "(IIIIIII)J"⟩
def dkwX1_costOf_2 : List UInt8 := [133, 21, 8, 133, 105, 97, 173]
abbrev dktX1_costOf_2 : List UInt8 := dkwX1_costOf_2 ++ []
def dkwX1_costOf_1 : List UInt8 := [26, 100, 167, 0, 4, 3, 54, 8, 21, 4, 133, 26, 133, 105, 21, 5, 133, 21, 7, 133, 105, 97, 21, 6]
abbrev dktX1_costOf_1 : List UInt8 := dkwX1_costOf_1 ++ dktX1_costOf_2
def dkwX1_costOf_0 : List UInt8 := [26, 27, 164, 0, 9, 26, 27, 100, 167, 0, 4, 3, 54, 7, 28, 29, 26, 96, 164, 0, 11, 28, 29, 100]
abbrev dktX1_costOf_0 : List UInt8 := dkwX1_costOf_0 ++ dktX1_costOf_1
theorem dksX1_costOf_0 : cX1_costOf.data.toList.drop 0 = dktX1_costOf_0 := by decide +kernel
theorem dksX1_costOf_1 : cX1_costOf.data.toList.drop 24 = dktX1_costOf_1 := dk_seg dksX1_costOf_0 24 rfl rfl
theorem dksX1_costOf_2 : cX1_costOf.data.toList.drop 48 = dktX1_costOf_2 := dk_seg dksX1_costOf_1 24 rfl rfl
theorem dX1_costOf_0 : decode cX1_costOf 0 = .ok (.iload_n 0, 1) := dk_26 (dk_at dksX1_costOf_0 0 rfl rfl)
theorem dX1_costOf_1 : decode cX1_costOf 1 = .ok (.iload_n 1, 1) := dk_27 (dk_at dksX1_costOf_0 1 rfl rfl)
theorem dX1_costOf_2 : decode cX1_costOf 2 = .ok (.if_icmp .le 9, 3) := dk_164 0 9 (dk_at dksX1_costOf_0 2 rfl rfl)
theorem dX1_costOf_5 : decode cX1_costOf 5 = .ok (.iload_n 0, 1) := dk_26 (dk_at dksX1_costOf_0 5 rfl rfl)
theorem dX1_costOf_6 : decode cX1_costOf 6 = .ok (.iload_n 1, 1) := dk_27 (dk_at dksX1_costOf_0 6 rfl rfl)
theorem dX1_costOf_7 : decode cX1_costOf 7 = .ok (.isub, 1) := dk_100 (dk_at dksX1_costOf_0 7 rfl rfl)
theorem dX1_costOf_8 : decode cX1_costOf 8 = .ok (.goto 4, 3) := dk_167 0 4 (dk_at dksX1_costOf_0 8 rfl rfl)
theorem dX1_costOf_11 : decode cX1_costOf 11 = .ok (.iconst 0, 1) := dk_3 (dk_at dksX1_costOf_0 11 rfl rfl)
theorem dX1_costOf_12 : decode cX1_costOf 12 = .ok (.istore 7, 2) := dk_54 7 (dk_at dksX1_costOf_0 12 rfl rfl)
theorem dX1_costOf_14 : decode cX1_costOf 14 = .ok (.iload_n 2, 1) := dk_28 (dk_at dksX1_costOf_0 14 rfl rfl)
theorem dX1_costOf_15 : decode cX1_costOf 15 = .ok (.iload_n 3, 1) := dk_29 (dk_at dksX1_costOf_0 15 rfl rfl)
theorem dX1_costOf_16 : decode cX1_costOf 16 = .ok (.iload_n 0, 1) := dk_26 (dk_at dksX1_costOf_0 16 rfl rfl)
theorem dX1_costOf_17 : decode cX1_costOf 17 = .ok (.iadd, 1) := dk_96 (dk_at dksX1_costOf_0 17 rfl rfl)
theorem dX1_costOf_18 : decode cX1_costOf 18 = .ok (.if_icmp .le 11, 3) := dk_164 0 11 (dk_at dksX1_costOf_0 18 rfl rfl)
theorem dX1_costOf_21 : decode cX1_costOf 21 = .ok (.iload_n 2, 1) := dk_28 (dk_at dksX1_costOf_0 21 rfl rfl)
theorem dX1_costOf_22 : decode cX1_costOf 22 = .ok (.iload_n 3, 1) := dk_29 (dk_at dksX1_costOf_0 22 rfl rfl)
theorem dX1_costOf_23 : decode cX1_costOf 23 = .ok (.isub, 1) := dk_100 (dk_at dksX1_costOf_0 23 rfl rfl)
theorem dX1_costOf_24 : decode cX1_costOf 24 = .ok (.iload_n 0, 1) := dk_26 (dk_at dksX1_costOf_1 0 rfl rfl)
theorem dX1_costOf_25 : decode cX1_costOf 25 = .ok (.isub, 1) := dk_100 (dk_at dksX1_costOf_1 1 rfl rfl)
theorem dX1_costOf_26 : decode cX1_costOf 26 = .ok (.goto 4, 3) := dk_167 0 4 (dk_at dksX1_costOf_1 2 rfl rfl)
theorem dX1_costOf_29 : decode cX1_costOf 29 = .ok (.iconst 0, 1) := dk_3 (dk_at dksX1_costOf_1 5 rfl rfl)
theorem dX1_costOf_30 : decode cX1_costOf 30 = .ok (.istore 8, 2) := dk_54 8 (dk_at dksX1_costOf_1 6 rfl rfl)
theorem dX1_costOf_32 : decode cX1_costOf 32 = .ok (.iload 4, 2) := dk_21 4 (dk_at dksX1_costOf_1 8 rfl rfl)
theorem dX1_costOf_34 : decode cX1_costOf 34 = .ok (.i2l, 1) := dk_133 (dk_at dksX1_costOf_1 10 rfl rfl)
theorem dX1_costOf_35 : decode cX1_costOf 35 = .ok (.iload_n 0, 1) := dk_26 (dk_at dksX1_costOf_1 11 rfl rfl)
theorem dX1_costOf_36 : decode cX1_costOf 36 = .ok (.i2l, 1) := dk_133 (dk_at dksX1_costOf_1 12 rfl rfl)
theorem dX1_costOf_37 : decode cX1_costOf 37 = .ok (.lmul, 1) := dk_105 (dk_at dksX1_costOf_1 13 rfl rfl)
theorem dX1_costOf_38 : decode cX1_costOf 38 = .ok (.iload 5, 2) := dk_21 5 (dk_at dksX1_costOf_1 14 rfl rfl)
theorem dX1_costOf_40 : decode cX1_costOf 40 = .ok (.i2l, 1) := dk_133 (dk_at dksX1_costOf_1 16 rfl rfl)
theorem dX1_costOf_41 : decode cX1_costOf 41 = .ok (.iload 7, 2) := dk_21 7 (dk_at dksX1_costOf_1 17 rfl rfl)
theorem dX1_costOf_43 : decode cX1_costOf 43 = .ok (.i2l, 1) := dk_133 (dk_at dksX1_costOf_1 19 rfl rfl)
theorem dX1_costOf_44 : decode cX1_costOf 44 = .ok (.lmul, 1) := dk_105 (dk_at dksX1_costOf_1 20 rfl rfl)
theorem dX1_costOf_45 : decode cX1_costOf 45 = .ok (.ladd, 1) := dk_97 (dk_at dksX1_costOf_1 21 rfl rfl)
theorem dX1_costOf_46 : decode cX1_costOf 46 = .ok (.iload 6, 2) := dk_21 6 (dk_at dksX1_costOf_1 22 rfl rfl)
theorem dX1_costOf_48 : decode cX1_costOf 48 = .ok (.i2l, 1) := dk_133 (dk_at dksX1_costOf_2 0 rfl rfl)
theorem dX1_costOf_49 : decode cX1_costOf 49 = .ok (.iload 8, 2) := dk_21 8 (dk_at dksX1_costOf_2 1 rfl rfl)
theorem dX1_costOf_51 : decode cX1_costOf 51 = .ok (.i2l, 1) := dk_133 (dk_at dksX1_costOf_2 3 rfl rfl)
theorem dX1_costOf_52 : decode cX1_costOf 52 = .ok (.lmul, 1) := dk_105 (dk_at dksX1_costOf_2 4 rfl rfl)
theorem dX1_costOf_53 : decode cX1_costOf 53 = .ok (.ladd, 1) := dk_97 (dk_at dksX1_costOf_2 5 rfl rfl)
theorem dX1_costOf_54 : decode cX1_costOf 54 = .ok (.lreturn, 1) := dk_173 (dk_at dksX1_costOf_2 6 rfl rfl)
abbrev cX1_rented : ByteArray := prog_8_method_94_code
def yX1_rented : MethodName := ⟨RX1, "rented", "(I)I"⟩
def dkwX1_rented_1 : List UInt8 := [16, 247, 172]
abbrev dktX1_rented_1 : List UInt8 := dkwX1_rented_1 ++ []
def dkwX1_rented_0 : List UInt8 := [27, 3, 42, 180, 1, 116, 4, 100, 184, 0, 185, 153, 0, 12, 42, 180, 0, 169, 27, 46, 167, 0, 5]
abbrev dktX1_rented_0 : List UInt8 := dkwX1_rented_0 ++ dktX1_rented_1
theorem dksX1_rented_0 : cX1_rented.data.toList.drop 0 = dktX1_rented_0 := by decide +kernel
theorem dksX1_rented_1 : cX1_rented.data.toList.drop 23 = dktX1_rented_1 := dk_seg dksX1_rented_0 23 rfl rfl
theorem dX1_rented_0 : decode cX1_rented 0 = .ok (.iload_n 1, 1) := dk_27 (dk_at dksX1_rented_0 0 rfl rfl)
theorem dX1_rented_1 : decode cX1_rented 1 = .ok (.iconst 0, 1) := dk_3 (dk_at dksX1_rented_0 1 rfl rfl)
theorem dX1_rented_2 : decode cX1_rented 2 = .ok (.aload_n 0, 1) := dk_42 (dk_at dksX1_rented_0 2 rfl rfl)
theorem dX1_rented_3 : decode cX1_rented 3 = .ok (.getfield 372, 3) := dk_180 1 116 (dk_at dksX1_rented_0 3 rfl rfl)
theorem dX1_rented_6 : decode cX1_rented 6 = .ok (.iconst 1, 1) := dk_4 (dk_at dksX1_rented_0 6 rfl rfl)
theorem dX1_rented_7 : decode cX1_rented 7 = .ok (.isub, 1) := dk_100 (dk_at dksX1_rented_0 7 rfl rfl)
theorem dX1_rented_8 : decode cX1_rented 8 = .ok (.invokestatic 185, 3) := dk_184 0 185 (dk_at dksX1_rented_0 8 rfl rfl)
theorem dX1_rented_11 : decode cX1_rented 11 = .ok (.ifCond .eq 12, 3) := dk_153 0 12 (dk_at dksX1_rented_0 11 rfl rfl)
theorem dX1_rented_14 : decode cX1_rented 14 = .ok (.aload_n 0, 1) := dk_42 (dk_at dksX1_rented_0 14 rfl rfl)
theorem dX1_rented_15 : decode cX1_rented 15 = .ok (.getfield 169, 3) := dk_180 0 169 (dk_at dksX1_rented_0 15 rfl rfl)
theorem dX1_rented_18 : decode cX1_rented 18 = .ok (.iload_n 1, 1) := dk_27 (dk_at dksX1_rented_0 18 rfl rfl)
theorem dX1_rented_19 : decode cX1_rented 19 = .ok (.iaload, 1) := dk_46 (dk_at dksX1_rented_0 19 rfl rfl)
theorem dX1_rented_20 : decode cX1_rented 20 = .ok (.goto 5, 3) := dk_167 0 5 (dk_at dksX1_rented_0 20 rfl rfl)
theorem dX1_rented_23 : decode cX1_rented 23 = .ok (.bipush (-9), 2) := dk_16 247 (dk_at dksX1_rented_1 0 rfl rfl)
theorem dX1_rented_25 : decode cX1_rented 25 = .ok (.ireturn, 1) := dk_172 (dk_at dksX1_rented_1 2 rfl rfl)
abbrev cX1_asked : ByteArray := prog_8_method_95_code
def yX1_asked : MethodName := ⟨RX1, "asked", "()I"⟩
theorem dX1_asked_0 : decode cX1_asked 0 = .ok (.aload_n 0, 1) := by decide +kernel
theorem dX1_asked_1 : decode cX1_asked 1 = .ok (.getfield 179, 3) := by decide +kernel
theorem dX1_asked_4 : decode cX1_asked 4 = .ok (.ireturn, 1) := by decide +kernel
abbrev cX1_upper : ByteArray := prog_8_method_96_code
def yX1_upper : MethodName := ⟨RX1, "upper", "()J"⟩
theorem dX1_upper_0 : decode cX1_upper 0 = .ok (.aload_n 0, 1) := by decide +kernel
theorem dX1_upper_1 : decode cX1_upper 1 = .ok (.getfield 182, 3) := by decide +kernel
theorem dX1_upper_4 : decode cX1_upper 4 = .ok (.lreturn, 1) := by decide +kernel
abbrev cX1_lower : ByteArray := prog_8_method_97_code
def yX1_lower : MethodName := ⟨RX1, "lower", "()J"⟩
theorem dX1_lower_0 : decode cX1_lower 0 = .ok (.aload_n 0, 1) := by decide +kernel
theorem dX1_lower_1 : decode cX1_lower 1 = .ok (.getfield 13, 3) := by decide +kernel
theorem dX1_lower_4 : decode cX1_lower 4 = .ok (.lreturn, 1) := by decide +kernel
abbrev cX1_count : ByteArray := prog_8_method_99_code
def yX1_count : MethodName := ⟨RX1, "count", "(I)I"⟩
def dkwX1_count_0 : List UInt8 := [27, 3, 16, 7, 184, 0, 185, 153, 0, 11, 42, 27, 182, 1, 119, 167, 0, 4, 2, 172]
abbrev dktX1_count_0 : List UInt8 := dkwX1_count_0 ++ []
theorem dksX1_count_0 : cX1_count.data.toList.drop 0 = dktX1_count_0 := by decide +kernel
theorem dX1_count_0 : decode cX1_count 0 = .ok (.iload_n 1, 1) := dk_27 (dk_at dksX1_count_0 0 rfl rfl)
theorem dX1_count_1 : decode cX1_count 1 = .ok (.iconst 0, 1) := dk_3 (dk_at dksX1_count_0 1 rfl rfl)
theorem dX1_count_2 : decode cX1_count 2 = .ok (.bipush 7, 2) := dk_16 7 (dk_at dksX1_count_0 2 rfl rfl)
theorem dX1_count_4 : decode cX1_count 4 = .ok (.invokestatic 185, 3) := dk_184 0 185 (dk_at dksX1_count_0 4 rfl rfl)
theorem dX1_count_7 : decode cX1_count 7 = .ok (.ifCond .eq 11, 3) := dk_153 0 11 (dk_at dksX1_count_0 7 rfl rfl)
theorem dX1_count_10 : decode cX1_count 10 = .ok (.aload_n 0, 1) := dk_42 (dk_at dksX1_count_0 10 rfl rfl)
theorem dX1_count_11 : decode cX1_count 11 = .ok (.iload_n 1, 1) := dk_27 (dk_at dksX1_count_0 11 rfl rfl)
theorem dX1_count_12 : decode cX1_count 12 = .ok (.invokevirtual 375, 3) := dk_182 1 119 (dk_at dksX1_count_0 12 rfl rfl)
theorem dX1_count_15 : decode cX1_count 15 = .ok (.goto 4, 3) := dk_167 0 4 (dk_at dksX1_count_0 15 rfl rfl)
theorem dX1_count_18 : decode cX1_count 18 = .ok (.iconst (-1), 1) := dk_2 (dk_at dksX1_count_0 18 rfl rfl)
theorem dX1_count_19 : decode cX1_count 19 = .ok (.ireturn, 1) := dk_172 (dk_at dksX1_count_0 19 rfl rfl)
abbrev cX1_counts : ByteArray := prog_8_method_98_code
def yX1_counts : MethodName := ⟨RX1, "counts", "(I)I"⟩
def dkwX1_counts_8 : List UInt8 := [180, 0, 26, 29, 46, 155, 0, 7, 4, 167, 0, 4, 3, 96, 61, 132, 3, 1, 167, 255, 231, 28, 172]
abbrev dktX1_counts_8 : List UInt8 := dkwX1_counts_8 ++ []
def dkwX1_counts_7 : List UInt8 := [167, 0, 4, 3, 96, 61, 132, 3, 1, 167, 255, 230, 28, 172, 3, 62, 29, 7, 162, 0, 26, 28, 42]
abbrev dktX1_counts_7 : List UInt8 := dkwX1_counts_7 ++ dktX1_counts_8
def dkwX1_counts_6 : List UInt8 := [42, 180, 0, 226, 172, 3, 62, 29, 16, 6, 162, 0, 26, 28, 42, 180, 0, 17, 29, 46, 155, 0, 7, 4]
abbrev dktX1_counts_6 : List UInt8 := dkwX1_counts_6 ++ dktX1_counts_7
def dkwX1_counts_5 : List UInt8 := [46, 158, 0, 7, 4, 167, 0, 4, 3, 96, 61, 132, 3, 1, 167, 255, 219, 28, 172, 42, 180, 1, 24, 172]
abbrev dktX1_counts_5 : List UInt8 := dkwX1_counts_5 ++ dktX1_counts_6
def dkwX1_counts_4 : List UInt8 := [62, 29, 16, 64, 162, 0, 37, 28, 29, 16, 8, 108, 29, 16, 8, 112, 162, 0, 16, 42, 180, 0, 32, 29]
abbrev dktX1_counts_4 : List UInt8 := dkwX1_counts_4 ++ dktX1_counts_5
def dkwX1_counts_3 : List UInt8 := [180, 0, 56, 29, 51, 153, 0, 7, 4, 167, 0, 4, 3, 96, 61, 132, 3, 1, 167, 255, 228, 28, 172, 3]
abbrev dktX1_counts_3 : List UInt8 := dkwX1_counts_3 ++ dktX1_counts_4
def dkwX1_counts_2 : List UInt8 := [42, 180, 0, 207, 172, 42, 180, 0, 229, 172, 3, 62, 29, 42, 180, 0, 229, 162, 0, 26, 28, 42]
abbrev dktX1_counts_2 : List UInt8 := dkwX1_counts_2 ++ dktX1_counts_3
def dkwX1_counts_1 : List UInt8 := [170, 0, 0, 0, 173, 0, 0, 0, 0, 0, 0, 0, 6, 0, 0, 0, 41, 0, 0, 0, 46, 0, 0, 0, 51, 0, 0, 0, 86, 0, 0, 0, 130, 0, 0, 0, 135, 0, 0, 0, 140]
abbrev dktX1_counts_1 : List UInt8 := dkwX1_counts_1 ++ dktX1_counts_2
def dkwX1_counts_0 : List UInt8 := [3, 61, 27]
abbrev dktX1_counts_0 : List UInt8 := dkwX1_counts_0 ++ dktX1_counts_1
theorem dksX1_counts_0 : cX1_counts.data.toList.drop 0 = dktX1_counts_0 := by decide +kernel
theorem dksX1_counts_1 : cX1_counts.data.toList.drop 3 = dktX1_counts_1 := dk_seg dksX1_counts_0 3 rfl rfl
theorem dksX1_counts_2 : cX1_counts.data.toList.drop 44 = dktX1_counts_2 := dk_seg dksX1_counts_1 41 rfl rfl
theorem dksX1_counts_3 : cX1_counts.data.toList.drop 66 = dktX1_counts_3 := dk_seg dksX1_counts_2 22 rfl rfl
theorem dksX1_counts_4 : cX1_counts.data.toList.drop 90 = dktX1_counts_4 := dk_seg dksX1_counts_3 24 rfl rfl
theorem dksX1_counts_5 : cX1_counts.data.toList.drop 114 = dktX1_counts_5 := dk_seg dksX1_counts_4 24 rfl rfl
theorem dksX1_counts_6 : cX1_counts.data.toList.drop 138 = dktX1_counts_6 := dk_seg dksX1_counts_5 24 rfl rfl
theorem dksX1_counts_7 : cX1_counts.data.toList.drop 162 = dktX1_counts_7 := dk_seg dksX1_counts_6 24 rfl rfl
theorem dksX1_counts_8 : cX1_counts.data.toList.drop 185 = dktX1_counts_8 := dk_seg dksX1_counts_7 23 rfl rfl
theorem dX1_counts_0 : decode cX1_counts 0 = .ok (.iconst 0, 1) := dk_3 (dk_at dksX1_counts_0 0 rfl rfl)
theorem dX1_counts_1 : decode cX1_counts 1 = .ok (.istore_n 2, 1) := dk_61 (dk_at dksX1_counts_0 1 rfl rfl)
theorem dX1_counts_2 : decode cX1_counts 2 = .ok (.iload_n 1, 1) := dk_27 (dk_at dksX1_counts_0 2 rfl rfl)
theorem dX1_counts_3 : decode cX1_counts 3 = .ok (.tableswitch 173 0 6 #[41, 46, 51, 86, 130, 135, 140], 41) := by decide +kernel
theorem dX1_counts_44 : decode cX1_counts 44 = .ok (.aload_n 0, 1) := dk_42 (dk_at dksX1_counts_2 0 rfl rfl)
theorem dX1_counts_45 : decode cX1_counts 45 = .ok (.getfield 207, 3) := dk_180 0 207 (dk_at dksX1_counts_2 1 rfl rfl)
theorem dX1_counts_48 : decode cX1_counts 48 = .ok (.ireturn, 1) := dk_172 (dk_at dksX1_counts_2 4 rfl rfl)
theorem dX1_counts_49 : decode cX1_counts 49 = .ok (.aload_n 0, 1) := dk_42 (dk_at dksX1_counts_2 5 rfl rfl)
theorem dX1_counts_50 : decode cX1_counts 50 = .ok (.getfield 229, 3) := dk_180 0 229 (dk_at dksX1_counts_2 6 rfl rfl)
theorem dX1_counts_53 : decode cX1_counts 53 = .ok (.ireturn, 1) := dk_172 (dk_at dksX1_counts_2 9 rfl rfl)
theorem dX1_counts_54 : decode cX1_counts 54 = .ok (.iconst 0, 1) := dk_3 (dk_at dksX1_counts_2 10 rfl rfl)
theorem dX1_counts_55 : decode cX1_counts 55 = .ok (.istore_n 3, 1) := dk_62 (dk_at dksX1_counts_2 11 rfl rfl)
theorem dX1_counts_56 : decode cX1_counts 56 = .ok (.iload_n 3, 1) := dk_29 (dk_at dksX1_counts_2 12 rfl rfl)
theorem dX1_counts_57 : decode cX1_counts 57 = .ok (.aload_n 0, 1) := dk_42 (dk_at dksX1_counts_2 13 rfl rfl)
theorem dX1_counts_58 : decode cX1_counts 58 = .ok (.getfield 229, 3) := dk_180 0 229 (dk_at dksX1_counts_2 14 rfl rfl)
theorem dX1_counts_61 : decode cX1_counts 61 = .ok (.if_icmp .ge 26, 3) := dk_162 0 26 (dk_at dksX1_counts_2 17 rfl rfl)
theorem dX1_counts_64 : decode cX1_counts 64 = .ok (.iload_n 2, 1) := dk_28 (dk_at dksX1_counts_2 20 rfl rfl)
theorem dX1_counts_65 : decode cX1_counts 65 = .ok (.aload_n 0, 1) := dk_42 (dk_at dksX1_counts_2 21 rfl rfl)
theorem dX1_counts_66 : decode cX1_counts 66 = .ok (.getfield 56, 3) := dk_180 0 56 (dk_at dksX1_counts_3 0 rfl rfl)
theorem dX1_counts_69 : decode cX1_counts 69 = .ok (.iload_n 3, 1) := dk_29 (dk_at dksX1_counts_3 3 rfl rfl)
theorem dX1_counts_70 : decode cX1_counts 70 = .ok (.baload, 1) := dk_51 (dk_at dksX1_counts_3 4 rfl rfl)
theorem dX1_counts_71 : decode cX1_counts 71 = .ok (.ifCond .eq 7, 3) := dk_153 0 7 (dk_at dksX1_counts_3 5 rfl rfl)
theorem dX1_counts_74 : decode cX1_counts 74 = .ok (.iconst 1, 1) := dk_4 (dk_at dksX1_counts_3 8 rfl rfl)
theorem dX1_counts_75 : decode cX1_counts 75 = .ok (.goto 4, 3) := dk_167 0 4 (dk_at dksX1_counts_3 9 rfl rfl)
theorem dX1_counts_78 : decode cX1_counts 78 = .ok (.iconst 0, 1) := dk_3 (dk_at dksX1_counts_3 12 rfl rfl)
theorem dX1_counts_79 : decode cX1_counts 79 = .ok (.iadd, 1) := dk_96 (dk_at dksX1_counts_3 13 rfl rfl)
theorem dX1_counts_80 : decode cX1_counts 80 = .ok (.istore_n 2, 1) := dk_61 (dk_at dksX1_counts_3 14 rfl rfl)
theorem dX1_counts_81 : decode cX1_counts 81 = .ok (.iinc 3 1, 3) := dk_132 3 1 (dk_at dksX1_counts_3 15 rfl rfl)
theorem dX1_counts_84 : decode cX1_counts 84 = .ok (.goto (-28), 3) := dk_167 255 228 (dk_at dksX1_counts_3 18 rfl rfl)
theorem dX1_counts_87 : decode cX1_counts 87 = .ok (.iload_n 2, 1) := dk_28 (dk_at dksX1_counts_3 21 rfl rfl)
theorem dX1_counts_88 : decode cX1_counts 88 = .ok (.ireturn, 1) := dk_172 (dk_at dksX1_counts_3 22 rfl rfl)
theorem dX1_counts_89 : decode cX1_counts 89 = .ok (.iconst 0, 1) := dk_3 (dk_at dksX1_counts_3 23 rfl rfl)
theorem dX1_counts_90 : decode cX1_counts 90 = .ok (.istore_n 3, 1) := dk_62 (dk_at dksX1_counts_4 0 rfl rfl)
theorem dX1_counts_91 : decode cX1_counts 91 = .ok (.iload_n 3, 1) := dk_29 (dk_at dksX1_counts_4 1 rfl rfl)
theorem dX1_counts_92 : decode cX1_counts 92 = .ok (.bipush 64, 2) := dk_16 64 (dk_at dksX1_counts_4 2 rfl rfl)
theorem dX1_counts_94 : decode cX1_counts 94 = .ok (.if_icmp .ge 37, 3) := dk_162 0 37 (dk_at dksX1_counts_4 4 rfl rfl)
theorem dX1_counts_97 : decode cX1_counts 97 = .ok (.iload_n 2, 1) := dk_28 (dk_at dksX1_counts_4 7 rfl rfl)
theorem dX1_counts_98 : decode cX1_counts 98 = .ok (.iload_n 3, 1) := dk_29 (dk_at dksX1_counts_4 8 rfl rfl)
theorem dX1_counts_99 : decode cX1_counts 99 = .ok (.bipush 8, 2) := dk_16 8 (dk_at dksX1_counts_4 9 rfl rfl)
theorem dX1_counts_101 : decode cX1_counts 101 = .ok (.idiv, 1) := dk_108 (dk_at dksX1_counts_4 11 rfl rfl)
theorem dX1_counts_102 : decode cX1_counts 102 = .ok (.iload_n 3, 1) := dk_29 (dk_at dksX1_counts_4 12 rfl rfl)
theorem dX1_counts_103 : decode cX1_counts 103 = .ok (.bipush 8, 2) := dk_16 8 (dk_at dksX1_counts_4 13 rfl rfl)
theorem dX1_counts_105 : decode cX1_counts 105 = .ok (.irem, 1) := dk_112 (dk_at dksX1_counts_4 15 rfl rfl)
theorem dX1_counts_106 : decode cX1_counts 106 = .ok (.if_icmp .ge 16, 3) := dk_162 0 16 (dk_at dksX1_counts_4 16 rfl rfl)
theorem dX1_counts_109 : decode cX1_counts 109 = .ok (.aload_n 0, 1) := dk_42 (dk_at dksX1_counts_4 19 rfl rfl)
theorem dX1_counts_110 : decode cX1_counts 110 = .ok (.getfield 32, 3) := dk_180 0 32 (dk_at dksX1_counts_4 20 rfl rfl)
theorem dX1_counts_113 : decode cX1_counts 113 = .ok (.iload_n 3, 1) := dk_29 (dk_at dksX1_counts_4 23 rfl rfl)
theorem dX1_counts_114 : decode cX1_counts 114 = .ok (.iaload, 1) := dk_46 (dk_at dksX1_counts_5 0 rfl rfl)
theorem dX1_counts_115 : decode cX1_counts 115 = .ok (.ifCond .le 7, 3) := dk_158 0 7 (dk_at dksX1_counts_5 1 rfl rfl)
theorem dX1_counts_118 : decode cX1_counts 118 = .ok (.iconst 1, 1) := dk_4 (dk_at dksX1_counts_5 4 rfl rfl)
theorem dX1_counts_119 : decode cX1_counts 119 = .ok (.goto 4, 3) := dk_167 0 4 (dk_at dksX1_counts_5 5 rfl rfl)
theorem dX1_counts_122 : decode cX1_counts 122 = .ok (.iconst 0, 1) := dk_3 (dk_at dksX1_counts_5 8 rfl rfl)
theorem dX1_counts_123 : decode cX1_counts 123 = .ok (.iadd, 1) := dk_96 (dk_at dksX1_counts_5 9 rfl rfl)
theorem dX1_counts_124 : decode cX1_counts 124 = .ok (.istore_n 2, 1) := dk_61 (dk_at dksX1_counts_5 10 rfl rfl)
theorem dX1_counts_125 : decode cX1_counts 125 = .ok (.iinc 3 1, 3) := dk_132 3 1 (dk_at dksX1_counts_5 11 rfl rfl)
theorem dX1_counts_128 : decode cX1_counts 128 = .ok (.goto (-37), 3) := dk_167 255 219 (dk_at dksX1_counts_5 14 rfl rfl)
theorem dX1_counts_131 : decode cX1_counts 131 = .ok (.iload_n 2, 1) := dk_28 (dk_at dksX1_counts_5 17 rfl rfl)
theorem dX1_counts_132 : decode cX1_counts 132 = .ok (.ireturn, 1) := dk_172 (dk_at dksX1_counts_5 18 rfl rfl)
theorem dX1_counts_133 : decode cX1_counts 133 = .ok (.aload_n 0, 1) := dk_42 (dk_at dksX1_counts_5 19 rfl rfl)
theorem dX1_counts_134 : decode cX1_counts 134 = .ok (.getfield 280, 3) := dk_180 1 24 (dk_at dksX1_counts_5 20 rfl rfl)
theorem dX1_counts_137 : decode cX1_counts 137 = .ok (.ireturn, 1) := dk_172 (dk_at dksX1_counts_5 23 rfl rfl)
theorem dX1_counts_138 : decode cX1_counts 138 = .ok (.aload_n 0, 1) := dk_42 (dk_at dksX1_counts_6 0 rfl rfl)
theorem dX1_counts_139 : decode cX1_counts 139 = .ok (.getfield 226, 3) := dk_180 0 226 (dk_at dksX1_counts_6 1 rfl rfl)
theorem dX1_counts_142 : decode cX1_counts 142 = .ok (.ireturn, 1) := dk_172 (dk_at dksX1_counts_6 4 rfl rfl)
theorem dX1_counts_143 : decode cX1_counts 143 = .ok (.iconst 0, 1) := dk_3 (dk_at dksX1_counts_6 5 rfl rfl)
theorem dX1_counts_144 : decode cX1_counts 144 = .ok (.istore_n 3, 1) := dk_62 (dk_at dksX1_counts_6 6 rfl rfl)
theorem dX1_counts_145 : decode cX1_counts 145 = .ok (.iload_n 3, 1) := dk_29 (dk_at dksX1_counts_6 7 rfl rfl)
theorem dX1_counts_146 : decode cX1_counts 146 = .ok (.bipush 6, 2) := dk_16 6 (dk_at dksX1_counts_6 8 rfl rfl)
theorem dX1_counts_148 : decode cX1_counts 148 = .ok (.if_icmp .ge 26, 3) := dk_162 0 26 (dk_at dksX1_counts_6 10 rfl rfl)
theorem dX1_counts_151 : decode cX1_counts 151 = .ok (.iload_n 2, 1) := dk_28 (dk_at dksX1_counts_6 13 rfl rfl)
theorem dX1_counts_152 : decode cX1_counts 152 = .ok (.aload_n 0, 1) := dk_42 (dk_at dksX1_counts_6 14 rfl rfl)
theorem dX1_counts_153 : decode cX1_counts 153 = .ok (.getfield 17, 3) := dk_180 0 17 (dk_at dksX1_counts_6 15 rfl rfl)
theorem dX1_counts_156 : decode cX1_counts 156 = .ok (.iload_n 3, 1) := dk_29 (dk_at dksX1_counts_6 18 rfl rfl)
theorem dX1_counts_157 : decode cX1_counts 157 = .ok (.iaload, 1) := dk_46 (dk_at dksX1_counts_6 19 rfl rfl)
theorem dX1_counts_158 : decode cX1_counts 158 = .ok (.ifCond .lt 7, 3) := dk_155 0 7 (dk_at dksX1_counts_6 20 rfl rfl)
theorem dX1_counts_161 : decode cX1_counts 161 = .ok (.iconst 1, 1) := dk_4 (dk_at dksX1_counts_6 23 rfl rfl)
theorem dX1_counts_162 : decode cX1_counts 162 = .ok (.goto 4, 3) := dk_167 0 4 (dk_at dksX1_counts_7 0 rfl rfl)
theorem dX1_counts_165 : decode cX1_counts 165 = .ok (.iconst 0, 1) := dk_3 (dk_at dksX1_counts_7 3 rfl rfl)
theorem dX1_counts_166 : decode cX1_counts 166 = .ok (.iadd, 1) := dk_96 (dk_at dksX1_counts_7 4 rfl rfl)
theorem dX1_counts_167 : decode cX1_counts 167 = .ok (.istore_n 2, 1) := dk_61 (dk_at dksX1_counts_7 5 rfl rfl)
theorem dX1_counts_168 : decode cX1_counts 168 = .ok (.iinc 3 1, 3) := dk_132 3 1 (dk_at dksX1_counts_7 6 rfl rfl)
theorem dX1_counts_171 : decode cX1_counts 171 = .ok (.goto (-26), 3) := dk_167 255 230 (dk_at dksX1_counts_7 9 rfl rfl)
theorem dX1_counts_174 : decode cX1_counts 174 = .ok (.iload_n 2, 1) := dk_28 (dk_at dksX1_counts_7 12 rfl rfl)
theorem dX1_counts_175 : decode cX1_counts 175 = .ok (.ireturn, 1) := dk_172 (dk_at dksX1_counts_7 13 rfl rfl)
theorem dX1_counts_176 : decode cX1_counts 176 = .ok (.iconst 0, 1) := dk_3 (dk_at dksX1_counts_7 14 rfl rfl)
theorem dX1_counts_177 : decode cX1_counts 177 = .ok (.istore_n 3, 1) := dk_62 (dk_at dksX1_counts_7 15 rfl rfl)
theorem dX1_counts_178 : decode cX1_counts 178 = .ok (.iload_n 3, 1) := dk_29 (dk_at dksX1_counts_7 16 rfl rfl)
theorem dX1_counts_179 : decode cX1_counts 179 = .ok (.iconst 4, 1) := dk_7 (dk_at dksX1_counts_7 17 rfl rfl)
theorem dX1_counts_180 : decode cX1_counts 180 = .ok (.if_icmp .ge 26, 3) := dk_162 0 26 (dk_at dksX1_counts_7 18 rfl rfl)
theorem dX1_counts_183 : decode cX1_counts 183 = .ok (.iload_n 2, 1) := dk_28 (dk_at dksX1_counts_7 21 rfl rfl)
theorem dX1_counts_184 : decode cX1_counts 184 = .ok (.aload_n 0, 1) := dk_42 (dk_at dksX1_counts_7 22 rfl rfl)
theorem dX1_counts_185 : decode cX1_counts 185 = .ok (.getfield 26, 3) := dk_180 0 26 (dk_at dksX1_counts_8 0 rfl rfl)
theorem dX1_counts_188 : decode cX1_counts 188 = .ok (.iload_n 3, 1) := dk_29 (dk_at dksX1_counts_8 3 rfl rfl)
theorem dX1_counts_189 : decode cX1_counts 189 = .ok (.iaload, 1) := dk_46 (dk_at dksX1_counts_8 4 rfl rfl)
theorem dX1_counts_190 : decode cX1_counts 190 = .ok (.ifCond .lt 7, 3) := dk_155 0 7 (dk_at dksX1_counts_8 5 rfl rfl)
theorem dX1_counts_193 : decode cX1_counts 193 = .ok (.iconst 1, 1) := dk_4 (dk_at dksX1_counts_8 8 rfl rfl)
theorem dX1_counts_194 : decode cX1_counts 194 = .ok (.goto 4, 3) := dk_167 0 4 (dk_at dksX1_counts_8 9 rfl rfl)
theorem dX1_counts_197 : decode cX1_counts 197 = .ok (.iconst 0, 1) := dk_3 (dk_at dksX1_counts_8 12 rfl rfl)
theorem dX1_counts_198 : decode cX1_counts 198 = .ok (.iadd, 1) := dk_96 (dk_at dksX1_counts_8 13 rfl rfl)
theorem dX1_counts_199 : decode cX1_counts 199 = .ok (.istore_n 2, 1) := dk_61 (dk_at dksX1_counts_8 14 rfl rfl)
theorem dX1_counts_200 : decode cX1_counts 200 = .ok (.iinc 3 1, 3) := dk_132 3 1 (dk_at dksX1_counts_8 15 rfl rfl)
theorem dX1_counts_203 : decode cX1_counts 203 = .ok (.goto (-25), 3) := dk_167 255 231 (dk_at dksX1_counts_8 18 rfl rfl)
theorem dX1_counts_206 : decode cX1_counts 206 = .ok (.iload_n 2, 1) := dk_28 (dk_at dksX1_counts_8 21 rfl rfl)
theorem dX1_counts_207 : decode cX1_counts 207 = .ok (.ireturn, 1) := dk_172 (dk_at dksX1_counts_8 22 rfl rfl)
abbrev cX1_finding : ByteArray := prog_8_method_100_code
def yX1_finding : MethodName := ⟨RX1, "finding", "()I"⟩
theorem dX1_finding_0 : decode cX1_finding 0 = .ok (.aload_n 0, 1) := by decide +kernel
theorem dX1_finding_1 : decode cX1_finding 1 = .ok (.getfield 176, 3) := by decide +kernel
theorem dX1_finding_4 : decode cX1_finding 4 = .ok (.ireturn, 1) := by decide +kernel
abbrev cX1_findings : ByteArray := prog_8_method_101_code
def yX1_findings : MethodName := ⟨RX1, "findings", "(I)I"⟩
def dkwX1_findings_0 : List UInt8 := [27, 4, 8, 184, 0, 185, 153, 0, 12, 42, 180, 0, 7, 27, 46, 167, 0, 4, 2, 172]
abbrev dktX1_findings_0 : List UInt8 := dkwX1_findings_0 ++ []
theorem dksX1_findings_0 : cX1_findings.data.toList.drop 0 = dktX1_findings_0 := by decide +kernel
theorem dX1_findings_0 : decode cX1_findings 0 = .ok (.iload_n 1, 1) := dk_27 (dk_at dksX1_findings_0 0 rfl rfl)
theorem dX1_findings_1 : decode cX1_findings 1 = .ok (.iconst 1, 1) := dk_4 (dk_at dksX1_findings_0 1 rfl rfl)
theorem dX1_findings_2 : decode cX1_findings 2 = .ok (.iconst 5, 1) := dk_8 (dk_at dksX1_findings_0 2 rfl rfl)
theorem dX1_findings_3 : decode cX1_findings 3 = .ok (.invokestatic 185, 3) := dk_184 0 185 (dk_at dksX1_findings_0 3 rfl rfl)
theorem dX1_findings_6 : decode cX1_findings 6 = .ok (.ifCond .eq 12, 3) := dk_153 0 12 (dk_at dksX1_findings_0 6 rfl rfl)
theorem dX1_findings_9 : decode cX1_findings 9 = .ok (.aload_n 0, 1) := dk_42 (dk_at dksX1_findings_0 9 rfl rfl)
theorem dX1_findings_10 : decode cX1_findings 10 = .ok (.getfield 7, 3) := dk_180 0 7 (dk_at dksX1_findings_0 10 rfl rfl)
theorem dX1_findings_13 : decode cX1_findings 13 = .ok (.iload_n 1, 1) := dk_27 (dk_at dksX1_findings_0 13 rfl rfl)
theorem dX1_findings_14 : decode cX1_findings 14 = .ok (.iaload, 1) := dk_46 (dk_at dksX1_findings_0 14 rfl rfl)
theorem dX1_findings_15 : decode cX1_findings 15 = .ok (.goto 4, 3) := dk_167 0 4 (dk_at dksX1_findings_0 15 rfl rfl)
theorem dX1_findings_18 : decode cX1_findings 18 = .ok (.iconst (-1), 1) := dk_2 (dk_at dksX1_findings_0 18 rfl rfl)
theorem dX1_findings_19 : decode cX1_findings 19 = .ok (.ireturn, 1) := dk_172 (dk_at dksX1_findings_0 19 rfl rfl)
abbrev cX1_digest : ByteArray := prog_8_method_103_code
def yX1_digest : MethodName := ⟨RX1, "digest", "()J"⟩
def dkwX1_digest_18 : List UInt8 := [167, 255, 192, 42, 180, 1, 124, 173]
abbrev dktX1_digest_18 : List UInt8 := dkwX1_digest_18 ++ []
def dkwX1_digest_17 : List UInt8 := [180, 0, 29, 16, 40, 27, 104, 28, 96, 46, 182, 1, 129, 132, 2, 1, 167, 255, 228, 132, 1, 1]
abbrev dktX1_digest_17 : List UInt8 := dkwX1_digest_17 ++ dktX1_digest_18
def dkwX1_digest_16 : List UInt8 := [42, 180, 0, 26, 27, 46, 182, 1, 129, 3, 61, 28, 42, 180, 0, 26, 27, 46, 162, 0, 24, 42, 42]
abbrev dktX1_digest_16 : List UInt8 := dkwX1_digest_16 ++ dktX1_digest_17
def dkwX1_digest_15 : List UInt8 := [167, 255, 191, 3, 60, 27, 7, 162, 0, 65, 42, 42, 180, 0, 26, 27, 46, 156, 0, 7, 2, 167, 0, 9]
abbrev dktX1_digest_15 : List UInt8 := dkwX1_digest_15 ++ dktX1_digest_16
def dkwX1_digest_14 : List UInt8 := [42, 42, 180, 0, 20, 16, 40, 27, 104, 28, 96, 46, 182, 1, 129, 132, 2, 1, 167, 255, 228, 132, 1, 1]
abbrev dktX1_digest_14 : List UInt8 := dkwX1_digest_14 ++ dktX1_digest_15
def dkwX1_digest_13 : List UInt8 := [167, 0, 9, 42, 180, 0, 17, 27, 46, 182, 1, 129, 3, 61, 28, 42, 180, 0, 17, 27, 46, 162, 0, 24]
abbrev dktX1_digest_13 : List UInt8 := dkwX1_digest_13 ++ dktX1_digest_14
def dkwX1_digest_12 : List UInt8 := [182, 1, 129, 3, 60, 27, 16, 6, 162, 0, 65, 42, 42, 180, 0, 17, 27, 46, 156, 0, 7, 2]
abbrev dktX1_digest_12 : List UInt8 := dkwX1_digest_12 ++ dktX1_digest_13
def dkwX1_digest_11 : List UInt8 := [182, 1, 129, 132, 1, 1, 167, 255, 225, 42, 42, 180, 0, 126, 182, 1, 129, 42, 42, 180, 0, 130]
abbrev dktX1_digest_11 : List UInt8 := dkwX1_digest_11 ++ dktX1_digest_12
def dkwX1_digest_10 : List UInt8 := [180, 1, 24, 162, 0, 29, 42, 42, 180, 0, 114, 27, 46, 182, 1, 129, 42, 42, 180, 0, 117, 27, 46]
abbrev dktX1_digest_10 : List UInt8 := dkwX1_digest_10 ++ dktX1_digest_11
def dkwX1_digest_9 : List UInt8 := [182, 1, 129, 42, 42, 180, 0, 108, 27, 46, 182, 1, 129, 132, 1, 1, 167, 255, 205, 3, 60, 27, 42]
abbrev dktX1_digest_9 : List UInt8 := dkwX1_digest_9 ++ dktX1_digest_10
def dkwX1_digest_8 : List UInt8 := [27, 46, 182, 1, 129, 42, 42, 180, 0, 102, 27, 46, 182, 1, 129, 42, 42, 180, 0, 105, 27, 46]
abbrev dktX1_digest_8 : List UInt8 := dkwX1_digest_8 ++ dktX1_digest_9
def dkwX1_digest_7 : List UInt8 := [167, 255, 238, 132, 1, 1, 167, 255, 224, 3, 60, 27, 42, 180, 0, 226, 162, 0, 49, 42, 42, 180, 0, 99]
abbrev dktX1_digest_7 : List UInt8 := dkwX1_digest_7 ++ dktX1_digest_8
def dkwX1_digest_6 : List UInt8 := [162, 0, 32, 3, 61, 28, 7, 163, 0, 19, 42, 42, 27, 28, 182, 1, 12, 182, 1, 129, 132, 2, 1]
abbrev dktX1_digest_6 : List UInt8 := dkwX1_digest_6 ++ dktX1_digest_7
def dkwX1_digest_5 : List UInt8 := [28, 182, 0, 243, 182, 1, 129, 132, 2, 1, 167, 255, 237, 132, 1, 1, 167, 255, 221, 3, 60, 27, 16, 6]
abbrev dktX1_digest_5 : List UInt8 := dkwX1_digest_5 ++ dktX1_digest_6
def dkwX1_digest_4 : List UInt8 := [167, 255, 196, 3, 60, 27, 42, 180, 0, 229, 162, 0, 33, 3, 61, 28, 16, 7, 163, 0, 19, 42, 42, 27]
abbrev dktX1_digest_4 : List UInt8 := dkwX1_digest_4 ++ dktX1_digest_5
def dkwX1_digest_3 : List UInt8 := [42, 180, 0, 38, 27, 46, 182, 1, 129, 42, 42, 180, 0, 41, 27, 46, 182, 1, 129, 132, 1, 1]
abbrev dktX1_digest_3 : List UInt8 := dkwX1_digest_3 ++ dktX1_digest_4
def dkwX1_digest_2 : List UInt8 := [162, 0, 43, 42, 42, 180, 0, 32, 27, 46, 182, 1, 129, 42, 42, 180, 0, 35, 27, 46, 182, 1, 129, 42]
abbrev dktX1_digest_2 : List UInt8 := dkwX1_digest_2 ++ dktX1_digest_3
def dkwX1_digest_1 : List UInt8 := [132, 1, 1, 167, 255, 238, 3, 60, 27, 16, 64, 162, 0, 60, 27, 16, 8, 108, 27, 16, 8, 112]
abbrev dktX1_digest_1 : List UInt8 := dkwX1_digest_1 ++ dktX1_digest_2
def dkwX1_digest_0 : List UInt8 := [42, 20, 1, 127, 181, 1, 124, 3, 60, 27, 16, 7, 163, 0, 18, 42, 42, 27, 182, 1, 119, 182, 1, 129]
abbrev dktX1_digest_0 : List UInt8 := dkwX1_digest_0 ++ dktX1_digest_1
theorem dksX1_digest_0 : cX1_digest.data.toList.drop 0 = dktX1_digest_0 := by decide +kernel
theorem dksX1_digest_1 : cX1_digest.data.toList.drop 24 = dktX1_digest_1 := dk_seg dksX1_digest_0 24 rfl rfl
theorem dksX1_digest_2 : cX1_digest.data.toList.drop 46 = dktX1_digest_2 := dk_seg dksX1_digest_1 22 rfl rfl
theorem dksX1_digest_3 : cX1_digest.data.toList.drop 70 = dktX1_digest_3 := dk_seg dksX1_digest_2 24 rfl rfl
theorem dksX1_digest_4 : cX1_digest.data.toList.drop 92 = dktX1_digest_4 := dk_seg dksX1_digest_3 22 rfl rfl
theorem dksX1_digest_5 : cX1_digest.data.toList.drop 116 = dktX1_digest_5 := dk_seg dksX1_digest_4 24 rfl rfl
theorem dksX1_digest_6 : cX1_digest.data.toList.drop 140 = dktX1_digest_6 := dk_seg dksX1_digest_5 24 rfl rfl
theorem dksX1_digest_7 : cX1_digest.data.toList.drop 163 = dktX1_digest_7 := dk_seg dksX1_digest_6 23 rfl rfl
theorem dksX1_digest_8 : cX1_digest.data.toList.drop 187 = dktX1_digest_8 := dk_seg dksX1_digest_7 24 rfl rfl
theorem dksX1_digest_9 : cX1_digest.data.toList.drop 209 = dktX1_digest_9 := dk_seg dksX1_digest_8 22 rfl rfl
theorem dksX1_digest_10 : cX1_digest.data.toList.drop 232 = dktX1_digest_10 := dk_seg dksX1_digest_9 23 rfl rfl
theorem dksX1_digest_11 : cX1_digest.data.toList.drop 255 = dktX1_digest_11 := dk_seg dksX1_digest_10 23 rfl rfl
theorem dksX1_digest_12 : cX1_digest.data.toList.drop 277 = dktX1_digest_12 := dk_seg dksX1_digest_11 22 rfl rfl
theorem dksX1_digest_13 : cX1_digest.data.toList.drop 299 = dktX1_digest_13 := dk_seg dksX1_digest_12 22 rfl rfl
theorem dksX1_digest_14 : cX1_digest.data.toList.drop 323 = dktX1_digest_14 := dk_seg dksX1_digest_13 24 rfl rfl
theorem dksX1_digest_15 : cX1_digest.data.toList.drop 347 = dktX1_digest_15 := dk_seg dksX1_digest_14 24 rfl rfl
theorem dksX1_digest_16 : cX1_digest.data.toList.drop 371 = dktX1_digest_16 := dk_seg dksX1_digest_15 24 rfl rfl
theorem dksX1_digest_17 : cX1_digest.data.toList.drop 394 = dktX1_digest_17 := dk_seg dksX1_digest_16 23 rfl rfl
theorem dksX1_digest_18 : cX1_digest.data.toList.drop 416 = dktX1_digest_18 := dk_seg dksX1_digest_17 22 rfl rfl
theorem dX1_digest_0 : decode cX1_digest 0 = .ok (.aload_n 0, 1) := dk_42 (dk_at dksX1_digest_0 0 rfl rfl)
theorem dX1_digest_1 : decode cX1_digest 1 = .ok (.ldc2_w 383, 3) := dk_20 1 127 (dk_at dksX1_digest_0 1 rfl rfl)
theorem dX1_digest_4 : decode cX1_digest 4 = .ok (.putfield 380, 3) := dk_181 1 124 (dk_at dksX1_digest_0 4 rfl rfl)
theorem dX1_digest_7 : decode cX1_digest 7 = .ok (.iconst 0, 1) := dk_3 (dk_at dksX1_digest_0 7 rfl rfl)
theorem dX1_digest_8 : decode cX1_digest 8 = .ok (.istore_n 1, 1) := dk_60 (dk_at dksX1_digest_0 8 rfl rfl)
theorem dX1_digest_9 : decode cX1_digest 9 = .ok (.iload_n 1, 1) := dk_27 (dk_at dksX1_digest_0 9 rfl rfl)
theorem dX1_digest_10 : decode cX1_digest 10 = .ok (.bipush 7, 2) := dk_16 7 (dk_at dksX1_digest_0 10 rfl rfl)
theorem dX1_digest_12 : decode cX1_digest 12 = .ok (.if_icmp .gt 18, 3) := dk_163 0 18 (dk_at dksX1_digest_0 12 rfl rfl)
theorem dX1_digest_15 : decode cX1_digest 15 = .ok (.aload_n 0, 1) := dk_42 (dk_at dksX1_digest_0 15 rfl rfl)
theorem dX1_digest_16 : decode cX1_digest 16 = .ok (.aload_n 0, 1) := dk_42 (dk_at dksX1_digest_0 16 rfl rfl)
theorem dX1_digest_17 : decode cX1_digest 17 = .ok (.iload_n 1, 1) := dk_27 (dk_at dksX1_digest_0 17 rfl rfl)
theorem dX1_digest_18 : decode cX1_digest 18 = .ok (.invokevirtual 375, 3) := dk_182 1 119 (dk_at dksX1_digest_0 18 rfl rfl)
theorem dX1_digest_21 : decode cX1_digest 21 = .ok (.invokevirtual 385, 3) := dk_182 1 129 (dk_at dksX1_digest_0 21 rfl rfl)
theorem dX1_digest_24 : decode cX1_digest 24 = .ok (.iinc 1 1, 3) := dk_132 1 1 (dk_at dksX1_digest_1 0 rfl rfl)
theorem dX1_digest_27 : decode cX1_digest 27 = .ok (.goto (-18), 3) := dk_167 255 238 (dk_at dksX1_digest_1 3 rfl rfl)
theorem dX1_digest_30 : decode cX1_digest 30 = .ok (.iconst 0, 1) := dk_3 (dk_at dksX1_digest_1 6 rfl rfl)
theorem dX1_digest_31 : decode cX1_digest 31 = .ok (.istore_n 1, 1) := dk_60 (dk_at dksX1_digest_1 7 rfl rfl)
theorem dX1_digest_32 : decode cX1_digest 32 = .ok (.iload_n 1, 1) := dk_27 (dk_at dksX1_digest_1 8 rfl rfl)
theorem dX1_digest_33 : decode cX1_digest 33 = .ok (.bipush 64, 2) := dk_16 64 (dk_at dksX1_digest_1 9 rfl rfl)
theorem dX1_digest_35 : decode cX1_digest 35 = .ok (.if_icmp .ge 60, 3) := dk_162 0 60 (dk_at dksX1_digest_1 11 rfl rfl)
theorem dX1_digest_38 : decode cX1_digest 38 = .ok (.iload_n 1, 1) := dk_27 (dk_at dksX1_digest_1 14 rfl rfl)
theorem dX1_digest_39 : decode cX1_digest 39 = .ok (.bipush 8, 2) := dk_16 8 (dk_at dksX1_digest_1 15 rfl rfl)
theorem dX1_digest_41 : decode cX1_digest 41 = .ok (.idiv, 1) := dk_108 (dk_at dksX1_digest_1 17 rfl rfl)
theorem dX1_digest_42 : decode cX1_digest 42 = .ok (.iload_n 1, 1) := dk_27 (dk_at dksX1_digest_1 18 rfl rfl)
theorem dX1_digest_43 : decode cX1_digest 43 = .ok (.bipush 8, 2) := dk_16 8 (dk_at dksX1_digest_1 19 rfl rfl)
theorem dX1_digest_45 : decode cX1_digest 45 = .ok (.irem, 1) := dk_112 (dk_at dksX1_digest_1 21 rfl rfl)
theorem dX1_digest_46 : decode cX1_digest 46 = .ok (.if_icmp .ge 43, 3) := dk_162 0 43 (dk_at dksX1_digest_2 0 rfl rfl)
theorem dX1_digest_49 : decode cX1_digest 49 = .ok (.aload_n 0, 1) := dk_42 (dk_at dksX1_digest_2 3 rfl rfl)
theorem dX1_digest_50 : decode cX1_digest 50 = .ok (.aload_n 0, 1) := dk_42 (dk_at dksX1_digest_2 4 rfl rfl)
theorem dX1_digest_51 : decode cX1_digest 51 = .ok (.getfield 32, 3) := dk_180 0 32 (dk_at dksX1_digest_2 5 rfl rfl)
theorem dX1_digest_54 : decode cX1_digest 54 = .ok (.iload_n 1, 1) := dk_27 (dk_at dksX1_digest_2 8 rfl rfl)
theorem dX1_digest_55 : decode cX1_digest 55 = .ok (.iaload, 1) := dk_46 (dk_at dksX1_digest_2 9 rfl rfl)
theorem dX1_digest_56 : decode cX1_digest 56 = .ok (.invokevirtual 385, 3) := dk_182 1 129 (dk_at dksX1_digest_2 10 rfl rfl)
theorem dX1_digest_59 : decode cX1_digest 59 = .ok (.aload_n 0, 1) := dk_42 (dk_at dksX1_digest_2 13 rfl rfl)
theorem dX1_digest_60 : decode cX1_digest 60 = .ok (.aload_n 0, 1) := dk_42 (dk_at dksX1_digest_2 14 rfl rfl)
theorem dX1_digest_61 : decode cX1_digest 61 = .ok (.getfield 35, 3) := dk_180 0 35 (dk_at dksX1_digest_2 15 rfl rfl)
theorem dX1_digest_64 : decode cX1_digest 64 = .ok (.iload_n 1, 1) := dk_27 (dk_at dksX1_digest_2 18 rfl rfl)
theorem dX1_digest_65 : decode cX1_digest 65 = .ok (.iaload, 1) := dk_46 (dk_at dksX1_digest_2 19 rfl rfl)
theorem dX1_digest_66 : decode cX1_digest 66 = .ok (.invokevirtual 385, 3) := dk_182 1 129 (dk_at dksX1_digest_2 20 rfl rfl)
theorem dX1_digest_69 : decode cX1_digest 69 = .ok (.aload_n 0, 1) := dk_42 (dk_at dksX1_digest_2 23 rfl rfl)
theorem dX1_digest_70 : decode cX1_digest 70 = .ok (.aload_n 0, 1) := dk_42 (dk_at dksX1_digest_3 0 rfl rfl)
theorem dX1_digest_71 : decode cX1_digest 71 = .ok (.getfield 38, 3) := dk_180 0 38 (dk_at dksX1_digest_3 1 rfl rfl)
theorem dX1_digest_74 : decode cX1_digest 74 = .ok (.iload_n 1, 1) := dk_27 (dk_at dksX1_digest_3 4 rfl rfl)
theorem dX1_digest_75 : decode cX1_digest 75 = .ok (.iaload, 1) := dk_46 (dk_at dksX1_digest_3 5 rfl rfl)
theorem dX1_digest_76 : decode cX1_digest 76 = .ok (.invokevirtual 385, 3) := dk_182 1 129 (dk_at dksX1_digest_3 6 rfl rfl)
theorem dX1_digest_79 : decode cX1_digest 79 = .ok (.aload_n 0, 1) := dk_42 (dk_at dksX1_digest_3 9 rfl rfl)
theorem dX1_digest_80 : decode cX1_digest 80 = .ok (.aload_n 0, 1) := dk_42 (dk_at dksX1_digest_3 10 rfl rfl)
theorem dX1_digest_81 : decode cX1_digest 81 = .ok (.getfield 41, 3) := dk_180 0 41 (dk_at dksX1_digest_3 11 rfl rfl)
theorem dX1_digest_84 : decode cX1_digest 84 = .ok (.iload_n 1, 1) := dk_27 (dk_at dksX1_digest_3 14 rfl rfl)
theorem dX1_digest_85 : decode cX1_digest 85 = .ok (.iaload, 1) := dk_46 (dk_at dksX1_digest_3 15 rfl rfl)
theorem dX1_digest_86 : decode cX1_digest 86 = .ok (.invokevirtual 385, 3) := dk_182 1 129 (dk_at dksX1_digest_3 16 rfl rfl)
theorem dX1_digest_89 : decode cX1_digest 89 = .ok (.iinc 1 1, 3) := dk_132 1 1 (dk_at dksX1_digest_3 19 rfl rfl)
theorem dX1_digest_92 : decode cX1_digest 92 = .ok (.goto (-60), 3) := dk_167 255 196 (dk_at dksX1_digest_4 0 rfl rfl)
theorem dX1_digest_95 : decode cX1_digest 95 = .ok (.iconst 0, 1) := dk_3 (dk_at dksX1_digest_4 3 rfl rfl)
theorem dX1_digest_96 : decode cX1_digest 96 = .ok (.istore_n 1, 1) := dk_60 (dk_at dksX1_digest_4 4 rfl rfl)
theorem dX1_digest_97 : decode cX1_digest 97 = .ok (.iload_n 1, 1) := dk_27 (dk_at dksX1_digest_4 5 rfl rfl)
theorem dX1_digest_98 : decode cX1_digest 98 = .ok (.aload_n 0, 1) := dk_42 (dk_at dksX1_digest_4 6 rfl rfl)
theorem dX1_digest_99 : decode cX1_digest 99 = .ok (.getfield 229, 3) := dk_180 0 229 (dk_at dksX1_digest_4 7 rfl rfl)
theorem dX1_digest_102 : decode cX1_digest 102 = .ok (.if_icmp .ge 33, 3) := dk_162 0 33 (dk_at dksX1_digest_4 10 rfl rfl)
theorem dX1_digest_105 : decode cX1_digest 105 = .ok (.iconst 0, 1) := dk_3 (dk_at dksX1_digest_4 13 rfl rfl)
theorem dX1_digest_106 : decode cX1_digest 106 = .ok (.istore_n 2, 1) := dk_61 (dk_at dksX1_digest_4 14 rfl rfl)
theorem dX1_digest_107 : decode cX1_digest 107 = .ok (.iload_n 2, 1) := dk_28 (dk_at dksX1_digest_4 15 rfl rfl)
theorem dX1_digest_108 : decode cX1_digest 108 = .ok (.bipush 7, 2) := dk_16 7 (dk_at dksX1_digest_4 16 rfl rfl)
theorem dX1_digest_110 : decode cX1_digest 110 = .ok (.if_icmp .gt 19, 3) := dk_163 0 19 (dk_at dksX1_digest_4 18 rfl rfl)
theorem dX1_digest_113 : decode cX1_digest 113 = .ok (.aload_n 0, 1) := dk_42 (dk_at dksX1_digest_4 21 rfl rfl)
theorem dX1_digest_114 : decode cX1_digest 114 = .ok (.aload_n 0, 1) := dk_42 (dk_at dksX1_digest_4 22 rfl rfl)
theorem dX1_digest_115 : decode cX1_digest 115 = .ok (.iload_n 1, 1) := dk_27 (dk_at dksX1_digest_4 23 rfl rfl)
theorem dX1_digest_116 : decode cX1_digest 116 = .ok (.iload_n 2, 1) := dk_28 (dk_at dksX1_digest_5 0 rfl rfl)
theorem dX1_digest_117 : decode cX1_digest 117 = .ok (.invokevirtual 243, 3) := dk_182 0 243 (dk_at dksX1_digest_5 1 rfl rfl)
theorem dX1_digest_120 : decode cX1_digest 120 = .ok (.invokevirtual 385, 3) := dk_182 1 129 (dk_at dksX1_digest_5 4 rfl rfl)
theorem dX1_digest_123 : decode cX1_digest 123 = .ok (.iinc 2 1, 3) := dk_132 2 1 (dk_at dksX1_digest_5 7 rfl rfl)
theorem dX1_digest_126 : decode cX1_digest 126 = .ok (.goto (-19), 3) := dk_167 255 237 (dk_at dksX1_digest_5 10 rfl rfl)
theorem dX1_digest_129 : decode cX1_digest 129 = .ok (.iinc 1 1, 3) := dk_132 1 1 (dk_at dksX1_digest_5 13 rfl rfl)
theorem dX1_digest_132 : decode cX1_digest 132 = .ok (.goto (-35), 3) := dk_167 255 221 (dk_at dksX1_digest_5 16 rfl rfl)
theorem dX1_digest_135 : decode cX1_digest 135 = .ok (.iconst 0, 1) := dk_3 (dk_at dksX1_digest_5 19 rfl rfl)
theorem dX1_digest_136 : decode cX1_digest 136 = .ok (.istore_n 1, 1) := dk_60 (dk_at dksX1_digest_5 20 rfl rfl)
theorem dX1_digest_137 : decode cX1_digest 137 = .ok (.iload_n 1, 1) := dk_27 (dk_at dksX1_digest_5 21 rfl rfl)
theorem dX1_digest_138 : decode cX1_digest 138 = .ok (.bipush 6, 2) := dk_16 6 (dk_at dksX1_digest_5 22 rfl rfl)
theorem dX1_digest_140 : decode cX1_digest 140 = .ok (.if_icmp .ge 32, 3) := dk_162 0 32 (dk_at dksX1_digest_6 0 rfl rfl)
theorem dX1_digest_143 : decode cX1_digest 143 = .ok (.iconst 0, 1) := dk_3 (dk_at dksX1_digest_6 3 rfl rfl)
theorem dX1_digest_144 : decode cX1_digest 144 = .ok (.istore_n 2, 1) := dk_61 (dk_at dksX1_digest_6 4 rfl rfl)
theorem dX1_digest_145 : decode cX1_digest 145 = .ok (.iload_n 2, 1) := dk_28 (dk_at dksX1_digest_6 5 rfl rfl)
theorem dX1_digest_146 : decode cX1_digest 146 = .ok (.iconst 4, 1) := dk_7 (dk_at dksX1_digest_6 6 rfl rfl)
theorem dX1_digest_147 : decode cX1_digest 147 = .ok (.if_icmp .gt 19, 3) := dk_163 0 19 (dk_at dksX1_digest_6 7 rfl rfl)
theorem dX1_digest_150 : decode cX1_digest 150 = .ok (.aload_n 0, 1) := dk_42 (dk_at dksX1_digest_6 10 rfl rfl)
theorem dX1_digest_151 : decode cX1_digest 151 = .ok (.aload_n 0, 1) := dk_42 (dk_at dksX1_digest_6 11 rfl rfl)
theorem dX1_digest_152 : decode cX1_digest 152 = .ok (.iload_n 1, 1) := dk_27 (dk_at dksX1_digest_6 12 rfl rfl)
theorem dX1_digest_153 : decode cX1_digest 153 = .ok (.iload_n 2, 1) := dk_28 (dk_at dksX1_digest_6 13 rfl rfl)
theorem dX1_digest_154 : decode cX1_digest 154 = .ok (.invokevirtual 268, 3) := dk_182 1 12 (dk_at dksX1_digest_6 14 rfl rfl)
theorem dX1_digest_157 : decode cX1_digest 157 = .ok (.invokevirtual 385, 3) := dk_182 1 129 (dk_at dksX1_digest_6 17 rfl rfl)
theorem dX1_digest_160 : decode cX1_digest 160 = .ok (.iinc 2 1, 3) := dk_132 2 1 (dk_at dksX1_digest_6 20 rfl rfl)
theorem dX1_digest_163 : decode cX1_digest 163 = .ok (.goto (-18), 3) := dk_167 255 238 (dk_at dksX1_digest_7 0 rfl rfl)
theorem dX1_digest_166 : decode cX1_digest 166 = .ok (.iinc 1 1, 3) := dk_132 1 1 (dk_at dksX1_digest_7 3 rfl rfl)
theorem dX1_digest_169 : decode cX1_digest 169 = .ok (.goto (-32), 3) := dk_167 255 224 (dk_at dksX1_digest_7 6 rfl rfl)
theorem dX1_digest_172 : decode cX1_digest 172 = .ok (.iconst 0, 1) := dk_3 (dk_at dksX1_digest_7 9 rfl rfl)
theorem dX1_digest_173 : decode cX1_digest 173 = .ok (.istore_n 1, 1) := dk_60 (dk_at dksX1_digest_7 10 rfl rfl)
theorem dX1_digest_174 : decode cX1_digest 174 = .ok (.iload_n 1, 1) := dk_27 (dk_at dksX1_digest_7 11 rfl rfl)
theorem dX1_digest_175 : decode cX1_digest 175 = .ok (.aload_n 0, 1) := dk_42 (dk_at dksX1_digest_7 12 rfl rfl)
theorem dX1_digest_176 : decode cX1_digest 176 = .ok (.getfield 226, 3) := dk_180 0 226 (dk_at dksX1_digest_7 13 rfl rfl)
theorem dX1_digest_179 : decode cX1_digest 179 = .ok (.if_icmp .ge 49, 3) := dk_162 0 49 (dk_at dksX1_digest_7 16 rfl rfl)
theorem dX1_digest_182 : decode cX1_digest 182 = .ok (.aload_n 0, 1) := dk_42 (dk_at dksX1_digest_7 19 rfl rfl)
theorem dX1_digest_183 : decode cX1_digest 183 = .ok (.aload_n 0, 1) := dk_42 (dk_at dksX1_digest_7 20 rfl rfl)
theorem dX1_digest_184 : decode cX1_digest 184 = .ok (.getfield 99, 3) := dk_180 0 99 (dk_at dksX1_digest_7 21 rfl rfl)
theorem dX1_digest_187 : decode cX1_digest 187 = .ok (.iload_n 1, 1) := dk_27 (dk_at dksX1_digest_8 0 rfl rfl)
theorem dX1_digest_188 : decode cX1_digest 188 = .ok (.iaload, 1) := dk_46 (dk_at dksX1_digest_8 1 rfl rfl)
theorem dX1_digest_189 : decode cX1_digest 189 = .ok (.invokevirtual 385, 3) := dk_182 1 129 (dk_at dksX1_digest_8 2 rfl rfl)
theorem dX1_digest_192 : decode cX1_digest 192 = .ok (.aload_n 0, 1) := dk_42 (dk_at dksX1_digest_8 5 rfl rfl)
theorem dX1_digest_193 : decode cX1_digest 193 = .ok (.aload_n 0, 1) := dk_42 (dk_at dksX1_digest_8 6 rfl rfl)
theorem dX1_digest_194 : decode cX1_digest 194 = .ok (.getfield 102, 3) := dk_180 0 102 (dk_at dksX1_digest_8 7 rfl rfl)
theorem dX1_digest_197 : decode cX1_digest 197 = .ok (.iload_n 1, 1) := dk_27 (dk_at dksX1_digest_8 10 rfl rfl)
theorem dX1_digest_198 : decode cX1_digest 198 = .ok (.iaload, 1) := dk_46 (dk_at dksX1_digest_8 11 rfl rfl)
theorem dX1_digest_199 : decode cX1_digest 199 = .ok (.invokevirtual 385, 3) := dk_182 1 129 (dk_at dksX1_digest_8 12 rfl rfl)
theorem dX1_digest_202 : decode cX1_digest 202 = .ok (.aload_n 0, 1) := dk_42 (dk_at dksX1_digest_8 15 rfl rfl)
theorem dX1_digest_203 : decode cX1_digest 203 = .ok (.aload_n 0, 1) := dk_42 (dk_at dksX1_digest_8 16 rfl rfl)
theorem dX1_digest_204 : decode cX1_digest 204 = .ok (.getfield 105, 3) := dk_180 0 105 (dk_at dksX1_digest_8 17 rfl rfl)
theorem dX1_digest_207 : decode cX1_digest 207 = .ok (.iload_n 1, 1) := dk_27 (dk_at dksX1_digest_8 20 rfl rfl)
theorem dX1_digest_208 : decode cX1_digest 208 = .ok (.iaload, 1) := dk_46 (dk_at dksX1_digest_8 21 rfl rfl)
theorem dX1_digest_209 : decode cX1_digest 209 = .ok (.invokevirtual 385, 3) := dk_182 1 129 (dk_at dksX1_digest_9 0 rfl rfl)
theorem dX1_digest_212 : decode cX1_digest 212 = .ok (.aload_n 0, 1) := dk_42 (dk_at dksX1_digest_9 3 rfl rfl)
theorem dX1_digest_213 : decode cX1_digest 213 = .ok (.aload_n 0, 1) := dk_42 (dk_at dksX1_digest_9 4 rfl rfl)
theorem dX1_digest_214 : decode cX1_digest 214 = .ok (.getfield 108, 3) := dk_180 0 108 (dk_at dksX1_digest_9 5 rfl rfl)
theorem dX1_digest_217 : decode cX1_digest 217 = .ok (.iload_n 1, 1) := dk_27 (dk_at dksX1_digest_9 8 rfl rfl)
theorem dX1_digest_218 : decode cX1_digest 218 = .ok (.iaload, 1) := dk_46 (dk_at dksX1_digest_9 9 rfl rfl)
theorem dX1_digest_219 : decode cX1_digest 219 = .ok (.invokevirtual 385, 3) := dk_182 1 129 (dk_at dksX1_digest_9 10 rfl rfl)
theorem dX1_digest_222 : decode cX1_digest 222 = .ok (.iinc 1 1, 3) := dk_132 1 1 (dk_at dksX1_digest_9 13 rfl rfl)
theorem dX1_digest_225 : decode cX1_digest 225 = .ok (.goto (-51), 3) := dk_167 255 205 (dk_at dksX1_digest_9 16 rfl rfl)
theorem dX1_digest_228 : decode cX1_digest 228 = .ok (.iconst 0, 1) := dk_3 (dk_at dksX1_digest_9 19 rfl rfl)
theorem dX1_digest_229 : decode cX1_digest 229 = .ok (.istore_n 1, 1) := dk_60 (dk_at dksX1_digest_9 20 rfl rfl)
theorem dX1_digest_230 : decode cX1_digest 230 = .ok (.iload_n 1, 1) := dk_27 (dk_at dksX1_digest_9 21 rfl rfl)
theorem dX1_digest_231 : decode cX1_digest 231 = .ok (.aload_n 0, 1) := dk_42 (dk_at dksX1_digest_9 22 rfl rfl)
theorem dX1_digest_232 : decode cX1_digest 232 = .ok (.getfield 280, 3) := dk_180 1 24 (dk_at dksX1_digest_10 0 rfl rfl)
theorem dX1_digest_235 : decode cX1_digest 235 = .ok (.if_icmp .ge 29, 3) := dk_162 0 29 (dk_at dksX1_digest_10 3 rfl rfl)
theorem dX1_digest_238 : decode cX1_digest 238 = .ok (.aload_n 0, 1) := dk_42 (dk_at dksX1_digest_10 6 rfl rfl)
theorem dX1_digest_239 : decode cX1_digest 239 = .ok (.aload_n 0, 1) := dk_42 (dk_at dksX1_digest_10 7 rfl rfl)
theorem dX1_digest_240 : decode cX1_digest 240 = .ok (.getfield 114, 3) := dk_180 0 114 (dk_at dksX1_digest_10 8 rfl rfl)
theorem dX1_digest_243 : decode cX1_digest 243 = .ok (.iload_n 1, 1) := dk_27 (dk_at dksX1_digest_10 11 rfl rfl)
theorem dX1_digest_244 : decode cX1_digest 244 = .ok (.iaload, 1) := dk_46 (dk_at dksX1_digest_10 12 rfl rfl)
theorem dX1_digest_245 : decode cX1_digest 245 = .ok (.invokevirtual 385, 3) := dk_182 1 129 (dk_at dksX1_digest_10 13 rfl rfl)
theorem dX1_digest_248 : decode cX1_digest 248 = .ok (.aload_n 0, 1) := dk_42 (dk_at dksX1_digest_10 16 rfl rfl)
theorem dX1_digest_249 : decode cX1_digest 249 = .ok (.aload_n 0, 1) := dk_42 (dk_at dksX1_digest_10 17 rfl rfl)
theorem dX1_digest_250 : decode cX1_digest 250 = .ok (.getfield 117, 3) := dk_180 0 117 (dk_at dksX1_digest_10 18 rfl rfl)
theorem dX1_digest_253 : decode cX1_digest 253 = .ok (.iload_n 1, 1) := dk_27 (dk_at dksX1_digest_10 21 rfl rfl)
theorem dX1_digest_254 : decode cX1_digest 254 = .ok (.iaload, 1) := dk_46 (dk_at dksX1_digest_10 22 rfl rfl)
theorem dX1_digest_255 : decode cX1_digest 255 = .ok (.invokevirtual 385, 3) := dk_182 1 129 (dk_at dksX1_digest_11 0 rfl rfl)
theorem dX1_digest_258 : decode cX1_digest 258 = .ok (.iinc 1 1, 3) := dk_132 1 1 (dk_at dksX1_digest_11 3 rfl rfl)
theorem dX1_digest_261 : decode cX1_digest 261 = .ok (.goto (-31), 3) := dk_167 255 225 (dk_at dksX1_digest_11 6 rfl rfl)
theorem dX1_digest_264 : decode cX1_digest 264 = .ok (.aload_n 0, 1) := dk_42 (dk_at dksX1_digest_11 9 rfl rfl)
theorem dX1_digest_265 : decode cX1_digest 265 = .ok (.aload_n 0, 1) := dk_42 (dk_at dksX1_digest_11 10 rfl rfl)
theorem dX1_digest_266 : decode cX1_digest 266 = .ok (.getfield 126, 3) := dk_180 0 126 (dk_at dksX1_digest_11 11 rfl rfl)
theorem dX1_digest_269 : decode cX1_digest 269 = .ok (.invokevirtual 385, 3) := dk_182 1 129 (dk_at dksX1_digest_11 14 rfl rfl)
theorem dX1_digest_272 : decode cX1_digest 272 = .ok (.aload_n 0, 1) := dk_42 (dk_at dksX1_digest_11 17 rfl rfl)
theorem dX1_digest_273 : decode cX1_digest 273 = .ok (.aload_n 0, 1) := dk_42 (dk_at dksX1_digest_11 18 rfl rfl)
theorem dX1_digest_274 : decode cX1_digest 274 = .ok (.getfield 130, 3) := dk_180 0 130 (dk_at dksX1_digest_11 19 rfl rfl)
theorem dX1_digest_277 : decode cX1_digest 277 = .ok (.invokevirtual 385, 3) := dk_182 1 129 (dk_at dksX1_digest_12 0 rfl rfl)
theorem dX1_digest_280 : decode cX1_digest 280 = .ok (.iconst 0, 1) := dk_3 (dk_at dksX1_digest_12 3 rfl rfl)
theorem dX1_digest_281 : decode cX1_digest 281 = .ok (.istore_n 1, 1) := dk_60 (dk_at dksX1_digest_12 4 rfl rfl)
theorem dX1_digest_282 : decode cX1_digest 282 = .ok (.iload_n 1, 1) := dk_27 (dk_at dksX1_digest_12 5 rfl rfl)
theorem dX1_digest_283 : decode cX1_digest 283 = .ok (.bipush 6, 2) := dk_16 6 (dk_at dksX1_digest_12 6 rfl rfl)
theorem dX1_digest_285 : decode cX1_digest 285 = .ok (.if_icmp .ge 65, 3) := dk_162 0 65 (dk_at dksX1_digest_12 8 rfl rfl)
theorem dX1_digest_288 : decode cX1_digest 288 = .ok (.aload_n 0, 1) := dk_42 (dk_at dksX1_digest_12 11 rfl rfl)
theorem dX1_digest_289 : decode cX1_digest 289 = .ok (.aload_n 0, 1) := dk_42 (dk_at dksX1_digest_12 12 rfl rfl)
theorem dX1_digest_290 : decode cX1_digest 290 = .ok (.getfield 17, 3) := dk_180 0 17 (dk_at dksX1_digest_12 13 rfl rfl)
theorem dX1_digest_293 : decode cX1_digest 293 = .ok (.iload_n 1, 1) := dk_27 (dk_at dksX1_digest_12 16 rfl rfl)
theorem dX1_digest_294 : decode cX1_digest 294 = .ok (.iaload, 1) := dk_46 (dk_at dksX1_digest_12 17 rfl rfl)
theorem dX1_digest_295 : decode cX1_digest 295 = .ok (.ifCond .ge 7, 3) := dk_156 0 7 (dk_at dksX1_digest_12 18 rfl rfl)
theorem dX1_digest_298 : decode cX1_digest 298 = .ok (.iconst (-1), 1) := dk_2 (dk_at dksX1_digest_12 21 rfl rfl)
theorem dX1_digest_299 : decode cX1_digest 299 = .ok (.goto 9, 3) := dk_167 0 9 (dk_at dksX1_digest_13 0 rfl rfl)
theorem dX1_digest_302 : decode cX1_digest 302 = .ok (.aload_n 0, 1) := dk_42 (dk_at dksX1_digest_13 3 rfl rfl)
theorem dX1_digest_303 : decode cX1_digest 303 = .ok (.getfield 17, 3) := dk_180 0 17 (dk_at dksX1_digest_13 4 rfl rfl)
theorem dX1_digest_306 : decode cX1_digest 306 = .ok (.iload_n 1, 1) := dk_27 (dk_at dksX1_digest_13 7 rfl rfl)
theorem dX1_digest_307 : decode cX1_digest 307 = .ok (.iaload, 1) := dk_46 (dk_at dksX1_digest_13 8 rfl rfl)
theorem dX1_digest_308 : decode cX1_digest 308 = .ok (.invokevirtual 385, 3) := dk_182 1 129 (dk_at dksX1_digest_13 9 rfl rfl)
theorem dX1_digest_311 : decode cX1_digest 311 = .ok (.iconst 0, 1) := dk_3 (dk_at dksX1_digest_13 12 rfl rfl)
theorem dX1_digest_312 : decode cX1_digest 312 = .ok (.istore_n 2, 1) := dk_61 (dk_at dksX1_digest_13 13 rfl rfl)
theorem dX1_digest_313 : decode cX1_digest 313 = .ok (.iload_n 2, 1) := dk_28 (dk_at dksX1_digest_13 14 rfl rfl)
theorem dX1_digest_314 : decode cX1_digest 314 = .ok (.aload_n 0, 1) := dk_42 (dk_at dksX1_digest_13 15 rfl rfl)
theorem dX1_digest_315 : decode cX1_digest 315 = .ok (.getfield 17, 3) := dk_180 0 17 (dk_at dksX1_digest_13 16 rfl rfl)
theorem dX1_digest_318 : decode cX1_digest 318 = .ok (.iload_n 1, 1) := dk_27 (dk_at dksX1_digest_13 19 rfl rfl)
theorem dX1_digest_319 : decode cX1_digest 319 = .ok (.iaload, 1) := dk_46 (dk_at dksX1_digest_13 20 rfl rfl)
theorem dX1_digest_320 : decode cX1_digest 320 = .ok (.if_icmp .ge 24, 3) := dk_162 0 24 (dk_at dksX1_digest_13 21 rfl rfl)
theorem dX1_digest_323 : decode cX1_digest 323 = .ok (.aload_n 0, 1) := dk_42 (dk_at dksX1_digest_14 0 rfl rfl)
theorem dX1_digest_324 : decode cX1_digest 324 = .ok (.aload_n 0, 1) := dk_42 (dk_at dksX1_digest_14 1 rfl rfl)
theorem dX1_digest_325 : decode cX1_digest 325 = .ok (.getfield 20, 3) := dk_180 0 20 (dk_at dksX1_digest_14 2 rfl rfl)
theorem dX1_digest_328 : decode cX1_digest 328 = .ok (.bipush 40, 2) := dk_16 40 (dk_at dksX1_digest_14 5 rfl rfl)
theorem dX1_digest_330 : decode cX1_digest 330 = .ok (.iload_n 1, 1) := dk_27 (dk_at dksX1_digest_14 7 rfl rfl)
theorem dX1_digest_331 : decode cX1_digest 331 = .ok (.imul, 1) := dk_104 (dk_at dksX1_digest_14 8 rfl rfl)
theorem dX1_digest_332 : decode cX1_digest 332 = .ok (.iload_n 2, 1) := dk_28 (dk_at dksX1_digest_14 9 rfl rfl)
theorem dX1_digest_333 : decode cX1_digest 333 = .ok (.iadd, 1) := dk_96 (dk_at dksX1_digest_14 10 rfl rfl)
theorem dX1_digest_334 : decode cX1_digest 334 = .ok (.iaload, 1) := dk_46 (dk_at dksX1_digest_14 11 rfl rfl)
theorem dX1_digest_335 : decode cX1_digest 335 = .ok (.invokevirtual 385, 3) := dk_182 1 129 (dk_at dksX1_digest_14 12 rfl rfl)
theorem dX1_digest_338 : decode cX1_digest 338 = .ok (.iinc 2 1, 3) := dk_132 2 1 (dk_at dksX1_digest_14 15 rfl rfl)
theorem dX1_digest_341 : decode cX1_digest 341 = .ok (.goto (-28), 3) := dk_167 255 228 (dk_at dksX1_digest_14 18 rfl rfl)
theorem dX1_digest_344 : decode cX1_digest 344 = .ok (.iinc 1 1, 3) := dk_132 1 1 (dk_at dksX1_digest_14 21 rfl rfl)
theorem dX1_digest_347 : decode cX1_digest 347 = .ok (.goto (-65), 3) := dk_167 255 191 (dk_at dksX1_digest_15 0 rfl rfl)
theorem dX1_digest_350 : decode cX1_digest 350 = .ok (.iconst 0, 1) := dk_3 (dk_at dksX1_digest_15 3 rfl rfl)
theorem dX1_digest_351 : decode cX1_digest 351 = .ok (.istore_n 1, 1) := dk_60 (dk_at dksX1_digest_15 4 rfl rfl)
theorem dX1_digest_352 : decode cX1_digest 352 = .ok (.iload_n 1, 1) := dk_27 (dk_at dksX1_digest_15 5 rfl rfl)
theorem dX1_digest_353 : decode cX1_digest 353 = .ok (.iconst 4, 1) := dk_7 (dk_at dksX1_digest_15 6 rfl rfl)
theorem dX1_digest_354 : decode cX1_digest 354 = .ok (.if_icmp .ge 65, 3) := dk_162 0 65 (dk_at dksX1_digest_15 7 rfl rfl)
theorem dX1_digest_357 : decode cX1_digest 357 = .ok (.aload_n 0, 1) := dk_42 (dk_at dksX1_digest_15 10 rfl rfl)
theorem dX1_digest_358 : decode cX1_digest 358 = .ok (.aload_n 0, 1) := dk_42 (dk_at dksX1_digest_15 11 rfl rfl)
theorem dX1_digest_359 : decode cX1_digest 359 = .ok (.getfield 26, 3) := dk_180 0 26 (dk_at dksX1_digest_15 12 rfl rfl)
theorem dX1_digest_362 : decode cX1_digest 362 = .ok (.iload_n 1, 1) := dk_27 (dk_at dksX1_digest_15 15 rfl rfl)
theorem dX1_digest_363 : decode cX1_digest 363 = .ok (.iaload, 1) := dk_46 (dk_at dksX1_digest_15 16 rfl rfl)
theorem dX1_digest_364 : decode cX1_digest 364 = .ok (.ifCond .ge 7, 3) := dk_156 0 7 (dk_at dksX1_digest_15 17 rfl rfl)
theorem dX1_digest_367 : decode cX1_digest 367 = .ok (.iconst (-1), 1) := dk_2 (dk_at dksX1_digest_15 20 rfl rfl)
theorem dX1_digest_368 : decode cX1_digest 368 = .ok (.goto 9, 3) := dk_167 0 9 (dk_at dksX1_digest_15 21 rfl rfl)
theorem dX1_digest_371 : decode cX1_digest 371 = .ok (.aload_n 0, 1) := dk_42 (dk_at dksX1_digest_16 0 rfl rfl)
theorem dX1_digest_372 : decode cX1_digest 372 = .ok (.getfield 26, 3) := dk_180 0 26 (dk_at dksX1_digest_16 1 rfl rfl)
theorem dX1_digest_375 : decode cX1_digest 375 = .ok (.iload_n 1, 1) := dk_27 (dk_at dksX1_digest_16 4 rfl rfl)
theorem dX1_digest_376 : decode cX1_digest 376 = .ok (.iaload, 1) := dk_46 (dk_at dksX1_digest_16 5 rfl rfl)
theorem dX1_digest_377 : decode cX1_digest 377 = .ok (.invokevirtual 385, 3) := dk_182 1 129 (dk_at dksX1_digest_16 6 rfl rfl)
theorem dX1_digest_380 : decode cX1_digest 380 = .ok (.iconst 0, 1) := dk_3 (dk_at dksX1_digest_16 9 rfl rfl)
theorem dX1_digest_381 : decode cX1_digest 381 = .ok (.istore_n 2, 1) := dk_61 (dk_at dksX1_digest_16 10 rfl rfl)
theorem dX1_digest_382 : decode cX1_digest 382 = .ok (.iload_n 2, 1) := dk_28 (dk_at dksX1_digest_16 11 rfl rfl)
theorem dX1_digest_383 : decode cX1_digest 383 = .ok (.aload_n 0, 1) := dk_42 (dk_at dksX1_digest_16 12 rfl rfl)
theorem dX1_digest_384 : decode cX1_digest 384 = .ok (.getfield 26, 3) := dk_180 0 26 (dk_at dksX1_digest_16 13 rfl rfl)
theorem dX1_digest_387 : decode cX1_digest 387 = .ok (.iload_n 1, 1) := dk_27 (dk_at dksX1_digest_16 16 rfl rfl)
theorem dX1_digest_388 : decode cX1_digest 388 = .ok (.iaload, 1) := dk_46 (dk_at dksX1_digest_16 17 rfl rfl)
theorem dX1_digest_389 : decode cX1_digest 389 = .ok (.if_icmp .ge 24, 3) := dk_162 0 24 (dk_at dksX1_digest_16 18 rfl rfl)
theorem dX1_digest_392 : decode cX1_digest 392 = .ok (.aload_n 0, 1) := dk_42 (dk_at dksX1_digest_16 21 rfl rfl)
theorem dX1_digest_393 : decode cX1_digest 393 = .ok (.aload_n 0, 1) := dk_42 (dk_at dksX1_digest_16 22 rfl rfl)
theorem dX1_digest_394 : decode cX1_digest 394 = .ok (.getfield 29, 3) := dk_180 0 29 (dk_at dksX1_digest_17 0 rfl rfl)
theorem dX1_digest_397 : decode cX1_digest 397 = .ok (.bipush 40, 2) := dk_16 40 (dk_at dksX1_digest_17 3 rfl rfl)
theorem dX1_digest_399 : decode cX1_digest 399 = .ok (.iload_n 1, 1) := dk_27 (dk_at dksX1_digest_17 5 rfl rfl)
theorem dX1_digest_400 : decode cX1_digest 400 = .ok (.imul, 1) := dk_104 (dk_at dksX1_digest_17 6 rfl rfl)
theorem dX1_digest_401 : decode cX1_digest 401 = .ok (.iload_n 2, 1) := dk_28 (dk_at dksX1_digest_17 7 rfl rfl)
theorem dX1_digest_402 : decode cX1_digest 402 = .ok (.iadd, 1) := dk_96 (dk_at dksX1_digest_17 8 rfl rfl)
theorem dX1_digest_403 : decode cX1_digest 403 = .ok (.iaload, 1) := dk_46 (dk_at dksX1_digest_17 9 rfl rfl)
theorem dX1_digest_404 : decode cX1_digest 404 = .ok (.invokevirtual 385, 3) := dk_182 1 129 (dk_at dksX1_digest_17 10 rfl rfl)
theorem dX1_digest_407 : decode cX1_digest 407 = .ok (.iinc 2 1, 3) := dk_132 2 1 (dk_at dksX1_digest_17 13 rfl rfl)
theorem dX1_digest_410 : decode cX1_digest 410 = .ok (.goto (-28), 3) := dk_167 255 228 (dk_at dksX1_digest_17 16 rfl rfl)
theorem dX1_digest_413 : decode cX1_digest 413 = .ok (.iinc 1 1, 3) := dk_132 1 1 (dk_at dksX1_digest_17 19 rfl rfl)
theorem dX1_digest_416 : decode cX1_digest 416 = .ok (.goto (-64), 3) := dk_167 255 192 (dk_at dksX1_digest_18 0 rfl rfl)
theorem dX1_digest_419 : decode cX1_digest 419 = .ok (.aload_n 0, 1) := dk_42 (dk_at dksX1_digest_18 3 rfl rfl)
theorem dX1_digest_420 : decode cX1_digest 420 = .ok (.getfield 380, 3) := dk_180 1 124 (dk_at dksX1_digest_18 4 rfl rfl)
theorem dX1_digest_423 : decode cX1_digest 423 = .ok (.lreturn, 1) := dk_173 (dk_at dksX1_digest_18 7 rfl rfl)
abbrev cX1_mix : ByteArray := prog_8_method_102_code
def yX1_mix : MethodName := ⟨RX1, "mix", "(I)V"⟩
def dkwX1_mix_0 : List UInt8 := [42, 20, 1, 122, 42, 180, 1, 124, 105, 27, 133, 97, 181, 1, 124, 177]
abbrev dktX1_mix_0 : List UInt8 := dkwX1_mix_0 ++ []
theorem dksX1_mix_0 : cX1_mix.data.toList.drop 0 = dktX1_mix_0 := by decide +kernel
theorem dX1_mix_0 : decode cX1_mix 0 = .ok (.aload_n 0, 1) := dk_42 (dk_at dksX1_mix_0 0 rfl rfl)
theorem dX1_mix_1 : decode cX1_mix 1 = .ok (.ldc2_w 378, 3) := dk_20 1 122 (dk_at dksX1_mix_0 1 rfl rfl)
theorem dX1_mix_4 : decode cX1_mix 4 = .ok (.aload_n 0, 1) := dk_42 (dk_at dksX1_mix_0 4 rfl rfl)
theorem dX1_mix_5 : decode cX1_mix 5 = .ok (.getfield 380, 3) := dk_180 1 124 (dk_at dksX1_mix_0 5 rfl rfl)
theorem dX1_mix_8 : decode cX1_mix 8 = .ok (.lmul, 1) := dk_105 (dk_at dksX1_mix_0 8 rfl rfl)
theorem dX1_mix_9 : decode cX1_mix 9 = .ok (.iload_n 1, 1) := dk_27 (dk_at dksX1_mix_0 9 rfl rfl)
theorem dX1_mix_10 : decode cX1_mix 10 = .ok (.i2l, 1) := dk_133 (dk_at dksX1_mix_0 10 rfl rfl)
theorem dX1_mix_11 : decode cX1_mix 11 = .ok (.ladd, 1) := dk_97 (dk_at dksX1_mix_0 11 rfl rfl)
theorem dX1_mix_12 : decode cX1_mix 12 = .ok (.putfield 380, 3) := dk_181 1 124 (dk_at dksX1_mix_0 12 rfl rfl)
theorem dX1_mix_15 : decode cX1_mix 15 = .ok (.return_, 1) := dk_177 (dk_at dksX1_mix_0 15 rfl rfl)
theorem q64 : (Jvm.Cond.initialized "TrailerYardsModel") ∈ lw_all := lw_g (lw_at lw_m1 2 rfl) rfl
theorem q1063 : (Jvm.Cond.instantiable "TrailerYardsModel" (73 : Nat)) ∈ lw_all := lw_g (lw_at lw_m5 41 rfl) rfl
theorem q1065 : (Jvm.Cond.instanceMethod ({ cls := "TrailerYardsModel", name := "<init>", desc := "()V" } : Jvm.MethodName)) ∈ lw_all := lw_g (lw_at lw_m5 43 rfl) rfl
theorem q1066 : (Jvm.Cond.code ({ cls := "TrailerYardsModel", name := "<init>", desc := "()V" } : Jvm.MethodName) prog_8_method_1_code (2 : Nat) (Option.none : Option Jvm.ClassFile.FieldType)) ∈ lw_all := lw_g (lw_at lw_m5 44 rfl) rfl
theorem q1067 : (Jvm.Cond.methodLink "TrailerYardsModel" (1 : Nat) ({ cls := "java/lang/Object", name := "<init>", desc := "()V" } : Jvm.MethodName)) ∈ lw_all := lw_g (lw_at lw_m5 45 rfl) rfl
theorem q1068 : (Jvm.Cond.fieldLink "TrailerYardsModel" (176 : Nat) "TrailerYardsModel" "finding" "I") ∈ lw_all := lw_g (lw_at lw_m5 46 rfl) rfl
theorem q1069 : (Jvm.Cond.fieldLink "TrailerYardsModel" (7 : Nat) "TrailerYardsModel" "findings" "[I") ∈ lw_all := lw_g (lw_at lw_m5 47 rfl) rfl
theorem q1070 : (Jvm.Cond.fieldLink "TrailerYardsModel" (179 : Nat) "TrailerYardsModel" "asked" "I") ∈ lw_all := lw_g (lw_at lw_m5 48 rfl) rfl
theorem q1071 : (Jvm.Cond.fieldLink "TrailerYardsModel" (182 : Nat) "TrailerYardsModel" "upper" "J") ∈ lw_all := lw_g (lw_at lw_m5 49 rfl) rfl
theorem q1072 : (Jvm.Cond.fieldLink "TrailerYardsModel" (13 : Nat) "TrailerYardsModel" "lower" "J") ∈ lw_all := lw_g (lw_at lw_m5 50 rfl) rfl
theorem q1073 : (Jvm.Cond.fieldLink "TrailerYardsModel" (207 : Nat) "TrailerYardsModel" "now" "I") ∈ lw_all := lw_g (lw_at lw_m5 51 rfl) rfl
theorem q1074 : (Jvm.Cond.fieldLink "TrailerYardsModel" (17 : Nat) "TrailerYardsModel" "sizes" "[I") ∈ lw_all := lw_g (lw_at lw_m5 52 rfl) rfl
theorem q1075 : (Jvm.Cond.fieldLink "TrailerYardsModel" (20 : Nat) "TrailerYardsModel" "rows" "[I") ∈ lw_all := lw_g (lw_at lw_m5 53 rfl) rfl
theorem q1076 : (Jvm.Cond.fieldLink "TrailerYardsModel" (23 : Nat) "TrailerYardsModel" "moving" "[I") ∈ lw_all := lw_g (lw_at lw_m5 54 rfl) rfl
theorem q1077 : (Jvm.Cond.fieldLink "TrailerYardsModel" (26 : Nat) "TrailerYardsModel" "lengths" "[I") ∈ lw_all := lw_g (lw_at lw_m5 55 rfl) rfl
theorem q1078 : (Jvm.Cond.fieldLink "TrailerYardsModel" (29 : Nat) "TrailerYardsModel" "texts" "[I") ∈ lw_all := lw_g (lw_at lw_m5 56 rfl) rfl
theorem q1079 : (Jvm.Cond.fieldLink "TrailerYardsModel" (32 : Nat) "TrailerYardsModel" "minutes" "[I") ∈ lw_all := lw_g (lw_at lw_m5 57 rfl) rfl
theorem q1080 : (Jvm.Cond.fieldLink "TrailerYardsModel" (35 : Nat) "TrailerYardsModel" "tolls" "[I") ∈ lw_all := lw_g (lw_at lw_m5 58 rfl) rfl
theorem q1081 : (Jvm.Cond.fieldLink "TrailerYardsModel" (38 : Nat) "TrailerYardsModel" "every" "[I") ∈ lw_all := lw_g (lw_at lw_m5 59 rfl) rfl
theorem q1082 : (Jvm.Cond.fieldLink "TrailerYardsModel" (41 : Nat) "TrailerYardsModel" "firsts" "[I") ∈ lw_all := lw_g (lw_at lw_m5 60 rfl) rfl
theorem q1083 : (Jvm.Cond.fieldLink "TrailerYardsModel" (44 : Nat) "TrailerYardsModel" "there" "[I") ∈ lw_all := lw_g (lw_at lw_m5 61 rfl) rfl
theorem q1084 : (Jvm.Cond.fieldLink "TrailerYardsModel" (229 : Nat) "TrailerYardsModel" "trailers" "I") ∈ lw_all := lw_g (lw_at lw_m5 62 rfl) rfl
theorem q1085 : (Jvm.Cond.fieldLink "TrailerYardsModel" (47 : Nat) "TrailerYardsModel" "kinds" "[I") ∈ lw_all := lw_g (lw_at lw_m5 63 rfl) rfl
theorem q1086 : (Jvm.Cond.fieldLink "TrailerYardsModel" (50 : Nat) "TrailerYardsModel" "stands" "[I") ∈ lw_all := lw_g (lw_at lw_m5 64 rfl) rfl
theorem q1087 : (Jvm.Cond.fieldLink "TrailerYardsModel" (53 : Nat) "TrailerYardsModel" "hitched" "[I") ∈ lw_all := lw_g (lw_at lw_m5 65 rfl) rfl
theorem q1088 : (Jvm.Cond.fieldLink "TrailerYardsModel" (56 : Nat) "TrailerYardsModel" "isLost" "[Z") ∈ lw_all := lw_g (lw_at lw_m5 66 rfl) rfl
theorem q1089 : (Jvm.Cond.fieldLink "TrailerYardsModel" (60 : Nat) "TrailerYardsModel" "worths" "[I") ∈ lw_all := lw_g (lw_at lw_m5 67 rfl) rfl
theorem q1090 : (Jvm.Cond.fieldLink "TrailerYardsModel" (63 : Nat) "TrailerYardsModel" "axles" "[I") ∈ lw_all := lw_g (lw_at lw_m5 68 rfl) rfl
theorem q1091 : (Jvm.Cond.fieldLink "TrailerYardsModel" (66 : Nat) "TrailerYardsModel" "loads" "[I") ∈ lw_all := lw_g (lw_at lw_m5 69 rfl) rfl
theorem q1092 : (Jvm.Cond.fieldLink "TrailerYardsModel" (69 : Nat) "TrailerYardsModel" "loadW" "[I") ∈ lw_all := lw_g (lw_at lw_m5 70 rfl) rfl
theorem q1093 : (Jvm.Cond.fieldLink "TrailerYardsModel" (72 : Nat) "TrailerYardsModel" "loadP" "[I") ∈ lw_all := lw_g (lw_at lw_m5 71 rfl) rfl
theorem q1094 : (Jvm.Cond.fieldLink "TrailerYardsModel" (75 : Nat) "TrailerYardsModel" "isSealed" "[Z") ∈ lw_all := lw_g (lw_at lw_m5 72 rfl) rfl
theorem q1095 : (Jvm.Cond.fieldLink "TrailerYardsModel" (78 : Nat) "TrailerYardsModel" "limits" "[I") ∈ lw_all := lw_g (lw_at lw_m5 73 rfl) rfl
theorem q1096 : (Jvm.Cond.fieldLink "TrailerYardsModel" (81 : Nat) "TrailerYardsModel" "looks" "[I") ∈ lw_all := lw_g (lw_at lw_m5 74 rfl) rfl
theorem q1097 : (Jvm.Cond.fieldLink "TrailerYardsModel" (84 : Nat) "TrailerYardsModel" "yards" "[I") ∈ lw_all := lw_g (lw_at lw_m5 75 rfl) rfl
theorem q1098 : (Jvm.Cond.fieldLink "TrailerYardsModel" (87 : Nat) "TrailerYardsModel" "since" "[I") ∈ lw_all := lw_g (lw_at lw_m5 76 rfl) rfl
theorem q1099 : (Jvm.Cond.fieldLink "TrailerYardsModel" (90 : Nat) "TrailerYardsModel" "has" "[I") ∈ lw_all := lw_g (lw_at lw_m5 77 rfl) rfl
theorem q1100 : (Jvm.Cond.fieldLink "TrailerYardsModel" (93 : Nat) "TrailerYardsModel" "driven" "[I") ∈ lw_all := lw_g (lw_at lw_m5 78 rfl) rfl
theorem q1101 : (Jvm.Cond.fieldLink "TrailerYardsModel" (96 : Nat) "TrailerYardsModel" "drove" "[I") ∈ lw_all := lw_g (lw_at lw_m5 79 rfl) rfl
theorem q1102 : (Jvm.Cond.fieldLink "TrailerYardsModel" (226 : Nat) "TrailerYardsModel" "entries" "I") ∈ lw_all := lw_g (lw_at lw_m5 80 rfl) rfl
theorem q1103 : (Jvm.Cond.fieldLink "TrailerYardsModel" (99 : Nat) "TrailerYardsModel" "entryOf" "[I") ∈ lw_all := lw_g (lw_at lw_m5 81 rfl) rfl
theorem q1104 : (Jvm.Cond.fieldLink "TrailerYardsModel" (102 : Nat) "TrailerYardsModel" "entrySort" "[I") ∈ lw_all := lw_g (lw_at lw_m5 82 rfl) rfl
theorem q1105 : (Jvm.Cond.fieldLink "TrailerYardsModel" (105 : Nat) "TrailerYardsModel" "entryMinute" "[I") ∈ lw_all := lw_g (lw_at lw_m5 83 rfl) rfl
theorem q1106 : (Jvm.Cond.fieldLink "TrailerYardsModel" (108 : Nat) "TrailerYardsModel" "entryBy" "[I") ∈ lw_all := lw_g (lw_at lw_m5 84 rfl) rfl
theorem q1107 : (Jvm.Cond.fieldLink "TrailerYardsModel" (111 : Nat) "TrailerYardsModel" "entryYard" "[I") ∈ lw_all := lw_g (lw_at lw_m5 85 rfl) rfl
theorem q1108 : (Jvm.Cond.fieldLink "TrailerYardsModel" (280 : Nat) "TrailerYardsModel" "terms" "I") ∈ lw_all := lw_g (lw_at lw_m5 86 rfl) rfl
theorem q1109 : (Jvm.Cond.fieldLink "TrailerYardsModel" (114 : Nat) "TrailerYardsModel" "termTold" "[I") ∈ lw_all := lw_g (lw_at lw_m5 87 rfl) rfl
theorem q1110 : (Jvm.Cond.fieldLink "TrailerYardsModel" (117 : Nat) "TrailerYardsModel" "termFrom" "[I") ∈ lw_all := lw_g (lw_at lw_m5 88 rfl) rfl
theorem q1111 : (Jvm.Cond.fieldLink "TrailerYardsModel" (120 : Nat) "TrailerYardsModel" "termSays" "[I") ∈ lw_all := lw_g (lw_at lw_m5 89 rfl) rfl
theorem q1112 : (Jvm.Cond.fieldLink "TrailerYardsModel" (123 : Nat) "TrailerYardsModel" "items" "[I") ∈ lw_all := lw_g (lw_at lw_m5 90 rfl) rfl
theorem q1113 : (Jvm.Cond.fieldLink "TrailerYardsModel" (283 : Nat) "TrailerYardsModel" "pence" "J") ∈ lw_all := lw_g (lw_at lw_m5 91 rfl) rfl
theorem q1114 : (Jvm.Cond.fieldLink "TrailerYardsModel" (126 : Nat) "TrailerYardsModel" "mostAxle" "I") ∈ lw_all := lw_g (lw_at lw_m5 92 rfl) rfl
theorem q1115 : (Jvm.Cond.fieldLink "TrailerYardsModel" (130 : Nat) "TrailerYardsModel" "mostKingpin" "I") ∈ lw_all := lw_g (lw_at lw_m5 93 rfl) rfl
theorem q1116 : (Jvm.Cond.fieldLink "TrailerYardsModel" (305 : Nat) "TrailerYardsModel" "theftFrom" "I") ∈ lw_all := lw_g (lw_at lw_m5 94 rfl) rfl
theorem q1117 : (Jvm.Cond.fieldLink "TrailerYardsModel" (308 : Nat) "TrailerYardsModel" "theftTo" "I") ∈ lw_all := lw_g (lw_at lw_m5 95 rfl) rfl
theorem q1118 : (Jvm.Cond.fieldLink "TrailerYardsModel" (323 : Nat) "TrailerYardsModel" "endOf" "I") ∈ lw_all := lw_g (lw_at lw_m5 96 rfl) rfl
theorem q1119 : (Jvm.Cond.fieldLink "TrailerYardsModel" (326 : Nat) "TrailerYardsModel" "sumOfBoth" "I") ∈ lw_all := lw_g (lw_at lw_m5 97 rfl) rfl
theorem q1120 : (Jvm.Cond.fieldLink "TrailerYardsModel" (317 : Nat) "TrailerYardsModel" "comesFirst" "I") ∈ lw_all := lw_g (lw_at lw_m5 98 rfl) rfl
theorem q1121 : (Jvm.Cond.fieldLink "TrailerYardsModel" (320 : Nat) "TrailerYardsModel" "comesSecond" "I") ∈ lw_all := lw_g (lw_at lw_m5 99 rfl) rfl
theorem q1122 : (Jvm.Cond.fieldLink "TrailerYardsModel" (333 : Nat) "TrailerYardsModel" "bestEnd" "I") ∈ lw_all := lw_g (lw_at lw_m5 100 rfl) rfl
theorem q1123 : (Jvm.Cond.fieldLink "TrailerYardsModel" (133 : Nat) "TrailerYardsModel" "partners" "[I") ∈ lw_all := lw_g (lw_at lw_m5 101 rfl) rfl
theorem q1124 : (Jvm.Cond.fieldLink "TrailerYardsModel" (136 : Nat) "TrailerYardsModel" "trial" "[I") ∈ lw_all := lw_g (lw_at lw_m5 102 rfl) rfl
theorem q1125 : (Jvm.Cond.fieldLink "TrailerYardsModel" (139 : Nat) "TrailerYardsModel" "kept" "[I") ∈ lw_all := lw_g (lw_at lw_m5 103 rfl) rfl
theorem q1126 : (Jvm.Cond.fieldLink "TrailerYardsModel" (359 : Nat) "TrailerYardsModel" "lookMany" "I") ∈ lw_all := lw_g (lw_at lw_m5 104 rfl) rfl
theorem q1127 : (Jvm.Cond.fieldLink "TrailerYardsModel" (142 : Nat) "TrailerYardsModel" "lookOrder" "[I") ∈ lw_all := lw_g (lw_at lw_m5 105 rfl) rfl
theorem q1128 : (Jvm.Cond.fieldLink "TrailerYardsModel" (145 : Nat) "TrailerYardsModel" "goals" "[I") ∈ lw_all := lw_g (lw_at lw_m5 106 rfl) rfl
theorem q1129 : (Jvm.Cond.fieldLink "TrailerYardsModel" (148 : Nat) "TrailerYardsModel" "order" "[I") ∈ lw_all := lw_g (lw_at lw_m5 107 rfl) rfl
theorem q1130 : (Jvm.Cond.fieldLink "TrailerYardsModel" (353 : Nat) "TrailerYardsModel" "bestSum" "I") ∈ lw_all := lw_g (lw_at lw_m5 108 rfl) rfl
theorem q1131 : (Jvm.Cond.fieldLink "TrailerYardsModel" (151 : Nat) "TrailerYardsModel" "brought" "[I") ∈ lw_all := lw_g (lw_at lw_m5 109 rfl) rfl
theorem q1132 : (Jvm.Cond.fieldLink "TrailerYardsModel" (154 : Nat) "TrailerYardsModel" "more" "[I") ∈ lw_all := lw_g (lw_at lw_m5 110 rfl) rfl
theorem q1133 : (Jvm.Cond.fieldLink "TrailerYardsModel" (157 : Nat) "TrailerYardsModel" "lacks" "[I") ∈ lw_all := lw_g (lw_at lw_m5 111 rfl) rfl
theorem q1134 : (Jvm.Cond.fieldLink "TrailerYardsModel" (160 : Nat) "TrailerYardsModel" "costs" "[I") ∈ lw_all := lw_g (lw_at lw_m5 112 rfl) rfl
theorem q1135 : (Jvm.Cond.fieldLink "TrailerYardsModel" (163 : Nat) "TrailerYardsModel" "reach" "[I") ∈ lw_all := lw_g (lw_at lw_m5 113 rfl) rfl
theorem q1136 : (Jvm.Cond.fieldLink "TrailerYardsModel" (166 : Nat) "TrailerYardsModel" "came" "[I") ∈ lw_all := lw_g (lw_at lw_m5 114 rfl) rfl
theorem q1137 : (Jvm.Cond.fieldLink "TrailerYardsModel" (372 : Nat) "TrailerYardsModel" "rentDays" "I") ∈ lw_all := lw_g (lw_at lw_m5 115 rfl) rfl
theorem q1138 : (Jvm.Cond.fieldLink "TrailerYardsModel" (169 : Nat) "TrailerYardsModel" "rentedOn" "[I") ∈ lw_all := lw_g (lw_at lw_m5 116 rfl) rfl
theorem q1139 : (Jvm.Cond.fieldLink "TrailerYardsModel" (172 : Nat) "TrailerYardsModel" "least" "[J") ∈ lw_all := lw_g (lw_at lw_m5 117 rfl) rfl
theorem q1140 : (Jvm.Cond.fieldLink "TrailerYardsModel" (380 : Nat) "TrailerYardsModel" "h" "J") ∈ lw_all := lw_g (lw_at lw_m5 118 rfl) rfl
theorem q1141 : (Jvm.Cond.lays "TrailerYardsModel" "TrailerYardsModel" "finding" "I") ∈ lw_all := lw_g (lw_at lw_m5 119 rfl) rfl
theorem q1142 : (Jvm.Cond.soleField "TrailerYardsModel" "finding") ∈ lw_all := lw_g (lw_at lw_m5 120 rfl) rfl
theorem q1143 : (Jvm.Cond.laysFinal "TrailerYardsModel" "TrailerYardsModel" "findings" "[I") ∈ lw_all := lw_g (lw_at lw_m5 121 rfl) rfl
theorem q1144 : (Jvm.Cond.soleField "TrailerYardsModel" "findings") ∈ lw_all := lw_g (lw_at lw_m5 122 rfl) rfl
theorem q1145 : (Jvm.Cond.lays "TrailerYardsModel" "TrailerYardsModel" "asked" "I") ∈ lw_all := lw_g (lw_at lw_m5 123 rfl) rfl
theorem q1146 : (Jvm.Cond.soleField "TrailerYardsModel" "asked") ∈ lw_all := lw_g (lw_at lw_m5 124 rfl) rfl
theorem q1147 : (Jvm.Cond.lays "TrailerYardsModel" "TrailerYardsModel" "upper" "J") ∈ lw_all := lw_g (lw_at lw_m5 125 rfl) rfl
theorem q1148 : (Jvm.Cond.soleField "TrailerYardsModel" "upper") ∈ lw_all := lw_g (lw_at lw_m5 126 rfl) rfl
theorem q1149 : (Jvm.Cond.lays "TrailerYardsModel" "TrailerYardsModel" "lower" "J") ∈ lw_all := lw_g (lw_at lw_m5 127 rfl) rfl
theorem q1150 : (Jvm.Cond.soleField "TrailerYardsModel" "lower") ∈ lw_all := lw_g (lw_at lw_m5 128 rfl) rfl
theorem q1151 : (Jvm.Cond.lays "TrailerYardsModel" "TrailerYardsModel" "now" "I") ∈ lw_all := lw_g (lw_at lw_m5 129 rfl) rfl
theorem q1152 : (Jvm.Cond.soleField "TrailerYardsModel" "now") ∈ lw_all := lw_g (lw_at lw_m5 130 rfl) rfl
theorem q1153 : (Jvm.Cond.laysFinal "TrailerYardsModel" "TrailerYardsModel" "sizes" "[I") ∈ lw_all := lw_g (lw_at lw_m5 131 rfl) rfl
theorem q1154 : (Jvm.Cond.soleField "TrailerYardsModel" "sizes") ∈ lw_all := lw_g (lw_at lw_m5 132 rfl) rfl
theorem q1155 : (Jvm.Cond.laysFinal "TrailerYardsModel" "TrailerYardsModel" "rows" "[I") ∈ lw_all := lw_g (lw_at lw_m5 133 rfl) rfl
theorem q1156 : (Jvm.Cond.soleField "TrailerYardsModel" "rows") ∈ lw_all := lw_g (lw_at lw_m5 134 rfl) rfl
theorem q1157 : (Jvm.Cond.laysFinal "TrailerYardsModel" "TrailerYardsModel" "moving" "[I") ∈ lw_all := lw_g (lw_at lw_m5 135 rfl) rfl
theorem q1158 : (Jvm.Cond.soleField "TrailerYardsModel" "moving") ∈ lw_all := lw_g (lw_at lw_m5 136 rfl) rfl
theorem q1159 : (Jvm.Cond.laysFinal "TrailerYardsModel" "TrailerYardsModel" "lengths" "[I") ∈ lw_all := lw_g (lw_at lw_m5 137 rfl) rfl
theorem q1160 : (Jvm.Cond.soleField "TrailerYardsModel" "lengths") ∈ lw_all := lw_g (lw_at lw_m5 138 rfl) rfl
theorem q1161 : (Jvm.Cond.laysFinal "TrailerYardsModel" "TrailerYardsModel" "texts" "[I") ∈ lw_all := lw_g (lw_at lw_m5 139 rfl) rfl
theorem q1162 : (Jvm.Cond.soleField "TrailerYardsModel" "texts") ∈ lw_all := lw_g (lw_at lw_m5 140 rfl) rfl
theorem q1163 : (Jvm.Cond.laysFinal "TrailerYardsModel" "TrailerYardsModel" "minutes" "[I") ∈ lw_all := lw_g (lw_at lw_m5 141 rfl) rfl
theorem q1164 : (Jvm.Cond.soleField "TrailerYardsModel" "minutes") ∈ lw_all := lw_g (lw_at lw_m5 142 rfl) rfl
theorem q1165 : (Jvm.Cond.laysFinal "TrailerYardsModel" "TrailerYardsModel" "tolls" "[I") ∈ lw_all := lw_g (lw_at lw_m5 143 rfl) rfl
theorem q1166 : (Jvm.Cond.soleField "TrailerYardsModel" "tolls") ∈ lw_all := lw_g (lw_at lw_m5 144 rfl) rfl
theorem q1167 : (Jvm.Cond.laysFinal "TrailerYardsModel" "TrailerYardsModel" "every" "[I") ∈ lw_all := lw_g (lw_at lw_m5 145 rfl) rfl
theorem q1168 : (Jvm.Cond.soleField "TrailerYardsModel" "every") ∈ lw_all := lw_g (lw_at lw_m5 146 rfl) rfl
theorem q1169 : (Jvm.Cond.laysFinal "TrailerYardsModel" "TrailerYardsModel" "firsts" "[I") ∈ lw_all := lw_g (lw_at lw_m5 147 rfl) rfl
theorem q1170 : (Jvm.Cond.soleField "TrailerYardsModel" "firsts") ∈ lw_all := lw_g (lw_at lw_m5 148 rfl) rfl
theorem q1171 : (Jvm.Cond.laysFinal "TrailerYardsModel" "TrailerYardsModel" "there" "[I") ∈ lw_all := lw_g (lw_at lw_m5 149 rfl) rfl
theorem q1172 : (Jvm.Cond.soleField "TrailerYardsModel" "there") ∈ lw_all := lw_g (lw_at lw_m5 150 rfl) rfl
theorem q1173 : (Jvm.Cond.lays "TrailerYardsModel" "TrailerYardsModel" "trailers" "I") ∈ lw_all := lw_g (lw_at lw_m5 151 rfl) rfl
theorem q1174 : (Jvm.Cond.soleField "TrailerYardsModel" "trailers") ∈ lw_all := lw_g (lw_at lw_m5 152 rfl) rfl
theorem q1175 : (Jvm.Cond.laysFinal "TrailerYardsModel" "TrailerYardsModel" "kinds" "[I") ∈ lw_all := lw_g (lw_at lw_m5 153 rfl) rfl
theorem q1176 : (Jvm.Cond.soleField "TrailerYardsModel" "kinds") ∈ lw_all := lw_g (lw_at lw_m5 154 rfl) rfl
theorem q1177 : (Jvm.Cond.laysFinal "TrailerYardsModel" "TrailerYardsModel" "stands" "[I") ∈ lw_all := lw_g (lw_at lw_m5 155 rfl) rfl
theorem q1178 : (Jvm.Cond.soleField "TrailerYardsModel" "stands") ∈ lw_all := lw_g (lw_at lw_m5 156 rfl) rfl
theorem q1179 : (Jvm.Cond.laysFinal "TrailerYardsModel" "TrailerYardsModel" "hitched" "[I") ∈ lw_all := lw_g (lw_at lw_m5 157 rfl) rfl
theorem q1180 : (Jvm.Cond.soleField "TrailerYardsModel" "hitched") ∈ lw_all := lw_g (lw_at lw_m5 158 rfl) rfl
theorem q1181 : (Jvm.Cond.laysFinal "TrailerYardsModel" "TrailerYardsModel" "isLost" "[Z") ∈ lw_all := lw_g (lw_at lw_m5 159 rfl) rfl
theorem q1182 : (Jvm.Cond.soleField "TrailerYardsModel" "isLost") ∈ lw_all := lw_g (lw_at lw_m5 160 rfl) rfl
theorem q1183 : (Jvm.Cond.laysFinal "TrailerYardsModel" "TrailerYardsModel" "worths" "[I") ∈ lw_all := lw_g (lw_at lw_m5 161 rfl) rfl
theorem q1184 : (Jvm.Cond.soleField "TrailerYardsModel" "worths") ∈ lw_all := lw_g (lw_at lw_m5 162 rfl) rfl
theorem q1185 : (Jvm.Cond.laysFinal "TrailerYardsModel" "TrailerYardsModel" "axles" "[I") ∈ lw_all := lw_g (lw_at lw_m5 163 rfl) rfl
theorem q1186 : (Jvm.Cond.soleField "TrailerYardsModel" "axles") ∈ lw_all := lw_g (lw_at lw_m5 164 rfl) rfl
theorem q1187 : (Jvm.Cond.laysFinal "TrailerYardsModel" "TrailerYardsModel" "loads" "[I") ∈ lw_all := lw_g (lw_at lw_m5 165 rfl) rfl
theorem q1188 : (Jvm.Cond.soleField "TrailerYardsModel" "loads") ∈ lw_all := lw_g (lw_at lw_m5 166 rfl) rfl
theorem q1189 : (Jvm.Cond.laysFinal "TrailerYardsModel" "TrailerYardsModel" "loadW" "[I") ∈ lw_all := lw_g (lw_at lw_m5 167 rfl) rfl
theorem q1190 : (Jvm.Cond.soleField "TrailerYardsModel" "loadW") ∈ lw_all := lw_g (lw_at lw_m5 168 rfl) rfl
theorem q1191 : (Jvm.Cond.laysFinal "TrailerYardsModel" "TrailerYardsModel" "loadP" "[I") ∈ lw_all := lw_g (lw_at lw_m5 169 rfl) rfl
theorem q1192 : (Jvm.Cond.soleField "TrailerYardsModel" "loadP") ∈ lw_all := lw_g (lw_at lw_m5 170 rfl) rfl
theorem q1193 : (Jvm.Cond.laysFinal "TrailerYardsModel" "TrailerYardsModel" "isSealed" "[Z") ∈ lw_all := lw_g (lw_at lw_m5 171 rfl) rfl
theorem q1194 : (Jvm.Cond.soleField "TrailerYardsModel" "isSealed") ∈ lw_all := lw_g (lw_at lw_m5 172 rfl) rfl
theorem q1195 : (Jvm.Cond.laysFinal "TrailerYardsModel" "TrailerYardsModel" "limits" "[I") ∈ lw_all := lw_g (lw_at lw_m5 173 rfl) rfl
theorem q1196 : (Jvm.Cond.soleField "TrailerYardsModel" "limits") ∈ lw_all := lw_g (lw_at lw_m5 174 rfl) rfl
theorem q1197 : (Jvm.Cond.laysFinal "TrailerYardsModel" "TrailerYardsModel" "looks" "[I") ∈ lw_all := lw_g (lw_at lw_m5 175 rfl) rfl
theorem q1198 : (Jvm.Cond.soleField "TrailerYardsModel" "looks") ∈ lw_all := lw_g (lw_at lw_m5 176 rfl) rfl
theorem q1199 : (Jvm.Cond.laysFinal "TrailerYardsModel" "TrailerYardsModel" "yards" "[I") ∈ lw_all := lw_g (lw_at lw_m5 177 rfl) rfl
theorem q1200 : (Jvm.Cond.soleField "TrailerYardsModel" "yards") ∈ lw_all := lw_g (lw_at lw_m5 178 rfl) rfl
theorem q1201 : (Jvm.Cond.laysFinal "TrailerYardsModel" "TrailerYardsModel" "since" "[I") ∈ lw_all := lw_g (lw_at lw_m5 179 rfl) rfl
theorem q1202 : (Jvm.Cond.soleField "TrailerYardsModel" "since") ∈ lw_all := lw_g (lw_at lw_m5 180 rfl) rfl
theorem q1203 : (Jvm.Cond.laysFinal "TrailerYardsModel" "TrailerYardsModel" "has" "[I") ∈ lw_all := lw_g (lw_at lw_m5 181 rfl) rfl
theorem q1204 : (Jvm.Cond.soleField "TrailerYardsModel" "has") ∈ lw_all := lw_g (lw_at lw_m5 182 rfl) rfl
theorem q1205 : (Jvm.Cond.laysFinal "TrailerYardsModel" "TrailerYardsModel" "driven" "[I") ∈ lw_all := lw_g (lw_at lw_m5 183 rfl) rfl
theorem q1206 : (Jvm.Cond.soleField "TrailerYardsModel" "driven") ∈ lw_all := lw_g (lw_at lw_m5 184 rfl) rfl
theorem q1207 : (Jvm.Cond.laysFinal "TrailerYardsModel" "TrailerYardsModel" "drove" "[I") ∈ lw_all := lw_g (lw_at lw_m5 185 rfl) rfl
theorem q1208 : (Jvm.Cond.soleField "TrailerYardsModel" "drove") ∈ lw_all := lw_g (lw_at lw_m5 186 rfl) rfl
theorem q1209 : (Jvm.Cond.lays "TrailerYardsModel" "TrailerYardsModel" "entries" "I") ∈ lw_all := lw_g (lw_at lw_m5 187 rfl) rfl
theorem q1210 : (Jvm.Cond.soleField "TrailerYardsModel" "entries") ∈ lw_all := lw_g (lw_at lw_m5 188 rfl) rfl
theorem q1211 : (Jvm.Cond.laysFinal "TrailerYardsModel" "TrailerYardsModel" "entryOf" "[I") ∈ lw_all := lw_g (lw_at lw_m5 189 rfl) rfl
theorem q1212 : (Jvm.Cond.soleField "TrailerYardsModel" "entryOf") ∈ lw_all := lw_g (lw_at lw_m5 190 rfl) rfl
theorem q1213 : (Jvm.Cond.laysFinal "TrailerYardsModel" "TrailerYardsModel" "entrySort" "[I") ∈ lw_all := lw_g (lw_at lw_m5 191 rfl) rfl
theorem q1214 : (Jvm.Cond.soleField "TrailerYardsModel" "entrySort") ∈ lw_all := lw_g (lw_at lw_m5 192 rfl) rfl
theorem q1215 : (Jvm.Cond.laysFinal "TrailerYardsModel" "TrailerYardsModel" "entryMinute" "[I") ∈ lw_all := lw_g (lw_at lw_m5 193 rfl) rfl
theorem q1216 : (Jvm.Cond.soleField "TrailerYardsModel" "entryMinute") ∈ lw_all := lw_g (lw_at lw_m5 194 rfl) rfl
theorem q1217 : (Jvm.Cond.laysFinal "TrailerYardsModel" "TrailerYardsModel" "entryBy" "[I") ∈ lw_all := lw_g (lw_at lw_m5 195 rfl) rfl
theorem q1218 : (Jvm.Cond.soleField "TrailerYardsModel" "entryBy") ∈ lw_all := lw_g (lw_at lw_m5 196 rfl) rfl
theorem q1219 : (Jvm.Cond.laysFinal "TrailerYardsModel" "TrailerYardsModel" "entryYard" "[I") ∈ lw_all := lw_g (lw_at lw_m5 197 rfl) rfl
theorem q1220 : (Jvm.Cond.soleField "TrailerYardsModel" "entryYard") ∈ lw_all := lw_g (lw_at lw_m5 198 rfl) rfl
theorem q1221 : (Jvm.Cond.lays "TrailerYardsModel" "TrailerYardsModel" "terms" "I") ∈ lw_all := lw_g (lw_at lw_m5 199 rfl) rfl
theorem q1222 : (Jvm.Cond.soleField "TrailerYardsModel" "terms") ∈ lw_all := lw_g (lw_at lw_m5 200 rfl) rfl
theorem q1223 : (Jvm.Cond.laysFinal "TrailerYardsModel" "TrailerYardsModel" "termTold" "[I") ∈ lw_all := lw_g (lw_at lw_m5 201 rfl) rfl
theorem q1224 : (Jvm.Cond.soleField "TrailerYardsModel" "termTold") ∈ lw_all := lw_g (lw_at lw_m5 202 rfl) rfl
theorem q1225 : (Jvm.Cond.laysFinal "TrailerYardsModel" "TrailerYardsModel" "termFrom" "[I") ∈ lw_all := lw_g (lw_at lw_m5 203 rfl) rfl
theorem q1226 : (Jvm.Cond.soleField "TrailerYardsModel" "termFrom") ∈ lw_all := lw_g (lw_at lw_m5 204 rfl) rfl
theorem q1227 : (Jvm.Cond.laysFinal "TrailerYardsModel" "TrailerYardsModel" "termSays" "[I") ∈ lw_all := lw_g (lw_at lw_m5 205 rfl) rfl
theorem q1228 : (Jvm.Cond.soleField "TrailerYardsModel" "termSays") ∈ lw_all := lw_g (lw_at lw_m5 206 rfl) rfl
theorem q1229 : (Jvm.Cond.laysFinal "TrailerYardsModel" "TrailerYardsModel" "items" "[I") ∈ lw_all := lw_g (lw_at lw_m5 207 rfl) rfl
theorem q1230 : (Jvm.Cond.soleField "TrailerYardsModel" "items") ∈ lw_all := lw_g (lw_at lw_m5 208 rfl) rfl
theorem q1231 : (Jvm.Cond.lays "TrailerYardsModel" "TrailerYardsModel" "pence" "J") ∈ lw_all := lw_g (lw_at lw_m5 209 rfl) rfl
theorem q1232 : (Jvm.Cond.soleField "TrailerYardsModel" "pence") ∈ lw_all := lw_g (lw_at lw_m5 210 rfl) rfl
theorem q1233 : (Jvm.Cond.lays "TrailerYardsModel" "TrailerYardsModel" "mostAxle" "I") ∈ lw_all := lw_g (lw_at lw_m5 211 rfl) rfl
theorem q1234 : (Jvm.Cond.soleField "TrailerYardsModel" "mostAxle") ∈ lw_all := lw_g (lw_at lw_m5 212 rfl) rfl
theorem q1235 : (Jvm.Cond.lays "TrailerYardsModel" "TrailerYardsModel" "mostKingpin" "I") ∈ lw_all := lw_g (lw_at lw_m5 213 rfl) rfl
theorem q1236 : (Jvm.Cond.soleField "TrailerYardsModel" "mostKingpin") ∈ lw_all := lw_g (lw_at lw_m5 214 rfl) rfl
theorem q1237 : (Jvm.Cond.lays "TrailerYardsModel" "TrailerYardsModel" "theftFrom" "I") ∈ lw_all := lw_g (lw_at lw_m5 215 rfl) rfl
theorem q1238 : (Jvm.Cond.soleField "TrailerYardsModel" "theftFrom") ∈ lw_all := lw_g (lw_at lw_m5 216 rfl) rfl
theorem q1239 : (Jvm.Cond.lays "TrailerYardsModel" "TrailerYardsModel" "theftTo" "I") ∈ lw_all := lw_g (lw_at lw_m5 217 rfl) rfl
theorem q1240 : (Jvm.Cond.soleField "TrailerYardsModel" "theftTo") ∈ lw_all := lw_g (lw_at lw_m5 218 rfl) rfl
theorem q1241 : (Jvm.Cond.lays "TrailerYardsModel" "TrailerYardsModel" "endOf" "I") ∈ lw_all := lw_g (lw_at lw_m5 219 rfl) rfl
theorem q1242 : (Jvm.Cond.soleField "TrailerYardsModel" "endOf") ∈ lw_all := lw_g (lw_at lw_m5 220 rfl) rfl
theorem q1243 : (Jvm.Cond.lays "TrailerYardsModel" "TrailerYardsModel" "sumOfBoth" "I") ∈ lw_all := lw_g (lw_at lw_m5 221 rfl) rfl
theorem q1244 : (Jvm.Cond.soleField "TrailerYardsModel" "sumOfBoth") ∈ lw_all := lw_g (lw_at lw_m5 222 rfl) rfl
theorem q1245 : (Jvm.Cond.lays "TrailerYardsModel" "TrailerYardsModel" "comesFirst" "I") ∈ lw_all := lw_g (lw_at lw_m5 223 rfl) rfl
theorem q1246 : (Jvm.Cond.soleField "TrailerYardsModel" "comesFirst") ∈ lw_all := lw_g (lw_at lw_m5 224 rfl) rfl
theorem q1247 : (Jvm.Cond.lays "TrailerYardsModel" "TrailerYardsModel" "comesSecond" "I") ∈ lw_all := lw_g (lw_at lw_m5 225 rfl) rfl
theorem q1248 : (Jvm.Cond.soleField "TrailerYardsModel" "comesSecond") ∈ lw_all := lw_g (lw_at lw_m5 226 rfl) rfl
theorem q1249 : (Jvm.Cond.lays "TrailerYardsModel" "TrailerYardsModel" "bestEnd" "I") ∈ lw_all := lw_g (lw_at lw_m5 227 rfl) rfl
theorem q1250 : (Jvm.Cond.soleField "TrailerYardsModel" "bestEnd") ∈ lw_all := lw_g (lw_at lw_m5 228 rfl) rfl
theorem q1251 : (Jvm.Cond.laysFinal "TrailerYardsModel" "TrailerYardsModel" "partners" "[I") ∈ lw_all := lw_g (lw_at lw_m5 229 rfl) rfl
theorem q1252 : (Jvm.Cond.soleField "TrailerYardsModel" "partners") ∈ lw_all := lw_g (lw_at lw_m5 230 rfl) rfl
theorem q1253 : (Jvm.Cond.laysFinal "TrailerYardsModel" "TrailerYardsModel" "trial" "[I") ∈ lw_all := lw_g (lw_at lw_m5 231 rfl) rfl
theorem q1254 : (Jvm.Cond.soleField "TrailerYardsModel" "trial") ∈ lw_all := lw_g (lw_at lw_m5 232 rfl) rfl
theorem q1255 : (Jvm.Cond.laysFinal "TrailerYardsModel" "TrailerYardsModel" "kept" "[I") ∈ lw_all := lw_g (lw_at lw_m5 233 rfl) rfl
theorem q1256 : (Jvm.Cond.soleField "TrailerYardsModel" "kept") ∈ lw_all := lw_g (lw_at lw_m5 234 rfl) rfl
theorem q1257 : (Jvm.Cond.lays "TrailerYardsModel" "TrailerYardsModel" "lookMany" "I") ∈ lw_all := lw_g (lw_at lw_m5 235 rfl) rfl
theorem q1258 : (Jvm.Cond.soleField "TrailerYardsModel" "lookMany") ∈ lw_all := lw_g (lw_at lw_m5 236 rfl) rfl
theorem q1259 : (Jvm.Cond.laysFinal "TrailerYardsModel" "TrailerYardsModel" "lookOrder" "[I") ∈ lw_all := lw_g (lw_at lw_m5 237 rfl) rfl
theorem q1260 : (Jvm.Cond.soleField "TrailerYardsModel" "lookOrder") ∈ lw_all := lw_g (lw_at lw_m5 238 rfl) rfl
theorem q1261 : (Jvm.Cond.laysFinal "TrailerYardsModel" "TrailerYardsModel" "goals" "[I") ∈ lw_all := lw_g (lw_at lw_m5 239 rfl) rfl
theorem q1262 : (Jvm.Cond.soleField "TrailerYardsModel" "goals") ∈ lw_all := lw_g (lw_at lw_m6 0 rfl) rfl
theorem q1263 : (Jvm.Cond.laysFinal "TrailerYardsModel" "TrailerYardsModel" "order" "[I") ∈ lw_all := lw_g (lw_at lw_m6 1 rfl) rfl
theorem q1264 : (Jvm.Cond.soleField "TrailerYardsModel" "order") ∈ lw_all := lw_g (lw_at lw_m6 2 rfl) rfl
theorem q1265 : (Jvm.Cond.lays "TrailerYardsModel" "TrailerYardsModel" "bestSum" "I") ∈ lw_all := lw_g (lw_at lw_m6 3 rfl) rfl
theorem q1266 : (Jvm.Cond.soleField "TrailerYardsModel" "bestSum") ∈ lw_all := lw_g (lw_at lw_m6 4 rfl) rfl
theorem q1267 : (Jvm.Cond.laysFinal "TrailerYardsModel" "TrailerYardsModel" "brought" "[I") ∈ lw_all := lw_g (lw_at lw_m6 5 rfl) rfl
theorem q1268 : (Jvm.Cond.soleField "TrailerYardsModel" "brought") ∈ lw_all := lw_g (lw_at lw_m6 6 rfl) rfl
theorem q1269 : (Jvm.Cond.laysFinal "TrailerYardsModel" "TrailerYardsModel" "more" "[I") ∈ lw_all := lw_g (lw_at lw_m6 7 rfl) rfl
theorem q1270 : (Jvm.Cond.soleField "TrailerYardsModel" "more") ∈ lw_all := lw_g (lw_at lw_m6 8 rfl) rfl
theorem q1271 : (Jvm.Cond.laysFinal "TrailerYardsModel" "TrailerYardsModel" "lacks" "[I") ∈ lw_all := lw_g (lw_at lw_m6 9 rfl) rfl
theorem q1272 : (Jvm.Cond.soleField "TrailerYardsModel" "lacks") ∈ lw_all := lw_g (lw_at lw_m6 10 rfl) rfl
theorem q1273 : (Jvm.Cond.laysFinal "TrailerYardsModel" "TrailerYardsModel" "costs" "[I") ∈ lw_all := lw_g (lw_at lw_m6 11 rfl) rfl
theorem q1274 : (Jvm.Cond.soleField "TrailerYardsModel" "costs") ∈ lw_all := lw_g (lw_at lw_m6 12 rfl) rfl
theorem q1275 : (Jvm.Cond.laysFinal "TrailerYardsModel" "TrailerYardsModel" "reach" "[I") ∈ lw_all := lw_g (lw_at lw_m6 13 rfl) rfl
theorem q1276 : (Jvm.Cond.soleField "TrailerYardsModel" "reach") ∈ lw_all := lw_g (lw_at lw_m6 14 rfl) rfl
theorem q1277 : (Jvm.Cond.laysFinal "TrailerYardsModel" "TrailerYardsModel" "came" "[I") ∈ lw_all := lw_g (lw_at lw_m6 15 rfl) rfl
theorem q1278 : (Jvm.Cond.soleField "TrailerYardsModel" "came") ∈ lw_all := lw_g (lw_at lw_m6 16 rfl) rfl
theorem q1279 : (Jvm.Cond.lays "TrailerYardsModel" "TrailerYardsModel" "rentDays" "I") ∈ lw_all := lw_g (lw_at lw_m6 17 rfl) rfl
theorem q1280 : (Jvm.Cond.soleField "TrailerYardsModel" "rentDays") ∈ lw_all := lw_g (lw_at lw_m6 18 rfl) rfl
theorem q1281 : (Jvm.Cond.laysFinal "TrailerYardsModel" "TrailerYardsModel" "rentedOn" "[I") ∈ lw_all := lw_g (lw_at lw_m6 19 rfl) rfl
theorem q1282 : (Jvm.Cond.soleField "TrailerYardsModel" "rentedOn") ∈ lw_all := lw_g (lw_at lw_m6 20 rfl) rfl
theorem q1283 : (Jvm.Cond.laysFinal "TrailerYardsModel" "TrailerYardsModel" "least" "[J") ∈ lw_all := lw_g (lw_at lw_m6 21 rfl) rfl
theorem q1284 : (Jvm.Cond.soleField "TrailerYardsModel" "least") ∈ lw_all := lw_g (lw_at lw_m6 22 rfl) rfl
theorem q1285 : (Jvm.Cond.lays "TrailerYardsModel" "TrailerYardsModel" "h" "J") ∈ lw_all := lw_g (lw_at lw_m6 23 rfl) rfl
theorem q1286 : (Jvm.Cond.soleField "TrailerYardsModel" "h") ∈ lw_all := lw_g (lw_at lw_m6 24 rfl) rfl
theorem q1287 : (Jvm.Cond.superclass "TrailerYardsModel" "java/lang/Object") ∈ lw_all := lw_g (lw_at lw_m6 25 rfl) rfl
theorem q1290 : (Jvm.Cond.instanceMethod ({ cls := "TrailerYardsModel", name := "row", desc := "(II)I" } : Jvm.MethodName)) ∈ lw_all := lw_g (lw_at lw_m6 28 rfl) rfl
theorem q1291 : (Jvm.Cond.selects "TrailerYardsModel" ({ cls := "TrailerYardsModel", name := "row", desc := "(II)I" } : Jvm.MethodName) ({ cls := "TrailerYardsModel", name := "row", desc := "(II)I" } : Jvm.MethodName)) ∈ lw_all := lw_g (lw_at lw_m6 29 rfl) rfl
theorem q1292 : (Jvm.Cond.code ({ cls := "TrailerYardsModel", name := "row", desc := "(II)I" } : Jvm.MethodName) prog_8_method_10_code (4 : Nat) (Option.some Jvm.ClassFile.FieldType.int)) ∈ lw_all := lw_g (lw_at lw_m6 30 rfl) rfl
theorem q1293 : (Jvm.Cond.methodLink "TrailerYardsModel" (189 : Nat) ({ cls := "TrailerYardsModel", name := "isRow", desc := "(I)Z" } : Jvm.MethodName)) ∈ lw_all := lw_g (lw_at lw_m6 31 rfl) rfl
theorem q1294 : (Jvm.Cond.static ({ cls := "TrailerYardsModel", name := "isRow", desc := "(I)Z" } : Jvm.MethodName)) ∈ lw_all := lw_g (lw_at lw_m6 32 rfl) rfl
theorem q1295 : (Jvm.Cond.code ({ cls := "TrailerYardsModel", name := "isRow", desc := "(I)Z" } : Jvm.MethodName) prog_8_method_8_code (1 : Nat) (Option.some Jvm.ClassFile.FieldType.boolean)) ∈ lw_all := lw_g (lw_at lw_m6 33 rfl) rfl
theorem q1296 : (Jvm.Cond.methodLink "TrailerYardsModel" (185 : Nat) ({ cls := "TrailerYardsModel", name := "in", desc := "(III)Z" } : Jvm.MethodName)) ∈ lw_all := lw_g (lw_at lw_m6 34 rfl) rfl
theorem q1297 : (Jvm.Cond.static ({ cls := "TrailerYardsModel", name := "in", desc := "(III)Z" } : Jvm.MethodName)) ∈ lw_all := lw_g (lw_at lw_m6 35 rfl) rfl
theorem q1298 : (Jvm.Cond.code ({ cls := "TrailerYardsModel", name := "in", desc := "(III)Z" } : Jvm.MethodName) prog_8_method_3_code (3 : Nat) (Option.some Jvm.ClassFile.FieldType.boolean)) ∈ lw_all := lw_g (lw_at lw_m6 36 rfl) rfl
theorem q1299 : (Jvm.Cond.methodLink "TrailerYardsModel" (193 : Nat) ({ cls := "TrailerYardsModel", name := "meets", desc := "(I)I" } : Jvm.MethodName)) ∈ lw_all := lw_g (lw_at lw_m6 37 rfl) rfl
theorem q1300 : (Jvm.Cond.privateMethod ({ cls := "TrailerYardsModel", name := "meets", desc := "(I)I" } : Jvm.MethodName)) ∈ lw_tbl := lw_at lw_m6 38 rfl
theorem q1301 : (Jvm.Cond.instanceMethod ({ cls := "TrailerYardsModel", name := "meets", desc := "(I)I" } : Jvm.MethodName)) ∈ lw_all := lw_g (lw_at lw_m6 39 rfl) rfl
theorem q1302 : (Jvm.Cond.code ({ cls := "TrailerYardsModel", name := "meets", desc := "(I)I" } : Jvm.MethodName) prog_8_method_4_code (2 : Nat) (Option.some Jvm.ClassFile.FieldType.int)) ∈ lw_all := lw_g (lw_at lw_m6 40 rfl) rfl
theorem q1304 : (Jvm.Cond.instanceMethod ({ cls := "TrailerYardsModel", name := "lay", desc := "(III)I" } : Jvm.MethodName)) ∈ lw_all := lw_g (lw_at lw_m6 42 rfl) rfl
theorem q1305 : (Jvm.Cond.selects "TrailerYardsModel" ({ cls := "TrailerYardsModel", name := "lay", desc := "(III)I" } : Jvm.MethodName) ({ cls := "TrailerYardsModel", name := "lay", desc := "(III)I" } : Jvm.MethodName)) ∈ lw_all := lw_g (lw_at lw_m6 43 rfl) rfl
theorem q1306 : (Jvm.Cond.code ({ cls := "TrailerYardsModel", name := "lay", desc := "(III)I" } : Jvm.MethodName) prog_8_method_11_code (5 : Nat) (Option.some Jvm.ClassFile.FieldType.int)) ∈ lw_all := lw_g (lw_at lw_m6 44 rfl) rfl
theorem q1307 : (Jvm.Cond.methodLink "TrailerYardsModel" (197 : Nat) ({ cls := "TrailerYardsModel", name := "askedRow", desc := "(I)I" } : Jvm.MethodName)) ∈ lw_all := lw_g (lw_at lw_m6 45 rfl) rfl
theorem q1308 : (Jvm.Cond.privateMethod ({ cls := "TrailerYardsModel", name := "askedRow", desc := "(I)I" } : Jvm.MethodName)) ∈ lw_tbl := lw_at lw_m6 46 rfl
theorem q1309 : (Jvm.Cond.instanceMethod ({ cls := "TrailerYardsModel", name := "askedRow", desc := "(I)I" } : Jvm.MethodName)) ∈ lw_all := lw_g (lw_at lw_m6 47 rfl) rfl
theorem q1310 : (Jvm.Cond.code ({ cls := "TrailerYardsModel", name := "askedRow", desc := "(I)I" } : Jvm.MethodName) prog_8_method_9_code (2 : Nat) (Option.some Jvm.ClassFile.FieldType.int)) ∈ lw_all := lw_g (lw_at lw_m6 48 rfl) rfl
theorem q1312 : (Jvm.Cond.instanceMethod ({ cls := "TrailerYardsModel", name := "tear", desc := "(I)I" } : Jvm.MethodName)) ∈ lw_all := lw_g (lw_at lw_m6 50 rfl) rfl
theorem q1313 : (Jvm.Cond.selects "TrailerYardsModel" ({ cls := "TrailerYardsModel", name := "tear", desc := "(I)I" } : Jvm.MethodName) ({ cls := "TrailerYardsModel", name := "tear", desc := "(I)I" } : Jvm.MethodName)) ∈ lw_all := lw_g (lw_at lw_m6 51 rfl) rfl
theorem q1314 : (Jvm.Cond.code ({ cls := "TrailerYardsModel", name := "tear", desc := "(I)I" } : Jvm.MethodName) prog_8_method_12_code (3 : Nat) (Option.some Jvm.ClassFile.FieldType.int)) ∈ lw_all := lw_g (lw_at lw_m6 52 rfl) rfl
theorem q1316 : (Jvm.Cond.instanceMethod ({ cls := "TrailerYardsModel", name := "copy", desc := "(IIIII)I" } : Jvm.MethodName)) ∈ lw_all := lw_g (lw_at lw_m6 54 rfl) rfl
theorem q1317 : (Jvm.Cond.selects "TrailerYardsModel" ({ cls := "TrailerYardsModel", name := "copy", desc := "(IIIII)I" } : Jvm.MethodName) ({ cls := "TrailerYardsModel", name := "copy", desc := "(IIIII)I" } : Jvm.MethodName)) ∈ lw_all := lw_g (lw_at lw_m6 55 rfl) rfl
theorem q1318 : (Jvm.Cond.code ({ cls := "TrailerYardsModel", name := "copy", desc := "(IIIII)I" } : Jvm.MethodName) prog_8_method_13_code (7 : Nat) (Option.some Jvm.ClassFile.FieldType.int)) ∈ lw_all := lw_g (lw_at lw_m6 56 rfl) rfl
theorem q1320 : (Jvm.Cond.instanceMethod ({ cls := "TrailerYardsModel", name := "text", desc := "(II)I" } : Jvm.MethodName)) ∈ lw_all := lw_g (lw_at lw_m6 58 rfl) rfl
theorem q1321 : (Jvm.Cond.selects "TrailerYardsModel" ({ cls := "TrailerYardsModel", name := "text", desc := "(II)I" } : Jvm.MethodName) ({ cls := "TrailerYardsModel", name := "text", desc := "(II)I" } : Jvm.MethodName)) ∈ lw_all := lw_g (lw_at lw_m6 59 rfl) rfl
theorem q1322 : (Jvm.Cond.code ({ cls := "TrailerYardsModel", name := "text", desc := "(II)I" } : Jvm.MethodName) prog_8_method_16_code (4 : Nat) (Option.some Jvm.ClassFile.FieldType.int)) ∈ lw_all := lw_g (lw_at lw_m6 60 rfl) rfl
theorem q1323 : (Jvm.Cond.methodLink "TrailerYardsModel" (200 : Nat) ({ cls := "TrailerYardsModel", name := "isText", desc := "(I)Z" } : Jvm.MethodName)) ∈ lw_all := lw_g (lw_at lw_m6 61 rfl) rfl
theorem q1324 : (Jvm.Cond.static ({ cls := "TrailerYardsModel", name := "isText", desc := "(I)Z" } : Jvm.MethodName)) ∈ lw_all := lw_g (lw_at lw_m6 62 rfl) rfl
theorem q1325 : (Jvm.Cond.code ({ cls := "TrailerYardsModel", name := "isText", desc := "(I)Z" } : Jvm.MethodName) prog_8_method_14_code (1 : Nat) (Option.some Jvm.ClassFile.FieldType.boolean)) ∈ lw_all := lw_g (lw_at lw_m6 63 rfl) rfl
theorem q1327 : (Jvm.Cond.instanceMethod ({ cls := "TrailerYardsModel", name := "put", desc := "(III)I" } : Jvm.MethodName)) ∈ lw_all := lw_g (lw_at lw_m6 65 rfl) rfl
theorem q1328 : (Jvm.Cond.selects "TrailerYardsModel" ({ cls := "TrailerYardsModel", name := "put", desc := "(III)I" } : Jvm.MethodName) ({ cls := "TrailerYardsModel", name := "put", desc := "(III)I" } : Jvm.MethodName)) ∈ lw_all := lw_g (lw_at lw_m6 66 rfl) rfl
theorem q1329 : (Jvm.Cond.code ({ cls := "TrailerYardsModel", name := "put", desc := "(III)I" } : Jvm.MethodName) prog_8_method_17_code (6 : Nat) (Option.some Jvm.ClassFile.FieldType.int)) ∈ lw_all := lw_g (lw_at lw_m6 67 rfl) rfl
theorem q1330 : (Jvm.Cond.methodLink "TrailerYardsModel" (203 : Nat) ({ cls := "TrailerYardsModel", name := "askedText", desc := "(I)I" } : Jvm.MethodName)) ∈ lw_all := lw_g (lw_at lw_m6 68 rfl) rfl
theorem q1331 : (Jvm.Cond.privateMethod ({ cls := "TrailerYardsModel", name := "askedText", desc := "(I)I" } : Jvm.MethodName)) ∈ lw_tbl := lw_at lw_m6 69 rfl
theorem q1332 : (Jvm.Cond.instanceMethod ({ cls := "TrailerYardsModel", name := "askedText", desc := "(I)I" } : Jvm.MethodName)) ∈ lw_all := lw_g (lw_at lw_m6 70 rfl) rfl
theorem q1333 : (Jvm.Cond.code ({ cls := "TrailerYardsModel", name := "askedText", desc := "(I)I" } : Jvm.MethodName) prog_8_method_15_code (2 : Nat) (Option.some Jvm.ClassFile.FieldType.int)) ∈ lw_all := lw_g (lw_at lw_m6 71 rfl) rfl
theorem q1335 : (Jvm.Cond.instanceMethod ({ cls := "TrailerYardsModel", name := "later", desc := "(I)I" } : Jvm.MethodName)) ∈ lw_all := lw_g (lw_at lw_m6 73 rfl) rfl
theorem q1336 : (Jvm.Cond.selects "TrailerYardsModel" ({ cls := "TrailerYardsModel", name := "later", desc := "(I)I" } : Jvm.MethodName) ({ cls := "TrailerYardsModel", name := "later", desc := "(I)I" } : Jvm.MethodName)) ∈ lw_all := lw_g (lw_at lw_m6 74 rfl) rfl
theorem q1337 : (Jvm.Cond.code ({ cls := "TrailerYardsModel", name := "later", desc := "(I)I" } : Jvm.MethodName) prog_8_method_18_code (2 : Nat) (Option.some Jvm.ClassFile.FieldType.int)) ∈ lw_all := lw_g (lw_at lw_m6 75 rfl) rfl
theorem q1338 : (Jvm.Cond.constant "TrailerYardsModel" (206 : Nat) (99999 : Int32)) ∈ lw_all := lw_g (lw_at lw_m6 76 rfl) rfl
theorem q1340 : (Jvm.Cond.instanceMethod ({ cls := "TrailerYardsModel", name := "way", desc := "(IIII)I" } : Jvm.MethodName)) ∈ lw_all := lw_g (lw_at lw_m6 78 rfl) rfl
theorem q1341 : (Jvm.Cond.selects "TrailerYardsModel" ({ cls := "TrailerYardsModel", name := "way", desc := "(IIII)I" } : Jvm.MethodName) ({ cls := "TrailerYardsModel", name := "way", desc := "(IIII)I" } : Jvm.MethodName)) ∈ lw_all := lw_g (lw_at lw_m6 79 rfl) rfl
theorem q1342 : (Jvm.Cond.code ({ cls := "TrailerYardsModel", name := "way", desc := "(IIII)I" } : Jvm.MethodName) prog_8_method_21_code (5 : Nat) (Option.some Jvm.ClassFile.FieldType.int)) ∈ lw_all := lw_g (lw_at lw_m6 80 rfl) rfl
theorem q1343 : (Jvm.Cond.methodLink "TrailerYardsModel" (210 : Nat) ({ cls := "TrailerYardsModel", name := "isYard", desc := "(I)Z" } : Jvm.MethodName)) ∈ lw_all := lw_g (lw_at lw_m6 81 rfl) rfl
theorem q1344 : (Jvm.Cond.static ({ cls := "TrailerYardsModel", name := "isYard", desc := "(I)Z" } : Jvm.MethodName)) ∈ lw_all := lw_g (lw_at lw_m6 82 rfl) rfl
theorem q1345 : (Jvm.Cond.code ({ cls := "TrailerYardsModel", name := "isYard", desc := "(I)Z" } : Jvm.MethodName) prog_8_method_19_code (1 : Nat) (Option.some Jvm.ClassFile.FieldType.boolean)) ∈ lw_all := lw_g (lw_at lw_m6 83 rfl) rfl
theorem q1346 : (Jvm.Cond.methodLink "TrailerYardsModel" (213 : Nat) ({ cls := "TrailerYardsModel", name := "setWay", desc := "(IIIIII)V" } : Jvm.MethodName)) ∈ lw_all := lw_g (lw_at lw_m6 84 rfl) rfl
theorem q1347 : (Jvm.Cond.privateMethod ({ cls := "TrailerYardsModel", name := "setWay", desc := "(IIIIII)V" } : Jvm.MethodName)) ∈ lw_tbl := lw_at lw_m6 85 rfl
theorem q1348 : (Jvm.Cond.instanceMethod ({ cls := "TrailerYardsModel", name := "setWay", desc := "(IIIIII)V" } : Jvm.MethodName)) ∈ lw_all := lw_g (lw_at lw_m6 86 rfl) rfl
theorem q1349 : (Jvm.Cond.code ({ cls := "TrailerYardsModel", name := "setWay", desc := "(IIIIII)V" } : Jvm.MethodName) prog_8_method_20_code (8 : Nat) (Option.none : Option Jvm.ClassFile.FieldType)) ∈ lw_all := lw_g (lw_at lw_m6 87 rfl) rfl
theorem q1351 : (Jvm.Cond.instanceMethod ({ cls := "TrailerYardsModel", name := "ferry", desc := "(IIII)I" } : Jvm.MethodName)) ∈ lw_all := lw_g (lw_at lw_m6 89 rfl) rfl
theorem q1352 : (Jvm.Cond.selects "TrailerYardsModel" ({ cls := "TrailerYardsModel", name := "ferry", desc := "(IIII)I" } : Jvm.MethodName) ({ cls := "TrailerYardsModel", name := "ferry", desc := "(IIII)I" } : Jvm.MethodName)) ∈ lw_all := lw_g (lw_at lw_m6 90 rfl) rfl
theorem q1353 : (Jvm.Cond.code ({ cls := "TrailerYardsModel", name := "ferry", desc := "(IIII)I" } : Jvm.MethodName) prog_8_method_22_code (6 : Nat) (Option.some Jvm.ClassFile.FieldType.int)) ∈ lw_all := lw_g (lw_at lw_m6 91 rfl) rfl
theorem q1355 : (Jvm.Cond.instanceMethod ({ cls := "TrailerYardsModel", name := "comes", desc := "(III)I" } : Jvm.MethodName)) ∈ lw_all := lw_g (lw_at lw_m6 93 rfl) rfl
theorem q1356 : (Jvm.Cond.selects "TrailerYardsModel" ({ cls := "TrailerYardsModel", name := "comes", desc := "(III)I" } : Jvm.MethodName) ({ cls := "TrailerYardsModel", name := "comes", desc := "(III)I" } : Jvm.MethodName)) ∈ lw_all := lw_g (lw_at lw_m6 94 rfl) rfl
theorem q1357 : (Jvm.Cond.code ({ cls := "TrailerYardsModel", name := "comes", desc := "(III)I" } : Jvm.MethodName) prog_8_method_25_code (5 : Nat) (Option.some Jvm.ClassFile.FieldType.int)) ∈ lw_all := lw_g (lw_at lw_m6 95 rfl) rfl
theorem q1358 : (Jvm.Cond.methodLink "TrailerYardsModel" (222 : Nat) ({ cls := "TrailerYardsModel", name := "comesTo", desc := "(III)I" } : Jvm.MethodName)) ∈ lw_all := lw_g (lw_at lw_m6 96 rfl) rfl
theorem q1359 : (Jvm.Cond.privateMethod ({ cls := "TrailerYardsModel", name := "comesTo", desc := "(III)I" } : Jvm.MethodName)) ∈ lw_tbl := lw_at lw_m6 97 rfl
theorem q1360 : (Jvm.Cond.instanceMethod ({ cls := "TrailerYardsModel", name := "comesTo", desc := "(III)I" } : Jvm.MethodName)) ∈ lw_all := lw_g (lw_at lw_m6 98 rfl) rfl
theorem q1361 : (Jvm.Cond.code ({ cls := "TrailerYardsModel", name := "comesTo", desc := "(III)I" } : Jvm.MethodName) prog_8_method_24_code (8 : Nat) (Option.some Jvm.ClassFile.FieldType.int)) ∈ lw_all := lw_g (lw_at lw_m6 99 rfl) rfl
theorem q1362 : (Jvm.Cond.constant "TrailerYardsModel" (217 : Nat) (100000000 : Int32)) ∈ lw_all := lw_g (lw_at lw_m6 100 rfl) rfl
theorem q1363 : (Jvm.Cond.methodLink "TrailerYardsModel" (218 : Nat) ({ cls := "TrailerYardsModel", name := "beyond", desc := "(II)I" } : Jvm.MethodName)) ∈ lw_all := lw_g (lw_at lw_m6 101 rfl) rfl
theorem q1364 : (Jvm.Cond.privateMethod ({ cls := "TrailerYardsModel", name := "beyond", desc := "(II)I" } : Jvm.MethodName)) ∈ lw_tbl := lw_at lw_m6 102 rfl
theorem q1365 : (Jvm.Cond.instanceMethod ({ cls := "TrailerYardsModel", name := "beyond", desc := "(II)I" } : Jvm.MethodName)) ∈ lw_all := lw_g (lw_at lw_m6 103 rfl) rfl
theorem q1366 : (Jvm.Cond.code ({ cls := "TrailerYardsModel", name := "beyond", desc := "(II)I" } : Jvm.MethodName) prog_8_method_23_code (5 : Nat) (Option.some Jvm.ClassFile.FieldType.int)) ∈ lw_all := lw_g (lw_at lw_m6 104 rfl) rfl
theorem q1368 : (Jvm.Cond.instanceMethod ({ cls := "TrailerYardsModel", name := "toll", desc := "(II)I" } : Jvm.MethodName)) ∈ lw_all := lw_g (lw_at lw_m6 106 rfl) rfl
theorem q1369 : (Jvm.Cond.selects "TrailerYardsModel" ({ cls := "TrailerYardsModel", name := "toll", desc := "(II)I" } : Jvm.MethodName) ({ cls := "TrailerYardsModel", name := "toll", desc := "(II)I" } : Jvm.MethodName)) ∈ lw_all := lw_g (lw_at lw_m6 107 rfl) rfl
theorem q1370 : (Jvm.Cond.code ({ cls := "TrailerYardsModel", name := "toll", desc := "(II)I" } : Jvm.MethodName) prog_8_method_26_code (6 : Nat) (Option.some Jvm.ClassFile.FieldType.int)) ∈ lw_all := lw_g (lw_at lw_m6 108 rfl) rfl
theorem q1372 : (Jvm.Cond.instanceMethod ({ cls := "TrailerYardsModel", name := "trailer", desc := "(III)I" } : Jvm.MethodName)) ∈ lw_all := lw_g (lw_at lw_m6 110 rfl) rfl
theorem q1373 : (Jvm.Cond.selects "TrailerYardsModel" ({ cls := "TrailerYardsModel", name := "trailer", desc := "(III)I" } : Jvm.MethodName) ({ cls := "TrailerYardsModel", name := "trailer", desc := "(III)I" } : Jvm.MethodName)) ∈ lw_all := lw_g (lw_at lw_m6 111 rfl) rfl
theorem q1374 : (Jvm.Cond.code ({ cls := "TrailerYardsModel", name := "trailer", desc := "(III)I" } : Jvm.MethodName) prog_8_method_31_code (4 : Nat) (Option.some Jvm.ClassFile.FieldType.int)) ∈ lw_all := lw_g (lw_at lw_m6 112 rfl) rfl
theorem q1375 : (Jvm.Cond.methodLink "TrailerYardsModel" (233 : Nat) ({ cls := "TrailerYardsModel", name := "isWorth", desc := "(I)Z" } : Jvm.MethodName)) ∈ lw_all := lw_g (lw_at lw_m6 113 rfl) rfl
theorem q1376 : (Jvm.Cond.static ({ cls := "TrailerYardsModel", name := "isWorth", desc := "(I)Z" } : Jvm.MethodName)) ∈ lw_all := lw_g (lw_at lw_m6 114 rfl) rfl
theorem q1377 : (Jvm.Cond.code ({ cls := "TrailerYardsModel", name := "isWorth", desc := "(I)Z" } : Jvm.MethodName) prog_8_method_30_code (1 : Nat) (Option.some Jvm.ClassFile.FieldType.boolean)) ∈ lw_all := lw_g (lw_at lw_m6 115 rfl) rfl
theorem q1378 : (Jvm.Cond.constant "TrailerYardsModel" (232 : Nat) (100000 : Int32)) ∈ lw_all := lw_g (lw_at lw_m6 116 rfl) rfl
theorem q1379 : (Jvm.Cond.methodLink "TrailerYardsModel" (236 : Nat) ({ cls := "TrailerYardsModel", name := "enter", desc := "(IIII)V" } : Jvm.MethodName)) ∈ lw_all := lw_g (lw_at lw_m6 117 rfl) rfl
theorem q1380 : (Jvm.Cond.privateMethod ({ cls := "TrailerYardsModel", name := "enter", desc := "(IIII)V" } : Jvm.MethodName)) ∈ lw_tbl := lw_at lw_m6 118 rfl
theorem q1381 : (Jvm.Cond.instanceMethod ({ cls := "TrailerYardsModel", name := "enter", desc := "(IIII)V" } : Jvm.MethodName)) ∈ lw_all := lw_g (lw_at lw_m6 119 rfl) rfl
theorem q1382 : (Jvm.Cond.code ({ cls := "TrailerYardsModel", name := "enter", desc := "(IIII)V" } : Jvm.MethodName) prog_8_method_27_code (5 : Nat) (Option.none : Option Jvm.ClassFile.FieldType)) ∈ lw_all := lw_g (lw_at lw_m6 120 rfl) rfl
theorem q1384 : (Jvm.Cond.instanceMethod ({ cls := "TrailerYardsModel", name := "told", desc := "(II)I" } : Jvm.MethodName)) ∈ lw_all := lw_g (lw_at lw_m6 122 rfl) rfl
theorem q1385 : (Jvm.Cond.selects "TrailerYardsModel" ({ cls := "TrailerYardsModel", name := "told", desc := "(II)I" } : Jvm.MethodName) ({ cls := "TrailerYardsModel", name := "told", desc := "(II)I" } : Jvm.MethodName)) ∈ lw_all := lw_g (lw_at lw_m6 123 rfl) rfl
theorem q1386 : (Jvm.Cond.code ({ cls := "TrailerYardsModel", name := "told", desc := "(II)I" } : Jvm.MethodName) prog_8_method_33_code (3 : Nat) (Option.some Jvm.ClassFile.FieldType.int)) ∈ lw_all := lw_g (lw_at lw_m6 124 rfl) rfl
theorem q1387 : (Jvm.Cond.methodLink "TrailerYardsModel" (240 : Nat) ({ cls := "TrailerYardsModel", name := "isTrailer", desc := "(I)Z" } : Jvm.MethodName)) ∈ lw_all := lw_g (lw_at lw_m6 125 rfl) rfl
theorem q1388 : (Jvm.Cond.privateMethod ({ cls := "TrailerYardsModel", name := "isTrailer", desc := "(I)Z" } : Jvm.MethodName)) ∈ lw_tbl := lw_at lw_m6 126 rfl
theorem q1389 : (Jvm.Cond.instanceMethod ({ cls := "TrailerYardsModel", name := "isTrailer", desc := "(I)Z" } : Jvm.MethodName)) ∈ lw_all := lw_g (lw_at lw_m6 127 rfl) rfl
theorem q1390 : (Jvm.Cond.code ({ cls := "TrailerYardsModel", name := "isTrailer", desc := "(I)Z" } : Jvm.MethodName) prog_8_method_28_code (2 : Nat) (Option.some Jvm.ClassFile.FieldType.boolean)) ∈ lw_all := lw_g (lw_at lw_m6 128 rfl) rfl
theorem q1391 : (Jvm.Cond.methodLink "TrailerYardsModel" (243 : Nat) ({ cls := "TrailerYardsModel", name := "trailerTells", desc := "(II)I" } : Jvm.MethodName)) ∈ lw_all := lw_g (lw_at lw_m6 129 rfl) rfl
theorem q1392 : (Jvm.Cond.privateMethod ({ cls := "TrailerYardsModel", name := "trailerTells", desc := "(II)I" } : Jvm.MethodName)) ∈ lw_tbl := lw_at lw_m6 130 rfl
theorem q1393 : (Jvm.Cond.instanceMethod ({ cls := "TrailerYardsModel", name := "trailerTells", desc := "(II)I" } : Jvm.MethodName)) ∈ lw_all := lw_g (lw_at lw_m6 131 rfl) rfl
theorem q1394 : (Jvm.Cond.code ({ cls := "TrailerYardsModel", name := "trailerTells", desc := "(II)I" } : Jvm.MethodName) prog_8_method_32_code (3 : Nat) (Option.some Jvm.ClassFile.FieldType.int)) ∈ lw_all := lw_g (lw_at lw_m6 132 rfl) rfl
theorem q1395 : (Jvm.Cond.methodLink "TrailerYardsModel" (246 : Nat) ({ cls := "TrailerYardsModel", name := "ask", desc := "(II)I" } : Jvm.MethodName)) ∈ lw_all := lw_g (lw_at lw_m6 133 rfl) rfl
theorem q1396 : (Jvm.Cond.privateMethod ({ cls := "TrailerYardsModel", name := "ask", desc := "(II)I" } : Jvm.MethodName)) ∈ lw_tbl := lw_at lw_m6 134 rfl
theorem q1397 : (Jvm.Cond.instanceMethod ({ cls := "TrailerYardsModel", name := "ask", desc := "(II)I" } : Jvm.MethodName)) ∈ lw_all := lw_g (lw_at lw_m6 135 rfl) rfl
theorem q1398 : (Jvm.Cond.code ({ cls := "TrailerYardsModel", name := "ask", desc := "(II)I" } : Jvm.MethodName) prog_8_method_5_code (3 : Nat) (Option.some Jvm.ClassFile.FieldType.int)) ∈ lw_all := lw_g (lw_at lw_m6 136 rfl) rfl
theorem q1400 : (Jvm.Cond.instanceMethod ({ cls := "TrailerYardsModel", name := "mark", desc := "(II)I" } : Jvm.MethodName)) ∈ lw_all := lw_g (lw_at lw_m6 138 rfl) rfl
theorem q1401 : (Jvm.Cond.selects "TrailerYardsModel" ({ cls := "TrailerYardsModel", name := "mark", desc := "(II)I" } : Jvm.MethodName) ({ cls := "TrailerYardsModel", name := "mark", desc := "(II)I" } : Jvm.MethodName)) ∈ lw_all := lw_g (lw_at lw_m6 139 rfl) rfl
theorem q1402 : (Jvm.Cond.code ({ cls := "TrailerYardsModel", name := "mark", desc := "(II)I" } : Jvm.MethodName) prog_8_method_36_code (3 : Nat) (Option.some Jvm.ClassFile.FieldType.int)) ∈ lw_all := lw_g (lw_at lw_m6 140 rfl) rfl
theorem q1403 : (Jvm.Cond.methodLink "TrailerYardsModel" (249 : Nat) ({ cls := "TrailerYardsModel", name := "isCold", desc := "(I)Z" } : Jvm.MethodName)) ∈ lw_all := lw_g (lw_at lw_m6 141 rfl) rfl
theorem q1404 : (Jvm.Cond.privateMethod ({ cls := "TrailerYardsModel", name := "isCold", desc := "(I)Z" } : Jvm.MethodName)) ∈ lw_tbl := lw_at lw_m6 142 rfl
theorem q1405 : (Jvm.Cond.instanceMethod ({ cls := "TrailerYardsModel", name := "isCold", desc := "(I)Z" } : Jvm.MethodName)) ∈ lw_all := lw_g (lw_at lw_m6 143 rfl) rfl
theorem q1406 : (Jvm.Cond.code ({ cls := "TrailerYardsModel", name := "isCold", desc := "(I)Z" } : Jvm.MethodName) prog_8_method_34_code (2 : Nat) (Option.some Jvm.ClassFile.FieldType.boolean)) ∈ lw_all := lw_g (lw_at lw_m6 144 rfl) rfl
theorem q1407 : (Jvm.Cond.methodLink "TrailerYardsModel" (252 : Nat) ({ cls := "TrailerYardsModel", name := "day", desc := "(I)I" } : Jvm.MethodName)) ∈ lw_all := lw_g (lw_at lw_m6 145 rfl) rfl
theorem q1408 : (Jvm.Cond.static ({ cls := "TrailerYardsModel", name := "day", desc := "(I)I" } : Jvm.MethodName)) ∈ lw_all := lw_g (lw_at lw_m6 146 rfl) rfl
theorem q1409 : (Jvm.Cond.code ({ cls := "TrailerYardsModel", name := "day", desc := "(I)I" } : Jvm.MethodName) prog_8_method_7_code (1 : Nat) (Option.some Jvm.ClassFile.FieldType.int)) ∈ lw_all := lw_g (lw_at lw_m6 147 rfl) rfl
theorem q1410 : (Jvm.Cond.methodLink "TrailerYardsModel" (255 : Nat) ({ cls := "TrailerYardsModel", name := "entryFrom", desc := "(II)I" } : Jvm.MethodName)) ∈ lw_all := lw_g (lw_at lw_m6 148 rfl) rfl
theorem q1411 : (Jvm.Cond.privateMethod ({ cls := "TrailerYardsModel", name := "entryFrom", desc := "(II)I" } : Jvm.MethodName)) ∈ lw_tbl := lw_at lw_m6 149 rfl
theorem q1412 : (Jvm.Cond.instanceMethod ({ cls := "TrailerYardsModel", name := "entryFrom", desc := "(II)I" } : Jvm.MethodName)) ∈ lw_all := lw_g (lw_at lw_m6 150 rfl) rfl
theorem q1413 : (Jvm.Cond.code ({ cls := "TrailerYardsModel", name := "entryFrom", desc := "(II)I" } : Jvm.MethodName) prog_8_method_35_code (4 : Nat) (Option.some Jvm.ClassFile.FieldType.int)) ∈ lw_all := lw_g (lw_at lw_m6 151 rfl) rfl
theorem q1415 : (Jvm.Cond.instanceMethod ({ cls := "TrailerYardsModel", name := "limit", desc := "(II)I" } : Jvm.MethodName)) ∈ lw_all := lw_g (lw_at lw_m6 153 rfl) rfl
theorem q1416 : (Jvm.Cond.selects "TrailerYardsModel" ({ cls := "TrailerYardsModel", name := "limit", desc := "(II)I" } : Jvm.MethodName) ({ cls := "TrailerYardsModel", name := "limit", desc := "(II)I" } : Jvm.MethodName)) ∈ lw_all := lw_g (lw_at lw_m6 154 rfl) rfl
theorem q1417 : (Jvm.Cond.code ({ cls := "TrailerYardsModel", name := "limit", desc := "(II)I" } : Jvm.MethodName) prog_8_method_37_code (3 : Nat) (Option.some Jvm.ClassFile.FieldType.int)) ∈ lw_all := lw_g (lw_at lw_m6 155 rfl) rfl
theorem q1419 : (Jvm.Cond.instanceMethod ({ cls := "TrailerYardsModel", name := "park", desc := "(II)I" } : Jvm.MethodName)) ∈ lw_all := lw_g (lw_at lw_m6 157 rfl) rfl
theorem q1420 : (Jvm.Cond.selects "TrailerYardsModel" ({ cls := "TrailerYardsModel", name := "park", desc := "(II)I" } : Jvm.MethodName) ({ cls := "TrailerYardsModel", name := "park", desc := "(II)I" } : Jvm.MethodName)) ∈ lw_all := lw_g (lw_at lw_m6 158 rfl) rfl
theorem q1421 : (Jvm.Cond.code ({ cls := "TrailerYardsModel", name := "park", desc := "(II)I" } : Jvm.MethodName) prog_8_method_39_code (3 : Nat) (Option.some Jvm.ClassFile.FieldType.int)) ∈ lw_all := lw_g (lw_at lw_m6 159 rfl) rfl
theorem q1422 : (Jvm.Cond.methodLink "TrailerYardsModel" (258 : Nat) ({ cls := "TrailerYardsModel", name := "isTractor", desc := "(I)Z" } : Jvm.MethodName)) ∈ lw_all := lw_g (lw_at lw_m6 160 rfl) rfl
theorem q1423 : (Jvm.Cond.static ({ cls := "TrailerYardsModel", name := "isTractor", desc := "(I)Z" } : Jvm.MethodName)) ∈ lw_all := lw_g (lw_at lw_m6 161 rfl) rfl
theorem q1424 : (Jvm.Cond.code ({ cls := "TrailerYardsModel", name := "isTractor", desc := "(I)Z" } : Jvm.MethodName) prog_8_method_29_code (1 : Nat) (Option.some Jvm.ClassFile.FieldType.boolean)) ∈ lw_all := lw_g (lw_at lw_m6 162 rfl) rfl
theorem q1425 : (Jvm.Cond.methodLink "TrailerYardsModel" (261 : Nat) ({ cls := "TrailerYardsModel", name := "isOnWay", desc := "(I)Z" } : Jvm.MethodName)) ∈ lw_all := lw_g (lw_at lw_m6 163 rfl) rfl
theorem q1426 : (Jvm.Cond.privateMethod ({ cls := "TrailerYardsModel", name := "isOnWay", desc := "(I)Z" } : Jvm.MethodName)) ∈ lw_tbl := lw_at lw_m6 164 rfl
theorem q1427 : (Jvm.Cond.instanceMethod ({ cls := "TrailerYardsModel", name := "isOnWay", desc := "(I)Z" } : Jvm.MethodName)) ∈ lw_all := lw_g (lw_at lw_m6 165 rfl) rfl
theorem q1428 : (Jvm.Cond.code ({ cls := "TrailerYardsModel", name := "isOnWay", desc := "(I)Z" } : Jvm.MethodName) prog_8_method_38_code (2 : Nat) (Option.some Jvm.ClassFile.FieldType.boolean)) ∈ lw_all := lw_g (lw_at lw_m6 166 rfl) rfl
theorem q1430 : (Jvm.Cond.instanceMethod ({ cls := "TrailerYardsModel", name := "hitch", desc := "(II)I" } : Jvm.MethodName)) ∈ lw_all := lw_g (lw_at lw_m6 168 rfl) rfl
theorem q1431 : (Jvm.Cond.selects "TrailerYardsModel" ({ cls := "TrailerYardsModel", name := "hitch", desc := "(II)I" } : Jvm.MethodName) ({ cls := "TrailerYardsModel", name := "hitch", desc := "(II)I" } : Jvm.MethodName)) ∈ lw_all := lw_g (lw_at lw_m6 169 rfl) rfl
theorem q1432 : (Jvm.Cond.code ({ cls := "TrailerYardsModel", name := "hitch", desc := "(II)I" } : Jvm.MethodName) prog_8_method_40_code (3 : Nat) (Option.some Jvm.ClassFile.FieldType.int)) ∈ lw_all := lw_g (lw_at lw_m6 170 rfl) rfl
theorem q1434 : (Jvm.Cond.instanceMethod ({ cls := "TrailerYardsModel", name := "drop", desc := "(I)I" } : Jvm.MethodName)) ∈ lw_all := lw_g (lw_at lw_m6 172 rfl) rfl
theorem q1435 : (Jvm.Cond.selects "TrailerYardsModel" ({ cls := "TrailerYardsModel", name := "drop", desc := "(I)I" } : Jvm.MethodName) ({ cls := "TrailerYardsModel", name := "drop", desc := "(I)I" } : Jvm.MethodName)) ∈ lw_all := lw_g (lw_at lw_m6 173 rfl) rfl
theorem q1436 : (Jvm.Cond.code ({ cls := "TrailerYardsModel", name := "drop", desc := "(I)I" } : Jvm.MethodName) prog_8_method_41_code (3 : Nat) (Option.some Jvm.ClassFile.FieldType.int)) ∈ lw_all := lw_g (lw_at lw_m6 174 rfl) rfl
theorem q1438 : (Jvm.Cond.instanceMethod ({ cls := "TrailerYardsModel", name := "go", desc := "(II)I" } : Jvm.MethodName)) ∈ lw_all := lw_g (lw_at lw_m6 176 rfl) rfl
theorem q1439 : (Jvm.Cond.selects "TrailerYardsModel" ({ cls := "TrailerYardsModel", name := "go", desc := "(II)I" } : Jvm.MethodName) ({ cls := "TrailerYardsModel", name := "go", desc := "(II)I" } : Jvm.MethodName)) ∈ lw_all := lw_g (lw_at lw_m6 177 rfl) rfl
theorem q1440 : (Jvm.Cond.code ({ cls := "TrailerYardsModel", name := "go", desc := "(II)I" } : Jvm.MethodName) prog_8_method_42_code (6 : Nat) (Option.some Jvm.ClassFile.FieldType.int)) ∈ lw_all := lw_g (lw_at lw_m6 178 rfl) rfl
theorem q1441 : (Jvm.Cond.methodLink "TrailerYardsModel" (264 : Nat) ({ cls := "TrailerYardsModel", name := "inForce", desc := "(IIII)I" } : Jvm.MethodName)) ∈ lw_all := lw_g (lw_at lw_m6 179 rfl) rfl
theorem q1442 : (Jvm.Cond.privateMethod ({ cls := "TrailerYardsModel", name := "inForce", desc := "(IIII)I" } : Jvm.MethodName)) ∈ lw_tbl := lw_at lw_m6 180 rfl
theorem q1443 : (Jvm.Cond.instanceMethod ({ cls := "TrailerYardsModel", name := "inForce", desc := "(IIII)I" } : Jvm.MethodName)) ∈ lw_all := lw_g (lw_at lw_m6 181 rfl) rfl
theorem q1444 : (Jvm.Cond.code ({ cls := "TrailerYardsModel", name := "inForce", desc := "(IIII)I" } : Jvm.MethodName) prog_8_method_55_code (9 : Nat) (Option.some Jvm.ClassFile.FieldType.int)) ∈ lw_all := lw_g (lw_at lw_m6 182 rfl) rfl
theorem q1446 : (Jvm.Cond.instanceMethod ({ cls := "TrailerYardsModel", name := "tractor", desc := "(II)I" } : Jvm.MethodName)) ∈ lw_all := lw_g (lw_at lw_m6 184 rfl) rfl
theorem q1447 : (Jvm.Cond.selects "TrailerYardsModel" ({ cls := "TrailerYardsModel", name := "tractor", desc := "(II)I" } : Jvm.MethodName) ({ cls := "TrailerYardsModel", name := "tractor", desc := "(II)I" } : Jvm.MethodName)) ∈ lw_all := lw_g (lw_at lw_m6 185 rfl) rfl
theorem q1448 : (Jvm.Cond.code ({ cls := "TrailerYardsModel", name := "tractor", desc := "(II)I" } : Jvm.MethodName) prog_8_method_44_code (3 : Nat) (Option.some Jvm.ClassFile.FieldType.int)) ∈ lw_all := lw_g (lw_at lw_m6 186 rfl) rfl
theorem q1449 : (Jvm.Cond.methodLink "TrailerYardsModel" (268 : Nat) ({ cls := "TrailerYardsModel", name := "tractorTells", desc := "(II)I" } : Jvm.MethodName)) ∈ lw_all := lw_g (lw_at lw_m6 187 rfl) rfl
theorem q1450 : (Jvm.Cond.privateMethod ({ cls := "TrailerYardsModel", name := "tractorTells", desc := "(II)I" } : Jvm.MethodName)) ∈ lw_tbl := lw_at lw_m6 188 rfl
theorem q1451 : (Jvm.Cond.instanceMethod ({ cls := "TrailerYardsModel", name := "tractorTells", desc := "(II)I" } : Jvm.MethodName)) ∈ lw_all := lw_g (lw_at lw_m6 189 rfl) rfl
theorem q1452 : (Jvm.Cond.code ({ cls := "TrailerYardsModel", name := "tractorTells", desc := "(II)I" } : Jvm.MethodName) prog_8_method_43_code (3 : Nat) (Option.some Jvm.ClassFile.FieldType.int)) ∈ lw_all := lw_g (lw_at lw_m6 190 rfl) rfl
theorem q1454 : (Jvm.Cond.instanceMethod ({ cls := "TrailerYardsModel", name := "lose", desc := "(I)I" } : Jvm.MethodName)) ∈ lw_all := lw_g (lw_at lw_m6 192 rfl) rfl
theorem q1455 : (Jvm.Cond.selects "TrailerYardsModel" ({ cls := "TrailerYardsModel", name := "lose", desc := "(I)I" } : Jvm.MethodName) ({ cls := "TrailerYardsModel", name := "lose", desc := "(I)I" } : Jvm.MethodName)) ∈ lw_all := lw_g (lw_at lw_m6 193 rfl) rfl
theorem q1456 : (Jvm.Cond.code ({ cls := "TrailerYardsModel", name := "lose", desc := "(I)I" } : Jvm.MethodName) prog_8_method_45_code (2 : Nat) (Option.some Jvm.ClassFile.FieldType.int)) ∈ lw_all := lw_g (lw_at lw_m6 194 rfl) rfl
theorem q1458 : (Jvm.Cond.instanceMethod ({ cls := "TrailerYardsModel", name := "find", desc := "(II)I" } : Jvm.MethodName)) ∈ lw_all := lw_g (lw_at lw_m6 196 rfl) rfl
theorem q1459 : (Jvm.Cond.selects "TrailerYardsModel" ({ cls := "TrailerYardsModel", name := "find", desc := "(II)I" } : Jvm.MethodName) ({ cls := "TrailerYardsModel", name := "find", desc := "(II)I" } : Jvm.MethodName)) ∈ lw_all := lw_g (lw_at lw_m6 197 rfl) rfl
theorem q1460 : (Jvm.Cond.code ({ cls := "TrailerYardsModel", name := "find", desc := "(II)I" } : Jvm.MethodName) prog_8_method_46_code (3 : Nat) (Option.some Jvm.ClassFile.FieldType.int)) ∈ lw_all := lw_g (lw_at lw_m6 198 rfl) rfl
theorem q1462 : (Jvm.Cond.instanceMethod ({ cls := "TrailerYardsModel", name := "seal", desc := "(II)I" } : Jvm.MethodName)) ∈ lw_all := lw_g (lw_at lw_m6 200 rfl) rfl
theorem q1463 : (Jvm.Cond.selects "TrailerYardsModel" ({ cls := "TrailerYardsModel", name := "seal", desc := "(II)I" } : Jvm.MethodName) ({ cls := "TrailerYardsModel", name := "seal", desc := "(II)I" } : Jvm.MethodName)) ∈ lw_all := lw_g (lw_at lw_m6 201 rfl) rfl
theorem q1464 : (Jvm.Cond.code ({ cls := "TrailerYardsModel", name := "seal", desc := "(II)I" } : Jvm.MethodName) prog_8_method_47_code (3 : Nat) (Option.some Jvm.ClassFile.FieldType.int)) ∈ lw_all := lw_g (lw_at lw_m6 202 rfl) rfl
theorem q1466 : (Jvm.Cond.instanceMethod ({ cls := "TrailerYardsModel", name := "book", desc := "(III)I" } : Jvm.MethodName)) ∈ lw_all := lw_g (lw_at lw_m6 204 rfl) rfl
theorem q1467 : (Jvm.Cond.selects "TrailerYardsModel" ({ cls := "TrailerYardsModel", name := "book", desc := "(III)I" } : Jvm.MethodName) ({ cls := "TrailerYardsModel", name := "book", desc := "(III)I" } : Jvm.MethodName)) ∈ lw_all := lw_g (lw_at lw_m6 205 rfl) rfl
theorem q1468 : (Jvm.Cond.code ({ cls := "TrailerYardsModel", name := "book", desc := "(III)I" } : Jvm.MethodName) prog_8_method_48_code (6 : Nat) (Option.some Jvm.ClassFile.FieldType.int)) ∈ lw_all := lw_g (lw_at lw_m6 206 rfl) rfl
theorem q1470 : (Jvm.Cond.instanceMethod ({ cls := "TrailerYardsModel", name := "where", desc := "(II)I" } : Jvm.MethodName)) ∈ lw_all := lw_g (lw_at lw_m6 208 rfl) rfl
theorem q1471 : (Jvm.Cond.selects "TrailerYardsModel" ({ cls := "TrailerYardsModel", name := "where", desc := "(II)I" } : Jvm.MethodName) ({ cls := "TrailerYardsModel", name := "where", desc := "(II)I" } : Jvm.MethodName)) ∈ lw_all := lw_g (lw_at lw_m6 209 rfl) rfl
theorem q1472 : (Jvm.Cond.code ({ cls := "TrailerYardsModel", name := "where", desc := "(II)I" } : Jvm.MethodName) prog_8_method_49_code (5 : Nat) (Option.some Jvm.ClassFile.FieldType.int)) ∈ lw_all := lw_g (lw_at lw_m6 210 rfl) rfl
theorem q1474 : (Jvm.Cond.instanceMethod ({ cls := "TrailerYardsModel", name := "fault", desc := "(I)I" } : Jvm.MethodName)) ∈ lw_all := lw_g (lw_at lw_m6 212 rfl) rfl
theorem q1475 : (Jvm.Cond.selects "TrailerYardsModel" ({ cls := "TrailerYardsModel", name := "fault", desc := "(I)I" } : Jvm.MethodName) ({ cls := "TrailerYardsModel", name := "fault", desc := "(I)I" } : Jvm.MethodName)) ∈ lw_all := lw_g (lw_at lw_m6 213 rfl) rfl
theorem q1476 : (Jvm.Cond.code ({ cls := "TrailerYardsModel", name := "fault", desc := "(I)I" } : Jvm.MethodName) prog_8_method_52_code (3 : Nat) (Option.some Jvm.ClassFile.FieldType.int)) ∈ lw_all := lw_g (lw_at lw_m6 214 rfl) rfl
theorem q1477 : (Jvm.Cond.methodLink "TrailerYardsModel" (274 : Nat) ({ cls := "TrailerYardsModel", name := "reads", desc := "(I)I" } : Jvm.MethodName)) ∈ lw_all := lw_g (lw_at lw_m6 215 rfl) rfl
theorem q1478 : (Jvm.Cond.privateMethod ({ cls := "TrailerYardsModel", name := "reads", desc := "(I)I" } : Jvm.MethodName)) ∈ lw_tbl := lw_at lw_m6 216 rfl
theorem q1479 : (Jvm.Cond.instanceMethod ({ cls := "TrailerYardsModel", name := "reads", desc := "(I)I" } : Jvm.MethodName)) ∈ lw_all := lw_g (lw_at lw_m6 217 rfl) rfl
theorem q1480 : (Jvm.Cond.code ({ cls := "TrailerYardsModel", name := "reads", desc := "(I)I" } : Jvm.MethodName) prog_8_method_51_code (9 : Nat) (Option.some Jvm.ClassFile.FieldType.int)) ∈ lw_all := lw_g (lw_at lw_m6 218 rfl) rfl
theorem q1481 : (Jvm.Cond.methodLink "TrailerYardsModel" (271 : Nat) ({ cls := "TrailerYardsModel", name := "isDigit", desc := "(I)Z" } : Jvm.MethodName)) ∈ lw_all := lw_g (lw_at lw_m6 219 rfl) rfl
theorem q1482 : (Jvm.Cond.static ({ cls := "TrailerYardsModel", name := "isDigit", desc := "(I)Z" } : Jvm.MethodName)) ∈ lw_all := lw_g (lw_at lw_m6 220 rfl) rfl
theorem q1483 : (Jvm.Cond.code ({ cls := "TrailerYardsModel", name := "isDigit", desc := "(I)Z" } : Jvm.MethodName) prog_8_method_50_code (1 : Nat) (Option.some Jvm.ClassFile.FieldType.boolean)) ∈ lw_all := lw_g (lw_at lw_m6 221 rfl) rfl
theorem q1485 : (Jvm.Cond.instanceMethod ({ cls := "TrailerYardsModel", name := "terms", desc := "(II)I" } : Jvm.MethodName)) ∈ lw_all := lw_g (lw_at lw_m6 223 rfl) rfl
theorem q1486 : (Jvm.Cond.selects "TrailerYardsModel" ({ cls := "TrailerYardsModel", name := "terms", desc := "(II)I" } : Jvm.MethodName) ({ cls := "TrailerYardsModel", name := "terms", desc := "(II)I" } : Jvm.MethodName)) ∈ lw_all := lw_g (lw_at lw_m6 224 rfl) rfl
theorem q1487 : (Jvm.Cond.code ({ cls := "TrailerYardsModel", name := "terms", desc := "(II)I" } : Jvm.MethodName) prog_8_method_54_code (4 : Nat) (Option.some Jvm.ClassFile.FieldType.int)) ∈ lw_all := lw_g (lw_at lw_m6 225 rfl) rfl
theorem q1488 : (Jvm.Cond.methodLink "TrailerYardsModel" (277 : Nat) ({ cls := "TrailerYardsModel", name := "isDay", desc := "(I)Z" } : Jvm.MethodName)) ∈ lw_all := lw_g (lw_at lw_m6 226 rfl) rfl
theorem q1489 : (Jvm.Cond.static ({ cls := "TrailerYardsModel", name := "isDay", desc := "(I)Z" } : Jvm.MethodName)) ∈ lw_all := lw_g (lw_at lw_m6 227 rfl) rfl
theorem q1490 : (Jvm.Cond.code ({ cls := "TrailerYardsModel", name := "isDay", desc := "(I)Z" } : Jvm.MethodName) prog_8_method_53_code (1 : Nat) (Option.some Jvm.ClassFile.FieldType.boolean)) ∈ lw_all := lw_g (lw_at lw_m6 228 rfl) rfl
theorem q1492 : (Jvm.Cond.instanceMethod ({ cls := "TrailerYardsModel", name := "force", desc := "(IIII)I" } : Jvm.MethodName)) ∈ lw_all := lw_g (lw_at lw_m6 230 rfl) rfl
theorem q1493 : (Jvm.Cond.selects "TrailerYardsModel" ({ cls := "TrailerYardsModel", name := "force", desc := "(IIII)I" } : Jvm.MethodName) ({ cls := "TrailerYardsModel", name := "force", desc := "(IIII)I" } : Jvm.MethodName)) ∈ lw_all := lw_g (lw_at lw_m6 231 rfl) rfl
theorem q1494 : (Jvm.Cond.code ({ cls := "TrailerYardsModel", name := "force", desc := "(IIII)I" } : Jvm.MethodName) prog_8_method_56_code (5 : Nat) (Option.some Jvm.ClassFile.FieldType.int)) ∈ lw_all := lw_g (lw_at lw_m6 232 rfl) rfl
theorem q1496 : (Jvm.Cond.instanceMethod ({ cls := "TrailerYardsModel", name := "detention", desc := "(I)I" } : Jvm.MethodName)) ∈ lw_all := lw_g (lw_at lw_m6 234 rfl) rfl
theorem q1497 : (Jvm.Cond.selects "TrailerYardsModel" ({ cls := "TrailerYardsModel", name := "detention", desc := "(I)I" } : Jvm.MethodName) ({ cls := "TrailerYardsModel", name := "detention", desc := "(I)I" } : Jvm.MethodName)) ∈ lw_all := lw_g (lw_at lw_m6 235 rfl) rfl
theorem q1498 : (Jvm.Cond.code ({ cls := "TrailerYardsModel", name := "detention", desc := "(I)I" } : Jvm.MethodName) prog_8_method_57_code (7 : Nat) (Option.some Jvm.ClassFile.FieldType.int)) ∈ lw_all := lw_g (lw_at lw_m6 236 rfl) rfl
theorem q1500 : (Jvm.Cond.instanceMethod ({ cls := "TrailerYardsModel", name := "pence", desc := "()J" } : Jvm.MethodName)) ∈ lw_all := lw_g (lw_at lw_m6 238 rfl) rfl
theorem q1501 : (Jvm.Cond.selects "TrailerYardsModel" ({ cls := "TrailerYardsModel", name := "pence", desc := "()J" } : Jvm.MethodName) ({ cls := "TrailerYardsModel", name := "pence", desc := "()J" } : Jvm.MethodName)) ∈ lw_all := lw_g (lw_at lw_m6 239 rfl) rfl
theorem q1502 : (Jvm.Cond.code ({ cls := "TrailerYardsModel", name := "pence", desc := "()J" } : Jvm.MethodName) prog_8_method_58_code (1 : Nat) (Option.some Jvm.ClassFile.FieldType.long)) ∈ lw_all := lw_g (lw_at lw_m7 0 rfl) rfl
theorem q1504 : (Jvm.Cond.instanceMethod ({ cls := "TrailerYardsModel", name := "law", desc := "(II)I" } : Jvm.MethodName)) ∈ lw_all := lw_g (lw_at lw_m7 2 rfl) rfl
theorem q1505 : (Jvm.Cond.selects "TrailerYardsModel" ({ cls := "TrailerYardsModel", name := "law", desc := "(II)I" } : Jvm.MethodName) ({ cls := "TrailerYardsModel", name := "law", desc := "(II)I" } : Jvm.MethodName)) ∈ lw_all := lw_g (lw_at lw_m7 3 rfl) rfl
theorem q1506 : (Jvm.Cond.code ({ cls := "TrailerYardsModel", name := "law", desc := "(II)I" } : Jvm.MethodName) prog_8_method_59_code (3 : Nat) (Option.some Jvm.ClassFile.FieldType.int)) ∈ lw_all := lw_g (lw_at lw_m7 4 rfl) rfl
theorem q1508 : (Jvm.Cond.instanceMethod ({ cls := "TrailerYardsModel", name := "load", desc := "(III)I" } : Jvm.MethodName)) ∈ lw_all := lw_g (lw_at lw_m7 6 rfl) rfl
theorem q1509 : (Jvm.Cond.selects "TrailerYardsModel" ({ cls := "TrailerYardsModel", name := "load", desc := "(III)I" } : Jvm.MethodName) ({ cls := "TrailerYardsModel", name := "load", desc := "(III)I" } : Jvm.MethodName)) ∈ lw_all := lw_g (lw_at lw_m7 7 rfl) rfl
theorem q1510 : (Jvm.Cond.code ({ cls := "TrailerYardsModel", name := "load", desc := "(III)I" } : Jvm.MethodName) prog_8_method_60_code (4 : Nat) (Option.some Jvm.ClassFile.FieldType.int)) ∈ lw_all := lw_g (lw_at lw_m7 8 rfl) rfl
theorem q1512 : (Jvm.Cond.instanceMethod ({ cls := "TrailerYardsModel", name := "unload", desc := "(I)I" } : Jvm.MethodName)) ∈ lw_all := lw_g (lw_at lw_m7 10 rfl) rfl
theorem q1513 : (Jvm.Cond.selects "TrailerYardsModel" ({ cls := "TrailerYardsModel", name := "unload", desc := "(I)I" } : Jvm.MethodName) ({ cls := "TrailerYardsModel", name := "unload", desc := "(I)I" } : Jvm.MethodName)) ∈ lw_all := lw_g (lw_at lw_m7 11 rfl) rfl
theorem q1514 : (Jvm.Cond.code ({ cls := "TrailerYardsModel", name := "unload", desc := "(I)I" } : Jvm.MethodName) prog_8_method_61_code (3 : Nat) (Option.some Jvm.ClassFile.FieldType.int)) ∈ lw_all := lw_g (lw_at lw_m7 12 rfl) rfl
theorem q1516 : (Jvm.Cond.instanceMethod ({ cls := "TrailerYardsModel", name := "slide", desc := "(II)I" } : Jvm.MethodName)) ∈ lw_all := lw_g (lw_at lw_m7 14 rfl) rfl
theorem q1517 : (Jvm.Cond.selects "TrailerYardsModel" ({ cls := "TrailerYardsModel", name := "slide", desc := "(II)I" } : Jvm.MethodName) ({ cls := "TrailerYardsModel", name := "slide", desc := "(II)I" } : Jvm.MethodName)) ∈ lw_all := lw_g (lw_at lw_m7 15 rfl) rfl
theorem q1518 : (Jvm.Cond.code ({ cls := "TrailerYardsModel", name := "slide", desc := "(II)I" } : Jvm.MethodName) prog_8_method_63_code (4 : Nat) (Option.some Jvm.ClassFile.FieldType.int)) ∈ lw_all := lw_g (lw_at lw_m7 16 rfl) rfl
theorem q1519 : (Jvm.Cond.methodLink "TrailerYardsModel" (286 : Nat) ({ cls := "TrailerYardsModel", name := "isAxle", desc := "(I)Z" } : Jvm.MethodName)) ∈ lw_all := lw_g (lw_at lw_m7 17 rfl) rfl
theorem q1520 : (Jvm.Cond.static ({ cls := "TrailerYardsModel", name := "isAxle", desc := "(I)Z" } : Jvm.MethodName)) ∈ lw_all := lw_g (lw_at lw_m7 18 rfl) rfl
theorem q1521 : (Jvm.Cond.code ({ cls := "TrailerYardsModel", name := "isAxle", desc := "(I)Z" } : Jvm.MethodName) prog_8_method_62_code (1 : Nat) (Option.some Jvm.ClassFile.FieldType.boolean)) ∈ lw_all := lw_g (lw_at lw_m7 19 rfl) rfl
theorem q1523 : (Jvm.Cond.instanceMethod ({ cls := "TrailerYardsModel", name := "weight", desc := "(IZ)I" } : Jvm.MethodName)) ∈ lw_all := lw_g (lw_at lw_m7 21 rfl) rfl
theorem q1524 : (Jvm.Cond.selects "TrailerYardsModel" ({ cls := "TrailerYardsModel", name := "weight", desc := "(IZ)I" } : Jvm.MethodName) ({ cls := "TrailerYardsModel", name := "weight", desc := "(IZ)I" } : Jvm.MethodName)) ∈ lw_all := lw_g (lw_at lw_m7 22 rfl) rfl
theorem q1525 : (Jvm.Cond.code ({ cls := "TrailerYardsModel", name := "weight", desc := "(IZ)I" } : Jvm.MethodName) prog_8_method_66_code (3 : Nat) (Option.some Jvm.ClassFile.FieldType.int)) ∈ lw_all := lw_g (lw_at lw_m7 23 rfl) rfl
theorem q1526 : (Jvm.Cond.methodLink "TrailerYardsModel" (293 : Nat) ({ cls := "TrailerYardsModel", name := "liesOn", desc := "(IIZ)J" } : Jvm.MethodName)) ∈ lw_all := lw_g (lw_at lw_m7 24 rfl) rfl
theorem q1527 : (Jvm.Cond.privateMethod ({ cls := "TrailerYardsModel", name := "liesOn", desc := "(IIZ)J" } : Jvm.MethodName)) ∈ lw_tbl := lw_at lw_m7 25 rfl
theorem q1528 : (Jvm.Cond.instanceMethod ({ cls := "TrailerYardsModel", name := "liesOn", desc := "(IIZ)J" } : Jvm.MethodName)) ∈ lw_all := lw_g (lw_at lw_m7 26 rfl) rfl
theorem q1529 : (Jvm.Cond.code ({ cls := "TrailerYardsModel", name := "liesOn", desc := "(IIZ)J" } : Jvm.MethodName) prog_8_method_65_code (4 : Nat) (Option.some Jvm.ClassFile.FieldType.long)) ∈ lw_all := lw_g (lw_at lw_m7 27 rfl) rfl
theorem q1530 : (Jvm.Cond.methodLink "TrailerYardsModel" (289 : Nat) ({ cls := "TrailerYardsModel", name := "sumOf", desc := "(IZ)J" } : Jvm.MethodName)) ∈ lw_all := lw_g (lw_at lw_m7 28 rfl) rfl
theorem q1531 : (Jvm.Cond.privateMethod ({ cls := "TrailerYardsModel", name := "sumOf", desc := "(IZ)J" } : Jvm.MethodName)) ∈ lw_tbl := lw_at lw_m7 29 rfl
theorem q1532 : (Jvm.Cond.instanceMethod ({ cls := "TrailerYardsModel", name := "sumOf", desc := "(IZ)J" } : Jvm.MethodName)) ∈ lw_all := lw_g (lw_at lw_m7 30 rfl) rfl
theorem q1533 : (Jvm.Cond.code ({ cls := "TrailerYardsModel", name := "sumOf", desc := "(IZ)J" } : Jvm.MethodName) prog_8_method_64_code (6 : Nat) (Option.some Jvm.ClassFile.FieldType.long)) ∈ lw_all := lw_g (lw_at lw_m7 31 rfl) rfl
theorem q1534 : (Jvm.Cond.methodLink "TrailerYardsModel" (297 : Nat) ({ cls := "TrailerYardsModel", name := "share", desc := "(JJ)I" } : Jvm.MethodName)) ∈ lw_all := lw_g (lw_at lw_m7 32 rfl) rfl
theorem q1535 : (Jvm.Cond.privateMethod ({ cls := "TrailerYardsModel", name := "share", desc := "(JJ)I" } : Jvm.MethodName)) ∈ lw_tbl := lw_at lw_m7 33 rfl
theorem q1536 : (Jvm.Cond.instanceMethod ({ cls := "TrailerYardsModel", name := "share", desc := "(JJ)I" } : Jvm.MethodName)) ∈ lw_all := lw_g (lw_at lw_m7 34 rfl) rfl
theorem q1537 : (Jvm.Cond.code ({ cls := "TrailerYardsModel", name := "share", desc := "(JJ)I" } : Jvm.MethodName) prog_8_method_6_code (11 : Nat) (Option.some Jvm.ClassFile.FieldType.int)) ∈ lw_all := lw_g (lw_at lw_m7 35 rfl) rfl
theorem q1539 : (Jvm.Cond.instanceMethod ({ cls := "TrailerYardsModel", name := "lawful", desc := "(I)I" } : Jvm.MethodName)) ∈ lw_all := lw_g (lw_at lw_m7 37 rfl) rfl
theorem q1540 : (Jvm.Cond.selects "TrailerYardsModel" ({ cls := "TrailerYardsModel", name := "lawful", desc := "(I)I" } : Jvm.MethodName) ({ cls := "TrailerYardsModel", name := "lawful", desc := "(I)I" } : Jvm.MethodName)) ∈ lw_all := lw_g (lw_at lw_m7 38 rfl) rfl
theorem q1541 : (Jvm.Cond.code ({ cls := "TrailerYardsModel", name := "lawful", desc := "(I)I" } : Jvm.MethodName) prog_8_method_68_code (2 : Nat) (Option.some Jvm.ClassFile.FieldType.int)) ∈ lw_all := lw_g (lw_at lw_m7 39 rfl) rfl
theorem q1542 : (Jvm.Cond.methodLink "TrailerYardsModel" (301 : Nat) ({ cls := "TrailerYardsModel", name := "isLawful", desc := "(II)Z" } : Jvm.MethodName)) ∈ lw_all := lw_g (lw_at lw_m7 40 rfl) rfl
theorem q1543 : (Jvm.Cond.privateMethod ({ cls := "TrailerYardsModel", name := "isLawful", desc := "(II)Z" } : Jvm.MethodName)) ∈ lw_tbl := lw_at lw_m7 41 rfl
theorem q1544 : (Jvm.Cond.instanceMethod ({ cls := "TrailerYardsModel", name := "isLawful", desc := "(II)Z" } : Jvm.MethodName)) ∈ lw_all := lw_g (lw_at lw_m7 42 rfl) rfl
theorem q1545 : (Jvm.Cond.code ({ cls := "TrailerYardsModel", name := "isLawful", desc := "(II)Z" } : Jvm.MethodName) prog_8_method_67_code (5 : Nat) (Option.some Jvm.ClassFile.FieldType.boolean)) ∈ lw_all := lw_g (lw_at lw_m7 43 rfl) rfl
theorem q1547 : (Jvm.Cond.instanceMethod ({ cls := "TrailerYardsModel", name := "shift", desc := "(I)I" } : Jvm.MethodName)) ∈ lw_all := lw_g (lw_at lw_m7 45 rfl) rfl
theorem q1548 : (Jvm.Cond.selects "TrailerYardsModel" ({ cls := "TrailerYardsModel", name := "shift", desc := "(I)I" } : Jvm.MethodName) ({ cls := "TrailerYardsModel", name := "shift", desc := "(I)I" } : Jvm.MethodName)) ∈ lw_all := lw_g (lw_at lw_m7 46 rfl) rfl
theorem q1549 : (Jvm.Cond.code ({ cls := "TrailerYardsModel", name := "shift", desc := "(I)I" } : Jvm.MethodName) prog_8_method_69_code (3 : Nat) (Option.some Jvm.ClassFile.FieldType.int)) ∈ lw_all := lw_g (lw_at lw_m7 47 rfl) rfl
theorem q1551 : (Jvm.Cond.instanceMethod ({ cls := "TrailerYardsModel", name := "cold", desc := "(III)I" } : Jvm.MethodName)) ∈ lw_all := lw_g (lw_at lw_m7 49 rfl) rfl
theorem q1552 : (Jvm.Cond.selects "TrailerYardsModel" ({ cls := "TrailerYardsModel", name := "cold", desc := "(III)I" } : Jvm.MethodName) ({ cls := "TrailerYardsModel", name := "cold", desc := "(III)I" } : Jvm.MethodName)) ∈ lw_all := lw_g (lw_at lw_m7 50 rfl) rfl
theorem q1553 : (Jvm.Cond.code ({ cls := "TrailerYardsModel", name := "cold", desc := "(III)I" } : Jvm.MethodName) prog_8_method_70_code (12 : Nat) (Option.some Jvm.ClassFile.FieldType.int)) ∈ lw_all := lw_g (lw_at lw_m7 51 rfl) rfl
theorem q1555 : (Jvm.Cond.instanceMethod ({ cls := "TrailerYardsModel", name := "mean", desc := "(I)I" } : Jvm.MethodName)) ∈ lw_all := lw_g (lw_at lw_m7 53 rfl) rfl
theorem q1556 : (Jvm.Cond.selects "TrailerYardsModel" ({ cls := "TrailerYardsModel", name := "mean", desc := "(I)I" } : Jvm.MethodName) ({ cls := "TrailerYardsModel", name := "mean", desc := "(I)I" } : Jvm.MethodName)) ∈ lw_all := lw_g (lw_at lw_m7 54 rfl) rfl
theorem q1557 : (Jvm.Cond.code ({ cls := "TrailerYardsModel", name := "mean", desc := "(I)I" } : Jvm.MethodName) prog_8_method_71_code (8 : Nat) (Option.some Jvm.ClassFile.FieldType.int)) ∈ lw_all := lw_g (lw_at lw_m7 55 rfl) rfl
theorem q1559 : (Jvm.Cond.instanceMethod ({ cls := "TrailerYardsModel", name := "theft", desc := "(I)I" } : Jvm.MethodName)) ∈ lw_all := lw_g (lw_at lw_m7 57 rfl) rfl
theorem q1560 : (Jvm.Cond.selects "TrailerYardsModel" ({ cls := "TrailerYardsModel", name := "theft", desc := "(I)I" } : Jvm.MethodName) ({ cls := "TrailerYardsModel", name := "theft", desc := "(I)I" } : Jvm.MethodName)) ∈ lw_all := lw_g (lw_at lw_m7 58 rfl) rfl
theorem q1561 : (Jvm.Cond.code ({ cls := "TrailerYardsModel", name := "theft", desc := "(I)I" } : Jvm.MethodName) prog_8_method_73_code (2 : Nat) (Option.some Jvm.ClassFile.FieldType.int)) ∈ lw_all := lw_g (lw_at lw_m7 59 rfl) rfl
theorem q1562 : (Jvm.Cond.methodLink "TrailerYardsModel" (311 : Nat) ({ cls := "TrailerYardsModel", name := "findTheft", desc := "(I)Z" } : Jvm.MethodName)) ∈ lw_all := lw_g (lw_at lw_m7 60 rfl) rfl
theorem q1563 : (Jvm.Cond.privateMethod ({ cls := "TrailerYardsModel", name := "findTheft", desc := "(I)Z" } : Jvm.MethodName)) ∈ lw_tbl := lw_at lw_m7 61 rfl
theorem q1564 : (Jvm.Cond.instanceMethod ({ cls := "TrailerYardsModel", name := "findTheft", desc := "(I)Z" } : Jvm.MethodName)) ∈ lw_all := lw_g (lw_at lw_m7 62 rfl) rfl
theorem q1565 : (Jvm.Cond.code ({ cls := "TrailerYardsModel", name := "findTheft", desc := "(I)Z" } : Jvm.MethodName) prog_8_method_72_code (3 : Nat) (Option.some Jvm.ClassFile.FieldType.boolean)) ∈ lw_all := lw_g (lw_at lw_m7 63 rfl) rfl
theorem q1567 : (Jvm.Cond.instanceMethod ({ cls := "TrailerYardsModel", name := "hands", desc := "(I)I" } : Jvm.MethodName)) ∈ lw_all := lw_g (lw_at lw_m7 65 rfl) rfl
theorem q1568 : (Jvm.Cond.selects "TrailerYardsModel" ({ cls := "TrailerYardsModel", name := "hands", desc := "(I)I" } : Jvm.MethodName) ({ cls := "TrailerYardsModel", name := "hands", desc := "(I)I" } : Jvm.MethodName)) ∈ lw_all := lw_g (lw_at lw_m7 66 rfl) rfl
theorem q1569 : (Jvm.Cond.code ({ cls := "TrailerYardsModel", name := "hands", desc := "(I)I" } : Jvm.MethodName) prog_8_method_75_code (5 : Nat) (Option.some Jvm.ClassFile.FieldType.int)) ∈ lw_all := lw_g (lw_at lw_m7 67 rfl) rfl
theorem q1570 : (Jvm.Cond.methodLink "TrailerYardsModel" (314 : Nat) ({ cls := "TrailerYardsModel", name := "bits", desc := "(I)I" } : Jvm.MethodName)) ∈ lw_all := lw_g (lw_at lw_m7 68 rfl) rfl
theorem q1571 : (Jvm.Cond.static ({ cls := "TrailerYardsModel", name := "bits", desc := "(I)I" } : Jvm.MethodName)) ∈ lw_all := lw_g (lw_at lw_m7 69 rfl) rfl
theorem q1572 : (Jvm.Cond.code ({ cls := "TrailerYardsModel", name := "bits", desc := "(I)I" } : Jvm.MethodName) prog_8_method_74_code (3 : Nat) (Option.some Jvm.ClassFile.FieldType.int)) ∈ lw_all := lw_g (lw_at lw_m7 70 rfl) rfl
theorem q1574 : (Jvm.Cond.instanceMethod ({ cls := "TrailerYardsModel", name := "swap", desc := "(IIII)I" } : Jvm.MethodName)) ∈ lw_all := lw_g (lw_at lw_m7 72 rfl) rfl
theorem q1575 : (Jvm.Cond.selects "TrailerYardsModel" ({ cls := "TrailerYardsModel", name := "swap", desc := "(IIII)I" } : Jvm.MethodName) ({ cls := "TrailerYardsModel", name := "swap", desc := "(IIII)I" } : Jvm.MethodName)) ∈ lw_all := lw_g (lw_at lw_m7 73 rfl) rfl
theorem q1576 : (Jvm.Cond.code ({ cls := "TrailerYardsModel", name := "swap", desc := "(IIII)I" } : Jvm.MethodName) prog_8_method_79_code (6 : Nat) (Option.some Jvm.ClassFile.FieldType.int)) ∈ lw_all := lw_g (lw_at lw_m7 74 rfl) rfl
theorem q1577 : (Jvm.Cond.methodLink "TrailerYardsModel" (336 : Nat) ({ cls := "TrailerYardsModel", name := "maySwap", desc := "(I)Z" } : Jvm.MethodName)) ∈ lw_all := lw_g (lw_at lw_m7 75 rfl) rfl
theorem q1578 : (Jvm.Cond.privateMethod ({ cls := "TrailerYardsModel", name := "maySwap", desc := "(I)Z" } : Jvm.MethodName)) ∈ lw_tbl := lw_at lw_m7 76 rfl
theorem q1579 : (Jvm.Cond.instanceMethod ({ cls := "TrailerYardsModel", name := "maySwap", desc := "(I)Z" } : Jvm.MethodName)) ∈ lw_all := lw_g (lw_at lw_m7 77 rfl) rfl
theorem q1580 : (Jvm.Cond.code ({ cls := "TrailerYardsModel", name := "maySwap", desc := "(I)Z" } : Jvm.MethodName) prog_8_method_77_code (2 : Nat) (Option.some Jvm.ClassFile.FieldType.boolean)) ∈ lw_all := lw_g (lw_at lw_m7 78 rfl) rfl
theorem q1581 : (Jvm.Cond.methodLink "TrailerYardsModel" (339 : Nat) ({ cls := "TrailerYardsModel", name := "bestSwap", desc := "(IIII)I" } : Jvm.MethodName)) ∈ lw_all := lw_g (lw_at lw_m7 79 rfl) rfl
theorem q1582 : (Jvm.Cond.privateMethod ({ cls := "TrailerYardsModel", name := "bestSwap", desc := "(IIII)I" } : Jvm.MethodName)) ∈ lw_tbl := lw_at lw_m7 80 rfl
theorem q1583 : (Jvm.Cond.instanceMethod ({ cls := "TrailerYardsModel", name := "bestSwap", desc := "(IIII)I" } : Jvm.MethodName)) ∈ lw_all := lw_g (lw_at lw_m7 81 rfl) rfl
theorem q1584 : (Jvm.Cond.code ({ cls := "TrailerYardsModel", name := "bestSwap", desc := "(IIII)I" } : Jvm.MethodName) prog_8_method_78_code (8 : Nat) (Option.some Jvm.ClassFile.FieldType.int)) ∈ lw_all := lw_g (lw_at lw_m7 82 rfl) rfl
theorem q1585 : (Jvm.Cond.methodLink "TrailerYardsModel" (329 : Nat) ({ cls := "TrailerYardsModel", name := "swapsAt", desc := "(IIIIII)Z" } : Jvm.MethodName)) ∈ lw_all := lw_g (lw_at lw_m7 83 rfl) rfl
theorem q1586 : (Jvm.Cond.privateMethod ({ cls := "TrailerYardsModel", name := "swapsAt", desc := "(IIIIII)Z" } : Jvm.MethodName)) ∈ lw_tbl := lw_at lw_m7 84 rfl
theorem q1587 : (Jvm.Cond.instanceMethod ({ cls := "TrailerYardsModel", name := "swapsAt", desc := "(IIIIII)Z" } : Jvm.MethodName)) ∈ lw_all := lw_g (lw_at lw_m7 85 rfl) rfl
theorem q1588 : (Jvm.Cond.code ({ cls := "TrailerYardsModel", name := "swapsAt", desc := "(IIIIII)Z" } : Jvm.MethodName) prog_8_method_76_code (10 : Nat) (Option.some Jvm.ClassFile.FieldType.boolean)) ∈ lw_all := lw_g (lw_at lw_m7 86 rfl) rfl
theorem q1590 : (Jvm.Cond.instanceMethod ({ cls := "TrailerYardsModel", name := "pairs", desc := "(II)I" } : Jvm.MethodName)) ∈ lw_all := lw_g (lw_at lw_m7 88 rfl) rfl
theorem q1591 : (Jvm.Cond.selects "TrailerYardsModel" ({ cls := "TrailerYardsModel", name := "pairs", desc := "(II)I" } : Jvm.MethodName) ({ cls := "TrailerYardsModel", name := "pairs", desc := "(II)I" } : Jvm.MethodName)) ∈ lw_all := lw_g (lw_at lw_m7 89 rfl) rfl
theorem q1592 : (Jvm.Cond.code ({ cls := "TrailerYardsModel", name := "pairs", desc := "(II)I" } : Jvm.MethodName) prog_8_method_81_code (10 : Nat) (Option.some Jvm.ClassFile.FieldType.int)) ∈ lw_all := lw_g (lw_at lw_m7 90 rfl) rfl
theorem q1593 : (Jvm.Cond.methodLink "TrailerYardsModel" (342 : Nat) ({ cls := "TrailerYardsModel", name := "partWays", desc := "(III)I" } : Jvm.MethodName)) ∈ lw_all := lw_g (lw_at lw_m7 91 rfl) rfl
theorem q1594 : (Jvm.Cond.privateMethod ({ cls := "TrailerYardsModel", name := "partWays", desc := "(III)I" } : Jvm.MethodName)) ∈ lw_tbl := lw_at lw_m7 92 rfl
theorem q1595 : (Jvm.Cond.instanceMethod ({ cls := "TrailerYardsModel", name := "partWays", desc := "(III)I" } : Jvm.MethodName)) ∈ lw_all := lw_g (lw_at lw_m7 93 rfl) rfl
theorem q1596 : (Jvm.Cond.code ({ cls := "TrailerYardsModel", name := "partWays", desc := "(III)I" } : Jvm.MethodName) prog_8_method_82_code (10 : Nat) (Option.some Jvm.ClassFile.FieldType.int)) ∈ lw_all := lw_g (lw_at lw_m7 94 rfl) rfl
theorem q1597 : (Jvm.Cond.methodLink "TrailerYardsModel" (345 : Nat) ({ cls := "TrailerYardsModel", name := "pairEnd", desc := "(III)I" } : Jvm.MethodName)) ∈ lw_all := lw_g (lw_at lw_m7 95 rfl) rfl
theorem q1598 : (Jvm.Cond.privateMethod ({ cls := "TrailerYardsModel", name := "pairEnd", desc := "(III)I" } : Jvm.MethodName)) ∈ lw_tbl := lw_at lw_m7 96 rfl
theorem q1599 : (Jvm.Cond.instanceMethod ({ cls := "TrailerYardsModel", name := "pairEnd", desc := "(III)I" } : Jvm.MethodName)) ∈ lw_all := lw_g (lw_at lw_m7 97 rfl) rfl
theorem q1600 : (Jvm.Cond.code ({ cls := "TrailerYardsModel", name := "pairEnd", desc := "(III)I" } : Jvm.MethodName) prog_8_method_80_code (5 : Nat) (Option.some Jvm.ClassFile.FieldType.int)) ∈ lw_all := lw_g (lw_at lw_m7 98 rfl) rfl
theorem q1602 : (Jvm.Cond.instanceMethod ({ cls := "TrailerYardsModel", name := "partner", desc := "(I)I" } : Jvm.MethodName)) ∈ lw_all := lw_g (lw_at lw_m7 100 rfl) rfl
theorem q1603 : (Jvm.Cond.selects "TrailerYardsModel" ({ cls := "TrailerYardsModel", name := "partner", desc := "(I)I" } : Jvm.MethodName) ({ cls := "TrailerYardsModel", name := "partner", desc := "(I)I" } : Jvm.MethodName)) ∈ lw_all := lw_g (lw_at lw_m7 101 rfl) rfl
theorem q1604 : (Jvm.Cond.code ({ cls := "TrailerYardsModel", name := "partner", desc := "(I)I" } : Jvm.MethodName) prog_8_method_83_code (2 : Nat) (Option.some Jvm.ClassFile.FieldType.int)) ∈ lw_all := lw_g (lw_at lw_m7 102 rfl) rfl
theorem q1606 : (Jvm.Cond.instanceMethod ({ cls := "TrailerYardsModel", name := "late", desc := "(IIIIII)I" } : Jvm.MethodName)) ∈ lw_all := lw_g (lw_at lw_m7 104 rfl) rfl
theorem q1607 : (Jvm.Cond.selects "TrailerYardsModel" ({ cls := "TrailerYardsModel", name := "late", desc := "(IIIIII)I" } : Jvm.MethodName) ({ cls := "TrailerYardsModel", name := "late", desc := "(IIIIII)I" } : Jvm.MethodName)) ∈ lw_all := lw_g (lw_at lw_m7 105 rfl) rfl
theorem q1608 : (Jvm.Cond.code ({ cls := "TrailerYardsModel", name := "late", desc := "(IIIIII)I" } : Jvm.MethodName) prog_8_method_84_code (13 : Nat) (Option.some Jvm.ClassFile.FieldType.int)) ∈ lw_all := lw_g (lw_at lw_m7 106 rfl) rfl
theorem q1609 : (Jvm.Cond.constantLong "TrailerYardsModel" (348 : Nat) (1000 : Int64)) ∈ lw_all := lw_g (lw_at lw_m7 107 rfl) rfl
theorem q1611 : (Jvm.Cond.instanceMethod ({ cls := "TrailerYardsModel", name := "canBe", desc := "(I)I" } : Jvm.MethodName)) ∈ lw_all := lw_g (lw_at lw_m7 109 rfl) rfl
theorem q1612 : (Jvm.Cond.selects "TrailerYardsModel" ({ cls := "TrailerYardsModel", name := "canBe", desc := "(I)I" } : Jvm.MethodName) ({ cls := "TrailerYardsModel", name := "canBe", desc := "(I)I" } : Jvm.MethodName)) ∈ lw_all := lw_g (lw_at lw_m7 110 rfl) rfl
theorem q1613 : (Jvm.Cond.code ({ cls := "TrailerYardsModel", name := "canBe", desc := "(I)I" } : Jvm.MethodName) prog_8_method_86_code (2 : Nat) (Option.some Jvm.ClassFile.FieldType.int)) ∈ lw_all := lw_g (lw_at lw_m7 111 rfl) rfl
theorem q1614 : (Jvm.Cond.methodLink "TrailerYardsModel" (350 : Nat) ({ cls := "TrailerYardsModel", name := "yardsOf", desc := "(I)I" } : Jvm.MethodName)) ∈ lw_all := lw_g (lw_at lw_m7 112 rfl) rfl
theorem q1615 : (Jvm.Cond.privateMethod ({ cls := "TrailerYardsModel", name := "yardsOf", desc := "(I)I" } : Jvm.MethodName)) ∈ lw_tbl := lw_at lw_m7 113 rfl
theorem q1616 : (Jvm.Cond.instanceMethod ({ cls := "TrailerYardsModel", name := "yardsOf", desc := "(I)I" } : Jvm.MethodName)) ∈ lw_all := lw_g (lw_at lw_m7 114 rfl) rfl
theorem q1617 : (Jvm.Cond.code ({ cls := "TrailerYardsModel", name := "yardsOf", desc := "(I)I" } : Jvm.MethodName) prog_8_method_85_code (5 : Nat) (Option.some Jvm.ClassFile.FieldType.int)) ∈ lw_all := lw_g (lw_at lw_m7 115 rfl) rfl
theorem q1619 : (Jvm.Cond.instanceMethod ({ cls := "TrailerYardsModel", name := "look", desc := "(III)I" } : Jvm.MethodName)) ∈ lw_all := lw_g (lw_at lw_m7 117 rfl) rfl
theorem q1620 : (Jvm.Cond.selects "TrailerYardsModel" ({ cls := "TrailerYardsModel", name := "look", desc := "(III)I" } : Jvm.MethodName) ({ cls := "TrailerYardsModel", name := "look", desc := "(III)I" } : Jvm.MethodName)) ∈ lw_all := lw_g (lw_at lw_m7 118 rfl) rfl
theorem q1621 : (Jvm.Cond.code ({ cls := "TrailerYardsModel", name := "look", desc := "(III)I" } : Jvm.MethodName) prog_8_method_88_code (14 : Nat) (Option.some Jvm.ClassFile.FieldType.int)) ∈ lw_all := lw_g (lw_at lw_m7 119 rfl) rfl
theorem q1622 : (Jvm.Cond.methodLink "TrailerYardsModel" (356 : Nat) ({ cls := "TrailerYardsModel", name := "nextOrder", desc := "(I)Z" } : Jvm.MethodName)) ∈ lw_all := lw_g (lw_at lw_m7 120 rfl) rfl
theorem q1623 : (Jvm.Cond.privateMethod ({ cls := "TrailerYardsModel", name := "nextOrder", desc := "(I)Z" } : Jvm.MethodName)) ∈ lw_tbl := lw_at lw_m7 121 rfl
theorem q1624 : (Jvm.Cond.instanceMethod ({ cls := "TrailerYardsModel", name := "nextOrder", desc := "(I)Z" } : Jvm.MethodName)) ∈ lw_all := lw_g (lw_at lw_m7 122 rfl) rfl
theorem q1625 : (Jvm.Cond.code ({ cls := "TrailerYardsModel", name := "nextOrder", desc := "(I)Z" } : Jvm.MethodName) prog_8_method_87_code (8 : Nat) (Option.some Jvm.ClassFile.FieldType.boolean)) ∈ lw_all := lw_g (lw_at lw_m7 123 rfl) rfl
theorem q1627 : (Jvm.Cond.instanceMethod ({ cls := "TrailerYardsModel", name := "looked", desc := "(I)I" } : Jvm.MethodName)) ∈ lw_all := lw_g (lw_at lw_m7 125 rfl) rfl
theorem q1628 : (Jvm.Cond.selects "TrailerYardsModel" ({ cls := "TrailerYardsModel", name := "looked", desc := "(I)I" } : Jvm.MethodName) ({ cls := "TrailerYardsModel", name := "looked", desc := "(I)I" } : Jvm.MethodName)) ∈ lw_all := lw_g (lw_at lw_m7 126 rfl) rfl
theorem q1629 : (Jvm.Cond.code ({ cls := "TrailerYardsModel", name := "looked", desc := "(I)I" } : Jvm.MethodName) prog_8_method_89_code (2 : Nat) (Option.some Jvm.ClassFile.FieldType.int)) ∈ lw_all := lw_g (lw_at lw_m7 127 rfl) rfl
theorem q1631 : (Jvm.Cond.instanceMethod ({ cls := "TrailerYardsModel", name := "pool", desc := "(II)I" } : Jvm.MethodName)) ∈ lw_all := lw_g (lw_at lw_m7 129 rfl) rfl
theorem q1632 : (Jvm.Cond.selects "TrailerYardsModel" ({ cls := "TrailerYardsModel", name := "pool", desc := "(II)I" } : Jvm.MethodName) ({ cls := "TrailerYardsModel", name := "pool", desc := "(II)I" } : Jvm.MethodName)) ∈ lw_all := lw_g (lw_at lw_m7 130 rfl) rfl
theorem q1633 : (Jvm.Cond.code ({ cls := "TrailerYardsModel", name := "pool", desc := "(II)I" } : Jvm.MethodName) prog_8_method_91_code (8 : Nat) (Option.some Jvm.ClassFile.FieldType.int)) ∈ lw_all := lw_g (lw_at lw_m7 131 rfl) rfl
theorem q1634 : (Jvm.Cond.methodLink "TrailerYardsModel" (362 : Nat) ({ cls := "TrailerYardsModel", name := "nextBrought", desc := "()I" } : Jvm.MethodName)) ∈ lw_all := lw_g (lw_at lw_m7 132 rfl) rfl
theorem q1635 : (Jvm.Cond.privateMethod ({ cls := "TrailerYardsModel", name := "nextBrought", desc := "()I" } : Jvm.MethodName)) ∈ lw_tbl := lw_at lw_m7 133 rfl
theorem q1636 : (Jvm.Cond.instanceMethod ({ cls := "TrailerYardsModel", name := "nextBrought", desc := "()I" } : Jvm.MethodName)) ∈ lw_all := lw_g (lw_at lw_m7 134 rfl) rfl
theorem q1637 : (Jvm.Cond.code ({ cls := "TrailerYardsModel", name := "nextBrought", desc := "()I" } : Jvm.MethodName) prog_8_method_90_code (5 : Nat) (Option.some Jvm.ClassFile.FieldType.int)) ∈ lw_all := lw_g (lw_at lw_m7 135 rfl) rfl
theorem q1639 : (Jvm.Cond.instanceMethod ({ cls := "TrailerYardsModel", name := "rent", desc := "(IIIII)I" } : Jvm.MethodName)) ∈ lw_all := lw_g (lw_at lw_m7 137 rfl) rfl
theorem q1640 : (Jvm.Cond.selects "TrailerYardsModel" ({ cls := "TrailerYardsModel", name := "rent", desc := "(IIIII)I" } : Jvm.MethodName) ({ cls := "TrailerYardsModel", name := "rent", desc := "(IIIII)I" } : Jvm.MethodName)) ∈ lw_all := lw_g (lw_at lw_m7 138 rfl) rfl
theorem q1641 : (Jvm.Cond.code ({ cls := "TrailerYardsModel", name := "rent", desc := "(IIIII)I" } : Jvm.MethodName) prog_8_method_93_code (14 : Nat) (Option.some Jvm.ClassFile.FieldType.int)) ∈ lw_all := lw_g (lw_at lw_m7 139 rfl) rfl
theorem q1642 : (Jvm.Cond.constantLong "TrailerYardsModel" (366 : Nat) (-1 : Int64)) ∈ lw_all := lw_g (lw_at lw_m7 140 rfl) rfl
theorem q1643 : (Jvm.Cond.methodLink "TrailerYardsModel" (368 : Nat) ({ cls := "TrailerYardsModel", name := "costOf", desc := "(IIIIIII)J" } : Jvm.MethodName)) ∈ lw_all := lw_g (lw_at lw_m7 141 rfl) rfl
theorem q1644 : (Jvm.Cond.static ({ cls := "TrailerYardsModel", name := "costOf", desc := "(IIIIIII)J" } : Jvm.MethodName)) ∈ lw_all := lw_g (lw_at lw_m7 142 rfl) rfl
theorem q1645 : (Jvm.Cond.code ({ cls := "TrailerYardsModel", name := "costOf", desc := "(IIIIIII)J" } : Jvm.MethodName) prog_8_method_92_code (9 : Nat) (Option.some Jvm.ClassFile.FieldType.long)) ∈ lw_all := lw_g (lw_at lw_m7 143 rfl) rfl
theorem q1647 : (Jvm.Cond.instanceMethod ({ cls := "TrailerYardsModel", name := "rented", desc := "(I)I" } : Jvm.MethodName)) ∈ lw_all := lw_g (lw_at lw_m7 145 rfl) rfl
theorem q1648 : (Jvm.Cond.selects "TrailerYardsModel" ({ cls := "TrailerYardsModel", name := "rented", desc := "(I)I" } : Jvm.MethodName) ({ cls := "TrailerYardsModel", name := "rented", desc := "(I)I" } : Jvm.MethodName)) ∈ lw_all := lw_g (lw_at lw_m7 146 rfl) rfl
theorem q1649 : (Jvm.Cond.code ({ cls := "TrailerYardsModel", name := "rented", desc := "(I)I" } : Jvm.MethodName) prog_8_method_94_code (2 : Nat) (Option.some Jvm.ClassFile.FieldType.int)) ∈ lw_all := lw_g (lw_at lw_m7 147 rfl) rfl
theorem q1651 : (Jvm.Cond.instanceMethod ({ cls := "TrailerYardsModel", name := "asked", desc := "()I" } : Jvm.MethodName)) ∈ lw_all := lw_g (lw_at lw_m7 149 rfl) rfl
theorem q1652 : (Jvm.Cond.selects "TrailerYardsModel" ({ cls := "TrailerYardsModel", name := "asked", desc := "()I" } : Jvm.MethodName) ({ cls := "TrailerYardsModel", name := "asked", desc := "()I" } : Jvm.MethodName)) ∈ lw_all := lw_g (lw_at lw_m7 150 rfl) rfl
theorem q1653 : (Jvm.Cond.code ({ cls := "TrailerYardsModel", name := "asked", desc := "()I" } : Jvm.MethodName) prog_8_method_95_code (1 : Nat) (Option.some Jvm.ClassFile.FieldType.int)) ∈ lw_all := lw_g (lw_at lw_m7 151 rfl) rfl
theorem q1655 : (Jvm.Cond.instanceMethod ({ cls := "TrailerYardsModel", name := "upper", desc := "()J" } : Jvm.MethodName)) ∈ lw_all := lw_g (lw_at lw_m7 153 rfl) rfl
theorem q1656 : (Jvm.Cond.selects "TrailerYardsModel" ({ cls := "TrailerYardsModel", name := "upper", desc := "()J" } : Jvm.MethodName) ({ cls := "TrailerYardsModel", name := "upper", desc := "()J" } : Jvm.MethodName)) ∈ lw_all := lw_g (lw_at lw_m7 154 rfl) rfl
theorem q1657 : (Jvm.Cond.code ({ cls := "TrailerYardsModel", name := "upper", desc := "()J" } : Jvm.MethodName) prog_8_method_96_code (1 : Nat) (Option.some Jvm.ClassFile.FieldType.long)) ∈ lw_all := lw_g (lw_at lw_m7 155 rfl) rfl
theorem q1659 : (Jvm.Cond.instanceMethod ({ cls := "TrailerYardsModel", name := "lower", desc := "()J" } : Jvm.MethodName)) ∈ lw_all := lw_g (lw_at lw_m7 157 rfl) rfl
theorem q1660 : (Jvm.Cond.selects "TrailerYardsModel" ({ cls := "TrailerYardsModel", name := "lower", desc := "()J" } : Jvm.MethodName) ({ cls := "TrailerYardsModel", name := "lower", desc := "()J" } : Jvm.MethodName)) ∈ lw_all := lw_g (lw_at lw_m7 158 rfl) rfl
theorem q1661 : (Jvm.Cond.code ({ cls := "TrailerYardsModel", name := "lower", desc := "()J" } : Jvm.MethodName) prog_8_method_97_code (1 : Nat) (Option.some Jvm.ClassFile.FieldType.long)) ∈ lw_all := lw_g (lw_at lw_m7 159 rfl) rfl
theorem q1663 : (Jvm.Cond.instanceMethod ({ cls := "TrailerYardsModel", name := "count", desc := "(I)I" } : Jvm.MethodName)) ∈ lw_all := lw_g (lw_at lw_m7 161 rfl) rfl
theorem q1664 : (Jvm.Cond.selects "TrailerYardsModel" ({ cls := "TrailerYardsModel", name := "count", desc := "(I)I" } : Jvm.MethodName) ({ cls := "TrailerYardsModel", name := "count", desc := "(I)I" } : Jvm.MethodName)) ∈ lw_all := lw_g (lw_at lw_m7 162 rfl) rfl
theorem q1665 : (Jvm.Cond.code ({ cls := "TrailerYardsModel", name := "count", desc := "(I)I" } : Jvm.MethodName) prog_8_method_99_code (2 : Nat) (Option.some Jvm.ClassFile.FieldType.int)) ∈ lw_all := lw_g (lw_at lw_m7 163 rfl) rfl
theorem q1666 : (Jvm.Cond.methodLink "TrailerYardsModel" (375 : Nat) ({ cls := "TrailerYardsModel", name := "counts", desc := "(I)I" } : Jvm.MethodName)) ∈ lw_all := lw_g (lw_at lw_m7 164 rfl) rfl
theorem q1667 : (Jvm.Cond.privateMethod ({ cls := "TrailerYardsModel", name := "counts", desc := "(I)I" } : Jvm.MethodName)) ∈ lw_tbl := lw_at lw_m7 165 rfl
theorem q1668 : (Jvm.Cond.instanceMethod ({ cls := "TrailerYardsModel", name := "counts", desc := "(I)I" } : Jvm.MethodName)) ∈ lw_all := lw_g (lw_at lw_m7 166 rfl) rfl
theorem q1669 : (Jvm.Cond.code ({ cls := "TrailerYardsModel", name := "counts", desc := "(I)I" } : Jvm.MethodName) prog_8_method_98_code (4 : Nat) (Option.some Jvm.ClassFile.FieldType.int)) ∈ lw_all := lw_g (lw_at lw_m7 167 rfl) rfl
theorem q1671 : (Jvm.Cond.instanceMethod ({ cls := "TrailerYardsModel", name := "finding", desc := "()I" } : Jvm.MethodName)) ∈ lw_all := lw_g (lw_at lw_m7 169 rfl) rfl
theorem q1672 : (Jvm.Cond.selects "TrailerYardsModel" ({ cls := "TrailerYardsModel", name := "finding", desc := "()I" } : Jvm.MethodName) ({ cls := "TrailerYardsModel", name := "finding", desc := "()I" } : Jvm.MethodName)) ∈ lw_all := lw_g (lw_at lw_m7 170 rfl) rfl
theorem q1673 : (Jvm.Cond.code ({ cls := "TrailerYardsModel", name := "finding", desc := "()I" } : Jvm.MethodName) prog_8_method_100_code (1 : Nat) (Option.some Jvm.ClassFile.FieldType.int)) ∈ lw_all := lw_g (lw_at lw_m7 171 rfl) rfl
theorem q1675 : (Jvm.Cond.instanceMethod ({ cls := "TrailerYardsModel", name := "findings", desc := "(I)I" } : Jvm.MethodName)) ∈ lw_all := lw_g (lw_at lw_m7 173 rfl) rfl
theorem q1676 : (Jvm.Cond.selects "TrailerYardsModel" ({ cls := "TrailerYardsModel", name := "findings", desc := "(I)I" } : Jvm.MethodName) ({ cls := "TrailerYardsModel", name := "findings", desc := "(I)I" } : Jvm.MethodName)) ∈ lw_all := lw_g (lw_at lw_m7 174 rfl) rfl
theorem q1677 : (Jvm.Cond.code ({ cls := "TrailerYardsModel", name := "findings", desc := "(I)I" } : Jvm.MethodName) prog_8_method_101_code (2 : Nat) (Option.some Jvm.ClassFile.FieldType.int)) ∈ lw_all := lw_g (lw_at lw_m7 175 rfl) rfl
theorem q1679 : (Jvm.Cond.instanceMethod ({ cls := "TrailerYardsModel", name := "digest", desc := "()J" } : Jvm.MethodName)) ∈ lw_all := lw_g (lw_at lw_m7 177 rfl) rfl
theorem q1680 : (Jvm.Cond.selects "TrailerYardsModel" ({ cls := "TrailerYardsModel", name := "digest", desc := "()J" } : Jvm.MethodName) ({ cls := "TrailerYardsModel", name := "digest", desc := "()J" } : Jvm.MethodName)) ∈ lw_all := lw_g (lw_at lw_m7 178 rfl) rfl
theorem q1681 : (Jvm.Cond.code ({ cls := "TrailerYardsModel", name := "digest", desc := "()J" } : Jvm.MethodName) prog_8_method_103_code (3 : Nat) (Option.some Jvm.ClassFile.FieldType.long)) ∈ lw_all := lw_g (lw_at lw_m7 179 rfl) rfl
theorem q1682 : (Jvm.Cond.constantLong "TrailerYardsModel" (383 : Nat) (17 : Int64)) ∈ lw_all := lw_g (lw_at lw_m7 180 rfl) rfl
theorem q1683 : (Jvm.Cond.methodLink "TrailerYardsModel" (385 : Nat) ({ cls := "TrailerYardsModel", name := "mix", desc := "(I)V" } : Jvm.MethodName)) ∈ lw_all := lw_g (lw_at lw_m7 181 rfl) rfl
theorem q1684 : (Jvm.Cond.privateMethod ({ cls := "TrailerYardsModel", name := "mix", desc := "(I)V" } : Jvm.MethodName)) ∈ lw_tbl := lw_at lw_m7 182 rfl
theorem q1685 : (Jvm.Cond.instanceMethod ({ cls := "TrailerYardsModel", name := "mix", desc := "(I)V" } : Jvm.MethodName)) ∈ lw_all := lw_g (lw_at lw_m7 183 rfl) rfl
theorem q1686 : (Jvm.Cond.code ({ cls := "TrailerYardsModel", name := "mix", desc := "(I)V" } : Jvm.MethodName) prog_8_method_102_code (2 : Nat) (Option.none : Option Jvm.ClassFile.FieldType)) ∈ lw_all := lw_g (lw_at lw_m7 184 rfl) rfl
theorem q1687 : (Jvm.Cond.constantLong "TrailerYardsModel" (378 : Nat) (31 : Int64)) ∈ lw_all := lw_g (lw_at lw_m7 185 rfl) rfl
theorem in_X1 : ∀ w ∈ wsX10, w ∈ lw_all := lw_in wsX10 [1141, 1143, 1145, 1147, 1149, 1151, 1153, 1155, 1157, 1159, 1161, 1163, 1165, 1167, 1169, 1171, 1173, 1175, 1177, 1179, 1181, 1183, 1185, 1187, 1189, 1191, 1193, 1195, 1197, 1199, 1201, 1203, 1205, 1207, 1209, 1211, 1213, 1215, 1217, 1219, 1221, 1223, 1225, 1227, 1229, 1231, 1233, 1235, 1237, 1239, 1241, 1243, 1245, 1247, 1249, 1251, 1253, 1255, 1257, 1259, 1261, 1263, 1265, 1267, 1269, 1271, 1273, 1275, 1277, 1279, 1281, 1283, 1285] (by decide +kernel) (by decide +kernel)
