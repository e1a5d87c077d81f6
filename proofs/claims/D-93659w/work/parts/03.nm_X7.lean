/-! MarketDaysModel -/
set_option maxRecDepth 100000
def RX7 : String := "MarketDaysModel"
def TX7 : u_T := fun k => match k with
  | 0 => ("MarketDaysModel", "towns", "I", false)
  | 1 => ("MarketDaysModel", "size", "[I", true)
  | 2 => ("MarketDaysModel", "may", "[I", true)
  | 3 => ("MarketDaysModel", "wish", "[I", true)
  | 4 => ("MarketDaysModel", "behind", "[I", true)
  | 5 => ("MarketDaysModel", "road", "[I", true)
  | 6 => ("MarketDaysModel", "week", "I", false)
  | 7 => ("MarketDaysModel", "feasts", "I", false)
  | 8 => ("MarketDaysModel", "feastWeek", "[I", true)
  | 9 => ("MarketDaysModel", "feastDay", "[I", true)
  | 10 => ("MarketDaysModel", "tape", "[I", true)
  | 11 => ("MarketDaysModel", "taped", "I", false)
  | 12 => ("MarketDaysModel", "codes", "[I", true)
  | 13 => ("MarketDaysModel", "starts", "[I", true)
  | 14 => ("MarketDaysModel", "texts", "I", false)
  | 15 => ("MarketDaysModel", "rule", "I", false)
  | 16 => ("MarketDaysModel", "givings", "I", false)
  | 17 => ("MarketDaysModel", "kind", "[I", true)
  | 18 => ("MarketDaysModel", "many", "[I", true)
  | 19 => ("MarketDaysModel", "day", "[I", true)
  | 20 => ("MarketDaysModel", "wasFound", "Z", false)
  | 21 => ("MarketDaysModel", "foundTowns", "I", false)
  | 22 => ("MarketDaysModel", "found", "[I", true)
  | 23 => ("MarketDaysModel", "roundDays", "I", false)
  | 24 => ("MarketDaysModel", "roundAt", "[I", true)
  | 25 => ("MarketDaysModel", "hasImage", "Z", false)
  | 26 => ("MarketDaysModel", "imageTowns", "I", false)
  | 27 => ("MarketDaysModel", "imageWeek", "I", false)
  | 28 => ("MarketDaysModel", "imageFeasts", "I", false)
  | 29 => ("MarketDaysModel", "imageRule", "I", false)
  | 30 => ("MarketDaysModel", "imageMay", "[I", true)
  | 31 => ("MarketDaysModel", "imageWish", "[I", true)
  | 32 => ("MarketDaysModel", "imageBehind", "[I", true)
  | 33 => ("MarketDaysModel", "imageRoad", "[I", true)
  | 34 => ("MarketDaysModel", "imageFeastWeek", "[I", true)
  | 35 => ("MarketDaysModel", "imageFeastDay", "[I", true)
  | 36 => ("MarketDaysModel", "sheetSort", "[I", true)
  | 37 => ("MarketDaysModel", "sheetSize", "[I", true)
  | 38 => ("MarketDaysModel", "cells", "[I", true)
  | 39 => ("MarketDaysModel", "far", "[I", true)
  | 40 => ("MarketDaysModel", "at", "I", false)
  | 41 => ("MarketDaysModel", "begun", "I", false)
  | 42 => ("MarketDaysModel", "token", "I", false)
  | 43 => ("MarketDaysModel", "value", "I", false)
  | 44 => ("MarketDaysModel", "words", "[J", true)
  | 45 => ("MarketDaysModel", "held", "[I", true)
  | 46 => ("MarketDaysModel", "heldMany", "I", false)
  | 47 => ("MarketDaysModel", "opens", "I", false)
  | 48 => ("MarketDaysModel", "out", "I", false)
  | 49 => ("MarketDaysModel", "stack", "[I", true)
  | 50 => ("MarketDaysModel", "named", "[I", true)
  | 51 => ("MarketDaysModel", "near", "[Z", true)
  | 52 => ("MarketDaysModel", "now", "[I", true)
  | 53 => ("MarketDaysModel", "kept", "[I", true)
  | 54 => ("MarketDaysModel", "isKept", "[Z", true)
  | _ => ("MarketDaysModel", "most", "[I", true)
def tyX7 : Nat → FieldType := fun k => match k with
  | 0 => .int
  | 1 => .array .int
  | 2 => .array .int
  | 3 => .array .int
  | 4 => .array .int
  | 5 => .array .int
  | 6 => .int
  | 7 => .int
  | 8 => .array .int
  | 9 => .array .int
  | 10 => .array .int
  | 11 => .int
  | 12 => .array .int
  | 13 => .array .int
  | 14 => .int
  | 15 => .int
  | 16 => .int
  | 17 => .array .int
  | 18 => .array .int
  | 19 => .array .int
  | 20 => .boolean
  | 21 => .int
  | 22 => .array .int
  | 23 => .int
  | 24 => .array .int
  | 25 => .boolean
  | 26 => .int
  | 27 => .int
  | 28 => .int
  | 29 => .int
  | 30 => .array .int
  | 31 => .array .int
  | 32 => .array .int
  | 33 => .array .int
  | 34 => .array .int
  | 35 => .array .int
  | 36 => .array .int
  | 37 => .array .int
  | 38 => .array .int
  | 39 => .array .int
  | 40 => .int
  | 41 => .int
  | 42 => .int
  | 43 => .int
  | 44 => .array .long
  | 45 => .array .int
  | 46 => .int
  | 47 => .int
  | 48 => .int
  | 49 => .array .int
  | 50 => .array .int
  | 51 => .array .boolean
  | 52 => .array .int
  | 53 => .array .int
  | 54 => .array .boolean
  | _ => .array .int
abbrev wsX70 : List Cond := u_ws RX7 TX7 56
set_option maxRecDepth 100000 in
theorem nmX7 : ∀ a, a < 56 → ∀ b, b < 56 → a ≠ b → (TX7 a).2.1 ≠ (TX7 b).2.1 := by decide +kernel
set_option maxRecDepth 100000 in
theorem tyX7_ok : ∀ k, k < 56 → parseFieldDescriptor (TX7 k).2.2.1 = some (tyX7 k) := by decide +kernel
abbrev cX7_init : ByteArray := prog_19_method_1_code
def yX7_init : MethodName := ⟨RX7, "<init>", "()V"⟩
def dkwX7_init_18 : List UInt8 := [180, 0, 41, 4, 6, 79, 42, 180, 0, 41, 5, 16, 12, 79, 177]
abbrev dktX7_init_18 : List UInt8 := dkwX7_init_18 ++ []
def dkwX7_init_17 : List UInt8 := [18, 149, 16, 18, 16, 17, 182, 0, 145, 42, 16, 8, 7, 18, 150, 16, 18, 16, 16, 182, 0, 145, 42]
abbrev dktX7_init_17 : List UInt8 := dkwX7_init_17 ++ dktX7_init_18
def dkwX7_init_16 : List UInt8 := [17, 7, 176, 188, 10, 181, 0, 140, 42, 3, 3, 18, 143, 16, 14, 18, 144, 182, 0, 145, 42, 7, 5]
abbrev dktX7_init_16 : List UInt8 := dkwX7_init_16 ++ dktX7_init_17
def dkwX7_init_15 : List UInt8 := [181, 0, 131, 42, 17, 114, 216, 188, 10, 181, 0, 134, 42, 17, 114, 216, 188, 4, 181, 0, 137, 42]
abbrev dktX7_init_15 : List UInt8 := dkwX7_init_15 ++ dktX7_init_16
def dkwX7_init_14 : List UInt8 := [181, 0, 121, 42, 16, 6, 188, 10, 181, 0, 124, 42, 16, 36, 188, 4, 181, 0, 127, 42, 16, 6, 188, 10]
abbrev dktX7_init_14 : List UInt8 := dkwX7_init_14 ++ dktX7_init_15
def dkwX7_init_13 : List UInt8 := [20, 0, 112, 80, 181, 0, 114, 42, 17, 0, 200, 188, 10, 181, 0, 118, 42, 17, 0, 200, 188, 10]
abbrev dktX7_init_13 : List UInt8 := dkwX7_init_13 ++ dktX7_init_14
def dkwX7_init_12 : List UInt8 := [16, 7, 20, 0, 106, 80, 89, 16, 8, 20, 0, 108, 80, 89, 16, 9, 20, 0, 110, 80, 89, 16, 10]
abbrev dktX7_init_12 : List UInt8 := dkwX7_init_12 ++ dktX7_init_13
def dkwX7_init_11 : List UInt8 := [20, 0, 98, 80, 89, 7, 20, 0, 100, 80, 89, 8, 20, 0, 102, 80, 89, 16, 6, 20, 0, 104, 80, 89]
abbrev dktX7_init_11 : List UInt8 := dkwX7_init_11 ++ dktX7_init_12
def dkwX7_init_10 : List UInt8 := [188, 11, 89, 3, 20, 0, 92, 80, 89, 4, 20, 0, 94, 80, 89, 5, 20, 0, 96, 80, 89, 6]
abbrev dktX7_init_10 : List UInt8 := dkwX7_init_10 ++ dktX7_init_11
def dkwX7_init_9 : List UInt8 := [181, 0, 83, 42, 17, 0, 160, 188, 10, 181, 0, 86, 42, 16, 36, 188, 10, 181, 0, 89, 42, 16, 11]
abbrev dktX7_init_9 : List UInt8 := dkwX7_init_9 ++ dktX7_init_10
def dkwX7_init_8 : List UInt8 := [3, 2, 79, 89, 4, 2, 79, 89, 5, 2, 79, 89, 6, 2, 79, 181, 0, 80, 42, 7, 188, 10]
abbrev dktX7_init_8 : List UInt8 := dkwX7_init_8 ++ dktX7_init_9
def dkwX7_init_7 : List UInt8 := [181, 0, 71, 42, 16, 10, 188, 10, 181, 0, 74, 42, 16, 10, 188, 10, 181, 0, 77, 42, 7, 188, 10, 89]
abbrev dktX7_init_7 : List UInt8 := dkwX7_init_7 ++ dktX7_init_8
def dkwX7_init_6 : List UInt8 := [181, 0, 62, 42, 16, 6, 188, 10, 181, 0, 65, 42, 16, 6, 188, 10, 181, 0, 68, 42, 16, 36, 188, 10]
abbrev dktX7_init_6 : List UInt8 := dkwX7_init_6 ++ dktX7_init_7
def dkwX7_init_5 : List UInt8 := [181, 0, 53, 42, 16, 6, 188, 10, 181, 0, 56, 42, 16, 7, 188, 10, 181, 0, 59, 42, 16, 6, 188, 10]
abbrev dktX7_init_5 : List UInt8 := dkwX7_init_5 ++ dktX7_init_6
def dkwX7_init_4 : List UInt8 := [181, 0, 44, 42, 16, 12, 188, 10, 181, 0, 47, 42, 16, 12, 188, 10, 181, 0, 50, 42, 16, 72, 188, 10]
abbrev dktX7_init_4 : List UInt8 := dkwX7_init_4 ++ dktX7_init_5
def dkwX7_init_3 : List UInt8 := [188, 10, 181, 0, 35, 42, 17, 4, 176, 188, 10, 181, 0, 38, 42, 16, 24, 188, 10, 181, 0, 41, 42, 4]
abbrev dktX7_init_3 : List UInt8 := dkwX7_init_3 ++ dktX7_init_4
def dkwX7_init_2 : List UInt8 := [181, 0, 25, 42, 16, 10, 188, 10, 181, 0, 29, 42, 16, 10, 188, 10, 181, 0, 32, 42, 17, 0, 160]
abbrev dktX7_init_2 : List UInt8 := dkwX7_init_2 ++ dktX7_init_3
def dkwX7_init_1 : List UInt8 := [188, 10, 181, 0, 16, 42, 16, 6, 188, 10, 181, 0, 19, 42, 16, 36, 188, 10, 181, 0, 22, 42, 16, 6]
abbrev dktX7_init_1 : List UInt8 := dkwX7_init_1 ++ dktX7_init_2
def dkwX7_init_0 : List UInt8 := [42, 183, 0, 1, 42, 16, 6, 188, 10, 181, 0, 7, 42, 16, 6, 188, 10, 181, 0, 13, 42, 16, 6]
abbrev dktX7_init_0 : List UInt8 := dkwX7_init_0 ++ dktX7_init_1
theorem dksX7_init_0 : cX7_init.data.toList.drop 0 = dktX7_init_0 := by decide +kernel
theorem dksX7_init_1 : cX7_init.data.toList.drop 23 = dktX7_init_1 := dk_seg dksX7_init_0 23 rfl rfl
theorem dksX7_init_2 : cX7_init.data.toList.drop 47 = dktX7_init_2 := dk_seg dksX7_init_1 24 rfl rfl
theorem dksX7_init_3 : cX7_init.data.toList.drop 70 = dktX7_init_3 := dk_seg dksX7_init_2 23 rfl rfl
theorem dksX7_init_4 : cX7_init.data.toList.drop 94 = dktX7_init_4 := dk_seg dksX7_init_3 24 rfl rfl
theorem dksX7_init_5 : cX7_init.data.toList.drop 118 = dktX7_init_5 := dk_seg dksX7_init_4 24 rfl rfl
theorem dksX7_init_6 : cX7_init.data.toList.drop 142 = dktX7_init_6 := dk_seg dksX7_init_5 24 rfl rfl
theorem dksX7_init_7 : cX7_init.data.toList.drop 166 = dktX7_init_7 := dk_seg dksX7_init_6 24 rfl rfl
theorem dksX7_init_8 : cX7_init.data.toList.drop 190 = dktX7_init_8 := dk_seg dksX7_init_7 24 rfl rfl
theorem dksX7_init_9 : cX7_init.data.toList.drop 212 = dktX7_init_9 := dk_seg dksX7_init_8 22 rfl rfl
theorem dksX7_init_10 : cX7_init.data.toList.drop 235 = dktX7_init_10 := dk_seg dksX7_init_9 23 rfl rfl
theorem dksX7_init_11 : cX7_init.data.toList.drop 257 = dktX7_init_11 := dk_seg dksX7_init_10 22 rfl rfl
theorem dksX7_init_12 : cX7_init.data.toList.drop 281 = dktX7_init_12 := dk_seg dksX7_init_11 24 rfl rfl
theorem dksX7_init_13 : cX7_init.data.toList.drop 304 = dktX7_init_13 := dk_seg dksX7_init_12 23 rfl rfl
theorem dksX7_init_14 : cX7_init.data.toList.drop 326 = dktX7_init_14 := dk_seg dksX7_init_13 22 rfl rfl
theorem dksX7_init_15 : cX7_init.data.toList.drop 350 = dktX7_init_15 := dk_seg dksX7_init_14 24 rfl rfl
theorem dksX7_init_16 : cX7_init.data.toList.drop 372 = dktX7_init_16 := dk_seg dksX7_init_15 22 rfl rfl
theorem dksX7_init_17 : cX7_init.data.toList.drop 395 = dktX7_init_17 := dk_seg dksX7_init_16 23 rfl rfl
theorem dksX7_init_18 : cX7_init.data.toList.drop 418 = dktX7_init_18 := dk_seg dksX7_init_17 23 rfl rfl
theorem dX7_init_0 : decode cX7_init 0 = .ok (.aload_n 0, 1) := dk_42 (dk_at dksX7_init_0 0 rfl rfl)
theorem dX7_init_1 : decode cX7_init 1 = .ok (.invokespecial 1, 3) := dk_183 0 1 (dk_at dksX7_init_0 1 rfl rfl)
theorem dX7_init_4 : decode cX7_init 4 = .ok (.aload_n 0, 1) := dk_42 (dk_at dksX7_init_0 4 rfl rfl)
theorem dX7_init_5 : decode cX7_init 5 = .ok (.bipush 6, 2) := dk_16 6 (dk_at dksX7_init_0 5 rfl rfl)
theorem dX7_init_7 : decode cX7_init 7 = .ok (.newarray .int, 2) := dk_188_10 (dk_at dksX7_init_0 7 rfl rfl)
theorem dX7_init_9 : decode cX7_init 9 = .ok (.putfield 7, 3) := dk_181 0 7 (dk_at dksX7_init_0 9 rfl rfl)
theorem dX7_init_12 : decode cX7_init 12 = .ok (.aload_n 0, 1) := dk_42 (dk_at dksX7_init_0 12 rfl rfl)
theorem dX7_init_13 : decode cX7_init 13 = .ok (.bipush 6, 2) := dk_16 6 (dk_at dksX7_init_0 13 rfl rfl)
theorem dX7_init_15 : decode cX7_init 15 = .ok (.newarray .int, 2) := dk_188_10 (dk_at dksX7_init_0 15 rfl rfl)
theorem dX7_init_17 : decode cX7_init 17 = .ok (.putfield 13, 3) := dk_181 0 13 (dk_at dksX7_init_0 17 rfl rfl)
theorem dX7_init_20 : decode cX7_init 20 = .ok (.aload_n 0, 1) := dk_42 (dk_at dksX7_init_0 20 rfl rfl)
theorem dX7_init_21 : decode cX7_init 21 = .ok (.bipush 6, 2) := dk_16 6 (dk_at dksX7_init_0 21 rfl rfl)
theorem dX7_init_23 : decode cX7_init 23 = .ok (.newarray .int, 2) := dk_188_10 (dk_at dksX7_init_1 0 rfl rfl)
theorem dX7_init_25 : decode cX7_init 25 = .ok (.putfield 16, 3) := dk_181 0 16 (dk_at dksX7_init_1 2 rfl rfl)
theorem dX7_init_28 : decode cX7_init 28 = .ok (.aload_n 0, 1) := dk_42 (dk_at dksX7_init_1 5 rfl rfl)
theorem dX7_init_29 : decode cX7_init 29 = .ok (.bipush 6, 2) := dk_16 6 (dk_at dksX7_init_1 6 rfl rfl)
theorem dX7_init_31 : decode cX7_init 31 = .ok (.newarray .int, 2) := dk_188_10 (dk_at dksX7_init_1 8 rfl rfl)
theorem dX7_init_33 : decode cX7_init 33 = .ok (.putfield 19, 3) := dk_181 0 19 (dk_at dksX7_init_1 10 rfl rfl)
theorem dX7_init_36 : decode cX7_init 36 = .ok (.aload_n 0, 1) := dk_42 (dk_at dksX7_init_1 13 rfl rfl)
theorem dX7_init_37 : decode cX7_init 37 = .ok (.bipush 36, 2) := dk_16 36 (dk_at dksX7_init_1 14 rfl rfl)
theorem dX7_init_39 : decode cX7_init 39 = .ok (.newarray .int, 2) := dk_188_10 (dk_at dksX7_init_1 16 rfl rfl)
theorem dX7_init_41 : decode cX7_init 41 = .ok (.putfield 22, 3) := dk_181 0 22 (dk_at dksX7_init_1 18 rfl rfl)
theorem dX7_init_44 : decode cX7_init 44 = .ok (.aload_n 0, 1) := dk_42 (dk_at dksX7_init_1 21 rfl rfl)
theorem dX7_init_45 : decode cX7_init 45 = .ok (.bipush 6, 2) := dk_16 6 (dk_at dksX7_init_1 22 rfl rfl)
theorem dX7_init_47 : decode cX7_init 47 = .ok (.putfield 25, 3) := dk_181 0 25 (dk_at dksX7_init_2 0 rfl rfl)
theorem dX7_init_50 : decode cX7_init 50 = .ok (.aload_n 0, 1) := dk_42 (dk_at dksX7_init_2 3 rfl rfl)
theorem dX7_init_51 : decode cX7_init 51 = .ok (.bipush 10, 2) := dk_16 10 (dk_at dksX7_init_2 4 rfl rfl)
theorem dX7_init_53 : decode cX7_init 53 = .ok (.newarray .int, 2) := dk_188_10 (dk_at dksX7_init_2 6 rfl rfl)
theorem dX7_init_55 : decode cX7_init 55 = .ok (.putfield 29, 3) := dk_181 0 29 (dk_at dksX7_init_2 8 rfl rfl)
theorem dX7_init_58 : decode cX7_init 58 = .ok (.aload_n 0, 1) := dk_42 (dk_at dksX7_init_2 11 rfl rfl)
theorem dX7_init_59 : decode cX7_init 59 = .ok (.bipush 10, 2) := dk_16 10 (dk_at dksX7_init_2 12 rfl rfl)
theorem dX7_init_61 : decode cX7_init 61 = .ok (.newarray .int, 2) := dk_188_10 (dk_at dksX7_init_2 14 rfl rfl)
theorem dX7_init_63 : decode cX7_init 63 = .ok (.putfield 32, 3) := dk_181 0 32 (dk_at dksX7_init_2 16 rfl rfl)
theorem dX7_init_66 : decode cX7_init 66 = .ok (.aload_n 0, 1) := dk_42 (dk_at dksX7_init_2 19 rfl rfl)
theorem dX7_init_67 : decode cX7_init 67 = .ok (.sipush 160, 3) := dk_17 0 160 (dk_at dksX7_init_2 20 rfl rfl)
theorem dX7_init_70 : decode cX7_init 70 = .ok (.newarray .int, 2) := dk_188_10 (dk_at dksX7_init_3 0 rfl rfl)
theorem dX7_init_72 : decode cX7_init 72 = .ok (.putfield 35, 3) := dk_181 0 35 (dk_at dksX7_init_3 2 rfl rfl)
theorem dX7_init_75 : decode cX7_init 75 = .ok (.aload_n 0, 1) := dk_42 (dk_at dksX7_init_3 5 rfl rfl)
theorem dX7_init_76 : decode cX7_init 76 = .ok (.sipush 1200, 3) := dk_17 4 176 (dk_at dksX7_init_3 6 rfl rfl)
theorem dX7_init_79 : decode cX7_init 79 = .ok (.newarray .int, 2) := dk_188_10 (dk_at dksX7_init_3 9 rfl rfl)
theorem dX7_init_81 : decode cX7_init 81 = .ok (.putfield 38, 3) := dk_181 0 38 (dk_at dksX7_init_3 11 rfl rfl)
theorem dX7_init_84 : decode cX7_init 84 = .ok (.aload_n 0, 1) := dk_42 (dk_at dksX7_init_3 14 rfl rfl)
theorem dX7_init_85 : decode cX7_init 85 = .ok (.bipush 24, 2) := dk_16 24 (dk_at dksX7_init_3 15 rfl rfl)
theorem dX7_init_87 : decode cX7_init 87 = .ok (.newarray .int, 2) := dk_188_10 (dk_at dksX7_init_3 17 rfl rfl)
theorem dX7_init_89 : decode cX7_init 89 = .ok (.putfield 41, 3) := dk_181 0 41 (dk_at dksX7_init_3 19 rfl rfl)
theorem dX7_init_92 : decode cX7_init 92 = .ok (.aload_n 0, 1) := dk_42 (dk_at dksX7_init_3 22 rfl rfl)
theorem dX7_init_93 : decode cX7_init 93 = .ok (.iconst 1, 1) := dk_4 (dk_at dksX7_init_3 23 rfl rfl)
theorem dX7_init_94 : decode cX7_init 94 = .ok (.putfield 44, 3) := dk_181 0 44 (dk_at dksX7_init_4 0 rfl rfl)
theorem dX7_init_97 : decode cX7_init 97 = .ok (.aload_n 0, 1) := dk_42 (dk_at dksX7_init_4 3 rfl rfl)
theorem dX7_init_98 : decode cX7_init 98 = .ok (.bipush 12, 2) := dk_16 12 (dk_at dksX7_init_4 4 rfl rfl)
theorem dX7_init_100 : decode cX7_init 100 = .ok (.newarray .int, 2) := dk_188_10 (dk_at dksX7_init_4 6 rfl rfl)
theorem dX7_init_102 : decode cX7_init 102 = .ok (.putfield 47, 3) := dk_181 0 47 (dk_at dksX7_init_4 8 rfl rfl)
theorem dX7_init_105 : decode cX7_init 105 = .ok (.aload_n 0, 1) := dk_42 (dk_at dksX7_init_4 11 rfl rfl)
theorem dX7_init_106 : decode cX7_init 106 = .ok (.bipush 12, 2) := dk_16 12 (dk_at dksX7_init_4 12 rfl rfl)
theorem dX7_init_108 : decode cX7_init 108 = .ok (.newarray .int, 2) := dk_188_10 (dk_at dksX7_init_4 14 rfl rfl)
theorem dX7_init_110 : decode cX7_init 110 = .ok (.putfield 50, 3) := dk_181 0 50 (dk_at dksX7_init_4 16 rfl rfl)
theorem dX7_init_113 : decode cX7_init 113 = .ok (.aload_n 0, 1) := dk_42 (dk_at dksX7_init_4 19 rfl rfl)
theorem dX7_init_114 : decode cX7_init 114 = .ok (.bipush 72, 2) := dk_16 72 (dk_at dksX7_init_4 20 rfl rfl)
theorem dX7_init_116 : decode cX7_init 116 = .ok (.newarray .int, 2) := dk_188_10 (dk_at dksX7_init_4 22 rfl rfl)
theorem dX7_init_118 : decode cX7_init 118 = .ok (.putfield 53, 3) := dk_181 0 53 (dk_at dksX7_init_5 0 rfl rfl)
theorem dX7_init_121 : decode cX7_init 121 = .ok (.aload_n 0, 1) := dk_42 (dk_at dksX7_init_5 3 rfl rfl)
theorem dX7_init_122 : decode cX7_init 122 = .ok (.bipush 6, 2) := dk_16 6 (dk_at dksX7_init_5 4 rfl rfl)
theorem dX7_init_124 : decode cX7_init 124 = .ok (.newarray .int, 2) := dk_188_10 (dk_at dksX7_init_5 6 rfl rfl)
theorem dX7_init_126 : decode cX7_init 126 = .ok (.putfield 56, 3) := dk_181 0 56 (dk_at dksX7_init_5 8 rfl rfl)
theorem dX7_init_129 : decode cX7_init 129 = .ok (.aload_n 0, 1) := dk_42 (dk_at dksX7_init_5 11 rfl rfl)
theorem dX7_init_130 : decode cX7_init 130 = .ok (.bipush 7, 2) := dk_16 7 (dk_at dksX7_init_5 12 rfl rfl)
theorem dX7_init_132 : decode cX7_init 132 = .ok (.newarray .int, 2) := dk_188_10 (dk_at dksX7_init_5 14 rfl rfl)
theorem dX7_init_134 : decode cX7_init 134 = .ok (.putfield 59, 3) := dk_181 0 59 (dk_at dksX7_init_5 16 rfl rfl)
theorem dX7_init_137 : decode cX7_init 137 = .ok (.aload_n 0, 1) := dk_42 (dk_at dksX7_init_5 19 rfl rfl)
theorem dX7_init_138 : decode cX7_init 138 = .ok (.bipush 6, 2) := dk_16 6 (dk_at dksX7_init_5 20 rfl rfl)
theorem dX7_init_140 : decode cX7_init 140 = .ok (.newarray .int, 2) := dk_188_10 (dk_at dksX7_init_5 22 rfl rfl)
theorem dX7_init_142 : decode cX7_init 142 = .ok (.putfield 62, 3) := dk_181 0 62 (dk_at dksX7_init_6 0 rfl rfl)
theorem dX7_init_145 : decode cX7_init 145 = .ok (.aload_n 0, 1) := dk_42 (dk_at dksX7_init_6 3 rfl rfl)
theorem dX7_init_146 : decode cX7_init 146 = .ok (.bipush 6, 2) := dk_16 6 (dk_at dksX7_init_6 4 rfl rfl)
theorem dX7_init_148 : decode cX7_init 148 = .ok (.newarray .int, 2) := dk_188_10 (dk_at dksX7_init_6 6 rfl rfl)
theorem dX7_init_150 : decode cX7_init 150 = .ok (.putfield 65, 3) := dk_181 0 65 (dk_at dksX7_init_6 8 rfl rfl)
theorem dX7_init_153 : decode cX7_init 153 = .ok (.aload_n 0, 1) := dk_42 (dk_at dksX7_init_6 11 rfl rfl)
theorem dX7_init_154 : decode cX7_init 154 = .ok (.bipush 6, 2) := dk_16 6 (dk_at dksX7_init_6 12 rfl rfl)
theorem dX7_init_156 : decode cX7_init 156 = .ok (.newarray .int, 2) := dk_188_10 (dk_at dksX7_init_6 14 rfl rfl)
theorem dX7_init_158 : decode cX7_init 158 = .ok (.putfield 68, 3) := dk_181 0 68 (dk_at dksX7_init_6 16 rfl rfl)
theorem dX7_init_161 : decode cX7_init 161 = .ok (.aload_n 0, 1) := dk_42 (dk_at dksX7_init_6 19 rfl rfl)
theorem dX7_init_162 : decode cX7_init 162 = .ok (.bipush 36, 2) := dk_16 36 (dk_at dksX7_init_6 20 rfl rfl)
theorem dX7_init_164 : decode cX7_init 164 = .ok (.newarray .int, 2) := dk_188_10 (dk_at dksX7_init_6 22 rfl rfl)
theorem dX7_init_166 : decode cX7_init 166 = .ok (.putfield 71, 3) := dk_181 0 71 (dk_at dksX7_init_7 0 rfl rfl)
theorem dX7_init_169 : decode cX7_init 169 = .ok (.aload_n 0, 1) := dk_42 (dk_at dksX7_init_7 3 rfl rfl)
theorem dX7_init_170 : decode cX7_init 170 = .ok (.bipush 10, 2) := dk_16 10 (dk_at dksX7_init_7 4 rfl rfl)
theorem dX7_init_172 : decode cX7_init 172 = .ok (.newarray .int, 2) := dk_188_10 (dk_at dksX7_init_7 6 rfl rfl)
theorem dX7_init_174 : decode cX7_init 174 = .ok (.putfield 74, 3) := dk_181 0 74 (dk_at dksX7_init_7 8 rfl rfl)
theorem dX7_init_177 : decode cX7_init 177 = .ok (.aload_n 0, 1) := dk_42 (dk_at dksX7_init_7 11 rfl rfl)
theorem dX7_init_178 : decode cX7_init 178 = .ok (.bipush 10, 2) := dk_16 10 (dk_at dksX7_init_7 12 rfl rfl)
theorem dX7_init_180 : decode cX7_init 180 = .ok (.newarray .int, 2) := dk_188_10 (dk_at dksX7_init_7 14 rfl rfl)
theorem dX7_init_182 : decode cX7_init 182 = .ok (.putfield 77, 3) := dk_181 0 77 (dk_at dksX7_init_7 16 rfl rfl)
theorem dX7_init_185 : decode cX7_init 185 = .ok (.aload_n 0, 1) := dk_42 (dk_at dksX7_init_7 19 rfl rfl)
theorem dX7_init_186 : decode cX7_init 186 = .ok (.iconst 4, 1) := dk_7 (dk_at dksX7_init_7 20 rfl rfl)
theorem dX7_init_187 : decode cX7_init 187 = .ok (.newarray .int, 2) := dk_188_10 (dk_at dksX7_init_7 21 rfl rfl)
theorem dX7_init_189 : decode cX7_init 189 = .ok (.dup, 1) := dk_89 (dk_at dksX7_init_7 23 rfl rfl)
theorem dX7_init_190 : decode cX7_init 190 = .ok (.iconst 0, 1) := dk_3 (dk_at dksX7_init_8 0 rfl rfl)
theorem dX7_init_191 : decode cX7_init 191 = .ok (.iconst (-1), 1) := dk_2 (dk_at dksX7_init_8 1 rfl rfl)
theorem dX7_init_192 : decode cX7_init 192 = .ok (.iastore, 1) := dk_79 (dk_at dksX7_init_8 2 rfl rfl)
theorem dX7_init_193 : decode cX7_init 193 = .ok (.dup, 1) := dk_89 (dk_at dksX7_init_8 3 rfl rfl)
theorem dX7_init_194 : decode cX7_init 194 = .ok (.iconst 1, 1) := dk_4 (dk_at dksX7_init_8 4 rfl rfl)
theorem dX7_init_195 : decode cX7_init 195 = .ok (.iconst (-1), 1) := dk_2 (dk_at dksX7_init_8 5 rfl rfl)
theorem dX7_init_196 : decode cX7_init 196 = .ok (.iastore, 1) := dk_79 (dk_at dksX7_init_8 6 rfl rfl)
theorem dX7_init_197 : decode cX7_init 197 = .ok (.dup, 1) := dk_89 (dk_at dksX7_init_8 7 rfl rfl)
theorem dX7_init_198 : decode cX7_init 198 = .ok (.iconst 2, 1) := dk_5 (dk_at dksX7_init_8 8 rfl rfl)
theorem dX7_init_199 : decode cX7_init 199 = .ok (.iconst (-1), 1) := dk_2 (dk_at dksX7_init_8 9 rfl rfl)
theorem dX7_init_200 : decode cX7_init 200 = .ok (.iastore, 1) := dk_79 (dk_at dksX7_init_8 10 rfl rfl)
theorem dX7_init_201 : decode cX7_init 201 = .ok (.dup, 1) := dk_89 (dk_at dksX7_init_8 11 rfl rfl)
theorem dX7_init_202 : decode cX7_init 202 = .ok (.iconst 3, 1) := dk_6 (dk_at dksX7_init_8 12 rfl rfl)
theorem dX7_init_203 : decode cX7_init 203 = .ok (.iconst (-1), 1) := dk_2 (dk_at dksX7_init_8 13 rfl rfl)
theorem dX7_init_204 : decode cX7_init 204 = .ok (.iastore, 1) := dk_79 (dk_at dksX7_init_8 14 rfl rfl)
theorem dX7_init_205 : decode cX7_init 205 = .ok (.putfield 80, 3) := dk_181 0 80 (dk_at dksX7_init_8 15 rfl rfl)
theorem dX7_init_208 : decode cX7_init 208 = .ok (.aload_n 0, 1) := dk_42 (dk_at dksX7_init_8 18 rfl rfl)
theorem dX7_init_209 : decode cX7_init 209 = .ok (.iconst 4, 1) := dk_7 (dk_at dksX7_init_8 19 rfl rfl)
theorem dX7_init_210 : decode cX7_init 210 = .ok (.newarray .int, 2) := dk_188_10 (dk_at dksX7_init_8 20 rfl rfl)
theorem dX7_init_212 : decode cX7_init 212 = .ok (.putfield 83, 3) := dk_181 0 83 (dk_at dksX7_init_9 0 rfl rfl)
theorem dX7_init_215 : decode cX7_init 215 = .ok (.aload_n 0, 1) := dk_42 (dk_at dksX7_init_9 3 rfl rfl)
theorem dX7_init_216 : decode cX7_init 216 = .ok (.sipush 160, 3) := dk_17 0 160 (dk_at dksX7_init_9 4 rfl rfl)
theorem dX7_init_219 : decode cX7_init 219 = .ok (.newarray .int, 2) := dk_188_10 (dk_at dksX7_init_9 7 rfl rfl)
theorem dX7_init_221 : decode cX7_init 221 = .ok (.putfield 86, 3) := dk_181 0 86 (dk_at dksX7_init_9 9 rfl rfl)
theorem dX7_init_224 : decode cX7_init 224 = .ok (.aload_n 0, 1) := dk_42 (dk_at dksX7_init_9 12 rfl rfl)
theorem dX7_init_225 : decode cX7_init 225 = .ok (.bipush 36, 2) := dk_16 36 (dk_at dksX7_init_9 13 rfl rfl)
theorem dX7_init_227 : decode cX7_init 227 = .ok (.newarray .int, 2) := dk_188_10 (dk_at dksX7_init_9 15 rfl rfl)
theorem dX7_init_229 : decode cX7_init 229 = .ok (.putfield 89, 3) := dk_181 0 89 (dk_at dksX7_init_9 17 rfl rfl)
theorem dX7_init_232 : decode cX7_init 232 = .ok (.aload_n 0, 1) := dk_42 (dk_at dksX7_init_9 20 rfl rfl)
theorem dX7_init_233 : decode cX7_init 233 = .ok (.bipush 11, 2) := dk_16 11 (dk_at dksX7_init_9 21 rfl rfl)
theorem dX7_init_235 : decode cX7_init 235 = .ok (.newarray .long, 2) := dk_188_11 (dk_at dksX7_init_10 0 rfl rfl)
theorem dX7_init_237 : decode cX7_init 237 = .ok (.dup, 1) := dk_89 (dk_at dksX7_init_10 2 rfl rfl)
theorem dX7_init_238 : decode cX7_init 238 = .ok (.iconst 0, 1) := dk_3 (dk_at dksX7_init_10 3 rfl rfl)
theorem dX7_init_239 : decode cX7_init 239 = .ok (.ldc2_w 92, 3) := dk_20 0 92 (dk_at dksX7_init_10 4 rfl rfl)
theorem dX7_init_242 : decode cX7_init 242 = .ok (.lastore, 1) := dk_80 (dk_at dksX7_init_10 7 rfl rfl)
theorem dX7_init_243 : decode cX7_init 243 = .ok (.dup, 1) := dk_89 (dk_at dksX7_init_10 8 rfl rfl)
theorem dX7_init_244 : decode cX7_init 244 = .ok (.iconst 1, 1) := dk_4 (dk_at dksX7_init_10 9 rfl rfl)
theorem dX7_init_245 : decode cX7_init 245 = .ok (.ldc2_w 94, 3) := dk_20 0 94 (dk_at dksX7_init_10 10 rfl rfl)
theorem dX7_init_248 : decode cX7_init 248 = .ok (.lastore, 1) := dk_80 (dk_at dksX7_init_10 13 rfl rfl)
theorem dX7_init_249 : decode cX7_init 249 = .ok (.dup, 1) := dk_89 (dk_at dksX7_init_10 14 rfl rfl)
theorem dX7_init_250 : decode cX7_init 250 = .ok (.iconst 2, 1) := dk_5 (dk_at dksX7_init_10 15 rfl rfl)
theorem dX7_init_251 : decode cX7_init 251 = .ok (.ldc2_w 96, 3) := dk_20 0 96 (dk_at dksX7_init_10 16 rfl rfl)
theorem dX7_init_254 : decode cX7_init 254 = .ok (.lastore, 1) := dk_80 (dk_at dksX7_init_10 19 rfl rfl)
theorem dX7_init_255 : decode cX7_init 255 = .ok (.dup, 1) := dk_89 (dk_at dksX7_init_10 20 rfl rfl)
theorem dX7_init_256 : decode cX7_init 256 = .ok (.iconst 3, 1) := dk_6 (dk_at dksX7_init_10 21 rfl rfl)
theorem dX7_init_257 : decode cX7_init 257 = .ok (.ldc2_w 98, 3) := dk_20 0 98 (dk_at dksX7_init_11 0 rfl rfl)
theorem dX7_init_260 : decode cX7_init 260 = .ok (.lastore, 1) := dk_80 (dk_at dksX7_init_11 3 rfl rfl)
theorem dX7_init_261 : decode cX7_init 261 = .ok (.dup, 1) := dk_89 (dk_at dksX7_init_11 4 rfl rfl)
theorem dX7_init_262 : decode cX7_init 262 = .ok (.iconst 4, 1) := dk_7 (dk_at dksX7_init_11 5 rfl rfl)
theorem dX7_init_263 : decode cX7_init 263 = .ok (.ldc2_w 100, 3) := dk_20 0 100 (dk_at dksX7_init_11 6 rfl rfl)
theorem dX7_init_266 : decode cX7_init 266 = .ok (.lastore, 1) := dk_80 (dk_at dksX7_init_11 9 rfl rfl)
theorem dX7_init_267 : decode cX7_init 267 = .ok (.dup, 1) := dk_89 (dk_at dksX7_init_11 10 rfl rfl)
theorem dX7_init_268 : decode cX7_init 268 = .ok (.iconst 5, 1) := dk_8 (dk_at dksX7_init_11 11 rfl rfl)
theorem dX7_init_269 : decode cX7_init 269 = .ok (.ldc2_w 102, 3) := dk_20 0 102 (dk_at dksX7_init_11 12 rfl rfl)
theorem dX7_init_272 : decode cX7_init 272 = .ok (.lastore, 1) := dk_80 (dk_at dksX7_init_11 15 rfl rfl)
theorem dX7_init_273 : decode cX7_init 273 = .ok (.dup, 1) := dk_89 (dk_at dksX7_init_11 16 rfl rfl)
theorem dX7_init_274 : decode cX7_init 274 = .ok (.bipush 6, 2) := dk_16 6 (dk_at dksX7_init_11 17 rfl rfl)
theorem dX7_init_276 : decode cX7_init 276 = .ok (.ldc2_w 104, 3) := dk_20 0 104 (dk_at dksX7_init_11 19 rfl rfl)
theorem dX7_init_279 : decode cX7_init 279 = .ok (.lastore, 1) := dk_80 (dk_at dksX7_init_11 22 rfl rfl)
theorem dX7_init_280 : decode cX7_init 280 = .ok (.dup, 1) := dk_89 (dk_at dksX7_init_11 23 rfl rfl)
theorem dX7_init_281 : decode cX7_init 281 = .ok (.bipush 7, 2) := dk_16 7 (dk_at dksX7_init_12 0 rfl rfl)
theorem dX7_init_283 : decode cX7_init 283 = .ok (.ldc2_w 106, 3) := dk_20 0 106 (dk_at dksX7_init_12 2 rfl rfl)
theorem dX7_init_286 : decode cX7_init 286 = .ok (.lastore, 1) := dk_80 (dk_at dksX7_init_12 5 rfl rfl)
theorem dX7_init_287 : decode cX7_init 287 = .ok (.dup, 1) := dk_89 (dk_at dksX7_init_12 6 rfl rfl)
theorem dX7_init_288 : decode cX7_init 288 = .ok (.bipush 8, 2) := dk_16 8 (dk_at dksX7_init_12 7 rfl rfl)
theorem dX7_init_290 : decode cX7_init 290 = .ok (.ldc2_w 108, 3) := dk_20 0 108 (dk_at dksX7_init_12 9 rfl rfl)
theorem dX7_init_293 : decode cX7_init 293 = .ok (.lastore, 1) := dk_80 (dk_at dksX7_init_12 12 rfl rfl)
theorem dX7_init_294 : decode cX7_init 294 = .ok (.dup, 1) := dk_89 (dk_at dksX7_init_12 13 rfl rfl)
theorem dX7_init_295 : decode cX7_init 295 = .ok (.bipush 9, 2) := dk_16 9 (dk_at dksX7_init_12 14 rfl rfl)
theorem dX7_init_297 : decode cX7_init 297 = .ok (.ldc2_w 110, 3) := dk_20 0 110 (dk_at dksX7_init_12 16 rfl rfl)
theorem dX7_init_300 : decode cX7_init 300 = .ok (.lastore, 1) := dk_80 (dk_at dksX7_init_12 19 rfl rfl)
theorem dX7_init_301 : decode cX7_init 301 = .ok (.dup, 1) := dk_89 (dk_at dksX7_init_12 20 rfl rfl)
theorem dX7_init_302 : decode cX7_init 302 = .ok (.bipush 10, 2) := dk_16 10 (dk_at dksX7_init_12 21 rfl rfl)
theorem dX7_init_304 : decode cX7_init 304 = .ok (.ldc2_w 112, 3) := dk_20 0 112 (dk_at dksX7_init_13 0 rfl rfl)
theorem dX7_init_307 : decode cX7_init 307 = .ok (.lastore, 1) := dk_80 (dk_at dksX7_init_13 3 rfl rfl)
theorem dX7_init_308 : decode cX7_init 308 = .ok (.putfield 114, 3) := dk_181 0 114 (dk_at dksX7_init_13 4 rfl rfl)
theorem dX7_init_311 : decode cX7_init 311 = .ok (.aload_n 0, 1) := dk_42 (dk_at dksX7_init_13 7 rfl rfl)
theorem dX7_init_312 : decode cX7_init 312 = .ok (.sipush 200, 3) := dk_17 0 200 (dk_at dksX7_init_13 8 rfl rfl)
theorem dX7_init_315 : decode cX7_init 315 = .ok (.newarray .int, 2) := dk_188_10 (dk_at dksX7_init_13 11 rfl rfl)
theorem dX7_init_317 : decode cX7_init 317 = .ok (.putfield 118, 3) := dk_181 0 118 (dk_at dksX7_init_13 13 rfl rfl)
theorem dX7_init_320 : decode cX7_init 320 = .ok (.aload_n 0, 1) := dk_42 (dk_at dksX7_init_13 16 rfl rfl)
theorem dX7_init_321 : decode cX7_init 321 = .ok (.sipush 200, 3) := dk_17 0 200 (dk_at dksX7_init_13 17 rfl rfl)
theorem dX7_init_324 : decode cX7_init 324 = .ok (.newarray .int, 2) := dk_188_10 (dk_at dksX7_init_13 20 rfl rfl)
theorem dX7_init_326 : decode cX7_init 326 = .ok (.putfield 121, 3) := dk_181 0 121 (dk_at dksX7_init_14 0 rfl rfl)
theorem dX7_init_329 : decode cX7_init 329 = .ok (.aload_n 0, 1) := dk_42 (dk_at dksX7_init_14 3 rfl rfl)
theorem dX7_init_330 : decode cX7_init 330 = .ok (.bipush 6, 2) := dk_16 6 (dk_at dksX7_init_14 4 rfl rfl)
theorem dX7_init_332 : decode cX7_init 332 = .ok (.newarray .int, 2) := dk_188_10 (dk_at dksX7_init_14 6 rfl rfl)
theorem dX7_init_334 : decode cX7_init 334 = .ok (.putfield 124, 3) := dk_181 0 124 (dk_at dksX7_init_14 8 rfl rfl)
theorem dX7_init_337 : decode cX7_init 337 = .ok (.aload_n 0, 1) := dk_42 (dk_at dksX7_init_14 11 rfl rfl)
theorem dX7_init_338 : decode cX7_init 338 = .ok (.bipush 36, 2) := dk_16 36 (dk_at dksX7_init_14 12 rfl rfl)
theorem dX7_init_340 : decode cX7_init 340 = .ok (.newarray .boolean, 2) := dk_188_4 (dk_at dksX7_init_14 14 rfl rfl)
theorem dX7_init_342 : decode cX7_init 342 = .ok (.putfield 127, 3) := dk_181 0 127 (dk_at dksX7_init_14 16 rfl rfl)
theorem dX7_init_345 : decode cX7_init 345 = .ok (.aload_n 0, 1) := dk_42 (dk_at dksX7_init_14 19 rfl rfl)
theorem dX7_init_346 : decode cX7_init 346 = .ok (.bipush 6, 2) := dk_16 6 (dk_at dksX7_init_14 20 rfl rfl)
theorem dX7_init_348 : decode cX7_init 348 = .ok (.newarray .int, 2) := dk_188_10 (dk_at dksX7_init_14 22 rfl rfl)
theorem dX7_init_350 : decode cX7_init 350 = .ok (.putfield 131, 3) := dk_181 0 131 (dk_at dksX7_init_15 0 rfl rfl)
theorem dX7_init_353 : decode cX7_init 353 = .ok (.aload_n 0, 1) := dk_42 (dk_at dksX7_init_15 3 rfl rfl)
theorem dX7_init_354 : decode cX7_init 354 = .ok (.sipush 29400, 3) := dk_17 114 216 (dk_at dksX7_init_15 4 rfl rfl)
theorem dX7_init_357 : decode cX7_init 357 = .ok (.newarray .int, 2) := dk_188_10 (dk_at dksX7_init_15 7 rfl rfl)
theorem dX7_init_359 : decode cX7_init 359 = .ok (.putfield 134, 3) := dk_181 0 134 (dk_at dksX7_init_15 9 rfl rfl)
theorem dX7_init_362 : decode cX7_init 362 = .ok (.aload_n 0, 1) := dk_42 (dk_at dksX7_init_15 12 rfl rfl)
theorem dX7_init_363 : decode cX7_init 363 = .ok (.sipush 29400, 3) := dk_17 114 216 (dk_at dksX7_init_15 13 rfl rfl)
theorem dX7_init_366 : decode cX7_init 366 = .ok (.newarray .boolean, 2) := dk_188_4 (dk_at dksX7_init_15 16 rfl rfl)
theorem dX7_init_368 : decode cX7_init 368 = .ok (.putfield 137, 3) := dk_181 0 137 (dk_at dksX7_init_15 18 rfl rfl)
theorem dX7_init_371 : decode cX7_init 371 = .ok (.aload_n 0, 1) := dk_42 (dk_at dksX7_init_15 21 rfl rfl)
theorem dX7_init_372 : decode cX7_init 372 = .ok (.sipush 1968, 3) := dk_17 7 176 (dk_at dksX7_init_16 0 rfl rfl)
theorem dX7_init_375 : decode cX7_init 375 = .ok (.newarray .int, 2) := dk_188_10 (dk_at dksX7_init_16 3 rfl rfl)
theorem dX7_init_377 : decode cX7_init 377 = .ok (.putfield 140, 3) := dk_181 0 140 (dk_at dksX7_init_16 5 rfl rfl)
theorem dX7_init_380 : decode cX7_init 380 = .ok (.aload_n 0, 1) := dk_42 (dk_at dksX7_init_16 8 rfl rfl)
theorem dX7_init_381 : decode cX7_init 381 = .ok (.iconst 0, 1) := dk_3 (dk_at dksX7_init_16 9 rfl rfl)
theorem dX7_init_382 : decode cX7_init 382 = .ok (.iconst 0, 1) := dk_3 (dk_at dksX7_init_16 10 rfl rfl)
theorem dX7_init_383 : decode cX7_init 383 = .ok (.ldc 143, 2) := dk_18 143 (dk_at dksX7_init_16 11 rfl rfl)
theorem dX7_init_385 : decode cX7_init 385 = .ok (.bipush 14, 2) := dk_16 14 (dk_at dksX7_init_16 13 rfl rfl)
theorem dX7_init_387 : decode cX7_init 387 = .ok (.ldc 144, 2) := dk_18 144 (dk_at dksX7_init_16 15 rfl rfl)
theorem dX7_init_389 : decode cX7_init 389 = .ok (.invokevirtual 145, 3) := dk_182 0 145 (dk_at dksX7_init_16 17 rfl rfl)
theorem dX7_init_392 : decode cX7_init 392 = .ok (.aload_n 0, 1) := dk_42 (dk_at dksX7_init_16 20 rfl rfl)
theorem dX7_init_393 : decode cX7_init 393 = .ok (.iconst 4, 1) := dk_7 (dk_at dksX7_init_16 21 rfl rfl)
theorem dX7_init_394 : decode cX7_init 394 = .ok (.iconst 2, 1) := dk_5 (dk_at dksX7_init_16 22 rfl rfl)
theorem dX7_init_395 : decode cX7_init 395 = .ok (.ldc 149, 2) := dk_18 149 (dk_at dksX7_init_17 0 rfl rfl)
theorem dX7_init_397 : decode cX7_init 397 = .ok (.bipush 18, 2) := dk_16 18 (dk_at dksX7_init_17 2 rfl rfl)
theorem dX7_init_399 : decode cX7_init 399 = .ok (.bipush 17, 2) := dk_16 17 (dk_at dksX7_init_17 4 rfl rfl)
theorem dX7_init_401 : decode cX7_init 401 = .ok (.invokevirtual 145, 3) := dk_182 0 145 (dk_at dksX7_init_17 6 rfl rfl)
theorem dX7_init_404 : decode cX7_init 404 = .ok (.aload_n 0, 1) := dk_42 (dk_at dksX7_init_17 9 rfl rfl)
theorem dX7_init_405 : decode cX7_init 405 = .ok (.bipush 8, 2) := dk_16 8 (dk_at dksX7_init_17 10 rfl rfl)
theorem dX7_init_407 : decode cX7_init 407 = .ok (.iconst 4, 1) := dk_7 (dk_at dksX7_init_17 12 rfl rfl)
theorem dX7_init_408 : decode cX7_init 408 = .ok (.ldc 150, 2) := dk_18 150 (dk_at dksX7_init_17 13 rfl rfl)
theorem dX7_init_410 : decode cX7_init 410 = .ok (.bipush 18, 2) := dk_16 18 (dk_at dksX7_init_17 15 rfl rfl)
theorem dX7_init_412 : decode cX7_init 412 = .ok (.bipush 16, 2) := dk_16 16 (dk_at dksX7_init_17 17 rfl rfl)
theorem dX7_init_414 : decode cX7_init 414 = .ok (.invokevirtual 145, 3) := dk_182 0 145 (dk_at dksX7_init_17 19 rfl rfl)
theorem dX7_init_417 : decode cX7_init 417 = .ok (.aload_n 0, 1) := dk_42 (dk_at dksX7_init_17 22 rfl rfl)
theorem dX7_init_418 : decode cX7_init 418 = .ok (.getfield 41, 3) := dk_180 0 41 (dk_at dksX7_init_18 0 rfl rfl)
theorem dX7_init_421 : decode cX7_init 421 = .ok (.iconst 1, 1) := dk_4 (dk_at dksX7_init_18 3 rfl rfl)
theorem dX7_init_422 : decode cX7_init 422 = .ok (.iconst 3, 1) := dk_6 (dk_at dksX7_init_18 4 rfl rfl)
theorem dX7_init_423 : decode cX7_init 423 = .ok (.iastore, 1) := dk_79 (dk_at dksX7_init_18 5 rfl rfl)
theorem dX7_init_424 : decode cX7_init 424 = .ok (.aload_n 0, 1) := dk_42 (dk_at dksX7_init_18 6 rfl rfl)
theorem dX7_init_425 : decode cX7_init 425 = .ok (.getfield 41, 3) := dk_180 0 41 (dk_at dksX7_init_18 7 rfl rfl)
theorem dX7_init_428 : decode cX7_init 428 = .ok (.iconst 2, 1) := dk_5 (dk_at dksX7_init_18 10 rfl rfl)
theorem dX7_init_429 : decode cX7_init 429 = .ok (.bipush 12, 2) := dk_16 12 (dk_at dksX7_init_18 11 rfl rfl)
theorem dX7_init_431 : decode cX7_init 431 = .ok (.iastore, 1) := dk_79 (dk_at dksX7_init_18 13 rfl rfl)
theorem dX7_init_432 : decode cX7_init 432 = .ok (.return_, 1) := dk_177 (dk_at dksX7_init_18 14 rfl rfl)
abbrev cX7_first : ByteArray := prog_19_method_2_code
def yX7_first : MethodName := ⟨RX7, "first", "(IIIII)V"⟩
def dkwX7_first_1 : List UInt8 := [21, 4, 79, 42, 180, 0, 38, 27, 6, 96, 21, 5, 79, 177]
abbrev dktX7_first_1 : List UInt8 := dkwX7_first_1 ++ []
def dkwX7_first_0 : List UInt8 := [42, 180, 0, 38, 27, 28, 79, 42, 180, 0, 38, 27, 4, 96, 29, 79, 42, 180, 0, 38, 27, 5, 96]
abbrev dktX7_first_0 : List UInt8 := dkwX7_first_0 ++ dktX7_first_1
theorem dksX7_first_0 : cX7_first.data.toList.drop 0 = dktX7_first_0 := by decide +kernel
theorem dksX7_first_1 : cX7_first.data.toList.drop 23 = dktX7_first_1 := dk_seg dksX7_first_0 23 rfl rfl
theorem dX7_first_0 : decode cX7_first 0 = .ok (.aload_n 0, 1) := dk_42 (dk_at dksX7_first_0 0 rfl rfl)
theorem dX7_first_1 : decode cX7_first 1 = .ok (.getfield 38, 3) := dk_180 0 38 (dk_at dksX7_first_0 1 rfl rfl)
theorem dX7_first_4 : decode cX7_first 4 = .ok (.iload_n 1, 1) := dk_27 (dk_at dksX7_first_0 4 rfl rfl)
theorem dX7_first_5 : decode cX7_first 5 = .ok (.iload_n 2, 1) := dk_28 (dk_at dksX7_first_0 5 rfl rfl)
theorem dX7_first_6 : decode cX7_first 6 = .ok (.iastore, 1) := dk_79 (dk_at dksX7_first_0 6 rfl rfl)
theorem dX7_first_7 : decode cX7_first 7 = .ok (.aload_n 0, 1) := dk_42 (dk_at dksX7_first_0 7 rfl rfl)
theorem dX7_first_8 : decode cX7_first 8 = .ok (.getfield 38, 3) := dk_180 0 38 (dk_at dksX7_first_0 8 rfl rfl)
theorem dX7_first_11 : decode cX7_first 11 = .ok (.iload_n 1, 1) := dk_27 (dk_at dksX7_first_0 11 rfl rfl)
theorem dX7_first_12 : decode cX7_first 12 = .ok (.iconst 1, 1) := dk_4 (dk_at dksX7_first_0 12 rfl rfl)
theorem dX7_first_13 : decode cX7_first 13 = .ok (.iadd, 1) := dk_96 (dk_at dksX7_first_0 13 rfl rfl)
theorem dX7_first_14 : decode cX7_first 14 = .ok (.iload_n 3, 1) := dk_29 (dk_at dksX7_first_0 14 rfl rfl)
theorem dX7_first_15 : decode cX7_first 15 = .ok (.iastore, 1) := dk_79 (dk_at dksX7_first_0 15 rfl rfl)
theorem dX7_first_16 : decode cX7_first 16 = .ok (.aload_n 0, 1) := dk_42 (dk_at dksX7_first_0 16 rfl rfl)
theorem dX7_first_17 : decode cX7_first 17 = .ok (.getfield 38, 3) := dk_180 0 38 (dk_at dksX7_first_0 17 rfl rfl)
theorem dX7_first_20 : decode cX7_first 20 = .ok (.iload_n 1, 1) := dk_27 (dk_at dksX7_first_0 20 rfl rfl)
theorem dX7_first_21 : decode cX7_first 21 = .ok (.iconst 2, 1) := dk_5 (dk_at dksX7_first_0 21 rfl rfl)
theorem dX7_first_22 : decode cX7_first 22 = .ok (.iadd, 1) := dk_96 (dk_at dksX7_first_0 22 rfl rfl)
theorem dX7_first_23 : decode cX7_first 23 = .ok (.iload 4, 2) := dk_21 4 (dk_at dksX7_first_1 0 rfl rfl)
theorem dX7_first_25 : decode cX7_first 25 = .ok (.iastore, 1) := dk_79 (dk_at dksX7_first_1 2 rfl rfl)
theorem dX7_first_26 : decode cX7_first 26 = .ok (.aload_n 0, 1) := dk_42 (dk_at dksX7_first_1 3 rfl rfl)
theorem dX7_first_27 : decode cX7_first 27 = .ok (.getfield 38, 3) := dk_180 0 38 (dk_at dksX7_first_1 4 rfl rfl)
theorem dX7_first_30 : decode cX7_first 30 = .ok (.iload_n 1, 1) := dk_27 (dk_at dksX7_first_1 7 rfl rfl)
theorem dX7_first_31 : decode cX7_first 31 = .ok (.iconst 3, 1) := dk_6 (dk_at dksX7_first_1 8 rfl rfl)
theorem dX7_first_32 : decode cX7_first 32 = .ok (.iadd, 1) := dk_96 (dk_at dksX7_first_1 9 rfl rfl)
theorem dX7_first_33 : decode cX7_first 33 = .ok (.iload 5, 2) := dk_21 5 (dk_at dksX7_first_1 10 rfl rfl)
theorem dX7_first_35 : decode cX7_first 35 = .ok (.iastore, 1) := dk_79 (dk_at dksX7_first_1 12 rfl rfl)
theorem dX7_first_36 : decode cX7_first 36 = .ok (.return_, 1) := dk_177 (dk_at dksX7_first_1 13 rfl rfl)
abbrev cX7_town : ByteArray := prog_19_method_7_code
def yX7_town : MethodName := ⟨RX7, "town", "(I)I"⟩
def dkwX7_town_3 : List UInt8 := [4, 96, 181, 0, 151, 42, 180, 0, 151, 4, 100, 172]
abbrev dktX7_town_3 : List UInt8 := dkwX7_town_3 ++ []
def dkwX7_town_2 : List UInt8 := [180, 0, 16, 42, 180, 0, 151, 2, 79, 42, 180, 0, 19, 42, 180, 0, 151, 2, 79, 42, 89, 180, 0, 151]
abbrev dktX7_town_2 : List UInt8 := dkwX7_town_2 ++ dktX7_town_3
def dkwX7_town_1 : List UInt8 := [172, 42, 180, 0, 7, 42, 180, 0, 151, 27, 79, 42, 180, 0, 13, 42, 180, 0, 151, 16, 127, 79, 42]
abbrev dktX7_town_1 : List UInt8 := dkwX7_town_1 ++ dktX7_town_2
def dkwX7_town_0 : List UInt8 := [27, 3, 16, 99, 184, 0, 154, 154, 0, 6, 16, 254, 172, 42, 180, 0, 151, 16, 6, 160, 0, 6, 16, 252]
abbrev dktX7_town_0 : List UInt8 := dkwX7_town_0 ++ dktX7_town_1
theorem dksX7_town_0 : cX7_town.data.toList.drop 0 = dktX7_town_0 := by decide +kernel
theorem dksX7_town_1 : cX7_town.data.toList.drop 24 = dktX7_town_1 := dk_seg dksX7_town_0 24 rfl rfl
theorem dksX7_town_2 : cX7_town.data.toList.drop 47 = dktX7_town_2 := dk_seg dksX7_town_1 23 rfl rfl
theorem dksX7_town_3 : cX7_town.data.toList.drop 71 = dktX7_town_3 := dk_seg dksX7_town_2 24 rfl rfl
theorem dX7_town_0 : decode cX7_town 0 = .ok (.iload_n 1, 1) := dk_27 (dk_at dksX7_town_0 0 rfl rfl)
theorem dX7_town_1 : decode cX7_town 1 = .ok (.iconst 0, 1) := dk_3 (dk_at dksX7_town_0 1 rfl rfl)
theorem dX7_town_2 : decode cX7_town 2 = .ok (.bipush 99, 2) := dk_16 99 (dk_at dksX7_town_0 2 rfl rfl)
theorem dX7_town_4 : decode cX7_town 4 = .ok (.invokestatic 154, 3) := dk_184 0 154 (dk_at dksX7_town_0 4 rfl rfl)
theorem dX7_town_7 : decode cX7_town 7 = .ok (.ifCond .ne 6, 3) := dk_154 0 6 (dk_at dksX7_town_0 7 rfl rfl)
theorem dX7_town_10 : decode cX7_town 10 = .ok (.bipush (-2), 2) := dk_16 254 (dk_at dksX7_town_0 10 rfl rfl)
theorem dX7_town_12 : decode cX7_town 12 = .ok (.ireturn, 1) := dk_172 (dk_at dksX7_town_0 12 rfl rfl)
theorem dX7_town_13 : decode cX7_town 13 = .ok (.aload_n 0, 1) := dk_42 (dk_at dksX7_town_0 13 rfl rfl)
theorem dX7_town_14 : decode cX7_town 14 = .ok (.getfield 151, 3) := dk_180 0 151 (dk_at dksX7_town_0 14 rfl rfl)
theorem dX7_town_17 : decode cX7_town 17 = .ok (.bipush 6, 2) := dk_16 6 (dk_at dksX7_town_0 17 rfl rfl)
theorem dX7_town_19 : decode cX7_town 19 = .ok (.if_icmp .ne 6, 3) := dk_160 0 6 (dk_at dksX7_town_0 19 rfl rfl)
theorem dX7_town_22 : decode cX7_town 22 = .ok (.bipush (-4), 2) := dk_16 252 (dk_at dksX7_town_0 22 rfl rfl)
theorem dX7_town_24 : decode cX7_town 24 = .ok (.ireturn, 1) := dk_172 (dk_at dksX7_town_1 0 rfl rfl)
theorem dX7_town_25 : decode cX7_town 25 = .ok (.aload_n 0, 1) := dk_42 (dk_at dksX7_town_1 1 rfl rfl)
theorem dX7_town_26 : decode cX7_town 26 = .ok (.getfield 7, 3) := dk_180 0 7 (dk_at dksX7_town_1 2 rfl rfl)
theorem dX7_town_29 : decode cX7_town 29 = .ok (.aload_n 0, 1) := dk_42 (dk_at dksX7_town_1 5 rfl rfl)
theorem dX7_town_30 : decode cX7_town 30 = .ok (.getfield 151, 3) := dk_180 0 151 (dk_at dksX7_town_1 6 rfl rfl)
theorem dX7_town_33 : decode cX7_town 33 = .ok (.iload_n 1, 1) := dk_27 (dk_at dksX7_town_1 9 rfl rfl)
theorem dX7_town_34 : decode cX7_town 34 = .ok (.iastore, 1) := dk_79 (dk_at dksX7_town_1 10 rfl rfl)
theorem dX7_town_35 : decode cX7_town 35 = .ok (.aload_n 0, 1) := dk_42 (dk_at dksX7_town_1 11 rfl rfl)
theorem dX7_town_36 : decode cX7_town 36 = .ok (.getfield 13, 3) := dk_180 0 13 (dk_at dksX7_town_1 12 rfl rfl)
theorem dX7_town_39 : decode cX7_town 39 = .ok (.aload_n 0, 1) := dk_42 (dk_at dksX7_town_1 15 rfl rfl)
theorem dX7_town_40 : decode cX7_town 40 = .ok (.getfield 151, 3) := dk_180 0 151 (dk_at dksX7_town_1 16 rfl rfl)
theorem dX7_town_43 : decode cX7_town 43 = .ok (.bipush 127, 2) := dk_16 127 (dk_at dksX7_town_1 19 rfl rfl)
theorem dX7_town_45 : decode cX7_town 45 = .ok (.iastore, 1) := dk_79 (dk_at dksX7_town_1 21 rfl rfl)
theorem dX7_town_46 : decode cX7_town 46 = .ok (.aload_n 0, 1) := dk_42 (dk_at dksX7_town_1 22 rfl rfl)
theorem dX7_town_47 : decode cX7_town 47 = .ok (.getfield 16, 3) := dk_180 0 16 (dk_at dksX7_town_2 0 rfl rfl)
theorem dX7_town_50 : decode cX7_town 50 = .ok (.aload_n 0, 1) := dk_42 (dk_at dksX7_town_2 3 rfl rfl)
theorem dX7_town_51 : decode cX7_town 51 = .ok (.getfield 151, 3) := dk_180 0 151 (dk_at dksX7_town_2 4 rfl rfl)
theorem dX7_town_54 : decode cX7_town 54 = .ok (.iconst (-1), 1) := dk_2 (dk_at dksX7_town_2 7 rfl rfl)
theorem dX7_town_55 : decode cX7_town 55 = .ok (.iastore, 1) := dk_79 (dk_at dksX7_town_2 8 rfl rfl)
theorem dX7_town_56 : decode cX7_town 56 = .ok (.aload_n 0, 1) := dk_42 (dk_at dksX7_town_2 9 rfl rfl)
theorem dX7_town_57 : decode cX7_town 57 = .ok (.getfield 19, 3) := dk_180 0 19 (dk_at dksX7_town_2 10 rfl rfl)
theorem dX7_town_60 : decode cX7_town 60 = .ok (.aload_n 0, 1) := dk_42 (dk_at dksX7_town_2 13 rfl rfl)
theorem dX7_town_61 : decode cX7_town 61 = .ok (.getfield 151, 3) := dk_180 0 151 (dk_at dksX7_town_2 14 rfl rfl)
theorem dX7_town_64 : decode cX7_town 64 = .ok (.iconst (-1), 1) := dk_2 (dk_at dksX7_town_2 17 rfl rfl)
theorem dX7_town_65 : decode cX7_town 65 = .ok (.iastore, 1) := dk_79 (dk_at dksX7_town_2 18 rfl rfl)
theorem dX7_town_66 : decode cX7_town 66 = .ok (.aload_n 0, 1) := dk_42 (dk_at dksX7_town_2 19 rfl rfl)
theorem dX7_town_67 : decode cX7_town 67 = .ok (.dup, 1) := dk_89 (dk_at dksX7_town_2 20 rfl rfl)
theorem dX7_town_68 : decode cX7_town 68 = .ok (.getfield 151, 3) := dk_180 0 151 (dk_at dksX7_town_2 21 rfl rfl)
theorem dX7_town_71 : decode cX7_town 71 = .ok (.iconst 1, 1) := dk_4 (dk_at dksX7_town_3 0 rfl rfl)
theorem dX7_town_72 : decode cX7_town 72 = .ok (.iadd, 1) := dk_96 (dk_at dksX7_town_3 1 rfl rfl)
theorem dX7_town_73 : decode cX7_town 73 = .ok (.putfield 151, 3) := dk_181 0 151 (dk_at dksX7_town_3 2 rfl rfl)
theorem dX7_town_76 : decode cX7_town 76 = .ok (.aload_n 0, 1) := dk_42 (dk_at dksX7_town_3 5 rfl rfl)
theorem dX7_town_77 : decode cX7_town 77 = .ok (.getfield 151, 3) := dk_180 0 151 (dk_at dksX7_town_3 6 rfl rfl)
theorem dX7_town_80 : decode cX7_town 80 = .ok (.iconst 1, 1) := dk_4 (dk_at dksX7_town_3 9 rfl rfl)
theorem dX7_town_81 : decode cX7_town 81 = .ok (.isub, 1) := dk_100 (dk_at dksX7_town_3 10 rfl rfl)
theorem dX7_town_82 : decode cX7_town 82 = .ok (.ireturn, 1) := dk_172 (dk_at dksX7_town_3 11 rfl rfl)
abbrev cX7_in : ByteArray := prog_19_method_4_code
def yX7_in : MethodName := ⟨RX7, "in", "(III)Z"⟩
def dkwX7_in_0 : List UInt8 := [26, 27, 161, 0, 12, 26, 28, 163, 0, 7, 4, 167, 0, 4, 3, 172]
abbrev dktX7_in_0 : List UInt8 := dkwX7_in_0 ++ []
theorem dksX7_in_0 : cX7_in.data.toList.drop 0 = dktX7_in_0 := by decide +kernel
theorem dX7_in_0 : decode cX7_in 0 = .ok (.iload_n 0, 1) := dk_26 (dk_at dksX7_in_0 0 rfl rfl)
theorem dX7_in_1 : decode cX7_in 1 = .ok (.iload_n 1, 1) := dk_27 (dk_at dksX7_in_0 1 rfl rfl)
theorem dX7_in_2 : decode cX7_in 2 = .ok (.if_icmp .lt 12, 3) := dk_161 0 12 (dk_at dksX7_in_0 2 rfl rfl)
theorem dX7_in_5 : decode cX7_in 5 = .ok (.iload_n 0, 1) := dk_26 (dk_at dksX7_in_0 5 rfl rfl)
theorem dX7_in_6 : decode cX7_in 6 = .ok (.iload_n 2, 1) := dk_28 (dk_at dksX7_in_0 6 rfl rfl)
theorem dX7_in_7 : decode cX7_in 7 = .ok (.if_icmp .gt 7, 3) := dk_163 0 7 (dk_at dksX7_in_0 7 rfl rfl)
theorem dX7_in_10 : decode cX7_in 10 = .ok (.iconst 1, 1) := dk_4 (dk_at dksX7_in_0 10 rfl rfl)
theorem dX7_in_11 : decode cX7_in 11 = .ok (.goto 4, 3) := dk_167 0 4 (dk_at dksX7_in_0 11 rfl rfl)
theorem dX7_in_14 : decode cX7_in 14 = .ok (.iconst 0, 1) := dk_3 (dk_at dksX7_in_0 14 rfl rfl)
theorem dX7_in_15 : decode cX7_in 15 = .ok (.ireturn, 1) := dk_172 (dk_at dksX7_in_0 15 rfl rfl)
abbrev cX7_road : ByteArray := prog_19_method_8_code
def yX7_road : MethodName := ⟨RX7, "road", "(III)I"⟩
def dkwX7_road_3 : List UInt8 := [29, 79, 21, 4, 172]
abbrev dktX7_road_3 : List UInt8 := dkwX7_road_3 ++ []
def dkwX7_road_2 : List UInt8 := [54, 4, 42, 180, 0, 22, 16, 6, 27, 104, 28, 96, 29, 79, 42, 180, 0, 22, 16, 6, 28, 104, 27, 96]
abbrev dktX7_road_2 : List UInt8 := dkwX7_road_2 ++ dktX7_road_3
def dkwX7_road_1 : List UInt8 := [3, 16, 50, 184, 0, 154, 154, 0, 6, 16, 254, 172, 42, 180, 0, 22, 16, 6, 27, 104, 28, 96, 46]
abbrev dktX7_road_1 : List UInt8 := dkwX7_road_1 ++ dktX7_road_2
def dkwX7_road_0 : List UInt8 := [42, 27, 182, 0, 158, 153, 0, 11, 42, 28, 182, 0, 158, 154, 0, 5, 2, 172, 27, 28, 159, 0, 13, 29]
abbrev dktX7_road_0 : List UInt8 := dkwX7_road_0 ++ dktX7_road_1
theorem dksX7_road_0 : cX7_road.data.toList.drop 0 = dktX7_road_0 := by decide +kernel
theorem dksX7_road_1 : cX7_road.data.toList.drop 24 = dktX7_road_1 := dk_seg dksX7_road_0 24 rfl rfl
theorem dksX7_road_2 : cX7_road.data.toList.drop 47 = dktX7_road_2 := dk_seg dksX7_road_1 23 rfl rfl
theorem dksX7_road_3 : cX7_road.data.toList.drop 71 = dktX7_road_3 := dk_seg dksX7_road_2 24 rfl rfl
theorem dX7_road_0 : decode cX7_road 0 = .ok (.aload_n 0, 1) := dk_42 (dk_at dksX7_road_0 0 rfl rfl)
theorem dX7_road_1 : decode cX7_road 1 = .ok (.iload_n 1, 1) := dk_27 (dk_at dksX7_road_0 1 rfl rfl)
theorem dX7_road_2 : decode cX7_road 2 = .ok (.invokevirtual 158, 3) := dk_182 0 158 (dk_at dksX7_road_0 2 rfl rfl)
theorem dX7_road_5 : decode cX7_road 5 = .ok (.ifCond .eq 11, 3) := dk_153 0 11 (dk_at dksX7_road_0 5 rfl rfl)
theorem dX7_road_8 : decode cX7_road 8 = .ok (.aload_n 0, 1) := dk_42 (dk_at dksX7_road_0 8 rfl rfl)
theorem dX7_road_9 : decode cX7_road 9 = .ok (.iload_n 2, 1) := dk_28 (dk_at dksX7_road_0 9 rfl rfl)
theorem dX7_road_10 : decode cX7_road 10 = .ok (.invokevirtual 158, 3) := dk_182 0 158 (dk_at dksX7_road_0 10 rfl rfl)
theorem dX7_road_13 : decode cX7_road 13 = .ok (.ifCond .ne 5, 3) := dk_154 0 5 (dk_at dksX7_road_0 13 rfl rfl)
theorem dX7_road_16 : decode cX7_road 16 = .ok (.iconst (-1), 1) := dk_2 (dk_at dksX7_road_0 16 rfl rfl)
theorem dX7_road_17 : decode cX7_road 17 = .ok (.ireturn, 1) := dk_172 (dk_at dksX7_road_0 17 rfl rfl)
theorem dX7_road_18 : decode cX7_road 18 = .ok (.iload_n 1, 1) := dk_27 (dk_at dksX7_road_0 18 rfl rfl)
theorem dX7_road_19 : decode cX7_road 19 = .ok (.iload_n 2, 1) := dk_28 (dk_at dksX7_road_0 19 rfl rfl)
theorem dX7_road_20 : decode cX7_road 20 = .ok (.if_icmp .eq 13, 3) := dk_159 0 13 (dk_at dksX7_road_0 20 rfl rfl)
theorem dX7_road_23 : decode cX7_road 23 = .ok (.iload_n 3, 1) := dk_29 (dk_at dksX7_road_0 23 rfl rfl)
theorem dX7_road_24 : decode cX7_road 24 = .ok (.iconst 0, 1) := dk_3 (dk_at dksX7_road_1 0 rfl rfl)
theorem dX7_road_25 : decode cX7_road 25 = .ok (.bipush 50, 2) := dk_16 50 (dk_at dksX7_road_1 1 rfl rfl)
theorem dX7_road_27 : decode cX7_road 27 = .ok (.invokestatic 154, 3) := dk_184 0 154 (dk_at dksX7_road_1 3 rfl rfl)
theorem dX7_road_30 : decode cX7_road 30 = .ok (.ifCond .ne 6, 3) := dk_154 0 6 (dk_at dksX7_road_1 6 rfl rfl)
theorem dX7_road_33 : decode cX7_road 33 = .ok (.bipush (-2), 2) := dk_16 254 (dk_at dksX7_road_1 9 rfl rfl)
theorem dX7_road_35 : decode cX7_road 35 = .ok (.ireturn, 1) := dk_172 (dk_at dksX7_road_1 11 rfl rfl)
theorem dX7_road_36 : decode cX7_road 36 = .ok (.aload_n 0, 1) := dk_42 (dk_at dksX7_road_1 12 rfl rfl)
theorem dX7_road_37 : decode cX7_road 37 = .ok (.getfield 22, 3) := dk_180 0 22 (dk_at dksX7_road_1 13 rfl rfl)
theorem dX7_road_40 : decode cX7_road 40 = .ok (.bipush 6, 2) := dk_16 6 (dk_at dksX7_road_1 16 rfl rfl)
theorem dX7_road_42 : decode cX7_road 42 = .ok (.iload_n 1, 1) := dk_27 (dk_at dksX7_road_1 18 rfl rfl)
theorem dX7_road_43 : decode cX7_road 43 = .ok (.imul, 1) := dk_104 (dk_at dksX7_road_1 19 rfl rfl)
theorem dX7_road_44 : decode cX7_road 44 = .ok (.iload_n 2, 1) := dk_28 (dk_at dksX7_road_1 20 rfl rfl)
theorem dX7_road_45 : decode cX7_road 45 = .ok (.iadd, 1) := dk_96 (dk_at dksX7_road_1 21 rfl rfl)
theorem dX7_road_46 : decode cX7_road 46 = .ok (.iaload, 1) := dk_46 (dk_at dksX7_road_1 22 rfl rfl)
theorem dX7_road_47 : decode cX7_road 47 = .ok (.istore 4, 2) := dk_54 4 (dk_at dksX7_road_2 0 rfl rfl)
theorem dX7_road_49 : decode cX7_road 49 = .ok (.aload_n 0, 1) := dk_42 (dk_at dksX7_road_2 2 rfl rfl)
theorem dX7_road_50 : decode cX7_road 50 = .ok (.getfield 22, 3) := dk_180 0 22 (dk_at dksX7_road_2 3 rfl rfl)
theorem dX7_road_53 : decode cX7_road 53 = .ok (.bipush 6, 2) := dk_16 6 (dk_at dksX7_road_2 6 rfl rfl)
theorem dX7_road_55 : decode cX7_road 55 = .ok (.iload_n 1, 1) := dk_27 (dk_at dksX7_road_2 8 rfl rfl)
theorem dX7_road_56 : decode cX7_road 56 = .ok (.imul, 1) := dk_104 (dk_at dksX7_road_2 9 rfl rfl)
theorem dX7_road_57 : decode cX7_road 57 = .ok (.iload_n 2, 1) := dk_28 (dk_at dksX7_road_2 10 rfl rfl)
theorem dX7_road_58 : decode cX7_road 58 = .ok (.iadd, 1) := dk_96 (dk_at dksX7_road_2 11 rfl rfl)
theorem dX7_road_59 : decode cX7_road 59 = .ok (.iload_n 3, 1) := dk_29 (dk_at dksX7_road_2 12 rfl rfl)
theorem dX7_road_60 : decode cX7_road 60 = .ok (.iastore, 1) := dk_79 (dk_at dksX7_road_2 13 rfl rfl)
theorem dX7_road_61 : decode cX7_road 61 = .ok (.aload_n 0, 1) := dk_42 (dk_at dksX7_road_2 14 rfl rfl)
theorem dX7_road_62 : decode cX7_road 62 = .ok (.getfield 22, 3) := dk_180 0 22 (dk_at dksX7_road_2 15 rfl rfl)
theorem dX7_road_65 : decode cX7_road 65 = .ok (.bipush 6, 2) := dk_16 6 (dk_at dksX7_road_2 18 rfl rfl)
theorem dX7_road_67 : decode cX7_road 67 = .ok (.iload_n 2, 1) := dk_28 (dk_at dksX7_road_2 20 rfl rfl)
theorem dX7_road_68 : decode cX7_road 68 = .ok (.imul, 1) := dk_104 (dk_at dksX7_road_2 21 rfl rfl)
theorem dX7_road_69 : decode cX7_road 69 = .ok (.iload_n 1, 1) := dk_27 (dk_at dksX7_road_2 22 rfl rfl)
theorem dX7_road_70 : decode cX7_road 70 = .ok (.iadd, 1) := dk_96 (dk_at dksX7_road_2 23 rfl rfl)
theorem dX7_road_71 : decode cX7_road 71 = .ok (.iload_n 3, 1) := dk_29 (dk_at dksX7_road_3 0 rfl rfl)
theorem dX7_road_72 : decode cX7_road 72 = .ok (.iastore, 1) := dk_79 (dk_at dksX7_road_3 1 rfl rfl)
theorem dX7_road_73 : decode cX7_road 73 = .ok (.iload 4, 2) := dk_21 4 (dk_at dksX7_road_3 2 rfl rfl)
theorem dX7_road_75 : decode cX7_road 75 = .ok (.ireturn, 1) := dk_172 (dk_at dksX7_road_3 4 rfl rfl)
abbrev cX7_isTown : ByteArray := prog_19_method_5_code
def yX7_isTown : MethodName := ⟨RX7, "isTown", "(I)Z"⟩
def dkwX7_isTown_0 : List UInt8 := [27, 3, 42, 180, 0, 151, 4, 100, 184, 0, 154, 172]
abbrev dktX7_isTown_0 : List UInt8 := dkwX7_isTown_0 ++ []
theorem dksX7_isTown_0 : cX7_isTown.data.toList.drop 0 = dktX7_isTown_0 := by decide +kernel
theorem dX7_isTown_0 : decode cX7_isTown 0 = .ok (.iload_n 1, 1) := dk_27 (dk_at dksX7_isTown_0 0 rfl rfl)
theorem dX7_isTown_1 : decode cX7_isTown 1 = .ok (.iconst 0, 1) := dk_3 (dk_at dksX7_isTown_0 1 rfl rfl)
theorem dX7_isTown_2 : decode cX7_isTown 2 = .ok (.aload_n 0, 1) := dk_42 (dk_at dksX7_isTown_0 2 rfl rfl)
theorem dX7_isTown_3 : decode cX7_isTown 3 = .ok (.getfield 151, 3) := dk_180 0 151 (dk_at dksX7_isTown_0 3 rfl rfl)
theorem dX7_isTown_6 : decode cX7_isTown 6 = .ok (.iconst 1, 1) := dk_4 (dk_at dksX7_isTown_0 6 rfl rfl)
theorem dX7_isTown_7 : decode cX7_isTown 7 = .ok (.isub, 1) := dk_100 (dk_at dksX7_isTown_0 7 rfl rfl)
theorem dX7_isTown_8 : decode cX7_isTown 8 = .ok (.invokestatic 154, 3) := dk_184 0 154 (dk_at dksX7_isTown_0 8 rfl rfl)
theorem dX7_isTown_11 : decode cX7_isTown 11 = .ok (.ireturn, 1) := dk_172 (dk_at dksX7_isTown_0 11 rfl rfl)
abbrev cX7_hours : ByteArray := prog_19_method_10_code
def yX7_hours : MethodName := ⟨RX7, "hours", "(II)I"⟩
def dkwX7_hours_1 : List UInt8 := [180, 0, 89, 16, 6, 27, 104, 28, 96, 46, 172]
abbrev dktX7_hours_1 : List UInt8 := dkwX7_hours_1 ++ []
def dkwX7_hours_0 : List UInt8 := [42, 27, 182, 0, 158, 153, 0, 11, 42, 28, 182, 0, 158, 154, 0, 5, 2, 172, 42, 182, 0, 162, 42]
abbrev dktX7_hours_0 : List UInt8 := dkwX7_hours_0 ++ dktX7_hours_1
theorem dksX7_hours_0 : cX7_hours.data.toList.drop 0 = dktX7_hours_0 := by decide +kernel
theorem dksX7_hours_1 : cX7_hours.data.toList.drop 23 = dktX7_hours_1 := dk_seg dksX7_hours_0 23 rfl rfl
theorem dX7_hours_0 : decode cX7_hours 0 = .ok (.aload_n 0, 1) := dk_42 (dk_at dksX7_hours_0 0 rfl rfl)
theorem dX7_hours_1 : decode cX7_hours 1 = .ok (.iload_n 1, 1) := dk_27 (dk_at dksX7_hours_0 1 rfl rfl)
theorem dX7_hours_2 : decode cX7_hours 2 = .ok (.invokevirtual 158, 3) := dk_182 0 158 (dk_at dksX7_hours_0 2 rfl rfl)
theorem dX7_hours_5 : decode cX7_hours 5 = .ok (.ifCond .eq 11, 3) := dk_153 0 11 (dk_at dksX7_hours_0 5 rfl rfl)
theorem dX7_hours_8 : decode cX7_hours 8 = .ok (.aload_n 0, 1) := dk_42 (dk_at dksX7_hours_0 8 rfl rfl)
theorem dX7_hours_9 : decode cX7_hours 9 = .ok (.iload_n 2, 1) := dk_28 (dk_at dksX7_hours_0 9 rfl rfl)
theorem dX7_hours_10 : decode cX7_hours 10 = .ok (.invokevirtual 158, 3) := dk_182 0 158 (dk_at dksX7_hours_0 10 rfl rfl)
theorem dX7_hours_13 : decode cX7_hours 13 = .ok (.ifCond .ne 5, 3) := dk_154 0 5 (dk_at dksX7_hours_0 13 rfl rfl)
theorem dX7_hours_16 : decode cX7_hours 16 = .ok (.iconst (-1), 1) := dk_2 (dk_at dksX7_hours_0 16 rfl rfl)
theorem dX7_hours_17 : decode cX7_hours 17 = .ok (.ireturn, 1) := dk_172 (dk_at dksX7_hours_0 17 rfl rfl)
theorem dX7_hours_18 : decode cX7_hours 18 = .ok (.aload_n 0, 1) := dk_42 (dk_at dksX7_hours_0 18 rfl rfl)
theorem dX7_hours_19 : decode cX7_hours 19 = .ok (.invokevirtual 162, 3) := dk_182 0 162 (dk_at dksX7_hours_0 19 rfl rfl)
theorem dX7_hours_22 : decode cX7_hours 22 = .ok (.aload_n 0, 1) := dk_42 (dk_at dksX7_hours_0 22 rfl rfl)
theorem dX7_hours_23 : decode cX7_hours 23 = .ok (.getfield 89, 3) := dk_180 0 89 (dk_at dksX7_hours_1 0 rfl rfl)
theorem dX7_hours_26 : decode cX7_hours 26 = .ok (.bipush 6, 2) := dk_16 6 (dk_at dksX7_hours_1 3 rfl rfl)
theorem dX7_hours_28 : decode cX7_hours 28 = .ok (.iload_n 1, 1) := dk_27 (dk_at dksX7_hours_1 5 rfl rfl)
theorem dX7_hours_29 : decode cX7_hours 29 = .ok (.imul, 1) := dk_104 (dk_at dksX7_hours_1 6 rfl rfl)
theorem dX7_hours_30 : decode cX7_hours 30 = .ok (.iload_n 2, 1) := dk_28 (dk_at dksX7_hours_1 7 rfl rfl)
theorem dX7_hours_31 : decode cX7_hours 31 = .ok (.iadd, 1) := dk_96 (dk_at dksX7_hours_1 8 rfl rfl)
theorem dX7_hours_32 : decode cX7_hours 32 = .ok (.iaload, 1) := dk_46 (dk_at dksX7_hours_1 9 rfl rfl)
theorem dX7_hours_33 : decode cX7_hours 33 = .ok (.ireturn, 1) := dk_172 (dk_at dksX7_hours_1 10 rfl rfl)
abbrev cX7_spreads : ByteArray := prog_19_method_9_code
def yX7_spreads : MethodName := ⟨RX7, "spreads", "()V"⟩
def dkwX7_spreads_7 : List UInt8 := [177]
abbrev dktX7_spreads_7 : List UInt8 := dkwX7_spreads_7 ++ []
def dkwX7_spreads_6 : List UInt8 := [28, 104, 29, 96, 46, 79, 132, 3, 1, 167, 255, 177, 132, 2, 1, 167, 255, 161, 132, 1, 1, 167, 255, 145]
abbrev dktX7_spreads_6 : List UInt8 := dkwX7_spreads_6 ++ dktX7_spreads_7
def dkwX7_spreads_5 : List UInt8 := [180, 0, 89, 16, 6, 28, 104, 29, 96, 46, 162, 0, 8, 21, 4, 167, 0, 14, 42, 180, 0, 89, 16, 6]
abbrev dktX7_spreads_5 : List UInt8 := dkwX7_spreads_5 ++ dktX7_spreads_6
def dkwX7_spreads_4 : List UInt8 := [16, 6, 27, 104, 29, 96, 46, 96, 54, 4, 42, 180, 0, 89, 16, 6, 28, 104, 29, 96, 21, 4, 42]
abbrev dktX7_spreads_4 : List UInt8 := dkwX7_spreads_4 ++ dktX7_spreads_5
def dkwX7_spreads_3 : List UInt8 := [62, 29, 42, 180, 0, 151, 162, 0, 77, 42, 180, 0, 89, 16, 6, 28, 104, 27, 96, 46, 42, 180, 0, 89]
abbrev dktX7_spreads_3 : List UInt8 := dkwX7_spreads_3 ++ dktX7_spreads_4
def dkwX7_spreads_2 : List UInt8 := [167, 255, 210, 3, 60, 27, 42, 180, 0, 151, 162, 0, 109, 3, 61, 28, 42, 180, 0, 151, 162, 0, 93, 3]
abbrev dktX7_spreads_2 : List UInt8 := dkwX7_spreads_2 ++ dktX7_spreads_3
def dkwX7_spreads_1 : List UInt8 := [42, 180, 0, 22, 27, 46, 158, 0, 12, 42, 180, 0, 22, 27, 46, 167, 0, 5, 16, 99, 79, 132, 1, 1]
abbrev dktX7_spreads_1 : List UInt8 := dkwX7_spreads_1 ++ dktX7_spreads_2
def dkwX7_spreads_0 : List UInt8 := [3, 60, 27, 16, 36, 162, 0, 46, 42, 180, 0, 89, 27, 27, 16, 7, 112, 154, 0, 7, 3, 167, 0, 23]
abbrev dktX7_spreads_0 : List UInt8 := dkwX7_spreads_0 ++ dktX7_spreads_1
theorem dksX7_spreads_0 : cX7_spreads.data.toList.drop 0 = dktX7_spreads_0 := by decide +kernel
theorem dksX7_spreads_1 : cX7_spreads.data.toList.drop 24 = dktX7_spreads_1 := dk_seg dksX7_spreads_0 24 rfl rfl
theorem dksX7_spreads_2 : cX7_spreads.data.toList.drop 48 = dktX7_spreads_2 := dk_seg dksX7_spreads_1 24 rfl rfl
theorem dksX7_spreads_3 : cX7_spreads.data.toList.drop 72 = dktX7_spreads_3 := dk_seg dksX7_spreads_2 24 rfl rfl
theorem dksX7_spreads_4 : cX7_spreads.data.toList.drop 96 = dktX7_spreads_4 := dk_seg dksX7_spreads_3 24 rfl rfl
theorem dksX7_spreads_5 : cX7_spreads.data.toList.drop 119 = dktX7_spreads_5 := dk_seg dksX7_spreads_4 23 rfl rfl
theorem dksX7_spreads_6 : cX7_spreads.data.toList.drop 143 = dktX7_spreads_6 := dk_seg dksX7_spreads_5 24 rfl rfl
theorem dksX7_spreads_7 : cX7_spreads.data.toList.drop 167 = dktX7_spreads_7 := dk_seg dksX7_spreads_6 24 rfl rfl
theorem dX7_spreads_0 : decode cX7_spreads 0 = .ok (.iconst 0, 1) := dk_3 (dk_at dksX7_spreads_0 0 rfl rfl)
theorem dX7_spreads_1 : decode cX7_spreads 1 = .ok (.istore_n 1, 1) := dk_60 (dk_at dksX7_spreads_0 1 rfl rfl)
theorem dX7_spreads_2 : decode cX7_spreads 2 = .ok (.iload_n 1, 1) := dk_27 (dk_at dksX7_spreads_0 2 rfl rfl)
theorem dX7_spreads_3 : decode cX7_spreads 3 = .ok (.bipush 36, 2) := dk_16 36 (dk_at dksX7_spreads_0 3 rfl rfl)
theorem dX7_spreads_5 : decode cX7_spreads 5 = .ok (.if_icmp .ge 46, 3) := dk_162 0 46 (dk_at dksX7_spreads_0 5 rfl rfl)
theorem dX7_spreads_8 : decode cX7_spreads 8 = .ok (.aload_n 0, 1) := dk_42 (dk_at dksX7_spreads_0 8 rfl rfl)
theorem dX7_spreads_9 : decode cX7_spreads 9 = .ok (.getfield 89, 3) := dk_180 0 89 (dk_at dksX7_spreads_0 9 rfl rfl)
theorem dX7_spreads_12 : decode cX7_spreads 12 = .ok (.iload_n 1, 1) := dk_27 (dk_at dksX7_spreads_0 12 rfl rfl)
theorem dX7_spreads_13 : decode cX7_spreads 13 = .ok (.iload_n 1, 1) := dk_27 (dk_at dksX7_spreads_0 13 rfl rfl)
theorem dX7_spreads_14 : decode cX7_spreads 14 = .ok (.bipush 7, 2) := dk_16 7 (dk_at dksX7_spreads_0 14 rfl rfl)
theorem dX7_spreads_16 : decode cX7_spreads 16 = .ok (.irem, 1) := dk_112 (dk_at dksX7_spreads_0 16 rfl rfl)
theorem dX7_spreads_17 : decode cX7_spreads 17 = .ok (.ifCond .ne 7, 3) := dk_154 0 7 (dk_at dksX7_spreads_0 17 rfl rfl)
theorem dX7_spreads_20 : decode cX7_spreads 20 = .ok (.iconst 0, 1) := dk_3 (dk_at dksX7_spreads_0 20 rfl rfl)
theorem dX7_spreads_21 : decode cX7_spreads 21 = .ok (.goto 23, 3) := dk_167 0 23 (dk_at dksX7_spreads_0 21 rfl rfl)
theorem dX7_spreads_24 : decode cX7_spreads 24 = .ok (.aload_n 0, 1) := dk_42 (dk_at dksX7_spreads_1 0 rfl rfl)
theorem dX7_spreads_25 : decode cX7_spreads 25 = .ok (.getfield 22, 3) := dk_180 0 22 (dk_at dksX7_spreads_1 1 rfl rfl)
theorem dX7_spreads_28 : decode cX7_spreads 28 = .ok (.iload_n 1, 1) := dk_27 (dk_at dksX7_spreads_1 4 rfl rfl)
theorem dX7_spreads_29 : decode cX7_spreads 29 = .ok (.iaload, 1) := dk_46 (dk_at dksX7_spreads_1 5 rfl rfl)
theorem dX7_spreads_30 : decode cX7_spreads 30 = .ok (.ifCond .le 12, 3) := dk_158 0 12 (dk_at dksX7_spreads_1 6 rfl rfl)
theorem dX7_spreads_33 : decode cX7_spreads 33 = .ok (.aload_n 0, 1) := dk_42 (dk_at dksX7_spreads_1 9 rfl rfl)
theorem dX7_spreads_34 : decode cX7_spreads 34 = .ok (.getfield 22, 3) := dk_180 0 22 (dk_at dksX7_spreads_1 10 rfl rfl)
theorem dX7_spreads_37 : decode cX7_spreads 37 = .ok (.iload_n 1, 1) := dk_27 (dk_at dksX7_spreads_1 13 rfl rfl)
theorem dX7_spreads_38 : decode cX7_spreads 38 = .ok (.iaload, 1) := dk_46 (dk_at dksX7_spreads_1 14 rfl rfl)
theorem dX7_spreads_39 : decode cX7_spreads 39 = .ok (.goto 5, 3) := dk_167 0 5 (dk_at dksX7_spreads_1 15 rfl rfl)
theorem dX7_spreads_42 : decode cX7_spreads 42 = .ok (.bipush 99, 2) := dk_16 99 (dk_at dksX7_spreads_1 18 rfl rfl)
theorem dX7_spreads_44 : decode cX7_spreads 44 = .ok (.iastore, 1) := dk_79 (dk_at dksX7_spreads_1 20 rfl rfl)
theorem dX7_spreads_45 : decode cX7_spreads 45 = .ok (.iinc 1 1, 3) := dk_132 1 1 (dk_at dksX7_spreads_1 21 rfl rfl)
theorem dX7_spreads_48 : decode cX7_spreads 48 = .ok (.goto (-46), 3) := dk_167 255 210 (dk_at dksX7_spreads_2 0 rfl rfl)
theorem dX7_spreads_51 : decode cX7_spreads 51 = .ok (.iconst 0, 1) := dk_3 (dk_at dksX7_spreads_2 3 rfl rfl)
theorem dX7_spreads_52 : decode cX7_spreads 52 = .ok (.istore_n 1, 1) := dk_60 (dk_at dksX7_spreads_2 4 rfl rfl)
theorem dX7_spreads_53 : decode cX7_spreads 53 = .ok (.iload_n 1, 1) := dk_27 (dk_at dksX7_spreads_2 5 rfl rfl)
theorem dX7_spreads_54 : decode cX7_spreads 54 = .ok (.aload_n 0, 1) := dk_42 (dk_at dksX7_spreads_2 6 rfl rfl)
theorem dX7_spreads_55 : decode cX7_spreads 55 = .ok (.getfield 151, 3) := dk_180 0 151 (dk_at dksX7_spreads_2 7 rfl rfl)
theorem dX7_spreads_58 : decode cX7_spreads 58 = .ok (.if_icmp .ge 109, 3) := dk_162 0 109 (dk_at dksX7_spreads_2 10 rfl rfl)
theorem dX7_spreads_61 : decode cX7_spreads 61 = .ok (.iconst 0, 1) := dk_3 (dk_at dksX7_spreads_2 13 rfl rfl)
theorem dX7_spreads_62 : decode cX7_spreads 62 = .ok (.istore_n 2, 1) := dk_61 (dk_at dksX7_spreads_2 14 rfl rfl)
theorem dX7_spreads_63 : decode cX7_spreads 63 = .ok (.iload_n 2, 1) := dk_28 (dk_at dksX7_spreads_2 15 rfl rfl)
theorem dX7_spreads_64 : decode cX7_spreads 64 = .ok (.aload_n 0, 1) := dk_42 (dk_at dksX7_spreads_2 16 rfl rfl)
theorem dX7_spreads_65 : decode cX7_spreads 65 = .ok (.getfield 151, 3) := dk_180 0 151 (dk_at dksX7_spreads_2 17 rfl rfl)
theorem dX7_spreads_68 : decode cX7_spreads 68 = .ok (.if_icmp .ge 93, 3) := dk_162 0 93 (dk_at dksX7_spreads_2 20 rfl rfl)
theorem dX7_spreads_71 : decode cX7_spreads 71 = .ok (.iconst 0, 1) := dk_3 (dk_at dksX7_spreads_2 23 rfl rfl)
theorem dX7_spreads_72 : decode cX7_spreads 72 = .ok (.istore_n 3, 1) := dk_62 (dk_at dksX7_spreads_3 0 rfl rfl)
theorem dX7_spreads_73 : decode cX7_spreads 73 = .ok (.iload_n 3, 1) := dk_29 (dk_at dksX7_spreads_3 1 rfl rfl)
theorem dX7_spreads_74 : decode cX7_spreads 74 = .ok (.aload_n 0, 1) := dk_42 (dk_at dksX7_spreads_3 2 rfl rfl)
theorem dX7_spreads_75 : decode cX7_spreads 75 = .ok (.getfield 151, 3) := dk_180 0 151 (dk_at dksX7_spreads_3 3 rfl rfl)
theorem dX7_spreads_78 : decode cX7_spreads 78 = .ok (.if_icmp .ge 77, 3) := dk_162 0 77 (dk_at dksX7_spreads_3 6 rfl rfl)
theorem dX7_spreads_81 : decode cX7_spreads 81 = .ok (.aload_n 0, 1) := dk_42 (dk_at dksX7_spreads_3 9 rfl rfl)
theorem dX7_spreads_82 : decode cX7_spreads 82 = .ok (.getfield 89, 3) := dk_180 0 89 (dk_at dksX7_spreads_3 10 rfl rfl)
theorem dX7_spreads_85 : decode cX7_spreads 85 = .ok (.bipush 6, 2) := dk_16 6 (dk_at dksX7_spreads_3 13 rfl rfl)
theorem dX7_spreads_87 : decode cX7_spreads 87 = .ok (.iload_n 2, 1) := dk_28 (dk_at dksX7_spreads_3 15 rfl rfl)
theorem dX7_spreads_88 : decode cX7_spreads 88 = .ok (.imul, 1) := dk_104 (dk_at dksX7_spreads_3 16 rfl rfl)
theorem dX7_spreads_89 : decode cX7_spreads 89 = .ok (.iload_n 1, 1) := dk_27 (dk_at dksX7_spreads_3 17 rfl rfl)
theorem dX7_spreads_90 : decode cX7_spreads 90 = .ok (.iadd, 1) := dk_96 (dk_at dksX7_spreads_3 18 rfl rfl)
theorem dX7_spreads_91 : decode cX7_spreads 91 = .ok (.iaload, 1) := dk_46 (dk_at dksX7_spreads_3 19 rfl rfl)
theorem dX7_spreads_92 : decode cX7_spreads 92 = .ok (.aload_n 0, 1) := dk_42 (dk_at dksX7_spreads_3 20 rfl rfl)
theorem dX7_spreads_93 : decode cX7_spreads 93 = .ok (.getfield 89, 3) := dk_180 0 89 (dk_at dksX7_spreads_3 21 rfl rfl)
theorem dX7_spreads_96 : decode cX7_spreads 96 = .ok (.bipush 6, 2) := dk_16 6 (dk_at dksX7_spreads_4 0 rfl rfl)
theorem dX7_spreads_98 : decode cX7_spreads 98 = .ok (.iload_n 1, 1) := dk_27 (dk_at dksX7_spreads_4 2 rfl rfl)
theorem dX7_spreads_99 : decode cX7_spreads 99 = .ok (.imul, 1) := dk_104 (dk_at dksX7_spreads_4 3 rfl rfl)
theorem dX7_spreads_100 : decode cX7_spreads 100 = .ok (.iload_n 3, 1) := dk_29 (dk_at dksX7_spreads_4 4 rfl rfl)
theorem dX7_spreads_101 : decode cX7_spreads 101 = .ok (.iadd, 1) := dk_96 (dk_at dksX7_spreads_4 5 rfl rfl)
theorem dX7_spreads_102 : decode cX7_spreads 102 = .ok (.iaload, 1) := dk_46 (dk_at dksX7_spreads_4 6 rfl rfl)
theorem dX7_spreads_103 : decode cX7_spreads 103 = .ok (.iadd, 1) := dk_96 (dk_at dksX7_spreads_4 7 rfl rfl)
theorem dX7_spreads_104 : decode cX7_spreads 104 = .ok (.istore 4, 2) := dk_54 4 (dk_at dksX7_spreads_4 8 rfl rfl)
theorem dX7_spreads_106 : decode cX7_spreads 106 = .ok (.aload_n 0, 1) := dk_42 (dk_at dksX7_spreads_4 10 rfl rfl)
theorem dX7_spreads_107 : decode cX7_spreads 107 = .ok (.getfield 89, 3) := dk_180 0 89 (dk_at dksX7_spreads_4 11 rfl rfl)
theorem dX7_spreads_110 : decode cX7_spreads 110 = .ok (.bipush 6, 2) := dk_16 6 (dk_at dksX7_spreads_4 14 rfl rfl)
theorem dX7_spreads_112 : decode cX7_spreads 112 = .ok (.iload_n 2, 1) := dk_28 (dk_at dksX7_spreads_4 16 rfl rfl)
theorem dX7_spreads_113 : decode cX7_spreads 113 = .ok (.imul, 1) := dk_104 (dk_at dksX7_spreads_4 17 rfl rfl)
theorem dX7_spreads_114 : decode cX7_spreads 114 = .ok (.iload_n 3, 1) := dk_29 (dk_at dksX7_spreads_4 18 rfl rfl)
theorem dX7_spreads_115 : decode cX7_spreads 115 = .ok (.iadd, 1) := dk_96 (dk_at dksX7_spreads_4 19 rfl rfl)
theorem dX7_spreads_116 : decode cX7_spreads 116 = .ok (.iload 4, 2) := dk_21 4 (dk_at dksX7_spreads_4 20 rfl rfl)
theorem dX7_spreads_118 : decode cX7_spreads 118 = .ok (.aload_n 0, 1) := dk_42 (dk_at dksX7_spreads_4 22 rfl rfl)
theorem dX7_spreads_119 : decode cX7_spreads 119 = .ok (.getfield 89, 3) := dk_180 0 89 (dk_at dksX7_spreads_5 0 rfl rfl)
theorem dX7_spreads_122 : decode cX7_spreads 122 = .ok (.bipush 6, 2) := dk_16 6 (dk_at dksX7_spreads_5 3 rfl rfl)
theorem dX7_spreads_124 : decode cX7_spreads 124 = .ok (.iload_n 2, 1) := dk_28 (dk_at dksX7_spreads_5 5 rfl rfl)
theorem dX7_spreads_125 : decode cX7_spreads 125 = .ok (.imul, 1) := dk_104 (dk_at dksX7_spreads_5 6 rfl rfl)
theorem dX7_spreads_126 : decode cX7_spreads 126 = .ok (.iload_n 3, 1) := dk_29 (dk_at dksX7_spreads_5 7 rfl rfl)
theorem dX7_spreads_127 : decode cX7_spreads 127 = .ok (.iadd, 1) := dk_96 (dk_at dksX7_spreads_5 8 rfl rfl)
theorem dX7_spreads_128 : decode cX7_spreads 128 = .ok (.iaload, 1) := dk_46 (dk_at dksX7_spreads_5 9 rfl rfl)
theorem dX7_spreads_129 : decode cX7_spreads 129 = .ok (.if_icmp .ge 8, 3) := dk_162 0 8 (dk_at dksX7_spreads_5 10 rfl rfl)
theorem dX7_spreads_132 : decode cX7_spreads 132 = .ok (.iload 4, 2) := dk_21 4 (dk_at dksX7_spreads_5 13 rfl rfl)
theorem dX7_spreads_134 : decode cX7_spreads 134 = .ok (.goto 14, 3) := dk_167 0 14 (dk_at dksX7_spreads_5 15 rfl rfl)
theorem dX7_spreads_137 : decode cX7_spreads 137 = .ok (.aload_n 0, 1) := dk_42 (dk_at dksX7_spreads_5 18 rfl rfl)
theorem dX7_spreads_138 : decode cX7_spreads 138 = .ok (.getfield 89, 3) := dk_180 0 89 (dk_at dksX7_spreads_5 19 rfl rfl)
theorem dX7_spreads_141 : decode cX7_spreads 141 = .ok (.bipush 6, 2) := dk_16 6 (dk_at dksX7_spreads_5 22 rfl rfl)
theorem dX7_spreads_143 : decode cX7_spreads 143 = .ok (.iload_n 2, 1) := dk_28 (dk_at dksX7_spreads_6 0 rfl rfl)
theorem dX7_spreads_144 : decode cX7_spreads 144 = .ok (.imul, 1) := dk_104 (dk_at dksX7_spreads_6 1 rfl rfl)
theorem dX7_spreads_145 : decode cX7_spreads 145 = .ok (.iload_n 3, 1) := dk_29 (dk_at dksX7_spreads_6 2 rfl rfl)
theorem dX7_spreads_146 : decode cX7_spreads 146 = .ok (.iadd, 1) := dk_96 (dk_at dksX7_spreads_6 3 rfl rfl)
theorem dX7_spreads_147 : decode cX7_spreads 147 = .ok (.iaload, 1) := dk_46 (dk_at dksX7_spreads_6 4 rfl rfl)
theorem dX7_spreads_148 : decode cX7_spreads 148 = .ok (.iastore, 1) := dk_79 (dk_at dksX7_spreads_6 5 rfl rfl)
theorem dX7_spreads_149 : decode cX7_spreads 149 = .ok (.iinc 3 1, 3) := dk_132 3 1 (dk_at dksX7_spreads_6 6 rfl rfl)
theorem dX7_spreads_152 : decode cX7_spreads 152 = .ok (.goto (-79), 3) := dk_167 255 177 (dk_at dksX7_spreads_6 9 rfl rfl)
theorem dX7_spreads_155 : decode cX7_spreads 155 = .ok (.iinc 2 1, 3) := dk_132 2 1 (dk_at dksX7_spreads_6 12 rfl rfl)
theorem dX7_spreads_158 : decode cX7_spreads 158 = .ok (.goto (-95), 3) := dk_167 255 161 (dk_at dksX7_spreads_6 15 rfl rfl)
theorem dX7_spreads_161 : decode cX7_spreads 161 = .ok (.iinc 1 1, 3) := dk_132 1 1 (dk_at dksX7_spreads_6 18 rfl rfl)
theorem dX7_spreads_164 : decode cX7_spreads 164 = .ok (.goto (-111), 3) := dk_167 255 145 (dk_at dksX7_spreads_6 21 rfl rfl)
theorem dX7_spreads_167 : decode cX7_spreads 167 = .ok (.return_, 1) := dk_177 (dk_at dksX7_spreads_7 0 rfl rfl)
abbrev cX7_week : ByteArray := prog_19_method_11_code
def yX7_week : MethodName := ⟨RX7, "week", "(I)I"⟩
def dkwX7_week_1 : List UInt8 := [172]
abbrev dktX7_week_1 : List UInt8 := dkwX7_week_1 ++ []
def dkwX7_week_0 : List UInt8 := [27, 5, 16, 7, 184, 0, 154, 154, 0, 6, 16, 254, 172, 42, 180, 0, 25, 61, 42, 27, 181, 0, 25, 28]
abbrev dktX7_week_0 : List UInt8 := dkwX7_week_0 ++ dktX7_week_1
theorem dksX7_week_0 : cX7_week.data.toList.drop 0 = dktX7_week_0 := by decide +kernel
theorem dksX7_week_1 : cX7_week.data.toList.drop 24 = dktX7_week_1 := dk_seg dksX7_week_0 24 rfl rfl
theorem dX7_week_0 : decode cX7_week 0 = .ok (.iload_n 1, 1) := dk_27 (dk_at dksX7_week_0 0 rfl rfl)
theorem dX7_week_1 : decode cX7_week 1 = .ok (.iconst 2, 1) := dk_5 (dk_at dksX7_week_0 1 rfl rfl)
theorem dX7_week_2 : decode cX7_week 2 = .ok (.bipush 7, 2) := dk_16 7 (dk_at dksX7_week_0 2 rfl rfl)
theorem dX7_week_4 : decode cX7_week 4 = .ok (.invokestatic 154, 3) := dk_184 0 154 (dk_at dksX7_week_0 4 rfl rfl)
theorem dX7_week_7 : decode cX7_week 7 = .ok (.ifCond .ne 6, 3) := dk_154 0 6 (dk_at dksX7_week_0 7 rfl rfl)
theorem dX7_week_10 : decode cX7_week 10 = .ok (.bipush (-2), 2) := dk_16 254 (dk_at dksX7_week_0 10 rfl rfl)
theorem dX7_week_12 : decode cX7_week 12 = .ok (.ireturn, 1) := dk_172 (dk_at dksX7_week_0 12 rfl rfl)
theorem dX7_week_13 : decode cX7_week 13 = .ok (.aload_n 0, 1) := dk_42 (dk_at dksX7_week_0 13 rfl rfl)
theorem dX7_week_14 : decode cX7_week 14 = .ok (.getfield 25, 3) := dk_180 0 25 (dk_at dksX7_week_0 14 rfl rfl)
theorem dX7_week_17 : decode cX7_week 17 = .ok (.istore_n 2, 1) := dk_61 (dk_at dksX7_week_0 17 rfl rfl)
theorem dX7_week_18 : decode cX7_week 18 = .ok (.aload_n 0, 1) := dk_42 (dk_at dksX7_week_0 18 rfl rfl)
theorem dX7_week_19 : decode cX7_week 19 = .ok (.iload_n 1, 1) := dk_27 (dk_at dksX7_week_0 19 rfl rfl)
theorem dX7_week_20 : decode cX7_week 20 = .ok (.putfield 25, 3) := dk_181 0 25 (dk_at dksX7_week_0 20 rfl rfl)
theorem dX7_week_23 : decode cX7_week 23 = .ok (.iload_n 2, 1) := dk_28 (dk_at dksX7_week_0 23 rfl rfl)
theorem dX7_week_24 : decode cX7_week 24 = .ok (.ireturn, 1) := dk_172 (dk_at dksX7_week_1 0 rfl rfl)
abbrev cX7_want : ByteArray := prog_19_method_12_code
def yX7_want : MethodName := ⟨RX7, "want", "(III)I"⟩
def dkwX7_want_6 : List UInt8 := [79, 167, 0, 10, 42, 180, 0, 19, 27, 29, 79, 21, 5, 172]
abbrev dktX7_want_6 : List UInt8 := dkwX7_want_6 ++ []
def dkwX7_want_5 : List UInt8 := [154, 0, 13, 42, 180, 0, 13, 27, 29, 79, 167, 0, 25, 28, 4, 160, 0, 13, 42, 180, 0, 16, 27, 29]
abbrev dktX7_want_5 : List UInt8 := dkwX7_want_5 ++ dktX7_want_6
def dkwX7_want_4 : List UInt8 := [4, 160, 0, 12, 42, 180, 0, 16, 27, 46, 167, 0, 9, 42, 180, 0, 19, 27, 46, 54, 5, 28]
abbrev dktX7_want_4 : List UInt8 := dkwX7_want_4 ++ dktX7_want_5
def dkwX7_want_3 : List UInt8 := [54, 4, 21, 4, 154, 0, 6, 16, 249, 172, 28, 154, 0, 12, 42, 180, 0, 13, 27, 46, 167, 0, 23, 28]
abbrev dktX7_want_3 : List UInt8 := dkwX7_want_3 ++ dktX7_want_4
def dkwX7_want_2 : List UInt8 := [27, 159, 0, 21, 29, 2, 42, 180, 0, 151, 4, 100, 184, 0, 154, 153, 0, 7, 4, 167, 0, 4, 3]
abbrev dktX7_want_2 : List UInt8 := dkwX7_want_2 ++ dktX7_want_3
def dkwX7_want_1 : List UInt8 := [167, 0, 47, 28, 4, 160, 0, 13, 29, 2, 16, 6, 184, 0, 154, 167, 0, 32, 28, 5, 160, 0, 26, 29]
abbrev dktX7_want_1 : List UInt8 := dkwX7_want_1 ++ dktX7_want_2
def dkwX7_want_0 : List UInt8 := [42, 27, 182, 0, 158, 154, 0, 6, 16, 251, 172, 28, 154, 0, 13, 29, 3, 16, 127, 184, 0, 154]
abbrev dktX7_want_0 : List UInt8 := dkwX7_want_0 ++ dktX7_want_1
theorem dksX7_want_0 : cX7_want.data.toList.drop 0 = dktX7_want_0 := by decide +kernel
theorem dksX7_want_1 : cX7_want.data.toList.drop 22 = dktX7_want_1 := dk_seg dksX7_want_0 22 rfl rfl
theorem dksX7_want_2 : cX7_want.data.toList.drop 46 = dktX7_want_2 := dk_seg dksX7_want_1 24 rfl rfl
theorem dksX7_want_3 : cX7_want.data.toList.drop 69 = dktX7_want_3 := dk_seg dksX7_want_2 23 rfl rfl
theorem dksX7_want_4 : cX7_want.data.toList.drop 93 = dktX7_want_4 := dk_seg dksX7_want_3 24 rfl rfl
theorem dksX7_want_5 : cX7_want.data.toList.drop 115 = dktX7_want_5 := dk_seg dksX7_want_4 22 rfl rfl
theorem dksX7_want_6 : cX7_want.data.toList.drop 139 = dktX7_want_6 := dk_seg dksX7_want_5 24 rfl rfl
theorem dX7_want_0 : decode cX7_want 0 = .ok (.aload_n 0, 1) := dk_42 (dk_at dksX7_want_0 0 rfl rfl)
theorem dX7_want_1 : decode cX7_want 1 = .ok (.iload_n 1, 1) := dk_27 (dk_at dksX7_want_0 1 rfl rfl)
theorem dX7_want_2 : decode cX7_want 2 = .ok (.invokevirtual 158, 3) := dk_182 0 158 (dk_at dksX7_want_0 2 rfl rfl)
theorem dX7_want_5 : decode cX7_want 5 = .ok (.ifCond .ne 6, 3) := dk_154 0 6 (dk_at dksX7_want_0 5 rfl rfl)
theorem dX7_want_8 : decode cX7_want 8 = .ok (.bipush (-5), 2) := dk_16 251 (dk_at dksX7_want_0 8 rfl rfl)
theorem dX7_want_10 : decode cX7_want 10 = .ok (.ireturn, 1) := dk_172 (dk_at dksX7_want_0 10 rfl rfl)
theorem dX7_want_11 : decode cX7_want 11 = .ok (.iload_n 2, 1) := dk_28 (dk_at dksX7_want_0 11 rfl rfl)
theorem dX7_want_12 : decode cX7_want 12 = .ok (.ifCond .ne 13, 3) := dk_154 0 13 (dk_at dksX7_want_0 12 rfl rfl)
theorem dX7_want_15 : decode cX7_want 15 = .ok (.iload_n 3, 1) := dk_29 (dk_at dksX7_want_0 15 rfl rfl)
theorem dX7_want_16 : decode cX7_want 16 = .ok (.iconst 0, 1) := dk_3 (dk_at dksX7_want_0 16 rfl rfl)
theorem dX7_want_17 : decode cX7_want 17 = .ok (.bipush 127, 2) := dk_16 127 (dk_at dksX7_want_0 17 rfl rfl)
theorem dX7_want_19 : decode cX7_want 19 = .ok (.invokestatic 154, 3) := dk_184 0 154 (dk_at dksX7_want_0 19 rfl rfl)
theorem dX7_want_22 : decode cX7_want 22 = .ok (.goto 47, 3) := dk_167 0 47 (dk_at dksX7_want_1 0 rfl rfl)
theorem dX7_want_25 : decode cX7_want 25 = .ok (.iload_n 2, 1) := dk_28 (dk_at dksX7_want_1 3 rfl rfl)
theorem dX7_want_26 : decode cX7_want 26 = .ok (.iconst 1, 1) := dk_4 (dk_at dksX7_want_1 4 rfl rfl)
theorem dX7_want_27 : decode cX7_want 27 = .ok (.if_icmp .ne 13, 3) := dk_160 0 13 (dk_at dksX7_want_1 5 rfl rfl)
theorem dX7_want_30 : decode cX7_want 30 = .ok (.iload_n 3, 1) := dk_29 (dk_at dksX7_want_1 8 rfl rfl)
theorem dX7_want_31 : decode cX7_want 31 = .ok (.iconst (-1), 1) := dk_2 (dk_at dksX7_want_1 9 rfl rfl)
theorem dX7_want_32 : decode cX7_want 32 = .ok (.bipush 6, 2) := dk_16 6 (dk_at dksX7_want_1 10 rfl rfl)
theorem dX7_want_34 : decode cX7_want 34 = .ok (.invokestatic 154, 3) := dk_184 0 154 (dk_at dksX7_want_1 12 rfl rfl)
theorem dX7_want_37 : decode cX7_want 37 = .ok (.goto 32, 3) := dk_167 0 32 (dk_at dksX7_want_1 15 rfl rfl)
theorem dX7_want_40 : decode cX7_want 40 = .ok (.iload_n 2, 1) := dk_28 (dk_at dksX7_want_1 18 rfl rfl)
theorem dX7_want_41 : decode cX7_want 41 = .ok (.iconst 2, 1) := dk_5 (dk_at dksX7_want_1 19 rfl rfl)
theorem dX7_want_42 : decode cX7_want 42 = .ok (.if_icmp .ne 26, 3) := dk_160 0 26 (dk_at dksX7_want_1 20 rfl rfl)
theorem dX7_want_45 : decode cX7_want 45 = .ok (.iload_n 3, 1) := dk_29 (dk_at dksX7_want_1 23 rfl rfl)
theorem dX7_want_46 : decode cX7_want 46 = .ok (.iload_n 1, 1) := dk_27 (dk_at dksX7_want_2 0 rfl rfl)
theorem dX7_want_47 : decode cX7_want 47 = .ok (.if_icmp .eq 21, 3) := dk_159 0 21 (dk_at dksX7_want_2 1 rfl rfl)
theorem dX7_want_50 : decode cX7_want 50 = .ok (.iload_n 3, 1) := dk_29 (dk_at dksX7_want_2 4 rfl rfl)
theorem dX7_want_51 : decode cX7_want 51 = .ok (.iconst (-1), 1) := dk_2 (dk_at dksX7_want_2 5 rfl rfl)
theorem dX7_want_52 : decode cX7_want 52 = .ok (.aload_n 0, 1) := dk_42 (dk_at dksX7_want_2 6 rfl rfl)
theorem dX7_want_53 : decode cX7_want 53 = .ok (.getfield 151, 3) := dk_180 0 151 (dk_at dksX7_want_2 7 rfl rfl)
theorem dX7_want_56 : decode cX7_want 56 = .ok (.iconst 1, 1) := dk_4 (dk_at dksX7_want_2 10 rfl rfl)
theorem dX7_want_57 : decode cX7_want 57 = .ok (.isub, 1) := dk_100 (dk_at dksX7_want_2 11 rfl rfl)
theorem dX7_want_58 : decode cX7_want 58 = .ok (.invokestatic 154, 3) := dk_184 0 154 (dk_at dksX7_want_2 12 rfl rfl)
theorem dX7_want_61 : decode cX7_want 61 = .ok (.ifCond .eq 7, 3) := dk_153 0 7 (dk_at dksX7_want_2 15 rfl rfl)
theorem dX7_want_64 : decode cX7_want 64 = .ok (.iconst 1, 1) := dk_4 (dk_at dksX7_want_2 18 rfl rfl)
theorem dX7_want_65 : decode cX7_want 65 = .ok (.goto 4, 3) := dk_167 0 4 (dk_at dksX7_want_2 19 rfl rfl)
theorem dX7_want_68 : decode cX7_want 68 = .ok (.iconst 0, 1) := dk_3 (dk_at dksX7_want_2 22 rfl rfl)
theorem dX7_want_69 : decode cX7_want 69 = .ok (.istore 4, 2) := dk_54 4 (dk_at dksX7_want_3 0 rfl rfl)
theorem dX7_want_71 : decode cX7_want 71 = .ok (.iload 4, 2) := dk_21 4 (dk_at dksX7_want_3 2 rfl rfl)
theorem dX7_want_73 : decode cX7_want 73 = .ok (.ifCond .ne 6, 3) := dk_154 0 6 (dk_at dksX7_want_3 4 rfl rfl)
theorem dX7_want_76 : decode cX7_want 76 = .ok (.bipush (-7), 2) := dk_16 249 (dk_at dksX7_want_3 7 rfl rfl)
theorem dX7_want_78 : decode cX7_want 78 = .ok (.ireturn, 1) := dk_172 (dk_at dksX7_want_3 9 rfl rfl)
theorem dX7_want_79 : decode cX7_want 79 = .ok (.iload_n 2, 1) := dk_28 (dk_at dksX7_want_3 10 rfl rfl)
theorem dX7_want_80 : decode cX7_want 80 = .ok (.ifCond .ne 12, 3) := dk_154 0 12 (dk_at dksX7_want_3 11 rfl rfl)
theorem dX7_want_83 : decode cX7_want 83 = .ok (.aload_n 0, 1) := dk_42 (dk_at dksX7_want_3 14 rfl rfl)
theorem dX7_want_84 : decode cX7_want 84 = .ok (.getfield 13, 3) := dk_180 0 13 (dk_at dksX7_want_3 15 rfl rfl)
theorem dX7_want_87 : decode cX7_want 87 = .ok (.iload_n 1, 1) := dk_27 (dk_at dksX7_want_3 18 rfl rfl)
theorem dX7_want_88 : decode cX7_want 88 = .ok (.iaload, 1) := dk_46 (dk_at dksX7_want_3 19 rfl rfl)
theorem dX7_want_89 : decode cX7_want 89 = .ok (.goto 23, 3) := dk_167 0 23 (dk_at dksX7_want_3 20 rfl rfl)
theorem dX7_want_92 : decode cX7_want 92 = .ok (.iload_n 2, 1) := dk_28 (dk_at dksX7_want_3 23 rfl rfl)
theorem dX7_want_93 : decode cX7_want 93 = .ok (.iconst 1, 1) := dk_4 (dk_at dksX7_want_4 0 rfl rfl)
theorem dX7_want_94 : decode cX7_want 94 = .ok (.if_icmp .ne 12, 3) := dk_160 0 12 (dk_at dksX7_want_4 1 rfl rfl)
theorem dX7_want_97 : decode cX7_want 97 = .ok (.aload_n 0, 1) := dk_42 (dk_at dksX7_want_4 4 rfl rfl)
theorem dX7_want_98 : decode cX7_want 98 = .ok (.getfield 16, 3) := dk_180 0 16 (dk_at dksX7_want_4 5 rfl rfl)
theorem dX7_want_101 : decode cX7_want 101 = .ok (.iload_n 1, 1) := dk_27 (dk_at dksX7_want_4 8 rfl rfl)
theorem dX7_want_102 : decode cX7_want 102 = .ok (.iaload, 1) := dk_46 (dk_at dksX7_want_4 9 rfl rfl)
theorem dX7_want_103 : decode cX7_want 103 = .ok (.goto 9, 3) := dk_167 0 9 (dk_at dksX7_want_4 10 rfl rfl)
theorem dX7_want_106 : decode cX7_want 106 = .ok (.aload_n 0, 1) := dk_42 (dk_at dksX7_want_4 13 rfl rfl)
theorem dX7_want_107 : decode cX7_want 107 = .ok (.getfield 19, 3) := dk_180 0 19 (dk_at dksX7_want_4 14 rfl rfl)
theorem dX7_want_110 : decode cX7_want 110 = .ok (.iload_n 1, 1) := dk_27 (dk_at dksX7_want_4 17 rfl rfl)
theorem dX7_want_111 : decode cX7_want 111 = .ok (.iaload, 1) := dk_46 (dk_at dksX7_want_4 18 rfl rfl)
theorem dX7_want_112 : decode cX7_want 112 = .ok (.istore 5, 2) := dk_54 5 (dk_at dksX7_want_4 19 rfl rfl)
theorem dX7_want_114 : decode cX7_want 114 = .ok (.iload_n 2, 1) := dk_28 (dk_at dksX7_want_4 21 rfl rfl)
theorem dX7_want_115 : decode cX7_want 115 = .ok (.ifCond .ne 13, 3) := dk_154 0 13 (dk_at dksX7_want_5 0 rfl rfl)
theorem dX7_want_118 : decode cX7_want 118 = .ok (.aload_n 0, 1) := dk_42 (dk_at dksX7_want_5 3 rfl rfl)
theorem dX7_want_119 : decode cX7_want 119 = .ok (.getfield 13, 3) := dk_180 0 13 (dk_at dksX7_want_5 4 rfl rfl)
theorem dX7_want_122 : decode cX7_want 122 = .ok (.iload_n 1, 1) := dk_27 (dk_at dksX7_want_5 7 rfl rfl)
theorem dX7_want_123 : decode cX7_want 123 = .ok (.iload_n 3, 1) := dk_29 (dk_at dksX7_want_5 8 rfl rfl)
theorem dX7_want_124 : decode cX7_want 124 = .ok (.iastore, 1) := dk_79 (dk_at dksX7_want_5 9 rfl rfl)
theorem dX7_want_125 : decode cX7_want 125 = .ok (.goto 25, 3) := dk_167 0 25 (dk_at dksX7_want_5 10 rfl rfl)
theorem dX7_want_128 : decode cX7_want 128 = .ok (.iload_n 2, 1) := dk_28 (dk_at dksX7_want_5 13 rfl rfl)
theorem dX7_want_129 : decode cX7_want 129 = .ok (.iconst 1, 1) := dk_4 (dk_at dksX7_want_5 14 rfl rfl)
theorem dX7_want_130 : decode cX7_want 130 = .ok (.if_icmp .ne 13, 3) := dk_160 0 13 (dk_at dksX7_want_5 15 rfl rfl)
theorem dX7_want_133 : decode cX7_want 133 = .ok (.aload_n 0, 1) := dk_42 (dk_at dksX7_want_5 18 rfl rfl)
theorem dX7_want_134 : decode cX7_want 134 = .ok (.getfield 16, 3) := dk_180 0 16 (dk_at dksX7_want_5 19 rfl rfl)
theorem dX7_want_137 : decode cX7_want 137 = .ok (.iload_n 1, 1) := dk_27 (dk_at dksX7_want_5 22 rfl rfl)
theorem dX7_want_138 : decode cX7_want 138 = .ok (.iload_n 3, 1) := dk_29 (dk_at dksX7_want_5 23 rfl rfl)
theorem dX7_want_139 : decode cX7_want 139 = .ok (.iastore, 1) := dk_79 (dk_at dksX7_want_6 0 rfl rfl)
theorem dX7_want_140 : decode cX7_want 140 = .ok (.goto 10, 3) := dk_167 0 10 (dk_at dksX7_want_6 1 rfl rfl)
theorem dX7_want_143 : decode cX7_want 143 = .ok (.aload_n 0, 1) := dk_42 (dk_at dksX7_want_6 4 rfl rfl)
theorem dX7_want_144 : decode cX7_want 144 = .ok (.getfield 19, 3) := dk_180 0 19 (dk_at dksX7_want_6 5 rfl rfl)
theorem dX7_want_147 : decode cX7_want 147 = .ok (.iload_n 1, 1) := dk_27 (dk_at dksX7_want_6 8 rfl rfl)
theorem dX7_want_148 : decode cX7_want 148 = .ok (.iload_n 3, 1) := dk_29 (dk_at dksX7_want_6 9 rfl rfl)
theorem dX7_want_149 : decode cX7_want 149 = .ok (.iastore, 1) := dk_79 (dk_at dksX7_want_6 10 rfl rfl)
theorem dX7_want_150 : decode cX7_want 150 = .ok (.iload 5, 2) := dk_21 5 (dk_at dksX7_want_6 11 rfl rfl)
theorem dX7_want_152 : decode cX7_want 152 = .ok (.ireturn, 1) := dk_172 (dk_at dksX7_want_6 13 rfl rfl)
abbrev cX7_townTold : ByteArray := prog_19_method_13_code
def yX7_townTold : MethodName := ⟨RX7, "townTold", "(II)I"⟩
def dkwX7_townTold_2 : List UInt8 := [46, 167, 0, 19, 28, 6, 160, 0, 12, 42, 180, 0, 19, 27, 46, 167, 0, 5, 16, 249, 172]
abbrev dktX7_townTold_2 : List UInt8 := dkwX7_townTold_2 ++ []
def dkwX7_townTold_1 : List UInt8 := [28, 4, 160, 0, 12, 42, 180, 0, 13, 27, 46, 167, 0, 33, 28, 5, 160, 0, 12, 42, 180, 0, 16, 27]
abbrev dktX7_townTold_1 : List UInt8 := dkwX7_townTold_1 ++ dktX7_townTold_2
def dkwX7_townTold_0 : List UInt8 := [42, 27, 182, 0, 158, 154, 0, 6, 16, 251, 172, 28, 154, 0, 12, 42, 180, 0, 7, 27, 46, 167, 0, 47]
abbrev dktX7_townTold_0 : List UInt8 := dkwX7_townTold_0 ++ dktX7_townTold_1
theorem dksX7_townTold_0 : cX7_townTold.data.toList.drop 0 = dktX7_townTold_0 := by decide +kernel
theorem dksX7_townTold_1 : cX7_townTold.data.toList.drop 24 = dktX7_townTold_1 := dk_seg dksX7_townTold_0 24 rfl rfl
theorem dksX7_townTold_2 : cX7_townTold.data.toList.drop 48 = dktX7_townTold_2 := dk_seg dksX7_townTold_1 24 rfl rfl
theorem dX7_townTold_0 : decode cX7_townTold 0 = .ok (.aload_n 0, 1) := dk_42 (dk_at dksX7_townTold_0 0 rfl rfl)
theorem dX7_townTold_1 : decode cX7_townTold 1 = .ok (.iload_n 1, 1) := dk_27 (dk_at dksX7_townTold_0 1 rfl rfl)
theorem dX7_townTold_2 : decode cX7_townTold 2 = .ok (.invokevirtual 158, 3) := dk_182 0 158 (dk_at dksX7_townTold_0 2 rfl rfl)
theorem dX7_townTold_5 : decode cX7_townTold 5 = .ok (.ifCond .ne 6, 3) := dk_154 0 6 (dk_at dksX7_townTold_0 5 rfl rfl)
theorem dX7_townTold_8 : decode cX7_townTold 8 = .ok (.bipush (-5), 2) := dk_16 251 (dk_at dksX7_townTold_0 8 rfl rfl)
theorem dX7_townTold_10 : decode cX7_townTold 10 = .ok (.ireturn, 1) := dk_172 (dk_at dksX7_townTold_0 10 rfl rfl)
theorem dX7_townTold_11 : decode cX7_townTold 11 = .ok (.iload_n 2, 1) := dk_28 (dk_at dksX7_townTold_0 11 rfl rfl)
theorem dX7_townTold_12 : decode cX7_townTold 12 = .ok (.ifCond .ne 12, 3) := dk_154 0 12 (dk_at dksX7_townTold_0 12 rfl rfl)
theorem dX7_townTold_15 : decode cX7_townTold 15 = .ok (.aload_n 0, 1) := dk_42 (dk_at dksX7_townTold_0 15 rfl rfl)
theorem dX7_townTold_16 : decode cX7_townTold 16 = .ok (.getfield 7, 3) := dk_180 0 7 (dk_at dksX7_townTold_0 16 rfl rfl)
theorem dX7_townTold_19 : decode cX7_townTold 19 = .ok (.iload_n 1, 1) := dk_27 (dk_at dksX7_townTold_0 19 rfl rfl)
theorem dX7_townTold_20 : decode cX7_townTold 20 = .ok (.iaload, 1) := dk_46 (dk_at dksX7_townTold_0 20 rfl rfl)
theorem dX7_townTold_21 : decode cX7_townTold 21 = .ok (.goto 47, 3) := dk_167 0 47 (dk_at dksX7_townTold_0 21 rfl rfl)
theorem dX7_townTold_24 : decode cX7_townTold 24 = .ok (.iload_n 2, 1) := dk_28 (dk_at dksX7_townTold_1 0 rfl rfl)
theorem dX7_townTold_25 : decode cX7_townTold 25 = .ok (.iconst 1, 1) := dk_4 (dk_at dksX7_townTold_1 1 rfl rfl)
theorem dX7_townTold_26 : decode cX7_townTold 26 = .ok (.if_icmp .ne 12, 3) := dk_160 0 12 (dk_at dksX7_townTold_1 2 rfl rfl)
theorem dX7_townTold_29 : decode cX7_townTold 29 = .ok (.aload_n 0, 1) := dk_42 (dk_at dksX7_townTold_1 5 rfl rfl)
theorem dX7_townTold_30 : decode cX7_townTold 30 = .ok (.getfield 13, 3) := dk_180 0 13 (dk_at dksX7_townTold_1 6 rfl rfl)
theorem dX7_townTold_33 : decode cX7_townTold 33 = .ok (.iload_n 1, 1) := dk_27 (dk_at dksX7_townTold_1 9 rfl rfl)
theorem dX7_townTold_34 : decode cX7_townTold 34 = .ok (.iaload, 1) := dk_46 (dk_at dksX7_townTold_1 10 rfl rfl)
theorem dX7_townTold_35 : decode cX7_townTold 35 = .ok (.goto 33, 3) := dk_167 0 33 (dk_at dksX7_townTold_1 11 rfl rfl)
theorem dX7_townTold_38 : decode cX7_townTold 38 = .ok (.iload_n 2, 1) := dk_28 (dk_at dksX7_townTold_1 14 rfl rfl)
theorem dX7_townTold_39 : decode cX7_townTold 39 = .ok (.iconst 2, 1) := dk_5 (dk_at dksX7_townTold_1 15 rfl rfl)
theorem dX7_townTold_40 : decode cX7_townTold 40 = .ok (.if_icmp .ne 12, 3) := dk_160 0 12 (dk_at dksX7_townTold_1 16 rfl rfl)
theorem dX7_townTold_43 : decode cX7_townTold 43 = .ok (.aload_n 0, 1) := dk_42 (dk_at dksX7_townTold_1 19 rfl rfl)
theorem dX7_townTold_44 : decode cX7_townTold 44 = .ok (.getfield 16, 3) := dk_180 0 16 (dk_at dksX7_townTold_1 20 rfl rfl)
theorem dX7_townTold_47 : decode cX7_townTold 47 = .ok (.iload_n 1, 1) := dk_27 (dk_at dksX7_townTold_1 23 rfl rfl)
theorem dX7_townTold_48 : decode cX7_townTold 48 = .ok (.iaload, 1) := dk_46 (dk_at dksX7_townTold_2 0 rfl rfl)
theorem dX7_townTold_49 : decode cX7_townTold 49 = .ok (.goto 19, 3) := dk_167 0 19 (dk_at dksX7_townTold_2 1 rfl rfl)
theorem dX7_townTold_52 : decode cX7_townTold 52 = .ok (.iload_n 2, 1) := dk_28 (dk_at dksX7_townTold_2 4 rfl rfl)
theorem dX7_townTold_53 : decode cX7_townTold 53 = .ok (.iconst 3, 1) := dk_6 (dk_at dksX7_townTold_2 5 rfl rfl)
theorem dX7_townTold_54 : decode cX7_townTold 54 = .ok (.if_icmp .ne 12, 3) := dk_160 0 12 (dk_at dksX7_townTold_2 6 rfl rfl)
theorem dX7_townTold_57 : decode cX7_townTold 57 = .ok (.aload_n 0, 1) := dk_42 (dk_at dksX7_townTold_2 9 rfl rfl)
theorem dX7_townTold_58 : decode cX7_townTold 58 = .ok (.getfield 19, 3) := dk_180 0 19 (dk_at dksX7_townTold_2 10 rfl rfl)
theorem dX7_townTold_61 : decode cX7_townTold 61 = .ok (.iload_n 1, 1) := dk_27 (dk_at dksX7_townTold_2 13 rfl rfl)
theorem dX7_townTold_62 : decode cX7_townTold 62 = .ok (.iaload, 1) := dk_46 (dk_at dksX7_townTold_2 14 rfl rfl)
theorem dX7_townTold_63 : decode cX7_townTold 63 = .ok (.goto 5, 3) := dk_167 0 5 (dk_at dksX7_townTold_2 15 rfl rfl)
theorem dX7_townTold_66 : decode cX7_townTold 66 = .ok (.bipush (-7), 2) := dk_16 249 (dk_at dksX7_townTold_2 18 rfl rfl)
theorem dX7_townTold_68 : decode cX7_townTold 68 = .ok (.ireturn, 1) := dk_172 (dk_at dksX7_townTold_2 20 rfl rfl)
abbrev cX7_feast : ByteArray := prog_19_method_14_code
def yX7_feast : MethodName := ⟨RX7, "feast", "(II)I"⟩
def dkwX7_feast_2 : List UInt8 := [180, 0, 168, 28, 79, 42, 89, 180, 0, 168, 4, 96, 181, 0, 168, 42, 180, 0, 168, 172]
abbrev dktX7_feast_2 : List UInt8 := dkwX7_feast_2 ++ []
def dkwX7_feast_1 : List UInt8 := [16, 10, 160, 0, 6, 16, 252, 172, 42, 180, 0, 29, 42, 180, 0, 168, 27, 79, 42, 180, 0, 32, 42]
abbrev dktX7_feast_1 : List UInt8 := dkwX7_feast_1 ++ dktX7_feast_2
def dkwX7_feast_0 : List UInt8 := [27, 184, 0, 165, 153, 0, 13, 28, 3, 16, 6, 184, 0, 154, 154, 0, 6, 16, 254, 172, 42, 180, 0, 168]
abbrev dktX7_feast_0 : List UInt8 := dkwX7_feast_0 ++ dktX7_feast_1
theorem dksX7_feast_0 : cX7_feast.data.toList.drop 0 = dktX7_feast_0 := by decide +kernel
theorem dksX7_feast_1 : cX7_feast.data.toList.drop 24 = dktX7_feast_1 := dk_seg dksX7_feast_0 24 rfl rfl
theorem dksX7_feast_2 : cX7_feast.data.toList.drop 47 = dktX7_feast_2 := dk_seg dksX7_feast_1 23 rfl rfl
theorem dX7_feast_0 : decode cX7_feast 0 = .ok (.iload_n 1, 1) := dk_27 (dk_at dksX7_feast_0 0 rfl rfl)
theorem dX7_feast_1 : decode cX7_feast 1 = .ok (.invokestatic 165, 3) := dk_184 0 165 (dk_at dksX7_feast_0 1 rfl rfl)
theorem dX7_feast_4 : decode cX7_feast 4 = .ok (.ifCond .eq 13, 3) := dk_153 0 13 (dk_at dksX7_feast_0 4 rfl rfl)
theorem dX7_feast_7 : decode cX7_feast 7 = .ok (.iload_n 2, 1) := dk_28 (dk_at dksX7_feast_0 7 rfl rfl)
theorem dX7_feast_8 : decode cX7_feast 8 = .ok (.iconst 0, 1) := dk_3 (dk_at dksX7_feast_0 8 rfl rfl)
theorem dX7_feast_9 : decode cX7_feast 9 = .ok (.bipush 6, 2) := dk_16 6 (dk_at dksX7_feast_0 9 rfl rfl)
theorem dX7_feast_11 : decode cX7_feast 11 = .ok (.invokestatic 154, 3) := dk_184 0 154 (dk_at dksX7_feast_0 11 rfl rfl)
theorem dX7_feast_14 : decode cX7_feast 14 = .ok (.ifCond .ne 6, 3) := dk_154 0 6 (dk_at dksX7_feast_0 14 rfl rfl)
theorem dX7_feast_17 : decode cX7_feast 17 = .ok (.bipush (-2), 2) := dk_16 254 (dk_at dksX7_feast_0 17 rfl rfl)
theorem dX7_feast_19 : decode cX7_feast 19 = .ok (.ireturn, 1) := dk_172 (dk_at dksX7_feast_0 19 rfl rfl)
theorem dX7_feast_20 : decode cX7_feast 20 = .ok (.aload_n 0, 1) := dk_42 (dk_at dksX7_feast_0 20 rfl rfl)
theorem dX7_feast_21 : decode cX7_feast 21 = .ok (.getfield 168, 3) := dk_180 0 168 (dk_at dksX7_feast_0 21 rfl rfl)
theorem dX7_feast_24 : decode cX7_feast 24 = .ok (.bipush 10, 2) := dk_16 10 (dk_at dksX7_feast_1 0 rfl rfl)
theorem dX7_feast_26 : decode cX7_feast 26 = .ok (.if_icmp .ne 6, 3) := dk_160 0 6 (dk_at dksX7_feast_1 2 rfl rfl)
theorem dX7_feast_29 : decode cX7_feast 29 = .ok (.bipush (-4), 2) := dk_16 252 (dk_at dksX7_feast_1 5 rfl rfl)
theorem dX7_feast_31 : decode cX7_feast 31 = .ok (.ireturn, 1) := dk_172 (dk_at dksX7_feast_1 7 rfl rfl)
theorem dX7_feast_32 : decode cX7_feast 32 = .ok (.aload_n 0, 1) := dk_42 (dk_at dksX7_feast_1 8 rfl rfl)
theorem dX7_feast_33 : decode cX7_feast 33 = .ok (.getfield 29, 3) := dk_180 0 29 (dk_at dksX7_feast_1 9 rfl rfl)
theorem dX7_feast_36 : decode cX7_feast 36 = .ok (.aload_n 0, 1) := dk_42 (dk_at dksX7_feast_1 12 rfl rfl)
theorem dX7_feast_37 : decode cX7_feast 37 = .ok (.getfield 168, 3) := dk_180 0 168 (dk_at dksX7_feast_1 13 rfl rfl)
theorem dX7_feast_40 : decode cX7_feast 40 = .ok (.iload_n 1, 1) := dk_27 (dk_at dksX7_feast_1 16 rfl rfl)
theorem dX7_feast_41 : decode cX7_feast 41 = .ok (.iastore, 1) := dk_79 (dk_at dksX7_feast_1 17 rfl rfl)
theorem dX7_feast_42 : decode cX7_feast 42 = .ok (.aload_n 0, 1) := dk_42 (dk_at dksX7_feast_1 18 rfl rfl)
theorem dX7_feast_43 : decode cX7_feast 43 = .ok (.getfield 32, 3) := dk_180 0 32 (dk_at dksX7_feast_1 19 rfl rfl)
theorem dX7_feast_46 : decode cX7_feast 46 = .ok (.aload_n 0, 1) := dk_42 (dk_at dksX7_feast_1 22 rfl rfl)
theorem dX7_feast_47 : decode cX7_feast 47 = .ok (.getfield 168, 3) := dk_180 0 168 (dk_at dksX7_feast_2 0 rfl rfl)
theorem dX7_feast_50 : decode cX7_feast 50 = .ok (.iload_n 2, 1) := dk_28 (dk_at dksX7_feast_2 3 rfl rfl)
theorem dX7_feast_51 : decode cX7_feast 51 = .ok (.iastore, 1) := dk_79 (dk_at dksX7_feast_2 4 rfl rfl)
theorem dX7_feast_52 : decode cX7_feast 52 = .ok (.aload_n 0, 1) := dk_42 (dk_at dksX7_feast_2 5 rfl rfl)
theorem dX7_feast_53 : decode cX7_feast 53 = .ok (.dup, 1) := dk_89 (dk_at dksX7_feast_2 6 rfl rfl)
theorem dX7_feast_54 : decode cX7_feast 54 = .ok (.getfield 168, 3) := dk_180 0 168 (dk_at dksX7_feast_2 7 rfl rfl)
theorem dX7_feast_57 : decode cX7_feast 57 = .ok (.iconst 1, 1) := dk_4 (dk_at dksX7_feast_2 10 rfl rfl)
theorem dX7_feast_58 : decode cX7_feast 58 = .ok (.iadd, 1) := dk_96 (dk_at dksX7_feast_2 11 rfl rfl)
theorem dX7_feast_59 : decode cX7_feast 59 = .ok (.putfield 168, 3) := dk_181 0 168 (dk_at dksX7_feast_2 12 rfl rfl)
theorem dX7_feast_62 : decode cX7_feast 62 = .ok (.aload_n 0, 1) := dk_42 (dk_at dksX7_feast_2 15 rfl rfl)
theorem dX7_feast_63 : decode cX7_feast 63 = .ok (.getfield 168, 3) := dk_180 0 168 (dk_at dksX7_feast_2 16 rfl rfl)
theorem dX7_feast_66 : decode cX7_feast 66 = .ok (.ireturn, 1) := dk_172 (dk_at dksX7_feast_2 19 rfl rfl)
abbrev cX7_isWeek : ByteArray := prog_19_method_6_code
def yX7_isWeek : MethodName := ⟨RX7, "isWeek", "(I)Z"⟩
def dkwX7_isWeek_0 : List UInt8 := [26, 3, 16, 99, 184, 0, 154, 172]
abbrev dktX7_isWeek_0 : List UInt8 := dkwX7_isWeek_0 ++ []
theorem dksX7_isWeek_0 : cX7_isWeek.data.toList.drop 0 = dktX7_isWeek_0 := by decide +kernel
theorem dX7_isWeek_0 : decode cX7_isWeek 0 = .ok (.iload_n 0, 1) := dk_26 (dk_at dksX7_isWeek_0 0 rfl rfl)
theorem dX7_isWeek_1 : decode cX7_isWeek 1 = .ok (.iconst 0, 1) := dk_3 (dk_at dksX7_isWeek_0 1 rfl rfl)
theorem dX7_isWeek_2 : decode cX7_isWeek 2 = .ok (.bipush 99, 2) := dk_16 99 (dk_at dksX7_isWeek_0 2 rfl rfl)
theorem dX7_isWeek_4 : decode cX7_isWeek 4 = .ok (.invokestatic 154, 3) := dk_184 0 154 (dk_at dksX7_isWeek_0 4 rfl rfl)
theorem dX7_isWeek_7 : decode cX7_isWeek 7 = .ok (.ireturn, 1) := dk_172 (dk_at dksX7_isWeek_0 7 rfl rfl)
abbrev cX7_feed : ByteArray := prog_19_method_15_code
def yX7_feed : MethodName := ⟨RX7, "feed", "(JI)I"⟩
def dkwX7_feed_3 : List UInt8 := [132, 4, 255, 167, 255, 217, 42, 180, 0, 171, 172]
abbrev dktX7_feed_3 : List UInt8 := dkwX7_feed_3 ++ []
def dkwX7_feed_2 : List UInt8 := [31, 16, 8, 21, 4, 104, 123, 20, 0, 174, 127, 136, 79, 42, 89, 180, 0, 171, 4, 96, 181, 0, 171]
abbrev dktX7_feed_2 : List UInt8 := dkwX7_feed_2 ++ dktX7_feed_3
def dkwX7_feed_1 : List UInt8 := [164, 0, 6, 16, 252, 172, 29, 4, 100, 54, 4, 21, 4, 155, 0, 40, 42, 180, 0, 35, 42, 180, 0, 171]
abbrev dktX7_feed_1 : List UInt8 := dkwX7_feed_1 ++ dktX7_feed_2
def dkwX7_feed_0 : List UInt8 := [29, 4, 16, 8, 184, 0, 154, 154, 0, 6, 16, 254, 172, 42, 180, 0, 171, 29, 96, 17, 0, 160]
abbrev dktX7_feed_0 : List UInt8 := dkwX7_feed_0 ++ dktX7_feed_1
theorem dksX7_feed_0 : cX7_feed.data.toList.drop 0 = dktX7_feed_0 := by decide +kernel
theorem dksX7_feed_1 : cX7_feed.data.toList.drop 22 = dktX7_feed_1 := dk_seg dksX7_feed_0 22 rfl rfl
theorem dksX7_feed_2 : cX7_feed.data.toList.drop 46 = dktX7_feed_2 := dk_seg dksX7_feed_1 24 rfl rfl
theorem dksX7_feed_3 : cX7_feed.data.toList.drop 69 = dktX7_feed_3 := dk_seg dksX7_feed_2 23 rfl rfl
theorem dX7_feed_0 : decode cX7_feed 0 = .ok (.iload_n 3, 1) := dk_29 (dk_at dksX7_feed_0 0 rfl rfl)
theorem dX7_feed_1 : decode cX7_feed 1 = .ok (.iconst 1, 1) := dk_4 (dk_at dksX7_feed_0 1 rfl rfl)
theorem dX7_feed_2 : decode cX7_feed 2 = .ok (.bipush 8, 2) := dk_16 8 (dk_at dksX7_feed_0 2 rfl rfl)
theorem dX7_feed_4 : decode cX7_feed 4 = .ok (.invokestatic 154, 3) := dk_184 0 154 (dk_at dksX7_feed_0 4 rfl rfl)
theorem dX7_feed_7 : decode cX7_feed 7 = .ok (.ifCond .ne 6, 3) := dk_154 0 6 (dk_at dksX7_feed_0 7 rfl rfl)
theorem dX7_feed_10 : decode cX7_feed 10 = .ok (.bipush (-2), 2) := dk_16 254 (dk_at dksX7_feed_0 10 rfl rfl)
theorem dX7_feed_12 : decode cX7_feed 12 = .ok (.ireturn, 1) := dk_172 (dk_at dksX7_feed_0 12 rfl rfl)
theorem dX7_feed_13 : decode cX7_feed 13 = .ok (.aload_n 0, 1) := dk_42 (dk_at dksX7_feed_0 13 rfl rfl)
theorem dX7_feed_14 : decode cX7_feed 14 = .ok (.getfield 171, 3) := dk_180 0 171 (dk_at dksX7_feed_0 14 rfl rfl)
theorem dX7_feed_17 : decode cX7_feed 17 = .ok (.iload_n 3, 1) := dk_29 (dk_at dksX7_feed_0 17 rfl rfl)
theorem dX7_feed_18 : decode cX7_feed 18 = .ok (.iadd, 1) := dk_96 (dk_at dksX7_feed_0 18 rfl rfl)
theorem dX7_feed_19 : decode cX7_feed 19 = .ok (.sipush 160, 3) := dk_17 0 160 (dk_at dksX7_feed_0 19 rfl rfl)
theorem dX7_feed_22 : decode cX7_feed 22 = .ok (.if_icmp .le 6, 3) := dk_164 0 6 (dk_at dksX7_feed_1 0 rfl rfl)
theorem dX7_feed_25 : decode cX7_feed 25 = .ok (.bipush (-4), 2) := dk_16 252 (dk_at dksX7_feed_1 3 rfl rfl)
theorem dX7_feed_27 : decode cX7_feed 27 = .ok (.ireturn, 1) := dk_172 (dk_at dksX7_feed_1 5 rfl rfl)
theorem dX7_feed_28 : decode cX7_feed 28 = .ok (.iload_n 3, 1) := dk_29 (dk_at dksX7_feed_1 6 rfl rfl)
theorem dX7_feed_29 : decode cX7_feed 29 = .ok (.iconst 1, 1) := dk_4 (dk_at dksX7_feed_1 7 rfl rfl)
theorem dX7_feed_30 : decode cX7_feed 30 = .ok (.isub, 1) := dk_100 (dk_at dksX7_feed_1 8 rfl rfl)
theorem dX7_feed_31 : decode cX7_feed 31 = .ok (.istore 4, 2) := dk_54 4 (dk_at dksX7_feed_1 9 rfl rfl)
theorem dX7_feed_33 : decode cX7_feed 33 = .ok (.iload 4, 2) := dk_21 4 (dk_at dksX7_feed_1 11 rfl rfl)
theorem dX7_feed_35 : decode cX7_feed 35 = .ok (.ifCond .lt 40, 3) := dk_155 0 40 (dk_at dksX7_feed_1 13 rfl rfl)
theorem dX7_feed_38 : decode cX7_feed 38 = .ok (.aload_n 0, 1) := dk_42 (dk_at dksX7_feed_1 16 rfl rfl)
theorem dX7_feed_39 : decode cX7_feed 39 = .ok (.getfield 35, 3) := dk_180 0 35 (dk_at dksX7_feed_1 17 rfl rfl)
theorem dX7_feed_42 : decode cX7_feed 42 = .ok (.aload_n 0, 1) := dk_42 (dk_at dksX7_feed_1 20 rfl rfl)
theorem dX7_feed_43 : decode cX7_feed 43 = .ok (.getfield 171, 3) := dk_180 0 171 (dk_at dksX7_feed_1 21 rfl rfl)
theorem dX7_feed_46 : decode cX7_feed 46 = .ok (.lload_n 1, 1) := dk_31 (dk_at dksX7_feed_2 0 rfl rfl)
theorem dX7_feed_47 : decode cX7_feed 47 = .ok (.bipush 8, 2) := dk_16 8 (dk_at dksX7_feed_2 1 rfl rfl)
theorem dX7_feed_49 : decode cX7_feed 49 = .ok (.iload 4, 2) := dk_21 4 (dk_at dksX7_feed_2 3 rfl rfl)
theorem dX7_feed_51 : decode cX7_feed 51 = .ok (.imul, 1) := dk_104 (dk_at dksX7_feed_2 5 rfl rfl)
theorem dX7_feed_52 : decode cX7_feed 52 = .ok (.lshr, 1) := dk_123 (dk_at dksX7_feed_2 6 rfl rfl)
theorem dX7_feed_53 : decode cX7_feed 53 = .ok (.ldc2_w 174, 3) := dk_20 0 174 (dk_at dksX7_feed_2 7 rfl rfl)
theorem dX7_feed_56 : decode cX7_feed 56 = .ok (.land, 1) := dk_127 (dk_at dksX7_feed_2 10 rfl rfl)
theorem dX7_feed_57 : decode cX7_feed 57 = .ok (.l2i, 1) := dk_136 (dk_at dksX7_feed_2 11 rfl rfl)
theorem dX7_feed_58 : decode cX7_feed 58 = .ok (.iastore, 1) := dk_79 (dk_at dksX7_feed_2 12 rfl rfl)
theorem dX7_feed_59 : decode cX7_feed 59 = .ok (.aload_n 0, 1) := dk_42 (dk_at dksX7_feed_2 13 rfl rfl)
theorem dX7_feed_60 : decode cX7_feed 60 = .ok (.dup, 1) := dk_89 (dk_at dksX7_feed_2 14 rfl rfl)
theorem dX7_feed_61 : decode cX7_feed 61 = .ok (.getfield 171, 3) := dk_180 0 171 (dk_at dksX7_feed_2 15 rfl rfl)
theorem dX7_feed_64 : decode cX7_feed 64 = .ok (.iconst 1, 1) := dk_4 (dk_at dksX7_feed_2 18 rfl rfl)
theorem dX7_feed_65 : decode cX7_feed 65 = .ok (.iadd, 1) := dk_96 (dk_at dksX7_feed_2 19 rfl rfl)
theorem dX7_feed_66 : decode cX7_feed 66 = .ok (.putfield 171, 3) := dk_181 0 171 (dk_at dksX7_feed_2 20 rfl rfl)
theorem dX7_feed_69 : decode cX7_feed 69 = .ok (.iinc 4 (-1), 3) := dk_132 4 255 (dk_at dksX7_feed_3 0 rfl rfl)
theorem dX7_feed_72 : decode cX7_feed 72 = .ok (.goto (-39), 3) := dk_167 255 217 (dk_at dksX7_feed_3 3 rfl rfl)
theorem dX7_feed_75 : decode cX7_feed 75 = .ok (.aload_n 0, 1) := dk_42 (dk_at dksX7_feed_3 6 rfl rfl)
theorem dX7_feed_76 : decode cX7_feed 76 = .ok (.getfield 171, 3) := dk_180 0 171 (dk_at dksX7_feed_3 7 rfl rfl)
theorem dX7_feed_79 : decode cX7_feed 79 = .ok (.ireturn, 1) := dk_172 (dk_at dksX7_feed_3 10 rfl rfl)
abbrev cX7_text : ByteArray := prog_19_method_26_code
def yX7_text : MethodName := ⟨RX7, "text", "()I"⟩
def dkwX7_text_7 : List UInt8 := [181, 0, 44, 42, 180, 0, 44, 4, 100, 172]
abbrev dktX7_text_7 : List UInt8 := dkwX7_text_7 ++ []
def dkwX7_text_6 : List UInt8 := [181, 0, 171, 27, 154, 0, 11, 16, 156, 42, 180, 0, 179, 100, 172, 42, 89, 180, 0, 44, 4, 96]
abbrev dktX7_text_6 : List UInt8 := dkwX7_text_6 ++ dktX7_text_7
def dkwX7_text_5 : List UInt8 := [167, 0, 4, 3, 60, 42, 180, 0, 41, 7, 42, 180, 0, 44, 104, 5, 96, 42, 180, 0, 192, 79, 42, 3]
abbrev dktX7_text_5 : List UInt8 := dkwX7_text_5 ++ dktX7_text_6
def dkwX7_text_4 : List UInt8 := [132, 2, 1, 167, 255, 184, 27, 153, 0, 20, 42, 182, 0, 215, 42, 180, 0, 182, 154, 0, 7, 4]
abbrev dktX7_text_4 : List UInt8 := dkwX7_text_4 ++ dktX7_text_5
def dkwX7_text_3 : List UInt8 := [96, 42, 180, 0, 192, 79, 27, 153, 0, 14, 42, 182, 0, 229, 153, 0, 7, 4, 167, 0, 4, 3, 60]
abbrev dktX7_text_3 : List UInt8 := dkwX7_text_3 ++ dktX7_text_4
def dkwX7_text_2 : List UInt8 := [180, 0, 185, 28, 160, 0, 7, 4, 167, 0, 4, 3, 60, 42, 180, 0, 41, 7, 42, 180, 0, 44, 104, 28]
abbrev dktX7_text_2 : List UInt8 := dkwX7_text_2 ++ dktX7_text_3
def dkwX7_text_1 : List UInt8 := [3, 61, 28, 5, 162, 0, 73, 27, 153, 0, 69, 42, 182, 0, 215, 42, 180, 0, 182, 6, 160, 0, 15, 42]
abbrev dktX7_text_1 : List UInt8 := dkwX7_text_1 ++ dktX7_text_2
def dkwX7_text_0 : List UInt8 := [42, 180, 0, 44, 16, 6, 160, 0, 6, 16, 252, 172, 42, 3, 181, 0, 176, 42, 3, 181, 0, 192, 4, 60]
abbrev dktX7_text_0 : List UInt8 := dkwX7_text_0 ++ dktX7_text_1
theorem dksX7_text_0 : cX7_text.data.toList.drop 0 = dktX7_text_0 := by decide +kernel
theorem dksX7_text_1 : cX7_text.data.toList.drop 24 = dktX7_text_1 := dk_seg dksX7_text_0 24 rfl rfl
theorem dksX7_text_2 : cX7_text.data.toList.drop 48 = dktX7_text_2 := dk_seg dksX7_text_1 24 rfl rfl
theorem dksX7_text_3 : cX7_text.data.toList.drop 72 = dktX7_text_3 := dk_seg dksX7_text_2 24 rfl rfl
theorem dksX7_text_4 : cX7_text.data.toList.drop 95 = dktX7_text_4 := dk_seg dksX7_text_3 23 rfl rfl
theorem dksX7_text_5 : cX7_text.data.toList.drop 117 = dktX7_text_5 := dk_seg dksX7_text_4 22 rfl rfl
theorem dksX7_text_6 : cX7_text.data.toList.drop 141 = dktX7_text_6 := dk_seg dksX7_text_5 24 rfl rfl
theorem dksX7_text_7 : cX7_text.data.toList.drop 163 = dktX7_text_7 := dk_seg dksX7_text_6 22 rfl rfl
theorem dX7_text_0 : decode cX7_text 0 = .ok (.aload_n 0, 1) := dk_42 (dk_at dksX7_text_0 0 rfl rfl)
theorem dX7_text_1 : decode cX7_text 1 = .ok (.getfield 44, 3) := dk_180 0 44 (dk_at dksX7_text_0 1 rfl rfl)
theorem dX7_text_4 : decode cX7_text 4 = .ok (.bipush 6, 2) := dk_16 6 (dk_at dksX7_text_0 4 rfl rfl)
theorem dX7_text_6 : decode cX7_text 6 = .ok (.if_icmp .ne 6, 3) := dk_160 0 6 (dk_at dksX7_text_0 6 rfl rfl)
theorem dX7_text_9 : decode cX7_text 9 = .ok (.bipush (-4), 2) := dk_16 252 (dk_at dksX7_text_0 9 rfl rfl)
theorem dX7_text_11 : decode cX7_text 11 = .ok (.ireturn, 1) := dk_172 (dk_at dksX7_text_0 11 rfl rfl)
theorem dX7_text_12 : decode cX7_text 12 = .ok (.aload_n 0, 1) := dk_42 (dk_at dksX7_text_0 12 rfl rfl)
theorem dX7_text_13 : decode cX7_text 13 = .ok (.iconst 0, 1) := dk_3 (dk_at dksX7_text_0 13 rfl rfl)
theorem dX7_text_14 : decode cX7_text 14 = .ok (.putfield 176, 3) := dk_181 0 176 (dk_at dksX7_text_0 14 rfl rfl)
theorem dX7_text_17 : decode cX7_text 17 = .ok (.aload_n 0, 1) := dk_42 (dk_at dksX7_text_0 17 rfl rfl)
theorem dX7_text_18 : decode cX7_text 18 = .ok (.iconst 0, 1) := dk_3 (dk_at dksX7_text_0 18 rfl rfl)
theorem dX7_text_19 : decode cX7_text 19 = .ok (.putfield 192, 3) := dk_181 0 192 (dk_at dksX7_text_0 19 rfl rfl)
theorem dX7_text_22 : decode cX7_text 22 = .ok (.iconst 1, 1) := dk_4 (dk_at dksX7_text_0 22 rfl rfl)
theorem dX7_text_23 : decode cX7_text 23 = .ok (.istore_n 1, 1) := dk_60 (dk_at dksX7_text_0 23 rfl rfl)
theorem dX7_text_24 : decode cX7_text 24 = .ok (.iconst 0, 1) := dk_3 (dk_at dksX7_text_1 0 rfl rfl)
theorem dX7_text_25 : decode cX7_text 25 = .ok (.istore_n 2, 1) := dk_61 (dk_at dksX7_text_1 1 rfl rfl)
theorem dX7_text_26 : decode cX7_text 26 = .ok (.iload_n 2, 1) := dk_28 (dk_at dksX7_text_1 2 rfl rfl)
theorem dX7_text_27 : decode cX7_text 27 = .ok (.iconst 2, 1) := dk_5 (dk_at dksX7_text_1 3 rfl rfl)
theorem dX7_text_28 : decode cX7_text 28 = .ok (.if_icmp .ge 73, 3) := dk_162 0 73 (dk_at dksX7_text_1 4 rfl rfl)
theorem dX7_text_31 : decode cX7_text 31 = .ok (.iload_n 1, 1) := dk_27 (dk_at dksX7_text_1 7 rfl rfl)
theorem dX7_text_32 : decode cX7_text 32 = .ok (.ifCond .eq 69, 3) := dk_153 0 69 (dk_at dksX7_text_1 8 rfl rfl)
theorem dX7_text_35 : decode cX7_text 35 = .ok (.aload_n 0, 1) := dk_42 (dk_at dksX7_text_1 11 rfl rfl)
theorem dX7_text_36 : decode cX7_text 36 = .ok (.invokevirtual 215, 3) := dk_182 0 215 (dk_at dksX7_text_1 12 rfl rfl)
theorem dX7_text_39 : decode cX7_text 39 = .ok (.aload_n 0, 1) := dk_42 (dk_at dksX7_text_1 15 rfl rfl)
theorem dX7_text_40 : decode cX7_text 40 = .ok (.getfield 182, 3) := dk_180 0 182 (dk_at dksX7_text_1 16 rfl rfl)
theorem dX7_text_43 : decode cX7_text 43 = .ok (.iconst 3, 1) := dk_6 (dk_at dksX7_text_1 19 rfl rfl)
theorem dX7_text_44 : decode cX7_text 44 = .ok (.if_icmp .ne 15, 3) := dk_160 0 15 (dk_at dksX7_text_1 20 rfl rfl)
theorem dX7_text_47 : decode cX7_text 47 = .ok (.aload_n 0, 1) := dk_42 (dk_at dksX7_text_1 23 rfl rfl)
theorem dX7_text_48 : decode cX7_text 48 = .ok (.getfield 185, 3) := dk_180 0 185 (dk_at dksX7_text_2 0 rfl rfl)
theorem dX7_text_51 : decode cX7_text 51 = .ok (.iload_n 2, 1) := dk_28 (dk_at dksX7_text_2 3 rfl rfl)
theorem dX7_text_52 : decode cX7_text 52 = .ok (.if_icmp .ne 7, 3) := dk_160 0 7 (dk_at dksX7_text_2 4 rfl rfl)
theorem dX7_text_55 : decode cX7_text 55 = .ok (.iconst 1, 1) := dk_4 (dk_at dksX7_text_2 7 rfl rfl)
theorem dX7_text_56 : decode cX7_text 56 = .ok (.goto 4, 3) := dk_167 0 4 (dk_at dksX7_text_2 8 rfl rfl)
theorem dX7_text_59 : decode cX7_text 59 = .ok (.iconst 0, 1) := dk_3 (dk_at dksX7_text_2 11 rfl rfl)
theorem dX7_text_60 : decode cX7_text 60 = .ok (.istore_n 1, 1) := dk_60 (dk_at dksX7_text_2 12 rfl rfl)
theorem dX7_text_61 : decode cX7_text 61 = .ok (.aload_n 0, 1) := dk_42 (dk_at dksX7_text_2 13 rfl rfl)
theorem dX7_text_62 : decode cX7_text 62 = .ok (.getfield 41, 3) := dk_180 0 41 (dk_at dksX7_text_2 14 rfl rfl)
theorem dX7_text_65 : decode cX7_text 65 = .ok (.iconst 4, 1) := dk_7 (dk_at dksX7_text_2 17 rfl rfl)
theorem dX7_text_66 : decode cX7_text 66 = .ok (.aload_n 0, 1) := dk_42 (dk_at dksX7_text_2 18 rfl rfl)
theorem dX7_text_67 : decode cX7_text 67 = .ok (.getfield 44, 3) := dk_180 0 44 (dk_at dksX7_text_2 19 rfl rfl)
theorem dX7_text_70 : decode cX7_text 70 = .ok (.imul, 1) := dk_104 (dk_at dksX7_text_2 22 rfl rfl)
theorem dX7_text_71 : decode cX7_text 71 = .ok (.iload_n 2, 1) := dk_28 (dk_at dksX7_text_2 23 rfl rfl)
theorem dX7_text_72 : decode cX7_text 72 = .ok (.iadd, 1) := dk_96 (dk_at dksX7_text_3 0 rfl rfl)
theorem dX7_text_73 : decode cX7_text 73 = .ok (.aload_n 0, 1) := dk_42 (dk_at dksX7_text_3 1 rfl rfl)
theorem dX7_text_74 : decode cX7_text 74 = .ok (.getfield 192, 3) := dk_180 0 192 (dk_at dksX7_text_3 2 rfl rfl)
theorem dX7_text_77 : decode cX7_text 77 = .ok (.iastore, 1) := dk_79 (dk_at dksX7_text_3 5 rfl rfl)
theorem dX7_text_78 : decode cX7_text 78 = .ok (.iload_n 1, 1) := dk_27 (dk_at dksX7_text_3 6 rfl rfl)
theorem dX7_text_79 : decode cX7_text 79 = .ok (.ifCond .eq 14, 3) := dk_153 0 14 (dk_at dksX7_text_3 7 rfl rfl)
theorem dX7_text_82 : decode cX7_text 82 = .ok (.aload_n 0, 1) := dk_42 (dk_at dksX7_text_3 10 rfl rfl)
theorem dX7_text_83 : decode cX7_text 83 = .ok (.invokevirtual 229, 3) := dk_182 0 229 (dk_at dksX7_text_3 11 rfl rfl)
theorem dX7_text_86 : decode cX7_text 86 = .ok (.ifCond .eq 7, 3) := dk_153 0 7 (dk_at dksX7_text_3 14 rfl rfl)
theorem dX7_text_89 : decode cX7_text 89 = .ok (.iconst 1, 1) := dk_4 (dk_at dksX7_text_3 17 rfl rfl)
theorem dX7_text_90 : decode cX7_text 90 = .ok (.goto 4, 3) := dk_167 0 4 (dk_at dksX7_text_3 18 rfl rfl)
theorem dX7_text_93 : decode cX7_text 93 = .ok (.iconst 0, 1) := dk_3 (dk_at dksX7_text_3 21 rfl rfl)
theorem dX7_text_94 : decode cX7_text 94 = .ok (.istore_n 1, 1) := dk_60 (dk_at dksX7_text_3 22 rfl rfl)
theorem dX7_text_95 : decode cX7_text 95 = .ok (.iinc 2 1, 3) := dk_132 2 1 (dk_at dksX7_text_4 0 rfl rfl)
theorem dX7_text_98 : decode cX7_text 98 = .ok (.goto (-72), 3) := dk_167 255 184 (dk_at dksX7_text_4 3 rfl rfl)
theorem dX7_text_101 : decode cX7_text 101 = .ok (.iload_n 1, 1) := dk_27 (dk_at dksX7_text_4 6 rfl rfl)
theorem dX7_text_102 : decode cX7_text 102 = .ok (.ifCond .eq 20, 3) := dk_153 0 20 (dk_at dksX7_text_4 7 rfl rfl)
theorem dX7_text_105 : decode cX7_text 105 = .ok (.aload_n 0, 1) := dk_42 (dk_at dksX7_text_4 10 rfl rfl)
theorem dX7_text_106 : decode cX7_text 106 = .ok (.invokevirtual 215, 3) := dk_182 0 215 (dk_at dksX7_text_4 11 rfl rfl)
theorem dX7_text_109 : decode cX7_text 109 = .ok (.aload_n 0, 1) := dk_42 (dk_at dksX7_text_4 14 rfl rfl)
theorem dX7_text_110 : decode cX7_text 110 = .ok (.getfield 182, 3) := dk_180 0 182 (dk_at dksX7_text_4 15 rfl rfl)
theorem dX7_text_113 : decode cX7_text 113 = .ok (.ifCond .ne 7, 3) := dk_154 0 7 (dk_at dksX7_text_4 18 rfl rfl)
theorem dX7_text_116 : decode cX7_text 116 = .ok (.iconst 1, 1) := dk_4 (dk_at dksX7_text_4 21 rfl rfl)
theorem dX7_text_117 : decode cX7_text 117 = .ok (.goto 4, 3) := dk_167 0 4 (dk_at dksX7_text_5 0 rfl rfl)
theorem dX7_text_120 : decode cX7_text 120 = .ok (.iconst 0, 1) := dk_3 (dk_at dksX7_text_5 3 rfl rfl)
theorem dX7_text_121 : decode cX7_text 121 = .ok (.istore_n 1, 1) := dk_60 (dk_at dksX7_text_5 4 rfl rfl)
theorem dX7_text_122 : decode cX7_text 122 = .ok (.aload_n 0, 1) := dk_42 (dk_at dksX7_text_5 5 rfl rfl)
theorem dX7_text_123 : decode cX7_text 123 = .ok (.getfield 41, 3) := dk_180 0 41 (dk_at dksX7_text_5 6 rfl rfl)
theorem dX7_text_126 : decode cX7_text 126 = .ok (.iconst 4, 1) := dk_7 (dk_at dksX7_text_5 9 rfl rfl)
theorem dX7_text_127 : decode cX7_text 127 = .ok (.aload_n 0, 1) := dk_42 (dk_at dksX7_text_5 10 rfl rfl)
theorem dX7_text_128 : decode cX7_text 128 = .ok (.getfield 44, 3) := dk_180 0 44 (dk_at dksX7_text_5 11 rfl rfl)
theorem dX7_text_131 : decode cX7_text 131 = .ok (.imul, 1) := dk_104 (dk_at dksX7_text_5 14 rfl rfl)
theorem dX7_text_132 : decode cX7_text 132 = .ok (.iconst 2, 1) := dk_5 (dk_at dksX7_text_5 15 rfl rfl)
theorem dX7_text_133 : decode cX7_text 133 = .ok (.iadd, 1) := dk_96 (dk_at dksX7_text_5 16 rfl rfl)
theorem dX7_text_134 : decode cX7_text 134 = .ok (.aload_n 0, 1) := dk_42 (dk_at dksX7_text_5 17 rfl rfl)
theorem dX7_text_135 : decode cX7_text 135 = .ok (.getfield 192, 3) := dk_180 0 192 (dk_at dksX7_text_5 18 rfl rfl)
theorem dX7_text_138 : decode cX7_text 138 = .ok (.iastore, 1) := dk_79 (dk_at dksX7_text_5 21 rfl rfl)
theorem dX7_text_139 : decode cX7_text 139 = .ok (.aload_n 0, 1) := dk_42 (dk_at dksX7_text_5 22 rfl rfl)
theorem dX7_text_140 : decode cX7_text 140 = .ok (.iconst 0, 1) := dk_3 (dk_at dksX7_text_5 23 rfl rfl)
theorem dX7_text_141 : decode cX7_text 141 = .ok (.putfield 171, 3) := dk_181 0 171 (dk_at dksX7_text_6 0 rfl rfl)
theorem dX7_text_144 : decode cX7_text 144 = .ok (.iload_n 1, 1) := dk_27 (dk_at dksX7_text_6 3 rfl rfl)
theorem dX7_text_145 : decode cX7_text 145 = .ok (.ifCond .ne 11, 3) := dk_154 0 11 (dk_at dksX7_text_6 4 rfl rfl)
theorem dX7_text_148 : decode cX7_text 148 = .ok (.bipush (-100), 2) := dk_16 156 (dk_at dksX7_text_6 7 rfl rfl)
theorem dX7_text_150 : decode cX7_text 150 = .ok (.aload_n 0, 1) := dk_42 (dk_at dksX7_text_6 9 rfl rfl)
theorem dX7_text_151 : decode cX7_text 151 = .ok (.getfield 179, 3) := dk_180 0 179 (dk_at dksX7_text_6 10 rfl rfl)
theorem dX7_text_154 : decode cX7_text 154 = .ok (.isub, 1) := dk_100 (dk_at dksX7_text_6 13 rfl rfl)
theorem dX7_text_155 : decode cX7_text 155 = .ok (.ireturn, 1) := dk_172 (dk_at dksX7_text_6 14 rfl rfl)
theorem dX7_text_156 : decode cX7_text 156 = .ok (.aload_n 0, 1) := dk_42 (dk_at dksX7_text_6 15 rfl rfl)
theorem dX7_text_157 : decode cX7_text 157 = .ok (.dup, 1) := dk_89 (dk_at dksX7_text_6 16 rfl rfl)
theorem dX7_text_158 : decode cX7_text 158 = .ok (.getfield 44, 3) := dk_180 0 44 (dk_at dksX7_text_6 17 rfl rfl)
theorem dX7_text_161 : decode cX7_text 161 = .ok (.iconst 1, 1) := dk_4 (dk_at dksX7_text_6 20 rfl rfl)
theorem dX7_text_162 : decode cX7_text 162 = .ok (.iadd, 1) := dk_96 (dk_at dksX7_text_6 21 rfl rfl)
theorem dX7_text_163 : decode cX7_text 163 = .ok (.putfield 44, 3) := dk_181 0 44 (dk_at dksX7_text_7 0 rfl rfl)
theorem dX7_text_166 : decode cX7_text 166 = .ok (.aload_n 0, 1) := dk_42 (dk_at dksX7_text_7 3 rfl rfl)
theorem dX7_text_167 : decode cX7_text 167 = .ok (.getfield 44, 3) := dk_180 0 44 (dk_at dksX7_text_7 4 rfl rfl)
theorem dX7_text_170 : decode cX7_text 170 = .ok (.iconst 1, 1) := dk_4 (dk_at dksX7_text_7 7 rfl rfl)
theorem dX7_text_171 : decode cX7_text 171 = .ok (.isub, 1) := dk_100 (dk_at dksX7_text_7 8 rfl rfl)
theorem dX7_text_172 : decode cX7_text 172 = .ok (.ireturn, 1) := dk_172 (dk_at dksX7_text_7 9 rfl rfl)
abbrev cX7_next : ByteArray := prog_19_method_17_code
def yX7_next : MethodName := ⟨RX7, "next", "()V"⟩
def dkwX7_next_16 : List UInt8 := [181, 0, 182, 42, 89, 180, 0, 176, 4, 96, 181, 0, 176, 177]
abbrev dktX7_next_16 : List UInt8 := dkwX7_next_16 ++ []
def dkwX7_next_15 : List UInt8 := [27, 16, 61, 160, 0, 7, 4, 167, 0, 4, 3, 61, 42, 28, 153, 0, 7, 27, 167, 0, 4, 2]
abbrev dktX7_next_15 : List UInt8 := dkwX7_next_15 ++ dktX7_next_16
def dkwX7_next_14 : List UInt8 := [27, 16, 43, 159, 0, 27, 27, 16, 45, 159, 0, 21, 27, 16, 42, 159, 0, 15, 27, 16, 60, 159, 0, 9]
abbrev dktX7_next_14 : List UInt8 := dkwX7_next_14 ++ dktX7_next_15
def dkwX7_next_13 : List UInt8 := [181, 0, 182, 167, 0, 80, 27, 16, 40, 159, 0, 45, 27, 16, 41, 159, 0, 39, 27, 16, 59, 159, 0, 33]
abbrev dktX7_next_13 : List UInt8 := dkwX7_next_13 ++ dktX7_next_14
def dkwX7_next_12 : List UInt8 := [89, 180, 0, 176, 4, 96, 181, 0, 176, 167, 255, 180, 42, 28, 7, 164, 0, 7, 2, 167, 0, 4, 4]
abbrev dktX7_next_12 : List UInt8 := dkwX7_next_12 ++ dktX7_next_13
def dkwX7_next_11 : List UInt8 := [42, 180, 0, 35, 42, 180, 0, 176, 46, 96, 16, 48, 100, 167, 0, 4, 3, 181, 0, 185, 132, 2, 1, 42]
abbrev dktX7_next_11 : List UInt8 := dkwX7_next_11 ++ dktX7_next_12
def dkwX7_next_10 : List UInt8 := [46, 16, 48, 16, 57, 184, 0, 154, 153, 0, 52, 42, 28, 7, 162, 0, 26, 16, 10, 42, 180, 0, 185, 104]
abbrev dktX7_next_10 : List UInt8 := dkwX7_next_10 ++ dktX7_next_11
def dkwX7_next_9 : List UInt8 := [153, 0, 101, 3, 61, 42, 180, 0, 176, 42, 180, 0, 171, 162, 0, 71, 42, 180, 0, 35, 42, 180, 0, 176]
abbrev dktX7_next_9 : List UInt8 := dkwX7_next_9 ++ dktX7_next_10
def dkwX7_next_8 : List UInt8 := [21, 4, 167, 0, 7, 21, 4, 5, 100, 181, 0, 185, 167, 0, 189, 27, 16, 48, 16, 57, 184, 0, 154]
abbrev dktX7_next_8 : List UInt8 := dkwX7_next_8 ++ dktX7_next_9
def dkwX7_next_7 : List UInt8 := [160, 0, 7, 2, 167, 0, 10, 7, 21, 4, 96, 16, 8, 100, 181, 0, 182, 42, 21, 4, 5, 162, 0, 8]
abbrev dktX7_next_7 : List UInt8 := dkwX7_next_7 ++ dktX7_next_8
def dkwX7_next_6 : List UInt8 := [5, 162, 0, 7, 6, 167, 0, 32, 21, 4, 16, 8, 162, 0, 7, 5, 167, 0, 21, 21, 4, 16, 11]
abbrev dktX7_next_6 : List UInt8 := dkwX7_next_6 ++ dktX7_next_7
def dkwX7_next_5 : List UInt8 := [162, 0, 21, 42, 180, 0, 114, 21, 4, 47, 32, 148, 153, 0, 9, 132, 4, 1, 167, 255, 234, 42, 21, 4]
abbrev dktX7_next_5 : List UInt8 := dkwX7_next_5 ++ dktX7_next_6
def dkwX7_next_4 : List UInt8 := [16, 97, 16, 122, 184, 0, 154, 153, 0, 101, 42, 182, 0, 188, 65, 3, 54, 4, 21, 4, 16, 11]
abbrev dktX7_next_4 : List UInt8 := dkwX7_next_4 ++ dktX7_next_5
def dkwX7_next_3 : List UInt8 := [42, 180, 0, 176, 42, 180, 0, 171, 160, 0, 4, 177, 42, 180, 0, 35, 42, 180, 0, 176, 46, 60, 27]
abbrev dktX7_next_3 : List UInt8 := dkwX7_next_3 ++ dktX7_next_4
def dkwX7_next_2 : List UInt8 := [181, 0, 176, 167, 255, 207, 42, 42, 180, 0, 176, 181, 0, 179, 42, 3, 181, 0, 182, 42, 3, 181, 0, 185]
abbrev dktX7_next_2 : List UInt8 := dkwX7_next_2 ++ dktX7_next_3
def dkwX7_next_1 : List UInt8 := [159, 0, 17, 42, 180, 0, 35, 42, 180, 0, 176, 46, 16, 10, 160, 0, 16, 42, 89, 180, 0, 176, 4, 96]
abbrev dktX7_next_1 : List UInt8 := dkwX7_next_1 ++ dktX7_next_2
def dkwX7_next_0 : List UInt8 := [42, 180, 0, 176, 42, 180, 0, 171, 162, 0, 44, 42, 180, 0, 35, 42, 180, 0, 176, 46, 16, 32]
abbrev dktX7_next_0 : List UInt8 := dkwX7_next_0 ++ dktX7_next_1
theorem dksX7_next_0 : cX7_next.data.toList.drop 0 = dktX7_next_0 := by decide +kernel
theorem dksX7_next_1 : cX7_next.data.toList.drop 22 = dktX7_next_1 := dk_seg dksX7_next_0 22 rfl rfl
theorem dksX7_next_2 : cX7_next.data.toList.drop 46 = dktX7_next_2 := dk_seg dksX7_next_1 24 rfl rfl
theorem dksX7_next_3 : cX7_next.data.toList.drop 70 = dktX7_next_3 := dk_seg dksX7_next_2 24 rfl rfl
theorem dksX7_next_4 : cX7_next.data.toList.drop 93 = dktX7_next_4 := dk_seg dksX7_next_3 23 rfl rfl
theorem dksX7_next_5 : cX7_next.data.toList.drop 115 = dktX7_next_5 := dk_seg dksX7_next_4 22 rfl rfl
theorem dksX7_next_6 : cX7_next.data.toList.drop 139 = dktX7_next_6 := dk_seg dksX7_next_5 24 rfl rfl
theorem dksX7_next_7 : cX7_next.data.toList.drop 162 = dktX7_next_7 := dk_seg dksX7_next_6 23 rfl rfl
theorem dksX7_next_8 : cX7_next.data.toList.drop 186 = dktX7_next_8 := dk_seg dksX7_next_7 24 rfl rfl
theorem dksX7_next_9 : cX7_next.data.toList.drop 209 = dktX7_next_9 := dk_seg dksX7_next_8 23 rfl rfl
theorem dksX7_next_10 : cX7_next.data.toList.drop 233 = dktX7_next_10 := dk_seg dksX7_next_9 24 rfl rfl
theorem dksX7_next_11 : cX7_next.data.toList.drop 257 = dktX7_next_11 := dk_seg dksX7_next_10 24 rfl rfl
theorem dksX7_next_12 : cX7_next.data.toList.drop 281 = dktX7_next_12 := dk_seg dksX7_next_11 24 rfl rfl
theorem dksX7_next_13 : cX7_next.data.toList.drop 304 = dktX7_next_13 := dk_seg dksX7_next_12 23 rfl rfl
theorem dksX7_next_14 : cX7_next.data.toList.drop 328 = dktX7_next_14 := dk_seg dksX7_next_13 24 rfl rfl
theorem dksX7_next_15 : cX7_next.data.toList.drop 352 = dktX7_next_15 := dk_seg dksX7_next_14 24 rfl rfl
theorem dksX7_next_16 : cX7_next.data.toList.drop 374 = dktX7_next_16 := dk_seg dksX7_next_15 22 rfl rfl
theorem dX7_next_0 : decode cX7_next 0 = .ok (.aload_n 0, 1) := dk_42 (dk_at dksX7_next_0 0 rfl rfl)
theorem dX7_next_1 : decode cX7_next 1 = .ok (.getfield 176, 3) := dk_180 0 176 (dk_at dksX7_next_0 1 rfl rfl)
theorem dX7_next_4 : decode cX7_next 4 = .ok (.aload_n 0, 1) := dk_42 (dk_at dksX7_next_0 4 rfl rfl)
theorem dX7_next_5 : decode cX7_next 5 = .ok (.getfield 171, 3) := dk_180 0 171 (dk_at dksX7_next_0 5 rfl rfl)
theorem dX7_next_8 : decode cX7_next 8 = .ok (.if_icmp .ge 44, 3) := dk_162 0 44 (dk_at dksX7_next_0 8 rfl rfl)
theorem dX7_next_11 : decode cX7_next 11 = .ok (.aload_n 0, 1) := dk_42 (dk_at dksX7_next_0 11 rfl rfl)
theorem dX7_next_12 : decode cX7_next 12 = .ok (.getfield 35, 3) := dk_180 0 35 (dk_at dksX7_next_0 12 rfl rfl)
theorem dX7_next_15 : decode cX7_next 15 = .ok (.aload_n 0, 1) := dk_42 (dk_at dksX7_next_0 15 rfl rfl)
theorem dX7_next_16 : decode cX7_next 16 = .ok (.getfield 176, 3) := dk_180 0 176 (dk_at dksX7_next_0 16 rfl rfl)
theorem dX7_next_19 : decode cX7_next 19 = .ok (.iaload, 1) := dk_46 (dk_at dksX7_next_0 19 rfl rfl)
theorem dX7_next_20 : decode cX7_next 20 = .ok (.bipush 32, 2) := dk_16 32 (dk_at dksX7_next_0 20 rfl rfl)
theorem dX7_next_22 : decode cX7_next 22 = .ok (.if_icmp .eq 17, 3) := dk_159 0 17 (dk_at dksX7_next_1 0 rfl rfl)
theorem dX7_next_25 : decode cX7_next 25 = .ok (.aload_n 0, 1) := dk_42 (dk_at dksX7_next_1 3 rfl rfl)
theorem dX7_next_26 : decode cX7_next 26 = .ok (.getfield 35, 3) := dk_180 0 35 (dk_at dksX7_next_1 4 rfl rfl)
theorem dX7_next_29 : decode cX7_next 29 = .ok (.aload_n 0, 1) := dk_42 (dk_at dksX7_next_1 7 rfl rfl)
theorem dX7_next_30 : decode cX7_next 30 = .ok (.getfield 176, 3) := dk_180 0 176 (dk_at dksX7_next_1 8 rfl rfl)
theorem dX7_next_33 : decode cX7_next 33 = .ok (.iaload, 1) := dk_46 (dk_at dksX7_next_1 11 rfl rfl)
theorem dX7_next_34 : decode cX7_next 34 = .ok (.bipush 10, 2) := dk_16 10 (dk_at dksX7_next_1 12 rfl rfl)
theorem dX7_next_36 : decode cX7_next 36 = .ok (.if_icmp .ne 16, 3) := dk_160 0 16 (dk_at dksX7_next_1 14 rfl rfl)
theorem dX7_next_39 : decode cX7_next 39 = .ok (.aload_n 0, 1) := dk_42 (dk_at dksX7_next_1 17 rfl rfl)
theorem dX7_next_40 : decode cX7_next 40 = .ok (.dup, 1) := dk_89 (dk_at dksX7_next_1 18 rfl rfl)
theorem dX7_next_41 : decode cX7_next 41 = .ok (.getfield 176, 3) := dk_180 0 176 (dk_at dksX7_next_1 19 rfl rfl)
theorem dX7_next_44 : decode cX7_next 44 = .ok (.iconst 1, 1) := dk_4 (dk_at dksX7_next_1 22 rfl rfl)
theorem dX7_next_45 : decode cX7_next 45 = .ok (.iadd, 1) := dk_96 (dk_at dksX7_next_1 23 rfl rfl)
theorem dX7_next_46 : decode cX7_next 46 = .ok (.putfield 176, 3) := dk_181 0 176 (dk_at dksX7_next_2 0 rfl rfl)
theorem dX7_next_49 : decode cX7_next 49 = .ok (.goto (-49), 3) := dk_167 255 207 (dk_at dksX7_next_2 3 rfl rfl)
theorem dX7_next_52 : decode cX7_next 52 = .ok (.aload_n 0, 1) := dk_42 (dk_at dksX7_next_2 6 rfl rfl)
theorem dX7_next_53 : decode cX7_next 53 = .ok (.aload_n 0, 1) := dk_42 (dk_at dksX7_next_2 7 rfl rfl)
theorem dX7_next_54 : decode cX7_next 54 = .ok (.getfield 176, 3) := dk_180 0 176 (dk_at dksX7_next_2 8 rfl rfl)
theorem dX7_next_57 : decode cX7_next 57 = .ok (.putfield 179, 3) := dk_181 0 179 (dk_at dksX7_next_2 11 rfl rfl)
theorem dX7_next_60 : decode cX7_next 60 = .ok (.aload_n 0, 1) := dk_42 (dk_at dksX7_next_2 14 rfl rfl)
theorem dX7_next_61 : decode cX7_next 61 = .ok (.iconst 0, 1) := dk_3 (dk_at dksX7_next_2 15 rfl rfl)
theorem dX7_next_62 : decode cX7_next 62 = .ok (.putfield 182, 3) := dk_181 0 182 (dk_at dksX7_next_2 16 rfl rfl)
theorem dX7_next_65 : decode cX7_next 65 = .ok (.aload_n 0, 1) := dk_42 (dk_at dksX7_next_2 19 rfl rfl)
theorem dX7_next_66 : decode cX7_next 66 = .ok (.iconst 0, 1) := dk_3 (dk_at dksX7_next_2 20 rfl rfl)
theorem dX7_next_67 : decode cX7_next 67 = .ok (.putfield 185, 3) := dk_181 0 185 (dk_at dksX7_next_2 21 rfl rfl)
theorem dX7_next_70 : decode cX7_next 70 = .ok (.aload_n 0, 1) := dk_42 (dk_at dksX7_next_3 0 rfl rfl)
theorem dX7_next_71 : decode cX7_next 71 = .ok (.getfield 176, 3) := dk_180 0 176 (dk_at dksX7_next_3 1 rfl rfl)
theorem dX7_next_74 : decode cX7_next 74 = .ok (.aload_n 0, 1) := dk_42 (dk_at dksX7_next_3 4 rfl rfl)
theorem dX7_next_75 : decode cX7_next 75 = .ok (.getfield 171, 3) := dk_180 0 171 (dk_at dksX7_next_3 5 rfl rfl)
theorem dX7_next_78 : decode cX7_next 78 = .ok (.if_icmp .ne 4, 3) := dk_160 0 4 (dk_at dksX7_next_3 8 rfl rfl)
theorem dX7_next_81 : decode cX7_next 81 = .ok (.return_, 1) := dk_177 (dk_at dksX7_next_3 11 rfl rfl)
theorem dX7_next_82 : decode cX7_next 82 = .ok (.aload_n 0, 1) := dk_42 (dk_at dksX7_next_3 12 rfl rfl)
theorem dX7_next_83 : decode cX7_next 83 = .ok (.getfield 35, 3) := dk_180 0 35 (dk_at dksX7_next_3 13 rfl rfl)
theorem dX7_next_86 : decode cX7_next 86 = .ok (.aload_n 0, 1) := dk_42 (dk_at dksX7_next_3 16 rfl rfl)
theorem dX7_next_87 : decode cX7_next 87 = .ok (.getfield 176, 3) := dk_180 0 176 (dk_at dksX7_next_3 17 rfl rfl)
theorem dX7_next_90 : decode cX7_next 90 = .ok (.iaload, 1) := dk_46 (dk_at dksX7_next_3 20 rfl rfl)
theorem dX7_next_91 : decode cX7_next 91 = .ok (.istore_n 1, 1) := dk_60 (dk_at dksX7_next_3 21 rfl rfl)
theorem dX7_next_92 : decode cX7_next 92 = .ok (.iload_n 1, 1) := dk_27 (dk_at dksX7_next_3 22 rfl rfl)
theorem dX7_next_93 : decode cX7_next 93 = .ok (.bipush 97, 2) := dk_16 97 (dk_at dksX7_next_4 0 rfl rfl)
theorem dX7_next_95 : decode cX7_next 95 = .ok (.bipush 122, 2) := dk_16 122 (dk_at dksX7_next_4 2 rfl rfl)
theorem dX7_next_97 : decode cX7_next 97 = .ok (.invokestatic 154, 3) := dk_184 0 154 (dk_at dksX7_next_4 4 rfl rfl)
theorem dX7_next_100 : decode cX7_next 100 = .ok (.ifCond .eq 101, 3) := dk_153 0 101 (dk_at dksX7_next_4 7 rfl rfl)
theorem dX7_next_103 : decode cX7_next 103 = .ok (.aload_n 0, 1) := dk_42 (dk_at dksX7_next_4 10 rfl rfl)
theorem dX7_next_104 : decode cX7_next 104 = .ok (.invokevirtual 188, 3) := dk_182 0 188 (dk_at dksX7_next_4 11 rfl rfl)
theorem dX7_next_107 : decode cX7_next 107 = .ok (.lstore_n 2, 1) := dk_65 (dk_at dksX7_next_4 14 rfl rfl)
theorem dX7_next_108 : decode cX7_next 108 = .ok (.iconst 0, 1) := dk_3 (dk_at dksX7_next_4 15 rfl rfl)
theorem dX7_next_109 : decode cX7_next 109 = .ok (.istore 4, 2) := dk_54 4 (dk_at dksX7_next_4 16 rfl rfl)
theorem dX7_next_111 : decode cX7_next 111 = .ok (.iload 4, 2) := dk_21 4 (dk_at dksX7_next_4 18 rfl rfl)
theorem dX7_next_113 : decode cX7_next 113 = .ok (.bipush 11, 2) := dk_16 11 (dk_at dksX7_next_4 20 rfl rfl)
theorem dX7_next_115 : decode cX7_next 115 = .ok (.if_icmp .ge 21, 3) := dk_162 0 21 (dk_at dksX7_next_5 0 rfl rfl)
theorem dX7_next_118 : decode cX7_next 118 = .ok (.aload_n 0, 1) := dk_42 (dk_at dksX7_next_5 3 rfl rfl)
theorem dX7_next_119 : decode cX7_next 119 = .ok (.getfield 114, 3) := dk_180 0 114 (dk_at dksX7_next_5 4 rfl rfl)
theorem dX7_next_122 : decode cX7_next 122 = .ok (.iload 4, 2) := dk_21 4 (dk_at dksX7_next_5 7 rfl rfl)
theorem dX7_next_124 : decode cX7_next 124 = .ok (.laload, 1) := dk_47 (dk_at dksX7_next_5 9 rfl rfl)
theorem dX7_next_125 : decode cX7_next 125 = .ok (.lload_n 2, 1) := dk_32 (dk_at dksX7_next_5 10 rfl rfl)
theorem dX7_next_126 : decode cX7_next 126 = .ok (.lcmp, 1) := dk_148 (dk_at dksX7_next_5 11 rfl rfl)
theorem dX7_next_127 : decode cX7_next 127 = .ok (.ifCond .eq 9, 3) := dk_153 0 9 (dk_at dksX7_next_5 12 rfl rfl)
theorem dX7_next_130 : decode cX7_next 130 = .ok (.iinc 4 1, 3) := dk_132 4 1 (dk_at dksX7_next_5 15 rfl rfl)
theorem dX7_next_133 : decode cX7_next 133 = .ok (.goto (-22), 3) := dk_167 255 234 (dk_at dksX7_next_5 18 rfl rfl)
theorem dX7_next_136 : decode cX7_next 136 = .ok (.aload_n 0, 1) := dk_42 (dk_at dksX7_next_5 21 rfl rfl)
theorem dX7_next_137 : decode cX7_next 137 = .ok (.iload 4, 2) := dk_21 4 (dk_at dksX7_next_5 22 rfl rfl)
theorem dX7_next_139 : decode cX7_next 139 = .ok (.iconst 2, 1) := dk_5 (dk_at dksX7_next_6 0 rfl rfl)
theorem dX7_next_140 : decode cX7_next 140 = .ok (.if_icmp .ge 7, 3) := dk_162 0 7 (dk_at dksX7_next_6 1 rfl rfl)
theorem dX7_next_143 : decode cX7_next 143 = .ok (.iconst 3, 1) := dk_6 (dk_at dksX7_next_6 4 rfl rfl)
theorem dX7_next_144 : decode cX7_next 144 = .ok (.goto 32, 3) := dk_167 0 32 (dk_at dksX7_next_6 5 rfl rfl)
theorem dX7_next_147 : decode cX7_next 147 = .ok (.iload 4, 2) := dk_21 4 (dk_at dksX7_next_6 8 rfl rfl)
theorem dX7_next_149 : decode cX7_next 149 = .ok (.bipush 8, 2) := dk_16 8 (dk_at dksX7_next_6 10 rfl rfl)
theorem dX7_next_151 : decode cX7_next 151 = .ok (.if_icmp .ge 7, 3) := dk_162 0 7 (dk_at dksX7_next_6 12 rfl rfl)
theorem dX7_next_154 : decode cX7_next 154 = .ok (.iconst 2, 1) := dk_5 (dk_at dksX7_next_6 15 rfl rfl)
theorem dX7_next_155 : decode cX7_next 155 = .ok (.goto 21, 3) := dk_167 0 21 (dk_at dksX7_next_6 16 rfl rfl)
theorem dX7_next_158 : decode cX7_next 158 = .ok (.iload 4, 2) := dk_21 4 (dk_at dksX7_next_6 19 rfl rfl)
theorem dX7_next_160 : decode cX7_next 160 = .ok (.bipush 11, 2) := dk_16 11 (dk_at dksX7_next_6 21 rfl rfl)
theorem dX7_next_162 : decode cX7_next 162 = .ok (.if_icmp .ne 7, 3) := dk_160 0 7 (dk_at dksX7_next_7 0 rfl rfl)
theorem dX7_next_165 : decode cX7_next 165 = .ok (.iconst (-1), 1) := dk_2 (dk_at dksX7_next_7 3 rfl rfl)
theorem dX7_next_166 : decode cX7_next 166 = .ok (.goto 10, 3) := dk_167 0 10 (dk_at dksX7_next_7 4 rfl rfl)
theorem dX7_next_169 : decode cX7_next 169 = .ok (.iconst 4, 1) := dk_7 (dk_at dksX7_next_7 7 rfl rfl)
theorem dX7_next_170 : decode cX7_next 170 = .ok (.iload 4, 2) := dk_21 4 (dk_at dksX7_next_7 8 rfl rfl)
theorem dX7_next_172 : decode cX7_next 172 = .ok (.iadd, 1) := dk_96 (dk_at dksX7_next_7 10 rfl rfl)
theorem dX7_next_173 : decode cX7_next 173 = .ok (.bipush 8, 2) := dk_16 8 (dk_at dksX7_next_7 11 rfl rfl)
theorem dX7_next_175 : decode cX7_next 175 = .ok (.isub, 1) := dk_100 (dk_at dksX7_next_7 13 rfl rfl)
theorem dX7_next_176 : decode cX7_next 176 = .ok (.putfield 182, 3) := dk_181 0 182 (dk_at dksX7_next_7 14 rfl rfl)
theorem dX7_next_179 : decode cX7_next 179 = .ok (.aload_n 0, 1) := dk_42 (dk_at dksX7_next_7 17 rfl rfl)
theorem dX7_next_180 : decode cX7_next 180 = .ok (.iload 4, 2) := dk_21 4 (dk_at dksX7_next_7 18 rfl rfl)
theorem dX7_next_182 : decode cX7_next 182 = .ok (.iconst 2, 1) := dk_5 (dk_at dksX7_next_7 20 rfl rfl)
theorem dX7_next_183 : decode cX7_next 183 = .ok (.if_icmp .ge 8, 3) := dk_162 0 8 (dk_at dksX7_next_7 21 rfl rfl)
theorem dX7_next_186 : decode cX7_next 186 = .ok (.iload 4, 2) := dk_21 4 (dk_at dksX7_next_8 0 rfl rfl)
theorem dX7_next_188 : decode cX7_next 188 = .ok (.goto 7, 3) := dk_167 0 7 (dk_at dksX7_next_8 2 rfl rfl)
theorem dX7_next_191 : decode cX7_next 191 = .ok (.iload 4, 2) := dk_21 4 (dk_at dksX7_next_8 5 rfl rfl)
theorem dX7_next_193 : decode cX7_next 193 = .ok (.iconst 2, 1) := dk_5 (dk_at dksX7_next_8 7 rfl rfl)
theorem dX7_next_194 : decode cX7_next 194 = .ok (.isub, 1) := dk_100 (dk_at dksX7_next_8 8 rfl rfl)
theorem dX7_next_195 : decode cX7_next 195 = .ok (.putfield 185, 3) := dk_181 0 185 (dk_at dksX7_next_8 9 rfl rfl)
theorem dX7_next_198 : decode cX7_next 198 = .ok (.goto 189, 3) := dk_167 0 189 (dk_at dksX7_next_8 12 rfl rfl)
theorem dX7_next_201 : decode cX7_next 201 = .ok (.iload_n 1, 1) := dk_27 (dk_at dksX7_next_8 15 rfl rfl)
theorem dX7_next_202 : decode cX7_next 202 = .ok (.bipush 48, 2) := dk_16 48 (dk_at dksX7_next_8 16 rfl rfl)
theorem dX7_next_204 : decode cX7_next 204 = .ok (.bipush 57, 2) := dk_16 57 (dk_at dksX7_next_8 18 rfl rfl)
theorem dX7_next_206 : decode cX7_next 206 = .ok (.invokestatic 154, 3) := dk_184 0 154 (dk_at dksX7_next_8 20 rfl rfl)
theorem dX7_next_209 : decode cX7_next 209 = .ok (.ifCond .eq 101, 3) := dk_153 0 101 (dk_at dksX7_next_9 0 rfl rfl)
theorem dX7_next_212 : decode cX7_next 212 = .ok (.iconst 0, 1) := dk_3 (dk_at dksX7_next_9 3 rfl rfl)
theorem dX7_next_213 : decode cX7_next 213 = .ok (.istore_n 2, 1) := dk_61 (dk_at dksX7_next_9 4 rfl rfl)
theorem dX7_next_214 : decode cX7_next 214 = .ok (.aload_n 0, 1) := dk_42 (dk_at dksX7_next_9 5 rfl rfl)
theorem dX7_next_215 : decode cX7_next 215 = .ok (.getfield 176, 3) := dk_180 0 176 (dk_at dksX7_next_9 6 rfl rfl)
theorem dX7_next_218 : decode cX7_next 218 = .ok (.aload_n 0, 1) := dk_42 (dk_at dksX7_next_9 9 rfl rfl)
theorem dX7_next_219 : decode cX7_next 219 = .ok (.getfield 171, 3) := dk_180 0 171 (dk_at dksX7_next_9 10 rfl rfl)
theorem dX7_next_222 : decode cX7_next 222 = .ok (.if_icmp .ge 71, 3) := dk_162 0 71 (dk_at dksX7_next_9 13 rfl rfl)
theorem dX7_next_225 : decode cX7_next 225 = .ok (.aload_n 0, 1) := dk_42 (dk_at dksX7_next_9 16 rfl rfl)
theorem dX7_next_226 : decode cX7_next 226 = .ok (.getfield 35, 3) := dk_180 0 35 (dk_at dksX7_next_9 17 rfl rfl)
theorem dX7_next_229 : decode cX7_next 229 = .ok (.aload_n 0, 1) := dk_42 (dk_at dksX7_next_9 20 rfl rfl)
theorem dX7_next_230 : decode cX7_next 230 = .ok (.getfield 176, 3) := dk_180 0 176 (dk_at dksX7_next_9 21 rfl rfl)
theorem dX7_next_233 : decode cX7_next 233 = .ok (.iaload, 1) := dk_46 (dk_at dksX7_next_10 0 rfl rfl)
theorem dX7_next_234 : decode cX7_next 234 = .ok (.bipush 48, 2) := dk_16 48 (dk_at dksX7_next_10 1 rfl rfl)
theorem dX7_next_236 : decode cX7_next 236 = .ok (.bipush 57, 2) := dk_16 57 (dk_at dksX7_next_10 3 rfl rfl)
theorem dX7_next_238 : decode cX7_next 238 = .ok (.invokestatic 154, 3) := dk_184 0 154 (dk_at dksX7_next_10 5 rfl rfl)
theorem dX7_next_241 : decode cX7_next 241 = .ok (.ifCond .eq 52, 3) := dk_153 0 52 (dk_at dksX7_next_10 8 rfl rfl)
theorem dX7_next_244 : decode cX7_next 244 = .ok (.aload_n 0, 1) := dk_42 (dk_at dksX7_next_10 11 rfl rfl)
theorem dX7_next_245 : decode cX7_next 245 = .ok (.iload_n 2, 1) := dk_28 (dk_at dksX7_next_10 12 rfl rfl)
theorem dX7_next_246 : decode cX7_next 246 = .ok (.iconst 4, 1) := dk_7 (dk_at dksX7_next_10 13 rfl rfl)
theorem dX7_next_247 : decode cX7_next 247 = .ok (.if_icmp .ge 26, 3) := dk_162 0 26 (dk_at dksX7_next_10 14 rfl rfl)
theorem dX7_next_250 : decode cX7_next 250 = .ok (.bipush 10, 2) := dk_16 10 (dk_at dksX7_next_10 17 rfl rfl)
theorem dX7_next_252 : decode cX7_next 252 = .ok (.aload_n 0, 1) := dk_42 (dk_at dksX7_next_10 19 rfl rfl)
theorem dX7_next_253 : decode cX7_next 253 = .ok (.getfield 185, 3) := dk_180 0 185 (dk_at dksX7_next_10 20 rfl rfl)
theorem dX7_next_256 : decode cX7_next 256 = .ok (.imul, 1) := dk_104 (dk_at dksX7_next_10 23 rfl rfl)
theorem dX7_next_257 : decode cX7_next 257 = .ok (.aload_n 0, 1) := dk_42 (dk_at dksX7_next_11 0 rfl rfl)
theorem dX7_next_258 : decode cX7_next 258 = .ok (.getfield 35, 3) := dk_180 0 35 (dk_at dksX7_next_11 1 rfl rfl)
theorem dX7_next_261 : decode cX7_next 261 = .ok (.aload_n 0, 1) := dk_42 (dk_at dksX7_next_11 4 rfl rfl)
theorem dX7_next_262 : decode cX7_next 262 = .ok (.getfield 176, 3) := dk_180 0 176 (dk_at dksX7_next_11 5 rfl rfl)
theorem dX7_next_265 : decode cX7_next 265 = .ok (.iaload, 1) := dk_46 (dk_at dksX7_next_11 8 rfl rfl)
theorem dX7_next_266 : decode cX7_next 266 = .ok (.iadd, 1) := dk_96 (dk_at dksX7_next_11 9 rfl rfl)
theorem dX7_next_267 : decode cX7_next 267 = .ok (.bipush 48, 2) := dk_16 48 (dk_at dksX7_next_11 10 rfl rfl)
theorem dX7_next_269 : decode cX7_next 269 = .ok (.isub, 1) := dk_100 (dk_at dksX7_next_11 12 rfl rfl)
theorem dX7_next_270 : decode cX7_next 270 = .ok (.goto 4, 3) := dk_167 0 4 (dk_at dksX7_next_11 13 rfl rfl)
theorem dX7_next_273 : decode cX7_next 273 = .ok (.iconst 0, 1) := dk_3 (dk_at dksX7_next_11 16 rfl rfl)
theorem dX7_next_274 : decode cX7_next 274 = .ok (.putfield 185, 3) := dk_181 0 185 (dk_at dksX7_next_11 17 rfl rfl)
theorem dX7_next_277 : decode cX7_next 277 = .ok (.iinc 2 1, 3) := dk_132 2 1 (dk_at dksX7_next_11 20 rfl rfl)
theorem dX7_next_280 : decode cX7_next 280 = .ok (.aload_n 0, 1) := dk_42 (dk_at dksX7_next_11 23 rfl rfl)
theorem dX7_next_281 : decode cX7_next 281 = .ok (.dup, 1) := dk_89 (dk_at dksX7_next_12 0 rfl rfl)
theorem dX7_next_282 : decode cX7_next 282 = .ok (.getfield 176, 3) := dk_180 0 176 (dk_at dksX7_next_12 1 rfl rfl)
theorem dX7_next_285 : decode cX7_next 285 = .ok (.iconst 1, 1) := dk_4 (dk_at dksX7_next_12 4 rfl rfl)
theorem dX7_next_286 : decode cX7_next 286 = .ok (.iadd, 1) := dk_96 (dk_at dksX7_next_12 5 rfl rfl)
theorem dX7_next_287 : decode cX7_next 287 = .ok (.putfield 176, 3) := dk_181 0 176 (dk_at dksX7_next_12 6 rfl rfl)
theorem dX7_next_290 : decode cX7_next 290 = .ok (.goto (-76), 3) := dk_167 255 180 (dk_at dksX7_next_12 9 rfl rfl)
theorem dX7_next_293 : decode cX7_next 293 = .ok (.aload_n 0, 1) := dk_42 (dk_at dksX7_next_12 12 rfl rfl)
theorem dX7_next_294 : decode cX7_next 294 = .ok (.iload_n 2, 1) := dk_28 (dk_at dksX7_next_12 13 rfl rfl)
theorem dX7_next_295 : decode cX7_next 295 = .ok (.iconst 4, 1) := dk_7 (dk_at dksX7_next_12 14 rfl rfl)
theorem dX7_next_296 : decode cX7_next 296 = .ok (.if_icmp .le 7, 3) := dk_164 0 7 (dk_at dksX7_next_12 15 rfl rfl)
theorem dX7_next_299 : decode cX7_next 299 = .ok (.iconst (-1), 1) := dk_2 (dk_at dksX7_next_12 18 rfl rfl)
theorem dX7_next_300 : decode cX7_next 300 = .ok (.goto 4, 3) := dk_167 0 4 (dk_at dksX7_next_12 19 rfl rfl)
theorem dX7_next_303 : decode cX7_next 303 = .ok (.iconst 1, 1) := dk_4 (dk_at dksX7_next_12 22 rfl rfl)
theorem dX7_next_304 : decode cX7_next 304 = .ok (.putfield 182, 3) := dk_181 0 182 (dk_at dksX7_next_13 0 rfl rfl)
theorem dX7_next_307 : decode cX7_next 307 = .ok (.goto 80, 3) := dk_167 0 80 (dk_at dksX7_next_13 3 rfl rfl)
theorem dX7_next_310 : decode cX7_next 310 = .ok (.iload_n 1, 1) := dk_27 (dk_at dksX7_next_13 6 rfl rfl)
theorem dX7_next_311 : decode cX7_next 311 = .ok (.bipush 40, 2) := dk_16 40 (dk_at dksX7_next_13 7 rfl rfl)
theorem dX7_next_313 : decode cX7_next 313 = .ok (.if_icmp .eq 45, 3) := dk_159 0 45 (dk_at dksX7_next_13 9 rfl rfl)
theorem dX7_next_316 : decode cX7_next 316 = .ok (.iload_n 1, 1) := dk_27 (dk_at dksX7_next_13 12 rfl rfl)
theorem dX7_next_317 : decode cX7_next 317 = .ok (.bipush 41, 2) := dk_16 41 (dk_at dksX7_next_13 13 rfl rfl)
theorem dX7_next_319 : decode cX7_next 319 = .ok (.if_icmp .eq 39, 3) := dk_159 0 39 (dk_at dksX7_next_13 15 rfl rfl)
theorem dX7_next_322 : decode cX7_next 322 = .ok (.iload_n 1, 1) := dk_27 (dk_at dksX7_next_13 18 rfl rfl)
theorem dX7_next_323 : decode cX7_next 323 = .ok (.bipush 59, 2) := dk_16 59 (dk_at dksX7_next_13 19 rfl rfl)
theorem dX7_next_325 : decode cX7_next 325 = .ok (.if_icmp .eq 33, 3) := dk_159 0 33 (dk_at dksX7_next_13 21 rfl rfl)
theorem dX7_next_328 : decode cX7_next 328 = .ok (.iload_n 1, 1) := dk_27 (dk_at dksX7_next_14 0 rfl rfl)
theorem dX7_next_329 : decode cX7_next 329 = .ok (.bipush 43, 2) := dk_16 43 (dk_at dksX7_next_14 1 rfl rfl)
theorem dX7_next_331 : decode cX7_next 331 = .ok (.if_icmp .eq 27, 3) := dk_159 0 27 (dk_at dksX7_next_14 3 rfl rfl)
theorem dX7_next_334 : decode cX7_next 334 = .ok (.iload_n 1, 1) := dk_27 (dk_at dksX7_next_14 6 rfl rfl)
theorem dX7_next_335 : decode cX7_next 335 = .ok (.bipush 45, 2) := dk_16 45 (dk_at dksX7_next_14 7 rfl rfl)
theorem dX7_next_337 : decode cX7_next 337 = .ok (.if_icmp .eq 21, 3) := dk_159 0 21 (dk_at dksX7_next_14 9 rfl rfl)
theorem dX7_next_340 : decode cX7_next 340 = .ok (.iload_n 1, 1) := dk_27 (dk_at dksX7_next_14 12 rfl rfl)
theorem dX7_next_341 : decode cX7_next 341 = .ok (.bipush 42, 2) := dk_16 42 (dk_at dksX7_next_14 13 rfl rfl)
theorem dX7_next_343 : decode cX7_next 343 = .ok (.if_icmp .eq 15, 3) := dk_159 0 15 (dk_at dksX7_next_14 15 rfl rfl)
theorem dX7_next_346 : decode cX7_next 346 = .ok (.iload_n 1, 1) := dk_27 (dk_at dksX7_next_14 18 rfl rfl)
theorem dX7_next_347 : decode cX7_next 347 = .ok (.bipush 60, 2) := dk_16 60 (dk_at dksX7_next_14 19 rfl rfl)
theorem dX7_next_349 : decode cX7_next 349 = .ok (.if_icmp .eq 9, 3) := dk_159 0 9 (dk_at dksX7_next_14 21 rfl rfl)
theorem dX7_next_352 : decode cX7_next 352 = .ok (.iload_n 1, 1) := dk_27 (dk_at dksX7_next_15 0 rfl rfl)
theorem dX7_next_353 : decode cX7_next 353 = .ok (.bipush 61, 2) := dk_16 61 (dk_at dksX7_next_15 1 rfl rfl)
theorem dX7_next_355 : decode cX7_next 355 = .ok (.if_icmp .ne 7, 3) := dk_160 0 7 (dk_at dksX7_next_15 3 rfl rfl)
theorem dX7_next_358 : decode cX7_next 358 = .ok (.iconst 1, 1) := dk_4 (dk_at dksX7_next_15 6 rfl rfl)
theorem dX7_next_359 : decode cX7_next 359 = .ok (.goto 4, 3) := dk_167 0 4 (dk_at dksX7_next_15 7 rfl rfl)
theorem dX7_next_362 : decode cX7_next 362 = .ok (.iconst 0, 1) := dk_3 (dk_at dksX7_next_15 10 rfl rfl)
theorem dX7_next_363 : decode cX7_next 363 = .ok (.istore_n 2, 1) := dk_61 (dk_at dksX7_next_15 11 rfl rfl)
theorem dX7_next_364 : decode cX7_next 364 = .ok (.aload_n 0, 1) := dk_42 (dk_at dksX7_next_15 12 rfl rfl)
theorem dX7_next_365 : decode cX7_next 365 = .ok (.iload_n 2, 1) := dk_28 (dk_at dksX7_next_15 13 rfl rfl)
theorem dX7_next_366 : decode cX7_next 366 = .ok (.ifCond .eq 7, 3) := dk_153 0 7 (dk_at dksX7_next_15 14 rfl rfl)
theorem dX7_next_369 : decode cX7_next 369 = .ok (.iload_n 1, 1) := dk_27 (dk_at dksX7_next_15 17 rfl rfl)
theorem dX7_next_370 : decode cX7_next 370 = .ok (.goto 4, 3) := dk_167 0 4 (dk_at dksX7_next_15 18 rfl rfl)
theorem dX7_next_373 : decode cX7_next 373 = .ok (.iconst (-1), 1) := dk_2 (dk_at dksX7_next_15 21 rfl rfl)
theorem dX7_next_374 : decode cX7_next 374 = .ok (.putfield 182, 3) := dk_181 0 182 (dk_at dksX7_next_16 0 rfl rfl)
theorem dX7_next_377 : decode cX7_next 377 = .ok (.aload_n 0, 1) := dk_42 (dk_at dksX7_next_16 3 rfl rfl)
theorem dX7_next_378 : decode cX7_next 378 = .ok (.dup, 1) := dk_89 (dk_at dksX7_next_16 4 rfl rfl)
theorem dX7_next_379 : decode cX7_next 379 = .ok (.getfield 176, 3) := dk_180 0 176 (dk_at dksX7_next_16 5 rfl rfl)
theorem dX7_next_382 : decode cX7_next 382 = .ok (.iconst 1, 1) := dk_4 (dk_at dksX7_next_16 8 rfl rfl)
theorem dX7_next_383 : decode cX7_next 383 = .ok (.iadd, 1) := dk_96 (dk_at dksX7_next_16 9 rfl rfl)
theorem dX7_next_384 : decode cX7_next 384 = .ok (.putfield 176, 3) := dk_181 0 176 (dk_at dksX7_next_16 10 rfl rfl)
theorem dX7_next_387 : decode cX7_next 387 = .ok (.return_, 1) := dk_177 (dk_at dksX7_next_16 13 rfl rfl)
abbrev cX7_letters : ByteArray := prog_19_method_16_code
def yX7_letters : MethodName := ⟨RX7, "letters", "()J"⟩
def dkwX7_letters_3 : List UInt8 := [181, 0, 176, 167, 255, 187, 29, 8, 164, 0, 7, 9, 167, 0, 4, 31, 173]
abbrev dktX7_letters_3 : List UInt8 := dkwX7_letters_3 ++ []
def dkwX7_letters_2 : List UInt8 := [42, 180, 0, 176, 46, 133, 129, 167, 0, 4, 31, 64, 132, 3, 1, 42, 89, 180, 0, 176, 4, 96]
abbrev dktX7_letters_2 : List UInt8 := dkwX7_letters_2 ++ dktX7_letters_3
def dkwX7_letters_1 : List UInt8 := [16, 97, 16, 122, 184, 0, 154, 153, 0, 45, 29, 16, 8, 162, 0, 21, 31, 16, 8, 121, 42, 180, 0, 35]
abbrev dktX7_letters_1 : List UInt8 := dkwX7_letters_1 ++ dktX7_letters_2
def dkwX7_letters_0 : List UInt8 := [9, 64, 3, 62, 42, 180, 0, 176, 42, 180, 0, 171, 162, 0, 64, 42, 180, 0, 35, 42, 180, 0, 176, 46]
abbrev dktX7_letters_0 : List UInt8 := dkwX7_letters_0 ++ dktX7_letters_1
theorem dksX7_letters_0 : cX7_letters.data.toList.drop 0 = dktX7_letters_0 := by decide +kernel
theorem dksX7_letters_1 : cX7_letters.data.toList.drop 24 = dktX7_letters_1 := dk_seg dksX7_letters_0 24 rfl rfl
theorem dksX7_letters_2 : cX7_letters.data.toList.drop 48 = dktX7_letters_2 := dk_seg dksX7_letters_1 24 rfl rfl
theorem dksX7_letters_3 : cX7_letters.data.toList.drop 70 = dktX7_letters_3 := dk_seg dksX7_letters_2 22 rfl rfl
theorem dX7_letters_0 : decode cX7_letters 0 = .ok (.lconst 0, 1) := dk_9 (dk_at dksX7_letters_0 0 rfl rfl)
theorem dX7_letters_1 : decode cX7_letters 1 = .ok (.lstore_n 1, 1) := dk_64 (dk_at dksX7_letters_0 1 rfl rfl)
theorem dX7_letters_2 : decode cX7_letters 2 = .ok (.iconst 0, 1) := dk_3 (dk_at dksX7_letters_0 2 rfl rfl)
theorem dX7_letters_3 : decode cX7_letters 3 = .ok (.istore_n 3, 1) := dk_62 (dk_at dksX7_letters_0 3 rfl rfl)
theorem dX7_letters_4 : decode cX7_letters 4 = .ok (.aload_n 0, 1) := dk_42 (dk_at dksX7_letters_0 4 rfl rfl)
theorem dX7_letters_5 : decode cX7_letters 5 = .ok (.getfield 176, 3) := dk_180 0 176 (dk_at dksX7_letters_0 5 rfl rfl)
theorem dX7_letters_8 : decode cX7_letters 8 = .ok (.aload_n 0, 1) := dk_42 (dk_at dksX7_letters_0 8 rfl rfl)
theorem dX7_letters_9 : decode cX7_letters 9 = .ok (.getfield 171, 3) := dk_180 0 171 (dk_at dksX7_letters_0 9 rfl rfl)
theorem dX7_letters_12 : decode cX7_letters 12 = .ok (.if_icmp .ge 64, 3) := dk_162 0 64 (dk_at dksX7_letters_0 12 rfl rfl)
theorem dX7_letters_15 : decode cX7_letters 15 = .ok (.aload_n 0, 1) := dk_42 (dk_at dksX7_letters_0 15 rfl rfl)
theorem dX7_letters_16 : decode cX7_letters 16 = .ok (.getfield 35, 3) := dk_180 0 35 (dk_at dksX7_letters_0 16 rfl rfl)
theorem dX7_letters_19 : decode cX7_letters 19 = .ok (.aload_n 0, 1) := dk_42 (dk_at dksX7_letters_0 19 rfl rfl)
theorem dX7_letters_20 : decode cX7_letters 20 = .ok (.getfield 176, 3) := dk_180 0 176 (dk_at dksX7_letters_0 20 rfl rfl)
theorem dX7_letters_23 : decode cX7_letters 23 = .ok (.iaload, 1) := dk_46 (dk_at dksX7_letters_0 23 rfl rfl)
theorem dX7_letters_24 : decode cX7_letters 24 = .ok (.bipush 97, 2) := dk_16 97 (dk_at dksX7_letters_1 0 rfl rfl)
theorem dX7_letters_26 : decode cX7_letters 26 = .ok (.bipush 122, 2) := dk_16 122 (dk_at dksX7_letters_1 2 rfl rfl)
theorem dX7_letters_28 : decode cX7_letters 28 = .ok (.invokestatic 154, 3) := dk_184 0 154 (dk_at dksX7_letters_1 4 rfl rfl)
theorem dX7_letters_31 : decode cX7_letters 31 = .ok (.ifCond .eq 45, 3) := dk_153 0 45 (dk_at dksX7_letters_1 7 rfl rfl)
theorem dX7_letters_34 : decode cX7_letters 34 = .ok (.iload_n 3, 1) := dk_29 (dk_at dksX7_letters_1 10 rfl rfl)
theorem dX7_letters_35 : decode cX7_letters 35 = .ok (.bipush 8, 2) := dk_16 8 (dk_at dksX7_letters_1 11 rfl rfl)
theorem dX7_letters_37 : decode cX7_letters 37 = .ok (.if_icmp .ge 21, 3) := dk_162 0 21 (dk_at dksX7_letters_1 13 rfl rfl)
theorem dX7_letters_40 : decode cX7_letters 40 = .ok (.lload_n 1, 1) := dk_31 (dk_at dksX7_letters_1 16 rfl rfl)
theorem dX7_letters_41 : decode cX7_letters 41 = .ok (.bipush 8, 2) := dk_16 8 (dk_at dksX7_letters_1 17 rfl rfl)
theorem dX7_letters_43 : decode cX7_letters 43 = .ok (.lshl, 1) := dk_121 (dk_at dksX7_letters_1 19 rfl rfl)
theorem dX7_letters_44 : decode cX7_letters 44 = .ok (.aload_n 0, 1) := dk_42 (dk_at dksX7_letters_1 20 rfl rfl)
theorem dX7_letters_45 : decode cX7_letters 45 = .ok (.getfield 35, 3) := dk_180 0 35 (dk_at dksX7_letters_1 21 rfl rfl)
theorem dX7_letters_48 : decode cX7_letters 48 = .ok (.aload_n 0, 1) := dk_42 (dk_at dksX7_letters_2 0 rfl rfl)
theorem dX7_letters_49 : decode cX7_letters 49 = .ok (.getfield 176, 3) := dk_180 0 176 (dk_at dksX7_letters_2 1 rfl rfl)
theorem dX7_letters_52 : decode cX7_letters 52 = .ok (.iaload, 1) := dk_46 (dk_at dksX7_letters_2 4 rfl rfl)
theorem dX7_letters_53 : decode cX7_letters 53 = .ok (.i2l, 1) := dk_133 (dk_at dksX7_letters_2 5 rfl rfl)
theorem dX7_letters_54 : decode cX7_letters 54 = .ok (.lor, 1) := dk_129 (dk_at dksX7_letters_2 6 rfl rfl)
theorem dX7_letters_55 : decode cX7_letters 55 = .ok (.goto 4, 3) := dk_167 0 4 (dk_at dksX7_letters_2 7 rfl rfl)
theorem dX7_letters_58 : decode cX7_letters 58 = .ok (.lload_n 1, 1) := dk_31 (dk_at dksX7_letters_2 10 rfl rfl)
theorem dX7_letters_59 : decode cX7_letters 59 = .ok (.lstore_n 1, 1) := dk_64 (dk_at dksX7_letters_2 11 rfl rfl)
theorem dX7_letters_60 : decode cX7_letters 60 = .ok (.iinc 3 1, 3) := dk_132 3 1 (dk_at dksX7_letters_2 12 rfl rfl)
theorem dX7_letters_63 : decode cX7_letters 63 = .ok (.aload_n 0, 1) := dk_42 (dk_at dksX7_letters_2 15 rfl rfl)
theorem dX7_letters_64 : decode cX7_letters 64 = .ok (.dup, 1) := dk_89 (dk_at dksX7_letters_2 16 rfl rfl)
theorem dX7_letters_65 : decode cX7_letters 65 = .ok (.getfield 176, 3) := dk_180 0 176 (dk_at dksX7_letters_2 17 rfl rfl)
theorem dX7_letters_68 : decode cX7_letters 68 = .ok (.iconst 1, 1) := dk_4 (dk_at dksX7_letters_2 20 rfl rfl)
theorem dX7_letters_69 : decode cX7_letters 69 = .ok (.iadd, 1) := dk_96 (dk_at dksX7_letters_2 21 rfl rfl)
theorem dX7_letters_70 : decode cX7_letters 70 = .ok (.putfield 176, 3) := dk_181 0 176 (dk_at dksX7_letters_3 0 rfl rfl)
theorem dX7_letters_73 : decode cX7_letters 73 = .ok (.goto (-69), 3) := dk_167 255 187 (dk_at dksX7_letters_3 3 rfl rfl)
theorem dX7_letters_76 : decode cX7_letters 76 = .ok (.iload_n 3, 1) := dk_29 (dk_at dksX7_letters_3 6 rfl rfl)
theorem dX7_letters_77 : decode cX7_letters 77 = .ok (.iconst 5, 1) := dk_8 (dk_at dksX7_letters_3 7 rfl rfl)
theorem dX7_letters_78 : decode cX7_letters 78 = .ok (.if_icmp .le 7, 3) := dk_164 0 7 (dk_at dksX7_letters_3 8 rfl rfl)
theorem dX7_letters_81 : decode cX7_letters 81 = .ok (.lconst 0, 1) := dk_9 (dk_at dksX7_letters_3 11 rfl rfl)
theorem dX7_letters_82 : decode cX7_letters 82 = .ok (.goto 4, 3) := dk_167 0 4 (dk_at dksX7_letters_3 12 rfl rfl)
theorem dX7_letters_85 : decode cX7_letters 85 = .ok (.lload_n 1, 1) := dk_31 (dk_at dksX7_letters_3 15 rfl rfl)
theorem dX7_letters_86 : decode cX7_letters 86 = .ok (.lreturn, 1) := dk_173 (dk_at dksX7_letters_3 16 rfl rfl)
abbrev cX7_eRead : ByteArray := prog_19_method_25_code
def yX7_eRead : MethodName := ⟨RX7, "eRead", "()Z"⟩
def dkwX7_eRead_11 : List UInt8 := [167, 0, 4, 3, 61, 167, 255, 7]
abbrev dktX7_eRead_11 : List UInt8 := dkwX7_eRead_11 ++ []
def dkwX7_eRead_10 : List UInt8 := [159, 0, 11, 42, 29, 182, 0, 226, 154, 0, 5, 3, 172, 4, 60, 29, 16, 12, 163, 0, 7, 4]
abbrev dktX7_eRead_10 : List UInt8 := dkwX7_eRead_10 ++ dktX7_eRead_11
def dkwX7_eRead_9 : List UInt8 := [180, 0, 202, 4, 100, 181, 0, 202, 42, 16, 7, 182, 0, 212, 167, 255, 44, 42, 182, 0, 222, 62, 29, 2]
abbrev dktX7_eRead_9 : List UInt8 := dkwX7_eRead_9 ++ dktX7_eRead_10
def dkwX7_eRead_8 : List UInt8 := [182, 0, 212, 42, 180, 0, 195, 154, 0, 5, 3, 172, 42, 89, 180, 0, 195, 4, 100, 181, 0, 195, 42, 89]
abbrev dktX7_eRead_8 : List UInt8 := dkwX7_eRead_8 ++ dktX7_eRead_9
def dkwX7_eRead_7 : List UInt8 := [180, 0, 195, 154, 0, 7, 4, 167, 0, 4, 3, 172, 42, 180, 0, 182, 16, 41, 160, 0, 46, 42, 4]
abbrev dktX7_eRead_7 : List UInt8 := dkwX7_eRead_7 ++ dktX7_eRead_8
def dkwX7_eRead_6 : List UInt8 := [172, 4, 61, 167, 255, 125, 3, 172, 42, 180, 0, 182, 16, 59, 160, 0, 21, 42, 4, 182, 0, 212, 42]
abbrev dktX7_eRead_6 : List UInt8 := dkwX7_eRead_6 ++ dktX7_eRead_7
def dkwX7_eRead_5 : List UInt8 := [172, 3, 61, 167, 255, 149, 42, 180, 0, 182, 16, 40, 160, 0, 18, 42, 3, 182, 0, 219, 154, 0, 5, 3]
abbrev dktX7_eRead_5 : List UInt8 := dkwX7_eRead_5 ++ dktX7_eRead_6
def dkwX7_eRead_4 : List UInt8 := [154, 255, 176, 3, 172, 42, 180, 0, 182, 16, 45, 160, 0, 19, 42, 16, 19, 182, 0, 219, 154, 0, 5, 3]
abbrev dktX7_eRead_4 : List UInt8 := dkwX7_eRead_4 ++ dktX7_eRead_5
def dkwX7_eRead_3 : List UInt8 := [60, 167, 255, 198, 42, 180, 0, 182, 16, 6, 160, 0, 18, 28, 153, 0, 14, 42, 16, 13, 182, 0, 219]
abbrev dktX7_eRead_3 : List UInt8 := dkwX7_eRead_3 ++ dktX7_eRead_4
def dkwX7_eRead_2 : List UInt8 := [18, 218, 42, 180, 0, 185, 96, 167, 0, 7, 42, 180, 0, 185, 182, 0, 205, 42, 16, 7, 182, 0, 212, 3]
abbrev dktX7_eRead_2 : List UInt8 := dkwX7_eRead_2 ++ dktX7_eRead_3
def dkwX7_eRead_1 : List UInt8 := [180, 0, 182, 4, 159, 0, 11, 42, 180, 0, 182, 5, 160, 0, 40, 42, 42, 180, 0, 182, 4, 160, 0, 13]
abbrev dktX7_eRead_1 : List UInt8 := dkwX7_eRead_1 ++ dktX7_eRead_2
def dkwX7_eRead_0 : List UInt8 := [42, 3, 181, 0, 195, 42, 3, 181, 0, 202, 4, 60, 4, 61, 42, 182, 0, 215, 27, 153, 0, 131, 42]
abbrev dktX7_eRead_0 : List UInt8 := dkwX7_eRead_0 ++ dktX7_eRead_1
theorem dksX7_eRead_0 : cX7_eRead.data.toList.drop 0 = dktX7_eRead_0 := by decide +kernel
theorem dksX7_eRead_1 : cX7_eRead.data.toList.drop 23 = dktX7_eRead_1 := dk_seg dksX7_eRead_0 23 rfl rfl
theorem dksX7_eRead_2 : cX7_eRead.data.toList.drop 47 = dktX7_eRead_2 := dk_seg dksX7_eRead_1 24 rfl rfl
theorem dksX7_eRead_3 : cX7_eRead.data.toList.drop 71 = dktX7_eRead_3 := dk_seg dksX7_eRead_2 24 rfl rfl
theorem dksX7_eRead_4 : cX7_eRead.data.toList.drop 94 = dktX7_eRead_4 := dk_seg dksX7_eRead_3 23 rfl rfl
theorem dksX7_eRead_5 : cX7_eRead.data.toList.drop 118 = dktX7_eRead_5 := dk_seg dksX7_eRead_4 24 rfl rfl
theorem dksX7_eRead_6 : cX7_eRead.data.toList.drop 142 = dktX7_eRead_6 := dk_seg dksX7_eRead_5 24 rfl rfl
theorem dksX7_eRead_7 : cX7_eRead.data.toList.drop 165 = dktX7_eRead_7 := dk_seg dksX7_eRead_6 23 rfl rfl
theorem dksX7_eRead_8 : cX7_eRead.data.toList.drop 188 = dktX7_eRead_8 := dk_seg dksX7_eRead_7 23 rfl rfl
theorem dksX7_eRead_9 : cX7_eRead.data.toList.drop 212 = dktX7_eRead_9 := dk_seg dksX7_eRead_8 24 rfl rfl
theorem dksX7_eRead_10 : cX7_eRead.data.toList.drop 236 = dktX7_eRead_10 := dk_seg dksX7_eRead_9 24 rfl rfl
theorem dksX7_eRead_11 : cX7_eRead.data.toList.drop 258 = dktX7_eRead_11 := dk_seg dksX7_eRead_10 22 rfl rfl
theorem dX7_eRead_0 : decode cX7_eRead 0 = .ok (.aload_n 0, 1) := dk_42 (dk_at dksX7_eRead_0 0 rfl rfl)
theorem dX7_eRead_1 : decode cX7_eRead 1 = .ok (.iconst 0, 1) := dk_3 (dk_at dksX7_eRead_0 1 rfl rfl)
theorem dX7_eRead_2 : decode cX7_eRead 2 = .ok (.putfield 195, 3) := dk_181 0 195 (dk_at dksX7_eRead_0 2 rfl rfl)
theorem dX7_eRead_5 : decode cX7_eRead 5 = .ok (.aload_n 0, 1) := dk_42 (dk_at dksX7_eRead_0 5 rfl rfl)
theorem dX7_eRead_6 : decode cX7_eRead 6 = .ok (.iconst 0, 1) := dk_3 (dk_at dksX7_eRead_0 6 rfl rfl)
theorem dX7_eRead_7 : decode cX7_eRead 7 = .ok (.putfield 202, 3) := dk_181 0 202 (dk_at dksX7_eRead_0 7 rfl rfl)
theorem dX7_eRead_10 : decode cX7_eRead 10 = .ok (.iconst 1, 1) := dk_4 (dk_at dksX7_eRead_0 10 rfl rfl)
theorem dX7_eRead_11 : decode cX7_eRead 11 = .ok (.istore_n 1, 1) := dk_60 (dk_at dksX7_eRead_0 11 rfl rfl)
theorem dX7_eRead_12 : decode cX7_eRead 12 = .ok (.iconst 1, 1) := dk_4 (dk_at dksX7_eRead_0 12 rfl rfl)
theorem dX7_eRead_13 : decode cX7_eRead 13 = .ok (.istore_n 2, 1) := dk_61 (dk_at dksX7_eRead_0 13 rfl rfl)
theorem dX7_eRead_14 : decode cX7_eRead 14 = .ok (.aload_n 0, 1) := dk_42 (dk_at dksX7_eRead_0 14 rfl rfl)
theorem dX7_eRead_15 : decode cX7_eRead 15 = .ok (.invokevirtual 215, 3) := dk_182 0 215 (dk_at dksX7_eRead_0 15 rfl rfl)
theorem dX7_eRead_18 : decode cX7_eRead 18 = .ok (.iload_n 1, 1) := dk_27 (dk_at dksX7_eRead_0 18 rfl rfl)
theorem dX7_eRead_19 : decode cX7_eRead 19 = .ok (.ifCond .eq 131, 3) := dk_153 0 131 (dk_at dksX7_eRead_0 19 rfl rfl)
theorem dX7_eRead_22 : decode cX7_eRead 22 = .ok (.aload_n 0, 1) := dk_42 (dk_at dksX7_eRead_0 22 rfl rfl)
theorem dX7_eRead_23 : decode cX7_eRead 23 = .ok (.getfield 182, 3) := dk_180 0 182 (dk_at dksX7_eRead_1 0 rfl rfl)
theorem dX7_eRead_26 : decode cX7_eRead 26 = .ok (.iconst 1, 1) := dk_4 (dk_at dksX7_eRead_1 3 rfl rfl)
theorem dX7_eRead_27 : decode cX7_eRead 27 = .ok (.if_icmp .eq 11, 3) := dk_159 0 11 (dk_at dksX7_eRead_1 4 rfl rfl)
theorem dX7_eRead_30 : decode cX7_eRead 30 = .ok (.aload_n 0, 1) := dk_42 (dk_at dksX7_eRead_1 7 rfl rfl)
theorem dX7_eRead_31 : decode cX7_eRead 31 = .ok (.getfield 182, 3) := dk_180 0 182 (dk_at dksX7_eRead_1 8 rfl rfl)
theorem dX7_eRead_34 : decode cX7_eRead 34 = .ok (.iconst 2, 1) := dk_5 (dk_at dksX7_eRead_1 11 rfl rfl)
theorem dX7_eRead_35 : decode cX7_eRead 35 = .ok (.if_icmp .ne 40, 3) := dk_160 0 40 (dk_at dksX7_eRead_1 12 rfl rfl)
theorem dX7_eRead_38 : decode cX7_eRead 38 = .ok (.aload_n 0, 1) := dk_42 (dk_at dksX7_eRead_1 15 rfl rfl)
theorem dX7_eRead_39 : decode cX7_eRead 39 = .ok (.aload_n 0, 1) := dk_42 (dk_at dksX7_eRead_1 16 rfl rfl)
theorem dX7_eRead_40 : decode cX7_eRead 40 = .ok (.getfield 182, 3) := dk_180 0 182 (dk_at dksX7_eRead_1 17 rfl rfl)
theorem dX7_eRead_43 : decode cX7_eRead 43 = .ok (.iconst 1, 1) := dk_4 (dk_at dksX7_eRead_1 20 rfl rfl)
theorem dX7_eRead_44 : decode cX7_eRead 44 = .ok (.if_icmp .ne 13, 3) := dk_160 0 13 (dk_at dksX7_eRead_1 21 rfl rfl)
theorem dX7_eRead_47 : decode cX7_eRead 47 = .ok (.ldc 218, 2) := dk_18 218 (dk_at dksX7_eRead_2 0 rfl rfl)
theorem dX7_eRead_49 : decode cX7_eRead 49 = .ok (.aload_n 0, 1) := dk_42 (dk_at dksX7_eRead_2 2 rfl rfl)
theorem dX7_eRead_50 : decode cX7_eRead 50 = .ok (.getfield 185, 3) := dk_180 0 185 (dk_at dksX7_eRead_2 3 rfl rfl)
theorem dX7_eRead_53 : decode cX7_eRead 53 = .ok (.iadd, 1) := dk_96 (dk_at dksX7_eRead_2 6 rfl rfl)
theorem dX7_eRead_54 : decode cX7_eRead 54 = .ok (.goto 7, 3) := dk_167 0 7 (dk_at dksX7_eRead_2 7 rfl rfl)
theorem dX7_eRead_57 : decode cX7_eRead 57 = .ok (.aload_n 0, 1) := dk_42 (dk_at dksX7_eRead_2 10 rfl rfl)
theorem dX7_eRead_58 : decode cX7_eRead 58 = .ok (.getfield 185, 3) := dk_180 0 185 (dk_at dksX7_eRead_2 11 rfl rfl)
theorem dX7_eRead_61 : decode cX7_eRead 61 = .ok (.invokevirtual 205, 3) := dk_182 0 205 (dk_at dksX7_eRead_2 14 rfl rfl)
theorem dX7_eRead_64 : decode cX7_eRead 64 = .ok (.aload_n 0, 1) := dk_42 (dk_at dksX7_eRead_2 17 rfl rfl)
theorem dX7_eRead_65 : decode cX7_eRead 65 = .ok (.bipush 7, 2) := dk_16 7 (dk_at dksX7_eRead_2 18 rfl rfl)
theorem dX7_eRead_67 : decode cX7_eRead 67 = .ok (.invokevirtual 212, 3) := dk_182 0 212 (dk_at dksX7_eRead_2 20 rfl rfl)
theorem dX7_eRead_70 : decode cX7_eRead 70 = .ok (.iconst 0, 1) := dk_3 (dk_at dksX7_eRead_2 23 rfl rfl)
theorem dX7_eRead_71 : decode cX7_eRead 71 = .ok (.istore_n 1, 1) := dk_60 (dk_at dksX7_eRead_3 0 rfl rfl)
theorem dX7_eRead_72 : decode cX7_eRead 72 = .ok (.goto (-58), 3) := dk_167 255 198 (dk_at dksX7_eRead_3 1 rfl rfl)
theorem dX7_eRead_75 : decode cX7_eRead 75 = .ok (.aload_n 0, 1) := dk_42 (dk_at dksX7_eRead_3 4 rfl rfl)
theorem dX7_eRead_76 : decode cX7_eRead 76 = .ok (.getfield 182, 3) := dk_180 0 182 (dk_at dksX7_eRead_3 5 rfl rfl)
theorem dX7_eRead_79 : decode cX7_eRead 79 = .ok (.bipush 6, 2) := dk_16 6 (dk_at dksX7_eRead_3 8 rfl rfl)
theorem dX7_eRead_81 : decode cX7_eRead 81 = .ok (.if_icmp .ne 18, 3) := dk_160 0 18 (dk_at dksX7_eRead_3 10 rfl rfl)
theorem dX7_eRead_84 : decode cX7_eRead 84 = .ok (.iload_n 2, 1) := dk_28 (dk_at dksX7_eRead_3 13 rfl rfl)
theorem dX7_eRead_85 : decode cX7_eRead 85 = .ok (.ifCond .eq 14, 3) := dk_153 0 14 (dk_at dksX7_eRead_3 14 rfl rfl)
theorem dX7_eRead_88 : decode cX7_eRead 88 = .ok (.aload_n 0, 1) := dk_42 (dk_at dksX7_eRead_3 17 rfl rfl)
theorem dX7_eRead_89 : decode cX7_eRead 89 = .ok (.bipush 13, 2) := dk_16 13 (dk_at dksX7_eRead_3 18 rfl rfl)
theorem dX7_eRead_91 : decode cX7_eRead 91 = .ok (.invokevirtual 219, 3) := dk_182 0 219 (dk_at dksX7_eRead_3 20 rfl rfl)
theorem dX7_eRead_94 : decode cX7_eRead 94 = .ok (.ifCond .ne (-80), 3) := dk_154 255 176 (dk_at dksX7_eRead_4 0 rfl rfl)
theorem dX7_eRead_97 : decode cX7_eRead 97 = .ok (.iconst 0, 1) := dk_3 (dk_at dksX7_eRead_4 3 rfl rfl)
theorem dX7_eRead_98 : decode cX7_eRead 98 = .ok (.ireturn, 1) := dk_172 (dk_at dksX7_eRead_4 4 rfl rfl)
theorem dX7_eRead_99 : decode cX7_eRead 99 = .ok (.aload_n 0, 1) := dk_42 (dk_at dksX7_eRead_4 5 rfl rfl)
theorem dX7_eRead_100 : decode cX7_eRead 100 = .ok (.getfield 182, 3) := dk_180 0 182 (dk_at dksX7_eRead_4 6 rfl rfl)
theorem dX7_eRead_103 : decode cX7_eRead 103 = .ok (.bipush 45, 2) := dk_16 45 (dk_at dksX7_eRead_4 9 rfl rfl)
theorem dX7_eRead_105 : decode cX7_eRead 105 = .ok (.if_icmp .ne 19, 3) := dk_160 0 19 (dk_at dksX7_eRead_4 11 rfl rfl)
theorem dX7_eRead_108 : decode cX7_eRead 108 = .ok (.aload_n 0, 1) := dk_42 (dk_at dksX7_eRead_4 14 rfl rfl)
theorem dX7_eRead_109 : decode cX7_eRead 109 = .ok (.bipush 19, 2) := dk_16 19 (dk_at dksX7_eRead_4 15 rfl rfl)
theorem dX7_eRead_111 : decode cX7_eRead 111 = .ok (.invokevirtual 219, 3) := dk_182 0 219 (dk_at dksX7_eRead_4 17 rfl rfl)
theorem dX7_eRead_114 : decode cX7_eRead 114 = .ok (.ifCond .ne 5, 3) := dk_154 0 5 (dk_at dksX7_eRead_4 20 rfl rfl)
theorem dX7_eRead_117 : decode cX7_eRead 117 = .ok (.iconst 0, 1) := dk_3 (dk_at dksX7_eRead_4 23 rfl rfl)
theorem dX7_eRead_118 : decode cX7_eRead 118 = .ok (.ireturn, 1) := dk_172 (dk_at dksX7_eRead_5 0 rfl rfl)
theorem dX7_eRead_119 : decode cX7_eRead 119 = .ok (.iconst 0, 1) := dk_3 (dk_at dksX7_eRead_5 1 rfl rfl)
theorem dX7_eRead_120 : decode cX7_eRead 120 = .ok (.istore_n 2, 1) := dk_61 (dk_at dksX7_eRead_5 2 rfl rfl)
theorem dX7_eRead_121 : decode cX7_eRead 121 = .ok (.goto (-107), 3) := dk_167 255 149 (dk_at dksX7_eRead_5 3 rfl rfl)
theorem dX7_eRead_124 : decode cX7_eRead 124 = .ok (.aload_n 0, 1) := dk_42 (dk_at dksX7_eRead_5 6 rfl rfl)
theorem dX7_eRead_125 : decode cX7_eRead 125 = .ok (.getfield 182, 3) := dk_180 0 182 (dk_at dksX7_eRead_5 7 rfl rfl)
theorem dX7_eRead_128 : decode cX7_eRead 128 = .ok (.bipush 40, 2) := dk_16 40 (dk_at dksX7_eRead_5 10 rfl rfl)
theorem dX7_eRead_130 : decode cX7_eRead 130 = .ok (.if_icmp .ne 18, 3) := dk_160 0 18 (dk_at dksX7_eRead_5 12 rfl rfl)
theorem dX7_eRead_133 : decode cX7_eRead 133 = .ok (.aload_n 0, 1) := dk_42 (dk_at dksX7_eRead_5 15 rfl rfl)
theorem dX7_eRead_134 : decode cX7_eRead 134 = .ok (.iconst 0, 1) := dk_3 (dk_at dksX7_eRead_5 16 rfl rfl)
theorem dX7_eRead_135 : decode cX7_eRead 135 = .ok (.invokevirtual 219, 3) := dk_182 0 219 (dk_at dksX7_eRead_5 17 rfl rfl)
theorem dX7_eRead_138 : decode cX7_eRead 138 = .ok (.ifCond .ne 5, 3) := dk_154 0 5 (dk_at dksX7_eRead_5 20 rfl rfl)
theorem dX7_eRead_141 : decode cX7_eRead 141 = .ok (.iconst 0, 1) := dk_3 (dk_at dksX7_eRead_5 23 rfl rfl)
theorem dX7_eRead_142 : decode cX7_eRead 142 = .ok (.ireturn, 1) := dk_172 (dk_at dksX7_eRead_6 0 rfl rfl)
theorem dX7_eRead_143 : decode cX7_eRead 143 = .ok (.iconst 1, 1) := dk_4 (dk_at dksX7_eRead_6 1 rfl rfl)
theorem dX7_eRead_144 : decode cX7_eRead 144 = .ok (.istore_n 2, 1) := dk_61 (dk_at dksX7_eRead_6 2 rfl rfl)
theorem dX7_eRead_145 : decode cX7_eRead 145 = .ok (.goto (-131), 3) := dk_167 255 125 (dk_at dksX7_eRead_6 3 rfl rfl)
theorem dX7_eRead_148 : decode cX7_eRead 148 = .ok (.iconst 0, 1) := dk_3 (dk_at dksX7_eRead_6 6 rfl rfl)
theorem dX7_eRead_149 : decode cX7_eRead 149 = .ok (.ireturn, 1) := dk_172 (dk_at dksX7_eRead_6 7 rfl rfl)
theorem dX7_eRead_150 : decode cX7_eRead 150 = .ok (.aload_n 0, 1) := dk_42 (dk_at dksX7_eRead_6 8 rfl rfl)
theorem dX7_eRead_151 : decode cX7_eRead 151 = .ok (.getfield 182, 3) := dk_180 0 182 (dk_at dksX7_eRead_6 9 rfl rfl)
theorem dX7_eRead_154 : decode cX7_eRead 154 = .ok (.bipush 59, 2) := dk_16 59 (dk_at dksX7_eRead_6 12 rfl rfl)
theorem dX7_eRead_156 : decode cX7_eRead 156 = .ok (.if_icmp .ne 21, 3) := dk_160 0 21 (dk_at dksX7_eRead_6 14 rfl rfl)
theorem dX7_eRead_159 : decode cX7_eRead 159 = .ok (.aload_n 0, 1) := dk_42 (dk_at dksX7_eRead_6 17 rfl rfl)
theorem dX7_eRead_160 : decode cX7_eRead 160 = .ok (.iconst 1, 1) := dk_4 (dk_at dksX7_eRead_6 18 rfl rfl)
theorem dX7_eRead_161 : decode cX7_eRead 161 = .ok (.invokevirtual 212, 3) := dk_182 0 212 (dk_at dksX7_eRead_6 19 rfl rfl)
theorem dX7_eRead_164 : decode cX7_eRead 164 = .ok (.aload_n 0, 1) := dk_42 (dk_at dksX7_eRead_6 22 rfl rfl)
theorem dX7_eRead_165 : decode cX7_eRead 165 = .ok (.getfield 195, 3) := dk_180 0 195 (dk_at dksX7_eRead_7 0 rfl rfl)
theorem dX7_eRead_168 : decode cX7_eRead 168 = .ok (.ifCond .ne 7, 3) := dk_154 0 7 (dk_at dksX7_eRead_7 3 rfl rfl)
theorem dX7_eRead_171 : decode cX7_eRead 171 = .ok (.iconst 1, 1) := dk_4 (dk_at dksX7_eRead_7 6 rfl rfl)
theorem dX7_eRead_172 : decode cX7_eRead 172 = .ok (.goto 4, 3) := dk_167 0 4 (dk_at dksX7_eRead_7 7 rfl rfl)
theorem dX7_eRead_175 : decode cX7_eRead 175 = .ok (.iconst 0, 1) := dk_3 (dk_at dksX7_eRead_7 10 rfl rfl)
theorem dX7_eRead_176 : decode cX7_eRead 176 = .ok (.ireturn, 1) := dk_172 (dk_at dksX7_eRead_7 11 rfl rfl)
theorem dX7_eRead_177 : decode cX7_eRead 177 = .ok (.aload_n 0, 1) := dk_42 (dk_at dksX7_eRead_7 12 rfl rfl)
theorem dX7_eRead_178 : decode cX7_eRead 178 = .ok (.getfield 182, 3) := dk_180 0 182 (dk_at dksX7_eRead_7 13 rfl rfl)
theorem dX7_eRead_181 : decode cX7_eRead 181 = .ok (.bipush 41, 2) := dk_16 41 (dk_at dksX7_eRead_7 16 rfl rfl)
theorem dX7_eRead_183 : decode cX7_eRead 183 = .ok (.if_icmp .ne 46, 3) := dk_160 0 46 (dk_at dksX7_eRead_7 18 rfl rfl)
theorem dX7_eRead_186 : decode cX7_eRead 186 = .ok (.aload_n 0, 1) := dk_42 (dk_at dksX7_eRead_7 21 rfl rfl)
theorem dX7_eRead_187 : decode cX7_eRead 187 = .ok (.iconst 1, 1) := dk_4 (dk_at dksX7_eRead_7 22 rfl rfl)
theorem dX7_eRead_188 : decode cX7_eRead 188 = .ok (.invokevirtual 212, 3) := dk_182 0 212 (dk_at dksX7_eRead_8 0 rfl rfl)
theorem dX7_eRead_191 : decode cX7_eRead 191 = .ok (.aload_n 0, 1) := dk_42 (dk_at dksX7_eRead_8 3 rfl rfl)
theorem dX7_eRead_192 : decode cX7_eRead 192 = .ok (.getfield 195, 3) := dk_180 0 195 (dk_at dksX7_eRead_8 4 rfl rfl)
theorem dX7_eRead_195 : decode cX7_eRead 195 = .ok (.ifCond .ne 5, 3) := dk_154 0 5 (dk_at dksX7_eRead_8 7 rfl rfl)
theorem dX7_eRead_198 : decode cX7_eRead 198 = .ok (.iconst 0, 1) := dk_3 (dk_at dksX7_eRead_8 10 rfl rfl)
theorem dX7_eRead_199 : decode cX7_eRead 199 = .ok (.ireturn, 1) := dk_172 (dk_at dksX7_eRead_8 11 rfl rfl)
theorem dX7_eRead_200 : decode cX7_eRead 200 = .ok (.aload_n 0, 1) := dk_42 (dk_at dksX7_eRead_8 12 rfl rfl)
theorem dX7_eRead_201 : decode cX7_eRead 201 = .ok (.dup, 1) := dk_89 (dk_at dksX7_eRead_8 13 rfl rfl)
theorem dX7_eRead_202 : decode cX7_eRead 202 = .ok (.getfield 195, 3) := dk_180 0 195 (dk_at dksX7_eRead_8 14 rfl rfl)
theorem dX7_eRead_205 : decode cX7_eRead 205 = .ok (.iconst 1, 1) := dk_4 (dk_at dksX7_eRead_8 17 rfl rfl)
theorem dX7_eRead_206 : decode cX7_eRead 206 = .ok (.isub, 1) := dk_100 (dk_at dksX7_eRead_8 18 rfl rfl)
theorem dX7_eRead_207 : decode cX7_eRead 207 = .ok (.putfield 195, 3) := dk_181 0 195 (dk_at dksX7_eRead_8 19 rfl rfl)
theorem dX7_eRead_210 : decode cX7_eRead 210 = .ok (.aload_n 0, 1) := dk_42 (dk_at dksX7_eRead_8 22 rfl rfl)
theorem dX7_eRead_211 : decode cX7_eRead 211 = .ok (.dup, 1) := dk_89 (dk_at dksX7_eRead_8 23 rfl rfl)
theorem dX7_eRead_212 : decode cX7_eRead 212 = .ok (.getfield 202, 3) := dk_180 0 202 (dk_at dksX7_eRead_9 0 rfl rfl)
theorem dX7_eRead_215 : decode cX7_eRead 215 = .ok (.iconst 1, 1) := dk_4 (dk_at dksX7_eRead_9 3 rfl rfl)
theorem dX7_eRead_216 : decode cX7_eRead 216 = .ok (.isub, 1) := dk_100 (dk_at dksX7_eRead_9 4 rfl rfl)
theorem dX7_eRead_217 : decode cX7_eRead 217 = .ok (.putfield 202, 3) := dk_181 0 202 (dk_at dksX7_eRead_9 5 rfl rfl)
theorem dX7_eRead_220 : decode cX7_eRead 220 = .ok (.aload_n 0, 1) := dk_42 (dk_at dksX7_eRead_9 8 rfl rfl)
theorem dX7_eRead_221 : decode cX7_eRead 221 = .ok (.bipush 7, 2) := dk_16 7 (dk_at dksX7_eRead_9 9 rfl rfl)
theorem dX7_eRead_223 : decode cX7_eRead 223 = .ok (.invokevirtual 212, 3) := dk_182 0 212 (dk_at dksX7_eRead_9 11 rfl rfl)
theorem dX7_eRead_226 : decode cX7_eRead 226 = .ok (.goto (-212), 3) := dk_167 255 44 (dk_at dksX7_eRead_9 14 rfl rfl)
theorem dX7_eRead_229 : decode cX7_eRead 229 = .ok (.aload_n 0, 1) := dk_42 (dk_at dksX7_eRead_9 17 rfl rfl)
theorem dX7_eRead_230 : decode cX7_eRead 230 = .ok (.invokevirtual 222, 3) := dk_182 0 222 (dk_at dksX7_eRead_9 18 rfl rfl)
theorem dX7_eRead_233 : decode cX7_eRead 233 = .ok (.istore_n 3, 1) := dk_62 (dk_at dksX7_eRead_9 21 rfl rfl)
theorem dX7_eRead_234 : decode cX7_eRead 234 = .ok (.iload_n 3, 1) := dk_29 (dk_at dksX7_eRead_9 22 rfl rfl)
theorem dX7_eRead_235 : decode cX7_eRead 235 = .ok (.iconst (-1), 1) := dk_2 (dk_at dksX7_eRead_9 23 rfl rfl)
theorem dX7_eRead_236 : decode cX7_eRead 236 = .ok (.if_icmp .eq 11, 3) := dk_159 0 11 (dk_at dksX7_eRead_10 0 rfl rfl)
theorem dX7_eRead_239 : decode cX7_eRead 239 = .ok (.aload_n 0, 1) := dk_42 (dk_at dksX7_eRead_10 3 rfl rfl)
theorem dX7_eRead_240 : decode cX7_eRead 240 = .ok (.iload_n 3, 1) := dk_29 (dk_at dksX7_eRead_10 4 rfl rfl)
theorem dX7_eRead_241 : decode cX7_eRead 241 = .ok (.invokevirtual 226, 3) := dk_182 0 226 (dk_at dksX7_eRead_10 5 rfl rfl)
theorem dX7_eRead_244 : decode cX7_eRead 244 = .ok (.ifCond .ne 5, 3) := dk_154 0 5 (dk_at dksX7_eRead_10 8 rfl rfl)
theorem dX7_eRead_247 : decode cX7_eRead 247 = .ok (.iconst 0, 1) := dk_3 (dk_at dksX7_eRead_10 11 rfl rfl)
theorem dX7_eRead_248 : decode cX7_eRead 248 = .ok (.ireturn, 1) := dk_172 (dk_at dksX7_eRead_10 12 rfl rfl)
theorem dX7_eRead_249 : decode cX7_eRead 249 = .ok (.iconst 1, 1) := dk_4 (dk_at dksX7_eRead_10 13 rfl rfl)
theorem dX7_eRead_250 : decode cX7_eRead 250 = .ok (.istore_n 1, 1) := dk_60 (dk_at dksX7_eRead_10 14 rfl rfl)
theorem dX7_eRead_251 : decode cX7_eRead 251 = .ok (.iload_n 3, 1) := dk_29 (dk_at dksX7_eRead_10 15 rfl rfl)
theorem dX7_eRead_252 : decode cX7_eRead 252 = .ok (.bipush 12, 2) := dk_16 12 (dk_at dksX7_eRead_10 16 rfl rfl)
theorem dX7_eRead_254 : decode cX7_eRead 254 = .ok (.if_icmp .gt 7, 3) := dk_163 0 7 (dk_at dksX7_eRead_10 18 rfl rfl)
theorem dX7_eRead_257 : decode cX7_eRead 257 = .ok (.iconst 1, 1) := dk_4 (dk_at dksX7_eRead_10 21 rfl rfl)
theorem dX7_eRead_258 : decode cX7_eRead 258 = .ok (.goto 4, 3) := dk_167 0 4 (dk_at dksX7_eRead_11 0 rfl rfl)
theorem dX7_eRead_261 : decode cX7_eRead 261 = .ok (.iconst 0, 1) := dk_3 (dk_at dksX7_eRead_11 3 rfl rfl)
theorem dX7_eRead_262 : decode cX7_eRead 262 = .ok (.istore_n 2, 1) := dk_61 (dk_at dksX7_eRead_11 4 rfl rfl)
theorem dX7_eRead_263 : decode cX7_eRead 263 = .ok (.goto (-249), 3) := dk_167 255 7 (dk_at dksX7_eRead_11 5 rfl rfl)
abbrev cX7_puts : ByteArray := prog_19_method_19_code
def yX7_puts : MethodName := ⟨RX7, "puts", "(I)V"⟩
def dkwX7_puts_1 : List UInt8 := [4, 96, 181, 0, 192, 177]
abbrev dktX7_puts_1 : List UInt8 := dkwX7_puts_1 ++ []
def dkwX7_puts_0 : List UInt8 := [42, 180, 0, 38, 17, 0, 200, 42, 180, 0, 44, 104, 42, 180, 0, 192, 96, 27, 79, 42, 89, 180, 0, 192]
abbrev dktX7_puts_0 : List UInt8 := dkwX7_puts_0 ++ dktX7_puts_1
theorem dksX7_puts_0 : cX7_puts.data.toList.drop 0 = dktX7_puts_0 := by decide +kernel
theorem dksX7_puts_1 : cX7_puts.data.toList.drop 24 = dktX7_puts_1 := dk_seg dksX7_puts_0 24 rfl rfl
theorem dX7_puts_0 : decode cX7_puts 0 = .ok (.aload_n 0, 1) := dk_42 (dk_at dksX7_puts_0 0 rfl rfl)
theorem dX7_puts_1 : decode cX7_puts 1 = .ok (.getfield 38, 3) := dk_180 0 38 (dk_at dksX7_puts_0 1 rfl rfl)
theorem dX7_puts_4 : decode cX7_puts 4 = .ok (.sipush 200, 3) := dk_17 0 200 (dk_at dksX7_puts_0 4 rfl rfl)
theorem dX7_puts_7 : decode cX7_puts 7 = .ok (.aload_n 0, 1) := dk_42 (dk_at dksX7_puts_0 7 rfl rfl)
theorem dX7_puts_8 : decode cX7_puts 8 = .ok (.getfield 44, 3) := dk_180 0 44 (dk_at dksX7_puts_0 8 rfl rfl)
theorem dX7_puts_11 : decode cX7_puts 11 = .ok (.imul, 1) := dk_104 (dk_at dksX7_puts_0 11 rfl rfl)
theorem dX7_puts_12 : decode cX7_puts 12 = .ok (.aload_n 0, 1) := dk_42 (dk_at dksX7_puts_0 12 rfl rfl)
theorem dX7_puts_13 : decode cX7_puts 13 = .ok (.getfield 192, 3) := dk_180 0 192 (dk_at dksX7_puts_0 13 rfl rfl)
theorem dX7_puts_16 : decode cX7_puts 16 = .ok (.iadd, 1) := dk_96 (dk_at dksX7_puts_0 16 rfl rfl)
theorem dX7_puts_17 : decode cX7_puts 17 = .ok (.iload_n 1, 1) := dk_27 (dk_at dksX7_puts_0 17 rfl rfl)
theorem dX7_puts_18 : decode cX7_puts 18 = .ok (.iastore, 1) := dk_79 (dk_at dksX7_puts_0 18 rfl rfl)
theorem dX7_puts_19 : decode cX7_puts 19 = .ok (.aload_n 0, 1) := dk_42 (dk_at dksX7_puts_0 19 rfl rfl)
theorem dX7_puts_20 : decode cX7_puts 20 = .ok (.dup, 1) := dk_89 (dk_at dksX7_puts_0 20 rfl rfl)
theorem dX7_puts_21 : decode cX7_puts 21 = .ok (.getfield 192, 3) := dk_180 0 192 (dk_at dksX7_puts_0 21 rfl rfl)
theorem dX7_puts_24 : decode cX7_puts 24 = .ok (.iconst 1, 1) := dk_4 (dk_at dksX7_puts_1 0 rfl rfl)
theorem dX7_puts_25 : decode cX7_puts 25 = .ok (.iadd, 1) := dk_96 (dk_at dksX7_puts_1 1 rfl rfl)
theorem dX7_puts_26 : decode cX7_puts 26 = .ok (.putfield 192, 3) := dk_181 0 192 (dk_at dksX7_puts_1 2 rfl rfl)
theorem dX7_puts_29 : decode cX7_puts 29 = .ok (.return_, 1) := dk_177 (dk_at dksX7_puts_1 5 rfl rfl)
abbrev cX7_unwinds : ByteArray := prog_19_method_20_code
def yX7_unwinds : MethodName := ⟨RX7, "unwinds", "(I)V"⟩
def dkwX7_unwinds_3 : List UInt8 := [181, 0, 202, 42, 28, 182, 0, 205, 167, 255, 180, 177]
abbrev dktX7_unwinds_3 : List UInt8 := dkwX7_unwinds_3 ++ []
def dkwX7_unwinds_2 : List UInt8 := [89, 180, 0, 202, 28, 16, 13, 159, 0, 9, 28, 16, 19, 160, 0, 7, 4, 167, 0, 4, 3, 100]
abbrev dktX7_unwinds_2 : List UInt8 := dkwX7_unwinds_2 ++ dktX7_unwinds_3
def dkwX7_unwinds_1 : List UInt8 := [161, 0, 57, 42, 89, 180, 0, 195, 4, 100, 181, 0, 195, 42, 180, 0, 118, 42, 180, 0, 195, 46, 61, 42]
abbrev dktX7_unwinds_1 : List UInt8 := dkwX7_unwinds_1 ++ dktX7_unwinds_2
def dkwX7_unwinds_0 : List UInt8 := [42, 180, 0, 195, 158, 0, 75, 42, 180, 0, 118, 42, 180, 0, 195, 4, 100, 46, 184, 0, 198, 27]
abbrev dktX7_unwinds_0 : List UInt8 := dkwX7_unwinds_0 ++ dktX7_unwinds_1
theorem dksX7_unwinds_0 : cX7_unwinds.data.toList.drop 0 = dktX7_unwinds_0 := by decide +kernel
theorem dksX7_unwinds_1 : cX7_unwinds.data.toList.drop 22 = dktX7_unwinds_1 := dk_seg dksX7_unwinds_0 22 rfl rfl
theorem dksX7_unwinds_2 : cX7_unwinds.data.toList.drop 46 = dktX7_unwinds_2 := dk_seg dksX7_unwinds_1 24 rfl rfl
theorem dksX7_unwinds_3 : cX7_unwinds.data.toList.drop 68 = dktX7_unwinds_3 := dk_seg dksX7_unwinds_2 22 rfl rfl
theorem dX7_unwinds_0 : decode cX7_unwinds 0 = .ok (.aload_n 0, 1) := dk_42 (dk_at dksX7_unwinds_0 0 rfl rfl)
theorem dX7_unwinds_1 : decode cX7_unwinds 1 = .ok (.getfield 195, 3) := dk_180 0 195 (dk_at dksX7_unwinds_0 1 rfl rfl)
theorem dX7_unwinds_4 : decode cX7_unwinds 4 = .ok (.ifCond .le 75, 3) := dk_158 0 75 (dk_at dksX7_unwinds_0 4 rfl rfl)
theorem dX7_unwinds_7 : decode cX7_unwinds 7 = .ok (.aload_n 0, 1) := dk_42 (dk_at dksX7_unwinds_0 7 rfl rfl)
theorem dX7_unwinds_8 : decode cX7_unwinds 8 = .ok (.getfield 118, 3) := dk_180 0 118 (dk_at dksX7_unwinds_0 8 rfl rfl)
theorem dX7_unwinds_11 : decode cX7_unwinds 11 = .ok (.aload_n 0, 1) := dk_42 (dk_at dksX7_unwinds_0 11 rfl rfl)
theorem dX7_unwinds_12 : decode cX7_unwinds 12 = .ok (.getfield 195, 3) := dk_180 0 195 (dk_at dksX7_unwinds_0 12 rfl rfl)
theorem dX7_unwinds_15 : decode cX7_unwinds 15 = .ok (.iconst 1, 1) := dk_4 (dk_at dksX7_unwinds_0 15 rfl rfl)
theorem dX7_unwinds_16 : decode cX7_unwinds 16 = .ok (.isub, 1) := dk_100 (dk_at dksX7_unwinds_0 16 rfl rfl)
theorem dX7_unwinds_17 : decode cX7_unwinds 17 = .ok (.iaload, 1) := dk_46 (dk_at dksX7_unwinds_0 17 rfl rfl)
theorem dX7_unwinds_18 : decode cX7_unwinds 18 = .ok (.invokestatic 198, 3) := dk_184 0 198 (dk_at dksX7_unwinds_0 18 rfl rfl)
theorem dX7_unwinds_21 : decode cX7_unwinds 21 = .ok (.iload_n 1, 1) := dk_27 (dk_at dksX7_unwinds_0 21 rfl rfl)
theorem dX7_unwinds_22 : decode cX7_unwinds 22 = .ok (.if_icmp .lt 57, 3) := dk_161 0 57 (dk_at dksX7_unwinds_1 0 rfl rfl)
theorem dX7_unwinds_25 : decode cX7_unwinds 25 = .ok (.aload_n 0, 1) := dk_42 (dk_at dksX7_unwinds_1 3 rfl rfl)
theorem dX7_unwinds_26 : decode cX7_unwinds 26 = .ok (.dup, 1) := dk_89 (dk_at dksX7_unwinds_1 4 rfl rfl)
theorem dX7_unwinds_27 : decode cX7_unwinds 27 = .ok (.getfield 195, 3) := dk_180 0 195 (dk_at dksX7_unwinds_1 5 rfl rfl)
theorem dX7_unwinds_30 : decode cX7_unwinds 30 = .ok (.iconst 1, 1) := dk_4 (dk_at dksX7_unwinds_1 8 rfl rfl)
theorem dX7_unwinds_31 : decode cX7_unwinds 31 = .ok (.isub, 1) := dk_100 (dk_at dksX7_unwinds_1 9 rfl rfl)
theorem dX7_unwinds_32 : decode cX7_unwinds 32 = .ok (.putfield 195, 3) := dk_181 0 195 (dk_at dksX7_unwinds_1 10 rfl rfl)
theorem dX7_unwinds_35 : decode cX7_unwinds 35 = .ok (.aload_n 0, 1) := dk_42 (dk_at dksX7_unwinds_1 13 rfl rfl)
theorem dX7_unwinds_36 : decode cX7_unwinds 36 = .ok (.getfield 118, 3) := dk_180 0 118 (dk_at dksX7_unwinds_1 14 rfl rfl)
theorem dX7_unwinds_39 : decode cX7_unwinds 39 = .ok (.aload_n 0, 1) := dk_42 (dk_at dksX7_unwinds_1 17 rfl rfl)
theorem dX7_unwinds_40 : decode cX7_unwinds 40 = .ok (.getfield 195, 3) := dk_180 0 195 (dk_at dksX7_unwinds_1 18 rfl rfl)
theorem dX7_unwinds_43 : decode cX7_unwinds 43 = .ok (.iaload, 1) := dk_46 (dk_at dksX7_unwinds_1 21 rfl rfl)
theorem dX7_unwinds_44 : decode cX7_unwinds 44 = .ok (.istore_n 2, 1) := dk_61 (dk_at dksX7_unwinds_1 22 rfl rfl)
theorem dX7_unwinds_45 : decode cX7_unwinds 45 = .ok (.aload_n 0, 1) := dk_42 (dk_at dksX7_unwinds_1 23 rfl rfl)
theorem dX7_unwinds_46 : decode cX7_unwinds 46 = .ok (.dup, 1) := dk_89 (dk_at dksX7_unwinds_2 0 rfl rfl)
theorem dX7_unwinds_47 : decode cX7_unwinds 47 = .ok (.getfield 202, 3) := dk_180 0 202 (dk_at dksX7_unwinds_2 1 rfl rfl)
theorem dX7_unwinds_50 : decode cX7_unwinds 50 = .ok (.iload_n 2, 1) := dk_28 (dk_at dksX7_unwinds_2 4 rfl rfl)
theorem dX7_unwinds_51 : decode cX7_unwinds 51 = .ok (.bipush 13, 2) := dk_16 13 (dk_at dksX7_unwinds_2 5 rfl rfl)
theorem dX7_unwinds_53 : decode cX7_unwinds 53 = .ok (.if_icmp .eq 9, 3) := dk_159 0 9 (dk_at dksX7_unwinds_2 7 rfl rfl)
theorem dX7_unwinds_56 : decode cX7_unwinds 56 = .ok (.iload_n 2, 1) := dk_28 (dk_at dksX7_unwinds_2 10 rfl rfl)
theorem dX7_unwinds_57 : decode cX7_unwinds 57 = .ok (.bipush 19, 2) := dk_16 19 (dk_at dksX7_unwinds_2 11 rfl rfl)
theorem dX7_unwinds_59 : decode cX7_unwinds 59 = .ok (.if_icmp .ne 7, 3) := dk_160 0 7 (dk_at dksX7_unwinds_2 13 rfl rfl)
theorem dX7_unwinds_62 : decode cX7_unwinds 62 = .ok (.iconst 1, 1) := dk_4 (dk_at dksX7_unwinds_2 16 rfl rfl)
theorem dX7_unwinds_63 : decode cX7_unwinds 63 = .ok (.goto 4, 3) := dk_167 0 4 (dk_at dksX7_unwinds_2 17 rfl rfl)
theorem dX7_unwinds_66 : decode cX7_unwinds 66 = .ok (.iconst 0, 1) := dk_3 (dk_at dksX7_unwinds_2 20 rfl rfl)
theorem dX7_unwinds_67 : decode cX7_unwinds 67 = .ok (.isub, 1) := dk_100 (dk_at dksX7_unwinds_2 21 rfl rfl)
theorem dX7_unwinds_68 : decode cX7_unwinds 68 = .ok (.putfield 202, 3) := dk_181 0 202 (dk_at dksX7_unwinds_3 0 rfl rfl)
theorem dX7_unwinds_71 : decode cX7_unwinds 71 = .ok (.aload_n 0, 1) := dk_42 (dk_at dksX7_unwinds_3 3 rfl rfl)
theorem dX7_unwinds_72 : decode cX7_unwinds 72 = .ok (.iload_n 2, 1) := dk_28 (dk_at dksX7_unwinds_3 4 rfl rfl)
theorem dX7_unwinds_73 : decode cX7_unwinds 73 = .ok (.invokevirtual 205, 3) := dk_182 0 205 (dk_at dksX7_unwinds_3 5 rfl rfl)
theorem dX7_unwinds_76 : decode cX7_unwinds 76 = .ok (.goto (-76), 3) := dk_167 255 180 (dk_at dksX7_unwinds_3 8 rfl rfl)
theorem dX7_unwinds_79 : decode cX7_unwinds 79 = .ok (.return_, 1) := dk_177 (dk_at dksX7_unwinds_3 11 rfl rfl)
abbrev cX7_rank : ByteArray := prog_19_method_18_code
def yX7_rank : MethodName := ⟨RX7, "rank", "(I)I"⟩
def dkwX7_rank_2 : List UInt8 := [26, 16, 17, 163, 0, 7, 8, 167, 0, 16, 26, 16, 18, 160, 0, 8, 16, 6, 167, 0, 5, 16, 7, 172]
abbrev dktX7_rank_2 : List UInt8 := dkwX7_rank_2 ++ []
def dkwX7_rank_1 : List UInt8 := [5, 167, 0, 46, 26, 16, 13, 160, 0, 7, 6, 167, 0, 36, 26, 16, 15, 163, 0, 7, 7, 167, 0, 26]
abbrev dktX7_rank_1 : List UInt8 := dkwX7_rank_1 ++ dktX7_rank_2
def dkwX7_rank_0 : List UInt8 := [26, 154, 0, 7, 3, 167, 0, 66, 26, 16, 11, 160, 0, 7, 4, 167, 0, 56, 26, 16, 12, 160, 0, 7]
abbrev dktX7_rank_0 : List UInt8 := dkwX7_rank_0 ++ dktX7_rank_1
theorem dksX7_rank_0 : cX7_rank.data.toList.drop 0 = dktX7_rank_0 := by decide +kernel
theorem dksX7_rank_1 : cX7_rank.data.toList.drop 24 = dktX7_rank_1 := dk_seg dksX7_rank_0 24 rfl rfl
theorem dksX7_rank_2 : cX7_rank.data.toList.drop 48 = dktX7_rank_2 := dk_seg dksX7_rank_1 24 rfl rfl
theorem dX7_rank_0 : decode cX7_rank 0 = .ok (.iload_n 0, 1) := dk_26 (dk_at dksX7_rank_0 0 rfl rfl)
theorem dX7_rank_1 : decode cX7_rank 1 = .ok (.ifCond .ne 7, 3) := dk_154 0 7 (dk_at dksX7_rank_0 1 rfl rfl)
theorem dX7_rank_4 : decode cX7_rank 4 = .ok (.iconst 0, 1) := dk_3 (dk_at dksX7_rank_0 4 rfl rfl)
theorem dX7_rank_5 : decode cX7_rank 5 = .ok (.goto 66, 3) := dk_167 0 66 (dk_at dksX7_rank_0 5 rfl rfl)
theorem dX7_rank_8 : decode cX7_rank 8 = .ok (.iload_n 0, 1) := dk_26 (dk_at dksX7_rank_0 8 rfl rfl)
theorem dX7_rank_9 : decode cX7_rank 9 = .ok (.bipush 11, 2) := dk_16 11 (dk_at dksX7_rank_0 9 rfl rfl)
theorem dX7_rank_11 : decode cX7_rank 11 = .ok (.if_icmp .ne 7, 3) := dk_160 0 7 (dk_at dksX7_rank_0 11 rfl rfl)
theorem dX7_rank_14 : decode cX7_rank 14 = .ok (.iconst 1, 1) := dk_4 (dk_at dksX7_rank_0 14 rfl rfl)
theorem dX7_rank_15 : decode cX7_rank 15 = .ok (.goto 56, 3) := dk_167 0 56 (dk_at dksX7_rank_0 15 rfl rfl)
theorem dX7_rank_18 : decode cX7_rank 18 = .ok (.iload_n 0, 1) := dk_26 (dk_at dksX7_rank_0 18 rfl rfl)
theorem dX7_rank_19 : decode cX7_rank 19 = .ok (.bipush 12, 2) := dk_16 12 (dk_at dksX7_rank_0 19 rfl rfl)
theorem dX7_rank_21 : decode cX7_rank 21 = .ok (.if_icmp .ne 7, 3) := dk_160 0 7 (dk_at dksX7_rank_0 21 rfl rfl)
theorem dX7_rank_24 : decode cX7_rank 24 = .ok (.iconst 2, 1) := dk_5 (dk_at dksX7_rank_1 0 rfl rfl)
theorem dX7_rank_25 : decode cX7_rank 25 = .ok (.goto 46, 3) := dk_167 0 46 (dk_at dksX7_rank_1 1 rfl rfl)
theorem dX7_rank_28 : decode cX7_rank 28 = .ok (.iload_n 0, 1) := dk_26 (dk_at dksX7_rank_1 4 rfl rfl)
theorem dX7_rank_29 : decode cX7_rank 29 = .ok (.bipush 13, 2) := dk_16 13 (dk_at dksX7_rank_1 5 rfl rfl)
theorem dX7_rank_31 : decode cX7_rank 31 = .ok (.if_icmp .ne 7, 3) := dk_160 0 7 (dk_at dksX7_rank_1 7 rfl rfl)
theorem dX7_rank_34 : decode cX7_rank 34 = .ok (.iconst 3, 1) := dk_6 (dk_at dksX7_rank_1 10 rfl rfl)
theorem dX7_rank_35 : decode cX7_rank 35 = .ok (.goto 36, 3) := dk_167 0 36 (dk_at dksX7_rank_1 11 rfl rfl)
theorem dX7_rank_38 : decode cX7_rank 38 = .ok (.iload_n 0, 1) := dk_26 (dk_at dksX7_rank_1 14 rfl rfl)
theorem dX7_rank_39 : decode cX7_rank 39 = .ok (.bipush 15, 2) := dk_16 15 (dk_at dksX7_rank_1 15 rfl rfl)
theorem dX7_rank_41 : decode cX7_rank 41 = .ok (.if_icmp .gt 7, 3) := dk_163 0 7 (dk_at dksX7_rank_1 17 rfl rfl)
theorem dX7_rank_44 : decode cX7_rank 44 = .ok (.iconst 4, 1) := dk_7 (dk_at dksX7_rank_1 20 rfl rfl)
theorem dX7_rank_45 : decode cX7_rank 45 = .ok (.goto 26, 3) := dk_167 0 26 (dk_at dksX7_rank_1 21 rfl rfl)
theorem dX7_rank_48 : decode cX7_rank 48 = .ok (.iload_n 0, 1) := dk_26 (dk_at dksX7_rank_2 0 rfl rfl)
theorem dX7_rank_49 : decode cX7_rank 49 = .ok (.bipush 17, 2) := dk_16 17 (dk_at dksX7_rank_2 1 rfl rfl)
theorem dX7_rank_51 : decode cX7_rank 51 = .ok (.if_icmp .gt 7, 3) := dk_163 0 7 (dk_at dksX7_rank_2 3 rfl rfl)
theorem dX7_rank_54 : decode cX7_rank 54 = .ok (.iconst 5, 1) := dk_8 (dk_at dksX7_rank_2 6 rfl rfl)
theorem dX7_rank_55 : decode cX7_rank 55 = .ok (.goto 16, 3) := dk_167 0 16 (dk_at dksX7_rank_2 7 rfl rfl)
theorem dX7_rank_58 : decode cX7_rank 58 = .ok (.iload_n 0, 1) := dk_26 (dk_at dksX7_rank_2 10 rfl rfl)
theorem dX7_rank_59 : decode cX7_rank 59 = .ok (.bipush 18, 2) := dk_16 18 (dk_at dksX7_rank_2 11 rfl rfl)
theorem dX7_rank_61 : decode cX7_rank 61 = .ok (.if_icmp .ne 8, 3) := dk_160 0 8 (dk_at dksX7_rank_2 13 rfl rfl)
theorem dX7_rank_64 : decode cX7_rank 64 = .ok (.bipush 6, 2) := dk_16 6 (dk_at dksX7_rank_2 16 rfl rfl)
theorem dX7_rank_66 : decode cX7_rank 66 = .ok (.goto 5, 3) := dk_167 0 5 (dk_at dksX7_rank_2 18 rfl rfl)
theorem dX7_rank_69 : decode cX7_rank 69 = .ok (.bipush 7, 2) := dk_16 7 (dk_at dksX7_rank_2 21 rfl rfl)
theorem dX7_rank_71 : decode cX7_rank 71 = .ok (.ireturn, 1) := dk_172 (dk_at dksX7_rank_2 23 rfl rfl)
abbrev cX7_opensOne : ByteArray := prog_19_method_22_code
def yX7_opensOne : MethodName := ⟨RX7, "opensOne", "(I)Z"⟩
def dkwX7_opensOne_1 : List UInt8 := [182, 0, 209, 4, 172]
abbrev dktX7_opensOne_1 : List UInt8 := dkwX7_opensOne_1 ++ []
def dkwX7_opensOne_0 : List UInt8 := [42, 180, 0, 202, 8, 160, 0, 5, 3, 172, 42, 89, 180, 0, 202, 4, 96, 181, 0, 202, 42, 27]
abbrev dktX7_opensOne_0 : List UInt8 := dkwX7_opensOne_0 ++ dktX7_opensOne_1
theorem dksX7_opensOne_0 : cX7_opensOne.data.toList.drop 0 = dktX7_opensOne_0 := by decide +kernel
theorem dksX7_opensOne_1 : cX7_opensOne.data.toList.drop 22 = dktX7_opensOne_1 := dk_seg dksX7_opensOne_0 22 rfl rfl
theorem dX7_opensOne_0 : decode cX7_opensOne 0 = .ok (.aload_n 0, 1) := dk_42 (dk_at dksX7_opensOne_0 0 rfl rfl)
theorem dX7_opensOne_1 : decode cX7_opensOne 1 = .ok (.getfield 202, 3) := dk_180 0 202 (dk_at dksX7_opensOne_0 1 rfl rfl)
theorem dX7_opensOne_4 : decode cX7_opensOne 4 = .ok (.iconst 5, 1) := dk_8 (dk_at dksX7_opensOne_0 4 rfl rfl)
theorem dX7_opensOne_5 : decode cX7_opensOne 5 = .ok (.if_icmp .ne 5, 3) := dk_160 0 5 (dk_at dksX7_opensOne_0 5 rfl rfl)
theorem dX7_opensOne_8 : decode cX7_opensOne 8 = .ok (.iconst 0, 1) := dk_3 (dk_at dksX7_opensOne_0 8 rfl rfl)
theorem dX7_opensOne_9 : decode cX7_opensOne 9 = .ok (.ireturn, 1) := dk_172 (dk_at dksX7_opensOne_0 9 rfl rfl)
theorem dX7_opensOne_10 : decode cX7_opensOne 10 = .ok (.aload_n 0, 1) := dk_42 (dk_at dksX7_opensOne_0 10 rfl rfl)
theorem dX7_opensOne_11 : decode cX7_opensOne 11 = .ok (.dup, 1) := dk_89 (dk_at dksX7_opensOne_0 11 rfl rfl)
theorem dX7_opensOne_12 : decode cX7_opensOne 12 = .ok (.getfield 202, 3) := dk_180 0 202 (dk_at dksX7_opensOne_0 12 rfl rfl)
theorem dX7_opensOne_15 : decode cX7_opensOne 15 = .ok (.iconst 1, 1) := dk_4 (dk_at dksX7_opensOne_0 15 rfl rfl)
theorem dX7_opensOne_16 : decode cX7_opensOne 16 = .ok (.iadd, 1) := dk_96 (dk_at dksX7_opensOne_0 16 rfl rfl)
theorem dX7_opensOne_17 : decode cX7_opensOne 17 = .ok (.putfield 202, 3) := dk_181 0 202 (dk_at dksX7_opensOne_0 17 rfl rfl)
theorem dX7_opensOne_20 : decode cX7_opensOne 20 = .ok (.aload_n 0, 1) := dk_42 (dk_at dksX7_opensOne_0 20 rfl rfl)
theorem dX7_opensOne_21 : decode cX7_opensOne 21 = .ok (.iload_n 1, 1) := dk_27 (dk_at dksX7_opensOne_0 21 rfl rfl)
theorem dX7_opensOne_22 : decode cX7_opensOne 22 = .ok (.invokevirtual 209, 3) := dk_182 0 209 (dk_at dksX7_opensOne_1 0 rfl rfl)
theorem dX7_opensOne_25 : decode cX7_opensOne 25 = .ok (.iconst 1, 1) := dk_4 (dk_at dksX7_opensOne_1 3 rfl rfl)
theorem dX7_opensOne_26 : decode cX7_opensOne 26 = .ok (.ireturn, 1) := dk_172 (dk_at dksX7_opensOne_1 4 rfl rfl)
abbrev cX7_holds : ByteArray := prog_19_method_21_code
def yX7_holds : MethodName := ⟨RX7, "holds", "(I)V"⟩
def dkwX7_holds_0 : List UInt8 := [42, 180, 0, 118, 42, 180, 0, 195, 27, 79, 42, 89, 180, 0, 195, 4, 96, 181, 0, 195, 177]
abbrev dktX7_holds_0 : List UInt8 := dkwX7_holds_0 ++ []
theorem dksX7_holds_0 : cX7_holds.data.toList.drop 0 = dktX7_holds_0 := by decide +kernel
theorem dX7_holds_0 : decode cX7_holds 0 = .ok (.aload_n 0, 1) := dk_42 (dk_at dksX7_holds_0 0 rfl rfl)
theorem dX7_holds_1 : decode cX7_holds 1 = .ok (.getfield 118, 3) := dk_180 0 118 (dk_at dksX7_holds_0 1 rfl rfl)
theorem dX7_holds_4 : decode cX7_holds 4 = .ok (.aload_n 0, 1) := dk_42 (dk_at dksX7_holds_0 4 rfl rfl)
theorem dX7_holds_5 : decode cX7_holds 5 = .ok (.getfield 195, 3) := dk_180 0 195 (dk_at dksX7_holds_0 5 rfl rfl)
theorem dX7_holds_8 : decode cX7_holds 8 = .ok (.iload_n 1, 1) := dk_27 (dk_at dksX7_holds_0 8 rfl rfl)
theorem dX7_holds_9 : decode cX7_holds 9 = .ok (.iastore, 1) := dk_79 (dk_at dksX7_holds_0 9 rfl rfl)
theorem dX7_holds_10 : decode cX7_holds 10 = .ok (.aload_n 0, 1) := dk_42 (dk_at dksX7_holds_0 10 rfl rfl)
theorem dX7_holds_11 : decode cX7_holds 11 = .ok (.dup, 1) := dk_89 (dk_at dksX7_holds_0 11 rfl rfl)
theorem dX7_holds_12 : decode cX7_holds 12 = .ok (.getfield 195, 3) := dk_180 0 195 (dk_at dksX7_holds_0 12 rfl rfl)
theorem dX7_holds_15 : decode cX7_holds 15 = .ok (.iconst 1, 1) := dk_4 (dk_at dksX7_holds_0 15 rfl rfl)
theorem dX7_holds_16 : decode cX7_holds 16 = .ok (.iadd, 1) := dk_96 (dk_at dksX7_holds_0 16 rfl rfl)
theorem dX7_holds_17 : decode cX7_holds 17 = .ok (.putfield 195, 3) := dk_181 0 195 (dk_at dksX7_holds_0 17 rfl rfl)
theorem dX7_holds_20 : decode cX7_holds 20 = .ok (.return_, 1) := dk_177 (dk_at dksX7_holds_0 20 rfl rfl)
abbrev cX7_signOf : ByteArray := prog_19_method_24_code
def yX7_signOf : MethodName := ⟨RX7, "signOf", "()I"⟩
def dkwX7_signOf_4 : List UInt8 := [167, 0, 4, 2, 172]
abbrev dktX7_signOf_4 : List UInt8 := dkwX7_signOf_4 ++ []
def dkwX7_signOf_3 : List UInt8 := [180, 0, 182, 16, 45, 160, 0, 8, 16, 17, 167, 0, 18, 42, 180, 0, 182, 16, 42, 160, 0, 8, 16, 18]
abbrev dktX7_signOf_3 : List UInt8 := dkwX7_signOf_3 ++ dktX7_signOf_4
def dkwX7_signOf_2 : List UInt8 := [160, 0, 8, 16, 15, 167, 0, 46, 42, 180, 0, 182, 16, 43, 160, 0, 8, 16, 16, 167, 0, 32, 42]
abbrev dktX7_signOf_2 : List UInt8 := dkwX7_signOf_2 ++ dktX7_signOf_3
def dkwX7_signOf_1 : List UInt8 := [167, 0, 74, 42, 180, 0, 182, 16, 60, 160, 0, 8, 16, 14, 167, 0, 60, 42, 180, 0, 182, 16, 61]
abbrev dktX7_signOf_1 : List UInt8 := dkwX7_signOf_1 ++ dktX7_signOf_2
def dkwX7_signOf_0 : List UInt8 := [42, 180, 0, 182, 7, 160, 0, 8, 16, 11, 167, 0, 87, 42, 180, 0, 182, 8, 160, 0, 8, 16, 12]
abbrev dktX7_signOf_0 : List UInt8 := dkwX7_signOf_0 ++ dktX7_signOf_1
theorem dksX7_signOf_0 : cX7_signOf.data.toList.drop 0 = dktX7_signOf_0 := by decide +kernel
theorem dksX7_signOf_1 : cX7_signOf.data.toList.drop 23 = dktX7_signOf_1 := dk_seg dksX7_signOf_0 23 rfl rfl
theorem dksX7_signOf_2 : cX7_signOf.data.toList.drop 46 = dktX7_signOf_2 := dk_seg dksX7_signOf_1 23 rfl rfl
theorem dksX7_signOf_3 : cX7_signOf.data.toList.drop 69 = dktX7_signOf_3 := dk_seg dksX7_signOf_2 23 rfl rfl
theorem dksX7_signOf_4 : cX7_signOf.data.toList.drop 93 = dktX7_signOf_4 := dk_seg dksX7_signOf_3 24 rfl rfl
theorem dX7_signOf_0 : decode cX7_signOf 0 = .ok (.aload_n 0, 1) := dk_42 (dk_at dksX7_signOf_0 0 rfl rfl)
theorem dX7_signOf_1 : decode cX7_signOf 1 = .ok (.getfield 182, 3) := dk_180 0 182 (dk_at dksX7_signOf_0 1 rfl rfl)
theorem dX7_signOf_4 : decode cX7_signOf 4 = .ok (.iconst 4, 1) := dk_7 (dk_at dksX7_signOf_0 4 rfl rfl)
theorem dX7_signOf_5 : decode cX7_signOf 5 = .ok (.if_icmp .ne 8, 3) := dk_160 0 8 (dk_at dksX7_signOf_0 5 rfl rfl)
theorem dX7_signOf_8 : decode cX7_signOf 8 = .ok (.bipush 11, 2) := dk_16 11 (dk_at dksX7_signOf_0 8 rfl rfl)
theorem dX7_signOf_10 : decode cX7_signOf 10 = .ok (.goto 87, 3) := dk_167 0 87 (dk_at dksX7_signOf_0 10 rfl rfl)
theorem dX7_signOf_13 : decode cX7_signOf 13 = .ok (.aload_n 0, 1) := dk_42 (dk_at dksX7_signOf_0 13 rfl rfl)
theorem dX7_signOf_14 : decode cX7_signOf 14 = .ok (.getfield 182, 3) := dk_180 0 182 (dk_at dksX7_signOf_0 14 rfl rfl)
theorem dX7_signOf_17 : decode cX7_signOf 17 = .ok (.iconst 5, 1) := dk_8 (dk_at dksX7_signOf_0 17 rfl rfl)
theorem dX7_signOf_18 : decode cX7_signOf 18 = .ok (.if_icmp .ne 8, 3) := dk_160 0 8 (dk_at dksX7_signOf_0 18 rfl rfl)
theorem dX7_signOf_21 : decode cX7_signOf 21 = .ok (.bipush 12, 2) := dk_16 12 (dk_at dksX7_signOf_0 21 rfl rfl)
theorem dX7_signOf_23 : decode cX7_signOf 23 = .ok (.goto 74, 3) := dk_167 0 74 (dk_at dksX7_signOf_1 0 rfl rfl)
theorem dX7_signOf_26 : decode cX7_signOf 26 = .ok (.aload_n 0, 1) := dk_42 (dk_at dksX7_signOf_1 3 rfl rfl)
theorem dX7_signOf_27 : decode cX7_signOf 27 = .ok (.getfield 182, 3) := dk_180 0 182 (dk_at dksX7_signOf_1 4 rfl rfl)
theorem dX7_signOf_30 : decode cX7_signOf 30 = .ok (.bipush 60, 2) := dk_16 60 (dk_at dksX7_signOf_1 7 rfl rfl)
theorem dX7_signOf_32 : decode cX7_signOf 32 = .ok (.if_icmp .ne 8, 3) := dk_160 0 8 (dk_at dksX7_signOf_1 9 rfl rfl)
theorem dX7_signOf_35 : decode cX7_signOf 35 = .ok (.bipush 14, 2) := dk_16 14 (dk_at dksX7_signOf_1 12 rfl rfl)
theorem dX7_signOf_37 : decode cX7_signOf 37 = .ok (.goto 60, 3) := dk_167 0 60 (dk_at dksX7_signOf_1 14 rfl rfl)
theorem dX7_signOf_40 : decode cX7_signOf 40 = .ok (.aload_n 0, 1) := dk_42 (dk_at dksX7_signOf_1 17 rfl rfl)
theorem dX7_signOf_41 : decode cX7_signOf 41 = .ok (.getfield 182, 3) := dk_180 0 182 (dk_at dksX7_signOf_1 18 rfl rfl)
theorem dX7_signOf_44 : decode cX7_signOf 44 = .ok (.bipush 61, 2) := dk_16 61 (dk_at dksX7_signOf_1 21 rfl rfl)
theorem dX7_signOf_46 : decode cX7_signOf 46 = .ok (.if_icmp .ne 8, 3) := dk_160 0 8 (dk_at dksX7_signOf_2 0 rfl rfl)
theorem dX7_signOf_49 : decode cX7_signOf 49 = .ok (.bipush 15, 2) := dk_16 15 (dk_at dksX7_signOf_2 3 rfl rfl)
theorem dX7_signOf_51 : decode cX7_signOf 51 = .ok (.goto 46, 3) := dk_167 0 46 (dk_at dksX7_signOf_2 5 rfl rfl)
theorem dX7_signOf_54 : decode cX7_signOf 54 = .ok (.aload_n 0, 1) := dk_42 (dk_at dksX7_signOf_2 8 rfl rfl)
theorem dX7_signOf_55 : decode cX7_signOf 55 = .ok (.getfield 182, 3) := dk_180 0 182 (dk_at dksX7_signOf_2 9 rfl rfl)
theorem dX7_signOf_58 : decode cX7_signOf 58 = .ok (.bipush 43, 2) := dk_16 43 (dk_at dksX7_signOf_2 12 rfl rfl)
theorem dX7_signOf_60 : decode cX7_signOf 60 = .ok (.if_icmp .ne 8, 3) := dk_160 0 8 (dk_at dksX7_signOf_2 14 rfl rfl)
theorem dX7_signOf_63 : decode cX7_signOf 63 = .ok (.bipush 16, 2) := dk_16 16 (dk_at dksX7_signOf_2 17 rfl rfl)
theorem dX7_signOf_65 : decode cX7_signOf 65 = .ok (.goto 32, 3) := dk_167 0 32 (dk_at dksX7_signOf_2 19 rfl rfl)
theorem dX7_signOf_68 : decode cX7_signOf 68 = .ok (.aload_n 0, 1) := dk_42 (dk_at dksX7_signOf_2 22 rfl rfl)
theorem dX7_signOf_69 : decode cX7_signOf 69 = .ok (.getfield 182, 3) := dk_180 0 182 (dk_at dksX7_signOf_3 0 rfl rfl)
theorem dX7_signOf_72 : decode cX7_signOf 72 = .ok (.bipush 45, 2) := dk_16 45 (dk_at dksX7_signOf_3 3 rfl rfl)
theorem dX7_signOf_74 : decode cX7_signOf 74 = .ok (.if_icmp .ne 8, 3) := dk_160 0 8 (dk_at dksX7_signOf_3 5 rfl rfl)
theorem dX7_signOf_77 : decode cX7_signOf 77 = .ok (.bipush 17, 2) := dk_16 17 (dk_at dksX7_signOf_3 8 rfl rfl)
theorem dX7_signOf_79 : decode cX7_signOf 79 = .ok (.goto 18, 3) := dk_167 0 18 (dk_at dksX7_signOf_3 10 rfl rfl)
theorem dX7_signOf_82 : decode cX7_signOf 82 = .ok (.aload_n 0, 1) := dk_42 (dk_at dksX7_signOf_3 13 rfl rfl)
theorem dX7_signOf_83 : decode cX7_signOf 83 = .ok (.getfield 182, 3) := dk_180 0 182 (dk_at dksX7_signOf_3 14 rfl rfl)
theorem dX7_signOf_86 : decode cX7_signOf 86 = .ok (.bipush 42, 2) := dk_16 42 (dk_at dksX7_signOf_3 17 rfl rfl)
theorem dX7_signOf_88 : decode cX7_signOf 88 = .ok (.if_icmp .ne 8, 3) := dk_160 0 8 (dk_at dksX7_signOf_3 19 rfl rfl)
theorem dX7_signOf_91 : decode cX7_signOf 91 = .ok (.bipush 18, 2) := dk_16 18 (dk_at dksX7_signOf_3 22 rfl rfl)
theorem dX7_signOf_93 : decode cX7_signOf 93 = .ok (.goto 4, 3) := dk_167 0 4 (dk_at dksX7_signOf_4 0 rfl rfl)
theorem dX7_signOf_96 : decode cX7_signOf 96 = .ok (.iconst (-1), 1) := dk_2 (dk_at dksX7_signOf_4 3 rfl rfl)
theorem dX7_signOf_97 : decode cX7_signOf 97 = .ok (.ireturn, 1) := dk_172 (dk_at dksX7_signOf_4 4 rfl rfl)
abbrev cX7_between : ByteArray := prog_19_method_23_code
def yX7_between : MethodName := ⟨RX7, "between", "(I)Z"⟩
def dkwX7_between_2 : List UInt8 := [184, 0, 198, 7, 160, 0, 5, 3, 172, 42, 27, 182, 0, 209, 4, 172]
abbrev dktX7_between_2 : List UInt8 := dkwX7_between_2 ++ []
def dkwX7_between_1 : List UInt8 := [7, 160, 0, 30, 42, 180, 0, 195, 158, 0, 23, 42, 180, 0, 118, 42, 180, 0, 195, 4, 100, 46]
abbrev dktX7_between_1 : List UInt8 := dkwX7_between_1 ++ dktX7_between_2
def dkwX7_between_0 : List UInt8 := [42, 27, 184, 0, 198, 7, 160, 0, 7, 8, 167, 0, 7, 27, 184, 0, 198, 182, 0, 212, 27, 184, 0, 198]
abbrev dktX7_between_0 : List UInt8 := dkwX7_between_0 ++ dktX7_between_1
theorem dksX7_between_0 : cX7_between.data.toList.drop 0 = dktX7_between_0 := by decide +kernel
theorem dksX7_between_1 : cX7_between.data.toList.drop 24 = dktX7_between_1 := dk_seg dksX7_between_0 24 rfl rfl
theorem dksX7_between_2 : cX7_between.data.toList.drop 46 = dktX7_between_2 := dk_seg dksX7_between_1 22 rfl rfl
theorem dX7_between_0 : decode cX7_between 0 = .ok (.aload_n 0, 1) := dk_42 (dk_at dksX7_between_0 0 rfl rfl)
theorem dX7_between_1 : decode cX7_between 1 = .ok (.iload_n 1, 1) := dk_27 (dk_at dksX7_between_0 1 rfl rfl)
theorem dX7_between_2 : decode cX7_between 2 = .ok (.invokestatic 198, 3) := dk_184 0 198 (dk_at dksX7_between_0 2 rfl rfl)
theorem dX7_between_5 : decode cX7_between 5 = .ok (.iconst 4, 1) := dk_7 (dk_at dksX7_between_0 5 rfl rfl)
theorem dX7_between_6 : decode cX7_between 6 = .ok (.if_icmp .ne 7, 3) := dk_160 0 7 (dk_at dksX7_between_0 6 rfl rfl)
theorem dX7_between_9 : decode cX7_between 9 = .ok (.iconst 5, 1) := dk_8 (dk_at dksX7_between_0 9 rfl rfl)
theorem dX7_between_10 : decode cX7_between 10 = .ok (.goto 7, 3) := dk_167 0 7 (dk_at dksX7_between_0 10 rfl rfl)
theorem dX7_between_13 : decode cX7_between 13 = .ok (.iload_n 1, 1) := dk_27 (dk_at dksX7_between_0 13 rfl rfl)
theorem dX7_between_14 : decode cX7_between 14 = .ok (.invokestatic 198, 3) := dk_184 0 198 (dk_at dksX7_between_0 14 rfl rfl)
theorem dX7_between_17 : decode cX7_between 17 = .ok (.invokevirtual 212, 3) := dk_182 0 212 (dk_at dksX7_between_0 17 rfl rfl)
theorem dX7_between_20 : decode cX7_between 20 = .ok (.iload_n 1, 1) := dk_27 (dk_at dksX7_between_0 20 rfl rfl)
theorem dX7_between_21 : decode cX7_between 21 = .ok (.invokestatic 198, 3) := dk_184 0 198 (dk_at dksX7_between_0 21 rfl rfl)
theorem dX7_between_24 : decode cX7_between 24 = .ok (.iconst 4, 1) := dk_7 (dk_at dksX7_between_1 0 rfl rfl)
theorem dX7_between_25 : decode cX7_between 25 = .ok (.if_icmp .ne 30, 3) := dk_160 0 30 (dk_at dksX7_between_1 1 rfl rfl)
theorem dX7_between_28 : decode cX7_between 28 = .ok (.aload_n 0, 1) := dk_42 (dk_at dksX7_between_1 4 rfl rfl)
theorem dX7_between_29 : decode cX7_between 29 = .ok (.getfield 195, 3) := dk_180 0 195 (dk_at dksX7_between_1 5 rfl rfl)
theorem dX7_between_32 : decode cX7_between 32 = .ok (.ifCond .le 23, 3) := dk_158 0 23 (dk_at dksX7_between_1 8 rfl rfl)
theorem dX7_between_35 : decode cX7_between 35 = .ok (.aload_n 0, 1) := dk_42 (dk_at dksX7_between_1 11 rfl rfl)
theorem dX7_between_36 : decode cX7_between 36 = .ok (.getfield 118, 3) := dk_180 0 118 (dk_at dksX7_between_1 12 rfl rfl)
theorem dX7_between_39 : decode cX7_between 39 = .ok (.aload_n 0, 1) := dk_42 (dk_at dksX7_between_1 15 rfl rfl)
theorem dX7_between_40 : decode cX7_between 40 = .ok (.getfield 195, 3) := dk_180 0 195 (dk_at dksX7_between_1 16 rfl rfl)
theorem dX7_between_43 : decode cX7_between 43 = .ok (.iconst 1, 1) := dk_4 (dk_at dksX7_between_1 19 rfl rfl)
theorem dX7_between_44 : decode cX7_between 44 = .ok (.isub, 1) := dk_100 (dk_at dksX7_between_1 20 rfl rfl)
theorem dX7_between_45 : decode cX7_between 45 = .ok (.iaload, 1) := dk_46 (dk_at dksX7_between_1 21 rfl rfl)
theorem dX7_between_46 : decode cX7_between 46 = .ok (.invokestatic 198, 3) := dk_184 0 198 (dk_at dksX7_between_2 0 rfl rfl)
theorem dX7_between_49 : decode cX7_between 49 = .ok (.iconst 4, 1) := dk_7 (dk_at dksX7_between_2 3 rfl rfl)
theorem dX7_between_50 : decode cX7_between 50 = .ok (.if_icmp .ne 5, 3) := dk_160 0 5 (dk_at dksX7_between_2 4 rfl rfl)
theorem dX7_between_53 : decode cX7_between 53 = .ok (.iconst 0, 1) := dk_3 (dk_at dksX7_between_2 7 rfl rfl)
theorem dX7_between_54 : decode cX7_between 54 = .ok (.ireturn, 1) := dk_172 (dk_at dksX7_between_2 8 rfl rfl)
theorem dX7_between_55 : decode cX7_between 55 = .ok (.aload_n 0, 1) := dk_42 (dk_at dksX7_between_2 9 rfl rfl)
theorem dX7_between_56 : decode cX7_between 56 = .ok (.iload_n 1, 1) := dk_27 (dk_at dksX7_between_2 10 rfl rfl)
theorem dX7_between_57 : decode cX7_between 57 = .ok (.invokevirtual 209, 3) := dk_182 0 209 (dk_at dksX7_between_2 11 rfl rfl)
theorem dX7_between_60 : decode cX7_between 60 = .ok (.iconst 1, 1) := dk_4 (dk_at dksX7_between_2 14 rfl rfl)
theorem dX7_between_61 : decode cX7_between 61 = .ok (.ireturn, 1) := dk_172 (dk_at dksX7_between_2 15 rfl rfl)
abbrev cX7_force : ByteArray := prog_19_method_30_code
def yX7_force : MethodName := ⟨RX7, "force", "(I)I"⟩
def dkwX7_force_1 : List UInt8 := [181, 0, 233, 28, 172]
abbrev dktX7_force_1 : List UInt8 := dkwX7_force_1 ++ []
def dkwX7_force_0 : List UInt8 := [27, 3, 42, 180, 0, 44, 4, 100, 184, 0, 154, 154, 0, 6, 16, 254, 172, 42, 180, 0, 233, 61, 42, 27]
abbrev dktX7_force_0 : List UInt8 := dkwX7_force_0 ++ dktX7_force_1
theorem dksX7_force_0 : cX7_force.data.toList.drop 0 = dktX7_force_0 := by decide +kernel
theorem dksX7_force_1 : cX7_force.data.toList.drop 24 = dktX7_force_1 := dk_seg dksX7_force_0 24 rfl rfl
theorem dX7_force_0 : decode cX7_force 0 = .ok (.iload_n 1, 1) := dk_27 (dk_at dksX7_force_0 0 rfl rfl)
theorem dX7_force_1 : decode cX7_force 1 = .ok (.iconst 0, 1) := dk_3 (dk_at dksX7_force_0 1 rfl rfl)
theorem dX7_force_2 : decode cX7_force 2 = .ok (.aload_n 0, 1) := dk_42 (dk_at dksX7_force_0 2 rfl rfl)
theorem dX7_force_3 : decode cX7_force 3 = .ok (.getfield 44, 3) := dk_180 0 44 (dk_at dksX7_force_0 3 rfl rfl)
theorem dX7_force_6 : decode cX7_force 6 = .ok (.iconst 1, 1) := dk_4 (dk_at dksX7_force_0 6 rfl rfl)
theorem dX7_force_7 : decode cX7_force 7 = .ok (.isub, 1) := dk_100 (dk_at dksX7_force_0 7 rfl rfl)
theorem dX7_force_8 : decode cX7_force 8 = .ok (.invokestatic 154, 3) := dk_184 0 154 (dk_at dksX7_force_0 8 rfl rfl)
theorem dX7_force_11 : decode cX7_force 11 = .ok (.ifCond .ne 6, 3) := dk_154 0 6 (dk_at dksX7_force_0 11 rfl rfl)
theorem dX7_force_14 : decode cX7_force 14 = .ok (.bipush (-2), 2) := dk_16 254 (dk_at dksX7_force_0 14 rfl rfl)
theorem dX7_force_16 : decode cX7_force 16 = .ok (.ireturn, 1) := dk_172 (dk_at dksX7_force_0 16 rfl rfl)
theorem dX7_force_17 : decode cX7_force 17 = .ok (.aload_n 0, 1) := dk_42 (dk_at dksX7_force_0 17 rfl rfl)
theorem dX7_force_18 : decode cX7_force 18 = .ok (.getfield 233, 3) := dk_180 0 233 (dk_at dksX7_force_0 18 rfl rfl)
theorem dX7_force_21 : decode cX7_force 21 = .ok (.istore_n 2, 1) := dk_61 (dk_at dksX7_force_0 21 rfl rfl)
theorem dX7_force_22 : decode cX7_force 22 = .ok (.aload_n 0, 1) := dk_42 (dk_at dksX7_force_0 22 rfl rfl)
theorem dX7_force_23 : decode cX7_force 23 = .ok (.iload_n 1, 1) := dk_27 (dk_at dksX7_force_0 23 rfl rfl)
theorem dX7_force_24 : decode cX7_force 24 = .ok (.putfield 233, 3) := dk_181 0 233 (dk_at dksX7_force_1 0 rfl rfl)
theorem dX7_force_27 : decode cX7_force 27 = .ok (.iload_n 2, 1) := dk_28 (dk_at dksX7_force_1 3 rfl rfl)
theorem dX7_force_28 : decode cX7_force 28 = .ok (.ireturn, 1) := dk_172 (dk_at dksX7_force_1 4 rfl rfl)
abbrev cX7_says : ByteArray := prog_19_method_32_code
def yX7_says : MethodName := ⟨RX7, "says", "(II)J"⟩
def dkwX7_says_1 : List UInt8 := [173, 42, 182, 0, 162, 42, 27, 28, 182, 0, 248, 133, 173]
abbrev dktX7_says_1 : List UInt8 := dkwX7_says_1 ++ []
def dkwX7_says_0 : List UInt8 := [42, 27, 182, 0, 158, 153, 0, 16, 42, 28, 182, 0, 158, 153, 0, 8, 27, 28, 160, 0, 7, 20, 0, 246]
abbrev dktX7_says_0 : List UInt8 := dkwX7_says_0 ++ dktX7_says_1
theorem dksX7_says_0 : cX7_says.data.toList.drop 0 = dktX7_says_0 := by decide +kernel
theorem dksX7_says_1 : cX7_says.data.toList.drop 24 = dktX7_says_1 := dk_seg dksX7_says_0 24 rfl rfl
theorem dX7_says_0 : decode cX7_says 0 = .ok (.aload_n 0, 1) := dk_42 (dk_at dksX7_says_0 0 rfl rfl)
theorem dX7_says_1 : decode cX7_says 1 = .ok (.iload_n 1, 1) := dk_27 (dk_at dksX7_says_0 1 rfl rfl)
theorem dX7_says_2 : decode cX7_says 2 = .ok (.invokevirtual 158, 3) := dk_182 0 158 (dk_at dksX7_says_0 2 rfl rfl)
theorem dX7_says_5 : decode cX7_says 5 = .ok (.ifCond .eq 16, 3) := dk_153 0 16 (dk_at dksX7_says_0 5 rfl rfl)
theorem dX7_says_8 : decode cX7_says 8 = .ok (.aload_n 0, 1) := dk_42 (dk_at dksX7_says_0 8 rfl rfl)
theorem dX7_says_9 : decode cX7_says 9 = .ok (.iload_n 2, 1) := dk_28 (dk_at dksX7_says_0 9 rfl rfl)
theorem dX7_says_10 : decode cX7_says 10 = .ok (.invokevirtual 158, 3) := dk_182 0 158 (dk_at dksX7_says_0 10 rfl rfl)
theorem dX7_says_13 : decode cX7_says 13 = .ok (.ifCond .eq 8, 3) := dk_153 0 8 (dk_at dksX7_says_0 13 rfl rfl)
theorem dX7_says_16 : decode cX7_says 16 = .ok (.iload_n 1, 1) := dk_27 (dk_at dksX7_says_0 16 rfl rfl)
theorem dX7_says_17 : decode cX7_says 17 = .ok (.iload_n 2, 1) := dk_28 (dk_at dksX7_says_0 17 rfl rfl)
theorem dX7_says_18 : decode cX7_says 18 = .ok (.if_icmp .ne 7, 3) := dk_160 0 7 (dk_at dksX7_says_0 18 rfl rfl)
theorem dX7_says_21 : decode cX7_says 21 = .ok (.ldc2_w 246, 3) := dk_20 0 246 (dk_at dksX7_says_0 21 rfl rfl)
theorem dX7_says_24 : decode cX7_says 24 = .ok (.lreturn, 1) := dk_173 (dk_at dksX7_says_1 0 rfl rfl)
theorem dX7_says_25 : decode cX7_says 25 = .ok (.aload_n 0, 1) := dk_42 (dk_at dksX7_says_1 1 rfl rfl)
theorem dX7_says_26 : decode cX7_says 26 = .ok (.invokevirtual 162, 3) := dk_182 0 162 (dk_at dksX7_says_1 2 rfl rfl)
theorem dX7_says_29 : decode cX7_says 29 = .ok (.aload_n 0, 1) := dk_42 (dk_at dksX7_says_1 5 rfl rfl)
theorem dX7_says_30 : decode cX7_says 30 = .ok (.iload_n 1, 1) := dk_27 (dk_at dksX7_says_1 6 rfl rfl)
theorem dX7_says_31 : decode cX7_says 31 = .ok (.iload_n 2, 1) := dk_28 (dk_at dksX7_says_1 7 rfl rfl)
theorem dX7_says_32 : decode cX7_says 32 = .ok (.invokevirtual 248, 3) := dk_182 0 248 (dk_at dksX7_says_1 8 rfl rfl)
theorem dX7_says_35 : decode cX7_says 35 = .ok (.i2l, 1) := dk_133 (dk_at dksX7_says_1 11 rfl rfl)
theorem dX7_says_36 : decode cX7_says 36 = .ok (.lreturn, 1) := dk_173 (dk_at dksX7_says_1 12 rfl rfl)
abbrev cX7_nearOf : ByteArray := prog_19_method_31_code
def yX7_nearOf : MethodName := ⟨RX7, "nearOf", "(II)I"⟩
def dkwX7_nearOf_1 : List UInt8 := [3, 3, 182, 0, 240, 42, 3, 182, 0, 243, 172]
abbrev dktX7_nearOf_1 : List UInt8 := dkwX7_nearOf_1 ++ []
def dkwX7_nearOf_0 : List UInt8 := [42, 42, 180, 0, 89, 16, 6, 27, 104, 28, 96, 46, 42, 180, 0, 7, 27, 46, 42, 180, 0, 7, 28, 46]
abbrev dktX7_nearOf_0 : List UInt8 := dkwX7_nearOf_0 ++ dktX7_nearOf_1
theorem dksX7_nearOf_0 : cX7_nearOf.data.toList.drop 0 = dktX7_nearOf_0 := by decide +kernel
theorem dksX7_nearOf_1 : cX7_nearOf.data.toList.drop 24 = dktX7_nearOf_1 := dk_seg dksX7_nearOf_0 24 rfl rfl
theorem dX7_nearOf_0 : decode cX7_nearOf 0 = .ok (.aload_n 0, 1) := dk_42 (dk_at dksX7_nearOf_0 0 rfl rfl)
theorem dX7_nearOf_1 : decode cX7_nearOf 1 = .ok (.aload_n 0, 1) := dk_42 (dk_at dksX7_nearOf_0 1 rfl rfl)
theorem dX7_nearOf_2 : decode cX7_nearOf 2 = .ok (.getfield 89, 3) := dk_180 0 89 (dk_at dksX7_nearOf_0 2 rfl rfl)
theorem dX7_nearOf_5 : decode cX7_nearOf 5 = .ok (.bipush 6, 2) := dk_16 6 (dk_at dksX7_nearOf_0 5 rfl rfl)
theorem dX7_nearOf_7 : decode cX7_nearOf 7 = .ok (.iload_n 1, 1) := dk_27 (dk_at dksX7_nearOf_0 7 rfl rfl)
theorem dX7_nearOf_8 : decode cX7_nearOf 8 = .ok (.imul, 1) := dk_104 (dk_at dksX7_nearOf_0 8 rfl rfl)
theorem dX7_nearOf_9 : decode cX7_nearOf 9 = .ok (.iload_n 2, 1) := dk_28 (dk_at dksX7_nearOf_0 9 rfl rfl)
theorem dX7_nearOf_10 : decode cX7_nearOf 10 = .ok (.iadd, 1) := dk_96 (dk_at dksX7_nearOf_0 10 rfl rfl)
theorem dX7_nearOf_11 : decode cX7_nearOf 11 = .ok (.iaload, 1) := dk_46 (dk_at dksX7_nearOf_0 11 rfl rfl)
theorem dX7_nearOf_12 : decode cX7_nearOf 12 = .ok (.aload_n 0, 1) := dk_42 (dk_at dksX7_nearOf_0 12 rfl rfl)
theorem dX7_nearOf_13 : decode cX7_nearOf 13 = .ok (.getfield 7, 3) := dk_180 0 7 (dk_at dksX7_nearOf_0 13 rfl rfl)
theorem dX7_nearOf_16 : decode cX7_nearOf 16 = .ok (.iload_n 1, 1) := dk_27 (dk_at dksX7_nearOf_0 16 rfl rfl)
theorem dX7_nearOf_17 : decode cX7_nearOf 17 = .ok (.iaload, 1) := dk_46 (dk_at dksX7_nearOf_0 17 rfl rfl)
theorem dX7_nearOf_18 : decode cX7_nearOf 18 = .ok (.aload_n 0, 1) := dk_42 (dk_at dksX7_nearOf_0 18 rfl rfl)
theorem dX7_nearOf_19 : decode cX7_nearOf 19 = .ok (.getfield 7, 3) := dk_180 0 7 (dk_at dksX7_nearOf_0 19 rfl rfl)
theorem dX7_nearOf_22 : decode cX7_nearOf 22 = .ok (.iload_n 2, 1) := dk_28 (dk_at dksX7_nearOf_0 22 rfl rfl)
theorem dX7_nearOf_23 : decode cX7_nearOf 23 = .ok (.iaload, 1) := dk_46 (dk_at dksX7_nearOf_0 23 rfl rfl)
theorem dX7_nearOf_24 : decode cX7_nearOf 24 = .ok (.iconst 0, 1) := dk_3 (dk_at dksX7_nearOf_1 0 rfl rfl)
theorem dX7_nearOf_25 : decode cX7_nearOf 25 = .ok (.iconst 0, 1) := dk_3 (dk_at dksX7_nearOf_1 1 rfl rfl)
theorem dX7_nearOf_26 : decode cX7_nearOf 26 = .ok (.invokevirtual 240, 3) := dk_182 0 240 (dk_at dksX7_nearOf_1 2 rfl rfl)
theorem dX7_nearOf_29 : decode cX7_nearOf 29 = .ok (.aload_n 0, 1) := dk_42 (dk_at dksX7_nearOf_1 5 rfl rfl)
theorem dX7_nearOf_30 : decode cX7_nearOf 30 = .ok (.iconst 0, 1) := dk_3 (dk_at dksX7_nearOf_1 6 rfl rfl)
theorem dX7_nearOf_31 : decode cX7_nearOf 31 = .ok (.invokevirtual 243, 3) := dk_182 0 243 (dk_at dksX7_nearOf_1 7 rfl rfl)
theorem dX7_nearOf_34 : decode cX7_nearOf 34 = .ok (.ireturn, 1) := dk_172 (dk_at dksX7_nearOf_1 10 rfl rfl)
abbrev cX7_names : ByteArray := prog_19_method_29_code
def yX7_names : MethodName := ⟨RX7, "names", "(IIIII)V"⟩
def dkwX7_names_2 : List UInt8 := [79, 177]
abbrev dktX7_names_2 : List UInt8 := dkwX7_names_2 ++ []
def dkwX7_names_1 : List UInt8 := [180, 0, 124, 6, 21, 4, 79, 42, 180, 0, 124, 7, 21, 5, 79, 42, 180, 0, 124, 8, 42, 180, 0, 25]
abbrev dktX7_names_1 : List UInt8 := dkwX7_names_1 ++ dktX7_names_2
def dkwX7_names_0 : List UInt8 := [42, 180, 0, 124, 3, 27, 79, 42, 180, 0, 124, 4, 28, 79, 42, 180, 0, 124, 5, 29, 79, 42]
abbrev dktX7_names_0 : List UInt8 := dkwX7_names_0 ++ dktX7_names_1
theorem dksX7_names_0 : cX7_names.data.toList.drop 0 = dktX7_names_0 := by decide +kernel
theorem dksX7_names_1 : cX7_names.data.toList.drop 22 = dktX7_names_1 := dk_seg dksX7_names_0 22 rfl rfl
theorem dksX7_names_2 : cX7_names.data.toList.drop 46 = dktX7_names_2 := dk_seg dksX7_names_1 24 rfl rfl
theorem dX7_names_0 : decode cX7_names 0 = .ok (.aload_n 0, 1) := dk_42 (dk_at dksX7_names_0 0 rfl rfl)
theorem dX7_names_1 : decode cX7_names 1 = .ok (.getfield 124, 3) := dk_180 0 124 (dk_at dksX7_names_0 1 rfl rfl)
theorem dX7_names_4 : decode cX7_names 4 = .ok (.iconst 0, 1) := dk_3 (dk_at dksX7_names_0 4 rfl rfl)
theorem dX7_names_5 : decode cX7_names 5 = .ok (.iload_n 1, 1) := dk_27 (dk_at dksX7_names_0 5 rfl rfl)
theorem dX7_names_6 : decode cX7_names 6 = .ok (.iastore, 1) := dk_79 (dk_at dksX7_names_0 6 rfl rfl)
theorem dX7_names_7 : decode cX7_names 7 = .ok (.aload_n 0, 1) := dk_42 (dk_at dksX7_names_0 7 rfl rfl)
theorem dX7_names_8 : decode cX7_names 8 = .ok (.getfield 124, 3) := dk_180 0 124 (dk_at dksX7_names_0 8 rfl rfl)
theorem dX7_names_11 : decode cX7_names 11 = .ok (.iconst 1, 1) := dk_4 (dk_at dksX7_names_0 11 rfl rfl)
theorem dX7_names_12 : decode cX7_names 12 = .ok (.iload_n 2, 1) := dk_28 (dk_at dksX7_names_0 12 rfl rfl)
theorem dX7_names_13 : decode cX7_names 13 = .ok (.iastore, 1) := dk_79 (dk_at dksX7_names_0 13 rfl rfl)
theorem dX7_names_14 : decode cX7_names 14 = .ok (.aload_n 0, 1) := dk_42 (dk_at dksX7_names_0 14 rfl rfl)
theorem dX7_names_15 : decode cX7_names 15 = .ok (.getfield 124, 3) := dk_180 0 124 (dk_at dksX7_names_0 15 rfl rfl)
theorem dX7_names_18 : decode cX7_names 18 = .ok (.iconst 2, 1) := dk_5 (dk_at dksX7_names_0 18 rfl rfl)
theorem dX7_names_19 : decode cX7_names 19 = .ok (.iload_n 3, 1) := dk_29 (dk_at dksX7_names_0 19 rfl rfl)
theorem dX7_names_20 : decode cX7_names 20 = .ok (.iastore, 1) := dk_79 (dk_at dksX7_names_0 20 rfl rfl)
theorem dX7_names_21 : decode cX7_names 21 = .ok (.aload_n 0, 1) := dk_42 (dk_at dksX7_names_0 21 rfl rfl)
theorem dX7_names_22 : decode cX7_names 22 = .ok (.getfield 124, 3) := dk_180 0 124 (dk_at dksX7_names_1 0 rfl rfl)
theorem dX7_names_25 : decode cX7_names 25 = .ok (.iconst 3, 1) := dk_6 (dk_at dksX7_names_1 3 rfl rfl)
theorem dX7_names_26 : decode cX7_names 26 = .ok (.iload 4, 2) := dk_21 4 (dk_at dksX7_names_1 4 rfl rfl)
theorem dX7_names_28 : decode cX7_names 28 = .ok (.iastore, 1) := dk_79 (dk_at dksX7_names_1 6 rfl rfl)
theorem dX7_names_29 : decode cX7_names 29 = .ok (.aload_n 0, 1) := dk_42 (dk_at dksX7_names_1 7 rfl rfl)
theorem dX7_names_30 : decode cX7_names 30 = .ok (.getfield 124, 3) := dk_180 0 124 (dk_at dksX7_names_1 8 rfl rfl)
theorem dX7_names_33 : decode cX7_names 33 = .ok (.iconst 4, 1) := dk_7 (dk_at dksX7_names_1 11 rfl rfl)
theorem dX7_names_34 : decode cX7_names 34 = .ok (.iload 5, 2) := dk_21 5 (dk_at dksX7_names_1 12 rfl rfl)
theorem dX7_names_36 : decode cX7_names 36 = .ok (.iastore, 1) := dk_79 (dk_at dksX7_names_1 14 rfl rfl)
theorem dX7_names_37 : decode cX7_names 37 = .ok (.aload_n 0, 1) := dk_42 (dk_at dksX7_names_1 15 rfl rfl)
theorem dX7_names_38 : decode cX7_names 38 = .ok (.getfield 124, 3) := dk_180 0 124 (dk_at dksX7_names_1 16 rfl rfl)
theorem dX7_names_41 : decode cX7_names 41 = .ok (.iconst 5, 1) := dk_8 (dk_at dksX7_names_1 19 rfl rfl)
theorem dX7_names_42 : decode cX7_names 42 = .ok (.aload_n 0, 1) := dk_42 (dk_at dksX7_names_1 20 rfl rfl)
theorem dX7_names_43 : decode cX7_names 43 = .ok (.getfield 25, 3) := dk_180 0 25 (dk_at dksX7_names_1 21 rfl rfl)
theorem dX7_names_46 : decode cX7_names 46 = .ok (.iastore, 1) := dk_79 (dk_at dksX7_names_2 0 rfl rfl)
theorem dX7_names_47 : decode cX7_names 47 = .ok (.return_, 1) := dk_177 (dk_at dksX7_names_2 1 rfl rfl)
abbrev cX7_worth : ByteArray := prog_19_method_28_code
def yX7_worth : MethodName := ⟨RX7, "worth", "(I)I"⟩
def dkwX7_worth_8 : List UInt8 := [184, 0, 236, 79, 132, 3, 1, 167, 255, 78, 42, 180, 0, 121, 3, 46, 172]
abbrev dktX7_worth_8 : List UInt8 := dkwX7_worth_8 ++ []
def dkwX7_worth_7 : List UInt8 := [180, 0, 121, 28, 4, 100, 21, 4, 42, 180, 0, 121, 28, 4, 100, 46, 42, 180, 0, 121, 28, 46]
abbrev dktX7_worth_7 : List UInt8 := dkwX7_worth_7 ++ dktX7_worth_8
def dkwX7_worth_6 : List UInt8 := [180, 0, 121, 28, 4, 100, 42, 180, 0, 121, 28, 4, 100, 46, 116, 79, 167, 0, 33, 132, 2, 255, 42]
abbrev dktX7_worth_6 : List UInt8 := dkwX7_worth_6 ++ dktX7_worth_7
def dkwX7_worth_5 : List UInt8 := [28, 4, 100, 46, 154, 0, 7, 4, 167, 0, 4, 3, 79, 167, 0, 60, 21, 4, 16, 19, 160, 0, 23, 42]
abbrev dktX7_worth_5 : List UInt8 := dkwX7_worth_5 ++ dktX7_worth_6
def dkwX7_worth_4 : List UInt8 := [132, 2, 1, 167, 0, 94, 21, 4, 16, 13, 160, 0, 30, 42, 180, 0, 121, 28, 4, 100, 42, 180, 0, 121]
abbrev dktX7_worth_4 : List UInt8 := dkwX7_worth_4 ++ dktX7_worth_5
def dkwX7_worth_3 : List UInt8 := [21, 4, 16, 11, 162, 0, 13, 42, 180, 0, 124, 21, 4, 46, 167, 0, 8, 21, 4, 18, 218, 100, 79]
abbrev dktX7_worth_3 : List UInt8 := dkwX7_worth_3 ++ dktX7_worth_4
def dkwX7_worth_2 : List UInt8 := [29, 96, 46, 54, 4, 21, 4, 18, 218, 162, 0, 10, 21, 4, 16, 11, 162, 0, 37, 42, 180, 0, 121, 28]
abbrev dktX7_worth_2 : List UInt8 := dkwX7_worth_2 ++ dktX7_worth_3
def dkwX7_worth_1 : List UInt8 := [180, 0, 233, 104, 27, 96, 4, 96, 46, 162, 0, 165, 42, 180, 0, 38, 17, 0, 200, 42, 180, 0, 233, 104]
abbrev dktX7_worth_1 : List UInt8 := dkwX7_worth_1 ++ dktX7_worth_2
def dkwX7_worth_0 : List UInt8 := [3, 61, 42, 180, 0, 41, 7, 42, 180, 0, 233, 104, 27, 96, 46, 62, 29, 42, 180, 0, 41, 7, 42]
abbrev dktX7_worth_0 : List UInt8 := dkwX7_worth_0 ++ dktX7_worth_1
theorem dksX7_worth_0 : cX7_worth.data.toList.drop 0 = dktX7_worth_0 := by decide +kernel
theorem dksX7_worth_1 : cX7_worth.data.toList.drop 23 = dktX7_worth_1 := dk_seg dksX7_worth_0 23 rfl rfl
theorem dksX7_worth_2 : cX7_worth.data.toList.drop 47 = dktX7_worth_2 := dk_seg dksX7_worth_1 24 rfl rfl
theorem dksX7_worth_3 : cX7_worth.data.toList.drop 71 = dktX7_worth_3 := dk_seg dksX7_worth_2 24 rfl rfl
theorem dksX7_worth_4 : cX7_worth.data.toList.drop 94 = dktX7_worth_4 := dk_seg dksX7_worth_3 23 rfl rfl
theorem dksX7_worth_5 : cX7_worth.data.toList.drop 118 = dktX7_worth_5 := dk_seg dksX7_worth_4 24 rfl rfl
theorem dksX7_worth_6 : cX7_worth.data.toList.drop 142 = dktX7_worth_6 := dk_seg dksX7_worth_5 24 rfl rfl
theorem dksX7_worth_7 : cX7_worth.data.toList.drop 165 = dktX7_worth_7 := dk_seg dksX7_worth_6 23 rfl rfl
theorem dksX7_worth_8 : cX7_worth.data.toList.drop 187 = dktX7_worth_8 := dk_seg dksX7_worth_7 22 rfl rfl
theorem dX7_worth_0 : decode cX7_worth 0 = .ok (.iconst 0, 1) := dk_3 (dk_at dksX7_worth_0 0 rfl rfl)
theorem dX7_worth_1 : decode cX7_worth 1 = .ok (.istore_n 2, 1) := dk_61 (dk_at dksX7_worth_0 1 rfl rfl)
theorem dX7_worth_2 : decode cX7_worth 2 = .ok (.aload_n 0, 1) := dk_42 (dk_at dksX7_worth_0 2 rfl rfl)
theorem dX7_worth_3 : decode cX7_worth 3 = .ok (.getfield 41, 3) := dk_180 0 41 (dk_at dksX7_worth_0 3 rfl rfl)
theorem dX7_worth_6 : decode cX7_worth 6 = .ok (.iconst 4, 1) := dk_7 (dk_at dksX7_worth_0 6 rfl rfl)
theorem dX7_worth_7 : decode cX7_worth 7 = .ok (.aload_n 0, 1) := dk_42 (dk_at dksX7_worth_0 7 rfl rfl)
theorem dX7_worth_8 : decode cX7_worth 8 = .ok (.getfield 233, 3) := dk_180 0 233 (dk_at dksX7_worth_0 8 rfl rfl)
theorem dX7_worth_11 : decode cX7_worth 11 = .ok (.imul, 1) := dk_104 (dk_at dksX7_worth_0 11 rfl rfl)
theorem dX7_worth_12 : decode cX7_worth 12 = .ok (.iload_n 1, 1) := dk_27 (dk_at dksX7_worth_0 12 rfl rfl)
theorem dX7_worth_13 : decode cX7_worth 13 = .ok (.iadd, 1) := dk_96 (dk_at dksX7_worth_0 13 rfl rfl)
theorem dX7_worth_14 : decode cX7_worth 14 = .ok (.iaload, 1) := dk_46 (dk_at dksX7_worth_0 14 rfl rfl)
theorem dX7_worth_15 : decode cX7_worth 15 = .ok (.istore_n 3, 1) := dk_62 (dk_at dksX7_worth_0 15 rfl rfl)
theorem dX7_worth_16 : decode cX7_worth 16 = .ok (.iload_n 3, 1) := dk_29 (dk_at dksX7_worth_0 16 rfl rfl)
theorem dX7_worth_17 : decode cX7_worth 17 = .ok (.aload_n 0, 1) := dk_42 (dk_at dksX7_worth_0 17 rfl rfl)
theorem dX7_worth_18 : decode cX7_worth 18 = .ok (.getfield 41, 3) := dk_180 0 41 (dk_at dksX7_worth_0 18 rfl rfl)
theorem dX7_worth_21 : decode cX7_worth 21 = .ok (.iconst 4, 1) := dk_7 (dk_at dksX7_worth_0 21 rfl rfl)
theorem dX7_worth_22 : decode cX7_worth 22 = .ok (.aload_n 0, 1) := dk_42 (dk_at dksX7_worth_0 22 rfl rfl)
theorem dX7_worth_23 : decode cX7_worth 23 = .ok (.getfield 233, 3) := dk_180 0 233 (dk_at dksX7_worth_1 0 rfl rfl)
theorem dX7_worth_26 : decode cX7_worth 26 = .ok (.imul, 1) := dk_104 (dk_at dksX7_worth_1 3 rfl rfl)
theorem dX7_worth_27 : decode cX7_worth 27 = .ok (.iload_n 1, 1) := dk_27 (dk_at dksX7_worth_1 4 rfl rfl)
theorem dX7_worth_28 : decode cX7_worth 28 = .ok (.iadd, 1) := dk_96 (dk_at dksX7_worth_1 5 rfl rfl)
theorem dX7_worth_29 : decode cX7_worth 29 = .ok (.iconst 1, 1) := dk_4 (dk_at dksX7_worth_1 6 rfl rfl)
theorem dX7_worth_30 : decode cX7_worth 30 = .ok (.iadd, 1) := dk_96 (dk_at dksX7_worth_1 7 rfl rfl)
theorem dX7_worth_31 : decode cX7_worth 31 = .ok (.iaload, 1) := dk_46 (dk_at dksX7_worth_1 8 rfl rfl)
theorem dX7_worth_32 : decode cX7_worth 32 = .ok (.if_icmp .ge 165, 3) := dk_162 0 165 (dk_at dksX7_worth_1 9 rfl rfl)
theorem dX7_worth_35 : decode cX7_worth 35 = .ok (.aload_n 0, 1) := dk_42 (dk_at dksX7_worth_1 12 rfl rfl)
theorem dX7_worth_36 : decode cX7_worth 36 = .ok (.getfield 38, 3) := dk_180 0 38 (dk_at dksX7_worth_1 13 rfl rfl)
theorem dX7_worth_39 : decode cX7_worth 39 = .ok (.sipush 200, 3) := dk_17 0 200 (dk_at dksX7_worth_1 16 rfl rfl)
theorem dX7_worth_42 : decode cX7_worth 42 = .ok (.aload_n 0, 1) := dk_42 (dk_at dksX7_worth_1 19 rfl rfl)
theorem dX7_worth_43 : decode cX7_worth 43 = .ok (.getfield 233, 3) := dk_180 0 233 (dk_at dksX7_worth_1 20 rfl rfl)
theorem dX7_worth_46 : decode cX7_worth 46 = .ok (.imul, 1) := dk_104 (dk_at dksX7_worth_1 23 rfl rfl)
theorem dX7_worth_47 : decode cX7_worth 47 = .ok (.iload_n 3, 1) := dk_29 (dk_at dksX7_worth_2 0 rfl rfl)
theorem dX7_worth_48 : decode cX7_worth 48 = .ok (.iadd, 1) := dk_96 (dk_at dksX7_worth_2 1 rfl rfl)
theorem dX7_worth_49 : decode cX7_worth 49 = .ok (.iaload, 1) := dk_46 (dk_at dksX7_worth_2 2 rfl rfl)
theorem dX7_worth_50 : decode cX7_worth 50 = .ok (.istore 4, 2) := dk_54 4 (dk_at dksX7_worth_2 3 rfl rfl)
theorem dX7_worth_52 : decode cX7_worth 52 = .ok (.iload 4, 2) := dk_21 4 (dk_at dksX7_worth_2 5 rfl rfl)
theorem dX7_worth_54 : decode cX7_worth 54 = .ok (.ldc 218, 2) := dk_18 218 (dk_at dksX7_worth_2 7 rfl rfl)
theorem dX7_worth_56 : decode cX7_worth 56 = .ok (.if_icmp .ge 10, 3) := dk_162 0 10 (dk_at dksX7_worth_2 9 rfl rfl)
theorem dX7_worth_59 : decode cX7_worth 59 = .ok (.iload 4, 2) := dk_21 4 (dk_at dksX7_worth_2 12 rfl rfl)
theorem dX7_worth_61 : decode cX7_worth 61 = .ok (.bipush 11, 2) := dk_16 11 (dk_at dksX7_worth_2 14 rfl rfl)
theorem dX7_worth_63 : decode cX7_worth 63 = .ok (.if_icmp .ge 37, 3) := dk_162 0 37 (dk_at dksX7_worth_2 16 rfl rfl)
theorem dX7_worth_66 : decode cX7_worth 66 = .ok (.aload_n 0, 1) := dk_42 (dk_at dksX7_worth_2 19 rfl rfl)
theorem dX7_worth_67 : decode cX7_worth 67 = .ok (.getfield 121, 3) := dk_180 0 121 (dk_at dksX7_worth_2 20 rfl rfl)
theorem dX7_worth_70 : decode cX7_worth 70 = .ok (.iload_n 2, 1) := dk_28 (dk_at dksX7_worth_2 23 rfl rfl)
theorem dX7_worth_71 : decode cX7_worth 71 = .ok (.iload 4, 2) := dk_21 4 (dk_at dksX7_worth_3 0 rfl rfl)
theorem dX7_worth_73 : decode cX7_worth 73 = .ok (.bipush 11, 2) := dk_16 11 (dk_at dksX7_worth_3 2 rfl rfl)
theorem dX7_worth_75 : decode cX7_worth 75 = .ok (.if_icmp .ge 13, 3) := dk_162 0 13 (dk_at dksX7_worth_3 4 rfl rfl)
theorem dX7_worth_78 : decode cX7_worth 78 = .ok (.aload_n 0, 1) := dk_42 (dk_at dksX7_worth_3 7 rfl rfl)
theorem dX7_worth_79 : decode cX7_worth 79 = .ok (.getfield 124, 3) := dk_180 0 124 (dk_at dksX7_worth_3 8 rfl rfl)
theorem dX7_worth_82 : decode cX7_worth 82 = .ok (.iload 4, 2) := dk_21 4 (dk_at dksX7_worth_3 11 rfl rfl)
theorem dX7_worth_84 : decode cX7_worth 84 = .ok (.iaload, 1) := dk_46 (dk_at dksX7_worth_3 13 rfl rfl)
theorem dX7_worth_85 : decode cX7_worth 85 = .ok (.goto 8, 3) := dk_167 0 8 (dk_at dksX7_worth_3 14 rfl rfl)
theorem dX7_worth_88 : decode cX7_worth 88 = .ok (.iload 4, 2) := dk_21 4 (dk_at dksX7_worth_3 17 rfl rfl)
theorem dX7_worth_90 : decode cX7_worth 90 = .ok (.ldc 218, 2) := dk_18 218 (dk_at dksX7_worth_3 19 rfl rfl)
theorem dX7_worth_92 : decode cX7_worth 92 = .ok (.isub, 1) := dk_100 (dk_at dksX7_worth_3 21 rfl rfl)
theorem dX7_worth_93 : decode cX7_worth 93 = .ok (.iastore, 1) := dk_79 (dk_at dksX7_worth_3 22 rfl rfl)
theorem dX7_worth_94 : decode cX7_worth 94 = .ok (.iinc 2 1, 3) := dk_132 2 1 (dk_at dksX7_worth_4 0 rfl rfl)
theorem dX7_worth_97 : decode cX7_worth 97 = .ok (.goto 94, 3) := dk_167 0 94 (dk_at dksX7_worth_4 3 rfl rfl)
theorem dX7_worth_100 : decode cX7_worth 100 = .ok (.iload 4, 2) := dk_21 4 (dk_at dksX7_worth_4 6 rfl rfl)
theorem dX7_worth_102 : decode cX7_worth 102 = .ok (.bipush 13, 2) := dk_16 13 (dk_at dksX7_worth_4 8 rfl rfl)
theorem dX7_worth_104 : decode cX7_worth 104 = .ok (.if_icmp .ne 30, 3) := dk_160 0 30 (dk_at dksX7_worth_4 10 rfl rfl)
theorem dX7_worth_107 : decode cX7_worth 107 = .ok (.aload_n 0, 1) := dk_42 (dk_at dksX7_worth_4 13 rfl rfl)
theorem dX7_worth_108 : decode cX7_worth 108 = .ok (.getfield 121, 3) := dk_180 0 121 (dk_at dksX7_worth_4 14 rfl rfl)
theorem dX7_worth_111 : decode cX7_worth 111 = .ok (.iload_n 2, 1) := dk_28 (dk_at dksX7_worth_4 17 rfl rfl)
theorem dX7_worth_112 : decode cX7_worth 112 = .ok (.iconst 1, 1) := dk_4 (dk_at dksX7_worth_4 18 rfl rfl)
theorem dX7_worth_113 : decode cX7_worth 113 = .ok (.isub, 1) := dk_100 (dk_at dksX7_worth_4 19 rfl rfl)
theorem dX7_worth_114 : decode cX7_worth 114 = .ok (.aload_n 0, 1) := dk_42 (dk_at dksX7_worth_4 20 rfl rfl)
theorem dX7_worth_115 : decode cX7_worth 115 = .ok (.getfield 121, 3) := dk_180 0 121 (dk_at dksX7_worth_4 21 rfl rfl)
theorem dX7_worth_118 : decode cX7_worth 118 = .ok (.iload_n 2, 1) := dk_28 (dk_at dksX7_worth_5 0 rfl rfl)
theorem dX7_worth_119 : decode cX7_worth 119 = .ok (.iconst 1, 1) := dk_4 (dk_at dksX7_worth_5 1 rfl rfl)
theorem dX7_worth_120 : decode cX7_worth 120 = .ok (.isub, 1) := dk_100 (dk_at dksX7_worth_5 2 rfl rfl)
theorem dX7_worth_121 : decode cX7_worth 121 = .ok (.iaload, 1) := dk_46 (dk_at dksX7_worth_5 3 rfl rfl)
theorem dX7_worth_122 : decode cX7_worth 122 = .ok (.ifCond .ne 7, 3) := dk_154 0 7 (dk_at dksX7_worth_5 4 rfl rfl)
theorem dX7_worth_125 : decode cX7_worth 125 = .ok (.iconst 1, 1) := dk_4 (dk_at dksX7_worth_5 7 rfl rfl)
theorem dX7_worth_126 : decode cX7_worth 126 = .ok (.goto 4, 3) := dk_167 0 4 (dk_at dksX7_worth_5 8 rfl rfl)
theorem dX7_worth_129 : decode cX7_worth 129 = .ok (.iconst 0, 1) := dk_3 (dk_at dksX7_worth_5 11 rfl rfl)
theorem dX7_worth_130 : decode cX7_worth 130 = .ok (.iastore, 1) := dk_79 (dk_at dksX7_worth_5 12 rfl rfl)
theorem dX7_worth_131 : decode cX7_worth 131 = .ok (.goto 60, 3) := dk_167 0 60 (dk_at dksX7_worth_5 13 rfl rfl)
theorem dX7_worth_134 : decode cX7_worth 134 = .ok (.iload 4, 2) := dk_21 4 (dk_at dksX7_worth_5 16 rfl rfl)
theorem dX7_worth_136 : decode cX7_worth 136 = .ok (.bipush 19, 2) := dk_16 19 (dk_at dksX7_worth_5 18 rfl rfl)
theorem dX7_worth_138 : decode cX7_worth 138 = .ok (.if_icmp .ne 23, 3) := dk_160 0 23 (dk_at dksX7_worth_5 20 rfl rfl)
theorem dX7_worth_141 : decode cX7_worth 141 = .ok (.aload_n 0, 1) := dk_42 (dk_at dksX7_worth_5 23 rfl rfl)
theorem dX7_worth_142 : decode cX7_worth 142 = .ok (.getfield 121, 3) := dk_180 0 121 (dk_at dksX7_worth_6 0 rfl rfl)
theorem dX7_worth_145 : decode cX7_worth 145 = .ok (.iload_n 2, 1) := dk_28 (dk_at dksX7_worth_6 3 rfl rfl)
theorem dX7_worth_146 : decode cX7_worth 146 = .ok (.iconst 1, 1) := dk_4 (dk_at dksX7_worth_6 4 rfl rfl)
theorem dX7_worth_147 : decode cX7_worth 147 = .ok (.isub, 1) := dk_100 (dk_at dksX7_worth_6 5 rfl rfl)
theorem dX7_worth_148 : decode cX7_worth 148 = .ok (.aload_n 0, 1) := dk_42 (dk_at dksX7_worth_6 6 rfl rfl)
theorem dX7_worth_149 : decode cX7_worth 149 = .ok (.getfield 121, 3) := dk_180 0 121 (dk_at dksX7_worth_6 7 rfl rfl)
theorem dX7_worth_152 : decode cX7_worth 152 = .ok (.iload_n 2, 1) := dk_28 (dk_at dksX7_worth_6 10 rfl rfl)
theorem dX7_worth_153 : decode cX7_worth 153 = .ok (.iconst 1, 1) := dk_4 (dk_at dksX7_worth_6 11 rfl rfl)
theorem dX7_worth_154 : decode cX7_worth 154 = .ok (.isub, 1) := dk_100 (dk_at dksX7_worth_6 12 rfl rfl)
theorem dX7_worth_155 : decode cX7_worth 155 = .ok (.iaload, 1) := dk_46 (dk_at dksX7_worth_6 13 rfl rfl)
theorem dX7_worth_156 : decode cX7_worth 156 = .ok (.ineg, 1) := dk_116 (dk_at dksX7_worth_6 14 rfl rfl)
theorem dX7_worth_157 : decode cX7_worth 157 = .ok (.iastore, 1) := dk_79 (dk_at dksX7_worth_6 15 rfl rfl)
theorem dX7_worth_158 : decode cX7_worth 158 = .ok (.goto 33, 3) := dk_167 0 33 (dk_at dksX7_worth_6 16 rfl rfl)
theorem dX7_worth_161 : decode cX7_worth 161 = .ok (.iinc 2 (-1), 3) := dk_132 2 255 (dk_at dksX7_worth_6 19 rfl rfl)
theorem dX7_worth_164 : decode cX7_worth 164 = .ok (.aload_n 0, 1) := dk_42 (dk_at dksX7_worth_6 22 rfl rfl)
theorem dX7_worth_165 : decode cX7_worth 165 = .ok (.getfield 121, 3) := dk_180 0 121 (dk_at dksX7_worth_7 0 rfl rfl)
theorem dX7_worth_168 : decode cX7_worth 168 = .ok (.iload_n 2, 1) := dk_28 (dk_at dksX7_worth_7 3 rfl rfl)
theorem dX7_worth_169 : decode cX7_worth 169 = .ok (.iconst 1, 1) := dk_4 (dk_at dksX7_worth_7 4 rfl rfl)
theorem dX7_worth_170 : decode cX7_worth 170 = .ok (.isub, 1) := dk_100 (dk_at dksX7_worth_7 5 rfl rfl)
theorem dX7_worth_171 : decode cX7_worth 171 = .ok (.iload 4, 2) := dk_21 4 (dk_at dksX7_worth_7 6 rfl rfl)
theorem dX7_worth_173 : decode cX7_worth 173 = .ok (.aload_n 0, 1) := dk_42 (dk_at dksX7_worth_7 8 rfl rfl)
theorem dX7_worth_174 : decode cX7_worth 174 = .ok (.getfield 121, 3) := dk_180 0 121 (dk_at dksX7_worth_7 9 rfl rfl)
theorem dX7_worth_177 : decode cX7_worth 177 = .ok (.iload_n 2, 1) := dk_28 (dk_at dksX7_worth_7 12 rfl rfl)
theorem dX7_worth_178 : decode cX7_worth 178 = .ok (.iconst 1, 1) := dk_4 (dk_at dksX7_worth_7 13 rfl rfl)
theorem dX7_worth_179 : decode cX7_worth 179 = .ok (.isub, 1) := dk_100 (dk_at dksX7_worth_7 14 rfl rfl)
theorem dX7_worth_180 : decode cX7_worth 180 = .ok (.iaload, 1) := dk_46 (dk_at dksX7_worth_7 15 rfl rfl)
theorem dX7_worth_181 : decode cX7_worth 181 = .ok (.aload_n 0, 1) := dk_42 (dk_at dksX7_worth_7 16 rfl rfl)
theorem dX7_worth_182 : decode cX7_worth 182 = .ok (.getfield 121, 3) := dk_180 0 121 (dk_at dksX7_worth_7 17 rfl rfl)
theorem dX7_worth_185 : decode cX7_worth 185 = .ok (.iload_n 2, 1) := dk_28 (dk_at dksX7_worth_7 20 rfl rfl)
theorem dX7_worth_186 : decode cX7_worth 186 = .ok (.iaload, 1) := dk_46 (dk_at dksX7_worth_7 21 rfl rfl)
theorem dX7_worth_187 : decode cX7_worth 187 = .ok (.invokestatic 236, 3) := dk_184 0 236 (dk_at dksX7_worth_8 0 rfl rfl)
theorem dX7_worth_190 : decode cX7_worth 190 = .ok (.iastore, 1) := dk_79 (dk_at dksX7_worth_8 3 rfl rfl)
theorem dX7_worth_191 : decode cX7_worth 191 = .ok (.iinc 3 1, 3) := dk_132 3 1 (dk_at dksX7_worth_8 4 rfl rfl)
theorem dX7_worth_194 : decode cX7_worth 194 = .ok (.goto (-178), 3) := dk_167 255 78 (dk_at dksX7_worth_8 7 rfl rfl)
theorem dX7_worth_197 : decode cX7_worth 197 = .ok (.aload_n 0, 1) := dk_42 (dk_at dksX7_worth_8 10 rfl rfl)
theorem dX7_worth_198 : decode cX7_worth 198 = .ok (.getfield 121, 3) := dk_180 0 121 (dk_at dksX7_worth_8 11 rfl rfl)
theorem dX7_worth_201 : decode cX7_worth 201 = .ok (.iconst 0, 1) := dk_3 (dk_at dksX7_worth_8 14 rfl rfl)
theorem dX7_worth_202 : decode cX7_worth 202 = .ok (.iaload, 1) := dk_46 (dk_at dksX7_worth_8 15 rfl rfl)
theorem dX7_worth_203 : decode cX7_worth 203 = .ok (.ireturn, 1) := dk_172 (dk_at dksX7_worth_8 16 rfl rfl)
abbrev cX7_two : ByteArray := prog_19_method_27_code
def yX7_two : MethodName := ⟨RX7, "two", "(III)I"⟩
def dkwX7_two_4 : List UInt8 := [167, 0, 4, 3, 172, 27, 28, 96, 172, 27, 28, 100, 172, 27, 28, 104, 172]
abbrev dktX7_two_4 : List UInt8 := dkwX7_two_4 ++ []
def dkwX7_two_3 : List UInt8 := [167, 0, 4, 3, 172, 27, 28, 162, 0, 7, 4, 167, 0, 4, 3, 172, 27, 28, 160, 0, 7, 4]
abbrev dktX7_two_3 : List UInt8 := dkwX7_two_3 ++ dktX7_two_4
def dkwX7_two_2 : List UInt8 := [27, 154, 0, 7, 28, 153, 0, 7, 4, 167, 0, 4, 3, 172, 27, 153, 0, 11, 28, 153, 0, 7, 4]
abbrev dktX7_two_2 : List UInt8 := dkwX7_two_2 ++ dktX7_two_3
def dkwX7_two_1 : List UInt8 := [170, 0, 0, 0, 0, 0, 101, 0, 0, 0, 11, 0, 0, 0, 17, 0, 0, 0, 43, 0, 0, 0, 57, 0, 0, 0, 101, 0, 0, 0, 71, 0, 0, 0, 82, 0, 0, 0, 93, 0, 0, 0, 97]
abbrev dktX7_two_1 : List UInt8 := dkwX7_two_1 ++ dktX7_two_2
def dkwX7_two_0 : List UInt8 := [26]
abbrev dktX7_two_0 : List UInt8 := dkwX7_two_0 ++ dktX7_two_1
theorem dksX7_two_0 : cX7_two.data.toList.drop 0 = dktX7_two_0 := by decide +kernel
theorem dksX7_two_1 : cX7_two.data.toList.drop 1 = dktX7_two_1 := dk_seg dksX7_two_0 1 rfl rfl
theorem dksX7_two_2 : cX7_two.data.toList.drop 44 = dktX7_two_2 := dk_seg dksX7_two_1 43 rfl rfl
theorem dksX7_two_3 : cX7_two.data.toList.drop 67 = dktX7_two_3 := dk_seg dksX7_two_2 23 rfl rfl
theorem dksX7_two_4 : cX7_two.data.toList.drop 89 = dktX7_two_4 := dk_seg dksX7_two_3 22 rfl rfl
theorem dX7_two_0 : decode cX7_two 0 = .ok (.iload_n 0, 1) := dk_26 (dk_at dksX7_two_0 0 rfl rfl)
theorem dX7_two_1 : decode cX7_two 1 = .ok (.tableswitch 101 11 17 #[43, 57, 101, 71, 82, 93, 97], 43) := by decide +kernel
theorem dX7_two_44 : decode cX7_two 44 = .ok (.iload_n 1, 1) := dk_27 (dk_at dksX7_two_2 0 rfl rfl)
theorem dX7_two_45 : decode cX7_two 45 = .ok (.ifCond .ne 7, 3) := dk_154 0 7 (dk_at dksX7_two_2 1 rfl rfl)
theorem dX7_two_48 : decode cX7_two 48 = .ok (.iload_n 2, 1) := dk_28 (dk_at dksX7_two_2 4 rfl rfl)
theorem dX7_two_49 : decode cX7_two 49 = .ok (.ifCond .eq 7, 3) := dk_153 0 7 (dk_at dksX7_two_2 5 rfl rfl)
theorem dX7_two_52 : decode cX7_two 52 = .ok (.iconst 1, 1) := dk_4 (dk_at dksX7_two_2 8 rfl rfl)
theorem dX7_two_53 : decode cX7_two 53 = .ok (.goto 4, 3) := dk_167 0 4 (dk_at dksX7_two_2 9 rfl rfl)
theorem dX7_two_56 : decode cX7_two 56 = .ok (.iconst 0, 1) := dk_3 (dk_at dksX7_two_2 12 rfl rfl)
theorem dX7_two_57 : decode cX7_two 57 = .ok (.ireturn, 1) := dk_172 (dk_at dksX7_two_2 13 rfl rfl)
theorem dX7_two_58 : decode cX7_two 58 = .ok (.iload_n 1, 1) := dk_27 (dk_at dksX7_two_2 14 rfl rfl)
theorem dX7_two_59 : decode cX7_two 59 = .ok (.ifCond .eq 11, 3) := dk_153 0 11 (dk_at dksX7_two_2 15 rfl rfl)
theorem dX7_two_62 : decode cX7_two 62 = .ok (.iload_n 2, 1) := dk_28 (dk_at dksX7_two_2 18 rfl rfl)
theorem dX7_two_63 : decode cX7_two 63 = .ok (.ifCond .eq 7, 3) := dk_153 0 7 (dk_at dksX7_two_2 19 rfl rfl)
theorem dX7_two_66 : decode cX7_two 66 = .ok (.iconst 1, 1) := dk_4 (dk_at dksX7_two_2 22 rfl rfl)
theorem dX7_two_67 : decode cX7_two 67 = .ok (.goto 4, 3) := dk_167 0 4 (dk_at dksX7_two_3 0 rfl rfl)
theorem dX7_two_70 : decode cX7_two 70 = .ok (.iconst 0, 1) := dk_3 (dk_at dksX7_two_3 3 rfl rfl)
theorem dX7_two_71 : decode cX7_two 71 = .ok (.ireturn, 1) := dk_172 (dk_at dksX7_two_3 4 rfl rfl)
theorem dX7_two_72 : decode cX7_two 72 = .ok (.iload_n 1, 1) := dk_27 (dk_at dksX7_two_3 5 rfl rfl)
theorem dX7_two_73 : decode cX7_two 73 = .ok (.iload_n 2, 1) := dk_28 (dk_at dksX7_two_3 6 rfl rfl)
theorem dX7_two_74 : decode cX7_two 74 = .ok (.if_icmp .ge 7, 3) := dk_162 0 7 (dk_at dksX7_two_3 7 rfl rfl)
theorem dX7_two_77 : decode cX7_two 77 = .ok (.iconst 1, 1) := dk_4 (dk_at dksX7_two_3 10 rfl rfl)
theorem dX7_two_78 : decode cX7_two 78 = .ok (.goto 4, 3) := dk_167 0 4 (dk_at dksX7_two_3 11 rfl rfl)
theorem dX7_two_81 : decode cX7_two 81 = .ok (.iconst 0, 1) := dk_3 (dk_at dksX7_two_3 14 rfl rfl)
theorem dX7_two_82 : decode cX7_two 82 = .ok (.ireturn, 1) := dk_172 (dk_at dksX7_two_3 15 rfl rfl)
theorem dX7_two_83 : decode cX7_two 83 = .ok (.iload_n 1, 1) := dk_27 (dk_at dksX7_two_3 16 rfl rfl)
theorem dX7_two_84 : decode cX7_two 84 = .ok (.iload_n 2, 1) := dk_28 (dk_at dksX7_two_3 17 rfl rfl)
theorem dX7_two_85 : decode cX7_two 85 = .ok (.if_icmp .ne 7, 3) := dk_160 0 7 (dk_at dksX7_two_3 18 rfl rfl)
theorem dX7_two_88 : decode cX7_two 88 = .ok (.iconst 1, 1) := dk_4 (dk_at dksX7_two_3 21 rfl rfl)
theorem dX7_two_89 : decode cX7_two 89 = .ok (.goto 4, 3) := dk_167 0 4 (dk_at dksX7_two_4 0 rfl rfl)
theorem dX7_two_92 : decode cX7_two 92 = .ok (.iconst 0, 1) := dk_3 (dk_at dksX7_two_4 3 rfl rfl)
theorem dX7_two_93 : decode cX7_two 93 = .ok (.ireturn, 1) := dk_172 (dk_at dksX7_two_4 4 rfl rfl)
theorem dX7_two_94 : decode cX7_two 94 = .ok (.iload_n 1, 1) := dk_27 (dk_at dksX7_two_4 5 rfl rfl)
theorem dX7_two_95 : decode cX7_two 95 = .ok (.iload_n 2, 1) := dk_28 (dk_at dksX7_two_4 6 rfl rfl)
theorem dX7_two_96 : decode cX7_two 96 = .ok (.iadd, 1) := dk_96 (dk_at dksX7_two_4 7 rfl rfl)
theorem dX7_two_97 : decode cX7_two 97 = .ok (.ireturn, 1) := dk_172 (dk_at dksX7_two_4 8 rfl rfl)
theorem dX7_two_98 : decode cX7_two 98 = .ok (.iload_n 1, 1) := dk_27 (dk_at dksX7_two_4 9 rfl rfl)
theorem dX7_two_99 : decode cX7_two 99 = .ok (.iload_n 2, 1) := dk_28 (dk_at dksX7_two_4 10 rfl rfl)
theorem dX7_two_100 : decode cX7_two 100 = .ok (.isub, 1) := dk_100 (dk_at dksX7_two_4 11 rfl rfl)
theorem dX7_two_101 : decode cX7_two 101 = .ok (.ireturn, 1) := dk_172 (dk_at dksX7_two_4 12 rfl rfl)
theorem dX7_two_102 : decode cX7_two 102 = .ok (.iload_n 1, 1) := dk_27 (dk_at dksX7_two_4 13 rfl rfl)
theorem dX7_two_103 : decode cX7_two 103 = .ok (.iload_n 2, 1) := dk_28 (dk_at dksX7_two_4 14 rfl rfl)
theorem dX7_two_104 : decode cX7_two 104 = .ok (.imul, 1) := dk_104 (dk_at dksX7_two_4 15 rfl rfl)
theorem dX7_two_105 : decode cX7_two 105 = .ok (.ireturn, 1) := dk_172 (dk_at dksX7_two_4 16 rfl rfl)
abbrev cX7_worthOf : ByteArray := prog_19_method_34_code
def yX7_worthOf : MethodName := ⟨RX7, "worthOf", "(IIII)J"⟩
def dkwX7_worthOf_2 : List UInt8 := [21, 4, 182, 0, 252, 133, 167, 0, 6, 20, 0, 246, 173]
abbrev dktX7_worthOf_2 : List UInt8 := dkwX7_worthOf_2 ++ []
def dkwX7_worthOf_1 : List UInt8 := [16, 99, 184, 0, 154, 153, 0, 27, 21, 4, 3, 16, 6, 184, 0, 154, 153, 0, 16, 42, 27, 28, 29]
abbrev dktX7_worthOf_1 : List UInt8 := dkwX7_worthOf_1 ++ dktX7_worthOf_2
def dkwX7_worthOf_0 : List UInt8 := [42, 27, 182, 0, 158, 153, 0, 51, 28, 3, 42, 180, 0, 25, 4, 100, 184, 0, 154, 153, 0, 37, 29, 3]
abbrev dktX7_worthOf_0 : List UInt8 := dkwX7_worthOf_0 ++ dktX7_worthOf_1
theorem dksX7_worthOf_0 : cX7_worthOf.data.toList.drop 0 = dktX7_worthOf_0 := by decide +kernel
theorem dksX7_worthOf_1 : cX7_worthOf.data.toList.drop 24 = dktX7_worthOf_1 := dk_seg dksX7_worthOf_0 24 rfl rfl
theorem dksX7_worthOf_2 : cX7_worthOf.data.toList.drop 47 = dktX7_worthOf_2 := dk_seg dksX7_worthOf_1 23 rfl rfl
theorem dX7_worthOf_0 : decode cX7_worthOf 0 = .ok (.aload_n 0, 1) := dk_42 (dk_at dksX7_worthOf_0 0 rfl rfl)
theorem dX7_worthOf_1 : decode cX7_worthOf 1 = .ok (.iload_n 1, 1) := dk_27 (dk_at dksX7_worthOf_0 1 rfl rfl)
theorem dX7_worthOf_2 : decode cX7_worthOf 2 = .ok (.invokevirtual 158, 3) := dk_182 0 158 (dk_at dksX7_worthOf_0 2 rfl rfl)
theorem dX7_worthOf_5 : decode cX7_worthOf 5 = .ok (.ifCond .eq 51, 3) := dk_153 0 51 (dk_at dksX7_worthOf_0 5 rfl rfl)
theorem dX7_worthOf_8 : decode cX7_worthOf 8 = .ok (.iload_n 2, 1) := dk_28 (dk_at dksX7_worthOf_0 8 rfl rfl)
theorem dX7_worthOf_9 : decode cX7_worthOf 9 = .ok (.iconst 0, 1) := dk_3 (dk_at dksX7_worthOf_0 9 rfl rfl)
theorem dX7_worthOf_10 : decode cX7_worthOf 10 = .ok (.aload_n 0, 1) := dk_42 (dk_at dksX7_worthOf_0 10 rfl rfl)
theorem dX7_worthOf_11 : decode cX7_worthOf 11 = .ok (.getfield 25, 3) := dk_180 0 25 (dk_at dksX7_worthOf_0 11 rfl rfl)
theorem dX7_worthOf_14 : decode cX7_worthOf 14 = .ok (.iconst 1, 1) := dk_4 (dk_at dksX7_worthOf_0 14 rfl rfl)
theorem dX7_worthOf_15 : decode cX7_worthOf 15 = .ok (.isub, 1) := dk_100 (dk_at dksX7_worthOf_0 15 rfl rfl)
theorem dX7_worthOf_16 : decode cX7_worthOf 16 = .ok (.invokestatic 154, 3) := dk_184 0 154 (dk_at dksX7_worthOf_0 16 rfl rfl)
theorem dX7_worthOf_19 : decode cX7_worthOf 19 = .ok (.ifCond .eq 37, 3) := dk_153 0 37 (dk_at dksX7_worthOf_0 19 rfl rfl)
theorem dX7_worthOf_22 : decode cX7_worthOf 22 = .ok (.iload_n 3, 1) := dk_29 (dk_at dksX7_worthOf_0 22 rfl rfl)
theorem dX7_worthOf_23 : decode cX7_worthOf 23 = .ok (.iconst 0, 1) := dk_3 (dk_at dksX7_worthOf_0 23 rfl rfl)
theorem dX7_worthOf_24 : decode cX7_worthOf 24 = .ok (.bipush 99, 2) := dk_16 99 (dk_at dksX7_worthOf_1 0 rfl rfl)
theorem dX7_worthOf_26 : decode cX7_worthOf 26 = .ok (.invokestatic 154, 3) := dk_184 0 154 (dk_at dksX7_worthOf_1 2 rfl rfl)
theorem dX7_worthOf_29 : decode cX7_worthOf 29 = .ok (.ifCond .eq 27, 3) := dk_153 0 27 (dk_at dksX7_worthOf_1 5 rfl rfl)
theorem dX7_worthOf_32 : decode cX7_worthOf 32 = .ok (.iload 4, 2) := dk_21 4 (dk_at dksX7_worthOf_1 8 rfl rfl)
theorem dX7_worthOf_34 : decode cX7_worthOf 34 = .ok (.iconst 0, 1) := dk_3 (dk_at dksX7_worthOf_1 10 rfl rfl)
theorem dX7_worthOf_35 : decode cX7_worthOf 35 = .ok (.bipush 6, 2) := dk_16 6 (dk_at dksX7_worthOf_1 11 rfl rfl)
theorem dX7_worthOf_37 : decode cX7_worthOf 37 = .ok (.invokestatic 154, 3) := dk_184 0 154 (dk_at dksX7_worthOf_1 13 rfl rfl)
theorem dX7_worthOf_40 : decode cX7_worthOf 40 = .ok (.ifCond .eq 16, 3) := dk_153 0 16 (dk_at dksX7_worthOf_1 16 rfl rfl)
theorem dX7_worthOf_43 : decode cX7_worthOf 43 = .ok (.aload_n 0, 1) := dk_42 (dk_at dksX7_worthOf_1 19 rfl rfl)
theorem dX7_worthOf_44 : decode cX7_worthOf 44 = .ok (.iload_n 1, 1) := dk_27 (dk_at dksX7_worthOf_1 20 rfl rfl)
theorem dX7_worthOf_45 : decode cX7_worthOf 45 = .ok (.iload_n 2, 1) := dk_28 (dk_at dksX7_worthOf_1 21 rfl rfl)
theorem dX7_worthOf_46 : decode cX7_worthOf 46 = .ok (.iload_n 3, 1) := dk_29 (dk_at dksX7_worthOf_1 22 rfl rfl)
theorem dX7_worthOf_47 : decode cX7_worthOf 47 = .ok (.iload 4, 2) := dk_21 4 (dk_at dksX7_worthOf_2 0 rfl rfl)
theorem dX7_worthOf_49 : decode cX7_worthOf 49 = .ok (.invokevirtual 252, 3) := dk_182 0 252 (dk_at dksX7_worthOf_2 2 rfl rfl)
theorem dX7_worthOf_52 : decode cX7_worthOf 52 = .ok (.i2l, 1) := dk_133 (dk_at dksX7_worthOf_2 5 rfl rfl)
theorem dX7_worthOf_53 : decode cX7_worthOf 53 = .ok (.goto 6, 3) := dk_167 0 6 (dk_at dksX7_worthOf_2 6 rfl rfl)
theorem dX7_worthOf_56 : decode cX7_worthOf 56 = .ok (.ldc2_w 246, 3) := dk_20 0 246 (dk_at dksX7_worthOf_2 9 rfl rfl)
theorem dX7_worthOf_59 : decode cX7_worthOf 59 = .ok (.lreturn, 1) := dk_173 (dk_at dksX7_worthOf_2 12 rfl rfl)
abbrev cX7_worthBy : ByteArray := prog_19_method_33_code
def yX7_worthBy : MethodName := ⟨RX7, "worthBy", "(IIII)I"⟩
def dkwX7_worthBy_2 : List UInt8 := [17, 3, 231, 167, 0, 19, 21, 5, 17, 252, 25, 162, 0, 9, 17, 252, 25, 167, 0, 5, 21, 5, 172]
abbrev dktX7_worthBy_2 : List UInt8 := dkwX7_worthBy_2 ++ []
def dkwX7_worthBy_1 : List UInt8 := [167, 0, 4, 3, 182, 0, 240, 42, 4, 182, 0, 243, 54, 5, 21, 5, 17, 3, 231, 164, 0, 9]
abbrev dktX7_worthBy_1 : List UInt8 := dkwX7_worthBy_1 ++ dktX7_worthBy_2
def dkwX7_worthBy_0 : List UInt8 := [42, 29, 42, 180, 0, 7, 27, 46, 21, 4, 28, 42, 180, 0, 16, 27, 46, 28, 160, 0, 7, 4]
abbrev dktX7_worthBy_0 : List UInt8 := dkwX7_worthBy_0 ++ dktX7_worthBy_1
theorem dksX7_worthBy_0 : cX7_worthBy.data.toList.drop 0 = dktX7_worthBy_0 := by decide +kernel
theorem dksX7_worthBy_1 : cX7_worthBy.data.toList.drop 22 = dktX7_worthBy_1 := dk_seg dksX7_worthBy_0 22 rfl rfl
theorem dksX7_worthBy_2 : cX7_worthBy.data.toList.drop 44 = dktX7_worthBy_2 := dk_seg dksX7_worthBy_1 22 rfl rfl
theorem dX7_worthBy_0 : decode cX7_worthBy 0 = .ok (.aload_n 0, 1) := dk_42 (dk_at dksX7_worthBy_0 0 rfl rfl)
theorem dX7_worthBy_1 : decode cX7_worthBy 1 = .ok (.iload_n 3, 1) := dk_29 (dk_at dksX7_worthBy_0 1 rfl rfl)
theorem dX7_worthBy_2 : decode cX7_worthBy 2 = .ok (.aload_n 0, 1) := dk_42 (dk_at dksX7_worthBy_0 2 rfl rfl)
theorem dX7_worthBy_3 : decode cX7_worthBy 3 = .ok (.getfield 7, 3) := dk_180 0 7 (dk_at dksX7_worthBy_0 3 rfl rfl)
theorem dX7_worthBy_6 : decode cX7_worthBy 6 = .ok (.iload_n 1, 1) := dk_27 (dk_at dksX7_worthBy_0 6 rfl rfl)
theorem dX7_worthBy_7 : decode cX7_worthBy 7 = .ok (.iaload, 1) := dk_46 (dk_at dksX7_worthBy_0 7 rfl rfl)
theorem dX7_worthBy_8 : decode cX7_worthBy 8 = .ok (.iload 4, 2) := dk_21 4 (dk_at dksX7_worthBy_0 8 rfl rfl)
theorem dX7_worthBy_10 : decode cX7_worthBy 10 = .ok (.iload_n 2, 1) := dk_28 (dk_at dksX7_worthBy_0 10 rfl rfl)
theorem dX7_worthBy_11 : decode cX7_worthBy 11 = .ok (.aload_n 0, 1) := dk_42 (dk_at dksX7_worthBy_0 11 rfl rfl)
theorem dX7_worthBy_12 : decode cX7_worthBy 12 = .ok (.getfield 16, 3) := dk_180 0 16 (dk_at dksX7_worthBy_0 12 rfl rfl)
theorem dX7_worthBy_15 : decode cX7_worthBy 15 = .ok (.iload_n 1, 1) := dk_27 (dk_at dksX7_worthBy_0 15 rfl rfl)
theorem dX7_worthBy_16 : decode cX7_worthBy 16 = .ok (.iaload, 1) := dk_46 (dk_at dksX7_worthBy_0 16 rfl rfl)
theorem dX7_worthBy_17 : decode cX7_worthBy 17 = .ok (.iload_n 2, 1) := dk_28 (dk_at dksX7_worthBy_0 17 rfl rfl)
theorem dX7_worthBy_18 : decode cX7_worthBy 18 = .ok (.if_icmp .ne 7, 3) := dk_160 0 7 (dk_at dksX7_worthBy_0 18 rfl rfl)
theorem dX7_worthBy_21 : decode cX7_worthBy 21 = .ok (.iconst 1, 1) := dk_4 (dk_at dksX7_worthBy_0 21 rfl rfl)
theorem dX7_worthBy_22 : decode cX7_worthBy 22 = .ok (.goto 4, 3) := dk_167 0 4 (dk_at dksX7_worthBy_1 0 rfl rfl)
theorem dX7_worthBy_25 : decode cX7_worthBy 25 = .ok (.iconst 0, 1) := dk_3 (dk_at dksX7_worthBy_1 3 rfl rfl)
theorem dX7_worthBy_26 : decode cX7_worthBy 26 = .ok (.invokevirtual 240, 3) := dk_182 0 240 (dk_at dksX7_worthBy_1 4 rfl rfl)
theorem dX7_worthBy_29 : decode cX7_worthBy 29 = .ok (.aload_n 0, 1) := dk_42 (dk_at dksX7_worthBy_1 7 rfl rfl)
theorem dX7_worthBy_30 : decode cX7_worthBy 30 = .ok (.iconst 1, 1) := dk_4 (dk_at dksX7_worthBy_1 8 rfl rfl)
theorem dX7_worthBy_31 : decode cX7_worthBy 31 = .ok (.invokevirtual 243, 3) := dk_182 0 243 (dk_at dksX7_worthBy_1 9 rfl rfl)
theorem dX7_worthBy_34 : decode cX7_worthBy 34 = .ok (.istore 5, 2) := dk_54 5 (dk_at dksX7_worthBy_1 12 rfl rfl)
theorem dX7_worthBy_36 : decode cX7_worthBy 36 = .ok (.iload 5, 2) := dk_21 5 (dk_at dksX7_worthBy_1 14 rfl rfl)
theorem dX7_worthBy_38 : decode cX7_worthBy 38 = .ok (.sipush 999, 3) := dk_17 3 231 (dk_at dksX7_worthBy_1 16 rfl rfl)
theorem dX7_worthBy_41 : decode cX7_worthBy 41 = .ok (.if_icmp .le 9, 3) := dk_164 0 9 (dk_at dksX7_worthBy_1 19 rfl rfl)
theorem dX7_worthBy_44 : decode cX7_worthBy 44 = .ok (.sipush 999, 3) := dk_17 3 231 (dk_at dksX7_worthBy_2 0 rfl rfl)
theorem dX7_worthBy_47 : decode cX7_worthBy 47 = .ok (.goto 19, 3) := dk_167 0 19 (dk_at dksX7_worthBy_2 3 rfl rfl)
theorem dX7_worthBy_50 : decode cX7_worthBy 50 = .ok (.iload 5, 2) := dk_21 5 (dk_at dksX7_worthBy_2 6 rfl rfl)
theorem dX7_worthBy_52 : decode cX7_worthBy 52 = .ok (.sipush (-999), 3) := dk_17 252 25 (dk_at dksX7_worthBy_2 8 rfl rfl)
theorem dX7_worthBy_55 : decode cX7_worthBy 55 = .ok (.if_icmp .ge 9, 3) := dk_162 0 9 (dk_at dksX7_worthBy_2 11 rfl rfl)
theorem dX7_worthBy_58 : decode cX7_worthBy 58 = .ok (.sipush (-999), 3) := dk_17 252 25 (dk_at dksX7_worthBy_2 14 rfl rfl)
theorem dX7_worthBy_61 : decode cX7_worthBy 61 = .ok (.goto 5, 3) := dk_167 0 5 (dk_at dksX7_worthBy_2 17 rfl rfl)
theorem dX7_worthBy_64 : decode cX7_worthBy 64 = .ok (.iload 5, 2) := dk_21 5 (dk_at dksX7_worthBy_2 20 rfl rfl)
theorem dX7_worthBy_66 : decode cX7_worthBy 66 = .ok (.ireturn, 1) := dk_172 (dk_at dksX7_worthBy_2 22 rfl rfl)
abbrev cX7_giving : ByteArray := prog_19_method_37_code
def yX7_giving : MethodName := ⟨RX7, "giving", "(II)I"⟩
def dkwX7_giving_8 : List UInt8 := [180, 1, 4, 4, 96, 181, 1, 4, 42, 180, 1, 4, 4, 100, 172]
abbrev dktX7_giving_8 : List UInt8 := dkwX7_giving_8 ++ []
def dkwX7_giving_7 : List UInt8 := [96, 42, 180, 0, 86, 16, 40, 28, 104, 21, 4, 96, 46, 79, 132, 4, 1, 167, 255, 217, 42, 89]
abbrev dktX7_giving_7 : List UInt8 := dkwX7_giving_7 ++ dktX7_giving_8
def dkwX7_giving_6 : List UInt8 := [54, 4, 21, 4, 42, 180, 0, 151, 162, 0, 36, 42, 180, 0, 53, 16, 6, 42, 180, 1, 4, 104, 21, 4]
abbrev dktX7_giving_6 : List UInt8 := dkwX7_giving_6 ++ dktX7_giving_7
def dkwX7_giving_5 : List UInt8 := [180, 0, 47, 42, 180, 1, 4, 27, 79, 42, 180, 0, 50, 42, 180, 1, 4, 42, 180, 0, 151, 79, 3]
abbrev dktX7_giving_5 : List UInt8 := dkwX7_giving_5 ++ dktX7_giving_6
def dkwX7_giving_4 : List UInt8 := [167, 255, 222, 29, 154, 0, 6, 16, 254, 172, 42, 180, 1, 4, 16, 12, 160, 0, 6, 16, 252, 172, 42]
abbrev dktX7_giving_4 : List UInt8 := dkwX7_giving_4 ++ dktX7_giving_5
def dkwX7_giving_3 : List UInt8 := [153, 0, 27, 42, 27, 42, 180, 0, 86, 16, 40, 28, 104, 21, 4, 96, 46, 182, 1, 0, 62, 132, 4, 1]
abbrev dktX7_giving_3 : List UInt8 := dkwX7_giving_3 ++ dktX7_giving_4
def dkwX7_giving_2 : List UInt8 := [160, 0, 7, 4, 167, 0, 4, 3, 62, 3, 54, 4, 21, 4, 42, 180, 0, 151, 162, 0, 31, 29]
abbrev dktX7_giving_2 : List UInt8 := dkwX7_giving_2 ++ dktX7_giving_3
def dkwX7_giving_1 : List UInt8 := [180, 0, 80, 28, 46, 2, 160, 0, 6, 16, 245, 172, 42, 180, 0, 83, 28, 46, 42, 180, 0, 151]
abbrev dktX7_giving_1 : List UInt8 := dkwX7_giving_1 ++ dktX7_giving_2
def dkwX7_giving_0 : List UInt8 := [27, 3, 8, 184, 0, 154, 153, 0, 12, 28, 3, 6, 184, 0, 154, 154, 0, 6, 16, 254, 172, 42]
abbrev dktX7_giving_0 : List UInt8 := dkwX7_giving_0 ++ dktX7_giving_1
theorem dksX7_giving_0 : cX7_giving.data.toList.drop 0 = dktX7_giving_0 := by decide +kernel
theorem dksX7_giving_1 : cX7_giving.data.toList.drop 22 = dktX7_giving_1 := dk_seg dksX7_giving_0 22 rfl rfl
theorem dksX7_giving_2 : cX7_giving.data.toList.drop 44 = dktX7_giving_2 := dk_seg dksX7_giving_1 22 rfl rfl
theorem dksX7_giving_3 : cX7_giving.data.toList.drop 66 = dktX7_giving_3 := dk_seg dksX7_giving_2 22 rfl rfl
theorem dksX7_giving_4 : cX7_giving.data.toList.drop 90 = dktX7_giving_4 := dk_seg dksX7_giving_3 24 rfl rfl
theorem dksX7_giving_5 : cX7_giving.data.toList.drop 113 = dktX7_giving_5 := dk_seg dksX7_giving_4 23 rfl rfl
theorem dksX7_giving_6 : cX7_giving.data.toList.drop 136 = dktX7_giving_6 := dk_seg dksX7_giving_5 23 rfl rfl
theorem dksX7_giving_7 : cX7_giving.data.toList.drop 160 = dktX7_giving_7 := dk_seg dksX7_giving_6 24 rfl rfl
theorem dksX7_giving_8 : cX7_giving.data.toList.drop 182 = dktX7_giving_8 := dk_seg dksX7_giving_7 22 rfl rfl
theorem dX7_giving_0 : decode cX7_giving 0 = .ok (.iload_n 1, 1) := dk_27 (dk_at dksX7_giving_0 0 rfl rfl)
theorem dX7_giving_1 : decode cX7_giving 1 = .ok (.iconst 0, 1) := dk_3 (dk_at dksX7_giving_0 1 rfl rfl)
theorem dX7_giving_2 : decode cX7_giving 2 = .ok (.iconst 5, 1) := dk_8 (dk_at dksX7_giving_0 2 rfl rfl)
theorem dX7_giving_3 : decode cX7_giving 3 = .ok (.invokestatic 154, 3) := dk_184 0 154 (dk_at dksX7_giving_0 3 rfl rfl)
theorem dX7_giving_6 : decode cX7_giving 6 = .ok (.ifCond .eq 12, 3) := dk_153 0 12 (dk_at dksX7_giving_0 6 rfl rfl)
theorem dX7_giving_9 : decode cX7_giving 9 = .ok (.iload_n 2, 1) := dk_28 (dk_at dksX7_giving_0 9 rfl rfl)
theorem dX7_giving_10 : decode cX7_giving 10 = .ok (.iconst 0, 1) := dk_3 (dk_at dksX7_giving_0 10 rfl rfl)
theorem dX7_giving_11 : decode cX7_giving 11 = .ok (.iconst 3, 1) := dk_6 (dk_at dksX7_giving_0 11 rfl rfl)
theorem dX7_giving_12 : decode cX7_giving 12 = .ok (.invokestatic 154, 3) := dk_184 0 154 (dk_at dksX7_giving_0 12 rfl rfl)
theorem dX7_giving_15 : decode cX7_giving 15 = .ok (.ifCond .ne 6, 3) := dk_154 0 6 (dk_at dksX7_giving_0 15 rfl rfl)
theorem dX7_giving_18 : decode cX7_giving 18 = .ok (.bipush (-2), 2) := dk_16 254 (dk_at dksX7_giving_0 18 rfl rfl)
theorem dX7_giving_20 : decode cX7_giving 20 = .ok (.ireturn, 1) := dk_172 (dk_at dksX7_giving_0 20 rfl rfl)
theorem dX7_giving_21 : decode cX7_giving 21 = .ok (.aload_n 0, 1) := dk_42 (dk_at dksX7_giving_0 21 rfl rfl)
theorem dX7_giving_22 : decode cX7_giving 22 = .ok (.getfield 80, 3) := dk_180 0 80 (dk_at dksX7_giving_1 0 rfl rfl)
theorem dX7_giving_25 : decode cX7_giving 25 = .ok (.iload_n 2, 1) := dk_28 (dk_at dksX7_giving_1 3 rfl rfl)
theorem dX7_giving_26 : decode cX7_giving 26 = .ok (.iaload, 1) := dk_46 (dk_at dksX7_giving_1 4 rfl rfl)
theorem dX7_giving_27 : decode cX7_giving 27 = .ok (.iconst (-1), 1) := dk_2 (dk_at dksX7_giving_1 5 rfl rfl)
theorem dX7_giving_28 : decode cX7_giving 28 = .ok (.if_icmp .ne 6, 3) := dk_160 0 6 (dk_at dksX7_giving_1 6 rfl rfl)
theorem dX7_giving_31 : decode cX7_giving 31 = .ok (.bipush (-11), 2) := dk_16 245 (dk_at dksX7_giving_1 9 rfl rfl)
theorem dX7_giving_33 : decode cX7_giving 33 = .ok (.ireturn, 1) := dk_172 (dk_at dksX7_giving_1 11 rfl rfl)
theorem dX7_giving_34 : decode cX7_giving 34 = .ok (.aload_n 0, 1) := dk_42 (dk_at dksX7_giving_1 12 rfl rfl)
theorem dX7_giving_35 : decode cX7_giving 35 = .ok (.getfield 83, 3) := dk_180 0 83 (dk_at dksX7_giving_1 13 rfl rfl)
theorem dX7_giving_38 : decode cX7_giving 38 = .ok (.iload_n 2, 1) := dk_28 (dk_at dksX7_giving_1 16 rfl rfl)
theorem dX7_giving_39 : decode cX7_giving 39 = .ok (.iaload, 1) := dk_46 (dk_at dksX7_giving_1 17 rfl rfl)
theorem dX7_giving_40 : decode cX7_giving 40 = .ok (.aload_n 0, 1) := dk_42 (dk_at dksX7_giving_1 18 rfl rfl)
theorem dX7_giving_41 : decode cX7_giving 41 = .ok (.getfield 151, 3) := dk_180 0 151 (dk_at dksX7_giving_1 19 rfl rfl)
theorem dX7_giving_44 : decode cX7_giving 44 = .ok (.if_icmp .ne 7, 3) := dk_160 0 7 (dk_at dksX7_giving_2 0 rfl rfl)
theorem dX7_giving_47 : decode cX7_giving 47 = .ok (.iconst 1, 1) := dk_4 (dk_at dksX7_giving_2 3 rfl rfl)
theorem dX7_giving_48 : decode cX7_giving 48 = .ok (.goto 4, 3) := dk_167 0 4 (dk_at dksX7_giving_2 4 rfl rfl)
theorem dX7_giving_51 : decode cX7_giving 51 = .ok (.iconst 0, 1) := dk_3 (dk_at dksX7_giving_2 7 rfl rfl)
theorem dX7_giving_52 : decode cX7_giving 52 = .ok (.istore_n 3, 1) := dk_62 (dk_at dksX7_giving_2 8 rfl rfl)
theorem dX7_giving_53 : decode cX7_giving 53 = .ok (.iconst 0, 1) := dk_3 (dk_at dksX7_giving_2 9 rfl rfl)
theorem dX7_giving_54 : decode cX7_giving 54 = .ok (.istore 4, 2) := dk_54 4 (dk_at dksX7_giving_2 10 rfl rfl)
theorem dX7_giving_56 : decode cX7_giving 56 = .ok (.iload 4, 2) := dk_21 4 (dk_at dksX7_giving_2 12 rfl rfl)
theorem dX7_giving_58 : decode cX7_giving 58 = .ok (.aload_n 0, 1) := dk_42 (dk_at dksX7_giving_2 14 rfl rfl)
theorem dX7_giving_59 : decode cX7_giving 59 = .ok (.getfield 151, 3) := dk_180 0 151 (dk_at dksX7_giving_2 15 rfl rfl)
theorem dX7_giving_62 : decode cX7_giving 62 = .ok (.if_icmp .ge 31, 3) := dk_162 0 31 (dk_at dksX7_giving_2 18 rfl rfl)
theorem dX7_giving_65 : decode cX7_giving 65 = .ok (.iload_n 3, 1) := dk_29 (dk_at dksX7_giving_2 21 rfl rfl)
theorem dX7_giving_66 : decode cX7_giving 66 = .ok (.ifCond .eq 27, 3) := dk_153 0 27 (dk_at dksX7_giving_3 0 rfl rfl)
theorem dX7_giving_69 : decode cX7_giving 69 = .ok (.aload_n 0, 1) := dk_42 (dk_at dksX7_giving_3 3 rfl rfl)
theorem dX7_giving_70 : decode cX7_giving 70 = .ok (.iload_n 1, 1) := dk_27 (dk_at dksX7_giving_3 4 rfl rfl)
theorem dX7_giving_71 : decode cX7_giving 71 = .ok (.aload_n 0, 1) := dk_42 (dk_at dksX7_giving_3 5 rfl rfl)
theorem dX7_giving_72 : decode cX7_giving 72 = .ok (.getfield 86, 3) := dk_180 0 86 (dk_at dksX7_giving_3 6 rfl rfl)
theorem dX7_giving_75 : decode cX7_giving 75 = .ok (.bipush 40, 2) := dk_16 40 (dk_at dksX7_giving_3 9 rfl rfl)
theorem dX7_giving_77 : decode cX7_giving 77 = .ok (.iload_n 2, 1) := dk_28 (dk_at dksX7_giving_3 11 rfl rfl)
theorem dX7_giving_78 : decode cX7_giving 78 = .ok (.imul, 1) := dk_104 (dk_at dksX7_giving_3 12 rfl rfl)
theorem dX7_giving_79 : decode cX7_giving 79 = .ok (.iload 4, 2) := dk_21 4 (dk_at dksX7_giving_3 13 rfl rfl)
theorem dX7_giving_81 : decode cX7_giving 81 = .ok (.iadd, 1) := dk_96 (dk_at dksX7_giving_3 15 rfl rfl)
theorem dX7_giving_82 : decode cX7_giving 82 = .ok (.iaload, 1) := dk_46 (dk_at dksX7_giving_3 16 rfl rfl)
theorem dX7_giving_83 : decode cX7_giving 83 = .ok (.invokevirtual 256, 3) := dk_182 1 0 (dk_at dksX7_giving_3 17 rfl rfl)
theorem dX7_giving_86 : decode cX7_giving 86 = .ok (.istore_n 3, 1) := dk_62 (dk_at dksX7_giving_3 20 rfl rfl)
theorem dX7_giving_87 : decode cX7_giving 87 = .ok (.iinc 4 1, 3) := dk_132 4 1 (dk_at dksX7_giving_3 21 rfl rfl)
theorem dX7_giving_90 : decode cX7_giving 90 = .ok (.goto (-34), 3) := dk_167 255 222 (dk_at dksX7_giving_4 0 rfl rfl)
theorem dX7_giving_93 : decode cX7_giving 93 = .ok (.iload_n 3, 1) := dk_29 (dk_at dksX7_giving_4 3 rfl rfl)
theorem dX7_giving_94 : decode cX7_giving 94 = .ok (.ifCond .ne 6, 3) := dk_154 0 6 (dk_at dksX7_giving_4 4 rfl rfl)
theorem dX7_giving_97 : decode cX7_giving 97 = .ok (.bipush (-2), 2) := dk_16 254 (dk_at dksX7_giving_4 7 rfl rfl)
theorem dX7_giving_99 : decode cX7_giving 99 = .ok (.ireturn, 1) := dk_172 (dk_at dksX7_giving_4 9 rfl rfl)
theorem dX7_giving_100 : decode cX7_giving 100 = .ok (.aload_n 0, 1) := dk_42 (dk_at dksX7_giving_4 10 rfl rfl)
theorem dX7_giving_101 : decode cX7_giving 101 = .ok (.getfield 260, 3) := dk_180 1 4 (dk_at dksX7_giving_4 11 rfl rfl)
theorem dX7_giving_104 : decode cX7_giving 104 = .ok (.bipush 12, 2) := dk_16 12 (dk_at dksX7_giving_4 14 rfl rfl)
theorem dX7_giving_106 : decode cX7_giving 106 = .ok (.if_icmp .ne 6, 3) := dk_160 0 6 (dk_at dksX7_giving_4 16 rfl rfl)
theorem dX7_giving_109 : decode cX7_giving 109 = .ok (.bipush (-4), 2) := dk_16 252 (dk_at dksX7_giving_4 19 rfl rfl)
theorem dX7_giving_111 : decode cX7_giving 111 = .ok (.ireturn, 1) := dk_172 (dk_at dksX7_giving_4 21 rfl rfl)
theorem dX7_giving_112 : decode cX7_giving 112 = .ok (.aload_n 0, 1) := dk_42 (dk_at dksX7_giving_4 22 rfl rfl)
theorem dX7_giving_113 : decode cX7_giving 113 = .ok (.getfield 47, 3) := dk_180 0 47 (dk_at dksX7_giving_5 0 rfl rfl)
theorem dX7_giving_116 : decode cX7_giving 116 = .ok (.aload_n 0, 1) := dk_42 (dk_at dksX7_giving_5 3 rfl rfl)
theorem dX7_giving_117 : decode cX7_giving 117 = .ok (.getfield 260, 3) := dk_180 1 4 (dk_at dksX7_giving_5 4 rfl rfl)
theorem dX7_giving_120 : decode cX7_giving 120 = .ok (.iload_n 1, 1) := dk_27 (dk_at dksX7_giving_5 7 rfl rfl)
theorem dX7_giving_121 : decode cX7_giving 121 = .ok (.iastore, 1) := dk_79 (dk_at dksX7_giving_5 8 rfl rfl)
theorem dX7_giving_122 : decode cX7_giving 122 = .ok (.aload_n 0, 1) := dk_42 (dk_at dksX7_giving_5 9 rfl rfl)
theorem dX7_giving_123 : decode cX7_giving 123 = .ok (.getfield 50, 3) := dk_180 0 50 (dk_at dksX7_giving_5 10 rfl rfl)
theorem dX7_giving_126 : decode cX7_giving 126 = .ok (.aload_n 0, 1) := dk_42 (dk_at dksX7_giving_5 13 rfl rfl)
theorem dX7_giving_127 : decode cX7_giving 127 = .ok (.getfield 260, 3) := dk_180 1 4 (dk_at dksX7_giving_5 14 rfl rfl)
theorem dX7_giving_130 : decode cX7_giving 130 = .ok (.aload_n 0, 1) := dk_42 (dk_at dksX7_giving_5 17 rfl rfl)
theorem dX7_giving_131 : decode cX7_giving 131 = .ok (.getfield 151, 3) := dk_180 0 151 (dk_at dksX7_giving_5 18 rfl rfl)
theorem dX7_giving_134 : decode cX7_giving 134 = .ok (.iastore, 1) := dk_79 (dk_at dksX7_giving_5 21 rfl rfl)
theorem dX7_giving_135 : decode cX7_giving 135 = .ok (.iconst 0, 1) := dk_3 (dk_at dksX7_giving_5 22 rfl rfl)
theorem dX7_giving_136 : decode cX7_giving 136 = .ok (.istore 4, 2) := dk_54 4 (dk_at dksX7_giving_6 0 rfl rfl)
theorem dX7_giving_138 : decode cX7_giving 138 = .ok (.iload 4, 2) := dk_21 4 (dk_at dksX7_giving_6 2 rfl rfl)
theorem dX7_giving_140 : decode cX7_giving 140 = .ok (.aload_n 0, 1) := dk_42 (dk_at dksX7_giving_6 4 rfl rfl)
theorem dX7_giving_141 : decode cX7_giving 141 = .ok (.getfield 151, 3) := dk_180 0 151 (dk_at dksX7_giving_6 5 rfl rfl)
theorem dX7_giving_144 : decode cX7_giving 144 = .ok (.if_icmp .ge 36, 3) := dk_162 0 36 (dk_at dksX7_giving_6 8 rfl rfl)
theorem dX7_giving_147 : decode cX7_giving 147 = .ok (.aload_n 0, 1) := dk_42 (dk_at dksX7_giving_6 11 rfl rfl)
theorem dX7_giving_148 : decode cX7_giving 148 = .ok (.getfield 53, 3) := dk_180 0 53 (dk_at dksX7_giving_6 12 rfl rfl)
theorem dX7_giving_151 : decode cX7_giving 151 = .ok (.bipush 6, 2) := dk_16 6 (dk_at dksX7_giving_6 15 rfl rfl)
theorem dX7_giving_153 : decode cX7_giving 153 = .ok (.aload_n 0, 1) := dk_42 (dk_at dksX7_giving_6 17 rfl rfl)
theorem dX7_giving_154 : decode cX7_giving 154 = .ok (.getfield 260, 3) := dk_180 1 4 (dk_at dksX7_giving_6 18 rfl rfl)
theorem dX7_giving_157 : decode cX7_giving 157 = .ok (.imul, 1) := dk_104 (dk_at dksX7_giving_6 21 rfl rfl)
theorem dX7_giving_158 : decode cX7_giving 158 = .ok (.iload 4, 2) := dk_21 4 (dk_at dksX7_giving_6 22 rfl rfl)
theorem dX7_giving_160 : decode cX7_giving 160 = .ok (.iadd, 1) := dk_96 (dk_at dksX7_giving_7 0 rfl rfl)
theorem dX7_giving_161 : decode cX7_giving 161 = .ok (.aload_n 0, 1) := dk_42 (dk_at dksX7_giving_7 1 rfl rfl)
theorem dX7_giving_162 : decode cX7_giving 162 = .ok (.getfield 86, 3) := dk_180 0 86 (dk_at dksX7_giving_7 2 rfl rfl)
theorem dX7_giving_165 : decode cX7_giving 165 = .ok (.bipush 40, 2) := dk_16 40 (dk_at dksX7_giving_7 5 rfl rfl)
theorem dX7_giving_167 : decode cX7_giving 167 = .ok (.iload_n 2, 1) := dk_28 (dk_at dksX7_giving_7 7 rfl rfl)
theorem dX7_giving_168 : decode cX7_giving 168 = .ok (.imul, 1) := dk_104 (dk_at dksX7_giving_7 8 rfl rfl)
theorem dX7_giving_169 : decode cX7_giving 169 = .ok (.iload 4, 2) := dk_21 4 (dk_at dksX7_giving_7 9 rfl rfl)
theorem dX7_giving_171 : decode cX7_giving 171 = .ok (.iadd, 1) := dk_96 (dk_at dksX7_giving_7 11 rfl rfl)
theorem dX7_giving_172 : decode cX7_giving 172 = .ok (.iaload, 1) := dk_46 (dk_at dksX7_giving_7 12 rfl rfl)
theorem dX7_giving_173 : decode cX7_giving 173 = .ok (.iastore, 1) := dk_79 (dk_at dksX7_giving_7 13 rfl rfl)
theorem dX7_giving_174 : decode cX7_giving 174 = .ok (.iinc 4 1, 3) := dk_132 4 1 (dk_at dksX7_giving_7 14 rfl rfl)
theorem dX7_giving_177 : decode cX7_giving 177 = .ok (.goto (-39), 3) := dk_167 255 217 (dk_at dksX7_giving_7 17 rfl rfl)
theorem dX7_giving_180 : decode cX7_giving 180 = .ok (.aload_n 0, 1) := dk_42 (dk_at dksX7_giving_7 20 rfl rfl)
theorem dX7_giving_181 : decode cX7_giving 181 = .ok (.dup, 1) := dk_89 (dk_at dksX7_giving_7 21 rfl rfl)
theorem dX7_giving_182 : decode cX7_giving 182 = .ok (.getfield 260, 3) := dk_180 1 4 (dk_at dksX7_giving_8 0 rfl rfl)
theorem dX7_giving_185 : decode cX7_giving 185 = .ok (.iconst 1, 1) := dk_4 (dk_at dksX7_giving_8 3 rfl rfl)
theorem dX7_giving_186 : decode cX7_giving 186 = .ok (.iadd, 1) := dk_96 (dk_at dksX7_giving_8 4 rfl rfl)
theorem dX7_giving_187 : decode cX7_giving 187 = .ok (.putfield 260, 3) := dk_181 1 4 (dk_at dksX7_giving_8 5 rfl rfl)
theorem dX7_giving_190 : decode cX7_giving 190 = .ok (.aload_n 0, 1) := dk_42 (dk_at dksX7_giving_8 8 rfl rfl)
theorem dX7_giving_191 : decode cX7_giving 191 = .ok (.getfield 260, 3) := dk_180 1 4 (dk_at dksX7_giving_8 9 rfl rfl)
theorem dX7_giving_194 : decode cX7_giving 194 = .ok (.iconst 1, 1) := dk_4 (dk_at dksX7_giving_8 12 rfl rfl)
theorem dX7_giving_195 : decode cX7_giving 195 = .ok (.isub, 1) := dk_100 (dk_at dksX7_giving_8 13 rfl rfl)
theorem dX7_giving_196 : decode cX7_giving 196 = .ok (.ireturn, 1) := dk_172 (dk_at dksX7_giving_8 14 rfl rfl)
abbrev cX7_isNumber : ByteArray := prog_19_method_36_code
def yX7_isNumber : MethodName := ⟨RX7, "isNumber", "(II)Z"⟩
def dkwX7_isNumber_1 : List UInt8 := [184, 0, 154, 172]
abbrev dktX7_isNumber_1 : List UInt8 := dkwX7_isNumber_1 ++ []
def dkwX7_isNumber_0 : List UInt8 := [28, 3, 27, 4, 159, 0, 8, 27, 8, 160, 0, 8, 16, 7, 167, 0, 9, 42, 180, 0, 25, 4, 100]
abbrev dktX7_isNumber_0 : List UInt8 := dkwX7_isNumber_0 ++ dktX7_isNumber_1
theorem dksX7_isNumber_0 : cX7_isNumber.data.toList.drop 0 = dktX7_isNumber_0 := by decide +kernel
theorem dksX7_isNumber_1 : cX7_isNumber.data.toList.drop 23 = dktX7_isNumber_1 := dk_seg dksX7_isNumber_0 23 rfl rfl
theorem dX7_isNumber_0 : decode cX7_isNumber 0 = .ok (.iload_n 2, 1) := dk_28 (dk_at dksX7_isNumber_0 0 rfl rfl)
theorem dX7_isNumber_1 : decode cX7_isNumber 1 = .ok (.iconst 0, 1) := dk_3 (dk_at dksX7_isNumber_0 1 rfl rfl)
theorem dX7_isNumber_2 : decode cX7_isNumber 2 = .ok (.iload_n 1, 1) := dk_27 (dk_at dksX7_isNumber_0 2 rfl rfl)
theorem dX7_isNumber_3 : decode cX7_isNumber 3 = .ok (.iconst 1, 1) := dk_4 (dk_at dksX7_isNumber_0 3 rfl rfl)
theorem dX7_isNumber_4 : decode cX7_isNumber 4 = .ok (.if_icmp .eq 8, 3) := dk_159 0 8 (dk_at dksX7_isNumber_0 4 rfl rfl)
theorem dX7_isNumber_7 : decode cX7_isNumber 7 = .ok (.iload_n 1, 1) := dk_27 (dk_at dksX7_isNumber_0 7 rfl rfl)
theorem dX7_isNumber_8 : decode cX7_isNumber 8 = .ok (.iconst 5, 1) := dk_8 (dk_at dksX7_isNumber_0 8 rfl rfl)
theorem dX7_isNumber_9 : decode cX7_isNumber 9 = .ok (.if_icmp .ne 8, 3) := dk_160 0 8 (dk_at dksX7_isNumber_0 9 rfl rfl)
theorem dX7_isNumber_12 : decode cX7_isNumber 12 = .ok (.bipush 7, 2) := dk_16 7 (dk_at dksX7_isNumber_0 12 rfl rfl)
theorem dX7_isNumber_14 : decode cX7_isNumber 14 = .ok (.goto 9, 3) := dk_167 0 9 (dk_at dksX7_isNumber_0 14 rfl rfl)
theorem dX7_isNumber_17 : decode cX7_isNumber 17 = .ok (.aload_n 0, 1) := dk_42 (dk_at dksX7_isNumber_0 17 rfl rfl)
theorem dX7_isNumber_18 : decode cX7_isNumber 18 = .ok (.getfield 25, 3) := dk_180 0 25 (dk_at dksX7_isNumber_0 18 rfl rfl)
theorem dX7_isNumber_21 : decode cX7_isNumber 21 = .ok (.iconst 1, 1) := dk_4 (dk_at dksX7_isNumber_0 21 rfl rfl)
theorem dX7_isNumber_22 : decode cX7_isNumber 22 = .ok (.isub, 1) := dk_100 (dk_at dksX7_isNumber_0 22 rfl rfl)
theorem dX7_isNumber_23 : decode cX7_isNumber 23 = .ok (.invokestatic 154, 3) := dk_184 0 154 (dk_at dksX7_isNumber_1 0 rfl rfl)
theorem dX7_isNumber_26 : decode cX7_isNumber 26 = .ok (.ireturn, 1) := dk_172 (dk_at dksX7_isNumber_1 3 rfl rfl)
abbrev cX7_marketOf : ByteArray := prog_19_method_41_code
def yX7_marketOf : MethodName := ⟨RX7, "marketOf", "(III)I"⟩
def dkwX7_marketOf_1 : List UInt8 := [27, 28, 29, 182, 1, 13, 167, 0, 5, 16, 251, 172]
abbrev dktX7_marketOf_1 : List UInt8 := dkwX7_marketOf_1 ++ []
def dkwX7_marketOf_0 : List UInt8 := [42, 27, 182, 1, 10, 153, 0, 28, 42, 28, 182, 0, 158, 153, 0, 20, 29, 184, 0, 165, 153, 0, 13, 42]
abbrev dktX7_marketOf_0 : List UInt8 := dkwX7_marketOf_0 ++ dktX7_marketOf_1
theorem dksX7_marketOf_0 : cX7_marketOf.data.toList.drop 0 = dktX7_marketOf_0 := by decide +kernel
theorem dksX7_marketOf_1 : cX7_marketOf.data.toList.drop 24 = dktX7_marketOf_1 := dk_seg dksX7_marketOf_0 24 rfl rfl
theorem dX7_marketOf_0 : decode cX7_marketOf 0 = .ok (.aload_n 0, 1) := dk_42 (dk_at dksX7_marketOf_0 0 rfl rfl)
theorem dX7_marketOf_1 : decode cX7_marketOf 1 = .ok (.iload_n 1, 1) := dk_27 (dk_at dksX7_marketOf_0 1 rfl rfl)
theorem dX7_marketOf_2 : decode cX7_marketOf 2 = .ok (.invokevirtual 266, 3) := dk_182 1 10 (dk_at dksX7_marketOf_0 2 rfl rfl)
theorem dX7_marketOf_5 : decode cX7_marketOf 5 = .ok (.ifCond .eq 28, 3) := dk_153 0 28 (dk_at dksX7_marketOf_0 5 rfl rfl)
theorem dX7_marketOf_8 : decode cX7_marketOf 8 = .ok (.aload_n 0, 1) := dk_42 (dk_at dksX7_marketOf_0 8 rfl rfl)
theorem dX7_marketOf_9 : decode cX7_marketOf 9 = .ok (.iload_n 2, 1) := dk_28 (dk_at dksX7_marketOf_0 9 rfl rfl)
theorem dX7_marketOf_10 : decode cX7_marketOf 10 = .ok (.invokevirtual 158, 3) := dk_182 0 158 (dk_at dksX7_marketOf_0 10 rfl rfl)
theorem dX7_marketOf_13 : decode cX7_marketOf 13 = .ok (.ifCond .eq 20, 3) := dk_153 0 20 (dk_at dksX7_marketOf_0 13 rfl rfl)
theorem dX7_marketOf_16 : decode cX7_marketOf 16 = .ok (.iload_n 3, 1) := dk_29 (dk_at dksX7_marketOf_0 16 rfl rfl)
theorem dX7_marketOf_17 : decode cX7_marketOf 17 = .ok (.invokestatic 165, 3) := dk_184 0 165 (dk_at dksX7_marketOf_0 17 rfl rfl)
theorem dX7_marketOf_20 : decode cX7_marketOf 20 = .ok (.ifCond .eq 13, 3) := dk_153 0 13 (dk_at dksX7_marketOf_0 20 rfl rfl)
theorem dX7_marketOf_23 : decode cX7_marketOf 23 = .ok (.aload_n 0, 1) := dk_42 (dk_at dksX7_marketOf_0 23 rfl rfl)
theorem dX7_marketOf_24 : decode cX7_marketOf 24 = .ok (.iload_n 1, 1) := dk_27 (dk_at dksX7_marketOf_1 0 rfl rfl)
theorem dX7_marketOf_25 : decode cX7_marketOf 25 = .ok (.iload_n 2, 1) := dk_28 (dk_at dksX7_marketOf_1 1 rfl rfl)
theorem dX7_marketOf_26 : decode cX7_marketOf 26 = .ok (.iload_n 3, 1) := dk_29 (dk_at dksX7_marketOf_1 2 rfl rfl)
theorem dX7_marketOf_27 : decode cX7_marketOf 27 = .ok (.invokevirtual 269, 3) := dk_182 1 13 (dk_at dksX7_marketOf_1 3 rfl rfl)
theorem dX7_marketOf_30 : decode cX7_marketOf 30 = .ok (.goto 5, 3) := dk_167 0 5 (dk_at dksX7_marketOf_1 6 rfl rfl)
theorem dX7_marketOf_33 : decode cX7_marketOf 33 = .ok (.bipush (-5), 2) := dk_16 251 (dk_at dksX7_marketOf_1 9 rfl rfl)
theorem dX7_marketOf_35 : decode cX7_marketOf 35 = .ok (.ireturn, 1) := dk_172 (dk_at dksX7_marketOf_1 11 rfl rfl)
abbrev cX7_isGiving : ByteArray := prog_19_method_38_code
def yX7_isGiving : MethodName := ⟨RX7, "isGiving", "(I)Z"⟩
def dkwX7_isGiving_0 : List UInt8 := [27, 3, 42, 180, 1, 4, 4, 100, 184, 0, 154, 172]
abbrev dktX7_isGiving_0 : List UInt8 := dkwX7_isGiving_0 ++ []
theorem dksX7_isGiving_0 : cX7_isGiving.data.toList.drop 0 = dktX7_isGiving_0 := by decide +kernel
theorem dX7_isGiving_0 : decode cX7_isGiving 0 = .ok (.iload_n 1, 1) := dk_27 (dk_at dksX7_isGiving_0 0 rfl rfl)
theorem dX7_isGiving_1 : decode cX7_isGiving 1 = .ok (.iconst 0, 1) := dk_3 (dk_at dksX7_isGiving_0 1 rfl rfl)
theorem dX7_isGiving_2 : decode cX7_isGiving 2 = .ok (.aload_n 0, 1) := dk_42 (dk_at dksX7_isGiving_0 2 rfl rfl)
theorem dX7_isGiving_3 : decode cX7_isGiving 3 = .ok (.getfield 260, 3) := dk_180 1 4 (dk_at dksX7_isGiving_0 3 rfl rfl)
theorem dX7_isGiving_6 : decode cX7_isGiving 6 = .ok (.iconst 1, 1) := dk_4 (dk_at dksX7_isGiving_0 6 rfl rfl)
theorem dX7_isGiving_7 : decode cX7_isGiving 7 = .ok (.isub, 1) := dk_100 (dk_at dksX7_isGiving_0 7 rfl rfl)
theorem dX7_isGiving_8 : decode cX7_isGiving 8 = .ok (.invokestatic 154, 3) := dk_184 0 154 (dk_at dksX7_isGiving_0 8 rfl rfl)
theorem dX7_isGiving_11 : decode cX7_isGiving 11 = .ok (.ireturn, 1) := dk_172 (dk_at dksX7_isGiving_0 11 rfl rfl)
abbrev cX7_market : ByteArray := prog_19_method_40_code
def yX7_market : MethodName := ⟨RX7, "market", "(III)I"⟩
def dkwX7_market_4 : List UInt8 := [54, 4, 132, 5, 1, 167, 255, 171, 21, 4, 172]
abbrev dktX7_market_4 : List UInt8 := dkwX7_market_4 ++ []
def dkwX7_market_3 : List UInt8 := [160, 0, 26, 21, 4, 4, 21, 6, 120, 2, 130, 126, 4, 21, 6, 4, 96, 42, 180, 0, 25, 112, 120, 128]
abbrev dktX7_market_3 : List UInt8 := dkwX7_market_3 ++ dktX7_market_4
def dkwX7_market_2 : List UInt8 := [46, 29, 160, 0, 46, 21, 6, 42, 180, 0, 25, 162, 0, 37, 21, 4, 21, 6, 122, 4, 126, 4]
abbrev dktX7_market_2 : List UInt8 := dkwX7_market_2 ++ dktX7_market_3
def dkwX7_market_1 : List UInt8 := [180, 0, 47, 27, 46, 8, 159, 0, 72, 42, 180, 0, 32, 21, 5, 46, 54, 6, 42, 180, 0, 29, 21, 5]
abbrev dktX7_market_1 : List UInt8 := dkwX7_market_1 ++ dktX7_market_2
def dkwX7_market_0 : List UInt8 := [42, 27, 28, 29, 182, 1, 7, 54, 4, 3, 54, 5, 21, 5, 42, 180, 0, 168, 162, 0, 82, 42]
abbrev dktX7_market_0 : List UInt8 := dkwX7_market_0 ++ dktX7_market_1
theorem dksX7_market_0 : cX7_market.data.toList.drop 0 = dktX7_market_0 := by decide +kernel
theorem dksX7_market_1 : cX7_market.data.toList.drop 22 = dktX7_market_1 := dk_seg dksX7_market_0 22 rfl rfl
theorem dksX7_market_2 : cX7_market.data.toList.drop 46 = dktX7_market_2 := dk_seg dksX7_market_1 24 rfl rfl
theorem dksX7_market_3 : cX7_market.data.toList.drop 68 = dktX7_market_3 := dk_seg dksX7_market_2 22 rfl rfl
theorem dksX7_market_4 : cX7_market.data.toList.drop 92 = dktX7_market_4 := dk_seg dksX7_market_3 24 rfl rfl
theorem dX7_market_0 : decode cX7_market 0 = .ok (.aload_n 0, 1) := dk_42 (dk_at dksX7_market_0 0 rfl rfl)
theorem dX7_market_1 : decode cX7_market 1 = .ok (.iload_n 1, 1) := dk_27 (dk_at dksX7_market_0 1 rfl rfl)
theorem dX7_market_2 : decode cX7_market 2 = .ok (.iload_n 2, 1) := dk_28 (dk_at dksX7_market_0 2 rfl rfl)
theorem dX7_market_3 : decode cX7_market 3 = .ok (.iload_n 3, 1) := dk_29 (dk_at dksX7_market_0 3 rfl rfl)
theorem dX7_market_4 : decode cX7_market 4 = .ok (.invokevirtual 263, 3) := dk_182 1 7 (dk_at dksX7_market_0 4 rfl rfl)
theorem dX7_market_7 : decode cX7_market 7 = .ok (.istore 4, 2) := dk_54 4 (dk_at dksX7_market_0 7 rfl rfl)
theorem dX7_market_9 : decode cX7_market 9 = .ok (.iconst 0, 1) := dk_3 (dk_at dksX7_market_0 9 rfl rfl)
theorem dX7_market_10 : decode cX7_market 10 = .ok (.istore 5, 2) := dk_54 5 (dk_at dksX7_market_0 10 rfl rfl)
theorem dX7_market_12 : decode cX7_market 12 = .ok (.iload 5, 2) := dk_21 5 (dk_at dksX7_market_0 12 rfl rfl)
theorem dX7_market_14 : decode cX7_market 14 = .ok (.aload_n 0, 1) := dk_42 (dk_at dksX7_market_0 14 rfl rfl)
theorem dX7_market_15 : decode cX7_market 15 = .ok (.getfield 168, 3) := dk_180 0 168 (dk_at dksX7_market_0 15 rfl rfl)
theorem dX7_market_18 : decode cX7_market 18 = .ok (.if_icmp .ge 82, 3) := dk_162 0 82 (dk_at dksX7_market_0 18 rfl rfl)
theorem dX7_market_21 : decode cX7_market 21 = .ok (.aload_n 0, 1) := dk_42 (dk_at dksX7_market_0 21 rfl rfl)
theorem dX7_market_22 : decode cX7_market 22 = .ok (.getfield 47, 3) := dk_180 0 47 (dk_at dksX7_market_1 0 rfl rfl)
theorem dX7_market_25 : decode cX7_market 25 = .ok (.iload_n 1, 1) := dk_27 (dk_at dksX7_market_1 3 rfl rfl)
theorem dX7_market_26 : decode cX7_market 26 = .ok (.iaload, 1) := dk_46 (dk_at dksX7_market_1 4 rfl rfl)
theorem dX7_market_27 : decode cX7_market 27 = .ok (.iconst 5, 1) := dk_8 (dk_at dksX7_market_1 5 rfl rfl)
theorem dX7_market_28 : decode cX7_market 28 = .ok (.if_icmp .eq 72, 3) := dk_159 0 72 (dk_at dksX7_market_1 6 rfl rfl)
theorem dX7_market_31 : decode cX7_market 31 = .ok (.aload_n 0, 1) := dk_42 (dk_at dksX7_market_1 9 rfl rfl)
theorem dX7_market_32 : decode cX7_market 32 = .ok (.getfield 32, 3) := dk_180 0 32 (dk_at dksX7_market_1 10 rfl rfl)
theorem dX7_market_35 : decode cX7_market 35 = .ok (.iload 5, 2) := dk_21 5 (dk_at dksX7_market_1 13 rfl rfl)
theorem dX7_market_37 : decode cX7_market 37 = .ok (.iaload, 1) := dk_46 (dk_at dksX7_market_1 15 rfl rfl)
theorem dX7_market_38 : decode cX7_market 38 = .ok (.istore 6, 2) := dk_54 6 (dk_at dksX7_market_1 16 rfl rfl)
theorem dX7_market_40 : decode cX7_market 40 = .ok (.aload_n 0, 1) := dk_42 (dk_at dksX7_market_1 18 rfl rfl)
theorem dX7_market_41 : decode cX7_market 41 = .ok (.getfield 29, 3) := dk_180 0 29 (dk_at dksX7_market_1 19 rfl rfl)
theorem dX7_market_44 : decode cX7_market 44 = .ok (.iload 5, 2) := dk_21 5 (dk_at dksX7_market_1 22 rfl rfl)
theorem dX7_market_46 : decode cX7_market 46 = .ok (.iaload, 1) := dk_46 (dk_at dksX7_market_2 0 rfl rfl)
theorem dX7_market_47 : decode cX7_market 47 = .ok (.iload_n 3, 1) := dk_29 (dk_at dksX7_market_2 1 rfl rfl)
theorem dX7_market_48 : decode cX7_market 48 = .ok (.if_icmp .ne 46, 3) := dk_160 0 46 (dk_at dksX7_market_2 2 rfl rfl)
theorem dX7_market_51 : decode cX7_market 51 = .ok (.iload 6, 2) := dk_21 6 (dk_at dksX7_market_2 5 rfl rfl)
theorem dX7_market_53 : decode cX7_market 53 = .ok (.aload_n 0, 1) := dk_42 (dk_at dksX7_market_2 7 rfl rfl)
theorem dX7_market_54 : decode cX7_market 54 = .ok (.getfield 25, 3) := dk_180 0 25 (dk_at dksX7_market_2 8 rfl rfl)
theorem dX7_market_57 : decode cX7_market 57 = .ok (.if_icmp .ge 37, 3) := dk_162 0 37 (dk_at dksX7_market_2 11 rfl rfl)
theorem dX7_market_60 : decode cX7_market 60 = .ok (.iload 4, 2) := dk_21 4 (dk_at dksX7_market_2 14 rfl rfl)
theorem dX7_market_62 : decode cX7_market 62 = .ok (.iload 6, 2) := dk_21 6 (dk_at dksX7_market_2 16 rfl rfl)
theorem dX7_market_64 : decode cX7_market 64 = .ok (.ishr, 1) := dk_122 (dk_at dksX7_market_2 18 rfl rfl)
theorem dX7_market_65 : decode cX7_market 65 = .ok (.iconst 1, 1) := dk_4 (dk_at dksX7_market_2 19 rfl rfl)
theorem dX7_market_66 : decode cX7_market 66 = .ok (.iand, 1) := dk_126 (dk_at dksX7_market_2 20 rfl rfl)
theorem dX7_market_67 : decode cX7_market 67 = .ok (.iconst 1, 1) := dk_4 (dk_at dksX7_market_2 21 rfl rfl)
theorem dX7_market_68 : decode cX7_market 68 = .ok (.if_icmp .ne 26, 3) := dk_160 0 26 (dk_at dksX7_market_3 0 rfl rfl)
theorem dX7_market_71 : decode cX7_market 71 = .ok (.iload 4, 2) := dk_21 4 (dk_at dksX7_market_3 3 rfl rfl)
theorem dX7_market_73 : decode cX7_market 73 = .ok (.iconst 1, 1) := dk_4 (dk_at dksX7_market_3 5 rfl rfl)
theorem dX7_market_74 : decode cX7_market 74 = .ok (.iload 6, 2) := dk_21 6 (dk_at dksX7_market_3 6 rfl rfl)
theorem dX7_market_76 : decode cX7_market 76 = .ok (.ishl, 1) := dk_120 (dk_at dksX7_market_3 8 rfl rfl)
theorem dX7_market_77 : decode cX7_market 77 = .ok (.iconst (-1), 1) := dk_2 (dk_at dksX7_market_3 9 rfl rfl)
theorem dX7_market_78 : decode cX7_market 78 = .ok (.ixor, 1) := dk_130 (dk_at dksX7_market_3 10 rfl rfl)
theorem dX7_market_79 : decode cX7_market 79 = .ok (.iand, 1) := dk_126 (dk_at dksX7_market_3 11 rfl rfl)
theorem dX7_market_80 : decode cX7_market 80 = .ok (.iconst 1, 1) := dk_4 (dk_at dksX7_market_3 12 rfl rfl)
theorem dX7_market_81 : decode cX7_market 81 = .ok (.iload 6, 2) := dk_21 6 (dk_at dksX7_market_3 13 rfl rfl)
theorem dX7_market_83 : decode cX7_market 83 = .ok (.iconst 1, 1) := dk_4 (dk_at dksX7_market_3 15 rfl rfl)
theorem dX7_market_84 : decode cX7_market 84 = .ok (.iadd, 1) := dk_96 (dk_at dksX7_market_3 16 rfl rfl)
theorem dX7_market_85 : decode cX7_market 85 = .ok (.aload_n 0, 1) := dk_42 (dk_at dksX7_market_3 17 rfl rfl)
theorem dX7_market_86 : decode cX7_market 86 = .ok (.getfield 25, 3) := dk_180 0 25 (dk_at dksX7_market_3 18 rfl rfl)
theorem dX7_market_89 : decode cX7_market 89 = .ok (.irem, 1) := dk_112 (dk_at dksX7_market_3 21 rfl rfl)
theorem dX7_market_90 : decode cX7_market 90 = .ok (.ishl, 1) := dk_120 (dk_at dksX7_market_3 22 rfl rfl)
theorem dX7_market_91 : decode cX7_market 91 = .ok (.ior, 1) := dk_128 (dk_at dksX7_market_3 23 rfl rfl)
theorem dX7_market_92 : decode cX7_market 92 = .ok (.istore 4, 2) := dk_54 4 (dk_at dksX7_market_4 0 rfl rfl)
theorem dX7_market_94 : decode cX7_market 94 = .ok (.iinc 5 1, 3) := dk_132 5 1 (dk_at dksX7_market_4 2 rfl rfl)
theorem dX7_market_97 : decode cX7_market 97 = .ok (.goto (-85), 3) := dk_167 255 171 (dk_at dksX7_market_4 5 rfl rfl)
theorem dX7_market_100 : decode cX7_market 100 = .ok (.iload 4, 2) := dk_21 4 (dk_at dksX7_market_4 8 rfl rfl)
theorem dX7_market_102 : decode cX7_market 102 = .ok (.ireturn, 1) := dk_172 (dk_at dksX7_market_4 10 rfl rfl)
abbrev cX7_daysOf : ByteArray := prog_19_method_39_code
def yX7_daysOf : MethodName := ⟨RX7, "daysOf", "(III)I"⟩
def dkwX7_daysOf_6 : List UInt8 := [167, 0, 4, 5, 96, 42, 180, 0, 25, 112, 120, 172, 4, 21, 4, 120, 172]
abbrev dktX7_daysOf_6 : List UInt8 := dkwX7_daysOf_6 ++ []
def dkwX7_daysOf_5 : List UInt8 := [21, 4, 29, 96, 42, 180, 0, 25, 112, 120, 172, 4, 21, 4, 29, 96, 29, 5, 112, 154, 0, 7, 3]
abbrev dktX7_daysOf_5 : List UInt8 := dkwX7_daysOf_5 ++ dktX7_daysOf_6
def dkwX7_daysOf_4 : List UInt8 := [4, 21, 4, 120, 4, 21, 4, 42, 180, 0, 25, 5, 108, 96, 42, 180, 0, 25, 112, 120, 128, 172, 4]
abbrev dktX7_daysOf_4 : List UInt8 := dkwX7_daysOf_4 ++ dktX7_daysOf_5
def dkwX7_daysOf_3 : List UInt8 := [170, 0, 0, 0, 0, 84, 0, 0, 0, 2, 0, 0, 0, 4, 0, 0, 0, 26, 0, 0, 0, 48, 0, 0, 0, 60]
abbrev dktX7_daysOf_3 : List UInt8 := dkwX7_daysOf_3 ++ dktX7_daysOf_4
def dkwX7_daysOf_2 : List UInt8 := [27, 46]
abbrev dktX7_daysOf_2 : List UInt8 := dkwX7_daysOf_2 ++ dktX7_daysOf_3
def dkwX7_daysOf_1 : List UInt8 := [2, 54, 4, 21, 4, 3, 42, 180, 0, 25, 4, 100, 184, 0, 154, 154, 0, 5, 3, 172, 42, 180, 0, 47]
abbrev dktX7_daysOf_1 : List UInt8 := dkwX7_daysOf_1 ++ dktX7_daysOf_2
def dkwX7_daysOf_0 : List UInt8 := [28, 42, 180, 0, 50, 27, 46, 162, 0, 17, 42, 180, 0, 53, 16, 6, 27, 104, 28, 96, 46, 167, 0, 4]
abbrev dktX7_daysOf_0 : List UInt8 := dkwX7_daysOf_0 ++ dktX7_daysOf_1
theorem dksX7_daysOf_0 : cX7_daysOf.data.toList.drop 0 = dktX7_daysOf_0 := by decide +kernel
theorem dksX7_daysOf_1 : cX7_daysOf.data.toList.drop 24 = dktX7_daysOf_1 := dk_seg dksX7_daysOf_0 24 rfl rfl
theorem dksX7_daysOf_2 : cX7_daysOf.data.toList.drop 48 = dktX7_daysOf_2 := dk_seg dksX7_daysOf_1 24 rfl rfl
theorem dksX7_daysOf_3 : cX7_daysOf.data.toList.drop 50 = dktX7_daysOf_3 := dk_seg dksX7_daysOf_2 2 rfl rfl
theorem dksX7_daysOf_4 : cX7_daysOf.data.toList.drop 76 = dktX7_daysOf_4 := dk_seg dksX7_daysOf_3 26 rfl rfl
theorem dksX7_daysOf_5 : cX7_daysOf.data.toList.drop 99 = dktX7_daysOf_5 := dk_seg dksX7_daysOf_4 23 rfl rfl
theorem dksX7_daysOf_6 : cX7_daysOf.data.toList.drop 122 = dktX7_daysOf_6 := dk_seg dksX7_daysOf_5 23 rfl rfl
theorem dX7_daysOf_0 : decode cX7_daysOf 0 = .ok (.iload_n 2, 1) := dk_28 (dk_at dksX7_daysOf_0 0 rfl rfl)
theorem dX7_daysOf_1 : decode cX7_daysOf 1 = .ok (.aload_n 0, 1) := dk_42 (dk_at dksX7_daysOf_0 1 rfl rfl)
theorem dX7_daysOf_2 : decode cX7_daysOf 2 = .ok (.getfield 50, 3) := dk_180 0 50 (dk_at dksX7_daysOf_0 2 rfl rfl)
theorem dX7_daysOf_5 : decode cX7_daysOf 5 = .ok (.iload_n 1, 1) := dk_27 (dk_at dksX7_daysOf_0 5 rfl rfl)
theorem dX7_daysOf_6 : decode cX7_daysOf 6 = .ok (.iaload, 1) := dk_46 (dk_at dksX7_daysOf_0 6 rfl rfl)
theorem dX7_daysOf_7 : decode cX7_daysOf 7 = .ok (.if_icmp .ge 17, 3) := dk_162 0 17 (dk_at dksX7_daysOf_0 7 rfl rfl)
theorem dX7_daysOf_10 : decode cX7_daysOf 10 = .ok (.aload_n 0, 1) := dk_42 (dk_at dksX7_daysOf_0 10 rfl rfl)
theorem dX7_daysOf_11 : decode cX7_daysOf 11 = .ok (.getfield 53, 3) := dk_180 0 53 (dk_at dksX7_daysOf_0 11 rfl rfl)
theorem dX7_daysOf_14 : decode cX7_daysOf 14 = .ok (.bipush 6, 2) := dk_16 6 (dk_at dksX7_daysOf_0 14 rfl rfl)
theorem dX7_daysOf_16 : decode cX7_daysOf 16 = .ok (.iload_n 1, 1) := dk_27 (dk_at dksX7_daysOf_0 16 rfl rfl)
theorem dX7_daysOf_17 : decode cX7_daysOf 17 = .ok (.imul, 1) := dk_104 (dk_at dksX7_daysOf_0 17 rfl rfl)
theorem dX7_daysOf_18 : decode cX7_daysOf 18 = .ok (.iload_n 2, 1) := dk_28 (dk_at dksX7_daysOf_0 18 rfl rfl)
theorem dX7_daysOf_19 : decode cX7_daysOf 19 = .ok (.iadd, 1) := dk_96 (dk_at dksX7_daysOf_0 19 rfl rfl)
theorem dX7_daysOf_20 : decode cX7_daysOf 20 = .ok (.iaload, 1) := dk_46 (dk_at dksX7_daysOf_0 20 rfl rfl)
theorem dX7_daysOf_21 : decode cX7_daysOf 21 = .ok (.goto 4, 3) := dk_167 0 4 (dk_at dksX7_daysOf_0 21 rfl rfl)
theorem dX7_daysOf_24 : decode cX7_daysOf 24 = .ok (.iconst (-1), 1) := dk_2 (dk_at dksX7_daysOf_1 0 rfl rfl)
theorem dX7_daysOf_25 : decode cX7_daysOf 25 = .ok (.istore 4, 2) := dk_54 4 (dk_at dksX7_daysOf_1 1 rfl rfl)
theorem dX7_daysOf_27 : decode cX7_daysOf 27 = .ok (.iload 4, 2) := dk_21 4 (dk_at dksX7_daysOf_1 3 rfl rfl)
theorem dX7_daysOf_29 : decode cX7_daysOf 29 = .ok (.iconst 0, 1) := dk_3 (dk_at dksX7_daysOf_1 5 rfl rfl)
theorem dX7_daysOf_30 : decode cX7_daysOf 30 = .ok (.aload_n 0, 1) := dk_42 (dk_at dksX7_daysOf_1 6 rfl rfl)
theorem dX7_daysOf_31 : decode cX7_daysOf 31 = .ok (.getfield 25, 3) := dk_180 0 25 (dk_at dksX7_daysOf_1 7 rfl rfl)
theorem dX7_daysOf_34 : decode cX7_daysOf 34 = .ok (.iconst 1, 1) := dk_4 (dk_at dksX7_daysOf_1 10 rfl rfl)
theorem dX7_daysOf_35 : decode cX7_daysOf 35 = .ok (.isub, 1) := dk_100 (dk_at dksX7_daysOf_1 11 rfl rfl)
theorem dX7_daysOf_36 : decode cX7_daysOf 36 = .ok (.invokestatic 154, 3) := dk_184 0 154 (dk_at dksX7_daysOf_1 12 rfl rfl)
theorem dX7_daysOf_39 : decode cX7_daysOf 39 = .ok (.ifCond .ne 5, 3) := dk_154 0 5 (dk_at dksX7_daysOf_1 15 rfl rfl)
theorem dX7_daysOf_42 : decode cX7_daysOf 42 = .ok (.iconst 0, 1) := dk_3 (dk_at dksX7_daysOf_1 18 rfl rfl)
theorem dX7_daysOf_43 : decode cX7_daysOf 43 = .ok (.ireturn, 1) := dk_172 (dk_at dksX7_daysOf_1 19 rfl rfl)
theorem dX7_daysOf_44 : decode cX7_daysOf 44 = .ok (.aload_n 0, 1) := dk_42 (dk_at dksX7_daysOf_1 20 rfl rfl)
theorem dX7_daysOf_45 : decode cX7_daysOf 45 = .ok (.getfield 47, 3) := dk_180 0 47 (dk_at dksX7_daysOf_1 21 rfl rfl)
theorem dX7_daysOf_48 : decode cX7_daysOf 48 = .ok (.iload_n 1, 1) := dk_27 (dk_at dksX7_daysOf_2 0 rfl rfl)
theorem dX7_daysOf_49 : decode cX7_daysOf 49 = .ok (.iaload, 1) := dk_46 (dk_at dksX7_daysOf_2 1 rfl rfl)
theorem dX7_daysOf_50 : decode cX7_daysOf 50 = .ok (.tableswitch 84 2 4 #[26, 48, 60], 26) := by decide +kernel
theorem dX7_daysOf_76 : decode cX7_daysOf 76 = .ok (.iconst 1, 1) := dk_4 (dk_at dksX7_daysOf_4 0 rfl rfl)
theorem dX7_daysOf_77 : decode cX7_daysOf 77 = .ok (.iload 4, 2) := dk_21 4 (dk_at dksX7_daysOf_4 1 rfl rfl)
theorem dX7_daysOf_79 : decode cX7_daysOf 79 = .ok (.ishl, 1) := dk_120 (dk_at dksX7_daysOf_4 3 rfl rfl)
theorem dX7_daysOf_80 : decode cX7_daysOf 80 = .ok (.iconst 1, 1) := dk_4 (dk_at dksX7_daysOf_4 4 rfl rfl)
theorem dX7_daysOf_81 : decode cX7_daysOf 81 = .ok (.iload 4, 2) := dk_21 4 (dk_at dksX7_daysOf_4 5 rfl rfl)
theorem dX7_daysOf_83 : decode cX7_daysOf 83 = .ok (.aload_n 0, 1) := dk_42 (dk_at dksX7_daysOf_4 7 rfl rfl)
theorem dX7_daysOf_84 : decode cX7_daysOf 84 = .ok (.getfield 25, 3) := dk_180 0 25 (dk_at dksX7_daysOf_4 8 rfl rfl)
theorem dX7_daysOf_87 : decode cX7_daysOf 87 = .ok (.iconst 2, 1) := dk_5 (dk_at dksX7_daysOf_4 11 rfl rfl)
theorem dX7_daysOf_88 : decode cX7_daysOf 88 = .ok (.idiv, 1) := dk_108 (dk_at dksX7_daysOf_4 12 rfl rfl)
theorem dX7_daysOf_89 : decode cX7_daysOf 89 = .ok (.iadd, 1) := dk_96 (dk_at dksX7_daysOf_4 13 rfl rfl)
theorem dX7_daysOf_90 : decode cX7_daysOf 90 = .ok (.aload_n 0, 1) := dk_42 (dk_at dksX7_daysOf_4 14 rfl rfl)
theorem dX7_daysOf_91 : decode cX7_daysOf 91 = .ok (.getfield 25, 3) := dk_180 0 25 (dk_at dksX7_daysOf_4 15 rfl rfl)
theorem dX7_daysOf_94 : decode cX7_daysOf 94 = .ok (.irem, 1) := dk_112 (dk_at dksX7_daysOf_4 18 rfl rfl)
theorem dX7_daysOf_95 : decode cX7_daysOf 95 = .ok (.ishl, 1) := dk_120 (dk_at dksX7_daysOf_4 19 rfl rfl)
theorem dX7_daysOf_96 : decode cX7_daysOf 96 = .ok (.ior, 1) := dk_128 (dk_at dksX7_daysOf_4 20 rfl rfl)
theorem dX7_daysOf_97 : decode cX7_daysOf 97 = .ok (.ireturn, 1) := dk_172 (dk_at dksX7_daysOf_4 21 rfl rfl)
theorem dX7_daysOf_98 : decode cX7_daysOf 98 = .ok (.iconst 1, 1) := dk_4 (dk_at dksX7_daysOf_4 22 rfl rfl)
theorem dX7_daysOf_99 : decode cX7_daysOf 99 = .ok (.iload 4, 2) := dk_21 4 (dk_at dksX7_daysOf_5 0 rfl rfl)
theorem dX7_daysOf_101 : decode cX7_daysOf 101 = .ok (.iload_n 3, 1) := dk_29 (dk_at dksX7_daysOf_5 2 rfl rfl)
theorem dX7_daysOf_102 : decode cX7_daysOf 102 = .ok (.iadd, 1) := dk_96 (dk_at dksX7_daysOf_5 3 rfl rfl)
theorem dX7_daysOf_103 : decode cX7_daysOf 103 = .ok (.aload_n 0, 1) := dk_42 (dk_at dksX7_daysOf_5 4 rfl rfl)
theorem dX7_daysOf_104 : decode cX7_daysOf 104 = .ok (.getfield 25, 3) := dk_180 0 25 (dk_at dksX7_daysOf_5 5 rfl rfl)
theorem dX7_daysOf_107 : decode cX7_daysOf 107 = .ok (.irem, 1) := dk_112 (dk_at dksX7_daysOf_5 8 rfl rfl)
theorem dX7_daysOf_108 : decode cX7_daysOf 108 = .ok (.ishl, 1) := dk_120 (dk_at dksX7_daysOf_5 9 rfl rfl)
theorem dX7_daysOf_109 : decode cX7_daysOf 109 = .ok (.ireturn, 1) := dk_172 (dk_at dksX7_daysOf_5 10 rfl rfl)
theorem dX7_daysOf_110 : decode cX7_daysOf 110 = .ok (.iconst 1, 1) := dk_4 (dk_at dksX7_daysOf_5 11 rfl rfl)
theorem dX7_daysOf_111 : decode cX7_daysOf 111 = .ok (.iload 4, 2) := dk_21 4 (dk_at dksX7_daysOf_5 12 rfl rfl)
theorem dX7_daysOf_113 : decode cX7_daysOf 113 = .ok (.iload_n 3, 1) := dk_29 (dk_at dksX7_daysOf_5 14 rfl rfl)
theorem dX7_daysOf_114 : decode cX7_daysOf 114 = .ok (.iadd, 1) := dk_96 (dk_at dksX7_daysOf_5 15 rfl rfl)
theorem dX7_daysOf_115 : decode cX7_daysOf 115 = .ok (.iload_n 3, 1) := dk_29 (dk_at dksX7_daysOf_5 16 rfl rfl)
theorem dX7_daysOf_116 : decode cX7_daysOf 116 = .ok (.iconst 2, 1) := dk_5 (dk_at dksX7_daysOf_5 17 rfl rfl)
theorem dX7_daysOf_117 : decode cX7_daysOf 117 = .ok (.irem, 1) := dk_112 (dk_at dksX7_daysOf_5 18 rfl rfl)
theorem dX7_daysOf_118 : decode cX7_daysOf 118 = .ok (.ifCond .ne 7, 3) := dk_154 0 7 (dk_at dksX7_daysOf_5 19 rfl rfl)
theorem dX7_daysOf_121 : decode cX7_daysOf 121 = .ok (.iconst 0, 1) := dk_3 (dk_at dksX7_daysOf_5 22 rfl rfl)
theorem dX7_daysOf_122 : decode cX7_daysOf 122 = .ok (.goto 4, 3) := dk_167 0 4 (dk_at dksX7_daysOf_6 0 rfl rfl)
theorem dX7_daysOf_125 : decode cX7_daysOf 125 = .ok (.iconst 2, 1) := dk_5 (dk_at dksX7_daysOf_6 3 rfl rfl)
theorem dX7_daysOf_126 : decode cX7_daysOf 126 = .ok (.iadd, 1) := dk_96 (dk_at dksX7_daysOf_6 4 rfl rfl)
theorem dX7_daysOf_127 : decode cX7_daysOf 127 = .ok (.aload_n 0, 1) := dk_42 (dk_at dksX7_daysOf_6 5 rfl rfl)
theorem dX7_daysOf_128 : decode cX7_daysOf 128 = .ok (.getfield 25, 3) := dk_180 0 25 (dk_at dksX7_daysOf_6 6 rfl rfl)
theorem dX7_daysOf_131 : decode cX7_daysOf 131 = .ok (.irem, 1) := dk_112 (dk_at dksX7_daysOf_6 9 rfl rfl)
theorem dX7_daysOf_132 : decode cX7_daysOf 132 = .ok (.ishl, 1) := dk_120 (dk_at dksX7_daysOf_6 10 rfl rfl)
theorem dX7_daysOf_133 : decode cX7_daysOf 133 = .ok (.ireturn, 1) := dk_172 (dk_at dksX7_daysOf_6 11 rfl rfl)
theorem dX7_daysOf_134 : decode cX7_daysOf 134 = .ok (.iconst 1, 1) := dk_4 (dk_at dksX7_daysOf_6 12 rfl rfl)
theorem dX7_daysOf_135 : decode cX7_daysOf 135 = .ok (.iload 4, 2) := dk_21 4 (dk_at dksX7_daysOf_6 13 rfl rfl)
theorem dX7_daysOf_137 : decode cX7_daysOf 137 = .ok (.ishl, 1) := dk_120 (dk_at dksX7_daysOf_6 15 rfl rfl)
theorem dX7_daysOf_138 : decode cX7_daysOf 138 = .ok (.ireturn, 1) := dk_172 (dk_at dksX7_daysOf_6 16 rfl rfl)
abbrev cX7_bar : ByteArray := prog_19_method_46_code
def yX7_bar : MethodName := ⟨RX7, "bar", "(II)I"⟩
def dkwX7_bar_1 : List UInt8 := [28, 182, 1, 25, 42, 182, 1, 29, 172]
abbrev dktX7_bar_1 : List UInt8 := dkwX7_bar_1 ++ []
def dkwX7_bar_0 : List UInt8 := [42, 27, 182, 1, 10, 153, 0, 10, 28, 184, 0, 165, 154, 0, 6, 16, 251, 172, 42, 182, 1, 22, 42, 27]
abbrev dktX7_bar_0 : List UInt8 := dkwX7_bar_0 ++ dktX7_bar_1
theorem dksX7_bar_0 : cX7_bar.data.toList.drop 0 = dktX7_bar_0 := by decide +kernel
theorem dksX7_bar_1 : cX7_bar.data.toList.drop 24 = dktX7_bar_1 := dk_seg dksX7_bar_0 24 rfl rfl
theorem dX7_bar_0 : decode cX7_bar 0 = .ok (.aload_n 0, 1) := dk_42 (dk_at dksX7_bar_0 0 rfl rfl)
theorem dX7_bar_1 : decode cX7_bar 1 = .ok (.iload_n 1, 1) := dk_27 (dk_at dksX7_bar_0 1 rfl rfl)
theorem dX7_bar_2 : decode cX7_bar 2 = .ok (.invokevirtual 266, 3) := dk_182 1 10 (dk_at dksX7_bar_0 2 rfl rfl)
theorem dX7_bar_5 : decode cX7_bar 5 = .ok (.ifCond .eq 10, 3) := dk_153 0 10 (dk_at dksX7_bar_0 5 rfl rfl)
theorem dX7_bar_8 : decode cX7_bar 8 = .ok (.iload_n 2, 1) := dk_28 (dk_at dksX7_bar_0 8 rfl rfl)
theorem dX7_bar_9 : decode cX7_bar 9 = .ok (.invokestatic 165, 3) := dk_184 0 165 (dk_at dksX7_bar_0 9 rfl rfl)
theorem dX7_bar_12 : decode cX7_bar 12 = .ok (.ifCond .ne 6, 3) := dk_154 0 6 (dk_at dksX7_bar_0 12 rfl rfl)
theorem dX7_bar_15 : decode cX7_bar 15 = .ok (.bipush (-5), 2) := dk_16 251 (dk_at dksX7_bar_0 15 rfl rfl)
theorem dX7_bar_17 : decode cX7_bar 17 = .ok (.ireturn, 1) := dk_172 (dk_at dksX7_bar_0 17 rfl rfl)
theorem dX7_bar_18 : decode cX7_bar 18 = .ok (.aload_n 0, 1) := dk_42 (dk_at dksX7_bar_0 18 rfl rfl)
theorem dX7_bar_19 : decode cX7_bar 19 = .ok (.invokevirtual 278, 3) := dk_182 1 22 (dk_at dksX7_bar_0 19 rfl rfl)
theorem dX7_bar_22 : decode cX7_bar 22 = .ok (.aload_n 0, 1) := dk_42 (dk_at dksX7_bar_0 22 rfl rfl)
theorem dX7_bar_23 : decode cX7_bar 23 = .ok (.iload_n 1, 1) := dk_27 (dk_at dksX7_bar_0 23 rfl rfl)
theorem dX7_bar_24 : decode cX7_bar 24 = .ok (.iload_n 2, 1) := dk_28 (dk_at dksX7_bar_1 0 rfl rfl)
theorem dX7_bar_25 : decode cX7_bar 25 = .ok (.invokevirtual 281, 3) := dk_182 1 25 (dk_at dksX7_bar_1 1 rfl rfl)
theorem dX7_bar_28 : decode cX7_bar 28 = .ok (.aload_n 0, 1) := dk_42 (dk_at dksX7_bar_1 4 rfl rfl)
theorem dX7_bar_29 : decode cX7_bar 29 = .ok (.invokevirtual 285, 3) := dk_182 1 29 (dk_at dksX7_bar_1 5 rfl rfl)
theorem dX7_bar_32 : decode cX7_bar 32 = .ok (.ireturn, 1) := dk_172 (dk_at dksX7_bar_1 8 rfl rfl)
abbrev cX7_looks : ByteArray := prog_19_method_35_code
def yX7_looks : MethodName := ⟨RX7, "looks", "()V"⟩
def dkwX7_looks_3 : List UInt8 := [96, 51, 84, 132, 2, 1, 167, 255, 198, 132, 1, 1, 167, 255, 180, 177]
abbrev dktX7_looks_3 : List UInt8 := dkwX7_looks_3 ++ []
def dkwX7_looks_2 : List UInt8 := [167, 0, 4, 3, 84, 42, 180, 0, 127, 16, 6, 28, 104, 27, 96, 42, 180, 0, 127, 16, 6, 27, 104, 28]
abbrev dktX7_looks_2 : List UInt8 := dkwX7_looks_2 ++ dktX7_looks_3
def dkwX7_looks_1 : List UInt8 := [162, 0, 56, 42, 180, 0, 127, 16, 6, 27, 104, 28, 96, 42, 27, 28, 182, 0, 248, 153, 0, 7, 4]
abbrev dktX7_looks_1 : List UInt8 := dkwX7_looks_1 ++ dktX7_looks_2
def dkwX7_looks_0 : List UInt8 := [42, 182, 0, 162, 3, 60, 27, 42, 180, 0, 151, 162, 0, 74, 27, 4, 96, 61, 28, 42, 180, 0, 151]
abbrev dktX7_looks_0 : List UInt8 := dkwX7_looks_0 ++ dktX7_looks_1
theorem dksX7_looks_0 : cX7_looks.data.toList.drop 0 = dktX7_looks_0 := by decide +kernel
theorem dksX7_looks_1 : cX7_looks.data.toList.drop 23 = dktX7_looks_1 := dk_seg dksX7_looks_0 23 rfl rfl
theorem dksX7_looks_2 : cX7_looks.data.toList.drop 46 = dktX7_looks_2 := dk_seg dksX7_looks_1 23 rfl rfl
theorem dksX7_looks_3 : cX7_looks.data.toList.drop 70 = dktX7_looks_3 := dk_seg dksX7_looks_2 24 rfl rfl
theorem dX7_looks_0 : decode cX7_looks 0 = .ok (.aload_n 0, 1) := dk_42 (dk_at dksX7_looks_0 0 rfl rfl)
theorem dX7_looks_1 : decode cX7_looks 1 = .ok (.invokevirtual 162, 3) := dk_182 0 162 (dk_at dksX7_looks_0 1 rfl rfl)
theorem dX7_looks_4 : decode cX7_looks 4 = .ok (.iconst 0, 1) := dk_3 (dk_at dksX7_looks_0 4 rfl rfl)
theorem dX7_looks_5 : decode cX7_looks 5 = .ok (.istore_n 1, 1) := dk_60 (dk_at dksX7_looks_0 5 rfl rfl)
theorem dX7_looks_6 : decode cX7_looks 6 = .ok (.iload_n 1, 1) := dk_27 (dk_at dksX7_looks_0 6 rfl rfl)
theorem dX7_looks_7 : decode cX7_looks 7 = .ok (.aload_n 0, 1) := dk_42 (dk_at dksX7_looks_0 7 rfl rfl)
theorem dX7_looks_8 : decode cX7_looks 8 = .ok (.getfield 151, 3) := dk_180 0 151 (dk_at dksX7_looks_0 8 rfl rfl)
theorem dX7_looks_11 : decode cX7_looks 11 = .ok (.if_icmp .ge 74, 3) := dk_162 0 74 (dk_at dksX7_looks_0 11 rfl rfl)
theorem dX7_looks_14 : decode cX7_looks 14 = .ok (.iload_n 1, 1) := dk_27 (dk_at dksX7_looks_0 14 rfl rfl)
theorem dX7_looks_15 : decode cX7_looks 15 = .ok (.iconst 1, 1) := dk_4 (dk_at dksX7_looks_0 15 rfl rfl)
theorem dX7_looks_16 : decode cX7_looks 16 = .ok (.iadd, 1) := dk_96 (dk_at dksX7_looks_0 16 rfl rfl)
theorem dX7_looks_17 : decode cX7_looks 17 = .ok (.istore_n 2, 1) := dk_61 (dk_at dksX7_looks_0 17 rfl rfl)
theorem dX7_looks_18 : decode cX7_looks 18 = .ok (.iload_n 2, 1) := dk_28 (dk_at dksX7_looks_0 18 rfl rfl)
theorem dX7_looks_19 : decode cX7_looks 19 = .ok (.aload_n 0, 1) := dk_42 (dk_at dksX7_looks_0 19 rfl rfl)
theorem dX7_looks_20 : decode cX7_looks 20 = .ok (.getfield 151, 3) := dk_180 0 151 (dk_at dksX7_looks_0 20 rfl rfl)
theorem dX7_looks_23 : decode cX7_looks 23 = .ok (.if_icmp .ge 56, 3) := dk_162 0 56 (dk_at dksX7_looks_1 0 rfl rfl)
theorem dX7_looks_26 : decode cX7_looks 26 = .ok (.aload_n 0, 1) := dk_42 (dk_at dksX7_looks_1 3 rfl rfl)
theorem dX7_looks_27 : decode cX7_looks 27 = .ok (.getfield 127, 3) := dk_180 0 127 (dk_at dksX7_looks_1 4 rfl rfl)
theorem dX7_looks_30 : decode cX7_looks 30 = .ok (.bipush 6, 2) := dk_16 6 (dk_at dksX7_looks_1 7 rfl rfl)
theorem dX7_looks_32 : decode cX7_looks 32 = .ok (.iload_n 1, 1) := dk_27 (dk_at dksX7_looks_1 9 rfl rfl)
theorem dX7_looks_33 : decode cX7_looks 33 = .ok (.imul, 1) := dk_104 (dk_at dksX7_looks_1 10 rfl rfl)
theorem dX7_looks_34 : decode cX7_looks 34 = .ok (.iload_n 2, 1) := dk_28 (dk_at dksX7_looks_1 11 rfl rfl)
theorem dX7_looks_35 : decode cX7_looks 35 = .ok (.iadd, 1) := dk_96 (dk_at dksX7_looks_1 12 rfl rfl)
theorem dX7_looks_36 : decode cX7_looks 36 = .ok (.aload_n 0, 1) := dk_42 (dk_at dksX7_looks_1 13 rfl rfl)
theorem dX7_looks_37 : decode cX7_looks 37 = .ok (.iload_n 1, 1) := dk_27 (dk_at dksX7_looks_1 14 rfl rfl)
theorem dX7_looks_38 : decode cX7_looks 38 = .ok (.iload_n 2, 1) := dk_28 (dk_at dksX7_looks_1 15 rfl rfl)
theorem dX7_looks_39 : decode cX7_looks 39 = .ok (.invokevirtual 248, 3) := dk_182 0 248 (dk_at dksX7_looks_1 16 rfl rfl)
theorem dX7_looks_42 : decode cX7_looks 42 = .ok (.ifCond .eq 7, 3) := dk_153 0 7 (dk_at dksX7_looks_1 19 rfl rfl)
theorem dX7_looks_45 : decode cX7_looks 45 = .ok (.iconst 1, 1) := dk_4 (dk_at dksX7_looks_1 22 rfl rfl)
theorem dX7_looks_46 : decode cX7_looks 46 = .ok (.goto 4, 3) := dk_167 0 4 (dk_at dksX7_looks_2 0 rfl rfl)
theorem dX7_looks_49 : decode cX7_looks 49 = .ok (.iconst 0, 1) := dk_3 (dk_at dksX7_looks_2 3 rfl rfl)
theorem dX7_looks_50 : decode cX7_looks 50 = .ok (.bastore, 1) := dk_84 (dk_at dksX7_looks_2 4 rfl rfl)
theorem dX7_looks_51 : decode cX7_looks 51 = .ok (.aload_n 0, 1) := dk_42 (dk_at dksX7_looks_2 5 rfl rfl)
theorem dX7_looks_52 : decode cX7_looks 52 = .ok (.getfield 127, 3) := dk_180 0 127 (dk_at dksX7_looks_2 6 rfl rfl)
theorem dX7_looks_55 : decode cX7_looks 55 = .ok (.bipush 6, 2) := dk_16 6 (dk_at dksX7_looks_2 9 rfl rfl)
theorem dX7_looks_57 : decode cX7_looks 57 = .ok (.iload_n 2, 1) := dk_28 (dk_at dksX7_looks_2 11 rfl rfl)
theorem dX7_looks_58 : decode cX7_looks 58 = .ok (.imul, 1) := dk_104 (dk_at dksX7_looks_2 12 rfl rfl)
theorem dX7_looks_59 : decode cX7_looks 59 = .ok (.iload_n 1, 1) := dk_27 (dk_at dksX7_looks_2 13 rfl rfl)
theorem dX7_looks_60 : decode cX7_looks 60 = .ok (.iadd, 1) := dk_96 (dk_at dksX7_looks_2 14 rfl rfl)
theorem dX7_looks_61 : decode cX7_looks 61 = .ok (.aload_n 0, 1) := dk_42 (dk_at dksX7_looks_2 15 rfl rfl)
theorem dX7_looks_62 : decode cX7_looks 62 = .ok (.getfield 127, 3) := dk_180 0 127 (dk_at dksX7_looks_2 16 rfl rfl)
theorem dX7_looks_65 : decode cX7_looks 65 = .ok (.bipush 6, 2) := dk_16 6 (dk_at dksX7_looks_2 19 rfl rfl)
theorem dX7_looks_67 : decode cX7_looks 67 = .ok (.iload_n 1, 1) := dk_27 (dk_at dksX7_looks_2 21 rfl rfl)
theorem dX7_looks_68 : decode cX7_looks 68 = .ok (.imul, 1) := dk_104 (dk_at dksX7_looks_2 22 rfl rfl)
theorem dX7_looks_69 : decode cX7_looks 69 = .ok (.iload_n 2, 1) := dk_28 (dk_at dksX7_looks_2 23 rfl rfl)
theorem dX7_looks_70 : decode cX7_looks 70 = .ok (.iadd, 1) := dk_96 (dk_at dksX7_looks_3 0 rfl rfl)
theorem dX7_looks_71 : decode cX7_looks 71 = .ok (.baload, 1) := dk_51 (dk_at dksX7_looks_3 1 rfl rfl)
theorem dX7_looks_72 : decode cX7_looks 72 = .ok (.bastore, 1) := dk_84 (dk_at dksX7_looks_3 2 rfl rfl)
theorem dX7_looks_73 : decode cX7_looks 73 = .ok (.iinc 2 1, 3) := dk_132 2 1 (dk_at dksX7_looks_3 3 rfl rfl)
theorem dX7_looks_76 : decode cX7_looks 76 = .ok (.goto (-58), 3) := dk_167 255 198 (dk_at dksX7_looks_3 6 rfl rfl)
theorem dX7_looks_79 : decode cX7_looks 79 = .ok (.iinc 1 1, 3) := dk_132 1 1 (dk_at dksX7_looks_3 9 rfl rfl)
theorem dX7_looks_82 : decode cX7_looks 82 = .ok (.goto (-76), 3) := dk_167 255 180 (dk_at dksX7_looks_3 12 rfl rfl)
theorem dX7_looks_85 : decode cX7_looks 85 = .ok (.return_, 1) := dk_177 (dk_at dksX7_looks_3 15 rfl rfl)
abbrev cX7_laysNow : ByteArray := prog_19_method_42_code
def yX7_laysNow : MethodName := ⟨RX7, "laysNow", "(II)V"⟩
def dkwX7_laysNow_1 : List UInt8 := [132, 3, 1, 167, 255, 232, 177]
abbrev dktX7_laysNow_1 : List UInt8 := dkwX7_laysNow_1 ++ []
def dkwX7_laysNow_0 : List UInt8 := [3, 62, 29, 42, 180, 0, 151, 162, 0, 22, 42, 180, 0, 131, 29, 42, 27, 29, 28, 182, 1, 13, 79]
abbrev dktX7_laysNow_0 : List UInt8 := dkwX7_laysNow_0 ++ dktX7_laysNow_1
theorem dksX7_laysNow_0 : cX7_laysNow.data.toList.drop 0 = dktX7_laysNow_0 := by decide +kernel
theorem dksX7_laysNow_1 : cX7_laysNow.data.toList.drop 23 = dktX7_laysNow_1 := dk_seg dksX7_laysNow_0 23 rfl rfl
theorem dX7_laysNow_0 : decode cX7_laysNow 0 = .ok (.iconst 0, 1) := dk_3 (dk_at dksX7_laysNow_0 0 rfl rfl)
theorem dX7_laysNow_1 : decode cX7_laysNow 1 = .ok (.istore_n 3, 1) := dk_62 (dk_at dksX7_laysNow_0 1 rfl rfl)
theorem dX7_laysNow_2 : decode cX7_laysNow 2 = .ok (.iload_n 3, 1) := dk_29 (dk_at dksX7_laysNow_0 2 rfl rfl)
theorem dX7_laysNow_3 : decode cX7_laysNow 3 = .ok (.aload_n 0, 1) := dk_42 (dk_at dksX7_laysNow_0 3 rfl rfl)
theorem dX7_laysNow_4 : decode cX7_laysNow 4 = .ok (.getfield 151, 3) := dk_180 0 151 (dk_at dksX7_laysNow_0 4 rfl rfl)
theorem dX7_laysNow_7 : decode cX7_laysNow 7 = .ok (.if_icmp .ge 22, 3) := dk_162 0 22 (dk_at dksX7_laysNow_0 7 rfl rfl)
theorem dX7_laysNow_10 : decode cX7_laysNow 10 = .ok (.aload_n 0, 1) := dk_42 (dk_at dksX7_laysNow_0 10 rfl rfl)
theorem dX7_laysNow_11 : decode cX7_laysNow 11 = .ok (.getfield 131, 3) := dk_180 0 131 (dk_at dksX7_laysNow_0 11 rfl rfl)
theorem dX7_laysNow_14 : decode cX7_laysNow 14 = .ok (.iload_n 3, 1) := dk_29 (dk_at dksX7_laysNow_0 14 rfl rfl)
theorem dX7_laysNow_15 : decode cX7_laysNow 15 = .ok (.aload_n 0, 1) := dk_42 (dk_at dksX7_laysNow_0 15 rfl rfl)
theorem dX7_laysNow_16 : decode cX7_laysNow 16 = .ok (.iload_n 1, 1) := dk_27 (dk_at dksX7_laysNow_0 16 rfl rfl)
theorem dX7_laysNow_17 : decode cX7_laysNow 17 = .ok (.iload_n 3, 1) := dk_29 (dk_at dksX7_laysNow_0 17 rfl rfl)
theorem dX7_laysNow_18 : decode cX7_laysNow 18 = .ok (.iload_n 2, 1) := dk_28 (dk_at dksX7_laysNow_0 18 rfl rfl)
theorem dX7_laysNow_19 : decode cX7_laysNow 19 = .ok (.invokevirtual 269, 3) := dk_182 1 13 (dk_at dksX7_laysNow_0 19 rfl rfl)
theorem dX7_laysNow_22 : decode cX7_laysNow 22 = .ok (.iastore, 1) := dk_79 (dk_at dksX7_laysNow_0 22 rfl rfl)
theorem dX7_laysNow_23 : decode cX7_laysNow 23 = .ok (.iinc 3 1, 3) := dk_132 3 1 (dk_at dksX7_laysNow_1 0 rfl rfl)
theorem dX7_laysNow_26 : decode cX7_laysNow 26 = .ok (.goto (-24), 3) := dk_167 255 232 (dk_at dksX7_laysNow_1 3 rfl rfl)
theorem dX7_laysNow_29 : decode cX7_laysNow 29 = .ok (.return_, 1) := dk_177 (dk_at dksX7_laysNow_1 6 rfl rfl)
abbrev cX7_firstBar : ByteArray := prog_19_method_45_code
def yX7_firstBar : MethodName := ⟨RX7, "firstBar", "()I"⟩
def dkwX7_firstBar_2 : List UInt8 := [167, 255, 213, 2, 172]
abbrev dktX7_firstBar_2 : List UInt8 := dkwX7_firstBar_2 ++ []
def dkwX7_firstBar_1 : List UInt8 := [182, 1, 19, 153, 0, 10, 16, 10, 27, 104, 28, 96, 172, 132, 2, 1, 167, 255, 229, 132, 1, 1]
abbrev dktX7_firstBar_1 : List UInt8 := dkwX7_firstBar_1 ++ dktX7_firstBar_2
def dkwX7_firstBar_0 : List UInt8 := [3, 60, 27, 42, 180, 0, 151, 162, 0, 41, 27, 61, 28, 42, 180, 0, 151, 162, 0, 25, 42, 27, 28]
abbrev dktX7_firstBar_0 : List UInt8 := dkwX7_firstBar_0 ++ dktX7_firstBar_1
theorem dksX7_firstBar_0 : cX7_firstBar.data.toList.drop 0 = dktX7_firstBar_0 := by decide +kernel
theorem dksX7_firstBar_1 : cX7_firstBar.data.toList.drop 23 = dktX7_firstBar_1 := dk_seg dksX7_firstBar_0 23 rfl rfl
theorem dksX7_firstBar_2 : cX7_firstBar.data.toList.drop 45 = dktX7_firstBar_2 := dk_seg dksX7_firstBar_1 22 rfl rfl
theorem dX7_firstBar_0 : decode cX7_firstBar 0 = .ok (.iconst 0, 1) := dk_3 (dk_at dksX7_firstBar_0 0 rfl rfl)
theorem dX7_firstBar_1 : decode cX7_firstBar 1 = .ok (.istore_n 1, 1) := dk_60 (dk_at dksX7_firstBar_0 1 rfl rfl)
theorem dX7_firstBar_2 : decode cX7_firstBar 2 = .ok (.iload_n 1, 1) := dk_27 (dk_at dksX7_firstBar_0 2 rfl rfl)
theorem dX7_firstBar_3 : decode cX7_firstBar 3 = .ok (.aload_n 0, 1) := dk_42 (dk_at dksX7_firstBar_0 3 rfl rfl)
theorem dX7_firstBar_4 : decode cX7_firstBar 4 = .ok (.getfield 151, 3) := dk_180 0 151 (dk_at dksX7_firstBar_0 4 rfl rfl)
theorem dX7_firstBar_7 : decode cX7_firstBar 7 = .ok (.if_icmp .ge 41, 3) := dk_162 0 41 (dk_at dksX7_firstBar_0 7 rfl rfl)
theorem dX7_firstBar_10 : decode cX7_firstBar 10 = .ok (.iload_n 1, 1) := dk_27 (dk_at dksX7_firstBar_0 10 rfl rfl)
theorem dX7_firstBar_11 : decode cX7_firstBar 11 = .ok (.istore_n 2, 1) := dk_61 (dk_at dksX7_firstBar_0 11 rfl rfl)
theorem dX7_firstBar_12 : decode cX7_firstBar 12 = .ok (.iload_n 2, 1) := dk_28 (dk_at dksX7_firstBar_0 12 rfl rfl)
theorem dX7_firstBar_13 : decode cX7_firstBar 13 = .ok (.aload_n 0, 1) := dk_42 (dk_at dksX7_firstBar_0 13 rfl rfl)
theorem dX7_firstBar_14 : decode cX7_firstBar 14 = .ok (.getfield 151, 3) := dk_180 0 151 (dk_at dksX7_firstBar_0 14 rfl rfl)
theorem dX7_firstBar_17 : decode cX7_firstBar 17 = .ok (.if_icmp .ge 25, 3) := dk_162 0 25 (dk_at dksX7_firstBar_0 17 rfl rfl)
theorem dX7_firstBar_20 : decode cX7_firstBar 20 = .ok (.aload_n 0, 1) := dk_42 (dk_at dksX7_firstBar_0 20 rfl rfl)
theorem dX7_firstBar_21 : decode cX7_firstBar 21 = .ok (.iload_n 1, 1) := dk_27 (dk_at dksX7_firstBar_0 21 rfl rfl)
theorem dX7_firstBar_22 : decode cX7_firstBar 22 = .ok (.iload_n 2, 1) := dk_28 (dk_at dksX7_firstBar_0 22 rfl rfl)
theorem dX7_firstBar_23 : decode cX7_firstBar 23 = .ok (.invokevirtual 275, 3) := dk_182 1 19 (dk_at dksX7_firstBar_1 0 rfl rfl)
theorem dX7_firstBar_26 : decode cX7_firstBar 26 = .ok (.ifCond .eq 10, 3) := dk_153 0 10 (dk_at dksX7_firstBar_1 3 rfl rfl)
theorem dX7_firstBar_29 : decode cX7_firstBar 29 = .ok (.bipush 10, 2) := dk_16 10 (dk_at dksX7_firstBar_1 6 rfl rfl)
theorem dX7_firstBar_31 : decode cX7_firstBar 31 = .ok (.iload_n 1, 1) := dk_27 (dk_at dksX7_firstBar_1 8 rfl rfl)
theorem dX7_firstBar_32 : decode cX7_firstBar 32 = .ok (.imul, 1) := dk_104 (dk_at dksX7_firstBar_1 9 rfl rfl)
theorem dX7_firstBar_33 : decode cX7_firstBar 33 = .ok (.iload_n 2, 1) := dk_28 (dk_at dksX7_firstBar_1 10 rfl rfl)
theorem dX7_firstBar_34 : decode cX7_firstBar 34 = .ok (.iadd, 1) := dk_96 (dk_at dksX7_firstBar_1 11 rfl rfl)
theorem dX7_firstBar_35 : decode cX7_firstBar 35 = .ok (.ireturn, 1) := dk_172 (dk_at dksX7_firstBar_1 12 rfl rfl)
theorem dX7_firstBar_36 : decode cX7_firstBar 36 = .ok (.iinc 2 1, 3) := dk_132 2 1 (dk_at dksX7_firstBar_1 13 rfl rfl)
theorem dX7_firstBar_39 : decode cX7_firstBar 39 = .ok (.goto (-27), 3) := dk_167 255 229 (dk_at dksX7_firstBar_1 16 rfl rfl)
theorem dX7_firstBar_42 : decode cX7_firstBar 42 = .ok (.iinc 1 1, 3) := dk_132 1 1 (dk_at dksX7_firstBar_1 19 rfl rfl)
theorem dX7_firstBar_45 : decode cX7_firstBar 45 = .ok (.goto (-43), 3) := dk_167 255 213 (dk_at dksX7_firstBar_2 0 rfl rfl)
theorem dX7_firstBar_48 : decode cX7_firstBar 48 = .ok (.iconst (-1), 1) := dk_2 (dk_at dksX7_firstBar_2 3 rfl rfl)
theorem dX7_firstBar_49 : decode cX7_firstBar 49 = .ok (.ireturn, 1) := dk_172 (dk_at dksX7_firstBar_2 4 rfl rfl)
abbrev cX7_doBar : ByteArray := prog_19_method_44_code
def yX7_doBar : MethodName := ⟨RX7, "doBar", "(II)Z"⟩
def dkwX7_doBar_5 : List UInt8 := [42, 28, 27, 182, 1, 16, 154, 0, 7, 4, 167, 0, 4, 3, 172]
abbrev dktX7_doBar_5 : List UInt8 := dkwX7_doBar_5 ++ []
def dkwX7_doBar_4 : List UInt8 := [46, 28, 160, 0, 12, 42, 27, 28, 182, 1, 16, 153, 0, 22, 42, 180, 0, 19, 28, 46, 27, 160, 0, 16]
abbrev dktX7_doBar_4 : List UInt8 := dkwX7_doBar_4 ++ dktX7_doBar_5
def dkwX7_doBar_3 : List UInt8 := [42, 180, 0, 131, 28, 46, 153, 0, 7, 4, 167, 0, 4, 3, 62, 29, 153, 0, 45, 42, 180, 0, 19, 27]
abbrev dktX7_doBar_3 : List UInt8 := dkwX7_doBar_3 ++ dktX7_doBar_4
def dkwX7_doBar_2 : List UInt8 := [180, 0, 127, 16, 6, 27, 104, 28, 96, 51, 153, 0, 5, 4, 172, 42, 180, 0, 131, 27, 46, 153, 0, 16]
abbrev dktX7_doBar_2 : List UInt8 := dkwX7_doBar_2 ++ dktX7_doBar_3
def dkwX7_doBar_1 : List UInt8 := [167, 0, 4, 3, 172, 42, 180, 0, 131, 27, 46, 42, 180, 0, 131, 28, 46, 126, 153, 0, 19, 42]
abbrev dktX7_doBar_1 : List UInt8 := dkwX7_doBar_1 ++ dktX7_doBar_2
def dkwX7_doBar_0 : List UInt8 := [27, 28, 160, 0, 27, 42, 180, 0, 131, 27, 46, 42, 180, 0, 13, 27, 46, 2, 130, 126, 153, 0, 7, 4]
abbrev dktX7_doBar_0 : List UInt8 := dkwX7_doBar_0 ++ dktX7_doBar_1
theorem dksX7_doBar_0 : cX7_doBar.data.toList.drop 0 = dktX7_doBar_0 := by decide +kernel
theorem dksX7_doBar_1 : cX7_doBar.data.toList.drop 24 = dktX7_doBar_1 := dk_seg dksX7_doBar_0 24 rfl rfl
theorem dksX7_doBar_2 : cX7_doBar.data.toList.drop 46 = dktX7_doBar_2 := dk_seg dksX7_doBar_1 22 rfl rfl
theorem dksX7_doBar_3 : cX7_doBar.data.toList.drop 70 = dktX7_doBar_3 := dk_seg dksX7_doBar_2 24 rfl rfl
theorem dksX7_doBar_4 : cX7_doBar.data.toList.drop 94 = dktX7_doBar_4 := dk_seg dksX7_doBar_3 24 rfl rfl
theorem dksX7_doBar_5 : cX7_doBar.data.toList.drop 118 = dktX7_doBar_5 := dk_seg dksX7_doBar_4 24 rfl rfl
theorem dX7_doBar_0 : decode cX7_doBar 0 = .ok (.iload_n 1, 1) := dk_27 (dk_at dksX7_doBar_0 0 rfl rfl)
theorem dX7_doBar_1 : decode cX7_doBar 1 = .ok (.iload_n 2, 1) := dk_28 (dk_at dksX7_doBar_0 1 rfl rfl)
theorem dX7_doBar_2 : decode cX7_doBar 2 = .ok (.if_icmp .ne 27, 3) := dk_160 0 27 (dk_at dksX7_doBar_0 2 rfl rfl)
theorem dX7_doBar_5 : decode cX7_doBar 5 = .ok (.aload_n 0, 1) := dk_42 (dk_at dksX7_doBar_0 5 rfl rfl)
theorem dX7_doBar_6 : decode cX7_doBar 6 = .ok (.getfield 131, 3) := dk_180 0 131 (dk_at dksX7_doBar_0 6 rfl rfl)
theorem dX7_doBar_9 : decode cX7_doBar 9 = .ok (.iload_n 1, 1) := dk_27 (dk_at dksX7_doBar_0 9 rfl rfl)
theorem dX7_doBar_10 : decode cX7_doBar 10 = .ok (.iaload, 1) := dk_46 (dk_at dksX7_doBar_0 10 rfl rfl)
theorem dX7_doBar_11 : decode cX7_doBar 11 = .ok (.aload_n 0, 1) := dk_42 (dk_at dksX7_doBar_0 11 rfl rfl)
theorem dX7_doBar_12 : decode cX7_doBar 12 = .ok (.getfield 13, 3) := dk_180 0 13 (dk_at dksX7_doBar_0 12 rfl rfl)
theorem dX7_doBar_15 : decode cX7_doBar 15 = .ok (.iload_n 1, 1) := dk_27 (dk_at dksX7_doBar_0 15 rfl rfl)
theorem dX7_doBar_16 : decode cX7_doBar 16 = .ok (.iaload, 1) := dk_46 (dk_at dksX7_doBar_0 16 rfl rfl)
theorem dX7_doBar_17 : decode cX7_doBar 17 = .ok (.iconst (-1), 1) := dk_2 (dk_at dksX7_doBar_0 17 rfl rfl)
theorem dX7_doBar_18 : decode cX7_doBar 18 = .ok (.ixor, 1) := dk_130 (dk_at dksX7_doBar_0 18 rfl rfl)
theorem dX7_doBar_19 : decode cX7_doBar 19 = .ok (.iand, 1) := dk_126 (dk_at dksX7_doBar_0 19 rfl rfl)
theorem dX7_doBar_20 : decode cX7_doBar 20 = .ok (.ifCond .eq 7, 3) := dk_153 0 7 (dk_at dksX7_doBar_0 20 rfl rfl)
theorem dX7_doBar_23 : decode cX7_doBar 23 = .ok (.iconst 1, 1) := dk_4 (dk_at dksX7_doBar_0 23 rfl rfl)
theorem dX7_doBar_24 : decode cX7_doBar 24 = .ok (.goto 4, 3) := dk_167 0 4 (dk_at dksX7_doBar_1 0 rfl rfl)
theorem dX7_doBar_27 : decode cX7_doBar 27 = .ok (.iconst 0, 1) := dk_3 (dk_at dksX7_doBar_1 3 rfl rfl)
theorem dX7_doBar_28 : decode cX7_doBar 28 = .ok (.ireturn, 1) := dk_172 (dk_at dksX7_doBar_1 4 rfl rfl)
theorem dX7_doBar_29 : decode cX7_doBar 29 = .ok (.aload_n 0, 1) := dk_42 (dk_at dksX7_doBar_1 5 rfl rfl)
theorem dX7_doBar_30 : decode cX7_doBar 30 = .ok (.getfield 131, 3) := dk_180 0 131 (dk_at dksX7_doBar_1 6 rfl rfl)
theorem dX7_doBar_33 : decode cX7_doBar 33 = .ok (.iload_n 1, 1) := dk_27 (dk_at dksX7_doBar_1 9 rfl rfl)
theorem dX7_doBar_34 : decode cX7_doBar 34 = .ok (.iaload, 1) := dk_46 (dk_at dksX7_doBar_1 10 rfl rfl)
theorem dX7_doBar_35 : decode cX7_doBar 35 = .ok (.aload_n 0, 1) := dk_42 (dk_at dksX7_doBar_1 11 rfl rfl)
theorem dX7_doBar_36 : decode cX7_doBar 36 = .ok (.getfield 131, 3) := dk_180 0 131 (dk_at dksX7_doBar_1 12 rfl rfl)
theorem dX7_doBar_39 : decode cX7_doBar 39 = .ok (.iload_n 2, 1) := dk_28 (dk_at dksX7_doBar_1 15 rfl rfl)
theorem dX7_doBar_40 : decode cX7_doBar 40 = .ok (.iaload, 1) := dk_46 (dk_at dksX7_doBar_1 16 rfl rfl)
theorem dX7_doBar_41 : decode cX7_doBar 41 = .ok (.iand, 1) := dk_126 (dk_at dksX7_doBar_1 17 rfl rfl)
theorem dX7_doBar_42 : decode cX7_doBar 42 = .ok (.ifCond .eq 19, 3) := dk_153 0 19 (dk_at dksX7_doBar_1 18 rfl rfl)
theorem dX7_doBar_45 : decode cX7_doBar 45 = .ok (.aload_n 0, 1) := dk_42 (dk_at dksX7_doBar_1 21 rfl rfl)
theorem dX7_doBar_46 : decode cX7_doBar 46 = .ok (.getfield 127, 3) := dk_180 0 127 (dk_at dksX7_doBar_2 0 rfl rfl)
theorem dX7_doBar_49 : decode cX7_doBar 49 = .ok (.bipush 6, 2) := dk_16 6 (dk_at dksX7_doBar_2 3 rfl rfl)
theorem dX7_doBar_51 : decode cX7_doBar 51 = .ok (.iload_n 1, 1) := dk_27 (dk_at dksX7_doBar_2 5 rfl rfl)
theorem dX7_doBar_52 : decode cX7_doBar 52 = .ok (.imul, 1) := dk_104 (dk_at dksX7_doBar_2 6 rfl rfl)
theorem dX7_doBar_53 : decode cX7_doBar 53 = .ok (.iload_n 2, 1) := dk_28 (dk_at dksX7_doBar_2 7 rfl rfl)
theorem dX7_doBar_54 : decode cX7_doBar 54 = .ok (.iadd, 1) := dk_96 (dk_at dksX7_doBar_2 8 rfl rfl)
theorem dX7_doBar_55 : decode cX7_doBar 55 = .ok (.baload, 1) := dk_51 (dk_at dksX7_doBar_2 9 rfl rfl)
theorem dX7_doBar_56 : decode cX7_doBar 56 = .ok (.ifCond .eq 5, 3) := dk_153 0 5 (dk_at dksX7_doBar_2 10 rfl rfl)
theorem dX7_doBar_59 : decode cX7_doBar 59 = .ok (.iconst 1, 1) := dk_4 (dk_at dksX7_doBar_2 13 rfl rfl)
theorem dX7_doBar_60 : decode cX7_doBar 60 = .ok (.ireturn, 1) := dk_172 (dk_at dksX7_doBar_2 14 rfl rfl)
theorem dX7_doBar_61 : decode cX7_doBar 61 = .ok (.aload_n 0, 1) := dk_42 (dk_at dksX7_doBar_2 15 rfl rfl)
theorem dX7_doBar_62 : decode cX7_doBar 62 = .ok (.getfield 131, 3) := dk_180 0 131 (dk_at dksX7_doBar_2 16 rfl rfl)
theorem dX7_doBar_65 : decode cX7_doBar 65 = .ok (.iload_n 1, 1) := dk_27 (dk_at dksX7_doBar_2 19 rfl rfl)
theorem dX7_doBar_66 : decode cX7_doBar 66 = .ok (.iaload, 1) := dk_46 (dk_at dksX7_doBar_2 20 rfl rfl)
theorem dX7_doBar_67 : decode cX7_doBar 67 = .ok (.ifCond .eq 16, 3) := dk_153 0 16 (dk_at dksX7_doBar_2 21 rfl rfl)
theorem dX7_doBar_70 : decode cX7_doBar 70 = .ok (.aload_n 0, 1) := dk_42 (dk_at dksX7_doBar_3 0 rfl rfl)
theorem dX7_doBar_71 : decode cX7_doBar 71 = .ok (.getfield 131, 3) := dk_180 0 131 (dk_at dksX7_doBar_3 1 rfl rfl)
theorem dX7_doBar_74 : decode cX7_doBar 74 = .ok (.iload_n 2, 1) := dk_28 (dk_at dksX7_doBar_3 4 rfl rfl)
theorem dX7_doBar_75 : decode cX7_doBar 75 = .ok (.iaload, 1) := dk_46 (dk_at dksX7_doBar_3 5 rfl rfl)
theorem dX7_doBar_76 : decode cX7_doBar 76 = .ok (.ifCond .eq 7, 3) := dk_153 0 7 (dk_at dksX7_doBar_3 6 rfl rfl)
theorem dX7_doBar_79 : decode cX7_doBar 79 = .ok (.iconst 1, 1) := dk_4 (dk_at dksX7_doBar_3 9 rfl rfl)
theorem dX7_doBar_80 : decode cX7_doBar 80 = .ok (.goto 4, 3) := dk_167 0 4 (dk_at dksX7_doBar_3 10 rfl rfl)
theorem dX7_doBar_83 : decode cX7_doBar 83 = .ok (.iconst 0, 1) := dk_3 (dk_at dksX7_doBar_3 13 rfl rfl)
theorem dX7_doBar_84 : decode cX7_doBar 84 = .ok (.istore_n 3, 1) := dk_62 (dk_at dksX7_doBar_3 14 rfl rfl)
theorem dX7_doBar_85 : decode cX7_doBar 85 = .ok (.iload_n 3, 1) := dk_29 (dk_at dksX7_doBar_3 15 rfl rfl)
theorem dX7_doBar_86 : decode cX7_doBar 86 = .ok (.ifCond .eq 45, 3) := dk_153 0 45 (dk_at dksX7_doBar_3 16 rfl rfl)
theorem dX7_doBar_89 : decode cX7_doBar 89 = .ok (.aload_n 0, 1) := dk_42 (dk_at dksX7_doBar_3 19 rfl rfl)
theorem dX7_doBar_90 : decode cX7_doBar 90 = .ok (.getfield 19, 3) := dk_180 0 19 (dk_at dksX7_doBar_3 20 rfl rfl)
theorem dX7_doBar_93 : decode cX7_doBar 93 = .ok (.iload_n 1, 1) := dk_27 (dk_at dksX7_doBar_3 23 rfl rfl)
theorem dX7_doBar_94 : decode cX7_doBar 94 = .ok (.iaload, 1) := dk_46 (dk_at dksX7_doBar_4 0 rfl rfl)
theorem dX7_doBar_95 : decode cX7_doBar 95 = .ok (.iload_n 2, 1) := dk_28 (dk_at dksX7_doBar_4 1 rfl rfl)
theorem dX7_doBar_96 : decode cX7_doBar 96 = .ok (.if_icmp .ne 12, 3) := dk_160 0 12 (dk_at dksX7_doBar_4 2 rfl rfl)
theorem dX7_doBar_99 : decode cX7_doBar 99 = .ok (.aload_n 0, 1) := dk_42 (dk_at dksX7_doBar_4 5 rfl rfl)
theorem dX7_doBar_100 : decode cX7_doBar 100 = .ok (.iload_n 1, 1) := dk_27 (dk_at dksX7_doBar_4 6 rfl rfl)
theorem dX7_doBar_101 : decode cX7_doBar 101 = .ok (.iload_n 2, 1) := dk_28 (dk_at dksX7_doBar_4 7 rfl rfl)
theorem dX7_doBar_102 : decode cX7_doBar 102 = .ok (.invokevirtual 272, 3) := dk_182 1 16 (dk_at dksX7_doBar_4 8 rfl rfl)
theorem dX7_doBar_105 : decode cX7_doBar 105 = .ok (.ifCond .eq 22, 3) := dk_153 0 22 (dk_at dksX7_doBar_4 11 rfl rfl)
theorem dX7_doBar_108 : decode cX7_doBar 108 = .ok (.aload_n 0, 1) := dk_42 (dk_at dksX7_doBar_4 14 rfl rfl)
theorem dX7_doBar_109 : decode cX7_doBar 109 = .ok (.getfield 19, 3) := dk_180 0 19 (dk_at dksX7_doBar_4 15 rfl rfl)
theorem dX7_doBar_112 : decode cX7_doBar 112 = .ok (.iload_n 2, 1) := dk_28 (dk_at dksX7_doBar_4 18 rfl rfl)
theorem dX7_doBar_113 : decode cX7_doBar 113 = .ok (.iaload, 1) := dk_46 (dk_at dksX7_doBar_4 19 rfl rfl)
theorem dX7_doBar_114 : decode cX7_doBar 114 = .ok (.iload_n 1, 1) := dk_27 (dk_at dksX7_doBar_4 20 rfl rfl)
theorem dX7_doBar_115 : decode cX7_doBar 115 = .ok (.if_icmp .ne 16, 3) := dk_160 0 16 (dk_at dksX7_doBar_4 21 rfl rfl)
theorem dX7_doBar_118 : decode cX7_doBar 118 = .ok (.aload_n 0, 1) := dk_42 (dk_at dksX7_doBar_5 0 rfl rfl)
theorem dX7_doBar_119 : decode cX7_doBar 119 = .ok (.iload_n 2, 1) := dk_28 (dk_at dksX7_doBar_5 1 rfl rfl)
theorem dX7_doBar_120 : decode cX7_doBar 120 = .ok (.iload_n 1, 1) := dk_27 (dk_at dksX7_doBar_5 2 rfl rfl)
theorem dX7_doBar_121 : decode cX7_doBar 121 = .ok (.invokevirtual 272, 3) := dk_182 1 16 (dk_at dksX7_doBar_5 3 rfl rfl)
theorem dX7_doBar_124 : decode cX7_doBar 124 = .ok (.ifCond .ne 7, 3) := dk_154 0 7 (dk_at dksX7_doBar_5 6 rfl rfl)
theorem dX7_doBar_127 : decode cX7_doBar 127 = .ok (.iconst 1, 1) := dk_4 (dk_at dksX7_doBar_5 9 rfl rfl)
theorem dX7_doBar_128 : decode cX7_doBar 128 = .ok (.goto 4, 3) := dk_167 0 4 (dk_at dksX7_doBar_5 10 rfl rfl)
theorem dX7_doBar_131 : decode cX7_doBar 131 = .ok (.iconst 0, 1) := dk_3 (dk_at dksX7_doBar_5 13 rfl rfl)
theorem dX7_doBar_132 : decode cX7_doBar 132 = .ok (.ireturn, 1) := dk_172 (dk_at dksX7_doBar_5 14 rfl rfl)
abbrev cX7_follows : ByteArray := prog_19_method_43_code
def yX7_follows : MethodName := ⟨RX7, "follows", "(II)Z"⟩
def dkwX7_follows_2 : List UInt8 := [160, 0, 5, 4, 172, 132, 3, 1, 167, 255, 203, 3, 172]
abbrev dktX7_follows_2 : List UInt8 := dkwX7_follows_2 ++ []
def dkwX7_follows_1 : List UInt8 := [42, 180, 0, 131, 28, 46, 29, 42, 180, 0, 25, 96, 4, 100, 42, 180, 0, 25, 112, 122, 4, 126, 4]
abbrev dktX7_follows_1 : List UInt8 := dkwX7_follows_1 ++ dktX7_follows_2
def dkwX7_follows_0 : List UInt8 := [3, 62, 29, 42, 180, 0, 25, 162, 0, 51, 42, 180, 0, 131, 27, 46, 29, 122, 4, 126, 4, 160, 0, 31]
abbrev dktX7_follows_0 : List UInt8 := dkwX7_follows_0 ++ dktX7_follows_1
theorem dksX7_follows_0 : cX7_follows.data.toList.drop 0 = dktX7_follows_0 := by decide +kernel
theorem dksX7_follows_1 : cX7_follows.data.toList.drop 24 = dktX7_follows_1 := dk_seg dksX7_follows_0 24 rfl rfl
theorem dksX7_follows_2 : cX7_follows.data.toList.drop 47 = dktX7_follows_2 := dk_seg dksX7_follows_1 23 rfl rfl
theorem dX7_follows_0 : decode cX7_follows 0 = .ok (.iconst 0, 1) := dk_3 (dk_at dksX7_follows_0 0 rfl rfl)
theorem dX7_follows_1 : decode cX7_follows 1 = .ok (.istore_n 3, 1) := dk_62 (dk_at dksX7_follows_0 1 rfl rfl)
theorem dX7_follows_2 : decode cX7_follows 2 = .ok (.iload_n 3, 1) := dk_29 (dk_at dksX7_follows_0 2 rfl rfl)
theorem dX7_follows_3 : decode cX7_follows 3 = .ok (.aload_n 0, 1) := dk_42 (dk_at dksX7_follows_0 3 rfl rfl)
theorem dX7_follows_4 : decode cX7_follows 4 = .ok (.getfield 25, 3) := dk_180 0 25 (dk_at dksX7_follows_0 4 rfl rfl)
theorem dX7_follows_7 : decode cX7_follows 7 = .ok (.if_icmp .ge 51, 3) := dk_162 0 51 (dk_at dksX7_follows_0 7 rfl rfl)
theorem dX7_follows_10 : decode cX7_follows 10 = .ok (.aload_n 0, 1) := dk_42 (dk_at dksX7_follows_0 10 rfl rfl)
theorem dX7_follows_11 : decode cX7_follows 11 = .ok (.getfield 131, 3) := dk_180 0 131 (dk_at dksX7_follows_0 11 rfl rfl)
theorem dX7_follows_14 : decode cX7_follows 14 = .ok (.iload_n 1, 1) := dk_27 (dk_at dksX7_follows_0 14 rfl rfl)
theorem dX7_follows_15 : decode cX7_follows 15 = .ok (.iaload, 1) := dk_46 (dk_at dksX7_follows_0 15 rfl rfl)
theorem dX7_follows_16 : decode cX7_follows 16 = .ok (.iload_n 3, 1) := dk_29 (dk_at dksX7_follows_0 16 rfl rfl)
theorem dX7_follows_17 : decode cX7_follows 17 = .ok (.ishr, 1) := dk_122 (dk_at dksX7_follows_0 17 rfl rfl)
theorem dX7_follows_18 : decode cX7_follows 18 = .ok (.iconst 1, 1) := dk_4 (dk_at dksX7_follows_0 18 rfl rfl)
theorem dX7_follows_19 : decode cX7_follows 19 = .ok (.iand, 1) := dk_126 (dk_at dksX7_follows_0 19 rfl rfl)
theorem dX7_follows_20 : decode cX7_follows 20 = .ok (.iconst 1, 1) := dk_4 (dk_at dksX7_follows_0 20 rfl rfl)
theorem dX7_follows_21 : decode cX7_follows 21 = .ok (.if_icmp .ne 31, 3) := dk_160 0 31 (dk_at dksX7_follows_0 21 rfl rfl)
theorem dX7_follows_24 : decode cX7_follows 24 = .ok (.aload_n 0, 1) := dk_42 (dk_at dksX7_follows_1 0 rfl rfl)
theorem dX7_follows_25 : decode cX7_follows 25 = .ok (.getfield 131, 3) := dk_180 0 131 (dk_at dksX7_follows_1 1 rfl rfl)
theorem dX7_follows_28 : decode cX7_follows 28 = .ok (.iload_n 2, 1) := dk_28 (dk_at dksX7_follows_1 4 rfl rfl)
theorem dX7_follows_29 : decode cX7_follows 29 = .ok (.iaload, 1) := dk_46 (dk_at dksX7_follows_1 5 rfl rfl)
theorem dX7_follows_30 : decode cX7_follows 30 = .ok (.iload_n 3, 1) := dk_29 (dk_at dksX7_follows_1 6 rfl rfl)
theorem dX7_follows_31 : decode cX7_follows 31 = .ok (.aload_n 0, 1) := dk_42 (dk_at dksX7_follows_1 7 rfl rfl)
theorem dX7_follows_32 : decode cX7_follows 32 = .ok (.getfield 25, 3) := dk_180 0 25 (dk_at dksX7_follows_1 8 rfl rfl)
theorem dX7_follows_35 : decode cX7_follows 35 = .ok (.iadd, 1) := dk_96 (dk_at dksX7_follows_1 11 rfl rfl)
theorem dX7_follows_36 : decode cX7_follows 36 = .ok (.iconst 1, 1) := dk_4 (dk_at dksX7_follows_1 12 rfl rfl)
theorem dX7_follows_37 : decode cX7_follows 37 = .ok (.isub, 1) := dk_100 (dk_at dksX7_follows_1 13 rfl rfl)
theorem dX7_follows_38 : decode cX7_follows 38 = .ok (.aload_n 0, 1) := dk_42 (dk_at dksX7_follows_1 14 rfl rfl)
theorem dX7_follows_39 : decode cX7_follows 39 = .ok (.getfield 25, 3) := dk_180 0 25 (dk_at dksX7_follows_1 15 rfl rfl)
theorem dX7_follows_42 : decode cX7_follows 42 = .ok (.irem, 1) := dk_112 (dk_at dksX7_follows_1 18 rfl rfl)
theorem dX7_follows_43 : decode cX7_follows 43 = .ok (.ishr, 1) := dk_122 (dk_at dksX7_follows_1 19 rfl rfl)
theorem dX7_follows_44 : decode cX7_follows 44 = .ok (.iconst 1, 1) := dk_4 (dk_at dksX7_follows_1 20 rfl rfl)
theorem dX7_follows_45 : decode cX7_follows 45 = .ok (.iand, 1) := dk_126 (dk_at dksX7_follows_1 21 rfl rfl)
theorem dX7_follows_46 : decode cX7_follows 46 = .ok (.iconst 1, 1) := dk_4 (dk_at dksX7_follows_1 22 rfl rfl)
theorem dX7_follows_47 : decode cX7_follows 47 = .ok (.if_icmp .ne 5, 3) := dk_160 0 5 (dk_at dksX7_follows_2 0 rfl rfl)
theorem dX7_follows_50 : decode cX7_follows 50 = .ok (.iconst 1, 1) := dk_4 (dk_at dksX7_follows_2 3 rfl rfl)
theorem dX7_follows_51 : decode cX7_follows 51 = .ok (.ireturn, 1) := dk_172 (dk_at dksX7_follows_2 4 rfl rfl)
theorem dX7_follows_52 : decode cX7_follows 52 = .ok (.iinc 3 1, 3) := dk_132 3 1 (dk_at dksX7_follows_2 5 rfl rfl)
theorem dX7_follows_55 : decode cX7_follows 55 = .ok (.goto (-53), 3) := dk_167 255 203 (dk_at dksX7_follows_2 8 rfl rfl)
theorem dX7_follows_58 : decode cX7_follows 58 = .ok (.iconst 0, 1) := dk_3 (dk_at dksX7_follows_2 11 rfl rfl)
theorem dX7_follows_59 : decode cX7_follows 59 = .ok (.ireturn, 1) := dk_172 (dk_at dksX7_follows_2 12 rfl rfl)
abbrev cX7_lawful : ByteArray := prog_19_method_47_code
def yX7_lawful : MethodName := ⟨RX7, "lawful", "(II)I"⟩
def dkwX7_lawful_2 : List UInt8 := [160, 0, 7, 4, 167, 0, 4, 3, 96, 62, 132, 4, 1, 167, 255, 224, 29, 172]
abbrev dktX7_lawful_2 : List UInt8 := dkwX7_lawful_2 ++ []
def dkwX7_lawful_1 : List UInt8 := [3, 54, 4, 21, 4, 28, 163, 0, 32, 42, 27, 21, 4, 182, 1, 25, 29, 42, 182, 1, 29, 2]
abbrev dktX7_lawful_1 : List UInt8 := dkwX7_lawful_1 ++ dktX7_lawful_2
def dkwX7_lawful_0 : List UInt8 := [42, 27, 182, 1, 10, 153, 0, 10, 28, 184, 0, 165, 154, 0, 6, 16, 251, 172, 42, 182, 1, 22, 3, 62]
abbrev dktX7_lawful_0 : List UInt8 := dkwX7_lawful_0 ++ dktX7_lawful_1
theorem dksX7_lawful_0 : cX7_lawful.data.toList.drop 0 = dktX7_lawful_0 := by decide +kernel
theorem dksX7_lawful_1 : cX7_lawful.data.toList.drop 24 = dktX7_lawful_1 := dk_seg dksX7_lawful_0 24 rfl rfl
theorem dksX7_lawful_2 : cX7_lawful.data.toList.drop 46 = dktX7_lawful_2 := dk_seg dksX7_lawful_1 22 rfl rfl
theorem dX7_lawful_0 : decode cX7_lawful 0 = .ok (.aload_n 0, 1) := dk_42 (dk_at dksX7_lawful_0 0 rfl rfl)
theorem dX7_lawful_1 : decode cX7_lawful 1 = .ok (.iload_n 1, 1) := dk_27 (dk_at dksX7_lawful_0 1 rfl rfl)
theorem dX7_lawful_2 : decode cX7_lawful 2 = .ok (.invokevirtual 266, 3) := dk_182 1 10 (dk_at dksX7_lawful_0 2 rfl rfl)
theorem dX7_lawful_5 : decode cX7_lawful 5 = .ok (.ifCond .eq 10, 3) := dk_153 0 10 (dk_at dksX7_lawful_0 5 rfl rfl)
theorem dX7_lawful_8 : decode cX7_lawful 8 = .ok (.iload_n 2, 1) := dk_28 (dk_at dksX7_lawful_0 8 rfl rfl)
theorem dX7_lawful_9 : decode cX7_lawful 9 = .ok (.invokestatic 165, 3) := dk_184 0 165 (dk_at dksX7_lawful_0 9 rfl rfl)
theorem dX7_lawful_12 : decode cX7_lawful 12 = .ok (.ifCond .ne 6, 3) := dk_154 0 6 (dk_at dksX7_lawful_0 12 rfl rfl)
theorem dX7_lawful_15 : decode cX7_lawful 15 = .ok (.bipush (-5), 2) := dk_16 251 (dk_at dksX7_lawful_0 15 rfl rfl)
theorem dX7_lawful_17 : decode cX7_lawful 17 = .ok (.ireturn, 1) := dk_172 (dk_at dksX7_lawful_0 17 rfl rfl)
theorem dX7_lawful_18 : decode cX7_lawful 18 = .ok (.aload_n 0, 1) := dk_42 (dk_at dksX7_lawful_0 18 rfl rfl)
theorem dX7_lawful_19 : decode cX7_lawful 19 = .ok (.invokevirtual 278, 3) := dk_182 1 22 (dk_at dksX7_lawful_0 19 rfl rfl)
theorem dX7_lawful_22 : decode cX7_lawful 22 = .ok (.iconst 0, 1) := dk_3 (dk_at dksX7_lawful_0 22 rfl rfl)
theorem dX7_lawful_23 : decode cX7_lawful 23 = .ok (.istore_n 3, 1) := dk_62 (dk_at dksX7_lawful_0 23 rfl rfl)
theorem dX7_lawful_24 : decode cX7_lawful 24 = .ok (.iconst 0, 1) := dk_3 (dk_at dksX7_lawful_1 0 rfl rfl)
theorem dX7_lawful_25 : decode cX7_lawful 25 = .ok (.istore 4, 2) := dk_54 4 (dk_at dksX7_lawful_1 1 rfl rfl)
theorem dX7_lawful_27 : decode cX7_lawful 27 = .ok (.iload 4, 2) := dk_21 4 (dk_at dksX7_lawful_1 3 rfl rfl)
theorem dX7_lawful_29 : decode cX7_lawful 29 = .ok (.iload_n 2, 1) := dk_28 (dk_at dksX7_lawful_1 5 rfl rfl)
theorem dX7_lawful_30 : decode cX7_lawful 30 = .ok (.if_icmp .gt 32, 3) := dk_163 0 32 (dk_at dksX7_lawful_1 6 rfl rfl)
theorem dX7_lawful_33 : decode cX7_lawful 33 = .ok (.aload_n 0, 1) := dk_42 (dk_at dksX7_lawful_1 9 rfl rfl)
theorem dX7_lawful_34 : decode cX7_lawful 34 = .ok (.iload_n 1, 1) := dk_27 (dk_at dksX7_lawful_1 10 rfl rfl)
theorem dX7_lawful_35 : decode cX7_lawful 35 = .ok (.iload 4, 2) := dk_21 4 (dk_at dksX7_lawful_1 11 rfl rfl)
theorem dX7_lawful_37 : decode cX7_lawful 37 = .ok (.invokevirtual 281, 3) := dk_182 1 25 (dk_at dksX7_lawful_1 13 rfl rfl)
theorem dX7_lawful_40 : decode cX7_lawful 40 = .ok (.iload_n 3, 1) := dk_29 (dk_at dksX7_lawful_1 16 rfl rfl)
theorem dX7_lawful_41 : decode cX7_lawful 41 = .ok (.aload_n 0, 1) := dk_42 (dk_at dksX7_lawful_1 17 rfl rfl)
theorem dX7_lawful_42 : decode cX7_lawful 42 = .ok (.invokevirtual 285, 3) := dk_182 1 29 (dk_at dksX7_lawful_1 18 rfl rfl)
theorem dX7_lawful_45 : decode cX7_lawful 45 = .ok (.iconst (-1), 1) := dk_2 (dk_at dksX7_lawful_1 21 rfl rfl)
theorem dX7_lawful_46 : decode cX7_lawful 46 = .ok (.if_icmp .ne 7, 3) := dk_160 0 7 (dk_at dksX7_lawful_2 0 rfl rfl)
theorem dX7_lawful_49 : decode cX7_lawful 49 = .ok (.iconst 1, 1) := dk_4 (dk_at dksX7_lawful_2 3 rfl rfl)
theorem dX7_lawful_50 : decode cX7_lawful 50 = .ok (.goto 4, 3) := dk_167 0 4 (dk_at dksX7_lawful_2 4 rfl rfl)
theorem dX7_lawful_53 : decode cX7_lawful 53 = .ok (.iconst 0, 1) := dk_3 (dk_at dksX7_lawful_2 7 rfl rfl)
theorem dX7_lawful_54 : decode cX7_lawful 54 = .ok (.iadd, 1) := dk_96 (dk_at dksX7_lawful_2 8 rfl rfl)
theorem dX7_lawful_55 : decode cX7_lawful 55 = .ok (.istore_n 3, 1) := dk_62 (dk_at dksX7_lawful_2 9 rfl rfl)
theorem dX7_lawful_56 : decode cX7_lawful 56 = .ok (.iinc 4 1, 3) := dk_132 4 1 (dk_at dksX7_lawful_2 10 rfl rfl)
theorem dX7_lawful_59 : decode cX7_lawful 59 = .ok (.goto (-32), 3) := dk_167 255 224 (dk_at dksX7_lawful_2 13 rfl rfl)
theorem dX7_lawful_62 : decode cX7_lawful 62 = .ok (.iload_n 3, 1) := dk_29 (dk_at dksX7_lawful_2 16 rfl rfl)
theorem dX7_lawful_63 : decode cX7_lawful 63 = .ok (.ireturn, 1) := dk_172 (dk_at dksX7_lawful_2 17 rfl rfl)
abbrev cX7_judge : ByteArray := prog_19_method_51_code
def yX7_judge : MethodName := ⟨RX7, "judge", "(III)J"⟩
def dkwX7_judge_3 : List UInt8 := [46, 29, 182, 1, 35, 133, 173]
abbrev dktX7_judge_3 : List UInt8 := dkwX7_judge_3 ++ []
def dkwX7_judge_2 : List UInt8 := [160, 0, 18, 42, 42, 180, 0, 47, 27, 46, 2, 182, 1, 38, 133, 167, 0, 15, 42, 42, 180, 0, 47, 27]
abbrev dktX7_judge_2 : List UInt8 := dkwX7_judge_2 ++ dktX7_judge_3
def dkwX7_judge_1 : List UInt8 := [182, 0, 158, 154, 0, 7, 20, 0, 246, 173, 42, 182, 0, 162, 42, 27, 28, 182, 1, 25, 29, 2]
abbrev dktX7_judge_1 : List UInt8 := dkwX7_judge_1 ++ dktX7_judge_2
def dkwX7_judge_0 : List UInt8 := [42, 27, 182, 1, 10, 153, 0, 23, 28, 184, 0, 165, 153, 0, 16, 29, 2, 159, 0, 15, 42, 29]
abbrev dktX7_judge_0 : List UInt8 := dkwX7_judge_0 ++ dktX7_judge_1
theorem dksX7_judge_0 : cX7_judge.data.toList.drop 0 = dktX7_judge_0 := by decide +kernel
theorem dksX7_judge_1 : cX7_judge.data.toList.drop 22 = dktX7_judge_1 := dk_seg dksX7_judge_0 22 rfl rfl
theorem dksX7_judge_2 : cX7_judge.data.toList.drop 44 = dktX7_judge_2 := dk_seg dksX7_judge_1 22 rfl rfl
theorem dksX7_judge_3 : cX7_judge.data.toList.drop 68 = dktX7_judge_3 := dk_seg dksX7_judge_2 24 rfl rfl
theorem dX7_judge_0 : decode cX7_judge 0 = .ok (.aload_n 0, 1) := dk_42 (dk_at dksX7_judge_0 0 rfl rfl)
theorem dX7_judge_1 : decode cX7_judge 1 = .ok (.iload_n 1, 1) := dk_27 (dk_at dksX7_judge_0 1 rfl rfl)
theorem dX7_judge_2 : decode cX7_judge 2 = .ok (.invokevirtual 266, 3) := dk_182 1 10 (dk_at dksX7_judge_0 2 rfl rfl)
theorem dX7_judge_5 : decode cX7_judge 5 = .ok (.ifCond .eq 23, 3) := dk_153 0 23 (dk_at dksX7_judge_0 5 rfl rfl)
theorem dX7_judge_8 : decode cX7_judge 8 = .ok (.iload_n 2, 1) := dk_28 (dk_at dksX7_judge_0 8 rfl rfl)
theorem dX7_judge_9 : decode cX7_judge 9 = .ok (.invokestatic 165, 3) := dk_184 0 165 (dk_at dksX7_judge_0 9 rfl rfl)
theorem dX7_judge_12 : decode cX7_judge 12 = .ok (.ifCond .eq 16, 3) := dk_153 0 16 (dk_at dksX7_judge_0 12 rfl rfl)
theorem dX7_judge_15 : decode cX7_judge 15 = .ok (.iload_n 3, 1) := dk_29 (dk_at dksX7_judge_0 15 rfl rfl)
theorem dX7_judge_16 : decode cX7_judge 16 = .ok (.iconst (-1), 1) := dk_2 (dk_at dksX7_judge_0 16 rfl rfl)
theorem dX7_judge_17 : decode cX7_judge 17 = .ok (.if_icmp .eq 15, 3) := dk_159 0 15 (dk_at dksX7_judge_0 17 rfl rfl)
theorem dX7_judge_20 : decode cX7_judge 20 = .ok (.aload_n 0, 1) := dk_42 (dk_at dksX7_judge_0 20 rfl rfl)
theorem dX7_judge_21 : decode cX7_judge 21 = .ok (.iload_n 3, 1) := dk_29 (dk_at dksX7_judge_0 21 rfl rfl)
theorem dX7_judge_22 : decode cX7_judge 22 = .ok (.invokevirtual 158, 3) := dk_182 0 158 (dk_at dksX7_judge_1 0 rfl rfl)
theorem dX7_judge_25 : decode cX7_judge 25 = .ok (.ifCond .ne 7, 3) := dk_154 0 7 (dk_at dksX7_judge_1 3 rfl rfl)
theorem dX7_judge_28 : decode cX7_judge 28 = .ok (.ldc2_w 246, 3) := dk_20 0 246 (dk_at dksX7_judge_1 6 rfl rfl)
theorem dX7_judge_31 : decode cX7_judge 31 = .ok (.lreturn, 1) := dk_173 (dk_at dksX7_judge_1 9 rfl rfl)
theorem dX7_judge_32 : decode cX7_judge 32 = .ok (.aload_n 0, 1) := dk_42 (dk_at dksX7_judge_1 10 rfl rfl)
theorem dX7_judge_33 : decode cX7_judge 33 = .ok (.invokevirtual 162, 3) := dk_182 0 162 (dk_at dksX7_judge_1 11 rfl rfl)
theorem dX7_judge_36 : decode cX7_judge 36 = .ok (.aload_n 0, 1) := dk_42 (dk_at dksX7_judge_1 14 rfl rfl)
theorem dX7_judge_37 : decode cX7_judge 37 = .ok (.iload_n 1, 1) := dk_27 (dk_at dksX7_judge_1 15 rfl rfl)
theorem dX7_judge_38 : decode cX7_judge 38 = .ok (.iload_n 2, 1) := dk_28 (dk_at dksX7_judge_1 16 rfl rfl)
theorem dX7_judge_39 : decode cX7_judge 39 = .ok (.invokevirtual 281, 3) := dk_182 1 25 (dk_at dksX7_judge_1 17 rfl rfl)
theorem dX7_judge_42 : decode cX7_judge 42 = .ok (.iload_n 3, 1) := dk_29 (dk_at dksX7_judge_1 20 rfl rfl)
theorem dX7_judge_43 : decode cX7_judge 43 = .ok (.iconst (-1), 1) := dk_2 (dk_at dksX7_judge_1 21 rfl rfl)
theorem dX7_judge_44 : decode cX7_judge 44 = .ok (.if_icmp .ne 18, 3) := dk_160 0 18 (dk_at dksX7_judge_2 0 rfl rfl)
theorem dX7_judge_47 : decode cX7_judge 47 = .ok (.aload_n 0, 1) := dk_42 (dk_at dksX7_judge_2 3 rfl rfl)
theorem dX7_judge_48 : decode cX7_judge 48 = .ok (.aload_n 0, 1) := dk_42 (dk_at dksX7_judge_2 4 rfl rfl)
theorem dX7_judge_49 : decode cX7_judge 49 = .ok (.getfield 47, 3) := dk_180 0 47 (dk_at dksX7_judge_2 5 rfl rfl)
theorem dX7_judge_52 : decode cX7_judge 52 = .ok (.iload_n 1, 1) := dk_27 (dk_at dksX7_judge_2 8 rfl rfl)
theorem dX7_judge_53 : decode cX7_judge 53 = .ok (.iaload, 1) := dk_46 (dk_at dksX7_judge_2 9 rfl rfl)
theorem dX7_judge_54 : decode cX7_judge 54 = .ok (.iconst (-1), 1) := dk_2 (dk_at dksX7_judge_2 10 rfl rfl)
theorem dX7_judge_55 : decode cX7_judge 55 = .ok (.invokevirtual 294, 3) := dk_182 1 38 (dk_at dksX7_judge_2 11 rfl rfl)
theorem dX7_judge_58 : decode cX7_judge 58 = .ok (.i2l, 1) := dk_133 (dk_at dksX7_judge_2 14 rfl rfl)
theorem dX7_judge_59 : decode cX7_judge 59 = .ok (.goto 15, 3) := dk_167 0 15 (dk_at dksX7_judge_2 15 rfl rfl)
theorem dX7_judge_62 : decode cX7_judge 62 = .ok (.aload_n 0, 1) := dk_42 (dk_at dksX7_judge_2 18 rfl rfl)
theorem dX7_judge_63 : decode cX7_judge 63 = .ok (.aload_n 0, 1) := dk_42 (dk_at dksX7_judge_2 19 rfl rfl)
theorem dX7_judge_64 : decode cX7_judge 64 = .ok (.getfield 47, 3) := dk_180 0 47 (dk_at dksX7_judge_2 20 rfl rfl)
theorem dX7_judge_67 : decode cX7_judge 67 = .ok (.iload_n 1, 1) := dk_27 (dk_at dksX7_judge_2 23 rfl rfl)
theorem dX7_judge_68 : decode cX7_judge 68 = .ok (.iaload, 1) := dk_46 (dk_at dksX7_judge_3 0 rfl rfl)
theorem dX7_judge_69 : decode cX7_judge 69 = .ok (.iload_n 3, 1) := dk_29 (dk_at dksX7_judge_3 1 rfl rfl)
theorem dX7_judge_70 : decode cX7_judge 70 = .ok (.invokevirtual 291, 3) := dk_182 1 35 (dk_at dksX7_judge_3 2 rfl rfl)
theorem dX7_judge_73 : decode cX7_judge 73 = .ok (.i2l, 1) := dk_133 (dk_at dksX7_judge_3 5 rfl rfl)
theorem dX7_judge_74 : decode cX7_judge 74 = .ok (.lreturn, 1) := dk_173 (dk_at dksX7_judge_3 6 rfl rfl)
abbrev cX7_worthAll : ByteArray := prog_19_method_50_code
def yX7_worthAll : MethodName := ⟨RX7, "worthAll", "(II)I"⟩
def dkwX7_worthAll_1 : List UInt8 := [167, 0, 10, 42, 27, 21, 4, 182, 1, 35, 96, 62, 132, 4, 1, 167, 255, 224, 29, 172]
abbrev dktX7_worthAll_1 : List UInt8 := dkwX7_worthAll_1 ++ []
def dkwX7_worthAll_0 : List UInt8 := [3, 62, 3, 54, 4, 21, 4, 42, 180, 0, 151, 162, 0, 29, 29, 21, 4, 28, 160, 0, 7, 3]
abbrev dktX7_worthAll_0 : List UInt8 := dkwX7_worthAll_0 ++ dktX7_worthAll_1
theorem dksX7_worthAll_0 : cX7_worthAll.data.toList.drop 0 = dktX7_worthAll_0 := by decide +kernel
theorem dksX7_worthAll_1 : cX7_worthAll.data.toList.drop 22 = dktX7_worthAll_1 := dk_seg dksX7_worthAll_0 22 rfl rfl
theorem dX7_worthAll_0 : decode cX7_worthAll 0 = .ok (.iconst 0, 1) := dk_3 (dk_at dksX7_worthAll_0 0 rfl rfl)
theorem dX7_worthAll_1 : decode cX7_worthAll 1 = .ok (.istore_n 3, 1) := dk_62 (dk_at dksX7_worthAll_0 1 rfl rfl)
theorem dX7_worthAll_2 : decode cX7_worthAll 2 = .ok (.iconst 0, 1) := dk_3 (dk_at dksX7_worthAll_0 2 rfl rfl)
theorem dX7_worthAll_3 : decode cX7_worthAll 3 = .ok (.istore 4, 2) := dk_54 4 (dk_at dksX7_worthAll_0 3 rfl rfl)
theorem dX7_worthAll_5 : decode cX7_worthAll 5 = .ok (.iload 4, 2) := dk_21 4 (dk_at dksX7_worthAll_0 5 rfl rfl)
theorem dX7_worthAll_7 : decode cX7_worthAll 7 = .ok (.aload_n 0, 1) := dk_42 (dk_at dksX7_worthAll_0 7 rfl rfl)
theorem dX7_worthAll_8 : decode cX7_worthAll 8 = .ok (.getfield 151, 3) := dk_180 0 151 (dk_at dksX7_worthAll_0 8 rfl rfl)
theorem dX7_worthAll_11 : decode cX7_worthAll 11 = .ok (.if_icmp .ge 29, 3) := dk_162 0 29 (dk_at dksX7_worthAll_0 11 rfl rfl)
theorem dX7_worthAll_14 : decode cX7_worthAll 14 = .ok (.iload_n 3, 1) := dk_29 (dk_at dksX7_worthAll_0 14 rfl rfl)
theorem dX7_worthAll_15 : decode cX7_worthAll 15 = .ok (.iload 4, 2) := dk_21 4 (dk_at dksX7_worthAll_0 15 rfl rfl)
theorem dX7_worthAll_17 : decode cX7_worthAll 17 = .ok (.iload_n 2, 1) := dk_28 (dk_at dksX7_worthAll_0 17 rfl rfl)
theorem dX7_worthAll_18 : decode cX7_worthAll 18 = .ok (.if_icmp .ne 7, 3) := dk_160 0 7 (dk_at dksX7_worthAll_0 18 rfl rfl)
theorem dX7_worthAll_21 : decode cX7_worthAll 21 = .ok (.iconst 0, 1) := dk_3 (dk_at dksX7_worthAll_0 21 rfl rfl)
theorem dX7_worthAll_22 : decode cX7_worthAll 22 = .ok (.goto 10, 3) := dk_167 0 10 (dk_at dksX7_worthAll_1 0 rfl rfl)
theorem dX7_worthAll_25 : decode cX7_worthAll 25 = .ok (.aload_n 0, 1) := dk_42 (dk_at dksX7_worthAll_1 3 rfl rfl)
theorem dX7_worthAll_26 : decode cX7_worthAll 26 = .ok (.iload_n 1, 1) := dk_27 (dk_at dksX7_worthAll_1 4 rfl rfl)
theorem dX7_worthAll_27 : decode cX7_worthAll 27 = .ok (.iload 4, 2) := dk_21 4 (dk_at dksX7_worthAll_1 5 rfl rfl)
theorem dX7_worthAll_29 : decode cX7_worthAll 29 = .ok (.invokevirtual 291, 3) := dk_182 1 35 (dk_at dksX7_worthAll_1 7 rfl rfl)
theorem dX7_worthAll_32 : decode cX7_worthAll 32 = .ok (.iadd, 1) := dk_96 (dk_at dksX7_worthAll_1 10 rfl rfl)
theorem dX7_worthAll_33 : decode cX7_worthAll 33 = .ok (.istore_n 3, 1) := dk_62 (dk_at dksX7_worthAll_1 11 rfl rfl)
theorem dX7_worthAll_34 : decode cX7_worthAll 34 = .ok (.iinc 4 1, 3) := dk_132 4 1 (dk_at dksX7_worthAll_1 12 rfl rfl)
theorem dX7_worthAll_37 : decode cX7_worthAll 37 = .ok (.goto (-32), 3) := dk_167 255 224 (dk_at dksX7_worthAll_1 15 rfl rfl)
theorem dX7_worthAll_40 : decode cX7_worthAll 40 = .ok (.iload_n 3, 1) := dk_29 (dk_at dksX7_worthAll_1 18 rfl rfl)
theorem dX7_worthAll_41 : decode cX7_worthAll 41 = .ok (.ireturn, 1) := dk_172 (dk_at dksX7_worthAll_1 19 rfl rfl)
abbrev cX7_worthIn : ByteArray := prog_19_method_49_code
def yX7_worthIn : MethodName := ⟨RX7, "worthIn", "(II)I"⟩
def dkwX7_worthIn_2 : List UInt8 := [160, 0, 9, 29, 5, 100, 167, 0, 15, 27, 8, 160, 0, 9, 29, 4, 96, 167, 0, 4, 29, 172]
abbrev dktX7_worthIn_2 : List UInt8 := dkwX7_worthIn_2 ++ []
def dkwX7_worthIn_1 : List UInt8 := [28, 182, 1, 32, 62, 27, 5, 160, 0, 9, 29, 5, 108, 167, 0, 31, 27, 6, 159, 0, 8, 27, 7]
abbrev dktX7_worthIn_1 : List UInt8 := dkwX7_worthIn_1 ++ dktX7_worthIn_2
def dkwX7_worthIn_0 : List UInt8 := [42, 180, 0, 131, 28, 46, 154, 0, 17, 27, 4, 159, 0, 8, 27, 8, 160, 0, 7, 2, 167, 0, 8, 42]
abbrev dktX7_worthIn_0 : List UInt8 := dkwX7_worthIn_0 ++ dktX7_worthIn_1
theorem dksX7_worthIn_0 : cX7_worthIn.data.toList.drop 0 = dktX7_worthIn_0 := by decide +kernel
theorem dksX7_worthIn_1 : cX7_worthIn.data.toList.drop 24 = dktX7_worthIn_1 := dk_seg dksX7_worthIn_0 24 rfl rfl
theorem dksX7_worthIn_2 : cX7_worthIn.data.toList.drop 47 = dktX7_worthIn_2 := dk_seg dksX7_worthIn_1 23 rfl rfl
theorem dX7_worthIn_0 : decode cX7_worthIn 0 = .ok (.aload_n 0, 1) := dk_42 (dk_at dksX7_worthIn_0 0 rfl rfl)
theorem dX7_worthIn_1 : decode cX7_worthIn 1 = .ok (.getfield 131, 3) := dk_180 0 131 (dk_at dksX7_worthIn_0 1 rfl rfl)
theorem dX7_worthIn_4 : decode cX7_worthIn 4 = .ok (.iload_n 2, 1) := dk_28 (dk_at dksX7_worthIn_0 4 rfl rfl)
theorem dX7_worthIn_5 : decode cX7_worthIn 5 = .ok (.iaload, 1) := dk_46 (dk_at dksX7_worthIn_0 5 rfl rfl)
theorem dX7_worthIn_6 : decode cX7_worthIn 6 = .ok (.ifCond .ne 17, 3) := dk_154 0 17 (dk_at dksX7_worthIn_0 6 rfl rfl)
theorem dX7_worthIn_9 : decode cX7_worthIn 9 = .ok (.iload_n 1, 1) := dk_27 (dk_at dksX7_worthIn_0 9 rfl rfl)
theorem dX7_worthIn_10 : decode cX7_worthIn 10 = .ok (.iconst 1, 1) := dk_4 (dk_at dksX7_worthIn_0 10 rfl rfl)
theorem dX7_worthIn_11 : decode cX7_worthIn 11 = .ok (.if_icmp .eq 8, 3) := dk_159 0 8 (dk_at dksX7_worthIn_0 11 rfl rfl)
theorem dX7_worthIn_14 : decode cX7_worthIn 14 = .ok (.iload_n 1, 1) := dk_27 (dk_at dksX7_worthIn_0 14 rfl rfl)
theorem dX7_worthIn_15 : decode cX7_worthIn 15 = .ok (.iconst 5, 1) := dk_8 (dk_at dksX7_worthIn_0 15 rfl rfl)
theorem dX7_worthIn_16 : decode cX7_worthIn 16 = .ok (.if_icmp .ne 7, 3) := dk_160 0 7 (dk_at dksX7_worthIn_0 16 rfl rfl)
theorem dX7_worthIn_19 : decode cX7_worthIn 19 = .ok (.iconst (-1), 1) := dk_2 (dk_at dksX7_worthIn_0 19 rfl rfl)
theorem dX7_worthIn_20 : decode cX7_worthIn 20 = .ok (.goto 8, 3) := dk_167 0 8 (dk_at dksX7_worthIn_0 20 rfl rfl)
theorem dX7_worthIn_23 : decode cX7_worthIn 23 = .ok (.aload_n 0, 1) := dk_42 (dk_at dksX7_worthIn_0 23 rfl rfl)
theorem dX7_worthIn_24 : decode cX7_worthIn 24 = .ok (.iload_n 2, 1) := dk_28 (dk_at dksX7_worthIn_1 0 rfl rfl)
theorem dX7_worthIn_25 : decode cX7_worthIn 25 = .ok (.invokevirtual 288, 3) := dk_182 1 32 (dk_at dksX7_worthIn_1 1 rfl rfl)
theorem dX7_worthIn_28 : decode cX7_worthIn 28 = .ok (.istore_n 3, 1) := dk_62 (dk_at dksX7_worthIn_1 4 rfl rfl)
theorem dX7_worthIn_29 : decode cX7_worthIn 29 = .ok (.iload_n 1, 1) := dk_27 (dk_at dksX7_worthIn_1 5 rfl rfl)
theorem dX7_worthIn_30 : decode cX7_worthIn 30 = .ok (.iconst 2, 1) := dk_5 (dk_at dksX7_worthIn_1 6 rfl rfl)
theorem dX7_worthIn_31 : decode cX7_worthIn 31 = .ok (.if_icmp .ne 9, 3) := dk_160 0 9 (dk_at dksX7_worthIn_1 7 rfl rfl)
theorem dX7_worthIn_34 : decode cX7_worthIn 34 = .ok (.iload_n 3, 1) := dk_29 (dk_at dksX7_worthIn_1 10 rfl rfl)
theorem dX7_worthIn_35 : decode cX7_worthIn 35 = .ok (.iconst 2, 1) := dk_5 (dk_at dksX7_worthIn_1 11 rfl rfl)
theorem dX7_worthIn_36 : decode cX7_worthIn 36 = .ok (.idiv, 1) := dk_108 (dk_at dksX7_worthIn_1 12 rfl rfl)
theorem dX7_worthIn_37 : decode cX7_worthIn 37 = .ok (.goto 31, 3) := dk_167 0 31 (dk_at dksX7_worthIn_1 13 rfl rfl)
theorem dX7_worthIn_40 : decode cX7_worthIn 40 = .ok (.iload_n 1, 1) := dk_27 (dk_at dksX7_worthIn_1 16 rfl rfl)
theorem dX7_worthIn_41 : decode cX7_worthIn 41 = .ok (.iconst 3, 1) := dk_6 (dk_at dksX7_worthIn_1 17 rfl rfl)
theorem dX7_worthIn_42 : decode cX7_worthIn 42 = .ok (.if_icmp .eq 8, 3) := dk_159 0 8 (dk_at dksX7_worthIn_1 18 rfl rfl)
theorem dX7_worthIn_45 : decode cX7_worthIn 45 = .ok (.iload_n 1, 1) := dk_27 (dk_at dksX7_worthIn_1 21 rfl rfl)
theorem dX7_worthIn_46 : decode cX7_worthIn 46 = .ok (.iconst 4, 1) := dk_7 (dk_at dksX7_worthIn_1 22 rfl rfl)
theorem dX7_worthIn_47 : decode cX7_worthIn 47 = .ok (.if_icmp .ne 9, 3) := dk_160 0 9 (dk_at dksX7_worthIn_2 0 rfl rfl)
theorem dX7_worthIn_50 : decode cX7_worthIn 50 = .ok (.iload_n 3, 1) := dk_29 (dk_at dksX7_worthIn_2 3 rfl rfl)
theorem dX7_worthIn_51 : decode cX7_worthIn 51 = .ok (.iconst 2, 1) := dk_5 (dk_at dksX7_worthIn_2 4 rfl rfl)
theorem dX7_worthIn_52 : decode cX7_worthIn 52 = .ok (.isub, 1) := dk_100 (dk_at dksX7_worthIn_2 5 rfl rfl)
theorem dX7_worthIn_53 : decode cX7_worthIn 53 = .ok (.goto 15, 3) := dk_167 0 15 (dk_at dksX7_worthIn_2 6 rfl rfl)
theorem dX7_worthIn_56 : decode cX7_worthIn 56 = .ok (.iload_n 1, 1) := dk_27 (dk_at dksX7_worthIn_2 9 rfl rfl)
theorem dX7_worthIn_57 : decode cX7_worthIn 57 = .ok (.iconst 5, 1) := dk_8 (dk_at dksX7_worthIn_2 10 rfl rfl)
theorem dX7_worthIn_58 : decode cX7_worthIn 58 = .ok (.if_icmp .ne 9, 3) := dk_160 0 9 (dk_at dksX7_worthIn_2 11 rfl rfl)
theorem dX7_worthIn_61 : decode cX7_worthIn 61 = .ok (.iload_n 3, 1) := dk_29 (dk_at dksX7_worthIn_2 14 rfl rfl)
theorem dX7_worthIn_62 : decode cX7_worthIn 62 = .ok (.iconst 1, 1) := dk_4 (dk_at dksX7_worthIn_2 15 rfl rfl)
theorem dX7_worthIn_63 : decode cX7_worthIn 63 = .ok (.iadd, 1) := dk_96 (dk_at dksX7_worthIn_2 16 rfl rfl)
theorem dX7_worthIn_64 : decode cX7_worthIn 64 = .ok (.goto 4, 3) := dk_167 0 4 (dk_at dksX7_worthIn_2 17 rfl rfl)
theorem dX7_worthIn_67 : decode cX7_worthIn 67 = .ok (.iload_n 3, 1) := dk_29 (dk_at dksX7_worthIn_2 20 rfl rfl)
theorem dX7_worthIn_68 : decode cX7_worthIn 68 = .ok (.ireturn, 1) := dk_172 (dk_at dksX7_worthIn_2 21 rfl rfl)
abbrev cX7_worthNow : ByteArray := prog_19_method_48_code
def yX7_worthNow : MethodName := ⟨RX7, "worthNow", "(I)I"⟩
def dkwX7_worthNow_7 : List UInt8 := [167, 255, 96, 28, 172]
abbrev dktX7_worthNow_7 : List UInt8 := dkwX7_worthNow_7 ++ []
def dkwX7_worthNow_6 : List UInt8 := [132, 6, 1, 167, 255, 147, 28, 42, 27, 29, 21, 4, 21, 5, 182, 0, 252, 96, 61, 132, 3, 1]
abbrev dktX7_worthNow_6 : List UInt8 := dkwX7_worthNow_6 ++ dktX7_worthNow_7
def dkwX7_worthNow_5 : List UInt8 := [46, 167, 0, 5, 21, 4, 54, 4, 21, 5, 42, 180, 0, 131, 21, 6, 46, 29, 122, 4, 126, 96, 54, 5]
abbrev dktX7_worthNow_5 : List UInt8 := dkwX7_worthNow_5 ++ dktX7_worthNow_6
def dkwX7_worthNow_4 : List UInt8 := [16, 6, 27, 104, 21, 6, 96, 46, 21, 4, 162, 0, 18, 42, 180, 0, 89, 16, 6, 27, 104, 21, 6, 96]
abbrev dktX7_worthNow_4 : List UInt8 := dkwX7_worthNow_4 ++ dktX7_worthNow_5
def dkwX7_worthNow_3 : List UInt8 := [122, 4, 126, 4, 160, 0, 7, 4, 167, 0, 4, 3, 54, 7, 21, 7, 153, 0, 35, 42, 180, 0, 89]
abbrev dktX7_worthNow_3 : List UInt8 := dkwX7_worthNow_3 ++ dktX7_worthNow_4
def dkwX7_worthNow_2 : List UInt8 := [27, 159, 0, 94, 42, 180, 0, 131, 21, 6, 46, 29, 42, 180, 0, 25, 96, 4, 100, 42, 180, 0, 25, 112]
abbrev dktX7_worthNow_2 : List UInt8 := dkwX7_worthNow_2 ++ dktX7_worthNow_3
def dkwX7_worthNow_1 : List UInt8 := [160, 0, 138, 16, 99, 54, 4, 3, 54, 5, 3, 54, 6, 21, 6, 42, 180, 0, 151, 162, 0, 106, 21, 6]
abbrev dktX7_worthNow_1 : List UInt8 := dkwX7_worthNow_1 ++ dktX7_worthNow_2
def dkwX7_worthNow_0 : List UInt8 := [3, 61, 3, 62, 29, 42, 180, 0, 25, 162, 0, 158, 42, 180, 0, 131, 27, 46, 29, 122, 4, 126, 4]
abbrev dktX7_worthNow_0 : List UInt8 := dkwX7_worthNow_0 ++ dktX7_worthNow_1
theorem dksX7_worthNow_0 : cX7_worthNow.data.toList.drop 0 = dktX7_worthNow_0 := by decide +kernel
theorem dksX7_worthNow_1 : cX7_worthNow.data.toList.drop 23 = dktX7_worthNow_1 := dk_seg dksX7_worthNow_0 23 rfl rfl
theorem dksX7_worthNow_2 : cX7_worthNow.data.toList.drop 47 = dktX7_worthNow_2 := dk_seg dksX7_worthNow_1 24 rfl rfl
theorem dksX7_worthNow_3 : cX7_worthNow.data.toList.drop 71 = dktX7_worthNow_3 := dk_seg dksX7_worthNow_2 24 rfl rfl
theorem dksX7_worthNow_4 : cX7_worthNow.data.toList.drop 94 = dktX7_worthNow_4 := dk_seg dksX7_worthNow_3 23 rfl rfl
theorem dksX7_worthNow_5 : cX7_worthNow.data.toList.drop 118 = dktX7_worthNow_5 := dk_seg dksX7_worthNow_4 24 rfl rfl
theorem dksX7_worthNow_6 : cX7_worthNow.data.toList.drop 142 = dktX7_worthNow_6 := dk_seg dksX7_worthNow_5 24 rfl rfl
theorem dksX7_worthNow_7 : cX7_worthNow.data.toList.drop 164 = dktX7_worthNow_7 := dk_seg dksX7_worthNow_6 22 rfl rfl
theorem dX7_worthNow_0 : decode cX7_worthNow 0 = .ok (.iconst 0, 1) := dk_3 (dk_at dksX7_worthNow_0 0 rfl rfl)
theorem dX7_worthNow_1 : decode cX7_worthNow 1 = .ok (.istore_n 2, 1) := dk_61 (dk_at dksX7_worthNow_0 1 rfl rfl)
theorem dX7_worthNow_2 : decode cX7_worthNow 2 = .ok (.iconst 0, 1) := dk_3 (dk_at dksX7_worthNow_0 2 rfl rfl)
theorem dX7_worthNow_3 : decode cX7_worthNow 3 = .ok (.istore_n 3, 1) := dk_62 (dk_at dksX7_worthNow_0 3 rfl rfl)
theorem dX7_worthNow_4 : decode cX7_worthNow 4 = .ok (.iload_n 3, 1) := dk_29 (dk_at dksX7_worthNow_0 4 rfl rfl)
theorem dX7_worthNow_5 : decode cX7_worthNow 5 = .ok (.aload_n 0, 1) := dk_42 (dk_at dksX7_worthNow_0 5 rfl rfl)
theorem dX7_worthNow_6 : decode cX7_worthNow 6 = .ok (.getfield 25, 3) := dk_180 0 25 (dk_at dksX7_worthNow_0 6 rfl rfl)
theorem dX7_worthNow_9 : decode cX7_worthNow 9 = .ok (.if_icmp .ge 158, 3) := dk_162 0 158 (dk_at dksX7_worthNow_0 9 rfl rfl)
theorem dX7_worthNow_12 : decode cX7_worthNow 12 = .ok (.aload_n 0, 1) := dk_42 (dk_at dksX7_worthNow_0 12 rfl rfl)
theorem dX7_worthNow_13 : decode cX7_worthNow 13 = .ok (.getfield 131, 3) := dk_180 0 131 (dk_at dksX7_worthNow_0 13 rfl rfl)
theorem dX7_worthNow_16 : decode cX7_worthNow 16 = .ok (.iload_n 1, 1) := dk_27 (dk_at dksX7_worthNow_0 16 rfl rfl)
theorem dX7_worthNow_17 : decode cX7_worthNow 17 = .ok (.iaload, 1) := dk_46 (dk_at dksX7_worthNow_0 17 rfl rfl)
theorem dX7_worthNow_18 : decode cX7_worthNow 18 = .ok (.iload_n 3, 1) := dk_29 (dk_at dksX7_worthNow_0 18 rfl rfl)
theorem dX7_worthNow_19 : decode cX7_worthNow 19 = .ok (.ishr, 1) := dk_122 (dk_at dksX7_worthNow_0 19 rfl rfl)
theorem dX7_worthNow_20 : decode cX7_worthNow 20 = .ok (.iconst 1, 1) := dk_4 (dk_at dksX7_worthNow_0 20 rfl rfl)
theorem dX7_worthNow_21 : decode cX7_worthNow 21 = .ok (.iand, 1) := dk_126 (dk_at dksX7_worthNow_0 21 rfl rfl)
theorem dX7_worthNow_22 : decode cX7_worthNow 22 = .ok (.iconst 1, 1) := dk_4 (dk_at dksX7_worthNow_0 22 rfl rfl)
theorem dX7_worthNow_23 : decode cX7_worthNow 23 = .ok (.if_icmp .ne 138, 3) := dk_160 0 138 (dk_at dksX7_worthNow_1 0 rfl rfl)
theorem dX7_worthNow_26 : decode cX7_worthNow 26 = .ok (.bipush 99, 2) := dk_16 99 (dk_at dksX7_worthNow_1 3 rfl rfl)
theorem dX7_worthNow_28 : decode cX7_worthNow 28 = .ok (.istore 4, 2) := dk_54 4 (dk_at dksX7_worthNow_1 5 rfl rfl)
theorem dX7_worthNow_30 : decode cX7_worthNow 30 = .ok (.iconst 0, 1) := dk_3 (dk_at dksX7_worthNow_1 7 rfl rfl)
theorem dX7_worthNow_31 : decode cX7_worthNow 31 = .ok (.istore 5, 2) := dk_54 5 (dk_at dksX7_worthNow_1 8 rfl rfl)
theorem dX7_worthNow_33 : decode cX7_worthNow 33 = .ok (.iconst 0, 1) := dk_3 (dk_at dksX7_worthNow_1 10 rfl rfl)
theorem dX7_worthNow_34 : decode cX7_worthNow 34 = .ok (.istore 6, 2) := dk_54 6 (dk_at dksX7_worthNow_1 11 rfl rfl)
theorem dX7_worthNow_36 : decode cX7_worthNow 36 = .ok (.iload 6, 2) := dk_21 6 (dk_at dksX7_worthNow_1 13 rfl rfl)
theorem dX7_worthNow_38 : decode cX7_worthNow 38 = .ok (.aload_n 0, 1) := dk_42 (dk_at dksX7_worthNow_1 15 rfl rfl)
theorem dX7_worthNow_39 : decode cX7_worthNow 39 = .ok (.getfield 151, 3) := dk_180 0 151 (dk_at dksX7_worthNow_1 16 rfl rfl)
theorem dX7_worthNow_42 : decode cX7_worthNow 42 = .ok (.if_icmp .ge 106, 3) := dk_162 0 106 (dk_at dksX7_worthNow_1 19 rfl rfl)
theorem dX7_worthNow_45 : decode cX7_worthNow 45 = .ok (.iload 6, 2) := dk_21 6 (dk_at dksX7_worthNow_1 22 rfl rfl)
theorem dX7_worthNow_47 : decode cX7_worthNow 47 = .ok (.iload_n 1, 1) := dk_27 (dk_at dksX7_worthNow_2 0 rfl rfl)
theorem dX7_worthNow_48 : decode cX7_worthNow 48 = .ok (.if_icmp .eq 94, 3) := dk_159 0 94 (dk_at dksX7_worthNow_2 1 rfl rfl)
theorem dX7_worthNow_51 : decode cX7_worthNow 51 = .ok (.aload_n 0, 1) := dk_42 (dk_at dksX7_worthNow_2 4 rfl rfl)
theorem dX7_worthNow_52 : decode cX7_worthNow 52 = .ok (.getfield 131, 3) := dk_180 0 131 (dk_at dksX7_worthNow_2 5 rfl rfl)
theorem dX7_worthNow_55 : decode cX7_worthNow 55 = .ok (.iload 6, 2) := dk_21 6 (dk_at dksX7_worthNow_2 8 rfl rfl)
theorem dX7_worthNow_57 : decode cX7_worthNow 57 = .ok (.iaload, 1) := dk_46 (dk_at dksX7_worthNow_2 10 rfl rfl)
theorem dX7_worthNow_58 : decode cX7_worthNow 58 = .ok (.iload_n 3, 1) := dk_29 (dk_at dksX7_worthNow_2 11 rfl rfl)
theorem dX7_worthNow_59 : decode cX7_worthNow 59 = .ok (.aload_n 0, 1) := dk_42 (dk_at dksX7_worthNow_2 12 rfl rfl)
theorem dX7_worthNow_60 : decode cX7_worthNow 60 = .ok (.getfield 25, 3) := dk_180 0 25 (dk_at dksX7_worthNow_2 13 rfl rfl)
theorem dX7_worthNow_63 : decode cX7_worthNow 63 = .ok (.iadd, 1) := dk_96 (dk_at dksX7_worthNow_2 16 rfl rfl)
theorem dX7_worthNow_64 : decode cX7_worthNow 64 = .ok (.iconst 1, 1) := dk_4 (dk_at dksX7_worthNow_2 17 rfl rfl)
theorem dX7_worthNow_65 : decode cX7_worthNow 65 = .ok (.isub, 1) := dk_100 (dk_at dksX7_worthNow_2 18 rfl rfl)
theorem dX7_worthNow_66 : decode cX7_worthNow 66 = .ok (.aload_n 0, 1) := dk_42 (dk_at dksX7_worthNow_2 19 rfl rfl)
theorem dX7_worthNow_67 : decode cX7_worthNow 67 = .ok (.getfield 25, 3) := dk_180 0 25 (dk_at dksX7_worthNow_2 20 rfl rfl)
theorem dX7_worthNow_70 : decode cX7_worthNow 70 = .ok (.irem, 1) := dk_112 (dk_at dksX7_worthNow_2 23 rfl rfl)
theorem dX7_worthNow_71 : decode cX7_worthNow 71 = .ok (.ishr, 1) := dk_122 (dk_at dksX7_worthNow_3 0 rfl rfl)
theorem dX7_worthNow_72 : decode cX7_worthNow 72 = .ok (.iconst 1, 1) := dk_4 (dk_at dksX7_worthNow_3 1 rfl rfl)
theorem dX7_worthNow_73 : decode cX7_worthNow 73 = .ok (.iand, 1) := dk_126 (dk_at dksX7_worthNow_3 2 rfl rfl)
theorem dX7_worthNow_74 : decode cX7_worthNow 74 = .ok (.iconst 1, 1) := dk_4 (dk_at dksX7_worthNow_3 3 rfl rfl)
theorem dX7_worthNow_75 : decode cX7_worthNow 75 = .ok (.if_icmp .ne 7, 3) := dk_160 0 7 (dk_at dksX7_worthNow_3 4 rfl rfl)
theorem dX7_worthNow_78 : decode cX7_worthNow 78 = .ok (.iconst 1, 1) := dk_4 (dk_at dksX7_worthNow_3 7 rfl rfl)
theorem dX7_worthNow_79 : decode cX7_worthNow 79 = .ok (.goto 4, 3) := dk_167 0 4 (dk_at dksX7_worthNow_3 8 rfl rfl)
theorem dX7_worthNow_82 : decode cX7_worthNow 82 = .ok (.iconst 0, 1) := dk_3 (dk_at dksX7_worthNow_3 11 rfl rfl)
theorem dX7_worthNow_83 : decode cX7_worthNow 83 = .ok (.istore 7, 2) := dk_54 7 (dk_at dksX7_worthNow_3 12 rfl rfl)
theorem dX7_worthNow_85 : decode cX7_worthNow 85 = .ok (.iload 7, 2) := dk_21 7 (dk_at dksX7_worthNow_3 14 rfl rfl)
theorem dX7_worthNow_87 : decode cX7_worthNow 87 = .ok (.ifCond .eq 35, 3) := dk_153 0 35 (dk_at dksX7_worthNow_3 16 rfl rfl)
theorem dX7_worthNow_90 : decode cX7_worthNow 90 = .ok (.aload_n 0, 1) := dk_42 (dk_at dksX7_worthNow_3 19 rfl rfl)
theorem dX7_worthNow_91 : decode cX7_worthNow 91 = .ok (.getfield 89, 3) := dk_180 0 89 (dk_at dksX7_worthNow_3 20 rfl rfl)
theorem dX7_worthNow_94 : decode cX7_worthNow 94 = .ok (.bipush 6, 2) := dk_16 6 (dk_at dksX7_worthNow_4 0 rfl rfl)
theorem dX7_worthNow_96 : decode cX7_worthNow 96 = .ok (.iload_n 1, 1) := dk_27 (dk_at dksX7_worthNow_4 2 rfl rfl)
theorem dX7_worthNow_97 : decode cX7_worthNow 97 = .ok (.imul, 1) := dk_104 (dk_at dksX7_worthNow_4 3 rfl rfl)
theorem dX7_worthNow_98 : decode cX7_worthNow 98 = .ok (.iload 6, 2) := dk_21 6 (dk_at dksX7_worthNow_4 4 rfl rfl)
theorem dX7_worthNow_100 : decode cX7_worthNow 100 = .ok (.iadd, 1) := dk_96 (dk_at dksX7_worthNow_4 6 rfl rfl)
theorem dX7_worthNow_101 : decode cX7_worthNow 101 = .ok (.iaload, 1) := dk_46 (dk_at dksX7_worthNow_4 7 rfl rfl)
theorem dX7_worthNow_102 : decode cX7_worthNow 102 = .ok (.iload 4, 2) := dk_21 4 (dk_at dksX7_worthNow_4 8 rfl rfl)
theorem dX7_worthNow_104 : decode cX7_worthNow 104 = .ok (.if_icmp .ge 18, 3) := dk_162 0 18 (dk_at dksX7_worthNow_4 10 rfl rfl)
theorem dX7_worthNow_107 : decode cX7_worthNow 107 = .ok (.aload_n 0, 1) := dk_42 (dk_at dksX7_worthNow_4 13 rfl rfl)
theorem dX7_worthNow_108 : decode cX7_worthNow 108 = .ok (.getfield 89, 3) := dk_180 0 89 (dk_at dksX7_worthNow_4 14 rfl rfl)
theorem dX7_worthNow_111 : decode cX7_worthNow 111 = .ok (.bipush 6, 2) := dk_16 6 (dk_at dksX7_worthNow_4 17 rfl rfl)
theorem dX7_worthNow_113 : decode cX7_worthNow 113 = .ok (.iload_n 1, 1) := dk_27 (dk_at dksX7_worthNow_4 19 rfl rfl)
theorem dX7_worthNow_114 : decode cX7_worthNow 114 = .ok (.imul, 1) := dk_104 (dk_at dksX7_worthNow_4 20 rfl rfl)
theorem dX7_worthNow_115 : decode cX7_worthNow 115 = .ok (.iload 6, 2) := dk_21 6 (dk_at dksX7_worthNow_4 21 rfl rfl)
theorem dX7_worthNow_117 : decode cX7_worthNow 117 = .ok (.iadd, 1) := dk_96 (dk_at dksX7_worthNow_4 23 rfl rfl)
theorem dX7_worthNow_118 : decode cX7_worthNow 118 = .ok (.iaload, 1) := dk_46 (dk_at dksX7_worthNow_5 0 rfl rfl)
theorem dX7_worthNow_119 : decode cX7_worthNow 119 = .ok (.goto 5, 3) := dk_167 0 5 (dk_at dksX7_worthNow_5 1 rfl rfl)
theorem dX7_worthNow_122 : decode cX7_worthNow 122 = .ok (.iload 4, 2) := dk_21 4 (dk_at dksX7_worthNow_5 4 rfl rfl)
theorem dX7_worthNow_124 : decode cX7_worthNow 124 = .ok (.istore 4, 2) := dk_54 4 (dk_at dksX7_worthNow_5 6 rfl rfl)
theorem dX7_worthNow_126 : decode cX7_worthNow 126 = .ok (.iload 5, 2) := dk_21 5 (dk_at dksX7_worthNow_5 8 rfl rfl)
theorem dX7_worthNow_128 : decode cX7_worthNow 128 = .ok (.aload_n 0, 1) := dk_42 (dk_at dksX7_worthNow_5 10 rfl rfl)
theorem dX7_worthNow_129 : decode cX7_worthNow 129 = .ok (.getfield 131, 3) := dk_180 0 131 (dk_at dksX7_worthNow_5 11 rfl rfl)
theorem dX7_worthNow_132 : decode cX7_worthNow 132 = .ok (.iload 6, 2) := dk_21 6 (dk_at dksX7_worthNow_5 14 rfl rfl)
theorem dX7_worthNow_134 : decode cX7_worthNow 134 = .ok (.iaload, 1) := dk_46 (dk_at dksX7_worthNow_5 16 rfl rfl)
theorem dX7_worthNow_135 : decode cX7_worthNow 135 = .ok (.iload_n 3, 1) := dk_29 (dk_at dksX7_worthNow_5 17 rfl rfl)
theorem dX7_worthNow_136 : decode cX7_worthNow 136 = .ok (.ishr, 1) := dk_122 (dk_at dksX7_worthNow_5 18 rfl rfl)
theorem dX7_worthNow_137 : decode cX7_worthNow 137 = .ok (.iconst 1, 1) := dk_4 (dk_at dksX7_worthNow_5 19 rfl rfl)
theorem dX7_worthNow_138 : decode cX7_worthNow 138 = .ok (.iand, 1) := dk_126 (dk_at dksX7_worthNow_5 20 rfl rfl)
theorem dX7_worthNow_139 : decode cX7_worthNow 139 = .ok (.iadd, 1) := dk_96 (dk_at dksX7_worthNow_5 21 rfl rfl)
theorem dX7_worthNow_140 : decode cX7_worthNow 140 = .ok (.istore 5, 2) := dk_54 5 (dk_at dksX7_worthNow_5 22 rfl rfl)
theorem dX7_worthNow_142 : decode cX7_worthNow 142 = .ok (.iinc 6 1, 3) := dk_132 6 1 (dk_at dksX7_worthNow_6 0 rfl rfl)
theorem dX7_worthNow_145 : decode cX7_worthNow 145 = .ok (.goto (-109), 3) := dk_167 255 147 (dk_at dksX7_worthNow_6 3 rfl rfl)
theorem dX7_worthNow_148 : decode cX7_worthNow 148 = .ok (.iload_n 2, 1) := dk_28 (dk_at dksX7_worthNow_6 6 rfl rfl)
theorem dX7_worthNow_149 : decode cX7_worthNow 149 = .ok (.aload_n 0, 1) := dk_42 (dk_at dksX7_worthNow_6 7 rfl rfl)
theorem dX7_worthNow_150 : decode cX7_worthNow 150 = .ok (.iload_n 1, 1) := dk_27 (dk_at dksX7_worthNow_6 8 rfl rfl)
theorem dX7_worthNow_151 : decode cX7_worthNow 151 = .ok (.iload_n 3, 1) := dk_29 (dk_at dksX7_worthNow_6 9 rfl rfl)
theorem dX7_worthNow_152 : decode cX7_worthNow 152 = .ok (.iload 4, 2) := dk_21 4 (dk_at dksX7_worthNow_6 10 rfl rfl)
theorem dX7_worthNow_154 : decode cX7_worthNow 154 = .ok (.iload 5, 2) := dk_21 5 (dk_at dksX7_worthNow_6 12 rfl rfl)
theorem dX7_worthNow_156 : decode cX7_worthNow 156 = .ok (.invokevirtual 252, 3) := dk_182 0 252 (dk_at dksX7_worthNow_6 14 rfl rfl)
theorem dX7_worthNow_159 : decode cX7_worthNow 159 = .ok (.iadd, 1) := dk_96 (dk_at dksX7_worthNow_6 17 rfl rfl)
theorem dX7_worthNow_160 : decode cX7_worthNow 160 = .ok (.istore_n 2, 1) := dk_61 (dk_at dksX7_worthNow_6 18 rfl rfl)
theorem dX7_worthNow_161 : decode cX7_worthNow 161 = .ok (.iinc 3 1, 3) := dk_132 3 1 (dk_at dksX7_worthNow_6 19 rfl rfl)
theorem dX7_worthNow_164 : decode cX7_worthNow 164 = .ok (.goto (-160), 3) := dk_167 255 96 (dk_at dksX7_worthNow_7 0 rfl rfl)
theorem dX7_worthNow_167 : decode cX7_worthNow 167 = .ok (.iload_n 2, 1) := dk_28 (dk_at dksX7_worthNow_7 3 rfl rfl)
theorem dX7_worthNow_168 : decode cX7_worthNow 168 = .ok (.ireturn, 1) := dk_172 (dk_at dksX7_worthNow_7 4 rfl rfl)
abbrev cX7_givingTold : ByteArray := prog_19_method_52_code
def yX7_givingTold : MethodName := ⟨RX7, "givingTold", "(II)I"⟩
def dkwX7_givingTold_2 : List UInt8 := [46, 8, 160, 0, 7, 3, 167, 0, 9, 4, 167, 0, 5, 16, 249, 172]
abbrev dktX7_givingTold_2 : List UInt8 := dkwX7_givingTold_2 ++ []
def dkwX7_givingTold_1 : List UInt8 := [28, 4, 160, 0, 12, 42, 180, 0, 50, 27, 46, 167, 0, 28, 28, 5, 160, 0, 21, 42, 180, 0, 47, 27]
abbrev dktX7_givingTold_1 : List UInt8 := dkwX7_givingTold_1 ++ dktX7_givingTold_2
def dkwX7_givingTold_0 : List UInt8 := [42, 27, 182, 1, 10, 154, 0, 6, 16, 251, 172, 28, 154, 0, 12, 42, 180, 0, 47, 27, 46, 167, 0, 42]
abbrev dktX7_givingTold_0 : List UInt8 := dkwX7_givingTold_0 ++ dktX7_givingTold_1
theorem dksX7_givingTold_0 : cX7_givingTold.data.toList.drop 0 = dktX7_givingTold_0 := by decide +kernel
theorem dksX7_givingTold_1 : cX7_givingTold.data.toList.drop 24 = dktX7_givingTold_1 := dk_seg dksX7_givingTold_0 24 rfl rfl
theorem dksX7_givingTold_2 : cX7_givingTold.data.toList.drop 48 = dktX7_givingTold_2 := dk_seg dksX7_givingTold_1 24 rfl rfl
theorem dX7_givingTold_0 : decode cX7_givingTold 0 = .ok (.aload_n 0, 1) := dk_42 (dk_at dksX7_givingTold_0 0 rfl rfl)
theorem dX7_givingTold_1 : decode cX7_givingTold 1 = .ok (.iload_n 1, 1) := dk_27 (dk_at dksX7_givingTold_0 1 rfl rfl)
theorem dX7_givingTold_2 : decode cX7_givingTold 2 = .ok (.invokevirtual 266, 3) := dk_182 1 10 (dk_at dksX7_givingTold_0 2 rfl rfl)
theorem dX7_givingTold_5 : decode cX7_givingTold 5 = .ok (.ifCond .ne 6, 3) := dk_154 0 6 (dk_at dksX7_givingTold_0 5 rfl rfl)
theorem dX7_givingTold_8 : decode cX7_givingTold 8 = .ok (.bipush (-5), 2) := dk_16 251 (dk_at dksX7_givingTold_0 8 rfl rfl)
theorem dX7_givingTold_10 : decode cX7_givingTold 10 = .ok (.ireturn, 1) := dk_172 (dk_at dksX7_givingTold_0 10 rfl rfl)
theorem dX7_givingTold_11 : decode cX7_givingTold 11 = .ok (.iload_n 2, 1) := dk_28 (dk_at dksX7_givingTold_0 11 rfl rfl)
theorem dX7_givingTold_12 : decode cX7_givingTold 12 = .ok (.ifCond .ne 12, 3) := dk_154 0 12 (dk_at dksX7_givingTold_0 12 rfl rfl)
theorem dX7_givingTold_15 : decode cX7_givingTold 15 = .ok (.aload_n 0, 1) := dk_42 (dk_at dksX7_givingTold_0 15 rfl rfl)
theorem dX7_givingTold_16 : decode cX7_givingTold 16 = .ok (.getfield 47, 3) := dk_180 0 47 (dk_at dksX7_givingTold_0 16 rfl rfl)
theorem dX7_givingTold_19 : decode cX7_givingTold 19 = .ok (.iload_n 1, 1) := dk_27 (dk_at dksX7_givingTold_0 19 rfl rfl)
theorem dX7_givingTold_20 : decode cX7_givingTold 20 = .ok (.iaload, 1) := dk_46 (dk_at dksX7_givingTold_0 20 rfl rfl)
theorem dX7_givingTold_21 : decode cX7_givingTold 21 = .ok (.goto 42, 3) := dk_167 0 42 (dk_at dksX7_givingTold_0 21 rfl rfl)
theorem dX7_givingTold_24 : decode cX7_givingTold 24 = .ok (.iload_n 2, 1) := dk_28 (dk_at dksX7_givingTold_1 0 rfl rfl)
theorem dX7_givingTold_25 : decode cX7_givingTold 25 = .ok (.iconst 1, 1) := dk_4 (dk_at dksX7_givingTold_1 1 rfl rfl)
theorem dX7_givingTold_26 : decode cX7_givingTold 26 = .ok (.if_icmp .ne 12, 3) := dk_160 0 12 (dk_at dksX7_givingTold_1 2 rfl rfl)
theorem dX7_givingTold_29 : decode cX7_givingTold 29 = .ok (.aload_n 0, 1) := dk_42 (dk_at dksX7_givingTold_1 5 rfl rfl)
theorem dX7_givingTold_30 : decode cX7_givingTold 30 = .ok (.getfield 50, 3) := dk_180 0 50 (dk_at dksX7_givingTold_1 6 rfl rfl)
theorem dX7_givingTold_33 : decode cX7_givingTold 33 = .ok (.iload_n 1, 1) := dk_27 (dk_at dksX7_givingTold_1 9 rfl rfl)
theorem dX7_givingTold_34 : decode cX7_givingTold 34 = .ok (.iaload, 1) := dk_46 (dk_at dksX7_givingTold_1 10 rfl rfl)
theorem dX7_givingTold_35 : decode cX7_givingTold 35 = .ok (.goto 28, 3) := dk_167 0 28 (dk_at dksX7_givingTold_1 11 rfl rfl)
theorem dX7_givingTold_38 : decode cX7_givingTold 38 = .ok (.iload_n 2, 1) := dk_28 (dk_at dksX7_givingTold_1 14 rfl rfl)
theorem dX7_givingTold_39 : decode cX7_givingTold 39 = .ok (.iconst 2, 1) := dk_5 (dk_at dksX7_givingTold_1 15 rfl rfl)
theorem dX7_givingTold_40 : decode cX7_givingTold 40 = .ok (.if_icmp .ne 21, 3) := dk_160 0 21 (dk_at dksX7_givingTold_1 16 rfl rfl)
theorem dX7_givingTold_43 : decode cX7_givingTold 43 = .ok (.aload_n 0, 1) := dk_42 (dk_at dksX7_givingTold_1 19 rfl rfl)
theorem dX7_givingTold_44 : decode cX7_givingTold 44 = .ok (.getfield 47, 3) := dk_180 0 47 (dk_at dksX7_givingTold_1 20 rfl rfl)
theorem dX7_givingTold_47 : decode cX7_givingTold 47 = .ok (.iload_n 1, 1) := dk_27 (dk_at dksX7_givingTold_1 23 rfl rfl)
theorem dX7_givingTold_48 : decode cX7_givingTold 48 = .ok (.iaload, 1) := dk_46 (dk_at dksX7_givingTold_2 0 rfl rfl)
theorem dX7_givingTold_49 : decode cX7_givingTold 49 = .ok (.iconst 5, 1) := dk_8 (dk_at dksX7_givingTold_2 1 rfl rfl)
theorem dX7_givingTold_50 : decode cX7_givingTold 50 = .ok (.if_icmp .ne 7, 3) := dk_160 0 7 (dk_at dksX7_givingTold_2 2 rfl rfl)
theorem dX7_givingTold_53 : decode cX7_givingTold 53 = .ok (.iconst 0, 1) := dk_3 (dk_at dksX7_givingTold_2 5 rfl rfl)
theorem dX7_givingTold_54 : decode cX7_givingTold 54 = .ok (.goto 9, 3) := dk_167 0 9 (dk_at dksX7_givingTold_2 6 rfl rfl)
theorem dX7_givingTold_57 : decode cX7_givingTold 57 = .ok (.iconst 1, 1) := dk_4 (dk_at dksX7_givingTold_2 9 rfl rfl)
theorem dX7_givingTold_58 : decode cX7_givingTold 58 = .ok (.goto 5, 3) := dk_167 0 5 (dk_at dksX7_givingTold_2 10 rfl rfl)
theorem dX7_givingTold_61 : decode cX7_givingTold 61 = .ok (.bipush (-7), 2) := dk_16 249 (dk_at dksX7_givingTold_2 13 rfl rfl)
theorem dX7_givingTold_63 : decode cX7_givingTold 63 = .ok (.ireturn, 1) := dk_172 (dk_at dksX7_givingTold_2 15 rfl rfl)
abbrev cX7_can : ByteArray := prog_19_method_56_code
def yX7_can : MethodName := ⟨RX7, "can", "()I"⟩
def dkwX7_can_1 : List UInt8 := [162, 0, 19, 132, 1, 1, 42, 42, 182, 1, 44, 3, 182, 1, 47, 61, 167, 255, 233, 27, 172]
abbrev dktX7_can_1 : List UInt8 := dkwX7_can_1 ++ []
def dkwX7_can_0 : List UInt8 := [42, 182, 1, 22, 3, 60, 42, 42, 182, 1, 44, 4, 182, 1, 47, 61, 28, 153, 0, 25, 27, 18, 218]
abbrev dktX7_can_0 : List UInt8 := dkwX7_can_0 ++ dktX7_can_1
theorem dksX7_can_0 : cX7_can.data.toList.drop 0 = dktX7_can_0 := by decide +kernel
theorem dksX7_can_1 : cX7_can.data.toList.drop 23 = dktX7_can_1 := dk_seg dksX7_can_0 23 rfl rfl
theorem dX7_can_0 : decode cX7_can 0 = .ok (.aload_n 0, 1) := dk_42 (dk_at dksX7_can_0 0 rfl rfl)
theorem dX7_can_1 : decode cX7_can 1 = .ok (.invokevirtual 278, 3) := dk_182 1 22 (dk_at dksX7_can_0 1 rfl rfl)
theorem dX7_can_4 : decode cX7_can 4 = .ok (.iconst 0, 1) := dk_3 (dk_at dksX7_can_0 4 rfl rfl)
theorem dX7_can_5 : decode cX7_can 5 = .ok (.istore_n 1, 1) := dk_60 (dk_at dksX7_can_0 5 rfl rfl)
theorem dX7_can_6 : decode cX7_can 6 = .ok (.aload_n 0, 1) := dk_42 (dk_at dksX7_can_0 6 rfl rfl)
theorem dX7_can_7 : decode cX7_can 7 = .ok (.aload_n 0, 1) := dk_42 (dk_at dksX7_can_0 7 rfl rfl)
theorem dX7_can_8 : decode cX7_can 8 = .ok (.invokevirtual 300, 3) := dk_182 1 44 (dk_at dksX7_can_0 8 rfl rfl)
theorem dX7_can_11 : decode cX7_can 11 = .ok (.iconst 1, 1) := dk_4 (dk_at dksX7_can_0 11 rfl rfl)
theorem dX7_can_12 : decode cX7_can 12 = .ok (.invokevirtual 303, 3) := dk_182 1 47 (dk_at dksX7_can_0 12 rfl rfl)
theorem dX7_can_15 : decode cX7_can 15 = .ok (.istore_n 2, 1) := dk_61 (dk_at dksX7_can_0 15 rfl rfl)
theorem dX7_can_16 : decode cX7_can 16 = .ok (.iload_n 2, 1) := dk_28 (dk_at dksX7_can_0 16 rfl rfl)
theorem dX7_can_17 : decode cX7_can 17 = .ok (.ifCond .eq 25, 3) := dk_153 0 25 (dk_at dksX7_can_0 17 rfl rfl)
theorem dX7_can_20 : decode cX7_can 20 = .ok (.iload_n 1, 1) := dk_27 (dk_at dksX7_can_0 20 rfl rfl)
theorem dX7_can_21 : decode cX7_can 21 = .ok (.ldc 218, 2) := dk_18 218 (dk_at dksX7_can_0 21 rfl rfl)
theorem dX7_can_23 : decode cX7_can 23 = .ok (.if_icmp .ge 19, 3) := dk_162 0 19 (dk_at dksX7_can_1 0 rfl rfl)
theorem dX7_can_26 : decode cX7_can 26 = .ok (.iinc 1 1, 3) := dk_132 1 1 (dk_at dksX7_can_1 3 rfl rfl)
theorem dX7_can_29 : decode cX7_can 29 = .ok (.aload_n 0, 1) := dk_42 (dk_at dksX7_can_1 6 rfl rfl)
theorem dX7_can_30 : decode cX7_can 30 = .ok (.aload_n 0, 1) := dk_42 (dk_at dksX7_can_1 7 rfl rfl)
theorem dX7_can_31 : decode cX7_can 31 = .ok (.invokevirtual 300, 3) := dk_182 1 44 (dk_at dksX7_can_1 8 rfl rfl)
theorem dX7_can_34 : decode cX7_can 34 = .ok (.iconst 0, 1) := dk_3 (dk_at dksX7_can_1 11 rfl rfl)
theorem dX7_can_35 : decode cX7_can 35 = .ok (.invokevirtual 303, 3) := dk_182 1 47 (dk_at dksX7_can_1 12 rfl rfl)
theorem dX7_can_38 : decode cX7_can 38 = .ok (.istore_n 2, 1) := dk_61 (dk_at dksX7_can_1 15 rfl rfl)
theorem dX7_can_39 : decode cX7_can 39 = .ok (.goto (-23), 3) := dk_167 255 233 (dk_at dksX7_can_1 16 rfl rfl)
theorem dX7_can_42 : decode cX7_can 42 = .ok (.iload_n 1, 1) := dk_27 (dk_at dksX7_can_1 19 rfl rfl)
theorem dX7_can_43 : decode cX7_can 43 = .ok (.ireturn, 1) := dk_172 (dk_at dksX7_can_1 20 rfl rfl)
abbrev cX7_all : ByteArray := prog_19_method_55_code
def yX7_all : MethodName := ⟨RX7, "all", "()I"⟩
def dkwX7_all_0 : List UInt8 := [4, 42, 180, 0, 151, 120, 4, 100, 172]
abbrev dktX7_all_0 : List UInt8 := dkwX7_all_0 ++ []
theorem dksX7_all_0 : cX7_all.data.toList.drop 0 = dktX7_all_0 := by decide +kernel
theorem dX7_all_0 : decode cX7_all 0 = .ok (.iconst 1, 1) := dk_4 (dk_at dksX7_all_0 0 rfl rfl)
theorem dX7_all_1 : decode cX7_all 1 = .ok (.aload_n 0, 1) := dk_42 (dk_at dksX7_all_0 1 rfl rfl)
theorem dX7_all_2 : decode cX7_all 2 = .ok (.getfield 151, 3) := dk_180 0 151 (dk_at dksX7_all_0 2 rfl rfl)
theorem dX7_all_5 : decode cX7_all 5 = .ok (.ishl, 1) := dk_120 (dk_at dksX7_all_0 5 rfl rfl)
theorem dX7_all_6 : decode cX7_all 6 = .ok (.iconst 1, 1) := dk_4 (dk_at dksX7_all_0 6 rfl rfl)
theorem dX7_all_7 : decode cX7_all 7 = .ok (.isub, 1) := dk_100 (dk_at dksX7_all_0 7 rfl rfl)
theorem dX7_all_8 : decode cX7_all 8 = .ok (.ireturn, 1) := dk_172 (dk_at dksX7_all_0 8 rfl rfl)
abbrev cX7_nextWay : ByteArray := prog_19_method_54_code
def yX7_nextWay : MethodName := ⟨RX7, "nextWay", "(IZ)Z"⟩
def dkwX7_nextWay_9 : List UInt8 := [167, 255, 94, 29, 42, 180, 0, 151, 160, 0, 7, 4, 167, 0, 4, 3, 172]
abbrev dktX7_nextWay_9 : List UInt8 := dkwX7_nextWay_9 ++ []
def dkwX7_nextWay_8 : List UInt8 := [42, 180, 0, 131, 29, 46, 167, 0, 4, 3, 79, 29, 21, 4, 153, 0, 7, 4, 167, 0, 4, 2, 96, 62]
abbrev dktX7_nextWay_8 : List UInt8 := dkwX7_nextWay_8 ++ dktX7_nextWay_9
def dkwX7_nextWay_7 : List UInt8 := [180, 0, 25, 120, 162, 0, 7, 4, 167, 0, 4, 3, 54, 4, 42, 180, 0, 131, 29, 21, 4, 153, 0, 12]
abbrev dktX7_nextWay_7 : List UInt8 := dkwX7_nextWay_7 ++ dktX7_nextWay_8
def dkwX7_nextWay_6 : List UInt8 := [154, 0, 16, 42, 180, 0, 131, 29, 92, 46, 4, 120, 79, 167, 255, 223, 42, 180, 0, 131, 29, 46, 4, 42]
abbrev dktX7_nextWay_6 : List UInt8 := dkwX7_nextWay_6 ++ dktX7_nextWay_7
def dkwX7_nextWay_5 : List UInt8 := [120, 79, 42, 180, 0, 131, 29, 46, 4, 42, 180, 0, 25, 120, 162, 0, 24, 42, 29, 182, 1, 41]
abbrev dktX7_nextWay_5 : List UInt8 := dkwX7_nextWay_5 ++ dktX7_nextWay_6
def dkwX7_nextWay_4 : List UInt8 := [180, 0, 131, 29, 42, 180, 0, 131, 29, 46, 154, 0, 7, 4, 167, 0, 11, 42, 180, 0, 131, 29, 46, 4]
abbrev dktX7_nextWay_4 : List UInt8 := dkwX7_nextWay_4 ++ dktX7_nextWay_5
def dkwX7_nextWay_3 : List UInt8 := [180, 0, 131, 29, 3, 79, 29, 21, 4, 153, 0, 7, 4, 167, 0, 4, 2, 96, 62, 167, 255, 216, 42]
abbrev dktX7_nextWay_3 : List UInt8 := dkwX7_nextWay_3 ++ dktX7_nextWay_4
def dkwX7_nextWay_2 : List UInt8 := [167, 255, 236, 29, 155, 0, 164, 29, 42, 180, 0, 151, 162, 0, 156, 27, 29, 122, 4, 126, 154, 0, 26, 42]
abbrev dktX7_nextWay_2 : List UInt8 := dkwX7_nextWay_2 ++ dktX7_nextWay_3
def dkwX7_nextWay_1 : List UInt8 := [54, 5, 21, 5, 42, 180, 0, 151, 162, 0, 17, 42, 180, 0, 131, 21, 5, 3, 79, 132, 5, 1]
abbrev dktX7_nextWay_1 : List UInt8 := dkwX7_nextWay_1 ++ dktX7_nextWay_2
def dkwX7_nextWay_0 : List UInt8 := [28, 153, 0, 7, 3, 167, 0, 9, 42, 180, 0, 151, 4, 100, 62, 28, 54, 4, 28, 153, 0, 29, 3]
abbrev dktX7_nextWay_0 : List UInt8 := dkwX7_nextWay_0 ++ dktX7_nextWay_1
theorem dksX7_nextWay_0 : cX7_nextWay.data.toList.drop 0 = dktX7_nextWay_0 := by decide +kernel
theorem dksX7_nextWay_1 : cX7_nextWay.data.toList.drop 23 = dktX7_nextWay_1 := dk_seg dksX7_nextWay_0 23 rfl rfl
theorem dksX7_nextWay_2 : cX7_nextWay.data.toList.drop 45 = dktX7_nextWay_2 := dk_seg dksX7_nextWay_1 22 rfl rfl
theorem dksX7_nextWay_3 : cX7_nextWay.data.toList.drop 69 = dktX7_nextWay_3 := dk_seg dksX7_nextWay_2 24 rfl rfl
theorem dksX7_nextWay_4 : cX7_nextWay.data.toList.drop 92 = dktX7_nextWay_4 := dk_seg dksX7_nextWay_3 23 rfl rfl
theorem dksX7_nextWay_5 : cX7_nextWay.data.toList.drop 116 = dktX7_nextWay_5 := dk_seg dksX7_nextWay_4 24 rfl rfl
theorem dksX7_nextWay_6 : cX7_nextWay.data.toList.drop 138 = dktX7_nextWay_6 := dk_seg dksX7_nextWay_5 22 rfl rfl
theorem dksX7_nextWay_7 : cX7_nextWay.data.toList.drop 162 = dktX7_nextWay_7 := dk_seg dksX7_nextWay_6 24 rfl rfl
theorem dksX7_nextWay_8 : cX7_nextWay.data.toList.drop 186 = dktX7_nextWay_8 := dk_seg dksX7_nextWay_7 24 rfl rfl
theorem dksX7_nextWay_9 : cX7_nextWay.data.toList.drop 210 = dktX7_nextWay_9 := dk_seg dksX7_nextWay_8 24 rfl rfl
theorem dX7_nextWay_0 : decode cX7_nextWay 0 = .ok (.iload_n 2, 1) := dk_28 (dk_at dksX7_nextWay_0 0 rfl rfl)
theorem dX7_nextWay_1 : decode cX7_nextWay 1 = .ok (.ifCond .eq 7, 3) := dk_153 0 7 (dk_at dksX7_nextWay_0 1 rfl rfl)
theorem dX7_nextWay_4 : decode cX7_nextWay 4 = .ok (.iconst 0, 1) := dk_3 (dk_at dksX7_nextWay_0 4 rfl rfl)
theorem dX7_nextWay_5 : decode cX7_nextWay 5 = .ok (.goto 9, 3) := dk_167 0 9 (dk_at dksX7_nextWay_0 5 rfl rfl)
theorem dX7_nextWay_8 : decode cX7_nextWay 8 = .ok (.aload_n 0, 1) := dk_42 (dk_at dksX7_nextWay_0 8 rfl rfl)
theorem dX7_nextWay_9 : decode cX7_nextWay 9 = .ok (.getfield 151, 3) := dk_180 0 151 (dk_at dksX7_nextWay_0 9 rfl rfl)
theorem dX7_nextWay_12 : decode cX7_nextWay 12 = .ok (.iconst 1, 1) := dk_4 (dk_at dksX7_nextWay_0 12 rfl rfl)
theorem dX7_nextWay_13 : decode cX7_nextWay 13 = .ok (.isub, 1) := dk_100 (dk_at dksX7_nextWay_0 13 rfl rfl)
theorem dX7_nextWay_14 : decode cX7_nextWay 14 = .ok (.istore_n 3, 1) := dk_62 (dk_at dksX7_nextWay_0 14 rfl rfl)
theorem dX7_nextWay_15 : decode cX7_nextWay 15 = .ok (.iload_n 2, 1) := dk_28 (dk_at dksX7_nextWay_0 15 rfl rfl)
theorem dX7_nextWay_16 : decode cX7_nextWay 16 = .ok (.istore 4, 2) := dk_54 4 (dk_at dksX7_nextWay_0 16 rfl rfl)
theorem dX7_nextWay_18 : decode cX7_nextWay 18 = .ok (.iload_n 2, 1) := dk_28 (dk_at dksX7_nextWay_0 18 rfl rfl)
theorem dX7_nextWay_19 : decode cX7_nextWay 19 = .ok (.ifCond .eq 29, 3) := dk_153 0 29 (dk_at dksX7_nextWay_0 19 rfl rfl)
theorem dX7_nextWay_22 : decode cX7_nextWay 22 = .ok (.iconst 0, 1) := dk_3 (dk_at dksX7_nextWay_0 22 rfl rfl)
theorem dX7_nextWay_23 : decode cX7_nextWay 23 = .ok (.istore 5, 2) := dk_54 5 (dk_at dksX7_nextWay_1 0 rfl rfl)
theorem dX7_nextWay_25 : decode cX7_nextWay 25 = .ok (.iload 5, 2) := dk_21 5 (dk_at dksX7_nextWay_1 2 rfl rfl)
theorem dX7_nextWay_27 : decode cX7_nextWay 27 = .ok (.aload_n 0, 1) := dk_42 (dk_at dksX7_nextWay_1 4 rfl rfl)
theorem dX7_nextWay_28 : decode cX7_nextWay 28 = .ok (.getfield 151, 3) := dk_180 0 151 (dk_at dksX7_nextWay_1 5 rfl rfl)
theorem dX7_nextWay_31 : decode cX7_nextWay 31 = .ok (.if_icmp .ge 17, 3) := dk_162 0 17 (dk_at dksX7_nextWay_1 8 rfl rfl)
theorem dX7_nextWay_34 : decode cX7_nextWay 34 = .ok (.aload_n 0, 1) := dk_42 (dk_at dksX7_nextWay_1 11 rfl rfl)
theorem dX7_nextWay_35 : decode cX7_nextWay 35 = .ok (.getfield 131, 3) := dk_180 0 131 (dk_at dksX7_nextWay_1 12 rfl rfl)
theorem dX7_nextWay_38 : decode cX7_nextWay 38 = .ok (.iload 5, 2) := dk_21 5 (dk_at dksX7_nextWay_1 15 rfl rfl)
theorem dX7_nextWay_40 : decode cX7_nextWay 40 = .ok (.iconst 0, 1) := dk_3 (dk_at dksX7_nextWay_1 17 rfl rfl)
theorem dX7_nextWay_41 : decode cX7_nextWay 41 = .ok (.iastore, 1) := dk_79 (dk_at dksX7_nextWay_1 18 rfl rfl)
theorem dX7_nextWay_42 : decode cX7_nextWay 42 = .ok (.iinc 5 1, 3) := dk_132 5 1 (dk_at dksX7_nextWay_1 19 rfl rfl)
theorem dX7_nextWay_45 : decode cX7_nextWay 45 = .ok (.goto (-20), 3) := dk_167 255 236 (dk_at dksX7_nextWay_2 0 rfl rfl)
theorem dX7_nextWay_48 : decode cX7_nextWay 48 = .ok (.iload_n 3, 1) := dk_29 (dk_at dksX7_nextWay_2 3 rfl rfl)
theorem dX7_nextWay_49 : decode cX7_nextWay 49 = .ok (.ifCond .lt 164, 3) := dk_155 0 164 (dk_at dksX7_nextWay_2 4 rfl rfl)
theorem dX7_nextWay_52 : decode cX7_nextWay 52 = .ok (.iload_n 3, 1) := dk_29 (dk_at dksX7_nextWay_2 7 rfl rfl)
theorem dX7_nextWay_53 : decode cX7_nextWay 53 = .ok (.aload_n 0, 1) := dk_42 (dk_at dksX7_nextWay_2 8 rfl rfl)
theorem dX7_nextWay_54 : decode cX7_nextWay 54 = .ok (.getfield 151, 3) := dk_180 0 151 (dk_at dksX7_nextWay_2 9 rfl rfl)
theorem dX7_nextWay_57 : decode cX7_nextWay 57 = .ok (.if_icmp .ge 156, 3) := dk_162 0 156 (dk_at dksX7_nextWay_2 12 rfl rfl)
theorem dX7_nextWay_60 : decode cX7_nextWay 60 = .ok (.iload_n 1, 1) := dk_27 (dk_at dksX7_nextWay_2 15 rfl rfl)
theorem dX7_nextWay_61 : decode cX7_nextWay 61 = .ok (.iload_n 3, 1) := dk_29 (dk_at dksX7_nextWay_2 16 rfl rfl)
theorem dX7_nextWay_62 : decode cX7_nextWay 62 = .ok (.ishr, 1) := dk_122 (dk_at dksX7_nextWay_2 17 rfl rfl)
theorem dX7_nextWay_63 : decode cX7_nextWay 63 = .ok (.iconst 1, 1) := dk_4 (dk_at dksX7_nextWay_2 18 rfl rfl)
theorem dX7_nextWay_64 : decode cX7_nextWay 64 = .ok (.iand, 1) := dk_126 (dk_at dksX7_nextWay_2 19 rfl rfl)
theorem dX7_nextWay_65 : decode cX7_nextWay 65 = .ok (.ifCond .ne 26, 3) := dk_154 0 26 (dk_at dksX7_nextWay_2 20 rfl rfl)
theorem dX7_nextWay_68 : decode cX7_nextWay 68 = .ok (.aload_n 0, 1) := dk_42 (dk_at dksX7_nextWay_2 23 rfl rfl)
theorem dX7_nextWay_69 : decode cX7_nextWay 69 = .ok (.getfield 131, 3) := dk_180 0 131 (dk_at dksX7_nextWay_3 0 rfl rfl)
theorem dX7_nextWay_72 : decode cX7_nextWay 72 = .ok (.iload_n 3, 1) := dk_29 (dk_at dksX7_nextWay_3 3 rfl rfl)
theorem dX7_nextWay_73 : decode cX7_nextWay 73 = .ok (.iconst 0, 1) := dk_3 (dk_at dksX7_nextWay_3 4 rfl rfl)
theorem dX7_nextWay_74 : decode cX7_nextWay 74 = .ok (.iastore, 1) := dk_79 (dk_at dksX7_nextWay_3 5 rfl rfl)
theorem dX7_nextWay_75 : decode cX7_nextWay 75 = .ok (.iload_n 3, 1) := dk_29 (dk_at dksX7_nextWay_3 6 rfl rfl)
theorem dX7_nextWay_76 : decode cX7_nextWay 76 = .ok (.iload 4, 2) := dk_21 4 (dk_at dksX7_nextWay_3 7 rfl rfl)
theorem dX7_nextWay_78 : decode cX7_nextWay 78 = .ok (.ifCond .eq 7, 3) := dk_153 0 7 (dk_at dksX7_nextWay_3 9 rfl rfl)
theorem dX7_nextWay_81 : decode cX7_nextWay 81 = .ok (.iconst 1, 1) := dk_4 (dk_at dksX7_nextWay_3 12 rfl rfl)
theorem dX7_nextWay_82 : decode cX7_nextWay 82 = .ok (.goto 4, 3) := dk_167 0 4 (dk_at dksX7_nextWay_3 13 rfl rfl)
theorem dX7_nextWay_85 : decode cX7_nextWay 85 = .ok (.iconst (-1), 1) := dk_2 (dk_at dksX7_nextWay_3 16 rfl rfl)
theorem dX7_nextWay_86 : decode cX7_nextWay 86 = .ok (.iadd, 1) := dk_96 (dk_at dksX7_nextWay_3 17 rfl rfl)
theorem dX7_nextWay_87 : decode cX7_nextWay 87 = .ok (.istore_n 3, 1) := dk_62 (dk_at dksX7_nextWay_3 18 rfl rfl)
theorem dX7_nextWay_88 : decode cX7_nextWay 88 = .ok (.goto (-40), 3) := dk_167 255 216 (dk_at dksX7_nextWay_3 19 rfl rfl)
theorem dX7_nextWay_91 : decode cX7_nextWay 91 = .ok (.aload_n 0, 1) := dk_42 (dk_at dksX7_nextWay_3 22 rfl rfl)
theorem dX7_nextWay_92 : decode cX7_nextWay 92 = .ok (.getfield 131, 3) := dk_180 0 131 (dk_at dksX7_nextWay_4 0 rfl rfl)
theorem dX7_nextWay_95 : decode cX7_nextWay 95 = .ok (.iload_n 3, 1) := dk_29 (dk_at dksX7_nextWay_4 3 rfl rfl)
theorem dX7_nextWay_96 : decode cX7_nextWay 96 = .ok (.aload_n 0, 1) := dk_42 (dk_at dksX7_nextWay_4 4 rfl rfl)
theorem dX7_nextWay_97 : decode cX7_nextWay 97 = .ok (.getfield 131, 3) := dk_180 0 131 (dk_at dksX7_nextWay_4 5 rfl rfl)
theorem dX7_nextWay_100 : decode cX7_nextWay 100 = .ok (.iload_n 3, 1) := dk_29 (dk_at dksX7_nextWay_4 8 rfl rfl)
theorem dX7_nextWay_101 : decode cX7_nextWay 101 = .ok (.iaload, 1) := dk_46 (dk_at dksX7_nextWay_4 9 rfl rfl)
theorem dX7_nextWay_102 : decode cX7_nextWay 102 = .ok (.ifCond .ne 7, 3) := dk_154 0 7 (dk_at dksX7_nextWay_4 10 rfl rfl)
theorem dX7_nextWay_105 : decode cX7_nextWay 105 = .ok (.iconst 1, 1) := dk_4 (dk_at dksX7_nextWay_4 13 rfl rfl)
theorem dX7_nextWay_106 : decode cX7_nextWay 106 = .ok (.goto 11, 3) := dk_167 0 11 (dk_at dksX7_nextWay_4 14 rfl rfl)
theorem dX7_nextWay_109 : decode cX7_nextWay 109 = .ok (.aload_n 0, 1) := dk_42 (dk_at dksX7_nextWay_4 17 rfl rfl)
theorem dX7_nextWay_110 : decode cX7_nextWay 110 = .ok (.getfield 131, 3) := dk_180 0 131 (dk_at dksX7_nextWay_4 18 rfl rfl)
theorem dX7_nextWay_113 : decode cX7_nextWay 113 = .ok (.iload_n 3, 1) := dk_29 (dk_at dksX7_nextWay_4 21 rfl rfl)
theorem dX7_nextWay_114 : decode cX7_nextWay 114 = .ok (.iaload, 1) := dk_46 (dk_at dksX7_nextWay_4 22 rfl rfl)
theorem dX7_nextWay_115 : decode cX7_nextWay 115 = .ok (.iconst 1, 1) := dk_4 (dk_at dksX7_nextWay_4 23 rfl rfl)
theorem dX7_nextWay_116 : decode cX7_nextWay 116 = .ok (.ishl, 1) := dk_120 (dk_at dksX7_nextWay_5 0 rfl rfl)
theorem dX7_nextWay_117 : decode cX7_nextWay 117 = .ok (.iastore, 1) := dk_79 (dk_at dksX7_nextWay_5 1 rfl rfl)
theorem dX7_nextWay_118 : decode cX7_nextWay 118 = .ok (.aload_n 0, 1) := dk_42 (dk_at dksX7_nextWay_5 2 rfl rfl)
theorem dX7_nextWay_119 : decode cX7_nextWay 119 = .ok (.getfield 131, 3) := dk_180 0 131 (dk_at dksX7_nextWay_5 3 rfl rfl)
theorem dX7_nextWay_122 : decode cX7_nextWay 122 = .ok (.iload_n 3, 1) := dk_29 (dk_at dksX7_nextWay_5 6 rfl rfl)
theorem dX7_nextWay_123 : decode cX7_nextWay 123 = .ok (.iaload, 1) := dk_46 (dk_at dksX7_nextWay_5 7 rfl rfl)
theorem dX7_nextWay_124 : decode cX7_nextWay 124 = .ok (.iconst 1, 1) := dk_4 (dk_at dksX7_nextWay_5 8 rfl rfl)
theorem dX7_nextWay_125 : decode cX7_nextWay 125 = .ok (.aload_n 0, 1) := dk_42 (dk_at dksX7_nextWay_5 9 rfl rfl)
theorem dX7_nextWay_126 : decode cX7_nextWay 126 = .ok (.getfield 25, 3) := dk_180 0 25 (dk_at dksX7_nextWay_5 10 rfl rfl)
theorem dX7_nextWay_129 : decode cX7_nextWay 129 = .ok (.ishl, 1) := dk_120 (dk_at dksX7_nextWay_5 13 rfl rfl)
theorem dX7_nextWay_130 : decode cX7_nextWay 130 = .ok (.if_icmp .ge 24, 3) := dk_162 0 24 (dk_at dksX7_nextWay_5 14 rfl rfl)
theorem dX7_nextWay_133 : decode cX7_nextWay 133 = .ok (.aload_n 0, 1) := dk_42 (dk_at dksX7_nextWay_5 17 rfl rfl)
theorem dX7_nextWay_134 : decode cX7_nextWay 134 = .ok (.iload_n 3, 1) := dk_29 (dk_at dksX7_nextWay_5 18 rfl rfl)
theorem dX7_nextWay_135 : decode cX7_nextWay 135 = .ok (.invokevirtual 297, 3) := dk_182 1 41 (dk_at dksX7_nextWay_5 19 rfl rfl)
theorem dX7_nextWay_138 : decode cX7_nextWay 138 = .ok (.ifCond .ne 16, 3) := dk_154 0 16 (dk_at dksX7_nextWay_6 0 rfl rfl)
theorem dX7_nextWay_141 : decode cX7_nextWay 141 = .ok (.aload_n 0, 1) := dk_42 (dk_at dksX7_nextWay_6 3 rfl rfl)
theorem dX7_nextWay_142 : decode cX7_nextWay 142 = .ok (.getfield 131, 3) := dk_180 0 131 (dk_at dksX7_nextWay_6 4 rfl rfl)
theorem dX7_nextWay_145 : decode cX7_nextWay 145 = .ok (.iload_n 3, 1) := dk_29 (dk_at dksX7_nextWay_6 7 rfl rfl)
theorem dX7_nextWay_146 : decode cX7_nextWay 146 = .ok (.dup2, 1) := dk_92 (dk_at dksX7_nextWay_6 8 rfl rfl)
theorem dX7_nextWay_147 : decode cX7_nextWay 147 = .ok (.iaload, 1) := dk_46 (dk_at dksX7_nextWay_6 9 rfl rfl)
theorem dX7_nextWay_148 : decode cX7_nextWay 148 = .ok (.iconst 1, 1) := dk_4 (dk_at dksX7_nextWay_6 10 rfl rfl)
theorem dX7_nextWay_149 : decode cX7_nextWay 149 = .ok (.ishl, 1) := dk_120 (dk_at dksX7_nextWay_6 11 rfl rfl)
theorem dX7_nextWay_150 : decode cX7_nextWay 150 = .ok (.iastore, 1) := dk_79 (dk_at dksX7_nextWay_6 12 rfl rfl)
theorem dX7_nextWay_151 : decode cX7_nextWay 151 = .ok (.goto (-33), 3) := dk_167 255 223 (dk_at dksX7_nextWay_6 13 rfl rfl)
theorem dX7_nextWay_154 : decode cX7_nextWay 154 = .ok (.aload_n 0, 1) := dk_42 (dk_at dksX7_nextWay_6 16 rfl rfl)
theorem dX7_nextWay_155 : decode cX7_nextWay 155 = .ok (.getfield 131, 3) := dk_180 0 131 (dk_at dksX7_nextWay_6 17 rfl rfl)
theorem dX7_nextWay_158 : decode cX7_nextWay 158 = .ok (.iload_n 3, 1) := dk_29 (dk_at dksX7_nextWay_6 20 rfl rfl)
theorem dX7_nextWay_159 : decode cX7_nextWay 159 = .ok (.iaload, 1) := dk_46 (dk_at dksX7_nextWay_6 21 rfl rfl)
theorem dX7_nextWay_160 : decode cX7_nextWay 160 = .ok (.iconst 1, 1) := dk_4 (dk_at dksX7_nextWay_6 22 rfl rfl)
theorem dX7_nextWay_161 : decode cX7_nextWay 161 = .ok (.aload_n 0, 1) := dk_42 (dk_at dksX7_nextWay_6 23 rfl rfl)
theorem dX7_nextWay_162 : decode cX7_nextWay 162 = .ok (.getfield 25, 3) := dk_180 0 25 (dk_at dksX7_nextWay_7 0 rfl rfl)
theorem dX7_nextWay_165 : decode cX7_nextWay 165 = .ok (.ishl, 1) := dk_120 (dk_at dksX7_nextWay_7 3 rfl rfl)
theorem dX7_nextWay_166 : decode cX7_nextWay 166 = .ok (.if_icmp .ge 7, 3) := dk_162 0 7 (dk_at dksX7_nextWay_7 4 rfl rfl)
theorem dX7_nextWay_169 : decode cX7_nextWay 169 = .ok (.iconst 1, 1) := dk_4 (dk_at dksX7_nextWay_7 7 rfl rfl)
theorem dX7_nextWay_170 : decode cX7_nextWay 170 = .ok (.goto 4, 3) := dk_167 0 4 (dk_at dksX7_nextWay_7 8 rfl rfl)
theorem dX7_nextWay_173 : decode cX7_nextWay 173 = .ok (.iconst 0, 1) := dk_3 (dk_at dksX7_nextWay_7 11 rfl rfl)
theorem dX7_nextWay_174 : decode cX7_nextWay 174 = .ok (.istore 4, 2) := dk_54 4 (dk_at dksX7_nextWay_7 12 rfl rfl)
theorem dX7_nextWay_176 : decode cX7_nextWay 176 = .ok (.aload_n 0, 1) := dk_42 (dk_at dksX7_nextWay_7 14 rfl rfl)
theorem dX7_nextWay_177 : decode cX7_nextWay 177 = .ok (.getfield 131, 3) := dk_180 0 131 (dk_at dksX7_nextWay_7 15 rfl rfl)
theorem dX7_nextWay_180 : decode cX7_nextWay 180 = .ok (.iload_n 3, 1) := dk_29 (dk_at dksX7_nextWay_7 18 rfl rfl)
theorem dX7_nextWay_181 : decode cX7_nextWay 181 = .ok (.iload 4, 2) := dk_21 4 (dk_at dksX7_nextWay_7 19 rfl rfl)
theorem dX7_nextWay_183 : decode cX7_nextWay 183 = .ok (.ifCond .eq 12, 3) := dk_153 0 12 (dk_at dksX7_nextWay_7 21 rfl rfl)
theorem dX7_nextWay_186 : decode cX7_nextWay 186 = .ok (.aload_n 0, 1) := dk_42 (dk_at dksX7_nextWay_8 0 rfl rfl)
theorem dX7_nextWay_187 : decode cX7_nextWay 187 = .ok (.getfield 131, 3) := dk_180 0 131 (dk_at dksX7_nextWay_8 1 rfl rfl)
theorem dX7_nextWay_190 : decode cX7_nextWay 190 = .ok (.iload_n 3, 1) := dk_29 (dk_at dksX7_nextWay_8 4 rfl rfl)
theorem dX7_nextWay_191 : decode cX7_nextWay 191 = .ok (.iaload, 1) := dk_46 (dk_at dksX7_nextWay_8 5 rfl rfl)
theorem dX7_nextWay_192 : decode cX7_nextWay 192 = .ok (.goto 4, 3) := dk_167 0 4 (dk_at dksX7_nextWay_8 6 rfl rfl)
theorem dX7_nextWay_195 : decode cX7_nextWay 195 = .ok (.iconst 0, 1) := dk_3 (dk_at dksX7_nextWay_8 9 rfl rfl)
theorem dX7_nextWay_196 : decode cX7_nextWay 196 = .ok (.iastore, 1) := dk_79 (dk_at dksX7_nextWay_8 10 rfl rfl)
theorem dX7_nextWay_197 : decode cX7_nextWay 197 = .ok (.iload_n 3, 1) := dk_29 (dk_at dksX7_nextWay_8 11 rfl rfl)
theorem dX7_nextWay_198 : decode cX7_nextWay 198 = .ok (.iload 4, 2) := dk_21 4 (dk_at dksX7_nextWay_8 12 rfl rfl)
theorem dX7_nextWay_200 : decode cX7_nextWay 200 = .ok (.ifCond .eq 7, 3) := dk_153 0 7 (dk_at dksX7_nextWay_8 14 rfl rfl)
theorem dX7_nextWay_203 : decode cX7_nextWay 203 = .ok (.iconst 1, 1) := dk_4 (dk_at dksX7_nextWay_8 17 rfl rfl)
theorem dX7_nextWay_204 : decode cX7_nextWay 204 = .ok (.goto 4, 3) := dk_167 0 4 (dk_at dksX7_nextWay_8 18 rfl rfl)
theorem dX7_nextWay_207 : decode cX7_nextWay 207 = .ok (.iconst (-1), 1) := dk_2 (dk_at dksX7_nextWay_8 21 rfl rfl)
theorem dX7_nextWay_208 : decode cX7_nextWay 208 = .ok (.iadd, 1) := dk_96 (dk_at dksX7_nextWay_8 22 rfl rfl)
theorem dX7_nextWay_209 : decode cX7_nextWay 209 = .ok (.istore_n 3, 1) := dk_62 (dk_at dksX7_nextWay_8 23 rfl rfl)
theorem dX7_nextWay_210 : decode cX7_nextWay 210 = .ok (.goto (-162), 3) := dk_167 255 94 (dk_at dksX7_nextWay_9 0 rfl rfl)
theorem dX7_nextWay_213 : decode cX7_nextWay 213 = .ok (.iload_n 3, 1) := dk_29 (dk_at dksX7_nextWay_9 3 rfl rfl)
theorem dX7_nextWay_214 : decode cX7_nextWay 214 = .ok (.aload_n 0, 1) := dk_42 (dk_at dksX7_nextWay_9 4 rfl rfl)
theorem dX7_nextWay_215 : decode cX7_nextWay 215 = .ok (.getfield 151, 3) := dk_180 0 151 (dk_at dksX7_nextWay_9 5 rfl rfl)
theorem dX7_nextWay_218 : decode cX7_nextWay 218 = .ok (.if_icmp .ne 7, 3) := dk_160 0 7 (dk_at dksX7_nextWay_9 8 rfl rfl)
theorem dX7_nextWay_221 : decode cX7_nextWay 221 = .ok (.iconst 1, 1) := dk_4 (dk_at dksX7_nextWay_9 11 rfl rfl)
theorem dX7_nextWay_222 : decode cX7_nextWay 222 = .ok (.goto 4, 3) := dk_167 0 4 (dk_at dksX7_nextWay_9 12 rfl rfl)
theorem dX7_nextWay_225 : decode cX7_nextWay 225 = .ok (.iconst 0, 1) := dk_3 (dk_at dksX7_nextWay_9 15 rfl rfl)
theorem dX7_nextWay_226 : decode cX7_nextWay 226 = .ok (.ireturn, 1) := dk_172 (dk_at dksX7_nextWay_9 16 rfl rfl)
abbrev cX7_isFree : ByteArray := prog_19_method_53_code
def yX7_isFree : MethodName := ⟨RX7, "isFree", "(I)Z"⟩
def dkwX7_isFree_1 : List UInt8 := [4, 172]
abbrev dktX7_isFree_1 : List UInt8 := dkwX7_isFree_1 ++ []
def dkwX7_isFree_0 : List UInt8 := [3, 61, 28, 27, 163, 0, 20, 42, 28, 27, 182, 1, 19, 153, 0, 5, 3, 172, 132, 2, 1, 167, 255, 237]
abbrev dktX7_isFree_0 : List UInt8 := dkwX7_isFree_0 ++ dktX7_isFree_1
theorem dksX7_isFree_0 : cX7_isFree.data.toList.drop 0 = dktX7_isFree_0 := by decide +kernel
theorem dksX7_isFree_1 : cX7_isFree.data.toList.drop 24 = dktX7_isFree_1 := dk_seg dksX7_isFree_0 24 rfl rfl
theorem dX7_isFree_0 : decode cX7_isFree 0 = .ok (.iconst 0, 1) := dk_3 (dk_at dksX7_isFree_0 0 rfl rfl)
theorem dX7_isFree_1 : decode cX7_isFree 1 = .ok (.istore_n 2, 1) := dk_61 (dk_at dksX7_isFree_0 1 rfl rfl)
theorem dX7_isFree_2 : decode cX7_isFree 2 = .ok (.iload_n 2, 1) := dk_28 (dk_at dksX7_isFree_0 2 rfl rfl)
theorem dX7_isFree_3 : decode cX7_isFree 3 = .ok (.iload_n 1, 1) := dk_27 (dk_at dksX7_isFree_0 3 rfl rfl)
theorem dX7_isFree_4 : decode cX7_isFree 4 = .ok (.if_icmp .gt 20, 3) := dk_163 0 20 (dk_at dksX7_isFree_0 4 rfl rfl)
theorem dX7_isFree_7 : decode cX7_isFree 7 = .ok (.aload_n 0, 1) := dk_42 (dk_at dksX7_isFree_0 7 rfl rfl)
theorem dX7_isFree_8 : decode cX7_isFree 8 = .ok (.iload_n 2, 1) := dk_28 (dk_at dksX7_isFree_0 8 rfl rfl)
theorem dX7_isFree_9 : decode cX7_isFree 9 = .ok (.iload_n 1, 1) := dk_27 (dk_at dksX7_isFree_0 9 rfl rfl)
theorem dX7_isFree_10 : decode cX7_isFree 10 = .ok (.invokevirtual 275, 3) := dk_182 1 19 (dk_at dksX7_isFree_0 10 rfl rfl)
theorem dX7_isFree_13 : decode cX7_isFree 13 = .ok (.ifCond .eq 5, 3) := dk_153 0 5 (dk_at dksX7_isFree_0 13 rfl rfl)
theorem dX7_isFree_16 : decode cX7_isFree 16 = .ok (.iconst 0, 1) := dk_3 (dk_at dksX7_isFree_0 16 rfl rfl)
theorem dX7_isFree_17 : decode cX7_isFree 17 = .ok (.ireturn, 1) := dk_172 (dk_at dksX7_isFree_0 17 rfl rfl)
theorem dX7_isFree_18 : decode cX7_isFree 18 = .ok (.iinc 2 1, 3) := dk_132 2 1 (dk_at dksX7_isFree_0 18 rfl rfl)
theorem dX7_isFree_21 : decode cX7_isFree 21 = .ok (.goto (-19), 3) := dk_167 255 237 (dk_at dksX7_isFree_0 21 rfl rfl)
theorem dX7_isFree_24 : decode cX7_isFree 24 = .ok (.iconst 1, 1) := dk_4 (dk_at dksX7_isFree_1 0 rfl rfl)
theorem dX7_isFree_25 : decode cX7_isFree 25 = .ok (.ireturn, 1) := dk_172 (dk_at dksX7_isFree_1 1 rfl rfl)
abbrev cX7_find : ByteArray := prog_19_method_62_code
def yX7_find : MethodName := ⟨RX7, "find", "(II)J"⟩
def dkwX7_find_7 : List UInt8 := [3, 54, 4, 167, 255, 163, 42, 180, 1, 57, 153, 0, 8, 29, 133, 167, 0, 6, 20, 1, 73, 173]
abbrev dktX7_find_7 : List UInt8 := dkwX7_find_7 ++ []
def dkwX7_find_6 : List UInt8 := [182, 1, 70, 27, 4, 159, 0, 19, 42, 42, 182, 1, 44, 3, 182, 1, 47, 153, 0, 7, 4, 167, 0, 4]
abbrev dktX7_find_6 : List UInt8 := dkwX7_find_6 ++ dktX7_find_7
def dkwX7_find_5 : List UInt8 := [160, 0, 9, 21, 5, 29, 163, 0, 14, 27, 6, 160, 0, 16, 21, 5, 29, 162, 0, 10, 21, 5, 62, 42]
abbrev dktX7_find_5 : List UInt8 := dkwX7_find_5 ++ dktX7_find_6
def dkwX7_find_4 : List UInt8 := [42, 182, 1, 64, 167, 0, 8, 42, 28, 182, 1, 67, 54, 5, 42, 180, 1, 57, 153, 0, 25, 27, 5]
abbrev dktX7_find_4 : List UInt8 := dkwX7_find_4 ++ dktX7_find_5
def dkwX7_find_3 : List UInt8 := [182, 1, 47, 54, 4, 21, 4, 153, 0, 94, 27, 4, 160, 0, 7, 4, 167, 0, 20, 27, 5, 160, 0, 10]
abbrev dktX7_find_3 : List UInt8 := dkwX7_find_3 ++ dktX7_find_4
def dkwX7_find_2 : List UInt8 := [160, 0, 16, 42, 180, 0, 137, 29, 3, 84, 132, 3, 1, 167, 255, 234, 3, 62, 42, 42, 182, 1, 44, 4]
abbrev dktX7_find_2 : List UInt8 := dkwX7_find_2 ++ dktX7_find_3
def dkwX7_find_1 : List UInt8 := [20, 0, 246, 173, 42, 182, 1, 22, 42, 3, 181, 1, 57, 3, 62, 29, 17, 114, 216, 162, 0, 21, 27, 5]
abbrev dktX7_find_1 : List UInt8 := dkwX7_find_1 ++ dktX7_find_2
def dkwX7_find_0 : List UInt8 := [27, 4, 6, 184, 0, 154, 153, 0, 16, 27, 6, 160, 0, 15, 42, 28, 182, 1, 10, 154, 0, 7]
abbrev dktX7_find_0 : List UInt8 := dkwX7_find_0 ++ dktX7_find_1
theorem dksX7_find_0 : cX7_find.data.toList.drop 0 = dktX7_find_0 := by decide +kernel
theorem dksX7_find_1 : cX7_find.data.toList.drop 22 = dktX7_find_1 := dk_seg dksX7_find_0 22 rfl rfl
theorem dksX7_find_2 : cX7_find.data.toList.drop 46 = dktX7_find_2 := dk_seg dksX7_find_1 24 rfl rfl
theorem dksX7_find_3 : cX7_find.data.toList.drop 70 = dktX7_find_3 := dk_seg dksX7_find_2 24 rfl rfl
theorem dksX7_find_4 : cX7_find.data.toList.drop 94 = dktX7_find_4 := dk_seg dksX7_find_3 24 rfl rfl
theorem dksX7_find_5 : cX7_find.data.toList.drop 117 = dktX7_find_5 := dk_seg dksX7_find_4 23 rfl rfl
theorem dksX7_find_6 : cX7_find.data.toList.drop 141 = dktX7_find_6 := dk_seg dksX7_find_5 24 rfl rfl
theorem dksX7_find_7 : cX7_find.data.toList.drop 165 = dktX7_find_7 := dk_seg dksX7_find_6 24 rfl rfl
theorem dX7_find_0 : decode cX7_find 0 = .ok (.iload_n 1, 1) := dk_27 (dk_at dksX7_find_0 0 rfl rfl)
theorem dX7_find_1 : decode cX7_find 1 = .ok (.iconst 1, 1) := dk_4 (dk_at dksX7_find_0 1 rfl rfl)
theorem dX7_find_2 : decode cX7_find 2 = .ok (.iconst 3, 1) := dk_6 (dk_at dksX7_find_0 2 rfl rfl)
theorem dX7_find_3 : decode cX7_find 3 = .ok (.invokestatic 154, 3) := dk_184 0 154 (dk_at dksX7_find_0 3 rfl rfl)
theorem dX7_find_6 : decode cX7_find 6 = .ok (.ifCond .eq 16, 3) := dk_153 0 16 (dk_at dksX7_find_0 6 rfl rfl)
theorem dX7_find_9 : decode cX7_find 9 = .ok (.iload_n 1, 1) := dk_27 (dk_at dksX7_find_0 9 rfl rfl)
theorem dX7_find_10 : decode cX7_find 10 = .ok (.iconst 3, 1) := dk_6 (dk_at dksX7_find_0 10 rfl rfl)
theorem dX7_find_11 : decode cX7_find 11 = .ok (.if_icmp .ne 15, 3) := dk_160 0 15 (dk_at dksX7_find_0 11 rfl rfl)
theorem dX7_find_14 : decode cX7_find 14 = .ok (.aload_n 0, 1) := dk_42 (dk_at dksX7_find_0 14 rfl rfl)
theorem dX7_find_15 : decode cX7_find 15 = .ok (.iload_n 2, 1) := dk_28 (dk_at dksX7_find_0 15 rfl rfl)
theorem dX7_find_16 : decode cX7_find 16 = .ok (.invokevirtual 266, 3) := dk_182 1 10 (dk_at dksX7_find_0 16 rfl rfl)
theorem dX7_find_19 : decode cX7_find 19 = .ok (.ifCond .ne 7, 3) := dk_154 0 7 (dk_at dksX7_find_0 19 rfl rfl)
theorem dX7_find_22 : decode cX7_find 22 = .ok (.ldc2_w 246, 3) := dk_20 0 246 (dk_at dksX7_find_1 0 rfl rfl)
theorem dX7_find_25 : decode cX7_find 25 = .ok (.lreturn, 1) := dk_173 (dk_at dksX7_find_1 3 rfl rfl)
theorem dX7_find_26 : decode cX7_find 26 = .ok (.aload_n 0, 1) := dk_42 (dk_at dksX7_find_1 4 rfl rfl)
theorem dX7_find_27 : decode cX7_find 27 = .ok (.invokevirtual 278, 3) := dk_182 1 22 (dk_at dksX7_find_1 5 rfl rfl)
theorem dX7_find_30 : decode cX7_find 30 = .ok (.aload_n 0, 1) := dk_42 (dk_at dksX7_find_1 8 rfl rfl)
theorem dX7_find_31 : decode cX7_find 31 = .ok (.iconst 0, 1) := dk_3 (dk_at dksX7_find_1 9 rfl rfl)
theorem dX7_find_32 : decode cX7_find 32 = .ok (.putfield 313, 3) := dk_181 1 57 (dk_at dksX7_find_1 10 rfl rfl)
theorem dX7_find_35 : decode cX7_find 35 = .ok (.iconst 0, 1) := dk_3 (dk_at dksX7_find_1 13 rfl rfl)
theorem dX7_find_36 : decode cX7_find 36 = .ok (.istore_n 3, 1) := dk_62 (dk_at dksX7_find_1 14 rfl rfl)
theorem dX7_find_37 : decode cX7_find 37 = .ok (.iload_n 3, 1) := dk_29 (dk_at dksX7_find_1 15 rfl rfl)
theorem dX7_find_38 : decode cX7_find 38 = .ok (.sipush 29400, 3) := dk_17 114 216 (dk_at dksX7_find_1 16 rfl rfl)
theorem dX7_find_41 : decode cX7_find 41 = .ok (.if_icmp .ge 21, 3) := dk_162 0 21 (dk_at dksX7_find_1 19 rfl rfl)
theorem dX7_find_44 : decode cX7_find 44 = .ok (.iload_n 1, 1) := dk_27 (dk_at dksX7_find_1 22 rfl rfl)
theorem dX7_find_45 : decode cX7_find 45 = .ok (.iconst 2, 1) := dk_5 (dk_at dksX7_find_1 23 rfl rfl)
theorem dX7_find_46 : decode cX7_find 46 = .ok (.if_icmp .ne 16, 3) := dk_160 0 16 (dk_at dksX7_find_2 0 rfl rfl)
theorem dX7_find_49 : decode cX7_find 49 = .ok (.aload_n 0, 1) := dk_42 (dk_at dksX7_find_2 3 rfl rfl)
theorem dX7_find_50 : decode cX7_find 50 = .ok (.getfield 137, 3) := dk_180 0 137 (dk_at dksX7_find_2 4 rfl rfl)
theorem dX7_find_53 : decode cX7_find 53 = .ok (.iload_n 3, 1) := dk_29 (dk_at dksX7_find_2 7 rfl rfl)
theorem dX7_find_54 : decode cX7_find 54 = .ok (.iconst 0, 1) := dk_3 (dk_at dksX7_find_2 8 rfl rfl)
theorem dX7_find_55 : decode cX7_find 55 = .ok (.bastore, 1) := dk_84 (dk_at dksX7_find_2 9 rfl rfl)
theorem dX7_find_56 : decode cX7_find 56 = .ok (.iinc 3 1, 3) := dk_132 3 1 (dk_at dksX7_find_2 10 rfl rfl)
theorem dX7_find_59 : decode cX7_find 59 = .ok (.goto (-22), 3) := dk_167 255 234 (dk_at dksX7_find_2 13 rfl rfl)
theorem dX7_find_62 : decode cX7_find 62 = .ok (.iconst 0, 1) := dk_3 (dk_at dksX7_find_2 16 rfl rfl)
theorem dX7_find_63 : decode cX7_find 63 = .ok (.istore_n 3, 1) := dk_62 (dk_at dksX7_find_2 17 rfl rfl)
theorem dX7_find_64 : decode cX7_find 64 = .ok (.aload_n 0, 1) := dk_42 (dk_at dksX7_find_2 18 rfl rfl)
theorem dX7_find_65 : decode cX7_find 65 = .ok (.aload_n 0, 1) := dk_42 (dk_at dksX7_find_2 19 rfl rfl)
theorem dX7_find_66 : decode cX7_find 66 = .ok (.invokevirtual 300, 3) := dk_182 1 44 (dk_at dksX7_find_2 20 rfl rfl)
theorem dX7_find_69 : decode cX7_find 69 = .ok (.iconst 1, 1) := dk_4 (dk_at dksX7_find_2 23 rfl rfl)
theorem dX7_find_70 : decode cX7_find 70 = .ok (.invokevirtual 303, 3) := dk_182 1 47 (dk_at dksX7_find_3 0 rfl rfl)
theorem dX7_find_73 : decode cX7_find 73 = .ok (.istore 4, 2) := dk_54 4 (dk_at dksX7_find_3 3 rfl rfl)
theorem dX7_find_75 : decode cX7_find 75 = .ok (.iload 4, 2) := dk_21 4 (dk_at dksX7_find_3 5 rfl rfl)
theorem dX7_find_77 : decode cX7_find 77 = .ok (.ifCond .eq 94, 3) := dk_153 0 94 (dk_at dksX7_find_3 7 rfl rfl)
theorem dX7_find_80 : decode cX7_find 80 = .ok (.iload_n 1, 1) := dk_27 (dk_at dksX7_find_3 10 rfl rfl)
theorem dX7_find_81 : decode cX7_find 81 = .ok (.iconst 1, 1) := dk_4 (dk_at dksX7_find_3 11 rfl rfl)
theorem dX7_find_82 : decode cX7_find 82 = .ok (.if_icmp .ne 7, 3) := dk_160 0 7 (dk_at dksX7_find_3 12 rfl rfl)
theorem dX7_find_85 : decode cX7_find 85 = .ok (.iconst 1, 1) := dk_4 (dk_at dksX7_find_3 15 rfl rfl)
theorem dX7_find_86 : decode cX7_find 86 = .ok (.goto 20, 3) := dk_167 0 20 (dk_at dksX7_find_3 16 rfl rfl)
theorem dX7_find_89 : decode cX7_find 89 = .ok (.iload_n 1, 1) := dk_27 (dk_at dksX7_find_3 19 rfl rfl)
theorem dX7_find_90 : decode cX7_find 90 = .ok (.iconst 2, 1) := dk_5 (dk_at dksX7_find_3 20 rfl rfl)
theorem dX7_find_91 : decode cX7_find 91 = .ok (.if_icmp .ne 10, 3) := dk_160 0 10 (dk_at dksX7_find_3 21 rfl rfl)
theorem dX7_find_94 : decode cX7_find 94 = .ok (.aload_n 0, 1) := dk_42 (dk_at dksX7_find_4 0 rfl rfl)
theorem dX7_find_95 : decode cX7_find 95 = .ok (.invokevirtual 320, 3) := dk_182 1 64 (dk_at dksX7_find_4 1 rfl rfl)
theorem dX7_find_98 : decode cX7_find 98 = .ok (.goto 8, 3) := dk_167 0 8 (dk_at dksX7_find_4 4 rfl rfl)
theorem dX7_find_101 : decode cX7_find 101 = .ok (.aload_n 0, 1) := dk_42 (dk_at dksX7_find_4 7 rfl rfl)
theorem dX7_find_102 : decode cX7_find 102 = .ok (.iload_n 2, 1) := dk_28 (dk_at dksX7_find_4 8 rfl rfl)
theorem dX7_find_103 : decode cX7_find 103 = .ok (.invokevirtual 323, 3) := dk_182 1 67 (dk_at dksX7_find_4 9 rfl rfl)
theorem dX7_find_106 : decode cX7_find 106 = .ok (.istore 5, 2) := dk_54 5 (dk_at dksX7_find_4 12 rfl rfl)
theorem dX7_find_108 : decode cX7_find 108 = .ok (.aload_n 0, 1) := dk_42 (dk_at dksX7_find_4 14 rfl rfl)
theorem dX7_find_109 : decode cX7_find 109 = .ok (.getfield 313, 3) := dk_180 1 57 (dk_at dksX7_find_4 15 rfl rfl)
theorem dX7_find_112 : decode cX7_find 112 = .ok (.ifCond .eq 25, 3) := dk_153 0 25 (dk_at dksX7_find_4 18 rfl rfl)
theorem dX7_find_115 : decode cX7_find 115 = .ok (.iload_n 1, 1) := dk_27 (dk_at dksX7_find_4 21 rfl rfl)
theorem dX7_find_116 : decode cX7_find 116 = .ok (.iconst 2, 1) := dk_5 (dk_at dksX7_find_4 22 rfl rfl)
theorem dX7_find_117 : decode cX7_find 117 = .ok (.if_icmp .ne 9, 3) := dk_160 0 9 (dk_at dksX7_find_5 0 rfl rfl)
theorem dX7_find_120 : decode cX7_find 120 = .ok (.iload 5, 2) := dk_21 5 (dk_at dksX7_find_5 3 rfl rfl)
theorem dX7_find_122 : decode cX7_find 122 = .ok (.iload_n 3, 1) := dk_29 (dk_at dksX7_find_5 5 rfl rfl)
theorem dX7_find_123 : decode cX7_find 123 = .ok (.if_icmp .gt 14, 3) := dk_163 0 14 (dk_at dksX7_find_5 6 rfl rfl)
theorem dX7_find_126 : decode cX7_find 126 = .ok (.iload_n 1, 1) := dk_27 (dk_at dksX7_find_5 9 rfl rfl)
theorem dX7_find_127 : decode cX7_find 127 = .ok (.iconst 3, 1) := dk_6 (dk_at dksX7_find_5 10 rfl rfl)
theorem dX7_find_128 : decode cX7_find 128 = .ok (.if_icmp .ne 16, 3) := dk_160 0 16 (dk_at dksX7_find_5 11 rfl rfl)
theorem dX7_find_131 : decode cX7_find 131 = .ok (.iload 5, 2) := dk_21 5 (dk_at dksX7_find_5 14 rfl rfl)
theorem dX7_find_133 : decode cX7_find 133 = .ok (.iload_n 3, 1) := dk_29 (dk_at dksX7_find_5 16 rfl rfl)
theorem dX7_find_134 : decode cX7_find 134 = .ok (.if_icmp .ge 10, 3) := dk_162 0 10 (dk_at dksX7_find_5 17 rfl rfl)
theorem dX7_find_137 : decode cX7_find 137 = .ok (.iload 5, 2) := dk_21 5 (dk_at dksX7_find_5 20 rfl rfl)
theorem dX7_find_139 : decode cX7_find 139 = .ok (.istore_n 3, 1) := dk_62 (dk_at dksX7_find_5 22 rfl rfl)
theorem dX7_find_140 : decode cX7_find 140 = .ok (.aload_n 0, 1) := dk_42 (dk_at dksX7_find_5 23 rfl rfl)
theorem dX7_find_141 : decode cX7_find 141 = .ok (.invokevirtual 326, 3) := dk_182 1 70 (dk_at dksX7_find_6 0 rfl rfl)
theorem dX7_find_144 : decode cX7_find 144 = .ok (.iload_n 1, 1) := dk_27 (dk_at dksX7_find_6 3 rfl rfl)
theorem dX7_find_145 : decode cX7_find 145 = .ok (.iconst 1, 1) := dk_4 (dk_at dksX7_find_6 4 rfl rfl)
theorem dX7_find_146 : decode cX7_find 146 = .ok (.if_icmp .eq 19, 3) := dk_159 0 19 (dk_at dksX7_find_6 5 rfl rfl)
theorem dX7_find_149 : decode cX7_find 149 = .ok (.aload_n 0, 1) := dk_42 (dk_at dksX7_find_6 8 rfl rfl)
theorem dX7_find_150 : decode cX7_find 150 = .ok (.aload_n 0, 1) := dk_42 (dk_at dksX7_find_6 9 rfl rfl)
theorem dX7_find_151 : decode cX7_find 151 = .ok (.invokevirtual 300, 3) := dk_182 1 44 (dk_at dksX7_find_6 10 rfl rfl)
theorem dX7_find_154 : decode cX7_find 154 = .ok (.iconst 0, 1) := dk_3 (dk_at dksX7_find_6 13 rfl rfl)
theorem dX7_find_155 : decode cX7_find 155 = .ok (.invokevirtual 303, 3) := dk_182 1 47 (dk_at dksX7_find_6 14 rfl rfl)
theorem dX7_find_158 : decode cX7_find 158 = .ok (.ifCond .eq 7, 3) := dk_153 0 7 (dk_at dksX7_find_6 17 rfl rfl)
theorem dX7_find_161 : decode cX7_find 161 = .ok (.iconst 1, 1) := dk_4 (dk_at dksX7_find_6 20 rfl rfl)
theorem dX7_find_162 : decode cX7_find 162 = .ok (.goto 4, 3) := dk_167 0 4 (dk_at dksX7_find_6 21 rfl rfl)
theorem dX7_find_165 : decode cX7_find 165 = .ok (.iconst 0, 1) := dk_3 (dk_at dksX7_find_7 0 rfl rfl)
theorem dX7_find_166 : decode cX7_find 166 = .ok (.istore 4, 2) := dk_54 4 (dk_at dksX7_find_7 1 rfl rfl)
theorem dX7_find_168 : decode cX7_find 168 = .ok (.goto (-93), 3) := dk_167 255 163 (dk_at dksX7_find_7 3 rfl rfl)
theorem dX7_find_171 : decode cX7_find 171 = .ok (.aload_n 0, 1) := dk_42 (dk_at dksX7_find_7 6 rfl rfl)
theorem dX7_find_172 : decode cX7_find 172 = .ok (.getfield 313, 3) := dk_180 1 57 (dk_at dksX7_find_7 7 rfl rfl)
theorem dX7_find_175 : decode cX7_find 175 = .ok (.ifCond .eq 8, 3) := dk_153 0 8 (dk_at dksX7_find_7 10 rfl rfl)
theorem dX7_find_178 : decode cX7_find 178 = .ok (.iload_n 3, 1) := dk_29 (dk_at dksX7_find_7 13 rfl rfl)
theorem dX7_find_179 : decode cX7_find 179 = .ok (.i2l, 1) := dk_133 (dk_at dksX7_find_7 14 rfl rfl)
theorem dX7_find_180 : decode cX7_find 180 = .ok (.goto 6, 3) := dk_167 0 6 (dk_at dksX7_find_7 15 rfl rfl)
theorem dX7_find_183 : decode cX7_find 183 = .ok (.ldc2_w 329, 3) := dk_20 1 73 (dk_at dksX7_find_7 18 rfl rfl)
theorem dX7_find_186 : decode cX7_find 186 = .ok (.lreturn, 1) := dk_173 (dk_at dksX7_find_7 21 rfl rfl)
abbrev cX7_worthWay : ByteArray := prog_19_method_60_code
def yX7_worthWay : MethodName := ⟨RX7, "worthWay", "()I"⟩
def dkwX7_worthWay_7 : List UInt8 := [132, 2, 1, 167, 255, 94, 27, 172]
abbrev dktX7_worthWay_7 : List UInt8 := dkwX7_worthWay_7 ++ []
def dkwX7_worthWay_6 : List UInt8 := [96, 54, 6, 132, 7, 1, 167, 255, 158, 27, 42, 28, 29, 21, 5, 21, 6, 182, 1, 54, 96, 60]
abbrev dktX7_worthWay_6 : List UInt8 := dkwX7_worthWay_6 ++ dktX7_worthWay_7
def dkwX7_worthWay_5 : List UInt8 := [159, 0, 23, 42, 180, 0, 131, 21, 7, 46, 42, 180, 0, 131, 28, 46, 160, 0, 7, 4, 167, 0, 4, 3]
abbrev dktX7_worthWay_5 : List UInt8 := dkwX7_worthWay_5 ++ dktX7_worthWay_6
def dkwX7_worthWay_4 : List UInt8 := [180, 0, 89, 16, 6, 28, 104, 21, 7, 96, 46, 167, 0, 5, 21, 5, 54, 5, 21, 6, 21, 7, 28]
abbrev dktX7_worthWay_4 : List UInt8 := dkwX7_worthWay_4 ++ dktX7_worthWay_5
def dkwX7_worthWay_3 : List UInt8 := [21, 4, 160, 0, 35, 42, 180, 0, 89, 16, 6, 28, 104, 21, 7, 96, 46, 21, 5, 162, 0, 18, 42]
abbrev dktX7_worthWay_3 : List UInt8 := dkwX7_worthWay_3 ++ dktX7_worthWay_4
def dkwX7_worthWay_2 : List UInt8 := [54, 7, 21, 7, 42, 180, 0, 151, 162, 0, 95, 21, 7, 28, 159, 0, 47, 42, 180, 0, 131, 21, 7, 46]
abbrev dktX7_worthWay_2 : List UInt8 := dkwX7_worthWay_2 ++ dktX7_worthWay_3
def dkwX7_worthWay_1 : List UInt8 := [42, 180, 0, 25, 96, 4, 100, 42, 180, 0, 25, 112, 120, 54, 4, 16, 99, 54, 5, 3, 54, 6, 3]
abbrev dktX7_worthWay_1 : List UInt8 := dkwX7_worthWay_1 ++ dktX7_worthWay_2
def dkwX7_worthWay_0 : List UInt8 := [3, 60, 3, 61, 28, 42, 180, 0, 151, 162, 0, 160, 42, 180, 0, 131, 28, 46, 184, 1, 51, 62, 4, 29]
abbrev dktX7_worthWay_0 : List UInt8 := dkwX7_worthWay_0 ++ dktX7_worthWay_1
theorem dksX7_worthWay_0 : cX7_worthWay.data.toList.drop 0 = dktX7_worthWay_0 := by decide +kernel
theorem dksX7_worthWay_1 : cX7_worthWay.data.toList.drop 24 = dktX7_worthWay_1 := dk_seg dksX7_worthWay_0 24 rfl rfl
theorem dksX7_worthWay_2 : cX7_worthWay.data.toList.drop 47 = dktX7_worthWay_2 := dk_seg dksX7_worthWay_1 23 rfl rfl
theorem dksX7_worthWay_3 : cX7_worthWay.data.toList.drop 71 = dktX7_worthWay_3 := dk_seg dksX7_worthWay_2 24 rfl rfl
theorem dksX7_worthWay_4 : cX7_worthWay.data.toList.drop 94 = dktX7_worthWay_4 := dk_seg dksX7_worthWay_3 23 rfl rfl
theorem dksX7_worthWay_5 : cX7_worthWay.data.toList.drop 117 = dktX7_worthWay_5 := dk_seg dksX7_worthWay_4 23 rfl rfl
theorem dksX7_worthWay_6 : cX7_worthWay.data.toList.drop 141 = dktX7_worthWay_6 := dk_seg dksX7_worthWay_5 24 rfl rfl
theorem dksX7_worthWay_7 : cX7_worthWay.data.toList.drop 163 = dktX7_worthWay_7 := dk_seg dksX7_worthWay_6 22 rfl rfl
theorem dX7_worthWay_0 : decode cX7_worthWay 0 = .ok (.iconst 0, 1) := dk_3 (dk_at dksX7_worthWay_0 0 rfl rfl)
theorem dX7_worthWay_1 : decode cX7_worthWay 1 = .ok (.istore_n 1, 1) := dk_60 (dk_at dksX7_worthWay_0 1 rfl rfl)
theorem dX7_worthWay_2 : decode cX7_worthWay 2 = .ok (.iconst 0, 1) := dk_3 (dk_at dksX7_worthWay_0 2 rfl rfl)
theorem dX7_worthWay_3 : decode cX7_worthWay 3 = .ok (.istore_n 2, 1) := dk_61 (dk_at dksX7_worthWay_0 3 rfl rfl)
theorem dX7_worthWay_4 : decode cX7_worthWay 4 = .ok (.iload_n 2, 1) := dk_28 (dk_at dksX7_worthWay_0 4 rfl rfl)
theorem dX7_worthWay_5 : decode cX7_worthWay 5 = .ok (.aload_n 0, 1) := dk_42 (dk_at dksX7_worthWay_0 5 rfl rfl)
theorem dX7_worthWay_6 : decode cX7_worthWay 6 = .ok (.getfield 151, 3) := dk_180 0 151 (dk_at dksX7_worthWay_0 6 rfl rfl)
theorem dX7_worthWay_9 : decode cX7_worthWay 9 = .ok (.if_icmp .ge 160, 3) := dk_162 0 160 (dk_at dksX7_worthWay_0 9 rfl rfl)
theorem dX7_worthWay_12 : decode cX7_worthWay 12 = .ok (.aload_n 0, 1) := dk_42 (dk_at dksX7_worthWay_0 12 rfl rfl)
theorem dX7_worthWay_13 : decode cX7_worthWay 13 = .ok (.getfield 131, 3) := dk_180 0 131 (dk_at dksX7_worthWay_0 13 rfl rfl)
theorem dX7_worthWay_16 : decode cX7_worthWay 16 = .ok (.iload_n 2, 1) := dk_28 (dk_at dksX7_worthWay_0 16 rfl rfl)
theorem dX7_worthWay_17 : decode cX7_worthWay 17 = .ok (.iaload, 1) := dk_46 (dk_at dksX7_worthWay_0 17 rfl rfl)
theorem dX7_worthWay_18 : decode cX7_worthWay 18 = .ok (.invokestatic 307, 3) := dk_184 1 51 (dk_at dksX7_worthWay_0 18 rfl rfl)
theorem dX7_worthWay_21 : decode cX7_worthWay 21 = .ok (.istore_n 3, 1) := dk_62 (dk_at dksX7_worthWay_0 21 rfl rfl)
theorem dX7_worthWay_22 : decode cX7_worthWay 22 = .ok (.iconst 1, 1) := dk_4 (dk_at dksX7_worthWay_0 22 rfl rfl)
theorem dX7_worthWay_23 : decode cX7_worthWay 23 = .ok (.iload_n 3, 1) := dk_29 (dk_at dksX7_worthWay_0 23 rfl rfl)
theorem dX7_worthWay_24 : decode cX7_worthWay 24 = .ok (.aload_n 0, 1) := dk_42 (dk_at dksX7_worthWay_1 0 rfl rfl)
theorem dX7_worthWay_25 : decode cX7_worthWay 25 = .ok (.getfield 25, 3) := dk_180 0 25 (dk_at dksX7_worthWay_1 1 rfl rfl)
theorem dX7_worthWay_28 : decode cX7_worthWay 28 = .ok (.iadd, 1) := dk_96 (dk_at dksX7_worthWay_1 4 rfl rfl)
theorem dX7_worthWay_29 : decode cX7_worthWay 29 = .ok (.iconst 1, 1) := dk_4 (dk_at dksX7_worthWay_1 5 rfl rfl)
theorem dX7_worthWay_30 : decode cX7_worthWay 30 = .ok (.isub, 1) := dk_100 (dk_at dksX7_worthWay_1 6 rfl rfl)
theorem dX7_worthWay_31 : decode cX7_worthWay 31 = .ok (.aload_n 0, 1) := dk_42 (dk_at dksX7_worthWay_1 7 rfl rfl)
theorem dX7_worthWay_32 : decode cX7_worthWay 32 = .ok (.getfield 25, 3) := dk_180 0 25 (dk_at dksX7_worthWay_1 8 rfl rfl)
theorem dX7_worthWay_35 : decode cX7_worthWay 35 = .ok (.irem, 1) := dk_112 (dk_at dksX7_worthWay_1 11 rfl rfl)
theorem dX7_worthWay_36 : decode cX7_worthWay 36 = .ok (.ishl, 1) := dk_120 (dk_at dksX7_worthWay_1 12 rfl rfl)
theorem dX7_worthWay_37 : decode cX7_worthWay 37 = .ok (.istore 4, 2) := dk_54 4 (dk_at dksX7_worthWay_1 13 rfl rfl)
theorem dX7_worthWay_39 : decode cX7_worthWay 39 = .ok (.bipush 99, 2) := dk_16 99 (dk_at dksX7_worthWay_1 15 rfl rfl)
theorem dX7_worthWay_41 : decode cX7_worthWay 41 = .ok (.istore 5, 2) := dk_54 5 (dk_at dksX7_worthWay_1 17 rfl rfl)
theorem dX7_worthWay_43 : decode cX7_worthWay 43 = .ok (.iconst 0, 1) := dk_3 (dk_at dksX7_worthWay_1 19 rfl rfl)
theorem dX7_worthWay_44 : decode cX7_worthWay 44 = .ok (.istore 6, 2) := dk_54 6 (dk_at dksX7_worthWay_1 20 rfl rfl)
theorem dX7_worthWay_46 : decode cX7_worthWay 46 = .ok (.iconst 0, 1) := dk_3 (dk_at dksX7_worthWay_1 22 rfl rfl)
theorem dX7_worthWay_47 : decode cX7_worthWay 47 = .ok (.istore 7, 2) := dk_54 7 (dk_at dksX7_worthWay_2 0 rfl rfl)
theorem dX7_worthWay_49 : decode cX7_worthWay 49 = .ok (.iload 7, 2) := dk_21 7 (dk_at dksX7_worthWay_2 2 rfl rfl)
theorem dX7_worthWay_51 : decode cX7_worthWay 51 = .ok (.aload_n 0, 1) := dk_42 (dk_at dksX7_worthWay_2 4 rfl rfl)
theorem dX7_worthWay_52 : decode cX7_worthWay 52 = .ok (.getfield 151, 3) := dk_180 0 151 (dk_at dksX7_worthWay_2 5 rfl rfl)
theorem dX7_worthWay_55 : decode cX7_worthWay 55 = .ok (.if_icmp .ge 95, 3) := dk_162 0 95 (dk_at dksX7_worthWay_2 8 rfl rfl)
theorem dX7_worthWay_58 : decode cX7_worthWay 58 = .ok (.iload 7, 2) := dk_21 7 (dk_at dksX7_worthWay_2 11 rfl rfl)
theorem dX7_worthWay_60 : decode cX7_worthWay 60 = .ok (.iload_n 2, 1) := dk_28 (dk_at dksX7_worthWay_2 13 rfl rfl)
theorem dX7_worthWay_61 : decode cX7_worthWay 61 = .ok (.if_icmp .eq 47, 3) := dk_159 0 47 (dk_at dksX7_worthWay_2 14 rfl rfl)
theorem dX7_worthWay_64 : decode cX7_worthWay 64 = .ok (.aload_n 0, 1) := dk_42 (dk_at dksX7_worthWay_2 17 rfl rfl)
theorem dX7_worthWay_65 : decode cX7_worthWay 65 = .ok (.getfield 131, 3) := dk_180 0 131 (dk_at dksX7_worthWay_2 18 rfl rfl)
theorem dX7_worthWay_68 : decode cX7_worthWay 68 = .ok (.iload 7, 2) := dk_21 7 (dk_at dksX7_worthWay_2 21 rfl rfl)
theorem dX7_worthWay_70 : decode cX7_worthWay 70 = .ok (.iaload, 1) := dk_46 (dk_at dksX7_worthWay_2 23 rfl rfl)
theorem dX7_worthWay_71 : decode cX7_worthWay 71 = .ok (.iload 4, 2) := dk_21 4 (dk_at dksX7_worthWay_3 0 rfl rfl)
theorem dX7_worthWay_73 : decode cX7_worthWay 73 = .ok (.if_icmp .ne 35, 3) := dk_160 0 35 (dk_at dksX7_worthWay_3 2 rfl rfl)
theorem dX7_worthWay_76 : decode cX7_worthWay 76 = .ok (.aload_n 0, 1) := dk_42 (dk_at dksX7_worthWay_3 5 rfl rfl)
theorem dX7_worthWay_77 : decode cX7_worthWay 77 = .ok (.getfield 89, 3) := dk_180 0 89 (dk_at dksX7_worthWay_3 6 rfl rfl)
theorem dX7_worthWay_80 : decode cX7_worthWay 80 = .ok (.bipush 6, 2) := dk_16 6 (dk_at dksX7_worthWay_3 9 rfl rfl)
theorem dX7_worthWay_82 : decode cX7_worthWay 82 = .ok (.iload_n 2, 1) := dk_28 (dk_at dksX7_worthWay_3 11 rfl rfl)
theorem dX7_worthWay_83 : decode cX7_worthWay 83 = .ok (.imul, 1) := dk_104 (dk_at dksX7_worthWay_3 12 rfl rfl)
theorem dX7_worthWay_84 : decode cX7_worthWay 84 = .ok (.iload 7, 2) := dk_21 7 (dk_at dksX7_worthWay_3 13 rfl rfl)
theorem dX7_worthWay_86 : decode cX7_worthWay 86 = .ok (.iadd, 1) := dk_96 (dk_at dksX7_worthWay_3 15 rfl rfl)
theorem dX7_worthWay_87 : decode cX7_worthWay 87 = .ok (.iaload, 1) := dk_46 (dk_at dksX7_worthWay_3 16 rfl rfl)
theorem dX7_worthWay_88 : decode cX7_worthWay 88 = .ok (.iload 5, 2) := dk_21 5 (dk_at dksX7_worthWay_3 17 rfl rfl)
theorem dX7_worthWay_90 : decode cX7_worthWay 90 = .ok (.if_icmp .ge 18, 3) := dk_162 0 18 (dk_at dksX7_worthWay_3 19 rfl rfl)
theorem dX7_worthWay_93 : decode cX7_worthWay 93 = .ok (.aload_n 0, 1) := dk_42 (dk_at dksX7_worthWay_3 22 rfl rfl)
theorem dX7_worthWay_94 : decode cX7_worthWay 94 = .ok (.getfield 89, 3) := dk_180 0 89 (dk_at dksX7_worthWay_4 0 rfl rfl)
theorem dX7_worthWay_97 : decode cX7_worthWay 97 = .ok (.bipush 6, 2) := dk_16 6 (dk_at dksX7_worthWay_4 3 rfl rfl)
theorem dX7_worthWay_99 : decode cX7_worthWay 99 = .ok (.iload_n 2, 1) := dk_28 (dk_at dksX7_worthWay_4 5 rfl rfl)
theorem dX7_worthWay_100 : decode cX7_worthWay 100 = .ok (.imul, 1) := dk_104 (dk_at dksX7_worthWay_4 6 rfl rfl)
theorem dX7_worthWay_101 : decode cX7_worthWay 101 = .ok (.iload 7, 2) := dk_21 7 (dk_at dksX7_worthWay_4 7 rfl rfl)
theorem dX7_worthWay_103 : decode cX7_worthWay 103 = .ok (.iadd, 1) := dk_96 (dk_at dksX7_worthWay_4 9 rfl rfl)
theorem dX7_worthWay_104 : decode cX7_worthWay 104 = .ok (.iaload, 1) := dk_46 (dk_at dksX7_worthWay_4 10 rfl rfl)
theorem dX7_worthWay_105 : decode cX7_worthWay 105 = .ok (.goto 5, 3) := dk_167 0 5 (dk_at dksX7_worthWay_4 11 rfl rfl)
theorem dX7_worthWay_108 : decode cX7_worthWay 108 = .ok (.iload 5, 2) := dk_21 5 (dk_at dksX7_worthWay_4 14 rfl rfl)
theorem dX7_worthWay_110 : decode cX7_worthWay 110 = .ok (.istore 5, 2) := dk_54 5 (dk_at dksX7_worthWay_4 16 rfl rfl)
theorem dX7_worthWay_112 : decode cX7_worthWay 112 = .ok (.iload 6, 2) := dk_21 6 (dk_at dksX7_worthWay_4 18 rfl rfl)
theorem dX7_worthWay_114 : decode cX7_worthWay 114 = .ok (.iload 7, 2) := dk_21 7 (dk_at dksX7_worthWay_4 20 rfl rfl)
theorem dX7_worthWay_116 : decode cX7_worthWay 116 = .ok (.iload_n 2, 1) := dk_28 (dk_at dksX7_worthWay_4 22 rfl rfl)
theorem dX7_worthWay_117 : decode cX7_worthWay 117 = .ok (.if_icmp .eq 23, 3) := dk_159 0 23 (dk_at dksX7_worthWay_5 0 rfl rfl)
theorem dX7_worthWay_120 : decode cX7_worthWay 120 = .ok (.aload_n 0, 1) := dk_42 (dk_at dksX7_worthWay_5 3 rfl rfl)
theorem dX7_worthWay_121 : decode cX7_worthWay 121 = .ok (.getfield 131, 3) := dk_180 0 131 (dk_at dksX7_worthWay_5 4 rfl rfl)
theorem dX7_worthWay_124 : decode cX7_worthWay 124 = .ok (.iload 7, 2) := dk_21 7 (dk_at dksX7_worthWay_5 7 rfl rfl)
theorem dX7_worthWay_126 : decode cX7_worthWay 126 = .ok (.iaload, 1) := dk_46 (dk_at dksX7_worthWay_5 9 rfl rfl)
theorem dX7_worthWay_127 : decode cX7_worthWay 127 = .ok (.aload_n 0, 1) := dk_42 (dk_at dksX7_worthWay_5 10 rfl rfl)
theorem dX7_worthWay_128 : decode cX7_worthWay 128 = .ok (.getfield 131, 3) := dk_180 0 131 (dk_at dksX7_worthWay_5 11 rfl rfl)
theorem dX7_worthWay_131 : decode cX7_worthWay 131 = .ok (.iload_n 2, 1) := dk_28 (dk_at dksX7_worthWay_5 14 rfl rfl)
theorem dX7_worthWay_132 : decode cX7_worthWay 132 = .ok (.iaload, 1) := dk_46 (dk_at dksX7_worthWay_5 15 rfl rfl)
theorem dX7_worthWay_133 : decode cX7_worthWay 133 = .ok (.if_icmp .ne 7, 3) := dk_160 0 7 (dk_at dksX7_worthWay_5 16 rfl rfl)
theorem dX7_worthWay_136 : decode cX7_worthWay 136 = .ok (.iconst 1, 1) := dk_4 (dk_at dksX7_worthWay_5 19 rfl rfl)
theorem dX7_worthWay_137 : decode cX7_worthWay 137 = .ok (.goto 4, 3) := dk_167 0 4 (dk_at dksX7_worthWay_5 20 rfl rfl)
theorem dX7_worthWay_140 : decode cX7_worthWay 140 = .ok (.iconst 0, 1) := dk_3 (dk_at dksX7_worthWay_5 23 rfl rfl)
theorem dX7_worthWay_141 : decode cX7_worthWay 141 = .ok (.iadd, 1) := dk_96 (dk_at dksX7_worthWay_6 0 rfl rfl)
theorem dX7_worthWay_142 : decode cX7_worthWay 142 = .ok (.istore 6, 2) := dk_54 6 (dk_at dksX7_worthWay_6 1 rfl rfl)
theorem dX7_worthWay_144 : decode cX7_worthWay 144 = .ok (.iinc 7 1, 3) := dk_132 7 1 (dk_at dksX7_worthWay_6 3 rfl rfl)
theorem dX7_worthWay_147 : decode cX7_worthWay 147 = .ok (.goto (-98), 3) := dk_167 255 158 (dk_at dksX7_worthWay_6 6 rfl rfl)
theorem dX7_worthWay_150 : decode cX7_worthWay 150 = .ok (.iload_n 1, 1) := dk_27 (dk_at dksX7_worthWay_6 9 rfl rfl)
theorem dX7_worthWay_151 : decode cX7_worthWay 151 = .ok (.aload_n 0, 1) := dk_42 (dk_at dksX7_worthWay_6 10 rfl rfl)
theorem dX7_worthWay_152 : decode cX7_worthWay 152 = .ok (.iload_n 2, 1) := dk_28 (dk_at dksX7_worthWay_6 11 rfl rfl)
theorem dX7_worthWay_153 : decode cX7_worthWay 153 = .ok (.iload_n 3, 1) := dk_29 (dk_at dksX7_worthWay_6 12 rfl rfl)
theorem dX7_worthWay_154 : decode cX7_worthWay 154 = .ok (.iload 5, 2) := dk_21 5 (dk_at dksX7_worthWay_6 13 rfl rfl)
theorem dX7_worthWay_156 : decode cX7_worthWay 156 = .ok (.iload 6, 2) := dk_21 6 (dk_at dksX7_worthWay_6 15 rfl rfl)
theorem dX7_worthWay_158 : decode cX7_worthWay 158 = .ok (.invokevirtual 310, 3) := dk_182 1 54 (dk_at dksX7_worthWay_6 17 rfl rfl)
theorem dX7_worthWay_161 : decode cX7_worthWay 161 = .ok (.iadd, 1) := dk_96 (dk_at dksX7_worthWay_6 20 rfl rfl)
theorem dX7_worthWay_162 : decode cX7_worthWay 162 = .ok (.istore_n 1, 1) := dk_60 (dk_at dksX7_worthWay_6 21 rfl rfl)
theorem dX7_worthWay_163 : decode cX7_worthWay 163 = .ok (.iinc 2 1, 3) := dk_132 2 1 (dk_at dksX7_worthWay_7 0 rfl rfl)
theorem dX7_worthWay_166 : decode cX7_worthWay 166 = .ok (.goto (-162), 3) := dk_167 255 94 (dk_at dksX7_worthWay_7 3 rfl rfl)
theorem dX7_worthWay_169 : decode cX7_worthWay 169 = .ok (.iload_n 1, 1) := dk_27 (dk_at dksX7_worthWay_7 6 rfl rfl)
theorem dX7_worthWay_170 : decode cX7_worthWay 170 = .ok (.ireturn, 1) := dk_172 (dk_at dksX7_worthWay_7 7 rfl rfl)
abbrev cX7_dayIn : ByteArray := prog_19_method_57_code
def yX7_dayIn : MethodName := ⟨RX7, "dayIn", "(I)I"⟩
def dkwX7_dayIn_0 : List UInt8 := [3, 60, 26, 27, 122, 4, 159, 0, 9, 132, 1, 1, 167, 255, 246, 27, 172]
abbrev dktX7_dayIn_0 : List UInt8 := dkwX7_dayIn_0 ++ []
theorem dksX7_dayIn_0 : cX7_dayIn.data.toList.drop 0 = dktX7_dayIn_0 := by decide +kernel
theorem dX7_dayIn_0 : decode cX7_dayIn 0 = .ok (.iconst 0, 1) := dk_3 (dk_at dksX7_dayIn_0 0 rfl rfl)
theorem dX7_dayIn_1 : decode cX7_dayIn 1 = .ok (.istore_n 1, 1) := dk_60 (dk_at dksX7_dayIn_0 1 rfl rfl)
theorem dX7_dayIn_2 : decode cX7_dayIn 2 = .ok (.iload_n 0, 1) := dk_26 (dk_at dksX7_dayIn_0 2 rfl rfl)
theorem dX7_dayIn_3 : decode cX7_dayIn 3 = .ok (.iload_n 1, 1) := dk_27 (dk_at dksX7_dayIn_0 3 rfl rfl)
theorem dX7_dayIn_4 : decode cX7_dayIn 4 = .ok (.ishr, 1) := dk_122 (dk_at dksX7_dayIn_0 4 rfl rfl)
theorem dX7_dayIn_5 : decode cX7_dayIn 5 = .ok (.iconst 1, 1) := dk_4 (dk_at dksX7_dayIn_0 5 rfl rfl)
theorem dX7_dayIn_6 : decode cX7_dayIn 6 = .ok (.if_icmp .eq 9, 3) := dk_159 0 9 (dk_at dksX7_dayIn_0 6 rfl rfl)
theorem dX7_dayIn_9 : decode cX7_dayIn 9 = .ok (.iinc 1 1, 3) := dk_132 1 1 (dk_at dksX7_dayIn_0 9 rfl rfl)
theorem dX7_dayIn_12 : decode cX7_dayIn 12 = .ok (.goto (-10), 3) := dk_167 255 246 (dk_at dksX7_dayIn_0 12 rfl rfl)
theorem dX7_dayIn_15 : decode cX7_dayIn 15 = .ok (.iload_n 1, 1) := dk_27 (dk_at dksX7_dayIn_0 15 rfl rfl)
theorem dX7_dayIn_16 : decode cX7_dayIn 16 = .ok (.ireturn, 1) := dk_172 (dk_at dksX7_dayIn_0 16 rfl rfl)
abbrev cX7_keptWorth : ByteArray := prog_19_method_59_code
def yX7_keptWorth : MethodName := ⟨RX7, "keptWorth", "(IIII)I"⟩
def dkwX7_keptWorth_2 : List UInt8 := [180, 0, 137, 21, 5, 4, 84, 42, 180, 0, 134, 21, 5, 46, 172]
abbrev dktX7_keptWorth_2 : List UInt8 := dkwX7_keptWorth_2 ++ []
def dkwX7_keptWorth_1 : List UInt8 := [21, 5, 51, 154, 0, 27, 42, 180, 0, 134, 21, 5, 42, 27, 28, 29, 21, 4, 182, 0, 252, 79, 42]
abbrev dktX7_keptWorth_1 : List UInt8 := dkwX7_keptWorth_1 ++ dktX7_keptWorth_2
def dkwX7_keptWorth_0 : List UInt8 := [27, 16, 7, 104, 28, 96, 16, 100, 104, 29, 96, 16, 7, 104, 21, 4, 96, 54, 5, 42, 180, 0, 137]
abbrev dktX7_keptWorth_0 : List UInt8 := dkwX7_keptWorth_0 ++ dktX7_keptWorth_1
theorem dksX7_keptWorth_0 : cX7_keptWorth.data.toList.drop 0 = dktX7_keptWorth_0 := by decide +kernel
theorem dksX7_keptWorth_1 : cX7_keptWorth.data.toList.drop 23 = dktX7_keptWorth_1 := dk_seg dksX7_keptWorth_0 23 rfl rfl
theorem dksX7_keptWorth_2 : cX7_keptWorth.data.toList.drop 46 = dktX7_keptWorth_2 := dk_seg dksX7_keptWorth_1 23 rfl rfl
theorem dX7_keptWorth_0 : decode cX7_keptWorth 0 = .ok (.iload_n 1, 1) := dk_27 (dk_at dksX7_keptWorth_0 0 rfl rfl)
theorem dX7_keptWorth_1 : decode cX7_keptWorth 1 = .ok (.bipush 7, 2) := dk_16 7 (dk_at dksX7_keptWorth_0 1 rfl rfl)
theorem dX7_keptWorth_3 : decode cX7_keptWorth 3 = .ok (.imul, 1) := dk_104 (dk_at dksX7_keptWorth_0 3 rfl rfl)
theorem dX7_keptWorth_4 : decode cX7_keptWorth 4 = .ok (.iload_n 2, 1) := dk_28 (dk_at dksX7_keptWorth_0 4 rfl rfl)
theorem dX7_keptWorth_5 : decode cX7_keptWorth 5 = .ok (.iadd, 1) := dk_96 (dk_at dksX7_keptWorth_0 5 rfl rfl)
theorem dX7_keptWorth_6 : decode cX7_keptWorth 6 = .ok (.bipush 100, 2) := dk_16 100 (dk_at dksX7_keptWorth_0 6 rfl rfl)
theorem dX7_keptWorth_8 : decode cX7_keptWorth 8 = .ok (.imul, 1) := dk_104 (dk_at dksX7_keptWorth_0 8 rfl rfl)
theorem dX7_keptWorth_9 : decode cX7_keptWorth 9 = .ok (.iload_n 3, 1) := dk_29 (dk_at dksX7_keptWorth_0 9 rfl rfl)
theorem dX7_keptWorth_10 : decode cX7_keptWorth 10 = .ok (.iadd, 1) := dk_96 (dk_at dksX7_keptWorth_0 10 rfl rfl)
theorem dX7_keptWorth_11 : decode cX7_keptWorth 11 = .ok (.bipush 7, 2) := dk_16 7 (dk_at dksX7_keptWorth_0 11 rfl rfl)
theorem dX7_keptWorth_13 : decode cX7_keptWorth 13 = .ok (.imul, 1) := dk_104 (dk_at dksX7_keptWorth_0 13 rfl rfl)
theorem dX7_keptWorth_14 : decode cX7_keptWorth 14 = .ok (.iload 4, 2) := dk_21 4 (dk_at dksX7_keptWorth_0 14 rfl rfl)
theorem dX7_keptWorth_16 : decode cX7_keptWorth 16 = .ok (.iadd, 1) := dk_96 (dk_at dksX7_keptWorth_0 16 rfl rfl)
theorem dX7_keptWorth_17 : decode cX7_keptWorth 17 = .ok (.istore 5, 2) := dk_54 5 (dk_at dksX7_keptWorth_0 17 rfl rfl)
theorem dX7_keptWorth_19 : decode cX7_keptWorth 19 = .ok (.aload_n 0, 1) := dk_42 (dk_at dksX7_keptWorth_0 19 rfl rfl)
theorem dX7_keptWorth_20 : decode cX7_keptWorth 20 = .ok (.getfield 137, 3) := dk_180 0 137 (dk_at dksX7_keptWorth_0 20 rfl rfl)
theorem dX7_keptWorth_23 : decode cX7_keptWorth 23 = .ok (.iload 5, 2) := dk_21 5 (dk_at dksX7_keptWorth_1 0 rfl rfl)
theorem dX7_keptWorth_25 : decode cX7_keptWorth 25 = .ok (.baload, 1) := dk_51 (dk_at dksX7_keptWorth_1 2 rfl rfl)
theorem dX7_keptWorth_26 : decode cX7_keptWorth 26 = .ok (.ifCond .ne 27, 3) := dk_154 0 27 (dk_at dksX7_keptWorth_1 3 rfl rfl)
theorem dX7_keptWorth_29 : decode cX7_keptWorth 29 = .ok (.aload_n 0, 1) := dk_42 (dk_at dksX7_keptWorth_1 6 rfl rfl)
theorem dX7_keptWorth_30 : decode cX7_keptWorth 30 = .ok (.getfield 134, 3) := dk_180 0 134 (dk_at dksX7_keptWorth_1 7 rfl rfl)
theorem dX7_keptWorth_33 : decode cX7_keptWorth 33 = .ok (.iload 5, 2) := dk_21 5 (dk_at dksX7_keptWorth_1 10 rfl rfl)
theorem dX7_keptWorth_35 : decode cX7_keptWorth 35 = .ok (.aload_n 0, 1) := dk_42 (dk_at dksX7_keptWorth_1 12 rfl rfl)
theorem dX7_keptWorth_36 : decode cX7_keptWorth 36 = .ok (.iload_n 1, 1) := dk_27 (dk_at dksX7_keptWorth_1 13 rfl rfl)
theorem dX7_keptWorth_37 : decode cX7_keptWorth 37 = .ok (.iload_n 2, 1) := dk_28 (dk_at dksX7_keptWorth_1 14 rfl rfl)
theorem dX7_keptWorth_38 : decode cX7_keptWorth 38 = .ok (.iload_n 3, 1) := dk_29 (dk_at dksX7_keptWorth_1 15 rfl rfl)
theorem dX7_keptWorth_39 : decode cX7_keptWorth 39 = .ok (.iload 4, 2) := dk_21 4 (dk_at dksX7_keptWorth_1 16 rfl rfl)
theorem dX7_keptWorth_41 : decode cX7_keptWorth 41 = .ok (.invokevirtual 252, 3) := dk_182 0 252 (dk_at dksX7_keptWorth_1 18 rfl rfl)
theorem dX7_keptWorth_44 : decode cX7_keptWorth 44 = .ok (.iastore, 1) := dk_79 (dk_at dksX7_keptWorth_1 21 rfl rfl)
theorem dX7_keptWorth_45 : decode cX7_keptWorth 45 = .ok (.aload_n 0, 1) := dk_42 (dk_at dksX7_keptWorth_1 22 rfl rfl)
theorem dX7_keptWorth_46 : decode cX7_keptWorth 46 = .ok (.getfield 137, 3) := dk_180 0 137 (dk_at dksX7_keptWorth_2 0 rfl rfl)
theorem dX7_keptWorth_49 : decode cX7_keptWorth 49 = .ok (.iload 5, 2) := dk_21 5 (dk_at dksX7_keptWorth_2 3 rfl rfl)
theorem dX7_keptWorth_51 : decode cX7_keptWorth 51 = .ok (.iconst 1, 1) := dk_4 (dk_at dksX7_keptWorth_2 5 rfl rfl)
theorem dX7_keptWorth_52 : decode cX7_keptWorth 52 = .ok (.bastore, 1) := dk_84 (dk_at dksX7_keptWorth_2 6 rfl rfl)
theorem dX7_keptWorth_53 : decode cX7_keptWorth 53 = .ok (.aload_n 0, 1) := dk_42 (dk_at dksX7_keptWorth_2 7 rfl rfl)
theorem dX7_keptWorth_54 : decode cX7_keptWorth 54 = .ok (.getfield 134, 3) := dk_180 0 134 (dk_at dksX7_keptWorth_2 8 rfl rfl)
theorem dX7_keptWorth_57 : decode cX7_keptWorth 57 = .ok (.iload 5, 2) := dk_21 5 (dk_at dksX7_keptWorth_2 11 rfl rfl)
theorem dX7_keptWorth_59 : decode cX7_keptWorth 59 = .ok (.iaload, 1) := dk_46 (dk_at dksX7_keptWorth_2 13 rfl rfl)
theorem dX7_keptWorth_60 : decode cX7_keptWorth 60 = .ok (.ireturn, 1) := dk_172 (dk_at dksX7_keptWorth_2 14 rfl rfl)
abbrev cX7_others : ByteArray := prog_19_method_58_code
def yX7_others : MethodName := ⟨RX7, "others", "(I)I"⟩
def dkwX7_others_2 : List UInt8 := [167, 0, 4, 4, 96, 61, 132, 3, 1, 167, 255, 204, 28, 172]
abbrev dktX7_others_2 : List UInt8 := dkwX7_others_2 ++ []
def dkwX7_others_1 : List UInt8 := [180, 0, 53, 16, 6, 27, 104, 29, 96, 46, 42, 180, 0, 131, 29, 46, 184, 1, 51, 160, 0, 7, 3]
abbrev dktX7_others_1 : List UInt8 := dkwX7_others_1 ++ dktX7_others_2
def dkwX7_others_0 : List UInt8 := [3, 61, 3, 62, 29, 42, 180, 0, 151, 162, 0, 50, 28, 29, 42, 180, 0, 50, 27, 46, 162, 0, 30, 42]
abbrev dktX7_others_0 : List UInt8 := dkwX7_others_0 ++ dktX7_others_1
theorem dksX7_others_0 : cX7_others.data.toList.drop 0 = dktX7_others_0 := by decide +kernel
theorem dksX7_others_1 : cX7_others.data.toList.drop 24 = dktX7_others_1 := dk_seg dksX7_others_0 24 rfl rfl
theorem dksX7_others_2 : cX7_others.data.toList.drop 47 = dktX7_others_2 := dk_seg dksX7_others_1 23 rfl rfl
theorem dX7_others_0 : decode cX7_others 0 = .ok (.iconst 0, 1) := dk_3 (dk_at dksX7_others_0 0 rfl rfl)
theorem dX7_others_1 : decode cX7_others 1 = .ok (.istore_n 2, 1) := dk_61 (dk_at dksX7_others_0 1 rfl rfl)
theorem dX7_others_2 : decode cX7_others 2 = .ok (.iconst 0, 1) := dk_3 (dk_at dksX7_others_0 2 rfl rfl)
theorem dX7_others_3 : decode cX7_others 3 = .ok (.istore_n 3, 1) := dk_62 (dk_at dksX7_others_0 3 rfl rfl)
theorem dX7_others_4 : decode cX7_others 4 = .ok (.iload_n 3, 1) := dk_29 (dk_at dksX7_others_0 4 rfl rfl)
theorem dX7_others_5 : decode cX7_others 5 = .ok (.aload_n 0, 1) := dk_42 (dk_at dksX7_others_0 5 rfl rfl)
theorem dX7_others_6 : decode cX7_others 6 = .ok (.getfield 151, 3) := dk_180 0 151 (dk_at dksX7_others_0 6 rfl rfl)
theorem dX7_others_9 : decode cX7_others 9 = .ok (.if_icmp .ge 50, 3) := dk_162 0 50 (dk_at dksX7_others_0 9 rfl rfl)
theorem dX7_others_12 : decode cX7_others 12 = .ok (.iload_n 2, 1) := dk_28 (dk_at dksX7_others_0 12 rfl rfl)
theorem dX7_others_13 : decode cX7_others 13 = .ok (.iload_n 3, 1) := dk_29 (dk_at dksX7_others_0 13 rfl rfl)
theorem dX7_others_14 : decode cX7_others 14 = .ok (.aload_n 0, 1) := dk_42 (dk_at dksX7_others_0 14 rfl rfl)
theorem dX7_others_15 : decode cX7_others 15 = .ok (.getfield 50, 3) := dk_180 0 50 (dk_at dksX7_others_0 15 rfl rfl)
theorem dX7_others_18 : decode cX7_others 18 = .ok (.iload_n 1, 1) := dk_27 (dk_at dksX7_others_0 18 rfl rfl)
theorem dX7_others_19 : decode cX7_others 19 = .ok (.iaload, 1) := dk_46 (dk_at dksX7_others_0 19 rfl rfl)
theorem dX7_others_20 : decode cX7_others 20 = .ok (.if_icmp .ge 30, 3) := dk_162 0 30 (dk_at dksX7_others_0 20 rfl rfl)
theorem dX7_others_23 : decode cX7_others 23 = .ok (.aload_n 0, 1) := dk_42 (dk_at dksX7_others_0 23 rfl rfl)
theorem dX7_others_24 : decode cX7_others 24 = .ok (.getfield 53, 3) := dk_180 0 53 (dk_at dksX7_others_1 0 rfl rfl)
theorem dX7_others_27 : decode cX7_others 27 = .ok (.bipush 6, 2) := dk_16 6 (dk_at dksX7_others_1 3 rfl rfl)
theorem dX7_others_29 : decode cX7_others 29 = .ok (.iload_n 1, 1) := dk_27 (dk_at dksX7_others_1 5 rfl rfl)
theorem dX7_others_30 : decode cX7_others 30 = .ok (.imul, 1) := dk_104 (dk_at dksX7_others_1 6 rfl rfl)
theorem dX7_others_31 : decode cX7_others 31 = .ok (.iload_n 3, 1) := dk_29 (dk_at dksX7_others_1 7 rfl rfl)
theorem dX7_others_32 : decode cX7_others 32 = .ok (.iadd, 1) := dk_96 (dk_at dksX7_others_1 8 rfl rfl)
theorem dX7_others_33 : decode cX7_others 33 = .ok (.iaload, 1) := dk_46 (dk_at dksX7_others_1 9 rfl rfl)
theorem dX7_others_34 : decode cX7_others 34 = .ok (.aload_n 0, 1) := dk_42 (dk_at dksX7_others_1 10 rfl rfl)
theorem dX7_others_35 : decode cX7_others 35 = .ok (.getfield 131, 3) := dk_180 0 131 (dk_at dksX7_others_1 11 rfl rfl)
theorem dX7_others_38 : decode cX7_others 38 = .ok (.iload_n 3, 1) := dk_29 (dk_at dksX7_others_1 14 rfl rfl)
theorem dX7_others_39 : decode cX7_others 39 = .ok (.iaload, 1) := dk_46 (dk_at dksX7_others_1 15 rfl rfl)
theorem dX7_others_40 : decode cX7_others 40 = .ok (.invokestatic 307, 3) := dk_184 1 51 (dk_at dksX7_others_1 16 rfl rfl)
theorem dX7_others_43 : decode cX7_others 43 = .ok (.if_icmp .ne 7, 3) := dk_160 0 7 (dk_at dksX7_others_1 19 rfl rfl)
theorem dX7_others_46 : decode cX7_others 46 = .ok (.iconst 0, 1) := dk_3 (dk_at dksX7_others_1 22 rfl rfl)
theorem dX7_others_47 : decode cX7_others 47 = .ok (.goto 4, 3) := dk_167 0 4 (dk_at dksX7_others_2 0 rfl rfl)
theorem dX7_others_50 : decode cX7_others 50 = .ok (.iconst 1, 1) := dk_4 (dk_at dksX7_others_2 3 rfl rfl)
theorem dX7_others_51 : decode cX7_others 51 = .ok (.iadd, 1) := dk_96 (dk_at dksX7_others_2 4 rfl rfl)
theorem dX7_others_52 : decode cX7_others 52 = .ok (.istore_n 2, 1) := dk_61 (dk_at dksX7_others_2 5 rfl rfl)
theorem dX7_others_53 : decode cX7_others 53 = .ok (.iinc 3 1, 3) := dk_132 3 1 (dk_at dksX7_others_2 6 rfl rfl)
theorem dX7_others_56 : decode cX7_others 56 = .ok (.goto (-52), 3) := dk_167 255 204 (dk_at dksX7_others_2 9 rfl rfl)
theorem dX7_others_59 : decode cX7_others 59 = .ok (.iload_n 2, 1) := dk_28 (dk_at dksX7_others_2 12 rfl rfl)
theorem dX7_others_60 : decode cX7_others 60 = .ok (.ireturn, 1) := dk_172 (dk_at dksX7_others_2 13 rfl rfl)
abbrev cX7_keeps : ByteArray := prog_19_method_61_code
def yX7_keeps : MethodName := ⟨RX7, "keeps", "()V"⟩
def dkwX7_keeps_1 : List UInt8 := [180, 0, 56, 27, 42, 180, 0, 131, 27, 46, 184, 1, 51, 79, 132, 1, 1, 167, 255, 230, 177]
abbrev dktX7_keeps_1 : List UInt8 := dkwX7_keeps_1 ++ []
def dkwX7_keeps_0 : List UInt8 := [42, 4, 181, 1, 57, 42, 42, 180, 0, 151, 181, 1, 61, 3, 60, 27, 42, 180, 0, 151, 162, 0, 24, 42]
abbrev dktX7_keeps_0 : List UInt8 := dkwX7_keeps_0 ++ dktX7_keeps_1
theorem dksX7_keeps_0 : cX7_keeps.data.toList.drop 0 = dktX7_keeps_0 := by decide +kernel
theorem dksX7_keeps_1 : cX7_keeps.data.toList.drop 24 = dktX7_keeps_1 := dk_seg dksX7_keeps_0 24 rfl rfl
theorem dX7_keeps_0 : decode cX7_keeps 0 = .ok (.aload_n 0, 1) := dk_42 (dk_at dksX7_keeps_0 0 rfl rfl)
theorem dX7_keeps_1 : decode cX7_keeps 1 = .ok (.iconst 1, 1) := dk_4 (dk_at dksX7_keeps_0 1 rfl rfl)
theorem dX7_keeps_2 : decode cX7_keeps 2 = .ok (.putfield 313, 3) := dk_181 1 57 (dk_at dksX7_keeps_0 2 rfl rfl)
theorem dX7_keeps_5 : decode cX7_keeps 5 = .ok (.aload_n 0, 1) := dk_42 (dk_at dksX7_keeps_0 5 rfl rfl)
theorem dX7_keeps_6 : decode cX7_keeps 6 = .ok (.aload_n 0, 1) := dk_42 (dk_at dksX7_keeps_0 6 rfl rfl)
theorem dX7_keeps_7 : decode cX7_keeps 7 = .ok (.getfield 151, 3) := dk_180 0 151 (dk_at dksX7_keeps_0 7 rfl rfl)
theorem dX7_keeps_10 : decode cX7_keeps 10 = .ok (.putfield 317, 3) := dk_181 1 61 (dk_at dksX7_keeps_0 10 rfl rfl)
theorem dX7_keeps_13 : decode cX7_keeps 13 = .ok (.iconst 0, 1) := dk_3 (dk_at dksX7_keeps_0 13 rfl rfl)
theorem dX7_keeps_14 : decode cX7_keeps 14 = .ok (.istore_n 1, 1) := dk_60 (dk_at dksX7_keeps_0 14 rfl rfl)
theorem dX7_keeps_15 : decode cX7_keeps 15 = .ok (.iload_n 1, 1) := dk_27 (dk_at dksX7_keeps_0 15 rfl rfl)
theorem dX7_keeps_16 : decode cX7_keeps 16 = .ok (.aload_n 0, 1) := dk_42 (dk_at dksX7_keeps_0 16 rfl rfl)
theorem dX7_keeps_17 : decode cX7_keeps 17 = .ok (.getfield 151, 3) := dk_180 0 151 (dk_at dksX7_keeps_0 17 rfl rfl)
theorem dX7_keeps_20 : decode cX7_keeps 20 = .ok (.if_icmp .ge 24, 3) := dk_162 0 24 (dk_at dksX7_keeps_0 20 rfl rfl)
theorem dX7_keeps_23 : decode cX7_keeps 23 = .ok (.aload_n 0, 1) := dk_42 (dk_at dksX7_keeps_0 23 rfl rfl)
theorem dX7_keeps_24 : decode cX7_keeps 24 = .ok (.getfield 56, 3) := dk_180 0 56 (dk_at dksX7_keeps_1 0 rfl rfl)
theorem dX7_keeps_27 : decode cX7_keeps 27 = .ok (.iload_n 1, 1) := dk_27 (dk_at dksX7_keeps_1 3 rfl rfl)
theorem dX7_keeps_28 : decode cX7_keeps 28 = .ok (.aload_n 0, 1) := dk_42 (dk_at dksX7_keeps_1 4 rfl rfl)
theorem dX7_keeps_29 : decode cX7_keeps 29 = .ok (.getfield 131, 3) := dk_180 0 131 (dk_at dksX7_keeps_1 5 rfl rfl)
theorem dX7_keeps_32 : decode cX7_keeps 32 = .ok (.iload_n 1, 1) := dk_27 (dk_at dksX7_keeps_1 8 rfl rfl)
theorem dX7_keeps_33 : decode cX7_keeps 33 = .ok (.iaload, 1) := dk_46 (dk_at dksX7_keeps_1 9 rfl rfl)
theorem dX7_keeps_34 : decode cX7_keeps 34 = .ok (.invokestatic 307, 3) := dk_184 1 51 (dk_at dksX7_keeps_1 10 rfl rfl)
theorem dX7_keeps_37 : decode cX7_keeps 37 = .ok (.iastore, 1) := dk_79 (dk_at dksX7_keeps_1 13 rfl rfl)
theorem dX7_keeps_38 : decode cX7_keeps 38 = .ok (.iinc 1 1, 3) := dk_132 1 1 (dk_at dksX7_keeps_1 14 rfl rfl)
theorem dX7_keeps_41 : decode cX7_keeps 41 = .ok (.goto (-26), 3) := dk_167 255 230 (dk_at dksX7_keeps_1 17 rfl rfl)
theorem dX7_keeps_44 : decode cX7_keeps 44 = .ok (.return_, 1) := dk_177 (dk_at dksX7_keeps_1 20 rfl rfl)
abbrev cX7_foundDay : ByteArray := prog_19_method_63_code
def yX7_foundDay : MethodName := ⟨RX7, "foundDay", "(I)I"⟩
def dkwX7_foundDay_1 : List UInt8 := [180, 0, 56, 27, 46, 167, 0, 4, 2, 172]
abbrev dktX7_foundDay_1 : List UInt8 := dkwX7_foundDay_1 ++ []
def dkwX7_foundDay_0 : List UInt8 := [42, 180, 1, 57, 153, 0, 26, 27, 3, 42, 180, 1, 61, 4, 100, 184, 0, 154, 153, 0, 12, 42]
abbrev dktX7_foundDay_0 : List UInt8 := dkwX7_foundDay_0 ++ dktX7_foundDay_1
theorem dksX7_foundDay_0 : cX7_foundDay.data.toList.drop 0 = dktX7_foundDay_0 := by decide +kernel
theorem dksX7_foundDay_1 : cX7_foundDay.data.toList.drop 22 = dktX7_foundDay_1 := dk_seg dksX7_foundDay_0 22 rfl rfl
theorem dX7_foundDay_0 : decode cX7_foundDay 0 = .ok (.aload_n 0, 1) := dk_42 (dk_at dksX7_foundDay_0 0 rfl rfl)
theorem dX7_foundDay_1 : decode cX7_foundDay 1 = .ok (.getfield 313, 3) := dk_180 1 57 (dk_at dksX7_foundDay_0 1 rfl rfl)
theorem dX7_foundDay_4 : decode cX7_foundDay 4 = .ok (.ifCond .eq 26, 3) := dk_153 0 26 (dk_at dksX7_foundDay_0 4 rfl rfl)
theorem dX7_foundDay_7 : decode cX7_foundDay 7 = .ok (.iload_n 1, 1) := dk_27 (dk_at dksX7_foundDay_0 7 rfl rfl)
theorem dX7_foundDay_8 : decode cX7_foundDay 8 = .ok (.iconst 0, 1) := dk_3 (dk_at dksX7_foundDay_0 8 rfl rfl)
theorem dX7_foundDay_9 : decode cX7_foundDay 9 = .ok (.aload_n 0, 1) := dk_42 (dk_at dksX7_foundDay_0 9 rfl rfl)
theorem dX7_foundDay_10 : decode cX7_foundDay 10 = .ok (.getfield 317, 3) := dk_180 1 61 (dk_at dksX7_foundDay_0 10 rfl rfl)
theorem dX7_foundDay_13 : decode cX7_foundDay 13 = .ok (.iconst 1, 1) := dk_4 (dk_at dksX7_foundDay_0 13 rfl rfl)
theorem dX7_foundDay_14 : decode cX7_foundDay 14 = .ok (.isub, 1) := dk_100 (dk_at dksX7_foundDay_0 14 rfl rfl)
theorem dX7_foundDay_15 : decode cX7_foundDay 15 = .ok (.invokestatic 154, 3) := dk_184 0 154 (dk_at dksX7_foundDay_0 15 rfl rfl)
theorem dX7_foundDay_18 : decode cX7_foundDay 18 = .ok (.ifCond .eq 12, 3) := dk_153 0 12 (dk_at dksX7_foundDay_0 18 rfl rfl)
theorem dX7_foundDay_21 : decode cX7_foundDay 21 = .ok (.aload_n 0, 1) := dk_42 (dk_at dksX7_foundDay_0 21 rfl rfl)
theorem dX7_foundDay_22 : decode cX7_foundDay 22 = .ok (.getfield 56, 3) := dk_180 0 56 (dk_at dksX7_foundDay_1 0 rfl rfl)
theorem dX7_foundDay_25 : decode cX7_foundDay 25 = .ok (.iload_n 1, 1) := dk_27 (dk_at dksX7_foundDay_1 3 rfl rfl)
theorem dX7_foundDay_26 : decode cX7_foundDay 26 = .ok (.iaload, 1) := dk_46 (dk_at dksX7_foundDay_1 4 rfl rfl)
theorem dX7_foundDay_27 : decode cX7_foundDay 27 = .ok (.goto 4, 3) := dk_167 0 4 (dk_at dksX7_foundDay_1 5 rfl rfl)
theorem dX7_foundDay_30 : decode cX7_foundDay 30 = .ok (.iconst (-1), 1) := dk_2 (dk_at dksX7_foundDay_1 8 rfl rfl)
theorem dX7_foundDay_31 : decode cX7_foundDay 31 = .ok (.ireturn, 1) := dk_172 (dk_at dksX7_foundDay_1 9 rfl rfl)
abbrev cX7_least : ByteArray := prog_19_method_64_code
def yX7_least : MethodName := ⟨RX7, "least", "()I"⟩
def dkwX7_least_2 : List UInt8 := [61, 132, 3, 1, 167, 255, 215, 42, 27, 181, 0, 25, 28, 172]
abbrev dktX7_least_2 : List UInt8 := dkwX7_least_2 ++ []
def dkwX7_least_1 : List UInt8 := [181, 0, 25, 42, 182, 1, 22, 42, 42, 182, 1, 44, 4, 182, 1, 47, 153, 0, 7, 29, 167, 0, 4, 2]
abbrev dktX7_least_1 : List UInt8 := dkwX7_least_1 ++ dktX7_least_2
def dkwX7_least_0 : List UInt8 := [42, 180, 0, 25, 60, 2, 61, 5, 62, 29, 16, 7, 163, 0, 41, 28, 2, 160, 0, 36, 42, 29]
abbrev dktX7_least_0 : List UInt8 := dkwX7_least_0 ++ dktX7_least_1
theorem dksX7_least_0 : cX7_least.data.toList.drop 0 = dktX7_least_0 := by decide +kernel
theorem dksX7_least_1 : cX7_least.data.toList.drop 22 = dktX7_least_1 := dk_seg dksX7_least_0 22 rfl rfl
theorem dksX7_least_2 : cX7_least.data.toList.drop 46 = dktX7_least_2 := dk_seg dksX7_least_1 24 rfl rfl
theorem dX7_least_0 : decode cX7_least 0 = .ok (.aload_n 0, 1) := dk_42 (dk_at dksX7_least_0 0 rfl rfl)
theorem dX7_least_1 : decode cX7_least 1 = .ok (.getfield 25, 3) := dk_180 0 25 (dk_at dksX7_least_0 1 rfl rfl)
theorem dX7_least_4 : decode cX7_least 4 = .ok (.istore_n 1, 1) := dk_60 (dk_at dksX7_least_0 4 rfl rfl)
theorem dX7_least_5 : decode cX7_least 5 = .ok (.iconst (-1), 1) := dk_2 (dk_at dksX7_least_0 5 rfl rfl)
theorem dX7_least_6 : decode cX7_least 6 = .ok (.istore_n 2, 1) := dk_61 (dk_at dksX7_least_0 6 rfl rfl)
theorem dX7_least_7 : decode cX7_least 7 = .ok (.iconst 2, 1) := dk_5 (dk_at dksX7_least_0 7 rfl rfl)
theorem dX7_least_8 : decode cX7_least 8 = .ok (.istore_n 3, 1) := dk_62 (dk_at dksX7_least_0 8 rfl rfl)
theorem dX7_least_9 : decode cX7_least 9 = .ok (.iload_n 3, 1) := dk_29 (dk_at dksX7_least_0 9 rfl rfl)
theorem dX7_least_10 : decode cX7_least 10 = .ok (.bipush 7, 2) := dk_16 7 (dk_at dksX7_least_0 10 rfl rfl)
theorem dX7_least_12 : decode cX7_least 12 = .ok (.if_icmp .gt 41, 3) := dk_163 0 41 (dk_at dksX7_least_0 12 rfl rfl)
theorem dX7_least_15 : decode cX7_least 15 = .ok (.iload_n 2, 1) := dk_28 (dk_at dksX7_least_0 15 rfl rfl)
theorem dX7_least_16 : decode cX7_least 16 = .ok (.iconst (-1), 1) := dk_2 (dk_at dksX7_least_0 16 rfl rfl)
theorem dX7_least_17 : decode cX7_least 17 = .ok (.if_icmp .ne 36, 3) := dk_160 0 36 (dk_at dksX7_least_0 17 rfl rfl)
theorem dX7_least_20 : decode cX7_least 20 = .ok (.aload_n 0, 1) := dk_42 (dk_at dksX7_least_0 20 rfl rfl)
theorem dX7_least_21 : decode cX7_least 21 = .ok (.iload_n 3, 1) := dk_29 (dk_at dksX7_least_0 21 rfl rfl)
theorem dX7_least_22 : decode cX7_least 22 = .ok (.putfield 25, 3) := dk_181 0 25 (dk_at dksX7_least_1 0 rfl rfl)
theorem dX7_least_25 : decode cX7_least 25 = .ok (.aload_n 0, 1) := dk_42 (dk_at dksX7_least_1 3 rfl rfl)
theorem dX7_least_26 : decode cX7_least 26 = .ok (.invokevirtual 278, 3) := dk_182 1 22 (dk_at dksX7_least_1 4 rfl rfl)
theorem dX7_least_29 : decode cX7_least 29 = .ok (.aload_n 0, 1) := dk_42 (dk_at dksX7_least_1 7 rfl rfl)
theorem dX7_least_30 : decode cX7_least 30 = .ok (.aload_n 0, 1) := dk_42 (dk_at dksX7_least_1 8 rfl rfl)
theorem dX7_least_31 : decode cX7_least 31 = .ok (.invokevirtual 300, 3) := dk_182 1 44 (dk_at dksX7_least_1 9 rfl rfl)
theorem dX7_least_34 : decode cX7_least 34 = .ok (.iconst 1, 1) := dk_4 (dk_at dksX7_least_1 12 rfl rfl)
theorem dX7_least_35 : decode cX7_least 35 = .ok (.invokevirtual 303, 3) := dk_182 1 47 (dk_at dksX7_least_1 13 rfl rfl)
theorem dX7_least_38 : decode cX7_least 38 = .ok (.ifCond .eq 7, 3) := dk_153 0 7 (dk_at dksX7_least_1 16 rfl rfl)
theorem dX7_least_41 : decode cX7_least 41 = .ok (.iload_n 3, 1) := dk_29 (dk_at dksX7_least_1 19 rfl rfl)
theorem dX7_least_42 : decode cX7_least 42 = .ok (.goto 4, 3) := dk_167 0 4 (dk_at dksX7_least_1 20 rfl rfl)
theorem dX7_least_45 : decode cX7_least 45 = .ok (.iconst (-1), 1) := dk_2 (dk_at dksX7_least_1 23 rfl rfl)
theorem dX7_least_46 : decode cX7_least 46 = .ok (.istore_n 2, 1) := dk_61 (dk_at dksX7_least_2 0 rfl rfl)
theorem dX7_least_47 : decode cX7_least 47 = .ok (.iinc 3 1, 3) := dk_132 3 1 (dk_at dksX7_least_2 1 rfl rfl)
theorem dX7_least_50 : decode cX7_least 50 = .ok (.goto (-41), 3) := dk_167 255 215 (dk_at dksX7_least_2 4 rfl rfl)
theorem dX7_least_53 : decode cX7_least 53 = .ok (.aload_n 0, 1) := dk_42 (dk_at dksX7_least_2 7 rfl rfl)
theorem dX7_least_54 : decode cX7_least 54 = .ok (.iload_n 1, 1) := dk_27 (dk_at dksX7_least_2 8 rfl rfl)
theorem dX7_least_55 : decode cX7_least 55 = .ok (.putfield 25, 3) := dk_181 0 25 (dk_at dksX7_least_2 9 rfl rfl)
theorem dX7_least_58 : decode cX7_least 58 = .ok (.iload_n 2, 1) := dk_28 (dk_at dksX7_least_2 12 rfl rfl)
theorem dX7_least_59 : decode cX7_least 59 = .ok (.ireturn, 1) := dk_172 (dk_at dksX7_least_2 13 rfl rfl)
abbrev cX7_knot : ByteArray := prog_19_method_66_code
def yX7_knot : MethodName := ⟨RX7, "knot", "()I"⟩
def dkwX7_knot_2 : List UInt8 := [27, 172]
abbrev dktX7_knot_2 : List UInt8 := dkwX7_knot_2 ++ []
def dkwX7_knot_1 : List UInt8 := [27, 184, 1, 75, 162, 0, 14, 42, 28, 4, 182, 1, 47, 154, 0, 5, 28, 60, 132, 2, 1, 167, 255, 219]
abbrev dktX7_knot_1 : List UInt8 := dkwX7_knot_1 ++ dktX7_knot_2
def dkwX7_knot_0 : List UInt8 := [42, 182, 1, 22, 3, 60, 4, 61, 28, 42, 182, 1, 44, 163, 0, 35, 27, 153, 0, 14, 28, 184, 1, 75]
abbrev dktX7_knot_0 : List UInt8 := dkwX7_knot_0 ++ dktX7_knot_1
theorem dksX7_knot_0 : cX7_knot.data.toList.drop 0 = dktX7_knot_0 := by decide +kernel
theorem dksX7_knot_1 : cX7_knot.data.toList.drop 24 = dktX7_knot_1 := dk_seg dksX7_knot_0 24 rfl rfl
theorem dksX7_knot_2 : cX7_knot.data.toList.drop 48 = dktX7_knot_2 := dk_seg dksX7_knot_1 24 rfl rfl
theorem dX7_knot_0 : decode cX7_knot 0 = .ok (.aload_n 0, 1) := dk_42 (dk_at dksX7_knot_0 0 rfl rfl)
theorem dX7_knot_1 : decode cX7_knot 1 = .ok (.invokevirtual 278, 3) := dk_182 1 22 (dk_at dksX7_knot_0 1 rfl rfl)
theorem dX7_knot_4 : decode cX7_knot 4 = .ok (.iconst 0, 1) := dk_3 (dk_at dksX7_knot_0 4 rfl rfl)
theorem dX7_knot_5 : decode cX7_knot 5 = .ok (.istore_n 1, 1) := dk_60 (dk_at dksX7_knot_0 5 rfl rfl)
theorem dX7_knot_6 : decode cX7_knot 6 = .ok (.iconst 1, 1) := dk_4 (dk_at dksX7_knot_0 6 rfl rfl)
theorem dX7_knot_7 : decode cX7_knot 7 = .ok (.istore_n 2, 1) := dk_61 (dk_at dksX7_knot_0 7 rfl rfl)
theorem dX7_knot_8 : decode cX7_knot 8 = .ok (.iload_n 2, 1) := dk_28 (dk_at dksX7_knot_0 8 rfl rfl)
theorem dX7_knot_9 : decode cX7_knot 9 = .ok (.aload_n 0, 1) := dk_42 (dk_at dksX7_knot_0 9 rfl rfl)
theorem dX7_knot_10 : decode cX7_knot 10 = .ok (.invokevirtual 300, 3) := dk_182 1 44 (dk_at dksX7_knot_0 10 rfl rfl)
theorem dX7_knot_13 : decode cX7_knot 13 = .ok (.if_icmp .gt 35, 3) := dk_163 0 35 (dk_at dksX7_knot_0 13 rfl rfl)
theorem dX7_knot_16 : decode cX7_knot 16 = .ok (.iload_n 1, 1) := dk_27 (dk_at dksX7_knot_0 16 rfl rfl)
theorem dX7_knot_17 : decode cX7_knot 17 = .ok (.ifCond .eq 14, 3) := dk_153 0 14 (dk_at dksX7_knot_0 17 rfl rfl)
theorem dX7_knot_20 : decode cX7_knot 20 = .ok (.iload_n 2, 1) := dk_28 (dk_at dksX7_knot_0 20 rfl rfl)
theorem dX7_knot_21 : decode cX7_knot 21 = .ok (.invokestatic 331, 3) := dk_184 1 75 (dk_at dksX7_knot_0 21 rfl rfl)
theorem dX7_knot_24 : decode cX7_knot 24 = .ok (.iload_n 1, 1) := dk_27 (dk_at dksX7_knot_1 0 rfl rfl)
theorem dX7_knot_25 : decode cX7_knot 25 = .ok (.invokestatic 331, 3) := dk_184 1 75 (dk_at dksX7_knot_1 1 rfl rfl)
theorem dX7_knot_28 : decode cX7_knot 28 = .ok (.if_icmp .ge 14, 3) := dk_162 0 14 (dk_at dksX7_knot_1 4 rfl rfl)
theorem dX7_knot_31 : decode cX7_knot 31 = .ok (.aload_n 0, 1) := dk_42 (dk_at dksX7_knot_1 7 rfl rfl)
theorem dX7_knot_32 : decode cX7_knot 32 = .ok (.iload_n 2, 1) := dk_28 (dk_at dksX7_knot_1 8 rfl rfl)
theorem dX7_knot_33 : decode cX7_knot 33 = .ok (.iconst 1, 1) := dk_4 (dk_at dksX7_knot_1 9 rfl rfl)
theorem dX7_knot_34 : decode cX7_knot 34 = .ok (.invokevirtual 303, 3) := dk_182 1 47 (dk_at dksX7_knot_1 10 rfl rfl)
theorem dX7_knot_37 : decode cX7_knot 37 = .ok (.ifCond .ne 5, 3) := dk_154 0 5 (dk_at dksX7_knot_1 13 rfl rfl)
theorem dX7_knot_40 : decode cX7_knot 40 = .ok (.iload_n 2, 1) := dk_28 (dk_at dksX7_knot_1 16 rfl rfl)
theorem dX7_knot_41 : decode cX7_knot 41 = .ok (.istore_n 1, 1) := dk_60 (dk_at dksX7_knot_1 17 rfl rfl)
theorem dX7_knot_42 : decode cX7_knot 42 = .ok (.iinc 2 1, 3) := dk_132 2 1 (dk_at dksX7_knot_1 18 rfl rfl)
theorem dX7_knot_45 : decode cX7_knot 45 = .ok (.goto (-37), 3) := dk_167 255 219 (dk_at dksX7_knot_1 21 rfl rfl)
theorem dX7_knot_48 : decode cX7_knot 48 = .ok (.iload_n 1, 1) := dk_27 (dk_at dksX7_knot_2 0 rfl rfl)
theorem dX7_knot_49 : decode cX7_knot 49 = .ok (.ireturn, 1) := dk_172 (dk_at dksX7_knot_2 1 rfl rfl)
abbrev cX7_ones : ByteArray := prog_19_method_65_code
def yX7_ones : MethodName := ⟨RX7, "ones", "(I)I"⟩
def dkwX7_ones_1 : List UInt8 := [27, 172]
abbrev dktX7_ones_1 : List UInt8 := dkwX7_ones_1 ++ []
def dkwX7_ones_0 : List UInt8 := [3, 60, 3, 61, 28, 16, 6, 162, 0, 17, 27, 26, 28, 122, 4, 126, 96, 60, 132, 2, 1, 167, 255, 239]
abbrev dktX7_ones_0 : List UInt8 := dkwX7_ones_0 ++ dktX7_ones_1
theorem dksX7_ones_0 : cX7_ones.data.toList.drop 0 = dktX7_ones_0 := by decide +kernel
theorem dksX7_ones_1 : cX7_ones.data.toList.drop 24 = dktX7_ones_1 := dk_seg dksX7_ones_0 24 rfl rfl
theorem dX7_ones_0 : decode cX7_ones 0 = .ok (.iconst 0, 1) := dk_3 (dk_at dksX7_ones_0 0 rfl rfl)
theorem dX7_ones_1 : decode cX7_ones 1 = .ok (.istore_n 1, 1) := dk_60 (dk_at dksX7_ones_0 1 rfl rfl)
theorem dX7_ones_2 : decode cX7_ones 2 = .ok (.iconst 0, 1) := dk_3 (dk_at dksX7_ones_0 2 rfl rfl)
theorem dX7_ones_3 : decode cX7_ones 3 = .ok (.istore_n 2, 1) := dk_61 (dk_at dksX7_ones_0 3 rfl rfl)
theorem dX7_ones_4 : decode cX7_ones 4 = .ok (.iload_n 2, 1) := dk_28 (dk_at dksX7_ones_0 4 rfl rfl)
theorem dX7_ones_5 : decode cX7_ones 5 = .ok (.bipush 6, 2) := dk_16 6 (dk_at dksX7_ones_0 5 rfl rfl)
theorem dX7_ones_7 : decode cX7_ones 7 = .ok (.if_icmp .ge 17, 3) := dk_162 0 17 (dk_at dksX7_ones_0 7 rfl rfl)
theorem dX7_ones_10 : decode cX7_ones 10 = .ok (.iload_n 1, 1) := dk_27 (dk_at dksX7_ones_0 10 rfl rfl)
theorem dX7_ones_11 : decode cX7_ones 11 = .ok (.iload_n 0, 1) := dk_26 (dk_at dksX7_ones_0 11 rfl rfl)
theorem dX7_ones_12 : decode cX7_ones 12 = .ok (.iload_n 2, 1) := dk_28 (dk_at dksX7_ones_0 12 rfl rfl)
theorem dX7_ones_13 : decode cX7_ones 13 = .ok (.ishr, 1) := dk_122 (dk_at dksX7_ones_0 13 rfl rfl)
theorem dX7_ones_14 : decode cX7_ones 14 = .ok (.iconst 1, 1) := dk_4 (dk_at dksX7_ones_0 14 rfl rfl)
theorem dX7_ones_15 : decode cX7_ones 15 = .ok (.iand, 1) := dk_126 (dk_at dksX7_ones_0 15 rfl rfl)
theorem dX7_ones_16 : decode cX7_ones 16 = .ok (.iadd, 1) := dk_96 (dk_at dksX7_ones_0 16 rfl rfl)
theorem dX7_ones_17 : decode cX7_ones 17 = .ok (.istore_n 1, 1) := dk_60 (dk_at dksX7_ones_0 17 rfl rfl)
theorem dX7_ones_18 : decode cX7_ones 18 = .ok (.iinc 2 1, 3) := dk_132 2 1 (dk_at dksX7_ones_0 18 rfl rfl)
theorem dX7_ones_21 : decode cX7_ones 21 = .ok (.goto (-17), 3) := dk_167 255 239 (dk_at dksX7_ones_0 21 rfl rfl)
theorem dX7_ones_24 : decode cX7_ones 24 = .ok (.iload_n 1, 1) := dk_27 (dk_at dksX7_ones_1 0 rfl rfl)
theorem dX7_ones_25 : decode cX7_ones 25 = .ok (.ireturn, 1) := dk_172 (dk_at dksX7_ones_1 1 rfl rfl)
abbrev cX7_room : ByteArray := prog_19_method_67_code
def yX7_room : MethodName := ⟨RX7, "room", "(III)I"⟩
def dkwX7_room_5 : List UInt8 := [167, 0, 4, 3, 128, 54, 4, 132, 5, 1, 167, 255, 173, 21, 4, 172]
abbrev dktX7_room_5 : List UInt8 := dkwX7_room_5 ++ []
def dkwX7_room_4 : List UInt8 := [167, 0, 4, 3, 54, 6, 132, 7, 1, 167, 255, 222, 21, 4, 21, 6, 153, 0, 10, 4, 21, 5, 120]
abbrev dktX7_room_4 : List UInt8 := dkwX7_room_4 ++ dktX7_room_5
def dkwX7_room_3 : List UInt8 := [42, 180, 0, 151, 162, 0, 31, 21, 6, 153, 0, 17, 42, 21, 7, 28, 182, 1, 19, 154, 0, 7, 4]
abbrev dktX7_room_3 : List UInt8 := dkwX7_room_3 ++ dktX7_room_4
def dkwX7_room_2 : List UInt8 := [180, 0, 25, 162, 0, 80, 42, 180, 0, 131, 28, 4, 21, 5, 120, 79, 4, 54, 6, 3, 54, 7, 21, 7]
abbrev dktX7_room_2 : List UInt8 := dkwX7_room_2 ++ dktX7_room_3
def dkwX7_room_1 : List UInt8 := [16, 251, 172, 42, 182, 1, 22, 42, 27, 29, 182, 1, 25, 3, 54, 4, 3, 54, 5, 21, 5, 42]
abbrev dktX7_room_1 : List UInt8 := dkwX7_room_1 ++ dktX7_room_2
def dkwX7_room_0 : List UInt8 := [42, 27, 182, 1, 10, 153, 0, 18, 42, 28, 182, 0, 158, 153, 0, 10, 29, 184, 0, 165, 154, 0, 6]
abbrev dktX7_room_0 : List UInt8 := dkwX7_room_0 ++ dktX7_room_1
theorem dksX7_room_0 : cX7_room.data.toList.drop 0 = dktX7_room_0 := by decide +kernel
theorem dksX7_room_1 : cX7_room.data.toList.drop 23 = dktX7_room_1 := dk_seg dksX7_room_0 23 rfl rfl
theorem dksX7_room_2 : cX7_room.data.toList.drop 45 = dktX7_room_2 := dk_seg dksX7_room_1 22 rfl rfl
theorem dksX7_room_3 : cX7_room.data.toList.drop 69 = dktX7_room_3 := dk_seg dksX7_room_2 24 rfl rfl
theorem dksX7_room_4 : cX7_room.data.toList.drop 92 = dktX7_room_4 := dk_seg dksX7_room_3 23 rfl rfl
theorem dksX7_room_5 : cX7_room.data.toList.drop 115 = dktX7_room_5 := dk_seg dksX7_room_4 23 rfl rfl
theorem dX7_room_0 : decode cX7_room 0 = .ok (.aload_n 0, 1) := dk_42 (dk_at dksX7_room_0 0 rfl rfl)
theorem dX7_room_1 : decode cX7_room 1 = .ok (.iload_n 1, 1) := dk_27 (dk_at dksX7_room_0 1 rfl rfl)
theorem dX7_room_2 : decode cX7_room 2 = .ok (.invokevirtual 266, 3) := dk_182 1 10 (dk_at dksX7_room_0 2 rfl rfl)
theorem dX7_room_5 : decode cX7_room 5 = .ok (.ifCond .eq 18, 3) := dk_153 0 18 (dk_at dksX7_room_0 5 rfl rfl)
theorem dX7_room_8 : decode cX7_room 8 = .ok (.aload_n 0, 1) := dk_42 (dk_at dksX7_room_0 8 rfl rfl)
theorem dX7_room_9 : decode cX7_room 9 = .ok (.iload_n 2, 1) := dk_28 (dk_at dksX7_room_0 9 rfl rfl)
theorem dX7_room_10 : decode cX7_room 10 = .ok (.invokevirtual 158, 3) := dk_182 0 158 (dk_at dksX7_room_0 10 rfl rfl)
theorem dX7_room_13 : decode cX7_room 13 = .ok (.ifCond .eq 10, 3) := dk_153 0 10 (dk_at dksX7_room_0 13 rfl rfl)
theorem dX7_room_16 : decode cX7_room 16 = .ok (.iload_n 3, 1) := dk_29 (dk_at dksX7_room_0 16 rfl rfl)
theorem dX7_room_17 : decode cX7_room 17 = .ok (.invokestatic 165, 3) := dk_184 0 165 (dk_at dksX7_room_0 17 rfl rfl)
theorem dX7_room_20 : decode cX7_room 20 = .ok (.ifCond .ne 6, 3) := dk_154 0 6 (dk_at dksX7_room_0 20 rfl rfl)
theorem dX7_room_23 : decode cX7_room 23 = .ok (.bipush (-5), 2) := dk_16 251 (dk_at dksX7_room_1 0 rfl rfl)
theorem dX7_room_25 : decode cX7_room 25 = .ok (.ireturn, 1) := dk_172 (dk_at dksX7_room_1 2 rfl rfl)
theorem dX7_room_26 : decode cX7_room 26 = .ok (.aload_n 0, 1) := dk_42 (dk_at dksX7_room_1 3 rfl rfl)
theorem dX7_room_27 : decode cX7_room 27 = .ok (.invokevirtual 278, 3) := dk_182 1 22 (dk_at dksX7_room_1 4 rfl rfl)
theorem dX7_room_30 : decode cX7_room 30 = .ok (.aload_n 0, 1) := dk_42 (dk_at dksX7_room_1 7 rfl rfl)
theorem dX7_room_31 : decode cX7_room 31 = .ok (.iload_n 1, 1) := dk_27 (dk_at dksX7_room_1 8 rfl rfl)
theorem dX7_room_32 : decode cX7_room 32 = .ok (.iload_n 3, 1) := dk_29 (dk_at dksX7_room_1 9 rfl rfl)
theorem dX7_room_33 : decode cX7_room 33 = .ok (.invokevirtual 281, 3) := dk_182 1 25 (dk_at dksX7_room_1 10 rfl rfl)
theorem dX7_room_36 : decode cX7_room 36 = .ok (.iconst 0, 1) := dk_3 (dk_at dksX7_room_1 13 rfl rfl)
theorem dX7_room_37 : decode cX7_room 37 = .ok (.istore 4, 2) := dk_54 4 (dk_at dksX7_room_1 14 rfl rfl)
theorem dX7_room_39 : decode cX7_room 39 = .ok (.iconst 0, 1) := dk_3 (dk_at dksX7_room_1 16 rfl rfl)
theorem dX7_room_40 : decode cX7_room 40 = .ok (.istore 5, 2) := dk_54 5 (dk_at dksX7_room_1 17 rfl rfl)
theorem dX7_room_42 : decode cX7_room 42 = .ok (.iload 5, 2) := dk_21 5 (dk_at dksX7_room_1 19 rfl rfl)
theorem dX7_room_44 : decode cX7_room 44 = .ok (.aload_n 0, 1) := dk_42 (dk_at dksX7_room_1 21 rfl rfl)
theorem dX7_room_45 : decode cX7_room 45 = .ok (.getfield 25, 3) := dk_180 0 25 (dk_at dksX7_room_2 0 rfl rfl)
theorem dX7_room_48 : decode cX7_room 48 = .ok (.if_icmp .ge 80, 3) := dk_162 0 80 (dk_at dksX7_room_2 3 rfl rfl)
theorem dX7_room_51 : decode cX7_room 51 = .ok (.aload_n 0, 1) := dk_42 (dk_at dksX7_room_2 6 rfl rfl)
theorem dX7_room_52 : decode cX7_room 52 = .ok (.getfield 131, 3) := dk_180 0 131 (dk_at dksX7_room_2 7 rfl rfl)
theorem dX7_room_55 : decode cX7_room 55 = .ok (.iload_n 2, 1) := dk_28 (dk_at dksX7_room_2 10 rfl rfl)
theorem dX7_room_56 : decode cX7_room 56 = .ok (.iconst 1, 1) := dk_4 (dk_at dksX7_room_2 11 rfl rfl)
theorem dX7_room_57 : decode cX7_room 57 = .ok (.iload 5, 2) := dk_21 5 (dk_at dksX7_room_2 12 rfl rfl)
theorem dX7_room_59 : decode cX7_room 59 = .ok (.ishl, 1) := dk_120 (dk_at dksX7_room_2 14 rfl rfl)
theorem dX7_room_60 : decode cX7_room 60 = .ok (.iastore, 1) := dk_79 (dk_at dksX7_room_2 15 rfl rfl)
theorem dX7_room_61 : decode cX7_room 61 = .ok (.iconst 1, 1) := dk_4 (dk_at dksX7_room_2 16 rfl rfl)
theorem dX7_room_62 : decode cX7_room 62 = .ok (.istore 6, 2) := dk_54 6 (dk_at dksX7_room_2 17 rfl rfl)
theorem dX7_room_64 : decode cX7_room 64 = .ok (.iconst 0, 1) := dk_3 (dk_at dksX7_room_2 19 rfl rfl)
theorem dX7_room_65 : decode cX7_room 65 = .ok (.istore 7, 2) := dk_54 7 (dk_at dksX7_room_2 20 rfl rfl)
theorem dX7_room_67 : decode cX7_room 67 = .ok (.iload 7, 2) := dk_21 7 (dk_at dksX7_room_2 22 rfl rfl)
theorem dX7_room_69 : decode cX7_room 69 = .ok (.aload_n 0, 1) := dk_42 (dk_at dksX7_room_3 0 rfl rfl)
theorem dX7_room_70 : decode cX7_room 70 = .ok (.getfield 151, 3) := dk_180 0 151 (dk_at dksX7_room_3 1 rfl rfl)
theorem dX7_room_73 : decode cX7_room 73 = .ok (.if_icmp .ge 31, 3) := dk_162 0 31 (dk_at dksX7_room_3 4 rfl rfl)
theorem dX7_room_76 : decode cX7_room 76 = .ok (.iload 6, 2) := dk_21 6 (dk_at dksX7_room_3 7 rfl rfl)
theorem dX7_room_78 : decode cX7_room 78 = .ok (.ifCond .eq 17, 3) := dk_153 0 17 (dk_at dksX7_room_3 9 rfl rfl)
theorem dX7_room_81 : decode cX7_room 81 = .ok (.aload_n 0, 1) := dk_42 (dk_at dksX7_room_3 12 rfl rfl)
theorem dX7_room_82 : decode cX7_room 82 = .ok (.iload 7, 2) := dk_21 7 (dk_at dksX7_room_3 13 rfl rfl)
theorem dX7_room_84 : decode cX7_room 84 = .ok (.iload_n 2, 1) := dk_28 (dk_at dksX7_room_3 15 rfl rfl)
theorem dX7_room_85 : decode cX7_room 85 = .ok (.invokevirtual 275, 3) := dk_182 1 19 (dk_at dksX7_room_3 16 rfl rfl)
theorem dX7_room_88 : decode cX7_room 88 = .ok (.ifCond .ne 7, 3) := dk_154 0 7 (dk_at dksX7_room_3 19 rfl rfl)
theorem dX7_room_91 : decode cX7_room 91 = .ok (.iconst 1, 1) := dk_4 (dk_at dksX7_room_3 22 rfl rfl)
theorem dX7_room_92 : decode cX7_room 92 = .ok (.goto 4, 3) := dk_167 0 4 (dk_at dksX7_room_4 0 rfl rfl)
theorem dX7_room_95 : decode cX7_room 95 = .ok (.iconst 0, 1) := dk_3 (dk_at dksX7_room_4 3 rfl rfl)
theorem dX7_room_96 : decode cX7_room 96 = .ok (.istore 6, 2) := dk_54 6 (dk_at dksX7_room_4 4 rfl rfl)
theorem dX7_room_98 : decode cX7_room 98 = .ok (.iinc 7 1, 3) := dk_132 7 1 (dk_at dksX7_room_4 6 rfl rfl)
theorem dX7_room_101 : decode cX7_room 101 = .ok (.goto (-34), 3) := dk_167 255 222 (dk_at dksX7_room_4 9 rfl rfl)
theorem dX7_room_104 : decode cX7_room 104 = .ok (.iload 4, 2) := dk_21 4 (dk_at dksX7_room_4 12 rfl rfl)
theorem dX7_room_106 : decode cX7_room 106 = .ok (.iload 6, 2) := dk_21 6 (dk_at dksX7_room_4 14 rfl rfl)
theorem dX7_room_108 : decode cX7_room 108 = .ok (.ifCond .eq 10, 3) := dk_153 0 10 (dk_at dksX7_room_4 16 rfl rfl)
theorem dX7_room_111 : decode cX7_room 111 = .ok (.iconst 1, 1) := dk_4 (dk_at dksX7_room_4 19 rfl rfl)
theorem dX7_room_112 : decode cX7_room 112 = .ok (.iload 5, 2) := dk_21 5 (dk_at dksX7_room_4 20 rfl rfl)
theorem dX7_room_114 : decode cX7_room 114 = .ok (.ishl, 1) := dk_120 (dk_at dksX7_room_4 22 rfl rfl)
theorem dX7_room_115 : decode cX7_room 115 = .ok (.goto 4, 3) := dk_167 0 4 (dk_at dksX7_room_5 0 rfl rfl)
theorem dX7_room_118 : decode cX7_room 118 = .ok (.iconst 0, 1) := dk_3 (dk_at dksX7_room_5 3 rfl rfl)
theorem dX7_room_119 : decode cX7_room 119 = .ok (.ior, 1) := dk_128 (dk_at dksX7_room_5 4 rfl rfl)
theorem dX7_room_120 : decode cX7_room 120 = .ok (.istore 4, 2) := dk_54 4 (dk_at dksX7_room_5 5 rfl rfl)
theorem dX7_room_122 : decode cX7_room 122 = .ok (.iinc 5 1, 3) := dk_132 5 1 (dk_at dksX7_room_5 7 rfl rfl)
theorem dX7_room_125 : decode cX7_room 125 = .ok (.goto (-83), 3) := dk_167 255 173 (dk_at dksX7_room_5 10 rfl rfl)
theorem dX7_room_128 : decode cX7_room 128 = .ok (.iload 4, 2) := dk_21 4 (dk_at dksX7_room_5 13 rfl rfl)
theorem dX7_room_130 : decode cX7_room 130 = .ok (.ireturn, 1) := dk_172 (dk_at dksX7_room_5 15 rfl rfl)
abbrev cX7_hurt : ByteArray := prog_19_method_68_code
def yX7_hurt : MethodName := ⟨RX7, "hurt", "(III)J"⟩
def dkwX7_hurt_3 : List UInt8 := [21, 4, 100, 133, 173]
abbrev dktX7_hurt_3 : List UInt8 := dkwX7_hurt_3 ++ []
def dkwX7_hurt_2 : List UInt8 := [182, 1, 38, 54, 4, 42, 180, 0, 131, 28, 3, 79, 42, 42, 180, 0, 47, 27, 46, 28, 182, 1, 38]
abbrev dktX7_hurt_2 : List UInt8 := dkwX7_hurt_2 ++ dktX7_hurt_3
def dkwX7_hurt_1 : List UInt8 := [20, 0, 246, 173, 42, 182, 0, 162, 42, 27, 29, 182, 1, 25, 42, 42, 180, 0, 47, 27, 46, 28]
abbrev dktX7_hurt_1 : List UInt8 := dkwX7_hurt_1 ++ dktX7_hurt_2
def dkwX7_hurt_0 : List UInt8 := [42, 27, 182, 1, 10, 153, 0, 18, 42, 28, 182, 0, 158, 153, 0, 10, 29, 184, 0, 165, 154, 0, 7]
abbrev dktX7_hurt_0 : List UInt8 := dkwX7_hurt_0 ++ dktX7_hurt_1
theorem dksX7_hurt_0 : cX7_hurt.data.toList.drop 0 = dktX7_hurt_0 := by decide +kernel
theorem dksX7_hurt_1 : cX7_hurt.data.toList.drop 23 = dktX7_hurt_1 := dk_seg dksX7_hurt_0 23 rfl rfl
theorem dksX7_hurt_2 : cX7_hurt.data.toList.drop 45 = dktX7_hurt_2 := dk_seg dksX7_hurt_1 22 rfl rfl
theorem dksX7_hurt_3 : cX7_hurt.data.toList.drop 68 = dktX7_hurt_3 := dk_seg dksX7_hurt_2 23 rfl rfl
theorem dX7_hurt_0 : decode cX7_hurt 0 = .ok (.aload_n 0, 1) := dk_42 (dk_at dksX7_hurt_0 0 rfl rfl)
theorem dX7_hurt_1 : decode cX7_hurt 1 = .ok (.iload_n 1, 1) := dk_27 (dk_at dksX7_hurt_0 1 rfl rfl)
theorem dX7_hurt_2 : decode cX7_hurt 2 = .ok (.invokevirtual 266, 3) := dk_182 1 10 (dk_at dksX7_hurt_0 2 rfl rfl)
theorem dX7_hurt_5 : decode cX7_hurt 5 = .ok (.ifCond .eq 18, 3) := dk_153 0 18 (dk_at dksX7_hurt_0 5 rfl rfl)
theorem dX7_hurt_8 : decode cX7_hurt 8 = .ok (.aload_n 0, 1) := dk_42 (dk_at dksX7_hurt_0 8 rfl rfl)
theorem dX7_hurt_9 : decode cX7_hurt 9 = .ok (.iload_n 2, 1) := dk_28 (dk_at dksX7_hurt_0 9 rfl rfl)
theorem dX7_hurt_10 : decode cX7_hurt 10 = .ok (.invokevirtual 158, 3) := dk_182 0 158 (dk_at dksX7_hurt_0 10 rfl rfl)
theorem dX7_hurt_13 : decode cX7_hurt 13 = .ok (.ifCond .eq 10, 3) := dk_153 0 10 (dk_at dksX7_hurt_0 13 rfl rfl)
theorem dX7_hurt_16 : decode cX7_hurt 16 = .ok (.iload_n 3, 1) := dk_29 (dk_at dksX7_hurt_0 16 rfl rfl)
theorem dX7_hurt_17 : decode cX7_hurt 17 = .ok (.invokestatic 165, 3) := dk_184 0 165 (dk_at dksX7_hurt_0 17 rfl rfl)
theorem dX7_hurt_20 : decode cX7_hurt 20 = .ok (.ifCond .ne 7, 3) := dk_154 0 7 (dk_at dksX7_hurt_0 20 rfl rfl)
theorem dX7_hurt_23 : decode cX7_hurt 23 = .ok (.ldc2_w 246, 3) := dk_20 0 246 (dk_at dksX7_hurt_1 0 rfl rfl)
theorem dX7_hurt_26 : decode cX7_hurt 26 = .ok (.lreturn, 1) := dk_173 (dk_at dksX7_hurt_1 3 rfl rfl)
theorem dX7_hurt_27 : decode cX7_hurt 27 = .ok (.aload_n 0, 1) := dk_42 (dk_at dksX7_hurt_1 4 rfl rfl)
theorem dX7_hurt_28 : decode cX7_hurt 28 = .ok (.invokevirtual 162, 3) := dk_182 0 162 (dk_at dksX7_hurt_1 5 rfl rfl)
theorem dX7_hurt_31 : decode cX7_hurt 31 = .ok (.aload_n 0, 1) := dk_42 (dk_at dksX7_hurt_1 8 rfl rfl)
theorem dX7_hurt_32 : decode cX7_hurt 32 = .ok (.iload_n 1, 1) := dk_27 (dk_at dksX7_hurt_1 9 rfl rfl)
theorem dX7_hurt_33 : decode cX7_hurt 33 = .ok (.iload_n 3, 1) := dk_29 (dk_at dksX7_hurt_1 10 rfl rfl)
theorem dX7_hurt_34 : decode cX7_hurt 34 = .ok (.invokevirtual 281, 3) := dk_182 1 25 (dk_at dksX7_hurt_1 11 rfl rfl)
theorem dX7_hurt_37 : decode cX7_hurt 37 = .ok (.aload_n 0, 1) := dk_42 (dk_at dksX7_hurt_1 14 rfl rfl)
theorem dX7_hurt_38 : decode cX7_hurt 38 = .ok (.aload_n 0, 1) := dk_42 (dk_at dksX7_hurt_1 15 rfl rfl)
theorem dX7_hurt_39 : decode cX7_hurt 39 = .ok (.getfield 47, 3) := dk_180 0 47 (dk_at dksX7_hurt_1 16 rfl rfl)
theorem dX7_hurt_42 : decode cX7_hurt 42 = .ok (.iload_n 1, 1) := dk_27 (dk_at dksX7_hurt_1 19 rfl rfl)
theorem dX7_hurt_43 : decode cX7_hurt 43 = .ok (.iaload, 1) := dk_46 (dk_at dksX7_hurt_1 20 rfl rfl)
theorem dX7_hurt_44 : decode cX7_hurt 44 = .ok (.iload_n 2, 1) := dk_28 (dk_at dksX7_hurt_1 21 rfl rfl)
theorem dX7_hurt_45 : decode cX7_hurt 45 = .ok (.invokevirtual 294, 3) := dk_182 1 38 (dk_at dksX7_hurt_2 0 rfl rfl)
theorem dX7_hurt_48 : decode cX7_hurt 48 = .ok (.istore 4, 2) := dk_54 4 (dk_at dksX7_hurt_2 3 rfl rfl)
theorem dX7_hurt_50 : decode cX7_hurt 50 = .ok (.aload_n 0, 1) := dk_42 (dk_at dksX7_hurt_2 5 rfl rfl)
theorem dX7_hurt_51 : decode cX7_hurt 51 = .ok (.getfield 131, 3) := dk_180 0 131 (dk_at dksX7_hurt_2 6 rfl rfl)
theorem dX7_hurt_54 : decode cX7_hurt 54 = .ok (.iload_n 2, 1) := dk_28 (dk_at dksX7_hurt_2 9 rfl rfl)
theorem dX7_hurt_55 : decode cX7_hurt 55 = .ok (.iconst 0, 1) := dk_3 (dk_at dksX7_hurt_2 10 rfl rfl)
theorem dX7_hurt_56 : decode cX7_hurt 56 = .ok (.iastore, 1) := dk_79 (dk_at dksX7_hurt_2 11 rfl rfl)
theorem dX7_hurt_57 : decode cX7_hurt 57 = .ok (.aload_n 0, 1) := dk_42 (dk_at dksX7_hurt_2 12 rfl rfl)
theorem dX7_hurt_58 : decode cX7_hurt 58 = .ok (.aload_n 0, 1) := dk_42 (dk_at dksX7_hurt_2 13 rfl rfl)
theorem dX7_hurt_59 : decode cX7_hurt 59 = .ok (.getfield 47, 3) := dk_180 0 47 (dk_at dksX7_hurt_2 14 rfl rfl)
theorem dX7_hurt_62 : decode cX7_hurt 62 = .ok (.iload_n 1, 1) := dk_27 (dk_at dksX7_hurt_2 17 rfl rfl)
theorem dX7_hurt_63 : decode cX7_hurt 63 = .ok (.iaload, 1) := dk_46 (dk_at dksX7_hurt_2 18 rfl rfl)
theorem dX7_hurt_64 : decode cX7_hurt 64 = .ok (.iload_n 2, 1) := dk_28 (dk_at dksX7_hurt_2 19 rfl rfl)
theorem dX7_hurt_65 : decode cX7_hurt 65 = .ok (.invokevirtual 294, 3) := dk_182 1 38 (dk_at dksX7_hurt_2 20 rfl rfl)
theorem dX7_hurt_68 : decode cX7_hurt 68 = .ok (.iload 4, 2) := dk_21 4 (dk_at dksX7_hurt_3 0 rfl rfl)
theorem dX7_hurt_70 : decode cX7_hurt 70 = .ok (.isub, 1) := dk_100 (dk_at dksX7_hurt_3 2 rfl rfl)
theorem dX7_hurt_71 : decode cX7_hurt 71 = .ok (.i2l, 1) := dk_133 (dk_at dksX7_hurt_3 3 rfl rfl)
theorem dX7_hurt_72 : decode cX7_hurt 72 = .ok (.lreturn, 1) := dk_173 (dk_at dksX7_hurt_3 4 rfl rfl)
abbrev cX7_round : ByteArray := prog_19_method_71_code
def yX7_round : MethodName := ⟨RX7, "round", "(IIIII)I"⟩
def dkwX7_round_13 : List UInt8 := [104, 21, 5, 96, 46, 172]
abbrev dktX7_round_13 : List UInt8 := dkwX7_round_13 ++ []
def dkwX7_round_12 : List UInt8 := [54, 6, 42, 180, 0, 59, 21, 8, 21, 9, 79, 132, 8, 1, 167, 255, 169, 42, 180, 0, 140, 16, 41, 29]
abbrev dktX7_round_12 : List UInt8 := dkwX7_round_12 ++ dktX7_round_13
def dkwX7_round_11 : List UInt8 := [132, 9, 1, 167, 255, 215, 21, 7, 42, 21, 9, 21, 8, 21, 7, 182, 1, 78, 100, 54, 7, 21, 9]
abbrev dktX7_round_11 : List UInt8 := dkwX7_round_11 ++ dktX7_round_12
def dkwX7_round_10 : List UInt8 := [180, 0, 140, 17, 0, 246, 21, 8, 104, 16, 41, 21, 6, 104, 96, 21, 7, 96, 46, 159, 0, 9]
abbrev dktX7_round_10 : List UInt8 := dkwX7_round_10 ++ dktX7_round_11
def dkwX7_round_9 : List UInt8 := [162, 0, 84, 3, 54, 9, 42, 21, 6, 21, 9, 21, 8, 21, 7, 21, 4, 29, 182, 1, 81, 42]
abbrev dktX7_round_9 : List UInt8 := dkwX7_round_9 ++ dktX7_round_10
def dkwX7_round_8 : List UInt8 := [180, 0, 25, 181, 1, 85, 29, 54, 6, 21, 5, 54, 7, 3, 54, 8, 21, 8, 42, 180, 0, 25]
abbrev dktX7_round_8 : List UInt8 := dkwX7_round_8 ++ dktX7_round_9
def dkwX7_round_7 : List UInt8 := [96, 21, 9, 79, 132, 8, 1, 167, 255, 170, 132, 7, 1, 167, 255, 152, 132, 6, 255, 167, 255, 138, 42, 42]
abbrev dktX7_round_7 : List UInt8 := dkwX7_round_7 ++ dktX7_round_8
def dkwX7_round_6 : List UInt8 := [132, 10, 1, 167, 255, 211, 42, 180, 0, 140, 17, 0, 246, 21, 6, 104, 16, 41, 21, 7, 104, 96, 21, 8]
abbrev dktX7_round_6 : List UInt8 := dkwX7_round_6 ++ dktX7_round_7
def dkwX7_round_5 : List UInt8 := [21, 4, 29, 182, 1, 81, 54, 11, 21, 11, 21, 9, 164, 0, 8, 21, 11, 167, 0, 5, 21, 9, 54, 9]
abbrev dktX7_round_5 : List UInt8 := dkwX7_round_5 ++ dktX7_round_6
def dkwX7_round_4 : List UInt8 := [54, 9, 3, 54, 10, 21, 10, 42, 180, 0, 151, 162, 0, 42, 42, 21, 7, 21, 10, 21, 6, 21, 8]
abbrev dktX7_round_4 : List UInt8 := dkwX7_round_4 ++ dktX7_round_5
def dkwX7_round_3 : List UInt8 := [3, 54, 7, 21, 7, 42, 180, 0, 151, 162, 0, 101, 3, 54, 8, 21, 8, 21, 5, 163, 0, 85, 2]
abbrev dktX7_round_3 : List UInt8 := dkwX7_round_3 ++ dktX7_round_4
def dkwX7_round_2 : List UInt8 := [172, 42, 182, 0, 162, 42, 27, 28, 182, 1, 25, 42, 180, 0, 25, 4, 100, 54, 6, 21, 6, 155, 0, 119]
abbrev dktX7_round_2 : List UInt8 := dkwX7_round_2 ++ dktX7_round_3
def dkwX7_round_1 : List UInt8 := [21, 4, 3, 16, 50, 184, 0, 154, 153, 0, 14, 21, 5, 3, 16, 40, 184, 0, 154, 154, 0, 6, 16, 254]
abbrev dktX7_round_1 : List UInt8 := dkwX7_round_1 ++ dktX7_round_2
def dkwX7_round_0 : List UInt8 := [42, 27, 182, 1, 10, 153, 0, 40, 28, 184, 0, 165, 153, 0, 33, 42, 29, 182, 0, 158, 153, 0, 25]
abbrev dktX7_round_0 : List UInt8 := dkwX7_round_0 ++ dktX7_round_1
theorem dksX7_round_0 : cX7_round.data.toList.drop 0 = dktX7_round_0 := by decide +kernel
theorem dksX7_round_1 : cX7_round.data.toList.drop 23 = dktX7_round_1 := dk_seg dksX7_round_0 23 rfl rfl
theorem dksX7_round_2 : cX7_round.data.toList.drop 47 = dktX7_round_2 := dk_seg dksX7_round_1 24 rfl rfl
theorem dksX7_round_3 : cX7_round.data.toList.drop 71 = dktX7_round_3 := dk_seg dksX7_round_2 24 rfl rfl
theorem dksX7_round_4 : cX7_round.data.toList.drop 94 = dktX7_round_4 := dk_seg dksX7_round_3 23 rfl rfl
theorem dksX7_round_5 : cX7_round.data.toList.drop 117 = dktX7_round_5 := dk_seg dksX7_round_4 23 rfl rfl
theorem dksX7_round_6 : cX7_round.data.toList.drop 141 = dktX7_round_6 := dk_seg dksX7_round_5 24 rfl rfl
theorem dksX7_round_7 : cX7_round.data.toList.drop 165 = dktX7_round_7 := dk_seg dksX7_round_6 24 rfl rfl
theorem dksX7_round_8 : cX7_round.data.toList.drop 189 = dktX7_round_8 := dk_seg dksX7_round_7 24 rfl rfl
theorem dksX7_round_9 : cX7_round.data.toList.drop 211 = dktX7_round_9 := dk_seg dksX7_round_8 22 rfl rfl
theorem dksX7_round_10 : cX7_round.data.toList.drop 233 = dktX7_round_10 := dk_seg dksX7_round_9 22 rfl rfl
theorem dksX7_round_11 : cX7_round.data.toList.drop 255 = dktX7_round_11 := dk_seg dksX7_round_10 22 rfl rfl
theorem dksX7_round_12 : cX7_round.data.toList.drop 278 = dktX7_round_12 := dk_seg dksX7_round_11 23 rfl rfl
theorem dksX7_round_13 : cX7_round.data.toList.drop 302 = dktX7_round_13 := dk_seg dksX7_round_12 24 rfl rfl
theorem dX7_round_0 : decode cX7_round 0 = .ok (.aload_n 0, 1) := dk_42 (dk_at dksX7_round_0 0 rfl rfl)
theorem dX7_round_1 : decode cX7_round 1 = .ok (.iload_n 1, 1) := dk_27 (dk_at dksX7_round_0 1 rfl rfl)
theorem dX7_round_2 : decode cX7_round 2 = .ok (.invokevirtual 266, 3) := dk_182 1 10 (dk_at dksX7_round_0 2 rfl rfl)
theorem dX7_round_5 : decode cX7_round 5 = .ok (.ifCond .eq 40, 3) := dk_153 0 40 (dk_at dksX7_round_0 5 rfl rfl)
theorem dX7_round_8 : decode cX7_round 8 = .ok (.iload_n 2, 1) := dk_28 (dk_at dksX7_round_0 8 rfl rfl)
theorem dX7_round_9 : decode cX7_round 9 = .ok (.invokestatic 165, 3) := dk_184 0 165 (dk_at dksX7_round_0 9 rfl rfl)
theorem dX7_round_12 : decode cX7_round 12 = .ok (.ifCond .eq 33, 3) := dk_153 0 33 (dk_at dksX7_round_0 12 rfl rfl)
theorem dX7_round_15 : decode cX7_round 15 = .ok (.aload_n 0, 1) := dk_42 (dk_at dksX7_round_0 15 rfl rfl)
theorem dX7_round_16 : decode cX7_round 16 = .ok (.iload_n 3, 1) := dk_29 (dk_at dksX7_round_0 16 rfl rfl)
theorem dX7_round_17 : decode cX7_round 17 = .ok (.invokevirtual 158, 3) := dk_182 0 158 (dk_at dksX7_round_0 17 rfl rfl)
theorem dX7_round_20 : decode cX7_round 20 = .ok (.ifCond .eq 25, 3) := dk_153 0 25 (dk_at dksX7_round_0 20 rfl rfl)
theorem dX7_round_23 : decode cX7_round 23 = .ok (.iload 4, 2) := dk_21 4 (dk_at dksX7_round_1 0 rfl rfl)
theorem dX7_round_25 : decode cX7_round 25 = .ok (.iconst 0, 1) := dk_3 (dk_at dksX7_round_1 2 rfl rfl)
theorem dX7_round_26 : decode cX7_round 26 = .ok (.bipush 50, 2) := dk_16 50 (dk_at dksX7_round_1 3 rfl rfl)
theorem dX7_round_28 : decode cX7_round 28 = .ok (.invokestatic 154, 3) := dk_184 0 154 (dk_at dksX7_round_1 5 rfl rfl)
theorem dX7_round_31 : decode cX7_round 31 = .ok (.ifCond .eq 14, 3) := dk_153 0 14 (dk_at dksX7_round_1 8 rfl rfl)
theorem dX7_round_34 : decode cX7_round 34 = .ok (.iload 5, 2) := dk_21 5 (dk_at dksX7_round_1 11 rfl rfl)
theorem dX7_round_36 : decode cX7_round 36 = .ok (.iconst 0, 1) := dk_3 (dk_at dksX7_round_1 13 rfl rfl)
theorem dX7_round_37 : decode cX7_round 37 = .ok (.bipush 40, 2) := dk_16 40 (dk_at dksX7_round_1 14 rfl rfl)
theorem dX7_round_39 : decode cX7_round 39 = .ok (.invokestatic 154, 3) := dk_184 0 154 (dk_at dksX7_round_1 16 rfl rfl)
theorem dX7_round_42 : decode cX7_round 42 = .ok (.ifCond .ne 6, 3) := dk_154 0 6 (dk_at dksX7_round_1 19 rfl rfl)
theorem dX7_round_45 : decode cX7_round 45 = .ok (.bipush (-2), 2) := dk_16 254 (dk_at dksX7_round_1 22 rfl rfl)
theorem dX7_round_47 : decode cX7_round 47 = .ok (.ireturn, 1) := dk_172 (dk_at dksX7_round_2 0 rfl rfl)
theorem dX7_round_48 : decode cX7_round 48 = .ok (.aload_n 0, 1) := dk_42 (dk_at dksX7_round_2 1 rfl rfl)
theorem dX7_round_49 : decode cX7_round 49 = .ok (.invokevirtual 162, 3) := dk_182 0 162 (dk_at dksX7_round_2 2 rfl rfl)
theorem dX7_round_52 : decode cX7_round 52 = .ok (.aload_n 0, 1) := dk_42 (dk_at dksX7_round_2 5 rfl rfl)
theorem dX7_round_53 : decode cX7_round 53 = .ok (.iload_n 1, 1) := dk_27 (dk_at dksX7_round_2 6 rfl rfl)
theorem dX7_round_54 : decode cX7_round 54 = .ok (.iload_n 2, 1) := dk_28 (dk_at dksX7_round_2 7 rfl rfl)
theorem dX7_round_55 : decode cX7_round 55 = .ok (.invokevirtual 281, 3) := dk_182 1 25 (dk_at dksX7_round_2 8 rfl rfl)
theorem dX7_round_58 : decode cX7_round 58 = .ok (.aload_n 0, 1) := dk_42 (dk_at dksX7_round_2 11 rfl rfl)
theorem dX7_round_59 : decode cX7_round 59 = .ok (.getfield 25, 3) := dk_180 0 25 (dk_at dksX7_round_2 12 rfl rfl)
theorem dX7_round_62 : decode cX7_round 62 = .ok (.iconst 1, 1) := dk_4 (dk_at dksX7_round_2 15 rfl rfl)
theorem dX7_round_63 : decode cX7_round 63 = .ok (.isub, 1) := dk_100 (dk_at dksX7_round_2 16 rfl rfl)
theorem dX7_round_64 : decode cX7_round 64 = .ok (.istore 6, 2) := dk_54 6 (dk_at dksX7_round_2 17 rfl rfl)
theorem dX7_round_66 : decode cX7_round 66 = .ok (.iload 6, 2) := dk_21 6 (dk_at dksX7_round_2 19 rfl rfl)
theorem dX7_round_68 : decode cX7_round 68 = .ok (.ifCond .lt 119, 3) := dk_155 0 119 (dk_at dksX7_round_2 21 rfl rfl)
theorem dX7_round_71 : decode cX7_round 71 = .ok (.iconst 0, 1) := dk_3 (dk_at dksX7_round_3 0 rfl rfl)
theorem dX7_round_72 : decode cX7_round 72 = .ok (.istore 7, 2) := dk_54 7 (dk_at dksX7_round_3 1 rfl rfl)
theorem dX7_round_74 : decode cX7_round 74 = .ok (.iload 7, 2) := dk_21 7 (dk_at dksX7_round_3 3 rfl rfl)
theorem dX7_round_76 : decode cX7_round 76 = .ok (.aload_n 0, 1) := dk_42 (dk_at dksX7_round_3 5 rfl rfl)
theorem dX7_round_77 : decode cX7_round 77 = .ok (.getfield 151, 3) := dk_180 0 151 (dk_at dksX7_round_3 6 rfl rfl)
theorem dX7_round_80 : decode cX7_round 80 = .ok (.if_icmp .ge 101, 3) := dk_162 0 101 (dk_at dksX7_round_3 9 rfl rfl)
theorem dX7_round_83 : decode cX7_round 83 = .ok (.iconst 0, 1) := dk_3 (dk_at dksX7_round_3 12 rfl rfl)
theorem dX7_round_84 : decode cX7_round 84 = .ok (.istore 8, 2) := dk_54 8 (dk_at dksX7_round_3 13 rfl rfl)
theorem dX7_round_86 : decode cX7_round 86 = .ok (.iload 8, 2) := dk_21 8 (dk_at dksX7_round_3 15 rfl rfl)
theorem dX7_round_88 : decode cX7_round 88 = .ok (.iload 5, 2) := dk_21 5 (dk_at dksX7_round_3 17 rfl rfl)
theorem dX7_round_90 : decode cX7_round 90 = .ok (.if_icmp .gt 85, 3) := dk_163 0 85 (dk_at dksX7_round_3 19 rfl rfl)
theorem dX7_round_93 : decode cX7_round 93 = .ok (.iconst (-1), 1) := dk_2 (dk_at dksX7_round_3 22 rfl rfl)
theorem dX7_round_94 : decode cX7_round 94 = .ok (.istore 9, 2) := dk_54 9 (dk_at dksX7_round_4 0 rfl rfl)
theorem dX7_round_96 : decode cX7_round 96 = .ok (.iconst 0, 1) := dk_3 (dk_at dksX7_round_4 2 rfl rfl)
theorem dX7_round_97 : decode cX7_round 97 = .ok (.istore 10, 2) := dk_54 10 (dk_at dksX7_round_4 3 rfl rfl)
theorem dX7_round_99 : decode cX7_round 99 = .ok (.iload 10, 2) := dk_21 10 (dk_at dksX7_round_4 5 rfl rfl)
theorem dX7_round_101 : decode cX7_round 101 = .ok (.aload_n 0, 1) := dk_42 (dk_at dksX7_round_4 7 rfl rfl)
theorem dX7_round_102 : decode cX7_round 102 = .ok (.getfield 151, 3) := dk_180 0 151 (dk_at dksX7_round_4 8 rfl rfl)
theorem dX7_round_105 : decode cX7_round 105 = .ok (.if_icmp .ge 42, 3) := dk_162 0 42 (dk_at dksX7_round_4 11 rfl rfl)
theorem dX7_round_108 : decode cX7_round 108 = .ok (.aload_n 0, 1) := dk_42 (dk_at dksX7_round_4 14 rfl rfl)
theorem dX7_round_109 : decode cX7_round 109 = .ok (.iload 7, 2) := dk_21 7 (dk_at dksX7_round_4 15 rfl rfl)
theorem dX7_round_111 : decode cX7_round 111 = .ok (.iload 10, 2) := dk_21 10 (dk_at dksX7_round_4 17 rfl rfl)
theorem dX7_round_113 : decode cX7_round 113 = .ok (.iload 6, 2) := dk_21 6 (dk_at dksX7_round_4 19 rfl rfl)
theorem dX7_round_115 : decode cX7_round 115 = .ok (.iload 8, 2) := dk_21 8 (dk_at dksX7_round_4 21 rfl rfl)
theorem dX7_round_117 : decode cX7_round 117 = .ok (.iload 4, 2) := dk_21 4 (dk_at dksX7_round_5 0 rfl rfl)
theorem dX7_round_119 : decode cX7_round 119 = .ok (.iload_n 3, 1) := dk_29 (dk_at dksX7_round_5 2 rfl rfl)
theorem dX7_round_120 : decode cX7_round 120 = .ok (.invokevirtual 337, 3) := dk_182 1 81 (dk_at dksX7_round_5 3 rfl rfl)
theorem dX7_round_123 : decode cX7_round 123 = .ok (.istore 11, 2) := dk_54 11 (dk_at dksX7_round_5 6 rfl rfl)
theorem dX7_round_125 : decode cX7_round 125 = .ok (.iload 11, 2) := dk_21 11 (dk_at dksX7_round_5 8 rfl rfl)
theorem dX7_round_127 : decode cX7_round 127 = .ok (.iload 9, 2) := dk_21 9 (dk_at dksX7_round_5 10 rfl rfl)
theorem dX7_round_129 : decode cX7_round 129 = .ok (.if_icmp .le 8, 3) := dk_164 0 8 (dk_at dksX7_round_5 12 rfl rfl)
theorem dX7_round_132 : decode cX7_round 132 = .ok (.iload 11, 2) := dk_21 11 (dk_at dksX7_round_5 15 rfl rfl)
theorem dX7_round_134 : decode cX7_round 134 = .ok (.goto 5, 3) := dk_167 0 5 (dk_at dksX7_round_5 17 rfl rfl)
theorem dX7_round_137 : decode cX7_round 137 = .ok (.iload 9, 2) := dk_21 9 (dk_at dksX7_round_5 20 rfl rfl)
theorem dX7_round_139 : decode cX7_round 139 = .ok (.istore 9, 2) := dk_54 9 (dk_at dksX7_round_5 22 rfl rfl)
theorem dX7_round_141 : decode cX7_round 141 = .ok (.iinc 10 1, 3) := dk_132 10 1 (dk_at dksX7_round_6 0 rfl rfl)
theorem dX7_round_144 : decode cX7_round 144 = .ok (.goto (-45), 3) := dk_167 255 211 (dk_at dksX7_round_6 3 rfl rfl)
theorem dX7_round_147 : decode cX7_round 147 = .ok (.aload_n 0, 1) := dk_42 (dk_at dksX7_round_6 6 rfl rfl)
theorem dX7_round_148 : decode cX7_round 148 = .ok (.getfield 140, 3) := dk_180 0 140 (dk_at dksX7_round_6 7 rfl rfl)
theorem dX7_round_151 : decode cX7_round 151 = .ok (.sipush 246, 3) := dk_17 0 246 (dk_at dksX7_round_6 10 rfl rfl)
theorem dX7_round_154 : decode cX7_round 154 = .ok (.iload 6, 2) := dk_21 6 (dk_at dksX7_round_6 13 rfl rfl)
theorem dX7_round_156 : decode cX7_round 156 = .ok (.imul, 1) := dk_104 (dk_at dksX7_round_6 15 rfl rfl)
theorem dX7_round_157 : decode cX7_round 157 = .ok (.bipush 41, 2) := dk_16 41 (dk_at dksX7_round_6 16 rfl rfl)
theorem dX7_round_159 : decode cX7_round 159 = .ok (.iload 7, 2) := dk_21 7 (dk_at dksX7_round_6 18 rfl rfl)
theorem dX7_round_161 : decode cX7_round 161 = .ok (.imul, 1) := dk_104 (dk_at dksX7_round_6 20 rfl rfl)
theorem dX7_round_162 : decode cX7_round 162 = .ok (.iadd, 1) := dk_96 (dk_at dksX7_round_6 21 rfl rfl)
theorem dX7_round_163 : decode cX7_round 163 = .ok (.iload 8, 2) := dk_21 8 (dk_at dksX7_round_6 22 rfl rfl)
theorem dX7_round_165 : decode cX7_round 165 = .ok (.iadd, 1) := dk_96 (dk_at dksX7_round_7 0 rfl rfl)
theorem dX7_round_166 : decode cX7_round 166 = .ok (.iload 9, 2) := dk_21 9 (dk_at dksX7_round_7 1 rfl rfl)
theorem dX7_round_168 : decode cX7_round 168 = .ok (.iastore, 1) := dk_79 (dk_at dksX7_round_7 3 rfl rfl)
theorem dX7_round_169 : decode cX7_round 169 = .ok (.iinc 8 1, 3) := dk_132 8 1 (dk_at dksX7_round_7 4 rfl rfl)
theorem dX7_round_172 : decode cX7_round 172 = .ok (.goto (-86), 3) := dk_167 255 170 (dk_at dksX7_round_7 7 rfl rfl)
theorem dX7_round_175 : decode cX7_round 175 = .ok (.iinc 7 1, 3) := dk_132 7 1 (dk_at dksX7_round_7 10 rfl rfl)
theorem dX7_round_178 : decode cX7_round 178 = .ok (.goto (-104), 3) := dk_167 255 152 (dk_at dksX7_round_7 13 rfl rfl)
theorem dX7_round_181 : decode cX7_round 181 = .ok (.iinc 6 (-1), 3) := dk_132 6 255 (dk_at dksX7_round_7 16 rfl rfl)
theorem dX7_round_184 : decode cX7_round 184 = .ok (.goto (-118), 3) := dk_167 255 138 (dk_at dksX7_round_7 19 rfl rfl)
theorem dX7_round_187 : decode cX7_round 187 = .ok (.aload_n 0, 1) := dk_42 (dk_at dksX7_round_7 22 rfl rfl)
theorem dX7_round_188 : decode cX7_round 188 = .ok (.aload_n 0, 1) := dk_42 (dk_at dksX7_round_7 23 rfl rfl)
theorem dX7_round_189 : decode cX7_round 189 = .ok (.getfield 25, 3) := dk_180 0 25 (dk_at dksX7_round_8 0 rfl rfl)
theorem dX7_round_192 : decode cX7_round 192 = .ok (.putfield 341, 3) := dk_181 1 85 (dk_at dksX7_round_8 3 rfl rfl)
theorem dX7_round_195 : decode cX7_round 195 = .ok (.iload_n 3, 1) := dk_29 (dk_at dksX7_round_8 6 rfl rfl)
theorem dX7_round_196 : decode cX7_round 196 = .ok (.istore 6, 2) := dk_54 6 (dk_at dksX7_round_8 7 rfl rfl)
theorem dX7_round_198 : decode cX7_round 198 = .ok (.iload 5, 2) := dk_21 5 (dk_at dksX7_round_8 9 rfl rfl)
theorem dX7_round_200 : decode cX7_round 200 = .ok (.istore 7, 2) := dk_54 7 (dk_at dksX7_round_8 11 rfl rfl)
theorem dX7_round_202 : decode cX7_round 202 = .ok (.iconst 0, 1) := dk_3 (dk_at dksX7_round_8 13 rfl rfl)
theorem dX7_round_203 : decode cX7_round 203 = .ok (.istore 8, 2) := dk_54 8 (dk_at dksX7_round_8 14 rfl rfl)
theorem dX7_round_205 : decode cX7_round 205 = .ok (.iload 8, 2) := dk_21 8 (dk_at dksX7_round_8 16 rfl rfl)
theorem dX7_round_207 : decode cX7_round 207 = .ok (.aload_n 0, 1) := dk_42 (dk_at dksX7_round_8 18 rfl rfl)
theorem dX7_round_208 : decode cX7_round 208 = .ok (.getfield 25, 3) := dk_180 0 25 (dk_at dksX7_round_8 19 rfl rfl)
theorem dX7_round_211 : decode cX7_round 211 = .ok (.if_icmp .ge 84, 3) := dk_162 0 84 (dk_at dksX7_round_9 0 rfl rfl)
theorem dX7_round_214 : decode cX7_round 214 = .ok (.iconst 0, 1) := dk_3 (dk_at dksX7_round_9 3 rfl rfl)
theorem dX7_round_215 : decode cX7_round 215 = .ok (.istore 9, 2) := dk_54 9 (dk_at dksX7_round_9 4 rfl rfl)
theorem dX7_round_217 : decode cX7_round 217 = .ok (.aload_n 0, 1) := dk_42 (dk_at dksX7_round_9 6 rfl rfl)
theorem dX7_round_218 : decode cX7_round 218 = .ok (.iload 6, 2) := dk_21 6 (dk_at dksX7_round_9 7 rfl rfl)
theorem dX7_round_220 : decode cX7_round 220 = .ok (.iload 9, 2) := dk_21 9 (dk_at dksX7_round_9 9 rfl rfl)
theorem dX7_round_222 : decode cX7_round 222 = .ok (.iload 8, 2) := dk_21 8 (dk_at dksX7_round_9 11 rfl rfl)
theorem dX7_round_224 : decode cX7_round 224 = .ok (.iload 7, 2) := dk_21 7 (dk_at dksX7_round_9 13 rfl rfl)
theorem dX7_round_226 : decode cX7_round 226 = .ok (.iload 4, 2) := dk_21 4 (dk_at dksX7_round_9 15 rfl rfl)
theorem dX7_round_228 : decode cX7_round 228 = .ok (.iload_n 3, 1) := dk_29 (dk_at dksX7_round_9 17 rfl rfl)
theorem dX7_round_229 : decode cX7_round 229 = .ok (.invokevirtual 337, 3) := dk_182 1 81 (dk_at dksX7_round_9 18 rfl rfl)
theorem dX7_round_232 : decode cX7_round 232 = .ok (.aload_n 0, 1) := dk_42 (dk_at dksX7_round_9 21 rfl rfl)
theorem dX7_round_233 : decode cX7_round 233 = .ok (.getfield 140, 3) := dk_180 0 140 (dk_at dksX7_round_10 0 rfl rfl)
theorem dX7_round_236 : decode cX7_round 236 = .ok (.sipush 246, 3) := dk_17 0 246 (dk_at dksX7_round_10 3 rfl rfl)
theorem dX7_round_239 : decode cX7_round 239 = .ok (.iload 8, 2) := dk_21 8 (dk_at dksX7_round_10 6 rfl rfl)
theorem dX7_round_241 : decode cX7_round 241 = .ok (.imul, 1) := dk_104 (dk_at dksX7_round_10 8 rfl rfl)
theorem dX7_round_242 : decode cX7_round 242 = .ok (.bipush 41, 2) := dk_16 41 (dk_at dksX7_round_10 9 rfl rfl)
theorem dX7_round_244 : decode cX7_round 244 = .ok (.iload 6, 2) := dk_21 6 (dk_at dksX7_round_10 11 rfl rfl)
theorem dX7_round_246 : decode cX7_round 246 = .ok (.imul, 1) := dk_104 (dk_at dksX7_round_10 13 rfl rfl)
theorem dX7_round_247 : decode cX7_round 247 = .ok (.iadd, 1) := dk_96 (dk_at dksX7_round_10 14 rfl rfl)
theorem dX7_round_248 : decode cX7_round 248 = .ok (.iload 7, 2) := dk_21 7 (dk_at dksX7_round_10 15 rfl rfl)
theorem dX7_round_250 : decode cX7_round 250 = .ok (.iadd, 1) := dk_96 (dk_at dksX7_round_10 17 rfl rfl)
theorem dX7_round_251 : decode cX7_round 251 = .ok (.iaload, 1) := dk_46 (dk_at dksX7_round_10 18 rfl rfl)
theorem dX7_round_252 : decode cX7_round 252 = .ok (.if_icmp .eq 9, 3) := dk_159 0 9 (dk_at dksX7_round_10 19 rfl rfl)
theorem dX7_round_255 : decode cX7_round 255 = .ok (.iinc 9 1, 3) := dk_132 9 1 (dk_at dksX7_round_11 0 rfl rfl)
theorem dX7_round_258 : decode cX7_round 258 = .ok (.goto (-41), 3) := dk_167 255 215 (dk_at dksX7_round_11 3 rfl rfl)
theorem dX7_round_261 : decode cX7_round 261 = .ok (.iload 7, 2) := dk_21 7 (dk_at dksX7_round_11 6 rfl rfl)
theorem dX7_round_263 : decode cX7_round 263 = .ok (.aload_n 0, 1) := dk_42 (dk_at dksX7_round_11 8 rfl rfl)
theorem dX7_round_264 : decode cX7_round 264 = .ok (.iload 9, 2) := dk_21 9 (dk_at dksX7_round_11 9 rfl rfl)
theorem dX7_round_266 : decode cX7_round 266 = .ok (.iload 8, 2) := dk_21 8 (dk_at dksX7_round_11 11 rfl rfl)
theorem dX7_round_268 : decode cX7_round 268 = .ok (.iload 7, 2) := dk_21 7 (dk_at dksX7_round_11 13 rfl rfl)
theorem dX7_round_270 : decode cX7_round 270 = .ok (.invokevirtual 334, 3) := dk_182 1 78 (dk_at dksX7_round_11 15 rfl rfl)
theorem dX7_round_273 : decode cX7_round 273 = .ok (.isub, 1) := dk_100 (dk_at dksX7_round_11 18 rfl rfl)
theorem dX7_round_274 : decode cX7_round 274 = .ok (.istore 7, 2) := dk_54 7 (dk_at dksX7_round_11 19 rfl rfl)
theorem dX7_round_276 : decode cX7_round 276 = .ok (.iload 9, 2) := dk_21 9 (dk_at dksX7_round_11 21 rfl rfl)
theorem dX7_round_278 : decode cX7_round 278 = .ok (.istore 6, 2) := dk_54 6 (dk_at dksX7_round_12 0 rfl rfl)
theorem dX7_round_280 : decode cX7_round 280 = .ok (.aload_n 0, 1) := dk_42 (dk_at dksX7_round_12 2 rfl rfl)
theorem dX7_round_281 : decode cX7_round 281 = .ok (.getfield 59, 3) := dk_180 0 59 (dk_at dksX7_round_12 3 rfl rfl)
theorem dX7_round_284 : decode cX7_round 284 = .ok (.iload 8, 2) := dk_21 8 (dk_at dksX7_round_12 6 rfl rfl)
theorem dX7_round_286 : decode cX7_round 286 = .ok (.iload 9, 2) := dk_21 9 (dk_at dksX7_round_12 8 rfl rfl)
theorem dX7_round_288 : decode cX7_round 288 = .ok (.iastore, 1) := dk_79 (dk_at dksX7_round_12 10 rfl rfl)
theorem dX7_round_289 : decode cX7_round 289 = .ok (.iinc 8 1, 3) := dk_132 8 1 (dk_at dksX7_round_12 11 rfl rfl)
theorem dX7_round_292 : decode cX7_round 292 = .ok (.goto (-87), 3) := dk_167 255 169 (dk_at dksX7_round_12 14 rfl rfl)
theorem dX7_round_295 : decode cX7_round 295 = .ok (.aload_n 0, 1) := dk_42 (dk_at dksX7_round_12 17 rfl rfl)
theorem dX7_round_296 : decode cX7_round 296 = .ok (.getfield 140, 3) := dk_180 0 140 (dk_at dksX7_round_12 18 rfl rfl)
theorem dX7_round_299 : decode cX7_round 299 = .ok (.bipush 41, 2) := dk_16 41 (dk_at dksX7_round_12 21 rfl rfl)
theorem dX7_round_301 : decode cX7_round 301 = .ok (.iload_n 3, 1) := dk_29 (dk_at dksX7_round_12 23 rfl rfl)
theorem dX7_round_302 : decode cX7_round 302 = .ok (.imul, 1) := dk_104 (dk_at dksX7_round_13 0 rfl rfl)
theorem dX7_round_303 : decode cX7_round 303 = .ok (.iload 5, 2) := dk_21 5 (dk_at dksX7_round_13 1 rfl rfl)
theorem dX7_round_305 : decode cX7_round 305 = .ok (.iadd, 1) := dk_96 (dk_at dksX7_round_13 3 rfl rfl)
theorem dX7_round_306 : decode cX7_round 306 = .ok (.iaload, 1) := dk_46 (dk_at dksX7_round_13 4 rfl rfl)
theorem dX7_round_307 : decode cX7_round 307 = .ok (.ireturn, 1) := dk_172 (dk_at dksX7_round_13 5 rfl rfl)
abbrev cX7_soldBy : ByteArray := prog_19_method_70_code
def yX7_soldBy : MethodName := ⟨RX7, "soldBy", "(IIIIII)I"⟩
def dkwX7_soldBy_4 : List UInt8 := [21, 7, 21, 8, 96, 172]
abbrev dktX7_soldBy_4 : List UInt8 := dkwX7_soldBy_4 ++ []
def dkwX7_soldBy_3 : List UInt8 := [16, 41, 28, 104, 96, 21, 4, 96, 21, 7, 100, 46, 54, 8, 21, 8, 2, 160, 0, 7, 2, 167, 0, 8]
abbrev dktX7_soldBy_3 : List UInt8 := dkwX7_soldBy_3 ++ dktX7_soldBy_4
def dkwX7_soldBy_2 : List UInt8 := [180, 0, 25, 4, 100, 160, 0, 7, 3, 167, 0, 26, 42, 180, 0, 140, 17, 0, 246, 29, 4, 96, 104]
abbrev dktX7_soldBy_2 : List UInt8 := dkwX7_soldBy_2 ++ dktX7_soldBy_3
def dkwX7_soldBy_1 : List UInt8 := [160, 0, 11, 28, 21, 6, 159, 0, 5, 2, 172, 42, 28, 29, 21, 4, 182, 1, 78, 54, 7, 29, 42]
abbrev dktX7_soldBy_1 : List UInt8 := dkwX7_soldBy_1 ++ dktX7_soldBy_2
def dkwX7_soldBy_0 : List UInt8 := [42, 180, 0, 89, 16, 6, 27, 104, 28, 96, 46, 21, 5, 163, 0, 19, 29, 42, 180, 0, 25, 4, 100]
abbrev dktX7_soldBy_0 : List UInt8 := dkwX7_soldBy_0 ++ dktX7_soldBy_1
theorem dksX7_soldBy_0 : cX7_soldBy.data.toList.drop 0 = dktX7_soldBy_0 := by decide +kernel
theorem dksX7_soldBy_1 : cX7_soldBy.data.toList.drop 23 = dktX7_soldBy_1 := dk_seg dksX7_soldBy_0 23 rfl rfl
theorem dksX7_soldBy_2 : cX7_soldBy.data.toList.drop 46 = dktX7_soldBy_2 := dk_seg dksX7_soldBy_1 23 rfl rfl
theorem dksX7_soldBy_3 : cX7_soldBy.data.toList.drop 69 = dktX7_soldBy_3 := dk_seg dksX7_soldBy_2 23 rfl rfl
theorem dksX7_soldBy_4 : cX7_soldBy.data.toList.drop 93 = dktX7_soldBy_4 := dk_seg dksX7_soldBy_3 24 rfl rfl
theorem dX7_soldBy_0 : decode cX7_soldBy 0 = .ok (.aload_n 0, 1) := dk_42 (dk_at dksX7_soldBy_0 0 rfl rfl)
theorem dX7_soldBy_1 : decode cX7_soldBy 1 = .ok (.getfield 89, 3) := dk_180 0 89 (dk_at dksX7_soldBy_0 1 rfl rfl)
theorem dX7_soldBy_4 : decode cX7_soldBy 4 = .ok (.bipush 6, 2) := dk_16 6 (dk_at dksX7_soldBy_0 4 rfl rfl)
theorem dX7_soldBy_6 : decode cX7_soldBy 6 = .ok (.iload_n 1, 1) := dk_27 (dk_at dksX7_soldBy_0 6 rfl rfl)
theorem dX7_soldBy_7 : decode cX7_soldBy 7 = .ok (.imul, 1) := dk_104 (dk_at dksX7_soldBy_0 7 rfl rfl)
theorem dX7_soldBy_8 : decode cX7_soldBy 8 = .ok (.iload_n 2, 1) := dk_28 (dk_at dksX7_soldBy_0 8 rfl rfl)
theorem dX7_soldBy_9 : decode cX7_soldBy 9 = .ok (.iadd, 1) := dk_96 (dk_at dksX7_soldBy_0 9 rfl rfl)
theorem dX7_soldBy_10 : decode cX7_soldBy 10 = .ok (.iaload, 1) := dk_46 (dk_at dksX7_soldBy_0 10 rfl rfl)
theorem dX7_soldBy_11 : decode cX7_soldBy 11 = .ok (.iload 5, 2) := dk_21 5 (dk_at dksX7_soldBy_0 11 rfl rfl)
theorem dX7_soldBy_13 : decode cX7_soldBy 13 = .ok (.if_icmp .gt 19, 3) := dk_163 0 19 (dk_at dksX7_soldBy_0 13 rfl rfl)
theorem dX7_soldBy_16 : decode cX7_soldBy 16 = .ok (.iload_n 3, 1) := dk_29 (dk_at dksX7_soldBy_0 16 rfl rfl)
theorem dX7_soldBy_17 : decode cX7_soldBy 17 = .ok (.aload_n 0, 1) := dk_42 (dk_at dksX7_soldBy_0 17 rfl rfl)
theorem dX7_soldBy_18 : decode cX7_soldBy 18 = .ok (.getfield 25, 3) := dk_180 0 25 (dk_at dksX7_soldBy_0 18 rfl rfl)
theorem dX7_soldBy_21 : decode cX7_soldBy 21 = .ok (.iconst 1, 1) := dk_4 (dk_at dksX7_soldBy_0 21 rfl rfl)
theorem dX7_soldBy_22 : decode cX7_soldBy 22 = .ok (.isub, 1) := dk_100 (dk_at dksX7_soldBy_0 22 rfl rfl)
theorem dX7_soldBy_23 : decode cX7_soldBy 23 = .ok (.if_icmp .ne 11, 3) := dk_160 0 11 (dk_at dksX7_soldBy_1 0 rfl rfl)
theorem dX7_soldBy_26 : decode cX7_soldBy 26 = .ok (.iload_n 2, 1) := dk_28 (dk_at dksX7_soldBy_1 3 rfl rfl)
theorem dX7_soldBy_27 : decode cX7_soldBy 27 = .ok (.iload 6, 2) := dk_21 6 (dk_at dksX7_soldBy_1 4 rfl rfl)
theorem dX7_soldBy_29 : decode cX7_soldBy 29 = .ok (.if_icmp .eq 5, 3) := dk_159 0 5 (dk_at dksX7_soldBy_1 6 rfl rfl)
theorem dX7_soldBy_32 : decode cX7_soldBy 32 = .ok (.iconst (-1), 1) := dk_2 (dk_at dksX7_soldBy_1 9 rfl rfl)
theorem dX7_soldBy_33 : decode cX7_soldBy 33 = .ok (.ireturn, 1) := dk_172 (dk_at dksX7_soldBy_1 10 rfl rfl)
theorem dX7_soldBy_34 : decode cX7_soldBy 34 = .ok (.aload_n 0, 1) := dk_42 (dk_at dksX7_soldBy_1 11 rfl rfl)
theorem dX7_soldBy_35 : decode cX7_soldBy 35 = .ok (.iload_n 2, 1) := dk_28 (dk_at dksX7_soldBy_1 12 rfl rfl)
theorem dX7_soldBy_36 : decode cX7_soldBy 36 = .ok (.iload_n 3, 1) := dk_29 (dk_at dksX7_soldBy_1 13 rfl rfl)
theorem dX7_soldBy_37 : decode cX7_soldBy 37 = .ok (.iload 4, 2) := dk_21 4 (dk_at dksX7_soldBy_1 14 rfl rfl)
theorem dX7_soldBy_39 : decode cX7_soldBy 39 = .ok (.invokevirtual 334, 3) := dk_182 1 78 (dk_at dksX7_soldBy_1 16 rfl rfl)
theorem dX7_soldBy_42 : decode cX7_soldBy 42 = .ok (.istore 7, 2) := dk_54 7 (dk_at dksX7_soldBy_1 19 rfl rfl)
theorem dX7_soldBy_44 : decode cX7_soldBy 44 = .ok (.iload_n 3, 1) := dk_29 (dk_at dksX7_soldBy_1 21 rfl rfl)
theorem dX7_soldBy_45 : decode cX7_soldBy 45 = .ok (.aload_n 0, 1) := dk_42 (dk_at dksX7_soldBy_1 22 rfl rfl)
theorem dX7_soldBy_46 : decode cX7_soldBy 46 = .ok (.getfield 25, 3) := dk_180 0 25 (dk_at dksX7_soldBy_2 0 rfl rfl)
theorem dX7_soldBy_49 : decode cX7_soldBy 49 = .ok (.iconst 1, 1) := dk_4 (dk_at dksX7_soldBy_2 3 rfl rfl)
theorem dX7_soldBy_50 : decode cX7_soldBy 50 = .ok (.isub, 1) := dk_100 (dk_at dksX7_soldBy_2 4 rfl rfl)
theorem dX7_soldBy_51 : decode cX7_soldBy 51 = .ok (.if_icmp .ne 7, 3) := dk_160 0 7 (dk_at dksX7_soldBy_2 5 rfl rfl)
theorem dX7_soldBy_54 : decode cX7_soldBy 54 = .ok (.iconst 0, 1) := dk_3 (dk_at dksX7_soldBy_2 8 rfl rfl)
theorem dX7_soldBy_55 : decode cX7_soldBy 55 = .ok (.goto 26, 3) := dk_167 0 26 (dk_at dksX7_soldBy_2 9 rfl rfl)
theorem dX7_soldBy_58 : decode cX7_soldBy 58 = .ok (.aload_n 0, 1) := dk_42 (dk_at dksX7_soldBy_2 12 rfl rfl)
theorem dX7_soldBy_59 : decode cX7_soldBy 59 = .ok (.getfield 140, 3) := dk_180 0 140 (dk_at dksX7_soldBy_2 13 rfl rfl)
theorem dX7_soldBy_62 : decode cX7_soldBy 62 = .ok (.sipush 246, 3) := dk_17 0 246 (dk_at dksX7_soldBy_2 16 rfl rfl)
theorem dX7_soldBy_65 : decode cX7_soldBy 65 = .ok (.iload_n 3, 1) := dk_29 (dk_at dksX7_soldBy_2 19 rfl rfl)
theorem dX7_soldBy_66 : decode cX7_soldBy 66 = .ok (.iconst 1, 1) := dk_4 (dk_at dksX7_soldBy_2 20 rfl rfl)
theorem dX7_soldBy_67 : decode cX7_soldBy 67 = .ok (.iadd, 1) := dk_96 (dk_at dksX7_soldBy_2 21 rfl rfl)
theorem dX7_soldBy_68 : decode cX7_soldBy 68 = .ok (.imul, 1) := dk_104 (dk_at dksX7_soldBy_2 22 rfl rfl)
theorem dX7_soldBy_69 : decode cX7_soldBy 69 = .ok (.bipush 41, 2) := dk_16 41 (dk_at dksX7_soldBy_3 0 rfl rfl)
theorem dX7_soldBy_71 : decode cX7_soldBy 71 = .ok (.iload_n 2, 1) := dk_28 (dk_at dksX7_soldBy_3 2 rfl rfl)
theorem dX7_soldBy_72 : decode cX7_soldBy 72 = .ok (.imul, 1) := dk_104 (dk_at dksX7_soldBy_3 3 rfl rfl)
theorem dX7_soldBy_73 : decode cX7_soldBy 73 = .ok (.iadd, 1) := dk_96 (dk_at dksX7_soldBy_3 4 rfl rfl)
theorem dX7_soldBy_74 : decode cX7_soldBy 74 = .ok (.iload 4, 2) := dk_21 4 (dk_at dksX7_soldBy_3 5 rfl rfl)
theorem dX7_soldBy_76 : decode cX7_soldBy 76 = .ok (.iadd, 1) := dk_96 (dk_at dksX7_soldBy_3 7 rfl rfl)
theorem dX7_soldBy_77 : decode cX7_soldBy 77 = .ok (.iload 7, 2) := dk_21 7 (dk_at dksX7_soldBy_3 8 rfl rfl)
theorem dX7_soldBy_79 : decode cX7_soldBy 79 = .ok (.isub, 1) := dk_100 (dk_at dksX7_soldBy_3 10 rfl rfl)
theorem dX7_soldBy_80 : decode cX7_soldBy 80 = .ok (.iaload, 1) := dk_46 (dk_at dksX7_soldBy_3 11 rfl rfl)
theorem dX7_soldBy_81 : decode cX7_soldBy 81 = .ok (.istore 8, 2) := dk_54 8 (dk_at dksX7_soldBy_3 12 rfl rfl)
theorem dX7_soldBy_83 : decode cX7_soldBy 83 = .ok (.iload 8, 2) := dk_21 8 (dk_at dksX7_soldBy_3 14 rfl rfl)
theorem dX7_soldBy_85 : decode cX7_soldBy 85 = .ok (.iconst (-1), 1) := dk_2 (dk_at dksX7_soldBy_3 16 rfl rfl)
theorem dX7_soldBy_86 : decode cX7_soldBy 86 = .ok (.if_icmp .ne 7, 3) := dk_160 0 7 (dk_at dksX7_soldBy_3 17 rfl rfl)
theorem dX7_soldBy_89 : decode cX7_soldBy 89 = .ok (.iconst (-1), 1) := dk_2 (dk_at dksX7_soldBy_3 20 rfl rfl)
theorem dX7_soldBy_90 : decode cX7_soldBy 90 = .ok (.goto 8, 3) := dk_167 0 8 (dk_at dksX7_soldBy_3 21 rfl rfl)
theorem dX7_soldBy_93 : decode cX7_soldBy 93 = .ok (.iload 7, 2) := dk_21 7 (dk_at dksX7_soldBy_4 0 rfl rfl)
theorem dX7_soldBy_95 : decode cX7_soldBy 95 = .ok (.iload 8, 2) := dk_21 8 (dk_at dksX7_soldBy_4 2 rfl rfl)
theorem dX7_soldBy_97 : decode cX7_soldBy 97 = .ok (.iadd, 1) := dk_96 (dk_at dksX7_soldBy_4 4 rfl rfl)
theorem dX7_soldBy_98 : decode cX7_soldBy 98 = .ok (.ireturn, 1) := dk_172 (dk_at dksX7_soldBy_4 5 rfl rfl)
abbrev cX7_sold : ByteArray := prog_19_method_69_code
def yX7_sold : MethodName := ⟨RX7, "sold", "(III)I"⟩
def dkwX7_sold_1 : List UInt8 := [162, 0, 12, 42, 180, 0, 7, 27, 46, 167, 0, 4, 29, 172]
abbrev dktX7_sold_1 : List UInt8 := dkwX7_sold_1 ++ []
def dkwX7_sold_0 : List UInt8 := [42, 180, 0, 131, 27, 46, 28, 122, 4, 126, 154, 0, 7, 3, 167, 0, 23, 42, 180, 0, 7, 27, 46, 29]
abbrev dktX7_sold_0 : List UInt8 := dkwX7_sold_0 ++ dktX7_sold_1
theorem dksX7_sold_0 : cX7_sold.data.toList.drop 0 = dktX7_sold_0 := by decide +kernel
theorem dksX7_sold_1 : cX7_sold.data.toList.drop 24 = dktX7_sold_1 := dk_seg dksX7_sold_0 24 rfl rfl
theorem dX7_sold_0 : decode cX7_sold 0 = .ok (.aload_n 0, 1) := dk_42 (dk_at dksX7_sold_0 0 rfl rfl)
theorem dX7_sold_1 : decode cX7_sold 1 = .ok (.getfield 131, 3) := dk_180 0 131 (dk_at dksX7_sold_0 1 rfl rfl)
theorem dX7_sold_4 : decode cX7_sold 4 = .ok (.iload_n 1, 1) := dk_27 (dk_at dksX7_sold_0 4 rfl rfl)
theorem dX7_sold_5 : decode cX7_sold 5 = .ok (.iaload, 1) := dk_46 (dk_at dksX7_sold_0 5 rfl rfl)
theorem dX7_sold_6 : decode cX7_sold 6 = .ok (.iload_n 2, 1) := dk_28 (dk_at dksX7_sold_0 6 rfl rfl)
theorem dX7_sold_7 : decode cX7_sold 7 = .ok (.ishr, 1) := dk_122 (dk_at dksX7_sold_0 7 rfl rfl)
theorem dX7_sold_8 : decode cX7_sold 8 = .ok (.iconst 1, 1) := dk_4 (dk_at dksX7_sold_0 8 rfl rfl)
theorem dX7_sold_9 : decode cX7_sold 9 = .ok (.iand, 1) := dk_126 (dk_at dksX7_sold_0 9 rfl rfl)
theorem dX7_sold_10 : decode cX7_sold 10 = .ok (.ifCond .ne 7, 3) := dk_154 0 7 (dk_at dksX7_sold_0 10 rfl rfl)
theorem dX7_sold_13 : decode cX7_sold 13 = .ok (.iconst 0, 1) := dk_3 (dk_at dksX7_sold_0 13 rfl rfl)
theorem dX7_sold_14 : decode cX7_sold 14 = .ok (.goto 23, 3) := dk_167 0 23 (dk_at dksX7_sold_0 14 rfl rfl)
theorem dX7_sold_17 : decode cX7_sold 17 = .ok (.aload_n 0, 1) := dk_42 (dk_at dksX7_sold_0 17 rfl rfl)
theorem dX7_sold_18 : decode cX7_sold 18 = .ok (.getfield 7, 3) := dk_180 0 7 (dk_at dksX7_sold_0 18 rfl rfl)
theorem dX7_sold_21 : decode cX7_sold 21 = .ok (.iload_n 1, 1) := dk_27 (dk_at dksX7_sold_0 21 rfl rfl)
theorem dX7_sold_22 : decode cX7_sold 22 = .ok (.iaload, 1) := dk_46 (dk_at dksX7_sold_0 22 rfl rfl)
theorem dX7_sold_23 : decode cX7_sold 23 = .ok (.iload_n 3, 1) := dk_29 (dk_at dksX7_sold_0 23 rfl rfl)
theorem dX7_sold_24 : decode cX7_sold 24 = .ok (.if_icmp .ge 12, 3) := dk_162 0 12 (dk_at dksX7_sold_1 0 rfl rfl)
theorem dX7_sold_27 : decode cX7_sold 27 = .ok (.aload_n 0, 1) := dk_42 (dk_at dksX7_sold_1 3 rfl rfl)
theorem dX7_sold_28 : decode cX7_sold 28 = .ok (.getfield 7, 3) := dk_180 0 7 (dk_at dksX7_sold_1 4 rfl rfl)
theorem dX7_sold_31 : decode cX7_sold 31 = .ok (.iload_n 1, 1) := dk_27 (dk_at dksX7_sold_1 7 rfl rfl)
theorem dX7_sold_32 : decode cX7_sold 32 = .ok (.iaload, 1) := dk_46 (dk_at dksX7_sold_1 8 rfl rfl)
theorem dX7_sold_33 : decode cX7_sold 33 = .ok (.goto 4, 3) := dk_167 0 4 (dk_at dksX7_sold_1 9 rfl rfl)
theorem dX7_sold_36 : decode cX7_sold 36 = .ok (.iload_n 3, 1) := dk_29 (dk_at dksX7_sold_1 12 rfl rfl)
theorem dX7_sold_37 : decode cX7_sold 37 = .ok (.ireturn, 1) := dk_172 (dk_at dksX7_sold_1 13 rfl rfl)
abbrev cX7_roundTold : ByteArray := prog_19_method_72_code
def yX7_roundTold : MethodName := ⟨RX7, "roundTold", "(I)I"⟩
def dkwX7_roundTold_1 : List UInt8 := [172]
abbrev dktX7_roundTold_1 : List UInt8 := dkwX7_roundTold_1 ++ []
def dkwX7_roundTold_0 : List UInt8 := [27, 3, 42, 180, 1, 85, 4, 100, 184, 0, 154, 153, 0, 12, 42, 180, 0, 59, 27, 46, 167, 0, 4, 2]
abbrev dktX7_roundTold_0 : List UInt8 := dkwX7_roundTold_0 ++ dktX7_roundTold_1
theorem dksX7_roundTold_0 : cX7_roundTold.data.toList.drop 0 = dktX7_roundTold_0 := by decide +kernel
theorem dksX7_roundTold_1 : cX7_roundTold.data.toList.drop 24 = dktX7_roundTold_1 := dk_seg dksX7_roundTold_0 24 rfl rfl
theorem dX7_roundTold_0 : decode cX7_roundTold 0 = .ok (.iload_n 1, 1) := dk_27 (dk_at dksX7_roundTold_0 0 rfl rfl)
theorem dX7_roundTold_1 : decode cX7_roundTold 1 = .ok (.iconst 0, 1) := dk_3 (dk_at dksX7_roundTold_0 1 rfl rfl)
theorem dX7_roundTold_2 : decode cX7_roundTold 2 = .ok (.aload_n 0, 1) := dk_42 (dk_at dksX7_roundTold_0 2 rfl rfl)
theorem dX7_roundTold_3 : decode cX7_roundTold 3 = .ok (.getfield 341, 3) := dk_180 1 85 (dk_at dksX7_roundTold_0 3 rfl rfl)
theorem dX7_roundTold_6 : decode cX7_roundTold 6 = .ok (.iconst 1, 1) := dk_4 (dk_at dksX7_roundTold_0 6 rfl rfl)
theorem dX7_roundTold_7 : decode cX7_roundTold 7 = .ok (.isub, 1) := dk_100 (dk_at dksX7_roundTold_0 7 rfl rfl)
theorem dX7_roundTold_8 : decode cX7_roundTold 8 = .ok (.invokestatic 154, 3) := dk_184 0 154 (dk_at dksX7_roundTold_0 8 rfl rfl)
theorem dX7_roundTold_11 : decode cX7_roundTold 11 = .ok (.ifCond .eq 12, 3) := dk_153 0 12 (dk_at dksX7_roundTold_0 11 rfl rfl)
theorem dX7_roundTold_14 : decode cX7_roundTold 14 = .ok (.aload_n 0, 1) := dk_42 (dk_at dksX7_roundTold_0 14 rfl rfl)
theorem dX7_roundTold_15 : decode cX7_roundTold 15 = .ok (.getfield 59, 3) := dk_180 0 59 (dk_at dksX7_roundTold_0 15 rfl rfl)
theorem dX7_roundTold_18 : decode cX7_roundTold 18 = .ok (.iload_n 1, 1) := dk_27 (dk_at dksX7_roundTold_0 18 rfl rfl)
theorem dX7_roundTold_19 : decode cX7_roundTold 19 = .ok (.iaload, 1) := dk_46 (dk_at dksX7_roundTold_0 19 rfl rfl)
theorem dX7_roundTold_20 : decode cX7_roundTold 20 = .ok (.goto 4, 3) := dk_167 0 4 (dk_at dksX7_roundTold_0 20 rfl rfl)
theorem dX7_roundTold_23 : decode cX7_roundTold 23 = .ok (.iconst (-1), 1) := dk_2 (dk_at dksX7_roundTold_0 23 rfl rfl)
theorem dX7_roundTold_24 : decode cX7_roundTold 24 = .ok (.ireturn, 1) := dk_172 (dk_at dksX7_roundTold_1 0 rfl rfl)
abbrev cX7_walk : ByteArray := prog_19_method_73_code
def yX7_walk : MethodName := ⟨RX7, "walk", "(IIIII)I"⟩
def dkwX7_walk_10 : List UInt8 := [21, 8, 100, 167, 0, 5, 16, 156, 172]
abbrev dktX7_walk_10 : List UInt8 := dkwX7_walk_10 ++ []
def dkwX7_walk_9 : List UInt8 := [182, 1, 78, 100, 54, 8, 21, 10, 54, 7, 132, 9, 1, 167, 255, 186, 21, 7, 29, 160, 0, 11, 16, 40]
abbrev dktX7_walk_9 : List UInt8 := dkwX7_walk_9 ++ dktX7_walk_10
def dkwX7_walk_8 : List UInt8 := [21, 10, 96, 46, 21, 4, 164, 0, 9, 16, 236, 21, 9, 100, 172, 21, 8, 42, 21, 10, 21, 9, 21, 8]
abbrev dktX7_walk_8 : List UInt8 := dkwX7_walk_8 ++ dktX7_walk_9
def dkwX7_walk_7 : List UInt8 := [42, 180, 0, 86, 16, 40, 21, 5, 104, 21, 9, 96, 46, 54, 10, 42, 180, 0, 89, 16, 6, 21, 7, 104]
abbrev dktX7_walk_7 : List UInt8 := dkwX7_walk_7 ++ dktX7_walk_8
def dkwX7_walk_6 : List UInt8 := [27, 28, 182, 1, 25, 29, 54, 7, 16, 40, 54, 8, 3, 54, 9, 21, 9, 42, 180, 0, 25, 162, 0, 67]
abbrev dktX7_walk_6 : List UInt8 := dkwX7_walk_6 ++ dktX7_walk_7
def dkwX7_walk_5 : List UInt8 := [182, 0, 158, 54, 6, 132, 7, 1, 167, 255, 220, 21, 6, 154, 0, 6, 16, 254, 172, 42, 182, 0, 162, 42]
abbrev dktX7_walk_5 : List UInt8 := dkwX7_walk_5 ++ dktX7_walk_6
def dkwX7_walk_4 : List UInt8 := [162, 0, 33, 21, 6, 153, 0, 28, 42, 42, 180, 0, 86, 16, 40, 21, 5, 104, 21, 7, 96, 46]
abbrev dktX7_walk_4 : List UInt8 := dkwX7_walk_4 ++ dktX7_walk_5
def dkwX7_walk_3 : List UInt8 := [180, 0, 25, 160, 0, 7, 4, 167, 0, 4, 3, 54, 6, 3, 54, 7, 21, 7, 42, 180, 0, 25]
abbrev dktX7_walk_3 : List UInt8 := dkwX7_walk_3 ++ dktX7_walk_4
def dkwX7_walk_2 : List UInt8 := [42, 180, 0, 80, 21, 5, 46, 2, 160, 0, 6, 16, 245, 172, 42, 180, 0, 83, 21, 5, 46, 42]
abbrev dktX7_walk_2 : List UInt8 := dkwX7_walk_2 ++ dktX7_walk_3
def dkwX7_walk_1 : List UInt8 := [21, 4, 3, 16, 50, 184, 0, 154, 153, 0, 13, 21, 5, 3, 6, 184, 0, 154, 154, 0, 6, 16, 254, 172]
abbrev dktX7_walk_1 : List UInt8 := dkwX7_walk_1 ++ dktX7_walk_2
def dkwX7_walk_0 : List UInt8 := [42, 27, 182, 1, 10, 153, 0, 39, 28, 184, 0, 165, 153, 0, 32, 42, 29, 182, 0, 158, 153, 0, 24]
abbrev dktX7_walk_0 : List UInt8 := dkwX7_walk_0 ++ dktX7_walk_1
theorem dksX7_walk_0 : cX7_walk.data.toList.drop 0 = dktX7_walk_0 := by decide +kernel
theorem dksX7_walk_1 : cX7_walk.data.toList.drop 23 = dktX7_walk_1 := dk_seg dksX7_walk_0 23 rfl rfl
theorem dksX7_walk_2 : cX7_walk.data.toList.drop 47 = dktX7_walk_2 := dk_seg dksX7_walk_1 24 rfl rfl
theorem dksX7_walk_3 : cX7_walk.data.toList.drop 69 = dktX7_walk_3 := dk_seg dksX7_walk_2 22 rfl rfl
theorem dksX7_walk_4 : cX7_walk.data.toList.drop 91 = dktX7_walk_4 := dk_seg dksX7_walk_3 22 rfl rfl
theorem dksX7_walk_5 : cX7_walk.data.toList.drop 113 = dktX7_walk_5 := dk_seg dksX7_walk_4 22 rfl rfl
theorem dksX7_walk_6 : cX7_walk.data.toList.drop 137 = dktX7_walk_6 := dk_seg dksX7_walk_5 24 rfl rfl
theorem dksX7_walk_7 : cX7_walk.data.toList.drop 161 = dktX7_walk_7 := dk_seg dksX7_walk_6 24 rfl rfl
theorem dksX7_walk_8 : cX7_walk.data.toList.drop 185 = dktX7_walk_8 := dk_seg dksX7_walk_7 24 rfl rfl
theorem dksX7_walk_9 : cX7_walk.data.toList.drop 209 = dktX7_walk_9 := dk_seg dksX7_walk_8 24 rfl rfl
theorem dksX7_walk_10 : cX7_walk.data.toList.drop 233 = dktX7_walk_10 := dk_seg dksX7_walk_9 24 rfl rfl
theorem dX7_walk_0 : decode cX7_walk 0 = .ok (.aload_n 0, 1) := dk_42 (dk_at dksX7_walk_0 0 rfl rfl)
theorem dX7_walk_1 : decode cX7_walk 1 = .ok (.iload_n 1, 1) := dk_27 (dk_at dksX7_walk_0 1 rfl rfl)
theorem dX7_walk_2 : decode cX7_walk 2 = .ok (.invokevirtual 266, 3) := dk_182 1 10 (dk_at dksX7_walk_0 2 rfl rfl)
theorem dX7_walk_5 : decode cX7_walk 5 = .ok (.ifCond .eq 39, 3) := dk_153 0 39 (dk_at dksX7_walk_0 5 rfl rfl)
theorem dX7_walk_8 : decode cX7_walk 8 = .ok (.iload_n 2, 1) := dk_28 (dk_at dksX7_walk_0 8 rfl rfl)
theorem dX7_walk_9 : decode cX7_walk 9 = .ok (.invokestatic 165, 3) := dk_184 0 165 (dk_at dksX7_walk_0 9 rfl rfl)
theorem dX7_walk_12 : decode cX7_walk 12 = .ok (.ifCond .eq 32, 3) := dk_153 0 32 (dk_at dksX7_walk_0 12 rfl rfl)
theorem dX7_walk_15 : decode cX7_walk 15 = .ok (.aload_n 0, 1) := dk_42 (dk_at dksX7_walk_0 15 rfl rfl)
theorem dX7_walk_16 : decode cX7_walk 16 = .ok (.iload_n 3, 1) := dk_29 (dk_at dksX7_walk_0 16 rfl rfl)
theorem dX7_walk_17 : decode cX7_walk 17 = .ok (.invokevirtual 158, 3) := dk_182 0 158 (dk_at dksX7_walk_0 17 rfl rfl)
theorem dX7_walk_20 : decode cX7_walk 20 = .ok (.ifCond .eq 24, 3) := dk_153 0 24 (dk_at dksX7_walk_0 20 rfl rfl)
theorem dX7_walk_23 : decode cX7_walk 23 = .ok (.iload 4, 2) := dk_21 4 (dk_at dksX7_walk_1 0 rfl rfl)
theorem dX7_walk_25 : decode cX7_walk 25 = .ok (.iconst 0, 1) := dk_3 (dk_at dksX7_walk_1 2 rfl rfl)
theorem dX7_walk_26 : decode cX7_walk 26 = .ok (.bipush 50, 2) := dk_16 50 (dk_at dksX7_walk_1 3 rfl rfl)
theorem dX7_walk_28 : decode cX7_walk 28 = .ok (.invokestatic 154, 3) := dk_184 0 154 (dk_at dksX7_walk_1 5 rfl rfl)
theorem dX7_walk_31 : decode cX7_walk 31 = .ok (.ifCond .eq 13, 3) := dk_153 0 13 (dk_at dksX7_walk_1 8 rfl rfl)
theorem dX7_walk_34 : decode cX7_walk 34 = .ok (.iload 5, 2) := dk_21 5 (dk_at dksX7_walk_1 11 rfl rfl)
theorem dX7_walk_36 : decode cX7_walk 36 = .ok (.iconst 0, 1) := dk_3 (dk_at dksX7_walk_1 13 rfl rfl)
theorem dX7_walk_37 : decode cX7_walk 37 = .ok (.iconst 3, 1) := dk_6 (dk_at dksX7_walk_1 14 rfl rfl)
theorem dX7_walk_38 : decode cX7_walk 38 = .ok (.invokestatic 154, 3) := dk_184 0 154 (dk_at dksX7_walk_1 15 rfl rfl)
theorem dX7_walk_41 : decode cX7_walk 41 = .ok (.ifCond .ne 6, 3) := dk_154 0 6 (dk_at dksX7_walk_1 18 rfl rfl)
theorem dX7_walk_44 : decode cX7_walk 44 = .ok (.bipush (-2), 2) := dk_16 254 (dk_at dksX7_walk_1 21 rfl rfl)
theorem dX7_walk_46 : decode cX7_walk 46 = .ok (.ireturn, 1) := dk_172 (dk_at dksX7_walk_1 23 rfl rfl)
theorem dX7_walk_47 : decode cX7_walk 47 = .ok (.aload_n 0, 1) := dk_42 (dk_at dksX7_walk_2 0 rfl rfl)
theorem dX7_walk_48 : decode cX7_walk 48 = .ok (.getfield 80, 3) := dk_180 0 80 (dk_at dksX7_walk_2 1 rfl rfl)
theorem dX7_walk_51 : decode cX7_walk 51 = .ok (.iload 5, 2) := dk_21 5 (dk_at dksX7_walk_2 4 rfl rfl)
theorem dX7_walk_53 : decode cX7_walk 53 = .ok (.iaload, 1) := dk_46 (dk_at dksX7_walk_2 6 rfl rfl)
theorem dX7_walk_54 : decode cX7_walk 54 = .ok (.iconst (-1), 1) := dk_2 (dk_at dksX7_walk_2 7 rfl rfl)
theorem dX7_walk_55 : decode cX7_walk 55 = .ok (.if_icmp .ne 6, 3) := dk_160 0 6 (dk_at dksX7_walk_2 8 rfl rfl)
theorem dX7_walk_58 : decode cX7_walk 58 = .ok (.bipush (-11), 2) := dk_16 245 (dk_at dksX7_walk_2 11 rfl rfl)
theorem dX7_walk_60 : decode cX7_walk 60 = .ok (.ireturn, 1) := dk_172 (dk_at dksX7_walk_2 13 rfl rfl)
theorem dX7_walk_61 : decode cX7_walk 61 = .ok (.aload_n 0, 1) := dk_42 (dk_at dksX7_walk_2 14 rfl rfl)
theorem dX7_walk_62 : decode cX7_walk 62 = .ok (.getfield 83, 3) := dk_180 0 83 (dk_at dksX7_walk_2 15 rfl rfl)
theorem dX7_walk_65 : decode cX7_walk 65 = .ok (.iload 5, 2) := dk_21 5 (dk_at dksX7_walk_2 18 rfl rfl)
theorem dX7_walk_67 : decode cX7_walk 67 = .ok (.iaload, 1) := dk_46 (dk_at dksX7_walk_2 20 rfl rfl)
theorem dX7_walk_68 : decode cX7_walk 68 = .ok (.aload_n 0, 1) := dk_42 (dk_at dksX7_walk_2 21 rfl rfl)
theorem dX7_walk_69 : decode cX7_walk 69 = .ok (.getfield 25, 3) := dk_180 0 25 (dk_at dksX7_walk_3 0 rfl rfl)
theorem dX7_walk_72 : decode cX7_walk 72 = .ok (.if_icmp .ne 7, 3) := dk_160 0 7 (dk_at dksX7_walk_3 3 rfl rfl)
theorem dX7_walk_75 : decode cX7_walk 75 = .ok (.iconst 1, 1) := dk_4 (dk_at dksX7_walk_3 6 rfl rfl)
theorem dX7_walk_76 : decode cX7_walk 76 = .ok (.goto 4, 3) := dk_167 0 4 (dk_at dksX7_walk_3 7 rfl rfl)
theorem dX7_walk_79 : decode cX7_walk 79 = .ok (.iconst 0, 1) := dk_3 (dk_at dksX7_walk_3 10 rfl rfl)
theorem dX7_walk_80 : decode cX7_walk 80 = .ok (.istore 6, 2) := dk_54 6 (dk_at dksX7_walk_3 11 rfl rfl)
theorem dX7_walk_82 : decode cX7_walk 82 = .ok (.iconst 0, 1) := dk_3 (dk_at dksX7_walk_3 13 rfl rfl)
theorem dX7_walk_83 : decode cX7_walk 83 = .ok (.istore 7, 2) := dk_54 7 (dk_at dksX7_walk_3 14 rfl rfl)
theorem dX7_walk_85 : decode cX7_walk 85 = .ok (.iload 7, 2) := dk_21 7 (dk_at dksX7_walk_3 16 rfl rfl)
theorem dX7_walk_87 : decode cX7_walk 87 = .ok (.aload_n 0, 1) := dk_42 (dk_at dksX7_walk_3 18 rfl rfl)
theorem dX7_walk_88 : decode cX7_walk 88 = .ok (.getfield 25, 3) := dk_180 0 25 (dk_at dksX7_walk_3 19 rfl rfl)
theorem dX7_walk_91 : decode cX7_walk 91 = .ok (.if_icmp .ge 33, 3) := dk_162 0 33 (dk_at dksX7_walk_4 0 rfl rfl)
theorem dX7_walk_94 : decode cX7_walk 94 = .ok (.iload 6, 2) := dk_21 6 (dk_at dksX7_walk_4 3 rfl rfl)
theorem dX7_walk_96 : decode cX7_walk 96 = .ok (.ifCond .eq 28, 3) := dk_153 0 28 (dk_at dksX7_walk_4 5 rfl rfl)
theorem dX7_walk_99 : decode cX7_walk 99 = .ok (.aload_n 0, 1) := dk_42 (dk_at dksX7_walk_4 8 rfl rfl)
theorem dX7_walk_100 : decode cX7_walk 100 = .ok (.aload_n 0, 1) := dk_42 (dk_at dksX7_walk_4 9 rfl rfl)
theorem dX7_walk_101 : decode cX7_walk 101 = .ok (.getfield 86, 3) := dk_180 0 86 (dk_at dksX7_walk_4 10 rfl rfl)
theorem dX7_walk_104 : decode cX7_walk 104 = .ok (.bipush 40, 2) := dk_16 40 (dk_at dksX7_walk_4 13 rfl rfl)
theorem dX7_walk_106 : decode cX7_walk 106 = .ok (.iload 5, 2) := dk_21 5 (dk_at dksX7_walk_4 15 rfl rfl)
theorem dX7_walk_108 : decode cX7_walk 108 = .ok (.imul, 1) := dk_104 (dk_at dksX7_walk_4 17 rfl rfl)
theorem dX7_walk_109 : decode cX7_walk 109 = .ok (.iload 7, 2) := dk_21 7 (dk_at dksX7_walk_4 18 rfl rfl)
theorem dX7_walk_111 : decode cX7_walk 111 = .ok (.iadd, 1) := dk_96 (dk_at dksX7_walk_4 20 rfl rfl)
theorem dX7_walk_112 : decode cX7_walk 112 = .ok (.iaload, 1) := dk_46 (dk_at dksX7_walk_4 21 rfl rfl)
theorem dX7_walk_113 : decode cX7_walk 113 = .ok (.invokevirtual 158, 3) := dk_182 0 158 (dk_at dksX7_walk_5 0 rfl rfl)
theorem dX7_walk_116 : decode cX7_walk 116 = .ok (.istore 6, 2) := dk_54 6 (dk_at dksX7_walk_5 3 rfl rfl)
theorem dX7_walk_118 : decode cX7_walk 118 = .ok (.iinc 7 1, 3) := dk_132 7 1 (dk_at dksX7_walk_5 5 rfl rfl)
theorem dX7_walk_121 : decode cX7_walk 121 = .ok (.goto (-36), 3) := dk_167 255 220 (dk_at dksX7_walk_5 8 rfl rfl)
theorem dX7_walk_124 : decode cX7_walk 124 = .ok (.iload 6, 2) := dk_21 6 (dk_at dksX7_walk_5 11 rfl rfl)
theorem dX7_walk_126 : decode cX7_walk 126 = .ok (.ifCond .ne 6, 3) := dk_154 0 6 (dk_at dksX7_walk_5 13 rfl rfl)
theorem dX7_walk_129 : decode cX7_walk 129 = .ok (.bipush (-2), 2) := dk_16 254 (dk_at dksX7_walk_5 16 rfl rfl)
theorem dX7_walk_131 : decode cX7_walk 131 = .ok (.ireturn, 1) := dk_172 (dk_at dksX7_walk_5 18 rfl rfl)
theorem dX7_walk_132 : decode cX7_walk 132 = .ok (.aload_n 0, 1) := dk_42 (dk_at dksX7_walk_5 19 rfl rfl)
theorem dX7_walk_133 : decode cX7_walk 133 = .ok (.invokevirtual 162, 3) := dk_182 0 162 (dk_at dksX7_walk_5 20 rfl rfl)
theorem dX7_walk_136 : decode cX7_walk 136 = .ok (.aload_n 0, 1) := dk_42 (dk_at dksX7_walk_5 23 rfl rfl)
theorem dX7_walk_137 : decode cX7_walk 137 = .ok (.iload_n 1, 1) := dk_27 (dk_at dksX7_walk_6 0 rfl rfl)
theorem dX7_walk_138 : decode cX7_walk 138 = .ok (.iload_n 2, 1) := dk_28 (dk_at dksX7_walk_6 1 rfl rfl)
theorem dX7_walk_139 : decode cX7_walk 139 = .ok (.invokevirtual 281, 3) := dk_182 1 25 (dk_at dksX7_walk_6 2 rfl rfl)
theorem dX7_walk_142 : decode cX7_walk 142 = .ok (.iload_n 3, 1) := dk_29 (dk_at dksX7_walk_6 5 rfl rfl)
theorem dX7_walk_143 : decode cX7_walk 143 = .ok (.istore 7, 2) := dk_54 7 (dk_at dksX7_walk_6 6 rfl rfl)
theorem dX7_walk_145 : decode cX7_walk 145 = .ok (.bipush 40, 2) := dk_16 40 (dk_at dksX7_walk_6 8 rfl rfl)
theorem dX7_walk_147 : decode cX7_walk 147 = .ok (.istore 8, 2) := dk_54 8 (dk_at dksX7_walk_6 10 rfl rfl)
theorem dX7_walk_149 : decode cX7_walk 149 = .ok (.iconst 0, 1) := dk_3 (dk_at dksX7_walk_6 12 rfl rfl)
theorem dX7_walk_150 : decode cX7_walk 150 = .ok (.istore 9, 2) := dk_54 9 (dk_at dksX7_walk_6 13 rfl rfl)
theorem dX7_walk_152 : decode cX7_walk 152 = .ok (.iload 9, 2) := dk_21 9 (dk_at dksX7_walk_6 15 rfl rfl)
theorem dX7_walk_154 : decode cX7_walk 154 = .ok (.aload_n 0, 1) := dk_42 (dk_at dksX7_walk_6 17 rfl rfl)
theorem dX7_walk_155 : decode cX7_walk 155 = .ok (.getfield 25, 3) := dk_180 0 25 (dk_at dksX7_walk_6 18 rfl rfl)
theorem dX7_walk_158 : decode cX7_walk 158 = .ok (.if_icmp .ge 67, 3) := dk_162 0 67 (dk_at dksX7_walk_6 21 rfl rfl)
theorem dX7_walk_161 : decode cX7_walk 161 = .ok (.aload_n 0, 1) := dk_42 (dk_at dksX7_walk_7 0 rfl rfl)
theorem dX7_walk_162 : decode cX7_walk 162 = .ok (.getfield 86, 3) := dk_180 0 86 (dk_at dksX7_walk_7 1 rfl rfl)
theorem dX7_walk_165 : decode cX7_walk 165 = .ok (.bipush 40, 2) := dk_16 40 (dk_at dksX7_walk_7 4 rfl rfl)
theorem dX7_walk_167 : decode cX7_walk 167 = .ok (.iload 5, 2) := dk_21 5 (dk_at dksX7_walk_7 6 rfl rfl)
theorem dX7_walk_169 : decode cX7_walk 169 = .ok (.imul, 1) := dk_104 (dk_at dksX7_walk_7 8 rfl rfl)
theorem dX7_walk_170 : decode cX7_walk 170 = .ok (.iload 9, 2) := dk_21 9 (dk_at dksX7_walk_7 9 rfl rfl)
theorem dX7_walk_172 : decode cX7_walk 172 = .ok (.iadd, 1) := dk_96 (dk_at dksX7_walk_7 11 rfl rfl)
theorem dX7_walk_173 : decode cX7_walk 173 = .ok (.iaload, 1) := dk_46 (dk_at dksX7_walk_7 12 rfl rfl)
theorem dX7_walk_174 : decode cX7_walk 174 = .ok (.istore 10, 2) := dk_54 10 (dk_at dksX7_walk_7 13 rfl rfl)
theorem dX7_walk_176 : decode cX7_walk 176 = .ok (.aload_n 0, 1) := dk_42 (dk_at dksX7_walk_7 15 rfl rfl)
theorem dX7_walk_177 : decode cX7_walk 177 = .ok (.getfield 89, 3) := dk_180 0 89 (dk_at dksX7_walk_7 16 rfl rfl)
theorem dX7_walk_180 : decode cX7_walk 180 = .ok (.bipush 6, 2) := dk_16 6 (dk_at dksX7_walk_7 19 rfl rfl)
theorem dX7_walk_182 : decode cX7_walk 182 = .ok (.iload 7, 2) := dk_21 7 (dk_at dksX7_walk_7 21 rfl rfl)
theorem dX7_walk_184 : decode cX7_walk 184 = .ok (.imul, 1) := dk_104 (dk_at dksX7_walk_7 23 rfl rfl)
theorem dX7_walk_185 : decode cX7_walk 185 = .ok (.iload 10, 2) := dk_21 10 (dk_at dksX7_walk_8 0 rfl rfl)
theorem dX7_walk_187 : decode cX7_walk 187 = .ok (.iadd, 1) := dk_96 (dk_at dksX7_walk_8 2 rfl rfl)
theorem dX7_walk_188 : decode cX7_walk 188 = .ok (.iaload, 1) := dk_46 (dk_at dksX7_walk_8 3 rfl rfl)
theorem dX7_walk_189 : decode cX7_walk 189 = .ok (.iload 4, 2) := dk_21 4 (dk_at dksX7_walk_8 4 rfl rfl)
theorem dX7_walk_191 : decode cX7_walk 191 = .ok (.if_icmp .le 9, 3) := dk_164 0 9 (dk_at dksX7_walk_8 6 rfl rfl)
theorem dX7_walk_194 : decode cX7_walk 194 = .ok (.bipush (-20), 2) := dk_16 236 (dk_at dksX7_walk_8 9 rfl rfl)
theorem dX7_walk_196 : decode cX7_walk 196 = .ok (.iload 9, 2) := dk_21 9 (dk_at dksX7_walk_8 11 rfl rfl)
theorem dX7_walk_198 : decode cX7_walk 198 = .ok (.isub, 1) := dk_100 (dk_at dksX7_walk_8 13 rfl rfl)
theorem dX7_walk_199 : decode cX7_walk 199 = .ok (.ireturn, 1) := dk_172 (dk_at dksX7_walk_8 14 rfl rfl)
theorem dX7_walk_200 : decode cX7_walk 200 = .ok (.iload 8, 2) := dk_21 8 (dk_at dksX7_walk_8 15 rfl rfl)
theorem dX7_walk_202 : decode cX7_walk 202 = .ok (.aload_n 0, 1) := dk_42 (dk_at dksX7_walk_8 17 rfl rfl)
theorem dX7_walk_203 : decode cX7_walk 203 = .ok (.iload 10, 2) := dk_21 10 (dk_at dksX7_walk_8 18 rfl rfl)
theorem dX7_walk_205 : decode cX7_walk 205 = .ok (.iload 9, 2) := dk_21 9 (dk_at dksX7_walk_8 20 rfl rfl)
theorem dX7_walk_207 : decode cX7_walk 207 = .ok (.iload 8, 2) := dk_21 8 (dk_at dksX7_walk_8 22 rfl rfl)
theorem dX7_walk_209 : decode cX7_walk 209 = .ok (.invokevirtual 334, 3) := dk_182 1 78 (dk_at dksX7_walk_9 0 rfl rfl)
theorem dX7_walk_212 : decode cX7_walk 212 = .ok (.isub, 1) := dk_100 (dk_at dksX7_walk_9 3 rfl rfl)
theorem dX7_walk_213 : decode cX7_walk 213 = .ok (.istore 8, 2) := dk_54 8 (dk_at dksX7_walk_9 4 rfl rfl)
theorem dX7_walk_215 : decode cX7_walk 215 = .ok (.iload 10, 2) := dk_21 10 (dk_at dksX7_walk_9 6 rfl rfl)
theorem dX7_walk_217 : decode cX7_walk 217 = .ok (.istore 7, 2) := dk_54 7 (dk_at dksX7_walk_9 8 rfl rfl)
theorem dX7_walk_219 : decode cX7_walk 219 = .ok (.iinc 9 1, 3) := dk_132 9 1 (dk_at dksX7_walk_9 10 rfl rfl)
theorem dX7_walk_222 : decode cX7_walk 222 = .ok (.goto (-70), 3) := dk_167 255 186 (dk_at dksX7_walk_9 13 rfl rfl)
theorem dX7_walk_225 : decode cX7_walk 225 = .ok (.iload 7, 2) := dk_21 7 (dk_at dksX7_walk_9 16 rfl rfl)
theorem dX7_walk_227 : decode cX7_walk 227 = .ok (.iload_n 3, 1) := dk_29 (dk_at dksX7_walk_9 18 rfl rfl)
theorem dX7_walk_228 : decode cX7_walk 228 = .ok (.if_icmp .ne 11, 3) := dk_160 0 11 (dk_at dksX7_walk_9 19 rfl rfl)
theorem dX7_walk_231 : decode cX7_walk 231 = .ok (.bipush 40, 2) := dk_16 40 (dk_at dksX7_walk_9 22 rfl rfl)
theorem dX7_walk_233 : decode cX7_walk 233 = .ok (.iload 8, 2) := dk_21 8 (dk_at dksX7_walk_10 0 rfl rfl)
theorem dX7_walk_235 : decode cX7_walk 235 = .ok (.isub, 1) := dk_100 (dk_at dksX7_walk_10 2 rfl rfl)
theorem dX7_walk_236 : decode cX7_walk 236 = .ok (.goto 5, 3) := dk_167 0 5 (dk_at dksX7_walk_10 3 rfl rfl)
theorem dX7_walk_239 : decode cX7_walk 239 = .ok (.bipush (-100), 2) := dk_16 156 (dk_at dksX7_walk_10 6 rfl rfl)
theorem dX7_walk_241 : decode cX7_walk 241 = .ok (.ireturn, 1) := dk_172 (dk_at dksX7_walk_10 8 rfl rfl)
abbrev cX7_count : ByteArray := prog_19_method_74_code
def yX7_count : MethodName := ⟨RX7, "count", "(I)I"⟩
def dkwX7_count_3 : List UInt8 := [172, 42, 180, 0, 233, 172, 42, 180, 0, 171, 172, 16, 254, 172]
abbrev dktX7_count_3 : List UInt8 := dkwX7_count_3 ++ []
def dkwX7_count_2 : List UInt8 := [42, 180, 0, 151, 172, 42, 180, 0, 25, 172, 42, 180, 0, 168, 172, 42, 180, 1, 4, 172, 42, 180, 0, 44]
abbrev dktX7_count_2 : List UInt8 := dkwX7_count_2 ++ dktX7_count_3
def dkwX7_count_1 : List UInt8 := [170, 0, 0, 0, 0, 0, 78, 0, 0, 0, 0, 0, 0, 0, 6, 0, 0, 0, 43, 0, 0, 0, 48, 0, 0, 0, 53, 0, 0, 0, 58, 0, 0, 0, 63, 0, 0, 0, 68, 0, 0, 0, 73]
abbrev dktX7_count_1 : List UInt8 := dkwX7_count_1 ++ dktX7_count_2
def dkwX7_count_0 : List UInt8 := [27]
abbrev dktX7_count_0 : List UInt8 := dkwX7_count_0 ++ dktX7_count_1
theorem dksX7_count_0 : cX7_count.data.toList.drop 0 = dktX7_count_0 := by decide +kernel
theorem dksX7_count_1 : cX7_count.data.toList.drop 1 = dktX7_count_1 := dk_seg dksX7_count_0 1 rfl rfl
theorem dksX7_count_2 : cX7_count.data.toList.drop 44 = dktX7_count_2 := dk_seg dksX7_count_1 43 rfl rfl
theorem dksX7_count_3 : cX7_count.data.toList.drop 68 = dktX7_count_3 := dk_seg dksX7_count_2 24 rfl rfl
theorem dX7_count_0 : decode cX7_count 0 = .ok (.iload_n 1, 1) := dk_27 (dk_at dksX7_count_0 0 rfl rfl)
theorem dX7_count_1 : decode cX7_count 1 = .ok (.tableswitch 78 0 6 #[43, 48, 53, 58, 63, 68, 73], 43) := by decide +kernel
theorem dX7_count_44 : decode cX7_count 44 = .ok (.aload_n 0, 1) := dk_42 (dk_at dksX7_count_2 0 rfl rfl)
theorem dX7_count_45 : decode cX7_count 45 = .ok (.getfield 151, 3) := dk_180 0 151 (dk_at dksX7_count_2 1 rfl rfl)
theorem dX7_count_48 : decode cX7_count 48 = .ok (.ireturn, 1) := dk_172 (dk_at dksX7_count_2 4 rfl rfl)
theorem dX7_count_49 : decode cX7_count 49 = .ok (.aload_n 0, 1) := dk_42 (dk_at dksX7_count_2 5 rfl rfl)
theorem dX7_count_50 : decode cX7_count 50 = .ok (.getfield 25, 3) := dk_180 0 25 (dk_at dksX7_count_2 6 rfl rfl)
theorem dX7_count_53 : decode cX7_count 53 = .ok (.ireturn, 1) := dk_172 (dk_at dksX7_count_2 9 rfl rfl)
theorem dX7_count_54 : decode cX7_count 54 = .ok (.aload_n 0, 1) := dk_42 (dk_at dksX7_count_2 10 rfl rfl)
theorem dX7_count_55 : decode cX7_count 55 = .ok (.getfield 168, 3) := dk_180 0 168 (dk_at dksX7_count_2 11 rfl rfl)
theorem dX7_count_58 : decode cX7_count 58 = .ok (.ireturn, 1) := dk_172 (dk_at dksX7_count_2 14 rfl rfl)
theorem dX7_count_59 : decode cX7_count 59 = .ok (.aload_n 0, 1) := dk_42 (dk_at dksX7_count_2 15 rfl rfl)
theorem dX7_count_60 : decode cX7_count 60 = .ok (.getfield 260, 3) := dk_180 1 4 (dk_at dksX7_count_2 16 rfl rfl)
theorem dX7_count_63 : decode cX7_count 63 = .ok (.ireturn, 1) := dk_172 (dk_at dksX7_count_2 19 rfl rfl)
theorem dX7_count_64 : decode cX7_count 64 = .ok (.aload_n 0, 1) := dk_42 (dk_at dksX7_count_2 20 rfl rfl)
theorem dX7_count_65 : decode cX7_count 65 = .ok (.getfield 44, 3) := dk_180 0 44 (dk_at dksX7_count_2 21 rfl rfl)
theorem dX7_count_68 : decode cX7_count 68 = .ok (.ireturn, 1) := dk_172 (dk_at dksX7_count_3 0 rfl rfl)
theorem dX7_count_69 : decode cX7_count 69 = .ok (.aload_n 0, 1) := dk_42 (dk_at dksX7_count_3 1 rfl rfl)
theorem dX7_count_70 : decode cX7_count 70 = .ok (.getfield 233, 3) := dk_180 0 233 (dk_at dksX7_count_3 2 rfl rfl)
theorem dX7_count_73 : decode cX7_count 73 = .ok (.ireturn, 1) := dk_172 (dk_at dksX7_count_3 5 rfl rfl)
theorem dX7_count_74 : decode cX7_count 74 = .ok (.aload_n 0, 1) := dk_42 (dk_at dksX7_count_3 6 rfl rfl)
theorem dX7_count_75 : decode cX7_count 75 = .ok (.getfield 171, 3) := dk_180 0 171 (dk_at dksX7_count_3 7 rfl rfl)
theorem dX7_count_78 : decode cX7_count 78 = .ok (.ireturn, 1) := dk_172 (dk_at dksX7_count_3 10 rfl rfl)
theorem dX7_count_79 : decode cX7_count 79 = .ok (.bipush (-2), 2) := dk_16 254 (dk_at dksX7_count_3 11 rfl rfl)
theorem dX7_count_81 : decode cX7_count 81 = .ok (.ireturn, 1) := dk_172 (dk_at dksX7_count_3 13 rfl rfl)
abbrev cX7_image : ByteArray := prog_19_method_75_code
def yX7_image : MethodName := ⟨RX7, "image", "()I"⟩
def dkwX7_image_6 : List UInt8 := [180, 0, 32, 27, 46, 79, 132, 1, 1, 167, 255, 223, 42, 180, 0, 151, 172]
abbrev dktX7_image_6 : List UInt8 := dkwX7_image_6 ++ []
def dkwX7_image_5 : List UInt8 := [16, 10, 162, 0, 33, 42, 180, 0, 74, 27, 42, 180, 0, 29, 27, 46, 79, 42, 180, 0, 77, 27, 42]
abbrev dktX7_image_5 : List UInt8 := dkwX7_image_5 ++ dktX7_image_6
def dkwX7_image_4 : List UInt8 := [162, 0, 21, 42, 180, 0, 71, 27, 42, 180, 0, 22, 27, 46, 79, 132, 1, 1, 167, 255, 235, 3, 60, 27]
abbrev dktX7_image_4 : List UInt8 := dkwX7_image_4 ++ dktX7_image_5
def dkwX7_image_3 : List UInt8 := [180, 0, 68, 27, 42, 180, 0, 19, 27, 46, 79, 132, 1, 1, 167, 255, 211, 3, 60, 27, 16, 36]
abbrev dktX7_image_3 : List UInt8 := dkwX7_image_3 ++ dktX7_image_4
def dkwX7_image_2 : List UInt8 := [180, 0, 62, 27, 42, 180, 0, 13, 27, 46, 79, 42, 180, 0, 65, 27, 42, 180, 0, 16, 27, 46, 79, 42]
abbrev dktX7_image_2 : List UInt8 := dkwX7_image_2 ++ dktX7_image_3
def dkwX7_image_1 : List UInt8 := [180, 0, 168, 181, 1, 97, 42, 42, 180, 0, 233, 181, 1, 100, 3, 60, 27, 16, 6, 162, 0, 45, 42]
abbrev dktX7_image_1 : List UInt8 := dkwX7_image_1 ++ dktX7_image_2
def dkwX7_image_0 : List UInt8 := [42, 4, 181, 1, 88, 42, 42, 180, 0, 151, 181, 1, 91, 42, 42, 180, 0, 25, 181, 1, 94, 42, 42]
abbrev dktX7_image_0 : List UInt8 := dkwX7_image_0 ++ dktX7_image_1
theorem dksX7_image_0 : cX7_image.data.toList.drop 0 = dktX7_image_0 := by decide +kernel
theorem dksX7_image_1 : cX7_image.data.toList.drop 23 = dktX7_image_1 := dk_seg dksX7_image_0 23 rfl rfl
theorem dksX7_image_2 : cX7_image.data.toList.drop 46 = dktX7_image_2 := dk_seg dksX7_image_1 23 rfl rfl
theorem dksX7_image_3 : cX7_image.data.toList.drop 70 = dktX7_image_3 := dk_seg dksX7_image_2 24 rfl rfl
theorem dksX7_image_4 : cX7_image.data.toList.drop 92 = dktX7_image_4 := dk_seg dksX7_image_3 22 rfl rfl
theorem dksX7_image_5 : cX7_image.data.toList.drop 116 = dktX7_image_5 := dk_seg dksX7_image_4 24 rfl rfl
theorem dksX7_image_6 : cX7_image.data.toList.drop 139 = dktX7_image_6 := dk_seg dksX7_image_5 23 rfl rfl
theorem dX7_image_0 : decode cX7_image 0 = .ok (.aload_n 0, 1) := dk_42 (dk_at dksX7_image_0 0 rfl rfl)
theorem dX7_image_1 : decode cX7_image 1 = .ok (.iconst 1, 1) := dk_4 (dk_at dksX7_image_0 1 rfl rfl)
theorem dX7_image_2 : decode cX7_image 2 = .ok (.putfield 344, 3) := dk_181 1 88 (dk_at dksX7_image_0 2 rfl rfl)
theorem dX7_image_5 : decode cX7_image 5 = .ok (.aload_n 0, 1) := dk_42 (dk_at dksX7_image_0 5 rfl rfl)
theorem dX7_image_6 : decode cX7_image 6 = .ok (.aload_n 0, 1) := dk_42 (dk_at dksX7_image_0 6 rfl rfl)
theorem dX7_image_7 : decode cX7_image 7 = .ok (.getfield 151, 3) := dk_180 0 151 (dk_at dksX7_image_0 7 rfl rfl)
theorem dX7_image_10 : decode cX7_image 10 = .ok (.putfield 347, 3) := dk_181 1 91 (dk_at dksX7_image_0 10 rfl rfl)
theorem dX7_image_13 : decode cX7_image 13 = .ok (.aload_n 0, 1) := dk_42 (dk_at dksX7_image_0 13 rfl rfl)
theorem dX7_image_14 : decode cX7_image 14 = .ok (.aload_n 0, 1) := dk_42 (dk_at dksX7_image_0 14 rfl rfl)
theorem dX7_image_15 : decode cX7_image 15 = .ok (.getfield 25, 3) := dk_180 0 25 (dk_at dksX7_image_0 15 rfl rfl)
theorem dX7_image_18 : decode cX7_image 18 = .ok (.putfield 350, 3) := dk_181 1 94 (dk_at dksX7_image_0 18 rfl rfl)
theorem dX7_image_21 : decode cX7_image 21 = .ok (.aload_n 0, 1) := dk_42 (dk_at dksX7_image_0 21 rfl rfl)
theorem dX7_image_22 : decode cX7_image 22 = .ok (.aload_n 0, 1) := dk_42 (dk_at dksX7_image_0 22 rfl rfl)
theorem dX7_image_23 : decode cX7_image 23 = .ok (.getfield 168, 3) := dk_180 0 168 (dk_at dksX7_image_1 0 rfl rfl)
theorem dX7_image_26 : decode cX7_image 26 = .ok (.putfield 353, 3) := dk_181 1 97 (dk_at dksX7_image_1 3 rfl rfl)
theorem dX7_image_29 : decode cX7_image 29 = .ok (.aload_n 0, 1) := dk_42 (dk_at dksX7_image_1 6 rfl rfl)
theorem dX7_image_30 : decode cX7_image 30 = .ok (.aload_n 0, 1) := dk_42 (dk_at dksX7_image_1 7 rfl rfl)
theorem dX7_image_31 : decode cX7_image 31 = .ok (.getfield 233, 3) := dk_180 0 233 (dk_at dksX7_image_1 8 rfl rfl)
theorem dX7_image_34 : decode cX7_image 34 = .ok (.putfield 356, 3) := dk_181 1 100 (dk_at dksX7_image_1 11 rfl rfl)
theorem dX7_image_37 : decode cX7_image 37 = .ok (.iconst 0, 1) := dk_3 (dk_at dksX7_image_1 14 rfl rfl)
theorem dX7_image_38 : decode cX7_image 38 = .ok (.istore_n 1, 1) := dk_60 (dk_at dksX7_image_1 15 rfl rfl)
theorem dX7_image_39 : decode cX7_image 39 = .ok (.iload_n 1, 1) := dk_27 (dk_at dksX7_image_1 16 rfl rfl)
theorem dX7_image_40 : decode cX7_image 40 = .ok (.bipush 6, 2) := dk_16 6 (dk_at dksX7_image_1 17 rfl rfl)
theorem dX7_image_42 : decode cX7_image 42 = .ok (.if_icmp .ge 45, 3) := dk_162 0 45 (dk_at dksX7_image_1 19 rfl rfl)
theorem dX7_image_45 : decode cX7_image 45 = .ok (.aload_n 0, 1) := dk_42 (dk_at dksX7_image_1 22 rfl rfl)
theorem dX7_image_46 : decode cX7_image 46 = .ok (.getfield 62, 3) := dk_180 0 62 (dk_at dksX7_image_2 0 rfl rfl)
theorem dX7_image_49 : decode cX7_image 49 = .ok (.iload_n 1, 1) := dk_27 (dk_at dksX7_image_2 3 rfl rfl)
theorem dX7_image_50 : decode cX7_image 50 = .ok (.aload_n 0, 1) := dk_42 (dk_at dksX7_image_2 4 rfl rfl)
theorem dX7_image_51 : decode cX7_image 51 = .ok (.getfield 13, 3) := dk_180 0 13 (dk_at dksX7_image_2 5 rfl rfl)
theorem dX7_image_54 : decode cX7_image 54 = .ok (.iload_n 1, 1) := dk_27 (dk_at dksX7_image_2 8 rfl rfl)
theorem dX7_image_55 : decode cX7_image 55 = .ok (.iaload, 1) := dk_46 (dk_at dksX7_image_2 9 rfl rfl)
theorem dX7_image_56 : decode cX7_image 56 = .ok (.iastore, 1) := dk_79 (dk_at dksX7_image_2 10 rfl rfl)
theorem dX7_image_57 : decode cX7_image 57 = .ok (.aload_n 0, 1) := dk_42 (dk_at dksX7_image_2 11 rfl rfl)
theorem dX7_image_58 : decode cX7_image 58 = .ok (.getfield 65, 3) := dk_180 0 65 (dk_at dksX7_image_2 12 rfl rfl)
theorem dX7_image_61 : decode cX7_image 61 = .ok (.iload_n 1, 1) := dk_27 (dk_at dksX7_image_2 15 rfl rfl)
theorem dX7_image_62 : decode cX7_image 62 = .ok (.aload_n 0, 1) := dk_42 (dk_at dksX7_image_2 16 rfl rfl)
theorem dX7_image_63 : decode cX7_image 63 = .ok (.getfield 16, 3) := dk_180 0 16 (dk_at dksX7_image_2 17 rfl rfl)
theorem dX7_image_66 : decode cX7_image 66 = .ok (.iload_n 1, 1) := dk_27 (dk_at dksX7_image_2 20 rfl rfl)
theorem dX7_image_67 : decode cX7_image 67 = .ok (.iaload, 1) := dk_46 (dk_at dksX7_image_2 21 rfl rfl)
theorem dX7_image_68 : decode cX7_image 68 = .ok (.iastore, 1) := dk_79 (dk_at dksX7_image_2 22 rfl rfl)
theorem dX7_image_69 : decode cX7_image 69 = .ok (.aload_n 0, 1) := dk_42 (dk_at dksX7_image_2 23 rfl rfl)
theorem dX7_image_70 : decode cX7_image 70 = .ok (.getfield 68, 3) := dk_180 0 68 (dk_at dksX7_image_3 0 rfl rfl)
theorem dX7_image_73 : decode cX7_image 73 = .ok (.iload_n 1, 1) := dk_27 (dk_at dksX7_image_3 3 rfl rfl)
theorem dX7_image_74 : decode cX7_image 74 = .ok (.aload_n 0, 1) := dk_42 (dk_at dksX7_image_3 4 rfl rfl)
theorem dX7_image_75 : decode cX7_image 75 = .ok (.getfield 19, 3) := dk_180 0 19 (dk_at dksX7_image_3 5 rfl rfl)
theorem dX7_image_78 : decode cX7_image 78 = .ok (.iload_n 1, 1) := dk_27 (dk_at dksX7_image_3 8 rfl rfl)
theorem dX7_image_79 : decode cX7_image 79 = .ok (.iaload, 1) := dk_46 (dk_at dksX7_image_3 9 rfl rfl)
theorem dX7_image_80 : decode cX7_image 80 = .ok (.iastore, 1) := dk_79 (dk_at dksX7_image_3 10 rfl rfl)
theorem dX7_image_81 : decode cX7_image 81 = .ok (.iinc 1 1, 3) := dk_132 1 1 (dk_at dksX7_image_3 11 rfl rfl)
theorem dX7_image_84 : decode cX7_image 84 = .ok (.goto (-45), 3) := dk_167 255 211 (dk_at dksX7_image_3 14 rfl rfl)
theorem dX7_image_87 : decode cX7_image 87 = .ok (.iconst 0, 1) := dk_3 (dk_at dksX7_image_3 17 rfl rfl)
theorem dX7_image_88 : decode cX7_image 88 = .ok (.istore_n 1, 1) := dk_60 (dk_at dksX7_image_3 18 rfl rfl)
theorem dX7_image_89 : decode cX7_image 89 = .ok (.iload_n 1, 1) := dk_27 (dk_at dksX7_image_3 19 rfl rfl)
theorem dX7_image_90 : decode cX7_image 90 = .ok (.bipush 36, 2) := dk_16 36 (dk_at dksX7_image_3 20 rfl rfl)
theorem dX7_image_92 : decode cX7_image 92 = .ok (.if_icmp .ge 21, 3) := dk_162 0 21 (dk_at dksX7_image_4 0 rfl rfl)
theorem dX7_image_95 : decode cX7_image 95 = .ok (.aload_n 0, 1) := dk_42 (dk_at dksX7_image_4 3 rfl rfl)
theorem dX7_image_96 : decode cX7_image 96 = .ok (.getfield 71, 3) := dk_180 0 71 (dk_at dksX7_image_4 4 rfl rfl)
theorem dX7_image_99 : decode cX7_image 99 = .ok (.iload_n 1, 1) := dk_27 (dk_at dksX7_image_4 7 rfl rfl)
theorem dX7_image_100 : decode cX7_image 100 = .ok (.aload_n 0, 1) := dk_42 (dk_at dksX7_image_4 8 rfl rfl)
theorem dX7_image_101 : decode cX7_image 101 = .ok (.getfield 22, 3) := dk_180 0 22 (dk_at dksX7_image_4 9 rfl rfl)
theorem dX7_image_104 : decode cX7_image 104 = .ok (.iload_n 1, 1) := dk_27 (dk_at dksX7_image_4 12 rfl rfl)
theorem dX7_image_105 : decode cX7_image 105 = .ok (.iaload, 1) := dk_46 (dk_at dksX7_image_4 13 rfl rfl)
theorem dX7_image_106 : decode cX7_image 106 = .ok (.iastore, 1) := dk_79 (dk_at dksX7_image_4 14 rfl rfl)
theorem dX7_image_107 : decode cX7_image 107 = .ok (.iinc 1 1, 3) := dk_132 1 1 (dk_at dksX7_image_4 15 rfl rfl)
theorem dX7_image_110 : decode cX7_image 110 = .ok (.goto (-21), 3) := dk_167 255 235 (dk_at dksX7_image_4 18 rfl rfl)
theorem dX7_image_113 : decode cX7_image 113 = .ok (.iconst 0, 1) := dk_3 (dk_at dksX7_image_4 21 rfl rfl)
theorem dX7_image_114 : decode cX7_image 114 = .ok (.istore_n 1, 1) := dk_60 (dk_at dksX7_image_4 22 rfl rfl)
theorem dX7_image_115 : decode cX7_image 115 = .ok (.iload_n 1, 1) := dk_27 (dk_at dksX7_image_4 23 rfl rfl)
theorem dX7_image_116 : decode cX7_image 116 = .ok (.bipush 10, 2) := dk_16 10 (dk_at dksX7_image_5 0 rfl rfl)
theorem dX7_image_118 : decode cX7_image 118 = .ok (.if_icmp .ge 33, 3) := dk_162 0 33 (dk_at dksX7_image_5 2 rfl rfl)
theorem dX7_image_121 : decode cX7_image 121 = .ok (.aload_n 0, 1) := dk_42 (dk_at dksX7_image_5 5 rfl rfl)
theorem dX7_image_122 : decode cX7_image 122 = .ok (.getfield 74, 3) := dk_180 0 74 (dk_at dksX7_image_5 6 rfl rfl)
theorem dX7_image_125 : decode cX7_image 125 = .ok (.iload_n 1, 1) := dk_27 (dk_at dksX7_image_5 9 rfl rfl)
theorem dX7_image_126 : decode cX7_image 126 = .ok (.aload_n 0, 1) := dk_42 (dk_at dksX7_image_5 10 rfl rfl)
theorem dX7_image_127 : decode cX7_image 127 = .ok (.getfield 29, 3) := dk_180 0 29 (dk_at dksX7_image_5 11 rfl rfl)
theorem dX7_image_130 : decode cX7_image 130 = .ok (.iload_n 1, 1) := dk_27 (dk_at dksX7_image_5 14 rfl rfl)
theorem dX7_image_131 : decode cX7_image 131 = .ok (.iaload, 1) := dk_46 (dk_at dksX7_image_5 15 rfl rfl)
theorem dX7_image_132 : decode cX7_image 132 = .ok (.iastore, 1) := dk_79 (dk_at dksX7_image_5 16 rfl rfl)
theorem dX7_image_133 : decode cX7_image 133 = .ok (.aload_n 0, 1) := dk_42 (dk_at dksX7_image_5 17 rfl rfl)
theorem dX7_image_134 : decode cX7_image 134 = .ok (.getfield 77, 3) := dk_180 0 77 (dk_at dksX7_image_5 18 rfl rfl)
theorem dX7_image_137 : decode cX7_image 137 = .ok (.iload_n 1, 1) := dk_27 (dk_at dksX7_image_5 21 rfl rfl)
theorem dX7_image_138 : decode cX7_image 138 = .ok (.aload_n 0, 1) := dk_42 (dk_at dksX7_image_5 22 rfl rfl)
theorem dX7_image_139 : decode cX7_image 139 = .ok (.getfield 32, 3) := dk_180 0 32 (dk_at dksX7_image_6 0 rfl rfl)
theorem dX7_image_142 : decode cX7_image 142 = .ok (.iload_n 1, 1) := dk_27 (dk_at dksX7_image_6 3 rfl rfl)
theorem dX7_image_143 : decode cX7_image 143 = .ok (.iaload, 1) := dk_46 (dk_at dksX7_image_6 4 rfl rfl)
theorem dX7_image_144 : decode cX7_image 144 = .ok (.iastore, 1) := dk_79 (dk_at dksX7_image_6 5 rfl rfl)
theorem dX7_image_145 : decode cX7_image 145 = .ok (.iinc 1 1, 3) := dk_132 1 1 (dk_at dksX7_image_6 6 rfl rfl)
theorem dX7_image_148 : decode cX7_image 148 = .ok (.goto (-33), 3) := dk_167 255 223 (dk_at dksX7_image_6 9 rfl rfl)
theorem dX7_image_151 : decode cX7_image 151 = .ok (.aload_n 0, 1) := dk_42 (dk_at dksX7_image_6 12 rfl rfl)
theorem dX7_image_152 : decode cX7_image 152 = .ok (.getfield 151, 3) := dk_180 0 151 (dk_at dksX7_image_6 13 rfl rfl)
theorem dX7_image_155 : decode cX7_image 155 = .ok (.ireturn, 1) := dk_172 (dk_at dksX7_image_6 16 rfl rfl)
abbrev cX7_back : ByteArray := prog_19_method_76_code
def yX7_back : MethodName := ⟨RX7, "back", "()I"⟩
def dkwX7_back_9 : List UInt8 := [172]
abbrev dktX7_back_9 : List UInt8 := dkwX7_back_9 ++ []
def dkwX7_back_8 : List UInt8 := [46, 79, 42, 180, 0, 32, 27, 42, 180, 0, 77, 27, 46, 79, 132, 1, 1, 167, 255, 223, 42, 180, 0, 151]
abbrev dktX7_back_8 : List UInt8 := dkwX7_back_8 ++ dktX7_back_9
def dkwX7_back_7 : List UInt8 := [132, 1, 1, 167, 255, 178, 3, 60, 27, 16, 10, 162, 0, 33, 42, 180, 0, 29, 27, 42, 180, 0, 74, 27]
abbrev dktX7_back_7 : List UInt8 := dkwX7_back_7 ++ dktX7_back_8
def dkwX7_back_6 : List UInt8 := [180, 0, 71, 27, 46, 167, 0, 18, 28, 4, 160, 0, 7, 3, 167, 0, 9, 42, 180, 0, 22, 27, 46, 79]
abbrev dktX7_back_6 : List UInt8 := dkwX7_back_6 ++ dktX7_back_7
def dkwX7_back_5 : List UInt8 := [180, 1, 91, 162, 0, 7, 4, 167, 0, 4, 3, 96, 61, 42, 180, 0, 22, 27, 28, 5, 160, 0, 12, 42]
abbrev dktX7_back_5 : List UInt8 := dkwX7_back_5 ++ dktX7_back_6
def dkwX7_back_4 : List UInt8 := [162, 0, 78, 27, 16, 6, 108, 42, 180, 1, 91, 162, 0, 7, 4, 167, 0, 4, 3, 27, 16, 6, 112, 42]
abbrev dktX7_back_4 : List UInt8 := dkwX7_back_4 ++ dktX7_back_5
def dkwX7_back_3 : List UInt8 := [180, 0, 19, 27, 42, 180, 0, 68, 27, 46, 79, 132, 1, 1, 167, 255, 209, 3, 60, 27, 16, 36]
abbrev dktX7_back_3 : List UInt8 := dkwX7_back_3 ++ dktX7_back_4
def dkwX7_back_2 : List UInt8 := [180, 0, 13, 27, 42, 180, 0, 62, 27, 46, 79, 42, 180, 0, 16, 27, 42, 180, 0, 65, 27, 46, 79, 42]
abbrev dktX7_back_2 : List UInt8 := dkwX7_back_2 ++ dktX7_back_3
def dkwX7_back_1 : List UInt8 := [181, 0, 168, 42, 42, 180, 1, 100, 181, 0, 233, 3, 60, 27, 42, 180, 1, 91, 162, 0, 45, 42]
abbrev dktX7_back_1 : List UInt8 := dkwX7_back_1 ++ dktX7_back_2
def dkwX7_back_0 : List UInt8 := [42, 180, 1, 88, 154, 0, 6, 16, 253, 172, 42, 42, 180, 1, 94, 181, 0, 25, 42, 42, 180, 1, 97]
abbrev dktX7_back_0 : List UInt8 := dkwX7_back_0 ++ dktX7_back_1
theorem dksX7_back_0 : cX7_back.data.toList.drop 0 = dktX7_back_0 := by decide +kernel
theorem dksX7_back_1 : cX7_back.data.toList.drop 23 = dktX7_back_1 := dk_seg dksX7_back_0 23 rfl rfl
theorem dksX7_back_2 : cX7_back.data.toList.drop 45 = dktX7_back_2 := dk_seg dksX7_back_1 22 rfl rfl
theorem dksX7_back_3 : cX7_back.data.toList.drop 69 = dktX7_back_3 := dk_seg dksX7_back_2 24 rfl rfl
theorem dksX7_back_4 : cX7_back.data.toList.drop 91 = dktX7_back_4 := dk_seg dksX7_back_3 22 rfl rfl
theorem dksX7_back_5 : cX7_back.data.toList.drop 115 = dktX7_back_5 := dk_seg dksX7_back_4 24 rfl rfl
theorem dksX7_back_6 : cX7_back.data.toList.drop 139 = dktX7_back_6 := dk_seg dksX7_back_5 24 rfl rfl
theorem dksX7_back_7 : cX7_back.data.toList.drop 163 = dktX7_back_7 := dk_seg dksX7_back_6 24 rfl rfl
theorem dksX7_back_8 : cX7_back.data.toList.drop 187 = dktX7_back_8 := dk_seg dksX7_back_7 24 rfl rfl
theorem dksX7_back_9 : cX7_back.data.toList.drop 211 = dktX7_back_9 := dk_seg dksX7_back_8 24 rfl rfl
theorem dX7_back_0 : decode cX7_back 0 = .ok (.aload_n 0, 1) := dk_42 (dk_at dksX7_back_0 0 rfl rfl)
theorem dX7_back_1 : decode cX7_back 1 = .ok (.getfield 344, 3) := dk_180 1 88 (dk_at dksX7_back_0 1 rfl rfl)
theorem dX7_back_4 : decode cX7_back 4 = .ok (.ifCond .ne 6, 3) := dk_154 0 6 (dk_at dksX7_back_0 4 rfl rfl)
theorem dX7_back_7 : decode cX7_back 7 = .ok (.bipush (-3), 2) := dk_16 253 (dk_at dksX7_back_0 7 rfl rfl)
theorem dX7_back_9 : decode cX7_back 9 = .ok (.ireturn, 1) := dk_172 (dk_at dksX7_back_0 9 rfl rfl)
theorem dX7_back_10 : decode cX7_back 10 = .ok (.aload_n 0, 1) := dk_42 (dk_at dksX7_back_0 10 rfl rfl)
theorem dX7_back_11 : decode cX7_back 11 = .ok (.aload_n 0, 1) := dk_42 (dk_at dksX7_back_0 11 rfl rfl)
theorem dX7_back_12 : decode cX7_back 12 = .ok (.getfield 350, 3) := dk_180 1 94 (dk_at dksX7_back_0 12 rfl rfl)
theorem dX7_back_15 : decode cX7_back 15 = .ok (.putfield 25, 3) := dk_181 0 25 (dk_at dksX7_back_0 15 rfl rfl)
theorem dX7_back_18 : decode cX7_back 18 = .ok (.aload_n 0, 1) := dk_42 (dk_at dksX7_back_0 18 rfl rfl)
theorem dX7_back_19 : decode cX7_back 19 = .ok (.aload_n 0, 1) := dk_42 (dk_at dksX7_back_0 19 rfl rfl)
theorem dX7_back_20 : decode cX7_back 20 = .ok (.getfield 353, 3) := dk_180 1 97 (dk_at dksX7_back_0 20 rfl rfl)
theorem dX7_back_23 : decode cX7_back 23 = .ok (.putfield 168, 3) := dk_181 0 168 (dk_at dksX7_back_1 0 rfl rfl)
theorem dX7_back_26 : decode cX7_back 26 = .ok (.aload_n 0, 1) := dk_42 (dk_at dksX7_back_1 3 rfl rfl)
theorem dX7_back_27 : decode cX7_back 27 = .ok (.aload_n 0, 1) := dk_42 (dk_at dksX7_back_1 4 rfl rfl)
theorem dX7_back_28 : decode cX7_back 28 = .ok (.getfield 356, 3) := dk_180 1 100 (dk_at dksX7_back_1 5 rfl rfl)
theorem dX7_back_31 : decode cX7_back 31 = .ok (.putfield 233, 3) := dk_181 0 233 (dk_at dksX7_back_1 8 rfl rfl)
theorem dX7_back_34 : decode cX7_back 34 = .ok (.iconst 0, 1) := dk_3 (dk_at dksX7_back_1 11 rfl rfl)
theorem dX7_back_35 : decode cX7_back 35 = .ok (.istore_n 1, 1) := dk_60 (dk_at dksX7_back_1 12 rfl rfl)
theorem dX7_back_36 : decode cX7_back 36 = .ok (.iload_n 1, 1) := dk_27 (dk_at dksX7_back_1 13 rfl rfl)
theorem dX7_back_37 : decode cX7_back 37 = .ok (.aload_n 0, 1) := dk_42 (dk_at dksX7_back_1 14 rfl rfl)
theorem dX7_back_38 : decode cX7_back 38 = .ok (.getfield 347, 3) := dk_180 1 91 (dk_at dksX7_back_1 15 rfl rfl)
theorem dX7_back_41 : decode cX7_back 41 = .ok (.if_icmp .ge 45, 3) := dk_162 0 45 (dk_at dksX7_back_1 18 rfl rfl)
theorem dX7_back_44 : decode cX7_back 44 = .ok (.aload_n 0, 1) := dk_42 (dk_at dksX7_back_1 21 rfl rfl)
theorem dX7_back_45 : decode cX7_back 45 = .ok (.getfield 13, 3) := dk_180 0 13 (dk_at dksX7_back_2 0 rfl rfl)
theorem dX7_back_48 : decode cX7_back 48 = .ok (.iload_n 1, 1) := dk_27 (dk_at dksX7_back_2 3 rfl rfl)
theorem dX7_back_49 : decode cX7_back 49 = .ok (.aload_n 0, 1) := dk_42 (dk_at dksX7_back_2 4 rfl rfl)
theorem dX7_back_50 : decode cX7_back 50 = .ok (.getfield 62, 3) := dk_180 0 62 (dk_at dksX7_back_2 5 rfl rfl)
theorem dX7_back_53 : decode cX7_back 53 = .ok (.iload_n 1, 1) := dk_27 (dk_at dksX7_back_2 8 rfl rfl)
theorem dX7_back_54 : decode cX7_back 54 = .ok (.iaload, 1) := dk_46 (dk_at dksX7_back_2 9 rfl rfl)
theorem dX7_back_55 : decode cX7_back 55 = .ok (.iastore, 1) := dk_79 (dk_at dksX7_back_2 10 rfl rfl)
theorem dX7_back_56 : decode cX7_back 56 = .ok (.aload_n 0, 1) := dk_42 (dk_at dksX7_back_2 11 rfl rfl)
theorem dX7_back_57 : decode cX7_back 57 = .ok (.getfield 16, 3) := dk_180 0 16 (dk_at dksX7_back_2 12 rfl rfl)
theorem dX7_back_60 : decode cX7_back 60 = .ok (.iload_n 1, 1) := dk_27 (dk_at dksX7_back_2 15 rfl rfl)
theorem dX7_back_61 : decode cX7_back 61 = .ok (.aload_n 0, 1) := dk_42 (dk_at dksX7_back_2 16 rfl rfl)
theorem dX7_back_62 : decode cX7_back 62 = .ok (.getfield 65, 3) := dk_180 0 65 (dk_at dksX7_back_2 17 rfl rfl)
theorem dX7_back_65 : decode cX7_back 65 = .ok (.iload_n 1, 1) := dk_27 (dk_at dksX7_back_2 20 rfl rfl)
theorem dX7_back_66 : decode cX7_back 66 = .ok (.iaload, 1) := dk_46 (dk_at dksX7_back_2 21 rfl rfl)
theorem dX7_back_67 : decode cX7_back 67 = .ok (.iastore, 1) := dk_79 (dk_at dksX7_back_2 22 rfl rfl)
theorem dX7_back_68 : decode cX7_back 68 = .ok (.aload_n 0, 1) := dk_42 (dk_at dksX7_back_2 23 rfl rfl)
theorem dX7_back_69 : decode cX7_back 69 = .ok (.getfield 19, 3) := dk_180 0 19 (dk_at dksX7_back_3 0 rfl rfl)
theorem dX7_back_72 : decode cX7_back 72 = .ok (.iload_n 1, 1) := dk_27 (dk_at dksX7_back_3 3 rfl rfl)
theorem dX7_back_73 : decode cX7_back 73 = .ok (.aload_n 0, 1) := dk_42 (dk_at dksX7_back_3 4 rfl rfl)
theorem dX7_back_74 : decode cX7_back 74 = .ok (.getfield 68, 3) := dk_180 0 68 (dk_at dksX7_back_3 5 rfl rfl)
theorem dX7_back_77 : decode cX7_back 77 = .ok (.iload_n 1, 1) := dk_27 (dk_at dksX7_back_3 8 rfl rfl)
theorem dX7_back_78 : decode cX7_back 78 = .ok (.iaload, 1) := dk_46 (dk_at dksX7_back_3 9 rfl rfl)
theorem dX7_back_79 : decode cX7_back 79 = .ok (.iastore, 1) := dk_79 (dk_at dksX7_back_3 10 rfl rfl)
theorem dX7_back_80 : decode cX7_back 80 = .ok (.iinc 1 1, 3) := dk_132 1 1 (dk_at dksX7_back_3 11 rfl rfl)
theorem dX7_back_83 : decode cX7_back 83 = .ok (.goto (-47), 3) := dk_167 255 209 (dk_at dksX7_back_3 14 rfl rfl)
theorem dX7_back_86 : decode cX7_back 86 = .ok (.iconst 0, 1) := dk_3 (dk_at dksX7_back_3 17 rfl rfl)
theorem dX7_back_87 : decode cX7_back 87 = .ok (.istore_n 1, 1) := dk_60 (dk_at dksX7_back_3 18 rfl rfl)
theorem dX7_back_88 : decode cX7_back 88 = .ok (.iload_n 1, 1) := dk_27 (dk_at dksX7_back_3 19 rfl rfl)
theorem dX7_back_89 : decode cX7_back 89 = .ok (.bipush 36, 2) := dk_16 36 (dk_at dksX7_back_3 20 rfl rfl)
theorem dX7_back_91 : decode cX7_back 91 = .ok (.if_icmp .ge 78, 3) := dk_162 0 78 (dk_at dksX7_back_4 0 rfl rfl)
theorem dX7_back_94 : decode cX7_back 94 = .ok (.iload_n 1, 1) := dk_27 (dk_at dksX7_back_4 3 rfl rfl)
theorem dX7_back_95 : decode cX7_back 95 = .ok (.bipush 6, 2) := dk_16 6 (dk_at dksX7_back_4 4 rfl rfl)
theorem dX7_back_97 : decode cX7_back 97 = .ok (.idiv, 1) := dk_108 (dk_at dksX7_back_4 6 rfl rfl)
theorem dX7_back_98 : decode cX7_back 98 = .ok (.aload_n 0, 1) := dk_42 (dk_at dksX7_back_4 7 rfl rfl)
theorem dX7_back_99 : decode cX7_back 99 = .ok (.getfield 347, 3) := dk_180 1 91 (dk_at dksX7_back_4 8 rfl rfl)
theorem dX7_back_102 : decode cX7_back 102 = .ok (.if_icmp .ge 7, 3) := dk_162 0 7 (dk_at dksX7_back_4 11 rfl rfl)
theorem dX7_back_105 : decode cX7_back 105 = .ok (.iconst 1, 1) := dk_4 (dk_at dksX7_back_4 14 rfl rfl)
theorem dX7_back_106 : decode cX7_back 106 = .ok (.goto 4, 3) := dk_167 0 4 (dk_at dksX7_back_4 15 rfl rfl)
theorem dX7_back_109 : decode cX7_back 109 = .ok (.iconst 0, 1) := dk_3 (dk_at dksX7_back_4 18 rfl rfl)
theorem dX7_back_110 : decode cX7_back 110 = .ok (.iload_n 1, 1) := dk_27 (dk_at dksX7_back_4 19 rfl rfl)
theorem dX7_back_111 : decode cX7_back 111 = .ok (.bipush 6, 2) := dk_16 6 (dk_at dksX7_back_4 20 rfl rfl)
theorem dX7_back_113 : decode cX7_back 113 = .ok (.irem, 1) := dk_112 (dk_at dksX7_back_4 22 rfl rfl)
theorem dX7_back_114 : decode cX7_back 114 = .ok (.aload_n 0, 1) := dk_42 (dk_at dksX7_back_4 23 rfl rfl)
theorem dX7_back_115 : decode cX7_back 115 = .ok (.getfield 347, 3) := dk_180 1 91 (dk_at dksX7_back_5 0 rfl rfl)
theorem dX7_back_118 : decode cX7_back 118 = .ok (.if_icmp .ge 7, 3) := dk_162 0 7 (dk_at dksX7_back_5 3 rfl rfl)
theorem dX7_back_121 : decode cX7_back 121 = .ok (.iconst 1, 1) := dk_4 (dk_at dksX7_back_5 6 rfl rfl)
theorem dX7_back_122 : decode cX7_back 122 = .ok (.goto 4, 3) := dk_167 0 4 (dk_at dksX7_back_5 7 rfl rfl)
theorem dX7_back_125 : decode cX7_back 125 = .ok (.iconst 0, 1) := dk_3 (dk_at dksX7_back_5 10 rfl rfl)
theorem dX7_back_126 : decode cX7_back 126 = .ok (.iadd, 1) := dk_96 (dk_at dksX7_back_5 11 rfl rfl)
theorem dX7_back_127 : decode cX7_back 127 = .ok (.istore_n 2, 1) := dk_61 (dk_at dksX7_back_5 12 rfl rfl)
theorem dX7_back_128 : decode cX7_back 128 = .ok (.aload_n 0, 1) := dk_42 (dk_at dksX7_back_5 13 rfl rfl)
theorem dX7_back_129 : decode cX7_back 129 = .ok (.getfield 22, 3) := dk_180 0 22 (dk_at dksX7_back_5 14 rfl rfl)
theorem dX7_back_132 : decode cX7_back 132 = .ok (.iload_n 1, 1) := dk_27 (dk_at dksX7_back_5 17 rfl rfl)
theorem dX7_back_133 : decode cX7_back 133 = .ok (.iload_n 2, 1) := dk_28 (dk_at dksX7_back_5 18 rfl rfl)
theorem dX7_back_134 : decode cX7_back 134 = .ok (.iconst 2, 1) := dk_5 (dk_at dksX7_back_5 19 rfl rfl)
theorem dX7_back_135 : decode cX7_back 135 = .ok (.if_icmp .ne 12, 3) := dk_160 0 12 (dk_at dksX7_back_5 20 rfl rfl)
theorem dX7_back_138 : decode cX7_back 138 = .ok (.aload_n 0, 1) := dk_42 (dk_at dksX7_back_5 23 rfl rfl)
theorem dX7_back_139 : decode cX7_back 139 = .ok (.getfield 71, 3) := dk_180 0 71 (dk_at dksX7_back_6 0 rfl rfl)
theorem dX7_back_142 : decode cX7_back 142 = .ok (.iload_n 1, 1) := dk_27 (dk_at dksX7_back_6 3 rfl rfl)
theorem dX7_back_143 : decode cX7_back 143 = .ok (.iaload, 1) := dk_46 (dk_at dksX7_back_6 4 rfl rfl)
theorem dX7_back_144 : decode cX7_back 144 = .ok (.goto 18, 3) := dk_167 0 18 (dk_at dksX7_back_6 5 rfl rfl)
theorem dX7_back_147 : decode cX7_back 147 = .ok (.iload_n 2, 1) := dk_28 (dk_at dksX7_back_6 8 rfl rfl)
theorem dX7_back_148 : decode cX7_back 148 = .ok (.iconst 1, 1) := dk_4 (dk_at dksX7_back_6 9 rfl rfl)
theorem dX7_back_149 : decode cX7_back 149 = .ok (.if_icmp .ne 7, 3) := dk_160 0 7 (dk_at dksX7_back_6 10 rfl rfl)
theorem dX7_back_152 : decode cX7_back 152 = .ok (.iconst 0, 1) := dk_3 (dk_at dksX7_back_6 13 rfl rfl)
theorem dX7_back_153 : decode cX7_back 153 = .ok (.goto 9, 3) := dk_167 0 9 (dk_at dksX7_back_6 14 rfl rfl)
theorem dX7_back_156 : decode cX7_back 156 = .ok (.aload_n 0, 1) := dk_42 (dk_at dksX7_back_6 17 rfl rfl)
theorem dX7_back_157 : decode cX7_back 157 = .ok (.getfield 22, 3) := dk_180 0 22 (dk_at dksX7_back_6 18 rfl rfl)
theorem dX7_back_160 : decode cX7_back 160 = .ok (.iload_n 1, 1) := dk_27 (dk_at dksX7_back_6 21 rfl rfl)
theorem dX7_back_161 : decode cX7_back 161 = .ok (.iaload, 1) := dk_46 (dk_at dksX7_back_6 22 rfl rfl)
theorem dX7_back_162 : decode cX7_back 162 = .ok (.iastore, 1) := dk_79 (dk_at dksX7_back_6 23 rfl rfl)
theorem dX7_back_163 : decode cX7_back 163 = .ok (.iinc 1 1, 3) := dk_132 1 1 (dk_at dksX7_back_7 0 rfl rfl)
theorem dX7_back_166 : decode cX7_back 166 = .ok (.goto (-78), 3) := dk_167 255 178 (dk_at dksX7_back_7 3 rfl rfl)
theorem dX7_back_169 : decode cX7_back 169 = .ok (.iconst 0, 1) := dk_3 (dk_at dksX7_back_7 6 rfl rfl)
theorem dX7_back_170 : decode cX7_back 170 = .ok (.istore_n 1, 1) := dk_60 (dk_at dksX7_back_7 7 rfl rfl)
theorem dX7_back_171 : decode cX7_back 171 = .ok (.iload_n 1, 1) := dk_27 (dk_at dksX7_back_7 8 rfl rfl)
theorem dX7_back_172 : decode cX7_back 172 = .ok (.bipush 10, 2) := dk_16 10 (dk_at dksX7_back_7 9 rfl rfl)
theorem dX7_back_174 : decode cX7_back 174 = .ok (.if_icmp .ge 33, 3) := dk_162 0 33 (dk_at dksX7_back_7 11 rfl rfl)
theorem dX7_back_177 : decode cX7_back 177 = .ok (.aload_n 0, 1) := dk_42 (dk_at dksX7_back_7 14 rfl rfl)
theorem dX7_back_178 : decode cX7_back 178 = .ok (.getfield 29, 3) := dk_180 0 29 (dk_at dksX7_back_7 15 rfl rfl)
theorem dX7_back_181 : decode cX7_back 181 = .ok (.iload_n 1, 1) := dk_27 (dk_at dksX7_back_7 18 rfl rfl)
theorem dX7_back_182 : decode cX7_back 182 = .ok (.aload_n 0, 1) := dk_42 (dk_at dksX7_back_7 19 rfl rfl)
theorem dX7_back_183 : decode cX7_back 183 = .ok (.getfield 74, 3) := dk_180 0 74 (dk_at dksX7_back_7 20 rfl rfl)
theorem dX7_back_186 : decode cX7_back 186 = .ok (.iload_n 1, 1) := dk_27 (dk_at dksX7_back_7 23 rfl rfl)
theorem dX7_back_187 : decode cX7_back 187 = .ok (.iaload, 1) := dk_46 (dk_at dksX7_back_8 0 rfl rfl)
theorem dX7_back_188 : decode cX7_back 188 = .ok (.iastore, 1) := dk_79 (dk_at dksX7_back_8 1 rfl rfl)
theorem dX7_back_189 : decode cX7_back 189 = .ok (.aload_n 0, 1) := dk_42 (dk_at dksX7_back_8 2 rfl rfl)
theorem dX7_back_190 : decode cX7_back 190 = .ok (.getfield 32, 3) := dk_180 0 32 (dk_at dksX7_back_8 3 rfl rfl)
theorem dX7_back_193 : decode cX7_back 193 = .ok (.iload_n 1, 1) := dk_27 (dk_at dksX7_back_8 6 rfl rfl)
theorem dX7_back_194 : decode cX7_back 194 = .ok (.aload_n 0, 1) := dk_42 (dk_at dksX7_back_8 7 rfl rfl)
theorem dX7_back_195 : decode cX7_back 195 = .ok (.getfield 77, 3) := dk_180 0 77 (dk_at dksX7_back_8 8 rfl rfl)
theorem dX7_back_198 : decode cX7_back 198 = .ok (.iload_n 1, 1) := dk_27 (dk_at dksX7_back_8 11 rfl rfl)
theorem dX7_back_199 : decode cX7_back 199 = .ok (.iaload, 1) := dk_46 (dk_at dksX7_back_8 12 rfl rfl)
theorem dX7_back_200 : decode cX7_back 200 = .ok (.iastore, 1) := dk_79 (dk_at dksX7_back_8 13 rfl rfl)
theorem dX7_back_201 : decode cX7_back 201 = .ok (.iinc 1 1, 3) := dk_132 1 1 (dk_at dksX7_back_8 14 rfl rfl)
theorem dX7_back_204 : decode cX7_back 204 = .ok (.goto (-33), 3) := dk_167 255 223 (dk_at dksX7_back_8 17 rfl rfl)
theorem dX7_back_207 : decode cX7_back 207 = .ok (.aload_n 0, 1) := dk_42 (dk_at dksX7_back_8 20 rfl rfl)
theorem dX7_back_208 : decode cX7_back 208 = .ok (.getfield 151, 3) := dk_180 0 151 (dk_at dksX7_back_8 21 rfl rfl)
theorem dX7_back_211 : decode cX7_back 211 = .ok (.ireturn, 1) := dk_172 (dk_at dksX7_back_9 0 rfl rfl)
abbrev cX7_sheet : ByteArray := prog_19_method_77_code
def yX7_sheet : MethodName := ⟨RX7, "sheet", "(III)I"⟩
def dkwX7_sheet_4 : List UInt8 := [4, 172]
abbrev dktX7_sheet_4 : List UInt8 := dkwX7_sheet_4 ++ []
def dkwX7_sheet_3 : List UInt8 := [16, 40, 162, 0, 22, 42, 180, 0, 86, 16, 40, 27, 104, 21, 4, 96, 3, 79, 132, 4, 1, 167, 255, 233]
abbrev dktX7_sheet_3 : List UInt8 := dkwX7_sheet_3 ++ dktX7_sheet_4
def dkwX7_sheet_2 : List UInt8 := [27, 28, 79, 42, 180, 0, 83, 27, 28, 2, 160, 0, 7, 3, 167, 0, 4, 29, 79, 3, 54, 4, 21, 4]
abbrev dktX7_sheet_2 : List UInt8 := dkwX7_sheet_2 ++ dktX7_sheet_3
def dkwX7_sheet_1 : List UInt8 := [16, 40, 164, 0, 6, 16, 254, 172, 28, 2, 159, 0, 10, 29, 156, 0, 6, 16, 242, 172, 42, 180, 0, 80]
abbrev dktX7_sheet_1 : List UInt8 := dkwX7_sheet_1 ++ dktX7_sheet_2
def dkwX7_sheet_0 : List UInt8 := [27, 3, 6, 184, 0, 154, 153, 0, 23, 28, 2, 5, 184, 0, 154, 153, 0, 14, 28, 2, 159, 0, 12, 29]
abbrev dktX7_sheet_0 : List UInt8 := dkwX7_sheet_0 ++ dktX7_sheet_1
theorem dksX7_sheet_0 : cX7_sheet.data.toList.drop 0 = dktX7_sheet_0 := by decide +kernel
theorem dksX7_sheet_1 : cX7_sheet.data.toList.drop 24 = dktX7_sheet_1 := dk_seg dksX7_sheet_0 24 rfl rfl
theorem dksX7_sheet_2 : cX7_sheet.data.toList.drop 48 = dktX7_sheet_2 := dk_seg dksX7_sheet_1 24 rfl rfl
theorem dksX7_sheet_3 : cX7_sheet.data.toList.drop 72 = dktX7_sheet_3 := dk_seg dksX7_sheet_2 24 rfl rfl
theorem dksX7_sheet_4 : cX7_sheet.data.toList.drop 96 = dktX7_sheet_4 := dk_seg dksX7_sheet_3 24 rfl rfl
theorem dX7_sheet_0 : decode cX7_sheet 0 = .ok (.iload_n 1, 1) := dk_27 (dk_at dksX7_sheet_0 0 rfl rfl)
theorem dX7_sheet_1 : decode cX7_sheet 1 = .ok (.iconst 0, 1) := dk_3 (dk_at dksX7_sheet_0 1 rfl rfl)
theorem dX7_sheet_2 : decode cX7_sheet 2 = .ok (.iconst 3, 1) := dk_6 (dk_at dksX7_sheet_0 2 rfl rfl)
theorem dX7_sheet_3 : decode cX7_sheet 3 = .ok (.invokestatic 154, 3) := dk_184 0 154 (dk_at dksX7_sheet_0 3 rfl rfl)
theorem dX7_sheet_6 : decode cX7_sheet 6 = .ok (.ifCond .eq 23, 3) := dk_153 0 23 (dk_at dksX7_sheet_0 6 rfl rfl)
theorem dX7_sheet_9 : decode cX7_sheet 9 = .ok (.iload_n 2, 1) := dk_28 (dk_at dksX7_sheet_0 9 rfl rfl)
theorem dX7_sheet_10 : decode cX7_sheet 10 = .ok (.iconst (-1), 1) := dk_2 (dk_at dksX7_sheet_0 10 rfl rfl)
theorem dX7_sheet_11 : decode cX7_sheet 11 = .ok (.iconst 2, 1) := dk_5 (dk_at dksX7_sheet_0 11 rfl rfl)
theorem dX7_sheet_12 : decode cX7_sheet 12 = .ok (.invokestatic 154, 3) := dk_184 0 154 (dk_at dksX7_sheet_0 12 rfl rfl)
theorem dX7_sheet_15 : decode cX7_sheet 15 = .ok (.ifCond .eq 14, 3) := dk_153 0 14 (dk_at dksX7_sheet_0 15 rfl rfl)
theorem dX7_sheet_18 : decode cX7_sheet 18 = .ok (.iload_n 2, 1) := dk_28 (dk_at dksX7_sheet_0 18 rfl rfl)
theorem dX7_sheet_19 : decode cX7_sheet 19 = .ok (.iconst (-1), 1) := dk_2 (dk_at dksX7_sheet_0 19 rfl rfl)
theorem dX7_sheet_20 : decode cX7_sheet 20 = .ok (.if_icmp .eq 12, 3) := dk_159 0 12 (dk_at dksX7_sheet_0 20 rfl rfl)
theorem dX7_sheet_23 : decode cX7_sheet 23 = .ok (.iload_n 3, 1) := dk_29 (dk_at dksX7_sheet_0 23 rfl rfl)
theorem dX7_sheet_24 : decode cX7_sheet 24 = .ok (.bipush 40, 2) := dk_16 40 (dk_at dksX7_sheet_1 0 rfl rfl)
theorem dX7_sheet_26 : decode cX7_sheet 26 = .ok (.if_icmp .le 6, 3) := dk_164 0 6 (dk_at dksX7_sheet_1 2 rfl rfl)
theorem dX7_sheet_29 : decode cX7_sheet 29 = .ok (.bipush (-2), 2) := dk_16 254 (dk_at dksX7_sheet_1 5 rfl rfl)
theorem dX7_sheet_31 : decode cX7_sheet 31 = .ok (.ireturn, 1) := dk_172 (dk_at dksX7_sheet_1 7 rfl rfl)
theorem dX7_sheet_32 : decode cX7_sheet 32 = .ok (.iload_n 2, 1) := dk_28 (dk_at dksX7_sheet_1 8 rfl rfl)
theorem dX7_sheet_33 : decode cX7_sheet 33 = .ok (.iconst (-1), 1) := dk_2 (dk_at dksX7_sheet_1 9 rfl rfl)
theorem dX7_sheet_34 : decode cX7_sheet 34 = .ok (.if_icmp .eq 10, 3) := dk_159 0 10 (dk_at dksX7_sheet_1 10 rfl rfl)
theorem dX7_sheet_37 : decode cX7_sheet 37 = .ok (.iload_n 3, 1) := dk_29 (dk_at dksX7_sheet_1 13 rfl rfl)
theorem dX7_sheet_38 : decode cX7_sheet 38 = .ok (.ifCond .ge 6, 3) := dk_156 0 6 (dk_at dksX7_sheet_1 14 rfl rfl)
theorem dX7_sheet_41 : decode cX7_sheet 41 = .ok (.bipush (-14), 2) := dk_16 242 (dk_at dksX7_sheet_1 17 rfl rfl)
theorem dX7_sheet_43 : decode cX7_sheet 43 = .ok (.ireturn, 1) := dk_172 (dk_at dksX7_sheet_1 19 rfl rfl)
theorem dX7_sheet_44 : decode cX7_sheet 44 = .ok (.aload_n 0, 1) := dk_42 (dk_at dksX7_sheet_1 20 rfl rfl)
theorem dX7_sheet_45 : decode cX7_sheet 45 = .ok (.getfield 80, 3) := dk_180 0 80 (dk_at dksX7_sheet_1 21 rfl rfl)
theorem dX7_sheet_48 : decode cX7_sheet 48 = .ok (.iload_n 1, 1) := dk_27 (dk_at dksX7_sheet_2 0 rfl rfl)
theorem dX7_sheet_49 : decode cX7_sheet 49 = .ok (.iload_n 2, 1) := dk_28 (dk_at dksX7_sheet_2 1 rfl rfl)
theorem dX7_sheet_50 : decode cX7_sheet 50 = .ok (.iastore, 1) := dk_79 (dk_at dksX7_sheet_2 2 rfl rfl)
theorem dX7_sheet_51 : decode cX7_sheet 51 = .ok (.aload_n 0, 1) := dk_42 (dk_at dksX7_sheet_2 3 rfl rfl)
theorem dX7_sheet_52 : decode cX7_sheet 52 = .ok (.getfield 83, 3) := dk_180 0 83 (dk_at dksX7_sheet_2 4 rfl rfl)
theorem dX7_sheet_55 : decode cX7_sheet 55 = .ok (.iload_n 1, 1) := dk_27 (dk_at dksX7_sheet_2 7 rfl rfl)
theorem dX7_sheet_56 : decode cX7_sheet 56 = .ok (.iload_n 2, 1) := dk_28 (dk_at dksX7_sheet_2 8 rfl rfl)
theorem dX7_sheet_57 : decode cX7_sheet 57 = .ok (.iconst (-1), 1) := dk_2 (dk_at dksX7_sheet_2 9 rfl rfl)
theorem dX7_sheet_58 : decode cX7_sheet 58 = .ok (.if_icmp .ne 7, 3) := dk_160 0 7 (dk_at dksX7_sheet_2 10 rfl rfl)
theorem dX7_sheet_61 : decode cX7_sheet 61 = .ok (.iconst 0, 1) := dk_3 (dk_at dksX7_sheet_2 13 rfl rfl)
theorem dX7_sheet_62 : decode cX7_sheet 62 = .ok (.goto 4, 3) := dk_167 0 4 (dk_at dksX7_sheet_2 14 rfl rfl)
theorem dX7_sheet_65 : decode cX7_sheet 65 = .ok (.iload_n 3, 1) := dk_29 (dk_at dksX7_sheet_2 17 rfl rfl)
theorem dX7_sheet_66 : decode cX7_sheet 66 = .ok (.iastore, 1) := dk_79 (dk_at dksX7_sheet_2 18 rfl rfl)
theorem dX7_sheet_67 : decode cX7_sheet 67 = .ok (.iconst 0, 1) := dk_3 (dk_at dksX7_sheet_2 19 rfl rfl)
theorem dX7_sheet_68 : decode cX7_sheet 68 = .ok (.istore 4, 2) := dk_54 4 (dk_at dksX7_sheet_2 20 rfl rfl)
theorem dX7_sheet_70 : decode cX7_sheet 70 = .ok (.iload 4, 2) := dk_21 4 (dk_at dksX7_sheet_2 22 rfl rfl)
theorem dX7_sheet_72 : decode cX7_sheet 72 = .ok (.bipush 40, 2) := dk_16 40 (dk_at dksX7_sheet_3 0 rfl rfl)
theorem dX7_sheet_74 : decode cX7_sheet 74 = .ok (.if_icmp .ge 22, 3) := dk_162 0 22 (dk_at dksX7_sheet_3 2 rfl rfl)
theorem dX7_sheet_77 : decode cX7_sheet 77 = .ok (.aload_n 0, 1) := dk_42 (dk_at dksX7_sheet_3 5 rfl rfl)
theorem dX7_sheet_78 : decode cX7_sheet 78 = .ok (.getfield 86, 3) := dk_180 0 86 (dk_at dksX7_sheet_3 6 rfl rfl)
theorem dX7_sheet_81 : decode cX7_sheet 81 = .ok (.bipush 40, 2) := dk_16 40 (dk_at dksX7_sheet_3 9 rfl rfl)
theorem dX7_sheet_83 : decode cX7_sheet 83 = .ok (.iload_n 1, 1) := dk_27 (dk_at dksX7_sheet_3 11 rfl rfl)
theorem dX7_sheet_84 : decode cX7_sheet 84 = .ok (.imul, 1) := dk_104 (dk_at dksX7_sheet_3 12 rfl rfl)
theorem dX7_sheet_85 : decode cX7_sheet 85 = .ok (.iload 4, 2) := dk_21 4 (dk_at dksX7_sheet_3 13 rfl rfl)
theorem dX7_sheet_87 : decode cX7_sheet 87 = .ok (.iadd, 1) := dk_96 (dk_at dksX7_sheet_3 15 rfl rfl)
theorem dX7_sheet_88 : decode cX7_sheet 88 = .ok (.iconst 0, 1) := dk_3 (dk_at dksX7_sheet_3 16 rfl rfl)
theorem dX7_sheet_89 : decode cX7_sheet 89 = .ok (.iastore, 1) := dk_79 (dk_at dksX7_sheet_3 17 rfl rfl)
theorem dX7_sheet_90 : decode cX7_sheet 90 = .ok (.iinc 4 1, 3) := dk_132 4 1 (dk_at dksX7_sheet_3 18 rfl rfl)
theorem dX7_sheet_93 : decode cX7_sheet 93 = .ok (.goto (-23), 3) := dk_167 255 233 (dk_at dksX7_sheet_3 21 rfl rfl)
theorem dX7_sheet_96 : decode cX7_sheet 96 = .ok (.iconst 1, 1) := dk_4 (dk_at dksX7_sheet_4 0 rfl rfl)
theorem dX7_sheet_97 : decode cX7_sheet 97 = .ok (.ireturn, 1) := dk_172 (dk_at dksX7_sheet_4 1 rfl rfl)
abbrev cX7_cell : ByteArray := prog_19_method_78_code
def yX7_cell : MethodName := ⟨RX7, "cell", "(III)I"⟩
def dkwX7_cell_3 : List UInt8 := [27, 46, 4, 160, 0, 8, 29, 147, 167, 0, 4, 29, 79, 4, 172]
abbrev dktX7_cell_3 : List UInt8 := dkwX7_cell_3 ++ []
def dkwX7_cell_2 : List UInt8 := [16, 40, 27, 104, 28, 96, 42, 180, 0, 80, 27, 46, 154, 0, 8, 29, 145, 167, 0, 19, 42, 180, 0, 80]
abbrev dktX7_cell_2 : List UInt8 := dkwX7_cell_2 ++ dktX7_cell_3
def dkwX7_cell_1 : List UInt8 := [172, 28, 3, 42, 180, 0, 83, 27, 46, 4, 100, 184, 0, 154, 154, 0, 6, 16, 244, 172, 42, 180, 0, 86]
abbrev dktX7_cell_1 : List UInt8 := dkwX7_cell_1 ++ dktX7_cell_2
def dkwX7_cell_0 : List UInt8 := [27, 3, 6, 184, 0, 154, 154, 0, 6, 16, 254, 172, 42, 180, 0, 80, 27, 46, 2, 160, 0, 6, 16, 245]
abbrev dktX7_cell_0 : List UInt8 := dkwX7_cell_0 ++ dktX7_cell_1
theorem dksX7_cell_0 : cX7_cell.data.toList.drop 0 = dktX7_cell_0 := by decide +kernel
theorem dksX7_cell_1 : cX7_cell.data.toList.drop 24 = dktX7_cell_1 := dk_seg dksX7_cell_0 24 rfl rfl
theorem dksX7_cell_2 : cX7_cell.data.toList.drop 48 = dktX7_cell_2 := dk_seg dksX7_cell_1 24 rfl rfl
theorem dksX7_cell_3 : cX7_cell.data.toList.drop 72 = dktX7_cell_3 := dk_seg dksX7_cell_2 24 rfl rfl
theorem dX7_cell_0 : decode cX7_cell 0 = .ok (.iload_n 1, 1) := dk_27 (dk_at dksX7_cell_0 0 rfl rfl)
theorem dX7_cell_1 : decode cX7_cell 1 = .ok (.iconst 0, 1) := dk_3 (dk_at dksX7_cell_0 1 rfl rfl)
theorem dX7_cell_2 : decode cX7_cell 2 = .ok (.iconst 3, 1) := dk_6 (dk_at dksX7_cell_0 2 rfl rfl)
theorem dX7_cell_3 : decode cX7_cell 3 = .ok (.invokestatic 154, 3) := dk_184 0 154 (dk_at dksX7_cell_0 3 rfl rfl)
theorem dX7_cell_6 : decode cX7_cell 6 = .ok (.ifCond .ne 6, 3) := dk_154 0 6 (dk_at dksX7_cell_0 6 rfl rfl)
theorem dX7_cell_9 : decode cX7_cell 9 = .ok (.bipush (-2), 2) := dk_16 254 (dk_at dksX7_cell_0 9 rfl rfl)
theorem dX7_cell_11 : decode cX7_cell 11 = .ok (.ireturn, 1) := dk_172 (dk_at dksX7_cell_0 11 rfl rfl)
theorem dX7_cell_12 : decode cX7_cell 12 = .ok (.aload_n 0, 1) := dk_42 (dk_at dksX7_cell_0 12 rfl rfl)
theorem dX7_cell_13 : decode cX7_cell 13 = .ok (.getfield 80, 3) := dk_180 0 80 (dk_at dksX7_cell_0 13 rfl rfl)
theorem dX7_cell_16 : decode cX7_cell 16 = .ok (.iload_n 1, 1) := dk_27 (dk_at dksX7_cell_0 16 rfl rfl)
theorem dX7_cell_17 : decode cX7_cell 17 = .ok (.iaload, 1) := dk_46 (dk_at dksX7_cell_0 17 rfl rfl)
theorem dX7_cell_18 : decode cX7_cell 18 = .ok (.iconst (-1), 1) := dk_2 (dk_at dksX7_cell_0 18 rfl rfl)
theorem dX7_cell_19 : decode cX7_cell 19 = .ok (.if_icmp .ne 6, 3) := dk_160 0 6 (dk_at dksX7_cell_0 19 rfl rfl)
theorem dX7_cell_22 : decode cX7_cell 22 = .ok (.bipush (-11), 2) := dk_16 245 (dk_at dksX7_cell_0 22 rfl rfl)
theorem dX7_cell_24 : decode cX7_cell 24 = .ok (.ireturn, 1) := dk_172 (dk_at dksX7_cell_1 0 rfl rfl)
theorem dX7_cell_25 : decode cX7_cell 25 = .ok (.iload_n 2, 1) := dk_28 (dk_at dksX7_cell_1 1 rfl rfl)
theorem dX7_cell_26 : decode cX7_cell 26 = .ok (.iconst 0, 1) := dk_3 (dk_at dksX7_cell_1 2 rfl rfl)
theorem dX7_cell_27 : decode cX7_cell 27 = .ok (.aload_n 0, 1) := dk_42 (dk_at dksX7_cell_1 3 rfl rfl)
theorem dX7_cell_28 : decode cX7_cell 28 = .ok (.getfield 83, 3) := dk_180 0 83 (dk_at dksX7_cell_1 4 rfl rfl)
theorem dX7_cell_31 : decode cX7_cell 31 = .ok (.iload_n 1, 1) := dk_27 (dk_at dksX7_cell_1 7 rfl rfl)
theorem dX7_cell_32 : decode cX7_cell 32 = .ok (.iaload, 1) := dk_46 (dk_at dksX7_cell_1 8 rfl rfl)
theorem dX7_cell_33 : decode cX7_cell 33 = .ok (.iconst 1, 1) := dk_4 (dk_at dksX7_cell_1 9 rfl rfl)
theorem dX7_cell_34 : decode cX7_cell 34 = .ok (.isub, 1) := dk_100 (dk_at dksX7_cell_1 10 rfl rfl)
theorem dX7_cell_35 : decode cX7_cell 35 = .ok (.invokestatic 154, 3) := dk_184 0 154 (dk_at dksX7_cell_1 11 rfl rfl)
theorem dX7_cell_38 : decode cX7_cell 38 = .ok (.ifCond .ne 6, 3) := dk_154 0 6 (dk_at dksX7_cell_1 14 rfl rfl)
theorem dX7_cell_41 : decode cX7_cell 41 = .ok (.bipush (-12), 2) := dk_16 244 (dk_at dksX7_cell_1 17 rfl rfl)
theorem dX7_cell_43 : decode cX7_cell 43 = .ok (.ireturn, 1) := dk_172 (dk_at dksX7_cell_1 19 rfl rfl)
theorem dX7_cell_44 : decode cX7_cell 44 = .ok (.aload_n 0, 1) := dk_42 (dk_at dksX7_cell_1 20 rfl rfl)
theorem dX7_cell_45 : decode cX7_cell 45 = .ok (.getfield 86, 3) := dk_180 0 86 (dk_at dksX7_cell_1 21 rfl rfl)
theorem dX7_cell_48 : decode cX7_cell 48 = .ok (.bipush 40, 2) := dk_16 40 (dk_at dksX7_cell_2 0 rfl rfl)
theorem dX7_cell_50 : decode cX7_cell 50 = .ok (.iload_n 1, 1) := dk_27 (dk_at dksX7_cell_2 2 rfl rfl)
theorem dX7_cell_51 : decode cX7_cell 51 = .ok (.imul, 1) := dk_104 (dk_at dksX7_cell_2 3 rfl rfl)
theorem dX7_cell_52 : decode cX7_cell 52 = .ok (.iload_n 2, 1) := dk_28 (dk_at dksX7_cell_2 4 rfl rfl)
theorem dX7_cell_53 : decode cX7_cell 53 = .ok (.iadd, 1) := dk_96 (dk_at dksX7_cell_2 5 rfl rfl)
theorem dX7_cell_54 : decode cX7_cell 54 = .ok (.aload_n 0, 1) := dk_42 (dk_at dksX7_cell_2 6 rfl rfl)
theorem dX7_cell_55 : decode cX7_cell 55 = .ok (.getfield 80, 3) := dk_180 0 80 (dk_at dksX7_cell_2 7 rfl rfl)
theorem dX7_cell_58 : decode cX7_cell 58 = .ok (.iload_n 1, 1) := dk_27 (dk_at dksX7_cell_2 10 rfl rfl)
theorem dX7_cell_59 : decode cX7_cell 59 = .ok (.iaload, 1) := dk_46 (dk_at dksX7_cell_2 11 rfl rfl)
theorem dX7_cell_60 : decode cX7_cell 60 = .ok (.ifCond .ne 8, 3) := dk_154 0 8 (dk_at dksX7_cell_2 12 rfl rfl)
theorem dX7_cell_63 : decode cX7_cell 63 = .ok (.iload_n 3, 1) := dk_29 (dk_at dksX7_cell_2 15 rfl rfl)
theorem dX7_cell_64 : decode cX7_cell 64 = .ok (.i2b, 1) := dk_145 (dk_at dksX7_cell_2 16 rfl rfl)
theorem dX7_cell_65 : decode cX7_cell 65 = .ok (.goto 19, 3) := dk_167 0 19 (dk_at dksX7_cell_2 17 rfl rfl)
theorem dX7_cell_68 : decode cX7_cell 68 = .ok (.aload_n 0, 1) := dk_42 (dk_at dksX7_cell_2 20 rfl rfl)
theorem dX7_cell_69 : decode cX7_cell 69 = .ok (.getfield 80, 3) := dk_180 0 80 (dk_at dksX7_cell_2 21 rfl rfl)
theorem dX7_cell_72 : decode cX7_cell 72 = .ok (.iload_n 1, 1) := dk_27 (dk_at dksX7_cell_3 0 rfl rfl)
theorem dX7_cell_73 : decode cX7_cell 73 = .ok (.iaload, 1) := dk_46 (dk_at dksX7_cell_3 1 rfl rfl)
theorem dX7_cell_74 : decode cX7_cell 74 = .ok (.iconst 1, 1) := dk_4 (dk_at dksX7_cell_3 2 rfl rfl)
theorem dX7_cell_75 : decode cX7_cell 75 = .ok (.if_icmp .ne 8, 3) := dk_160 0 8 (dk_at dksX7_cell_3 3 rfl rfl)
theorem dX7_cell_78 : decode cX7_cell 78 = .ok (.iload_n 3, 1) := dk_29 (dk_at dksX7_cell_3 6 rfl rfl)
theorem dX7_cell_79 : decode cX7_cell 79 = .ok (.i2s, 1) := dk_147 (dk_at dksX7_cell_3 7 rfl rfl)
theorem dX7_cell_80 : decode cX7_cell 80 = .ok (.goto 4, 3) := dk_167 0 4 (dk_at dksX7_cell_3 8 rfl rfl)
theorem dX7_cell_83 : decode cX7_cell 83 = .ok (.iload_n 3, 1) := dk_29 (dk_at dksX7_cell_3 11 rfl rfl)
theorem dX7_cell_84 : decode cX7_cell 84 = .ok (.iastore, 1) := dk_79 (dk_at dksX7_cell_3 12 rfl rfl)
theorem dX7_cell_85 : decode cX7_cell 85 = .ok (.iconst 1, 1) := dk_4 (dk_at dksX7_cell_3 13 rfl rfl)
theorem dX7_cell_86 : decode cX7_cell 86 = .ok (.ireturn, 1) := dk_172 (dk_at dksX7_cell_3 14 rfl rfl)
abbrev cX7_copy : ByteArray := prog_19_method_79_code
def yX7_copy : MethodName := ⟨RX7, "copy", "(IIIII)I"⟩
def dkwX7_copy_8 : List UInt8 := [180, 0, 86, 21, 6, 21, 9, 96, 46, 79, 132, 8, 1, 167, 255, 205, 21, 5, 172]
abbrev dktX7_copy_8 : List UInt8 := dkwX7_copy_8 ++ []
def dkwX7_copy_7 : List UInt8 := [4, 100, 21, 8, 100, 167, 0, 5, 21, 8, 54, 9, 42, 180, 0, 86, 21, 7, 21, 9, 96, 42]
abbrev dktX7_copy_7 : List UInt8 := dkwX7_copy_7 ++ dktX7_copy_8
def dkwX7_copy_6 : List UInt8 := [21, 4, 96, 54, 7, 3, 54, 8, 21, 8, 21, 5, 162, 0, 50, 21, 6, 21, 7, 162, 0, 13, 21, 5]
abbrev dktX7_copy_6 : List UInt8 := dkwX7_copy_6 ++ dktX7_copy_7
def dkwX7_copy_5 : List UInt8 := [29, 46, 21, 4, 100, 164, 0, 6, 16, 244, 172, 16, 40, 27, 104, 28, 96, 54, 6, 16, 40, 29, 104]
abbrev dktX7_copy_5 : List UInt8 := dkwX7_copy_5 ++ dktX7_copy_6
def dkwX7_copy_4 : List UInt8 := [29, 46, 163, 0, 30, 21, 5, 42, 180, 0, 83, 27, 46, 28, 100, 163, 0, 17, 21, 5, 42, 180, 0, 83]
abbrev dktX7_copy_4 : List UInt8 := dkwX7_copy_4 ++ dktX7_copy_5
def dkwX7_copy_3 : List UInt8 := [155, 0, 56, 21, 4, 155, 0, 51, 28, 42, 180, 0, 83, 27, 46, 163, 0, 41, 21, 4, 42, 180, 0, 83]
abbrev dktX7_copy_3 : List UInt8 := dkwX7_copy_3 ++ dktX7_copy_4
def dkwX7_copy_2 : List UInt8 := [180, 0, 80, 27, 46, 42, 180, 0, 80, 29, 46, 159, 0, 6, 16, 243, 172, 21, 5, 155, 0, 60, 28]
abbrev dktX7_copy_2 : List UInt8 := dkwX7_copy_2 ++ dktX7_copy_3
def dkwX7_copy_1 : List UInt8 := [180, 0, 80, 27, 46, 2, 159, 0, 13, 42, 180, 0, 80, 29, 46, 2, 160, 0, 6, 16, 245, 172, 42]
abbrev dktX7_copy_1 : List UInt8 := dkwX7_copy_1 ++ dktX7_copy_2
def dkwX7_copy_0 : List UInt8 := [27, 3, 6, 184, 0, 154, 153, 0, 12, 29, 3, 6, 184, 0, 154, 154, 0, 6, 16, 254, 172, 42]
abbrev dktX7_copy_0 : List UInt8 := dkwX7_copy_0 ++ dktX7_copy_1
theorem dksX7_copy_0 : cX7_copy.data.toList.drop 0 = dktX7_copy_0 := by decide +kernel
theorem dksX7_copy_1 : cX7_copy.data.toList.drop 22 = dktX7_copy_1 := dk_seg dksX7_copy_0 22 rfl rfl
theorem dksX7_copy_2 : cX7_copy.data.toList.drop 45 = dktX7_copy_2 := dk_seg dksX7_copy_1 23 rfl rfl
theorem dksX7_copy_3 : cX7_copy.data.toList.drop 68 = dktX7_copy_3 := dk_seg dksX7_copy_2 23 rfl rfl
theorem dksX7_copy_4 : cX7_copy.data.toList.drop 92 = dktX7_copy_4 := dk_seg dksX7_copy_3 24 rfl rfl
theorem dksX7_copy_5 : cX7_copy.data.toList.drop 116 = dktX7_copy_5 := dk_seg dksX7_copy_4 24 rfl rfl
theorem dksX7_copy_6 : cX7_copy.data.toList.drop 139 = dktX7_copy_6 := dk_seg dksX7_copy_5 23 rfl rfl
theorem dksX7_copy_7 : cX7_copy.data.toList.drop 163 = dktX7_copy_7 := dk_seg dksX7_copy_6 24 rfl rfl
theorem dksX7_copy_8 : cX7_copy.data.toList.drop 185 = dktX7_copy_8 := dk_seg dksX7_copy_7 22 rfl rfl
theorem dX7_copy_0 : decode cX7_copy 0 = .ok (.iload_n 1, 1) := dk_27 (dk_at dksX7_copy_0 0 rfl rfl)
theorem dX7_copy_1 : decode cX7_copy 1 = .ok (.iconst 0, 1) := dk_3 (dk_at dksX7_copy_0 1 rfl rfl)
theorem dX7_copy_2 : decode cX7_copy 2 = .ok (.iconst 3, 1) := dk_6 (dk_at dksX7_copy_0 2 rfl rfl)
theorem dX7_copy_3 : decode cX7_copy 3 = .ok (.invokestatic 154, 3) := dk_184 0 154 (dk_at dksX7_copy_0 3 rfl rfl)
theorem dX7_copy_6 : decode cX7_copy 6 = .ok (.ifCond .eq 12, 3) := dk_153 0 12 (dk_at dksX7_copy_0 6 rfl rfl)
theorem dX7_copy_9 : decode cX7_copy 9 = .ok (.iload_n 3, 1) := dk_29 (dk_at dksX7_copy_0 9 rfl rfl)
theorem dX7_copy_10 : decode cX7_copy 10 = .ok (.iconst 0, 1) := dk_3 (dk_at dksX7_copy_0 10 rfl rfl)
theorem dX7_copy_11 : decode cX7_copy 11 = .ok (.iconst 3, 1) := dk_6 (dk_at dksX7_copy_0 11 rfl rfl)
theorem dX7_copy_12 : decode cX7_copy 12 = .ok (.invokestatic 154, 3) := dk_184 0 154 (dk_at dksX7_copy_0 12 rfl rfl)
theorem dX7_copy_15 : decode cX7_copy 15 = .ok (.ifCond .ne 6, 3) := dk_154 0 6 (dk_at dksX7_copy_0 15 rfl rfl)
theorem dX7_copy_18 : decode cX7_copy 18 = .ok (.bipush (-2), 2) := dk_16 254 (dk_at dksX7_copy_0 18 rfl rfl)
theorem dX7_copy_20 : decode cX7_copy 20 = .ok (.ireturn, 1) := dk_172 (dk_at dksX7_copy_0 20 rfl rfl)
theorem dX7_copy_21 : decode cX7_copy 21 = .ok (.aload_n 0, 1) := dk_42 (dk_at dksX7_copy_0 21 rfl rfl)
theorem dX7_copy_22 : decode cX7_copy 22 = .ok (.getfield 80, 3) := dk_180 0 80 (dk_at dksX7_copy_1 0 rfl rfl)
theorem dX7_copy_25 : decode cX7_copy 25 = .ok (.iload_n 1, 1) := dk_27 (dk_at dksX7_copy_1 3 rfl rfl)
theorem dX7_copy_26 : decode cX7_copy 26 = .ok (.iaload, 1) := dk_46 (dk_at dksX7_copy_1 4 rfl rfl)
theorem dX7_copy_27 : decode cX7_copy 27 = .ok (.iconst (-1), 1) := dk_2 (dk_at dksX7_copy_1 5 rfl rfl)
theorem dX7_copy_28 : decode cX7_copy 28 = .ok (.if_icmp .eq 13, 3) := dk_159 0 13 (dk_at dksX7_copy_1 6 rfl rfl)
theorem dX7_copy_31 : decode cX7_copy 31 = .ok (.aload_n 0, 1) := dk_42 (dk_at dksX7_copy_1 9 rfl rfl)
theorem dX7_copy_32 : decode cX7_copy 32 = .ok (.getfield 80, 3) := dk_180 0 80 (dk_at dksX7_copy_1 10 rfl rfl)
theorem dX7_copy_35 : decode cX7_copy 35 = .ok (.iload_n 3, 1) := dk_29 (dk_at dksX7_copy_1 13 rfl rfl)
theorem dX7_copy_36 : decode cX7_copy 36 = .ok (.iaload, 1) := dk_46 (dk_at dksX7_copy_1 14 rfl rfl)
theorem dX7_copy_37 : decode cX7_copy 37 = .ok (.iconst (-1), 1) := dk_2 (dk_at dksX7_copy_1 15 rfl rfl)
theorem dX7_copy_38 : decode cX7_copy 38 = .ok (.if_icmp .ne 6, 3) := dk_160 0 6 (dk_at dksX7_copy_1 16 rfl rfl)
theorem dX7_copy_41 : decode cX7_copy 41 = .ok (.bipush (-11), 2) := dk_16 245 (dk_at dksX7_copy_1 19 rfl rfl)
theorem dX7_copy_43 : decode cX7_copy 43 = .ok (.ireturn, 1) := dk_172 (dk_at dksX7_copy_1 21 rfl rfl)
theorem dX7_copy_44 : decode cX7_copy 44 = .ok (.aload_n 0, 1) := dk_42 (dk_at dksX7_copy_1 22 rfl rfl)
theorem dX7_copy_45 : decode cX7_copy 45 = .ok (.getfield 80, 3) := dk_180 0 80 (dk_at dksX7_copy_2 0 rfl rfl)
theorem dX7_copy_48 : decode cX7_copy 48 = .ok (.iload_n 1, 1) := dk_27 (dk_at dksX7_copy_2 3 rfl rfl)
theorem dX7_copy_49 : decode cX7_copy 49 = .ok (.iaload, 1) := dk_46 (dk_at dksX7_copy_2 4 rfl rfl)
theorem dX7_copy_50 : decode cX7_copy 50 = .ok (.aload_n 0, 1) := dk_42 (dk_at dksX7_copy_2 5 rfl rfl)
theorem dX7_copy_51 : decode cX7_copy 51 = .ok (.getfield 80, 3) := dk_180 0 80 (dk_at dksX7_copy_2 6 rfl rfl)
theorem dX7_copy_54 : decode cX7_copy 54 = .ok (.iload_n 3, 1) := dk_29 (dk_at dksX7_copy_2 9 rfl rfl)
theorem dX7_copy_55 : decode cX7_copy 55 = .ok (.iaload, 1) := dk_46 (dk_at dksX7_copy_2 10 rfl rfl)
theorem dX7_copy_56 : decode cX7_copy 56 = .ok (.if_icmp .eq 6, 3) := dk_159 0 6 (dk_at dksX7_copy_2 11 rfl rfl)
theorem dX7_copy_59 : decode cX7_copy 59 = .ok (.bipush (-13), 2) := dk_16 243 (dk_at dksX7_copy_2 14 rfl rfl)
theorem dX7_copy_61 : decode cX7_copy 61 = .ok (.ireturn, 1) := dk_172 (dk_at dksX7_copy_2 16 rfl rfl)
theorem dX7_copy_62 : decode cX7_copy 62 = .ok (.iload 5, 2) := dk_21 5 (dk_at dksX7_copy_2 17 rfl rfl)
theorem dX7_copy_64 : decode cX7_copy 64 = .ok (.ifCond .lt 60, 3) := dk_155 0 60 (dk_at dksX7_copy_2 19 rfl rfl)
theorem dX7_copy_67 : decode cX7_copy 67 = .ok (.iload_n 2, 1) := dk_28 (dk_at dksX7_copy_2 22 rfl rfl)
theorem dX7_copy_68 : decode cX7_copy 68 = .ok (.ifCond .lt 56, 3) := dk_155 0 56 (dk_at dksX7_copy_3 0 rfl rfl)
theorem dX7_copy_71 : decode cX7_copy 71 = .ok (.iload 4, 2) := dk_21 4 (dk_at dksX7_copy_3 3 rfl rfl)
theorem dX7_copy_73 : decode cX7_copy 73 = .ok (.ifCond .lt 51, 3) := dk_155 0 51 (dk_at dksX7_copy_3 5 rfl rfl)
theorem dX7_copy_76 : decode cX7_copy 76 = .ok (.iload_n 2, 1) := dk_28 (dk_at dksX7_copy_3 8 rfl rfl)
theorem dX7_copy_77 : decode cX7_copy 77 = .ok (.aload_n 0, 1) := dk_42 (dk_at dksX7_copy_3 9 rfl rfl)
theorem dX7_copy_78 : decode cX7_copy 78 = .ok (.getfield 83, 3) := dk_180 0 83 (dk_at dksX7_copy_3 10 rfl rfl)
theorem dX7_copy_81 : decode cX7_copy 81 = .ok (.iload_n 1, 1) := dk_27 (dk_at dksX7_copy_3 13 rfl rfl)
theorem dX7_copy_82 : decode cX7_copy 82 = .ok (.iaload, 1) := dk_46 (dk_at dksX7_copy_3 14 rfl rfl)
theorem dX7_copy_83 : decode cX7_copy 83 = .ok (.if_icmp .gt 41, 3) := dk_163 0 41 (dk_at dksX7_copy_3 15 rfl rfl)
theorem dX7_copy_86 : decode cX7_copy 86 = .ok (.iload 4, 2) := dk_21 4 (dk_at dksX7_copy_3 18 rfl rfl)
theorem dX7_copy_88 : decode cX7_copy 88 = .ok (.aload_n 0, 1) := dk_42 (dk_at dksX7_copy_3 20 rfl rfl)
theorem dX7_copy_89 : decode cX7_copy 89 = .ok (.getfield 83, 3) := dk_180 0 83 (dk_at dksX7_copy_3 21 rfl rfl)
theorem dX7_copy_92 : decode cX7_copy 92 = .ok (.iload_n 3, 1) := dk_29 (dk_at dksX7_copy_4 0 rfl rfl)
theorem dX7_copy_93 : decode cX7_copy 93 = .ok (.iaload, 1) := dk_46 (dk_at dksX7_copy_4 1 rfl rfl)
theorem dX7_copy_94 : decode cX7_copy 94 = .ok (.if_icmp .gt 30, 3) := dk_163 0 30 (dk_at dksX7_copy_4 2 rfl rfl)
theorem dX7_copy_97 : decode cX7_copy 97 = .ok (.iload 5, 2) := dk_21 5 (dk_at dksX7_copy_4 5 rfl rfl)
theorem dX7_copy_99 : decode cX7_copy 99 = .ok (.aload_n 0, 1) := dk_42 (dk_at dksX7_copy_4 7 rfl rfl)
theorem dX7_copy_100 : decode cX7_copy 100 = .ok (.getfield 83, 3) := dk_180 0 83 (dk_at dksX7_copy_4 8 rfl rfl)
theorem dX7_copy_103 : decode cX7_copy 103 = .ok (.iload_n 1, 1) := dk_27 (dk_at dksX7_copy_4 11 rfl rfl)
theorem dX7_copy_104 : decode cX7_copy 104 = .ok (.iaload, 1) := dk_46 (dk_at dksX7_copy_4 12 rfl rfl)
theorem dX7_copy_105 : decode cX7_copy 105 = .ok (.iload_n 2, 1) := dk_28 (dk_at dksX7_copy_4 13 rfl rfl)
theorem dX7_copy_106 : decode cX7_copy 106 = .ok (.isub, 1) := dk_100 (dk_at dksX7_copy_4 14 rfl rfl)
theorem dX7_copy_107 : decode cX7_copy 107 = .ok (.if_icmp .gt 17, 3) := dk_163 0 17 (dk_at dksX7_copy_4 15 rfl rfl)
theorem dX7_copy_110 : decode cX7_copy 110 = .ok (.iload 5, 2) := dk_21 5 (dk_at dksX7_copy_4 18 rfl rfl)
theorem dX7_copy_112 : decode cX7_copy 112 = .ok (.aload_n 0, 1) := dk_42 (dk_at dksX7_copy_4 20 rfl rfl)
theorem dX7_copy_113 : decode cX7_copy 113 = .ok (.getfield 83, 3) := dk_180 0 83 (dk_at dksX7_copy_4 21 rfl rfl)
theorem dX7_copy_116 : decode cX7_copy 116 = .ok (.iload_n 3, 1) := dk_29 (dk_at dksX7_copy_5 0 rfl rfl)
theorem dX7_copy_117 : decode cX7_copy 117 = .ok (.iaload, 1) := dk_46 (dk_at dksX7_copy_5 1 rfl rfl)
theorem dX7_copy_118 : decode cX7_copy 118 = .ok (.iload 4, 2) := dk_21 4 (dk_at dksX7_copy_5 2 rfl rfl)
theorem dX7_copy_120 : decode cX7_copy 120 = .ok (.isub, 1) := dk_100 (dk_at dksX7_copy_5 4 rfl rfl)
theorem dX7_copy_121 : decode cX7_copy 121 = .ok (.if_icmp .le 6, 3) := dk_164 0 6 (dk_at dksX7_copy_5 5 rfl rfl)
theorem dX7_copy_124 : decode cX7_copy 124 = .ok (.bipush (-12), 2) := dk_16 244 (dk_at dksX7_copy_5 8 rfl rfl)
theorem dX7_copy_126 : decode cX7_copy 126 = .ok (.ireturn, 1) := dk_172 (dk_at dksX7_copy_5 10 rfl rfl)
theorem dX7_copy_127 : decode cX7_copy 127 = .ok (.bipush 40, 2) := dk_16 40 (dk_at dksX7_copy_5 11 rfl rfl)
theorem dX7_copy_129 : decode cX7_copy 129 = .ok (.iload_n 1, 1) := dk_27 (dk_at dksX7_copy_5 13 rfl rfl)
theorem dX7_copy_130 : decode cX7_copy 130 = .ok (.imul, 1) := dk_104 (dk_at dksX7_copy_5 14 rfl rfl)
theorem dX7_copy_131 : decode cX7_copy 131 = .ok (.iload_n 2, 1) := dk_28 (dk_at dksX7_copy_5 15 rfl rfl)
theorem dX7_copy_132 : decode cX7_copy 132 = .ok (.iadd, 1) := dk_96 (dk_at dksX7_copy_5 16 rfl rfl)
theorem dX7_copy_133 : decode cX7_copy 133 = .ok (.istore 6, 2) := dk_54 6 (dk_at dksX7_copy_5 17 rfl rfl)
theorem dX7_copy_135 : decode cX7_copy 135 = .ok (.bipush 40, 2) := dk_16 40 (dk_at dksX7_copy_5 19 rfl rfl)
theorem dX7_copy_137 : decode cX7_copy 137 = .ok (.iload_n 3, 1) := dk_29 (dk_at dksX7_copy_5 21 rfl rfl)
theorem dX7_copy_138 : decode cX7_copy 138 = .ok (.imul, 1) := dk_104 (dk_at dksX7_copy_5 22 rfl rfl)
theorem dX7_copy_139 : decode cX7_copy 139 = .ok (.iload 4, 2) := dk_21 4 (dk_at dksX7_copy_6 0 rfl rfl)
theorem dX7_copy_141 : decode cX7_copy 141 = .ok (.iadd, 1) := dk_96 (dk_at dksX7_copy_6 2 rfl rfl)
theorem dX7_copy_142 : decode cX7_copy 142 = .ok (.istore 7, 2) := dk_54 7 (dk_at dksX7_copy_6 3 rfl rfl)
theorem dX7_copy_144 : decode cX7_copy 144 = .ok (.iconst 0, 1) := dk_3 (dk_at dksX7_copy_6 5 rfl rfl)
theorem dX7_copy_145 : decode cX7_copy 145 = .ok (.istore 8, 2) := dk_54 8 (dk_at dksX7_copy_6 6 rfl rfl)
theorem dX7_copy_147 : decode cX7_copy 147 = .ok (.iload 8, 2) := dk_21 8 (dk_at dksX7_copy_6 8 rfl rfl)
theorem dX7_copy_149 : decode cX7_copy 149 = .ok (.iload 5, 2) := dk_21 5 (dk_at dksX7_copy_6 10 rfl rfl)
theorem dX7_copy_151 : decode cX7_copy 151 = .ok (.if_icmp .ge 50, 3) := dk_162 0 50 (dk_at dksX7_copy_6 12 rfl rfl)
theorem dX7_copy_154 : decode cX7_copy 154 = .ok (.iload 6, 2) := dk_21 6 (dk_at dksX7_copy_6 15 rfl rfl)
theorem dX7_copy_156 : decode cX7_copy 156 = .ok (.iload 7, 2) := dk_21 7 (dk_at dksX7_copy_6 17 rfl rfl)
theorem dX7_copy_158 : decode cX7_copy 158 = .ok (.if_icmp .ge 13, 3) := dk_162 0 13 (dk_at dksX7_copy_6 19 rfl rfl)
theorem dX7_copy_161 : decode cX7_copy 161 = .ok (.iload 5, 2) := dk_21 5 (dk_at dksX7_copy_6 22 rfl rfl)
theorem dX7_copy_163 : decode cX7_copy 163 = .ok (.iconst 1, 1) := dk_4 (dk_at dksX7_copy_7 0 rfl rfl)
theorem dX7_copy_164 : decode cX7_copy 164 = .ok (.isub, 1) := dk_100 (dk_at dksX7_copy_7 1 rfl rfl)
theorem dX7_copy_165 : decode cX7_copy 165 = .ok (.iload 8, 2) := dk_21 8 (dk_at dksX7_copy_7 2 rfl rfl)
theorem dX7_copy_167 : decode cX7_copy 167 = .ok (.isub, 1) := dk_100 (dk_at dksX7_copy_7 4 rfl rfl)
theorem dX7_copy_168 : decode cX7_copy 168 = .ok (.goto 5, 3) := dk_167 0 5 (dk_at dksX7_copy_7 5 rfl rfl)
theorem dX7_copy_171 : decode cX7_copy 171 = .ok (.iload 8, 2) := dk_21 8 (dk_at dksX7_copy_7 8 rfl rfl)
theorem dX7_copy_173 : decode cX7_copy 173 = .ok (.istore 9, 2) := dk_54 9 (dk_at dksX7_copy_7 10 rfl rfl)
theorem dX7_copy_175 : decode cX7_copy 175 = .ok (.aload_n 0, 1) := dk_42 (dk_at dksX7_copy_7 12 rfl rfl)
theorem dX7_copy_176 : decode cX7_copy 176 = .ok (.getfield 86, 3) := dk_180 0 86 (dk_at dksX7_copy_7 13 rfl rfl)
theorem dX7_copy_179 : decode cX7_copy 179 = .ok (.iload 7, 2) := dk_21 7 (dk_at dksX7_copy_7 16 rfl rfl)
theorem dX7_copy_181 : decode cX7_copy 181 = .ok (.iload 9, 2) := dk_21 9 (dk_at dksX7_copy_7 18 rfl rfl)
theorem dX7_copy_183 : decode cX7_copy 183 = .ok (.iadd, 1) := dk_96 (dk_at dksX7_copy_7 20 rfl rfl)
theorem dX7_copy_184 : decode cX7_copy 184 = .ok (.aload_n 0, 1) := dk_42 (dk_at dksX7_copy_7 21 rfl rfl)
theorem dX7_copy_185 : decode cX7_copy 185 = .ok (.getfield 86, 3) := dk_180 0 86 (dk_at dksX7_copy_8 0 rfl rfl)
theorem dX7_copy_188 : decode cX7_copy 188 = .ok (.iload 6, 2) := dk_21 6 (dk_at dksX7_copy_8 3 rfl rfl)
theorem dX7_copy_190 : decode cX7_copy 190 = .ok (.iload 9, 2) := dk_21 9 (dk_at dksX7_copy_8 5 rfl rfl)
theorem dX7_copy_192 : decode cX7_copy 192 = .ok (.iadd, 1) := dk_96 (dk_at dksX7_copy_8 7 rfl rfl)
theorem dX7_copy_193 : decode cX7_copy 193 = .ok (.iaload, 1) := dk_46 (dk_at dksX7_copy_8 8 rfl rfl)
theorem dX7_copy_194 : decode cX7_copy 194 = .ok (.iastore, 1) := dk_79 (dk_at dksX7_copy_8 9 rfl rfl)
theorem dX7_copy_195 : decode cX7_copy 195 = .ok (.iinc 8 1, 3) := dk_132 8 1 (dk_at dksX7_copy_8 10 rfl rfl)
theorem dX7_copy_198 : decode cX7_copy 198 = .ok (.goto (-51), 3) := dk_167 255 205 (dk_at dksX7_copy_8 13 rfl rfl)
theorem dX7_copy_201 : decode cX7_copy 201 = .ok (.iload 5, 2) := dk_21 5 (dk_at dksX7_copy_8 16 rfl rfl)
theorem dX7_copy_203 : decode cX7_copy 203 = .ok (.ireturn, 1) := dk_172 (dk_at dksX7_copy_8 18 rfl rfl)
abbrev cX7_roads : ByteArray := prog_19_method_80_code
def yX7_roads : MethodName := ⟨RX7, "roads", "(IIII)I"⟩
def dkwX7_roads_7 : List UInt8 := [172]
abbrev dktX7_roads_7 : List UInt8 := dkwX7_roads_7 ++ []
def dkwX7_roads_6 : List UInt8 := [96, 46, 182, 1, 103, 155, 0, 7, 4, 167, 0, 4, 3, 96, 54, 5, 132, 6, 1, 167, 255, 161, 21, 5]
abbrev dktX7_roads_6 : List UInt8 := dkwX7_roads_6 ++ dktX7_roads_7
def dkwX7_roads_5 : List UInt8 := [42, 42, 180, 0, 86, 21, 8, 46, 42, 180, 0, 86, 21, 8, 4, 96, 46, 42, 180, 0, 86, 21, 8, 5]
abbrev dktX7_roads_5 : List UInt8 := dkwX7_roads_5 ++ dktX7_roads_6
def dkwX7_roads_4 : List UInt8 := [180, 0, 83, 27, 46, 6, 100, 164, 0, 6, 16, 244, 172, 16, 40, 27, 104, 21, 7, 96, 54, 8, 21, 5]
abbrev dktX7_roads_4 : List UInt8 := dkwX7_roads_4 ++ dktX7_roads_5
def dkwX7_roads_3 : List UInt8 := [162, 0, 94, 29, 6, 21, 6, 104, 96, 54, 7, 29, 155, 0, 22, 21, 7, 29, 161, 0, 16, 21, 7, 42]
abbrev dktX7_roads_3 : List UInt8 := dkwX7_roads_3 ++ dktX7_roads_4
def dkwX7_roads_2 : List UInt8 := [180, 0, 80, 27, 46, 28, 159, 0, 6, 16, 243, 172, 3, 54, 5, 3, 54, 6, 21, 6, 21, 4]
abbrev dktX7_roads_2 : List UInt8 := dkwX7_roads_2 ++ dktX7_roads_3
def dkwX7_roads_1 : List UInt8 := [184, 0, 154, 154, 0, 6, 16, 254, 172, 42, 180, 0, 80, 27, 46, 2, 160, 0, 6, 16, 245, 172, 42]
abbrev dktX7_roads_1 : List UInt8 := dkwX7_roads_1 ++ dktX7_roads_2
def dkwX7_roads_0 : List UInt8 := [27, 3, 6, 184, 0, 154, 153, 0, 23, 28, 3, 5, 184, 0, 154, 153, 0, 14, 21, 4, 3, 16, 13]
abbrev dktX7_roads_0 : List UInt8 := dkwX7_roads_0 ++ dktX7_roads_1
theorem dksX7_roads_0 : cX7_roads.data.toList.drop 0 = dktX7_roads_0 := by decide +kernel
theorem dksX7_roads_1 : cX7_roads.data.toList.drop 23 = dktX7_roads_1 := dk_seg dksX7_roads_0 23 rfl rfl
theorem dksX7_roads_2 : cX7_roads.data.toList.drop 46 = dktX7_roads_2 := dk_seg dksX7_roads_1 23 rfl rfl
theorem dksX7_roads_3 : cX7_roads.data.toList.drop 68 = dktX7_roads_3 := dk_seg dksX7_roads_2 22 rfl rfl
theorem dksX7_roads_4 : cX7_roads.data.toList.drop 92 = dktX7_roads_4 := dk_seg dksX7_roads_3 24 rfl rfl
theorem dksX7_roads_5 : cX7_roads.data.toList.drop 116 = dktX7_roads_5 := dk_seg dksX7_roads_4 24 rfl rfl
theorem dksX7_roads_6 : cX7_roads.data.toList.drop 140 = dktX7_roads_6 := dk_seg dksX7_roads_5 24 rfl rfl
theorem dksX7_roads_7 : cX7_roads.data.toList.drop 164 = dktX7_roads_7 := dk_seg dksX7_roads_6 24 rfl rfl
theorem dX7_roads_0 : decode cX7_roads 0 = .ok (.iload_n 1, 1) := dk_27 (dk_at dksX7_roads_0 0 rfl rfl)
theorem dX7_roads_1 : decode cX7_roads 1 = .ok (.iconst 0, 1) := dk_3 (dk_at dksX7_roads_0 1 rfl rfl)
theorem dX7_roads_2 : decode cX7_roads 2 = .ok (.iconst 3, 1) := dk_6 (dk_at dksX7_roads_0 2 rfl rfl)
theorem dX7_roads_3 : decode cX7_roads 3 = .ok (.invokestatic 154, 3) := dk_184 0 154 (dk_at dksX7_roads_0 3 rfl rfl)
theorem dX7_roads_6 : decode cX7_roads 6 = .ok (.ifCond .eq 23, 3) := dk_153 0 23 (dk_at dksX7_roads_0 6 rfl rfl)
theorem dX7_roads_9 : decode cX7_roads 9 = .ok (.iload_n 2, 1) := dk_28 (dk_at dksX7_roads_0 9 rfl rfl)
theorem dX7_roads_10 : decode cX7_roads 10 = .ok (.iconst 0, 1) := dk_3 (dk_at dksX7_roads_0 10 rfl rfl)
theorem dX7_roads_11 : decode cX7_roads 11 = .ok (.iconst 2, 1) := dk_5 (dk_at dksX7_roads_0 11 rfl rfl)
theorem dX7_roads_12 : decode cX7_roads 12 = .ok (.invokestatic 154, 3) := dk_184 0 154 (dk_at dksX7_roads_0 12 rfl rfl)
theorem dX7_roads_15 : decode cX7_roads 15 = .ok (.ifCond .eq 14, 3) := dk_153 0 14 (dk_at dksX7_roads_0 15 rfl rfl)
theorem dX7_roads_18 : decode cX7_roads 18 = .ok (.iload 4, 2) := dk_21 4 (dk_at dksX7_roads_0 18 rfl rfl)
theorem dX7_roads_20 : decode cX7_roads 20 = .ok (.iconst 0, 1) := dk_3 (dk_at dksX7_roads_0 20 rfl rfl)
theorem dX7_roads_21 : decode cX7_roads 21 = .ok (.bipush 13, 2) := dk_16 13 (dk_at dksX7_roads_0 21 rfl rfl)
theorem dX7_roads_23 : decode cX7_roads 23 = .ok (.invokestatic 154, 3) := dk_184 0 154 (dk_at dksX7_roads_1 0 rfl rfl)
theorem dX7_roads_26 : decode cX7_roads 26 = .ok (.ifCond .ne 6, 3) := dk_154 0 6 (dk_at dksX7_roads_1 3 rfl rfl)
theorem dX7_roads_29 : decode cX7_roads 29 = .ok (.bipush (-2), 2) := dk_16 254 (dk_at dksX7_roads_1 6 rfl rfl)
theorem dX7_roads_31 : decode cX7_roads 31 = .ok (.ireturn, 1) := dk_172 (dk_at dksX7_roads_1 8 rfl rfl)
theorem dX7_roads_32 : decode cX7_roads 32 = .ok (.aload_n 0, 1) := dk_42 (dk_at dksX7_roads_1 9 rfl rfl)
theorem dX7_roads_33 : decode cX7_roads 33 = .ok (.getfield 80, 3) := dk_180 0 80 (dk_at dksX7_roads_1 10 rfl rfl)
theorem dX7_roads_36 : decode cX7_roads 36 = .ok (.iload_n 1, 1) := dk_27 (dk_at dksX7_roads_1 13 rfl rfl)
theorem dX7_roads_37 : decode cX7_roads 37 = .ok (.iaload, 1) := dk_46 (dk_at dksX7_roads_1 14 rfl rfl)
theorem dX7_roads_38 : decode cX7_roads 38 = .ok (.iconst (-1), 1) := dk_2 (dk_at dksX7_roads_1 15 rfl rfl)
theorem dX7_roads_39 : decode cX7_roads 39 = .ok (.if_icmp .ne 6, 3) := dk_160 0 6 (dk_at dksX7_roads_1 16 rfl rfl)
theorem dX7_roads_42 : decode cX7_roads 42 = .ok (.bipush (-11), 2) := dk_16 245 (dk_at dksX7_roads_1 19 rfl rfl)
theorem dX7_roads_44 : decode cX7_roads 44 = .ok (.ireturn, 1) := dk_172 (dk_at dksX7_roads_1 21 rfl rfl)
theorem dX7_roads_45 : decode cX7_roads 45 = .ok (.aload_n 0, 1) := dk_42 (dk_at dksX7_roads_1 22 rfl rfl)
theorem dX7_roads_46 : decode cX7_roads 46 = .ok (.getfield 80, 3) := dk_180 0 80 (dk_at dksX7_roads_2 0 rfl rfl)
theorem dX7_roads_49 : decode cX7_roads 49 = .ok (.iload_n 1, 1) := dk_27 (dk_at dksX7_roads_2 3 rfl rfl)
theorem dX7_roads_50 : decode cX7_roads 50 = .ok (.iaload, 1) := dk_46 (dk_at dksX7_roads_2 4 rfl rfl)
theorem dX7_roads_51 : decode cX7_roads 51 = .ok (.iload_n 2, 1) := dk_28 (dk_at dksX7_roads_2 5 rfl rfl)
theorem dX7_roads_52 : decode cX7_roads 52 = .ok (.if_icmp .eq 6, 3) := dk_159 0 6 (dk_at dksX7_roads_2 6 rfl rfl)
theorem dX7_roads_55 : decode cX7_roads 55 = .ok (.bipush (-13), 2) := dk_16 243 (dk_at dksX7_roads_2 9 rfl rfl)
theorem dX7_roads_57 : decode cX7_roads 57 = .ok (.ireturn, 1) := dk_172 (dk_at dksX7_roads_2 11 rfl rfl)
theorem dX7_roads_58 : decode cX7_roads 58 = .ok (.iconst 0, 1) := dk_3 (dk_at dksX7_roads_2 12 rfl rfl)
theorem dX7_roads_59 : decode cX7_roads 59 = .ok (.istore 5, 2) := dk_54 5 (dk_at dksX7_roads_2 13 rfl rfl)
theorem dX7_roads_61 : decode cX7_roads 61 = .ok (.iconst 0, 1) := dk_3 (dk_at dksX7_roads_2 15 rfl rfl)
theorem dX7_roads_62 : decode cX7_roads 62 = .ok (.istore 6, 2) := dk_54 6 (dk_at dksX7_roads_2 16 rfl rfl)
theorem dX7_roads_64 : decode cX7_roads 64 = .ok (.iload 6, 2) := dk_21 6 (dk_at dksX7_roads_2 18 rfl rfl)
theorem dX7_roads_66 : decode cX7_roads 66 = .ok (.iload 4, 2) := dk_21 4 (dk_at dksX7_roads_2 20 rfl rfl)
theorem dX7_roads_68 : decode cX7_roads 68 = .ok (.if_icmp .ge 94, 3) := dk_162 0 94 (dk_at dksX7_roads_3 0 rfl rfl)
theorem dX7_roads_71 : decode cX7_roads 71 = .ok (.iload_n 3, 1) := dk_29 (dk_at dksX7_roads_3 3 rfl rfl)
theorem dX7_roads_72 : decode cX7_roads 72 = .ok (.iconst 3, 1) := dk_6 (dk_at dksX7_roads_3 4 rfl rfl)
theorem dX7_roads_73 : decode cX7_roads 73 = .ok (.iload 6, 2) := dk_21 6 (dk_at dksX7_roads_3 5 rfl rfl)
theorem dX7_roads_75 : decode cX7_roads 75 = .ok (.imul, 1) := dk_104 (dk_at dksX7_roads_3 7 rfl rfl)
theorem dX7_roads_76 : decode cX7_roads 76 = .ok (.iadd, 1) := dk_96 (dk_at dksX7_roads_3 8 rfl rfl)
theorem dX7_roads_77 : decode cX7_roads 77 = .ok (.istore 7, 2) := dk_54 7 (dk_at dksX7_roads_3 9 rfl rfl)
theorem dX7_roads_79 : decode cX7_roads 79 = .ok (.iload_n 3, 1) := dk_29 (dk_at dksX7_roads_3 11 rfl rfl)
theorem dX7_roads_80 : decode cX7_roads 80 = .ok (.ifCond .lt 22, 3) := dk_155 0 22 (dk_at dksX7_roads_3 12 rfl rfl)
theorem dX7_roads_83 : decode cX7_roads 83 = .ok (.iload 7, 2) := dk_21 7 (dk_at dksX7_roads_3 15 rfl rfl)
theorem dX7_roads_85 : decode cX7_roads 85 = .ok (.iload_n 3, 1) := dk_29 (dk_at dksX7_roads_3 17 rfl rfl)
theorem dX7_roads_86 : decode cX7_roads 86 = .ok (.if_icmp .lt 16, 3) := dk_161 0 16 (dk_at dksX7_roads_3 18 rfl rfl)
theorem dX7_roads_89 : decode cX7_roads 89 = .ok (.iload 7, 2) := dk_21 7 (dk_at dksX7_roads_3 21 rfl rfl)
theorem dX7_roads_91 : decode cX7_roads 91 = .ok (.aload_n 0, 1) := dk_42 (dk_at dksX7_roads_3 23 rfl rfl)
theorem dX7_roads_92 : decode cX7_roads 92 = .ok (.getfield 83, 3) := dk_180 0 83 (dk_at dksX7_roads_4 0 rfl rfl)
theorem dX7_roads_95 : decode cX7_roads 95 = .ok (.iload_n 1, 1) := dk_27 (dk_at dksX7_roads_4 3 rfl rfl)
theorem dX7_roads_96 : decode cX7_roads 96 = .ok (.iaload, 1) := dk_46 (dk_at dksX7_roads_4 4 rfl rfl)
theorem dX7_roads_97 : decode cX7_roads 97 = .ok (.iconst 3, 1) := dk_6 (dk_at dksX7_roads_4 5 rfl rfl)
theorem dX7_roads_98 : decode cX7_roads 98 = .ok (.isub, 1) := dk_100 (dk_at dksX7_roads_4 6 rfl rfl)
theorem dX7_roads_99 : decode cX7_roads 99 = .ok (.if_icmp .le 6, 3) := dk_164 0 6 (dk_at dksX7_roads_4 7 rfl rfl)
theorem dX7_roads_102 : decode cX7_roads 102 = .ok (.bipush (-12), 2) := dk_16 244 (dk_at dksX7_roads_4 10 rfl rfl)
theorem dX7_roads_104 : decode cX7_roads 104 = .ok (.ireturn, 1) := dk_172 (dk_at dksX7_roads_4 12 rfl rfl)
theorem dX7_roads_105 : decode cX7_roads 105 = .ok (.bipush 40, 2) := dk_16 40 (dk_at dksX7_roads_4 13 rfl rfl)
theorem dX7_roads_107 : decode cX7_roads 107 = .ok (.iload_n 1, 1) := dk_27 (dk_at dksX7_roads_4 15 rfl rfl)
theorem dX7_roads_108 : decode cX7_roads 108 = .ok (.imul, 1) := dk_104 (dk_at dksX7_roads_4 16 rfl rfl)
theorem dX7_roads_109 : decode cX7_roads 109 = .ok (.iload 7, 2) := dk_21 7 (dk_at dksX7_roads_4 17 rfl rfl)
theorem dX7_roads_111 : decode cX7_roads 111 = .ok (.iadd, 1) := dk_96 (dk_at dksX7_roads_4 19 rfl rfl)
theorem dX7_roads_112 : decode cX7_roads 112 = .ok (.istore 8, 2) := dk_54 8 (dk_at dksX7_roads_4 20 rfl rfl)
theorem dX7_roads_114 : decode cX7_roads 114 = .ok (.iload 5, 2) := dk_21 5 (dk_at dksX7_roads_4 22 rfl rfl)
theorem dX7_roads_116 : decode cX7_roads 116 = .ok (.aload_n 0, 1) := dk_42 (dk_at dksX7_roads_5 0 rfl rfl)
theorem dX7_roads_117 : decode cX7_roads 117 = .ok (.aload_n 0, 1) := dk_42 (dk_at dksX7_roads_5 1 rfl rfl)
theorem dX7_roads_118 : decode cX7_roads 118 = .ok (.getfield 86, 3) := dk_180 0 86 (dk_at dksX7_roads_5 2 rfl rfl)
theorem dX7_roads_121 : decode cX7_roads 121 = .ok (.iload 8, 2) := dk_21 8 (dk_at dksX7_roads_5 5 rfl rfl)
theorem dX7_roads_123 : decode cX7_roads 123 = .ok (.iaload, 1) := dk_46 (dk_at dksX7_roads_5 7 rfl rfl)
theorem dX7_roads_124 : decode cX7_roads 124 = .ok (.aload_n 0, 1) := dk_42 (dk_at dksX7_roads_5 8 rfl rfl)
theorem dX7_roads_125 : decode cX7_roads 125 = .ok (.getfield 86, 3) := dk_180 0 86 (dk_at dksX7_roads_5 9 rfl rfl)
theorem dX7_roads_128 : decode cX7_roads 128 = .ok (.iload 8, 2) := dk_21 8 (dk_at dksX7_roads_5 12 rfl rfl)
theorem dX7_roads_130 : decode cX7_roads 130 = .ok (.iconst 1, 1) := dk_4 (dk_at dksX7_roads_5 14 rfl rfl)
theorem dX7_roads_131 : decode cX7_roads 131 = .ok (.iadd, 1) := dk_96 (dk_at dksX7_roads_5 15 rfl rfl)
theorem dX7_roads_132 : decode cX7_roads 132 = .ok (.iaload, 1) := dk_46 (dk_at dksX7_roads_5 16 rfl rfl)
theorem dX7_roads_133 : decode cX7_roads 133 = .ok (.aload_n 0, 1) := dk_42 (dk_at dksX7_roads_5 17 rfl rfl)
theorem dX7_roads_134 : decode cX7_roads 134 = .ok (.getfield 86, 3) := dk_180 0 86 (dk_at dksX7_roads_5 18 rfl rfl)
theorem dX7_roads_137 : decode cX7_roads 137 = .ok (.iload 8, 2) := dk_21 8 (dk_at dksX7_roads_5 21 rfl rfl)
theorem dX7_roads_139 : decode cX7_roads 139 = .ok (.iconst 2, 1) := dk_5 (dk_at dksX7_roads_5 23 rfl rfl)
theorem dX7_roads_140 : decode cX7_roads 140 = .ok (.iadd, 1) := dk_96 (dk_at dksX7_roads_6 0 rfl rfl)
theorem dX7_roads_141 : decode cX7_roads 141 = .ok (.iaload, 1) := dk_46 (dk_at dksX7_roads_6 1 rfl rfl)
theorem dX7_roads_142 : decode cX7_roads 142 = .ok (.invokevirtual 359, 3) := dk_182 1 103 (dk_at dksX7_roads_6 2 rfl rfl)
theorem dX7_roads_145 : decode cX7_roads 145 = .ok (.ifCond .lt 7, 3) := dk_155 0 7 (dk_at dksX7_roads_6 5 rfl rfl)
theorem dX7_roads_148 : decode cX7_roads 148 = .ok (.iconst 1, 1) := dk_4 (dk_at dksX7_roads_6 8 rfl rfl)
theorem dX7_roads_149 : decode cX7_roads 149 = .ok (.goto 4, 3) := dk_167 0 4 (dk_at dksX7_roads_6 9 rfl rfl)
theorem dX7_roads_152 : decode cX7_roads 152 = .ok (.iconst 0, 1) := dk_3 (dk_at dksX7_roads_6 12 rfl rfl)
theorem dX7_roads_153 : decode cX7_roads 153 = .ok (.iadd, 1) := dk_96 (dk_at dksX7_roads_6 13 rfl rfl)
theorem dX7_roads_154 : decode cX7_roads 154 = .ok (.istore 5, 2) := dk_54 5 (dk_at dksX7_roads_6 14 rfl rfl)
theorem dX7_roads_156 : decode cX7_roads 156 = .ok (.iinc 6 1, 3) := dk_132 6 1 (dk_at dksX7_roads_6 16 rfl rfl)
theorem dX7_roads_159 : decode cX7_roads 159 = .ok (.goto (-95), 3) := dk_167 255 161 (dk_at dksX7_roads_6 19 rfl rfl)
theorem dX7_roads_162 : decode cX7_roads 162 = .ok (.iload 5, 2) := dk_21 5 (dk_at dksX7_roads_6 22 rfl rfl)
theorem dX7_roads_164 : decode cX7_roads 164 = .ok (.ireturn, 1) := dk_172 (dk_at dksX7_roads_7 0 rfl rfl)
abbrev cX7_taken : ByteArray := prog_19_method_82_code
def yX7_taken : MethodName := ⟨RX7, "taken", "(II)I"⟩
def dkwX7_taken_4 : List UInt8 := [100, 46, 28, 184, 1, 105, 153, 0, 10, 27, 16, 6, 100, 167, 0, 5, 16, 243, 172]
abbrev dktX7_taken_4 : List UInt8 := dkwX7_taken_4 ++ []
def dkwX7_taken_3 : List UInt8 := [180, 1, 4, 161, 0, 8, 16, 245, 167, 0, 34, 28, 16, 6, 162, 0, 26, 42, 180, 0, 47, 27, 16, 6]
abbrev dktX7_taken_3 : List UInt8 := dkwX7_taken_3 ++ dktX7_taken_4
def dkwX7_taken_2 : List UInt8 := [16, 6, 160, 0, 12, 42, 180, 0, 7, 27, 46, 167, 0, 5, 16, 243, 172, 27, 16, 6, 100, 42]
abbrev dktX7_taken_2 : List UInt8 := dkwX7_taken_2 ++ dktX7_taken_3
def dkwX7_taken_1 : List UInt8 := [16, 244, 172, 27, 16, 6, 162, 0, 34, 27, 42, 180, 0, 151, 161, 0, 8, 16, 245, 167, 0, 20, 28]
abbrev dktX7_taken_1 : List UInt8 := dkwX7_taken_1 ++ dktX7_taken_2
def dkwX7_taken_0 : List UInt8 := [28, 3, 16, 6, 184, 0, 154, 154, 0, 6, 16, 254, 172, 27, 3, 16, 17, 184, 0, 154, 154, 0, 6]
abbrev dktX7_taken_0 : List UInt8 := dkwX7_taken_0 ++ dktX7_taken_1
theorem dksX7_taken_0 : cX7_taken.data.toList.drop 0 = dktX7_taken_0 := by decide +kernel
theorem dksX7_taken_1 : cX7_taken.data.toList.drop 23 = dktX7_taken_1 := dk_seg dksX7_taken_0 23 rfl rfl
theorem dksX7_taken_2 : cX7_taken.data.toList.drop 46 = dktX7_taken_2 := dk_seg dksX7_taken_1 23 rfl rfl
theorem dksX7_taken_3 : cX7_taken.data.toList.drop 68 = dktX7_taken_3 := dk_seg dksX7_taken_2 22 rfl rfl
theorem dksX7_taken_4 : cX7_taken.data.toList.drop 92 = dktX7_taken_4 := dk_seg dksX7_taken_3 24 rfl rfl
theorem dX7_taken_0 : decode cX7_taken 0 = .ok (.iload_n 2, 1) := dk_28 (dk_at dksX7_taken_0 0 rfl rfl)
theorem dX7_taken_1 : decode cX7_taken 1 = .ok (.iconst 0, 1) := dk_3 (dk_at dksX7_taken_0 1 rfl rfl)
theorem dX7_taken_2 : decode cX7_taken 2 = .ok (.bipush 6, 2) := dk_16 6 (dk_at dksX7_taken_0 2 rfl rfl)
theorem dX7_taken_4 : decode cX7_taken 4 = .ok (.invokestatic 154, 3) := dk_184 0 154 (dk_at dksX7_taken_0 4 rfl rfl)
theorem dX7_taken_7 : decode cX7_taken 7 = .ok (.ifCond .ne 6, 3) := dk_154 0 6 (dk_at dksX7_taken_0 7 rfl rfl)
theorem dX7_taken_10 : decode cX7_taken 10 = .ok (.bipush (-2), 2) := dk_16 254 (dk_at dksX7_taken_0 10 rfl rfl)
theorem dX7_taken_12 : decode cX7_taken 12 = .ok (.ireturn, 1) := dk_172 (dk_at dksX7_taken_0 12 rfl rfl)
theorem dX7_taken_13 : decode cX7_taken 13 = .ok (.iload_n 1, 1) := dk_27 (dk_at dksX7_taken_0 13 rfl rfl)
theorem dX7_taken_14 : decode cX7_taken 14 = .ok (.iconst 0, 1) := dk_3 (dk_at dksX7_taken_0 14 rfl rfl)
theorem dX7_taken_15 : decode cX7_taken 15 = .ok (.bipush 17, 2) := dk_16 17 (dk_at dksX7_taken_0 15 rfl rfl)
theorem dX7_taken_17 : decode cX7_taken 17 = .ok (.invokestatic 154, 3) := dk_184 0 154 (dk_at dksX7_taken_0 17 rfl rfl)
theorem dX7_taken_20 : decode cX7_taken 20 = .ok (.ifCond .ne 6, 3) := dk_154 0 6 (dk_at dksX7_taken_0 20 rfl rfl)
theorem dX7_taken_23 : decode cX7_taken 23 = .ok (.bipush (-12), 2) := dk_16 244 (dk_at dksX7_taken_1 0 rfl rfl)
theorem dX7_taken_25 : decode cX7_taken 25 = .ok (.ireturn, 1) := dk_172 (dk_at dksX7_taken_1 2 rfl rfl)
theorem dX7_taken_26 : decode cX7_taken 26 = .ok (.iload_n 1, 1) := dk_27 (dk_at dksX7_taken_1 3 rfl rfl)
theorem dX7_taken_27 : decode cX7_taken 27 = .ok (.bipush 6, 2) := dk_16 6 (dk_at dksX7_taken_1 4 rfl rfl)
theorem dX7_taken_29 : decode cX7_taken 29 = .ok (.if_icmp .ge 34, 3) := dk_162 0 34 (dk_at dksX7_taken_1 6 rfl rfl)
theorem dX7_taken_32 : decode cX7_taken 32 = .ok (.iload_n 1, 1) := dk_27 (dk_at dksX7_taken_1 9 rfl rfl)
theorem dX7_taken_33 : decode cX7_taken 33 = .ok (.aload_n 0, 1) := dk_42 (dk_at dksX7_taken_1 10 rfl rfl)
theorem dX7_taken_34 : decode cX7_taken 34 = .ok (.getfield 151, 3) := dk_180 0 151 (dk_at dksX7_taken_1 11 rfl rfl)
theorem dX7_taken_37 : decode cX7_taken 37 = .ok (.if_icmp .lt 8, 3) := dk_161 0 8 (dk_at dksX7_taken_1 14 rfl rfl)
theorem dX7_taken_40 : decode cX7_taken 40 = .ok (.bipush (-11), 2) := dk_16 245 (dk_at dksX7_taken_1 17 rfl rfl)
theorem dX7_taken_42 : decode cX7_taken 42 = .ok (.goto 20, 3) := dk_167 0 20 (dk_at dksX7_taken_1 19 rfl rfl)
theorem dX7_taken_45 : decode cX7_taken 45 = .ok (.iload_n 2, 1) := dk_28 (dk_at dksX7_taken_1 22 rfl rfl)
theorem dX7_taken_46 : decode cX7_taken 46 = .ok (.bipush 6, 2) := dk_16 6 (dk_at dksX7_taken_2 0 rfl rfl)
theorem dX7_taken_48 : decode cX7_taken 48 = .ok (.if_icmp .ne 12, 3) := dk_160 0 12 (dk_at dksX7_taken_2 2 rfl rfl)
theorem dX7_taken_51 : decode cX7_taken 51 = .ok (.aload_n 0, 1) := dk_42 (dk_at dksX7_taken_2 5 rfl rfl)
theorem dX7_taken_52 : decode cX7_taken 52 = .ok (.getfield 7, 3) := dk_180 0 7 (dk_at dksX7_taken_2 6 rfl rfl)
theorem dX7_taken_55 : decode cX7_taken 55 = .ok (.iload_n 1, 1) := dk_27 (dk_at dksX7_taken_2 9 rfl rfl)
theorem dX7_taken_56 : decode cX7_taken 56 = .ok (.iaload, 1) := dk_46 (dk_at dksX7_taken_2 10 rfl rfl)
theorem dX7_taken_57 : decode cX7_taken 57 = .ok (.goto 5, 3) := dk_167 0 5 (dk_at dksX7_taken_2 11 rfl rfl)
theorem dX7_taken_60 : decode cX7_taken 60 = .ok (.bipush (-13), 2) := dk_16 243 (dk_at dksX7_taken_2 14 rfl rfl)
theorem dX7_taken_62 : decode cX7_taken 62 = .ok (.ireturn, 1) := dk_172 (dk_at dksX7_taken_2 16 rfl rfl)
theorem dX7_taken_63 : decode cX7_taken 63 = .ok (.iload_n 1, 1) := dk_27 (dk_at dksX7_taken_2 17 rfl rfl)
theorem dX7_taken_64 : decode cX7_taken 64 = .ok (.bipush 6, 2) := dk_16 6 (dk_at dksX7_taken_2 18 rfl rfl)
theorem dX7_taken_66 : decode cX7_taken 66 = .ok (.isub, 1) := dk_100 (dk_at dksX7_taken_2 20 rfl rfl)
theorem dX7_taken_67 : decode cX7_taken 67 = .ok (.aload_n 0, 1) := dk_42 (dk_at dksX7_taken_2 21 rfl rfl)
theorem dX7_taken_68 : decode cX7_taken 68 = .ok (.getfield 260, 3) := dk_180 1 4 (dk_at dksX7_taken_3 0 rfl rfl)
theorem dX7_taken_71 : decode cX7_taken 71 = .ok (.if_icmp .lt 8, 3) := dk_161 0 8 (dk_at dksX7_taken_3 3 rfl rfl)
theorem dX7_taken_74 : decode cX7_taken 74 = .ok (.bipush (-11), 2) := dk_16 245 (dk_at dksX7_taken_3 6 rfl rfl)
theorem dX7_taken_76 : decode cX7_taken 76 = .ok (.goto 34, 3) := dk_167 0 34 (dk_at dksX7_taken_3 8 rfl rfl)
theorem dX7_taken_79 : decode cX7_taken 79 = .ok (.iload_n 2, 1) := dk_28 (dk_at dksX7_taken_3 11 rfl rfl)
theorem dX7_taken_80 : decode cX7_taken 80 = .ok (.bipush 6, 2) := dk_16 6 (dk_at dksX7_taken_3 12 rfl rfl)
theorem dX7_taken_82 : decode cX7_taken 82 = .ok (.if_icmp .ge 26, 3) := dk_162 0 26 (dk_at dksX7_taken_3 14 rfl rfl)
theorem dX7_taken_85 : decode cX7_taken 85 = .ok (.aload_n 0, 1) := dk_42 (dk_at dksX7_taken_3 17 rfl rfl)
theorem dX7_taken_86 : decode cX7_taken 86 = .ok (.getfield 47, 3) := dk_180 0 47 (dk_at dksX7_taken_3 18 rfl rfl)
theorem dX7_taken_89 : decode cX7_taken 89 = .ok (.iload_n 1, 1) := dk_27 (dk_at dksX7_taken_3 21 rfl rfl)
theorem dX7_taken_90 : decode cX7_taken 90 = .ok (.bipush 6, 2) := dk_16 6 (dk_at dksX7_taken_3 22 rfl rfl)
theorem dX7_taken_92 : decode cX7_taken 92 = .ok (.isub, 1) := dk_100 (dk_at dksX7_taken_4 0 rfl rfl)
theorem dX7_taken_93 : decode cX7_taken 93 = .ok (.iaload, 1) := dk_46 (dk_at dksX7_taken_4 1 rfl rfl)
theorem dX7_taken_94 : decode cX7_taken 94 = .ok (.iload_n 2, 1) := dk_28 (dk_at dksX7_taken_4 2 rfl rfl)
theorem dX7_taken_95 : decode cX7_taken 95 = .ok (.invokestatic 361, 3) := dk_184 1 105 (dk_at dksX7_taken_4 3 rfl rfl)
theorem dX7_taken_98 : decode cX7_taken 98 = .ok (.ifCond .eq 10, 3) := dk_153 0 10 (dk_at dksX7_taken_4 6 rfl rfl)
theorem dX7_taken_101 : decode cX7_taken 101 = .ok (.iload_n 1, 1) := dk_27 (dk_at dksX7_taken_4 9 rfl rfl)
theorem dX7_taken_102 : decode cX7_taken 102 = .ok (.bipush 6, 2) := dk_16 6 (dk_at dksX7_taken_4 10 rfl rfl)
theorem dX7_taken_104 : decode cX7_taken 104 = .ok (.isub, 1) := dk_100 (dk_at dksX7_taken_4 12 rfl rfl)
theorem dX7_taken_105 : decode cX7_taken 105 = .ok (.goto 5, 3) := dk_167 0 5 (dk_at dksX7_taken_4 13 rfl rfl)
theorem dX7_taken_108 : decode cX7_taken 108 = .ok (.bipush (-13), 2) := dk_16 243 (dk_at dksX7_taken_4 16 rfl rfl)
theorem dX7_taken_110 : decode cX7_taken 110 = .ok (.ireturn, 1) := dk_172 (dk_at dksX7_taken_4 18 rfl rfl)
abbrev cX7_isUnder : ByteArray := prog_19_method_81_code
def yX7_isUnder : MethodName := ⟨RX7, "isUnder", "(II)Z"⟩
def dkwX7_isUnder_1 : List UInt8 := [26, 7, 160, 0, 7, 4, 167, 0, 4, 3, 172]
abbrev dktX7_isUnder_1 : List UInt8 := dkwX7_isUnder_1 ++ []
def dkwX7_isUnder_0 : List UInt8 := [27, 153, 0, 28, 26, 27, 159, 0, 23, 27, 4, 160, 0, 8, 26, 8, 159, 0, 13, 27, 6, 160, 0, 12]
abbrev dktX7_isUnder_0 : List UInt8 := dkwX7_isUnder_0 ++ dktX7_isUnder_1
theorem dksX7_isUnder_0 : cX7_isUnder.data.toList.drop 0 = dktX7_isUnder_0 := by decide +kernel
theorem dksX7_isUnder_1 : cX7_isUnder.data.toList.drop 24 = dktX7_isUnder_1 := dk_seg dksX7_isUnder_0 24 rfl rfl
theorem dX7_isUnder_0 : decode cX7_isUnder 0 = .ok (.iload_n 1, 1) := dk_27 (dk_at dksX7_isUnder_0 0 rfl rfl)
theorem dX7_isUnder_1 : decode cX7_isUnder 1 = .ok (.ifCond .eq 28, 3) := dk_153 0 28 (dk_at dksX7_isUnder_0 1 rfl rfl)
theorem dX7_isUnder_4 : decode cX7_isUnder 4 = .ok (.iload_n 0, 1) := dk_26 (dk_at dksX7_isUnder_0 4 rfl rfl)
theorem dX7_isUnder_5 : decode cX7_isUnder 5 = .ok (.iload_n 1, 1) := dk_27 (dk_at dksX7_isUnder_0 5 rfl rfl)
theorem dX7_isUnder_6 : decode cX7_isUnder 6 = .ok (.if_icmp .eq 23, 3) := dk_159 0 23 (dk_at dksX7_isUnder_0 6 rfl rfl)
theorem dX7_isUnder_9 : decode cX7_isUnder 9 = .ok (.iload_n 1, 1) := dk_27 (dk_at dksX7_isUnder_0 9 rfl rfl)
theorem dX7_isUnder_10 : decode cX7_isUnder 10 = .ok (.iconst 1, 1) := dk_4 (dk_at dksX7_isUnder_0 10 rfl rfl)
theorem dX7_isUnder_11 : decode cX7_isUnder 11 = .ok (.if_icmp .ne 8, 3) := dk_160 0 8 (dk_at dksX7_isUnder_0 11 rfl rfl)
theorem dX7_isUnder_14 : decode cX7_isUnder 14 = .ok (.iload_n 0, 1) := dk_26 (dk_at dksX7_isUnder_0 14 rfl rfl)
theorem dX7_isUnder_15 : decode cX7_isUnder 15 = .ok (.iconst 5, 1) := dk_8 (dk_at dksX7_isUnder_0 15 rfl rfl)
theorem dX7_isUnder_16 : decode cX7_isUnder 16 = .ok (.if_icmp .eq 13, 3) := dk_159 0 13 (dk_at dksX7_isUnder_0 16 rfl rfl)
theorem dX7_isUnder_19 : decode cX7_isUnder 19 = .ok (.iload_n 1, 1) := dk_27 (dk_at dksX7_isUnder_0 19 rfl rfl)
theorem dX7_isUnder_20 : decode cX7_isUnder 20 = .ok (.iconst 3, 1) := dk_6 (dk_at dksX7_isUnder_0 20 rfl rfl)
theorem dX7_isUnder_21 : decode cX7_isUnder 21 = .ok (.if_icmp .ne 12, 3) := dk_160 0 12 (dk_at dksX7_isUnder_0 21 rfl rfl)
theorem dX7_isUnder_24 : decode cX7_isUnder 24 = .ok (.iload_n 0, 1) := dk_26 (dk_at dksX7_isUnder_1 0 rfl rfl)
theorem dX7_isUnder_25 : decode cX7_isUnder 25 = .ok (.iconst 4, 1) := dk_7 (dk_at dksX7_isUnder_1 1 rfl rfl)
theorem dX7_isUnder_26 : decode cX7_isUnder 26 = .ok (.if_icmp .ne 7, 3) := dk_160 0 7 (dk_at dksX7_isUnder_1 2 rfl rfl)
theorem dX7_isUnder_29 : decode cX7_isUnder 29 = .ok (.iconst 1, 1) := dk_4 (dk_at dksX7_isUnder_1 5 rfl rfl)
theorem dX7_isUnder_30 : decode cX7_isUnder 30 = .ok (.goto 4, 3) := dk_167 0 4 (dk_at dksX7_isUnder_1 6 rfl rfl)
theorem dX7_isUnder_33 : decode cX7_isUnder 33 = .ok (.iconst 0, 1) := dk_3 (dk_at dksX7_isUnder_1 9 rfl rfl)
theorem dX7_isUnder_34 : decode cX7_isUnder 34 = .ok (.ireturn, 1) := dk_172 (dk_at dksX7_isUnder_1 10 rfl rfl)
theorem q107 : (Jvm.Cond.initialized "MarketDaysModel") ∈ lw_all := lw_g (lw_at lw_m1 25 rfl) rfl
theorem q1032 : (Jvm.Cond.selects "MarketDaysModel" ({ cls := "java/lang/Object", name := "getClass", desc := "()Ljava/lang/Class;" } : Jvm.MethodName) ({ cls := "java/lang/Object", name := "getClass", desc := "()Ljava/lang/Class;" } : Jvm.MethodName)) ∈ lw_all := lw_g (lw_at lw_m4 230 rfl) rfl
theorem q1426 : (Jvm.Cond.instantiable "MarketDaysModel" (56 : Nat)) ∈ lw_all := lw_g (lw_at lw_m6 144 rfl) rfl
theorem q1428 : (Jvm.Cond.instanceMethod ({ cls := "MarketDaysModel", name := "<init>", desc := "()V" } : Jvm.MethodName)) ∈ lw_all := lw_g (lw_at lw_m6 146 rfl) rfl
theorem q1429 : (Jvm.Cond.code ({ cls := "MarketDaysModel", name := "<init>", desc := "()V" } : Jvm.MethodName) prog_19_method_1_code (1 : Nat) (Option.none : Option Jvm.ClassFile.FieldType)) ∈ lw_all := lw_g (lw_at lw_m6 147 rfl) rfl
theorem q1430 : (Jvm.Cond.methodLink "MarketDaysModel" (1 : Nat) ({ cls := "java/lang/Object", name := "<init>", desc := "()V" } : Jvm.MethodName)) ∈ lw_all := lw_g (lw_at lw_m6 148 rfl) rfl
theorem q1431 : (Jvm.Cond.constantLong "MarketDaysModel" (92 : Nat) (1852137842 : Int64)) ∈ lw_all := lw_g (lw_at lw_m6 149 rfl) rfl
theorem q1432 : (Jvm.Cond.constantLong "MarketDaysModel" (94 : Nat) (512970880104 : Int64)) ∈ lw_all := lw_g (lw_at lw_m6 150 rfl) rfl
theorem q1433 : (Jvm.Cond.constantLong "MarketDaysModel" (96 : Nat) (448546566771 : Int64)) ∈ lw_all := lw_g (lw_at lw_m6 151 rfl) rfl
theorem q1434 : (Jvm.Cond.constantLong "MarketDaysModel" (98 : Nat) (1936292453 : Int64)) ∈ lw_all := lw_g (lw_at lw_m6 152 rfl) rfl
theorem q1435 : (Jvm.Cond.constantLong "MarketDaysModel" (100 : Nat) (478694368626 : Int64)) ∈ lw_all := lw_g (lw_at lw_m6 153 rfl) rfl
theorem q1436 : (Jvm.Cond.constantLong "MarketDaysModel" (102 : Nat) (6578553 : Int64)) ∈ lw_all := lw_g (lw_at lw_m6 154 rfl) rfl
theorem q1437 : (Jvm.Cond.constantLong "MarketDaysModel" (104 : Nat) (2002873972 : Int64)) ∈ lw_all := lw_g (lw_at lw_m6 155 rfl) rfl
theorem q1438 : (Jvm.Cond.constantLong "MarketDaysModel" (106 : Nat) (2003133803 : Int64)) ∈ lw_all := lw_g (lw_at lw_m6 156 rfl) rfl
theorem q1439 : (Jvm.Cond.constantLong "MarketDaysModel" (108 : Nat) (28530 : Int64)) ∈ lw_all := lw_g (lw_at lw_m6 157 rfl) rfl
theorem q1440 : (Jvm.Cond.constantLong "MarketDaysModel" (110 : Nat) (6385252 : Int64)) ∈ lw_all := lw_g (lw_at lw_m6 158 rfl) rfl
theorem q1441 : (Jvm.Cond.constantLong "MarketDaysModel" (112 : Nat) (7237492 : Int64)) ∈ lw_all := lw_g (lw_at lw_m6 159 rfl) rfl
theorem q1442 : (Jvm.Cond.constant "MarketDaysModel" (143 : Nat) (100004 : Int32)) ∈ lw_all := lw_g (lw_at lw_m6 160 rfl) rfl
theorem q1443 : (Jvm.Cond.constant "MarketDaysModel" (144 : Nat) (100010 : Int32)) ∈ lw_all := lw_g (lw_at lw_m6 161 rfl) rfl
theorem q1444 : (Jvm.Cond.methodLink "MarketDaysModel" (145 : Nat) ({ cls := "MarketDaysModel", name := "first", desc := "(IIIII)V" } : Jvm.MethodName)) ∈ lw_all := lw_g (lw_at lw_m6 162 rfl) rfl
theorem q1445 : (Jvm.Cond.privateMethod ({ cls := "MarketDaysModel", name := "first", desc := "(IIIII)V" } : Jvm.MethodName)) ∈ lw_tbl := lw_at lw_m6 163 rfl
theorem q1446 : (Jvm.Cond.instanceMethod ({ cls := "MarketDaysModel", name := "first", desc := "(IIIII)V" } : Jvm.MethodName)) ∈ lw_all := lw_g (lw_at lw_m6 164 rfl) rfl
theorem q1447 : (Jvm.Cond.code ({ cls := "MarketDaysModel", name := "first", desc := "(IIIII)V" } : Jvm.MethodName) prog_19_method_2_code (6 : Nat) (Option.none : Option Jvm.ClassFile.FieldType)) ∈ lw_all := lw_g (lw_at lw_m6 165 rfl) rfl
theorem q1448 : (Jvm.Cond.constant "MarketDaysModel" (149 : Nat) (100002 : Int32)) ∈ lw_all := lw_g (lw_at lw_m6 166 rfl) rfl
theorem q1449 : (Jvm.Cond.constant "MarketDaysModel" (150 : Nat) (100005 : Int32)) ∈ lw_all := lw_g (lw_at lw_m6 167 rfl) rfl
theorem q1450 : (Jvm.Cond.fieldLink "MarketDaysModel" (151 : Nat) "MarketDaysModel" "towns" "I") ∈ lw_all := lw_g (lw_at lw_m6 168 rfl) rfl
theorem q1451 : (Jvm.Cond.fieldLink "MarketDaysModel" (7 : Nat) "MarketDaysModel" "size" "[I") ∈ lw_all := lw_g (lw_at lw_m6 169 rfl) rfl
theorem q1452 : (Jvm.Cond.fieldLink "MarketDaysModel" (13 : Nat) "MarketDaysModel" "may" "[I") ∈ lw_all := lw_g (lw_at lw_m6 170 rfl) rfl
theorem q1453 : (Jvm.Cond.fieldLink "MarketDaysModel" (16 : Nat) "MarketDaysModel" "wish" "[I") ∈ lw_all := lw_g (lw_at lw_m6 171 rfl) rfl
theorem q1454 : (Jvm.Cond.fieldLink "MarketDaysModel" (19 : Nat) "MarketDaysModel" "behind" "[I") ∈ lw_all := lw_g (lw_at lw_m6 172 rfl) rfl
theorem q1455 : (Jvm.Cond.fieldLink "MarketDaysModel" (22 : Nat) "MarketDaysModel" "road" "[I") ∈ lw_all := lw_g (lw_at lw_m6 173 rfl) rfl
theorem q1456 : (Jvm.Cond.fieldLink "MarketDaysModel" (25 : Nat) "MarketDaysModel" "week" "I") ∈ lw_all := lw_g (lw_at lw_m6 174 rfl) rfl
theorem q1457 : (Jvm.Cond.fieldLink "MarketDaysModel" (168 : Nat) "MarketDaysModel" "feasts" "I") ∈ lw_all := lw_g (lw_at lw_m6 175 rfl) rfl
theorem q1458 : (Jvm.Cond.fieldLink "MarketDaysModel" (29 : Nat) "MarketDaysModel" "feastWeek" "[I") ∈ lw_all := lw_g (lw_at lw_m6 176 rfl) rfl
theorem q1459 : (Jvm.Cond.fieldLink "MarketDaysModel" (32 : Nat) "MarketDaysModel" "feastDay" "[I") ∈ lw_all := lw_g (lw_at lw_m6 177 rfl) rfl
theorem q1460 : (Jvm.Cond.fieldLink "MarketDaysModel" (35 : Nat) "MarketDaysModel" "tape" "[I") ∈ lw_all := lw_g (lw_at lw_m6 178 rfl) rfl
theorem q1461 : (Jvm.Cond.fieldLink "MarketDaysModel" (171 : Nat) "MarketDaysModel" "taped" "I") ∈ lw_all := lw_g (lw_at lw_m6 179 rfl) rfl
theorem q1462 : (Jvm.Cond.fieldLink "MarketDaysModel" (38 : Nat) "MarketDaysModel" "codes" "[I") ∈ lw_all := lw_g (lw_at lw_m6 180 rfl) rfl
theorem q1463 : (Jvm.Cond.fieldLink "MarketDaysModel" (41 : Nat) "MarketDaysModel" "starts" "[I") ∈ lw_all := lw_g (lw_at lw_m6 181 rfl) rfl
theorem q1464 : (Jvm.Cond.fieldLink "MarketDaysModel" (44 : Nat) "MarketDaysModel" "texts" "I") ∈ lw_all := lw_g (lw_at lw_m6 182 rfl) rfl
theorem q1465 : (Jvm.Cond.fieldLink "MarketDaysModel" (233 : Nat) "MarketDaysModel" "rule" "I") ∈ lw_all := lw_g (lw_at lw_m6 183 rfl) rfl
theorem q1466 : (Jvm.Cond.fieldLink "MarketDaysModel" (260 : Nat) "MarketDaysModel" "givings" "I") ∈ lw_all := lw_g (lw_at lw_m6 184 rfl) rfl
theorem q1467 : (Jvm.Cond.fieldLink "MarketDaysModel" (47 : Nat) "MarketDaysModel" "kind" "[I") ∈ lw_all := lw_g (lw_at lw_m6 185 rfl) rfl
theorem q1468 : (Jvm.Cond.fieldLink "MarketDaysModel" (50 : Nat) "MarketDaysModel" "many" "[I") ∈ lw_all := lw_g (lw_at lw_m6 186 rfl) rfl
theorem q1469 : (Jvm.Cond.fieldLink "MarketDaysModel" (53 : Nat) "MarketDaysModel" "day" "[I") ∈ lw_all := lw_g (lw_at lw_m6 187 rfl) rfl
theorem q1470 : (Jvm.Cond.fieldLink "MarketDaysModel" (313 : Nat) "MarketDaysModel" "wasFound" "Z") ∈ lw_all := lw_g (lw_at lw_m6 188 rfl) rfl
theorem q1471 : (Jvm.Cond.fieldLink "MarketDaysModel" (317 : Nat) "MarketDaysModel" "foundTowns" "I") ∈ lw_all := lw_g (lw_at lw_m6 189 rfl) rfl
theorem q1472 : (Jvm.Cond.fieldLink "MarketDaysModel" (56 : Nat) "MarketDaysModel" "found" "[I") ∈ lw_all := lw_g (lw_at lw_m6 190 rfl) rfl
theorem q1473 : (Jvm.Cond.fieldLink "MarketDaysModel" (341 : Nat) "MarketDaysModel" "roundDays" "I") ∈ lw_all := lw_g (lw_at lw_m6 191 rfl) rfl
theorem q1474 : (Jvm.Cond.fieldLink "MarketDaysModel" (59 : Nat) "MarketDaysModel" "roundAt" "[I") ∈ lw_all := lw_g (lw_at lw_m6 192 rfl) rfl
theorem q1475 : (Jvm.Cond.fieldLink "MarketDaysModel" (344 : Nat) "MarketDaysModel" "hasImage" "Z") ∈ lw_all := lw_g (lw_at lw_m6 193 rfl) rfl
theorem q1476 : (Jvm.Cond.fieldLink "MarketDaysModel" (347 : Nat) "MarketDaysModel" "imageTowns" "I") ∈ lw_all := lw_g (lw_at lw_m6 194 rfl) rfl
theorem q1477 : (Jvm.Cond.fieldLink "MarketDaysModel" (350 : Nat) "MarketDaysModel" "imageWeek" "I") ∈ lw_all := lw_g (lw_at lw_m6 195 rfl) rfl
theorem q1478 : (Jvm.Cond.fieldLink "MarketDaysModel" (353 : Nat) "MarketDaysModel" "imageFeasts" "I") ∈ lw_all := lw_g (lw_at lw_m6 196 rfl) rfl
theorem q1479 : (Jvm.Cond.fieldLink "MarketDaysModel" (356 : Nat) "MarketDaysModel" "imageRule" "I") ∈ lw_all := lw_g (lw_at lw_m6 197 rfl) rfl
theorem q1480 : (Jvm.Cond.fieldLink "MarketDaysModel" (62 : Nat) "MarketDaysModel" "imageMay" "[I") ∈ lw_all := lw_g (lw_at lw_m6 198 rfl) rfl
theorem q1481 : (Jvm.Cond.fieldLink "MarketDaysModel" (65 : Nat) "MarketDaysModel" "imageWish" "[I") ∈ lw_all := lw_g (lw_at lw_m6 199 rfl) rfl
theorem q1482 : (Jvm.Cond.fieldLink "MarketDaysModel" (68 : Nat) "MarketDaysModel" "imageBehind" "[I") ∈ lw_all := lw_g (lw_at lw_m6 200 rfl) rfl
theorem q1483 : (Jvm.Cond.fieldLink "MarketDaysModel" (71 : Nat) "MarketDaysModel" "imageRoad" "[I") ∈ lw_all := lw_g (lw_at lw_m6 201 rfl) rfl
theorem q1484 : (Jvm.Cond.fieldLink "MarketDaysModel" (74 : Nat) "MarketDaysModel" "imageFeastWeek" "[I") ∈ lw_all := lw_g (lw_at lw_m6 202 rfl) rfl
theorem q1485 : (Jvm.Cond.fieldLink "MarketDaysModel" (77 : Nat) "MarketDaysModel" "imageFeastDay" "[I") ∈ lw_all := lw_g (lw_at lw_m6 203 rfl) rfl
theorem q1486 : (Jvm.Cond.fieldLink "MarketDaysModel" (80 : Nat) "MarketDaysModel" "sheetSort" "[I") ∈ lw_all := lw_g (lw_at lw_m6 204 rfl) rfl
theorem q1487 : (Jvm.Cond.fieldLink "MarketDaysModel" (83 : Nat) "MarketDaysModel" "sheetSize" "[I") ∈ lw_all := lw_g (lw_at lw_m6 205 rfl) rfl
theorem q1488 : (Jvm.Cond.fieldLink "MarketDaysModel" (86 : Nat) "MarketDaysModel" "cells" "[I") ∈ lw_all := lw_g (lw_at lw_m6 206 rfl) rfl
theorem q1489 : (Jvm.Cond.fieldLink "MarketDaysModel" (89 : Nat) "MarketDaysModel" "far" "[I") ∈ lw_all := lw_g (lw_at lw_m6 207 rfl) rfl
theorem q1490 : (Jvm.Cond.fieldLink "MarketDaysModel" (176 : Nat) "MarketDaysModel" "at" "I") ∈ lw_all := lw_g (lw_at lw_m6 208 rfl) rfl
theorem q1491 : (Jvm.Cond.fieldLink "MarketDaysModel" (179 : Nat) "MarketDaysModel" "begun" "I") ∈ lw_all := lw_g (lw_at lw_m6 209 rfl) rfl
theorem q1492 : (Jvm.Cond.fieldLink "MarketDaysModel" (182 : Nat) "MarketDaysModel" "token" "I") ∈ lw_all := lw_g (lw_at lw_m6 210 rfl) rfl
theorem q1493 : (Jvm.Cond.fieldLink "MarketDaysModel" (185 : Nat) "MarketDaysModel" "value" "I") ∈ lw_all := lw_g (lw_at lw_m6 211 rfl) rfl
theorem q1494 : (Jvm.Cond.fieldLink "MarketDaysModel" (114 : Nat) "MarketDaysModel" "words" "[J") ∈ lw_all := lw_g (lw_at lw_m6 212 rfl) rfl
theorem q1495 : (Jvm.Cond.fieldLink "MarketDaysModel" (118 : Nat) "MarketDaysModel" "held" "[I") ∈ lw_all := lw_g (lw_at lw_m6 213 rfl) rfl
theorem q1496 : (Jvm.Cond.fieldLink "MarketDaysModel" (195 : Nat) "MarketDaysModel" "heldMany" "I") ∈ lw_all := lw_g (lw_at lw_m6 214 rfl) rfl
theorem q1497 : (Jvm.Cond.fieldLink "MarketDaysModel" (202 : Nat) "MarketDaysModel" "opens" "I") ∈ lw_all := lw_g (lw_at lw_m6 215 rfl) rfl
theorem q1498 : (Jvm.Cond.fieldLink "MarketDaysModel" (192 : Nat) "MarketDaysModel" "out" "I") ∈ lw_all := lw_g (lw_at lw_m6 216 rfl) rfl
theorem q1499 : (Jvm.Cond.fieldLink "MarketDaysModel" (121 : Nat) "MarketDaysModel" "stack" "[I") ∈ lw_all := lw_g (lw_at lw_m6 217 rfl) rfl
theorem q1500 : (Jvm.Cond.fieldLink "MarketDaysModel" (124 : Nat) "MarketDaysModel" "named" "[I") ∈ lw_all := lw_g (lw_at lw_m6 218 rfl) rfl
theorem q1501 : (Jvm.Cond.fieldLink "MarketDaysModel" (127 : Nat) "MarketDaysModel" "near" "[Z") ∈ lw_all := lw_g (lw_at lw_m6 219 rfl) rfl
theorem q1502 : (Jvm.Cond.fieldLink "MarketDaysModel" (131 : Nat) "MarketDaysModel" "now" "[I") ∈ lw_all := lw_g (lw_at lw_m6 220 rfl) rfl
theorem q1503 : (Jvm.Cond.fieldLink "MarketDaysModel" (134 : Nat) "MarketDaysModel" "kept" "[I") ∈ lw_all := lw_g (lw_at lw_m6 221 rfl) rfl
theorem q1504 : (Jvm.Cond.fieldLink "MarketDaysModel" (137 : Nat) "MarketDaysModel" "isKept" "[Z") ∈ lw_all := lw_g (lw_at lw_m6 222 rfl) rfl
theorem q1505 : (Jvm.Cond.fieldLink "MarketDaysModel" (140 : Nat) "MarketDaysModel" "most" "[I") ∈ lw_all := lw_g (lw_at lw_m6 223 rfl) rfl
theorem q1506 : (Jvm.Cond.lays "MarketDaysModel" "MarketDaysModel" "towns" "I") ∈ lw_all := lw_g (lw_at lw_m6 224 rfl) rfl
theorem q1507 : (Jvm.Cond.soleField "MarketDaysModel" "towns") ∈ lw_all := lw_g (lw_at lw_m6 225 rfl) rfl
theorem q1508 : (Jvm.Cond.laysFinal "MarketDaysModel" "MarketDaysModel" "size" "[I") ∈ lw_all := lw_g (lw_at lw_m6 226 rfl) rfl
theorem q1509 : (Jvm.Cond.soleField "MarketDaysModel" "size") ∈ lw_all := lw_g (lw_at lw_m6 227 rfl) rfl
theorem q1510 : (Jvm.Cond.laysFinal "MarketDaysModel" "MarketDaysModel" "may" "[I") ∈ lw_all := lw_g (lw_at lw_m6 228 rfl) rfl
theorem q1511 : (Jvm.Cond.soleField "MarketDaysModel" "may") ∈ lw_all := lw_g (lw_at lw_m6 229 rfl) rfl
theorem q1512 : (Jvm.Cond.laysFinal "MarketDaysModel" "MarketDaysModel" "wish" "[I") ∈ lw_all := lw_g (lw_at lw_m6 230 rfl) rfl
theorem q1513 : (Jvm.Cond.soleField "MarketDaysModel" "wish") ∈ lw_all := lw_g (lw_at lw_m6 231 rfl) rfl
theorem q1514 : (Jvm.Cond.laysFinal "MarketDaysModel" "MarketDaysModel" "behind" "[I") ∈ lw_all := lw_g (lw_at lw_m6 232 rfl) rfl
theorem q1515 : (Jvm.Cond.soleField "MarketDaysModel" "behind") ∈ lw_all := lw_g (lw_at lw_m6 233 rfl) rfl
theorem q1516 : (Jvm.Cond.laysFinal "MarketDaysModel" "MarketDaysModel" "road" "[I") ∈ lw_all := lw_g (lw_at lw_m6 234 rfl) rfl
theorem q1517 : (Jvm.Cond.soleField "MarketDaysModel" "road") ∈ lw_all := lw_g (lw_at lw_m6 235 rfl) rfl
theorem q1518 : (Jvm.Cond.lays "MarketDaysModel" "MarketDaysModel" "week" "I") ∈ lw_all := lw_g (lw_at lw_m6 236 rfl) rfl
theorem q1519 : (Jvm.Cond.soleField "MarketDaysModel" "week") ∈ lw_all := lw_g (lw_at lw_m6 237 rfl) rfl
theorem q1520 : (Jvm.Cond.lays "MarketDaysModel" "MarketDaysModel" "feasts" "I") ∈ lw_all := lw_g (lw_at lw_m6 238 rfl) rfl
theorem q1521 : (Jvm.Cond.soleField "MarketDaysModel" "feasts") ∈ lw_all := lw_g (lw_at lw_m6 239 rfl) rfl
theorem q1522 : (Jvm.Cond.laysFinal "MarketDaysModel" "MarketDaysModel" "feastWeek" "[I") ∈ lw_all := lw_g (lw_at lw_m7 0 rfl) rfl
theorem q1523 : (Jvm.Cond.soleField "MarketDaysModel" "feastWeek") ∈ lw_all := lw_g (lw_at lw_m7 1 rfl) rfl
theorem q1524 : (Jvm.Cond.laysFinal "MarketDaysModel" "MarketDaysModel" "feastDay" "[I") ∈ lw_all := lw_g (lw_at lw_m7 2 rfl) rfl
theorem q1525 : (Jvm.Cond.soleField "MarketDaysModel" "feastDay") ∈ lw_all := lw_g (lw_at lw_m7 3 rfl) rfl
theorem q1526 : (Jvm.Cond.laysFinal "MarketDaysModel" "MarketDaysModel" "tape" "[I") ∈ lw_all := lw_g (lw_at lw_m7 4 rfl) rfl
theorem q1527 : (Jvm.Cond.soleField "MarketDaysModel" "tape") ∈ lw_all := lw_g (lw_at lw_m7 5 rfl) rfl
theorem q1528 : (Jvm.Cond.lays "MarketDaysModel" "MarketDaysModel" "taped" "I") ∈ lw_all := lw_g (lw_at lw_m7 6 rfl) rfl
theorem q1529 : (Jvm.Cond.soleField "MarketDaysModel" "taped") ∈ lw_all := lw_g (lw_at lw_m7 7 rfl) rfl
theorem q1530 : (Jvm.Cond.laysFinal "MarketDaysModel" "MarketDaysModel" "codes" "[I") ∈ lw_all := lw_g (lw_at lw_m7 8 rfl) rfl
theorem q1531 : (Jvm.Cond.soleField "MarketDaysModel" "codes") ∈ lw_all := lw_g (lw_at lw_m7 9 rfl) rfl
theorem q1532 : (Jvm.Cond.laysFinal "MarketDaysModel" "MarketDaysModel" "starts" "[I") ∈ lw_all := lw_g (lw_at lw_m7 10 rfl) rfl
theorem q1533 : (Jvm.Cond.soleField "MarketDaysModel" "starts") ∈ lw_all := lw_g (lw_at lw_m7 11 rfl) rfl
theorem q1534 : (Jvm.Cond.lays "MarketDaysModel" "MarketDaysModel" "texts" "I") ∈ lw_all := lw_g (lw_at lw_m7 12 rfl) rfl
theorem q1535 : (Jvm.Cond.soleField "MarketDaysModel" "texts") ∈ lw_all := lw_g (lw_at lw_m7 13 rfl) rfl
theorem q1536 : (Jvm.Cond.lays "MarketDaysModel" "MarketDaysModel" "rule" "I") ∈ lw_all := lw_g (lw_at lw_m7 14 rfl) rfl
theorem q1537 : (Jvm.Cond.soleField "MarketDaysModel" "rule") ∈ lw_all := lw_g (lw_at lw_m7 15 rfl) rfl
theorem q1538 : (Jvm.Cond.lays "MarketDaysModel" "MarketDaysModel" "givings" "I") ∈ lw_all := lw_g (lw_at lw_m7 16 rfl) rfl
theorem q1539 : (Jvm.Cond.soleField "MarketDaysModel" "givings") ∈ lw_all := lw_g (lw_at lw_m7 17 rfl) rfl
theorem q1540 : (Jvm.Cond.laysFinal "MarketDaysModel" "MarketDaysModel" "kind" "[I") ∈ lw_all := lw_g (lw_at lw_m7 18 rfl) rfl
theorem q1541 : (Jvm.Cond.soleField "MarketDaysModel" "kind") ∈ lw_all := lw_g (lw_at lw_m7 19 rfl) rfl
theorem q1542 : (Jvm.Cond.laysFinal "MarketDaysModel" "MarketDaysModel" "many" "[I") ∈ lw_all := lw_g (lw_at lw_m7 20 rfl) rfl
theorem q1543 : (Jvm.Cond.soleField "MarketDaysModel" "many") ∈ lw_all := lw_g (lw_at lw_m7 21 rfl) rfl
theorem q1544 : (Jvm.Cond.laysFinal "MarketDaysModel" "MarketDaysModel" "day" "[I") ∈ lw_all := lw_g (lw_at lw_m7 22 rfl) rfl
theorem q1545 : (Jvm.Cond.soleField "MarketDaysModel" "day") ∈ lw_all := lw_g (lw_at lw_m7 23 rfl) rfl
theorem q1546 : (Jvm.Cond.lays "MarketDaysModel" "MarketDaysModel" "wasFound" "Z") ∈ lw_all := lw_g (lw_at lw_m7 24 rfl) rfl
theorem q1547 : (Jvm.Cond.soleField "MarketDaysModel" "wasFound") ∈ lw_all := lw_g (lw_at lw_m7 25 rfl) rfl
theorem q1548 : (Jvm.Cond.lays "MarketDaysModel" "MarketDaysModel" "foundTowns" "I") ∈ lw_all := lw_g (lw_at lw_m7 26 rfl) rfl
theorem q1549 : (Jvm.Cond.soleField "MarketDaysModel" "foundTowns") ∈ lw_all := lw_g (lw_at lw_m7 27 rfl) rfl
theorem q1550 : (Jvm.Cond.laysFinal "MarketDaysModel" "MarketDaysModel" "found" "[I") ∈ lw_all := lw_g (lw_at lw_m7 28 rfl) rfl
theorem q1551 : (Jvm.Cond.soleField "MarketDaysModel" "found") ∈ lw_all := lw_g (lw_at lw_m7 29 rfl) rfl
theorem q1552 : (Jvm.Cond.lays "MarketDaysModel" "MarketDaysModel" "roundDays" "I") ∈ lw_all := lw_g (lw_at lw_m7 30 rfl) rfl
theorem q1553 : (Jvm.Cond.soleField "MarketDaysModel" "roundDays") ∈ lw_all := lw_g (lw_at lw_m7 31 rfl) rfl
theorem q1554 : (Jvm.Cond.laysFinal "MarketDaysModel" "MarketDaysModel" "roundAt" "[I") ∈ lw_all := lw_g (lw_at lw_m7 32 rfl) rfl
theorem q1555 : (Jvm.Cond.soleField "MarketDaysModel" "roundAt") ∈ lw_all := lw_g (lw_at lw_m7 33 rfl) rfl
theorem q1556 : (Jvm.Cond.lays "MarketDaysModel" "MarketDaysModel" "hasImage" "Z") ∈ lw_all := lw_g (lw_at lw_m7 34 rfl) rfl
theorem q1557 : (Jvm.Cond.soleField "MarketDaysModel" "hasImage") ∈ lw_all := lw_g (lw_at lw_m7 35 rfl) rfl
theorem q1558 : (Jvm.Cond.lays "MarketDaysModel" "MarketDaysModel" "imageTowns" "I") ∈ lw_all := lw_g (lw_at lw_m7 36 rfl) rfl
theorem q1559 : (Jvm.Cond.soleField "MarketDaysModel" "imageTowns") ∈ lw_all := lw_g (lw_at lw_m7 37 rfl) rfl
theorem q1560 : (Jvm.Cond.lays "MarketDaysModel" "MarketDaysModel" "imageWeek" "I") ∈ lw_all := lw_g (lw_at lw_m7 38 rfl) rfl
theorem q1561 : (Jvm.Cond.soleField "MarketDaysModel" "imageWeek") ∈ lw_all := lw_g (lw_at lw_m7 39 rfl) rfl
theorem q1562 : (Jvm.Cond.lays "MarketDaysModel" "MarketDaysModel" "imageFeasts" "I") ∈ lw_all := lw_g (lw_at lw_m7 40 rfl) rfl
theorem q1563 : (Jvm.Cond.soleField "MarketDaysModel" "imageFeasts") ∈ lw_all := lw_g (lw_at lw_m7 41 rfl) rfl
theorem q1564 : (Jvm.Cond.lays "MarketDaysModel" "MarketDaysModel" "imageRule" "I") ∈ lw_all := lw_g (lw_at lw_m7 42 rfl) rfl
theorem q1565 : (Jvm.Cond.soleField "MarketDaysModel" "imageRule") ∈ lw_all := lw_g (lw_at lw_m7 43 rfl) rfl
theorem q1566 : (Jvm.Cond.laysFinal "MarketDaysModel" "MarketDaysModel" "imageMay" "[I") ∈ lw_all := lw_g (lw_at lw_m7 44 rfl) rfl
theorem q1567 : (Jvm.Cond.soleField "MarketDaysModel" "imageMay") ∈ lw_all := lw_g (lw_at lw_m7 45 rfl) rfl
theorem q1568 : (Jvm.Cond.laysFinal "MarketDaysModel" "MarketDaysModel" "imageWish" "[I") ∈ lw_all := lw_g (lw_at lw_m7 46 rfl) rfl
theorem q1569 : (Jvm.Cond.soleField "MarketDaysModel" "imageWish") ∈ lw_all := lw_g (lw_at lw_m7 47 rfl) rfl
theorem q1570 : (Jvm.Cond.laysFinal "MarketDaysModel" "MarketDaysModel" "imageBehind" "[I") ∈ lw_all := lw_g (lw_at lw_m7 48 rfl) rfl
theorem q1571 : (Jvm.Cond.soleField "MarketDaysModel" "imageBehind") ∈ lw_all := lw_g (lw_at lw_m7 49 rfl) rfl
theorem q1572 : (Jvm.Cond.laysFinal "MarketDaysModel" "MarketDaysModel" "imageRoad" "[I") ∈ lw_all := lw_g (lw_at lw_m7 50 rfl) rfl
theorem q1573 : (Jvm.Cond.soleField "MarketDaysModel" "imageRoad") ∈ lw_all := lw_g (lw_at lw_m7 51 rfl) rfl
theorem q1574 : (Jvm.Cond.laysFinal "MarketDaysModel" "MarketDaysModel" "imageFeastWeek" "[I") ∈ lw_all := lw_g (lw_at lw_m7 52 rfl) rfl
theorem q1575 : (Jvm.Cond.soleField "MarketDaysModel" "imageFeastWeek") ∈ lw_all := lw_g (lw_at lw_m7 53 rfl) rfl
theorem q1576 : (Jvm.Cond.laysFinal "MarketDaysModel" "MarketDaysModel" "imageFeastDay" "[I") ∈ lw_all := lw_g (lw_at lw_m7 54 rfl) rfl
theorem q1577 : (Jvm.Cond.soleField "MarketDaysModel" "imageFeastDay") ∈ lw_all := lw_g (lw_at lw_m7 55 rfl) rfl
theorem q1578 : (Jvm.Cond.laysFinal "MarketDaysModel" "MarketDaysModel" "sheetSort" "[I") ∈ lw_all := lw_g (lw_at lw_m7 56 rfl) rfl
theorem q1579 : (Jvm.Cond.soleField "MarketDaysModel" "sheetSort") ∈ lw_all := lw_g (lw_at lw_m7 57 rfl) rfl
theorem q1580 : (Jvm.Cond.laysFinal "MarketDaysModel" "MarketDaysModel" "sheetSize" "[I") ∈ lw_all := lw_g (lw_at lw_m7 58 rfl) rfl
theorem q1581 : (Jvm.Cond.soleField "MarketDaysModel" "sheetSize") ∈ lw_all := lw_g (lw_at lw_m7 59 rfl) rfl
theorem q1582 : (Jvm.Cond.laysFinal "MarketDaysModel" "MarketDaysModel" "cells" "[I") ∈ lw_all := lw_g (lw_at lw_m7 60 rfl) rfl
theorem q1583 : (Jvm.Cond.soleField "MarketDaysModel" "cells") ∈ lw_all := lw_g (lw_at lw_m7 61 rfl) rfl
theorem q1584 : (Jvm.Cond.laysFinal "MarketDaysModel" "MarketDaysModel" "far" "[I") ∈ lw_all := lw_g (lw_at lw_m7 62 rfl) rfl
theorem q1585 : (Jvm.Cond.soleField "MarketDaysModel" "far") ∈ lw_all := lw_g (lw_at lw_m7 63 rfl) rfl
theorem q1586 : (Jvm.Cond.lays "MarketDaysModel" "MarketDaysModel" "at" "I") ∈ lw_all := lw_g (lw_at lw_m7 64 rfl) rfl
theorem q1587 : (Jvm.Cond.soleField "MarketDaysModel" "at") ∈ lw_all := lw_g (lw_at lw_m7 65 rfl) rfl
theorem q1588 : (Jvm.Cond.lays "MarketDaysModel" "MarketDaysModel" "begun" "I") ∈ lw_all := lw_g (lw_at lw_m7 66 rfl) rfl
theorem q1589 : (Jvm.Cond.soleField "MarketDaysModel" "begun") ∈ lw_all := lw_g (lw_at lw_m7 67 rfl) rfl
theorem q1590 : (Jvm.Cond.lays "MarketDaysModel" "MarketDaysModel" "token" "I") ∈ lw_all := lw_g (lw_at lw_m7 68 rfl) rfl
theorem q1591 : (Jvm.Cond.soleField "MarketDaysModel" "token") ∈ lw_all := lw_g (lw_at lw_m7 69 rfl) rfl
theorem q1592 : (Jvm.Cond.lays "MarketDaysModel" "MarketDaysModel" "value" "I") ∈ lw_all := lw_g (lw_at lw_m7 70 rfl) rfl
theorem q1593 : (Jvm.Cond.soleField "MarketDaysModel" "value") ∈ lw_all := lw_g (lw_at lw_m7 71 rfl) rfl
theorem q1594 : (Jvm.Cond.laysFinal "MarketDaysModel" "MarketDaysModel" "words" "[J") ∈ lw_all := lw_g (lw_at lw_m7 72 rfl) rfl
theorem q1595 : (Jvm.Cond.soleField "MarketDaysModel" "words") ∈ lw_all := lw_g (lw_at lw_m7 73 rfl) rfl
theorem q1596 : (Jvm.Cond.laysFinal "MarketDaysModel" "MarketDaysModel" "held" "[I") ∈ lw_all := lw_g (lw_at lw_m7 74 rfl) rfl
theorem q1597 : (Jvm.Cond.soleField "MarketDaysModel" "held") ∈ lw_all := lw_g (lw_at lw_m7 75 rfl) rfl
theorem q1598 : (Jvm.Cond.lays "MarketDaysModel" "MarketDaysModel" "heldMany" "I") ∈ lw_all := lw_g (lw_at lw_m7 76 rfl) rfl
theorem q1599 : (Jvm.Cond.soleField "MarketDaysModel" "heldMany") ∈ lw_all := lw_g (lw_at lw_m7 77 rfl) rfl
theorem q1600 : (Jvm.Cond.lays "MarketDaysModel" "MarketDaysModel" "opens" "I") ∈ lw_all := lw_g (lw_at lw_m7 78 rfl) rfl
theorem q1601 : (Jvm.Cond.soleField "MarketDaysModel" "opens") ∈ lw_all := lw_g (lw_at lw_m7 79 rfl) rfl
theorem q1602 : (Jvm.Cond.lays "MarketDaysModel" "MarketDaysModel" "out" "I") ∈ lw_all := lw_g (lw_at lw_m7 80 rfl) rfl
theorem q1603 : (Jvm.Cond.soleField "MarketDaysModel" "out") ∈ lw_all := lw_g (lw_at lw_m7 81 rfl) rfl
theorem q1604 : (Jvm.Cond.laysFinal "MarketDaysModel" "MarketDaysModel" "stack" "[I") ∈ lw_all := lw_g (lw_at lw_m7 82 rfl) rfl
theorem q1605 : (Jvm.Cond.soleField "MarketDaysModel" "stack") ∈ lw_all := lw_g (lw_at lw_m7 83 rfl) rfl
theorem q1606 : (Jvm.Cond.laysFinal "MarketDaysModel" "MarketDaysModel" "named" "[I") ∈ lw_all := lw_g (lw_at lw_m7 84 rfl) rfl
theorem q1607 : (Jvm.Cond.soleField "MarketDaysModel" "named") ∈ lw_all := lw_g (lw_at lw_m7 85 rfl) rfl
theorem q1608 : (Jvm.Cond.laysFinal "MarketDaysModel" "MarketDaysModel" "near" "[Z") ∈ lw_all := lw_g (lw_at lw_m7 86 rfl) rfl
theorem q1609 : (Jvm.Cond.soleField "MarketDaysModel" "near") ∈ lw_all := lw_g (lw_at lw_m7 87 rfl) rfl
theorem q1610 : (Jvm.Cond.laysFinal "MarketDaysModel" "MarketDaysModel" "now" "[I") ∈ lw_all := lw_g (lw_at lw_m7 88 rfl) rfl
theorem q1611 : (Jvm.Cond.soleField "MarketDaysModel" "now") ∈ lw_all := lw_g (lw_at lw_m7 89 rfl) rfl
theorem q1612 : (Jvm.Cond.laysFinal "MarketDaysModel" "MarketDaysModel" "kept" "[I") ∈ lw_all := lw_g (lw_at lw_m7 90 rfl) rfl
theorem q1613 : (Jvm.Cond.soleField "MarketDaysModel" "kept") ∈ lw_all := lw_g (lw_at lw_m7 91 rfl) rfl
theorem q1614 : (Jvm.Cond.laysFinal "MarketDaysModel" "MarketDaysModel" "isKept" "[Z") ∈ lw_all := lw_g (lw_at lw_m7 92 rfl) rfl
theorem q1615 : (Jvm.Cond.soleField "MarketDaysModel" "isKept") ∈ lw_all := lw_g (lw_at lw_m7 93 rfl) rfl
theorem q1616 : (Jvm.Cond.laysFinal "MarketDaysModel" "MarketDaysModel" "most" "[I") ∈ lw_all := lw_g (lw_at lw_m7 94 rfl) rfl
theorem q1617 : (Jvm.Cond.soleField "MarketDaysModel" "most") ∈ lw_all := lw_g (lw_at lw_m7 95 rfl) rfl
theorem q1618 : (Jvm.Cond.superclass "MarketDaysModel" "java/lang/Object") ∈ lw_all := lw_g (lw_at lw_m7 96 rfl) rfl
theorem q1622 : (Jvm.Cond.instanceMethod ({ cls := "MarketDaysModel", name := "town", desc := "(I)I" } : Jvm.MethodName)) ∈ lw_all := lw_g (lw_at lw_m7 100 rfl) rfl
theorem q1623 : (Jvm.Cond.selects "MarketDaysModel" ({ cls := "MarketDaysModel", name := "town", desc := "(I)I" } : Jvm.MethodName) ({ cls := "MarketDaysModel", name := "town", desc := "(I)I" } : Jvm.MethodName)) ∈ lw_all := lw_g (lw_at lw_m7 101 rfl) rfl
theorem q1624 : (Jvm.Cond.code ({ cls := "MarketDaysModel", name := "town", desc := "(I)I" } : Jvm.MethodName) prog_19_method_7_code (2 : Nat) (Option.some Jvm.ClassFile.FieldType.int)) ∈ lw_all := lw_g (lw_at lw_m7 102 rfl) rfl
theorem q1625 : (Jvm.Cond.methodLink "MarketDaysModel" (154 : Nat) ({ cls := "MarketDaysModel", name := "in", desc := "(III)Z" } : Jvm.MethodName)) ∈ lw_all := lw_g (lw_at lw_m7 103 rfl) rfl
theorem q1626 : (Jvm.Cond.static ({ cls := "MarketDaysModel", name := "in", desc := "(III)Z" } : Jvm.MethodName)) ∈ lw_all := lw_g (lw_at lw_m7 104 rfl) rfl
theorem q1627 : (Jvm.Cond.code ({ cls := "MarketDaysModel", name := "in", desc := "(III)Z" } : Jvm.MethodName) prog_19_method_4_code (3 : Nat) (Option.some Jvm.ClassFile.FieldType.boolean)) ∈ lw_all := lw_g (lw_at lw_m7 105 rfl) rfl
theorem q1629 : (Jvm.Cond.instanceMethod ({ cls := "MarketDaysModel", name := "road", desc := "(III)I" } : Jvm.MethodName)) ∈ lw_all := lw_g (lw_at lw_m7 107 rfl) rfl
theorem q1630 : (Jvm.Cond.selects "MarketDaysModel" ({ cls := "MarketDaysModel", name := "road", desc := "(III)I" } : Jvm.MethodName) ({ cls := "MarketDaysModel", name := "road", desc := "(III)I" } : Jvm.MethodName)) ∈ lw_all := lw_g (lw_at lw_m7 108 rfl) rfl
theorem q1631 : (Jvm.Cond.code ({ cls := "MarketDaysModel", name := "road", desc := "(III)I" } : Jvm.MethodName) prog_19_method_8_code (5 : Nat) (Option.some Jvm.ClassFile.FieldType.int)) ∈ lw_all := lw_g (lw_at lw_m7 109 rfl) rfl
theorem q1632 : (Jvm.Cond.methodLink "MarketDaysModel" (158 : Nat) ({ cls := "MarketDaysModel", name := "isTown", desc := "(I)Z" } : Jvm.MethodName)) ∈ lw_all := lw_g (lw_at lw_m7 110 rfl) rfl
theorem q1633 : (Jvm.Cond.privateMethod ({ cls := "MarketDaysModel", name := "isTown", desc := "(I)Z" } : Jvm.MethodName)) ∈ lw_tbl := lw_at lw_m7 111 rfl
theorem q1634 : (Jvm.Cond.instanceMethod ({ cls := "MarketDaysModel", name := "isTown", desc := "(I)Z" } : Jvm.MethodName)) ∈ lw_all := lw_g (lw_at lw_m7 112 rfl) rfl
theorem q1635 : (Jvm.Cond.code ({ cls := "MarketDaysModel", name := "isTown", desc := "(I)Z" } : Jvm.MethodName) prog_19_method_5_code (2 : Nat) (Option.some Jvm.ClassFile.FieldType.boolean)) ∈ lw_all := lw_g (lw_at lw_m7 113 rfl) rfl
theorem q1637 : (Jvm.Cond.instanceMethod ({ cls := "MarketDaysModel", name := "hours", desc := "(II)I" } : Jvm.MethodName)) ∈ lw_all := lw_g (lw_at lw_m7 115 rfl) rfl
theorem q1638 : (Jvm.Cond.selects "MarketDaysModel" ({ cls := "MarketDaysModel", name := "hours", desc := "(II)I" } : Jvm.MethodName) ({ cls := "MarketDaysModel", name := "hours", desc := "(II)I" } : Jvm.MethodName)) ∈ lw_all := lw_g (lw_at lw_m7 116 rfl) rfl
theorem q1639 : (Jvm.Cond.code ({ cls := "MarketDaysModel", name := "hours", desc := "(II)I" } : Jvm.MethodName) prog_19_method_10_code (3 : Nat) (Option.some Jvm.ClassFile.FieldType.int)) ∈ lw_all := lw_g (lw_at lw_m7 117 rfl) rfl
theorem q1640 : (Jvm.Cond.methodLink "MarketDaysModel" (162 : Nat) ({ cls := "MarketDaysModel", name := "spreads", desc := "()V" } : Jvm.MethodName)) ∈ lw_all := lw_g (lw_at lw_m7 118 rfl) rfl
theorem q1641 : (Jvm.Cond.privateMethod ({ cls := "MarketDaysModel", name := "spreads", desc := "()V" } : Jvm.MethodName)) ∈ lw_tbl := lw_at lw_m7 119 rfl
theorem q1642 : (Jvm.Cond.instanceMethod ({ cls := "MarketDaysModel", name := "spreads", desc := "()V" } : Jvm.MethodName)) ∈ lw_all := lw_g (lw_at lw_m7 120 rfl) rfl
theorem q1643 : (Jvm.Cond.code ({ cls := "MarketDaysModel", name := "spreads", desc := "()V" } : Jvm.MethodName) prog_19_method_9_code (5 : Nat) (Option.none : Option Jvm.ClassFile.FieldType)) ∈ lw_all := lw_g (lw_at lw_m7 121 rfl) rfl
theorem q1645 : (Jvm.Cond.instanceMethod ({ cls := "MarketDaysModel", name := "week", desc := "(I)I" } : Jvm.MethodName)) ∈ lw_all := lw_g (lw_at lw_m7 123 rfl) rfl
theorem q1646 : (Jvm.Cond.selects "MarketDaysModel" ({ cls := "MarketDaysModel", name := "week", desc := "(I)I" } : Jvm.MethodName) ({ cls := "MarketDaysModel", name := "week", desc := "(I)I" } : Jvm.MethodName)) ∈ lw_all := lw_g (lw_at lw_m7 124 rfl) rfl
theorem q1647 : (Jvm.Cond.code ({ cls := "MarketDaysModel", name := "week", desc := "(I)I" } : Jvm.MethodName) prog_19_method_11_code (3 : Nat) (Option.some Jvm.ClassFile.FieldType.int)) ∈ lw_all := lw_g (lw_at lw_m7 125 rfl) rfl
theorem q1649 : (Jvm.Cond.instanceMethod ({ cls := "MarketDaysModel", name := "want", desc := "(III)I" } : Jvm.MethodName)) ∈ lw_all := lw_g (lw_at lw_m7 127 rfl) rfl
theorem q1650 : (Jvm.Cond.selects "MarketDaysModel" ({ cls := "MarketDaysModel", name := "want", desc := "(III)I" } : Jvm.MethodName) ({ cls := "MarketDaysModel", name := "want", desc := "(III)I" } : Jvm.MethodName)) ∈ lw_all := lw_g (lw_at lw_m7 128 rfl) rfl
theorem q1651 : (Jvm.Cond.code ({ cls := "MarketDaysModel", name := "want", desc := "(III)I" } : Jvm.MethodName) prog_19_method_12_code (6 : Nat) (Option.some Jvm.ClassFile.FieldType.int)) ∈ lw_all := lw_g (lw_at lw_m7 129 rfl) rfl
theorem q1653 : (Jvm.Cond.instanceMethod ({ cls := "MarketDaysModel", name := "townTold", desc := "(II)I" } : Jvm.MethodName)) ∈ lw_all := lw_g (lw_at lw_m7 131 rfl) rfl
theorem q1654 : (Jvm.Cond.selects "MarketDaysModel" ({ cls := "MarketDaysModel", name := "townTold", desc := "(II)I" } : Jvm.MethodName) ({ cls := "MarketDaysModel", name := "townTold", desc := "(II)I" } : Jvm.MethodName)) ∈ lw_all := lw_g (lw_at lw_m7 132 rfl) rfl
theorem q1655 : (Jvm.Cond.code ({ cls := "MarketDaysModel", name := "townTold", desc := "(II)I" } : Jvm.MethodName) prog_19_method_13_code (3 : Nat) (Option.some Jvm.ClassFile.FieldType.int)) ∈ lw_all := lw_g (lw_at lw_m7 133 rfl) rfl
theorem q1657 : (Jvm.Cond.instanceMethod ({ cls := "MarketDaysModel", name := "feast", desc := "(II)I" } : Jvm.MethodName)) ∈ lw_all := lw_g (lw_at lw_m7 135 rfl) rfl
theorem q1658 : (Jvm.Cond.selects "MarketDaysModel" ({ cls := "MarketDaysModel", name := "feast", desc := "(II)I" } : Jvm.MethodName) ({ cls := "MarketDaysModel", name := "feast", desc := "(II)I" } : Jvm.MethodName)) ∈ lw_all := lw_g (lw_at lw_m7 136 rfl) rfl
theorem q1659 : (Jvm.Cond.code ({ cls := "MarketDaysModel", name := "feast", desc := "(II)I" } : Jvm.MethodName) prog_19_method_14_code (3 : Nat) (Option.some Jvm.ClassFile.FieldType.int)) ∈ lw_all := lw_g (lw_at lw_m7 137 rfl) rfl
theorem q1660 : (Jvm.Cond.methodLink "MarketDaysModel" (165 : Nat) ({ cls := "MarketDaysModel", name := "isWeek", desc := "(I)Z" } : Jvm.MethodName)) ∈ lw_all := lw_g (lw_at lw_m7 138 rfl) rfl
theorem q1661 : (Jvm.Cond.static ({ cls := "MarketDaysModel", name := "isWeek", desc := "(I)Z" } : Jvm.MethodName)) ∈ lw_all := lw_g (lw_at lw_m7 139 rfl) rfl
theorem q1662 : (Jvm.Cond.code ({ cls := "MarketDaysModel", name := "isWeek", desc := "(I)Z" } : Jvm.MethodName) prog_19_method_6_code (1 : Nat) (Option.some Jvm.ClassFile.FieldType.boolean)) ∈ lw_all := lw_g (lw_at lw_m7 140 rfl) rfl
theorem q1664 : (Jvm.Cond.instanceMethod ({ cls := "MarketDaysModel", name := "feed", desc := "(JI)I" } : Jvm.MethodName)) ∈ lw_all := lw_g (lw_at lw_m7 142 rfl) rfl
theorem q1665 : (Jvm.Cond.selects "MarketDaysModel" ({ cls := "MarketDaysModel", name := "feed", desc := "(JI)I" } : Jvm.MethodName) ({ cls := "MarketDaysModel", name := "feed", desc := "(JI)I" } : Jvm.MethodName)) ∈ lw_all := lw_g (lw_at lw_m7 143 rfl) rfl
theorem q1666 : (Jvm.Cond.code ({ cls := "MarketDaysModel", name := "feed", desc := "(JI)I" } : Jvm.MethodName) prog_19_method_15_code (5 : Nat) (Option.some Jvm.ClassFile.FieldType.int)) ∈ lw_all := lw_g (lw_at lw_m7 144 rfl) rfl
theorem q1667 : (Jvm.Cond.constantLong "MarketDaysModel" (174 : Nat) (255 : Int64)) ∈ lw_all := lw_g (lw_at lw_m7 145 rfl) rfl
theorem q1669 : (Jvm.Cond.instanceMethod ({ cls := "MarketDaysModel", name := "text", desc := "()I" } : Jvm.MethodName)) ∈ lw_all := lw_g (lw_at lw_m7 147 rfl) rfl
theorem q1670 : (Jvm.Cond.selects "MarketDaysModel" ({ cls := "MarketDaysModel", name := "text", desc := "()I" } : Jvm.MethodName) ({ cls := "MarketDaysModel", name := "text", desc := "()I" } : Jvm.MethodName)) ∈ lw_all := lw_g (lw_at lw_m7 148 rfl) rfl
theorem q1671 : (Jvm.Cond.code ({ cls := "MarketDaysModel", name := "text", desc := "()I" } : Jvm.MethodName) prog_19_method_26_code (3 : Nat) (Option.some Jvm.ClassFile.FieldType.int)) ∈ lw_all := lw_g (lw_at lw_m7 149 rfl) rfl
theorem q1672 : (Jvm.Cond.methodLink "MarketDaysModel" (215 : Nat) ({ cls := "MarketDaysModel", name := "next", desc := "()V" } : Jvm.MethodName)) ∈ lw_all := lw_g (lw_at lw_m7 150 rfl) rfl
theorem q1673 : (Jvm.Cond.privateMethod ({ cls := "MarketDaysModel", name := "next", desc := "()V" } : Jvm.MethodName)) ∈ lw_tbl := lw_at lw_m7 151 rfl
theorem q1674 : (Jvm.Cond.instanceMethod ({ cls := "MarketDaysModel", name := "next", desc := "()V" } : Jvm.MethodName)) ∈ lw_all := lw_g (lw_at lw_m7 152 rfl) rfl
theorem q1675 : (Jvm.Cond.code ({ cls := "MarketDaysModel", name := "next", desc := "()V" } : Jvm.MethodName) prog_19_method_17_code (5 : Nat) (Option.none : Option Jvm.ClassFile.FieldType)) ∈ lw_all := lw_g (lw_at lw_m7 153 rfl) rfl
theorem q1676 : (Jvm.Cond.methodLink "MarketDaysModel" (188 : Nat) ({ cls := "MarketDaysModel", name := "letters", desc := "()J" } : Jvm.MethodName)) ∈ lw_all := lw_g (lw_at lw_m7 154 rfl) rfl
theorem q1677 : (Jvm.Cond.privateMethod ({ cls := "MarketDaysModel", name := "letters", desc := "()J" } : Jvm.MethodName)) ∈ lw_tbl := lw_at lw_m7 155 rfl
theorem q1678 : (Jvm.Cond.instanceMethod ({ cls := "MarketDaysModel", name := "letters", desc := "()J" } : Jvm.MethodName)) ∈ lw_all := lw_g (lw_at lw_m7 156 rfl) rfl
theorem q1679 : (Jvm.Cond.code ({ cls := "MarketDaysModel", name := "letters", desc := "()J" } : Jvm.MethodName) prog_19_method_16_code (4 : Nat) (Option.some Jvm.ClassFile.FieldType.long)) ∈ lw_all := lw_g (lw_at lw_m7 157 rfl) rfl
theorem q1680 : (Jvm.Cond.methodLink "MarketDaysModel" (229 : Nat) ({ cls := "MarketDaysModel", name := "eRead", desc := "()Z" } : Jvm.MethodName)) ∈ lw_all := lw_g (lw_at lw_m7 158 rfl) rfl
theorem q1681 : (Jvm.Cond.privateMethod ({ cls := "MarketDaysModel", name := "eRead", desc := "()Z" } : Jvm.MethodName)) ∈ lw_tbl := lw_at lw_m7 159 rfl
theorem q1682 : (Jvm.Cond.instanceMethod ({ cls := "MarketDaysModel", name := "eRead", desc := "()Z" } : Jvm.MethodName)) ∈ lw_all := lw_g (lw_at lw_m7 160 rfl) rfl
theorem q1683 : (Jvm.Cond.code ({ cls := "MarketDaysModel", name := "eRead", desc := "()Z" } : Jvm.MethodName) prog_19_method_25_code (4 : Nat) (Option.some Jvm.ClassFile.FieldType.boolean)) ∈ lw_all := lw_g (lw_at lw_m7 161 rfl) rfl
theorem q1684 : (Jvm.Cond.constant "MarketDaysModel" (218 : Nat) (100000 : Int32)) ∈ lw_all := lw_g (lw_at lw_m7 162 rfl) rfl
theorem q1685 : (Jvm.Cond.methodLink "MarketDaysModel" (205 : Nat) ({ cls := "MarketDaysModel", name := "puts", desc := "(I)V" } : Jvm.MethodName)) ∈ lw_all := lw_g (lw_at lw_m7 163 rfl) rfl
theorem q1686 : (Jvm.Cond.privateMethod ({ cls := "MarketDaysModel", name := "puts", desc := "(I)V" } : Jvm.MethodName)) ∈ lw_tbl := lw_at lw_m7 164 rfl
theorem q1687 : (Jvm.Cond.instanceMethod ({ cls := "MarketDaysModel", name := "puts", desc := "(I)V" } : Jvm.MethodName)) ∈ lw_all := lw_g (lw_at lw_m7 165 rfl) rfl
theorem q1688 : (Jvm.Cond.code ({ cls := "MarketDaysModel", name := "puts", desc := "(I)V" } : Jvm.MethodName) prog_19_method_19_code (2 : Nat) (Option.none : Option Jvm.ClassFile.FieldType)) ∈ lw_all := lw_g (lw_at lw_m7 166 rfl) rfl
theorem q1689 : (Jvm.Cond.methodLink "MarketDaysModel" (212 : Nat) ({ cls := "MarketDaysModel", name := "unwinds", desc := "(I)V" } : Jvm.MethodName)) ∈ lw_all := lw_g (lw_at lw_m7 167 rfl) rfl
theorem q1690 : (Jvm.Cond.privateMethod ({ cls := "MarketDaysModel", name := "unwinds", desc := "(I)V" } : Jvm.MethodName)) ∈ lw_tbl := lw_at lw_m7 168 rfl
theorem q1691 : (Jvm.Cond.instanceMethod ({ cls := "MarketDaysModel", name := "unwinds", desc := "(I)V" } : Jvm.MethodName)) ∈ lw_all := lw_g (lw_at lw_m7 169 rfl) rfl
theorem q1692 : (Jvm.Cond.code ({ cls := "MarketDaysModel", name := "unwinds", desc := "(I)V" } : Jvm.MethodName) prog_19_method_20_code (3 : Nat) (Option.none : Option Jvm.ClassFile.FieldType)) ∈ lw_all := lw_g (lw_at lw_m7 170 rfl) rfl
theorem q1693 : (Jvm.Cond.methodLink "MarketDaysModel" (198 : Nat) ({ cls := "MarketDaysModel", name := "rank", desc := "(I)I" } : Jvm.MethodName)) ∈ lw_all := lw_g (lw_at lw_m7 171 rfl) rfl
theorem q1694 : (Jvm.Cond.static ({ cls := "MarketDaysModel", name := "rank", desc := "(I)I" } : Jvm.MethodName)) ∈ lw_all := lw_g (lw_at lw_m7 172 rfl) rfl
theorem q1695 : (Jvm.Cond.code ({ cls := "MarketDaysModel", name := "rank", desc := "(I)I" } : Jvm.MethodName) prog_19_method_18_code (1 : Nat) (Option.some Jvm.ClassFile.FieldType.int)) ∈ lw_all := lw_g (lw_at lw_m7 173 rfl) rfl
theorem q1696 : (Jvm.Cond.methodLink "MarketDaysModel" (219 : Nat) ({ cls := "MarketDaysModel", name := "opensOne", desc := "(I)Z" } : Jvm.MethodName)) ∈ lw_all := lw_g (lw_at lw_m7 174 rfl) rfl
theorem q1697 : (Jvm.Cond.privateMethod ({ cls := "MarketDaysModel", name := "opensOne", desc := "(I)Z" } : Jvm.MethodName)) ∈ lw_tbl := lw_at lw_m7 175 rfl
theorem q1698 : (Jvm.Cond.instanceMethod ({ cls := "MarketDaysModel", name := "opensOne", desc := "(I)Z" } : Jvm.MethodName)) ∈ lw_all := lw_g (lw_at lw_m7 176 rfl) rfl
theorem q1699 : (Jvm.Cond.code ({ cls := "MarketDaysModel", name := "opensOne", desc := "(I)Z" } : Jvm.MethodName) prog_19_method_22_code (2 : Nat) (Option.some Jvm.ClassFile.FieldType.boolean)) ∈ lw_all := lw_g (lw_at lw_m7 177 rfl) rfl
theorem q1700 : (Jvm.Cond.methodLink "MarketDaysModel" (209 : Nat) ({ cls := "MarketDaysModel", name := "holds", desc := "(I)V" } : Jvm.MethodName)) ∈ lw_all := lw_g (lw_at lw_m7 178 rfl) rfl
theorem q1701 : (Jvm.Cond.privateMethod ({ cls := "MarketDaysModel", name := "holds", desc := "(I)V" } : Jvm.MethodName)) ∈ lw_tbl := lw_at lw_m7 179 rfl
theorem q1702 : (Jvm.Cond.instanceMethod ({ cls := "MarketDaysModel", name := "holds", desc := "(I)V" } : Jvm.MethodName)) ∈ lw_all := lw_g (lw_at lw_m7 180 rfl) rfl
theorem q1703 : (Jvm.Cond.code ({ cls := "MarketDaysModel", name := "holds", desc := "(I)V" } : Jvm.MethodName) prog_19_method_21_code (2 : Nat) (Option.none : Option Jvm.ClassFile.FieldType)) ∈ lw_all := lw_g (lw_at lw_m7 181 rfl) rfl
theorem q1704 : (Jvm.Cond.methodLink "MarketDaysModel" (222 : Nat) ({ cls := "MarketDaysModel", name := "signOf", desc := "()I" } : Jvm.MethodName)) ∈ lw_all := lw_g (lw_at lw_m7 182 rfl) rfl
theorem q1705 : (Jvm.Cond.privateMethod ({ cls := "MarketDaysModel", name := "signOf", desc := "()I" } : Jvm.MethodName)) ∈ lw_tbl := lw_at lw_m7 183 rfl
theorem q1706 : (Jvm.Cond.instanceMethod ({ cls := "MarketDaysModel", name := "signOf", desc := "()I" } : Jvm.MethodName)) ∈ lw_all := lw_g (lw_at lw_m7 184 rfl) rfl
theorem q1707 : (Jvm.Cond.code ({ cls := "MarketDaysModel", name := "signOf", desc := "()I" } : Jvm.MethodName) prog_19_method_24_code (1 : Nat) (Option.some Jvm.ClassFile.FieldType.int)) ∈ lw_all := lw_g (lw_at lw_m7 185 rfl) rfl
theorem q1708 : (Jvm.Cond.methodLink "MarketDaysModel" (226 : Nat) ({ cls := "MarketDaysModel", name := "between", desc := "(I)Z" } : Jvm.MethodName)) ∈ lw_all := lw_g (lw_at lw_m7 186 rfl) rfl
theorem q1709 : (Jvm.Cond.privateMethod ({ cls := "MarketDaysModel", name := "between", desc := "(I)Z" } : Jvm.MethodName)) ∈ lw_tbl := lw_at lw_m7 187 rfl
theorem q1710 : (Jvm.Cond.instanceMethod ({ cls := "MarketDaysModel", name := "between", desc := "(I)Z" } : Jvm.MethodName)) ∈ lw_all := lw_g (lw_at lw_m7 188 rfl) rfl
theorem q1711 : (Jvm.Cond.code ({ cls := "MarketDaysModel", name := "between", desc := "(I)Z" } : Jvm.MethodName) prog_19_method_23_code (2 : Nat) (Option.some Jvm.ClassFile.FieldType.boolean)) ∈ lw_all := lw_g (lw_at lw_m7 189 rfl) rfl
theorem q1713 : (Jvm.Cond.instanceMethod ({ cls := "MarketDaysModel", name := "force", desc := "(I)I" } : Jvm.MethodName)) ∈ lw_all := lw_g (lw_at lw_m7 191 rfl) rfl
theorem q1714 : (Jvm.Cond.selects "MarketDaysModel" ({ cls := "MarketDaysModel", name := "force", desc := "(I)I" } : Jvm.MethodName) ({ cls := "MarketDaysModel", name := "force", desc := "(I)I" } : Jvm.MethodName)) ∈ lw_all := lw_g (lw_at lw_m7 192 rfl) rfl
theorem q1715 : (Jvm.Cond.code ({ cls := "MarketDaysModel", name := "force", desc := "(I)I" } : Jvm.MethodName) prog_19_method_30_code (3 : Nat) (Option.some Jvm.ClassFile.FieldType.int)) ∈ lw_all := lw_g (lw_at lw_m7 193 rfl) rfl
theorem q1717 : (Jvm.Cond.instanceMethod ({ cls := "MarketDaysModel", name := "says", desc := "(II)J" } : Jvm.MethodName)) ∈ lw_all := lw_g (lw_at lw_m7 195 rfl) rfl
theorem q1718 : (Jvm.Cond.selects "MarketDaysModel" ({ cls := "MarketDaysModel", name := "says", desc := "(II)J" } : Jvm.MethodName) ({ cls := "MarketDaysModel", name := "says", desc := "(II)J" } : Jvm.MethodName)) ∈ lw_all := lw_g (lw_at lw_m7 196 rfl) rfl
theorem q1719 : (Jvm.Cond.code ({ cls := "MarketDaysModel", name := "says", desc := "(II)J" } : Jvm.MethodName) prog_19_method_32_code (3 : Nat) (Option.some Jvm.ClassFile.FieldType.long)) ∈ lw_all := lw_g (lw_at lw_m7 197 rfl) rfl
theorem q1720 : (Jvm.Cond.constantLong "MarketDaysModel" (246 : Nat) (-4611686018427387904 : Int64)) ∈ lw_all := lw_g (lw_at lw_m7 198 rfl) rfl
theorem q1721 : (Jvm.Cond.methodLink "MarketDaysModel" (248 : Nat) ({ cls := "MarketDaysModel", name := "nearOf", desc := "(II)I" } : Jvm.MethodName)) ∈ lw_all := lw_g (lw_at lw_m7 199 rfl) rfl
theorem q1722 : (Jvm.Cond.privateMethod ({ cls := "MarketDaysModel", name := "nearOf", desc := "(II)I" } : Jvm.MethodName)) ∈ lw_tbl := lw_at lw_m7 200 rfl
theorem q1723 : (Jvm.Cond.instanceMethod ({ cls := "MarketDaysModel", name := "nearOf", desc := "(II)I" } : Jvm.MethodName)) ∈ lw_all := lw_g (lw_at lw_m7 201 rfl) rfl
theorem q1724 : (Jvm.Cond.code ({ cls := "MarketDaysModel", name := "nearOf", desc := "(II)I" } : Jvm.MethodName) prog_19_method_31_code (3 : Nat) (Option.some Jvm.ClassFile.FieldType.int)) ∈ lw_all := lw_g (lw_at lw_m7 202 rfl) rfl
theorem q1725 : (Jvm.Cond.methodLink "MarketDaysModel" (240 : Nat) ({ cls := "MarketDaysModel", name := "names", desc := "(IIIII)V" } : Jvm.MethodName)) ∈ lw_all := lw_g (lw_at lw_m7 203 rfl) rfl
theorem q1726 : (Jvm.Cond.privateMethod ({ cls := "MarketDaysModel", name := "names", desc := "(IIIII)V" } : Jvm.MethodName)) ∈ lw_tbl := lw_at lw_m7 204 rfl
theorem q1727 : (Jvm.Cond.instanceMethod ({ cls := "MarketDaysModel", name := "names", desc := "(IIIII)V" } : Jvm.MethodName)) ∈ lw_all := lw_g (lw_at lw_m7 205 rfl) rfl
theorem q1728 : (Jvm.Cond.code ({ cls := "MarketDaysModel", name := "names", desc := "(IIIII)V" } : Jvm.MethodName) prog_19_method_29_code (6 : Nat) (Option.none : Option Jvm.ClassFile.FieldType)) ∈ lw_all := lw_g (lw_at lw_m7 206 rfl) rfl
theorem q1729 : (Jvm.Cond.methodLink "MarketDaysModel" (243 : Nat) ({ cls := "MarketDaysModel", name := "worth", desc := "(I)I" } : Jvm.MethodName)) ∈ lw_all := lw_g (lw_at lw_m7 207 rfl) rfl
theorem q1730 : (Jvm.Cond.privateMethod ({ cls := "MarketDaysModel", name := "worth", desc := "(I)I" } : Jvm.MethodName)) ∈ lw_tbl := lw_at lw_m7 208 rfl
theorem q1731 : (Jvm.Cond.instanceMethod ({ cls := "MarketDaysModel", name := "worth", desc := "(I)I" } : Jvm.MethodName)) ∈ lw_all := lw_g (lw_at lw_m7 209 rfl) rfl
theorem q1732 : (Jvm.Cond.code ({ cls := "MarketDaysModel", name := "worth", desc := "(I)I" } : Jvm.MethodName) prog_19_method_28_code (5 : Nat) (Option.some Jvm.ClassFile.FieldType.int)) ∈ lw_all := lw_g (lw_at lw_m7 210 rfl) rfl
theorem q1733 : (Jvm.Cond.methodLink "MarketDaysModel" (236 : Nat) ({ cls := "MarketDaysModel", name := "two", desc := "(III)I" } : Jvm.MethodName)) ∈ lw_all := lw_g (lw_at lw_m7 211 rfl) rfl
theorem q1734 : (Jvm.Cond.static ({ cls := "MarketDaysModel", name := "two", desc := "(III)I" } : Jvm.MethodName)) ∈ lw_all := lw_g (lw_at lw_m7 212 rfl) rfl
theorem q1735 : (Jvm.Cond.code ({ cls := "MarketDaysModel", name := "two", desc := "(III)I" } : Jvm.MethodName) prog_19_method_27_code (3 : Nat) (Option.some Jvm.ClassFile.FieldType.int)) ∈ lw_all := lw_g (lw_at lw_m7 213 rfl) rfl
theorem q1737 : (Jvm.Cond.instanceMethod ({ cls := "MarketDaysModel", name := "worthOf", desc := "(IIII)J" } : Jvm.MethodName)) ∈ lw_all := lw_g (lw_at lw_m7 215 rfl) rfl
theorem q1738 : (Jvm.Cond.selects "MarketDaysModel" ({ cls := "MarketDaysModel", name := "worthOf", desc := "(IIII)J" } : Jvm.MethodName) ({ cls := "MarketDaysModel", name := "worthOf", desc := "(IIII)J" } : Jvm.MethodName)) ∈ lw_all := lw_g (lw_at lw_m7 216 rfl) rfl
theorem q1739 : (Jvm.Cond.code ({ cls := "MarketDaysModel", name := "worthOf", desc := "(IIII)J" } : Jvm.MethodName) prog_19_method_34_code (5 : Nat) (Option.some Jvm.ClassFile.FieldType.long)) ∈ lw_all := lw_g (lw_at lw_m7 217 rfl) rfl
theorem q1740 : (Jvm.Cond.methodLink "MarketDaysModel" (252 : Nat) ({ cls := "MarketDaysModel", name := "worthBy", desc := "(IIII)I" } : Jvm.MethodName)) ∈ lw_all := lw_g (lw_at lw_m7 218 rfl) rfl
theorem q1741 : (Jvm.Cond.privateMethod ({ cls := "MarketDaysModel", name := "worthBy", desc := "(IIII)I" } : Jvm.MethodName)) ∈ lw_tbl := lw_at lw_m7 219 rfl
theorem q1742 : (Jvm.Cond.instanceMethod ({ cls := "MarketDaysModel", name := "worthBy", desc := "(IIII)I" } : Jvm.MethodName)) ∈ lw_all := lw_g (lw_at lw_m7 220 rfl) rfl
theorem q1743 : (Jvm.Cond.code ({ cls := "MarketDaysModel", name := "worthBy", desc := "(IIII)I" } : Jvm.MethodName) prog_19_method_33_code (6 : Nat) (Option.some Jvm.ClassFile.FieldType.int)) ∈ lw_all := lw_g (lw_at lw_m7 221 rfl) rfl
theorem q1745 : (Jvm.Cond.instanceMethod ({ cls := "MarketDaysModel", name := "giving", desc := "(II)I" } : Jvm.MethodName)) ∈ lw_all := lw_g (lw_at lw_m7 223 rfl) rfl
theorem q1746 : (Jvm.Cond.selects "MarketDaysModel" ({ cls := "MarketDaysModel", name := "giving", desc := "(II)I" } : Jvm.MethodName) ({ cls := "MarketDaysModel", name := "giving", desc := "(II)I" } : Jvm.MethodName)) ∈ lw_all := lw_g (lw_at lw_m7 224 rfl) rfl
theorem q1747 : (Jvm.Cond.code ({ cls := "MarketDaysModel", name := "giving", desc := "(II)I" } : Jvm.MethodName) prog_19_method_37_code (5 : Nat) (Option.some Jvm.ClassFile.FieldType.int)) ∈ lw_all := lw_g (lw_at lw_m7 225 rfl) rfl
theorem q1748 : (Jvm.Cond.methodLink "MarketDaysModel" (256 : Nat) ({ cls := "MarketDaysModel", name := "isNumber", desc := "(II)Z" } : Jvm.MethodName)) ∈ lw_all := lw_g (lw_at lw_m7 226 rfl) rfl
theorem q1749 : (Jvm.Cond.privateMethod ({ cls := "MarketDaysModel", name := "isNumber", desc := "(II)Z" } : Jvm.MethodName)) ∈ lw_tbl := lw_at lw_m7 227 rfl
theorem q1750 : (Jvm.Cond.instanceMethod ({ cls := "MarketDaysModel", name := "isNumber", desc := "(II)Z" } : Jvm.MethodName)) ∈ lw_all := lw_g (lw_at lw_m7 228 rfl) rfl
theorem q1751 : (Jvm.Cond.code ({ cls := "MarketDaysModel", name := "isNumber", desc := "(II)Z" } : Jvm.MethodName) prog_19_method_36_code (3 : Nat) (Option.some Jvm.ClassFile.FieldType.boolean)) ∈ lw_all := lw_g (lw_at lw_m7 229 rfl) rfl
theorem q1753 : (Jvm.Cond.instanceMethod ({ cls := "MarketDaysModel", name := "marketOf", desc := "(III)I" } : Jvm.MethodName)) ∈ lw_all := lw_g (lw_at lw_m7 231 rfl) rfl
theorem q1754 : (Jvm.Cond.selects "MarketDaysModel" ({ cls := "MarketDaysModel", name := "marketOf", desc := "(III)I" } : Jvm.MethodName) ({ cls := "MarketDaysModel", name := "marketOf", desc := "(III)I" } : Jvm.MethodName)) ∈ lw_all := lw_g (lw_at lw_m7 232 rfl) rfl
theorem q1755 : (Jvm.Cond.code ({ cls := "MarketDaysModel", name := "marketOf", desc := "(III)I" } : Jvm.MethodName) prog_19_method_41_code (4 : Nat) (Option.some Jvm.ClassFile.FieldType.int)) ∈ lw_all := lw_g (lw_at lw_m7 233 rfl) rfl
theorem q1756 : (Jvm.Cond.methodLink "MarketDaysModel" (266 : Nat) ({ cls := "MarketDaysModel", name := "isGiving", desc := "(I)Z" } : Jvm.MethodName)) ∈ lw_all := lw_g (lw_at lw_m7 234 rfl) rfl
theorem q1757 : (Jvm.Cond.privateMethod ({ cls := "MarketDaysModel", name := "isGiving", desc := "(I)Z" } : Jvm.MethodName)) ∈ lw_tbl := lw_at lw_m7 235 rfl
theorem q1758 : (Jvm.Cond.instanceMethod ({ cls := "MarketDaysModel", name := "isGiving", desc := "(I)Z" } : Jvm.MethodName)) ∈ lw_all := lw_g (lw_at lw_m7 236 rfl) rfl
theorem q1759 : (Jvm.Cond.code ({ cls := "MarketDaysModel", name := "isGiving", desc := "(I)Z" } : Jvm.MethodName) prog_19_method_38_code (2 : Nat) (Option.some Jvm.ClassFile.FieldType.boolean)) ∈ lw_all := lw_g (lw_at lw_m7 237 rfl) rfl
theorem q1760 : (Jvm.Cond.methodLink "MarketDaysModel" (269 : Nat) ({ cls := "MarketDaysModel", name := "market", desc := "(III)I" } : Jvm.MethodName)) ∈ lw_all := lw_g (lw_at lw_m7 238 rfl) rfl
theorem q1761 : (Jvm.Cond.privateMethod ({ cls := "MarketDaysModel", name := "market", desc := "(III)I" } : Jvm.MethodName)) ∈ lw_tbl := lw_at lw_m7 239 rfl
theorem q1762 : (Jvm.Cond.instanceMethod ({ cls := "MarketDaysModel", name := "market", desc := "(III)I" } : Jvm.MethodName)) ∈ lw_all := lw_g (lw_at lw_m8 0 rfl) rfl
theorem q1763 : (Jvm.Cond.code ({ cls := "MarketDaysModel", name := "market", desc := "(III)I" } : Jvm.MethodName) prog_19_method_40_code (7 : Nat) (Option.some Jvm.ClassFile.FieldType.int)) ∈ lw_all := lw_g (lw_at lw_m8 1 rfl) rfl
theorem q1764 : (Jvm.Cond.methodLink "MarketDaysModel" (263 : Nat) ({ cls := "MarketDaysModel", name := "daysOf", desc := "(III)I" } : Jvm.MethodName)) ∈ lw_all := lw_g (lw_at lw_m8 2 rfl) rfl
theorem q1765 : (Jvm.Cond.privateMethod ({ cls := "MarketDaysModel", name := "daysOf", desc := "(III)I" } : Jvm.MethodName)) ∈ lw_tbl := lw_at lw_m8 3 rfl
theorem q1766 : (Jvm.Cond.instanceMethod ({ cls := "MarketDaysModel", name := "daysOf", desc := "(III)I" } : Jvm.MethodName)) ∈ lw_all := lw_g (lw_at lw_m8 4 rfl) rfl
theorem q1767 : (Jvm.Cond.code ({ cls := "MarketDaysModel", name := "daysOf", desc := "(III)I" } : Jvm.MethodName) prog_19_method_39_code (5 : Nat) (Option.some Jvm.ClassFile.FieldType.int)) ∈ lw_all := lw_g (lw_at lw_m8 5 rfl) rfl
theorem q1769 : (Jvm.Cond.instanceMethod ({ cls := "MarketDaysModel", name := "bar", desc := "(II)I" } : Jvm.MethodName)) ∈ lw_all := lw_g (lw_at lw_m8 7 rfl) rfl
theorem q1770 : (Jvm.Cond.selects "MarketDaysModel" ({ cls := "MarketDaysModel", name := "bar", desc := "(II)I" } : Jvm.MethodName) ({ cls := "MarketDaysModel", name := "bar", desc := "(II)I" } : Jvm.MethodName)) ∈ lw_all := lw_g (lw_at lw_m8 8 rfl) rfl
theorem q1771 : (Jvm.Cond.code ({ cls := "MarketDaysModel", name := "bar", desc := "(II)I" } : Jvm.MethodName) prog_19_method_46_code (3 : Nat) (Option.some Jvm.ClassFile.FieldType.int)) ∈ lw_all := lw_g (lw_at lw_m8 9 rfl) rfl
theorem q1772 : (Jvm.Cond.methodLink "MarketDaysModel" (278 : Nat) ({ cls := "MarketDaysModel", name := "looks", desc := "()V" } : Jvm.MethodName)) ∈ lw_all := lw_g (lw_at lw_m8 10 rfl) rfl
theorem q1773 : (Jvm.Cond.privateMethod ({ cls := "MarketDaysModel", name := "looks", desc := "()V" } : Jvm.MethodName)) ∈ lw_tbl := lw_at lw_m8 11 rfl
theorem q1774 : (Jvm.Cond.instanceMethod ({ cls := "MarketDaysModel", name := "looks", desc := "()V" } : Jvm.MethodName)) ∈ lw_all := lw_g (lw_at lw_m8 12 rfl) rfl
theorem q1775 : (Jvm.Cond.code ({ cls := "MarketDaysModel", name := "looks", desc := "()V" } : Jvm.MethodName) prog_19_method_35_code (3 : Nat) (Option.none : Option Jvm.ClassFile.FieldType)) ∈ lw_all := lw_g (lw_at lw_m8 13 rfl) rfl
theorem q1776 : (Jvm.Cond.methodLink "MarketDaysModel" (281 : Nat) ({ cls := "MarketDaysModel", name := "laysNow", desc := "(II)V" } : Jvm.MethodName)) ∈ lw_all := lw_g (lw_at lw_m8 14 rfl) rfl
theorem q1777 : (Jvm.Cond.privateMethod ({ cls := "MarketDaysModel", name := "laysNow", desc := "(II)V" } : Jvm.MethodName)) ∈ lw_tbl := lw_at lw_m8 15 rfl
theorem q1778 : (Jvm.Cond.instanceMethod ({ cls := "MarketDaysModel", name := "laysNow", desc := "(II)V" } : Jvm.MethodName)) ∈ lw_all := lw_g (lw_at lw_m8 16 rfl) rfl
theorem q1779 : (Jvm.Cond.code ({ cls := "MarketDaysModel", name := "laysNow", desc := "(II)V" } : Jvm.MethodName) prog_19_method_42_code (4 : Nat) (Option.none : Option Jvm.ClassFile.FieldType)) ∈ lw_all := lw_g (lw_at lw_m8 17 rfl) rfl
theorem q1780 : (Jvm.Cond.methodLink "MarketDaysModel" (285 : Nat) ({ cls := "MarketDaysModel", name := "firstBar", desc := "()I" } : Jvm.MethodName)) ∈ lw_all := lw_g (lw_at lw_m8 18 rfl) rfl
theorem q1781 : (Jvm.Cond.privateMethod ({ cls := "MarketDaysModel", name := "firstBar", desc := "()I" } : Jvm.MethodName)) ∈ lw_tbl := lw_at lw_m8 19 rfl
theorem q1782 : (Jvm.Cond.instanceMethod ({ cls := "MarketDaysModel", name := "firstBar", desc := "()I" } : Jvm.MethodName)) ∈ lw_all := lw_g (lw_at lw_m8 20 rfl) rfl
theorem q1783 : (Jvm.Cond.code ({ cls := "MarketDaysModel", name := "firstBar", desc := "()I" } : Jvm.MethodName) prog_19_method_45_code (3 : Nat) (Option.some Jvm.ClassFile.FieldType.int)) ∈ lw_all := lw_g (lw_at lw_m8 21 rfl) rfl
theorem q1784 : (Jvm.Cond.methodLink "MarketDaysModel" (275 : Nat) ({ cls := "MarketDaysModel", name := "doBar", desc := "(II)Z" } : Jvm.MethodName)) ∈ lw_all := lw_g (lw_at lw_m8 22 rfl) rfl
theorem q1785 : (Jvm.Cond.privateMethod ({ cls := "MarketDaysModel", name := "doBar", desc := "(II)Z" } : Jvm.MethodName)) ∈ lw_tbl := lw_at lw_m8 23 rfl
theorem q1786 : (Jvm.Cond.instanceMethod ({ cls := "MarketDaysModel", name := "doBar", desc := "(II)Z" } : Jvm.MethodName)) ∈ lw_all := lw_g (lw_at lw_m8 24 rfl) rfl
theorem q1787 : (Jvm.Cond.code ({ cls := "MarketDaysModel", name := "doBar", desc := "(II)Z" } : Jvm.MethodName) prog_19_method_44_code (4 : Nat) (Option.some Jvm.ClassFile.FieldType.boolean)) ∈ lw_all := lw_g (lw_at lw_m8 25 rfl) rfl
theorem q1788 : (Jvm.Cond.methodLink "MarketDaysModel" (272 : Nat) ({ cls := "MarketDaysModel", name := "follows", desc := "(II)Z" } : Jvm.MethodName)) ∈ lw_all := lw_g (lw_at lw_m8 26 rfl) rfl
theorem q1789 : (Jvm.Cond.privateMethod ({ cls := "MarketDaysModel", name := "follows", desc := "(II)Z" } : Jvm.MethodName)) ∈ lw_tbl := lw_at lw_m8 27 rfl
theorem q1790 : (Jvm.Cond.instanceMethod ({ cls := "MarketDaysModel", name := "follows", desc := "(II)Z" } : Jvm.MethodName)) ∈ lw_all := lw_g (lw_at lw_m8 28 rfl) rfl
theorem q1791 : (Jvm.Cond.code ({ cls := "MarketDaysModel", name := "follows", desc := "(II)Z" } : Jvm.MethodName) prog_19_method_43_code (4 : Nat) (Option.some Jvm.ClassFile.FieldType.boolean)) ∈ lw_all := lw_g (lw_at lw_m8 29 rfl) rfl
theorem q1793 : (Jvm.Cond.instanceMethod ({ cls := "MarketDaysModel", name := "lawful", desc := "(II)I" } : Jvm.MethodName)) ∈ lw_all := lw_g (lw_at lw_m8 31 rfl) rfl
theorem q1794 : (Jvm.Cond.selects "MarketDaysModel" ({ cls := "MarketDaysModel", name := "lawful", desc := "(II)I" } : Jvm.MethodName) ({ cls := "MarketDaysModel", name := "lawful", desc := "(II)I" } : Jvm.MethodName)) ∈ lw_all := lw_g (lw_at lw_m8 32 rfl) rfl
theorem q1795 : (Jvm.Cond.code ({ cls := "MarketDaysModel", name := "lawful", desc := "(II)I" } : Jvm.MethodName) prog_19_method_47_code (5 : Nat) (Option.some Jvm.ClassFile.FieldType.int)) ∈ lw_all := lw_g (lw_at lw_m8 33 rfl) rfl
theorem q1797 : (Jvm.Cond.instanceMethod ({ cls := "MarketDaysModel", name := "judge", desc := "(III)J" } : Jvm.MethodName)) ∈ lw_all := lw_g (lw_at lw_m8 35 rfl) rfl
theorem q1798 : (Jvm.Cond.selects "MarketDaysModel" ({ cls := "MarketDaysModel", name := "judge", desc := "(III)J" } : Jvm.MethodName) ({ cls := "MarketDaysModel", name := "judge", desc := "(III)J" } : Jvm.MethodName)) ∈ lw_all := lw_g (lw_at lw_m8 36 rfl) rfl
theorem q1799 : (Jvm.Cond.code ({ cls := "MarketDaysModel", name := "judge", desc := "(III)J" } : Jvm.MethodName) prog_19_method_51_code (4 : Nat) (Option.some Jvm.ClassFile.FieldType.long)) ∈ lw_all := lw_g (lw_at lw_m8 37 rfl) rfl
theorem q1800 : (Jvm.Cond.methodLink "MarketDaysModel" (294 : Nat) ({ cls := "MarketDaysModel", name := "worthAll", desc := "(II)I" } : Jvm.MethodName)) ∈ lw_all := lw_g (lw_at lw_m8 38 rfl) rfl
theorem q1801 : (Jvm.Cond.privateMethod ({ cls := "MarketDaysModel", name := "worthAll", desc := "(II)I" } : Jvm.MethodName)) ∈ lw_tbl := lw_at lw_m8 39 rfl
theorem q1802 : (Jvm.Cond.instanceMethod ({ cls := "MarketDaysModel", name := "worthAll", desc := "(II)I" } : Jvm.MethodName)) ∈ lw_all := lw_g (lw_at lw_m8 40 rfl) rfl
theorem q1803 : (Jvm.Cond.code ({ cls := "MarketDaysModel", name := "worthAll", desc := "(II)I" } : Jvm.MethodName) prog_19_method_50_code (5 : Nat) (Option.some Jvm.ClassFile.FieldType.int)) ∈ lw_all := lw_g (lw_at lw_m8 41 rfl) rfl
theorem q1804 : (Jvm.Cond.methodLink "MarketDaysModel" (291 : Nat) ({ cls := "MarketDaysModel", name := "worthIn", desc := "(II)I" } : Jvm.MethodName)) ∈ lw_all := lw_g (lw_at lw_m8 42 rfl) rfl
theorem q1805 : (Jvm.Cond.privateMethod ({ cls := "MarketDaysModel", name := "worthIn", desc := "(II)I" } : Jvm.MethodName)) ∈ lw_tbl := lw_at lw_m8 43 rfl
theorem q1806 : (Jvm.Cond.instanceMethod ({ cls := "MarketDaysModel", name := "worthIn", desc := "(II)I" } : Jvm.MethodName)) ∈ lw_all := lw_g (lw_at lw_m8 44 rfl) rfl
theorem q1807 : (Jvm.Cond.code ({ cls := "MarketDaysModel", name := "worthIn", desc := "(II)I" } : Jvm.MethodName) prog_19_method_49_code (4 : Nat) (Option.some Jvm.ClassFile.FieldType.int)) ∈ lw_all := lw_g (lw_at lw_m8 45 rfl) rfl
theorem q1808 : (Jvm.Cond.methodLink "MarketDaysModel" (288 : Nat) ({ cls := "MarketDaysModel", name := "worthNow", desc := "(I)I" } : Jvm.MethodName)) ∈ lw_all := lw_g (lw_at lw_m8 46 rfl) rfl
theorem q1809 : (Jvm.Cond.privateMethod ({ cls := "MarketDaysModel", name := "worthNow", desc := "(I)I" } : Jvm.MethodName)) ∈ lw_tbl := lw_at lw_m8 47 rfl
theorem q1810 : (Jvm.Cond.instanceMethod ({ cls := "MarketDaysModel", name := "worthNow", desc := "(I)I" } : Jvm.MethodName)) ∈ lw_all := lw_g (lw_at lw_m8 48 rfl) rfl
theorem q1811 : (Jvm.Cond.code ({ cls := "MarketDaysModel", name := "worthNow", desc := "(I)I" } : Jvm.MethodName) prog_19_method_48_code (8 : Nat) (Option.some Jvm.ClassFile.FieldType.int)) ∈ lw_all := lw_g (lw_at lw_m8 49 rfl) rfl
theorem q1813 : (Jvm.Cond.instanceMethod ({ cls := "MarketDaysModel", name := "givingTold", desc := "(II)I" } : Jvm.MethodName)) ∈ lw_all := lw_g (lw_at lw_m8 51 rfl) rfl
theorem q1814 : (Jvm.Cond.selects "MarketDaysModel" ({ cls := "MarketDaysModel", name := "givingTold", desc := "(II)I" } : Jvm.MethodName) ({ cls := "MarketDaysModel", name := "givingTold", desc := "(II)I" } : Jvm.MethodName)) ∈ lw_all := lw_g (lw_at lw_m8 52 rfl) rfl
theorem q1815 : (Jvm.Cond.code ({ cls := "MarketDaysModel", name := "givingTold", desc := "(II)I" } : Jvm.MethodName) prog_19_method_52_code (3 : Nat) (Option.some Jvm.ClassFile.FieldType.int)) ∈ lw_all := lw_g (lw_at lw_m8 53 rfl) rfl
theorem q1817 : (Jvm.Cond.instanceMethod ({ cls := "MarketDaysModel", name := "can", desc := "()I" } : Jvm.MethodName)) ∈ lw_all := lw_g (lw_at lw_m8 55 rfl) rfl
theorem q1818 : (Jvm.Cond.selects "MarketDaysModel" ({ cls := "MarketDaysModel", name := "can", desc := "()I" } : Jvm.MethodName) ({ cls := "MarketDaysModel", name := "can", desc := "()I" } : Jvm.MethodName)) ∈ lw_all := lw_g (lw_at lw_m8 56 rfl) rfl
theorem q1819 : (Jvm.Cond.code ({ cls := "MarketDaysModel", name := "can", desc := "()I" } : Jvm.MethodName) prog_19_method_56_code (3 : Nat) (Option.some Jvm.ClassFile.FieldType.int)) ∈ lw_all := lw_g (lw_at lw_m8 57 rfl) rfl
theorem q1820 : (Jvm.Cond.methodLink "MarketDaysModel" (300 : Nat) ({ cls := "MarketDaysModel", name := "all", desc := "()I" } : Jvm.MethodName)) ∈ lw_all := lw_g (lw_at lw_m8 58 rfl) rfl
theorem q1821 : (Jvm.Cond.privateMethod ({ cls := "MarketDaysModel", name := "all", desc := "()I" } : Jvm.MethodName)) ∈ lw_tbl := lw_at lw_m8 59 rfl
theorem q1822 : (Jvm.Cond.instanceMethod ({ cls := "MarketDaysModel", name := "all", desc := "()I" } : Jvm.MethodName)) ∈ lw_all := lw_g (lw_at lw_m8 60 rfl) rfl
theorem q1823 : (Jvm.Cond.code ({ cls := "MarketDaysModel", name := "all", desc := "()I" } : Jvm.MethodName) prog_19_method_55_code (1 : Nat) (Option.some Jvm.ClassFile.FieldType.int)) ∈ lw_all := lw_g (lw_at lw_m8 61 rfl) rfl
theorem q1824 : (Jvm.Cond.methodLink "MarketDaysModel" (303 : Nat) ({ cls := "MarketDaysModel", name := "nextWay", desc := "(IZ)Z" } : Jvm.MethodName)) ∈ lw_all := lw_g (lw_at lw_m8 62 rfl) rfl
theorem q1825 : (Jvm.Cond.privateMethod ({ cls := "MarketDaysModel", name := "nextWay", desc := "(IZ)Z" } : Jvm.MethodName)) ∈ lw_tbl := lw_at lw_m8 63 rfl
theorem q1826 : (Jvm.Cond.instanceMethod ({ cls := "MarketDaysModel", name := "nextWay", desc := "(IZ)Z" } : Jvm.MethodName)) ∈ lw_all := lw_g (lw_at lw_m8 64 rfl) rfl
theorem q1827 : (Jvm.Cond.code ({ cls := "MarketDaysModel", name := "nextWay", desc := "(IZ)Z" } : Jvm.MethodName) prog_19_method_54_code (6 : Nat) (Option.some Jvm.ClassFile.FieldType.boolean)) ∈ lw_all := lw_g (lw_at lw_m8 65 rfl) rfl
theorem q1828 : (Jvm.Cond.methodLink "MarketDaysModel" (297 : Nat) ({ cls := "MarketDaysModel", name := "isFree", desc := "(I)Z" } : Jvm.MethodName)) ∈ lw_all := lw_g (lw_at lw_m8 66 rfl) rfl
theorem q1829 : (Jvm.Cond.privateMethod ({ cls := "MarketDaysModel", name := "isFree", desc := "(I)Z" } : Jvm.MethodName)) ∈ lw_tbl := lw_at lw_m8 67 rfl
theorem q1830 : (Jvm.Cond.instanceMethod ({ cls := "MarketDaysModel", name := "isFree", desc := "(I)Z" } : Jvm.MethodName)) ∈ lw_all := lw_g (lw_at lw_m8 68 rfl) rfl
theorem q1831 : (Jvm.Cond.code ({ cls := "MarketDaysModel", name := "isFree", desc := "(I)Z" } : Jvm.MethodName) prog_19_method_53_code (3 : Nat) (Option.some Jvm.ClassFile.FieldType.boolean)) ∈ lw_all := lw_g (lw_at lw_m8 69 rfl) rfl
theorem q1833 : (Jvm.Cond.instanceMethod ({ cls := "MarketDaysModel", name := "find", desc := "(II)J" } : Jvm.MethodName)) ∈ lw_all := lw_g (lw_at lw_m8 71 rfl) rfl
theorem q1834 : (Jvm.Cond.selects "MarketDaysModel" ({ cls := "MarketDaysModel", name := "find", desc := "(II)J" } : Jvm.MethodName) ({ cls := "MarketDaysModel", name := "find", desc := "(II)J" } : Jvm.MethodName)) ∈ lw_all := lw_g (lw_at lw_m8 72 rfl) rfl
theorem q1835 : (Jvm.Cond.code ({ cls := "MarketDaysModel", name := "find", desc := "(II)J" } : Jvm.MethodName) prog_19_method_62_code (6 : Nat) (Option.some Jvm.ClassFile.FieldType.long)) ∈ lw_all := lw_g (lw_at lw_m8 73 rfl) rfl
theorem q1836 : (Jvm.Cond.methodLink "MarketDaysModel" (320 : Nat) ({ cls := "MarketDaysModel", name := "worthWay", desc := "()I" } : Jvm.MethodName)) ∈ lw_all := lw_g (lw_at lw_m8 74 rfl) rfl
theorem q1837 : (Jvm.Cond.privateMethod ({ cls := "MarketDaysModel", name := "worthWay", desc := "()I" } : Jvm.MethodName)) ∈ lw_tbl := lw_at lw_m8 75 rfl
theorem q1838 : (Jvm.Cond.instanceMethod ({ cls := "MarketDaysModel", name := "worthWay", desc := "()I" } : Jvm.MethodName)) ∈ lw_all := lw_g (lw_at lw_m8 76 rfl) rfl
theorem q1839 : (Jvm.Cond.code ({ cls := "MarketDaysModel", name := "worthWay", desc := "()I" } : Jvm.MethodName) prog_19_method_60_code (8 : Nat) (Option.some Jvm.ClassFile.FieldType.int)) ∈ lw_all := lw_g (lw_at lw_m8 77 rfl) rfl
theorem q1840 : (Jvm.Cond.methodLink "MarketDaysModel" (307 : Nat) ({ cls := "MarketDaysModel", name := "dayIn", desc := "(I)I" } : Jvm.MethodName)) ∈ lw_all := lw_g (lw_at lw_m8 78 rfl) rfl
theorem q1841 : (Jvm.Cond.static ({ cls := "MarketDaysModel", name := "dayIn", desc := "(I)I" } : Jvm.MethodName)) ∈ lw_all := lw_g (lw_at lw_m8 79 rfl) rfl
theorem q1842 : (Jvm.Cond.code ({ cls := "MarketDaysModel", name := "dayIn", desc := "(I)I" } : Jvm.MethodName) prog_19_method_57_code (2 : Nat) (Option.some Jvm.ClassFile.FieldType.int)) ∈ lw_all := lw_g (lw_at lw_m8 80 rfl) rfl
theorem q1843 : (Jvm.Cond.methodLink "MarketDaysModel" (310 : Nat) ({ cls := "MarketDaysModel", name := "keptWorth", desc := "(IIII)I" } : Jvm.MethodName)) ∈ lw_all := lw_g (lw_at lw_m8 81 rfl) rfl
theorem q1844 : (Jvm.Cond.privateMethod ({ cls := "MarketDaysModel", name := "keptWorth", desc := "(IIII)I" } : Jvm.MethodName)) ∈ lw_tbl := lw_at lw_m8 82 rfl
theorem q1845 : (Jvm.Cond.instanceMethod ({ cls := "MarketDaysModel", name := "keptWorth", desc := "(IIII)I" } : Jvm.MethodName)) ∈ lw_all := lw_g (lw_at lw_m8 83 rfl) rfl
theorem q1846 : (Jvm.Cond.code ({ cls := "MarketDaysModel", name := "keptWorth", desc := "(IIII)I" } : Jvm.MethodName) prog_19_method_59_code (6 : Nat) (Option.some Jvm.ClassFile.FieldType.int)) ∈ lw_all := lw_g (lw_at lw_m8 84 rfl) rfl
theorem q1847 : (Jvm.Cond.methodLink "MarketDaysModel" (323 : Nat) ({ cls := "MarketDaysModel", name := "others", desc := "(I)I" } : Jvm.MethodName)) ∈ lw_all := lw_g (lw_at lw_m8 85 rfl) rfl
theorem q1848 : (Jvm.Cond.privateMethod ({ cls := "MarketDaysModel", name := "others", desc := "(I)I" } : Jvm.MethodName)) ∈ lw_tbl := lw_at lw_m8 86 rfl
theorem q1849 : (Jvm.Cond.instanceMethod ({ cls := "MarketDaysModel", name := "others", desc := "(I)I" } : Jvm.MethodName)) ∈ lw_all := lw_g (lw_at lw_m8 87 rfl) rfl
theorem q1850 : (Jvm.Cond.code ({ cls := "MarketDaysModel", name := "others", desc := "(I)I" } : Jvm.MethodName) prog_19_method_58_code (4 : Nat) (Option.some Jvm.ClassFile.FieldType.int)) ∈ lw_all := lw_g (lw_at lw_m8 88 rfl) rfl
theorem q1851 : (Jvm.Cond.methodLink "MarketDaysModel" (326 : Nat) ({ cls := "MarketDaysModel", name := "keeps", desc := "()V" } : Jvm.MethodName)) ∈ lw_all := lw_g (lw_at lw_m8 89 rfl) rfl
theorem q1852 : (Jvm.Cond.privateMethod ({ cls := "MarketDaysModel", name := "keeps", desc := "()V" } : Jvm.MethodName)) ∈ lw_tbl := lw_at lw_m8 90 rfl
theorem q1853 : (Jvm.Cond.instanceMethod ({ cls := "MarketDaysModel", name := "keeps", desc := "()V" } : Jvm.MethodName)) ∈ lw_all := lw_g (lw_at lw_m8 91 rfl) rfl
theorem q1854 : (Jvm.Cond.code ({ cls := "MarketDaysModel", name := "keeps", desc := "()V" } : Jvm.MethodName) prog_19_method_61_code (2 : Nat) (Option.none : Option Jvm.ClassFile.FieldType)) ∈ lw_all := lw_g (lw_at lw_m8 92 rfl) rfl
theorem q1855 : (Jvm.Cond.constantLong "MarketDaysModel" (329 : Nat) (-4611686018427387903 : Int64)) ∈ lw_all := lw_g (lw_at lw_m8 93 rfl) rfl
theorem q1857 : (Jvm.Cond.instanceMethod ({ cls := "MarketDaysModel", name := "foundDay", desc := "(I)I" } : Jvm.MethodName)) ∈ lw_all := lw_g (lw_at lw_m8 95 rfl) rfl
theorem q1858 : (Jvm.Cond.selects "MarketDaysModel" ({ cls := "MarketDaysModel", name := "foundDay", desc := "(I)I" } : Jvm.MethodName) ({ cls := "MarketDaysModel", name := "foundDay", desc := "(I)I" } : Jvm.MethodName)) ∈ lw_all := lw_g (lw_at lw_m8 96 rfl) rfl
theorem q1859 : (Jvm.Cond.code ({ cls := "MarketDaysModel", name := "foundDay", desc := "(I)I" } : Jvm.MethodName) prog_19_method_63_code (2 : Nat) (Option.some Jvm.ClassFile.FieldType.int)) ∈ lw_all := lw_g (lw_at lw_m8 97 rfl) rfl
theorem q1861 : (Jvm.Cond.instanceMethod ({ cls := "MarketDaysModel", name := "least", desc := "()I" } : Jvm.MethodName)) ∈ lw_all := lw_g (lw_at lw_m8 99 rfl) rfl
theorem q1862 : (Jvm.Cond.selects "MarketDaysModel" ({ cls := "MarketDaysModel", name := "least", desc := "()I" } : Jvm.MethodName) ({ cls := "MarketDaysModel", name := "least", desc := "()I" } : Jvm.MethodName)) ∈ lw_all := lw_g (lw_at lw_m8 100 rfl) rfl
theorem q1863 : (Jvm.Cond.code ({ cls := "MarketDaysModel", name := "least", desc := "()I" } : Jvm.MethodName) prog_19_method_64_code (4 : Nat) (Option.some Jvm.ClassFile.FieldType.int)) ∈ lw_all := lw_g (lw_at lw_m8 101 rfl) rfl
theorem q1865 : (Jvm.Cond.instanceMethod ({ cls := "MarketDaysModel", name := "knot", desc := "()I" } : Jvm.MethodName)) ∈ lw_all := lw_g (lw_at lw_m8 103 rfl) rfl
theorem q1866 : (Jvm.Cond.selects "MarketDaysModel" ({ cls := "MarketDaysModel", name := "knot", desc := "()I" } : Jvm.MethodName) ({ cls := "MarketDaysModel", name := "knot", desc := "()I" } : Jvm.MethodName)) ∈ lw_all := lw_g (lw_at lw_m8 104 rfl) rfl
theorem q1867 : (Jvm.Cond.code ({ cls := "MarketDaysModel", name := "knot", desc := "()I" } : Jvm.MethodName) prog_19_method_66_code (3 : Nat) (Option.some Jvm.ClassFile.FieldType.int)) ∈ lw_all := lw_g (lw_at lw_m8 105 rfl) rfl
theorem q1868 : (Jvm.Cond.methodLink "MarketDaysModel" (331 : Nat) ({ cls := "MarketDaysModel", name := "ones", desc := "(I)I" } : Jvm.MethodName)) ∈ lw_all := lw_g (lw_at lw_m8 106 rfl) rfl
theorem q1869 : (Jvm.Cond.static ({ cls := "MarketDaysModel", name := "ones", desc := "(I)I" } : Jvm.MethodName)) ∈ lw_all := lw_g (lw_at lw_m8 107 rfl) rfl
theorem q1870 : (Jvm.Cond.code ({ cls := "MarketDaysModel", name := "ones", desc := "(I)I" } : Jvm.MethodName) prog_19_method_65_code (3 : Nat) (Option.some Jvm.ClassFile.FieldType.int)) ∈ lw_all := lw_g (lw_at lw_m8 108 rfl) rfl
theorem q1872 : (Jvm.Cond.instanceMethod ({ cls := "MarketDaysModel", name := "room", desc := "(III)I" } : Jvm.MethodName)) ∈ lw_all := lw_g (lw_at lw_m8 110 rfl) rfl
theorem q1873 : (Jvm.Cond.selects "MarketDaysModel" ({ cls := "MarketDaysModel", name := "room", desc := "(III)I" } : Jvm.MethodName) ({ cls := "MarketDaysModel", name := "room", desc := "(III)I" } : Jvm.MethodName)) ∈ lw_all := lw_g (lw_at lw_m8 111 rfl) rfl
theorem q1874 : (Jvm.Cond.code ({ cls := "MarketDaysModel", name := "room", desc := "(III)I" } : Jvm.MethodName) prog_19_method_67_code (8 : Nat) (Option.some Jvm.ClassFile.FieldType.int)) ∈ lw_all := lw_g (lw_at lw_m8 112 rfl) rfl
theorem q1876 : (Jvm.Cond.instanceMethod ({ cls := "MarketDaysModel", name := "hurt", desc := "(III)J" } : Jvm.MethodName)) ∈ lw_all := lw_g (lw_at lw_m8 114 rfl) rfl
theorem q1877 : (Jvm.Cond.selects "MarketDaysModel" ({ cls := "MarketDaysModel", name := "hurt", desc := "(III)J" } : Jvm.MethodName) ({ cls := "MarketDaysModel", name := "hurt", desc := "(III)J" } : Jvm.MethodName)) ∈ lw_all := lw_g (lw_at lw_m8 115 rfl) rfl
theorem q1878 : (Jvm.Cond.code ({ cls := "MarketDaysModel", name := "hurt", desc := "(III)J" } : Jvm.MethodName) prog_19_method_68_code (5 : Nat) (Option.some Jvm.ClassFile.FieldType.long)) ∈ lw_all := lw_g (lw_at lw_m8 116 rfl) rfl
theorem q1880 : (Jvm.Cond.instanceMethod ({ cls := "MarketDaysModel", name := "round", desc := "(IIIII)I" } : Jvm.MethodName)) ∈ lw_all := lw_g (lw_at lw_m8 118 rfl) rfl
theorem q1881 : (Jvm.Cond.selects "MarketDaysModel" ({ cls := "MarketDaysModel", name := "round", desc := "(IIIII)I" } : Jvm.MethodName) ({ cls := "MarketDaysModel", name := "round", desc := "(IIIII)I" } : Jvm.MethodName)) ∈ lw_all := lw_g (lw_at lw_m8 119 rfl) rfl
theorem q1882 : (Jvm.Cond.code ({ cls := "MarketDaysModel", name := "round", desc := "(IIIII)I" } : Jvm.MethodName) prog_19_method_71_code (12 : Nat) (Option.some Jvm.ClassFile.FieldType.int)) ∈ lw_all := lw_g (lw_at lw_m8 120 rfl) rfl
theorem q1883 : (Jvm.Cond.methodLink "MarketDaysModel" (337 : Nat) ({ cls := "MarketDaysModel", name := "soldBy", desc := "(IIIIII)I" } : Jvm.MethodName)) ∈ lw_all := lw_g (lw_at lw_m8 121 rfl) rfl
theorem q1884 : (Jvm.Cond.privateMethod ({ cls := "MarketDaysModel", name := "soldBy", desc := "(IIIIII)I" } : Jvm.MethodName)) ∈ lw_tbl := lw_at lw_m8 122 rfl
theorem q1885 : (Jvm.Cond.instanceMethod ({ cls := "MarketDaysModel", name := "soldBy", desc := "(IIIIII)I" } : Jvm.MethodName)) ∈ lw_all := lw_g (lw_at lw_m8 123 rfl) rfl
theorem q1886 : (Jvm.Cond.code ({ cls := "MarketDaysModel", name := "soldBy", desc := "(IIIIII)I" } : Jvm.MethodName) prog_19_method_70_code (9 : Nat) (Option.some Jvm.ClassFile.FieldType.int)) ∈ lw_all := lw_g (lw_at lw_m8 124 rfl) rfl
theorem q1887 : (Jvm.Cond.methodLink "MarketDaysModel" (334 : Nat) ({ cls := "MarketDaysModel", name := "sold", desc := "(III)I" } : Jvm.MethodName)) ∈ lw_all := lw_g (lw_at lw_m8 125 rfl) rfl
theorem q1888 : (Jvm.Cond.privateMethod ({ cls := "MarketDaysModel", name := "sold", desc := "(III)I" } : Jvm.MethodName)) ∈ lw_tbl := lw_at lw_m8 126 rfl
theorem q1889 : (Jvm.Cond.instanceMethod ({ cls := "MarketDaysModel", name := "sold", desc := "(III)I" } : Jvm.MethodName)) ∈ lw_all := lw_g (lw_at lw_m8 127 rfl) rfl
theorem q1890 : (Jvm.Cond.code ({ cls := "MarketDaysModel", name := "sold", desc := "(III)I" } : Jvm.MethodName) prog_19_method_69_code (4 : Nat) (Option.some Jvm.ClassFile.FieldType.int)) ∈ lw_all := lw_g (lw_at lw_m8 128 rfl) rfl
theorem q1892 : (Jvm.Cond.instanceMethod ({ cls := "MarketDaysModel", name := "roundTold", desc := "(I)I" } : Jvm.MethodName)) ∈ lw_all := lw_g (lw_at lw_m8 130 rfl) rfl
theorem q1893 : (Jvm.Cond.selects "MarketDaysModel" ({ cls := "MarketDaysModel", name := "roundTold", desc := "(I)I" } : Jvm.MethodName) ({ cls := "MarketDaysModel", name := "roundTold", desc := "(I)I" } : Jvm.MethodName)) ∈ lw_all := lw_g (lw_at lw_m8 131 rfl) rfl
theorem q1894 : (Jvm.Cond.code ({ cls := "MarketDaysModel", name := "roundTold", desc := "(I)I" } : Jvm.MethodName) prog_19_method_72_code (2 : Nat) (Option.some Jvm.ClassFile.FieldType.int)) ∈ lw_all := lw_g (lw_at lw_m8 132 rfl) rfl
theorem q1896 : (Jvm.Cond.instanceMethod ({ cls := "MarketDaysModel", name := "walk", desc := "(IIIII)I" } : Jvm.MethodName)) ∈ lw_all := lw_g (lw_at lw_m8 134 rfl) rfl
theorem q1897 : (Jvm.Cond.selects "MarketDaysModel" ({ cls := "MarketDaysModel", name := "walk", desc := "(IIIII)I" } : Jvm.MethodName) ({ cls := "MarketDaysModel", name := "walk", desc := "(IIIII)I" } : Jvm.MethodName)) ∈ lw_all := lw_g (lw_at lw_m8 135 rfl) rfl
theorem q1898 : (Jvm.Cond.code ({ cls := "MarketDaysModel", name := "walk", desc := "(IIIII)I" } : Jvm.MethodName) prog_19_method_73_code (11 : Nat) (Option.some Jvm.ClassFile.FieldType.int)) ∈ lw_all := lw_g (lw_at lw_m8 136 rfl) rfl
theorem q1900 : (Jvm.Cond.instanceMethod ({ cls := "MarketDaysModel", name := "count", desc := "(I)I" } : Jvm.MethodName)) ∈ lw_all := lw_g (lw_at lw_m8 138 rfl) rfl
theorem q1901 : (Jvm.Cond.selects "MarketDaysModel" ({ cls := "MarketDaysModel", name := "count", desc := "(I)I" } : Jvm.MethodName) ({ cls := "MarketDaysModel", name := "count", desc := "(I)I" } : Jvm.MethodName)) ∈ lw_all := lw_g (lw_at lw_m8 139 rfl) rfl
theorem q1902 : (Jvm.Cond.code ({ cls := "MarketDaysModel", name := "count", desc := "(I)I" } : Jvm.MethodName) prog_19_method_74_code (2 : Nat) (Option.some Jvm.ClassFile.FieldType.int)) ∈ lw_all := lw_g (lw_at lw_m8 140 rfl) rfl
theorem q1904 : (Jvm.Cond.instanceMethod ({ cls := "MarketDaysModel", name := "image", desc := "()I" } : Jvm.MethodName)) ∈ lw_all := lw_g (lw_at lw_m8 142 rfl) rfl
theorem q1905 : (Jvm.Cond.selects "MarketDaysModel" ({ cls := "MarketDaysModel", name := "image", desc := "()I" } : Jvm.MethodName) ({ cls := "MarketDaysModel", name := "image", desc := "()I" } : Jvm.MethodName)) ∈ lw_all := lw_g (lw_at lw_m8 143 rfl) rfl
theorem q1906 : (Jvm.Cond.code ({ cls := "MarketDaysModel", name := "image", desc := "()I" } : Jvm.MethodName) prog_19_method_75_code (2 : Nat) (Option.some Jvm.ClassFile.FieldType.int)) ∈ lw_all := lw_g (lw_at lw_m8 144 rfl) rfl
theorem q1908 : (Jvm.Cond.instanceMethod ({ cls := "MarketDaysModel", name := "back", desc := "()I" } : Jvm.MethodName)) ∈ lw_all := lw_g (lw_at lw_m8 146 rfl) rfl
theorem q1909 : (Jvm.Cond.selects "MarketDaysModel" ({ cls := "MarketDaysModel", name := "back", desc := "()I" } : Jvm.MethodName) ({ cls := "MarketDaysModel", name := "back", desc := "()I" } : Jvm.MethodName)) ∈ lw_all := lw_g (lw_at lw_m8 147 rfl) rfl
theorem q1910 : (Jvm.Cond.code ({ cls := "MarketDaysModel", name := "back", desc := "()I" } : Jvm.MethodName) prog_19_method_76_code (3 : Nat) (Option.some Jvm.ClassFile.FieldType.int)) ∈ lw_all := lw_g (lw_at lw_m8 148 rfl) rfl
theorem q1912 : (Jvm.Cond.instanceMethod ({ cls := "MarketDaysModel", name := "sheet", desc := "(III)I" } : Jvm.MethodName)) ∈ lw_all := lw_g (lw_at lw_m8 150 rfl) rfl
theorem q1913 : (Jvm.Cond.selects "MarketDaysModel" ({ cls := "MarketDaysModel", name := "sheet", desc := "(III)I" } : Jvm.MethodName) ({ cls := "MarketDaysModel", name := "sheet", desc := "(III)I" } : Jvm.MethodName)) ∈ lw_all := lw_g (lw_at lw_m8 151 rfl) rfl
theorem q1914 : (Jvm.Cond.code ({ cls := "MarketDaysModel", name := "sheet", desc := "(III)I" } : Jvm.MethodName) prog_19_method_77_code (5 : Nat) (Option.some Jvm.ClassFile.FieldType.int)) ∈ lw_all := lw_g (lw_at lw_m8 152 rfl) rfl
theorem q1916 : (Jvm.Cond.instanceMethod ({ cls := "MarketDaysModel", name := "cell", desc := "(III)I" } : Jvm.MethodName)) ∈ lw_all := lw_g (lw_at lw_m8 154 rfl) rfl
theorem q1917 : (Jvm.Cond.selects "MarketDaysModel" ({ cls := "MarketDaysModel", name := "cell", desc := "(III)I" } : Jvm.MethodName) ({ cls := "MarketDaysModel", name := "cell", desc := "(III)I" } : Jvm.MethodName)) ∈ lw_all := lw_g (lw_at lw_m8 155 rfl) rfl
theorem q1918 : (Jvm.Cond.code ({ cls := "MarketDaysModel", name := "cell", desc := "(III)I" } : Jvm.MethodName) prog_19_method_78_code (4 : Nat) (Option.some Jvm.ClassFile.FieldType.int)) ∈ lw_all := lw_g (lw_at lw_m8 156 rfl) rfl
theorem q1920 : (Jvm.Cond.instanceMethod ({ cls := "MarketDaysModel", name := "copy", desc := "(IIIII)I" } : Jvm.MethodName)) ∈ lw_all := lw_g (lw_at lw_m8 158 rfl) rfl
theorem q1921 : (Jvm.Cond.selects "MarketDaysModel" ({ cls := "MarketDaysModel", name := "copy", desc := "(IIIII)I" } : Jvm.MethodName) ({ cls := "MarketDaysModel", name := "copy", desc := "(IIIII)I" } : Jvm.MethodName)) ∈ lw_all := lw_g (lw_at lw_m8 159 rfl) rfl
theorem q1922 : (Jvm.Cond.code ({ cls := "MarketDaysModel", name := "copy", desc := "(IIIII)I" } : Jvm.MethodName) prog_19_method_79_code (10 : Nat) (Option.some Jvm.ClassFile.FieldType.int)) ∈ lw_all := lw_g (lw_at lw_m8 160 rfl) rfl
theorem q1924 : (Jvm.Cond.instanceMethod ({ cls := "MarketDaysModel", name := "roads", desc := "(IIII)I" } : Jvm.MethodName)) ∈ lw_all := lw_g (lw_at lw_m8 162 rfl) rfl
theorem q1925 : (Jvm.Cond.selects "MarketDaysModel" ({ cls := "MarketDaysModel", name := "roads", desc := "(IIII)I" } : Jvm.MethodName) ({ cls := "MarketDaysModel", name := "roads", desc := "(IIII)I" } : Jvm.MethodName)) ∈ lw_all := lw_g (lw_at lw_m8 163 rfl) rfl
theorem q1926 : (Jvm.Cond.code ({ cls := "MarketDaysModel", name := "roads", desc := "(IIII)I" } : Jvm.MethodName) prog_19_method_80_code (9 : Nat) (Option.some Jvm.ClassFile.FieldType.int)) ∈ lw_all := lw_g (lw_at lw_m8 164 rfl) rfl
theorem q1927 : (Jvm.Cond.methodLink "MarketDaysModel" (359 : Nat) ({ cls := "MarketDaysModel", name := "road", desc := "(III)I" } : Jvm.MethodName)) ∈ lw_all := lw_g (lw_at lw_m8 165 rfl) rfl
theorem q1929 : (Jvm.Cond.instanceMethod ({ cls := "MarketDaysModel", name := "taken", desc := "(II)I" } : Jvm.MethodName)) ∈ lw_all := lw_g (lw_at lw_m8 167 rfl) rfl
theorem q1930 : (Jvm.Cond.selects "MarketDaysModel" ({ cls := "MarketDaysModel", name := "taken", desc := "(II)I" } : Jvm.MethodName) ({ cls := "MarketDaysModel", name := "taken", desc := "(II)I" } : Jvm.MethodName)) ∈ lw_all := lw_g (lw_at lw_m8 168 rfl) rfl
theorem q1931 : (Jvm.Cond.code ({ cls := "MarketDaysModel", name := "taken", desc := "(II)I" } : Jvm.MethodName) prog_19_method_82_code (3 : Nat) (Option.some Jvm.ClassFile.FieldType.int)) ∈ lw_all := lw_g (lw_at lw_m8 169 rfl) rfl
theorem q1932 : (Jvm.Cond.methodLink "MarketDaysModel" (361 : Nat) ({ cls := "MarketDaysModel", name := "isUnder", desc := "(II)Z" } : Jvm.MethodName)) ∈ lw_all := lw_g (lw_at lw_m8 170 rfl) rfl
theorem q1933 : (Jvm.Cond.static ({ cls := "MarketDaysModel", name := "isUnder", desc := "(II)Z" } : Jvm.MethodName)) ∈ lw_all := lw_g (lw_at lw_m8 171 rfl) rfl
theorem q1934 : (Jvm.Cond.code ({ cls := "MarketDaysModel", name := "isUnder", desc := "(II)Z" } : Jvm.MethodName) prog_19_method_81_code (2 : Nat) (Option.some Jvm.ClassFile.FieldType.boolean)) ∈ lw_all := lw_g (lw_at lw_m8 172 rfl) rfl
theorem q1965 : (Jvm.Cond.castable "MarketDaysModel" "java/lang/Object") ∈ lw_tbl := lw_at lw_m8 203 rfl
theorem in_X7 : ∀ w ∈ wsX70, w ∈ lw_all := lw_in wsX70 [1506, 1508, 1510, 1512, 1514, 1516, 1518, 1520, 1522, 1524, 1526, 1528, 1530, 1532, 1534, 1536, 1538, 1540, 1542, 1544, 1546, 1548, 1550, 1552, 1554, 1556, 1558, 1560, 1562, 1564, 1566, 1568, 1570, 1572, 1574, 1576, 1578, 1580, 1582, 1584, 1586, 1588, 1590, 1592, 1594, 1596, 1598, 1600, 1602, 1604, 1606, 1608, 1610, 1612, 1614, 1616] (by decide +kernel) (by decide +kernel)
