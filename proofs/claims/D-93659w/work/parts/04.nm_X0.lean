/-! MarketDays -/
set_option maxRecDepth 100000
def RX0 : String := "MarketDays"
def TX0 : u_T := fun k => match k with
  | 0 => ("MarketDays", "size", "[I", true)
  | 1 => ("MarketDays", "may", "[I", true)
  | 2 => ("MarketDays", "wish", "[I", true)
  | 3 => ("MarketDays", "behind", "[I", true)
  | 4 => ("MarketDays", "road", "[I", true)
  | 5 => ("MarketDays", "far", "[I", true)
  | 6 => ("MarketDays", "towns", "I", false)
  | 7 => ("MarketDays", "days", "I", false)
  | 8 => ("MarketDays", "feastWeek", "[I", true)
  | 9 => ("MarketDays", "feastDay", "[I", true)
  | 10 => ("MarketDays", "feasts", "I", false)
  | 11 => ("MarketDays", "givings", "Ljava/util/ArrayList;", true)
  | 12 => ("MarketDays", "names", "[I", true)
  | 13 => ("MarketDays", "rule", "I", false)
  | 14 => ("MarketDays", "had", "[I", true)
  | 15 => ("MarketDays", "some", "I", false)
  | 16 => ("MarketDays", "walked", "I", false)
  | 17 => ("MarketDays", "kept", "I", false)
  | 18 => ("MarketDays", "keptWorth", "J", false)
  | 19 => ("MarketDays", "row", "[B", true)
  | 20 => ("MarketDays", "keptRow", "[B", true)
  | 21 => ("MarketDays", "aim", "I", false)
  | 22 => ("MarketDays", "from", "LMarketDays$Giving;", false)
  | 23 => ("MarketDays", "table", "[I", true)
  | 24 => ("MarketDays", "found", "Z", false)
  | 25 => ("MarketDays", "foundTowns", "I", false)
  | 26 => ("MarketDays", "foundRow", "[B", true)
  | 27 => ("MarketDays", "sold", "[I", true)
  | 28 => ("MarketDays", "roundSize", "I", false)
  | 29 => ("MarketDays", "roundRow", "[I", true)
  | 30 => ("MarketDays", "keptMay", "[I", true)
  | 31 => ("MarketDays", "keptWish", "[I", true)
  | 32 => ("MarketDays", "keptBehind", "[I", true)
  | 33 => ("MarketDays", "keptRoad", "[I", true)
  | 34 => ("MarketDays", "keptTowns", "I", false)
  | 35 => ("MarketDays", "keptDays", "I", false)
  | 36 => ("MarketDays", "keptFeasts", "I", false)
  | 37 => ("MarketDays", "keptRule", "I", false)
  | 38 => ("MarketDays", "texts", "[[LMarketDays$Node;", true)
  | 39 => ("MarketDays", "textCount", "I", false)
  | 40 => ("MarketDays", "tape", "[B", true)
  | 41 => ("MarketDays", "taped", "I", false)
  | _ => ("MarketDays", "sheets", "[LMarketDays$Sheet;", true)
def tyX0 : Nat → FieldType := fun k => match k with
  | 0 => .array .int
  | 1 => .array .int
  | 2 => .array .int
  | 3 => .array .int
  | 4 => .array .int
  | 5 => .array .int
  | 6 => .int
  | 7 => .int
  | 8 => .array .int
  | 9 => .array .int
  | 10 => .int
  | 11 => .object "java/util/ArrayList"
  | 12 => .array .int
  | 13 => .int
  | 14 => .array .int
  | 15 => .int
  | 16 => .int
  | 17 => .int
  | 18 => .long
  | 19 => .array .byte
  | 20 => .array .byte
  | 21 => .int
  | 22 => .object "MarketDays$Giving"
  | 23 => .array .int
  | 24 => .boolean
  | 25 => .int
  | 26 => .array .byte
  | 27 => .array .int
  | 28 => .int
  | 29 => .array .int
  | 30 => .array .int
  | 31 => .array .int
  | 32 => .array .int
  | 33 => .array .int
  | 34 => .int
  | 35 => .int
  | 36 => .int
  | 37 => .int
  | 38 => .array (.array (.object "MarketDays$Node"))
  | 39 => .int
  | 40 => .array .byte
  | 41 => .int
  | _ => .array (.object "MarketDays$Sheet")
abbrev wsX00 : List Cond := u_ws RX0 TX0 43
set_option maxRecDepth 100000 in
theorem nmX0 : ∀ a, a < 43 → ∀ b, b < 43 → a ≠ b → (TX0 a).2.1 ≠ (TX0 b).2.1 := by decide +kernel
set_option maxRecDepth 100000 in
theorem tyX0_ok : ∀ k, k < 43 → parseFieldDescriptor (TX0 k).2.2.1 = some (tyX0 k) := by decide +kernel
abbrev cX0_init : ByteArray := prog_1_method_4_code
def yX0_init : MethodName := ⟨RX0, "<init>", "()V"⟩
def dkwX0_init_11 : List UInt8 := [18, 121, 184, 0, 123, 83, 42, 4, 181, 0, 127, 177]
abbrev dktX0_init_11 : List UInt8 := dkwX0_init_11 ++ []
def dkwX0_init_10 : List UInt8 := [89, 183, 0, 116, 83, 89, 6, 187, 0, 114, 89, 183, 0, 116, 83, 181, 0, 117, 42, 180, 0, 107, 3]
abbrev dktX0_init_10 : List UInt8 := dkwX0_init_10 ++ dktX0_init_11
def dkwX0_init_9 : List UInt8 := [3, 187, 0, 114, 89, 183, 0, 116, 83, 89, 4, 187, 0, 114, 89, 183, 0, 116, 83, 89, 5, 187, 0, 114]
abbrev dktX0_init_9 : List UInt8 := dkwX0_init_9 ++ dktX0_init_10
def dkwX0_init_8 : List UInt8 := [42, 16, 6, 189, 0, 105, 181, 0, 107, 42, 17, 0, 160, 188, 8, 181, 0, 111, 42, 7, 189, 0, 114, 89]
abbrev dktX0_init_8 : List UInt8 := dkwX0_init_8 ++ dktX0_init_9
def dkwX0_init_7 : List UInt8 := [181, 0, 93, 42, 16, 6, 188, 10, 181, 0, 96, 42, 16, 36, 188, 10, 181, 0, 99, 42, 2, 181, 0, 102]
abbrev dktX0_init_7 : List UInt8 := dkwX0_init_7 ++ dktX0_init_8
def dkwX0_init_6 : List UInt8 := [181, 0, 84, 42, 16, 7, 188, 10, 181, 0, 87, 42, 16, 6, 188, 10, 181, 0, 90, 42, 16, 6, 188, 10]
abbrev dktX0_init_6 : List UInt8 := dkwX0_init_6 ++ dktX0_init_7
def dkwX0_init_5 : List UInt8 := [17, 6, 228, 188, 10, 181, 0, 78, 42, 16, 6, 188, 8, 181, 0, 81, 42, 17, 7, 176, 188, 10]
abbrev dktX0_init_5 : List UInt8 := dkwX0_init_5 ++ dktX0_init_6
def dkwX0_init_4 : List UInt8 := [16, 6, 188, 10, 181, 0, 68, 42, 16, 6, 188, 8, 181, 0, 71, 42, 16, 6, 188, 8, 181, 0, 75, 42]
abbrev dktX0_init_4 : List UInt8 := dkwX0_init_4 ++ dktX0_init_5
def dkwX0_init_3 : List UInt8 := [181, 0, 55, 42, 187, 0, 58, 89, 183, 0, 60, 181, 0, 61, 42, 16, 6, 188, 10, 181, 0, 65, 42]
abbrev dktX0_init_3 : List UInt8 := dkwX0_init_3 ++ dktX0_init_4
def dkwX0_init_2 : List UInt8 := [188, 10, 181, 0, 45, 42, 16, 6, 181, 0, 48, 42, 16, 10, 188, 10, 181, 0, 52, 42, 16, 10, 188, 10]
abbrev dktX0_init_2 : List UInt8 := dkwX0_init_2 ++ dktX0_init_3
def dkwX0_init_1 : List UInt8 := [188, 10, 181, 0, 36, 42, 16, 6, 188, 10, 181, 0, 39, 42, 16, 36, 188, 10, 181, 0, 42, 42, 16, 36]
abbrev dktX0_init_1 : List UInt8 := dkwX0_init_1 ++ dktX0_init_2
def dkwX0_init_0 : List UInt8 := [42, 183, 0, 22, 42, 16, 6, 188, 10, 181, 0, 29, 42, 16, 6, 188, 10, 181, 0, 33, 42, 16, 6]
abbrev dktX0_init_0 : List UInt8 := dkwX0_init_0 ++ dktX0_init_1
theorem dksX0_init_0 : cX0_init.data.toList.drop 0 = dktX0_init_0 := by decide +kernel
theorem dksX0_init_1 : cX0_init.data.toList.drop 23 = dktX0_init_1 := dk_seg dksX0_init_0 23 rfl rfl
theorem dksX0_init_2 : cX0_init.data.toList.drop 47 = dktX0_init_2 := dk_seg dksX0_init_1 24 rfl rfl
theorem dksX0_init_3 : cX0_init.data.toList.drop 71 = dktX0_init_3 := dk_seg dksX0_init_2 24 rfl rfl
theorem dksX0_init_4 : cX0_init.data.toList.drop 94 = dktX0_init_4 := dk_seg dksX0_init_3 23 rfl rfl
theorem dksX0_init_5 : cX0_init.data.toList.drop 118 = dktX0_init_5 := dk_seg dksX0_init_4 24 rfl rfl
theorem dksX0_init_6 : cX0_init.data.toList.drop 140 = dktX0_init_6 := dk_seg dksX0_init_5 22 rfl rfl
theorem dksX0_init_7 : cX0_init.data.toList.drop 164 = dktX0_init_7 := dk_seg dksX0_init_6 24 rfl rfl
theorem dksX0_init_8 : cX0_init.data.toList.drop 188 = dktX0_init_8 := dk_seg dksX0_init_7 24 rfl rfl
theorem dksX0_init_9 : cX0_init.data.toList.drop 212 = dktX0_init_9 := dk_seg dksX0_init_8 24 rfl rfl
theorem dksX0_init_10 : cX0_init.data.toList.drop 236 = dktX0_init_10 := dk_seg dksX0_init_9 24 rfl rfl
theorem dksX0_init_11 : cX0_init.data.toList.drop 259 = dktX0_init_11 := dk_seg dksX0_init_10 23 rfl rfl
theorem dX0_init_0 : decode cX0_init 0 = .ok (.aload_n 0, 1) := dk_42 (dk_at dksX0_init_0 0 rfl rfl)
theorem dX0_init_1 : decode cX0_init 1 = .ok (.invokespecial 22, 3) := dk_183 0 22 (dk_at dksX0_init_0 1 rfl rfl)
theorem dX0_init_4 : decode cX0_init 4 = .ok (.aload_n 0, 1) := dk_42 (dk_at dksX0_init_0 4 rfl rfl)
theorem dX0_init_5 : decode cX0_init 5 = .ok (.bipush 6, 2) := dk_16 6 (dk_at dksX0_init_0 5 rfl rfl)
theorem dX0_init_7 : decode cX0_init 7 = .ok (.newarray .int, 2) := dk_188_10 (dk_at dksX0_init_0 7 rfl rfl)
theorem dX0_init_9 : decode cX0_init 9 = .ok (.putfield 29, 3) := dk_181 0 29 (dk_at dksX0_init_0 9 rfl rfl)
theorem dX0_init_12 : decode cX0_init 12 = .ok (.aload_n 0, 1) := dk_42 (dk_at dksX0_init_0 12 rfl rfl)
theorem dX0_init_13 : decode cX0_init 13 = .ok (.bipush 6, 2) := dk_16 6 (dk_at dksX0_init_0 13 rfl rfl)
theorem dX0_init_15 : decode cX0_init 15 = .ok (.newarray .int, 2) := dk_188_10 (dk_at dksX0_init_0 15 rfl rfl)
theorem dX0_init_17 : decode cX0_init 17 = .ok (.putfield 33, 3) := dk_181 0 33 (dk_at dksX0_init_0 17 rfl rfl)
theorem dX0_init_20 : decode cX0_init 20 = .ok (.aload_n 0, 1) := dk_42 (dk_at dksX0_init_0 20 rfl rfl)
theorem dX0_init_21 : decode cX0_init 21 = .ok (.bipush 6, 2) := dk_16 6 (dk_at dksX0_init_0 21 rfl rfl)
theorem dX0_init_23 : decode cX0_init 23 = .ok (.newarray .int, 2) := dk_188_10 (dk_at dksX0_init_1 0 rfl rfl)
theorem dX0_init_25 : decode cX0_init 25 = .ok (.putfield 36, 3) := dk_181 0 36 (dk_at dksX0_init_1 2 rfl rfl)
theorem dX0_init_28 : decode cX0_init 28 = .ok (.aload_n 0, 1) := dk_42 (dk_at dksX0_init_1 5 rfl rfl)
theorem dX0_init_29 : decode cX0_init 29 = .ok (.bipush 6, 2) := dk_16 6 (dk_at dksX0_init_1 6 rfl rfl)
theorem dX0_init_31 : decode cX0_init 31 = .ok (.newarray .int, 2) := dk_188_10 (dk_at dksX0_init_1 8 rfl rfl)
theorem dX0_init_33 : decode cX0_init 33 = .ok (.putfield 39, 3) := dk_181 0 39 (dk_at dksX0_init_1 10 rfl rfl)
theorem dX0_init_36 : decode cX0_init 36 = .ok (.aload_n 0, 1) := dk_42 (dk_at dksX0_init_1 13 rfl rfl)
theorem dX0_init_37 : decode cX0_init 37 = .ok (.bipush 36, 2) := dk_16 36 (dk_at dksX0_init_1 14 rfl rfl)
theorem dX0_init_39 : decode cX0_init 39 = .ok (.newarray .int, 2) := dk_188_10 (dk_at dksX0_init_1 16 rfl rfl)
theorem dX0_init_41 : decode cX0_init 41 = .ok (.putfield 42, 3) := dk_181 0 42 (dk_at dksX0_init_1 18 rfl rfl)
theorem dX0_init_44 : decode cX0_init 44 = .ok (.aload_n 0, 1) := dk_42 (dk_at dksX0_init_1 21 rfl rfl)
theorem dX0_init_45 : decode cX0_init 45 = .ok (.bipush 36, 2) := dk_16 36 (dk_at dksX0_init_1 22 rfl rfl)
theorem dX0_init_47 : decode cX0_init 47 = .ok (.newarray .int, 2) := dk_188_10 (dk_at dksX0_init_2 0 rfl rfl)
theorem dX0_init_49 : decode cX0_init 49 = .ok (.putfield 45, 3) := dk_181 0 45 (dk_at dksX0_init_2 2 rfl rfl)
theorem dX0_init_52 : decode cX0_init 52 = .ok (.aload_n 0, 1) := dk_42 (dk_at dksX0_init_2 5 rfl rfl)
theorem dX0_init_53 : decode cX0_init 53 = .ok (.bipush 6, 2) := dk_16 6 (dk_at dksX0_init_2 6 rfl rfl)
theorem dX0_init_55 : decode cX0_init 55 = .ok (.putfield 48, 3) := dk_181 0 48 (dk_at dksX0_init_2 8 rfl rfl)
theorem dX0_init_58 : decode cX0_init 58 = .ok (.aload_n 0, 1) := dk_42 (dk_at dksX0_init_2 11 rfl rfl)
theorem dX0_init_59 : decode cX0_init 59 = .ok (.bipush 10, 2) := dk_16 10 (dk_at dksX0_init_2 12 rfl rfl)
theorem dX0_init_61 : decode cX0_init 61 = .ok (.newarray .int, 2) := dk_188_10 (dk_at dksX0_init_2 14 rfl rfl)
theorem dX0_init_63 : decode cX0_init 63 = .ok (.putfield 52, 3) := dk_181 0 52 (dk_at dksX0_init_2 16 rfl rfl)
theorem dX0_init_66 : decode cX0_init 66 = .ok (.aload_n 0, 1) := dk_42 (dk_at dksX0_init_2 19 rfl rfl)
theorem dX0_init_67 : decode cX0_init 67 = .ok (.bipush 10, 2) := dk_16 10 (dk_at dksX0_init_2 20 rfl rfl)
theorem dX0_init_69 : decode cX0_init 69 = .ok (.newarray .int, 2) := dk_188_10 (dk_at dksX0_init_2 22 rfl rfl)
theorem dX0_init_71 : decode cX0_init 71 = .ok (.putfield 55, 3) := dk_181 0 55 (dk_at dksX0_init_3 0 rfl rfl)
theorem dX0_init_74 : decode cX0_init 74 = .ok (.aload_n 0, 1) := dk_42 (dk_at dksX0_init_3 3 rfl rfl)
theorem dX0_init_75 : decode cX0_init 75 = .ok (.new 58, 3) := dk_187 0 58 (dk_at dksX0_init_3 4 rfl rfl)
theorem dX0_init_78 : decode cX0_init 78 = .ok (.dup, 1) := dk_89 (dk_at dksX0_init_3 7 rfl rfl)
theorem dX0_init_79 : decode cX0_init 79 = .ok (.invokespecial 60, 3) := dk_183 0 60 (dk_at dksX0_init_3 8 rfl rfl)
theorem dX0_init_82 : decode cX0_init 82 = .ok (.putfield 61, 3) := dk_181 0 61 (dk_at dksX0_init_3 11 rfl rfl)
theorem dX0_init_85 : decode cX0_init 85 = .ok (.aload_n 0, 1) := dk_42 (dk_at dksX0_init_3 14 rfl rfl)
theorem dX0_init_86 : decode cX0_init 86 = .ok (.bipush 6, 2) := dk_16 6 (dk_at dksX0_init_3 15 rfl rfl)
theorem dX0_init_88 : decode cX0_init 88 = .ok (.newarray .int, 2) := dk_188_10 (dk_at dksX0_init_3 17 rfl rfl)
theorem dX0_init_90 : decode cX0_init 90 = .ok (.putfield 65, 3) := dk_181 0 65 (dk_at dksX0_init_3 19 rfl rfl)
theorem dX0_init_93 : decode cX0_init 93 = .ok (.aload_n 0, 1) := dk_42 (dk_at dksX0_init_3 22 rfl rfl)
theorem dX0_init_94 : decode cX0_init 94 = .ok (.bipush 6, 2) := dk_16 6 (dk_at dksX0_init_4 0 rfl rfl)
theorem dX0_init_96 : decode cX0_init 96 = .ok (.newarray .int, 2) := dk_188_10 (dk_at dksX0_init_4 2 rfl rfl)
theorem dX0_init_98 : decode cX0_init 98 = .ok (.putfield 68, 3) := dk_181 0 68 (dk_at dksX0_init_4 4 rfl rfl)
theorem dX0_init_101 : decode cX0_init 101 = .ok (.aload_n 0, 1) := dk_42 (dk_at dksX0_init_4 7 rfl rfl)
theorem dX0_init_102 : decode cX0_init 102 = .ok (.bipush 6, 2) := dk_16 6 (dk_at dksX0_init_4 8 rfl rfl)
theorem dX0_init_104 : decode cX0_init 104 = .ok (.newarray .byte, 2) := dk_188_8 (dk_at dksX0_init_4 10 rfl rfl)
theorem dX0_init_106 : decode cX0_init 106 = .ok (.putfield 71, 3) := dk_181 0 71 (dk_at dksX0_init_4 12 rfl rfl)
theorem dX0_init_109 : decode cX0_init 109 = .ok (.aload_n 0, 1) := dk_42 (dk_at dksX0_init_4 15 rfl rfl)
theorem dX0_init_110 : decode cX0_init 110 = .ok (.bipush 6, 2) := dk_16 6 (dk_at dksX0_init_4 16 rfl rfl)
theorem dX0_init_112 : decode cX0_init 112 = .ok (.newarray .byte, 2) := dk_188_8 (dk_at dksX0_init_4 18 rfl rfl)
theorem dX0_init_114 : decode cX0_init 114 = .ok (.putfield 75, 3) := dk_181 0 75 (dk_at dksX0_init_4 20 rfl rfl)
theorem dX0_init_117 : decode cX0_init 117 = .ok (.aload_n 0, 1) := dk_42 (dk_at dksX0_init_4 23 rfl rfl)
theorem dX0_init_118 : decode cX0_init 118 = .ok (.sipush 1764, 3) := dk_17 6 228 (dk_at dksX0_init_5 0 rfl rfl)
theorem dX0_init_121 : decode cX0_init 121 = .ok (.newarray .int, 2) := dk_188_10 (dk_at dksX0_init_5 3 rfl rfl)
theorem dX0_init_123 : decode cX0_init 123 = .ok (.putfield 78, 3) := dk_181 0 78 (dk_at dksX0_init_5 5 rfl rfl)
theorem dX0_init_126 : decode cX0_init 126 = .ok (.aload_n 0, 1) := dk_42 (dk_at dksX0_init_5 8 rfl rfl)
theorem dX0_init_127 : decode cX0_init 127 = .ok (.bipush 6, 2) := dk_16 6 (dk_at dksX0_init_5 9 rfl rfl)
theorem dX0_init_129 : decode cX0_init 129 = .ok (.newarray .byte, 2) := dk_188_8 (dk_at dksX0_init_5 11 rfl rfl)
theorem dX0_init_131 : decode cX0_init 131 = .ok (.putfield 81, 3) := dk_181 0 81 (dk_at dksX0_init_5 13 rfl rfl)
theorem dX0_init_134 : decode cX0_init 134 = .ok (.aload_n 0, 1) := dk_42 (dk_at dksX0_init_5 16 rfl rfl)
theorem dX0_init_135 : decode cX0_init 135 = .ok (.sipush 1968, 3) := dk_17 7 176 (dk_at dksX0_init_5 17 rfl rfl)
theorem dX0_init_138 : decode cX0_init 138 = .ok (.newarray .int, 2) := dk_188_10 (dk_at dksX0_init_5 20 rfl rfl)
theorem dX0_init_140 : decode cX0_init 140 = .ok (.putfield 84, 3) := dk_181 0 84 (dk_at dksX0_init_6 0 rfl rfl)
theorem dX0_init_143 : decode cX0_init 143 = .ok (.aload_n 0, 1) := dk_42 (dk_at dksX0_init_6 3 rfl rfl)
theorem dX0_init_144 : decode cX0_init 144 = .ok (.bipush 7, 2) := dk_16 7 (dk_at dksX0_init_6 4 rfl rfl)
theorem dX0_init_146 : decode cX0_init 146 = .ok (.newarray .int, 2) := dk_188_10 (dk_at dksX0_init_6 6 rfl rfl)
theorem dX0_init_148 : decode cX0_init 148 = .ok (.putfield 87, 3) := dk_181 0 87 (dk_at dksX0_init_6 8 rfl rfl)
theorem dX0_init_151 : decode cX0_init 151 = .ok (.aload_n 0, 1) := dk_42 (dk_at dksX0_init_6 11 rfl rfl)
theorem dX0_init_152 : decode cX0_init 152 = .ok (.bipush 6, 2) := dk_16 6 (dk_at dksX0_init_6 12 rfl rfl)
theorem dX0_init_154 : decode cX0_init 154 = .ok (.newarray .int, 2) := dk_188_10 (dk_at dksX0_init_6 14 rfl rfl)
theorem dX0_init_156 : decode cX0_init 156 = .ok (.putfield 90, 3) := dk_181 0 90 (dk_at dksX0_init_6 16 rfl rfl)
theorem dX0_init_159 : decode cX0_init 159 = .ok (.aload_n 0, 1) := dk_42 (dk_at dksX0_init_6 19 rfl rfl)
theorem dX0_init_160 : decode cX0_init 160 = .ok (.bipush 6, 2) := dk_16 6 (dk_at dksX0_init_6 20 rfl rfl)
theorem dX0_init_162 : decode cX0_init 162 = .ok (.newarray .int, 2) := dk_188_10 (dk_at dksX0_init_6 22 rfl rfl)
theorem dX0_init_164 : decode cX0_init 164 = .ok (.putfield 93, 3) := dk_181 0 93 (dk_at dksX0_init_7 0 rfl rfl)
theorem dX0_init_167 : decode cX0_init 167 = .ok (.aload_n 0, 1) := dk_42 (dk_at dksX0_init_7 3 rfl rfl)
theorem dX0_init_168 : decode cX0_init 168 = .ok (.bipush 6, 2) := dk_16 6 (dk_at dksX0_init_7 4 rfl rfl)
theorem dX0_init_170 : decode cX0_init 170 = .ok (.newarray .int, 2) := dk_188_10 (dk_at dksX0_init_7 6 rfl rfl)
theorem dX0_init_172 : decode cX0_init 172 = .ok (.putfield 96, 3) := dk_181 0 96 (dk_at dksX0_init_7 8 rfl rfl)
theorem dX0_init_175 : decode cX0_init 175 = .ok (.aload_n 0, 1) := dk_42 (dk_at dksX0_init_7 11 rfl rfl)
theorem dX0_init_176 : decode cX0_init 176 = .ok (.bipush 36, 2) := dk_16 36 (dk_at dksX0_init_7 12 rfl rfl)
theorem dX0_init_178 : decode cX0_init 178 = .ok (.newarray .int, 2) := dk_188_10 (dk_at dksX0_init_7 14 rfl rfl)
theorem dX0_init_180 : decode cX0_init 180 = .ok (.putfield 99, 3) := dk_181 0 99 (dk_at dksX0_init_7 16 rfl rfl)
theorem dX0_init_183 : decode cX0_init 183 = .ok (.aload_n 0, 1) := dk_42 (dk_at dksX0_init_7 19 rfl rfl)
theorem dX0_init_184 : decode cX0_init 184 = .ok (.iconst (-1), 1) := dk_2 (dk_at dksX0_init_7 20 rfl rfl)
theorem dX0_init_185 : decode cX0_init 185 = .ok (.putfield 102, 3) := dk_181 0 102 (dk_at dksX0_init_7 21 rfl rfl)
theorem dX0_init_188 : decode cX0_init 188 = .ok (.aload_n 0, 1) := dk_42 (dk_at dksX0_init_8 0 rfl rfl)
theorem dX0_init_189 : decode cX0_init 189 = .ok (.bipush 6, 2) := dk_16 6 (dk_at dksX0_init_8 1 rfl rfl)
theorem dX0_init_191 : decode cX0_init 191 = .ok (.anewarray 105, 3) := dk_189 0 105 (dk_at dksX0_init_8 3 rfl rfl)
theorem dX0_init_194 : decode cX0_init 194 = .ok (.putfield 107, 3) := dk_181 0 107 (dk_at dksX0_init_8 6 rfl rfl)
theorem dX0_init_197 : decode cX0_init 197 = .ok (.aload_n 0, 1) := dk_42 (dk_at dksX0_init_8 9 rfl rfl)
theorem dX0_init_198 : decode cX0_init 198 = .ok (.sipush 160, 3) := dk_17 0 160 (dk_at dksX0_init_8 10 rfl rfl)
theorem dX0_init_201 : decode cX0_init 201 = .ok (.newarray .byte, 2) := dk_188_8 (dk_at dksX0_init_8 13 rfl rfl)
theorem dX0_init_203 : decode cX0_init 203 = .ok (.putfield 111, 3) := dk_181 0 111 (dk_at dksX0_init_8 15 rfl rfl)
theorem dX0_init_206 : decode cX0_init 206 = .ok (.aload_n 0, 1) := dk_42 (dk_at dksX0_init_8 18 rfl rfl)
theorem dX0_init_207 : decode cX0_init 207 = .ok (.iconst 4, 1) := dk_7 (dk_at dksX0_init_8 19 rfl rfl)
theorem dX0_init_208 : decode cX0_init 208 = .ok (.anewarray 114, 3) := dk_189 0 114 (dk_at dksX0_init_8 20 rfl rfl)
theorem dX0_init_211 : decode cX0_init 211 = .ok (.dup, 1) := dk_89 (dk_at dksX0_init_8 23 rfl rfl)
theorem dX0_init_212 : decode cX0_init 212 = .ok (.iconst 0, 1) := dk_3 (dk_at dksX0_init_9 0 rfl rfl)
theorem dX0_init_213 : decode cX0_init 213 = .ok (.new 114, 3) := dk_187 0 114 (dk_at dksX0_init_9 1 rfl rfl)
theorem dX0_init_216 : decode cX0_init 216 = .ok (.dup, 1) := dk_89 (dk_at dksX0_init_9 4 rfl rfl)
theorem dX0_init_217 : decode cX0_init 217 = .ok (.invokespecial 116, 3) := dk_183 0 116 (dk_at dksX0_init_9 5 rfl rfl)
theorem dX0_init_220 : decode cX0_init 220 = .ok (.aastore, 1) := dk_83 (dk_at dksX0_init_9 8 rfl rfl)
theorem dX0_init_221 : decode cX0_init 221 = .ok (.dup, 1) := dk_89 (dk_at dksX0_init_9 9 rfl rfl)
theorem dX0_init_222 : decode cX0_init 222 = .ok (.iconst 1, 1) := dk_4 (dk_at dksX0_init_9 10 rfl rfl)
theorem dX0_init_223 : decode cX0_init 223 = .ok (.new 114, 3) := dk_187 0 114 (dk_at dksX0_init_9 11 rfl rfl)
theorem dX0_init_226 : decode cX0_init 226 = .ok (.dup, 1) := dk_89 (dk_at dksX0_init_9 14 rfl rfl)
theorem dX0_init_227 : decode cX0_init 227 = .ok (.invokespecial 116, 3) := dk_183 0 116 (dk_at dksX0_init_9 15 rfl rfl)
theorem dX0_init_230 : decode cX0_init 230 = .ok (.aastore, 1) := dk_83 (dk_at dksX0_init_9 18 rfl rfl)
theorem dX0_init_231 : decode cX0_init 231 = .ok (.dup, 1) := dk_89 (dk_at dksX0_init_9 19 rfl rfl)
theorem dX0_init_232 : decode cX0_init 232 = .ok (.iconst 2, 1) := dk_5 (dk_at dksX0_init_9 20 rfl rfl)
theorem dX0_init_233 : decode cX0_init 233 = .ok (.new 114, 3) := dk_187 0 114 (dk_at dksX0_init_9 21 rfl rfl)
theorem dX0_init_236 : decode cX0_init 236 = .ok (.dup, 1) := dk_89 (dk_at dksX0_init_10 0 rfl rfl)
theorem dX0_init_237 : decode cX0_init 237 = .ok (.invokespecial 116, 3) := dk_183 0 116 (dk_at dksX0_init_10 1 rfl rfl)
theorem dX0_init_240 : decode cX0_init 240 = .ok (.aastore, 1) := dk_83 (dk_at dksX0_init_10 4 rfl rfl)
theorem dX0_init_241 : decode cX0_init 241 = .ok (.dup, 1) := dk_89 (dk_at dksX0_init_10 5 rfl rfl)
theorem dX0_init_242 : decode cX0_init 242 = .ok (.iconst 3, 1) := dk_6 (dk_at dksX0_init_10 6 rfl rfl)
theorem dX0_init_243 : decode cX0_init 243 = .ok (.new 114, 3) := dk_187 0 114 (dk_at dksX0_init_10 7 rfl rfl)
theorem dX0_init_246 : decode cX0_init 246 = .ok (.dup, 1) := dk_89 (dk_at dksX0_init_10 10 rfl rfl)
theorem dX0_init_247 : decode cX0_init 247 = .ok (.invokespecial 116, 3) := dk_183 0 116 (dk_at dksX0_init_10 11 rfl rfl)
theorem dX0_init_250 : decode cX0_init 250 = .ok (.aastore, 1) := dk_83 (dk_at dksX0_init_10 14 rfl rfl)
theorem dX0_init_251 : decode cX0_init 251 = .ok (.putfield 117, 3) := dk_181 0 117 (dk_at dksX0_init_10 15 rfl rfl)
theorem dX0_init_254 : decode cX0_init 254 = .ok (.aload_n 0, 1) := dk_42 (dk_at dksX0_init_10 18 rfl rfl)
theorem dX0_init_255 : decode cX0_init 255 = .ok (.getfield 107, 3) := dk_180 0 107 (dk_at dksX0_init_10 19 rfl rfl)
theorem dX0_init_258 : decode cX0_init 258 = .ok (.iconst 0, 1) := dk_3 (dk_at dksX0_init_10 22 rfl rfl)
theorem dX0_init_259 : decode cX0_init 259 = .ok (.ldc 121, 2) := dk_18 121 (dk_at dksX0_init_11 0 rfl rfl)
theorem dX0_init_261 : decode cX0_init 261 = .ok (.invokestatic 123, 3) := dk_184 0 123 (dk_at dksX0_init_11 2 rfl rfl)
theorem dX0_init_264 : decode cX0_init 264 = .ok (.aastore, 1) := dk_83 (dk_at dksX0_init_11 5 rfl rfl)
theorem dX0_init_265 : decode cX0_init 265 = .ok (.aload_n 0, 1) := dk_42 (dk_at dksX0_init_11 6 rfl rfl)
theorem dX0_init_266 : decode cX0_init 266 = .ok (.iconst 1, 1) := dk_4 (dk_at dksX0_init_11 7 rfl rfl)
theorem dX0_init_267 : decode cX0_init 267 = .ok (.putfield 127, 3) := dk_181 0 127 (dk_at dksX0_init_11 8 rfl rfl)
theorem dX0_init_270 : decode cX0_init 270 = .ok (.return_, 1) := dk_177 (dk_at dksX0_init_11 11 rfl rfl)
abbrev cX0_read : ByteArray := prog_1_method_61_code
def yX0_read : MethodName := ⟨RX0, "read", "(Ljava/lang/String;)[LMarketDays$Node;"⟩
def dkwX0_read_1 : List UInt8 := [132, 2, 1, 167, 255, 238, 187, 1, 142, 89, 43, 43, 190, 183, 1, 144, 182, 1, 147, 176]
abbrev dktX0_read_1 : List UInt8 := dkwX0_read_1 ++ []
def dkwX0_read_0 : List UInt8 := [42, 182, 1, 133, 188, 8, 76, 3, 61, 28, 43, 190, 162, 0, 18, 43, 28, 42, 28, 182, 1, 138, 145, 84]
abbrev dktX0_read_0 : List UInt8 := dkwX0_read_0 ++ dktX0_read_1
theorem dksX0_read_0 : cX0_read.data.toList.drop 0 = dktX0_read_0 := by decide +kernel
theorem dksX0_read_1 : cX0_read.data.toList.drop 24 = dktX0_read_1 := dk_seg dksX0_read_0 24 rfl rfl
theorem dX0_read_0 : decode cX0_read 0 = .ok (.aload_n 0, 1) := dk_42 (dk_at dksX0_read_0 0 rfl rfl)
theorem dX0_read_1 : decode cX0_read 1 = .ok (.invokevirtual 389, 3) := dk_182 1 133 (dk_at dksX0_read_0 1 rfl rfl)
theorem dX0_read_4 : decode cX0_read 4 = .ok (.newarray .byte, 2) := dk_188_8 (dk_at dksX0_read_0 4 rfl rfl)
theorem dX0_read_6 : decode cX0_read 6 = .ok (.astore_n 1, 1) := dk_76 (dk_at dksX0_read_0 6 rfl rfl)
theorem dX0_read_7 : decode cX0_read 7 = .ok (.iconst 0, 1) := dk_3 (dk_at dksX0_read_0 7 rfl rfl)
theorem dX0_read_8 : decode cX0_read 8 = .ok (.istore_n 2, 1) := dk_61 (dk_at dksX0_read_0 8 rfl rfl)
theorem dX0_read_9 : decode cX0_read 9 = .ok (.iload_n 2, 1) := dk_28 (dk_at dksX0_read_0 9 rfl rfl)
theorem dX0_read_10 : decode cX0_read 10 = .ok (.aload_n 1, 1) := dk_43 (dk_at dksX0_read_0 10 rfl rfl)
theorem dX0_read_11 : decode cX0_read 11 = .ok (.arraylength, 1) := dk_190 (dk_at dksX0_read_0 11 rfl rfl)
theorem dX0_read_12 : decode cX0_read 12 = .ok (.if_icmp .ge 18, 3) := dk_162 0 18 (dk_at dksX0_read_0 12 rfl rfl)
theorem dX0_read_15 : decode cX0_read 15 = .ok (.aload_n 1, 1) := dk_43 (dk_at dksX0_read_0 15 rfl rfl)
theorem dX0_read_16 : decode cX0_read 16 = .ok (.iload_n 2, 1) := dk_28 (dk_at dksX0_read_0 16 rfl rfl)
theorem dX0_read_17 : decode cX0_read 17 = .ok (.aload_n 0, 1) := dk_42 (dk_at dksX0_read_0 17 rfl rfl)
theorem dX0_read_18 : decode cX0_read 18 = .ok (.iload_n 2, 1) := dk_28 (dk_at dksX0_read_0 18 rfl rfl)
theorem dX0_read_19 : decode cX0_read 19 = .ok (.invokevirtual 394, 3) := dk_182 1 138 (dk_at dksX0_read_0 19 rfl rfl)
theorem dX0_read_22 : decode cX0_read 22 = .ok (.i2b, 1) := dk_145 (dk_at dksX0_read_0 22 rfl rfl)
theorem dX0_read_23 : decode cX0_read 23 = .ok (.bastore, 1) := dk_84 (dk_at dksX0_read_0 23 rfl rfl)
theorem dX0_read_24 : decode cX0_read 24 = .ok (.iinc 2 1, 3) := dk_132 2 1 (dk_at dksX0_read_1 0 rfl rfl)
theorem dX0_read_27 : decode cX0_read 27 = .ok (.goto (-18), 3) := dk_167 255 238 (dk_at dksX0_read_1 3 rfl rfl)
theorem dX0_read_30 : decode cX0_read 30 = .ok (.new 398, 3) := dk_187 1 142 (dk_at dksX0_read_1 6 rfl rfl)
theorem dX0_read_33 : decode cX0_read 33 = .ok (.dup, 1) := dk_89 (dk_at dksX0_read_1 9 rfl rfl)
theorem dX0_read_34 : decode cX0_read 34 = .ok (.aload_n 1, 1) := dk_43 (dk_at dksX0_read_1 10 rfl rfl)
theorem dX0_read_35 : decode cX0_read 35 = .ok (.aload_n 1, 1) := dk_43 (dk_at dksX0_read_1 11 rfl rfl)
theorem dX0_read_36 : decode cX0_read 36 = .ok (.arraylength, 1) := dk_190 (dk_at dksX0_read_1 12 rfl rfl)
theorem dX0_read_37 : decode cX0_read 37 = .ok (.invokespecial 400, 3) := dk_183 1 144 (dk_at dksX0_read_1 13 rfl rfl)
theorem dX0_read_40 : decode cX0_read 40 = .ok (.invokevirtual 403, 3) := dk_182 1 147 (dk_at dksX0_read_1 16 rfl rfl)
theorem dX0_read_43 : decode cX0_read 43 = .ok (.areturn, 1) := dk_176 (dk_at dksX0_read_1 19 rfl rfl)
abbrev cX0_in : ByteArray := prog_1_method_1_code
def yX0_in : MethodName := ⟨RX0, "in", "(JJJ)Z"⟩
def dkwX0_in_0 : List UInt8 := [30, 32, 148, 155, 0, 14, 30, 22, 4, 148, 157, 0, 7, 4, 167, 0, 4, 3, 172]
abbrev dktX0_in_0 : List UInt8 := dkwX0_in_0 ++ []
theorem dksX0_in_0 : cX0_in.data.toList.drop 0 = dktX0_in_0 := by decide +kernel
theorem dX0_in_0 : decode cX0_in 0 = .ok (.lload_n 0, 1) := dk_30 (dk_at dksX0_in_0 0 rfl rfl)
theorem dX0_in_1 : decode cX0_in 1 = .ok (.lload_n 2, 1) := dk_32 (dk_at dksX0_in_0 1 rfl rfl)
theorem dX0_in_2 : decode cX0_in 2 = .ok (.lcmp, 1) := dk_148 (dk_at dksX0_in_0 2 rfl rfl)
theorem dX0_in_3 : decode cX0_in 3 = .ok (.ifCond .lt 14, 3) := dk_155 0 14 (dk_at dksX0_in_0 3 rfl rfl)
theorem dX0_in_6 : decode cX0_in 6 = .ok (.lload_n 0, 1) := dk_30 (dk_at dksX0_in_0 6 rfl rfl)
theorem dX0_in_7 : decode cX0_in 7 = .ok (.lload 4, 2) := dk_22 4 (dk_at dksX0_in_0 7 rfl rfl)
theorem dX0_in_9 : decode cX0_in 9 = .ok (.lcmp, 1) := dk_148 (dk_at dksX0_in_0 9 rfl rfl)
theorem dX0_in_10 : decode cX0_in 10 = .ok (.ifCond .gt 7, 3) := dk_157 0 7 (dk_at dksX0_in_0 10 rfl rfl)
theorem dX0_in_13 : decode cX0_in 13 = .ok (.iconst 1, 1) := dk_4 (dk_at dksX0_in_0 13 rfl rfl)
theorem dX0_in_14 : decode cX0_in 14 = .ok (.goto 4, 3) := dk_167 0 4 (dk_at dksX0_in_0 14 rfl rfl)
theorem dX0_in_17 : decode cX0_in 17 = .ok (.iconst 0, 1) := dk_3 (dk_at dksX0_in_0 17 rfl rfl)
theorem dX0_in_18 : decode cX0_in 18 = .ok (.ireturn, 1) := dk_172 (dk_at dksX0_in_0 18 rfl rfl)
abbrev cX0_town : ByteArray := prog_1_method_9_code
def yX0_town : MethodName := ⟨RX0, "town", "(I)I"⟩
def dkwX0_town_3 : List UInt8 := [180, 0, 130, 4, 96, 181, 0, 130, 42, 182, 0, 142, 42, 180, 0, 130, 4, 100, 172]
abbrev dktX0_town_3 : List UInt8 := dkwX0_town_3 ++ []
def dkwX0_town_2 : List UInt8 := [42, 180, 0, 36, 42, 180, 0, 130, 2, 79, 42, 180, 0, 39, 42, 180, 0, 130, 2, 79, 42, 89]
abbrev dktX0_town_2 : List UInt8 := dkwX0_town_2 ++ dktX0_town_3
def dkwX0_town_1 : List UInt8 := [16, 252, 172, 42, 180, 0, 29, 42, 180, 0, 130, 27, 79, 42, 180, 0, 33, 42, 180, 0, 130, 16, 127, 79]
abbrev dktX0_town_1 : List UInt8 := dkwX0_town_1 ++ dktX0_town_2
def dkwX0_town_0 : List UInt8 := [27, 133, 9, 20, 0, 140, 184, 0, 133, 154, 0, 6, 16, 254, 172, 42, 180, 0, 130, 16, 6, 160, 0, 6]
abbrev dktX0_town_0 : List UInt8 := dkwX0_town_0 ++ dktX0_town_1
theorem dksX0_town_0 : cX0_town.data.toList.drop 0 = dktX0_town_0 := by decide +kernel
theorem dksX0_town_1 : cX0_town.data.toList.drop 24 = dktX0_town_1 := dk_seg dksX0_town_0 24 rfl rfl
theorem dksX0_town_2 : cX0_town.data.toList.drop 48 = dktX0_town_2 := dk_seg dksX0_town_1 24 rfl rfl
theorem dksX0_town_3 : cX0_town.data.toList.drop 70 = dktX0_town_3 := dk_seg dksX0_town_2 22 rfl rfl
theorem dX0_town_0 : decode cX0_town 0 = .ok (.iload_n 1, 1) := dk_27 (dk_at dksX0_town_0 0 rfl rfl)
theorem dX0_town_1 : decode cX0_town 1 = .ok (.i2l, 1) := dk_133 (dk_at dksX0_town_0 1 rfl rfl)
theorem dX0_town_2 : decode cX0_town 2 = .ok (.lconst 0, 1) := dk_9 (dk_at dksX0_town_0 2 rfl rfl)
theorem dX0_town_3 : decode cX0_town 3 = .ok (.ldc2_w 140, 3) := dk_20 0 140 (dk_at dksX0_town_0 3 rfl rfl)
theorem dX0_town_6 : decode cX0_town 6 = .ok (.invokestatic 133, 3) := dk_184 0 133 (dk_at dksX0_town_0 6 rfl rfl)
theorem dX0_town_9 : decode cX0_town 9 = .ok (.ifCond .ne 6, 3) := dk_154 0 6 (dk_at dksX0_town_0 9 rfl rfl)
theorem dX0_town_12 : decode cX0_town 12 = .ok (.bipush (-2), 2) := dk_16 254 (dk_at dksX0_town_0 12 rfl rfl)
theorem dX0_town_14 : decode cX0_town 14 = .ok (.ireturn, 1) := dk_172 (dk_at dksX0_town_0 14 rfl rfl)
theorem dX0_town_15 : decode cX0_town 15 = .ok (.aload_n 0, 1) := dk_42 (dk_at dksX0_town_0 15 rfl rfl)
theorem dX0_town_16 : decode cX0_town 16 = .ok (.getfield 130, 3) := dk_180 0 130 (dk_at dksX0_town_0 16 rfl rfl)
theorem dX0_town_19 : decode cX0_town 19 = .ok (.bipush 6, 2) := dk_16 6 (dk_at dksX0_town_0 19 rfl rfl)
theorem dX0_town_21 : decode cX0_town 21 = .ok (.if_icmp .ne 6, 3) := dk_160 0 6 (dk_at dksX0_town_0 21 rfl rfl)
theorem dX0_town_24 : decode cX0_town 24 = .ok (.bipush (-4), 2) := dk_16 252 (dk_at dksX0_town_1 0 rfl rfl)
theorem dX0_town_26 : decode cX0_town 26 = .ok (.ireturn, 1) := dk_172 (dk_at dksX0_town_1 2 rfl rfl)
theorem dX0_town_27 : decode cX0_town 27 = .ok (.aload_n 0, 1) := dk_42 (dk_at dksX0_town_1 3 rfl rfl)
theorem dX0_town_28 : decode cX0_town 28 = .ok (.getfield 29, 3) := dk_180 0 29 (dk_at dksX0_town_1 4 rfl rfl)
theorem dX0_town_31 : decode cX0_town 31 = .ok (.aload_n 0, 1) := dk_42 (dk_at dksX0_town_1 7 rfl rfl)
theorem dX0_town_32 : decode cX0_town 32 = .ok (.getfield 130, 3) := dk_180 0 130 (dk_at dksX0_town_1 8 rfl rfl)
theorem dX0_town_35 : decode cX0_town 35 = .ok (.iload_n 1, 1) := dk_27 (dk_at dksX0_town_1 11 rfl rfl)
theorem dX0_town_36 : decode cX0_town 36 = .ok (.iastore, 1) := dk_79 (dk_at dksX0_town_1 12 rfl rfl)
theorem dX0_town_37 : decode cX0_town 37 = .ok (.aload_n 0, 1) := dk_42 (dk_at dksX0_town_1 13 rfl rfl)
theorem dX0_town_38 : decode cX0_town 38 = .ok (.getfield 33, 3) := dk_180 0 33 (dk_at dksX0_town_1 14 rfl rfl)
theorem dX0_town_41 : decode cX0_town 41 = .ok (.aload_n 0, 1) := dk_42 (dk_at dksX0_town_1 17 rfl rfl)
theorem dX0_town_42 : decode cX0_town 42 = .ok (.getfield 130, 3) := dk_180 0 130 (dk_at dksX0_town_1 18 rfl rfl)
theorem dX0_town_45 : decode cX0_town 45 = .ok (.bipush 127, 2) := dk_16 127 (dk_at dksX0_town_1 21 rfl rfl)
theorem dX0_town_47 : decode cX0_town 47 = .ok (.iastore, 1) := dk_79 (dk_at dksX0_town_1 23 rfl rfl)
theorem dX0_town_48 : decode cX0_town 48 = .ok (.aload_n 0, 1) := dk_42 (dk_at dksX0_town_2 0 rfl rfl)
theorem dX0_town_49 : decode cX0_town 49 = .ok (.getfield 36, 3) := dk_180 0 36 (dk_at dksX0_town_2 1 rfl rfl)
theorem dX0_town_52 : decode cX0_town 52 = .ok (.aload_n 0, 1) := dk_42 (dk_at dksX0_town_2 4 rfl rfl)
theorem dX0_town_53 : decode cX0_town 53 = .ok (.getfield 130, 3) := dk_180 0 130 (dk_at dksX0_town_2 5 rfl rfl)
theorem dX0_town_56 : decode cX0_town 56 = .ok (.iconst (-1), 1) := dk_2 (dk_at dksX0_town_2 8 rfl rfl)
theorem dX0_town_57 : decode cX0_town 57 = .ok (.iastore, 1) := dk_79 (dk_at dksX0_town_2 9 rfl rfl)
theorem dX0_town_58 : decode cX0_town 58 = .ok (.aload_n 0, 1) := dk_42 (dk_at dksX0_town_2 10 rfl rfl)
theorem dX0_town_59 : decode cX0_town 59 = .ok (.getfield 39, 3) := dk_180 0 39 (dk_at dksX0_town_2 11 rfl rfl)
theorem dX0_town_62 : decode cX0_town 62 = .ok (.aload_n 0, 1) := dk_42 (dk_at dksX0_town_2 14 rfl rfl)
theorem dX0_town_63 : decode cX0_town 63 = .ok (.getfield 130, 3) := dk_180 0 130 (dk_at dksX0_town_2 15 rfl rfl)
theorem dX0_town_66 : decode cX0_town 66 = .ok (.iconst (-1), 1) := dk_2 (dk_at dksX0_town_2 18 rfl rfl)
theorem dX0_town_67 : decode cX0_town 67 = .ok (.iastore, 1) := dk_79 (dk_at dksX0_town_2 19 rfl rfl)
theorem dX0_town_68 : decode cX0_town 68 = .ok (.aload_n 0, 1) := dk_42 (dk_at dksX0_town_2 20 rfl rfl)
theorem dX0_town_69 : decode cX0_town 69 = .ok (.dup, 1) := dk_89 (dk_at dksX0_town_2 21 rfl rfl)
theorem dX0_town_70 : decode cX0_town 70 = .ok (.getfield 130, 3) := dk_180 0 130 (dk_at dksX0_town_3 0 rfl rfl)
theorem dX0_town_73 : decode cX0_town 73 = .ok (.iconst 1, 1) := dk_4 (dk_at dksX0_town_3 3 rfl rfl)
theorem dX0_town_74 : decode cX0_town 74 = .ok (.iadd, 1) := dk_96 (dk_at dksX0_town_3 4 rfl rfl)
theorem dX0_town_75 : decode cX0_town 75 = .ok (.putfield 130, 3) := dk_181 0 130 (dk_at dksX0_town_3 5 rfl rfl)
theorem dX0_town_78 : decode cX0_town 78 = .ok (.aload_n 0, 1) := dk_42 (dk_at dksX0_town_3 8 rfl rfl)
theorem dX0_town_79 : decode cX0_town 79 = .ok (.invokevirtual 142, 3) := dk_182 0 142 (dk_at dksX0_town_3 9 rfl rfl)
theorem dX0_town_82 : decode cX0_town 82 = .ok (.aload_n 0, 1) := dk_42 (dk_at dksX0_town_3 12 rfl rfl)
theorem dX0_town_83 : decode cX0_town 83 = .ok (.getfield 130, 3) := dk_180 0 130 (dk_at dksX0_town_3 13 rfl rfl)
theorem dX0_town_86 : decode cX0_town 86 = .ok (.iconst 1, 1) := dk_4 (dk_at dksX0_town_3 16 rfl rfl)
theorem dX0_town_87 : decode cX0_town 87 = .ok (.isub, 1) := dk_100 (dk_at dksX0_town_3 17 rfl rfl)
theorem dX0_town_88 : decode cX0_town 88 = .ok (.ireturn, 1) := dk_172 (dk_at dksX0_town_3 18 rfl rfl)
abbrev cX0_ways : ByteArray := prog_1_method_11_code
def yX0_ways : MethodName := ⟨RX0, "ways", "()V"⟩
def dkwX0_ways_7 : List UInt8 := [132, 3, 1, 167, 255, 192, 132, 2, 1, 167, 255, 176, 132, 1, 1, 167, 255, 160, 177]
abbrev dktX0_ways_7 : List UInt8 := dkwX0_ways_7 ++ []
def dkwX0_ways_6 : List UInt8 := [104, 27, 96, 46, 42, 180, 0, 45, 16, 6, 27, 104, 29, 96, 46, 96, 184, 0, 151, 184, 0, 151, 79]
abbrev dktX0_ways_6 : List UInt8 := dkwX0_ways_6 ++ dktX0_ways_7
def dkwX0_ways_5 : List UInt8 := [28, 104, 29, 96, 42, 180, 0, 45, 16, 6, 28, 104, 29, 96, 46, 16, 99, 42, 180, 0, 45, 16, 6, 28]
abbrev dktX0_ways_5 : List UInt8 := dkwX0_ways_5 ++ dktX0_ways_6
def dkwX0_ways_4 : List UInt8 := [28, 42, 180, 0, 130, 162, 0, 78, 3, 62, 29, 42, 180, 0, 130, 162, 0, 62, 42, 180, 0, 45, 16, 6]
abbrev dktX0_ways_4 : List UInt8 := dkwX0_ways_4 ++ dktX0_ways_5
def dkwX0_ways_3 : List UInt8 := [132, 2, 1, 167, 255, 195, 132, 1, 1, 167, 255, 179, 3, 60, 27, 42, 180, 0, 130, 162, 0, 94, 3, 61]
abbrev dktX0_ways_3 : List UInt8 := dkwX0_ways_3 ++ dktX0_ways_4
def dkwX0_ways_2 : List UInt8 := [96, 46, 154, 0, 8, 16, 99, 167, 0, 14, 42, 180, 0, 42, 16, 6, 27, 104, 28, 96, 46, 79]
abbrev dktX0_ways_2 : List UInt8 := dkwX0_ways_2 ++ dktX0_ways_3
def dkwX0_ways_1 : List UInt8 := [16, 6, 27, 104, 28, 96, 27, 28, 160, 0, 7, 3, 167, 0, 33, 42, 180, 0, 42, 16, 6, 27, 104, 28]
abbrev dktX0_ways_1 : List UInt8 := dkwX0_ways_1 ++ dktX0_ways_2
def dkwX0_ways_0 : List UInt8 := [3, 60, 27, 42, 180, 0, 130, 162, 0, 75, 3, 61, 28, 42, 180, 0, 130, 162, 0, 59, 42, 180, 0, 45]
abbrev dktX0_ways_0 : List UInt8 := dkwX0_ways_0 ++ dktX0_ways_1
theorem dksX0_ways_0 : cX0_ways.data.toList.drop 0 = dktX0_ways_0 := by decide +kernel
theorem dksX0_ways_1 : cX0_ways.data.toList.drop 24 = dktX0_ways_1 := dk_seg dksX0_ways_0 24 rfl rfl
theorem dksX0_ways_2 : cX0_ways.data.toList.drop 48 = dktX0_ways_2 := dk_seg dksX0_ways_1 24 rfl rfl
theorem dksX0_ways_3 : cX0_ways.data.toList.drop 70 = dktX0_ways_3 := dk_seg dksX0_ways_2 22 rfl rfl
theorem dksX0_ways_4 : cX0_ways.data.toList.drop 94 = dktX0_ways_4 := dk_seg dksX0_ways_3 24 rfl rfl
theorem dksX0_ways_5 : cX0_ways.data.toList.drop 118 = dktX0_ways_5 := dk_seg dksX0_ways_4 24 rfl rfl
theorem dksX0_ways_6 : cX0_ways.data.toList.drop 142 = dktX0_ways_6 := dk_seg dksX0_ways_5 24 rfl rfl
theorem dksX0_ways_7 : cX0_ways.data.toList.drop 165 = dktX0_ways_7 := dk_seg dksX0_ways_6 23 rfl rfl
theorem dX0_ways_0 : decode cX0_ways 0 = .ok (.iconst 0, 1) := dk_3 (dk_at dksX0_ways_0 0 rfl rfl)
theorem dX0_ways_1 : decode cX0_ways 1 = .ok (.istore_n 1, 1) := dk_60 (dk_at dksX0_ways_0 1 rfl rfl)
theorem dX0_ways_2 : decode cX0_ways 2 = .ok (.iload_n 1, 1) := dk_27 (dk_at dksX0_ways_0 2 rfl rfl)
theorem dX0_ways_3 : decode cX0_ways 3 = .ok (.aload_n 0, 1) := dk_42 (dk_at dksX0_ways_0 3 rfl rfl)
theorem dX0_ways_4 : decode cX0_ways 4 = .ok (.getfield 130, 3) := dk_180 0 130 (dk_at dksX0_ways_0 4 rfl rfl)
theorem dX0_ways_7 : decode cX0_ways 7 = .ok (.if_icmp .ge 75, 3) := dk_162 0 75 (dk_at dksX0_ways_0 7 rfl rfl)
theorem dX0_ways_10 : decode cX0_ways 10 = .ok (.iconst 0, 1) := dk_3 (dk_at dksX0_ways_0 10 rfl rfl)
theorem dX0_ways_11 : decode cX0_ways 11 = .ok (.istore_n 2, 1) := dk_61 (dk_at dksX0_ways_0 11 rfl rfl)
theorem dX0_ways_12 : decode cX0_ways 12 = .ok (.iload_n 2, 1) := dk_28 (dk_at dksX0_ways_0 12 rfl rfl)
theorem dX0_ways_13 : decode cX0_ways 13 = .ok (.aload_n 0, 1) := dk_42 (dk_at dksX0_ways_0 13 rfl rfl)
theorem dX0_ways_14 : decode cX0_ways 14 = .ok (.getfield 130, 3) := dk_180 0 130 (dk_at dksX0_ways_0 14 rfl rfl)
theorem dX0_ways_17 : decode cX0_ways 17 = .ok (.if_icmp .ge 59, 3) := dk_162 0 59 (dk_at dksX0_ways_0 17 rfl rfl)
theorem dX0_ways_20 : decode cX0_ways 20 = .ok (.aload_n 0, 1) := dk_42 (dk_at dksX0_ways_0 20 rfl rfl)
theorem dX0_ways_21 : decode cX0_ways 21 = .ok (.getfield 45, 3) := dk_180 0 45 (dk_at dksX0_ways_0 21 rfl rfl)
theorem dX0_ways_24 : decode cX0_ways 24 = .ok (.bipush 6, 2) := dk_16 6 (dk_at dksX0_ways_1 0 rfl rfl)
theorem dX0_ways_26 : decode cX0_ways 26 = .ok (.iload_n 1, 1) := dk_27 (dk_at dksX0_ways_1 2 rfl rfl)
theorem dX0_ways_27 : decode cX0_ways 27 = .ok (.imul, 1) := dk_104 (dk_at dksX0_ways_1 3 rfl rfl)
theorem dX0_ways_28 : decode cX0_ways 28 = .ok (.iload_n 2, 1) := dk_28 (dk_at dksX0_ways_1 4 rfl rfl)
theorem dX0_ways_29 : decode cX0_ways 29 = .ok (.iadd, 1) := dk_96 (dk_at dksX0_ways_1 5 rfl rfl)
theorem dX0_ways_30 : decode cX0_ways 30 = .ok (.iload_n 1, 1) := dk_27 (dk_at dksX0_ways_1 6 rfl rfl)
theorem dX0_ways_31 : decode cX0_ways 31 = .ok (.iload_n 2, 1) := dk_28 (dk_at dksX0_ways_1 7 rfl rfl)
theorem dX0_ways_32 : decode cX0_ways 32 = .ok (.if_icmp .ne 7, 3) := dk_160 0 7 (dk_at dksX0_ways_1 8 rfl rfl)
theorem dX0_ways_35 : decode cX0_ways 35 = .ok (.iconst 0, 1) := dk_3 (dk_at dksX0_ways_1 11 rfl rfl)
theorem dX0_ways_36 : decode cX0_ways 36 = .ok (.goto 33, 3) := dk_167 0 33 (dk_at dksX0_ways_1 12 rfl rfl)
theorem dX0_ways_39 : decode cX0_ways 39 = .ok (.aload_n 0, 1) := dk_42 (dk_at dksX0_ways_1 15 rfl rfl)
theorem dX0_ways_40 : decode cX0_ways 40 = .ok (.getfield 42, 3) := dk_180 0 42 (dk_at dksX0_ways_1 16 rfl rfl)
theorem dX0_ways_43 : decode cX0_ways 43 = .ok (.bipush 6, 2) := dk_16 6 (dk_at dksX0_ways_1 19 rfl rfl)
theorem dX0_ways_45 : decode cX0_ways 45 = .ok (.iload_n 1, 1) := dk_27 (dk_at dksX0_ways_1 21 rfl rfl)
theorem dX0_ways_46 : decode cX0_ways 46 = .ok (.imul, 1) := dk_104 (dk_at dksX0_ways_1 22 rfl rfl)
theorem dX0_ways_47 : decode cX0_ways 47 = .ok (.iload_n 2, 1) := dk_28 (dk_at dksX0_ways_1 23 rfl rfl)
theorem dX0_ways_48 : decode cX0_ways 48 = .ok (.iadd, 1) := dk_96 (dk_at dksX0_ways_2 0 rfl rfl)
theorem dX0_ways_49 : decode cX0_ways 49 = .ok (.iaload, 1) := dk_46 (dk_at dksX0_ways_2 1 rfl rfl)
theorem dX0_ways_50 : decode cX0_ways 50 = .ok (.ifCond .ne 8, 3) := dk_154 0 8 (dk_at dksX0_ways_2 2 rfl rfl)
theorem dX0_ways_53 : decode cX0_ways 53 = .ok (.bipush 99, 2) := dk_16 99 (dk_at dksX0_ways_2 5 rfl rfl)
theorem dX0_ways_55 : decode cX0_ways 55 = .ok (.goto 14, 3) := dk_167 0 14 (dk_at dksX0_ways_2 7 rfl rfl)
theorem dX0_ways_58 : decode cX0_ways 58 = .ok (.aload_n 0, 1) := dk_42 (dk_at dksX0_ways_2 10 rfl rfl)
theorem dX0_ways_59 : decode cX0_ways 59 = .ok (.getfield 42, 3) := dk_180 0 42 (dk_at dksX0_ways_2 11 rfl rfl)
theorem dX0_ways_62 : decode cX0_ways 62 = .ok (.bipush 6, 2) := dk_16 6 (dk_at dksX0_ways_2 14 rfl rfl)
theorem dX0_ways_64 : decode cX0_ways 64 = .ok (.iload_n 1, 1) := dk_27 (dk_at dksX0_ways_2 16 rfl rfl)
theorem dX0_ways_65 : decode cX0_ways 65 = .ok (.imul, 1) := dk_104 (dk_at dksX0_ways_2 17 rfl rfl)
theorem dX0_ways_66 : decode cX0_ways 66 = .ok (.iload_n 2, 1) := dk_28 (dk_at dksX0_ways_2 18 rfl rfl)
theorem dX0_ways_67 : decode cX0_ways 67 = .ok (.iadd, 1) := dk_96 (dk_at dksX0_ways_2 19 rfl rfl)
theorem dX0_ways_68 : decode cX0_ways 68 = .ok (.iaload, 1) := dk_46 (dk_at dksX0_ways_2 20 rfl rfl)
theorem dX0_ways_69 : decode cX0_ways 69 = .ok (.iastore, 1) := dk_79 (dk_at dksX0_ways_2 21 rfl rfl)
theorem dX0_ways_70 : decode cX0_ways 70 = .ok (.iinc 2 1, 3) := dk_132 2 1 (dk_at dksX0_ways_3 0 rfl rfl)
theorem dX0_ways_73 : decode cX0_ways 73 = .ok (.goto (-61), 3) := dk_167 255 195 (dk_at dksX0_ways_3 3 rfl rfl)
theorem dX0_ways_76 : decode cX0_ways 76 = .ok (.iinc 1 1, 3) := dk_132 1 1 (dk_at dksX0_ways_3 6 rfl rfl)
theorem dX0_ways_79 : decode cX0_ways 79 = .ok (.goto (-77), 3) := dk_167 255 179 (dk_at dksX0_ways_3 9 rfl rfl)
theorem dX0_ways_82 : decode cX0_ways 82 = .ok (.iconst 0, 1) := dk_3 (dk_at dksX0_ways_3 12 rfl rfl)
theorem dX0_ways_83 : decode cX0_ways 83 = .ok (.istore_n 1, 1) := dk_60 (dk_at dksX0_ways_3 13 rfl rfl)
theorem dX0_ways_84 : decode cX0_ways 84 = .ok (.iload_n 1, 1) := dk_27 (dk_at dksX0_ways_3 14 rfl rfl)
theorem dX0_ways_85 : decode cX0_ways 85 = .ok (.aload_n 0, 1) := dk_42 (dk_at dksX0_ways_3 15 rfl rfl)
theorem dX0_ways_86 : decode cX0_ways 86 = .ok (.getfield 130, 3) := dk_180 0 130 (dk_at dksX0_ways_3 16 rfl rfl)
theorem dX0_ways_89 : decode cX0_ways 89 = .ok (.if_icmp .ge 94, 3) := dk_162 0 94 (dk_at dksX0_ways_3 19 rfl rfl)
theorem dX0_ways_92 : decode cX0_ways 92 = .ok (.iconst 0, 1) := dk_3 (dk_at dksX0_ways_3 22 rfl rfl)
theorem dX0_ways_93 : decode cX0_ways 93 = .ok (.istore_n 2, 1) := dk_61 (dk_at dksX0_ways_3 23 rfl rfl)
theorem dX0_ways_94 : decode cX0_ways 94 = .ok (.iload_n 2, 1) := dk_28 (dk_at dksX0_ways_4 0 rfl rfl)
theorem dX0_ways_95 : decode cX0_ways 95 = .ok (.aload_n 0, 1) := dk_42 (dk_at dksX0_ways_4 1 rfl rfl)
theorem dX0_ways_96 : decode cX0_ways 96 = .ok (.getfield 130, 3) := dk_180 0 130 (dk_at dksX0_ways_4 2 rfl rfl)
theorem dX0_ways_99 : decode cX0_ways 99 = .ok (.if_icmp .ge 78, 3) := dk_162 0 78 (dk_at dksX0_ways_4 5 rfl rfl)
theorem dX0_ways_102 : decode cX0_ways 102 = .ok (.iconst 0, 1) := dk_3 (dk_at dksX0_ways_4 8 rfl rfl)
theorem dX0_ways_103 : decode cX0_ways 103 = .ok (.istore_n 3, 1) := dk_62 (dk_at dksX0_ways_4 9 rfl rfl)
theorem dX0_ways_104 : decode cX0_ways 104 = .ok (.iload_n 3, 1) := dk_29 (dk_at dksX0_ways_4 10 rfl rfl)
theorem dX0_ways_105 : decode cX0_ways 105 = .ok (.aload_n 0, 1) := dk_42 (dk_at dksX0_ways_4 11 rfl rfl)
theorem dX0_ways_106 : decode cX0_ways 106 = .ok (.getfield 130, 3) := dk_180 0 130 (dk_at dksX0_ways_4 12 rfl rfl)
theorem dX0_ways_109 : decode cX0_ways 109 = .ok (.if_icmp .ge 62, 3) := dk_162 0 62 (dk_at dksX0_ways_4 15 rfl rfl)
theorem dX0_ways_112 : decode cX0_ways 112 = .ok (.aload_n 0, 1) := dk_42 (dk_at dksX0_ways_4 18 rfl rfl)
theorem dX0_ways_113 : decode cX0_ways 113 = .ok (.getfield 45, 3) := dk_180 0 45 (dk_at dksX0_ways_4 19 rfl rfl)
theorem dX0_ways_116 : decode cX0_ways 116 = .ok (.bipush 6, 2) := dk_16 6 (dk_at dksX0_ways_4 22 rfl rfl)
theorem dX0_ways_118 : decode cX0_ways 118 = .ok (.iload_n 2, 1) := dk_28 (dk_at dksX0_ways_5 0 rfl rfl)
theorem dX0_ways_119 : decode cX0_ways 119 = .ok (.imul, 1) := dk_104 (dk_at dksX0_ways_5 1 rfl rfl)
theorem dX0_ways_120 : decode cX0_ways 120 = .ok (.iload_n 3, 1) := dk_29 (dk_at dksX0_ways_5 2 rfl rfl)
theorem dX0_ways_121 : decode cX0_ways 121 = .ok (.iadd, 1) := dk_96 (dk_at dksX0_ways_5 3 rfl rfl)
theorem dX0_ways_122 : decode cX0_ways 122 = .ok (.aload_n 0, 1) := dk_42 (dk_at dksX0_ways_5 4 rfl rfl)
theorem dX0_ways_123 : decode cX0_ways 123 = .ok (.getfield 45, 3) := dk_180 0 45 (dk_at dksX0_ways_5 5 rfl rfl)
theorem dX0_ways_126 : decode cX0_ways 126 = .ok (.bipush 6, 2) := dk_16 6 (dk_at dksX0_ways_5 8 rfl rfl)
theorem dX0_ways_128 : decode cX0_ways 128 = .ok (.iload_n 2, 1) := dk_28 (dk_at dksX0_ways_5 10 rfl rfl)
theorem dX0_ways_129 : decode cX0_ways 129 = .ok (.imul, 1) := dk_104 (dk_at dksX0_ways_5 11 rfl rfl)
theorem dX0_ways_130 : decode cX0_ways 130 = .ok (.iload_n 3, 1) := dk_29 (dk_at dksX0_ways_5 12 rfl rfl)
theorem dX0_ways_131 : decode cX0_ways 131 = .ok (.iadd, 1) := dk_96 (dk_at dksX0_ways_5 13 rfl rfl)
theorem dX0_ways_132 : decode cX0_ways 132 = .ok (.iaload, 1) := dk_46 (dk_at dksX0_ways_5 14 rfl rfl)
theorem dX0_ways_133 : decode cX0_ways 133 = .ok (.bipush 99, 2) := dk_16 99 (dk_at dksX0_ways_5 15 rfl rfl)
theorem dX0_ways_135 : decode cX0_ways 135 = .ok (.aload_n 0, 1) := dk_42 (dk_at dksX0_ways_5 17 rfl rfl)
theorem dX0_ways_136 : decode cX0_ways 136 = .ok (.getfield 45, 3) := dk_180 0 45 (dk_at dksX0_ways_5 18 rfl rfl)
theorem dX0_ways_139 : decode cX0_ways 139 = .ok (.bipush 6, 2) := dk_16 6 (dk_at dksX0_ways_5 21 rfl rfl)
theorem dX0_ways_141 : decode cX0_ways 141 = .ok (.iload_n 2, 1) := dk_28 (dk_at dksX0_ways_5 23 rfl rfl)
theorem dX0_ways_142 : decode cX0_ways 142 = .ok (.imul, 1) := dk_104 (dk_at dksX0_ways_6 0 rfl rfl)
theorem dX0_ways_143 : decode cX0_ways 143 = .ok (.iload_n 1, 1) := dk_27 (dk_at dksX0_ways_6 1 rfl rfl)
theorem dX0_ways_144 : decode cX0_ways 144 = .ok (.iadd, 1) := dk_96 (dk_at dksX0_ways_6 2 rfl rfl)
theorem dX0_ways_145 : decode cX0_ways 145 = .ok (.iaload, 1) := dk_46 (dk_at dksX0_ways_6 3 rfl rfl)
theorem dX0_ways_146 : decode cX0_ways 146 = .ok (.aload_n 0, 1) := dk_42 (dk_at dksX0_ways_6 4 rfl rfl)
theorem dX0_ways_147 : decode cX0_ways 147 = .ok (.getfield 45, 3) := dk_180 0 45 (dk_at dksX0_ways_6 5 rfl rfl)
theorem dX0_ways_150 : decode cX0_ways 150 = .ok (.bipush 6, 2) := dk_16 6 (dk_at dksX0_ways_6 8 rfl rfl)
theorem dX0_ways_152 : decode cX0_ways 152 = .ok (.iload_n 1, 1) := dk_27 (dk_at dksX0_ways_6 10 rfl rfl)
theorem dX0_ways_153 : decode cX0_ways 153 = .ok (.imul, 1) := dk_104 (dk_at dksX0_ways_6 11 rfl rfl)
theorem dX0_ways_154 : decode cX0_ways 154 = .ok (.iload_n 3, 1) := dk_29 (dk_at dksX0_ways_6 12 rfl rfl)
theorem dX0_ways_155 : decode cX0_ways 155 = .ok (.iadd, 1) := dk_96 (dk_at dksX0_ways_6 13 rfl rfl)
theorem dX0_ways_156 : decode cX0_ways 156 = .ok (.iaload, 1) := dk_46 (dk_at dksX0_ways_6 14 rfl rfl)
theorem dX0_ways_157 : decode cX0_ways 157 = .ok (.iadd, 1) := dk_96 (dk_at dksX0_ways_6 15 rfl rfl)
theorem dX0_ways_158 : decode cX0_ways 158 = .ok (.invokestatic 151, 3) := dk_184 0 151 (dk_at dksX0_ways_6 16 rfl rfl)
theorem dX0_ways_161 : decode cX0_ways 161 = .ok (.invokestatic 151, 3) := dk_184 0 151 (dk_at dksX0_ways_6 19 rfl rfl)
theorem dX0_ways_164 : decode cX0_ways 164 = .ok (.iastore, 1) := dk_79 (dk_at dksX0_ways_6 22 rfl rfl)
theorem dX0_ways_165 : decode cX0_ways 165 = .ok (.iinc 3 1, 3) := dk_132 3 1 (dk_at dksX0_ways_7 0 rfl rfl)
theorem dX0_ways_168 : decode cX0_ways 168 = .ok (.goto (-64), 3) := dk_167 255 192 (dk_at dksX0_ways_7 3 rfl rfl)
theorem dX0_ways_171 : decode cX0_ways 171 = .ok (.iinc 2 1, 3) := dk_132 2 1 (dk_at dksX0_ways_7 6 rfl rfl)
theorem dX0_ways_174 : decode cX0_ways 174 = .ok (.goto (-80), 3) := dk_167 255 176 (dk_at dksX0_ways_7 9 rfl rfl)
theorem dX0_ways_177 : decode cX0_ways 177 = .ok (.iinc 1 1, 3) := dk_132 1 1 (dk_at dksX0_ways_7 12 rfl rfl)
theorem dX0_ways_180 : decode cX0_ways 180 = .ok (.goto (-96), 3) := dk_167 255 160 (dk_at dksX0_ways_7 15 rfl rfl)
theorem dX0_ways_183 : decode cX0_ways 183 = .ok (.return_, 1) := dk_177 (dk_at dksX0_ways_7 18 rfl rfl)
abbrev cX0_road : ByteArray := prog_1_method_10_code
def yX0_road : MethodName := ⟨RX0, "road", "(III)I"⟩
def dkwX0_road_3 : List UInt8 := [96, 29, 79, 42, 182, 0, 142, 21, 4, 172]
abbrev dktX0_road_3 : List UInt8 := dkwX0_road_3 ++ []
def dkwX0_road_2 : List UInt8 := [46, 54, 4, 42, 180, 0, 42, 16, 6, 27, 104, 28, 96, 29, 79, 42, 180, 0, 42, 16, 6, 28, 104, 27]
abbrev dktX0_road_2 : List UInt8 := dkwX0_road_2 ++ dktX0_road_3
def dkwX0_road_1 : List UInt8 := [133, 9, 20, 0, 149, 184, 0, 133, 154, 0, 6, 16, 254, 172, 42, 180, 0, 42, 16, 6, 27, 104, 28, 96]
abbrev dktX0_road_1 : List UInt8 := dkwX0_road_1 ++ dktX0_road_2
def dkwX0_road_0 : List UInt8 := [42, 27, 182, 0, 145, 153, 0, 11, 42, 28, 182, 0, 145, 154, 0, 5, 2, 172, 27, 28, 159, 0, 15, 29]
abbrev dktX0_road_0 : List UInt8 := dkwX0_road_0 ++ dktX0_road_1
theorem dksX0_road_0 : cX0_road.data.toList.drop 0 = dktX0_road_0 := by decide +kernel
theorem dksX0_road_1 : cX0_road.data.toList.drop 24 = dktX0_road_1 := dk_seg dksX0_road_0 24 rfl rfl
theorem dksX0_road_2 : cX0_road.data.toList.drop 48 = dktX0_road_2 := dk_seg dksX0_road_1 24 rfl rfl
theorem dksX0_road_3 : cX0_road.data.toList.drop 72 = dktX0_road_3 := dk_seg dksX0_road_2 24 rfl rfl
theorem dX0_road_0 : decode cX0_road 0 = .ok (.aload_n 0, 1) := dk_42 (dk_at dksX0_road_0 0 rfl rfl)
theorem dX0_road_1 : decode cX0_road 1 = .ok (.iload_n 1, 1) := dk_27 (dk_at dksX0_road_0 1 rfl rfl)
theorem dX0_road_2 : decode cX0_road 2 = .ok (.invokevirtual 145, 3) := dk_182 0 145 (dk_at dksX0_road_0 2 rfl rfl)
theorem dX0_road_5 : decode cX0_road 5 = .ok (.ifCond .eq 11, 3) := dk_153 0 11 (dk_at dksX0_road_0 5 rfl rfl)
theorem dX0_road_8 : decode cX0_road 8 = .ok (.aload_n 0, 1) := dk_42 (dk_at dksX0_road_0 8 rfl rfl)
theorem dX0_road_9 : decode cX0_road 9 = .ok (.iload_n 2, 1) := dk_28 (dk_at dksX0_road_0 9 rfl rfl)
theorem dX0_road_10 : decode cX0_road 10 = .ok (.invokevirtual 145, 3) := dk_182 0 145 (dk_at dksX0_road_0 10 rfl rfl)
theorem dX0_road_13 : decode cX0_road 13 = .ok (.ifCond .ne 5, 3) := dk_154 0 5 (dk_at dksX0_road_0 13 rfl rfl)
theorem dX0_road_16 : decode cX0_road 16 = .ok (.iconst (-1), 1) := dk_2 (dk_at dksX0_road_0 16 rfl rfl)
theorem dX0_road_17 : decode cX0_road 17 = .ok (.ireturn, 1) := dk_172 (dk_at dksX0_road_0 17 rfl rfl)
theorem dX0_road_18 : decode cX0_road 18 = .ok (.iload_n 1, 1) := dk_27 (dk_at dksX0_road_0 18 rfl rfl)
theorem dX0_road_19 : decode cX0_road 19 = .ok (.iload_n 2, 1) := dk_28 (dk_at dksX0_road_0 19 rfl rfl)
theorem dX0_road_20 : decode cX0_road 20 = .ok (.if_icmp .eq 15, 3) := dk_159 0 15 (dk_at dksX0_road_0 20 rfl rfl)
theorem dX0_road_23 : decode cX0_road 23 = .ok (.iload_n 3, 1) := dk_29 (dk_at dksX0_road_0 23 rfl rfl)
theorem dX0_road_24 : decode cX0_road 24 = .ok (.i2l, 1) := dk_133 (dk_at dksX0_road_1 0 rfl rfl)
theorem dX0_road_25 : decode cX0_road 25 = .ok (.lconst 0, 1) := dk_9 (dk_at dksX0_road_1 1 rfl rfl)
theorem dX0_road_26 : decode cX0_road 26 = .ok (.ldc2_w 149, 3) := dk_20 0 149 (dk_at dksX0_road_1 2 rfl rfl)
theorem dX0_road_29 : decode cX0_road 29 = .ok (.invokestatic 133, 3) := dk_184 0 133 (dk_at dksX0_road_1 5 rfl rfl)
theorem dX0_road_32 : decode cX0_road 32 = .ok (.ifCond .ne 6, 3) := dk_154 0 6 (dk_at dksX0_road_1 8 rfl rfl)
theorem dX0_road_35 : decode cX0_road 35 = .ok (.bipush (-2), 2) := dk_16 254 (dk_at dksX0_road_1 11 rfl rfl)
theorem dX0_road_37 : decode cX0_road 37 = .ok (.ireturn, 1) := dk_172 (dk_at dksX0_road_1 13 rfl rfl)
theorem dX0_road_38 : decode cX0_road 38 = .ok (.aload_n 0, 1) := dk_42 (dk_at dksX0_road_1 14 rfl rfl)
theorem dX0_road_39 : decode cX0_road 39 = .ok (.getfield 42, 3) := dk_180 0 42 (dk_at dksX0_road_1 15 rfl rfl)
theorem dX0_road_42 : decode cX0_road 42 = .ok (.bipush 6, 2) := dk_16 6 (dk_at dksX0_road_1 18 rfl rfl)
theorem dX0_road_44 : decode cX0_road 44 = .ok (.iload_n 1, 1) := dk_27 (dk_at dksX0_road_1 20 rfl rfl)
theorem dX0_road_45 : decode cX0_road 45 = .ok (.imul, 1) := dk_104 (dk_at dksX0_road_1 21 rfl rfl)
theorem dX0_road_46 : decode cX0_road 46 = .ok (.iload_n 2, 1) := dk_28 (dk_at dksX0_road_1 22 rfl rfl)
theorem dX0_road_47 : decode cX0_road 47 = .ok (.iadd, 1) := dk_96 (dk_at dksX0_road_1 23 rfl rfl)
theorem dX0_road_48 : decode cX0_road 48 = .ok (.iaload, 1) := dk_46 (dk_at dksX0_road_2 0 rfl rfl)
theorem dX0_road_49 : decode cX0_road 49 = .ok (.istore 4, 2) := dk_54 4 (dk_at dksX0_road_2 1 rfl rfl)
theorem dX0_road_51 : decode cX0_road 51 = .ok (.aload_n 0, 1) := dk_42 (dk_at dksX0_road_2 3 rfl rfl)
theorem dX0_road_52 : decode cX0_road 52 = .ok (.getfield 42, 3) := dk_180 0 42 (dk_at dksX0_road_2 4 rfl rfl)
theorem dX0_road_55 : decode cX0_road 55 = .ok (.bipush 6, 2) := dk_16 6 (dk_at dksX0_road_2 7 rfl rfl)
theorem dX0_road_57 : decode cX0_road 57 = .ok (.iload_n 1, 1) := dk_27 (dk_at dksX0_road_2 9 rfl rfl)
theorem dX0_road_58 : decode cX0_road 58 = .ok (.imul, 1) := dk_104 (dk_at dksX0_road_2 10 rfl rfl)
theorem dX0_road_59 : decode cX0_road 59 = .ok (.iload_n 2, 1) := dk_28 (dk_at dksX0_road_2 11 rfl rfl)
theorem dX0_road_60 : decode cX0_road 60 = .ok (.iadd, 1) := dk_96 (dk_at dksX0_road_2 12 rfl rfl)
theorem dX0_road_61 : decode cX0_road 61 = .ok (.iload_n 3, 1) := dk_29 (dk_at dksX0_road_2 13 rfl rfl)
theorem dX0_road_62 : decode cX0_road 62 = .ok (.iastore, 1) := dk_79 (dk_at dksX0_road_2 14 rfl rfl)
theorem dX0_road_63 : decode cX0_road 63 = .ok (.aload_n 0, 1) := dk_42 (dk_at dksX0_road_2 15 rfl rfl)
theorem dX0_road_64 : decode cX0_road 64 = .ok (.getfield 42, 3) := dk_180 0 42 (dk_at dksX0_road_2 16 rfl rfl)
theorem dX0_road_67 : decode cX0_road 67 = .ok (.bipush 6, 2) := dk_16 6 (dk_at dksX0_road_2 19 rfl rfl)
theorem dX0_road_69 : decode cX0_road 69 = .ok (.iload_n 2, 1) := dk_28 (dk_at dksX0_road_2 21 rfl rfl)
theorem dX0_road_70 : decode cX0_road 70 = .ok (.imul, 1) := dk_104 (dk_at dksX0_road_2 22 rfl rfl)
theorem dX0_road_71 : decode cX0_road 71 = .ok (.iload_n 1, 1) := dk_27 (dk_at dksX0_road_2 23 rfl rfl)
theorem dX0_road_72 : decode cX0_road 72 = .ok (.iadd, 1) := dk_96 (dk_at dksX0_road_3 0 rfl rfl)
theorem dX0_road_73 : decode cX0_road 73 = .ok (.iload_n 3, 1) := dk_29 (dk_at dksX0_road_3 1 rfl rfl)
theorem dX0_road_74 : decode cX0_road 74 = .ok (.iastore, 1) := dk_79 (dk_at dksX0_road_3 2 rfl rfl)
theorem dX0_road_75 : decode cX0_road 75 = .ok (.aload_n 0, 1) := dk_42 (dk_at dksX0_road_3 3 rfl rfl)
theorem dX0_road_76 : decode cX0_road 76 = .ok (.invokevirtual 142, 3) := dk_182 0 142 (dk_at dksX0_road_3 4 rfl rfl)
theorem dX0_road_79 : decode cX0_road 79 = .ok (.iload 4, 2) := dk_21 4 (dk_at dksX0_road_3 7 rfl rfl)
theorem dX0_road_81 : decode cX0_road 81 = .ok (.ireturn, 1) := dk_172 (dk_at dksX0_road_3 9 rfl rfl)
abbrev cX0_isTown : ByteArray := prog_1_method_5_code
def yX0_isTown : MethodName := ⟨RX0, "isTown", "(I)Z"⟩
def dkwX0_isTown_0 : List UInt8 := [27, 133, 9, 42, 180, 0, 130, 4, 100, 133, 184, 0, 133, 172]
abbrev dktX0_isTown_0 : List UInt8 := dkwX0_isTown_0 ++ []
theorem dksX0_isTown_0 : cX0_isTown.data.toList.drop 0 = dktX0_isTown_0 := by decide +kernel
theorem dX0_isTown_0 : decode cX0_isTown 0 = .ok (.iload_n 1, 1) := dk_27 (dk_at dksX0_isTown_0 0 rfl rfl)
theorem dX0_isTown_1 : decode cX0_isTown 1 = .ok (.i2l, 1) := dk_133 (dk_at dksX0_isTown_0 1 rfl rfl)
theorem dX0_isTown_2 : decode cX0_isTown 2 = .ok (.lconst 0, 1) := dk_9 (dk_at dksX0_isTown_0 2 rfl rfl)
theorem dX0_isTown_3 : decode cX0_isTown 3 = .ok (.aload_n 0, 1) := dk_42 (dk_at dksX0_isTown_0 3 rfl rfl)
theorem dX0_isTown_4 : decode cX0_isTown 4 = .ok (.getfield 130, 3) := dk_180 0 130 (dk_at dksX0_isTown_0 4 rfl rfl)
theorem dX0_isTown_7 : decode cX0_isTown 7 = .ok (.iconst 1, 1) := dk_4 (dk_at dksX0_isTown_0 7 rfl rfl)
theorem dX0_isTown_8 : decode cX0_isTown 8 = .ok (.isub, 1) := dk_100 (dk_at dksX0_isTown_0 8 rfl rfl)
theorem dX0_isTown_9 : decode cX0_isTown 9 = .ok (.i2l, 1) := dk_133 (dk_at dksX0_isTown_0 9 rfl rfl)
theorem dX0_isTown_10 : decode cX0_isTown 10 = .ok (.invokestatic 133, 3) := dk_184 0 133 (dk_at dksX0_isTown_0 10 rfl rfl)
theorem dX0_isTown_13 : decode cX0_isTown 13 = .ok (.ireturn, 1) := dk_172 (dk_at dksX0_isTown_0 13 rfl rfl)
abbrev cX0_hours : ByteArray := prog_1_method_12_code
def yX0_hours : MethodName := ⟨RX0, "hours", "(II)I"⟩
def dkwX0_hours_1 : List UInt8 := [16, 6, 27, 104, 28, 96, 46, 172]
abbrev dktX0_hours_1 : List UInt8 := dkwX0_hours_1 ++ []
def dkwX0_hours_0 : List UInt8 := [42, 27, 182, 0, 145, 153, 0, 11, 42, 28, 182, 0, 145, 154, 0, 7, 2, 167, 0, 14, 42, 180, 0, 45]
abbrev dktX0_hours_0 : List UInt8 := dkwX0_hours_0 ++ dktX0_hours_1
theorem dksX0_hours_0 : cX0_hours.data.toList.drop 0 = dktX0_hours_0 := by decide +kernel
theorem dksX0_hours_1 : cX0_hours.data.toList.drop 24 = dktX0_hours_1 := dk_seg dksX0_hours_0 24 rfl rfl
theorem dX0_hours_0 : decode cX0_hours 0 = .ok (.aload_n 0, 1) := dk_42 (dk_at dksX0_hours_0 0 rfl rfl)
theorem dX0_hours_1 : decode cX0_hours 1 = .ok (.iload_n 1, 1) := dk_27 (dk_at dksX0_hours_0 1 rfl rfl)
theorem dX0_hours_2 : decode cX0_hours 2 = .ok (.invokevirtual 145, 3) := dk_182 0 145 (dk_at dksX0_hours_0 2 rfl rfl)
theorem dX0_hours_5 : decode cX0_hours 5 = .ok (.ifCond .eq 11, 3) := dk_153 0 11 (dk_at dksX0_hours_0 5 rfl rfl)
theorem dX0_hours_8 : decode cX0_hours 8 = .ok (.aload_n 0, 1) := dk_42 (dk_at dksX0_hours_0 8 rfl rfl)
theorem dX0_hours_9 : decode cX0_hours 9 = .ok (.iload_n 2, 1) := dk_28 (dk_at dksX0_hours_0 9 rfl rfl)
theorem dX0_hours_10 : decode cX0_hours 10 = .ok (.invokevirtual 145, 3) := dk_182 0 145 (dk_at dksX0_hours_0 10 rfl rfl)
theorem dX0_hours_13 : decode cX0_hours 13 = .ok (.ifCond .ne 7, 3) := dk_154 0 7 (dk_at dksX0_hours_0 13 rfl rfl)
theorem dX0_hours_16 : decode cX0_hours 16 = .ok (.iconst (-1), 1) := dk_2 (dk_at dksX0_hours_0 16 rfl rfl)
theorem dX0_hours_17 : decode cX0_hours 17 = .ok (.goto 14, 3) := dk_167 0 14 (dk_at dksX0_hours_0 17 rfl rfl)
theorem dX0_hours_20 : decode cX0_hours 20 = .ok (.aload_n 0, 1) := dk_42 (dk_at dksX0_hours_0 20 rfl rfl)
theorem dX0_hours_21 : decode cX0_hours 21 = .ok (.getfield 45, 3) := dk_180 0 45 (dk_at dksX0_hours_0 21 rfl rfl)
theorem dX0_hours_24 : decode cX0_hours 24 = .ok (.bipush 6, 2) := dk_16 6 (dk_at dksX0_hours_1 0 rfl rfl)
theorem dX0_hours_26 : decode cX0_hours 26 = .ok (.iload_n 1, 1) := dk_27 (dk_at dksX0_hours_1 2 rfl rfl)
theorem dX0_hours_27 : decode cX0_hours 27 = .ok (.imul, 1) := dk_104 (dk_at dksX0_hours_1 3 rfl rfl)
theorem dX0_hours_28 : decode cX0_hours 28 = .ok (.iload_n 2, 1) := dk_28 (dk_at dksX0_hours_1 4 rfl rfl)
theorem dX0_hours_29 : decode cX0_hours 29 = .ok (.iadd, 1) := dk_96 (dk_at dksX0_hours_1 5 rfl rfl)
theorem dX0_hours_30 : decode cX0_hours 30 = .ok (.iaload, 1) := dk_46 (dk_at dksX0_hours_1 6 rfl rfl)
theorem dX0_hours_31 : decode cX0_hours 31 = .ok (.ireturn, 1) := dk_172 (dk_at dksX0_hours_1 7 rfl rfl)
abbrev cX0_week : ByteArray := prog_1_method_13_code
def yX0_week : MethodName := ⟨RX0, "week", "(I)I"⟩
def dkwX0_week_1 : List UInt8 := [181, 0, 48, 28, 172]
abbrev dktX0_week_1 : List UInt8 := dkwX0_week_1 ++ []
def dkwX0_week_0 : List UInt8 := [27, 133, 20, 0, 157, 20, 0, 159, 184, 0, 133, 154, 0, 6, 16, 254, 172, 42, 180, 0, 48, 61, 42, 27]
abbrev dktX0_week_0 : List UInt8 := dkwX0_week_0 ++ dktX0_week_1
theorem dksX0_week_0 : cX0_week.data.toList.drop 0 = dktX0_week_0 := by decide +kernel
theorem dksX0_week_1 : cX0_week.data.toList.drop 24 = dktX0_week_1 := dk_seg dksX0_week_0 24 rfl rfl
theorem dX0_week_0 : decode cX0_week 0 = .ok (.iload_n 1, 1) := dk_27 (dk_at dksX0_week_0 0 rfl rfl)
theorem dX0_week_1 : decode cX0_week 1 = .ok (.i2l, 1) := dk_133 (dk_at dksX0_week_0 1 rfl rfl)
theorem dX0_week_2 : decode cX0_week 2 = .ok (.ldc2_w 157, 3) := dk_20 0 157 (dk_at dksX0_week_0 2 rfl rfl)
theorem dX0_week_5 : decode cX0_week 5 = .ok (.ldc2_w 159, 3) := dk_20 0 159 (dk_at dksX0_week_0 5 rfl rfl)
theorem dX0_week_8 : decode cX0_week 8 = .ok (.invokestatic 133, 3) := dk_184 0 133 (dk_at dksX0_week_0 8 rfl rfl)
theorem dX0_week_11 : decode cX0_week 11 = .ok (.ifCond .ne 6, 3) := dk_154 0 6 (dk_at dksX0_week_0 11 rfl rfl)
theorem dX0_week_14 : decode cX0_week 14 = .ok (.bipush (-2), 2) := dk_16 254 (dk_at dksX0_week_0 14 rfl rfl)
theorem dX0_week_16 : decode cX0_week 16 = .ok (.ireturn, 1) := dk_172 (dk_at dksX0_week_0 16 rfl rfl)
theorem dX0_week_17 : decode cX0_week 17 = .ok (.aload_n 0, 1) := dk_42 (dk_at dksX0_week_0 17 rfl rfl)
theorem dX0_week_18 : decode cX0_week 18 = .ok (.getfield 48, 3) := dk_180 0 48 (dk_at dksX0_week_0 18 rfl rfl)
theorem dX0_week_21 : decode cX0_week 21 = .ok (.istore_n 2, 1) := dk_61 (dk_at dksX0_week_0 21 rfl rfl)
theorem dX0_week_22 : decode cX0_week 22 = .ok (.aload_n 0, 1) := dk_42 (dk_at dksX0_week_0 22 rfl rfl)
theorem dX0_week_23 : decode cX0_week 23 = .ok (.iload_n 1, 1) := dk_27 (dk_at dksX0_week_0 23 rfl rfl)
theorem dX0_week_24 : decode cX0_week 24 = .ok (.putfield 48, 3) := dk_181 0 48 (dk_at dksX0_week_1 0 rfl rfl)
theorem dX0_week_27 : decode cX0_week 27 = .ok (.iload_n 2, 1) := dk_28 (dk_at dksX0_week_1 3 rfl rfl)
theorem dX0_week_28 : decode cX0_week 28 = .ok (.ireturn, 1) := dk_172 (dk_at dksX0_week_1 4 rfl rfl)
abbrev cX0_want : ByteArray := prog_1_method_14_code
def yX0_want : MethodName := ⟨RX0, "want", "(III)I"⟩
def dkwX0_want_6 : List UInt8 := [79, 167, 0, 10, 42, 180, 0, 39, 27, 29, 79, 21, 4, 172]
abbrev dktX0_want_6 : List UInt8 := dkwX0_want_6 ++ []
def dkwX0_want_5 : List UInt8 := [154, 0, 13, 42, 180, 0, 33, 27, 29, 79, 167, 0, 25, 28, 4, 160, 0, 13, 42, 180, 0, 36, 27, 29]
abbrev dktX0_want_5 : List UInt8 := dkwX0_want_5 ++ dktX0_want_6
def dkwX0_want_4 : List UInt8 := [28, 4, 160, 0, 12, 42, 180, 0, 36, 27, 46, 167, 0, 9, 42, 180, 0, 39, 27, 46, 54, 4, 28]
abbrev dktX0_want_4 : List UInt8 := dkwX0_want_4 ++ dktX0_want_5
def dkwX0_want_3 : List UInt8 := [160, 0, 11, 29, 27, 160, 0, 6, 16, 249, 172, 28, 154, 0, 12, 42, 180, 0, 33, 27, 46, 167, 0, 23]
abbrev dktX0_want_3 : List UInt8 := dkwX0_want_3 ++ dktX0_want_4
def dkwX0_want_2 : List UInt8 := [160, 0, 9, 20, 0, 165, 167, 0, 10, 42, 180, 0, 130, 133, 10, 101, 184, 0, 133, 153, 0, 13, 28, 5]
abbrev dktX0_want_2 : List UInt8 := dkwX0_want_2 ++ dktX0_want_3
def dkwX0_want_1 : List UInt8 := [133, 28, 154, 0, 7, 9, 167, 0, 6, 20, 0, 161, 28, 154, 0, 9, 20, 0, 163, 167, 0, 21, 28, 4]
abbrev dktX0_want_1 : List UInt8 := dkwX0_want_1 ++ dktX0_want_2
def dkwX0_want_0 : List UInt8 := [42, 27, 182, 0, 145, 154, 0, 6, 16, 251, 172, 28, 133, 9, 20, 0, 157, 184, 0, 133, 153, 0, 60, 29]
abbrev dktX0_want_0 : List UInt8 := dkwX0_want_0 ++ dktX0_want_1
theorem dksX0_want_0 : cX0_want.data.toList.drop 0 = dktX0_want_0 := by decide +kernel
theorem dksX0_want_1 : cX0_want.data.toList.drop 24 = dktX0_want_1 := dk_seg dksX0_want_0 24 rfl rfl
theorem dksX0_want_2 : cX0_want.data.toList.drop 48 = dktX0_want_2 := dk_seg dksX0_want_1 24 rfl rfl
theorem dksX0_want_3 : cX0_want.data.toList.drop 72 = dktX0_want_3 := dk_seg dksX0_want_2 24 rfl rfl
theorem dksX0_want_4 : cX0_want.data.toList.drop 96 = dktX0_want_4 := dk_seg dksX0_want_3 24 rfl rfl
theorem dksX0_want_5 : cX0_want.data.toList.drop 119 = dktX0_want_5 := dk_seg dksX0_want_4 23 rfl rfl
theorem dksX0_want_6 : cX0_want.data.toList.drop 143 = dktX0_want_6 := dk_seg dksX0_want_5 24 rfl rfl
theorem dX0_want_0 : decode cX0_want 0 = .ok (.aload_n 0, 1) := dk_42 (dk_at dksX0_want_0 0 rfl rfl)
theorem dX0_want_1 : decode cX0_want 1 = .ok (.iload_n 1, 1) := dk_27 (dk_at dksX0_want_0 1 rfl rfl)
theorem dX0_want_2 : decode cX0_want 2 = .ok (.invokevirtual 145, 3) := dk_182 0 145 (dk_at dksX0_want_0 2 rfl rfl)
theorem dX0_want_5 : decode cX0_want 5 = .ok (.ifCond .ne 6, 3) := dk_154 0 6 (dk_at dksX0_want_0 5 rfl rfl)
theorem dX0_want_8 : decode cX0_want 8 = .ok (.bipush (-5), 2) := dk_16 251 (dk_at dksX0_want_0 8 rfl rfl)
theorem dX0_want_10 : decode cX0_want 10 = .ok (.ireturn, 1) := dk_172 (dk_at dksX0_want_0 10 rfl rfl)
theorem dX0_want_11 : decode cX0_want 11 = .ok (.iload_n 2, 1) := dk_28 (dk_at dksX0_want_0 11 rfl rfl)
theorem dX0_want_12 : decode cX0_want 12 = .ok (.i2l, 1) := dk_133 (dk_at dksX0_want_0 12 rfl rfl)
theorem dX0_want_13 : decode cX0_want 13 = .ok (.lconst 0, 1) := dk_9 (dk_at dksX0_want_0 13 rfl rfl)
theorem dX0_want_14 : decode cX0_want 14 = .ok (.ldc2_w 157, 3) := dk_20 0 157 (dk_at dksX0_want_0 14 rfl rfl)
theorem dX0_want_17 : decode cX0_want 17 = .ok (.invokestatic 133, 3) := dk_184 0 133 (dk_at dksX0_want_0 17 rfl rfl)
theorem dX0_want_20 : decode cX0_want 20 = .ok (.ifCond .eq 60, 3) := dk_153 0 60 (dk_at dksX0_want_0 20 rfl rfl)
theorem dX0_want_23 : decode cX0_want 23 = .ok (.iload_n 3, 1) := dk_29 (dk_at dksX0_want_0 23 rfl rfl)
theorem dX0_want_24 : decode cX0_want 24 = .ok (.i2l, 1) := dk_133 (dk_at dksX0_want_1 0 rfl rfl)
theorem dX0_want_25 : decode cX0_want 25 = .ok (.iload_n 2, 1) := dk_28 (dk_at dksX0_want_1 1 rfl rfl)
theorem dX0_want_26 : decode cX0_want 26 = .ok (.ifCond .ne 7, 3) := dk_154 0 7 (dk_at dksX0_want_1 2 rfl rfl)
theorem dX0_want_29 : decode cX0_want 29 = .ok (.lconst 0, 1) := dk_9 (dk_at dksX0_want_1 5 rfl rfl)
theorem dX0_want_30 : decode cX0_want 30 = .ok (.goto 6, 3) := dk_167 0 6 (dk_at dksX0_want_1 6 rfl rfl)
theorem dX0_want_33 : decode cX0_want 33 = .ok (.ldc2_w 161, 3) := dk_20 0 161 (dk_at dksX0_want_1 9 rfl rfl)
theorem dX0_want_36 : decode cX0_want 36 = .ok (.iload_n 2, 1) := dk_28 (dk_at dksX0_want_1 12 rfl rfl)
theorem dX0_want_37 : decode cX0_want 37 = .ok (.ifCond .ne 9, 3) := dk_154 0 9 (dk_at dksX0_want_1 13 rfl rfl)
theorem dX0_want_40 : decode cX0_want 40 = .ok (.ldc2_w 163, 3) := dk_20 0 163 (dk_at dksX0_want_1 16 rfl rfl)
theorem dX0_want_43 : decode cX0_want 43 = .ok (.goto 21, 3) := dk_167 0 21 (dk_at dksX0_want_1 19 rfl rfl)
theorem dX0_want_46 : decode cX0_want 46 = .ok (.iload_n 2, 1) := dk_28 (dk_at dksX0_want_1 22 rfl rfl)
theorem dX0_want_47 : decode cX0_want 47 = .ok (.iconst 1, 1) := dk_4 (dk_at dksX0_want_1 23 rfl rfl)
theorem dX0_want_48 : decode cX0_want 48 = .ok (.if_icmp .ne 9, 3) := dk_160 0 9 (dk_at dksX0_want_2 0 rfl rfl)
theorem dX0_want_51 : decode cX0_want 51 = .ok (.ldc2_w 165, 3) := dk_20 0 165 (dk_at dksX0_want_2 3 rfl rfl)
theorem dX0_want_54 : decode cX0_want 54 = .ok (.goto 10, 3) := dk_167 0 10 (dk_at dksX0_want_2 6 rfl rfl)
theorem dX0_want_57 : decode cX0_want 57 = .ok (.aload_n 0, 1) := dk_42 (dk_at dksX0_want_2 9 rfl rfl)
theorem dX0_want_58 : decode cX0_want 58 = .ok (.getfield 130, 3) := dk_180 0 130 (dk_at dksX0_want_2 10 rfl rfl)
theorem dX0_want_61 : decode cX0_want 61 = .ok (.i2l, 1) := dk_133 (dk_at dksX0_want_2 13 rfl rfl)
theorem dX0_want_62 : decode cX0_want 62 = .ok (.lconst 1, 1) := dk_10 (dk_at dksX0_want_2 14 rfl rfl)
theorem dX0_want_63 : decode cX0_want 63 = .ok (.lsub, 1) := dk_101 (dk_at dksX0_want_2 15 rfl rfl)
theorem dX0_want_64 : decode cX0_want 64 = .ok (.invokestatic 133, 3) := dk_184 0 133 (dk_at dksX0_want_2 16 rfl rfl)
theorem dX0_want_67 : decode cX0_want 67 = .ok (.ifCond .eq 13, 3) := dk_153 0 13 (dk_at dksX0_want_2 19 rfl rfl)
theorem dX0_want_70 : decode cX0_want 70 = .ok (.iload_n 2, 1) := dk_28 (dk_at dksX0_want_2 22 rfl rfl)
theorem dX0_want_71 : decode cX0_want 71 = .ok (.iconst 2, 1) := dk_5 (dk_at dksX0_want_2 23 rfl rfl)
theorem dX0_want_72 : decode cX0_want 72 = .ok (.if_icmp .ne 11, 3) := dk_160 0 11 (dk_at dksX0_want_3 0 rfl rfl)
theorem dX0_want_75 : decode cX0_want 75 = .ok (.iload_n 3, 1) := dk_29 (dk_at dksX0_want_3 3 rfl rfl)
theorem dX0_want_76 : decode cX0_want 76 = .ok (.iload_n 1, 1) := dk_27 (dk_at dksX0_want_3 4 rfl rfl)
theorem dX0_want_77 : decode cX0_want 77 = .ok (.if_icmp .ne 6, 3) := dk_160 0 6 (dk_at dksX0_want_3 5 rfl rfl)
theorem dX0_want_80 : decode cX0_want 80 = .ok (.bipush (-7), 2) := dk_16 249 (dk_at dksX0_want_3 8 rfl rfl)
theorem dX0_want_82 : decode cX0_want 82 = .ok (.ireturn, 1) := dk_172 (dk_at dksX0_want_3 10 rfl rfl)
theorem dX0_want_83 : decode cX0_want 83 = .ok (.iload_n 2, 1) := dk_28 (dk_at dksX0_want_3 11 rfl rfl)
theorem dX0_want_84 : decode cX0_want 84 = .ok (.ifCond .ne 12, 3) := dk_154 0 12 (dk_at dksX0_want_3 12 rfl rfl)
theorem dX0_want_87 : decode cX0_want 87 = .ok (.aload_n 0, 1) := dk_42 (dk_at dksX0_want_3 15 rfl rfl)
theorem dX0_want_88 : decode cX0_want 88 = .ok (.getfield 33, 3) := dk_180 0 33 (dk_at dksX0_want_3 16 rfl rfl)
theorem dX0_want_91 : decode cX0_want 91 = .ok (.iload_n 1, 1) := dk_27 (dk_at dksX0_want_3 19 rfl rfl)
theorem dX0_want_92 : decode cX0_want 92 = .ok (.iaload, 1) := dk_46 (dk_at dksX0_want_3 20 rfl rfl)
theorem dX0_want_93 : decode cX0_want 93 = .ok (.goto 23, 3) := dk_167 0 23 (dk_at dksX0_want_3 21 rfl rfl)
theorem dX0_want_96 : decode cX0_want 96 = .ok (.iload_n 2, 1) := dk_28 (dk_at dksX0_want_4 0 rfl rfl)
theorem dX0_want_97 : decode cX0_want 97 = .ok (.iconst 1, 1) := dk_4 (dk_at dksX0_want_4 1 rfl rfl)
theorem dX0_want_98 : decode cX0_want 98 = .ok (.if_icmp .ne 12, 3) := dk_160 0 12 (dk_at dksX0_want_4 2 rfl rfl)
theorem dX0_want_101 : decode cX0_want 101 = .ok (.aload_n 0, 1) := dk_42 (dk_at dksX0_want_4 5 rfl rfl)
theorem dX0_want_102 : decode cX0_want 102 = .ok (.getfield 36, 3) := dk_180 0 36 (dk_at dksX0_want_4 6 rfl rfl)
theorem dX0_want_105 : decode cX0_want 105 = .ok (.iload_n 1, 1) := dk_27 (dk_at dksX0_want_4 9 rfl rfl)
theorem dX0_want_106 : decode cX0_want 106 = .ok (.iaload, 1) := dk_46 (dk_at dksX0_want_4 10 rfl rfl)
theorem dX0_want_107 : decode cX0_want 107 = .ok (.goto 9, 3) := dk_167 0 9 (dk_at dksX0_want_4 11 rfl rfl)
theorem dX0_want_110 : decode cX0_want 110 = .ok (.aload_n 0, 1) := dk_42 (dk_at dksX0_want_4 14 rfl rfl)
theorem dX0_want_111 : decode cX0_want 111 = .ok (.getfield 39, 3) := dk_180 0 39 (dk_at dksX0_want_4 15 rfl rfl)
theorem dX0_want_114 : decode cX0_want 114 = .ok (.iload_n 1, 1) := dk_27 (dk_at dksX0_want_4 18 rfl rfl)
theorem dX0_want_115 : decode cX0_want 115 = .ok (.iaload, 1) := dk_46 (dk_at dksX0_want_4 19 rfl rfl)
theorem dX0_want_116 : decode cX0_want 116 = .ok (.istore 4, 2) := dk_54 4 (dk_at dksX0_want_4 20 rfl rfl)
theorem dX0_want_118 : decode cX0_want 118 = .ok (.iload_n 2, 1) := dk_28 (dk_at dksX0_want_4 22 rfl rfl)
theorem dX0_want_119 : decode cX0_want 119 = .ok (.ifCond .ne 13, 3) := dk_154 0 13 (dk_at dksX0_want_5 0 rfl rfl)
theorem dX0_want_122 : decode cX0_want 122 = .ok (.aload_n 0, 1) := dk_42 (dk_at dksX0_want_5 3 rfl rfl)
theorem dX0_want_123 : decode cX0_want 123 = .ok (.getfield 33, 3) := dk_180 0 33 (dk_at dksX0_want_5 4 rfl rfl)
theorem dX0_want_126 : decode cX0_want 126 = .ok (.iload_n 1, 1) := dk_27 (dk_at dksX0_want_5 7 rfl rfl)
theorem dX0_want_127 : decode cX0_want 127 = .ok (.iload_n 3, 1) := dk_29 (dk_at dksX0_want_5 8 rfl rfl)
theorem dX0_want_128 : decode cX0_want 128 = .ok (.iastore, 1) := dk_79 (dk_at dksX0_want_5 9 rfl rfl)
theorem dX0_want_129 : decode cX0_want 129 = .ok (.goto 25, 3) := dk_167 0 25 (dk_at dksX0_want_5 10 rfl rfl)
theorem dX0_want_132 : decode cX0_want 132 = .ok (.iload_n 2, 1) := dk_28 (dk_at dksX0_want_5 13 rfl rfl)
theorem dX0_want_133 : decode cX0_want 133 = .ok (.iconst 1, 1) := dk_4 (dk_at dksX0_want_5 14 rfl rfl)
theorem dX0_want_134 : decode cX0_want 134 = .ok (.if_icmp .ne 13, 3) := dk_160 0 13 (dk_at dksX0_want_5 15 rfl rfl)
theorem dX0_want_137 : decode cX0_want 137 = .ok (.aload_n 0, 1) := dk_42 (dk_at dksX0_want_5 18 rfl rfl)
theorem dX0_want_138 : decode cX0_want 138 = .ok (.getfield 36, 3) := dk_180 0 36 (dk_at dksX0_want_5 19 rfl rfl)
theorem dX0_want_141 : decode cX0_want 141 = .ok (.iload_n 1, 1) := dk_27 (dk_at dksX0_want_5 22 rfl rfl)
theorem dX0_want_142 : decode cX0_want 142 = .ok (.iload_n 3, 1) := dk_29 (dk_at dksX0_want_5 23 rfl rfl)
theorem dX0_want_143 : decode cX0_want 143 = .ok (.iastore, 1) := dk_79 (dk_at dksX0_want_6 0 rfl rfl)
theorem dX0_want_144 : decode cX0_want 144 = .ok (.goto 10, 3) := dk_167 0 10 (dk_at dksX0_want_6 1 rfl rfl)
theorem dX0_want_147 : decode cX0_want 147 = .ok (.aload_n 0, 1) := dk_42 (dk_at dksX0_want_6 4 rfl rfl)
theorem dX0_want_148 : decode cX0_want 148 = .ok (.getfield 39, 3) := dk_180 0 39 (dk_at dksX0_want_6 5 rfl rfl)
theorem dX0_want_151 : decode cX0_want 151 = .ok (.iload_n 1, 1) := dk_27 (dk_at dksX0_want_6 8 rfl rfl)
theorem dX0_want_152 : decode cX0_want 152 = .ok (.iload_n 3, 1) := dk_29 (dk_at dksX0_want_6 9 rfl rfl)
theorem dX0_want_153 : decode cX0_want 153 = .ok (.iastore, 1) := dk_79 (dk_at dksX0_want_6 10 rfl rfl)
theorem dX0_want_154 : decode cX0_want 154 = .ok (.iload 4, 2) := dk_21 4 (dk_at dksX0_want_6 11 rfl rfl)
theorem dX0_want_156 : decode cX0_want 156 = .ok (.ireturn, 1) := dk_172 (dk_at dksX0_want_6 13 rfl rfl)
abbrev cX0_townTold : ByteArray := prog_1_method_15_code
def yX0_townTold : MethodName := ⟨RX0, "townTold", "(II)I"⟩
def dkwX0_townTold_3 : List UInt8 := [180, 0, 39, 27, 46, 172, 16, 249, 172]
abbrev dktX0_townTold_3 : List UInt8 := dkwX0_townTold_3 ++ []
def dkwX0_townTold_2 : List UInt8 := [42, 180, 0, 29, 27, 46, 172, 42, 180, 0, 33, 27, 46, 172, 42, 180, 0, 36, 27, 46, 172, 42]
abbrev dktX0_townTold_2 : List UInt8 := dkwX0_townTold_2 ++ dktX0_townTold_3
def dkwX0_townTold_1 : List UInt8 := [170, 0, 0, 0, 0, 0, 0, 60, 0, 0, 0, 0, 0, 0, 0, 3, 0, 0, 0, 32, 0, 0, 0, 39, 0, 0, 0, 46, 0, 0, 0, 53]
abbrev dktX0_townTold_1 : List UInt8 := dkwX0_townTold_1 ++ dktX0_townTold_2
def dkwX0_townTold_0 : List UInt8 := [42, 27, 182, 0, 145, 154, 0, 6, 16, 251, 172, 28]
abbrev dktX0_townTold_0 : List UInt8 := dkwX0_townTold_0 ++ dktX0_townTold_1
theorem dksX0_townTold_0 : cX0_townTold.data.toList.drop 0 = dktX0_townTold_0 := by decide +kernel
theorem dksX0_townTold_1 : cX0_townTold.data.toList.drop 12 = dktX0_townTold_1 := dk_seg dksX0_townTold_0 12 rfl rfl
theorem dksX0_townTold_2 : cX0_townTold.data.toList.drop 44 = dktX0_townTold_2 := dk_seg dksX0_townTold_1 32 rfl rfl
theorem dksX0_townTold_3 : cX0_townTold.data.toList.drop 66 = dktX0_townTold_3 := dk_seg dksX0_townTold_2 22 rfl rfl
theorem dX0_townTold_0 : decode cX0_townTold 0 = .ok (.aload_n 0, 1) := dk_42 (dk_at dksX0_townTold_0 0 rfl rfl)
theorem dX0_townTold_1 : decode cX0_townTold 1 = .ok (.iload_n 1, 1) := dk_27 (dk_at dksX0_townTold_0 1 rfl rfl)
theorem dX0_townTold_2 : decode cX0_townTold 2 = .ok (.invokevirtual 145, 3) := dk_182 0 145 (dk_at dksX0_townTold_0 2 rfl rfl)
theorem dX0_townTold_5 : decode cX0_townTold 5 = .ok (.ifCond .ne 6, 3) := dk_154 0 6 (dk_at dksX0_townTold_0 5 rfl rfl)
theorem dX0_townTold_8 : decode cX0_townTold 8 = .ok (.bipush (-5), 2) := dk_16 251 (dk_at dksX0_townTold_0 8 rfl rfl)
theorem dX0_townTold_10 : decode cX0_townTold 10 = .ok (.ireturn, 1) := dk_172 (dk_at dksX0_townTold_0 10 rfl rfl)
theorem dX0_townTold_11 : decode cX0_townTold 11 = .ok (.iload_n 2, 1) := dk_28 (dk_at dksX0_townTold_0 11 rfl rfl)
theorem dX0_townTold_12 : decode cX0_townTold 12 = .ok (.tableswitch 60 0 3 #[32, 39, 46, 53], 32) := by decide +kernel
theorem dX0_townTold_44 : decode cX0_townTold 44 = .ok (.aload_n 0, 1) := dk_42 (dk_at dksX0_townTold_2 0 rfl rfl)
theorem dX0_townTold_45 : decode cX0_townTold 45 = .ok (.getfield 29, 3) := dk_180 0 29 (dk_at dksX0_townTold_2 1 rfl rfl)
theorem dX0_townTold_48 : decode cX0_townTold 48 = .ok (.iload_n 1, 1) := dk_27 (dk_at dksX0_townTold_2 4 rfl rfl)
theorem dX0_townTold_49 : decode cX0_townTold 49 = .ok (.iaload, 1) := dk_46 (dk_at dksX0_townTold_2 5 rfl rfl)
theorem dX0_townTold_50 : decode cX0_townTold 50 = .ok (.ireturn, 1) := dk_172 (dk_at dksX0_townTold_2 6 rfl rfl)
theorem dX0_townTold_51 : decode cX0_townTold 51 = .ok (.aload_n 0, 1) := dk_42 (dk_at dksX0_townTold_2 7 rfl rfl)
theorem dX0_townTold_52 : decode cX0_townTold 52 = .ok (.getfield 33, 3) := dk_180 0 33 (dk_at dksX0_townTold_2 8 rfl rfl)
theorem dX0_townTold_55 : decode cX0_townTold 55 = .ok (.iload_n 1, 1) := dk_27 (dk_at dksX0_townTold_2 11 rfl rfl)
theorem dX0_townTold_56 : decode cX0_townTold 56 = .ok (.iaload, 1) := dk_46 (dk_at dksX0_townTold_2 12 rfl rfl)
theorem dX0_townTold_57 : decode cX0_townTold 57 = .ok (.ireturn, 1) := dk_172 (dk_at dksX0_townTold_2 13 rfl rfl)
theorem dX0_townTold_58 : decode cX0_townTold 58 = .ok (.aload_n 0, 1) := dk_42 (dk_at dksX0_townTold_2 14 rfl rfl)
theorem dX0_townTold_59 : decode cX0_townTold 59 = .ok (.getfield 36, 3) := dk_180 0 36 (dk_at dksX0_townTold_2 15 rfl rfl)
theorem dX0_townTold_62 : decode cX0_townTold 62 = .ok (.iload_n 1, 1) := dk_27 (dk_at dksX0_townTold_2 18 rfl rfl)
theorem dX0_townTold_63 : decode cX0_townTold 63 = .ok (.iaload, 1) := dk_46 (dk_at dksX0_townTold_2 19 rfl rfl)
theorem dX0_townTold_64 : decode cX0_townTold 64 = .ok (.ireturn, 1) := dk_172 (dk_at dksX0_townTold_2 20 rfl rfl)
theorem dX0_townTold_65 : decode cX0_townTold 65 = .ok (.aload_n 0, 1) := dk_42 (dk_at dksX0_townTold_2 21 rfl rfl)
theorem dX0_townTold_66 : decode cX0_townTold 66 = .ok (.getfield 39, 3) := dk_180 0 39 (dk_at dksX0_townTold_3 0 rfl rfl)
theorem dX0_townTold_69 : decode cX0_townTold 69 = .ok (.iload_n 1, 1) := dk_27 (dk_at dksX0_townTold_3 3 rfl rfl)
theorem dX0_townTold_70 : decode cX0_townTold 70 = .ok (.iaload, 1) := dk_46 (dk_at dksX0_townTold_3 4 rfl rfl)
theorem dX0_townTold_71 : decode cX0_townTold 71 = .ok (.ireturn, 1) := dk_172 (dk_at dksX0_townTold_3 5 rfl rfl)
theorem dX0_townTold_72 : decode cX0_townTold 72 = .ok (.bipush (-7), 2) := dk_16 249 (dk_at dksX0_townTold_3 6 rfl rfl)
theorem dX0_townTold_74 : decode cX0_townTold 74 = .ok (.ireturn, 1) := dk_172 (dk_at dksX0_townTold_3 8 rfl rfl)
abbrev cX0_feast : ByteArray := prog_1_method_16_code
def yX0_feast : MethodName := ⟨RX0, "feast", "(II)I"⟩
def dkwX0_feast_2 : List UInt8 := [180, 0, 55, 42, 180, 0, 170, 28, 79, 42, 89, 180, 0, 170, 4, 96, 181, 0, 170, 42, 180, 0, 170, 172]
abbrev dktX0_feast_2 : List UInt8 := dkwX0_feast_2 ++ []
def dkwX0_feast_1 : List UInt8 := [180, 0, 170, 16, 10, 160, 0, 6, 16, 252, 172, 42, 180, 0, 52, 42, 180, 0, 170, 27, 79, 42]
abbrev dktX0_feast_1 : List UInt8 := dkwX0_feast_1 ++ dktX0_feast_2
def dkwX0_feast_0 : List UInt8 := [42, 27, 182, 0, 167, 153, 0, 15, 28, 133, 9, 20, 0, 165, 184, 0, 133, 154, 0, 6, 16, 254, 172, 42]
abbrev dktX0_feast_0 : List UInt8 := dkwX0_feast_0 ++ dktX0_feast_1
theorem dksX0_feast_0 : cX0_feast.data.toList.drop 0 = dktX0_feast_0 := by decide +kernel
theorem dksX0_feast_1 : cX0_feast.data.toList.drop 24 = dktX0_feast_1 := dk_seg dksX0_feast_0 24 rfl rfl
theorem dksX0_feast_2 : cX0_feast.data.toList.drop 46 = dktX0_feast_2 := dk_seg dksX0_feast_1 22 rfl rfl
theorem dX0_feast_0 : decode cX0_feast 0 = .ok (.aload_n 0, 1) := dk_42 (dk_at dksX0_feast_0 0 rfl rfl)
theorem dX0_feast_1 : decode cX0_feast 1 = .ok (.iload_n 1, 1) := dk_27 (dk_at dksX0_feast_0 1 rfl rfl)
theorem dX0_feast_2 : decode cX0_feast 2 = .ok (.invokevirtual 167, 3) := dk_182 0 167 (dk_at dksX0_feast_0 2 rfl rfl)
theorem dX0_feast_5 : decode cX0_feast 5 = .ok (.ifCond .eq 15, 3) := dk_153 0 15 (dk_at dksX0_feast_0 5 rfl rfl)
theorem dX0_feast_8 : decode cX0_feast 8 = .ok (.iload_n 2, 1) := dk_28 (dk_at dksX0_feast_0 8 rfl rfl)
theorem dX0_feast_9 : decode cX0_feast 9 = .ok (.i2l, 1) := dk_133 (dk_at dksX0_feast_0 9 rfl rfl)
theorem dX0_feast_10 : decode cX0_feast 10 = .ok (.lconst 0, 1) := dk_9 (dk_at dksX0_feast_0 10 rfl rfl)
theorem dX0_feast_11 : decode cX0_feast 11 = .ok (.ldc2_w 165, 3) := dk_20 0 165 (dk_at dksX0_feast_0 11 rfl rfl)
theorem dX0_feast_14 : decode cX0_feast 14 = .ok (.invokestatic 133, 3) := dk_184 0 133 (dk_at dksX0_feast_0 14 rfl rfl)
theorem dX0_feast_17 : decode cX0_feast 17 = .ok (.ifCond .ne 6, 3) := dk_154 0 6 (dk_at dksX0_feast_0 17 rfl rfl)
theorem dX0_feast_20 : decode cX0_feast 20 = .ok (.bipush (-2), 2) := dk_16 254 (dk_at dksX0_feast_0 20 rfl rfl)
theorem dX0_feast_22 : decode cX0_feast 22 = .ok (.ireturn, 1) := dk_172 (dk_at dksX0_feast_0 22 rfl rfl)
theorem dX0_feast_23 : decode cX0_feast 23 = .ok (.aload_n 0, 1) := dk_42 (dk_at dksX0_feast_0 23 rfl rfl)
theorem dX0_feast_24 : decode cX0_feast 24 = .ok (.getfield 170, 3) := dk_180 0 170 (dk_at dksX0_feast_1 0 rfl rfl)
theorem dX0_feast_27 : decode cX0_feast 27 = .ok (.bipush 10, 2) := dk_16 10 (dk_at dksX0_feast_1 3 rfl rfl)
theorem dX0_feast_29 : decode cX0_feast 29 = .ok (.if_icmp .ne 6, 3) := dk_160 0 6 (dk_at dksX0_feast_1 5 rfl rfl)
theorem dX0_feast_32 : decode cX0_feast 32 = .ok (.bipush (-4), 2) := dk_16 252 (dk_at dksX0_feast_1 8 rfl rfl)
theorem dX0_feast_34 : decode cX0_feast 34 = .ok (.ireturn, 1) := dk_172 (dk_at dksX0_feast_1 10 rfl rfl)
theorem dX0_feast_35 : decode cX0_feast 35 = .ok (.aload_n 0, 1) := dk_42 (dk_at dksX0_feast_1 11 rfl rfl)
theorem dX0_feast_36 : decode cX0_feast 36 = .ok (.getfield 52, 3) := dk_180 0 52 (dk_at dksX0_feast_1 12 rfl rfl)
theorem dX0_feast_39 : decode cX0_feast 39 = .ok (.aload_n 0, 1) := dk_42 (dk_at dksX0_feast_1 15 rfl rfl)
theorem dX0_feast_40 : decode cX0_feast 40 = .ok (.getfield 170, 3) := dk_180 0 170 (dk_at dksX0_feast_1 16 rfl rfl)
theorem dX0_feast_43 : decode cX0_feast 43 = .ok (.iload_n 1, 1) := dk_27 (dk_at dksX0_feast_1 19 rfl rfl)
theorem dX0_feast_44 : decode cX0_feast 44 = .ok (.iastore, 1) := dk_79 (dk_at dksX0_feast_1 20 rfl rfl)
theorem dX0_feast_45 : decode cX0_feast 45 = .ok (.aload_n 0, 1) := dk_42 (dk_at dksX0_feast_1 21 rfl rfl)
theorem dX0_feast_46 : decode cX0_feast 46 = .ok (.getfield 55, 3) := dk_180 0 55 (dk_at dksX0_feast_2 0 rfl rfl)
theorem dX0_feast_49 : decode cX0_feast 49 = .ok (.aload_n 0, 1) := dk_42 (dk_at dksX0_feast_2 3 rfl rfl)
theorem dX0_feast_50 : decode cX0_feast 50 = .ok (.getfield 170, 3) := dk_180 0 170 (dk_at dksX0_feast_2 4 rfl rfl)
theorem dX0_feast_53 : decode cX0_feast 53 = .ok (.iload_n 2, 1) := dk_28 (dk_at dksX0_feast_2 7 rfl rfl)
theorem dX0_feast_54 : decode cX0_feast 54 = .ok (.iastore, 1) := dk_79 (dk_at dksX0_feast_2 8 rfl rfl)
theorem dX0_feast_55 : decode cX0_feast 55 = .ok (.aload_n 0, 1) := dk_42 (dk_at dksX0_feast_2 9 rfl rfl)
theorem dX0_feast_56 : decode cX0_feast 56 = .ok (.dup, 1) := dk_89 (dk_at dksX0_feast_2 10 rfl rfl)
theorem dX0_feast_57 : decode cX0_feast 57 = .ok (.getfield 170, 3) := dk_180 0 170 (dk_at dksX0_feast_2 11 rfl rfl)
theorem dX0_feast_60 : decode cX0_feast 60 = .ok (.iconst 1, 1) := dk_4 (dk_at dksX0_feast_2 14 rfl rfl)
theorem dX0_feast_61 : decode cX0_feast 61 = .ok (.iadd, 1) := dk_96 (dk_at dksX0_feast_2 15 rfl rfl)
theorem dX0_feast_62 : decode cX0_feast 62 = .ok (.putfield 170, 3) := dk_181 0 170 (dk_at dksX0_feast_2 16 rfl rfl)
theorem dX0_feast_65 : decode cX0_feast 65 = .ok (.aload_n 0, 1) := dk_42 (dk_at dksX0_feast_2 19 rfl rfl)
theorem dX0_feast_66 : decode cX0_feast 66 = .ok (.getfield 170, 3) := dk_180 0 170 (dk_at dksX0_feast_2 20 rfl rfl)
theorem dX0_feast_69 : decode cX0_feast 69 = .ok (.ireturn, 1) := dk_172 (dk_at dksX0_feast_2 23 rfl rfl)
abbrev cX0_isWeek : ByteArray := prog_1_method_8_code
def yX0_isWeek : MethodName := ⟨RX0, "isWeek", "(I)Z"⟩
def dkwX0_isWeek_0 : List UInt8 := [27, 133, 9, 20, 0, 140, 184, 0, 133, 172]
abbrev dktX0_isWeek_0 : List UInt8 := dkwX0_isWeek_0 ++ []
theorem dksX0_isWeek_0 : cX0_isWeek.data.toList.drop 0 = dktX0_isWeek_0 := by decide +kernel
theorem dX0_isWeek_0 : decode cX0_isWeek 0 = .ok (.iload_n 1, 1) := dk_27 (dk_at dksX0_isWeek_0 0 rfl rfl)
theorem dX0_isWeek_1 : decode cX0_isWeek 1 = .ok (.i2l, 1) := dk_133 (dk_at dksX0_isWeek_0 1 rfl rfl)
theorem dX0_isWeek_2 : decode cX0_isWeek 2 = .ok (.lconst 0, 1) := dk_9 (dk_at dksX0_isWeek_0 2 rfl rfl)
theorem dX0_isWeek_3 : decode cX0_isWeek 3 = .ok (.ldc2_w 140, 3) := dk_20 0 140 (dk_at dksX0_isWeek_0 3 rfl rfl)
theorem dX0_isWeek_6 : decode cX0_isWeek 6 = .ok (.invokestatic 133, 3) := dk_184 0 133 (dk_at dksX0_isWeek_0 6 rfl rfl)
theorem dX0_isWeek_9 : decode cX0_isWeek 9 = .ok (.ireturn, 1) := dk_172 (dk_at dksX0_isWeek_0 9 rfl rfl)
abbrev cX0_says : ByteArray := prog_1_method_19_code
def yX0_says : MethodName := ⟨RX0, "says", "(II)J"⟩
def dkwX0_says_1 : List UInt8 := [182, 0, 185, 133, 167, 0, 6, 20, 0, 188, 173]
abbrev dktX0_says_1 : List UInt8 := dkwX0_says_1 ++ []
def dkwX0_says_0 : List UInt8 := [42, 27, 182, 0, 145, 153, 0, 26, 42, 28, 182, 0, 145, 153, 0, 18, 27, 28, 159, 0, 13, 42, 27, 28]
abbrev dktX0_says_0 : List UInt8 := dkwX0_says_0 ++ dktX0_says_1
theorem dksX0_says_0 : cX0_says.data.toList.drop 0 = dktX0_says_0 := by decide +kernel
theorem dksX0_says_1 : cX0_says.data.toList.drop 24 = dktX0_says_1 := dk_seg dksX0_says_0 24 rfl rfl
theorem dX0_says_0 : decode cX0_says 0 = .ok (.aload_n 0, 1) := dk_42 (dk_at dksX0_says_0 0 rfl rfl)
theorem dX0_says_1 : decode cX0_says 1 = .ok (.iload_n 1, 1) := dk_27 (dk_at dksX0_says_0 1 rfl rfl)
theorem dX0_says_2 : decode cX0_says 2 = .ok (.invokevirtual 145, 3) := dk_182 0 145 (dk_at dksX0_says_0 2 rfl rfl)
theorem dX0_says_5 : decode cX0_says 5 = .ok (.ifCond .eq 26, 3) := dk_153 0 26 (dk_at dksX0_says_0 5 rfl rfl)
theorem dX0_says_8 : decode cX0_says 8 = .ok (.aload_n 0, 1) := dk_42 (dk_at dksX0_says_0 8 rfl rfl)
theorem dX0_says_9 : decode cX0_says 9 = .ok (.iload_n 2, 1) := dk_28 (dk_at dksX0_says_0 9 rfl rfl)
theorem dX0_says_10 : decode cX0_says 10 = .ok (.invokevirtual 145, 3) := dk_182 0 145 (dk_at dksX0_says_0 10 rfl rfl)
theorem dX0_says_13 : decode cX0_says 13 = .ok (.ifCond .eq 18, 3) := dk_153 0 18 (dk_at dksX0_says_0 13 rfl rfl)
theorem dX0_says_16 : decode cX0_says 16 = .ok (.iload_n 1, 1) := dk_27 (dk_at dksX0_says_0 16 rfl rfl)
theorem dX0_says_17 : decode cX0_says 17 = .ok (.iload_n 2, 1) := dk_28 (dk_at dksX0_says_0 17 rfl rfl)
theorem dX0_says_18 : decode cX0_says 18 = .ok (.if_icmp .eq 13, 3) := dk_159 0 13 (dk_at dksX0_says_0 18 rfl rfl)
theorem dX0_says_21 : decode cX0_says 21 = .ok (.aload_n 0, 1) := dk_42 (dk_at dksX0_says_0 21 rfl rfl)
theorem dX0_says_22 : decode cX0_says 22 = .ok (.iload_n 1, 1) := dk_27 (dk_at dksX0_says_0 22 rfl rfl)
theorem dX0_says_23 : decode cX0_says 23 = .ok (.iload_n 2, 1) := dk_28 (dk_at dksX0_says_0 23 rfl rfl)
theorem dX0_says_24 : decode cX0_says 24 = .ok (.invokevirtual 185, 3) := dk_182 0 185 (dk_at dksX0_says_1 0 rfl rfl)
theorem dX0_says_27 : decode cX0_says 27 = .ok (.i2l, 1) := dk_133 (dk_at dksX0_says_1 3 rfl rfl)
theorem dX0_says_28 : decode cX0_says 28 = .ok (.goto 6, 3) := dk_167 0 6 (dk_at dksX0_says_1 4 rfl rfl)
theorem dX0_says_31 : decode cX0_says 31 = .ok (.ldc2_w 188, 3) := dk_20 0 188 (dk_at dksX0_says_1 7 rfl rfl)
theorem dX0_says_34 : decode cX0_says 34 = .ok (.lreturn, 1) := dk_173 (dk_at dksX0_says_1 10 rfl rfl)
abbrev cX0_near : ByteArray := prog_1_method_17_code
def yX0_near : MethodName := ⟨RX0, "near", "(II)I"⟩
def dkwX0_near_3 : List UInt8 := [180, 0, 173, 50, 3, 50, 42, 180, 0, 65, 185, 0, 176, 2, 0, 172]
abbrev dktX0_near_3 : List UInt8 := dkwX0_near_3 ++ []
def dkwX0_near_2 : List UInt8 := [79, 42, 180, 0, 65, 7, 3, 79, 42, 180, 0, 65, 8, 42, 180, 0, 48, 79, 42, 180, 0, 107, 42]
abbrev dktX0_near_2 : List UInt8 := dkwX0_near_2 ++ dktX0_near_3
def dkwX0_near_1 : List UInt8 := [180, 0, 29, 27, 46, 79, 42, 180, 0, 65, 5, 42, 180, 0, 29, 28, 46, 79, 42, 180, 0, 65, 6, 3]
abbrev dktX0_near_1 : List UInt8 := dkwX0_near_1 ++ dktX0_near_2
def dkwX0_near_0 : List UInt8 := [42, 180, 0, 65, 3, 42, 180, 0, 45, 16, 6, 27, 104, 28, 96, 46, 79, 42, 180, 0, 65, 4, 42]
abbrev dktX0_near_0 : List UInt8 := dkwX0_near_0 ++ dktX0_near_1
theorem dksX0_near_0 : cX0_near.data.toList.drop 0 = dktX0_near_0 := by decide +kernel
theorem dksX0_near_1 : cX0_near.data.toList.drop 23 = dktX0_near_1 := dk_seg dksX0_near_0 23 rfl rfl
theorem dksX0_near_2 : cX0_near.data.toList.drop 47 = dktX0_near_2 := dk_seg dksX0_near_1 24 rfl rfl
theorem dksX0_near_3 : cX0_near.data.toList.drop 70 = dktX0_near_3 := dk_seg dksX0_near_2 23 rfl rfl
theorem dX0_near_0 : decode cX0_near 0 = .ok (.aload_n 0, 1) := dk_42 (dk_at dksX0_near_0 0 rfl rfl)
theorem dX0_near_1 : decode cX0_near 1 = .ok (.getfield 65, 3) := dk_180 0 65 (dk_at dksX0_near_0 1 rfl rfl)
theorem dX0_near_4 : decode cX0_near 4 = .ok (.iconst 0, 1) := dk_3 (dk_at dksX0_near_0 4 rfl rfl)
theorem dX0_near_5 : decode cX0_near 5 = .ok (.aload_n 0, 1) := dk_42 (dk_at dksX0_near_0 5 rfl rfl)
theorem dX0_near_6 : decode cX0_near 6 = .ok (.getfield 45, 3) := dk_180 0 45 (dk_at dksX0_near_0 6 rfl rfl)
theorem dX0_near_9 : decode cX0_near 9 = .ok (.bipush 6, 2) := dk_16 6 (dk_at dksX0_near_0 9 rfl rfl)
theorem dX0_near_11 : decode cX0_near 11 = .ok (.iload_n 1, 1) := dk_27 (dk_at dksX0_near_0 11 rfl rfl)
theorem dX0_near_12 : decode cX0_near 12 = .ok (.imul, 1) := dk_104 (dk_at dksX0_near_0 12 rfl rfl)
theorem dX0_near_13 : decode cX0_near 13 = .ok (.iload_n 2, 1) := dk_28 (dk_at dksX0_near_0 13 rfl rfl)
theorem dX0_near_14 : decode cX0_near 14 = .ok (.iadd, 1) := dk_96 (dk_at dksX0_near_0 14 rfl rfl)
theorem dX0_near_15 : decode cX0_near 15 = .ok (.iaload, 1) := dk_46 (dk_at dksX0_near_0 15 rfl rfl)
theorem dX0_near_16 : decode cX0_near 16 = .ok (.iastore, 1) := dk_79 (dk_at dksX0_near_0 16 rfl rfl)
theorem dX0_near_17 : decode cX0_near 17 = .ok (.aload_n 0, 1) := dk_42 (dk_at dksX0_near_0 17 rfl rfl)
theorem dX0_near_18 : decode cX0_near 18 = .ok (.getfield 65, 3) := dk_180 0 65 (dk_at dksX0_near_0 18 rfl rfl)
theorem dX0_near_21 : decode cX0_near 21 = .ok (.iconst 1, 1) := dk_4 (dk_at dksX0_near_0 21 rfl rfl)
theorem dX0_near_22 : decode cX0_near 22 = .ok (.aload_n 0, 1) := dk_42 (dk_at dksX0_near_0 22 rfl rfl)
theorem dX0_near_23 : decode cX0_near 23 = .ok (.getfield 29, 3) := dk_180 0 29 (dk_at dksX0_near_1 0 rfl rfl)
theorem dX0_near_26 : decode cX0_near 26 = .ok (.iload_n 1, 1) := dk_27 (dk_at dksX0_near_1 3 rfl rfl)
theorem dX0_near_27 : decode cX0_near 27 = .ok (.iaload, 1) := dk_46 (dk_at dksX0_near_1 4 rfl rfl)
theorem dX0_near_28 : decode cX0_near 28 = .ok (.iastore, 1) := dk_79 (dk_at dksX0_near_1 5 rfl rfl)
theorem dX0_near_29 : decode cX0_near 29 = .ok (.aload_n 0, 1) := dk_42 (dk_at dksX0_near_1 6 rfl rfl)
theorem dX0_near_30 : decode cX0_near 30 = .ok (.getfield 65, 3) := dk_180 0 65 (dk_at dksX0_near_1 7 rfl rfl)
theorem dX0_near_33 : decode cX0_near 33 = .ok (.iconst 2, 1) := dk_5 (dk_at dksX0_near_1 10 rfl rfl)
theorem dX0_near_34 : decode cX0_near 34 = .ok (.aload_n 0, 1) := dk_42 (dk_at dksX0_near_1 11 rfl rfl)
theorem dX0_near_35 : decode cX0_near 35 = .ok (.getfield 29, 3) := dk_180 0 29 (dk_at dksX0_near_1 12 rfl rfl)
theorem dX0_near_38 : decode cX0_near 38 = .ok (.iload_n 2, 1) := dk_28 (dk_at dksX0_near_1 15 rfl rfl)
theorem dX0_near_39 : decode cX0_near 39 = .ok (.iaload, 1) := dk_46 (dk_at dksX0_near_1 16 rfl rfl)
theorem dX0_near_40 : decode cX0_near 40 = .ok (.iastore, 1) := dk_79 (dk_at dksX0_near_1 17 rfl rfl)
theorem dX0_near_41 : decode cX0_near 41 = .ok (.aload_n 0, 1) := dk_42 (dk_at dksX0_near_1 18 rfl rfl)
theorem dX0_near_42 : decode cX0_near 42 = .ok (.getfield 65, 3) := dk_180 0 65 (dk_at dksX0_near_1 19 rfl rfl)
theorem dX0_near_45 : decode cX0_near 45 = .ok (.iconst 3, 1) := dk_6 (dk_at dksX0_near_1 22 rfl rfl)
theorem dX0_near_46 : decode cX0_near 46 = .ok (.iconst 0, 1) := dk_3 (dk_at dksX0_near_1 23 rfl rfl)
theorem dX0_near_47 : decode cX0_near 47 = .ok (.iastore, 1) := dk_79 (dk_at dksX0_near_2 0 rfl rfl)
theorem dX0_near_48 : decode cX0_near 48 = .ok (.aload_n 0, 1) := dk_42 (dk_at dksX0_near_2 1 rfl rfl)
theorem dX0_near_49 : decode cX0_near 49 = .ok (.getfield 65, 3) := dk_180 0 65 (dk_at dksX0_near_2 2 rfl rfl)
theorem dX0_near_52 : decode cX0_near 52 = .ok (.iconst 4, 1) := dk_7 (dk_at dksX0_near_2 5 rfl rfl)
theorem dX0_near_53 : decode cX0_near 53 = .ok (.iconst 0, 1) := dk_3 (dk_at dksX0_near_2 6 rfl rfl)
theorem dX0_near_54 : decode cX0_near 54 = .ok (.iastore, 1) := dk_79 (dk_at dksX0_near_2 7 rfl rfl)
theorem dX0_near_55 : decode cX0_near 55 = .ok (.aload_n 0, 1) := dk_42 (dk_at dksX0_near_2 8 rfl rfl)
theorem dX0_near_56 : decode cX0_near 56 = .ok (.getfield 65, 3) := dk_180 0 65 (dk_at dksX0_near_2 9 rfl rfl)
theorem dX0_near_59 : decode cX0_near 59 = .ok (.iconst 5, 1) := dk_8 (dk_at dksX0_near_2 12 rfl rfl)
theorem dX0_near_60 : decode cX0_near 60 = .ok (.aload_n 0, 1) := dk_42 (dk_at dksX0_near_2 13 rfl rfl)
theorem dX0_near_61 : decode cX0_near 61 = .ok (.getfield 48, 3) := dk_180 0 48 (dk_at dksX0_near_2 14 rfl rfl)
theorem dX0_near_64 : decode cX0_near 64 = .ok (.iastore, 1) := dk_79 (dk_at dksX0_near_2 17 rfl rfl)
theorem dX0_near_65 : decode cX0_near 65 = .ok (.aload_n 0, 1) := dk_42 (dk_at dksX0_near_2 18 rfl rfl)
theorem dX0_near_66 : decode cX0_near 66 = .ok (.getfield 107, 3) := dk_180 0 107 (dk_at dksX0_near_2 19 rfl rfl)
theorem dX0_near_69 : decode cX0_near 69 = .ok (.aload_n 0, 1) := dk_42 (dk_at dksX0_near_2 22 rfl rfl)
theorem dX0_near_70 : decode cX0_near 70 = .ok (.getfield 173, 3) := dk_180 0 173 (dk_at dksX0_near_3 0 rfl rfl)
theorem dX0_near_73 : decode cX0_near 73 = .ok (.aaload, 1) := dk_50 (dk_at dksX0_near_3 3 rfl rfl)
theorem dX0_near_74 : decode cX0_near 74 = .ok (.iconst 0, 1) := dk_3 (dk_at dksX0_near_3 4 rfl rfl)
theorem dX0_near_75 : decode cX0_near 75 = .ok (.aaload, 1) := dk_50 (dk_at dksX0_near_3 5 rfl rfl)
theorem dX0_near_76 : decode cX0_near 76 = .ok (.aload_n 0, 1) := dk_42 (dk_at dksX0_near_3 6 rfl rfl)
theorem dX0_near_77 : decode cX0_near 77 = .ok (.getfield 65, 3) := dk_180 0 65 (dk_at dksX0_near_3 7 rfl rfl)
theorem dX0_near_80 : decode cX0_near 80 = .ok (.invokeinterface 176 2, 5) := by decide +kernel
theorem dX0_near_85 : decode cX0_near 85 = .ok (.ireturn, 1) := dk_172 (dk_at dksX0_near_3 15 rfl rfl)
abbrev cX0_worthOf : ByteArray := prog_1_method_20_code
def yX0_worthOf : MethodName := ⟨RX0, "worthOf", "(IIII)J"⟩
def dkwX0_worthOf_2 : List UInt8 := [21, 4, 182, 0, 193, 133, 167, 0, 6, 20, 0, 188, 173]
abbrev dktX0_worthOf_2 : List UInt8 := dkwX0_worthOf_2 ++ []
def dkwX0_worthOf_1 : List UInt8 := [184, 0, 133, 153, 0, 29, 21, 4, 133, 9, 20, 0, 165, 184, 0, 133, 153, 0, 16, 42, 27, 28, 29]
abbrev dktX0_worthOf_1 : List UInt8 := dkwX0_worthOf_1 ++ dktX0_worthOf_2
def dkwX0_worthOf_0 : List UInt8 := [42, 27, 182, 0, 145, 153, 0, 49, 42, 28, 182, 0, 190, 153, 0, 41, 29, 133, 9, 20, 0, 140]
abbrev dktX0_worthOf_0 : List UInt8 := dkwX0_worthOf_0 ++ dktX0_worthOf_1
theorem dksX0_worthOf_0 : cX0_worthOf.data.toList.drop 0 = dktX0_worthOf_0 := by decide +kernel
theorem dksX0_worthOf_1 : cX0_worthOf.data.toList.drop 22 = dktX0_worthOf_1 := dk_seg dksX0_worthOf_0 22 rfl rfl
theorem dksX0_worthOf_2 : cX0_worthOf.data.toList.drop 45 = dktX0_worthOf_2 := dk_seg dksX0_worthOf_1 23 rfl rfl
theorem dX0_worthOf_0 : decode cX0_worthOf 0 = .ok (.aload_n 0, 1) := dk_42 (dk_at dksX0_worthOf_0 0 rfl rfl)
theorem dX0_worthOf_1 : decode cX0_worthOf 1 = .ok (.iload_n 1, 1) := dk_27 (dk_at dksX0_worthOf_0 1 rfl rfl)
theorem dX0_worthOf_2 : decode cX0_worthOf 2 = .ok (.invokevirtual 145, 3) := dk_182 0 145 (dk_at dksX0_worthOf_0 2 rfl rfl)
theorem dX0_worthOf_5 : decode cX0_worthOf 5 = .ok (.ifCond .eq 49, 3) := dk_153 0 49 (dk_at dksX0_worthOf_0 5 rfl rfl)
theorem dX0_worthOf_8 : decode cX0_worthOf 8 = .ok (.aload_n 0, 1) := dk_42 (dk_at dksX0_worthOf_0 8 rfl rfl)
theorem dX0_worthOf_9 : decode cX0_worthOf 9 = .ok (.iload_n 2, 1) := dk_28 (dk_at dksX0_worthOf_0 9 rfl rfl)
theorem dX0_worthOf_10 : decode cX0_worthOf 10 = .ok (.invokevirtual 190, 3) := dk_182 0 190 (dk_at dksX0_worthOf_0 10 rfl rfl)
theorem dX0_worthOf_13 : decode cX0_worthOf 13 = .ok (.ifCond .eq 41, 3) := dk_153 0 41 (dk_at dksX0_worthOf_0 13 rfl rfl)
theorem dX0_worthOf_16 : decode cX0_worthOf 16 = .ok (.iload_n 3, 1) := dk_29 (dk_at dksX0_worthOf_0 16 rfl rfl)
theorem dX0_worthOf_17 : decode cX0_worthOf 17 = .ok (.i2l, 1) := dk_133 (dk_at dksX0_worthOf_0 17 rfl rfl)
theorem dX0_worthOf_18 : decode cX0_worthOf 18 = .ok (.lconst 0, 1) := dk_9 (dk_at dksX0_worthOf_0 18 rfl rfl)
theorem dX0_worthOf_19 : decode cX0_worthOf 19 = .ok (.ldc2_w 140, 3) := dk_20 0 140 (dk_at dksX0_worthOf_0 19 rfl rfl)
theorem dX0_worthOf_22 : decode cX0_worthOf 22 = .ok (.invokestatic 133, 3) := dk_184 0 133 (dk_at dksX0_worthOf_1 0 rfl rfl)
theorem dX0_worthOf_25 : decode cX0_worthOf 25 = .ok (.ifCond .eq 29, 3) := dk_153 0 29 (dk_at dksX0_worthOf_1 3 rfl rfl)
theorem dX0_worthOf_28 : decode cX0_worthOf 28 = .ok (.iload 4, 2) := dk_21 4 (dk_at dksX0_worthOf_1 6 rfl rfl)
theorem dX0_worthOf_30 : decode cX0_worthOf 30 = .ok (.i2l, 1) := dk_133 (dk_at dksX0_worthOf_1 8 rfl rfl)
theorem dX0_worthOf_31 : decode cX0_worthOf 31 = .ok (.lconst 0, 1) := dk_9 (dk_at dksX0_worthOf_1 9 rfl rfl)
theorem dX0_worthOf_32 : decode cX0_worthOf 32 = .ok (.ldc2_w 165, 3) := dk_20 0 165 (dk_at dksX0_worthOf_1 10 rfl rfl)
theorem dX0_worthOf_35 : decode cX0_worthOf 35 = .ok (.invokestatic 133, 3) := dk_184 0 133 (dk_at dksX0_worthOf_1 13 rfl rfl)
theorem dX0_worthOf_38 : decode cX0_worthOf 38 = .ok (.ifCond .eq 16, 3) := dk_153 0 16 (dk_at dksX0_worthOf_1 16 rfl rfl)
theorem dX0_worthOf_41 : decode cX0_worthOf 41 = .ok (.aload_n 0, 1) := dk_42 (dk_at dksX0_worthOf_1 19 rfl rfl)
theorem dX0_worthOf_42 : decode cX0_worthOf 42 = .ok (.iload_n 1, 1) := dk_27 (dk_at dksX0_worthOf_1 20 rfl rfl)
theorem dX0_worthOf_43 : decode cX0_worthOf 43 = .ok (.iload_n 2, 1) := dk_28 (dk_at dksX0_worthOf_1 21 rfl rfl)
theorem dX0_worthOf_44 : decode cX0_worthOf 44 = .ok (.iload_n 3, 1) := dk_29 (dk_at dksX0_worthOf_1 22 rfl rfl)
theorem dX0_worthOf_45 : decode cX0_worthOf 45 = .ok (.iload 4, 2) := dk_21 4 (dk_at dksX0_worthOf_2 0 rfl rfl)
theorem dX0_worthOf_47 : decode cX0_worthOf 47 = .ok (.invokevirtual 193, 3) := dk_182 0 193 (dk_at dksX0_worthOf_2 2 rfl rfl)
theorem dX0_worthOf_50 : decode cX0_worthOf 50 = .ok (.i2l, 1) := dk_133 (dk_at dksX0_worthOf_2 5 rfl rfl)
theorem dX0_worthOf_51 : decode cX0_worthOf 51 = .ok (.goto 6, 3) := dk_167 0 6 (dk_at dksX0_worthOf_2 6 rfl rfl)
theorem dX0_worthOf_54 : decode cX0_worthOf 54 = .ok (.ldc2_w 188, 3) := dk_20 0 188 (dk_at dksX0_worthOf_2 9 rfl rfl)
theorem dX0_worthOf_57 : decode cX0_worthOf 57 = .ok (.lreturn, 1) := dk_173 (dk_at dksX0_worthOf_2 12 rfl rfl)
abbrev cX0_isDay : ByteArray := prog_1_method_6_code
def yX0_isDay : MethodName := ⟨RX0, "isDay", "(I)Z"⟩
def dkwX0_isDay_0 : List UInt8 := [27, 133, 9, 42, 180, 0, 48, 4, 100, 133, 184, 0, 133, 172]
abbrev dktX0_isDay_0 : List UInt8 := dkwX0_isDay_0 ++ []
theorem dksX0_isDay_0 : cX0_isDay.data.toList.drop 0 = dktX0_isDay_0 := by decide +kernel
theorem dX0_isDay_0 : decode cX0_isDay 0 = .ok (.iload_n 1, 1) := dk_27 (dk_at dksX0_isDay_0 0 rfl rfl)
theorem dX0_isDay_1 : decode cX0_isDay 1 = .ok (.i2l, 1) := dk_133 (dk_at dksX0_isDay_0 1 rfl rfl)
theorem dX0_isDay_2 : decode cX0_isDay 2 = .ok (.lconst 0, 1) := dk_9 (dk_at dksX0_isDay_0 2 rfl rfl)
theorem dX0_isDay_3 : decode cX0_isDay 3 = .ok (.aload_n 0, 1) := dk_42 (dk_at dksX0_isDay_0 3 rfl rfl)
theorem dX0_isDay_4 : decode cX0_isDay 4 = .ok (.getfield 48, 3) := dk_180 0 48 (dk_at dksX0_isDay_0 4 rfl rfl)
theorem dX0_isDay_7 : decode cX0_isDay 7 = .ok (.iconst 1, 1) := dk_4 (dk_at dksX0_isDay_0 7 rfl rfl)
theorem dX0_isDay_8 : decode cX0_isDay 8 = .ok (.isub, 1) := dk_100 (dk_at dksX0_isDay_0 8 rfl rfl)
theorem dX0_isDay_9 : decode cX0_isDay 9 = .ok (.i2l, 1) := dk_133 (dk_at dksX0_isDay_0 9 rfl rfl)
theorem dX0_isDay_10 : decode cX0_isDay 10 = .ok (.invokestatic 133, 3) := dk_184 0 133 (dk_at dksX0_isDay_0 10 rfl rfl)
theorem dX0_isDay_13 : decode cX0_isDay 13 = .ok (.ireturn, 1) := dk_172 (dk_at dksX0_isDay_0 13 rfl rfl)
abbrev cX0_saysWorth : ByteArray := prog_1_method_18_code
def yX0_saysWorth : MethodName := ⟨RX0, "saysWorth", "(IIII)I"⟩
def dkwX0_saysWorth_4 : List UInt8 := [21, 5, 184, 0, 151, 184, 0, 182, 172]
abbrev dktX0_saysWorth_4 : List UInt8 := dkwX0_saysWorth_4 ++ []
def dkwX0_saysWorth_3 : List UInt8 := [180, 0, 173, 50, 4, 50, 42, 180, 0, 65, 185, 0, 176, 2, 0, 54, 5, 17, 252, 25, 17, 3, 231]
abbrev dktX0_saysWorth_3 : List UInt8 := dkwX0_saysWorth_3 ++ dktX0_saysWorth_4
def dkwX0_saysWorth_2 : List UInt8 := [160, 0, 7, 4, 167, 0, 4, 3, 79, 42, 180, 0, 65, 8, 42, 180, 0, 48, 79, 42, 180, 0, 107, 42]
abbrev dktX0_saysWorth_2 : List UInt8 := dkwX0_saysWorth_2 ++ dktX0_saysWorth_3
def dkwX0_saysWorth_1 : List UInt8 := [21, 4, 79, 42, 180, 0, 65, 6, 28, 79, 42, 180, 0, 65, 7, 42, 180, 0, 36, 27, 46, 28]
abbrev dktX0_saysWorth_1 : List UInt8 := dkwX0_saysWorth_1 ++ dktX0_saysWorth_2
def dkwX0_saysWorth_0 : List UInt8 := [42, 180, 0, 65, 3, 29, 79, 42, 180, 0, 65, 4, 42, 180, 0, 29, 27, 46, 79, 42, 180, 0, 65, 5]
abbrev dktX0_saysWorth_0 : List UInt8 := dkwX0_saysWorth_0 ++ dktX0_saysWorth_1
theorem dksX0_saysWorth_0 : cX0_saysWorth.data.toList.drop 0 = dktX0_saysWorth_0 := by decide +kernel
theorem dksX0_saysWorth_1 : cX0_saysWorth.data.toList.drop 24 = dktX0_saysWorth_1 := dk_seg dksX0_saysWorth_0 24 rfl rfl
theorem dksX0_saysWorth_2 : cX0_saysWorth.data.toList.drop 46 = dktX0_saysWorth_2 := dk_seg dksX0_saysWorth_1 22 rfl rfl
theorem dksX0_saysWorth_3 : cX0_saysWorth.data.toList.drop 70 = dktX0_saysWorth_3 := dk_seg dksX0_saysWorth_2 24 rfl rfl
theorem dksX0_saysWorth_4 : cX0_saysWorth.data.toList.drop 93 = dktX0_saysWorth_4 := dk_seg dksX0_saysWorth_3 23 rfl rfl
theorem dX0_saysWorth_0 : decode cX0_saysWorth 0 = .ok (.aload_n 0, 1) := dk_42 (dk_at dksX0_saysWorth_0 0 rfl rfl)
theorem dX0_saysWorth_1 : decode cX0_saysWorth 1 = .ok (.getfield 65, 3) := dk_180 0 65 (dk_at dksX0_saysWorth_0 1 rfl rfl)
theorem dX0_saysWorth_4 : decode cX0_saysWorth 4 = .ok (.iconst 0, 1) := dk_3 (dk_at dksX0_saysWorth_0 4 rfl rfl)
theorem dX0_saysWorth_5 : decode cX0_saysWorth 5 = .ok (.iload_n 3, 1) := dk_29 (dk_at dksX0_saysWorth_0 5 rfl rfl)
theorem dX0_saysWorth_6 : decode cX0_saysWorth 6 = .ok (.iastore, 1) := dk_79 (dk_at dksX0_saysWorth_0 6 rfl rfl)
theorem dX0_saysWorth_7 : decode cX0_saysWorth 7 = .ok (.aload_n 0, 1) := dk_42 (dk_at dksX0_saysWorth_0 7 rfl rfl)
theorem dX0_saysWorth_8 : decode cX0_saysWorth 8 = .ok (.getfield 65, 3) := dk_180 0 65 (dk_at dksX0_saysWorth_0 8 rfl rfl)
theorem dX0_saysWorth_11 : decode cX0_saysWorth 11 = .ok (.iconst 1, 1) := dk_4 (dk_at dksX0_saysWorth_0 11 rfl rfl)
theorem dX0_saysWorth_12 : decode cX0_saysWorth 12 = .ok (.aload_n 0, 1) := dk_42 (dk_at dksX0_saysWorth_0 12 rfl rfl)
theorem dX0_saysWorth_13 : decode cX0_saysWorth 13 = .ok (.getfield 29, 3) := dk_180 0 29 (dk_at dksX0_saysWorth_0 13 rfl rfl)
theorem dX0_saysWorth_16 : decode cX0_saysWorth 16 = .ok (.iload_n 1, 1) := dk_27 (dk_at dksX0_saysWorth_0 16 rfl rfl)
theorem dX0_saysWorth_17 : decode cX0_saysWorth 17 = .ok (.iaload, 1) := dk_46 (dk_at dksX0_saysWorth_0 17 rfl rfl)
theorem dX0_saysWorth_18 : decode cX0_saysWorth 18 = .ok (.iastore, 1) := dk_79 (dk_at dksX0_saysWorth_0 18 rfl rfl)
theorem dX0_saysWorth_19 : decode cX0_saysWorth 19 = .ok (.aload_n 0, 1) := dk_42 (dk_at dksX0_saysWorth_0 19 rfl rfl)
theorem dX0_saysWorth_20 : decode cX0_saysWorth 20 = .ok (.getfield 65, 3) := dk_180 0 65 (dk_at dksX0_saysWorth_0 20 rfl rfl)
theorem dX0_saysWorth_23 : decode cX0_saysWorth 23 = .ok (.iconst 2, 1) := dk_5 (dk_at dksX0_saysWorth_0 23 rfl rfl)
theorem dX0_saysWorth_24 : decode cX0_saysWorth 24 = .ok (.iload 4, 2) := dk_21 4 (dk_at dksX0_saysWorth_1 0 rfl rfl)
theorem dX0_saysWorth_26 : decode cX0_saysWorth 26 = .ok (.iastore, 1) := dk_79 (dk_at dksX0_saysWorth_1 2 rfl rfl)
theorem dX0_saysWorth_27 : decode cX0_saysWorth 27 = .ok (.aload_n 0, 1) := dk_42 (dk_at dksX0_saysWorth_1 3 rfl rfl)
theorem dX0_saysWorth_28 : decode cX0_saysWorth 28 = .ok (.getfield 65, 3) := dk_180 0 65 (dk_at dksX0_saysWorth_1 4 rfl rfl)
theorem dX0_saysWorth_31 : decode cX0_saysWorth 31 = .ok (.iconst 3, 1) := dk_6 (dk_at dksX0_saysWorth_1 7 rfl rfl)
theorem dX0_saysWorth_32 : decode cX0_saysWorth 32 = .ok (.iload_n 2, 1) := dk_28 (dk_at dksX0_saysWorth_1 8 rfl rfl)
theorem dX0_saysWorth_33 : decode cX0_saysWorth 33 = .ok (.iastore, 1) := dk_79 (dk_at dksX0_saysWorth_1 9 rfl rfl)
theorem dX0_saysWorth_34 : decode cX0_saysWorth 34 = .ok (.aload_n 0, 1) := dk_42 (dk_at dksX0_saysWorth_1 10 rfl rfl)
theorem dX0_saysWorth_35 : decode cX0_saysWorth 35 = .ok (.getfield 65, 3) := dk_180 0 65 (dk_at dksX0_saysWorth_1 11 rfl rfl)
theorem dX0_saysWorth_38 : decode cX0_saysWorth 38 = .ok (.iconst 4, 1) := dk_7 (dk_at dksX0_saysWorth_1 14 rfl rfl)
theorem dX0_saysWorth_39 : decode cX0_saysWorth 39 = .ok (.aload_n 0, 1) := dk_42 (dk_at dksX0_saysWorth_1 15 rfl rfl)
theorem dX0_saysWorth_40 : decode cX0_saysWorth 40 = .ok (.getfield 36, 3) := dk_180 0 36 (dk_at dksX0_saysWorth_1 16 rfl rfl)
theorem dX0_saysWorth_43 : decode cX0_saysWorth 43 = .ok (.iload_n 1, 1) := dk_27 (dk_at dksX0_saysWorth_1 19 rfl rfl)
theorem dX0_saysWorth_44 : decode cX0_saysWorth 44 = .ok (.iaload, 1) := dk_46 (dk_at dksX0_saysWorth_1 20 rfl rfl)
theorem dX0_saysWorth_45 : decode cX0_saysWorth 45 = .ok (.iload_n 2, 1) := dk_28 (dk_at dksX0_saysWorth_1 21 rfl rfl)
theorem dX0_saysWorth_46 : decode cX0_saysWorth 46 = .ok (.if_icmp .ne 7, 3) := dk_160 0 7 (dk_at dksX0_saysWorth_2 0 rfl rfl)
theorem dX0_saysWorth_49 : decode cX0_saysWorth 49 = .ok (.iconst 1, 1) := dk_4 (dk_at dksX0_saysWorth_2 3 rfl rfl)
theorem dX0_saysWorth_50 : decode cX0_saysWorth 50 = .ok (.goto 4, 3) := dk_167 0 4 (dk_at dksX0_saysWorth_2 4 rfl rfl)
theorem dX0_saysWorth_53 : decode cX0_saysWorth 53 = .ok (.iconst 0, 1) := dk_3 (dk_at dksX0_saysWorth_2 7 rfl rfl)
theorem dX0_saysWorth_54 : decode cX0_saysWorth 54 = .ok (.iastore, 1) := dk_79 (dk_at dksX0_saysWorth_2 8 rfl rfl)
theorem dX0_saysWorth_55 : decode cX0_saysWorth 55 = .ok (.aload_n 0, 1) := dk_42 (dk_at dksX0_saysWorth_2 9 rfl rfl)
theorem dX0_saysWorth_56 : decode cX0_saysWorth 56 = .ok (.getfield 65, 3) := dk_180 0 65 (dk_at dksX0_saysWorth_2 10 rfl rfl)
theorem dX0_saysWorth_59 : decode cX0_saysWorth 59 = .ok (.iconst 5, 1) := dk_8 (dk_at dksX0_saysWorth_2 13 rfl rfl)
theorem dX0_saysWorth_60 : decode cX0_saysWorth 60 = .ok (.aload_n 0, 1) := dk_42 (dk_at dksX0_saysWorth_2 14 rfl rfl)
theorem dX0_saysWorth_61 : decode cX0_saysWorth 61 = .ok (.getfield 48, 3) := dk_180 0 48 (dk_at dksX0_saysWorth_2 15 rfl rfl)
theorem dX0_saysWorth_64 : decode cX0_saysWorth 64 = .ok (.iastore, 1) := dk_79 (dk_at dksX0_saysWorth_2 18 rfl rfl)
theorem dX0_saysWorth_65 : decode cX0_saysWorth 65 = .ok (.aload_n 0, 1) := dk_42 (dk_at dksX0_saysWorth_2 19 rfl rfl)
theorem dX0_saysWorth_66 : decode cX0_saysWorth 66 = .ok (.getfield 107, 3) := dk_180 0 107 (dk_at dksX0_saysWorth_2 20 rfl rfl)
theorem dX0_saysWorth_69 : decode cX0_saysWorth 69 = .ok (.aload_n 0, 1) := dk_42 (dk_at dksX0_saysWorth_2 23 rfl rfl)
theorem dX0_saysWorth_70 : decode cX0_saysWorth 70 = .ok (.getfield 173, 3) := dk_180 0 173 (dk_at dksX0_saysWorth_3 0 rfl rfl)
theorem dX0_saysWorth_73 : decode cX0_saysWorth 73 = .ok (.aaload, 1) := dk_50 (dk_at dksX0_saysWorth_3 3 rfl rfl)
theorem dX0_saysWorth_74 : decode cX0_saysWorth 74 = .ok (.iconst 1, 1) := dk_4 (dk_at dksX0_saysWorth_3 4 rfl rfl)
theorem dX0_saysWorth_75 : decode cX0_saysWorth 75 = .ok (.aaload, 1) := dk_50 (dk_at dksX0_saysWorth_3 5 rfl rfl)
theorem dX0_saysWorth_76 : decode cX0_saysWorth 76 = .ok (.aload_n 0, 1) := dk_42 (dk_at dksX0_saysWorth_3 6 rfl rfl)
theorem dX0_saysWorth_77 : decode cX0_saysWorth 77 = .ok (.getfield 65, 3) := dk_180 0 65 (dk_at dksX0_saysWorth_3 7 rfl rfl)
theorem dX0_saysWorth_80 : decode cX0_saysWorth 80 = .ok (.invokeinterface 176 2, 5) := by decide +kernel
theorem dX0_saysWorth_85 : decode cX0_saysWorth 85 = .ok (.istore 5, 2) := dk_54 5 (dk_at dksX0_saysWorth_3 15 rfl rfl)
theorem dX0_saysWorth_87 : decode cX0_saysWorth 87 = .ok (.sipush (-999), 3) := dk_17 252 25 (dk_at dksX0_saysWorth_3 17 rfl rfl)
theorem dX0_saysWorth_90 : decode cX0_saysWorth 90 = .ok (.sipush 999, 3) := dk_17 3 231 (dk_at dksX0_saysWorth_3 20 rfl rfl)
theorem dX0_saysWorth_93 : decode cX0_saysWorth 93 = .ok (.iload 5, 2) := dk_21 5 (dk_at dksX0_saysWorth_4 0 rfl rfl)
theorem dX0_saysWorth_95 : decode cX0_saysWorth 95 = .ok (.invokestatic 151, 3) := dk_184 0 151 (dk_at dksX0_saysWorth_4 2 rfl rfl)
theorem dX0_saysWorth_98 : decode cX0_saysWorth 98 = .ok (.invokestatic 182, 3) := dk_184 0 182 (dk_at dksX0_saysWorth_4 5 rfl rfl)
theorem dX0_saysWorth_101 : decode cX0_saysWorth 101 = .ok (.ireturn, 1) := dk_172 (dk_at dksX0_saysWorth_4 8 rfl rfl)
abbrev cX0_giving : ByteArray := prog_1_method_21_code
def yX0_giving : MethodName := ⟨RX0, "giving", "(II)I"⟩
def dkwX0_giving_6 : List UInt8 := [16, 12, 160, 0, 6, 16, 252, 172, 42, 180, 0, 61, 25, 5, 182, 0, 218, 87, 25, 5, 180, 0, 222, 172]
abbrev dktX0_giving_6 : List UInt8 := dkwX0_giving_6 ++ []
def dkwX0_giving_5 : List UInt8 := [21, 6, 45, 180, 0, 211, 21, 6, 46, 145, 84, 132, 6, 1, 167, 255, 203, 42, 180, 0, 61, 182, 0, 137]
abbrev dktX0_giving_5 : List UInt8 := dkwX0_giving_5 ++ dktX0_giving_6
def dkwX0_giving_4 : List UInt8 := [133, 9, 25, 5, 42, 180, 0, 48, 182, 0, 214, 133, 184, 0, 133, 154, 0, 6, 16, 254, 172, 25, 4]
abbrev dktX0_giving_4 : List UInt8 := dkwX0_giving_4 ++ dktX0_giving_5
def dkwX0_giving_3 : List UInt8 := [184, 0, 207, 58, 5, 3, 54, 6, 21, 6, 42, 180, 0, 130, 162, 0, 50, 45, 180, 0, 211, 21, 6, 46]
abbrev dktX0_giving_3 : List UInt8 := dkwX0_giving_3 ++ dktX0_giving_4
def dkwX0_giving_2 : List UInt8 := [159, 0, 6, 16, 254, 172, 42, 180, 0, 130, 188, 8, 58, 4, 27, 42, 180, 0, 61, 182, 0, 137, 25, 4]
abbrev dktX0_giving_2 : List UInt8 := dkwX0_giving_2 ++ dktX0_giving_3
def dkwX0_giving_1 : List UInt8 := [180, 0, 117, 28, 50, 78, 45, 180, 0, 202, 156, 0, 6, 16, 245, 172, 45, 180, 0, 205, 42, 180, 0, 130]
abbrev dktX0_giving_1 : List UInt8 := dkwX0_giving_1 ++ dktX0_giving_2
def dkwX0_giving_0 : List UInt8 := [27, 133, 9, 20, 0, 197, 184, 0, 133, 153, 0, 10, 28, 184, 0, 199, 154, 0, 6, 16, 254, 172, 42]
abbrev dktX0_giving_0 : List UInt8 := dkwX0_giving_0 ++ dktX0_giving_1
theorem dksX0_giving_0 : cX0_giving.data.toList.drop 0 = dktX0_giving_0 := by decide +kernel
theorem dksX0_giving_1 : cX0_giving.data.toList.drop 23 = dktX0_giving_1 := dk_seg dksX0_giving_0 23 rfl rfl
theorem dksX0_giving_2 : cX0_giving.data.toList.drop 47 = dktX0_giving_2 := dk_seg dksX0_giving_1 24 rfl rfl
theorem dksX0_giving_3 : cX0_giving.data.toList.drop 71 = dktX0_giving_3 := dk_seg dksX0_giving_2 24 rfl rfl
theorem dksX0_giving_4 : cX0_giving.data.toList.drop 95 = dktX0_giving_4 := dk_seg dksX0_giving_3 24 rfl rfl
theorem dksX0_giving_5 : cX0_giving.data.toList.drop 118 = dktX0_giving_5 := dk_seg dksX0_giving_4 23 rfl rfl
theorem dksX0_giving_6 : cX0_giving.data.toList.drop 142 = dktX0_giving_6 := dk_seg dksX0_giving_5 24 rfl rfl
theorem dX0_giving_0 : decode cX0_giving 0 = .ok (.iload_n 1, 1) := dk_27 (dk_at dksX0_giving_0 0 rfl rfl)
theorem dX0_giving_1 : decode cX0_giving 1 = .ok (.i2l, 1) := dk_133 (dk_at dksX0_giving_0 1 rfl rfl)
theorem dX0_giving_2 : decode cX0_giving 2 = .ok (.lconst 0, 1) := dk_9 (dk_at dksX0_giving_0 2 rfl rfl)
theorem dX0_giving_3 : decode cX0_giving 3 = .ok (.ldc2_w 197, 3) := dk_20 0 197 (dk_at dksX0_giving_0 3 rfl rfl)
theorem dX0_giving_6 : decode cX0_giving 6 = .ok (.invokestatic 133, 3) := dk_184 0 133 (dk_at dksX0_giving_0 6 rfl rfl)
theorem dX0_giving_9 : decode cX0_giving 9 = .ok (.ifCond .eq 10, 3) := dk_153 0 10 (dk_at dksX0_giving_0 9 rfl rfl)
theorem dX0_giving_12 : decode cX0_giving 12 = .ok (.iload_n 2, 1) := dk_28 (dk_at dksX0_giving_0 12 rfl rfl)
theorem dX0_giving_13 : decode cX0_giving 13 = .ok (.invokestatic 199, 3) := dk_184 0 199 (dk_at dksX0_giving_0 13 rfl rfl)
theorem dX0_giving_16 : decode cX0_giving 16 = .ok (.ifCond .ne 6, 3) := dk_154 0 6 (dk_at dksX0_giving_0 16 rfl rfl)
theorem dX0_giving_19 : decode cX0_giving 19 = .ok (.bipush (-2), 2) := dk_16 254 (dk_at dksX0_giving_0 19 rfl rfl)
theorem dX0_giving_21 : decode cX0_giving 21 = .ok (.ireturn, 1) := dk_172 (dk_at dksX0_giving_0 21 rfl rfl)
theorem dX0_giving_22 : decode cX0_giving 22 = .ok (.aload_n 0, 1) := dk_42 (dk_at dksX0_giving_0 22 rfl rfl)
theorem dX0_giving_23 : decode cX0_giving 23 = .ok (.getfield 117, 3) := dk_180 0 117 (dk_at dksX0_giving_1 0 rfl rfl)
theorem dX0_giving_26 : decode cX0_giving 26 = .ok (.iload_n 2, 1) := dk_28 (dk_at dksX0_giving_1 3 rfl rfl)
theorem dX0_giving_27 : decode cX0_giving 27 = .ok (.aaload, 1) := dk_50 (dk_at dksX0_giving_1 4 rfl rfl)
theorem dX0_giving_28 : decode cX0_giving 28 = .ok (.astore_n 3, 1) := dk_78 (dk_at dksX0_giving_1 5 rfl rfl)
theorem dX0_giving_29 : decode cX0_giving 29 = .ok (.aload_n 3, 1) := dk_45 (dk_at dksX0_giving_1 6 rfl rfl)
theorem dX0_giving_30 : decode cX0_giving 30 = .ok (.getfield 202, 3) := dk_180 0 202 (dk_at dksX0_giving_1 7 rfl rfl)
theorem dX0_giving_33 : decode cX0_giving 33 = .ok (.ifCond .ge 6, 3) := dk_156 0 6 (dk_at dksX0_giving_1 10 rfl rfl)
theorem dX0_giving_36 : decode cX0_giving 36 = .ok (.bipush (-11), 2) := dk_16 245 (dk_at dksX0_giving_1 13 rfl rfl)
theorem dX0_giving_38 : decode cX0_giving 38 = .ok (.ireturn, 1) := dk_172 (dk_at dksX0_giving_1 15 rfl rfl)
theorem dX0_giving_39 : decode cX0_giving 39 = .ok (.aload_n 3, 1) := dk_45 (dk_at dksX0_giving_1 16 rfl rfl)
theorem dX0_giving_40 : decode cX0_giving 40 = .ok (.getfield 205, 3) := dk_180 0 205 (dk_at dksX0_giving_1 17 rfl rfl)
theorem dX0_giving_43 : decode cX0_giving 43 = .ok (.aload_n 0, 1) := dk_42 (dk_at dksX0_giving_1 20 rfl rfl)
theorem dX0_giving_44 : decode cX0_giving 44 = .ok (.getfield 130, 3) := dk_180 0 130 (dk_at dksX0_giving_1 21 rfl rfl)
theorem dX0_giving_47 : decode cX0_giving 47 = .ok (.if_icmp .eq 6, 3) := dk_159 0 6 (dk_at dksX0_giving_2 0 rfl rfl)
theorem dX0_giving_50 : decode cX0_giving 50 = .ok (.bipush (-2), 2) := dk_16 254 (dk_at dksX0_giving_2 3 rfl rfl)
theorem dX0_giving_52 : decode cX0_giving 52 = .ok (.ireturn, 1) := dk_172 (dk_at dksX0_giving_2 5 rfl rfl)
theorem dX0_giving_53 : decode cX0_giving 53 = .ok (.aload_n 0, 1) := dk_42 (dk_at dksX0_giving_2 6 rfl rfl)
theorem dX0_giving_54 : decode cX0_giving 54 = .ok (.getfield 130, 3) := dk_180 0 130 (dk_at dksX0_giving_2 7 rfl rfl)
theorem dX0_giving_57 : decode cX0_giving 57 = .ok (.newarray .byte, 2) := dk_188_8 (dk_at dksX0_giving_2 10 rfl rfl)
theorem dX0_giving_59 : decode cX0_giving 59 = .ok (.astore 4, 2) := dk_58 4 (dk_at dksX0_giving_2 12 rfl rfl)
theorem dX0_giving_61 : decode cX0_giving 61 = .ok (.iload_n 1, 1) := dk_27 (dk_at dksX0_giving_2 14 rfl rfl)
theorem dX0_giving_62 : decode cX0_giving 62 = .ok (.aload_n 0, 1) := dk_42 (dk_at dksX0_giving_2 15 rfl rfl)
theorem dX0_giving_63 : decode cX0_giving 63 = .ok (.getfield 61, 3) := dk_180 0 61 (dk_at dksX0_giving_2 16 rfl rfl)
theorem dX0_giving_66 : decode cX0_giving 66 = .ok (.invokevirtual 137, 3) := dk_182 0 137 (dk_at dksX0_giving_2 19 rfl rfl)
theorem dX0_giving_69 : decode cX0_giving 69 = .ok (.aload 4, 2) := dk_25 4 (dk_at dksX0_giving_2 22 rfl rfl)
theorem dX0_giving_71 : decode cX0_giving 71 = .ok (.invokestatic 207, 3) := dk_184 0 207 (dk_at dksX0_giving_3 0 rfl rfl)
theorem dX0_giving_74 : decode cX0_giving 74 = .ok (.astore 5, 2) := dk_58 5 (dk_at dksX0_giving_3 3 rfl rfl)
theorem dX0_giving_76 : decode cX0_giving 76 = .ok (.iconst 0, 1) := dk_3 (dk_at dksX0_giving_3 5 rfl rfl)
theorem dX0_giving_77 : decode cX0_giving 77 = .ok (.istore 6, 2) := dk_54 6 (dk_at dksX0_giving_3 6 rfl rfl)
theorem dX0_giving_79 : decode cX0_giving 79 = .ok (.iload 6, 2) := dk_21 6 (dk_at dksX0_giving_3 8 rfl rfl)
theorem dX0_giving_81 : decode cX0_giving 81 = .ok (.aload_n 0, 1) := dk_42 (dk_at dksX0_giving_3 10 rfl rfl)
theorem dX0_giving_82 : decode cX0_giving 82 = .ok (.getfield 130, 3) := dk_180 0 130 (dk_at dksX0_giving_3 11 rfl rfl)
theorem dX0_giving_85 : decode cX0_giving 85 = .ok (.if_icmp .ge 50, 3) := dk_162 0 50 (dk_at dksX0_giving_3 14 rfl rfl)
theorem dX0_giving_88 : decode cX0_giving 88 = .ok (.aload_n 3, 1) := dk_45 (dk_at dksX0_giving_3 17 rfl rfl)
theorem dX0_giving_89 : decode cX0_giving 89 = .ok (.getfield 211, 3) := dk_180 0 211 (dk_at dksX0_giving_3 18 rfl rfl)
theorem dX0_giving_92 : decode cX0_giving 92 = .ok (.iload 6, 2) := dk_21 6 (dk_at dksX0_giving_3 21 rfl rfl)
theorem dX0_giving_94 : decode cX0_giving 94 = .ok (.iaload, 1) := dk_46 (dk_at dksX0_giving_3 23 rfl rfl)
theorem dX0_giving_95 : decode cX0_giving 95 = .ok (.i2l, 1) := dk_133 (dk_at dksX0_giving_4 0 rfl rfl)
theorem dX0_giving_96 : decode cX0_giving 96 = .ok (.lconst 0, 1) := dk_9 (dk_at dksX0_giving_4 1 rfl rfl)
theorem dX0_giving_97 : decode cX0_giving 97 = .ok (.aload 5, 2) := dk_25 5 (dk_at dksX0_giving_4 2 rfl rfl)
theorem dX0_giving_99 : decode cX0_giving 99 = .ok (.aload_n 0, 1) := dk_42 (dk_at dksX0_giving_4 4 rfl rfl)
theorem dX0_giving_100 : decode cX0_giving 100 = .ok (.getfield 48, 3) := dk_180 0 48 (dk_at dksX0_giving_4 5 rfl rfl)
theorem dX0_giving_103 : decode cX0_giving 103 = .ok (.invokevirtual 214, 3) := dk_182 0 214 (dk_at dksX0_giving_4 8 rfl rfl)
theorem dX0_giving_106 : decode cX0_giving 106 = .ok (.i2l, 1) := dk_133 (dk_at dksX0_giving_4 11 rfl rfl)
theorem dX0_giving_107 : decode cX0_giving 107 = .ok (.invokestatic 133, 3) := dk_184 0 133 (dk_at dksX0_giving_4 12 rfl rfl)
theorem dX0_giving_110 : decode cX0_giving 110 = .ok (.ifCond .ne 6, 3) := dk_154 0 6 (dk_at dksX0_giving_4 15 rfl rfl)
theorem dX0_giving_113 : decode cX0_giving 113 = .ok (.bipush (-2), 2) := dk_16 254 (dk_at dksX0_giving_4 18 rfl rfl)
theorem dX0_giving_115 : decode cX0_giving 115 = .ok (.ireturn, 1) := dk_172 (dk_at dksX0_giving_4 20 rfl rfl)
theorem dX0_giving_116 : decode cX0_giving 116 = .ok (.aload 4, 2) := dk_25 4 (dk_at dksX0_giving_4 21 rfl rfl)
theorem dX0_giving_118 : decode cX0_giving 118 = .ok (.iload 6, 2) := dk_21 6 (dk_at dksX0_giving_5 0 rfl rfl)
theorem dX0_giving_120 : decode cX0_giving 120 = .ok (.aload_n 3, 1) := dk_45 (dk_at dksX0_giving_5 2 rfl rfl)
theorem dX0_giving_121 : decode cX0_giving 121 = .ok (.getfield 211, 3) := dk_180 0 211 (dk_at dksX0_giving_5 3 rfl rfl)
theorem dX0_giving_124 : decode cX0_giving 124 = .ok (.iload 6, 2) := dk_21 6 (dk_at dksX0_giving_5 6 rfl rfl)
theorem dX0_giving_126 : decode cX0_giving 126 = .ok (.iaload, 1) := dk_46 (dk_at dksX0_giving_5 8 rfl rfl)
theorem dX0_giving_127 : decode cX0_giving 127 = .ok (.i2b, 1) := dk_145 (dk_at dksX0_giving_5 9 rfl rfl)
theorem dX0_giving_128 : decode cX0_giving 128 = .ok (.bastore, 1) := dk_84 (dk_at dksX0_giving_5 10 rfl rfl)
theorem dX0_giving_129 : decode cX0_giving 129 = .ok (.iinc 6 1, 3) := dk_132 6 1 (dk_at dksX0_giving_5 11 rfl rfl)
theorem dX0_giving_132 : decode cX0_giving 132 = .ok (.goto (-53), 3) := dk_167 255 203 (dk_at dksX0_giving_5 14 rfl rfl)
theorem dX0_giving_135 : decode cX0_giving 135 = .ok (.aload_n 0, 1) := dk_42 (dk_at dksX0_giving_5 17 rfl rfl)
theorem dX0_giving_136 : decode cX0_giving 136 = .ok (.getfield 61, 3) := dk_180 0 61 (dk_at dksX0_giving_5 18 rfl rfl)
theorem dX0_giving_139 : decode cX0_giving 139 = .ok (.invokevirtual 137, 3) := dk_182 0 137 (dk_at dksX0_giving_5 21 rfl rfl)
theorem dX0_giving_142 : decode cX0_giving 142 = .ok (.bipush 12, 2) := dk_16 12 (dk_at dksX0_giving_6 0 rfl rfl)
theorem dX0_giving_144 : decode cX0_giving 144 = .ok (.if_icmp .ne 6, 3) := dk_160 0 6 (dk_at dksX0_giving_6 2 rfl rfl)
theorem dX0_giving_147 : decode cX0_giving 147 = .ok (.bipush (-4), 2) := dk_16 252 (dk_at dksX0_giving_6 5 rfl rfl)
theorem dX0_giving_149 : decode cX0_giving 149 = .ok (.ireturn, 1) := dk_172 (dk_at dksX0_giving_6 7 rfl rfl)
theorem dX0_giving_150 : decode cX0_giving 150 = .ok (.aload_n 0, 1) := dk_42 (dk_at dksX0_giving_6 8 rfl rfl)
theorem dX0_giving_151 : decode cX0_giving 151 = .ok (.getfield 61, 3) := dk_180 0 61 (dk_at dksX0_giving_6 9 rfl rfl)
theorem dX0_giving_154 : decode cX0_giving 154 = .ok (.aload 5, 2) := dk_25 5 (dk_at dksX0_giving_6 12 rfl rfl)
theorem dX0_giving_156 : decode cX0_giving 156 = .ok (.invokevirtual 218, 3) := dk_182 0 218 (dk_at dksX0_giving_6 14 rfl rfl)
theorem dX0_giving_159 : decode cX0_giving 159 = .ok (.pop, 1) := dk_87 (dk_at dksX0_giving_6 17 rfl rfl)
theorem dX0_giving_160 : decode cX0_giving 160 = .ok (.aload 5, 2) := dk_25 5 (dk_at dksX0_giving_6 18 rfl rfl)
theorem dX0_giving_162 : decode cX0_giving 162 = .ok (.getfield 222, 3) := dk_180 0 222 (dk_at dksX0_giving_6 20 rfl rfl)
theorem dX0_giving_165 : decode cX0_giving 165 = .ok (.ireturn, 1) := dk_172 (dk_at dksX0_giving_6 23 rfl rfl)
abbrev cX0_isSheet : ByteArray := prog_1_method_65_code
def yX0_isSheet : MethodName := ⟨RX0, "isSheet", "(I)Z"⟩
def dkwX0_isSheet_0 : List UInt8 := [26, 133, 9, 20, 1, 77, 184, 0, 133, 172]
abbrev dktX0_isSheet_0 : List UInt8 := dkwX0_isSheet_0 ++ []
theorem dksX0_isSheet_0 : cX0_isSheet.data.toList.drop 0 = dktX0_isSheet_0 := by decide +kernel
theorem dX0_isSheet_0 : decode cX0_isSheet 0 = .ok (.iload_n 0, 1) := dk_26 (dk_at dksX0_isSheet_0 0 rfl rfl)
theorem dX0_isSheet_1 : decode cX0_isSheet 1 = .ok (.i2l, 1) := dk_133 (dk_at dksX0_isSheet_0 1 rfl rfl)
theorem dX0_isSheet_2 : decode cX0_isSheet 2 = .ok (.lconst 0, 1) := dk_9 (dk_at dksX0_isSheet_0 2 rfl rfl)
theorem dX0_isSheet_3 : decode cX0_isSheet 3 = .ok (.ldc2_w 333, 3) := dk_20 1 77 (dk_at dksX0_isSheet_0 3 rfl rfl)
theorem dX0_isSheet_6 : decode cX0_isSheet 6 = .ok (.invokestatic 133, 3) := dk_184 0 133 (dk_at dksX0_isSheet_0 6 rfl rfl)
theorem dX0_isSheet_9 : decode cX0_isSheet 9 = .ok (.ireturn, 1) := dk_172 (dk_at dksX0_isSheet_0 9 rfl rfl)
abbrev cX0_made : ByteArray := prog_1_method_2_code
def yX0_made : MethodName := ⟨RX0, "made", "(II[B)LMarketDays$Giving;"⟩
def dkwX0_made_4 : List UInt8 := [183, 0, 18, 176, 187, 0, 19, 89, 27, 44, 183, 0, 21, 176]
abbrev dktX0_made_4 : List UInt8 := dkwX0_made_4 ++ []
def dkwX0_made_3 : List UInt8 := [27, 44, 183, 0, 12, 176, 187, 0, 13, 89, 27, 44, 183, 0, 15, 176, 187, 0, 16, 89, 27, 44]
abbrev dktX0_made_3 : List UInt8 := dkwX0_made_3 ++ dktX0_made_4
def dkwX0_made_2 : List UInt8 := [187, 0, 1, 89, 27, 44, 183, 0, 3, 176, 187, 0, 7, 89, 27, 44, 183, 0, 9, 176, 187, 0, 10, 89]
abbrev dktX0_made_2 : List UInt8 := dkwX0_made_2 ++ dktX0_made_3
def dkwX0_made_1 : List UInt8 := [170, 0, 0, 0, 0, 0, 85, 0, 0, 0, 0, 0, 0, 0, 4, 0, 0, 0, 35, 0, 0, 0, 45, 0, 0, 0, 55, 0, 0, 0, 65, 0, 0, 0, 75]
abbrev dktX0_made_1 : List UInt8 := dkwX0_made_1 ++ dktX0_made_2
def dkwX0_made_0 : List UInt8 := [26]
abbrev dktX0_made_0 : List UInt8 := dkwX0_made_0 ++ dktX0_made_1
theorem dksX0_made_0 : cX0_made.data.toList.drop 0 = dktX0_made_0 := by decide +kernel
theorem dksX0_made_1 : cX0_made.data.toList.drop 1 = dktX0_made_1 := dk_seg dksX0_made_0 1 rfl rfl
theorem dksX0_made_2 : cX0_made.data.toList.drop 36 = dktX0_made_2 := dk_seg dksX0_made_1 35 rfl rfl
theorem dksX0_made_3 : cX0_made.data.toList.drop 60 = dktX0_made_3 := dk_seg dksX0_made_2 24 rfl rfl
theorem dksX0_made_4 : cX0_made.data.toList.drop 82 = dktX0_made_4 := dk_seg dksX0_made_3 22 rfl rfl
theorem dX0_made_0 : decode cX0_made 0 = .ok (.iload_n 0, 1) := dk_26 (dk_at dksX0_made_0 0 rfl rfl)
theorem dX0_made_1 : decode cX0_made 1 = .ok (.tableswitch 85 0 4 #[35, 45, 55, 65, 75], 35) := by decide +kernel
theorem dX0_made_36 : decode cX0_made 36 = .ok (.new 1, 3) := dk_187 0 1 (dk_at dksX0_made_2 0 rfl rfl)
theorem dX0_made_39 : decode cX0_made 39 = .ok (.dup, 1) := dk_89 (dk_at dksX0_made_2 3 rfl rfl)
theorem dX0_made_40 : decode cX0_made 40 = .ok (.iload_n 1, 1) := dk_27 (dk_at dksX0_made_2 4 rfl rfl)
theorem dX0_made_41 : decode cX0_made 41 = .ok (.aload_n 2, 1) := dk_44 (dk_at dksX0_made_2 5 rfl rfl)
theorem dX0_made_42 : decode cX0_made 42 = .ok (.invokespecial 3, 3) := dk_183 0 3 (dk_at dksX0_made_2 6 rfl rfl)
theorem dX0_made_45 : decode cX0_made 45 = .ok (.areturn, 1) := dk_176 (dk_at dksX0_made_2 9 rfl rfl)
theorem dX0_made_46 : decode cX0_made 46 = .ok (.new 7, 3) := dk_187 0 7 (dk_at dksX0_made_2 10 rfl rfl)
theorem dX0_made_49 : decode cX0_made 49 = .ok (.dup, 1) := dk_89 (dk_at dksX0_made_2 13 rfl rfl)
theorem dX0_made_50 : decode cX0_made 50 = .ok (.iload_n 1, 1) := dk_27 (dk_at dksX0_made_2 14 rfl rfl)
theorem dX0_made_51 : decode cX0_made 51 = .ok (.aload_n 2, 1) := dk_44 (dk_at dksX0_made_2 15 rfl rfl)
theorem dX0_made_52 : decode cX0_made 52 = .ok (.invokespecial 9, 3) := dk_183 0 9 (dk_at dksX0_made_2 16 rfl rfl)
theorem dX0_made_55 : decode cX0_made 55 = .ok (.areturn, 1) := dk_176 (dk_at dksX0_made_2 19 rfl rfl)
theorem dX0_made_56 : decode cX0_made 56 = .ok (.new 10, 3) := dk_187 0 10 (dk_at dksX0_made_2 20 rfl rfl)
theorem dX0_made_59 : decode cX0_made 59 = .ok (.dup, 1) := dk_89 (dk_at dksX0_made_2 23 rfl rfl)
theorem dX0_made_60 : decode cX0_made 60 = .ok (.iload_n 1, 1) := dk_27 (dk_at dksX0_made_3 0 rfl rfl)
theorem dX0_made_61 : decode cX0_made 61 = .ok (.aload_n 2, 1) := dk_44 (dk_at dksX0_made_3 1 rfl rfl)
theorem dX0_made_62 : decode cX0_made 62 = .ok (.invokespecial 12, 3) := dk_183 0 12 (dk_at dksX0_made_3 2 rfl rfl)
theorem dX0_made_65 : decode cX0_made 65 = .ok (.areturn, 1) := dk_176 (dk_at dksX0_made_3 5 rfl rfl)
theorem dX0_made_66 : decode cX0_made 66 = .ok (.new 13, 3) := dk_187 0 13 (dk_at dksX0_made_3 6 rfl rfl)
theorem dX0_made_69 : decode cX0_made 69 = .ok (.dup, 1) := dk_89 (dk_at dksX0_made_3 9 rfl rfl)
theorem dX0_made_70 : decode cX0_made 70 = .ok (.iload_n 1, 1) := dk_27 (dk_at dksX0_made_3 10 rfl rfl)
theorem dX0_made_71 : decode cX0_made 71 = .ok (.aload_n 2, 1) := dk_44 (dk_at dksX0_made_3 11 rfl rfl)
theorem dX0_made_72 : decode cX0_made 72 = .ok (.invokespecial 15, 3) := dk_183 0 15 (dk_at dksX0_made_3 12 rfl rfl)
theorem dX0_made_75 : decode cX0_made 75 = .ok (.areturn, 1) := dk_176 (dk_at dksX0_made_3 15 rfl rfl)
theorem dX0_made_76 : decode cX0_made 76 = .ok (.new 16, 3) := dk_187 0 16 (dk_at dksX0_made_3 16 rfl rfl)
theorem dX0_made_79 : decode cX0_made 79 = .ok (.dup, 1) := dk_89 (dk_at dksX0_made_3 19 rfl rfl)
theorem dX0_made_80 : decode cX0_made 80 = .ok (.iload_n 1, 1) := dk_27 (dk_at dksX0_made_3 20 rfl rfl)
theorem dX0_made_81 : decode cX0_made 81 = .ok (.aload_n 2, 1) := dk_44 (dk_at dksX0_made_3 21 rfl rfl)
theorem dX0_made_82 : decode cX0_made 82 = .ok (.invokespecial 18, 3) := dk_183 0 18 (dk_at dksX0_made_4 0 rfl rfl)
theorem dX0_made_85 : decode cX0_made 85 = .ok (.areturn, 1) := dk_176 (dk_at dksX0_made_4 3 rfl rfl)
theorem dX0_made_86 : decode cX0_made 86 = .ok (.new 19, 3) := dk_187 0 19 (dk_at dksX0_made_4 4 rfl rfl)
theorem dX0_made_89 : decode cX0_made 89 = .ok (.dup, 1) := dk_89 (dk_at dksX0_made_4 7 rfl rfl)
theorem dX0_made_90 : decode cX0_made 90 = .ok (.iload_n 1, 1) := dk_27 (dk_at dksX0_made_4 8 rfl rfl)
theorem dX0_made_91 : decode cX0_made 91 = .ok (.aload_n 2, 1) := dk_44 (dk_at dksX0_made_4 9 rfl rfl)
theorem dX0_made_92 : decode cX0_made 92 = .ok (.invokespecial 21, 3) := dk_183 0 21 (dk_at dksX0_made_4 10 rfl rfl)
theorem dX0_made_95 : decode cX0_made 95 = .ok (.areturn, 1) := dk_176 (dk_at dksX0_made_4 13 rfl rfl)
abbrev cX0_marketOf : ByteArray := prog_1_method_23_code
def yX0_marketOf : MethodName := ⟨RX0, "marketOf", "(III)I"⟩
def dkwX0_marketOf_1 : List UInt8 := [16, 251, 167, 0, 20, 42, 42, 180, 0, 61, 27, 182, 0, 236, 192, 0, 1, 28, 29, 182, 0, 240, 172]
abbrev dktX0_marketOf_1 : List UInt8 := dkwX0_marketOf_1 ++ []
def dkwX0_marketOf_0 : List UInt8 := [42, 27, 182, 0, 233, 153, 0, 19, 42, 28, 182, 0, 145, 153, 0, 11, 42, 29, 182, 0, 167, 154, 0, 8]
abbrev dktX0_marketOf_0 : List UInt8 := dkwX0_marketOf_0 ++ dktX0_marketOf_1
theorem dksX0_marketOf_0 : cX0_marketOf.data.toList.drop 0 = dktX0_marketOf_0 := by decide +kernel
theorem dksX0_marketOf_1 : cX0_marketOf.data.toList.drop 24 = dktX0_marketOf_1 := dk_seg dksX0_marketOf_0 24 rfl rfl
theorem dX0_marketOf_0 : decode cX0_marketOf 0 = .ok (.aload_n 0, 1) := dk_42 (dk_at dksX0_marketOf_0 0 rfl rfl)
theorem dX0_marketOf_1 : decode cX0_marketOf 1 = .ok (.iload_n 1, 1) := dk_27 (dk_at dksX0_marketOf_0 1 rfl rfl)
theorem dX0_marketOf_2 : decode cX0_marketOf 2 = .ok (.invokevirtual 233, 3) := dk_182 0 233 (dk_at dksX0_marketOf_0 2 rfl rfl)
theorem dX0_marketOf_5 : decode cX0_marketOf 5 = .ok (.ifCond .eq 19, 3) := dk_153 0 19 (dk_at dksX0_marketOf_0 5 rfl rfl)
theorem dX0_marketOf_8 : decode cX0_marketOf 8 = .ok (.aload_n 0, 1) := dk_42 (dk_at dksX0_marketOf_0 8 rfl rfl)
theorem dX0_marketOf_9 : decode cX0_marketOf 9 = .ok (.iload_n 2, 1) := dk_28 (dk_at dksX0_marketOf_0 9 rfl rfl)
theorem dX0_marketOf_10 : decode cX0_marketOf 10 = .ok (.invokevirtual 145, 3) := dk_182 0 145 (dk_at dksX0_marketOf_0 10 rfl rfl)
theorem dX0_marketOf_13 : decode cX0_marketOf 13 = .ok (.ifCond .eq 11, 3) := dk_153 0 11 (dk_at dksX0_marketOf_0 13 rfl rfl)
theorem dX0_marketOf_16 : decode cX0_marketOf 16 = .ok (.aload_n 0, 1) := dk_42 (dk_at dksX0_marketOf_0 16 rfl rfl)
theorem dX0_marketOf_17 : decode cX0_marketOf 17 = .ok (.iload_n 3, 1) := dk_29 (dk_at dksX0_marketOf_0 17 rfl rfl)
theorem dX0_marketOf_18 : decode cX0_marketOf 18 = .ok (.invokevirtual 167, 3) := dk_182 0 167 (dk_at dksX0_marketOf_0 18 rfl rfl)
theorem dX0_marketOf_21 : decode cX0_marketOf 21 = .ok (.ifCond .ne 8, 3) := dk_154 0 8 (dk_at dksX0_marketOf_0 21 rfl rfl)
theorem dX0_marketOf_24 : decode cX0_marketOf 24 = .ok (.bipush (-5), 2) := dk_16 251 (dk_at dksX0_marketOf_1 0 rfl rfl)
theorem dX0_marketOf_26 : decode cX0_marketOf 26 = .ok (.goto 20, 3) := dk_167 0 20 (dk_at dksX0_marketOf_1 2 rfl rfl)
theorem dX0_marketOf_29 : decode cX0_marketOf 29 = .ok (.aload_n 0, 1) := dk_42 (dk_at dksX0_marketOf_1 5 rfl rfl)
theorem dX0_marketOf_30 : decode cX0_marketOf 30 = .ok (.aload_n 0, 1) := dk_42 (dk_at dksX0_marketOf_1 6 rfl rfl)
theorem dX0_marketOf_31 : decode cX0_marketOf 31 = .ok (.getfield 61, 3) := dk_180 0 61 (dk_at dksX0_marketOf_1 7 rfl rfl)
theorem dX0_marketOf_34 : decode cX0_marketOf 34 = .ok (.iload_n 1, 1) := dk_27 (dk_at dksX0_marketOf_1 10 rfl rfl)
theorem dX0_marketOf_35 : decode cX0_marketOf 35 = .ok (.invokevirtual 236, 3) := dk_182 0 236 (dk_at dksX0_marketOf_1 11 rfl rfl)
theorem dX0_marketOf_38 : decode cX0_marketOf 38 = .ok (.checkcast 1, 3) := dk_192 0 1 (dk_at dksX0_marketOf_1 14 rfl rfl)
theorem dX0_marketOf_41 : decode cX0_marketOf 41 = .ok (.iload_n 2, 1) := dk_28 (dk_at dksX0_marketOf_1 17 rfl rfl)
theorem dX0_marketOf_42 : decode cX0_marketOf 42 = .ok (.iload_n 3, 1) := dk_29 (dk_at dksX0_marketOf_1 18 rfl rfl)
theorem dX0_marketOf_43 : decode cX0_marketOf 43 = .ok (.invokevirtual 240, 3) := dk_182 0 240 (dk_at dksX0_marketOf_1 19 rfl rfl)
theorem dX0_marketOf_46 : decode cX0_marketOf 46 = .ok (.ireturn, 1) := dk_172 (dk_at dksX0_marketOf_1 22 rfl rfl)
abbrev cX0_isGiving : ByteArray := prog_1_method_7_code
def yX0_isGiving : MethodName := ⟨RX0, "isGiving", "(I)Z"⟩
def dkwX0_isGiving_0 : List UInt8 := [27, 133, 9, 42, 180, 0, 61, 182, 0, 137, 133, 10, 101, 184, 0, 133, 172]
abbrev dktX0_isGiving_0 : List UInt8 := dkwX0_isGiving_0 ++ []
theorem dksX0_isGiving_0 : cX0_isGiving.data.toList.drop 0 = dktX0_isGiving_0 := by decide +kernel
theorem dX0_isGiving_0 : decode cX0_isGiving 0 = .ok (.iload_n 1, 1) := dk_27 (dk_at dksX0_isGiving_0 0 rfl rfl)
theorem dX0_isGiving_1 : decode cX0_isGiving 1 = .ok (.i2l, 1) := dk_133 (dk_at dksX0_isGiving_0 1 rfl rfl)
theorem dX0_isGiving_2 : decode cX0_isGiving 2 = .ok (.lconst 0, 1) := dk_9 (dk_at dksX0_isGiving_0 2 rfl rfl)
theorem dX0_isGiving_3 : decode cX0_isGiving 3 = .ok (.aload_n 0, 1) := dk_42 (dk_at dksX0_isGiving_0 3 rfl rfl)
theorem dX0_isGiving_4 : decode cX0_isGiving 4 = .ok (.getfield 61, 3) := dk_180 0 61 (dk_at dksX0_isGiving_0 4 rfl rfl)
theorem dX0_isGiving_7 : decode cX0_isGiving 7 = .ok (.invokevirtual 137, 3) := dk_182 0 137 (dk_at dksX0_isGiving_0 7 rfl rfl)
theorem dX0_isGiving_10 : decode cX0_isGiving 10 = .ok (.i2l, 1) := dk_133 (dk_at dksX0_isGiving_0 10 rfl rfl)
theorem dX0_isGiving_11 : decode cX0_isGiving 11 = .ok (.lconst 1, 1) := dk_10 (dk_at dksX0_isGiving_0 11 rfl rfl)
theorem dX0_isGiving_12 : decode cX0_isGiving 12 = .ok (.lsub, 1) := dk_101 (dk_at dksX0_isGiving_0 12 rfl rfl)
theorem dX0_isGiving_13 : decode cX0_isGiving 13 = .ok (.invokestatic 133, 3) := dk_184 0 133 (dk_at dksX0_isGiving_0 13 rfl rfl)
theorem dX0_isGiving_16 : decode cX0_isGiving 16 = .ok (.ireturn, 1) := dk_172 (dk_at dksX0_isGiving_0 16 rfl rfl)
abbrev cX0_market : ByteArray := prog_1_method_22_code
def yX0_market : MethodName := ⟨RX0, "market", "(LMarketDays$Giving;II)I"⟩
def dkwX0_market_5 : List UInt8 := [167, 255, 164, 21, 4, 172]
abbrev dktX0_market_5 : List UInt8 := dkwX0_market_5 ++ []
def dkwX0_market_4 : List UInt8 := [21, 4, 4, 42, 180, 0, 55, 21, 5, 46, 4, 96, 42, 180, 0, 48, 112, 120, 128, 54, 4, 132, 5, 1]
abbrev dktX0_market_4 : List UInt8 := dkwX0_market_4 ++ dktX0_market_5
def dkwX0_market_3 : List UInt8 := [126, 154, 0, 6, 167, 0, 40, 21, 4, 4, 42, 180, 0, 55, 21, 5, 46, 120, 2, 130, 126, 54, 4]
abbrev dktX0_market_3 : List UInt8 := dkwX0_market_3 ++ dktX0_market_4
def dkwX0_market_2 : List UInt8 := [180, 0, 55, 21, 5, 46, 42, 180, 0, 48, 162, 0, 58, 21, 4, 42, 180, 0, 55, 21, 5, 46, 122, 4]
abbrev dktX0_market_2 : List UInt8 := dkwX0_market_2 ++ dktX0_market_3
def dkwX0_market_1 : List UInt8 := [54, 5, 21, 5, 42, 180, 0, 170, 162, 0, 89, 42, 180, 0, 52, 21, 5, 46, 29, 160, 0, 72, 42]
abbrev dktX0_market_1 : List UInt8 := dkwX0_market_1 ++ dktX0_market_2
def dkwX0_market_0 : List UInt8 := [43, 28, 29, 42, 180, 0, 48, 182, 0, 225, 54, 4, 43, 182, 0, 229, 154, 0, 6, 21, 4, 172, 3]
abbrev dktX0_market_0 : List UInt8 := dkwX0_market_0 ++ dktX0_market_1
theorem dksX0_market_0 : cX0_market.data.toList.drop 0 = dktX0_market_0 := by decide +kernel
theorem dksX0_market_1 : cX0_market.data.toList.drop 23 = dktX0_market_1 := dk_seg dksX0_market_0 23 rfl rfl
theorem dksX0_market_2 : cX0_market.data.toList.drop 46 = dktX0_market_2 := dk_seg dksX0_market_1 23 rfl rfl
theorem dksX0_market_3 : cX0_market.data.toList.drop 70 = dktX0_market_3 := dk_seg dksX0_market_2 24 rfl rfl
theorem dksX0_market_4 : cX0_market.data.toList.drop 93 = dktX0_market_4 := dk_seg dksX0_market_3 23 rfl rfl
theorem dksX0_market_5 : cX0_market.data.toList.drop 117 = dktX0_market_5 := dk_seg dksX0_market_4 24 rfl rfl
theorem dX0_market_0 : decode cX0_market 0 = .ok (.aload_n 1, 1) := dk_43 (dk_at dksX0_market_0 0 rfl rfl)
theorem dX0_market_1 : decode cX0_market 1 = .ok (.iload_n 2, 1) := dk_28 (dk_at dksX0_market_0 1 rfl rfl)
theorem dX0_market_2 : decode cX0_market 2 = .ok (.iload_n 3, 1) := dk_29 (dk_at dksX0_market_0 2 rfl rfl)
theorem dX0_market_3 : decode cX0_market 3 = .ok (.aload_n 0, 1) := dk_42 (dk_at dksX0_market_0 3 rfl rfl)
theorem dX0_market_4 : decode cX0_market 4 = .ok (.getfield 48, 3) := dk_180 0 48 (dk_at dksX0_market_0 4 rfl rfl)
theorem dX0_market_7 : decode cX0_market 7 = .ok (.invokevirtual 225, 3) := dk_182 0 225 (dk_at dksX0_market_0 7 rfl rfl)
theorem dX0_market_10 : decode cX0_market 10 = .ok (.istore 4, 2) := dk_54 4 (dk_at dksX0_market_0 10 rfl rfl)
theorem dX0_market_12 : decode cX0_market 12 = .ok (.aload_n 1, 1) := dk_43 (dk_at dksX0_market_0 12 rfl rfl)
theorem dX0_market_13 : decode cX0_market 13 = .ok (.invokevirtual 229, 3) := dk_182 0 229 (dk_at dksX0_market_0 13 rfl rfl)
theorem dX0_market_16 : decode cX0_market 16 = .ok (.ifCond .ne 6, 3) := dk_154 0 6 (dk_at dksX0_market_0 16 rfl rfl)
theorem dX0_market_19 : decode cX0_market 19 = .ok (.iload 4, 2) := dk_21 4 (dk_at dksX0_market_0 19 rfl rfl)
theorem dX0_market_21 : decode cX0_market 21 = .ok (.ireturn, 1) := dk_172 (dk_at dksX0_market_0 21 rfl rfl)
theorem dX0_market_22 : decode cX0_market 22 = .ok (.iconst 0, 1) := dk_3 (dk_at dksX0_market_0 22 rfl rfl)
theorem dX0_market_23 : decode cX0_market 23 = .ok (.istore 5, 2) := dk_54 5 (dk_at dksX0_market_1 0 rfl rfl)
theorem dX0_market_25 : decode cX0_market 25 = .ok (.iload 5, 2) := dk_21 5 (dk_at dksX0_market_1 2 rfl rfl)
theorem dX0_market_27 : decode cX0_market 27 = .ok (.aload_n 0, 1) := dk_42 (dk_at dksX0_market_1 4 rfl rfl)
theorem dX0_market_28 : decode cX0_market 28 = .ok (.getfield 170, 3) := dk_180 0 170 (dk_at dksX0_market_1 5 rfl rfl)
theorem dX0_market_31 : decode cX0_market 31 = .ok (.if_icmp .ge 89, 3) := dk_162 0 89 (dk_at dksX0_market_1 8 rfl rfl)
theorem dX0_market_34 : decode cX0_market 34 = .ok (.aload_n 0, 1) := dk_42 (dk_at dksX0_market_1 11 rfl rfl)
theorem dX0_market_35 : decode cX0_market 35 = .ok (.getfield 52, 3) := dk_180 0 52 (dk_at dksX0_market_1 12 rfl rfl)
theorem dX0_market_38 : decode cX0_market 38 = .ok (.iload 5, 2) := dk_21 5 (dk_at dksX0_market_1 15 rfl rfl)
theorem dX0_market_40 : decode cX0_market 40 = .ok (.iaload, 1) := dk_46 (dk_at dksX0_market_1 17 rfl rfl)
theorem dX0_market_41 : decode cX0_market 41 = .ok (.iload_n 3, 1) := dk_29 (dk_at dksX0_market_1 18 rfl rfl)
theorem dX0_market_42 : decode cX0_market 42 = .ok (.if_icmp .ne 72, 3) := dk_160 0 72 (dk_at dksX0_market_1 19 rfl rfl)
theorem dX0_market_45 : decode cX0_market 45 = .ok (.aload_n 0, 1) := dk_42 (dk_at dksX0_market_1 22 rfl rfl)
theorem dX0_market_46 : decode cX0_market 46 = .ok (.getfield 55, 3) := dk_180 0 55 (dk_at dksX0_market_2 0 rfl rfl)
theorem dX0_market_49 : decode cX0_market 49 = .ok (.iload 5, 2) := dk_21 5 (dk_at dksX0_market_2 3 rfl rfl)
theorem dX0_market_51 : decode cX0_market 51 = .ok (.iaload, 1) := dk_46 (dk_at dksX0_market_2 5 rfl rfl)
theorem dX0_market_52 : decode cX0_market 52 = .ok (.aload_n 0, 1) := dk_42 (dk_at dksX0_market_2 6 rfl rfl)
theorem dX0_market_53 : decode cX0_market 53 = .ok (.getfield 48, 3) := dk_180 0 48 (dk_at dksX0_market_2 7 rfl rfl)
theorem dX0_market_56 : decode cX0_market 56 = .ok (.if_icmp .ge 58, 3) := dk_162 0 58 (dk_at dksX0_market_2 10 rfl rfl)
theorem dX0_market_59 : decode cX0_market 59 = .ok (.iload 4, 2) := dk_21 4 (dk_at dksX0_market_2 13 rfl rfl)
theorem dX0_market_61 : decode cX0_market 61 = .ok (.aload_n 0, 1) := dk_42 (dk_at dksX0_market_2 15 rfl rfl)
theorem dX0_market_62 : decode cX0_market 62 = .ok (.getfield 55, 3) := dk_180 0 55 (dk_at dksX0_market_2 16 rfl rfl)
theorem dX0_market_65 : decode cX0_market 65 = .ok (.iload 5, 2) := dk_21 5 (dk_at dksX0_market_2 19 rfl rfl)
theorem dX0_market_67 : decode cX0_market 67 = .ok (.iaload, 1) := dk_46 (dk_at dksX0_market_2 21 rfl rfl)
theorem dX0_market_68 : decode cX0_market 68 = .ok (.ishr, 1) := dk_122 (dk_at dksX0_market_2 22 rfl rfl)
theorem dX0_market_69 : decode cX0_market 69 = .ok (.iconst 1, 1) := dk_4 (dk_at dksX0_market_2 23 rfl rfl)
theorem dX0_market_70 : decode cX0_market 70 = .ok (.iand, 1) := dk_126 (dk_at dksX0_market_3 0 rfl rfl)
theorem dX0_market_71 : decode cX0_market 71 = .ok (.ifCond .ne 6, 3) := dk_154 0 6 (dk_at dksX0_market_3 1 rfl rfl)
theorem dX0_market_74 : decode cX0_market 74 = .ok (.goto 40, 3) := dk_167 0 40 (dk_at dksX0_market_3 4 rfl rfl)
theorem dX0_market_77 : decode cX0_market 77 = .ok (.iload 4, 2) := dk_21 4 (dk_at dksX0_market_3 7 rfl rfl)
theorem dX0_market_79 : decode cX0_market 79 = .ok (.iconst 1, 1) := dk_4 (dk_at dksX0_market_3 9 rfl rfl)
theorem dX0_market_80 : decode cX0_market 80 = .ok (.aload_n 0, 1) := dk_42 (dk_at dksX0_market_3 10 rfl rfl)
theorem dX0_market_81 : decode cX0_market 81 = .ok (.getfield 55, 3) := dk_180 0 55 (dk_at dksX0_market_3 11 rfl rfl)
theorem dX0_market_84 : decode cX0_market 84 = .ok (.iload 5, 2) := dk_21 5 (dk_at dksX0_market_3 14 rfl rfl)
theorem dX0_market_86 : decode cX0_market 86 = .ok (.iaload, 1) := dk_46 (dk_at dksX0_market_3 16 rfl rfl)
theorem dX0_market_87 : decode cX0_market 87 = .ok (.ishl, 1) := dk_120 (dk_at dksX0_market_3 17 rfl rfl)
theorem dX0_market_88 : decode cX0_market 88 = .ok (.iconst (-1), 1) := dk_2 (dk_at dksX0_market_3 18 rfl rfl)
theorem dX0_market_89 : decode cX0_market 89 = .ok (.ixor, 1) := dk_130 (dk_at dksX0_market_3 19 rfl rfl)
theorem dX0_market_90 : decode cX0_market 90 = .ok (.iand, 1) := dk_126 (dk_at dksX0_market_3 20 rfl rfl)
theorem dX0_market_91 : decode cX0_market 91 = .ok (.istore 4, 2) := dk_54 4 (dk_at dksX0_market_3 21 rfl rfl)
theorem dX0_market_93 : decode cX0_market 93 = .ok (.iload 4, 2) := dk_21 4 (dk_at dksX0_market_4 0 rfl rfl)
theorem dX0_market_95 : decode cX0_market 95 = .ok (.iconst 1, 1) := dk_4 (dk_at dksX0_market_4 2 rfl rfl)
theorem dX0_market_96 : decode cX0_market 96 = .ok (.aload_n 0, 1) := dk_42 (dk_at dksX0_market_4 3 rfl rfl)
theorem dX0_market_97 : decode cX0_market 97 = .ok (.getfield 55, 3) := dk_180 0 55 (dk_at dksX0_market_4 4 rfl rfl)
theorem dX0_market_100 : decode cX0_market 100 = .ok (.iload 5, 2) := dk_21 5 (dk_at dksX0_market_4 7 rfl rfl)
theorem dX0_market_102 : decode cX0_market 102 = .ok (.iaload, 1) := dk_46 (dk_at dksX0_market_4 9 rfl rfl)
theorem dX0_market_103 : decode cX0_market 103 = .ok (.iconst 1, 1) := dk_4 (dk_at dksX0_market_4 10 rfl rfl)
theorem dX0_market_104 : decode cX0_market 104 = .ok (.iadd, 1) := dk_96 (dk_at dksX0_market_4 11 rfl rfl)
theorem dX0_market_105 : decode cX0_market 105 = .ok (.aload_n 0, 1) := dk_42 (dk_at dksX0_market_4 12 rfl rfl)
theorem dX0_market_106 : decode cX0_market 106 = .ok (.getfield 48, 3) := dk_180 0 48 (dk_at dksX0_market_4 13 rfl rfl)
theorem dX0_market_109 : decode cX0_market 109 = .ok (.irem, 1) := dk_112 (dk_at dksX0_market_4 16 rfl rfl)
theorem dX0_market_110 : decode cX0_market 110 = .ok (.ishl, 1) := dk_120 (dk_at dksX0_market_4 17 rfl rfl)
theorem dX0_market_111 : decode cX0_market 111 = .ok (.ior, 1) := dk_128 (dk_at dksX0_market_4 18 rfl rfl)
theorem dX0_market_112 : decode cX0_market 112 = .ok (.istore 4, 2) := dk_54 4 (dk_at dksX0_market_4 19 rfl rfl)
theorem dX0_market_114 : decode cX0_market 114 = .ok (.iinc 5 1, 3) := dk_132 5 1 (dk_at dksX0_market_4 21 rfl rfl)
theorem dX0_market_117 : decode cX0_market 117 = .ok (.goto (-92), 3) := dk_167 255 164 (dk_at dksX0_market_5 0 rfl rfl)
theorem dX0_market_120 : decode cX0_market 120 = .ok (.iload 4, 2) := dk_21 4 (dk_at dksX0_market_5 3 rfl rfl)
theorem dX0_market_122 : decode cX0_market 122 = .ok (.ireturn, 1) := dk_172 (dk_at dksX0_market_5 5 rfl rfl)
abbrev cX0_bar : ByteArray := prog_1_method_28_code
def yX0_bar : MethodName := ⟨RX0, "bar", "(II)I"⟩
def dkwX0_bar_1 : List UInt8 := [27, 182, 0, 236, 192, 0, 1, 28, 182, 0, 251, 42, 182, 0, 255, 172]
abbrev dktX0_bar_1 : List UInt8 := dkwX0_bar_1 ++ []
def dkwX0_bar_0 : List UInt8 := [42, 27, 182, 0, 233, 153, 0, 11, 42, 28, 182, 0, 167, 154, 0, 6, 16, 251, 172, 42, 42, 180, 0, 61]
abbrev dktX0_bar_0 : List UInt8 := dkwX0_bar_0 ++ dktX0_bar_1
theorem dksX0_bar_0 : cX0_bar.data.toList.drop 0 = dktX0_bar_0 := by decide +kernel
theorem dksX0_bar_1 : cX0_bar.data.toList.drop 24 = dktX0_bar_1 := dk_seg dksX0_bar_0 24 rfl rfl
theorem dX0_bar_0 : decode cX0_bar 0 = .ok (.aload_n 0, 1) := dk_42 (dk_at dksX0_bar_0 0 rfl rfl)
theorem dX0_bar_1 : decode cX0_bar 1 = .ok (.iload_n 1, 1) := dk_27 (dk_at dksX0_bar_0 1 rfl rfl)
theorem dX0_bar_2 : decode cX0_bar 2 = .ok (.invokevirtual 233, 3) := dk_182 0 233 (dk_at dksX0_bar_0 2 rfl rfl)
theorem dX0_bar_5 : decode cX0_bar 5 = .ok (.ifCond .eq 11, 3) := dk_153 0 11 (dk_at dksX0_bar_0 5 rfl rfl)
theorem dX0_bar_8 : decode cX0_bar 8 = .ok (.aload_n 0, 1) := dk_42 (dk_at dksX0_bar_0 8 rfl rfl)
theorem dX0_bar_9 : decode cX0_bar 9 = .ok (.iload_n 2, 1) := dk_28 (dk_at dksX0_bar_0 9 rfl rfl)
theorem dX0_bar_10 : decode cX0_bar 10 = .ok (.invokevirtual 167, 3) := dk_182 0 167 (dk_at dksX0_bar_0 10 rfl rfl)
theorem dX0_bar_13 : decode cX0_bar 13 = .ok (.ifCond .ne 6, 3) := dk_154 0 6 (dk_at dksX0_bar_0 13 rfl rfl)
theorem dX0_bar_16 : decode cX0_bar 16 = .ok (.bipush (-5), 2) := dk_16 251 (dk_at dksX0_bar_0 16 rfl rfl)
theorem dX0_bar_18 : decode cX0_bar 18 = .ok (.ireturn, 1) := dk_172 (dk_at dksX0_bar_0 18 rfl rfl)
theorem dX0_bar_19 : decode cX0_bar 19 = .ok (.aload_n 0, 1) := dk_42 (dk_at dksX0_bar_0 19 rfl rfl)
theorem dX0_bar_20 : decode cX0_bar 20 = .ok (.aload_n 0, 1) := dk_42 (dk_at dksX0_bar_0 20 rfl rfl)
theorem dX0_bar_21 : decode cX0_bar 21 = .ok (.getfield 61, 3) := dk_180 0 61 (dk_at dksX0_bar_0 21 rfl rfl)
theorem dX0_bar_24 : decode cX0_bar 24 = .ok (.iload_n 1, 1) := dk_27 (dk_at dksX0_bar_1 0 rfl rfl)
theorem dX0_bar_25 : decode cX0_bar 25 = .ok (.invokevirtual 236, 3) := dk_182 0 236 (dk_at dksX0_bar_1 1 rfl rfl)
theorem dX0_bar_28 : decode cX0_bar 28 = .ok (.checkcast 1, 3) := dk_192 0 1 (dk_at dksX0_bar_1 4 rfl rfl)
theorem dX0_bar_31 : decode cX0_bar 31 = .ok (.iload_n 2, 1) := dk_28 (dk_at dksX0_bar_1 7 rfl rfl)
theorem dX0_bar_32 : decode cX0_bar 32 = .ok (.invokevirtual 251, 3) := dk_182 0 251 (dk_at dksX0_bar_1 8 rfl rfl)
theorem dX0_bar_35 : decode cX0_bar 35 = .ok (.aload_n 0, 1) := dk_42 (dk_at dksX0_bar_1 11 rfl rfl)
theorem dX0_bar_36 : decode cX0_bar 36 = .ok (.invokevirtual 255, 3) := dk_182 0 255 (dk_at dksX0_bar_1 12 rfl rfl)
theorem dX0_bar_39 : decode cX0_bar 39 = .ok (.ireturn, 1) := dk_172 (dk_at dksX0_bar_1 15 rfl rfl)
abbrev cX0_looks : ByteArray := prog_1_method_24_code
def yX0_looks : MethodName := ⟨RX0, "looks", "(LMarketDays$Giving;I)V"⟩
def dkwX0_looks_1 : List UInt8 := [132, 3, 1, 167, 255, 232, 177]
abbrev dktX0_looks_1 : List UInt8 := dkwX0_looks_1 ++ []
def dkwX0_looks_0 : List UInt8 := [3, 62, 29, 42, 180, 0, 130, 162, 0, 22, 42, 180, 0, 68, 29, 42, 43, 29, 28, 182, 0, 240, 79]
abbrev dktX0_looks_0 : List UInt8 := dkwX0_looks_0 ++ dktX0_looks_1
theorem dksX0_looks_0 : cX0_looks.data.toList.drop 0 = dktX0_looks_0 := by decide +kernel
theorem dksX0_looks_1 : cX0_looks.data.toList.drop 23 = dktX0_looks_1 := dk_seg dksX0_looks_0 23 rfl rfl
theorem dX0_looks_0 : decode cX0_looks 0 = .ok (.iconst 0, 1) := dk_3 (dk_at dksX0_looks_0 0 rfl rfl)
theorem dX0_looks_1 : decode cX0_looks 1 = .ok (.istore_n 3, 1) := dk_62 (dk_at dksX0_looks_0 1 rfl rfl)
theorem dX0_looks_2 : decode cX0_looks 2 = .ok (.iload_n 3, 1) := dk_29 (dk_at dksX0_looks_0 2 rfl rfl)
theorem dX0_looks_3 : decode cX0_looks 3 = .ok (.aload_n 0, 1) := dk_42 (dk_at dksX0_looks_0 3 rfl rfl)
theorem dX0_looks_4 : decode cX0_looks 4 = .ok (.getfield 130, 3) := dk_180 0 130 (dk_at dksX0_looks_0 4 rfl rfl)
theorem dX0_looks_7 : decode cX0_looks 7 = .ok (.if_icmp .ge 22, 3) := dk_162 0 22 (dk_at dksX0_looks_0 7 rfl rfl)
theorem dX0_looks_10 : decode cX0_looks 10 = .ok (.aload_n 0, 1) := dk_42 (dk_at dksX0_looks_0 10 rfl rfl)
theorem dX0_looks_11 : decode cX0_looks 11 = .ok (.getfield 68, 3) := dk_180 0 68 (dk_at dksX0_looks_0 11 rfl rfl)
theorem dX0_looks_14 : decode cX0_looks 14 = .ok (.iload_n 3, 1) := dk_29 (dk_at dksX0_looks_0 14 rfl rfl)
theorem dX0_looks_15 : decode cX0_looks 15 = .ok (.aload_n 0, 1) := dk_42 (dk_at dksX0_looks_0 15 rfl rfl)
theorem dX0_looks_16 : decode cX0_looks 16 = .ok (.aload_n 1, 1) := dk_43 (dk_at dksX0_looks_0 16 rfl rfl)
theorem dX0_looks_17 : decode cX0_looks 17 = .ok (.iload_n 3, 1) := dk_29 (dk_at dksX0_looks_0 17 rfl rfl)
theorem dX0_looks_18 : decode cX0_looks 18 = .ok (.iload_n 2, 1) := dk_28 (dk_at dksX0_looks_0 18 rfl rfl)
theorem dX0_looks_19 : decode cX0_looks 19 = .ok (.invokevirtual 240, 3) := dk_182 0 240 (dk_at dksX0_looks_0 19 rfl rfl)
theorem dX0_looks_22 : decode cX0_looks 22 = .ok (.iastore, 1) := dk_79 (dk_at dksX0_looks_0 22 rfl rfl)
theorem dX0_looks_23 : decode cX0_looks 23 = .ok (.iinc 3 1, 3) := dk_132 3 1 (dk_at dksX0_looks_1 0 rfl rfl)
theorem dX0_looks_26 : decode cX0_looks 26 = .ok (.goto (-24), 3) := dk_167 255 232 (dk_at dksX0_looks_1 3 rfl rfl)
theorem dX0_looks_29 : decode cX0_looks 29 = .ok (.return_, 1) := dk_177 (dk_at dksX0_looks_1 6 rfl rfl)
abbrev cX0_firstBar : ByteArray := prog_1_method_27_code
def yX0_firstBar : MethodName := ⟨RX0, "firstBar", "()I"⟩
def dkwX0_firstBar_2 : List UInt8 := [167, 255, 213, 2, 172]
abbrev dktX0_firstBar_2 : List UInt8 := dkwX0_firstBar_2 ++ []
def dkwX0_firstBar_1 : List UInt8 := [182, 0, 247, 153, 0, 10, 16, 10, 27, 104, 28, 96, 172, 132, 2, 1, 167, 255, 229, 132, 1, 1]
abbrev dktX0_firstBar_1 : List UInt8 := dkwX0_firstBar_1 ++ dktX0_firstBar_2
def dkwX0_firstBar_0 : List UInt8 := [3, 60, 27, 42, 180, 0, 130, 162, 0, 41, 27, 61, 28, 42, 180, 0, 130, 162, 0, 25, 42, 27, 28]
abbrev dktX0_firstBar_0 : List UInt8 := dkwX0_firstBar_0 ++ dktX0_firstBar_1
theorem dksX0_firstBar_0 : cX0_firstBar.data.toList.drop 0 = dktX0_firstBar_0 := by decide +kernel
theorem dksX0_firstBar_1 : cX0_firstBar.data.toList.drop 23 = dktX0_firstBar_1 := dk_seg dksX0_firstBar_0 23 rfl rfl
theorem dksX0_firstBar_2 : cX0_firstBar.data.toList.drop 45 = dktX0_firstBar_2 := dk_seg dksX0_firstBar_1 22 rfl rfl
theorem dX0_firstBar_0 : decode cX0_firstBar 0 = .ok (.iconst 0, 1) := dk_3 (dk_at dksX0_firstBar_0 0 rfl rfl)
theorem dX0_firstBar_1 : decode cX0_firstBar 1 = .ok (.istore_n 1, 1) := dk_60 (dk_at dksX0_firstBar_0 1 rfl rfl)
theorem dX0_firstBar_2 : decode cX0_firstBar 2 = .ok (.iload_n 1, 1) := dk_27 (dk_at dksX0_firstBar_0 2 rfl rfl)
theorem dX0_firstBar_3 : decode cX0_firstBar 3 = .ok (.aload_n 0, 1) := dk_42 (dk_at dksX0_firstBar_0 3 rfl rfl)
theorem dX0_firstBar_4 : decode cX0_firstBar 4 = .ok (.getfield 130, 3) := dk_180 0 130 (dk_at dksX0_firstBar_0 4 rfl rfl)
theorem dX0_firstBar_7 : decode cX0_firstBar 7 = .ok (.if_icmp .ge 41, 3) := dk_162 0 41 (dk_at dksX0_firstBar_0 7 rfl rfl)
theorem dX0_firstBar_10 : decode cX0_firstBar 10 = .ok (.iload_n 1, 1) := dk_27 (dk_at dksX0_firstBar_0 10 rfl rfl)
theorem dX0_firstBar_11 : decode cX0_firstBar 11 = .ok (.istore_n 2, 1) := dk_61 (dk_at dksX0_firstBar_0 11 rfl rfl)
theorem dX0_firstBar_12 : decode cX0_firstBar 12 = .ok (.iload_n 2, 1) := dk_28 (dk_at dksX0_firstBar_0 12 rfl rfl)
theorem dX0_firstBar_13 : decode cX0_firstBar 13 = .ok (.aload_n 0, 1) := dk_42 (dk_at dksX0_firstBar_0 13 rfl rfl)
theorem dX0_firstBar_14 : decode cX0_firstBar 14 = .ok (.getfield 130, 3) := dk_180 0 130 (dk_at dksX0_firstBar_0 14 rfl rfl)
theorem dX0_firstBar_17 : decode cX0_firstBar 17 = .ok (.if_icmp .ge 25, 3) := dk_162 0 25 (dk_at dksX0_firstBar_0 17 rfl rfl)
theorem dX0_firstBar_20 : decode cX0_firstBar 20 = .ok (.aload_n 0, 1) := dk_42 (dk_at dksX0_firstBar_0 20 rfl rfl)
theorem dX0_firstBar_21 : decode cX0_firstBar 21 = .ok (.iload_n 1, 1) := dk_27 (dk_at dksX0_firstBar_0 21 rfl rfl)
theorem dX0_firstBar_22 : decode cX0_firstBar 22 = .ok (.iload_n 2, 1) := dk_28 (dk_at dksX0_firstBar_0 22 rfl rfl)
theorem dX0_firstBar_23 : decode cX0_firstBar 23 = .ok (.invokevirtual 247, 3) := dk_182 0 247 (dk_at dksX0_firstBar_1 0 rfl rfl)
theorem dX0_firstBar_26 : decode cX0_firstBar 26 = .ok (.ifCond .eq 10, 3) := dk_153 0 10 (dk_at dksX0_firstBar_1 3 rfl rfl)
theorem dX0_firstBar_29 : decode cX0_firstBar 29 = .ok (.bipush 10, 2) := dk_16 10 (dk_at dksX0_firstBar_1 6 rfl rfl)
theorem dX0_firstBar_31 : decode cX0_firstBar 31 = .ok (.iload_n 1, 1) := dk_27 (dk_at dksX0_firstBar_1 8 rfl rfl)
theorem dX0_firstBar_32 : decode cX0_firstBar 32 = .ok (.imul, 1) := dk_104 (dk_at dksX0_firstBar_1 9 rfl rfl)
theorem dX0_firstBar_33 : decode cX0_firstBar 33 = .ok (.iload_n 2, 1) := dk_28 (dk_at dksX0_firstBar_1 10 rfl rfl)
theorem dX0_firstBar_34 : decode cX0_firstBar 34 = .ok (.iadd, 1) := dk_96 (dk_at dksX0_firstBar_1 11 rfl rfl)
theorem dX0_firstBar_35 : decode cX0_firstBar 35 = .ok (.ireturn, 1) := dk_172 (dk_at dksX0_firstBar_1 12 rfl rfl)
theorem dX0_firstBar_36 : decode cX0_firstBar 36 = .ok (.iinc 2 1, 3) := dk_132 2 1 (dk_at dksX0_firstBar_1 13 rfl rfl)
theorem dX0_firstBar_39 : decode cX0_firstBar 39 = .ok (.goto (-27), 3) := dk_167 255 229 (dk_at dksX0_firstBar_1 16 rfl rfl)
theorem dX0_firstBar_42 : decode cX0_firstBar 42 = .ok (.iinc 1 1, 3) := dk_132 1 1 (dk_at dksX0_firstBar_1 19 rfl rfl)
theorem dX0_firstBar_45 : decode cX0_firstBar 45 = .ok (.goto (-43), 3) := dk_167 255 213 (dk_at dksX0_firstBar_2 0 rfl rfl)
theorem dX0_firstBar_48 : decode cX0_firstBar 48 = .ok (.iconst (-1), 1) := dk_2 (dk_at dksX0_firstBar_2 3 rfl rfl)
theorem dX0_firstBar_49 : decode cX0_firstBar 49 = .ok (.ireturn, 1) := dk_172 (dk_at dksX0_firstBar_2 4 rfl rfl)
abbrev cX0_bars : ByteArray := prog_1_method_26_code
def yX0_bars : MethodName := ⟨RX0, "bars", "(II)Z"⟩
def dkwX0_bars_6 : List UInt8 := [180, 0, 68, 27, 46, 182, 0, 244, 126, 154, 0, 7, 4, 167, 0, 4, 3, 172]
abbrev dktX0_bars_6 : List UInt8 := dkwX0_bars_6 ++ []
def dkwX0_bars_5 : List UInt8 := [27, 46, 153, 0, 36, 42, 180, 0, 68, 28, 46, 153, 0, 27, 42, 180, 0, 68, 28, 46, 42, 42]
abbrev dktX0_bars_5 : List UInt8 := dkwX0_bars_5 ++ dktX0_bars_6
def dkwX0_bars_4 : List UInt8 := [46, 182, 0, 244, 126, 154, 0, 5, 4, 172, 42, 180, 0, 39, 28, 46, 27, 160, 0, 45, 42, 180, 0, 68]
abbrev dktX0_bars_4 : List UInt8 := dkwX0_bars_4 ++ dktX0_bars_5
def dkwX0_bars_3 : List UInt8 := [153, 0, 34, 42, 180, 0, 68, 28, 46, 153, 0, 25, 42, 180, 0, 68, 27, 46, 42, 42, 180, 0, 68, 28]
abbrev dktX0_bars_3 : List UInt8 := dkwX0_bars_3 ++ dktX0_bars_4
def dkwX0_bars_2 : List UInt8 := [182, 0, 185, 153, 0, 5, 4, 172, 42, 180, 0, 39, 27, 46, 28, 160, 0, 43, 42, 180, 0, 68, 27, 46]
abbrev dktX0_bars_2 : List UInt8 := dkwX0_bars_2 ++ dktX0_bars_3
def dkwX0_bars_1 : List UInt8 := [167, 0, 4, 3, 172, 42, 180, 0, 68, 27, 46, 42, 180, 0, 68, 28, 46, 126, 153, 0, 14, 42, 27, 28]
abbrev dktX0_bars_1 : List UInt8 := dkwX0_bars_1 ++ dktX0_bars_2
def dkwX0_bars_0 : List UInt8 := [27, 28, 160, 0, 27, 42, 180, 0, 68, 27, 46, 42, 180, 0, 33, 27, 46, 2, 130, 126, 153, 0, 7, 4]
abbrev dktX0_bars_0 : List UInt8 := dkwX0_bars_0 ++ dktX0_bars_1
theorem dksX0_bars_0 : cX0_bars.data.toList.drop 0 = dktX0_bars_0 := by decide +kernel
theorem dksX0_bars_1 : cX0_bars.data.toList.drop 24 = dktX0_bars_1 := dk_seg dksX0_bars_0 24 rfl rfl
theorem dksX0_bars_2 : cX0_bars.data.toList.drop 48 = dktX0_bars_2 := dk_seg dksX0_bars_1 24 rfl rfl
theorem dksX0_bars_3 : cX0_bars.data.toList.drop 72 = dktX0_bars_3 := dk_seg dksX0_bars_2 24 rfl rfl
theorem dksX0_bars_4 : cX0_bars.data.toList.drop 96 = dktX0_bars_4 := dk_seg dksX0_bars_3 24 rfl rfl
theorem dksX0_bars_5 : cX0_bars.data.toList.drop 120 = dktX0_bars_5 := dk_seg dksX0_bars_4 24 rfl rfl
theorem dksX0_bars_6 : cX0_bars.data.toList.drop 142 = dktX0_bars_6 := dk_seg dksX0_bars_5 22 rfl rfl
theorem dX0_bars_0 : decode cX0_bars 0 = .ok (.iload_n 1, 1) := dk_27 (dk_at dksX0_bars_0 0 rfl rfl)
theorem dX0_bars_1 : decode cX0_bars 1 = .ok (.iload_n 2, 1) := dk_28 (dk_at dksX0_bars_0 1 rfl rfl)
theorem dX0_bars_2 : decode cX0_bars 2 = .ok (.if_icmp .ne 27, 3) := dk_160 0 27 (dk_at dksX0_bars_0 2 rfl rfl)
theorem dX0_bars_5 : decode cX0_bars 5 = .ok (.aload_n 0, 1) := dk_42 (dk_at dksX0_bars_0 5 rfl rfl)
theorem dX0_bars_6 : decode cX0_bars 6 = .ok (.getfield 68, 3) := dk_180 0 68 (dk_at dksX0_bars_0 6 rfl rfl)
theorem dX0_bars_9 : decode cX0_bars 9 = .ok (.iload_n 1, 1) := dk_27 (dk_at dksX0_bars_0 9 rfl rfl)
theorem dX0_bars_10 : decode cX0_bars 10 = .ok (.iaload, 1) := dk_46 (dk_at dksX0_bars_0 10 rfl rfl)
theorem dX0_bars_11 : decode cX0_bars 11 = .ok (.aload_n 0, 1) := dk_42 (dk_at dksX0_bars_0 11 rfl rfl)
theorem dX0_bars_12 : decode cX0_bars 12 = .ok (.getfield 33, 3) := dk_180 0 33 (dk_at dksX0_bars_0 12 rfl rfl)
theorem dX0_bars_15 : decode cX0_bars 15 = .ok (.iload_n 1, 1) := dk_27 (dk_at dksX0_bars_0 15 rfl rfl)
theorem dX0_bars_16 : decode cX0_bars 16 = .ok (.iaload, 1) := dk_46 (dk_at dksX0_bars_0 16 rfl rfl)
theorem dX0_bars_17 : decode cX0_bars 17 = .ok (.iconst (-1), 1) := dk_2 (dk_at dksX0_bars_0 17 rfl rfl)
theorem dX0_bars_18 : decode cX0_bars 18 = .ok (.ixor, 1) := dk_130 (dk_at dksX0_bars_0 18 rfl rfl)
theorem dX0_bars_19 : decode cX0_bars 19 = .ok (.iand, 1) := dk_126 (dk_at dksX0_bars_0 19 rfl rfl)
theorem dX0_bars_20 : decode cX0_bars 20 = .ok (.ifCond .eq 7, 3) := dk_153 0 7 (dk_at dksX0_bars_0 20 rfl rfl)
theorem dX0_bars_23 : decode cX0_bars 23 = .ok (.iconst 1, 1) := dk_4 (dk_at dksX0_bars_0 23 rfl rfl)
theorem dX0_bars_24 : decode cX0_bars 24 = .ok (.goto 4, 3) := dk_167 0 4 (dk_at dksX0_bars_1 0 rfl rfl)
theorem dX0_bars_27 : decode cX0_bars 27 = .ok (.iconst 0, 1) := dk_3 (dk_at dksX0_bars_1 3 rfl rfl)
theorem dX0_bars_28 : decode cX0_bars 28 = .ok (.ireturn, 1) := dk_172 (dk_at dksX0_bars_1 4 rfl rfl)
theorem dX0_bars_29 : decode cX0_bars 29 = .ok (.aload_n 0, 1) := dk_42 (dk_at dksX0_bars_1 5 rfl rfl)
theorem dX0_bars_30 : decode cX0_bars 30 = .ok (.getfield 68, 3) := dk_180 0 68 (dk_at dksX0_bars_1 6 rfl rfl)
theorem dX0_bars_33 : decode cX0_bars 33 = .ok (.iload_n 1, 1) := dk_27 (dk_at dksX0_bars_1 9 rfl rfl)
theorem dX0_bars_34 : decode cX0_bars 34 = .ok (.iaload, 1) := dk_46 (dk_at dksX0_bars_1 10 rfl rfl)
theorem dX0_bars_35 : decode cX0_bars 35 = .ok (.aload_n 0, 1) := dk_42 (dk_at dksX0_bars_1 11 rfl rfl)
theorem dX0_bars_36 : decode cX0_bars 36 = .ok (.getfield 68, 3) := dk_180 0 68 (dk_at dksX0_bars_1 12 rfl rfl)
theorem dX0_bars_39 : decode cX0_bars 39 = .ok (.iload_n 2, 1) := dk_28 (dk_at dksX0_bars_1 15 rfl rfl)
theorem dX0_bars_40 : decode cX0_bars 40 = .ok (.iaload, 1) := dk_46 (dk_at dksX0_bars_1 16 rfl rfl)
theorem dX0_bars_41 : decode cX0_bars 41 = .ok (.iand, 1) := dk_126 (dk_at dksX0_bars_1 17 rfl rfl)
theorem dX0_bars_42 : decode cX0_bars 42 = .ok (.ifCond .eq 14, 3) := dk_153 0 14 (dk_at dksX0_bars_1 18 rfl rfl)
theorem dX0_bars_45 : decode cX0_bars 45 = .ok (.aload_n 0, 1) := dk_42 (dk_at dksX0_bars_1 21 rfl rfl)
theorem dX0_bars_46 : decode cX0_bars 46 = .ok (.iload_n 1, 1) := dk_27 (dk_at dksX0_bars_1 22 rfl rfl)
theorem dX0_bars_47 : decode cX0_bars 47 = .ok (.iload_n 2, 1) := dk_28 (dk_at dksX0_bars_1 23 rfl rfl)
theorem dX0_bars_48 : decode cX0_bars 48 = .ok (.invokevirtual 185, 3) := dk_182 0 185 (dk_at dksX0_bars_2 0 rfl rfl)
theorem dX0_bars_51 : decode cX0_bars 51 = .ok (.ifCond .eq 5, 3) := dk_153 0 5 (dk_at dksX0_bars_2 3 rfl rfl)
theorem dX0_bars_54 : decode cX0_bars 54 = .ok (.iconst 1, 1) := dk_4 (dk_at dksX0_bars_2 6 rfl rfl)
theorem dX0_bars_55 : decode cX0_bars 55 = .ok (.ireturn, 1) := dk_172 (dk_at dksX0_bars_2 7 rfl rfl)
theorem dX0_bars_56 : decode cX0_bars 56 = .ok (.aload_n 0, 1) := dk_42 (dk_at dksX0_bars_2 8 rfl rfl)
theorem dX0_bars_57 : decode cX0_bars 57 = .ok (.getfield 39, 3) := dk_180 0 39 (dk_at dksX0_bars_2 9 rfl rfl)
theorem dX0_bars_60 : decode cX0_bars 60 = .ok (.iload_n 1, 1) := dk_27 (dk_at dksX0_bars_2 12 rfl rfl)
theorem dX0_bars_61 : decode cX0_bars 61 = .ok (.iaload, 1) := dk_46 (dk_at dksX0_bars_2 13 rfl rfl)
theorem dX0_bars_62 : decode cX0_bars 62 = .ok (.iload_n 2, 1) := dk_28 (dk_at dksX0_bars_2 14 rfl rfl)
theorem dX0_bars_63 : decode cX0_bars 63 = .ok (.if_icmp .ne 43, 3) := dk_160 0 43 (dk_at dksX0_bars_2 15 rfl rfl)
theorem dX0_bars_66 : decode cX0_bars 66 = .ok (.aload_n 0, 1) := dk_42 (dk_at dksX0_bars_2 18 rfl rfl)
theorem dX0_bars_67 : decode cX0_bars 67 = .ok (.getfield 68, 3) := dk_180 0 68 (dk_at dksX0_bars_2 19 rfl rfl)
theorem dX0_bars_70 : decode cX0_bars 70 = .ok (.iload_n 1, 1) := dk_27 (dk_at dksX0_bars_2 22 rfl rfl)
theorem dX0_bars_71 : decode cX0_bars 71 = .ok (.iaload, 1) := dk_46 (dk_at dksX0_bars_2 23 rfl rfl)
theorem dX0_bars_72 : decode cX0_bars 72 = .ok (.ifCond .eq 34, 3) := dk_153 0 34 (dk_at dksX0_bars_3 0 rfl rfl)
theorem dX0_bars_75 : decode cX0_bars 75 = .ok (.aload_n 0, 1) := dk_42 (dk_at dksX0_bars_3 3 rfl rfl)
theorem dX0_bars_76 : decode cX0_bars 76 = .ok (.getfield 68, 3) := dk_180 0 68 (dk_at dksX0_bars_3 4 rfl rfl)
theorem dX0_bars_79 : decode cX0_bars 79 = .ok (.iload_n 2, 1) := dk_28 (dk_at dksX0_bars_3 7 rfl rfl)
theorem dX0_bars_80 : decode cX0_bars 80 = .ok (.iaload, 1) := dk_46 (dk_at dksX0_bars_3 8 rfl rfl)
theorem dX0_bars_81 : decode cX0_bars 81 = .ok (.ifCond .eq 25, 3) := dk_153 0 25 (dk_at dksX0_bars_3 9 rfl rfl)
theorem dX0_bars_84 : decode cX0_bars 84 = .ok (.aload_n 0, 1) := dk_42 (dk_at dksX0_bars_3 12 rfl rfl)
theorem dX0_bars_85 : decode cX0_bars 85 = .ok (.getfield 68, 3) := dk_180 0 68 (dk_at dksX0_bars_3 13 rfl rfl)
theorem dX0_bars_88 : decode cX0_bars 88 = .ok (.iload_n 1, 1) := dk_27 (dk_at dksX0_bars_3 16 rfl rfl)
theorem dX0_bars_89 : decode cX0_bars 89 = .ok (.iaload, 1) := dk_46 (dk_at dksX0_bars_3 17 rfl rfl)
theorem dX0_bars_90 : decode cX0_bars 90 = .ok (.aload_n 0, 1) := dk_42 (dk_at dksX0_bars_3 18 rfl rfl)
theorem dX0_bars_91 : decode cX0_bars 91 = .ok (.aload_n 0, 1) := dk_42 (dk_at dksX0_bars_3 19 rfl rfl)
theorem dX0_bars_92 : decode cX0_bars 92 = .ok (.getfield 68, 3) := dk_180 0 68 (dk_at dksX0_bars_3 20 rfl rfl)
theorem dX0_bars_95 : decode cX0_bars 95 = .ok (.iload_n 2, 1) := dk_28 (dk_at dksX0_bars_3 23 rfl rfl)
theorem dX0_bars_96 : decode cX0_bars 96 = .ok (.iaload, 1) := dk_46 (dk_at dksX0_bars_4 0 rfl rfl)
theorem dX0_bars_97 : decode cX0_bars 97 = .ok (.invokevirtual 244, 3) := dk_182 0 244 (dk_at dksX0_bars_4 1 rfl rfl)
theorem dX0_bars_100 : decode cX0_bars 100 = .ok (.iand, 1) := dk_126 (dk_at dksX0_bars_4 4 rfl rfl)
theorem dX0_bars_101 : decode cX0_bars 101 = .ok (.ifCond .ne 5, 3) := dk_154 0 5 (dk_at dksX0_bars_4 5 rfl rfl)
theorem dX0_bars_104 : decode cX0_bars 104 = .ok (.iconst 1, 1) := dk_4 (dk_at dksX0_bars_4 8 rfl rfl)
theorem dX0_bars_105 : decode cX0_bars 105 = .ok (.ireturn, 1) := dk_172 (dk_at dksX0_bars_4 9 rfl rfl)
theorem dX0_bars_106 : decode cX0_bars 106 = .ok (.aload_n 0, 1) := dk_42 (dk_at dksX0_bars_4 10 rfl rfl)
theorem dX0_bars_107 : decode cX0_bars 107 = .ok (.getfield 39, 3) := dk_180 0 39 (dk_at dksX0_bars_4 11 rfl rfl)
theorem dX0_bars_110 : decode cX0_bars 110 = .ok (.iload_n 2, 1) := dk_28 (dk_at dksX0_bars_4 14 rfl rfl)
theorem dX0_bars_111 : decode cX0_bars 111 = .ok (.iaload, 1) := dk_46 (dk_at dksX0_bars_4 15 rfl rfl)
theorem dX0_bars_112 : decode cX0_bars 112 = .ok (.iload_n 1, 1) := dk_27 (dk_at dksX0_bars_4 16 rfl rfl)
theorem dX0_bars_113 : decode cX0_bars 113 = .ok (.if_icmp .ne 45, 3) := dk_160 0 45 (dk_at dksX0_bars_4 17 rfl rfl)
theorem dX0_bars_116 : decode cX0_bars 116 = .ok (.aload_n 0, 1) := dk_42 (dk_at dksX0_bars_4 20 rfl rfl)
theorem dX0_bars_117 : decode cX0_bars 117 = .ok (.getfield 68, 3) := dk_180 0 68 (dk_at dksX0_bars_4 21 rfl rfl)
theorem dX0_bars_120 : decode cX0_bars 120 = .ok (.iload_n 1, 1) := dk_27 (dk_at dksX0_bars_5 0 rfl rfl)
theorem dX0_bars_121 : decode cX0_bars 121 = .ok (.iaload, 1) := dk_46 (dk_at dksX0_bars_5 1 rfl rfl)
theorem dX0_bars_122 : decode cX0_bars 122 = .ok (.ifCond .eq 36, 3) := dk_153 0 36 (dk_at dksX0_bars_5 2 rfl rfl)
theorem dX0_bars_125 : decode cX0_bars 125 = .ok (.aload_n 0, 1) := dk_42 (dk_at dksX0_bars_5 5 rfl rfl)
theorem dX0_bars_126 : decode cX0_bars 126 = .ok (.getfield 68, 3) := dk_180 0 68 (dk_at dksX0_bars_5 6 rfl rfl)
theorem dX0_bars_129 : decode cX0_bars 129 = .ok (.iload_n 2, 1) := dk_28 (dk_at dksX0_bars_5 9 rfl rfl)
theorem dX0_bars_130 : decode cX0_bars 130 = .ok (.iaload, 1) := dk_46 (dk_at dksX0_bars_5 10 rfl rfl)
theorem dX0_bars_131 : decode cX0_bars 131 = .ok (.ifCond .eq 27, 3) := dk_153 0 27 (dk_at dksX0_bars_5 11 rfl rfl)
theorem dX0_bars_134 : decode cX0_bars 134 = .ok (.aload_n 0, 1) := dk_42 (dk_at dksX0_bars_5 14 rfl rfl)
theorem dX0_bars_135 : decode cX0_bars 135 = .ok (.getfield 68, 3) := dk_180 0 68 (dk_at dksX0_bars_5 15 rfl rfl)
theorem dX0_bars_138 : decode cX0_bars 138 = .ok (.iload_n 2, 1) := dk_28 (dk_at dksX0_bars_5 18 rfl rfl)
theorem dX0_bars_139 : decode cX0_bars 139 = .ok (.iaload, 1) := dk_46 (dk_at dksX0_bars_5 19 rfl rfl)
theorem dX0_bars_140 : decode cX0_bars 140 = .ok (.aload_n 0, 1) := dk_42 (dk_at dksX0_bars_5 20 rfl rfl)
theorem dX0_bars_141 : decode cX0_bars 141 = .ok (.aload_n 0, 1) := dk_42 (dk_at dksX0_bars_5 21 rfl rfl)
theorem dX0_bars_142 : decode cX0_bars 142 = .ok (.getfield 68, 3) := dk_180 0 68 (dk_at dksX0_bars_6 0 rfl rfl)
theorem dX0_bars_145 : decode cX0_bars 145 = .ok (.iload_n 1, 1) := dk_27 (dk_at dksX0_bars_6 3 rfl rfl)
theorem dX0_bars_146 : decode cX0_bars 146 = .ok (.iaload, 1) := dk_46 (dk_at dksX0_bars_6 4 rfl rfl)
theorem dX0_bars_147 : decode cX0_bars 147 = .ok (.invokevirtual 244, 3) := dk_182 0 244 (dk_at dksX0_bars_6 5 rfl rfl)
theorem dX0_bars_150 : decode cX0_bars 150 = .ok (.iand, 1) := dk_126 (dk_at dksX0_bars_6 8 rfl rfl)
theorem dX0_bars_151 : decode cX0_bars 151 = .ok (.ifCond .ne 7, 3) := dk_154 0 7 (dk_at dksX0_bars_6 9 rfl rfl)
theorem dX0_bars_154 : decode cX0_bars 154 = .ok (.iconst 1, 1) := dk_4 (dk_at dksX0_bars_6 12 rfl rfl)
theorem dX0_bars_155 : decode cX0_bars 155 = .ok (.goto 4, 3) := dk_167 0 4 (dk_at dksX0_bars_6 13 rfl rfl)
theorem dX0_bars_158 : decode cX0_bars 158 = .ok (.iconst 0, 1) := dk_3 (dk_at dksX0_bars_6 16 rfl rfl)
theorem dX0_bars_159 : decode cX0_bars 159 = .ok (.ireturn, 1) := dk_172 (dk_at dksX0_bars_6 17 rfl rfl)
abbrev cX0_nextDay : ByteArray := prog_1_method_25_code
def yX0_nextDay : MethodName := ⟨RX0, "nextDay", "(I)I"⟩
def dkwX0_nextDay_0 : List UInt8 := [27, 4, 120, 61, 28, 4, 42, 180, 0, 48, 120, 4, 100, 126, 28, 42, 180, 0, 48, 122, 4, 126, 128, 172]
abbrev dktX0_nextDay_0 : List UInt8 := dkwX0_nextDay_0 ++ []
theorem dksX0_nextDay_0 : cX0_nextDay.data.toList.drop 0 = dktX0_nextDay_0 := by decide +kernel
theorem dX0_nextDay_0 : decode cX0_nextDay 0 = .ok (.iload_n 1, 1) := dk_27 (dk_at dksX0_nextDay_0 0 rfl rfl)
theorem dX0_nextDay_1 : decode cX0_nextDay 1 = .ok (.iconst 1, 1) := dk_4 (dk_at dksX0_nextDay_0 1 rfl rfl)
theorem dX0_nextDay_2 : decode cX0_nextDay 2 = .ok (.ishl, 1) := dk_120 (dk_at dksX0_nextDay_0 2 rfl rfl)
theorem dX0_nextDay_3 : decode cX0_nextDay 3 = .ok (.istore_n 2, 1) := dk_61 (dk_at dksX0_nextDay_0 3 rfl rfl)
theorem dX0_nextDay_4 : decode cX0_nextDay 4 = .ok (.iload_n 2, 1) := dk_28 (dk_at dksX0_nextDay_0 4 rfl rfl)
theorem dX0_nextDay_5 : decode cX0_nextDay 5 = .ok (.iconst 1, 1) := dk_4 (dk_at dksX0_nextDay_0 5 rfl rfl)
theorem dX0_nextDay_6 : decode cX0_nextDay 6 = .ok (.aload_n 0, 1) := dk_42 (dk_at dksX0_nextDay_0 6 rfl rfl)
theorem dX0_nextDay_7 : decode cX0_nextDay 7 = .ok (.getfield 48, 3) := dk_180 0 48 (dk_at dksX0_nextDay_0 7 rfl rfl)
theorem dX0_nextDay_10 : decode cX0_nextDay 10 = .ok (.ishl, 1) := dk_120 (dk_at dksX0_nextDay_0 10 rfl rfl)
theorem dX0_nextDay_11 : decode cX0_nextDay 11 = .ok (.iconst 1, 1) := dk_4 (dk_at dksX0_nextDay_0 11 rfl rfl)
theorem dX0_nextDay_12 : decode cX0_nextDay 12 = .ok (.isub, 1) := dk_100 (dk_at dksX0_nextDay_0 12 rfl rfl)
theorem dX0_nextDay_13 : decode cX0_nextDay 13 = .ok (.iand, 1) := dk_126 (dk_at dksX0_nextDay_0 13 rfl rfl)
theorem dX0_nextDay_14 : decode cX0_nextDay 14 = .ok (.iload_n 2, 1) := dk_28 (dk_at dksX0_nextDay_0 14 rfl rfl)
theorem dX0_nextDay_15 : decode cX0_nextDay 15 = .ok (.aload_n 0, 1) := dk_42 (dk_at dksX0_nextDay_0 15 rfl rfl)
theorem dX0_nextDay_16 : decode cX0_nextDay 16 = .ok (.getfield 48, 3) := dk_180 0 48 (dk_at dksX0_nextDay_0 16 rfl rfl)
theorem dX0_nextDay_19 : decode cX0_nextDay 19 = .ok (.ishr, 1) := dk_122 (dk_at dksX0_nextDay_0 19 rfl rfl)
theorem dX0_nextDay_20 : decode cX0_nextDay 20 = .ok (.iconst 1, 1) := dk_4 (dk_at dksX0_nextDay_0 20 rfl rfl)
theorem dX0_nextDay_21 : decode cX0_nextDay 21 = .ok (.iand, 1) := dk_126 (dk_at dksX0_nextDay_0 21 rfl rfl)
theorem dX0_nextDay_22 : decode cX0_nextDay 22 = .ok (.ior, 1) := dk_128 (dk_at dksX0_nextDay_0 22 rfl rfl)
theorem dX0_nextDay_23 : decode cX0_nextDay 23 = .ok (.ireturn, 1) := dk_172 (dk_at dksX0_nextDay_0 23 rfl rfl)
abbrev cX0_lawful : ByteArray := prog_1_method_29_code
def yX0_lawful : MethodName := ⟨RX0, "lawful", "(II)I"⟩
def dkwX0_lawful_2 : List UInt8 := [182, 0, 255, 2, 160, 0, 6, 132, 3, 1, 132, 4, 1, 167, 255, 219, 29, 172]
abbrev dktX0_lawful_2 : List UInt8 := dkwX0_lawful_2 ++ []
def dkwX0_lawful_1 : List UInt8 := [21, 4, 28, 163, 0, 37, 42, 42, 180, 0, 61, 27, 182, 0, 236, 192, 0, 1, 21, 4, 182, 0, 251, 42]
abbrev dktX0_lawful_1 : List UInt8 := dkwX0_lawful_1 ++ dktX0_lawful_2
def dkwX0_lawful_0 : List UInt8 := [42, 27, 182, 0, 233, 153, 0, 11, 42, 28, 182, 0, 167, 154, 0, 6, 16, 251, 172, 3, 62, 3, 54, 4]
abbrev dktX0_lawful_0 : List UInt8 := dkwX0_lawful_0 ++ dktX0_lawful_1
theorem dksX0_lawful_0 : cX0_lawful.data.toList.drop 0 = dktX0_lawful_0 := by decide +kernel
theorem dksX0_lawful_1 : cX0_lawful.data.toList.drop 24 = dktX0_lawful_1 := dk_seg dksX0_lawful_0 24 rfl rfl
theorem dksX0_lawful_2 : cX0_lawful.data.toList.drop 48 = dktX0_lawful_2 := dk_seg dksX0_lawful_1 24 rfl rfl
theorem dX0_lawful_0 : decode cX0_lawful 0 = .ok (.aload_n 0, 1) := dk_42 (dk_at dksX0_lawful_0 0 rfl rfl)
theorem dX0_lawful_1 : decode cX0_lawful 1 = .ok (.iload_n 1, 1) := dk_27 (dk_at dksX0_lawful_0 1 rfl rfl)
theorem dX0_lawful_2 : decode cX0_lawful 2 = .ok (.invokevirtual 233, 3) := dk_182 0 233 (dk_at dksX0_lawful_0 2 rfl rfl)
theorem dX0_lawful_5 : decode cX0_lawful 5 = .ok (.ifCond .eq 11, 3) := dk_153 0 11 (dk_at dksX0_lawful_0 5 rfl rfl)
theorem dX0_lawful_8 : decode cX0_lawful 8 = .ok (.aload_n 0, 1) := dk_42 (dk_at dksX0_lawful_0 8 rfl rfl)
theorem dX0_lawful_9 : decode cX0_lawful 9 = .ok (.iload_n 2, 1) := dk_28 (dk_at dksX0_lawful_0 9 rfl rfl)
theorem dX0_lawful_10 : decode cX0_lawful 10 = .ok (.invokevirtual 167, 3) := dk_182 0 167 (dk_at dksX0_lawful_0 10 rfl rfl)
theorem dX0_lawful_13 : decode cX0_lawful 13 = .ok (.ifCond .ne 6, 3) := dk_154 0 6 (dk_at dksX0_lawful_0 13 rfl rfl)
theorem dX0_lawful_16 : decode cX0_lawful 16 = .ok (.bipush (-5), 2) := dk_16 251 (dk_at dksX0_lawful_0 16 rfl rfl)
theorem dX0_lawful_18 : decode cX0_lawful 18 = .ok (.ireturn, 1) := dk_172 (dk_at dksX0_lawful_0 18 rfl rfl)
theorem dX0_lawful_19 : decode cX0_lawful 19 = .ok (.iconst 0, 1) := dk_3 (dk_at dksX0_lawful_0 19 rfl rfl)
theorem dX0_lawful_20 : decode cX0_lawful 20 = .ok (.istore_n 3, 1) := dk_62 (dk_at dksX0_lawful_0 20 rfl rfl)
theorem dX0_lawful_21 : decode cX0_lawful 21 = .ok (.iconst 0, 1) := dk_3 (dk_at dksX0_lawful_0 21 rfl rfl)
theorem dX0_lawful_22 : decode cX0_lawful 22 = .ok (.istore 4, 2) := dk_54 4 (dk_at dksX0_lawful_0 22 rfl rfl)
theorem dX0_lawful_24 : decode cX0_lawful 24 = .ok (.iload 4, 2) := dk_21 4 (dk_at dksX0_lawful_1 0 rfl rfl)
theorem dX0_lawful_26 : decode cX0_lawful 26 = .ok (.iload_n 2, 1) := dk_28 (dk_at dksX0_lawful_1 2 rfl rfl)
theorem dX0_lawful_27 : decode cX0_lawful 27 = .ok (.if_icmp .gt 37, 3) := dk_163 0 37 (dk_at dksX0_lawful_1 3 rfl rfl)
theorem dX0_lawful_30 : decode cX0_lawful 30 = .ok (.aload_n 0, 1) := dk_42 (dk_at dksX0_lawful_1 6 rfl rfl)
theorem dX0_lawful_31 : decode cX0_lawful 31 = .ok (.aload_n 0, 1) := dk_42 (dk_at dksX0_lawful_1 7 rfl rfl)
theorem dX0_lawful_32 : decode cX0_lawful 32 = .ok (.getfield 61, 3) := dk_180 0 61 (dk_at dksX0_lawful_1 8 rfl rfl)
theorem dX0_lawful_35 : decode cX0_lawful 35 = .ok (.iload_n 1, 1) := dk_27 (dk_at dksX0_lawful_1 11 rfl rfl)
theorem dX0_lawful_36 : decode cX0_lawful 36 = .ok (.invokevirtual 236, 3) := dk_182 0 236 (dk_at dksX0_lawful_1 12 rfl rfl)
theorem dX0_lawful_39 : decode cX0_lawful 39 = .ok (.checkcast 1, 3) := dk_192 0 1 (dk_at dksX0_lawful_1 15 rfl rfl)
theorem dX0_lawful_42 : decode cX0_lawful 42 = .ok (.iload 4, 2) := dk_21 4 (dk_at dksX0_lawful_1 18 rfl rfl)
theorem dX0_lawful_44 : decode cX0_lawful 44 = .ok (.invokevirtual 251, 3) := dk_182 0 251 (dk_at dksX0_lawful_1 20 rfl rfl)
theorem dX0_lawful_47 : decode cX0_lawful 47 = .ok (.aload_n 0, 1) := dk_42 (dk_at dksX0_lawful_1 23 rfl rfl)
theorem dX0_lawful_48 : decode cX0_lawful 48 = .ok (.invokevirtual 255, 3) := dk_182 0 255 (dk_at dksX0_lawful_2 0 rfl rfl)
theorem dX0_lawful_51 : decode cX0_lawful 51 = .ok (.iconst (-1), 1) := dk_2 (dk_at dksX0_lawful_2 3 rfl rfl)
theorem dX0_lawful_52 : decode cX0_lawful 52 = .ok (.if_icmp .ne 6, 3) := dk_160 0 6 (dk_at dksX0_lawful_2 4 rfl rfl)
theorem dX0_lawful_55 : decode cX0_lawful 55 = .ok (.iinc 3 1, 3) := dk_132 3 1 (dk_at dksX0_lawful_2 7 rfl rfl)
theorem dX0_lawful_58 : decode cX0_lawful 58 = .ok (.iinc 4 1, 3) := dk_132 4 1 (dk_at dksX0_lawful_2 10 rfl rfl)
theorem dX0_lawful_61 : decode cX0_lawful 61 = .ok (.goto (-37), 3) := dk_167 255 219 (dk_at dksX0_lawful_2 13 rfl rfl)
theorem dX0_lawful_64 : decode cX0_lawful 64 = .ok (.iload_n 3, 1) := dk_29 (dk_at dksX0_lawful_2 16 rfl rfl)
theorem dX0_lawful_65 : decode cX0_lawful 65 = .ok (.ireturn, 1) := dk_172 (dk_at dksX0_lawful_2 17 rfl rfl)
abbrev cX0_judge : ByteArray := prog_1_method_33_code
def yX0_judge : MethodName := ⟨RX0, "judge", "(III)J"⟩
def dkwX0_judge_5 : List UInt8 := [132, 6, 1, 167, 255, 221, 22, 4, 173]
abbrev dktX0_judge_5 : List UInt8 := dkwX0_judge_5 ++ []
def dkwX0_judge_4 : List UInt8 := [22, 4, 42, 42, 180, 0, 61, 27, 182, 0, 236, 192, 0, 1, 21, 6, 182, 1, 10, 133, 97, 55, 4]
abbrev dktX0_judge_4 : List UInt8 := dkwX0_judge_4 ++ dktX0_judge_5
def dkwX0_judge_3 : List UInt8 := [192, 0, 1, 29, 182, 1, 10, 133, 173, 9, 55, 4, 3, 54, 6, 21, 6, 42, 180, 0, 130, 162, 0, 32]
abbrev dktX0_judge_3 : List UInt8 := dkwX0_judge_3 ++ dktX0_judge_4
def dkwX0_judge_2 : List UInt8 := [182, 0, 236, 192, 0, 1, 28, 182, 0, 251, 29, 2, 159, 0, 21, 42, 42, 180, 0, 61, 27, 182, 0, 236]
abbrev dktX0_judge_2 : List UInt8 := dkwX0_judge_2 ++ dktX0_judge_3
def dkwX0_judge_1 : List UInt8 := [180, 0, 130, 133, 10, 101, 184, 0, 133, 154, 0, 7, 20, 0, 188, 173, 42, 42, 180, 0, 61, 27]
abbrev dktX0_judge_1 : List UInt8 := dkwX0_judge_1 ++ dktX0_judge_2
def dkwX0_judge_0 : List UInt8 := [42, 27, 182, 0, 233, 153, 0, 29, 42, 28, 182, 0, 167, 153, 0, 21, 29, 133, 20, 0, 161, 42]
abbrev dktX0_judge_0 : List UInt8 := dkwX0_judge_0 ++ dktX0_judge_1
theorem dksX0_judge_0 : cX0_judge.data.toList.drop 0 = dktX0_judge_0 := by decide +kernel
theorem dksX0_judge_1 : cX0_judge.data.toList.drop 22 = dktX0_judge_1 := dk_seg dksX0_judge_0 22 rfl rfl
theorem dksX0_judge_2 : cX0_judge.data.toList.drop 44 = dktX0_judge_2 := dk_seg dksX0_judge_1 22 rfl rfl
theorem dksX0_judge_3 : cX0_judge.data.toList.drop 68 = dktX0_judge_3 := dk_seg dksX0_judge_2 24 rfl rfl
theorem dksX0_judge_4 : cX0_judge.data.toList.drop 92 = dktX0_judge_4 := dk_seg dksX0_judge_3 24 rfl rfl
theorem dksX0_judge_5 : cX0_judge.data.toList.drop 115 = dktX0_judge_5 := dk_seg dksX0_judge_4 23 rfl rfl
theorem dX0_judge_0 : decode cX0_judge 0 = .ok (.aload_n 0, 1) := dk_42 (dk_at dksX0_judge_0 0 rfl rfl)
theorem dX0_judge_1 : decode cX0_judge 1 = .ok (.iload_n 1, 1) := dk_27 (dk_at dksX0_judge_0 1 rfl rfl)
theorem dX0_judge_2 : decode cX0_judge 2 = .ok (.invokevirtual 233, 3) := dk_182 0 233 (dk_at dksX0_judge_0 2 rfl rfl)
theorem dX0_judge_5 : decode cX0_judge 5 = .ok (.ifCond .eq 29, 3) := dk_153 0 29 (dk_at dksX0_judge_0 5 rfl rfl)
theorem dX0_judge_8 : decode cX0_judge 8 = .ok (.aload_n 0, 1) := dk_42 (dk_at dksX0_judge_0 8 rfl rfl)
theorem dX0_judge_9 : decode cX0_judge 9 = .ok (.iload_n 2, 1) := dk_28 (dk_at dksX0_judge_0 9 rfl rfl)
theorem dX0_judge_10 : decode cX0_judge 10 = .ok (.invokevirtual 167, 3) := dk_182 0 167 (dk_at dksX0_judge_0 10 rfl rfl)
theorem dX0_judge_13 : decode cX0_judge 13 = .ok (.ifCond .eq 21, 3) := dk_153 0 21 (dk_at dksX0_judge_0 13 rfl rfl)
theorem dX0_judge_16 : decode cX0_judge 16 = .ok (.iload_n 3, 1) := dk_29 (dk_at dksX0_judge_0 16 rfl rfl)
theorem dX0_judge_17 : decode cX0_judge 17 = .ok (.i2l, 1) := dk_133 (dk_at dksX0_judge_0 17 rfl rfl)
theorem dX0_judge_18 : decode cX0_judge 18 = .ok (.ldc2_w 161, 3) := dk_20 0 161 (dk_at dksX0_judge_0 18 rfl rfl)
theorem dX0_judge_21 : decode cX0_judge 21 = .ok (.aload_n 0, 1) := dk_42 (dk_at dksX0_judge_0 21 rfl rfl)
theorem dX0_judge_22 : decode cX0_judge 22 = .ok (.getfield 130, 3) := dk_180 0 130 (dk_at dksX0_judge_1 0 rfl rfl)
theorem dX0_judge_25 : decode cX0_judge 25 = .ok (.i2l, 1) := dk_133 (dk_at dksX0_judge_1 3 rfl rfl)
theorem dX0_judge_26 : decode cX0_judge 26 = .ok (.lconst 1, 1) := dk_10 (dk_at dksX0_judge_1 4 rfl rfl)
theorem dX0_judge_27 : decode cX0_judge 27 = .ok (.lsub, 1) := dk_101 (dk_at dksX0_judge_1 5 rfl rfl)
theorem dX0_judge_28 : decode cX0_judge 28 = .ok (.invokestatic 133, 3) := dk_184 0 133 (dk_at dksX0_judge_1 6 rfl rfl)
theorem dX0_judge_31 : decode cX0_judge 31 = .ok (.ifCond .ne 7, 3) := dk_154 0 7 (dk_at dksX0_judge_1 9 rfl rfl)
theorem dX0_judge_34 : decode cX0_judge 34 = .ok (.ldc2_w 188, 3) := dk_20 0 188 (dk_at dksX0_judge_1 12 rfl rfl)
theorem dX0_judge_37 : decode cX0_judge 37 = .ok (.lreturn, 1) := dk_173 (dk_at dksX0_judge_1 15 rfl rfl)
theorem dX0_judge_38 : decode cX0_judge 38 = .ok (.aload_n 0, 1) := dk_42 (dk_at dksX0_judge_1 16 rfl rfl)
theorem dX0_judge_39 : decode cX0_judge 39 = .ok (.aload_n 0, 1) := dk_42 (dk_at dksX0_judge_1 17 rfl rfl)
theorem dX0_judge_40 : decode cX0_judge 40 = .ok (.getfield 61, 3) := dk_180 0 61 (dk_at dksX0_judge_1 18 rfl rfl)
theorem dX0_judge_43 : decode cX0_judge 43 = .ok (.iload_n 1, 1) := dk_27 (dk_at dksX0_judge_1 21 rfl rfl)
theorem dX0_judge_44 : decode cX0_judge 44 = .ok (.invokevirtual 236, 3) := dk_182 0 236 (dk_at dksX0_judge_2 0 rfl rfl)
theorem dX0_judge_47 : decode cX0_judge 47 = .ok (.checkcast 1, 3) := dk_192 0 1 (dk_at dksX0_judge_2 3 rfl rfl)
theorem dX0_judge_50 : decode cX0_judge 50 = .ok (.iload_n 2, 1) := dk_28 (dk_at dksX0_judge_2 6 rfl rfl)
theorem dX0_judge_51 : decode cX0_judge 51 = .ok (.invokevirtual 251, 3) := dk_182 0 251 (dk_at dksX0_judge_2 7 rfl rfl)
theorem dX0_judge_54 : decode cX0_judge 54 = .ok (.iload_n 3, 1) := dk_29 (dk_at dksX0_judge_2 10 rfl rfl)
theorem dX0_judge_55 : decode cX0_judge 55 = .ok (.iconst (-1), 1) := dk_2 (dk_at dksX0_judge_2 11 rfl rfl)
theorem dX0_judge_56 : decode cX0_judge 56 = .ok (.if_icmp .eq 21, 3) := dk_159 0 21 (dk_at dksX0_judge_2 12 rfl rfl)
theorem dX0_judge_59 : decode cX0_judge 59 = .ok (.aload_n 0, 1) := dk_42 (dk_at dksX0_judge_2 15 rfl rfl)
theorem dX0_judge_60 : decode cX0_judge 60 = .ok (.aload_n 0, 1) := dk_42 (dk_at dksX0_judge_2 16 rfl rfl)
theorem dX0_judge_61 : decode cX0_judge 61 = .ok (.getfield 61, 3) := dk_180 0 61 (dk_at dksX0_judge_2 17 rfl rfl)
theorem dX0_judge_64 : decode cX0_judge 64 = .ok (.iload_n 1, 1) := dk_27 (dk_at dksX0_judge_2 20 rfl rfl)
theorem dX0_judge_65 : decode cX0_judge 65 = .ok (.invokevirtual 236, 3) := dk_182 0 236 (dk_at dksX0_judge_2 21 rfl rfl)
theorem dX0_judge_68 : decode cX0_judge 68 = .ok (.checkcast 1, 3) := dk_192 0 1 (dk_at dksX0_judge_3 0 rfl rfl)
theorem dX0_judge_71 : decode cX0_judge 71 = .ok (.iload_n 3, 1) := dk_29 (dk_at dksX0_judge_3 3 rfl rfl)
theorem dX0_judge_72 : decode cX0_judge 72 = .ok (.invokevirtual 266, 3) := dk_182 1 10 (dk_at dksX0_judge_3 4 rfl rfl)
theorem dX0_judge_75 : decode cX0_judge 75 = .ok (.i2l, 1) := dk_133 (dk_at dksX0_judge_3 7 rfl rfl)
theorem dX0_judge_76 : decode cX0_judge 76 = .ok (.lreturn, 1) := dk_173 (dk_at dksX0_judge_3 8 rfl rfl)
theorem dX0_judge_77 : decode cX0_judge 77 = .ok (.lconst 0, 1) := dk_9 (dk_at dksX0_judge_3 9 rfl rfl)
theorem dX0_judge_78 : decode cX0_judge 78 = .ok (.lstore 4, 2) := dk_55 4 (dk_at dksX0_judge_3 10 rfl rfl)
theorem dX0_judge_80 : decode cX0_judge 80 = .ok (.iconst 0, 1) := dk_3 (dk_at dksX0_judge_3 12 rfl rfl)
theorem dX0_judge_81 : decode cX0_judge 81 = .ok (.istore 6, 2) := dk_54 6 (dk_at dksX0_judge_3 13 rfl rfl)
theorem dX0_judge_83 : decode cX0_judge 83 = .ok (.iload 6, 2) := dk_21 6 (dk_at dksX0_judge_3 15 rfl rfl)
theorem dX0_judge_85 : decode cX0_judge 85 = .ok (.aload_n 0, 1) := dk_42 (dk_at dksX0_judge_3 17 rfl rfl)
theorem dX0_judge_86 : decode cX0_judge 86 = .ok (.getfield 130, 3) := dk_180 0 130 (dk_at dksX0_judge_3 18 rfl rfl)
theorem dX0_judge_89 : decode cX0_judge 89 = .ok (.if_icmp .ge 32, 3) := dk_162 0 32 (dk_at dksX0_judge_3 21 rfl rfl)
theorem dX0_judge_92 : decode cX0_judge 92 = .ok (.lload 4, 2) := dk_22 4 (dk_at dksX0_judge_4 0 rfl rfl)
theorem dX0_judge_94 : decode cX0_judge 94 = .ok (.aload_n 0, 1) := dk_42 (dk_at dksX0_judge_4 2 rfl rfl)
theorem dX0_judge_95 : decode cX0_judge 95 = .ok (.aload_n 0, 1) := dk_42 (dk_at dksX0_judge_4 3 rfl rfl)
theorem dX0_judge_96 : decode cX0_judge 96 = .ok (.getfield 61, 3) := dk_180 0 61 (dk_at dksX0_judge_4 4 rfl rfl)
theorem dX0_judge_99 : decode cX0_judge 99 = .ok (.iload_n 1, 1) := dk_27 (dk_at dksX0_judge_4 7 rfl rfl)
theorem dX0_judge_100 : decode cX0_judge 100 = .ok (.invokevirtual 236, 3) := dk_182 0 236 (dk_at dksX0_judge_4 8 rfl rfl)
theorem dX0_judge_103 : decode cX0_judge 103 = .ok (.checkcast 1, 3) := dk_192 0 1 (dk_at dksX0_judge_4 11 rfl rfl)
theorem dX0_judge_106 : decode cX0_judge 106 = .ok (.iload 6, 2) := dk_21 6 (dk_at dksX0_judge_4 14 rfl rfl)
theorem dX0_judge_108 : decode cX0_judge 108 = .ok (.invokevirtual 266, 3) := dk_182 1 10 (dk_at dksX0_judge_4 16 rfl rfl)
theorem dX0_judge_111 : decode cX0_judge 111 = .ok (.i2l, 1) := dk_133 (dk_at dksX0_judge_4 19 rfl rfl)
theorem dX0_judge_112 : decode cX0_judge 112 = .ok (.ladd, 1) := dk_97 (dk_at dksX0_judge_4 20 rfl rfl)
theorem dX0_judge_113 : decode cX0_judge 113 = .ok (.lstore 4, 2) := dk_55 4 (dk_at dksX0_judge_4 21 rfl rfl)
theorem dX0_judge_115 : decode cX0_judge 115 = .ok (.iinc 6 1, 3) := dk_132 6 1 (dk_at dksX0_judge_5 0 rfl rfl)
theorem dX0_judge_118 : decode cX0_judge 118 = .ok (.goto (-35), 3) := dk_167 255 221 (dk_at dksX0_judge_5 3 rfl rfl)
theorem dX0_judge_121 : decode cX0_judge 121 = .ok (.lload 4, 2) := dk_22 4 (dk_at dksX0_judge_5 6 rfl rfl)
theorem dX0_judge_123 : decode cX0_judge 123 = .ok (.lreturn, 1) := dk_173 (dk_at dksX0_judge_5 8 rfl rfl)
abbrev cX0_worthAt : ByteArray := prog_1_method_32_code
def yX0_worthAt : MethodName := ⟨RX0, "worthAt", "(LMarketDays$Giving;I)I"⟩
def dkwX0_worthAt_3 : List UInt8 := [182, 1, 8, 172]
abbrev dktX0_worthAt_3 : List UInt8 := dkwX0_worthAt_3 ++ []
def dkwX0_worthAt_2 : List UInt8 := [28, 21, 5, 182, 1, 5, 182, 0, 193, 96, 62, 132, 4, 1, 132, 5, 1, 167, 255, 200, 43, 29, 21, 4]
abbrev dktX0_worthAt_2 : List UInt8 := dkwX0_worthAt_2 ++ dktX0_worthAt_3
def dkwX0_worthAt_1 : List UInt8 := [21, 5, 122, 4, 126, 154, 0, 6, 167, 0, 30, 29, 42, 28, 21, 5, 42, 28, 21, 5, 182, 1, 2, 42]
abbrev dktX0_worthAt_1 : List UInt8 := dkwX0_worthAt_1 ++ dktX0_worthAt_2
def dkwX0_worthAt_0 : List UInt8 := [3, 62, 3, 54, 4, 3, 54, 5, 21, 5, 42, 180, 0, 48, 162, 0, 53, 42, 180, 0, 68, 28, 46]
abbrev dktX0_worthAt_0 : List UInt8 := dkwX0_worthAt_0 ++ dktX0_worthAt_1
theorem dksX0_worthAt_0 : cX0_worthAt.data.toList.drop 0 = dktX0_worthAt_0 := by decide +kernel
theorem dksX0_worthAt_1 : cX0_worthAt.data.toList.drop 23 = dktX0_worthAt_1 := dk_seg dksX0_worthAt_0 23 rfl rfl
theorem dksX0_worthAt_2 : cX0_worthAt.data.toList.drop 47 = dktX0_worthAt_2 := dk_seg dksX0_worthAt_1 24 rfl rfl
theorem dksX0_worthAt_3 : cX0_worthAt.data.toList.drop 71 = dktX0_worthAt_3 := dk_seg dksX0_worthAt_2 24 rfl rfl
theorem dX0_worthAt_0 : decode cX0_worthAt 0 = .ok (.iconst 0, 1) := dk_3 (dk_at dksX0_worthAt_0 0 rfl rfl)
theorem dX0_worthAt_1 : decode cX0_worthAt 1 = .ok (.istore_n 3, 1) := dk_62 (dk_at dksX0_worthAt_0 1 rfl rfl)
theorem dX0_worthAt_2 : decode cX0_worthAt 2 = .ok (.iconst 0, 1) := dk_3 (dk_at dksX0_worthAt_0 2 rfl rfl)
theorem dX0_worthAt_3 : decode cX0_worthAt 3 = .ok (.istore 4, 2) := dk_54 4 (dk_at dksX0_worthAt_0 3 rfl rfl)
theorem dX0_worthAt_5 : decode cX0_worthAt 5 = .ok (.iconst 0, 1) := dk_3 (dk_at dksX0_worthAt_0 5 rfl rfl)
theorem dX0_worthAt_6 : decode cX0_worthAt 6 = .ok (.istore 5, 2) := dk_54 5 (dk_at dksX0_worthAt_0 6 rfl rfl)
theorem dX0_worthAt_8 : decode cX0_worthAt 8 = .ok (.iload 5, 2) := dk_21 5 (dk_at dksX0_worthAt_0 8 rfl rfl)
theorem dX0_worthAt_10 : decode cX0_worthAt 10 = .ok (.aload_n 0, 1) := dk_42 (dk_at dksX0_worthAt_0 10 rfl rfl)
theorem dX0_worthAt_11 : decode cX0_worthAt 11 = .ok (.getfield 48, 3) := dk_180 0 48 (dk_at dksX0_worthAt_0 11 rfl rfl)
theorem dX0_worthAt_14 : decode cX0_worthAt 14 = .ok (.if_icmp .ge 53, 3) := dk_162 0 53 (dk_at dksX0_worthAt_0 14 rfl rfl)
theorem dX0_worthAt_17 : decode cX0_worthAt 17 = .ok (.aload_n 0, 1) := dk_42 (dk_at dksX0_worthAt_0 17 rfl rfl)
theorem dX0_worthAt_18 : decode cX0_worthAt 18 = .ok (.getfield 68, 3) := dk_180 0 68 (dk_at dksX0_worthAt_0 18 rfl rfl)
theorem dX0_worthAt_21 : decode cX0_worthAt 21 = .ok (.iload_n 2, 1) := dk_28 (dk_at dksX0_worthAt_0 21 rfl rfl)
theorem dX0_worthAt_22 : decode cX0_worthAt 22 = .ok (.iaload, 1) := dk_46 (dk_at dksX0_worthAt_0 22 rfl rfl)
theorem dX0_worthAt_23 : decode cX0_worthAt 23 = .ok (.iload 5, 2) := dk_21 5 (dk_at dksX0_worthAt_1 0 rfl rfl)
theorem dX0_worthAt_25 : decode cX0_worthAt 25 = .ok (.ishr, 1) := dk_122 (dk_at dksX0_worthAt_1 2 rfl rfl)
theorem dX0_worthAt_26 : decode cX0_worthAt 26 = .ok (.iconst 1, 1) := dk_4 (dk_at dksX0_worthAt_1 3 rfl rfl)
theorem dX0_worthAt_27 : decode cX0_worthAt 27 = .ok (.iand, 1) := dk_126 (dk_at dksX0_worthAt_1 4 rfl rfl)
theorem dX0_worthAt_28 : decode cX0_worthAt 28 = .ok (.ifCond .ne 6, 3) := dk_154 0 6 (dk_at dksX0_worthAt_1 5 rfl rfl)
theorem dX0_worthAt_31 : decode cX0_worthAt 31 = .ok (.goto 30, 3) := dk_167 0 30 (dk_at dksX0_worthAt_1 8 rfl rfl)
theorem dX0_worthAt_34 : decode cX0_worthAt 34 = .ok (.iload_n 3, 1) := dk_29 (dk_at dksX0_worthAt_1 11 rfl rfl)
theorem dX0_worthAt_35 : decode cX0_worthAt 35 = .ok (.aload_n 0, 1) := dk_42 (dk_at dksX0_worthAt_1 12 rfl rfl)
theorem dX0_worthAt_36 : decode cX0_worthAt 36 = .ok (.iload_n 2, 1) := dk_28 (dk_at dksX0_worthAt_1 13 rfl rfl)
theorem dX0_worthAt_37 : decode cX0_worthAt 37 = .ok (.iload 5, 2) := dk_21 5 (dk_at dksX0_worthAt_1 14 rfl rfl)
theorem dX0_worthAt_39 : decode cX0_worthAt 39 = .ok (.aload_n 0, 1) := dk_42 (dk_at dksX0_worthAt_1 16 rfl rfl)
theorem dX0_worthAt_40 : decode cX0_worthAt 40 = .ok (.iload_n 2, 1) := dk_28 (dk_at dksX0_worthAt_1 17 rfl rfl)
theorem dX0_worthAt_41 : decode cX0_worthAt 41 = .ok (.iload 5, 2) := dk_21 5 (dk_at dksX0_worthAt_1 18 rfl rfl)
theorem dX0_worthAt_43 : decode cX0_worthAt 43 = .ok (.invokevirtual 258, 3) := dk_182 1 2 (dk_at dksX0_worthAt_1 20 rfl rfl)
theorem dX0_worthAt_46 : decode cX0_worthAt 46 = .ok (.aload_n 0, 1) := dk_42 (dk_at dksX0_worthAt_1 23 rfl rfl)
theorem dX0_worthAt_47 : decode cX0_worthAt 47 = .ok (.iload_n 2, 1) := dk_28 (dk_at dksX0_worthAt_2 0 rfl rfl)
theorem dX0_worthAt_48 : decode cX0_worthAt 48 = .ok (.iload 5, 2) := dk_21 5 (dk_at dksX0_worthAt_2 1 rfl rfl)
theorem dX0_worthAt_50 : decode cX0_worthAt 50 = .ok (.invokevirtual 261, 3) := dk_182 1 5 (dk_at dksX0_worthAt_2 3 rfl rfl)
theorem dX0_worthAt_53 : decode cX0_worthAt 53 = .ok (.invokevirtual 193, 3) := dk_182 0 193 (dk_at dksX0_worthAt_2 6 rfl rfl)
theorem dX0_worthAt_56 : decode cX0_worthAt 56 = .ok (.iadd, 1) := dk_96 (dk_at dksX0_worthAt_2 9 rfl rfl)
theorem dX0_worthAt_57 : decode cX0_worthAt 57 = .ok (.istore_n 3, 1) := dk_62 (dk_at dksX0_worthAt_2 10 rfl rfl)
theorem dX0_worthAt_58 : decode cX0_worthAt 58 = .ok (.iinc 4 1, 3) := dk_132 4 1 (dk_at dksX0_worthAt_2 11 rfl rfl)
theorem dX0_worthAt_61 : decode cX0_worthAt 61 = .ok (.iinc 5 1, 3) := dk_132 5 1 (dk_at dksX0_worthAt_2 14 rfl rfl)
theorem dX0_worthAt_64 : decode cX0_worthAt 64 = .ok (.goto (-56), 3) := dk_167 255 200 (dk_at dksX0_worthAt_2 17 rfl rfl)
theorem dX0_worthAt_67 : decode cX0_worthAt 67 = .ok (.aload_n 1, 1) := dk_43 (dk_at dksX0_worthAt_2 20 rfl rfl)
theorem dX0_worthAt_68 : decode cX0_worthAt 68 = .ok (.iload_n 3, 1) := dk_29 (dk_at dksX0_worthAt_2 21 rfl rfl)
theorem dX0_worthAt_69 : decode cX0_worthAt 69 = .ok (.iload 4, 2) := dk_21 4 (dk_at dksX0_worthAt_2 22 rfl rfl)
theorem dX0_worthAt_71 : decode cX0_worthAt 71 = .ok (.invokevirtual 264, 3) := dk_182 1 8 (dk_at dksX0_worthAt_3 0 rfl rfl)
theorem dX0_worthAt_74 : decode cX0_worthAt 74 = .ok (.ireturn, 1) := dk_172 (dk_at dksX0_worthAt_3 3 rfl rfl)
abbrev cX0_hoursAhead : ByteArray := prog_1_method_30_code
def yX0_hoursAhead : MethodName := ⟨RX0, "hoursAhead", "(II)I"⟩
def dkwX0_hoursAhead_3 : List UInt8 := [132, 5, 1, 167, 255, 207, 21, 4, 172]
abbrev dktX0_hoursAhead_3 : List UInt8 := dkwX0_hoursAhead_3 ++ []
def dkwX0_hoursAhead_2 : List UInt8 := [153, 0, 22, 21, 4, 42, 180, 0, 45, 16, 6, 27, 104, 21, 5, 96, 46, 184, 0, 151, 54, 4]
abbrev dktX0_hoursAhead_2 : List UInt8 := dkwX0_hoursAhead_2 ++ dktX0_hoursAhead_3
def dkwX0_hoursAhead_1 : List UInt8 := [21, 5, 42, 180, 0, 130, 162, 0, 46, 21, 5, 27, 159, 0, 34, 42, 180, 0, 68, 21, 5, 46, 29, 126]
abbrev dktX0_hoursAhead_1 : List UInt8 := dkwX0_hoursAhead_1 ++ dktX0_hoursAhead_2
def dkwX0_hoursAhead_0 : List UInt8 := [4, 28, 42, 180, 0, 48, 96, 4, 100, 42, 180, 0, 48, 112, 120, 62, 16, 99, 54, 4, 3, 54, 5]
abbrev dktX0_hoursAhead_0 : List UInt8 := dkwX0_hoursAhead_0 ++ dktX0_hoursAhead_1
theorem dksX0_hoursAhead_0 : cX0_hoursAhead.data.toList.drop 0 = dktX0_hoursAhead_0 := by decide +kernel
theorem dksX0_hoursAhead_1 : cX0_hoursAhead.data.toList.drop 23 = dktX0_hoursAhead_1 := dk_seg dksX0_hoursAhead_0 23 rfl rfl
theorem dksX0_hoursAhead_2 : cX0_hoursAhead.data.toList.drop 47 = dktX0_hoursAhead_2 := dk_seg dksX0_hoursAhead_1 24 rfl rfl
theorem dksX0_hoursAhead_3 : cX0_hoursAhead.data.toList.drop 69 = dktX0_hoursAhead_3 := dk_seg dksX0_hoursAhead_2 22 rfl rfl
theorem dX0_hoursAhead_0 : decode cX0_hoursAhead 0 = .ok (.iconst 1, 1) := dk_4 (dk_at dksX0_hoursAhead_0 0 rfl rfl)
theorem dX0_hoursAhead_1 : decode cX0_hoursAhead 1 = .ok (.iload_n 2, 1) := dk_28 (dk_at dksX0_hoursAhead_0 1 rfl rfl)
theorem dX0_hoursAhead_2 : decode cX0_hoursAhead 2 = .ok (.aload_n 0, 1) := dk_42 (dk_at dksX0_hoursAhead_0 2 rfl rfl)
theorem dX0_hoursAhead_3 : decode cX0_hoursAhead 3 = .ok (.getfield 48, 3) := dk_180 0 48 (dk_at dksX0_hoursAhead_0 3 rfl rfl)
theorem dX0_hoursAhead_6 : decode cX0_hoursAhead 6 = .ok (.iadd, 1) := dk_96 (dk_at dksX0_hoursAhead_0 6 rfl rfl)
theorem dX0_hoursAhead_7 : decode cX0_hoursAhead 7 = .ok (.iconst 1, 1) := dk_4 (dk_at dksX0_hoursAhead_0 7 rfl rfl)
theorem dX0_hoursAhead_8 : decode cX0_hoursAhead 8 = .ok (.isub, 1) := dk_100 (dk_at dksX0_hoursAhead_0 8 rfl rfl)
theorem dX0_hoursAhead_9 : decode cX0_hoursAhead 9 = .ok (.aload_n 0, 1) := dk_42 (dk_at dksX0_hoursAhead_0 9 rfl rfl)
theorem dX0_hoursAhead_10 : decode cX0_hoursAhead 10 = .ok (.getfield 48, 3) := dk_180 0 48 (dk_at dksX0_hoursAhead_0 10 rfl rfl)
theorem dX0_hoursAhead_13 : decode cX0_hoursAhead 13 = .ok (.irem, 1) := dk_112 (dk_at dksX0_hoursAhead_0 13 rfl rfl)
theorem dX0_hoursAhead_14 : decode cX0_hoursAhead 14 = .ok (.ishl, 1) := dk_120 (dk_at dksX0_hoursAhead_0 14 rfl rfl)
theorem dX0_hoursAhead_15 : decode cX0_hoursAhead 15 = .ok (.istore_n 3, 1) := dk_62 (dk_at dksX0_hoursAhead_0 15 rfl rfl)
theorem dX0_hoursAhead_16 : decode cX0_hoursAhead 16 = .ok (.bipush 99, 2) := dk_16 99 (dk_at dksX0_hoursAhead_0 16 rfl rfl)
theorem dX0_hoursAhead_18 : decode cX0_hoursAhead 18 = .ok (.istore 4, 2) := dk_54 4 (dk_at dksX0_hoursAhead_0 18 rfl rfl)
theorem dX0_hoursAhead_20 : decode cX0_hoursAhead 20 = .ok (.iconst 0, 1) := dk_3 (dk_at dksX0_hoursAhead_0 20 rfl rfl)
theorem dX0_hoursAhead_21 : decode cX0_hoursAhead 21 = .ok (.istore 5, 2) := dk_54 5 (dk_at dksX0_hoursAhead_0 21 rfl rfl)
theorem dX0_hoursAhead_23 : decode cX0_hoursAhead 23 = .ok (.iload 5, 2) := dk_21 5 (dk_at dksX0_hoursAhead_1 0 rfl rfl)
theorem dX0_hoursAhead_25 : decode cX0_hoursAhead 25 = .ok (.aload_n 0, 1) := dk_42 (dk_at dksX0_hoursAhead_1 2 rfl rfl)
theorem dX0_hoursAhead_26 : decode cX0_hoursAhead 26 = .ok (.getfield 130, 3) := dk_180 0 130 (dk_at dksX0_hoursAhead_1 3 rfl rfl)
theorem dX0_hoursAhead_29 : decode cX0_hoursAhead 29 = .ok (.if_icmp .ge 46, 3) := dk_162 0 46 (dk_at dksX0_hoursAhead_1 6 rfl rfl)
theorem dX0_hoursAhead_32 : decode cX0_hoursAhead 32 = .ok (.iload 5, 2) := dk_21 5 (dk_at dksX0_hoursAhead_1 9 rfl rfl)
theorem dX0_hoursAhead_34 : decode cX0_hoursAhead 34 = .ok (.iload_n 1, 1) := dk_27 (dk_at dksX0_hoursAhead_1 11 rfl rfl)
theorem dX0_hoursAhead_35 : decode cX0_hoursAhead 35 = .ok (.if_icmp .eq 34, 3) := dk_159 0 34 (dk_at dksX0_hoursAhead_1 12 rfl rfl)
theorem dX0_hoursAhead_38 : decode cX0_hoursAhead 38 = .ok (.aload_n 0, 1) := dk_42 (dk_at dksX0_hoursAhead_1 15 rfl rfl)
theorem dX0_hoursAhead_39 : decode cX0_hoursAhead 39 = .ok (.getfield 68, 3) := dk_180 0 68 (dk_at dksX0_hoursAhead_1 16 rfl rfl)
theorem dX0_hoursAhead_42 : decode cX0_hoursAhead 42 = .ok (.iload 5, 2) := dk_21 5 (dk_at dksX0_hoursAhead_1 19 rfl rfl)
theorem dX0_hoursAhead_44 : decode cX0_hoursAhead 44 = .ok (.iaload, 1) := dk_46 (dk_at dksX0_hoursAhead_1 21 rfl rfl)
theorem dX0_hoursAhead_45 : decode cX0_hoursAhead 45 = .ok (.iload_n 3, 1) := dk_29 (dk_at dksX0_hoursAhead_1 22 rfl rfl)
theorem dX0_hoursAhead_46 : decode cX0_hoursAhead 46 = .ok (.iand, 1) := dk_126 (dk_at dksX0_hoursAhead_1 23 rfl rfl)
theorem dX0_hoursAhead_47 : decode cX0_hoursAhead 47 = .ok (.ifCond .eq 22, 3) := dk_153 0 22 (dk_at dksX0_hoursAhead_2 0 rfl rfl)
theorem dX0_hoursAhead_50 : decode cX0_hoursAhead 50 = .ok (.iload 4, 2) := dk_21 4 (dk_at dksX0_hoursAhead_2 3 rfl rfl)
theorem dX0_hoursAhead_52 : decode cX0_hoursAhead 52 = .ok (.aload_n 0, 1) := dk_42 (dk_at dksX0_hoursAhead_2 5 rfl rfl)
theorem dX0_hoursAhead_53 : decode cX0_hoursAhead 53 = .ok (.getfield 45, 3) := dk_180 0 45 (dk_at dksX0_hoursAhead_2 6 rfl rfl)
theorem dX0_hoursAhead_56 : decode cX0_hoursAhead 56 = .ok (.bipush 6, 2) := dk_16 6 (dk_at dksX0_hoursAhead_2 9 rfl rfl)
theorem dX0_hoursAhead_58 : decode cX0_hoursAhead 58 = .ok (.iload_n 1, 1) := dk_27 (dk_at dksX0_hoursAhead_2 11 rfl rfl)
theorem dX0_hoursAhead_59 : decode cX0_hoursAhead 59 = .ok (.imul, 1) := dk_104 (dk_at dksX0_hoursAhead_2 12 rfl rfl)
theorem dX0_hoursAhead_60 : decode cX0_hoursAhead 60 = .ok (.iload 5, 2) := dk_21 5 (dk_at dksX0_hoursAhead_2 13 rfl rfl)
theorem dX0_hoursAhead_62 : decode cX0_hoursAhead 62 = .ok (.iadd, 1) := dk_96 (dk_at dksX0_hoursAhead_2 15 rfl rfl)
theorem dX0_hoursAhead_63 : decode cX0_hoursAhead 63 = .ok (.iaload, 1) := dk_46 (dk_at dksX0_hoursAhead_2 16 rfl rfl)
theorem dX0_hoursAhead_64 : decode cX0_hoursAhead 64 = .ok (.invokestatic 151, 3) := dk_184 0 151 (dk_at dksX0_hoursAhead_2 17 rfl rfl)
theorem dX0_hoursAhead_67 : decode cX0_hoursAhead 67 = .ok (.istore 4, 2) := dk_54 4 (dk_at dksX0_hoursAhead_2 20 rfl rfl)
theorem dX0_hoursAhead_69 : decode cX0_hoursAhead 69 = .ok (.iinc 5 1, 3) := dk_132 5 1 (dk_at dksX0_hoursAhead_3 0 rfl rfl)
theorem dX0_hoursAhead_72 : decode cX0_hoursAhead 72 = .ok (.goto (-49), 3) := dk_167 255 207 (dk_at dksX0_hoursAhead_3 3 rfl rfl)
theorem dX0_hoursAhead_75 : decode cX0_hoursAhead 75 = .ok (.iload 4, 2) := dk_21 4 (dk_at dksX0_hoursAhead_3 6 rfl rfl)
theorem dX0_hoursAhead_77 : decode cX0_hoursAhead 77 = .ok (.ireturn, 1) := dk_172 (dk_at dksX0_hoursAhead_3 8 rfl rfl)
abbrev cX0_others : ByteArray := prog_1_method_31_code
def yX0_others : MethodName := ⟨RX0, "others", "(II)I"⟩
def dkwX0_others_1 : List UInt8 := [21, 4, 46, 28, 122, 4, 126, 4, 160, 0, 6, 132, 3, 1, 132, 4, 1, 167, 255, 220, 29, 172]
abbrev dktX0_others_1 : List UInt8 := dkwX0_others_1 ++ []
def dkwX0_others_0 : List UInt8 := [3, 62, 3, 54, 4, 21, 4, 42, 180, 0, 130, 162, 0, 33, 21, 4, 27, 159, 0, 21, 42, 180, 0, 68]
abbrev dktX0_others_0 : List UInt8 := dkwX0_others_0 ++ dktX0_others_1
theorem dksX0_others_0 : cX0_others.data.toList.drop 0 = dktX0_others_0 := by decide +kernel
theorem dksX0_others_1 : cX0_others.data.toList.drop 24 = dktX0_others_1 := dk_seg dksX0_others_0 24 rfl rfl
theorem dX0_others_0 : decode cX0_others 0 = .ok (.iconst 0, 1) := dk_3 (dk_at dksX0_others_0 0 rfl rfl)
theorem dX0_others_1 : decode cX0_others 1 = .ok (.istore_n 3, 1) := dk_62 (dk_at dksX0_others_0 1 rfl rfl)
theorem dX0_others_2 : decode cX0_others 2 = .ok (.iconst 0, 1) := dk_3 (dk_at dksX0_others_0 2 rfl rfl)
theorem dX0_others_3 : decode cX0_others 3 = .ok (.istore 4, 2) := dk_54 4 (dk_at dksX0_others_0 3 rfl rfl)
theorem dX0_others_5 : decode cX0_others 5 = .ok (.iload 4, 2) := dk_21 4 (dk_at dksX0_others_0 5 rfl rfl)
theorem dX0_others_7 : decode cX0_others 7 = .ok (.aload_n 0, 1) := dk_42 (dk_at dksX0_others_0 7 rfl rfl)
theorem dX0_others_8 : decode cX0_others 8 = .ok (.getfield 130, 3) := dk_180 0 130 (dk_at dksX0_others_0 8 rfl rfl)
theorem dX0_others_11 : decode cX0_others 11 = .ok (.if_icmp .ge 33, 3) := dk_162 0 33 (dk_at dksX0_others_0 11 rfl rfl)
theorem dX0_others_14 : decode cX0_others 14 = .ok (.iload 4, 2) := dk_21 4 (dk_at dksX0_others_0 14 rfl rfl)
theorem dX0_others_16 : decode cX0_others 16 = .ok (.iload_n 1, 1) := dk_27 (dk_at dksX0_others_0 16 rfl rfl)
theorem dX0_others_17 : decode cX0_others 17 = .ok (.if_icmp .eq 21, 3) := dk_159 0 21 (dk_at dksX0_others_0 17 rfl rfl)
theorem dX0_others_20 : decode cX0_others 20 = .ok (.aload_n 0, 1) := dk_42 (dk_at dksX0_others_0 20 rfl rfl)
theorem dX0_others_21 : decode cX0_others 21 = .ok (.getfield 68, 3) := dk_180 0 68 (dk_at dksX0_others_0 21 rfl rfl)
theorem dX0_others_24 : decode cX0_others 24 = .ok (.iload 4, 2) := dk_21 4 (dk_at dksX0_others_1 0 rfl rfl)
theorem dX0_others_26 : decode cX0_others 26 = .ok (.iaload, 1) := dk_46 (dk_at dksX0_others_1 2 rfl rfl)
theorem dX0_others_27 : decode cX0_others 27 = .ok (.iload_n 2, 1) := dk_28 (dk_at dksX0_others_1 3 rfl rfl)
theorem dX0_others_28 : decode cX0_others 28 = .ok (.ishr, 1) := dk_122 (dk_at dksX0_others_1 4 rfl rfl)
theorem dX0_others_29 : decode cX0_others 29 = .ok (.iconst 1, 1) := dk_4 (dk_at dksX0_others_1 5 rfl rfl)
theorem dX0_others_30 : decode cX0_others 30 = .ok (.iand, 1) := dk_126 (dk_at dksX0_others_1 6 rfl rfl)
theorem dX0_others_31 : decode cX0_others 31 = .ok (.iconst 1, 1) := dk_4 (dk_at dksX0_others_1 7 rfl rfl)
theorem dX0_others_32 : decode cX0_others 32 = .ok (.if_icmp .ne 6, 3) := dk_160 0 6 (dk_at dksX0_others_1 8 rfl rfl)
theorem dX0_others_35 : decode cX0_others 35 = .ok (.iinc 3 1, 3) := dk_132 3 1 (dk_at dksX0_others_1 11 rfl rfl)
theorem dX0_others_38 : decode cX0_others 38 = .ok (.iinc 4 1, 3) := dk_132 4 1 (dk_at dksX0_others_1 14 rfl rfl)
theorem dX0_others_41 : decode cX0_others 41 = .ok (.goto (-36), 3) := dk_167 255 220 (dk_at dksX0_others_1 17 rfl rfl)
theorem dX0_others_44 : decode cX0_others 44 = .ok (.iload_n 3, 1) := dk_29 (dk_at dksX0_others_1 20 rfl rfl)
theorem dX0_others_45 : decode cX0_others 45 = .ok (.ireturn, 1) := dk_172 (dk_at dksX0_others_1 21 rfl rfl)
abbrev cX0_can : ByteArray := prog_1_method_42_code
def yX0_can : MethodName := ⟨RX0, "can", "()I"⟩
def dkwX0_can_0 : List UInt8 := [42, 42, 182, 1, 70, 3, 182, 1, 73, 42, 180, 1, 26, 172]
abbrev dktX0_can_0 : List UInt8 := dkwX0_can_0 ++ []
theorem dksX0_can_0 : cX0_can.data.toList.drop 0 = dktX0_can_0 := by decide +kernel
theorem dX0_can_0 : decode cX0_can 0 = .ok (.aload_n 0, 1) := dk_42 (dk_at dksX0_can_0 0 rfl rfl)
theorem dX0_can_1 : decode cX0_can 1 = .ok (.aload_n 0, 1) := dk_42 (dk_at dksX0_can_0 1 rfl rfl)
theorem dX0_can_2 : decode cX0_can 2 = .ok (.invokevirtual 326, 3) := dk_182 1 70 (dk_at dksX0_can_0 2 rfl rfl)
theorem dX0_can_5 : decode cX0_can 5 = .ok (.iconst 0, 1) := dk_3 (dk_at dksX0_can_0 5 rfl rfl)
theorem dX0_can_6 : decode cX0_can 6 = .ok (.invokevirtual 329, 3) := dk_182 1 73 (dk_at dksX0_can_0 6 rfl rfl)
theorem dX0_can_9 : decode cX0_can 9 = .ok (.aload_n 0, 1) := dk_42 (dk_at dksX0_can_0 9 rfl rfl)
theorem dX0_can_10 : decode cX0_can 10 = .ok (.getfield 282, 3) := dk_180 1 26 (dk_at dksX0_can_0 10 rfl rfl)
theorem dX0_can_13 : decode cX0_can 13 = .ok (.ireturn, 1) := dk_172 (dk_at dksX0_can_0 13 rfl rfl)
abbrev cX0_all : ByteArray := prog_1_method_41_code
def yX0_all : MethodName := ⟨RX0, "all", "()I"⟩
def dkwX0_all_0 : List UInt8 := [4, 42, 180, 0, 130, 120, 4, 100, 172]
abbrev dktX0_all_0 : List UInt8 := dkwX0_all_0 ++ []
theorem dksX0_all_0 : cX0_all.data.toList.drop 0 = dktX0_all_0 := by decide +kernel
theorem dX0_all_0 : decode cX0_all 0 = .ok (.iconst 1, 1) := dk_4 (dk_at dksX0_all_0 0 rfl rfl)
theorem dX0_all_1 : decode cX0_all 1 = .ok (.aload_n 0, 1) := dk_42 (dk_at dksX0_all_0 1 rfl rfl)
theorem dX0_all_2 : decode cX0_all 2 = .ok (.getfield 130, 3) := dk_180 0 130 (dk_at dksX0_all_0 2 rfl rfl)
theorem dX0_all_5 : decode cX0_all 5 = .ok (.ishl, 1) := dk_120 (dk_at dksX0_all_0 5 rfl rfl)
theorem dX0_all_6 : decode cX0_all 6 = .ok (.iconst 1, 1) := dk_4 (dk_at dksX0_all_0 6 rfl rfl)
theorem dX0_all_7 : decode cX0_all 7 = .ok (.isub, 1) := dk_100 (dk_at dksX0_all_0 7 rfl rfl)
theorem dX0_all_8 : decode cX0_all 8 = .ok (.ireturn, 1) := dk_172 (dk_at dksX0_all_0 8 rfl rfl)
abbrev cX0_search : ByteArray := prog_1_method_40_code
def yX0_search : MethodName := ⟨RX0, "search", "(II)V"⟩
def dkwX0_search_2 : List UInt8 := [62, 29, 154, 0, 11, 42, 180, 0, 68, 3, 184, 1, 61, 177]
abbrev dktX0_search_2 : List UInt8 := dkwX0_search_2 ++ []
def dkwX0_search_1 : List UInt8 := [181, 1, 43, 42, 180, 0, 68, 3, 184, 1, 61, 42, 180, 0, 71, 3, 184, 1, 67, 42, 3, 182, 1, 20]
abbrev dktX0_search_1 : List UInt8 := dkwX0_search_1 ++ dktX0_search_2
def dkwX0_search_0 : List UInt8 := [42, 27, 181, 1, 14, 42, 28, 181, 1, 29, 42, 3, 181, 1, 26, 42, 3, 181, 1, 40, 42, 9]
abbrev dktX0_search_0 : List UInt8 := dkwX0_search_0 ++ dktX0_search_1
theorem dksX0_search_0 : cX0_search.data.toList.drop 0 = dktX0_search_0 := by decide +kernel
theorem dksX0_search_1 : cX0_search.data.toList.drop 22 = dktX0_search_1 := dk_seg dksX0_search_0 22 rfl rfl
theorem dksX0_search_2 : cX0_search.data.toList.drop 46 = dktX0_search_2 := dk_seg dksX0_search_1 24 rfl rfl
theorem dX0_search_0 : decode cX0_search 0 = .ok (.aload_n 0, 1) := dk_42 (dk_at dksX0_search_0 0 rfl rfl)
theorem dX0_search_1 : decode cX0_search 1 = .ok (.iload_n 1, 1) := dk_27 (dk_at dksX0_search_0 1 rfl rfl)
theorem dX0_search_2 : decode cX0_search 2 = .ok (.putfield 270, 3) := dk_181 1 14 (dk_at dksX0_search_0 2 rfl rfl)
theorem dX0_search_5 : decode cX0_search 5 = .ok (.aload_n 0, 1) := dk_42 (dk_at dksX0_search_0 5 rfl rfl)
theorem dX0_search_6 : decode cX0_search 6 = .ok (.iload_n 2, 1) := dk_28 (dk_at dksX0_search_0 6 rfl rfl)
theorem dX0_search_7 : decode cX0_search 7 = .ok (.putfield 285, 3) := dk_181 1 29 (dk_at dksX0_search_0 7 rfl rfl)
theorem dX0_search_10 : decode cX0_search 10 = .ok (.aload_n 0, 1) := dk_42 (dk_at dksX0_search_0 10 rfl rfl)
theorem dX0_search_11 : decode cX0_search 11 = .ok (.iconst 0, 1) := dk_3 (dk_at dksX0_search_0 11 rfl rfl)
theorem dX0_search_12 : decode cX0_search 12 = .ok (.putfield 282, 3) := dk_181 1 26 (dk_at dksX0_search_0 12 rfl rfl)
theorem dX0_search_15 : decode cX0_search 15 = .ok (.aload_n 0, 1) := dk_42 (dk_at dksX0_search_0 15 rfl rfl)
theorem dX0_search_16 : decode cX0_search 16 = .ok (.iconst 0, 1) := dk_3 (dk_at dksX0_search_0 16 rfl rfl)
theorem dX0_search_17 : decode cX0_search 17 = .ok (.putfield 296, 3) := dk_181 1 40 (dk_at dksX0_search_0 17 rfl rfl)
theorem dX0_search_20 : decode cX0_search 20 = .ok (.aload_n 0, 1) := dk_42 (dk_at dksX0_search_0 20 rfl rfl)
theorem dX0_search_21 : decode cX0_search 21 = .ok (.lconst 0, 1) := dk_9 (dk_at dksX0_search_0 21 rfl rfl)
theorem dX0_search_22 : decode cX0_search 22 = .ok (.putfield 299, 3) := dk_181 1 43 (dk_at dksX0_search_1 0 rfl rfl)
theorem dX0_search_25 : decode cX0_search 25 = .ok (.aload_n 0, 1) := dk_42 (dk_at dksX0_search_1 3 rfl rfl)
theorem dX0_search_26 : decode cX0_search 26 = .ok (.getfield 68, 3) := dk_180 0 68 (dk_at dksX0_search_1 4 rfl rfl)
theorem dX0_search_29 : decode cX0_search 29 = .ok (.iconst 0, 1) := dk_3 (dk_at dksX0_search_1 7 rfl rfl)
theorem dX0_search_30 : decode cX0_search 30 = .ok (.invokestatic 317, 3) := dk_184 1 61 (dk_at dksX0_search_1 8 rfl rfl)
theorem dX0_search_33 : decode cX0_search 33 = .ok (.aload_n 0, 1) := dk_42 (dk_at dksX0_search_1 11 rfl rfl)
theorem dX0_search_34 : decode cX0_search 34 = .ok (.getfield 71, 3) := dk_180 0 71 (dk_at dksX0_search_1 12 rfl rfl)
theorem dX0_search_37 : decode cX0_search 37 = .ok (.iconst 0, 1) := dk_3 (dk_at dksX0_search_1 15 rfl rfl)
theorem dX0_search_38 : decode cX0_search 38 = .ok (.invokestatic 323, 3) := dk_184 1 67 (dk_at dksX0_search_1 16 rfl rfl)
theorem dX0_search_41 : decode cX0_search 41 = .ok (.aload_n 0, 1) := dk_42 (dk_at dksX0_search_1 19 rfl rfl)
theorem dX0_search_42 : decode cX0_search 42 = .ok (.iconst 0, 1) := dk_3 (dk_at dksX0_search_1 20 rfl rfl)
theorem dX0_search_43 : decode cX0_search 43 = .ok (.invokevirtual 276, 3) := dk_182 1 20 (dk_at dksX0_search_1 21 rfl rfl)
theorem dX0_search_46 : decode cX0_search 46 = .ok (.istore_n 3, 1) := dk_62 (dk_at dksX0_search_2 0 rfl rfl)
theorem dX0_search_47 : decode cX0_search 47 = .ok (.iload_n 3, 1) := dk_29 (dk_at dksX0_search_2 1 rfl rfl)
theorem dX0_search_48 : decode cX0_search 48 = .ok (.ifCond .ne 11, 3) := dk_154 0 11 (dk_at dksX0_search_2 2 rfl rfl)
theorem dX0_search_51 : decode cX0_search 51 = .ok (.aload_n 0, 1) := dk_42 (dk_at dksX0_search_2 5 rfl rfl)
theorem dX0_search_52 : decode cX0_search 52 = .ok (.getfield 68, 3) := dk_180 0 68 (dk_at dksX0_search_2 6 rfl rfl)
theorem dX0_search_55 : decode cX0_search 55 = .ok (.iconst 0, 1) := dk_3 (dk_at dksX0_search_2 9 rfl rfl)
theorem dX0_search_56 : decode cX0_search 56 = .ok (.invokestatic 317, 3) := dk_184 1 61 (dk_at dksX0_search_2 10 rfl rfl)
theorem dX0_search_59 : decode cX0_search 59 = .ok (.return_, 1) := dk_177 (dk_at dksX0_search_2 13 rfl rfl)
abbrev cX0_walks : ByteArray := prog_1_method_35_code
def yX0_walks : MethodName := ⟨RX0, "walks", "(I)Z"⟩
def dkwX0_walks_3 : List UInt8 := [182, 1, 20, 153, 0, 5, 4, 172, 132, 2, 1, 167, 255, 208, 42, 180, 0, 68, 27, 3, 79, 3, 172]
abbrev dktX0_walks_3 : List UInt8 := dkwX0_walks_3 ++ []
def dkwX0_walks_2 : List UInt8 := [28, 120, 79, 42, 180, 0, 71, 27, 28, 145, 84, 42, 27, 182, 1, 23, 154, 0, 15, 42, 27, 4, 96]
abbrev dktX0_walks_2 : List UInt8 := dkwX0_walks_2 ++ dktX0_walks_3
def dkwX0_walks_1 : List UInt8 := [42, 27, 4, 96, 182, 1, 20, 172, 3, 61, 28, 42, 180, 0, 48, 162, 0, 46, 42, 180, 0, 68, 27, 4]
abbrev dktX0_walks_1 : List UInt8 := dkwX0_walks_1 ++ dktX0_walks_2
def dkwX0_walks_0 : List UInt8 := [27, 42, 180, 0, 130, 160, 0, 8, 42, 182, 1, 17, 172, 42, 180, 1, 14, 27, 122, 4, 126, 154, 0, 11]
abbrev dktX0_walks_0 : List UInt8 := dkwX0_walks_0 ++ dktX0_walks_1
theorem dksX0_walks_0 : cX0_walks.data.toList.drop 0 = dktX0_walks_0 := by decide +kernel
theorem dksX0_walks_1 : cX0_walks.data.toList.drop 24 = dktX0_walks_1 := dk_seg dksX0_walks_0 24 rfl rfl
theorem dksX0_walks_2 : cX0_walks.data.toList.drop 48 = dktX0_walks_2 := dk_seg dksX0_walks_1 24 rfl rfl
theorem dksX0_walks_3 : cX0_walks.data.toList.drop 71 = dktX0_walks_3 := dk_seg dksX0_walks_2 23 rfl rfl
theorem dX0_walks_0 : decode cX0_walks 0 = .ok (.iload_n 1, 1) := dk_27 (dk_at dksX0_walks_0 0 rfl rfl)
theorem dX0_walks_1 : decode cX0_walks 1 = .ok (.aload_n 0, 1) := dk_42 (dk_at dksX0_walks_0 1 rfl rfl)
theorem dX0_walks_2 : decode cX0_walks 2 = .ok (.getfield 130, 3) := dk_180 0 130 (dk_at dksX0_walks_0 2 rfl rfl)
theorem dX0_walks_5 : decode cX0_walks 5 = .ok (.if_icmp .ne 8, 3) := dk_160 0 8 (dk_at dksX0_walks_0 5 rfl rfl)
theorem dX0_walks_8 : decode cX0_walks 8 = .ok (.aload_n 0, 1) := dk_42 (dk_at dksX0_walks_0 8 rfl rfl)
theorem dX0_walks_9 : decode cX0_walks 9 = .ok (.invokevirtual 273, 3) := dk_182 1 17 (dk_at dksX0_walks_0 9 rfl rfl)
theorem dX0_walks_12 : decode cX0_walks 12 = .ok (.ireturn, 1) := dk_172 (dk_at dksX0_walks_0 12 rfl rfl)
theorem dX0_walks_13 : decode cX0_walks 13 = .ok (.aload_n 0, 1) := dk_42 (dk_at dksX0_walks_0 13 rfl rfl)
theorem dX0_walks_14 : decode cX0_walks 14 = .ok (.getfield 270, 3) := dk_180 1 14 (dk_at dksX0_walks_0 14 rfl rfl)
theorem dX0_walks_17 : decode cX0_walks 17 = .ok (.iload_n 1, 1) := dk_27 (dk_at dksX0_walks_0 17 rfl rfl)
theorem dX0_walks_18 : decode cX0_walks 18 = .ok (.ishr, 1) := dk_122 (dk_at dksX0_walks_0 18 rfl rfl)
theorem dX0_walks_19 : decode cX0_walks 19 = .ok (.iconst 1, 1) := dk_4 (dk_at dksX0_walks_0 19 rfl rfl)
theorem dX0_walks_20 : decode cX0_walks 20 = .ok (.iand, 1) := dk_126 (dk_at dksX0_walks_0 20 rfl rfl)
theorem dX0_walks_21 : decode cX0_walks 21 = .ok (.ifCond .ne 11, 3) := dk_154 0 11 (dk_at dksX0_walks_0 21 rfl rfl)
theorem dX0_walks_24 : decode cX0_walks 24 = .ok (.aload_n 0, 1) := dk_42 (dk_at dksX0_walks_1 0 rfl rfl)
theorem dX0_walks_25 : decode cX0_walks 25 = .ok (.iload_n 1, 1) := dk_27 (dk_at dksX0_walks_1 1 rfl rfl)
theorem dX0_walks_26 : decode cX0_walks 26 = .ok (.iconst 1, 1) := dk_4 (dk_at dksX0_walks_1 2 rfl rfl)
theorem dX0_walks_27 : decode cX0_walks 27 = .ok (.iadd, 1) := dk_96 (dk_at dksX0_walks_1 3 rfl rfl)
theorem dX0_walks_28 : decode cX0_walks 28 = .ok (.invokevirtual 276, 3) := dk_182 1 20 (dk_at dksX0_walks_1 4 rfl rfl)
theorem dX0_walks_31 : decode cX0_walks 31 = .ok (.ireturn, 1) := dk_172 (dk_at dksX0_walks_1 7 rfl rfl)
theorem dX0_walks_32 : decode cX0_walks 32 = .ok (.iconst 0, 1) := dk_3 (dk_at dksX0_walks_1 8 rfl rfl)
theorem dX0_walks_33 : decode cX0_walks 33 = .ok (.istore_n 2, 1) := dk_61 (dk_at dksX0_walks_1 9 rfl rfl)
theorem dX0_walks_34 : decode cX0_walks 34 = .ok (.iload_n 2, 1) := dk_28 (dk_at dksX0_walks_1 10 rfl rfl)
theorem dX0_walks_35 : decode cX0_walks 35 = .ok (.aload_n 0, 1) := dk_42 (dk_at dksX0_walks_1 11 rfl rfl)
theorem dX0_walks_36 : decode cX0_walks 36 = .ok (.getfield 48, 3) := dk_180 0 48 (dk_at dksX0_walks_1 12 rfl rfl)
theorem dX0_walks_39 : decode cX0_walks 39 = .ok (.if_icmp .ge 46, 3) := dk_162 0 46 (dk_at dksX0_walks_1 15 rfl rfl)
theorem dX0_walks_42 : decode cX0_walks 42 = .ok (.aload_n 0, 1) := dk_42 (dk_at dksX0_walks_1 18 rfl rfl)
theorem dX0_walks_43 : decode cX0_walks 43 = .ok (.getfield 68, 3) := dk_180 0 68 (dk_at dksX0_walks_1 19 rfl rfl)
theorem dX0_walks_46 : decode cX0_walks 46 = .ok (.iload_n 1, 1) := dk_27 (dk_at dksX0_walks_1 22 rfl rfl)
theorem dX0_walks_47 : decode cX0_walks 47 = .ok (.iconst 1, 1) := dk_4 (dk_at dksX0_walks_1 23 rfl rfl)
theorem dX0_walks_48 : decode cX0_walks 48 = .ok (.iload_n 2, 1) := dk_28 (dk_at dksX0_walks_2 0 rfl rfl)
theorem dX0_walks_49 : decode cX0_walks 49 = .ok (.ishl, 1) := dk_120 (dk_at dksX0_walks_2 1 rfl rfl)
theorem dX0_walks_50 : decode cX0_walks 50 = .ok (.iastore, 1) := dk_79 (dk_at dksX0_walks_2 2 rfl rfl)
theorem dX0_walks_51 : decode cX0_walks 51 = .ok (.aload_n 0, 1) := dk_42 (dk_at dksX0_walks_2 3 rfl rfl)
theorem dX0_walks_52 : decode cX0_walks 52 = .ok (.getfield 71, 3) := dk_180 0 71 (dk_at dksX0_walks_2 4 rfl rfl)
theorem dX0_walks_55 : decode cX0_walks 55 = .ok (.iload_n 1, 1) := dk_27 (dk_at dksX0_walks_2 7 rfl rfl)
theorem dX0_walks_56 : decode cX0_walks 56 = .ok (.iload_n 2, 1) := dk_28 (dk_at dksX0_walks_2 8 rfl rfl)
theorem dX0_walks_57 : decode cX0_walks 57 = .ok (.i2b, 1) := dk_145 (dk_at dksX0_walks_2 9 rfl rfl)
theorem dX0_walks_58 : decode cX0_walks 58 = .ok (.bastore, 1) := dk_84 (dk_at dksX0_walks_2 10 rfl rfl)
theorem dX0_walks_59 : decode cX0_walks 59 = .ok (.aload_n 0, 1) := dk_42 (dk_at dksX0_walks_2 11 rfl rfl)
theorem dX0_walks_60 : decode cX0_walks 60 = .ok (.iload_n 1, 1) := dk_27 (dk_at dksX0_walks_2 12 rfl rfl)
theorem dX0_walks_61 : decode cX0_walks 61 = .ok (.invokevirtual 279, 3) := dk_182 1 23 (dk_at dksX0_walks_2 13 rfl rfl)
theorem dX0_walks_64 : decode cX0_walks 64 = .ok (.ifCond .ne 15, 3) := dk_154 0 15 (dk_at dksX0_walks_2 16 rfl rfl)
theorem dX0_walks_67 : decode cX0_walks 67 = .ok (.aload_n 0, 1) := dk_42 (dk_at dksX0_walks_2 19 rfl rfl)
theorem dX0_walks_68 : decode cX0_walks 68 = .ok (.iload_n 1, 1) := dk_27 (dk_at dksX0_walks_2 20 rfl rfl)
theorem dX0_walks_69 : decode cX0_walks 69 = .ok (.iconst 1, 1) := dk_4 (dk_at dksX0_walks_2 21 rfl rfl)
theorem dX0_walks_70 : decode cX0_walks 70 = .ok (.iadd, 1) := dk_96 (dk_at dksX0_walks_2 22 rfl rfl)
theorem dX0_walks_71 : decode cX0_walks 71 = .ok (.invokevirtual 276, 3) := dk_182 1 20 (dk_at dksX0_walks_3 0 rfl rfl)
theorem dX0_walks_74 : decode cX0_walks 74 = .ok (.ifCond .eq 5, 3) := dk_153 0 5 (dk_at dksX0_walks_3 3 rfl rfl)
theorem dX0_walks_77 : decode cX0_walks 77 = .ok (.iconst 1, 1) := dk_4 (dk_at dksX0_walks_3 6 rfl rfl)
theorem dX0_walks_78 : decode cX0_walks 78 = .ok (.ireturn, 1) := dk_172 (dk_at dksX0_walks_3 7 rfl rfl)
theorem dX0_walks_79 : decode cX0_walks 79 = .ok (.iinc 2 1, 3) := dk_132 2 1 (dk_at dksX0_walks_3 8 rfl rfl)
theorem dX0_walks_82 : decode cX0_walks 82 = .ok (.goto (-48), 3) := dk_167 255 208 (dk_at dksX0_walks_3 11 rfl rfl)
theorem dX0_walks_85 : decode cX0_walks 85 = .ok (.aload_n 0, 1) := dk_42 (dk_at dksX0_walks_3 14 rfl rfl)
theorem dX0_walks_86 : decode cX0_walks 86 = .ok (.getfield 68, 3) := dk_180 0 68 (dk_at dksX0_walks_3 15 rfl rfl)
theorem dX0_walks_89 : decode cX0_walks 89 = .ok (.iload_n 1, 1) := dk_27 (dk_at dksX0_walks_3 18 rfl rfl)
theorem dX0_walks_90 : decode cX0_walks 90 = .ok (.iconst 0, 1) := dk_3 (dk_at dksX0_walks_3 19 rfl rfl)
theorem dX0_walks_91 : decode cX0_walks 91 = .ok (.iastore, 1) := dk_79 (dk_at dksX0_walks_3 20 rfl rfl)
theorem dX0_walks_92 : decode cX0_walks 92 = .ok (.iconst 0, 1) := dk_3 (dk_at dksX0_walks_3 21 rfl rfl)
theorem dX0_walks_93 : decode cX0_walks 93 = .ok (.ireturn, 1) := dk_172 (dk_at dksX0_walks_3 22 rfl rfl)
abbrev cX0_meets : ByteArray := prog_1_method_36_code
def yX0_meets : MethodName := ⟨RX0, "meets", "()Z"⟩
def dkwX0_meets_5 : List UInt8 := [180, 0, 75, 3, 16, 6, 184, 1, 47, 42, 180, 1, 29, 4, 160, 0, 7, 4, 167, 0, 4, 3, 172]
abbrev dktX0_meets_5 : List UInt8 := dkwX0_meets_5 ++ []
def dkwX0_meets_4 : List UInt8 := [180, 1, 43, 148, 158, 0, 28, 42, 4, 181, 1, 40, 42, 31, 181, 1, 43, 42, 180, 0, 71, 3, 42]
abbrev dktX0_meets_4 : List UInt8 := dkwX0_meets_4 ++ dktX0_meets_5
def dkwX0_meets_3 : List UInt8 := [182, 1, 33, 64, 167, 0, 10, 42, 182, 1, 37, 116, 133, 64, 42, 180, 1, 40, 153, 0, 12, 31, 42]
abbrev dktX0_meets_3 : List UInt8 := dkwX0_meets_3 ++ dktX0_meets_4
def dkwX0_meets_2 : List UInt8 := [42, 180, 1, 26, 19, 1, 32, 160, 0, 7, 4, 167, 0, 4, 3, 172, 10, 64, 167, 0, 18, 42]
abbrev dktX0_meets_2 : List UInt8 := dkwX0_meets_2 ++ dktX0_meets_3
def dkwX0_meets_1 : List UInt8 := [170, 0, 0, 0, 0, 55, 0, 0, 0, 0, 0, 0, 0, 2, 0, 0, 0, 26, 0, 0, 0, 42, 0, 0, 0, 47]
abbrev dktX0_meets_1 : List UInt8 := dkwX0_meets_1 ++ dktX0_meets_2
def dkwX0_meets_0 : List UInt8 := [42, 89, 180, 1, 26, 4, 96, 181, 1, 26, 42, 180, 1, 29]
abbrev dktX0_meets_0 : List UInt8 := dkwX0_meets_0 ++ dktX0_meets_1
theorem dksX0_meets_0 : cX0_meets.data.toList.drop 0 = dktX0_meets_0 := by decide +kernel
theorem dksX0_meets_1 : cX0_meets.data.toList.drop 14 = dktX0_meets_1 := dk_seg dksX0_meets_0 14 rfl rfl
theorem dksX0_meets_2 : cX0_meets.data.toList.drop 40 = dktX0_meets_2 := dk_seg dksX0_meets_1 26 rfl rfl
theorem dksX0_meets_3 : cX0_meets.data.toList.drop 62 = dktX0_meets_3 := dk_seg dksX0_meets_2 22 rfl rfl
theorem dksX0_meets_4 : cX0_meets.data.toList.drop 85 = dktX0_meets_4 := dk_seg dksX0_meets_3 23 rfl rfl
theorem dksX0_meets_5 : cX0_meets.data.toList.drop 108 = dktX0_meets_5 := dk_seg dksX0_meets_4 23 rfl rfl
theorem dX0_meets_0 : decode cX0_meets 0 = .ok (.aload_n 0, 1) := dk_42 (dk_at dksX0_meets_0 0 rfl rfl)
theorem dX0_meets_1 : decode cX0_meets 1 = .ok (.dup, 1) := dk_89 (dk_at dksX0_meets_0 1 rfl rfl)
theorem dX0_meets_2 : decode cX0_meets 2 = .ok (.getfield 282, 3) := dk_180 1 26 (dk_at dksX0_meets_0 2 rfl rfl)
theorem dX0_meets_5 : decode cX0_meets 5 = .ok (.iconst 1, 1) := dk_4 (dk_at dksX0_meets_0 5 rfl rfl)
theorem dX0_meets_6 : decode cX0_meets 6 = .ok (.iadd, 1) := dk_96 (dk_at dksX0_meets_0 6 rfl rfl)
theorem dX0_meets_7 : decode cX0_meets 7 = .ok (.putfield 282, 3) := dk_181 1 26 (dk_at dksX0_meets_0 7 rfl rfl)
theorem dX0_meets_10 : decode cX0_meets 10 = .ok (.aload_n 0, 1) := dk_42 (dk_at dksX0_meets_0 10 rfl rfl)
theorem dX0_meets_11 : decode cX0_meets 11 = .ok (.getfield 285, 3) := dk_180 1 29 (dk_at dksX0_meets_0 11 rfl rfl)
theorem dX0_meets_14 : decode cX0_meets 14 = .ok (.tableswitch 55 0 2 #[26, 42, 47], 26) := by decide +kernel
theorem dX0_meets_40 : decode cX0_meets 40 = .ok (.aload_n 0, 1) := dk_42 (dk_at dksX0_meets_2 0 rfl rfl)
theorem dX0_meets_41 : decode cX0_meets 41 = .ok (.getfield 282, 3) := dk_180 1 26 (dk_at dksX0_meets_2 1 rfl rfl)
theorem dX0_meets_44 : decode cX0_meets 44 = .ok (.ldc_w 288, 3) := dk_19 1 32 (dk_at dksX0_meets_2 4 rfl rfl)
theorem dX0_meets_47 : decode cX0_meets 47 = .ok (.if_icmp .ne 7, 3) := dk_160 0 7 (dk_at dksX0_meets_2 7 rfl rfl)
theorem dX0_meets_50 : decode cX0_meets 50 = .ok (.iconst 1, 1) := dk_4 (dk_at dksX0_meets_2 10 rfl rfl)
theorem dX0_meets_51 : decode cX0_meets 51 = .ok (.goto 4, 3) := dk_167 0 4 (dk_at dksX0_meets_2 11 rfl rfl)
theorem dX0_meets_54 : decode cX0_meets 54 = .ok (.iconst 0, 1) := dk_3 (dk_at dksX0_meets_2 14 rfl rfl)
theorem dX0_meets_55 : decode cX0_meets 55 = .ok (.ireturn, 1) := dk_172 (dk_at dksX0_meets_2 15 rfl rfl)
theorem dX0_meets_56 : decode cX0_meets 56 = .ok (.lconst 1, 1) := dk_10 (dk_at dksX0_meets_2 16 rfl rfl)
theorem dX0_meets_57 : decode cX0_meets 57 = .ok (.lstore_n 1, 1) := dk_64 (dk_at dksX0_meets_2 17 rfl rfl)
theorem dX0_meets_58 : decode cX0_meets 58 = .ok (.goto 18, 3) := dk_167 0 18 (dk_at dksX0_meets_2 18 rfl rfl)
theorem dX0_meets_61 : decode cX0_meets 61 = .ok (.aload_n 0, 1) := dk_42 (dk_at dksX0_meets_2 21 rfl rfl)
theorem dX0_meets_62 : decode cX0_meets 62 = .ok (.invokevirtual 289, 3) := dk_182 1 33 (dk_at dksX0_meets_3 0 rfl rfl)
theorem dX0_meets_65 : decode cX0_meets 65 = .ok (.lstore_n 1, 1) := dk_64 (dk_at dksX0_meets_3 3 rfl rfl)
theorem dX0_meets_66 : decode cX0_meets 66 = .ok (.goto 10, 3) := dk_167 0 10 (dk_at dksX0_meets_3 4 rfl rfl)
theorem dX0_meets_69 : decode cX0_meets 69 = .ok (.aload_n 0, 1) := dk_42 (dk_at dksX0_meets_3 7 rfl rfl)
theorem dX0_meets_70 : decode cX0_meets 70 = .ok (.invokevirtual 293, 3) := dk_182 1 37 (dk_at dksX0_meets_3 8 rfl rfl)
theorem dX0_meets_73 : decode cX0_meets 73 = .ok (.ineg, 1) := dk_116 (dk_at dksX0_meets_3 11 rfl rfl)
theorem dX0_meets_74 : decode cX0_meets 74 = .ok (.i2l, 1) := dk_133 (dk_at dksX0_meets_3 12 rfl rfl)
theorem dX0_meets_75 : decode cX0_meets 75 = .ok (.lstore_n 1, 1) := dk_64 (dk_at dksX0_meets_3 13 rfl rfl)
theorem dX0_meets_76 : decode cX0_meets 76 = .ok (.aload_n 0, 1) := dk_42 (dk_at dksX0_meets_3 14 rfl rfl)
theorem dX0_meets_77 : decode cX0_meets 77 = .ok (.getfield 296, 3) := dk_180 1 40 (dk_at dksX0_meets_3 15 rfl rfl)
theorem dX0_meets_80 : decode cX0_meets 80 = .ok (.ifCond .eq 12, 3) := dk_153 0 12 (dk_at dksX0_meets_3 18 rfl rfl)
theorem dX0_meets_83 : decode cX0_meets 83 = .ok (.lload_n 1, 1) := dk_31 (dk_at dksX0_meets_3 21 rfl rfl)
theorem dX0_meets_84 : decode cX0_meets 84 = .ok (.aload_n 0, 1) := dk_42 (dk_at dksX0_meets_3 22 rfl rfl)
theorem dX0_meets_85 : decode cX0_meets 85 = .ok (.getfield 299, 3) := dk_180 1 43 (dk_at dksX0_meets_4 0 rfl rfl)
theorem dX0_meets_88 : decode cX0_meets 88 = .ok (.lcmp, 1) := dk_148 (dk_at dksX0_meets_4 3 rfl rfl)
theorem dX0_meets_89 : decode cX0_meets 89 = .ok (.ifCond .le 28, 3) := dk_158 0 28 (dk_at dksX0_meets_4 4 rfl rfl)
theorem dX0_meets_92 : decode cX0_meets 92 = .ok (.aload_n 0, 1) := dk_42 (dk_at dksX0_meets_4 7 rfl rfl)
theorem dX0_meets_93 : decode cX0_meets 93 = .ok (.iconst 1, 1) := dk_4 (dk_at dksX0_meets_4 8 rfl rfl)
theorem dX0_meets_94 : decode cX0_meets 94 = .ok (.putfield 296, 3) := dk_181 1 40 (dk_at dksX0_meets_4 9 rfl rfl)
theorem dX0_meets_97 : decode cX0_meets 97 = .ok (.aload_n 0, 1) := dk_42 (dk_at dksX0_meets_4 12 rfl rfl)
theorem dX0_meets_98 : decode cX0_meets 98 = .ok (.lload_n 1, 1) := dk_31 (dk_at dksX0_meets_4 13 rfl rfl)
theorem dX0_meets_99 : decode cX0_meets 99 = .ok (.putfield 299, 3) := dk_181 1 43 (dk_at dksX0_meets_4 14 rfl rfl)
theorem dX0_meets_102 : decode cX0_meets 102 = .ok (.aload_n 0, 1) := dk_42 (dk_at dksX0_meets_4 17 rfl rfl)
theorem dX0_meets_103 : decode cX0_meets 103 = .ok (.getfield 71, 3) := dk_180 0 71 (dk_at dksX0_meets_4 18 rfl rfl)
theorem dX0_meets_106 : decode cX0_meets 106 = .ok (.iconst 0, 1) := dk_3 (dk_at dksX0_meets_4 21 rfl rfl)
theorem dX0_meets_107 : decode cX0_meets 107 = .ok (.aload_n 0, 1) := dk_42 (dk_at dksX0_meets_4 22 rfl rfl)
theorem dX0_meets_108 : decode cX0_meets 108 = .ok (.getfield 75, 3) := dk_180 0 75 (dk_at dksX0_meets_5 0 rfl rfl)
theorem dX0_meets_111 : decode cX0_meets 111 = .ok (.iconst 0, 1) := dk_3 (dk_at dksX0_meets_5 3 rfl rfl)
theorem dX0_meets_112 : decode cX0_meets 112 = .ok (.bipush 6, 2) := dk_16 6 (dk_at dksX0_meets_5 4 rfl rfl)
theorem dX0_meets_114 : decode cX0_meets 114 = .ok (.invokestatic 303, 3) := dk_184 1 47 (dk_at dksX0_meets_5 6 rfl rfl)
theorem dX0_meets_117 : decode cX0_meets 117 = .ok (.aload_n 0, 1) := dk_42 (dk_at dksX0_meets_5 9 rfl rfl)
theorem dX0_meets_118 : decode cX0_meets 118 = .ok (.getfield 285, 3) := dk_180 1 29 (dk_at dksX0_meets_5 10 rfl rfl)
theorem dX0_meets_121 : decode cX0_meets 121 = .ok (.iconst 1, 1) := dk_4 (dk_at dksX0_meets_5 13 rfl rfl)
theorem dX0_meets_122 : decode cX0_meets 122 = .ok (.if_icmp .ne 7, 3) := dk_160 0 7 (dk_at dksX0_meets_5 14 rfl rfl)
theorem dX0_meets_125 : decode cX0_meets 125 = .ok (.iconst 1, 1) := dk_4 (dk_at dksX0_meets_5 17 rfl rfl)
theorem dX0_meets_126 : decode cX0_meets 126 = .ok (.goto 4, 3) := dk_167 0 4 (dk_at dksX0_meets_5 18 rfl rfl)
theorem dX0_meets_129 : decode cX0_meets 129 = .ok (.iconst 0, 1) := dk_3 (dk_at dksX0_meets_5 21 rfl rfl)
theorem dX0_meets_130 : decode cX0_meets 130 = .ok (.ireturn, 1) := dk_172 (dk_at dksX0_meets_5 22 rfl rfl)
abbrev cX0_wholeWorth : ByteArray := prog_1_method_39_code
def yX0_wholeWorth : MethodName := ⟨RX0, "wholeWorth", "()J"⟩
def dkwX0_wholeWorth_9 : List UInt8 := [132, 3, 1, 167, 255, 51, 31, 173]
abbrev dktX0_wholeWorth_9 : List UInt8 := dkwX0_wholeWorth_9 ++ []
def dkwX0_wholeWorth_8 : List UInt8 := [180, 0, 71, 29, 51, 96, 16, 7, 104, 21, 5, 96, 16, 6, 104, 21, 6, 96, 46, 133, 97, 64]
abbrev dktX0_wholeWorth_8 : List UInt8 := dkwX0_wholeWorth_8 ++ dktX0_wholeWorth_9
def dkwX0_wholeWorth_7 : List UInt8 := [160, 0, 6, 132, 6, 1, 132, 7, 1, 167, 255, 143, 31, 42, 180, 0, 78, 29, 16, 7, 104, 42]
abbrev dktX0_wholeWorth_7 : List UInt8 := dkwX0_wholeWorth_7 ++ dktX0_wholeWorth_8
def dkwX0_wholeWorth_6 : List UInt8 := [21, 5, 96, 46, 162, 0, 7, 21, 7, 54, 5, 42, 180, 0, 68, 21, 7, 46, 42, 180, 0, 68, 29, 46]
abbrev dktX0_wholeWorth_6 : List UInt8 := dkwX0_wholeWorth_6 ++ dktX0_wholeWorth_7
def dkwX0_wholeWorth_5 : List UInt8 := [167, 0, 30, 42, 180, 0, 45, 16, 6, 29, 104, 21, 7, 96, 46, 42, 180, 0, 45, 16, 6, 29, 104]
abbrev dktX0_wholeWorth_5 : List UInt8 := dkwX0_wholeWorth_5 ++ dktX0_wholeWorth_6
def dkwX0_wholeWorth_4 : List UInt8 := [180, 0, 130, 160, 0, 23, 42, 180, 0, 45, 16, 6, 29, 104, 21, 7, 96, 46, 16, 99, 162, 0, 37]
abbrev dktX0_wholeWorth_4 : List UInt8 := dkwX0_wholeWorth_4 ++ dktX0_wholeWorth_5
def dkwX0_wholeWorth_3 : List UInt8 := [160, 0, 6, 167, 0, 95, 42, 180, 0, 68, 21, 7, 46, 21, 4, 126, 153, 0, 63, 21, 5, 42]
abbrev dktX0_wholeWorth_3 : List UInt8 := dkwX0_wholeWorth_3 ++ dktX0_wholeWorth_4
def dkwX0_wholeWorth_2 : List UInt8 := [180, 0, 130, 54, 5, 3, 54, 6, 3, 54, 7, 21, 7, 42, 180, 0, 130, 162, 0, 110, 21, 7, 29]
abbrev dktX0_wholeWorth_2 : List UInt8 := dkwX0_wholeWorth_2 ++ dktX0_wholeWorth_3
def dkwX0_wholeWorth_1 : List UInt8 := [4, 42, 180, 0, 71, 29, 51, 42, 180, 0, 48, 96, 4, 100, 42, 180, 0, 48, 112, 120, 54, 4, 42]
abbrev dktX0_wholeWorth_1 : List UInt8 := dkwX0_wholeWorth_1 ++ dktX0_wholeWorth_2
def dkwX0_wholeWorth_0 : List UInt8 := [9, 64, 3, 62, 29, 42, 180, 0, 130, 162, 0, 203, 42, 180, 0, 68, 29, 46, 154, 0, 6, 167, 0, 185]
abbrev dktX0_wholeWorth_0 : List UInt8 := dkwX0_wholeWorth_0 ++ dktX0_wholeWorth_1
theorem dksX0_wholeWorth_0 : cX0_wholeWorth.data.toList.drop 0 = dktX0_wholeWorth_0 := by decide +kernel
theorem dksX0_wholeWorth_1 : cX0_wholeWorth.data.toList.drop 24 = dktX0_wholeWorth_1 := dk_seg dksX0_wholeWorth_0 24 rfl rfl
theorem dksX0_wholeWorth_2 : cX0_wholeWorth.data.toList.drop 47 = dktX0_wholeWorth_2 := dk_seg dksX0_wholeWorth_1 23 rfl rfl
theorem dksX0_wholeWorth_3 : cX0_wholeWorth.data.toList.drop 70 = dktX0_wholeWorth_3 := dk_seg dksX0_wholeWorth_2 23 rfl rfl
theorem dksX0_wholeWorth_4 : cX0_wholeWorth.data.toList.drop 92 = dktX0_wholeWorth_4 := dk_seg dksX0_wholeWorth_3 22 rfl rfl
theorem dksX0_wholeWorth_5 : cX0_wholeWorth.data.toList.drop 115 = dktX0_wholeWorth_5 := dk_seg dksX0_wholeWorth_4 23 rfl rfl
theorem dksX0_wholeWorth_6 : cX0_wholeWorth.data.toList.drop 138 = dktX0_wholeWorth_6 := dk_seg dksX0_wholeWorth_5 23 rfl rfl
theorem dksX0_wholeWorth_7 : cX0_wholeWorth.data.toList.drop 162 = dktX0_wholeWorth_7 := dk_seg dksX0_wholeWorth_6 24 rfl rfl
theorem dksX0_wholeWorth_8 : cX0_wholeWorth.data.toList.drop 184 = dktX0_wholeWorth_8 := dk_seg dksX0_wholeWorth_7 22 rfl rfl
theorem dksX0_wholeWorth_9 : cX0_wholeWorth.data.toList.drop 206 = dktX0_wholeWorth_9 := dk_seg dksX0_wholeWorth_8 22 rfl rfl
theorem dX0_wholeWorth_0 : decode cX0_wholeWorth 0 = .ok (.lconst 0, 1) := dk_9 (dk_at dksX0_wholeWorth_0 0 rfl rfl)
theorem dX0_wholeWorth_1 : decode cX0_wholeWorth 1 = .ok (.lstore_n 1, 1) := dk_64 (dk_at dksX0_wholeWorth_0 1 rfl rfl)
theorem dX0_wholeWorth_2 : decode cX0_wholeWorth 2 = .ok (.iconst 0, 1) := dk_3 (dk_at dksX0_wholeWorth_0 2 rfl rfl)
theorem dX0_wholeWorth_3 : decode cX0_wholeWorth 3 = .ok (.istore_n 3, 1) := dk_62 (dk_at dksX0_wholeWorth_0 3 rfl rfl)
theorem dX0_wholeWorth_4 : decode cX0_wholeWorth 4 = .ok (.iload_n 3, 1) := dk_29 (dk_at dksX0_wholeWorth_0 4 rfl rfl)
theorem dX0_wholeWorth_5 : decode cX0_wholeWorth 5 = .ok (.aload_n 0, 1) := dk_42 (dk_at dksX0_wholeWorth_0 5 rfl rfl)
theorem dX0_wholeWorth_6 : decode cX0_wholeWorth 6 = .ok (.getfield 130, 3) := dk_180 0 130 (dk_at dksX0_wholeWorth_0 6 rfl rfl)
theorem dX0_wholeWorth_9 : decode cX0_wholeWorth 9 = .ok (.if_icmp .ge 203, 3) := dk_162 0 203 (dk_at dksX0_wholeWorth_0 9 rfl rfl)
theorem dX0_wholeWorth_12 : decode cX0_wholeWorth 12 = .ok (.aload_n 0, 1) := dk_42 (dk_at dksX0_wholeWorth_0 12 rfl rfl)
theorem dX0_wholeWorth_13 : decode cX0_wholeWorth 13 = .ok (.getfield 68, 3) := dk_180 0 68 (dk_at dksX0_wholeWorth_0 13 rfl rfl)
theorem dX0_wholeWorth_16 : decode cX0_wholeWorth 16 = .ok (.iload_n 3, 1) := dk_29 (dk_at dksX0_wholeWorth_0 16 rfl rfl)
theorem dX0_wholeWorth_17 : decode cX0_wholeWorth 17 = .ok (.iaload, 1) := dk_46 (dk_at dksX0_wholeWorth_0 17 rfl rfl)
theorem dX0_wholeWorth_18 : decode cX0_wholeWorth 18 = .ok (.ifCond .ne 6, 3) := dk_154 0 6 (dk_at dksX0_wholeWorth_0 18 rfl rfl)
theorem dX0_wholeWorth_21 : decode cX0_wholeWorth 21 = .ok (.goto 185, 3) := dk_167 0 185 (dk_at dksX0_wholeWorth_0 21 rfl rfl)
theorem dX0_wholeWorth_24 : decode cX0_wholeWorth 24 = .ok (.iconst 1, 1) := dk_4 (dk_at dksX0_wholeWorth_1 0 rfl rfl)
theorem dX0_wholeWorth_25 : decode cX0_wholeWorth 25 = .ok (.aload_n 0, 1) := dk_42 (dk_at dksX0_wholeWorth_1 1 rfl rfl)
theorem dX0_wholeWorth_26 : decode cX0_wholeWorth 26 = .ok (.getfield 71, 3) := dk_180 0 71 (dk_at dksX0_wholeWorth_1 2 rfl rfl)
theorem dX0_wholeWorth_29 : decode cX0_wholeWorth 29 = .ok (.iload_n 3, 1) := dk_29 (dk_at dksX0_wholeWorth_1 5 rfl rfl)
theorem dX0_wholeWorth_30 : decode cX0_wholeWorth 30 = .ok (.baload, 1) := dk_51 (dk_at dksX0_wholeWorth_1 6 rfl rfl)
theorem dX0_wholeWorth_31 : decode cX0_wholeWorth 31 = .ok (.aload_n 0, 1) := dk_42 (dk_at dksX0_wholeWorth_1 7 rfl rfl)
theorem dX0_wholeWorth_32 : decode cX0_wholeWorth 32 = .ok (.getfield 48, 3) := dk_180 0 48 (dk_at dksX0_wholeWorth_1 8 rfl rfl)
theorem dX0_wholeWorth_35 : decode cX0_wholeWorth 35 = .ok (.iadd, 1) := dk_96 (dk_at dksX0_wholeWorth_1 11 rfl rfl)
theorem dX0_wholeWorth_36 : decode cX0_wholeWorth 36 = .ok (.iconst 1, 1) := dk_4 (dk_at dksX0_wholeWorth_1 12 rfl rfl)
theorem dX0_wholeWorth_37 : decode cX0_wholeWorth 37 = .ok (.isub, 1) := dk_100 (dk_at dksX0_wholeWorth_1 13 rfl rfl)
theorem dX0_wholeWorth_38 : decode cX0_wholeWorth 38 = .ok (.aload_n 0, 1) := dk_42 (dk_at dksX0_wholeWorth_1 14 rfl rfl)
theorem dX0_wholeWorth_39 : decode cX0_wholeWorth 39 = .ok (.getfield 48, 3) := dk_180 0 48 (dk_at dksX0_wholeWorth_1 15 rfl rfl)
theorem dX0_wholeWorth_42 : decode cX0_wholeWorth 42 = .ok (.irem, 1) := dk_112 (dk_at dksX0_wholeWorth_1 18 rfl rfl)
theorem dX0_wholeWorth_43 : decode cX0_wholeWorth 43 = .ok (.ishl, 1) := dk_120 (dk_at dksX0_wholeWorth_1 19 rfl rfl)
theorem dX0_wholeWorth_44 : decode cX0_wholeWorth 44 = .ok (.istore 4, 2) := dk_54 4 (dk_at dksX0_wholeWorth_1 20 rfl rfl)
theorem dX0_wholeWorth_46 : decode cX0_wholeWorth 46 = .ok (.aload_n 0, 1) := dk_42 (dk_at dksX0_wholeWorth_1 22 rfl rfl)
theorem dX0_wholeWorth_47 : decode cX0_wholeWorth 47 = .ok (.getfield 130, 3) := dk_180 0 130 (dk_at dksX0_wholeWorth_2 0 rfl rfl)
theorem dX0_wholeWorth_50 : decode cX0_wholeWorth 50 = .ok (.istore 5, 2) := dk_54 5 (dk_at dksX0_wholeWorth_2 3 rfl rfl)
theorem dX0_wholeWorth_52 : decode cX0_wholeWorth 52 = .ok (.iconst 0, 1) := dk_3 (dk_at dksX0_wholeWorth_2 5 rfl rfl)
theorem dX0_wholeWorth_53 : decode cX0_wholeWorth 53 = .ok (.istore 6, 2) := dk_54 6 (dk_at dksX0_wholeWorth_2 6 rfl rfl)
theorem dX0_wholeWorth_55 : decode cX0_wholeWorth 55 = .ok (.iconst 0, 1) := dk_3 (dk_at dksX0_wholeWorth_2 8 rfl rfl)
theorem dX0_wholeWorth_56 : decode cX0_wholeWorth 56 = .ok (.istore 7, 2) := dk_54 7 (dk_at dksX0_wholeWorth_2 9 rfl rfl)
theorem dX0_wholeWorth_58 : decode cX0_wholeWorth 58 = .ok (.iload 7, 2) := dk_21 7 (dk_at dksX0_wholeWorth_2 11 rfl rfl)
theorem dX0_wholeWorth_60 : decode cX0_wholeWorth 60 = .ok (.aload_n 0, 1) := dk_42 (dk_at dksX0_wholeWorth_2 13 rfl rfl)
theorem dX0_wholeWorth_61 : decode cX0_wholeWorth 61 = .ok (.getfield 130, 3) := dk_180 0 130 (dk_at dksX0_wholeWorth_2 14 rfl rfl)
theorem dX0_wholeWorth_64 : decode cX0_wholeWorth 64 = .ok (.if_icmp .ge 110, 3) := dk_162 0 110 (dk_at dksX0_wholeWorth_2 17 rfl rfl)
theorem dX0_wholeWorth_67 : decode cX0_wholeWorth 67 = .ok (.iload 7, 2) := dk_21 7 (dk_at dksX0_wholeWorth_2 20 rfl rfl)
theorem dX0_wholeWorth_69 : decode cX0_wholeWorth 69 = .ok (.iload_n 3, 1) := dk_29 (dk_at dksX0_wholeWorth_2 22 rfl rfl)
theorem dX0_wholeWorth_70 : decode cX0_wholeWorth 70 = .ok (.if_icmp .ne 6, 3) := dk_160 0 6 (dk_at dksX0_wholeWorth_3 0 rfl rfl)
theorem dX0_wholeWorth_73 : decode cX0_wholeWorth 73 = .ok (.goto 95, 3) := dk_167 0 95 (dk_at dksX0_wholeWorth_3 3 rfl rfl)
theorem dX0_wholeWorth_76 : decode cX0_wholeWorth 76 = .ok (.aload_n 0, 1) := dk_42 (dk_at dksX0_wholeWorth_3 6 rfl rfl)
theorem dX0_wholeWorth_77 : decode cX0_wholeWorth 77 = .ok (.getfield 68, 3) := dk_180 0 68 (dk_at dksX0_wholeWorth_3 7 rfl rfl)
theorem dX0_wholeWorth_80 : decode cX0_wholeWorth 80 = .ok (.iload 7, 2) := dk_21 7 (dk_at dksX0_wholeWorth_3 10 rfl rfl)
theorem dX0_wholeWorth_82 : decode cX0_wholeWorth 82 = .ok (.iaload, 1) := dk_46 (dk_at dksX0_wholeWorth_3 12 rfl rfl)
theorem dX0_wholeWorth_83 : decode cX0_wholeWorth 83 = .ok (.iload 4, 2) := dk_21 4 (dk_at dksX0_wholeWorth_3 13 rfl rfl)
theorem dX0_wholeWorth_85 : decode cX0_wholeWorth 85 = .ok (.iand, 1) := dk_126 (dk_at dksX0_wholeWorth_3 15 rfl rfl)
theorem dX0_wholeWorth_86 : decode cX0_wholeWorth 86 = .ok (.ifCond .eq 63, 3) := dk_153 0 63 (dk_at dksX0_wholeWorth_3 16 rfl rfl)
theorem dX0_wholeWorth_89 : decode cX0_wholeWorth 89 = .ok (.iload 5, 2) := dk_21 5 (dk_at dksX0_wholeWorth_3 19 rfl rfl)
theorem dX0_wholeWorth_91 : decode cX0_wholeWorth 91 = .ok (.aload_n 0, 1) := dk_42 (dk_at dksX0_wholeWorth_3 21 rfl rfl)
theorem dX0_wholeWorth_92 : decode cX0_wholeWorth 92 = .ok (.getfield 130, 3) := dk_180 0 130 (dk_at dksX0_wholeWorth_4 0 rfl rfl)
theorem dX0_wholeWorth_95 : decode cX0_wholeWorth 95 = .ok (.if_icmp .ne 23, 3) := dk_160 0 23 (dk_at dksX0_wholeWorth_4 3 rfl rfl)
theorem dX0_wholeWorth_98 : decode cX0_wholeWorth 98 = .ok (.aload_n 0, 1) := dk_42 (dk_at dksX0_wholeWorth_4 6 rfl rfl)
theorem dX0_wholeWorth_99 : decode cX0_wholeWorth 99 = .ok (.getfield 45, 3) := dk_180 0 45 (dk_at dksX0_wholeWorth_4 7 rfl rfl)
theorem dX0_wholeWorth_102 : decode cX0_wholeWorth 102 = .ok (.bipush 6, 2) := dk_16 6 (dk_at dksX0_wholeWorth_4 10 rfl rfl)
theorem dX0_wholeWorth_104 : decode cX0_wholeWorth 104 = .ok (.iload_n 3, 1) := dk_29 (dk_at dksX0_wholeWorth_4 12 rfl rfl)
theorem dX0_wholeWorth_105 : decode cX0_wholeWorth 105 = .ok (.imul, 1) := dk_104 (dk_at dksX0_wholeWorth_4 13 rfl rfl)
theorem dX0_wholeWorth_106 : decode cX0_wholeWorth 106 = .ok (.iload 7, 2) := dk_21 7 (dk_at dksX0_wholeWorth_4 14 rfl rfl)
theorem dX0_wholeWorth_108 : decode cX0_wholeWorth 108 = .ok (.iadd, 1) := dk_96 (dk_at dksX0_wholeWorth_4 16 rfl rfl)
theorem dX0_wholeWorth_109 : decode cX0_wholeWorth 109 = .ok (.iaload, 1) := dk_46 (dk_at dksX0_wholeWorth_4 17 rfl rfl)
theorem dX0_wholeWorth_110 : decode cX0_wholeWorth 110 = .ok (.bipush 99, 2) := dk_16 99 (dk_at dksX0_wholeWorth_4 18 rfl rfl)
theorem dX0_wholeWorth_112 : decode cX0_wholeWorth 112 = .ok (.if_icmp .ge 37, 3) := dk_162 0 37 (dk_at dksX0_wholeWorth_4 20 rfl rfl)
theorem dX0_wholeWorth_115 : decode cX0_wholeWorth 115 = .ok (.goto 30, 3) := dk_167 0 30 (dk_at dksX0_wholeWorth_5 0 rfl rfl)
theorem dX0_wholeWorth_118 : decode cX0_wholeWorth 118 = .ok (.aload_n 0, 1) := dk_42 (dk_at dksX0_wholeWorth_5 3 rfl rfl)
theorem dX0_wholeWorth_119 : decode cX0_wholeWorth 119 = .ok (.getfield 45, 3) := dk_180 0 45 (dk_at dksX0_wholeWorth_5 4 rfl rfl)
theorem dX0_wholeWorth_122 : decode cX0_wholeWorth 122 = .ok (.bipush 6, 2) := dk_16 6 (dk_at dksX0_wholeWorth_5 7 rfl rfl)
theorem dX0_wholeWorth_124 : decode cX0_wholeWorth 124 = .ok (.iload_n 3, 1) := dk_29 (dk_at dksX0_wholeWorth_5 9 rfl rfl)
theorem dX0_wholeWorth_125 : decode cX0_wholeWorth 125 = .ok (.imul, 1) := dk_104 (dk_at dksX0_wholeWorth_5 10 rfl rfl)
theorem dX0_wholeWorth_126 : decode cX0_wholeWorth 126 = .ok (.iload 7, 2) := dk_21 7 (dk_at dksX0_wholeWorth_5 11 rfl rfl)
theorem dX0_wholeWorth_128 : decode cX0_wholeWorth 128 = .ok (.iadd, 1) := dk_96 (dk_at dksX0_wholeWorth_5 13 rfl rfl)
theorem dX0_wholeWorth_129 : decode cX0_wholeWorth 129 = .ok (.iaload, 1) := dk_46 (dk_at dksX0_wholeWorth_5 14 rfl rfl)
theorem dX0_wholeWorth_130 : decode cX0_wholeWorth 130 = .ok (.aload_n 0, 1) := dk_42 (dk_at dksX0_wholeWorth_5 15 rfl rfl)
theorem dX0_wholeWorth_131 : decode cX0_wholeWorth 131 = .ok (.getfield 45, 3) := dk_180 0 45 (dk_at dksX0_wholeWorth_5 16 rfl rfl)
theorem dX0_wholeWorth_134 : decode cX0_wholeWorth 134 = .ok (.bipush 6, 2) := dk_16 6 (dk_at dksX0_wholeWorth_5 19 rfl rfl)
theorem dX0_wholeWorth_136 : decode cX0_wholeWorth 136 = .ok (.iload_n 3, 1) := dk_29 (dk_at dksX0_wholeWorth_5 21 rfl rfl)
theorem dX0_wholeWorth_137 : decode cX0_wholeWorth 137 = .ok (.imul, 1) := dk_104 (dk_at dksX0_wholeWorth_5 22 rfl rfl)
theorem dX0_wholeWorth_138 : decode cX0_wholeWorth 138 = .ok (.iload 5, 2) := dk_21 5 (dk_at dksX0_wholeWorth_6 0 rfl rfl)
theorem dX0_wholeWorth_140 : decode cX0_wholeWorth 140 = .ok (.iadd, 1) := dk_96 (dk_at dksX0_wholeWorth_6 2 rfl rfl)
theorem dX0_wholeWorth_141 : decode cX0_wholeWorth 141 = .ok (.iaload, 1) := dk_46 (dk_at dksX0_wholeWorth_6 3 rfl rfl)
theorem dX0_wholeWorth_142 : decode cX0_wholeWorth 142 = .ok (.if_icmp .ge 7, 3) := dk_162 0 7 (dk_at dksX0_wholeWorth_6 4 rfl rfl)
theorem dX0_wholeWorth_145 : decode cX0_wholeWorth 145 = .ok (.iload 7, 2) := dk_21 7 (dk_at dksX0_wholeWorth_6 7 rfl rfl)
theorem dX0_wholeWorth_147 : decode cX0_wholeWorth 147 = .ok (.istore 5, 2) := dk_54 5 (dk_at dksX0_wholeWorth_6 9 rfl rfl)
theorem dX0_wholeWorth_149 : decode cX0_wholeWorth 149 = .ok (.aload_n 0, 1) := dk_42 (dk_at dksX0_wholeWorth_6 11 rfl rfl)
theorem dX0_wholeWorth_150 : decode cX0_wholeWorth 150 = .ok (.getfield 68, 3) := dk_180 0 68 (dk_at dksX0_wholeWorth_6 12 rfl rfl)
theorem dX0_wholeWorth_153 : decode cX0_wholeWorth 153 = .ok (.iload 7, 2) := dk_21 7 (dk_at dksX0_wholeWorth_6 15 rfl rfl)
theorem dX0_wholeWorth_155 : decode cX0_wholeWorth 155 = .ok (.iaload, 1) := dk_46 (dk_at dksX0_wholeWorth_6 17 rfl rfl)
theorem dX0_wholeWorth_156 : decode cX0_wholeWorth 156 = .ok (.aload_n 0, 1) := dk_42 (dk_at dksX0_wholeWorth_6 18 rfl rfl)
theorem dX0_wholeWorth_157 : decode cX0_wholeWorth 157 = .ok (.getfield 68, 3) := dk_180 0 68 (dk_at dksX0_wholeWorth_6 19 rfl rfl)
theorem dX0_wholeWorth_160 : decode cX0_wholeWorth 160 = .ok (.iload_n 3, 1) := dk_29 (dk_at dksX0_wholeWorth_6 22 rfl rfl)
theorem dX0_wholeWorth_161 : decode cX0_wholeWorth 161 = .ok (.iaload, 1) := dk_46 (dk_at dksX0_wholeWorth_6 23 rfl rfl)
theorem dX0_wholeWorth_162 : decode cX0_wholeWorth 162 = .ok (.if_icmp .ne 6, 3) := dk_160 0 6 (dk_at dksX0_wholeWorth_7 0 rfl rfl)
theorem dX0_wholeWorth_165 : decode cX0_wholeWorth 165 = .ok (.iinc 6 1, 3) := dk_132 6 1 (dk_at dksX0_wholeWorth_7 3 rfl rfl)
theorem dX0_wholeWorth_168 : decode cX0_wholeWorth 168 = .ok (.iinc 7 1, 3) := dk_132 7 1 (dk_at dksX0_wholeWorth_7 6 rfl rfl)
theorem dX0_wholeWorth_171 : decode cX0_wholeWorth 171 = .ok (.goto (-113), 3) := dk_167 255 143 (dk_at dksX0_wholeWorth_7 9 rfl rfl)
theorem dX0_wholeWorth_174 : decode cX0_wholeWorth 174 = .ok (.lload_n 1, 1) := dk_31 (dk_at dksX0_wholeWorth_7 12 rfl rfl)
theorem dX0_wholeWorth_175 : decode cX0_wholeWorth 175 = .ok (.aload_n 0, 1) := dk_42 (dk_at dksX0_wholeWorth_7 13 rfl rfl)
theorem dX0_wholeWorth_176 : decode cX0_wholeWorth 176 = .ok (.getfield 78, 3) := dk_180 0 78 (dk_at dksX0_wholeWorth_7 14 rfl rfl)
theorem dX0_wholeWorth_179 : decode cX0_wholeWorth 179 = .ok (.iload_n 3, 1) := dk_29 (dk_at dksX0_wholeWorth_7 17 rfl rfl)
theorem dX0_wholeWorth_180 : decode cX0_wholeWorth 180 = .ok (.bipush 7, 2) := dk_16 7 (dk_at dksX0_wholeWorth_7 18 rfl rfl)
theorem dX0_wholeWorth_182 : decode cX0_wholeWorth 182 = .ok (.imul, 1) := dk_104 (dk_at dksX0_wholeWorth_7 20 rfl rfl)
theorem dX0_wholeWorth_183 : decode cX0_wholeWorth 183 = .ok (.aload_n 0, 1) := dk_42 (dk_at dksX0_wholeWorth_7 21 rfl rfl)
theorem dX0_wholeWorth_184 : decode cX0_wholeWorth 184 = .ok (.getfield 71, 3) := dk_180 0 71 (dk_at dksX0_wholeWorth_8 0 rfl rfl)
theorem dX0_wholeWorth_187 : decode cX0_wholeWorth 187 = .ok (.iload_n 3, 1) := dk_29 (dk_at dksX0_wholeWorth_8 3 rfl rfl)
theorem dX0_wholeWorth_188 : decode cX0_wholeWorth 188 = .ok (.baload, 1) := dk_51 (dk_at dksX0_wholeWorth_8 4 rfl rfl)
theorem dX0_wholeWorth_189 : decode cX0_wholeWorth 189 = .ok (.iadd, 1) := dk_96 (dk_at dksX0_wholeWorth_8 5 rfl rfl)
theorem dX0_wholeWorth_190 : decode cX0_wholeWorth 190 = .ok (.bipush 7, 2) := dk_16 7 (dk_at dksX0_wholeWorth_8 6 rfl rfl)
theorem dX0_wholeWorth_192 : decode cX0_wholeWorth 192 = .ok (.imul, 1) := dk_104 (dk_at dksX0_wholeWorth_8 8 rfl rfl)
theorem dX0_wholeWorth_193 : decode cX0_wholeWorth 193 = .ok (.iload 5, 2) := dk_21 5 (dk_at dksX0_wholeWorth_8 9 rfl rfl)
theorem dX0_wholeWorth_195 : decode cX0_wholeWorth 195 = .ok (.iadd, 1) := dk_96 (dk_at dksX0_wholeWorth_8 11 rfl rfl)
theorem dX0_wholeWorth_196 : decode cX0_wholeWorth 196 = .ok (.bipush 6, 2) := dk_16 6 (dk_at dksX0_wholeWorth_8 12 rfl rfl)
theorem dX0_wholeWorth_198 : decode cX0_wholeWorth 198 = .ok (.imul, 1) := dk_104 (dk_at dksX0_wholeWorth_8 14 rfl rfl)
theorem dX0_wholeWorth_199 : decode cX0_wholeWorth 199 = .ok (.iload 6, 2) := dk_21 6 (dk_at dksX0_wholeWorth_8 15 rfl rfl)
theorem dX0_wholeWorth_201 : decode cX0_wholeWorth 201 = .ok (.iadd, 1) := dk_96 (dk_at dksX0_wholeWorth_8 17 rfl rfl)
theorem dX0_wholeWorth_202 : decode cX0_wholeWorth 202 = .ok (.iaload, 1) := dk_46 (dk_at dksX0_wholeWorth_8 18 rfl rfl)
theorem dX0_wholeWorth_203 : decode cX0_wholeWorth 203 = .ok (.i2l, 1) := dk_133 (dk_at dksX0_wholeWorth_8 19 rfl rfl)
theorem dX0_wholeWorth_204 : decode cX0_wholeWorth 204 = .ok (.ladd, 1) := dk_97 (dk_at dksX0_wholeWorth_8 20 rfl rfl)
theorem dX0_wholeWorth_205 : decode cX0_wholeWorth 205 = .ok (.lstore_n 1, 1) := dk_64 (dk_at dksX0_wholeWorth_8 21 rfl rfl)
theorem dX0_wholeWorth_206 : decode cX0_wholeWorth 206 = .ok (.iinc 3 1, 3) := dk_132 3 1 (dk_at dksX0_wholeWorth_9 0 rfl rfl)
theorem dX0_wholeWorth_209 : decode cX0_wholeWorth 209 = .ok (.goto (-205), 3) := dk_167 255 51 (dk_at dksX0_wholeWorth_9 3 rfl rfl)
theorem dX0_wholeWorth_212 : decode cX0_wholeWorth 212 = .ok (.lload_n 1, 1) := dk_31 (dk_at dksX0_wholeWorth_9 6 rfl rfl)
theorem dX0_wholeWorth_213 : decode cX0_wholeWorth 213 = .ok (.lreturn, 1) := dk_173 (dk_at dksX0_wholeWorth_9 7 rfl rfl)
abbrev cX0_moved : ByteArray := prog_1_method_37_code
def yX0_moved : MethodName := ⟨RX0, "moved", "()I"⟩
def dkwX0_moved_2 : List UInt8 := [167, 255, 213, 27, 172]
abbrev dktX0_moved_2 : List UInt8 := dkwX0_moved_2 ++ []
def dkwX0_moved_1 : List UInt8 := [180, 1, 53, 180, 1, 58, 28, 51, 42, 180, 0, 71, 28, 51, 159, 0, 6, 132, 1, 1, 132, 2, 1]
abbrev dktX0_moved_1 : List UInt8 := dkwX0_moved_1 ++ dktX0_moved_2
def dkwX0_moved_0 : List UInt8 := [3, 60, 3, 61, 28, 42, 180, 0, 130, 162, 0, 41, 28, 42, 180, 1, 53, 180, 1, 57, 162, 0, 21, 42]
abbrev dktX0_moved_0 : List UInt8 := dkwX0_moved_0 ++ dktX0_moved_1
theorem dksX0_moved_0 : cX0_moved.data.toList.drop 0 = dktX0_moved_0 := by decide +kernel
theorem dksX0_moved_1 : cX0_moved.data.toList.drop 24 = dktX0_moved_1 := dk_seg dksX0_moved_0 24 rfl rfl
theorem dksX0_moved_2 : cX0_moved.data.toList.drop 47 = dktX0_moved_2 := dk_seg dksX0_moved_1 23 rfl rfl
theorem dX0_moved_0 : decode cX0_moved 0 = .ok (.iconst 0, 1) := dk_3 (dk_at dksX0_moved_0 0 rfl rfl)
theorem dX0_moved_1 : decode cX0_moved 1 = .ok (.istore_n 1, 1) := dk_60 (dk_at dksX0_moved_0 1 rfl rfl)
theorem dX0_moved_2 : decode cX0_moved 2 = .ok (.iconst 0, 1) := dk_3 (dk_at dksX0_moved_0 2 rfl rfl)
theorem dX0_moved_3 : decode cX0_moved 3 = .ok (.istore_n 2, 1) := dk_61 (dk_at dksX0_moved_0 3 rfl rfl)
theorem dX0_moved_4 : decode cX0_moved 4 = .ok (.iload_n 2, 1) := dk_28 (dk_at dksX0_moved_0 4 rfl rfl)
theorem dX0_moved_5 : decode cX0_moved 5 = .ok (.aload_n 0, 1) := dk_42 (dk_at dksX0_moved_0 5 rfl rfl)
theorem dX0_moved_6 : decode cX0_moved 6 = .ok (.getfield 130, 3) := dk_180 0 130 (dk_at dksX0_moved_0 6 rfl rfl)
theorem dX0_moved_9 : decode cX0_moved 9 = .ok (.if_icmp .ge 41, 3) := dk_162 0 41 (dk_at dksX0_moved_0 9 rfl rfl)
theorem dX0_moved_12 : decode cX0_moved 12 = .ok (.iload_n 2, 1) := dk_28 (dk_at dksX0_moved_0 12 rfl rfl)
theorem dX0_moved_13 : decode cX0_moved 13 = .ok (.aload_n 0, 1) := dk_42 (dk_at dksX0_moved_0 13 rfl rfl)
theorem dX0_moved_14 : decode cX0_moved 14 = .ok (.getfield 309, 3) := dk_180 1 53 (dk_at dksX0_moved_0 14 rfl rfl)
theorem dX0_moved_17 : decode cX0_moved 17 = .ok (.getfield 313, 3) := dk_180 1 57 (dk_at dksX0_moved_0 17 rfl rfl)
theorem dX0_moved_20 : decode cX0_moved 20 = .ok (.if_icmp .ge 21, 3) := dk_162 0 21 (dk_at dksX0_moved_0 20 rfl rfl)
theorem dX0_moved_23 : decode cX0_moved 23 = .ok (.aload_n 0, 1) := dk_42 (dk_at dksX0_moved_0 23 rfl rfl)
theorem dX0_moved_24 : decode cX0_moved 24 = .ok (.getfield 309, 3) := dk_180 1 53 (dk_at dksX0_moved_1 0 rfl rfl)
theorem dX0_moved_27 : decode cX0_moved 27 = .ok (.getfield 314, 3) := dk_180 1 58 (dk_at dksX0_moved_1 3 rfl rfl)
theorem dX0_moved_30 : decode cX0_moved 30 = .ok (.iload_n 2, 1) := dk_28 (dk_at dksX0_moved_1 6 rfl rfl)
theorem dX0_moved_31 : decode cX0_moved 31 = .ok (.baload, 1) := dk_51 (dk_at dksX0_moved_1 7 rfl rfl)
theorem dX0_moved_32 : decode cX0_moved 32 = .ok (.aload_n 0, 1) := dk_42 (dk_at dksX0_moved_1 8 rfl rfl)
theorem dX0_moved_33 : decode cX0_moved 33 = .ok (.getfield 71, 3) := dk_180 0 71 (dk_at dksX0_moved_1 9 rfl rfl)
theorem dX0_moved_36 : decode cX0_moved 36 = .ok (.iload_n 2, 1) := dk_28 (dk_at dksX0_moved_1 12 rfl rfl)
theorem dX0_moved_37 : decode cX0_moved 37 = .ok (.baload, 1) := dk_51 (dk_at dksX0_moved_1 13 rfl rfl)
theorem dX0_moved_38 : decode cX0_moved 38 = .ok (.if_icmp .eq 6, 3) := dk_159 0 6 (dk_at dksX0_moved_1 14 rfl rfl)
theorem dX0_moved_41 : decode cX0_moved 41 = .ok (.iinc 1 1, 3) := dk_132 1 1 (dk_at dksX0_moved_1 17 rfl rfl)
theorem dX0_moved_44 : decode cX0_moved 44 = .ok (.iinc 2 1, 3) := dk_132 2 1 (dk_at dksX0_moved_1 20 rfl rfl)
theorem dX0_moved_47 : decode cX0_moved 47 = .ok (.goto (-43), 3) := dk_167 255 213 (dk_at dksX0_moved_2 0 rfl rfl)
theorem dX0_moved_50 : decode cX0_moved 50 = .ok (.iload_n 1, 1) := dk_27 (dk_at dksX0_moved_2 3 rfl rfl)
theorem dX0_moved_51 : decode cX0_moved 51 = .ok (.ireturn, 1) := dk_172 (dk_at dksX0_moved_2 4 rfl rfl)
abbrev cX0_barsAhead : ByteArray := prog_1_method_34_code
def yX0_barsAhead : MethodName := ⟨RX0, "barsAhead", "(I)Z"⟩
def dkwX0_barsAhead_1 : List UInt8 := [182, 0, 247, 153, 0, 5, 4, 172, 132, 2, 1, 167, 255, 225, 3, 172]
abbrev dktX0_barsAhead_1 : List UInt8 := dkwX0_barsAhead_1 ++ []
def dkwX0_barsAhead_0 : List UInt8 := [3, 61, 28, 27, 163, 0, 32, 42, 180, 1, 14, 28, 122, 4, 126, 4, 160, 0, 14, 42, 28, 27]
abbrev dktX0_barsAhead_0 : List UInt8 := dkwX0_barsAhead_0 ++ dktX0_barsAhead_1
theorem dksX0_barsAhead_0 : cX0_barsAhead.data.toList.drop 0 = dktX0_barsAhead_0 := by decide +kernel
theorem dksX0_barsAhead_1 : cX0_barsAhead.data.toList.drop 22 = dktX0_barsAhead_1 := dk_seg dksX0_barsAhead_0 22 rfl rfl
theorem dX0_barsAhead_0 : decode cX0_barsAhead 0 = .ok (.iconst 0, 1) := dk_3 (dk_at dksX0_barsAhead_0 0 rfl rfl)
theorem dX0_barsAhead_1 : decode cX0_barsAhead 1 = .ok (.istore_n 2, 1) := dk_61 (dk_at dksX0_barsAhead_0 1 rfl rfl)
theorem dX0_barsAhead_2 : decode cX0_barsAhead 2 = .ok (.iload_n 2, 1) := dk_28 (dk_at dksX0_barsAhead_0 2 rfl rfl)
theorem dX0_barsAhead_3 : decode cX0_barsAhead 3 = .ok (.iload_n 1, 1) := dk_27 (dk_at dksX0_barsAhead_0 3 rfl rfl)
theorem dX0_barsAhead_4 : decode cX0_barsAhead 4 = .ok (.if_icmp .gt 32, 3) := dk_163 0 32 (dk_at dksX0_barsAhead_0 4 rfl rfl)
theorem dX0_barsAhead_7 : decode cX0_barsAhead 7 = .ok (.aload_n 0, 1) := dk_42 (dk_at dksX0_barsAhead_0 7 rfl rfl)
theorem dX0_barsAhead_8 : decode cX0_barsAhead 8 = .ok (.getfield 270, 3) := dk_180 1 14 (dk_at dksX0_barsAhead_0 8 rfl rfl)
theorem dX0_barsAhead_11 : decode cX0_barsAhead 11 = .ok (.iload_n 2, 1) := dk_28 (dk_at dksX0_barsAhead_0 11 rfl rfl)
theorem dX0_barsAhead_12 : decode cX0_barsAhead 12 = .ok (.ishr, 1) := dk_122 (dk_at dksX0_barsAhead_0 12 rfl rfl)
theorem dX0_barsAhead_13 : decode cX0_barsAhead 13 = .ok (.iconst 1, 1) := dk_4 (dk_at dksX0_barsAhead_0 13 rfl rfl)
theorem dX0_barsAhead_14 : decode cX0_barsAhead 14 = .ok (.iand, 1) := dk_126 (dk_at dksX0_barsAhead_0 14 rfl rfl)
theorem dX0_barsAhead_15 : decode cX0_barsAhead 15 = .ok (.iconst 1, 1) := dk_4 (dk_at dksX0_barsAhead_0 15 rfl rfl)
theorem dX0_barsAhead_16 : decode cX0_barsAhead 16 = .ok (.if_icmp .ne 14, 3) := dk_160 0 14 (dk_at dksX0_barsAhead_0 16 rfl rfl)
theorem dX0_barsAhead_19 : decode cX0_barsAhead 19 = .ok (.aload_n 0, 1) := dk_42 (dk_at dksX0_barsAhead_0 19 rfl rfl)
theorem dX0_barsAhead_20 : decode cX0_barsAhead 20 = .ok (.iload_n 2, 1) := dk_28 (dk_at dksX0_barsAhead_0 20 rfl rfl)
theorem dX0_barsAhead_21 : decode cX0_barsAhead 21 = .ok (.iload_n 1, 1) := dk_27 (dk_at dksX0_barsAhead_0 21 rfl rfl)
theorem dX0_barsAhead_22 : decode cX0_barsAhead 22 = .ok (.invokevirtual 247, 3) := dk_182 0 247 (dk_at dksX0_barsAhead_1 0 rfl rfl)
theorem dX0_barsAhead_25 : decode cX0_barsAhead 25 = .ok (.ifCond .eq 5, 3) := dk_153 0 5 (dk_at dksX0_barsAhead_1 3 rfl rfl)
theorem dX0_barsAhead_28 : decode cX0_barsAhead 28 = .ok (.iconst 1, 1) := dk_4 (dk_at dksX0_barsAhead_1 6 rfl rfl)
theorem dX0_barsAhead_29 : decode cX0_barsAhead 29 = .ok (.ireturn, 1) := dk_172 (dk_at dksX0_barsAhead_1 7 rfl rfl)
theorem dX0_barsAhead_30 : decode cX0_barsAhead 30 = .ok (.iinc 2 1, 3) := dk_132 2 1 (dk_at dksX0_barsAhead_1 8 rfl rfl)
theorem dX0_barsAhead_33 : decode cX0_barsAhead 33 = .ok (.goto (-31), 3) := dk_167 255 225 (dk_at dksX0_barsAhead_1 11 rfl rfl)
theorem dX0_barsAhead_36 : decode cX0_barsAhead 36 = .ok (.iconst 0, 1) := dk_3 (dk_at dksX0_barsAhead_1 14 rfl rfl)
theorem dX0_barsAhead_37 : decode cX0_barsAhead 37 = .ok (.ireturn, 1) := dk_172 (dk_at dksX0_barsAhead_1 15 rfl rfl)
abbrev cX0_find : ByteArray := prog_1_method_43_code
def yX0_find : MethodName := ⟨RX0, "find", "(II)J"⟩
def dkwX0_find_6 : List UInt8 := [180, 1, 43, 167, 0, 8, 42, 180, 1, 43, 117, 173]
abbrev dktX0_find_6 : List UInt8 := dkwX0_find_6 ++ []
def dkwX0_find_5 : List UInt8 := [167, 0, 33, 27, 4, 160, 0, 11, 42, 180, 1, 26, 133, 167, 0, 20, 27, 5, 160, 0, 10, 42]
abbrev dktX0_find_5 : List UInt8 := dkwX0_find_5 ++ dktX0_find_6
def dkwX0_find_4 : List UInt8 := [3, 16, 6, 184, 1, 47, 42, 42, 180, 0, 130, 181, 1, 86, 42, 180, 1, 40, 154, 0, 9, 20, 1, 89]
abbrev dktX0_find_4 : List UInt8 := dkwX0_find_4 ++ dktX0_find_5
def dkwX0_find_3 : List UInt8 := [180, 1, 40, 4, 160, 0, 7, 4, 167, 0, 4, 3, 181, 1, 82, 42, 180, 0, 75, 3, 42, 180, 0, 81]
abbrev dktX0_find_3 : List UInt8 := dkwX0_find_3 ++ dktX0_find_4
def dkwX0_find_2 : List UInt8 := [181, 1, 53, 27, 5, 160, 0, 7, 42, 182, 1, 79, 42, 42, 182, 1, 70, 27, 182, 1, 73, 42, 42]
abbrev dktX0_find_2 : List UInt8 := dkwX0_find_2 ++ dktX0_find_3
def dkwX0_find_1 : List UInt8 := [154, 0, 7, 20, 0, 188, 173, 27, 6, 160, 0, 18, 42, 42, 180, 0, 61, 28, 182, 0, 236, 192, 0, 1]
abbrev dktX0_find_1 : List UInt8 := dkwX0_find_1 ++ dktX0_find_2
def dkwX0_find_0 : List UInt8 := [27, 133, 10, 20, 1, 77, 184, 0, 133, 153, 0, 16, 27, 6, 160, 0, 15, 42, 28, 182, 0, 233]
abbrev dktX0_find_0 : List UInt8 := dkwX0_find_0 ++ dktX0_find_1
theorem dksX0_find_0 : cX0_find.data.toList.drop 0 = dktX0_find_0 := by decide +kernel
theorem dksX0_find_1 : cX0_find.data.toList.drop 22 = dktX0_find_1 := dk_seg dksX0_find_0 22 rfl rfl
theorem dksX0_find_2 : cX0_find.data.toList.drop 46 = dktX0_find_2 := dk_seg dksX0_find_1 24 rfl rfl
theorem dksX0_find_3 : cX0_find.data.toList.drop 69 = dktX0_find_3 := dk_seg dksX0_find_2 23 rfl rfl
theorem dksX0_find_4 : cX0_find.data.toList.drop 93 = dktX0_find_4 := dk_seg dksX0_find_3 24 rfl rfl
theorem dksX0_find_5 : cX0_find.data.toList.drop 117 = dktX0_find_5 := dk_seg dksX0_find_4 24 rfl rfl
theorem dksX0_find_6 : cX0_find.data.toList.drop 139 = dktX0_find_6 := dk_seg dksX0_find_5 22 rfl rfl
theorem dX0_find_0 : decode cX0_find 0 = .ok (.iload_n 1, 1) := dk_27 (dk_at dksX0_find_0 0 rfl rfl)
theorem dX0_find_1 : decode cX0_find 1 = .ok (.i2l, 1) := dk_133 (dk_at dksX0_find_0 1 rfl rfl)
theorem dX0_find_2 : decode cX0_find 2 = .ok (.lconst 1, 1) := dk_10 (dk_at dksX0_find_0 2 rfl rfl)
theorem dX0_find_3 : decode cX0_find 3 = .ok (.ldc2_w 333, 3) := dk_20 1 77 (dk_at dksX0_find_0 3 rfl rfl)
theorem dX0_find_6 : decode cX0_find 6 = .ok (.invokestatic 133, 3) := dk_184 0 133 (dk_at dksX0_find_0 6 rfl rfl)
theorem dX0_find_9 : decode cX0_find 9 = .ok (.ifCond .eq 16, 3) := dk_153 0 16 (dk_at dksX0_find_0 9 rfl rfl)
theorem dX0_find_12 : decode cX0_find 12 = .ok (.iload_n 1, 1) := dk_27 (dk_at dksX0_find_0 12 rfl rfl)
theorem dX0_find_13 : decode cX0_find 13 = .ok (.iconst 3, 1) := dk_6 (dk_at dksX0_find_0 13 rfl rfl)
theorem dX0_find_14 : decode cX0_find 14 = .ok (.if_icmp .ne 15, 3) := dk_160 0 15 (dk_at dksX0_find_0 14 rfl rfl)
theorem dX0_find_17 : decode cX0_find 17 = .ok (.aload_n 0, 1) := dk_42 (dk_at dksX0_find_0 17 rfl rfl)
theorem dX0_find_18 : decode cX0_find 18 = .ok (.iload_n 2, 1) := dk_28 (dk_at dksX0_find_0 18 rfl rfl)
theorem dX0_find_19 : decode cX0_find 19 = .ok (.invokevirtual 233, 3) := dk_182 0 233 (dk_at dksX0_find_0 19 rfl rfl)
theorem dX0_find_22 : decode cX0_find 22 = .ok (.ifCond .ne 7, 3) := dk_154 0 7 (dk_at dksX0_find_1 0 rfl rfl)
theorem dX0_find_25 : decode cX0_find 25 = .ok (.ldc2_w 188, 3) := dk_20 0 188 (dk_at dksX0_find_1 3 rfl rfl)
theorem dX0_find_28 : decode cX0_find 28 = .ok (.lreturn, 1) := dk_173 (dk_at dksX0_find_1 6 rfl rfl)
theorem dX0_find_29 : decode cX0_find 29 = .ok (.iload_n 1, 1) := dk_27 (dk_at dksX0_find_1 7 rfl rfl)
theorem dX0_find_30 : decode cX0_find 30 = .ok (.iconst 3, 1) := dk_6 (dk_at dksX0_find_1 8 rfl rfl)
theorem dX0_find_31 : decode cX0_find 31 = .ok (.if_icmp .ne 18, 3) := dk_160 0 18 (dk_at dksX0_find_1 9 rfl rfl)
theorem dX0_find_34 : decode cX0_find 34 = .ok (.aload_n 0, 1) := dk_42 (dk_at dksX0_find_1 12 rfl rfl)
theorem dX0_find_35 : decode cX0_find 35 = .ok (.aload_n 0, 1) := dk_42 (dk_at dksX0_find_1 13 rfl rfl)
theorem dX0_find_36 : decode cX0_find 36 = .ok (.getfield 61, 3) := dk_180 0 61 (dk_at dksX0_find_1 14 rfl rfl)
theorem dX0_find_39 : decode cX0_find 39 = .ok (.iload_n 2, 1) := dk_28 (dk_at dksX0_find_1 17 rfl rfl)
theorem dX0_find_40 : decode cX0_find 40 = .ok (.invokevirtual 236, 3) := dk_182 0 236 (dk_at dksX0_find_1 18 rfl rfl)
theorem dX0_find_43 : decode cX0_find 43 = .ok (.checkcast 1, 3) := dk_192 0 1 (dk_at dksX0_find_1 21 rfl rfl)
theorem dX0_find_46 : decode cX0_find 46 = .ok (.putfield 309, 3) := dk_181 1 53 (dk_at dksX0_find_2 0 rfl rfl)
theorem dX0_find_49 : decode cX0_find 49 = .ok (.iload_n 1, 1) := dk_27 (dk_at dksX0_find_2 3 rfl rfl)
theorem dX0_find_50 : decode cX0_find 50 = .ok (.iconst 2, 1) := dk_5 (dk_at dksX0_find_2 4 rfl rfl)
theorem dX0_find_51 : decode cX0_find 51 = .ok (.if_icmp .ne 7, 3) := dk_160 0 7 (dk_at dksX0_find_2 5 rfl rfl)
theorem dX0_find_54 : decode cX0_find 54 = .ok (.aload_n 0, 1) := dk_42 (dk_at dksX0_find_2 8 rfl rfl)
theorem dX0_find_55 : decode cX0_find 55 = .ok (.invokevirtual 335, 3) := dk_182 1 79 (dk_at dksX0_find_2 9 rfl rfl)
theorem dX0_find_58 : decode cX0_find 58 = .ok (.aload_n 0, 1) := dk_42 (dk_at dksX0_find_2 12 rfl rfl)
theorem dX0_find_59 : decode cX0_find 59 = .ok (.aload_n 0, 1) := dk_42 (dk_at dksX0_find_2 13 rfl rfl)
theorem dX0_find_60 : decode cX0_find 60 = .ok (.invokevirtual 326, 3) := dk_182 1 70 (dk_at dksX0_find_2 14 rfl rfl)
theorem dX0_find_63 : decode cX0_find 63 = .ok (.iload_n 1, 1) := dk_27 (dk_at dksX0_find_2 17 rfl rfl)
theorem dX0_find_64 : decode cX0_find 64 = .ok (.invokevirtual 329, 3) := dk_182 1 73 (dk_at dksX0_find_2 18 rfl rfl)
theorem dX0_find_67 : decode cX0_find 67 = .ok (.aload_n 0, 1) := dk_42 (dk_at dksX0_find_2 21 rfl rfl)
theorem dX0_find_68 : decode cX0_find 68 = .ok (.aload_n 0, 1) := dk_42 (dk_at dksX0_find_2 22 rfl rfl)
theorem dX0_find_69 : decode cX0_find 69 = .ok (.getfield 296, 3) := dk_180 1 40 (dk_at dksX0_find_3 0 rfl rfl)
theorem dX0_find_72 : decode cX0_find 72 = .ok (.iconst 1, 1) := dk_4 (dk_at dksX0_find_3 3 rfl rfl)
theorem dX0_find_73 : decode cX0_find 73 = .ok (.if_icmp .ne 7, 3) := dk_160 0 7 (dk_at dksX0_find_3 4 rfl rfl)
theorem dX0_find_76 : decode cX0_find 76 = .ok (.iconst 1, 1) := dk_4 (dk_at dksX0_find_3 7 rfl rfl)
theorem dX0_find_77 : decode cX0_find 77 = .ok (.goto 4, 3) := dk_167 0 4 (dk_at dksX0_find_3 8 rfl rfl)
theorem dX0_find_80 : decode cX0_find 80 = .ok (.iconst 0, 1) := dk_3 (dk_at dksX0_find_3 11 rfl rfl)
theorem dX0_find_81 : decode cX0_find 81 = .ok (.putfield 338, 3) := dk_181 1 82 (dk_at dksX0_find_3 12 rfl rfl)
theorem dX0_find_84 : decode cX0_find 84 = .ok (.aload_n 0, 1) := dk_42 (dk_at dksX0_find_3 15 rfl rfl)
theorem dX0_find_85 : decode cX0_find 85 = .ok (.getfield 75, 3) := dk_180 0 75 (dk_at dksX0_find_3 16 rfl rfl)
theorem dX0_find_88 : decode cX0_find 88 = .ok (.iconst 0, 1) := dk_3 (dk_at dksX0_find_3 19 rfl rfl)
theorem dX0_find_89 : decode cX0_find 89 = .ok (.aload_n 0, 1) := dk_42 (dk_at dksX0_find_3 20 rfl rfl)
theorem dX0_find_90 : decode cX0_find 90 = .ok (.getfield 81, 3) := dk_180 0 81 (dk_at dksX0_find_3 21 rfl rfl)
theorem dX0_find_93 : decode cX0_find 93 = .ok (.iconst 0, 1) := dk_3 (dk_at dksX0_find_4 0 rfl rfl)
theorem dX0_find_94 : decode cX0_find 94 = .ok (.bipush 6, 2) := dk_16 6 (dk_at dksX0_find_4 1 rfl rfl)
theorem dX0_find_96 : decode cX0_find 96 = .ok (.invokestatic 303, 3) := dk_184 1 47 (dk_at dksX0_find_4 3 rfl rfl)
theorem dX0_find_99 : decode cX0_find 99 = .ok (.aload_n 0, 1) := dk_42 (dk_at dksX0_find_4 6 rfl rfl)
theorem dX0_find_100 : decode cX0_find 100 = .ok (.aload_n 0, 1) := dk_42 (dk_at dksX0_find_4 7 rfl rfl)
theorem dX0_find_101 : decode cX0_find 101 = .ok (.getfield 130, 3) := dk_180 0 130 (dk_at dksX0_find_4 8 rfl rfl)
theorem dX0_find_104 : decode cX0_find 104 = .ok (.putfield 342, 3) := dk_181 1 86 (dk_at dksX0_find_4 11 rfl rfl)
theorem dX0_find_107 : decode cX0_find 107 = .ok (.aload_n 0, 1) := dk_42 (dk_at dksX0_find_4 14 rfl rfl)
theorem dX0_find_108 : decode cX0_find 108 = .ok (.getfield 296, 3) := dk_180 1 40 (dk_at dksX0_find_4 15 rfl rfl)
theorem dX0_find_111 : decode cX0_find 111 = .ok (.ifCond .ne 9, 3) := dk_154 0 9 (dk_at dksX0_find_4 18 rfl rfl)
theorem dX0_find_114 : decode cX0_find 114 = .ok (.ldc2_w 345, 3) := dk_20 1 89 (dk_at dksX0_find_4 21 rfl rfl)
theorem dX0_find_117 : decode cX0_find 117 = .ok (.goto 33, 3) := dk_167 0 33 (dk_at dksX0_find_5 0 rfl rfl)
theorem dX0_find_120 : decode cX0_find 120 = .ok (.iload_n 1, 1) := dk_27 (dk_at dksX0_find_5 3 rfl rfl)
theorem dX0_find_121 : decode cX0_find 121 = .ok (.iconst 1, 1) := dk_4 (dk_at dksX0_find_5 4 rfl rfl)
theorem dX0_find_122 : decode cX0_find 122 = .ok (.if_icmp .ne 11, 3) := dk_160 0 11 (dk_at dksX0_find_5 5 rfl rfl)
theorem dX0_find_125 : decode cX0_find 125 = .ok (.aload_n 0, 1) := dk_42 (dk_at dksX0_find_5 8 rfl rfl)
theorem dX0_find_126 : decode cX0_find 126 = .ok (.getfield 282, 3) := dk_180 1 26 (dk_at dksX0_find_5 9 rfl rfl)
theorem dX0_find_129 : decode cX0_find 129 = .ok (.i2l, 1) := dk_133 (dk_at dksX0_find_5 12 rfl rfl)
theorem dX0_find_130 : decode cX0_find 130 = .ok (.goto 20, 3) := dk_167 0 20 (dk_at dksX0_find_5 13 rfl rfl)
theorem dX0_find_133 : decode cX0_find 133 = .ok (.iload_n 1, 1) := dk_27 (dk_at dksX0_find_5 16 rfl rfl)
theorem dX0_find_134 : decode cX0_find 134 = .ok (.iconst 2, 1) := dk_5 (dk_at dksX0_find_5 17 rfl rfl)
theorem dX0_find_135 : decode cX0_find 135 = .ok (.if_icmp .ne 10, 3) := dk_160 0 10 (dk_at dksX0_find_5 18 rfl rfl)
theorem dX0_find_138 : decode cX0_find 138 = .ok (.aload_n 0, 1) := dk_42 (dk_at dksX0_find_5 21 rfl rfl)
theorem dX0_find_139 : decode cX0_find 139 = .ok (.getfield 299, 3) := dk_180 1 43 (dk_at dksX0_find_6 0 rfl rfl)
theorem dX0_find_142 : decode cX0_find 142 = .ok (.goto 8, 3) := dk_167 0 8 (dk_at dksX0_find_6 3 rfl rfl)
theorem dX0_find_145 : decode cX0_find 145 = .ok (.aload_n 0, 1) := dk_42 (dk_at dksX0_find_6 6 rfl rfl)
theorem dX0_find_146 : decode cX0_find 146 = .ok (.getfield 299, 3) := dk_180 1 43 (dk_at dksX0_find_6 7 rfl rfl)
theorem dX0_find_149 : decode cX0_find 149 = .ok (.lneg, 1) := dk_117 (dk_at dksX0_find_6 10 rfl rfl)
theorem dX0_find_150 : decode cX0_find 150 = .ok (.lreturn, 1) := dk_173 (dk_at dksX0_find_6 11 rfl rfl)
abbrev cX0_lays : ByteArray := prog_1_method_38_code
def yX0_lays : MethodName := ⟨RX0, "lays", "()V"⟩
def dkwX0_lays_5 : List UInt8 := [177]
abbrev dktX0_lays_5 : List UInt8 := dkwX0_lays_5 ++ []
def dkwX0_lays_4 : List UInt8 := [132, 4, 1, 167, 255, 192, 132, 3, 1, 167, 255, 175, 132, 2, 1, 167, 255, 159, 132, 1, 1, 167, 255, 143]
abbrev dktX0_lays_4 : List UInt8 := dkwX0_lays_4 ++ dktX0_lays_5
def dkwX0_lays_3 : List UInt8 := [16, 99, 167, 0, 14, 42, 180, 0, 45, 16, 6, 27, 104, 29, 96, 46, 21, 4, 182, 0, 193, 79]
abbrev dktX0_lays_3 : List UInt8 := dkwX0_lays_3 ++ dktX0_lays_4
def dkwX0_lays_2 : List UInt8 := [28, 96, 16, 7, 104, 29, 96, 16, 6, 104, 21, 4, 96, 42, 27, 28, 29, 42, 180, 0, 130, 160, 0, 8]
abbrev dktX0_lays_2 : List UInt8 := dkwX0_lays_2 ++ dktX0_lays_3
def dkwX0_lays_1 : List UInt8 := [180, 0, 130, 163, 0, 79, 3, 54, 4, 21, 4, 16, 6, 162, 0, 63, 42, 180, 0, 78, 27, 16, 7, 104]
abbrev dktX0_lays_1 : List UInt8 := dkwX0_lays_1 ++ dktX0_lays_2
def dkwX0_lays_0 : List UInt8 := [3, 60, 27, 42, 180, 0, 130, 162, 0, 111, 3, 61, 28, 42, 180, 0, 48, 162, 0, 95, 3, 62, 29, 42]
abbrev dktX0_lays_0 : List UInt8 := dkwX0_lays_0 ++ dktX0_lays_1
theorem dksX0_lays_0 : cX0_lays.data.toList.drop 0 = dktX0_lays_0 := by decide +kernel
theorem dksX0_lays_1 : cX0_lays.data.toList.drop 24 = dktX0_lays_1 := dk_seg dksX0_lays_0 24 rfl rfl
theorem dksX0_lays_2 : cX0_lays.data.toList.drop 48 = dktX0_lays_2 := dk_seg dksX0_lays_1 24 rfl rfl
theorem dksX0_lays_3 : cX0_lays.data.toList.drop 72 = dktX0_lays_3 := dk_seg dksX0_lays_2 24 rfl rfl
theorem dksX0_lays_4 : cX0_lays.data.toList.drop 94 = dktX0_lays_4 := dk_seg dksX0_lays_3 22 rfl rfl
theorem dksX0_lays_5 : cX0_lays.data.toList.drop 118 = dktX0_lays_5 := dk_seg dksX0_lays_4 24 rfl rfl
theorem dX0_lays_0 : decode cX0_lays 0 = .ok (.iconst 0, 1) := dk_3 (dk_at dksX0_lays_0 0 rfl rfl)
theorem dX0_lays_1 : decode cX0_lays 1 = .ok (.istore_n 1, 1) := dk_60 (dk_at dksX0_lays_0 1 rfl rfl)
theorem dX0_lays_2 : decode cX0_lays 2 = .ok (.iload_n 1, 1) := dk_27 (dk_at dksX0_lays_0 2 rfl rfl)
theorem dX0_lays_3 : decode cX0_lays 3 = .ok (.aload_n 0, 1) := dk_42 (dk_at dksX0_lays_0 3 rfl rfl)
theorem dX0_lays_4 : decode cX0_lays 4 = .ok (.getfield 130, 3) := dk_180 0 130 (dk_at dksX0_lays_0 4 rfl rfl)
theorem dX0_lays_7 : decode cX0_lays 7 = .ok (.if_icmp .ge 111, 3) := dk_162 0 111 (dk_at dksX0_lays_0 7 rfl rfl)
theorem dX0_lays_10 : decode cX0_lays 10 = .ok (.iconst 0, 1) := dk_3 (dk_at dksX0_lays_0 10 rfl rfl)
theorem dX0_lays_11 : decode cX0_lays 11 = .ok (.istore_n 2, 1) := dk_61 (dk_at dksX0_lays_0 11 rfl rfl)
theorem dX0_lays_12 : decode cX0_lays 12 = .ok (.iload_n 2, 1) := dk_28 (dk_at dksX0_lays_0 12 rfl rfl)
theorem dX0_lays_13 : decode cX0_lays 13 = .ok (.aload_n 0, 1) := dk_42 (dk_at dksX0_lays_0 13 rfl rfl)
theorem dX0_lays_14 : decode cX0_lays 14 = .ok (.getfield 48, 3) := dk_180 0 48 (dk_at dksX0_lays_0 14 rfl rfl)
theorem dX0_lays_17 : decode cX0_lays 17 = .ok (.if_icmp .ge 95, 3) := dk_162 0 95 (dk_at dksX0_lays_0 17 rfl rfl)
theorem dX0_lays_20 : decode cX0_lays 20 = .ok (.iconst 0, 1) := dk_3 (dk_at dksX0_lays_0 20 rfl rfl)
theorem dX0_lays_21 : decode cX0_lays 21 = .ok (.istore_n 3, 1) := dk_62 (dk_at dksX0_lays_0 21 rfl rfl)
theorem dX0_lays_22 : decode cX0_lays 22 = .ok (.iload_n 3, 1) := dk_29 (dk_at dksX0_lays_0 22 rfl rfl)
theorem dX0_lays_23 : decode cX0_lays 23 = .ok (.aload_n 0, 1) := dk_42 (dk_at dksX0_lays_0 23 rfl rfl)
theorem dX0_lays_24 : decode cX0_lays 24 = .ok (.getfield 130, 3) := dk_180 0 130 (dk_at dksX0_lays_1 0 rfl rfl)
theorem dX0_lays_27 : decode cX0_lays 27 = .ok (.if_icmp .gt 79, 3) := dk_163 0 79 (dk_at dksX0_lays_1 3 rfl rfl)
theorem dX0_lays_30 : decode cX0_lays 30 = .ok (.iconst 0, 1) := dk_3 (dk_at dksX0_lays_1 6 rfl rfl)
theorem dX0_lays_31 : decode cX0_lays 31 = .ok (.istore 4, 2) := dk_54 4 (dk_at dksX0_lays_1 7 rfl rfl)
theorem dX0_lays_33 : decode cX0_lays 33 = .ok (.iload 4, 2) := dk_21 4 (dk_at dksX0_lays_1 9 rfl rfl)
theorem dX0_lays_35 : decode cX0_lays 35 = .ok (.bipush 6, 2) := dk_16 6 (dk_at dksX0_lays_1 11 rfl rfl)
theorem dX0_lays_37 : decode cX0_lays 37 = .ok (.if_icmp .ge 63, 3) := dk_162 0 63 (dk_at dksX0_lays_1 13 rfl rfl)
theorem dX0_lays_40 : decode cX0_lays 40 = .ok (.aload_n 0, 1) := dk_42 (dk_at dksX0_lays_1 16 rfl rfl)
theorem dX0_lays_41 : decode cX0_lays 41 = .ok (.getfield 78, 3) := dk_180 0 78 (dk_at dksX0_lays_1 17 rfl rfl)
theorem dX0_lays_44 : decode cX0_lays 44 = .ok (.iload_n 1, 1) := dk_27 (dk_at dksX0_lays_1 20 rfl rfl)
theorem dX0_lays_45 : decode cX0_lays 45 = .ok (.bipush 7, 2) := dk_16 7 (dk_at dksX0_lays_1 21 rfl rfl)
theorem dX0_lays_47 : decode cX0_lays 47 = .ok (.imul, 1) := dk_104 (dk_at dksX0_lays_1 23 rfl rfl)
theorem dX0_lays_48 : decode cX0_lays 48 = .ok (.iload_n 2, 1) := dk_28 (dk_at dksX0_lays_2 0 rfl rfl)
theorem dX0_lays_49 : decode cX0_lays 49 = .ok (.iadd, 1) := dk_96 (dk_at dksX0_lays_2 1 rfl rfl)
theorem dX0_lays_50 : decode cX0_lays 50 = .ok (.bipush 7, 2) := dk_16 7 (dk_at dksX0_lays_2 2 rfl rfl)
theorem dX0_lays_52 : decode cX0_lays 52 = .ok (.imul, 1) := dk_104 (dk_at dksX0_lays_2 4 rfl rfl)
theorem dX0_lays_53 : decode cX0_lays 53 = .ok (.iload_n 3, 1) := dk_29 (dk_at dksX0_lays_2 5 rfl rfl)
theorem dX0_lays_54 : decode cX0_lays 54 = .ok (.iadd, 1) := dk_96 (dk_at dksX0_lays_2 6 rfl rfl)
theorem dX0_lays_55 : decode cX0_lays 55 = .ok (.bipush 6, 2) := dk_16 6 (dk_at dksX0_lays_2 7 rfl rfl)
theorem dX0_lays_57 : decode cX0_lays 57 = .ok (.imul, 1) := dk_104 (dk_at dksX0_lays_2 9 rfl rfl)
theorem dX0_lays_58 : decode cX0_lays 58 = .ok (.iload 4, 2) := dk_21 4 (dk_at dksX0_lays_2 10 rfl rfl)
theorem dX0_lays_60 : decode cX0_lays 60 = .ok (.iadd, 1) := dk_96 (dk_at dksX0_lays_2 12 rfl rfl)
theorem dX0_lays_61 : decode cX0_lays 61 = .ok (.aload_n 0, 1) := dk_42 (dk_at dksX0_lays_2 13 rfl rfl)
theorem dX0_lays_62 : decode cX0_lays 62 = .ok (.iload_n 1, 1) := dk_27 (dk_at dksX0_lays_2 14 rfl rfl)
theorem dX0_lays_63 : decode cX0_lays 63 = .ok (.iload_n 2, 1) := dk_28 (dk_at dksX0_lays_2 15 rfl rfl)
theorem dX0_lays_64 : decode cX0_lays 64 = .ok (.iload_n 3, 1) := dk_29 (dk_at dksX0_lays_2 16 rfl rfl)
theorem dX0_lays_65 : decode cX0_lays 65 = .ok (.aload_n 0, 1) := dk_42 (dk_at dksX0_lays_2 17 rfl rfl)
theorem dX0_lays_66 : decode cX0_lays 66 = .ok (.getfield 130, 3) := dk_180 0 130 (dk_at dksX0_lays_2 18 rfl rfl)
theorem dX0_lays_69 : decode cX0_lays 69 = .ok (.if_icmp .ne 8, 3) := dk_160 0 8 (dk_at dksX0_lays_2 21 rfl rfl)
theorem dX0_lays_72 : decode cX0_lays 72 = .ok (.bipush 99, 2) := dk_16 99 (dk_at dksX0_lays_3 0 rfl rfl)
theorem dX0_lays_74 : decode cX0_lays 74 = .ok (.goto 14, 3) := dk_167 0 14 (dk_at dksX0_lays_3 2 rfl rfl)
theorem dX0_lays_77 : decode cX0_lays 77 = .ok (.aload_n 0, 1) := dk_42 (dk_at dksX0_lays_3 5 rfl rfl)
theorem dX0_lays_78 : decode cX0_lays 78 = .ok (.getfield 45, 3) := dk_180 0 45 (dk_at dksX0_lays_3 6 rfl rfl)
theorem dX0_lays_81 : decode cX0_lays 81 = .ok (.bipush 6, 2) := dk_16 6 (dk_at dksX0_lays_3 9 rfl rfl)
theorem dX0_lays_83 : decode cX0_lays 83 = .ok (.iload_n 1, 1) := dk_27 (dk_at dksX0_lays_3 11 rfl rfl)
theorem dX0_lays_84 : decode cX0_lays 84 = .ok (.imul, 1) := dk_104 (dk_at dksX0_lays_3 12 rfl rfl)
theorem dX0_lays_85 : decode cX0_lays 85 = .ok (.iload_n 3, 1) := dk_29 (dk_at dksX0_lays_3 13 rfl rfl)
theorem dX0_lays_86 : decode cX0_lays 86 = .ok (.iadd, 1) := dk_96 (dk_at dksX0_lays_3 14 rfl rfl)
theorem dX0_lays_87 : decode cX0_lays 87 = .ok (.iaload, 1) := dk_46 (dk_at dksX0_lays_3 15 rfl rfl)
theorem dX0_lays_88 : decode cX0_lays 88 = .ok (.iload 4, 2) := dk_21 4 (dk_at dksX0_lays_3 16 rfl rfl)
theorem dX0_lays_90 : decode cX0_lays 90 = .ok (.invokevirtual 193, 3) := dk_182 0 193 (dk_at dksX0_lays_3 18 rfl rfl)
theorem dX0_lays_93 : decode cX0_lays 93 = .ok (.iastore, 1) := dk_79 (dk_at dksX0_lays_3 21 rfl rfl)
theorem dX0_lays_94 : decode cX0_lays 94 = .ok (.iinc 4 1, 3) := dk_132 4 1 (dk_at dksX0_lays_4 0 rfl rfl)
theorem dX0_lays_97 : decode cX0_lays 97 = .ok (.goto (-64), 3) := dk_167 255 192 (dk_at dksX0_lays_4 3 rfl rfl)
theorem dX0_lays_100 : decode cX0_lays 100 = .ok (.iinc 3 1, 3) := dk_132 3 1 (dk_at dksX0_lays_4 6 rfl rfl)
theorem dX0_lays_103 : decode cX0_lays 103 = .ok (.goto (-81), 3) := dk_167 255 175 (dk_at dksX0_lays_4 9 rfl rfl)
theorem dX0_lays_106 : decode cX0_lays 106 = .ok (.iinc 2 1, 3) := dk_132 2 1 (dk_at dksX0_lays_4 12 rfl rfl)
theorem dX0_lays_109 : decode cX0_lays 109 = .ok (.goto (-97), 3) := dk_167 255 159 (dk_at dksX0_lays_4 15 rfl rfl)
theorem dX0_lays_112 : decode cX0_lays 112 = .ok (.iinc 1 1, 3) := dk_132 1 1 (dk_at dksX0_lays_4 18 rfl rfl)
theorem dX0_lays_115 : decode cX0_lays 115 = .ok (.goto (-113), 3) := dk_167 255 143 (dk_at dksX0_lays_4 21 rfl rfl)
theorem dX0_lays_118 : decode cX0_lays 118 = .ok (.return_, 1) := dk_177 (dk_at dksX0_lays_5 0 rfl rfl)
abbrev cX0_foundDay : ByteArray := prog_1_method_44_code
def yX0_foundDay : MethodName := ⟨RX0, "foundDay", "(I)I"⟩
def dkwX0_foundDay_1 : List UInt8 := [167, 0, 9, 42, 180, 0, 81, 27, 51, 172]
abbrev dktX0_foundDay_1 : List UInt8 := dkwX0_foundDay_1 ++ []
def dkwX0_foundDay_0 : List UInt8 := [42, 180, 1, 82, 153, 0, 19, 27, 133, 9, 42, 180, 1, 86, 4, 100, 133, 184, 0, 133, 154, 0, 7, 2]
abbrev dktX0_foundDay_0 : List UInt8 := dkwX0_foundDay_0 ++ dktX0_foundDay_1
theorem dksX0_foundDay_0 : cX0_foundDay.data.toList.drop 0 = dktX0_foundDay_0 := by decide +kernel
theorem dksX0_foundDay_1 : cX0_foundDay.data.toList.drop 24 = dktX0_foundDay_1 := dk_seg dksX0_foundDay_0 24 rfl rfl
theorem dX0_foundDay_0 : decode cX0_foundDay 0 = .ok (.aload_n 0, 1) := dk_42 (dk_at dksX0_foundDay_0 0 rfl rfl)
theorem dX0_foundDay_1 : decode cX0_foundDay 1 = .ok (.getfield 338, 3) := dk_180 1 82 (dk_at dksX0_foundDay_0 1 rfl rfl)
theorem dX0_foundDay_4 : decode cX0_foundDay 4 = .ok (.ifCond .eq 19, 3) := dk_153 0 19 (dk_at dksX0_foundDay_0 4 rfl rfl)
theorem dX0_foundDay_7 : decode cX0_foundDay 7 = .ok (.iload_n 1, 1) := dk_27 (dk_at dksX0_foundDay_0 7 rfl rfl)
theorem dX0_foundDay_8 : decode cX0_foundDay 8 = .ok (.i2l, 1) := dk_133 (dk_at dksX0_foundDay_0 8 rfl rfl)
theorem dX0_foundDay_9 : decode cX0_foundDay 9 = .ok (.lconst 0, 1) := dk_9 (dk_at dksX0_foundDay_0 9 rfl rfl)
theorem dX0_foundDay_10 : decode cX0_foundDay 10 = .ok (.aload_n 0, 1) := dk_42 (dk_at dksX0_foundDay_0 10 rfl rfl)
theorem dX0_foundDay_11 : decode cX0_foundDay 11 = .ok (.getfield 342, 3) := dk_180 1 86 (dk_at dksX0_foundDay_0 11 rfl rfl)
theorem dX0_foundDay_14 : decode cX0_foundDay 14 = .ok (.iconst 1, 1) := dk_4 (dk_at dksX0_foundDay_0 14 rfl rfl)
theorem dX0_foundDay_15 : decode cX0_foundDay 15 = .ok (.isub, 1) := dk_100 (dk_at dksX0_foundDay_0 15 rfl rfl)
theorem dX0_foundDay_16 : decode cX0_foundDay 16 = .ok (.i2l, 1) := dk_133 (dk_at dksX0_foundDay_0 16 rfl rfl)
theorem dX0_foundDay_17 : decode cX0_foundDay 17 = .ok (.invokestatic 133, 3) := dk_184 0 133 (dk_at dksX0_foundDay_0 17 rfl rfl)
theorem dX0_foundDay_20 : decode cX0_foundDay 20 = .ok (.ifCond .ne 7, 3) := dk_154 0 7 (dk_at dksX0_foundDay_0 20 rfl rfl)
theorem dX0_foundDay_23 : decode cX0_foundDay 23 = .ok (.iconst (-1), 1) := dk_2 (dk_at dksX0_foundDay_0 23 rfl rfl)
theorem dX0_foundDay_24 : decode cX0_foundDay 24 = .ok (.goto 9, 3) := dk_167 0 9 (dk_at dksX0_foundDay_1 0 rfl rfl)
theorem dX0_foundDay_27 : decode cX0_foundDay 27 = .ok (.aload_n 0, 1) := dk_42 (dk_at dksX0_foundDay_1 3 rfl rfl)
theorem dX0_foundDay_28 : decode cX0_foundDay 28 = .ok (.getfield 81, 3) := dk_180 0 81 (dk_at dksX0_foundDay_1 4 rfl rfl)
theorem dX0_foundDay_31 : decode cX0_foundDay 31 = .ok (.iload_n 1, 1) := dk_27 (dk_at dksX0_foundDay_1 7 rfl rfl)
theorem dX0_foundDay_32 : decode cX0_foundDay 32 = .ok (.baload, 1) := dk_51 (dk_at dksX0_foundDay_1 8 rfl rfl)
theorem dX0_foundDay_33 : decode cX0_foundDay 33 = .ok (.ireturn, 1) := dk_172 (dk_at dksX0_foundDay_1 9 rfl rfl)
abbrev cX0_least : ByteArray := prog_1_method_45_code
def yX0_least : MethodName := ⟨RX0, "least", "()I"⟩
def dkwX0_least_3 : List UInt8 := [28, 172]
abbrev dktX0_least_3 : List UInt8 := dkwX0_least_3 ++ []
def dkwX0_least_2 : List UInt8 := [132, 3, 1, 167, 255, 218, 42, 27, 181, 0, 48, 167, 0, 13, 58, 4, 42, 27, 181, 0, 48, 25, 4, 191]
abbrev dktX0_least_2 : List UInt8 := dkwX0_least_2 ++ dktX0_least_3
def dkwX0_least_1 : List UInt8 := [181, 0, 48, 42, 42, 182, 1, 70, 4, 182, 1, 73, 42, 180, 1, 40, 4, 160, 0, 5, 29, 61]
abbrev dktX0_least_1 : List UInt8 := dkwX0_least_1 ++ dktX0_least_2
def dkwX0_least_0 : List UInt8 := [42, 180, 0, 48, 60, 2, 61, 5, 62, 29, 16, 7, 163, 0, 38, 28, 2, 160, 0, 33, 42, 29]
abbrev dktX0_least_0 : List UInt8 := dkwX0_least_0 ++ dktX0_least_1
theorem dksX0_least_0 : cX0_least.data.toList.drop 0 = dktX0_least_0 := by decide +kernel
theorem dksX0_least_1 : cX0_least.data.toList.drop 22 = dktX0_least_1 := dk_seg dksX0_least_0 22 rfl rfl
theorem dksX0_least_2 : cX0_least.data.toList.drop 44 = dktX0_least_2 := dk_seg dksX0_least_1 22 rfl rfl
theorem dksX0_least_3 : cX0_least.data.toList.drop 68 = dktX0_least_3 := dk_seg dksX0_least_2 24 rfl rfl
theorem dX0_least_0 : decode cX0_least 0 = .ok (.aload_n 0, 1) := dk_42 (dk_at dksX0_least_0 0 rfl rfl)
theorem dX0_least_1 : decode cX0_least 1 = .ok (.getfield 48, 3) := dk_180 0 48 (dk_at dksX0_least_0 1 rfl rfl)
theorem dX0_least_4 : decode cX0_least 4 = .ok (.istore_n 1, 1) := dk_60 (dk_at dksX0_least_0 4 rfl rfl)
theorem dX0_least_5 : decode cX0_least 5 = .ok (.iconst (-1), 1) := dk_2 (dk_at dksX0_least_0 5 rfl rfl)
theorem dX0_least_6 : decode cX0_least 6 = .ok (.istore_n 2, 1) := dk_61 (dk_at dksX0_least_0 6 rfl rfl)
theorem dX0_least_7 : decode cX0_least 7 = .ok (.iconst 2, 1) := dk_5 (dk_at dksX0_least_0 7 rfl rfl)
theorem dX0_least_8 : decode cX0_least 8 = .ok (.istore_n 3, 1) := dk_62 (dk_at dksX0_least_0 8 rfl rfl)
theorem dX0_least_9 : decode cX0_least 9 = .ok (.iload_n 3, 1) := dk_29 (dk_at dksX0_least_0 9 rfl rfl)
theorem dX0_least_10 : decode cX0_least 10 = .ok (.bipush 7, 2) := dk_16 7 (dk_at dksX0_least_0 10 rfl rfl)
theorem dX0_least_12 : decode cX0_least 12 = .ok (.if_icmp .gt 38, 3) := dk_163 0 38 (dk_at dksX0_least_0 12 rfl rfl)
theorem dX0_least_15 : decode cX0_least 15 = .ok (.iload_n 2, 1) := dk_28 (dk_at dksX0_least_0 15 rfl rfl)
theorem dX0_least_16 : decode cX0_least 16 = .ok (.iconst (-1), 1) := dk_2 (dk_at dksX0_least_0 16 rfl rfl)
theorem dX0_least_17 : decode cX0_least 17 = .ok (.if_icmp .ne 33, 3) := dk_160 0 33 (dk_at dksX0_least_0 17 rfl rfl)
theorem dX0_least_20 : decode cX0_least 20 = .ok (.aload_n 0, 1) := dk_42 (dk_at dksX0_least_0 20 rfl rfl)
theorem dX0_least_21 : decode cX0_least 21 = .ok (.iload_n 3, 1) := dk_29 (dk_at dksX0_least_0 21 rfl rfl)
theorem dX0_least_22 : decode cX0_least 22 = .ok (.putfield 48, 3) := dk_181 0 48 (dk_at dksX0_least_1 0 rfl rfl)
theorem dX0_least_25 : decode cX0_least 25 = .ok (.aload_n 0, 1) := dk_42 (dk_at dksX0_least_1 3 rfl rfl)
theorem dX0_least_26 : decode cX0_least 26 = .ok (.aload_n 0, 1) := dk_42 (dk_at dksX0_least_1 4 rfl rfl)
theorem dX0_least_27 : decode cX0_least 27 = .ok (.invokevirtual 326, 3) := dk_182 1 70 (dk_at dksX0_least_1 5 rfl rfl)
theorem dX0_least_30 : decode cX0_least 30 = .ok (.iconst 1, 1) := dk_4 (dk_at dksX0_least_1 8 rfl rfl)
theorem dX0_least_31 : decode cX0_least 31 = .ok (.invokevirtual 329, 3) := dk_182 1 73 (dk_at dksX0_least_1 9 rfl rfl)
theorem dX0_least_34 : decode cX0_least 34 = .ok (.aload_n 0, 1) := dk_42 (dk_at dksX0_least_1 12 rfl rfl)
theorem dX0_least_35 : decode cX0_least 35 = .ok (.getfield 296, 3) := dk_180 1 40 (dk_at dksX0_least_1 13 rfl rfl)
theorem dX0_least_38 : decode cX0_least 38 = .ok (.iconst 1, 1) := dk_4 (dk_at dksX0_least_1 16 rfl rfl)
theorem dX0_least_39 : decode cX0_least 39 = .ok (.if_icmp .ne 5, 3) := dk_160 0 5 (dk_at dksX0_least_1 17 rfl rfl)
theorem dX0_least_42 : decode cX0_least 42 = .ok (.iload_n 3, 1) := dk_29 (dk_at dksX0_least_1 20 rfl rfl)
theorem dX0_least_43 : decode cX0_least 43 = .ok (.istore_n 2, 1) := dk_61 (dk_at dksX0_least_1 21 rfl rfl)
theorem dX0_least_44 : decode cX0_least 44 = .ok (.iinc 3 1, 3) := dk_132 3 1 (dk_at dksX0_least_2 0 rfl rfl)
theorem dX0_least_47 : decode cX0_least 47 = .ok (.goto (-38), 3) := dk_167 255 218 (dk_at dksX0_least_2 3 rfl rfl)
theorem dX0_least_50 : decode cX0_least 50 = .ok (.aload_n 0, 1) := dk_42 (dk_at dksX0_least_2 6 rfl rfl)
theorem dX0_least_51 : decode cX0_least 51 = .ok (.iload_n 1, 1) := dk_27 (dk_at dksX0_least_2 7 rfl rfl)
theorem dX0_least_52 : decode cX0_least 52 = .ok (.putfield 48, 3) := dk_181 0 48 (dk_at dksX0_least_2 8 rfl rfl)
theorem dX0_least_55 : decode cX0_least 55 = .ok (.goto 13, 3) := dk_167 0 13 (dk_at dksX0_least_2 11 rfl rfl)
theorem dX0_least_58 : decode cX0_least 58 = .ok (.astore 4, 2) := dk_58 4 (dk_at dksX0_least_2 14 rfl rfl)
theorem dX0_least_60 : decode cX0_least 60 = .ok (.aload_n 0, 1) := dk_42 (dk_at dksX0_least_2 16 rfl rfl)
theorem dX0_least_61 : decode cX0_least 61 = .ok (.iload_n 1, 1) := dk_27 (dk_at dksX0_least_2 17 rfl rfl)
theorem dX0_least_62 : decode cX0_least 62 = .ok (.putfield 48, 3) := dk_181 0 48 (dk_at dksX0_least_2 18 rfl rfl)
theorem dX0_least_65 : decode cX0_least 65 = .ok (.aload 4, 2) := dk_25 4 (dk_at dksX0_least_2 21 rfl rfl)
theorem dX0_least_67 : decode cX0_least 67 = .ok (.athrow, 1) := dk_191 (dk_at dksX0_least_2 23 rfl rfl)
theorem dX0_least_68 : decode cX0_least 68 = .ok (.iload_n 2, 1) := dk_28 (dk_at dksX0_least_3 0 rfl rfl)
theorem dX0_least_69 : decode cX0_least 69 = .ok (.ireturn, 1) := dk_172 (dk_at dksX0_least_3 1 rfl rfl)
abbrev cX0_knot : ByteArray := prog_1_method_46_code
def yX0_knot : MethodName := ⟨RX0, "knot", "()I"⟩
def dkwX0_knot_2 : List UInt8 := [132, 2, 1, 167, 255, 210, 27, 172]
abbrev dktX0_knot_2 : List UInt8 := dkwX0_knot_2 ++ []
def dkwX0_knot_1 : List UInt8 := [184, 1, 91, 161, 0, 6, 167, 0, 18, 42, 28, 4, 182, 1, 73, 42, 180, 1, 40, 154, 0, 5, 28, 60]
abbrev dktX0_knot_1 : List UInt8 := dkwX0_knot_1 ++ dktX0_knot_2
def dkwX0_knot_0 : List UInt8 := [3, 60, 4, 61, 28, 4, 42, 180, 0, 130, 120, 162, 0, 42, 27, 153, 0, 17, 28, 184, 1, 91, 27]
abbrev dktX0_knot_0 : List UInt8 := dkwX0_knot_0 ++ dktX0_knot_1
theorem dksX0_knot_0 : cX0_knot.data.toList.drop 0 = dktX0_knot_0 := by decide +kernel
theorem dksX0_knot_1 : cX0_knot.data.toList.drop 23 = dktX0_knot_1 := dk_seg dksX0_knot_0 23 rfl rfl
theorem dksX0_knot_2 : cX0_knot.data.toList.drop 47 = dktX0_knot_2 := dk_seg dksX0_knot_1 24 rfl rfl
theorem dX0_knot_0 : decode cX0_knot 0 = .ok (.iconst 0, 1) := dk_3 (dk_at dksX0_knot_0 0 rfl rfl)
theorem dX0_knot_1 : decode cX0_knot 1 = .ok (.istore_n 1, 1) := dk_60 (dk_at dksX0_knot_0 1 rfl rfl)
theorem dX0_knot_2 : decode cX0_knot 2 = .ok (.iconst 1, 1) := dk_4 (dk_at dksX0_knot_0 2 rfl rfl)
theorem dX0_knot_3 : decode cX0_knot 3 = .ok (.istore_n 2, 1) := dk_61 (dk_at dksX0_knot_0 3 rfl rfl)
theorem dX0_knot_4 : decode cX0_knot 4 = .ok (.iload_n 2, 1) := dk_28 (dk_at dksX0_knot_0 4 rfl rfl)
theorem dX0_knot_5 : decode cX0_knot 5 = .ok (.iconst 1, 1) := dk_4 (dk_at dksX0_knot_0 5 rfl rfl)
theorem dX0_knot_6 : decode cX0_knot 6 = .ok (.aload_n 0, 1) := dk_42 (dk_at dksX0_knot_0 6 rfl rfl)
theorem dX0_knot_7 : decode cX0_knot 7 = .ok (.getfield 130, 3) := dk_180 0 130 (dk_at dksX0_knot_0 7 rfl rfl)
theorem dX0_knot_10 : decode cX0_knot 10 = .ok (.ishl, 1) := dk_120 (dk_at dksX0_knot_0 10 rfl rfl)
theorem dX0_knot_11 : decode cX0_knot 11 = .ok (.if_icmp .ge 42, 3) := dk_162 0 42 (dk_at dksX0_knot_0 11 rfl rfl)
theorem dX0_knot_14 : decode cX0_knot 14 = .ok (.iload_n 1, 1) := dk_27 (dk_at dksX0_knot_0 14 rfl rfl)
theorem dX0_knot_15 : decode cX0_knot 15 = .ok (.ifCond .eq 17, 3) := dk_153 0 17 (dk_at dksX0_knot_0 15 rfl rfl)
theorem dX0_knot_18 : decode cX0_knot 18 = .ok (.iload_n 2, 1) := dk_28 (dk_at dksX0_knot_0 18 rfl rfl)
theorem dX0_knot_19 : decode cX0_knot 19 = .ok (.invokestatic 347, 3) := dk_184 1 91 (dk_at dksX0_knot_0 19 rfl rfl)
theorem dX0_knot_22 : decode cX0_knot 22 = .ok (.iload_n 1, 1) := dk_27 (dk_at dksX0_knot_0 22 rfl rfl)
theorem dX0_knot_23 : decode cX0_knot 23 = .ok (.invokestatic 347, 3) := dk_184 1 91 (dk_at dksX0_knot_1 0 rfl rfl)
theorem dX0_knot_26 : decode cX0_knot 26 = .ok (.if_icmp .lt 6, 3) := dk_161 0 6 (dk_at dksX0_knot_1 3 rfl rfl)
theorem dX0_knot_29 : decode cX0_knot 29 = .ok (.goto 18, 3) := dk_167 0 18 (dk_at dksX0_knot_1 6 rfl rfl)
theorem dX0_knot_32 : decode cX0_knot 32 = .ok (.aload_n 0, 1) := dk_42 (dk_at dksX0_knot_1 9 rfl rfl)
theorem dX0_knot_33 : decode cX0_knot 33 = .ok (.iload_n 2, 1) := dk_28 (dk_at dksX0_knot_1 10 rfl rfl)
theorem dX0_knot_34 : decode cX0_knot 34 = .ok (.iconst 1, 1) := dk_4 (dk_at dksX0_knot_1 11 rfl rfl)
theorem dX0_knot_35 : decode cX0_knot 35 = .ok (.invokevirtual 329, 3) := dk_182 1 73 (dk_at dksX0_knot_1 12 rfl rfl)
theorem dX0_knot_38 : decode cX0_knot 38 = .ok (.aload_n 0, 1) := dk_42 (dk_at dksX0_knot_1 15 rfl rfl)
theorem dX0_knot_39 : decode cX0_knot 39 = .ok (.getfield 296, 3) := dk_180 1 40 (dk_at dksX0_knot_1 16 rfl rfl)
theorem dX0_knot_42 : decode cX0_knot 42 = .ok (.ifCond .ne 5, 3) := dk_154 0 5 (dk_at dksX0_knot_1 19 rfl rfl)
theorem dX0_knot_45 : decode cX0_knot 45 = .ok (.iload_n 2, 1) := dk_28 (dk_at dksX0_knot_1 22 rfl rfl)
theorem dX0_knot_46 : decode cX0_knot 46 = .ok (.istore_n 1, 1) := dk_60 (dk_at dksX0_knot_1 23 rfl rfl)
theorem dX0_knot_47 : decode cX0_knot 47 = .ok (.iinc 2 1, 3) := dk_132 2 1 (dk_at dksX0_knot_2 0 rfl rfl)
theorem dX0_knot_50 : decode cX0_knot 50 = .ok (.goto (-46), 3) := dk_167 255 210 (dk_at dksX0_knot_2 3 rfl rfl)
theorem dX0_knot_53 : decode cX0_knot 53 = .ok (.iload_n 1, 1) := dk_27 (dk_at dksX0_knot_2 6 rfl rfl)
theorem dX0_knot_54 : decode cX0_knot 54 = .ok (.ireturn, 1) := dk_172 (dk_at dksX0_knot_2 7 rfl rfl)
abbrev cX0_room : ByteArray := prog_1_method_47_code
def yX0_room : MethodName := ⟨RX0, "room", "(III)I"⟩
def dkwX0_room_5 : List UInt8 := [21, 4, 4, 21, 5, 120, 128, 54, 4, 132, 5, 1, 167, 255, 177, 21, 4, 172]
abbrev dktX0_room_5 : List UInt8 := dkwX0_room_5 ++ []
def dkwX0_room_4 : List UInt8 := [184, 0, 182, 182, 0, 247, 153, 0, 6, 3, 54, 6, 132, 7, 1, 167, 255, 222, 21, 6, 153, 0, 12]
abbrev dktX0_room_4 : List UInt8 := dkwX0_room_4 ++ dktX0_room_5
def dkwX0_room_3 : List UInt8 := [3, 54, 7, 21, 7, 42, 180, 0, 130, 162, 0, 31, 42, 21, 7, 28, 184, 0, 151, 21, 7, 28]
abbrev dktX0_room_3 : List UInt8 := dkwX0_room_3 ++ dktX0_room_4
def dkwX0_room_2 : List UInt8 := [54, 5, 21, 5, 42, 180, 0, 48, 162, 0, 76, 42, 180, 0, 68, 28, 4, 21, 5, 120, 79, 4, 54, 6]
abbrev dktX0_room_2 : List UInt8 := dkwX0_room_2 ++ dktX0_room_3
def dkwX0_room_1 : List UInt8 := [16, 251, 172, 42, 42, 180, 0, 61, 27, 182, 0, 236, 192, 0, 1, 29, 182, 0, 251, 3, 54, 4, 3]
abbrev dktX0_room_1 : List UInt8 := dkwX0_room_1 ++ dktX0_room_2
def dkwX0_room_0 : List UInt8 := [42, 27, 182, 0, 233, 153, 0, 19, 42, 28, 182, 0, 145, 153, 0, 11, 42, 29, 182, 0, 167, 154, 0, 6]
abbrev dktX0_room_0 : List UInt8 := dkwX0_room_0 ++ dktX0_room_1
theorem dksX0_room_0 : cX0_room.data.toList.drop 0 = dktX0_room_0 := by decide +kernel
theorem dksX0_room_1 : cX0_room.data.toList.drop 24 = dktX0_room_1 := dk_seg dksX0_room_0 24 rfl rfl
theorem dksX0_room_2 : cX0_room.data.toList.drop 47 = dktX0_room_2 := dk_seg dksX0_room_1 23 rfl rfl
theorem dksX0_room_3 : cX0_room.data.toList.drop 71 = dktX0_room_3 := dk_seg dksX0_room_2 24 rfl rfl
theorem dksX0_room_4 : cX0_room.data.toList.drop 93 = dktX0_room_4 := dk_seg dksX0_room_3 22 rfl rfl
theorem dksX0_room_5 : cX0_room.data.toList.drop 116 = dktX0_room_5 := dk_seg dksX0_room_4 23 rfl rfl
theorem dX0_room_0 : decode cX0_room 0 = .ok (.aload_n 0, 1) := dk_42 (dk_at dksX0_room_0 0 rfl rfl)
theorem dX0_room_1 : decode cX0_room 1 = .ok (.iload_n 1, 1) := dk_27 (dk_at dksX0_room_0 1 rfl rfl)
theorem dX0_room_2 : decode cX0_room 2 = .ok (.invokevirtual 233, 3) := dk_182 0 233 (dk_at dksX0_room_0 2 rfl rfl)
theorem dX0_room_5 : decode cX0_room 5 = .ok (.ifCond .eq 19, 3) := dk_153 0 19 (dk_at dksX0_room_0 5 rfl rfl)
theorem dX0_room_8 : decode cX0_room 8 = .ok (.aload_n 0, 1) := dk_42 (dk_at dksX0_room_0 8 rfl rfl)
theorem dX0_room_9 : decode cX0_room 9 = .ok (.iload_n 2, 1) := dk_28 (dk_at dksX0_room_0 9 rfl rfl)
theorem dX0_room_10 : decode cX0_room 10 = .ok (.invokevirtual 145, 3) := dk_182 0 145 (dk_at dksX0_room_0 10 rfl rfl)
theorem dX0_room_13 : decode cX0_room 13 = .ok (.ifCond .eq 11, 3) := dk_153 0 11 (dk_at dksX0_room_0 13 rfl rfl)
theorem dX0_room_16 : decode cX0_room 16 = .ok (.aload_n 0, 1) := dk_42 (dk_at dksX0_room_0 16 rfl rfl)
theorem dX0_room_17 : decode cX0_room 17 = .ok (.iload_n 3, 1) := dk_29 (dk_at dksX0_room_0 17 rfl rfl)
theorem dX0_room_18 : decode cX0_room 18 = .ok (.invokevirtual 167, 3) := dk_182 0 167 (dk_at dksX0_room_0 18 rfl rfl)
theorem dX0_room_21 : decode cX0_room 21 = .ok (.ifCond .ne 6, 3) := dk_154 0 6 (dk_at dksX0_room_0 21 rfl rfl)
theorem dX0_room_24 : decode cX0_room 24 = .ok (.bipush (-5), 2) := dk_16 251 (dk_at dksX0_room_1 0 rfl rfl)
theorem dX0_room_26 : decode cX0_room 26 = .ok (.ireturn, 1) := dk_172 (dk_at dksX0_room_1 2 rfl rfl)
theorem dX0_room_27 : decode cX0_room 27 = .ok (.aload_n 0, 1) := dk_42 (dk_at dksX0_room_1 3 rfl rfl)
theorem dX0_room_28 : decode cX0_room 28 = .ok (.aload_n 0, 1) := dk_42 (dk_at dksX0_room_1 4 rfl rfl)
theorem dX0_room_29 : decode cX0_room 29 = .ok (.getfield 61, 3) := dk_180 0 61 (dk_at dksX0_room_1 5 rfl rfl)
theorem dX0_room_32 : decode cX0_room 32 = .ok (.iload_n 1, 1) := dk_27 (dk_at dksX0_room_1 8 rfl rfl)
theorem dX0_room_33 : decode cX0_room 33 = .ok (.invokevirtual 236, 3) := dk_182 0 236 (dk_at dksX0_room_1 9 rfl rfl)
theorem dX0_room_36 : decode cX0_room 36 = .ok (.checkcast 1, 3) := dk_192 0 1 (dk_at dksX0_room_1 12 rfl rfl)
theorem dX0_room_39 : decode cX0_room 39 = .ok (.iload_n 3, 1) := dk_29 (dk_at dksX0_room_1 15 rfl rfl)
theorem dX0_room_40 : decode cX0_room 40 = .ok (.invokevirtual 251, 3) := dk_182 0 251 (dk_at dksX0_room_1 16 rfl rfl)
theorem dX0_room_43 : decode cX0_room 43 = .ok (.iconst 0, 1) := dk_3 (dk_at dksX0_room_1 19 rfl rfl)
theorem dX0_room_44 : decode cX0_room 44 = .ok (.istore 4, 2) := dk_54 4 (dk_at dksX0_room_1 20 rfl rfl)
theorem dX0_room_46 : decode cX0_room 46 = .ok (.iconst 0, 1) := dk_3 (dk_at dksX0_room_1 22 rfl rfl)
theorem dX0_room_47 : decode cX0_room 47 = .ok (.istore 5, 2) := dk_54 5 (dk_at dksX0_room_2 0 rfl rfl)
theorem dX0_room_49 : decode cX0_room 49 = .ok (.iload 5, 2) := dk_21 5 (dk_at dksX0_room_2 2 rfl rfl)
theorem dX0_room_51 : decode cX0_room 51 = .ok (.aload_n 0, 1) := dk_42 (dk_at dksX0_room_2 4 rfl rfl)
theorem dX0_room_52 : decode cX0_room 52 = .ok (.getfield 48, 3) := dk_180 0 48 (dk_at dksX0_room_2 5 rfl rfl)
theorem dX0_room_55 : decode cX0_room 55 = .ok (.if_icmp .ge 76, 3) := dk_162 0 76 (dk_at dksX0_room_2 8 rfl rfl)
theorem dX0_room_58 : decode cX0_room 58 = .ok (.aload_n 0, 1) := dk_42 (dk_at dksX0_room_2 11 rfl rfl)
theorem dX0_room_59 : decode cX0_room 59 = .ok (.getfield 68, 3) := dk_180 0 68 (dk_at dksX0_room_2 12 rfl rfl)
theorem dX0_room_62 : decode cX0_room 62 = .ok (.iload_n 2, 1) := dk_28 (dk_at dksX0_room_2 15 rfl rfl)
theorem dX0_room_63 : decode cX0_room 63 = .ok (.iconst 1, 1) := dk_4 (dk_at dksX0_room_2 16 rfl rfl)
theorem dX0_room_64 : decode cX0_room 64 = .ok (.iload 5, 2) := dk_21 5 (dk_at dksX0_room_2 17 rfl rfl)
theorem dX0_room_66 : decode cX0_room 66 = .ok (.ishl, 1) := dk_120 (dk_at dksX0_room_2 19 rfl rfl)
theorem dX0_room_67 : decode cX0_room 67 = .ok (.iastore, 1) := dk_79 (dk_at dksX0_room_2 20 rfl rfl)
theorem dX0_room_68 : decode cX0_room 68 = .ok (.iconst 1, 1) := dk_4 (dk_at dksX0_room_2 21 rfl rfl)
theorem dX0_room_69 : decode cX0_room 69 = .ok (.istore 6, 2) := dk_54 6 (dk_at dksX0_room_2 22 rfl rfl)
theorem dX0_room_71 : decode cX0_room 71 = .ok (.iconst 0, 1) := dk_3 (dk_at dksX0_room_3 0 rfl rfl)
theorem dX0_room_72 : decode cX0_room 72 = .ok (.istore 7, 2) := dk_54 7 (dk_at dksX0_room_3 1 rfl rfl)
theorem dX0_room_74 : decode cX0_room 74 = .ok (.iload 7, 2) := dk_21 7 (dk_at dksX0_room_3 3 rfl rfl)
theorem dX0_room_76 : decode cX0_room 76 = .ok (.aload_n 0, 1) := dk_42 (dk_at dksX0_room_3 5 rfl rfl)
theorem dX0_room_77 : decode cX0_room 77 = .ok (.getfield 130, 3) := dk_180 0 130 (dk_at dksX0_room_3 6 rfl rfl)
theorem dX0_room_80 : decode cX0_room 80 = .ok (.if_icmp .ge 31, 3) := dk_162 0 31 (dk_at dksX0_room_3 9 rfl rfl)
theorem dX0_room_83 : decode cX0_room 83 = .ok (.aload_n 0, 1) := dk_42 (dk_at dksX0_room_3 12 rfl rfl)
theorem dX0_room_84 : decode cX0_room 84 = .ok (.iload 7, 2) := dk_21 7 (dk_at dksX0_room_3 13 rfl rfl)
theorem dX0_room_86 : decode cX0_room 86 = .ok (.iload_n 2, 1) := dk_28 (dk_at dksX0_room_3 15 rfl rfl)
theorem dX0_room_87 : decode cX0_room 87 = .ok (.invokestatic 151, 3) := dk_184 0 151 (dk_at dksX0_room_3 16 rfl rfl)
theorem dX0_room_90 : decode cX0_room 90 = .ok (.iload 7, 2) := dk_21 7 (dk_at dksX0_room_3 19 rfl rfl)
theorem dX0_room_92 : decode cX0_room 92 = .ok (.iload_n 2, 1) := dk_28 (dk_at dksX0_room_3 21 rfl rfl)
theorem dX0_room_93 : decode cX0_room 93 = .ok (.invokestatic 182, 3) := dk_184 0 182 (dk_at dksX0_room_4 0 rfl rfl)
theorem dX0_room_96 : decode cX0_room 96 = .ok (.invokevirtual 247, 3) := dk_182 0 247 (dk_at dksX0_room_4 3 rfl rfl)
theorem dX0_room_99 : decode cX0_room 99 = .ok (.ifCond .eq 6, 3) := dk_153 0 6 (dk_at dksX0_room_4 6 rfl rfl)
theorem dX0_room_102 : decode cX0_room 102 = .ok (.iconst 0, 1) := dk_3 (dk_at dksX0_room_4 9 rfl rfl)
theorem dX0_room_103 : decode cX0_room 103 = .ok (.istore 6, 2) := dk_54 6 (dk_at dksX0_room_4 10 rfl rfl)
theorem dX0_room_105 : decode cX0_room 105 = .ok (.iinc 7 1, 3) := dk_132 7 1 (dk_at dksX0_room_4 12 rfl rfl)
theorem dX0_room_108 : decode cX0_room 108 = .ok (.goto (-34), 3) := dk_167 255 222 (dk_at dksX0_room_4 15 rfl rfl)
theorem dX0_room_111 : decode cX0_room 111 = .ok (.iload 6, 2) := dk_21 6 (dk_at dksX0_room_4 18 rfl rfl)
theorem dX0_room_113 : decode cX0_room 113 = .ok (.ifCond .eq 12, 3) := dk_153 0 12 (dk_at dksX0_room_4 20 rfl rfl)
theorem dX0_room_116 : decode cX0_room 116 = .ok (.iload 4, 2) := dk_21 4 (dk_at dksX0_room_5 0 rfl rfl)
theorem dX0_room_118 : decode cX0_room 118 = .ok (.iconst 1, 1) := dk_4 (dk_at dksX0_room_5 2 rfl rfl)
theorem dX0_room_119 : decode cX0_room 119 = .ok (.iload 5, 2) := dk_21 5 (dk_at dksX0_room_5 3 rfl rfl)
theorem dX0_room_121 : decode cX0_room 121 = .ok (.ishl, 1) := dk_120 (dk_at dksX0_room_5 5 rfl rfl)
theorem dX0_room_122 : decode cX0_room 122 = .ok (.ior, 1) := dk_128 (dk_at dksX0_room_5 6 rfl rfl)
theorem dX0_room_123 : decode cX0_room 123 = .ok (.istore 4, 2) := dk_54 4 (dk_at dksX0_room_5 7 rfl rfl)
theorem dX0_room_125 : decode cX0_room 125 = .ok (.iinc 5 1, 3) := dk_132 5 1 (dk_at dksX0_room_5 9 rfl rfl)
theorem dX0_room_128 : decode cX0_room 128 = .ok (.goto (-79), 3) := dk_167 255 177 (dk_at dksX0_room_5 12 rfl rfl)
theorem dX0_room_131 : decode cX0_room 131 = .ok (.iload 4, 2) := dk_21 4 (dk_at dksX0_room_5 15 rfl rfl)
theorem dX0_room_133 : decode cX0_room 133 = .ok (.ireturn, 1) := dk_172 (dk_at dksX0_room_5 17 rfl rfl)
abbrev cX0_hurt : ByteArray := prog_1_method_48_code
def yX0_hurt : MethodName := ⟨RX0, "hurt", "(III)J"⟩
def dkwX0_hurt_5 : List UInt8 := [25, 4, 21, 9, 182, 1, 10, 133, 97, 55, 7, 132, 9, 1, 167, 255, 224, 22, 7, 22, 5, 101, 173]
abbrev dktX0_hurt_5 : List UInt8 := dkwX0_hurt_5 ++ []
def dkwX0_hurt_4 : List UInt8 := [9, 55, 7, 3, 54, 9, 21, 9, 42, 180, 0, 130, 162, 0, 29, 21, 9, 28, 159, 0, 17, 22, 7, 42]
abbrev dktX0_hurt_4 : List UInt8 := dkwX0_hurt_4 ++ dktX0_hurt_5
def dkwX0_hurt_3 : List UInt8 := [25, 4, 21, 7, 182, 1, 10, 133, 97, 55, 5, 132, 7, 1, 167, 255, 224, 42, 180, 0, 68, 28, 3, 79]
abbrev dktX0_hurt_3 : List UInt8 := dkwX0_hurt_3 ++ dktX0_hurt_4
def dkwX0_hurt_2 : List UInt8 := [9, 55, 5, 3, 54, 7, 21, 7, 42, 180, 0, 130, 162, 0, 29, 21, 7, 28, 159, 0, 17, 22, 5, 42]
abbrev dktX0_hurt_2 : List UInt8 := dkwX0_hurt_2 ++ dktX0_hurt_3
def dkwX0_hurt_1 : List UInt8 := [20, 0, 188, 173, 42, 180, 0, 61, 27, 182, 0, 236, 192, 0, 1, 58, 4, 42, 25, 4, 29, 182, 0, 251]
abbrev dktX0_hurt_1 : List UInt8 := dkwX0_hurt_1 ++ dktX0_hurt_2
def dkwX0_hurt_0 : List UInt8 := [42, 27, 182, 0, 233, 153, 0, 19, 42, 28, 182, 0, 145, 153, 0, 11, 42, 29, 182, 0, 167, 154, 0, 7]
abbrev dktX0_hurt_0 : List UInt8 := dkwX0_hurt_0 ++ dktX0_hurt_1
theorem dksX0_hurt_0 : cX0_hurt.data.toList.drop 0 = dktX0_hurt_0 := by decide +kernel
theorem dksX0_hurt_1 : cX0_hurt.data.toList.drop 24 = dktX0_hurt_1 := dk_seg dksX0_hurt_0 24 rfl rfl
theorem dksX0_hurt_2 : cX0_hurt.data.toList.drop 48 = dktX0_hurt_2 := dk_seg dksX0_hurt_1 24 rfl rfl
theorem dksX0_hurt_3 : cX0_hurt.data.toList.drop 72 = dktX0_hurt_3 := dk_seg dksX0_hurt_2 24 rfl rfl
theorem dksX0_hurt_4 : cX0_hurt.data.toList.drop 96 = dktX0_hurt_4 := dk_seg dksX0_hurt_3 24 rfl rfl
theorem dksX0_hurt_5 : cX0_hurt.data.toList.drop 120 = dktX0_hurt_5 := dk_seg dksX0_hurt_4 24 rfl rfl
theorem dX0_hurt_0 : decode cX0_hurt 0 = .ok (.aload_n 0, 1) := dk_42 (dk_at dksX0_hurt_0 0 rfl rfl)
theorem dX0_hurt_1 : decode cX0_hurt 1 = .ok (.iload_n 1, 1) := dk_27 (dk_at dksX0_hurt_0 1 rfl rfl)
theorem dX0_hurt_2 : decode cX0_hurt 2 = .ok (.invokevirtual 233, 3) := dk_182 0 233 (dk_at dksX0_hurt_0 2 rfl rfl)
theorem dX0_hurt_5 : decode cX0_hurt 5 = .ok (.ifCond .eq 19, 3) := dk_153 0 19 (dk_at dksX0_hurt_0 5 rfl rfl)
theorem dX0_hurt_8 : decode cX0_hurt 8 = .ok (.aload_n 0, 1) := dk_42 (dk_at dksX0_hurt_0 8 rfl rfl)
theorem dX0_hurt_9 : decode cX0_hurt 9 = .ok (.iload_n 2, 1) := dk_28 (dk_at dksX0_hurt_0 9 rfl rfl)
theorem dX0_hurt_10 : decode cX0_hurt 10 = .ok (.invokevirtual 145, 3) := dk_182 0 145 (dk_at dksX0_hurt_0 10 rfl rfl)
theorem dX0_hurt_13 : decode cX0_hurt 13 = .ok (.ifCond .eq 11, 3) := dk_153 0 11 (dk_at dksX0_hurt_0 13 rfl rfl)
theorem dX0_hurt_16 : decode cX0_hurt 16 = .ok (.aload_n 0, 1) := dk_42 (dk_at dksX0_hurt_0 16 rfl rfl)
theorem dX0_hurt_17 : decode cX0_hurt 17 = .ok (.iload_n 3, 1) := dk_29 (dk_at dksX0_hurt_0 17 rfl rfl)
theorem dX0_hurt_18 : decode cX0_hurt 18 = .ok (.invokevirtual 167, 3) := dk_182 0 167 (dk_at dksX0_hurt_0 18 rfl rfl)
theorem dX0_hurt_21 : decode cX0_hurt 21 = .ok (.ifCond .ne 7, 3) := dk_154 0 7 (dk_at dksX0_hurt_0 21 rfl rfl)
theorem dX0_hurt_24 : decode cX0_hurt 24 = .ok (.ldc2_w 188, 3) := dk_20 0 188 (dk_at dksX0_hurt_1 0 rfl rfl)
theorem dX0_hurt_27 : decode cX0_hurt 27 = .ok (.lreturn, 1) := dk_173 (dk_at dksX0_hurt_1 3 rfl rfl)
theorem dX0_hurt_28 : decode cX0_hurt 28 = .ok (.aload_n 0, 1) := dk_42 (dk_at dksX0_hurt_1 4 rfl rfl)
theorem dX0_hurt_29 : decode cX0_hurt 29 = .ok (.getfield 61, 3) := dk_180 0 61 (dk_at dksX0_hurt_1 5 rfl rfl)
theorem dX0_hurt_32 : decode cX0_hurt 32 = .ok (.iload_n 1, 1) := dk_27 (dk_at dksX0_hurt_1 8 rfl rfl)
theorem dX0_hurt_33 : decode cX0_hurt 33 = .ok (.invokevirtual 236, 3) := dk_182 0 236 (dk_at dksX0_hurt_1 9 rfl rfl)
theorem dX0_hurt_36 : decode cX0_hurt 36 = .ok (.checkcast 1, 3) := dk_192 0 1 (dk_at dksX0_hurt_1 12 rfl rfl)
theorem dX0_hurt_39 : decode cX0_hurt 39 = .ok (.astore 4, 2) := dk_58 4 (dk_at dksX0_hurt_1 15 rfl rfl)
theorem dX0_hurt_41 : decode cX0_hurt 41 = .ok (.aload_n 0, 1) := dk_42 (dk_at dksX0_hurt_1 17 rfl rfl)
theorem dX0_hurt_42 : decode cX0_hurt 42 = .ok (.aload 4, 2) := dk_25 4 (dk_at dksX0_hurt_1 18 rfl rfl)
theorem dX0_hurt_44 : decode cX0_hurt 44 = .ok (.iload_n 3, 1) := dk_29 (dk_at dksX0_hurt_1 20 rfl rfl)
theorem dX0_hurt_45 : decode cX0_hurt 45 = .ok (.invokevirtual 251, 3) := dk_182 0 251 (dk_at dksX0_hurt_1 21 rfl rfl)
theorem dX0_hurt_48 : decode cX0_hurt 48 = .ok (.lconst 0, 1) := dk_9 (dk_at dksX0_hurt_2 0 rfl rfl)
theorem dX0_hurt_49 : decode cX0_hurt 49 = .ok (.lstore 5, 2) := dk_55 5 (dk_at dksX0_hurt_2 1 rfl rfl)
theorem dX0_hurt_51 : decode cX0_hurt 51 = .ok (.iconst 0, 1) := dk_3 (dk_at dksX0_hurt_2 3 rfl rfl)
theorem dX0_hurt_52 : decode cX0_hurt 52 = .ok (.istore 7, 2) := dk_54 7 (dk_at dksX0_hurt_2 4 rfl rfl)
theorem dX0_hurt_54 : decode cX0_hurt 54 = .ok (.iload 7, 2) := dk_21 7 (dk_at dksX0_hurt_2 6 rfl rfl)
theorem dX0_hurt_56 : decode cX0_hurt 56 = .ok (.aload_n 0, 1) := dk_42 (dk_at dksX0_hurt_2 8 rfl rfl)
theorem dX0_hurt_57 : decode cX0_hurt 57 = .ok (.getfield 130, 3) := dk_180 0 130 (dk_at dksX0_hurt_2 9 rfl rfl)
theorem dX0_hurt_60 : decode cX0_hurt 60 = .ok (.if_icmp .ge 29, 3) := dk_162 0 29 (dk_at dksX0_hurt_2 12 rfl rfl)
theorem dX0_hurt_63 : decode cX0_hurt 63 = .ok (.iload 7, 2) := dk_21 7 (dk_at dksX0_hurt_2 15 rfl rfl)
theorem dX0_hurt_65 : decode cX0_hurt 65 = .ok (.iload_n 2, 1) := dk_28 (dk_at dksX0_hurt_2 17 rfl rfl)
theorem dX0_hurt_66 : decode cX0_hurt 66 = .ok (.if_icmp .eq 17, 3) := dk_159 0 17 (dk_at dksX0_hurt_2 18 rfl rfl)
theorem dX0_hurt_69 : decode cX0_hurt 69 = .ok (.lload 5, 2) := dk_22 5 (dk_at dksX0_hurt_2 21 rfl rfl)
theorem dX0_hurt_71 : decode cX0_hurt 71 = .ok (.aload_n 0, 1) := dk_42 (dk_at dksX0_hurt_2 23 rfl rfl)
theorem dX0_hurt_72 : decode cX0_hurt 72 = .ok (.aload 4, 2) := dk_25 4 (dk_at dksX0_hurt_3 0 rfl rfl)
theorem dX0_hurt_74 : decode cX0_hurt 74 = .ok (.iload 7, 2) := dk_21 7 (dk_at dksX0_hurt_3 2 rfl rfl)
theorem dX0_hurt_76 : decode cX0_hurt 76 = .ok (.invokevirtual 266, 3) := dk_182 1 10 (dk_at dksX0_hurt_3 4 rfl rfl)
theorem dX0_hurt_79 : decode cX0_hurt 79 = .ok (.i2l, 1) := dk_133 (dk_at dksX0_hurt_3 7 rfl rfl)
theorem dX0_hurt_80 : decode cX0_hurt 80 = .ok (.ladd, 1) := dk_97 (dk_at dksX0_hurt_3 8 rfl rfl)
theorem dX0_hurt_81 : decode cX0_hurt 81 = .ok (.lstore 5, 2) := dk_55 5 (dk_at dksX0_hurt_3 9 rfl rfl)
theorem dX0_hurt_83 : decode cX0_hurt 83 = .ok (.iinc 7 1, 3) := dk_132 7 1 (dk_at dksX0_hurt_3 11 rfl rfl)
theorem dX0_hurt_86 : decode cX0_hurt 86 = .ok (.goto (-32), 3) := dk_167 255 224 (dk_at dksX0_hurt_3 14 rfl rfl)
theorem dX0_hurt_89 : decode cX0_hurt 89 = .ok (.aload_n 0, 1) := dk_42 (dk_at dksX0_hurt_3 17 rfl rfl)
theorem dX0_hurt_90 : decode cX0_hurt 90 = .ok (.getfield 68, 3) := dk_180 0 68 (dk_at dksX0_hurt_3 18 rfl rfl)
theorem dX0_hurt_93 : decode cX0_hurt 93 = .ok (.iload_n 2, 1) := dk_28 (dk_at dksX0_hurt_3 21 rfl rfl)
theorem dX0_hurt_94 : decode cX0_hurt 94 = .ok (.iconst 0, 1) := dk_3 (dk_at dksX0_hurt_3 22 rfl rfl)
theorem dX0_hurt_95 : decode cX0_hurt 95 = .ok (.iastore, 1) := dk_79 (dk_at dksX0_hurt_3 23 rfl rfl)
theorem dX0_hurt_96 : decode cX0_hurt 96 = .ok (.lconst 0, 1) := dk_9 (dk_at dksX0_hurt_4 0 rfl rfl)
theorem dX0_hurt_97 : decode cX0_hurt 97 = .ok (.lstore 7, 2) := dk_55 7 (dk_at dksX0_hurt_4 1 rfl rfl)
theorem dX0_hurt_99 : decode cX0_hurt 99 = .ok (.iconst 0, 1) := dk_3 (dk_at dksX0_hurt_4 3 rfl rfl)
theorem dX0_hurt_100 : decode cX0_hurt 100 = .ok (.istore 9, 2) := dk_54 9 (dk_at dksX0_hurt_4 4 rfl rfl)
theorem dX0_hurt_102 : decode cX0_hurt 102 = .ok (.iload 9, 2) := dk_21 9 (dk_at dksX0_hurt_4 6 rfl rfl)
theorem dX0_hurt_104 : decode cX0_hurt 104 = .ok (.aload_n 0, 1) := dk_42 (dk_at dksX0_hurt_4 8 rfl rfl)
theorem dX0_hurt_105 : decode cX0_hurt 105 = .ok (.getfield 130, 3) := dk_180 0 130 (dk_at dksX0_hurt_4 9 rfl rfl)
theorem dX0_hurt_108 : decode cX0_hurt 108 = .ok (.if_icmp .ge 29, 3) := dk_162 0 29 (dk_at dksX0_hurt_4 12 rfl rfl)
theorem dX0_hurt_111 : decode cX0_hurt 111 = .ok (.iload 9, 2) := dk_21 9 (dk_at dksX0_hurt_4 15 rfl rfl)
theorem dX0_hurt_113 : decode cX0_hurt 113 = .ok (.iload_n 2, 1) := dk_28 (dk_at dksX0_hurt_4 17 rfl rfl)
theorem dX0_hurt_114 : decode cX0_hurt 114 = .ok (.if_icmp .eq 17, 3) := dk_159 0 17 (dk_at dksX0_hurt_4 18 rfl rfl)
theorem dX0_hurt_117 : decode cX0_hurt 117 = .ok (.lload 7, 2) := dk_22 7 (dk_at dksX0_hurt_4 21 rfl rfl)
theorem dX0_hurt_119 : decode cX0_hurt 119 = .ok (.aload_n 0, 1) := dk_42 (dk_at dksX0_hurt_4 23 rfl rfl)
theorem dX0_hurt_120 : decode cX0_hurt 120 = .ok (.aload 4, 2) := dk_25 4 (dk_at dksX0_hurt_5 0 rfl rfl)
theorem dX0_hurt_122 : decode cX0_hurt 122 = .ok (.iload 9, 2) := dk_21 9 (dk_at dksX0_hurt_5 2 rfl rfl)
theorem dX0_hurt_124 : decode cX0_hurt 124 = .ok (.invokevirtual 266, 3) := dk_182 1 10 (dk_at dksX0_hurt_5 4 rfl rfl)
theorem dX0_hurt_127 : decode cX0_hurt 127 = .ok (.i2l, 1) := dk_133 (dk_at dksX0_hurt_5 7 rfl rfl)
theorem dX0_hurt_128 : decode cX0_hurt 128 = .ok (.ladd, 1) := dk_97 (dk_at dksX0_hurt_5 8 rfl rfl)
theorem dX0_hurt_129 : decode cX0_hurt 129 = .ok (.lstore 7, 2) := dk_55 7 (dk_at dksX0_hurt_5 9 rfl rfl)
theorem dX0_hurt_131 : decode cX0_hurt 131 = .ok (.iinc 9 1, 3) := dk_132 9 1 (dk_at dksX0_hurt_5 11 rfl rfl)
theorem dX0_hurt_134 : decode cX0_hurt 134 = .ok (.goto (-32), 3) := dk_167 255 224 (dk_at dksX0_hurt_5 14 rfl rfl)
theorem dX0_hurt_137 : decode cX0_hurt 137 = .ok (.lload 7, 2) := dk_22 7 (dk_at dksX0_hurt_5 17 rfl rfl)
theorem dX0_hurt_139 : decode cX0_hurt 139 = .ok (.lload 5, 2) := dk_22 5 (dk_at dksX0_hurt_5 19 rfl rfl)
theorem dX0_hurt_141 : decode cX0_hurt 141 = .ok (.lsub, 1) := dk_101 (dk_at dksX0_hurt_5 21 rfl rfl)
theorem dX0_hurt_142 : decode cX0_hurt 142 = .ok (.lreturn, 1) := dk_173 (dk_at dksX0_hurt_5 22 rfl rfl)
abbrev cX0_round : ByteArray := prog_1_method_54_code
def yX0_round : MethodName := ⟨RX0, "round", "(IIIII)I"⟩
def dkwX0_round_8 : List UInt8 := [180, 0, 87, 21, 8, 21, 9, 79, 21, 9, 54, 6, 132, 8, 1, 167, 255, 115, 21, 5, 21, 7, 100, 172]
abbrev dktX0_round_8 : List UInt8 := dkwX0_round_8 ++ []
def dkwX0_round_7 : List UInt8 := [132, 9, 1, 167, 255, 161, 21, 7, 42, 21, 9, 21, 8, 21, 7, 182, 1, 99, 100, 54, 7, 42]
abbrev dktX0_round_7 : List UInt8 := dkwX0_round_7 ++ dktX0_round_8
def dkwX0_round_6 : List UInt8 := [21, 7, 182, 1, 99, 100, 182, 1, 102, 96, 42, 21, 8, 21, 6, 21, 7, 182, 1, 102, 159, 0, 9]
abbrev dktX0_round_6 : List UInt8 := dkwX0_round_6 ++ dktX0_round_7
def dkwX0_round_5 : List UInt8 := [21, 9, 21, 8, 21, 7, 182, 1, 99, 42, 21, 8, 4, 96, 21, 9, 21, 7, 42, 21, 9, 21, 8]
abbrev dktX0_round_5 : List UInt8 := dkwX0_round_5 ++ dktX0_round_6
def dkwX0_round_4 : List UInt8 := [96, 21, 9, 21, 7, 42, 21, 9, 21, 8, 21, 7, 182, 1, 99, 100, 182, 1, 102, 2, 159, 0, 50, 42]
abbrev dktX0_round_4 : List UInt8 := dkwX0_round_4 ++ dktX0_round_5
def dkwX0_round_3 : List UInt8 := [54, 9, 42, 180, 0, 45, 16, 6, 21, 6, 104, 21, 9, 96, 46, 21, 4, 163, 0, 77, 42, 21, 8, 4]
abbrev dktX0_round_3 : List UInt8 := dkwX0_round_3 ++ dktX0_round_4
def dkwX0_round_2 : List UInt8 := [181, 1, 115, 29, 54, 6, 21, 5, 54, 7, 3, 54, 8, 21, 8, 42, 180, 0, 48, 162, 0, 138, 3]
abbrev dktX0_round_2 : List UInt8 := dkwX0_round_2 ++ dktX0_round_3
def dkwX0_round_1 : List UInt8 := [182, 0, 236, 192, 0, 1, 28, 182, 0, 251, 42, 29, 21, 4, 21, 5, 182, 1, 111, 42, 42, 180, 0, 48]
abbrev dktX0_round_1 : List UInt8 := dkwX0_round_1 ++ dktX0_round_2
def dkwX0_round_0 : List UInt8 := [42, 27, 28, 29, 21, 4, 21, 5, 182, 1, 107, 154, 0, 6, 16, 254, 172, 42, 42, 180, 0, 61, 27]
abbrev dktX0_round_0 : List UInt8 := dkwX0_round_0 ++ dktX0_round_1
theorem dksX0_round_0 : cX0_round.data.toList.drop 0 = dktX0_round_0 := by decide +kernel
theorem dksX0_round_1 : cX0_round.data.toList.drop 23 = dktX0_round_1 := dk_seg dksX0_round_0 23 rfl rfl
theorem dksX0_round_2 : cX0_round.data.toList.drop 47 = dktX0_round_2 := dk_seg dksX0_round_1 24 rfl rfl
theorem dksX0_round_3 : cX0_round.data.toList.drop 70 = dktX0_round_3 := dk_seg dksX0_round_2 23 rfl rfl
theorem dksX0_round_4 : cX0_round.data.toList.drop 94 = dktX0_round_4 := dk_seg dksX0_round_3 24 rfl rfl
theorem dksX0_round_5 : cX0_round.data.toList.drop 118 = dktX0_round_5 := dk_seg dksX0_round_4 24 rfl rfl
theorem dksX0_round_6 : cX0_round.data.toList.drop 141 = dktX0_round_6 := dk_seg dksX0_round_5 23 rfl rfl
theorem dksX0_round_7 : cX0_round.data.toList.drop 164 = dktX0_round_7 := dk_seg dksX0_round_6 23 rfl rfl
theorem dksX0_round_8 : cX0_round.data.toList.drop 186 = dktX0_round_8 := dk_seg dksX0_round_7 22 rfl rfl
theorem dX0_round_0 : decode cX0_round 0 = .ok (.aload_n 0, 1) := dk_42 (dk_at dksX0_round_0 0 rfl rfl)
theorem dX0_round_1 : decode cX0_round 1 = .ok (.iload_n 1, 1) := dk_27 (dk_at dksX0_round_0 1 rfl rfl)
theorem dX0_round_2 : decode cX0_round 2 = .ok (.iload_n 2, 1) := dk_28 (dk_at dksX0_round_0 2 rfl rfl)
theorem dX0_round_3 : decode cX0_round 3 = .ok (.iload_n 3, 1) := dk_29 (dk_at dksX0_round_0 3 rfl rfl)
theorem dX0_round_4 : decode cX0_round 4 = .ok (.iload 4, 2) := dk_21 4 (dk_at dksX0_round_0 4 rfl rfl)
theorem dX0_round_6 : decode cX0_round 6 = .ok (.iload 5, 2) := dk_21 5 (dk_at dksX0_round_0 6 rfl rfl)
theorem dX0_round_8 : decode cX0_round 8 = .ok (.invokevirtual 363, 3) := dk_182 1 107 (dk_at dksX0_round_0 8 rfl rfl)
theorem dX0_round_11 : decode cX0_round 11 = .ok (.ifCond .ne 6, 3) := dk_154 0 6 (dk_at dksX0_round_0 11 rfl rfl)
theorem dX0_round_14 : decode cX0_round 14 = .ok (.bipush (-2), 2) := dk_16 254 (dk_at dksX0_round_0 14 rfl rfl)
theorem dX0_round_16 : decode cX0_round 16 = .ok (.ireturn, 1) := dk_172 (dk_at dksX0_round_0 16 rfl rfl)
theorem dX0_round_17 : decode cX0_round 17 = .ok (.aload_n 0, 1) := dk_42 (dk_at dksX0_round_0 17 rfl rfl)
theorem dX0_round_18 : decode cX0_round 18 = .ok (.aload_n 0, 1) := dk_42 (dk_at dksX0_round_0 18 rfl rfl)
theorem dX0_round_19 : decode cX0_round 19 = .ok (.getfield 61, 3) := dk_180 0 61 (dk_at dksX0_round_0 19 rfl rfl)
theorem dX0_round_22 : decode cX0_round 22 = .ok (.iload_n 1, 1) := dk_27 (dk_at dksX0_round_0 22 rfl rfl)
theorem dX0_round_23 : decode cX0_round 23 = .ok (.invokevirtual 236, 3) := dk_182 0 236 (dk_at dksX0_round_1 0 rfl rfl)
theorem dX0_round_26 : decode cX0_round 26 = .ok (.checkcast 1, 3) := dk_192 0 1 (dk_at dksX0_round_1 3 rfl rfl)
theorem dX0_round_29 : decode cX0_round 29 = .ok (.iload_n 2, 1) := dk_28 (dk_at dksX0_round_1 6 rfl rfl)
theorem dX0_round_30 : decode cX0_round 30 = .ok (.invokevirtual 251, 3) := dk_182 0 251 (dk_at dksX0_round_1 7 rfl rfl)
theorem dX0_round_33 : decode cX0_round 33 = .ok (.aload_n 0, 1) := dk_42 (dk_at dksX0_round_1 10 rfl rfl)
theorem dX0_round_34 : decode cX0_round 34 = .ok (.iload_n 3, 1) := dk_29 (dk_at dksX0_round_1 11 rfl rfl)
theorem dX0_round_35 : decode cX0_round 35 = .ok (.iload 4, 2) := dk_21 4 (dk_at dksX0_round_1 12 rfl rfl)
theorem dX0_round_37 : decode cX0_round 37 = .ok (.iload 5, 2) := dk_21 5 (dk_at dksX0_round_1 14 rfl rfl)
theorem dX0_round_39 : decode cX0_round 39 = .ok (.invokevirtual 367, 3) := dk_182 1 111 (dk_at dksX0_round_1 16 rfl rfl)
theorem dX0_round_42 : decode cX0_round 42 = .ok (.aload_n 0, 1) := dk_42 (dk_at dksX0_round_1 19 rfl rfl)
theorem dX0_round_43 : decode cX0_round 43 = .ok (.aload_n 0, 1) := dk_42 (dk_at dksX0_round_1 20 rfl rfl)
theorem dX0_round_44 : decode cX0_round 44 = .ok (.getfield 48, 3) := dk_180 0 48 (dk_at dksX0_round_1 21 rfl rfl)
theorem dX0_round_47 : decode cX0_round 47 = .ok (.putfield 371, 3) := dk_181 1 115 (dk_at dksX0_round_2 0 rfl rfl)
theorem dX0_round_50 : decode cX0_round 50 = .ok (.iload_n 3, 1) := dk_29 (dk_at dksX0_round_2 3 rfl rfl)
theorem dX0_round_51 : decode cX0_round 51 = .ok (.istore 6, 2) := dk_54 6 (dk_at dksX0_round_2 4 rfl rfl)
theorem dX0_round_53 : decode cX0_round 53 = .ok (.iload 5, 2) := dk_21 5 (dk_at dksX0_round_2 6 rfl rfl)
theorem dX0_round_55 : decode cX0_round 55 = .ok (.istore 7, 2) := dk_54 7 (dk_at dksX0_round_2 8 rfl rfl)
theorem dX0_round_57 : decode cX0_round 57 = .ok (.iconst 0, 1) := dk_3 (dk_at dksX0_round_2 10 rfl rfl)
theorem dX0_round_58 : decode cX0_round 58 = .ok (.istore 8, 2) := dk_54 8 (dk_at dksX0_round_2 11 rfl rfl)
theorem dX0_round_60 : decode cX0_round 60 = .ok (.iload 8, 2) := dk_21 8 (dk_at dksX0_round_2 13 rfl rfl)
theorem dX0_round_62 : decode cX0_round 62 = .ok (.aload_n 0, 1) := dk_42 (dk_at dksX0_round_2 15 rfl rfl)
theorem dX0_round_63 : decode cX0_round 63 = .ok (.getfield 48, 3) := dk_180 0 48 (dk_at dksX0_round_2 16 rfl rfl)
theorem dX0_round_66 : decode cX0_round 66 = .ok (.if_icmp .ge 138, 3) := dk_162 0 138 (dk_at dksX0_round_2 19 rfl rfl)
theorem dX0_round_69 : decode cX0_round 69 = .ok (.iconst 0, 1) := dk_3 (dk_at dksX0_round_2 22 rfl rfl)
theorem dX0_round_70 : decode cX0_round 70 = .ok (.istore 9, 2) := dk_54 9 (dk_at dksX0_round_3 0 rfl rfl)
theorem dX0_round_72 : decode cX0_round 72 = .ok (.aload_n 0, 1) := dk_42 (dk_at dksX0_round_3 2 rfl rfl)
theorem dX0_round_73 : decode cX0_round 73 = .ok (.getfield 45, 3) := dk_180 0 45 (dk_at dksX0_round_3 3 rfl rfl)
theorem dX0_round_76 : decode cX0_round 76 = .ok (.bipush 6, 2) := dk_16 6 (dk_at dksX0_round_3 6 rfl rfl)
theorem dX0_round_78 : decode cX0_round 78 = .ok (.iload 6, 2) := dk_21 6 (dk_at dksX0_round_3 8 rfl rfl)
theorem dX0_round_80 : decode cX0_round 80 = .ok (.imul, 1) := dk_104 (dk_at dksX0_round_3 10 rfl rfl)
theorem dX0_round_81 : decode cX0_round 81 = .ok (.iload 9, 2) := dk_21 9 (dk_at dksX0_round_3 11 rfl rfl)
theorem dX0_round_83 : decode cX0_round 83 = .ok (.iadd, 1) := dk_96 (dk_at dksX0_round_3 13 rfl rfl)
theorem dX0_round_84 : decode cX0_round 84 = .ok (.iaload, 1) := dk_46 (dk_at dksX0_round_3 14 rfl rfl)
theorem dX0_round_85 : decode cX0_round 85 = .ok (.iload 4, 2) := dk_21 4 (dk_at dksX0_round_3 15 rfl rfl)
theorem dX0_round_87 : decode cX0_round 87 = .ok (.if_icmp .gt 77, 3) := dk_163 0 77 (dk_at dksX0_round_3 17 rfl rfl)
theorem dX0_round_90 : decode cX0_round 90 = .ok (.aload_n 0, 1) := dk_42 (dk_at dksX0_round_3 20 rfl rfl)
theorem dX0_round_91 : decode cX0_round 91 = .ok (.iload 8, 2) := dk_21 8 (dk_at dksX0_round_3 21 rfl rfl)
theorem dX0_round_93 : decode cX0_round 93 = .ok (.iconst 1, 1) := dk_4 (dk_at dksX0_round_3 23 rfl rfl)
theorem dX0_round_94 : decode cX0_round 94 = .ok (.iadd, 1) := dk_96 (dk_at dksX0_round_4 0 rfl rfl)
theorem dX0_round_95 : decode cX0_round 95 = .ok (.iload 9, 2) := dk_21 9 (dk_at dksX0_round_4 1 rfl rfl)
theorem dX0_round_97 : decode cX0_round 97 = .ok (.iload 7, 2) := dk_21 7 (dk_at dksX0_round_4 3 rfl rfl)
theorem dX0_round_99 : decode cX0_round 99 = .ok (.aload_n 0, 1) := dk_42 (dk_at dksX0_round_4 5 rfl rfl)
theorem dX0_round_100 : decode cX0_round 100 = .ok (.iload 9, 2) := dk_21 9 (dk_at dksX0_round_4 6 rfl rfl)
theorem dX0_round_102 : decode cX0_round 102 = .ok (.iload 8, 2) := dk_21 8 (dk_at dksX0_round_4 8 rfl rfl)
theorem dX0_round_104 : decode cX0_round 104 = .ok (.iload 7, 2) := dk_21 7 (dk_at dksX0_round_4 10 rfl rfl)
theorem dX0_round_106 : decode cX0_round 106 = .ok (.invokevirtual 355, 3) := dk_182 1 99 (dk_at dksX0_round_4 12 rfl rfl)
theorem dX0_round_109 : decode cX0_round 109 = .ok (.isub, 1) := dk_100 (dk_at dksX0_round_4 15 rfl rfl)
theorem dX0_round_110 : decode cX0_round 110 = .ok (.invokevirtual 358, 3) := dk_182 1 102 (dk_at dksX0_round_4 16 rfl rfl)
theorem dX0_round_113 : decode cX0_round 113 = .ok (.iconst (-1), 1) := dk_2 (dk_at dksX0_round_4 19 rfl rfl)
theorem dX0_round_114 : decode cX0_round 114 = .ok (.if_icmp .eq 50, 3) := dk_159 0 50 (dk_at dksX0_round_4 20 rfl rfl)
theorem dX0_round_117 : decode cX0_round 117 = .ok (.aload_n 0, 1) := dk_42 (dk_at dksX0_round_4 23 rfl rfl)
theorem dX0_round_118 : decode cX0_round 118 = .ok (.iload 9, 2) := dk_21 9 (dk_at dksX0_round_5 0 rfl rfl)
theorem dX0_round_120 : decode cX0_round 120 = .ok (.iload 8, 2) := dk_21 8 (dk_at dksX0_round_5 2 rfl rfl)
theorem dX0_round_122 : decode cX0_round 122 = .ok (.iload 7, 2) := dk_21 7 (dk_at dksX0_round_5 4 rfl rfl)
theorem dX0_round_124 : decode cX0_round 124 = .ok (.invokevirtual 355, 3) := dk_182 1 99 (dk_at dksX0_round_5 6 rfl rfl)
theorem dX0_round_127 : decode cX0_round 127 = .ok (.aload_n 0, 1) := dk_42 (dk_at dksX0_round_5 9 rfl rfl)
theorem dX0_round_128 : decode cX0_round 128 = .ok (.iload 8, 2) := dk_21 8 (dk_at dksX0_round_5 10 rfl rfl)
theorem dX0_round_130 : decode cX0_round 130 = .ok (.iconst 1, 1) := dk_4 (dk_at dksX0_round_5 12 rfl rfl)
theorem dX0_round_131 : decode cX0_round 131 = .ok (.iadd, 1) := dk_96 (dk_at dksX0_round_5 13 rfl rfl)
theorem dX0_round_132 : decode cX0_round 132 = .ok (.iload 9, 2) := dk_21 9 (dk_at dksX0_round_5 14 rfl rfl)
theorem dX0_round_134 : decode cX0_round 134 = .ok (.iload 7, 2) := dk_21 7 (dk_at dksX0_round_5 16 rfl rfl)
theorem dX0_round_136 : decode cX0_round 136 = .ok (.aload_n 0, 1) := dk_42 (dk_at dksX0_round_5 18 rfl rfl)
theorem dX0_round_137 : decode cX0_round 137 = .ok (.iload 9, 2) := dk_21 9 (dk_at dksX0_round_5 19 rfl rfl)
theorem dX0_round_139 : decode cX0_round 139 = .ok (.iload 8, 2) := dk_21 8 (dk_at dksX0_round_5 21 rfl rfl)
theorem dX0_round_141 : decode cX0_round 141 = .ok (.iload 7, 2) := dk_21 7 (dk_at dksX0_round_6 0 rfl rfl)
theorem dX0_round_143 : decode cX0_round 143 = .ok (.invokevirtual 355, 3) := dk_182 1 99 (dk_at dksX0_round_6 2 rfl rfl)
theorem dX0_round_146 : decode cX0_round 146 = .ok (.isub, 1) := dk_100 (dk_at dksX0_round_6 5 rfl rfl)
theorem dX0_round_147 : decode cX0_round 147 = .ok (.invokevirtual 358, 3) := dk_182 1 102 (dk_at dksX0_round_6 6 rfl rfl)
theorem dX0_round_150 : decode cX0_round 150 = .ok (.iadd, 1) := dk_96 (dk_at dksX0_round_6 9 rfl rfl)
theorem dX0_round_151 : decode cX0_round 151 = .ok (.aload_n 0, 1) := dk_42 (dk_at dksX0_round_6 10 rfl rfl)
theorem dX0_round_152 : decode cX0_round 152 = .ok (.iload 8, 2) := dk_21 8 (dk_at dksX0_round_6 11 rfl rfl)
theorem dX0_round_154 : decode cX0_round 154 = .ok (.iload 6, 2) := dk_21 6 (dk_at dksX0_round_6 13 rfl rfl)
theorem dX0_round_156 : decode cX0_round 156 = .ok (.iload 7, 2) := dk_21 7 (dk_at dksX0_round_6 15 rfl rfl)
theorem dX0_round_158 : decode cX0_round 158 = .ok (.invokevirtual 358, 3) := dk_182 1 102 (dk_at dksX0_round_6 17 rfl rfl)
theorem dX0_round_161 : decode cX0_round 161 = .ok (.if_icmp .eq 9, 3) := dk_159 0 9 (dk_at dksX0_round_6 20 rfl rfl)
theorem dX0_round_164 : decode cX0_round 164 = .ok (.iinc 9 1, 3) := dk_132 9 1 (dk_at dksX0_round_7 0 rfl rfl)
theorem dX0_round_167 : decode cX0_round 167 = .ok (.goto (-95), 3) := dk_167 255 161 (dk_at dksX0_round_7 3 rfl rfl)
theorem dX0_round_170 : decode cX0_round 170 = .ok (.iload 7, 2) := dk_21 7 (dk_at dksX0_round_7 6 rfl rfl)
theorem dX0_round_172 : decode cX0_round 172 = .ok (.aload_n 0, 1) := dk_42 (dk_at dksX0_round_7 8 rfl rfl)
theorem dX0_round_173 : decode cX0_round 173 = .ok (.iload 9, 2) := dk_21 9 (dk_at dksX0_round_7 9 rfl rfl)
theorem dX0_round_175 : decode cX0_round 175 = .ok (.iload 8, 2) := dk_21 8 (dk_at dksX0_round_7 11 rfl rfl)
theorem dX0_round_177 : decode cX0_round 177 = .ok (.iload 7, 2) := dk_21 7 (dk_at dksX0_round_7 13 rfl rfl)
theorem dX0_round_179 : decode cX0_round 179 = .ok (.invokevirtual 355, 3) := dk_182 1 99 (dk_at dksX0_round_7 15 rfl rfl)
theorem dX0_round_182 : decode cX0_round 182 = .ok (.isub, 1) := dk_100 (dk_at dksX0_round_7 18 rfl rfl)
theorem dX0_round_183 : decode cX0_round 183 = .ok (.istore 7, 2) := dk_54 7 (dk_at dksX0_round_7 19 rfl rfl)
theorem dX0_round_185 : decode cX0_round 185 = .ok (.aload_n 0, 1) := dk_42 (dk_at dksX0_round_7 21 rfl rfl)
theorem dX0_round_186 : decode cX0_round 186 = .ok (.getfield 87, 3) := dk_180 0 87 (dk_at dksX0_round_8 0 rfl rfl)
theorem dX0_round_189 : decode cX0_round 189 = .ok (.iload 8, 2) := dk_21 8 (dk_at dksX0_round_8 3 rfl rfl)
theorem dX0_round_191 : decode cX0_round 191 = .ok (.iload 9, 2) := dk_21 9 (dk_at dksX0_round_8 5 rfl rfl)
theorem dX0_round_193 : decode cX0_round 193 = .ok (.iastore, 1) := dk_79 (dk_at dksX0_round_8 7 rfl rfl)
theorem dX0_round_194 : decode cX0_round 194 = .ok (.iload 9, 2) := dk_21 9 (dk_at dksX0_round_8 8 rfl rfl)
theorem dX0_round_196 : decode cX0_round 196 = .ok (.istore 6, 2) := dk_54 6 (dk_at dksX0_round_8 10 rfl rfl)
theorem dX0_round_198 : decode cX0_round 198 = .ok (.iinc 8 1, 3) := dk_132 8 1 (dk_at dksX0_round_8 12 rfl rfl)
theorem dX0_round_201 : decode cX0_round 201 = .ok (.goto (-141), 3) := dk_167 255 115 (dk_at dksX0_round_8 15 rfl rfl)
theorem dX0_round_204 : decode cX0_round 204 = .ok (.iload 5, 2) := dk_21 5 (dk_at dksX0_round_8 18 rfl rfl)
theorem dX0_round_206 : decode cX0_round 206 = .ok (.iload 7, 2) := dk_21 7 (dk_at dksX0_round_8 20 rfl rfl)
theorem dX0_round_208 : decode cX0_round 208 = .ok (.isub, 1) := dk_100 (dk_at dksX0_round_8 22 rfl rfl)
theorem dX0_round_209 : decode cX0_round 209 = .ok (.ireturn, 1) := dk_172 (dk_at dksX0_round_8 23 rfl rfl)
abbrev cX0_isRound : ByteArray := prog_1_method_53_code
def yX0_isRound : MethodName := ⟨RX0, "isRound", "(IIIII)Z"⟩
def dkwX0_isRound_2 : List UInt8 := [153, 0, 7, 4, 167, 0, 4, 3, 172]
abbrev dktX0_isRound_2 : List UInt8 := dkwX0_isRound_2 ++ []
def dkwX0_isRound_1 : List UInt8 := [21, 4, 133, 9, 20, 0, 149, 184, 0, 133, 153, 0, 20, 21, 5, 133, 9, 20, 1, 105, 184, 0, 133]
abbrev dktX0_isRound_1 : List UInt8 := dkwX0_isRound_1 ++ dktX0_isRound_2
def dkwX0_isRound_0 : List UInt8 := [42, 27, 182, 0, 233, 153, 0, 49, 42, 28, 182, 0, 167, 153, 0, 41, 42, 29, 182, 0, 145, 153, 0, 33]
abbrev dktX0_isRound_0 : List UInt8 := dkwX0_isRound_0 ++ dktX0_isRound_1
theorem dksX0_isRound_0 : cX0_isRound.data.toList.drop 0 = dktX0_isRound_0 := by decide +kernel
theorem dksX0_isRound_1 : cX0_isRound.data.toList.drop 24 = dktX0_isRound_1 := dk_seg dksX0_isRound_0 24 rfl rfl
theorem dksX0_isRound_2 : cX0_isRound.data.toList.drop 47 = dktX0_isRound_2 := dk_seg dksX0_isRound_1 23 rfl rfl
theorem dX0_isRound_0 : decode cX0_isRound 0 = .ok (.aload_n 0, 1) := dk_42 (dk_at dksX0_isRound_0 0 rfl rfl)
theorem dX0_isRound_1 : decode cX0_isRound 1 = .ok (.iload_n 1, 1) := dk_27 (dk_at dksX0_isRound_0 1 rfl rfl)
theorem dX0_isRound_2 : decode cX0_isRound 2 = .ok (.invokevirtual 233, 3) := dk_182 0 233 (dk_at dksX0_isRound_0 2 rfl rfl)
theorem dX0_isRound_5 : decode cX0_isRound 5 = .ok (.ifCond .eq 49, 3) := dk_153 0 49 (dk_at dksX0_isRound_0 5 rfl rfl)
theorem dX0_isRound_8 : decode cX0_isRound 8 = .ok (.aload_n 0, 1) := dk_42 (dk_at dksX0_isRound_0 8 rfl rfl)
theorem dX0_isRound_9 : decode cX0_isRound 9 = .ok (.iload_n 2, 1) := dk_28 (dk_at dksX0_isRound_0 9 rfl rfl)
theorem dX0_isRound_10 : decode cX0_isRound 10 = .ok (.invokevirtual 167, 3) := dk_182 0 167 (dk_at dksX0_isRound_0 10 rfl rfl)
theorem dX0_isRound_13 : decode cX0_isRound 13 = .ok (.ifCond .eq 41, 3) := dk_153 0 41 (dk_at dksX0_isRound_0 13 rfl rfl)
theorem dX0_isRound_16 : decode cX0_isRound 16 = .ok (.aload_n 0, 1) := dk_42 (dk_at dksX0_isRound_0 16 rfl rfl)
theorem dX0_isRound_17 : decode cX0_isRound 17 = .ok (.iload_n 3, 1) := dk_29 (dk_at dksX0_isRound_0 17 rfl rfl)
theorem dX0_isRound_18 : decode cX0_isRound 18 = .ok (.invokevirtual 145, 3) := dk_182 0 145 (dk_at dksX0_isRound_0 18 rfl rfl)
theorem dX0_isRound_21 : decode cX0_isRound 21 = .ok (.ifCond .eq 33, 3) := dk_153 0 33 (dk_at dksX0_isRound_0 21 rfl rfl)
theorem dX0_isRound_24 : decode cX0_isRound 24 = .ok (.iload 4, 2) := dk_21 4 (dk_at dksX0_isRound_1 0 rfl rfl)
theorem dX0_isRound_26 : decode cX0_isRound 26 = .ok (.i2l, 1) := dk_133 (dk_at dksX0_isRound_1 2 rfl rfl)
theorem dX0_isRound_27 : decode cX0_isRound 27 = .ok (.lconst 0, 1) := dk_9 (dk_at dksX0_isRound_1 3 rfl rfl)
theorem dX0_isRound_28 : decode cX0_isRound 28 = .ok (.ldc2_w 149, 3) := dk_20 0 149 (dk_at dksX0_isRound_1 4 rfl rfl)
theorem dX0_isRound_31 : decode cX0_isRound 31 = .ok (.invokestatic 133, 3) := dk_184 0 133 (dk_at dksX0_isRound_1 7 rfl rfl)
theorem dX0_isRound_34 : decode cX0_isRound 34 = .ok (.ifCond .eq 20, 3) := dk_153 0 20 (dk_at dksX0_isRound_1 10 rfl rfl)
theorem dX0_isRound_37 : decode cX0_isRound 37 = .ok (.iload 5, 2) := dk_21 5 (dk_at dksX0_isRound_1 13 rfl rfl)
theorem dX0_isRound_39 : decode cX0_isRound 39 = .ok (.i2l, 1) := dk_133 (dk_at dksX0_isRound_1 15 rfl rfl)
theorem dX0_isRound_40 : decode cX0_isRound 40 = .ok (.lconst 0, 1) := dk_9 (dk_at dksX0_isRound_1 16 rfl rfl)
theorem dX0_isRound_41 : decode cX0_isRound 41 = .ok (.ldc2_w 361, 3) := dk_20 1 105 (dk_at dksX0_isRound_1 17 rfl rfl)
theorem dX0_isRound_44 : decode cX0_isRound 44 = .ok (.invokestatic 133, 3) := dk_184 0 133 (dk_at dksX0_isRound_1 20 rfl rfl)
theorem dX0_isRound_47 : decode cX0_isRound 47 = .ok (.ifCond .eq 7, 3) := dk_153 0 7 (dk_at dksX0_isRound_2 0 rfl rfl)
theorem dX0_isRound_50 : decode cX0_isRound 50 = .ok (.iconst 1, 1) := dk_4 (dk_at dksX0_isRound_2 3 rfl rfl)
theorem dX0_isRound_51 : decode cX0_isRound 51 = .ok (.goto 4, 3) := dk_167 0 4 (dk_at dksX0_isRound_2 4 rfl rfl)
theorem dX0_isRound_54 : decode cX0_isRound 54 = .ok (.iconst 0, 1) := dk_3 (dk_at dksX0_isRound_2 7 rfl rfl)
theorem dX0_isRound_55 : decode cX0_isRound 55 = .ok (.ireturn, 1) := dk_172 (dk_at dksX0_isRound_2 8 rfl rfl)
abbrev cX0_rounds : ByteArray := prog_1_method_51_code
def yX0_rounds : MethodName := ⟨RX0, "rounds", "(III)V"⟩
def dkwX0_rounds_6 : List UInt8 := [167, 255, 199, 132, 4, 255, 167, 255, 185, 177]
abbrev dktX0_rounds_6 : List UInt8 := dkwX0_rounds_6 ++ []
def dkwX0_rounds_5 : List UInt8 := [21, 6, 96, 42, 21, 4, 21, 5, 21, 6, 28, 182, 1, 96, 79, 132, 6, 1, 167, 255, 217, 132, 5, 1]
abbrev dktX0_rounds_5 : List UInt8 := dkwX0_rounds_5 ++ dktX0_rounds_6
def dkwX0_rounds_4 : List UInt8 := [3, 54, 6, 21, 6, 29, 163, 0, 39, 42, 180, 0, 84, 21, 4, 16, 6, 104, 21, 5, 96, 16, 41, 104]
abbrev dktX0_rounds_4 : List UInt8 := dkwX0_rounds_4 ++ dktX0_rounds_5
def dkwX0_rounds_3 : List UInt8 := [180, 0, 48, 4, 100, 54, 4, 21, 4, 155, 0, 72, 3, 54, 5, 21, 5, 42, 180, 0, 130, 162, 0, 54]
abbrev dktX0_rounds_3 : List UInt8 := dkwX0_rounds_3 ++ dktX0_rounds_4
def dkwX0_rounds_2 : List UInt8 := [160, 0, 7, 3, 167, 0, 4, 2, 79, 132, 5, 1, 167, 255, 215, 132, 4, 1, 167, 255, 197, 42]
abbrev dktX0_rounds_2 : List UInt8 := dkwX0_rounds_2 ++ dktX0_rounds_3
def dkwX0_rounds_1 : List UInt8 := [180, 0, 84, 42, 180, 0, 48, 16, 6, 104, 21, 4, 96, 16, 41, 104, 21, 5, 96, 21, 4, 27]
abbrev dktX0_rounds_1 : List UInt8 := dkwX0_rounds_1 ++ dktX0_rounds_2
def dkwX0_rounds_0 : List UInt8 := [3, 54, 4, 21, 4, 42, 180, 0, 130, 162, 0, 56, 3, 54, 5, 21, 5, 29, 163, 0, 41, 42]
abbrev dktX0_rounds_0 : List UInt8 := dkwX0_rounds_0 ++ dktX0_rounds_1
theorem dksX0_rounds_0 : cX0_rounds.data.toList.drop 0 = dktX0_rounds_0 := by decide +kernel
theorem dksX0_rounds_1 : cX0_rounds.data.toList.drop 22 = dktX0_rounds_1 := dk_seg dksX0_rounds_0 22 rfl rfl
theorem dksX0_rounds_2 : cX0_rounds.data.toList.drop 44 = dktX0_rounds_2 := dk_seg dksX0_rounds_1 22 rfl rfl
theorem dksX0_rounds_3 : cX0_rounds.data.toList.drop 66 = dktX0_rounds_3 := dk_seg dksX0_rounds_2 22 rfl rfl
theorem dksX0_rounds_4 : cX0_rounds.data.toList.drop 90 = dktX0_rounds_4 := dk_seg dksX0_rounds_3 24 rfl rfl
theorem dksX0_rounds_5 : cX0_rounds.data.toList.drop 114 = dktX0_rounds_5 := dk_seg dksX0_rounds_4 24 rfl rfl
theorem dksX0_rounds_6 : cX0_rounds.data.toList.drop 138 = dktX0_rounds_6 := dk_seg dksX0_rounds_5 24 rfl rfl
theorem dX0_rounds_0 : decode cX0_rounds 0 = .ok (.iconst 0, 1) := dk_3 (dk_at dksX0_rounds_0 0 rfl rfl)
theorem dX0_rounds_1 : decode cX0_rounds 1 = .ok (.istore 4, 2) := dk_54 4 (dk_at dksX0_rounds_0 1 rfl rfl)
theorem dX0_rounds_3 : decode cX0_rounds 3 = .ok (.iload 4, 2) := dk_21 4 (dk_at dksX0_rounds_0 3 rfl rfl)
theorem dX0_rounds_5 : decode cX0_rounds 5 = .ok (.aload_n 0, 1) := dk_42 (dk_at dksX0_rounds_0 5 rfl rfl)
theorem dX0_rounds_6 : decode cX0_rounds 6 = .ok (.getfield 130, 3) := dk_180 0 130 (dk_at dksX0_rounds_0 6 rfl rfl)
theorem dX0_rounds_9 : decode cX0_rounds 9 = .ok (.if_icmp .ge 56, 3) := dk_162 0 56 (dk_at dksX0_rounds_0 9 rfl rfl)
theorem dX0_rounds_12 : decode cX0_rounds 12 = .ok (.iconst 0, 1) := dk_3 (dk_at dksX0_rounds_0 12 rfl rfl)
theorem dX0_rounds_13 : decode cX0_rounds 13 = .ok (.istore 5, 2) := dk_54 5 (dk_at dksX0_rounds_0 13 rfl rfl)
theorem dX0_rounds_15 : decode cX0_rounds 15 = .ok (.iload 5, 2) := dk_21 5 (dk_at dksX0_rounds_0 15 rfl rfl)
theorem dX0_rounds_17 : decode cX0_rounds 17 = .ok (.iload_n 3, 1) := dk_29 (dk_at dksX0_rounds_0 17 rfl rfl)
theorem dX0_rounds_18 : decode cX0_rounds 18 = .ok (.if_icmp .gt 41, 3) := dk_163 0 41 (dk_at dksX0_rounds_0 18 rfl rfl)
theorem dX0_rounds_21 : decode cX0_rounds 21 = .ok (.aload_n 0, 1) := dk_42 (dk_at dksX0_rounds_0 21 rfl rfl)
theorem dX0_rounds_22 : decode cX0_rounds 22 = .ok (.getfield 84, 3) := dk_180 0 84 (dk_at dksX0_rounds_1 0 rfl rfl)
theorem dX0_rounds_25 : decode cX0_rounds 25 = .ok (.aload_n 0, 1) := dk_42 (dk_at dksX0_rounds_1 3 rfl rfl)
theorem dX0_rounds_26 : decode cX0_rounds 26 = .ok (.getfield 48, 3) := dk_180 0 48 (dk_at dksX0_rounds_1 4 rfl rfl)
theorem dX0_rounds_29 : decode cX0_rounds 29 = .ok (.bipush 6, 2) := dk_16 6 (dk_at dksX0_rounds_1 7 rfl rfl)
theorem dX0_rounds_31 : decode cX0_rounds 31 = .ok (.imul, 1) := dk_104 (dk_at dksX0_rounds_1 9 rfl rfl)
theorem dX0_rounds_32 : decode cX0_rounds 32 = .ok (.iload 4, 2) := dk_21 4 (dk_at dksX0_rounds_1 10 rfl rfl)
theorem dX0_rounds_34 : decode cX0_rounds 34 = .ok (.iadd, 1) := dk_96 (dk_at dksX0_rounds_1 12 rfl rfl)
theorem dX0_rounds_35 : decode cX0_rounds 35 = .ok (.bipush 41, 2) := dk_16 41 (dk_at dksX0_rounds_1 13 rfl rfl)
theorem dX0_rounds_37 : decode cX0_rounds 37 = .ok (.imul, 1) := dk_104 (dk_at dksX0_rounds_1 15 rfl rfl)
theorem dX0_rounds_38 : decode cX0_rounds 38 = .ok (.iload 5, 2) := dk_21 5 (dk_at dksX0_rounds_1 16 rfl rfl)
theorem dX0_rounds_40 : decode cX0_rounds 40 = .ok (.iadd, 1) := dk_96 (dk_at dksX0_rounds_1 18 rfl rfl)
theorem dX0_rounds_41 : decode cX0_rounds 41 = .ok (.iload 4, 2) := dk_21 4 (dk_at dksX0_rounds_1 19 rfl rfl)
theorem dX0_rounds_43 : decode cX0_rounds 43 = .ok (.iload_n 1, 1) := dk_27 (dk_at dksX0_rounds_1 21 rfl rfl)
theorem dX0_rounds_44 : decode cX0_rounds 44 = .ok (.if_icmp .ne 7, 3) := dk_160 0 7 (dk_at dksX0_rounds_2 0 rfl rfl)
theorem dX0_rounds_47 : decode cX0_rounds 47 = .ok (.iconst 0, 1) := dk_3 (dk_at dksX0_rounds_2 3 rfl rfl)
theorem dX0_rounds_48 : decode cX0_rounds 48 = .ok (.goto 4, 3) := dk_167 0 4 (dk_at dksX0_rounds_2 4 rfl rfl)
theorem dX0_rounds_51 : decode cX0_rounds 51 = .ok (.iconst (-1), 1) := dk_2 (dk_at dksX0_rounds_2 7 rfl rfl)
theorem dX0_rounds_52 : decode cX0_rounds 52 = .ok (.iastore, 1) := dk_79 (dk_at dksX0_rounds_2 8 rfl rfl)
theorem dX0_rounds_53 : decode cX0_rounds 53 = .ok (.iinc 5 1, 3) := dk_132 5 1 (dk_at dksX0_rounds_2 9 rfl rfl)
theorem dX0_rounds_56 : decode cX0_rounds 56 = .ok (.goto (-41), 3) := dk_167 255 215 (dk_at dksX0_rounds_2 12 rfl rfl)
theorem dX0_rounds_59 : decode cX0_rounds 59 = .ok (.iinc 4 1, 3) := dk_132 4 1 (dk_at dksX0_rounds_2 15 rfl rfl)
theorem dX0_rounds_62 : decode cX0_rounds 62 = .ok (.goto (-59), 3) := dk_167 255 197 (dk_at dksX0_rounds_2 18 rfl rfl)
theorem dX0_rounds_65 : decode cX0_rounds 65 = .ok (.aload_n 0, 1) := dk_42 (dk_at dksX0_rounds_2 21 rfl rfl)
theorem dX0_rounds_66 : decode cX0_rounds 66 = .ok (.getfield 48, 3) := dk_180 0 48 (dk_at dksX0_rounds_3 0 rfl rfl)
theorem dX0_rounds_69 : decode cX0_rounds 69 = .ok (.iconst 1, 1) := dk_4 (dk_at dksX0_rounds_3 3 rfl rfl)
theorem dX0_rounds_70 : decode cX0_rounds 70 = .ok (.isub, 1) := dk_100 (dk_at dksX0_rounds_3 4 rfl rfl)
theorem dX0_rounds_71 : decode cX0_rounds 71 = .ok (.istore 4, 2) := dk_54 4 (dk_at dksX0_rounds_3 5 rfl rfl)
theorem dX0_rounds_73 : decode cX0_rounds 73 = .ok (.iload 4, 2) := dk_21 4 (dk_at dksX0_rounds_3 7 rfl rfl)
theorem dX0_rounds_75 : decode cX0_rounds 75 = .ok (.ifCond .lt 72, 3) := dk_155 0 72 (dk_at dksX0_rounds_3 9 rfl rfl)
theorem dX0_rounds_78 : decode cX0_rounds 78 = .ok (.iconst 0, 1) := dk_3 (dk_at dksX0_rounds_3 12 rfl rfl)
theorem dX0_rounds_79 : decode cX0_rounds 79 = .ok (.istore 5, 2) := dk_54 5 (dk_at dksX0_rounds_3 13 rfl rfl)
theorem dX0_rounds_81 : decode cX0_rounds 81 = .ok (.iload 5, 2) := dk_21 5 (dk_at dksX0_rounds_3 15 rfl rfl)
theorem dX0_rounds_83 : decode cX0_rounds 83 = .ok (.aload_n 0, 1) := dk_42 (dk_at dksX0_rounds_3 17 rfl rfl)
theorem dX0_rounds_84 : decode cX0_rounds 84 = .ok (.getfield 130, 3) := dk_180 0 130 (dk_at dksX0_rounds_3 18 rfl rfl)
theorem dX0_rounds_87 : decode cX0_rounds 87 = .ok (.if_icmp .ge 54, 3) := dk_162 0 54 (dk_at dksX0_rounds_3 21 rfl rfl)
theorem dX0_rounds_90 : decode cX0_rounds 90 = .ok (.iconst 0, 1) := dk_3 (dk_at dksX0_rounds_4 0 rfl rfl)
theorem dX0_rounds_91 : decode cX0_rounds 91 = .ok (.istore 6, 2) := dk_54 6 (dk_at dksX0_rounds_4 1 rfl rfl)
theorem dX0_rounds_93 : decode cX0_rounds 93 = .ok (.iload 6, 2) := dk_21 6 (dk_at dksX0_rounds_4 3 rfl rfl)
theorem dX0_rounds_95 : decode cX0_rounds 95 = .ok (.iload_n 3, 1) := dk_29 (dk_at dksX0_rounds_4 5 rfl rfl)
theorem dX0_rounds_96 : decode cX0_rounds 96 = .ok (.if_icmp .gt 39, 3) := dk_163 0 39 (dk_at dksX0_rounds_4 6 rfl rfl)
theorem dX0_rounds_99 : decode cX0_rounds 99 = .ok (.aload_n 0, 1) := dk_42 (dk_at dksX0_rounds_4 9 rfl rfl)
theorem dX0_rounds_100 : decode cX0_rounds 100 = .ok (.getfield 84, 3) := dk_180 0 84 (dk_at dksX0_rounds_4 10 rfl rfl)
theorem dX0_rounds_103 : decode cX0_rounds 103 = .ok (.iload 4, 2) := dk_21 4 (dk_at dksX0_rounds_4 13 rfl rfl)
theorem dX0_rounds_105 : decode cX0_rounds 105 = .ok (.bipush 6, 2) := dk_16 6 (dk_at dksX0_rounds_4 15 rfl rfl)
theorem dX0_rounds_107 : decode cX0_rounds 107 = .ok (.imul, 1) := dk_104 (dk_at dksX0_rounds_4 17 rfl rfl)
theorem dX0_rounds_108 : decode cX0_rounds 108 = .ok (.iload 5, 2) := dk_21 5 (dk_at dksX0_rounds_4 18 rfl rfl)
theorem dX0_rounds_110 : decode cX0_rounds 110 = .ok (.iadd, 1) := dk_96 (dk_at dksX0_rounds_4 20 rfl rfl)
theorem dX0_rounds_111 : decode cX0_rounds 111 = .ok (.bipush 41, 2) := dk_16 41 (dk_at dksX0_rounds_4 21 rfl rfl)
theorem dX0_rounds_113 : decode cX0_rounds 113 = .ok (.imul, 1) := dk_104 (dk_at dksX0_rounds_4 23 rfl rfl)
theorem dX0_rounds_114 : decode cX0_rounds 114 = .ok (.iload 6, 2) := dk_21 6 (dk_at dksX0_rounds_5 0 rfl rfl)
theorem dX0_rounds_116 : decode cX0_rounds 116 = .ok (.iadd, 1) := dk_96 (dk_at dksX0_rounds_5 2 rfl rfl)
theorem dX0_rounds_117 : decode cX0_rounds 117 = .ok (.aload_n 0, 1) := dk_42 (dk_at dksX0_rounds_5 3 rfl rfl)
theorem dX0_rounds_118 : decode cX0_rounds 118 = .ok (.iload 4, 2) := dk_21 4 (dk_at dksX0_rounds_5 4 rfl rfl)
theorem dX0_rounds_120 : decode cX0_rounds 120 = .ok (.iload 5, 2) := dk_21 5 (dk_at dksX0_rounds_5 6 rfl rfl)
theorem dX0_rounds_122 : decode cX0_rounds 122 = .ok (.iload 6, 2) := dk_21 6 (dk_at dksX0_rounds_5 8 rfl rfl)
theorem dX0_rounds_124 : decode cX0_rounds 124 = .ok (.iload_n 2, 1) := dk_28 (dk_at dksX0_rounds_5 10 rfl rfl)
theorem dX0_rounds_125 : decode cX0_rounds 125 = .ok (.invokevirtual 352, 3) := dk_182 1 96 (dk_at dksX0_rounds_5 11 rfl rfl)
theorem dX0_rounds_128 : decode cX0_rounds 128 = .ok (.iastore, 1) := dk_79 (dk_at dksX0_rounds_5 14 rfl rfl)
theorem dX0_rounds_129 : decode cX0_rounds 129 = .ok (.iinc 6 1, 3) := dk_132 6 1 (dk_at dksX0_rounds_5 15 rfl rfl)
theorem dX0_rounds_132 : decode cX0_rounds 132 = .ok (.goto (-39), 3) := dk_167 255 217 (dk_at dksX0_rounds_5 18 rfl rfl)
theorem dX0_rounds_135 : decode cX0_rounds 135 = .ok (.iinc 5 1, 3) := dk_132 5 1 (dk_at dksX0_rounds_5 21 rfl rfl)
theorem dX0_rounds_138 : decode cX0_rounds 138 = .ok (.goto (-57), 3) := dk_167 255 199 (dk_at dksX0_rounds_6 0 rfl rfl)
theorem dX0_rounds_141 : decode cX0_rounds 141 = .ok (.iinc 4 (-1), 3) := dk_132 4 255 (dk_at dksX0_rounds_6 3 rfl rfl)
theorem dX0_rounds_144 : decode cX0_rounds 144 = .ok (.goto (-71), 3) := dk_167 255 185 (dk_at dksX0_rounds_6 6 rfl rfl)
theorem dX0_rounds_147 : decode cX0_rounds 147 = .ok (.return_, 1) := dk_177 (dk_at dksX0_rounds_6 9 rfl rfl)
abbrev cX0_best : ByteArray := prog_1_method_52_code
def yX0_best : MethodName := ⟨RX0, "best", "(IIII)I"⟩
def dkwX0_best_3 : List UInt8 := [21, 5, 164, 0, 10, 21, 7, 21, 8, 96, 54, 5, 132, 6, 1, 167, 255, 176, 21, 5, 172]
abbrev dktX0_best_3 : List UInt8 := dkwX0_best_3 ++ []
def dkwX0_best_2 : List UInt8 := [4, 96, 21, 6, 29, 21, 7, 100, 182, 1, 102, 54, 8, 21, 8, 2, 159, 0, 20, 21, 7, 21, 8, 96]
abbrev dktX0_best_2 : List UInt8 := dkwX0_best_2 ++ dktX0_best_3
def dkwX0_best_1 : List UInt8 := [21, 6, 96, 46, 21, 4, 164, 0, 6, 167, 0, 51, 42, 21, 6, 27, 29, 182, 1, 99, 54, 7, 42, 27]
abbrev dktX0_best_1 : List UInt8 := dkwX0_best_1 ++ dktX0_best_2
def dkwX0_best_0 : List UInt8 := [2, 54, 5, 3, 54, 6, 21, 6, 42, 180, 0, 130, 162, 0, 77, 42, 180, 0, 45, 16, 6, 28, 104]
abbrev dktX0_best_0 : List UInt8 := dkwX0_best_0 ++ dktX0_best_1
theorem dksX0_best_0 : cX0_best.data.toList.drop 0 = dktX0_best_0 := by decide +kernel
theorem dksX0_best_1 : cX0_best.data.toList.drop 23 = dktX0_best_1 := dk_seg dksX0_best_0 23 rfl rfl
theorem dksX0_best_2 : cX0_best.data.toList.drop 47 = dktX0_best_2 := dk_seg dksX0_best_1 24 rfl rfl
theorem dksX0_best_3 : cX0_best.data.toList.drop 71 = dktX0_best_3 := dk_seg dksX0_best_2 24 rfl rfl
theorem dX0_best_0 : decode cX0_best 0 = .ok (.iconst (-1), 1) := dk_2 (dk_at dksX0_best_0 0 rfl rfl)
theorem dX0_best_1 : decode cX0_best 1 = .ok (.istore 5, 2) := dk_54 5 (dk_at dksX0_best_0 1 rfl rfl)
theorem dX0_best_3 : decode cX0_best 3 = .ok (.iconst 0, 1) := dk_3 (dk_at dksX0_best_0 3 rfl rfl)
theorem dX0_best_4 : decode cX0_best 4 = .ok (.istore 6, 2) := dk_54 6 (dk_at dksX0_best_0 4 rfl rfl)
theorem dX0_best_6 : decode cX0_best 6 = .ok (.iload 6, 2) := dk_21 6 (dk_at dksX0_best_0 6 rfl rfl)
theorem dX0_best_8 : decode cX0_best 8 = .ok (.aload_n 0, 1) := dk_42 (dk_at dksX0_best_0 8 rfl rfl)
theorem dX0_best_9 : decode cX0_best 9 = .ok (.getfield 130, 3) := dk_180 0 130 (dk_at dksX0_best_0 9 rfl rfl)
theorem dX0_best_12 : decode cX0_best 12 = .ok (.if_icmp .ge 77, 3) := dk_162 0 77 (dk_at dksX0_best_0 12 rfl rfl)
theorem dX0_best_15 : decode cX0_best 15 = .ok (.aload_n 0, 1) := dk_42 (dk_at dksX0_best_0 15 rfl rfl)
theorem dX0_best_16 : decode cX0_best 16 = .ok (.getfield 45, 3) := dk_180 0 45 (dk_at dksX0_best_0 16 rfl rfl)
theorem dX0_best_19 : decode cX0_best 19 = .ok (.bipush 6, 2) := dk_16 6 (dk_at dksX0_best_0 19 rfl rfl)
theorem dX0_best_21 : decode cX0_best 21 = .ok (.iload_n 2, 1) := dk_28 (dk_at dksX0_best_0 21 rfl rfl)
theorem dX0_best_22 : decode cX0_best 22 = .ok (.imul, 1) := dk_104 (dk_at dksX0_best_0 22 rfl rfl)
theorem dX0_best_23 : decode cX0_best 23 = .ok (.iload 6, 2) := dk_21 6 (dk_at dksX0_best_1 0 rfl rfl)
theorem dX0_best_25 : decode cX0_best 25 = .ok (.iadd, 1) := dk_96 (dk_at dksX0_best_1 2 rfl rfl)
theorem dX0_best_26 : decode cX0_best 26 = .ok (.iaload, 1) := dk_46 (dk_at dksX0_best_1 3 rfl rfl)
theorem dX0_best_27 : decode cX0_best 27 = .ok (.iload 4, 2) := dk_21 4 (dk_at dksX0_best_1 4 rfl rfl)
theorem dX0_best_29 : decode cX0_best 29 = .ok (.if_icmp .le 6, 3) := dk_164 0 6 (dk_at dksX0_best_1 6 rfl rfl)
theorem dX0_best_32 : decode cX0_best 32 = .ok (.goto 51, 3) := dk_167 0 51 (dk_at dksX0_best_1 9 rfl rfl)
theorem dX0_best_35 : decode cX0_best 35 = .ok (.aload_n 0, 1) := dk_42 (dk_at dksX0_best_1 12 rfl rfl)
theorem dX0_best_36 : decode cX0_best 36 = .ok (.iload 6, 2) := dk_21 6 (dk_at dksX0_best_1 13 rfl rfl)
theorem dX0_best_38 : decode cX0_best 38 = .ok (.iload_n 1, 1) := dk_27 (dk_at dksX0_best_1 15 rfl rfl)
theorem dX0_best_39 : decode cX0_best 39 = .ok (.iload_n 3, 1) := dk_29 (dk_at dksX0_best_1 16 rfl rfl)
theorem dX0_best_40 : decode cX0_best 40 = .ok (.invokevirtual 355, 3) := dk_182 1 99 (dk_at dksX0_best_1 17 rfl rfl)
theorem dX0_best_43 : decode cX0_best 43 = .ok (.istore 7, 2) := dk_54 7 (dk_at dksX0_best_1 20 rfl rfl)
theorem dX0_best_45 : decode cX0_best 45 = .ok (.aload_n 0, 1) := dk_42 (dk_at dksX0_best_1 22 rfl rfl)
theorem dX0_best_46 : decode cX0_best 46 = .ok (.iload_n 1, 1) := dk_27 (dk_at dksX0_best_1 23 rfl rfl)
theorem dX0_best_47 : decode cX0_best 47 = .ok (.iconst 1, 1) := dk_4 (dk_at dksX0_best_2 0 rfl rfl)
theorem dX0_best_48 : decode cX0_best 48 = .ok (.iadd, 1) := dk_96 (dk_at dksX0_best_2 1 rfl rfl)
theorem dX0_best_49 : decode cX0_best 49 = .ok (.iload 6, 2) := dk_21 6 (dk_at dksX0_best_2 2 rfl rfl)
theorem dX0_best_51 : decode cX0_best 51 = .ok (.iload_n 3, 1) := dk_29 (dk_at dksX0_best_2 4 rfl rfl)
theorem dX0_best_52 : decode cX0_best 52 = .ok (.iload 7, 2) := dk_21 7 (dk_at dksX0_best_2 5 rfl rfl)
theorem dX0_best_54 : decode cX0_best 54 = .ok (.isub, 1) := dk_100 (dk_at dksX0_best_2 7 rfl rfl)
theorem dX0_best_55 : decode cX0_best 55 = .ok (.invokevirtual 358, 3) := dk_182 1 102 (dk_at dksX0_best_2 8 rfl rfl)
theorem dX0_best_58 : decode cX0_best 58 = .ok (.istore 8, 2) := dk_54 8 (dk_at dksX0_best_2 11 rfl rfl)
theorem dX0_best_60 : decode cX0_best 60 = .ok (.iload 8, 2) := dk_21 8 (dk_at dksX0_best_2 13 rfl rfl)
theorem dX0_best_62 : decode cX0_best 62 = .ok (.iconst (-1), 1) := dk_2 (dk_at dksX0_best_2 15 rfl rfl)
theorem dX0_best_63 : decode cX0_best 63 = .ok (.if_icmp .eq 20, 3) := dk_159 0 20 (dk_at dksX0_best_2 16 rfl rfl)
theorem dX0_best_66 : decode cX0_best 66 = .ok (.iload 7, 2) := dk_21 7 (dk_at dksX0_best_2 19 rfl rfl)
theorem dX0_best_68 : decode cX0_best 68 = .ok (.iload 8, 2) := dk_21 8 (dk_at dksX0_best_2 21 rfl rfl)
theorem dX0_best_70 : decode cX0_best 70 = .ok (.iadd, 1) := dk_96 (dk_at dksX0_best_2 23 rfl rfl)
theorem dX0_best_71 : decode cX0_best 71 = .ok (.iload 5, 2) := dk_21 5 (dk_at dksX0_best_3 0 rfl rfl)
theorem dX0_best_73 : decode cX0_best 73 = .ok (.if_icmp .le 10, 3) := dk_164 0 10 (dk_at dksX0_best_3 2 rfl rfl)
theorem dX0_best_76 : decode cX0_best 76 = .ok (.iload 7, 2) := dk_21 7 (dk_at dksX0_best_3 5 rfl rfl)
theorem dX0_best_78 : decode cX0_best 78 = .ok (.iload 8, 2) := dk_21 8 (dk_at dksX0_best_3 7 rfl rfl)
theorem dX0_best_80 : decode cX0_best 80 = .ok (.iadd, 1) := dk_96 (dk_at dksX0_best_3 9 rfl rfl)
theorem dX0_best_81 : decode cX0_best 81 = .ok (.istore 5, 2) := dk_54 5 (dk_at dksX0_best_3 10 rfl rfl)
theorem dX0_best_83 : decode cX0_best 83 = .ok (.iinc 6 1, 3) := dk_132 6 1 (dk_at dksX0_best_3 12 rfl rfl)
theorem dX0_best_86 : decode cX0_best 86 = .ok (.goto (-80), 3) := dk_167 255 176 (dk_at dksX0_best_3 15 rfl rfl)
theorem dX0_best_89 : decode cX0_best 89 = .ok (.iload 5, 2) := dk_21 5 (dk_at dksX0_best_3 18 rfl rfl)
theorem dX0_best_91 : decode cX0_best 91 = .ok (.ireturn, 1) := dk_172 (dk_at dksX0_best_3 20 rfl rfl)
abbrev cX0_sells : ByteArray := prog_1_method_49_code
def yX0_sells : MethodName := ⟨RX0, "sells", "(III)I"⟩
def dkwX0_sells_1 : List UInt8 := [167, 0, 4, 3, 172]
abbrev dktX0_sells_1 : List UInt8 := dkwX0_sells_1 ++ []
def dkwX0_sells_0 : List UInt8 := [42, 180, 0, 68, 27, 46, 28, 122, 4, 126, 4, 160, 0, 16, 42, 180, 0, 29, 27, 46, 29, 184, 0, 151]
abbrev dktX0_sells_0 : List UInt8 := dkwX0_sells_0 ++ dktX0_sells_1
theorem dksX0_sells_0 : cX0_sells.data.toList.drop 0 = dktX0_sells_0 := by decide +kernel
theorem dksX0_sells_1 : cX0_sells.data.toList.drop 24 = dktX0_sells_1 := dk_seg dksX0_sells_0 24 rfl rfl
theorem dX0_sells_0 : decode cX0_sells 0 = .ok (.aload_n 0, 1) := dk_42 (dk_at dksX0_sells_0 0 rfl rfl)
theorem dX0_sells_1 : decode cX0_sells 1 = .ok (.getfield 68, 3) := dk_180 0 68 (dk_at dksX0_sells_0 1 rfl rfl)
theorem dX0_sells_4 : decode cX0_sells 4 = .ok (.iload_n 1, 1) := dk_27 (dk_at dksX0_sells_0 4 rfl rfl)
theorem dX0_sells_5 : decode cX0_sells 5 = .ok (.iaload, 1) := dk_46 (dk_at dksX0_sells_0 5 rfl rfl)
theorem dX0_sells_6 : decode cX0_sells 6 = .ok (.iload_n 2, 1) := dk_28 (dk_at dksX0_sells_0 6 rfl rfl)
theorem dX0_sells_7 : decode cX0_sells 7 = .ok (.ishr, 1) := dk_122 (dk_at dksX0_sells_0 7 rfl rfl)
theorem dX0_sells_8 : decode cX0_sells 8 = .ok (.iconst 1, 1) := dk_4 (dk_at dksX0_sells_0 8 rfl rfl)
theorem dX0_sells_9 : decode cX0_sells 9 = .ok (.iand, 1) := dk_126 (dk_at dksX0_sells_0 9 rfl rfl)
theorem dX0_sells_10 : decode cX0_sells 10 = .ok (.iconst 1, 1) := dk_4 (dk_at dksX0_sells_0 10 rfl rfl)
theorem dX0_sells_11 : decode cX0_sells 11 = .ok (.if_icmp .ne 16, 3) := dk_160 0 16 (dk_at dksX0_sells_0 11 rfl rfl)
theorem dX0_sells_14 : decode cX0_sells 14 = .ok (.aload_n 0, 1) := dk_42 (dk_at dksX0_sells_0 14 rfl rfl)
theorem dX0_sells_15 : decode cX0_sells 15 = .ok (.getfield 29, 3) := dk_180 0 29 (dk_at dksX0_sells_0 15 rfl rfl)
theorem dX0_sells_18 : decode cX0_sells 18 = .ok (.iload_n 1, 1) := dk_27 (dk_at dksX0_sells_0 18 rfl rfl)
theorem dX0_sells_19 : decode cX0_sells 19 = .ok (.iaload, 1) := dk_46 (dk_at dksX0_sells_0 19 rfl rfl)
theorem dX0_sells_20 : decode cX0_sells 20 = .ok (.iload_n 3, 1) := dk_29 (dk_at dksX0_sells_0 20 rfl rfl)
theorem dX0_sells_21 : decode cX0_sells 21 = .ok (.invokestatic 151, 3) := dk_184 0 151 (dk_at dksX0_sells_0 21 rfl rfl)
theorem dX0_sells_24 : decode cX0_sells 24 = .ok (.goto 4, 3) := dk_167 0 4 (dk_at dksX0_sells_1 0 rfl rfl)
theorem dX0_sells_27 : decode cX0_sells 27 = .ok (.iconst 0, 1) := dk_3 (dk_at dksX0_sells_1 3 rfl rfl)
theorem dX0_sells_28 : decode cX0_sells 28 = .ok (.ireturn, 1) := dk_172 (dk_at dksX0_sells_1 4 rfl rfl)
abbrev cX0_most : ByteArray := prog_1_method_50_code
def yX0_most : MethodName := ⟨RX0, "most", "(III)I"⟩
def dkwX0_most_0 : List UInt8 := [42, 180, 0, 84, 27, 16, 6, 104, 28, 96, 16, 41, 104, 29, 96, 46, 172]
abbrev dktX0_most_0 : List UInt8 := dkwX0_most_0 ++ []
theorem dksX0_most_0 : cX0_most.data.toList.drop 0 = dktX0_most_0 := by decide +kernel
theorem dX0_most_0 : decode cX0_most 0 = .ok (.aload_n 0, 1) := dk_42 (dk_at dksX0_most_0 0 rfl rfl)
theorem dX0_most_1 : decode cX0_most 1 = .ok (.getfield 84, 3) := dk_180 0 84 (dk_at dksX0_most_0 1 rfl rfl)
theorem dX0_most_4 : decode cX0_most 4 = .ok (.iload_n 1, 1) := dk_27 (dk_at dksX0_most_0 4 rfl rfl)
theorem dX0_most_5 : decode cX0_most 5 = .ok (.bipush 6, 2) := dk_16 6 (dk_at dksX0_most_0 5 rfl rfl)
theorem dX0_most_7 : decode cX0_most 7 = .ok (.imul, 1) := dk_104 (dk_at dksX0_most_0 7 rfl rfl)
theorem dX0_most_8 : decode cX0_most 8 = .ok (.iload_n 2, 1) := dk_28 (dk_at dksX0_most_0 8 rfl rfl)
theorem dX0_most_9 : decode cX0_most 9 = .ok (.iadd, 1) := dk_96 (dk_at dksX0_most_0 9 rfl rfl)
theorem dX0_most_10 : decode cX0_most 10 = .ok (.bipush 41, 2) := dk_16 41 (dk_at dksX0_most_0 10 rfl rfl)
theorem dX0_most_12 : decode cX0_most 12 = .ok (.imul, 1) := dk_104 (dk_at dksX0_most_0 12 rfl rfl)
theorem dX0_most_13 : decode cX0_most 13 = .ok (.iload_n 3, 1) := dk_29 (dk_at dksX0_most_0 13 rfl rfl)
theorem dX0_most_14 : decode cX0_most 14 = .ok (.iadd, 1) := dk_96 (dk_at dksX0_most_0 14 rfl rfl)
theorem dX0_most_15 : decode cX0_most 15 = .ok (.iaload, 1) := dk_46 (dk_at dksX0_most_0 15 rfl rfl)
theorem dX0_most_16 : decode cX0_most 16 = .ok (.ireturn, 1) := dk_172 (dk_at dksX0_most_0 16 rfl rfl)
abbrev cX0_roundTold : ByteArray := prog_1_method_55_code
def yX0_roundTold : MethodName := ⟨RX0, "roundTold", "(I)I"⟩
def dkwX0_roundTold_1 : List UInt8 := [167, 0, 4, 2, 172]
abbrev dktX0_roundTold_1 : List UInt8 := dkwX0_roundTold_1 ++ []
def dkwX0_roundTold_0 : List UInt8 := [27, 133, 9, 42, 180, 1, 115, 4, 100, 133, 184, 0, 133, 153, 0, 12, 42, 180, 0, 87, 27, 46]
abbrev dktX0_roundTold_0 : List UInt8 := dkwX0_roundTold_0 ++ dktX0_roundTold_1
theorem dksX0_roundTold_0 : cX0_roundTold.data.toList.drop 0 = dktX0_roundTold_0 := by decide +kernel
theorem dksX0_roundTold_1 : cX0_roundTold.data.toList.drop 22 = dktX0_roundTold_1 := dk_seg dksX0_roundTold_0 22 rfl rfl
theorem dX0_roundTold_0 : decode cX0_roundTold 0 = .ok (.iload_n 1, 1) := dk_27 (dk_at dksX0_roundTold_0 0 rfl rfl)
theorem dX0_roundTold_1 : decode cX0_roundTold 1 = .ok (.i2l, 1) := dk_133 (dk_at dksX0_roundTold_0 1 rfl rfl)
theorem dX0_roundTold_2 : decode cX0_roundTold 2 = .ok (.lconst 0, 1) := dk_9 (dk_at dksX0_roundTold_0 2 rfl rfl)
theorem dX0_roundTold_3 : decode cX0_roundTold 3 = .ok (.aload_n 0, 1) := dk_42 (dk_at dksX0_roundTold_0 3 rfl rfl)
theorem dX0_roundTold_4 : decode cX0_roundTold 4 = .ok (.getfield 371, 3) := dk_180 1 115 (dk_at dksX0_roundTold_0 4 rfl rfl)
theorem dX0_roundTold_7 : decode cX0_roundTold 7 = .ok (.iconst 1, 1) := dk_4 (dk_at dksX0_roundTold_0 7 rfl rfl)
theorem dX0_roundTold_8 : decode cX0_roundTold 8 = .ok (.isub, 1) := dk_100 (dk_at dksX0_roundTold_0 8 rfl rfl)
theorem dX0_roundTold_9 : decode cX0_roundTold 9 = .ok (.i2l, 1) := dk_133 (dk_at dksX0_roundTold_0 9 rfl rfl)
theorem dX0_roundTold_10 : decode cX0_roundTold 10 = .ok (.invokestatic 133, 3) := dk_184 0 133 (dk_at dksX0_roundTold_0 10 rfl rfl)
theorem dX0_roundTold_13 : decode cX0_roundTold 13 = .ok (.ifCond .eq 12, 3) := dk_153 0 12 (dk_at dksX0_roundTold_0 13 rfl rfl)
theorem dX0_roundTold_16 : decode cX0_roundTold 16 = .ok (.aload_n 0, 1) := dk_42 (dk_at dksX0_roundTold_0 16 rfl rfl)
theorem dX0_roundTold_17 : decode cX0_roundTold 17 = .ok (.getfield 87, 3) := dk_180 0 87 (dk_at dksX0_roundTold_0 17 rfl rfl)
theorem dX0_roundTold_20 : decode cX0_roundTold 20 = .ok (.iload_n 1, 1) := dk_27 (dk_at dksX0_roundTold_0 20 rfl rfl)
theorem dX0_roundTold_21 : decode cX0_roundTold 21 = .ok (.iaload, 1) := dk_46 (dk_at dksX0_roundTold_0 21 rfl rfl)
theorem dX0_roundTold_22 : decode cX0_roundTold 22 = .ok (.goto 4, 3) := dk_167 0 4 (dk_at dksX0_roundTold_1 0 rfl rfl)
theorem dX0_roundTold_25 : decode cX0_roundTold 25 = .ok (.iconst (-1), 1) := dk_2 (dk_at dksX0_roundTold_1 3 rfl rfl)
theorem dX0_roundTold_26 : decode cX0_roundTold 26 = .ok (.ireturn, 1) := dk_172 (dk_at dksX0_roundTold_1 4 rfl rfl)
abbrev cX0_walk : ByteArray := prog_1_method_56_code
def yX0_walk : MethodName := ⟨RX0, "walk", "(IIIII)I"⟩
def dkwX0_walk_8 : List UInt8 := [167, 255, 191, 21, 7, 29, 160, 0, 11, 16, 40, 21, 8, 100, 167, 0, 5, 16, 156, 172]
abbrev dktX0_walk_8 : List UInt8 := dkwX0_walk_8 ++ []
def dkwX0_walk_7 : List UInt8 := [21, 8, 42, 21, 10, 21, 9, 21, 8, 182, 1, 99, 100, 54, 8, 21, 10, 54, 7, 132, 9, 1]
abbrev dktX0_walk_7 : List UInt8 := dkwX0_walk_7 ++ dktX0_walk_8
def dkwX0_walk_6 : List UInt8 := [42, 180, 0, 45, 16, 6, 21, 7, 104, 21, 10, 96, 46, 21, 4, 164, 0, 9, 16, 236, 21, 9, 100, 172]
abbrev dktX0_walk_6 : List UInt8 := dkwX0_walk_6 ++ dktX0_walk_7
def dkwX0_walk_5 : List UInt8 := [54, 8, 3, 54, 9, 21, 9, 42, 180, 0, 48, 162, 0, 62, 25, 6, 180, 0, 211, 21, 9, 46, 54, 10]
abbrev dktX0_walk_5 : List UInt8 := dkwX0_walk_5 ++ dktX0_walk_6
def dkwX0_walk_4 : List UInt8 := [167, 255, 226, 42, 42, 180, 0, 61, 27, 182, 0, 236, 192, 0, 1, 28, 182, 0, 251, 29, 54, 7, 16, 40]
abbrev dktX0_walk_4 : List UInt8 := dkwX0_walk_4 ++ dktX0_walk_5
def dkwX0_walk_3 : List UInt8 := [162, 0, 27, 42, 25, 6, 180, 0, 211, 21, 7, 46, 182, 0, 145, 154, 0, 6, 16, 254, 172, 132, 7, 1]
abbrev dktX0_walk_3 : List UInt8 := dkwX0_walk_3 ++ dktX0_walk_4
def dkwX0_walk_2 : List UInt8 := [180, 0, 205, 42, 180, 0, 48, 159, 0, 6, 16, 254, 172, 3, 54, 7, 21, 7, 42, 180, 0, 48]
abbrev dktX0_walk_2 : List UInt8 := dkwX0_walk_2 ++ dktX0_walk_3
def dkwX0_walk_1 : List UInt8 := [42, 180, 0, 117, 21, 5, 50, 58, 6, 25, 6, 180, 0, 202, 156, 0, 6, 16, 245, 172, 25, 6]
abbrev dktX0_walk_1 : List UInt8 := dkwX0_walk_1 ++ dktX0_walk_2
def dkwX0_walk_0 : List UInt8 := [42, 27, 28, 29, 21, 4, 3, 182, 1, 107, 153, 0, 11, 21, 5, 184, 0, 199, 154, 0, 6, 16, 254, 172]
abbrev dktX0_walk_0 : List UInt8 := dkwX0_walk_0 ++ dktX0_walk_1
theorem dksX0_walk_0 : cX0_walk.data.toList.drop 0 = dktX0_walk_0 := by decide +kernel
theorem dksX0_walk_1 : cX0_walk.data.toList.drop 24 = dktX0_walk_1 := dk_seg dksX0_walk_0 24 rfl rfl
theorem dksX0_walk_2 : cX0_walk.data.toList.drop 46 = dktX0_walk_2 := dk_seg dksX0_walk_1 22 rfl rfl
theorem dksX0_walk_3 : cX0_walk.data.toList.drop 68 = dktX0_walk_3 := dk_seg dksX0_walk_2 22 rfl rfl
theorem dksX0_walk_4 : cX0_walk.data.toList.drop 92 = dktX0_walk_4 := dk_seg dksX0_walk_3 24 rfl rfl
theorem dksX0_walk_5 : cX0_walk.data.toList.drop 116 = dktX0_walk_5 := dk_seg dksX0_walk_4 24 rfl rfl
theorem dksX0_walk_6 : cX0_walk.data.toList.drop 140 = dktX0_walk_6 := dk_seg dksX0_walk_5 24 rfl rfl
theorem dksX0_walk_7 : cX0_walk.data.toList.drop 164 = dktX0_walk_7 := dk_seg dksX0_walk_6 24 rfl rfl
theorem dksX0_walk_8 : cX0_walk.data.toList.drop 186 = dktX0_walk_8 := dk_seg dksX0_walk_7 22 rfl rfl
theorem dX0_walk_0 : decode cX0_walk 0 = .ok (.aload_n 0, 1) := dk_42 (dk_at dksX0_walk_0 0 rfl rfl)
theorem dX0_walk_1 : decode cX0_walk 1 = .ok (.iload_n 1, 1) := dk_27 (dk_at dksX0_walk_0 1 rfl rfl)
theorem dX0_walk_2 : decode cX0_walk 2 = .ok (.iload_n 2, 1) := dk_28 (dk_at dksX0_walk_0 2 rfl rfl)
theorem dX0_walk_3 : decode cX0_walk 3 = .ok (.iload_n 3, 1) := dk_29 (dk_at dksX0_walk_0 3 rfl rfl)
theorem dX0_walk_4 : decode cX0_walk 4 = .ok (.iload 4, 2) := dk_21 4 (dk_at dksX0_walk_0 4 rfl rfl)
theorem dX0_walk_6 : decode cX0_walk 6 = .ok (.iconst 0, 1) := dk_3 (dk_at dksX0_walk_0 6 rfl rfl)
theorem dX0_walk_7 : decode cX0_walk 7 = .ok (.invokevirtual 363, 3) := dk_182 1 107 (dk_at dksX0_walk_0 7 rfl rfl)
theorem dX0_walk_10 : decode cX0_walk 10 = .ok (.ifCond .eq 11, 3) := dk_153 0 11 (dk_at dksX0_walk_0 10 rfl rfl)
theorem dX0_walk_13 : decode cX0_walk 13 = .ok (.iload 5, 2) := dk_21 5 (dk_at dksX0_walk_0 13 rfl rfl)
theorem dX0_walk_15 : decode cX0_walk 15 = .ok (.invokestatic 199, 3) := dk_184 0 199 (dk_at dksX0_walk_0 15 rfl rfl)
theorem dX0_walk_18 : decode cX0_walk 18 = .ok (.ifCond .ne 6, 3) := dk_154 0 6 (dk_at dksX0_walk_0 18 rfl rfl)
theorem dX0_walk_21 : decode cX0_walk 21 = .ok (.bipush (-2), 2) := dk_16 254 (dk_at dksX0_walk_0 21 rfl rfl)
theorem dX0_walk_23 : decode cX0_walk 23 = .ok (.ireturn, 1) := dk_172 (dk_at dksX0_walk_0 23 rfl rfl)
theorem dX0_walk_24 : decode cX0_walk 24 = .ok (.aload_n 0, 1) := dk_42 (dk_at dksX0_walk_1 0 rfl rfl)
theorem dX0_walk_25 : decode cX0_walk 25 = .ok (.getfield 117, 3) := dk_180 0 117 (dk_at dksX0_walk_1 1 rfl rfl)
theorem dX0_walk_28 : decode cX0_walk 28 = .ok (.iload 5, 2) := dk_21 5 (dk_at dksX0_walk_1 4 rfl rfl)
theorem dX0_walk_30 : decode cX0_walk 30 = .ok (.aaload, 1) := dk_50 (dk_at dksX0_walk_1 6 rfl rfl)
theorem dX0_walk_31 : decode cX0_walk 31 = .ok (.astore 6, 2) := dk_58 6 (dk_at dksX0_walk_1 7 rfl rfl)
theorem dX0_walk_33 : decode cX0_walk 33 = .ok (.aload 6, 2) := dk_25 6 (dk_at dksX0_walk_1 9 rfl rfl)
theorem dX0_walk_35 : decode cX0_walk 35 = .ok (.getfield 202, 3) := dk_180 0 202 (dk_at dksX0_walk_1 11 rfl rfl)
theorem dX0_walk_38 : decode cX0_walk 38 = .ok (.ifCond .ge 6, 3) := dk_156 0 6 (dk_at dksX0_walk_1 14 rfl rfl)
theorem dX0_walk_41 : decode cX0_walk 41 = .ok (.bipush (-11), 2) := dk_16 245 (dk_at dksX0_walk_1 17 rfl rfl)
theorem dX0_walk_43 : decode cX0_walk 43 = .ok (.ireturn, 1) := dk_172 (dk_at dksX0_walk_1 19 rfl rfl)
theorem dX0_walk_44 : decode cX0_walk 44 = .ok (.aload 6, 2) := dk_25 6 (dk_at dksX0_walk_1 20 rfl rfl)
theorem dX0_walk_46 : decode cX0_walk 46 = .ok (.getfield 205, 3) := dk_180 0 205 (dk_at dksX0_walk_2 0 rfl rfl)
theorem dX0_walk_49 : decode cX0_walk 49 = .ok (.aload_n 0, 1) := dk_42 (dk_at dksX0_walk_2 3 rfl rfl)
theorem dX0_walk_50 : decode cX0_walk 50 = .ok (.getfield 48, 3) := dk_180 0 48 (dk_at dksX0_walk_2 4 rfl rfl)
theorem dX0_walk_53 : decode cX0_walk 53 = .ok (.if_icmp .eq 6, 3) := dk_159 0 6 (dk_at dksX0_walk_2 7 rfl rfl)
theorem dX0_walk_56 : decode cX0_walk 56 = .ok (.bipush (-2), 2) := dk_16 254 (dk_at dksX0_walk_2 10 rfl rfl)
theorem dX0_walk_58 : decode cX0_walk 58 = .ok (.ireturn, 1) := dk_172 (dk_at dksX0_walk_2 12 rfl rfl)
theorem dX0_walk_59 : decode cX0_walk 59 = .ok (.iconst 0, 1) := dk_3 (dk_at dksX0_walk_2 13 rfl rfl)
theorem dX0_walk_60 : decode cX0_walk 60 = .ok (.istore 7, 2) := dk_54 7 (dk_at dksX0_walk_2 14 rfl rfl)
theorem dX0_walk_62 : decode cX0_walk 62 = .ok (.iload 7, 2) := dk_21 7 (dk_at dksX0_walk_2 16 rfl rfl)
theorem dX0_walk_64 : decode cX0_walk 64 = .ok (.aload_n 0, 1) := dk_42 (dk_at dksX0_walk_2 18 rfl rfl)
theorem dX0_walk_65 : decode cX0_walk 65 = .ok (.getfield 48, 3) := dk_180 0 48 (dk_at dksX0_walk_2 19 rfl rfl)
theorem dX0_walk_68 : decode cX0_walk 68 = .ok (.if_icmp .ge 27, 3) := dk_162 0 27 (dk_at dksX0_walk_3 0 rfl rfl)
theorem dX0_walk_71 : decode cX0_walk 71 = .ok (.aload_n 0, 1) := dk_42 (dk_at dksX0_walk_3 3 rfl rfl)
theorem dX0_walk_72 : decode cX0_walk 72 = .ok (.aload 6, 2) := dk_25 6 (dk_at dksX0_walk_3 4 rfl rfl)
theorem dX0_walk_74 : decode cX0_walk 74 = .ok (.getfield 211, 3) := dk_180 0 211 (dk_at dksX0_walk_3 6 rfl rfl)
theorem dX0_walk_77 : decode cX0_walk 77 = .ok (.iload 7, 2) := dk_21 7 (dk_at dksX0_walk_3 9 rfl rfl)
theorem dX0_walk_79 : decode cX0_walk 79 = .ok (.iaload, 1) := dk_46 (dk_at dksX0_walk_3 11 rfl rfl)
theorem dX0_walk_80 : decode cX0_walk 80 = .ok (.invokevirtual 145, 3) := dk_182 0 145 (dk_at dksX0_walk_3 12 rfl rfl)
theorem dX0_walk_83 : decode cX0_walk 83 = .ok (.ifCond .ne 6, 3) := dk_154 0 6 (dk_at dksX0_walk_3 15 rfl rfl)
theorem dX0_walk_86 : decode cX0_walk 86 = .ok (.bipush (-2), 2) := dk_16 254 (dk_at dksX0_walk_3 18 rfl rfl)
theorem dX0_walk_88 : decode cX0_walk 88 = .ok (.ireturn, 1) := dk_172 (dk_at dksX0_walk_3 20 rfl rfl)
theorem dX0_walk_89 : decode cX0_walk 89 = .ok (.iinc 7 1, 3) := dk_132 7 1 (dk_at dksX0_walk_3 21 rfl rfl)
theorem dX0_walk_92 : decode cX0_walk 92 = .ok (.goto (-30), 3) := dk_167 255 226 (dk_at dksX0_walk_4 0 rfl rfl)
theorem dX0_walk_95 : decode cX0_walk 95 = .ok (.aload_n 0, 1) := dk_42 (dk_at dksX0_walk_4 3 rfl rfl)
theorem dX0_walk_96 : decode cX0_walk 96 = .ok (.aload_n 0, 1) := dk_42 (dk_at dksX0_walk_4 4 rfl rfl)
theorem dX0_walk_97 : decode cX0_walk 97 = .ok (.getfield 61, 3) := dk_180 0 61 (dk_at dksX0_walk_4 5 rfl rfl)
theorem dX0_walk_100 : decode cX0_walk 100 = .ok (.iload_n 1, 1) := dk_27 (dk_at dksX0_walk_4 8 rfl rfl)
theorem dX0_walk_101 : decode cX0_walk 101 = .ok (.invokevirtual 236, 3) := dk_182 0 236 (dk_at dksX0_walk_4 9 rfl rfl)
theorem dX0_walk_104 : decode cX0_walk 104 = .ok (.checkcast 1, 3) := dk_192 0 1 (dk_at dksX0_walk_4 12 rfl rfl)
theorem dX0_walk_107 : decode cX0_walk 107 = .ok (.iload_n 2, 1) := dk_28 (dk_at dksX0_walk_4 15 rfl rfl)
theorem dX0_walk_108 : decode cX0_walk 108 = .ok (.invokevirtual 251, 3) := dk_182 0 251 (dk_at dksX0_walk_4 16 rfl rfl)
theorem dX0_walk_111 : decode cX0_walk 111 = .ok (.iload_n 3, 1) := dk_29 (dk_at dksX0_walk_4 19 rfl rfl)
theorem dX0_walk_112 : decode cX0_walk 112 = .ok (.istore 7, 2) := dk_54 7 (dk_at dksX0_walk_4 20 rfl rfl)
theorem dX0_walk_114 : decode cX0_walk 114 = .ok (.bipush 40, 2) := dk_16 40 (dk_at dksX0_walk_4 22 rfl rfl)
theorem dX0_walk_116 : decode cX0_walk 116 = .ok (.istore 8, 2) := dk_54 8 (dk_at dksX0_walk_5 0 rfl rfl)
theorem dX0_walk_118 : decode cX0_walk 118 = .ok (.iconst 0, 1) := dk_3 (dk_at dksX0_walk_5 2 rfl rfl)
theorem dX0_walk_119 : decode cX0_walk 119 = .ok (.istore 9, 2) := dk_54 9 (dk_at dksX0_walk_5 3 rfl rfl)
theorem dX0_walk_121 : decode cX0_walk 121 = .ok (.iload 9, 2) := dk_21 9 (dk_at dksX0_walk_5 5 rfl rfl)
theorem dX0_walk_123 : decode cX0_walk 123 = .ok (.aload_n 0, 1) := dk_42 (dk_at dksX0_walk_5 7 rfl rfl)
theorem dX0_walk_124 : decode cX0_walk 124 = .ok (.getfield 48, 3) := dk_180 0 48 (dk_at dksX0_walk_5 8 rfl rfl)
theorem dX0_walk_127 : decode cX0_walk 127 = .ok (.if_icmp .ge 62, 3) := dk_162 0 62 (dk_at dksX0_walk_5 11 rfl rfl)
theorem dX0_walk_130 : decode cX0_walk 130 = .ok (.aload 6, 2) := dk_25 6 (dk_at dksX0_walk_5 14 rfl rfl)
theorem dX0_walk_132 : decode cX0_walk 132 = .ok (.getfield 211, 3) := dk_180 0 211 (dk_at dksX0_walk_5 16 rfl rfl)
theorem dX0_walk_135 : decode cX0_walk 135 = .ok (.iload 9, 2) := dk_21 9 (dk_at dksX0_walk_5 19 rfl rfl)
theorem dX0_walk_137 : decode cX0_walk 137 = .ok (.iaload, 1) := dk_46 (dk_at dksX0_walk_5 21 rfl rfl)
theorem dX0_walk_138 : decode cX0_walk 138 = .ok (.istore 10, 2) := dk_54 10 (dk_at dksX0_walk_5 22 rfl rfl)
theorem dX0_walk_140 : decode cX0_walk 140 = .ok (.aload_n 0, 1) := dk_42 (dk_at dksX0_walk_6 0 rfl rfl)
theorem dX0_walk_141 : decode cX0_walk 141 = .ok (.getfield 45, 3) := dk_180 0 45 (dk_at dksX0_walk_6 1 rfl rfl)
theorem dX0_walk_144 : decode cX0_walk 144 = .ok (.bipush 6, 2) := dk_16 6 (dk_at dksX0_walk_6 4 rfl rfl)
theorem dX0_walk_146 : decode cX0_walk 146 = .ok (.iload 7, 2) := dk_21 7 (dk_at dksX0_walk_6 6 rfl rfl)
theorem dX0_walk_148 : decode cX0_walk 148 = .ok (.imul, 1) := dk_104 (dk_at dksX0_walk_6 8 rfl rfl)
theorem dX0_walk_149 : decode cX0_walk 149 = .ok (.iload 10, 2) := dk_21 10 (dk_at dksX0_walk_6 9 rfl rfl)
theorem dX0_walk_151 : decode cX0_walk 151 = .ok (.iadd, 1) := dk_96 (dk_at dksX0_walk_6 11 rfl rfl)
theorem dX0_walk_152 : decode cX0_walk 152 = .ok (.iaload, 1) := dk_46 (dk_at dksX0_walk_6 12 rfl rfl)
theorem dX0_walk_153 : decode cX0_walk 153 = .ok (.iload 4, 2) := dk_21 4 (dk_at dksX0_walk_6 13 rfl rfl)
theorem dX0_walk_155 : decode cX0_walk 155 = .ok (.if_icmp .le 9, 3) := dk_164 0 9 (dk_at dksX0_walk_6 15 rfl rfl)
theorem dX0_walk_158 : decode cX0_walk 158 = .ok (.bipush (-20), 2) := dk_16 236 (dk_at dksX0_walk_6 18 rfl rfl)
theorem dX0_walk_160 : decode cX0_walk 160 = .ok (.iload 9, 2) := dk_21 9 (dk_at dksX0_walk_6 20 rfl rfl)
theorem dX0_walk_162 : decode cX0_walk 162 = .ok (.isub, 1) := dk_100 (dk_at dksX0_walk_6 22 rfl rfl)
theorem dX0_walk_163 : decode cX0_walk 163 = .ok (.ireturn, 1) := dk_172 (dk_at dksX0_walk_6 23 rfl rfl)
theorem dX0_walk_164 : decode cX0_walk 164 = .ok (.iload 8, 2) := dk_21 8 (dk_at dksX0_walk_7 0 rfl rfl)
theorem dX0_walk_166 : decode cX0_walk 166 = .ok (.aload_n 0, 1) := dk_42 (dk_at dksX0_walk_7 2 rfl rfl)
theorem dX0_walk_167 : decode cX0_walk 167 = .ok (.iload 10, 2) := dk_21 10 (dk_at dksX0_walk_7 3 rfl rfl)
theorem dX0_walk_169 : decode cX0_walk 169 = .ok (.iload 9, 2) := dk_21 9 (dk_at dksX0_walk_7 5 rfl rfl)
theorem dX0_walk_171 : decode cX0_walk 171 = .ok (.iload 8, 2) := dk_21 8 (dk_at dksX0_walk_7 7 rfl rfl)
theorem dX0_walk_173 : decode cX0_walk 173 = .ok (.invokevirtual 355, 3) := dk_182 1 99 (dk_at dksX0_walk_7 9 rfl rfl)
theorem dX0_walk_176 : decode cX0_walk 176 = .ok (.isub, 1) := dk_100 (dk_at dksX0_walk_7 12 rfl rfl)
theorem dX0_walk_177 : decode cX0_walk 177 = .ok (.istore 8, 2) := dk_54 8 (dk_at dksX0_walk_7 13 rfl rfl)
theorem dX0_walk_179 : decode cX0_walk 179 = .ok (.iload 10, 2) := dk_21 10 (dk_at dksX0_walk_7 15 rfl rfl)
theorem dX0_walk_181 : decode cX0_walk 181 = .ok (.istore 7, 2) := dk_54 7 (dk_at dksX0_walk_7 17 rfl rfl)
theorem dX0_walk_183 : decode cX0_walk 183 = .ok (.iinc 9 1, 3) := dk_132 9 1 (dk_at dksX0_walk_7 19 rfl rfl)
theorem dX0_walk_186 : decode cX0_walk 186 = .ok (.goto (-65), 3) := dk_167 255 191 (dk_at dksX0_walk_8 0 rfl rfl)
theorem dX0_walk_189 : decode cX0_walk 189 = .ok (.iload 7, 2) := dk_21 7 (dk_at dksX0_walk_8 3 rfl rfl)
theorem dX0_walk_191 : decode cX0_walk 191 = .ok (.iload_n 3, 1) := dk_29 (dk_at dksX0_walk_8 5 rfl rfl)
theorem dX0_walk_192 : decode cX0_walk 192 = .ok (.if_icmp .ne 11, 3) := dk_160 0 11 (dk_at dksX0_walk_8 6 rfl rfl)
theorem dX0_walk_195 : decode cX0_walk 195 = .ok (.bipush 40, 2) := dk_16 40 (dk_at dksX0_walk_8 9 rfl rfl)
theorem dX0_walk_197 : decode cX0_walk 197 = .ok (.iload 8, 2) := dk_21 8 (dk_at dksX0_walk_8 11 rfl rfl)
theorem dX0_walk_199 : decode cX0_walk 199 = .ok (.isub, 1) := dk_100 (dk_at dksX0_walk_8 13 rfl rfl)
theorem dX0_walk_200 : decode cX0_walk 200 = .ok (.goto 5, 3) := dk_167 0 5 (dk_at dksX0_walk_8 14 rfl rfl)
theorem dX0_walk_203 : decode cX0_walk 203 = .ok (.bipush (-100), 2) := dk_16 156 (dk_at dksX0_walk_8 17 rfl rfl)
theorem dX0_walk_205 : decode cX0_walk 205 = .ok (.ireturn, 1) := dk_172 (dk_at dksX0_walk_8 19 rfl rfl)
abbrev cX0_givingTold : ByteArray := prog_1_method_57_code
def yX0_givingTold : MethodName := ⟨RX0, "givingTold", "(II)I"⟩
def dkwX0_givingTold_3 : List UInt8 := [16, 249, 172]
abbrev dktX0_givingTold_3 : List UInt8 := dkwX0_givingTold_3 ++ []
def dkwX0_givingTold_2 : List UInt8 := [45, 182, 1, 118, 172, 45, 180, 1, 57, 172, 45, 182, 0, 229, 153, 0, 7, 4, 167, 0, 4, 3, 172]
abbrev dktX0_givingTold_2 : List UInt8 := dkwX0_givingTold_2 ++ dktX0_givingTold_3
def dkwX0_givingTold_1 : List UInt8 := [170, 0, 0, 0, 0, 0, 0, 51, 0, 0, 0, 0, 0, 0, 0, 2, 0, 0, 0, 28, 0, 0, 0, 33, 0, 0, 0, 38]
abbrev dktX0_givingTold_1 : List UInt8 := dkwX0_givingTold_1 ++ dktX0_givingTold_2
def dkwX0_givingTold_0 : List UInt8 := [42, 27, 182, 0, 233, 154, 0, 6, 16, 251, 172, 42, 180, 0, 61, 27, 182, 0, 236, 192, 0, 1, 78, 28]
abbrev dktX0_givingTold_0 : List UInt8 := dkwX0_givingTold_0 ++ dktX0_givingTold_1
theorem dksX0_givingTold_0 : cX0_givingTold.data.toList.drop 0 = dktX0_givingTold_0 := by decide +kernel
theorem dksX0_givingTold_1 : cX0_givingTold.data.toList.drop 24 = dktX0_givingTold_1 := dk_seg dksX0_givingTold_0 24 rfl rfl
theorem dksX0_givingTold_2 : cX0_givingTold.data.toList.drop 52 = dktX0_givingTold_2 := dk_seg dksX0_givingTold_1 28 rfl rfl
theorem dksX0_givingTold_3 : cX0_givingTold.data.toList.drop 75 = dktX0_givingTold_3 := dk_seg dksX0_givingTold_2 23 rfl rfl
theorem dX0_givingTold_0 : decode cX0_givingTold 0 = .ok (.aload_n 0, 1) := dk_42 (dk_at dksX0_givingTold_0 0 rfl rfl)
theorem dX0_givingTold_1 : decode cX0_givingTold 1 = .ok (.iload_n 1, 1) := dk_27 (dk_at dksX0_givingTold_0 1 rfl rfl)
theorem dX0_givingTold_2 : decode cX0_givingTold 2 = .ok (.invokevirtual 233, 3) := dk_182 0 233 (dk_at dksX0_givingTold_0 2 rfl rfl)
theorem dX0_givingTold_5 : decode cX0_givingTold 5 = .ok (.ifCond .ne 6, 3) := dk_154 0 6 (dk_at dksX0_givingTold_0 5 rfl rfl)
theorem dX0_givingTold_8 : decode cX0_givingTold 8 = .ok (.bipush (-5), 2) := dk_16 251 (dk_at dksX0_givingTold_0 8 rfl rfl)
theorem dX0_givingTold_10 : decode cX0_givingTold 10 = .ok (.ireturn, 1) := dk_172 (dk_at dksX0_givingTold_0 10 rfl rfl)
theorem dX0_givingTold_11 : decode cX0_givingTold 11 = .ok (.aload_n 0, 1) := dk_42 (dk_at dksX0_givingTold_0 11 rfl rfl)
theorem dX0_givingTold_12 : decode cX0_givingTold 12 = .ok (.getfield 61, 3) := dk_180 0 61 (dk_at dksX0_givingTold_0 12 rfl rfl)
theorem dX0_givingTold_15 : decode cX0_givingTold 15 = .ok (.iload_n 1, 1) := dk_27 (dk_at dksX0_givingTold_0 15 rfl rfl)
theorem dX0_givingTold_16 : decode cX0_givingTold 16 = .ok (.invokevirtual 236, 3) := dk_182 0 236 (dk_at dksX0_givingTold_0 16 rfl rfl)
theorem dX0_givingTold_19 : decode cX0_givingTold 19 = .ok (.checkcast 1, 3) := dk_192 0 1 (dk_at dksX0_givingTold_0 19 rfl rfl)
theorem dX0_givingTold_22 : decode cX0_givingTold 22 = .ok (.astore_n 3, 1) := dk_78 (dk_at dksX0_givingTold_0 22 rfl rfl)
theorem dX0_givingTold_23 : decode cX0_givingTold 23 = .ok (.iload_n 2, 1) := dk_28 (dk_at dksX0_givingTold_0 23 rfl rfl)
theorem dX0_givingTold_24 : decode cX0_givingTold 24 = .ok (.tableswitch 51 0 2 #[28, 33, 38], 28) := by decide +kernel
theorem dX0_givingTold_52 : decode cX0_givingTold 52 = .ok (.aload_n 3, 1) := dk_45 (dk_at dksX0_givingTold_2 0 rfl rfl)
theorem dX0_givingTold_53 : decode cX0_givingTold 53 = .ok (.invokevirtual 374, 3) := dk_182 1 118 (dk_at dksX0_givingTold_2 1 rfl rfl)
theorem dX0_givingTold_56 : decode cX0_givingTold 56 = .ok (.ireturn, 1) := dk_172 (dk_at dksX0_givingTold_2 4 rfl rfl)
theorem dX0_givingTold_57 : decode cX0_givingTold 57 = .ok (.aload_n 3, 1) := dk_45 (dk_at dksX0_givingTold_2 5 rfl rfl)
theorem dX0_givingTold_58 : decode cX0_givingTold 58 = .ok (.getfield 313, 3) := dk_180 1 57 (dk_at dksX0_givingTold_2 6 rfl rfl)
theorem dX0_givingTold_61 : decode cX0_givingTold 61 = .ok (.ireturn, 1) := dk_172 (dk_at dksX0_givingTold_2 9 rfl rfl)
theorem dX0_givingTold_62 : decode cX0_givingTold 62 = .ok (.aload_n 3, 1) := dk_45 (dk_at dksX0_givingTold_2 10 rfl rfl)
theorem dX0_givingTold_63 : decode cX0_givingTold 63 = .ok (.invokevirtual 229, 3) := dk_182 0 229 (dk_at dksX0_givingTold_2 11 rfl rfl)
theorem dX0_givingTold_66 : decode cX0_givingTold 66 = .ok (.ifCond .eq 7, 3) := dk_153 0 7 (dk_at dksX0_givingTold_2 14 rfl rfl)
theorem dX0_givingTold_69 : decode cX0_givingTold 69 = .ok (.iconst 1, 1) := dk_4 (dk_at dksX0_givingTold_2 17 rfl rfl)
theorem dX0_givingTold_70 : decode cX0_givingTold 70 = .ok (.goto 4, 3) := dk_167 0 4 (dk_at dksX0_givingTold_2 18 rfl rfl)
theorem dX0_givingTold_73 : decode cX0_givingTold 73 = .ok (.iconst 0, 1) := dk_3 (dk_at dksX0_givingTold_2 21 rfl rfl)
theorem dX0_givingTold_74 : decode cX0_givingTold 74 = .ok (.ireturn, 1) := dk_172 (dk_at dksX0_givingTold_2 22 rfl rfl)
theorem dX0_givingTold_75 : decode cX0_givingTold 75 = .ok (.bipush (-7), 2) := dk_16 249 (dk_at dksX0_givingTold_3 0 rfl rfl)
theorem dX0_givingTold_77 : decode cX0_givingTold 77 = .ok (.ireturn, 1) := dk_172 (dk_at dksX0_givingTold_3 2 rfl rfl)
abbrev cX0_count : ByteArray := prog_1_method_58_code
def yX0_count : MethodName := ⟨RX0, "count", "(I)I"⟩
def dkwX0_count_3 : List UInt8 := [180, 0, 127, 172, 42, 180, 0, 173, 172, 42, 180, 1, 121, 172, 16, 254, 172]
abbrev dktX0_count_3 : List UInt8 := dkwX0_count_3 ++ []
def dkwX0_count_2 : List UInt8 := [42, 180, 0, 130, 172, 42, 180, 0, 48, 172, 42, 180, 0, 170, 172, 42, 180, 0, 61, 182, 0, 137, 172, 42]
abbrev dktX0_count_2 : List UInt8 := dkwX0_count_2 ++ dktX0_count_3
def dkwX0_count_1 : List UInt8 := [170, 0, 0, 0, 0, 0, 81, 0, 0, 0, 0, 0, 0, 0, 6, 0, 0, 0, 43, 0, 0, 0, 48, 0, 0, 0, 53, 0, 0, 0, 58, 0, 0, 0, 66, 0, 0, 0, 71, 0, 0, 0, 76]
abbrev dktX0_count_1 : List UInt8 := dkwX0_count_1 ++ dktX0_count_2
def dkwX0_count_0 : List UInt8 := [27]
abbrev dktX0_count_0 : List UInt8 := dkwX0_count_0 ++ dktX0_count_1
theorem dksX0_count_0 : cX0_count.data.toList.drop 0 = dktX0_count_0 := by decide +kernel
theorem dksX0_count_1 : cX0_count.data.toList.drop 1 = dktX0_count_1 := dk_seg dksX0_count_0 1 rfl rfl
theorem dksX0_count_2 : cX0_count.data.toList.drop 44 = dktX0_count_2 := dk_seg dksX0_count_1 43 rfl rfl
theorem dksX0_count_3 : cX0_count.data.toList.drop 68 = dktX0_count_3 := dk_seg dksX0_count_2 24 rfl rfl
theorem dX0_count_0 : decode cX0_count 0 = .ok (.iload_n 1, 1) := dk_27 (dk_at dksX0_count_0 0 rfl rfl)
theorem dX0_count_1 : decode cX0_count 1 = .ok (.tableswitch 81 0 6 #[43, 48, 53, 58, 66, 71, 76], 43) := by decide +kernel
theorem dX0_count_44 : decode cX0_count 44 = .ok (.aload_n 0, 1) := dk_42 (dk_at dksX0_count_2 0 rfl rfl)
theorem dX0_count_45 : decode cX0_count 45 = .ok (.getfield 130, 3) := dk_180 0 130 (dk_at dksX0_count_2 1 rfl rfl)
theorem dX0_count_48 : decode cX0_count 48 = .ok (.ireturn, 1) := dk_172 (dk_at dksX0_count_2 4 rfl rfl)
theorem dX0_count_49 : decode cX0_count 49 = .ok (.aload_n 0, 1) := dk_42 (dk_at dksX0_count_2 5 rfl rfl)
theorem dX0_count_50 : decode cX0_count 50 = .ok (.getfield 48, 3) := dk_180 0 48 (dk_at dksX0_count_2 6 rfl rfl)
theorem dX0_count_53 : decode cX0_count 53 = .ok (.ireturn, 1) := dk_172 (dk_at dksX0_count_2 9 rfl rfl)
theorem dX0_count_54 : decode cX0_count 54 = .ok (.aload_n 0, 1) := dk_42 (dk_at dksX0_count_2 10 rfl rfl)
theorem dX0_count_55 : decode cX0_count 55 = .ok (.getfield 170, 3) := dk_180 0 170 (dk_at dksX0_count_2 11 rfl rfl)
theorem dX0_count_58 : decode cX0_count 58 = .ok (.ireturn, 1) := dk_172 (dk_at dksX0_count_2 14 rfl rfl)
theorem dX0_count_59 : decode cX0_count 59 = .ok (.aload_n 0, 1) := dk_42 (dk_at dksX0_count_2 15 rfl rfl)
theorem dX0_count_60 : decode cX0_count 60 = .ok (.getfield 61, 3) := dk_180 0 61 (dk_at dksX0_count_2 16 rfl rfl)
theorem dX0_count_63 : decode cX0_count 63 = .ok (.invokevirtual 137, 3) := dk_182 0 137 (dk_at dksX0_count_2 19 rfl rfl)
theorem dX0_count_66 : decode cX0_count 66 = .ok (.ireturn, 1) := dk_172 (dk_at dksX0_count_2 22 rfl rfl)
theorem dX0_count_67 : decode cX0_count 67 = .ok (.aload_n 0, 1) := dk_42 (dk_at dksX0_count_2 23 rfl rfl)
theorem dX0_count_68 : decode cX0_count 68 = .ok (.getfield 127, 3) := dk_180 0 127 (dk_at dksX0_count_3 0 rfl rfl)
theorem dX0_count_71 : decode cX0_count 71 = .ok (.ireturn, 1) := dk_172 (dk_at dksX0_count_3 3 rfl rfl)
theorem dX0_count_72 : decode cX0_count 72 = .ok (.aload_n 0, 1) := dk_42 (dk_at dksX0_count_3 4 rfl rfl)
theorem dX0_count_73 : decode cX0_count 73 = .ok (.getfield 173, 3) := dk_180 0 173 (dk_at dksX0_count_3 5 rfl rfl)
theorem dX0_count_76 : decode cX0_count 76 = .ok (.ireturn, 1) := dk_172 (dk_at dksX0_count_3 8 rfl rfl)
theorem dX0_count_77 : decode cX0_count 77 = .ok (.aload_n 0, 1) := dk_42 (dk_at dksX0_count_3 9 rfl rfl)
theorem dX0_count_78 : decode cX0_count 78 = .ok (.getfield 377, 3) := dk_180 1 121 (dk_at dksX0_count_3 10 rfl rfl)
theorem dX0_count_81 : decode cX0_count 81 = .ok (.ireturn, 1) := dk_172 (dk_at dksX0_count_3 13 rfl rfl)
theorem dX0_count_82 : decode cX0_count 82 = .ok (.bipush (-2), 2) := dk_16 254 (dk_at dksX0_count_3 14 rfl rfl)
theorem dX0_count_84 : decode cX0_count 84 = .ok (.ireturn, 1) := dk_172 (dk_at dksX0_count_3 16 rfl rfl)
abbrev cX0_image : ByteArray := prog_1_method_59_code
def yX0_image : MethodName := ⟨RX0, "image", "()I"⟩
def dkwX0_image_4 : List UInt8 := [181, 1, 130, 42, 180, 0, 130, 172]
abbrev dktX0_image_4 : List UInt8 := dkwX0_image_4 ++ []
def dkwX0_image_3 : List UInt8 := [181, 0, 102, 42, 42, 180, 0, 48, 181, 1, 124, 42, 42, 180, 0, 170, 181, 1, 127, 42, 42, 180, 0, 173]
abbrev dktX0_image_3 : List UInt8 := dkwX0_image_3 ++ dktX0_image_4
def dkwX0_image_2 : List UInt8 := [180, 0, 42, 3, 42, 180, 0, 99, 3, 42, 180, 0, 42, 190, 184, 1, 47, 42, 42, 180, 0, 130]
abbrev dktX0_image_2 : List UInt8 := dkwX0_image_2 ++ dktX0_image_3
def dkwX0_image_1 : List UInt8 := [3, 16, 6, 184, 1, 47, 42, 180, 0, 39, 3, 42, 180, 0, 96, 3, 16, 6, 184, 1, 47, 42]
abbrev dktX0_image_1 : List UInt8 := dkwX0_image_1 ++ dktX0_image_2
def dkwX0_image_0 : List UInt8 := [42, 180, 0, 33, 3, 42, 180, 0, 90, 3, 16, 6, 184, 1, 47, 42, 180, 0, 36, 3, 42, 180, 0, 93]
abbrev dktX0_image_0 : List UInt8 := dkwX0_image_0 ++ dktX0_image_1
theorem dksX0_image_0 : cX0_image.data.toList.drop 0 = dktX0_image_0 := by decide +kernel
theorem dksX0_image_1 : cX0_image.data.toList.drop 24 = dktX0_image_1 := dk_seg dksX0_image_0 24 rfl rfl
theorem dksX0_image_2 : cX0_image.data.toList.drop 46 = dktX0_image_2 := dk_seg dksX0_image_1 22 rfl rfl
theorem dksX0_image_3 : cX0_image.data.toList.drop 68 = dktX0_image_3 := dk_seg dksX0_image_2 22 rfl rfl
theorem dksX0_image_4 : cX0_image.data.toList.drop 92 = dktX0_image_4 := dk_seg dksX0_image_3 24 rfl rfl
theorem dX0_image_0 : decode cX0_image 0 = .ok (.aload_n 0, 1) := dk_42 (dk_at dksX0_image_0 0 rfl rfl)
theorem dX0_image_1 : decode cX0_image 1 = .ok (.getfield 33, 3) := dk_180 0 33 (dk_at dksX0_image_0 1 rfl rfl)
theorem dX0_image_4 : decode cX0_image 4 = .ok (.iconst 0, 1) := dk_3 (dk_at dksX0_image_0 4 rfl rfl)
theorem dX0_image_5 : decode cX0_image 5 = .ok (.aload_n 0, 1) := dk_42 (dk_at dksX0_image_0 5 rfl rfl)
theorem dX0_image_6 : decode cX0_image 6 = .ok (.getfield 90, 3) := dk_180 0 90 (dk_at dksX0_image_0 6 rfl rfl)
theorem dX0_image_9 : decode cX0_image 9 = .ok (.iconst 0, 1) := dk_3 (dk_at dksX0_image_0 9 rfl rfl)
theorem dX0_image_10 : decode cX0_image 10 = .ok (.bipush 6, 2) := dk_16 6 (dk_at dksX0_image_0 10 rfl rfl)
theorem dX0_image_12 : decode cX0_image 12 = .ok (.invokestatic 303, 3) := dk_184 1 47 (dk_at dksX0_image_0 12 rfl rfl)
theorem dX0_image_15 : decode cX0_image 15 = .ok (.aload_n 0, 1) := dk_42 (dk_at dksX0_image_0 15 rfl rfl)
theorem dX0_image_16 : decode cX0_image 16 = .ok (.getfield 36, 3) := dk_180 0 36 (dk_at dksX0_image_0 16 rfl rfl)
theorem dX0_image_19 : decode cX0_image 19 = .ok (.iconst 0, 1) := dk_3 (dk_at dksX0_image_0 19 rfl rfl)
theorem dX0_image_20 : decode cX0_image 20 = .ok (.aload_n 0, 1) := dk_42 (dk_at dksX0_image_0 20 rfl rfl)
theorem dX0_image_21 : decode cX0_image 21 = .ok (.getfield 93, 3) := dk_180 0 93 (dk_at dksX0_image_0 21 rfl rfl)
theorem dX0_image_24 : decode cX0_image 24 = .ok (.iconst 0, 1) := dk_3 (dk_at dksX0_image_1 0 rfl rfl)
theorem dX0_image_25 : decode cX0_image 25 = .ok (.bipush 6, 2) := dk_16 6 (dk_at dksX0_image_1 1 rfl rfl)
theorem dX0_image_27 : decode cX0_image 27 = .ok (.invokestatic 303, 3) := dk_184 1 47 (dk_at dksX0_image_1 3 rfl rfl)
theorem dX0_image_30 : decode cX0_image 30 = .ok (.aload_n 0, 1) := dk_42 (dk_at dksX0_image_1 6 rfl rfl)
theorem dX0_image_31 : decode cX0_image 31 = .ok (.getfield 39, 3) := dk_180 0 39 (dk_at dksX0_image_1 7 rfl rfl)
theorem dX0_image_34 : decode cX0_image 34 = .ok (.iconst 0, 1) := dk_3 (dk_at dksX0_image_1 10 rfl rfl)
theorem dX0_image_35 : decode cX0_image 35 = .ok (.aload_n 0, 1) := dk_42 (dk_at dksX0_image_1 11 rfl rfl)
theorem dX0_image_36 : decode cX0_image 36 = .ok (.getfield 96, 3) := dk_180 0 96 (dk_at dksX0_image_1 12 rfl rfl)
theorem dX0_image_39 : decode cX0_image 39 = .ok (.iconst 0, 1) := dk_3 (dk_at dksX0_image_1 15 rfl rfl)
theorem dX0_image_40 : decode cX0_image 40 = .ok (.bipush 6, 2) := dk_16 6 (dk_at dksX0_image_1 16 rfl rfl)
theorem dX0_image_42 : decode cX0_image 42 = .ok (.invokestatic 303, 3) := dk_184 1 47 (dk_at dksX0_image_1 18 rfl rfl)
theorem dX0_image_45 : decode cX0_image 45 = .ok (.aload_n 0, 1) := dk_42 (dk_at dksX0_image_1 21 rfl rfl)
theorem dX0_image_46 : decode cX0_image 46 = .ok (.getfield 42, 3) := dk_180 0 42 (dk_at dksX0_image_2 0 rfl rfl)
theorem dX0_image_49 : decode cX0_image 49 = .ok (.iconst 0, 1) := dk_3 (dk_at dksX0_image_2 3 rfl rfl)
theorem dX0_image_50 : decode cX0_image 50 = .ok (.aload_n 0, 1) := dk_42 (dk_at dksX0_image_2 4 rfl rfl)
theorem dX0_image_51 : decode cX0_image 51 = .ok (.getfield 99, 3) := dk_180 0 99 (dk_at dksX0_image_2 5 rfl rfl)
theorem dX0_image_54 : decode cX0_image 54 = .ok (.iconst 0, 1) := dk_3 (dk_at dksX0_image_2 8 rfl rfl)
theorem dX0_image_55 : decode cX0_image 55 = .ok (.aload_n 0, 1) := dk_42 (dk_at dksX0_image_2 9 rfl rfl)
theorem dX0_image_56 : decode cX0_image 56 = .ok (.getfield 42, 3) := dk_180 0 42 (dk_at dksX0_image_2 10 rfl rfl)
theorem dX0_image_59 : decode cX0_image 59 = .ok (.arraylength, 1) := dk_190 (dk_at dksX0_image_2 13 rfl rfl)
theorem dX0_image_60 : decode cX0_image 60 = .ok (.invokestatic 303, 3) := dk_184 1 47 (dk_at dksX0_image_2 14 rfl rfl)
theorem dX0_image_63 : decode cX0_image 63 = .ok (.aload_n 0, 1) := dk_42 (dk_at dksX0_image_2 17 rfl rfl)
theorem dX0_image_64 : decode cX0_image 64 = .ok (.aload_n 0, 1) := dk_42 (dk_at dksX0_image_2 18 rfl rfl)
theorem dX0_image_65 : decode cX0_image 65 = .ok (.getfield 130, 3) := dk_180 0 130 (dk_at dksX0_image_2 19 rfl rfl)
theorem dX0_image_68 : decode cX0_image 68 = .ok (.putfield 102, 3) := dk_181 0 102 (dk_at dksX0_image_3 0 rfl rfl)
theorem dX0_image_71 : decode cX0_image 71 = .ok (.aload_n 0, 1) := dk_42 (dk_at dksX0_image_3 3 rfl rfl)
theorem dX0_image_72 : decode cX0_image 72 = .ok (.aload_n 0, 1) := dk_42 (dk_at dksX0_image_3 4 rfl rfl)
theorem dX0_image_73 : decode cX0_image 73 = .ok (.getfield 48, 3) := dk_180 0 48 (dk_at dksX0_image_3 5 rfl rfl)
theorem dX0_image_76 : decode cX0_image 76 = .ok (.putfield 380, 3) := dk_181 1 124 (dk_at dksX0_image_3 8 rfl rfl)
theorem dX0_image_79 : decode cX0_image 79 = .ok (.aload_n 0, 1) := dk_42 (dk_at dksX0_image_3 11 rfl rfl)
theorem dX0_image_80 : decode cX0_image 80 = .ok (.aload_n 0, 1) := dk_42 (dk_at dksX0_image_3 12 rfl rfl)
theorem dX0_image_81 : decode cX0_image 81 = .ok (.getfield 170, 3) := dk_180 0 170 (dk_at dksX0_image_3 13 rfl rfl)
theorem dX0_image_84 : decode cX0_image 84 = .ok (.putfield 383, 3) := dk_181 1 127 (dk_at dksX0_image_3 16 rfl rfl)
theorem dX0_image_87 : decode cX0_image 87 = .ok (.aload_n 0, 1) := dk_42 (dk_at dksX0_image_3 19 rfl rfl)
theorem dX0_image_88 : decode cX0_image 88 = .ok (.aload_n 0, 1) := dk_42 (dk_at dksX0_image_3 20 rfl rfl)
theorem dX0_image_89 : decode cX0_image 89 = .ok (.getfield 173, 3) := dk_180 0 173 (dk_at dksX0_image_3 21 rfl rfl)
theorem dX0_image_92 : decode cX0_image 92 = .ok (.putfield 386, 3) := dk_181 1 130 (dk_at dksX0_image_4 0 rfl rfl)
theorem dX0_image_95 : decode cX0_image 95 = .ok (.aload_n 0, 1) := dk_42 (dk_at dksX0_image_4 3 rfl rfl)
theorem dX0_image_96 : decode cX0_image 96 = .ok (.getfield 130, 3) := dk_180 0 130 (dk_at dksX0_image_4 4 rfl rfl)
theorem dX0_image_99 : decode cX0_image 99 = .ok (.ireturn, 1) := dk_172 (dk_at dksX0_image_4 7 rfl rfl)
abbrev cX0_back : ByteArray := prog_1_method_60_code
def yX0_back : MethodName := ⟨RX0, "back", "()I"⟩
def dkwX0_back_7 : List UInt8 := [172]
abbrev dktX0_back_7 : List UInt8 := dkwX0_back_7 ++ []
def dkwX0_back_6 : List UInt8 := [42, 42, 180, 1, 127, 181, 0, 170, 42, 42, 180, 1, 130, 181, 0, 173, 42, 182, 0, 142, 42, 180, 0, 130]
abbrev dktX0_back_6 : List UInt8 := dkwX0_back_6 ++ dktX0_back_7
def dkwX0_back_5 : List UInt8 := [28, 96, 46, 79, 132, 2, 1, 167, 255, 207, 132, 1, 1, 167, 255, 191, 42, 42, 180, 1, 124, 181, 0, 48]
abbrev dktX0_back_5 : List UInt8 := dkwX0_back_5 ++ dktX0_back_6
def dkwX0_back_4 : List UInt8 := [180, 0, 102, 162, 0, 25, 42, 180, 0, 42, 16, 6, 27, 104, 28, 96, 42, 180, 0, 99, 16, 6, 27, 104]
abbrev dktX0_back_4 : List UInt8 := dkwX0_back_4 ++ dktX0_back_5
def dkwX0_back_3 : List UInt8 := [162, 0, 63, 3, 61, 28, 42, 180, 0, 130, 162, 0, 47, 27, 42, 180, 0, 102, 161, 0, 11, 28, 42]
abbrev dktX0_back_3 : List UInt8 := dkwX0_back_3 ++ dktX0_back_4
def dkwX0_back_2 : List UInt8 := [180, 0, 96, 3, 42, 180, 0, 39, 3, 42, 180, 0, 102, 184, 1, 47, 3, 60, 27, 42, 180, 0, 130]
abbrev dktX0_back_2 : List UInt8 := dkwX0_back_2 ++ dktX0_back_3
def dkwX0_back_1 : List UInt8 := [180, 0, 102, 184, 1, 47, 42, 180, 0, 93, 3, 42, 180, 0, 36, 3, 42, 180, 0, 102, 184, 1, 47, 42]
abbrev dktX0_back_1 : List UInt8 := dkwX0_back_1 ++ dktX0_back_2
def dkwX0_back_0 : List UInt8 := [42, 180, 0, 102, 2, 160, 0, 6, 16, 253, 172, 42, 180, 0, 90, 3, 42, 180, 0, 33, 3, 42]
abbrev dktX0_back_0 : List UInt8 := dkwX0_back_0 ++ dktX0_back_1
theorem dksX0_back_0 : cX0_back.data.toList.drop 0 = dktX0_back_0 := by decide +kernel
theorem dksX0_back_1 : cX0_back.data.toList.drop 22 = dktX0_back_1 := dk_seg dksX0_back_0 22 rfl rfl
theorem dksX0_back_2 : cX0_back.data.toList.drop 46 = dktX0_back_2 := dk_seg dksX0_back_1 24 rfl rfl
theorem dksX0_back_3 : cX0_back.data.toList.drop 69 = dktX0_back_3 := dk_seg dksX0_back_2 23 rfl rfl
theorem dksX0_back_4 : cX0_back.data.toList.drop 92 = dktX0_back_4 := dk_seg dksX0_back_3 23 rfl rfl
theorem dksX0_back_5 : cX0_back.data.toList.drop 116 = dktX0_back_5 := dk_seg dksX0_back_4 24 rfl rfl
theorem dksX0_back_6 : cX0_back.data.toList.drop 140 = dktX0_back_6 := dk_seg dksX0_back_5 24 rfl rfl
theorem dksX0_back_7 : cX0_back.data.toList.drop 164 = dktX0_back_7 := dk_seg dksX0_back_6 24 rfl rfl
theorem dX0_back_0 : decode cX0_back 0 = .ok (.aload_n 0, 1) := dk_42 (dk_at dksX0_back_0 0 rfl rfl)
theorem dX0_back_1 : decode cX0_back 1 = .ok (.getfield 102, 3) := dk_180 0 102 (dk_at dksX0_back_0 1 rfl rfl)
theorem dX0_back_4 : decode cX0_back 4 = .ok (.iconst (-1), 1) := dk_2 (dk_at dksX0_back_0 4 rfl rfl)
theorem dX0_back_5 : decode cX0_back 5 = .ok (.if_icmp .ne 6, 3) := dk_160 0 6 (dk_at dksX0_back_0 5 rfl rfl)
theorem dX0_back_8 : decode cX0_back 8 = .ok (.bipush (-3), 2) := dk_16 253 (dk_at dksX0_back_0 8 rfl rfl)
theorem dX0_back_10 : decode cX0_back 10 = .ok (.ireturn, 1) := dk_172 (dk_at dksX0_back_0 10 rfl rfl)
theorem dX0_back_11 : decode cX0_back 11 = .ok (.aload_n 0, 1) := dk_42 (dk_at dksX0_back_0 11 rfl rfl)
theorem dX0_back_12 : decode cX0_back 12 = .ok (.getfield 90, 3) := dk_180 0 90 (dk_at dksX0_back_0 12 rfl rfl)
theorem dX0_back_15 : decode cX0_back 15 = .ok (.iconst 0, 1) := dk_3 (dk_at dksX0_back_0 15 rfl rfl)
theorem dX0_back_16 : decode cX0_back 16 = .ok (.aload_n 0, 1) := dk_42 (dk_at dksX0_back_0 16 rfl rfl)
theorem dX0_back_17 : decode cX0_back 17 = .ok (.getfield 33, 3) := dk_180 0 33 (dk_at dksX0_back_0 17 rfl rfl)
theorem dX0_back_20 : decode cX0_back 20 = .ok (.iconst 0, 1) := dk_3 (dk_at dksX0_back_0 20 rfl rfl)
theorem dX0_back_21 : decode cX0_back 21 = .ok (.aload_n 0, 1) := dk_42 (dk_at dksX0_back_0 21 rfl rfl)
theorem dX0_back_22 : decode cX0_back 22 = .ok (.getfield 102, 3) := dk_180 0 102 (dk_at dksX0_back_1 0 rfl rfl)
theorem dX0_back_25 : decode cX0_back 25 = .ok (.invokestatic 303, 3) := dk_184 1 47 (dk_at dksX0_back_1 3 rfl rfl)
theorem dX0_back_28 : decode cX0_back 28 = .ok (.aload_n 0, 1) := dk_42 (dk_at dksX0_back_1 6 rfl rfl)
theorem dX0_back_29 : decode cX0_back 29 = .ok (.getfield 93, 3) := dk_180 0 93 (dk_at dksX0_back_1 7 rfl rfl)
theorem dX0_back_32 : decode cX0_back 32 = .ok (.iconst 0, 1) := dk_3 (dk_at dksX0_back_1 10 rfl rfl)
theorem dX0_back_33 : decode cX0_back 33 = .ok (.aload_n 0, 1) := dk_42 (dk_at dksX0_back_1 11 rfl rfl)
theorem dX0_back_34 : decode cX0_back 34 = .ok (.getfield 36, 3) := dk_180 0 36 (dk_at dksX0_back_1 12 rfl rfl)
theorem dX0_back_37 : decode cX0_back 37 = .ok (.iconst 0, 1) := dk_3 (dk_at dksX0_back_1 15 rfl rfl)
theorem dX0_back_38 : decode cX0_back 38 = .ok (.aload_n 0, 1) := dk_42 (dk_at dksX0_back_1 16 rfl rfl)
theorem dX0_back_39 : decode cX0_back 39 = .ok (.getfield 102, 3) := dk_180 0 102 (dk_at dksX0_back_1 17 rfl rfl)
theorem dX0_back_42 : decode cX0_back 42 = .ok (.invokestatic 303, 3) := dk_184 1 47 (dk_at dksX0_back_1 20 rfl rfl)
theorem dX0_back_45 : decode cX0_back 45 = .ok (.aload_n 0, 1) := dk_42 (dk_at dksX0_back_1 23 rfl rfl)
theorem dX0_back_46 : decode cX0_back 46 = .ok (.getfield 96, 3) := dk_180 0 96 (dk_at dksX0_back_2 0 rfl rfl)
theorem dX0_back_49 : decode cX0_back 49 = .ok (.iconst 0, 1) := dk_3 (dk_at dksX0_back_2 3 rfl rfl)
theorem dX0_back_50 : decode cX0_back 50 = .ok (.aload_n 0, 1) := dk_42 (dk_at dksX0_back_2 4 rfl rfl)
theorem dX0_back_51 : decode cX0_back 51 = .ok (.getfield 39, 3) := dk_180 0 39 (dk_at dksX0_back_2 5 rfl rfl)
theorem dX0_back_54 : decode cX0_back 54 = .ok (.iconst 0, 1) := dk_3 (dk_at dksX0_back_2 8 rfl rfl)
theorem dX0_back_55 : decode cX0_back 55 = .ok (.aload_n 0, 1) := dk_42 (dk_at dksX0_back_2 9 rfl rfl)
theorem dX0_back_56 : decode cX0_back 56 = .ok (.getfield 102, 3) := dk_180 0 102 (dk_at dksX0_back_2 10 rfl rfl)
theorem dX0_back_59 : decode cX0_back 59 = .ok (.invokestatic 303, 3) := dk_184 1 47 (dk_at dksX0_back_2 13 rfl rfl)
theorem dX0_back_62 : decode cX0_back 62 = .ok (.iconst 0, 1) := dk_3 (dk_at dksX0_back_2 16 rfl rfl)
theorem dX0_back_63 : decode cX0_back 63 = .ok (.istore_n 1, 1) := dk_60 (dk_at dksX0_back_2 17 rfl rfl)
theorem dX0_back_64 : decode cX0_back 64 = .ok (.iload_n 1, 1) := dk_27 (dk_at dksX0_back_2 18 rfl rfl)
theorem dX0_back_65 : decode cX0_back 65 = .ok (.aload_n 0, 1) := dk_42 (dk_at dksX0_back_2 19 rfl rfl)
theorem dX0_back_66 : decode cX0_back 66 = .ok (.getfield 130, 3) := dk_180 0 130 (dk_at dksX0_back_2 20 rfl rfl)
theorem dX0_back_69 : decode cX0_back 69 = .ok (.if_icmp .ge 63, 3) := dk_162 0 63 (dk_at dksX0_back_3 0 rfl rfl)
theorem dX0_back_72 : decode cX0_back 72 = .ok (.iconst 0, 1) := dk_3 (dk_at dksX0_back_3 3 rfl rfl)
theorem dX0_back_73 : decode cX0_back 73 = .ok (.istore_n 2, 1) := dk_61 (dk_at dksX0_back_3 4 rfl rfl)
theorem dX0_back_74 : decode cX0_back 74 = .ok (.iload_n 2, 1) := dk_28 (dk_at dksX0_back_3 5 rfl rfl)
theorem dX0_back_75 : decode cX0_back 75 = .ok (.aload_n 0, 1) := dk_42 (dk_at dksX0_back_3 6 rfl rfl)
theorem dX0_back_76 : decode cX0_back 76 = .ok (.getfield 130, 3) := dk_180 0 130 (dk_at dksX0_back_3 7 rfl rfl)
theorem dX0_back_79 : decode cX0_back 79 = .ok (.if_icmp .ge 47, 3) := dk_162 0 47 (dk_at dksX0_back_3 10 rfl rfl)
theorem dX0_back_82 : decode cX0_back 82 = .ok (.iload_n 1, 1) := dk_27 (dk_at dksX0_back_3 13 rfl rfl)
theorem dX0_back_83 : decode cX0_back 83 = .ok (.aload_n 0, 1) := dk_42 (dk_at dksX0_back_3 14 rfl rfl)
theorem dX0_back_84 : decode cX0_back 84 = .ok (.getfield 102, 3) := dk_180 0 102 (dk_at dksX0_back_3 15 rfl rfl)
theorem dX0_back_87 : decode cX0_back 87 = .ok (.if_icmp .lt 11, 3) := dk_161 0 11 (dk_at dksX0_back_3 18 rfl rfl)
theorem dX0_back_90 : decode cX0_back 90 = .ok (.iload_n 2, 1) := dk_28 (dk_at dksX0_back_3 21 rfl rfl)
theorem dX0_back_91 : decode cX0_back 91 = .ok (.aload_n 0, 1) := dk_42 (dk_at dksX0_back_3 22 rfl rfl)
theorem dX0_back_92 : decode cX0_back 92 = .ok (.getfield 102, 3) := dk_180 0 102 (dk_at dksX0_back_4 0 rfl rfl)
theorem dX0_back_95 : decode cX0_back 95 = .ok (.if_icmp .ge 25, 3) := dk_162 0 25 (dk_at dksX0_back_4 3 rfl rfl)
theorem dX0_back_98 : decode cX0_back 98 = .ok (.aload_n 0, 1) := dk_42 (dk_at dksX0_back_4 6 rfl rfl)
theorem dX0_back_99 : decode cX0_back 99 = .ok (.getfield 42, 3) := dk_180 0 42 (dk_at dksX0_back_4 7 rfl rfl)
theorem dX0_back_102 : decode cX0_back 102 = .ok (.bipush 6, 2) := dk_16 6 (dk_at dksX0_back_4 10 rfl rfl)
theorem dX0_back_104 : decode cX0_back 104 = .ok (.iload_n 1, 1) := dk_27 (dk_at dksX0_back_4 12 rfl rfl)
theorem dX0_back_105 : decode cX0_back 105 = .ok (.imul, 1) := dk_104 (dk_at dksX0_back_4 13 rfl rfl)
theorem dX0_back_106 : decode cX0_back 106 = .ok (.iload_n 2, 1) := dk_28 (dk_at dksX0_back_4 14 rfl rfl)
theorem dX0_back_107 : decode cX0_back 107 = .ok (.iadd, 1) := dk_96 (dk_at dksX0_back_4 15 rfl rfl)
theorem dX0_back_108 : decode cX0_back 108 = .ok (.aload_n 0, 1) := dk_42 (dk_at dksX0_back_4 16 rfl rfl)
theorem dX0_back_109 : decode cX0_back 109 = .ok (.getfield 99, 3) := dk_180 0 99 (dk_at dksX0_back_4 17 rfl rfl)
theorem dX0_back_112 : decode cX0_back 112 = .ok (.bipush 6, 2) := dk_16 6 (dk_at dksX0_back_4 20 rfl rfl)
theorem dX0_back_114 : decode cX0_back 114 = .ok (.iload_n 1, 1) := dk_27 (dk_at dksX0_back_4 22 rfl rfl)
theorem dX0_back_115 : decode cX0_back 115 = .ok (.imul, 1) := dk_104 (dk_at dksX0_back_4 23 rfl rfl)
theorem dX0_back_116 : decode cX0_back 116 = .ok (.iload_n 2, 1) := dk_28 (dk_at dksX0_back_5 0 rfl rfl)
theorem dX0_back_117 : decode cX0_back 117 = .ok (.iadd, 1) := dk_96 (dk_at dksX0_back_5 1 rfl rfl)
theorem dX0_back_118 : decode cX0_back 118 = .ok (.iaload, 1) := dk_46 (dk_at dksX0_back_5 2 rfl rfl)
theorem dX0_back_119 : decode cX0_back 119 = .ok (.iastore, 1) := dk_79 (dk_at dksX0_back_5 3 rfl rfl)
theorem dX0_back_120 : decode cX0_back 120 = .ok (.iinc 2 1, 3) := dk_132 2 1 (dk_at dksX0_back_5 4 rfl rfl)
theorem dX0_back_123 : decode cX0_back 123 = .ok (.goto (-49), 3) := dk_167 255 207 (dk_at dksX0_back_5 7 rfl rfl)
theorem dX0_back_126 : decode cX0_back 126 = .ok (.iinc 1 1, 3) := dk_132 1 1 (dk_at dksX0_back_5 10 rfl rfl)
theorem dX0_back_129 : decode cX0_back 129 = .ok (.goto (-65), 3) := dk_167 255 191 (dk_at dksX0_back_5 13 rfl rfl)
theorem dX0_back_132 : decode cX0_back 132 = .ok (.aload_n 0, 1) := dk_42 (dk_at dksX0_back_5 16 rfl rfl)
theorem dX0_back_133 : decode cX0_back 133 = .ok (.aload_n 0, 1) := dk_42 (dk_at dksX0_back_5 17 rfl rfl)
theorem dX0_back_134 : decode cX0_back 134 = .ok (.getfield 380, 3) := dk_180 1 124 (dk_at dksX0_back_5 18 rfl rfl)
theorem dX0_back_137 : decode cX0_back 137 = .ok (.putfield 48, 3) := dk_181 0 48 (dk_at dksX0_back_5 21 rfl rfl)
theorem dX0_back_140 : decode cX0_back 140 = .ok (.aload_n 0, 1) := dk_42 (dk_at dksX0_back_6 0 rfl rfl)
theorem dX0_back_141 : decode cX0_back 141 = .ok (.aload_n 0, 1) := dk_42 (dk_at dksX0_back_6 1 rfl rfl)
theorem dX0_back_142 : decode cX0_back 142 = .ok (.getfield 383, 3) := dk_180 1 127 (dk_at dksX0_back_6 2 rfl rfl)
theorem dX0_back_145 : decode cX0_back 145 = .ok (.putfield 170, 3) := dk_181 0 170 (dk_at dksX0_back_6 5 rfl rfl)
theorem dX0_back_148 : decode cX0_back 148 = .ok (.aload_n 0, 1) := dk_42 (dk_at dksX0_back_6 8 rfl rfl)
theorem dX0_back_149 : decode cX0_back 149 = .ok (.aload_n 0, 1) := dk_42 (dk_at dksX0_back_6 9 rfl rfl)
theorem dX0_back_150 : decode cX0_back 150 = .ok (.getfield 386, 3) := dk_180 1 130 (dk_at dksX0_back_6 10 rfl rfl)
theorem dX0_back_153 : decode cX0_back 153 = .ok (.putfield 173, 3) := dk_181 0 173 (dk_at dksX0_back_6 13 rfl rfl)
theorem dX0_back_156 : decode cX0_back 156 = .ok (.aload_n 0, 1) := dk_42 (dk_at dksX0_back_6 16 rfl rfl)
theorem dX0_back_157 : decode cX0_back 157 = .ok (.invokevirtual 142, 3) := dk_182 0 142 (dk_at dksX0_back_6 17 rfl rfl)
theorem dX0_back_160 : decode cX0_back 160 = .ok (.aload_n 0, 1) := dk_42 (dk_at dksX0_back_6 20 rfl rfl)
theorem dX0_back_161 : decode cX0_back 161 = .ok (.getfield 130, 3) := dk_180 0 130 (dk_at dksX0_back_6 21 rfl rfl)
theorem dX0_back_164 : decode cX0_back 164 = .ok (.ireturn, 1) := dk_172 (dk_at dksX0_back_7 0 rfl rfl)
abbrev cX0_feed : ByteArray := prog_1_method_62_code
def yX0_feed : MethodName := ⟨RX0, "feed", "(JI)I"⟩
def dkwX0_feed_3 : List UInt8 := [167, 255, 220, 42, 180, 1, 121, 172]
abbrev dktX0_feed_3 : List UInt8 := dkwX0_feed_3 ++ []
def dkwX0_feed_2 : List UInt8 := [31, 16, 8, 21, 4, 104, 123, 136, 145, 84, 42, 89, 180, 1, 121, 4, 96, 181, 1, 121, 132, 4, 255]
abbrev dktX0_feed_2 : List UInt8 := dkwX0_feed_2 ++ dktX0_feed_3
def dkwX0_feed_1 : List UInt8 := [164, 0, 6, 16, 252, 172, 29, 4, 100, 54, 4, 21, 4, 155, 0, 37, 42, 180, 0, 111, 42, 180, 1, 121]
abbrev dktX0_feed_1 : List UInt8 := dkwX0_feed_1 ++ dktX0_feed_2
def dkwX0_feed_0 : List UInt8 := [29, 133, 10, 20, 1, 151, 184, 0, 133, 154, 0, 6, 16, 254, 172, 42, 180, 1, 121, 29, 96, 17, 0, 160]
abbrev dktX0_feed_0 : List UInt8 := dkwX0_feed_0 ++ dktX0_feed_1
theorem dksX0_feed_0 : cX0_feed.data.toList.drop 0 = dktX0_feed_0 := by decide +kernel
theorem dksX0_feed_1 : cX0_feed.data.toList.drop 24 = dktX0_feed_1 := dk_seg dksX0_feed_0 24 rfl rfl
theorem dksX0_feed_2 : cX0_feed.data.toList.drop 48 = dktX0_feed_2 := dk_seg dksX0_feed_1 24 rfl rfl
theorem dksX0_feed_3 : cX0_feed.data.toList.drop 71 = dktX0_feed_3 := dk_seg dksX0_feed_2 23 rfl rfl
theorem dX0_feed_0 : decode cX0_feed 0 = .ok (.iload_n 3, 1) := dk_29 (dk_at dksX0_feed_0 0 rfl rfl)
theorem dX0_feed_1 : decode cX0_feed 1 = .ok (.i2l, 1) := dk_133 (dk_at dksX0_feed_0 1 rfl rfl)
theorem dX0_feed_2 : decode cX0_feed 2 = .ok (.lconst 1, 1) := dk_10 (dk_at dksX0_feed_0 2 rfl rfl)
theorem dX0_feed_3 : decode cX0_feed 3 = .ok (.ldc2_w 407, 3) := dk_20 1 151 (dk_at dksX0_feed_0 3 rfl rfl)
theorem dX0_feed_6 : decode cX0_feed 6 = .ok (.invokestatic 133, 3) := dk_184 0 133 (dk_at dksX0_feed_0 6 rfl rfl)
theorem dX0_feed_9 : decode cX0_feed 9 = .ok (.ifCond .ne 6, 3) := dk_154 0 6 (dk_at dksX0_feed_0 9 rfl rfl)
theorem dX0_feed_12 : decode cX0_feed 12 = .ok (.bipush (-2), 2) := dk_16 254 (dk_at dksX0_feed_0 12 rfl rfl)
theorem dX0_feed_14 : decode cX0_feed 14 = .ok (.ireturn, 1) := dk_172 (dk_at dksX0_feed_0 14 rfl rfl)
theorem dX0_feed_15 : decode cX0_feed 15 = .ok (.aload_n 0, 1) := dk_42 (dk_at dksX0_feed_0 15 rfl rfl)
theorem dX0_feed_16 : decode cX0_feed 16 = .ok (.getfield 377, 3) := dk_180 1 121 (dk_at dksX0_feed_0 16 rfl rfl)
theorem dX0_feed_19 : decode cX0_feed 19 = .ok (.iload_n 3, 1) := dk_29 (dk_at dksX0_feed_0 19 rfl rfl)
theorem dX0_feed_20 : decode cX0_feed 20 = .ok (.iadd, 1) := dk_96 (dk_at dksX0_feed_0 20 rfl rfl)
theorem dX0_feed_21 : decode cX0_feed 21 = .ok (.sipush 160, 3) := dk_17 0 160 (dk_at dksX0_feed_0 21 rfl rfl)
theorem dX0_feed_24 : decode cX0_feed 24 = .ok (.if_icmp .le 6, 3) := dk_164 0 6 (dk_at dksX0_feed_1 0 rfl rfl)
theorem dX0_feed_27 : decode cX0_feed 27 = .ok (.bipush (-4), 2) := dk_16 252 (dk_at dksX0_feed_1 3 rfl rfl)
theorem dX0_feed_29 : decode cX0_feed 29 = .ok (.ireturn, 1) := dk_172 (dk_at dksX0_feed_1 5 rfl rfl)
theorem dX0_feed_30 : decode cX0_feed 30 = .ok (.iload_n 3, 1) := dk_29 (dk_at dksX0_feed_1 6 rfl rfl)
theorem dX0_feed_31 : decode cX0_feed 31 = .ok (.iconst 1, 1) := dk_4 (dk_at dksX0_feed_1 7 rfl rfl)
theorem dX0_feed_32 : decode cX0_feed 32 = .ok (.isub, 1) := dk_100 (dk_at dksX0_feed_1 8 rfl rfl)
theorem dX0_feed_33 : decode cX0_feed 33 = .ok (.istore 4, 2) := dk_54 4 (dk_at dksX0_feed_1 9 rfl rfl)
theorem dX0_feed_35 : decode cX0_feed 35 = .ok (.iload 4, 2) := dk_21 4 (dk_at dksX0_feed_1 11 rfl rfl)
theorem dX0_feed_37 : decode cX0_feed 37 = .ok (.ifCond .lt 37, 3) := dk_155 0 37 (dk_at dksX0_feed_1 13 rfl rfl)
theorem dX0_feed_40 : decode cX0_feed 40 = .ok (.aload_n 0, 1) := dk_42 (dk_at dksX0_feed_1 16 rfl rfl)
theorem dX0_feed_41 : decode cX0_feed 41 = .ok (.getfield 111, 3) := dk_180 0 111 (dk_at dksX0_feed_1 17 rfl rfl)
theorem dX0_feed_44 : decode cX0_feed 44 = .ok (.aload_n 0, 1) := dk_42 (dk_at dksX0_feed_1 20 rfl rfl)
theorem dX0_feed_45 : decode cX0_feed 45 = .ok (.getfield 377, 3) := dk_180 1 121 (dk_at dksX0_feed_1 21 rfl rfl)
theorem dX0_feed_48 : decode cX0_feed 48 = .ok (.lload_n 1, 1) := dk_31 (dk_at dksX0_feed_2 0 rfl rfl)
theorem dX0_feed_49 : decode cX0_feed 49 = .ok (.bipush 8, 2) := dk_16 8 (dk_at dksX0_feed_2 1 rfl rfl)
theorem dX0_feed_51 : decode cX0_feed 51 = .ok (.iload 4, 2) := dk_21 4 (dk_at dksX0_feed_2 3 rfl rfl)
theorem dX0_feed_53 : decode cX0_feed 53 = .ok (.imul, 1) := dk_104 (dk_at dksX0_feed_2 5 rfl rfl)
theorem dX0_feed_54 : decode cX0_feed 54 = .ok (.lshr, 1) := dk_123 (dk_at dksX0_feed_2 6 rfl rfl)
theorem dX0_feed_55 : decode cX0_feed 55 = .ok (.l2i, 1) := dk_136 (dk_at dksX0_feed_2 7 rfl rfl)
theorem dX0_feed_56 : decode cX0_feed 56 = .ok (.i2b, 1) := dk_145 (dk_at dksX0_feed_2 8 rfl rfl)
theorem dX0_feed_57 : decode cX0_feed 57 = .ok (.bastore, 1) := dk_84 (dk_at dksX0_feed_2 9 rfl rfl)
theorem dX0_feed_58 : decode cX0_feed 58 = .ok (.aload_n 0, 1) := dk_42 (dk_at dksX0_feed_2 10 rfl rfl)
theorem dX0_feed_59 : decode cX0_feed 59 = .ok (.dup, 1) := dk_89 (dk_at dksX0_feed_2 11 rfl rfl)
theorem dX0_feed_60 : decode cX0_feed 60 = .ok (.getfield 377, 3) := dk_180 1 121 (dk_at dksX0_feed_2 12 rfl rfl)
theorem dX0_feed_63 : decode cX0_feed 63 = .ok (.iconst 1, 1) := dk_4 (dk_at dksX0_feed_2 15 rfl rfl)
theorem dX0_feed_64 : decode cX0_feed 64 = .ok (.iadd, 1) := dk_96 (dk_at dksX0_feed_2 16 rfl rfl)
theorem dX0_feed_65 : decode cX0_feed 65 = .ok (.putfield 377, 3) := dk_181 1 121 (dk_at dksX0_feed_2 17 rfl rfl)
theorem dX0_feed_68 : decode cX0_feed 68 = .ok (.iinc 4 (-1), 3) := dk_132 4 255 (dk_at dksX0_feed_2 20 rfl rfl)
theorem dX0_feed_71 : decode cX0_feed 71 = .ok (.goto (-36), 3) := dk_167 255 220 (dk_at dksX0_feed_3 0 rfl rfl)
theorem dX0_feed_74 : decode cX0_feed 74 = .ok (.aload_n 0, 1) := dk_42 (dk_at dksX0_feed_3 3 rfl rfl)
theorem dX0_feed_75 : decode cX0_feed 75 = .ok (.getfield 377, 3) := dk_180 1 121 (dk_at dksX0_feed_3 4 rfl rfl)
theorem dX0_feed_78 : decode cX0_feed 78 = .ok (.ireturn, 1) := dk_172 (dk_at dksX0_feed_3 7 rfl rfl)
abbrev cX0_text : ByteArray := prog_1_method_63_code
def yX0_text : MethodName := ⟨RX0, "text", "()I"⟩
def dkwX0_text_3 : List UInt8 := [89, 180, 0, 127, 4, 96, 181, 0, 127, 42, 180, 0, 127, 4, 100, 172]
abbrev dktX0_text_3 : List UInt8 := dkwX0_text_3 ++ []
def dkwX0_text_2 : List UInt8 := [16, 156, 43, 180, 1, 155, 100, 61, 42, 3, 181, 1, 121, 28, 172, 78, 42, 3, 181, 1, 121, 45, 191, 42]
abbrev dktX0_text_2 : List UInt8 := dkwX0_text_2 ++ dktX0_text_3
def dkwX0_text_1 : List UInt8 := [42, 180, 0, 111, 42, 180, 1, 121, 183, 1, 144, 182, 1, 147, 83, 42, 3, 181, 1, 121, 167, 0, 27, 76]
abbrev dktX0_text_1 : List UInt8 := dkwX0_text_1 ++ dktX0_text_2
def dkwX0_text_0 : List UInt8 := [42, 180, 0, 127, 16, 6, 160, 0, 6, 16, 252, 172, 42, 180, 0, 107, 42, 180, 0, 127, 187, 1, 142, 89]
abbrev dktX0_text_0 : List UInt8 := dkwX0_text_0 ++ dktX0_text_1
theorem dksX0_text_0 : cX0_text.data.toList.drop 0 = dktX0_text_0 := by decide +kernel
theorem dksX0_text_1 : cX0_text.data.toList.drop 24 = dktX0_text_1 := dk_seg dksX0_text_0 24 rfl rfl
theorem dksX0_text_2 : cX0_text.data.toList.drop 48 = dktX0_text_2 := dk_seg dksX0_text_1 24 rfl rfl
theorem dksX0_text_3 : cX0_text.data.toList.drop 72 = dktX0_text_3 := dk_seg dksX0_text_2 24 rfl rfl
theorem dX0_text_0 : decode cX0_text 0 = .ok (.aload_n 0, 1) := dk_42 (dk_at dksX0_text_0 0 rfl rfl)
theorem dX0_text_1 : decode cX0_text 1 = .ok (.getfield 127, 3) := dk_180 0 127 (dk_at dksX0_text_0 1 rfl rfl)
theorem dX0_text_4 : decode cX0_text 4 = .ok (.bipush 6, 2) := dk_16 6 (dk_at dksX0_text_0 4 rfl rfl)
theorem dX0_text_6 : decode cX0_text 6 = .ok (.if_icmp .ne 6, 3) := dk_160 0 6 (dk_at dksX0_text_0 6 rfl rfl)
theorem dX0_text_9 : decode cX0_text 9 = .ok (.bipush (-4), 2) := dk_16 252 (dk_at dksX0_text_0 9 rfl rfl)
theorem dX0_text_11 : decode cX0_text 11 = .ok (.ireturn, 1) := dk_172 (dk_at dksX0_text_0 11 rfl rfl)
theorem dX0_text_12 : decode cX0_text 12 = .ok (.aload_n 0, 1) := dk_42 (dk_at dksX0_text_0 12 rfl rfl)
theorem dX0_text_13 : decode cX0_text 13 = .ok (.getfield 107, 3) := dk_180 0 107 (dk_at dksX0_text_0 13 rfl rfl)
theorem dX0_text_16 : decode cX0_text 16 = .ok (.aload_n 0, 1) := dk_42 (dk_at dksX0_text_0 16 rfl rfl)
theorem dX0_text_17 : decode cX0_text 17 = .ok (.getfield 127, 3) := dk_180 0 127 (dk_at dksX0_text_0 17 rfl rfl)
theorem dX0_text_20 : decode cX0_text 20 = .ok (.new 398, 3) := dk_187 1 142 (dk_at dksX0_text_0 20 rfl rfl)
theorem dX0_text_23 : decode cX0_text 23 = .ok (.dup, 1) := dk_89 (dk_at dksX0_text_0 23 rfl rfl)
theorem dX0_text_24 : decode cX0_text 24 = .ok (.aload_n 0, 1) := dk_42 (dk_at dksX0_text_1 0 rfl rfl)
theorem dX0_text_25 : decode cX0_text 25 = .ok (.getfield 111, 3) := dk_180 0 111 (dk_at dksX0_text_1 1 rfl rfl)
theorem dX0_text_28 : decode cX0_text 28 = .ok (.aload_n 0, 1) := dk_42 (dk_at dksX0_text_1 4 rfl rfl)
theorem dX0_text_29 : decode cX0_text 29 = .ok (.getfield 377, 3) := dk_180 1 121 (dk_at dksX0_text_1 5 rfl rfl)
theorem dX0_text_32 : decode cX0_text 32 = .ok (.invokespecial 400, 3) := dk_183 1 144 (dk_at dksX0_text_1 8 rfl rfl)
theorem dX0_text_35 : decode cX0_text 35 = .ok (.invokevirtual 403, 3) := dk_182 1 147 (dk_at dksX0_text_1 11 rfl rfl)
theorem dX0_text_38 : decode cX0_text 38 = .ok (.aastore, 1) := dk_83 (dk_at dksX0_text_1 14 rfl rfl)
theorem dX0_text_39 : decode cX0_text 39 = .ok (.aload_n 0, 1) := dk_42 (dk_at dksX0_text_1 15 rfl rfl)
theorem dX0_text_40 : decode cX0_text 40 = .ok (.iconst 0, 1) := dk_3 (dk_at dksX0_text_1 16 rfl rfl)
theorem dX0_text_41 : decode cX0_text 41 = .ok (.putfield 377, 3) := dk_181 1 121 (dk_at dksX0_text_1 17 rfl rfl)
theorem dX0_text_44 : decode cX0_text 44 = .ok (.goto 27, 3) := dk_167 0 27 (dk_at dksX0_text_1 20 rfl rfl)
theorem dX0_text_47 : decode cX0_text 47 = .ok (.astore_n 1, 1) := dk_76 (dk_at dksX0_text_1 23 rfl rfl)
theorem dX0_text_48 : decode cX0_text 48 = .ok (.bipush (-100), 2) := dk_16 156 (dk_at dksX0_text_2 0 rfl rfl)
theorem dX0_text_50 : decode cX0_text 50 = .ok (.aload_n 1, 1) := dk_43 (dk_at dksX0_text_2 2 rfl rfl)
theorem dX0_text_51 : decode cX0_text 51 = .ok (.getfield 411, 3) := dk_180 1 155 (dk_at dksX0_text_2 3 rfl rfl)
theorem dX0_text_54 : decode cX0_text 54 = .ok (.isub, 1) := dk_100 (dk_at dksX0_text_2 6 rfl rfl)
theorem dX0_text_55 : decode cX0_text 55 = .ok (.istore_n 2, 1) := dk_61 (dk_at dksX0_text_2 7 rfl rfl)
theorem dX0_text_56 : decode cX0_text 56 = .ok (.aload_n 0, 1) := dk_42 (dk_at dksX0_text_2 8 rfl rfl)
theorem dX0_text_57 : decode cX0_text 57 = .ok (.iconst 0, 1) := dk_3 (dk_at dksX0_text_2 9 rfl rfl)
theorem dX0_text_58 : decode cX0_text 58 = .ok (.putfield 377, 3) := dk_181 1 121 (dk_at dksX0_text_2 10 rfl rfl)
theorem dX0_text_61 : decode cX0_text 61 = .ok (.iload_n 2, 1) := dk_28 (dk_at dksX0_text_2 13 rfl rfl)
theorem dX0_text_62 : decode cX0_text 62 = .ok (.ireturn, 1) := dk_172 (dk_at dksX0_text_2 14 rfl rfl)
theorem dX0_text_63 : decode cX0_text 63 = .ok (.astore_n 3, 1) := dk_78 (dk_at dksX0_text_2 15 rfl rfl)
theorem dX0_text_64 : decode cX0_text 64 = .ok (.aload_n 0, 1) := dk_42 (dk_at dksX0_text_2 16 rfl rfl)
theorem dX0_text_65 : decode cX0_text 65 = .ok (.iconst 0, 1) := dk_3 (dk_at dksX0_text_2 17 rfl rfl)
theorem dX0_text_66 : decode cX0_text 66 = .ok (.putfield 377, 3) := dk_181 1 121 (dk_at dksX0_text_2 18 rfl rfl)
theorem dX0_text_69 : decode cX0_text 69 = .ok (.aload_n 3, 1) := dk_45 (dk_at dksX0_text_2 21 rfl rfl)
theorem dX0_text_70 : decode cX0_text 70 = .ok (.athrow, 1) := dk_191 (dk_at dksX0_text_2 22 rfl rfl)
theorem dX0_text_71 : decode cX0_text 71 = .ok (.aload_n 0, 1) := dk_42 (dk_at dksX0_text_2 23 rfl rfl)
theorem dX0_text_72 : decode cX0_text 72 = .ok (.dup, 1) := dk_89 (dk_at dksX0_text_3 0 rfl rfl)
theorem dX0_text_73 : decode cX0_text 73 = .ok (.getfield 127, 3) := dk_180 0 127 (dk_at dksX0_text_3 1 rfl rfl)
theorem dX0_text_76 : decode cX0_text 76 = .ok (.iconst 1, 1) := dk_4 (dk_at dksX0_text_3 4 rfl rfl)
theorem dX0_text_77 : decode cX0_text 77 = .ok (.iadd, 1) := dk_96 (dk_at dksX0_text_3 5 rfl rfl)
theorem dX0_text_78 : decode cX0_text 78 = .ok (.putfield 127, 3) := dk_181 0 127 (dk_at dksX0_text_3 6 rfl rfl)
theorem dX0_text_81 : decode cX0_text 81 = .ok (.aload_n 0, 1) := dk_42 (dk_at dksX0_text_3 9 rfl rfl)
theorem dX0_text_82 : decode cX0_text 82 = .ok (.getfield 127, 3) := dk_180 0 127 (dk_at dksX0_text_3 10 rfl rfl)
theorem dX0_text_85 : decode cX0_text 85 = .ok (.iconst 1, 1) := dk_4 (dk_at dksX0_text_3 13 rfl rfl)
theorem dX0_text_86 : decode cX0_text 86 = .ok (.isub, 1) := dk_100 (dk_at dksX0_text_3 14 rfl rfl)
theorem dX0_text_87 : decode cX0_text 87 = .ok (.ireturn, 1) := dk_172 (dk_at dksX0_text_3 15 rfl rfl)
abbrev cX0_force : ByteArray := prog_1_method_64_code
def yX0_force : MethodName := ⟨RX0, "force", "(I)I"⟩
def dkwX0_force_1 : List UInt8 := [42, 27, 181, 0, 173, 28, 172]
abbrev dktX0_force_1 : List UInt8 := dkwX0_force_1 ++ []
def dkwX0_force_0 : List UInt8 := [27, 133, 9, 42, 180, 0, 127, 133, 10, 101, 184, 0, 133, 154, 0, 6, 16, 254, 172, 42, 180, 0, 173, 61]
abbrev dktX0_force_0 : List UInt8 := dkwX0_force_0 ++ dktX0_force_1
theorem dksX0_force_0 : cX0_force.data.toList.drop 0 = dktX0_force_0 := by decide +kernel
theorem dksX0_force_1 : cX0_force.data.toList.drop 24 = dktX0_force_1 := dk_seg dksX0_force_0 24 rfl rfl
theorem dX0_force_0 : decode cX0_force 0 = .ok (.iload_n 1, 1) := dk_27 (dk_at dksX0_force_0 0 rfl rfl)
theorem dX0_force_1 : decode cX0_force 1 = .ok (.i2l, 1) := dk_133 (dk_at dksX0_force_0 1 rfl rfl)
theorem dX0_force_2 : decode cX0_force 2 = .ok (.lconst 0, 1) := dk_9 (dk_at dksX0_force_0 2 rfl rfl)
theorem dX0_force_3 : decode cX0_force 3 = .ok (.aload_n 0, 1) := dk_42 (dk_at dksX0_force_0 3 rfl rfl)
theorem dX0_force_4 : decode cX0_force 4 = .ok (.getfield 127, 3) := dk_180 0 127 (dk_at dksX0_force_0 4 rfl rfl)
theorem dX0_force_7 : decode cX0_force 7 = .ok (.i2l, 1) := dk_133 (dk_at dksX0_force_0 7 rfl rfl)
theorem dX0_force_8 : decode cX0_force 8 = .ok (.lconst 1, 1) := dk_10 (dk_at dksX0_force_0 8 rfl rfl)
theorem dX0_force_9 : decode cX0_force 9 = .ok (.lsub, 1) := dk_101 (dk_at dksX0_force_0 9 rfl rfl)
theorem dX0_force_10 : decode cX0_force 10 = .ok (.invokestatic 133, 3) := dk_184 0 133 (dk_at dksX0_force_0 10 rfl rfl)
theorem dX0_force_13 : decode cX0_force 13 = .ok (.ifCond .ne 6, 3) := dk_154 0 6 (dk_at dksX0_force_0 13 rfl rfl)
theorem dX0_force_16 : decode cX0_force 16 = .ok (.bipush (-2), 2) := dk_16 254 (dk_at dksX0_force_0 16 rfl rfl)
theorem dX0_force_18 : decode cX0_force 18 = .ok (.ireturn, 1) := dk_172 (dk_at dksX0_force_0 18 rfl rfl)
theorem dX0_force_19 : decode cX0_force 19 = .ok (.aload_n 0, 1) := dk_42 (dk_at dksX0_force_0 19 rfl rfl)
theorem dX0_force_20 : decode cX0_force 20 = .ok (.getfield 173, 3) := dk_180 0 173 (dk_at dksX0_force_0 20 rfl rfl)
theorem dX0_force_23 : decode cX0_force 23 = .ok (.istore_n 2, 1) := dk_61 (dk_at dksX0_force_0 23 rfl rfl)
theorem dX0_force_24 : decode cX0_force 24 = .ok (.aload_n 0, 1) := dk_42 (dk_at dksX0_force_1 0 rfl rfl)
theorem dX0_force_25 : decode cX0_force 25 = .ok (.iload_n 1, 1) := dk_27 (dk_at dksX0_force_1 1 rfl rfl)
theorem dX0_force_26 : decode cX0_force 26 = .ok (.putfield 173, 3) := dk_181 0 173 (dk_at dksX0_force_1 2 rfl rfl)
theorem dX0_force_29 : decode cX0_force 29 = .ok (.iload_n 2, 1) := dk_28 (dk_at dksX0_force_1 5 rfl rfl)
theorem dX0_force_30 : decode cX0_force 30 = .ok (.ireturn, 1) := dk_172 (dk_at dksX0_force_1 6 rfl rfl)
abbrev cX0_sheet : ByteArray := prog_1_method_68_code
def yX0_sheet : MethodName := ⟨RX0, "sheet", "(III)I"⟩
def dkwX0_sheet_3 : List UInt8 := [181, 0, 205, 42, 180, 0, 117, 27, 50, 180, 0, 211, 3, 184, 1, 61, 4, 172]
abbrev dktX0_sheet_3 : List UInt8 := dkwX0_sheet_3 ++ []
def dkwX0_sheet_2 : List UInt8 := [180, 0, 117, 27, 50, 28, 181, 0, 202, 42, 180, 0, 117, 27, 50, 28, 156, 0, 7, 3, 167, 0, 4, 29]
abbrev dktX0_sheet_2 : List UInt8 := dkwX0_sheet_2 ++ dktX0_sheet_3
def dkwX0_sheet_1 : List UInt8 := [155, 0, 12, 29, 16, 40, 164, 0, 6, 16, 254, 172, 28, 155, 0, 10, 29, 156, 0, 6, 16, 242, 172, 42]
abbrev dktX0_sheet_1 : List UInt8 := dkwX0_sheet_1 ++ dktX0_sheet_2
def dkwX0_sheet_0 : List UInt8 := [27, 184, 0, 199, 153, 0, 27, 28, 133, 20, 0, 161, 20, 0, 157, 184, 0, 133, 153, 0, 13, 28]
abbrev dktX0_sheet_0 : List UInt8 := dkwX0_sheet_0 ++ dktX0_sheet_1
theorem dksX0_sheet_0 : cX0_sheet.data.toList.drop 0 = dktX0_sheet_0 := by decide +kernel
theorem dksX0_sheet_1 : cX0_sheet.data.toList.drop 22 = dktX0_sheet_1 := dk_seg dksX0_sheet_0 22 rfl rfl
theorem dksX0_sheet_2 : cX0_sheet.data.toList.drop 46 = dktX0_sheet_2 := dk_seg dksX0_sheet_1 24 rfl rfl
theorem dksX0_sheet_3 : cX0_sheet.data.toList.drop 70 = dktX0_sheet_3 := dk_seg dksX0_sheet_2 24 rfl rfl
theorem dX0_sheet_0 : decode cX0_sheet 0 = .ok (.iload_n 1, 1) := dk_27 (dk_at dksX0_sheet_0 0 rfl rfl)
theorem dX0_sheet_1 : decode cX0_sheet 1 = .ok (.invokestatic 199, 3) := dk_184 0 199 (dk_at dksX0_sheet_0 1 rfl rfl)
theorem dX0_sheet_4 : decode cX0_sheet 4 = .ok (.ifCond .eq 27, 3) := dk_153 0 27 (dk_at dksX0_sheet_0 4 rfl rfl)
theorem dX0_sheet_7 : decode cX0_sheet 7 = .ok (.iload_n 2, 1) := dk_28 (dk_at dksX0_sheet_0 7 rfl rfl)
theorem dX0_sheet_8 : decode cX0_sheet 8 = .ok (.i2l, 1) := dk_133 (dk_at dksX0_sheet_0 8 rfl rfl)
theorem dX0_sheet_9 : decode cX0_sheet 9 = .ok (.ldc2_w 161, 3) := dk_20 0 161 (dk_at dksX0_sheet_0 9 rfl rfl)
theorem dX0_sheet_12 : decode cX0_sheet 12 = .ok (.ldc2_w 157, 3) := dk_20 0 157 (dk_at dksX0_sheet_0 12 rfl rfl)
theorem dX0_sheet_15 : decode cX0_sheet 15 = .ok (.invokestatic 133, 3) := dk_184 0 133 (dk_at dksX0_sheet_0 15 rfl rfl)
theorem dX0_sheet_18 : decode cX0_sheet 18 = .ok (.ifCond .eq 13, 3) := dk_153 0 13 (dk_at dksX0_sheet_0 18 rfl rfl)
theorem dX0_sheet_21 : decode cX0_sheet 21 = .ok (.iload_n 2, 1) := dk_28 (dk_at dksX0_sheet_0 21 rfl rfl)
theorem dX0_sheet_22 : decode cX0_sheet 22 = .ok (.ifCond .lt 12, 3) := dk_155 0 12 (dk_at dksX0_sheet_1 0 rfl rfl)
theorem dX0_sheet_25 : decode cX0_sheet 25 = .ok (.iload_n 3, 1) := dk_29 (dk_at dksX0_sheet_1 3 rfl rfl)
theorem dX0_sheet_26 : decode cX0_sheet 26 = .ok (.bipush 40, 2) := dk_16 40 (dk_at dksX0_sheet_1 4 rfl rfl)
theorem dX0_sheet_28 : decode cX0_sheet 28 = .ok (.if_icmp .le 6, 3) := dk_164 0 6 (dk_at dksX0_sheet_1 6 rfl rfl)
theorem dX0_sheet_31 : decode cX0_sheet 31 = .ok (.bipush (-2), 2) := dk_16 254 (dk_at dksX0_sheet_1 9 rfl rfl)
theorem dX0_sheet_33 : decode cX0_sheet 33 = .ok (.ireturn, 1) := dk_172 (dk_at dksX0_sheet_1 11 rfl rfl)
theorem dX0_sheet_34 : decode cX0_sheet 34 = .ok (.iload_n 2, 1) := dk_28 (dk_at dksX0_sheet_1 12 rfl rfl)
theorem dX0_sheet_35 : decode cX0_sheet 35 = .ok (.ifCond .lt 10, 3) := dk_155 0 10 (dk_at dksX0_sheet_1 13 rfl rfl)
theorem dX0_sheet_38 : decode cX0_sheet 38 = .ok (.iload_n 3, 1) := dk_29 (dk_at dksX0_sheet_1 16 rfl rfl)
theorem dX0_sheet_39 : decode cX0_sheet 39 = .ok (.ifCond .ge 6, 3) := dk_156 0 6 (dk_at dksX0_sheet_1 17 rfl rfl)
theorem dX0_sheet_42 : decode cX0_sheet 42 = .ok (.bipush (-14), 2) := dk_16 242 (dk_at dksX0_sheet_1 20 rfl rfl)
theorem dX0_sheet_44 : decode cX0_sheet 44 = .ok (.ireturn, 1) := dk_172 (dk_at dksX0_sheet_1 22 rfl rfl)
theorem dX0_sheet_45 : decode cX0_sheet 45 = .ok (.aload_n 0, 1) := dk_42 (dk_at dksX0_sheet_1 23 rfl rfl)
theorem dX0_sheet_46 : decode cX0_sheet 46 = .ok (.getfield 117, 3) := dk_180 0 117 (dk_at dksX0_sheet_2 0 rfl rfl)
theorem dX0_sheet_49 : decode cX0_sheet 49 = .ok (.iload_n 1, 1) := dk_27 (dk_at dksX0_sheet_2 3 rfl rfl)
theorem dX0_sheet_50 : decode cX0_sheet 50 = .ok (.aaload, 1) := dk_50 (dk_at dksX0_sheet_2 4 rfl rfl)
theorem dX0_sheet_51 : decode cX0_sheet 51 = .ok (.iload_n 2, 1) := dk_28 (dk_at dksX0_sheet_2 5 rfl rfl)
theorem dX0_sheet_52 : decode cX0_sheet 52 = .ok (.putfield 202, 3) := dk_181 0 202 (dk_at dksX0_sheet_2 6 rfl rfl)
theorem dX0_sheet_55 : decode cX0_sheet 55 = .ok (.aload_n 0, 1) := dk_42 (dk_at dksX0_sheet_2 9 rfl rfl)
theorem dX0_sheet_56 : decode cX0_sheet 56 = .ok (.getfield 117, 3) := dk_180 0 117 (dk_at dksX0_sheet_2 10 rfl rfl)
theorem dX0_sheet_59 : decode cX0_sheet 59 = .ok (.iload_n 1, 1) := dk_27 (dk_at dksX0_sheet_2 13 rfl rfl)
theorem dX0_sheet_60 : decode cX0_sheet 60 = .ok (.aaload, 1) := dk_50 (dk_at dksX0_sheet_2 14 rfl rfl)
theorem dX0_sheet_61 : decode cX0_sheet 61 = .ok (.iload_n 2, 1) := dk_28 (dk_at dksX0_sheet_2 15 rfl rfl)
theorem dX0_sheet_62 : decode cX0_sheet 62 = .ok (.ifCond .ge 7, 3) := dk_156 0 7 (dk_at dksX0_sheet_2 16 rfl rfl)
theorem dX0_sheet_65 : decode cX0_sheet 65 = .ok (.iconst 0, 1) := dk_3 (dk_at dksX0_sheet_2 19 rfl rfl)
theorem dX0_sheet_66 : decode cX0_sheet 66 = .ok (.goto 4, 3) := dk_167 0 4 (dk_at dksX0_sheet_2 20 rfl rfl)
theorem dX0_sheet_69 : decode cX0_sheet 69 = .ok (.iload_n 3, 1) := dk_29 (dk_at dksX0_sheet_2 23 rfl rfl)
theorem dX0_sheet_70 : decode cX0_sheet 70 = .ok (.putfield 205, 3) := dk_181 0 205 (dk_at dksX0_sheet_3 0 rfl rfl)
theorem dX0_sheet_73 : decode cX0_sheet 73 = .ok (.aload_n 0, 1) := dk_42 (dk_at dksX0_sheet_3 3 rfl rfl)
theorem dX0_sheet_74 : decode cX0_sheet 74 = .ok (.getfield 117, 3) := dk_180 0 117 (dk_at dksX0_sheet_3 4 rfl rfl)
theorem dX0_sheet_77 : decode cX0_sheet 77 = .ok (.iload_n 1, 1) := dk_27 (dk_at dksX0_sheet_3 7 rfl rfl)
theorem dX0_sheet_78 : decode cX0_sheet 78 = .ok (.aaload, 1) := dk_50 (dk_at dksX0_sheet_3 8 rfl rfl)
theorem dX0_sheet_79 : decode cX0_sheet 79 = .ok (.getfield 211, 3) := dk_180 0 211 (dk_at dksX0_sheet_3 9 rfl rfl)
theorem dX0_sheet_82 : decode cX0_sheet 82 = .ok (.iconst 0, 1) := dk_3 (dk_at dksX0_sheet_3 12 rfl rfl)
theorem dX0_sheet_83 : decode cX0_sheet 83 = .ok (.invokestatic 317, 3) := dk_184 1 61 (dk_at dksX0_sheet_3 13 rfl rfl)
theorem dX0_sheet_86 : decode cX0_sheet 86 = .ok (.iconst 1, 1) := dk_4 (dk_at dksX0_sheet_3 16 rfl rfl)
theorem dX0_sheet_87 : decode cX0_sheet 87 = .ok (.ireturn, 1) := dk_172 (dk_at dksX0_sheet_3 17 rfl rfl)
abbrev cX0_cell : ByteArray := prog_1_method_69_code
def yX0_cell : MethodName := ⟨RX0, "cell", "(III)I"⟩
def dkwX0_cell_2 : List UInt8 := [58, 4, 25, 4, 180, 1, 174, 172]
abbrev dktX0_cell_2 : List UInt8 := dkwX0_cell_2 ++ []
def dkwX0_cell_1 : List UInt8 := [180, 0, 205, 133, 10, 101, 184, 0, 133, 16, 244, 184, 1, 167, 25, 4, 28, 29, 182, 1, 171, 4, 172]
abbrev dktX0_cell_1 : List UInt8 := dkwX0_cell_1 ++ dktX0_cell_2
def dkwX0_cell_0 : List UInt8 := [27, 184, 0, 199, 154, 0, 6, 16, 254, 172, 42, 27, 182, 1, 163, 58, 4, 28, 133, 9, 25, 4]
abbrev dktX0_cell_0 : List UInt8 := dkwX0_cell_0 ++ dktX0_cell_1
theorem dksX0_cell_0 : cX0_cell.data.toList.drop 0 = dktX0_cell_0 := by decide +kernel
theorem dksX0_cell_1 : cX0_cell.data.toList.drop 22 = dktX0_cell_1 := dk_seg dksX0_cell_0 22 rfl rfl
theorem dksX0_cell_2 : cX0_cell.data.toList.drop 45 = dktX0_cell_2 := dk_seg dksX0_cell_1 23 rfl rfl
theorem dX0_cell_0 : decode cX0_cell 0 = .ok (.iload_n 1, 1) := dk_27 (dk_at dksX0_cell_0 0 rfl rfl)
theorem dX0_cell_1 : decode cX0_cell 1 = .ok (.invokestatic 199, 3) := dk_184 0 199 (dk_at dksX0_cell_0 1 rfl rfl)
theorem dX0_cell_4 : decode cX0_cell 4 = .ok (.ifCond .ne 6, 3) := dk_154 0 6 (dk_at dksX0_cell_0 4 rfl rfl)
theorem dX0_cell_7 : decode cX0_cell 7 = .ok (.bipush (-2), 2) := dk_16 254 (dk_at dksX0_cell_0 7 rfl rfl)
theorem dX0_cell_9 : decode cX0_cell 9 = .ok (.ireturn, 1) := dk_172 (dk_at dksX0_cell_0 9 rfl rfl)
theorem dX0_cell_10 : decode cX0_cell 10 = .ok (.aload_n 0, 1) := dk_42 (dk_at dksX0_cell_0 10 rfl rfl)
theorem dX0_cell_11 : decode cX0_cell 11 = .ok (.iload_n 1, 1) := dk_27 (dk_at dksX0_cell_0 11 rfl rfl)
theorem dX0_cell_12 : decode cX0_cell 12 = .ok (.invokevirtual 419, 3) := dk_182 1 163 (dk_at dksX0_cell_0 12 rfl rfl)
theorem dX0_cell_15 : decode cX0_cell 15 = .ok (.astore 4, 2) := dk_58 4 (dk_at dksX0_cell_0 15 rfl rfl)
theorem dX0_cell_17 : decode cX0_cell 17 = .ok (.iload_n 2, 1) := dk_28 (dk_at dksX0_cell_0 17 rfl rfl)
theorem dX0_cell_18 : decode cX0_cell 18 = .ok (.i2l, 1) := dk_133 (dk_at dksX0_cell_0 18 rfl rfl)
theorem dX0_cell_19 : decode cX0_cell 19 = .ok (.lconst 0, 1) := dk_9 (dk_at dksX0_cell_0 19 rfl rfl)
theorem dX0_cell_20 : decode cX0_cell 20 = .ok (.aload 4, 2) := dk_25 4 (dk_at dksX0_cell_0 20 rfl rfl)
theorem dX0_cell_22 : decode cX0_cell 22 = .ok (.getfield 205, 3) := dk_180 0 205 (dk_at dksX0_cell_1 0 rfl rfl)
theorem dX0_cell_25 : decode cX0_cell 25 = .ok (.i2l, 1) := dk_133 (dk_at dksX0_cell_1 3 rfl rfl)
theorem dX0_cell_26 : decode cX0_cell 26 = .ok (.lconst 1, 1) := dk_10 (dk_at dksX0_cell_1 4 rfl rfl)
theorem dX0_cell_27 : decode cX0_cell 27 = .ok (.lsub, 1) := dk_101 (dk_at dksX0_cell_1 5 rfl rfl)
theorem dX0_cell_28 : decode cX0_cell 28 = .ok (.invokestatic 133, 3) := dk_184 0 133 (dk_at dksX0_cell_1 6 rfl rfl)
theorem dX0_cell_31 : decode cX0_cell 31 = .ok (.bipush (-12), 2) := dk_16 244 (dk_at dksX0_cell_1 9 rfl rfl)
theorem dX0_cell_33 : decode cX0_cell 33 = .ok (.invokestatic 423, 3) := dk_184 1 167 (dk_at dksX0_cell_1 11 rfl rfl)
theorem dX0_cell_36 : decode cX0_cell 36 = .ok (.aload 4, 2) := dk_25 4 (dk_at dksX0_cell_1 14 rfl rfl)
theorem dX0_cell_38 : decode cX0_cell 38 = .ok (.iload_n 2, 1) := dk_28 (dk_at dksX0_cell_1 16 rfl rfl)
theorem dX0_cell_39 : decode cX0_cell 39 = .ok (.iload_n 3, 1) := dk_29 (dk_at dksX0_cell_1 17 rfl rfl)
theorem dX0_cell_40 : decode cX0_cell 40 = .ok (.invokevirtual 427, 3) := dk_182 1 171 (dk_at dksX0_cell_1 18 rfl rfl)
theorem dX0_cell_43 : decode cX0_cell 43 = .ok (.iconst 1, 1) := dk_4 (dk_at dksX0_cell_1 21 rfl rfl)
theorem dX0_cell_44 : decode cX0_cell 44 = .ok (.ireturn, 1) := dk_172 (dk_at dksX0_cell_1 22 rfl rfl)
theorem dX0_cell_45 : decode cX0_cell 45 = .ok (.astore 4, 2) := dk_58 4 (dk_at dksX0_cell_2 0 rfl rfl)
theorem dX0_cell_47 : decode cX0_cell 47 = .ok (.aload 4, 2) := dk_25 4 (dk_at dksX0_cell_2 2 rfl rfl)
theorem dX0_cell_49 : decode cX0_cell 49 = .ok (.getfield 430, 3) := dk_180 1 174 (dk_at dksX0_cell_2 4 rfl rfl)
theorem dX0_cell_52 : decode cX0_cell 52 = .ok (.ireturn, 1) := dk_172 (dk_at dksX0_cell_2 7 rfl rfl)
abbrev cX0_there : ByteArray := prog_1_method_66_code
def yX0_there : MethodName := ⟨RX0, "there", "(I)LMarketDays$Sheet;"⟩
def dkwX0_there_1 : List UInt8 := [180, 0, 117, 27, 50, 176]
abbrev dktX0_there_1 : List UInt8 := dkwX0_there_1 ++ []
def dkwX0_there_0 : List UInt8 := [42, 180, 0, 117, 27, 50, 180, 0, 202, 156, 0, 13, 187, 1, 158, 89, 16, 245, 183, 1, 160, 191, 42]
abbrev dktX0_there_0 : List UInt8 := dkwX0_there_0 ++ dktX0_there_1
theorem dksX0_there_0 : cX0_there.data.toList.drop 0 = dktX0_there_0 := by decide +kernel
theorem dksX0_there_1 : cX0_there.data.toList.drop 23 = dktX0_there_1 := dk_seg dksX0_there_0 23 rfl rfl
theorem dX0_there_0 : decode cX0_there 0 = .ok (.aload_n 0, 1) := dk_42 (dk_at dksX0_there_0 0 rfl rfl)
theorem dX0_there_1 : decode cX0_there 1 = .ok (.getfield 117, 3) := dk_180 0 117 (dk_at dksX0_there_0 1 rfl rfl)
theorem dX0_there_4 : decode cX0_there 4 = .ok (.iload_n 1, 1) := dk_27 (dk_at dksX0_there_0 4 rfl rfl)
theorem dX0_there_5 : decode cX0_there 5 = .ok (.aaload, 1) := dk_50 (dk_at dksX0_there_0 5 rfl rfl)
theorem dX0_there_6 : decode cX0_there 6 = .ok (.getfield 202, 3) := dk_180 0 202 (dk_at dksX0_there_0 6 rfl rfl)
theorem dX0_there_9 : decode cX0_there 9 = .ok (.ifCond .ge 13, 3) := dk_156 0 13 (dk_at dksX0_there_0 9 rfl rfl)
theorem dX0_there_12 : decode cX0_there 12 = .ok (.new 414, 3) := dk_187 1 158 (dk_at dksX0_there_0 12 rfl rfl)
theorem dX0_there_15 : decode cX0_there 15 = .ok (.dup, 1) := dk_89 (dk_at dksX0_there_0 15 rfl rfl)
theorem dX0_there_16 : decode cX0_there 16 = .ok (.bipush (-11), 2) := dk_16 245 (dk_at dksX0_there_0 16 rfl rfl)
theorem dX0_there_18 : decode cX0_there 18 = .ok (.invokespecial 416, 3) := dk_183 1 160 (dk_at dksX0_there_0 18 rfl rfl)
theorem dX0_there_21 : decode cX0_there 21 = .ok (.athrow, 1) := dk_191 (dk_at dksX0_there_0 21 rfl rfl)
theorem dX0_there_22 : decode cX0_there 22 = .ok (.aload_n 0, 1) := dk_42 (dk_at dksX0_there_0 22 rfl rfl)
theorem dX0_there_23 : decode cX0_there 23 = .ok (.getfield 117, 3) := dk_180 0 117 (dk_at dksX0_there_1 0 rfl rfl)
theorem dX0_there_26 : decode cX0_there 26 = .ok (.iload_n 1, 1) := dk_27 (dk_at dksX0_there_1 3 rfl rfl)
theorem dX0_there_27 : decode cX0_there 27 = .ok (.aaload, 1) := dk_50 (dk_at dksX0_there_1 4 rfl rfl)
theorem dX0_there_28 : decode cX0_there 28 = .ok (.areturn, 1) := dk_176 (dk_at dksX0_there_1 5 rfl rfl)
abbrev cX0_need : ByteArray := prog_1_method_67_code
def yX0_need : MethodName := ⟨RX0, "need", "(ZI)V"⟩
def dkwX0_need_0 : List UInt8 := [26, 154, 0, 12, 187, 1, 158, 89, 27, 183, 1, 160, 191, 177]
abbrev dktX0_need_0 : List UInt8 := dkwX0_need_0 ++ []
theorem dksX0_need_0 : cX0_need.data.toList.drop 0 = dktX0_need_0 := by decide +kernel
theorem dX0_need_0 : decode cX0_need 0 = .ok (.iload_n 0, 1) := dk_26 (dk_at dksX0_need_0 0 rfl rfl)
theorem dX0_need_1 : decode cX0_need 1 = .ok (.ifCond .ne 12, 3) := dk_154 0 12 (dk_at dksX0_need_0 1 rfl rfl)
theorem dX0_need_4 : decode cX0_need 4 = .ok (.new 414, 3) := dk_187 1 158 (dk_at dksX0_need_0 4 rfl rfl)
theorem dX0_need_7 : decode cX0_need 7 = .ok (.dup, 1) := dk_89 (dk_at dksX0_need_0 7 rfl rfl)
theorem dX0_need_8 : decode cX0_need 8 = .ok (.iload_n 1, 1) := dk_27 (dk_at dksX0_need_0 8 rfl rfl)
theorem dX0_need_9 : decode cX0_need 9 = .ok (.invokespecial 416, 3) := dk_183 1 160 (dk_at dksX0_need_0 9 rfl rfl)
theorem dX0_need_12 : decode cX0_need 12 = .ok (.athrow, 1) := dk_191 (dk_at dksX0_need_0 12 rfl rfl)
theorem dX0_need_13 : decode cX0_need 13 = .ok (.return_, 1) := dk_177 (dk_at dksX0_need_0 13 rfl rfl)
abbrev cX0_copy : ByteArray := prog_1_method_70_code
def yX0_copy : MethodName := ⟨RX0, "copy", "(IIIII)I"⟩
def dkwX0_copy_5 : List UInt8 := [184, 1, 47, 21, 5, 172, 58, 6, 25, 6, 180, 1, 174, 172]
abbrev dktX0_copy_5 : List UInt8 := dkwX0_copy_5 ++ []
def dkwX0_copy_4 : List UInt8 := [167, 0, 4, 3, 16, 244, 184, 1, 167, 25, 6, 180, 0, 211, 28, 25, 7, 180, 0, 211, 21, 4, 21, 5]
abbrev dktX0_copy_4 : List UInt8 := dkwX0_copy_4 ++ dktX0_copy_5
def dkwX0_copy_3 : List UInt8 := [180, 0, 205, 21, 5, 100, 163, 0, 20, 21, 4, 25, 7, 180, 0, 205, 21, 5, 100, 163, 0, 7, 4]
abbrev dktX0_copy_3 : List UInt8 := dkwX0_copy_3 ++ dktX0_copy_4
def dkwX0_copy_2 : List UInt8 := [3, 16, 243, 184, 1, 167, 21, 5, 155, 0, 41, 28, 155, 0, 37, 21, 4, 155, 0, 32, 28, 25, 6]
abbrev dktX0_copy_2 : List UInt8 := dkwX0_copy_2 ++ dktX0_copy_3
def dkwX0_copy_1 : List UInt8 := [42, 29, 182, 1, 163, 58, 7, 25, 6, 180, 0, 202, 25, 7, 180, 0, 202, 160, 0, 7, 4, 167, 0, 4]
abbrev dktX0_copy_1 : List UInt8 := dkwX0_copy_1 ++ dktX0_copy_2
def dkwX0_copy_0 : List UInt8 := [27, 184, 0, 199, 153, 0, 10, 29, 184, 0, 199, 154, 0, 6, 16, 254, 172, 42, 27, 182, 1, 163, 58, 6]
abbrev dktX0_copy_0 : List UInt8 := dkwX0_copy_0 ++ dktX0_copy_1
theorem dksX0_copy_0 : cX0_copy.data.toList.drop 0 = dktX0_copy_0 := by decide +kernel
theorem dksX0_copy_1 : cX0_copy.data.toList.drop 24 = dktX0_copy_1 := dk_seg dksX0_copy_0 24 rfl rfl
theorem dksX0_copy_2 : cX0_copy.data.toList.drop 48 = dktX0_copy_2 := dk_seg dksX0_copy_1 24 rfl rfl
theorem dksX0_copy_3 : cX0_copy.data.toList.drop 71 = dktX0_copy_3 := dk_seg dksX0_copy_2 23 rfl rfl
theorem dksX0_copy_4 : cX0_copy.data.toList.drop 94 = dktX0_copy_4 := dk_seg dksX0_copy_3 23 rfl rfl
theorem dksX0_copy_5 : cX0_copy.data.toList.drop 118 = dktX0_copy_5 := dk_seg dksX0_copy_4 24 rfl rfl
theorem dX0_copy_0 : decode cX0_copy 0 = .ok (.iload_n 1, 1) := dk_27 (dk_at dksX0_copy_0 0 rfl rfl)
theorem dX0_copy_1 : decode cX0_copy 1 = .ok (.invokestatic 199, 3) := dk_184 0 199 (dk_at dksX0_copy_0 1 rfl rfl)
theorem dX0_copy_4 : decode cX0_copy 4 = .ok (.ifCond .eq 10, 3) := dk_153 0 10 (dk_at dksX0_copy_0 4 rfl rfl)
theorem dX0_copy_7 : decode cX0_copy 7 = .ok (.iload_n 3, 1) := dk_29 (dk_at dksX0_copy_0 7 rfl rfl)
theorem dX0_copy_8 : decode cX0_copy 8 = .ok (.invokestatic 199, 3) := dk_184 0 199 (dk_at dksX0_copy_0 8 rfl rfl)
theorem dX0_copy_11 : decode cX0_copy 11 = .ok (.ifCond .ne 6, 3) := dk_154 0 6 (dk_at dksX0_copy_0 11 rfl rfl)
theorem dX0_copy_14 : decode cX0_copy 14 = .ok (.bipush (-2), 2) := dk_16 254 (dk_at dksX0_copy_0 14 rfl rfl)
theorem dX0_copy_16 : decode cX0_copy 16 = .ok (.ireturn, 1) := dk_172 (dk_at dksX0_copy_0 16 rfl rfl)
theorem dX0_copy_17 : decode cX0_copy 17 = .ok (.aload_n 0, 1) := dk_42 (dk_at dksX0_copy_0 17 rfl rfl)
theorem dX0_copy_18 : decode cX0_copy 18 = .ok (.iload_n 1, 1) := dk_27 (dk_at dksX0_copy_0 18 rfl rfl)
theorem dX0_copy_19 : decode cX0_copy 19 = .ok (.invokevirtual 419, 3) := dk_182 1 163 (dk_at dksX0_copy_0 19 rfl rfl)
theorem dX0_copy_22 : decode cX0_copy 22 = .ok (.astore 6, 2) := dk_58 6 (dk_at dksX0_copy_0 22 rfl rfl)
theorem dX0_copy_24 : decode cX0_copy 24 = .ok (.aload_n 0, 1) := dk_42 (dk_at dksX0_copy_1 0 rfl rfl)
theorem dX0_copy_25 : decode cX0_copy 25 = .ok (.iload_n 3, 1) := dk_29 (dk_at dksX0_copy_1 1 rfl rfl)
theorem dX0_copy_26 : decode cX0_copy 26 = .ok (.invokevirtual 419, 3) := dk_182 1 163 (dk_at dksX0_copy_1 2 rfl rfl)
theorem dX0_copy_29 : decode cX0_copy 29 = .ok (.astore 7, 2) := dk_58 7 (dk_at dksX0_copy_1 5 rfl rfl)
theorem dX0_copy_31 : decode cX0_copy 31 = .ok (.aload 6, 2) := dk_25 6 (dk_at dksX0_copy_1 7 rfl rfl)
theorem dX0_copy_33 : decode cX0_copy 33 = .ok (.getfield 202, 3) := dk_180 0 202 (dk_at dksX0_copy_1 9 rfl rfl)
theorem dX0_copy_36 : decode cX0_copy 36 = .ok (.aload 7, 2) := dk_25 7 (dk_at dksX0_copy_1 12 rfl rfl)
theorem dX0_copy_38 : decode cX0_copy 38 = .ok (.getfield 202, 3) := dk_180 0 202 (dk_at dksX0_copy_1 14 rfl rfl)
theorem dX0_copy_41 : decode cX0_copy 41 = .ok (.if_icmp .ne 7, 3) := dk_160 0 7 (dk_at dksX0_copy_1 17 rfl rfl)
theorem dX0_copy_44 : decode cX0_copy 44 = .ok (.iconst 1, 1) := dk_4 (dk_at dksX0_copy_1 20 rfl rfl)
theorem dX0_copy_45 : decode cX0_copy 45 = .ok (.goto 4, 3) := dk_167 0 4 (dk_at dksX0_copy_1 21 rfl rfl)
theorem dX0_copy_48 : decode cX0_copy 48 = .ok (.iconst 0, 1) := dk_3 (dk_at dksX0_copy_2 0 rfl rfl)
theorem dX0_copy_49 : decode cX0_copy 49 = .ok (.bipush (-13), 2) := dk_16 243 (dk_at dksX0_copy_2 1 rfl rfl)
theorem dX0_copy_51 : decode cX0_copy 51 = .ok (.invokestatic 423, 3) := dk_184 1 167 (dk_at dksX0_copy_2 3 rfl rfl)
theorem dX0_copy_54 : decode cX0_copy 54 = .ok (.iload 5, 2) := dk_21 5 (dk_at dksX0_copy_2 6 rfl rfl)
theorem dX0_copy_56 : decode cX0_copy 56 = .ok (.ifCond .lt 41, 3) := dk_155 0 41 (dk_at dksX0_copy_2 8 rfl rfl)
theorem dX0_copy_59 : decode cX0_copy 59 = .ok (.iload_n 2, 1) := dk_28 (dk_at dksX0_copy_2 11 rfl rfl)
theorem dX0_copy_60 : decode cX0_copy 60 = .ok (.ifCond .lt 37, 3) := dk_155 0 37 (dk_at dksX0_copy_2 12 rfl rfl)
theorem dX0_copy_63 : decode cX0_copy 63 = .ok (.iload 4, 2) := dk_21 4 (dk_at dksX0_copy_2 15 rfl rfl)
theorem dX0_copy_65 : decode cX0_copy 65 = .ok (.ifCond .lt 32, 3) := dk_155 0 32 (dk_at dksX0_copy_2 17 rfl rfl)
theorem dX0_copy_68 : decode cX0_copy 68 = .ok (.iload_n 2, 1) := dk_28 (dk_at dksX0_copy_2 20 rfl rfl)
theorem dX0_copy_69 : decode cX0_copy 69 = .ok (.aload 6, 2) := dk_25 6 (dk_at dksX0_copy_2 21 rfl rfl)
theorem dX0_copy_71 : decode cX0_copy 71 = .ok (.getfield 205, 3) := dk_180 0 205 (dk_at dksX0_copy_3 0 rfl rfl)
theorem dX0_copy_74 : decode cX0_copy 74 = .ok (.iload 5, 2) := dk_21 5 (dk_at dksX0_copy_3 3 rfl rfl)
theorem dX0_copy_76 : decode cX0_copy 76 = .ok (.isub, 1) := dk_100 (dk_at dksX0_copy_3 5 rfl rfl)
theorem dX0_copy_77 : decode cX0_copy 77 = .ok (.if_icmp .gt 20, 3) := dk_163 0 20 (dk_at dksX0_copy_3 6 rfl rfl)
theorem dX0_copy_80 : decode cX0_copy 80 = .ok (.iload 4, 2) := dk_21 4 (dk_at dksX0_copy_3 9 rfl rfl)
theorem dX0_copy_82 : decode cX0_copy 82 = .ok (.aload 7, 2) := dk_25 7 (dk_at dksX0_copy_3 11 rfl rfl)
theorem dX0_copy_84 : decode cX0_copy 84 = .ok (.getfield 205, 3) := dk_180 0 205 (dk_at dksX0_copy_3 13 rfl rfl)
theorem dX0_copy_87 : decode cX0_copy 87 = .ok (.iload 5, 2) := dk_21 5 (dk_at dksX0_copy_3 16 rfl rfl)
theorem dX0_copy_89 : decode cX0_copy 89 = .ok (.isub, 1) := dk_100 (dk_at dksX0_copy_3 18 rfl rfl)
theorem dX0_copy_90 : decode cX0_copy 90 = .ok (.if_icmp .gt 7, 3) := dk_163 0 7 (dk_at dksX0_copy_3 19 rfl rfl)
theorem dX0_copy_93 : decode cX0_copy 93 = .ok (.iconst 1, 1) := dk_4 (dk_at dksX0_copy_3 22 rfl rfl)
theorem dX0_copy_94 : decode cX0_copy 94 = .ok (.goto 4, 3) := dk_167 0 4 (dk_at dksX0_copy_4 0 rfl rfl)
theorem dX0_copy_97 : decode cX0_copy 97 = .ok (.iconst 0, 1) := dk_3 (dk_at dksX0_copy_4 3 rfl rfl)
theorem dX0_copy_98 : decode cX0_copy 98 = .ok (.bipush (-12), 2) := dk_16 244 (dk_at dksX0_copy_4 4 rfl rfl)
theorem dX0_copy_100 : decode cX0_copy 100 = .ok (.invokestatic 423, 3) := dk_184 1 167 (dk_at dksX0_copy_4 6 rfl rfl)
theorem dX0_copy_103 : decode cX0_copy 103 = .ok (.aload 6, 2) := dk_25 6 (dk_at dksX0_copy_4 9 rfl rfl)
theorem dX0_copy_105 : decode cX0_copy 105 = .ok (.getfield 211, 3) := dk_180 0 211 (dk_at dksX0_copy_4 11 rfl rfl)
theorem dX0_copy_108 : decode cX0_copy 108 = .ok (.iload_n 2, 1) := dk_28 (dk_at dksX0_copy_4 14 rfl rfl)
theorem dX0_copy_109 : decode cX0_copy 109 = .ok (.aload 7, 2) := dk_25 7 (dk_at dksX0_copy_4 15 rfl rfl)
theorem dX0_copy_111 : decode cX0_copy 111 = .ok (.getfield 211, 3) := dk_180 0 211 (dk_at dksX0_copy_4 17 rfl rfl)
theorem dX0_copy_114 : decode cX0_copy 114 = .ok (.iload 4, 2) := dk_21 4 (dk_at dksX0_copy_4 20 rfl rfl)
theorem dX0_copy_116 : decode cX0_copy 116 = .ok (.iload 5, 2) := dk_21 5 (dk_at dksX0_copy_4 22 rfl rfl)
theorem dX0_copy_118 : decode cX0_copy 118 = .ok (.invokestatic 303, 3) := dk_184 1 47 (dk_at dksX0_copy_5 0 rfl rfl)
theorem dX0_copy_121 : decode cX0_copy 121 = .ok (.iload 5, 2) := dk_21 5 (dk_at dksX0_copy_5 3 rfl rfl)
theorem dX0_copy_123 : decode cX0_copy 123 = .ok (.ireturn, 1) := dk_172 (dk_at dksX0_copy_5 5 rfl rfl)
theorem dX0_copy_124 : decode cX0_copy 124 = .ok (.astore 6, 2) := dk_58 6 (dk_at dksX0_copy_5 6 rfl rfl)
theorem dX0_copy_126 : decode cX0_copy 126 = .ok (.aload 6, 2) := dk_25 6 (dk_at dksX0_copy_5 8 rfl rfl)
theorem dX0_copy_128 : decode cX0_copy 128 = .ok (.getfield 430, 3) := dk_180 1 174 (dk_at dksX0_copy_5 10 rfl rfl)
theorem dX0_copy_131 : decode cX0_copy 131 = .ok (.ireturn, 1) := dk_172 (dk_at dksX0_copy_5 13 rfl rfl)
abbrev cX0_roads : ByteArray := prog_1_method_71_code
def yX0_roads : MethodName := ⟨RX0, "roads", "(IIII)I"⟩
def dkwX0_roads_7 : List UInt8 := [180, 1, 174, 172]
abbrev dktX0_roads_7 : List UInt8 := dkwX0_roads_7 ++ []
def dkwX0_roads_6 : List UInt8 := [182, 1, 179, 155, 0, 6, 132, 5, 1, 132, 7, 1, 167, 255, 170, 21, 5, 172, 58, 6, 25, 6]
abbrev dktX0_roads_6 : List UInt8 := dkwX0_roads_6 ++ dktX0_roads_7
def dkwX0_roads_5 : List UInt8 := [21, 8, 46, 25, 6, 180, 0, 211, 21, 8, 4, 96, 46, 25, 6, 180, 0, 211, 21, 8, 5, 96, 46]
abbrev dktX0_roads_5 : List UInt8 := dkwX0_roads_5 ++ dktX0_roads_6
def dkwX0_roads_4 : List UInt8 := [167, 0, 4, 3, 16, 244, 184, 1, 167, 29, 6, 21, 7, 104, 96, 54, 8, 42, 25, 6, 180, 0, 211]
abbrev dktX0_roads_4 : List UInt8 := dkwX0_roads_4 ++ dktX0_roads_5
def dkwX0_roads_3 : List UInt8 := [162, 0, 85, 29, 155, 0, 23, 29, 25, 6, 180, 0, 205, 6, 21, 7, 104, 100, 6, 100, 163, 0, 7, 4]
abbrev dktX0_roads_3 : List UInt8 := dkwX0_roads_3 ++ dktX0_roads_4
def dkwX0_roads_2 : List UInt8 := [180, 0, 202, 28, 160, 0, 7, 4, 167, 0, 4, 3, 16, 243, 184, 1, 167, 3, 54, 7, 21, 7, 21, 4]
abbrev dktX0_roads_2 : List UInt8 := dkwX0_roads_2 ++ dktX0_roads_3
def dkwX0_roads_1 : List UInt8 := [20, 1, 177, 184, 0, 133, 154, 0, 6, 16, 254, 172, 3, 54, 5, 42, 27, 182, 1, 163, 58, 6, 25, 6]
abbrev dktX0_roads_1 : List UInt8 := dkwX0_roads_1 ++ dktX0_roads_2
def dkwX0_roads_0 : List UInt8 := [27, 184, 0, 199, 153, 0, 28, 28, 133, 9, 20, 0, 157, 184, 0, 133, 153, 0, 16, 21, 4, 133, 9]
abbrev dktX0_roads_0 : List UInt8 := dkwX0_roads_0 ++ dktX0_roads_1
theorem dksX0_roads_0 : cX0_roads.data.toList.drop 0 = dktX0_roads_0 := by decide +kernel
theorem dksX0_roads_1 : cX0_roads.data.toList.drop 23 = dktX0_roads_1 := dk_seg dksX0_roads_0 23 rfl rfl
theorem dksX0_roads_2 : cX0_roads.data.toList.drop 47 = dktX0_roads_2 := dk_seg dksX0_roads_1 24 rfl rfl
theorem dksX0_roads_3 : cX0_roads.data.toList.drop 71 = dktX0_roads_3 := dk_seg dksX0_roads_2 24 rfl rfl
theorem dksX0_roads_4 : cX0_roads.data.toList.drop 95 = dktX0_roads_4 := dk_seg dksX0_roads_3 24 rfl rfl
theorem dksX0_roads_5 : cX0_roads.data.toList.drop 118 = dktX0_roads_5 := dk_seg dksX0_roads_4 23 rfl rfl
theorem dksX0_roads_6 : cX0_roads.data.toList.drop 141 = dktX0_roads_6 := dk_seg dksX0_roads_5 23 rfl rfl
theorem dksX0_roads_7 : cX0_roads.data.toList.drop 163 = dktX0_roads_7 := dk_seg dksX0_roads_6 22 rfl rfl
theorem dX0_roads_0 : decode cX0_roads 0 = .ok (.iload_n 1, 1) := dk_27 (dk_at dksX0_roads_0 0 rfl rfl)
theorem dX0_roads_1 : decode cX0_roads 1 = .ok (.invokestatic 199, 3) := dk_184 0 199 (dk_at dksX0_roads_0 1 rfl rfl)
theorem dX0_roads_4 : decode cX0_roads 4 = .ok (.ifCond .eq 28, 3) := dk_153 0 28 (dk_at dksX0_roads_0 4 rfl rfl)
theorem dX0_roads_7 : decode cX0_roads 7 = .ok (.iload_n 2, 1) := dk_28 (dk_at dksX0_roads_0 7 rfl rfl)
theorem dX0_roads_8 : decode cX0_roads 8 = .ok (.i2l, 1) := dk_133 (dk_at dksX0_roads_0 8 rfl rfl)
theorem dX0_roads_9 : decode cX0_roads 9 = .ok (.lconst 0, 1) := dk_9 (dk_at dksX0_roads_0 9 rfl rfl)
theorem dX0_roads_10 : decode cX0_roads 10 = .ok (.ldc2_w 157, 3) := dk_20 0 157 (dk_at dksX0_roads_0 10 rfl rfl)
theorem dX0_roads_13 : decode cX0_roads 13 = .ok (.invokestatic 133, 3) := dk_184 0 133 (dk_at dksX0_roads_0 13 rfl rfl)
theorem dX0_roads_16 : decode cX0_roads 16 = .ok (.ifCond .eq 16, 3) := dk_153 0 16 (dk_at dksX0_roads_0 16 rfl rfl)
theorem dX0_roads_19 : decode cX0_roads 19 = .ok (.iload 4, 2) := dk_21 4 (dk_at dksX0_roads_0 19 rfl rfl)
theorem dX0_roads_21 : decode cX0_roads 21 = .ok (.i2l, 1) := dk_133 (dk_at dksX0_roads_0 21 rfl rfl)
theorem dX0_roads_22 : decode cX0_roads 22 = .ok (.lconst 0, 1) := dk_9 (dk_at dksX0_roads_0 22 rfl rfl)
theorem dX0_roads_23 : decode cX0_roads 23 = .ok (.ldc2_w 433, 3) := dk_20 1 177 (dk_at dksX0_roads_1 0 rfl rfl)
theorem dX0_roads_26 : decode cX0_roads 26 = .ok (.invokestatic 133, 3) := dk_184 0 133 (dk_at dksX0_roads_1 3 rfl rfl)
theorem dX0_roads_29 : decode cX0_roads 29 = .ok (.ifCond .ne 6, 3) := dk_154 0 6 (dk_at dksX0_roads_1 6 rfl rfl)
theorem dX0_roads_32 : decode cX0_roads 32 = .ok (.bipush (-2), 2) := dk_16 254 (dk_at dksX0_roads_1 9 rfl rfl)
theorem dX0_roads_34 : decode cX0_roads 34 = .ok (.ireturn, 1) := dk_172 (dk_at dksX0_roads_1 11 rfl rfl)
theorem dX0_roads_35 : decode cX0_roads 35 = .ok (.iconst 0, 1) := dk_3 (dk_at dksX0_roads_1 12 rfl rfl)
theorem dX0_roads_36 : decode cX0_roads 36 = .ok (.istore 5, 2) := dk_54 5 (dk_at dksX0_roads_1 13 rfl rfl)
theorem dX0_roads_38 : decode cX0_roads 38 = .ok (.aload_n 0, 1) := dk_42 (dk_at dksX0_roads_1 15 rfl rfl)
theorem dX0_roads_39 : decode cX0_roads 39 = .ok (.iload_n 1, 1) := dk_27 (dk_at dksX0_roads_1 16 rfl rfl)
theorem dX0_roads_40 : decode cX0_roads 40 = .ok (.invokevirtual 419, 3) := dk_182 1 163 (dk_at dksX0_roads_1 17 rfl rfl)
theorem dX0_roads_43 : decode cX0_roads 43 = .ok (.astore 6, 2) := dk_58 6 (dk_at dksX0_roads_1 20 rfl rfl)
theorem dX0_roads_45 : decode cX0_roads 45 = .ok (.aload 6, 2) := dk_25 6 (dk_at dksX0_roads_1 22 rfl rfl)
theorem dX0_roads_47 : decode cX0_roads 47 = .ok (.getfield 202, 3) := dk_180 0 202 (dk_at dksX0_roads_2 0 rfl rfl)
theorem dX0_roads_50 : decode cX0_roads 50 = .ok (.iload_n 2, 1) := dk_28 (dk_at dksX0_roads_2 3 rfl rfl)
theorem dX0_roads_51 : decode cX0_roads 51 = .ok (.if_icmp .ne 7, 3) := dk_160 0 7 (dk_at dksX0_roads_2 4 rfl rfl)
theorem dX0_roads_54 : decode cX0_roads 54 = .ok (.iconst 1, 1) := dk_4 (dk_at dksX0_roads_2 7 rfl rfl)
theorem dX0_roads_55 : decode cX0_roads 55 = .ok (.goto 4, 3) := dk_167 0 4 (dk_at dksX0_roads_2 8 rfl rfl)
theorem dX0_roads_58 : decode cX0_roads 58 = .ok (.iconst 0, 1) := dk_3 (dk_at dksX0_roads_2 11 rfl rfl)
theorem dX0_roads_59 : decode cX0_roads 59 = .ok (.bipush (-13), 2) := dk_16 243 (dk_at dksX0_roads_2 12 rfl rfl)
theorem dX0_roads_61 : decode cX0_roads 61 = .ok (.invokestatic 423, 3) := dk_184 1 167 (dk_at dksX0_roads_2 14 rfl rfl)
theorem dX0_roads_64 : decode cX0_roads 64 = .ok (.iconst 0, 1) := dk_3 (dk_at dksX0_roads_2 17 rfl rfl)
theorem dX0_roads_65 : decode cX0_roads 65 = .ok (.istore 7, 2) := dk_54 7 (dk_at dksX0_roads_2 18 rfl rfl)
theorem dX0_roads_67 : decode cX0_roads 67 = .ok (.iload 7, 2) := dk_21 7 (dk_at dksX0_roads_2 20 rfl rfl)
theorem dX0_roads_69 : decode cX0_roads 69 = .ok (.iload 4, 2) := dk_21 4 (dk_at dksX0_roads_2 22 rfl rfl)
theorem dX0_roads_71 : decode cX0_roads 71 = .ok (.if_icmp .ge 85, 3) := dk_162 0 85 (dk_at dksX0_roads_3 0 rfl rfl)
theorem dX0_roads_74 : decode cX0_roads 74 = .ok (.iload_n 3, 1) := dk_29 (dk_at dksX0_roads_3 3 rfl rfl)
theorem dX0_roads_75 : decode cX0_roads 75 = .ok (.ifCond .lt 23, 3) := dk_155 0 23 (dk_at dksX0_roads_3 4 rfl rfl)
theorem dX0_roads_78 : decode cX0_roads 78 = .ok (.iload_n 3, 1) := dk_29 (dk_at dksX0_roads_3 7 rfl rfl)
theorem dX0_roads_79 : decode cX0_roads 79 = .ok (.aload 6, 2) := dk_25 6 (dk_at dksX0_roads_3 8 rfl rfl)
theorem dX0_roads_81 : decode cX0_roads 81 = .ok (.getfield 205, 3) := dk_180 0 205 (dk_at dksX0_roads_3 10 rfl rfl)
theorem dX0_roads_84 : decode cX0_roads 84 = .ok (.iconst 3, 1) := dk_6 (dk_at dksX0_roads_3 13 rfl rfl)
theorem dX0_roads_85 : decode cX0_roads 85 = .ok (.iload 7, 2) := dk_21 7 (dk_at dksX0_roads_3 14 rfl rfl)
theorem dX0_roads_87 : decode cX0_roads 87 = .ok (.imul, 1) := dk_104 (dk_at dksX0_roads_3 16 rfl rfl)
theorem dX0_roads_88 : decode cX0_roads 88 = .ok (.isub, 1) := dk_100 (dk_at dksX0_roads_3 17 rfl rfl)
theorem dX0_roads_89 : decode cX0_roads 89 = .ok (.iconst 3, 1) := dk_6 (dk_at dksX0_roads_3 18 rfl rfl)
theorem dX0_roads_90 : decode cX0_roads 90 = .ok (.isub, 1) := dk_100 (dk_at dksX0_roads_3 19 rfl rfl)
theorem dX0_roads_91 : decode cX0_roads 91 = .ok (.if_icmp .gt 7, 3) := dk_163 0 7 (dk_at dksX0_roads_3 20 rfl rfl)
theorem dX0_roads_94 : decode cX0_roads 94 = .ok (.iconst 1, 1) := dk_4 (dk_at dksX0_roads_3 23 rfl rfl)
theorem dX0_roads_95 : decode cX0_roads 95 = .ok (.goto 4, 3) := dk_167 0 4 (dk_at dksX0_roads_4 0 rfl rfl)
theorem dX0_roads_98 : decode cX0_roads 98 = .ok (.iconst 0, 1) := dk_3 (dk_at dksX0_roads_4 3 rfl rfl)
theorem dX0_roads_99 : decode cX0_roads 99 = .ok (.bipush (-12), 2) := dk_16 244 (dk_at dksX0_roads_4 4 rfl rfl)
theorem dX0_roads_101 : decode cX0_roads 101 = .ok (.invokestatic 423, 3) := dk_184 1 167 (dk_at dksX0_roads_4 6 rfl rfl)
theorem dX0_roads_104 : decode cX0_roads 104 = .ok (.iload_n 3, 1) := dk_29 (dk_at dksX0_roads_4 9 rfl rfl)
theorem dX0_roads_105 : decode cX0_roads 105 = .ok (.iconst 3, 1) := dk_6 (dk_at dksX0_roads_4 10 rfl rfl)
theorem dX0_roads_106 : decode cX0_roads 106 = .ok (.iload 7, 2) := dk_21 7 (dk_at dksX0_roads_4 11 rfl rfl)
theorem dX0_roads_108 : decode cX0_roads 108 = .ok (.imul, 1) := dk_104 (dk_at dksX0_roads_4 13 rfl rfl)
theorem dX0_roads_109 : decode cX0_roads 109 = .ok (.iadd, 1) := dk_96 (dk_at dksX0_roads_4 14 rfl rfl)
theorem dX0_roads_110 : decode cX0_roads 110 = .ok (.istore 8, 2) := dk_54 8 (dk_at dksX0_roads_4 15 rfl rfl)
theorem dX0_roads_112 : decode cX0_roads 112 = .ok (.aload_n 0, 1) := dk_42 (dk_at dksX0_roads_4 17 rfl rfl)
theorem dX0_roads_113 : decode cX0_roads 113 = .ok (.aload 6, 2) := dk_25 6 (dk_at dksX0_roads_4 18 rfl rfl)
theorem dX0_roads_115 : decode cX0_roads 115 = .ok (.getfield 211, 3) := dk_180 0 211 (dk_at dksX0_roads_4 20 rfl rfl)
theorem dX0_roads_118 : decode cX0_roads 118 = .ok (.iload 8, 2) := dk_21 8 (dk_at dksX0_roads_5 0 rfl rfl)
theorem dX0_roads_120 : decode cX0_roads 120 = .ok (.iaload, 1) := dk_46 (dk_at dksX0_roads_5 2 rfl rfl)
theorem dX0_roads_121 : decode cX0_roads 121 = .ok (.aload 6, 2) := dk_25 6 (dk_at dksX0_roads_5 3 rfl rfl)
theorem dX0_roads_123 : decode cX0_roads 123 = .ok (.getfield 211, 3) := dk_180 0 211 (dk_at dksX0_roads_5 5 rfl rfl)
theorem dX0_roads_126 : decode cX0_roads 126 = .ok (.iload 8, 2) := dk_21 8 (dk_at dksX0_roads_5 8 rfl rfl)
theorem dX0_roads_128 : decode cX0_roads 128 = .ok (.iconst 1, 1) := dk_4 (dk_at dksX0_roads_5 10 rfl rfl)
theorem dX0_roads_129 : decode cX0_roads 129 = .ok (.iadd, 1) := dk_96 (dk_at dksX0_roads_5 11 rfl rfl)
theorem dX0_roads_130 : decode cX0_roads 130 = .ok (.iaload, 1) := dk_46 (dk_at dksX0_roads_5 12 rfl rfl)
theorem dX0_roads_131 : decode cX0_roads 131 = .ok (.aload 6, 2) := dk_25 6 (dk_at dksX0_roads_5 13 rfl rfl)
theorem dX0_roads_133 : decode cX0_roads 133 = .ok (.getfield 211, 3) := dk_180 0 211 (dk_at dksX0_roads_5 15 rfl rfl)
theorem dX0_roads_136 : decode cX0_roads 136 = .ok (.iload 8, 2) := dk_21 8 (dk_at dksX0_roads_5 18 rfl rfl)
theorem dX0_roads_138 : decode cX0_roads 138 = .ok (.iconst 2, 1) := dk_5 (dk_at dksX0_roads_5 20 rfl rfl)
theorem dX0_roads_139 : decode cX0_roads 139 = .ok (.iadd, 1) := dk_96 (dk_at dksX0_roads_5 21 rfl rfl)
theorem dX0_roads_140 : decode cX0_roads 140 = .ok (.iaload, 1) := dk_46 (dk_at dksX0_roads_5 22 rfl rfl)
theorem dX0_roads_141 : decode cX0_roads 141 = .ok (.invokevirtual 435, 3) := dk_182 1 179 (dk_at dksX0_roads_6 0 rfl rfl)
theorem dX0_roads_144 : decode cX0_roads 144 = .ok (.ifCond .lt 6, 3) := dk_155 0 6 (dk_at dksX0_roads_6 3 rfl rfl)
theorem dX0_roads_147 : decode cX0_roads 147 = .ok (.iinc 5 1, 3) := dk_132 5 1 (dk_at dksX0_roads_6 6 rfl rfl)
theorem dX0_roads_150 : decode cX0_roads 150 = .ok (.iinc 7 1, 3) := dk_132 7 1 (dk_at dksX0_roads_6 9 rfl rfl)
theorem dX0_roads_153 : decode cX0_roads 153 = .ok (.goto (-86), 3) := dk_167 255 170 (dk_at dksX0_roads_6 12 rfl rfl)
theorem dX0_roads_156 : decode cX0_roads 156 = .ok (.iload 5, 2) := dk_21 5 (dk_at dksX0_roads_6 15 rfl rfl)
theorem dX0_roads_158 : decode cX0_roads 158 = .ok (.ireturn, 1) := dk_172 (dk_at dksX0_roads_6 17 rfl rfl)
theorem dX0_roads_159 : decode cX0_roads 159 = .ok (.astore 6, 2) := dk_58 6 (dk_at dksX0_roads_6 18 rfl rfl)
theorem dX0_roads_161 : decode cX0_roads 161 = .ok (.aload 6, 2) := dk_25 6 (dk_at dksX0_roads_6 20 rfl rfl)
theorem dX0_roads_163 : decode cX0_roads 163 = .ok (.getfield 430, 3) := dk_180 1 174 (dk_at dksX0_roads_7 0 rfl rfl)
theorem dX0_roads_166 : decode cX0_roads 166 = .ok (.ireturn, 1) := dk_172 (dk_at dksX0_roads_7 3 rfl rfl)
abbrev cX0_taken : ByteArray := prog_1_method_72_code
def yX0_taken : MethodName := ⟨RX0, "taken", "(II)I"⟩
def dkwX0_taken_5 : List UInt8 := [184, 1, 167, 25, 4, 180, 0, 222, 172, 78, 45, 180, 1, 174, 172]
abbrev dktX0_taken_5 : List UInt8 := dkwX0_taken_5 ++ []
def dkwX0_taken_4 : List UInt8 := [160, 0, 8, 45, 182, 1, 192, 172, 45, 182, 1, 195, 58, 4, 25, 4, 28, 184, 1, 199, 16, 243]
abbrev dktX0_taken_4 : List UInt8 := dkwX0_taken_4 ++ dktX0_taken_5
def dkwX0_taken_3 : List UInt8 := [184, 1, 185, 167, 0, 14, 42, 180, 0, 61, 27, 16, 6, 100, 182, 0, 236, 183, 1, 189, 78, 28, 16, 6]
abbrev dktX0_taken_3 : List UInt8 := dkwX0_taken_3 ++ dktX0_taken_4
def dkwX0_taken_2 : List UInt8 := [182, 0, 233, 16, 245, 184, 1, 167, 187, 1, 183, 89, 27, 16, 6, 162, 0, 15, 42, 180, 0, 29, 27, 46]
abbrev dktX0_taken_2 : List UInt8 := dkwX0_taken_2 ++ dktX0_taken_3
def dkwX0_taken_1 : List UInt8 := [16, 244, 184, 1, 167, 27, 16, 6, 162, 0, 11, 42, 27, 182, 0, 145, 167, 0, 11, 42, 27, 16, 6, 100]
abbrev dktX0_taken_1 : List UInt8 := dkwX0_taken_1 ++ dktX0_taken_2
def dkwX0_taken_0 : List UInt8 := [28, 133, 9, 20, 0, 165, 184, 0, 133, 154, 0, 6, 16, 254, 172, 27, 133, 9, 20, 1, 181, 184, 0, 133]
abbrev dktX0_taken_0 : List UInt8 := dkwX0_taken_0 ++ dktX0_taken_1
theorem dksX0_taken_0 : cX0_taken.data.toList.drop 0 = dktX0_taken_0 := by decide +kernel
theorem dksX0_taken_1 : cX0_taken.data.toList.drop 24 = dktX0_taken_1 := dk_seg dksX0_taken_0 24 rfl rfl
theorem dksX0_taken_2 : cX0_taken.data.toList.drop 48 = dktX0_taken_2 := dk_seg dksX0_taken_1 24 rfl rfl
theorem dksX0_taken_3 : cX0_taken.data.toList.drop 72 = dktX0_taken_3 := dk_seg dksX0_taken_2 24 rfl rfl
theorem dksX0_taken_4 : cX0_taken.data.toList.drop 96 = dktX0_taken_4 := dk_seg dksX0_taken_3 24 rfl rfl
theorem dksX0_taken_5 : cX0_taken.data.toList.drop 118 = dktX0_taken_5 := dk_seg dksX0_taken_4 22 rfl rfl
theorem dX0_taken_0 : decode cX0_taken 0 = .ok (.iload_n 2, 1) := dk_28 (dk_at dksX0_taken_0 0 rfl rfl)
theorem dX0_taken_1 : decode cX0_taken 1 = .ok (.i2l, 1) := dk_133 (dk_at dksX0_taken_0 1 rfl rfl)
theorem dX0_taken_2 : decode cX0_taken 2 = .ok (.lconst 0, 1) := dk_9 (dk_at dksX0_taken_0 2 rfl rfl)
theorem dX0_taken_3 : decode cX0_taken 3 = .ok (.ldc2_w 165, 3) := dk_20 0 165 (dk_at dksX0_taken_0 3 rfl rfl)
theorem dX0_taken_6 : decode cX0_taken 6 = .ok (.invokestatic 133, 3) := dk_184 0 133 (dk_at dksX0_taken_0 6 rfl rfl)
theorem dX0_taken_9 : decode cX0_taken 9 = .ok (.ifCond .ne 6, 3) := dk_154 0 6 (dk_at dksX0_taken_0 9 rfl rfl)
theorem dX0_taken_12 : decode cX0_taken 12 = .ok (.bipush (-2), 2) := dk_16 254 (dk_at dksX0_taken_0 12 rfl rfl)
theorem dX0_taken_14 : decode cX0_taken 14 = .ok (.ireturn, 1) := dk_172 (dk_at dksX0_taken_0 14 rfl rfl)
theorem dX0_taken_15 : decode cX0_taken 15 = .ok (.iload_n 1, 1) := dk_27 (dk_at dksX0_taken_0 15 rfl rfl)
theorem dX0_taken_16 : decode cX0_taken 16 = .ok (.i2l, 1) := dk_133 (dk_at dksX0_taken_0 16 rfl rfl)
theorem dX0_taken_17 : decode cX0_taken 17 = .ok (.lconst 0, 1) := dk_9 (dk_at dksX0_taken_0 17 rfl rfl)
theorem dX0_taken_18 : decode cX0_taken 18 = .ok (.ldc2_w 437, 3) := dk_20 1 181 (dk_at dksX0_taken_0 18 rfl rfl)
theorem dX0_taken_21 : decode cX0_taken 21 = .ok (.invokestatic 133, 3) := dk_184 0 133 (dk_at dksX0_taken_0 21 rfl rfl)
theorem dX0_taken_24 : decode cX0_taken 24 = .ok (.bipush (-12), 2) := dk_16 244 (dk_at dksX0_taken_1 0 rfl rfl)
theorem dX0_taken_26 : decode cX0_taken 26 = .ok (.invokestatic 423, 3) := dk_184 1 167 (dk_at dksX0_taken_1 2 rfl rfl)
theorem dX0_taken_29 : decode cX0_taken 29 = .ok (.iload_n 1, 1) := dk_27 (dk_at dksX0_taken_1 5 rfl rfl)
theorem dX0_taken_30 : decode cX0_taken 30 = .ok (.bipush 6, 2) := dk_16 6 (dk_at dksX0_taken_1 6 rfl rfl)
theorem dX0_taken_32 : decode cX0_taken 32 = .ok (.if_icmp .ge 11, 3) := dk_162 0 11 (dk_at dksX0_taken_1 8 rfl rfl)
theorem dX0_taken_35 : decode cX0_taken 35 = .ok (.aload_n 0, 1) := dk_42 (dk_at dksX0_taken_1 11 rfl rfl)
theorem dX0_taken_36 : decode cX0_taken 36 = .ok (.iload_n 1, 1) := dk_27 (dk_at dksX0_taken_1 12 rfl rfl)
theorem dX0_taken_37 : decode cX0_taken 37 = .ok (.invokevirtual 145, 3) := dk_182 0 145 (dk_at dksX0_taken_1 13 rfl rfl)
theorem dX0_taken_40 : decode cX0_taken 40 = .ok (.goto 11, 3) := dk_167 0 11 (dk_at dksX0_taken_1 16 rfl rfl)
theorem dX0_taken_43 : decode cX0_taken 43 = .ok (.aload_n 0, 1) := dk_42 (dk_at dksX0_taken_1 19 rfl rfl)
theorem dX0_taken_44 : decode cX0_taken 44 = .ok (.iload_n 1, 1) := dk_27 (dk_at dksX0_taken_1 20 rfl rfl)
theorem dX0_taken_45 : decode cX0_taken 45 = .ok (.bipush 6, 2) := dk_16 6 (dk_at dksX0_taken_1 21 rfl rfl)
theorem dX0_taken_47 : decode cX0_taken 47 = .ok (.isub, 1) := dk_100 (dk_at dksX0_taken_1 23 rfl rfl)
theorem dX0_taken_48 : decode cX0_taken 48 = .ok (.invokevirtual 233, 3) := dk_182 0 233 (dk_at dksX0_taken_2 0 rfl rfl)
theorem dX0_taken_51 : decode cX0_taken 51 = .ok (.bipush (-11), 2) := dk_16 245 (dk_at dksX0_taken_2 3 rfl rfl)
theorem dX0_taken_53 : decode cX0_taken 53 = .ok (.invokestatic 423, 3) := dk_184 1 167 (dk_at dksX0_taken_2 5 rfl rfl)
theorem dX0_taken_56 : decode cX0_taken 56 = .ok (.new 439, 3) := dk_187 1 183 (dk_at dksX0_taken_2 8 rfl rfl)
theorem dX0_taken_59 : decode cX0_taken 59 = .ok (.dup, 1) := dk_89 (dk_at dksX0_taken_2 11 rfl rfl)
theorem dX0_taken_60 : decode cX0_taken 60 = .ok (.iload_n 1, 1) := dk_27 (dk_at dksX0_taken_2 12 rfl rfl)
theorem dX0_taken_61 : decode cX0_taken 61 = .ok (.bipush 6, 2) := dk_16 6 (dk_at dksX0_taken_2 13 rfl rfl)
theorem dX0_taken_63 : decode cX0_taken 63 = .ok (.if_icmp .ge 15, 3) := dk_162 0 15 (dk_at dksX0_taken_2 15 rfl rfl)
theorem dX0_taken_66 : decode cX0_taken 66 = .ok (.aload_n 0, 1) := dk_42 (dk_at dksX0_taken_2 18 rfl rfl)
theorem dX0_taken_67 : decode cX0_taken 67 = .ok (.getfield 29, 3) := dk_180 0 29 (dk_at dksX0_taken_2 19 rfl rfl)
theorem dX0_taken_70 : decode cX0_taken 70 = .ok (.iload_n 1, 1) := dk_27 (dk_at dksX0_taken_2 22 rfl rfl)
theorem dX0_taken_71 : decode cX0_taken 71 = .ok (.iaload, 1) := dk_46 (dk_at dksX0_taken_2 23 rfl rfl)
theorem dX0_taken_72 : decode cX0_taken 72 = .ok (.invokestatic 441, 3) := dk_184 1 185 (dk_at dksX0_taken_3 0 rfl rfl)
theorem dX0_taken_75 : decode cX0_taken 75 = .ok (.goto 14, 3) := dk_167 0 14 (dk_at dksX0_taken_3 3 rfl rfl)
theorem dX0_taken_78 : decode cX0_taken 78 = .ok (.aload_n 0, 1) := dk_42 (dk_at dksX0_taken_3 6 rfl rfl)
theorem dX0_taken_79 : decode cX0_taken 79 = .ok (.getfield 61, 3) := dk_180 0 61 (dk_at dksX0_taken_3 7 rfl rfl)
theorem dX0_taken_82 : decode cX0_taken 82 = .ok (.iload_n 1, 1) := dk_27 (dk_at dksX0_taken_3 10 rfl rfl)
theorem dX0_taken_83 : decode cX0_taken 83 = .ok (.bipush 6, 2) := dk_16 6 (dk_at dksX0_taken_3 11 rfl rfl)
theorem dX0_taken_85 : decode cX0_taken 85 = .ok (.isub, 1) := dk_100 (dk_at dksX0_taken_3 13 rfl rfl)
theorem dX0_taken_86 : decode cX0_taken 86 = .ok (.invokevirtual 236, 3) := dk_182 0 236 (dk_at dksX0_taken_3 14 rfl rfl)
theorem dX0_taken_89 : decode cX0_taken 89 = .ok (.invokespecial 445, 3) := dk_183 1 189 (dk_at dksX0_taken_3 17 rfl rfl)
theorem dX0_taken_92 : decode cX0_taken 92 = .ok (.astore_n 3, 1) := dk_78 (dk_at dksX0_taken_3 20 rfl rfl)
theorem dX0_taken_93 : decode cX0_taken 93 = .ok (.iload_n 2, 1) := dk_28 (dk_at dksX0_taken_3 21 rfl rfl)
theorem dX0_taken_94 : decode cX0_taken 94 = .ok (.bipush 6, 2) := dk_16 6 (dk_at dksX0_taken_3 22 rfl rfl)
theorem dX0_taken_96 : decode cX0_taken 96 = .ok (.if_icmp .ne 8, 3) := dk_160 0 8 (dk_at dksX0_taken_4 0 rfl rfl)
theorem dX0_taken_99 : decode cX0_taken 99 = .ok (.aload_n 3, 1) := dk_45 (dk_at dksX0_taken_4 3 rfl rfl)
theorem dX0_taken_100 : decode cX0_taken 100 = .ok (.invokevirtual 448, 3) := dk_182 1 192 (dk_at dksX0_taken_4 4 rfl rfl)
theorem dX0_taken_103 : decode cX0_taken 103 = .ok (.ireturn, 1) := dk_172 (dk_at dksX0_taken_4 7 rfl rfl)
theorem dX0_taken_104 : decode cX0_taken 104 = .ok (.aload_n 3, 1) := dk_45 (dk_at dksX0_taken_4 8 rfl rfl)
theorem dX0_taken_105 : decode cX0_taken 105 = .ok (.invokevirtual 451, 3) := dk_182 1 195 (dk_at dksX0_taken_4 9 rfl rfl)
theorem dX0_taken_108 : decode cX0_taken 108 = .ok (.astore 4, 2) := dk_58 4 (dk_at dksX0_taken_4 12 rfl rfl)
theorem dX0_taken_110 : decode cX0_taken 110 = .ok (.aload 4, 2) := dk_25 4 (dk_at dksX0_taken_4 14 rfl rfl)
theorem dX0_taken_112 : decode cX0_taken 112 = .ok (.iload_n 2, 1) := dk_28 (dk_at dksX0_taken_4 16 rfl rfl)
theorem dX0_taken_113 : decode cX0_taken 113 = .ok (.invokestatic 455, 3) := dk_184 1 199 (dk_at dksX0_taken_4 17 rfl rfl)
theorem dX0_taken_116 : decode cX0_taken 116 = .ok (.bipush (-13), 2) := dk_16 243 (dk_at dksX0_taken_4 20 rfl rfl)
theorem dX0_taken_118 : decode cX0_taken 118 = .ok (.invokestatic 423, 3) := dk_184 1 167 (dk_at dksX0_taken_5 0 rfl rfl)
theorem dX0_taken_121 : decode cX0_taken 121 = .ok (.aload 4, 2) := dk_25 4 (dk_at dksX0_taken_5 3 rfl rfl)
theorem dX0_taken_123 : decode cX0_taken 123 = .ok (.getfield 222, 3) := dk_180 0 222 (dk_at dksX0_taken_5 5 rfl rfl)
theorem dX0_taken_126 : decode cX0_taken 126 = .ok (.ireturn, 1) := dk_172 (dk_at dksX0_taken_5 8 rfl rfl)
theorem dX0_taken_127 : decode cX0_taken 127 = .ok (.astore_n 3, 1) := dk_78 (dk_at dksX0_taken_5 9 rfl rfl)
theorem dX0_taken_128 : decode cX0_taken 128 = .ok (.aload_n 3, 1) := dk_45 (dk_at dksX0_taken_5 10 rfl rfl)
theorem dX0_taken_129 : decode cX0_taken 129 = .ok (.getfield 430, 3) := dk_180 1 174 (dk_at dksX0_taken_5 11 rfl rfl)
theorem dX0_taken_132 : decode cX0_taken 132 = .ok (.ireturn, 1) := dk_172 (dk_at dksX0_taken_5 14 rfl rfl)
abbrev cX0_isUnder : ByteArray := prog_1_method_3_code
def yX0_isUnder : MethodName := ⟨RX0, "isUnder", "(LMarketDays$Giving;I)Z"⟩
def dkwX0_isUnder_3 : List UInt8 := [193, 0, 19, 172]
abbrev dktX0_isUnder_3 : List UInt8 := dkwX0_isUnder_3 ++ []
def dkwX0_isUnder_2 : List UInt8 := [4, 172, 42, 193, 0, 7, 172, 42, 193, 0, 10, 172, 42, 193, 0, 13, 172, 42, 193, 0, 16, 172, 42]
abbrev dktX0_isUnder_2 : List UInt8 := dkwX0_isUnder_2 ++ dktX0_isUnder_3
def dkwX0_isUnder_1 : List UInt8 := [170, 0, 0, 0, 0, 0, 57, 0, 0, 0, 0, 0, 0, 0, 4, 0, 0, 0, 35, 0, 0, 0, 37, 0, 0, 0, 42, 0, 0, 0, 47, 0, 0, 0, 52]
abbrev dktX0_isUnder_1 : List UInt8 := dkwX0_isUnder_1 ++ dktX0_isUnder_2
def dkwX0_isUnder_0 : List UInt8 := [27]
abbrev dktX0_isUnder_0 : List UInt8 := dkwX0_isUnder_0 ++ dktX0_isUnder_1
theorem dksX0_isUnder_0 : cX0_isUnder.data.toList.drop 0 = dktX0_isUnder_0 := by decide +kernel
theorem dksX0_isUnder_1 : cX0_isUnder.data.toList.drop 1 = dktX0_isUnder_1 := dk_seg dksX0_isUnder_0 1 rfl rfl
theorem dksX0_isUnder_2 : cX0_isUnder.data.toList.drop 36 = dktX0_isUnder_2 := dk_seg dksX0_isUnder_1 35 rfl rfl
theorem dksX0_isUnder_3 : cX0_isUnder.data.toList.drop 59 = dktX0_isUnder_3 := dk_seg dksX0_isUnder_2 23 rfl rfl
theorem dX0_isUnder_0 : decode cX0_isUnder 0 = .ok (.iload_n 1, 1) := dk_27 (dk_at dksX0_isUnder_0 0 rfl rfl)
theorem dX0_isUnder_1 : decode cX0_isUnder 1 = .ok (.tableswitch 57 0 4 #[35, 37, 42, 47, 52], 35) := by decide +kernel
theorem dX0_isUnder_36 : decode cX0_isUnder 36 = .ok (.iconst 1, 1) := dk_4 (dk_at dksX0_isUnder_2 0 rfl rfl)
theorem dX0_isUnder_37 : decode cX0_isUnder 37 = .ok (.ireturn, 1) := dk_172 (dk_at dksX0_isUnder_2 1 rfl rfl)
theorem dX0_isUnder_38 : decode cX0_isUnder 38 = .ok (.aload_n 0, 1) := dk_42 (dk_at dksX0_isUnder_2 2 rfl rfl)
theorem dX0_isUnder_39 : decode cX0_isUnder 39 = .ok (.instanceof 7, 3) := dk_193 0 7 (dk_at dksX0_isUnder_2 3 rfl rfl)
theorem dX0_isUnder_42 : decode cX0_isUnder 42 = .ok (.ireturn, 1) := dk_172 (dk_at dksX0_isUnder_2 6 rfl rfl)
theorem dX0_isUnder_43 : decode cX0_isUnder 43 = .ok (.aload_n 0, 1) := dk_42 (dk_at dksX0_isUnder_2 7 rfl rfl)
theorem dX0_isUnder_44 : decode cX0_isUnder 44 = .ok (.instanceof 10, 3) := dk_193 0 10 (dk_at dksX0_isUnder_2 8 rfl rfl)
theorem dX0_isUnder_47 : decode cX0_isUnder 47 = .ok (.ireturn, 1) := dk_172 (dk_at dksX0_isUnder_2 11 rfl rfl)
theorem dX0_isUnder_48 : decode cX0_isUnder 48 = .ok (.aload_n 0, 1) := dk_42 (dk_at dksX0_isUnder_2 12 rfl rfl)
theorem dX0_isUnder_49 : decode cX0_isUnder 49 = .ok (.instanceof 13, 3) := dk_193 0 13 (dk_at dksX0_isUnder_2 13 rfl rfl)
theorem dX0_isUnder_52 : decode cX0_isUnder 52 = .ok (.ireturn, 1) := dk_172 (dk_at dksX0_isUnder_2 16 rfl rfl)
theorem dX0_isUnder_53 : decode cX0_isUnder 53 = .ok (.aload_n 0, 1) := dk_42 (dk_at dksX0_isUnder_2 17 rfl rfl)
theorem dX0_isUnder_54 : decode cX0_isUnder 54 = .ok (.instanceof 16, 3) := dk_193 0 16 (dk_at dksX0_isUnder_2 18 rfl rfl)
theorem dX0_isUnder_57 : decode cX0_isUnder 57 = .ok (.ireturn, 1) := dk_172 (dk_at dksX0_isUnder_2 21 rfl rfl)
theorem dX0_isUnder_58 : decode cX0_isUnder 58 = .ok (.aload_n 0, 1) := dk_42 (dk_at dksX0_isUnder_2 22 rfl rfl)
theorem dX0_isUnder_59 : decode cX0_isUnder 59 = .ok (.instanceof 19, 3) := dk_193 0 19 (dk_at dksX0_isUnder_3 0 rfl rfl)
theorem dX0_isUnder_62 : decode cX0_isUnder 62 = .ok (.ireturn, 1) := dk_172 (dk_at dksX0_isUnder_3 3 rfl rfl)
theorem q83 : (Jvm.Cond.initialized "MarketDays") ∈ lw_all := lw_g (lw_at lw_m1 1 rfl) rfl
theorem q121 : (Jvm.Cond.instantiable "MarketDays" (43 : Nat)) ∈ lw_all := lw_g (lw_at lw_m1 39 rfl) rfl
theorem q123 : (Jvm.Cond.instanceMethod ({ cls := "MarketDays", name := "<init>", desc := "()V" } : Jvm.MethodName)) ∈ lw_all := lw_g (lw_at lw_m1 41 rfl) rfl
theorem q124 : (Jvm.Cond.code ({ cls := "MarketDays", name := "<init>", desc := "()V" } : Jvm.MethodName) prog_1_method_4_code (1 : Nat) (Option.none : Option Jvm.ClassFile.FieldType)) ∈ lw_all := lw_g (lw_at lw_m1 42 rfl) rfl
theorem q125 : (Jvm.Cond.methodLink "MarketDays" (22 : Nat) ({ cls := "java/lang/Object", name := "<init>", desc := "()V" } : Jvm.MethodName)) ∈ lw_all := lw_g (lw_at lw_m1 43 rfl) rfl
theorem q128 : (Jvm.Cond.classLink "MarketDays" (58 : Nat) "java/util/ArrayList") ∈ lw_all := lw_g (lw_at lw_m1 46 rfl) rfl
theorem q130 : (Jvm.Cond.methodLink "MarketDays" (60 : Nat) ({ cls := "java/util/ArrayList", name := "<init>", desc := "()V" } : Jvm.MethodName)) ∈ lw_all := lw_g (lw_at lw_m1 48 rfl) rfl
theorem q155 : (Jvm.Cond.classLink "MarketDays" (105 : Nat) "[LMarketDays$Node;") ∈ lw_all := lw_g (lw_at lw_m1 73 rfl) rfl
theorem q157 : (Jvm.Cond.classLink "MarketDays" (114 : Nat) "MarketDays$Sheet") ∈ lw_all := lw_g (lw_at lw_m1 75 rfl) rfl
theorem q160 : (Jvm.Cond.methodLinkNest "MarketDays" (116 : Nat) ({ cls := "MarketDays$Sheet", name := "<init>", desc := "()V" } : Jvm.MethodName) "MarketDays") ∈ lw_tbl := lw_at lw_m1 78 rfl
theorem q165 : (Jvm.Cond.fieldLink "MarketDays" (202 : Nat) "MarketDays$Sheet" "sort" "I") ∈ lw_all := lw_g (lw_at lw_m1 83 rfl) rfl
theorem q167 : (Jvm.Cond.fieldLink "MarketDays" (205 : Nat) "MarketDays$Sheet" "size" "I") ∈ lw_all := lw_g (lw_at lw_m1 85 rfl) rfl
theorem q169 : (Jvm.Cond.fieldLink "MarketDays" (211 : Nat) "MarketDays$Sheet" "cells" "[I") ∈ lw_all := lw_g (lw_at lw_m1 87 rfl) rfl
theorem q178 : (Jvm.Cond.stringRef "MarketDays" (121 : Nat) "near hours < 4 ; worth 10 - other * 2 + want * 5 ;") ∈ lw_tbl := lw_at lw_m1 96 rfl
theorem q179 : (Jvm.Cond.methodLink "MarketDays" (123 : Nat) ({ cls := "MarketDays", name := "read", desc := "(Ljava/lang/String;)[LMarketDays$Node;" } : Jvm.MethodName)) ∈ lw_all := lw_g (lw_at lw_m1 97 rfl) rfl
theorem q180 : (Jvm.Cond.static ({ cls := "MarketDays", name := "read", desc := "(Ljava/lang/String;)[LMarketDays$Node;" } : Jvm.MethodName)) ∈ lw_all := lw_g (lw_at lw_m1 98 rfl) rfl
theorem q181 : (Jvm.Cond.code ({ cls := "MarketDays", name := "read", desc := "(Ljava/lang/String;)[LMarketDays$Node;" } : Jvm.MethodName) prog_1_method_61_code (3 : Nat) (Option.some (Jvm.ClassFile.FieldType.array (Jvm.ClassFile.FieldType.object "MarketDays$Node")))) ∈ lw_all := lw_g (lw_at lw_m1 99 rfl) rfl
theorem q182 : (Jvm.Cond.methodLink "MarketDays" (389 : Nat) ({ cls := "java/lang/String", name := "length", desc := "()I" } : Jvm.MethodName)) ∈ lw_all := lw_g (lw_at lw_m1 100 rfl) rfl
theorem q192 : (Jvm.Cond.methodLink "MarketDays" (394 : Nat) ({ cls := "java/lang/String", name := "charAt", desc := "(I)C" } : Jvm.MethodName)) ∈ lw_all := lw_g (lw_at lw_m1 110 rfl) rfl
theorem q230 : (Jvm.Cond.classLink "MarketDays" (398 : Nat) "MarketDays$Reader") ∈ lw_all := lw_g (lw_at lw_m1 148 rfl) rfl
theorem q232 : (Jvm.Cond.methodLink "MarketDays" (400 : Nat) ({ cls := "MarketDays$Reader", name := "<init>", desc := "([BI)V" } : Jvm.MethodName)) ∈ lw_all := lw_g (lw_at lw_m1 150 rfl) rfl
theorem q261 : (Jvm.Cond.methodLink "MarketDays" (403 : Nat) ({ cls := "MarketDays$Reader", name := "parts", desc := "()[LMarketDays$Node;" } : Jvm.MethodName)) ∈ lw_all := lw_g (lw_at lw_m1 179 rfl) rfl
theorem q266 : (Jvm.Cond.laysStatic "MarketDays" "KEYS" "[Ljava/lang/String;") ∈ lw_tbl := lw_at lw_m1 184 rfl
theorem q280 : (Jvm.Cond.static ({ cls := "MarketDays", name := "in", desc := "(JJJ)Z" } : Jvm.MethodName)) ∈ lw_all := lw_g (lw_at lw_m1 198 rfl) rfl
theorem q281 : (Jvm.Cond.code ({ cls := "MarketDays", name := "in", desc := "(JJJ)Z" } : Jvm.MethodName) prog_1_method_1_code (6 : Nat) (Option.some Jvm.ClassFile.FieldType.boolean)) ∈ lw_all := lw_g (lw_at lw_m1 199 rfl) rfl
theorem q503 : (Jvm.Cond.fieldLink "MarketDays" (411 : Nat) "MarketDays$Fault" "place" "I") ∈ lw_all := lw_g (lw_at lw_m2 181 rfl) rfl
theorem q643 : (Jvm.Cond.laysStatic "MarketDays" "NAMES" "[Ljava/lang/String;") ∈ lw_tbl := lw_at lw_m3 81 rfl
theorem q666 : (Jvm.Cond.fieldLink "MarketDays" (29 : Nat) "MarketDays" "size" "[I") ∈ lw_all := lw_g (lw_at lw_m3 104 rfl) rfl
theorem q667 : (Jvm.Cond.fieldLink "MarketDays" (33 : Nat) "MarketDays" "may" "[I") ∈ lw_all := lw_g (lw_at lw_m3 105 rfl) rfl
theorem q668 : (Jvm.Cond.fieldLink "MarketDays" (36 : Nat) "MarketDays" "wish" "[I") ∈ lw_all := lw_g (lw_at lw_m3 106 rfl) rfl
theorem q669 : (Jvm.Cond.fieldLink "MarketDays" (39 : Nat) "MarketDays" "behind" "[I") ∈ lw_all := lw_g (lw_at lw_m3 107 rfl) rfl
theorem q670 : (Jvm.Cond.fieldLink "MarketDays" (42 : Nat) "MarketDays" "road" "[I") ∈ lw_all := lw_g (lw_at lw_m3 108 rfl) rfl
theorem q671 : (Jvm.Cond.fieldLink "MarketDays" (45 : Nat) "MarketDays" "far" "[I") ∈ lw_all := lw_g (lw_at lw_m3 109 rfl) rfl
theorem q672 : (Jvm.Cond.fieldLink "MarketDays" (130 : Nat) "MarketDays" "towns" "I") ∈ lw_all := lw_g (lw_at lw_m3 110 rfl) rfl
theorem q673 : (Jvm.Cond.fieldLink "MarketDays" (48 : Nat) "MarketDays" "days" "I") ∈ lw_all := lw_g (lw_at lw_m3 111 rfl) rfl
theorem q674 : (Jvm.Cond.fieldLink "MarketDays" (52 : Nat) "MarketDays" "feastWeek" "[I") ∈ lw_all := lw_g (lw_at lw_m3 112 rfl) rfl
theorem q675 : (Jvm.Cond.fieldLink "MarketDays" (55 : Nat) "MarketDays" "feastDay" "[I") ∈ lw_all := lw_g (lw_at lw_m3 113 rfl) rfl
theorem q676 : (Jvm.Cond.fieldLink "MarketDays" (170 : Nat) "MarketDays" "feasts" "I") ∈ lw_all := lw_g (lw_at lw_m3 114 rfl) rfl
theorem q677 : (Jvm.Cond.fieldLink "MarketDays" (61 : Nat) "MarketDays" "givings" "Ljava/util/ArrayList;") ∈ lw_all := lw_g (lw_at lw_m3 115 rfl) rfl
theorem q678 : (Jvm.Cond.fieldLink "MarketDays" (65 : Nat) "MarketDays" "names" "[I") ∈ lw_all := lw_g (lw_at lw_m3 116 rfl) rfl
theorem q679 : (Jvm.Cond.fieldLink "MarketDays" (173 : Nat) "MarketDays" "rule" "I") ∈ lw_all := lw_g (lw_at lw_m3 117 rfl) rfl
theorem q680 : (Jvm.Cond.fieldLink "MarketDays" (68 : Nat) "MarketDays" "had" "[I") ∈ lw_all := lw_g (lw_at lw_m3 118 rfl) rfl
theorem q681 : (Jvm.Cond.fieldLink "MarketDays" (270 : Nat) "MarketDays" "some" "I") ∈ lw_all := lw_g (lw_at lw_m3 119 rfl) rfl
theorem q682 : (Jvm.Cond.fieldLink "MarketDays" (282 : Nat) "MarketDays" "walked" "I") ∈ lw_all := lw_g (lw_at lw_m3 120 rfl) rfl
theorem q683 : (Jvm.Cond.fieldLink "MarketDays" (296 : Nat) "MarketDays" "kept" "I") ∈ lw_all := lw_g (lw_at lw_m3 121 rfl) rfl
theorem q684 : (Jvm.Cond.fieldLink "MarketDays" (299 : Nat) "MarketDays" "keptWorth" "J") ∈ lw_all := lw_g (lw_at lw_m3 122 rfl) rfl
theorem q685 : (Jvm.Cond.fieldLink "MarketDays" (71 : Nat) "MarketDays" "row" "[B") ∈ lw_all := lw_g (lw_at lw_m3 123 rfl) rfl
theorem q686 : (Jvm.Cond.fieldLink "MarketDays" (75 : Nat) "MarketDays" "keptRow" "[B") ∈ lw_all := lw_g (lw_at lw_m3 124 rfl) rfl
theorem q687 : (Jvm.Cond.fieldLink "MarketDays" (285 : Nat) "MarketDays" "aim" "I") ∈ lw_all := lw_g (lw_at lw_m3 125 rfl) rfl
theorem q688 : (Jvm.Cond.fieldLink "MarketDays" (309 : Nat) "MarketDays" "from" "LMarketDays$Giving;") ∈ lw_all := lw_g (lw_at lw_m3 126 rfl) rfl
theorem q689 : (Jvm.Cond.fieldLink "MarketDays" (78 : Nat) "MarketDays" "table" "[I") ∈ lw_all := lw_g (lw_at lw_m3 127 rfl) rfl
theorem q690 : (Jvm.Cond.fieldLink "MarketDays" (338 : Nat) "MarketDays" "found" "Z") ∈ lw_all := lw_g (lw_at lw_m3 128 rfl) rfl
theorem q691 : (Jvm.Cond.fieldLink "MarketDays" (342 : Nat) "MarketDays" "foundTowns" "I") ∈ lw_all := lw_g (lw_at lw_m3 129 rfl) rfl
theorem q692 : (Jvm.Cond.fieldLink "MarketDays" (81 : Nat) "MarketDays" "foundRow" "[B") ∈ lw_all := lw_g (lw_at lw_m3 130 rfl) rfl
theorem q693 : (Jvm.Cond.fieldLink "MarketDays" (84 : Nat) "MarketDays" "sold" "[I") ∈ lw_all := lw_g (lw_at lw_m3 131 rfl) rfl
theorem q694 : (Jvm.Cond.fieldLink "MarketDays" (371 : Nat) "MarketDays" "roundSize" "I") ∈ lw_all := lw_g (lw_at lw_m3 132 rfl) rfl
theorem q695 : (Jvm.Cond.fieldLink "MarketDays" (87 : Nat) "MarketDays" "roundRow" "[I") ∈ lw_all := lw_g (lw_at lw_m3 133 rfl) rfl
theorem q696 : (Jvm.Cond.fieldLink "MarketDays" (90 : Nat) "MarketDays" "keptMay" "[I") ∈ lw_all := lw_g (lw_at lw_m3 134 rfl) rfl
theorem q697 : (Jvm.Cond.fieldLink "MarketDays" (93 : Nat) "MarketDays" "keptWish" "[I") ∈ lw_all := lw_g (lw_at lw_m3 135 rfl) rfl
theorem q698 : (Jvm.Cond.fieldLink "MarketDays" (96 : Nat) "MarketDays" "keptBehind" "[I") ∈ lw_all := lw_g (lw_at lw_m3 136 rfl) rfl
theorem q699 : (Jvm.Cond.fieldLink "MarketDays" (99 : Nat) "MarketDays" "keptRoad" "[I") ∈ lw_all := lw_g (lw_at lw_m3 137 rfl) rfl
theorem q700 : (Jvm.Cond.fieldLink "MarketDays" (102 : Nat) "MarketDays" "keptTowns" "I") ∈ lw_all := lw_g (lw_at lw_m3 138 rfl) rfl
theorem q701 : (Jvm.Cond.fieldLink "MarketDays" (380 : Nat) "MarketDays" "keptDays" "I") ∈ lw_all := lw_g (lw_at lw_m3 139 rfl) rfl
theorem q702 : (Jvm.Cond.fieldLink "MarketDays" (383 : Nat) "MarketDays" "keptFeasts" "I") ∈ lw_all := lw_g (lw_at lw_m3 140 rfl) rfl
theorem q703 : (Jvm.Cond.fieldLink "MarketDays" (386 : Nat) "MarketDays" "keptRule" "I") ∈ lw_all := lw_g (lw_at lw_m3 141 rfl) rfl
theorem q704 : (Jvm.Cond.fieldLink "MarketDays" (107 : Nat) "MarketDays" "texts" "[[LMarketDays$Node;") ∈ lw_all := lw_g (lw_at lw_m3 142 rfl) rfl
theorem q705 : (Jvm.Cond.fieldLink "MarketDays" (127 : Nat) "MarketDays" "textCount" "I") ∈ lw_all := lw_g (lw_at lw_m3 143 rfl) rfl
theorem q706 : (Jvm.Cond.fieldLink "MarketDays" (111 : Nat) "MarketDays" "tape" "[B") ∈ lw_all := lw_g (lw_at lw_m3 144 rfl) rfl
theorem q707 : (Jvm.Cond.fieldLink "MarketDays" (377 : Nat) "MarketDays" "taped" "I") ∈ lw_all := lw_g (lw_at lw_m3 145 rfl) rfl
theorem q708 : (Jvm.Cond.fieldLink "MarketDays" (117 : Nat) "MarketDays" "sheets" "[LMarketDays$Sheet;") ∈ lw_all := lw_g (lw_at lw_m3 146 rfl) rfl
theorem q709 : (Jvm.Cond.laysFinal "MarketDays" "MarketDays" "size" "[I") ∈ lw_all := lw_g (lw_at lw_m3 147 rfl) rfl
theorem q710 : (Jvm.Cond.soleField "MarketDays" "size") ∈ lw_all := lw_g (lw_at lw_m3 148 rfl) rfl
theorem q711 : (Jvm.Cond.laysFinal "MarketDays" "MarketDays" "may" "[I") ∈ lw_all := lw_g (lw_at lw_m3 149 rfl) rfl
theorem q712 : (Jvm.Cond.soleField "MarketDays" "may") ∈ lw_all := lw_g (lw_at lw_m3 150 rfl) rfl
theorem q713 : (Jvm.Cond.laysFinal "MarketDays" "MarketDays" "wish" "[I") ∈ lw_all := lw_g (lw_at lw_m3 151 rfl) rfl
theorem q714 : (Jvm.Cond.soleField "MarketDays" "wish") ∈ lw_all := lw_g (lw_at lw_m3 152 rfl) rfl
theorem q715 : (Jvm.Cond.laysFinal "MarketDays" "MarketDays" "behind" "[I") ∈ lw_all := lw_g (lw_at lw_m3 153 rfl) rfl
theorem q716 : (Jvm.Cond.soleField "MarketDays" "behind") ∈ lw_all := lw_g (lw_at lw_m3 154 rfl) rfl
theorem q717 : (Jvm.Cond.laysFinal "MarketDays" "MarketDays" "road" "[I") ∈ lw_all := lw_g (lw_at lw_m3 155 rfl) rfl
theorem q718 : (Jvm.Cond.soleField "MarketDays" "road") ∈ lw_all := lw_g (lw_at lw_m3 156 rfl) rfl
theorem q719 : (Jvm.Cond.laysFinal "MarketDays" "MarketDays" "far" "[I") ∈ lw_all := lw_g (lw_at lw_m3 157 rfl) rfl
theorem q720 : (Jvm.Cond.soleField "MarketDays" "far") ∈ lw_all := lw_g (lw_at lw_m3 158 rfl) rfl
theorem q721 : (Jvm.Cond.lays "MarketDays" "MarketDays" "towns" "I") ∈ lw_all := lw_g (lw_at lw_m3 159 rfl) rfl
theorem q722 : (Jvm.Cond.soleField "MarketDays" "towns") ∈ lw_all := lw_g (lw_at lw_m3 160 rfl) rfl
theorem q723 : (Jvm.Cond.lays "MarketDays" "MarketDays" "days" "I") ∈ lw_all := lw_g (lw_at lw_m3 161 rfl) rfl
theorem q724 : (Jvm.Cond.soleField "MarketDays" "days") ∈ lw_all := lw_g (lw_at lw_m3 162 rfl) rfl
theorem q725 : (Jvm.Cond.laysFinal "MarketDays" "MarketDays" "feastWeek" "[I") ∈ lw_all := lw_g (lw_at lw_m3 163 rfl) rfl
theorem q726 : (Jvm.Cond.soleField "MarketDays" "feastWeek") ∈ lw_all := lw_g (lw_at lw_m3 164 rfl) rfl
theorem q727 : (Jvm.Cond.laysFinal "MarketDays" "MarketDays" "feastDay" "[I") ∈ lw_all := lw_g (lw_at lw_m3 165 rfl) rfl
theorem q728 : (Jvm.Cond.soleField "MarketDays" "feastDay") ∈ lw_all := lw_g (lw_at lw_m3 166 rfl) rfl
theorem q729 : (Jvm.Cond.lays "MarketDays" "MarketDays" "feasts" "I") ∈ lw_all := lw_g (lw_at lw_m3 167 rfl) rfl
theorem q730 : (Jvm.Cond.soleField "MarketDays" "feasts") ∈ lw_all := lw_g (lw_at lw_m3 168 rfl) rfl
theorem q731 : (Jvm.Cond.laysFinal "MarketDays" "MarketDays" "givings" "Ljava/util/ArrayList;") ∈ lw_all := lw_g (lw_at lw_m3 169 rfl) rfl
theorem q732 : (Jvm.Cond.soleField "MarketDays" "givings") ∈ lw_all := lw_g (lw_at lw_m3 170 rfl) rfl
theorem q733 : (Jvm.Cond.laysFinal "MarketDays" "MarketDays" "names" "[I") ∈ lw_all := lw_g (lw_at lw_m3 171 rfl) rfl
theorem q734 : (Jvm.Cond.soleField "MarketDays" "names") ∈ lw_all := lw_g (lw_at lw_m3 172 rfl) rfl
theorem q735 : (Jvm.Cond.lays "MarketDays" "MarketDays" "rule" "I") ∈ lw_all := lw_g (lw_at lw_m3 173 rfl) rfl
theorem q736 : (Jvm.Cond.soleField "MarketDays" "rule") ∈ lw_all := lw_g (lw_at lw_m3 174 rfl) rfl
theorem q737 : (Jvm.Cond.laysFinal "MarketDays" "MarketDays" "had" "[I") ∈ lw_all := lw_g (lw_at lw_m3 175 rfl) rfl
theorem q738 : (Jvm.Cond.soleField "MarketDays" "had") ∈ lw_all := lw_g (lw_at lw_m3 176 rfl) rfl
theorem q739 : (Jvm.Cond.lays "MarketDays" "MarketDays" "some" "I") ∈ lw_all := lw_g (lw_at lw_m3 177 rfl) rfl
theorem q740 : (Jvm.Cond.soleField "MarketDays" "some") ∈ lw_all := lw_g (lw_at lw_m3 178 rfl) rfl
theorem q741 : (Jvm.Cond.lays "MarketDays" "MarketDays" "walked" "I") ∈ lw_all := lw_g (lw_at lw_m3 179 rfl) rfl
theorem q742 : (Jvm.Cond.soleField "MarketDays" "walked") ∈ lw_all := lw_g (lw_at lw_m3 180 rfl) rfl
theorem q743 : (Jvm.Cond.lays "MarketDays" "MarketDays" "kept" "I") ∈ lw_all := lw_g (lw_at lw_m3 181 rfl) rfl
theorem q744 : (Jvm.Cond.soleField "MarketDays" "kept") ∈ lw_all := lw_g (lw_at lw_m3 182 rfl) rfl
theorem q745 : (Jvm.Cond.lays "MarketDays" "MarketDays" "keptWorth" "J") ∈ lw_all := lw_g (lw_at lw_m3 183 rfl) rfl
theorem q746 : (Jvm.Cond.soleField "MarketDays" "keptWorth") ∈ lw_all := lw_g (lw_at lw_m3 184 rfl) rfl
theorem q747 : (Jvm.Cond.laysFinal "MarketDays" "MarketDays" "row" "[B") ∈ lw_all := lw_g (lw_at lw_m3 185 rfl) rfl
theorem q748 : (Jvm.Cond.soleField "MarketDays" "row") ∈ lw_all := lw_g (lw_at lw_m3 186 rfl) rfl
theorem q749 : (Jvm.Cond.laysFinal "MarketDays" "MarketDays" "keptRow" "[B") ∈ lw_all := lw_g (lw_at lw_m3 187 rfl) rfl
theorem q750 : (Jvm.Cond.soleField "MarketDays" "keptRow") ∈ lw_all := lw_g (lw_at lw_m3 188 rfl) rfl
theorem q751 : (Jvm.Cond.lays "MarketDays" "MarketDays" "aim" "I") ∈ lw_all := lw_g (lw_at lw_m3 189 rfl) rfl
theorem q752 : (Jvm.Cond.soleField "MarketDays" "aim") ∈ lw_all := lw_g (lw_at lw_m3 190 rfl) rfl
theorem q753 : (Jvm.Cond.lays "MarketDays" "MarketDays" "from" "LMarketDays$Giving;") ∈ lw_all := lw_g (lw_at lw_m3 191 rfl) rfl
theorem q754 : (Jvm.Cond.soleField "MarketDays" "from") ∈ lw_all := lw_g (lw_at lw_m3 192 rfl) rfl
theorem q755 : (Jvm.Cond.laysFinal "MarketDays" "MarketDays" "table" "[I") ∈ lw_all := lw_g (lw_at lw_m3 193 rfl) rfl
theorem q756 : (Jvm.Cond.soleField "MarketDays" "table") ∈ lw_all := lw_g (lw_at lw_m3 194 rfl) rfl
theorem q757 : (Jvm.Cond.lays "MarketDays" "MarketDays" "found" "Z") ∈ lw_all := lw_g (lw_at lw_m3 195 rfl) rfl
theorem q758 : (Jvm.Cond.soleField "MarketDays" "found") ∈ lw_all := lw_g (lw_at lw_m3 196 rfl) rfl
theorem q759 : (Jvm.Cond.lays "MarketDays" "MarketDays" "foundTowns" "I") ∈ lw_all := lw_g (lw_at lw_m3 197 rfl) rfl
theorem q760 : (Jvm.Cond.soleField "MarketDays" "foundTowns") ∈ lw_all := lw_g (lw_at lw_m3 198 rfl) rfl
theorem q761 : (Jvm.Cond.laysFinal "MarketDays" "MarketDays" "foundRow" "[B") ∈ lw_all := lw_g (lw_at lw_m3 199 rfl) rfl
theorem q762 : (Jvm.Cond.soleField "MarketDays" "foundRow") ∈ lw_all := lw_g (lw_at lw_m3 200 rfl) rfl
theorem q763 : (Jvm.Cond.laysFinal "MarketDays" "MarketDays" "sold" "[I") ∈ lw_all := lw_g (lw_at lw_m3 201 rfl) rfl
theorem q764 : (Jvm.Cond.soleField "MarketDays" "sold") ∈ lw_all := lw_g (lw_at lw_m3 202 rfl) rfl
theorem q765 : (Jvm.Cond.lays "MarketDays" "MarketDays" "roundSize" "I") ∈ lw_all := lw_g (lw_at lw_m3 203 rfl) rfl
theorem q766 : (Jvm.Cond.soleField "MarketDays" "roundSize") ∈ lw_all := lw_g (lw_at lw_m3 204 rfl) rfl
theorem q767 : (Jvm.Cond.laysFinal "MarketDays" "MarketDays" "roundRow" "[I") ∈ lw_all := lw_g (lw_at lw_m3 205 rfl) rfl
theorem q768 : (Jvm.Cond.soleField "MarketDays" "roundRow") ∈ lw_all := lw_g (lw_at lw_m3 206 rfl) rfl
theorem q769 : (Jvm.Cond.laysFinal "MarketDays" "MarketDays" "keptMay" "[I") ∈ lw_all := lw_g (lw_at lw_m3 207 rfl) rfl
theorem q770 : (Jvm.Cond.soleField "MarketDays" "keptMay") ∈ lw_all := lw_g (lw_at lw_m3 208 rfl) rfl
theorem q771 : (Jvm.Cond.laysFinal "MarketDays" "MarketDays" "keptWish" "[I") ∈ lw_all := lw_g (lw_at lw_m3 209 rfl) rfl
theorem q772 : (Jvm.Cond.soleField "MarketDays" "keptWish") ∈ lw_all := lw_g (lw_at lw_m3 210 rfl) rfl
theorem q773 : (Jvm.Cond.laysFinal "MarketDays" "MarketDays" "keptBehind" "[I") ∈ lw_all := lw_g (lw_at lw_m3 211 rfl) rfl
theorem q774 : (Jvm.Cond.soleField "MarketDays" "keptBehind") ∈ lw_all := lw_g (lw_at lw_m3 212 rfl) rfl
theorem q775 : (Jvm.Cond.laysFinal "MarketDays" "MarketDays" "keptRoad" "[I") ∈ lw_all := lw_g (lw_at lw_m3 213 rfl) rfl
theorem q776 : (Jvm.Cond.soleField "MarketDays" "keptRoad") ∈ lw_all := lw_g (lw_at lw_m3 214 rfl) rfl
theorem q777 : (Jvm.Cond.lays "MarketDays" "MarketDays" "keptTowns" "I") ∈ lw_all := lw_g (lw_at lw_m3 215 rfl) rfl
theorem q778 : (Jvm.Cond.soleField "MarketDays" "keptTowns") ∈ lw_all := lw_g (lw_at lw_m3 216 rfl) rfl
theorem q779 : (Jvm.Cond.lays "MarketDays" "MarketDays" "keptDays" "I") ∈ lw_all := lw_g (lw_at lw_m3 217 rfl) rfl
theorem q780 : (Jvm.Cond.soleField "MarketDays" "keptDays") ∈ lw_all := lw_g (lw_at lw_m3 218 rfl) rfl
theorem q781 : (Jvm.Cond.lays "MarketDays" "MarketDays" "keptFeasts" "I") ∈ lw_all := lw_g (lw_at lw_m3 219 rfl) rfl
theorem q782 : (Jvm.Cond.soleField "MarketDays" "keptFeasts") ∈ lw_all := lw_g (lw_at lw_m3 220 rfl) rfl
theorem q783 : (Jvm.Cond.lays "MarketDays" "MarketDays" "keptRule" "I") ∈ lw_all := lw_g (lw_at lw_m3 221 rfl) rfl
theorem q784 : (Jvm.Cond.soleField "MarketDays" "keptRule") ∈ lw_all := lw_g (lw_at lw_m3 222 rfl) rfl
theorem q785 : (Jvm.Cond.laysFinal "MarketDays" "MarketDays" "texts" "[[LMarketDays$Node;") ∈ lw_all := lw_g (lw_at lw_m3 223 rfl) rfl
theorem q786 : (Jvm.Cond.soleField "MarketDays" "texts") ∈ lw_all := lw_g (lw_at lw_m3 224 rfl) rfl
theorem q787 : (Jvm.Cond.lays "MarketDays" "MarketDays" "textCount" "I") ∈ lw_all := lw_g (lw_at lw_m3 225 rfl) rfl
theorem q788 : (Jvm.Cond.soleField "MarketDays" "textCount") ∈ lw_all := lw_g (lw_at lw_m3 226 rfl) rfl
theorem q789 : (Jvm.Cond.laysFinal "MarketDays" "MarketDays" "tape" "[B") ∈ lw_all := lw_g (lw_at lw_m3 227 rfl) rfl
theorem q790 : (Jvm.Cond.soleField "MarketDays" "tape") ∈ lw_all := lw_g (lw_at lw_m3 228 rfl) rfl
theorem q791 : (Jvm.Cond.lays "MarketDays" "MarketDays" "taped" "I") ∈ lw_all := lw_g (lw_at lw_m3 229 rfl) rfl
theorem q792 : (Jvm.Cond.soleField "MarketDays" "taped") ∈ lw_all := lw_g (lw_at lw_m3 230 rfl) rfl
theorem q793 : (Jvm.Cond.laysFinal "MarketDays" "MarketDays" "sheets" "[LMarketDays$Sheet;") ∈ lw_all := lw_g (lw_at lw_m3 231 rfl) rfl
theorem q794 : (Jvm.Cond.soleField "MarketDays" "sheets") ∈ lw_all := lw_g (lw_at lw_m3 232 rfl) rfl
theorem q795 : (Jvm.Cond.superclass "MarketDays" "java/lang/Object") ∈ lw_all := lw_g (lw_at lw_m3 233 rfl) rfl
theorem q797 : (Jvm.Cond.instanceMethod ({ cls := "MarketDays", name := "town", desc := "(I)I" } : Jvm.MethodName)) ∈ lw_all := lw_g (lw_at lw_m3 235 rfl) rfl
theorem q798 : (Jvm.Cond.selects "MarketDays" ({ cls := "MarketDays", name := "town", desc := "(I)I" } : Jvm.MethodName) ({ cls := "MarketDays", name := "town", desc := "(I)I" } : Jvm.MethodName)) ∈ lw_all := lw_g (lw_at lw_m3 236 rfl) rfl
theorem q799 : (Jvm.Cond.code ({ cls := "MarketDays", name := "town", desc := "(I)I" } : Jvm.MethodName) prog_1_method_9_code (2 : Nat) (Option.some Jvm.ClassFile.FieldType.int)) ∈ lw_all := lw_g (lw_at lw_m3 237 rfl) rfl
theorem q800 : (Jvm.Cond.constantLong "MarketDays" (140 : Nat) (99 : Int64)) ∈ lw_all := lw_g (lw_at lw_m3 238 rfl) rfl
theorem q801 : (Jvm.Cond.methodLink "MarketDays" (133 : Nat) ({ cls := "MarketDays", name := "in", desc := "(JJJ)Z" } : Jvm.MethodName)) ∈ lw_all := lw_g (lw_at lw_m3 239 rfl) rfl
theorem q802 : (Jvm.Cond.methodLink "MarketDays" (142 : Nat) ({ cls := "MarketDays", name := "ways", desc := "()V" } : Jvm.MethodName)) ∈ lw_all := lw_g (lw_at lw_m4 0 rfl) rfl
theorem q803 : (Jvm.Cond.privateMethod ({ cls := "MarketDays", name := "ways", desc := "()V" } : Jvm.MethodName)) ∈ lw_tbl := lw_at lw_m4 1 rfl
theorem q804 : (Jvm.Cond.instanceMethod ({ cls := "MarketDays", name := "ways", desc := "()V" } : Jvm.MethodName)) ∈ lw_all := lw_g (lw_at lw_m4 2 rfl) rfl
theorem q805 : (Jvm.Cond.code ({ cls := "MarketDays", name := "ways", desc := "()V" } : Jvm.MethodName) prog_1_method_11_code (4 : Nat) (Option.none : Option Jvm.ClassFile.FieldType)) ∈ lw_all := lw_g (lw_at lw_m4 3 rfl) rfl
theorem q806 : (Jvm.Cond.methodLink "MarketDays" (151 : Nat) ({ cls := "java/lang/Math", name := "min", desc := "(II)I" } : Jvm.MethodName)) ∈ lw_all := lw_g (lw_at lw_m4 4 rfl) rfl
theorem q808 : (Jvm.Cond.instanceMethod ({ cls := "MarketDays", name := "road", desc := "(III)I" } : Jvm.MethodName)) ∈ lw_all := lw_g (lw_at lw_m4 6 rfl) rfl
theorem q809 : (Jvm.Cond.selects "MarketDays" ({ cls := "MarketDays", name := "road", desc := "(III)I" } : Jvm.MethodName) ({ cls := "MarketDays", name := "road", desc := "(III)I" } : Jvm.MethodName)) ∈ lw_all := lw_g (lw_at lw_m4 7 rfl) rfl
theorem q810 : (Jvm.Cond.code ({ cls := "MarketDays", name := "road", desc := "(III)I" } : Jvm.MethodName) prog_1_method_10_code (5 : Nat) (Option.some Jvm.ClassFile.FieldType.int)) ∈ lw_all := lw_g (lw_at lw_m4 8 rfl) rfl
theorem q811 : (Jvm.Cond.methodLink "MarketDays" (145 : Nat) ({ cls := "MarketDays", name := "isTown", desc := "(I)Z" } : Jvm.MethodName)) ∈ lw_all := lw_g (lw_at lw_m4 9 rfl) rfl
theorem q812 : (Jvm.Cond.privateMethod ({ cls := "MarketDays", name := "isTown", desc := "(I)Z" } : Jvm.MethodName)) ∈ lw_tbl := lw_at lw_m4 10 rfl
theorem q813 : (Jvm.Cond.instanceMethod ({ cls := "MarketDays", name := "isTown", desc := "(I)Z" } : Jvm.MethodName)) ∈ lw_all := lw_g (lw_at lw_m4 11 rfl) rfl
theorem q814 : (Jvm.Cond.code ({ cls := "MarketDays", name := "isTown", desc := "(I)Z" } : Jvm.MethodName) prog_1_method_5_code (2 : Nat) (Option.some Jvm.ClassFile.FieldType.boolean)) ∈ lw_all := lw_g (lw_at lw_m4 12 rfl) rfl
theorem q815 : (Jvm.Cond.constantLong "MarketDays" (149 : Nat) (50 : Int64)) ∈ lw_all := lw_g (lw_at lw_m4 13 rfl) rfl
theorem q817 : (Jvm.Cond.instanceMethod ({ cls := "MarketDays", name := "hours", desc := "(II)I" } : Jvm.MethodName)) ∈ lw_all := lw_g (lw_at lw_m4 15 rfl) rfl
theorem q818 : (Jvm.Cond.selects "MarketDays" ({ cls := "MarketDays", name := "hours", desc := "(II)I" } : Jvm.MethodName) ({ cls := "MarketDays", name := "hours", desc := "(II)I" } : Jvm.MethodName)) ∈ lw_all := lw_g (lw_at lw_m4 16 rfl) rfl
theorem q819 : (Jvm.Cond.code ({ cls := "MarketDays", name := "hours", desc := "(II)I" } : Jvm.MethodName) prog_1_method_12_code (3 : Nat) (Option.some Jvm.ClassFile.FieldType.int)) ∈ lw_all := lw_g (lw_at lw_m4 17 rfl) rfl
theorem q821 : (Jvm.Cond.instanceMethod ({ cls := "MarketDays", name := "week", desc := "(I)I" } : Jvm.MethodName)) ∈ lw_all := lw_g (lw_at lw_m4 19 rfl) rfl
theorem q822 : (Jvm.Cond.selects "MarketDays" ({ cls := "MarketDays", name := "week", desc := "(I)I" } : Jvm.MethodName) ({ cls := "MarketDays", name := "week", desc := "(I)I" } : Jvm.MethodName)) ∈ lw_all := lw_g (lw_at lw_m4 20 rfl) rfl
theorem q823 : (Jvm.Cond.code ({ cls := "MarketDays", name := "week", desc := "(I)I" } : Jvm.MethodName) prog_1_method_13_code (3 : Nat) (Option.some Jvm.ClassFile.FieldType.int)) ∈ lw_all := lw_g (lw_at lw_m4 21 rfl) rfl
theorem q824 : (Jvm.Cond.constantLong "MarketDays" (157 : Nat) (2 : Int64)) ∈ lw_all := lw_g (lw_at lw_m4 22 rfl) rfl
theorem q825 : (Jvm.Cond.constantLong "MarketDays" (159 : Nat) (7 : Int64)) ∈ lw_all := lw_g (lw_at lw_m4 23 rfl) rfl
theorem q827 : (Jvm.Cond.instanceMethod ({ cls := "MarketDays", name := "want", desc := "(III)I" } : Jvm.MethodName)) ∈ lw_all := lw_g (lw_at lw_m4 25 rfl) rfl
theorem q828 : (Jvm.Cond.selects "MarketDays" ({ cls := "MarketDays", name := "want", desc := "(III)I" } : Jvm.MethodName) ({ cls := "MarketDays", name := "want", desc := "(III)I" } : Jvm.MethodName)) ∈ lw_all := lw_g (lw_at lw_m4 26 rfl) rfl
theorem q829 : (Jvm.Cond.code ({ cls := "MarketDays", name := "want", desc := "(III)I" } : Jvm.MethodName) prog_1_method_14_code (5 : Nat) (Option.some Jvm.ClassFile.FieldType.int)) ∈ lw_all := lw_g (lw_at lw_m4 27 rfl) rfl
theorem q830 : (Jvm.Cond.constantLong "MarketDays" (161 : Nat) (-1 : Int64)) ∈ lw_all := lw_g (lw_at lw_m4 28 rfl) rfl
theorem q831 : (Jvm.Cond.constantLong "MarketDays" (163 : Nat) (127 : Int64)) ∈ lw_all := lw_g (lw_at lw_m4 29 rfl) rfl
theorem q832 : (Jvm.Cond.constantLong "MarketDays" (165 : Nat) (6 : Int64)) ∈ lw_all := lw_g (lw_at lw_m4 30 rfl) rfl
theorem q834 : (Jvm.Cond.instanceMethod ({ cls := "MarketDays", name := "townTold", desc := "(II)I" } : Jvm.MethodName)) ∈ lw_all := lw_g (lw_at lw_m4 32 rfl) rfl
theorem q835 : (Jvm.Cond.selects "MarketDays" ({ cls := "MarketDays", name := "townTold", desc := "(II)I" } : Jvm.MethodName) ({ cls := "MarketDays", name := "townTold", desc := "(II)I" } : Jvm.MethodName)) ∈ lw_all := lw_g (lw_at lw_m4 33 rfl) rfl
theorem q836 : (Jvm.Cond.code ({ cls := "MarketDays", name := "townTold", desc := "(II)I" } : Jvm.MethodName) prog_1_method_15_code (3 : Nat) (Option.some Jvm.ClassFile.FieldType.int)) ∈ lw_all := lw_g (lw_at lw_m4 34 rfl) rfl
theorem q838 : (Jvm.Cond.instanceMethod ({ cls := "MarketDays", name := "feast", desc := "(II)I" } : Jvm.MethodName)) ∈ lw_all := lw_g (lw_at lw_m4 36 rfl) rfl
theorem q839 : (Jvm.Cond.selects "MarketDays" ({ cls := "MarketDays", name := "feast", desc := "(II)I" } : Jvm.MethodName) ({ cls := "MarketDays", name := "feast", desc := "(II)I" } : Jvm.MethodName)) ∈ lw_all := lw_g (lw_at lw_m4 37 rfl) rfl
theorem q840 : (Jvm.Cond.code ({ cls := "MarketDays", name := "feast", desc := "(II)I" } : Jvm.MethodName) prog_1_method_16_code (3 : Nat) (Option.some Jvm.ClassFile.FieldType.int)) ∈ lw_all := lw_g (lw_at lw_m4 38 rfl) rfl
theorem q841 : (Jvm.Cond.methodLink "MarketDays" (167 : Nat) ({ cls := "MarketDays", name := "isWeek", desc := "(I)Z" } : Jvm.MethodName)) ∈ lw_all := lw_g (lw_at lw_m4 39 rfl) rfl
theorem q842 : (Jvm.Cond.privateMethod ({ cls := "MarketDays", name := "isWeek", desc := "(I)Z" } : Jvm.MethodName)) ∈ lw_tbl := lw_at lw_m4 40 rfl
theorem q843 : (Jvm.Cond.instanceMethod ({ cls := "MarketDays", name := "isWeek", desc := "(I)Z" } : Jvm.MethodName)) ∈ lw_all := lw_g (lw_at lw_m4 41 rfl) rfl
theorem q844 : (Jvm.Cond.code ({ cls := "MarketDays", name := "isWeek", desc := "(I)Z" } : Jvm.MethodName) prog_1_method_8_code (2 : Nat) (Option.some Jvm.ClassFile.FieldType.boolean)) ∈ lw_all := lw_g (lw_at lw_m4 42 rfl) rfl
theorem q846 : (Jvm.Cond.instanceMethod ({ cls := "MarketDays", name := "says", desc := "(II)J" } : Jvm.MethodName)) ∈ lw_all := lw_g (lw_at lw_m4 44 rfl) rfl
theorem q847 : (Jvm.Cond.selects "MarketDays" ({ cls := "MarketDays", name := "says", desc := "(II)J" } : Jvm.MethodName) ({ cls := "MarketDays", name := "says", desc := "(II)J" } : Jvm.MethodName)) ∈ lw_all := lw_g (lw_at lw_m4 45 rfl) rfl
theorem q848 : (Jvm.Cond.code ({ cls := "MarketDays", name := "says", desc := "(II)J" } : Jvm.MethodName) prog_1_method_19_code (3 : Nat) (Option.some Jvm.ClassFile.FieldType.long)) ∈ lw_all := lw_g (lw_at lw_m4 46 rfl) rfl
theorem q849 : (Jvm.Cond.methodLink "MarketDays" (185 : Nat) ({ cls := "MarketDays", name := "near", desc := "(II)I" } : Jvm.MethodName)) ∈ lw_all := lw_g (lw_at lw_m4 47 rfl) rfl
theorem q850 : (Jvm.Cond.privateMethod ({ cls := "MarketDays", name := "near", desc := "(II)I" } : Jvm.MethodName)) ∈ lw_tbl := lw_at lw_m4 48 rfl
theorem q851 : (Jvm.Cond.instanceMethod ({ cls := "MarketDays", name := "near", desc := "(II)I" } : Jvm.MethodName)) ∈ lw_all := lw_g (lw_at lw_m4 49 rfl) rfl
theorem q852 : (Jvm.Cond.code ({ cls := "MarketDays", name := "near", desc := "(II)I" } : Jvm.MethodName) prog_1_method_17_code (3 : Nat) (Option.some Jvm.ClassFile.FieldType.int)) ∈ lw_all := lw_g (lw_at lw_m4 50 rfl) rfl
theorem q853 : (Jvm.Cond.interfaceEntry "MarketDays" (176 : Nat)) ∈ lw_tbl := lw_at lw_m4 51 rfl
theorem q854 : (Jvm.Cond.methodLink "MarketDays" (176 : Nat) ({ cls := "MarketDays$Node", name := "worth", desc := "([I)I" } : Jvm.MethodName)) ∈ lw_all := lw_g (lw_at lw_m4 52 rfl) rfl
theorem q879 : (Jvm.Cond.constantLong "MarketDays" (188 : Nat) (-4611686018427387904 : Int64)) ∈ lw_all := lw_g (lw_at lw_m4 77 rfl) rfl
theorem q881 : (Jvm.Cond.instanceMethod ({ cls := "MarketDays", name := "worthOf", desc := "(IIII)J" } : Jvm.MethodName)) ∈ lw_all := lw_g (lw_at lw_m4 79 rfl) rfl
theorem q882 : (Jvm.Cond.selects "MarketDays" ({ cls := "MarketDays", name := "worthOf", desc := "(IIII)J" } : Jvm.MethodName) ({ cls := "MarketDays", name := "worthOf", desc := "(IIII)J" } : Jvm.MethodName)) ∈ lw_all := lw_g (lw_at lw_m4 80 rfl) rfl
theorem q883 : (Jvm.Cond.code ({ cls := "MarketDays", name := "worthOf", desc := "(IIII)J" } : Jvm.MethodName) prog_1_method_20_code (5 : Nat) (Option.some Jvm.ClassFile.FieldType.long)) ∈ lw_all := lw_g (lw_at lw_m4 81 rfl) rfl
theorem q884 : (Jvm.Cond.methodLink "MarketDays" (190 : Nat) ({ cls := "MarketDays", name := "isDay", desc := "(I)Z" } : Jvm.MethodName)) ∈ lw_all := lw_g (lw_at lw_m4 82 rfl) rfl
theorem q885 : (Jvm.Cond.privateMethod ({ cls := "MarketDays", name := "isDay", desc := "(I)Z" } : Jvm.MethodName)) ∈ lw_tbl := lw_at lw_m4 83 rfl
theorem q886 : (Jvm.Cond.instanceMethod ({ cls := "MarketDays", name := "isDay", desc := "(I)Z" } : Jvm.MethodName)) ∈ lw_all := lw_g (lw_at lw_m4 84 rfl) rfl
theorem q887 : (Jvm.Cond.code ({ cls := "MarketDays", name := "isDay", desc := "(I)Z" } : Jvm.MethodName) prog_1_method_6_code (2 : Nat) (Option.some Jvm.ClassFile.FieldType.boolean)) ∈ lw_all := lw_g (lw_at lw_m4 85 rfl) rfl
theorem q888 : (Jvm.Cond.methodLink "MarketDays" (193 : Nat) ({ cls := "MarketDays", name := "saysWorth", desc := "(IIII)I" } : Jvm.MethodName)) ∈ lw_all := lw_g (lw_at lw_m4 86 rfl) rfl
theorem q889 : (Jvm.Cond.privateMethod ({ cls := "MarketDays", name := "saysWorth", desc := "(IIII)I" } : Jvm.MethodName)) ∈ lw_tbl := lw_at lw_m4 87 rfl
theorem q890 : (Jvm.Cond.instanceMethod ({ cls := "MarketDays", name := "saysWorth", desc := "(IIII)I" } : Jvm.MethodName)) ∈ lw_all := lw_g (lw_at lw_m4 88 rfl) rfl
theorem q891 : (Jvm.Cond.code ({ cls := "MarketDays", name := "saysWorth", desc := "(IIII)I" } : Jvm.MethodName) prog_1_method_18_code (6 : Nat) (Option.some Jvm.ClassFile.FieldType.int)) ∈ lw_all := lw_g (lw_at lw_m4 89 rfl) rfl
theorem q892 : (Jvm.Cond.methodLink "MarketDays" (182 : Nat) ({ cls := "java/lang/Math", name := "max", desc := "(II)I" } : Jvm.MethodName)) ∈ lw_all := lw_g (lw_at lw_m4 90 rfl) rfl
theorem q894 : (Jvm.Cond.instanceMethod ({ cls := "MarketDays", name := "giving", desc := "(II)I" } : Jvm.MethodName)) ∈ lw_all := lw_g (lw_at lw_m4 92 rfl) rfl
theorem q895 : (Jvm.Cond.selects "MarketDays" ({ cls := "MarketDays", name := "giving", desc := "(II)I" } : Jvm.MethodName) ({ cls := "MarketDays", name := "giving", desc := "(II)I" } : Jvm.MethodName)) ∈ lw_all := lw_g (lw_at lw_m4 93 rfl) rfl
theorem q896 : (Jvm.Cond.code ({ cls := "MarketDays", name := "giving", desc := "(II)I" } : Jvm.MethodName) prog_1_method_21_code (7 : Nat) (Option.some Jvm.ClassFile.FieldType.int)) ∈ lw_all := lw_g (lw_at lw_m4 94 rfl) rfl
theorem q897 : (Jvm.Cond.constantLong "MarketDays" (197 : Nat) (5 : Int64)) ∈ lw_all := lw_g (lw_at lw_m4 95 rfl) rfl
theorem q898 : (Jvm.Cond.methodLink "MarketDays" (199 : Nat) ({ cls := "MarketDays", name := "isSheet", desc := "(I)Z" } : Jvm.MethodName)) ∈ lw_all := lw_g (lw_at lw_m4 96 rfl) rfl
theorem q899 : (Jvm.Cond.static ({ cls := "MarketDays", name := "isSheet", desc := "(I)Z" } : Jvm.MethodName)) ∈ lw_all := lw_g (lw_at lw_m4 97 rfl) rfl
theorem q900 : (Jvm.Cond.code ({ cls := "MarketDays", name := "isSheet", desc := "(I)Z" } : Jvm.MethodName) prog_1_method_65_code (1 : Nat) (Option.some Jvm.ClassFile.FieldType.boolean)) ∈ lw_all := lw_g (lw_at lw_m4 98 rfl) rfl
theorem q901 : (Jvm.Cond.constantLong "MarketDays" (333 : Nat) (3 : Int64)) ∈ lw_all := lw_g (lw_at lw_m4 99 rfl) rfl
theorem q902 : (Jvm.Cond.methodLink "MarketDays" (137 : Nat) ({ cls := "java/util/ArrayList", name := "size", desc := "()I" } : Jvm.MethodName)) ∈ lw_all := lw_g (lw_at lw_m4 100 rfl) rfl
theorem q906 : (Jvm.Cond.methodLink "MarketDays" (207 : Nat) ({ cls := "MarketDays", name := "made", desc := "(II[B)LMarketDays$Giving;" } : Jvm.MethodName)) ∈ lw_all := lw_g (lw_at lw_m4 104 rfl) rfl
theorem q907 : (Jvm.Cond.static ({ cls := "MarketDays", name := "made", desc := "(II[B)LMarketDays$Giving;" } : Jvm.MethodName)) ∈ lw_all := lw_g (lw_at lw_m4 105 rfl) rfl
theorem q908 : (Jvm.Cond.code ({ cls := "MarketDays", name := "made", desc := "(II[B)LMarketDays$Giving;" } : Jvm.MethodName) prog_1_method_2_code (3 : Nat) (Option.some (Jvm.ClassFile.FieldType.object "MarketDays$Giving"))) ∈ lw_all := lw_g (lw_at lw_m4 106 rfl) rfl
theorem q909 : (Jvm.Cond.classLink "MarketDays" (1 : Nat) "MarketDays$Giving") ∈ lw_all := lw_g (lw_at lw_m4 107 rfl) rfl
theorem q911 : (Jvm.Cond.methodLink "MarketDays" (3 : Nat) ({ cls := "MarketDays$Giving", name := "<init>", desc := "(I[B)V" } : Jvm.MethodName)) ∈ lw_all := lw_g (lw_at lw_m4 109 rfl) rfl
theorem q916 : (Jvm.Cond.fieldLink "MarketDays" (222 : Nat) "MarketDays$Giving" "number" "I") ∈ lw_all := lw_g (lw_at lw_m4 114 rfl) rfl
theorem q918 : (Jvm.Cond.fieldLink "MarketDays" (313 : Nat) "MarketDays$Giving" "towns" "I") ∈ lw_all := lw_g (lw_at lw_m4 116 rfl) rfl
theorem q924 : (Jvm.Cond.fieldLink "MarketDays" (314 : Nat) "MarketDays$Giving" "day" "[B") ∈ lw_all := lw_g (lw_at lw_m4 122 rfl) rfl
theorem q932 : (Jvm.Cond.classLink "MarketDays" (7 : Nat) "MarketDays$Part") ∈ lw_all := lw_g (lw_at lw_m4 130 rfl) rfl
theorem q934 : (Jvm.Cond.methodLink "MarketDays" (9 : Nat) ({ cls := "MarketDays$Part", name := "<init>", desc := "(I[B)V" } : Jvm.MethodName)) ∈ lw_all := lw_g (lw_at lw_m4 132 rfl) rfl
theorem q942 : (Jvm.Cond.classLink "MarketDays" (10 : Nat) "MarketDays$Twice") ∈ lw_all := lw_g (lw_at lw_m4 140 rfl) rfl
theorem q944 : (Jvm.Cond.methodLink "MarketDays" (12 : Nat) ({ cls := "MarketDays$Twice", name := "<init>", desc := "(I[B)V" } : Jvm.MethodName)) ∈ lw_all := lw_g (lw_at lw_m4 142 rfl) rfl
theorem q952 : (Jvm.Cond.classLink "MarketDays" (13 : Nat) "MarketDays$Turn") ∈ lw_all := lw_g (lw_at lw_m4 150 rfl) rfl
theorem q954 : (Jvm.Cond.methodLink "MarketDays" (15 : Nat) ({ cls := "MarketDays$Turn", name := "<init>", desc := "(I[B)V" } : Jvm.MethodName)) ∈ lw_all := lw_g (lw_at lw_m4 152 rfl) rfl
theorem q962 : (Jvm.Cond.classLink "MarketDays" (16 : Nat) "MarketDays$Season") ∈ lw_all := lw_g (lw_at lw_m4 160 rfl) rfl
theorem q964 : (Jvm.Cond.methodLink "MarketDays" (18 : Nat) ({ cls := "MarketDays$Season", name := "<init>", desc := "(I[B)V" } : Jvm.MethodName)) ∈ lw_all := lw_g (lw_at lw_m4 162 rfl) rfl
theorem q972 : (Jvm.Cond.classLink "MarketDays" (19 : Nat) "MarketDays$Told") ∈ lw_all := lw_g (lw_at lw_m4 170 rfl) rfl
theorem q974 : (Jvm.Cond.methodLink "MarketDays" (21 : Nat) ({ cls := "MarketDays$Told", name := "<init>", desc := "(I[B)V" } : Jvm.MethodName)) ∈ lw_all := lw_g (lw_at lw_m4 172 rfl) rfl
theorem q982 : (Jvm.Cond.methodLink "MarketDays" (214 : Nat) ({ cls := "MarketDays$Giving", name := "mostTold", desc := "(I)I" } : Jvm.MethodName)) ∈ lw_all := lw_g (lw_at lw_m4 180 rfl) rfl
theorem q994 : (Jvm.Cond.methodLink "MarketDays" (218 : Nat) ({ cls := "java/util/ArrayList", name := "add", desc := "(Ljava/lang/Object;)Z" } : Jvm.MethodName)) ∈ lw_all := lw_g (lw_at lw_m4 192 rfl) rfl
theorem q1017 : (Jvm.Cond.selects "MarketDays" ({ cls := "java/lang/Object", name := "getClass", desc := "()Ljava/lang/Class;" } : Jvm.MethodName) ({ cls := "java/lang/Object", name := "getClass", desc := "()Ljava/lang/Class;" } : Jvm.MethodName)) ∈ lw_all := lw_g (lw_at lw_m4 215 rfl) rfl
theorem q1047 : (Jvm.Cond.instanceMethod ({ cls := "MarketDays", name := "marketOf", desc := "(III)I" } : Jvm.MethodName)) ∈ lw_all := lw_g (lw_at lw_m5 5 rfl) rfl
theorem q1048 : (Jvm.Cond.selects "MarketDays" ({ cls := "MarketDays", name := "marketOf", desc := "(III)I" } : Jvm.MethodName) ({ cls := "MarketDays", name := "marketOf", desc := "(III)I" } : Jvm.MethodName)) ∈ lw_all := lw_g (lw_at lw_m5 6 rfl) rfl
theorem q1049 : (Jvm.Cond.code ({ cls := "MarketDays", name := "marketOf", desc := "(III)I" } : Jvm.MethodName) prog_1_method_23_code (4 : Nat) (Option.some Jvm.ClassFile.FieldType.int)) ∈ lw_all := lw_g (lw_at lw_m5 7 rfl) rfl
theorem q1050 : (Jvm.Cond.methodLink "MarketDays" (233 : Nat) ({ cls := "MarketDays", name := "isGiving", desc := "(I)Z" } : Jvm.MethodName)) ∈ lw_all := lw_g (lw_at lw_m5 8 rfl) rfl
theorem q1051 : (Jvm.Cond.privateMethod ({ cls := "MarketDays", name := "isGiving", desc := "(I)Z" } : Jvm.MethodName)) ∈ lw_tbl := lw_at lw_m5 9 rfl
theorem q1052 : (Jvm.Cond.instanceMethod ({ cls := "MarketDays", name := "isGiving", desc := "(I)Z" } : Jvm.MethodName)) ∈ lw_all := lw_g (lw_at lw_m5 10 rfl) rfl
theorem q1053 : (Jvm.Cond.code ({ cls := "MarketDays", name := "isGiving", desc := "(I)Z" } : Jvm.MethodName) prog_1_method_7_code (2 : Nat) (Option.some Jvm.ClassFile.FieldType.boolean)) ∈ lw_all := lw_g (lw_at lw_m5 11 rfl) rfl
theorem q1054 : (Jvm.Cond.methodLink "MarketDays" (236 : Nat) ({ cls := "java/util/ArrayList", name := "get", desc := "(I)Ljava/lang/Object;" } : Jvm.MethodName)) ∈ lw_all := lw_g (lw_at lw_m5 12 rfl) rfl
theorem q1066 : (Jvm.Cond.methodLink "MarketDays" (240 : Nat) ({ cls := "MarketDays", name := "market", desc := "(LMarketDays$Giving;II)I" } : Jvm.MethodName)) ∈ lw_all := lw_g (lw_at lw_m5 24 rfl) rfl
theorem q1067 : (Jvm.Cond.privateMethod ({ cls := "MarketDays", name := "market", desc := "(LMarketDays$Giving;II)I" } : Jvm.MethodName)) ∈ lw_tbl := lw_at lw_m5 25 rfl
theorem q1068 : (Jvm.Cond.instanceMethod ({ cls := "MarketDays", name := "market", desc := "(LMarketDays$Giving;II)I" } : Jvm.MethodName)) ∈ lw_all := lw_g (lw_at lw_m5 26 rfl) rfl
theorem q1069 : (Jvm.Cond.code ({ cls := "MarketDays", name := "market", desc := "(LMarketDays$Giving;II)I" } : Jvm.MethodName) prog_1_method_22_code (6 : Nat) (Option.some Jvm.ClassFile.FieldType.int)) ∈ lw_all := lw_g (lw_at lw_m5 27 rfl) rfl
theorem q1070 : (Jvm.Cond.methodLink "MarketDays" (225 : Nat) ({ cls := "MarketDays$Giving", name := "daysOf", desc := "(III)I" } : Jvm.MethodName)) ∈ lw_all := lw_g (lw_at lw_m5 28 rfl) rfl
theorem q1089 : (Jvm.Cond.methodLink "MarketDays" (229 : Nat) ({ cls := "MarketDays$Giving", name := "moves", desc := "()Z" } : Jvm.MethodName)) ∈ lw_all := lw_g (lw_at lw_m5 47 rfl) rfl
theorem q1102 : (Jvm.Cond.instanceMethod ({ cls := "MarketDays", name := "bar", desc := "(II)I" } : Jvm.MethodName)) ∈ lw_all := lw_g (lw_at lw_m5 60 rfl) rfl
theorem q1103 : (Jvm.Cond.selects "MarketDays" ({ cls := "MarketDays", name := "bar", desc := "(II)I" } : Jvm.MethodName) ({ cls := "MarketDays", name := "bar", desc := "(II)I" } : Jvm.MethodName)) ∈ lw_all := lw_g (lw_at lw_m5 61 rfl) rfl
theorem q1104 : (Jvm.Cond.code ({ cls := "MarketDays", name := "bar", desc := "(II)I" } : Jvm.MethodName) prog_1_method_28_code (3 : Nat) (Option.some Jvm.ClassFile.FieldType.int)) ∈ lw_all := lw_g (lw_at lw_m5 62 rfl) rfl
theorem q1105 : (Jvm.Cond.methodLink "MarketDays" (251 : Nat) ({ cls := "MarketDays", name := "looks", desc := "(LMarketDays$Giving;I)V" } : Jvm.MethodName)) ∈ lw_all := lw_g (lw_at lw_m5 63 rfl) rfl
theorem q1106 : (Jvm.Cond.privateMethod ({ cls := "MarketDays", name := "looks", desc := "(LMarketDays$Giving;I)V" } : Jvm.MethodName)) ∈ lw_tbl := lw_at lw_m5 64 rfl
theorem q1107 : (Jvm.Cond.instanceMethod ({ cls := "MarketDays", name := "looks", desc := "(LMarketDays$Giving;I)V" } : Jvm.MethodName)) ∈ lw_all := lw_g (lw_at lw_m5 65 rfl) rfl
theorem q1108 : (Jvm.Cond.code ({ cls := "MarketDays", name := "looks", desc := "(LMarketDays$Giving;I)V" } : Jvm.MethodName) prog_1_method_24_code (4 : Nat) (Option.none : Option Jvm.ClassFile.FieldType)) ∈ lw_all := lw_g (lw_at lw_m5 66 rfl) rfl
theorem q1109 : (Jvm.Cond.methodLink "MarketDays" (255 : Nat) ({ cls := "MarketDays", name := "firstBar", desc := "()I" } : Jvm.MethodName)) ∈ lw_all := lw_g (lw_at lw_m5 67 rfl) rfl
theorem q1110 : (Jvm.Cond.privateMethod ({ cls := "MarketDays", name := "firstBar", desc := "()I" } : Jvm.MethodName)) ∈ lw_tbl := lw_at lw_m5 68 rfl
theorem q1111 : (Jvm.Cond.instanceMethod ({ cls := "MarketDays", name := "firstBar", desc := "()I" } : Jvm.MethodName)) ∈ lw_all := lw_g (lw_at lw_m5 69 rfl) rfl
theorem q1112 : (Jvm.Cond.code ({ cls := "MarketDays", name := "firstBar", desc := "()I" } : Jvm.MethodName) prog_1_method_27_code (3 : Nat) (Option.some Jvm.ClassFile.FieldType.int)) ∈ lw_all := lw_g (lw_at lw_m5 70 rfl) rfl
theorem q1113 : (Jvm.Cond.methodLink "MarketDays" (247 : Nat) ({ cls := "MarketDays", name := "bars", desc := "(II)Z" } : Jvm.MethodName)) ∈ lw_all := lw_g (lw_at lw_m5 71 rfl) rfl
theorem q1114 : (Jvm.Cond.privateMethod ({ cls := "MarketDays", name := "bars", desc := "(II)Z" } : Jvm.MethodName)) ∈ lw_tbl := lw_at lw_m5 72 rfl
theorem q1115 : (Jvm.Cond.instanceMethod ({ cls := "MarketDays", name := "bars", desc := "(II)Z" } : Jvm.MethodName)) ∈ lw_all := lw_g (lw_at lw_m5 73 rfl) rfl
theorem q1116 : (Jvm.Cond.code ({ cls := "MarketDays", name := "bars", desc := "(II)Z" } : Jvm.MethodName) prog_1_method_26_code (3 : Nat) (Option.some Jvm.ClassFile.FieldType.boolean)) ∈ lw_all := lw_g (lw_at lw_m5 74 rfl) rfl
theorem q1117 : (Jvm.Cond.methodLink "MarketDays" (244 : Nat) ({ cls := "MarketDays", name := "nextDay", desc := "(I)I" } : Jvm.MethodName)) ∈ lw_all := lw_g (lw_at lw_m5 75 rfl) rfl
theorem q1118 : (Jvm.Cond.privateMethod ({ cls := "MarketDays", name := "nextDay", desc := "(I)I" } : Jvm.MethodName)) ∈ lw_tbl := lw_at lw_m5 76 rfl
theorem q1119 : (Jvm.Cond.instanceMethod ({ cls := "MarketDays", name := "nextDay", desc := "(I)I" } : Jvm.MethodName)) ∈ lw_all := lw_g (lw_at lw_m5 77 rfl) rfl
theorem q1120 : (Jvm.Cond.code ({ cls := "MarketDays", name := "nextDay", desc := "(I)I" } : Jvm.MethodName) prog_1_method_25_code (3 : Nat) (Option.some Jvm.ClassFile.FieldType.int)) ∈ lw_all := lw_g (lw_at lw_m5 78 rfl) rfl
theorem q1122 : (Jvm.Cond.instanceMethod ({ cls := "MarketDays", name := "lawful", desc := "(II)I" } : Jvm.MethodName)) ∈ lw_all := lw_g (lw_at lw_m5 80 rfl) rfl
theorem q1123 : (Jvm.Cond.selects "MarketDays" ({ cls := "MarketDays", name := "lawful", desc := "(II)I" } : Jvm.MethodName) ({ cls := "MarketDays", name := "lawful", desc := "(II)I" } : Jvm.MethodName)) ∈ lw_all := lw_g (lw_at lw_m5 81 rfl) rfl
theorem q1124 : (Jvm.Cond.code ({ cls := "MarketDays", name := "lawful", desc := "(II)I" } : Jvm.MethodName) prog_1_method_29_code (5 : Nat) (Option.some Jvm.ClassFile.FieldType.int)) ∈ lw_all := lw_g (lw_at lw_m5 82 rfl) rfl
theorem q1126 : (Jvm.Cond.instanceMethod ({ cls := "MarketDays", name := "judge", desc := "(III)J" } : Jvm.MethodName)) ∈ lw_all := lw_g (lw_at lw_m5 84 rfl) rfl
theorem q1127 : (Jvm.Cond.selects "MarketDays" ({ cls := "MarketDays", name := "judge", desc := "(III)J" } : Jvm.MethodName) ({ cls := "MarketDays", name := "judge", desc := "(III)J" } : Jvm.MethodName)) ∈ lw_all := lw_g (lw_at lw_m5 85 rfl) rfl
theorem q1128 : (Jvm.Cond.code ({ cls := "MarketDays", name := "judge", desc := "(III)J" } : Jvm.MethodName) prog_1_method_33_code (7 : Nat) (Option.some Jvm.ClassFile.FieldType.long)) ∈ lw_all := lw_g (lw_at lw_m5 86 rfl) rfl
theorem q1129 : (Jvm.Cond.methodLink "MarketDays" (266 : Nat) ({ cls := "MarketDays", name := "worthAt", desc := "(LMarketDays$Giving;I)I" } : Jvm.MethodName)) ∈ lw_all := lw_g (lw_at lw_m5 87 rfl) rfl
theorem q1130 : (Jvm.Cond.privateMethod ({ cls := "MarketDays", name := "worthAt", desc := "(LMarketDays$Giving;I)I" } : Jvm.MethodName)) ∈ lw_tbl := lw_at lw_m5 88 rfl
theorem q1131 : (Jvm.Cond.instanceMethod ({ cls := "MarketDays", name := "worthAt", desc := "(LMarketDays$Giving;I)I" } : Jvm.MethodName)) ∈ lw_all := lw_g (lw_at lw_m5 89 rfl) rfl
theorem q1132 : (Jvm.Cond.code ({ cls := "MarketDays", name := "worthAt", desc := "(LMarketDays$Giving;I)I" } : Jvm.MethodName) prog_1_method_32_code (6 : Nat) (Option.some Jvm.ClassFile.FieldType.int)) ∈ lw_all := lw_g (lw_at lw_m5 90 rfl) rfl
theorem q1133 : (Jvm.Cond.methodLink "MarketDays" (258 : Nat) ({ cls := "MarketDays", name := "hoursAhead", desc := "(II)I" } : Jvm.MethodName)) ∈ lw_all := lw_g (lw_at lw_m5 91 rfl) rfl
theorem q1134 : (Jvm.Cond.privateMethod ({ cls := "MarketDays", name := "hoursAhead", desc := "(II)I" } : Jvm.MethodName)) ∈ lw_tbl := lw_at lw_m5 92 rfl
theorem q1135 : (Jvm.Cond.instanceMethod ({ cls := "MarketDays", name := "hoursAhead", desc := "(II)I" } : Jvm.MethodName)) ∈ lw_all := lw_g (lw_at lw_m5 93 rfl) rfl
theorem q1136 : (Jvm.Cond.code ({ cls := "MarketDays", name := "hoursAhead", desc := "(II)I" } : Jvm.MethodName) prog_1_method_30_code (6 : Nat) (Option.some Jvm.ClassFile.FieldType.int)) ∈ lw_all := lw_g (lw_at lw_m5 94 rfl) rfl
theorem q1137 : (Jvm.Cond.methodLink "MarketDays" (261 : Nat) ({ cls := "MarketDays", name := "others", desc := "(II)I" } : Jvm.MethodName)) ∈ lw_all := lw_g (lw_at lw_m5 95 rfl) rfl
theorem q1138 : (Jvm.Cond.privateMethod ({ cls := "MarketDays", name := "others", desc := "(II)I" } : Jvm.MethodName)) ∈ lw_tbl := lw_at lw_m5 96 rfl
theorem q1139 : (Jvm.Cond.instanceMethod ({ cls := "MarketDays", name := "others", desc := "(II)I" } : Jvm.MethodName)) ∈ lw_all := lw_g (lw_at lw_m5 97 rfl) rfl
theorem q1140 : (Jvm.Cond.code ({ cls := "MarketDays", name := "others", desc := "(II)I" } : Jvm.MethodName) prog_1_method_31_code (5 : Nat) (Option.some Jvm.ClassFile.FieldType.int)) ∈ lw_all := lw_g (lw_at lw_m5 98 rfl) rfl
theorem q1141 : (Jvm.Cond.methodLink "MarketDays" (264 : Nat) ({ cls := "MarketDays$Giving", name := "worth", desc := "(II)I" } : Jvm.MethodName)) ∈ lw_all := lw_g (lw_at lw_m5 99 rfl) rfl
theorem q1164 : (Jvm.Cond.instanceMethod ({ cls := "MarketDays", name := "can", desc := "()I" } : Jvm.MethodName)) ∈ lw_all := lw_g (lw_at lw_m5 122 rfl) rfl
theorem q1165 : (Jvm.Cond.selects "MarketDays" ({ cls := "MarketDays", name := "can", desc := "()I" } : Jvm.MethodName) ({ cls := "MarketDays", name := "can", desc := "()I" } : Jvm.MethodName)) ∈ lw_all := lw_g (lw_at lw_m5 123 rfl) rfl
theorem q1166 : (Jvm.Cond.code ({ cls := "MarketDays", name := "can", desc := "()I" } : Jvm.MethodName) prog_1_method_42_code (1 : Nat) (Option.some Jvm.ClassFile.FieldType.int)) ∈ lw_all := lw_g (lw_at lw_m5 124 rfl) rfl
theorem q1167 : (Jvm.Cond.methodLink "MarketDays" (326 : Nat) ({ cls := "MarketDays", name := "all", desc := "()I" } : Jvm.MethodName)) ∈ lw_all := lw_g (lw_at lw_m5 125 rfl) rfl
theorem q1168 : (Jvm.Cond.privateMethod ({ cls := "MarketDays", name := "all", desc := "()I" } : Jvm.MethodName)) ∈ lw_tbl := lw_at lw_m5 126 rfl
theorem q1169 : (Jvm.Cond.instanceMethod ({ cls := "MarketDays", name := "all", desc := "()I" } : Jvm.MethodName)) ∈ lw_all := lw_g (lw_at lw_m5 127 rfl) rfl
theorem q1170 : (Jvm.Cond.code ({ cls := "MarketDays", name := "all", desc := "()I" } : Jvm.MethodName) prog_1_method_41_code (1 : Nat) (Option.some Jvm.ClassFile.FieldType.int)) ∈ lw_all := lw_g (lw_at lw_m5 128 rfl) rfl
theorem q1171 : (Jvm.Cond.methodLink "MarketDays" (329 : Nat) ({ cls := "MarketDays", name := "search", desc := "(II)V" } : Jvm.MethodName)) ∈ lw_all := lw_g (lw_at lw_m5 129 rfl) rfl
theorem q1172 : (Jvm.Cond.privateMethod ({ cls := "MarketDays", name := "search", desc := "(II)V" } : Jvm.MethodName)) ∈ lw_tbl := lw_at lw_m5 130 rfl
theorem q1173 : (Jvm.Cond.instanceMethod ({ cls := "MarketDays", name := "search", desc := "(II)V" } : Jvm.MethodName)) ∈ lw_all := lw_g (lw_at lw_m5 131 rfl) rfl
theorem q1174 : (Jvm.Cond.code ({ cls := "MarketDays", name := "search", desc := "(II)V" } : Jvm.MethodName) prog_1_method_40_code (4 : Nat) (Option.none : Option Jvm.ClassFile.FieldType)) ∈ lw_all := lw_g (lw_at lw_m5 132 rfl) rfl
theorem q1175 : (Jvm.Cond.methodLink "MarketDays" (317 : Nat) ({ cls := "java/util/Arrays", name := "fill", desc := "([II)V" } : Jvm.MethodName)) ∈ lw_all := lw_g (lw_at lw_m5 133 rfl) rfl
theorem q1178 : (Jvm.Cond.methodLink "MarketDays" (323 : Nat) ({ cls := "java/util/Arrays", name := "fill", desc := "([BB)V" } : Jvm.MethodName)) ∈ lw_all := lw_g (lw_at lw_m5 136 rfl) rfl
theorem q1181 : (Jvm.Cond.methodLink "MarketDays" (276 : Nat) ({ cls := "MarketDays", name := "walks", desc := "(I)Z" } : Jvm.MethodName)) ∈ lw_all := lw_g (lw_at lw_m5 139 rfl) rfl
theorem q1182 : (Jvm.Cond.privateMethod ({ cls := "MarketDays", name := "walks", desc := "(I)Z" } : Jvm.MethodName)) ∈ lw_tbl := lw_at lw_m5 140 rfl
theorem q1183 : (Jvm.Cond.instanceMethod ({ cls := "MarketDays", name := "walks", desc := "(I)Z" } : Jvm.MethodName)) ∈ lw_all := lw_g (lw_at lw_m5 141 rfl) rfl
theorem q1184 : (Jvm.Cond.code ({ cls := "MarketDays", name := "walks", desc := "(I)Z" } : Jvm.MethodName) prog_1_method_35_code (3 : Nat) (Option.some Jvm.ClassFile.FieldType.boolean)) ∈ lw_all := lw_g (lw_at lw_m5 142 rfl) rfl
theorem q1185 : (Jvm.Cond.methodLink "MarketDays" (273 : Nat) ({ cls := "MarketDays", name := "meets", desc := "()Z" } : Jvm.MethodName)) ∈ lw_all := lw_g (lw_at lw_m5 143 rfl) rfl
theorem q1186 : (Jvm.Cond.privateMethod ({ cls := "MarketDays", name := "meets", desc := "()Z" } : Jvm.MethodName)) ∈ lw_tbl := lw_at lw_m5 144 rfl
theorem q1187 : (Jvm.Cond.instanceMethod ({ cls := "MarketDays", name := "meets", desc := "()Z" } : Jvm.MethodName)) ∈ lw_all := lw_g (lw_at lw_m5 145 rfl) rfl
theorem q1188 : (Jvm.Cond.code ({ cls := "MarketDays", name := "meets", desc := "()Z" } : Jvm.MethodName) prog_1_method_36_code (3 : Nat) (Option.some Jvm.ClassFile.FieldType.boolean)) ∈ lw_all := lw_g (lw_at lw_m5 146 rfl) rfl
theorem q1189 : (Jvm.Cond.constant "MarketDays" (288 : Nat) (100000 : Int32)) ∈ lw_all := lw_g (lw_at lw_m5 147 rfl) rfl
theorem q1190 : (Jvm.Cond.methodLink "MarketDays" (289 : Nat) ({ cls := "MarketDays", name := "wholeWorth", desc := "()J" } : Jvm.MethodName)) ∈ lw_all := lw_g (lw_at lw_m5 148 rfl) rfl
theorem q1191 : (Jvm.Cond.privateMethod ({ cls := "MarketDays", name := "wholeWorth", desc := "()J" } : Jvm.MethodName)) ∈ lw_tbl := lw_at lw_m5 149 rfl
theorem q1192 : (Jvm.Cond.instanceMethod ({ cls := "MarketDays", name := "wholeWorth", desc := "()J" } : Jvm.MethodName)) ∈ lw_all := lw_g (lw_at lw_m5 150 rfl) rfl
theorem q1193 : (Jvm.Cond.code ({ cls := "MarketDays", name := "wholeWorth", desc := "()J" } : Jvm.MethodName) prog_1_method_39_code (8 : Nat) (Option.some Jvm.ClassFile.FieldType.long)) ∈ lw_all := lw_g (lw_at lw_m5 151 rfl) rfl
theorem q1194 : (Jvm.Cond.methodLink "MarketDays" (293 : Nat) ({ cls := "MarketDays", name := "moved", desc := "()I" } : Jvm.MethodName)) ∈ lw_all := lw_g (lw_at lw_m5 152 rfl) rfl
theorem q1195 : (Jvm.Cond.privateMethod ({ cls := "MarketDays", name := "moved", desc := "()I" } : Jvm.MethodName)) ∈ lw_tbl := lw_at lw_m5 153 rfl
theorem q1196 : (Jvm.Cond.instanceMethod ({ cls := "MarketDays", name := "moved", desc := "()I" } : Jvm.MethodName)) ∈ lw_all := lw_g (lw_at lw_m5 154 rfl) rfl
theorem q1197 : (Jvm.Cond.code ({ cls := "MarketDays", name := "moved", desc := "()I" } : Jvm.MethodName) prog_1_method_37_code (3 : Nat) (Option.some Jvm.ClassFile.FieldType.int)) ∈ lw_all := lw_g (lw_at lw_m5 155 rfl) rfl
theorem q1198 : (Jvm.Cond.methodLink "MarketDays" (303 : Nat) ({ cls := "java/lang/System", name := "arraycopy", desc := "(Ljava/lang/Object;ILjava/lang/Object;II)V" } : Jvm.MethodName)) ∈ lw_all := lw_g (lw_at lw_m5 156 rfl) rfl
theorem q1199 : (Jvm.Cond.methodLink "MarketDays" (279 : Nat) ({ cls := "MarketDays", name := "barsAhead", desc := "(I)Z" } : Jvm.MethodName)) ∈ lw_all := lw_g (lw_at lw_m5 157 rfl) rfl
theorem q1200 : (Jvm.Cond.privateMethod ({ cls := "MarketDays", name := "barsAhead", desc := "(I)Z" } : Jvm.MethodName)) ∈ lw_tbl := lw_at lw_m5 158 rfl
theorem q1201 : (Jvm.Cond.instanceMethod ({ cls := "MarketDays", name := "barsAhead", desc := "(I)Z" } : Jvm.MethodName)) ∈ lw_all := lw_g (lw_at lw_m5 159 rfl) rfl
theorem q1202 : (Jvm.Cond.code ({ cls := "MarketDays", name := "barsAhead", desc := "(I)Z" } : Jvm.MethodName) prog_1_method_34_code (3 : Nat) (Option.some Jvm.ClassFile.FieldType.boolean)) ∈ lw_all := lw_g (lw_at lw_m5 160 rfl) rfl
theorem q1204 : (Jvm.Cond.instanceMethod ({ cls := "MarketDays", name := "find", desc := "(II)J" } : Jvm.MethodName)) ∈ lw_all := lw_g (lw_at lw_m5 162 rfl) rfl
theorem q1205 : (Jvm.Cond.selects "MarketDays" ({ cls := "MarketDays", name := "find", desc := "(II)J" } : Jvm.MethodName) ({ cls := "MarketDays", name := "find", desc := "(II)J" } : Jvm.MethodName)) ∈ lw_all := lw_g (lw_at lw_m5 163 rfl) rfl
theorem q1206 : (Jvm.Cond.code ({ cls := "MarketDays", name := "find", desc := "(II)J" } : Jvm.MethodName) prog_1_method_43_code (3 : Nat) (Option.some Jvm.ClassFile.FieldType.long)) ∈ lw_all := lw_g (lw_at lw_m5 164 rfl) rfl
theorem q1207 : (Jvm.Cond.methodLink "MarketDays" (335 : Nat) ({ cls := "MarketDays", name := "lays", desc := "()V" } : Jvm.MethodName)) ∈ lw_all := lw_g (lw_at lw_m5 165 rfl) rfl
theorem q1208 : (Jvm.Cond.privateMethod ({ cls := "MarketDays", name := "lays", desc := "()V" } : Jvm.MethodName)) ∈ lw_tbl := lw_at lw_m5 166 rfl
theorem q1209 : (Jvm.Cond.instanceMethod ({ cls := "MarketDays", name := "lays", desc := "()V" } : Jvm.MethodName)) ∈ lw_all := lw_g (lw_at lw_m5 167 rfl) rfl
theorem q1210 : (Jvm.Cond.code ({ cls := "MarketDays", name := "lays", desc := "()V" } : Jvm.MethodName) prog_1_method_38_code (5 : Nat) (Option.none : Option Jvm.ClassFile.FieldType)) ∈ lw_all := lw_g (lw_at lw_m5 168 rfl) rfl
theorem q1211 : (Jvm.Cond.constantLong "MarketDays" (345 : Nat) (-4611686018427387903 : Int64)) ∈ lw_all := lw_g (lw_at lw_m5 169 rfl) rfl
theorem q1213 : (Jvm.Cond.instanceMethod ({ cls := "MarketDays", name := "foundDay", desc := "(I)I" } : Jvm.MethodName)) ∈ lw_all := lw_g (lw_at lw_m5 171 rfl) rfl
theorem q1214 : (Jvm.Cond.selects "MarketDays" ({ cls := "MarketDays", name := "foundDay", desc := "(I)I" } : Jvm.MethodName) ({ cls := "MarketDays", name := "foundDay", desc := "(I)I" } : Jvm.MethodName)) ∈ lw_all := lw_g (lw_at lw_m5 172 rfl) rfl
theorem q1215 : (Jvm.Cond.code ({ cls := "MarketDays", name := "foundDay", desc := "(I)I" } : Jvm.MethodName) prog_1_method_44_code (2 : Nat) (Option.some Jvm.ClassFile.FieldType.int)) ∈ lw_all := lw_g (lw_at lw_m5 173 rfl) rfl
theorem q1217 : (Jvm.Cond.instanceMethod ({ cls := "MarketDays", name := "least", desc := "()I" } : Jvm.MethodName)) ∈ lw_all := lw_g (lw_at lw_m5 175 rfl) rfl
theorem q1218 : (Jvm.Cond.selects "MarketDays" ({ cls := "MarketDays", name := "least", desc := "()I" } : Jvm.MethodName) ({ cls := "MarketDays", name := "least", desc := "()I" } : Jvm.MethodName)) ∈ lw_all := lw_g (lw_at lw_m5 176 rfl) rfl
theorem q1219 : (Jvm.Cond.codeWith ({ cls := "MarketDays", name := "least", desc := "()I" } : Jvm.MethodName) prog_1_method_45_code (5 : Nat) (Option.some Jvm.ClassFile.FieldType.int) [((7 : Nat), (50 : Nat), (58 : Nat), (0 : Nat)), ((58 : Nat), (60 : Nat), (58 : Nat), (0 : Nat))]) ∈ lw_all := lw_g (lw_at lw_m5 177 rfl) rfl
theorem q1221 : (Jvm.Cond.instanceMethod ({ cls := "MarketDays", name := "knot", desc := "()I" } : Jvm.MethodName)) ∈ lw_all := lw_g (lw_at lw_m5 179 rfl) rfl
theorem q1222 : (Jvm.Cond.selects "MarketDays" ({ cls := "MarketDays", name := "knot", desc := "()I" } : Jvm.MethodName) ({ cls := "MarketDays", name := "knot", desc := "()I" } : Jvm.MethodName)) ∈ lw_all := lw_g (lw_at lw_m5 180 rfl) rfl
theorem q1223 : (Jvm.Cond.code ({ cls := "MarketDays", name := "knot", desc := "()I" } : Jvm.MethodName) prog_1_method_46_code (3 : Nat) (Option.some Jvm.ClassFile.FieldType.int)) ∈ lw_all := lw_g (lw_at lw_m5 181 rfl) rfl
theorem q1224 : (Jvm.Cond.methodLink "MarketDays" (347 : Nat) ({ cls := "java/lang/Integer", name := "bitCount", desc := "(I)I" } : Jvm.MethodName)) ∈ lw_all := lw_g (lw_at lw_m5 182 rfl) rfl
theorem q1231 : (Jvm.Cond.instanceMethod ({ cls := "MarketDays", name := "room", desc := "(III)I" } : Jvm.MethodName)) ∈ lw_all := lw_g (lw_at lw_m5 189 rfl) rfl
theorem q1232 : (Jvm.Cond.selects "MarketDays" ({ cls := "MarketDays", name := "room", desc := "(III)I" } : Jvm.MethodName) ({ cls := "MarketDays", name := "room", desc := "(III)I" } : Jvm.MethodName)) ∈ lw_all := lw_g (lw_at lw_m5 190 rfl) rfl
theorem q1233 : (Jvm.Cond.code ({ cls := "MarketDays", name := "room", desc := "(III)I" } : Jvm.MethodName) prog_1_method_47_code (8 : Nat) (Option.some Jvm.ClassFile.FieldType.int)) ∈ lw_all := lw_g (lw_at lw_m5 191 rfl) rfl
theorem q1235 : (Jvm.Cond.instanceMethod ({ cls := "MarketDays", name := "hurt", desc := "(III)J" } : Jvm.MethodName)) ∈ lw_all := lw_g (lw_at lw_m5 193 rfl) rfl
theorem q1236 : (Jvm.Cond.selects "MarketDays" ({ cls := "MarketDays", name := "hurt", desc := "(III)J" } : Jvm.MethodName) ({ cls := "MarketDays", name := "hurt", desc := "(III)J" } : Jvm.MethodName)) ∈ lw_all := lw_g (lw_at lw_m5 194 rfl) rfl
theorem q1237 : (Jvm.Cond.code ({ cls := "MarketDays", name := "hurt", desc := "(III)J" } : Jvm.MethodName) prog_1_method_48_code (10 : Nat) (Option.some Jvm.ClassFile.FieldType.long)) ∈ lw_all := lw_g (lw_at lw_m5 195 rfl) rfl
theorem q1239 : (Jvm.Cond.instanceMethod ({ cls := "MarketDays", name := "round", desc := "(IIIII)I" } : Jvm.MethodName)) ∈ lw_all := lw_g (lw_at lw_m5 197 rfl) rfl
theorem q1240 : (Jvm.Cond.selects "MarketDays" ({ cls := "MarketDays", name := "round", desc := "(IIIII)I" } : Jvm.MethodName) ({ cls := "MarketDays", name := "round", desc := "(IIIII)I" } : Jvm.MethodName)) ∈ lw_all := lw_g (lw_at lw_m5 198 rfl) rfl
theorem q1241 : (Jvm.Cond.code ({ cls := "MarketDays", name := "round", desc := "(IIIII)I" } : Jvm.MethodName) prog_1_method_54_code (10 : Nat) (Option.some Jvm.ClassFile.FieldType.int)) ∈ lw_all := lw_g (lw_at lw_m5 199 rfl) rfl
theorem q1242 : (Jvm.Cond.methodLink "MarketDays" (363 : Nat) ({ cls := "MarketDays", name := "isRound", desc := "(IIIII)Z" } : Jvm.MethodName)) ∈ lw_all := lw_g (lw_at lw_m5 200 rfl) rfl
theorem q1243 : (Jvm.Cond.privateMethod ({ cls := "MarketDays", name := "isRound", desc := "(IIIII)Z" } : Jvm.MethodName)) ∈ lw_tbl := lw_at lw_m5 201 rfl
theorem q1244 : (Jvm.Cond.instanceMethod ({ cls := "MarketDays", name := "isRound", desc := "(IIIII)Z" } : Jvm.MethodName)) ∈ lw_all := lw_g (lw_at lw_m5 202 rfl) rfl
theorem q1245 : (Jvm.Cond.code ({ cls := "MarketDays", name := "isRound", desc := "(IIIII)Z" } : Jvm.MethodName) prog_1_method_53_code (6 : Nat) (Option.some Jvm.ClassFile.FieldType.boolean)) ∈ lw_all := lw_g (lw_at lw_m5 203 rfl) rfl
theorem q1246 : (Jvm.Cond.constantLong "MarketDays" (361 : Nat) (40 : Int64)) ∈ lw_all := lw_g (lw_at lw_m5 204 rfl) rfl
theorem q1247 : (Jvm.Cond.methodLink "MarketDays" (367 : Nat) ({ cls := "MarketDays", name := "rounds", desc := "(III)V" } : Jvm.MethodName)) ∈ lw_all := lw_g (lw_at lw_m5 205 rfl) rfl
theorem q1248 : (Jvm.Cond.privateMethod ({ cls := "MarketDays", name := "rounds", desc := "(III)V" } : Jvm.MethodName)) ∈ lw_tbl := lw_at lw_m5 206 rfl
theorem q1249 : (Jvm.Cond.instanceMethod ({ cls := "MarketDays", name := "rounds", desc := "(III)V" } : Jvm.MethodName)) ∈ lw_all := lw_g (lw_at lw_m5 207 rfl) rfl
theorem q1250 : (Jvm.Cond.code ({ cls := "MarketDays", name := "rounds", desc := "(III)V" } : Jvm.MethodName) prog_1_method_51_code (7 : Nat) (Option.none : Option Jvm.ClassFile.FieldType)) ∈ lw_all := lw_g (lw_at lw_m5 208 rfl) rfl
theorem q1251 : (Jvm.Cond.methodLink "MarketDays" (352 : Nat) ({ cls := "MarketDays", name := "best", desc := "(IIII)I" } : Jvm.MethodName)) ∈ lw_all := lw_g (lw_at lw_m5 209 rfl) rfl
theorem q1252 : (Jvm.Cond.privateMethod ({ cls := "MarketDays", name := "best", desc := "(IIII)I" } : Jvm.MethodName)) ∈ lw_tbl := lw_at lw_m5 210 rfl
theorem q1253 : (Jvm.Cond.instanceMethod ({ cls := "MarketDays", name := "best", desc := "(IIII)I" } : Jvm.MethodName)) ∈ lw_all := lw_g (lw_at lw_m5 211 rfl) rfl
theorem q1254 : (Jvm.Cond.code ({ cls := "MarketDays", name := "best", desc := "(IIII)I" } : Jvm.MethodName) prog_1_method_52_code (9 : Nat) (Option.some Jvm.ClassFile.FieldType.int)) ∈ lw_all := lw_g (lw_at lw_m5 212 rfl) rfl
theorem q1255 : (Jvm.Cond.methodLink "MarketDays" (355 : Nat) ({ cls := "MarketDays", name := "sells", desc := "(III)I" } : Jvm.MethodName)) ∈ lw_all := lw_g (lw_at lw_m5 213 rfl) rfl
theorem q1256 : (Jvm.Cond.privateMethod ({ cls := "MarketDays", name := "sells", desc := "(III)I" } : Jvm.MethodName)) ∈ lw_tbl := lw_at lw_m5 214 rfl
theorem q1257 : (Jvm.Cond.instanceMethod ({ cls := "MarketDays", name := "sells", desc := "(III)I" } : Jvm.MethodName)) ∈ lw_all := lw_g (lw_at lw_m5 215 rfl) rfl
theorem q1258 : (Jvm.Cond.code ({ cls := "MarketDays", name := "sells", desc := "(III)I" } : Jvm.MethodName) prog_1_method_49_code (4 : Nat) (Option.some Jvm.ClassFile.FieldType.int)) ∈ lw_all := lw_g (lw_at lw_m5 216 rfl) rfl
theorem q1259 : (Jvm.Cond.methodLink "MarketDays" (358 : Nat) ({ cls := "MarketDays", name := "most", desc := "(III)I" } : Jvm.MethodName)) ∈ lw_all := lw_g (lw_at lw_m5 217 rfl) rfl
theorem q1260 : (Jvm.Cond.privateMethod ({ cls := "MarketDays", name := "most", desc := "(III)I" } : Jvm.MethodName)) ∈ lw_tbl := lw_at lw_m5 218 rfl
theorem q1261 : (Jvm.Cond.instanceMethod ({ cls := "MarketDays", name := "most", desc := "(III)I" } : Jvm.MethodName)) ∈ lw_all := lw_g (lw_at lw_m5 219 rfl) rfl
theorem q1262 : (Jvm.Cond.code ({ cls := "MarketDays", name := "most", desc := "(III)I" } : Jvm.MethodName) prog_1_method_50_code (4 : Nat) (Option.some Jvm.ClassFile.FieldType.int)) ∈ lw_all := lw_g (lw_at lw_m5 220 rfl) rfl
theorem q1264 : (Jvm.Cond.instanceMethod ({ cls := "MarketDays", name := "roundTold", desc := "(I)I" } : Jvm.MethodName)) ∈ lw_all := lw_g (lw_at lw_m5 222 rfl) rfl
theorem q1265 : (Jvm.Cond.selects "MarketDays" ({ cls := "MarketDays", name := "roundTold", desc := "(I)I" } : Jvm.MethodName) ({ cls := "MarketDays", name := "roundTold", desc := "(I)I" } : Jvm.MethodName)) ∈ lw_all := lw_g (lw_at lw_m5 223 rfl) rfl
theorem q1266 : (Jvm.Cond.code ({ cls := "MarketDays", name := "roundTold", desc := "(I)I" } : Jvm.MethodName) prog_1_method_55_code (2 : Nat) (Option.some Jvm.ClassFile.FieldType.int)) ∈ lw_all := lw_g (lw_at lw_m5 224 rfl) rfl
theorem q1268 : (Jvm.Cond.instanceMethod ({ cls := "MarketDays", name := "walk", desc := "(IIIII)I" } : Jvm.MethodName)) ∈ lw_all := lw_g (lw_at lw_m5 226 rfl) rfl
theorem q1269 : (Jvm.Cond.selects "MarketDays" ({ cls := "MarketDays", name := "walk", desc := "(IIIII)I" } : Jvm.MethodName) ({ cls := "MarketDays", name := "walk", desc := "(IIIII)I" } : Jvm.MethodName)) ∈ lw_all := lw_g (lw_at lw_m5 227 rfl) rfl
theorem q1270 : (Jvm.Cond.code ({ cls := "MarketDays", name := "walk", desc := "(IIIII)I" } : Jvm.MethodName) prog_1_method_56_code (11 : Nat) (Option.some Jvm.ClassFile.FieldType.int)) ∈ lw_all := lw_g (lw_at lw_m5 228 rfl) rfl
theorem q1272 : (Jvm.Cond.instanceMethod ({ cls := "MarketDays", name := "givingTold", desc := "(II)I" } : Jvm.MethodName)) ∈ lw_all := lw_g (lw_at lw_m5 230 rfl) rfl
theorem q1273 : (Jvm.Cond.selects "MarketDays" ({ cls := "MarketDays", name := "givingTold", desc := "(II)I" } : Jvm.MethodName) ({ cls := "MarketDays", name := "givingTold", desc := "(II)I" } : Jvm.MethodName)) ∈ lw_all := lw_g (lw_at lw_m5 231 rfl) rfl
theorem q1274 : (Jvm.Cond.code ({ cls := "MarketDays", name := "givingTold", desc := "(II)I" } : Jvm.MethodName) prog_1_method_57_code (4 : Nat) (Option.some Jvm.ClassFile.FieldType.int)) ∈ lw_all := lw_g (lw_at lw_m5 232 rfl) rfl
theorem q1275 : (Jvm.Cond.methodLink "MarketDays" (374 : Nat) ({ cls := "MarketDays$Giving", name := "kind", desc := "()I" } : Jvm.MethodName)) ∈ lw_all := lw_g (lw_at lw_m5 233 rfl) rfl
theorem q1298 : (Jvm.Cond.instanceMethod ({ cls := "MarketDays", name := "count", desc := "(I)I" } : Jvm.MethodName)) ∈ lw_all := lw_g (lw_at lw_m6 16 rfl) rfl
theorem q1299 : (Jvm.Cond.selects "MarketDays" ({ cls := "MarketDays", name := "count", desc := "(I)I" } : Jvm.MethodName) ({ cls := "MarketDays", name := "count", desc := "(I)I" } : Jvm.MethodName)) ∈ lw_all := lw_g (lw_at lw_m6 17 rfl) rfl
theorem q1300 : (Jvm.Cond.code ({ cls := "MarketDays", name := "count", desc := "(I)I" } : Jvm.MethodName) prog_1_method_58_code (2 : Nat) (Option.some Jvm.ClassFile.FieldType.int)) ∈ lw_all := lw_g (lw_at lw_m6 18 rfl) rfl
theorem q1302 : (Jvm.Cond.instanceMethod ({ cls := "MarketDays", name := "image", desc := "()I" } : Jvm.MethodName)) ∈ lw_all := lw_g (lw_at lw_m6 20 rfl) rfl
theorem q1303 : (Jvm.Cond.selects "MarketDays" ({ cls := "MarketDays", name := "image", desc := "()I" } : Jvm.MethodName) ({ cls := "MarketDays", name := "image", desc := "()I" } : Jvm.MethodName)) ∈ lw_all := lw_g (lw_at lw_m6 21 rfl) rfl
theorem q1304 : (Jvm.Cond.code ({ cls := "MarketDays", name := "image", desc := "()I" } : Jvm.MethodName) prog_1_method_59_code (1 : Nat) (Option.some Jvm.ClassFile.FieldType.int)) ∈ lw_all := lw_g (lw_at lw_m6 22 rfl) rfl
theorem q1306 : (Jvm.Cond.instanceMethod ({ cls := "MarketDays", name := "back", desc := "()I" } : Jvm.MethodName)) ∈ lw_all := lw_g (lw_at lw_m6 24 rfl) rfl
theorem q1307 : (Jvm.Cond.selects "MarketDays" ({ cls := "MarketDays", name := "back", desc := "()I" } : Jvm.MethodName) ({ cls := "MarketDays", name := "back", desc := "()I" } : Jvm.MethodName)) ∈ lw_all := lw_g (lw_at lw_m6 25 rfl) rfl
theorem q1308 : (Jvm.Cond.code ({ cls := "MarketDays", name := "back", desc := "()I" } : Jvm.MethodName) prog_1_method_60_code (3 : Nat) (Option.some Jvm.ClassFile.FieldType.int)) ∈ lw_all := lw_g (lw_at lw_m6 26 rfl) rfl
theorem q1310 : (Jvm.Cond.instanceMethod ({ cls := "MarketDays", name := "feed", desc := "(JI)I" } : Jvm.MethodName)) ∈ lw_all := lw_g (lw_at lw_m6 28 rfl) rfl
theorem q1311 : (Jvm.Cond.selects "MarketDays" ({ cls := "MarketDays", name := "feed", desc := "(JI)I" } : Jvm.MethodName) ({ cls := "MarketDays", name := "feed", desc := "(JI)I" } : Jvm.MethodName)) ∈ lw_all := lw_g (lw_at lw_m6 29 rfl) rfl
theorem q1312 : (Jvm.Cond.code ({ cls := "MarketDays", name := "feed", desc := "(JI)I" } : Jvm.MethodName) prog_1_method_62_code (5 : Nat) (Option.some Jvm.ClassFile.FieldType.int)) ∈ lw_all := lw_g (lw_at lw_m6 30 rfl) rfl
theorem q1313 : (Jvm.Cond.constantLong "MarketDays" (407 : Nat) (8 : Int64)) ∈ lw_all := lw_g (lw_at lw_m6 31 rfl) rfl
theorem q1315 : (Jvm.Cond.instanceMethod ({ cls := "MarketDays", name := "text", desc := "()I" } : Jvm.MethodName)) ∈ lw_all := lw_g (lw_at lw_m6 33 rfl) rfl
theorem q1316 : (Jvm.Cond.selects "MarketDays" ({ cls := "MarketDays", name := "text", desc := "()I" } : Jvm.MethodName) ({ cls := "MarketDays", name := "text", desc := "()I" } : Jvm.MethodName)) ∈ lw_all := lw_g (lw_at lw_m6 34 rfl) rfl
theorem q1317 : (Jvm.Cond.codeWith ({ cls := "MarketDays", name := "text", desc := "()I" } : Jvm.MethodName) prog_1_method_63_code (4 : Nat) (Option.some Jvm.ClassFile.FieldType.int) [((12 : Nat), (39 : Nat), (47 : Nat), (409 : Nat)), ((12 : Nat), (39 : Nat), (63 : Nat), (0 : Nat)), ((47 : Nat), (56 : Nat), (63 : Nat), (0 : Nat))]) ∈ lw_all := lw_g (lw_at lw_m6 35 rfl) rfl
theorem q1318 : (Jvm.Cond.classLink "MarketDays" (409 : Nat) "MarketDays$Fault") ∈ lw_all := lw_g (lw_at lw_m6 36 rfl) rfl
theorem q1320 : (Jvm.Cond.instanceMethod ({ cls := "MarketDays", name := "force", desc := "(I)I" } : Jvm.MethodName)) ∈ lw_all := lw_g (lw_at lw_m6 38 rfl) rfl
theorem q1321 : (Jvm.Cond.selects "MarketDays" ({ cls := "MarketDays", name := "force", desc := "(I)I" } : Jvm.MethodName) ({ cls := "MarketDays", name := "force", desc := "(I)I" } : Jvm.MethodName)) ∈ lw_all := lw_g (lw_at lw_m6 39 rfl) rfl
theorem q1322 : (Jvm.Cond.code ({ cls := "MarketDays", name := "force", desc := "(I)I" } : Jvm.MethodName) prog_1_method_64_code (3 : Nat) (Option.some Jvm.ClassFile.FieldType.int)) ∈ lw_all := lw_g (lw_at lw_m6 40 rfl) rfl
theorem q1324 : (Jvm.Cond.instanceMethod ({ cls := "MarketDays", name := "sheet", desc := "(III)I" } : Jvm.MethodName)) ∈ lw_all := lw_g (lw_at lw_m6 42 rfl) rfl
theorem q1325 : (Jvm.Cond.selects "MarketDays" ({ cls := "MarketDays", name := "sheet", desc := "(III)I" } : Jvm.MethodName) ({ cls := "MarketDays", name := "sheet", desc := "(III)I" } : Jvm.MethodName)) ∈ lw_all := lw_g (lw_at lw_m6 43 rfl) rfl
theorem q1326 : (Jvm.Cond.code ({ cls := "MarketDays", name := "sheet", desc := "(III)I" } : Jvm.MethodName) prog_1_method_68_code (4 : Nat) (Option.some Jvm.ClassFile.FieldType.int)) ∈ lw_all := lw_g (lw_at lw_m6 44 rfl) rfl
theorem q1328 : (Jvm.Cond.instanceMethod ({ cls := "MarketDays", name := "cell", desc := "(III)I" } : Jvm.MethodName)) ∈ lw_all := lw_g (lw_at lw_m6 46 rfl) rfl
theorem q1329 : (Jvm.Cond.selects "MarketDays" ({ cls := "MarketDays", name := "cell", desc := "(III)I" } : Jvm.MethodName) ({ cls := "MarketDays", name := "cell", desc := "(III)I" } : Jvm.MethodName)) ∈ lw_all := lw_g (lw_at lw_m6 47 rfl) rfl
theorem q1330 : (Jvm.Cond.codeWith ({ cls := "MarketDays", name := "cell", desc := "(III)I" } : Jvm.MethodName) prog_1_method_69_code (5 : Nat) (Option.some Jvm.ClassFile.FieldType.int) [((10 : Nat), (44 : Nat), (45 : Nat), (414 : Nat))]) ∈ lw_all := lw_g (lw_at lw_m6 48 rfl) rfl
theorem q1331 : (Jvm.Cond.classLink "MarketDays" (414 : Nat) "MarketDays$Odd") ∈ lw_all := lw_g (lw_at lw_m6 49 rfl) rfl
theorem q1332 : (Jvm.Cond.methodLink "MarketDays" (419 : Nat) ({ cls := "MarketDays", name := "there", desc := "(I)LMarketDays$Sheet;" } : Jvm.MethodName)) ∈ lw_all := lw_g (lw_at lw_m6 50 rfl) rfl
theorem q1333 : (Jvm.Cond.privateMethod ({ cls := "MarketDays", name := "there", desc := "(I)LMarketDays$Sheet;" } : Jvm.MethodName)) ∈ lw_tbl := lw_at lw_m6 51 rfl
theorem q1334 : (Jvm.Cond.instanceMethod ({ cls := "MarketDays", name := "there", desc := "(I)LMarketDays$Sheet;" } : Jvm.MethodName)) ∈ lw_all := lw_g (lw_at lw_m6 52 rfl) rfl
theorem q1335 : (Jvm.Cond.code ({ cls := "MarketDays", name := "there", desc := "(I)LMarketDays$Sheet;" } : Jvm.MethodName) prog_1_method_66_code (2 : Nat) (Option.some (Jvm.ClassFile.FieldType.object "MarketDays$Sheet"))) ∈ lw_all := lw_g (lw_at lw_m6 53 rfl) rfl
theorem q1344 : (Jvm.Cond.methodLink "MarketDays" (416 : Nat) ({ cls := "MarketDays$Odd", name := "<init>", desc := "(I)V" } : Jvm.MethodName)) ∈ lw_all := lw_g (lw_at lw_m6 62 rfl) rfl
theorem q1349 : (Jvm.Cond.fieldLink "MarketDays" (430 : Nat) "MarketDays$Odd" "code" "I") ∈ lw_all := lw_g (lw_at lw_m6 67 rfl) rfl
theorem q1354 : (Jvm.Cond.methodLink "MarketDays" (423 : Nat) ({ cls := "MarketDays", name := "need", desc := "(ZI)V" } : Jvm.MethodName)) ∈ lw_all := lw_g (lw_at lw_m6 72 rfl) rfl
theorem q1355 : (Jvm.Cond.static ({ cls := "MarketDays", name := "need", desc := "(ZI)V" } : Jvm.MethodName)) ∈ lw_all := lw_g (lw_at lw_m6 73 rfl) rfl
theorem q1356 : (Jvm.Cond.code ({ cls := "MarketDays", name := "need", desc := "(ZI)V" } : Jvm.MethodName) prog_1_method_67_code (2 : Nat) (Option.none : Option Jvm.ClassFile.FieldType)) ∈ lw_all := lw_g (lw_at lw_m6 74 rfl) rfl
theorem q1357 : (Jvm.Cond.methodLink "MarketDays" (427 : Nat) ({ cls := "MarketDays$Sheet", name := "put", desc := "(II)V" } : Jvm.MethodName)) ∈ lw_all := lw_g (lw_at lw_m6 75 rfl) rfl
theorem q1362 : (Jvm.Cond.instanceMethod ({ cls := "MarketDays", name := "copy", desc := "(IIIII)I" } : Jvm.MethodName)) ∈ lw_all := lw_g (lw_at lw_m6 80 rfl) rfl
theorem q1363 : (Jvm.Cond.selects "MarketDays" ({ cls := "MarketDays", name := "copy", desc := "(IIIII)I" } : Jvm.MethodName) ({ cls := "MarketDays", name := "copy", desc := "(IIIII)I" } : Jvm.MethodName)) ∈ lw_all := lw_g (lw_at lw_m6 81 rfl) rfl
theorem q1364 : (Jvm.Cond.codeWith ({ cls := "MarketDays", name := "copy", desc := "(IIIII)I" } : Jvm.MethodName) prog_1_method_70_code (8 : Nat) (Option.some Jvm.ClassFile.FieldType.int) [((17 : Nat), (123 : Nat), (124 : Nat), (414 : Nat))]) ∈ lw_all := lw_g (lw_at lw_m6 82 rfl) rfl
theorem q1366 : (Jvm.Cond.instanceMethod ({ cls := "MarketDays", name := "roads", desc := "(IIII)I" } : Jvm.MethodName)) ∈ lw_all := lw_g (lw_at lw_m6 84 rfl) rfl
theorem q1367 : (Jvm.Cond.selects "MarketDays" ({ cls := "MarketDays", name := "roads", desc := "(IIII)I" } : Jvm.MethodName) ({ cls := "MarketDays", name := "roads", desc := "(IIII)I" } : Jvm.MethodName)) ∈ lw_all := lw_g (lw_at lw_m6 85 rfl) rfl
theorem q1368 : (Jvm.Cond.codeWith ({ cls := "MarketDays", name := "roads", desc := "(IIII)I" } : Jvm.MethodName) prog_1_method_71_code (9 : Nat) (Option.some Jvm.ClassFile.FieldType.int) [((38 : Nat), (158 : Nat), (159 : Nat), (414 : Nat))]) ∈ lw_all := lw_g (lw_at lw_m6 86 rfl) rfl
theorem q1369 : (Jvm.Cond.constantLong "MarketDays" (433 : Nat) (13 : Int64)) ∈ lw_all := lw_g (lw_at lw_m6 87 rfl) rfl
theorem q1370 : (Jvm.Cond.methodLink "MarketDays" (435 : Nat) ({ cls := "MarketDays", name := "road", desc := "(III)I" } : Jvm.MethodName)) ∈ lw_all := lw_g (lw_at lw_m6 88 rfl) rfl
theorem q1372 : (Jvm.Cond.instanceMethod ({ cls := "MarketDays", name := "taken", desc := "(II)I" } : Jvm.MethodName)) ∈ lw_all := lw_g (lw_at lw_m6 90 rfl) rfl
theorem q1373 : (Jvm.Cond.selects "MarketDays" ({ cls := "MarketDays", name := "taken", desc := "(II)I" } : Jvm.MethodName) ({ cls := "MarketDays", name := "taken", desc := "(II)I" } : Jvm.MethodName)) ∈ lw_all := lw_g (lw_at lw_m6 91 rfl) rfl
theorem q1374 : (Jvm.Cond.codeWith ({ cls := "MarketDays", name := "taken", desc := "(II)I" } : Jvm.MethodName) prog_1_method_72_code (5 : Nat) (Option.some Jvm.ClassFile.FieldType.int) [((15 : Nat), (103 : Nat), (127 : Nat), (414 : Nat)), ((104 : Nat), (126 : Nat), (127 : Nat), (414 : Nat))]) ∈ lw_all := lw_g (lw_at lw_m6 92 rfl) rfl
theorem q1375 : (Jvm.Cond.constantLong "MarketDays" (437 : Nat) (17 : Int64)) ∈ lw_all := lw_g (lw_at lw_m6 93 rfl) rfl
theorem q1376 : (Jvm.Cond.classLink "MarketDays" (439 : Nat) "MarketDays$Slot") ∈ lw_all := lw_g (lw_at lw_m6 94 rfl) rfl
theorem q1378 : (Jvm.Cond.methodLink "MarketDays" (441 : Nat) ({ cls := "java/lang/Integer", name := "valueOf", desc := "(I)Ljava/lang/Integer;" } : Jvm.MethodName)) ∈ lw_all := lw_g (lw_at lw_m6 96 rfl) rfl
theorem q1398 : (Jvm.Cond.methodLink "MarketDays" (445 : Nat) ({ cls := "MarketDays$Slot", name := "<init>", desc := "(Ljava/lang/Object;)V" } : Jvm.MethodName)) ∈ lw_all := lw_g (lw_at lw_m6 116 rfl) rfl
theorem q1406 : (Jvm.Cond.methodLink "MarketDays" (448 : Nat) ({ cls := "MarketDays$Slot", name := "town", desc := "()I" } : Jvm.MethodName)) ∈ lw_all := lw_g (lw_at lw_m6 124 rfl) rfl
theorem q1417 : (Jvm.Cond.methodLink "MarketDays" (451 : Nat) ({ cls := "MarketDays$Slot", name := "giving", desc := "()LMarketDays$Giving;" } : Jvm.MethodName)) ∈ lw_all := lw_g (lw_at lw_m6 135 rfl) rfl
theorem q1422 : (Jvm.Cond.methodLink "MarketDays" (455 : Nat) ({ cls := "MarketDays", name := "isUnder", desc := "(LMarketDays$Giving;I)Z" } : Jvm.MethodName)) ∈ lw_all := lw_g (lw_at lw_m6 140 rfl) rfl
theorem q1423 : (Jvm.Cond.static ({ cls := "MarketDays", name := "isUnder", desc := "(LMarketDays$Giving;I)Z" } : Jvm.MethodName)) ∈ lw_all := lw_g (lw_at lw_m6 141 rfl) rfl
theorem q1424 : (Jvm.Cond.code ({ cls := "MarketDays", name := "isUnder", desc := "(LMarketDays$Giving;I)Z" } : Jvm.MethodName) prog_1_method_3_code (2 : Nat) (Option.some Jvm.ClassFile.FieldType.boolean)) ∈ lw_all := lw_g (lw_at lw_m6 142 rfl) rfl
theorem q1957 : (Jvm.Cond.castable "MarketDays" "java/lang/Object") ∈ lw_tbl := lw_at lw_m8 195 rfl
theorem q1988 : (Jvm.Cond.stringRef "MarketDays" (459 : Nat) "near") ∈ lw_tbl := lw_at lw_m8 226 rfl
theorem q1989 : (Jvm.Cond.stringRef "MarketDays" (460 : Nat) "worth") ∈ lw_tbl := lw_at lw_m8 227 rfl
theorem q1991 : (Jvm.Cond.stringRef "MarketDays" (465 : Nat) "hours") ∈ lw_tbl := lw_at lw_m8 229 rfl
theorem q1992 : (Jvm.Cond.stringRef "MarketDays" (467 : Nat) "size") ∈ lw_tbl := lw_at lw_m8 230 rfl
theorem q1993 : (Jvm.Cond.stringRef "MarketDays" (468 : Nat) "other") ∈ lw_tbl := lw_at lw_m8 231 rfl
theorem q1994 : (Jvm.Cond.stringRef "MarketDays" (470 : Nat) "day") ∈ lw_tbl := lw_at lw_m8 232 rfl
theorem q1995 : (Jvm.Cond.stringRef "MarketDays" (471 : Nat) "want") ∈ lw_tbl := lw_at lw_m8 233 rfl
theorem q1996 : (Jvm.Cond.stringRef "MarketDays" (473 : Nat) "week") ∈ lw_tbl := lw_at lw_m8 234 rfl
theorem in_X0 : ∀ w ∈ wsX00, w ∈ lw_all := lw_in wsX00 [709, 711, 713, 715, 717, 719, 721, 723, 725, 727, 729, 731, 733, 735, 737, 739, 741, 743, 745, 747, 749, 751, 753, 755, 757, 759, 761, 763, 765, 767, 769, 771, 773, 775, 777, 779, 781, 783, 785, 787, 789, 791, 793] (by decide +kernel) (by decide +kernel)
