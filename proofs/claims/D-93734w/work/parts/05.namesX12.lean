/-! DownRopeModel -/
set_option maxRecDepth 100000
def RX12 : String := "DownRopeModel"
def TX12 : u_T := fun k => match k with
  | 0 => ("DownRopeModel", "ledges", "I", false)
  | 1 => ("DownRopeModel", "rooms", "[I", true)
  | 2 => ("DownRopeModel", "holds", "[I", true)
  | 3 => ("DownRopeModel", "feet", "[I", true)
  | 4 => ("DownRopeModel", "climbs", "[Z", true)
  | 5 => ("DownRopeModel", "people", "I", false)
  | 6 => ("DownRopeModel", "sorts", "[I", true)
  | 7 => ("DownRopeModel", "ropes", "I", false)
  | 8 => ("DownRopeModel", "lengths", "[I", true)
  | 9 => ("DownRopeModel", "places", "[I", true)
  | 10 => ("DownRopeModel", "ropeAt", "[I", true)
  | 11 => ("DownRopeModel", "caught", "I", false)
  | 12 => ("DownRopeModel", "dusk", "I", false)
  | 13 => ("DownRopeModel", "minutes", "I", false)
  | 14 => ("DownRopeModel", "thrown", "I", false)
  | 15 => ("DownRopeModel", "base", "I", false)
  | 16 => ("DownRopeModel", "end", "I", false)
  | 17 => ("DownRopeModel", "at", "I", false)
  | 18 => ("DownRopeModel", "isBad", "Z", false)
  | 19 => ("DownRopeModel", "statements", "I", false)
  | 20 => ("DownRopeModel", "placeOf", "[I", true)
  | 21 => ("DownRopeModel", "letterOf", "[I", true)
  | 22 => ("DownRopeModel", "one", "[I", true)
  | 23 => ("DownRopeModel", "two", "[I", true)
  | 24 => ("DownRopeModel", "three", "[Z", true)
  | 25 => ("DownRopeModel", "savedFeet", "[I", true)
  | 26 => ("DownRopeModel", "savedClimbs", "[Z", true)
  | 27 => ("DownRopeModel", "where", "[I", true)
  | 28 => ("DownRopeModel", "ropeWhere", "[I", true)
  | 29 => ("DownRopeModel", "moveAt", "[I", true)
  | 30 => ("DownRopeModel", "moveMany", "I", false)
  | 31 => ("DownRopeModel", "soon", "[I", true)
  | 32 => ("DownRopeModel", "reached", "[I", true)
  | 33 => ("DownRopeModel", "reachedMany", "I", false)
  | 34 => ("DownRopeModel", "waiting", "[I", true)
  | 35 => ("DownRopeModel", "waits", "[Z", true)
  | 36 => ("DownRopeModel", "isSought", "Z", false)
  | 37 => ("DownRopeModel", "isLed", "Z", false)
  | 38 => ("DownRopeModel", "onWay", "[Z", true)
  | 39 => ("DownRopeModel", "leads", "[Z", true)
  | 40 => ("DownRopeModel", "seen", "[Z", true)
  | 41 => ("DownRopeModel", "chances", "[I", true)
  | 42 => ("DownRopeModel", "hasImage", "Z", false)
  | 43 => ("DownRopeModel", "imaged", "[I", true)
  | 44 => ("DownRopeModel", "imageAt", "I", false)
  | 45 => ("DownRopeModel", "isTaking", "Z", false)
  | 46 => ("DownRopeModel", "holdsWhat", "[I", true)
  | 47 => ("DownRopeModel", "moveOn", "[I", true)
  | 48 => ("DownRopeModel", "rowSort", "[I", true)
  | 49 => ("DownRopeModel", "rowMany", "[I", true)
  | 50 => ("DownRopeModel", "rows", "[J", true)
  | _ => ("DownRopeModel", "between", "[J", true)
def tyX12 : Nat → FieldType := fun k => match k with
  | 0 => .int
  | 1 => .array .int
  | 2 => .array .int
  | 3 => .array .int
  | 4 => .array .boolean
  | 5 => .int
  | 6 => .array .int
  | 7 => .int
  | 8 => .array .int
  | 9 => .array .int
  | 10 => .array .int
  | 11 => .int
  | 12 => .int
  | 13 => .int
  | 14 => .int
  | 15 => .int
  | 16 => .int
  | 17 => .int
  | 18 => .boolean
  | 19 => .int
  | 20 => .array .int
  | 21 => .array .int
  | 22 => .array .int
  | 23 => .array .int
  | 24 => .array .boolean
  | 25 => .array .int
  | 26 => .array .boolean
  | 27 => .array .int
  | 28 => .array .int
  | 29 => .array .int
  | 30 => .int
  | 31 => .array .int
  | 32 => .array .int
  | 33 => .int
  | 34 => .array .int
  | 35 => .array .boolean
  | 36 => .boolean
  | 37 => .boolean
  | 38 => .array .boolean
  | 39 => .array .boolean
  | 40 => .array .boolean
  | 41 => .array .int
  | 42 => .boolean
  | 43 => .array .int
  | 44 => .int
  | 45 => .boolean
  | 46 => .array .int
  | 47 => .array .int
  | 48 => .array .int
  | 49 => .array .int
  | 50 => .array .long
  | _ => .array .long
abbrev wsX120 : List Cond := u_ws RX12 TX12 52
set_option maxRecDepth 100000 in
theorem nmX12 : ∀ a, a < 52 → ∀ b, b < 52 → a ≠ b → (TX12 a).2.1 ≠ (TX12 b).2.1 := by decide +kernel
set_option maxRecDepth 100000 in
theorem tyX12_ok : ∀ k, k < 52 → parseFieldDescriptor (TX12 k).2.2.1 = some (tyX12 k) := by decide +kernel
abbrev cX12_init : ByteArray := prog_19_method_1_code
def yX12_init : MethodName := ⟨RX12, "<init>", "()V"⟩
def dkwX12_init_12 : List UInt8 := [42, 17, 3, 32, 188, 11, 181, 0, 108, 42, 16, 100, 188, 11, 181, 0, 112, 42, 3, 181, 0, 115, 177]
abbrev dktX12_init_12 : List UInt8 := dkwX12_init_12 ++ []
def dkwX12_init_11 : List UInt8 := [42, 16, 8, 188, 10, 181, 0, 99, 42, 16, 8, 188, 10, 181, 0, 102, 42, 16, 8, 188, 10, 181, 0, 105]
abbrev dktX12_init_11 : List UInt8 := dkwX12_init_11 ++ dktX12_init_12
def dkwX12_init_10 : List UInt8 := [17, 17, 148, 188, 10, 181, 0, 90, 42, 16, 50, 188, 10, 181, 0, 93, 42, 16, 8, 188, 10, 181, 0, 96]
abbrev dktX12_init_10 : List UInt8 := dkwX12_init_10 ++ dktX12_init_11
def dkwX12_init_9 : List UInt8 := [181, 0, 81, 42, 17, 17, 148, 188, 4, 181, 0, 84, 42, 17, 17, 148, 188, 4, 181, 0, 87, 42]
abbrev dktX12_init_9 : List UInt8 := dkwX12_init_9 ++ dktX12_init_10
def dkwX12_init_8 : List UInt8 := [17, 17, 148, 188, 10, 181, 0, 75, 42, 17, 17, 148, 188, 4, 181, 0, 78, 42, 17, 17, 148, 188, 4]
abbrev dktX12_init_8 : List UInt8 := dkwX12_init_8 ++ dktX12_init_9
def dkwX12_init_7 : List UInt8 := [181, 0, 66, 42, 17, 17, 148, 188, 10, 181, 0, 69, 42, 17, 17, 149, 188, 10, 181, 0, 72, 42]
abbrev dktX12_init_7 : List UInt8 := dkwX12_init_7 ++ dktX12_init_8
def dkwX12_init_6 : List UInt8 := [181, 0, 57, 42, 6, 188, 10, 181, 0, 60, 42, 5, 188, 10, 181, 0, 63, 42, 17, 9, 96, 188, 10]
abbrev dktX12_init_6 : List UInt8 := dkwX12_init_6 ++ dktX12_init_7
def dkwX12_init_5 : List UInt8 := [188, 10, 181, 0, 48, 42, 16, 50, 188, 4, 181, 0, 51, 42, 8, 188, 10, 181, 0, 54, 42, 8, 188, 4]
abbrev dktX12_init_5 : List UInt8 := dkwX12_init_5 ++ dktX12_init_6
def dkwX12_init_4 : List UInt8 := [188, 10, 181, 0, 39, 42, 16, 50, 188, 10, 181, 0, 42, 42, 16, 50, 188, 10, 181, 0, 45, 42, 16, 50]
abbrev dktX12_init_4 : List UInt8 := dkwX12_init_4 ++ dktX12_init_5
def dkwX12_init_3 : List UInt8 := [42, 6, 188, 10, 181, 0, 29, 42, 5, 188, 10, 181, 0, 32, 42, 17, 0, 180, 181, 0, 35, 42, 16, 50]
abbrev dktX12_init_3 : List UInt8 := dkwX12_init_3 ++ dktX12_init_4
def dkwX12_init_2 : List UInt8 := [181, 0, 16, 42, 8, 188, 4, 181, 0, 19, 42, 6, 188, 10, 181, 0, 23, 42, 5, 188, 10, 181, 0, 26]
abbrev dktX12_init_2 : List UInt8 := dkwX12_init_2 ++ dktX12_init_3
def dkwX12_init_1 : List UInt8 := [16, 50, 79, 89, 4, 16, 50, 79, 89, 5, 16, 50, 79, 89, 6, 16, 50, 79, 89, 7, 16, 50, 79]
abbrev dktX12_init_1 : List UInt8 := dkwX12_init_1 ++ dktX12_init_2
def dkwX12_init_0 : List UInt8 := [42, 183, 0, 1, 42, 8, 188, 10, 181, 0, 7, 42, 8, 188, 10, 181, 0, 13, 42, 8, 188, 10, 89, 3]
abbrev dktX12_init_0 : List UInt8 := dkwX12_init_0 ++ dktX12_init_1
theorem dksX12_init_0 : cX12_init.data.toList.drop 0 = dktX12_init_0 := by decide +kernel
theorem dksX12_init_1 : cX12_init.data.toList.drop 24 = dktX12_init_1 := dk_seg dksX12_init_0 24 rfl rfl
theorem dksX12_init_2 : cX12_init.data.toList.drop 47 = dktX12_init_2 := dk_seg dksX12_init_1 23 rfl rfl
theorem dksX12_init_3 : cX12_init.data.toList.drop 71 = dktX12_init_3 := dk_seg dksX12_init_2 24 rfl rfl
theorem dksX12_init_4 : cX12_init.data.toList.drop 95 = dktX12_init_4 := dk_seg dksX12_init_3 24 rfl rfl
theorem dksX12_init_5 : cX12_init.data.toList.drop 119 = dktX12_init_5 := dk_seg dksX12_init_4 24 rfl rfl
theorem dksX12_init_6 : cX12_init.data.toList.drop 143 = dktX12_init_6 := dk_seg dksX12_init_5 24 rfl rfl
theorem dksX12_init_7 : cX12_init.data.toList.drop 166 = dktX12_init_7 := dk_seg dksX12_init_6 23 rfl rfl
theorem dksX12_init_8 : cX12_init.data.toList.drop 188 = dktX12_init_8 := dk_seg dksX12_init_7 22 rfl rfl
theorem dksX12_init_9 : cX12_init.data.toList.drop 211 = dktX12_init_9 := dk_seg dksX12_init_8 23 rfl rfl
theorem dksX12_init_10 : cX12_init.data.toList.drop 233 = dktX12_init_10 := dk_seg dksX12_init_9 22 rfl rfl
theorem dksX12_init_11 : cX12_init.data.toList.drop 257 = dktX12_init_11 := dk_seg dksX12_init_10 24 rfl rfl
theorem dksX12_init_12 : cX12_init.data.toList.drop 281 = dktX12_init_12 := dk_seg dksX12_init_11 24 rfl rfl
theorem dX12_init_0 : decode cX12_init 0 = .ok (.aload_n 0, 1) := dk_42 (dk_at dksX12_init_0 0 rfl rfl)
theorem dX12_init_1 : decode cX12_init 1 = .ok (.invokespecial 1, 3) := dk_183 0 1 (dk_at dksX12_init_0 1 rfl rfl)
theorem dX12_init_4 : decode cX12_init 4 = .ok (.aload_n 0, 1) := dk_42 (dk_at dksX12_init_0 4 rfl rfl)
theorem dX12_init_5 : decode cX12_init 5 = .ok (.iconst 5, 1) := dk_8 (dk_at dksX12_init_0 5 rfl rfl)
theorem dX12_init_6 : decode cX12_init 6 = .ok (.newarray .int, 2) := dk_188_10 (dk_at dksX12_init_0 6 rfl rfl)
theorem dX12_init_8 : decode cX12_init 8 = .ok (.putfield 7, 3) := dk_181 0 7 (dk_at dksX12_init_0 8 rfl rfl)
theorem dX12_init_11 : decode cX12_init 11 = .ok (.aload_n 0, 1) := dk_42 (dk_at dksX12_init_0 11 rfl rfl)
theorem dX12_init_12 : decode cX12_init 12 = .ok (.iconst 5, 1) := dk_8 (dk_at dksX12_init_0 12 rfl rfl)
theorem dX12_init_13 : decode cX12_init 13 = .ok (.newarray .int, 2) := dk_188_10 (dk_at dksX12_init_0 13 rfl rfl)
theorem dX12_init_15 : decode cX12_init 15 = .ok (.putfield 13, 3) := dk_181 0 13 (dk_at dksX12_init_0 15 rfl rfl)
theorem dX12_init_18 : decode cX12_init 18 = .ok (.aload_n 0, 1) := dk_42 (dk_at dksX12_init_0 18 rfl rfl)
theorem dX12_init_19 : decode cX12_init 19 = .ok (.iconst 5, 1) := dk_8 (dk_at dksX12_init_0 19 rfl rfl)
theorem dX12_init_20 : decode cX12_init 20 = .ok (.newarray .int, 2) := dk_188_10 (dk_at dksX12_init_0 20 rfl rfl)
theorem dX12_init_22 : decode cX12_init 22 = .ok (.dup, 1) := dk_89 (dk_at dksX12_init_0 22 rfl rfl)
theorem dX12_init_23 : decode cX12_init 23 = .ok (.iconst 0, 1) := dk_3 (dk_at dksX12_init_0 23 rfl rfl)
theorem dX12_init_24 : decode cX12_init 24 = .ok (.bipush 50, 2) := dk_16 50 (dk_at dksX12_init_1 0 rfl rfl)
theorem dX12_init_26 : decode cX12_init 26 = .ok (.iastore, 1) := dk_79 (dk_at dksX12_init_1 2 rfl rfl)
theorem dX12_init_27 : decode cX12_init 27 = .ok (.dup, 1) := dk_89 (dk_at dksX12_init_1 3 rfl rfl)
theorem dX12_init_28 : decode cX12_init 28 = .ok (.iconst 1, 1) := dk_4 (dk_at dksX12_init_1 4 rfl rfl)
theorem dX12_init_29 : decode cX12_init 29 = .ok (.bipush 50, 2) := dk_16 50 (dk_at dksX12_init_1 5 rfl rfl)
theorem dX12_init_31 : decode cX12_init 31 = .ok (.iastore, 1) := dk_79 (dk_at dksX12_init_1 7 rfl rfl)
theorem dX12_init_32 : decode cX12_init 32 = .ok (.dup, 1) := dk_89 (dk_at dksX12_init_1 8 rfl rfl)
theorem dX12_init_33 : decode cX12_init 33 = .ok (.iconst 2, 1) := dk_5 (dk_at dksX12_init_1 9 rfl rfl)
theorem dX12_init_34 : decode cX12_init 34 = .ok (.bipush 50, 2) := dk_16 50 (dk_at dksX12_init_1 10 rfl rfl)
theorem dX12_init_36 : decode cX12_init 36 = .ok (.iastore, 1) := dk_79 (dk_at dksX12_init_1 12 rfl rfl)
theorem dX12_init_37 : decode cX12_init 37 = .ok (.dup, 1) := dk_89 (dk_at dksX12_init_1 13 rfl rfl)
theorem dX12_init_38 : decode cX12_init 38 = .ok (.iconst 3, 1) := dk_6 (dk_at dksX12_init_1 14 rfl rfl)
theorem dX12_init_39 : decode cX12_init 39 = .ok (.bipush 50, 2) := dk_16 50 (dk_at dksX12_init_1 15 rfl rfl)
theorem dX12_init_41 : decode cX12_init 41 = .ok (.iastore, 1) := dk_79 (dk_at dksX12_init_1 17 rfl rfl)
theorem dX12_init_42 : decode cX12_init 42 = .ok (.dup, 1) := dk_89 (dk_at dksX12_init_1 18 rfl rfl)
theorem dX12_init_43 : decode cX12_init 43 = .ok (.iconst 4, 1) := dk_7 (dk_at dksX12_init_1 19 rfl rfl)
theorem dX12_init_44 : decode cX12_init 44 = .ok (.bipush 50, 2) := dk_16 50 (dk_at dksX12_init_1 20 rfl rfl)
theorem dX12_init_46 : decode cX12_init 46 = .ok (.iastore, 1) := dk_79 (dk_at dksX12_init_1 22 rfl rfl)
theorem dX12_init_47 : decode cX12_init 47 = .ok (.putfield 16, 3) := dk_181 0 16 (dk_at dksX12_init_2 0 rfl rfl)
theorem dX12_init_50 : decode cX12_init 50 = .ok (.aload_n 0, 1) := dk_42 (dk_at dksX12_init_2 3 rfl rfl)
theorem dX12_init_51 : decode cX12_init 51 = .ok (.iconst 5, 1) := dk_8 (dk_at dksX12_init_2 4 rfl rfl)
theorem dX12_init_52 : decode cX12_init 52 = .ok (.newarray .boolean, 2) := dk_188_4 (dk_at dksX12_init_2 5 rfl rfl)
theorem dX12_init_54 : decode cX12_init 54 = .ok (.putfield 19, 3) := dk_181 0 19 (dk_at dksX12_init_2 7 rfl rfl)
theorem dX12_init_57 : decode cX12_init 57 = .ok (.aload_n 0, 1) := dk_42 (dk_at dksX12_init_2 10 rfl rfl)
theorem dX12_init_58 : decode cX12_init 58 = .ok (.iconst 3, 1) := dk_6 (dk_at dksX12_init_2 11 rfl rfl)
theorem dX12_init_59 : decode cX12_init 59 = .ok (.newarray .int, 2) := dk_188_10 (dk_at dksX12_init_2 12 rfl rfl)
theorem dX12_init_61 : decode cX12_init 61 = .ok (.putfield 23, 3) := dk_181 0 23 (dk_at dksX12_init_2 14 rfl rfl)
theorem dX12_init_64 : decode cX12_init 64 = .ok (.aload_n 0, 1) := dk_42 (dk_at dksX12_init_2 17 rfl rfl)
theorem dX12_init_65 : decode cX12_init 65 = .ok (.iconst 2, 1) := dk_5 (dk_at dksX12_init_2 18 rfl rfl)
theorem dX12_init_66 : decode cX12_init 66 = .ok (.newarray .int, 2) := dk_188_10 (dk_at dksX12_init_2 19 rfl rfl)
theorem dX12_init_68 : decode cX12_init 68 = .ok (.putfield 26, 3) := dk_181 0 26 (dk_at dksX12_init_2 21 rfl rfl)
theorem dX12_init_71 : decode cX12_init 71 = .ok (.aload_n 0, 1) := dk_42 (dk_at dksX12_init_3 0 rfl rfl)
theorem dX12_init_72 : decode cX12_init 72 = .ok (.iconst 3, 1) := dk_6 (dk_at dksX12_init_3 1 rfl rfl)
theorem dX12_init_73 : decode cX12_init 73 = .ok (.newarray .int, 2) := dk_188_10 (dk_at dksX12_init_3 2 rfl rfl)
theorem dX12_init_75 : decode cX12_init 75 = .ok (.putfield 29, 3) := dk_181 0 29 (dk_at dksX12_init_3 4 rfl rfl)
theorem dX12_init_78 : decode cX12_init 78 = .ok (.aload_n 0, 1) := dk_42 (dk_at dksX12_init_3 7 rfl rfl)
theorem dX12_init_79 : decode cX12_init 79 = .ok (.iconst 2, 1) := dk_5 (dk_at dksX12_init_3 8 rfl rfl)
theorem dX12_init_80 : decode cX12_init 80 = .ok (.newarray .int, 2) := dk_188_10 (dk_at dksX12_init_3 9 rfl rfl)
theorem dX12_init_82 : decode cX12_init 82 = .ok (.putfield 32, 3) := dk_181 0 32 (dk_at dksX12_init_3 11 rfl rfl)
theorem dX12_init_85 : decode cX12_init 85 = .ok (.aload_n 0, 1) := dk_42 (dk_at dksX12_init_3 14 rfl rfl)
theorem dX12_init_86 : decode cX12_init 86 = .ok (.sipush 180, 3) := dk_17 0 180 (dk_at dksX12_init_3 15 rfl rfl)
theorem dX12_init_89 : decode cX12_init 89 = .ok (.putfield 35, 3) := dk_181 0 35 (dk_at dksX12_init_3 18 rfl rfl)
theorem dX12_init_92 : decode cX12_init 92 = .ok (.aload_n 0, 1) := dk_42 (dk_at dksX12_init_3 21 rfl rfl)
theorem dX12_init_93 : decode cX12_init 93 = .ok (.bipush 50, 2) := dk_16 50 (dk_at dksX12_init_3 22 rfl rfl)
theorem dX12_init_95 : decode cX12_init 95 = .ok (.newarray .int, 2) := dk_188_10 (dk_at dksX12_init_4 0 rfl rfl)
theorem dX12_init_97 : decode cX12_init 97 = .ok (.putfield 39, 3) := dk_181 0 39 (dk_at dksX12_init_4 2 rfl rfl)
theorem dX12_init_100 : decode cX12_init 100 = .ok (.aload_n 0, 1) := dk_42 (dk_at dksX12_init_4 5 rfl rfl)
theorem dX12_init_101 : decode cX12_init 101 = .ok (.bipush 50, 2) := dk_16 50 (dk_at dksX12_init_4 6 rfl rfl)
theorem dX12_init_103 : decode cX12_init 103 = .ok (.newarray .int, 2) := dk_188_10 (dk_at dksX12_init_4 8 rfl rfl)
theorem dX12_init_105 : decode cX12_init 105 = .ok (.putfield 42, 3) := dk_181 0 42 (dk_at dksX12_init_4 10 rfl rfl)
theorem dX12_init_108 : decode cX12_init 108 = .ok (.aload_n 0, 1) := dk_42 (dk_at dksX12_init_4 13 rfl rfl)
theorem dX12_init_109 : decode cX12_init 109 = .ok (.bipush 50, 2) := dk_16 50 (dk_at dksX12_init_4 14 rfl rfl)
theorem dX12_init_111 : decode cX12_init 111 = .ok (.newarray .int, 2) := dk_188_10 (dk_at dksX12_init_4 16 rfl rfl)
theorem dX12_init_113 : decode cX12_init 113 = .ok (.putfield 45, 3) := dk_181 0 45 (dk_at dksX12_init_4 18 rfl rfl)
theorem dX12_init_116 : decode cX12_init 116 = .ok (.aload_n 0, 1) := dk_42 (dk_at dksX12_init_4 21 rfl rfl)
theorem dX12_init_117 : decode cX12_init 117 = .ok (.bipush 50, 2) := dk_16 50 (dk_at dksX12_init_4 22 rfl rfl)
theorem dX12_init_119 : decode cX12_init 119 = .ok (.newarray .int, 2) := dk_188_10 (dk_at dksX12_init_5 0 rfl rfl)
theorem dX12_init_121 : decode cX12_init 121 = .ok (.putfield 48, 3) := dk_181 0 48 (dk_at dksX12_init_5 2 rfl rfl)
theorem dX12_init_124 : decode cX12_init 124 = .ok (.aload_n 0, 1) := dk_42 (dk_at dksX12_init_5 5 rfl rfl)
theorem dX12_init_125 : decode cX12_init 125 = .ok (.bipush 50, 2) := dk_16 50 (dk_at dksX12_init_5 6 rfl rfl)
theorem dX12_init_127 : decode cX12_init 127 = .ok (.newarray .boolean, 2) := dk_188_4 (dk_at dksX12_init_5 8 rfl rfl)
theorem dX12_init_129 : decode cX12_init 129 = .ok (.putfield 51, 3) := dk_181 0 51 (dk_at dksX12_init_5 10 rfl rfl)
theorem dX12_init_132 : decode cX12_init 132 = .ok (.aload_n 0, 1) := dk_42 (dk_at dksX12_init_5 13 rfl rfl)
theorem dX12_init_133 : decode cX12_init 133 = .ok (.iconst 5, 1) := dk_8 (dk_at dksX12_init_5 14 rfl rfl)
theorem dX12_init_134 : decode cX12_init 134 = .ok (.newarray .int, 2) := dk_188_10 (dk_at dksX12_init_5 15 rfl rfl)
theorem dX12_init_136 : decode cX12_init 136 = .ok (.putfield 54, 3) := dk_181 0 54 (dk_at dksX12_init_5 17 rfl rfl)
theorem dX12_init_139 : decode cX12_init 139 = .ok (.aload_n 0, 1) := dk_42 (dk_at dksX12_init_5 20 rfl rfl)
theorem dX12_init_140 : decode cX12_init 140 = .ok (.iconst 5, 1) := dk_8 (dk_at dksX12_init_5 21 rfl rfl)
theorem dX12_init_141 : decode cX12_init 141 = .ok (.newarray .boolean, 2) := dk_188_4 (dk_at dksX12_init_5 22 rfl rfl)
theorem dX12_init_143 : decode cX12_init 143 = .ok (.putfield 57, 3) := dk_181 0 57 (dk_at dksX12_init_6 0 rfl rfl)
theorem dX12_init_146 : decode cX12_init 146 = .ok (.aload_n 0, 1) := dk_42 (dk_at dksX12_init_6 3 rfl rfl)
theorem dX12_init_147 : decode cX12_init 147 = .ok (.iconst 3, 1) := dk_6 (dk_at dksX12_init_6 4 rfl rfl)
theorem dX12_init_148 : decode cX12_init 148 = .ok (.newarray .int, 2) := dk_188_10 (dk_at dksX12_init_6 5 rfl rfl)
theorem dX12_init_150 : decode cX12_init 150 = .ok (.putfield 60, 3) := dk_181 0 60 (dk_at dksX12_init_6 7 rfl rfl)
theorem dX12_init_153 : decode cX12_init 153 = .ok (.aload_n 0, 1) := dk_42 (dk_at dksX12_init_6 10 rfl rfl)
theorem dX12_init_154 : decode cX12_init 154 = .ok (.iconst 2, 1) := dk_5 (dk_at dksX12_init_6 11 rfl rfl)
theorem dX12_init_155 : decode cX12_init 155 = .ok (.newarray .int, 2) := dk_188_10 (dk_at dksX12_init_6 12 rfl rfl)
theorem dX12_init_157 : decode cX12_init 157 = .ok (.putfield 63, 3) := dk_181 0 63 (dk_at dksX12_init_6 14 rfl rfl)
theorem dX12_init_160 : decode cX12_init 160 = .ok (.aload_n 0, 1) := dk_42 (dk_at dksX12_init_6 17 rfl rfl)
theorem dX12_init_161 : decode cX12_init 161 = .ok (.sipush 2400, 3) := dk_17 9 96 (dk_at dksX12_init_6 18 rfl rfl)
theorem dX12_init_164 : decode cX12_init 164 = .ok (.newarray .int, 2) := dk_188_10 (dk_at dksX12_init_6 21 rfl rfl)
theorem dX12_init_166 : decode cX12_init 166 = .ok (.putfield 66, 3) := dk_181 0 66 (dk_at dksX12_init_7 0 rfl rfl)
theorem dX12_init_169 : decode cX12_init 169 = .ok (.aload_n 0, 1) := dk_42 (dk_at dksX12_init_7 3 rfl rfl)
theorem dX12_init_170 : decode cX12_init 170 = .ok (.sipush 4500, 3) := dk_17 17 148 (dk_at dksX12_init_7 4 rfl rfl)
theorem dX12_init_173 : decode cX12_init 173 = .ok (.newarray .int, 2) := dk_188_10 (dk_at dksX12_init_7 7 rfl rfl)
theorem dX12_init_175 : decode cX12_init 175 = .ok (.putfield 69, 3) := dk_181 0 69 (dk_at dksX12_init_7 9 rfl rfl)
theorem dX12_init_178 : decode cX12_init 178 = .ok (.aload_n 0, 1) := dk_42 (dk_at dksX12_init_7 12 rfl rfl)
theorem dX12_init_179 : decode cX12_init 179 = .ok (.sipush 4501, 3) := dk_17 17 149 (dk_at dksX12_init_7 13 rfl rfl)
theorem dX12_init_182 : decode cX12_init 182 = .ok (.newarray .int, 2) := dk_188_10 (dk_at dksX12_init_7 16 rfl rfl)
theorem dX12_init_184 : decode cX12_init 184 = .ok (.putfield 72, 3) := dk_181 0 72 (dk_at dksX12_init_7 18 rfl rfl)
theorem dX12_init_187 : decode cX12_init 187 = .ok (.aload_n 0, 1) := dk_42 (dk_at dksX12_init_7 21 rfl rfl)
theorem dX12_init_188 : decode cX12_init 188 = .ok (.sipush 4500, 3) := dk_17 17 148 (dk_at dksX12_init_8 0 rfl rfl)
theorem dX12_init_191 : decode cX12_init 191 = .ok (.newarray .int, 2) := dk_188_10 (dk_at dksX12_init_8 3 rfl rfl)
theorem dX12_init_193 : decode cX12_init 193 = .ok (.putfield 75, 3) := dk_181 0 75 (dk_at dksX12_init_8 5 rfl rfl)
theorem dX12_init_196 : decode cX12_init 196 = .ok (.aload_n 0, 1) := dk_42 (dk_at dksX12_init_8 8 rfl rfl)
theorem dX12_init_197 : decode cX12_init 197 = .ok (.sipush 4500, 3) := dk_17 17 148 (dk_at dksX12_init_8 9 rfl rfl)
theorem dX12_init_200 : decode cX12_init 200 = .ok (.newarray .boolean, 2) := dk_188_4 (dk_at dksX12_init_8 12 rfl rfl)
theorem dX12_init_202 : decode cX12_init 202 = .ok (.putfield 78, 3) := dk_181 0 78 (dk_at dksX12_init_8 14 rfl rfl)
theorem dX12_init_205 : decode cX12_init 205 = .ok (.aload_n 0, 1) := dk_42 (dk_at dksX12_init_8 17 rfl rfl)
theorem dX12_init_206 : decode cX12_init 206 = .ok (.sipush 4500, 3) := dk_17 17 148 (dk_at dksX12_init_8 18 rfl rfl)
theorem dX12_init_209 : decode cX12_init 209 = .ok (.newarray .boolean, 2) := dk_188_4 (dk_at dksX12_init_8 21 rfl rfl)
theorem dX12_init_211 : decode cX12_init 211 = .ok (.putfield 81, 3) := dk_181 0 81 (dk_at dksX12_init_9 0 rfl rfl)
theorem dX12_init_214 : decode cX12_init 214 = .ok (.aload_n 0, 1) := dk_42 (dk_at dksX12_init_9 3 rfl rfl)
theorem dX12_init_215 : decode cX12_init 215 = .ok (.sipush 4500, 3) := dk_17 17 148 (dk_at dksX12_init_9 4 rfl rfl)
theorem dX12_init_218 : decode cX12_init 218 = .ok (.newarray .boolean, 2) := dk_188_4 (dk_at dksX12_init_9 7 rfl rfl)
theorem dX12_init_220 : decode cX12_init 220 = .ok (.putfield 84, 3) := dk_181 0 84 (dk_at dksX12_init_9 9 rfl rfl)
theorem dX12_init_223 : decode cX12_init 223 = .ok (.aload_n 0, 1) := dk_42 (dk_at dksX12_init_9 12 rfl rfl)
theorem dX12_init_224 : decode cX12_init 224 = .ok (.sipush 4500, 3) := dk_17 17 148 (dk_at dksX12_init_9 13 rfl rfl)
theorem dX12_init_227 : decode cX12_init 227 = .ok (.newarray .boolean, 2) := dk_188_4 (dk_at dksX12_init_9 16 rfl rfl)
theorem dX12_init_229 : decode cX12_init 229 = .ok (.putfield 87, 3) := dk_181 0 87 (dk_at dksX12_init_9 18 rfl rfl)
theorem dX12_init_232 : decode cX12_init 232 = .ok (.aload_n 0, 1) := dk_42 (dk_at dksX12_init_9 21 rfl rfl)
theorem dX12_init_233 : decode cX12_init 233 = .ok (.sipush 4500, 3) := dk_17 17 148 (dk_at dksX12_init_10 0 rfl rfl)
theorem dX12_init_236 : decode cX12_init 236 = .ok (.newarray .int, 2) := dk_188_10 (dk_at dksX12_init_10 3 rfl rfl)
theorem dX12_init_238 : decode cX12_init 238 = .ok (.putfield 90, 3) := dk_181 0 90 (dk_at dksX12_init_10 5 rfl rfl)
theorem dX12_init_241 : decode cX12_init 241 = .ok (.aload_n 0, 1) := dk_42 (dk_at dksX12_init_10 8 rfl rfl)
theorem dX12_init_242 : decode cX12_init 242 = .ok (.bipush 50, 2) := dk_16 50 (dk_at dksX12_init_10 9 rfl rfl)
theorem dX12_init_244 : decode cX12_init 244 = .ok (.newarray .int, 2) := dk_188_10 (dk_at dksX12_init_10 11 rfl rfl)
theorem dX12_init_246 : decode cX12_init 246 = .ok (.putfield 93, 3) := dk_181 0 93 (dk_at dksX12_init_10 13 rfl rfl)
theorem dX12_init_249 : decode cX12_init 249 = .ok (.aload_n 0, 1) := dk_42 (dk_at dksX12_init_10 16 rfl rfl)
theorem dX12_init_250 : decode cX12_init 250 = .ok (.bipush 8, 2) := dk_16 8 (dk_at dksX12_init_10 17 rfl rfl)
theorem dX12_init_252 : decode cX12_init 252 = .ok (.newarray .int, 2) := dk_188_10 (dk_at dksX12_init_10 19 rfl rfl)
theorem dX12_init_254 : decode cX12_init 254 = .ok (.putfield 96, 3) := dk_181 0 96 (dk_at dksX12_init_10 21 rfl rfl)
theorem dX12_init_257 : decode cX12_init 257 = .ok (.aload_n 0, 1) := dk_42 (dk_at dksX12_init_11 0 rfl rfl)
theorem dX12_init_258 : decode cX12_init 258 = .ok (.bipush 8, 2) := dk_16 8 (dk_at dksX12_init_11 1 rfl rfl)
theorem dX12_init_260 : decode cX12_init 260 = .ok (.newarray .int, 2) := dk_188_10 (dk_at dksX12_init_11 3 rfl rfl)
theorem dX12_init_262 : decode cX12_init 262 = .ok (.putfield 99, 3) := dk_181 0 99 (dk_at dksX12_init_11 5 rfl rfl)
theorem dX12_init_265 : decode cX12_init 265 = .ok (.aload_n 0, 1) := dk_42 (dk_at dksX12_init_11 8 rfl rfl)
theorem dX12_init_266 : decode cX12_init 266 = .ok (.bipush 8, 2) := dk_16 8 (dk_at dksX12_init_11 9 rfl rfl)
theorem dX12_init_268 : decode cX12_init 268 = .ok (.newarray .int, 2) := dk_188_10 (dk_at dksX12_init_11 11 rfl rfl)
theorem dX12_init_270 : decode cX12_init 270 = .ok (.putfield 102, 3) := dk_181 0 102 (dk_at dksX12_init_11 13 rfl rfl)
theorem dX12_init_273 : decode cX12_init 273 = .ok (.aload_n 0, 1) := dk_42 (dk_at dksX12_init_11 16 rfl rfl)
theorem dX12_init_274 : decode cX12_init 274 = .ok (.bipush 8, 2) := dk_16 8 (dk_at dksX12_init_11 17 rfl rfl)
theorem dX12_init_276 : decode cX12_init 276 = .ok (.newarray .int, 2) := dk_188_10 (dk_at dksX12_init_11 19 rfl rfl)
theorem dX12_init_278 : decode cX12_init 278 = .ok (.putfield 105, 3) := dk_181 0 105 (dk_at dksX12_init_11 21 rfl rfl)
theorem dX12_init_281 : decode cX12_init 281 = .ok (.aload_n 0, 1) := dk_42 (dk_at dksX12_init_12 0 rfl rfl)
theorem dX12_init_282 : decode cX12_init 282 = .ok (.sipush 800, 3) := dk_17 3 32 (dk_at dksX12_init_12 1 rfl rfl)
theorem dX12_init_285 : decode cX12_init 285 = .ok (.newarray .long, 2) := dk_188_11 (dk_at dksX12_init_12 4 rfl rfl)
theorem dX12_init_287 : decode cX12_init 287 = .ok (.putfield 108, 3) := dk_181 0 108 (dk_at dksX12_init_12 6 rfl rfl)
theorem dX12_init_290 : decode cX12_init 290 = .ok (.aload_n 0, 1) := dk_42 (dk_at dksX12_init_12 9 rfl rfl)
theorem dX12_init_291 : decode cX12_init 291 = .ok (.bipush 100, 2) := dk_16 100 (dk_at dksX12_init_12 10 rfl rfl)
theorem dX12_init_293 : decode cX12_init 293 = .ok (.newarray .long, 2) := dk_188_11 (dk_at dksX12_init_12 12 rfl rfl)
theorem dX12_init_295 : decode cX12_init 295 = .ok (.putfield 112, 3) := dk_181 0 112 (dk_at dksX12_init_12 14 rfl rfl)
theorem dX12_init_298 : decode cX12_init 298 = .ok (.aload_n 0, 1) := dk_42 (dk_at dksX12_init_12 17 rfl rfl)
theorem dX12_init_299 : decode cX12_init 299 = .ok (.iconst 0, 1) := dk_3 (dk_at dksX12_init_12 18 rfl rfl)
theorem dX12_init_300 : decode cX12_init 300 = .ok (.putfield 115, 3) := dk_181 0 115 (dk_at dksX12_init_12 19 rfl rfl)
theorem dX12_init_303 : decode cX12_init 303 = .ok (.return_, 1) := dk_177 (dk_at dksX12_init_12 22 rfl rfl)
abbrev cX12_thrown : ByteArray := prog_19_method_2_code
def yX12_thrown : MethodName := ⟨RX12, "thrown", "()I"⟩
theorem dX12_thrown_0 : decode cX12_thrown 0 = .ok (.aload_n 0, 1) := by decide +kernel
theorem dX12_thrown_1 : decode cX12_thrown 1 = .ok (.getfield 115, 3) := by decide +kernel
theorem dX12_thrown_4 : decode cX12_thrown 4 = .ok (.ireturn, 1) := by decide +kernel
abbrev cX12_face : ByteArray := prog_19_method_11_code
def yX12_face : MethodName := ⟨RX12, "face", "(I)I"⟩
def dkwX12_face_13 : List UInt8 := [132, 8, 1, 167, 255, 151, 42, 3, 181, 0, 188, 42, 3, 181, 0, 191, 42, 180, 0, 149, 172]
abbrev dktX12_face_13 : List UInt8 := dkwX12_face_13 ++ []
def dkwX12_face_12 : List UInt8 := [21, 9, 51, 84, 132, 9, 1, 167, 255, 219, 17, 248, 48, 42, 180, 0, 39, 21, 8, 46, 100, 172]
abbrev dktX12_face_12 : List UInt8 := dkwX12_face_12 ++ dktX12_face_13
def dkwX12_face_11 : List UInt8 := [42, 180, 0, 16, 21, 9, 42, 180, 0, 54, 21, 9, 46, 79, 42, 180, 0, 19, 21, 9, 42, 180, 0, 57]
abbrev dktX12_face_11 : List UInt8 := dkwX12_face_11 ++ dktX12_face_12
def dkwX12_face_10 : List UInt8 := [181, 0, 170, 42, 21, 6, 181, 0, 173, 42, 21, 7, 181, 0, 35, 3, 54, 9, 21, 9, 8, 162, 0, 37]
abbrev dktX12_face_10 : List UInt8 := dkwX12_face_10 ++ dktX12_face_11
def dkwX12_face_9 : List UInt8 := [21, 8, 182, 0, 185, 154, 0, 87, 42, 29, 181, 0, 118, 42, 21, 4, 181, 0, 165, 42, 21, 5]
abbrev dktX12_face_9 : List UInt8 := dkwX12_face_9 ++ dktX12_face_10
def dkwX12_face_8 : List UInt8 := [21, 8, 51, 84, 132, 8, 1, 167, 255, 219, 3, 54, 8, 21, 8, 42, 180, 0, 149, 162, 0, 102, 42]
abbrev dktX12_face_8 : List UInt8 := dkwX12_face_8 ++ dktX12_face_9
def dkwX12_face_7 : List UInt8 := [180, 0, 54, 21, 8, 42, 180, 0, 16, 21, 8, 46, 79, 42, 180, 0, 57, 21, 8, 42, 180, 0, 19]
abbrev dktX12_face_7 : List UInt8 := dkwX12_face_7 ++ dktX12_face_8
def dkwX12_face_6 : List UInt8 := [54, 5, 42, 180, 0, 173, 54, 6, 42, 180, 0, 35, 54, 7, 3, 54, 8, 21, 8, 8, 162, 0, 37, 42]
abbrev dktX12_face_6 : List UInt8 := dkwX12_face_6 ++ dktX12_face_7
def dkwX12_face_5 : List UInt8 := [17, 252, 24, 42, 180, 0, 125, 100, 172, 42, 180, 0, 118, 62, 42, 180, 0, 165, 54, 4, 42, 180, 0, 170]
abbrev dktX12_face_5 : List UInt8 := dkwX12_face_5 ++ dktX12_face_6
def dkwX12_face_4 : List UInt8 := [180, 0, 125, 42, 180, 0, 128, 162, 0, 10, 42, 182, 0, 182, 167, 255, 227, 42, 180, 0, 134, 153, 0, 12]
abbrev dktX12_face_4 : List UInt8 := dkwX12_face_4 ++ dktX12_face_5
def dkwX12_face_3 : List UInt8 := [181, 0, 134, 42, 3, 181, 0, 149, 42, 180, 0, 134, 154, 0, 28, 42, 180, 0, 149, 153, 0, 14, 42]
abbrev dktX12_face_3 : List UInt8 := dkwX12_face_3 ++ dktX12_face_4
def dkwX12_face_2 : List UInt8 := [27, 104, 181, 0, 131, 42, 42, 180, 0, 105, 27, 46, 181, 0, 128, 42, 3, 181, 0, 125, 42, 3]
abbrev dktX12_face_2 : List UInt8 := dkwX12_face_2 ++ dktX12_face_3
def dkwX12_face_1 : List UInt8 := [180, 0, 102, 27, 46, 153, 0, 8, 16, 244, 167, 0, 4, 3, 61, 28, 156, 0, 5, 28, 172, 42, 16, 100]
abbrev dktX12_face_1 : List UInt8 := dkwX12_face_1 ++ dktX12_face_2
def dkwX12_face_0 : List UInt8 := [42, 3, 181, 0, 115, 42, 27, 182, 0, 178, 156, 0, 11, 42, 27, 182, 0, 178, 167, 0, 18, 42]
abbrev dktX12_face_0 : List UInt8 := dkwX12_face_0 ++ dktX12_face_1
theorem dksX12_face_0 : cX12_face.data.toList.drop 0 = dktX12_face_0 := by decide +kernel
theorem dksX12_face_1 : cX12_face.data.toList.drop 22 = dktX12_face_1 := dk_seg dksX12_face_0 22 rfl rfl
theorem dksX12_face_2 : cX12_face.data.toList.drop 46 = dktX12_face_2 := dk_seg dksX12_face_1 24 rfl rfl
theorem dksX12_face_3 : cX12_face.data.toList.drop 68 = dktX12_face_3 := dk_seg dksX12_face_2 22 rfl rfl
theorem dksX12_face_4 : cX12_face.data.toList.drop 91 = dktX12_face_4 := dk_seg dksX12_face_3 23 rfl rfl
theorem dksX12_face_5 : cX12_face.data.toList.drop 115 = dktX12_face_5 := dk_seg dksX12_face_4 24 rfl rfl
theorem dksX12_face_6 : cX12_face.data.toList.drop 139 = dktX12_face_6 := dk_seg dksX12_face_5 24 rfl rfl
theorem dksX12_face_7 : cX12_face.data.toList.drop 163 = dktX12_face_7 := dk_seg dksX12_face_6 24 rfl rfl
theorem dksX12_face_8 : cX12_face.data.toList.drop 186 = dktX12_face_8 := dk_seg dksX12_face_7 23 rfl rfl
theorem dksX12_face_9 : cX12_face.data.toList.drop 209 = dktX12_face_9 := dk_seg dksX12_face_8 23 rfl rfl
theorem dksX12_face_10 : cX12_face.data.toList.drop 231 = dktX12_face_10 := dk_seg dksX12_face_9 22 rfl rfl
theorem dksX12_face_11 : cX12_face.data.toList.drop 255 = dktX12_face_11 := dk_seg dksX12_face_10 24 rfl rfl
theorem dksX12_face_12 : cX12_face.data.toList.drop 279 = dktX12_face_12 := dk_seg dksX12_face_11 24 rfl rfl
theorem dksX12_face_13 : cX12_face.data.toList.drop 301 = dktX12_face_13 := dk_seg dksX12_face_12 22 rfl rfl
theorem dX12_face_0 : decode cX12_face 0 = .ok (.aload_n 0, 1) := dk_42 (dk_at dksX12_face_0 0 rfl rfl)
theorem dX12_face_1 : decode cX12_face 1 = .ok (.iconst 0, 1) := dk_3 (dk_at dksX12_face_0 1 rfl rfl)
theorem dX12_face_2 : decode cX12_face 2 = .ok (.putfield 115, 3) := dk_181 0 115 (dk_at dksX12_face_0 2 rfl rfl)
theorem dX12_face_5 : decode cX12_face 5 = .ok (.aload_n 0, 1) := dk_42 (dk_at dksX12_face_0 5 rfl rfl)
theorem dX12_face_6 : decode cX12_face 6 = .ok (.iload_n 1, 1) := dk_27 (dk_at dksX12_face_0 6 rfl rfl)
theorem dX12_face_7 : decode cX12_face 7 = .ok (.invokevirtual 178, 3) := dk_182 0 178 (dk_at dksX12_face_0 7 rfl rfl)
theorem dX12_face_10 : decode cX12_face 10 = .ok (.ifCond .ge 11, 3) := dk_156 0 11 (dk_at dksX12_face_0 10 rfl rfl)
theorem dX12_face_13 : decode cX12_face 13 = .ok (.aload_n 0, 1) := dk_42 (dk_at dksX12_face_0 13 rfl rfl)
theorem dX12_face_14 : decode cX12_face 14 = .ok (.iload_n 1, 1) := dk_27 (dk_at dksX12_face_0 14 rfl rfl)
theorem dX12_face_15 : decode cX12_face 15 = .ok (.invokevirtual 178, 3) := dk_182 0 178 (dk_at dksX12_face_0 15 rfl rfl)
theorem dX12_face_18 : decode cX12_face 18 = .ok (.goto 18, 3) := dk_167 0 18 (dk_at dksX12_face_0 18 rfl rfl)
theorem dX12_face_21 : decode cX12_face 21 = .ok (.aload_n 0, 1) := dk_42 (dk_at dksX12_face_0 21 rfl rfl)
theorem dX12_face_22 : decode cX12_face 22 = .ok (.getfield 102, 3) := dk_180 0 102 (dk_at dksX12_face_1 0 rfl rfl)
theorem dX12_face_25 : decode cX12_face 25 = .ok (.iload_n 1, 1) := dk_27 (dk_at dksX12_face_1 3 rfl rfl)
theorem dX12_face_26 : decode cX12_face 26 = .ok (.iaload, 1) := dk_46 (dk_at dksX12_face_1 4 rfl rfl)
theorem dX12_face_27 : decode cX12_face 27 = .ok (.ifCond .eq 8, 3) := dk_153 0 8 (dk_at dksX12_face_1 5 rfl rfl)
theorem dX12_face_30 : decode cX12_face 30 = .ok (.bipush (-12), 2) := dk_16 244 (dk_at dksX12_face_1 8 rfl rfl)
theorem dX12_face_32 : decode cX12_face 32 = .ok (.goto 4, 3) := dk_167 0 4 (dk_at dksX12_face_1 10 rfl rfl)
theorem dX12_face_35 : decode cX12_face 35 = .ok (.iconst 0, 1) := dk_3 (dk_at dksX12_face_1 13 rfl rfl)
theorem dX12_face_36 : decode cX12_face 36 = .ok (.istore_n 2, 1) := dk_61 (dk_at dksX12_face_1 14 rfl rfl)
theorem dX12_face_37 : decode cX12_face 37 = .ok (.iload_n 2, 1) := dk_28 (dk_at dksX12_face_1 15 rfl rfl)
theorem dX12_face_38 : decode cX12_face 38 = .ok (.ifCond .ge 5, 3) := dk_156 0 5 (dk_at dksX12_face_1 16 rfl rfl)
theorem dX12_face_41 : decode cX12_face 41 = .ok (.iload_n 2, 1) := dk_28 (dk_at dksX12_face_1 19 rfl rfl)
theorem dX12_face_42 : decode cX12_face 42 = .ok (.ireturn, 1) := dk_172 (dk_at dksX12_face_1 20 rfl rfl)
theorem dX12_face_43 : decode cX12_face 43 = .ok (.aload_n 0, 1) := dk_42 (dk_at dksX12_face_1 21 rfl rfl)
theorem dX12_face_44 : decode cX12_face 44 = .ok (.bipush 100, 2) := dk_16 100 (dk_at dksX12_face_1 22 rfl rfl)
theorem dX12_face_46 : decode cX12_face 46 = .ok (.iload_n 1, 1) := dk_27 (dk_at dksX12_face_2 0 rfl rfl)
theorem dX12_face_47 : decode cX12_face 47 = .ok (.imul, 1) := dk_104 (dk_at dksX12_face_2 1 rfl rfl)
theorem dX12_face_48 : decode cX12_face 48 = .ok (.putfield 131, 3) := dk_181 0 131 (dk_at dksX12_face_2 2 rfl rfl)
theorem dX12_face_51 : decode cX12_face 51 = .ok (.aload_n 0, 1) := dk_42 (dk_at dksX12_face_2 5 rfl rfl)
theorem dX12_face_52 : decode cX12_face 52 = .ok (.aload_n 0, 1) := dk_42 (dk_at dksX12_face_2 6 rfl rfl)
theorem dX12_face_53 : decode cX12_face 53 = .ok (.getfield 105, 3) := dk_180 0 105 (dk_at dksX12_face_2 7 rfl rfl)
theorem dX12_face_56 : decode cX12_face 56 = .ok (.iload_n 1, 1) := dk_27 (dk_at dksX12_face_2 10 rfl rfl)
theorem dX12_face_57 : decode cX12_face 57 = .ok (.iaload, 1) := dk_46 (dk_at dksX12_face_2 11 rfl rfl)
theorem dX12_face_58 : decode cX12_face 58 = .ok (.putfield 128, 3) := dk_181 0 128 (dk_at dksX12_face_2 12 rfl rfl)
theorem dX12_face_61 : decode cX12_face 61 = .ok (.aload_n 0, 1) := dk_42 (dk_at dksX12_face_2 15 rfl rfl)
theorem dX12_face_62 : decode cX12_face 62 = .ok (.iconst 0, 1) := dk_3 (dk_at dksX12_face_2 16 rfl rfl)
theorem dX12_face_63 : decode cX12_face 63 = .ok (.putfield 125, 3) := dk_181 0 125 (dk_at dksX12_face_2 17 rfl rfl)
theorem dX12_face_66 : decode cX12_face 66 = .ok (.aload_n 0, 1) := dk_42 (dk_at dksX12_face_2 20 rfl rfl)
theorem dX12_face_67 : decode cX12_face 67 = .ok (.iconst 0, 1) := dk_3 (dk_at dksX12_face_2 21 rfl rfl)
theorem dX12_face_68 : decode cX12_face 68 = .ok (.putfield 134, 3) := dk_181 0 134 (dk_at dksX12_face_3 0 rfl rfl)
theorem dX12_face_71 : decode cX12_face 71 = .ok (.aload_n 0, 1) := dk_42 (dk_at dksX12_face_3 3 rfl rfl)
theorem dX12_face_72 : decode cX12_face 72 = .ok (.iconst 0, 1) := dk_3 (dk_at dksX12_face_3 4 rfl rfl)
theorem dX12_face_73 : decode cX12_face 73 = .ok (.putfield 149, 3) := dk_181 0 149 (dk_at dksX12_face_3 5 rfl rfl)
theorem dX12_face_76 : decode cX12_face 76 = .ok (.aload_n 0, 1) := dk_42 (dk_at dksX12_face_3 8 rfl rfl)
theorem dX12_face_77 : decode cX12_face 77 = .ok (.getfield 134, 3) := dk_180 0 134 (dk_at dksX12_face_3 9 rfl rfl)
theorem dX12_face_80 : decode cX12_face 80 = .ok (.ifCond .ne 28, 3) := dk_154 0 28 (dk_at dksX12_face_3 12 rfl rfl)
theorem dX12_face_83 : decode cX12_face 83 = .ok (.aload_n 0, 1) := dk_42 (dk_at dksX12_face_3 15 rfl rfl)
theorem dX12_face_84 : decode cX12_face 84 = .ok (.getfield 149, 3) := dk_180 0 149 (dk_at dksX12_face_3 16 rfl rfl)
theorem dX12_face_87 : decode cX12_face 87 = .ok (.ifCond .eq 14, 3) := dk_153 0 14 (dk_at dksX12_face_3 19 rfl rfl)
theorem dX12_face_90 : decode cX12_face 90 = .ok (.aload_n 0, 1) := dk_42 (dk_at dksX12_face_3 22 rfl rfl)
theorem dX12_face_91 : decode cX12_face 91 = .ok (.getfield 125, 3) := dk_180 0 125 (dk_at dksX12_face_4 0 rfl rfl)
theorem dX12_face_94 : decode cX12_face 94 = .ok (.aload_n 0, 1) := dk_42 (dk_at dksX12_face_4 3 rfl rfl)
theorem dX12_face_95 : decode cX12_face 95 = .ok (.getfield 128, 3) := dk_180 0 128 (dk_at dksX12_face_4 4 rfl rfl)
theorem dX12_face_98 : decode cX12_face 98 = .ok (.if_icmp .ge 10, 3) := dk_162 0 10 (dk_at dksX12_face_4 7 rfl rfl)
theorem dX12_face_101 : decode cX12_face 101 = .ok (.aload_n 0, 1) := dk_42 (dk_at dksX12_face_4 10 rfl rfl)
theorem dX12_face_102 : decode cX12_face 102 = .ok (.invokevirtual 182, 3) := dk_182 0 182 (dk_at dksX12_face_4 11 rfl rfl)
theorem dX12_face_105 : decode cX12_face 105 = .ok (.goto (-29), 3) := dk_167 255 227 (dk_at dksX12_face_4 14 rfl rfl)
theorem dX12_face_108 : decode cX12_face 108 = .ok (.aload_n 0, 1) := dk_42 (dk_at dksX12_face_4 17 rfl rfl)
theorem dX12_face_109 : decode cX12_face 109 = .ok (.getfield 134, 3) := dk_180 0 134 (dk_at dksX12_face_4 18 rfl rfl)
theorem dX12_face_112 : decode cX12_face 112 = .ok (.ifCond .eq 12, 3) := dk_153 0 12 (dk_at dksX12_face_4 21 rfl rfl)
theorem dX12_face_115 : decode cX12_face 115 = .ok (.sipush (-1000), 3) := dk_17 252 24 (dk_at dksX12_face_5 0 rfl rfl)
theorem dX12_face_118 : decode cX12_face 118 = .ok (.aload_n 0, 1) := dk_42 (dk_at dksX12_face_5 3 rfl rfl)
theorem dX12_face_119 : decode cX12_face 119 = .ok (.getfield 125, 3) := dk_180 0 125 (dk_at dksX12_face_5 4 rfl rfl)
theorem dX12_face_122 : decode cX12_face 122 = .ok (.isub, 1) := dk_100 (dk_at dksX12_face_5 7 rfl rfl)
theorem dX12_face_123 : decode cX12_face 123 = .ok (.ireturn, 1) := dk_172 (dk_at dksX12_face_5 8 rfl rfl)
theorem dX12_face_124 : decode cX12_face 124 = .ok (.aload_n 0, 1) := dk_42 (dk_at dksX12_face_5 9 rfl rfl)
theorem dX12_face_125 : decode cX12_face 125 = .ok (.getfield 118, 3) := dk_180 0 118 (dk_at dksX12_face_5 10 rfl rfl)
theorem dX12_face_128 : decode cX12_face 128 = .ok (.istore_n 3, 1) := dk_62 (dk_at dksX12_face_5 13 rfl rfl)
theorem dX12_face_129 : decode cX12_face 129 = .ok (.aload_n 0, 1) := dk_42 (dk_at dksX12_face_5 14 rfl rfl)
theorem dX12_face_130 : decode cX12_face 130 = .ok (.getfield 165, 3) := dk_180 0 165 (dk_at dksX12_face_5 15 rfl rfl)
theorem dX12_face_133 : decode cX12_face 133 = .ok (.istore 4, 2) := dk_54 4 (dk_at dksX12_face_5 18 rfl rfl)
theorem dX12_face_135 : decode cX12_face 135 = .ok (.aload_n 0, 1) := dk_42 (dk_at dksX12_face_5 20 rfl rfl)
theorem dX12_face_136 : decode cX12_face 136 = .ok (.getfield 170, 3) := dk_180 0 170 (dk_at dksX12_face_5 21 rfl rfl)
theorem dX12_face_139 : decode cX12_face 139 = .ok (.istore 5, 2) := dk_54 5 (dk_at dksX12_face_6 0 rfl rfl)
theorem dX12_face_141 : decode cX12_face 141 = .ok (.aload_n 0, 1) := dk_42 (dk_at dksX12_face_6 2 rfl rfl)
theorem dX12_face_142 : decode cX12_face 142 = .ok (.getfield 173, 3) := dk_180 0 173 (dk_at dksX12_face_6 3 rfl rfl)
theorem dX12_face_145 : decode cX12_face 145 = .ok (.istore 6, 2) := dk_54 6 (dk_at dksX12_face_6 6 rfl rfl)
theorem dX12_face_147 : decode cX12_face 147 = .ok (.aload_n 0, 1) := dk_42 (dk_at dksX12_face_6 8 rfl rfl)
theorem dX12_face_148 : decode cX12_face 148 = .ok (.getfield 35, 3) := dk_180 0 35 (dk_at dksX12_face_6 9 rfl rfl)
theorem dX12_face_151 : decode cX12_face 151 = .ok (.istore 7, 2) := dk_54 7 (dk_at dksX12_face_6 12 rfl rfl)
theorem dX12_face_153 : decode cX12_face 153 = .ok (.iconst 0, 1) := dk_3 (dk_at dksX12_face_6 14 rfl rfl)
theorem dX12_face_154 : decode cX12_face 154 = .ok (.istore 8, 2) := dk_54 8 (dk_at dksX12_face_6 15 rfl rfl)
theorem dX12_face_156 : decode cX12_face 156 = .ok (.iload 8, 2) := dk_21 8 (dk_at dksX12_face_6 17 rfl rfl)
theorem dX12_face_158 : decode cX12_face 158 = .ok (.iconst 5, 1) := dk_8 (dk_at dksX12_face_6 19 rfl rfl)
theorem dX12_face_159 : decode cX12_face 159 = .ok (.if_icmp .ge 37, 3) := dk_162 0 37 (dk_at dksX12_face_6 20 rfl rfl)
theorem dX12_face_162 : decode cX12_face 162 = .ok (.aload_n 0, 1) := dk_42 (dk_at dksX12_face_6 23 rfl rfl)
theorem dX12_face_163 : decode cX12_face 163 = .ok (.getfield 54, 3) := dk_180 0 54 (dk_at dksX12_face_7 0 rfl rfl)
theorem dX12_face_166 : decode cX12_face 166 = .ok (.iload 8, 2) := dk_21 8 (dk_at dksX12_face_7 3 rfl rfl)
theorem dX12_face_168 : decode cX12_face 168 = .ok (.aload_n 0, 1) := dk_42 (dk_at dksX12_face_7 5 rfl rfl)
theorem dX12_face_169 : decode cX12_face 169 = .ok (.getfield 16, 3) := dk_180 0 16 (dk_at dksX12_face_7 6 rfl rfl)
theorem dX12_face_172 : decode cX12_face 172 = .ok (.iload 8, 2) := dk_21 8 (dk_at dksX12_face_7 9 rfl rfl)
theorem dX12_face_174 : decode cX12_face 174 = .ok (.iaload, 1) := dk_46 (dk_at dksX12_face_7 11 rfl rfl)
theorem dX12_face_175 : decode cX12_face 175 = .ok (.iastore, 1) := dk_79 (dk_at dksX12_face_7 12 rfl rfl)
theorem dX12_face_176 : decode cX12_face 176 = .ok (.aload_n 0, 1) := dk_42 (dk_at dksX12_face_7 13 rfl rfl)
theorem dX12_face_177 : decode cX12_face 177 = .ok (.getfield 57, 3) := dk_180 0 57 (dk_at dksX12_face_7 14 rfl rfl)
theorem dX12_face_180 : decode cX12_face 180 = .ok (.iload 8, 2) := dk_21 8 (dk_at dksX12_face_7 17 rfl rfl)
theorem dX12_face_182 : decode cX12_face 182 = .ok (.aload_n 0, 1) := dk_42 (dk_at dksX12_face_7 19 rfl rfl)
theorem dX12_face_183 : decode cX12_face 183 = .ok (.getfield 19, 3) := dk_180 0 19 (dk_at dksX12_face_7 20 rfl rfl)
theorem dX12_face_186 : decode cX12_face 186 = .ok (.iload 8, 2) := dk_21 8 (dk_at dksX12_face_8 0 rfl rfl)
theorem dX12_face_188 : decode cX12_face 188 = .ok (.baload, 1) := dk_51 (dk_at dksX12_face_8 2 rfl rfl)
theorem dX12_face_189 : decode cX12_face 189 = .ok (.bastore, 1) := dk_84 (dk_at dksX12_face_8 3 rfl rfl)
theorem dX12_face_190 : decode cX12_face 190 = .ok (.iinc 8 1, 3) := dk_132 8 1 (dk_at dksX12_face_8 4 rfl rfl)
theorem dX12_face_193 : decode cX12_face 193 = .ok (.goto (-37), 3) := dk_167 255 219 (dk_at dksX12_face_8 7 rfl rfl)
theorem dX12_face_196 : decode cX12_face 196 = .ok (.iconst 0, 1) := dk_3 (dk_at dksX12_face_8 10 rfl rfl)
theorem dX12_face_197 : decode cX12_face 197 = .ok (.istore 8, 2) := dk_54 8 (dk_at dksX12_face_8 11 rfl rfl)
theorem dX12_face_199 : decode cX12_face 199 = .ok (.iload 8, 2) := dk_21 8 (dk_at dksX12_face_8 13 rfl rfl)
theorem dX12_face_201 : decode cX12_face 201 = .ok (.aload_n 0, 1) := dk_42 (dk_at dksX12_face_8 15 rfl rfl)
theorem dX12_face_202 : decode cX12_face 202 = .ok (.getfield 149, 3) := dk_180 0 149 (dk_at dksX12_face_8 16 rfl rfl)
theorem dX12_face_205 : decode cX12_face 205 = .ok (.if_icmp .ge 102, 3) := dk_162 0 102 (dk_at dksX12_face_8 19 rfl rfl)
theorem dX12_face_208 : decode cX12_face 208 = .ok (.aload_n 0, 1) := dk_42 (dk_at dksX12_face_8 22 rfl rfl)
theorem dX12_face_209 : decode cX12_face 209 = .ok (.iload 8, 2) := dk_21 8 (dk_at dksX12_face_9 0 rfl rfl)
theorem dX12_face_211 : decode cX12_face 211 = .ok (.invokevirtual 185, 3) := dk_182 0 185 (dk_at dksX12_face_9 2 rfl rfl)
theorem dX12_face_214 : decode cX12_face 214 = .ok (.ifCond .ne 87, 3) := dk_154 0 87 (dk_at dksX12_face_9 5 rfl rfl)
theorem dX12_face_217 : decode cX12_face 217 = .ok (.aload_n 0, 1) := dk_42 (dk_at dksX12_face_9 8 rfl rfl)
theorem dX12_face_218 : decode cX12_face 218 = .ok (.iload_n 3, 1) := dk_29 (dk_at dksX12_face_9 9 rfl rfl)
theorem dX12_face_219 : decode cX12_face 219 = .ok (.putfield 118, 3) := dk_181 0 118 (dk_at dksX12_face_9 10 rfl rfl)
theorem dX12_face_222 : decode cX12_face 222 = .ok (.aload_n 0, 1) := dk_42 (dk_at dksX12_face_9 13 rfl rfl)
theorem dX12_face_223 : decode cX12_face 223 = .ok (.iload 4, 2) := dk_21 4 (dk_at dksX12_face_9 14 rfl rfl)
theorem dX12_face_225 : decode cX12_face 225 = .ok (.putfield 165, 3) := dk_181 0 165 (dk_at dksX12_face_9 16 rfl rfl)
theorem dX12_face_228 : decode cX12_face 228 = .ok (.aload_n 0, 1) := dk_42 (dk_at dksX12_face_9 19 rfl rfl)
theorem dX12_face_229 : decode cX12_face 229 = .ok (.iload 5, 2) := dk_21 5 (dk_at dksX12_face_9 20 rfl rfl)
theorem dX12_face_231 : decode cX12_face 231 = .ok (.putfield 170, 3) := dk_181 0 170 (dk_at dksX12_face_10 0 rfl rfl)
theorem dX12_face_234 : decode cX12_face 234 = .ok (.aload_n 0, 1) := dk_42 (dk_at dksX12_face_10 3 rfl rfl)
theorem dX12_face_235 : decode cX12_face 235 = .ok (.iload 6, 2) := dk_21 6 (dk_at dksX12_face_10 4 rfl rfl)
theorem dX12_face_237 : decode cX12_face 237 = .ok (.putfield 173, 3) := dk_181 0 173 (dk_at dksX12_face_10 6 rfl rfl)
theorem dX12_face_240 : decode cX12_face 240 = .ok (.aload_n 0, 1) := dk_42 (dk_at dksX12_face_10 9 rfl rfl)
theorem dX12_face_241 : decode cX12_face 241 = .ok (.iload 7, 2) := dk_21 7 (dk_at dksX12_face_10 10 rfl rfl)
theorem dX12_face_243 : decode cX12_face 243 = .ok (.putfield 35, 3) := dk_181 0 35 (dk_at dksX12_face_10 12 rfl rfl)
theorem dX12_face_246 : decode cX12_face 246 = .ok (.iconst 0, 1) := dk_3 (dk_at dksX12_face_10 15 rfl rfl)
theorem dX12_face_247 : decode cX12_face 247 = .ok (.istore 9, 2) := dk_54 9 (dk_at dksX12_face_10 16 rfl rfl)
theorem dX12_face_249 : decode cX12_face 249 = .ok (.iload 9, 2) := dk_21 9 (dk_at dksX12_face_10 18 rfl rfl)
theorem dX12_face_251 : decode cX12_face 251 = .ok (.iconst 5, 1) := dk_8 (dk_at dksX12_face_10 20 rfl rfl)
theorem dX12_face_252 : decode cX12_face 252 = .ok (.if_icmp .ge 37, 3) := dk_162 0 37 (dk_at dksX12_face_10 21 rfl rfl)
theorem dX12_face_255 : decode cX12_face 255 = .ok (.aload_n 0, 1) := dk_42 (dk_at dksX12_face_11 0 rfl rfl)
theorem dX12_face_256 : decode cX12_face 256 = .ok (.getfield 16, 3) := dk_180 0 16 (dk_at dksX12_face_11 1 rfl rfl)
theorem dX12_face_259 : decode cX12_face 259 = .ok (.iload 9, 2) := dk_21 9 (dk_at dksX12_face_11 4 rfl rfl)
theorem dX12_face_261 : decode cX12_face 261 = .ok (.aload_n 0, 1) := dk_42 (dk_at dksX12_face_11 6 rfl rfl)
theorem dX12_face_262 : decode cX12_face 262 = .ok (.getfield 54, 3) := dk_180 0 54 (dk_at dksX12_face_11 7 rfl rfl)
theorem dX12_face_265 : decode cX12_face 265 = .ok (.iload 9, 2) := dk_21 9 (dk_at dksX12_face_11 10 rfl rfl)
theorem dX12_face_267 : decode cX12_face 267 = .ok (.iaload, 1) := dk_46 (dk_at dksX12_face_11 12 rfl rfl)
theorem dX12_face_268 : decode cX12_face 268 = .ok (.iastore, 1) := dk_79 (dk_at dksX12_face_11 13 rfl rfl)
theorem dX12_face_269 : decode cX12_face 269 = .ok (.aload_n 0, 1) := dk_42 (dk_at dksX12_face_11 14 rfl rfl)
theorem dX12_face_270 : decode cX12_face 270 = .ok (.getfield 19, 3) := dk_180 0 19 (dk_at dksX12_face_11 15 rfl rfl)
theorem dX12_face_273 : decode cX12_face 273 = .ok (.iload 9, 2) := dk_21 9 (dk_at dksX12_face_11 18 rfl rfl)
theorem dX12_face_275 : decode cX12_face 275 = .ok (.aload_n 0, 1) := dk_42 (dk_at dksX12_face_11 20 rfl rfl)
theorem dX12_face_276 : decode cX12_face 276 = .ok (.getfield 57, 3) := dk_180 0 57 (dk_at dksX12_face_11 21 rfl rfl)
theorem dX12_face_279 : decode cX12_face 279 = .ok (.iload 9, 2) := dk_21 9 (dk_at dksX12_face_12 0 rfl rfl)
theorem dX12_face_281 : decode cX12_face 281 = .ok (.baload, 1) := dk_51 (dk_at dksX12_face_12 2 rfl rfl)
theorem dX12_face_282 : decode cX12_face 282 = .ok (.bastore, 1) := dk_84 (dk_at dksX12_face_12 3 rfl rfl)
theorem dX12_face_283 : decode cX12_face 283 = .ok (.iinc 9 1, 3) := dk_132 9 1 (dk_at dksX12_face_12 4 rfl rfl)
theorem dX12_face_286 : decode cX12_face 286 = .ok (.goto (-37), 3) := dk_167 255 219 (dk_at dksX12_face_12 7 rfl rfl)
theorem dX12_face_289 : decode cX12_face 289 = .ok (.sipush (-2000), 3) := dk_17 248 48 (dk_at dksX12_face_12 10 rfl rfl)
theorem dX12_face_292 : decode cX12_face 292 = .ok (.aload_n 0, 1) := dk_42 (dk_at dksX12_face_12 13 rfl rfl)
theorem dX12_face_293 : decode cX12_face 293 = .ok (.getfield 39, 3) := dk_180 0 39 (dk_at dksX12_face_12 14 rfl rfl)
theorem dX12_face_296 : decode cX12_face 296 = .ok (.iload 8, 2) := dk_21 8 (dk_at dksX12_face_12 17 rfl rfl)
theorem dX12_face_298 : decode cX12_face 298 = .ok (.iaload, 1) := dk_46 (dk_at dksX12_face_12 19 rfl rfl)
theorem dX12_face_299 : decode cX12_face 299 = .ok (.isub, 1) := dk_100 (dk_at dksX12_face_12 20 rfl rfl)
theorem dX12_face_300 : decode cX12_face 300 = .ok (.ireturn, 1) := dk_172 (dk_at dksX12_face_12 21 rfl rfl)
theorem dX12_face_301 : decode cX12_face 301 = .ok (.iinc 8 1, 3) := dk_132 8 1 (dk_at dksX12_face_13 0 rfl rfl)
theorem dX12_face_304 : decode cX12_face 304 = .ok (.goto (-105), 3) := dk_167 255 151 (dk_at dksX12_face_13 3 rfl rfl)
theorem dX12_face_307 : decode cX12_face 307 = .ok (.aload_n 0, 1) := dk_42 (dk_at dksX12_face_13 6 rfl rfl)
theorem dX12_face_308 : decode cX12_face 308 = .ok (.iconst 0, 1) := dk_3 (dk_at dksX12_face_13 7 rfl rfl)
theorem dX12_face_309 : decode cX12_face 309 = .ok (.putfield 188, 3) := dk_181 0 188 (dk_at dksX12_face_13 8 rfl rfl)
theorem dX12_face_312 : decode cX12_face 312 = .ok (.aload_n 0, 1) := dk_42 (dk_at dksX12_face_13 11 rfl rfl)
theorem dX12_face_313 : decode cX12_face 313 = .ok (.iconst 0, 1) := dk_3 (dk_at dksX12_face_13 12 rfl rfl)
theorem dX12_face_314 : decode cX12_face 314 = .ok (.putfield 191, 3) := dk_181 0 191 (dk_at dksX12_face_13 13 rfl rfl)
theorem dX12_face_317 : decode cX12_face 317 = .ok (.aload_n 0, 1) := dk_42 (dk_at dksX12_face_13 16 rfl rfl)
theorem dX12_face_318 : decode cX12_face 318 = .ok (.getfield 149, 3) := dk_180 0 149 (dk_at dksX12_face_13 17 rfl rfl)
theorem dX12_face_321 : decode cX12_face 321 = .ok (.ireturn, 1) := dk_172 (dk_at dksX12_face_13 20 rfl rfl)
abbrev cX12_wrongRow : ByteArray := prog_19_method_70_code
def yX12_wrongRow : MethodName := ⟨RX12, "wrongRow", "(I)I"⟩
def dkwX12_wrongRow_2 : List UInt8 := [172]
abbrev dktX12_wrongRow_2 : List UInt8 := dkwX12_wrongRow_2 ++ []
def dkwX12_wrongRow_1 : List UInt8 := [154, 0, 8, 16, 245, 167, 0, 19, 42, 180, 0, 96, 27, 46, 5, 159, 0, 8, 16, 244, 167, 0, 4, 3]
abbrev dktX12_wrongRow_1 : List UInt8 := dkwX12_wrongRow_1 ++ dktX12_wrongRow_2
def dkwX12_wrongRow_0 : List UInt8 := [27, 133, 9, 20, 1, 73, 184, 0, 121, 154, 0, 7, 2, 167, 0, 33, 42, 180, 0, 96, 27, 46]
abbrev dktX12_wrongRow_0 : List UInt8 := dkwX12_wrongRow_0 ++ dktX12_wrongRow_1
theorem dksX12_wrongRow_0 : cX12_wrongRow.data.toList.drop 0 = dktX12_wrongRow_0 := by decide +kernel
theorem dksX12_wrongRow_1 : cX12_wrongRow.data.toList.drop 22 = dktX12_wrongRow_1 := dk_seg dksX12_wrongRow_0 22 rfl rfl
theorem dksX12_wrongRow_2 : cX12_wrongRow.data.toList.drop 46 = dktX12_wrongRow_2 := dk_seg dksX12_wrongRow_1 24 rfl rfl
theorem dX12_wrongRow_0 : decode cX12_wrongRow 0 = .ok (.iload_n 1, 1) := dk_27 (dk_at dksX12_wrongRow_0 0 rfl rfl)
theorem dX12_wrongRow_1 : decode cX12_wrongRow 1 = .ok (.i2l, 1) := dk_133 (dk_at dksX12_wrongRow_0 1 rfl rfl)
theorem dX12_wrongRow_2 : decode cX12_wrongRow 2 = .ok (.lconst 0, 1) := dk_9 (dk_at dksX12_wrongRow_0 2 rfl rfl)
theorem dX12_wrongRow_3 : decode cX12_wrongRow 3 = .ok (.ldc2_w 329, 3) := dk_20 1 73 (dk_at dksX12_wrongRow_0 3 rfl rfl)
theorem dX12_wrongRow_6 : decode cX12_wrongRow 6 = .ok (.invokestatic 121, 3) := dk_184 0 121 (dk_at dksX12_wrongRow_0 6 rfl rfl)
theorem dX12_wrongRow_9 : decode cX12_wrongRow 9 = .ok (.ifCond .ne 7, 3) := dk_154 0 7 (dk_at dksX12_wrongRow_0 9 rfl rfl)
theorem dX12_wrongRow_12 : decode cX12_wrongRow 12 = .ok (.iconst (-1), 1) := dk_2 (dk_at dksX12_wrongRow_0 12 rfl rfl)
theorem dX12_wrongRow_13 : decode cX12_wrongRow 13 = .ok (.goto 33, 3) := dk_167 0 33 (dk_at dksX12_wrongRow_0 13 rfl rfl)
theorem dX12_wrongRow_16 : decode cX12_wrongRow 16 = .ok (.aload_n 0, 1) := dk_42 (dk_at dksX12_wrongRow_0 16 rfl rfl)
theorem dX12_wrongRow_17 : decode cX12_wrongRow 17 = .ok (.getfield 96, 3) := dk_180 0 96 (dk_at dksX12_wrongRow_0 17 rfl rfl)
theorem dX12_wrongRow_20 : decode cX12_wrongRow 20 = .ok (.iload_n 1, 1) := dk_27 (dk_at dksX12_wrongRow_0 20 rfl rfl)
theorem dX12_wrongRow_21 : decode cX12_wrongRow 21 = .ok (.iaload, 1) := dk_46 (dk_at dksX12_wrongRow_0 21 rfl rfl)
theorem dX12_wrongRow_22 : decode cX12_wrongRow 22 = .ok (.ifCond .ne 8, 3) := dk_154 0 8 (dk_at dksX12_wrongRow_1 0 rfl rfl)
theorem dX12_wrongRow_25 : decode cX12_wrongRow 25 = .ok (.bipush (-11), 2) := dk_16 245 (dk_at dksX12_wrongRow_1 3 rfl rfl)
theorem dX12_wrongRow_27 : decode cX12_wrongRow 27 = .ok (.goto 19, 3) := dk_167 0 19 (dk_at dksX12_wrongRow_1 5 rfl rfl)
theorem dX12_wrongRow_30 : decode cX12_wrongRow 30 = .ok (.aload_n 0, 1) := dk_42 (dk_at dksX12_wrongRow_1 8 rfl rfl)
theorem dX12_wrongRow_31 : decode cX12_wrongRow 31 = .ok (.getfield 96, 3) := dk_180 0 96 (dk_at dksX12_wrongRow_1 9 rfl rfl)
theorem dX12_wrongRow_34 : decode cX12_wrongRow 34 = .ok (.iload_n 1, 1) := dk_27 (dk_at dksX12_wrongRow_1 12 rfl rfl)
theorem dX12_wrongRow_35 : decode cX12_wrongRow 35 = .ok (.iaload, 1) := dk_46 (dk_at dksX12_wrongRow_1 13 rfl rfl)
theorem dX12_wrongRow_36 : decode cX12_wrongRow 36 = .ok (.iconst 2, 1) := dk_5 (dk_at dksX12_wrongRow_1 14 rfl rfl)
theorem dX12_wrongRow_37 : decode cX12_wrongRow 37 = .ok (.if_icmp .eq 8, 3) := dk_159 0 8 (dk_at dksX12_wrongRow_1 15 rfl rfl)
theorem dX12_wrongRow_40 : decode cX12_wrongRow 40 = .ok (.bipush (-12), 2) := dk_16 244 (dk_at dksX12_wrongRow_1 18 rfl rfl)
theorem dX12_wrongRow_42 : decode cX12_wrongRow 42 = .ok (.goto 4, 3) := dk_167 0 4 (dk_at dksX12_wrongRow_1 20 rfl rfl)
theorem dX12_wrongRow_45 : decode cX12_wrongRow 45 = .ok (.iconst 0, 1) := dk_3 (dk_at dksX12_wrongRow_1 23 rfl rfl)
theorem dX12_wrongRow_46 : decode cX12_wrongRow 46 = .ok (.ireturn, 1) := dk_172 (dk_at dksX12_wrongRow_2 0 rfl rfl)
abbrev cX12_in : ByteArray := prog_19_method_3_code
def yX12_in : MethodName := ⟨RX12, "in", "(JJJ)Z"⟩
def dkwX12_in_0 : List UInt8 := [30, 32, 148, 155, 0, 14, 30, 22, 4, 148, 157, 0, 7, 4, 167, 0, 4, 3, 172]
abbrev dktX12_in_0 : List UInt8 := dkwX12_in_0 ++ []
theorem dksX12_in_0 : cX12_in.data.toList.drop 0 = dktX12_in_0 := by decide +kernel
theorem dX12_in_0 : decode cX12_in 0 = .ok (.lload_n 0, 1) := dk_30 (dk_at dksX12_in_0 0 rfl rfl)
theorem dX12_in_1 : decode cX12_in 1 = .ok (.lload_n 2, 1) := dk_32 (dk_at dksX12_in_0 1 rfl rfl)
theorem dX12_in_2 : decode cX12_in 2 = .ok (.lcmp, 1) := dk_148 (dk_at dksX12_in_0 2 rfl rfl)
theorem dX12_in_3 : decode cX12_in 3 = .ok (.ifCond .lt 14, 3) := dk_155 0 14 (dk_at dksX12_in_0 3 rfl rfl)
theorem dX12_in_6 : decode cX12_in 6 = .ok (.lload_n 0, 1) := dk_30 (dk_at dksX12_in_0 6 rfl rfl)
theorem dX12_in_7 : decode cX12_in 7 = .ok (.lload 4, 2) := dk_22 4 (dk_at dksX12_in_0 7 rfl rfl)
theorem dX12_in_9 : decode cX12_in 9 = .ok (.lcmp, 1) := dk_148 (dk_at dksX12_in_0 9 rfl rfl)
theorem dX12_in_10 : decode cX12_in 10 = .ok (.ifCond .gt 7, 3) := dk_157 0 7 (dk_at dksX12_in_0 10 rfl rfl)
theorem dX12_in_13 : decode cX12_in 13 = .ok (.iconst 1, 1) := dk_4 (dk_at dksX12_in_0 13 rfl rfl)
theorem dX12_in_14 : decode cX12_in 14 = .ok (.goto 4, 3) := dk_167 0 4 (dk_at dksX12_in_0 14 rfl rfl)
theorem dX12_in_17 : decode cX12_in 17 = .ok (.iconst 0, 1) := dk_3 (dk_at dksX12_in_0 17 rfl rfl)
theorem dX12_in_18 : decode cX12_in 18 = .ok (.ireturn, 1) := dk_172 (dk_at dksX12_in_0 18 rfl rfl)
abbrev cX12_readStatement : ByteArray := prog_19_method_9_code
def yX12_readStatement : MethodName := ⟨RX12, "readStatement", "()V"⟩
def dkwX12_readStatement_11 : List UInt8 := [182, 0, 155, 42, 89, 180, 0, 149, 4, 96, 181, 0, 149, 177]
abbrev dktX12_readStatement_11 : List UInt8 := dkwX12_readStatement_11 ++ []
def dkwX12_readStatement_10 : List UInt8 := [160, 0, 20, 42, 180, 0, 51, 28, 4, 84, 42, 89, 180, 0, 125, 4, 96, 181, 0, 125, 42, 16, 59]
abbrev dktX12_readStatement_10 : List UInt8 := dkwX12_readStatement_10 ++ dktX12_readStatement_11
def dkwX12_readStatement_9 : List UInt8 := [42, 182, 0, 146, 79, 42, 180, 0, 134, 154, 0, 35, 27, 16, 100, 160, 0, 29, 42, 182, 0, 138, 16, 99]
abbrev dktX12_readStatement_9 : List UInt8 := dkwX12_readStatement_9 ++ dktX12_readStatement_10
def dkwX12_readStatement_8 : List UInt8 := [27, 16, 107, 159, 0, 26, 42, 180, 0, 48, 28, 27, 16, 100, 160, 0, 10, 42, 182, 0, 152, 167, 0, 7]
abbrev dktX12_readStatement_8 : List UInt8 := dkwX12_readStatement_8 ++ dktX12_readStatement_9
def dkwX12_readStatement_7 : List UInt8 := [16, 114, 160, 0, 9, 42, 16, 32, 182, 0, 155, 42, 180, 0, 134, 154, 0, 38, 27, 16, 99, 159, 0, 32]
abbrev dktX12_readStatement_7 : List UInt8 := dkwX12_readStatement_7 ++ dktX12_readStatement_8
def dkwX12_readStatement_6 : List UInt8 := [182, 0, 152, 79, 42, 180, 0, 134, 154, 0, 27, 27, 16, 108, 159, 0, 15, 27, 16, 100, 159, 0, 9, 27]
abbrev dktX12_readStatement_6 : List UInt8 := dkwX12_readStatement_6 ++ dktX12_readStatement_7
def dkwX12_readStatement_5 : List UInt8 := [159, 0, 15, 27, 16, 100, 159, 0, 9, 27, 16, 112, 160, 0, 10, 42, 182, 0, 146, 167, 0, 7, 42]
abbrev dktX12_readStatement_5 : List UInt8 := dkwX12_readStatement_5 ++ dktX12_readStatement_6
def dkwX12_readStatement_4 : List UInt8 := [96, 181, 0, 125, 42, 180, 0, 45, 28, 42, 180, 0, 134, 153, 0, 7, 3, 167, 0, 32, 27, 16, 108]
abbrev dktX12_readStatement_4 : List UInt8 := dkwX12_readStatement_4 ++ dktX12_readStatement_5
def dkwX12_readStatement_3 : List UInt8 := [42, 180, 0, 51, 28, 3, 84, 42, 89, 180, 0, 125, 42, 180, 0, 134, 153, 0, 7, 3, 167, 0, 4, 4]
abbrev dktX12_readStatement_3 : List UInt8 := dkwX12_readStatement_3 ++ dktX12_readStatement_4
def dkwX12_readStatement_2 : List UInt8 := [167, 0, 4, 3, 181, 0, 134, 42, 180, 0, 39, 28, 42, 180, 0, 125, 79, 42, 180, 0, 42, 28, 27, 79]
abbrev dktX12_readStatement_2 : List UInt8 := dkwX12_readStatement_2 ++ dktX12_readStatement_3
def dkwX12_readStatement_1 : List UInt8 := [16, 112, 159, 0, 25, 27, 16, 114, 159, 0, 19, 27, 16, 99, 159, 0, 13, 27, 16, 107, 159, 0, 7, 4]
abbrev dktX12_readStatement_1 : List UInt8 := dkwX12_readStatement_1 ++ dktX12_readStatement_2
def dkwX12_readStatement_0 : List UInt8 := [42, 182, 0, 138, 60, 42, 180, 0, 149, 61, 42, 27, 16, 108, 159, 0, 37, 27, 16, 100, 159, 0, 31, 27]
abbrev dktX12_readStatement_0 : List UInt8 := dkwX12_readStatement_0 ++ dktX12_readStatement_1
theorem dksX12_readStatement_0 : cX12_readStatement.data.toList.drop 0 = dktX12_readStatement_0 := by decide +kernel
theorem dksX12_readStatement_1 : cX12_readStatement.data.toList.drop 24 = dktX12_readStatement_1 := dk_seg dksX12_readStatement_0 24 rfl rfl
theorem dksX12_readStatement_2 : cX12_readStatement.data.toList.drop 48 = dktX12_readStatement_2 := dk_seg dksX12_readStatement_1 24 rfl rfl
theorem dksX12_readStatement_3 : cX12_readStatement.data.toList.drop 72 = dktX12_readStatement_3 := dk_seg dksX12_readStatement_2 24 rfl rfl
theorem dksX12_readStatement_4 : cX12_readStatement.data.toList.drop 96 = dktX12_readStatement_4 := dk_seg dksX12_readStatement_3 24 rfl rfl
theorem dksX12_readStatement_5 : cX12_readStatement.data.toList.drop 119 = dktX12_readStatement_5 := dk_seg dksX12_readStatement_4 23 rfl rfl
theorem dksX12_readStatement_6 : cX12_readStatement.data.toList.drop 142 = dktX12_readStatement_6 := dk_seg dksX12_readStatement_5 23 rfl rfl
theorem dksX12_readStatement_7 : cX12_readStatement.data.toList.drop 166 = dktX12_readStatement_7 := dk_seg dksX12_readStatement_6 24 rfl rfl
theorem dksX12_readStatement_8 : cX12_readStatement.data.toList.drop 190 = dktX12_readStatement_8 := dk_seg dksX12_readStatement_7 24 rfl rfl
theorem dksX12_readStatement_9 : cX12_readStatement.data.toList.drop 214 = dktX12_readStatement_9 := dk_seg dksX12_readStatement_8 24 rfl rfl
theorem dksX12_readStatement_10 : cX12_readStatement.data.toList.drop 238 = dktX12_readStatement_10 := dk_seg dksX12_readStatement_9 24 rfl rfl
theorem dksX12_readStatement_11 : cX12_readStatement.data.toList.drop 261 = dktX12_readStatement_11 := dk_seg dksX12_readStatement_10 23 rfl rfl
theorem dX12_readStatement_0 : decode cX12_readStatement 0 = .ok (.aload_n 0, 1) := dk_42 (dk_at dksX12_readStatement_0 0 rfl rfl)
theorem dX12_readStatement_1 : decode cX12_readStatement 1 = .ok (.invokevirtual 138, 3) := dk_182 0 138 (dk_at dksX12_readStatement_0 1 rfl rfl)
theorem dX12_readStatement_4 : decode cX12_readStatement 4 = .ok (.istore_n 1, 1) := dk_60 (dk_at dksX12_readStatement_0 4 rfl rfl)
theorem dX12_readStatement_5 : decode cX12_readStatement 5 = .ok (.aload_n 0, 1) := dk_42 (dk_at dksX12_readStatement_0 5 rfl rfl)
theorem dX12_readStatement_6 : decode cX12_readStatement 6 = .ok (.getfield 149, 3) := dk_180 0 149 (dk_at dksX12_readStatement_0 6 rfl rfl)
theorem dX12_readStatement_9 : decode cX12_readStatement 9 = .ok (.istore_n 2, 1) := dk_61 (dk_at dksX12_readStatement_0 9 rfl rfl)
theorem dX12_readStatement_10 : decode cX12_readStatement 10 = .ok (.aload_n 0, 1) := dk_42 (dk_at dksX12_readStatement_0 10 rfl rfl)
theorem dX12_readStatement_11 : decode cX12_readStatement 11 = .ok (.iload_n 1, 1) := dk_27 (dk_at dksX12_readStatement_0 11 rfl rfl)
theorem dX12_readStatement_12 : decode cX12_readStatement 12 = .ok (.bipush 108, 2) := dk_16 108 (dk_at dksX12_readStatement_0 12 rfl rfl)
theorem dX12_readStatement_14 : decode cX12_readStatement 14 = .ok (.if_icmp .eq 37, 3) := dk_159 0 37 (dk_at dksX12_readStatement_0 14 rfl rfl)
theorem dX12_readStatement_17 : decode cX12_readStatement 17 = .ok (.iload_n 1, 1) := dk_27 (dk_at dksX12_readStatement_0 17 rfl rfl)
theorem dX12_readStatement_18 : decode cX12_readStatement 18 = .ok (.bipush 100, 2) := dk_16 100 (dk_at dksX12_readStatement_0 18 rfl rfl)
theorem dX12_readStatement_20 : decode cX12_readStatement 20 = .ok (.if_icmp .eq 31, 3) := dk_159 0 31 (dk_at dksX12_readStatement_0 20 rfl rfl)
theorem dX12_readStatement_23 : decode cX12_readStatement 23 = .ok (.iload_n 1, 1) := dk_27 (dk_at dksX12_readStatement_0 23 rfl rfl)
theorem dX12_readStatement_24 : decode cX12_readStatement 24 = .ok (.bipush 112, 2) := dk_16 112 (dk_at dksX12_readStatement_1 0 rfl rfl)
theorem dX12_readStatement_26 : decode cX12_readStatement 26 = .ok (.if_icmp .eq 25, 3) := dk_159 0 25 (dk_at dksX12_readStatement_1 2 rfl rfl)
theorem dX12_readStatement_29 : decode cX12_readStatement 29 = .ok (.iload_n 1, 1) := dk_27 (dk_at dksX12_readStatement_1 5 rfl rfl)
theorem dX12_readStatement_30 : decode cX12_readStatement 30 = .ok (.bipush 114, 2) := dk_16 114 (dk_at dksX12_readStatement_1 6 rfl rfl)
theorem dX12_readStatement_32 : decode cX12_readStatement 32 = .ok (.if_icmp .eq 19, 3) := dk_159 0 19 (dk_at dksX12_readStatement_1 8 rfl rfl)
theorem dX12_readStatement_35 : decode cX12_readStatement 35 = .ok (.iload_n 1, 1) := dk_27 (dk_at dksX12_readStatement_1 11 rfl rfl)
theorem dX12_readStatement_36 : decode cX12_readStatement 36 = .ok (.bipush 99, 2) := dk_16 99 (dk_at dksX12_readStatement_1 12 rfl rfl)
theorem dX12_readStatement_38 : decode cX12_readStatement 38 = .ok (.if_icmp .eq 13, 3) := dk_159 0 13 (dk_at dksX12_readStatement_1 14 rfl rfl)
theorem dX12_readStatement_41 : decode cX12_readStatement 41 = .ok (.iload_n 1, 1) := dk_27 (dk_at dksX12_readStatement_1 17 rfl rfl)
theorem dX12_readStatement_42 : decode cX12_readStatement 42 = .ok (.bipush 107, 2) := dk_16 107 (dk_at dksX12_readStatement_1 18 rfl rfl)
theorem dX12_readStatement_44 : decode cX12_readStatement 44 = .ok (.if_icmp .eq 7, 3) := dk_159 0 7 (dk_at dksX12_readStatement_1 20 rfl rfl)
theorem dX12_readStatement_47 : decode cX12_readStatement 47 = .ok (.iconst 1, 1) := dk_4 (dk_at dksX12_readStatement_1 23 rfl rfl)
theorem dX12_readStatement_48 : decode cX12_readStatement 48 = .ok (.goto 4, 3) := dk_167 0 4 (dk_at dksX12_readStatement_2 0 rfl rfl)
theorem dX12_readStatement_51 : decode cX12_readStatement 51 = .ok (.iconst 0, 1) := dk_3 (dk_at dksX12_readStatement_2 3 rfl rfl)
theorem dX12_readStatement_52 : decode cX12_readStatement 52 = .ok (.putfield 134, 3) := dk_181 0 134 (dk_at dksX12_readStatement_2 4 rfl rfl)
theorem dX12_readStatement_55 : decode cX12_readStatement 55 = .ok (.aload_n 0, 1) := dk_42 (dk_at dksX12_readStatement_2 7 rfl rfl)
theorem dX12_readStatement_56 : decode cX12_readStatement 56 = .ok (.getfield 39, 3) := dk_180 0 39 (dk_at dksX12_readStatement_2 8 rfl rfl)
theorem dX12_readStatement_59 : decode cX12_readStatement 59 = .ok (.iload_n 2, 1) := dk_28 (dk_at dksX12_readStatement_2 11 rfl rfl)
theorem dX12_readStatement_60 : decode cX12_readStatement 60 = .ok (.aload_n 0, 1) := dk_42 (dk_at dksX12_readStatement_2 12 rfl rfl)
theorem dX12_readStatement_61 : decode cX12_readStatement 61 = .ok (.getfield 125, 3) := dk_180 0 125 (dk_at dksX12_readStatement_2 13 rfl rfl)
theorem dX12_readStatement_64 : decode cX12_readStatement 64 = .ok (.iastore, 1) := dk_79 (dk_at dksX12_readStatement_2 16 rfl rfl)
theorem dX12_readStatement_65 : decode cX12_readStatement 65 = .ok (.aload_n 0, 1) := dk_42 (dk_at dksX12_readStatement_2 17 rfl rfl)
theorem dX12_readStatement_66 : decode cX12_readStatement 66 = .ok (.getfield 42, 3) := dk_180 0 42 (dk_at dksX12_readStatement_2 18 rfl rfl)
theorem dX12_readStatement_69 : decode cX12_readStatement 69 = .ok (.iload_n 2, 1) := dk_28 (dk_at dksX12_readStatement_2 21 rfl rfl)
theorem dX12_readStatement_70 : decode cX12_readStatement 70 = .ok (.iload_n 1, 1) := dk_27 (dk_at dksX12_readStatement_2 22 rfl rfl)
theorem dX12_readStatement_71 : decode cX12_readStatement 71 = .ok (.iastore, 1) := dk_79 (dk_at dksX12_readStatement_2 23 rfl rfl)
theorem dX12_readStatement_72 : decode cX12_readStatement 72 = .ok (.aload_n 0, 1) := dk_42 (dk_at dksX12_readStatement_3 0 rfl rfl)
theorem dX12_readStatement_73 : decode cX12_readStatement 73 = .ok (.getfield 51, 3) := dk_180 0 51 (dk_at dksX12_readStatement_3 1 rfl rfl)
theorem dX12_readStatement_76 : decode cX12_readStatement 76 = .ok (.iload_n 2, 1) := dk_28 (dk_at dksX12_readStatement_3 4 rfl rfl)
theorem dX12_readStatement_77 : decode cX12_readStatement 77 = .ok (.iconst 0, 1) := dk_3 (dk_at dksX12_readStatement_3 5 rfl rfl)
theorem dX12_readStatement_78 : decode cX12_readStatement 78 = .ok (.bastore, 1) := dk_84 (dk_at dksX12_readStatement_3 6 rfl rfl)
theorem dX12_readStatement_79 : decode cX12_readStatement 79 = .ok (.aload_n 0, 1) := dk_42 (dk_at dksX12_readStatement_3 7 rfl rfl)
theorem dX12_readStatement_80 : decode cX12_readStatement 80 = .ok (.dup, 1) := dk_89 (dk_at dksX12_readStatement_3 8 rfl rfl)
theorem dX12_readStatement_81 : decode cX12_readStatement 81 = .ok (.getfield 125, 3) := dk_180 0 125 (dk_at dksX12_readStatement_3 9 rfl rfl)
theorem dX12_readStatement_84 : decode cX12_readStatement 84 = .ok (.aload_n 0, 1) := dk_42 (dk_at dksX12_readStatement_3 12 rfl rfl)
theorem dX12_readStatement_85 : decode cX12_readStatement 85 = .ok (.getfield 134, 3) := dk_180 0 134 (dk_at dksX12_readStatement_3 13 rfl rfl)
theorem dX12_readStatement_88 : decode cX12_readStatement 88 = .ok (.ifCond .eq 7, 3) := dk_153 0 7 (dk_at dksX12_readStatement_3 16 rfl rfl)
theorem dX12_readStatement_91 : decode cX12_readStatement 91 = .ok (.iconst 0, 1) := dk_3 (dk_at dksX12_readStatement_3 19 rfl rfl)
theorem dX12_readStatement_92 : decode cX12_readStatement 92 = .ok (.goto 4, 3) := dk_167 0 4 (dk_at dksX12_readStatement_3 20 rfl rfl)
theorem dX12_readStatement_95 : decode cX12_readStatement 95 = .ok (.iconst 1, 1) := dk_4 (dk_at dksX12_readStatement_3 23 rfl rfl)
theorem dX12_readStatement_96 : decode cX12_readStatement 96 = .ok (.iadd, 1) := dk_96 (dk_at dksX12_readStatement_4 0 rfl rfl)
theorem dX12_readStatement_97 : decode cX12_readStatement 97 = .ok (.putfield 125, 3) := dk_181 0 125 (dk_at dksX12_readStatement_4 1 rfl rfl)
theorem dX12_readStatement_100 : decode cX12_readStatement 100 = .ok (.aload_n 0, 1) := dk_42 (dk_at dksX12_readStatement_4 4 rfl rfl)
theorem dX12_readStatement_101 : decode cX12_readStatement 101 = .ok (.getfield 45, 3) := dk_180 0 45 (dk_at dksX12_readStatement_4 5 rfl rfl)
theorem dX12_readStatement_104 : decode cX12_readStatement 104 = .ok (.iload_n 2, 1) := dk_28 (dk_at dksX12_readStatement_4 8 rfl rfl)
theorem dX12_readStatement_105 : decode cX12_readStatement 105 = .ok (.aload_n 0, 1) := dk_42 (dk_at dksX12_readStatement_4 9 rfl rfl)
theorem dX12_readStatement_106 : decode cX12_readStatement 106 = .ok (.getfield 134, 3) := dk_180 0 134 (dk_at dksX12_readStatement_4 10 rfl rfl)
theorem dX12_readStatement_109 : decode cX12_readStatement 109 = .ok (.ifCond .eq 7, 3) := dk_153 0 7 (dk_at dksX12_readStatement_4 13 rfl rfl)
theorem dX12_readStatement_112 : decode cX12_readStatement 112 = .ok (.iconst 0, 1) := dk_3 (dk_at dksX12_readStatement_4 16 rfl rfl)
theorem dX12_readStatement_113 : decode cX12_readStatement 113 = .ok (.goto 32, 3) := dk_167 0 32 (dk_at dksX12_readStatement_4 17 rfl rfl)
theorem dX12_readStatement_116 : decode cX12_readStatement 116 = .ok (.iload_n 1, 1) := dk_27 (dk_at dksX12_readStatement_4 20 rfl rfl)
theorem dX12_readStatement_117 : decode cX12_readStatement 117 = .ok (.bipush 108, 2) := dk_16 108 (dk_at dksX12_readStatement_4 21 rfl rfl)
theorem dX12_readStatement_119 : decode cX12_readStatement 119 = .ok (.if_icmp .eq 15, 3) := dk_159 0 15 (dk_at dksX12_readStatement_5 0 rfl rfl)
theorem dX12_readStatement_122 : decode cX12_readStatement 122 = .ok (.iload_n 1, 1) := dk_27 (dk_at dksX12_readStatement_5 3 rfl rfl)
theorem dX12_readStatement_123 : decode cX12_readStatement 123 = .ok (.bipush 100, 2) := dk_16 100 (dk_at dksX12_readStatement_5 4 rfl rfl)
theorem dX12_readStatement_125 : decode cX12_readStatement 125 = .ok (.if_icmp .eq 9, 3) := dk_159 0 9 (dk_at dksX12_readStatement_5 6 rfl rfl)
theorem dX12_readStatement_128 : decode cX12_readStatement 128 = .ok (.iload_n 1, 1) := dk_27 (dk_at dksX12_readStatement_5 9 rfl rfl)
theorem dX12_readStatement_129 : decode cX12_readStatement 129 = .ok (.bipush 112, 2) := dk_16 112 (dk_at dksX12_readStatement_5 10 rfl rfl)
theorem dX12_readStatement_131 : decode cX12_readStatement 131 = .ok (.if_icmp .ne 10, 3) := dk_160 0 10 (dk_at dksX12_readStatement_5 12 rfl rfl)
theorem dX12_readStatement_134 : decode cX12_readStatement 134 = .ok (.aload_n 0, 1) := dk_42 (dk_at dksX12_readStatement_5 15 rfl rfl)
theorem dX12_readStatement_135 : decode cX12_readStatement 135 = .ok (.invokevirtual 146, 3) := dk_182 0 146 (dk_at dksX12_readStatement_5 16 rfl rfl)
theorem dX12_readStatement_138 : decode cX12_readStatement 138 = .ok (.goto 7, 3) := dk_167 0 7 (dk_at dksX12_readStatement_5 19 rfl rfl)
theorem dX12_readStatement_141 : decode cX12_readStatement 141 = .ok (.aload_n 0, 1) := dk_42 (dk_at dksX12_readStatement_5 22 rfl rfl)
theorem dX12_readStatement_142 : decode cX12_readStatement 142 = .ok (.invokevirtual 152, 3) := dk_182 0 152 (dk_at dksX12_readStatement_6 0 rfl rfl)
theorem dX12_readStatement_145 : decode cX12_readStatement 145 = .ok (.iastore, 1) := dk_79 (dk_at dksX12_readStatement_6 3 rfl rfl)
theorem dX12_readStatement_146 : decode cX12_readStatement 146 = .ok (.aload_n 0, 1) := dk_42 (dk_at dksX12_readStatement_6 4 rfl rfl)
theorem dX12_readStatement_147 : decode cX12_readStatement 147 = .ok (.getfield 134, 3) := dk_180 0 134 (dk_at dksX12_readStatement_6 5 rfl rfl)
theorem dX12_readStatement_150 : decode cX12_readStatement 150 = .ok (.ifCond .ne 27, 3) := dk_154 0 27 (dk_at dksX12_readStatement_6 8 rfl rfl)
theorem dX12_readStatement_153 : decode cX12_readStatement 153 = .ok (.iload_n 1, 1) := dk_27 (dk_at dksX12_readStatement_6 11 rfl rfl)
theorem dX12_readStatement_154 : decode cX12_readStatement 154 = .ok (.bipush 108, 2) := dk_16 108 (dk_at dksX12_readStatement_6 12 rfl rfl)
theorem dX12_readStatement_156 : decode cX12_readStatement 156 = .ok (.if_icmp .eq 15, 3) := dk_159 0 15 (dk_at dksX12_readStatement_6 14 rfl rfl)
theorem dX12_readStatement_159 : decode cX12_readStatement 159 = .ok (.iload_n 1, 1) := dk_27 (dk_at dksX12_readStatement_6 17 rfl rfl)
theorem dX12_readStatement_160 : decode cX12_readStatement 160 = .ok (.bipush 100, 2) := dk_16 100 (dk_at dksX12_readStatement_6 18 rfl rfl)
theorem dX12_readStatement_162 : decode cX12_readStatement 162 = .ok (.if_icmp .eq 9, 3) := dk_159 0 9 (dk_at dksX12_readStatement_6 20 rfl rfl)
theorem dX12_readStatement_165 : decode cX12_readStatement 165 = .ok (.iload_n 1, 1) := dk_27 (dk_at dksX12_readStatement_6 23 rfl rfl)
theorem dX12_readStatement_166 : decode cX12_readStatement 166 = .ok (.bipush 114, 2) := dk_16 114 (dk_at dksX12_readStatement_7 0 rfl rfl)
theorem dX12_readStatement_168 : decode cX12_readStatement 168 = .ok (.if_icmp .ne 9, 3) := dk_160 0 9 (dk_at dksX12_readStatement_7 2 rfl rfl)
theorem dX12_readStatement_171 : decode cX12_readStatement 171 = .ok (.aload_n 0, 1) := dk_42 (dk_at dksX12_readStatement_7 5 rfl rfl)
theorem dX12_readStatement_172 : decode cX12_readStatement 172 = .ok (.bipush 32, 2) := dk_16 32 (dk_at dksX12_readStatement_7 6 rfl rfl)
theorem dX12_readStatement_174 : decode cX12_readStatement 174 = .ok (.invokevirtual 155, 3) := dk_182 0 155 (dk_at dksX12_readStatement_7 8 rfl rfl)
theorem dX12_readStatement_177 : decode cX12_readStatement 177 = .ok (.aload_n 0, 1) := dk_42 (dk_at dksX12_readStatement_7 11 rfl rfl)
theorem dX12_readStatement_178 : decode cX12_readStatement 178 = .ok (.getfield 134, 3) := dk_180 0 134 (dk_at dksX12_readStatement_7 12 rfl rfl)
theorem dX12_readStatement_181 : decode cX12_readStatement 181 = .ok (.ifCond .ne 38, 3) := dk_154 0 38 (dk_at dksX12_readStatement_7 15 rfl rfl)
theorem dX12_readStatement_184 : decode cX12_readStatement 184 = .ok (.iload_n 1, 1) := dk_27 (dk_at dksX12_readStatement_7 18 rfl rfl)
theorem dX12_readStatement_185 : decode cX12_readStatement 185 = .ok (.bipush 99, 2) := dk_16 99 (dk_at dksX12_readStatement_7 19 rfl rfl)
theorem dX12_readStatement_187 : decode cX12_readStatement 187 = .ok (.if_icmp .eq 32, 3) := dk_159 0 32 (dk_at dksX12_readStatement_7 21 rfl rfl)
theorem dX12_readStatement_190 : decode cX12_readStatement 190 = .ok (.iload_n 1, 1) := dk_27 (dk_at dksX12_readStatement_8 0 rfl rfl)
theorem dX12_readStatement_191 : decode cX12_readStatement 191 = .ok (.bipush 107, 2) := dk_16 107 (dk_at dksX12_readStatement_8 1 rfl rfl)
theorem dX12_readStatement_193 : decode cX12_readStatement 193 = .ok (.if_icmp .eq 26, 3) := dk_159 0 26 (dk_at dksX12_readStatement_8 3 rfl rfl)
theorem dX12_readStatement_196 : decode cX12_readStatement 196 = .ok (.aload_n 0, 1) := dk_42 (dk_at dksX12_readStatement_8 6 rfl rfl)
theorem dX12_readStatement_197 : decode cX12_readStatement 197 = .ok (.getfield 48, 3) := dk_180 0 48 (dk_at dksX12_readStatement_8 7 rfl rfl)
theorem dX12_readStatement_200 : decode cX12_readStatement 200 = .ok (.iload_n 2, 1) := dk_28 (dk_at dksX12_readStatement_8 10 rfl rfl)
theorem dX12_readStatement_201 : decode cX12_readStatement 201 = .ok (.iload_n 1, 1) := dk_27 (dk_at dksX12_readStatement_8 11 rfl rfl)
theorem dX12_readStatement_202 : decode cX12_readStatement 202 = .ok (.bipush 100, 2) := dk_16 100 (dk_at dksX12_readStatement_8 12 rfl rfl)
theorem dX12_readStatement_204 : decode cX12_readStatement 204 = .ok (.if_icmp .ne 10, 3) := dk_160 0 10 (dk_at dksX12_readStatement_8 14 rfl rfl)
theorem dX12_readStatement_207 : decode cX12_readStatement 207 = .ok (.aload_n 0, 1) := dk_42 (dk_at dksX12_readStatement_8 17 rfl rfl)
theorem dX12_readStatement_208 : decode cX12_readStatement 208 = .ok (.invokevirtual 152, 3) := dk_182 0 152 (dk_at dksX12_readStatement_8 18 rfl rfl)
theorem dX12_readStatement_211 : decode cX12_readStatement 211 = .ok (.goto 7, 3) := dk_167 0 7 (dk_at dksX12_readStatement_8 21 rfl rfl)
theorem dX12_readStatement_214 : decode cX12_readStatement 214 = .ok (.aload_n 0, 1) := dk_42 (dk_at dksX12_readStatement_9 0 rfl rfl)
theorem dX12_readStatement_215 : decode cX12_readStatement 215 = .ok (.invokevirtual 146, 3) := dk_182 0 146 (dk_at dksX12_readStatement_9 1 rfl rfl)
theorem dX12_readStatement_218 : decode cX12_readStatement 218 = .ok (.iastore, 1) := dk_79 (dk_at dksX12_readStatement_9 4 rfl rfl)
theorem dX12_readStatement_219 : decode cX12_readStatement 219 = .ok (.aload_n 0, 1) := dk_42 (dk_at dksX12_readStatement_9 5 rfl rfl)
theorem dX12_readStatement_220 : decode cX12_readStatement 220 = .ok (.getfield 134, 3) := dk_180 0 134 (dk_at dksX12_readStatement_9 6 rfl rfl)
theorem dX12_readStatement_223 : decode cX12_readStatement 223 = .ok (.ifCond .ne 35, 3) := dk_154 0 35 (dk_at dksX12_readStatement_9 9 rfl rfl)
theorem dX12_readStatement_226 : decode cX12_readStatement 226 = .ok (.iload_n 1, 1) := dk_27 (dk_at dksX12_readStatement_9 12 rfl rfl)
theorem dX12_readStatement_227 : decode cX12_readStatement 227 = .ok (.bipush 100, 2) := dk_16 100 (dk_at dksX12_readStatement_9 13 rfl rfl)
theorem dX12_readStatement_229 : decode cX12_readStatement 229 = .ok (.if_icmp .ne 29, 3) := dk_160 0 29 (dk_at dksX12_readStatement_9 15 rfl rfl)
theorem dX12_readStatement_232 : decode cX12_readStatement 232 = .ok (.aload_n 0, 1) := dk_42 (dk_at dksX12_readStatement_9 18 rfl rfl)
theorem dX12_readStatement_233 : decode cX12_readStatement 233 = .ok (.invokevirtual 138, 3) := dk_182 0 138 (dk_at dksX12_readStatement_9 19 rfl rfl)
theorem dX12_readStatement_236 : decode cX12_readStatement 236 = .ok (.bipush 99, 2) := dk_16 99 (dk_at dksX12_readStatement_9 22 rfl rfl)
theorem dX12_readStatement_238 : decode cX12_readStatement 238 = .ok (.if_icmp .ne 20, 3) := dk_160 0 20 (dk_at dksX12_readStatement_10 0 rfl rfl)
theorem dX12_readStatement_241 : decode cX12_readStatement 241 = .ok (.aload_n 0, 1) := dk_42 (dk_at dksX12_readStatement_10 3 rfl rfl)
theorem dX12_readStatement_242 : decode cX12_readStatement 242 = .ok (.getfield 51, 3) := dk_180 0 51 (dk_at dksX12_readStatement_10 4 rfl rfl)
theorem dX12_readStatement_245 : decode cX12_readStatement 245 = .ok (.iload_n 2, 1) := dk_28 (dk_at dksX12_readStatement_10 7 rfl rfl)
theorem dX12_readStatement_246 : decode cX12_readStatement 246 = .ok (.iconst 1, 1) := dk_4 (dk_at dksX12_readStatement_10 8 rfl rfl)
theorem dX12_readStatement_247 : decode cX12_readStatement 247 = .ok (.bastore, 1) := dk_84 (dk_at dksX12_readStatement_10 9 rfl rfl)
theorem dX12_readStatement_248 : decode cX12_readStatement 248 = .ok (.aload_n 0, 1) := dk_42 (dk_at dksX12_readStatement_10 10 rfl rfl)
theorem dX12_readStatement_249 : decode cX12_readStatement 249 = .ok (.dup, 1) := dk_89 (dk_at dksX12_readStatement_10 11 rfl rfl)
theorem dX12_readStatement_250 : decode cX12_readStatement 250 = .ok (.getfield 125, 3) := dk_180 0 125 (dk_at dksX12_readStatement_10 12 rfl rfl)
theorem dX12_readStatement_253 : decode cX12_readStatement 253 = .ok (.iconst 1, 1) := dk_4 (dk_at dksX12_readStatement_10 15 rfl rfl)
theorem dX12_readStatement_254 : decode cX12_readStatement 254 = .ok (.iadd, 1) := dk_96 (dk_at dksX12_readStatement_10 16 rfl rfl)
theorem dX12_readStatement_255 : decode cX12_readStatement 255 = .ok (.putfield 125, 3) := dk_181 0 125 (dk_at dksX12_readStatement_10 17 rfl rfl)
theorem dX12_readStatement_258 : decode cX12_readStatement 258 = .ok (.aload_n 0, 1) := dk_42 (dk_at dksX12_readStatement_10 20 rfl rfl)
theorem dX12_readStatement_259 : decode cX12_readStatement 259 = .ok (.bipush 59, 2) := dk_16 59 (dk_at dksX12_readStatement_10 21 rfl rfl)
theorem dX12_readStatement_261 : decode cX12_readStatement 261 = .ok (.invokevirtual 155, 3) := dk_182 0 155 (dk_at dksX12_readStatement_11 0 rfl rfl)
theorem dX12_readStatement_264 : decode cX12_readStatement 264 = .ok (.aload_n 0, 1) := dk_42 (dk_at dksX12_readStatement_11 3 rfl rfl)
theorem dX12_readStatement_265 : decode cX12_readStatement 265 = .ok (.dup, 1) := dk_89 (dk_at dksX12_readStatement_11 4 rfl rfl)
theorem dX12_readStatement_266 : decode cX12_readStatement 266 = .ok (.getfield 149, 3) := dk_180 0 149 (dk_at dksX12_readStatement_11 5 rfl rfl)
theorem dX12_readStatement_269 : decode cX12_readStatement 269 = .ok (.iconst 1, 1) := dk_4 (dk_at dksX12_readStatement_11 8 rfl rfl)
theorem dX12_readStatement_270 : decode cX12_readStatement 270 = .ok (.iadd, 1) := dk_96 (dk_at dksX12_readStatement_11 9 rfl rfl)
theorem dX12_readStatement_271 : decode cX12_readStatement 271 = .ok (.putfield 149, 3) := dk_181 0 149 (dk_at dksX12_readStatement_11 10 rfl rfl)
theorem dX12_readStatement_274 : decode cX12_readStatement 274 = .ok (.return_, 1) := dk_177 (dk_at dksX12_readStatement_11 13 rfl rfl)
abbrev cX12_here : ByteArray := prog_19_method_5_code
def yX12_here : MethodName := ⟨RX12, "here", "()I"⟩
def dkwX12_here_1 : List UInt8 := [180, 0, 125, 96, 47, 136, 17, 0, 255, 126, 172]
abbrev dktX12_here_1 : List UInt8 := dkwX12_here_1 ++ []
def dkwX12_here_0 : List UInt8 := [42, 180, 0, 125, 42, 180, 0, 128, 161, 0, 7, 2, 167, 0, 22, 42, 180, 0, 108, 42, 180, 0, 131, 42]
abbrev dktX12_here_0 : List UInt8 := dkwX12_here_0 ++ dktX12_here_1
theorem dksX12_here_0 : cX12_here.data.toList.drop 0 = dktX12_here_0 := by decide +kernel
theorem dksX12_here_1 : cX12_here.data.toList.drop 24 = dktX12_here_1 := dk_seg dksX12_here_0 24 rfl rfl
theorem dX12_here_0 : decode cX12_here 0 = .ok (.aload_n 0, 1) := dk_42 (dk_at dksX12_here_0 0 rfl rfl)
theorem dX12_here_1 : decode cX12_here 1 = .ok (.getfield 125, 3) := dk_180 0 125 (dk_at dksX12_here_0 1 rfl rfl)
theorem dX12_here_4 : decode cX12_here 4 = .ok (.aload_n 0, 1) := dk_42 (dk_at dksX12_here_0 4 rfl rfl)
theorem dX12_here_5 : decode cX12_here 5 = .ok (.getfield 128, 3) := dk_180 0 128 (dk_at dksX12_here_0 5 rfl rfl)
theorem dX12_here_8 : decode cX12_here 8 = .ok (.if_icmp .lt 7, 3) := dk_161 0 7 (dk_at dksX12_here_0 8 rfl rfl)
theorem dX12_here_11 : decode cX12_here 11 = .ok (.iconst (-1), 1) := dk_2 (dk_at dksX12_here_0 11 rfl rfl)
theorem dX12_here_12 : decode cX12_here 12 = .ok (.goto 22, 3) := dk_167 0 22 (dk_at dksX12_here_0 12 rfl rfl)
theorem dX12_here_15 : decode cX12_here 15 = .ok (.aload_n 0, 1) := dk_42 (dk_at dksX12_here_0 15 rfl rfl)
theorem dX12_here_16 : decode cX12_here 16 = .ok (.getfield 108, 3) := dk_180 0 108 (dk_at dksX12_here_0 16 rfl rfl)
theorem dX12_here_19 : decode cX12_here 19 = .ok (.aload_n 0, 1) := dk_42 (dk_at dksX12_here_0 19 rfl rfl)
theorem dX12_here_20 : decode cX12_here 20 = .ok (.getfield 131, 3) := dk_180 0 131 (dk_at dksX12_here_0 20 rfl rfl)
theorem dX12_here_23 : decode cX12_here 23 = .ok (.aload_n 0, 1) := dk_42 (dk_at dksX12_here_0 23 rfl rfl)
theorem dX12_here_24 : decode cX12_here 24 = .ok (.getfield 125, 3) := dk_180 0 125 (dk_at dksX12_here_1 0 rfl rfl)
theorem dX12_here_27 : decode cX12_here 27 = .ok (.iadd, 1) := dk_96 (dk_at dksX12_here_1 3 rfl rfl)
theorem dX12_here_28 : decode cX12_here 28 = .ok (.laload, 1) := dk_47 (dk_at dksX12_here_1 4 rfl rfl)
theorem dX12_here_29 : decode cX12_here 29 = .ok (.l2i, 1) := dk_136 (dk_at dksX12_here_1 5 rfl rfl)
theorem dX12_here_30 : decode cX12_here 30 = .ok (.sipush 255, 3) := dk_17 0 255 (dk_at dksX12_here_1 6 rfl rfl)
theorem dX12_here_33 : decode cX12_here 33 = .ok (.iand, 1) := dk_126 (dk_at dksX12_here_1 9 rfl rfl)
theorem dX12_here_34 : decode cX12_here 34 = .ok (.ireturn, 1) := dk_172 (dk_at dksX12_here_1 10 rfl rfl)
abbrev cX12_readDigit : ByteArray := prog_19_method_7_code
def yX12_readDigit : MethodName := ⟨RX12, "readDigit", "()I"⟩
def dkwX12_readDigit_3 : List UInt8 := [136, 16, 48, 100, 172]
abbrev dktX12_readDigit_3 : List UInt8 := dkwX12_readDigit_3 ++ []
def dkwX12_readDigit_2 : List UInt8 := [180, 0, 125, 4, 96, 181, 0, 125, 42, 180, 0, 108, 42, 180, 0, 131, 42, 180, 0, 125, 96, 4, 100, 47]
abbrev dktX12_readDigit_2 : List UInt8 := dkwX12_readDigit_2 ++ dktX12_readDigit_3
def dkwX12_readDigit_1 : List UInt8 := [154, 0, 7, 4, 167, 0, 4, 3, 181, 0, 134, 42, 180, 0, 134, 153, 0, 5, 3, 172, 42, 89]
abbrev dktX12_readDigit_1 : List UInt8 := dkwX12_readDigit_1 ++ dktX12_readDigit_2
def dkwX12_readDigit_0 : List UInt8 := [42, 42, 180, 0, 134, 154, 0, 20, 42, 182, 0, 138, 133, 20, 0, 142, 20, 0, 144, 184, 0, 121]
abbrev dktX12_readDigit_0 : List UInt8 := dkwX12_readDigit_0 ++ dktX12_readDigit_1
theorem dksX12_readDigit_0 : cX12_readDigit.data.toList.drop 0 = dktX12_readDigit_0 := by decide +kernel
theorem dksX12_readDigit_1 : cX12_readDigit.data.toList.drop 22 = dktX12_readDigit_1 := dk_seg dksX12_readDigit_0 22 rfl rfl
theorem dksX12_readDigit_2 : cX12_readDigit.data.toList.drop 44 = dktX12_readDigit_2 := dk_seg dksX12_readDigit_1 22 rfl rfl
theorem dksX12_readDigit_3 : cX12_readDigit.data.toList.drop 68 = dktX12_readDigit_3 := dk_seg dksX12_readDigit_2 24 rfl rfl
theorem dX12_readDigit_0 : decode cX12_readDigit 0 = .ok (.aload_n 0, 1) := dk_42 (dk_at dksX12_readDigit_0 0 rfl rfl)
theorem dX12_readDigit_1 : decode cX12_readDigit 1 = .ok (.aload_n 0, 1) := dk_42 (dk_at dksX12_readDigit_0 1 rfl rfl)
theorem dX12_readDigit_2 : decode cX12_readDigit 2 = .ok (.getfield 134, 3) := dk_180 0 134 (dk_at dksX12_readDigit_0 2 rfl rfl)
theorem dX12_readDigit_5 : decode cX12_readDigit 5 = .ok (.ifCond .ne 20, 3) := dk_154 0 20 (dk_at dksX12_readDigit_0 5 rfl rfl)
theorem dX12_readDigit_8 : decode cX12_readDigit 8 = .ok (.aload_n 0, 1) := dk_42 (dk_at dksX12_readDigit_0 8 rfl rfl)
theorem dX12_readDigit_9 : decode cX12_readDigit 9 = .ok (.invokevirtual 138, 3) := dk_182 0 138 (dk_at dksX12_readDigit_0 9 rfl rfl)
theorem dX12_readDigit_12 : decode cX12_readDigit 12 = .ok (.i2l, 1) := dk_133 (dk_at dksX12_readDigit_0 12 rfl rfl)
theorem dX12_readDigit_13 : decode cX12_readDigit 13 = .ok (.ldc2_w 142, 3) := dk_20 0 142 (dk_at dksX12_readDigit_0 13 rfl rfl)
theorem dX12_readDigit_16 : decode cX12_readDigit 16 = .ok (.ldc2_w 144, 3) := dk_20 0 144 (dk_at dksX12_readDigit_0 16 rfl rfl)
theorem dX12_readDigit_19 : decode cX12_readDigit 19 = .ok (.invokestatic 121, 3) := dk_184 0 121 (dk_at dksX12_readDigit_0 19 rfl rfl)
theorem dX12_readDigit_22 : decode cX12_readDigit 22 = .ok (.ifCond .ne 7, 3) := dk_154 0 7 (dk_at dksX12_readDigit_1 0 rfl rfl)
theorem dX12_readDigit_25 : decode cX12_readDigit 25 = .ok (.iconst 1, 1) := dk_4 (dk_at dksX12_readDigit_1 3 rfl rfl)
theorem dX12_readDigit_26 : decode cX12_readDigit 26 = .ok (.goto 4, 3) := dk_167 0 4 (dk_at dksX12_readDigit_1 4 rfl rfl)
theorem dX12_readDigit_29 : decode cX12_readDigit 29 = .ok (.iconst 0, 1) := dk_3 (dk_at dksX12_readDigit_1 7 rfl rfl)
theorem dX12_readDigit_30 : decode cX12_readDigit 30 = .ok (.putfield 134, 3) := dk_181 0 134 (dk_at dksX12_readDigit_1 8 rfl rfl)
theorem dX12_readDigit_33 : decode cX12_readDigit 33 = .ok (.aload_n 0, 1) := dk_42 (dk_at dksX12_readDigit_1 11 rfl rfl)
theorem dX12_readDigit_34 : decode cX12_readDigit 34 = .ok (.getfield 134, 3) := dk_180 0 134 (dk_at dksX12_readDigit_1 12 rfl rfl)
theorem dX12_readDigit_37 : decode cX12_readDigit 37 = .ok (.ifCond .eq 5, 3) := dk_153 0 5 (dk_at dksX12_readDigit_1 15 rfl rfl)
theorem dX12_readDigit_40 : decode cX12_readDigit 40 = .ok (.iconst 0, 1) := dk_3 (dk_at dksX12_readDigit_1 18 rfl rfl)
theorem dX12_readDigit_41 : decode cX12_readDigit 41 = .ok (.ireturn, 1) := dk_172 (dk_at dksX12_readDigit_1 19 rfl rfl)
theorem dX12_readDigit_42 : decode cX12_readDigit 42 = .ok (.aload_n 0, 1) := dk_42 (dk_at dksX12_readDigit_1 20 rfl rfl)
theorem dX12_readDigit_43 : decode cX12_readDigit 43 = .ok (.dup, 1) := dk_89 (dk_at dksX12_readDigit_1 21 rfl rfl)
theorem dX12_readDigit_44 : decode cX12_readDigit 44 = .ok (.getfield 125, 3) := dk_180 0 125 (dk_at dksX12_readDigit_2 0 rfl rfl)
theorem dX12_readDigit_47 : decode cX12_readDigit 47 = .ok (.iconst 1, 1) := dk_4 (dk_at dksX12_readDigit_2 3 rfl rfl)
theorem dX12_readDigit_48 : decode cX12_readDigit 48 = .ok (.iadd, 1) := dk_96 (dk_at dksX12_readDigit_2 4 rfl rfl)
theorem dX12_readDigit_49 : decode cX12_readDigit 49 = .ok (.putfield 125, 3) := dk_181 0 125 (dk_at dksX12_readDigit_2 5 rfl rfl)
theorem dX12_readDigit_52 : decode cX12_readDigit 52 = .ok (.aload_n 0, 1) := dk_42 (dk_at dksX12_readDigit_2 8 rfl rfl)
theorem dX12_readDigit_53 : decode cX12_readDigit 53 = .ok (.getfield 108, 3) := dk_180 0 108 (dk_at dksX12_readDigit_2 9 rfl rfl)
theorem dX12_readDigit_56 : decode cX12_readDigit 56 = .ok (.aload_n 0, 1) := dk_42 (dk_at dksX12_readDigit_2 12 rfl rfl)
theorem dX12_readDigit_57 : decode cX12_readDigit 57 = .ok (.getfield 131, 3) := dk_180 0 131 (dk_at dksX12_readDigit_2 13 rfl rfl)
theorem dX12_readDigit_60 : decode cX12_readDigit 60 = .ok (.aload_n 0, 1) := dk_42 (dk_at dksX12_readDigit_2 16 rfl rfl)
theorem dX12_readDigit_61 : decode cX12_readDigit 61 = .ok (.getfield 125, 3) := dk_180 0 125 (dk_at dksX12_readDigit_2 17 rfl rfl)
theorem dX12_readDigit_64 : decode cX12_readDigit 64 = .ok (.iadd, 1) := dk_96 (dk_at dksX12_readDigit_2 20 rfl rfl)
theorem dX12_readDigit_65 : decode cX12_readDigit 65 = .ok (.iconst 1, 1) := dk_4 (dk_at dksX12_readDigit_2 21 rfl rfl)
theorem dX12_readDigit_66 : decode cX12_readDigit 66 = .ok (.isub, 1) := dk_100 (dk_at dksX12_readDigit_2 22 rfl rfl)
theorem dX12_readDigit_67 : decode cX12_readDigit 67 = .ok (.laload, 1) := dk_47 (dk_at dksX12_readDigit_2 23 rfl rfl)
theorem dX12_readDigit_68 : decode cX12_readDigit 68 = .ok (.l2i, 1) := dk_136 (dk_at dksX12_readDigit_3 0 rfl rfl)
theorem dX12_readDigit_69 : decode cX12_readDigit 69 = .ok (.bipush 48, 2) := dk_16 48 (dk_at dksX12_readDigit_3 1 rfl rfl)
theorem dX12_readDigit_71 : decode cX12_readDigit 71 = .ok (.isub, 1) := dk_100 (dk_at dksX12_readDigit_3 3 rfl rfl)
theorem dX12_readDigit_72 : decode cX12_readDigit 72 = .ok (.ireturn, 1) := dk_172 (dk_at dksX12_readDigit_3 4 rfl rfl)
abbrev cX12_readNumber : ByteArray := prog_19_method_8_code
def yX12_readNumber : MethodName := ⟨RX12, "readNumber", "()I"⟩
def dkwX12_readNumber_2 : List UInt8 := [96, 16, 48, 100, 60, 42, 89, 180, 0, 125, 4, 96, 181, 0, 125, 132, 2, 1, 167, 255, 197, 27, 172]
abbrev dktX12_readNumber_2 : List UInt8 := dkwX12_readNumber_2 ++ []
def dkwX12_readNumber_1 : List UInt8 := [182, 0, 138, 133, 20, 0, 142, 20, 0, 144, 184, 0, 121, 153, 0, 32, 16, 10, 27, 104, 42, 182, 0, 138]
abbrev dktX12_readNumber_1 : List UInt8 := dkwX12_readNumber_1 ++ dktX12_readNumber_2
def dkwX12_readNumber_0 : List UInt8 := [42, 182, 0, 146, 60, 4, 61, 28, 6, 162, 0, 60, 27, 158, 0, 56, 42, 180, 0, 134, 154, 0, 49, 42]
abbrev dktX12_readNumber_0 : List UInt8 := dkwX12_readNumber_0 ++ dktX12_readNumber_1
theorem dksX12_readNumber_0 : cX12_readNumber.data.toList.drop 0 = dktX12_readNumber_0 := by decide +kernel
theorem dksX12_readNumber_1 : cX12_readNumber.data.toList.drop 24 = dktX12_readNumber_1 := dk_seg dksX12_readNumber_0 24 rfl rfl
theorem dksX12_readNumber_2 : cX12_readNumber.data.toList.drop 48 = dktX12_readNumber_2 := dk_seg dksX12_readNumber_1 24 rfl rfl
theorem dX12_readNumber_0 : decode cX12_readNumber 0 = .ok (.aload_n 0, 1) := dk_42 (dk_at dksX12_readNumber_0 0 rfl rfl)
theorem dX12_readNumber_1 : decode cX12_readNumber 1 = .ok (.invokevirtual 146, 3) := dk_182 0 146 (dk_at dksX12_readNumber_0 1 rfl rfl)
theorem dX12_readNumber_4 : decode cX12_readNumber 4 = .ok (.istore_n 1, 1) := dk_60 (dk_at dksX12_readNumber_0 4 rfl rfl)
theorem dX12_readNumber_5 : decode cX12_readNumber 5 = .ok (.iconst 1, 1) := dk_4 (dk_at dksX12_readNumber_0 5 rfl rfl)
theorem dX12_readNumber_6 : decode cX12_readNumber 6 = .ok (.istore_n 2, 1) := dk_61 (dk_at dksX12_readNumber_0 6 rfl rfl)
theorem dX12_readNumber_7 : decode cX12_readNumber 7 = .ok (.iload_n 2, 1) := dk_28 (dk_at dksX12_readNumber_0 7 rfl rfl)
theorem dX12_readNumber_8 : decode cX12_readNumber 8 = .ok (.iconst 3, 1) := dk_6 (dk_at dksX12_readNumber_0 8 rfl rfl)
theorem dX12_readNumber_9 : decode cX12_readNumber 9 = .ok (.if_icmp .ge 60, 3) := dk_162 0 60 (dk_at dksX12_readNumber_0 9 rfl rfl)
theorem dX12_readNumber_12 : decode cX12_readNumber 12 = .ok (.iload_n 1, 1) := dk_27 (dk_at dksX12_readNumber_0 12 rfl rfl)
theorem dX12_readNumber_13 : decode cX12_readNumber 13 = .ok (.ifCond .le 56, 3) := dk_158 0 56 (dk_at dksX12_readNumber_0 13 rfl rfl)
theorem dX12_readNumber_16 : decode cX12_readNumber 16 = .ok (.aload_n 0, 1) := dk_42 (dk_at dksX12_readNumber_0 16 rfl rfl)
theorem dX12_readNumber_17 : decode cX12_readNumber 17 = .ok (.getfield 134, 3) := dk_180 0 134 (dk_at dksX12_readNumber_0 17 rfl rfl)
theorem dX12_readNumber_20 : decode cX12_readNumber 20 = .ok (.ifCond .ne 49, 3) := dk_154 0 49 (dk_at dksX12_readNumber_0 20 rfl rfl)
theorem dX12_readNumber_23 : decode cX12_readNumber 23 = .ok (.aload_n 0, 1) := dk_42 (dk_at dksX12_readNumber_0 23 rfl rfl)
theorem dX12_readNumber_24 : decode cX12_readNumber 24 = .ok (.invokevirtual 138, 3) := dk_182 0 138 (dk_at dksX12_readNumber_1 0 rfl rfl)
theorem dX12_readNumber_27 : decode cX12_readNumber 27 = .ok (.i2l, 1) := dk_133 (dk_at dksX12_readNumber_1 3 rfl rfl)
theorem dX12_readNumber_28 : decode cX12_readNumber 28 = .ok (.ldc2_w 142, 3) := dk_20 0 142 (dk_at dksX12_readNumber_1 4 rfl rfl)
theorem dX12_readNumber_31 : decode cX12_readNumber 31 = .ok (.ldc2_w 144, 3) := dk_20 0 144 (dk_at dksX12_readNumber_1 7 rfl rfl)
theorem dX12_readNumber_34 : decode cX12_readNumber 34 = .ok (.invokestatic 121, 3) := dk_184 0 121 (dk_at dksX12_readNumber_1 10 rfl rfl)
theorem dX12_readNumber_37 : decode cX12_readNumber 37 = .ok (.ifCond .eq 32, 3) := dk_153 0 32 (dk_at dksX12_readNumber_1 13 rfl rfl)
theorem dX12_readNumber_40 : decode cX12_readNumber 40 = .ok (.bipush 10, 2) := dk_16 10 (dk_at dksX12_readNumber_1 16 rfl rfl)
theorem dX12_readNumber_42 : decode cX12_readNumber 42 = .ok (.iload_n 1, 1) := dk_27 (dk_at dksX12_readNumber_1 18 rfl rfl)
theorem dX12_readNumber_43 : decode cX12_readNumber 43 = .ok (.imul, 1) := dk_104 (dk_at dksX12_readNumber_1 19 rfl rfl)
theorem dX12_readNumber_44 : decode cX12_readNumber 44 = .ok (.aload_n 0, 1) := dk_42 (dk_at dksX12_readNumber_1 20 rfl rfl)
theorem dX12_readNumber_45 : decode cX12_readNumber 45 = .ok (.invokevirtual 138, 3) := dk_182 0 138 (dk_at dksX12_readNumber_1 21 rfl rfl)
theorem dX12_readNumber_48 : decode cX12_readNumber 48 = .ok (.iadd, 1) := dk_96 (dk_at dksX12_readNumber_2 0 rfl rfl)
theorem dX12_readNumber_49 : decode cX12_readNumber 49 = .ok (.bipush 48, 2) := dk_16 48 (dk_at dksX12_readNumber_2 1 rfl rfl)
theorem dX12_readNumber_51 : decode cX12_readNumber 51 = .ok (.isub, 1) := dk_100 (dk_at dksX12_readNumber_2 3 rfl rfl)
theorem dX12_readNumber_52 : decode cX12_readNumber 52 = .ok (.istore_n 1, 1) := dk_60 (dk_at dksX12_readNumber_2 4 rfl rfl)
theorem dX12_readNumber_53 : decode cX12_readNumber 53 = .ok (.aload_n 0, 1) := dk_42 (dk_at dksX12_readNumber_2 5 rfl rfl)
theorem dX12_readNumber_54 : decode cX12_readNumber 54 = .ok (.dup, 1) := dk_89 (dk_at dksX12_readNumber_2 6 rfl rfl)
theorem dX12_readNumber_55 : decode cX12_readNumber 55 = .ok (.getfield 125, 3) := dk_180 0 125 (dk_at dksX12_readNumber_2 7 rfl rfl)
theorem dX12_readNumber_58 : decode cX12_readNumber 58 = .ok (.iconst 1, 1) := dk_4 (dk_at dksX12_readNumber_2 10 rfl rfl)
theorem dX12_readNumber_59 : decode cX12_readNumber 59 = .ok (.iadd, 1) := dk_96 (dk_at dksX12_readNumber_2 11 rfl rfl)
theorem dX12_readNumber_60 : decode cX12_readNumber 60 = .ok (.putfield 125, 3) := dk_181 0 125 (dk_at dksX12_readNumber_2 12 rfl rfl)
theorem dX12_readNumber_63 : decode cX12_readNumber 63 = .ok (.iinc 2 1, 3) := dk_132 2 1 (dk_at dksX12_readNumber_2 15 rfl rfl)
theorem dX12_readNumber_66 : decode cX12_readNumber 66 = .ok (.goto (-59), 3) := dk_167 255 197 (dk_at dksX12_readNumber_2 18 rfl rfl)
theorem dX12_readNumber_69 : decode cX12_readNumber 69 = .ok (.iload_n 1, 1) := dk_27 (dk_at dksX12_readNumber_2 21 rfl rfl)
theorem dX12_readNumber_70 : decode cX12_readNumber 70 = .ok (.ireturn, 1) := dk_172 (dk_at dksX12_readNumber_2 22 rfl rfl)
abbrev cX12_take : ByteArray := prog_19_method_6_code
def yX12_take : MethodName := ⟨RX12, "take", "(I)V"⟩
def dkwX12_take_1 : List UInt8 := [42, 89, 180, 0, 125, 42, 180, 0, 134, 153, 0, 7, 3, 167, 0, 4, 4, 96, 181, 0, 125, 177]
abbrev dktX12_take_1 : List UInt8 := dkwX12_take_1 ++ []
def dkwX12_take_0 : List UInt8 := [42, 42, 180, 0, 134, 154, 0, 11, 42, 182, 0, 138, 27, 159, 0, 7, 4, 167, 0, 4, 3, 181, 0, 134]
abbrev dktX12_take_0 : List UInt8 := dkwX12_take_0 ++ dktX12_take_1
theorem dksX12_take_0 : cX12_take.data.toList.drop 0 = dktX12_take_0 := by decide +kernel
theorem dksX12_take_1 : cX12_take.data.toList.drop 24 = dktX12_take_1 := dk_seg dksX12_take_0 24 rfl rfl
theorem dX12_take_0 : decode cX12_take 0 = .ok (.aload_n 0, 1) := dk_42 (dk_at dksX12_take_0 0 rfl rfl)
theorem dX12_take_1 : decode cX12_take 1 = .ok (.aload_n 0, 1) := dk_42 (dk_at dksX12_take_0 1 rfl rfl)
theorem dX12_take_2 : decode cX12_take 2 = .ok (.getfield 134, 3) := dk_180 0 134 (dk_at dksX12_take_0 2 rfl rfl)
theorem dX12_take_5 : decode cX12_take 5 = .ok (.ifCond .ne 11, 3) := dk_154 0 11 (dk_at dksX12_take_0 5 rfl rfl)
theorem dX12_take_8 : decode cX12_take 8 = .ok (.aload_n 0, 1) := dk_42 (dk_at dksX12_take_0 8 rfl rfl)
theorem dX12_take_9 : decode cX12_take 9 = .ok (.invokevirtual 138, 3) := dk_182 0 138 (dk_at dksX12_take_0 9 rfl rfl)
theorem dX12_take_12 : decode cX12_take 12 = .ok (.iload_n 1, 1) := dk_27 (dk_at dksX12_take_0 12 rfl rfl)
theorem dX12_take_13 : decode cX12_take 13 = .ok (.if_icmp .eq 7, 3) := dk_159 0 7 (dk_at dksX12_take_0 13 rfl rfl)
theorem dX12_take_16 : decode cX12_take 16 = .ok (.iconst 1, 1) := dk_4 (dk_at dksX12_take_0 16 rfl rfl)
theorem dX12_take_17 : decode cX12_take 17 = .ok (.goto 4, 3) := dk_167 0 4 (dk_at dksX12_take_0 17 rfl rfl)
theorem dX12_take_20 : decode cX12_take 20 = .ok (.iconst 0, 1) := dk_3 (dk_at dksX12_take_0 20 rfl rfl)
theorem dX12_take_21 : decode cX12_take 21 = .ok (.putfield 134, 3) := dk_181 0 134 (dk_at dksX12_take_0 21 rfl rfl)
theorem dX12_take_24 : decode cX12_take 24 = .ok (.aload_n 0, 1) := dk_42 (dk_at dksX12_take_1 0 rfl rfl)
theorem dX12_take_25 : decode cX12_take 25 = .ok (.dup, 1) := dk_89 (dk_at dksX12_take_1 1 rfl rfl)
theorem dX12_take_26 : decode cX12_take 26 = .ok (.getfield 125, 3) := dk_180 0 125 (dk_at dksX12_take_1 2 rfl rfl)
theorem dX12_take_29 : decode cX12_take 29 = .ok (.aload_n 0, 1) := dk_42 (dk_at dksX12_take_1 5 rfl rfl)
theorem dX12_take_30 : decode cX12_take 30 = .ok (.getfield 134, 3) := dk_180 0 134 (dk_at dksX12_take_1 6 rfl rfl)
theorem dX12_take_33 : decode cX12_take 33 = .ok (.ifCond .eq 7, 3) := dk_153 0 7 (dk_at dksX12_take_1 9 rfl rfl)
theorem dX12_take_36 : decode cX12_take 36 = .ok (.iconst 0, 1) := dk_3 (dk_at dksX12_take_1 12 rfl rfl)
theorem dX12_take_37 : decode cX12_take 37 = .ok (.goto 4, 3) := dk_167 0 4 (dk_at dksX12_take_1 13 rfl rfl)
theorem dX12_take_40 : decode cX12_take 40 = .ok (.iconst 1, 1) := dk_4 (dk_at dksX12_take_1 16 rfl rfl)
theorem dX12_take_41 : decode cX12_take 41 = .ok (.iadd, 1) := dk_96 (dk_at dksX12_take_1 17 rfl rfl)
theorem dX12_take_42 : decode cX12_take 42 = .ok (.putfield 125, 3) := dk_181 0 125 (dk_at dksX12_take_1 18 rfl rfl)
theorem dX12_take_45 : decode cX12_take 45 = .ok (.return_, 1) := dk_177 (dk_at dksX12_take_1 21 rfl rfl)
abbrev cX12_comes : ByteArray := prog_19_method_10_code
def yX12_comes : MethodName := ⟨RX12, "comes", "(I)Z"⟩
def dkwX12_comes_13 : List UInt8 := [180, 0, 35, 181, 0, 35, 28, 133, 10, 20, 0, 176, 184, 0, 121, 172]
abbrev dktX12_comes_13 : List UInt8 := dkwX12_comes_13 ++ []
def dkwX12_comes_12 : List UInt8 := [4, 167, 0, 4, 3, 172, 42, 28, 133, 10, 20, 0, 176, 184, 0, 121, 153, 0, 7, 28, 167, 0, 7, 42]
abbrev dktX12_comes_12 : List UInt8 := dkwX12_comes_12 ++ dktX12_comes_13
def dkwX12_comes_11 : List UInt8 := [42, 28, 16, 100, 164, 0, 10, 42, 180, 0, 173, 167, 0, 4, 28, 181, 0, 173, 28, 16, 100, 163, 0, 7]
abbrev dktX12_comes_11 : List UInt8 := dkwX12_comes_11 ++ dktX12_comes_12
def dkwX12_comes_10 : List UInt8 := [28, 79, 42, 180, 0, 32, 42, 180, 0, 170, 29, 79, 42, 89, 180, 0, 170, 4, 96, 181, 0, 170, 4, 172]
abbrev dktX12_comes_10 : List UInt8 := dkwX12_comes_10 ++ dktX12_comes_11
def dkwX12_comes_9 : List UInt8 := [182, 0, 159, 153, 0, 11, 42, 180, 0, 170, 5, 160, 0, 5, 3, 172, 42, 180, 0, 26, 42, 180, 0, 170]
abbrev dktX12_comes_9 : List UInt8 := dkwX12_comes_9 ++ dktX12_comes_10
def dkwX12_comes_8 : List UInt8 := [180, 0, 165, 4, 96, 181, 0, 165, 4, 172, 28, 133, 10, 20, 0, 168, 184, 0, 121, 153, 0, 19, 42, 29]
abbrev dktX12_comes_8 : List UInt8 := dkwX12_comes_8 ++ dktX12_comes_9
def dkwX12_comes_7 : List UInt8 := [172, 42, 180, 0, 23, 42, 180, 0, 165, 28, 79, 42, 180, 0, 29, 42, 180, 0, 165, 29, 79, 42, 89]
abbrev dktX12_comes_7 : List UInt8 := dkwX12_comes_7 ++ dktX12_comes_8
def dkwX12_comes_6 : List UInt8 := [4, 172, 28, 5, 163, 0, 19, 42, 29, 182, 0, 159, 153, 0, 11, 42, 180, 0, 165, 6, 160, 0, 5, 3]
abbrev dktX12_comes_6 : List UInt8 := dkwX12_comes_6 ++ dktX12_comes_7
def dkwX12_comes_5 : List UInt8 := [154, 0, 5, 3, 172, 42, 180, 0, 16, 28, 29, 79, 42, 180, 0, 19, 28, 42, 180, 0, 51, 27, 51, 84]
abbrev dktX12_comes_5 : List UInt8 := dkwX12_comes_5 ++ dktX12_comes_6
def dkwX12_comes_4 : List UInt8 := [181, 0, 118, 4, 172, 42, 28, 182, 0, 159, 153, 0, 15, 29, 133, 10, 20, 0, 163, 184, 0, 121]
abbrev dktX12_comes_4 : List UInt8 := dkwX12_comes_4 ++ dktX12_comes_5
def dkwX12_comes_3 : List UInt8 := [180, 0, 118, 28, 79, 42, 180, 0, 13, 42, 180, 0, 118, 29, 79, 42, 89, 180, 0, 118, 4, 96]
abbrev dktX12_comes_3 : List UInt8 := dkwX12_comes_3 ++ dktX12_comes_4
def dkwX12_comes_2 : List UInt8 := [28, 153, 0, 16, 29, 4, 163, 0, 11, 42, 180, 0, 118, 8, 160, 0, 5, 3, 172, 42, 180, 0, 7, 42]
abbrev dktX12_comes_2 : List UInt8 := dkwX12_comes_2 ++ dktX12_comes_3
def dkwX12_comes_1 : List UInt8 := [171, 0, 0, 0, 0, 0, 1, 37, 0, 0, 0, 5, 0, 0, 0, 99, 0, 0, 1, 7, 0, 0, 0, 100, 0, 0, 0, 103, 0, 0, 0, 108, 0, 0, 0, 52, 0, 0, 0, 112, 0, 0, 0, 146, 0, 0, 0, 114, 0, 0, 0, 201]
abbrev dktX12_comes_1 : List UInt8 := dkwX12_comes_1 ++ dktX12_comes_2
def dkwX12_comes_0 : List UInt8 := [42, 180, 0, 45, 27, 46, 61, 42, 180, 0, 48, 27, 46, 62, 42, 180, 0, 42, 27, 46]
abbrev dktX12_comes_0 : List UInt8 := dkwX12_comes_0 ++ dktX12_comes_1
theorem dksX12_comes_0 : cX12_comes.data.toList.drop 0 = dktX12_comes_0 := by decide +kernel
theorem dksX12_comes_1 : cX12_comes.data.toList.drop 20 = dktX12_comes_1 := dk_seg dksX12_comes_0 20 rfl rfl
theorem dksX12_comes_2 : cX12_comes.data.toList.drop 72 = dktX12_comes_2 := dk_seg dksX12_comes_1 52 rfl rfl
theorem dksX12_comes_3 : cX12_comes.data.toList.drop 96 = dktX12_comes_3 := dk_seg dksX12_comes_2 24 rfl rfl
theorem dksX12_comes_4 : cX12_comes.data.toList.drop 118 = dktX12_comes_4 := dk_seg dksX12_comes_3 22 rfl rfl
theorem dksX12_comes_5 : cX12_comes.data.toList.drop 140 = dktX12_comes_5 := dk_seg dksX12_comes_4 22 rfl rfl
theorem dksX12_comes_6 : cX12_comes.data.toList.drop 164 = dktX12_comes_6 := dk_seg dksX12_comes_5 24 rfl rfl
theorem dksX12_comes_7 : cX12_comes.data.toList.drop 188 = dktX12_comes_7 := dk_seg dksX12_comes_6 24 rfl rfl
theorem dksX12_comes_8 : cX12_comes.data.toList.drop 211 = dktX12_comes_8 := dk_seg dksX12_comes_7 23 rfl rfl
theorem dksX12_comes_9 : cX12_comes.data.toList.drop 235 = dktX12_comes_9 := dk_seg dksX12_comes_8 24 rfl rfl
theorem dksX12_comes_10 : cX12_comes.data.toList.drop 259 = dktX12_comes_10 := dk_seg dksX12_comes_9 24 rfl rfl
theorem dksX12_comes_11 : cX12_comes.data.toList.drop 283 = dktX12_comes_11 := dk_seg dksX12_comes_10 24 rfl rfl
theorem dksX12_comes_12 : cX12_comes.data.toList.drop 307 = dktX12_comes_12 := dk_seg dksX12_comes_11 24 rfl rfl
theorem dksX12_comes_13 : cX12_comes.data.toList.drop 331 = dktX12_comes_13 := dk_seg dksX12_comes_12 24 rfl rfl
theorem dX12_comes_0 : decode cX12_comes 0 = .ok (.aload_n 0, 1) := dk_42 (dk_at dksX12_comes_0 0 rfl rfl)
theorem dX12_comes_1 : decode cX12_comes 1 = .ok (.getfield 45, 3) := dk_180 0 45 (dk_at dksX12_comes_0 1 rfl rfl)
theorem dX12_comes_4 : decode cX12_comes 4 = .ok (.iload_n 1, 1) := dk_27 (dk_at dksX12_comes_0 4 rfl rfl)
theorem dX12_comes_5 : decode cX12_comes 5 = .ok (.iaload, 1) := dk_46 (dk_at dksX12_comes_0 5 rfl rfl)
theorem dX12_comes_6 : decode cX12_comes 6 = .ok (.istore_n 2, 1) := dk_61 (dk_at dksX12_comes_0 6 rfl rfl)
theorem dX12_comes_7 : decode cX12_comes 7 = .ok (.aload_n 0, 1) := dk_42 (dk_at dksX12_comes_0 7 rfl rfl)
theorem dX12_comes_8 : decode cX12_comes 8 = .ok (.getfield 48, 3) := dk_180 0 48 (dk_at dksX12_comes_0 8 rfl rfl)
theorem dX12_comes_11 : decode cX12_comes 11 = .ok (.iload_n 1, 1) := dk_27 (dk_at dksX12_comes_0 11 rfl rfl)
theorem dX12_comes_12 : decode cX12_comes 12 = .ok (.iaload, 1) := dk_46 (dk_at dksX12_comes_0 12 rfl rfl)
theorem dX12_comes_13 : decode cX12_comes 13 = .ok (.istore_n 3, 1) := dk_62 (dk_at dksX12_comes_0 13 rfl rfl)
theorem dX12_comes_14 : decode cX12_comes 14 = .ok (.aload_n 0, 1) := dk_42 (dk_at dksX12_comes_0 14 rfl rfl)
theorem dX12_comes_15 : decode cX12_comes 15 = .ok (.getfield 42, 3) := dk_180 0 42 (dk_at dksX12_comes_0 15 rfl rfl)
theorem dX12_comes_18 : decode cX12_comes 18 = .ok (.iload_n 1, 1) := dk_27 (dk_at dksX12_comes_0 18 rfl rfl)
theorem dX12_comes_19 : decode cX12_comes 19 = .ok (.iaload, 1) := dk_46 (dk_at dksX12_comes_0 19 rfl rfl)
theorem dX12_comes_20 : decode cX12_comes 20 = .ok (.lookupswitch 293 #[(99, 263), (100, 103), (108, 52), (112, 146), (114, 201)], 52) := by decide +kernel
theorem dX12_comes_72 : decode cX12_comes 72 = .ok (.iload_n 2, 1) := dk_28 (dk_at dksX12_comes_2 0 rfl rfl)
theorem dX12_comes_73 : decode cX12_comes 73 = .ok (.ifCond .eq 16, 3) := dk_153 0 16 (dk_at dksX12_comes_2 1 rfl rfl)
theorem dX12_comes_76 : decode cX12_comes 76 = .ok (.iload_n 3, 1) := dk_29 (dk_at dksX12_comes_2 4 rfl rfl)
theorem dX12_comes_77 : decode cX12_comes 77 = .ok (.iconst 1, 1) := dk_4 (dk_at dksX12_comes_2 5 rfl rfl)
theorem dX12_comes_78 : decode cX12_comes 78 = .ok (.if_icmp .gt 11, 3) := dk_163 0 11 (dk_at dksX12_comes_2 6 rfl rfl)
theorem dX12_comes_81 : decode cX12_comes 81 = .ok (.aload_n 0, 1) := dk_42 (dk_at dksX12_comes_2 9 rfl rfl)
theorem dX12_comes_82 : decode cX12_comes 82 = .ok (.getfield 118, 3) := dk_180 0 118 (dk_at dksX12_comes_2 10 rfl rfl)
theorem dX12_comes_85 : decode cX12_comes 85 = .ok (.iconst 5, 1) := dk_8 (dk_at dksX12_comes_2 13 rfl rfl)
theorem dX12_comes_86 : decode cX12_comes 86 = .ok (.if_icmp .ne 5, 3) := dk_160 0 5 (dk_at dksX12_comes_2 14 rfl rfl)
theorem dX12_comes_89 : decode cX12_comes 89 = .ok (.iconst 0, 1) := dk_3 (dk_at dksX12_comes_2 17 rfl rfl)
theorem dX12_comes_90 : decode cX12_comes 90 = .ok (.ireturn, 1) := dk_172 (dk_at dksX12_comes_2 18 rfl rfl)
theorem dX12_comes_91 : decode cX12_comes 91 = .ok (.aload_n 0, 1) := dk_42 (dk_at dksX12_comes_2 19 rfl rfl)
theorem dX12_comes_92 : decode cX12_comes 92 = .ok (.getfield 7, 3) := dk_180 0 7 (dk_at dksX12_comes_2 20 rfl rfl)
theorem dX12_comes_95 : decode cX12_comes 95 = .ok (.aload_n 0, 1) := dk_42 (dk_at dksX12_comes_2 23 rfl rfl)
theorem dX12_comes_96 : decode cX12_comes 96 = .ok (.getfield 118, 3) := dk_180 0 118 (dk_at dksX12_comes_3 0 rfl rfl)
theorem dX12_comes_99 : decode cX12_comes 99 = .ok (.iload_n 2, 1) := dk_28 (dk_at dksX12_comes_3 3 rfl rfl)
theorem dX12_comes_100 : decode cX12_comes 100 = .ok (.iastore, 1) := dk_79 (dk_at dksX12_comes_3 4 rfl rfl)
theorem dX12_comes_101 : decode cX12_comes 101 = .ok (.aload_n 0, 1) := dk_42 (dk_at dksX12_comes_3 5 rfl rfl)
theorem dX12_comes_102 : decode cX12_comes 102 = .ok (.getfield 13, 3) := dk_180 0 13 (dk_at dksX12_comes_3 6 rfl rfl)
theorem dX12_comes_105 : decode cX12_comes 105 = .ok (.aload_n 0, 1) := dk_42 (dk_at dksX12_comes_3 9 rfl rfl)
theorem dX12_comes_106 : decode cX12_comes 106 = .ok (.getfield 118, 3) := dk_180 0 118 (dk_at dksX12_comes_3 10 rfl rfl)
theorem dX12_comes_109 : decode cX12_comes 109 = .ok (.iload_n 3, 1) := dk_29 (dk_at dksX12_comes_3 13 rfl rfl)
theorem dX12_comes_110 : decode cX12_comes 110 = .ok (.iastore, 1) := dk_79 (dk_at dksX12_comes_3 14 rfl rfl)
theorem dX12_comes_111 : decode cX12_comes 111 = .ok (.aload_n 0, 1) := dk_42 (dk_at dksX12_comes_3 15 rfl rfl)
theorem dX12_comes_112 : decode cX12_comes 112 = .ok (.dup, 1) := dk_89 (dk_at dksX12_comes_3 16 rfl rfl)
theorem dX12_comes_113 : decode cX12_comes 113 = .ok (.getfield 118, 3) := dk_180 0 118 (dk_at dksX12_comes_3 17 rfl rfl)
theorem dX12_comes_116 : decode cX12_comes 116 = .ok (.iconst 1, 1) := dk_4 (dk_at dksX12_comes_3 20 rfl rfl)
theorem dX12_comes_117 : decode cX12_comes 117 = .ok (.iadd, 1) := dk_96 (dk_at dksX12_comes_3 21 rfl rfl)
theorem dX12_comes_118 : decode cX12_comes 118 = .ok (.putfield 118, 3) := dk_181 0 118 (dk_at dksX12_comes_4 0 rfl rfl)
theorem dX12_comes_121 : decode cX12_comes 121 = .ok (.iconst 1, 1) := dk_4 (dk_at dksX12_comes_4 3 rfl rfl)
theorem dX12_comes_122 : decode cX12_comes 122 = .ok (.ireturn, 1) := dk_172 (dk_at dksX12_comes_4 4 rfl rfl)
theorem dX12_comes_123 : decode cX12_comes 123 = .ok (.aload_n 0, 1) := dk_42 (dk_at dksX12_comes_4 5 rfl rfl)
theorem dX12_comes_124 : decode cX12_comes 124 = .ok (.iload_n 2, 1) := dk_28 (dk_at dksX12_comes_4 6 rfl rfl)
theorem dX12_comes_125 : decode cX12_comes 125 = .ok (.invokevirtual 159, 3) := dk_182 0 159 (dk_at dksX12_comes_4 7 rfl rfl)
theorem dX12_comes_128 : decode cX12_comes 128 = .ok (.ifCond .eq 15, 3) := dk_153 0 15 (dk_at dksX12_comes_4 10 rfl rfl)
theorem dX12_comes_131 : decode cX12_comes 131 = .ok (.iload_n 3, 1) := dk_29 (dk_at dksX12_comes_4 13 rfl rfl)
theorem dX12_comes_132 : decode cX12_comes 132 = .ok (.i2l, 1) := dk_133 (dk_at dksX12_comes_4 14 rfl rfl)
theorem dX12_comes_133 : decode cX12_comes 133 = .ok (.lconst 1, 1) := dk_10 (dk_at dksX12_comes_4 15 rfl rfl)
theorem dX12_comes_134 : decode cX12_comes 134 = .ok (.ldc2_w 163, 3) := dk_20 0 163 (dk_at dksX12_comes_4 16 rfl rfl)
theorem dX12_comes_137 : decode cX12_comes 137 = .ok (.invokestatic 121, 3) := dk_184 0 121 (dk_at dksX12_comes_4 19 rfl rfl)
theorem dX12_comes_140 : decode cX12_comes 140 = .ok (.ifCond .ne 5, 3) := dk_154 0 5 (dk_at dksX12_comes_5 0 rfl rfl)
theorem dX12_comes_143 : decode cX12_comes 143 = .ok (.iconst 0, 1) := dk_3 (dk_at dksX12_comes_5 3 rfl rfl)
theorem dX12_comes_144 : decode cX12_comes 144 = .ok (.ireturn, 1) := dk_172 (dk_at dksX12_comes_5 4 rfl rfl)
theorem dX12_comes_145 : decode cX12_comes 145 = .ok (.aload_n 0, 1) := dk_42 (dk_at dksX12_comes_5 5 rfl rfl)
theorem dX12_comes_146 : decode cX12_comes 146 = .ok (.getfield 16, 3) := dk_180 0 16 (dk_at dksX12_comes_5 6 rfl rfl)
theorem dX12_comes_149 : decode cX12_comes 149 = .ok (.iload_n 2, 1) := dk_28 (dk_at dksX12_comes_5 9 rfl rfl)
theorem dX12_comes_150 : decode cX12_comes 150 = .ok (.iload_n 3, 1) := dk_29 (dk_at dksX12_comes_5 10 rfl rfl)
theorem dX12_comes_151 : decode cX12_comes 151 = .ok (.iastore, 1) := dk_79 (dk_at dksX12_comes_5 11 rfl rfl)
theorem dX12_comes_152 : decode cX12_comes 152 = .ok (.aload_n 0, 1) := dk_42 (dk_at dksX12_comes_5 12 rfl rfl)
theorem dX12_comes_153 : decode cX12_comes 153 = .ok (.getfield 19, 3) := dk_180 0 19 (dk_at dksX12_comes_5 13 rfl rfl)
theorem dX12_comes_156 : decode cX12_comes 156 = .ok (.iload_n 2, 1) := dk_28 (dk_at dksX12_comes_5 16 rfl rfl)
theorem dX12_comes_157 : decode cX12_comes 157 = .ok (.aload_n 0, 1) := dk_42 (dk_at dksX12_comes_5 17 rfl rfl)
theorem dX12_comes_158 : decode cX12_comes 158 = .ok (.getfield 51, 3) := dk_180 0 51 (dk_at dksX12_comes_5 18 rfl rfl)
theorem dX12_comes_161 : decode cX12_comes 161 = .ok (.iload_n 1, 1) := dk_27 (dk_at dksX12_comes_5 21 rfl rfl)
theorem dX12_comes_162 : decode cX12_comes 162 = .ok (.baload, 1) := dk_51 (dk_at dksX12_comes_5 22 rfl rfl)
theorem dX12_comes_163 : decode cX12_comes 163 = .ok (.bastore, 1) := dk_84 (dk_at dksX12_comes_5 23 rfl rfl)
theorem dX12_comes_164 : decode cX12_comes 164 = .ok (.iconst 1, 1) := dk_4 (dk_at dksX12_comes_6 0 rfl rfl)
theorem dX12_comes_165 : decode cX12_comes 165 = .ok (.ireturn, 1) := dk_172 (dk_at dksX12_comes_6 1 rfl rfl)
theorem dX12_comes_166 : decode cX12_comes 166 = .ok (.iload_n 2, 1) := dk_28 (dk_at dksX12_comes_6 2 rfl rfl)
theorem dX12_comes_167 : decode cX12_comes 167 = .ok (.iconst 2, 1) := dk_5 (dk_at dksX12_comes_6 3 rfl rfl)
theorem dX12_comes_168 : decode cX12_comes 168 = .ok (.if_icmp .gt 19, 3) := dk_163 0 19 (dk_at dksX12_comes_6 4 rfl rfl)
theorem dX12_comes_171 : decode cX12_comes 171 = .ok (.aload_n 0, 1) := dk_42 (dk_at dksX12_comes_6 7 rfl rfl)
theorem dX12_comes_172 : decode cX12_comes 172 = .ok (.iload_n 3, 1) := dk_29 (dk_at dksX12_comes_6 8 rfl rfl)
theorem dX12_comes_173 : decode cX12_comes 173 = .ok (.invokevirtual 159, 3) := dk_182 0 159 (dk_at dksX12_comes_6 9 rfl rfl)
theorem dX12_comes_176 : decode cX12_comes 176 = .ok (.ifCond .eq 11, 3) := dk_153 0 11 (dk_at dksX12_comes_6 12 rfl rfl)
theorem dX12_comes_179 : decode cX12_comes 179 = .ok (.aload_n 0, 1) := dk_42 (dk_at dksX12_comes_6 15 rfl rfl)
theorem dX12_comes_180 : decode cX12_comes 180 = .ok (.getfield 165, 3) := dk_180 0 165 (dk_at dksX12_comes_6 16 rfl rfl)
theorem dX12_comes_183 : decode cX12_comes 183 = .ok (.iconst 3, 1) := dk_6 (dk_at dksX12_comes_6 19 rfl rfl)
theorem dX12_comes_184 : decode cX12_comes 184 = .ok (.if_icmp .ne 5, 3) := dk_160 0 5 (dk_at dksX12_comes_6 20 rfl rfl)
theorem dX12_comes_187 : decode cX12_comes 187 = .ok (.iconst 0, 1) := dk_3 (dk_at dksX12_comes_6 23 rfl rfl)
theorem dX12_comes_188 : decode cX12_comes 188 = .ok (.ireturn, 1) := dk_172 (dk_at dksX12_comes_7 0 rfl rfl)
theorem dX12_comes_189 : decode cX12_comes 189 = .ok (.aload_n 0, 1) := dk_42 (dk_at dksX12_comes_7 1 rfl rfl)
theorem dX12_comes_190 : decode cX12_comes 190 = .ok (.getfield 23, 3) := dk_180 0 23 (dk_at dksX12_comes_7 2 rfl rfl)
theorem dX12_comes_193 : decode cX12_comes 193 = .ok (.aload_n 0, 1) := dk_42 (dk_at dksX12_comes_7 5 rfl rfl)
theorem dX12_comes_194 : decode cX12_comes 194 = .ok (.getfield 165, 3) := dk_180 0 165 (dk_at dksX12_comes_7 6 rfl rfl)
theorem dX12_comes_197 : decode cX12_comes 197 = .ok (.iload_n 2, 1) := dk_28 (dk_at dksX12_comes_7 9 rfl rfl)
theorem dX12_comes_198 : decode cX12_comes 198 = .ok (.iastore, 1) := dk_79 (dk_at dksX12_comes_7 10 rfl rfl)
theorem dX12_comes_199 : decode cX12_comes 199 = .ok (.aload_n 0, 1) := dk_42 (dk_at dksX12_comes_7 11 rfl rfl)
theorem dX12_comes_200 : decode cX12_comes 200 = .ok (.getfield 29, 3) := dk_180 0 29 (dk_at dksX12_comes_7 12 rfl rfl)
theorem dX12_comes_203 : decode cX12_comes 203 = .ok (.aload_n 0, 1) := dk_42 (dk_at dksX12_comes_7 15 rfl rfl)
theorem dX12_comes_204 : decode cX12_comes 204 = .ok (.getfield 165, 3) := dk_180 0 165 (dk_at dksX12_comes_7 16 rfl rfl)
theorem dX12_comes_207 : decode cX12_comes 207 = .ok (.iload_n 3, 1) := dk_29 (dk_at dksX12_comes_7 19 rfl rfl)
theorem dX12_comes_208 : decode cX12_comes 208 = .ok (.iastore, 1) := dk_79 (dk_at dksX12_comes_7 20 rfl rfl)
theorem dX12_comes_209 : decode cX12_comes 209 = .ok (.aload_n 0, 1) := dk_42 (dk_at dksX12_comes_7 21 rfl rfl)
theorem dX12_comes_210 : decode cX12_comes 210 = .ok (.dup, 1) := dk_89 (dk_at dksX12_comes_7 22 rfl rfl)
theorem dX12_comes_211 : decode cX12_comes 211 = .ok (.getfield 165, 3) := dk_180 0 165 (dk_at dksX12_comes_8 0 rfl rfl)
theorem dX12_comes_214 : decode cX12_comes 214 = .ok (.iconst 1, 1) := dk_4 (dk_at dksX12_comes_8 3 rfl rfl)
theorem dX12_comes_215 : decode cX12_comes 215 = .ok (.iadd, 1) := dk_96 (dk_at dksX12_comes_8 4 rfl rfl)
theorem dX12_comes_216 : decode cX12_comes 216 = .ok (.putfield 165, 3) := dk_181 0 165 (dk_at dksX12_comes_8 5 rfl rfl)
theorem dX12_comes_219 : decode cX12_comes 219 = .ok (.iconst 1, 1) := dk_4 (dk_at dksX12_comes_8 8 rfl rfl)
theorem dX12_comes_220 : decode cX12_comes 220 = .ok (.ireturn, 1) := dk_172 (dk_at dksX12_comes_8 9 rfl rfl)
theorem dX12_comes_221 : decode cX12_comes 221 = .ok (.iload_n 2, 1) := dk_28 (dk_at dksX12_comes_8 10 rfl rfl)
theorem dX12_comes_222 : decode cX12_comes 222 = .ok (.i2l, 1) := dk_133 (dk_at dksX12_comes_8 11 rfl rfl)
theorem dX12_comes_223 : decode cX12_comes 223 = .ok (.lconst 1, 1) := dk_10 (dk_at dksX12_comes_8 12 rfl rfl)
theorem dX12_comes_224 : decode cX12_comes 224 = .ok (.ldc2_w 168, 3) := dk_20 0 168 (dk_at dksX12_comes_8 13 rfl rfl)
theorem dX12_comes_227 : decode cX12_comes 227 = .ok (.invokestatic 121, 3) := dk_184 0 121 (dk_at dksX12_comes_8 16 rfl rfl)
theorem dX12_comes_230 : decode cX12_comes 230 = .ok (.ifCond .eq 19, 3) := dk_153 0 19 (dk_at dksX12_comes_8 19 rfl rfl)
theorem dX12_comes_233 : decode cX12_comes 233 = .ok (.aload_n 0, 1) := dk_42 (dk_at dksX12_comes_8 22 rfl rfl)
theorem dX12_comes_234 : decode cX12_comes 234 = .ok (.iload_n 3, 1) := dk_29 (dk_at dksX12_comes_8 23 rfl rfl)
theorem dX12_comes_235 : decode cX12_comes 235 = .ok (.invokevirtual 159, 3) := dk_182 0 159 (dk_at dksX12_comes_9 0 rfl rfl)
theorem dX12_comes_238 : decode cX12_comes 238 = .ok (.ifCond .eq 11, 3) := dk_153 0 11 (dk_at dksX12_comes_9 3 rfl rfl)
theorem dX12_comes_241 : decode cX12_comes 241 = .ok (.aload_n 0, 1) := dk_42 (dk_at dksX12_comes_9 6 rfl rfl)
theorem dX12_comes_242 : decode cX12_comes 242 = .ok (.getfield 170, 3) := dk_180 0 170 (dk_at dksX12_comes_9 7 rfl rfl)
theorem dX12_comes_245 : decode cX12_comes 245 = .ok (.iconst 2, 1) := dk_5 (dk_at dksX12_comes_9 10 rfl rfl)
theorem dX12_comes_246 : decode cX12_comes 246 = .ok (.if_icmp .ne 5, 3) := dk_160 0 5 (dk_at dksX12_comes_9 11 rfl rfl)
theorem dX12_comes_249 : decode cX12_comes 249 = .ok (.iconst 0, 1) := dk_3 (dk_at dksX12_comes_9 14 rfl rfl)
theorem dX12_comes_250 : decode cX12_comes 250 = .ok (.ireturn, 1) := dk_172 (dk_at dksX12_comes_9 15 rfl rfl)
theorem dX12_comes_251 : decode cX12_comes 251 = .ok (.aload_n 0, 1) := dk_42 (dk_at dksX12_comes_9 16 rfl rfl)
theorem dX12_comes_252 : decode cX12_comes 252 = .ok (.getfield 26, 3) := dk_180 0 26 (dk_at dksX12_comes_9 17 rfl rfl)
theorem dX12_comes_255 : decode cX12_comes 255 = .ok (.aload_n 0, 1) := dk_42 (dk_at dksX12_comes_9 20 rfl rfl)
theorem dX12_comes_256 : decode cX12_comes 256 = .ok (.getfield 170, 3) := dk_180 0 170 (dk_at dksX12_comes_9 21 rfl rfl)
theorem dX12_comes_259 : decode cX12_comes 259 = .ok (.iload_n 2, 1) := dk_28 (dk_at dksX12_comes_10 0 rfl rfl)
theorem dX12_comes_260 : decode cX12_comes 260 = .ok (.iastore, 1) := dk_79 (dk_at dksX12_comes_10 1 rfl rfl)
theorem dX12_comes_261 : decode cX12_comes 261 = .ok (.aload_n 0, 1) := dk_42 (dk_at dksX12_comes_10 2 rfl rfl)
theorem dX12_comes_262 : decode cX12_comes 262 = .ok (.getfield 32, 3) := dk_180 0 32 (dk_at dksX12_comes_10 3 rfl rfl)
theorem dX12_comes_265 : decode cX12_comes 265 = .ok (.aload_n 0, 1) := dk_42 (dk_at dksX12_comes_10 6 rfl rfl)
theorem dX12_comes_266 : decode cX12_comes 266 = .ok (.getfield 170, 3) := dk_180 0 170 (dk_at dksX12_comes_10 7 rfl rfl)
theorem dX12_comes_269 : decode cX12_comes 269 = .ok (.iload_n 3, 1) := dk_29 (dk_at dksX12_comes_10 10 rfl rfl)
theorem dX12_comes_270 : decode cX12_comes 270 = .ok (.iastore, 1) := dk_79 (dk_at dksX12_comes_10 11 rfl rfl)
theorem dX12_comes_271 : decode cX12_comes 271 = .ok (.aload_n 0, 1) := dk_42 (dk_at dksX12_comes_10 12 rfl rfl)
theorem dX12_comes_272 : decode cX12_comes 272 = .ok (.dup, 1) := dk_89 (dk_at dksX12_comes_10 13 rfl rfl)
theorem dX12_comes_273 : decode cX12_comes 273 = .ok (.getfield 170, 3) := dk_180 0 170 (dk_at dksX12_comes_10 14 rfl rfl)
theorem dX12_comes_276 : decode cX12_comes 276 = .ok (.iconst 1, 1) := dk_4 (dk_at dksX12_comes_10 17 rfl rfl)
theorem dX12_comes_277 : decode cX12_comes 277 = .ok (.iadd, 1) := dk_96 (dk_at dksX12_comes_10 18 rfl rfl)
theorem dX12_comes_278 : decode cX12_comes 278 = .ok (.putfield 170, 3) := dk_181 0 170 (dk_at dksX12_comes_10 19 rfl rfl)
theorem dX12_comes_281 : decode cX12_comes 281 = .ok (.iconst 1, 1) := dk_4 (dk_at dksX12_comes_10 22 rfl rfl)
theorem dX12_comes_282 : decode cX12_comes 282 = .ok (.ireturn, 1) := dk_172 (dk_at dksX12_comes_10 23 rfl rfl)
theorem dX12_comes_283 : decode cX12_comes 283 = .ok (.aload_n 0, 1) := dk_42 (dk_at dksX12_comes_11 0 rfl rfl)
theorem dX12_comes_284 : decode cX12_comes 284 = .ok (.iload_n 2, 1) := dk_28 (dk_at dksX12_comes_11 1 rfl rfl)
theorem dX12_comes_285 : decode cX12_comes 285 = .ok (.bipush 100, 2) := dk_16 100 (dk_at dksX12_comes_11 2 rfl rfl)
theorem dX12_comes_287 : decode cX12_comes 287 = .ok (.if_icmp .le 10, 3) := dk_164 0 10 (dk_at dksX12_comes_11 4 rfl rfl)
theorem dX12_comes_290 : decode cX12_comes 290 = .ok (.aload_n 0, 1) := dk_42 (dk_at dksX12_comes_11 7 rfl rfl)
theorem dX12_comes_291 : decode cX12_comes 291 = .ok (.getfield 173, 3) := dk_180 0 173 (dk_at dksX12_comes_11 8 rfl rfl)
theorem dX12_comes_294 : decode cX12_comes 294 = .ok (.goto 4, 3) := dk_167 0 4 (dk_at dksX12_comes_11 11 rfl rfl)
theorem dX12_comes_297 : decode cX12_comes 297 = .ok (.iload_n 2, 1) := dk_28 (dk_at dksX12_comes_11 14 rfl rfl)
theorem dX12_comes_298 : decode cX12_comes 298 = .ok (.putfield 173, 3) := dk_181 0 173 (dk_at dksX12_comes_11 15 rfl rfl)
theorem dX12_comes_301 : decode cX12_comes 301 = .ok (.iload_n 2, 1) := dk_28 (dk_at dksX12_comes_11 18 rfl rfl)
theorem dX12_comes_302 : decode cX12_comes 302 = .ok (.bipush 100, 2) := dk_16 100 (dk_at dksX12_comes_11 19 rfl rfl)
theorem dX12_comes_304 : decode cX12_comes 304 = .ok (.if_icmp .gt 7, 3) := dk_163 0 7 (dk_at dksX12_comes_11 21 rfl rfl)
theorem dX12_comes_307 : decode cX12_comes 307 = .ok (.iconst 1, 1) := dk_4 (dk_at dksX12_comes_12 0 rfl rfl)
theorem dX12_comes_308 : decode cX12_comes 308 = .ok (.goto 4, 3) := dk_167 0 4 (dk_at dksX12_comes_12 1 rfl rfl)
theorem dX12_comes_311 : decode cX12_comes 311 = .ok (.iconst 0, 1) := dk_3 (dk_at dksX12_comes_12 4 rfl rfl)
theorem dX12_comes_312 : decode cX12_comes 312 = .ok (.ireturn, 1) := dk_172 (dk_at dksX12_comes_12 5 rfl rfl)
theorem dX12_comes_313 : decode cX12_comes 313 = .ok (.aload_n 0, 1) := dk_42 (dk_at dksX12_comes_12 6 rfl rfl)
theorem dX12_comes_314 : decode cX12_comes 314 = .ok (.iload_n 2, 1) := dk_28 (dk_at dksX12_comes_12 7 rfl rfl)
theorem dX12_comes_315 : decode cX12_comes 315 = .ok (.i2l, 1) := dk_133 (dk_at dksX12_comes_12 8 rfl rfl)
theorem dX12_comes_316 : decode cX12_comes 316 = .ok (.lconst 1, 1) := dk_10 (dk_at dksX12_comes_12 9 rfl rfl)
theorem dX12_comes_317 : decode cX12_comes 317 = .ok (.ldc2_w 176, 3) := dk_20 0 176 (dk_at dksX12_comes_12 10 rfl rfl)
theorem dX12_comes_320 : decode cX12_comes 320 = .ok (.invokestatic 121, 3) := dk_184 0 121 (dk_at dksX12_comes_12 13 rfl rfl)
theorem dX12_comes_323 : decode cX12_comes 323 = .ok (.ifCond .eq 7, 3) := dk_153 0 7 (dk_at dksX12_comes_12 16 rfl rfl)
theorem dX12_comes_326 : decode cX12_comes 326 = .ok (.iload_n 2, 1) := dk_28 (dk_at dksX12_comes_12 19 rfl rfl)
theorem dX12_comes_327 : decode cX12_comes 327 = .ok (.goto 7, 3) := dk_167 0 7 (dk_at dksX12_comes_12 20 rfl rfl)
theorem dX12_comes_330 : decode cX12_comes 330 = .ok (.aload_n 0, 1) := dk_42 (dk_at dksX12_comes_12 23 rfl rfl)
theorem dX12_comes_331 : decode cX12_comes 331 = .ok (.getfield 35, 3) := dk_180 0 35 (dk_at dksX12_comes_13 0 rfl rfl)
theorem dX12_comes_334 : decode cX12_comes 334 = .ok (.putfield 35, 3) := dk_181 0 35 (dk_at dksX12_comes_13 3 rfl rfl)
theorem dX12_comes_337 : decode cX12_comes 337 = .ok (.iload_n 2, 1) := dk_28 (dk_at dksX12_comes_13 6 rfl rfl)
theorem dX12_comes_338 : decode cX12_comes 338 = .ok (.i2l, 1) := dk_133 (dk_at dksX12_comes_13 7 rfl rfl)
theorem dX12_comes_339 : decode cX12_comes 339 = .ok (.lconst 1, 1) := dk_10 (dk_at dksX12_comes_13 8 rfl rfl)
theorem dX12_comes_340 : decode cX12_comes 340 = .ok (.ldc2_w 176, 3) := dk_20 0 176 (dk_at dksX12_comes_13 9 rfl rfl)
theorem dX12_comes_343 : decode cX12_comes 343 = .ok (.invokestatic 121, 3) := dk_184 0 121 (dk_at dksX12_comes_13 12 rfl rfl)
theorem dX12_comes_346 : decode cX12_comes 346 = .ok (.ireturn, 1) := dk_172 (dk_at dksX12_comes_13 15 rfl rfl)
abbrev cX12_isLedge : ByteArray := prog_19_method_4_code
def yX12_isLedge : MethodName := ⟨RX12, "isLedge", "(I)Z"⟩
def dkwX12_isLedge_0 : List UInt8 := [27, 133, 9, 42, 180, 0, 118, 4, 100, 133, 184, 0, 121, 172]
abbrev dktX12_isLedge_0 : List UInt8 := dkwX12_isLedge_0 ++ []
theorem dksX12_isLedge_0 : cX12_isLedge.data.toList.drop 0 = dktX12_isLedge_0 := by decide +kernel
theorem dX12_isLedge_0 : decode cX12_isLedge 0 = .ok (.iload_n 1, 1) := dk_27 (dk_at dksX12_isLedge_0 0 rfl rfl)
theorem dX12_isLedge_1 : decode cX12_isLedge 1 = .ok (.i2l, 1) := dk_133 (dk_at dksX12_isLedge_0 1 rfl rfl)
theorem dX12_isLedge_2 : decode cX12_isLedge 2 = .ok (.lconst 0, 1) := dk_9 (dk_at dksX12_isLedge_0 2 rfl rfl)
theorem dX12_isLedge_3 : decode cX12_isLedge 3 = .ok (.aload_n 0, 1) := dk_42 (dk_at dksX12_isLedge_0 3 rfl rfl)
theorem dX12_isLedge_4 : decode cX12_isLedge 4 = .ok (.getfield 118, 3) := dk_180 0 118 (dk_at dksX12_isLedge_0 4 rfl rfl)
theorem dX12_isLedge_7 : decode cX12_isLedge 7 = .ok (.iconst 1, 1) := dk_4 (dk_at dksX12_isLedge_0 7 rfl rfl)
theorem dX12_isLedge_8 : decode cX12_isLedge 8 = .ok (.isub, 1) := dk_100 (dk_at dksX12_isLedge_0 8 rfl rfl)
theorem dX12_isLedge_9 : decode cX12_isLedge 9 = .ok (.i2l, 1) := dk_133 (dk_at dksX12_isLedge_0 9 rfl rfl)
theorem dX12_isLedge_10 : decode cX12_isLedge 10 = .ok (.invokestatic 121, 3) := dk_184 0 121 (dk_at dksX12_isLedge_0 10 rfl rfl)
theorem dX12_isLedge_13 : decode cX12_isLedge 13 = .ok (.ireturn, 1) := dk_172 (dk_at dksX12_isLedge_0 13 rfl rfl)
abbrev cX12_ledge : ByteArray := prog_19_method_12_code
def yX12_ledge : MethodName := ⟨RX12, "ledge", "(II)I"⟩
def dkwX12_ledge_4 : List UInt8 := [180, 0, 16, 27, 46, 172]
abbrev dktX12_ledge_4 : List UInt8 := dkwX12_ledge_4 ++ []
def dkwX12_ledge_3 : List UInt8 := [167, 0, 28, 3, 167, 0, 24, 27, 42, 180, 0, 118, 4, 100, 160, 0, 8, 16, 252, 167, 0, 9, 42]
abbrev dktX12_ledge_3 : List UInt8 := dkwX12_ledge_3 ++ dktX12_ledge_4
def dkwX12_ledge_2 : List UInt8 := [180, 0, 13, 27, 46, 167, 0, 46, 28, 6, 160, 0, 20, 42, 180, 0, 19, 27, 51, 153, 0, 7, 4]
abbrev dktX12_ledge_2 : List UInt8 := dkwX12_ledge_2 ++ dktX12_ledge_3
def dkwX12_ledge_1 : List UInt8 := [154, 0, 5, 2, 172, 28, 154, 0, 12, 42, 180, 0, 7, 27, 46, 167, 0, 60, 28, 4, 160, 0, 12, 42]
abbrev dktX12_ledge_1 : List UInt8 := dkwX12_ledge_1 ++ dktX12_ledge_2
def dkwX12_ledge_0 : List UInt8 := [42, 3, 181, 0, 115, 42, 27, 182, 0, 159, 153, 0, 15, 28, 133, 9, 20, 0, 194, 184, 0, 121]
abbrev dktX12_ledge_0 : List UInt8 := dkwX12_ledge_0 ++ dktX12_ledge_1
theorem dksX12_ledge_0 : cX12_ledge.data.toList.drop 0 = dktX12_ledge_0 := by decide +kernel
theorem dksX12_ledge_1 : cX12_ledge.data.toList.drop 22 = dktX12_ledge_1 := dk_seg dksX12_ledge_0 22 rfl rfl
theorem dksX12_ledge_2 : cX12_ledge.data.toList.drop 46 = dktX12_ledge_2 := dk_seg dksX12_ledge_1 24 rfl rfl
theorem dksX12_ledge_3 : cX12_ledge.data.toList.drop 69 = dktX12_ledge_3 := dk_seg dksX12_ledge_2 23 rfl rfl
theorem dksX12_ledge_4 : cX12_ledge.data.toList.drop 92 = dktX12_ledge_4 := dk_seg dksX12_ledge_3 23 rfl rfl
theorem dX12_ledge_0 : decode cX12_ledge 0 = .ok (.aload_n 0, 1) := dk_42 (dk_at dksX12_ledge_0 0 rfl rfl)
theorem dX12_ledge_1 : decode cX12_ledge 1 = .ok (.iconst 0, 1) := dk_3 (dk_at dksX12_ledge_0 1 rfl rfl)
theorem dX12_ledge_2 : decode cX12_ledge 2 = .ok (.putfield 115, 3) := dk_181 0 115 (dk_at dksX12_ledge_0 2 rfl rfl)
theorem dX12_ledge_5 : decode cX12_ledge 5 = .ok (.aload_n 0, 1) := dk_42 (dk_at dksX12_ledge_0 5 rfl rfl)
theorem dX12_ledge_6 : decode cX12_ledge 6 = .ok (.iload_n 1, 1) := dk_27 (dk_at dksX12_ledge_0 6 rfl rfl)
theorem dX12_ledge_7 : decode cX12_ledge 7 = .ok (.invokevirtual 159, 3) := dk_182 0 159 (dk_at dksX12_ledge_0 7 rfl rfl)
theorem dX12_ledge_10 : decode cX12_ledge 10 = .ok (.ifCond .eq 15, 3) := dk_153 0 15 (dk_at dksX12_ledge_0 10 rfl rfl)
theorem dX12_ledge_13 : decode cX12_ledge 13 = .ok (.iload_n 2, 1) := dk_28 (dk_at dksX12_ledge_0 13 rfl rfl)
theorem dX12_ledge_14 : decode cX12_ledge 14 = .ok (.i2l, 1) := dk_133 (dk_at dksX12_ledge_0 14 rfl rfl)
theorem dX12_ledge_15 : decode cX12_ledge 15 = .ok (.lconst 0, 1) := dk_9 (dk_at dksX12_ledge_0 15 rfl rfl)
theorem dX12_ledge_16 : decode cX12_ledge 16 = .ok (.ldc2_w 194, 3) := dk_20 0 194 (dk_at dksX12_ledge_0 16 rfl rfl)
theorem dX12_ledge_19 : decode cX12_ledge 19 = .ok (.invokestatic 121, 3) := dk_184 0 121 (dk_at dksX12_ledge_0 19 rfl rfl)
theorem dX12_ledge_22 : decode cX12_ledge 22 = .ok (.ifCond .ne 5, 3) := dk_154 0 5 (dk_at dksX12_ledge_1 0 rfl rfl)
theorem dX12_ledge_25 : decode cX12_ledge 25 = .ok (.iconst (-1), 1) := dk_2 (dk_at dksX12_ledge_1 3 rfl rfl)
theorem dX12_ledge_26 : decode cX12_ledge 26 = .ok (.ireturn, 1) := dk_172 (dk_at dksX12_ledge_1 4 rfl rfl)
theorem dX12_ledge_27 : decode cX12_ledge 27 = .ok (.iload_n 2, 1) := dk_28 (dk_at dksX12_ledge_1 5 rfl rfl)
theorem dX12_ledge_28 : decode cX12_ledge 28 = .ok (.ifCond .ne 12, 3) := dk_154 0 12 (dk_at dksX12_ledge_1 6 rfl rfl)
theorem dX12_ledge_31 : decode cX12_ledge 31 = .ok (.aload_n 0, 1) := dk_42 (dk_at dksX12_ledge_1 9 rfl rfl)
theorem dX12_ledge_32 : decode cX12_ledge 32 = .ok (.getfield 7, 3) := dk_180 0 7 (dk_at dksX12_ledge_1 10 rfl rfl)
theorem dX12_ledge_35 : decode cX12_ledge 35 = .ok (.iload_n 1, 1) := dk_27 (dk_at dksX12_ledge_1 13 rfl rfl)
theorem dX12_ledge_36 : decode cX12_ledge 36 = .ok (.iaload, 1) := dk_46 (dk_at dksX12_ledge_1 14 rfl rfl)
theorem dX12_ledge_37 : decode cX12_ledge 37 = .ok (.goto 60, 3) := dk_167 0 60 (dk_at dksX12_ledge_1 15 rfl rfl)
theorem dX12_ledge_40 : decode cX12_ledge 40 = .ok (.iload_n 2, 1) := dk_28 (dk_at dksX12_ledge_1 18 rfl rfl)
theorem dX12_ledge_41 : decode cX12_ledge 41 = .ok (.iconst 1, 1) := dk_4 (dk_at dksX12_ledge_1 19 rfl rfl)
theorem dX12_ledge_42 : decode cX12_ledge 42 = .ok (.if_icmp .ne 12, 3) := dk_160 0 12 (dk_at dksX12_ledge_1 20 rfl rfl)
theorem dX12_ledge_45 : decode cX12_ledge 45 = .ok (.aload_n 0, 1) := dk_42 (dk_at dksX12_ledge_1 23 rfl rfl)
theorem dX12_ledge_46 : decode cX12_ledge 46 = .ok (.getfield 13, 3) := dk_180 0 13 (dk_at dksX12_ledge_2 0 rfl rfl)
theorem dX12_ledge_49 : decode cX12_ledge 49 = .ok (.iload_n 1, 1) := dk_27 (dk_at dksX12_ledge_2 3 rfl rfl)
theorem dX12_ledge_50 : decode cX12_ledge 50 = .ok (.iaload, 1) := dk_46 (dk_at dksX12_ledge_2 4 rfl rfl)
theorem dX12_ledge_51 : decode cX12_ledge 51 = .ok (.goto 46, 3) := dk_167 0 46 (dk_at dksX12_ledge_2 5 rfl rfl)
theorem dX12_ledge_54 : decode cX12_ledge 54 = .ok (.iload_n 2, 1) := dk_28 (dk_at dksX12_ledge_2 8 rfl rfl)
theorem dX12_ledge_55 : decode cX12_ledge 55 = .ok (.iconst 3, 1) := dk_6 (dk_at dksX12_ledge_2 9 rfl rfl)
theorem dX12_ledge_56 : decode cX12_ledge 56 = .ok (.if_icmp .ne 20, 3) := dk_160 0 20 (dk_at dksX12_ledge_2 10 rfl rfl)
theorem dX12_ledge_59 : decode cX12_ledge 59 = .ok (.aload_n 0, 1) := dk_42 (dk_at dksX12_ledge_2 13 rfl rfl)
theorem dX12_ledge_60 : decode cX12_ledge 60 = .ok (.getfield 19, 3) := dk_180 0 19 (dk_at dksX12_ledge_2 14 rfl rfl)
theorem dX12_ledge_63 : decode cX12_ledge 63 = .ok (.iload_n 1, 1) := dk_27 (dk_at dksX12_ledge_2 17 rfl rfl)
theorem dX12_ledge_64 : decode cX12_ledge 64 = .ok (.baload, 1) := dk_51 (dk_at dksX12_ledge_2 18 rfl rfl)
theorem dX12_ledge_65 : decode cX12_ledge 65 = .ok (.ifCond .eq 7, 3) := dk_153 0 7 (dk_at dksX12_ledge_2 19 rfl rfl)
theorem dX12_ledge_68 : decode cX12_ledge 68 = .ok (.iconst 1, 1) := dk_4 (dk_at dksX12_ledge_2 22 rfl rfl)
theorem dX12_ledge_69 : decode cX12_ledge 69 = .ok (.goto 28, 3) := dk_167 0 28 (dk_at dksX12_ledge_3 0 rfl rfl)
theorem dX12_ledge_72 : decode cX12_ledge 72 = .ok (.iconst 0, 1) := dk_3 (dk_at dksX12_ledge_3 3 rfl rfl)
theorem dX12_ledge_73 : decode cX12_ledge 73 = .ok (.goto 24, 3) := dk_167 0 24 (dk_at dksX12_ledge_3 4 rfl rfl)
theorem dX12_ledge_76 : decode cX12_ledge 76 = .ok (.iload_n 1, 1) := dk_27 (dk_at dksX12_ledge_3 7 rfl rfl)
theorem dX12_ledge_77 : decode cX12_ledge 77 = .ok (.aload_n 0, 1) := dk_42 (dk_at dksX12_ledge_3 8 rfl rfl)
theorem dX12_ledge_78 : decode cX12_ledge 78 = .ok (.getfield 118, 3) := dk_180 0 118 (dk_at dksX12_ledge_3 9 rfl rfl)
theorem dX12_ledge_81 : decode cX12_ledge 81 = .ok (.iconst 1, 1) := dk_4 (dk_at dksX12_ledge_3 12 rfl rfl)
theorem dX12_ledge_82 : decode cX12_ledge 82 = .ok (.isub, 1) := dk_100 (dk_at dksX12_ledge_3 13 rfl rfl)
theorem dX12_ledge_83 : decode cX12_ledge 83 = .ok (.if_icmp .ne 8, 3) := dk_160 0 8 (dk_at dksX12_ledge_3 14 rfl rfl)
theorem dX12_ledge_86 : decode cX12_ledge 86 = .ok (.bipush (-4), 2) := dk_16 252 (dk_at dksX12_ledge_3 17 rfl rfl)
theorem dX12_ledge_88 : decode cX12_ledge 88 = .ok (.goto 9, 3) := dk_167 0 9 (dk_at dksX12_ledge_3 19 rfl rfl)
theorem dX12_ledge_91 : decode cX12_ledge 91 = .ok (.aload_n 0, 1) := dk_42 (dk_at dksX12_ledge_3 22 rfl rfl)
theorem dX12_ledge_92 : decode cX12_ledge 92 = .ok (.getfield 16, 3) := dk_180 0 16 (dk_at dksX12_ledge_4 0 rfl rfl)
theorem dX12_ledge_95 : decode cX12_ledge 95 = .ok (.iload_n 1, 1) := dk_27 (dk_at dksX12_ledge_4 3 rfl rfl)
theorem dX12_ledge_96 : decode cX12_ledge 96 = .ok (.iaload, 1) := dk_46 (dk_at dksX12_ledge_4 4 rfl rfl)
theorem dX12_ledge_97 : decode cX12_ledge 97 = .ok (.ireturn, 1) := dk_172 (dk_at dksX12_ledge_4 5 rfl rfl)
abbrev cX12_hold : ByteArray := prog_19_method_13_code
def yX12_hold : MethodName := ⟨RX12, "hold", "(II)I"⟩
def dkwX12_hold_1 : List UInt8 := [172, 42, 180, 0, 13, 27, 46, 62, 42, 180, 0, 13, 27, 28, 79, 42, 3, 181, 0, 191, 29, 172]
abbrev dktX12_hold_1 : List UInt8 := dkwX12_hold_1 ++ []
def dkwX12_hold_0 : List UInt8 := [42, 3, 181, 0, 115, 42, 27, 182, 0, 159, 153, 0, 13, 28, 133, 9, 10, 184, 0, 121, 154, 0, 5, 2]
abbrev dktX12_hold_0 : List UInt8 := dkwX12_hold_0 ++ dktX12_hold_1
theorem dksX12_hold_0 : cX12_hold.data.toList.drop 0 = dktX12_hold_0 := by decide +kernel
theorem dksX12_hold_1 : cX12_hold.data.toList.drop 24 = dktX12_hold_1 := dk_seg dksX12_hold_0 24 rfl rfl
theorem dX12_hold_0 : decode cX12_hold 0 = .ok (.aload_n 0, 1) := dk_42 (dk_at dksX12_hold_0 0 rfl rfl)
theorem dX12_hold_1 : decode cX12_hold 1 = .ok (.iconst 0, 1) := dk_3 (dk_at dksX12_hold_0 1 rfl rfl)
theorem dX12_hold_2 : decode cX12_hold 2 = .ok (.putfield 115, 3) := dk_181 0 115 (dk_at dksX12_hold_0 2 rfl rfl)
theorem dX12_hold_5 : decode cX12_hold 5 = .ok (.aload_n 0, 1) := dk_42 (dk_at dksX12_hold_0 5 rfl rfl)
theorem dX12_hold_6 : decode cX12_hold 6 = .ok (.iload_n 1, 1) := dk_27 (dk_at dksX12_hold_0 6 rfl rfl)
theorem dX12_hold_7 : decode cX12_hold 7 = .ok (.invokevirtual 159, 3) := dk_182 0 159 (dk_at dksX12_hold_0 7 rfl rfl)
theorem dX12_hold_10 : decode cX12_hold 10 = .ok (.ifCond .eq 13, 3) := dk_153 0 13 (dk_at dksX12_hold_0 10 rfl rfl)
theorem dX12_hold_13 : decode cX12_hold 13 = .ok (.iload_n 2, 1) := dk_28 (dk_at dksX12_hold_0 13 rfl rfl)
theorem dX12_hold_14 : decode cX12_hold 14 = .ok (.i2l, 1) := dk_133 (dk_at dksX12_hold_0 14 rfl rfl)
theorem dX12_hold_15 : decode cX12_hold 15 = .ok (.lconst 0, 1) := dk_9 (dk_at dksX12_hold_0 15 rfl rfl)
theorem dX12_hold_16 : decode cX12_hold 16 = .ok (.lconst 1, 1) := dk_10 (dk_at dksX12_hold_0 16 rfl rfl)
theorem dX12_hold_17 : decode cX12_hold 17 = .ok (.invokestatic 121, 3) := dk_184 0 121 (dk_at dksX12_hold_0 17 rfl rfl)
theorem dX12_hold_20 : decode cX12_hold 20 = .ok (.ifCond .ne 5, 3) := dk_154 0 5 (dk_at dksX12_hold_0 20 rfl rfl)
theorem dX12_hold_23 : decode cX12_hold 23 = .ok (.iconst (-1), 1) := dk_2 (dk_at dksX12_hold_0 23 rfl rfl)
theorem dX12_hold_24 : decode cX12_hold 24 = .ok (.ireturn, 1) := dk_172 (dk_at dksX12_hold_1 0 rfl rfl)
theorem dX12_hold_25 : decode cX12_hold 25 = .ok (.aload_n 0, 1) := dk_42 (dk_at dksX12_hold_1 1 rfl rfl)
theorem dX12_hold_26 : decode cX12_hold 26 = .ok (.getfield 13, 3) := dk_180 0 13 (dk_at dksX12_hold_1 2 rfl rfl)
theorem dX12_hold_29 : decode cX12_hold 29 = .ok (.iload_n 1, 1) := dk_27 (dk_at dksX12_hold_1 5 rfl rfl)
theorem dX12_hold_30 : decode cX12_hold 30 = .ok (.iaload, 1) := dk_46 (dk_at dksX12_hold_1 6 rfl rfl)
theorem dX12_hold_31 : decode cX12_hold 31 = .ok (.istore_n 3, 1) := dk_62 (dk_at dksX12_hold_1 7 rfl rfl)
theorem dX12_hold_32 : decode cX12_hold 32 = .ok (.aload_n 0, 1) := dk_42 (dk_at dksX12_hold_1 8 rfl rfl)
theorem dX12_hold_33 : decode cX12_hold 33 = .ok (.getfield 13, 3) := dk_180 0 13 (dk_at dksX12_hold_1 9 rfl rfl)
theorem dX12_hold_36 : decode cX12_hold 36 = .ok (.iload_n 1, 1) := dk_27 (dk_at dksX12_hold_1 12 rfl rfl)
theorem dX12_hold_37 : decode cX12_hold 37 = .ok (.iload_n 2, 1) := dk_28 (dk_at dksX12_hold_1 13 rfl rfl)
theorem dX12_hold_38 : decode cX12_hold 38 = .ok (.iastore, 1) := dk_79 (dk_at dksX12_hold_1 14 rfl rfl)
theorem dX12_hold_39 : decode cX12_hold 39 = .ok (.aload_n 0, 1) := dk_42 (dk_at dksX12_hold_1 15 rfl rfl)
theorem dX12_hold_40 : decode cX12_hold 40 = .ok (.iconst 0, 1) := dk_3 (dk_at dksX12_hold_1 16 rfl rfl)
theorem dX12_hold_41 : decode cX12_hold 41 = .ok (.putfield 191, 3) := dk_181 0 191 (dk_at dksX12_hold_1 17 rfl rfl)
theorem dX12_hold_44 : decode cX12_hold 44 = .ok (.iload_n 3, 1) := dk_29 (dk_at dksX12_hold_1 20 rfl rfl)
theorem dX12_hold_45 : decode cX12_hold 45 = .ok (.ireturn, 1) := dk_172 (dk_at dksX12_hold_1 21 rfl rfl)
abbrev cX12_set : ByteArray := prog_19_method_14_code
def yX12_set : MethodName := ⟨RX12, "set", "(II)I"⟩
def dkwX12_set_3 : List UInt8 := [181, 0, 173, 42, 27, 4, 160, 0, 7, 28, 167, 0, 7, 42, 180, 0, 35, 181, 0, 35, 29, 172]
abbrev dktX12_set_3 : List UInt8 := dkwX12_set_3 ++ []
def dkwX12_set_2 : List UInt8 := [180, 0, 173, 167, 0, 7, 42, 180, 0, 35, 62, 42, 27, 154, 0, 7, 28, 167, 0, 7, 42, 180, 0, 173]
abbrev dktX12_set_2 : List UInt8 := dkwX12_set_2 ++ dktX12_set_3
def dkwX12_set_1 : List UInt8 := [20, 0, 196, 167, 0, 6, 20, 0, 176, 184, 0, 121, 154, 0, 5, 2, 172, 27, 154, 0, 10, 42]
abbrev dktX12_set_1 : List UInt8 := dkwX12_set_1 ++ dktX12_set_2
def dkwX12_set_0 : List UInt8 := [42, 3, 181, 0, 115, 27, 133, 9, 10, 184, 0, 121, 153, 0, 26, 28, 133, 27, 133, 27, 154, 0, 9]
abbrev dktX12_set_0 : List UInt8 := dkwX12_set_0 ++ dktX12_set_1
theorem dksX12_set_0 : cX12_set.data.toList.drop 0 = dktX12_set_0 := by decide +kernel
theorem dksX12_set_1 : cX12_set.data.toList.drop 23 = dktX12_set_1 := dk_seg dksX12_set_0 23 rfl rfl
theorem dksX12_set_2 : cX12_set.data.toList.drop 45 = dktX12_set_2 := dk_seg dksX12_set_1 22 rfl rfl
theorem dksX12_set_3 : cX12_set.data.toList.drop 69 = dktX12_set_3 := dk_seg dksX12_set_2 24 rfl rfl
theorem dX12_set_0 : decode cX12_set 0 = .ok (.aload_n 0, 1) := dk_42 (dk_at dksX12_set_0 0 rfl rfl)
theorem dX12_set_1 : decode cX12_set 1 = .ok (.iconst 0, 1) := dk_3 (dk_at dksX12_set_0 1 rfl rfl)
theorem dX12_set_2 : decode cX12_set 2 = .ok (.putfield 115, 3) := dk_181 0 115 (dk_at dksX12_set_0 2 rfl rfl)
theorem dX12_set_5 : decode cX12_set 5 = .ok (.iload_n 1, 1) := dk_27 (dk_at dksX12_set_0 5 rfl rfl)
theorem dX12_set_6 : decode cX12_set 6 = .ok (.i2l, 1) := dk_133 (dk_at dksX12_set_0 6 rfl rfl)
theorem dX12_set_7 : decode cX12_set 7 = .ok (.lconst 0, 1) := dk_9 (dk_at dksX12_set_0 7 rfl rfl)
theorem dX12_set_8 : decode cX12_set 8 = .ok (.lconst 1, 1) := dk_10 (dk_at dksX12_set_0 8 rfl rfl)
theorem dX12_set_9 : decode cX12_set 9 = .ok (.invokestatic 121, 3) := dk_184 0 121 (dk_at dksX12_set_0 9 rfl rfl)
theorem dX12_set_12 : decode cX12_set 12 = .ok (.ifCond .eq 26, 3) := dk_153 0 26 (dk_at dksX12_set_0 12 rfl rfl)
theorem dX12_set_15 : decode cX12_set 15 = .ok (.iload_n 2, 1) := dk_28 (dk_at dksX12_set_0 15 rfl rfl)
theorem dX12_set_16 : decode cX12_set 16 = .ok (.i2l, 1) := dk_133 (dk_at dksX12_set_0 16 rfl rfl)
theorem dX12_set_17 : decode cX12_set 17 = .ok (.iload_n 1, 1) := dk_27 (dk_at dksX12_set_0 17 rfl rfl)
theorem dX12_set_18 : decode cX12_set 18 = .ok (.i2l, 1) := dk_133 (dk_at dksX12_set_0 18 rfl rfl)
theorem dX12_set_19 : decode cX12_set 19 = .ok (.iload_n 1, 1) := dk_27 (dk_at dksX12_set_0 19 rfl rfl)
theorem dX12_set_20 : decode cX12_set 20 = .ok (.ifCond .ne 9, 3) := dk_154 0 9 (dk_at dksX12_set_0 20 rfl rfl)
theorem dX12_set_23 : decode cX12_set 23 = .ok (.ldc2_w 196, 3) := dk_20 0 196 (dk_at dksX12_set_1 0 rfl rfl)
theorem dX12_set_26 : decode cX12_set 26 = .ok (.goto 6, 3) := dk_167 0 6 (dk_at dksX12_set_1 3 rfl rfl)
theorem dX12_set_29 : decode cX12_set 29 = .ok (.ldc2_w 176, 3) := dk_20 0 176 (dk_at dksX12_set_1 6 rfl rfl)
theorem dX12_set_32 : decode cX12_set 32 = .ok (.invokestatic 121, 3) := dk_184 0 121 (dk_at dksX12_set_1 9 rfl rfl)
theorem dX12_set_35 : decode cX12_set 35 = .ok (.ifCond .ne 5, 3) := dk_154 0 5 (dk_at dksX12_set_1 12 rfl rfl)
theorem dX12_set_38 : decode cX12_set 38 = .ok (.iconst (-1), 1) := dk_2 (dk_at dksX12_set_1 15 rfl rfl)
theorem dX12_set_39 : decode cX12_set 39 = .ok (.ireturn, 1) := dk_172 (dk_at dksX12_set_1 16 rfl rfl)
theorem dX12_set_40 : decode cX12_set 40 = .ok (.iload_n 1, 1) := dk_27 (dk_at dksX12_set_1 17 rfl rfl)
theorem dX12_set_41 : decode cX12_set 41 = .ok (.ifCond .ne 10, 3) := dk_154 0 10 (dk_at dksX12_set_1 18 rfl rfl)
theorem dX12_set_44 : decode cX12_set 44 = .ok (.aload_n 0, 1) := dk_42 (dk_at dksX12_set_1 21 rfl rfl)
theorem dX12_set_45 : decode cX12_set 45 = .ok (.getfield 173, 3) := dk_180 0 173 (dk_at dksX12_set_2 0 rfl rfl)
theorem dX12_set_48 : decode cX12_set 48 = .ok (.goto 7, 3) := dk_167 0 7 (dk_at dksX12_set_2 3 rfl rfl)
theorem dX12_set_51 : decode cX12_set 51 = .ok (.aload_n 0, 1) := dk_42 (dk_at dksX12_set_2 6 rfl rfl)
theorem dX12_set_52 : decode cX12_set 52 = .ok (.getfield 35, 3) := dk_180 0 35 (dk_at dksX12_set_2 7 rfl rfl)
theorem dX12_set_55 : decode cX12_set 55 = .ok (.istore_n 3, 1) := dk_62 (dk_at dksX12_set_2 10 rfl rfl)
theorem dX12_set_56 : decode cX12_set 56 = .ok (.aload_n 0, 1) := dk_42 (dk_at dksX12_set_2 11 rfl rfl)
theorem dX12_set_57 : decode cX12_set 57 = .ok (.iload_n 1, 1) := dk_27 (dk_at dksX12_set_2 12 rfl rfl)
theorem dX12_set_58 : decode cX12_set 58 = .ok (.ifCond .ne 7, 3) := dk_154 0 7 (dk_at dksX12_set_2 13 rfl rfl)
theorem dX12_set_61 : decode cX12_set 61 = .ok (.iload_n 2, 1) := dk_28 (dk_at dksX12_set_2 16 rfl rfl)
theorem dX12_set_62 : decode cX12_set 62 = .ok (.goto 7, 3) := dk_167 0 7 (dk_at dksX12_set_2 17 rfl rfl)
theorem dX12_set_65 : decode cX12_set 65 = .ok (.aload_n 0, 1) := dk_42 (dk_at dksX12_set_2 20 rfl rfl)
theorem dX12_set_66 : decode cX12_set 66 = .ok (.getfield 173, 3) := dk_180 0 173 (dk_at dksX12_set_2 21 rfl rfl)
theorem dX12_set_69 : decode cX12_set 69 = .ok (.putfield 173, 3) := dk_181 0 173 (dk_at dksX12_set_3 0 rfl rfl)
theorem dX12_set_72 : decode cX12_set 72 = .ok (.aload_n 0, 1) := dk_42 (dk_at dksX12_set_3 3 rfl rfl)
theorem dX12_set_73 : decode cX12_set 73 = .ok (.iload_n 1, 1) := dk_27 (dk_at dksX12_set_3 4 rfl rfl)
theorem dX12_set_74 : decode cX12_set 74 = .ok (.iconst 1, 1) := dk_4 (dk_at dksX12_set_3 5 rfl rfl)
theorem dX12_set_75 : decode cX12_set 75 = .ok (.if_icmp .ne 7, 3) := dk_160 0 7 (dk_at dksX12_set_3 6 rfl rfl)
theorem dX12_set_78 : decode cX12_set 78 = .ok (.iload_n 2, 1) := dk_28 (dk_at dksX12_set_3 9 rfl rfl)
theorem dX12_set_79 : decode cX12_set 79 = .ok (.goto 7, 3) := dk_167 0 7 (dk_at dksX12_set_3 10 rfl rfl)
theorem dX12_set_82 : decode cX12_set 82 = .ok (.aload_n 0, 1) := dk_42 (dk_at dksX12_set_3 13 rfl rfl)
theorem dX12_set_83 : decode cX12_set 83 = .ok (.getfield 35, 3) := dk_180 0 35 (dk_at dksX12_set_3 14 rfl rfl)
theorem dX12_set_86 : decode cX12_set 86 = .ok (.putfield 35, 3) := dk_181 0 35 (dk_at dksX12_set_3 17 rfl rfl)
theorem dX12_set_89 : decode cX12_set 89 = .ok (.iload_n 3, 1) := dk_29 (dk_at dksX12_set_3 20 rfl rfl)
theorem dX12_set_90 : decode cX12_set 90 = .ok (.ireturn, 1) := dk_172 (dk_at dksX12_set_3 21 rfl rfl)
abbrev cX12_cut : ByteArray := prog_19_method_15_code
def yX12_cut : MethodName := ⟨RX12, "cut", "(II)I"⟩
def dkwX12_cut_2 : List UInt8 := [180, 0, 26, 27, 28, 79, 42, 3, 181, 0, 191, 29, 172]
abbrev dktX12_cut_2 : List UInt8 := dkwX12_cut_2 ++ []
def dkwX12_cut_1 : List UInt8 := [42, 180, 0, 26, 27, 46, 133, 184, 0, 121, 154, 0, 5, 2, 172, 42, 180, 0, 26, 27, 46, 62, 42]
abbrev dktX12_cut_1 : List UInt8 := dkwX12_cut_1 ++ dktX12_cut_2
def dkwX12_cut_0 : List UInt8 := [42, 3, 181, 0, 115, 27, 133, 9, 42, 180, 0, 170, 4, 100, 133, 184, 0, 121, 153, 0, 19, 28, 133, 10]
abbrev dktX12_cut_0 : List UInt8 := dkwX12_cut_0 ++ dktX12_cut_1
theorem dksX12_cut_0 : cX12_cut.data.toList.drop 0 = dktX12_cut_0 := by decide +kernel
theorem dksX12_cut_1 : cX12_cut.data.toList.drop 24 = dktX12_cut_1 := dk_seg dksX12_cut_0 24 rfl rfl
theorem dksX12_cut_2 : cX12_cut.data.toList.drop 47 = dktX12_cut_2 := dk_seg dksX12_cut_1 23 rfl rfl
theorem dX12_cut_0 : decode cX12_cut 0 = .ok (.aload_n 0, 1) := dk_42 (dk_at dksX12_cut_0 0 rfl rfl)
theorem dX12_cut_1 : decode cX12_cut 1 = .ok (.iconst 0, 1) := dk_3 (dk_at dksX12_cut_0 1 rfl rfl)
theorem dX12_cut_2 : decode cX12_cut 2 = .ok (.putfield 115, 3) := dk_181 0 115 (dk_at dksX12_cut_0 2 rfl rfl)
theorem dX12_cut_5 : decode cX12_cut 5 = .ok (.iload_n 1, 1) := dk_27 (dk_at dksX12_cut_0 5 rfl rfl)
theorem dX12_cut_6 : decode cX12_cut 6 = .ok (.i2l, 1) := dk_133 (dk_at dksX12_cut_0 6 rfl rfl)
theorem dX12_cut_7 : decode cX12_cut 7 = .ok (.lconst 0, 1) := dk_9 (dk_at dksX12_cut_0 7 rfl rfl)
theorem dX12_cut_8 : decode cX12_cut 8 = .ok (.aload_n 0, 1) := dk_42 (dk_at dksX12_cut_0 8 rfl rfl)
theorem dX12_cut_9 : decode cX12_cut 9 = .ok (.getfield 170, 3) := dk_180 0 170 (dk_at dksX12_cut_0 9 rfl rfl)
theorem dX12_cut_12 : decode cX12_cut 12 = .ok (.iconst 1, 1) := dk_4 (dk_at dksX12_cut_0 12 rfl rfl)
theorem dX12_cut_13 : decode cX12_cut 13 = .ok (.isub, 1) := dk_100 (dk_at dksX12_cut_0 13 rfl rfl)
theorem dX12_cut_14 : decode cX12_cut 14 = .ok (.i2l, 1) := dk_133 (dk_at dksX12_cut_0 14 rfl rfl)
theorem dX12_cut_15 : decode cX12_cut 15 = .ok (.invokestatic 121, 3) := dk_184 0 121 (dk_at dksX12_cut_0 15 rfl rfl)
theorem dX12_cut_18 : decode cX12_cut 18 = .ok (.ifCond .eq 19, 3) := dk_153 0 19 (dk_at dksX12_cut_0 18 rfl rfl)
theorem dX12_cut_21 : decode cX12_cut 21 = .ok (.iload_n 2, 1) := dk_28 (dk_at dksX12_cut_0 21 rfl rfl)
theorem dX12_cut_22 : decode cX12_cut 22 = .ok (.i2l, 1) := dk_133 (dk_at dksX12_cut_0 22 rfl rfl)
theorem dX12_cut_23 : decode cX12_cut 23 = .ok (.lconst 1, 1) := dk_10 (dk_at dksX12_cut_0 23 rfl rfl)
theorem dX12_cut_24 : decode cX12_cut 24 = .ok (.aload_n 0, 1) := dk_42 (dk_at dksX12_cut_1 0 rfl rfl)
theorem dX12_cut_25 : decode cX12_cut 25 = .ok (.getfield 26, 3) := dk_180 0 26 (dk_at dksX12_cut_1 1 rfl rfl)
theorem dX12_cut_28 : decode cX12_cut 28 = .ok (.iload_n 1, 1) := dk_27 (dk_at dksX12_cut_1 4 rfl rfl)
theorem dX12_cut_29 : decode cX12_cut 29 = .ok (.iaload, 1) := dk_46 (dk_at dksX12_cut_1 5 rfl rfl)
theorem dX12_cut_30 : decode cX12_cut 30 = .ok (.i2l, 1) := dk_133 (dk_at dksX12_cut_1 6 rfl rfl)
theorem dX12_cut_31 : decode cX12_cut 31 = .ok (.invokestatic 121, 3) := dk_184 0 121 (dk_at dksX12_cut_1 7 rfl rfl)
theorem dX12_cut_34 : decode cX12_cut 34 = .ok (.ifCond .ne 5, 3) := dk_154 0 5 (dk_at dksX12_cut_1 10 rfl rfl)
theorem dX12_cut_37 : decode cX12_cut 37 = .ok (.iconst (-1), 1) := dk_2 (dk_at dksX12_cut_1 13 rfl rfl)
theorem dX12_cut_38 : decode cX12_cut 38 = .ok (.ireturn, 1) := dk_172 (dk_at dksX12_cut_1 14 rfl rfl)
theorem dX12_cut_39 : decode cX12_cut 39 = .ok (.aload_n 0, 1) := dk_42 (dk_at dksX12_cut_1 15 rfl rfl)
theorem dX12_cut_40 : decode cX12_cut 40 = .ok (.getfield 26, 3) := dk_180 0 26 (dk_at dksX12_cut_1 16 rfl rfl)
theorem dX12_cut_43 : decode cX12_cut 43 = .ok (.iload_n 1, 1) := dk_27 (dk_at dksX12_cut_1 19 rfl rfl)
theorem dX12_cut_44 : decode cX12_cut 44 = .ok (.iaload, 1) := dk_46 (dk_at dksX12_cut_1 20 rfl rfl)
theorem dX12_cut_45 : decode cX12_cut 45 = .ok (.istore_n 3, 1) := dk_62 (dk_at dksX12_cut_1 21 rfl rfl)
theorem dX12_cut_46 : decode cX12_cut 46 = .ok (.aload_n 0, 1) := dk_42 (dk_at dksX12_cut_1 22 rfl rfl)
theorem dX12_cut_47 : decode cX12_cut 47 = .ok (.getfield 26, 3) := dk_180 0 26 (dk_at dksX12_cut_2 0 rfl rfl)
theorem dX12_cut_50 : decode cX12_cut 50 = .ok (.iload_n 1, 1) := dk_27 (dk_at dksX12_cut_2 3 rfl rfl)
theorem dX12_cut_51 : decode cX12_cut 51 = .ok (.iload_n 2, 1) := dk_28 (dk_at dksX12_cut_2 4 rfl rfl)
theorem dX12_cut_52 : decode cX12_cut 52 = .ok (.iastore, 1) := dk_79 (dk_at dksX12_cut_2 5 rfl rfl)
theorem dX12_cut_53 : decode cX12_cut 53 = .ok (.aload_n 0, 1) := dk_42 (dk_at dksX12_cut_2 6 rfl rfl)
theorem dX12_cut_54 : decode cX12_cut 54 = .ok (.iconst 0, 1) := dk_3 (dk_at dksX12_cut_2 7 rfl rfl)
theorem dX12_cut_55 : decode cX12_cut 55 = .ok (.putfield 191, 3) := dk_181 0 191 (dk_at dksX12_cut_2 8 rfl rfl)
theorem dX12_cut_58 : decode cX12_cut 58 = .ok (.iload_n 3, 1) := dk_29 (dk_at dksX12_cut_2 11 rfl rfl)
theorem dX12_cut_59 : decode cX12_cut 59 = .ok (.ireturn, 1) := dk_172 (dk_at dksX12_cut_2 12 rfl rfl)
abbrev cX12_person : ByteArray := prog_19_method_16_code
def yX12_person : MethodName := ⟨RX12, "person", "(I)I"⟩
def dkwX12_person_1 : List UInt8 := [180, 0, 29, 27, 46, 167, 0, 4, 2, 172]
abbrev dktX12_person_1 : List UInt8 := dkwX12_person_1 ++ []
def dkwX12_person_0 : List UInt8 := [42, 3, 181, 0, 115, 27, 133, 9, 42, 180, 0, 165, 4, 100, 133, 184, 0, 121, 153, 0, 12, 42]
abbrev dktX12_person_0 : List UInt8 := dkwX12_person_0 ++ dktX12_person_1
theorem dksX12_person_0 : cX12_person.data.toList.drop 0 = dktX12_person_0 := by decide +kernel
theorem dksX12_person_1 : cX12_person.data.toList.drop 22 = dktX12_person_1 := dk_seg dksX12_person_0 22 rfl rfl
theorem dX12_person_0 : decode cX12_person 0 = .ok (.aload_n 0, 1) := dk_42 (dk_at dksX12_person_0 0 rfl rfl)
theorem dX12_person_1 : decode cX12_person 1 = .ok (.iconst 0, 1) := dk_3 (dk_at dksX12_person_0 1 rfl rfl)
theorem dX12_person_2 : decode cX12_person 2 = .ok (.putfield 115, 3) := dk_181 0 115 (dk_at dksX12_person_0 2 rfl rfl)
theorem dX12_person_5 : decode cX12_person 5 = .ok (.iload_n 1, 1) := dk_27 (dk_at dksX12_person_0 5 rfl rfl)
theorem dX12_person_6 : decode cX12_person 6 = .ok (.i2l, 1) := dk_133 (dk_at dksX12_person_0 6 rfl rfl)
theorem dX12_person_7 : decode cX12_person 7 = .ok (.lconst 0, 1) := dk_9 (dk_at dksX12_person_0 7 rfl rfl)
theorem dX12_person_8 : decode cX12_person 8 = .ok (.aload_n 0, 1) := dk_42 (dk_at dksX12_person_0 8 rfl rfl)
theorem dX12_person_9 : decode cX12_person 9 = .ok (.getfield 165, 3) := dk_180 0 165 (dk_at dksX12_person_0 9 rfl rfl)
theorem dX12_person_12 : decode cX12_person 12 = .ok (.iconst 1, 1) := dk_4 (dk_at dksX12_person_0 12 rfl rfl)
theorem dX12_person_13 : decode cX12_person 13 = .ok (.isub, 1) := dk_100 (dk_at dksX12_person_0 13 rfl rfl)
theorem dX12_person_14 : decode cX12_person 14 = .ok (.i2l, 1) := dk_133 (dk_at dksX12_person_0 14 rfl rfl)
theorem dX12_person_15 : decode cX12_person 15 = .ok (.invokestatic 121, 3) := dk_184 0 121 (dk_at dksX12_person_0 15 rfl rfl)
theorem dX12_person_18 : decode cX12_person 18 = .ok (.ifCond .eq 12, 3) := dk_153 0 12 (dk_at dksX12_person_0 18 rfl rfl)
theorem dX12_person_21 : decode cX12_person 21 = .ok (.aload_n 0, 1) := dk_42 (dk_at dksX12_person_0 21 rfl rfl)
theorem dX12_person_22 : decode cX12_person 22 = .ok (.getfield 29, 3) := dk_180 0 29 (dk_at dksX12_person_1 0 rfl rfl)
theorem dX12_person_25 : decode cX12_person 25 = .ok (.iload_n 1, 1) := dk_27 (dk_at dksX12_person_1 3 rfl rfl)
theorem dX12_person_26 : decode cX12_person 26 = .ok (.iaload, 1) := dk_46 (dk_at dksX12_person_1 4 rfl rfl)
theorem dX12_person_27 : decode cX12_person 27 = .ok (.goto 4, 3) := dk_167 0 4 (dk_at dksX12_person_1 5 rfl rfl)
theorem dX12_person_30 : decode cX12_person 30 = .ok (.iconst (-1), 1) := dk_2 (dk_at dksX12_person_1 8 rfl rfl)
theorem dX12_person_31 : decode cX12_person 31 = .ok (.ireturn, 1) := dk_172 (dk_at dksX12_person_1 9 rfl rfl)
abbrev cX12_rope : ByteArray := prog_19_method_17_code
def yX12_rope : MethodName := ⟨RX12, "rope", "(II)I"⟩
def dkwX12_rope_2 : List UInt8 := [180, 0, 32, 27, 46, 8, 160, 0, 8, 16, 252, 167, 0, 9, 42, 180, 0, 32, 27, 46, 172]
abbrev dktX12_rope_2 : List UInt8 := dkwX12_rope_2 ++ []
def dkwX12_rope_1 : List UInt8 := [10, 184, 0, 121, 154, 0, 5, 2, 172, 28, 4, 160, 0, 12, 42, 180, 0, 26, 27, 46, 167, 0, 24, 42]
abbrev dktX12_rope_1 : List UInt8 := dkwX12_rope_1 ++ dktX12_rope_2
def dkwX12_rope_0 : List UInt8 := [42, 3, 181, 0, 115, 27, 133, 9, 42, 180, 0, 170, 4, 100, 133, 184, 0, 121, 153, 0, 13, 28, 133, 9]
abbrev dktX12_rope_0 : List UInt8 := dkwX12_rope_0 ++ dktX12_rope_1
theorem dksX12_rope_0 : cX12_rope.data.toList.drop 0 = dktX12_rope_0 := by decide +kernel
theorem dksX12_rope_1 : cX12_rope.data.toList.drop 24 = dktX12_rope_1 := dk_seg dksX12_rope_0 24 rfl rfl
theorem dksX12_rope_2 : cX12_rope.data.toList.drop 48 = dktX12_rope_2 := dk_seg dksX12_rope_1 24 rfl rfl
theorem dX12_rope_0 : decode cX12_rope 0 = .ok (.aload_n 0, 1) := dk_42 (dk_at dksX12_rope_0 0 rfl rfl)
theorem dX12_rope_1 : decode cX12_rope 1 = .ok (.iconst 0, 1) := dk_3 (dk_at dksX12_rope_0 1 rfl rfl)
theorem dX12_rope_2 : decode cX12_rope 2 = .ok (.putfield 115, 3) := dk_181 0 115 (dk_at dksX12_rope_0 2 rfl rfl)
theorem dX12_rope_5 : decode cX12_rope 5 = .ok (.iload_n 1, 1) := dk_27 (dk_at dksX12_rope_0 5 rfl rfl)
theorem dX12_rope_6 : decode cX12_rope 6 = .ok (.i2l, 1) := dk_133 (dk_at dksX12_rope_0 6 rfl rfl)
theorem dX12_rope_7 : decode cX12_rope 7 = .ok (.lconst 0, 1) := dk_9 (dk_at dksX12_rope_0 7 rfl rfl)
theorem dX12_rope_8 : decode cX12_rope 8 = .ok (.aload_n 0, 1) := dk_42 (dk_at dksX12_rope_0 8 rfl rfl)
theorem dX12_rope_9 : decode cX12_rope 9 = .ok (.getfield 170, 3) := dk_180 0 170 (dk_at dksX12_rope_0 9 rfl rfl)
theorem dX12_rope_12 : decode cX12_rope 12 = .ok (.iconst 1, 1) := dk_4 (dk_at dksX12_rope_0 12 rfl rfl)
theorem dX12_rope_13 : decode cX12_rope 13 = .ok (.isub, 1) := dk_100 (dk_at dksX12_rope_0 13 rfl rfl)
theorem dX12_rope_14 : decode cX12_rope 14 = .ok (.i2l, 1) := dk_133 (dk_at dksX12_rope_0 14 rfl rfl)
theorem dX12_rope_15 : decode cX12_rope 15 = .ok (.invokestatic 121, 3) := dk_184 0 121 (dk_at dksX12_rope_0 15 rfl rfl)
theorem dX12_rope_18 : decode cX12_rope 18 = .ok (.ifCond .eq 13, 3) := dk_153 0 13 (dk_at dksX12_rope_0 18 rfl rfl)
theorem dX12_rope_21 : decode cX12_rope 21 = .ok (.iload_n 2, 1) := dk_28 (dk_at dksX12_rope_0 21 rfl rfl)
theorem dX12_rope_22 : decode cX12_rope 22 = .ok (.i2l, 1) := dk_133 (dk_at dksX12_rope_0 22 rfl rfl)
theorem dX12_rope_23 : decode cX12_rope 23 = .ok (.lconst 0, 1) := dk_9 (dk_at dksX12_rope_0 23 rfl rfl)
theorem dX12_rope_24 : decode cX12_rope 24 = .ok (.lconst 1, 1) := dk_10 (dk_at dksX12_rope_1 0 rfl rfl)
theorem dX12_rope_25 : decode cX12_rope 25 = .ok (.invokestatic 121, 3) := dk_184 0 121 (dk_at dksX12_rope_1 1 rfl rfl)
theorem dX12_rope_28 : decode cX12_rope 28 = .ok (.ifCond .ne 5, 3) := dk_154 0 5 (dk_at dksX12_rope_1 4 rfl rfl)
theorem dX12_rope_31 : decode cX12_rope 31 = .ok (.iconst (-1), 1) := dk_2 (dk_at dksX12_rope_1 7 rfl rfl)
theorem dX12_rope_32 : decode cX12_rope 32 = .ok (.ireturn, 1) := dk_172 (dk_at dksX12_rope_1 8 rfl rfl)
theorem dX12_rope_33 : decode cX12_rope 33 = .ok (.iload_n 2, 1) := dk_28 (dk_at dksX12_rope_1 9 rfl rfl)
theorem dX12_rope_34 : decode cX12_rope 34 = .ok (.iconst 1, 1) := dk_4 (dk_at dksX12_rope_1 10 rfl rfl)
theorem dX12_rope_35 : decode cX12_rope 35 = .ok (.if_icmp .ne 12, 3) := dk_160 0 12 (dk_at dksX12_rope_1 11 rfl rfl)
theorem dX12_rope_38 : decode cX12_rope 38 = .ok (.aload_n 0, 1) := dk_42 (dk_at dksX12_rope_1 14 rfl rfl)
theorem dX12_rope_39 : decode cX12_rope 39 = .ok (.getfield 26, 3) := dk_180 0 26 (dk_at dksX12_rope_1 15 rfl rfl)
theorem dX12_rope_42 : decode cX12_rope 42 = .ok (.iload_n 1, 1) := dk_27 (dk_at dksX12_rope_1 18 rfl rfl)
theorem dX12_rope_43 : decode cX12_rope 43 = .ok (.iaload, 1) := dk_46 (dk_at dksX12_rope_1 19 rfl rfl)
theorem dX12_rope_44 : decode cX12_rope 44 = .ok (.goto 24, 3) := dk_167 0 24 (dk_at dksX12_rope_1 20 rfl rfl)
theorem dX12_rope_47 : decode cX12_rope 47 = .ok (.aload_n 0, 1) := dk_42 (dk_at dksX12_rope_1 23 rfl rfl)
theorem dX12_rope_48 : decode cX12_rope 48 = .ok (.getfield 32, 3) := dk_180 0 32 (dk_at dksX12_rope_2 0 rfl rfl)
theorem dX12_rope_51 : decode cX12_rope 51 = .ok (.iload_n 1, 1) := dk_27 (dk_at dksX12_rope_2 3 rfl rfl)
theorem dX12_rope_52 : decode cX12_rope 52 = .ok (.iaload, 1) := dk_46 (dk_at dksX12_rope_2 4 rfl rfl)
theorem dX12_rope_53 : decode cX12_rope 53 = .ok (.iconst 5, 1) := dk_8 (dk_at dksX12_rope_2 5 rfl rfl)
theorem dX12_rope_54 : decode cX12_rope 54 = .ok (.if_icmp .ne 8, 3) := dk_160 0 8 (dk_at dksX12_rope_2 6 rfl rfl)
theorem dX12_rope_57 : decode cX12_rope 57 = .ok (.bipush (-4), 2) := dk_16 252 (dk_at dksX12_rope_2 9 rfl rfl)
theorem dX12_rope_59 : decode cX12_rope 59 = .ok (.goto 9, 3) := dk_167 0 9 (dk_at dksX12_rope_2 11 rfl rfl)
theorem dX12_rope_62 : decode cX12_rope 62 = .ok (.aload_n 0, 1) := dk_42 (dk_at dksX12_rope_2 14 rfl rfl)
theorem dX12_rope_63 : decode cX12_rope 63 = .ok (.getfield 32, 3) := dk_180 0 32 (dk_at dksX12_rope_2 15 rfl rfl)
theorem dX12_rope_66 : decode cX12_rope 66 = .ok (.iload_n 1, 1) := dk_27 (dk_at dksX12_rope_2 18 rfl rfl)
theorem dX12_rope_67 : decode cX12_rope 67 = .ok (.iaload, 1) := dk_46 (dk_at dksX12_rope_2 19 rfl rfl)
theorem dX12_rope_68 : decode cX12_rope 68 = .ok (.ireturn, 1) := dk_172 (dk_at dksX12_rope_2 20 rfl rfl)
abbrev cX12_far : ByteArray := prog_19_method_19_code
def yX12_far : MethodName := ⟨RX12, "far", "(II)I"⟩
def dkwX12_far_1 : List UInt8 := [164, 0, 12, 42, 27, 28, 182, 0, 198, 167, 0, 4, 2, 172]
abbrev dktX12_far_1 : List UInt8 := dkwX12_far_1 ++ []
def dkwX12_far_0 : List UInt8 := [42, 3, 181, 0, 115, 42, 27, 182, 0, 159, 153, 0, 25, 42, 28, 182, 0, 159, 153, 0, 17, 28, 27]
abbrev dktX12_far_0 : List UInt8 := dkwX12_far_0 ++ dktX12_far_1
theorem dksX12_far_0 : cX12_far.data.toList.drop 0 = dktX12_far_0 := by decide +kernel
theorem dksX12_far_1 : cX12_far.data.toList.drop 23 = dktX12_far_1 := dk_seg dksX12_far_0 23 rfl rfl
theorem dX12_far_0 : decode cX12_far 0 = .ok (.aload_n 0, 1) := dk_42 (dk_at dksX12_far_0 0 rfl rfl)
theorem dX12_far_1 : decode cX12_far 1 = .ok (.iconst 0, 1) := dk_3 (dk_at dksX12_far_0 1 rfl rfl)
theorem dX12_far_2 : decode cX12_far 2 = .ok (.putfield 115, 3) := dk_181 0 115 (dk_at dksX12_far_0 2 rfl rfl)
theorem dX12_far_5 : decode cX12_far 5 = .ok (.aload_n 0, 1) := dk_42 (dk_at dksX12_far_0 5 rfl rfl)
theorem dX12_far_6 : decode cX12_far 6 = .ok (.iload_n 1, 1) := dk_27 (dk_at dksX12_far_0 6 rfl rfl)
theorem dX12_far_7 : decode cX12_far 7 = .ok (.invokevirtual 159, 3) := dk_182 0 159 (dk_at dksX12_far_0 7 rfl rfl)
theorem dX12_far_10 : decode cX12_far 10 = .ok (.ifCond .eq 25, 3) := dk_153 0 25 (dk_at dksX12_far_0 10 rfl rfl)
theorem dX12_far_13 : decode cX12_far 13 = .ok (.aload_n 0, 1) := dk_42 (dk_at dksX12_far_0 13 rfl rfl)
theorem dX12_far_14 : decode cX12_far 14 = .ok (.iload_n 2, 1) := dk_28 (dk_at dksX12_far_0 14 rfl rfl)
theorem dX12_far_15 : decode cX12_far 15 = .ok (.invokevirtual 159, 3) := dk_182 0 159 (dk_at dksX12_far_0 15 rfl rfl)
theorem dX12_far_18 : decode cX12_far 18 = .ok (.ifCond .eq 17, 3) := dk_153 0 17 (dk_at dksX12_far_0 18 rfl rfl)
theorem dX12_far_21 : decode cX12_far 21 = .ok (.iload_n 2, 1) := dk_28 (dk_at dksX12_far_0 21 rfl rfl)
theorem dX12_far_22 : decode cX12_far 22 = .ok (.iload_n 1, 1) := dk_27 (dk_at dksX12_far_0 22 rfl rfl)
theorem dX12_far_23 : decode cX12_far 23 = .ok (.if_icmp .le 12, 3) := dk_164 0 12 (dk_at dksX12_far_1 0 rfl rfl)
theorem dX12_far_26 : decode cX12_far 26 = .ok (.aload_n 0, 1) := dk_42 (dk_at dksX12_far_1 3 rfl rfl)
theorem dX12_far_27 : decode cX12_far 27 = .ok (.iload_n 1, 1) := dk_27 (dk_at dksX12_far_1 4 rfl rfl)
theorem dX12_far_28 : decode cX12_far 28 = .ok (.iload_n 2, 1) := dk_28 (dk_at dksX12_far_1 5 rfl rfl)
theorem dX12_far_29 : decode cX12_far 29 = .ok (.invokevirtual 198, 3) := dk_182 0 198 (dk_at dksX12_far_1 6 rfl rfl)
theorem dX12_far_32 : decode cX12_far 32 = .ok (.goto 4, 3) := dk_167 0 4 (dk_at dksX12_far_1 9 rfl rfl)
theorem dX12_far_35 : decode cX12_far 35 = .ok (.iconst (-1), 1) := dk_2 (dk_at dksX12_far_1 12 rfl rfl)
theorem dX12_far_36 : decode cX12_far 36 = .ok (.ireturn, 1) := dk_172 (dk_at dksX12_far_1 13 rfl rfl)
abbrev cX12_farFrom : ByteArray := prog_19_method_18_code
def yX12_farFrom : MethodName := ⟨RX12, "farFrom", "(II)I"⟩
def dkwX12_farFrom_1 : List UInt8 := [167, 255, 237, 29, 172]
abbrev dktX12_farFrom_1 : List UInt8 := dkwX12_farFrom_1 ++ []
def dkwX12_farFrom_0 : List UInt8 := [3, 62, 27, 54, 4, 21, 4, 28, 162, 0, 19, 29, 42, 180, 0, 16, 21, 4, 46, 96, 62, 132, 4, 1]
abbrev dktX12_farFrom_0 : List UInt8 := dkwX12_farFrom_0 ++ dktX12_farFrom_1
theorem dksX12_farFrom_0 : cX12_farFrom.data.toList.drop 0 = dktX12_farFrom_0 := by decide +kernel
theorem dksX12_farFrom_1 : cX12_farFrom.data.toList.drop 24 = dktX12_farFrom_1 := dk_seg dksX12_farFrom_0 24 rfl rfl
theorem dX12_farFrom_0 : decode cX12_farFrom 0 = .ok (.iconst 0, 1) := dk_3 (dk_at dksX12_farFrom_0 0 rfl rfl)
theorem dX12_farFrom_1 : decode cX12_farFrom 1 = .ok (.istore_n 3, 1) := dk_62 (dk_at dksX12_farFrom_0 1 rfl rfl)
theorem dX12_farFrom_2 : decode cX12_farFrom 2 = .ok (.iload_n 1, 1) := dk_27 (dk_at dksX12_farFrom_0 2 rfl rfl)
theorem dX12_farFrom_3 : decode cX12_farFrom 3 = .ok (.istore 4, 2) := dk_54 4 (dk_at dksX12_farFrom_0 3 rfl rfl)
theorem dX12_farFrom_5 : decode cX12_farFrom 5 = .ok (.iload 4, 2) := dk_21 4 (dk_at dksX12_farFrom_0 5 rfl rfl)
theorem dX12_farFrom_7 : decode cX12_farFrom 7 = .ok (.iload_n 2, 1) := dk_28 (dk_at dksX12_farFrom_0 7 rfl rfl)
theorem dX12_farFrom_8 : decode cX12_farFrom 8 = .ok (.if_icmp .ge 19, 3) := dk_162 0 19 (dk_at dksX12_farFrom_0 8 rfl rfl)
theorem dX12_farFrom_11 : decode cX12_farFrom 11 = .ok (.iload_n 3, 1) := dk_29 (dk_at dksX12_farFrom_0 11 rfl rfl)
theorem dX12_farFrom_12 : decode cX12_farFrom 12 = .ok (.aload_n 0, 1) := dk_42 (dk_at dksX12_farFrom_0 12 rfl rfl)
theorem dX12_farFrom_13 : decode cX12_farFrom 13 = .ok (.getfield 16, 3) := dk_180 0 16 (dk_at dksX12_farFrom_0 13 rfl rfl)
theorem dX12_farFrom_16 : decode cX12_farFrom 16 = .ok (.iload 4, 2) := dk_21 4 (dk_at dksX12_farFrom_0 16 rfl rfl)
theorem dX12_farFrom_18 : decode cX12_farFrom 18 = .ok (.iaload, 1) := dk_46 (dk_at dksX12_farFrom_0 18 rfl rfl)
theorem dX12_farFrom_19 : decode cX12_farFrom 19 = .ok (.iadd, 1) := dk_96 (dk_at dksX12_farFrom_0 19 rfl rfl)
theorem dX12_farFrom_20 : decode cX12_farFrom 20 = .ok (.istore_n 3, 1) := dk_62 (dk_at dksX12_farFrom_0 20 rfl rfl)
theorem dX12_farFrom_21 : decode cX12_farFrom 21 = .ok (.iinc 4 1, 3) := dk_132 4 1 (dk_at dksX12_farFrom_0 21 rfl rfl)
theorem dX12_farFrom_24 : decode cX12_farFrom 24 = .ok (.goto (-19), 3) := dk_167 255 237 (dk_at dksX12_farFrom_1 0 rfl rfl)
theorem dX12_farFrom_27 : decode cX12_farFrom 27 = .ok (.iload_n 3, 1) := dk_29 (dk_at dksX12_farFrom_1 3 rfl rfl)
theorem dX12_farFrom_28 : decode cX12_farFrom 28 = .ok (.ireturn, 1) := dk_172 (dk_at dksX12_farFrom_1 4 rfl rfl)
abbrev cX12_may : ByteArray := prog_19_method_32_code
def yX12_may : MethodName := ⟨RX12, "may", "(I)I"⟩
def dkwX12_may_1 : List UInt8 := [182, 0, 230, 61, 28, 156, 0, 8, 16, 253, 167, 0, 4, 28, 172]
abbrev dktX12_may_1 : List UInt8 := dkwX12_may_1 ++ []
def dkwX12_may_0 : List UInt8 := [42, 3, 181, 0, 115, 27, 184, 0, 221, 154, 0, 5, 2, 172, 42, 42, 182, 0, 224, 182, 0, 227, 42, 27]
abbrev dktX12_may_0 : List UInt8 := dkwX12_may_0 ++ dktX12_may_1
theorem dksX12_may_0 : cX12_may.data.toList.drop 0 = dktX12_may_0 := by decide +kernel
theorem dksX12_may_1 : cX12_may.data.toList.drop 24 = dktX12_may_1 := dk_seg dksX12_may_0 24 rfl rfl
theorem dX12_may_0 : decode cX12_may 0 = .ok (.aload_n 0, 1) := dk_42 (dk_at dksX12_may_0 0 rfl rfl)
theorem dX12_may_1 : decode cX12_may 1 = .ok (.iconst 0, 1) := dk_3 (dk_at dksX12_may_0 1 rfl rfl)
theorem dX12_may_2 : decode cX12_may 2 = .ok (.putfield 115, 3) := dk_181 0 115 (dk_at dksX12_may_0 2 rfl rfl)
theorem dX12_may_5 : decode cX12_may 5 = .ok (.iload_n 1, 1) := dk_27 (dk_at dksX12_may_0 5 rfl rfl)
theorem dX12_may_6 : decode cX12_may 6 = .ok (.invokestatic 221, 3) := dk_184 0 221 (dk_at dksX12_may_0 6 rfl rfl)
theorem dX12_may_9 : decode cX12_may 9 = .ok (.ifCond .ne 5, 3) := dk_154 0 5 (dk_at dksX12_may_0 9 rfl rfl)
theorem dX12_may_12 : decode cX12_may 12 = .ok (.iconst (-1), 1) := dk_2 (dk_at dksX12_may_0 12 rfl rfl)
theorem dX12_may_13 : decode cX12_may 13 = .ok (.ireturn, 1) := dk_172 (dk_at dksX12_may_0 13 rfl rfl)
theorem dX12_may_14 : decode cX12_may 14 = .ok (.aload_n 0, 1) := dk_42 (dk_at dksX12_may_0 14 rfl rfl)
theorem dX12_may_15 : decode cX12_may 15 = .ok (.aload_n 0, 1) := dk_42 (dk_at dksX12_may_0 15 rfl rfl)
theorem dX12_may_16 : decode cX12_may 16 = .ok (.invokevirtual 224, 3) := dk_182 0 224 (dk_at dksX12_may_0 16 rfl rfl)
theorem dX12_may_19 : decode cX12_may 19 = .ok (.invokevirtual 227, 3) := dk_182 0 227 (dk_at dksX12_may_0 19 rfl rfl)
theorem dX12_may_22 : decode cX12_may 22 = .ok (.aload_n 0, 1) := dk_42 (dk_at dksX12_may_0 22 rfl rfl)
theorem dX12_may_23 : decode cX12_may 23 = .ok (.iload_n 1, 1) := dk_27 (dk_at dksX12_may_0 23 rfl rfl)
theorem dX12_may_24 : decode cX12_may 24 = .ok (.invokevirtual 230, 3) := dk_182 0 230 (dk_at dksX12_may_1 0 rfl rfl)
theorem dX12_may_27 : decode cX12_may 27 = .ok (.istore_n 2, 1) := dk_61 (dk_at dksX12_may_1 3 rfl rfl)
theorem dX12_may_28 : decode cX12_may 28 = .ok (.iload_n 2, 1) := dk_28 (dk_at dksX12_may_1 4 rfl rfl)
theorem dX12_may_29 : decode cX12_may 29 = .ok (.ifCond .ge 8, 3) := dk_156 0 8 (dk_at dksX12_may_1 5 rfl rfl)
theorem dX12_may_32 : decode cX12_may 32 = .ok (.bipush (-3), 2) := dk_16 253 (dk_at dksX12_may_1 8 rfl rfl)
theorem dX12_may_34 : decode cX12_may 34 = .ok (.goto 4, 3) := dk_167 0 4 (dk_at dksX12_may_1 10 rfl rfl)
theorem dX12_may_37 : decode cX12_may 37 = .ok (.iload_n 2, 1) := dk_28 (dk_at dksX12_may_1 13 rfl rfl)
theorem dX12_may_38 : decode cX12_may 38 = .ok (.ireturn, 1) := dk_172 (dk_at dksX12_may_1 14 rfl rfl)
abbrev cX12_isMove : ByteArray := prog_19_method_25_code
def yX12_isMove : MethodName := ⟨RX12, "isMove", "(I)Z"⟩
def dkwX12_isMove_2 : List UInt8 := [162, 0, 15, 26, 16, 10, 112, 8, 162, 0, 7, 4, 167, 0, 4, 3, 172]
abbrev dktX12_isMove_2 : List UInt8 := dkwX12_isMove_2 ++ []
def dkwX12_isMove_1 : List UInt8 := [162, 0, 37, 26, 16, 100, 108, 16, 10, 112, 5, 162, 0, 26, 26, 16, 10, 108, 16, 10, 112, 8]
abbrev dktX12_isMove_1 : List UInt8 := dkwX12_isMove_1 ++ dktX12_isMove_2
def dkwX12_isMove_0 : List UInt8 := [26, 133, 9, 20, 0, 202, 184, 0, 121, 153, 0, 50, 26, 17, 3, 232, 108, 16, 10, 112, 16, 8]
abbrev dktX12_isMove_0 : List UInt8 := dkwX12_isMove_0 ++ dktX12_isMove_1
theorem dksX12_isMove_0 : cX12_isMove.data.toList.drop 0 = dktX12_isMove_0 := by decide +kernel
theorem dksX12_isMove_1 : cX12_isMove.data.toList.drop 22 = dktX12_isMove_1 := dk_seg dksX12_isMove_0 22 rfl rfl
theorem dksX12_isMove_2 : cX12_isMove.data.toList.drop 44 = dktX12_isMove_2 := dk_seg dksX12_isMove_1 22 rfl rfl
theorem dX12_isMove_0 : decode cX12_isMove 0 = .ok (.iload_n 0, 1) := dk_26 (dk_at dksX12_isMove_0 0 rfl rfl)
theorem dX12_isMove_1 : decode cX12_isMove 1 = .ok (.i2l, 1) := dk_133 (dk_at dksX12_isMove_0 1 rfl rfl)
theorem dX12_isMove_2 : decode cX12_isMove 2 = .ok (.lconst 0, 1) := dk_9 (dk_at dksX12_isMove_0 2 rfl rfl)
theorem dX12_isMove_3 : decode cX12_isMove 3 = .ok (.ldc2_w 202, 3) := dk_20 0 202 (dk_at dksX12_isMove_0 3 rfl rfl)
theorem dX12_isMove_6 : decode cX12_isMove 6 = .ok (.invokestatic 121, 3) := dk_184 0 121 (dk_at dksX12_isMove_0 6 rfl rfl)
theorem dX12_isMove_9 : decode cX12_isMove 9 = .ok (.ifCond .eq 50, 3) := dk_153 0 50 (dk_at dksX12_isMove_0 9 rfl rfl)
theorem dX12_isMove_12 : decode cX12_isMove 12 = .ok (.iload_n 0, 1) := dk_26 (dk_at dksX12_isMove_0 12 rfl rfl)
theorem dX12_isMove_13 : decode cX12_isMove 13 = .ok (.sipush 1000, 3) := dk_17 3 232 (dk_at dksX12_isMove_0 13 rfl rfl)
theorem dX12_isMove_16 : decode cX12_isMove 16 = .ok (.idiv, 1) := dk_108 (dk_at dksX12_isMove_0 16 rfl rfl)
theorem dX12_isMove_17 : decode cX12_isMove 17 = .ok (.bipush 10, 2) := dk_16 10 (dk_at dksX12_isMove_0 17 rfl rfl)
theorem dX12_isMove_19 : decode cX12_isMove 19 = .ok (.irem, 1) := dk_112 (dk_at dksX12_isMove_0 19 rfl rfl)
theorem dX12_isMove_20 : decode cX12_isMove 20 = .ok (.bipush 8, 2) := dk_16 8 (dk_at dksX12_isMove_0 20 rfl rfl)
theorem dX12_isMove_22 : decode cX12_isMove 22 = .ok (.if_icmp .ge 37, 3) := dk_162 0 37 (dk_at dksX12_isMove_1 0 rfl rfl)
theorem dX12_isMove_25 : decode cX12_isMove 25 = .ok (.iload_n 0, 1) := dk_26 (dk_at dksX12_isMove_1 3 rfl rfl)
theorem dX12_isMove_26 : decode cX12_isMove 26 = .ok (.bipush 100, 2) := dk_16 100 (dk_at dksX12_isMove_1 4 rfl rfl)
theorem dX12_isMove_28 : decode cX12_isMove 28 = .ok (.idiv, 1) := dk_108 (dk_at dksX12_isMove_1 6 rfl rfl)
theorem dX12_isMove_29 : decode cX12_isMove 29 = .ok (.bipush 10, 2) := dk_16 10 (dk_at dksX12_isMove_1 7 rfl rfl)
theorem dX12_isMove_31 : decode cX12_isMove 31 = .ok (.irem, 1) := dk_112 (dk_at dksX12_isMove_1 9 rfl rfl)
theorem dX12_isMove_32 : decode cX12_isMove 32 = .ok (.iconst 2, 1) := dk_5 (dk_at dksX12_isMove_1 10 rfl rfl)
theorem dX12_isMove_33 : decode cX12_isMove 33 = .ok (.if_icmp .ge 26, 3) := dk_162 0 26 (dk_at dksX12_isMove_1 11 rfl rfl)
theorem dX12_isMove_36 : decode cX12_isMove 36 = .ok (.iload_n 0, 1) := dk_26 (dk_at dksX12_isMove_1 14 rfl rfl)
theorem dX12_isMove_37 : decode cX12_isMove 37 = .ok (.bipush 10, 2) := dk_16 10 (dk_at dksX12_isMove_1 15 rfl rfl)
theorem dX12_isMove_39 : decode cX12_isMove 39 = .ok (.idiv, 1) := dk_108 (dk_at dksX12_isMove_1 17 rfl rfl)
theorem dX12_isMove_40 : decode cX12_isMove 40 = .ok (.bipush 10, 2) := dk_16 10 (dk_at dksX12_isMove_1 18 rfl rfl)
theorem dX12_isMove_42 : decode cX12_isMove 42 = .ok (.irem, 1) := dk_112 (dk_at dksX12_isMove_1 20 rfl rfl)
theorem dX12_isMove_43 : decode cX12_isMove 43 = .ok (.iconst 5, 1) := dk_8 (dk_at dksX12_isMove_1 21 rfl rfl)
theorem dX12_isMove_44 : decode cX12_isMove 44 = .ok (.if_icmp .ge 15, 3) := dk_162 0 15 (dk_at dksX12_isMove_2 0 rfl rfl)
theorem dX12_isMove_47 : decode cX12_isMove 47 = .ok (.iload_n 0, 1) := dk_26 (dk_at dksX12_isMove_2 3 rfl rfl)
theorem dX12_isMove_48 : decode cX12_isMove 48 = .ok (.bipush 10, 2) := dk_16 10 (dk_at dksX12_isMove_2 4 rfl rfl)
theorem dX12_isMove_50 : decode cX12_isMove 50 = .ok (.irem, 1) := dk_112 (dk_at dksX12_isMove_2 6 rfl rfl)
theorem dX12_isMove_51 : decode cX12_isMove 51 = .ok (.iconst 5, 1) := dk_8 (dk_at dksX12_isMove_2 7 rfl rfl)
theorem dX12_isMove_52 : decode cX12_isMove 52 = .ok (.if_icmp .ge 7, 3) := dk_162 0 7 (dk_at dksX12_isMove_2 8 rfl rfl)
theorem dX12_isMove_55 : decode cX12_isMove 55 = .ok (.iconst 1, 1) := dk_4 (dk_at dksX12_isMove_2 11 rfl rfl)
theorem dX12_isMove_56 : decode cX12_isMove 56 = .ok (.goto 4, 3) := dk_167 0 4 (dk_at dksX12_isMove_2 12 rfl rfl)
theorem dX12_isMove_59 : decode cX12_isMove 59 = .ok (.iconst 0, 1) := dk_3 (dk_at dksX12_isMove_2 15 rfl rfl)
theorem dX12_isMove_60 : decode cX12_isMove 60 = .ok (.ireturn, 1) := dk_172 (dk_at dksX12_isMove_2 16 rfl rfl)
abbrev cX12_stateNow : ByteArray := prog_19_method_20_code
def yX12_stateNow : MethodName := ⟨RX12, "stateNow", "()I"⟩
def dkwX12_stateNow_3 : List UInt8 := [167, 0, 4, 3, 96, 61, 16, 125, 28, 104, 27, 96, 172]
abbrev dktX12_stateNow_3 : List UInt8 := dkwX12_stateNow_3 ++ []
def dkwX12_stateNow_2 : List UInt8 := [180, 0, 32, 4, 46, 167, 0, 4, 3, 104, 42, 180, 0, 170, 158, 0, 12, 42, 180, 0, 32, 3, 46]
abbrev dktX12_stateNow_2 : List UInt8 := dkwX12_stateNow_2 ++ dktX12_stateNow_3
def dkwX12_stateNow_1 : List UInt8 := [46, 167, 0, 4, 3, 96, 60, 132, 2, 255, 167, 255, 226, 16, 6, 42, 180, 0, 170, 4, 164, 0, 12, 42]
abbrev dktX12_stateNow_1 : List UInt8 := dkwX12_stateNow_1 ++ dktX12_stateNow_2
def dkwX12_stateNow_0 : List UInt8 := [3, 60, 5, 61, 28, 155, 0, 32, 8, 27, 104, 28, 42, 180, 0, 165, 162, 0, 12, 42, 180, 0, 29, 28]
abbrev dktX12_stateNow_0 : List UInt8 := dkwX12_stateNow_0 ++ dktX12_stateNow_1
theorem dksX12_stateNow_0 : cX12_stateNow.data.toList.drop 0 = dktX12_stateNow_0 := by decide +kernel
theorem dksX12_stateNow_1 : cX12_stateNow.data.toList.drop 24 = dktX12_stateNow_1 := dk_seg dksX12_stateNow_0 24 rfl rfl
theorem dksX12_stateNow_2 : cX12_stateNow.data.toList.drop 48 = dktX12_stateNow_2 := dk_seg dksX12_stateNow_1 24 rfl rfl
theorem dksX12_stateNow_3 : cX12_stateNow.data.toList.drop 71 = dktX12_stateNow_3 := dk_seg dksX12_stateNow_2 23 rfl rfl
theorem dX12_stateNow_0 : decode cX12_stateNow 0 = .ok (.iconst 0, 1) := dk_3 (dk_at dksX12_stateNow_0 0 rfl rfl)
theorem dX12_stateNow_1 : decode cX12_stateNow 1 = .ok (.istore_n 1, 1) := dk_60 (dk_at dksX12_stateNow_0 1 rfl rfl)
theorem dX12_stateNow_2 : decode cX12_stateNow 2 = .ok (.iconst 2, 1) := dk_5 (dk_at dksX12_stateNow_0 2 rfl rfl)
theorem dX12_stateNow_3 : decode cX12_stateNow 3 = .ok (.istore_n 2, 1) := dk_61 (dk_at dksX12_stateNow_0 3 rfl rfl)
theorem dX12_stateNow_4 : decode cX12_stateNow 4 = .ok (.iload_n 2, 1) := dk_28 (dk_at dksX12_stateNow_0 4 rfl rfl)
theorem dX12_stateNow_5 : decode cX12_stateNow 5 = .ok (.ifCond .lt 32, 3) := dk_155 0 32 (dk_at dksX12_stateNow_0 5 rfl rfl)
theorem dX12_stateNow_8 : decode cX12_stateNow 8 = .ok (.iconst 5, 1) := dk_8 (dk_at dksX12_stateNow_0 8 rfl rfl)
theorem dX12_stateNow_9 : decode cX12_stateNow 9 = .ok (.iload_n 1, 1) := dk_27 (dk_at dksX12_stateNow_0 9 rfl rfl)
theorem dX12_stateNow_10 : decode cX12_stateNow 10 = .ok (.imul, 1) := dk_104 (dk_at dksX12_stateNow_0 10 rfl rfl)
theorem dX12_stateNow_11 : decode cX12_stateNow 11 = .ok (.iload_n 2, 1) := dk_28 (dk_at dksX12_stateNow_0 11 rfl rfl)
theorem dX12_stateNow_12 : decode cX12_stateNow 12 = .ok (.aload_n 0, 1) := dk_42 (dk_at dksX12_stateNow_0 12 rfl rfl)
theorem dX12_stateNow_13 : decode cX12_stateNow 13 = .ok (.getfield 165, 3) := dk_180 0 165 (dk_at dksX12_stateNow_0 13 rfl rfl)
theorem dX12_stateNow_16 : decode cX12_stateNow 16 = .ok (.if_icmp .ge 12, 3) := dk_162 0 12 (dk_at dksX12_stateNow_0 16 rfl rfl)
theorem dX12_stateNow_19 : decode cX12_stateNow 19 = .ok (.aload_n 0, 1) := dk_42 (dk_at dksX12_stateNow_0 19 rfl rfl)
theorem dX12_stateNow_20 : decode cX12_stateNow 20 = .ok (.getfield 29, 3) := dk_180 0 29 (dk_at dksX12_stateNow_0 20 rfl rfl)
theorem dX12_stateNow_23 : decode cX12_stateNow 23 = .ok (.iload_n 2, 1) := dk_28 (dk_at dksX12_stateNow_0 23 rfl rfl)
theorem dX12_stateNow_24 : decode cX12_stateNow 24 = .ok (.iaload, 1) := dk_46 (dk_at dksX12_stateNow_1 0 rfl rfl)
theorem dX12_stateNow_25 : decode cX12_stateNow 25 = .ok (.goto 4, 3) := dk_167 0 4 (dk_at dksX12_stateNow_1 1 rfl rfl)
theorem dX12_stateNow_28 : decode cX12_stateNow 28 = .ok (.iconst 0, 1) := dk_3 (dk_at dksX12_stateNow_1 4 rfl rfl)
theorem dX12_stateNow_29 : decode cX12_stateNow 29 = .ok (.iadd, 1) := dk_96 (dk_at dksX12_stateNow_1 5 rfl rfl)
theorem dX12_stateNow_30 : decode cX12_stateNow 30 = .ok (.istore_n 1, 1) := dk_60 (dk_at dksX12_stateNow_1 6 rfl rfl)
theorem dX12_stateNow_31 : decode cX12_stateNow 31 = .ok (.iinc 2 (-1), 3) := dk_132 2 255 (dk_at dksX12_stateNow_1 7 rfl rfl)
theorem dX12_stateNow_34 : decode cX12_stateNow 34 = .ok (.goto (-30), 3) := dk_167 255 226 (dk_at dksX12_stateNow_1 10 rfl rfl)
theorem dX12_stateNow_37 : decode cX12_stateNow 37 = .ok (.bipush 6, 2) := dk_16 6 (dk_at dksX12_stateNow_1 13 rfl rfl)
theorem dX12_stateNow_39 : decode cX12_stateNow 39 = .ok (.aload_n 0, 1) := dk_42 (dk_at dksX12_stateNow_1 15 rfl rfl)
theorem dX12_stateNow_40 : decode cX12_stateNow 40 = .ok (.getfield 170, 3) := dk_180 0 170 (dk_at dksX12_stateNow_1 16 rfl rfl)
theorem dX12_stateNow_43 : decode cX12_stateNow 43 = .ok (.iconst 1, 1) := dk_4 (dk_at dksX12_stateNow_1 19 rfl rfl)
theorem dX12_stateNow_44 : decode cX12_stateNow 44 = .ok (.if_icmp .le 12, 3) := dk_164 0 12 (dk_at dksX12_stateNow_1 20 rfl rfl)
theorem dX12_stateNow_47 : decode cX12_stateNow 47 = .ok (.aload_n 0, 1) := dk_42 (dk_at dksX12_stateNow_1 23 rfl rfl)
theorem dX12_stateNow_48 : decode cX12_stateNow 48 = .ok (.getfield 32, 3) := dk_180 0 32 (dk_at dksX12_stateNow_2 0 rfl rfl)
theorem dX12_stateNow_51 : decode cX12_stateNow 51 = .ok (.iconst 1, 1) := dk_4 (dk_at dksX12_stateNow_2 3 rfl rfl)
theorem dX12_stateNow_52 : decode cX12_stateNow 52 = .ok (.iaload, 1) := dk_46 (dk_at dksX12_stateNow_2 4 rfl rfl)
theorem dX12_stateNow_53 : decode cX12_stateNow 53 = .ok (.goto 4, 3) := dk_167 0 4 (dk_at dksX12_stateNow_2 5 rfl rfl)
theorem dX12_stateNow_56 : decode cX12_stateNow 56 = .ok (.iconst 0, 1) := dk_3 (dk_at dksX12_stateNow_2 8 rfl rfl)
theorem dX12_stateNow_57 : decode cX12_stateNow 57 = .ok (.imul, 1) := dk_104 (dk_at dksX12_stateNow_2 9 rfl rfl)
theorem dX12_stateNow_58 : decode cX12_stateNow 58 = .ok (.aload_n 0, 1) := dk_42 (dk_at dksX12_stateNow_2 10 rfl rfl)
theorem dX12_stateNow_59 : decode cX12_stateNow 59 = .ok (.getfield 170, 3) := dk_180 0 170 (dk_at dksX12_stateNow_2 11 rfl rfl)
theorem dX12_stateNow_62 : decode cX12_stateNow 62 = .ok (.ifCond .le 12, 3) := dk_158 0 12 (dk_at dksX12_stateNow_2 14 rfl rfl)
theorem dX12_stateNow_65 : decode cX12_stateNow 65 = .ok (.aload_n 0, 1) := dk_42 (dk_at dksX12_stateNow_2 17 rfl rfl)
theorem dX12_stateNow_66 : decode cX12_stateNow 66 = .ok (.getfield 32, 3) := dk_180 0 32 (dk_at dksX12_stateNow_2 18 rfl rfl)
theorem dX12_stateNow_69 : decode cX12_stateNow 69 = .ok (.iconst 0, 1) := dk_3 (dk_at dksX12_stateNow_2 21 rfl rfl)
theorem dX12_stateNow_70 : decode cX12_stateNow 70 = .ok (.iaload, 1) := dk_46 (dk_at dksX12_stateNow_2 22 rfl rfl)
theorem dX12_stateNow_71 : decode cX12_stateNow 71 = .ok (.goto 4, 3) := dk_167 0 4 (dk_at dksX12_stateNow_3 0 rfl rfl)
theorem dX12_stateNow_74 : decode cX12_stateNow 74 = .ok (.iconst 0, 1) := dk_3 (dk_at dksX12_stateNow_3 3 rfl rfl)
theorem dX12_stateNow_75 : decode cX12_stateNow 75 = .ok (.iadd, 1) := dk_96 (dk_at dksX12_stateNow_3 4 rfl rfl)
theorem dX12_stateNow_76 : decode cX12_stateNow 76 = .ok (.istore_n 2, 1) := dk_61 (dk_at dksX12_stateNow_3 5 rfl rfl)
theorem dX12_stateNow_77 : decode cX12_stateNow 77 = .ok (.bipush 125, 2) := dk_16 125 (dk_at dksX12_stateNow_3 6 rfl rfl)
theorem dX12_stateNow_79 : decode cX12_stateNow 79 = .ok (.iload_n 2, 1) := dk_28 (dk_at dksX12_stateNow_3 8 rfl rfl)
theorem dX12_stateNow_80 : decode cX12_stateNow 80 = .ok (.imul, 1) := dk_104 (dk_at dksX12_stateNow_3 9 rfl rfl)
theorem dX12_stateNow_81 : decode cX12_stateNow 81 = .ok (.iload_n 1, 1) := dk_27 (dk_at dksX12_stateNow_3 10 rfl rfl)
theorem dX12_stateNow_82 : decode cX12_stateNow 82 = .ok (.iadd, 1) := dk_96 (dk_at dksX12_stateNow_3 11 rfl rfl)
theorem dX12_stateNow_83 : decode cX12_stateNow 83 = .ok (.ireturn, 1) := dk_172 (dk_at dksX12_stateNow_3 12 rfl rfl)
abbrev cX12_open : ByteArray := prog_19_method_21_code
def yX12_open : MethodName := ⟨RX12, "open", "(I)V"⟩
def dkwX12_open_2 : List UInt8 := [180, 0, 63, 4, 27, 17, 2, 238, 108, 79, 177]
abbrev dktX12_open_2 : List UInt8 := dkwX12_open_2 ++ []
def dkwX12_open_1 : List UInt8 := [5, 27, 16, 25, 108, 8, 112, 79, 42, 180, 0, 63, 3, 27, 16, 125, 108, 16, 6, 112, 79, 42]
abbrev dktX12_open_1 : List UInt8 := dkwX12_open_1 ++ dktX12_open_2
def dkwX12_open_0 : List UInt8 := [42, 180, 0, 60, 3, 27, 8, 112, 79, 42, 180, 0, 60, 4, 27, 8, 108, 8, 112, 79, 42, 180, 0, 60]
abbrev dktX12_open_0 : List UInt8 := dkwX12_open_0 ++ dktX12_open_1
theorem dksX12_open_0 : cX12_open.data.toList.drop 0 = dktX12_open_0 := by decide +kernel
theorem dksX12_open_1 : cX12_open.data.toList.drop 24 = dktX12_open_1 := dk_seg dksX12_open_0 24 rfl rfl
theorem dksX12_open_2 : cX12_open.data.toList.drop 46 = dktX12_open_2 := dk_seg dksX12_open_1 22 rfl rfl
theorem dX12_open_0 : decode cX12_open 0 = .ok (.aload_n 0, 1) := dk_42 (dk_at dksX12_open_0 0 rfl rfl)
theorem dX12_open_1 : decode cX12_open 1 = .ok (.getfield 60, 3) := dk_180 0 60 (dk_at dksX12_open_0 1 rfl rfl)
theorem dX12_open_4 : decode cX12_open 4 = .ok (.iconst 0, 1) := dk_3 (dk_at dksX12_open_0 4 rfl rfl)
theorem dX12_open_5 : decode cX12_open 5 = .ok (.iload_n 1, 1) := dk_27 (dk_at dksX12_open_0 5 rfl rfl)
theorem dX12_open_6 : decode cX12_open 6 = .ok (.iconst 5, 1) := dk_8 (dk_at dksX12_open_0 6 rfl rfl)
theorem dX12_open_7 : decode cX12_open 7 = .ok (.irem, 1) := dk_112 (dk_at dksX12_open_0 7 rfl rfl)
theorem dX12_open_8 : decode cX12_open 8 = .ok (.iastore, 1) := dk_79 (dk_at dksX12_open_0 8 rfl rfl)
theorem dX12_open_9 : decode cX12_open 9 = .ok (.aload_n 0, 1) := dk_42 (dk_at dksX12_open_0 9 rfl rfl)
theorem dX12_open_10 : decode cX12_open 10 = .ok (.getfield 60, 3) := dk_180 0 60 (dk_at dksX12_open_0 10 rfl rfl)
theorem dX12_open_13 : decode cX12_open 13 = .ok (.iconst 1, 1) := dk_4 (dk_at dksX12_open_0 13 rfl rfl)
theorem dX12_open_14 : decode cX12_open 14 = .ok (.iload_n 1, 1) := dk_27 (dk_at dksX12_open_0 14 rfl rfl)
theorem dX12_open_15 : decode cX12_open 15 = .ok (.iconst 5, 1) := dk_8 (dk_at dksX12_open_0 15 rfl rfl)
theorem dX12_open_16 : decode cX12_open 16 = .ok (.idiv, 1) := dk_108 (dk_at dksX12_open_0 16 rfl rfl)
theorem dX12_open_17 : decode cX12_open 17 = .ok (.iconst 5, 1) := dk_8 (dk_at dksX12_open_0 17 rfl rfl)
theorem dX12_open_18 : decode cX12_open 18 = .ok (.irem, 1) := dk_112 (dk_at dksX12_open_0 18 rfl rfl)
theorem dX12_open_19 : decode cX12_open 19 = .ok (.iastore, 1) := dk_79 (dk_at dksX12_open_0 19 rfl rfl)
theorem dX12_open_20 : decode cX12_open 20 = .ok (.aload_n 0, 1) := dk_42 (dk_at dksX12_open_0 20 rfl rfl)
theorem dX12_open_21 : decode cX12_open 21 = .ok (.getfield 60, 3) := dk_180 0 60 (dk_at dksX12_open_0 21 rfl rfl)
theorem dX12_open_24 : decode cX12_open 24 = .ok (.iconst 2, 1) := dk_5 (dk_at dksX12_open_1 0 rfl rfl)
theorem dX12_open_25 : decode cX12_open 25 = .ok (.iload_n 1, 1) := dk_27 (dk_at dksX12_open_1 1 rfl rfl)
theorem dX12_open_26 : decode cX12_open 26 = .ok (.bipush 25, 2) := dk_16 25 (dk_at dksX12_open_1 2 rfl rfl)
theorem dX12_open_28 : decode cX12_open 28 = .ok (.idiv, 1) := dk_108 (dk_at dksX12_open_1 4 rfl rfl)
theorem dX12_open_29 : decode cX12_open 29 = .ok (.iconst 5, 1) := dk_8 (dk_at dksX12_open_1 5 rfl rfl)
theorem dX12_open_30 : decode cX12_open 30 = .ok (.irem, 1) := dk_112 (dk_at dksX12_open_1 6 rfl rfl)
theorem dX12_open_31 : decode cX12_open 31 = .ok (.iastore, 1) := dk_79 (dk_at dksX12_open_1 7 rfl rfl)
theorem dX12_open_32 : decode cX12_open 32 = .ok (.aload_n 0, 1) := dk_42 (dk_at dksX12_open_1 8 rfl rfl)
theorem dX12_open_33 : decode cX12_open 33 = .ok (.getfield 63, 3) := dk_180 0 63 (dk_at dksX12_open_1 9 rfl rfl)
theorem dX12_open_36 : decode cX12_open 36 = .ok (.iconst 0, 1) := dk_3 (dk_at dksX12_open_1 12 rfl rfl)
theorem dX12_open_37 : decode cX12_open 37 = .ok (.iload_n 1, 1) := dk_27 (dk_at dksX12_open_1 13 rfl rfl)
theorem dX12_open_38 : decode cX12_open 38 = .ok (.bipush 125, 2) := dk_16 125 (dk_at dksX12_open_1 14 rfl rfl)
theorem dX12_open_40 : decode cX12_open 40 = .ok (.idiv, 1) := dk_108 (dk_at dksX12_open_1 16 rfl rfl)
theorem dX12_open_41 : decode cX12_open 41 = .ok (.bipush 6, 2) := dk_16 6 (dk_at dksX12_open_1 17 rfl rfl)
theorem dX12_open_43 : decode cX12_open 43 = .ok (.irem, 1) := dk_112 (dk_at dksX12_open_1 19 rfl rfl)
theorem dX12_open_44 : decode cX12_open 44 = .ok (.iastore, 1) := dk_79 (dk_at dksX12_open_1 20 rfl rfl)
theorem dX12_open_45 : decode cX12_open 45 = .ok (.aload_n 0, 1) := dk_42 (dk_at dksX12_open_1 21 rfl rfl)
theorem dX12_open_46 : decode cX12_open 46 = .ok (.getfield 63, 3) := dk_180 0 63 (dk_at dksX12_open_2 0 rfl rfl)
theorem dX12_open_49 : decode cX12_open 49 = .ok (.iconst 1, 1) := dk_4 (dk_at dksX12_open_2 3 rfl rfl)
theorem dX12_open_50 : decode cX12_open 50 = .ok (.iload_n 1, 1) := dk_27 (dk_at dksX12_open_2 4 rfl rfl)
theorem dX12_open_51 : decode cX12_open 51 = .ok (.sipush 750, 3) := dk_17 2 238 (dk_at dksX12_open_2 5 rfl rfl)
theorem dX12_open_54 : decode cX12_open 54 = .ok (.idiv, 1) := dk_108 (dk_at dksX12_open_2 8 rfl rfl)
theorem dX12_open_55 : decode cX12_open 55 = .ok (.iastore, 1) := dk_79 (dk_at dksX12_open_2 9 rfl rfl)
theorem dX12_open_56 : decode cX12_open 56 = .ok (.return_, 1) := dk_177 (dk_at dksX12_open_2 10 rfl rfl)
abbrev cX12_minutesOf : ByteArray := prog_19_method_30_code
def yX12_minutesOf : MethodName := ⟨RX12, "minutesOf", "(I)I"⟩
def dkwX12_minutesOf_24 : List UInt8 := [153, 0, 18, 42, 21, 4, 21, 5, 182, 0, 214, 153, 0, 7, 4, 167, 0, 4, 2, 172]
abbrev dktX12_minutesOf_24 : List UInt8 := dkwX12_minutesOf_24 ++ []
def dkwX12_minutesOf_23 : List UInt8 := [167, 0, 4, 8, 96, 167, 0, 4, 2, 172, 21, 10, 153, 0, 28, 42, 21, 5, 3, 182, 0, 218]
abbrev dktX12_minutesOf_23 : List UInt8 := dkwX12_minutesOf_23 ++ dktX12_minutesOf_24
def dkwX12_minutesOf_22 : List UInt8 := [153, 0, 31, 42, 180, 0, 19, 21, 13, 51, 153, 0, 21, 21, 8, 7, 108, 21, 10, 153, 0, 7, 5]
abbrev dktX12_minutesOf_22 : List UInt8 := dkwX12_minutesOf_22 ++ dktX12_minutesOf_23
def dkwX12_minutesOf_21 : List UInt8 := [154, 0, 7, 4, 167, 0, 4, 3, 54, 15, 21, 4, 154, 0, 41, 21, 14, 153, 0, 36, 21, 15]
abbrev dktX12_minutesOf_21 : List UInt8 := dkwX12_minutesOf_21 ++ dktX12_minutesOf_22
def dkwX12_minutesOf_20 : List UInt8 := [160, 0, 7, 4, 167, 0, 4, 3, 54, 14, 21, 7, 4, 160, 0, 18, 42, 180, 0, 23, 29, 5, 108, 46]
abbrev dktX12_minutesOf_20 : List UInt8 := dkwX12_minutesOf_20 ++ dktX12_minutesOf_21
def dkwX12_minutesOf_19 : List UInt8 := [167, 0, 5, 21, 6, 54, 13, 21, 6, 21, 5, 100, 4, 159, 0, 12, 21, 5, 21, 6, 100, 4]
abbrev dktX12_minutesOf_19 : List UInt8 := dkwX12_minutesOf_19 ++ dktX12_minutesOf_20
def dkwX12_minutesOf_18 : List UInt8 := [21, 4, 46, 163, 0, 12, 21, 8, 8, 108, 6, 96, 167, 0, 4, 2, 172, 21, 10, 153, 0, 8, 21, 5]
abbrev dktX12_minutesOf_18 : List UInt8 := dkwX12_minutesOf_18 ++ dktX12_minutesOf_19
def dkwX12_minutesOf_17 : List UInt8 := [182, 0, 218, 153, 0, 35, 42, 21, 4, 21, 5, 182, 0, 214, 153, 0, 24, 21, 8, 42, 180, 0, 26]
abbrev dktX12_minutesOf_17 : List UInt8 := dkwX12_minutesOf_17 ++ dktX12_minutesOf_18
def dkwX12_minutesOf_16 : List UInt8 := [21, 9, 96, 167, 0, 4, 2, 172, 21, 7, 4, 160, 0, 50, 21, 10, 153, 0, 45, 42, 21, 5, 29]
abbrev dktX12_minutesOf_16 : List UInt8 := dkwX12_minutesOf_16 ++ dktX12_minutesOf_17
def dkwX12_minutesOf_15 : List UInt8 := [46, 163, 0, 7, 4, 167, 0, 4, 3, 54, 12, 21, 11, 153, 0, 16, 21, 12, 153, 0, 11, 16, 9]
abbrev dktX12_minutesOf_15 : List UInt8 := dkwX12_minutesOf_15 ++ dktX12_minutesOf_16
def dkwX12_minutesOf_14 : List UInt8 := [182, 0, 214, 153, 0, 29, 21, 8, 42, 180, 0, 26, 3, 46, 163, 0, 18, 21, 8, 42, 180, 0, 26, 4]
abbrev dktX12_minutesOf_14 : List UInt8 := dkwX12_minutesOf_14 ++ dktX12_minutesOf_15
def dkwX12_minutesOf_13 : List UInt8 := [167, 0, 4, 2, 172, 21, 4, 154, 0, 49, 42, 3, 21, 5, 182, 0, 214, 153, 0, 39, 42, 4, 21, 5]
abbrev dktX12_minutesOf_13 : List UInt8 := dkwX12_minutesOf_13 ++ dktX12_minutesOf_14
def dkwX12_minutesOf_12 : List UInt8 := [21, 5, 182, 0, 214, 153, 0, 22, 21, 8, 42, 180, 0, 26, 21, 4, 46, 163, 0, 10, 5, 21, 9, 96]
abbrev dktX12_minutesOf_12 : List UInt8 := dkwX12_minutesOf_12 ++ dktX12_minutesOf_13
def dkwX12_minutesOf_11 : List UInt8 := [21, 4, 46, 163, 0, 10, 7, 21, 9, 96, 167, 0, 4, 2, 172, 21, 11, 153, 0, 33, 42, 21, 4]
abbrev dktX12_minutesOf_11 : List UInt8 := dkwX12_minutesOf_11 ++ dktX12_minutesOf_12
def dkwX12_minutesOf_10 : List UInt8 := [21, 11, 153, 0, 35, 42, 21, 4, 21, 5, 182, 0, 214, 153, 0, 24, 5, 21, 8, 104, 42, 180, 0, 26]
abbrev dktX12_minutesOf_10 : List UInt8 := dkwX12_minutesOf_10 ++ dktX12_minutesOf_11
def dkwX12_minutesOf_9 : List UInt8 := [170, 0, 0, 0, 0, 1, 92, 0, 0, 0, 1, 0, 0, 0, 5, 0, 0, 0, 35, 0, 0, 0, 74, 0, 0, 0, 111, 0, 0, 0, 185, 0, 0, 0, 240]
abbrev dktX12_minutesOf_9 : List UInt8 := dkwX12_minutesOf_9 ++ dktX12_minutesOf_10
def dkwX12_minutesOf_8 : List UInt8 := [167, 0, 4, 3, 54, 11, 28]
abbrev dktX12_minutesOf_8 : List UInt8 := dkwX12_minutesOf_8 ++ dktX12_minutesOf_9
def dkwX12_minutesOf_7 : List UInt8 := [153, 0, 26, 42, 180, 0, 13, 21, 5, 46, 4, 160, 0, 15, 42, 29, 182, 0, 211, 154, 0, 7, 4]
abbrev dktX12_minutesOf_7 : List UInt8 := dkwX12_minutesOf_7 ++ dktX12_minutesOf_8
def dkwX12_minutesOf_6 : List UInt8 := [16, 10, 108, 4, 96, 104, 54, 9, 21, 6, 21, 5, 164, 0, 7, 4, 167, 0, 4, 3, 54, 10, 21, 10]
abbrev dktX12_minutesOf_6 : List UInt8 := dkwX12_minutesOf_6 ++ dktX12_minutesOf_7
def dkwX12_minutesOf_5 : List UInt8 := [21, 5, 21, 6, 182, 0, 198, 167, 0, 11, 42, 21, 6, 21, 5, 182, 0, 198, 54, 8, 21, 7, 21, 8]
abbrev dktX12_minutesOf_5 : List UInt8 := dkwX12_minutesOf_5 ++ dktX12_minutesOf_6
def dkwX12_minutesOf_4 : List UInt8 := [21, 6, 182, 0, 207, 154, 0, 5, 2, 172, 29, 184, 0, 204, 54, 7, 21, 6, 21, 5, 164, 0, 14, 42]
abbrev dktX12_minutesOf_4 : List UInt8 := dkwX12_minutesOf_4 ++ dktX12_minutesOf_5
def dkwX12_minutesOf_3 : List UInt8 := [4, 167, 0, 4, 3, 28, 16, 6, 160, 0, 7, 4, 167, 0, 4, 3, 160, 0, 15, 42, 29, 21, 5]
abbrev dktX12_minutesOf_3 : List UInt8 := dkwX12_minutesOf_3 ++ dktX12_minutesOf_4
def dkwX12_minutesOf_2 : List UInt8 := [42, 21, 6, 182, 0, 159, 153, 0, 49, 21, 5, 21, 6, 159, 0, 42, 28, 153, 0, 38, 29, 154, 0, 7]
abbrev dktX12_minutesOf_2 : List UInt8 := dkwX12_minutesOf_2 ++ dktX12_minutesOf_3
def dkwX12_minutesOf_1 : List UInt8 := [27, 16, 10, 108, 16, 10, 112, 54, 5, 27, 16, 10, 112, 54, 6, 42, 21, 5, 182, 0, 159, 153, 0, 58]
abbrev dktX12_minutesOf_1 : List UInt8 := dkwX12_minutesOf_1 ++ dktX12_minutesOf_2
def dkwX12_minutesOf_0 : List UInt8 := [27, 17, 39, 16, 108, 61, 27, 17, 3, 232, 108, 16, 10, 112, 62, 27, 16, 100, 108, 16, 10, 112, 54, 4]
abbrev dktX12_minutesOf_0 : List UInt8 := dkwX12_minutesOf_0 ++ dktX12_minutesOf_1
theorem dksX12_minutesOf_0 : cX12_minutesOf.data.toList.drop 0 = dktX12_minutesOf_0 := by decide +kernel
theorem dksX12_minutesOf_1 : cX12_minutesOf.data.toList.drop 24 = dktX12_minutesOf_1 := dk_seg dksX12_minutesOf_0 24 rfl rfl
theorem dksX12_minutesOf_2 : cX12_minutesOf.data.toList.drop 48 = dktX12_minutesOf_2 := dk_seg dksX12_minutesOf_1 24 rfl rfl
theorem dksX12_minutesOf_3 : cX12_minutesOf.data.toList.drop 72 = dktX12_minutesOf_3 := dk_seg dksX12_minutesOf_2 24 rfl rfl
theorem dksX12_minutesOf_4 : cX12_minutesOf.data.toList.drop 95 = dktX12_minutesOf_4 := dk_seg dksX12_minutesOf_3 23 rfl rfl
theorem dksX12_minutesOf_5 : cX12_minutesOf.data.toList.drop 119 = dktX12_minutesOf_5 := dk_seg dksX12_minutesOf_4 24 rfl rfl
theorem dksX12_minutesOf_6 : cX12_minutesOf.data.toList.drop 143 = dktX12_minutesOf_6 := dk_seg dksX12_minutesOf_5 24 rfl rfl
theorem dksX12_minutesOf_7 : cX12_minutesOf.data.toList.drop 167 = dktX12_minutesOf_7 := dk_seg dksX12_minutesOf_6 24 rfl rfl
theorem dksX12_minutesOf_8 : cX12_minutesOf.data.toList.drop 190 = dktX12_minutesOf_8 := dk_seg dksX12_minutesOf_7 23 rfl rfl
theorem dksX12_minutesOf_9 : cX12_minutesOf.data.toList.drop 197 = dktX12_minutesOf_9 := dk_seg dksX12_minutesOf_8 7 rfl rfl
theorem dksX12_minutesOf_10 : cX12_minutesOf.data.toList.drop 232 = dktX12_minutesOf_10 := dk_seg dksX12_minutesOf_9 35 rfl rfl
theorem dksX12_minutesOf_11 : cX12_minutesOf.data.toList.drop 256 = dktX12_minutesOf_11 := dk_seg dksX12_minutesOf_10 24 rfl rfl
theorem dksX12_minutesOf_12 : cX12_minutesOf.data.toList.drop 279 = dktX12_minutesOf_12 := dk_seg dksX12_minutesOf_11 23 rfl rfl
theorem dksX12_minutesOf_13 : cX12_minutesOf.data.toList.drop 303 = dktX12_minutesOf_13 := dk_seg dksX12_minutesOf_12 24 rfl rfl
theorem dksX12_minutesOf_14 : cX12_minutesOf.data.toList.drop 327 = dktX12_minutesOf_14 := dk_seg dksX12_minutesOf_13 24 rfl rfl
theorem dksX12_minutesOf_15 : cX12_minutesOf.data.toList.drop 351 = dktX12_minutesOf_15 := dk_seg dksX12_minutesOf_14 24 rfl rfl
theorem dksX12_minutesOf_16 : cX12_minutesOf.data.toList.drop 374 = dktX12_minutesOf_16 := dk_seg dksX12_minutesOf_15 23 rfl rfl
theorem dksX12_minutesOf_17 : cX12_minutesOf.data.toList.drop 397 = dktX12_minutesOf_17 := dk_seg dksX12_minutesOf_16 23 rfl rfl
theorem dksX12_minutesOf_18 : cX12_minutesOf.data.toList.drop 420 = dktX12_minutesOf_18 := dk_seg dksX12_minutesOf_17 23 rfl rfl
theorem dksX12_minutesOf_19 : cX12_minutesOf.data.toList.drop 444 = dktX12_minutesOf_19 := dk_seg dksX12_minutesOf_18 24 rfl rfl
theorem dksX12_minutesOf_20 : cX12_minutesOf.data.toList.drop 466 = dktX12_minutesOf_20 := dk_seg dksX12_minutesOf_19 22 rfl rfl
theorem dksX12_minutesOf_21 : cX12_minutesOf.data.toList.drop 490 = dktX12_minutesOf_21 := dk_seg dksX12_minutesOf_20 24 rfl rfl
theorem dksX12_minutesOf_22 : cX12_minutesOf.data.toList.drop 512 = dktX12_minutesOf_22 := dk_seg dksX12_minutesOf_21 22 rfl rfl
theorem dksX12_minutesOf_23 : cX12_minutesOf.data.toList.drop 535 = dktX12_minutesOf_23 := dk_seg dksX12_minutesOf_22 23 rfl rfl
theorem dksX12_minutesOf_24 : cX12_minutesOf.data.toList.drop 557 = dktX12_minutesOf_24 := dk_seg dksX12_minutesOf_23 22 rfl rfl
theorem dX12_minutesOf_0 : decode cX12_minutesOf 0 = .ok (.iload_n 1, 1) := dk_27 (dk_at dksX12_minutesOf_0 0 rfl rfl)
theorem dX12_minutesOf_1 : decode cX12_minutesOf 1 = .ok (.sipush 10000, 3) := dk_17 39 16 (dk_at dksX12_minutesOf_0 1 rfl rfl)
theorem dX12_minutesOf_4 : decode cX12_minutesOf 4 = .ok (.idiv, 1) := dk_108 (dk_at dksX12_minutesOf_0 4 rfl rfl)
theorem dX12_minutesOf_5 : decode cX12_minutesOf 5 = .ok (.istore_n 2, 1) := dk_61 (dk_at dksX12_minutesOf_0 5 rfl rfl)
theorem dX12_minutesOf_6 : decode cX12_minutesOf 6 = .ok (.iload_n 1, 1) := dk_27 (dk_at dksX12_minutesOf_0 6 rfl rfl)
theorem dX12_minutesOf_7 : decode cX12_minutesOf 7 = .ok (.sipush 1000, 3) := dk_17 3 232 (dk_at dksX12_minutesOf_0 7 rfl rfl)
theorem dX12_minutesOf_10 : decode cX12_minutesOf 10 = .ok (.idiv, 1) := dk_108 (dk_at dksX12_minutesOf_0 10 rfl rfl)
theorem dX12_minutesOf_11 : decode cX12_minutesOf 11 = .ok (.bipush 10, 2) := dk_16 10 (dk_at dksX12_minutesOf_0 11 rfl rfl)
theorem dX12_minutesOf_13 : decode cX12_minutesOf 13 = .ok (.irem, 1) := dk_112 (dk_at dksX12_minutesOf_0 13 rfl rfl)
theorem dX12_minutesOf_14 : decode cX12_minutesOf 14 = .ok (.istore_n 3, 1) := dk_62 (dk_at dksX12_minutesOf_0 14 rfl rfl)
theorem dX12_minutesOf_15 : decode cX12_minutesOf 15 = .ok (.iload_n 1, 1) := dk_27 (dk_at dksX12_minutesOf_0 15 rfl rfl)
theorem dX12_minutesOf_16 : decode cX12_minutesOf 16 = .ok (.bipush 100, 2) := dk_16 100 (dk_at dksX12_minutesOf_0 16 rfl rfl)
theorem dX12_minutesOf_18 : decode cX12_minutesOf 18 = .ok (.idiv, 1) := dk_108 (dk_at dksX12_minutesOf_0 18 rfl rfl)
theorem dX12_minutesOf_19 : decode cX12_minutesOf 19 = .ok (.bipush 10, 2) := dk_16 10 (dk_at dksX12_minutesOf_0 19 rfl rfl)
theorem dX12_minutesOf_21 : decode cX12_minutesOf 21 = .ok (.irem, 1) := dk_112 (dk_at dksX12_minutesOf_0 21 rfl rfl)
theorem dX12_minutesOf_22 : decode cX12_minutesOf 22 = .ok (.istore 4, 2) := dk_54 4 (dk_at dksX12_minutesOf_0 22 rfl rfl)
theorem dX12_minutesOf_24 : decode cX12_minutesOf 24 = .ok (.iload_n 1, 1) := dk_27 (dk_at dksX12_minutesOf_1 0 rfl rfl)
theorem dX12_minutesOf_25 : decode cX12_minutesOf 25 = .ok (.bipush 10, 2) := dk_16 10 (dk_at dksX12_minutesOf_1 1 rfl rfl)
theorem dX12_minutesOf_27 : decode cX12_minutesOf 27 = .ok (.idiv, 1) := dk_108 (dk_at dksX12_minutesOf_1 3 rfl rfl)
theorem dX12_minutesOf_28 : decode cX12_minutesOf 28 = .ok (.bipush 10, 2) := dk_16 10 (dk_at dksX12_minutesOf_1 4 rfl rfl)
theorem dX12_minutesOf_30 : decode cX12_minutesOf 30 = .ok (.irem, 1) := dk_112 (dk_at dksX12_minutesOf_1 6 rfl rfl)
theorem dX12_minutesOf_31 : decode cX12_minutesOf 31 = .ok (.istore 5, 2) := dk_54 5 (dk_at dksX12_minutesOf_1 7 rfl rfl)
theorem dX12_minutesOf_33 : decode cX12_minutesOf 33 = .ok (.iload_n 1, 1) := dk_27 (dk_at dksX12_minutesOf_1 9 rfl rfl)
theorem dX12_minutesOf_34 : decode cX12_minutesOf 34 = .ok (.bipush 10, 2) := dk_16 10 (dk_at dksX12_minutesOf_1 10 rfl rfl)
theorem dX12_minutesOf_36 : decode cX12_minutesOf 36 = .ok (.irem, 1) := dk_112 (dk_at dksX12_minutesOf_1 12 rfl rfl)
theorem dX12_minutesOf_37 : decode cX12_minutesOf 37 = .ok (.istore 6, 2) := dk_54 6 (dk_at dksX12_minutesOf_1 13 rfl rfl)
theorem dX12_minutesOf_39 : decode cX12_minutesOf 39 = .ok (.aload_n 0, 1) := dk_42 (dk_at dksX12_minutesOf_1 15 rfl rfl)
theorem dX12_minutesOf_40 : decode cX12_minutesOf 40 = .ok (.iload 5, 2) := dk_21 5 (dk_at dksX12_minutesOf_1 16 rfl rfl)
theorem dX12_minutesOf_42 : decode cX12_minutesOf 42 = .ok (.invokevirtual 159, 3) := dk_182 0 159 (dk_at dksX12_minutesOf_1 18 rfl rfl)
theorem dX12_minutesOf_45 : decode cX12_minutesOf 45 = .ok (.ifCond .eq 58, 3) := dk_153 0 58 (dk_at dksX12_minutesOf_1 21 rfl rfl)
theorem dX12_minutesOf_48 : decode cX12_minutesOf 48 = .ok (.aload_n 0, 1) := dk_42 (dk_at dksX12_minutesOf_2 0 rfl rfl)
theorem dX12_minutesOf_49 : decode cX12_minutesOf 49 = .ok (.iload 6, 2) := dk_21 6 (dk_at dksX12_minutesOf_2 1 rfl rfl)
theorem dX12_minutesOf_51 : decode cX12_minutesOf 51 = .ok (.invokevirtual 159, 3) := dk_182 0 159 (dk_at dksX12_minutesOf_2 3 rfl rfl)
theorem dX12_minutesOf_54 : decode cX12_minutesOf 54 = .ok (.ifCond .eq 49, 3) := dk_153 0 49 (dk_at dksX12_minutesOf_2 6 rfl rfl)
theorem dX12_minutesOf_57 : decode cX12_minutesOf 57 = .ok (.iload 5, 2) := dk_21 5 (dk_at dksX12_minutesOf_2 9 rfl rfl)
theorem dX12_minutesOf_59 : decode cX12_minutesOf 59 = .ok (.iload 6, 2) := dk_21 6 (dk_at dksX12_minutesOf_2 11 rfl rfl)
theorem dX12_minutesOf_61 : decode cX12_minutesOf 61 = .ok (.if_icmp .eq 42, 3) := dk_159 0 42 (dk_at dksX12_minutesOf_2 13 rfl rfl)
theorem dX12_minutesOf_64 : decode cX12_minutesOf 64 = .ok (.iload_n 2, 1) := dk_28 (dk_at dksX12_minutesOf_2 16 rfl rfl)
theorem dX12_minutesOf_65 : decode cX12_minutesOf 65 = .ok (.ifCond .eq 38, 3) := dk_153 0 38 (dk_at dksX12_minutesOf_2 17 rfl rfl)
theorem dX12_minutesOf_68 : decode cX12_minutesOf 68 = .ok (.iload_n 3, 1) := dk_29 (dk_at dksX12_minutesOf_2 20 rfl rfl)
theorem dX12_minutesOf_69 : decode cX12_minutesOf 69 = .ok (.ifCond .ne 7, 3) := dk_154 0 7 (dk_at dksX12_minutesOf_2 21 rfl rfl)
theorem dX12_minutesOf_72 : decode cX12_minutesOf 72 = .ok (.iconst 1, 1) := dk_4 (dk_at dksX12_minutesOf_3 0 rfl rfl)
theorem dX12_minutesOf_73 : decode cX12_minutesOf 73 = .ok (.goto 4, 3) := dk_167 0 4 (dk_at dksX12_minutesOf_3 1 rfl rfl)
theorem dX12_minutesOf_76 : decode cX12_minutesOf 76 = .ok (.iconst 0, 1) := dk_3 (dk_at dksX12_minutesOf_3 4 rfl rfl)
theorem dX12_minutesOf_77 : decode cX12_minutesOf 77 = .ok (.iload_n 2, 1) := dk_28 (dk_at dksX12_minutesOf_3 5 rfl rfl)
theorem dX12_minutesOf_78 : decode cX12_minutesOf 78 = .ok (.bipush 6, 2) := dk_16 6 (dk_at dksX12_minutesOf_3 6 rfl rfl)
theorem dX12_minutesOf_80 : decode cX12_minutesOf 80 = .ok (.if_icmp .ne 7, 3) := dk_160 0 7 (dk_at dksX12_minutesOf_3 8 rfl rfl)
theorem dX12_minutesOf_83 : decode cX12_minutesOf 83 = .ok (.iconst 1, 1) := dk_4 (dk_at dksX12_minutesOf_3 11 rfl rfl)
theorem dX12_minutesOf_84 : decode cX12_minutesOf 84 = .ok (.goto 4, 3) := dk_167 0 4 (dk_at dksX12_minutesOf_3 12 rfl rfl)
theorem dX12_minutesOf_87 : decode cX12_minutesOf 87 = .ok (.iconst 0, 1) := dk_3 (dk_at dksX12_minutesOf_3 15 rfl rfl)
theorem dX12_minutesOf_88 : decode cX12_minutesOf 88 = .ok (.if_icmp .ne 15, 3) := dk_160 0 15 (dk_at dksX12_minutesOf_3 16 rfl rfl)
theorem dX12_minutesOf_91 : decode cX12_minutesOf 91 = .ok (.aload_n 0, 1) := dk_42 (dk_at dksX12_minutesOf_3 19 rfl rfl)
theorem dX12_minutesOf_92 : decode cX12_minutesOf 92 = .ok (.iload_n 3, 1) := dk_29 (dk_at dksX12_minutesOf_3 20 rfl rfl)
theorem dX12_minutesOf_93 : decode cX12_minutesOf 93 = .ok (.iload 5, 2) := dk_21 5 (dk_at dksX12_minutesOf_3 21 rfl rfl)
theorem dX12_minutesOf_95 : decode cX12_minutesOf 95 = .ok (.iload 6, 2) := dk_21 6 (dk_at dksX12_minutesOf_4 0 rfl rfl)
theorem dX12_minutesOf_97 : decode cX12_minutesOf 97 = .ok (.invokevirtual 207, 3) := dk_182 0 207 (dk_at dksX12_minutesOf_4 2 rfl rfl)
theorem dX12_minutesOf_100 : decode cX12_minutesOf 100 = .ok (.ifCond .ne 5, 3) := dk_154 0 5 (dk_at dksX12_minutesOf_4 5 rfl rfl)
theorem dX12_minutesOf_103 : decode cX12_minutesOf 103 = .ok (.iconst (-1), 1) := dk_2 (dk_at dksX12_minutesOf_4 8 rfl rfl)
theorem dX12_minutesOf_104 : decode cX12_minutesOf 104 = .ok (.ireturn, 1) := dk_172 (dk_at dksX12_minutesOf_4 9 rfl rfl)
theorem dX12_minutesOf_105 : decode cX12_minutesOf 105 = .ok (.iload_n 3, 1) := dk_29 (dk_at dksX12_minutesOf_4 10 rfl rfl)
theorem dX12_minutesOf_106 : decode cX12_minutesOf 106 = .ok (.invokestatic 204, 3) := dk_184 0 204 (dk_at dksX12_minutesOf_4 11 rfl rfl)
theorem dX12_minutesOf_109 : decode cX12_minutesOf 109 = .ok (.istore 7, 2) := dk_54 7 (dk_at dksX12_minutesOf_4 14 rfl rfl)
theorem dX12_minutesOf_111 : decode cX12_minutesOf 111 = .ok (.iload 6, 2) := dk_21 6 (dk_at dksX12_minutesOf_4 16 rfl rfl)
theorem dX12_minutesOf_113 : decode cX12_minutesOf 113 = .ok (.iload 5, 2) := dk_21 5 (dk_at dksX12_minutesOf_4 18 rfl rfl)
theorem dX12_minutesOf_115 : decode cX12_minutesOf 115 = .ok (.if_icmp .le 14, 3) := dk_164 0 14 (dk_at dksX12_minutesOf_4 20 rfl rfl)
theorem dX12_minutesOf_118 : decode cX12_minutesOf 118 = .ok (.aload_n 0, 1) := dk_42 (dk_at dksX12_minutesOf_4 23 rfl rfl)
theorem dX12_minutesOf_119 : decode cX12_minutesOf 119 = .ok (.iload 5, 2) := dk_21 5 (dk_at dksX12_minutesOf_5 0 rfl rfl)
theorem dX12_minutesOf_121 : decode cX12_minutesOf 121 = .ok (.iload 6, 2) := dk_21 6 (dk_at dksX12_minutesOf_5 2 rfl rfl)
theorem dX12_minutesOf_123 : decode cX12_minutesOf 123 = .ok (.invokevirtual 198, 3) := dk_182 0 198 (dk_at dksX12_minutesOf_5 4 rfl rfl)
theorem dX12_minutesOf_126 : decode cX12_minutesOf 126 = .ok (.goto 11, 3) := dk_167 0 11 (dk_at dksX12_minutesOf_5 7 rfl rfl)
theorem dX12_minutesOf_129 : decode cX12_minutesOf 129 = .ok (.aload_n 0, 1) := dk_42 (dk_at dksX12_minutesOf_5 10 rfl rfl)
theorem dX12_minutesOf_130 : decode cX12_minutesOf 130 = .ok (.iload 6, 2) := dk_21 6 (dk_at dksX12_minutesOf_5 11 rfl rfl)
theorem dX12_minutesOf_132 : decode cX12_minutesOf 132 = .ok (.iload 5, 2) := dk_21 5 (dk_at dksX12_minutesOf_5 13 rfl rfl)
theorem dX12_minutesOf_134 : decode cX12_minutesOf 134 = .ok (.invokevirtual 198, 3) := dk_182 0 198 (dk_at dksX12_minutesOf_5 15 rfl rfl)
theorem dX12_minutesOf_137 : decode cX12_minutesOf 137 = .ok (.istore 8, 2) := dk_54 8 (dk_at dksX12_minutesOf_5 18 rfl rfl)
theorem dX12_minutesOf_139 : decode cX12_minutesOf 139 = .ok (.iload 7, 2) := dk_21 7 (dk_at dksX12_minutesOf_5 20 rfl rfl)
theorem dX12_minutesOf_141 : decode cX12_minutesOf 141 = .ok (.iload 8, 2) := dk_21 8 (dk_at dksX12_minutesOf_5 22 rfl rfl)
theorem dX12_minutesOf_143 : decode cX12_minutesOf 143 = .ok (.bipush 10, 2) := dk_16 10 (dk_at dksX12_minutesOf_6 0 rfl rfl)
theorem dX12_minutesOf_145 : decode cX12_minutesOf 145 = .ok (.idiv, 1) := dk_108 (dk_at dksX12_minutesOf_6 2 rfl rfl)
theorem dX12_minutesOf_146 : decode cX12_minutesOf 146 = .ok (.iconst 1, 1) := dk_4 (dk_at dksX12_minutesOf_6 3 rfl rfl)
theorem dX12_minutesOf_147 : decode cX12_minutesOf 147 = .ok (.iadd, 1) := dk_96 (dk_at dksX12_minutesOf_6 4 rfl rfl)
theorem dX12_minutesOf_148 : decode cX12_minutesOf 148 = .ok (.imul, 1) := dk_104 (dk_at dksX12_minutesOf_6 5 rfl rfl)
theorem dX12_minutesOf_149 : decode cX12_minutesOf 149 = .ok (.istore 9, 2) := dk_54 9 (dk_at dksX12_minutesOf_6 6 rfl rfl)
theorem dX12_minutesOf_151 : decode cX12_minutesOf 151 = .ok (.iload 6, 2) := dk_21 6 (dk_at dksX12_minutesOf_6 8 rfl rfl)
theorem dX12_minutesOf_153 : decode cX12_minutesOf 153 = .ok (.iload 5, 2) := dk_21 5 (dk_at dksX12_minutesOf_6 10 rfl rfl)
theorem dX12_minutesOf_155 : decode cX12_minutesOf 155 = .ok (.if_icmp .le 7, 3) := dk_164 0 7 (dk_at dksX12_minutesOf_6 12 rfl rfl)
theorem dX12_minutesOf_158 : decode cX12_minutesOf 158 = .ok (.iconst 1, 1) := dk_4 (dk_at dksX12_minutesOf_6 15 rfl rfl)
theorem dX12_minutesOf_159 : decode cX12_minutesOf 159 = .ok (.goto 4, 3) := dk_167 0 4 (dk_at dksX12_minutesOf_6 16 rfl rfl)
theorem dX12_minutesOf_162 : decode cX12_minutesOf 162 = .ok (.iconst 0, 1) := dk_3 (dk_at dksX12_minutesOf_6 19 rfl rfl)
theorem dX12_minutesOf_163 : decode cX12_minutesOf 163 = .ok (.istore 10, 2) := dk_54 10 (dk_at dksX12_minutesOf_6 20 rfl rfl)
theorem dX12_minutesOf_165 : decode cX12_minutesOf 165 = .ok (.iload 10, 2) := dk_21 10 (dk_at dksX12_minutesOf_6 22 rfl rfl)
theorem dX12_minutesOf_167 : decode cX12_minutesOf 167 = .ok (.ifCond .eq 26, 3) := dk_153 0 26 (dk_at dksX12_minutesOf_7 0 rfl rfl)
theorem dX12_minutesOf_170 : decode cX12_minutesOf 170 = .ok (.aload_n 0, 1) := dk_42 (dk_at dksX12_minutesOf_7 3 rfl rfl)
theorem dX12_minutesOf_171 : decode cX12_minutesOf 171 = .ok (.getfield 13, 3) := dk_180 0 13 (dk_at dksX12_minutesOf_7 4 rfl rfl)
theorem dX12_minutesOf_174 : decode cX12_minutesOf 174 = .ok (.iload 5, 2) := dk_21 5 (dk_at dksX12_minutesOf_7 7 rfl rfl)
theorem dX12_minutesOf_176 : decode cX12_minutesOf 176 = .ok (.iaload, 1) := dk_46 (dk_at dksX12_minutesOf_7 9 rfl rfl)
theorem dX12_minutesOf_177 : decode cX12_minutesOf 177 = .ok (.iconst 1, 1) := dk_4 (dk_at dksX12_minutesOf_7 10 rfl rfl)
theorem dX12_minutesOf_178 : decode cX12_minutesOf 178 = .ok (.if_icmp .ne 15, 3) := dk_160 0 15 (dk_at dksX12_minutesOf_7 11 rfl rfl)
theorem dX12_minutesOf_181 : decode cX12_minutesOf 181 = .ok (.aload_n 0, 1) := dk_42 (dk_at dksX12_minutesOf_7 14 rfl rfl)
theorem dX12_minutesOf_182 : decode cX12_minutesOf 182 = .ok (.iload_n 3, 1) := dk_29 (dk_at dksX12_minutesOf_7 15 rfl rfl)
theorem dX12_minutesOf_183 : decode cX12_minutesOf 183 = .ok (.invokevirtual 211, 3) := dk_182 0 211 (dk_at dksX12_minutesOf_7 16 rfl rfl)
theorem dX12_minutesOf_186 : decode cX12_minutesOf 186 = .ok (.ifCond .ne 7, 3) := dk_154 0 7 (dk_at dksX12_minutesOf_7 19 rfl rfl)
theorem dX12_minutesOf_189 : decode cX12_minutesOf 189 = .ok (.iconst 1, 1) := dk_4 (dk_at dksX12_minutesOf_7 22 rfl rfl)
theorem dX12_minutesOf_190 : decode cX12_minutesOf 190 = .ok (.goto 4, 3) := dk_167 0 4 (dk_at dksX12_minutesOf_8 0 rfl rfl)
theorem dX12_minutesOf_193 : decode cX12_minutesOf 193 = .ok (.iconst 0, 1) := dk_3 (dk_at dksX12_minutesOf_8 3 rfl rfl)
theorem dX12_minutesOf_194 : decode cX12_minutesOf 194 = .ok (.istore 11, 2) := dk_54 11 (dk_at dksX12_minutesOf_8 4 rfl rfl)
theorem dX12_minutesOf_196 : decode cX12_minutesOf 196 = .ok (.iload_n 2, 1) := dk_28 (dk_at dksX12_minutesOf_8 6 rfl rfl)
theorem dX12_minutesOf_197 : decode cX12_minutesOf 197 = .ok (.tableswitch 348 1 5 #[35, 74, 111, 185, 240], 35) := by decide +kernel
theorem dX12_minutesOf_232 : decode cX12_minutesOf 232 = .ok (.iload 11, 2) := dk_21 11 (dk_at dksX12_minutesOf_10 0 rfl rfl)
theorem dX12_minutesOf_234 : decode cX12_minutesOf 234 = .ok (.ifCond .eq 35, 3) := dk_153 0 35 (dk_at dksX12_minutesOf_10 2 rfl rfl)
theorem dX12_minutesOf_237 : decode cX12_minutesOf 237 = .ok (.aload_n 0, 1) := dk_42 (dk_at dksX12_minutesOf_10 5 rfl rfl)
theorem dX12_minutesOf_238 : decode cX12_minutesOf 238 = .ok (.iload 4, 2) := dk_21 4 (dk_at dksX12_minutesOf_10 6 rfl rfl)
theorem dX12_minutesOf_240 : decode cX12_minutesOf 240 = .ok (.iload 5, 2) := dk_21 5 (dk_at dksX12_minutesOf_10 8 rfl rfl)
theorem dX12_minutesOf_242 : decode cX12_minutesOf 242 = .ok (.invokevirtual 214, 3) := dk_182 0 214 (dk_at dksX12_minutesOf_10 10 rfl rfl)
theorem dX12_minutesOf_245 : decode cX12_minutesOf 245 = .ok (.ifCond .eq 24, 3) := dk_153 0 24 (dk_at dksX12_minutesOf_10 13 rfl rfl)
theorem dX12_minutesOf_248 : decode cX12_minutesOf 248 = .ok (.iconst 2, 1) := dk_5 (dk_at dksX12_minutesOf_10 16 rfl rfl)
theorem dX12_minutesOf_249 : decode cX12_minutesOf 249 = .ok (.iload 8, 2) := dk_21 8 (dk_at dksX12_minutesOf_10 17 rfl rfl)
theorem dX12_minutesOf_251 : decode cX12_minutesOf 251 = .ok (.imul, 1) := dk_104 (dk_at dksX12_minutesOf_10 19 rfl rfl)
theorem dX12_minutesOf_252 : decode cX12_minutesOf 252 = .ok (.aload_n 0, 1) := dk_42 (dk_at dksX12_minutesOf_10 20 rfl rfl)
theorem dX12_minutesOf_253 : decode cX12_minutesOf 253 = .ok (.getfield 26, 3) := dk_180 0 26 (dk_at dksX12_minutesOf_10 21 rfl rfl)
theorem dX12_minutesOf_256 : decode cX12_minutesOf 256 = .ok (.iload 4, 2) := dk_21 4 (dk_at dksX12_minutesOf_11 0 rfl rfl)
theorem dX12_minutesOf_258 : decode cX12_minutesOf 258 = .ok (.iaload, 1) := dk_46 (dk_at dksX12_minutesOf_11 2 rfl rfl)
theorem dX12_minutesOf_259 : decode cX12_minutesOf 259 = .ok (.if_icmp .gt 10, 3) := dk_163 0 10 (dk_at dksX12_minutesOf_11 3 rfl rfl)
theorem dX12_minutesOf_262 : decode cX12_minutesOf 262 = .ok (.iconst 4, 1) := dk_7 (dk_at dksX12_minutesOf_11 6 rfl rfl)
theorem dX12_minutesOf_263 : decode cX12_minutesOf 263 = .ok (.iload 9, 2) := dk_21 9 (dk_at dksX12_minutesOf_11 7 rfl rfl)
theorem dX12_minutesOf_265 : decode cX12_minutesOf 265 = .ok (.iadd, 1) := dk_96 (dk_at dksX12_minutesOf_11 9 rfl rfl)
theorem dX12_minutesOf_266 : decode cX12_minutesOf 266 = .ok (.goto 4, 3) := dk_167 0 4 (dk_at dksX12_minutesOf_11 10 rfl rfl)
theorem dX12_minutesOf_269 : decode cX12_minutesOf 269 = .ok (.iconst (-1), 1) := dk_2 (dk_at dksX12_minutesOf_11 13 rfl rfl)
theorem dX12_minutesOf_270 : decode cX12_minutesOf 270 = .ok (.ireturn, 1) := dk_172 (dk_at dksX12_minutesOf_11 14 rfl rfl)
theorem dX12_minutesOf_271 : decode cX12_minutesOf 271 = .ok (.iload 11, 2) := dk_21 11 (dk_at dksX12_minutesOf_11 15 rfl rfl)
theorem dX12_minutesOf_273 : decode cX12_minutesOf 273 = .ok (.ifCond .eq 33, 3) := dk_153 0 33 (dk_at dksX12_minutesOf_11 17 rfl rfl)
theorem dX12_minutesOf_276 : decode cX12_minutesOf 276 = .ok (.aload_n 0, 1) := dk_42 (dk_at dksX12_minutesOf_11 20 rfl rfl)
theorem dX12_minutesOf_277 : decode cX12_minutesOf 277 = .ok (.iload 4, 2) := dk_21 4 (dk_at dksX12_minutesOf_11 21 rfl rfl)
theorem dX12_minutesOf_279 : decode cX12_minutesOf 279 = .ok (.iload 5, 2) := dk_21 5 (dk_at dksX12_minutesOf_12 0 rfl rfl)
theorem dX12_minutesOf_281 : decode cX12_minutesOf 281 = .ok (.invokevirtual 214, 3) := dk_182 0 214 (dk_at dksX12_minutesOf_12 2 rfl rfl)
theorem dX12_minutesOf_284 : decode cX12_minutesOf 284 = .ok (.ifCond .eq 22, 3) := dk_153 0 22 (dk_at dksX12_minutesOf_12 5 rfl rfl)
theorem dX12_minutesOf_287 : decode cX12_minutesOf 287 = .ok (.iload 8, 2) := dk_21 8 (dk_at dksX12_minutesOf_12 8 rfl rfl)
theorem dX12_minutesOf_289 : decode cX12_minutesOf 289 = .ok (.aload_n 0, 1) := dk_42 (dk_at dksX12_minutesOf_12 10 rfl rfl)
theorem dX12_minutesOf_290 : decode cX12_minutesOf 290 = .ok (.getfield 26, 3) := dk_180 0 26 (dk_at dksX12_minutesOf_12 11 rfl rfl)
theorem dX12_minutesOf_293 : decode cX12_minutesOf 293 = .ok (.iload 4, 2) := dk_21 4 (dk_at dksX12_minutesOf_12 14 rfl rfl)
theorem dX12_minutesOf_295 : decode cX12_minutesOf 295 = .ok (.iaload, 1) := dk_46 (dk_at dksX12_minutesOf_12 16 rfl rfl)
theorem dX12_minutesOf_296 : decode cX12_minutesOf 296 = .ok (.if_icmp .gt 10, 3) := dk_163 0 10 (dk_at dksX12_minutesOf_12 17 rfl rfl)
theorem dX12_minutesOf_299 : decode cX12_minutesOf 299 = .ok (.iconst 2, 1) := dk_5 (dk_at dksX12_minutesOf_12 20 rfl rfl)
theorem dX12_minutesOf_300 : decode cX12_minutesOf 300 = .ok (.iload 9, 2) := dk_21 9 (dk_at dksX12_minutesOf_12 21 rfl rfl)
theorem dX12_minutesOf_302 : decode cX12_minutesOf 302 = .ok (.iadd, 1) := dk_96 (dk_at dksX12_minutesOf_12 23 rfl rfl)
theorem dX12_minutesOf_303 : decode cX12_minutesOf 303 = .ok (.goto 4, 3) := dk_167 0 4 (dk_at dksX12_minutesOf_13 0 rfl rfl)
theorem dX12_minutesOf_306 : decode cX12_minutesOf 306 = .ok (.iconst (-1), 1) := dk_2 (dk_at dksX12_minutesOf_13 3 rfl rfl)
theorem dX12_minutesOf_307 : decode cX12_minutesOf 307 = .ok (.ireturn, 1) := dk_172 (dk_at dksX12_minutesOf_13 4 rfl rfl)
theorem dX12_minutesOf_308 : decode cX12_minutesOf 308 = .ok (.iload 4, 2) := dk_21 4 (dk_at dksX12_minutesOf_13 5 rfl rfl)
theorem dX12_minutesOf_310 : decode cX12_minutesOf 310 = .ok (.ifCond .ne 49, 3) := dk_154 0 49 (dk_at dksX12_minutesOf_13 7 rfl rfl)
theorem dX12_minutesOf_313 : decode cX12_minutesOf 313 = .ok (.aload_n 0, 1) := dk_42 (dk_at dksX12_minutesOf_13 10 rfl rfl)
theorem dX12_minutesOf_314 : decode cX12_minutesOf 314 = .ok (.iconst 0, 1) := dk_3 (dk_at dksX12_minutesOf_13 11 rfl rfl)
theorem dX12_minutesOf_315 : decode cX12_minutesOf 315 = .ok (.iload 5, 2) := dk_21 5 (dk_at dksX12_minutesOf_13 12 rfl rfl)
theorem dX12_minutesOf_317 : decode cX12_minutesOf 317 = .ok (.invokevirtual 214, 3) := dk_182 0 214 (dk_at dksX12_minutesOf_13 14 rfl rfl)
theorem dX12_minutesOf_320 : decode cX12_minutesOf 320 = .ok (.ifCond .eq 39, 3) := dk_153 0 39 (dk_at dksX12_minutesOf_13 17 rfl rfl)
theorem dX12_minutesOf_323 : decode cX12_minutesOf 323 = .ok (.aload_n 0, 1) := dk_42 (dk_at dksX12_minutesOf_13 20 rfl rfl)
theorem dX12_minutesOf_324 : decode cX12_minutesOf 324 = .ok (.iconst 1, 1) := dk_4 (dk_at dksX12_minutesOf_13 21 rfl rfl)
theorem dX12_minutesOf_325 : decode cX12_minutesOf 325 = .ok (.iload 5, 2) := dk_21 5 (dk_at dksX12_minutesOf_13 22 rfl rfl)
theorem dX12_minutesOf_327 : decode cX12_minutesOf 327 = .ok (.invokevirtual 214, 3) := dk_182 0 214 (dk_at dksX12_minutesOf_14 0 rfl rfl)
theorem dX12_minutesOf_330 : decode cX12_minutesOf 330 = .ok (.ifCond .eq 29, 3) := dk_153 0 29 (dk_at dksX12_minutesOf_14 3 rfl rfl)
theorem dX12_minutesOf_333 : decode cX12_minutesOf 333 = .ok (.iload 8, 2) := dk_21 8 (dk_at dksX12_minutesOf_14 6 rfl rfl)
theorem dX12_minutesOf_335 : decode cX12_minutesOf 335 = .ok (.aload_n 0, 1) := dk_42 (dk_at dksX12_minutesOf_14 8 rfl rfl)
theorem dX12_minutesOf_336 : decode cX12_minutesOf 336 = .ok (.getfield 26, 3) := dk_180 0 26 (dk_at dksX12_minutesOf_14 9 rfl rfl)
theorem dX12_minutesOf_339 : decode cX12_minutesOf 339 = .ok (.iconst 0, 1) := dk_3 (dk_at dksX12_minutesOf_14 12 rfl rfl)
theorem dX12_minutesOf_340 : decode cX12_minutesOf 340 = .ok (.iaload, 1) := dk_46 (dk_at dksX12_minutesOf_14 13 rfl rfl)
theorem dX12_minutesOf_341 : decode cX12_minutesOf 341 = .ok (.if_icmp .gt 18, 3) := dk_163 0 18 (dk_at dksX12_minutesOf_14 14 rfl rfl)
theorem dX12_minutesOf_344 : decode cX12_minutesOf 344 = .ok (.iload 8, 2) := dk_21 8 (dk_at dksX12_minutesOf_14 17 rfl rfl)
theorem dX12_minutesOf_346 : decode cX12_minutesOf 346 = .ok (.aload_n 0, 1) := dk_42 (dk_at dksX12_minutesOf_14 19 rfl rfl)
theorem dX12_minutesOf_347 : decode cX12_minutesOf 347 = .ok (.getfield 26, 3) := dk_180 0 26 (dk_at dksX12_minutesOf_14 20 rfl rfl)
theorem dX12_minutesOf_350 : decode cX12_minutesOf 350 = .ok (.iconst 1, 1) := dk_4 (dk_at dksX12_minutesOf_14 23 rfl rfl)
theorem dX12_minutesOf_351 : decode cX12_minutesOf 351 = .ok (.iaload, 1) := dk_46 (dk_at dksX12_minutesOf_15 0 rfl rfl)
theorem dX12_minutesOf_352 : decode cX12_minutesOf 352 = .ok (.if_icmp .gt 7, 3) := dk_163 0 7 (dk_at dksX12_minutesOf_15 1 rfl rfl)
theorem dX12_minutesOf_355 : decode cX12_minutesOf 355 = .ok (.iconst 1, 1) := dk_4 (dk_at dksX12_minutesOf_15 4 rfl rfl)
theorem dX12_minutesOf_356 : decode cX12_minutesOf 356 = .ok (.goto 4, 3) := dk_167 0 4 (dk_at dksX12_minutesOf_15 5 rfl rfl)
theorem dX12_minutesOf_359 : decode cX12_minutesOf 359 = .ok (.iconst 0, 1) := dk_3 (dk_at dksX12_minutesOf_15 8 rfl rfl)
theorem dX12_minutesOf_360 : decode cX12_minutesOf 360 = .ok (.istore 12, 2) := dk_54 12 (dk_at dksX12_minutesOf_15 9 rfl rfl)
theorem dX12_minutesOf_362 : decode cX12_minutesOf 362 = .ok (.iload 11, 2) := dk_21 11 (dk_at dksX12_minutesOf_15 11 rfl rfl)
theorem dX12_minutesOf_364 : decode cX12_minutesOf 364 = .ok (.ifCond .eq 16, 3) := dk_153 0 16 (dk_at dksX12_minutesOf_15 13 rfl rfl)
theorem dX12_minutesOf_367 : decode cX12_minutesOf 367 = .ok (.iload 12, 2) := dk_21 12 (dk_at dksX12_minutesOf_15 16 rfl rfl)
theorem dX12_minutesOf_369 : decode cX12_minutesOf 369 = .ok (.ifCond .eq 11, 3) := dk_153 0 11 (dk_at dksX12_minutesOf_15 18 rfl rfl)
theorem dX12_minutesOf_372 : decode cX12_minutesOf 372 = .ok (.bipush 9, 2) := dk_16 9 (dk_at dksX12_minutesOf_15 21 rfl rfl)
theorem dX12_minutesOf_374 : decode cX12_minutesOf 374 = .ok (.iload 9, 2) := dk_21 9 (dk_at dksX12_minutesOf_16 0 rfl rfl)
theorem dX12_minutesOf_376 : decode cX12_minutesOf 376 = .ok (.iadd, 1) := dk_96 (dk_at dksX12_minutesOf_16 2 rfl rfl)
theorem dX12_minutesOf_377 : decode cX12_minutesOf 377 = .ok (.goto 4, 3) := dk_167 0 4 (dk_at dksX12_minutesOf_16 3 rfl rfl)
theorem dX12_minutesOf_380 : decode cX12_minutesOf 380 = .ok (.iconst (-1), 1) := dk_2 (dk_at dksX12_minutesOf_16 6 rfl rfl)
theorem dX12_minutesOf_381 : decode cX12_minutesOf 381 = .ok (.ireturn, 1) := dk_172 (dk_at dksX12_minutesOf_16 7 rfl rfl)
theorem dX12_minutesOf_382 : decode cX12_minutesOf 382 = .ok (.iload 7, 2) := dk_21 7 (dk_at dksX12_minutesOf_16 8 rfl rfl)
theorem dX12_minutesOf_384 : decode cX12_minutesOf 384 = .ok (.iconst 1, 1) := dk_4 (dk_at dksX12_minutesOf_16 10 rfl rfl)
theorem dX12_minutesOf_385 : decode cX12_minutesOf 385 = .ok (.if_icmp .ne 50, 3) := dk_160 0 50 (dk_at dksX12_minutesOf_16 11 rfl rfl)
theorem dX12_minutesOf_388 : decode cX12_minutesOf 388 = .ok (.iload 10, 2) := dk_21 10 (dk_at dksX12_minutesOf_16 14 rfl rfl)
theorem dX12_minutesOf_390 : decode cX12_minutesOf 390 = .ok (.ifCond .eq 45, 3) := dk_153 0 45 (dk_at dksX12_minutesOf_16 16 rfl rfl)
theorem dX12_minutesOf_393 : decode cX12_minutesOf 393 = .ok (.aload_n 0, 1) := dk_42 (dk_at dksX12_minutesOf_16 19 rfl rfl)
theorem dX12_minutesOf_394 : decode cX12_minutesOf 394 = .ok (.iload 5, 2) := dk_21 5 (dk_at dksX12_minutesOf_16 20 rfl rfl)
theorem dX12_minutesOf_396 : decode cX12_minutesOf 396 = .ok (.iload_n 3, 1) := dk_29 (dk_at dksX12_minutesOf_16 22 rfl rfl)
theorem dX12_minutesOf_397 : decode cX12_minutesOf 397 = .ok (.invokevirtual 218, 3) := dk_182 0 218 (dk_at dksX12_minutesOf_17 0 rfl rfl)
theorem dX12_minutesOf_400 : decode cX12_minutesOf 400 = .ok (.ifCond .eq 35, 3) := dk_153 0 35 (dk_at dksX12_minutesOf_17 3 rfl rfl)
theorem dX12_minutesOf_403 : decode cX12_minutesOf 403 = .ok (.aload_n 0, 1) := dk_42 (dk_at dksX12_minutesOf_17 6 rfl rfl)
theorem dX12_minutesOf_404 : decode cX12_minutesOf 404 = .ok (.iload 4, 2) := dk_21 4 (dk_at dksX12_minutesOf_17 7 rfl rfl)
theorem dX12_minutesOf_406 : decode cX12_minutesOf 406 = .ok (.iload 5, 2) := dk_21 5 (dk_at dksX12_minutesOf_17 9 rfl rfl)
theorem dX12_minutesOf_408 : decode cX12_minutesOf 408 = .ok (.invokevirtual 214, 3) := dk_182 0 214 (dk_at dksX12_minutesOf_17 11 rfl rfl)
theorem dX12_minutesOf_411 : decode cX12_minutesOf 411 = .ok (.ifCond .eq 24, 3) := dk_153 0 24 (dk_at dksX12_minutesOf_17 14 rfl rfl)
theorem dX12_minutesOf_414 : decode cX12_minutesOf 414 = .ok (.iload 8, 2) := dk_21 8 (dk_at dksX12_minutesOf_17 17 rfl rfl)
theorem dX12_minutesOf_416 : decode cX12_minutesOf 416 = .ok (.aload_n 0, 1) := dk_42 (dk_at dksX12_minutesOf_17 19 rfl rfl)
theorem dX12_minutesOf_417 : decode cX12_minutesOf 417 = .ok (.getfield 26, 3) := dk_180 0 26 (dk_at dksX12_minutesOf_17 20 rfl rfl)
theorem dX12_minutesOf_420 : decode cX12_minutesOf 420 = .ok (.iload 4, 2) := dk_21 4 (dk_at dksX12_minutesOf_18 0 rfl rfl)
theorem dX12_minutesOf_422 : decode cX12_minutesOf 422 = .ok (.iaload, 1) := dk_46 (dk_at dksX12_minutesOf_18 2 rfl rfl)
theorem dX12_minutesOf_423 : decode cX12_minutesOf 423 = .ok (.if_icmp .gt 12, 3) := dk_163 0 12 (dk_at dksX12_minutesOf_18 3 rfl rfl)
theorem dX12_minutesOf_426 : decode cX12_minutesOf 426 = .ok (.iload 8, 2) := dk_21 8 (dk_at dksX12_minutesOf_18 6 rfl rfl)
theorem dX12_minutesOf_428 : decode cX12_minutesOf 428 = .ok (.iconst 5, 1) := dk_8 (dk_at dksX12_minutesOf_18 8 rfl rfl)
theorem dX12_minutesOf_429 : decode cX12_minutesOf 429 = .ok (.idiv, 1) := dk_108 (dk_at dksX12_minutesOf_18 9 rfl rfl)
theorem dX12_minutesOf_430 : decode cX12_minutesOf 430 = .ok (.iconst 3, 1) := dk_6 (dk_at dksX12_minutesOf_18 10 rfl rfl)
theorem dX12_minutesOf_431 : decode cX12_minutesOf 431 = .ok (.iadd, 1) := dk_96 (dk_at dksX12_minutesOf_18 11 rfl rfl)
theorem dX12_minutesOf_432 : decode cX12_minutesOf 432 = .ok (.goto 4, 3) := dk_167 0 4 (dk_at dksX12_minutesOf_18 12 rfl rfl)
theorem dX12_minutesOf_435 : decode cX12_minutesOf 435 = .ok (.iconst (-1), 1) := dk_2 (dk_at dksX12_minutesOf_18 15 rfl rfl)
theorem dX12_minutesOf_436 : decode cX12_minutesOf 436 = .ok (.ireturn, 1) := dk_172 (dk_at dksX12_minutesOf_18 16 rfl rfl)
theorem dX12_minutesOf_437 : decode cX12_minutesOf 437 = .ok (.iload 10, 2) := dk_21 10 (dk_at dksX12_minutesOf_18 17 rfl rfl)
theorem dX12_minutesOf_439 : decode cX12_minutesOf 439 = .ok (.ifCond .eq 8, 3) := dk_153 0 8 (dk_at dksX12_minutesOf_18 19 rfl rfl)
theorem dX12_minutesOf_442 : decode cX12_minutesOf 442 = .ok (.iload 5, 2) := dk_21 5 (dk_at dksX12_minutesOf_18 22 rfl rfl)
theorem dX12_minutesOf_444 : decode cX12_minutesOf 444 = .ok (.goto 5, 3) := dk_167 0 5 (dk_at dksX12_minutesOf_19 0 rfl rfl)
theorem dX12_minutesOf_447 : decode cX12_minutesOf 447 = .ok (.iload 6, 2) := dk_21 6 (dk_at dksX12_minutesOf_19 3 rfl rfl)
theorem dX12_minutesOf_449 : decode cX12_minutesOf 449 = .ok (.istore 13, 2) := dk_54 13 (dk_at dksX12_minutesOf_19 5 rfl rfl)
theorem dX12_minutesOf_451 : decode cX12_minutesOf 451 = .ok (.iload 6, 2) := dk_21 6 (dk_at dksX12_minutesOf_19 7 rfl rfl)
theorem dX12_minutesOf_453 : decode cX12_minutesOf 453 = .ok (.iload 5, 2) := dk_21 5 (dk_at dksX12_minutesOf_19 9 rfl rfl)
theorem dX12_minutesOf_455 : decode cX12_minutesOf 455 = .ok (.isub, 1) := dk_100 (dk_at dksX12_minutesOf_19 11 rfl rfl)
theorem dX12_minutesOf_456 : decode cX12_minutesOf 456 = .ok (.iconst 1, 1) := dk_4 (dk_at dksX12_minutesOf_19 12 rfl rfl)
theorem dX12_minutesOf_457 : decode cX12_minutesOf 457 = .ok (.if_icmp .eq 12, 3) := dk_159 0 12 (dk_at dksX12_minutesOf_19 13 rfl rfl)
theorem dX12_minutesOf_460 : decode cX12_minutesOf 460 = .ok (.iload 5, 2) := dk_21 5 (dk_at dksX12_minutesOf_19 16 rfl rfl)
theorem dX12_minutesOf_462 : decode cX12_minutesOf 462 = .ok (.iload 6, 2) := dk_21 6 (dk_at dksX12_minutesOf_19 18 rfl rfl)
theorem dX12_minutesOf_464 : decode cX12_minutesOf 464 = .ok (.isub, 1) := dk_100 (dk_at dksX12_minutesOf_19 20 rfl rfl)
theorem dX12_minutesOf_465 : decode cX12_minutesOf 465 = .ok (.iconst 1, 1) := dk_4 (dk_at dksX12_minutesOf_19 21 rfl rfl)
theorem dX12_minutesOf_466 : decode cX12_minutesOf 466 = .ok (.if_icmp .ne 7, 3) := dk_160 0 7 (dk_at dksX12_minutesOf_20 0 rfl rfl)
theorem dX12_minutesOf_469 : decode cX12_minutesOf 469 = .ok (.iconst 1, 1) := dk_4 (dk_at dksX12_minutesOf_20 3 rfl rfl)
theorem dX12_minutesOf_470 : decode cX12_minutesOf 470 = .ok (.goto 4, 3) := dk_167 0 4 (dk_at dksX12_minutesOf_20 4 rfl rfl)
theorem dX12_minutesOf_473 : decode cX12_minutesOf 473 = .ok (.iconst 0, 1) := dk_3 (dk_at dksX12_minutesOf_20 7 rfl rfl)
theorem dX12_minutesOf_474 : decode cX12_minutesOf 474 = .ok (.istore 14, 2) := dk_54 14 (dk_at dksX12_minutesOf_20 8 rfl rfl)
theorem dX12_minutesOf_476 : decode cX12_minutesOf 476 = .ok (.iload 7, 2) := dk_21 7 (dk_at dksX12_minutesOf_20 10 rfl rfl)
theorem dX12_minutesOf_478 : decode cX12_minutesOf 478 = .ok (.iconst 1, 1) := dk_4 (dk_at dksX12_minutesOf_20 12 rfl rfl)
theorem dX12_minutesOf_479 : decode cX12_minutesOf 479 = .ok (.if_icmp .ne 18, 3) := dk_160 0 18 (dk_at dksX12_minutesOf_20 13 rfl rfl)
theorem dX12_minutesOf_482 : decode cX12_minutesOf 482 = .ok (.aload_n 0, 1) := dk_42 (dk_at dksX12_minutesOf_20 16 rfl rfl)
theorem dX12_minutesOf_483 : decode cX12_minutesOf 483 = .ok (.getfield 23, 3) := dk_180 0 23 (dk_at dksX12_minutesOf_20 17 rfl rfl)
theorem dX12_minutesOf_486 : decode cX12_minutesOf 486 = .ok (.iload_n 3, 1) := dk_29 (dk_at dksX12_minutesOf_20 20 rfl rfl)
theorem dX12_minutesOf_487 : decode cX12_minutesOf 487 = .ok (.iconst 2, 1) := dk_5 (dk_at dksX12_minutesOf_20 21 rfl rfl)
theorem dX12_minutesOf_488 : decode cX12_minutesOf 488 = .ok (.idiv, 1) := dk_108 (dk_at dksX12_minutesOf_20 22 rfl rfl)
theorem dX12_minutesOf_489 : decode cX12_minutesOf 489 = .ok (.iaload, 1) := dk_46 (dk_at dksX12_minutesOf_20 23 rfl rfl)
theorem dX12_minutesOf_490 : decode cX12_minutesOf 490 = .ok (.ifCond .ne 7, 3) := dk_154 0 7 (dk_at dksX12_minutesOf_21 0 rfl rfl)
theorem dX12_minutesOf_493 : decode cX12_minutesOf 493 = .ok (.iconst 1, 1) := dk_4 (dk_at dksX12_minutesOf_21 3 rfl rfl)
theorem dX12_minutesOf_494 : decode cX12_minutesOf 494 = .ok (.goto 4, 3) := dk_167 0 4 (dk_at dksX12_minutesOf_21 4 rfl rfl)
theorem dX12_minutesOf_497 : decode cX12_minutesOf 497 = .ok (.iconst 0, 1) := dk_3 (dk_at dksX12_minutesOf_21 7 rfl rfl)
theorem dX12_minutesOf_498 : decode cX12_minutesOf 498 = .ok (.istore 15, 2) := dk_54 15 (dk_at dksX12_minutesOf_21 8 rfl rfl)
theorem dX12_minutesOf_500 : decode cX12_minutesOf 500 = .ok (.iload 4, 2) := dk_21 4 (dk_at dksX12_minutesOf_21 10 rfl rfl)
theorem dX12_minutesOf_502 : decode cX12_minutesOf 502 = .ok (.ifCond .ne 41, 3) := dk_154 0 41 (dk_at dksX12_minutesOf_21 12 rfl rfl)
theorem dX12_minutesOf_505 : decode cX12_minutesOf 505 = .ok (.iload 14, 2) := dk_21 14 (dk_at dksX12_minutesOf_21 15 rfl rfl)
theorem dX12_minutesOf_507 : decode cX12_minutesOf 507 = .ok (.ifCond .eq 36, 3) := dk_153 0 36 (dk_at dksX12_minutesOf_21 17 rfl rfl)
theorem dX12_minutesOf_510 : decode cX12_minutesOf 510 = .ok (.iload 15, 2) := dk_21 15 (dk_at dksX12_minutesOf_21 20 rfl rfl)
theorem dX12_minutesOf_512 : decode cX12_minutesOf 512 = .ok (.ifCond .eq 31, 3) := dk_153 0 31 (dk_at dksX12_minutesOf_22 0 rfl rfl)
theorem dX12_minutesOf_515 : decode cX12_minutesOf 515 = .ok (.aload_n 0, 1) := dk_42 (dk_at dksX12_minutesOf_22 3 rfl rfl)
theorem dX12_minutesOf_516 : decode cX12_minutesOf 516 = .ok (.getfield 19, 3) := dk_180 0 19 (dk_at dksX12_minutesOf_22 4 rfl rfl)
theorem dX12_minutesOf_519 : decode cX12_minutesOf 519 = .ok (.iload 13, 2) := dk_21 13 (dk_at dksX12_minutesOf_22 7 rfl rfl)
theorem dX12_minutesOf_521 : decode cX12_minutesOf 521 = .ok (.baload, 1) := dk_51 (dk_at dksX12_minutesOf_22 9 rfl rfl)
theorem dX12_minutesOf_522 : decode cX12_minutesOf 522 = .ok (.ifCond .eq 21, 3) := dk_153 0 21 (dk_at dksX12_minutesOf_22 10 rfl rfl)
theorem dX12_minutesOf_525 : decode cX12_minutesOf 525 = .ok (.iload 8, 2) := dk_21 8 (dk_at dksX12_minutesOf_22 13 rfl rfl)
theorem dX12_minutesOf_527 : decode cX12_minutesOf 527 = .ok (.iconst 4, 1) := dk_7 (dk_at dksX12_minutesOf_22 15 rfl rfl)
theorem dX12_minutesOf_528 : decode cX12_minutesOf 528 = .ok (.idiv, 1) := dk_108 (dk_at dksX12_minutesOf_22 16 rfl rfl)
theorem dX12_minutesOf_529 : decode cX12_minutesOf 529 = .ok (.iload 10, 2) := dk_21 10 (dk_at dksX12_minutesOf_22 17 rfl rfl)
theorem dX12_minutesOf_531 : decode cX12_minutesOf 531 = .ok (.ifCond .eq 7, 3) := dk_153 0 7 (dk_at dksX12_minutesOf_22 19 rfl rfl)
theorem dX12_minutesOf_534 : decode cX12_minutesOf 534 = .ok (.iconst 2, 1) := dk_5 (dk_at dksX12_minutesOf_22 22 rfl rfl)
theorem dX12_minutesOf_535 : decode cX12_minutesOf 535 = .ok (.goto 4, 3) := dk_167 0 4 (dk_at dksX12_minutesOf_23 0 rfl rfl)
theorem dX12_minutesOf_538 : decode cX12_minutesOf 538 = .ok (.iconst 5, 1) := dk_8 (dk_at dksX12_minutesOf_23 3 rfl rfl)
theorem dX12_minutesOf_539 : decode cX12_minutesOf 539 = .ok (.iadd, 1) := dk_96 (dk_at dksX12_minutesOf_23 4 rfl rfl)
theorem dX12_minutesOf_540 : decode cX12_minutesOf 540 = .ok (.goto 4, 3) := dk_167 0 4 (dk_at dksX12_minutesOf_23 5 rfl rfl)
theorem dX12_minutesOf_543 : decode cX12_minutesOf 543 = .ok (.iconst (-1), 1) := dk_2 (dk_at dksX12_minutesOf_23 8 rfl rfl)
theorem dX12_minutesOf_544 : decode cX12_minutesOf 544 = .ok (.ireturn, 1) := dk_172 (dk_at dksX12_minutesOf_23 9 rfl rfl)
theorem dX12_minutesOf_545 : decode cX12_minutesOf 545 = .ok (.iload 10, 2) := dk_21 10 (dk_at dksX12_minutesOf_23 10 rfl rfl)
theorem dX12_minutesOf_547 : decode cX12_minutesOf 547 = .ok (.ifCond .eq 28, 3) := dk_153 0 28 (dk_at dksX12_minutesOf_23 12 rfl rfl)
theorem dX12_minutesOf_550 : decode cX12_minutesOf 550 = .ok (.aload_n 0, 1) := dk_42 (dk_at dksX12_minutesOf_23 15 rfl rfl)
theorem dX12_minutesOf_551 : decode cX12_minutesOf 551 = .ok (.iload 5, 2) := dk_21 5 (dk_at dksX12_minutesOf_23 16 rfl rfl)
theorem dX12_minutesOf_553 : decode cX12_minutesOf 553 = .ok (.iconst 0, 1) := dk_3 (dk_at dksX12_minutesOf_23 18 rfl rfl)
theorem dX12_minutesOf_554 : decode cX12_minutesOf 554 = .ok (.invokevirtual 218, 3) := dk_182 0 218 (dk_at dksX12_minutesOf_23 19 rfl rfl)
theorem dX12_minutesOf_557 : decode cX12_minutesOf 557 = .ok (.ifCond .eq 18, 3) := dk_153 0 18 (dk_at dksX12_minutesOf_24 0 rfl rfl)
theorem dX12_minutesOf_560 : decode cX12_minutesOf 560 = .ok (.aload_n 0, 1) := dk_42 (dk_at dksX12_minutesOf_24 3 rfl rfl)
theorem dX12_minutesOf_561 : decode cX12_minutesOf 561 = .ok (.iload 4, 2) := dk_21 4 (dk_at dksX12_minutesOf_24 4 rfl rfl)
theorem dX12_minutesOf_563 : decode cX12_minutesOf 563 = .ok (.iload 5, 2) := dk_21 5 (dk_at dksX12_minutesOf_24 6 rfl rfl)
theorem dX12_minutesOf_565 : decode cX12_minutesOf 565 = .ok (.invokevirtual 214, 3) := dk_182 0 214 (dk_at dksX12_minutesOf_24 8 rfl rfl)
theorem dX12_minutesOf_568 : decode cX12_minutesOf 568 = .ok (.ifCond .eq 7, 3) := dk_153 0 7 (dk_at dksX12_minutesOf_24 11 rfl rfl)
theorem dX12_minutesOf_571 : decode cX12_minutesOf 571 = .ok (.iconst 1, 1) := dk_4 (dk_at dksX12_minutesOf_24 14 rfl rfl)
theorem dX12_minutesOf_572 : decode cX12_minutesOf 572 = .ok (.goto 4, 3) := dk_167 0 4 (dk_at dksX12_minutesOf_24 15 rfl rfl)
theorem dX12_minutesOf_575 : decode cX12_minutesOf 575 = .ok (.iconst (-1), 1) := dk_2 (dk_at dksX12_minutesOf_24 18 rfl rfl)
theorem dX12_minutesOf_576 : decode cX12_minutesOf 576 = .ok (.ireturn, 1) := dk_172 (dk_at dksX12_minutesOf_24 19 rfl rfl)
abbrev cX12_mayGo : ByteArray := prog_19_method_26_code
def yX12_mayGo : MethodName := ⟨RX12, "mayGo", "(III)Z"⟩
def dkwX12_mayGo_5 : List UInt8 := [180, 0, 7, 29, 46, 163, 0, 7, 4, 167, 0, 4, 3, 172]
abbrev dktX12_mayGo_5 : List UInt8 := dkwX12_mayGo_5 ++ []
def dkwX12_mayGo_4 : List UInt8 := [21, 4, 153, 0, 32, 27, 153, 0, 24, 29, 42, 180, 0, 118, 4, 100, 159, 0, 14, 21, 5, 42]
abbrev dktX12_mayGo_4 : List UInt8 := dkwX12_mayGo_4 ++ dktX12_mayGo_5
def dkwX12_mayGo_3 : List UInt8 := [180, 0, 60, 21, 6, 46, 29, 160, 0, 7, 4, 167, 0, 4, 3, 96, 54, 5, 132, 6, 1, 167, 255, 191]
abbrev dktX12_mayGo_3 : List UInt8 := dkwX12_mayGo_3 ++ dktX12_mayGo_4
def dkwX12_mayGo_2 : List UInt8 := [153, 0, 14, 42, 180, 0, 60, 21, 6, 46, 28, 160, 0, 7, 4, 167, 0, 4, 3, 54, 4, 21, 5, 42]
abbrev dktX12_mayGo_2 : List UInt8 := dkwX12_mayGo_2 ++ dktX12_mayGo_3
def dkwX12_mayGo_1 : List UInt8 := [54, 6, 21, 6, 42, 180, 0, 165, 162, 0, 62, 21, 4, 153, 0, 27, 27, 21, 6, 122, 4, 126]
abbrev dktX12_mayGo_1 : List UInt8 := dkwX12_mayGo_1 ++ dktX12_mayGo_2
def dkwX12_mayGo_0 : List UInt8 := [27, 4, 42, 180, 0, 165, 120, 162, 0, 7, 4, 167, 0, 4, 3, 54, 4, 27, 184, 0, 204, 54, 5, 3]
abbrev dktX12_mayGo_0 : List UInt8 := dkwX12_mayGo_0 ++ dktX12_mayGo_1
theorem dksX12_mayGo_0 : cX12_mayGo.data.toList.drop 0 = dktX12_mayGo_0 := by decide +kernel
theorem dksX12_mayGo_1 : cX12_mayGo.data.toList.drop 24 = dktX12_mayGo_1 := dk_seg dksX12_mayGo_0 24 rfl rfl
theorem dksX12_mayGo_2 : cX12_mayGo.data.toList.drop 46 = dktX12_mayGo_2 := dk_seg dksX12_mayGo_1 22 rfl rfl
theorem dksX12_mayGo_3 : cX12_mayGo.data.toList.drop 70 = dktX12_mayGo_3 := dk_seg dksX12_mayGo_2 24 rfl rfl
theorem dksX12_mayGo_4 : cX12_mayGo.data.toList.drop 94 = dktX12_mayGo_4 := dk_seg dksX12_mayGo_3 24 rfl rfl
theorem dksX12_mayGo_5 : cX12_mayGo.data.toList.drop 116 = dktX12_mayGo_5 := dk_seg dksX12_mayGo_4 22 rfl rfl
theorem dX12_mayGo_0 : decode cX12_mayGo 0 = .ok (.iload_n 1, 1) := dk_27 (dk_at dksX12_mayGo_0 0 rfl rfl)
theorem dX12_mayGo_1 : decode cX12_mayGo 1 = .ok (.iconst 1, 1) := dk_4 (dk_at dksX12_mayGo_0 1 rfl rfl)
theorem dX12_mayGo_2 : decode cX12_mayGo 2 = .ok (.aload_n 0, 1) := dk_42 (dk_at dksX12_mayGo_0 2 rfl rfl)
theorem dX12_mayGo_3 : decode cX12_mayGo 3 = .ok (.getfield 165, 3) := dk_180 0 165 (dk_at dksX12_mayGo_0 3 rfl rfl)
theorem dX12_mayGo_6 : decode cX12_mayGo 6 = .ok (.ishl, 1) := dk_120 (dk_at dksX12_mayGo_0 6 rfl rfl)
theorem dX12_mayGo_7 : decode cX12_mayGo 7 = .ok (.if_icmp .ge 7, 3) := dk_162 0 7 (dk_at dksX12_mayGo_0 7 rfl rfl)
theorem dX12_mayGo_10 : decode cX12_mayGo 10 = .ok (.iconst 1, 1) := dk_4 (dk_at dksX12_mayGo_0 10 rfl rfl)
theorem dX12_mayGo_11 : decode cX12_mayGo 11 = .ok (.goto 4, 3) := dk_167 0 4 (dk_at dksX12_mayGo_0 11 rfl rfl)
theorem dX12_mayGo_14 : decode cX12_mayGo 14 = .ok (.iconst 0, 1) := dk_3 (dk_at dksX12_mayGo_0 14 rfl rfl)
theorem dX12_mayGo_15 : decode cX12_mayGo 15 = .ok (.istore 4, 2) := dk_54 4 (dk_at dksX12_mayGo_0 15 rfl rfl)
theorem dX12_mayGo_17 : decode cX12_mayGo 17 = .ok (.iload_n 1, 1) := dk_27 (dk_at dksX12_mayGo_0 17 rfl rfl)
theorem dX12_mayGo_18 : decode cX12_mayGo 18 = .ok (.invokestatic 204, 3) := dk_184 0 204 (dk_at dksX12_mayGo_0 18 rfl rfl)
theorem dX12_mayGo_21 : decode cX12_mayGo 21 = .ok (.istore 5, 2) := dk_54 5 (dk_at dksX12_mayGo_0 21 rfl rfl)
theorem dX12_mayGo_23 : decode cX12_mayGo 23 = .ok (.iconst 0, 1) := dk_3 (dk_at dksX12_mayGo_0 23 rfl rfl)
theorem dX12_mayGo_24 : decode cX12_mayGo 24 = .ok (.istore 6, 2) := dk_54 6 (dk_at dksX12_mayGo_1 0 rfl rfl)
theorem dX12_mayGo_26 : decode cX12_mayGo 26 = .ok (.iload 6, 2) := dk_21 6 (dk_at dksX12_mayGo_1 2 rfl rfl)
theorem dX12_mayGo_28 : decode cX12_mayGo 28 = .ok (.aload_n 0, 1) := dk_42 (dk_at dksX12_mayGo_1 4 rfl rfl)
theorem dX12_mayGo_29 : decode cX12_mayGo 29 = .ok (.getfield 165, 3) := dk_180 0 165 (dk_at dksX12_mayGo_1 5 rfl rfl)
theorem dX12_mayGo_32 : decode cX12_mayGo 32 = .ok (.if_icmp .ge 62, 3) := dk_162 0 62 (dk_at dksX12_mayGo_1 8 rfl rfl)
theorem dX12_mayGo_35 : decode cX12_mayGo 35 = .ok (.iload 4, 2) := dk_21 4 (dk_at dksX12_mayGo_1 11 rfl rfl)
theorem dX12_mayGo_37 : decode cX12_mayGo 37 = .ok (.ifCond .eq 27, 3) := dk_153 0 27 (dk_at dksX12_mayGo_1 13 rfl rfl)
theorem dX12_mayGo_40 : decode cX12_mayGo 40 = .ok (.iload_n 1, 1) := dk_27 (dk_at dksX12_mayGo_1 16 rfl rfl)
theorem dX12_mayGo_41 : decode cX12_mayGo 41 = .ok (.iload 6, 2) := dk_21 6 (dk_at dksX12_mayGo_1 17 rfl rfl)
theorem dX12_mayGo_43 : decode cX12_mayGo 43 = .ok (.ishr, 1) := dk_122 (dk_at dksX12_mayGo_1 19 rfl rfl)
theorem dX12_mayGo_44 : decode cX12_mayGo 44 = .ok (.iconst 1, 1) := dk_4 (dk_at dksX12_mayGo_1 20 rfl rfl)
theorem dX12_mayGo_45 : decode cX12_mayGo 45 = .ok (.iand, 1) := dk_126 (dk_at dksX12_mayGo_1 21 rfl rfl)
theorem dX12_mayGo_46 : decode cX12_mayGo 46 = .ok (.ifCond .eq 14, 3) := dk_153 0 14 (dk_at dksX12_mayGo_2 0 rfl rfl)
theorem dX12_mayGo_49 : decode cX12_mayGo 49 = .ok (.aload_n 0, 1) := dk_42 (dk_at dksX12_mayGo_2 3 rfl rfl)
theorem dX12_mayGo_50 : decode cX12_mayGo 50 = .ok (.getfield 60, 3) := dk_180 0 60 (dk_at dksX12_mayGo_2 4 rfl rfl)
theorem dX12_mayGo_53 : decode cX12_mayGo 53 = .ok (.iload 6, 2) := dk_21 6 (dk_at dksX12_mayGo_2 7 rfl rfl)
theorem dX12_mayGo_55 : decode cX12_mayGo 55 = .ok (.iaload, 1) := dk_46 (dk_at dksX12_mayGo_2 9 rfl rfl)
theorem dX12_mayGo_56 : decode cX12_mayGo 56 = .ok (.iload_n 2, 1) := dk_28 (dk_at dksX12_mayGo_2 10 rfl rfl)
theorem dX12_mayGo_57 : decode cX12_mayGo 57 = .ok (.if_icmp .ne 7, 3) := dk_160 0 7 (dk_at dksX12_mayGo_2 11 rfl rfl)
theorem dX12_mayGo_60 : decode cX12_mayGo 60 = .ok (.iconst 1, 1) := dk_4 (dk_at dksX12_mayGo_2 14 rfl rfl)
theorem dX12_mayGo_61 : decode cX12_mayGo 61 = .ok (.goto 4, 3) := dk_167 0 4 (dk_at dksX12_mayGo_2 15 rfl rfl)
theorem dX12_mayGo_64 : decode cX12_mayGo 64 = .ok (.iconst 0, 1) := dk_3 (dk_at dksX12_mayGo_2 18 rfl rfl)
theorem dX12_mayGo_65 : decode cX12_mayGo 65 = .ok (.istore 4, 2) := dk_54 4 (dk_at dksX12_mayGo_2 19 rfl rfl)
theorem dX12_mayGo_67 : decode cX12_mayGo 67 = .ok (.iload 5, 2) := dk_21 5 (dk_at dksX12_mayGo_2 21 rfl rfl)
theorem dX12_mayGo_69 : decode cX12_mayGo 69 = .ok (.aload_n 0, 1) := dk_42 (dk_at dksX12_mayGo_2 23 rfl rfl)
theorem dX12_mayGo_70 : decode cX12_mayGo 70 = .ok (.getfield 60, 3) := dk_180 0 60 (dk_at dksX12_mayGo_3 0 rfl rfl)
theorem dX12_mayGo_73 : decode cX12_mayGo 73 = .ok (.iload 6, 2) := dk_21 6 (dk_at dksX12_mayGo_3 3 rfl rfl)
theorem dX12_mayGo_75 : decode cX12_mayGo 75 = .ok (.iaload, 1) := dk_46 (dk_at dksX12_mayGo_3 5 rfl rfl)
theorem dX12_mayGo_76 : decode cX12_mayGo 76 = .ok (.iload_n 3, 1) := dk_29 (dk_at dksX12_mayGo_3 6 rfl rfl)
theorem dX12_mayGo_77 : decode cX12_mayGo 77 = .ok (.if_icmp .ne 7, 3) := dk_160 0 7 (dk_at dksX12_mayGo_3 7 rfl rfl)
theorem dX12_mayGo_80 : decode cX12_mayGo 80 = .ok (.iconst 1, 1) := dk_4 (dk_at dksX12_mayGo_3 10 rfl rfl)
theorem dX12_mayGo_81 : decode cX12_mayGo 81 = .ok (.goto 4, 3) := dk_167 0 4 (dk_at dksX12_mayGo_3 11 rfl rfl)
theorem dX12_mayGo_84 : decode cX12_mayGo 84 = .ok (.iconst 0, 1) := dk_3 (dk_at dksX12_mayGo_3 14 rfl rfl)
theorem dX12_mayGo_85 : decode cX12_mayGo 85 = .ok (.iadd, 1) := dk_96 (dk_at dksX12_mayGo_3 15 rfl rfl)
theorem dX12_mayGo_86 : decode cX12_mayGo 86 = .ok (.istore 5, 2) := dk_54 5 (dk_at dksX12_mayGo_3 16 rfl rfl)
theorem dX12_mayGo_88 : decode cX12_mayGo 88 = .ok (.iinc 6 1, 3) := dk_132 6 1 (dk_at dksX12_mayGo_3 18 rfl rfl)
theorem dX12_mayGo_91 : decode cX12_mayGo 91 = .ok (.goto (-65), 3) := dk_167 255 191 (dk_at dksX12_mayGo_3 21 rfl rfl)
theorem dX12_mayGo_94 : decode cX12_mayGo 94 = .ok (.iload 4, 2) := dk_21 4 (dk_at dksX12_mayGo_4 0 rfl rfl)
theorem dX12_mayGo_96 : decode cX12_mayGo 96 = .ok (.ifCond .eq 32, 3) := dk_153 0 32 (dk_at dksX12_mayGo_4 2 rfl rfl)
theorem dX12_mayGo_99 : decode cX12_mayGo 99 = .ok (.iload_n 1, 1) := dk_27 (dk_at dksX12_mayGo_4 5 rfl rfl)
theorem dX12_mayGo_100 : decode cX12_mayGo 100 = .ok (.ifCond .eq 24, 3) := dk_153 0 24 (dk_at dksX12_mayGo_4 6 rfl rfl)
theorem dX12_mayGo_103 : decode cX12_mayGo 103 = .ok (.iload_n 3, 1) := dk_29 (dk_at dksX12_mayGo_4 9 rfl rfl)
theorem dX12_mayGo_104 : decode cX12_mayGo 104 = .ok (.aload_n 0, 1) := dk_42 (dk_at dksX12_mayGo_4 10 rfl rfl)
theorem dX12_mayGo_105 : decode cX12_mayGo 105 = .ok (.getfield 118, 3) := dk_180 0 118 (dk_at dksX12_mayGo_4 11 rfl rfl)
theorem dX12_mayGo_108 : decode cX12_mayGo 108 = .ok (.iconst 1, 1) := dk_4 (dk_at dksX12_mayGo_4 14 rfl rfl)
theorem dX12_mayGo_109 : decode cX12_mayGo 109 = .ok (.isub, 1) := dk_100 (dk_at dksX12_mayGo_4 15 rfl rfl)
theorem dX12_mayGo_110 : decode cX12_mayGo 110 = .ok (.if_icmp .eq 14, 3) := dk_159 0 14 (dk_at dksX12_mayGo_4 16 rfl rfl)
theorem dX12_mayGo_113 : decode cX12_mayGo 113 = .ok (.iload 5, 2) := dk_21 5 (dk_at dksX12_mayGo_4 19 rfl rfl)
theorem dX12_mayGo_115 : decode cX12_mayGo 115 = .ok (.aload_n 0, 1) := dk_42 (dk_at dksX12_mayGo_4 21 rfl rfl)
theorem dX12_mayGo_116 : decode cX12_mayGo 116 = .ok (.getfield 7, 3) := dk_180 0 7 (dk_at dksX12_mayGo_5 0 rfl rfl)
theorem dX12_mayGo_119 : decode cX12_mayGo 119 = .ok (.iload_n 3, 1) := dk_29 (dk_at dksX12_mayGo_5 3 rfl rfl)
theorem dX12_mayGo_120 : decode cX12_mayGo 120 = .ok (.iaload, 1) := dk_46 (dk_at dksX12_mayGo_5 4 rfl rfl)
theorem dX12_mayGo_121 : decode cX12_mayGo 121 = .ok (.if_icmp .gt 7, 3) := dk_163 0 7 (dk_at dksX12_mayGo_5 5 rfl rfl)
theorem dX12_mayGo_124 : decode cX12_mayGo 124 = .ok (.iconst 1, 1) := dk_4 (dk_at dksX12_mayGo_5 8 rfl rfl)
theorem dX12_mayGo_125 : decode cX12_mayGo 125 = .ok (.goto 4, 3) := dk_167 0 4 (dk_at dksX12_mayGo_5 9 rfl rfl)
theorem dX12_mayGo_128 : decode cX12_mayGo 128 = .ok (.iconst 0, 1) := dk_3 (dk_at dksX12_mayGo_5 12 rfl rfl)
theorem dX12_mayGo_129 : decode cX12_mayGo 129 = .ok (.ireturn, 1) := dk_172 (dk_at dksX12_mayGo_5 13 rfl rfl)
abbrev cX12_ones : ByteArray := prog_19_method_23_code
def yX12_ones : MethodName := ⟨RX12, "ones", "(I)I"⟩
def dkwX12_ones_0 : List UInt8 := [26, 5, 112, 26, 5, 108, 5, 112, 96, 26, 7, 108, 96, 172]
abbrev dktX12_ones_0 : List UInt8 := dkwX12_ones_0 ++ []
theorem dksX12_ones_0 : cX12_ones.data.toList.drop 0 = dktX12_ones_0 := by decide +kernel
theorem dX12_ones_0 : decode cX12_ones 0 = .ok (.iload_n 0, 1) := dk_26 (dk_at dksX12_ones_0 0 rfl rfl)
theorem dX12_ones_1 : decode cX12_ones 1 = .ok (.iconst 2, 1) := dk_5 (dk_at dksX12_ones_0 1 rfl rfl)
theorem dX12_ones_2 : decode cX12_ones 2 = .ok (.irem, 1) := dk_112 (dk_at dksX12_ones_0 2 rfl rfl)
theorem dX12_ones_3 : decode cX12_ones 3 = .ok (.iload_n 0, 1) := dk_26 (dk_at dksX12_ones_0 3 rfl rfl)
theorem dX12_ones_4 : decode cX12_ones 4 = .ok (.iconst 2, 1) := dk_5 (dk_at dksX12_ones_0 4 rfl rfl)
theorem dX12_ones_5 : decode cX12_ones 5 = .ok (.idiv, 1) := dk_108 (dk_at dksX12_ones_0 5 rfl rfl)
theorem dX12_ones_6 : decode cX12_ones 6 = .ok (.iconst 2, 1) := dk_5 (dk_at dksX12_ones_0 6 rfl rfl)
theorem dX12_ones_7 : decode cX12_ones 7 = .ok (.irem, 1) := dk_112 (dk_at dksX12_ones_0 7 rfl rfl)
theorem dX12_ones_8 : decode cX12_ones 8 = .ok (.iadd, 1) := dk_96 (dk_at dksX12_ones_0 8 rfl rfl)
theorem dX12_ones_9 : decode cX12_ones 9 = .ok (.iload_n 0, 1) := dk_26 (dk_at dksX12_ones_0 9 rfl rfl)
theorem dX12_ones_10 : decode cX12_ones 10 = .ok (.iconst 4, 1) := dk_7 (dk_at dksX12_ones_0 10 rfl rfl)
theorem dX12_ones_11 : decode cX12_ones 11 = .ok (.idiv, 1) := dk_108 (dk_at dksX12_ones_0 11 rfl rfl)
theorem dX12_ones_12 : decode cX12_ones 12 = .ok (.iadd, 1) := dk_96 (dk_at dksX12_ones_0 12 rfl rfl)
theorem dX12_ones_13 : decode cX12_ones 13 = .ok (.ireturn, 1) := dk_172 (dk_at dksX12_ones_0 13 rfl rfl)
abbrev cX12_hasHurt : ByteArray := prog_19_method_27_code
def yX12_hasHurt : MethodName := ⟨RX12, "hasHurt", "(I)Z"⟩
def dkwX12_hasHurt_2 : List UInt8 := [167, 255, 216, 28, 172]
abbrev dktX12_hasHurt_2 : List UInt8 := dkwX12_hasHurt_2 ++ []
def dkwX12_hasHurt_1 : List UInt8 := [160, 0, 17, 42, 180, 0, 23, 29, 46, 5, 160, 0, 7, 4, 167, 0, 4, 3, 61, 132, 3, 1]
abbrev dktX12_hasHurt_1 : List UInt8 := dkwX12_hasHurt_1 ++ dktX12_hasHurt_2
def dkwX12_hasHurt_0 : List UInt8 := [3, 61, 3, 62, 29, 42, 180, 0, 165, 162, 0, 38, 28, 154, 0, 22, 27, 29, 122, 4, 126, 4]
abbrev dktX12_hasHurt_0 : List UInt8 := dkwX12_hasHurt_0 ++ dktX12_hasHurt_1
theorem dksX12_hasHurt_0 : cX12_hasHurt.data.toList.drop 0 = dktX12_hasHurt_0 := by decide +kernel
theorem dksX12_hasHurt_1 : cX12_hasHurt.data.toList.drop 22 = dktX12_hasHurt_1 := dk_seg dksX12_hasHurt_0 22 rfl rfl
theorem dksX12_hasHurt_2 : cX12_hasHurt.data.toList.drop 44 = dktX12_hasHurt_2 := dk_seg dksX12_hasHurt_1 22 rfl rfl
theorem dX12_hasHurt_0 : decode cX12_hasHurt 0 = .ok (.iconst 0, 1) := dk_3 (dk_at dksX12_hasHurt_0 0 rfl rfl)
theorem dX12_hasHurt_1 : decode cX12_hasHurt 1 = .ok (.istore_n 2, 1) := dk_61 (dk_at dksX12_hasHurt_0 1 rfl rfl)
theorem dX12_hasHurt_2 : decode cX12_hasHurt 2 = .ok (.iconst 0, 1) := dk_3 (dk_at dksX12_hasHurt_0 2 rfl rfl)
theorem dX12_hasHurt_3 : decode cX12_hasHurt 3 = .ok (.istore_n 3, 1) := dk_62 (dk_at dksX12_hasHurt_0 3 rfl rfl)
theorem dX12_hasHurt_4 : decode cX12_hasHurt 4 = .ok (.iload_n 3, 1) := dk_29 (dk_at dksX12_hasHurt_0 4 rfl rfl)
theorem dX12_hasHurt_5 : decode cX12_hasHurt 5 = .ok (.aload_n 0, 1) := dk_42 (dk_at dksX12_hasHurt_0 5 rfl rfl)
theorem dX12_hasHurt_6 : decode cX12_hasHurt 6 = .ok (.getfield 165, 3) := dk_180 0 165 (dk_at dksX12_hasHurt_0 6 rfl rfl)
theorem dX12_hasHurt_9 : decode cX12_hasHurt 9 = .ok (.if_icmp .ge 38, 3) := dk_162 0 38 (dk_at dksX12_hasHurt_0 9 rfl rfl)
theorem dX12_hasHurt_12 : decode cX12_hasHurt 12 = .ok (.iload_n 2, 1) := dk_28 (dk_at dksX12_hasHurt_0 12 rfl rfl)
theorem dX12_hasHurt_13 : decode cX12_hasHurt 13 = .ok (.ifCond .ne 22, 3) := dk_154 0 22 (dk_at dksX12_hasHurt_0 13 rfl rfl)
theorem dX12_hasHurt_16 : decode cX12_hasHurt 16 = .ok (.iload_n 1, 1) := dk_27 (dk_at dksX12_hasHurt_0 16 rfl rfl)
theorem dX12_hasHurt_17 : decode cX12_hasHurt 17 = .ok (.iload_n 3, 1) := dk_29 (dk_at dksX12_hasHurt_0 17 rfl rfl)
theorem dX12_hasHurt_18 : decode cX12_hasHurt 18 = .ok (.ishr, 1) := dk_122 (dk_at dksX12_hasHurt_0 18 rfl rfl)
theorem dX12_hasHurt_19 : decode cX12_hasHurt 19 = .ok (.iconst 1, 1) := dk_4 (dk_at dksX12_hasHurt_0 19 rfl rfl)
theorem dX12_hasHurt_20 : decode cX12_hasHurt 20 = .ok (.iand, 1) := dk_126 (dk_at dksX12_hasHurt_0 20 rfl rfl)
theorem dX12_hasHurt_21 : decode cX12_hasHurt 21 = .ok (.iconst 1, 1) := dk_4 (dk_at dksX12_hasHurt_0 21 rfl rfl)
theorem dX12_hasHurt_22 : decode cX12_hasHurt 22 = .ok (.if_icmp .ne 17, 3) := dk_160 0 17 (dk_at dksX12_hasHurt_1 0 rfl rfl)
theorem dX12_hasHurt_25 : decode cX12_hasHurt 25 = .ok (.aload_n 0, 1) := dk_42 (dk_at dksX12_hasHurt_1 3 rfl rfl)
theorem dX12_hasHurt_26 : decode cX12_hasHurt 26 = .ok (.getfield 23, 3) := dk_180 0 23 (dk_at dksX12_hasHurt_1 4 rfl rfl)
theorem dX12_hasHurt_29 : decode cX12_hasHurt 29 = .ok (.iload_n 3, 1) := dk_29 (dk_at dksX12_hasHurt_1 7 rfl rfl)
theorem dX12_hasHurt_30 : decode cX12_hasHurt 30 = .ok (.iaload, 1) := dk_46 (dk_at dksX12_hasHurt_1 8 rfl rfl)
theorem dX12_hasHurt_31 : decode cX12_hasHurt 31 = .ok (.iconst 2, 1) := dk_5 (dk_at dksX12_hasHurt_1 9 rfl rfl)
theorem dX12_hasHurt_32 : decode cX12_hasHurt 32 = .ok (.if_icmp .ne 7, 3) := dk_160 0 7 (dk_at dksX12_hasHurt_1 10 rfl rfl)
theorem dX12_hasHurt_35 : decode cX12_hasHurt 35 = .ok (.iconst 1, 1) := dk_4 (dk_at dksX12_hasHurt_1 13 rfl rfl)
theorem dX12_hasHurt_36 : decode cX12_hasHurt 36 = .ok (.goto 4, 3) := dk_167 0 4 (dk_at dksX12_hasHurt_1 14 rfl rfl)
theorem dX12_hasHurt_39 : decode cX12_hasHurt 39 = .ok (.iconst 0, 1) := dk_3 (dk_at dksX12_hasHurt_1 17 rfl rfl)
theorem dX12_hasHurt_40 : decode cX12_hasHurt 40 = .ok (.istore_n 2, 1) := dk_61 (dk_at dksX12_hasHurt_1 18 rfl rfl)
theorem dX12_hasHurt_41 : decode cX12_hasHurt 41 = .ok (.iinc 3 1, 3) := dk_132 3 1 (dk_at dksX12_hasHurt_1 19 rfl rfl)
theorem dX12_hasHurt_44 : decode cX12_hasHurt 44 = .ok (.goto (-40), 3) := dk_167 255 216 (dk_at dksX12_hasHurt_2 0 rfl rfl)
theorem dX12_hasHurt_47 : decode cX12_hasHurt 47 = .ok (.iload_n 2, 1) := dk_28 (dk_at dksX12_hasHurt_2 3 rfl rfl)
theorem dX12_hasHurt_48 : decode cX12_hasHurt 48 = .ok (.ireturn, 1) := dk_172 (dk_at dksX12_hasHurt_2 4 rfl rfl)
abbrev cX12_isRopeOn : ByteArray := prog_19_method_29_code
def yX12_isRopeOn : MethodName := ⟨RX12, "isRopeOn", "(II)Z"⟩
def dkwX12_isRopeOn_0 : List UInt8 := [27, 42, 180, 0, 170, 162, 0, 17, 42, 180, 0, 63, 27, 46, 28, 160, 0, 7, 4, 167, 0, 4, 3, 172]
abbrev dktX12_isRopeOn_0 : List UInt8 := dkwX12_isRopeOn_0 ++ []
theorem dksX12_isRopeOn_0 : cX12_isRopeOn.data.toList.drop 0 = dktX12_isRopeOn_0 := by decide +kernel
theorem dX12_isRopeOn_0 : decode cX12_isRopeOn 0 = .ok (.iload_n 1, 1) := dk_27 (dk_at dksX12_isRopeOn_0 0 rfl rfl)
theorem dX12_isRopeOn_1 : decode cX12_isRopeOn 1 = .ok (.aload_n 0, 1) := dk_42 (dk_at dksX12_isRopeOn_0 1 rfl rfl)
theorem dX12_isRopeOn_2 : decode cX12_isRopeOn 2 = .ok (.getfield 170, 3) := dk_180 0 170 (dk_at dksX12_isRopeOn_0 2 rfl rfl)
theorem dX12_isRopeOn_5 : decode cX12_isRopeOn 5 = .ok (.if_icmp .ge 17, 3) := dk_162 0 17 (dk_at dksX12_isRopeOn_0 5 rfl rfl)
theorem dX12_isRopeOn_8 : decode cX12_isRopeOn 8 = .ok (.aload_n 0, 1) := dk_42 (dk_at dksX12_isRopeOn_0 8 rfl rfl)
theorem dX12_isRopeOn_9 : decode cX12_isRopeOn 9 = .ok (.getfield 63, 3) := dk_180 0 63 (dk_at dksX12_isRopeOn_0 9 rfl rfl)
theorem dX12_isRopeOn_12 : decode cX12_isRopeOn 12 = .ok (.iload_n 1, 1) := dk_27 (dk_at dksX12_isRopeOn_0 12 rfl rfl)
theorem dX12_isRopeOn_13 : decode cX12_isRopeOn 13 = .ok (.iaload, 1) := dk_46 (dk_at dksX12_isRopeOn_0 13 rfl rfl)
theorem dX12_isRopeOn_14 : decode cX12_isRopeOn 14 = .ok (.iload_n 2, 1) := dk_28 (dk_at dksX12_isRopeOn_0 14 rfl rfl)
theorem dX12_isRopeOn_15 : decode cX12_isRopeOn 15 = .ok (.if_icmp .ne 7, 3) := dk_160 0 7 (dk_at dksX12_isRopeOn_0 15 rfl rfl)
theorem dX12_isRopeOn_18 : decode cX12_isRopeOn 18 = .ok (.iconst 1, 1) := dk_4 (dk_at dksX12_isRopeOn_0 18 rfl rfl)
theorem dX12_isRopeOn_19 : decode cX12_isRopeOn 19 = .ok (.goto 4, 3) := dk_167 0 4 (dk_at dksX12_isRopeOn_0 19 rfl rfl)
theorem dX12_isRopeOn_22 : decode cX12_isRopeOn 22 = .ok (.iconst 0, 1) := dk_3 (dk_at dksX12_isRopeOn_0 22 rfl rfl)
theorem dX12_isRopeOn_23 : decode cX12_isRopeOn 23 = .ok (.ireturn, 1) := dk_172 (dk_at dksX12_isRopeOn_0 23 rfl rfl)
abbrev cX12_isHelped : ByteArray := prog_19_method_28_code
def yX12_isHelped : MethodName := ⟨RX12, "isHelped", "(II)Z"⟩
def dkwX12_isHelped_2 : List UInt8 := [160, 0, 7, 4, 167, 0, 4, 3, 62, 132, 4, 1, 167, 255, 203, 29, 172]
abbrev dktX12_isHelped_2 : List UInt8 := dkwX12_isHelped_2 ++ []
def dkwX12_isHelped_1 : List UInt8 := [154, 0, 29, 42, 180, 0, 23, 21, 4, 46, 5, 159, 0, 18, 42, 180, 0, 60, 21, 4, 46, 27]
abbrev dktX12_isHelped_1 : List UInt8 := dkwX12_isHelped_1 ++ dktX12_isHelped_2
def dkwX12_isHelped_0 : List UInt8 := [3, 62, 3, 54, 4, 21, 4, 42, 180, 0, 165, 162, 0, 50, 29, 154, 0, 34, 28, 21, 4, 122, 4, 126]
abbrev dktX12_isHelped_0 : List UInt8 := dkwX12_isHelped_0 ++ dktX12_isHelped_1
theorem dksX12_isHelped_0 : cX12_isHelped.data.toList.drop 0 = dktX12_isHelped_0 := by decide +kernel
theorem dksX12_isHelped_1 : cX12_isHelped.data.toList.drop 24 = dktX12_isHelped_1 := dk_seg dksX12_isHelped_0 24 rfl rfl
theorem dksX12_isHelped_2 : cX12_isHelped.data.toList.drop 46 = dktX12_isHelped_2 := dk_seg dksX12_isHelped_1 22 rfl rfl
theorem dX12_isHelped_0 : decode cX12_isHelped 0 = .ok (.iconst 0, 1) := dk_3 (dk_at dksX12_isHelped_0 0 rfl rfl)
theorem dX12_isHelped_1 : decode cX12_isHelped 1 = .ok (.istore_n 3, 1) := dk_62 (dk_at dksX12_isHelped_0 1 rfl rfl)
theorem dX12_isHelped_2 : decode cX12_isHelped 2 = .ok (.iconst 0, 1) := dk_3 (dk_at dksX12_isHelped_0 2 rfl rfl)
theorem dX12_isHelped_3 : decode cX12_isHelped 3 = .ok (.istore 4, 2) := dk_54 4 (dk_at dksX12_isHelped_0 3 rfl rfl)
theorem dX12_isHelped_5 : decode cX12_isHelped 5 = .ok (.iload 4, 2) := dk_21 4 (dk_at dksX12_isHelped_0 5 rfl rfl)
theorem dX12_isHelped_7 : decode cX12_isHelped 7 = .ok (.aload_n 0, 1) := dk_42 (dk_at dksX12_isHelped_0 7 rfl rfl)
theorem dX12_isHelped_8 : decode cX12_isHelped 8 = .ok (.getfield 165, 3) := dk_180 0 165 (dk_at dksX12_isHelped_0 8 rfl rfl)
theorem dX12_isHelped_11 : decode cX12_isHelped 11 = .ok (.if_icmp .ge 50, 3) := dk_162 0 50 (dk_at dksX12_isHelped_0 11 rfl rfl)
theorem dX12_isHelped_14 : decode cX12_isHelped 14 = .ok (.iload_n 3, 1) := dk_29 (dk_at dksX12_isHelped_0 14 rfl rfl)
theorem dX12_isHelped_15 : decode cX12_isHelped 15 = .ok (.ifCond .ne 34, 3) := dk_154 0 34 (dk_at dksX12_isHelped_0 15 rfl rfl)
theorem dX12_isHelped_18 : decode cX12_isHelped 18 = .ok (.iload_n 2, 1) := dk_28 (dk_at dksX12_isHelped_0 18 rfl rfl)
theorem dX12_isHelped_19 : decode cX12_isHelped 19 = .ok (.iload 4, 2) := dk_21 4 (dk_at dksX12_isHelped_0 19 rfl rfl)
theorem dX12_isHelped_21 : decode cX12_isHelped 21 = .ok (.ishr, 1) := dk_122 (dk_at dksX12_isHelped_0 21 rfl rfl)
theorem dX12_isHelped_22 : decode cX12_isHelped 22 = .ok (.iconst 1, 1) := dk_4 (dk_at dksX12_isHelped_0 22 rfl rfl)
theorem dX12_isHelped_23 : decode cX12_isHelped 23 = .ok (.iand, 1) := dk_126 (dk_at dksX12_isHelped_0 23 rfl rfl)
theorem dX12_isHelped_24 : decode cX12_isHelped 24 = .ok (.ifCond .ne 29, 3) := dk_154 0 29 (dk_at dksX12_isHelped_1 0 rfl rfl)
theorem dX12_isHelped_27 : decode cX12_isHelped 27 = .ok (.aload_n 0, 1) := dk_42 (dk_at dksX12_isHelped_1 3 rfl rfl)
theorem dX12_isHelped_28 : decode cX12_isHelped 28 = .ok (.getfield 23, 3) := dk_180 0 23 (dk_at dksX12_isHelped_1 4 rfl rfl)
theorem dX12_isHelped_31 : decode cX12_isHelped 31 = .ok (.iload 4, 2) := dk_21 4 (dk_at dksX12_isHelped_1 7 rfl rfl)
theorem dX12_isHelped_33 : decode cX12_isHelped 33 = .ok (.iaload, 1) := dk_46 (dk_at dksX12_isHelped_1 9 rfl rfl)
theorem dX12_isHelped_34 : decode cX12_isHelped 34 = .ok (.iconst 2, 1) := dk_5 (dk_at dksX12_isHelped_1 10 rfl rfl)
theorem dX12_isHelped_35 : decode cX12_isHelped 35 = .ok (.if_icmp .eq 18, 3) := dk_159 0 18 (dk_at dksX12_isHelped_1 11 rfl rfl)
theorem dX12_isHelped_38 : decode cX12_isHelped 38 = .ok (.aload_n 0, 1) := dk_42 (dk_at dksX12_isHelped_1 14 rfl rfl)
theorem dX12_isHelped_39 : decode cX12_isHelped 39 = .ok (.getfield 60, 3) := dk_180 0 60 (dk_at dksX12_isHelped_1 15 rfl rfl)
theorem dX12_isHelped_42 : decode cX12_isHelped 42 = .ok (.iload 4, 2) := dk_21 4 (dk_at dksX12_isHelped_1 18 rfl rfl)
theorem dX12_isHelped_44 : decode cX12_isHelped 44 = .ok (.iaload, 1) := dk_46 (dk_at dksX12_isHelped_1 20 rfl rfl)
theorem dX12_isHelped_45 : decode cX12_isHelped 45 = .ok (.iload_n 1, 1) := dk_27 (dk_at dksX12_isHelped_1 21 rfl rfl)
theorem dX12_isHelped_46 : decode cX12_isHelped 46 = .ok (.if_icmp .ne 7, 3) := dk_160 0 7 (dk_at dksX12_isHelped_2 0 rfl rfl)
theorem dX12_isHelped_49 : decode cX12_isHelped 49 = .ok (.iconst 1, 1) := dk_4 (dk_at dksX12_isHelped_2 3 rfl rfl)
theorem dX12_isHelped_50 : decode cX12_isHelped 50 = .ok (.goto 4, 3) := dk_167 0 4 (dk_at dksX12_isHelped_2 4 rfl rfl)
theorem dX12_isHelped_53 : decode cX12_isHelped 53 = .ok (.iconst 0, 1) := dk_3 (dk_at dksX12_isHelped_2 7 rfl rfl)
theorem dX12_isHelped_54 : decode cX12_isHelped 54 = .ok (.istore_n 3, 1) := dk_62 (dk_at dksX12_isHelped_2 8 rfl rfl)
theorem dX12_isHelped_55 : decode cX12_isHelped 55 = .ok (.iinc 4 1, 3) := dk_132 4 1 (dk_at dksX12_isHelped_2 9 rfl rfl)
theorem dX12_isHelped_58 : decode cX12_isHelped 58 = .ok (.goto (-53), 3) := dk_167 255 203 (dk_at dksX12_isHelped_2 12 rfl rfl)
theorem dX12_isHelped_61 : decode cX12_isHelped 61 = .ok (.iload_n 3, 1) := dk_29 (dk_at dksX12_isHelped_2 15 rfl rfl)
theorem dX12_isHelped_62 : decode cX12_isHelped 62 = .ok (.ireturn, 1) := dk_172 (dk_at dksX12_isHelped_2 16 rfl rfl)
abbrev cX12_move : ByteArray := prog_19_method_34_code
def yX12_move : MethodName := ⟨RX12, "move", "(I)I"⟩
def dkwX12_move_1 : List UInt8 := [181, 0, 191, 42, 89, 180, 0, 188, 28, 96, 181, 0, 188, 42, 180, 0, 188, 172]
abbrev dktX12_move_1 : List UInt8 := dkwX12_move_1 ++ []
def dkwX12_move_0 : List UInt8 := [42, 27, 182, 0, 233, 61, 28, 156, 0, 5, 28, 172, 42, 27, 3, 182, 0, 236, 42, 182, 0, 240, 42, 3]
abbrev dktX12_move_0 : List UInt8 := dkwX12_move_0 ++ dktX12_move_1
theorem dksX12_move_0 : cX12_move.data.toList.drop 0 = dktX12_move_0 := by decide +kernel
theorem dksX12_move_1 : cX12_move.data.toList.drop 24 = dktX12_move_1 := dk_seg dksX12_move_0 24 rfl rfl
theorem dX12_move_0 : decode cX12_move 0 = .ok (.aload_n 0, 1) := dk_42 (dk_at dksX12_move_0 0 rfl rfl)
theorem dX12_move_1 : decode cX12_move 1 = .ok (.iload_n 1, 1) := dk_27 (dk_at dksX12_move_0 1 rfl rfl)
theorem dX12_move_2 : decode cX12_move 2 = .ok (.invokevirtual 233, 3) := dk_182 0 233 (dk_at dksX12_move_0 2 rfl rfl)
theorem dX12_move_5 : decode cX12_move 5 = .ok (.istore_n 2, 1) := dk_61 (dk_at dksX12_move_0 5 rfl rfl)
theorem dX12_move_6 : decode cX12_move 6 = .ok (.iload_n 2, 1) := dk_28 (dk_at dksX12_move_0 6 rfl rfl)
theorem dX12_move_7 : decode cX12_move 7 = .ok (.ifCond .ge 5, 3) := dk_156 0 5 (dk_at dksX12_move_0 7 rfl rfl)
theorem dX12_move_10 : decode cX12_move 10 = .ok (.iload_n 2, 1) := dk_28 (dk_at dksX12_move_0 10 rfl rfl)
theorem dX12_move_11 : decode cX12_move 11 = .ok (.ireturn, 1) := dk_172 (dk_at dksX12_move_0 11 rfl rfl)
theorem dX12_move_12 : decode cX12_move 12 = .ok (.aload_n 0, 1) := dk_42 (dk_at dksX12_move_0 12 rfl rfl)
theorem dX12_move_13 : decode cX12_move 13 = .ok (.iload_n 1, 1) := dk_27 (dk_at dksX12_move_0 13 rfl rfl)
theorem dX12_move_14 : decode cX12_move 14 = .ok (.iconst 0, 1) := dk_3 (dk_at dksX12_move_0 14 rfl rfl)
theorem dX12_move_15 : decode cX12_move 15 = .ok (.invokevirtual 236, 3) := dk_182 0 236 (dk_at dksX12_move_0 15 rfl rfl)
theorem dX12_move_18 : decode cX12_move 18 = .ok (.aload_n 0, 1) := dk_42 (dk_at dksX12_move_0 18 rfl rfl)
theorem dX12_move_19 : decode cX12_move 19 = .ok (.invokevirtual 240, 3) := dk_182 0 240 (dk_at dksX12_move_0 19 rfl rfl)
theorem dX12_move_22 : decode cX12_move 22 = .ok (.aload_n 0, 1) := dk_42 (dk_at dksX12_move_0 22 rfl rfl)
theorem dX12_move_23 : decode cX12_move 23 = .ok (.iconst 0, 1) := dk_3 (dk_at dksX12_move_0 23 rfl rfl)
theorem dX12_move_24 : decode cX12_move 24 = .ok (.putfield 191, 3) := dk_181 0 191 (dk_at dksX12_move_1 0 rfl rfl)
theorem dX12_move_27 : decode cX12_move 27 = .ok (.aload_n 0, 1) := dk_42 (dk_at dksX12_move_1 3 rfl rfl)
theorem dX12_move_28 : decode cX12_move 28 = .ok (.dup, 1) := dk_89 (dk_at dksX12_move_1 4 rfl rfl)
theorem dX12_move_29 : decode cX12_move 29 = .ok (.getfield 188, 3) := dk_180 0 188 (dk_at dksX12_move_1 5 rfl rfl)
theorem dX12_move_32 : decode cX12_move 32 = .ok (.iload_n 2, 1) := dk_28 (dk_at dksX12_move_1 8 rfl rfl)
theorem dX12_move_33 : decode cX12_move 33 = .ok (.iadd, 1) := dk_96 (dk_at dksX12_move_1 9 rfl rfl)
theorem dX12_move_34 : decode cX12_move 34 = .ok (.putfield 188, 3) := dk_181 0 188 (dk_at dksX12_move_1 10 rfl rfl)
theorem dX12_move_37 : decode cX12_move 37 = .ok (.aload_n 0, 1) := dk_42 (dk_at dksX12_move_1 13 rfl rfl)
theorem dX12_move_38 : decode cX12_move 38 = .ok (.getfield 188, 3) := dk_180 0 188 (dk_at dksX12_move_1 14 rfl rfl)
theorem dX12_move_41 : decode cX12_move 41 = .ok (.ireturn, 1) := dk_172 (dk_at dksX12_move_1 17 rfl rfl)
abbrev cX12_make : ByteArray := prog_19_method_31_code
def yX12_make : MethodName := ⟨RX12, "make", "(IZ)V"⟩
def dkwX12_make_6 : List UInt8 := [8, 167, 0, 5, 21, 6, 79, 177]
abbrev dktX12_make_6 : List UInt8 := dkwX12_make_6 ++ []
def dkwX12_make_5 : List UInt8 := [180, 0, 63, 3, 28, 153, 0, 7, 8, 167, 0, 5, 21, 6, 79, 42, 180, 0, 63, 4, 28, 153, 0, 7]
abbrev dktX12_make_5 : List UInt8 := dkwX12_make_5 ++ dktX12_make_6
def dkwX12_make_4 : List UInt8 := [21, 5, 21, 6, 79, 29, 5, 160, 0, 11, 42, 180, 0, 63, 21, 5, 8, 79, 29, 6, 160, 0, 35, 42]
abbrev dktX12_make_4 : List UInt8 := dkwX12_make_4 ++ dktX12_make_5
def dkwX12_make_3 : List UInt8 := [46, 79, 132, 7, 1, 167, 255, 214, 29, 4, 159, 0, 9, 29, 16, 6, 160, 0, 12, 42, 180, 0, 63]
abbrev dktX12_make_3 : List UInt8 := dkwX12_make_3 ++ dktX12_make_4
def dkwX12_make_2 : List UInt8 := [21, 7, 21, 4, 21, 7, 122, 4, 126, 4, 160, 0, 8, 21, 6, 167, 0, 10, 42, 180, 0, 60, 21, 7]
abbrev dktX12_make_2 : List UInt8 := dkwX12_make_2 ++ dktX12_make_3
def dkwX12_make_1 : List UInt8 := [54, 5, 27, 16, 10, 112, 54, 6, 3, 54, 7, 21, 7, 42, 180, 0, 165, 162, 0, 39, 42, 180, 0, 60]
abbrev dktX12_make_1 : List UInt8 := dkwX12_make_1 ++ dktX12_make_2
def dkwX12_make_0 : List UInt8 := [27, 17, 39, 16, 108, 62, 27, 17, 3, 232, 108, 16, 10, 112, 54, 4, 27, 16, 100, 108, 16, 10, 112]
abbrev dktX12_make_0 : List UInt8 := dkwX12_make_0 ++ dktX12_make_1
theorem dksX12_make_0 : cX12_make.data.toList.drop 0 = dktX12_make_0 := by decide +kernel
theorem dksX12_make_1 : cX12_make.data.toList.drop 23 = dktX12_make_1 := dk_seg dksX12_make_0 23 rfl rfl
theorem dksX12_make_2 : cX12_make.data.toList.drop 47 = dktX12_make_2 := dk_seg dksX12_make_1 24 rfl rfl
theorem dksX12_make_3 : cX12_make.data.toList.drop 71 = dktX12_make_3 := dk_seg dksX12_make_2 24 rfl rfl
theorem dksX12_make_4 : cX12_make.data.toList.drop 94 = dktX12_make_4 := dk_seg dksX12_make_3 23 rfl rfl
theorem dksX12_make_5 : cX12_make.data.toList.drop 118 = dktX12_make_5 := dk_seg dksX12_make_4 24 rfl rfl
theorem dksX12_make_6 : cX12_make.data.toList.drop 142 = dktX12_make_6 := dk_seg dksX12_make_5 24 rfl rfl
theorem dX12_make_0 : decode cX12_make 0 = .ok (.iload_n 1, 1) := dk_27 (dk_at dksX12_make_0 0 rfl rfl)
theorem dX12_make_1 : decode cX12_make 1 = .ok (.sipush 10000, 3) := dk_17 39 16 (dk_at dksX12_make_0 1 rfl rfl)
theorem dX12_make_4 : decode cX12_make 4 = .ok (.idiv, 1) := dk_108 (dk_at dksX12_make_0 4 rfl rfl)
theorem dX12_make_5 : decode cX12_make 5 = .ok (.istore_n 3, 1) := dk_62 (dk_at dksX12_make_0 5 rfl rfl)
theorem dX12_make_6 : decode cX12_make 6 = .ok (.iload_n 1, 1) := dk_27 (dk_at dksX12_make_0 6 rfl rfl)
theorem dX12_make_7 : decode cX12_make 7 = .ok (.sipush 1000, 3) := dk_17 3 232 (dk_at dksX12_make_0 7 rfl rfl)
theorem dX12_make_10 : decode cX12_make 10 = .ok (.idiv, 1) := dk_108 (dk_at dksX12_make_0 10 rfl rfl)
theorem dX12_make_11 : decode cX12_make 11 = .ok (.bipush 10, 2) := dk_16 10 (dk_at dksX12_make_0 11 rfl rfl)
theorem dX12_make_13 : decode cX12_make 13 = .ok (.irem, 1) := dk_112 (dk_at dksX12_make_0 13 rfl rfl)
theorem dX12_make_14 : decode cX12_make 14 = .ok (.istore 4, 2) := dk_54 4 (dk_at dksX12_make_0 14 rfl rfl)
theorem dX12_make_16 : decode cX12_make 16 = .ok (.iload_n 1, 1) := dk_27 (dk_at dksX12_make_0 16 rfl rfl)
theorem dX12_make_17 : decode cX12_make 17 = .ok (.bipush 100, 2) := dk_16 100 (dk_at dksX12_make_0 17 rfl rfl)
theorem dX12_make_19 : decode cX12_make 19 = .ok (.idiv, 1) := dk_108 (dk_at dksX12_make_0 19 rfl rfl)
theorem dX12_make_20 : decode cX12_make 20 = .ok (.bipush 10, 2) := dk_16 10 (dk_at dksX12_make_0 20 rfl rfl)
theorem dX12_make_22 : decode cX12_make 22 = .ok (.irem, 1) := dk_112 (dk_at dksX12_make_0 22 rfl rfl)
theorem dX12_make_23 : decode cX12_make 23 = .ok (.istore 5, 2) := dk_54 5 (dk_at dksX12_make_1 0 rfl rfl)
theorem dX12_make_25 : decode cX12_make 25 = .ok (.iload_n 1, 1) := dk_27 (dk_at dksX12_make_1 2 rfl rfl)
theorem dX12_make_26 : decode cX12_make 26 = .ok (.bipush 10, 2) := dk_16 10 (dk_at dksX12_make_1 3 rfl rfl)
theorem dX12_make_28 : decode cX12_make 28 = .ok (.irem, 1) := dk_112 (dk_at dksX12_make_1 5 rfl rfl)
theorem dX12_make_29 : decode cX12_make 29 = .ok (.istore 6, 2) := dk_54 6 (dk_at dksX12_make_1 6 rfl rfl)
theorem dX12_make_31 : decode cX12_make 31 = .ok (.iconst 0, 1) := dk_3 (dk_at dksX12_make_1 8 rfl rfl)
theorem dX12_make_32 : decode cX12_make 32 = .ok (.istore 7, 2) := dk_54 7 (dk_at dksX12_make_1 9 rfl rfl)
theorem dX12_make_34 : decode cX12_make 34 = .ok (.iload 7, 2) := dk_21 7 (dk_at dksX12_make_1 11 rfl rfl)
theorem dX12_make_36 : decode cX12_make 36 = .ok (.aload_n 0, 1) := dk_42 (dk_at dksX12_make_1 13 rfl rfl)
theorem dX12_make_37 : decode cX12_make 37 = .ok (.getfield 165, 3) := dk_180 0 165 (dk_at dksX12_make_1 14 rfl rfl)
theorem dX12_make_40 : decode cX12_make 40 = .ok (.if_icmp .ge 39, 3) := dk_162 0 39 (dk_at dksX12_make_1 17 rfl rfl)
theorem dX12_make_43 : decode cX12_make 43 = .ok (.aload_n 0, 1) := dk_42 (dk_at dksX12_make_1 20 rfl rfl)
theorem dX12_make_44 : decode cX12_make 44 = .ok (.getfield 60, 3) := dk_180 0 60 (dk_at dksX12_make_1 21 rfl rfl)
theorem dX12_make_47 : decode cX12_make 47 = .ok (.iload 7, 2) := dk_21 7 (dk_at dksX12_make_2 0 rfl rfl)
theorem dX12_make_49 : decode cX12_make 49 = .ok (.iload 4, 2) := dk_21 4 (dk_at dksX12_make_2 2 rfl rfl)
theorem dX12_make_51 : decode cX12_make 51 = .ok (.iload 7, 2) := dk_21 7 (dk_at dksX12_make_2 4 rfl rfl)
theorem dX12_make_53 : decode cX12_make 53 = .ok (.ishr, 1) := dk_122 (dk_at dksX12_make_2 6 rfl rfl)
theorem dX12_make_54 : decode cX12_make 54 = .ok (.iconst 1, 1) := dk_4 (dk_at dksX12_make_2 7 rfl rfl)
theorem dX12_make_55 : decode cX12_make 55 = .ok (.iand, 1) := dk_126 (dk_at dksX12_make_2 8 rfl rfl)
theorem dX12_make_56 : decode cX12_make 56 = .ok (.iconst 1, 1) := dk_4 (dk_at dksX12_make_2 9 rfl rfl)
theorem dX12_make_57 : decode cX12_make 57 = .ok (.if_icmp .ne 8, 3) := dk_160 0 8 (dk_at dksX12_make_2 10 rfl rfl)
theorem dX12_make_60 : decode cX12_make 60 = .ok (.iload 6, 2) := dk_21 6 (dk_at dksX12_make_2 13 rfl rfl)
theorem dX12_make_62 : decode cX12_make 62 = .ok (.goto 10, 3) := dk_167 0 10 (dk_at dksX12_make_2 15 rfl rfl)
theorem dX12_make_65 : decode cX12_make 65 = .ok (.aload_n 0, 1) := dk_42 (dk_at dksX12_make_2 18 rfl rfl)
theorem dX12_make_66 : decode cX12_make 66 = .ok (.getfield 60, 3) := dk_180 0 60 (dk_at dksX12_make_2 19 rfl rfl)
theorem dX12_make_69 : decode cX12_make 69 = .ok (.iload 7, 2) := dk_21 7 (dk_at dksX12_make_2 22 rfl rfl)
theorem dX12_make_71 : decode cX12_make 71 = .ok (.iaload, 1) := dk_46 (dk_at dksX12_make_3 0 rfl rfl)
theorem dX12_make_72 : decode cX12_make 72 = .ok (.iastore, 1) := dk_79 (dk_at dksX12_make_3 1 rfl rfl)
theorem dX12_make_73 : decode cX12_make 73 = .ok (.iinc 7 1, 3) := dk_132 7 1 (dk_at dksX12_make_3 2 rfl rfl)
theorem dX12_make_76 : decode cX12_make 76 = .ok (.goto (-42), 3) := dk_167 255 214 (dk_at dksX12_make_3 5 rfl rfl)
theorem dX12_make_79 : decode cX12_make 79 = .ok (.iload_n 3, 1) := dk_29 (dk_at dksX12_make_3 8 rfl rfl)
theorem dX12_make_80 : decode cX12_make 80 = .ok (.iconst 1, 1) := dk_4 (dk_at dksX12_make_3 9 rfl rfl)
theorem dX12_make_81 : decode cX12_make 81 = .ok (.if_icmp .eq 9, 3) := dk_159 0 9 (dk_at dksX12_make_3 10 rfl rfl)
theorem dX12_make_84 : decode cX12_make 84 = .ok (.iload_n 3, 1) := dk_29 (dk_at dksX12_make_3 13 rfl rfl)
theorem dX12_make_85 : decode cX12_make 85 = .ok (.bipush 6, 2) := dk_16 6 (dk_at dksX12_make_3 14 rfl rfl)
theorem dX12_make_87 : decode cX12_make 87 = .ok (.if_icmp .ne 12, 3) := dk_160 0 12 (dk_at dksX12_make_3 16 rfl rfl)
theorem dX12_make_90 : decode cX12_make 90 = .ok (.aload_n 0, 1) := dk_42 (dk_at dksX12_make_3 19 rfl rfl)
theorem dX12_make_91 : decode cX12_make 91 = .ok (.getfield 63, 3) := dk_180 0 63 (dk_at dksX12_make_3 20 rfl rfl)
theorem dX12_make_94 : decode cX12_make 94 = .ok (.iload 5, 2) := dk_21 5 (dk_at dksX12_make_4 0 rfl rfl)
theorem dX12_make_96 : decode cX12_make 96 = .ok (.iload 6, 2) := dk_21 6 (dk_at dksX12_make_4 2 rfl rfl)
theorem dX12_make_98 : decode cX12_make 98 = .ok (.iastore, 1) := dk_79 (dk_at dksX12_make_4 4 rfl rfl)
theorem dX12_make_99 : decode cX12_make 99 = .ok (.iload_n 3, 1) := dk_29 (dk_at dksX12_make_4 5 rfl rfl)
theorem dX12_make_100 : decode cX12_make 100 = .ok (.iconst 2, 1) := dk_5 (dk_at dksX12_make_4 6 rfl rfl)
theorem dX12_make_101 : decode cX12_make 101 = .ok (.if_icmp .ne 11, 3) := dk_160 0 11 (dk_at dksX12_make_4 7 rfl rfl)
theorem dX12_make_104 : decode cX12_make 104 = .ok (.aload_n 0, 1) := dk_42 (dk_at dksX12_make_4 10 rfl rfl)
theorem dX12_make_105 : decode cX12_make 105 = .ok (.getfield 63, 3) := dk_180 0 63 (dk_at dksX12_make_4 11 rfl rfl)
theorem dX12_make_108 : decode cX12_make 108 = .ok (.iload 5, 2) := dk_21 5 (dk_at dksX12_make_4 14 rfl rfl)
theorem dX12_make_110 : decode cX12_make 110 = .ok (.iconst 5, 1) := dk_8 (dk_at dksX12_make_4 16 rfl rfl)
theorem dX12_make_111 : decode cX12_make 111 = .ok (.iastore, 1) := dk_79 (dk_at dksX12_make_4 17 rfl rfl)
theorem dX12_make_112 : decode cX12_make 112 = .ok (.iload_n 3, 1) := dk_29 (dk_at dksX12_make_4 18 rfl rfl)
theorem dX12_make_113 : decode cX12_make 113 = .ok (.iconst 3, 1) := dk_6 (dk_at dksX12_make_4 19 rfl rfl)
theorem dX12_make_114 : decode cX12_make 114 = .ok (.if_icmp .ne 35, 3) := dk_160 0 35 (dk_at dksX12_make_4 20 rfl rfl)
theorem dX12_make_117 : decode cX12_make 117 = .ok (.aload_n 0, 1) := dk_42 (dk_at dksX12_make_4 23 rfl rfl)
theorem dX12_make_118 : decode cX12_make 118 = .ok (.getfield 63, 3) := dk_180 0 63 (dk_at dksX12_make_5 0 rfl rfl)
theorem dX12_make_121 : decode cX12_make 121 = .ok (.iconst 0, 1) := dk_3 (dk_at dksX12_make_5 3 rfl rfl)
theorem dX12_make_122 : decode cX12_make 122 = .ok (.iload_n 2, 1) := dk_28 (dk_at dksX12_make_5 4 rfl rfl)
theorem dX12_make_123 : decode cX12_make 123 = .ok (.ifCond .eq 7, 3) := dk_153 0 7 (dk_at dksX12_make_5 5 rfl rfl)
theorem dX12_make_126 : decode cX12_make 126 = .ok (.iconst 5, 1) := dk_8 (dk_at dksX12_make_5 8 rfl rfl)
theorem dX12_make_127 : decode cX12_make 127 = .ok (.goto 5, 3) := dk_167 0 5 (dk_at dksX12_make_5 9 rfl rfl)
theorem dX12_make_130 : decode cX12_make 130 = .ok (.iload 6, 2) := dk_21 6 (dk_at dksX12_make_5 12 rfl rfl)
theorem dX12_make_132 : decode cX12_make 132 = .ok (.iastore, 1) := dk_79 (dk_at dksX12_make_5 14 rfl rfl)
theorem dX12_make_133 : decode cX12_make 133 = .ok (.aload_n 0, 1) := dk_42 (dk_at dksX12_make_5 15 rfl rfl)
theorem dX12_make_134 : decode cX12_make 134 = .ok (.getfield 63, 3) := dk_180 0 63 (dk_at dksX12_make_5 16 rfl rfl)
theorem dX12_make_137 : decode cX12_make 137 = .ok (.iconst 1, 1) := dk_4 (dk_at dksX12_make_5 19 rfl rfl)
theorem dX12_make_138 : decode cX12_make 138 = .ok (.iload_n 2, 1) := dk_28 (dk_at dksX12_make_5 20 rfl rfl)
theorem dX12_make_139 : decode cX12_make 139 = .ok (.ifCond .eq 7, 3) := dk_153 0 7 (dk_at dksX12_make_5 21 rfl rfl)
theorem dX12_make_142 : decode cX12_make 142 = .ok (.iconst 5, 1) := dk_8 (dk_at dksX12_make_6 0 rfl rfl)
theorem dX12_make_143 : decode cX12_make 143 = .ok (.goto 5, 3) := dk_167 0 5 (dk_at dksX12_make_6 1 rfl rfl)
theorem dX12_make_146 : decode cX12_make 146 = .ok (.iload 6, 2) := dk_21 6 (dk_at dksX12_make_6 4 rfl rfl)
theorem dX12_make_148 : decode cX12_make 148 = .ok (.iastore, 1) := dk_79 (dk_at dksX12_make_6 6 rfl rfl)
theorem dX12_make_149 : decode cX12_make 149 = .ok (.return_, 1) := dk_177 (dk_at dksX12_make_6 7 rfl rfl)
abbrev cX12_keepState : ByteArray := prog_19_method_33_code
def yX12_keepState : MethodName := ⟨RX12, "keepState", "()V"⟩
def dkwX12_keepState_2 : List UInt8 := [180, 0, 63, 27, 46, 79, 132, 1, 1, 167, 255, 233, 177]
abbrev dktX12_keepState_2 : List UInt8 := dkwX12_keepState_2 ++ []
def dkwX12_keepState_1 : List UInt8 := [132, 1, 1, 167, 255, 233, 3, 60, 27, 42, 180, 0, 170, 162, 0, 21, 42, 180, 0, 32, 27, 42]
abbrev dktX12_keepState_1 : List UInt8 := dkwX12_keepState_1 ++ dktX12_keepState_2
def dkwX12_keepState_0 : List UInt8 := [3, 60, 27, 42, 180, 0, 165, 162, 0, 21, 42, 180, 0, 29, 27, 42, 180, 0, 60, 27, 46, 79]
abbrev dktX12_keepState_0 : List UInt8 := dkwX12_keepState_0 ++ dktX12_keepState_1
theorem dksX12_keepState_0 : cX12_keepState.data.toList.drop 0 = dktX12_keepState_0 := by decide +kernel
theorem dksX12_keepState_1 : cX12_keepState.data.toList.drop 22 = dktX12_keepState_1 := dk_seg dksX12_keepState_0 22 rfl rfl
theorem dksX12_keepState_2 : cX12_keepState.data.toList.drop 44 = dktX12_keepState_2 := dk_seg dksX12_keepState_1 22 rfl rfl
theorem dX12_keepState_0 : decode cX12_keepState 0 = .ok (.iconst 0, 1) := dk_3 (dk_at dksX12_keepState_0 0 rfl rfl)
theorem dX12_keepState_1 : decode cX12_keepState 1 = .ok (.istore_n 1, 1) := dk_60 (dk_at dksX12_keepState_0 1 rfl rfl)
theorem dX12_keepState_2 : decode cX12_keepState 2 = .ok (.iload_n 1, 1) := dk_27 (dk_at dksX12_keepState_0 2 rfl rfl)
theorem dX12_keepState_3 : decode cX12_keepState 3 = .ok (.aload_n 0, 1) := dk_42 (dk_at dksX12_keepState_0 3 rfl rfl)
theorem dX12_keepState_4 : decode cX12_keepState 4 = .ok (.getfield 165, 3) := dk_180 0 165 (dk_at dksX12_keepState_0 4 rfl rfl)
theorem dX12_keepState_7 : decode cX12_keepState 7 = .ok (.if_icmp .ge 21, 3) := dk_162 0 21 (dk_at dksX12_keepState_0 7 rfl rfl)
theorem dX12_keepState_10 : decode cX12_keepState 10 = .ok (.aload_n 0, 1) := dk_42 (dk_at dksX12_keepState_0 10 rfl rfl)
theorem dX12_keepState_11 : decode cX12_keepState 11 = .ok (.getfield 29, 3) := dk_180 0 29 (dk_at dksX12_keepState_0 11 rfl rfl)
theorem dX12_keepState_14 : decode cX12_keepState 14 = .ok (.iload_n 1, 1) := dk_27 (dk_at dksX12_keepState_0 14 rfl rfl)
theorem dX12_keepState_15 : decode cX12_keepState 15 = .ok (.aload_n 0, 1) := dk_42 (dk_at dksX12_keepState_0 15 rfl rfl)
theorem dX12_keepState_16 : decode cX12_keepState 16 = .ok (.getfield 60, 3) := dk_180 0 60 (dk_at dksX12_keepState_0 16 rfl rfl)
theorem dX12_keepState_19 : decode cX12_keepState 19 = .ok (.iload_n 1, 1) := dk_27 (dk_at dksX12_keepState_0 19 rfl rfl)
theorem dX12_keepState_20 : decode cX12_keepState 20 = .ok (.iaload, 1) := dk_46 (dk_at dksX12_keepState_0 20 rfl rfl)
theorem dX12_keepState_21 : decode cX12_keepState 21 = .ok (.iastore, 1) := dk_79 (dk_at dksX12_keepState_0 21 rfl rfl)
theorem dX12_keepState_22 : decode cX12_keepState 22 = .ok (.iinc 1 1, 3) := dk_132 1 1 (dk_at dksX12_keepState_1 0 rfl rfl)
theorem dX12_keepState_25 : decode cX12_keepState 25 = .ok (.goto (-23), 3) := dk_167 255 233 (dk_at dksX12_keepState_1 3 rfl rfl)
theorem dX12_keepState_28 : decode cX12_keepState 28 = .ok (.iconst 0, 1) := dk_3 (dk_at dksX12_keepState_1 6 rfl rfl)
theorem dX12_keepState_29 : decode cX12_keepState 29 = .ok (.istore_n 1, 1) := dk_60 (dk_at dksX12_keepState_1 7 rfl rfl)
theorem dX12_keepState_30 : decode cX12_keepState 30 = .ok (.iload_n 1, 1) := dk_27 (dk_at dksX12_keepState_1 8 rfl rfl)
theorem dX12_keepState_31 : decode cX12_keepState 31 = .ok (.aload_n 0, 1) := dk_42 (dk_at dksX12_keepState_1 9 rfl rfl)
theorem dX12_keepState_32 : decode cX12_keepState 32 = .ok (.getfield 170, 3) := dk_180 0 170 (dk_at dksX12_keepState_1 10 rfl rfl)
theorem dX12_keepState_35 : decode cX12_keepState 35 = .ok (.if_icmp .ge 21, 3) := dk_162 0 21 (dk_at dksX12_keepState_1 13 rfl rfl)
theorem dX12_keepState_38 : decode cX12_keepState 38 = .ok (.aload_n 0, 1) := dk_42 (dk_at dksX12_keepState_1 16 rfl rfl)
theorem dX12_keepState_39 : decode cX12_keepState 39 = .ok (.getfield 32, 3) := dk_180 0 32 (dk_at dksX12_keepState_1 17 rfl rfl)
theorem dX12_keepState_42 : decode cX12_keepState 42 = .ok (.iload_n 1, 1) := dk_27 (dk_at dksX12_keepState_1 20 rfl rfl)
theorem dX12_keepState_43 : decode cX12_keepState 43 = .ok (.aload_n 0, 1) := dk_42 (dk_at dksX12_keepState_1 21 rfl rfl)
theorem dX12_keepState_44 : decode cX12_keepState 44 = .ok (.getfield 63, 3) := dk_180 0 63 (dk_at dksX12_keepState_2 0 rfl rfl)
theorem dX12_keepState_47 : decode cX12_keepState 47 = .ok (.iload_n 1, 1) := dk_27 (dk_at dksX12_keepState_2 3 rfl rfl)
theorem dX12_keepState_48 : decode cX12_keepState 48 = .ok (.iaload, 1) := dk_46 (dk_at dksX12_keepState_2 4 rfl rfl)
theorem dX12_keepState_49 : decode cX12_keepState 49 = .ok (.iastore, 1) := dk_79 (dk_at dksX12_keepState_2 5 rfl rfl)
theorem dX12_keepState_50 : decode cX12_keepState 50 = .ok (.iinc 1 1, 3) := dk_132 1 1 (dk_at dksX12_keepState_2 6 rfl rfl)
theorem dX12_keepState_53 : decode cX12_keepState 53 = .ok (.goto (-23), 3) := dk_167 255 233 (dk_at dksX12_keepState_2 9 rfl rfl)
theorem dX12_keepState_56 : decode cX12_keepState 56 = .ok (.return_, 1) := dk_177 (dk_at dksX12_keepState_2 12 rfl rfl)
abbrev cX12_moves : ByteArray := prog_19_method_36_code
def yX12_moves : MethodName := ⟨RX12, "moves", "(I)I"⟩
def dkwX12_moves_3 : List UInt8 := [167, 0, 5, 16, 252, 172]
abbrev dktX12_moves_3 : List UInt8 := dkwX12_moves_3 ++ []
def dkwX12_moves_2 : List UInt8 := [42, 180, 0, 66, 29, 46, 172, 132, 2, 1, 132, 3, 1, 167, 255, 217, 27, 2, 160, 0, 7, 28]
abbrev dktX12_moves_2 : List UInt8 := dkwX12_moves_2 ++ dktX12_moves_3
def dkwX12_moves_1 : List UInt8 := [180, 0, 243, 162, 0, 37, 42, 42, 180, 0, 66, 29, 46, 182, 0, 230, 155, 0, 18, 28, 27, 160, 0, 10]
abbrev dktX12_moves_1 : List UInt8 := dkwX12_moves_1 ++ dktX12_moves_2
def dkwX12_moves_0 : List UInt8 := [42, 3, 181, 0, 115, 42, 182, 0, 246, 42, 42, 182, 0, 224, 182, 0, 227, 3, 61, 3, 62, 29, 42]
abbrev dktX12_moves_0 : List UInt8 := dkwX12_moves_0 ++ dktX12_moves_1
theorem dksX12_moves_0 : cX12_moves.data.toList.drop 0 = dktX12_moves_0 := by decide +kernel
theorem dksX12_moves_1 : cX12_moves.data.toList.drop 23 = dktX12_moves_1 := dk_seg dksX12_moves_0 23 rfl rfl
theorem dksX12_moves_2 : cX12_moves.data.toList.drop 47 = dktX12_moves_2 := dk_seg dksX12_moves_1 24 rfl rfl
theorem dksX12_moves_3 : cX12_moves.data.toList.drop 69 = dktX12_moves_3 := dk_seg dksX12_moves_2 22 rfl rfl
theorem dX12_moves_0 : decode cX12_moves 0 = .ok (.aload_n 0, 1) := dk_42 (dk_at dksX12_moves_0 0 rfl rfl)
theorem dX12_moves_1 : decode cX12_moves 1 = .ok (.iconst 0, 1) := dk_3 (dk_at dksX12_moves_0 1 rfl rfl)
theorem dX12_moves_2 : decode cX12_moves 2 = .ok (.putfield 115, 3) := dk_181 0 115 (dk_at dksX12_moves_0 2 rfl rfl)
theorem dX12_moves_5 : decode cX12_moves 5 = .ok (.aload_n 0, 1) := dk_42 (dk_at dksX12_moves_0 5 rfl rfl)
theorem dX12_moves_6 : decode cX12_moves 6 = .ok (.invokevirtual 246, 3) := dk_182 0 246 (dk_at dksX12_moves_0 6 rfl rfl)
theorem dX12_moves_9 : decode cX12_moves 9 = .ok (.aload_n 0, 1) := dk_42 (dk_at dksX12_moves_0 9 rfl rfl)
theorem dX12_moves_10 : decode cX12_moves 10 = .ok (.aload_n 0, 1) := dk_42 (dk_at dksX12_moves_0 10 rfl rfl)
theorem dX12_moves_11 : decode cX12_moves 11 = .ok (.invokevirtual 224, 3) := dk_182 0 224 (dk_at dksX12_moves_0 11 rfl rfl)
theorem dX12_moves_14 : decode cX12_moves 14 = .ok (.invokevirtual 227, 3) := dk_182 0 227 (dk_at dksX12_moves_0 14 rfl rfl)
theorem dX12_moves_17 : decode cX12_moves 17 = .ok (.iconst 0, 1) := dk_3 (dk_at dksX12_moves_0 17 rfl rfl)
theorem dX12_moves_18 : decode cX12_moves 18 = .ok (.istore_n 2, 1) := dk_61 (dk_at dksX12_moves_0 18 rfl rfl)
theorem dX12_moves_19 : decode cX12_moves 19 = .ok (.iconst 0, 1) := dk_3 (dk_at dksX12_moves_0 19 rfl rfl)
theorem dX12_moves_20 : decode cX12_moves 20 = .ok (.istore_n 3, 1) := dk_62 (dk_at dksX12_moves_0 20 rfl rfl)
theorem dX12_moves_21 : decode cX12_moves 21 = .ok (.iload_n 3, 1) := dk_29 (dk_at dksX12_moves_0 21 rfl rfl)
theorem dX12_moves_22 : decode cX12_moves 22 = .ok (.aload_n 0, 1) := dk_42 (dk_at dksX12_moves_0 22 rfl rfl)
theorem dX12_moves_23 : decode cX12_moves 23 = .ok (.getfield 243, 3) := dk_180 0 243 (dk_at dksX12_moves_1 0 rfl rfl)
theorem dX12_moves_26 : decode cX12_moves 26 = .ok (.if_icmp .ge 37, 3) := dk_162 0 37 (dk_at dksX12_moves_1 3 rfl rfl)
theorem dX12_moves_29 : decode cX12_moves 29 = .ok (.aload_n 0, 1) := dk_42 (dk_at dksX12_moves_1 6 rfl rfl)
theorem dX12_moves_30 : decode cX12_moves 30 = .ok (.aload_n 0, 1) := dk_42 (dk_at dksX12_moves_1 7 rfl rfl)
theorem dX12_moves_31 : decode cX12_moves 31 = .ok (.getfield 66, 3) := dk_180 0 66 (dk_at dksX12_moves_1 8 rfl rfl)
theorem dX12_moves_34 : decode cX12_moves 34 = .ok (.iload_n 3, 1) := dk_29 (dk_at dksX12_moves_1 11 rfl rfl)
theorem dX12_moves_35 : decode cX12_moves 35 = .ok (.iaload, 1) := dk_46 (dk_at dksX12_moves_1 12 rfl rfl)
theorem dX12_moves_36 : decode cX12_moves 36 = .ok (.invokevirtual 230, 3) := dk_182 0 230 (dk_at dksX12_moves_1 13 rfl rfl)
theorem dX12_moves_39 : decode cX12_moves 39 = .ok (.ifCond .lt 18, 3) := dk_155 0 18 (dk_at dksX12_moves_1 16 rfl rfl)
theorem dX12_moves_42 : decode cX12_moves 42 = .ok (.iload_n 2, 1) := dk_28 (dk_at dksX12_moves_1 19 rfl rfl)
theorem dX12_moves_43 : decode cX12_moves 43 = .ok (.iload_n 1, 1) := dk_27 (dk_at dksX12_moves_1 20 rfl rfl)
theorem dX12_moves_44 : decode cX12_moves 44 = .ok (.if_icmp .ne 10, 3) := dk_160 0 10 (dk_at dksX12_moves_1 21 rfl rfl)
theorem dX12_moves_47 : decode cX12_moves 47 = .ok (.aload_n 0, 1) := dk_42 (dk_at dksX12_moves_2 0 rfl rfl)
theorem dX12_moves_48 : decode cX12_moves 48 = .ok (.getfield 66, 3) := dk_180 0 66 (dk_at dksX12_moves_2 1 rfl rfl)
theorem dX12_moves_51 : decode cX12_moves 51 = .ok (.iload_n 3, 1) := dk_29 (dk_at dksX12_moves_2 4 rfl rfl)
theorem dX12_moves_52 : decode cX12_moves 52 = .ok (.iaload, 1) := dk_46 (dk_at dksX12_moves_2 5 rfl rfl)
theorem dX12_moves_53 : decode cX12_moves 53 = .ok (.ireturn, 1) := dk_172 (dk_at dksX12_moves_2 6 rfl rfl)
theorem dX12_moves_54 : decode cX12_moves 54 = .ok (.iinc 2 1, 3) := dk_132 2 1 (dk_at dksX12_moves_2 7 rfl rfl)
theorem dX12_moves_57 : decode cX12_moves 57 = .ok (.iinc 3 1, 3) := dk_132 3 1 (dk_at dksX12_moves_2 10 rfl rfl)
theorem dX12_moves_60 : decode cX12_moves 60 = .ok (.goto (-39), 3) := dk_167 255 217 (dk_at dksX12_moves_2 13 rfl rfl)
theorem dX12_moves_63 : decode cX12_moves 63 = .ok (.iload_n 1, 1) := dk_27 (dk_at dksX12_moves_2 16 rfl rfl)
theorem dX12_moves_64 : decode cX12_moves 64 = .ok (.iconst (-1), 1) := dk_2 (dk_at dksX12_moves_2 17 rfl rfl)
theorem dX12_moves_65 : decode cX12_moves 65 = .ok (.if_icmp .ne 7, 3) := dk_160 0 7 (dk_at dksX12_moves_2 18 rfl rfl)
theorem dX12_moves_68 : decode cX12_moves 68 = .ok (.iload_n 2, 1) := dk_28 (dk_at dksX12_moves_2 21 rfl rfl)
theorem dX12_moves_69 : decode cX12_moves 69 = .ok (.goto 5, 3) := dk_167 0 5 (dk_at dksX12_moves_3 0 rfl rfl)
theorem dX12_moves_72 : decode cX12_moves 72 = .ok (.bipush (-4), 2) := dk_16 252 (dk_at dksX12_moves_3 3 rfl rfl)
theorem dX12_moves_74 : decode cX12_moves 74 = .ok (.ireturn, 1) := dk_172 (dk_at dksX12_moves_3 5 rfl rfl)
abbrev cX12_findMoves : ByteArray := prog_19_method_35_code
def yX12_findMoves : MethodName := ⟨RX12, "findMoves", "()V"⟩
def dkwX12_findMoves_7 : List UInt8 := [167, 255, 165, 132, 3, 1, 167, 255, 134, 132, 2, 1, 167, 255, 106, 132, 1, 1, 167, 255, 82, 177]
abbrev dktX12_findMoves_7 : List UInt8 := dkwX12_findMoves_7 ++ []
def dkwX12_findMoves_6 : List UInt8 := [108, 104, 96, 21, 4, 8, 112, 96, 79, 42, 89, 180, 0, 243, 4, 96, 181, 0, 243, 132, 4, 1]
abbrev dktX12_findMoves_6 : List UInt8 := dkwX12_findMoves_6 ++ dktX12_findMoves_7
def dkwX12_findMoves_5 : List UInt8 := [180, 0, 243, 17, 39, 16, 27, 104, 17, 3, 232, 28, 104, 96, 16, 100, 29, 104, 96, 16, 10, 21, 4, 8]
abbrev dktX12_findMoves_5 : List UInt8 := dkwX12_findMoves_5 ++ dktX12_findMoves_6
def dkwX12_findMoves_4 : List UInt8 := [180, 0, 118, 162, 0, 62, 21, 4, 8, 108, 21, 4, 8, 112, 159, 0, 51, 42, 180, 0, 66, 42]
abbrev dktX12_findMoves_4 : List UInt8 := dkwX12_findMoves_4 ++ dktX12_findMoves_5
def dkwX12_findMoves_3 : List UInt8 := [21, 4, 16, 25, 162, 0, 90, 21, 4, 8, 108, 42, 180, 0, 118, 162, 0, 73, 21, 4, 8, 112, 42]
abbrev dktX12_findMoves_3 : List UInt8 := dkwX12_findMoves_3 ++ dktX12_findMoves_4
def dkwX12_findMoves_2 : List UInt8 := [27, 6, 159, 0, 8, 27, 8, 160, 0, 7, 4, 167, 0, 7, 42, 180, 0, 170, 162, 0, 106, 3, 54, 4]
abbrev dktX12_findMoves_2 : List UInt8 := dkwX12_findMoves_2 ++ dktX12_findMoves_3
def dkwX12_findMoves_1 : List UInt8 := [61, 28, 27, 16, 6, 160, 0, 7, 4, 167, 0, 9, 4, 42, 180, 0, 165, 120, 162, 0, 136, 3, 62, 29]
abbrev dktX12_findMoves_1 : List UInt8 := dkwX12_findMoves_1 ++ dktX12_findMoves_2
def dkwX12_findMoves_0 : List UInt8 := [42, 3, 181, 0, 243, 4, 60, 27, 16, 7, 162, 0, 174, 27, 16, 6, 160, 0, 7, 3, 167, 0, 4, 4]
abbrev dktX12_findMoves_0 : List UInt8 := dkwX12_findMoves_0 ++ dktX12_findMoves_1
theorem dksX12_findMoves_0 : cX12_findMoves.data.toList.drop 0 = dktX12_findMoves_0 := by decide +kernel
theorem dksX12_findMoves_1 : cX12_findMoves.data.toList.drop 24 = dktX12_findMoves_1 := dk_seg dksX12_findMoves_0 24 rfl rfl
theorem dksX12_findMoves_2 : cX12_findMoves.data.toList.drop 48 = dktX12_findMoves_2 := dk_seg dksX12_findMoves_1 24 rfl rfl
theorem dksX12_findMoves_3 : cX12_findMoves.data.toList.drop 72 = dktX12_findMoves_3 := dk_seg dksX12_findMoves_2 24 rfl rfl
theorem dksX12_findMoves_4 : cX12_findMoves.data.toList.drop 95 = dktX12_findMoves_4 := dk_seg dksX12_findMoves_3 23 rfl rfl
theorem dksX12_findMoves_5 : cX12_findMoves.data.toList.drop 117 = dktX12_findMoves_5 := dk_seg dksX12_findMoves_4 22 rfl rfl
theorem dksX12_findMoves_6 : cX12_findMoves.data.toList.drop 141 = dktX12_findMoves_6 := dk_seg dksX12_findMoves_5 24 rfl rfl
theorem dksX12_findMoves_7 : cX12_findMoves.data.toList.drop 163 = dktX12_findMoves_7 := dk_seg dksX12_findMoves_6 22 rfl rfl
theorem dX12_findMoves_0 : decode cX12_findMoves 0 = .ok (.aload_n 0, 1) := dk_42 (dk_at dksX12_findMoves_0 0 rfl rfl)
theorem dX12_findMoves_1 : decode cX12_findMoves 1 = .ok (.iconst 0, 1) := dk_3 (dk_at dksX12_findMoves_0 1 rfl rfl)
theorem dX12_findMoves_2 : decode cX12_findMoves 2 = .ok (.putfield 243, 3) := dk_181 0 243 (dk_at dksX12_findMoves_0 2 rfl rfl)
theorem dX12_findMoves_5 : decode cX12_findMoves 5 = .ok (.iconst 1, 1) := dk_4 (dk_at dksX12_findMoves_0 5 rfl rfl)
theorem dX12_findMoves_6 : decode cX12_findMoves 6 = .ok (.istore_n 1, 1) := dk_60 (dk_at dksX12_findMoves_0 6 rfl rfl)
theorem dX12_findMoves_7 : decode cX12_findMoves 7 = .ok (.iload_n 1, 1) := dk_27 (dk_at dksX12_findMoves_0 7 rfl rfl)
theorem dX12_findMoves_8 : decode cX12_findMoves 8 = .ok (.bipush 7, 2) := dk_16 7 (dk_at dksX12_findMoves_0 8 rfl rfl)
theorem dX12_findMoves_10 : decode cX12_findMoves 10 = .ok (.if_icmp .ge 174, 3) := dk_162 0 174 (dk_at dksX12_findMoves_0 10 rfl rfl)
theorem dX12_findMoves_13 : decode cX12_findMoves 13 = .ok (.iload_n 1, 1) := dk_27 (dk_at dksX12_findMoves_0 13 rfl rfl)
theorem dX12_findMoves_14 : decode cX12_findMoves 14 = .ok (.bipush 6, 2) := dk_16 6 (dk_at dksX12_findMoves_0 14 rfl rfl)
theorem dX12_findMoves_16 : decode cX12_findMoves 16 = .ok (.if_icmp .ne 7, 3) := dk_160 0 7 (dk_at dksX12_findMoves_0 16 rfl rfl)
theorem dX12_findMoves_19 : decode cX12_findMoves 19 = .ok (.iconst 0, 1) := dk_3 (dk_at dksX12_findMoves_0 19 rfl rfl)
theorem dX12_findMoves_20 : decode cX12_findMoves 20 = .ok (.goto 4, 3) := dk_167 0 4 (dk_at dksX12_findMoves_0 20 rfl rfl)
theorem dX12_findMoves_23 : decode cX12_findMoves 23 = .ok (.iconst 1, 1) := dk_4 (dk_at dksX12_findMoves_0 23 rfl rfl)
theorem dX12_findMoves_24 : decode cX12_findMoves 24 = .ok (.istore_n 2, 1) := dk_61 (dk_at dksX12_findMoves_1 0 rfl rfl)
theorem dX12_findMoves_25 : decode cX12_findMoves 25 = .ok (.iload_n 2, 1) := dk_28 (dk_at dksX12_findMoves_1 1 rfl rfl)
theorem dX12_findMoves_26 : decode cX12_findMoves 26 = .ok (.iload_n 1, 1) := dk_27 (dk_at dksX12_findMoves_1 2 rfl rfl)
theorem dX12_findMoves_27 : decode cX12_findMoves 27 = .ok (.bipush 6, 2) := dk_16 6 (dk_at dksX12_findMoves_1 3 rfl rfl)
theorem dX12_findMoves_29 : decode cX12_findMoves 29 = .ok (.if_icmp .ne 7, 3) := dk_160 0 7 (dk_at dksX12_findMoves_1 5 rfl rfl)
theorem dX12_findMoves_32 : decode cX12_findMoves 32 = .ok (.iconst 1, 1) := dk_4 (dk_at dksX12_findMoves_1 8 rfl rfl)
theorem dX12_findMoves_33 : decode cX12_findMoves 33 = .ok (.goto 9, 3) := dk_167 0 9 (dk_at dksX12_findMoves_1 9 rfl rfl)
theorem dX12_findMoves_36 : decode cX12_findMoves 36 = .ok (.iconst 1, 1) := dk_4 (dk_at dksX12_findMoves_1 12 rfl rfl)
theorem dX12_findMoves_37 : decode cX12_findMoves 37 = .ok (.aload_n 0, 1) := dk_42 (dk_at dksX12_findMoves_1 13 rfl rfl)
theorem dX12_findMoves_38 : decode cX12_findMoves 38 = .ok (.getfield 165, 3) := dk_180 0 165 (dk_at dksX12_findMoves_1 14 rfl rfl)
theorem dX12_findMoves_41 : decode cX12_findMoves 41 = .ok (.ishl, 1) := dk_120 (dk_at dksX12_findMoves_1 17 rfl rfl)
theorem dX12_findMoves_42 : decode cX12_findMoves 42 = .ok (.if_icmp .ge 136, 3) := dk_162 0 136 (dk_at dksX12_findMoves_1 18 rfl rfl)
theorem dX12_findMoves_45 : decode cX12_findMoves 45 = .ok (.iconst 0, 1) := dk_3 (dk_at dksX12_findMoves_1 21 rfl rfl)
theorem dX12_findMoves_46 : decode cX12_findMoves 46 = .ok (.istore_n 3, 1) := dk_62 (dk_at dksX12_findMoves_1 22 rfl rfl)
theorem dX12_findMoves_47 : decode cX12_findMoves 47 = .ok (.iload_n 3, 1) := dk_29 (dk_at dksX12_findMoves_1 23 rfl rfl)
theorem dX12_findMoves_48 : decode cX12_findMoves 48 = .ok (.iload_n 1, 1) := dk_27 (dk_at dksX12_findMoves_2 0 rfl rfl)
theorem dX12_findMoves_49 : decode cX12_findMoves 49 = .ok (.iconst 3, 1) := dk_6 (dk_at dksX12_findMoves_2 1 rfl rfl)
theorem dX12_findMoves_50 : decode cX12_findMoves 50 = .ok (.if_icmp .eq 8, 3) := dk_159 0 8 (dk_at dksX12_findMoves_2 2 rfl rfl)
theorem dX12_findMoves_53 : decode cX12_findMoves 53 = .ok (.iload_n 1, 1) := dk_27 (dk_at dksX12_findMoves_2 5 rfl rfl)
theorem dX12_findMoves_54 : decode cX12_findMoves 54 = .ok (.iconst 5, 1) := dk_8 (dk_at dksX12_findMoves_2 6 rfl rfl)
theorem dX12_findMoves_55 : decode cX12_findMoves 55 = .ok (.if_icmp .ne 7, 3) := dk_160 0 7 (dk_at dksX12_findMoves_2 7 rfl rfl)
theorem dX12_findMoves_58 : decode cX12_findMoves 58 = .ok (.iconst 1, 1) := dk_4 (dk_at dksX12_findMoves_2 10 rfl rfl)
theorem dX12_findMoves_59 : decode cX12_findMoves 59 = .ok (.goto 7, 3) := dk_167 0 7 (dk_at dksX12_findMoves_2 11 rfl rfl)
theorem dX12_findMoves_62 : decode cX12_findMoves 62 = .ok (.aload_n 0, 1) := dk_42 (dk_at dksX12_findMoves_2 14 rfl rfl)
theorem dX12_findMoves_63 : decode cX12_findMoves 63 = .ok (.getfield 170, 3) := dk_180 0 170 (dk_at dksX12_findMoves_2 15 rfl rfl)
theorem dX12_findMoves_66 : decode cX12_findMoves 66 = .ok (.if_icmp .ge 106, 3) := dk_162 0 106 (dk_at dksX12_findMoves_2 18 rfl rfl)
theorem dX12_findMoves_69 : decode cX12_findMoves 69 = .ok (.iconst 0, 1) := dk_3 (dk_at dksX12_findMoves_2 21 rfl rfl)
theorem dX12_findMoves_70 : decode cX12_findMoves 70 = .ok (.istore 4, 2) := dk_54 4 (dk_at dksX12_findMoves_2 22 rfl rfl)
theorem dX12_findMoves_72 : decode cX12_findMoves 72 = .ok (.iload 4, 2) := dk_21 4 (dk_at dksX12_findMoves_3 0 rfl rfl)
theorem dX12_findMoves_74 : decode cX12_findMoves 74 = .ok (.bipush 25, 2) := dk_16 25 (dk_at dksX12_findMoves_3 2 rfl rfl)
theorem dX12_findMoves_76 : decode cX12_findMoves 76 = .ok (.if_icmp .ge 90, 3) := dk_162 0 90 (dk_at dksX12_findMoves_3 4 rfl rfl)
theorem dX12_findMoves_79 : decode cX12_findMoves 79 = .ok (.iload 4, 2) := dk_21 4 (dk_at dksX12_findMoves_3 7 rfl rfl)
theorem dX12_findMoves_81 : decode cX12_findMoves 81 = .ok (.iconst 5, 1) := dk_8 (dk_at dksX12_findMoves_3 9 rfl rfl)
theorem dX12_findMoves_82 : decode cX12_findMoves 82 = .ok (.idiv, 1) := dk_108 (dk_at dksX12_findMoves_3 10 rfl rfl)
theorem dX12_findMoves_83 : decode cX12_findMoves 83 = .ok (.aload_n 0, 1) := dk_42 (dk_at dksX12_findMoves_3 11 rfl rfl)
theorem dX12_findMoves_84 : decode cX12_findMoves 84 = .ok (.getfield 118, 3) := dk_180 0 118 (dk_at dksX12_findMoves_3 12 rfl rfl)
theorem dX12_findMoves_87 : decode cX12_findMoves 87 = .ok (.if_icmp .ge 73, 3) := dk_162 0 73 (dk_at dksX12_findMoves_3 15 rfl rfl)
theorem dX12_findMoves_90 : decode cX12_findMoves 90 = .ok (.iload 4, 2) := dk_21 4 (dk_at dksX12_findMoves_3 18 rfl rfl)
theorem dX12_findMoves_92 : decode cX12_findMoves 92 = .ok (.iconst 5, 1) := dk_8 (dk_at dksX12_findMoves_3 20 rfl rfl)
theorem dX12_findMoves_93 : decode cX12_findMoves 93 = .ok (.irem, 1) := dk_112 (dk_at dksX12_findMoves_3 21 rfl rfl)
theorem dX12_findMoves_94 : decode cX12_findMoves 94 = .ok (.aload_n 0, 1) := dk_42 (dk_at dksX12_findMoves_3 22 rfl rfl)
theorem dX12_findMoves_95 : decode cX12_findMoves 95 = .ok (.getfield 118, 3) := dk_180 0 118 (dk_at dksX12_findMoves_4 0 rfl rfl)
theorem dX12_findMoves_98 : decode cX12_findMoves 98 = .ok (.if_icmp .ge 62, 3) := dk_162 0 62 (dk_at dksX12_findMoves_4 3 rfl rfl)
theorem dX12_findMoves_101 : decode cX12_findMoves 101 = .ok (.iload 4, 2) := dk_21 4 (dk_at dksX12_findMoves_4 6 rfl rfl)
theorem dX12_findMoves_103 : decode cX12_findMoves 103 = .ok (.iconst 5, 1) := dk_8 (dk_at dksX12_findMoves_4 8 rfl rfl)
theorem dX12_findMoves_104 : decode cX12_findMoves 104 = .ok (.idiv, 1) := dk_108 (dk_at dksX12_findMoves_4 9 rfl rfl)
theorem dX12_findMoves_105 : decode cX12_findMoves 105 = .ok (.iload 4, 2) := dk_21 4 (dk_at dksX12_findMoves_4 10 rfl rfl)
theorem dX12_findMoves_107 : decode cX12_findMoves 107 = .ok (.iconst 5, 1) := dk_8 (dk_at dksX12_findMoves_4 12 rfl rfl)
theorem dX12_findMoves_108 : decode cX12_findMoves 108 = .ok (.irem, 1) := dk_112 (dk_at dksX12_findMoves_4 13 rfl rfl)
theorem dX12_findMoves_109 : decode cX12_findMoves 109 = .ok (.if_icmp .eq 51, 3) := dk_159 0 51 (dk_at dksX12_findMoves_4 14 rfl rfl)
theorem dX12_findMoves_112 : decode cX12_findMoves 112 = .ok (.aload_n 0, 1) := dk_42 (dk_at dksX12_findMoves_4 17 rfl rfl)
theorem dX12_findMoves_113 : decode cX12_findMoves 113 = .ok (.getfield 66, 3) := dk_180 0 66 (dk_at dksX12_findMoves_4 18 rfl rfl)
theorem dX12_findMoves_116 : decode cX12_findMoves 116 = .ok (.aload_n 0, 1) := dk_42 (dk_at dksX12_findMoves_4 21 rfl rfl)
theorem dX12_findMoves_117 : decode cX12_findMoves 117 = .ok (.getfield 243, 3) := dk_180 0 243 (dk_at dksX12_findMoves_5 0 rfl rfl)
theorem dX12_findMoves_120 : decode cX12_findMoves 120 = .ok (.sipush 10000, 3) := dk_17 39 16 (dk_at dksX12_findMoves_5 3 rfl rfl)
theorem dX12_findMoves_123 : decode cX12_findMoves 123 = .ok (.iload_n 1, 1) := dk_27 (dk_at dksX12_findMoves_5 6 rfl rfl)
theorem dX12_findMoves_124 : decode cX12_findMoves 124 = .ok (.imul, 1) := dk_104 (dk_at dksX12_findMoves_5 7 rfl rfl)
theorem dX12_findMoves_125 : decode cX12_findMoves 125 = .ok (.sipush 1000, 3) := dk_17 3 232 (dk_at dksX12_findMoves_5 8 rfl rfl)
theorem dX12_findMoves_128 : decode cX12_findMoves 128 = .ok (.iload_n 2, 1) := dk_28 (dk_at dksX12_findMoves_5 11 rfl rfl)
theorem dX12_findMoves_129 : decode cX12_findMoves 129 = .ok (.imul, 1) := dk_104 (dk_at dksX12_findMoves_5 12 rfl rfl)
theorem dX12_findMoves_130 : decode cX12_findMoves 130 = .ok (.iadd, 1) := dk_96 (dk_at dksX12_findMoves_5 13 rfl rfl)
theorem dX12_findMoves_131 : decode cX12_findMoves 131 = .ok (.bipush 100, 2) := dk_16 100 (dk_at dksX12_findMoves_5 14 rfl rfl)
theorem dX12_findMoves_133 : decode cX12_findMoves 133 = .ok (.iload_n 3, 1) := dk_29 (dk_at dksX12_findMoves_5 16 rfl rfl)
theorem dX12_findMoves_134 : decode cX12_findMoves 134 = .ok (.imul, 1) := dk_104 (dk_at dksX12_findMoves_5 17 rfl rfl)
theorem dX12_findMoves_135 : decode cX12_findMoves 135 = .ok (.iadd, 1) := dk_96 (dk_at dksX12_findMoves_5 18 rfl rfl)
theorem dX12_findMoves_136 : decode cX12_findMoves 136 = .ok (.bipush 10, 2) := dk_16 10 (dk_at dksX12_findMoves_5 19 rfl rfl)
theorem dX12_findMoves_138 : decode cX12_findMoves 138 = .ok (.iload 4, 2) := dk_21 4 (dk_at dksX12_findMoves_5 21 rfl rfl)
theorem dX12_findMoves_140 : decode cX12_findMoves 140 = .ok (.iconst 5, 1) := dk_8 (dk_at dksX12_findMoves_5 23 rfl rfl)
theorem dX12_findMoves_141 : decode cX12_findMoves 141 = .ok (.idiv, 1) := dk_108 (dk_at dksX12_findMoves_6 0 rfl rfl)
theorem dX12_findMoves_142 : decode cX12_findMoves 142 = .ok (.imul, 1) := dk_104 (dk_at dksX12_findMoves_6 1 rfl rfl)
theorem dX12_findMoves_143 : decode cX12_findMoves 143 = .ok (.iadd, 1) := dk_96 (dk_at dksX12_findMoves_6 2 rfl rfl)
theorem dX12_findMoves_144 : decode cX12_findMoves 144 = .ok (.iload 4, 2) := dk_21 4 (dk_at dksX12_findMoves_6 3 rfl rfl)
theorem dX12_findMoves_146 : decode cX12_findMoves 146 = .ok (.iconst 5, 1) := dk_8 (dk_at dksX12_findMoves_6 5 rfl rfl)
theorem dX12_findMoves_147 : decode cX12_findMoves 147 = .ok (.irem, 1) := dk_112 (dk_at dksX12_findMoves_6 6 rfl rfl)
theorem dX12_findMoves_148 : decode cX12_findMoves 148 = .ok (.iadd, 1) := dk_96 (dk_at dksX12_findMoves_6 7 rfl rfl)
theorem dX12_findMoves_149 : decode cX12_findMoves 149 = .ok (.iastore, 1) := dk_79 (dk_at dksX12_findMoves_6 8 rfl rfl)
theorem dX12_findMoves_150 : decode cX12_findMoves 150 = .ok (.aload_n 0, 1) := dk_42 (dk_at dksX12_findMoves_6 9 rfl rfl)
theorem dX12_findMoves_151 : decode cX12_findMoves 151 = .ok (.dup, 1) := dk_89 (dk_at dksX12_findMoves_6 10 rfl rfl)
theorem dX12_findMoves_152 : decode cX12_findMoves 152 = .ok (.getfield 243, 3) := dk_180 0 243 (dk_at dksX12_findMoves_6 11 rfl rfl)
theorem dX12_findMoves_155 : decode cX12_findMoves 155 = .ok (.iconst 1, 1) := dk_4 (dk_at dksX12_findMoves_6 14 rfl rfl)
theorem dX12_findMoves_156 : decode cX12_findMoves 156 = .ok (.iadd, 1) := dk_96 (dk_at dksX12_findMoves_6 15 rfl rfl)
theorem dX12_findMoves_157 : decode cX12_findMoves 157 = .ok (.putfield 243, 3) := dk_181 0 243 (dk_at dksX12_findMoves_6 16 rfl rfl)
theorem dX12_findMoves_160 : decode cX12_findMoves 160 = .ok (.iinc 4 1, 3) := dk_132 4 1 (dk_at dksX12_findMoves_6 19 rfl rfl)
theorem dX12_findMoves_163 : decode cX12_findMoves 163 = .ok (.goto (-91), 3) := dk_167 255 165 (dk_at dksX12_findMoves_7 0 rfl rfl)
theorem dX12_findMoves_166 : decode cX12_findMoves 166 = .ok (.iinc 3 1, 3) := dk_132 3 1 (dk_at dksX12_findMoves_7 3 rfl rfl)
theorem dX12_findMoves_169 : decode cX12_findMoves 169 = .ok (.goto (-122), 3) := dk_167 255 134 (dk_at dksX12_findMoves_7 6 rfl rfl)
theorem dX12_findMoves_172 : decode cX12_findMoves 172 = .ok (.iinc 2 1, 3) := dk_132 2 1 (dk_at dksX12_findMoves_7 9 rfl rfl)
theorem dX12_findMoves_175 : decode cX12_findMoves 175 = .ok (.goto (-150), 3) := dk_167 255 106 (dk_at dksX12_findMoves_7 12 rfl rfl)
theorem dX12_findMoves_178 : decode cX12_findMoves 178 = .ok (.iinc 1 1, 3) := dk_132 1 1 (dk_at dksX12_findMoves_7 15 rfl rfl)
theorem dX12_findMoves_181 : decode cX12_findMoves 181 = .ok (.goto (-174), 3) := dk_167 255 82 (dk_at dksX12_findMoves_7 18 rfl rfl)
theorem dX12_findMoves_184 : decode cX12_findMoves 184 = .ok (.return_, 1) := dk_177 (dk_at dksX12_findMoves_7 21 rfl rfl)
abbrev cX12_down : ByteArray := prog_19_method_37_code
def yX12_down : MethodName := ⟨RX12, "down", "()I"⟩
def dkwX12_down_1 : List UInt8 := [3, 172]
abbrev dktX12_down_1 : List UInt8 := dkwX12_down_1 ++ []
def dkwX12_down_0 : List UInt8 := [42, 3, 181, 0, 115, 42, 42, 182, 0, 224, 182, 0, 227, 42, 182, 0, 249, 153, 0, 7, 4, 167, 0, 4]
abbrev dktX12_down_0 : List UInt8 := dkwX12_down_0 ++ dktX12_down_1
theorem dksX12_down_0 : cX12_down.data.toList.drop 0 = dktX12_down_0 := by decide +kernel
theorem dksX12_down_1 : cX12_down.data.toList.drop 24 = dktX12_down_1 := dk_seg dksX12_down_0 24 rfl rfl
theorem dX12_down_0 : decode cX12_down 0 = .ok (.aload_n 0, 1) := dk_42 (dk_at dksX12_down_0 0 rfl rfl)
theorem dX12_down_1 : decode cX12_down 1 = .ok (.iconst 0, 1) := dk_3 (dk_at dksX12_down_0 1 rfl rfl)
theorem dX12_down_2 : decode cX12_down 2 = .ok (.putfield 115, 3) := dk_181 0 115 (dk_at dksX12_down_0 2 rfl rfl)
theorem dX12_down_5 : decode cX12_down 5 = .ok (.aload_n 0, 1) := dk_42 (dk_at dksX12_down_0 5 rfl rfl)
theorem dX12_down_6 : decode cX12_down 6 = .ok (.aload_n 0, 1) := dk_42 (dk_at dksX12_down_0 6 rfl rfl)
theorem dX12_down_7 : decode cX12_down 7 = .ok (.invokevirtual 224, 3) := dk_182 0 224 (dk_at dksX12_down_0 7 rfl rfl)
theorem dX12_down_10 : decode cX12_down 10 = .ok (.invokevirtual 227, 3) := dk_182 0 227 (dk_at dksX12_down_0 10 rfl rfl)
theorem dX12_down_13 : decode cX12_down 13 = .ok (.aload_n 0, 1) := dk_42 (dk_at dksX12_down_0 13 rfl rfl)
theorem dX12_down_14 : decode cX12_down 14 = .ok (.invokevirtual 249, 3) := dk_182 0 249 (dk_at dksX12_down_0 14 rfl rfl)
theorem dX12_down_17 : decode cX12_down 17 = .ok (.ifCond .eq 7, 3) := dk_153 0 7 (dk_at dksX12_down_0 17 rfl rfl)
theorem dX12_down_20 : decode cX12_down 20 = .ok (.iconst 1, 1) := dk_4 (dk_at dksX12_down_0 20 rfl rfl)
theorem dX12_down_21 : decode cX12_down 21 = .ok (.goto 4, 3) := dk_167 0 4 (dk_at dksX12_down_0 21 rfl rfl)
theorem dX12_down_24 : decode cX12_down 24 = .ok (.iconst 0, 1) := dk_3 (dk_at dksX12_down_1 0 rfl rfl)
theorem dX12_down_25 : decode cX12_down 25 = .ok (.ireturn, 1) := dk_172 (dk_at dksX12_down_1 1 rfl rfl)
abbrev cX12_isDown : ByteArray := prog_19_method_24_code
def yX12_isDown : MethodName := ⟨RX12, "isDown", "()Z"⟩
def dkwX12_isDown_1 : List UInt8 := [180, 0, 118, 4, 100, 160, 0, 7, 4, 167, 0, 4, 3, 60, 132, 2, 1, 167, 255, 220, 27, 172]
abbrev dktX12_isDown_1 : List UInt8 := dkwX12_isDown_1 ++ []
def dkwX12_isDown_0 : List UInt8 := [4, 60, 3, 61, 28, 42, 180, 0, 165, 162, 0, 34, 27, 153, 0, 22, 42, 180, 0, 60, 28, 46, 42]
abbrev dktX12_isDown_0 : List UInt8 := dkwX12_isDown_0 ++ dktX12_isDown_1
theorem dksX12_isDown_0 : cX12_isDown.data.toList.drop 0 = dktX12_isDown_0 := by decide +kernel
theorem dksX12_isDown_1 : cX12_isDown.data.toList.drop 23 = dktX12_isDown_1 := dk_seg dksX12_isDown_0 23 rfl rfl
theorem dX12_isDown_0 : decode cX12_isDown 0 = .ok (.iconst 1, 1) := dk_4 (dk_at dksX12_isDown_0 0 rfl rfl)
theorem dX12_isDown_1 : decode cX12_isDown 1 = .ok (.istore_n 1, 1) := dk_60 (dk_at dksX12_isDown_0 1 rfl rfl)
theorem dX12_isDown_2 : decode cX12_isDown 2 = .ok (.iconst 0, 1) := dk_3 (dk_at dksX12_isDown_0 2 rfl rfl)
theorem dX12_isDown_3 : decode cX12_isDown 3 = .ok (.istore_n 2, 1) := dk_61 (dk_at dksX12_isDown_0 3 rfl rfl)
theorem dX12_isDown_4 : decode cX12_isDown 4 = .ok (.iload_n 2, 1) := dk_28 (dk_at dksX12_isDown_0 4 rfl rfl)
theorem dX12_isDown_5 : decode cX12_isDown 5 = .ok (.aload_n 0, 1) := dk_42 (dk_at dksX12_isDown_0 5 rfl rfl)
theorem dX12_isDown_6 : decode cX12_isDown 6 = .ok (.getfield 165, 3) := dk_180 0 165 (dk_at dksX12_isDown_0 6 rfl rfl)
theorem dX12_isDown_9 : decode cX12_isDown 9 = .ok (.if_icmp .ge 34, 3) := dk_162 0 34 (dk_at dksX12_isDown_0 9 rfl rfl)
theorem dX12_isDown_12 : decode cX12_isDown 12 = .ok (.iload_n 1, 1) := dk_27 (dk_at dksX12_isDown_0 12 rfl rfl)
theorem dX12_isDown_13 : decode cX12_isDown 13 = .ok (.ifCond .eq 22, 3) := dk_153 0 22 (dk_at dksX12_isDown_0 13 rfl rfl)
theorem dX12_isDown_16 : decode cX12_isDown 16 = .ok (.aload_n 0, 1) := dk_42 (dk_at dksX12_isDown_0 16 rfl rfl)
theorem dX12_isDown_17 : decode cX12_isDown 17 = .ok (.getfield 60, 3) := dk_180 0 60 (dk_at dksX12_isDown_0 17 rfl rfl)
theorem dX12_isDown_20 : decode cX12_isDown 20 = .ok (.iload_n 2, 1) := dk_28 (dk_at dksX12_isDown_0 20 rfl rfl)
theorem dX12_isDown_21 : decode cX12_isDown 21 = .ok (.iaload, 1) := dk_46 (dk_at dksX12_isDown_0 21 rfl rfl)
theorem dX12_isDown_22 : decode cX12_isDown 22 = .ok (.aload_n 0, 1) := dk_42 (dk_at dksX12_isDown_0 22 rfl rfl)
theorem dX12_isDown_23 : decode cX12_isDown 23 = .ok (.getfield 118, 3) := dk_180 0 118 (dk_at dksX12_isDown_1 0 rfl rfl)
theorem dX12_isDown_26 : decode cX12_isDown 26 = .ok (.iconst 1, 1) := dk_4 (dk_at dksX12_isDown_1 3 rfl rfl)
theorem dX12_isDown_27 : decode cX12_isDown 27 = .ok (.isub, 1) := dk_100 (dk_at dksX12_isDown_1 4 rfl rfl)
theorem dX12_isDown_28 : decode cX12_isDown 28 = .ok (.if_icmp .ne 7, 3) := dk_160 0 7 (dk_at dksX12_isDown_1 5 rfl rfl)
theorem dX12_isDown_31 : decode cX12_isDown 31 = .ok (.iconst 1, 1) := dk_4 (dk_at dksX12_isDown_1 8 rfl rfl)
theorem dX12_isDown_32 : decode cX12_isDown 32 = .ok (.goto 4, 3) := dk_167 0 4 (dk_at dksX12_isDown_1 9 rfl rfl)
theorem dX12_isDown_35 : decode cX12_isDown 35 = .ok (.iconst 0, 1) := dk_3 (dk_at dksX12_isDown_1 12 rfl rfl)
theorem dX12_isDown_36 : decode cX12_isDown 36 = .ok (.istore_n 1, 1) := dk_60 (dk_at dksX12_isDown_1 13 rfl rfl)
theorem dX12_isDown_37 : decode cX12_isDown 37 = .ok (.iinc 2 1, 3) := dk_132 2 1 (dk_at dksX12_isDown_1 14 rfl rfl)
theorem dX12_isDown_40 : decode cX12_isDown 40 = .ok (.goto (-36), 3) := dk_167 255 220 (dk_at dksX12_isDown_1 17 rfl rfl)
theorem dX12_isDown_43 : decode cX12_isDown 43 = .ok (.iload_n 1, 1) := dk_27 (dk_at dksX12_isDown_1 20 rfl rfl)
theorem dX12_isDown_44 : decode cX12_isDown 44 = .ok (.ireturn, 1) := dk_172 (dk_at dksX12_isDown_1 21 rfl rfl)
abbrev cX12_judge : ByteArray := prog_19_method_39_code
def yX12_judge : MethodName := ⟨RX12, "judge", "(II)I"⟩
def dkwX12_judge_5 : List UInt8 := [182, 0, 236, 132, 4, 1, 167, 255, 179, 28, 154, 0, 8, 16, 252, 167, 0, 4, 29, 172]
abbrev dktX12_judge_5 : List UInt8 := dkwX12_judge_5 ++ []
def dkwX12_judge_4 : List UInt8 := [156, 0, 14, 28, 154, 0, 8, 21, 4, 167, 0, 4, 29, 172, 29, 21, 6, 96, 62, 42, 21, 5, 3]
abbrev dktX12_judge_4 : List UInt8 := dkwX12_judge_4 ++ dktX12_judge_5
def dkwX12_judge_3 : List UInt8 := [21, 5, 184, 0, 221, 153, 0, 12, 42, 21, 5, 182, 0, 230, 167, 0, 4, 2, 54, 6, 21, 6]
abbrev dktX12_judge_3 : List UInt8 := dkwX12_judge_3 ++ dktX12_judge_4
def dkwX12_judge_2 : List UInt8 := [42, 180, 0, 105, 27, 46, 162, 0, 72, 42, 180, 0, 108, 16, 100, 27, 104, 21, 4, 96, 47, 136, 54, 5]
abbrev dktX12_judge_2 : List UInt8 := dkwX12_judge_2 ++ dktX12_judge_3
def dkwX12_judge_1 : List UInt8 := [156, 0, 9, 42, 27, 182, 0, 253, 172, 42, 42, 182, 0, 224, 182, 0, 227, 3, 62, 3, 54, 4, 21, 4]
abbrev dktX12_judge_1 : List UInt8 := dkwX12_judge_1 ++ dktX12_judge_2
def dkwX12_judge_0 : List UInt8 := [42, 3, 181, 0, 115, 28, 133, 9, 10, 184, 0, 121, 154, 0, 5, 2, 172, 42, 27, 182, 0, 253]
abbrev dktX12_judge_0 : List UInt8 := dkwX12_judge_0 ++ dktX12_judge_1
theorem dksX12_judge_0 : cX12_judge.data.toList.drop 0 = dktX12_judge_0 := by decide +kernel
theorem dksX12_judge_1 : cX12_judge.data.toList.drop 22 = dktX12_judge_1 := dk_seg dksX12_judge_0 22 rfl rfl
theorem dksX12_judge_2 : cX12_judge.data.toList.drop 46 = dktX12_judge_2 := dk_seg dksX12_judge_1 24 rfl rfl
theorem dksX12_judge_3 : cX12_judge.data.toList.drop 70 = dktX12_judge_3 := dk_seg dksX12_judge_2 24 rfl rfl
theorem dksX12_judge_4 : cX12_judge.data.toList.drop 92 = dktX12_judge_4 := dk_seg dksX12_judge_3 22 rfl rfl
theorem dksX12_judge_5 : cX12_judge.data.toList.drop 115 = dktX12_judge_5 := dk_seg dksX12_judge_4 23 rfl rfl
theorem dX12_judge_0 : decode cX12_judge 0 = .ok (.aload_n 0, 1) := dk_42 (dk_at dksX12_judge_0 0 rfl rfl)
theorem dX12_judge_1 : decode cX12_judge 1 = .ok (.iconst 0, 1) := dk_3 (dk_at dksX12_judge_0 1 rfl rfl)
theorem dX12_judge_2 : decode cX12_judge 2 = .ok (.putfield 115, 3) := dk_181 0 115 (dk_at dksX12_judge_0 2 rfl rfl)
theorem dX12_judge_5 : decode cX12_judge 5 = .ok (.iload_n 2, 1) := dk_28 (dk_at dksX12_judge_0 5 rfl rfl)
theorem dX12_judge_6 : decode cX12_judge 6 = .ok (.i2l, 1) := dk_133 (dk_at dksX12_judge_0 6 rfl rfl)
theorem dX12_judge_7 : decode cX12_judge 7 = .ok (.lconst 0, 1) := dk_9 (dk_at dksX12_judge_0 7 rfl rfl)
theorem dX12_judge_8 : decode cX12_judge 8 = .ok (.lconst 1, 1) := dk_10 (dk_at dksX12_judge_0 8 rfl rfl)
theorem dX12_judge_9 : decode cX12_judge 9 = .ok (.invokestatic 121, 3) := dk_184 0 121 (dk_at dksX12_judge_0 9 rfl rfl)
theorem dX12_judge_12 : decode cX12_judge 12 = .ok (.ifCond .ne 5, 3) := dk_154 0 5 (dk_at dksX12_judge_0 12 rfl rfl)
theorem dX12_judge_15 : decode cX12_judge 15 = .ok (.iconst (-1), 1) := dk_2 (dk_at dksX12_judge_0 15 rfl rfl)
theorem dX12_judge_16 : decode cX12_judge 16 = .ok (.ireturn, 1) := dk_172 (dk_at dksX12_judge_0 16 rfl rfl)
theorem dX12_judge_17 : decode cX12_judge 17 = .ok (.aload_n 0, 1) := dk_42 (dk_at dksX12_judge_0 17 rfl rfl)
theorem dX12_judge_18 : decode cX12_judge 18 = .ok (.iload_n 1, 1) := dk_27 (dk_at dksX12_judge_0 18 rfl rfl)
theorem dX12_judge_19 : decode cX12_judge 19 = .ok (.invokevirtual 253, 3) := dk_182 0 253 (dk_at dksX12_judge_0 19 rfl rfl)
theorem dX12_judge_22 : decode cX12_judge 22 = .ok (.ifCond .ge 9, 3) := dk_156 0 9 (dk_at dksX12_judge_1 0 rfl rfl)
theorem dX12_judge_25 : decode cX12_judge 25 = .ok (.aload_n 0, 1) := dk_42 (dk_at dksX12_judge_1 3 rfl rfl)
theorem dX12_judge_26 : decode cX12_judge 26 = .ok (.iload_n 1, 1) := dk_27 (dk_at dksX12_judge_1 4 rfl rfl)
theorem dX12_judge_27 : decode cX12_judge 27 = .ok (.invokevirtual 253, 3) := dk_182 0 253 (dk_at dksX12_judge_1 5 rfl rfl)
theorem dX12_judge_30 : decode cX12_judge 30 = .ok (.ireturn, 1) := dk_172 (dk_at dksX12_judge_1 8 rfl rfl)
theorem dX12_judge_31 : decode cX12_judge 31 = .ok (.aload_n 0, 1) := dk_42 (dk_at dksX12_judge_1 9 rfl rfl)
theorem dX12_judge_32 : decode cX12_judge 32 = .ok (.aload_n 0, 1) := dk_42 (dk_at dksX12_judge_1 10 rfl rfl)
theorem dX12_judge_33 : decode cX12_judge 33 = .ok (.invokevirtual 224, 3) := dk_182 0 224 (dk_at dksX12_judge_1 11 rfl rfl)
theorem dX12_judge_36 : decode cX12_judge 36 = .ok (.invokevirtual 227, 3) := dk_182 0 227 (dk_at dksX12_judge_1 14 rfl rfl)
theorem dX12_judge_39 : decode cX12_judge 39 = .ok (.iconst 0, 1) := dk_3 (dk_at dksX12_judge_1 17 rfl rfl)
theorem dX12_judge_40 : decode cX12_judge 40 = .ok (.istore_n 3, 1) := dk_62 (dk_at dksX12_judge_1 18 rfl rfl)
theorem dX12_judge_41 : decode cX12_judge 41 = .ok (.iconst 0, 1) := dk_3 (dk_at dksX12_judge_1 19 rfl rfl)
theorem dX12_judge_42 : decode cX12_judge 42 = .ok (.istore 4, 2) := dk_54 4 (dk_at dksX12_judge_1 20 rfl rfl)
theorem dX12_judge_44 : decode cX12_judge 44 = .ok (.iload 4, 2) := dk_21 4 (dk_at dksX12_judge_1 22 rfl rfl)
theorem dX12_judge_46 : decode cX12_judge 46 = .ok (.aload_n 0, 1) := dk_42 (dk_at dksX12_judge_2 0 rfl rfl)
theorem dX12_judge_47 : decode cX12_judge 47 = .ok (.getfield 105, 3) := dk_180 0 105 (dk_at dksX12_judge_2 1 rfl rfl)
theorem dX12_judge_50 : decode cX12_judge 50 = .ok (.iload_n 1, 1) := dk_27 (dk_at dksX12_judge_2 4 rfl rfl)
theorem dX12_judge_51 : decode cX12_judge 51 = .ok (.iaload, 1) := dk_46 (dk_at dksX12_judge_2 5 rfl rfl)
theorem dX12_judge_52 : decode cX12_judge 52 = .ok (.if_icmp .ge 72, 3) := dk_162 0 72 (dk_at dksX12_judge_2 6 rfl rfl)
theorem dX12_judge_55 : decode cX12_judge 55 = .ok (.aload_n 0, 1) := dk_42 (dk_at dksX12_judge_2 9 rfl rfl)
theorem dX12_judge_56 : decode cX12_judge 56 = .ok (.getfield 108, 3) := dk_180 0 108 (dk_at dksX12_judge_2 10 rfl rfl)
theorem dX12_judge_59 : decode cX12_judge 59 = .ok (.bipush 100, 2) := dk_16 100 (dk_at dksX12_judge_2 13 rfl rfl)
theorem dX12_judge_61 : decode cX12_judge 61 = .ok (.iload_n 1, 1) := dk_27 (dk_at dksX12_judge_2 15 rfl rfl)
theorem dX12_judge_62 : decode cX12_judge 62 = .ok (.imul, 1) := dk_104 (dk_at dksX12_judge_2 16 rfl rfl)
theorem dX12_judge_63 : decode cX12_judge 63 = .ok (.iload 4, 2) := dk_21 4 (dk_at dksX12_judge_2 17 rfl rfl)
theorem dX12_judge_65 : decode cX12_judge 65 = .ok (.iadd, 1) := dk_96 (dk_at dksX12_judge_2 19 rfl rfl)
theorem dX12_judge_66 : decode cX12_judge 66 = .ok (.laload, 1) := dk_47 (dk_at dksX12_judge_2 20 rfl rfl)
theorem dX12_judge_67 : decode cX12_judge 67 = .ok (.l2i, 1) := dk_136 (dk_at dksX12_judge_2 21 rfl rfl)
theorem dX12_judge_68 : decode cX12_judge 68 = .ok (.istore 5, 2) := dk_54 5 (dk_at dksX12_judge_2 22 rfl rfl)
theorem dX12_judge_70 : decode cX12_judge 70 = .ok (.iload 5, 2) := dk_21 5 (dk_at dksX12_judge_3 0 rfl rfl)
theorem dX12_judge_72 : decode cX12_judge 72 = .ok (.invokestatic 221, 3) := dk_184 0 221 (dk_at dksX12_judge_3 2 rfl rfl)
theorem dX12_judge_75 : decode cX12_judge 75 = .ok (.ifCond .eq 12, 3) := dk_153 0 12 (dk_at dksX12_judge_3 5 rfl rfl)
theorem dX12_judge_78 : decode cX12_judge 78 = .ok (.aload_n 0, 1) := dk_42 (dk_at dksX12_judge_3 8 rfl rfl)
theorem dX12_judge_79 : decode cX12_judge 79 = .ok (.iload 5, 2) := dk_21 5 (dk_at dksX12_judge_3 9 rfl rfl)
theorem dX12_judge_81 : decode cX12_judge 81 = .ok (.invokevirtual 230, 3) := dk_182 0 230 (dk_at dksX12_judge_3 11 rfl rfl)
theorem dX12_judge_84 : decode cX12_judge 84 = .ok (.goto 4, 3) := dk_167 0 4 (dk_at dksX12_judge_3 14 rfl rfl)
theorem dX12_judge_87 : decode cX12_judge 87 = .ok (.iconst (-1), 1) := dk_2 (dk_at dksX12_judge_3 17 rfl rfl)
theorem dX12_judge_88 : decode cX12_judge 88 = .ok (.istore 6, 2) := dk_54 6 (dk_at dksX12_judge_3 18 rfl rfl)
theorem dX12_judge_90 : decode cX12_judge 90 = .ok (.iload 6, 2) := dk_21 6 (dk_at dksX12_judge_3 20 rfl rfl)
theorem dX12_judge_92 : decode cX12_judge 92 = .ok (.ifCond .ge 14, 3) := dk_156 0 14 (dk_at dksX12_judge_4 0 rfl rfl)
theorem dX12_judge_95 : decode cX12_judge 95 = .ok (.iload_n 2, 1) := dk_28 (dk_at dksX12_judge_4 3 rfl rfl)
theorem dX12_judge_96 : decode cX12_judge 96 = .ok (.ifCond .ne 8, 3) := dk_154 0 8 (dk_at dksX12_judge_4 4 rfl rfl)
theorem dX12_judge_99 : decode cX12_judge 99 = .ok (.iload 4, 2) := dk_21 4 (dk_at dksX12_judge_4 7 rfl rfl)
theorem dX12_judge_101 : decode cX12_judge 101 = .ok (.goto 4, 3) := dk_167 0 4 (dk_at dksX12_judge_4 9 rfl rfl)
theorem dX12_judge_104 : decode cX12_judge 104 = .ok (.iload_n 3, 1) := dk_29 (dk_at dksX12_judge_4 12 rfl rfl)
theorem dX12_judge_105 : decode cX12_judge 105 = .ok (.ireturn, 1) := dk_172 (dk_at dksX12_judge_4 13 rfl rfl)
theorem dX12_judge_106 : decode cX12_judge 106 = .ok (.iload_n 3, 1) := dk_29 (dk_at dksX12_judge_4 14 rfl rfl)
theorem dX12_judge_107 : decode cX12_judge 107 = .ok (.iload 6, 2) := dk_21 6 (dk_at dksX12_judge_4 15 rfl rfl)
theorem dX12_judge_109 : decode cX12_judge 109 = .ok (.iadd, 1) := dk_96 (dk_at dksX12_judge_4 17 rfl rfl)
theorem dX12_judge_110 : decode cX12_judge 110 = .ok (.istore_n 3, 1) := dk_62 (dk_at dksX12_judge_4 18 rfl rfl)
theorem dX12_judge_111 : decode cX12_judge 111 = .ok (.aload_n 0, 1) := dk_42 (dk_at dksX12_judge_4 19 rfl rfl)
theorem dX12_judge_112 : decode cX12_judge 112 = .ok (.iload 5, 2) := dk_21 5 (dk_at dksX12_judge_4 20 rfl rfl)
theorem dX12_judge_114 : decode cX12_judge 114 = .ok (.iconst 0, 1) := dk_3 (dk_at dksX12_judge_4 22 rfl rfl)
theorem dX12_judge_115 : decode cX12_judge 115 = .ok (.invokevirtual 236, 3) := dk_182 0 236 (dk_at dksX12_judge_5 0 rfl rfl)
theorem dX12_judge_118 : decode cX12_judge 118 = .ok (.iinc 4 1, 3) := dk_132 4 1 (dk_at dksX12_judge_5 3 rfl rfl)
theorem dX12_judge_121 : decode cX12_judge 121 = .ok (.goto (-77), 3) := dk_167 255 179 (dk_at dksX12_judge_5 6 rfl rfl)
theorem dX12_judge_124 : decode cX12_judge 124 = .ok (.iload_n 2, 1) := dk_28 (dk_at dksX12_judge_5 9 rfl rfl)
theorem dX12_judge_125 : decode cX12_judge 125 = .ok (.ifCond .ne 8, 3) := dk_154 0 8 (dk_at dksX12_judge_5 10 rfl rfl)
theorem dX12_judge_128 : decode cX12_judge 128 = .ok (.bipush (-4), 2) := dk_16 252 (dk_at dksX12_judge_5 13 rfl rfl)
theorem dX12_judge_130 : decode cX12_judge 130 = .ok (.goto 4, 3) := dk_167 0 4 (dk_at dksX12_judge_5 15 rfl rfl)
theorem dX12_judge_133 : decode cX12_judge 133 = .ok (.iload_n 3, 1) := dk_29 (dk_at dksX12_judge_5 18 rfl rfl)
theorem dX12_judge_134 : decode cX12_judge 134 = .ok (.ireturn, 1) := dk_172 (dk_at dksX12_judge_5 19 rfl rfl)
abbrev cX12_wrongMoves : ByteArray := prog_19_method_38_code
def yX12_wrongMoves : MethodName := ⟨RX12, "wrongMoves", "(I)I"⟩
def dkwX12_wrongMoves_1 : List UInt8 := [159, 0, 8, 16, 244, 167, 0, 4, 3, 172]
abbrev dktX12_wrongMoves_1 : List UInt8 := dkwX12_wrongMoves_1 ++ []
def dkwX12_wrongMoves_0 : List UInt8 := [42, 27, 182, 0, 178, 156, 0, 11, 42, 27, 182, 0, 178, 167, 0, 19, 42, 180, 0, 102, 27, 46, 5]
abbrev dktX12_wrongMoves_0 : List UInt8 := dkwX12_wrongMoves_0 ++ dktX12_wrongMoves_1
theorem dksX12_wrongMoves_0 : cX12_wrongMoves.data.toList.drop 0 = dktX12_wrongMoves_0 := by decide +kernel
theorem dksX12_wrongMoves_1 : cX12_wrongMoves.data.toList.drop 23 = dktX12_wrongMoves_1 := dk_seg dksX12_wrongMoves_0 23 rfl rfl
theorem dX12_wrongMoves_0 : decode cX12_wrongMoves 0 = .ok (.aload_n 0, 1) := dk_42 (dk_at dksX12_wrongMoves_0 0 rfl rfl)
theorem dX12_wrongMoves_1 : decode cX12_wrongMoves 1 = .ok (.iload_n 1, 1) := dk_27 (dk_at dksX12_wrongMoves_0 1 rfl rfl)
theorem dX12_wrongMoves_2 : decode cX12_wrongMoves 2 = .ok (.invokevirtual 178, 3) := dk_182 0 178 (dk_at dksX12_wrongMoves_0 2 rfl rfl)
theorem dX12_wrongMoves_5 : decode cX12_wrongMoves 5 = .ok (.ifCond .ge 11, 3) := dk_156 0 11 (dk_at dksX12_wrongMoves_0 5 rfl rfl)
theorem dX12_wrongMoves_8 : decode cX12_wrongMoves 8 = .ok (.aload_n 0, 1) := dk_42 (dk_at dksX12_wrongMoves_0 8 rfl rfl)
theorem dX12_wrongMoves_9 : decode cX12_wrongMoves 9 = .ok (.iload_n 1, 1) := dk_27 (dk_at dksX12_wrongMoves_0 9 rfl rfl)
theorem dX12_wrongMoves_10 : decode cX12_wrongMoves 10 = .ok (.invokevirtual 178, 3) := dk_182 0 178 (dk_at dksX12_wrongMoves_0 10 rfl rfl)
theorem dX12_wrongMoves_13 : decode cX12_wrongMoves 13 = .ok (.goto 19, 3) := dk_167 0 19 (dk_at dksX12_wrongMoves_0 13 rfl rfl)
theorem dX12_wrongMoves_16 : decode cX12_wrongMoves 16 = .ok (.aload_n 0, 1) := dk_42 (dk_at dksX12_wrongMoves_0 16 rfl rfl)
theorem dX12_wrongMoves_17 : decode cX12_wrongMoves 17 = .ok (.getfield 102, 3) := dk_180 0 102 (dk_at dksX12_wrongMoves_0 17 rfl rfl)
theorem dX12_wrongMoves_20 : decode cX12_wrongMoves 20 = .ok (.iload_n 1, 1) := dk_27 (dk_at dksX12_wrongMoves_0 20 rfl rfl)
theorem dX12_wrongMoves_21 : decode cX12_wrongMoves 21 = .ok (.iaload, 1) := dk_46 (dk_at dksX12_wrongMoves_0 21 rfl rfl)
theorem dX12_wrongMoves_22 : decode cX12_wrongMoves 22 = .ok (.iconst 2, 1) := dk_5 (dk_at dksX12_wrongMoves_0 22 rfl rfl)
theorem dX12_wrongMoves_23 : decode cX12_wrongMoves 23 = .ok (.if_icmp .eq 8, 3) := dk_159 0 8 (dk_at dksX12_wrongMoves_1 0 rfl rfl)
theorem dX12_wrongMoves_26 : decode cX12_wrongMoves 26 = .ok (.bipush (-12), 2) := dk_16 244 (dk_at dksX12_wrongMoves_1 3 rfl rfl)
theorem dX12_wrongMoves_28 : decode cX12_wrongMoves 28 = .ok (.goto 4, 3) := dk_167 0 4 (dk_at dksX12_wrongMoves_1 5 rfl rfl)
theorem dX12_wrongMoves_31 : decode cX12_wrongMoves 31 = .ok (.iconst 0, 1) := dk_3 (dk_at dksX12_wrongMoves_1 8 rfl rfl)
theorem dX12_wrongMoves_32 : decode cX12_wrongMoves 32 = .ok (.ireturn, 1) := dk_172 (dk_at dksX12_wrongMoves_1 9 rfl rfl)
abbrev cX12_soonest : ByteArray := prog_19_method_44_code
def yX12_soonest : MethodName := ⟨RX12, "soonest", "()I"⟩
def dkwX12_soonest_0 : List UInt8 := [42, 3, 181, 0, 115, 42, 182, 1, 20, 172]
abbrev dktX12_soonest_0 : List UInt8 := dkwX12_soonest_0 ++ []
theorem dksX12_soonest_0 : cX12_soonest.data.toList.drop 0 = dktX12_soonest_0 := by decide +kernel
theorem dX12_soonest_0 : decode cX12_soonest 0 = .ok (.aload_n 0, 1) := dk_42 (dk_at dksX12_soonest_0 0 rfl rfl)
theorem dX12_soonest_1 : decode cX12_soonest 1 = .ok (.iconst 0, 1) := dk_3 (dk_at dksX12_soonest_0 1 rfl rfl)
theorem dX12_soonest_2 : decode cX12_soonest 2 = .ok (.putfield 115, 3) := dk_181 0 115 (dk_at dksX12_soonest_0 2 rfl rfl)
theorem dX12_soonest_5 : decode cX12_soonest 5 = .ok (.aload_n 0, 1) := dk_42 (dk_at dksX12_soonest_0 5 rfl rfl)
theorem dX12_soonest_6 : decode cX12_soonest 6 = .ok (.invokevirtual 276, 3) := dk_182 1 20 (dk_at dksX12_soonest_0 6 rfl rfl)
theorem dX12_soonest_9 : decode cX12_soonest 9 = .ok (.ireturn, 1) := dk_172 (dk_at dksX12_soonest_0 9 rfl rfl)
abbrev cX12_soonestNow : ByteArray := prog_19_method_43_code
def yX12_soonestNow : MethodName := ⟨RX12, "soonestNow", "()I"⟩
def dkwX12_soonestNow_3 : List UInt8 := [167, 0, 4, 27, 60, 132, 2, 1, 167, 255, 187, 27, 172]
abbrev dktX12_soonestNow_3 : List UInt8 := dkwX12_soonestNow_3 ++ []
def dkwX12_soonestNow_2 : List UInt8 := [42, 42, 180, 0, 72, 28, 46, 182, 1, 17, 153, 0, 17, 42, 180, 0, 69, 42, 180, 0, 72, 28, 46, 46]
abbrev dktX12_soonestNow_2 : List UInt8 := dkwX12_soonestNow_2 ++ dktX12_soonestNow_3
def dkwX12_soonestNow_1 : List UInt8 := [180, 0, 69, 42, 180, 0, 72, 28, 46, 46, 27, 162, 0, 7, 4, 167, 0, 4, 3, 62, 29, 153, 0, 30]
abbrev dktX12_soonestNow_1 : List UInt8 := dkwX12_soonestNow_1 ++ dktX12_soonestNow_2
def dkwX12_soonestNow_0 : List UInt8 := [42, 182, 1, 14, 16, 252, 60, 3, 61, 28, 42, 180, 1, 8, 162, 0, 67, 27, 155, 0, 18, 42]
abbrev dktX12_soonestNow_0 : List UInt8 := dkwX12_soonestNow_0 ++ dktX12_soonestNow_1
theorem dksX12_soonestNow_0 : cX12_soonestNow.data.toList.drop 0 = dktX12_soonestNow_0 := by decide +kernel
theorem dksX12_soonestNow_1 : cX12_soonestNow.data.toList.drop 22 = dktX12_soonestNow_1 := dk_seg dksX12_soonestNow_0 22 rfl rfl
theorem dksX12_soonestNow_2 : cX12_soonestNow.data.toList.drop 46 = dktX12_soonestNow_2 := dk_seg dksX12_soonestNow_1 24 rfl rfl
theorem dksX12_soonestNow_3 : cX12_soonestNow.data.toList.drop 70 = dktX12_soonestNow_3 := dk_seg dksX12_soonestNow_2 24 rfl rfl
theorem dX12_soonestNow_0 : decode cX12_soonestNow 0 = .ok (.aload_n 0, 1) := dk_42 (dk_at dksX12_soonestNow_0 0 rfl rfl)
theorem dX12_soonestNow_1 : decode cX12_soonestNow 1 = .ok (.invokevirtual 270, 3) := dk_182 1 14 (dk_at dksX12_soonestNow_0 1 rfl rfl)
theorem dX12_soonestNow_4 : decode cX12_soonestNow 4 = .ok (.bipush (-4), 2) := dk_16 252 (dk_at dksX12_soonestNow_0 4 rfl rfl)
theorem dX12_soonestNow_6 : decode cX12_soonestNow 6 = .ok (.istore_n 1, 1) := dk_60 (dk_at dksX12_soonestNow_0 6 rfl rfl)
theorem dX12_soonestNow_7 : decode cX12_soonestNow 7 = .ok (.iconst 0, 1) := dk_3 (dk_at dksX12_soonestNow_0 7 rfl rfl)
theorem dX12_soonestNow_8 : decode cX12_soonestNow 8 = .ok (.istore_n 2, 1) := dk_61 (dk_at dksX12_soonestNow_0 8 rfl rfl)
theorem dX12_soonestNow_9 : decode cX12_soonestNow 9 = .ok (.iload_n 2, 1) := dk_28 (dk_at dksX12_soonestNow_0 9 rfl rfl)
theorem dX12_soonestNow_10 : decode cX12_soonestNow 10 = .ok (.aload_n 0, 1) := dk_42 (dk_at dksX12_soonestNow_0 10 rfl rfl)
theorem dX12_soonestNow_11 : decode cX12_soonestNow 11 = .ok (.getfield 264, 3) := dk_180 1 8 (dk_at dksX12_soonestNow_0 11 rfl rfl)
theorem dX12_soonestNow_14 : decode cX12_soonestNow 14 = .ok (.if_icmp .ge 67, 3) := dk_162 0 67 (dk_at dksX12_soonestNow_0 14 rfl rfl)
theorem dX12_soonestNow_17 : decode cX12_soonestNow 17 = .ok (.iload_n 1, 1) := dk_27 (dk_at dksX12_soonestNow_0 17 rfl rfl)
theorem dX12_soonestNow_18 : decode cX12_soonestNow 18 = .ok (.ifCond .lt 18, 3) := dk_155 0 18 (dk_at dksX12_soonestNow_0 18 rfl rfl)
theorem dX12_soonestNow_21 : decode cX12_soonestNow 21 = .ok (.aload_n 0, 1) := dk_42 (dk_at dksX12_soonestNow_0 21 rfl rfl)
theorem dX12_soonestNow_22 : decode cX12_soonestNow 22 = .ok (.getfield 69, 3) := dk_180 0 69 (dk_at dksX12_soonestNow_1 0 rfl rfl)
theorem dX12_soonestNow_25 : decode cX12_soonestNow 25 = .ok (.aload_n 0, 1) := dk_42 (dk_at dksX12_soonestNow_1 3 rfl rfl)
theorem dX12_soonestNow_26 : decode cX12_soonestNow 26 = .ok (.getfield 72, 3) := dk_180 0 72 (dk_at dksX12_soonestNow_1 4 rfl rfl)
theorem dX12_soonestNow_29 : decode cX12_soonestNow 29 = .ok (.iload_n 2, 1) := dk_28 (dk_at dksX12_soonestNow_1 7 rfl rfl)
theorem dX12_soonestNow_30 : decode cX12_soonestNow 30 = .ok (.iaload, 1) := dk_46 (dk_at dksX12_soonestNow_1 8 rfl rfl)
theorem dX12_soonestNow_31 : decode cX12_soonestNow 31 = .ok (.iaload, 1) := dk_46 (dk_at dksX12_soonestNow_1 9 rfl rfl)
theorem dX12_soonestNow_32 : decode cX12_soonestNow 32 = .ok (.iload_n 1, 1) := dk_27 (dk_at dksX12_soonestNow_1 10 rfl rfl)
theorem dX12_soonestNow_33 : decode cX12_soonestNow 33 = .ok (.if_icmp .ge 7, 3) := dk_162 0 7 (dk_at dksX12_soonestNow_1 11 rfl rfl)
theorem dX12_soonestNow_36 : decode cX12_soonestNow 36 = .ok (.iconst 1, 1) := dk_4 (dk_at dksX12_soonestNow_1 14 rfl rfl)
theorem dX12_soonestNow_37 : decode cX12_soonestNow 37 = .ok (.goto 4, 3) := dk_167 0 4 (dk_at dksX12_soonestNow_1 15 rfl rfl)
theorem dX12_soonestNow_40 : decode cX12_soonestNow 40 = .ok (.iconst 0, 1) := dk_3 (dk_at dksX12_soonestNow_1 18 rfl rfl)
theorem dX12_soonestNow_41 : decode cX12_soonestNow 41 = .ok (.istore_n 3, 1) := dk_62 (dk_at dksX12_soonestNow_1 19 rfl rfl)
theorem dX12_soonestNow_42 : decode cX12_soonestNow 42 = .ok (.iload_n 3, 1) := dk_29 (dk_at dksX12_soonestNow_1 20 rfl rfl)
theorem dX12_soonestNow_43 : decode cX12_soonestNow 43 = .ok (.ifCond .eq 30, 3) := dk_153 0 30 (dk_at dksX12_soonestNow_1 21 rfl rfl)
theorem dX12_soonestNow_46 : decode cX12_soonestNow 46 = .ok (.aload_n 0, 1) := dk_42 (dk_at dksX12_soonestNow_2 0 rfl rfl)
theorem dX12_soonestNow_47 : decode cX12_soonestNow 47 = .ok (.aload_n 0, 1) := dk_42 (dk_at dksX12_soonestNow_2 1 rfl rfl)
theorem dX12_soonestNow_48 : decode cX12_soonestNow 48 = .ok (.getfield 72, 3) := dk_180 0 72 (dk_at dksX12_soonestNow_2 2 rfl rfl)
theorem dX12_soonestNow_51 : decode cX12_soonestNow 51 = .ok (.iload_n 2, 1) := dk_28 (dk_at dksX12_soonestNow_2 5 rfl rfl)
theorem dX12_soonestNow_52 : decode cX12_soonestNow 52 = .ok (.iaload, 1) := dk_46 (dk_at dksX12_soonestNow_2 6 rfl rfl)
theorem dX12_soonestNow_53 : decode cX12_soonestNow 53 = .ok (.invokevirtual 273, 3) := dk_182 1 17 (dk_at dksX12_soonestNow_2 7 rfl rfl)
theorem dX12_soonestNow_56 : decode cX12_soonestNow 56 = .ok (.ifCond .eq 17, 3) := dk_153 0 17 (dk_at dksX12_soonestNow_2 10 rfl rfl)
theorem dX12_soonestNow_59 : decode cX12_soonestNow 59 = .ok (.aload_n 0, 1) := dk_42 (dk_at dksX12_soonestNow_2 13 rfl rfl)
theorem dX12_soonestNow_60 : decode cX12_soonestNow 60 = .ok (.getfield 69, 3) := dk_180 0 69 (dk_at dksX12_soonestNow_2 14 rfl rfl)
theorem dX12_soonestNow_63 : decode cX12_soonestNow 63 = .ok (.aload_n 0, 1) := dk_42 (dk_at dksX12_soonestNow_2 17 rfl rfl)
theorem dX12_soonestNow_64 : decode cX12_soonestNow 64 = .ok (.getfield 72, 3) := dk_180 0 72 (dk_at dksX12_soonestNow_2 18 rfl rfl)
theorem dX12_soonestNow_67 : decode cX12_soonestNow 67 = .ok (.iload_n 2, 1) := dk_28 (dk_at dksX12_soonestNow_2 21 rfl rfl)
theorem dX12_soonestNow_68 : decode cX12_soonestNow 68 = .ok (.iaload, 1) := dk_46 (dk_at dksX12_soonestNow_2 22 rfl rfl)
theorem dX12_soonestNow_69 : decode cX12_soonestNow 69 = .ok (.iaload, 1) := dk_46 (dk_at dksX12_soonestNow_2 23 rfl rfl)
theorem dX12_soonestNow_70 : decode cX12_soonestNow 70 = .ok (.goto 4, 3) := dk_167 0 4 (dk_at dksX12_soonestNow_3 0 rfl rfl)
theorem dX12_soonestNow_73 : decode cX12_soonestNow 73 = .ok (.iload_n 1, 1) := dk_27 (dk_at dksX12_soonestNow_3 3 rfl rfl)
theorem dX12_soonestNow_74 : decode cX12_soonestNow 74 = .ok (.istore_n 1, 1) := dk_60 (dk_at dksX12_soonestNow_3 4 rfl rfl)
theorem dX12_soonestNow_75 : decode cX12_soonestNow 75 = .ok (.iinc 2 1, 3) := dk_132 2 1 (dk_at dksX12_soonestNow_3 5 rfl rfl)
theorem dX12_soonestNow_78 : decode cX12_soonestNow 78 = .ok (.goto (-69), 3) := dk_167 255 187 (dk_at dksX12_soonestNow_3 8 rfl rfl)
theorem dX12_soonestNow_81 : decode cX12_soonestNow 81 = .ok (.iload_n 1, 1) := dk_27 (dk_at dksX12_soonestNow_3 11 rfl rfl)
theorem dX12_soonestNow_82 : decode cX12_soonestNow 82 = .ok (.ireturn, 1) := dk_172 (dk_at dksX12_soonestNow_3 12 rfl rfl)
abbrev cX12_seekNow : ByteArray := prog_19_method_40_code
def yX12_seekNow : MethodName := ⟨RX12, "seekNow", "()V"⟩
def dkwX12_seekNow_0 : List UInt8 := [42, 180, 0, 191, 154, 0, 18, 42, 3, 182, 1, 0, 42, 4, 181, 0, 191, 42, 3, 181, 1, 4, 177]
abbrev dktX12_seekNow_0 : List UInt8 := dkwX12_seekNow_0 ++ []
theorem dksX12_seekNow_0 : cX12_seekNow.data.toList.drop 0 = dktX12_seekNow_0 := by decide +kernel
theorem dX12_seekNow_0 : decode cX12_seekNow 0 = .ok (.aload_n 0, 1) := dk_42 (dk_at dksX12_seekNow_0 0 rfl rfl)
theorem dX12_seekNow_1 : decode cX12_seekNow 1 = .ok (.getfield 191, 3) := dk_180 0 191 (dk_at dksX12_seekNow_0 1 rfl rfl)
theorem dX12_seekNow_4 : decode cX12_seekNow 4 = .ok (.ifCond .ne 18, 3) := dk_154 0 18 (dk_at dksX12_seekNow_0 4 rfl rfl)
theorem dX12_seekNow_7 : decode cX12_seekNow 7 = .ok (.aload_n 0, 1) := dk_42 (dk_at dksX12_seekNow_0 7 rfl rfl)
theorem dX12_seekNow_8 : decode cX12_seekNow 8 = .ok (.iconst 0, 1) := dk_3 (dk_at dksX12_seekNow_0 8 rfl rfl)
theorem dX12_seekNow_9 : decode cX12_seekNow 9 = .ok (.invokevirtual 256, 3) := dk_182 1 0 (dk_at dksX12_seekNow_0 9 rfl rfl)
theorem dX12_seekNow_12 : decode cX12_seekNow 12 = .ok (.aload_n 0, 1) := dk_42 (dk_at dksX12_seekNow_0 12 rfl rfl)
theorem dX12_seekNow_13 : decode cX12_seekNow 13 = .ok (.iconst 1, 1) := dk_4 (dk_at dksX12_seekNow_0 13 rfl rfl)
theorem dX12_seekNow_14 : decode cX12_seekNow 14 = .ok (.putfield 191, 3) := dk_181 0 191 (dk_at dksX12_seekNow_0 14 rfl rfl)
theorem dX12_seekNow_17 : decode cX12_seekNow 17 = .ok (.aload_n 0, 1) := dk_42 (dk_at dksX12_seekNow_0 17 rfl rfl)
theorem dX12_seekNow_18 : decode cX12_seekNow 18 = .ok (.iconst 0, 1) := dk_3 (dk_at dksX12_seekNow_0 18 rfl rfl)
theorem dX12_seekNow_19 : decode cX12_seekNow 19 = .ok (.putfield 260, 3) := dk_181 1 4 (dk_at dksX12_seekNow_0 19 rfl rfl)
theorem dX12_seekNow_22 : decode cX12_seekNow 22 = .ok (.return_, 1) := dk_177 (dk_at dksX12_seekNow_0 22 rfl rfl)
abbrev cX12_seek : ByteArray := prog_19_method_41_code
def yX12_seek : MethodName := ⟨RX12, "seek", "(Z)V"⟩
def dkwX12_seek_15 : List UInt8 := [21, 9, 79, 132, 4, 1, 132, 8, 1, 167, 255, 49, 132, 6, 1, 167, 255, 18, 167, 254, 223, 177]
abbrev dktX12_seek_15 : List UInt8 := dkwX12_seek_15 ++ []
def dkwX12_seek_14 : List UInt8 := [154, 0, 29, 42, 180, 0, 78, 21, 9, 4, 84, 42, 180, 0, 75, 29, 21, 4, 96, 17, 17, 148, 112]
abbrev dktX12_seek_14 : List UInt8 := dkwX12_seek_14 ++ dktX12_seek_15
def dkwX12_seek_13 : List UInt8 := [180, 0, 69, 21, 9, 42, 180, 0, 69, 21, 5, 46, 21, 7, 96, 79, 42, 180, 0, 78, 21, 9, 51]
abbrev dktX12_seek_13 : List UInt8 := dkwX12_seek_13 ++ dktX12_seek_14
def dkwX12_seek_12 : List UInt8 := [180, 0, 69, 21, 9, 46, 19, 1, 7, 160, 0, 7, 4, 167, 0, 4, 3, 96, 181, 1, 8, 42]
abbrev dktX12_seek_12 : List UInt8 := dkwX12_seek_12 ++ dktX12_seek_13
def dkwX12_seek_11 : List UInt8 := [160, 0, 8, 21, 9, 167, 0, 12, 42, 180, 0, 72, 42, 180, 1, 8, 46, 79, 42, 89, 180, 1, 8, 42]
abbrev dktX12_seek_11 : List UInt8 := dkwX12_seek_11 ++ dktX12_seek_12
def dkwX12_seek_10 : List UInt8 := [46, 162, 0, 119, 42, 180, 0, 72, 42, 180, 1, 8, 42, 180, 0, 69, 21, 9, 46, 19, 1, 7]
abbrev dktX12_seek_10 : List UInt8 := dkwX12_seek_10 ++ dktX12_seek_11
def dkwX12_seek_9 : List UInt8 := [54, 9, 42, 21, 5, 182, 0, 227, 42, 180, 0, 69, 21, 5, 46, 21, 7, 96, 42, 180, 0, 69, 21, 9]
abbrev dktX12_seek_9 : List UInt8 := dkwX12_seek_9 ++ dktX12_seek_10
def dkwX12_seek_8 : List UInt8 := [180, 0, 66, 21, 6, 46, 21, 8, 4, 160, 0, 7, 4, 167, 0, 4, 3, 182, 0, 236, 42, 182, 1, 11]
abbrev dktX12_seek_8 : List UInt8 := dkwX12_seek_8 ++ dktX12_seek_9
def dkwX12_seek_7 : List UInt8 := [17, 39, 16, 108, 6, 160, 0, 7, 5, 167, 0, 4, 4, 162, 0, 184, 21, 7, 155, 0, 179, 42, 42]
abbrev dktX12_seek_7 : List UInt8 := dkwX12_seek_7 ++ dktX12_seek_8
def dkwX12_seek_6 : List UInt8 := [46, 182, 0, 230, 54, 7, 3, 54, 8, 21, 8, 27, 153, 0, 22, 42, 180, 0, 66, 21, 6, 46]
abbrev dktX12_seek_6 : List UInt8 := dkwX12_seek_6 ++ dktX12_seek_7
def dkwX12_seek_5 : List UInt8 := [21, 5, 182, 0, 227, 3, 54, 6, 21, 6, 42, 180, 0, 243, 162, 0, 235, 42, 42, 180, 0, 66, 21, 6]
abbrev dktX12_seek_5 : List UInt8 := dkwX12_seek_5 ++ dktX12_seek_6
def dkwX12_seek_4 : List UInt8 := [160, 0, 7, 3, 167, 0, 6, 29, 4, 96, 62, 132, 4, 255, 42, 180, 0, 78, 21, 5, 3, 84, 42]
abbrev dktX12_seek_4 : List UInt8 := dkwX12_seek_4 ++ dktX12_seek_5
def dkwX12_seek_3 : List UInt8 := [4, 84, 3, 62, 4, 54, 4, 21, 4, 158, 1, 34, 42, 180, 0, 75, 29, 46, 54, 5, 29, 17, 17, 147]
abbrev dktX12_seek_3 : List UInt8 := dkwX12_seek_3 ++ dktX12_seek_4
def dkwX12_seek_2 : List UInt8 := [42, 180, 0, 72, 3, 28, 79, 42, 4, 181, 1, 8, 42, 180, 0, 75, 3, 28, 79, 42, 180, 0, 78, 28]
abbrev dktX12_seek_2 : List UInt8 := dkwX12_seek_2 ++ dktX12_seek_3
def dkwX12_seek_1 : List UInt8 := [180, 0, 78, 28, 3, 84, 132, 2, 1, 167, 255, 230, 42, 182, 0, 224, 61, 42, 180, 0, 69, 28, 3, 79]
abbrev dktX12_seek_1 : List UInt8 := dkwX12_seek_1 ++ dktX12_seek_2
def dkwX12_seek_0 : List UInt8 := [42, 182, 0, 246, 3, 61, 28, 17, 17, 148, 162, 0, 25, 42, 180, 0, 69, 28, 19, 1, 7, 79, 42]
abbrev dktX12_seek_0 : List UInt8 := dkwX12_seek_0 ++ dktX12_seek_1
theorem dksX12_seek_0 : cX12_seek.data.toList.drop 0 = dktX12_seek_0 := by decide +kernel
theorem dksX12_seek_1 : cX12_seek.data.toList.drop 23 = dktX12_seek_1 := dk_seg dksX12_seek_0 23 rfl rfl
theorem dksX12_seek_2 : cX12_seek.data.toList.drop 47 = dktX12_seek_2 := dk_seg dksX12_seek_1 24 rfl rfl
theorem dksX12_seek_3 : cX12_seek.data.toList.drop 71 = dktX12_seek_3 := dk_seg dksX12_seek_2 24 rfl rfl
theorem dksX12_seek_4 : cX12_seek.data.toList.drop 95 = dktX12_seek_4 := dk_seg dksX12_seek_3 24 rfl rfl
theorem dksX12_seek_5 : cX12_seek.data.toList.drop 118 = dktX12_seek_5 := dk_seg dksX12_seek_4 23 rfl rfl
theorem dksX12_seek_6 : cX12_seek.data.toList.drop 142 = dktX12_seek_6 := dk_seg dksX12_seek_5 24 rfl rfl
theorem dksX12_seek_7 : cX12_seek.data.toList.drop 164 = dktX12_seek_7 := dk_seg dksX12_seek_6 22 rfl rfl
theorem dksX12_seek_8 : cX12_seek.data.toList.drop 187 = dktX12_seek_8 := dk_seg dksX12_seek_7 23 rfl rfl
theorem dksX12_seek_9 : cX12_seek.data.toList.drop 211 = dktX12_seek_9 := dk_seg dksX12_seek_8 24 rfl rfl
theorem dksX12_seek_10 : cX12_seek.data.toList.drop 235 = dktX12_seek_10 := dk_seg dksX12_seek_9 24 rfl rfl
theorem dksX12_seek_11 : cX12_seek.data.toList.drop 257 = dktX12_seek_11 := dk_seg dksX12_seek_10 22 rfl rfl
theorem dksX12_seek_12 : cX12_seek.data.toList.drop 281 = dktX12_seek_12 := dk_seg dksX12_seek_11 24 rfl rfl
theorem dksX12_seek_13 : cX12_seek.data.toList.drop 303 = dktX12_seek_13 := dk_seg dksX12_seek_12 22 rfl rfl
theorem dksX12_seek_14 : cX12_seek.data.toList.drop 326 = dktX12_seek_14 := dk_seg dksX12_seek_13 23 rfl rfl
theorem dksX12_seek_15 : cX12_seek.data.toList.drop 349 = dktX12_seek_15 := dk_seg dksX12_seek_14 23 rfl rfl
theorem dX12_seek_0 : decode cX12_seek 0 = .ok (.aload_n 0, 1) := dk_42 (dk_at dksX12_seek_0 0 rfl rfl)
theorem dX12_seek_1 : decode cX12_seek 1 = .ok (.invokevirtual 246, 3) := dk_182 0 246 (dk_at dksX12_seek_0 1 rfl rfl)
theorem dX12_seek_4 : decode cX12_seek 4 = .ok (.iconst 0, 1) := dk_3 (dk_at dksX12_seek_0 4 rfl rfl)
theorem dX12_seek_5 : decode cX12_seek 5 = .ok (.istore_n 2, 1) := dk_61 (dk_at dksX12_seek_0 5 rfl rfl)
theorem dX12_seek_6 : decode cX12_seek 6 = .ok (.iload_n 2, 1) := dk_28 (dk_at dksX12_seek_0 6 rfl rfl)
theorem dX12_seek_7 : decode cX12_seek 7 = .ok (.sipush 4500, 3) := dk_17 17 148 (dk_at dksX12_seek_0 7 rfl rfl)
theorem dX12_seek_10 : decode cX12_seek 10 = .ok (.if_icmp .ge 25, 3) := dk_162 0 25 (dk_at dksX12_seek_0 10 rfl rfl)
theorem dX12_seek_13 : decode cX12_seek 13 = .ok (.aload_n 0, 1) := dk_42 (dk_at dksX12_seek_0 13 rfl rfl)
theorem dX12_seek_14 : decode cX12_seek 14 = .ok (.getfield 69, 3) := dk_180 0 69 (dk_at dksX12_seek_0 14 rfl rfl)
theorem dX12_seek_17 : decode cX12_seek 17 = .ok (.iload_n 2, 1) := dk_28 (dk_at dksX12_seek_0 17 rfl rfl)
theorem dX12_seek_18 : decode cX12_seek 18 = .ok (.ldc_w 263, 3) := dk_19 1 7 (dk_at dksX12_seek_0 18 rfl rfl)
theorem dX12_seek_21 : decode cX12_seek 21 = .ok (.iastore, 1) := dk_79 (dk_at dksX12_seek_0 21 rfl rfl)
theorem dX12_seek_22 : decode cX12_seek 22 = .ok (.aload_n 0, 1) := dk_42 (dk_at dksX12_seek_0 22 rfl rfl)
theorem dX12_seek_23 : decode cX12_seek 23 = .ok (.getfield 78, 3) := dk_180 0 78 (dk_at dksX12_seek_1 0 rfl rfl)
theorem dX12_seek_26 : decode cX12_seek 26 = .ok (.iload_n 2, 1) := dk_28 (dk_at dksX12_seek_1 3 rfl rfl)
theorem dX12_seek_27 : decode cX12_seek 27 = .ok (.iconst 0, 1) := dk_3 (dk_at dksX12_seek_1 4 rfl rfl)
theorem dX12_seek_28 : decode cX12_seek 28 = .ok (.bastore, 1) := dk_84 (dk_at dksX12_seek_1 5 rfl rfl)
theorem dX12_seek_29 : decode cX12_seek 29 = .ok (.iinc 2 1, 3) := dk_132 2 1 (dk_at dksX12_seek_1 6 rfl rfl)
theorem dX12_seek_32 : decode cX12_seek 32 = .ok (.goto (-26), 3) := dk_167 255 230 (dk_at dksX12_seek_1 9 rfl rfl)
theorem dX12_seek_35 : decode cX12_seek 35 = .ok (.aload_n 0, 1) := dk_42 (dk_at dksX12_seek_1 12 rfl rfl)
theorem dX12_seek_36 : decode cX12_seek 36 = .ok (.invokevirtual 224, 3) := dk_182 0 224 (dk_at dksX12_seek_1 13 rfl rfl)
theorem dX12_seek_39 : decode cX12_seek 39 = .ok (.istore_n 2, 1) := dk_61 (dk_at dksX12_seek_1 16 rfl rfl)
theorem dX12_seek_40 : decode cX12_seek 40 = .ok (.aload_n 0, 1) := dk_42 (dk_at dksX12_seek_1 17 rfl rfl)
theorem dX12_seek_41 : decode cX12_seek 41 = .ok (.getfield 69, 3) := dk_180 0 69 (dk_at dksX12_seek_1 18 rfl rfl)
theorem dX12_seek_44 : decode cX12_seek 44 = .ok (.iload_n 2, 1) := dk_28 (dk_at dksX12_seek_1 21 rfl rfl)
theorem dX12_seek_45 : decode cX12_seek 45 = .ok (.iconst 0, 1) := dk_3 (dk_at dksX12_seek_1 22 rfl rfl)
theorem dX12_seek_46 : decode cX12_seek 46 = .ok (.iastore, 1) := dk_79 (dk_at dksX12_seek_1 23 rfl rfl)
theorem dX12_seek_47 : decode cX12_seek 47 = .ok (.aload_n 0, 1) := dk_42 (dk_at dksX12_seek_2 0 rfl rfl)
theorem dX12_seek_48 : decode cX12_seek 48 = .ok (.getfield 72, 3) := dk_180 0 72 (dk_at dksX12_seek_2 1 rfl rfl)
theorem dX12_seek_51 : decode cX12_seek 51 = .ok (.iconst 0, 1) := dk_3 (dk_at dksX12_seek_2 4 rfl rfl)
theorem dX12_seek_52 : decode cX12_seek 52 = .ok (.iload_n 2, 1) := dk_28 (dk_at dksX12_seek_2 5 rfl rfl)
theorem dX12_seek_53 : decode cX12_seek 53 = .ok (.iastore, 1) := dk_79 (dk_at dksX12_seek_2 6 rfl rfl)
theorem dX12_seek_54 : decode cX12_seek 54 = .ok (.aload_n 0, 1) := dk_42 (dk_at dksX12_seek_2 7 rfl rfl)
theorem dX12_seek_55 : decode cX12_seek 55 = .ok (.iconst 1, 1) := dk_4 (dk_at dksX12_seek_2 8 rfl rfl)
theorem dX12_seek_56 : decode cX12_seek 56 = .ok (.putfield 264, 3) := dk_181 1 8 (dk_at dksX12_seek_2 9 rfl rfl)
theorem dX12_seek_59 : decode cX12_seek 59 = .ok (.aload_n 0, 1) := dk_42 (dk_at dksX12_seek_2 12 rfl rfl)
theorem dX12_seek_60 : decode cX12_seek 60 = .ok (.getfield 75, 3) := dk_180 0 75 (dk_at dksX12_seek_2 13 rfl rfl)
theorem dX12_seek_63 : decode cX12_seek 63 = .ok (.iconst 0, 1) := dk_3 (dk_at dksX12_seek_2 16 rfl rfl)
theorem dX12_seek_64 : decode cX12_seek 64 = .ok (.iload_n 2, 1) := dk_28 (dk_at dksX12_seek_2 17 rfl rfl)
theorem dX12_seek_65 : decode cX12_seek 65 = .ok (.iastore, 1) := dk_79 (dk_at dksX12_seek_2 18 rfl rfl)
theorem dX12_seek_66 : decode cX12_seek 66 = .ok (.aload_n 0, 1) := dk_42 (dk_at dksX12_seek_2 19 rfl rfl)
theorem dX12_seek_67 : decode cX12_seek 67 = .ok (.getfield 78, 3) := dk_180 0 78 (dk_at dksX12_seek_2 20 rfl rfl)
theorem dX12_seek_70 : decode cX12_seek 70 = .ok (.iload_n 2, 1) := dk_28 (dk_at dksX12_seek_2 23 rfl rfl)
theorem dX12_seek_71 : decode cX12_seek 71 = .ok (.iconst 1, 1) := dk_4 (dk_at dksX12_seek_3 0 rfl rfl)
theorem dX12_seek_72 : decode cX12_seek 72 = .ok (.bastore, 1) := dk_84 (dk_at dksX12_seek_3 1 rfl rfl)
theorem dX12_seek_73 : decode cX12_seek 73 = .ok (.iconst 0, 1) := dk_3 (dk_at dksX12_seek_3 2 rfl rfl)
theorem dX12_seek_74 : decode cX12_seek 74 = .ok (.istore_n 3, 1) := dk_62 (dk_at dksX12_seek_3 3 rfl rfl)
theorem dX12_seek_75 : decode cX12_seek 75 = .ok (.iconst 1, 1) := dk_4 (dk_at dksX12_seek_3 4 rfl rfl)
theorem dX12_seek_76 : decode cX12_seek 76 = .ok (.istore 4, 2) := dk_54 4 (dk_at dksX12_seek_3 5 rfl rfl)
theorem dX12_seek_78 : decode cX12_seek 78 = .ok (.iload 4, 2) := dk_21 4 (dk_at dksX12_seek_3 7 rfl rfl)
theorem dX12_seek_80 : decode cX12_seek 80 = .ok (.ifCond .le 290, 3) := dk_158 1 34 (dk_at dksX12_seek_3 9 rfl rfl)
theorem dX12_seek_83 : decode cX12_seek 83 = .ok (.aload_n 0, 1) := dk_42 (dk_at dksX12_seek_3 12 rfl rfl)
theorem dX12_seek_84 : decode cX12_seek 84 = .ok (.getfield 75, 3) := dk_180 0 75 (dk_at dksX12_seek_3 13 rfl rfl)
theorem dX12_seek_87 : decode cX12_seek 87 = .ok (.iload_n 3, 1) := dk_29 (dk_at dksX12_seek_3 16 rfl rfl)
theorem dX12_seek_88 : decode cX12_seek 88 = .ok (.iaload, 1) := dk_46 (dk_at dksX12_seek_3 17 rfl rfl)
theorem dX12_seek_89 : decode cX12_seek 89 = .ok (.istore 5, 2) := dk_54 5 (dk_at dksX12_seek_3 18 rfl rfl)
theorem dX12_seek_91 : decode cX12_seek 91 = .ok (.iload_n 3, 1) := dk_29 (dk_at dksX12_seek_3 20 rfl rfl)
theorem dX12_seek_92 : decode cX12_seek 92 = .ok (.sipush 4499, 3) := dk_17 17 147 (dk_at dksX12_seek_3 21 rfl rfl)
theorem dX12_seek_95 : decode cX12_seek 95 = .ok (.if_icmp .ne 7, 3) := dk_160 0 7 (dk_at dksX12_seek_4 0 rfl rfl)
theorem dX12_seek_98 : decode cX12_seek 98 = .ok (.iconst 0, 1) := dk_3 (dk_at dksX12_seek_4 3 rfl rfl)
theorem dX12_seek_99 : decode cX12_seek 99 = .ok (.goto 6, 3) := dk_167 0 6 (dk_at dksX12_seek_4 4 rfl rfl)
theorem dX12_seek_102 : decode cX12_seek 102 = .ok (.iload_n 3, 1) := dk_29 (dk_at dksX12_seek_4 7 rfl rfl)
theorem dX12_seek_103 : decode cX12_seek 103 = .ok (.iconst 1, 1) := dk_4 (dk_at dksX12_seek_4 8 rfl rfl)
theorem dX12_seek_104 : decode cX12_seek 104 = .ok (.iadd, 1) := dk_96 (dk_at dksX12_seek_4 9 rfl rfl)
theorem dX12_seek_105 : decode cX12_seek 105 = .ok (.istore_n 3, 1) := dk_62 (dk_at dksX12_seek_4 10 rfl rfl)
theorem dX12_seek_106 : decode cX12_seek 106 = .ok (.iinc 4 (-1), 3) := dk_132 4 255 (dk_at dksX12_seek_4 11 rfl rfl)
theorem dX12_seek_109 : decode cX12_seek 109 = .ok (.aload_n 0, 1) := dk_42 (dk_at dksX12_seek_4 14 rfl rfl)
theorem dX12_seek_110 : decode cX12_seek 110 = .ok (.getfield 78, 3) := dk_180 0 78 (dk_at dksX12_seek_4 15 rfl rfl)
theorem dX12_seek_113 : decode cX12_seek 113 = .ok (.iload 5, 2) := dk_21 5 (dk_at dksX12_seek_4 18 rfl rfl)
theorem dX12_seek_115 : decode cX12_seek 115 = .ok (.iconst 0, 1) := dk_3 (dk_at dksX12_seek_4 20 rfl rfl)
theorem dX12_seek_116 : decode cX12_seek 116 = .ok (.bastore, 1) := dk_84 (dk_at dksX12_seek_4 21 rfl rfl)
theorem dX12_seek_117 : decode cX12_seek 117 = .ok (.aload_n 0, 1) := dk_42 (dk_at dksX12_seek_4 22 rfl rfl)
theorem dX12_seek_118 : decode cX12_seek 118 = .ok (.iload 5, 2) := dk_21 5 (dk_at dksX12_seek_5 0 rfl rfl)
theorem dX12_seek_120 : decode cX12_seek 120 = .ok (.invokevirtual 227, 3) := dk_182 0 227 (dk_at dksX12_seek_5 2 rfl rfl)
theorem dX12_seek_123 : decode cX12_seek 123 = .ok (.iconst 0, 1) := dk_3 (dk_at dksX12_seek_5 5 rfl rfl)
theorem dX12_seek_124 : decode cX12_seek 124 = .ok (.istore 6, 2) := dk_54 6 (dk_at dksX12_seek_5 6 rfl rfl)
theorem dX12_seek_126 : decode cX12_seek 126 = .ok (.iload 6, 2) := dk_21 6 (dk_at dksX12_seek_5 8 rfl rfl)
theorem dX12_seek_128 : decode cX12_seek 128 = .ok (.aload_n 0, 1) := dk_42 (dk_at dksX12_seek_5 10 rfl rfl)
theorem dX12_seek_129 : decode cX12_seek 129 = .ok (.getfield 243, 3) := dk_180 0 243 (dk_at dksX12_seek_5 11 rfl rfl)
theorem dX12_seek_132 : decode cX12_seek 132 = .ok (.if_icmp .ge 235, 3) := dk_162 0 235 (dk_at dksX12_seek_5 14 rfl rfl)
theorem dX12_seek_135 : decode cX12_seek 135 = .ok (.aload_n 0, 1) := dk_42 (dk_at dksX12_seek_5 17 rfl rfl)
theorem dX12_seek_136 : decode cX12_seek 136 = .ok (.aload_n 0, 1) := dk_42 (dk_at dksX12_seek_5 18 rfl rfl)
theorem dX12_seek_137 : decode cX12_seek 137 = .ok (.getfield 66, 3) := dk_180 0 66 (dk_at dksX12_seek_5 19 rfl rfl)
theorem dX12_seek_140 : decode cX12_seek 140 = .ok (.iload 6, 2) := dk_21 6 (dk_at dksX12_seek_5 22 rfl rfl)
theorem dX12_seek_142 : decode cX12_seek 142 = .ok (.iaload, 1) := dk_46 (dk_at dksX12_seek_6 0 rfl rfl)
theorem dX12_seek_143 : decode cX12_seek 143 = .ok (.invokevirtual 230, 3) := dk_182 0 230 (dk_at dksX12_seek_6 1 rfl rfl)
theorem dX12_seek_146 : decode cX12_seek 146 = .ok (.istore 7, 2) := dk_54 7 (dk_at dksX12_seek_6 4 rfl rfl)
theorem dX12_seek_148 : decode cX12_seek 148 = .ok (.iconst 0, 1) := dk_3 (dk_at dksX12_seek_6 6 rfl rfl)
theorem dX12_seek_149 : decode cX12_seek 149 = .ok (.istore 8, 2) := dk_54 8 (dk_at dksX12_seek_6 7 rfl rfl)
theorem dX12_seek_151 : decode cX12_seek 151 = .ok (.iload 8, 2) := dk_21 8 (dk_at dksX12_seek_6 9 rfl rfl)
theorem dX12_seek_153 : decode cX12_seek 153 = .ok (.iload_n 1, 1) := dk_27 (dk_at dksX12_seek_6 11 rfl rfl)
theorem dX12_seek_154 : decode cX12_seek 154 = .ok (.ifCond .eq 22, 3) := dk_153 0 22 (dk_at dksX12_seek_6 12 rfl rfl)
theorem dX12_seek_157 : decode cX12_seek 157 = .ok (.aload_n 0, 1) := dk_42 (dk_at dksX12_seek_6 15 rfl rfl)
theorem dX12_seek_158 : decode cX12_seek 158 = .ok (.getfield 66, 3) := dk_180 0 66 (dk_at dksX12_seek_6 16 rfl rfl)
theorem dX12_seek_161 : decode cX12_seek 161 = .ok (.iload 6, 2) := dk_21 6 (dk_at dksX12_seek_6 19 rfl rfl)
theorem dX12_seek_163 : decode cX12_seek 163 = .ok (.iaload, 1) := dk_46 (dk_at dksX12_seek_6 21 rfl rfl)
theorem dX12_seek_164 : decode cX12_seek 164 = .ok (.sipush 10000, 3) := dk_17 39 16 (dk_at dksX12_seek_7 0 rfl rfl)
theorem dX12_seek_167 : decode cX12_seek 167 = .ok (.idiv, 1) := dk_108 (dk_at dksX12_seek_7 3 rfl rfl)
theorem dX12_seek_168 : decode cX12_seek 168 = .ok (.iconst 3, 1) := dk_6 (dk_at dksX12_seek_7 4 rfl rfl)
theorem dX12_seek_169 : decode cX12_seek 169 = .ok (.if_icmp .ne 7, 3) := dk_160 0 7 (dk_at dksX12_seek_7 5 rfl rfl)
theorem dX12_seek_172 : decode cX12_seek 172 = .ok (.iconst 2, 1) := dk_5 (dk_at dksX12_seek_7 8 rfl rfl)
theorem dX12_seek_173 : decode cX12_seek 173 = .ok (.goto 4, 3) := dk_167 0 4 (dk_at dksX12_seek_7 9 rfl rfl)
theorem dX12_seek_176 : decode cX12_seek 176 = .ok (.iconst 1, 1) := dk_4 (dk_at dksX12_seek_7 12 rfl rfl)
theorem dX12_seek_177 : decode cX12_seek 177 = .ok (.if_icmp .ge 184, 3) := dk_162 0 184 (dk_at dksX12_seek_7 13 rfl rfl)
theorem dX12_seek_180 : decode cX12_seek 180 = .ok (.iload 7, 2) := dk_21 7 (dk_at dksX12_seek_7 16 rfl rfl)
theorem dX12_seek_182 : decode cX12_seek 182 = .ok (.ifCond .lt 179, 3) := dk_155 0 179 (dk_at dksX12_seek_7 18 rfl rfl)
theorem dX12_seek_185 : decode cX12_seek 185 = .ok (.aload_n 0, 1) := dk_42 (dk_at dksX12_seek_7 21 rfl rfl)
theorem dX12_seek_186 : decode cX12_seek 186 = .ok (.aload_n 0, 1) := dk_42 (dk_at dksX12_seek_7 22 rfl rfl)
theorem dX12_seek_187 : decode cX12_seek 187 = .ok (.getfield 66, 3) := dk_180 0 66 (dk_at dksX12_seek_8 0 rfl rfl)
theorem dX12_seek_190 : decode cX12_seek 190 = .ok (.iload 6, 2) := dk_21 6 (dk_at dksX12_seek_8 3 rfl rfl)
theorem dX12_seek_192 : decode cX12_seek 192 = .ok (.iaload, 1) := dk_46 (dk_at dksX12_seek_8 5 rfl rfl)
theorem dX12_seek_193 : decode cX12_seek 193 = .ok (.iload 8, 2) := dk_21 8 (dk_at dksX12_seek_8 6 rfl rfl)
theorem dX12_seek_195 : decode cX12_seek 195 = .ok (.iconst 1, 1) := dk_4 (dk_at dksX12_seek_8 8 rfl rfl)
theorem dX12_seek_196 : decode cX12_seek 196 = .ok (.if_icmp .ne 7, 3) := dk_160 0 7 (dk_at dksX12_seek_8 9 rfl rfl)
theorem dX12_seek_199 : decode cX12_seek 199 = .ok (.iconst 1, 1) := dk_4 (dk_at dksX12_seek_8 12 rfl rfl)
theorem dX12_seek_200 : decode cX12_seek 200 = .ok (.goto 4, 3) := dk_167 0 4 (dk_at dksX12_seek_8 13 rfl rfl)
theorem dX12_seek_203 : decode cX12_seek 203 = .ok (.iconst 0, 1) := dk_3 (dk_at dksX12_seek_8 16 rfl rfl)
theorem dX12_seek_204 : decode cX12_seek 204 = .ok (.invokevirtual 236, 3) := dk_182 0 236 (dk_at dksX12_seek_8 17 rfl rfl)
theorem dX12_seek_207 : decode cX12_seek 207 = .ok (.aload_n 0, 1) := dk_42 (dk_at dksX12_seek_8 20 rfl rfl)
theorem dX12_seek_208 : decode cX12_seek 208 = .ok (.invokevirtual 267, 3) := dk_182 1 11 (dk_at dksX12_seek_8 21 rfl rfl)
theorem dX12_seek_211 : decode cX12_seek 211 = .ok (.istore 9, 2) := dk_54 9 (dk_at dksX12_seek_9 0 rfl rfl)
theorem dX12_seek_213 : decode cX12_seek 213 = .ok (.aload_n 0, 1) := dk_42 (dk_at dksX12_seek_9 2 rfl rfl)
theorem dX12_seek_214 : decode cX12_seek 214 = .ok (.iload 5, 2) := dk_21 5 (dk_at dksX12_seek_9 3 rfl rfl)
theorem dX12_seek_216 : decode cX12_seek 216 = .ok (.invokevirtual 227, 3) := dk_182 0 227 (dk_at dksX12_seek_9 5 rfl rfl)
theorem dX12_seek_219 : decode cX12_seek 219 = .ok (.aload_n 0, 1) := dk_42 (dk_at dksX12_seek_9 8 rfl rfl)
theorem dX12_seek_220 : decode cX12_seek 220 = .ok (.getfield 69, 3) := dk_180 0 69 (dk_at dksX12_seek_9 9 rfl rfl)
theorem dX12_seek_223 : decode cX12_seek 223 = .ok (.iload 5, 2) := dk_21 5 (dk_at dksX12_seek_9 12 rfl rfl)
theorem dX12_seek_225 : decode cX12_seek 225 = .ok (.iaload, 1) := dk_46 (dk_at dksX12_seek_9 14 rfl rfl)
theorem dX12_seek_226 : decode cX12_seek 226 = .ok (.iload 7, 2) := dk_21 7 (dk_at dksX12_seek_9 15 rfl rfl)
theorem dX12_seek_228 : decode cX12_seek 228 = .ok (.iadd, 1) := dk_96 (dk_at dksX12_seek_9 17 rfl rfl)
theorem dX12_seek_229 : decode cX12_seek 229 = .ok (.aload_n 0, 1) := dk_42 (dk_at dksX12_seek_9 18 rfl rfl)
theorem dX12_seek_230 : decode cX12_seek 230 = .ok (.getfield 69, 3) := dk_180 0 69 (dk_at dksX12_seek_9 19 rfl rfl)
theorem dX12_seek_233 : decode cX12_seek 233 = .ok (.iload 9, 2) := dk_21 9 (dk_at dksX12_seek_9 22 rfl rfl)
theorem dX12_seek_235 : decode cX12_seek 235 = .ok (.iaload, 1) := dk_46 (dk_at dksX12_seek_10 0 rfl rfl)
theorem dX12_seek_236 : decode cX12_seek 236 = .ok (.if_icmp .ge 119, 3) := dk_162 0 119 (dk_at dksX12_seek_10 1 rfl rfl)
theorem dX12_seek_239 : decode cX12_seek 239 = .ok (.aload_n 0, 1) := dk_42 (dk_at dksX12_seek_10 4 rfl rfl)
theorem dX12_seek_240 : decode cX12_seek 240 = .ok (.getfield 72, 3) := dk_180 0 72 (dk_at dksX12_seek_10 5 rfl rfl)
theorem dX12_seek_243 : decode cX12_seek 243 = .ok (.aload_n 0, 1) := dk_42 (dk_at dksX12_seek_10 8 rfl rfl)
theorem dX12_seek_244 : decode cX12_seek 244 = .ok (.getfield 264, 3) := dk_180 1 8 (dk_at dksX12_seek_10 9 rfl rfl)
theorem dX12_seek_247 : decode cX12_seek 247 = .ok (.aload_n 0, 1) := dk_42 (dk_at dksX12_seek_10 12 rfl rfl)
theorem dX12_seek_248 : decode cX12_seek 248 = .ok (.getfield 69, 3) := dk_180 0 69 (dk_at dksX12_seek_10 13 rfl rfl)
theorem dX12_seek_251 : decode cX12_seek 251 = .ok (.iload 9, 2) := dk_21 9 (dk_at dksX12_seek_10 16 rfl rfl)
theorem dX12_seek_253 : decode cX12_seek 253 = .ok (.iaload, 1) := dk_46 (dk_at dksX12_seek_10 18 rfl rfl)
theorem dX12_seek_254 : decode cX12_seek 254 = .ok (.ldc_w 263, 3) := dk_19 1 7 (dk_at dksX12_seek_10 19 rfl rfl)
theorem dX12_seek_257 : decode cX12_seek 257 = .ok (.if_icmp .ne 8, 3) := dk_160 0 8 (dk_at dksX12_seek_11 0 rfl rfl)
theorem dX12_seek_260 : decode cX12_seek 260 = .ok (.iload 9, 2) := dk_21 9 (dk_at dksX12_seek_11 3 rfl rfl)
theorem dX12_seek_262 : decode cX12_seek 262 = .ok (.goto 12, 3) := dk_167 0 12 (dk_at dksX12_seek_11 5 rfl rfl)
theorem dX12_seek_265 : decode cX12_seek 265 = .ok (.aload_n 0, 1) := dk_42 (dk_at dksX12_seek_11 8 rfl rfl)
theorem dX12_seek_266 : decode cX12_seek 266 = .ok (.getfield 72, 3) := dk_180 0 72 (dk_at dksX12_seek_11 9 rfl rfl)
theorem dX12_seek_269 : decode cX12_seek 269 = .ok (.aload_n 0, 1) := dk_42 (dk_at dksX12_seek_11 12 rfl rfl)
theorem dX12_seek_270 : decode cX12_seek 270 = .ok (.getfield 264, 3) := dk_180 1 8 (dk_at dksX12_seek_11 13 rfl rfl)
theorem dX12_seek_273 : decode cX12_seek 273 = .ok (.iaload, 1) := dk_46 (dk_at dksX12_seek_11 16 rfl rfl)
theorem dX12_seek_274 : decode cX12_seek 274 = .ok (.iastore, 1) := dk_79 (dk_at dksX12_seek_11 17 rfl rfl)
theorem dX12_seek_275 : decode cX12_seek 275 = .ok (.aload_n 0, 1) := dk_42 (dk_at dksX12_seek_11 18 rfl rfl)
theorem dX12_seek_276 : decode cX12_seek 276 = .ok (.dup, 1) := dk_89 (dk_at dksX12_seek_11 19 rfl rfl)
theorem dX12_seek_277 : decode cX12_seek 277 = .ok (.getfield 264, 3) := dk_180 1 8 (dk_at dksX12_seek_11 20 rfl rfl)
theorem dX12_seek_280 : decode cX12_seek 280 = .ok (.aload_n 0, 1) := dk_42 (dk_at dksX12_seek_11 23 rfl rfl)
theorem dX12_seek_281 : decode cX12_seek 281 = .ok (.getfield 69, 3) := dk_180 0 69 (dk_at dksX12_seek_12 0 rfl rfl)
theorem dX12_seek_284 : decode cX12_seek 284 = .ok (.iload 9, 2) := dk_21 9 (dk_at dksX12_seek_12 3 rfl rfl)
theorem dX12_seek_286 : decode cX12_seek 286 = .ok (.iaload, 1) := dk_46 (dk_at dksX12_seek_12 5 rfl rfl)
theorem dX12_seek_287 : decode cX12_seek 287 = .ok (.ldc_w 263, 3) := dk_19 1 7 (dk_at dksX12_seek_12 6 rfl rfl)
theorem dX12_seek_290 : decode cX12_seek 290 = .ok (.if_icmp .ne 7, 3) := dk_160 0 7 (dk_at dksX12_seek_12 9 rfl rfl)
theorem dX12_seek_293 : decode cX12_seek 293 = .ok (.iconst 1, 1) := dk_4 (dk_at dksX12_seek_12 12 rfl rfl)
theorem dX12_seek_294 : decode cX12_seek 294 = .ok (.goto 4, 3) := dk_167 0 4 (dk_at dksX12_seek_12 13 rfl rfl)
theorem dX12_seek_297 : decode cX12_seek 297 = .ok (.iconst 0, 1) := dk_3 (dk_at dksX12_seek_12 16 rfl rfl)
theorem dX12_seek_298 : decode cX12_seek 298 = .ok (.iadd, 1) := dk_96 (dk_at dksX12_seek_12 17 rfl rfl)
theorem dX12_seek_299 : decode cX12_seek 299 = .ok (.putfield 264, 3) := dk_181 1 8 (dk_at dksX12_seek_12 18 rfl rfl)
theorem dX12_seek_302 : decode cX12_seek 302 = .ok (.aload_n 0, 1) := dk_42 (dk_at dksX12_seek_12 21 rfl rfl)
theorem dX12_seek_303 : decode cX12_seek 303 = .ok (.getfield 69, 3) := dk_180 0 69 (dk_at dksX12_seek_13 0 rfl rfl)
theorem dX12_seek_306 : decode cX12_seek 306 = .ok (.iload 9, 2) := dk_21 9 (dk_at dksX12_seek_13 3 rfl rfl)
theorem dX12_seek_308 : decode cX12_seek 308 = .ok (.aload_n 0, 1) := dk_42 (dk_at dksX12_seek_13 5 rfl rfl)
theorem dX12_seek_309 : decode cX12_seek 309 = .ok (.getfield 69, 3) := dk_180 0 69 (dk_at dksX12_seek_13 6 rfl rfl)
theorem dX12_seek_312 : decode cX12_seek 312 = .ok (.iload 5, 2) := dk_21 5 (dk_at dksX12_seek_13 9 rfl rfl)
theorem dX12_seek_314 : decode cX12_seek 314 = .ok (.iaload, 1) := dk_46 (dk_at dksX12_seek_13 11 rfl rfl)
theorem dX12_seek_315 : decode cX12_seek 315 = .ok (.iload 7, 2) := dk_21 7 (dk_at dksX12_seek_13 12 rfl rfl)
theorem dX12_seek_317 : decode cX12_seek 317 = .ok (.iadd, 1) := dk_96 (dk_at dksX12_seek_13 14 rfl rfl)
theorem dX12_seek_318 : decode cX12_seek 318 = .ok (.iastore, 1) := dk_79 (dk_at dksX12_seek_13 15 rfl rfl)
theorem dX12_seek_319 : decode cX12_seek 319 = .ok (.aload_n 0, 1) := dk_42 (dk_at dksX12_seek_13 16 rfl rfl)
theorem dX12_seek_320 : decode cX12_seek 320 = .ok (.getfield 78, 3) := dk_180 0 78 (dk_at dksX12_seek_13 17 rfl rfl)
theorem dX12_seek_323 : decode cX12_seek 323 = .ok (.iload 9, 2) := dk_21 9 (dk_at dksX12_seek_13 20 rfl rfl)
theorem dX12_seek_325 : decode cX12_seek 325 = .ok (.baload, 1) := dk_51 (dk_at dksX12_seek_13 22 rfl rfl)
theorem dX12_seek_326 : decode cX12_seek 326 = .ok (.ifCond .ne 29, 3) := dk_154 0 29 (dk_at dksX12_seek_14 0 rfl rfl)
theorem dX12_seek_329 : decode cX12_seek 329 = .ok (.aload_n 0, 1) := dk_42 (dk_at dksX12_seek_14 3 rfl rfl)
theorem dX12_seek_330 : decode cX12_seek 330 = .ok (.getfield 78, 3) := dk_180 0 78 (dk_at dksX12_seek_14 4 rfl rfl)
theorem dX12_seek_333 : decode cX12_seek 333 = .ok (.iload 9, 2) := dk_21 9 (dk_at dksX12_seek_14 7 rfl rfl)
theorem dX12_seek_335 : decode cX12_seek 335 = .ok (.iconst 1, 1) := dk_4 (dk_at dksX12_seek_14 9 rfl rfl)
theorem dX12_seek_336 : decode cX12_seek 336 = .ok (.bastore, 1) := dk_84 (dk_at dksX12_seek_14 10 rfl rfl)
theorem dX12_seek_337 : decode cX12_seek 337 = .ok (.aload_n 0, 1) := dk_42 (dk_at dksX12_seek_14 11 rfl rfl)
theorem dX12_seek_338 : decode cX12_seek 338 = .ok (.getfield 75, 3) := dk_180 0 75 (dk_at dksX12_seek_14 12 rfl rfl)
theorem dX12_seek_341 : decode cX12_seek 341 = .ok (.iload_n 3, 1) := dk_29 (dk_at dksX12_seek_14 15 rfl rfl)
theorem dX12_seek_342 : decode cX12_seek 342 = .ok (.iload 4, 2) := dk_21 4 (dk_at dksX12_seek_14 16 rfl rfl)
theorem dX12_seek_344 : decode cX12_seek 344 = .ok (.iadd, 1) := dk_96 (dk_at dksX12_seek_14 18 rfl rfl)
theorem dX12_seek_345 : decode cX12_seek 345 = .ok (.sipush 4500, 3) := dk_17 17 148 (dk_at dksX12_seek_14 19 rfl rfl)
theorem dX12_seek_348 : decode cX12_seek 348 = .ok (.irem, 1) := dk_112 (dk_at dksX12_seek_14 22 rfl rfl)
theorem dX12_seek_349 : decode cX12_seek 349 = .ok (.iload 9, 2) := dk_21 9 (dk_at dksX12_seek_15 0 rfl rfl)
theorem dX12_seek_351 : decode cX12_seek 351 = .ok (.iastore, 1) := dk_79 (dk_at dksX12_seek_15 2 rfl rfl)
theorem dX12_seek_352 : decode cX12_seek 352 = .ok (.iinc 4 1, 3) := dk_132 4 1 (dk_at dksX12_seek_15 3 rfl rfl)
theorem dX12_seek_355 : decode cX12_seek 355 = .ok (.iinc 8 1, 3) := dk_132 8 1 (dk_at dksX12_seek_15 6 rfl rfl)
theorem dX12_seek_358 : decode cX12_seek 358 = .ok (.goto (-207), 3) := dk_167 255 49 (dk_at dksX12_seek_15 9 rfl rfl)
theorem dX12_seek_361 : decode cX12_seek 361 = .ok (.iinc 6 1, 3) := dk_132 6 1 (dk_at dksX12_seek_15 12 rfl rfl)
theorem dX12_seek_364 : decode cX12_seek 364 = .ok (.goto (-238), 3) := dk_167 255 18 (dk_at dksX12_seek_15 15 rfl rfl)
theorem dX12_seek_367 : decode cX12_seek 367 = .ok (.goto (-289), 3) := dk_167 254 223 (dk_at dksX12_seek_15 18 rfl rfl)
theorem dX12_seek_370 : decode cX12_seek 370 = .ok (.return_, 1) := dk_177 (dk_at dksX12_seek_15 21 rfl rfl)
abbrev cX12_closed : ByteArray := prog_19_method_22_code
def yX12_closed : MethodName := ⟨RX12, "closed", "()I"⟩
def dkwX12_closed_1 : List UInt8 := [180, 0, 60, 5, 46, 104, 96, 8, 42, 180, 0, 60, 4, 46, 104, 96, 42, 180, 0, 60, 3, 46, 96, 172]
abbrev dktX12_closed_1 : List UInt8 := dkwX12_closed_1 ++ []
def dkwX12_closed_0 : List UInt8 := [16, 125, 16, 6, 42, 180, 0, 63, 4, 46, 104, 42, 180, 0, 63, 3, 46, 96, 104, 16, 25, 42]
abbrev dktX12_closed_0 : List UInt8 := dkwX12_closed_0 ++ dktX12_closed_1
theorem dksX12_closed_0 : cX12_closed.data.toList.drop 0 = dktX12_closed_0 := by decide +kernel
theorem dksX12_closed_1 : cX12_closed.data.toList.drop 22 = dktX12_closed_1 := dk_seg dksX12_closed_0 22 rfl rfl
theorem dX12_closed_0 : decode cX12_closed 0 = .ok (.bipush 125, 2) := dk_16 125 (dk_at dksX12_closed_0 0 rfl rfl)
theorem dX12_closed_2 : decode cX12_closed 2 = .ok (.bipush 6, 2) := dk_16 6 (dk_at dksX12_closed_0 2 rfl rfl)
theorem dX12_closed_4 : decode cX12_closed 4 = .ok (.aload_n 0, 1) := dk_42 (dk_at dksX12_closed_0 4 rfl rfl)
theorem dX12_closed_5 : decode cX12_closed 5 = .ok (.getfield 63, 3) := dk_180 0 63 (dk_at dksX12_closed_0 5 rfl rfl)
theorem dX12_closed_8 : decode cX12_closed 8 = .ok (.iconst 1, 1) := dk_4 (dk_at dksX12_closed_0 8 rfl rfl)
theorem dX12_closed_9 : decode cX12_closed 9 = .ok (.iaload, 1) := dk_46 (dk_at dksX12_closed_0 9 rfl rfl)
theorem dX12_closed_10 : decode cX12_closed 10 = .ok (.imul, 1) := dk_104 (dk_at dksX12_closed_0 10 rfl rfl)
theorem dX12_closed_11 : decode cX12_closed 11 = .ok (.aload_n 0, 1) := dk_42 (dk_at dksX12_closed_0 11 rfl rfl)
theorem dX12_closed_12 : decode cX12_closed 12 = .ok (.getfield 63, 3) := dk_180 0 63 (dk_at dksX12_closed_0 12 rfl rfl)
theorem dX12_closed_15 : decode cX12_closed 15 = .ok (.iconst 0, 1) := dk_3 (dk_at dksX12_closed_0 15 rfl rfl)
theorem dX12_closed_16 : decode cX12_closed 16 = .ok (.iaload, 1) := dk_46 (dk_at dksX12_closed_0 16 rfl rfl)
theorem dX12_closed_17 : decode cX12_closed 17 = .ok (.iadd, 1) := dk_96 (dk_at dksX12_closed_0 17 rfl rfl)
theorem dX12_closed_18 : decode cX12_closed 18 = .ok (.imul, 1) := dk_104 (dk_at dksX12_closed_0 18 rfl rfl)
theorem dX12_closed_19 : decode cX12_closed 19 = .ok (.bipush 25, 2) := dk_16 25 (dk_at dksX12_closed_0 19 rfl rfl)
theorem dX12_closed_21 : decode cX12_closed 21 = .ok (.aload_n 0, 1) := dk_42 (dk_at dksX12_closed_0 21 rfl rfl)
theorem dX12_closed_22 : decode cX12_closed 22 = .ok (.getfield 60, 3) := dk_180 0 60 (dk_at dksX12_closed_1 0 rfl rfl)
theorem dX12_closed_25 : decode cX12_closed 25 = .ok (.iconst 2, 1) := dk_5 (dk_at dksX12_closed_1 3 rfl rfl)
theorem dX12_closed_26 : decode cX12_closed 26 = .ok (.iaload, 1) := dk_46 (dk_at dksX12_closed_1 4 rfl rfl)
theorem dX12_closed_27 : decode cX12_closed 27 = .ok (.imul, 1) := dk_104 (dk_at dksX12_closed_1 5 rfl rfl)
theorem dX12_closed_28 : decode cX12_closed 28 = .ok (.iadd, 1) := dk_96 (dk_at dksX12_closed_1 6 rfl rfl)
theorem dX12_closed_29 : decode cX12_closed 29 = .ok (.iconst 5, 1) := dk_8 (dk_at dksX12_closed_1 7 rfl rfl)
theorem dX12_closed_30 : decode cX12_closed 30 = .ok (.aload_n 0, 1) := dk_42 (dk_at dksX12_closed_1 8 rfl rfl)
theorem dX12_closed_31 : decode cX12_closed 31 = .ok (.getfield 60, 3) := dk_180 0 60 (dk_at dksX12_closed_1 9 rfl rfl)
theorem dX12_closed_34 : decode cX12_closed 34 = .ok (.iconst 1, 1) := dk_4 (dk_at dksX12_closed_1 12 rfl rfl)
theorem dX12_closed_35 : decode cX12_closed 35 = .ok (.iaload, 1) := dk_46 (dk_at dksX12_closed_1 13 rfl rfl)
theorem dX12_closed_36 : decode cX12_closed 36 = .ok (.imul, 1) := dk_104 (dk_at dksX12_closed_1 14 rfl rfl)
theorem dX12_closed_37 : decode cX12_closed 37 = .ok (.iadd, 1) := dk_96 (dk_at dksX12_closed_1 15 rfl rfl)
theorem dX12_closed_38 : decode cX12_closed 38 = .ok (.aload_n 0, 1) := dk_42 (dk_at dksX12_closed_1 16 rfl rfl)
theorem dX12_closed_39 : decode cX12_closed 39 = .ok (.getfield 60, 3) := dk_180 0 60 (dk_at dksX12_closed_1 17 rfl rfl)
theorem dX12_closed_42 : decode cX12_closed 42 = .ok (.iconst 0, 1) := dk_3 (dk_at dksX12_closed_1 20 rfl rfl)
theorem dX12_closed_43 : decode cX12_closed 43 = .ok (.iaload, 1) := dk_46 (dk_at dksX12_closed_1 21 rfl rfl)
theorem dX12_closed_44 : decode cX12_closed 44 = .ok (.iadd, 1) := dk_96 (dk_at dksX12_closed_1 22 rfl rfl)
theorem dX12_closed_45 : decode cX12_closed 45 = .ok (.ireturn, 1) := dk_172 (dk_at dksX12_closed_1 23 rfl rfl)
abbrev cX12_isDownState : ByteArray := prog_19_method_42_code
def yX12_isDownState : MethodName := ⟨RX12, "isDownState", "(I)Z"⟩
def dkwX12_isDownState_0 : List UInt8 := [42, 27, 182, 0, 227, 42, 182, 0, 249, 172]
abbrev dktX12_isDownState_0 : List UInt8 := dkwX12_isDownState_0 ++ []
theorem dksX12_isDownState_0 : cX12_isDownState.data.toList.drop 0 = dktX12_isDownState_0 := by decide +kernel
theorem dX12_isDownState_0 : decode cX12_isDownState 0 = .ok (.aload_n 0, 1) := dk_42 (dk_at dksX12_isDownState_0 0 rfl rfl)
theorem dX12_isDownState_1 : decode cX12_isDownState 1 = .ok (.iload_n 1, 1) := dk_27 (dk_at dksX12_isDownState_0 1 rfl rfl)
theorem dX12_isDownState_2 : decode cX12_isDownState 2 = .ok (.invokevirtual 227, 3) := dk_182 0 227 (dk_at dksX12_isDownState_0 2 rfl rfl)
theorem dX12_isDownState_5 : decode cX12_isDownState 5 = .ok (.aload_n 0, 1) := dk_42 (dk_at dksX12_isDownState_0 5 rfl rfl)
theorem dX12_isDownState_6 : decode cX12_isDownState 6 = .ok (.invokevirtual 249, 3) := dk_182 0 249 (dk_at dksX12_isDownState_0 6 rfl rfl)
theorem dX12_isDownState_9 : decode cX12_isDownState 9 = .ok (.ireturn, 1) := dk_172 (dk_at dksX12_isDownState_0 9 rfl rfl)
abbrev cX12_first : ByteArray := prog_19_method_45_code
def yX12_first : MethodName := ⟨RX12, "first", "()I"⟩
def dkwX12_first_6 : List UInt8 := [21, 4, 4, 84, 4, 61, 132, 3, 255, 167, 255, 201, 167, 255, 185, 42, 42, 182, 0, 224, 182, 1, 23, 172]
abbrev dktX12_first_6 : List UInt8 := dkwX12_first_6 ++ []
def dkwX12_first_5 : List UInt8 := [180, 0, 69, 21, 4, 46, 27, 162, 0, 22, 42, 21, 4, 182, 1, 23, 155, 0, 13, 42, 180, 0, 81]
abbrev dktX12_first_5 : List UInt8 := dkwX12_first_5 ++ dktX12_first_6
def dkwX12_first_4 : List UInt8 := [155, 0, 57, 42, 180, 0, 72, 29, 46, 54, 4, 42, 180, 0, 81, 21, 4, 51, 154, 0, 33, 42]
abbrev dktX12_first_4 : List UInt8 := dkwX12_first_4 ++ dktX12_first_5
def dkwX12_first_3 : List UInt8 := [132, 2, 1, 167, 255, 201, 4, 61, 28, 153, 0, 73, 3, 61, 42, 180, 1, 8, 4, 100, 62, 29]
abbrev dktX12_first_3 : List UInt8 := dkwX12_first_3 ++ dktX12_first_4
def dkwX12_first_2 : List UInt8 := [27, 160, 0, 20, 42, 42, 180, 0, 72, 28, 46, 182, 1, 17, 153, 0, 7, 4, 167, 0, 4, 3, 84]
abbrev dktX12_first_2 : List UInt8 := dkwX12_first_2 ++ dktX12_first_3
def dkwX12_first_1 : List UInt8 := [162, 0, 53, 42, 180, 0, 81, 42, 180, 0, 72, 28, 46, 42, 180, 0, 69, 42, 180, 0, 72, 28, 46, 46]
abbrev dktX12_first_1 : List UInt8 := dkwX12_first_1 ++ dktX12_first_2
def dkwX12_first_0 : List UInt8 := [42, 3, 181, 0, 115, 42, 182, 1, 20, 60, 27, 157, 0, 6, 16, 252, 172, 3, 61, 28, 42, 180, 1, 8]
abbrev dktX12_first_0 : List UInt8 := dkwX12_first_0 ++ dktX12_first_1
theorem dksX12_first_0 : cX12_first.data.toList.drop 0 = dktX12_first_0 := by decide +kernel
theorem dksX12_first_1 : cX12_first.data.toList.drop 24 = dktX12_first_1 := dk_seg dksX12_first_0 24 rfl rfl
theorem dksX12_first_2 : cX12_first.data.toList.drop 48 = dktX12_first_2 := dk_seg dksX12_first_1 24 rfl rfl
theorem dksX12_first_3 : cX12_first.data.toList.drop 71 = dktX12_first_3 := dk_seg dksX12_first_2 23 rfl rfl
theorem dksX12_first_4 : cX12_first.data.toList.drop 93 = dktX12_first_4 := dk_seg dksX12_first_3 22 rfl rfl
theorem dksX12_first_5 : cX12_first.data.toList.drop 115 = dktX12_first_5 := dk_seg dksX12_first_4 22 rfl rfl
theorem dksX12_first_6 : cX12_first.data.toList.drop 138 = dktX12_first_6 := dk_seg dksX12_first_5 23 rfl rfl
theorem dX12_first_0 : decode cX12_first 0 = .ok (.aload_n 0, 1) := dk_42 (dk_at dksX12_first_0 0 rfl rfl)
theorem dX12_first_1 : decode cX12_first 1 = .ok (.iconst 0, 1) := dk_3 (dk_at dksX12_first_0 1 rfl rfl)
theorem dX12_first_2 : decode cX12_first 2 = .ok (.putfield 115, 3) := dk_181 0 115 (dk_at dksX12_first_0 2 rfl rfl)
theorem dX12_first_5 : decode cX12_first 5 = .ok (.aload_n 0, 1) := dk_42 (dk_at dksX12_first_0 5 rfl rfl)
theorem dX12_first_6 : decode cX12_first 6 = .ok (.invokevirtual 276, 3) := dk_182 1 20 (dk_at dksX12_first_0 6 rfl rfl)
theorem dX12_first_9 : decode cX12_first 9 = .ok (.istore_n 1, 1) := dk_60 (dk_at dksX12_first_0 9 rfl rfl)
theorem dX12_first_10 : decode cX12_first 10 = .ok (.iload_n 1, 1) := dk_27 (dk_at dksX12_first_0 10 rfl rfl)
theorem dX12_first_11 : decode cX12_first 11 = .ok (.ifCond .gt 6, 3) := dk_157 0 6 (dk_at dksX12_first_0 11 rfl rfl)
theorem dX12_first_14 : decode cX12_first 14 = .ok (.bipush (-4), 2) := dk_16 252 (dk_at dksX12_first_0 14 rfl rfl)
theorem dX12_first_16 : decode cX12_first 16 = .ok (.ireturn, 1) := dk_172 (dk_at dksX12_first_0 16 rfl rfl)
theorem dX12_first_17 : decode cX12_first 17 = .ok (.iconst 0, 1) := dk_3 (dk_at dksX12_first_0 17 rfl rfl)
theorem dX12_first_18 : decode cX12_first 18 = .ok (.istore_n 2, 1) := dk_61 (dk_at dksX12_first_0 18 rfl rfl)
theorem dX12_first_19 : decode cX12_first 19 = .ok (.iload_n 2, 1) := dk_28 (dk_at dksX12_first_0 19 rfl rfl)
theorem dX12_first_20 : decode cX12_first 20 = .ok (.aload_n 0, 1) := dk_42 (dk_at dksX12_first_0 20 rfl rfl)
theorem dX12_first_21 : decode cX12_first 21 = .ok (.getfield 264, 3) := dk_180 1 8 (dk_at dksX12_first_0 21 rfl rfl)
theorem dX12_first_24 : decode cX12_first 24 = .ok (.if_icmp .ge 53, 3) := dk_162 0 53 (dk_at dksX12_first_1 0 rfl rfl)
theorem dX12_first_27 : decode cX12_first 27 = .ok (.aload_n 0, 1) := dk_42 (dk_at dksX12_first_1 3 rfl rfl)
theorem dX12_first_28 : decode cX12_first 28 = .ok (.getfield 81, 3) := dk_180 0 81 (dk_at dksX12_first_1 4 rfl rfl)
theorem dX12_first_31 : decode cX12_first 31 = .ok (.aload_n 0, 1) := dk_42 (dk_at dksX12_first_1 7 rfl rfl)
theorem dX12_first_32 : decode cX12_first 32 = .ok (.getfield 72, 3) := dk_180 0 72 (dk_at dksX12_first_1 8 rfl rfl)
theorem dX12_first_35 : decode cX12_first 35 = .ok (.iload_n 2, 1) := dk_28 (dk_at dksX12_first_1 11 rfl rfl)
theorem dX12_first_36 : decode cX12_first 36 = .ok (.iaload, 1) := dk_46 (dk_at dksX12_first_1 12 rfl rfl)
theorem dX12_first_37 : decode cX12_first 37 = .ok (.aload_n 0, 1) := dk_42 (dk_at dksX12_first_1 13 rfl rfl)
theorem dX12_first_38 : decode cX12_first 38 = .ok (.getfield 69, 3) := dk_180 0 69 (dk_at dksX12_first_1 14 rfl rfl)
theorem dX12_first_41 : decode cX12_first 41 = .ok (.aload_n 0, 1) := dk_42 (dk_at dksX12_first_1 17 rfl rfl)
theorem dX12_first_42 : decode cX12_first 42 = .ok (.getfield 72, 3) := dk_180 0 72 (dk_at dksX12_first_1 18 rfl rfl)
theorem dX12_first_45 : decode cX12_first 45 = .ok (.iload_n 2, 1) := dk_28 (dk_at dksX12_first_1 21 rfl rfl)
theorem dX12_first_46 : decode cX12_first 46 = .ok (.iaload, 1) := dk_46 (dk_at dksX12_first_1 22 rfl rfl)
theorem dX12_first_47 : decode cX12_first 47 = .ok (.iaload, 1) := dk_46 (dk_at dksX12_first_1 23 rfl rfl)
theorem dX12_first_48 : decode cX12_first 48 = .ok (.iload_n 1, 1) := dk_27 (dk_at dksX12_first_2 0 rfl rfl)
theorem dX12_first_49 : decode cX12_first 49 = .ok (.if_icmp .ne 20, 3) := dk_160 0 20 (dk_at dksX12_first_2 1 rfl rfl)
theorem dX12_first_52 : decode cX12_first 52 = .ok (.aload_n 0, 1) := dk_42 (dk_at dksX12_first_2 4 rfl rfl)
theorem dX12_first_53 : decode cX12_first 53 = .ok (.aload_n 0, 1) := dk_42 (dk_at dksX12_first_2 5 rfl rfl)
theorem dX12_first_54 : decode cX12_first 54 = .ok (.getfield 72, 3) := dk_180 0 72 (dk_at dksX12_first_2 6 rfl rfl)
theorem dX12_first_57 : decode cX12_first 57 = .ok (.iload_n 2, 1) := dk_28 (dk_at dksX12_first_2 9 rfl rfl)
theorem dX12_first_58 : decode cX12_first 58 = .ok (.iaload, 1) := dk_46 (dk_at dksX12_first_2 10 rfl rfl)
theorem dX12_first_59 : decode cX12_first 59 = .ok (.invokevirtual 273, 3) := dk_182 1 17 (dk_at dksX12_first_2 11 rfl rfl)
theorem dX12_first_62 : decode cX12_first 62 = .ok (.ifCond .eq 7, 3) := dk_153 0 7 (dk_at dksX12_first_2 14 rfl rfl)
theorem dX12_first_65 : decode cX12_first 65 = .ok (.iconst 1, 1) := dk_4 (dk_at dksX12_first_2 17 rfl rfl)
theorem dX12_first_66 : decode cX12_first 66 = .ok (.goto 4, 3) := dk_167 0 4 (dk_at dksX12_first_2 18 rfl rfl)
theorem dX12_first_69 : decode cX12_first 69 = .ok (.iconst 0, 1) := dk_3 (dk_at dksX12_first_2 21 rfl rfl)
theorem dX12_first_70 : decode cX12_first 70 = .ok (.bastore, 1) := dk_84 (dk_at dksX12_first_2 22 rfl rfl)
theorem dX12_first_71 : decode cX12_first 71 = .ok (.iinc 2 1, 3) := dk_132 2 1 (dk_at dksX12_first_3 0 rfl rfl)
theorem dX12_first_74 : decode cX12_first 74 = .ok (.goto (-55), 3) := dk_167 255 201 (dk_at dksX12_first_3 3 rfl rfl)
theorem dX12_first_77 : decode cX12_first 77 = .ok (.iconst 1, 1) := dk_4 (dk_at dksX12_first_3 6 rfl rfl)
theorem dX12_first_78 : decode cX12_first 78 = .ok (.istore_n 2, 1) := dk_61 (dk_at dksX12_first_3 7 rfl rfl)
theorem dX12_first_79 : decode cX12_first 79 = .ok (.iload_n 2, 1) := dk_28 (dk_at dksX12_first_3 8 rfl rfl)
theorem dX12_first_80 : decode cX12_first 80 = .ok (.ifCond .eq 73, 3) := dk_153 0 73 (dk_at dksX12_first_3 9 rfl rfl)
theorem dX12_first_83 : decode cX12_first 83 = .ok (.iconst 0, 1) := dk_3 (dk_at dksX12_first_3 12 rfl rfl)
theorem dX12_first_84 : decode cX12_first 84 = .ok (.istore_n 2, 1) := dk_61 (dk_at dksX12_first_3 13 rfl rfl)
theorem dX12_first_85 : decode cX12_first 85 = .ok (.aload_n 0, 1) := dk_42 (dk_at dksX12_first_3 14 rfl rfl)
theorem dX12_first_86 : decode cX12_first 86 = .ok (.getfield 264, 3) := dk_180 1 8 (dk_at dksX12_first_3 15 rfl rfl)
theorem dX12_first_89 : decode cX12_first 89 = .ok (.iconst 1, 1) := dk_4 (dk_at dksX12_first_3 18 rfl rfl)
theorem dX12_first_90 : decode cX12_first 90 = .ok (.isub, 1) := dk_100 (dk_at dksX12_first_3 19 rfl rfl)
theorem dX12_first_91 : decode cX12_first 91 = .ok (.istore_n 3, 1) := dk_62 (dk_at dksX12_first_3 20 rfl rfl)
theorem dX12_first_92 : decode cX12_first 92 = .ok (.iload_n 3, 1) := dk_29 (dk_at dksX12_first_3 21 rfl rfl)
theorem dX12_first_93 : decode cX12_first 93 = .ok (.ifCond .lt 57, 3) := dk_155 0 57 (dk_at dksX12_first_4 0 rfl rfl)
theorem dX12_first_96 : decode cX12_first 96 = .ok (.aload_n 0, 1) := dk_42 (dk_at dksX12_first_4 3 rfl rfl)
theorem dX12_first_97 : decode cX12_first 97 = .ok (.getfield 72, 3) := dk_180 0 72 (dk_at dksX12_first_4 4 rfl rfl)
theorem dX12_first_100 : decode cX12_first 100 = .ok (.iload_n 3, 1) := dk_29 (dk_at dksX12_first_4 7 rfl rfl)
theorem dX12_first_101 : decode cX12_first 101 = .ok (.iaload, 1) := dk_46 (dk_at dksX12_first_4 8 rfl rfl)
theorem dX12_first_102 : decode cX12_first 102 = .ok (.istore 4, 2) := dk_54 4 (dk_at dksX12_first_4 9 rfl rfl)
theorem dX12_first_104 : decode cX12_first 104 = .ok (.aload_n 0, 1) := dk_42 (dk_at dksX12_first_4 11 rfl rfl)
theorem dX12_first_105 : decode cX12_first 105 = .ok (.getfield 81, 3) := dk_180 0 81 (dk_at dksX12_first_4 12 rfl rfl)
theorem dX12_first_108 : decode cX12_first 108 = .ok (.iload 4, 2) := dk_21 4 (dk_at dksX12_first_4 15 rfl rfl)
theorem dX12_first_110 : decode cX12_first 110 = .ok (.baload, 1) := dk_51 (dk_at dksX12_first_4 17 rfl rfl)
theorem dX12_first_111 : decode cX12_first 111 = .ok (.ifCond .ne 33, 3) := dk_154 0 33 (dk_at dksX12_first_4 18 rfl rfl)
theorem dX12_first_114 : decode cX12_first 114 = .ok (.aload_n 0, 1) := dk_42 (dk_at dksX12_first_4 21 rfl rfl)
theorem dX12_first_115 : decode cX12_first 115 = .ok (.getfield 69, 3) := dk_180 0 69 (dk_at dksX12_first_5 0 rfl rfl)
theorem dX12_first_118 : decode cX12_first 118 = .ok (.iload 4, 2) := dk_21 4 (dk_at dksX12_first_5 3 rfl rfl)
theorem dX12_first_120 : decode cX12_first 120 = .ok (.iaload, 1) := dk_46 (dk_at dksX12_first_5 5 rfl rfl)
theorem dX12_first_121 : decode cX12_first 121 = .ok (.iload_n 1, 1) := dk_27 (dk_at dksX12_first_5 6 rfl rfl)
theorem dX12_first_122 : decode cX12_first 122 = .ok (.if_icmp .ge 22, 3) := dk_162 0 22 (dk_at dksX12_first_5 7 rfl rfl)
theorem dX12_first_125 : decode cX12_first 125 = .ok (.aload_n 0, 1) := dk_42 (dk_at dksX12_first_5 10 rfl rfl)
theorem dX12_first_126 : decode cX12_first 126 = .ok (.iload 4, 2) := dk_21 4 (dk_at dksX12_first_5 11 rfl rfl)
theorem dX12_first_128 : decode cX12_first 128 = .ok (.invokevirtual 279, 3) := dk_182 1 23 (dk_at dksX12_first_5 13 rfl rfl)
theorem dX12_first_131 : decode cX12_first 131 = .ok (.ifCond .lt 13, 3) := dk_155 0 13 (dk_at dksX12_first_5 16 rfl rfl)
theorem dX12_first_134 : decode cX12_first 134 = .ok (.aload_n 0, 1) := dk_42 (dk_at dksX12_first_5 19 rfl rfl)
theorem dX12_first_135 : decode cX12_first 135 = .ok (.getfield 81, 3) := dk_180 0 81 (dk_at dksX12_first_5 20 rfl rfl)
theorem dX12_first_138 : decode cX12_first 138 = .ok (.iload 4, 2) := dk_21 4 (dk_at dksX12_first_6 0 rfl rfl)
theorem dX12_first_140 : decode cX12_first 140 = .ok (.iconst 1, 1) := dk_4 (dk_at dksX12_first_6 2 rfl rfl)
theorem dX12_first_141 : decode cX12_first 141 = .ok (.bastore, 1) := dk_84 (dk_at dksX12_first_6 3 rfl rfl)
theorem dX12_first_142 : decode cX12_first 142 = .ok (.iconst 1, 1) := dk_4 (dk_at dksX12_first_6 4 rfl rfl)
theorem dX12_first_143 : decode cX12_first 143 = .ok (.istore_n 2, 1) := dk_61 (dk_at dksX12_first_6 5 rfl rfl)
theorem dX12_first_144 : decode cX12_first 144 = .ok (.iinc 3 (-1), 3) := dk_132 3 255 (dk_at dksX12_first_6 6 rfl rfl)
theorem dX12_first_147 : decode cX12_first 147 = .ok (.goto (-55), 3) := dk_167 255 201 (dk_at dksX12_first_6 9 rfl rfl)
theorem dX12_first_150 : decode cX12_first 150 = .ok (.goto (-71), 3) := dk_167 255 185 (dk_at dksX12_first_6 12 rfl rfl)
theorem dX12_first_153 : decode cX12_first 153 = .ok (.aload_n 0, 1) := dk_42 (dk_at dksX12_first_6 15 rfl rfl)
theorem dX12_first_154 : decode cX12_first 154 = .ok (.aload_n 0, 1) := dk_42 (dk_at dksX12_first_6 16 rfl rfl)
theorem dX12_first_155 : decode cX12_first 155 = .ok (.invokevirtual 224, 3) := dk_182 0 224 (dk_at dksX12_first_6 17 rfl rfl)
theorem dX12_first_158 : decode cX12_first 158 = .ok (.invokevirtual 279, 3) := dk_182 1 23 (dk_at dksX12_first_6 20 rfl rfl)
theorem dX12_first_161 : decode cX12_first 161 = .ok (.ireturn, 1) := dk_172 (dk_at dksX12_first_6 23 rfl rfl)
abbrev cX12_wayFrom : ByteArray := prog_19_method_46_code
def yX12_wayFrom : MethodName := ⟨RX12, "wayFrom", "(I)I"⟩
def dkwX12_wayFrom_4 : List UInt8 := [16, 252, 172]
abbrev dktX12_wayFrom_4 : List UInt8 := dkwX12_wayFrom_4 ++ []
def dkwX12_wayFrom_3 : List UInt8 := [96, 42, 180, 0, 69, 21, 4, 46, 160, 0, 10, 42, 180, 0, 66, 28, 46, 172, 132, 2, 1, 167, 255, 173]
abbrev dktX12_wayFrom_3 : List UInt8 := dkwX12_wayFrom_3 ++ dktX12_wayFrom_4
def dkwX12_wayFrom_2 : List UInt8 := [54, 4, 42, 27, 182, 0, 227, 42, 180, 0, 81, 21, 4, 51, 153, 0, 28, 42, 180, 0, 69, 27, 46, 29]
abbrev dktX12_wayFrom_2 : List UInt8 := dkwX12_wayFrom_2 ++ dktX12_wayFrom_3
def dkwX12_wayFrom_1 : List UInt8 := [182, 0, 230, 62, 29, 155, 0, 60, 42, 42, 180, 0, 66, 28, 46, 3, 182, 0, 236, 42, 182, 1, 11]
abbrev dktX12_wayFrom_1 : List UInt8 := dkwX12_wayFrom_1 ++ dktX12_wayFrom_2
def dkwX12_wayFrom_0 : List UInt8 := [42, 27, 182, 0, 227, 3, 61, 28, 42, 180, 0, 243, 162, 0, 81, 42, 42, 180, 0, 66, 28, 46]
abbrev dktX12_wayFrom_0 : List UInt8 := dkwX12_wayFrom_0 ++ dktX12_wayFrom_1
theorem dksX12_wayFrom_0 : cX12_wayFrom.data.toList.drop 0 = dktX12_wayFrom_0 := by decide +kernel
theorem dksX12_wayFrom_1 : cX12_wayFrom.data.toList.drop 22 = dktX12_wayFrom_1 := dk_seg dksX12_wayFrom_0 22 rfl rfl
theorem dksX12_wayFrom_2 : cX12_wayFrom.data.toList.drop 45 = dktX12_wayFrom_2 := dk_seg dksX12_wayFrom_1 23 rfl rfl
theorem dksX12_wayFrom_3 : cX12_wayFrom.data.toList.drop 69 = dktX12_wayFrom_3 := dk_seg dksX12_wayFrom_2 24 rfl rfl
theorem dksX12_wayFrom_4 : cX12_wayFrom.data.toList.drop 93 = dktX12_wayFrom_4 := dk_seg dksX12_wayFrom_3 24 rfl rfl
theorem dX12_wayFrom_0 : decode cX12_wayFrom 0 = .ok (.aload_n 0, 1) := dk_42 (dk_at dksX12_wayFrom_0 0 rfl rfl)
theorem dX12_wayFrom_1 : decode cX12_wayFrom 1 = .ok (.iload_n 1, 1) := dk_27 (dk_at dksX12_wayFrom_0 1 rfl rfl)
theorem dX12_wayFrom_2 : decode cX12_wayFrom 2 = .ok (.invokevirtual 227, 3) := dk_182 0 227 (dk_at dksX12_wayFrom_0 2 rfl rfl)
theorem dX12_wayFrom_5 : decode cX12_wayFrom 5 = .ok (.iconst 0, 1) := dk_3 (dk_at dksX12_wayFrom_0 5 rfl rfl)
theorem dX12_wayFrom_6 : decode cX12_wayFrom 6 = .ok (.istore_n 2, 1) := dk_61 (dk_at dksX12_wayFrom_0 6 rfl rfl)
theorem dX12_wayFrom_7 : decode cX12_wayFrom 7 = .ok (.iload_n 2, 1) := dk_28 (dk_at dksX12_wayFrom_0 7 rfl rfl)
theorem dX12_wayFrom_8 : decode cX12_wayFrom 8 = .ok (.aload_n 0, 1) := dk_42 (dk_at dksX12_wayFrom_0 8 rfl rfl)
theorem dX12_wayFrom_9 : decode cX12_wayFrom 9 = .ok (.getfield 243, 3) := dk_180 0 243 (dk_at dksX12_wayFrom_0 9 rfl rfl)
theorem dX12_wayFrom_12 : decode cX12_wayFrom 12 = .ok (.if_icmp .ge 81, 3) := dk_162 0 81 (dk_at dksX12_wayFrom_0 12 rfl rfl)
theorem dX12_wayFrom_15 : decode cX12_wayFrom 15 = .ok (.aload_n 0, 1) := dk_42 (dk_at dksX12_wayFrom_0 15 rfl rfl)
theorem dX12_wayFrom_16 : decode cX12_wayFrom 16 = .ok (.aload_n 0, 1) := dk_42 (dk_at dksX12_wayFrom_0 16 rfl rfl)
theorem dX12_wayFrom_17 : decode cX12_wayFrom 17 = .ok (.getfield 66, 3) := dk_180 0 66 (dk_at dksX12_wayFrom_0 17 rfl rfl)
theorem dX12_wayFrom_20 : decode cX12_wayFrom 20 = .ok (.iload_n 2, 1) := dk_28 (dk_at dksX12_wayFrom_0 20 rfl rfl)
theorem dX12_wayFrom_21 : decode cX12_wayFrom 21 = .ok (.iaload, 1) := dk_46 (dk_at dksX12_wayFrom_0 21 rfl rfl)
theorem dX12_wayFrom_22 : decode cX12_wayFrom 22 = .ok (.invokevirtual 230, 3) := dk_182 0 230 (dk_at dksX12_wayFrom_1 0 rfl rfl)
theorem dX12_wayFrom_25 : decode cX12_wayFrom 25 = .ok (.istore_n 3, 1) := dk_62 (dk_at dksX12_wayFrom_1 3 rfl rfl)
theorem dX12_wayFrom_26 : decode cX12_wayFrom 26 = .ok (.iload_n 3, 1) := dk_29 (dk_at dksX12_wayFrom_1 4 rfl rfl)
theorem dX12_wayFrom_27 : decode cX12_wayFrom 27 = .ok (.ifCond .lt 60, 3) := dk_155 0 60 (dk_at dksX12_wayFrom_1 5 rfl rfl)
theorem dX12_wayFrom_30 : decode cX12_wayFrom 30 = .ok (.aload_n 0, 1) := dk_42 (dk_at dksX12_wayFrom_1 8 rfl rfl)
theorem dX12_wayFrom_31 : decode cX12_wayFrom 31 = .ok (.aload_n 0, 1) := dk_42 (dk_at dksX12_wayFrom_1 9 rfl rfl)
theorem dX12_wayFrom_32 : decode cX12_wayFrom 32 = .ok (.getfield 66, 3) := dk_180 0 66 (dk_at dksX12_wayFrom_1 10 rfl rfl)
theorem dX12_wayFrom_35 : decode cX12_wayFrom 35 = .ok (.iload_n 2, 1) := dk_28 (dk_at dksX12_wayFrom_1 13 rfl rfl)
theorem dX12_wayFrom_36 : decode cX12_wayFrom 36 = .ok (.iaload, 1) := dk_46 (dk_at dksX12_wayFrom_1 14 rfl rfl)
theorem dX12_wayFrom_37 : decode cX12_wayFrom 37 = .ok (.iconst 0, 1) := dk_3 (dk_at dksX12_wayFrom_1 15 rfl rfl)
theorem dX12_wayFrom_38 : decode cX12_wayFrom 38 = .ok (.invokevirtual 236, 3) := dk_182 0 236 (dk_at dksX12_wayFrom_1 16 rfl rfl)
theorem dX12_wayFrom_41 : decode cX12_wayFrom 41 = .ok (.aload_n 0, 1) := dk_42 (dk_at dksX12_wayFrom_1 19 rfl rfl)
theorem dX12_wayFrom_42 : decode cX12_wayFrom 42 = .ok (.invokevirtual 267, 3) := dk_182 1 11 (dk_at dksX12_wayFrom_1 20 rfl rfl)
theorem dX12_wayFrom_45 : decode cX12_wayFrom 45 = .ok (.istore 4, 2) := dk_54 4 (dk_at dksX12_wayFrom_2 0 rfl rfl)
theorem dX12_wayFrom_47 : decode cX12_wayFrom 47 = .ok (.aload_n 0, 1) := dk_42 (dk_at dksX12_wayFrom_2 2 rfl rfl)
theorem dX12_wayFrom_48 : decode cX12_wayFrom 48 = .ok (.iload_n 1, 1) := dk_27 (dk_at dksX12_wayFrom_2 3 rfl rfl)
theorem dX12_wayFrom_49 : decode cX12_wayFrom 49 = .ok (.invokevirtual 227, 3) := dk_182 0 227 (dk_at dksX12_wayFrom_2 4 rfl rfl)
theorem dX12_wayFrom_52 : decode cX12_wayFrom 52 = .ok (.aload_n 0, 1) := dk_42 (dk_at dksX12_wayFrom_2 7 rfl rfl)
theorem dX12_wayFrom_53 : decode cX12_wayFrom 53 = .ok (.getfield 81, 3) := dk_180 0 81 (dk_at dksX12_wayFrom_2 8 rfl rfl)
theorem dX12_wayFrom_56 : decode cX12_wayFrom 56 = .ok (.iload 4, 2) := dk_21 4 (dk_at dksX12_wayFrom_2 11 rfl rfl)
theorem dX12_wayFrom_58 : decode cX12_wayFrom 58 = .ok (.baload, 1) := dk_51 (dk_at dksX12_wayFrom_2 13 rfl rfl)
theorem dX12_wayFrom_59 : decode cX12_wayFrom 59 = .ok (.ifCond .eq 28, 3) := dk_153 0 28 (dk_at dksX12_wayFrom_2 14 rfl rfl)
theorem dX12_wayFrom_62 : decode cX12_wayFrom 62 = .ok (.aload_n 0, 1) := dk_42 (dk_at dksX12_wayFrom_2 17 rfl rfl)
theorem dX12_wayFrom_63 : decode cX12_wayFrom 63 = .ok (.getfield 69, 3) := dk_180 0 69 (dk_at dksX12_wayFrom_2 18 rfl rfl)
theorem dX12_wayFrom_66 : decode cX12_wayFrom 66 = .ok (.iload_n 1, 1) := dk_27 (dk_at dksX12_wayFrom_2 21 rfl rfl)
theorem dX12_wayFrom_67 : decode cX12_wayFrom 67 = .ok (.iaload, 1) := dk_46 (dk_at dksX12_wayFrom_2 22 rfl rfl)
theorem dX12_wayFrom_68 : decode cX12_wayFrom 68 = .ok (.iload_n 3, 1) := dk_29 (dk_at dksX12_wayFrom_2 23 rfl rfl)
theorem dX12_wayFrom_69 : decode cX12_wayFrom 69 = .ok (.iadd, 1) := dk_96 (dk_at dksX12_wayFrom_3 0 rfl rfl)
theorem dX12_wayFrom_70 : decode cX12_wayFrom 70 = .ok (.aload_n 0, 1) := dk_42 (dk_at dksX12_wayFrom_3 1 rfl rfl)
theorem dX12_wayFrom_71 : decode cX12_wayFrom 71 = .ok (.getfield 69, 3) := dk_180 0 69 (dk_at dksX12_wayFrom_3 2 rfl rfl)
theorem dX12_wayFrom_74 : decode cX12_wayFrom 74 = .ok (.iload 4, 2) := dk_21 4 (dk_at dksX12_wayFrom_3 5 rfl rfl)
theorem dX12_wayFrom_76 : decode cX12_wayFrom 76 = .ok (.iaload, 1) := dk_46 (dk_at dksX12_wayFrom_3 7 rfl rfl)
theorem dX12_wayFrom_77 : decode cX12_wayFrom 77 = .ok (.if_icmp .ne 10, 3) := dk_160 0 10 (dk_at dksX12_wayFrom_3 8 rfl rfl)
theorem dX12_wayFrom_80 : decode cX12_wayFrom 80 = .ok (.aload_n 0, 1) := dk_42 (dk_at dksX12_wayFrom_3 11 rfl rfl)
theorem dX12_wayFrom_81 : decode cX12_wayFrom 81 = .ok (.getfield 66, 3) := dk_180 0 66 (dk_at dksX12_wayFrom_3 12 rfl rfl)
theorem dX12_wayFrom_84 : decode cX12_wayFrom 84 = .ok (.iload_n 2, 1) := dk_28 (dk_at dksX12_wayFrom_3 15 rfl rfl)
theorem dX12_wayFrom_85 : decode cX12_wayFrom 85 = .ok (.iaload, 1) := dk_46 (dk_at dksX12_wayFrom_3 16 rfl rfl)
theorem dX12_wayFrom_86 : decode cX12_wayFrom 86 = .ok (.ireturn, 1) := dk_172 (dk_at dksX12_wayFrom_3 17 rfl rfl)
theorem dX12_wayFrom_87 : decode cX12_wayFrom 87 = .ok (.iinc 2 1, 3) := dk_132 2 1 (dk_at dksX12_wayFrom_3 18 rfl rfl)
theorem dX12_wayFrom_90 : decode cX12_wayFrom 90 = .ok (.goto (-83), 3) := dk_167 255 173 (dk_at dksX12_wayFrom_3 21 rfl rfl)
theorem dX12_wayFrom_93 : decode cX12_wayFrom 93 = .ok (.bipush (-4), 2) := dk_16 252 (dk_at dksX12_wayFrom_4 0 rfl rfl)
theorem dX12_wayFrom_95 : decode cX12_wayFrom 95 = .ok (.ireturn, 1) := dk_172 (dk_at dksX12_wayFrom_4 2 rfl rfl)
abbrev cX12_left : ByteArray := prog_19_method_49_code
def yX12_left : MethodName := ⟨RX12, "left", "(II)I"⟩
def dkwX12_left_1 : List UInt8 := [153, 0, 12, 42, 27, 28, 182, 1, 31, 167, 0, 4, 2, 172]
abbrev dktX12_left_1 : List UInt8 := dkwX12_left_1 ++ []
def dkwX12_left_0 : List UInt8 := [42, 3, 181, 0, 115, 27, 133, 9, 20, 1, 29, 184, 0, 121, 153, 0, 22, 28, 133, 9, 10, 184, 0, 121]
abbrev dktX12_left_0 : List UInt8 := dkwX12_left_0 ++ dktX12_left_1
theorem dksX12_left_0 : cX12_left.data.toList.drop 0 = dktX12_left_0 := by decide +kernel
theorem dksX12_left_1 : cX12_left.data.toList.drop 24 = dktX12_left_1 := dk_seg dksX12_left_0 24 rfl rfl
theorem dX12_left_0 : decode cX12_left 0 = .ok (.aload_n 0, 1) := dk_42 (dk_at dksX12_left_0 0 rfl rfl)
theorem dX12_left_1 : decode cX12_left 1 = .ok (.iconst 0, 1) := dk_3 (dk_at dksX12_left_0 1 rfl rfl)
theorem dX12_left_2 : decode cX12_left 2 = .ok (.putfield 115, 3) := dk_181 0 115 (dk_at dksX12_left_0 2 rfl rfl)
theorem dX12_left_5 : decode cX12_left 5 = .ok (.iload_n 1, 1) := dk_27 (dk_at dksX12_left_0 5 rfl rfl)
theorem dX12_left_6 : decode cX12_left 6 = .ok (.i2l, 1) := dk_133 (dk_at dksX12_left_0 6 rfl rfl)
theorem dX12_left_7 : decode cX12_left 7 = .ok (.lconst 0, 1) := dk_9 (dk_at dksX12_left_0 7 rfl rfl)
theorem dX12_left_8 : decode cX12_left 8 = .ok (.ldc2_w 285, 3) := dk_20 1 29 (dk_at dksX12_left_0 8 rfl rfl)
theorem dX12_left_11 : decode cX12_left 11 = .ok (.invokestatic 121, 3) := dk_184 0 121 (dk_at dksX12_left_0 11 rfl rfl)
theorem dX12_left_14 : decode cX12_left 14 = .ok (.ifCond .eq 22, 3) := dk_153 0 22 (dk_at dksX12_left_0 14 rfl rfl)
theorem dX12_left_17 : decode cX12_left 17 = .ok (.iload_n 2, 1) := dk_28 (dk_at dksX12_left_0 17 rfl rfl)
theorem dX12_left_18 : decode cX12_left 18 = .ok (.i2l, 1) := dk_133 (dk_at dksX12_left_0 18 rfl rfl)
theorem dX12_left_19 : decode cX12_left 19 = .ok (.lconst 0, 1) := dk_9 (dk_at dksX12_left_0 19 rfl rfl)
theorem dX12_left_20 : decode cX12_left 20 = .ok (.lconst 1, 1) := dk_10 (dk_at dksX12_left_0 20 rfl rfl)
theorem dX12_left_21 : decode cX12_left 21 = .ok (.invokestatic 121, 3) := dk_184 0 121 (dk_at dksX12_left_0 21 rfl rfl)
theorem dX12_left_24 : decode cX12_left 24 = .ok (.ifCond .eq 12, 3) := dk_153 0 12 (dk_at dksX12_left_1 0 rfl rfl)
theorem dX12_left_27 : decode cX12_left 27 = .ok (.aload_n 0, 1) := dk_42 (dk_at dksX12_left_1 3 rfl rfl)
theorem dX12_left_28 : decode cX12_left 28 = .ok (.iload_n 1, 1) := dk_27 (dk_at dksX12_left_1 4 rfl rfl)
theorem dX12_left_29 : decode cX12_left 29 = .ok (.iload_n 2, 1) := dk_28 (dk_at dksX12_left_1 5 rfl rfl)
theorem dX12_left_30 : decode cX12_left 30 = .ok (.invokevirtual 287, 3) := dk_182 1 31 (dk_at dksX12_left_1 6 rfl rfl)
theorem dX12_left_33 : decode cX12_left 33 = .ok (.goto 4, 3) := dk_167 0 4 (dk_at dksX12_left_1 9 rfl rfl)
theorem dX12_left_36 : decode cX12_left 36 = .ok (.iconst (-1), 1) := dk_2 (dk_at dksX12_left_1 12 rfl rfl)
theorem dX12_left_37 : decode cX12_left 37 = .ok (.ireturn, 1) := dk_172 (dk_at dksX12_left_1 13 rfl rfl)
abbrev cX12_leftWithin : ByteArray := prog_19_method_48_code
def yX12_leftWithin : MethodName := ⟨RX12, "leftWithin", "(II)I"⟩
def dkwX12_leftWithin_5 : List UInt8 := [62, 132, 5, 1, 167, 255, 148, 28, 154, 0, 7, 29, 167, 0, 5, 21, 4, 172]
abbrev dktX12_leftWithin_5 : List UInt8 := dkwX12_leftWithin_5 ++ []
def dkwX12_leftWithin_4 : List UInt8 := [46, 167, 0, 5, 21, 4, 54, 4, 29, 155, 0, 9, 21, 7, 29, 162, 0, 8, 21, 7, 167, 0, 4, 29]
abbrev dktX12_leftWithin_4 : List UInt8 := dkwX12_leftWithin_4 ++ dktX12_leftWithin_5
def dkwX12_leftWithin_3 : List UInt8 := [21, 7, 29, 160, 0, 25, 42, 180, 0, 69, 21, 6, 46, 21, 4, 162, 0, 13, 42, 180, 0, 69, 21, 6]
abbrev dktX12_leftWithin_3 : List UInt8 := dkwX12_leftWithin_3 ++ dktX12_leftWithin_4
def dkwX12_leftWithin_2 : List UInt8 := [182, 1, 17, 153, 0, 70, 42, 21, 6, 182, 1, 26, 54, 7, 29, 155, 0, 27, 21, 7, 29, 161, 0, 21]
abbrev dktX12_leftWithin_2 : List UInt8 := dkwX12_leftWithin_2 ++ dktX12_leftWithin_3
def dkwX12_leftWithin_1 : List UInt8 := [180, 0, 72, 21, 5, 46, 54, 6, 42, 180, 0, 69, 21, 6, 46, 27, 163, 0, 79, 42, 21, 6]
abbrev dktX12_leftWithin_1 : List UInt8 := dkwX12_leftWithin_1 ++ dktX12_leftWithin_2
def dkwX12_leftWithin_0 : List UInt8 := [42, 182, 1, 14, 16, 252, 62, 16, 252, 54, 4, 3, 54, 5, 21, 5, 42, 180, 1, 8, 162, 0, 105, 42]
abbrev dktX12_leftWithin_0 : List UInt8 := dkwX12_leftWithin_0 ++ dktX12_leftWithin_1
theorem dksX12_leftWithin_0 : cX12_leftWithin.data.toList.drop 0 = dktX12_leftWithin_0 := by decide +kernel
theorem dksX12_leftWithin_1 : cX12_leftWithin.data.toList.drop 24 = dktX12_leftWithin_1 := dk_seg dksX12_leftWithin_0 24 rfl rfl
theorem dksX12_leftWithin_2 : cX12_leftWithin.data.toList.drop 46 = dktX12_leftWithin_2 := dk_seg dksX12_leftWithin_1 22 rfl rfl
theorem dksX12_leftWithin_3 : cX12_leftWithin.data.toList.drop 70 = dktX12_leftWithin_3 := dk_seg dksX12_leftWithin_2 24 rfl rfl
theorem dksX12_leftWithin_4 : cX12_leftWithin.data.toList.drop 94 = dktX12_leftWithin_4 := dk_seg dksX12_leftWithin_3 24 rfl rfl
theorem dksX12_leftWithin_5 : cX12_leftWithin.data.toList.drop 118 = dktX12_leftWithin_5 := dk_seg dksX12_leftWithin_4 24 rfl rfl
theorem dX12_leftWithin_0 : decode cX12_leftWithin 0 = .ok (.aload_n 0, 1) := dk_42 (dk_at dksX12_leftWithin_0 0 rfl rfl)
theorem dX12_leftWithin_1 : decode cX12_leftWithin 1 = .ok (.invokevirtual 270, 3) := dk_182 1 14 (dk_at dksX12_leftWithin_0 1 rfl rfl)
theorem dX12_leftWithin_4 : decode cX12_leftWithin 4 = .ok (.bipush (-4), 2) := dk_16 252 (dk_at dksX12_leftWithin_0 4 rfl rfl)
theorem dX12_leftWithin_6 : decode cX12_leftWithin 6 = .ok (.istore_n 3, 1) := dk_62 (dk_at dksX12_leftWithin_0 6 rfl rfl)
theorem dX12_leftWithin_7 : decode cX12_leftWithin 7 = .ok (.bipush (-4), 2) := dk_16 252 (dk_at dksX12_leftWithin_0 7 rfl rfl)
theorem dX12_leftWithin_9 : decode cX12_leftWithin 9 = .ok (.istore 4, 2) := dk_54 4 (dk_at dksX12_leftWithin_0 9 rfl rfl)
theorem dX12_leftWithin_11 : decode cX12_leftWithin 11 = .ok (.iconst 0, 1) := dk_3 (dk_at dksX12_leftWithin_0 11 rfl rfl)
theorem dX12_leftWithin_12 : decode cX12_leftWithin 12 = .ok (.istore 5, 2) := dk_54 5 (dk_at dksX12_leftWithin_0 12 rfl rfl)
theorem dX12_leftWithin_14 : decode cX12_leftWithin 14 = .ok (.iload 5, 2) := dk_21 5 (dk_at dksX12_leftWithin_0 14 rfl rfl)
theorem dX12_leftWithin_16 : decode cX12_leftWithin 16 = .ok (.aload_n 0, 1) := dk_42 (dk_at dksX12_leftWithin_0 16 rfl rfl)
theorem dX12_leftWithin_17 : decode cX12_leftWithin 17 = .ok (.getfield 264, 3) := dk_180 1 8 (dk_at dksX12_leftWithin_0 17 rfl rfl)
theorem dX12_leftWithin_20 : decode cX12_leftWithin 20 = .ok (.if_icmp .ge 105, 3) := dk_162 0 105 (dk_at dksX12_leftWithin_0 20 rfl rfl)
theorem dX12_leftWithin_23 : decode cX12_leftWithin 23 = .ok (.aload_n 0, 1) := dk_42 (dk_at dksX12_leftWithin_0 23 rfl rfl)
theorem dX12_leftWithin_24 : decode cX12_leftWithin 24 = .ok (.getfield 72, 3) := dk_180 0 72 (dk_at dksX12_leftWithin_1 0 rfl rfl)
theorem dX12_leftWithin_27 : decode cX12_leftWithin 27 = .ok (.iload 5, 2) := dk_21 5 (dk_at dksX12_leftWithin_1 3 rfl rfl)
theorem dX12_leftWithin_29 : decode cX12_leftWithin 29 = .ok (.iaload, 1) := dk_46 (dk_at dksX12_leftWithin_1 5 rfl rfl)
theorem dX12_leftWithin_30 : decode cX12_leftWithin 30 = .ok (.istore 6, 2) := dk_54 6 (dk_at dksX12_leftWithin_1 6 rfl rfl)
theorem dX12_leftWithin_32 : decode cX12_leftWithin 32 = .ok (.aload_n 0, 1) := dk_42 (dk_at dksX12_leftWithin_1 8 rfl rfl)
theorem dX12_leftWithin_33 : decode cX12_leftWithin 33 = .ok (.getfield 69, 3) := dk_180 0 69 (dk_at dksX12_leftWithin_1 9 rfl rfl)
theorem dX12_leftWithin_36 : decode cX12_leftWithin 36 = .ok (.iload 6, 2) := dk_21 6 (dk_at dksX12_leftWithin_1 12 rfl rfl)
theorem dX12_leftWithin_38 : decode cX12_leftWithin 38 = .ok (.iaload, 1) := dk_46 (dk_at dksX12_leftWithin_1 14 rfl rfl)
theorem dX12_leftWithin_39 : decode cX12_leftWithin 39 = .ok (.iload_n 1, 1) := dk_27 (dk_at dksX12_leftWithin_1 15 rfl rfl)
theorem dX12_leftWithin_40 : decode cX12_leftWithin 40 = .ok (.if_icmp .gt 79, 3) := dk_163 0 79 (dk_at dksX12_leftWithin_1 16 rfl rfl)
theorem dX12_leftWithin_43 : decode cX12_leftWithin 43 = .ok (.aload_n 0, 1) := dk_42 (dk_at dksX12_leftWithin_1 19 rfl rfl)
theorem dX12_leftWithin_44 : decode cX12_leftWithin 44 = .ok (.iload 6, 2) := dk_21 6 (dk_at dksX12_leftWithin_1 20 rfl rfl)
theorem dX12_leftWithin_46 : decode cX12_leftWithin 46 = .ok (.invokevirtual 273, 3) := dk_182 1 17 (dk_at dksX12_leftWithin_2 0 rfl rfl)
theorem dX12_leftWithin_49 : decode cX12_leftWithin 49 = .ok (.ifCond .eq 70, 3) := dk_153 0 70 (dk_at dksX12_leftWithin_2 3 rfl rfl)
theorem dX12_leftWithin_52 : decode cX12_leftWithin 52 = .ok (.aload_n 0, 1) := dk_42 (dk_at dksX12_leftWithin_2 6 rfl rfl)
theorem dX12_leftWithin_53 : decode cX12_leftWithin 53 = .ok (.iload 6, 2) := dk_21 6 (dk_at dksX12_leftWithin_2 7 rfl rfl)
theorem dX12_leftWithin_55 : decode cX12_leftWithin 55 = .ok (.invokevirtual 282, 3) := dk_182 1 26 (dk_at dksX12_leftWithin_2 9 rfl rfl)
theorem dX12_leftWithin_58 : decode cX12_leftWithin 58 = .ok (.istore 7, 2) := dk_54 7 (dk_at dksX12_leftWithin_2 12 rfl rfl)
theorem dX12_leftWithin_60 : decode cX12_leftWithin 60 = .ok (.iload_n 3, 1) := dk_29 (dk_at dksX12_leftWithin_2 14 rfl rfl)
theorem dX12_leftWithin_61 : decode cX12_leftWithin 61 = .ok (.ifCond .lt 27, 3) := dk_155 0 27 (dk_at dksX12_leftWithin_2 15 rfl rfl)
theorem dX12_leftWithin_64 : decode cX12_leftWithin 64 = .ok (.iload 7, 2) := dk_21 7 (dk_at dksX12_leftWithin_2 18 rfl rfl)
theorem dX12_leftWithin_66 : decode cX12_leftWithin 66 = .ok (.iload_n 3, 1) := dk_29 (dk_at dksX12_leftWithin_2 20 rfl rfl)
theorem dX12_leftWithin_67 : decode cX12_leftWithin 67 = .ok (.if_icmp .lt 21, 3) := dk_161 0 21 (dk_at dksX12_leftWithin_2 21 rfl rfl)
theorem dX12_leftWithin_70 : decode cX12_leftWithin 70 = .ok (.iload 7, 2) := dk_21 7 (dk_at dksX12_leftWithin_3 0 rfl rfl)
theorem dX12_leftWithin_72 : decode cX12_leftWithin 72 = .ok (.iload_n 3, 1) := dk_29 (dk_at dksX12_leftWithin_3 2 rfl rfl)
theorem dX12_leftWithin_73 : decode cX12_leftWithin 73 = .ok (.if_icmp .ne 25, 3) := dk_160 0 25 (dk_at dksX12_leftWithin_3 3 rfl rfl)
theorem dX12_leftWithin_76 : decode cX12_leftWithin 76 = .ok (.aload_n 0, 1) := dk_42 (dk_at dksX12_leftWithin_3 6 rfl rfl)
theorem dX12_leftWithin_77 : decode cX12_leftWithin 77 = .ok (.getfield 69, 3) := dk_180 0 69 (dk_at dksX12_leftWithin_3 7 rfl rfl)
theorem dX12_leftWithin_80 : decode cX12_leftWithin 80 = .ok (.iload 6, 2) := dk_21 6 (dk_at dksX12_leftWithin_3 10 rfl rfl)
theorem dX12_leftWithin_82 : decode cX12_leftWithin 82 = .ok (.iaload, 1) := dk_46 (dk_at dksX12_leftWithin_3 12 rfl rfl)
theorem dX12_leftWithin_83 : decode cX12_leftWithin 83 = .ok (.iload 4, 2) := dk_21 4 (dk_at dksX12_leftWithin_3 13 rfl rfl)
theorem dX12_leftWithin_85 : decode cX12_leftWithin 85 = .ok (.if_icmp .ge 13, 3) := dk_162 0 13 (dk_at dksX12_leftWithin_3 15 rfl rfl)
theorem dX12_leftWithin_88 : decode cX12_leftWithin 88 = .ok (.aload_n 0, 1) := dk_42 (dk_at dksX12_leftWithin_3 18 rfl rfl)
theorem dX12_leftWithin_89 : decode cX12_leftWithin 89 = .ok (.getfield 69, 3) := dk_180 0 69 (dk_at dksX12_leftWithin_3 19 rfl rfl)
theorem dX12_leftWithin_92 : decode cX12_leftWithin 92 = .ok (.iload 6, 2) := dk_21 6 (dk_at dksX12_leftWithin_3 22 rfl rfl)
theorem dX12_leftWithin_94 : decode cX12_leftWithin 94 = .ok (.iaload, 1) := dk_46 (dk_at dksX12_leftWithin_4 0 rfl rfl)
theorem dX12_leftWithin_95 : decode cX12_leftWithin 95 = .ok (.goto 5, 3) := dk_167 0 5 (dk_at dksX12_leftWithin_4 1 rfl rfl)
theorem dX12_leftWithin_98 : decode cX12_leftWithin 98 = .ok (.iload 4, 2) := dk_21 4 (dk_at dksX12_leftWithin_4 4 rfl rfl)
theorem dX12_leftWithin_100 : decode cX12_leftWithin 100 = .ok (.istore 4, 2) := dk_54 4 (dk_at dksX12_leftWithin_4 6 rfl rfl)
theorem dX12_leftWithin_102 : decode cX12_leftWithin 102 = .ok (.iload_n 3, 1) := dk_29 (dk_at dksX12_leftWithin_4 8 rfl rfl)
theorem dX12_leftWithin_103 : decode cX12_leftWithin 103 = .ok (.ifCond .lt 9, 3) := dk_155 0 9 (dk_at dksX12_leftWithin_4 9 rfl rfl)
theorem dX12_leftWithin_106 : decode cX12_leftWithin 106 = .ok (.iload 7, 2) := dk_21 7 (dk_at dksX12_leftWithin_4 12 rfl rfl)
theorem dX12_leftWithin_108 : decode cX12_leftWithin 108 = .ok (.iload_n 3, 1) := dk_29 (dk_at dksX12_leftWithin_4 14 rfl rfl)
theorem dX12_leftWithin_109 : decode cX12_leftWithin 109 = .ok (.if_icmp .ge 8, 3) := dk_162 0 8 (dk_at dksX12_leftWithin_4 15 rfl rfl)
theorem dX12_leftWithin_112 : decode cX12_leftWithin 112 = .ok (.iload 7, 2) := dk_21 7 (dk_at dksX12_leftWithin_4 18 rfl rfl)
theorem dX12_leftWithin_114 : decode cX12_leftWithin 114 = .ok (.goto 4, 3) := dk_167 0 4 (dk_at dksX12_leftWithin_4 20 rfl rfl)
theorem dX12_leftWithin_117 : decode cX12_leftWithin 117 = .ok (.iload_n 3, 1) := dk_29 (dk_at dksX12_leftWithin_4 23 rfl rfl)
theorem dX12_leftWithin_118 : decode cX12_leftWithin 118 = .ok (.istore_n 3, 1) := dk_62 (dk_at dksX12_leftWithin_5 0 rfl rfl)
theorem dX12_leftWithin_119 : decode cX12_leftWithin 119 = .ok (.iinc 5 1, 3) := dk_132 5 1 (dk_at dksX12_leftWithin_5 1 rfl rfl)
theorem dX12_leftWithin_122 : decode cX12_leftWithin 122 = .ok (.goto (-108), 3) := dk_167 255 148 (dk_at dksX12_leftWithin_5 4 rfl rfl)
theorem dX12_leftWithin_125 : decode cX12_leftWithin 125 = .ok (.iload_n 2, 1) := dk_28 (dk_at dksX12_leftWithin_5 7 rfl rfl)
theorem dX12_leftWithin_126 : decode cX12_leftWithin 126 = .ok (.ifCond .ne 7, 3) := dk_154 0 7 (dk_at dksX12_leftWithin_5 8 rfl rfl)
theorem dX12_leftWithin_129 : decode cX12_leftWithin 129 = .ok (.iload_n 3, 1) := dk_29 (dk_at dksX12_leftWithin_5 11 rfl rfl)
theorem dX12_leftWithin_130 : decode cX12_leftWithin 130 = .ok (.goto 5, 3) := dk_167 0 5 (dk_at dksX12_leftWithin_5 12 rfl rfl)
theorem dX12_leftWithin_133 : decode cX12_leftWithin 133 = .ok (.iload 4, 2) := dk_21 4 (dk_at dksX12_leftWithin_5 15 rfl rfl)
theorem dX12_leftWithin_135 : decode cX12_leftWithin 135 = .ok (.ireturn, 1) := dk_172 (dk_at dksX12_leftWithin_5 17 rfl rfl)
abbrev cX12_leftIn : ByteArray := prog_19_method_47_code
def yX12_leftIn : MethodName := ⟨RX12, "leftIn", "(I)I"⟩
def dkwX12_leftIn_1 : List UInt8 := [8, 160, 0, 7, 4, 167, 0, 4, 3, 96, 61, 132, 3, 1, 167, 255, 227, 28, 172]
abbrev dktX12_leftIn_1 : List UInt8 := dkwX12_leftIn_1 ++ []
def dkwX12_leftIn_0 : List UInt8 := [42, 27, 182, 0, 227, 3, 61, 3, 62, 29, 42, 180, 0, 170, 162, 0, 27, 28, 42, 180, 0, 63, 29, 46]
abbrev dktX12_leftIn_0 : List UInt8 := dkwX12_leftIn_0 ++ dktX12_leftIn_1
theorem dksX12_leftIn_0 : cX12_leftIn.data.toList.drop 0 = dktX12_leftIn_0 := by decide +kernel
theorem dksX12_leftIn_1 : cX12_leftIn.data.toList.drop 24 = dktX12_leftIn_1 := dk_seg dksX12_leftIn_0 24 rfl rfl
theorem dX12_leftIn_0 : decode cX12_leftIn 0 = .ok (.aload_n 0, 1) := dk_42 (dk_at dksX12_leftIn_0 0 rfl rfl)
theorem dX12_leftIn_1 : decode cX12_leftIn 1 = .ok (.iload_n 1, 1) := dk_27 (dk_at dksX12_leftIn_0 1 rfl rfl)
theorem dX12_leftIn_2 : decode cX12_leftIn 2 = .ok (.invokevirtual 227, 3) := dk_182 0 227 (dk_at dksX12_leftIn_0 2 rfl rfl)
theorem dX12_leftIn_5 : decode cX12_leftIn 5 = .ok (.iconst 0, 1) := dk_3 (dk_at dksX12_leftIn_0 5 rfl rfl)
theorem dX12_leftIn_6 : decode cX12_leftIn 6 = .ok (.istore_n 2, 1) := dk_61 (dk_at dksX12_leftIn_0 6 rfl rfl)
theorem dX12_leftIn_7 : decode cX12_leftIn 7 = .ok (.iconst 0, 1) := dk_3 (dk_at dksX12_leftIn_0 7 rfl rfl)
theorem dX12_leftIn_8 : decode cX12_leftIn 8 = .ok (.istore_n 3, 1) := dk_62 (dk_at dksX12_leftIn_0 8 rfl rfl)
theorem dX12_leftIn_9 : decode cX12_leftIn 9 = .ok (.iload_n 3, 1) := dk_29 (dk_at dksX12_leftIn_0 9 rfl rfl)
theorem dX12_leftIn_10 : decode cX12_leftIn 10 = .ok (.aload_n 0, 1) := dk_42 (dk_at dksX12_leftIn_0 10 rfl rfl)
theorem dX12_leftIn_11 : decode cX12_leftIn 11 = .ok (.getfield 170, 3) := dk_180 0 170 (dk_at dksX12_leftIn_0 11 rfl rfl)
theorem dX12_leftIn_14 : decode cX12_leftIn 14 = .ok (.if_icmp .ge 27, 3) := dk_162 0 27 (dk_at dksX12_leftIn_0 14 rfl rfl)
theorem dX12_leftIn_17 : decode cX12_leftIn 17 = .ok (.iload_n 2, 1) := dk_28 (dk_at dksX12_leftIn_0 17 rfl rfl)
theorem dX12_leftIn_18 : decode cX12_leftIn 18 = .ok (.aload_n 0, 1) := dk_42 (dk_at dksX12_leftIn_0 18 rfl rfl)
theorem dX12_leftIn_19 : decode cX12_leftIn 19 = .ok (.getfield 63, 3) := dk_180 0 63 (dk_at dksX12_leftIn_0 19 rfl rfl)
theorem dX12_leftIn_22 : decode cX12_leftIn 22 = .ok (.iload_n 3, 1) := dk_29 (dk_at dksX12_leftIn_0 22 rfl rfl)
theorem dX12_leftIn_23 : decode cX12_leftIn 23 = .ok (.iaload, 1) := dk_46 (dk_at dksX12_leftIn_0 23 rfl rfl)
theorem dX12_leftIn_24 : decode cX12_leftIn 24 = .ok (.iconst 5, 1) := dk_8 (dk_at dksX12_leftIn_1 0 rfl rfl)
theorem dX12_leftIn_25 : decode cX12_leftIn 25 = .ok (.if_icmp .ne 7, 3) := dk_160 0 7 (dk_at dksX12_leftIn_1 1 rfl rfl)
theorem dX12_leftIn_28 : decode cX12_leftIn 28 = .ok (.iconst 1, 1) := dk_4 (dk_at dksX12_leftIn_1 4 rfl rfl)
theorem dX12_leftIn_29 : decode cX12_leftIn 29 = .ok (.goto 4, 3) := dk_167 0 4 (dk_at dksX12_leftIn_1 5 rfl rfl)
theorem dX12_leftIn_32 : decode cX12_leftIn 32 = .ok (.iconst 0, 1) := dk_3 (dk_at dksX12_leftIn_1 8 rfl rfl)
theorem dX12_leftIn_33 : decode cX12_leftIn 33 = .ok (.iadd, 1) := dk_96 (dk_at dksX12_leftIn_1 9 rfl rfl)
theorem dX12_leftIn_34 : decode cX12_leftIn 34 = .ok (.istore_n 2, 1) := dk_61 (dk_at dksX12_leftIn_1 10 rfl rfl)
theorem dX12_leftIn_35 : decode cX12_leftIn 35 = .ok (.iinc 3 1, 3) := dk_132 3 1 (dk_at dksX12_leftIn_1 11 rfl rfl)
theorem dX12_leftIn_38 : decode cX12_leftIn 38 = .ok (.goto (-29), 3) := dk_167 255 227 (dk_at dksX12_leftIn_1 14 rfl rfl)
theorem dX12_leftIn_41 : decode cX12_leftIn 41 = .ok (.iload_n 2, 1) := dk_28 (dk_at dksX12_leftIn_1 17 rfl rfl)
theorem dX12_leftIn_42 : decode cX12_leftIn 42 = .ok (.ireturn, 1) := dk_172 (dk_at dksX12_leftIn_1 18 rfl rfl)
abbrev cX12_dusk : ByteArray := prog_19_method_50_code
def yX12_dusk : MethodName := ⟨RX12, "dusk", "()I"⟩
def dkwX12_dusk_0 : List UInt8 := [42, 3, 181, 0, 115, 42, 42, 180, 0, 35, 42, 180, 0, 188, 100, 3, 182, 1, 31, 172]
abbrev dktX12_dusk_0 : List UInt8 := dkwX12_dusk_0 ++ []
theorem dksX12_dusk_0 : cX12_dusk.data.toList.drop 0 = dktX12_dusk_0 := by decide +kernel
theorem dX12_dusk_0 : decode cX12_dusk 0 = .ok (.aload_n 0, 1) := dk_42 (dk_at dksX12_dusk_0 0 rfl rfl)
theorem dX12_dusk_1 : decode cX12_dusk 1 = .ok (.iconst 0, 1) := dk_3 (dk_at dksX12_dusk_0 1 rfl rfl)
theorem dX12_dusk_2 : decode cX12_dusk 2 = .ok (.putfield 115, 3) := dk_181 0 115 (dk_at dksX12_dusk_0 2 rfl rfl)
theorem dX12_dusk_5 : decode cX12_dusk 5 = .ok (.aload_n 0, 1) := dk_42 (dk_at dksX12_dusk_0 5 rfl rfl)
theorem dX12_dusk_6 : decode cX12_dusk 6 = .ok (.aload_n 0, 1) := dk_42 (dk_at dksX12_dusk_0 6 rfl rfl)
theorem dX12_dusk_7 : decode cX12_dusk 7 = .ok (.getfield 35, 3) := dk_180 0 35 (dk_at dksX12_dusk_0 7 rfl rfl)
theorem dX12_dusk_10 : decode cX12_dusk 10 = .ok (.aload_n 0, 1) := dk_42 (dk_at dksX12_dusk_0 10 rfl rfl)
theorem dX12_dusk_11 : decode cX12_dusk 11 = .ok (.getfield 188, 3) := dk_180 0 188 (dk_at dksX12_dusk_0 11 rfl rfl)
theorem dX12_dusk_14 : decode cX12_dusk 14 = .ok (.isub, 1) := dk_100 (dk_at dksX12_dusk_0 14 rfl rfl)
theorem dX12_dusk_15 : decode cX12_dusk 15 = .ok (.iconst 0, 1) := dk_3 (dk_at dksX12_dusk_0 15 rfl rfl)
theorem dX12_dusk_16 : decode cX12_dusk 16 = .ok (.invokevirtual 287, 3) := dk_182 1 31 (dk_at dksX12_dusk_0 16 rfl rfl)
theorem dX12_dusk_19 : decode cX12_dusk 19 = .ok (.ireturn, 1) := dk_172 (dk_at dksX12_dusk_0 19 rfl rfl)
abbrev cX12_last : ByteArray := prog_19_method_55_code
def yX12_last : MethodName := ⟨RX12, "last", "()I"⟩
def dkwX12_last_1 : List UInt8 := [182, 1, 40, 153, 0, 9, 4, 28, 120, 167, 0, 4, 3, 128, 60, 132, 2, 1, 167, 255, 227, 27, 172]
abbrev dktX12_last_1 : List UInt8 := dkwX12_last_1 ++ []
def dkwX12_last_0 : List UInt8 := [42, 3, 181, 0, 115, 42, 182, 1, 14, 3, 60, 3, 61, 28, 42, 180, 0, 165, 162, 0, 27, 27, 42, 28]
abbrev dktX12_last_0 : List UInt8 := dkwX12_last_0 ++ dktX12_last_1
theorem dksX12_last_0 : cX12_last.data.toList.drop 0 = dktX12_last_0 := by decide +kernel
theorem dksX12_last_1 : cX12_last.data.toList.drop 24 = dktX12_last_1 := dk_seg dksX12_last_0 24 rfl rfl
theorem dX12_last_0 : decode cX12_last 0 = .ok (.aload_n 0, 1) := dk_42 (dk_at dksX12_last_0 0 rfl rfl)
theorem dX12_last_1 : decode cX12_last 1 = .ok (.iconst 0, 1) := dk_3 (dk_at dksX12_last_0 1 rfl rfl)
theorem dX12_last_2 : decode cX12_last 2 = .ok (.putfield 115, 3) := dk_181 0 115 (dk_at dksX12_last_0 2 rfl rfl)
theorem dX12_last_5 : decode cX12_last 5 = .ok (.aload_n 0, 1) := dk_42 (dk_at dksX12_last_0 5 rfl rfl)
theorem dX12_last_6 : decode cX12_last 6 = .ok (.invokevirtual 270, 3) := dk_182 1 14 (dk_at dksX12_last_0 6 rfl rfl)
theorem dX12_last_9 : decode cX12_last 9 = .ok (.iconst 0, 1) := dk_3 (dk_at dksX12_last_0 9 rfl rfl)
theorem dX12_last_10 : decode cX12_last 10 = .ok (.istore_n 1, 1) := dk_60 (dk_at dksX12_last_0 10 rfl rfl)
theorem dX12_last_11 : decode cX12_last 11 = .ok (.iconst 0, 1) := dk_3 (dk_at dksX12_last_0 11 rfl rfl)
theorem dX12_last_12 : decode cX12_last 12 = .ok (.istore_n 2, 1) := dk_61 (dk_at dksX12_last_0 12 rfl rfl)
theorem dX12_last_13 : decode cX12_last 13 = .ok (.iload_n 2, 1) := dk_28 (dk_at dksX12_last_0 13 rfl rfl)
theorem dX12_last_14 : decode cX12_last 14 = .ok (.aload_n 0, 1) := dk_42 (dk_at dksX12_last_0 14 rfl rfl)
theorem dX12_last_15 : decode cX12_last 15 = .ok (.getfield 165, 3) := dk_180 0 165 (dk_at dksX12_last_0 15 rfl rfl)
theorem dX12_last_18 : decode cX12_last 18 = .ok (.if_icmp .ge 27, 3) := dk_162 0 27 (dk_at dksX12_last_0 18 rfl rfl)
theorem dX12_last_21 : decode cX12_last 21 = .ok (.iload_n 1, 1) := dk_27 (dk_at dksX12_last_0 21 rfl rfl)
theorem dX12_last_22 : decode cX12_last 22 = .ok (.aload_n 0, 1) := dk_42 (dk_at dksX12_last_0 22 rfl rfl)
theorem dX12_last_23 : decode cX12_last 23 = .ok (.iload_n 2, 1) := dk_28 (dk_at dksX12_last_0 23 rfl rfl)
theorem dX12_last_24 : decode cX12_last 24 = .ok (.invokevirtual 296, 3) := dk_182 1 40 (dk_at dksX12_last_1 0 rfl rfl)
theorem dX12_last_27 : decode cX12_last 27 = .ok (.ifCond .eq 9, 3) := dk_153 0 9 (dk_at dksX12_last_1 3 rfl rfl)
theorem dX12_last_30 : decode cX12_last 30 = .ok (.iconst 1, 1) := dk_4 (dk_at dksX12_last_1 6 rfl rfl)
theorem dX12_last_31 : decode cX12_last 31 = .ok (.iload_n 2, 1) := dk_28 (dk_at dksX12_last_1 7 rfl rfl)
theorem dX12_last_32 : decode cX12_last 32 = .ok (.ishl, 1) := dk_120 (dk_at dksX12_last_1 8 rfl rfl)
theorem dX12_last_33 : decode cX12_last 33 = .ok (.goto 4, 3) := dk_167 0 4 (dk_at dksX12_last_1 9 rfl rfl)
theorem dX12_last_36 : decode cX12_last 36 = .ok (.iconst 0, 1) := dk_3 (dk_at dksX12_last_1 12 rfl rfl)
theorem dX12_last_37 : decode cX12_last 37 = .ok (.ior, 1) := dk_128 (dk_at dksX12_last_1 13 rfl rfl)
theorem dX12_last_38 : decode cX12_last 38 = .ok (.istore_n 1, 1) := dk_60 (dk_at dksX12_last_1 14 rfl rfl)
theorem dX12_last_39 : decode cX12_last 39 = .ok (.iinc 2 1, 3) := dk_132 2 1 (dk_at dksX12_last_1 15 rfl rfl)
theorem dX12_last_42 : decode cX12_last 42 = .ok (.goto (-29), 3) := dk_167 255 227 (dk_at dksX12_last_1 18 rfl rfl)
theorem dX12_last_45 : decode cX12_last 45 = .ok (.iload_n 1, 1) := dk_27 (dk_at dksX12_last_1 21 rfl rfl)
theorem dX12_last_46 : decode cX12_last 46 = .ok (.ireturn, 1) := dk_172 (dk_at dksX12_last_1 22 rfl rfl)
abbrev cX12_mayBeLast : ByteArray := prog_19_method_54_code
def yX12_mayBeLast : MethodName := ⟨RX12, "mayBeLast", "(I)Z"⟩
def dkwX12_mayBeLast_9 : List UInt8 := [132, 2, 1, 132, 4, 1, 167, 255, 142, 167, 255, 122, 3, 172]
abbrev dktX12_mayBeLast_9 : List UInt8 := dkwX12_mayBeLast_9 ++ []
def dkwX12_mayBeLast_8 : List UInt8 := [21, 6, 51, 154, 0, 22, 42, 180, 0, 87, 21, 6, 4, 84, 42, 180, 0, 75, 28, 21, 6, 79]
abbrev dktX12_mayBeLast_8 : List UInt8 := dkwX12_mayBeLast_8 ++ dktX12_mayBeLast_9
def dkwX12_mayBeLast_7 : List UInt8 := [46, 3, 182, 0, 236, 42, 182, 1, 11, 54, 6, 42, 182, 0, 249, 153, 0, 5, 4, 172, 42, 180, 0, 87]
abbrev dktX12_mayBeLast_7 : List UInt8 := dkwX12_mayBeLast_7 ++ dktX12_mayBeLast_8
def dkwX12_mayBeLast_6 : List UInt8 := [154, 0, 73, 42, 42, 180, 0, 66, 21, 4, 46, 182, 0, 230, 155, 0, 59, 42, 42, 180, 0, 66, 21, 4]
abbrev dktX12_mayBeLast_6 : List UInt8 := dkwX12_mayBeLast_6 ++ dktX12_mayBeLast_7
def dkwX12_mayBeLast_5 : List UInt8 := [46, 17, 3, 232, 108, 16, 10, 112, 54, 5, 42, 29, 182, 0, 227, 21, 5, 4, 27, 120, 2, 130, 126]
abbrev dktX12_mayBeLast_5 : List UInt8 := dkwX12_mayBeLast_5 ++ dktX12_mayBeLast_6
def dkwX12_mayBeLast_4 : List UInt8 := [180, 0, 75, 28, 46, 62, 3, 54, 4, 21, 4, 42, 180, 0, 243, 162, 0, 111, 42, 180, 0, 66, 21, 4]
abbrev dktX12_mayBeLast_4 : List UInt8 := dkwX12_mayBeLast_4 ++ dktX12_mayBeLast_5
def dkwX12_mayBeLast_3 : List UInt8 := [180, 0, 72, 29, 46, 79, 132, 2, 1, 132, 3, 1, 167, 255, 200, 28, 158, 0, 136, 132, 2, 255, 42]
abbrev dktX12_mayBeLast_3 : List UInt8 := dkwX12_mayBeLast_3 ++ dktX12_mayBeLast_4
def dkwX12_mayBeLast_2 : List UInt8 := [182, 1, 37, 153, 0, 30, 42, 180, 0, 87, 42, 180, 0, 72, 29, 46, 4, 84, 42, 180, 0, 75, 28, 42]
abbrev dktX12_mayBeLast_2 : List UInt8 := dkwX12_mayBeLast_2 ++ dktX12_mayBeLast_3
def dkwX12_mayBeLast_1 : List UInt8 := [3, 62, 29, 42, 180, 1, 8, 162, 0, 54, 42, 42, 180, 0, 72, 29, 46, 182, 0, 227, 42, 27]
abbrev dktX12_mayBeLast_1 : List UInt8 := dkwX12_mayBeLast_1 ++ dktX12_mayBeLast_2
def dkwX12_mayBeLast_0 : List UInt8 := [3, 61, 28, 17, 17, 148, 162, 0, 16, 42, 180, 0, 87, 28, 3, 84, 132, 2, 1, 167, 255, 239, 3, 61]
abbrev dktX12_mayBeLast_0 : List UInt8 := dkwX12_mayBeLast_0 ++ dktX12_mayBeLast_1
theorem dksX12_mayBeLast_0 : cX12_mayBeLast.data.toList.drop 0 = dktX12_mayBeLast_0 := by decide +kernel
theorem dksX12_mayBeLast_1 : cX12_mayBeLast.data.toList.drop 24 = dktX12_mayBeLast_1 := dk_seg dksX12_mayBeLast_0 24 rfl rfl
theorem dksX12_mayBeLast_2 : cX12_mayBeLast.data.toList.drop 46 = dktX12_mayBeLast_2 := dk_seg dksX12_mayBeLast_1 22 rfl rfl
theorem dksX12_mayBeLast_3 : cX12_mayBeLast.data.toList.drop 70 = dktX12_mayBeLast_3 := dk_seg dksX12_mayBeLast_2 24 rfl rfl
theorem dksX12_mayBeLast_4 : cX12_mayBeLast.data.toList.drop 93 = dktX12_mayBeLast_4 := dk_seg dksX12_mayBeLast_3 23 rfl rfl
theorem dksX12_mayBeLast_5 : cX12_mayBeLast.data.toList.drop 117 = dktX12_mayBeLast_5 := dk_seg dksX12_mayBeLast_4 24 rfl rfl
theorem dksX12_mayBeLast_6 : cX12_mayBeLast.data.toList.drop 140 = dktX12_mayBeLast_6 := dk_seg dksX12_mayBeLast_5 23 rfl rfl
theorem dksX12_mayBeLast_7 : cX12_mayBeLast.data.toList.drop 164 = dktX12_mayBeLast_7 := dk_seg dksX12_mayBeLast_6 24 rfl rfl
theorem dksX12_mayBeLast_8 : cX12_mayBeLast.data.toList.drop 188 = dktX12_mayBeLast_8 := dk_seg dksX12_mayBeLast_7 24 rfl rfl
theorem dksX12_mayBeLast_9 : cX12_mayBeLast.data.toList.drop 210 = dktX12_mayBeLast_9 := dk_seg dksX12_mayBeLast_8 22 rfl rfl
theorem dX12_mayBeLast_0 : decode cX12_mayBeLast 0 = .ok (.iconst 0, 1) := dk_3 (dk_at dksX12_mayBeLast_0 0 rfl rfl)
theorem dX12_mayBeLast_1 : decode cX12_mayBeLast 1 = .ok (.istore_n 2, 1) := dk_61 (dk_at dksX12_mayBeLast_0 1 rfl rfl)
theorem dX12_mayBeLast_2 : decode cX12_mayBeLast 2 = .ok (.iload_n 2, 1) := dk_28 (dk_at dksX12_mayBeLast_0 2 rfl rfl)
theorem dX12_mayBeLast_3 : decode cX12_mayBeLast 3 = .ok (.sipush 4500, 3) := dk_17 17 148 (dk_at dksX12_mayBeLast_0 3 rfl rfl)
theorem dX12_mayBeLast_6 : decode cX12_mayBeLast 6 = .ok (.if_icmp .ge 16, 3) := dk_162 0 16 (dk_at dksX12_mayBeLast_0 6 rfl rfl)
theorem dX12_mayBeLast_9 : decode cX12_mayBeLast 9 = .ok (.aload_n 0, 1) := dk_42 (dk_at dksX12_mayBeLast_0 9 rfl rfl)
theorem dX12_mayBeLast_10 : decode cX12_mayBeLast 10 = .ok (.getfield 87, 3) := dk_180 0 87 (dk_at dksX12_mayBeLast_0 10 rfl rfl)
theorem dX12_mayBeLast_13 : decode cX12_mayBeLast 13 = .ok (.iload_n 2, 1) := dk_28 (dk_at dksX12_mayBeLast_0 13 rfl rfl)
theorem dX12_mayBeLast_14 : decode cX12_mayBeLast 14 = .ok (.iconst 0, 1) := dk_3 (dk_at dksX12_mayBeLast_0 14 rfl rfl)
theorem dX12_mayBeLast_15 : decode cX12_mayBeLast 15 = .ok (.bastore, 1) := dk_84 (dk_at dksX12_mayBeLast_0 15 rfl rfl)
theorem dX12_mayBeLast_16 : decode cX12_mayBeLast 16 = .ok (.iinc 2 1, 3) := dk_132 2 1 (dk_at dksX12_mayBeLast_0 16 rfl rfl)
theorem dX12_mayBeLast_19 : decode cX12_mayBeLast 19 = .ok (.goto (-17), 3) := dk_167 255 239 (dk_at dksX12_mayBeLast_0 19 rfl rfl)
theorem dX12_mayBeLast_22 : decode cX12_mayBeLast 22 = .ok (.iconst 0, 1) := dk_3 (dk_at dksX12_mayBeLast_0 22 rfl rfl)
theorem dX12_mayBeLast_23 : decode cX12_mayBeLast 23 = .ok (.istore_n 2, 1) := dk_61 (dk_at dksX12_mayBeLast_0 23 rfl rfl)
theorem dX12_mayBeLast_24 : decode cX12_mayBeLast 24 = .ok (.iconst 0, 1) := dk_3 (dk_at dksX12_mayBeLast_1 0 rfl rfl)
theorem dX12_mayBeLast_25 : decode cX12_mayBeLast 25 = .ok (.istore_n 3, 1) := dk_62 (dk_at dksX12_mayBeLast_1 1 rfl rfl)
theorem dX12_mayBeLast_26 : decode cX12_mayBeLast 26 = .ok (.iload_n 3, 1) := dk_29 (dk_at dksX12_mayBeLast_1 2 rfl rfl)
theorem dX12_mayBeLast_27 : decode cX12_mayBeLast 27 = .ok (.aload_n 0, 1) := dk_42 (dk_at dksX12_mayBeLast_1 3 rfl rfl)
theorem dX12_mayBeLast_28 : decode cX12_mayBeLast 28 = .ok (.getfield 264, 3) := dk_180 1 8 (dk_at dksX12_mayBeLast_1 4 rfl rfl)
theorem dX12_mayBeLast_31 : decode cX12_mayBeLast 31 = .ok (.if_icmp .ge 54, 3) := dk_162 0 54 (dk_at dksX12_mayBeLast_1 7 rfl rfl)
theorem dX12_mayBeLast_34 : decode cX12_mayBeLast 34 = .ok (.aload_n 0, 1) := dk_42 (dk_at dksX12_mayBeLast_1 10 rfl rfl)
theorem dX12_mayBeLast_35 : decode cX12_mayBeLast 35 = .ok (.aload_n 0, 1) := dk_42 (dk_at dksX12_mayBeLast_1 11 rfl rfl)
theorem dX12_mayBeLast_36 : decode cX12_mayBeLast 36 = .ok (.getfield 72, 3) := dk_180 0 72 (dk_at dksX12_mayBeLast_1 12 rfl rfl)
theorem dX12_mayBeLast_39 : decode cX12_mayBeLast 39 = .ok (.iload_n 3, 1) := dk_29 (dk_at dksX12_mayBeLast_1 15 rfl rfl)
theorem dX12_mayBeLast_40 : decode cX12_mayBeLast 40 = .ok (.iaload, 1) := dk_46 (dk_at dksX12_mayBeLast_1 16 rfl rfl)
theorem dX12_mayBeLast_41 : decode cX12_mayBeLast 41 = .ok (.invokevirtual 227, 3) := dk_182 0 227 (dk_at dksX12_mayBeLast_1 17 rfl rfl)
theorem dX12_mayBeLast_44 : decode cX12_mayBeLast 44 = .ok (.aload_n 0, 1) := dk_42 (dk_at dksX12_mayBeLast_1 20 rfl rfl)
theorem dX12_mayBeLast_45 : decode cX12_mayBeLast 45 = .ok (.iload_n 1, 1) := dk_27 (dk_at dksX12_mayBeLast_1 21 rfl rfl)
theorem dX12_mayBeLast_46 : decode cX12_mayBeLast 46 = .ok (.invokevirtual 293, 3) := dk_182 1 37 (dk_at dksX12_mayBeLast_2 0 rfl rfl)
theorem dX12_mayBeLast_49 : decode cX12_mayBeLast 49 = .ok (.ifCond .eq 30, 3) := dk_153 0 30 (dk_at dksX12_mayBeLast_2 3 rfl rfl)
theorem dX12_mayBeLast_52 : decode cX12_mayBeLast 52 = .ok (.aload_n 0, 1) := dk_42 (dk_at dksX12_mayBeLast_2 6 rfl rfl)
theorem dX12_mayBeLast_53 : decode cX12_mayBeLast 53 = .ok (.getfield 87, 3) := dk_180 0 87 (dk_at dksX12_mayBeLast_2 7 rfl rfl)
theorem dX12_mayBeLast_56 : decode cX12_mayBeLast 56 = .ok (.aload_n 0, 1) := dk_42 (dk_at dksX12_mayBeLast_2 10 rfl rfl)
theorem dX12_mayBeLast_57 : decode cX12_mayBeLast 57 = .ok (.getfield 72, 3) := dk_180 0 72 (dk_at dksX12_mayBeLast_2 11 rfl rfl)
theorem dX12_mayBeLast_60 : decode cX12_mayBeLast 60 = .ok (.iload_n 3, 1) := dk_29 (dk_at dksX12_mayBeLast_2 14 rfl rfl)
theorem dX12_mayBeLast_61 : decode cX12_mayBeLast 61 = .ok (.iaload, 1) := dk_46 (dk_at dksX12_mayBeLast_2 15 rfl rfl)
theorem dX12_mayBeLast_62 : decode cX12_mayBeLast 62 = .ok (.iconst 1, 1) := dk_4 (dk_at dksX12_mayBeLast_2 16 rfl rfl)
theorem dX12_mayBeLast_63 : decode cX12_mayBeLast 63 = .ok (.bastore, 1) := dk_84 (dk_at dksX12_mayBeLast_2 17 rfl rfl)
theorem dX12_mayBeLast_64 : decode cX12_mayBeLast 64 = .ok (.aload_n 0, 1) := dk_42 (dk_at dksX12_mayBeLast_2 18 rfl rfl)
theorem dX12_mayBeLast_65 : decode cX12_mayBeLast 65 = .ok (.getfield 75, 3) := dk_180 0 75 (dk_at dksX12_mayBeLast_2 19 rfl rfl)
theorem dX12_mayBeLast_68 : decode cX12_mayBeLast 68 = .ok (.iload_n 2, 1) := dk_28 (dk_at dksX12_mayBeLast_2 22 rfl rfl)
theorem dX12_mayBeLast_69 : decode cX12_mayBeLast 69 = .ok (.aload_n 0, 1) := dk_42 (dk_at dksX12_mayBeLast_2 23 rfl rfl)
theorem dX12_mayBeLast_70 : decode cX12_mayBeLast 70 = .ok (.getfield 72, 3) := dk_180 0 72 (dk_at dksX12_mayBeLast_3 0 rfl rfl)
theorem dX12_mayBeLast_73 : decode cX12_mayBeLast 73 = .ok (.iload_n 3, 1) := dk_29 (dk_at dksX12_mayBeLast_3 3 rfl rfl)
theorem dX12_mayBeLast_74 : decode cX12_mayBeLast 74 = .ok (.iaload, 1) := dk_46 (dk_at dksX12_mayBeLast_3 4 rfl rfl)
theorem dX12_mayBeLast_75 : decode cX12_mayBeLast 75 = .ok (.iastore, 1) := dk_79 (dk_at dksX12_mayBeLast_3 5 rfl rfl)
theorem dX12_mayBeLast_76 : decode cX12_mayBeLast 76 = .ok (.iinc 2 1, 3) := dk_132 2 1 (dk_at dksX12_mayBeLast_3 6 rfl rfl)
theorem dX12_mayBeLast_79 : decode cX12_mayBeLast 79 = .ok (.iinc 3 1, 3) := dk_132 3 1 (dk_at dksX12_mayBeLast_3 9 rfl rfl)
theorem dX12_mayBeLast_82 : decode cX12_mayBeLast 82 = .ok (.goto (-56), 3) := dk_167 255 200 (dk_at dksX12_mayBeLast_3 12 rfl rfl)
theorem dX12_mayBeLast_85 : decode cX12_mayBeLast 85 = .ok (.iload_n 2, 1) := dk_28 (dk_at dksX12_mayBeLast_3 15 rfl rfl)
theorem dX12_mayBeLast_86 : decode cX12_mayBeLast 86 = .ok (.ifCond .le 136, 3) := dk_158 0 136 (dk_at dksX12_mayBeLast_3 16 rfl rfl)
theorem dX12_mayBeLast_89 : decode cX12_mayBeLast 89 = .ok (.iinc 2 (-1), 3) := dk_132 2 255 (dk_at dksX12_mayBeLast_3 19 rfl rfl)
theorem dX12_mayBeLast_92 : decode cX12_mayBeLast 92 = .ok (.aload_n 0, 1) := dk_42 (dk_at dksX12_mayBeLast_3 22 rfl rfl)
theorem dX12_mayBeLast_93 : decode cX12_mayBeLast 93 = .ok (.getfield 75, 3) := dk_180 0 75 (dk_at dksX12_mayBeLast_4 0 rfl rfl)
theorem dX12_mayBeLast_96 : decode cX12_mayBeLast 96 = .ok (.iload_n 2, 1) := dk_28 (dk_at dksX12_mayBeLast_4 3 rfl rfl)
theorem dX12_mayBeLast_97 : decode cX12_mayBeLast 97 = .ok (.iaload, 1) := dk_46 (dk_at dksX12_mayBeLast_4 4 rfl rfl)
theorem dX12_mayBeLast_98 : decode cX12_mayBeLast 98 = .ok (.istore_n 3, 1) := dk_62 (dk_at dksX12_mayBeLast_4 5 rfl rfl)
theorem dX12_mayBeLast_99 : decode cX12_mayBeLast 99 = .ok (.iconst 0, 1) := dk_3 (dk_at dksX12_mayBeLast_4 6 rfl rfl)
theorem dX12_mayBeLast_100 : decode cX12_mayBeLast 100 = .ok (.istore 4, 2) := dk_54 4 (dk_at dksX12_mayBeLast_4 7 rfl rfl)
theorem dX12_mayBeLast_102 : decode cX12_mayBeLast 102 = .ok (.iload 4, 2) := dk_21 4 (dk_at dksX12_mayBeLast_4 9 rfl rfl)
theorem dX12_mayBeLast_104 : decode cX12_mayBeLast 104 = .ok (.aload_n 0, 1) := dk_42 (dk_at dksX12_mayBeLast_4 11 rfl rfl)
theorem dX12_mayBeLast_105 : decode cX12_mayBeLast 105 = .ok (.getfield 243, 3) := dk_180 0 243 (dk_at dksX12_mayBeLast_4 12 rfl rfl)
theorem dX12_mayBeLast_108 : decode cX12_mayBeLast 108 = .ok (.if_icmp .ge 111, 3) := dk_162 0 111 (dk_at dksX12_mayBeLast_4 15 rfl rfl)
theorem dX12_mayBeLast_111 : decode cX12_mayBeLast 111 = .ok (.aload_n 0, 1) := dk_42 (dk_at dksX12_mayBeLast_4 18 rfl rfl)
theorem dX12_mayBeLast_112 : decode cX12_mayBeLast 112 = .ok (.getfield 66, 3) := dk_180 0 66 (dk_at dksX12_mayBeLast_4 19 rfl rfl)
theorem dX12_mayBeLast_115 : decode cX12_mayBeLast 115 = .ok (.iload 4, 2) := dk_21 4 (dk_at dksX12_mayBeLast_4 22 rfl rfl)
theorem dX12_mayBeLast_117 : decode cX12_mayBeLast 117 = .ok (.iaload, 1) := dk_46 (dk_at dksX12_mayBeLast_5 0 rfl rfl)
theorem dX12_mayBeLast_118 : decode cX12_mayBeLast 118 = .ok (.sipush 1000, 3) := dk_17 3 232 (dk_at dksX12_mayBeLast_5 1 rfl rfl)
theorem dX12_mayBeLast_121 : decode cX12_mayBeLast 121 = .ok (.idiv, 1) := dk_108 (dk_at dksX12_mayBeLast_5 4 rfl rfl)
theorem dX12_mayBeLast_122 : decode cX12_mayBeLast 122 = .ok (.bipush 10, 2) := dk_16 10 (dk_at dksX12_mayBeLast_5 5 rfl rfl)
theorem dX12_mayBeLast_124 : decode cX12_mayBeLast 124 = .ok (.irem, 1) := dk_112 (dk_at dksX12_mayBeLast_5 7 rfl rfl)
theorem dX12_mayBeLast_125 : decode cX12_mayBeLast 125 = .ok (.istore 5, 2) := dk_54 5 (dk_at dksX12_mayBeLast_5 8 rfl rfl)
theorem dX12_mayBeLast_127 : decode cX12_mayBeLast 127 = .ok (.aload_n 0, 1) := dk_42 (dk_at dksX12_mayBeLast_5 10 rfl rfl)
theorem dX12_mayBeLast_128 : decode cX12_mayBeLast 128 = .ok (.iload_n 3, 1) := dk_29 (dk_at dksX12_mayBeLast_5 11 rfl rfl)
theorem dX12_mayBeLast_129 : decode cX12_mayBeLast 129 = .ok (.invokevirtual 227, 3) := dk_182 0 227 (dk_at dksX12_mayBeLast_5 12 rfl rfl)
theorem dX12_mayBeLast_132 : decode cX12_mayBeLast 132 = .ok (.iload 5, 2) := dk_21 5 (dk_at dksX12_mayBeLast_5 15 rfl rfl)
theorem dX12_mayBeLast_134 : decode cX12_mayBeLast 134 = .ok (.iconst 1, 1) := dk_4 (dk_at dksX12_mayBeLast_5 17 rfl rfl)
theorem dX12_mayBeLast_135 : decode cX12_mayBeLast 135 = .ok (.iload_n 1, 1) := dk_27 (dk_at dksX12_mayBeLast_5 18 rfl rfl)
theorem dX12_mayBeLast_136 : decode cX12_mayBeLast 136 = .ok (.ishl, 1) := dk_120 (dk_at dksX12_mayBeLast_5 19 rfl rfl)
theorem dX12_mayBeLast_137 : decode cX12_mayBeLast 137 = .ok (.iconst (-1), 1) := dk_2 (dk_at dksX12_mayBeLast_5 20 rfl rfl)
theorem dX12_mayBeLast_138 : decode cX12_mayBeLast 138 = .ok (.ixor, 1) := dk_130 (dk_at dksX12_mayBeLast_5 21 rfl rfl)
theorem dX12_mayBeLast_139 : decode cX12_mayBeLast 139 = .ok (.iand, 1) := dk_126 (dk_at dksX12_mayBeLast_5 22 rfl rfl)
theorem dX12_mayBeLast_140 : decode cX12_mayBeLast 140 = .ok (.ifCond .ne 73, 3) := dk_154 0 73 (dk_at dksX12_mayBeLast_6 0 rfl rfl)
theorem dX12_mayBeLast_143 : decode cX12_mayBeLast 143 = .ok (.aload_n 0, 1) := dk_42 (dk_at dksX12_mayBeLast_6 3 rfl rfl)
theorem dX12_mayBeLast_144 : decode cX12_mayBeLast 144 = .ok (.aload_n 0, 1) := dk_42 (dk_at dksX12_mayBeLast_6 4 rfl rfl)
theorem dX12_mayBeLast_145 : decode cX12_mayBeLast 145 = .ok (.getfield 66, 3) := dk_180 0 66 (dk_at dksX12_mayBeLast_6 5 rfl rfl)
theorem dX12_mayBeLast_148 : decode cX12_mayBeLast 148 = .ok (.iload 4, 2) := dk_21 4 (dk_at dksX12_mayBeLast_6 8 rfl rfl)
theorem dX12_mayBeLast_150 : decode cX12_mayBeLast 150 = .ok (.iaload, 1) := dk_46 (dk_at dksX12_mayBeLast_6 10 rfl rfl)
theorem dX12_mayBeLast_151 : decode cX12_mayBeLast 151 = .ok (.invokevirtual 230, 3) := dk_182 0 230 (dk_at dksX12_mayBeLast_6 11 rfl rfl)
theorem dX12_mayBeLast_154 : decode cX12_mayBeLast 154 = .ok (.ifCond .lt 59, 3) := dk_155 0 59 (dk_at dksX12_mayBeLast_6 14 rfl rfl)
theorem dX12_mayBeLast_157 : decode cX12_mayBeLast 157 = .ok (.aload_n 0, 1) := dk_42 (dk_at dksX12_mayBeLast_6 17 rfl rfl)
theorem dX12_mayBeLast_158 : decode cX12_mayBeLast 158 = .ok (.aload_n 0, 1) := dk_42 (dk_at dksX12_mayBeLast_6 18 rfl rfl)
theorem dX12_mayBeLast_159 : decode cX12_mayBeLast 159 = .ok (.getfield 66, 3) := dk_180 0 66 (dk_at dksX12_mayBeLast_6 19 rfl rfl)
theorem dX12_mayBeLast_162 : decode cX12_mayBeLast 162 = .ok (.iload 4, 2) := dk_21 4 (dk_at dksX12_mayBeLast_6 22 rfl rfl)
theorem dX12_mayBeLast_164 : decode cX12_mayBeLast 164 = .ok (.iaload, 1) := dk_46 (dk_at dksX12_mayBeLast_7 0 rfl rfl)
theorem dX12_mayBeLast_165 : decode cX12_mayBeLast 165 = .ok (.iconst 0, 1) := dk_3 (dk_at dksX12_mayBeLast_7 1 rfl rfl)
theorem dX12_mayBeLast_166 : decode cX12_mayBeLast 166 = .ok (.invokevirtual 236, 3) := dk_182 0 236 (dk_at dksX12_mayBeLast_7 2 rfl rfl)
theorem dX12_mayBeLast_169 : decode cX12_mayBeLast 169 = .ok (.aload_n 0, 1) := dk_42 (dk_at dksX12_mayBeLast_7 5 rfl rfl)
theorem dX12_mayBeLast_170 : decode cX12_mayBeLast 170 = .ok (.invokevirtual 267, 3) := dk_182 1 11 (dk_at dksX12_mayBeLast_7 6 rfl rfl)
theorem dX12_mayBeLast_173 : decode cX12_mayBeLast 173 = .ok (.istore 6, 2) := dk_54 6 (dk_at dksX12_mayBeLast_7 9 rfl rfl)
theorem dX12_mayBeLast_175 : decode cX12_mayBeLast 175 = .ok (.aload_n 0, 1) := dk_42 (dk_at dksX12_mayBeLast_7 11 rfl rfl)
theorem dX12_mayBeLast_176 : decode cX12_mayBeLast 176 = .ok (.invokevirtual 249, 3) := dk_182 0 249 (dk_at dksX12_mayBeLast_7 12 rfl rfl)
theorem dX12_mayBeLast_179 : decode cX12_mayBeLast 179 = .ok (.ifCond .eq 5, 3) := dk_153 0 5 (dk_at dksX12_mayBeLast_7 15 rfl rfl)
theorem dX12_mayBeLast_182 : decode cX12_mayBeLast 182 = .ok (.iconst 1, 1) := dk_4 (dk_at dksX12_mayBeLast_7 18 rfl rfl)
theorem dX12_mayBeLast_183 : decode cX12_mayBeLast 183 = .ok (.ireturn, 1) := dk_172 (dk_at dksX12_mayBeLast_7 19 rfl rfl)
theorem dX12_mayBeLast_184 : decode cX12_mayBeLast 184 = .ok (.aload_n 0, 1) := dk_42 (dk_at dksX12_mayBeLast_7 20 rfl rfl)
theorem dX12_mayBeLast_185 : decode cX12_mayBeLast 185 = .ok (.getfield 87, 3) := dk_180 0 87 (dk_at dksX12_mayBeLast_7 21 rfl rfl)
theorem dX12_mayBeLast_188 : decode cX12_mayBeLast 188 = .ok (.iload 6, 2) := dk_21 6 (dk_at dksX12_mayBeLast_8 0 rfl rfl)
theorem dX12_mayBeLast_190 : decode cX12_mayBeLast 190 = .ok (.baload, 1) := dk_51 (dk_at dksX12_mayBeLast_8 2 rfl rfl)
theorem dX12_mayBeLast_191 : decode cX12_mayBeLast 191 = .ok (.ifCond .ne 22, 3) := dk_154 0 22 (dk_at dksX12_mayBeLast_8 3 rfl rfl)
theorem dX12_mayBeLast_194 : decode cX12_mayBeLast 194 = .ok (.aload_n 0, 1) := dk_42 (dk_at dksX12_mayBeLast_8 6 rfl rfl)
theorem dX12_mayBeLast_195 : decode cX12_mayBeLast 195 = .ok (.getfield 87, 3) := dk_180 0 87 (dk_at dksX12_mayBeLast_8 7 rfl rfl)
theorem dX12_mayBeLast_198 : decode cX12_mayBeLast 198 = .ok (.iload 6, 2) := dk_21 6 (dk_at dksX12_mayBeLast_8 10 rfl rfl)
theorem dX12_mayBeLast_200 : decode cX12_mayBeLast 200 = .ok (.iconst 1, 1) := dk_4 (dk_at dksX12_mayBeLast_8 12 rfl rfl)
theorem dX12_mayBeLast_201 : decode cX12_mayBeLast 201 = .ok (.bastore, 1) := dk_84 (dk_at dksX12_mayBeLast_8 13 rfl rfl)
theorem dX12_mayBeLast_202 : decode cX12_mayBeLast 202 = .ok (.aload_n 0, 1) := dk_42 (dk_at dksX12_mayBeLast_8 14 rfl rfl)
theorem dX12_mayBeLast_203 : decode cX12_mayBeLast 203 = .ok (.getfield 75, 3) := dk_180 0 75 (dk_at dksX12_mayBeLast_8 15 rfl rfl)
theorem dX12_mayBeLast_206 : decode cX12_mayBeLast 206 = .ok (.iload_n 2, 1) := dk_28 (dk_at dksX12_mayBeLast_8 18 rfl rfl)
theorem dX12_mayBeLast_207 : decode cX12_mayBeLast 207 = .ok (.iload 6, 2) := dk_21 6 (dk_at dksX12_mayBeLast_8 19 rfl rfl)
theorem dX12_mayBeLast_209 : decode cX12_mayBeLast 209 = .ok (.iastore, 1) := dk_79 (dk_at dksX12_mayBeLast_8 21 rfl rfl)
theorem dX12_mayBeLast_210 : decode cX12_mayBeLast 210 = .ok (.iinc 2 1, 3) := dk_132 2 1 (dk_at dksX12_mayBeLast_9 0 rfl rfl)
theorem dX12_mayBeLast_213 : decode cX12_mayBeLast 213 = .ok (.iinc 4 1, 3) := dk_132 4 1 (dk_at dksX12_mayBeLast_9 3 rfl rfl)
theorem dX12_mayBeLast_216 : decode cX12_mayBeLast 216 = .ok (.goto (-114), 3) := dk_167 255 142 (dk_at dksX12_mayBeLast_9 6 rfl rfl)
theorem dX12_mayBeLast_219 : decode cX12_mayBeLast 219 = .ok (.goto (-134), 3) := dk_167 255 122 (dk_at dksX12_mayBeLast_9 9 rfl rfl)
theorem dX12_mayBeLast_222 : decode cX12_mayBeLast 222 = .ok (.iconst 0, 1) := dk_3 (dk_at dksX12_mayBeLast_9 12 rfl rfl)
theorem dX12_mayBeLast_223 : decode cX12_mayBeLast 223 = .ok (.ireturn, 1) := dk_172 (dk_at dksX12_mayBeLast_9 13 rfl rfl)
abbrev cX12_isAlone : ByteArray := prog_19_method_53_code
def yX12_isAlone : MethodName := ⟨RX12, "isAlone", "(I)Z"⟩
def dkwX12_isAlone_2 : List UInt8 := [180, 0, 118, 4, 100, 160, 0, 7, 4, 167, 0, 4, 3, 61, 132, 3, 1, 167, 255, 215, 28, 172]
abbrev dktX12_isAlone_2 : List UInt8 := dkwX12_isAlone_2 ++ []
def dkwX12_isAlone_1 : List UInt8 := [42, 180, 0, 165, 162, 0, 39, 28, 153, 0, 27, 29, 27, 159, 0, 18, 42, 180, 0, 60, 29, 46, 42]
abbrev dktX12_isAlone_1 : List UInt8 := dkwX12_isAlone_1 ++ dktX12_isAlone_2
def dkwX12_isAlone_0 : List UInt8 := [42, 180, 0, 60, 27, 46, 42, 180, 0, 118, 4, 100, 159, 0, 7, 4, 167, 0, 4, 3, 61, 3, 62, 29]
abbrev dktX12_isAlone_0 : List UInt8 := dkwX12_isAlone_0 ++ dktX12_isAlone_1
theorem dksX12_isAlone_0 : cX12_isAlone.data.toList.drop 0 = dktX12_isAlone_0 := by decide +kernel
theorem dksX12_isAlone_1 : cX12_isAlone.data.toList.drop 24 = dktX12_isAlone_1 := dk_seg dksX12_isAlone_0 24 rfl rfl
theorem dksX12_isAlone_2 : cX12_isAlone.data.toList.drop 47 = dktX12_isAlone_2 := dk_seg dksX12_isAlone_1 23 rfl rfl
theorem dX12_isAlone_0 : decode cX12_isAlone 0 = .ok (.aload_n 0, 1) := dk_42 (dk_at dksX12_isAlone_0 0 rfl rfl)
theorem dX12_isAlone_1 : decode cX12_isAlone 1 = .ok (.getfield 60, 3) := dk_180 0 60 (dk_at dksX12_isAlone_0 1 rfl rfl)
theorem dX12_isAlone_4 : decode cX12_isAlone 4 = .ok (.iload_n 1, 1) := dk_27 (dk_at dksX12_isAlone_0 4 rfl rfl)
theorem dX12_isAlone_5 : decode cX12_isAlone 5 = .ok (.iaload, 1) := dk_46 (dk_at dksX12_isAlone_0 5 rfl rfl)
theorem dX12_isAlone_6 : decode cX12_isAlone 6 = .ok (.aload_n 0, 1) := dk_42 (dk_at dksX12_isAlone_0 6 rfl rfl)
theorem dX12_isAlone_7 : decode cX12_isAlone 7 = .ok (.getfield 118, 3) := dk_180 0 118 (dk_at dksX12_isAlone_0 7 rfl rfl)
theorem dX12_isAlone_10 : decode cX12_isAlone 10 = .ok (.iconst 1, 1) := dk_4 (dk_at dksX12_isAlone_0 10 rfl rfl)
theorem dX12_isAlone_11 : decode cX12_isAlone 11 = .ok (.isub, 1) := dk_100 (dk_at dksX12_isAlone_0 11 rfl rfl)
theorem dX12_isAlone_12 : decode cX12_isAlone 12 = .ok (.if_icmp .eq 7, 3) := dk_159 0 7 (dk_at dksX12_isAlone_0 12 rfl rfl)
theorem dX12_isAlone_15 : decode cX12_isAlone 15 = .ok (.iconst 1, 1) := dk_4 (dk_at dksX12_isAlone_0 15 rfl rfl)
theorem dX12_isAlone_16 : decode cX12_isAlone 16 = .ok (.goto 4, 3) := dk_167 0 4 (dk_at dksX12_isAlone_0 16 rfl rfl)
theorem dX12_isAlone_19 : decode cX12_isAlone 19 = .ok (.iconst 0, 1) := dk_3 (dk_at dksX12_isAlone_0 19 rfl rfl)
theorem dX12_isAlone_20 : decode cX12_isAlone 20 = .ok (.istore_n 2, 1) := dk_61 (dk_at dksX12_isAlone_0 20 rfl rfl)
theorem dX12_isAlone_21 : decode cX12_isAlone 21 = .ok (.iconst 0, 1) := dk_3 (dk_at dksX12_isAlone_0 21 rfl rfl)
theorem dX12_isAlone_22 : decode cX12_isAlone 22 = .ok (.istore_n 3, 1) := dk_62 (dk_at dksX12_isAlone_0 22 rfl rfl)
theorem dX12_isAlone_23 : decode cX12_isAlone 23 = .ok (.iload_n 3, 1) := dk_29 (dk_at dksX12_isAlone_0 23 rfl rfl)
theorem dX12_isAlone_24 : decode cX12_isAlone 24 = .ok (.aload_n 0, 1) := dk_42 (dk_at dksX12_isAlone_1 0 rfl rfl)
theorem dX12_isAlone_25 : decode cX12_isAlone 25 = .ok (.getfield 165, 3) := dk_180 0 165 (dk_at dksX12_isAlone_1 1 rfl rfl)
theorem dX12_isAlone_28 : decode cX12_isAlone 28 = .ok (.if_icmp .ge 39, 3) := dk_162 0 39 (dk_at dksX12_isAlone_1 4 rfl rfl)
theorem dX12_isAlone_31 : decode cX12_isAlone 31 = .ok (.iload_n 2, 1) := dk_28 (dk_at dksX12_isAlone_1 7 rfl rfl)
theorem dX12_isAlone_32 : decode cX12_isAlone 32 = .ok (.ifCond .eq 27, 3) := dk_153 0 27 (dk_at dksX12_isAlone_1 8 rfl rfl)
theorem dX12_isAlone_35 : decode cX12_isAlone 35 = .ok (.iload_n 3, 1) := dk_29 (dk_at dksX12_isAlone_1 11 rfl rfl)
theorem dX12_isAlone_36 : decode cX12_isAlone 36 = .ok (.iload_n 1, 1) := dk_27 (dk_at dksX12_isAlone_1 12 rfl rfl)
theorem dX12_isAlone_37 : decode cX12_isAlone 37 = .ok (.if_icmp .eq 18, 3) := dk_159 0 18 (dk_at dksX12_isAlone_1 13 rfl rfl)
theorem dX12_isAlone_40 : decode cX12_isAlone 40 = .ok (.aload_n 0, 1) := dk_42 (dk_at dksX12_isAlone_1 16 rfl rfl)
theorem dX12_isAlone_41 : decode cX12_isAlone 41 = .ok (.getfield 60, 3) := dk_180 0 60 (dk_at dksX12_isAlone_1 17 rfl rfl)
theorem dX12_isAlone_44 : decode cX12_isAlone 44 = .ok (.iload_n 3, 1) := dk_29 (dk_at dksX12_isAlone_1 20 rfl rfl)
theorem dX12_isAlone_45 : decode cX12_isAlone 45 = .ok (.iaload, 1) := dk_46 (dk_at dksX12_isAlone_1 21 rfl rfl)
theorem dX12_isAlone_46 : decode cX12_isAlone 46 = .ok (.aload_n 0, 1) := dk_42 (dk_at dksX12_isAlone_1 22 rfl rfl)
theorem dX12_isAlone_47 : decode cX12_isAlone 47 = .ok (.getfield 118, 3) := dk_180 0 118 (dk_at dksX12_isAlone_2 0 rfl rfl)
theorem dX12_isAlone_50 : decode cX12_isAlone 50 = .ok (.iconst 1, 1) := dk_4 (dk_at dksX12_isAlone_2 3 rfl rfl)
theorem dX12_isAlone_51 : decode cX12_isAlone 51 = .ok (.isub, 1) := dk_100 (dk_at dksX12_isAlone_2 4 rfl rfl)
theorem dX12_isAlone_52 : decode cX12_isAlone 52 = .ok (.if_icmp .ne 7, 3) := dk_160 0 7 (dk_at dksX12_isAlone_2 5 rfl rfl)
theorem dX12_isAlone_55 : decode cX12_isAlone 55 = .ok (.iconst 1, 1) := dk_4 (dk_at dksX12_isAlone_2 8 rfl rfl)
theorem dX12_isAlone_56 : decode cX12_isAlone 56 = .ok (.goto 4, 3) := dk_167 0 4 (dk_at dksX12_isAlone_2 9 rfl rfl)
theorem dX12_isAlone_59 : decode cX12_isAlone 59 = .ok (.iconst 0, 1) := dk_3 (dk_at dksX12_isAlone_2 12 rfl rfl)
theorem dX12_isAlone_60 : decode cX12_isAlone 60 = .ok (.istore_n 2, 1) := dk_61 (dk_at dksX12_isAlone_2 13 rfl rfl)
theorem dX12_isAlone_61 : decode cX12_isAlone 61 = .ok (.iinc 3 1, 3) := dk_132 3 1 (dk_at dksX12_isAlone_2 14 rfl rfl)
theorem dX12_isAlone_64 : decode cX12_isAlone 64 = .ok (.goto (-41), 3) := dk_167 255 215 (dk_at dksX12_isAlone_2 17 rfl rfl)
theorem dX12_isAlone_67 : decode cX12_isAlone 67 = .ok (.iload_n 2, 1) := dk_28 (dk_at dksX12_isAlone_2 20 rfl rfl)
theorem dX12_isAlone_68 : decode cX12_isAlone 68 = .ok (.ireturn, 1) := dk_172 (dk_at dksX12_isAlone_2 21 rfl rfl)
abbrev cX12_traps : ByteArray := prog_19_method_56_code
def yX12_traps : MethodName := ⟨RX12, "traps", "()I"⟩
def dkwX12_traps_2 : List UInt8 := [167, 255, 223, 27, 172]
abbrev dktX12_traps_2 : List UInt8 := dkwX12_traps_2 ++ []
def dkwX12_traps_1 : List UInt8 := [180, 0, 84, 42, 180, 0, 72, 28, 46, 51, 153, 0, 7, 3, 167, 0, 4, 4, 96, 60, 132, 2, 1]
abbrev dktX12_traps_1 : List UInt8 := dkwX12_traps_1 ++ dktX12_traps_2
def dkwX12_traps_0 : List UInt8 := [42, 3, 181, 0, 115, 42, 182, 1, 43, 3, 60, 3, 61, 28, 42, 180, 1, 8, 162, 0, 31, 27, 42]
abbrev dktX12_traps_0 : List UInt8 := dkwX12_traps_0 ++ dktX12_traps_1
theorem dksX12_traps_0 : cX12_traps.data.toList.drop 0 = dktX12_traps_0 := by decide +kernel
theorem dksX12_traps_1 : cX12_traps.data.toList.drop 23 = dktX12_traps_1 := dk_seg dksX12_traps_0 23 rfl rfl
theorem dksX12_traps_2 : cX12_traps.data.toList.drop 46 = dktX12_traps_2 := dk_seg dksX12_traps_1 23 rfl rfl
theorem dX12_traps_0 : decode cX12_traps 0 = .ok (.aload_n 0, 1) := dk_42 (dk_at dksX12_traps_0 0 rfl rfl)
theorem dX12_traps_1 : decode cX12_traps 1 = .ok (.iconst 0, 1) := dk_3 (dk_at dksX12_traps_0 1 rfl rfl)
theorem dX12_traps_2 : decode cX12_traps 2 = .ok (.putfield 115, 3) := dk_181 0 115 (dk_at dksX12_traps_0 2 rfl rfl)
theorem dX12_traps_5 : decode cX12_traps 5 = .ok (.aload_n 0, 1) := dk_42 (dk_at dksX12_traps_0 5 rfl rfl)
theorem dX12_traps_6 : decode cX12_traps 6 = .ok (.invokevirtual 299, 3) := dk_182 1 43 (dk_at dksX12_traps_0 6 rfl rfl)
theorem dX12_traps_9 : decode cX12_traps 9 = .ok (.iconst 0, 1) := dk_3 (dk_at dksX12_traps_0 9 rfl rfl)
theorem dX12_traps_10 : decode cX12_traps 10 = .ok (.istore_n 1, 1) := dk_60 (dk_at dksX12_traps_0 10 rfl rfl)
theorem dX12_traps_11 : decode cX12_traps 11 = .ok (.iconst 0, 1) := dk_3 (dk_at dksX12_traps_0 11 rfl rfl)
theorem dX12_traps_12 : decode cX12_traps 12 = .ok (.istore_n 2, 1) := dk_61 (dk_at dksX12_traps_0 12 rfl rfl)
theorem dX12_traps_13 : decode cX12_traps 13 = .ok (.iload_n 2, 1) := dk_28 (dk_at dksX12_traps_0 13 rfl rfl)
theorem dX12_traps_14 : decode cX12_traps 14 = .ok (.aload_n 0, 1) := dk_42 (dk_at dksX12_traps_0 14 rfl rfl)
theorem dX12_traps_15 : decode cX12_traps 15 = .ok (.getfield 264, 3) := dk_180 1 8 (dk_at dksX12_traps_0 15 rfl rfl)
theorem dX12_traps_18 : decode cX12_traps 18 = .ok (.if_icmp .ge 31, 3) := dk_162 0 31 (dk_at dksX12_traps_0 18 rfl rfl)
theorem dX12_traps_21 : decode cX12_traps 21 = .ok (.iload_n 1, 1) := dk_27 (dk_at dksX12_traps_0 21 rfl rfl)
theorem dX12_traps_22 : decode cX12_traps 22 = .ok (.aload_n 0, 1) := dk_42 (dk_at dksX12_traps_0 22 rfl rfl)
theorem dX12_traps_23 : decode cX12_traps 23 = .ok (.getfield 84, 3) := dk_180 0 84 (dk_at dksX12_traps_1 0 rfl rfl)
theorem dX12_traps_26 : decode cX12_traps 26 = .ok (.aload_n 0, 1) := dk_42 (dk_at dksX12_traps_1 3 rfl rfl)
theorem dX12_traps_27 : decode cX12_traps 27 = .ok (.getfield 72, 3) := dk_180 0 72 (dk_at dksX12_traps_1 4 rfl rfl)
theorem dX12_traps_30 : decode cX12_traps 30 = .ok (.iload_n 2, 1) := dk_28 (dk_at dksX12_traps_1 7 rfl rfl)
theorem dX12_traps_31 : decode cX12_traps 31 = .ok (.iaload, 1) := dk_46 (dk_at dksX12_traps_1 8 rfl rfl)
theorem dX12_traps_32 : decode cX12_traps 32 = .ok (.baload, 1) := dk_51 (dk_at dksX12_traps_1 9 rfl rfl)
theorem dX12_traps_33 : decode cX12_traps 33 = .ok (.ifCond .eq 7, 3) := dk_153 0 7 (dk_at dksX12_traps_1 10 rfl rfl)
theorem dX12_traps_36 : decode cX12_traps 36 = .ok (.iconst 0, 1) := dk_3 (dk_at dksX12_traps_1 13 rfl rfl)
theorem dX12_traps_37 : decode cX12_traps 37 = .ok (.goto 4, 3) := dk_167 0 4 (dk_at dksX12_traps_1 14 rfl rfl)
theorem dX12_traps_40 : decode cX12_traps 40 = .ok (.iconst 1, 1) := dk_4 (dk_at dksX12_traps_1 17 rfl rfl)
theorem dX12_traps_41 : decode cX12_traps 41 = .ok (.iadd, 1) := dk_96 (dk_at dksX12_traps_1 18 rfl rfl)
theorem dX12_traps_42 : decode cX12_traps 42 = .ok (.istore_n 1, 1) := dk_60 (dk_at dksX12_traps_1 19 rfl rfl)
theorem dX12_traps_43 : decode cX12_traps 43 = .ok (.iinc 2 1, 3) := dk_132 2 1 (dk_at dksX12_traps_1 20 rfl rfl)
theorem dX12_traps_46 : decode cX12_traps 46 = .ok (.goto (-33), 3) := dk_167 255 223 (dk_at dksX12_traps_2 0 rfl rfl)
theorem dX12_traps_49 : decode cX12_traps 49 = .ok (.iload_n 1, 1) := dk_27 (dk_at dksX12_traps_2 3 rfl rfl)
theorem dX12_traps_50 : decode cX12_traps 50 = .ok (.ireturn, 1) := dk_172 (dk_at dksX12_traps_2 4 rfl rfl)
abbrev cX12_findLeads : ByteArray := prog_19_method_51_code
def yX12_findLeads : MethodName := ⟨RX12, "findLeads", "()V"⟩
def dkwX12_findLeads_5 : List UInt8 := [167, 255, 208, 167, 255, 192, 177]
abbrev dktX12_findLeads_5 : List UInt8 := dkwX12_findLeads_5 ++ []
def dkwX12_findLeads_4 : List UInt8 := [182, 1, 34, 153, 0, 17, 42, 180, 0, 84, 42, 180, 0, 72, 28, 46, 4, 84, 4, 60, 132, 2, 255]
abbrev dktX12_findLeads_4 : List UInt8 := dkwX12_findLeads_4 ++ dktX12_findLeads_5
def dkwX12_findLeads_3 : List UInt8 := [155, 0, 50, 42, 180, 0, 84, 42, 180, 0, 72, 28, 46, 51, 154, 0, 30, 42, 42, 180, 0, 72, 28, 46]
abbrev dktX12_findLeads_3 : List UInt8 := dkwX12_findLeads_3 ++ dktX12_findLeads_4
def dkwX12_findLeads_2 : List UInt8 := [132, 1, 1, 167, 255, 224, 4, 60, 27, 153, 0, 66, 3, 60, 42, 180, 1, 8, 4, 100, 61, 28]
abbrev dktX12_findLeads_2 : List UInt8 := dkwX12_findLeads_2 ++ dktX12_findLeads_3
def dkwX12_findLeads_1 : List UInt8 := [162, 0, 30, 42, 180, 0, 84, 42, 180, 0, 72, 27, 46, 42, 42, 180, 0, 72, 27, 46, 182, 1, 17, 84]
abbrev dktX12_findLeads_1 : List UInt8 := dkwX12_findLeads_1 ++ dktX12_findLeads_2
def dkwX12_findLeads_0 : List UInt8 := [42, 182, 1, 14, 42, 180, 1, 4, 153, 0, 4, 177, 42, 4, 181, 1, 4, 3, 60, 27, 42, 180, 1, 8]
abbrev dktX12_findLeads_0 : List UInt8 := dkwX12_findLeads_0 ++ dktX12_findLeads_1
theorem dksX12_findLeads_0 : cX12_findLeads.data.toList.drop 0 = dktX12_findLeads_0 := by decide +kernel
theorem dksX12_findLeads_1 : cX12_findLeads.data.toList.drop 24 = dktX12_findLeads_1 := dk_seg dksX12_findLeads_0 24 rfl rfl
theorem dksX12_findLeads_2 : cX12_findLeads.data.toList.drop 48 = dktX12_findLeads_2 := dk_seg dksX12_findLeads_1 24 rfl rfl
theorem dksX12_findLeads_3 : cX12_findLeads.data.toList.drop 70 = dktX12_findLeads_3 := dk_seg dksX12_findLeads_2 22 rfl rfl
theorem dksX12_findLeads_4 : cX12_findLeads.data.toList.drop 94 = dktX12_findLeads_4 := dk_seg dksX12_findLeads_3 24 rfl rfl
theorem dksX12_findLeads_5 : cX12_findLeads.data.toList.drop 117 = dktX12_findLeads_5 := dk_seg dksX12_findLeads_4 23 rfl rfl
theorem dX12_findLeads_0 : decode cX12_findLeads 0 = .ok (.aload_n 0, 1) := dk_42 (dk_at dksX12_findLeads_0 0 rfl rfl)
theorem dX12_findLeads_1 : decode cX12_findLeads 1 = .ok (.invokevirtual 270, 3) := dk_182 1 14 (dk_at dksX12_findLeads_0 1 rfl rfl)
theorem dX12_findLeads_4 : decode cX12_findLeads 4 = .ok (.aload_n 0, 1) := dk_42 (dk_at dksX12_findLeads_0 4 rfl rfl)
theorem dX12_findLeads_5 : decode cX12_findLeads 5 = .ok (.getfield 260, 3) := dk_180 1 4 (dk_at dksX12_findLeads_0 5 rfl rfl)
theorem dX12_findLeads_8 : decode cX12_findLeads 8 = .ok (.ifCond .eq 4, 3) := dk_153 0 4 (dk_at dksX12_findLeads_0 8 rfl rfl)
theorem dX12_findLeads_11 : decode cX12_findLeads 11 = .ok (.return_, 1) := dk_177 (dk_at dksX12_findLeads_0 11 rfl rfl)
theorem dX12_findLeads_12 : decode cX12_findLeads 12 = .ok (.aload_n 0, 1) := dk_42 (dk_at dksX12_findLeads_0 12 rfl rfl)
theorem dX12_findLeads_13 : decode cX12_findLeads 13 = .ok (.iconst 1, 1) := dk_4 (dk_at dksX12_findLeads_0 13 rfl rfl)
theorem dX12_findLeads_14 : decode cX12_findLeads 14 = .ok (.putfield 260, 3) := dk_181 1 4 (dk_at dksX12_findLeads_0 14 rfl rfl)
theorem dX12_findLeads_17 : decode cX12_findLeads 17 = .ok (.iconst 0, 1) := dk_3 (dk_at dksX12_findLeads_0 17 rfl rfl)
theorem dX12_findLeads_18 : decode cX12_findLeads 18 = .ok (.istore_n 1, 1) := dk_60 (dk_at dksX12_findLeads_0 18 rfl rfl)
theorem dX12_findLeads_19 : decode cX12_findLeads 19 = .ok (.iload_n 1, 1) := dk_27 (dk_at dksX12_findLeads_0 19 rfl rfl)
theorem dX12_findLeads_20 : decode cX12_findLeads 20 = .ok (.aload_n 0, 1) := dk_42 (dk_at dksX12_findLeads_0 20 rfl rfl)
theorem dX12_findLeads_21 : decode cX12_findLeads 21 = .ok (.getfield 264, 3) := dk_180 1 8 (dk_at dksX12_findLeads_0 21 rfl rfl)
theorem dX12_findLeads_24 : decode cX12_findLeads 24 = .ok (.if_icmp .ge 30, 3) := dk_162 0 30 (dk_at dksX12_findLeads_1 0 rfl rfl)
theorem dX12_findLeads_27 : decode cX12_findLeads 27 = .ok (.aload_n 0, 1) := dk_42 (dk_at dksX12_findLeads_1 3 rfl rfl)
theorem dX12_findLeads_28 : decode cX12_findLeads 28 = .ok (.getfield 84, 3) := dk_180 0 84 (dk_at dksX12_findLeads_1 4 rfl rfl)
theorem dX12_findLeads_31 : decode cX12_findLeads 31 = .ok (.aload_n 0, 1) := dk_42 (dk_at dksX12_findLeads_1 7 rfl rfl)
theorem dX12_findLeads_32 : decode cX12_findLeads 32 = .ok (.getfield 72, 3) := dk_180 0 72 (dk_at dksX12_findLeads_1 8 rfl rfl)
theorem dX12_findLeads_35 : decode cX12_findLeads 35 = .ok (.iload_n 1, 1) := dk_27 (dk_at dksX12_findLeads_1 11 rfl rfl)
theorem dX12_findLeads_36 : decode cX12_findLeads 36 = .ok (.iaload, 1) := dk_46 (dk_at dksX12_findLeads_1 12 rfl rfl)
theorem dX12_findLeads_37 : decode cX12_findLeads 37 = .ok (.aload_n 0, 1) := dk_42 (dk_at dksX12_findLeads_1 13 rfl rfl)
theorem dX12_findLeads_38 : decode cX12_findLeads 38 = .ok (.aload_n 0, 1) := dk_42 (dk_at dksX12_findLeads_1 14 rfl rfl)
theorem dX12_findLeads_39 : decode cX12_findLeads 39 = .ok (.getfield 72, 3) := dk_180 0 72 (dk_at dksX12_findLeads_1 15 rfl rfl)
theorem dX12_findLeads_42 : decode cX12_findLeads 42 = .ok (.iload_n 1, 1) := dk_27 (dk_at dksX12_findLeads_1 18 rfl rfl)
theorem dX12_findLeads_43 : decode cX12_findLeads 43 = .ok (.iaload, 1) := dk_46 (dk_at dksX12_findLeads_1 19 rfl rfl)
theorem dX12_findLeads_44 : decode cX12_findLeads 44 = .ok (.invokevirtual 273, 3) := dk_182 1 17 (dk_at dksX12_findLeads_1 20 rfl rfl)
theorem dX12_findLeads_47 : decode cX12_findLeads 47 = .ok (.bastore, 1) := dk_84 (dk_at dksX12_findLeads_1 23 rfl rfl)
theorem dX12_findLeads_48 : decode cX12_findLeads 48 = .ok (.iinc 1 1, 3) := dk_132 1 1 (dk_at dksX12_findLeads_2 0 rfl rfl)
theorem dX12_findLeads_51 : decode cX12_findLeads 51 = .ok (.goto (-32), 3) := dk_167 255 224 (dk_at dksX12_findLeads_2 3 rfl rfl)
theorem dX12_findLeads_54 : decode cX12_findLeads 54 = .ok (.iconst 1, 1) := dk_4 (dk_at dksX12_findLeads_2 6 rfl rfl)
theorem dX12_findLeads_55 : decode cX12_findLeads 55 = .ok (.istore_n 1, 1) := dk_60 (dk_at dksX12_findLeads_2 7 rfl rfl)
theorem dX12_findLeads_56 : decode cX12_findLeads 56 = .ok (.iload_n 1, 1) := dk_27 (dk_at dksX12_findLeads_2 8 rfl rfl)
theorem dX12_findLeads_57 : decode cX12_findLeads 57 = .ok (.ifCond .eq 66, 3) := dk_153 0 66 (dk_at dksX12_findLeads_2 9 rfl rfl)
theorem dX12_findLeads_60 : decode cX12_findLeads 60 = .ok (.iconst 0, 1) := dk_3 (dk_at dksX12_findLeads_2 12 rfl rfl)
theorem dX12_findLeads_61 : decode cX12_findLeads 61 = .ok (.istore_n 1, 1) := dk_60 (dk_at dksX12_findLeads_2 13 rfl rfl)
theorem dX12_findLeads_62 : decode cX12_findLeads 62 = .ok (.aload_n 0, 1) := dk_42 (dk_at dksX12_findLeads_2 14 rfl rfl)
theorem dX12_findLeads_63 : decode cX12_findLeads 63 = .ok (.getfield 264, 3) := dk_180 1 8 (dk_at dksX12_findLeads_2 15 rfl rfl)
theorem dX12_findLeads_66 : decode cX12_findLeads 66 = .ok (.iconst 1, 1) := dk_4 (dk_at dksX12_findLeads_2 18 rfl rfl)
theorem dX12_findLeads_67 : decode cX12_findLeads 67 = .ok (.isub, 1) := dk_100 (dk_at dksX12_findLeads_2 19 rfl rfl)
theorem dX12_findLeads_68 : decode cX12_findLeads 68 = .ok (.istore_n 2, 1) := dk_61 (dk_at dksX12_findLeads_2 20 rfl rfl)
theorem dX12_findLeads_69 : decode cX12_findLeads 69 = .ok (.iload_n 2, 1) := dk_28 (dk_at dksX12_findLeads_2 21 rfl rfl)
theorem dX12_findLeads_70 : decode cX12_findLeads 70 = .ok (.ifCond .lt 50, 3) := dk_155 0 50 (dk_at dksX12_findLeads_3 0 rfl rfl)
theorem dX12_findLeads_73 : decode cX12_findLeads 73 = .ok (.aload_n 0, 1) := dk_42 (dk_at dksX12_findLeads_3 3 rfl rfl)
theorem dX12_findLeads_74 : decode cX12_findLeads 74 = .ok (.getfield 84, 3) := dk_180 0 84 (dk_at dksX12_findLeads_3 4 rfl rfl)
theorem dX12_findLeads_77 : decode cX12_findLeads 77 = .ok (.aload_n 0, 1) := dk_42 (dk_at dksX12_findLeads_3 7 rfl rfl)
theorem dX12_findLeads_78 : decode cX12_findLeads 78 = .ok (.getfield 72, 3) := dk_180 0 72 (dk_at dksX12_findLeads_3 8 rfl rfl)
theorem dX12_findLeads_81 : decode cX12_findLeads 81 = .ok (.iload_n 2, 1) := dk_28 (dk_at dksX12_findLeads_3 11 rfl rfl)
theorem dX12_findLeads_82 : decode cX12_findLeads 82 = .ok (.iaload, 1) := dk_46 (dk_at dksX12_findLeads_3 12 rfl rfl)
theorem dX12_findLeads_83 : decode cX12_findLeads 83 = .ok (.baload, 1) := dk_51 (dk_at dksX12_findLeads_3 13 rfl rfl)
theorem dX12_findLeads_84 : decode cX12_findLeads 84 = .ok (.ifCond .ne 30, 3) := dk_154 0 30 (dk_at dksX12_findLeads_3 14 rfl rfl)
theorem dX12_findLeads_87 : decode cX12_findLeads 87 = .ok (.aload_n 0, 1) := dk_42 (dk_at dksX12_findLeads_3 17 rfl rfl)
theorem dX12_findLeads_88 : decode cX12_findLeads 88 = .ok (.aload_n 0, 1) := dk_42 (dk_at dksX12_findLeads_3 18 rfl rfl)
theorem dX12_findLeads_89 : decode cX12_findLeads 89 = .ok (.getfield 72, 3) := dk_180 0 72 (dk_at dksX12_findLeads_3 19 rfl rfl)
theorem dX12_findLeads_92 : decode cX12_findLeads 92 = .ok (.iload_n 2, 1) := dk_28 (dk_at dksX12_findLeads_3 22 rfl rfl)
theorem dX12_findLeads_93 : decode cX12_findLeads 93 = .ok (.iaload, 1) := dk_46 (dk_at dksX12_findLeads_3 23 rfl rfl)
theorem dX12_findLeads_94 : decode cX12_findLeads 94 = .ok (.invokevirtual 290, 3) := dk_182 1 34 (dk_at dksX12_findLeads_4 0 rfl rfl)
theorem dX12_findLeads_97 : decode cX12_findLeads 97 = .ok (.ifCond .eq 17, 3) := dk_153 0 17 (dk_at dksX12_findLeads_4 3 rfl rfl)
theorem dX12_findLeads_100 : decode cX12_findLeads 100 = .ok (.aload_n 0, 1) := dk_42 (dk_at dksX12_findLeads_4 6 rfl rfl)
theorem dX12_findLeads_101 : decode cX12_findLeads 101 = .ok (.getfield 84, 3) := dk_180 0 84 (dk_at dksX12_findLeads_4 7 rfl rfl)
theorem dX12_findLeads_104 : decode cX12_findLeads 104 = .ok (.aload_n 0, 1) := dk_42 (dk_at dksX12_findLeads_4 10 rfl rfl)
theorem dX12_findLeads_105 : decode cX12_findLeads 105 = .ok (.getfield 72, 3) := dk_180 0 72 (dk_at dksX12_findLeads_4 11 rfl rfl)
theorem dX12_findLeads_108 : decode cX12_findLeads 108 = .ok (.iload_n 2, 1) := dk_28 (dk_at dksX12_findLeads_4 14 rfl rfl)
theorem dX12_findLeads_109 : decode cX12_findLeads 109 = .ok (.iaload, 1) := dk_46 (dk_at dksX12_findLeads_4 15 rfl rfl)
theorem dX12_findLeads_110 : decode cX12_findLeads 110 = .ok (.iconst 1, 1) := dk_4 (dk_at dksX12_findLeads_4 16 rfl rfl)
theorem dX12_findLeads_111 : decode cX12_findLeads 111 = .ok (.bastore, 1) := dk_84 (dk_at dksX12_findLeads_4 17 rfl rfl)
theorem dX12_findLeads_112 : decode cX12_findLeads 112 = .ok (.iconst 1, 1) := dk_4 (dk_at dksX12_findLeads_4 18 rfl rfl)
theorem dX12_findLeads_113 : decode cX12_findLeads 113 = .ok (.istore_n 1, 1) := dk_60 (dk_at dksX12_findLeads_4 19 rfl rfl)
theorem dX12_findLeads_114 : decode cX12_findLeads 114 = .ok (.iinc 2 (-1), 3) := dk_132 2 255 (dk_at dksX12_findLeads_4 20 rfl rfl)
theorem dX12_findLeads_117 : decode cX12_findLeads 117 = .ok (.goto (-48), 3) := dk_167 255 208 (dk_at dksX12_findLeads_5 0 rfl rfl)
theorem dX12_findLeads_120 : decode cX12_findLeads 120 = .ok (.goto (-64), 3) := dk_167 255 192 (dk_at dksX12_findLeads_5 3 rfl rfl)
theorem dX12_findLeads_123 : decode cX12_findLeads 123 = .ok (.return_, 1) := dk_177 (dk_at dksX12_findLeads_5 6 rfl rfl)
abbrev cX12_leadsOn : ByteArray := prog_19_method_52_code
def yX12_leadsOn : MethodName := ⟨RX12, "leadsOn", "(I)Z"⟩
def dkwX12_leadsOn_2 : List UInt8 := [182, 1, 11, 51, 153, 0, 5, 4, 172, 42, 27, 182, 0, 227, 132, 2, 1, 167, 255, 202, 3, 172]
abbrev dktX12_leadsOn_2 : List UInt8 := dkwX12_leadsOn_2 ++ []
def dkwX12_leadsOn_1 : List UInt8 := [182, 0, 230, 155, 0, 33, 42, 42, 180, 0, 66, 28, 46, 3, 182, 0, 236, 42, 180, 0, 84, 42]
abbrev dktX12_leadsOn_1 : List UInt8 := dkwX12_leadsOn_1 ++ dktX12_leadsOn_2
def dkwX12_leadsOn_0 : List UInt8 := [42, 27, 182, 0, 227, 3, 61, 28, 42, 180, 0, 243, 162, 0, 52, 42, 42, 180, 0, 66, 28, 46]
abbrev dktX12_leadsOn_0 : List UInt8 := dkwX12_leadsOn_0 ++ dktX12_leadsOn_1
theorem dksX12_leadsOn_0 : cX12_leadsOn.data.toList.drop 0 = dktX12_leadsOn_0 := by decide +kernel
theorem dksX12_leadsOn_1 : cX12_leadsOn.data.toList.drop 22 = dktX12_leadsOn_1 := dk_seg dksX12_leadsOn_0 22 rfl rfl
theorem dksX12_leadsOn_2 : cX12_leadsOn.data.toList.drop 44 = dktX12_leadsOn_2 := dk_seg dksX12_leadsOn_1 22 rfl rfl
theorem dX12_leadsOn_0 : decode cX12_leadsOn 0 = .ok (.aload_n 0, 1) := dk_42 (dk_at dksX12_leadsOn_0 0 rfl rfl)
theorem dX12_leadsOn_1 : decode cX12_leadsOn 1 = .ok (.iload_n 1, 1) := dk_27 (dk_at dksX12_leadsOn_0 1 rfl rfl)
theorem dX12_leadsOn_2 : decode cX12_leadsOn 2 = .ok (.invokevirtual 227, 3) := dk_182 0 227 (dk_at dksX12_leadsOn_0 2 rfl rfl)
theorem dX12_leadsOn_5 : decode cX12_leadsOn 5 = .ok (.iconst 0, 1) := dk_3 (dk_at dksX12_leadsOn_0 5 rfl rfl)
theorem dX12_leadsOn_6 : decode cX12_leadsOn 6 = .ok (.istore_n 2, 1) := dk_61 (dk_at dksX12_leadsOn_0 6 rfl rfl)
theorem dX12_leadsOn_7 : decode cX12_leadsOn 7 = .ok (.iload_n 2, 1) := dk_28 (dk_at dksX12_leadsOn_0 7 rfl rfl)
theorem dX12_leadsOn_8 : decode cX12_leadsOn 8 = .ok (.aload_n 0, 1) := dk_42 (dk_at dksX12_leadsOn_0 8 rfl rfl)
theorem dX12_leadsOn_9 : decode cX12_leadsOn 9 = .ok (.getfield 243, 3) := dk_180 0 243 (dk_at dksX12_leadsOn_0 9 rfl rfl)
theorem dX12_leadsOn_12 : decode cX12_leadsOn 12 = .ok (.if_icmp .ge 52, 3) := dk_162 0 52 (dk_at dksX12_leadsOn_0 12 rfl rfl)
theorem dX12_leadsOn_15 : decode cX12_leadsOn 15 = .ok (.aload_n 0, 1) := dk_42 (dk_at dksX12_leadsOn_0 15 rfl rfl)
theorem dX12_leadsOn_16 : decode cX12_leadsOn 16 = .ok (.aload_n 0, 1) := dk_42 (dk_at dksX12_leadsOn_0 16 rfl rfl)
theorem dX12_leadsOn_17 : decode cX12_leadsOn 17 = .ok (.getfield 66, 3) := dk_180 0 66 (dk_at dksX12_leadsOn_0 17 rfl rfl)
theorem dX12_leadsOn_20 : decode cX12_leadsOn 20 = .ok (.iload_n 2, 1) := dk_28 (dk_at dksX12_leadsOn_0 20 rfl rfl)
theorem dX12_leadsOn_21 : decode cX12_leadsOn 21 = .ok (.iaload, 1) := dk_46 (dk_at dksX12_leadsOn_0 21 rfl rfl)
theorem dX12_leadsOn_22 : decode cX12_leadsOn 22 = .ok (.invokevirtual 230, 3) := dk_182 0 230 (dk_at dksX12_leadsOn_1 0 rfl rfl)
theorem dX12_leadsOn_25 : decode cX12_leadsOn 25 = .ok (.ifCond .lt 33, 3) := dk_155 0 33 (dk_at dksX12_leadsOn_1 3 rfl rfl)
theorem dX12_leadsOn_28 : decode cX12_leadsOn 28 = .ok (.aload_n 0, 1) := dk_42 (dk_at dksX12_leadsOn_1 6 rfl rfl)
theorem dX12_leadsOn_29 : decode cX12_leadsOn 29 = .ok (.aload_n 0, 1) := dk_42 (dk_at dksX12_leadsOn_1 7 rfl rfl)
theorem dX12_leadsOn_30 : decode cX12_leadsOn 30 = .ok (.getfield 66, 3) := dk_180 0 66 (dk_at dksX12_leadsOn_1 8 rfl rfl)
theorem dX12_leadsOn_33 : decode cX12_leadsOn 33 = .ok (.iload_n 2, 1) := dk_28 (dk_at dksX12_leadsOn_1 11 rfl rfl)
theorem dX12_leadsOn_34 : decode cX12_leadsOn 34 = .ok (.iaload, 1) := dk_46 (dk_at dksX12_leadsOn_1 12 rfl rfl)
theorem dX12_leadsOn_35 : decode cX12_leadsOn 35 = .ok (.iconst 0, 1) := dk_3 (dk_at dksX12_leadsOn_1 13 rfl rfl)
theorem dX12_leadsOn_36 : decode cX12_leadsOn 36 = .ok (.invokevirtual 236, 3) := dk_182 0 236 (dk_at dksX12_leadsOn_1 14 rfl rfl)
theorem dX12_leadsOn_39 : decode cX12_leadsOn 39 = .ok (.aload_n 0, 1) := dk_42 (dk_at dksX12_leadsOn_1 17 rfl rfl)
theorem dX12_leadsOn_40 : decode cX12_leadsOn 40 = .ok (.getfield 84, 3) := dk_180 0 84 (dk_at dksX12_leadsOn_1 18 rfl rfl)
theorem dX12_leadsOn_43 : decode cX12_leadsOn 43 = .ok (.aload_n 0, 1) := dk_42 (dk_at dksX12_leadsOn_1 21 rfl rfl)
theorem dX12_leadsOn_44 : decode cX12_leadsOn 44 = .ok (.invokevirtual 267, 3) := dk_182 1 11 (dk_at dksX12_leadsOn_2 0 rfl rfl)
theorem dX12_leadsOn_47 : decode cX12_leadsOn 47 = .ok (.baload, 1) := dk_51 (dk_at dksX12_leadsOn_2 3 rfl rfl)
theorem dX12_leadsOn_48 : decode cX12_leadsOn 48 = .ok (.ifCond .eq 5, 3) := dk_153 0 5 (dk_at dksX12_leadsOn_2 4 rfl rfl)
theorem dX12_leadsOn_51 : decode cX12_leadsOn 51 = .ok (.iconst 1, 1) := dk_4 (dk_at dksX12_leadsOn_2 7 rfl rfl)
theorem dX12_leadsOn_52 : decode cX12_leadsOn 52 = .ok (.ireturn, 1) := dk_172 (dk_at dksX12_leadsOn_2 8 rfl rfl)
theorem dX12_leadsOn_53 : decode cX12_leadsOn 53 = .ok (.aload_n 0, 1) := dk_42 (dk_at dksX12_leadsOn_2 9 rfl rfl)
theorem dX12_leadsOn_54 : decode cX12_leadsOn 54 = .ok (.iload_n 1, 1) := dk_27 (dk_at dksX12_leadsOn_2 10 rfl rfl)
theorem dX12_leadsOn_55 : decode cX12_leadsOn 55 = .ok (.invokevirtual 227, 3) := dk_182 0 227 (dk_at dksX12_leadsOn_2 11 rfl rfl)
theorem dX12_leadsOn_58 : decode cX12_leadsOn 58 = .ok (.iinc 2 1, 3) := dk_132 2 1 (dk_at dksX12_leadsOn_2 14 rfl rfl)
theorem dX12_leadsOn_61 : decode cX12_leadsOn 61 = .ok (.goto (-54), 3) := dk_167 255 202 (dk_at dksX12_leadsOn_2 17 rfl rfl)
theorem dX12_leadsOn_64 : decode cX12_leadsOn 64 = .ok (.iconst 0, 1) := dk_3 (dk_at dksX12_leadsOn_2 20 rfl rfl)
theorem dX12_leadsOn_65 : decode cX12_leadsOn 65 = .ok (.ireturn, 1) := dk_172 (dk_at dksX12_leadsOn_2 21 rfl rfl)
abbrev cX12_lost : ByteArray := prog_19_method_57_code
def yX12_lost : MethodName := ⟨RX12, "lost", "(I)I"⟩
def dkwX12_lost_5 : List UInt8 := [167, 255, 188, 16, 252, 172]
abbrev dktX12_lost_5 : List UInt8 := dkwX12_lost_5 ++ []
def dkwX12_lost_4 : List UInt8 := [153, 0, 16, 42, 180, 0, 84, 21, 5, 51, 154, 0, 6, 21, 4, 172, 21, 5, 62, 132, 4, 1]
abbrev dktX12_lost_4 : List UInt8 := dkwX12_lost_4 ++ dktX12_lost_5
def dkwX12_lost_3 : List UInt8 := [104, 21, 4, 96, 47, 136, 3, 182, 0, 236, 42, 182, 1, 11, 54, 5, 42, 180, 0, 84, 29, 51]
abbrev dktX12_lost_3 : List UInt8 := dkwX12_lost_3 ++ dktX12_lost_4
def dkwX12_lost_2 : List UInt8 := [21, 4, 42, 180, 0, 105, 27, 46, 162, 0, 63, 42, 29, 182, 0, 227, 42, 42, 180, 0, 108, 16, 100, 27]
abbrev dktX12_lost_2 : List UInt8 := dkwX12_lost_2 ++ dktX12_lost_3
def dkwX12_lost_1 : List UInt8 := [182, 1, 46, 155, 0, 6, 16, 253, 172, 42, 182, 1, 43, 42, 182, 0, 224, 61, 28, 62, 3, 54, 4]
abbrev dktX12_lost_1 : List UInt8 := dkwX12_lost_1 ++ dktX12_lost_2
def dkwX12_lost_0 : List UInt8 := [42, 3, 181, 0, 115, 42, 27, 182, 0, 253, 156, 0, 9, 42, 27, 182, 0, 253, 172, 42, 27, 3]
abbrev dktX12_lost_0 : List UInt8 := dkwX12_lost_0 ++ dktX12_lost_1
theorem dksX12_lost_0 : cX12_lost.data.toList.drop 0 = dktX12_lost_0 := by decide +kernel
theorem dksX12_lost_1 : cX12_lost.data.toList.drop 22 = dktX12_lost_1 := dk_seg dksX12_lost_0 22 rfl rfl
theorem dksX12_lost_2 : cX12_lost.data.toList.drop 45 = dktX12_lost_2 := dk_seg dksX12_lost_1 23 rfl rfl
theorem dksX12_lost_3 : cX12_lost.data.toList.drop 69 = dktX12_lost_3 := dk_seg dksX12_lost_2 24 rfl rfl
theorem dksX12_lost_4 : cX12_lost.data.toList.drop 91 = dktX12_lost_4 := dk_seg dksX12_lost_3 22 rfl rfl
theorem dksX12_lost_5 : cX12_lost.data.toList.drop 113 = dktX12_lost_5 := dk_seg dksX12_lost_4 22 rfl rfl
theorem dX12_lost_0 : decode cX12_lost 0 = .ok (.aload_n 0, 1) := dk_42 (dk_at dksX12_lost_0 0 rfl rfl)
theorem dX12_lost_1 : decode cX12_lost 1 = .ok (.iconst 0, 1) := dk_3 (dk_at dksX12_lost_0 1 rfl rfl)
theorem dX12_lost_2 : decode cX12_lost 2 = .ok (.putfield 115, 3) := dk_181 0 115 (dk_at dksX12_lost_0 2 rfl rfl)
theorem dX12_lost_5 : decode cX12_lost 5 = .ok (.aload_n 0, 1) := dk_42 (dk_at dksX12_lost_0 5 rfl rfl)
theorem dX12_lost_6 : decode cX12_lost 6 = .ok (.iload_n 1, 1) := dk_27 (dk_at dksX12_lost_0 6 rfl rfl)
theorem dX12_lost_7 : decode cX12_lost 7 = .ok (.invokevirtual 253, 3) := dk_182 0 253 (dk_at dksX12_lost_0 7 rfl rfl)
theorem dX12_lost_10 : decode cX12_lost 10 = .ok (.ifCond .ge 9, 3) := dk_156 0 9 (dk_at dksX12_lost_0 10 rfl rfl)
theorem dX12_lost_13 : decode cX12_lost 13 = .ok (.aload_n 0, 1) := dk_42 (dk_at dksX12_lost_0 13 rfl rfl)
theorem dX12_lost_14 : decode cX12_lost 14 = .ok (.iload_n 1, 1) := dk_27 (dk_at dksX12_lost_0 14 rfl rfl)
theorem dX12_lost_15 : decode cX12_lost 15 = .ok (.invokevirtual 253, 3) := dk_182 0 253 (dk_at dksX12_lost_0 15 rfl rfl)
theorem dX12_lost_18 : decode cX12_lost 18 = .ok (.ireturn, 1) := dk_172 (dk_at dksX12_lost_0 18 rfl rfl)
theorem dX12_lost_19 : decode cX12_lost 19 = .ok (.aload_n 0, 1) := dk_42 (dk_at dksX12_lost_0 19 rfl rfl)
theorem dX12_lost_20 : decode cX12_lost 20 = .ok (.iload_n 1, 1) := dk_27 (dk_at dksX12_lost_0 20 rfl rfl)
theorem dX12_lost_21 : decode cX12_lost 21 = .ok (.iconst 0, 1) := dk_3 (dk_at dksX12_lost_0 21 rfl rfl)
theorem dX12_lost_22 : decode cX12_lost 22 = .ok (.invokevirtual 302, 3) := dk_182 1 46 (dk_at dksX12_lost_1 0 rfl rfl)
theorem dX12_lost_25 : decode cX12_lost 25 = .ok (.ifCond .lt 6, 3) := dk_155 0 6 (dk_at dksX12_lost_1 3 rfl rfl)
theorem dX12_lost_28 : decode cX12_lost 28 = .ok (.bipush (-3), 2) := dk_16 253 (dk_at dksX12_lost_1 6 rfl rfl)
theorem dX12_lost_30 : decode cX12_lost 30 = .ok (.ireturn, 1) := dk_172 (dk_at dksX12_lost_1 8 rfl rfl)
theorem dX12_lost_31 : decode cX12_lost 31 = .ok (.aload_n 0, 1) := dk_42 (dk_at dksX12_lost_1 9 rfl rfl)
theorem dX12_lost_32 : decode cX12_lost 32 = .ok (.invokevirtual 299, 3) := dk_182 1 43 (dk_at dksX12_lost_1 10 rfl rfl)
theorem dX12_lost_35 : decode cX12_lost 35 = .ok (.aload_n 0, 1) := dk_42 (dk_at dksX12_lost_1 13 rfl rfl)
theorem dX12_lost_36 : decode cX12_lost 36 = .ok (.invokevirtual 224, 3) := dk_182 0 224 (dk_at dksX12_lost_1 14 rfl rfl)
theorem dX12_lost_39 : decode cX12_lost 39 = .ok (.istore_n 2, 1) := dk_61 (dk_at dksX12_lost_1 17 rfl rfl)
theorem dX12_lost_40 : decode cX12_lost 40 = .ok (.iload_n 2, 1) := dk_28 (dk_at dksX12_lost_1 18 rfl rfl)
theorem dX12_lost_41 : decode cX12_lost 41 = .ok (.istore_n 3, 1) := dk_62 (dk_at dksX12_lost_1 19 rfl rfl)
theorem dX12_lost_42 : decode cX12_lost 42 = .ok (.iconst 0, 1) := dk_3 (dk_at dksX12_lost_1 20 rfl rfl)
theorem dX12_lost_43 : decode cX12_lost 43 = .ok (.istore 4, 2) := dk_54 4 (dk_at dksX12_lost_1 21 rfl rfl)
theorem dX12_lost_45 : decode cX12_lost 45 = .ok (.iload 4, 2) := dk_21 4 (dk_at dksX12_lost_2 0 rfl rfl)
theorem dX12_lost_47 : decode cX12_lost 47 = .ok (.aload_n 0, 1) := dk_42 (dk_at dksX12_lost_2 2 rfl rfl)
theorem dX12_lost_48 : decode cX12_lost 48 = .ok (.getfield 105, 3) := dk_180 0 105 (dk_at dksX12_lost_2 3 rfl rfl)
theorem dX12_lost_51 : decode cX12_lost 51 = .ok (.iload_n 1, 1) := dk_27 (dk_at dksX12_lost_2 6 rfl rfl)
theorem dX12_lost_52 : decode cX12_lost 52 = .ok (.iaload, 1) := dk_46 (dk_at dksX12_lost_2 7 rfl rfl)
theorem dX12_lost_53 : decode cX12_lost 53 = .ok (.if_icmp .ge 63, 3) := dk_162 0 63 (dk_at dksX12_lost_2 8 rfl rfl)
theorem dX12_lost_56 : decode cX12_lost 56 = .ok (.aload_n 0, 1) := dk_42 (dk_at dksX12_lost_2 11 rfl rfl)
theorem dX12_lost_57 : decode cX12_lost 57 = .ok (.iload_n 3, 1) := dk_29 (dk_at dksX12_lost_2 12 rfl rfl)
theorem dX12_lost_58 : decode cX12_lost 58 = .ok (.invokevirtual 227, 3) := dk_182 0 227 (dk_at dksX12_lost_2 13 rfl rfl)
theorem dX12_lost_61 : decode cX12_lost 61 = .ok (.aload_n 0, 1) := dk_42 (dk_at dksX12_lost_2 16 rfl rfl)
theorem dX12_lost_62 : decode cX12_lost 62 = .ok (.aload_n 0, 1) := dk_42 (dk_at dksX12_lost_2 17 rfl rfl)
theorem dX12_lost_63 : decode cX12_lost 63 = .ok (.getfield 108, 3) := dk_180 0 108 (dk_at dksX12_lost_2 18 rfl rfl)
theorem dX12_lost_66 : decode cX12_lost 66 = .ok (.bipush 100, 2) := dk_16 100 (dk_at dksX12_lost_2 21 rfl rfl)
theorem dX12_lost_68 : decode cX12_lost 68 = .ok (.iload_n 1, 1) := dk_27 (dk_at dksX12_lost_2 23 rfl rfl)
theorem dX12_lost_69 : decode cX12_lost 69 = .ok (.imul, 1) := dk_104 (dk_at dksX12_lost_3 0 rfl rfl)
theorem dX12_lost_70 : decode cX12_lost 70 = .ok (.iload 4, 2) := dk_21 4 (dk_at dksX12_lost_3 1 rfl rfl)
theorem dX12_lost_72 : decode cX12_lost 72 = .ok (.iadd, 1) := dk_96 (dk_at dksX12_lost_3 3 rfl rfl)
theorem dX12_lost_73 : decode cX12_lost 73 = .ok (.laload, 1) := dk_47 (dk_at dksX12_lost_3 4 rfl rfl)
theorem dX12_lost_74 : decode cX12_lost 74 = .ok (.l2i, 1) := dk_136 (dk_at dksX12_lost_3 5 rfl rfl)
theorem dX12_lost_75 : decode cX12_lost 75 = .ok (.iconst 0, 1) := dk_3 (dk_at dksX12_lost_3 6 rfl rfl)
theorem dX12_lost_76 : decode cX12_lost 76 = .ok (.invokevirtual 236, 3) := dk_182 0 236 (dk_at dksX12_lost_3 7 rfl rfl)
theorem dX12_lost_79 : decode cX12_lost 79 = .ok (.aload_n 0, 1) := dk_42 (dk_at dksX12_lost_3 10 rfl rfl)
theorem dX12_lost_80 : decode cX12_lost 80 = .ok (.invokevirtual 267, 3) := dk_182 1 11 (dk_at dksX12_lost_3 11 rfl rfl)
theorem dX12_lost_83 : decode cX12_lost 83 = .ok (.istore 5, 2) := dk_54 5 (dk_at dksX12_lost_3 14 rfl rfl)
theorem dX12_lost_85 : decode cX12_lost 85 = .ok (.aload_n 0, 1) := dk_42 (dk_at dksX12_lost_3 16 rfl rfl)
theorem dX12_lost_86 : decode cX12_lost 86 = .ok (.getfield 84, 3) := dk_180 0 84 (dk_at dksX12_lost_3 17 rfl rfl)
theorem dX12_lost_89 : decode cX12_lost 89 = .ok (.iload_n 3, 1) := dk_29 (dk_at dksX12_lost_3 20 rfl rfl)
theorem dX12_lost_90 : decode cX12_lost 90 = .ok (.baload, 1) := dk_51 (dk_at dksX12_lost_3 21 rfl rfl)
theorem dX12_lost_91 : decode cX12_lost 91 = .ok (.ifCond .eq 16, 3) := dk_153 0 16 (dk_at dksX12_lost_4 0 rfl rfl)
theorem dX12_lost_94 : decode cX12_lost 94 = .ok (.aload_n 0, 1) := dk_42 (dk_at dksX12_lost_4 3 rfl rfl)
theorem dX12_lost_95 : decode cX12_lost 95 = .ok (.getfield 84, 3) := dk_180 0 84 (dk_at dksX12_lost_4 4 rfl rfl)
theorem dX12_lost_98 : decode cX12_lost 98 = .ok (.iload 5, 2) := dk_21 5 (dk_at dksX12_lost_4 7 rfl rfl)
theorem dX12_lost_100 : decode cX12_lost 100 = .ok (.baload, 1) := dk_51 (dk_at dksX12_lost_4 9 rfl rfl)
theorem dX12_lost_101 : decode cX12_lost 101 = .ok (.ifCond .ne 6, 3) := dk_154 0 6 (dk_at dksX12_lost_4 10 rfl rfl)
theorem dX12_lost_104 : decode cX12_lost 104 = .ok (.iload 4, 2) := dk_21 4 (dk_at dksX12_lost_4 13 rfl rfl)
theorem dX12_lost_106 : decode cX12_lost 106 = .ok (.ireturn, 1) := dk_172 (dk_at dksX12_lost_4 15 rfl rfl)
theorem dX12_lost_107 : decode cX12_lost 107 = .ok (.iload 5, 2) := dk_21 5 (dk_at dksX12_lost_4 16 rfl rfl)
theorem dX12_lost_109 : decode cX12_lost 109 = .ok (.istore_n 3, 1) := dk_62 (dk_at dksX12_lost_4 18 rfl rfl)
theorem dX12_lost_110 : decode cX12_lost 110 = .ok (.iinc 4 1, 3) := dk_132 4 1 (dk_at dksX12_lost_4 19 rfl rfl)
theorem dX12_lost_113 : decode cX12_lost 113 = .ok (.goto (-68), 3) := dk_167 255 188 (dk_at dksX12_lost_5 0 rfl rfl)
theorem dX12_lost_116 : decode cX12_lost 116 = .ok (.bipush (-4), 2) := dk_16 252 (dk_at dksX12_lost_5 3 rfl rfl)
theorem dX12_lost_118 : decode cX12_lost 118 = .ok (.ireturn, 1) := dk_172 (dk_at dksX12_lost_5 5 rfl rfl)
abbrev cX12_feet : ByteArray := prog_19_method_59_code
def yX12_feet : MethodName := ⟨RX12, "feet", "(I)I"⟩
def dkwX12_feet_5 : List UInt8 := [153, 0, 8, 21, 4, 167, 0, 5, 16, 252, 172]
abbrev dktX12_feet_5 : List UInt8 := dkwX12_feet_5 ++ []
def dkwX12_feet_4 : List UInt8 := [42, 180, 0, 26, 27, 46, 62, 167, 255, 206, 42, 180, 0, 26, 27, 28, 79, 42, 3, 181, 0, 191, 21, 5]
abbrev dktX12_feet_4 : List UInt8 := dkwX12_feet_4 ++ dktX12_feet_5
def dkwX12_feet_3 : List UInt8 := [21, 4, 96, 5, 108, 79, 42, 182, 1, 49, 153, 0, 14, 42, 180, 0, 26, 27, 46, 54, 4, 167, 255, 216]
abbrev dktX12_feet_3 : List UInt8 := dkwX12_feet_3 ++ dktX12_feet_4
def dkwX12_feet_2 : List UInt8 := [182, 1, 49, 54, 5, 21, 5, 153, 0, 51, 21, 4, 29, 100, 4, 164, 0, 43, 42, 180, 0, 26, 27, 29]
abbrev dktX12_feet_2 : List UInt8 := dkwX12_feet_2 ++ dktX12_feet_3
def dkwX12_feet_1 : List UInt8 := [180, 0, 26, 27, 46, 61, 3, 62, 17, 1, 144, 54, 4, 42, 180, 0, 26, 27, 17, 1, 144, 79, 42]
abbrev dktX12_feet_1 : List UInt8 := dkwX12_feet_1 ++ dktX12_feet_2
def dkwX12_feet_0 : List UInt8 := [42, 3, 181, 0, 115, 27, 133, 9, 42, 180, 0, 170, 4, 100, 133, 184, 0, 121, 154, 0, 5, 2, 172, 42]
abbrev dktX12_feet_0 : List UInt8 := dkwX12_feet_0 ++ dktX12_feet_1
theorem dksX12_feet_0 : cX12_feet.data.toList.drop 0 = dktX12_feet_0 := by decide +kernel
theorem dksX12_feet_1 : cX12_feet.data.toList.drop 24 = dktX12_feet_1 := dk_seg dksX12_feet_0 24 rfl rfl
theorem dksX12_feet_2 : cX12_feet.data.toList.drop 47 = dktX12_feet_2 := dk_seg dksX12_feet_1 23 rfl rfl
theorem dksX12_feet_3 : cX12_feet.data.toList.drop 71 = dktX12_feet_3 := dk_seg dksX12_feet_2 24 rfl rfl
theorem dksX12_feet_4 : cX12_feet.data.toList.drop 95 = dktX12_feet_4 := dk_seg dksX12_feet_3 24 rfl rfl
theorem dksX12_feet_5 : cX12_feet.data.toList.drop 119 = dktX12_feet_5 := dk_seg dksX12_feet_4 24 rfl rfl
theorem dX12_feet_0 : decode cX12_feet 0 = .ok (.aload_n 0, 1) := dk_42 (dk_at dksX12_feet_0 0 rfl rfl)
theorem dX12_feet_1 : decode cX12_feet 1 = .ok (.iconst 0, 1) := dk_3 (dk_at dksX12_feet_0 1 rfl rfl)
theorem dX12_feet_2 : decode cX12_feet 2 = .ok (.putfield 115, 3) := dk_181 0 115 (dk_at dksX12_feet_0 2 rfl rfl)
theorem dX12_feet_5 : decode cX12_feet 5 = .ok (.iload_n 1, 1) := dk_27 (dk_at dksX12_feet_0 5 rfl rfl)
theorem dX12_feet_6 : decode cX12_feet 6 = .ok (.i2l, 1) := dk_133 (dk_at dksX12_feet_0 6 rfl rfl)
theorem dX12_feet_7 : decode cX12_feet 7 = .ok (.lconst 0, 1) := dk_9 (dk_at dksX12_feet_0 7 rfl rfl)
theorem dX12_feet_8 : decode cX12_feet 8 = .ok (.aload_n 0, 1) := dk_42 (dk_at dksX12_feet_0 8 rfl rfl)
theorem dX12_feet_9 : decode cX12_feet 9 = .ok (.getfield 170, 3) := dk_180 0 170 (dk_at dksX12_feet_0 9 rfl rfl)
theorem dX12_feet_12 : decode cX12_feet 12 = .ok (.iconst 1, 1) := dk_4 (dk_at dksX12_feet_0 12 rfl rfl)
theorem dX12_feet_13 : decode cX12_feet 13 = .ok (.isub, 1) := dk_100 (dk_at dksX12_feet_0 13 rfl rfl)
theorem dX12_feet_14 : decode cX12_feet 14 = .ok (.i2l, 1) := dk_133 (dk_at dksX12_feet_0 14 rfl rfl)
theorem dX12_feet_15 : decode cX12_feet 15 = .ok (.invokestatic 121, 3) := dk_184 0 121 (dk_at dksX12_feet_0 15 rfl rfl)
theorem dX12_feet_18 : decode cX12_feet 18 = .ok (.ifCond .ne 5, 3) := dk_154 0 5 (dk_at dksX12_feet_0 18 rfl rfl)
theorem dX12_feet_21 : decode cX12_feet 21 = .ok (.iconst (-1), 1) := dk_2 (dk_at dksX12_feet_0 21 rfl rfl)
theorem dX12_feet_22 : decode cX12_feet 22 = .ok (.ireturn, 1) := dk_172 (dk_at dksX12_feet_0 22 rfl rfl)
theorem dX12_feet_23 : decode cX12_feet 23 = .ok (.aload_n 0, 1) := dk_42 (dk_at dksX12_feet_0 23 rfl rfl)
theorem dX12_feet_24 : decode cX12_feet 24 = .ok (.getfield 26, 3) := dk_180 0 26 (dk_at dksX12_feet_1 0 rfl rfl)
theorem dX12_feet_27 : decode cX12_feet 27 = .ok (.iload_n 1, 1) := dk_27 (dk_at dksX12_feet_1 3 rfl rfl)
theorem dX12_feet_28 : decode cX12_feet 28 = .ok (.iaload, 1) := dk_46 (dk_at dksX12_feet_1 4 rfl rfl)
theorem dX12_feet_29 : decode cX12_feet 29 = .ok (.istore_n 2, 1) := dk_61 (dk_at dksX12_feet_1 5 rfl rfl)
theorem dX12_feet_30 : decode cX12_feet 30 = .ok (.iconst 0, 1) := dk_3 (dk_at dksX12_feet_1 6 rfl rfl)
theorem dX12_feet_31 : decode cX12_feet 31 = .ok (.istore_n 3, 1) := dk_62 (dk_at dksX12_feet_1 7 rfl rfl)
theorem dX12_feet_32 : decode cX12_feet 32 = .ok (.sipush 400, 3) := dk_17 1 144 (dk_at dksX12_feet_1 8 rfl rfl)
theorem dX12_feet_35 : decode cX12_feet 35 = .ok (.istore 4, 2) := dk_54 4 (dk_at dksX12_feet_1 11 rfl rfl)
theorem dX12_feet_37 : decode cX12_feet 37 = .ok (.aload_n 0, 1) := dk_42 (dk_at dksX12_feet_1 13 rfl rfl)
theorem dX12_feet_38 : decode cX12_feet 38 = .ok (.getfield 26, 3) := dk_180 0 26 (dk_at dksX12_feet_1 14 rfl rfl)
theorem dX12_feet_41 : decode cX12_feet 41 = .ok (.iload_n 1, 1) := dk_27 (dk_at dksX12_feet_1 17 rfl rfl)
theorem dX12_feet_42 : decode cX12_feet 42 = .ok (.sipush 400, 3) := dk_17 1 144 (dk_at dksX12_feet_1 18 rfl rfl)
theorem dX12_feet_45 : decode cX12_feet 45 = .ok (.iastore, 1) := dk_79 (dk_at dksX12_feet_1 21 rfl rfl)
theorem dX12_feet_46 : decode cX12_feet 46 = .ok (.aload_n 0, 1) := dk_42 (dk_at dksX12_feet_1 22 rfl rfl)
theorem dX12_feet_47 : decode cX12_feet 47 = .ok (.invokevirtual 305, 3) := dk_182 1 49 (dk_at dksX12_feet_2 0 rfl rfl)
theorem dX12_feet_50 : decode cX12_feet 50 = .ok (.istore 5, 2) := dk_54 5 (dk_at dksX12_feet_2 3 rfl rfl)
theorem dX12_feet_52 : decode cX12_feet 52 = .ok (.iload 5, 2) := dk_21 5 (dk_at dksX12_feet_2 5 rfl rfl)
theorem dX12_feet_54 : decode cX12_feet 54 = .ok (.ifCond .eq 51, 3) := dk_153 0 51 (dk_at dksX12_feet_2 7 rfl rfl)
theorem dX12_feet_57 : decode cX12_feet 57 = .ok (.iload 4, 2) := dk_21 4 (dk_at dksX12_feet_2 10 rfl rfl)
theorem dX12_feet_59 : decode cX12_feet 59 = .ok (.iload_n 3, 1) := dk_29 (dk_at dksX12_feet_2 12 rfl rfl)
theorem dX12_feet_60 : decode cX12_feet 60 = .ok (.isub, 1) := dk_100 (dk_at dksX12_feet_2 13 rfl rfl)
theorem dX12_feet_61 : decode cX12_feet 61 = .ok (.iconst 1, 1) := dk_4 (dk_at dksX12_feet_2 14 rfl rfl)
theorem dX12_feet_62 : decode cX12_feet 62 = .ok (.if_icmp .le 43, 3) := dk_164 0 43 (dk_at dksX12_feet_2 15 rfl rfl)
theorem dX12_feet_65 : decode cX12_feet 65 = .ok (.aload_n 0, 1) := dk_42 (dk_at dksX12_feet_2 18 rfl rfl)
theorem dX12_feet_66 : decode cX12_feet 66 = .ok (.getfield 26, 3) := dk_180 0 26 (dk_at dksX12_feet_2 19 rfl rfl)
theorem dX12_feet_69 : decode cX12_feet 69 = .ok (.iload_n 1, 1) := dk_27 (dk_at dksX12_feet_2 22 rfl rfl)
theorem dX12_feet_70 : decode cX12_feet 70 = .ok (.iload_n 3, 1) := dk_29 (dk_at dksX12_feet_2 23 rfl rfl)
theorem dX12_feet_71 : decode cX12_feet 71 = .ok (.iload 4, 2) := dk_21 4 (dk_at dksX12_feet_3 0 rfl rfl)
theorem dX12_feet_73 : decode cX12_feet 73 = .ok (.iadd, 1) := dk_96 (dk_at dksX12_feet_3 2 rfl rfl)
theorem dX12_feet_74 : decode cX12_feet 74 = .ok (.iconst 2, 1) := dk_5 (dk_at dksX12_feet_3 3 rfl rfl)
theorem dX12_feet_75 : decode cX12_feet 75 = .ok (.idiv, 1) := dk_108 (dk_at dksX12_feet_3 4 rfl rfl)
theorem dX12_feet_76 : decode cX12_feet 76 = .ok (.iastore, 1) := dk_79 (dk_at dksX12_feet_3 5 rfl rfl)
theorem dX12_feet_77 : decode cX12_feet 77 = .ok (.aload_n 0, 1) := dk_42 (dk_at dksX12_feet_3 6 rfl rfl)
theorem dX12_feet_78 : decode cX12_feet 78 = .ok (.invokevirtual 305, 3) := dk_182 1 49 (dk_at dksX12_feet_3 7 rfl rfl)
theorem dX12_feet_81 : decode cX12_feet 81 = .ok (.ifCond .eq 14, 3) := dk_153 0 14 (dk_at dksX12_feet_3 10 rfl rfl)
theorem dX12_feet_84 : decode cX12_feet 84 = .ok (.aload_n 0, 1) := dk_42 (dk_at dksX12_feet_3 13 rfl rfl)
theorem dX12_feet_85 : decode cX12_feet 85 = .ok (.getfield 26, 3) := dk_180 0 26 (dk_at dksX12_feet_3 14 rfl rfl)
theorem dX12_feet_88 : decode cX12_feet 88 = .ok (.iload_n 1, 1) := dk_27 (dk_at dksX12_feet_3 17 rfl rfl)
theorem dX12_feet_89 : decode cX12_feet 89 = .ok (.iaload, 1) := dk_46 (dk_at dksX12_feet_3 18 rfl rfl)
theorem dX12_feet_90 : decode cX12_feet 90 = .ok (.istore 4, 2) := dk_54 4 (dk_at dksX12_feet_3 19 rfl rfl)
theorem dX12_feet_92 : decode cX12_feet 92 = .ok (.goto (-40), 3) := dk_167 255 216 (dk_at dksX12_feet_3 21 rfl rfl)
theorem dX12_feet_95 : decode cX12_feet 95 = .ok (.aload_n 0, 1) := dk_42 (dk_at dksX12_feet_4 0 rfl rfl)
theorem dX12_feet_96 : decode cX12_feet 96 = .ok (.getfield 26, 3) := dk_180 0 26 (dk_at dksX12_feet_4 1 rfl rfl)
theorem dX12_feet_99 : decode cX12_feet 99 = .ok (.iload_n 1, 1) := dk_27 (dk_at dksX12_feet_4 4 rfl rfl)
theorem dX12_feet_100 : decode cX12_feet 100 = .ok (.iaload, 1) := dk_46 (dk_at dksX12_feet_4 5 rfl rfl)
theorem dX12_feet_101 : decode cX12_feet 101 = .ok (.istore_n 3, 1) := dk_62 (dk_at dksX12_feet_4 6 rfl rfl)
theorem dX12_feet_102 : decode cX12_feet 102 = .ok (.goto (-50), 3) := dk_167 255 206 (dk_at dksX12_feet_4 7 rfl rfl)
theorem dX12_feet_105 : decode cX12_feet 105 = .ok (.aload_n 0, 1) := dk_42 (dk_at dksX12_feet_4 10 rfl rfl)
theorem dX12_feet_106 : decode cX12_feet 106 = .ok (.getfield 26, 3) := dk_180 0 26 (dk_at dksX12_feet_4 11 rfl rfl)
theorem dX12_feet_109 : decode cX12_feet 109 = .ok (.iload_n 1, 1) := dk_27 (dk_at dksX12_feet_4 14 rfl rfl)
theorem dX12_feet_110 : decode cX12_feet 110 = .ok (.iload_n 2, 1) := dk_28 (dk_at dksX12_feet_4 15 rfl rfl)
theorem dX12_feet_111 : decode cX12_feet 111 = .ok (.iastore, 1) := dk_79 (dk_at dksX12_feet_4 16 rfl rfl)
theorem dX12_feet_112 : decode cX12_feet 112 = .ok (.aload_n 0, 1) := dk_42 (dk_at dksX12_feet_4 17 rfl rfl)
theorem dX12_feet_113 : decode cX12_feet 113 = .ok (.iconst 0, 1) := dk_3 (dk_at dksX12_feet_4 18 rfl rfl)
theorem dX12_feet_114 : decode cX12_feet 114 = .ok (.putfield 191, 3) := dk_181 0 191 (dk_at dksX12_feet_4 19 rfl rfl)
theorem dX12_feet_117 : decode cX12_feet 117 = .ok (.iload 5, 2) := dk_21 5 (dk_at dksX12_feet_4 22 rfl rfl)
theorem dX12_feet_119 : decode cX12_feet 119 = .ok (.ifCond .eq 8, 3) := dk_153 0 8 (dk_at dksX12_feet_5 0 rfl rfl)
theorem dX12_feet_122 : decode cX12_feet 122 = .ok (.iload 4, 2) := dk_21 4 (dk_at dksX12_feet_5 3 rfl rfl)
theorem dX12_feet_124 : decode cX12_feet 124 = .ok (.goto 5, 3) := dk_167 0 5 (dk_at dksX12_feet_5 5 rfl rfl)
theorem dX12_feet_127 : decode cX12_feet 127 = .ok (.bipush (-4), 2) := dk_16 252 (dk_at dksX12_feet_5 8 rfl rfl)
theorem dX12_feet_129 : decode cX12_feet 129 = .ok (.ireturn, 1) := dk_172 (dk_at dksX12_feet_5 10 rfl rfl)
abbrev cX12_hasWay : ByteArray := prog_19_method_58_code
def yX12_hasWay : MethodName := ⟨RX12, "hasWay", "()Z"⟩
def dkwX12_hasWay_0 : List UInt8 := [42, 3, 181, 0, 191, 42, 182, 1, 20, 155, 0, 7, 4, 167, 0, 4, 3, 172]
abbrev dktX12_hasWay_0 : List UInt8 := dkwX12_hasWay_0 ++ []
theorem dksX12_hasWay_0 : cX12_hasWay.data.toList.drop 0 = dktX12_hasWay_0 := by decide +kernel
theorem dX12_hasWay_0 : decode cX12_hasWay 0 = .ok (.aload_n 0, 1) := dk_42 (dk_at dksX12_hasWay_0 0 rfl rfl)
theorem dX12_hasWay_1 : decode cX12_hasWay 1 = .ok (.iconst 0, 1) := dk_3 (dk_at dksX12_hasWay_0 1 rfl rfl)
theorem dX12_hasWay_2 : decode cX12_hasWay 2 = .ok (.putfield 191, 3) := dk_181 0 191 (dk_at dksX12_hasWay_0 2 rfl rfl)
theorem dX12_hasWay_5 : decode cX12_hasWay 5 = .ok (.aload_n 0, 1) := dk_42 (dk_at dksX12_hasWay_0 5 rfl rfl)
theorem dX12_hasWay_6 : decode cX12_hasWay 6 = .ok (.invokevirtual 276, 3) := dk_182 1 20 (dk_at dksX12_hasWay_0 6 rfl rfl)
theorem dX12_hasWay_9 : decode cX12_hasWay 9 = .ok (.ifCond .lt 7, 3) := dk_155 0 7 (dk_at dksX12_hasWay_0 9 rfl rfl)
theorem dX12_hasWay_12 : decode cX12_hasWay 12 = .ok (.iconst 1, 1) := dk_4 (dk_at dksX12_hasWay_0 12 rfl rfl)
theorem dX12_hasWay_13 : decode cX12_hasWay 13 = .ok (.goto 4, 3) := dk_167 0 4 (dk_at dksX12_hasWay_0 13 rfl rfl)
theorem dX12_hasWay_16 : decode cX12_hasWay 16 = .ok (.iconst 0, 1) := dk_3 (dk_at dksX12_hasWay_0 16 rfl rfl)
theorem dX12_hasWay_17 : decode cX12_hasWay 17 = .ok (.ireturn, 1) := dk_172 (dk_at dksX12_hasWay_0 17 rfl rfl)
abbrev cX12_chance : ByteArray := prog_19_method_61_code
def yX12_chance : MethodName := ⟨RX12, "chance", "()I"⟩
def dkwX12_chance_6 : List UInt8 := [79, 4, 60, 132, 2, 255, 167, 255, 190, 167, 255, 174, 42, 180, 0, 90, 42, 182, 0, 224, 46, 172]
abbrev dktX12_chance_6 : List UInt8 := dkwX12_chance_6 ++ []
def dkwX12_chance_5 : List UInt8 := [180, 0, 90, 42, 180, 0, 72, 28, 46, 46, 164, 0, 17, 42, 180, 0, 90, 42, 180, 0, 72, 28, 46, 29]
abbrev dktX12_chance_5 : List UInt8 := dkwX12_chance_5 ++ dktX12_chance_6
def dkwX12_chance_4 : List UInt8 := [153, 0, 9, 19, 1, 52, 167, 0, 13, 42, 42, 180, 0, 72, 28, 46, 182, 1, 53, 62, 29, 42]
abbrev dktX12_chance_4 : List UInt8 := dkwX12_chance_4 ++ dktX12_chance_5
def dkwX12_chance_3 : List UInt8 := [60, 42, 180, 1, 8, 4, 100, 61, 28, 155, 0, 68, 42, 42, 180, 0, 72, 28, 46, 182, 1, 17]
abbrev dktX12_chance_3 : List UInt8 := dkwX12_chance_3 ++ dktX12_chance_4
def dkwX12_chance_2 : List UInt8 := [153, 0, 9, 19, 1, 52, 167, 0, 4, 3, 79, 132, 1, 1, 167, 255, 214, 4, 60, 27, 153, 0, 84, 3]
abbrev dktX12_chance_2 : List UInt8 := dkwX12_chance_2 ++ dktX12_chance_3
def dkwX12_chance_1 : List UInt8 := [162, 0, 40, 42, 180, 0, 90, 42, 180, 0, 72, 27, 46, 42, 42, 180, 0, 72, 27, 46, 182, 1, 17]
abbrev dktX12_chance_1 : List UInt8 := dkwX12_chance_1 ++ dktX12_chance_2
def dkwX12_chance_0 : List UInt8 := [42, 3, 181, 0, 115, 42, 3, 181, 0, 191, 42, 4, 182, 1, 0, 3, 60, 27, 42, 180, 1, 8]
abbrev dktX12_chance_0 : List UInt8 := dkwX12_chance_0 ++ dktX12_chance_1
theorem dksX12_chance_0 : cX12_chance.data.toList.drop 0 = dktX12_chance_0 := by decide +kernel
theorem dksX12_chance_1 : cX12_chance.data.toList.drop 22 = dktX12_chance_1 := dk_seg dksX12_chance_0 22 rfl rfl
theorem dksX12_chance_2 : cX12_chance.data.toList.drop 45 = dktX12_chance_2 := dk_seg dksX12_chance_1 23 rfl rfl
theorem dksX12_chance_3 : cX12_chance.data.toList.drop 69 = dktX12_chance_3 := dk_seg dksX12_chance_2 24 rfl rfl
theorem dksX12_chance_4 : cX12_chance.data.toList.drop 91 = dktX12_chance_4 := dk_seg dksX12_chance_3 22 rfl rfl
theorem dksX12_chance_5 : cX12_chance.data.toList.drop 113 = dktX12_chance_5 := dk_seg dksX12_chance_4 22 rfl rfl
theorem dksX12_chance_6 : cX12_chance.data.toList.drop 137 = dktX12_chance_6 := dk_seg dksX12_chance_5 24 rfl rfl
theorem dX12_chance_0 : decode cX12_chance 0 = .ok (.aload_n 0, 1) := dk_42 (dk_at dksX12_chance_0 0 rfl rfl)
theorem dX12_chance_1 : decode cX12_chance 1 = .ok (.iconst 0, 1) := dk_3 (dk_at dksX12_chance_0 1 rfl rfl)
theorem dX12_chance_2 : decode cX12_chance 2 = .ok (.putfield 115, 3) := dk_181 0 115 (dk_at dksX12_chance_0 2 rfl rfl)
theorem dX12_chance_5 : decode cX12_chance 5 = .ok (.aload_n 0, 1) := dk_42 (dk_at dksX12_chance_0 5 rfl rfl)
theorem dX12_chance_6 : decode cX12_chance 6 = .ok (.iconst 0, 1) := dk_3 (dk_at dksX12_chance_0 6 rfl rfl)
theorem dX12_chance_7 : decode cX12_chance 7 = .ok (.putfield 191, 3) := dk_181 0 191 (dk_at dksX12_chance_0 7 rfl rfl)
theorem dX12_chance_10 : decode cX12_chance 10 = .ok (.aload_n 0, 1) := dk_42 (dk_at dksX12_chance_0 10 rfl rfl)
theorem dX12_chance_11 : decode cX12_chance 11 = .ok (.iconst 1, 1) := dk_4 (dk_at dksX12_chance_0 11 rfl rfl)
theorem dX12_chance_12 : decode cX12_chance 12 = .ok (.invokevirtual 256, 3) := dk_182 1 0 (dk_at dksX12_chance_0 12 rfl rfl)
theorem dX12_chance_15 : decode cX12_chance 15 = .ok (.iconst 0, 1) := dk_3 (dk_at dksX12_chance_0 15 rfl rfl)
theorem dX12_chance_16 : decode cX12_chance 16 = .ok (.istore_n 1, 1) := dk_60 (dk_at dksX12_chance_0 16 rfl rfl)
theorem dX12_chance_17 : decode cX12_chance 17 = .ok (.iload_n 1, 1) := dk_27 (dk_at dksX12_chance_0 17 rfl rfl)
theorem dX12_chance_18 : decode cX12_chance 18 = .ok (.aload_n 0, 1) := dk_42 (dk_at dksX12_chance_0 18 rfl rfl)
theorem dX12_chance_19 : decode cX12_chance 19 = .ok (.getfield 264, 3) := dk_180 1 8 (dk_at dksX12_chance_0 19 rfl rfl)
theorem dX12_chance_22 : decode cX12_chance 22 = .ok (.if_icmp .ge 40, 3) := dk_162 0 40 (dk_at dksX12_chance_1 0 rfl rfl)
theorem dX12_chance_25 : decode cX12_chance 25 = .ok (.aload_n 0, 1) := dk_42 (dk_at dksX12_chance_1 3 rfl rfl)
theorem dX12_chance_26 : decode cX12_chance 26 = .ok (.getfield 90, 3) := dk_180 0 90 (dk_at dksX12_chance_1 4 rfl rfl)
theorem dX12_chance_29 : decode cX12_chance 29 = .ok (.aload_n 0, 1) := dk_42 (dk_at dksX12_chance_1 7 rfl rfl)
theorem dX12_chance_30 : decode cX12_chance 30 = .ok (.getfield 72, 3) := dk_180 0 72 (dk_at dksX12_chance_1 8 rfl rfl)
theorem dX12_chance_33 : decode cX12_chance 33 = .ok (.iload_n 1, 1) := dk_27 (dk_at dksX12_chance_1 11 rfl rfl)
theorem dX12_chance_34 : decode cX12_chance 34 = .ok (.iaload, 1) := dk_46 (dk_at dksX12_chance_1 12 rfl rfl)
theorem dX12_chance_35 : decode cX12_chance 35 = .ok (.aload_n 0, 1) := dk_42 (dk_at dksX12_chance_1 13 rfl rfl)
theorem dX12_chance_36 : decode cX12_chance 36 = .ok (.aload_n 0, 1) := dk_42 (dk_at dksX12_chance_1 14 rfl rfl)
theorem dX12_chance_37 : decode cX12_chance 37 = .ok (.getfield 72, 3) := dk_180 0 72 (dk_at dksX12_chance_1 15 rfl rfl)
theorem dX12_chance_40 : decode cX12_chance 40 = .ok (.iload_n 1, 1) := dk_27 (dk_at dksX12_chance_1 18 rfl rfl)
theorem dX12_chance_41 : decode cX12_chance 41 = .ok (.iaload, 1) := dk_46 (dk_at dksX12_chance_1 19 rfl rfl)
theorem dX12_chance_42 : decode cX12_chance 42 = .ok (.invokevirtual 273, 3) := dk_182 1 17 (dk_at dksX12_chance_1 20 rfl rfl)
theorem dX12_chance_45 : decode cX12_chance 45 = .ok (.ifCond .eq 9, 3) := dk_153 0 9 (dk_at dksX12_chance_2 0 rfl rfl)
theorem dX12_chance_48 : decode cX12_chance 48 = .ok (.ldc_w 308, 3) := dk_19 1 52 (dk_at dksX12_chance_2 3 rfl rfl)
theorem dX12_chance_51 : decode cX12_chance 51 = .ok (.goto 4, 3) := dk_167 0 4 (dk_at dksX12_chance_2 6 rfl rfl)
theorem dX12_chance_54 : decode cX12_chance 54 = .ok (.iconst 0, 1) := dk_3 (dk_at dksX12_chance_2 9 rfl rfl)
theorem dX12_chance_55 : decode cX12_chance 55 = .ok (.iastore, 1) := dk_79 (dk_at dksX12_chance_2 10 rfl rfl)
theorem dX12_chance_56 : decode cX12_chance 56 = .ok (.iinc 1 1, 3) := dk_132 1 1 (dk_at dksX12_chance_2 11 rfl rfl)
theorem dX12_chance_59 : decode cX12_chance 59 = .ok (.goto (-42), 3) := dk_167 255 214 (dk_at dksX12_chance_2 14 rfl rfl)
theorem dX12_chance_62 : decode cX12_chance 62 = .ok (.iconst 1, 1) := dk_4 (dk_at dksX12_chance_2 17 rfl rfl)
theorem dX12_chance_63 : decode cX12_chance 63 = .ok (.istore_n 1, 1) := dk_60 (dk_at dksX12_chance_2 18 rfl rfl)
theorem dX12_chance_64 : decode cX12_chance 64 = .ok (.iload_n 1, 1) := dk_27 (dk_at dksX12_chance_2 19 rfl rfl)
theorem dX12_chance_65 : decode cX12_chance 65 = .ok (.ifCond .eq 84, 3) := dk_153 0 84 (dk_at dksX12_chance_2 20 rfl rfl)
theorem dX12_chance_68 : decode cX12_chance 68 = .ok (.iconst 0, 1) := dk_3 (dk_at dksX12_chance_2 23 rfl rfl)
theorem dX12_chance_69 : decode cX12_chance 69 = .ok (.istore_n 1, 1) := dk_60 (dk_at dksX12_chance_3 0 rfl rfl)
theorem dX12_chance_70 : decode cX12_chance 70 = .ok (.aload_n 0, 1) := dk_42 (dk_at dksX12_chance_3 1 rfl rfl)
theorem dX12_chance_71 : decode cX12_chance 71 = .ok (.getfield 264, 3) := dk_180 1 8 (dk_at dksX12_chance_3 2 rfl rfl)
theorem dX12_chance_74 : decode cX12_chance 74 = .ok (.iconst 1, 1) := dk_4 (dk_at dksX12_chance_3 5 rfl rfl)
theorem dX12_chance_75 : decode cX12_chance 75 = .ok (.isub, 1) := dk_100 (dk_at dksX12_chance_3 6 rfl rfl)
theorem dX12_chance_76 : decode cX12_chance 76 = .ok (.istore_n 2, 1) := dk_61 (dk_at dksX12_chance_3 7 rfl rfl)
theorem dX12_chance_77 : decode cX12_chance 77 = .ok (.iload_n 2, 1) := dk_28 (dk_at dksX12_chance_3 8 rfl rfl)
theorem dX12_chance_78 : decode cX12_chance 78 = .ok (.ifCond .lt 68, 3) := dk_155 0 68 (dk_at dksX12_chance_3 9 rfl rfl)
theorem dX12_chance_81 : decode cX12_chance 81 = .ok (.aload_n 0, 1) := dk_42 (dk_at dksX12_chance_3 12 rfl rfl)
theorem dX12_chance_82 : decode cX12_chance 82 = .ok (.aload_n 0, 1) := dk_42 (dk_at dksX12_chance_3 13 rfl rfl)
theorem dX12_chance_83 : decode cX12_chance 83 = .ok (.getfield 72, 3) := dk_180 0 72 (dk_at dksX12_chance_3 14 rfl rfl)
theorem dX12_chance_86 : decode cX12_chance 86 = .ok (.iload_n 2, 1) := dk_28 (dk_at dksX12_chance_3 17 rfl rfl)
theorem dX12_chance_87 : decode cX12_chance 87 = .ok (.iaload, 1) := dk_46 (dk_at dksX12_chance_3 18 rfl rfl)
theorem dX12_chance_88 : decode cX12_chance 88 = .ok (.invokevirtual 273, 3) := dk_182 1 17 (dk_at dksX12_chance_3 19 rfl rfl)
theorem dX12_chance_91 : decode cX12_chance 91 = .ok (.ifCond .eq 9, 3) := dk_153 0 9 (dk_at dksX12_chance_4 0 rfl rfl)
theorem dX12_chance_94 : decode cX12_chance 94 = .ok (.ldc_w 308, 3) := dk_19 1 52 (dk_at dksX12_chance_4 3 rfl rfl)
theorem dX12_chance_97 : decode cX12_chance 97 = .ok (.goto 13, 3) := dk_167 0 13 (dk_at dksX12_chance_4 6 rfl rfl)
theorem dX12_chance_100 : decode cX12_chance 100 = .ok (.aload_n 0, 1) := dk_42 (dk_at dksX12_chance_4 9 rfl rfl)
theorem dX12_chance_101 : decode cX12_chance 101 = .ok (.aload_n 0, 1) := dk_42 (dk_at dksX12_chance_4 10 rfl rfl)
theorem dX12_chance_102 : decode cX12_chance 102 = .ok (.getfield 72, 3) := dk_180 0 72 (dk_at dksX12_chance_4 11 rfl rfl)
theorem dX12_chance_105 : decode cX12_chance 105 = .ok (.iload_n 2, 1) := dk_28 (dk_at dksX12_chance_4 14 rfl rfl)
theorem dX12_chance_106 : decode cX12_chance 106 = .ok (.iaload, 1) := dk_46 (dk_at dksX12_chance_4 15 rfl rfl)
theorem dX12_chance_107 : decode cX12_chance 107 = .ok (.invokevirtual 309, 3) := dk_182 1 53 (dk_at dksX12_chance_4 16 rfl rfl)
theorem dX12_chance_110 : decode cX12_chance 110 = .ok (.istore_n 3, 1) := dk_62 (dk_at dksX12_chance_4 19 rfl rfl)
theorem dX12_chance_111 : decode cX12_chance 111 = .ok (.iload_n 3, 1) := dk_29 (dk_at dksX12_chance_4 20 rfl rfl)
theorem dX12_chance_112 : decode cX12_chance 112 = .ok (.aload_n 0, 1) := dk_42 (dk_at dksX12_chance_4 21 rfl rfl)
theorem dX12_chance_113 : decode cX12_chance 113 = .ok (.getfield 90, 3) := dk_180 0 90 (dk_at dksX12_chance_5 0 rfl rfl)
theorem dX12_chance_116 : decode cX12_chance 116 = .ok (.aload_n 0, 1) := dk_42 (dk_at dksX12_chance_5 3 rfl rfl)
theorem dX12_chance_117 : decode cX12_chance 117 = .ok (.getfield 72, 3) := dk_180 0 72 (dk_at dksX12_chance_5 4 rfl rfl)
theorem dX12_chance_120 : decode cX12_chance 120 = .ok (.iload_n 2, 1) := dk_28 (dk_at dksX12_chance_5 7 rfl rfl)
theorem dX12_chance_121 : decode cX12_chance 121 = .ok (.iaload, 1) := dk_46 (dk_at dksX12_chance_5 8 rfl rfl)
theorem dX12_chance_122 : decode cX12_chance 122 = .ok (.iaload, 1) := dk_46 (dk_at dksX12_chance_5 9 rfl rfl)
theorem dX12_chance_123 : decode cX12_chance 123 = .ok (.if_icmp .le 17, 3) := dk_164 0 17 (dk_at dksX12_chance_5 10 rfl rfl)
theorem dX12_chance_126 : decode cX12_chance 126 = .ok (.aload_n 0, 1) := dk_42 (dk_at dksX12_chance_5 13 rfl rfl)
theorem dX12_chance_127 : decode cX12_chance 127 = .ok (.getfield 90, 3) := dk_180 0 90 (dk_at dksX12_chance_5 14 rfl rfl)
theorem dX12_chance_130 : decode cX12_chance 130 = .ok (.aload_n 0, 1) := dk_42 (dk_at dksX12_chance_5 17 rfl rfl)
theorem dX12_chance_131 : decode cX12_chance 131 = .ok (.getfield 72, 3) := dk_180 0 72 (dk_at dksX12_chance_5 18 rfl rfl)
theorem dX12_chance_134 : decode cX12_chance 134 = .ok (.iload_n 2, 1) := dk_28 (dk_at dksX12_chance_5 21 rfl rfl)
theorem dX12_chance_135 : decode cX12_chance 135 = .ok (.iaload, 1) := dk_46 (dk_at dksX12_chance_5 22 rfl rfl)
theorem dX12_chance_136 : decode cX12_chance 136 = .ok (.iload_n 3, 1) := dk_29 (dk_at dksX12_chance_5 23 rfl rfl)
theorem dX12_chance_137 : decode cX12_chance 137 = .ok (.iastore, 1) := dk_79 (dk_at dksX12_chance_6 0 rfl rfl)
theorem dX12_chance_138 : decode cX12_chance 138 = .ok (.iconst 1, 1) := dk_4 (dk_at dksX12_chance_6 1 rfl rfl)
theorem dX12_chance_139 : decode cX12_chance 139 = .ok (.istore_n 1, 1) := dk_60 (dk_at dksX12_chance_6 2 rfl rfl)
theorem dX12_chance_140 : decode cX12_chance 140 = .ok (.iinc 2 (-1), 3) := dk_132 2 255 (dk_at dksX12_chance_6 3 rfl rfl)
theorem dX12_chance_143 : decode cX12_chance 143 = .ok (.goto (-66), 3) := dk_167 255 190 (dk_at dksX12_chance_6 6 rfl rfl)
theorem dX12_chance_146 : decode cX12_chance 146 = .ok (.goto (-82), 3) := dk_167 255 174 (dk_at dksX12_chance_6 9 rfl rfl)
theorem dX12_chance_149 : decode cX12_chance 149 = .ok (.aload_n 0, 1) := dk_42 (dk_at dksX12_chance_6 12 rfl rfl)
theorem dX12_chance_150 : decode cX12_chance 150 = .ok (.getfield 90, 3) := dk_180 0 90 (dk_at dksX12_chance_6 13 rfl rfl)
theorem dX12_chance_153 : decode cX12_chance 153 = .ok (.aload_n 0, 1) := dk_42 (dk_at dksX12_chance_6 16 rfl rfl)
theorem dX12_chance_154 : decode cX12_chance 154 = .ok (.invokevirtual 224, 3) := dk_182 0 224 (dk_at dksX12_chance_6 17 rfl rfl)
theorem dX12_chance_157 : decode cX12_chance 157 = .ok (.iaload, 1) := dk_46 (dk_at dksX12_chance_6 20 rfl rfl)
theorem dX12_chance_158 : decode cX12_chance 158 = .ok (.ireturn, 1) := dk_172 (dk_at dksX12_chance_6 21 rfl rfl)
abbrev cX12_bestChance : ByteArray := prog_19_method_60_code
def yX12_bestChance : MethodName := ⟨RX12, "bestChance", "(I)I"⟩
def dkwX12_bestChance_5 : List UInt8 := [182, 0, 227, 21, 4, 28, 164, 0, 8, 21, 4, 167, 0, 4, 28, 61, 132, 3, 1, 167, 255, 132, 28, 172]
abbrev dktX12_bestChance_5 : List UInt8 := dkwX12_bestChance_5 ++ []
def dkwX12_bestChance_4 : List UInt8 := [42, 180, 0, 173, 42, 180, 0, 90, 42, 182, 1, 11, 46, 104, 96, 16, 100, 108, 54, 4, 42, 27]
abbrev dktX12_bestChance_4 : List UInt8 := dkwX12_bestChance_4 ++ dktX12_bestChance_5
def dkwX12_bestChance_3 : List UInt8 := [160, 0, 49, 42, 42, 180, 0, 66, 29, 46, 4, 182, 0, 236, 16, 100, 42, 180, 0, 173, 100, 21, 4, 104]
abbrev dktX12_bestChance_3 : List UInt8 := dkwX12_bestChance_3 ++ dktX12_bestChance_4
def dkwX12_bestChance_2 : List UInt8 := [182, 1, 11, 46, 54, 4, 42, 27, 182, 0, 227, 42, 180, 0, 66, 29, 46, 17, 39, 16, 108, 6]
abbrev dktX12_bestChance_2 : List UInt8 := dkwX12_bestChance_2 ++ dktX12_bestChance_3
def dkwX12_bestChance_1 : List UInt8 := [182, 0, 230, 155, 0, 103, 42, 42, 180, 0, 66, 29, 46, 3, 182, 0, 236, 42, 180, 0, 90, 42]
abbrev dktX12_bestChance_1 : List UInt8 := dkwX12_bestChance_1 ++ dktX12_bestChance_2
def dkwX12_bestChance_0 : List UInt8 := [3, 61, 42, 27, 182, 0, 227, 3, 62, 29, 42, 180, 0, 243, 162, 0, 122, 42, 42, 180, 0, 66, 29, 46]
abbrev dktX12_bestChance_0 : List UInt8 := dkwX12_bestChance_0 ++ dktX12_bestChance_1
theorem dksX12_bestChance_0 : cX12_bestChance.data.toList.drop 0 = dktX12_bestChance_0 := by decide +kernel
theorem dksX12_bestChance_1 : cX12_bestChance.data.toList.drop 24 = dktX12_bestChance_1 := dk_seg dksX12_bestChance_0 24 rfl rfl
theorem dksX12_bestChance_2 : cX12_bestChance.data.toList.drop 46 = dktX12_bestChance_2 := dk_seg dksX12_bestChance_1 22 rfl rfl
theorem dksX12_bestChance_3 : cX12_bestChance.data.toList.drop 68 = dktX12_bestChance_3 := dk_seg dksX12_bestChance_2 22 rfl rfl
theorem dksX12_bestChance_4 : cX12_bestChance.data.toList.drop 92 = dktX12_bestChance_4 := dk_seg dksX12_bestChance_3 24 rfl rfl
theorem dksX12_bestChance_5 : cX12_bestChance.data.toList.drop 114 = dktX12_bestChance_5 := dk_seg dksX12_bestChance_4 22 rfl rfl
theorem dX12_bestChance_0 : decode cX12_bestChance 0 = .ok (.iconst 0, 1) := dk_3 (dk_at dksX12_bestChance_0 0 rfl rfl)
theorem dX12_bestChance_1 : decode cX12_bestChance 1 = .ok (.istore_n 2, 1) := dk_61 (dk_at dksX12_bestChance_0 1 rfl rfl)
theorem dX12_bestChance_2 : decode cX12_bestChance 2 = .ok (.aload_n 0, 1) := dk_42 (dk_at dksX12_bestChance_0 2 rfl rfl)
theorem dX12_bestChance_3 : decode cX12_bestChance 3 = .ok (.iload_n 1, 1) := dk_27 (dk_at dksX12_bestChance_0 3 rfl rfl)
theorem dX12_bestChance_4 : decode cX12_bestChance 4 = .ok (.invokevirtual 227, 3) := dk_182 0 227 (dk_at dksX12_bestChance_0 4 rfl rfl)
theorem dX12_bestChance_7 : decode cX12_bestChance 7 = .ok (.iconst 0, 1) := dk_3 (dk_at dksX12_bestChance_0 7 rfl rfl)
theorem dX12_bestChance_8 : decode cX12_bestChance 8 = .ok (.istore_n 3, 1) := dk_62 (dk_at dksX12_bestChance_0 8 rfl rfl)
theorem dX12_bestChance_9 : decode cX12_bestChance 9 = .ok (.iload_n 3, 1) := dk_29 (dk_at dksX12_bestChance_0 9 rfl rfl)
theorem dX12_bestChance_10 : decode cX12_bestChance 10 = .ok (.aload_n 0, 1) := dk_42 (dk_at dksX12_bestChance_0 10 rfl rfl)
theorem dX12_bestChance_11 : decode cX12_bestChance 11 = .ok (.getfield 243, 3) := dk_180 0 243 (dk_at dksX12_bestChance_0 11 rfl rfl)
theorem dX12_bestChance_14 : decode cX12_bestChance 14 = .ok (.if_icmp .ge 122, 3) := dk_162 0 122 (dk_at dksX12_bestChance_0 14 rfl rfl)
theorem dX12_bestChance_17 : decode cX12_bestChance 17 = .ok (.aload_n 0, 1) := dk_42 (dk_at dksX12_bestChance_0 17 rfl rfl)
theorem dX12_bestChance_18 : decode cX12_bestChance 18 = .ok (.aload_n 0, 1) := dk_42 (dk_at dksX12_bestChance_0 18 rfl rfl)
theorem dX12_bestChance_19 : decode cX12_bestChance 19 = .ok (.getfield 66, 3) := dk_180 0 66 (dk_at dksX12_bestChance_0 19 rfl rfl)
theorem dX12_bestChance_22 : decode cX12_bestChance 22 = .ok (.iload_n 3, 1) := dk_29 (dk_at dksX12_bestChance_0 22 rfl rfl)
theorem dX12_bestChance_23 : decode cX12_bestChance 23 = .ok (.iaload, 1) := dk_46 (dk_at dksX12_bestChance_0 23 rfl rfl)
theorem dX12_bestChance_24 : decode cX12_bestChance 24 = .ok (.invokevirtual 230, 3) := dk_182 0 230 (dk_at dksX12_bestChance_1 0 rfl rfl)
theorem dX12_bestChance_27 : decode cX12_bestChance 27 = .ok (.ifCond .lt 103, 3) := dk_155 0 103 (dk_at dksX12_bestChance_1 3 rfl rfl)
theorem dX12_bestChance_30 : decode cX12_bestChance 30 = .ok (.aload_n 0, 1) := dk_42 (dk_at dksX12_bestChance_1 6 rfl rfl)
theorem dX12_bestChance_31 : decode cX12_bestChance 31 = .ok (.aload_n 0, 1) := dk_42 (dk_at dksX12_bestChance_1 7 rfl rfl)
theorem dX12_bestChance_32 : decode cX12_bestChance 32 = .ok (.getfield 66, 3) := dk_180 0 66 (dk_at dksX12_bestChance_1 8 rfl rfl)
theorem dX12_bestChance_35 : decode cX12_bestChance 35 = .ok (.iload_n 3, 1) := dk_29 (dk_at dksX12_bestChance_1 11 rfl rfl)
theorem dX12_bestChance_36 : decode cX12_bestChance 36 = .ok (.iaload, 1) := dk_46 (dk_at dksX12_bestChance_1 12 rfl rfl)
theorem dX12_bestChance_37 : decode cX12_bestChance 37 = .ok (.iconst 0, 1) := dk_3 (dk_at dksX12_bestChance_1 13 rfl rfl)
theorem dX12_bestChance_38 : decode cX12_bestChance 38 = .ok (.invokevirtual 236, 3) := dk_182 0 236 (dk_at dksX12_bestChance_1 14 rfl rfl)
theorem dX12_bestChance_41 : decode cX12_bestChance 41 = .ok (.aload_n 0, 1) := dk_42 (dk_at dksX12_bestChance_1 17 rfl rfl)
theorem dX12_bestChance_42 : decode cX12_bestChance 42 = .ok (.getfield 90, 3) := dk_180 0 90 (dk_at dksX12_bestChance_1 18 rfl rfl)
theorem dX12_bestChance_45 : decode cX12_bestChance 45 = .ok (.aload_n 0, 1) := dk_42 (dk_at dksX12_bestChance_1 21 rfl rfl)
theorem dX12_bestChance_46 : decode cX12_bestChance 46 = .ok (.invokevirtual 267, 3) := dk_182 1 11 (dk_at dksX12_bestChance_2 0 rfl rfl)
theorem dX12_bestChance_49 : decode cX12_bestChance 49 = .ok (.iaload, 1) := dk_46 (dk_at dksX12_bestChance_2 3 rfl rfl)
theorem dX12_bestChance_50 : decode cX12_bestChance 50 = .ok (.istore 4, 2) := dk_54 4 (dk_at dksX12_bestChance_2 4 rfl rfl)
theorem dX12_bestChance_52 : decode cX12_bestChance 52 = .ok (.aload_n 0, 1) := dk_42 (dk_at dksX12_bestChance_2 6 rfl rfl)
theorem dX12_bestChance_53 : decode cX12_bestChance 53 = .ok (.iload_n 1, 1) := dk_27 (dk_at dksX12_bestChance_2 7 rfl rfl)
theorem dX12_bestChance_54 : decode cX12_bestChance 54 = .ok (.invokevirtual 227, 3) := dk_182 0 227 (dk_at dksX12_bestChance_2 8 rfl rfl)
theorem dX12_bestChance_57 : decode cX12_bestChance 57 = .ok (.aload_n 0, 1) := dk_42 (dk_at dksX12_bestChance_2 11 rfl rfl)
theorem dX12_bestChance_58 : decode cX12_bestChance 58 = .ok (.getfield 66, 3) := dk_180 0 66 (dk_at dksX12_bestChance_2 12 rfl rfl)
theorem dX12_bestChance_61 : decode cX12_bestChance 61 = .ok (.iload_n 3, 1) := dk_29 (dk_at dksX12_bestChance_2 15 rfl rfl)
theorem dX12_bestChance_62 : decode cX12_bestChance 62 = .ok (.iaload, 1) := dk_46 (dk_at dksX12_bestChance_2 16 rfl rfl)
theorem dX12_bestChance_63 : decode cX12_bestChance 63 = .ok (.sipush 10000, 3) := dk_17 39 16 (dk_at dksX12_bestChance_2 17 rfl rfl)
theorem dX12_bestChance_66 : decode cX12_bestChance 66 = .ok (.idiv, 1) := dk_108 (dk_at dksX12_bestChance_2 20 rfl rfl)
theorem dX12_bestChance_67 : decode cX12_bestChance 67 = .ok (.iconst 3, 1) := dk_6 (dk_at dksX12_bestChance_2 21 rfl rfl)
theorem dX12_bestChance_68 : decode cX12_bestChance 68 = .ok (.if_icmp .ne 49, 3) := dk_160 0 49 (dk_at dksX12_bestChance_3 0 rfl rfl)
theorem dX12_bestChance_71 : decode cX12_bestChance 71 = .ok (.aload_n 0, 1) := dk_42 (dk_at dksX12_bestChance_3 3 rfl rfl)
theorem dX12_bestChance_72 : decode cX12_bestChance 72 = .ok (.aload_n 0, 1) := dk_42 (dk_at dksX12_bestChance_3 4 rfl rfl)
theorem dX12_bestChance_73 : decode cX12_bestChance 73 = .ok (.getfield 66, 3) := dk_180 0 66 (dk_at dksX12_bestChance_3 5 rfl rfl)
theorem dX12_bestChance_76 : decode cX12_bestChance 76 = .ok (.iload_n 3, 1) := dk_29 (dk_at dksX12_bestChance_3 8 rfl rfl)
theorem dX12_bestChance_77 : decode cX12_bestChance 77 = .ok (.iaload, 1) := dk_46 (dk_at dksX12_bestChance_3 9 rfl rfl)
theorem dX12_bestChance_78 : decode cX12_bestChance 78 = .ok (.iconst 1, 1) := dk_4 (dk_at dksX12_bestChance_3 10 rfl rfl)
theorem dX12_bestChance_79 : decode cX12_bestChance 79 = .ok (.invokevirtual 236, 3) := dk_182 0 236 (dk_at dksX12_bestChance_3 11 rfl rfl)
theorem dX12_bestChance_82 : decode cX12_bestChance 82 = .ok (.bipush 100, 2) := dk_16 100 (dk_at dksX12_bestChance_3 14 rfl rfl)
theorem dX12_bestChance_84 : decode cX12_bestChance 84 = .ok (.aload_n 0, 1) := dk_42 (dk_at dksX12_bestChance_3 16 rfl rfl)
theorem dX12_bestChance_85 : decode cX12_bestChance 85 = .ok (.getfield 173, 3) := dk_180 0 173 (dk_at dksX12_bestChance_3 17 rfl rfl)
theorem dX12_bestChance_88 : decode cX12_bestChance 88 = .ok (.isub, 1) := dk_100 (dk_at dksX12_bestChance_3 20 rfl rfl)
theorem dX12_bestChance_89 : decode cX12_bestChance 89 = .ok (.iload 4, 2) := dk_21 4 (dk_at dksX12_bestChance_3 21 rfl rfl)
theorem dX12_bestChance_91 : decode cX12_bestChance 91 = .ok (.imul, 1) := dk_104 (dk_at dksX12_bestChance_3 23 rfl rfl)
theorem dX12_bestChance_92 : decode cX12_bestChance 92 = .ok (.aload_n 0, 1) := dk_42 (dk_at dksX12_bestChance_4 0 rfl rfl)
theorem dX12_bestChance_93 : decode cX12_bestChance 93 = .ok (.getfield 173, 3) := dk_180 0 173 (dk_at dksX12_bestChance_4 1 rfl rfl)
theorem dX12_bestChance_96 : decode cX12_bestChance 96 = .ok (.aload_n 0, 1) := dk_42 (dk_at dksX12_bestChance_4 4 rfl rfl)
theorem dX12_bestChance_97 : decode cX12_bestChance 97 = .ok (.getfield 90, 3) := dk_180 0 90 (dk_at dksX12_bestChance_4 5 rfl rfl)
theorem dX12_bestChance_100 : decode cX12_bestChance 100 = .ok (.aload_n 0, 1) := dk_42 (dk_at dksX12_bestChance_4 8 rfl rfl)
theorem dX12_bestChance_101 : decode cX12_bestChance 101 = .ok (.invokevirtual 267, 3) := dk_182 1 11 (dk_at dksX12_bestChance_4 9 rfl rfl)
theorem dX12_bestChance_104 : decode cX12_bestChance 104 = .ok (.iaload, 1) := dk_46 (dk_at dksX12_bestChance_4 12 rfl rfl)
theorem dX12_bestChance_105 : decode cX12_bestChance 105 = .ok (.imul, 1) := dk_104 (dk_at dksX12_bestChance_4 13 rfl rfl)
theorem dX12_bestChance_106 : decode cX12_bestChance 106 = .ok (.iadd, 1) := dk_96 (dk_at dksX12_bestChance_4 14 rfl rfl)
theorem dX12_bestChance_107 : decode cX12_bestChance 107 = .ok (.bipush 100, 2) := dk_16 100 (dk_at dksX12_bestChance_4 15 rfl rfl)
theorem dX12_bestChance_109 : decode cX12_bestChance 109 = .ok (.idiv, 1) := dk_108 (dk_at dksX12_bestChance_4 17 rfl rfl)
theorem dX12_bestChance_110 : decode cX12_bestChance 110 = .ok (.istore 4, 2) := dk_54 4 (dk_at dksX12_bestChance_4 18 rfl rfl)
theorem dX12_bestChance_112 : decode cX12_bestChance 112 = .ok (.aload_n 0, 1) := dk_42 (dk_at dksX12_bestChance_4 20 rfl rfl)
theorem dX12_bestChance_113 : decode cX12_bestChance 113 = .ok (.iload_n 1, 1) := dk_27 (dk_at dksX12_bestChance_4 21 rfl rfl)
theorem dX12_bestChance_114 : decode cX12_bestChance 114 = .ok (.invokevirtual 227, 3) := dk_182 0 227 (dk_at dksX12_bestChance_5 0 rfl rfl)
theorem dX12_bestChance_117 : decode cX12_bestChance 117 = .ok (.iload 4, 2) := dk_21 4 (dk_at dksX12_bestChance_5 3 rfl rfl)
theorem dX12_bestChance_119 : decode cX12_bestChance 119 = .ok (.iload_n 2, 1) := dk_28 (dk_at dksX12_bestChance_5 5 rfl rfl)
theorem dX12_bestChance_120 : decode cX12_bestChance 120 = .ok (.if_icmp .le 8, 3) := dk_164 0 8 (dk_at dksX12_bestChance_5 6 rfl rfl)
theorem dX12_bestChance_123 : decode cX12_bestChance 123 = .ok (.iload 4, 2) := dk_21 4 (dk_at dksX12_bestChance_5 9 rfl rfl)
theorem dX12_bestChance_125 : decode cX12_bestChance 125 = .ok (.goto 4, 3) := dk_167 0 4 (dk_at dksX12_bestChance_5 11 rfl rfl)
theorem dX12_bestChance_128 : decode cX12_bestChance 128 = .ok (.iload_n 2, 1) := dk_28 (dk_at dksX12_bestChance_5 14 rfl rfl)
theorem dX12_bestChance_129 : decode cX12_bestChance 129 = .ok (.istore_n 2, 1) := dk_61 (dk_at dksX12_bestChance_5 15 rfl rfl)
theorem dX12_bestChance_130 : decode cX12_bestChance 130 = .ok (.iinc 3 1, 3) := dk_132 3 1 (dk_at dksX12_bestChance_5 16 rfl rfl)
theorem dX12_bestChance_133 : decode cX12_bestChance 133 = .ok (.goto (-124), 3) := dk_167 255 132 (dk_at dksX12_bestChance_5 19 rfl rfl)
theorem dX12_bestChance_136 : decode cX12_bestChance 136 = .ok (.iload_n 2, 1) := dk_28 (dk_at dksX12_bestChance_5 22 rfl rfl)
theorem dX12_bestChance_137 : decode cX12_bestChance 137 = .ok (.ireturn, 1) := dk_172 (dk_at dksX12_bestChance_5 23 rfl rfl)
abbrev cX12_states : ByteArray := prog_19_method_62_code
def yX12_states : MethodName := ⟨RX12, "states", "()I"⟩
def dkwX12_states_0 : List UInt8 := [42, 3, 181, 0, 115, 42, 182, 1, 14, 42, 180, 1, 8, 172]
abbrev dktX12_states_0 : List UInt8 := dkwX12_states_0 ++ []
theorem dksX12_states_0 : cX12_states.data.toList.drop 0 = dktX12_states_0 := by decide +kernel
theorem dX12_states_0 : decode cX12_states 0 = .ok (.aload_n 0, 1) := dk_42 (dk_at dksX12_states_0 0 rfl rfl)
theorem dX12_states_1 : decode cX12_states 1 = .ok (.iconst 0, 1) := dk_3 (dk_at dksX12_states_0 1 rfl rfl)
theorem dX12_states_2 : decode cX12_states 2 = .ok (.putfield 115, 3) := dk_181 0 115 (dk_at dksX12_states_0 2 rfl rfl)
theorem dX12_states_5 : decode cX12_states 5 = .ok (.aload_n 0, 1) := dk_42 (dk_at dksX12_states_0 5 rfl rfl)
theorem dX12_states_6 : decode cX12_states 6 = .ok (.invokevirtual 270, 3) := dk_182 1 14 (dk_at dksX12_states_0 6 rfl rfl)
theorem dX12_states_9 : decode cX12_states 9 = .ok (.aload_n 0, 1) := dk_42 (dk_at dksX12_states_0 9 rfl rfl)
theorem dX12_states_10 : decode cX12_states 10 = .ok (.getfield 264, 3) := dk_180 1 8 (dk_at dksX12_states_0 10 rfl rfl)
theorem dX12_states_13 : decode cX12_states 13 = .ok (.ireturn, 1) := dk_172 (dk_at dksX12_states_0 13 rfl rfl)
abbrev cX12_hurt : ByteArray := prog_19_method_63_code
def yX12_hurt : MethodName := ⟨RX12, "hurt", "(II)I"⟩
def dkwX12_hurt_3 : List UInt8 := [21, 4, 172]
abbrev dktX12_hurt_3 : List UInt8 := dkwX12_hurt_3 ++ []
def dkwX12_hurt_2 : List UInt8 := [79, 42, 3, 181, 0, 191, 42, 182, 1, 20, 54, 4, 42, 180, 0, 23, 27, 29, 79, 42, 3, 181, 0, 191]
abbrev dktX12_hurt_2 : List UInt8 := dkwX12_hurt_2 ++ dktX12_hurt_3
def dkwX12_hurt_1 : List UInt8 := [20, 1, 56, 184, 0, 121, 154, 0, 5, 2, 172, 42, 180, 0, 23, 27, 46, 62, 42, 180, 0, 23, 27, 28]
abbrev dktX12_hurt_1 : List UInt8 := dkwX12_hurt_1 ++ dktX12_hurt_2
def dkwX12_hurt_0 : List UInt8 := [42, 3, 181, 0, 115, 27, 133, 9, 42, 180, 0, 165, 4, 100, 133, 184, 0, 121, 153, 0, 15, 28, 133, 9]
abbrev dktX12_hurt_0 : List UInt8 := dkwX12_hurt_0 ++ dktX12_hurt_1
theorem dksX12_hurt_0 : cX12_hurt.data.toList.drop 0 = dktX12_hurt_0 := by decide +kernel
theorem dksX12_hurt_1 : cX12_hurt.data.toList.drop 24 = dktX12_hurt_1 := dk_seg dksX12_hurt_0 24 rfl rfl
theorem dksX12_hurt_2 : cX12_hurt.data.toList.drop 48 = dktX12_hurt_2 := dk_seg dksX12_hurt_1 24 rfl rfl
theorem dksX12_hurt_3 : cX12_hurt.data.toList.drop 72 = dktX12_hurt_3 := dk_seg dksX12_hurt_2 24 rfl rfl
theorem dX12_hurt_0 : decode cX12_hurt 0 = .ok (.aload_n 0, 1) := dk_42 (dk_at dksX12_hurt_0 0 rfl rfl)
theorem dX12_hurt_1 : decode cX12_hurt 1 = .ok (.iconst 0, 1) := dk_3 (dk_at dksX12_hurt_0 1 rfl rfl)
theorem dX12_hurt_2 : decode cX12_hurt 2 = .ok (.putfield 115, 3) := dk_181 0 115 (dk_at dksX12_hurt_0 2 rfl rfl)
theorem dX12_hurt_5 : decode cX12_hurt 5 = .ok (.iload_n 1, 1) := dk_27 (dk_at dksX12_hurt_0 5 rfl rfl)
theorem dX12_hurt_6 : decode cX12_hurt 6 = .ok (.i2l, 1) := dk_133 (dk_at dksX12_hurt_0 6 rfl rfl)
theorem dX12_hurt_7 : decode cX12_hurt 7 = .ok (.lconst 0, 1) := dk_9 (dk_at dksX12_hurt_0 7 rfl rfl)
theorem dX12_hurt_8 : decode cX12_hurt 8 = .ok (.aload_n 0, 1) := dk_42 (dk_at dksX12_hurt_0 8 rfl rfl)
theorem dX12_hurt_9 : decode cX12_hurt 9 = .ok (.getfield 165, 3) := dk_180 0 165 (dk_at dksX12_hurt_0 9 rfl rfl)
theorem dX12_hurt_12 : decode cX12_hurt 12 = .ok (.iconst 1, 1) := dk_4 (dk_at dksX12_hurt_0 12 rfl rfl)
theorem dX12_hurt_13 : decode cX12_hurt 13 = .ok (.isub, 1) := dk_100 (dk_at dksX12_hurt_0 13 rfl rfl)
theorem dX12_hurt_14 : decode cX12_hurt 14 = .ok (.i2l, 1) := dk_133 (dk_at dksX12_hurt_0 14 rfl rfl)
theorem dX12_hurt_15 : decode cX12_hurt 15 = .ok (.invokestatic 121, 3) := dk_184 0 121 (dk_at dksX12_hurt_0 15 rfl rfl)
theorem dX12_hurt_18 : decode cX12_hurt 18 = .ok (.ifCond .eq 15, 3) := dk_153 0 15 (dk_at dksX12_hurt_0 18 rfl rfl)
theorem dX12_hurt_21 : decode cX12_hurt 21 = .ok (.iload_n 2, 1) := dk_28 (dk_at dksX12_hurt_0 21 rfl rfl)
theorem dX12_hurt_22 : decode cX12_hurt 22 = .ok (.i2l, 1) := dk_133 (dk_at dksX12_hurt_0 22 rfl rfl)
theorem dX12_hurt_23 : decode cX12_hurt 23 = .ok (.lconst 0, 1) := dk_9 (dk_at dksX12_hurt_0 23 rfl rfl)
theorem dX12_hurt_24 : decode cX12_hurt 24 = .ok (.ldc2_w 312, 3) := dk_20 1 56 (dk_at dksX12_hurt_1 0 rfl rfl)
theorem dX12_hurt_27 : decode cX12_hurt 27 = .ok (.invokestatic 121, 3) := dk_184 0 121 (dk_at dksX12_hurt_1 3 rfl rfl)
theorem dX12_hurt_30 : decode cX12_hurt 30 = .ok (.ifCond .ne 5, 3) := dk_154 0 5 (dk_at dksX12_hurt_1 6 rfl rfl)
theorem dX12_hurt_33 : decode cX12_hurt 33 = .ok (.iconst (-1), 1) := dk_2 (dk_at dksX12_hurt_1 9 rfl rfl)
theorem dX12_hurt_34 : decode cX12_hurt 34 = .ok (.ireturn, 1) := dk_172 (dk_at dksX12_hurt_1 10 rfl rfl)
theorem dX12_hurt_35 : decode cX12_hurt 35 = .ok (.aload_n 0, 1) := dk_42 (dk_at dksX12_hurt_1 11 rfl rfl)
theorem dX12_hurt_36 : decode cX12_hurt 36 = .ok (.getfield 23, 3) := dk_180 0 23 (dk_at dksX12_hurt_1 12 rfl rfl)
theorem dX12_hurt_39 : decode cX12_hurt 39 = .ok (.iload_n 1, 1) := dk_27 (dk_at dksX12_hurt_1 15 rfl rfl)
theorem dX12_hurt_40 : decode cX12_hurt 40 = .ok (.iaload, 1) := dk_46 (dk_at dksX12_hurt_1 16 rfl rfl)
theorem dX12_hurt_41 : decode cX12_hurt 41 = .ok (.istore_n 3, 1) := dk_62 (dk_at dksX12_hurt_1 17 rfl rfl)
theorem dX12_hurt_42 : decode cX12_hurt 42 = .ok (.aload_n 0, 1) := dk_42 (dk_at dksX12_hurt_1 18 rfl rfl)
theorem dX12_hurt_43 : decode cX12_hurt 43 = .ok (.getfield 23, 3) := dk_180 0 23 (dk_at dksX12_hurt_1 19 rfl rfl)
theorem dX12_hurt_46 : decode cX12_hurt 46 = .ok (.iload_n 1, 1) := dk_27 (dk_at dksX12_hurt_1 22 rfl rfl)
theorem dX12_hurt_47 : decode cX12_hurt 47 = .ok (.iload_n 2, 1) := dk_28 (dk_at dksX12_hurt_1 23 rfl rfl)
theorem dX12_hurt_48 : decode cX12_hurt 48 = .ok (.iastore, 1) := dk_79 (dk_at dksX12_hurt_2 0 rfl rfl)
theorem dX12_hurt_49 : decode cX12_hurt 49 = .ok (.aload_n 0, 1) := dk_42 (dk_at dksX12_hurt_2 1 rfl rfl)
theorem dX12_hurt_50 : decode cX12_hurt 50 = .ok (.iconst 0, 1) := dk_3 (dk_at dksX12_hurt_2 2 rfl rfl)
theorem dX12_hurt_51 : decode cX12_hurt 51 = .ok (.putfield 191, 3) := dk_181 0 191 (dk_at dksX12_hurt_2 3 rfl rfl)
theorem dX12_hurt_54 : decode cX12_hurt 54 = .ok (.aload_n 0, 1) := dk_42 (dk_at dksX12_hurt_2 6 rfl rfl)
theorem dX12_hurt_55 : decode cX12_hurt 55 = .ok (.invokevirtual 276, 3) := dk_182 1 20 (dk_at dksX12_hurt_2 7 rfl rfl)
theorem dX12_hurt_58 : decode cX12_hurt 58 = .ok (.istore 4, 2) := dk_54 4 (dk_at dksX12_hurt_2 10 rfl rfl)
theorem dX12_hurt_60 : decode cX12_hurt 60 = .ok (.aload_n 0, 1) := dk_42 (dk_at dksX12_hurt_2 12 rfl rfl)
theorem dX12_hurt_61 : decode cX12_hurt 61 = .ok (.getfield 23, 3) := dk_180 0 23 (dk_at dksX12_hurt_2 13 rfl rfl)
theorem dX12_hurt_64 : decode cX12_hurt 64 = .ok (.iload_n 1, 1) := dk_27 (dk_at dksX12_hurt_2 16 rfl rfl)
theorem dX12_hurt_65 : decode cX12_hurt 65 = .ok (.iload_n 3, 1) := dk_29 (dk_at dksX12_hurt_2 17 rfl rfl)
theorem dX12_hurt_66 : decode cX12_hurt 66 = .ok (.iastore, 1) := dk_79 (dk_at dksX12_hurt_2 18 rfl rfl)
theorem dX12_hurt_67 : decode cX12_hurt 67 = .ok (.aload_n 0, 1) := dk_42 (dk_at dksX12_hurt_2 19 rfl rfl)
theorem dX12_hurt_68 : decode cX12_hurt 68 = .ok (.iconst 0, 1) := dk_3 (dk_at dksX12_hurt_2 20 rfl rfl)
theorem dX12_hurt_69 : decode cX12_hurt 69 = .ok (.putfield 191, 3) := dk_181 0 191 (dk_at dksX12_hurt_2 21 rfl rfl)
theorem dX12_hurt_72 : decode cX12_hurt 72 = .ok (.iload 4, 2) := dk_21 4 (dk_at dksX12_hurt_3 0 rfl rfl)
theorem dX12_hurt_74 : decode cX12_hurt 74 = .ok (.ireturn, 1) := dk_172 (dk_at dksX12_hurt_3 2 rfl rfl)
abbrev cX12_image : ByteArray := prog_19_method_66_code
def yX12_image : MethodName := ⟨RX12, "image", "()I"⟩
def dkwX12_image_0 : List UInt8 := [42, 3, 181, 0, 115, 42, 4, 181, 1, 67, 42, 4, 181, 1, 58, 42, 182, 1, 70, 42, 180, 0, 118, 172]
abbrev dktX12_image_0 : List UInt8 := dkwX12_image_0 ++ []
theorem dksX12_image_0 : cX12_image.data.toList.drop 0 = dktX12_image_0 := by decide +kernel
theorem dX12_image_0 : decode cX12_image 0 = .ok (.aload_n 0, 1) := dk_42 (dk_at dksX12_image_0 0 rfl rfl)
theorem dX12_image_1 : decode cX12_image 1 = .ok (.iconst 0, 1) := dk_3 (dk_at dksX12_image_0 1 rfl rfl)
theorem dX12_image_2 : decode cX12_image 2 = .ok (.putfield 115, 3) := dk_181 0 115 (dk_at dksX12_image_0 2 rfl rfl)
theorem dX12_image_5 : decode cX12_image 5 = .ok (.aload_n 0, 1) := dk_42 (dk_at dksX12_image_0 5 rfl rfl)
theorem dX12_image_6 : decode cX12_image 6 = .ok (.iconst 1, 1) := dk_4 (dk_at dksX12_image_0 6 rfl rfl)
theorem dX12_image_7 : decode cX12_image 7 = .ok (.putfield 323, 3) := dk_181 1 67 (dk_at dksX12_image_0 7 rfl rfl)
theorem dX12_image_10 : decode cX12_image 10 = .ok (.aload_n 0, 1) := dk_42 (dk_at dksX12_image_0 10 rfl rfl)
theorem dX12_image_11 : decode cX12_image 11 = .ok (.iconst 1, 1) := dk_4 (dk_at dksX12_image_0 11 rfl rfl)
theorem dX12_image_12 : decode cX12_image 12 = .ok (.putfield 314, 3) := dk_181 1 58 (dk_at dksX12_image_0 12 rfl rfl)
theorem dX12_image_15 : decode cX12_image 15 = .ok (.aload_n 0, 1) := dk_42 (dk_at dksX12_image_0 15 rfl rfl)
theorem dX12_image_16 : decode cX12_image 16 = .ok (.invokevirtual 326, 3) := dk_182 1 70 (dk_at dksX12_image_0 16 rfl rfl)
theorem dX12_image_19 : decode cX12_image 19 = .ok (.aload_n 0, 1) := dk_42 (dk_at dksX12_image_0 19 rfl rfl)
theorem dX12_image_20 : decode cX12_image 20 = .ok (.getfield 118, 3) := dk_180 0 118 (dk_at dksX12_image_0 20 rfl rfl)
theorem dX12_image_23 : decode cX12_image 23 = .ok (.ireturn, 1) := dk_172 (dk_at dksX12_image_0 23 rfl rfl)
abbrev cX12_carryAll : ByteArray := prog_19_method_65_code
def yX12_carryAll : MethodName := ⟨RX12, "carryAll", "()V"⟩
def dkwX12_carryAll_11 : List UInt8 := [132, 1, 1, 167, 255, 216, 177]
abbrev dktX12_carryAll_11 : List UInt8 := dkwX12_carryAll_11 ++ []
def dkwX12_carryAll_10 : List UInt8 := [27, 46, 182, 1, 64, 79, 42, 180, 0, 32, 27, 42, 42, 180, 0, 32, 27, 46, 182, 1, 64, 79]
abbrev dktX12_carryAll_10 : List UInt8 := dkwX12_carryAll_10 ++ dktX12_carryAll_11
def dkwX12_carryAll_9 : List UInt8 := [79, 132, 1, 1, 167, 255, 216, 3, 60, 27, 5, 162, 0, 41, 42, 180, 0, 26, 27, 42, 42, 180, 0, 26]
abbrev dktX12_carryAll_9 : List UInt8 := dkwX12_carryAll_9 ++ dktX12_carryAll_10
def dkwX12_carryAll_8 : List UInt8 := [180, 0, 23, 27, 46, 182, 1, 64, 79, 42, 180, 0, 29, 27, 42, 42, 180, 0, 29, 27, 46, 182, 1, 64]
abbrev dktX12_carryAll_8 : List UInt8 := dkwX12_carryAll_8 ++ dktX12_carryAll_9
def dkwX12_carryAll_7 : List UInt8 := [3, 84, 132, 1, 1, 167, 255, 167, 3, 60, 27, 6, 162, 0, 41, 42, 180, 0, 23, 27, 42, 42]
abbrev dktX12_carryAll_7 : List UInt8 := dkwX12_carryAll_7 ++ dktX12_carryAll_8
def dkwX12_carryAll_6 : List UInt8 := [180, 0, 19, 27, 51, 153, 0, 7, 4, 167, 0, 4, 3, 182, 1, 64, 4, 160, 0, 7, 4, 167, 0, 4]
abbrev dktX12_carryAll_6 : List UInt8 := dkwX12_carryAll_6 ++ dktX12_carryAll_7
def dkwX12_carryAll_5 : List UInt8 := [180, 0, 16, 27, 42, 42, 180, 0, 16, 27, 46, 182, 1, 64, 79, 42, 180, 0, 19, 27, 42, 42]
abbrev dktX12_carryAll_5 : List UInt8 := dkwX12_carryAll_5 ++ dktX12_carryAll_6
def dkwX12_carryAll_4 : List UInt8 := [46, 182, 1, 64, 79, 42, 180, 0, 13, 27, 42, 42, 180, 0, 13, 27, 46, 182, 1, 64, 79, 42]
abbrev dktX12_carryAll_4 : List UInt8 := dkwX12_carryAll_4 ++ dktX12_carryAll_5
def dkwX12_carryAll_3 : List UInt8 := [182, 1, 64, 181, 0, 188, 3, 60, 27, 8, 162, 0, 90, 42, 180, 0, 7, 27, 42, 42, 180, 0, 7, 27]
abbrev dktX12_carryAll_3 : List UInt8 := dkwX12_carryAll_3 ++ dktX12_carryAll_4
def dkwX12_carryAll_2 : List UInt8 := [182, 1, 64, 181, 0, 173, 42, 42, 42, 180, 0, 35, 182, 1, 64, 181, 0, 35, 42, 42, 42, 180, 0, 188]
abbrev dktX12_carryAll_2 : List UInt8 := dkwX12_carryAll_2 ++ dktX12_carryAll_3
def dkwX12_carryAll_1 : List UInt8 := [182, 1, 64, 181, 0, 165, 42, 42, 42, 180, 0, 170, 182, 1, 64, 181, 0, 170, 42, 42, 42, 180, 0, 173]
abbrev dktX12_carryAll_1 : List UInt8 := dkwX12_carryAll_1 ++ dktX12_carryAll_2
def dkwX12_carryAll_0 : List UInt8 := [42, 3, 181, 1, 61, 42, 42, 42, 180, 0, 118, 182, 1, 64, 181, 0, 118, 42, 42, 42, 180, 0, 165]
abbrev dktX12_carryAll_0 : List UInt8 := dkwX12_carryAll_0 ++ dktX12_carryAll_1
theorem dksX12_carryAll_0 : cX12_carryAll.data.toList.drop 0 = dktX12_carryAll_0 := by decide +kernel
theorem dksX12_carryAll_1 : cX12_carryAll.data.toList.drop 23 = dktX12_carryAll_1 := dk_seg dksX12_carryAll_0 23 rfl rfl
theorem dksX12_carryAll_2 : cX12_carryAll.data.toList.drop 47 = dktX12_carryAll_2 := dk_seg dksX12_carryAll_1 24 rfl rfl
theorem dksX12_carryAll_3 : cX12_carryAll.data.toList.drop 71 = dktX12_carryAll_3 := dk_seg dksX12_carryAll_2 24 rfl rfl
theorem dksX12_carryAll_4 : cX12_carryAll.data.toList.drop 95 = dktX12_carryAll_4 := dk_seg dksX12_carryAll_3 24 rfl rfl
theorem dksX12_carryAll_5 : cX12_carryAll.data.toList.drop 117 = dktX12_carryAll_5 := dk_seg dksX12_carryAll_4 22 rfl rfl
theorem dksX12_carryAll_6 : cX12_carryAll.data.toList.drop 139 = dktX12_carryAll_6 := dk_seg dksX12_carryAll_5 22 rfl rfl
theorem dksX12_carryAll_7 : cX12_carryAll.data.toList.drop 163 = dktX12_carryAll_7 := dk_seg dksX12_carryAll_6 24 rfl rfl
theorem dksX12_carryAll_8 : cX12_carryAll.data.toList.drop 185 = dktX12_carryAll_8 := dk_seg dksX12_carryAll_7 22 rfl rfl
theorem dksX12_carryAll_9 : cX12_carryAll.data.toList.drop 209 = dktX12_carryAll_9 := dk_seg dksX12_carryAll_8 24 rfl rfl
theorem dksX12_carryAll_10 : cX12_carryAll.data.toList.drop 233 = dktX12_carryAll_10 := dk_seg dksX12_carryAll_9 24 rfl rfl
theorem dksX12_carryAll_11 : cX12_carryAll.data.toList.drop 255 = dktX12_carryAll_11 := dk_seg dksX12_carryAll_10 22 rfl rfl
theorem dX12_carryAll_0 : decode cX12_carryAll 0 = .ok (.aload_n 0, 1) := dk_42 (dk_at dksX12_carryAll_0 0 rfl rfl)
theorem dX12_carryAll_1 : decode cX12_carryAll 1 = .ok (.iconst 0, 1) := dk_3 (dk_at dksX12_carryAll_0 1 rfl rfl)
theorem dX12_carryAll_2 : decode cX12_carryAll 2 = .ok (.putfield 317, 3) := dk_181 1 61 (dk_at dksX12_carryAll_0 2 rfl rfl)
theorem dX12_carryAll_5 : decode cX12_carryAll 5 = .ok (.aload_n 0, 1) := dk_42 (dk_at dksX12_carryAll_0 5 rfl rfl)
theorem dX12_carryAll_6 : decode cX12_carryAll 6 = .ok (.aload_n 0, 1) := dk_42 (dk_at dksX12_carryAll_0 6 rfl rfl)
theorem dX12_carryAll_7 : decode cX12_carryAll 7 = .ok (.aload_n 0, 1) := dk_42 (dk_at dksX12_carryAll_0 7 rfl rfl)
theorem dX12_carryAll_8 : decode cX12_carryAll 8 = .ok (.getfield 118, 3) := dk_180 0 118 (dk_at dksX12_carryAll_0 8 rfl rfl)
theorem dX12_carryAll_11 : decode cX12_carryAll 11 = .ok (.invokevirtual 320, 3) := dk_182 1 64 (dk_at dksX12_carryAll_0 11 rfl rfl)
theorem dX12_carryAll_14 : decode cX12_carryAll 14 = .ok (.putfield 118, 3) := dk_181 0 118 (dk_at dksX12_carryAll_0 14 rfl rfl)
theorem dX12_carryAll_17 : decode cX12_carryAll 17 = .ok (.aload_n 0, 1) := dk_42 (dk_at dksX12_carryAll_0 17 rfl rfl)
theorem dX12_carryAll_18 : decode cX12_carryAll 18 = .ok (.aload_n 0, 1) := dk_42 (dk_at dksX12_carryAll_0 18 rfl rfl)
theorem dX12_carryAll_19 : decode cX12_carryAll 19 = .ok (.aload_n 0, 1) := dk_42 (dk_at dksX12_carryAll_0 19 rfl rfl)
theorem dX12_carryAll_20 : decode cX12_carryAll 20 = .ok (.getfield 165, 3) := dk_180 0 165 (dk_at dksX12_carryAll_0 20 rfl rfl)
theorem dX12_carryAll_23 : decode cX12_carryAll 23 = .ok (.invokevirtual 320, 3) := dk_182 1 64 (dk_at dksX12_carryAll_1 0 rfl rfl)
theorem dX12_carryAll_26 : decode cX12_carryAll 26 = .ok (.putfield 165, 3) := dk_181 0 165 (dk_at dksX12_carryAll_1 3 rfl rfl)
theorem dX12_carryAll_29 : decode cX12_carryAll 29 = .ok (.aload_n 0, 1) := dk_42 (dk_at dksX12_carryAll_1 6 rfl rfl)
theorem dX12_carryAll_30 : decode cX12_carryAll 30 = .ok (.aload_n 0, 1) := dk_42 (dk_at dksX12_carryAll_1 7 rfl rfl)
theorem dX12_carryAll_31 : decode cX12_carryAll 31 = .ok (.aload_n 0, 1) := dk_42 (dk_at dksX12_carryAll_1 8 rfl rfl)
theorem dX12_carryAll_32 : decode cX12_carryAll 32 = .ok (.getfield 170, 3) := dk_180 0 170 (dk_at dksX12_carryAll_1 9 rfl rfl)
theorem dX12_carryAll_35 : decode cX12_carryAll 35 = .ok (.invokevirtual 320, 3) := dk_182 1 64 (dk_at dksX12_carryAll_1 12 rfl rfl)
theorem dX12_carryAll_38 : decode cX12_carryAll 38 = .ok (.putfield 170, 3) := dk_181 0 170 (dk_at dksX12_carryAll_1 15 rfl rfl)
theorem dX12_carryAll_41 : decode cX12_carryAll 41 = .ok (.aload_n 0, 1) := dk_42 (dk_at dksX12_carryAll_1 18 rfl rfl)
theorem dX12_carryAll_42 : decode cX12_carryAll 42 = .ok (.aload_n 0, 1) := dk_42 (dk_at dksX12_carryAll_1 19 rfl rfl)
theorem dX12_carryAll_43 : decode cX12_carryAll 43 = .ok (.aload_n 0, 1) := dk_42 (dk_at dksX12_carryAll_1 20 rfl rfl)
theorem dX12_carryAll_44 : decode cX12_carryAll 44 = .ok (.getfield 173, 3) := dk_180 0 173 (dk_at dksX12_carryAll_1 21 rfl rfl)
theorem dX12_carryAll_47 : decode cX12_carryAll 47 = .ok (.invokevirtual 320, 3) := dk_182 1 64 (dk_at dksX12_carryAll_2 0 rfl rfl)
theorem dX12_carryAll_50 : decode cX12_carryAll 50 = .ok (.putfield 173, 3) := dk_181 0 173 (dk_at dksX12_carryAll_2 3 rfl rfl)
theorem dX12_carryAll_53 : decode cX12_carryAll 53 = .ok (.aload_n 0, 1) := dk_42 (dk_at dksX12_carryAll_2 6 rfl rfl)
theorem dX12_carryAll_54 : decode cX12_carryAll 54 = .ok (.aload_n 0, 1) := dk_42 (dk_at dksX12_carryAll_2 7 rfl rfl)
theorem dX12_carryAll_55 : decode cX12_carryAll 55 = .ok (.aload_n 0, 1) := dk_42 (dk_at dksX12_carryAll_2 8 rfl rfl)
theorem dX12_carryAll_56 : decode cX12_carryAll 56 = .ok (.getfield 35, 3) := dk_180 0 35 (dk_at dksX12_carryAll_2 9 rfl rfl)
theorem dX12_carryAll_59 : decode cX12_carryAll 59 = .ok (.invokevirtual 320, 3) := dk_182 1 64 (dk_at dksX12_carryAll_2 12 rfl rfl)
theorem dX12_carryAll_62 : decode cX12_carryAll 62 = .ok (.putfield 35, 3) := dk_181 0 35 (dk_at dksX12_carryAll_2 15 rfl rfl)
theorem dX12_carryAll_65 : decode cX12_carryAll 65 = .ok (.aload_n 0, 1) := dk_42 (dk_at dksX12_carryAll_2 18 rfl rfl)
theorem dX12_carryAll_66 : decode cX12_carryAll 66 = .ok (.aload_n 0, 1) := dk_42 (dk_at dksX12_carryAll_2 19 rfl rfl)
theorem dX12_carryAll_67 : decode cX12_carryAll 67 = .ok (.aload_n 0, 1) := dk_42 (dk_at dksX12_carryAll_2 20 rfl rfl)
theorem dX12_carryAll_68 : decode cX12_carryAll 68 = .ok (.getfield 188, 3) := dk_180 0 188 (dk_at dksX12_carryAll_2 21 rfl rfl)
theorem dX12_carryAll_71 : decode cX12_carryAll 71 = .ok (.invokevirtual 320, 3) := dk_182 1 64 (dk_at dksX12_carryAll_3 0 rfl rfl)
theorem dX12_carryAll_74 : decode cX12_carryAll 74 = .ok (.putfield 188, 3) := dk_181 0 188 (dk_at dksX12_carryAll_3 3 rfl rfl)
theorem dX12_carryAll_77 : decode cX12_carryAll 77 = .ok (.iconst 0, 1) := dk_3 (dk_at dksX12_carryAll_3 6 rfl rfl)
theorem dX12_carryAll_78 : decode cX12_carryAll 78 = .ok (.istore_n 1, 1) := dk_60 (dk_at dksX12_carryAll_3 7 rfl rfl)
theorem dX12_carryAll_79 : decode cX12_carryAll 79 = .ok (.iload_n 1, 1) := dk_27 (dk_at dksX12_carryAll_3 8 rfl rfl)
theorem dX12_carryAll_80 : decode cX12_carryAll 80 = .ok (.iconst 5, 1) := dk_8 (dk_at dksX12_carryAll_3 9 rfl rfl)
theorem dX12_carryAll_81 : decode cX12_carryAll 81 = .ok (.if_icmp .ge 90, 3) := dk_162 0 90 (dk_at dksX12_carryAll_3 10 rfl rfl)
theorem dX12_carryAll_84 : decode cX12_carryAll 84 = .ok (.aload_n 0, 1) := dk_42 (dk_at dksX12_carryAll_3 13 rfl rfl)
theorem dX12_carryAll_85 : decode cX12_carryAll 85 = .ok (.getfield 7, 3) := dk_180 0 7 (dk_at dksX12_carryAll_3 14 rfl rfl)
theorem dX12_carryAll_88 : decode cX12_carryAll 88 = .ok (.iload_n 1, 1) := dk_27 (dk_at dksX12_carryAll_3 17 rfl rfl)
theorem dX12_carryAll_89 : decode cX12_carryAll 89 = .ok (.aload_n 0, 1) := dk_42 (dk_at dksX12_carryAll_3 18 rfl rfl)
theorem dX12_carryAll_90 : decode cX12_carryAll 90 = .ok (.aload_n 0, 1) := dk_42 (dk_at dksX12_carryAll_3 19 rfl rfl)
theorem dX12_carryAll_91 : decode cX12_carryAll 91 = .ok (.getfield 7, 3) := dk_180 0 7 (dk_at dksX12_carryAll_3 20 rfl rfl)
theorem dX12_carryAll_94 : decode cX12_carryAll 94 = .ok (.iload_n 1, 1) := dk_27 (dk_at dksX12_carryAll_3 23 rfl rfl)
theorem dX12_carryAll_95 : decode cX12_carryAll 95 = .ok (.iaload, 1) := dk_46 (dk_at dksX12_carryAll_4 0 rfl rfl)
theorem dX12_carryAll_96 : decode cX12_carryAll 96 = .ok (.invokevirtual 320, 3) := dk_182 1 64 (dk_at dksX12_carryAll_4 1 rfl rfl)
theorem dX12_carryAll_99 : decode cX12_carryAll 99 = .ok (.iastore, 1) := dk_79 (dk_at dksX12_carryAll_4 4 rfl rfl)
theorem dX12_carryAll_100 : decode cX12_carryAll 100 = .ok (.aload_n 0, 1) := dk_42 (dk_at dksX12_carryAll_4 5 rfl rfl)
theorem dX12_carryAll_101 : decode cX12_carryAll 101 = .ok (.getfield 13, 3) := dk_180 0 13 (dk_at dksX12_carryAll_4 6 rfl rfl)
theorem dX12_carryAll_104 : decode cX12_carryAll 104 = .ok (.iload_n 1, 1) := dk_27 (dk_at dksX12_carryAll_4 9 rfl rfl)
theorem dX12_carryAll_105 : decode cX12_carryAll 105 = .ok (.aload_n 0, 1) := dk_42 (dk_at dksX12_carryAll_4 10 rfl rfl)
theorem dX12_carryAll_106 : decode cX12_carryAll 106 = .ok (.aload_n 0, 1) := dk_42 (dk_at dksX12_carryAll_4 11 rfl rfl)
theorem dX12_carryAll_107 : decode cX12_carryAll 107 = .ok (.getfield 13, 3) := dk_180 0 13 (dk_at dksX12_carryAll_4 12 rfl rfl)
theorem dX12_carryAll_110 : decode cX12_carryAll 110 = .ok (.iload_n 1, 1) := dk_27 (dk_at dksX12_carryAll_4 15 rfl rfl)
theorem dX12_carryAll_111 : decode cX12_carryAll 111 = .ok (.iaload, 1) := dk_46 (dk_at dksX12_carryAll_4 16 rfl rfl)
theorem dX12_carryAll_112 : decode cX12_carryAll 112 = .ok (.invokevirtual 320, 3) := dk_182 1 64 (dk_at dksX12_carryAll_4 17 rfl rfl)
theorem dX12_carryAll_115 : decode cX12_carryAll 115 = .ok (.iastore, 1) := dk_79 (dk_at dksX12_carryAll_4 20 rfl rfl)
theorem dX12_carryAll_116 : decode cX12_carryAll 116 = .ok (.aload_n 0, 1) := dk_42 (dk_at dksX12_carryAll_4 21 rfl rfl)
theorem dX12_carryAll_117 : decode cX12_carryAll 117 = .ok (.getfield 16, 3) := dk_180 0 16 (dk_at dksX12_carryAll_5 0 rfl rfl)
theorem dX12_carryAll_120 : decode cX12_carryAll 120 = .ok (.iload_n 1, 1) := dk_27 (dk_at dksX12_carryAll_5 3 rfl rfl)
theorem dX12_carryAll_121 : decode cX12_carryAll 121 = .ok (.aload_n 0, 1) := dk_42 (dk_at dksX12_carryAll_5 4 rfl rfl)
theorem dX12_carryAll_122 : decode cX12_carryAll 122 = .ok (.aload_n 0, 1) := dk_42 (dk_at dksX12_carryAll_5 5 rfl rfl)
theorem dX12_carryAll_123 : decode cX12_carryAll 123 = .ok (.getfield 16, 3) := dk_180 0 16 (dk_at dksX12_carryAll_5 6 rfl rfl)
theorem dX12_carryAll_126 : decode cX12_carryAll 126 = .ok (.iload_n 1, 1) := dk_27 (dk_at dksX12_carryAll_5 9 rfl rfl)
theorem dX12_carryAll_127 : decode cX12_carryAll 127 = .ok (.iaload, 1) := dk_46 (dk_at dksX12_carryAll_5 10 rfl rfl)
theorem dX12_carryAll_128 : decode cX12_carryAll 128 = .ok (.invokevirtual 320, 3) := dk_182 1 64 (dk_at dksX12_carryAll_5 11 rfl rfl)
theorem dX12_carryAll_131 : decode cX12_carryAll 131 = .ok (.iastore, 1) := dk_79 (dk_at dksX12_carryAll_5 14 rfl rfl)
theorem dX12_carryAll_132 : decode cX12_carryAll 132 = .ok (.aload_n 0, 1) := dk_42 (dk_at dksX12_carryAll_5 15 rfl rfl)
theorem dX12_carryAll_133 : decode cX12_carryAll 133 = .ok (.getfield 19, 3) := dk_180 0 19 (dk_at dksX12_carryAll_5 16 rfl rfl)
theorem dX12_carryAll_136 : decode cX12_carryAll 136 = .ok (.iload_n 1, 1) := dk_27 (dk_at dksX12_carryAll_5 19 rfl rfl)
theorem dX12_carryAll_137 : decode cX12_carryAll 137 = .ok (.aload_n 0, 1) := dk_42 (dk_at dksX12_carryAll_5 20 rfl rfl)
theorem dX12_carryAll_138 : decode cX12_carryAll 138 = .ok (.aload_n 0, 1) := dk_42 (dk_at dksX12_carryAll_5 21 rfl rfl)
theorem dX12_carryAll_139 : decode cX12_carryAll 139 = .ok (.getfield 19, 3) := dk_180 0 19 (dk_at dksX12_carryAll_6 0 rfl rfl)
theorem dX12_carryAll_142 : decode cX12_carryAll 142 = .ok (.iload_n 1, 1) := dk_27 (dk_at dksX12_carryAll_6 3 rfl rfl)
theorem dX12_carryAll_143 : decode cX12_carryAll 143 = .ok (.baload, 1) := dk_51 (dk_at dksX12_carryAll_6 4 rfl rfl)
theorem dX12_carryAll_144 : decode cX12_carryAll 144 = .ok (.ifCond .eq 7, 3) := dk_153 0 7 (dk_at dksX12_carryAll_6 5 rfl rfl)
theorem dX12_carryAll_147 : decode cX12_carryAll 147 = .ok (.iconst 1, 1) := dk_4 (dk_at dksX12_carryAll_6 8 rfl rfl)
theorem dX12_carryAll_148 : decode cX12_carryAll 148 = .ok (.goto 4, 3) := dk_167 0 4 (dk_at dksX12_carryAll_6 9 rfl rfl)
theorem dX12_carryAll_151 : decode cX12_carryAll 151 = .ok (.iconst 0, 1) := dk_3 (dk_at dksX12_carryAll_6 12 rfl rfl)
theorem dX12_carryAll_152 : decode cX12_carryAll 152 = .ok (.invokevirtual 320, 3) := dk_182 1 64 (dk_at dksX12_carryAll_6 13 rfl rfl)
theorem dX12_carryAll_155 : decode cX12_carryAll 155 = .ok (.iconst 1, 1) := dk_4 (dk_at dksX12_carryAll_6 16 rfl rfl)
theorem dX12_carryAll_156 : decode cX12_carryAll 156 = .ok (.if_icmp .ne 7, 3) := dk_160 0 7 (dk_at dksX12_carryAll_6 17 rfl rfl)
theorem dX12_carryAll_159 : decode cX12_carryAll 159 = .ok (.iconst 1, 1) := dk_4 (dk_at dksX12_carryAll_6 20 rfl rfl)
theorem dX12_carryAll_160 : decode cX12_carryAll 160 = .ok (.goto 4, 3) := dk_167 0 4 (dk_at dksX12_carryAll_6 21 rfl rfl)
theorem dX12_carryAll_163 : decode cX12_carryAll 163 = .ok (.iconst 0, 1) := dk_3 (dk_at dksX12_carryAll_7 0 rfl rfl)
theorem dX12_carryAll_164 : decode cX12_carryAll 164 = .ok (.bastore, 1) := dk_84 (dk_at dksX12_carryAll_7 1 rfl rfl)
theorem dX12_carryAll_165 : decode cX12_carryAll 165 = .ok (.iinc 1 1, 3) := dk_132 1 1 (dk_at dksX12_carryAll_7 2 rfl rfl)
theorem dX12_carryAll_168 : decode cX12_carryAll 168 = .ok (.goto (-89), 3) := dk_167 255 167 (dk_at dksX12_carryAll_7 5 rfl rfl)
theorem dX12_carryAll_171 : decode cX12_carryAll 171 = .ok (.iconst 0, 1) := dk_3 (dk_at dksX12_carryAll_7 8 rfl rfl)
theorem dX12_carryAll_172 : decode cX12_carryAll 172 = .ok (.istore_n 1, 1) := dk_60 (dk_at dksX12_carryAll_7 9 rfl rfl)
theorem dX12_carryAll_173 : decode cX12_carryAll 173 = .ok (.iload_n 1, 1) := dk_27 (dk_at dksX12_carryAll_7 10 rfl rfl)
theorem dX12_carryAll_174 : decode cX12_carryAll 174 = .ok (.iconst 3, 1) := dk_6 (dk_at dksX12_carryAll_7 11 rfl rfl)
theorem dX12_carryAll_175 : decode cX12_carryAll 175 = .ok (.if_icmp .ge 41, 3) := dk_162 0 41 (dk_at dksX12_carryAll_7 12 rfl rfl)
theorem dX12_carryAll_178 : decode cX12_carryAll 178 = .ok (.aload_n 0, 1) := dk_42 (dk_at dksX12_carryAll_7 15 rfl rfl)
theorem dX12_carryAll_179 : decode cX12_carryAll 179 = .ok (.getfield 23, 3) := dk_180 0 23 (dk_at dksX12_carryAll_7 16 rfl rfl)
theorem dX12_carryAll_182 : decode cX12_carryAll 182 = .ok (.iload_n 1, 1) := dk_27 (dk_at dksX12_carryAll_7 19 rfl rfl)
theorem dX12_carryAll_183 : decode cX12_carryAll 183 = .ok (.aload_n 0, 1) := dk_42 (dk_at dksX12_carryAll_7 20 rfl rfl)
theorem dX12_carryAll_184 : decode cX12_carryAll 184 = .ok (.aload_n 0, 1) := dk_42 (dk_at dksX12_carryAll_7 21 rfl rfl)
theorem dX12_carryAll_185 : decode cX12_carryAll 185 = .ok (.getfield 23, 3) := dk_180 0 23 (dk_at dksX12_carryAll_8 0 rfl rfl)
theorem dX12_carryAll_188 : decode cX12_carryAll 188 = .ok (.iload_n 1, 1) := dk_27 (dk_at dksX12_carryAll_8 3 rfl rfl)
theorem dX12_carryAll_189 : decode cX12_carryAll 189 = .ok (.iaload, 1) := dk_46 (dk_at dksX12_carryAll_8 4 rfl rfl)
theorem dX12_carryAll_190 : decode cX12_carryAll 190 = .ok (.invokevirtual 320, 3) := dk_182 1 64 (dk_at dksX12_carryAll_8 5 rfl rfl)
theorem dX12_carryAll_193 : decode cX12_carryAll 193 = .ok (.iastore, 1) := dk_79 (dk_at dksX12_carryAll_8 8 rfl rfl)
theorem dX12_carryAll_194 : decode cX12_carryAll 194 = .ok (.aload_n 0, 1) := dk_42 (dk_at dksX12_carryAll_8 9 rfl rfl)
theorem dX12_carryAll_195 : decode cX12_carryAll 195 = .ok (.getfield 29, 3) := dk_180 0 29 (dk_at dksX12_carryAll_8 10 rfl rfl)
theorem dX12_carryAll_198 : decode cX12_carryAll 198 = .ok (.iload_n 1, 1) := dk_27 (dk_at dksX12_carryAll_8 13 rfl rfl)
theorem dX12_carryAll_199 : decode cX12_carryAll 199 = .ok (.aload_n 0, 1) := dk_42 (dk_at dksX12_carryAll_8 14 rfl rfl)
theorem dX12_carryAll_200 : decode cX12_carryAll 200 = .ok (.aload_n 0, 1) := dk_42 (dk_at dksX12_carryAll_8 15 rfl rfl)
theorem dX12_carryAll_201 : decode cX12_carryAll 201 = .ok (.getfield 29, 3) := dk_180 0 29 (dk_at dksX12_carryAll_8 16 rfl rfl)
theorem dX12_carryAll_204 : decode cX12_carryAll 204 = .ok (.iload_n 1, 1) := dk_27 (dk_at dksX12_carryAll_8 19 rfl rfl)
theorem dX12_carryAll_205 : decode cX12_carryAll 205 = .ok (.iaload, 1) := dk_46 (dk_at dksX12_carryAll_8 20 rfl rfl)
theorem dX12_carryAll_206 : decode cX12_carryAll 206 = .ok (.invokevirtual 320, 3) := dk_182 1 64 (dk_at dksX12_carryAll_8 21 rfl rfl)
theorem dX12_carryAll_209 : decode cX12_carryAll 209 = .ok (.iastore, 1) := dk_79 (dk_at dksX12_carryAll_9 0 rfl rfl)
theorem dX12_carryAll_210 : decode cX12_carryAll 210 = .ok (.iinc 1 1, 3) := dk_132 1 1 (dk_at dksX12_carryAll_9 1 rfl rfl)
theorem dX12_carryAll_213 : decode cX12_carryAll 213 = .ok (.goto (-40), 3) := dk_167 255 216 (dk_at dksX12_carryAll_9 4 rfl rfl)
theorem dX12_carryAll_216 : decode cX12_carryAll 216 = .ok (.iconst 0, 1) := dk_3 (dk_at dksX12_carryAll_9 7 rfl rfl)
theorem dX12_carryAll_217 : decode cX12_carryAll 217 = .ok (.istore_n 1, 1) := dk_60 (dk_at dksX12_carryAll_9 8 rfl rfl)
theorem dX12_carryAll_218 : decode cX12_carryAll 218 = .ok (.iload_n 1, 1) := dk_27 (dk_at dksX12_carryAll_9 9 rfl rfl)
theorem dX12_carryAll_219 : decode cX12_carryAll 219 = .ok (.iconst 2, 1) := dk_5 (dk_at dksX12_carryAll_9 10 rfl rfl)
theorem dX12_carryAll_220 : decode cX12_carryAll 220 = .ok (.if_icmp .ge 41, 3) := dk_162 0 41 (dk_at dksX12_carryAll_9 11 rfl rfl)
theorem dX12_carryAll_223 : decode cX12_carryAll 223 = .ok (.aload_n 0, 1) := dk_42 (dk_at dksX12_carryAll_9 14 rfl rfl)
theorem dX12_carryAll_224 : decode cX12_carryAll 224 = .ok (.getfield 26, 3) := dk_180 0 26 (dk_at dksX12_carryAll_9 15 rfl rfl)
theorem dX12_carryAll_227 : decode cX12_carryAll 227 = .ok (.iload_n 1, 1) := dk_27 (dk_at dksX12_carryAll_9 18 rfl rfl)
theorem dX12_carryAll_228 : decode cX12_carryAll 228 = .ok (.aload_n 0, 1) := dk_42 (dk_at dksX12_carryAll_9 19 rfl rfl)
theorem dX12_carryAll_229 : decode cX12_carryAll 229 = .ok (.aload_n 0, 1) := dk_42 (dk_at dksX12_carryAll_9 20 rfl rfl)
theorem dX12_carryAll_230 : decode cX12_carryAll 230 = .ok (.getfield 26, 3) := dk_180 0 26 (dk_at dksX12_carryAll_9 21 rfl rfl)
theorem dX12_carryAll_233 : decode cX12_carryAll 233 = .ok (.iload_n 1, 1) := dk_27 (dk_at dksX12_carryAll_10 0 rfl rfl)
theorem dX12_carryAll_234 : decode cX12_carryAll 234 = .ok (.iaload, 1) := dk_46 (dk_at dksX12_carryAll_10 1 rfl rfl)
theorem dX12_carryAll_235 : decode cX12_carryAll 235 = .ok (.invokevirtual 320, 3) := dk_182 1 64 (dk_at dksX12_carryAll_10 2 rfl rfl)
theorem dX12_carryAll_238 : decode cX12_carryAll 238 = .ok (.iastore, 1) := dk_79 (dk_at dksX12_carryAll_10 5 rfl rfl)
theorem dX12_carryAll_239 : decode cX12_carryAll 239 = .ok (.aload_n 0, 1) := dk_42 (dk_at dksX12_carryAll_10 6 rfl rfl)
theorem dX12_carryAll_240 : decode cX12_carryAll 240 = .ok (.getfield 32, 3) := dk_180 0 32 (dk_at dksX12_carryAll_10 7 rfl rfl)
theorem dX12_carryAll_243 : decode cX12_carryAll 243 = .ok (.iload_n 1, 1) := dk_27 (dk_at dksX12_carryAll_10 10 rfl rfl)
theorem dX12_carryAll_244 : decode cX12_carryAll 244 = .ok (.aload_n 0, 1) := dk_42 (dk_at dksX12_carryAll_10 11 rfl rfl)
theorem dX12_carryAll_245 : decode cX12_carryAll 245 = .ok (.aload_n 0, 1) := dk_42 (dk_at dksX12_carryAll_10 12 rfl rfl)
theorem dX12_carryAll_246 : decode cX12_carryAll 246 = .ok (.getfield 32, 3) := dk_180 0 32 (dk_at dksX12_carryAll_10 13 rfl rfl)
theorem dX12_carryAll_249 : decode cX12_carryAll 249 = .ok (.iload_n 1, 1) := dk_27 (dk_at dksX12_carryAll_10 16 rfl rfl)
theorem dX12_carryAll_250 : decode cX12_carryAll 250 = .ok (.iaload, 1) := dk_46 (dk_at dksX12_carryAll_10 17 rfl rfl)
theorem dX12_carryAll_251 : decode cX12_carryAll 251 = .ok (.invokevirtual 320, 3) := dk_182 1 64 (dk_at dksX12_carryAll_10 18 rfl rfl)
theorem dX12_carryAll_254 : decode cX12_carryAll 254 = .ok (.iastore, 1) := dk_79 (dk_at dksX12_carryAll_10 21 rfl rfl)
theorem dX12_carryAll_255 : decode cX12_carryAll 255 = .ok (.iinc 1 1, 3) := dk_132 1 1 (dk_at dksX12_carryAll_11 0 rfl rfl)
theorem dX12_carryAll_258 : decode cX12_carryAll 258 = .ok (.goto (-40), 3) := dk_167 255 216 (dk_at dksX12_carryAll_11 3 rfl rfl)
theorem dX12_carryAll_261 : decode cX12_carryAll 261 = .ok (.return_, 1) := dk_177 (dk_at dksX12_carryAll_11 6 rfl rfl)
abbrev cX12_carry : ByteArray := prog_19_method_64_code
def yX12_carry : MethodName := ⟨RX12, "carry", "(I)I"⟩
def dkwX12_carry_1 : List UInt8 := [181, 1, 61, 42, 180, 0, 93, 42, 180, 1, 61, 4, 100, 46, 172]
abbrev dktX12_carry_1 : List UInt8 := dkwX12_carry_1 ++ []
def dkwX12_carry_0 : List UInt8 := [42, 180, 1, 58, 153, 0, 13, 42, 180, 0, 93, 42, 180, 1, 61, 27, 79, 42, 89, 180, 1, 61, 4, 96]
abbrev dktX12_carry_0 : List UInt8 := dkwX12_carry_0 ++ dktX12_carry_1
theorem dksX12_carry_0 : cX12_carry.data.toList.drop 0 = dktX12_carry_0 := by decide +kernel
theorem dksX12_carry_1 : cX12_carry.data.toList.drop 24 = dktX12_carry_1 := dk_seg dksX12_carry_0 24 rfl rfl
theorem dX12_carry_0 : decode cX12_carry 0 = .ok (.aload_n 0, 1) := dk_42 (dk_at dksX12_carry_0 0 rfl rfl)
theorem dX12_carry_1 : decode cX12_carry 1 = .ok (.getfield 314, 3) := dk_180 1 58 (dk_at dksX12_carry_0 1 rfl rfl)
theorem dX12_carry_4 : decode cX12_carry 4 = .ok (.ifCond .eq 13, 3) := dk_153 0 13 (dk_at dksX12_carry_0 4 rfl rfl)
theorem dX12_carry_7 : decode cX12_carry 7 = .ok (.aload_n 0, 1) := dk_42 (dk_at dksX12_carry_0 7 rfl rfl)
theorem dX12_carry_8 : decode cX12_carry 8 = .ok (.getfield 93, 3) := dk_180 0 93 (dk_at dksX12_carry_0 8 rfl rfl)
theorem dX12_carry_11 : decode cX12_carry 11 = .ok (.aload_n 0, 1) := dk_42 (dk_at dksX12_carry_0 11 rfl rfl)
theorem dX12_carry_12 : decode cX12_carry 12 = .ok (.getfield 317, 3) := dk_180 1 61 (dk_at dksX12_carry_0 12 rfl rfl)
theorem dX12_carry_15 : decode cX12_carry 15 = .ok (.iload_n 1, 1) := dk_27 (dk_at dksX12_carry_0 15 rfl rfl)
theorem dX12_carry_16 : decode cX12_carry 16 = .ok (.iastore, 1) := dk_79 (dk_at dksX12_carry_0 16 rfl rfl)
theorem dX12_carry_17 : decode cX12_carry 17 = .ok (.aload_n 0, 1) := dk_42 (dk_at dksX12_carry_0 17 rfl rfl)
theorem dX12_carry_18 : decode cX12_carry 18 = .ok (.dup, 1) := dk_89 (dk_at dksX12_carry_0 18 rfl rfl)
theorem dX12_carry_19 : decode cX12_carry 19 = .ok (.getfield 317, 3) := dk_180 1 61 (dk_at dksX12_carry_0 19 rfl rfl)
theorem dX12_carry_22 : decode cX12_carry 22 = .ok (.iconst 1, 1) := dk_4 (dk_at dksX12_carry_0 22 rfl rfl)
theorem dX12_carry_23 : decode cX12_carry 23 = .ok (.iadd, 1) := dk_96 (dk_at dksX12_carry_0 23 rfl rfl)
theorem dX12_carry_24 : decode cX12_carry 24 = .ok (.putfield 317, 3) := dk_181 1 61 (dk_at dksX12_carry_1 0 rfl rfl)
theorem dX12_carry_27 : decode cX12_carry 27 = .ok (.aload_n 0, 1) := dk_42 (dk_at dksX12_carry_1 3 rfl rfl)
theorem dX12_carry_28 : decode cX12_carry 28 = .ok (.getfield 93, 3) := dk_180 0 93 (dk_at dksX12_carry_1 4 rfl rfl)
theorem dX12_carry_31 : decode cX12_carry 31 = .ok (.aload_n 0, 1) := dk_42 (dk_at dksX12_carry_1 7 rfl rfl)
theorem dX12_carry_32 : decode cX12_carry 32 = .ok (.getfield 317, 3) := dk_180 1 61 (dk_at dksX12_carry_1 8 rfl rfl)
theorem dX12_carry_35 : decode cX12_carry 35 = .ok (.iconst 1, 1) := dk_4 (dk_at dksX12_carry_1 11 rfl rfl)
theorem dX12_carry_36 : decode cX12_carry 36 = .ok (.isub, 1) := dk_100 (dk_at dksX12_carry_1 12 rfl rfl)
theorem dX12_carry_37 : decode cX12_carry 37 = .ok (.iaload, 1) := dk_46 (dk_at dksX12_carry_1 13 rfl rfl)
theorem dX12_carry_38 : decode cX12_carry 38 = .ok (.ireturn, 1) := dk_172 (dk_at dksX12_carry_1 14 rfl rfl)
abbrev cX12_restore : ByteArray := prog_19_method_67_code
def yX12_restore : MethodName := ⟨RX12, "restore", "()I"⟩
def dkwX12_restore_1 : List UInt8 := [181, 0, 191, 42, 182, 1, 70, 42, 180, 0, 118, 172]
abbrev dktX12_restore_1 : List UInt8 := dkwX12_restore_1 ++ []
def dkwX12_restore_0 : List UInt8 := [42, 3, 181, 0, 115, 42, 180, 1, 67, 154, 0, 6, 16, 253, 172, 42, 3, 181, 1, 58, 42, 3]
abbrev dktX12_restore_0 : List UInt8 := dkwX12_restore_0 ++ dktX12_restore_1
theorem dksX12_restore_0 : cX12_restore.data.toList.drop 0 = dktX12_restore_0 := by decide +kernel
theorem dksX12_restore_1 : cX12_restore.data.toList.drop 22 = dktX12_restore_1 := dk_seg dksX12_restore_0 22 rfl rfl
theorem dX12_restore_0 : decode cX12_restore 0 = .ok (.aload_n 0, 1) := dk_42 (dk_at dksX12_restore_0 0 rfl rfl)
theorem dX12_restore_1 : decode cX12_restore 1 = .ok (.iconst 0, 1) := dk_3 (dk_at dksX12_restore_0 1 rfl rfl)
theorem dX12_restore_2 : decode cX12_restore 2 = .ok (.putfield 115, 3) := dk_181 0 115 (dk_at dksX12_restore_0 2 rfl rfl)
theorem dX12_restore_5 : decode cX12_restore 5 = .ok (.aload_n 0, 1) := dk_42 (dk_at dksX12_restore_0 5 rfl rfl)
theorem dX12_restore_6 : decode cX12_restore 6 = .ok (.getfield 323, 3) := dk_180 1 67 (dk_at dksX12_restore_0 6 rfl rfl)
theorem dX12_restore_9 : decode cX12_restore 9 = .ok (.ifCond .ne 6, 3) := dk_154 0 6 (dk_at dksX12_restore_0 9 rfl rfl)
theorem dX12_restore_12 : decode cX12_restore 12 = .ok (.bipush (-3), 2) := dk_16 253 (dk_at dksX12_restore_0 12 rfl rfl)
theorem dX12_restore_14 : decode cX12_restore 14 = .ok (.ireturn, 1) := dk_172 (dk_at dksX12_restore_0 14 rfl rfl)
theorem dX12_restore_15 : decode cX12_restore 15 = .ok (.aload_n 0, 1) := dk_42 (dk_at dksX12_restore_0 15 rfl rfl)
theorem dX12_restore_16 : decode cX12_restore 16 = .ok (.iconst 0, 1) := dk_3 (dk_at dksX12_restore_0 16 rfl rfl)
theorem dX12_restore_17 : decode cX12_restore 17 = .ok (.putfield 314, 3) := dk_181 1 58 (dk_at dksX12_restore_0 17 rfl rfl)
theorem dX12_restore_20 : decode cX12_restore 20 = .ok (.aload_n 0, 1) := dk_42 (dk_at dksX12_restore_0 20 rfl rfl)
theorem dX12_restore_21 : decode cX12_restore 21 = .ok (.iconst 0, 1) := dk_3 (dk_at dksX12_restore_0 21 rfl rfl)
theorem dX12_restore_22 : decode cX12_restore 22 = .ok (.putfield 191, 3) := dk_181 0 191 (dk_at dksX12_restore_1 0 rfl rfl)
theorem dX12_restore_25 : decode cX12_restore 25 = .ok (.aload_n 0, 1) := dk_42 (dk_at dksX12_restore_1 3 rfl rfl)
theorem dX12_restore_26 : decode cX12_restore 26 = .ok (.invokevirtual 326, 3) := dk_182 1 70 (dk_at dksX12_restore_1 4 rfl rfl)
theorem dX12_restore_29 : decode cX12_restore 29 = .ok (.aload_n 0, 1) := dk_42 (dk_at dksX12_restore_1 7 rfl rfl)
theorem dX12_restore_30 : decode cX12_restore 30 = .ok (.getfield 118, 3) := dk_180 0 118 (dk_at dksX12_restore_1 8 rfl rfl)
theorem dX12_restore_33 : decode cX12_restore 33 = .ok (.ireturn, 1) := dk_172 (dk_at dksX12_restore_1 11 rfl rfl)
abbrev cX12_count : ByteArray := prog_19_method_68_code
def yX12_count : MethodName := ⟨RX12, "count", "(I)I"⟩
def dkwX12_count_3 : List UInt8 := [42, 180, 0, 188, 172, 42, 3, 42, 180, 0, 118, 4, 100, 182, 0, 198, 172, 2, 172]
abbrev dktX12_count_3 : List UInt8 := dkwX12_count_3 ++ []
def dkwX12_count_2 : List UInt8 := [42, 180, 0, 118, 172, 42, 180, 0, 165, 172, 42, 180, 0, 170, 172, 42, 42, 182, 0, 224, 182, 1, 26, 172]
abbrev dktX12_count_2 : List UInt8 := dkwX12_count_2 ++ dktX12_count_3
def dkwX12_count_1 : List UInt8 := [170, 0, 0, 0, 0, 79, 0, 0, 0, 0, 0, 0, 0, 5, 0, 0, 0, 38, 0, 0, 0, 43, 0, 0, 0, 48, 0, 0, 0, 53, 0, 0, 0, 62, 0, 0, 0, 67]
abbrev dktX12_count_1 : List UInt8 := dkwX12_count_1 ++ dktX12_count_2
def dkwX12_count_0 : List UInt8 := [42, 3, 181, 0, 115, 27]
abbrev dktX12_count_0 : List UInt8 := dkwX12_count_0 ++ dktX12_count_1
theorem dksX12_count_0 : cX12_count.data.toList.drop 0 = dktX12_count_0 := by decide +kernel
theorem dksX12_count_1 : cX12_count.data.toList.drop 6 = dktX12_count_1 := dk_seg dksX12_count_0 6 rfl rfl
theorem dksX12_count_2 : cX12_count.data.toList.drop 44 = dktX12_count_2 := dk_seg dksX12_count_1 38 rfl rfl
theorem dksX12_count_3 : cX12_count.data.toList.drop 68 = dktX12_count_3 := dk_seg dksX12_count_2 24 rfl rfl
theorem dX12_count_0 : decode cX12_count 0 = .ok (.aload_n 0, 1) := dk_42 (dk_at dksX12_count_0 0 rfl rfl)
theorem dX12_count_1 : decode cX12_count 1 = .ok (.iconst 0, 1) := dk_3 (dk_at dksX12_count_0 1 rfl rfl)
theorem dX12_count_2 : decode cX12_count 2 = .ok (.putfield 115, 3) := dk_181 0 115 (dk_at dksX12_count_0 2 rfl rfl)
theorem dX12_count_5 : decode cX12_count 5 = .ok (.iload_n 1, 1) := dk_27 (dk_at dksX12_count_0 5 rfl rfl)
theorem dX12_count_6 : decode cX12_count 6 = .ok (.tableswitch 79 0 5 #[38, 43, 48, 53, 62, 67], 38) := by decide +kernel
theorem dX12_count_44 : decode cX12_count 44 = .ok (.aload_n 0, 1) := dk_42 (dk_at dksX12_count_2 0 rfl rfl)
theorem dX12_count_45 : decode cX12_count 45 = .ok (.getfield 118, 3) := dk_180 0 118 (dk_at dksX12_count_2 1 rfl rfl)
theorem dX12_count_48 : decode cX12_count 48 = .ok (.ireturn, 1) := dk_172 (dk_at dksX12_count_2 4 rfl rfl)
theorem dX12_count_49 : decode cX12_count 49 = .ok (.aload_n 0, 1) := dk_42 (dk_at dksX12_count_2 5 rfl rfl)
theorem dX12_count_50 : decode cX12_count 50 = .ok (.getfield 165, 3) := dk_180 0 165 (dk_at dksX12_count_2 6 rfl rfl)
theorem dX12_count_53 : decode cX12_count 53 = .ok (.ireturn, 1) := dk_172 (dk_at dksX12_count_2 9 rfl rfl)
theorem dX12_count_54 : decode cX12_count 54 = .ok (.aload_n 0, 1) := dk_42 (dk_at dksX12_count_2 10 rfl rfl)
theorem dX12_count_55 : decode cX12_count 55 = .ok (.getfield 170, 3) := dk_180 0 170 (dk_at dksX12_count_2 11 rfl rfl)
theorem dX12_count_58 : decode cX12_count 58 = .ok (.ireturn, 1) := dk_172 (dk_at dksX12_count_2 14 rfl rfl)
theorem dX12_count_59 : decode cX12_count 59 = .ok (.aload_n 0, 1) := dk_42 (dk_at dksX12_count_2 15 rfl rfl)
theorem dX12_count_60 : decode cX12_count 60 = .ok (.aload_n 0, 1) := dk_42 (dk_at dksX12_count_2 16 rfl rfl)
theorem dX12_count_61 : decode cX12_count 61 = .ok (.invokevirtual 224, 3) := dk_182 0 224 (dk_at dksX12_count_2 17 rfl rfl)
theorem dX12_count_64 : decode cX12_count 64 = .ok (.invokevirtual 282, 3) := dk_182 1 26 (dk_at dksX12_count_2 20 rfl rfl)
theorem dX12_count_67 : decode cX12_count 67 = .ok (.ireturn, 1) := dk_172 (dk_at dksX12_count_2 23 rfl rfl)
theorem dX12_count_68 : decode cX12_count 68 = .ok (.aload_n 0, 1) := dk_42 (dk_at dksX12_count_3 0 rfl rfl)
theorem dX12_count_69 : decode cX12_count 69 = .ok (.getfield 188, 3) := dk_180 0 188 (dk_at dksX12_count_3 1 rfl rfl)
theorem dX12_count_72 : decode cX12_count 72 = .ok (.ireturn, 1) := dk_172 (dk_at dksX12_count_3 4 rfl rfl)
theorem dX12_count_73 : decode cX12_count 73 = .ok (.aload_n 0, 1) := dk_42 (dk_at dksX12_count_3 5 rfl rfl)
theorem dX12_count_74 : decode cX12_count 74 = .ok (.iconst 0, 1) := dk_3 (dk_at dksX12_count_3 6 rfl rfl)
theorem dX12_count_75 : decode cX12_count 75 = .ok (.aload_n 0, 1) := dk_42 (dk_at dksX12_count_3 7 rfl rfl)
theorem dX12_count_76 : decode cX12_count 76 = .ok (.getfield 118, 3) := dk_180 0 118 (dk_at dksX12_count_3 8 rfl rfl)
theorem dX12_count_79 : decode cX12_count 79 = .ok (.iconst 1, 1) := dk_4 (dk_at dksX12_count_3 11 rfl rfl)
theorem dX12_count_80 : decode cX12_count 80 = .ok (.isub, 1) := dk_100 (dk_at dksX12_count_3 12 rfl rfl)
theorem dX12_count_81 : decode cX12_count 81 = .ok (.invokevirtual 198, 3) := dk_182 0 198 (dk_at dksX12_count_3 13 rfl rfl)
theorem dX12_count_84 : decode cX12_count 84 = .ok (.ireturn, 1) := dk_172 (dk_at dksX12_count_3 16 rfl rfl)
theorem dX12_count_85 : decode cX12_count 85 = .ok (.iconst (-1), 1) := dk_2 (dk_at dksX12_count_3 17 rfl rfl)
theorem dX12_count_86 : decode cX12_count 86 = .ok (.ireturn, 1) := dk_172 (dk_at dksX12_count_3 18 rfl rfl)
abbrev cX12_keep : ByteArray := prog_19_method_69_code
def yX12_keep : MethodName := ⟨RX12, "keep", "(III)I"⟩
def dkwX12_keep_2 : List UInt8 := [42, 180, 0, 99, 27, 29, 79, 3, 172]
abbrev dktX12_keep_2 : List UInt8 := dkwX12_keep_2 ++ []
def dkwX12_keep_1 : List UInt8 := [153, 0, 15, 28, 4, 160, 0, 12, 29, 184, 0, 221, 154, 0, 5, 2, 172, 42, 180, 0, 96, 27, 28, 79]
abbrev dktX12_keep_1 : List UInt8 := dkwX12_keep_1 ++ dktX12_keep_2
def dkwX12_keep_0 : List UInt8 := [42, 3, 181, 0, 115, 27, 133, 9, 20, 1, 73, 184, 0, 121, 153, 0, 25, 28, 133, 9, 10, 184, 0, 121]
abbrev dktX12_keep_0 : List UInt8 := dkwX12_keep_0 ++ dktX12_keep_1
theorem dksX12_keep_0 : cX12_keep.data.toList.drop 0 = dktX12_keep_0 := by decide +kernel
theorem dksX12_keep_1 : cX12_keep.data.toList.drop 24 = dktX12_keep_1 := dk_seg dksX12_keep_0 24 rfl rfl
theorem dksX12_keep_2 : cX12_keep.data.toList.drop 48 = dktX12_keep_2 := dk_seg dksX12_keep_1 24 rfl rfl
theorem dX12_keep_0 : decode cX12_keep 0 = .ok (.aload_n 0, 1) := dk_42 (dk_at dksX12_keep_0 0 rfl rfl)
theorem dX12_keep_1 : decode cX12_keep 1 = .ok (.iconst 0, 1) := dk_3 (dk_at dksX12_keep_0 1 rfl rfl)
theorem dX12_keep_2 : decode cX12_keep 2 = .ok (.putfield 115, 3) := dk_181 0 115 (dk_at dksX12_keep_0 2 rfl rfl)
theorem dX12_keep_5 : decode cX12_keep 5 = .ok (.iload_n 1, 1) := dk_27 (dk_at dksX12_keep_0 5 rfl rfl)
theorem dX12_keep_6 : decode cX12_keep 6 = .ok (.i2l, 1) := dk_133 (dk_at dksX12_keep_0 6 rfl rfl)
theorem dX12_keep_7 : decode cX12_keep 7 = .ok (.lconst 0, 1) := dk_9 (dk_at dksX12_keep_0 7 rfl rfl)
theorem dX12_keep_8 : decode cX12_keep 8 = .ok (.ldc2_w 329, 3) := dk_20 1 73 (dk_at dksX12_keep_0 8 rfl rfl)
theorem dX12_keep_11 : decode cX12_keep 11 = .ok (.invokestatic 121, 3) := dk_184 0 121 (dk_at dksX12_keep_0 11 rfl rfl)
theorem dX12_keep_14 : decode cX12_keep 14 = .ok (.ifCond .eq 25, 3) := dk_153 0 25 (dk_at dksX12_keep_0 14 rfl rfl)
theorem dX12_keep_17 : decode cX12_keep 17 = .ok (.iload_n 2, 1) := dk_28 (dk_at dksX12_keep_0 17 rfl rfl)
theorem dX12_keep_18 : decode cX12_keep 18 = .ok (.i2l, 1) := dk_133 (dk_at dksX12_keep_0 18 rfl rfl)
theorem dX12_keep_19 : decode cX12_keep 19 = .ok (.lconst 0, 1) := dk_9 (dk_at dksX12_keep_0 19 rfl rfl)
theorem dX12_keep_20 : decode cX12_keep 20 = .ok (.lconst 1, 1) := dk_10 (dk_at dksX12_keep_0 20 rfl rfl)
theorem dX12_keep_21 : decode cX12_keep 21 = .ok (.invokestatic 121, 3) := dk_184 0 121 (dk_at dksX12_keep_0 21 rfl rfl)
theorem dX12_keep_24 : decode cX12_keep 24 = .ok (.ifCond .eq 15, 3) := dk_153 0 15 (dk_at dksX12_keep_1 0 rfl rfl)
theorem dX12_keep_27 : decode cX12_keep 27 = .ok (.iload_n 2, 1) := dk_28 (dk_at dksX12_keep_1 3 rfl rfl)
theorem dX12_keep_28 : decode cX12_keep 28 = .ok (.iconst 1, 1) := dk_4 (dk_at dksX12_keep_1 4 rfl rfl)
theorem dX12_keep_29 : decode cX12_keep 29 = .ok (.if_icmp .ne 12, 3) := dk_160 0 12 (dk_at dksX12_keep_1 5 rfl rfl)
theorem dX12_keep_32 : decode cX12_keep 32 = .ok (.iload_n 3, 1) := dk_29 (dk_at dksX12_keep_1 8 rfl rfl)
theorem dX12_keep_33 : decode cX12_keep 33 = .ok (.invokestatic 221, 3) := dk_184 0 221 (dk_at dksX12_keep_1 9 rfl rfl)
theorem dX12_keep_36 : decode cX12_keep 36 = .ok (.ifCond .ne 5, 3) := dk_154 0 5 (dk_at dksX12_keep_1 12 rfl rfl)
theorem dX12_keep_39 : decode cX12_keep 39 = .ok (.iconst (-1), 1) := dk_2 (dk_at dksX12_keep_1 15 rfl rfl)
theorem dX12_keep_40 : decode cX12_keep 40 = .ok (.ireturn, 1) := dk_172 (dk_at dksX12_keep_1 16 rfl rfl)
theorem dX12_keep_41 : decode cX12_keep 41 = .ok (.aload_n 0, 1) := dk_42 (dk_at dksX12_keep_1 17 rfl rfl)
theorem dX12_keep_42 : decode cX12_keep 42 = .ok (.getfield 96, 3) := dk_180 0 96 (dk_at dksX12_keep_1 18 rfl rfl)
theorem dX12_keep_45 : decode cX12_keep 45 = .ok (.iload_n 1, 1) := dk_27 (dk_at dksX12_keep_1 21 rfl rfl)
theorem dX12_keep_46 : decode cX12_keep 46 = .ok (.iload_n 2, 1) := dk_28 (dk_at dksX12_keep_1 22 rfl rfl)
theorem dX12_keep_47 : decode cX12_keep 47 = .ok (.iastore, 1) := dk_79 (dk_at dksX12_keep_1 23 rfl rfl)
theorem dX12_keep_48 : decode cX12_keep 48 = .ok (.aload_n 0, 1) := dk_42 (dk_at dksX12_keep_2 0 rfl rfl)
theorem dX12_keep_49 : decode cX12_keep 49 = .ok (.getfield 99, 3) := dk_180 0 99 (dk_at dksX12_keep_2 1 rfl rfl)
theorem dX12_keep_52 : decode cX12_keep 52 = .ok (.iload_n 1, 1) := dk_27 (dk_at dksX12_keep_2 4 rfl rfl)
theorem dX12_keep_53 : decode cX12_keep 53 = .ok (.iload_n 3, 1) := dk_29 (dk_at dksX12_keep_2 5 rfl rfl)
theorem dX12_keep_54 : decode cX12_keep 54 = .ok (.iastore, 1) := dk_79 (dk_at dksX12_keep_2 6 rfl rfl)
theorem dX12_keep_55 : decode cX12_keep 55 = .ok (.iconst 0, 1) := dk_3 (dk_at dksX12_keep_2 7 rfl rfl)
theorem dX12_keep_56 : decode cX12_keep 56 = .ok (.ireturn, 1) := dk_172 (dk_at dksX12_keep_2 8 rfl rfl)
abbrev cX12_row : ByteArray := prog_19_method_72_code
def yX12_row : MethodName := ⟨RX12, "row", "(III)I"⟩
def dkwX12_row_4 : List UInt8 := [167, 255, 233, 3, 172]
abbrev dktX12_row_4 : List UInt8 := dkwX12_row_4 ++ []
def dkwX12_row_3 : List UInt8 := [21, 4, 16, 100, 162, 0, 22, 42, 180, 0, 108, 16, 100, 27, 104, 21, 4, 96, 9, 80, 132, 4, 1]
abbrev dktX12_row_3 : List UInt8 := dkwX12_row_3 ++ dktX12_row_4
def dkwX12_row_2 : List UInt8 := [180, 0, 96, 27, 5, 79, 42, 180, 0, 102, 27, 28, 79, 42, 180, 0, 105, 27, 29, 79, 3, 54, 4]
abbrev dktX12_row_2 : List UInt8 := dkwX12_row_2 ++ dktX12_row_3
def dkwX12_row_1 : List UInt8 := [184, 0, 121, 153, 0, 9, 29, 16, 100, 164, 0, 5, 2, 172, 29, 156, 0, 6, 16, 242, 172, 42]
abbrev dktX12_row_1 : List UInt8 := dkwX12_row_1 ++ dktX12_row_2
def dkwX12_row_0 : List UInt8 := [42, 3, 181, 0, 115, 27, 133, 9, 20, 1, 73, 184, 0, 121, 153, 0, 21, 28, 133, 9, 20, 1, 56]
abbrev dktX12_row_0 : List UInt8 := dkwX12_row_0 ++ dktX12_row_1
theorem dksX12_row_0 : cX12_row.data.toList.drop 0 = dktX12_row_0 := by decide +kernel
theorem dksX12_row_1 : cX12_row.data.toList.drop 23 = dktX12_row_1 := dk_seg dksX12_row_0 23 rfl rfl
theorem dksX12_row_2 : cX12_row.data.toList.drop 45 = dktX12_row_2 := dk_seg dksX12_row_1 22 rfl rfl
theorem dksX12_row_3 : cX12_row.data.toList.drop 68 = dktX12_row_3 := dk_seg dksX12_row_2 23 rfl rfl
theorem dksX12_row_4 : cX12_row.data.toList.drop 91 = dktX12_row_4 := dk_seg dksX12_row_3 23 rfl rfl
theorem dX12_row_0 : decode cX12_row 0 = .ok (.aload_n 0, 1) := dk_42 (dk_at dksX12_row_0 0 rfl rfl)
theorem dX12_row_1 : decode cX12_row 1 = .ok (.iconst 0, 1) := dk_3 (dk_at dksX12_row_0 1 rfl rfl)
theorem dX12_row_2 : decode cX12_row 2 = .ok (.putfield 115, 3) := dk_181 0 115 (dk_at dksX12_row_0 2 rfl rfl)
theorem dX12_row_5 : decode cX12_row 5 = .ok (.iload_n 1, 1) := dk_27 (dk_at dksX12_row_0 5 rfl rfl)
theorem dX12_row_6 : decode cX12_row 6 = .ok (.i2l, 1) := dk_133 (dk_at dksX12_row_0 6 rfl rfl)
theorem dX12_row_7 : decode cX12_row 7 = .ok (.lconst 0, 1) := dk_9 (dk_at dksX12_row_0 7 rfl rfl)
theorem dX12_row_8 : decode cX12_row 8 = .ok (.ldc2_w 329, 3) := dk_20 1 73 (dk_at dksX12_row_0 8 rfl rfl)
theorem dX12_row_11 : decode cX12_row 11 = .ok (.invokestatic 121, 3) := dk_184 0 121 (dk_at dksX12_row_0 11 rfl rfl)
theorem dX12_row_14 : decode cX12_row 14 = .ok (.ifCond .eq 21, 3) := dk_153 0 21 (dk_at dksX12_row_0 14 rfl rfl)
theorem dX12_row_17 : decode cX12_row 17 = .ok (.iload_n 2, 1) := dk_28 (dk_at dksX12_row_0 17 rfl rfl)
theorem dX12_row_18 : decode cX12_row 18 = .ok (.i2l, 1) := dk_133 (dk_at dksX12_row_0 18 rfl rfl)
theorem dX12_row_19 : decode cX12_row 19 = .ok (.lconst 0, 1) := dk_9 (dk_at dksX12_row_0 19 rfl rfl)
theorem dX12_row_20 : decode cX12_row 20 = .ok (.ldc2_w 312, 3) := dk_20 1 56 (dk_at dksX12_row_0 20 rfl rfl)
theorem dX12_row_23 : decode cX12_row 23 = .ok (.invokestatic 121, 3) := dk_184 0 121 (dk_at dksX12_row_1 0 rfl rfl)
theorem dX12_row_26 : decode cX12_row 26 = .ok (.ifCond .eq 9, 3) := dk_153 0 9 (dk_at dksX12_row_1 3 rfl rfl)
theorem dX12_row_29 : decode cX12_row 29 = .ok (.iload_n 3, 1) := dk_29 (dk_at dksX12_row_1 6 rfl rfl)
theorem dX12_row_30 : decode cX12_row 30 = .ok (.bipush 100, 2) := dk_16 100 (dk_at dksX12_row_1 7 rfl rfl)
theorem dX12_row_32 : decode cX12_row 32 = .ok (.if_icmp .le 5, 3) := dk_164 0 5 (dk_at dksX12_row_1 9 rfl rfl)
theorem dX12_row_35 : decode cX12_row 35 = .ok (.iconst (-1), 1) := dk_2 (dk_at dksX12_row_1 12 rfl rfl)
theorem dX12_row_36 : decode cX12_row 36 = .ok (.ireturn, 1) := dk_172 (dk_at dksX12_row_1 13 rfl rfl)
theorem dX12_row_37 : decode cX12_row 37 = .ok (.iload_n 3, 1) := dk_29 (dk_at dksX12_row_1 14 rfl rfl)
theorem dX12_row_38 : decode cX12_row 38 = .ok (.ifCond .ge 6, 3) := dk_156 0 6 (dk_at dksX12_row_1 15 rfl rfl)
theorem dX12_row_41 : decode cX12_row 41 = .ok (.bipush (-14), 2) := dk_16 242 (dk_at dksX12_row_1 18 rfl rfl)
theorem dX12_row_43 : decode cX12_row 43 = .ok (.ireturn, 1) := dk_172 (dk_at dksX12_row_1 20 rfl rfl)
theorem dX12_row_44 : decode cX12_row 44 = .ok (.aload_n 0, 1) := dk_42 (dk_at dksX12_row_1 21 rfl rfl)
theorem dX12_row_45 : decode cX12_row 45 = .ok (.getfield 96, 3) := dk_180 0 96 (dk_at dksX12_row_2 0 rfl rfl)
theorem dX12_row_48 : decode cX12_row 48 = .ok (.iload_n 1, 1) := dk_27 (dk_at dksX12_row_2 3 rfl rfl)
theorem dX12_row_49 : decode cX12_row 49 = .ok (.iconst 2, 1) := dk_5 (dk_at dksX12_row_2 4 rfl rfl)
theorem dX12_row_50 : decode cX12_row 50 = .ok (.iastore, 1) := dk_79 (dk_at dksX12_row_2 5 rfl rfl)
theorem dX12_row_51 : decode cX12_row 51 = .ok (.aload_n 0, 1) := dk_42 (dk_at dksX12_row_2 6 rfl rfl)
theorem dX12_row_52 : decode cX12_row 52 = .ok (.getfield 102, 3) := dk_180 0 102 (dk_at dksX12_row_2 7 rfl rfl)
theorem dX12_row_55 : decode cX12_row 55 = .ok (.iload_n 1, 1) := dk_27 (dk_at dksX12_row_2 10 rfl rfl)
theorem dX12_row_56 : decode cX12_row 56 = .ok (.iload_n 2, 1) := dk_28 (dk_at dksX12_row_2 11 rfl rfl)
theorem dX12_row_57 : decode cX12_row 57 = .ok (.iastore, 1) := dk_79 (dk_at dksX12_row_2 12 rfl rfl)
theorem dX12_row_58 : decode cX12_row 58 = .ok (.aload_n 0, 1) := dk_42 (dk_at dksX12_row_2 13 rfl rfl)
theorem dX12_row_59 : decode cX12_row 59 = .ok (.getfield 105, 3) := dk_180 0 105 (dk_at dksX12_row_2 14 rfl rfl)
theorem dX12_row_62 : decode cX12_row 62 = .ok (.iload_n 1, 1) := dk_27 (dk_at dksX12_row_2 17 rfl rfl)
theorem dX12_row_63 : decode cX12_row 63 = .ok (.iload_n 3, 1) := dk_29 (dk_at dksX12_row_2 18 rfl rfl)
theorem dX12_row_64 : decode cX12_row 64 = .ok (.iastore, 1) := dk_79 (dk_at dksX12_row_2 19 rfl rfl)
theorem dX12_row_65 : decode cX12_row 65 = .ok (.iconst 0, 1) := dk_3 (dk_at dksX12_row_2 20 rfl rfl)
theorem dX12_row_66 : decode cX12_row 66 = .ok (.istore 4, 2) := dk_54 4 (dk_at dksX12_row_2 21 rfl rfl)
theorem dX12_row_68 : decode cX12_row 68 = .ok (.iload 4, 2) := dk_21 4 (dk_at dksX12_row_3 0 rfl rfl)
theorem dX12_row_70 : decode cX12_row 70 = .ok (.bipush 100, 2) := dk_16 100 (dk_at dksX12_row_3 2 rfl rfl)
theorem dX12_row_72 : decode cX12_row 72 = .ok (.if_icmp .ge 22, 3) := dk_162 0 22 (dk_at dksX12_row_3 4 rfl rfl)
theorem dX12_row_75 : decode cX12_row 75 = .ok (.aload_n 0, 1) := dk_42 (dk_at dksX12_row_3 7 rfl rfl)
theorem dX12_row_76 : decode cX12_row 76 = .ok (.getfield 108, 3) := dk_180 0 108 (dk_at dksX12_row_3 8 rfl rfl)
theorem dX12_row_79 : decode cX12_row 79 = .ok (.bipush 100, 2) := dk_16 100 (dk_at dksX12_row_3 11 rfl rfl)
theorem dX12_row_81 : decode cX12_row 81 = .ok (.iload_n 1, 1) := dk_27 (dk_at dksX12_row_3 13 rfl rfl)
theorem dX12_row_82 : decode cX12_row 82 = .ok (.imul, 1) := dk_104 (dk_at dksX12_row_3 14 rfl rfl)
theorem dX12_row_83 : decode cX12_row 83 = .ok (.iload 4, 2) := dk_21 4 (dk_at dksX12_row_3 15 rfl rfl)
theorem dX12_row_85 : decode cX12_row 85 = .ok (.iadd, 1) := dk_96 (dk_at dksX12_row_3 17 rfl rfl)
theorem dX12_row_86 : decode cX12_row 86 = .ok (.lconst 0, 1) := dk_9 (dk_at dksX12_row_3 18 rfl rfl)
theorem dX12_row_87 : decode cX12_row 87 = .ok (.lastore, 1) := dk_80 (dk_at dksX12_row_3 19 rfl rfl)
theorem dX12_row_88 : decode cX12_row 88 = .ok (.iinc 4 1, 3) := dk_132 4 1 (dk_at dksX12_row_3 20 rfl rfl)
theorem dX12_row_91 : decode cX12_row 91 = .ok (.goto (-23), 3) := dk_167 255 233 (dk_at dksX12_row_4 0 rfl rfl)
theorem dX12_row_94 : decode cX12_row 94 = .ok (.iconst 0, 1) := dk_3 (dk_at dksX12_row_4 3 rfl rfl)
theorem dX12_row_95 : decode cX12_row 95 = .ok (.ireturn, 1) := dk_172 (dk_at dksX12_row_4 4 rfl rfl)
abbrev cX12_put : ByteArray := prog_19_method_73_code
def yX12_put : MethodName := ⟨RX12, "put", "(III)I"⟩
def dkwX12_put_2 : List UInt8 := [104, 28, 96, 29, 42, 180, 0, 102, 27, 46, 184, 1, 75, 80, 3, 172]
abbrev dktX12_put_2 : List UInt8 := dkwX12_put_2 ++ []
def dkwX12_put_1 : List UInt8 := [180, 0, 105, 27, 46, 4, 100, 133, 184, 0, 121, 154, 0, 6, 16, 243, 172, 42, 180, 0, 108, 16, 100, 27]
abbrev dktX12_put_1 : List UInt8 := dkwX12_put_1 ++ dktX12_put_2
def dkwX12_put_0 : List UInt8 := [42, 3, 181, 0, 115, 42, 27, 182, 0, 178, 54, 4, 21, 4, 156, 0, 6, 21, 4, 172, 28, 133, 9, 42]
abbrev dktX12_put_0 : List UInt8 := dkwX12_put_0 ++ dktX12_put_1
theorem dksX12_put_0 : cX12_put.data.toList.drop 0 = dktX12_put_0 := by decide +kernel
theorem dksX12_put_1 : cX12_put.data.toList.drop 24 = dktX12_put_1 := dk_seg dksX12_put_0 24 rfl rfl
theorem dksX12_put_2 : cX12_put.data.toList.drop 48 = dktX12_put_2 := dk_seg dksX12_put_1 24 rfl rfl
theorem dX12_put_0 : decode cX12_put 0 = .ok (.aload_n 0, 1) := dk_42 (dk_at dksX12_put_0 0 rfl rfl)
theorem dX12_put_1 : decode cX12_put 1 = .ok (.iconst 0, 1) := dk_3 (dk_at dksX12_put_0 1 rfl rfl)
theorem dX12_put_2 : decode cX12_put 2 = .ok (.putfield 115, 3) := dk_181 0 115 (dk_at dksX12_put_0 2 rfl rfl)
theorem dX12_put_5 : decode cX12_put 5 = .ok (.aload_n 0, 1) := dk_42 (dk_at dksX12_put_0 5 rfl rfl)
theorem dX12_put_6 : decode cX12_put 6 = .ok (.iload_n 1, 1) := dk_27 (dk_at dksX12_put_0 6 rfl rfl)
theorem dX12_put_7 : decode cX12_put 7 = .ok (.invokevirtual 178, 3) := dk_182 0 178 (dk_at dksX12_put_0 7 rfl rfl)
theorem dX12_put_10 : decode cX12_put 10 = .ok (.istore 4, 2) := dk_54 4 (dk_at dksX12_put_0 10 rfl rfl)
theorem dX12_put_12 : decode cX12_put 12 = .ok (.iload 4, 2) := dk_21 4 (dk_at dksX12_put_0 12 rfl rfl)
theorem dX12_put_14 : decode cX12_put 14 = .ok (.ifCond .ge 6, 3) := dk_156 0 6 (dk_at dksX12_put_0 14 rfl rfl)
theorem dX12_put_17 : decode cX12_put 17 = .ok (.iload 4, 2) := dk_21 4 (dk_at dksX12_put_0 17 rfl rfl)
theorem dX12_put_19 : decode cX12_put 19 = .ok (.ireturn, 1) := dk_172 (dk_at dksX12_put_0 19 rfl rfl)
theorem dX12_put_20 : decode cX12_put 20 = .ok (.iload_n 2, 1) := dk_28 (dk_at dksX12_put_0 20 rfl rfl)
theorem dX12_put_21 : decode cX12_put 21 = .ok (.i2l, 1) := dk_133 (dk_at dksX12_put_0 21 rfl rfl)
theorem dX12_put_22 : decode cX12_put 22 = .ok (.lconst 0, 1) := dk_9 (dk_at dksX12_put_0 22 rfl rfl)
theorem dX12_put_23 : decode cX12_put 23 = .ok (.aload_n 0, 1) := dk_42 (dk_at dksX12_put_0 23 rfl rfl)
theorem dX12_put_24 : decode cX12_put 24 = .ok (.getfield 105, 3) := dk_180 0 105 (dk_at dksX12_put_1 0 rfl rfl)
theorem dX12_put_27 : decode cX12_put 27 = .ok (.iload_n 1, 1) := dk_27 (dk_at dksX12_put_1 3 rfl rfl)
theorem dX12_put_28 : decode cX12_put 28 = .ok (.iaload, 1) := dk_46 (dk_at dksX12_put_1 4 rfl rfl)
theorem dX12_put_29 : decode cX12_put 29 = .ok (.iconst 1, 1) := dk_4 (dk_at dksX12_put_1 5 rfl rfl)
theorem dX12_put_30 : decode cX12_put 30 = .ok (.isub, 1) := dk_100 (dk_at dksX12_put_1 6 rfl rfl)
theorem dX12_put_31 : decode cX12_put 31 = .ok (.i2l, 1) := dk_133 (dk_at dksX12_put_1 7 rfl rfl)
theorem dX12_put_32 : decode cX12_put 32 = .ok (.invokestatic 121, 3) := dk_184 0 121 (dk_at dksX12_put_1 8 rfl rfl)
theorem dX12_put_35 : decode cX12_put 35 = .ok (.ifCond .ne 6, 3) := dk_154 0 6 (dk_at dksX12_put_1 11 rfl rfl)
theorem dX12_put_38 : decode cX12_put 38 = .ok (.bipush (-13), 2) := dk_16 243 (dk_at dksX12_put_1 14 rfl rfl)
theorem dX12_put_40 : decode cX12_put 40 = .ok (.ireturn, 1) := dk_172 (dk_at dksX12_put_1 16 rfl rfl)
theorem dX12_put_41 : decode cX12_put 41 = .ok (.aload_n 0, 1) := dk_42 (dk_at dksX12_put_1 17 rfl rfl)
theorem dX12_put_42 : decode cX12_put 42 = .ok (.getfield 108, 3) := dk_180 0 108 (dk_at dksX12_put_1 18 rfl rfl)
theorem dX12_put_45 : decode cX12_put 45 = .ok (.bipush 100, 2) := dk_16 100 (dk_at dksX12_put_1 21 rfl rfl)
theorem dX12_put_47 : decode cX12_put 47 = .ok (.iload_n 1, 1) := dk_27 (dk_at dksX12_put_1 23 rfl rfl)
theorem dX12_put_48 : decode cX12_put 48 = .ok (.imul, 1) := dk_104 (dk_at dksX12_put_2 0 rfl rfl)
theorem dX12_put_49 : decode cX12_put 49 = .ok (.iload_n 2, 1) := dk_28 (dk_at dksX12_put_2 1 rfl rfl)
theorem dX12_put_50 : decode cX12_put 50 = .ok (.iadd, 1) := dk_96 (dk_at dksX12_put_2 2 rfl rfl)
theorem dX12_put_51 : decode cX12_put 51 = .ok (.iload_n 3, 1) := dk_29 (dk_at dksX12_put_2 3 rfl rfl)
theorem dX12_put_52 : decode cX12_put 52 = .ok (.aload_n 0, 1) := dk_42 (dk_at dksX12_put_2 4 rfl rfl)
theorem dX12_put_53 : decode cX12_put 53 = .ok (.getfield 102, 3) := dk_180 0 102 (dk_at dksX12_put_2 5 rfl rfl)
theorem dX12_put_56 : decode cX12_put 56 = .ok (.iload_n 1, 1) := dk_27 (dk_at dksX12_put_2 8 rfl rfl)
theorem dX12_put_57 : decode cX12_put 57 = .ok (.iaload, 1) := dk_46 (dk_at dksX12_put_2 9 rfl rfl)
theorem dX12_put_58 : decode cX12_put 58 = .ok (.invokestatic 331, 3) := dk_184 1 75 (dk_at dksX12_put_2 10 rfl rfl)
theorem dX12_put_61 : decode cX12_put 61 = .ok (.lastore, 1) := dk_80 (dk_at dksX12_put_2 13 rfl rfl)
theorem dX12_put_62 : decode cX12_put 62 = .ok (.iconst 0, 1) := dk_3 (dk_at dksX12_put_2 14 rfl rfl)
theorem dX12_put_63 : decode cX12_put 63 = .ok (.ireturn, 1) := dk_172 (dk_at dksX12_put_2 15 rfl rfl)
abbrev cX12_narrowed : ByteArray := prog_19_method_71_code
def yX12_narrowed : MethodName := ⟨RX12, "narrowed", "(II)J"⟩
def dkwX12_narrowed_0 : List UInt8 := [27, 154, 0, 9, 26, 145, 133, 167, 0, 16, 27, 4, 160, 0, 9, 26, 147, 133, 167, 0, 5, 26, 133, 173]
abbrev dktX12_narrowed_0 : List UInt8 := dkwX12_narrowed_0 ++ []
theorem dksX12_narrowed_0 : cX12_narrowed.data.toList.drop 0 = dktX12_narrowed_0 := by decide +kernel
theorem dX12_narrowed_0 : decode cX12_narrowed 0 = .ok (.iload_n 1, 1) := dk_27 (dk_at dksX12_narrowed_0 0 rfl rfl)
theorem dX12_narrowed_1 : decode cX12_narrowed 1 = .ok (.ifCond .ne 9, 3) := dk_154 0 9 (dk_at dksX12_narrowed_0 1 rfl rfl)
theorem dX12_narrowed_4 : decode cX12_narrowed 4 = .ok (.iload_n 0, 1) := dk_26 (dk_at dksX12_narrowed_0 4 rfl rfl)
theorem dX12_narrowed_5 : decode cX12_narrowed 5 = .ok (.i2b, 1) := dk_145 (dk_at dksX12_narrowed_0 5 rfl rfl)
theorem dX12_narrowed_6 : decode cX12_narrowed 6 = .ok (.i2l, 1) := dk_133 (dk_at dksX12_narrowed_0 6 rfl rfl)
theorem dX12_narrowed_7 : decode cX12_narrowed 7 = .ok (.goto 16, 3) := dk_167 0 16 (dk_at dksX12_narrowed_0 7 rfl rfl)
theorem dX12_narrowed_10 : decode cX12_narrowed 10 = .ok (.iload_n 1, 1) := dk_27 (dk_at dksX12_narrowed_0 10 rfl rfl)
theorem dX12_narrowed_11 : decode cX12_narrowed 11 = .ok (.iconst 1, 1) := dk_4 (dk_at dksX12_narrowed_0 11 rfl rfl)
theorem dX12_narrowed_12 : decode cX12_narrowed 12 = .ok (.if_icmp .ne 9, 3) := dk_160 0 9 (dk_at dksX12_narrowed_0 12 rfl rfl)
theorem dX12_narrowed_15 : decode cX12_narrowed 15 = .ok (.iload_n 0, 1) := dk_26 (dk_at dksX12_narrowed_0 15 rfl rfl)
theorem dX12_narrowed_16 : decode cX12_narrowed 16 = .ok (.i2s, 1) := dk_147 (dk_at dksX12_narrowed_0 16 rfl rfl)
theorem dX12_narrowed_17 : decode cX12_narrowed 17 = .ok (.i2l, 1) := dk_133 (dk_at dksX12_narrowed_0 17 rfl rfl)
theorem dX12_narrowed_18 : decode cX12_narrowed 18 = .ok (.goto 5, 3) := dk_167 0 5 (dk_at dksX12_narrowed_0 18 rfl rfl)
theorem dX12_narrowed_21 : decode cX12_narrowed 21 = .ok (.iload_n 0, 1) := dk_26 (dk_at dksX12_narrowed_0 21 rfl rfl)
theorem dX12_narrowed_22 : decode cX12_narrowed 22 = .ok (.i2l, 1) := dk_133 (dk_at dksX12_narrowed_0 22 rfl rfl)
theorem dX12_narrowed_23 : decode cX12_narrowed 23 = .ok (.lreturn, 1) := dk_173 (dk_at dksX12_narrowed_0 23 rfl rfl)
abbrev cX12_element : ByteArray := prog_19_method_74_code
def yX12_element : MethodName := ⟨RX12, "element", "(II)J"⟩
def dkwX12_element_2 : List UInt8 := [180, 0, 115, 158, 0, 7, 9, 167, 0, 14, 42, 180, 0, 108, 16, 100, 27, 104, 28, 96, 47, 173]
abbrev dktX12_element_2 : List UInt8 := dkwX12_element_2 ++ []
def dkwX12_element_1 : List UInt8 := [180, 0, 105, 27, 46, 4, 100, 133, 184, 0, 121, 154, 0, 7, 5, 167, 0, 4, 3, 181, 0, 115, 42]
abbrev dktX12_element_1 : List UInt8 := dkwX12_element_1 ++ dktX12_element_2
def dkwX12_element_0 : List UInt8 := [42, 27, 182, 0, 178, 62, 42, 29, 2, 160, 0, 7, 4, 167, 0, 30, 29, 155, 0, 21, 28, 133, 9, 42]
abbrev dktX12_element_0 : List UInt8 := dkwX12_element_0 ++ dktX12_element_1
theorem dksX12_element_0 : cX12_element.data.toList.drop 0 = dktX12_element_0 := by decide +kernel
theorem dksX12_element_1 : cX12_element.data.toList.drop 24 = dktX12_element_1 := dk_seg dksX12_element_0 24 rfl rfl
theorem dksX12_element_2 : cX12_element.data.toList.drop 47 = dktX12_element_2 := dk_seg dksX12_element_1 23 rfl rfl
theorem dX12_element_0 : decode cX12_element 0 = .ok (.aload_n 0, 1) := dk_42 (dk_at dksX12_element_0 0 rfl rfl)
theorem dX12_element_1 : decode cX12_element 1 = .ok (.iload_n 1, 1) := dk_27 (dk_at dksX12_element_0 1 rfl rfl)
theorem dX12_element_2 : decode cX12_element 2 = .ok (.invokevirtual 178, 3) := dk_182 0 178 (dk_at dksX12_element_0 2 rfl rfl)
theorem dX12_element_5 : decode cX12_element 5 = .ok (.istore_n 3, 1) := dk_62 (dk_at dksX12_element_0 5 rfl rfl)
theorem dX12_element_6 : decode cX12_element 6 = .ok (.aload_n 0, 1) := dk_42 (dk_at dksX12_element_0 6 rfl rfl)
theorem dX12_element_7 : decode cX12_element 7 = .ok (.iload_n 3, 1) := dk_29 (dk_at dksX12_element_0 7 rfl rfl)
theorem dX12_element_8 : decode cX12_element 8 = .ok (.iconst (-1), 1) := dk_2 (dk_at dksX12_element_0 8 rfl rfl)
theorem dX12_element_9 : decode cX12_element 9 = .ok (.if_icmp .ne 7, 3) := dk_160 0 7 (dk_at dksX12_element_0 9 rfl rfl)
theorem dX12_element_12 : decode cX12_element 12 = .ok (.iconst 1, 1) := dk_4 (dk_at dksX12_element_0 12 rfl rfl)
theorem dX12_element_13 : decode cX12_element 13 = .ok (.goto 30, 3) := dk_167 0 30 (dk_at dksX12_element_0 13 rfl rfl)
theorem dX12_element_16 : decode cX12_element 16 = .ok (.iload_n 3, 1) := dk_29 (dk_at dksX12_element_0 16 rfl rfl)
theorem dX12_element_17 : decode cX12_element 17 = .ok (.ifCond .lt 21, 3) := dk_155 0 21 (dk_at dksX12_element_0 17 rfl rfl)
theorem dX12_element_20 : decode cX12_element 20 = .ok (.iload_n 2, 1) := dk_28 (dk_at dksX12_element_0 20 rfl rfl)
theorem dX12_element_21 : decode cX12_element 21 = .ok (.i2l, 1) := dk_133 (dk_at dksX12_element_0 21 rfl rfl)
theorem dX12_element_22 : decode cX12_element 22 = .ok (.lconst 0, 1) := dk_9 (dk_at dksX12_element_0 22 rfl rfl)
theorem dX12_element_23 : decode cX12_element 23 = .ok (.aload_n 0, 1) := dk_42 (dk_at dksX12_element_0 23 rfl rfl)
theorem dX12_element_24 : decode cX12_element 24 = .ok (.getfield 105, 3) := dk_180 0 105 (dk_at dksX12_element_1 0 rfl rfl)
theorem dX12_element_27 : decode cX12_element 27 = .ok (.iload_n 1, 1) := dk_27 (dk_at dksX12_element_1 3 rfl rfl)
theorem dX12_element_28 : decode cX12_element 28 = .ok (.iaload, 1) := dk_46 (dk_at dksX12_element_1 4 rfl rfl)
theorem dX12_element_29 : decode cX12_element 29 = .ok (.iconst 1, 1) := dk_4 (dk_at dksX12_element_1 5 rfl rfl)
theorem dX12_element_30 : decode cX12_element 30 = .ok (.isub, 1) := dk_100 (dk_at dksX12_element_1 6 rfl rfl)
theorem dX12_element_31 : decode cX12_element 31 = .ok (.i2l, 1) := dk_133 (dk_at dksX12_element_1 7 rfl rfl)
theorem dX12_element_32 : decode cX12_element 32 = .ok (.invokestatic 121, 3) := dk_184 0 121 (dk_at dksX12_element_1 8 rfl rfl)
theorem dX12_element_35 : decode cX12_element 35 = .ok (.ifCond .ne 7, 3) := dk_154 0 7 (dk_at dksX12_element_1 11 rfl rfl)
theorem dX12_element_38 : decode cX12_element 38 = .ok (.iconst 2, 1) := dk_5 (dk_at dksX12_element_1 14 rfl rfl)
theorem dX12_element_39 : decode cX12_element 39 = .ok (.goto 4, 3) := dk_167 0 4 (dk_at dksX12_element_1 15 rfl rfl)
theorem dX12_element_42 : decode cX12_element 42 = .ok (.iconst 0, 1) := dk_3 (dk_at dksX12_element_1 18 rfl rfl)
theorem dX12_element_43 : decode cX12_element 43 = .ok (.putfield 115, 3) := dk_181 0 115 (dk_at dksX12_element_1 19 rfl rfl)
theorem dX12_element_46 : decode cX12_element 46 = .ok (.aload_n 0, 1) := dk_42 (dk_at dksX12_element_1 22 rfl rfl)
theorem dX12_element_47 : decode cX12_element 47 = .ok (.getfield 115, 3) := dk_180 0 115 (dk_at dksX12_element_2 0 rfl rfl)
theorem dX12_element_50 : decode cX12_element 50 = .ok (.ifCond .le 7, 3) := dk_158 0 7 (dk_at dksX12_element_2 3 rfl rfl)
theorem dX12_element_53 : decode cX12_element 53 = .ok (.lconst 0, 1) := dk_9 (dk_at dksX12_element_2 6 rfl rfl)
theorem dX12_element_54 : decode cX12_element 54 = .ok (.goto 14, 3) := dk_167 0 14 (dk_at dksX12_element_2 7 rfl rfl)
theorem dX12_element_57 : decode cX12_element 57 = .ok (.aload_n 0, 1) := dk_42 (dk_at dksX12_element_2 10 rfl rfl)
theorem dX12_element_58 : decode cX12_element 58 = .ok (.getfield 108, 3) := dk_180 0 108 (dk_at dksX12_element_2 11 rfl rfl)
theorem dX12_element_61 : decode cX12_element 61 = .ok (.bipush 100, 2) := dk_16 100 (dk_at dksX12_element_2 14 rfl rfl)
theorem dX12_element_63 : decode cX12_element 63 = .ok (.iload_n 1, 1) := dk_27 (dk_at dksX12_element_2 16 rfl rfl)
theorem dX12_element_64 : decode cX12_element 64 = .ok (.imul, 1) := dk_104 (dk_at dksX12_element_2 17 rfl rfl)
theorem dX12_element_65 : decode cX12_element 65 = .ok (.iload_n 2, 1) := dk_28 (dk_at dksX12_element_2 18 rfl rfl)
theorem dX12_element_66 : decode cX12_element 66 = .ok (.iadd, 1) := dk_96 (dk_at dksX12_element_2 19 rfl rfl)
theorem dX12_element_67 : decode cX12_element 67 = .ok (.laload, 1) := dk_47 (dk_at dksX12_element_2 20 rfl rfl)
theorem dX12_element_68 : decode cX12_element 68 = .ok (.lreturn, 1) := dk_173 (dk_at dksX12_element_2 21 rfl rfl)
abbrev cX12_copy : ByteArray := prog_19_method_75_code
def yX12_copy : MethodName := ⟨RX12, "copy", "(IIIII)I"⟩
def dkwX12_copy_9 : List UInt8 := [167, 255, 224, 21, 5, 172]
abbrev dktX12_copy_9 : List UInt8 := dkwX12_copy_9 ++ []
def dkwX12_copy_8 : List UInt8 := [180, 0, 108, 16, 100, 29, 104, 21, 4, 96, 21, 6, 96, 42, 180, 0, 112, 21, 6, 47, 80, 132, 6, 1]
abbrev dktX12_copy_8 : List UInt8 := dkwX12_copy_8 ++ dktX12_copy_9
def dkwX12_copy_7 : List UInt8 := [21, 6, 96, 47, 80, 132, 6, 1, 167, 255, 225, 3, 54, 6, 21, 6, 21, 5, 162, 0, 31, 42]
abbrev dktX12_copy_7 : List UInt8 := dkwX12_copy_7 ++ dktX12_copy_8
def dkwX12_copy_6 : List UInt8 := [21, 6, 21, 5, 162, 0, 30, 42, 180, 0, 112, 21, 6, 42, 180, 0, 108, 16, 100, 27, 104, 28, 96]
abbrev dktX12_copy_6 : List UInt8 := dkwX12_copy_6 ++ dktX12_copy_7
def dkwX12_copy_5 : List UInt8 := [163, 0, 17, 21, 4, 42, 180, 0, 105, 29, 46, 21, 5, 100, 164, 0, 6, 16, 243, 172, 3, 54, 6]
abbrev dktX12_copy_5 : List UInt8 := dkwX12_copy_5 ++ dktX12_copy_6
def dkwX12_copy_4 : List UInt8 := [155, 0, 39, 28, 155, 0, 35, 21, 4, 155, 0, 30, 28, 42, 180, 0, 105, 27, 46, 21, 5, 100]
abbrev dktX12_copy_4 : List UInt8 := dkwX12_copy_4 ++ dktX12_copy_5
def dkwX12_copy_3 : List UInt8 := [160, 0, 18, 42, 180, 0, 102, 27, 46, 42, 180, 0, 102, 29, 46, 159, 0, 6, 16, 244, 172, 21, 5]
abbrev dktX12_copy_3 : List UInt8 := dkwX12_copy_3 ++ dktX12_copy_4
def dkwX12_copy_2 : List UInt8 := [154, 0, 6, 16, 245, 172, 42, 180, 0, 96, 27, 46, 5, 160, 0, 28, 42, 180, 0, 96, 29, 46, 5]
abbrev dktX12_copy_2 : List UInt8 := dkwX12_copy_2 ++ dktX12_copy_3
def dkwX12_copy_1 : List UInt8 := [184, 0, 121, 154, 0, 5, 2, 172, 42, 180, 0, 96, 27, 46, 153, 0, 12, 42, 180, 0, 96, 29, 46]
abbrev dktX12_copy_1 : List UInt8 := dkwX12_copy_1 ++ dktX12_copy_2
def dkwX12_copy_0 : List UInt8 := [42, 3, 181, 0, 115, 27, 133, 9, 20, 1, 73, 184, 0, 121, 153, 0, 15, 29, 133, 9, 20, 1, 73]
abbrev dktX12_copy_0 : List UInt8 := dkwX12_copy_0 ++ dktX12_copy_1
theorem dksX12_copy_0 : cX12_copy.data.toList.drop 0 = dktX12_copy_0 := by decide +kernel
theorem dksX12_copy_1 : cX12_copy.data.toList.drop 23 = dktX12_copy_1 := dk_seg dksX12_copy_0 23 rfl rfl
theorem dksX12_copy_2 : cX12_copy.data.toList.drop 46 = dktX12_copy_2 := dk_seg dksX12_copy_1 23 rfl rfl
theorem dksX12_copy_3 : cX12_copy.data.toList.drop 69 = dktX12_copy_3 := dk_seg dksX12_copy_2 23 rfl rfl
theorem dksX12_copy_4 : cX12_copy.data.toList.drop 92 = dktX12_copy_4 := dk_seg dksX12_copy_3 23 rfl rfl
theorem dksX12_copy_5 : cX12_copy.data.toList.drop 114 = dktX12_copy_5 := dk_seg dksX12_copy_4 22 rfl rfl
theorem dksX12_copy_6 : cX12_copy.data.toList.drop 137 = dktX12_copy_6 := dk_seg dksX12_copy_5 23 rfl rfl
theorem dksX12_copy_7 : cX12_copy.data.toList.drop 160 = dktX12_copy_7 := dk_seg dksX12_copy_6 23 rfl rfl
theorem dksX12_copy_8 : cX12_copy.data.toList.drop 182 = dktX12_copy_8 := dk_seg dksX12_copy_7 22 rfl rfl
theorem dksX12_copy_9 : cX12_copy.data.toList.drop 206 = dktX12_copy_9 := dk_seg dksX12_copy_8 24 rfl rfl
theorem dX12_copy_0 : decode cX12_copy 0 = .ok (.aload_n 0, 1) := dk_42 (dk_at dksX12_copy_0 0 rfl rfl)
theorem dX12_copy_1 : decode cX12_copy 1 = .ok (.iconst 0, 1) := dk_3 (dk_at dksX12_copy_0 1 rfl rfl)
theorem dX12_copy_2 : decode cX12_copy 2 = .ok (.putfield 115, 3) := dk_181 0 115 (dk_at dksX12_copy_0 2 rfl rfl)
theorem dX12_copy_5 : decode cX12_copy 5 = .ok (.iload_n 1, 1) := dk_27 (dk_at dksX12_copy_0 5 rfl rfl)
theorem dX12_copy_6 : decode cX12_copy 6 = .ok (.i2l, 1) := dk_133 (dk_at dksX12_copy_0 6 rfl rfl)
theorem dX12_copy_7 : decode cX12_copy 7 = .ok (.lconst 0, 1) := dk_9 (dk_at dksX12_copy_0 7 rfl rfl)
theorem dX12_copy_8 : decode cX12_copy 8 = .ok (.ldc2_w 329, 3) := dk_20 1 73 (dk_at dksX12_copy_0 8 rfl rfl)
theorem dX12_copy_11 : decode cX12_copy 11 = .ok (.invokestatic 121, 3) := dk_184 0 121 (dk_at dksX12_copy_0 11 rfl rfl)
theorem dX12_copy_14 : decode cX12_copy 14 = .ok (.ifCond .eq 15, 3) := dk_153 0 15 (dk_at dksX12_copy_0 14 rfl rfl)
theorem dX12_copy_17 : decode cX12_copy 17 = .ok (.iload_n 3, 1) := dk_29 (dk_at dksX12_copy_0 17 rfl rfl)
theorem dX12_copy_18 : decode cX12_copy 18 = .ok (.i2l, 1) := dk_133 (dk_at dksX12_copy_0 18 rfl rfl)
theorem dX12_copy_19 : decode cX12_copy 19 = .ok (.lconst 0, 1) := dk_9 (dk_at dksX12_copy_0 19 rfl rfl)
theorem dX12_copy_20 : decode cX12_copy 20 = .ok (.ldc2_w 329, 3) := dk_20 1 73 (dk_at dksX12_copy_0 20 rfl rfl)
theorem dX12_copy_23 : decode cX12_copy 23 = .ok (.invokestatic 121, 3) := dk_184 0 121 (dk_at dksX12_copy_1 0 rfl rfl)
theorem dX12_copy_26 : decode cX12_copy 26 = .ok (.ifCond .ne 5, 3) := dk_154 0 5 (dk_at dksX12_copy_1 3 rfl rfl)
theorem dX12_copy_29 : decode cX12_copy 29 = .ok (.iconst (-1), 1) := dk_2 (dk_at dksX12_copy_1 6 rfl rfl)
theorem dX12_copy_30 : decode cX12_copy 30 = .ok (.ireturn, 1) := dk_172 (dk_at dksX12_copy_1 7 rfl rfl)
theorem dX12_copy_31 : decode cX12_copy 31 = .ok (.aload_n 0, 1) := dk_42 (dk_at dksX12_copy_1 8 rfl rfl)
theorem dX12_copy_32 : decode cX12_copy 32 = .ok (.getfield 96, 3) := dk_180 0 96 (dk_at dksX12_copy_1 9 rfl rfl)
theorem dX12_copy_35 : decode cX12_copy 35 = .ok (.iload_n 1, 1) := dk_27 (dk_at dksX12_copy_1 12 rfl rfl)
theorem dX12_copy_36 : decode cX12_copy 36 = .ok (.iaload, 1) := dk_46 (dk_at dksX12_copy_1 13 rfl rfl)
theorem dX12_copy_37 : decode cX12_copy 37 = .ok (.ifCond .eq 12, 3) := dk_153 0 12 (dk_at dksX12_copy_1 14 rfl rfl)
theorem dX12_copy_40 : decode cX12_copy 40 = .ok (.aload_n 0, 1) := dk_42 (dk_at dksX12_copy_1 17 rfl rfl)
theorem dX12_copy_41 : decode cX12_copy 41 = .ok (.getfield 96, 3) := dk_180 0 96 (dk_at dksX12_copy_1 18 rfl rfl)
theorem dX12_copy_44 : decode cX12_copy 44 = .ok (.iload_n 3, 1) := dk_29 (dk_at dksX12_copy_1 21 rfl rfl)
theorem dX12_copy_45 : decode cX12_copy 45 = .ok (.iaload, 1) := dk_46 (dk_at dksX12_copy_1 22 rfl rfl)
theorem dX12_copy_46 : decode cX12_copy 46 = .ok (.ifCond .ne 6, 3) := dk_154 0 6 (dk_at dksX12_copy_2 0 rfl rfl)
theorem dX12_copy_49 : decode cX12_copy 49 = .ok (.bipush (-11), 2) := dk_16 245 (dk_at dksX12_copy_2 3 rfl rfl)
theorem dX12_copy_51 : decode cX12_copy 51 = .ok (.ireturn, 1) := dk_172 (dk_at dksX12_copy_2 5 rfl rfl)
theorem dX12_copy_52 : decode cX12_copy 52 = .ok (.aload_n 0, 1) := dk_42 (dk_at dksX12_copy_2 6 rfl rfl)
theorem dX12_copy_53 : decode cX12_copy 53 = .ok (.getfield 96, 3) := dk_180 0 96 (dk_at dksX12_copy_2 7 rfl rfl)
theorem dX12_copy_56 : decode cX12_copy 56 = .ok (.iload_n 1, 1) := dk_27 (dk_at dksX12_copy_2 10 rfl rfl)
theorem dX12_copy_57 : decode cX12_copy 57 = .ok (.iaload, 1) := dk_46 (dk_at dksX12_copy_2 11 rfl rfl)
theorem dX12_copy_58 : decode cX12_copy 58 = .ok (.iconst 2, 1) := dk_5 (dk_at dksX12_copy_2 12 rfl rfl)
theorem dX12_copy_59 : decode cX12_copy 59 = .ok (.if_icmp .ne 28, 3) := dk_160 0 28 (dk_at dksX12_copy_2 13 rfl rfl)
theorem dX12_copy_62 : decode cX12_copy 62 = .ok (.aload_n 0, 1) := dk_42 (dk_at dksX12_copy_2 16 rfl rfl)
theorem dX12_copy_63 : decode cX12_copy 63 = .ok (.getfield 96, 3) := dk_180 0 96 (dk_at dksX12_copy_2 17 rfl rfl)
theorem dX12_copy_66 : decode cX12_copy 66 = .ok (.iload_n 3, 1) := dk_29 (dk_at dksX12_copy_2 20 rfl rfl)
theorem dX12_copy_67 : decode cX12_copy 67 = .ok (.iaload, 1) := dk_46 (dk_at dksX12_copy_2 21 rfl rfl)
theorem dX12_copy_68 : decode cX12_copy 68 = .ok (.iconst 2, 1) := dk_5 (dk_at dksX12_copy_2 22 rfl rfl)
theorem dX12_copy_69 : decode cX12_copy 69 = .ok (.if_icmp .ne 18, 3) := dk_160 0 18 (dk_at dksX12_copy_3 0 rfl rfl)
theorem dX12_copy_72 : decode cX12_copy 72 = .ok (.aload_n 0, 1) := dk_42 (dk_at dksX12_copy_3 3 rfl rfl)
theorem dX12_copy_73 : decode cX12_copy 73 = .ok (.getfield 102, 3) := dk_180 0 102 (dk_at dksX12_copy_3 4 rfl rfl)
theorem dX12_copy_76 : decode cX12_copy 76 = .ok (.iload_n 1, 1) := dk_27 (dk_at dksX12_copy_3 7 rfl rfl)
theorem dX12_copy_77 : decode cX12_copy 77 = .ok (.iaload, 1) := dk_46 (dk_at dksX12_copy_3 8 rfl rfl)
theorem dX12_copy_78 : decode cX12_copy 78 = .ok (.aload_n 0, 1) := dk_42 (dk_at dksX12_copy_3 9 rfl rfl)
theorem dX12_copy_79 : decode cX12_copy 79 = .ok (.getfield 102, 3) := dk_180 0 102 (dk_at dksX12_copy_3 10 rfl rfl)
theorem dX12_copy_82 : decode cX12_copy 82 = .ok (.iload_n 3, 1) := dk_29 (dk_at dksX12_copy_3 13 rfl rfl)
theorem dX12_copy_83 : decode cX12_copy 83 = .ok (.iaload, 1) := dk_46 (dk_at dksX12_copy_3 14 rfl rfl)
theorem dX12_copy_84 : decode cX12_copy 84 = .ok (.if_icmp .eq 6, 3) := dk_159 0 6 (dk_at dksX12_copy_3 15 rfl rfl)
theorem dX12_copy_87 : decode cX12_copy 87 = .ok (.bipush (-12), 2) := dk_16 244 (dk_at dksX12_copy_3 18 rfl rfl)
theorem dX12_copy_89 : decode cX12_copy 89 = .ok (.ireturn, 1) := dk_172 (dk_at dksX12_copy_3 20 rfl rfl)
theorem dX12_copy_90 : decode cX12_copy 90 = .ok (.iload 5, 2) := dk_21 5 (dk_at dksX12_copy_3 21 rfl rfl)
theorem dX12_copy_92 : decode cX12_copy 92 = .ok (.ifCond .lt 39, 3) := dk_155 0 39 (dk_at dksX12_copy_4 0 rfl rfl)
theorem dX12_copy_95 : decode cX12_copy 95 = .ok (.iload_n 2, 1) := dk_28 (dk_at dksX12_copy_4 3 rfl rfl)
theorem dX12_copy_96 : decode cX12_copy 96 = .ok (.ifCond .lt 35, 3) := dk_155 0 35 (dk_at dksX12_copy_4 4 rfl rfl)
theorem dX12_copy_99 : decode cX12_copy 99 = .ok (.iload 4, 2) := dk_21 4 (dk_at dksX12_copy_4 7 rfl rfl)
theorem dX12_copy_101 : decode cX12_copy 101 = .ok (.ifCond .lt 30, 3) := dk_155 0 30 (dk_at dksX12_copy_4 9 rfl rfl)
theorem dX12_copy_104 : decode cX12_copy 104 = .ok (.iload_n 2, 1) := dk_28 (dk_at dksX12_copy_4 12 rfl rfl)
theorem dX12_copy_105 : decode cX12_copy 105 = .ok (.aload_n 0, 1) := dk_42 (dk_at dksX12_copy_4 13 rfl rfl)
theorem dX12_copy_106 : decode cX12_copy 106 = .ok (.getfield 105, 3) := dk_180 0 105 (dk_at dksX12_copy_4 14 rfl rfl)
theorem dX12_copy_109 : decode cX12_copy 109 = .ok (.iload_n 1, 1) := dk_27 (dk_at dksX12_copy_4 17 rfl rfl)
theorem dX12_copy_110 : decode cX12_copy 110 = .ok (.iaload, 1) := dk_46 (dk_at dksX12_copy_4 18 rfl rfl)
theorem dX12_copy_111 : decode cX12_copy 111 = .ok (.iload 5, 2) := dk_21 5 (dk_at dksX12_copy_4 19 rfl rfl)
theorem dX12_copy_113 : decode cX12_copy 113 = .ok (.isub, 1) := dk_100 (dk_at dksX12_copy_4 21 rfl rfl)
theorem dX12_copy_114 : decode cX12_copy 114 = .ok (.if_icmp .gt 17, 3) := dk_163 0 17 (dk_at dksX12_copy_5 0 rfl rfl)
theorem dX12_copy_117 : decode cX12_copy 117 = .ok (.iload 4, 2) := dk_21 4 (dk_at dksX12_copy_5 3 rfl rfl)
theorem dX12_copy_119 : decode cX12_copy 119 = .ok (.aload_n 0, 1) := dk_42 (dk_at dksX12_copy_5 5 rfl rfl)
theorem dX12_copy_120 : decode cX12_copy 120 = .ok (.getfield 105, 3) := dk_180 0 105 (dk_at dksX12_copy_5 6 rfl rfl)
theorem dX12_copy_123 : decode cX12_copy 123 = .ok (.iload_n 3, 1) := dk_29 (dk_at dksX12_copy_5 9 rfl rfl)
theorem dX12_copy_124 : decode cX12_copy 124 = .ok (.iaload, 1) := dk_46 (dk_at dksX12_copy_5 10 rfl rfl)
theorem dX12_copy_125 : decode cX12_copy 125 = .ok (.iload 5, 2) := dk_21 5 (dk_at dksX12_copy_5 11 rfl rfl)
theorem dX12_copy_127 : decode cX12_copy 127 = .ok (.isub, 1) := dk_100 (dk_at dksX12_copy_5 13 rfl rfl)
theorem dX12_copy_128 : decode cX12_copy 128 = .ok (.if_icmp .le 6, 3) := dk_164 0 6 (dk_at dksX12_copy_5 14 rfl rfl)
theorem dX12_copy_131 : decode cX12_copy 131 = .ok (.bipush (-13), 2) := dk_16 243 (dk_at dksX12_copy_5 17 rfl rfl)
theorem dX12_copy_133 : decode cX12_copy 133 = .ok (.ireturn, 1) := dk_172 (dk_at dksX12_copy_5 19 rfl rfl)
theorem dX12_copy_134 : decode cX12_copy 134 = .ok (.iconst 0, 1) := dk_3 (dk_at dksX12_copy_5 20 rfl rfl)
theorem dX12_copy_135 : decode cX12_copy 135 = .ok (.istore 6, 2) := dk_54 6 (dk_at dksX12_copy_5 21 rfl rfl)
theorem dX12_copy_137 : decode cX12_copy 137 = .ok (.iload 6, 2) := dk_21 6 (dk_at dksX12_copy_6 0 rfl rfl)
theorem dX12_copy_139 : decode cX12_copy 139 = .ok (.iload 5, 2) := dk_21 5 (dk_at dksX12_copy_6 2 rfl rfl)
theorem dX12_copy_141 : decode cX12_copy 141 = .ok (.if_icmp .ge 30, 3) := dk_162 0 30 (dk_at dksX12_copy_6 4 rfl rfl)
theorem dX12_copy_144 : decode cX12_copy 144 = .ok (.aload_n 0, 1) := dk_42 (dk_at dksX12_copy_6 7 rfl rfl)
theorem dX12_copy_145 : decode cX12_copy 145 = .ok (.getfield 112, 3) := dk_180 0 112 (dk_at dksX12_copy_6 8 rfl rfl)
theorem dX12_copy_148 : decode cX12_copy 148 = .ok (.iload 6, 2) := dk_21 6 (dk_at dksX12_copy_6 11 rfl rfl)
theorem dX12_copy_150 : decode cX12_copy 150 = .ok (.aload_n 0, 1) := dk_42 (dk_at dksX12_copy_6 13 rfl rfl)
theorem dX12_copy_151 : decode cX12_copy 151 = .ok (.getfield 108, 3) := dk_180 0 108 (dk_at dksX12_copy_6 14 rfl rfl)
theorem dX12_copy_154 : decode cX12_copy 154 = .ok (.bipush 100, 2) := dk_16 100 (dk_at dksX12_copy_6 17 rfl rfl)
theorem dX12_copy_156 : decode cX12_copy 156 = .ok (.iload_n 1, 1) := dk_27 (dk_at dksX12_copy_6 19 rfl rfl)
theorem dX12_copy_157 : decode cX12_copy 157 = .ok (.imul, 1) := dk_104 (dk_at dksX12_copy_6 20 rfl rfl)
theorem dX12_copy_158 : decode cX12_copy 158 = .ok (.iload_n 2, 1) := dk_28 (dk_at dksX12_copy_6 21 rfl rfl)
theorem dX12_copy_159 : decode cX12_copy 159 = .ok (.iadd, 1) := dk_96 (dk_at dksX12_copy_6 22 rfl rfl)
theorem dX12_copy_160 : decode cX12_copy 160 = .ok (.iload 6, 2) := dk_21 6 (dk_at dksX12_copy_7 0 rfl rfl)
theorem dX12_copy_162 : decode cX12_copy 162 = .ok (.iadd, 1) := dk_96 (dk_at dksX12_copy_7 2 rfl rfl)
theorem dX12_copy_163 : decode cX12_copy 163 = .ok (.laload, 1) := dk_47 (dk_at dksX12_copy_7 3 rfl rfl)
theorem dX12_copy_164 : decode cX12_copy 164 = .ok (.lastore, 1) := dk_80 (dk_at dksX12_copy_7 4 rfl rfl)
theorem dX12_copy_165 : decode cX12_copy 165 = .ok (.iinc 6 1, 3) := dk_132 6 1 (dk_at dksX12_copy_7 5 rfl rfl)
theorem dX12_copy_168 : decode cX12_copy 168 = .ok (.goto (-31), 3) := dk_167 255 225 (dk_at dksX12_copy_7 8 rfl rfl)
theorem dX12_copy_171 : decode cX12_copy 171 = .ok (.iconst 0, 1) := dk_3 (dk_at dksX12_copy_7 11 rfl rfl)
theorem dX12_copy_172 : decode cX12_copy 172 = .ok (.istore 6, 2) := dk_54 6 (dk_at dksX12_copy_7 12 rfl rfl)
theorem dX12_copy_174 : decode cX12_copy 174 = .ok (.iload 6, 2) := dk_21 6 (dk_at dksX12_copy_7 14 rfl rfl)
theorem dX12_copy_176 : decode cX12_copy 176 = .ok (.iload 5, 2) := dk_21 5 (dk_at dksX12_copy_7 16 rfl rfl)
theorem dX12_copy_178 : decode cX12_copy 178 = .ok (.if_icmp .ge 31, 3) := dk_162 0 31 (dk_at dksX12_copy_7 18 rfl rfl)
theorem dX12_copy_181 : decode cX12_copy 181 = .ok (.aload_n 0, 1) := dk_42 (dk_at dksX12_copy_7 21 rfl rfl)
theorem dX12_copy_182 : decode cX12_copy 182 = .ok (.getfield 108, 3) := dk_180 0 108 (dk_at dksX12_copy_8 0 rfl rfl)
theorem dX12_copy_185 : decode cX12_copy 185 = .ok (.bipush 100, 2) := dk_16 100 (dk_at dksX12_copy_8 3 rfl rfl)
theorem dX12_copy_187 : decode cX12_copy 187 = .ok (.iload_n 3, 1) := dk_29 (dk_at dksX12_copy_8 5 rfl rfl)
theorem dX12_copy_188 : decode cX12_copy 188 = .ok (.imul, 1) := dk_104 (dk_at dksX12_copy_8 6 rfl rfl)
theorem dX12_copy_189 : decode cX12_copy 189 = .ok (.iload 4, 2) := dk_21 4 (dk_at dksX12_copy_8 7 rfl rfl)
theorem dX12_copy_191 : decode cX12_copy 191 = .ok (.iadd, 1) := dk_96 (dk_at dksX12_copy_8 9 rfl rfl)
theorem dX12_copy_192 : decode cX12_copy 192 = .ok (.iload 6, 2) := dk_21 6 (dk_at dksX12_copy_8 10 rfl rfl)
theorem dX12_copy_194 : decode cX12_copy 194 = .ok (.iadd, 1) := dk_96 (dk_at dksX12_copy_8 12 rfl rfl)
theorem dX12_copy_195 : decode cX12_copy 195 = .ok (.aload_n 0, 1) := dk_42 (dk_at dksX12_copy_8 13 rfl rfl)
theorem dX12_copy_196 : decode cX12_copy 196 = .ok (.getfield 112, 3) := dk_180 0 112 (dk_at dksX12_copy_8 14 rfl rfl)
theorem dX12_copy_199 : decode cX12_copy 199 = .ok (.iload 6, 2) := dk_21 6 (dk_at dksX12_copy_8 17 rfl rfl)
theorem dX12_copy_201 : decode cX12_copy 201 = .ok (.laload, 1) := dk_47 (dk_at dksX12_copy_8 19 rfl rfl)
theorem dX12_copy_202 : decode cX12_copy 202 = .ok (.lastore, 1) := dk_80 (dk_at dksX12_copy_8 20 rfl rfl)
theorem dX12_copy_203 : decode cX12_copy 203 = .ok (.iinc 6 1, 3) := dk_132 6 1 (dk_at dksX12_copy_8 21 rfl rfl)
theorem dX12_copy_206 : decode cX12_copy 206 = .ok (.goto (-32), 3) := dk_167 255 224 (dk_at dksX12_copy_9 0 rfl rfl)
theorem dX12_copy_209 : decode cX12_copy 209 = .ok (.iload 5, 2) := dk_21 5 (dk_at dksX12_copy_9 3 rfl rfl)
theorem dX12_copy_211 : decode cX12_copy 211 = .ok (.ireturn, 1) := dk_172 (dk_at dksX12_copy_9 5 rfl rfl)
abbrev cX12_effort : ByteArray := prog_19_method_77_code
def yX12_effort : MethodName := ⟨RX12, "effort", "(I)I"⟩
def dkwX12_effort_6 : List UInt8 := [104, 96, 104, 172, 16, 10, 172, 4, 21, 5, 96, 172, 3, 172]
abbrev dktX12_effort_6 : List UInt8 := dkwX12_effort_6 ++ []
def dkwX12_effort_5 : List UInt8 := [162, 0, 17, 42, 21, 4, 21, 5, 182, 0, 198, 16, 10, 108, 167, 0, 4, 3, 96, 172, 6, 4, 5, 29]
abbrev dktX12_effort_5 : List UInt8 := dkwX12_effort_5 ++ dktX12_effort_6
def dkwX12_effort_4 : List UInt8 := [4, 172, 4, 5, 29, 104, 96, 172, 4, 21, 5, 21, 4, 164, 0, 26, 21, 5, 42, 180, 0, 118]
abbrev dktX12_effort_4 : List UInt8 := dkwX12_effort_4 ++ dktX12_effort_5
def dkwX12_effort_3 : List UInt8 := [170, 0, 0, 0, 0, 96, 0, 0, 0, 0, 0, 0, 0, 5, 0, 0, 0, 38, 0, 0, 0, 40, 0, 0, 0, 46, 0, 0, 0, 80, 0, 0, 0, 88, 0, 0, 0, 91]
abbrev dktX12_effort_3 : List UInt8 := dkwX12_effort_3 ++ dktX12_effort_4
def dkwX12_effort_2 : List UInt8 := [16, 10, 112, 54, 5, 28, 17, 39, 16, 108]
abbrev dktX12_effort_2 : List UInt8 := dkwX12_effort_2 ++ dktX12_effort_3
def dkwX12_effort_1 : List UInt8 := [46, 61, 28, 17, 3, 232, 108, 16, 10, 112, 184, 0, 204, 62, 28, 16, 10, 108, 16, 10, 112, 54, 4, 28]
abbrev dktX12_effort_1 : List UInt8 := dkwX12_effort_1 ++ dktX12_effort_2
def dkwX12_effort_0 : List UInt8 := [42, 3, 181, 0, 115, 42, 27, 182, 1, 79, 156, 0, 9, 42, 27, 182, 1, 79, 172, 42, 180, 0, 99, 27]
abbrev dktX12_effort_0 : List UInt8 := dkwX12_effort_0 ++ dktX12_effort_1
theorem dksX12_effort_0 : cX12_effort.data.toList.drop 0 = dktX12_effort_0 := by decide +kernel
theorem dksX12_effort_1 : cX12_effort.data.toList.drop 24 = dktX12_effort_1 := dk_seg dksX12_effort_0 24 rfl rfl
theorem dksX12_effort_2 : cX12_effort.data.toList.drop 48 = dktX12_effort_2 := dk_seg dksX12_effort_1 24 rfl rfl
theorem dksX12_effort_3 : cX12_effort.data.toList.drop 58 = dktX12_effort_3 := dk_seg dksX12_effort_2 10 rfl rfl
theorem dksX12_effort_4 : cX12_effort.data.toList.drop 96 = dktX12_effort_4 := dk_seg dksX12_effort_3 38 rfl rfl
theorem dksX12_effort_5 : cX12_effort.data.toList.drop 118 = dktX12_effort_5 := dk_seg dksX12_effort_4 22 rfl rfl
theorem dksX12_effort_6 : cX12_effort.data.toList.drop 142 = dktX12_effort_6 := dk_seg dksX12_effort_5 24 rfl rfl
theorem dX12_effort_0 : decode cX12_effort 0 = .ok (.aload_n 0, 1) := dk_42 (dk_at dksX12_effort_0 0 rfl rfl)
theorem dX12_effort_1 : decode cX12_effort 1 = .ok (.iconst 0, 1) := dk_3 (dk_at dksX12_effort_0 1 rfl rfl)
theorem dX12_effort_2 : decode cX12_effort 2 = .ok (.putfield 115, 3) := dk_181 0 115 (dk_at dksX12_effort_0 2 rfl rfl)
theorem dX12_effort_5 : decode cX12_effort 5 = .ok (.aload_n 0, 1) := dk_42 (dk_at dksX12_effort_0 5 rfl rfl)
theorem dX12_effort_6 : decode cX12_effort 6 = .ok (.iload_n 1, 1) := dk_27 (dk_at dksX12_effort_0 6 rfl rfl)
theorem dX12_effort_7 : decode cX12_effort 7 = .ok (.invokevirtual 335, 3) := dk_182 1 79 (dk_at dksX12_effort_0 7 rfl rfl)
theorem dX12_effort_10 : decode cX12_effort 10 = .ok (.ifCond .ge 9, 3) := dk_156 0 9 (dk_at dksX12_effort_0 10 rfl rfl)
theorem dX12_effort_13 : decode cX12_effort 13 = .ok (.aload_n 0, 1) := dk_42 (dk_at dksX12_effort_0 13 rfl rfl)
theorem dX12_effort_14 : decode cX12_effort 14 = .ok (.iload_n 1, 1) := dk_27 (dk_at dksX12_effort_0 14 rfl rfl)
theorem dX12_effort_15 : decode cX12_effort 15 = .ok (.invokevirtual 335, 3) := dk_182 1 79 (dk_at dksX12_effort_0 15 rfl rfl)
theorem dX12_effort_18 : decode cX12_effort 18 = .ok (.ireturn, 1) := dk_172 (dk_at dksX12_effort_0 18 rfl rfl)
theorem dX12_effort_19 : decode cX12_effort 19 = .ok (.aload_n 0, 1) := dk_42 (dk_at dksX12_effort_0 19 rfl rfl)
theorem dX12_effort_20 : decode cX12_effort 20 = .ok (.getfield 99, 3) := dk_180 0 99 (dk_at dksX12_effort_0 20 rfl rfl)
theorem dX12_effort_23 : decode cX12_effort 23 = .ok (.iload_n 1, 1) := dk_27 (dk_at dksX12_effort_0 23 rfl rfl)
theorem dX12_effort_24 : decode cX12_effort 24 = .ok (.iaload, 1) := dk_46 (dk_at dksX12_effort_1 0 rfl rfl)
theorem dX12_effort_25 : decode cX12_effort 25 = .ok (.istore_n 2, 1) := dk_61 (dk_at dksX12_effort_1 1 rfl rfl)
theorem dX12_effort_26 : decode cX12_effort 26 = .ok (.iload_n 2, 1) := dk_28 (dk_at dksX12_effort_1 2 rfl rfl)
theorem dX12_effort_27 : decode cX12_effort 27 = .ok (.sipush 1000, 3) := dk_17 3 232 (dk_at dksX12_effort_1 3 rfl rfl)
theorem dX12_effort_30 : decode cX12_effort 30 = .ok (.idiv, 1) := dk_108 (dk_at dksX12_effort_1 6 rfl rfl)
theorem dX12_effort_31 : decode cX12_effort 31 = .ok (.bipush 10, 2) := dk_16 10 (dk_at dksX12_effort_1 7 rfl rfl)
theorem dX12_effort_33 : decode cX12_effort 33 = .ok (.irem, 1) := dk_112 (dk_at dksX12_effort_1 9 rfl rfl)
theorem dX12_effort_34 : decode cX12_effort 34 = .ok (.invokestatic 204, 3) := dk_184 0 204 (dk_at dksX12_effort_1 10 rfl rfl)
theorem dX12_effort_37 : decode cX12_effort 37 = .ok (.istore_n 3, 1) := dk_62 (dk_at dksX12_effort_1 13 rfl rfl)
theorem dX12_effort_38 : decode cX12_effort 38 = .ok (.iload_n 2, 1) := dk_28 (dk_at dksX12_effort_1 14 rfl rfl)
theorem dX12_effort_39 : decode cX12_effort 39 = .ok (.bipush 10, 2) := dk_16 10 (dk_at dksX12_effort_1 15 rfl rfl)
theorem dX12_effort_41 : decode cX12_effort 41 = .ok (.idiv, 1) := dk_108 (dk_at dksX12_effort_1 17 rfl rfl)
theorem dX12_effort_42 : decode cX12_effort 42 = .ok (.bipush 10, 2) := dk_16 10 (dk_at dksX12_effort_1 18 rfl rfl)
theorem dX12_effort_44 : decode cX12_effort 44 = .ok (.irem, 1) := dk_112 (dk_at dksX12_effort_1 20 rfl rfl)
theorem dX12_effort_45 : decode cX12_effort 45 = .ok (.istore 4, 2) := dk_54 4 (dk_at dksX12_effort_1 21 rfl rfl)
theorem dX12_effort_47 : decode cX12_effort 47 = .ok (.iload_n 2, 1) := dk_28 (dk_at dksX12_effort_1 23 rfl rfl)
theorem dX12_effort_48 : decode cX12_effort 48 = .ok (.bipush 10, 2) := dk_16 10 (dk_at dksX12_effort_2 0 rfl rfl)
theorem dX12_effort_50 : decode cX12_effort 50 = .ok (.irem, 1) := dk_112 (dk_at dksX12_effort_2 2 rfl rfl)
theorem dX12_effort_51 : decode cX12_effort 51 = .ok (.istore 5, 2) := dk_54 5 (dk_at dksX12_effort_2 3 rfl rfl)
theorem dX12_effort_53 : decode cX12_effort 53 = .ok (.iload_n 2, 1) := dk_28 (dk_at dksX12_effort_2 5 rfl rfl)
theorem dX12_effort_54 : decode cX12_effort 54 = .ok (.sipush 10000, 3) := dk_17 39 16 (dk_at dksX12_effort_2 6 rfl rfl)
theorem dX12_effort_57 : decode cX12_effort 57 = .ok (.idiv, 1) := dk_108 (dk_at dksX12_effort_2 9 rfl rfl)
theorem dX12_effort_58 : decode cX12_effort 58 = .ok (.tableswitch 96 0 5 #[38, 40, 46, 80, 88, 91], 38) := by decide +kernel
theorem dX12_effort_96 : decode cX12_effort 96 = .ok (.iconst 1, 1) := dk_4 (dk_at dksX12_effort_4 0 rfl rfl)
theorem dX12_effort_97 : decode cX12_effort 97 = .ok (.ireturn, 1) := dk_172 (dk_at dksX12_effort_4 1 rfl rfl)
theorem dX12_effort_98 : decode cX12_effort 98 = .ok (.iconst 1, 1) := dk_4 (dk_at dksX12_effort_4 2 rfl rfl)
theorem dX12_effort_99 : decode cX12_effort 99 = .ok (.iconst 2, 1) := dk_5 (dk_at dksX12_effort_4 3 rfl rfl)
theorem dX12_effort_100 : decode cX12_effort 100 = .ok (.iload_n 3, 1) := dk_29 (dk_at dksX12_effort_4 4 rfl rfl)
theorem dX12_effort_101 : decode cX12_effort 101 = .ok (.imul, 1) := dk_104 (dk_at dksX12_effort_4 5 rfl rfl)
theorem dX12_effort_102 : decode cX12_effort 102 = .ok (.iadd, 1) := dk_96 (dk_at dksX12_effort_4 6 rfl rfl)
theorem dX12_effort_103 : decode cX12_effort 103 = .ok (.ireturn, 1) := dk_172 (dk_at dksX12_effort_4 7 rfl rfl)
theorem dX12_effort_104 : decode cX12_effort 104 = .ok (.iconst 1, 1) := dk_4 (dk_at dksX12_effort_4 8 rfl rfl)
theorem dX12_effort_105 : decode cX12_effort 105 = .ok (.iload 5, 2) := dk_21 5 (dk_at dksX12_effort_4 9 rfl rfl)
theorem dX12_effort_107 : decode cX12_effort 107 = .ok (.iload 4, 2) := dk_21 4 (dk_at dksX12_effort_4 11 rfl rfl)
theorem dX12_effort_109 : decode cX12_effort 109 = .ok (.if_icmp .le 26, 3) := dk_164 0 26 (dk_at dksX12_effort_4 13 rfl rfl)
theorem dX12_effort_112 : decode cX12_effort 112 = .ok (.iload 5, 2) := dk_21 5 (dk_at dksX12_effort_4 16 rfl rfl)
theorem dX12_effort_114 : decode cX12_effort 114 = .ok (.aload_n 0, 1) := dk_42 (dk_at dksX12_effort_4 18 rfl rfl)
theorem dX12_effort_115 : decode cX12_effort 115 = .ok (.getfield 118, 3) := dk_180 0 118 (dk_at dksX12_effort_4 19 rfl rfl)
theorem dX12_effort_118 : decode cX12_effort 118 = .ok (.if_icmp .ge 17, 3) := dk_162 0 17 (dk_at dksX12_effort_5 0 rfl rfl)
theorem dX12_effort_121 : decode cX12_effort 121 = .ok (.aload_n 0, 1) := dk_42 (dk_at dksX12_effort_5 3 rfl rfl)
theorem dX12_effort_122 : decode cX12_effort 122 = .ok (.iload 4, 2) := dk_21 4 (dk_at dksX12_effort_5 4 rfl rfl)
theorem dX12_effort_124 : decode cX12_effort 124 = .ok (.iload 5, 2) := dk_21 5 (dk_at dksX12_effort_5 6 rfl rfl)
theorem dX12_effort_126 : decode cX12_effort 126 = .ok (.invokevirtual 198, 3) := dk_182 0 198 (dk_at dksX12_effort_5 8 rfl rfl)
theorem dX12_effort_129 : decode cX12_effort 129 = .ok (.bipush 10, 2) := dk_16 10 (dk_at dksX12_effort_5 11 rfl rfl)
theorem dX12_effort_131 : decode cX12_effort 131 = .ok (.idiv, 1) := dk_108 (dk_at dksX12_effort_5 13 rfl rfl)
theorem dX12_effort_132 : decode cX12_effort 132 = .ok (.goto 4, 3) := dk_167 0 4 (dk_at dksX12_effort_5 14 rfl rfl)
theorem dX12_effort_135 : decode cX12_effort 135 = .ok (.iconst 0, 1) := dk_3 (dk_at dksX12_effort_5 17 rfl rfl)
theorem dX12_effort_136 : decode cX12_effort 136 = .ok (.iadd, 1) := dk_96 (dk_at dksX12_effort_5 18 rfl rfl)
theorem dX12_effort_137 : decode cX12_effort 137 = .ok (.ireturn, 1) := dk_172 (dk_at dksX12_effort_5 19 rfl rfl)
theorem dX12_effort_138 : decode cX12_effort 138 = .ok (.iconst 3, 1) := dk_6 (dk_at dksX12_effort_5 20 rfl rfl)
theorem dX12_effort_139 : decode cX12_effort 139 = .ok (.iconst 1, 1) := dk_4 (dk_at dksX12_effort_5 21 rfl rfl)
theorem dX12_effort_140 : decode cX12_effort 140 = .ok (.iconst 2, 1) := dk_5 (dk_at dksX12_effort_5 22 rfl rfl)
theorem dX12_effort_141 : decode cX12_effort 141 = .ok (.iload_n 3, 1) := dk_29 (dk_at dksX12_effort_5 23 rfl rfl)
theorem dX12_effort_142 : decode cX12_effort 142 = .ok (.imul, 1) := dk_104 (dk_at dksX12_effort_6 0 rfl rfl)
theorem dX12_effort_143 : decode cX12_effort 143 = .ok (.iadd, 1) := dk_96 (dk_at dksX12_effort_6 1 rfl rfl)
theorem dX12_effort_144 : decode cX12_effort 144 = .ok (.imul, 1) := dk_104 (dk_at dksX12_effort_6 2 rfl rfl)
theorem dX12_effort_145 : decode cX12_effort 145 = .ok (.ireturn, 1) := dk_172 (dk_at dksX12_effort_6 3 rfl rfl)
theorem dX12_effort_146 : decode cX12_effort 146 = .ok (.bipush 10, 2) := dk_16 10 (dk_at dksX12_effort_6 4 rfl rfl)
theorem dX12_effort_148 : decode cX12_effort 148 = .ok (.ireturn, 1) := dk_172 (dk_at dksX12_effort_6 6 rfl rfl)
theorem dX12_effort_149 : decode cX12_effort 149 = .ok (.iconst 1, 1) := dk_4 (dk_at dksX12_effort_6 7 rfl rfl)
theorem dX12_effort_150 : decode cX12_effort 150 = .ok (.iload 5, 2) := dk_21 5 (dk_at dksX12_effort_6 8 rfl rfl)
theorem dX12_effort_152 : decode cX12_effort 152 = .ok (.iadd, 1) := dk_96 (dk_at dksX12_effort_6 10 rfl rfl)
theorem dX12_effort_153 : decode cX12_effort 153 = .ok (.ireturn, 1) := dk_172 (dk_at dksX12_effort_6 11 rfl rfl)
theorem dX12_effort_154 : decode cX12_effort 154 = .ok (.iconst 0, 1) := dk_3 (dk_at dksX12_effort_6 12 rfl rfl)
theorem dX12_effort_155 : decode cX12_effort 155 = .ok (.ireturn, 1) := dk_172 (dk_at dksX12_effort_6 13 rfl rfl)
abbrev cX12_wrongShelf : ByteArray := prog_19_method_76_code
def yX12_wrongShelf : MethodName := ⟨RX12, "wrongShelf", "(I)I"⟩
def dkwX12_wrongShelf_2 : List UInt8 := [172]
abbrev dktX12_wrongShelf_2 : List UInt8 := dkwX12_wrongShelf_2 ++ []
def dkwX12_wrongShelf_1 : List UInt8 := [154, 0, 8, 16, 245, 167, 0, 19, 42, 180, 0, 96, 27, 46, 4, 159, 0, 8, 16, 244, 167, 0, 4, 3]
abbrev dktX12_wrongShelf_1 : List UInt8 := dkwX12_wrongShelf_1 ++ dktX12_wrongShelf_2
def dkwX12_wrongShelf_0 : List UInt8 := [27, 133, 9, 20, 1, 73, 184, 0, 121, 154, 0, 7, 2, 167, 0, 33, 42, 180, 0, 96, 27, 46]
abbrev dktX12_wrongShelf_0 : List UInt8 := dkwX12_wrongShelf_0 ++ dktX12_wrongShelf_1
theorem dksX12_wrongShelf_0 : cX12_wrongShelf.data.toList.drop 0 = dktX12_wrongShelf_0 := by decide +kernel
theorem dksX12_wrongShelf_1 : cX12_wrongShelf.data.toList.drop 22 = dktX12_wrongShelf_1 := dk_seg dksX12_wrongShelf_0 22 rfl rfl
theorem dksX12_wrongShelf_2 : cX12_wrongShelf.data.toList.drop 46 = dktX12_wrongShelf_2 := dk_seg dksX12_wrongShelf_1 24 rfl rfl
theorem dX12_wrongShelf_0 : decode cX12_wrongShelf 0 = .ok (.iload_n 1, 1) := dk_27 (dk_at dksX12_wrongShelf_0 0 rfl rfl)
theorem dX12_wrongShelf_1 : decode cX12_wrongShelf 1 = .ok (.i2l, 1) := dk_133 (dk_at dksX12_wrongShelf_0 1 rfl rfl)
theorem dX12_wrongShelf_2 : decode cX12_wrongShelf 2 = .ok (.lconst 0, 1) := dk_9 (dk_at dksX12_wrongShelf_0 2 rfl rfl)
theorem dX12_wrongShelf_3 : decode cX12_wrongShelf 3 = .ok (.ldc2_w 329, 3) := dk_20 1 73 (dk_at dksX12_wrongShelf_0 3 rfl rfl)
theorem dX12_wrongShelf_6 : decode cX12_wrongShelf 6 = .ok (.invokestatic 121, 3) := dk_184 0 121 (dk_at dksX12_wrongShelf_0 6 rfl rfl)
theorem dX12_wrongShelf_9 : decode cX12_wrongShelf 9 = .ok (.ifCond .ne 7, 3) := dk_154 0 7 (dk_at dksX12_wrongShelf_0 9 rfl rfl)
theorem dX12_wrongShelf_12 : decode cX12_wrongShelf 12 = .ok (.iconst (-1), 1) := dk_2 (dk_at dksX12_wrongShelf_0 12 rfl rfl)
theorem dX12_wrongShelf_13 : decode cX12_wrongShelf 13 = .ok (.goto 33, 3) := dk_167 0 33 (dk_at dksX12_wrongShelf_0 13 rfl rfl)
theorem dX12_wrongShelf_16 : decode cX12_wrongShelf 16 = .ok (.aload_n 0, 1) := dk_42 (dk_at dksX12_wrongShelf_0 16 rfl rfl)
theorem dX12_wrongShelf_17 : decode cX12_wrongShelf 17 = .ok (.getfield 96, 3) := dk_180 0 96 (dk_at dksX12_wrongShelf_0 17 rfl rfl)
theorem dX12_wrongShelf_20 : decode cX12_wrongShelf 20 = .ok (.iload_n 1, 1) := dk_27 (dk_at dksX12_wrongShelf_0 20 rfl rfl)
theorem dX12_wrongShelf_21 : decode cX12_wrongShelf 21 = .ok (.iaload, 1) := dk_46 (dk_at dksX12_wrongShelf_0 21 rfl rfl)
theorem dX12_wrongShelf_22 : decode cX12_wrongShelf 22 = .ok (.ifCond .ne 8, 3) := dk_154 0 8 (dk_at dksX12_wrongShelf_1 0 rfl rfl)
theorem dX12_wrongShelf_25 : decode cX12_wrongShelf 25 = .ok (.bipush (-11), 2) := dk_16 245 (dk_at dksX12_wrongShelf_1 3 rfl rfl)
theorem dX12_wrongShelf_27 : decode cX12_wrongShelf 27 = .ok (.goto 19, 3) := dk_167 0 19 (dk_at dksX12_wrongShelf_1 5 rfl rfl)
theorem dX12_wrongShelf_30 : decode cX12_wrongShelf 30 = .ok (.aload_n 0, 1) := dk_42 (dk_at dksX12_wrongShelf_1 8 rfl rfl)
theorem dX12_wrongShelf_31 : decode cX12_wrongShelf 31 = .ok (.getfield 96, 3) := dk_180 0 96 (dk_at dksX12_wrongShelf_1 9 rfl rfl)
theorem dX12_wrongShelf_34 : decode cX12_wrongShelf 34 = .ok (.iload_n 1, 1) := dk_27 (dk_at dksX12_wrongShelf_1 12 rfl rfl)
theorem dX12_wrongShelf_35 : decode cX12_wrongShelf 35 = .ok (.iaload, 1) := dk_46 (dk_at dksX12_wrongShelf_1 13 rfl rfl)
theorem dX12_wrongShelf_36 : decode cX12_wrongShelf 36 = .ok (.iconst 1, 1) := dk_4 (dk_at dksX12_wrongShelf_1 14 rfl rfl)
theorem dX12_wrongShelf_37 : decode cX12_wrongShelf 37 = .ok (.if_icmp .eq 8, 3) := dk_159 0 8 (dk_at dksX12_wrongShelf_1 15 rfl rfl)
theorem dX12_wrongShelf_40 : decode cX12_wrongShelf 40 = .ok (.bipush (-12), 2) := dk_16 244 (dk_at dksX12_wrongShelf_1 18 rfl rfl)
theorem dX12_wrongShelf_42 : decode cX12_wrongShelf 42 = .ok (.goto 4, 3) := dk_167 0 4 (dk_at dksX12_wrongShelf_1 20 rfl rfl)
theorem dX12_wrongShelf_45 : decode cX12_wrongShelf 45 = .ok (.iconst 0, 1) := dk_3 (dk_at dksX12_wrongShelf_1 23 rfl rfl)
theorem dX12_wrongShelf_46 : decode cX12_wrongShelf 46 = .ok (.ireturn, 1) := dk_172 (dk_at dksX12_wrongShelf_2 0 rfl rfl)
abbrev cX12_toss : ByteArray := prog_19_method_78_code
def yX12_toss : MethodName := ⟨RX12, "toss", "(I)I"⟩
def dkwX12_toss_3 : List UInt8 := [160, 0, 14, 19, 1, 83, 28, 16, 10, 112, 96, 167, 0, 4, 28, 172]
abbrev dktX12_toss_3 : List UInt8 := dkwX12_toss_3 ++ []
def dkwX12_toss_2 : List UInt8 := [112, 160, 0, 6, 16, 241, 172, 29, 6, 160, 0, 11, 19, 1, 82, 28, 96, 167, 0, 20, 29, 7]
abbrev dktX12_toss_2 : List UInt8 := dkwX12_toss_2 ++ dktX12_toss_3
def dkwX12_toss_1 : List UInt8 := [46, 61, 28, 17, 39, 16, 108, 62, 29, 16, 6, 159, 0, 17, 28, 16, 10, 108, 16, 10, 112, 28, 16, 10]
abbrev dktX12_toss_1 : List UInt8 := dkwX12_toss_1 ++ dktX12_toss_2
def dkwX12_toss_0 : List UInt8 := [42, 3, 181, 0, 115, 42, 27, 182, 1, 79, 156, 0, 9, 42, 27, 182, 1, 79, 172, 42, 180, 0, 99, 27]
abbrev dktX12_toss_0 : List UInt8 := dkwX12_toss_0 ++ dktX12_toss_1
theorem dksX12_toss_0 : cX12_toss.data.toList.drop 0 = dktX12_toss_0 := by decide +kernel
theorem dksX12_toss_1 : cX12_toss.data.toList.drop 24 = dktX12_toss_1 := dk_seg dksX12_toss_0 24 rfl rfl
theorem dksX12_toss_2 : cX12_toss.data.toList.drop 48 = dktX12_toss_2 := dk_seg dksX12_toss_1 24 rfl rfl
theorem dksX12_toss_3 : cX12_toss.data.toList.drop 70 = dktX12_toss_3 := dk_seg dksX12_toss_2 22 rfl rfl
theorem dX12_toss_0 : decode cX12_toss 0 = .ok (.aload_n 0, 1) := dk_42 (dk_at dksX12_toss_0 0 rfl rfl)
theorem dX12_toss_1 : decode cX12_toss 1 = .ok (.iconst 0, 1) := dk_3 (dk_at dksX12_toss_0 1 rfl rfl)
theorem dX12_toss_2 : decode cX12_toss 2 = .ok (.putfield 115, 3) := dk_181 0 115 (dk_at dksX12_toss_0 2 rfl rfl)
theorem dX12_toss_5 : decode cX12_toss 5 = .ok (.aload_n 0, 1) := dk_42 (dk_at dksX12_toss_0 5 rfl rfl)
theorem dX12_toss_6 : decode cX12_toss 6 = .ok (.iload_n 1, 1) := dk_27 (dk_at dksX12_toss_0 6 rfl rfl)
theorem dX12_toss_7 : decode cX12_toss 7 = .ok (.invokevirtual 335, 3) := dk_182 1 79 (dk_at dksX12_toss_0 7 rfl rfl)
theorem dX12_toss_10 : decode cX12_toss 10 = .ok (.ifCond .ge 9, 3) := dk_156 0 9 (dk_at dksX12_toss_0 10 rfl rfl)
theorem dX12_toss_13 : decode cX12_toss 13 = .ok (.aload_n 0, 1) := dk_42 (dk_at dksX12_toss_0 13 rfl rfl)
theorem dX12_toss_14 : decode cX12_toss 14 = .ok (.iload_n 1, 1) := dk_27 (dk_at dksX12_toss_0 14 rfl rfl)
theorem dX12_toss_15 : decode cX12_toss 15 = .ok (.invokevirtual 335, 3) := dk_182 1 79 (dk_at dksX12_toss_0 15 rfl rfl)
theorem dX12_toss_18 : decode cX12_toss 18 = .ok (.ireturn, 1) := dk_172 (dk_at dksX12_toss_0 18 rfl rfl)
theorem dX12_toss_19 : decode cX12_toss 19 = .ok (.aload_n 0, 1) := dk_42 (dk_at dksX12_toss_0 19 rfl rfl)
theorem dX12_toss_20 : decode cX12_toss 20 = .ok (.getfield 99, 3) := dk_180 0 99 (dk_at dksX12_toss_0 20 rfl rfl)
theorem dX12_toss_23 : decode cX12_toss 23 = .ok (.iload_n 1, 1) := dk_27 (dk_at dksX12_toss_0 23 rfl rfl)
theorem dX12_toss_24 : decode cX12_toss 24 = .ok (.iaload, 1) := dk_46 (dk_at dksX12_toss_1 0 rfl rfl)
theorem dX12_toss_25 : decode cX12_toss 25 = .ok (.istore_n 2, 1) := dk_61 (dk_at dksX12_toss_1 1 rfl rfl)
theorem dX12_toss_26 : decode cX12_toss 26 = .ok (.iload_n 2, 1) := dk_28 (dk_at dksX12_toss_1 2 rfl rfl)
theorem dX12_toss_27 : decode cX12_toss 27 = .ok (.sipush 10000, 3) := dk_17 39 16 (dk_at dksX12_toss_1 3 rfl rfl)
theorem dX12_toss_30 : decode cX12_toss 30 = .ok (.idiv, 1) := dk_108 (dk_at dksX12_toss_1 6 rfl rfl)
theorem dX12_toss_31 : decode cX12_toss 31 = .ok (.istore_n 3, 1) := dk_62 (dk_at dksX12_toss_1 7 rfl rfl)
theorem dX12_toss_32 : decode cX12_toss 32 = .ok (.iload_n 3, 1) := dk_29 (dk_at dksX12_toss_1 8 rfl rfl)
theorem dX12_toss_33 : decode cX12_toss 33 = .ok (.bipush 6, 2) := dk_16 6 (dk_at dksX12_toss_1 9 rfl rfl)
theorem dX12_toss_35 : decode cX12_toss 35 = .ok (.if_icmp .eq 17, 3) := dk_159 0 17 (dk_at dksX12_toss_1 11 rfl rfl)
theorem dX12_toss_38 : decode cX12_toss 38 = .ok (.iload_n 2, 1) := dk_28 (dk_at dksX12_toss_1 14 rfl rfl)
theorem dX12_toss_39 : decode cX12_toss 39 = .ok (.bipush 10, 2) := dk_16 10 (dk_at dksX12_toss_1 15 rfl rfl)
theorem dX12_toss_41 : decode cX12_toss 41 = .ok (.idiv, 1) := dk_108 (dk_at dksX12_toss_1 17 rfl rfl)
theorem dX12_toss_42 : decode cX12_toss 42 = .ok (.bipush 10, 2) := dk_16 10 (dk_at dksX12_toss_1 18 rfl rfl)
theorem dX12_toss_44 : decode cX12_toss 44 = .ok (.irem, 1) := dk_112 (dk_at dksX12_toss_1 20 rfl rfl)
theorem dX12_toss_45 : decode cX12_toss 45 = .ok (.iload_n 2, 1) := dk_28 (dk_at dksX12_toss_1 21 rfl rfl)
theorem dX12_toss_46 : decode cX12_toss 46 = .ok (.bipush 10, 2) := dk_16 10 (dk_at dksX12_toss_1 22 rfl rfl)
theorem dX12_toss_48 : decode cX12_toss 48 = .ok (.irem, 1) := dk_112 (dk_at dksX12_toss_2 0 rfl rfl)
theorem dX12_toss_49 : decode cX12_toss 49 = .ok (.if_icmp .ne 6, 3) := dk_160 0 6 (dk_at dksX12_toss_2 1 rfl rfl)
theorem dX12_toss_52 : decode cX12_toss 52 = .ok (.bipush (-15), 2) := dk_16 241 (dk_at dksX12_toss_2 4 rfl rfl)
theorem dX12_toss_54 : decode cX12_toss 54 = .ok (.ireturn, 1) := dk_172 (dk_at dksX12_toss_2 6 rfl rfl)
theorem dX12_toss_55 : decode cX12_toss 55 = .ok (.iload_n 3, 1) := dk_29 (dk_at dksX12_toss_2 7 rfl rfl)
theorem dX12_toss_56 : decode cX12_toss 56 = .ok (.iconst 3, 1) := dk_6 (dk_at dksX12_toss_2 8 rfl rfl)
theorem dX12_toss_57 : decode cX12_toss 57 = .ok (.if_icmp .ne 11, 3) := dk_160 0 11 (dk_at dksX12_toss_2 9 rfl rfl)
theorem dX12_toss_60 : decode cX12_toss 60 = .ok (.ldc_w 338, 3) := dk_19 1 82 (dk_at dksX12_toss_2 12 rfl rfl)
theorem dX12_toss_63 : decode cX12_toss 63 = .ok (.iload_n 2, 1) := dk_28 (dk_at dksX12_toss_2 15 rfl rfl)
theorem dX12_toss_64 : decode cX12_toss 64 = .ok (.iadd, 1) := dk_96 (dk_at dksX12_toss_2 16 rfl rfl)
theorem dX12_toss_65 : decode cX12_toss 65 = .ok (.goto 20, 3) := dk_167 0 20 (dk_at dksX12_toss_2 17 rfl rfl)
theorem dX12_toss_68 : decode cX12_toss 68 = .ok (.iload_n 3, 1) := dk_29 (dk_at dksX12_toss_2 20 rfl rfl)
theorem dX12_toss_69 : decode cX12_toss 69 = .ok (.iconst 4, 1) := dk_7 (dk_at dksX12_toss_2 21 rfl rfl)
theorem dX12_toss_70 : decode cX12_toss 70 = .ok (.if_icmp .ne 14, 3) := dk_160 0 14 (dk_at dksX12_toss_3 0 rfl rfl)
theorem dX12_toss_73 : decode cX12_toss 73 = .ok (.ldc_w 339, 3) := dk_19 1 83 (dk_at dksX12_toss_3 3 rfl rfl)
theorem dX12_toss_76 : decode cX12_toss 76 = .ok (.iload_n 2, 1) := dk_28 (dk_at dksX12_toss_3 6 rfl rfl)
theorem dX12_toss_77 : decode cX12_toss 77 = .ok (.bipush 10, 2) := dk_16 10 (dk_at dksX12_toss_3 7 rfl rfl)
theorem dX12_toss_79 : decode cX12_toss 79 = .ok (.irem, 1) := dk_112 (dk_at dksX12_toss_3 9 rfl rfl)
theorem dX12_toss_80 : decode cX12_toss 80 = .ok (.iadd, 1) := dk_96 (dk_at dksX12_toss_3 10 rfl rfl)
theorem dX12_toss_81 : decode cX12_toss 81 = .ok (.goto 4, 3) := dk_167 0 4 (dk_at dksX12_toss_3 11 rfl rfl)
theorem dX12_toss_84 : decode cX12_toss 84 = .ok (.iload_n 2, 1) := dk_28 (dk_at dksX12_toss_3 14 rfl rfl)
theorem dX12_toss_85 : decode cX12_toss 85 = .ok (.ireturn, 1) := dk_172 (dk_at dksX12_toss_3 15 rfl rfl)
theorem q87 : (Jvm.Cond.initialized "DownRopeModel") ∈ lw_all := lw_g (lw_at lw_m1 12 rfl) rfl
theorem q1260 : (Jvm.Cond.instantiable "DownRopeModel" (52 : Nat)) ∈ lw_all := lw_g (lw_at lw_m5 225 rfl) rfl
theorem q1262 : (Jvm.Cond.instanceMethod ({ cls := "DownRopeModel", name := "<init>", desc := "()V" } : Jvm.MethodName)) ∈ lw_all := lw_g (lw_at lw_m5 227 rfl) rfl
theorem q1263 : (Jvm.Cond.code ({ cls := "DownRopeModel", name := "<init>", desc := "()V" } : Jvm.MethodName) prog_19_method_1_code (1 : Nat) (Option.none : Option Jvm.ClassFile.FieldType)) ∈ lw_all := lw_g (lw_at lw_m5 228 rfl) rfl
theorem q1264 : (Jvm.Cond.methodLink "DownRopeModel" (1 : Nat) ({ cls := "java/lang/Object", name := "<init>", desc := "()V" } : Jvm.MethodName)) ∈ lw_all := lw_g (lw_at lw_m5 229 rfl) rfl
theorem q1265 : (Jvm.Cond.fieldLink "DownRopeModel" (118 : Nat) "DownRopeModel" "ledges" "I") ∈ lw_all := lw_g (lw_at lw_m5 230 rfl) rfl
theorem q1266 : (Jvm.Cond.fieldLink "DownRopeModel" (7 : Nat) "DownRopeModel" "rooms" "[I") ∈ lw_all := lw_g (lw_at lw_m5 231 rfl) rfl
theorem q1267 : (Jvm.Cond.fieldLink "DownRopeModel" (13 : Nat) "DownRopeModel" "holds" "[I") ∈ lw_all := lw_g (lw_at lw_m5 232 rfl) rfl
theorem q1268 : (Jvm.Cond.fieldLink "DownRopeModel" (16 : Nat) "DownRopeModel" "feet" "[I") ∈ lw_all := lw_g (lw_at lw_m5 233 rfl) rfl
theorem q1269 : (Jvm.Cond.fieldLink "DownRopeModel" (19 : Nat) "DownRopeModel" "climbs" "[Z") ∈ lw_all := lw_g (lw_at lw_m5 234 rfl) rfl
theorem q1270 : (Jvm.Cond.fieldLink "DownRopeModel" (165 : Nat) "DownRopeModel" "people" "I") ∈ lw_all := lw_g (lw_at lw_m5 235 rfl) rfl
theorem q1271 : (Jvm.Cond.fieldLink "DownRopeModel" (23 : Nat) "DownRopeModel" "sorts" "[I") ∈ lw_all := lw_g (lw_at lw_m5 236 rfl) rfl
theorem q1272 : (Jvm.Cond.fieldLink "DownRopeModel" (170 : Nat) "DownRopeModel" "ropes" "I") ∈ lw_all := lw_g (lw_at lw_m5 237 rfl) rfl
theorem q1273 : (Jvm.Cond.fieldLink "DownRopeModel" (26 : Nat) "DownRopeModel" "lengths" "[I") ∈ lw_all := lw_g (lw_at lw_m5 238 rfl) rfl
theorem q1274 : (Jvm.Cond.fieldLink "DownRopeModel" (29 : Nat) "DownRopeModel" "places" "[I") ∈ lw_all := lw_g (lw_at lw_m5 239 rfl) rfl
theorem q1275 : (Jvm.Cond.fieldLink "DownRopeModel" (32 : Nat) "DownRopeModel" "ropeAt" "[I") ∈ lw_all := lw_g (lw_at lw_m6 0 rfl) rfl
theorem q1276 : (Jvm.Cond.fieldLink "DownRopeModel" (173 : Nat) "DownRopeModel" "caught" "I") ∈ lw_all := lw_g (lw_at lw_m6 1 rfl) rfl
theorem q1277 : (Jvm.Cond.fieldLink "DownRopeModel" (35 : Nat) "DownRopeModel" "dusk" "I") ∈ lw_all := lw_g (lw_at lw_m6 2 rfl) rfl
theorem q1278 : (Jvm.Cond.fieldLink "DownRopeModel" (188 : Nat) "DownRopeModel" "minutes" "I") ∈ lw_all := lw_g (lw_at lw_m6 3 rfl) rfl
theorem q1279 : (Jvm.Cond.fieldLink "DownRopeModel" (115 : Nat) "DownRopeModel" "thrown" "I") ∈ lw_all := lw_g (lw_at lw_m6 4 rfl) rfl
theorem q1280 : (Jvm.Cond.fieldLink "DownRopeModel" (131 : Nat) "DownRopeModel" "base" "I") ∈ lw_all := lw_g (lw_at lw_m6 5 rfl) rfl
theorem q1281 : (Jvm.Cond.fieldLink "DownRopeModel" (128 : Nat) "DownRopeModel" "end" "I") ∈ lw_all := lw_g (lw_at lw_m6 6 rfl) rfl
theorem q1282 : (Jvm.Cond.fieldLink "DownRopeModel" (125 : Nat) "DownRopeModel" "at" "I") ∈ lw_all := lw_g (lw_at lw_m6 7 rfl) rfl
theorem q1283 : (Jvm.Cond.fieldLink "DownRopeModel" (134 : Nat) "DownRopeModel" "isBad" "Z") ∈ lw_all := lw_g (lw_at lw_m6 8 rfl) rfl
theorem q1284 : (Jvm.Cond.fieldLink "DownRopeModel" (149 : Nat) "DownRopeModel" "statements" "I") ∈ lw_all := lw_g (lw_at lw_m6 9 rfl) rfl
theorem q1285 : (Jvm.Cond.fieldLink "DownRopeModel" (39 : Nat) "DownRopeModel" "placeOf" "[I") ∈ lw_all := lw_g (lw_at lw_m6 10 rfl) rfl
theorem q1286 : (Jvm.Cond.fieldLink "DownRopeModel" (42 : Nat) "DownRopeModel" "letterOf" "[I") ∈ lw_all := lw_g (lw_at lw_m6 11 rfl) rfl
theorem q1287 : (Jvm.Cond.fieldLink "DownRopeModel" (45 : Nat) "DownRopeModel" "one" "[I") ∈ lw_all := lw_g (lw_at lw_m6 12 rfl) rfl
theorem q1288 : (Jvm.Cond.fieldLink "DownRopeModel" (48 : Nat) "DownRopeModel" "two" "[I") ∈ lw_all := lw_g (lw_at lw_m6 13 rfl) rfl
theorem q1289 : (Jvm.Cond.fieldLink "DownRopeModel" (51 : Nat) "DownRopeModel" "three" "[Z") ∈ lw_all := lw_g (lw_at lw_m6 14 rfl) rfl
theorem q1290 : (Jvm.Cond.fieldLink "DownRopeModel" (54 : Nat) "DownRopeModel" "savedFeet" "[I") ∈ lw_all := lw_g (lw_at lw_m6 15 rfl) rfl
theorem q1291 : (Jvm.Cond.fieldLink "DownRopeModel" (57 : Nat) "DownRopeModel" "savedClimbs" "[Z") ∈ lw_all := lw_g (lw_at lw_m6 16 rfl) rfl
theorem q1292 : (Jvm.Cond.fieldLink "DownRopeModel" (60 : Nat) "DownRopeModel" "where" "[I") ∈ lw_all := lw_g (lw_at lw_m6 17 rfl) rfl
theorem q1293 : (Jvm.Cond.fieldLink "DownRopeModel" (63 : Nat) "DownRopeModel" "ropeWhere" "[I") ∈ lw_all := lw_g (lw_at lw_m6 18 rfl) rfl
theorem q1294 : (Jvm.Cond.fieldLink "DownRopeModel" (66 : Nat) "DownRopeModel" "moveAt" "[I") ∈ lw_all := lw_g (lw_at lw_m6 19 rfl) rfl
theorem q1295 : (Jvm.Cond.fieldLink "DownRopeModel" (243 : Nat) "DownRopeModel" "moveMany" "I") ∈ lw_all := lw_g (lw_at lw_m6 20 rfl) rfl
theorem q1296 : (Jvm.Cond.fieldLink "DownRopeModel" (69 : Nat) "DownRopeModel" "soon" "[I") ∈ lw_all := lw_g (lw_at lw_m6 21 rfl) rfl
theorem q1297 : (Jvm.Cond.fieldLink "DownRopeModel" (72 : Nat) "DownRopeModel" "reached" "[I") ∈ lw_all := lw_g (lw_at lw_m6 22 rfl) rfl
theorem q1298 : (Jvm.Cond.fieldLink "DownRopeModel" (264 : Nat) "DownRopeModel" "reachedMany" "I") ∈ lw_all := lw_g (lw_at lw_m6 23 rfl) rfl
theorem q1299 : (Jvm.Cond.fieldLink "DownRopeModel" (75 : Nat) "DownRopeModel" "waiting" "[I") ∈ lw_all := lw_g (lw_at lw_m6 24 rfl) rfl
theorem q1300 : (Jvm.Cond.fieldLink "DownRopeModel" (78 : Nat) "DownRopeModel" "waits" "[Z") ∈ lw_all := lw_g (lw_at lw_m6 25 rfl) rfl
theorem q1301 : (Jvm.Cond.fieldLink "DownRopeModel" (191 : Nat) "DownRopeModel" "isSought" "Z") ∈ lw_all := lw_g (lw_at lw_m6 26 rfl) rfl
theorem q1302 : (Jvm.Cond.fieldLink "DownRopeModel" (260 : Nat) "DownRopeModel" "isLed" "Z") ∈ lw_all := lw_g (lw_at lw_m6 27 rfl) rfl
theorem q1303 : (Jvm.Cond.fieldLink "DownRopeModel" (81 : Nat) "DownRopeModel" "onWay" "[Z") ∈ lw_all := lw_g (lw_at lw_m6 28 rfl) rfl
theorem q1304 : (Jvm.Cond.fieldLink "DownRopeModel" (84 : Nat) "DownRopeModel" "leads" "[Z") ∈ lw_all := lw_g (lw_at lw_m6 29 rfl) rfl
theorem q1305 : (Jvm.Cond.fieldLink "DownRopeModel" (87 : Nat) "DownRopeModel" "seen" "[Z") ∈ lw_all := lw_g (lw_at lw_m6 30 rfl) rfl
theorem q1306 : (Jvm.Cond.fieldLink "DownRopeModel" (90 : Nat) "DownRopeModel" "chances" "[I") ∈ lw_all := lw_g (lw_at lw_m6 31 rfl) rfl
theorem q1307 : (Jvm.Cond.fieldLink "DownRopeModel" (323 : Nat) "DownRopeModel" "hasImage" "Z") ∈ lw_all := lw_g (lw_at lw_m6 32 rfl) rfl
theorem q1308 : (Jvm.Cond.fieldLink "DownRopeModel" (93 : Nat) "DownRopeModel" "imaged" "[I") ∈ lw_all := lw_g (lw_at lw_m6 33 rfl) rfl
theorem q1309 : (Jvm.Cond.fieldLink "DownRopeModel" (317 : Nat) "DownRopeModel" "imageAt" "I") ∈ lw_all := lw_g (lw_at lw_m6 34 rfl) rfl
theorem q1310 : (Jvm.Cond.fieldLink "DownRopeModel" (314 : Nat) "DownRopeModel" "isTaking" "Z") ∈ lw_all := lw_g (lw_at lw_m6 35 rfl) rfl
theorem q1311 : (Jvm.Cond.fieldLink "DownRopeModel" (96 : Nat) "DownRopeModel" "holdsWhat" "[I") ∈ lw_all := lw_g (lw_at lw_m6 36 rfl) rfl
theorem q1312 : (Jvm.Cond.fieldLink "DownRopeModel" (99 : Nat) "DownRopeModel" "moveOn" "[I") ∈ lw_all := lw_g (lw_at lw_m6 37 rfl) rfl
theorem q1313 : (Jvm.Cond.fieldLink "DownRopeModel" (102 : Nat) "DownRopeModel" "rowSort" "[I") ∈ lw_all := lw_g (lw_at lw_m6 38 rfl) rfl
theorem q1314 : (Jvm.Cond.fieldLink "DownRopeModel" (105 : Nat) "DownRopeModel" "rowMany" "[I") ∈ lw_all := lw_g (lw_at lw_m6 39 rfl) rfl
theorem q1315 : (Jvm.Cond.fieldLink "DownRopeModel" (108 : Nat) "DownRopeModel" "rows" "[J") ∈ lw_all := lw_g (lw_at lw_m6 40 rfl) rfl
theorem q1316 : (Jvm.Cond.fieldLink "DownRopeModel" (112 : Nat) "DownRopeModel" "between" "[J") ∈ lw_all := lw_g (lw_at lw_m6 41 rfl) rfl
theorem q1317 : (Jvm.Cond.lays "DownRopeModel" "DownRopeModel" "ledges" "I") ∈ lw_all := lw_g (lw_at lw_m6 42 rfl) rfl
theorem q1318 : (Jvm.Cond.soleField "DownRopeModel" "ledges") ∈ lw_all := lw_g (lw_at lw_m6 43 rfl) rfl
theorem q1319 : (Jvm.Cond.laysFinal "DownRopeModel" "DownRopeModel" "rooms" "[I") ∈ lw_all := lw_g (lw_at lw_m6 44 rfl) rfl
theorem q1320 : (Jvm.Cond.soleField "DownRopeModel" "rooms") ∈ lw_all := lw_g (lw_at lw_m6 45 rfl) rfl
theorem q1321 : (Jvm.Cond.laysFinal "DownRopeModel" "DownRopeModel" "holds" "[I") ∈ lw_all := lw_g (lw_at lw_m6 46 rfl) rfl
theorem q1322 : (Jvm.Cond.soleField "DownRopeModel" "holds") ∈ lw_all := lw_g (lw_at lw_m6 47 rfl) rfl
theorem q1323 : (Jvm.Cond.laysFinal "DownRopeModel" "DownRopeModel" "feet" "[I") ∈ lw_all := lw_g (lw_at lw_m6 48 rfl) rfl
theorem q1324 : (Jvm.Cond.soleField "DownRopeModel" "feet") ∈ lw_all := lw_g (lw_at lw_m6 49 rfl) rfl
theorem q1325 : (Jvm.Cond.laysFinal "DownRopeModel" "DownRopeModel" "climbs" "[Z") ∈ lw_all := lw_g (lw_at lw_m6 50 rfl) rfl
theorem q1326 : (Jvm.Cond.soleField "DownRopeModel" "climbs") ∈ lw_all := lw_g (lw_at lw_m6 51 rfl) rfl
theorem q1327 : (Jvm.Cond.lays "DownRopeModel" "DownRopeModel" "people" "I") ∈ lw_all := lw_g (lw_at lw_m6 52 rfl) rfl
theorem q1328 : (Jvm.Cond.soleField "DownRopeModel" "people") ∈ lw_all := lw_g (lw_at lw_m6 53 rfl) rfl
theorem q1329 : (Jvm.Cond.laysFinal "DownRopeModel" "DownRopeModel" "sorts" "[I") ∈ lw_all := lw_g (lw_at lw_m6 54 rfl) rfl
theorem q1330 : (Jvm.Cond.soleField "DownRopeModel" "sorts") ∈ lw_all := lw_g (lw_at lw_m6 55 rfl) rfl
theorem q1331 : (Jvm.Cond.lays "DownRopeModel" "DownRopeModel" "ropes" "I") ∈ lw_all := lw_g (lw_at lw_m6 56 rfl) rfl
theorem q1332 : (Jvm.Cond.soleField "DownRopeModel" "ropes") ∈ lw_all := lw_g (lw_at lw_m6 57 rfl) rfl
theorem q1333 : (Jvm.Cond.laysFinal "DownRopeModel" "DownRopeModel" "lengths" "[I") ∈ lw_all := lw_g (lw_at lw_m6 58 rfl) rfl
theorem q1334 : (Jvm.Cond.soleField "DownRopeModel" "lengths") ∈ lw_all := lw_g (lw_at lw_m6 59 rfl) rfl
theorem q1335 : (Jvm.Cond.laysFinal "DownRopeModel" "DownRopeModel" "places" "[I") ∈ lw_all := lw_g (lw_at lw_m6 60 rfl) rfl
theorem q1336 : (Jvm.Cond.soleField "DownRopeModel" "places") ∈ lw_all := lw_g (lw_at lw_m6 61 rfl) rfl
theorem q1337 : (Jvm.Cond.laysFinal "DownRopeModel" "DownRopeModel" "ropeAt" "[I") ∈ lw_all := lw_g (lw_at lw_m6 62 rfl) rfl
theorem q1338 : (Jvm.Cond.soleField "DownRopeModel" "ropeAt") ∈ lw_all := lw_g (lw_at lw_m6 63 rfl) rfl
theorem q1339 : (Jvm.Cond.lays "DownRopeModel" "DownRopeModel" "caught" "I") ∈ lw_all := lw_g (lw_at lw_m6 64 rfl) rfl
theorem q1340 : (Jvm.Cond.soleField "DownRopeModel" "caught") ∈ lw_all := lw_g (lw_at lw_m6 65 rfl) rfl
theorem q1341 : (Jvm.Cond.lays "DownRopeModel" "DownRopeModel" "dusk" "I") ∈ lw_all := lw_g (lw_at lw_m6 66 rfl) rfl
theorem q1342 : (Jvm.Cond.soleField "DownRopeModel" "dusk") ∈ lw_all := lw_g (lw_at lw_m6 67 rfl) rfl
theorem q1343 : (Jvm.Cond.lays "DownRopeModel" "DownRopeModel" "minutes" "I") ∈ lw_all := lw_g (lw_at lw_m6 68 rfl) rfl
theorem q1344 : (Jvm.Cond.soleField "DownRopeModel" "minutes") ∈ lw_all := lw_g (lw_at lw_m6 69 rfl) rfl
theorem q1345 : (Jvm.Cond.lays "DownRopeModel" "DownRopeModel" "thrown" "I") ∈ lw_all := lw_g (lw_at lw_m6 70 rfl) rfl
theorem q1346 : (Jvm.Cond.soleField "DownRopeModel" "thrown") ∈ lw_all := lw_g (lw_at lw_m6 71 rfl) rfl
theorem q1347 : (Jvm.Cond.lays "DownRopeModel" "DownRopeModel" "base" "I") ∈ lw_all := lw_g (lw_at lw_m6 72 rfl) rfl
theorem q1348 : (Jvm.Cond.soleField "DownRopeModel" "base") ∈ lw_all := lw_g (lw_at lw_m6 73 rfl) rfl
theorem q1349 : (Jvm.Cond.lays "DownRopeModel" "DownRopeModel" "end" "I") ∈ lw_all := lw_g (lw_at lw_m6 74 rfl) rfl
theorem q1350 : (Jvm.Cond.soleField "DownRopeModel" "end") ∈ lw_all := lw_g (lw_at lw_m6 75 rfl) rfl
theorem q1351 : (Jvm.Cond.lays "DownRopeModel" "DownRopeModel" "at" "I") ∈ lw_all := lw_g (lw_at lw_m6 76 rfl) rfl
theorem q1352 : (Jvm.Cond.soleField "DownRopeModel" "at") ∈ lw_all := lw_g (lw_at lw_m6 77 rfl) rfl
theorem q1353 : (Jvm.Cond.lays "DownRopeModel" "DownRopeModel" "isBad" "Z") ∈ lw_all := lw_g (lw_at lw_m6 78 rfl) rfl
theorem q1354 : (Jvm.Cond.soleField "DownRopeModel" "isBad") ∈ lw_all := lw_g (lw_at lw_m6 79 rfl) rfl
theorem q1355 : (Jvm.Cond.lays "DownRopeModel" "DownRopeModel" "statements" "I") ∈ lw_all := lw_g (lw_at lw_m6 80 rfl) rfl
theorem q1356 : (Jvm.Cond.soleField "DownRopeModel" "statements") ∈ lw_all := lw_g (lw_at lw_m6 81 rfl) rfl
theorem q1357 : (Jvm.Cond.laysFinal "DownRopeModel" "DownRopeModel" "placeOf" "[I") ∈ lw_all := lw_g (lw_at lw_m6 82 rfl) rfl
theorem q1358 : (Jvm.Cond.soleField "DownRopeModel" "placeOf") ∈ lw_all := lw_g (lw_at lw_m6 83 rfl) rfl
theorem q1359 : (Jvm.Cond.laysFinal "DownRopeModel" "DownRopeModel" "letterOf" "[I") ∈ lw_all := lw_g (lw_at lw_m6 84 rfl) rfl
theorem q1360 : (Jvm.Cond.soleField "DownRopeModel" "letterOf") ∈ lw_all := lw_g (lw_at lw_m6 85 rfl) rfl
theorem q1361 : (Jvm.Cond.laysFinal "DownRopeModel" "DownRopeModel" "one" "[I") ∈ lw_all := lw_g (lw_at lw_m6 86 rfl) rfl
theorem q1362 : (Jvm.Cond.soleField "DownRopeModel" "one") ∈ lw_all := lw_g (lw_at lw_m6 87 rfl) rfl
theorem q1363 : (Jvm.Cond.laysFinal "DownRopeModel" "DownRopeModel" "two" "[I") ∈ lw_all := lw_g (lw_at lw_m6 88 rfl) rfl
theorem q1364 : (Jvm.Cond.soleField "DownRopeModel" "two") ∈ lw_all := lw_g (lw_at lw_m6 89 rfl) rfl
theorem q1365 : (Jvm.Cond.laysFinal "DownRopeModel" "DownRopeModel" "three" "[Z") ∈ lw_all := lw_g (lw_at lw_m6 90 rfl) rfl
theorem q1366 : (Jvm.Cond.soleField "DownRopeModel" "three") ∈ lw_all := lw_g (lw_at lw_m6 91 rfl) rfl
theorem q1367 : (Jvm.Cond.laysFinal "DownRopeModel" "DownRopeModel" "savedFeet" "[I") ∈ lw_all := lw_g (lw_at lw_m6 92 rfl) rfl
theorem q1368 : (Jvm.Cond.soleField "DownRopeModel" "savedFeet") ∈ lw_all := lw_g (lw_at lw_m6 93 rfl) rfl
theorem q1369 : (Jvm.Cond.laysFinal "DownRopeModel" "DownRopeModel" "savedClimbs" "[Z") ∈ lw_all := lw_g (lw_at lw_m6 94 rfl) rfl
theorem q1370 : (Jvm.Cond.soleField "DownRopeModel" "savedClimbs") ∈ lw_all := lw_g (lw_at lw_m6 95 rfl) rfl
theorem q1371 : (Jvm.Cond.laysFinal "DownRopeModel" "DownRopeModel" "where" "[I") ∈ lw_all := lw_g (lw_at lw_m6 96 rfl) rfl
theorem q1372 : (Jvm.Cond.soleField "DownRopeModel" "where") ∈ lw_all := lw_g (lw_at lw_m6 97 rfl) rfl
theorem q1373 : (Jvm.Cond.laysFinal "DownRopeModel" "DownRopeModel" "ropeWhere" "[I") ∈ lw_all := lw_g (lw_at lw_m6 98 rfl) rfl
theorem q1374 : (Jvm.Cond.soleField "DownRopeModel" "ropeWhere") ∈ lw_all := lw_g (lw_at lw_m6 99 rfl) rfl
theorem q1375 : (Jvm.Cond.laysFinal "DownRopeModel" "DownRopeModel" "moveAt" "[I") ∈ lw_all := lw_g (lw_at lw_m6 100 rfl) rfl
theorem q1376 : (Jvm.Cond.soleField "DownRopeModel" "moveAt") ∈ lw_all := lw_g (lw_at lw_m6 101 rfl) rfl
theorem q1377 : (Jvm.Cond.lays "DownRopeModel" "DownRopeModel" "moveMany" "I") ∈ lw_all := lw_g (lw_at lw_m6 102 rfl) rfl
theorem q1378 : (Jvm.Cond.soleField "DownRopeModel" "moveMany") ∈ lw_all := lw_g (lw_at lw_m6 103 rfl) rfl
theorem q1379 : (Jvm.Cond.laysFinal "DownRopeModel" "DownRopeModel" "soon" "[I") ∈ lw_all := lw_g (lw_at lw_m6 104 rfl) rfl
theorem q1380 : (Jvm.Cond.soleField "DownRopeModel" "soon") ∈ lw_all := lw_g (lw_at lw_m6 105 rfl) rfl
theorem q1381 : (Jvm.Cond.laysFinal "DownRopeModel" "DownRopeModel" "reached" "[I") ∈ lw_all := lw_g (lw_at lw_m6 106 rfl) rfl
theorem q1382 : (Jvm.Cond.soleField "DownRopeModel" "reached") ∈ lw_all := lw_g (lw_at lw_m6 107 rfl) rfl
theorem q1383 : (Jvm.Cond.lays "DownRopeModel" "DownRopeModel" "reachedMany" "I") ∈ lw_all := lw_g (lw_at lw_m6 108 rfl) rfl
theorem q1384 : (Jvm.Cond.soleField "DownRopeModel" "reachedMany") ∈ lw_all := lw_g (lw_at lw_m6 109 rfl) rfl
theorem q1385 : (Jvm.Cond.laysFinal "DownRopeModel" "DownRopeModel" "waiting" "[I") ∈ lw_all := lw_g (lw_at lw_m6 110 rfl) rfl
theorem q1386 : (Jvm.Cond.soleField "DownRopeModel" "waiting") ∈ lw_all := lw_g (lw_at lw_m6 111 rfl) rfl
theorem q1387 : (Jvm.Cond.laysFinal "DownRopeModel" "DownRopeModel" "waits" "[Z") ∈ lw_all := lw_g (lw_at lw_m6 112 rfl) rfl
theorem q1388 : (Jvm.Cond.soleField "DownRopeModel" "waits") ∈ lw_all := lw_g (lw_at lw_m6 113 rfl) rfl
theorem q1389 : (Jvm.Cond.lays "DownRopeModel" "DownRopeModel" "isSought" "Z") ∈ lw_all := lw_g (lw_at lw_m6 114 rfl) rfl
theorem q1390 : (Jvm.Cond.soleField "DownRopeModel" "isSought") ∈ lw_all := lw_g (lw_at lw_m6 115 rfl) rfl
theorem q1391 : (Jvm.Cond.lays "DownRopeModel" "DownRopeModel" "isLed" "Z") ∈ lw_all := lw_g (lw_at lw_m6 116 rfl) rfl
theorem q1392 : (Jvm.Cond.soleField "DownRopeModel" "isLed") ∈ lw_all := lw_g (lw_at lw_m6 117 rfl) rfl
theorem q1393 : (Jvm.Cond.laysFinal "DownRopeModel" "DownRopeModel" "onWay" "[Z") ∈ lw_all := lw_g (lw_at lw_m6 118 rfl) rfl
theorem q1394 : (Jvm.Cond.soleField "DownRopeModel" "onWay") ∈ lw_all := lw_g (lw_at lw_m6 119 rfl) rfl
theorem q1395 : (Jvm.Cond.laysFinal "DownRopeModel" "DownRopeModel" "leads" "[Z") ∈ lw_all := lw_g (lw_at lw_m6 120 rfl) rfl
theorem q1396 : (Jvm.Cond.soleField "DownRopeModel" "leads") ∈ lw_all := lw_g (lw_at lw_m6 121 rfl) rfl
theorem q1397 : (Jvm.Cond.laysFinal "DownRopeModel" "DownRopeModel" "seen" "[Z") ∈ lw_all := lw_g (lw_at lw_m6 122 rfl) rfl
theorem q1398 : (Jvm.Cond.soleField "DownRopeModel" "seen") ∈ lw_all := lw_g (lw_at lw_m6 123 rfl) rfl
theorem q1399 : (Jvm.Cond.laysFinal "DownRopeModel" "DownRopeModel" "chances" "[I") ∈ lw_all := lw_g (lw_at lw_m6 124 rfl) rfl
theorem q1400 : (Jvm.Cond.soleField "DownRopeModel" "chances") ∈ lw_all := lw_g (lw_at lw_m6 125 rfl) rfl
theorem q1401 : (Jvm.Cond.lays "DownRopeModel" "DownRopeModel" "hasImage" "Z") ∈ lw_all := lw_g (lw_at lw_m6 126 rfl) rfl
theorem q1402 : (Jvm.Cond.soleField "DownRopeModel" "hasImage") ∈ lw_all := lw_g (lw_at lw_m6 127 rfl) rfl
theorem q1403 : (Jvm.Cond.laysFinal "DownRopeModel" "DownRopeModel" "imaged" "[I") ∈ lw_all := lw_g (lw_at lw_m6 128 rfl) rfl
theorem q1404 : (Jvm.Cond.soleField "DownRopeModel" "imaged") ∈ lw_all := lw_g (lw_at lw_m6 129 rfl) rfl
theorem q1405 : (Jvm.Cond.lays "DownRopeModel" "DownRopeModel" "imageAt" "I") ∈ lw_all := lw_g (lw_at lw_m6 130 rfl) rfl
theorem q1406 : (Jvm.Cond.soleField "DownRopeModel" "imageAt") ∈ lw_all := lw_g (lw_at lw_m6 131 rfl) rfl
theorem q1407 : (Jvm.Cond.lays "DownRopeModel" "DownRopeModel" "isTaking" "Z") ∈ lw_all := lw_g (lw_at lw_m6 132 rfl) rfl
theorem q1408 : (Jvm.Cond.soleField "DownRopeModel" "isTaking") ∈ lw_all := lw_g (lw_at lw_m6 133 rfl) rfl
theorem q1409 : (Jvm.Cond.laysFinal "DownRopeModel" "DownRopeModel" "holdsWhat" "[I") ∈ lw_all := lw_g (lw_at lw_m6 134 rfl) rfl
theorem q1410 : (Jvm.Cond.soleField "DownRopeModel" "holdsWhat") ∈ lw_all := lw_g (lw_at lw_m6 135 rfl) rfl
theorem q1411 : (Jvm.Cond.laysFinal "DownRopeModel" "DownRopeModel" "moveOn" "[I") ∈ lw_all := lw_g (lw_at lw_m6 136 rfl) rfl
theorem q1412 : (Jvm.Cond.soleField "DownRopeModel" "moveOn") ∈ lw_all := lw_g (lw_at lw_m6 137 rfl) rfl
theorem q1413 : (Jvm.Cond.laysFinal "DownRopeModel" "DownRopeModel" "rowSort" "[I") ∈ lw_all := lw_g (lw_at lw_m6 138 rfl) rfl
theorem q1414 : (Jvm.Cond.soleField "DownRopeModel" "rowSort") ∈ lw_all := lw_g (lw_at lw_m6 139 rfl) rfl
theorem q1415 : (Jvm.Cond.laysFinal "DownRopeModel" "DownRopeModel" "rowMany" "[I") ∈ lw_all := lw_g (lw_at lw_m6 140 rfl) rfl
theorem q1416 : (Jvm.Cond.soleField "DownRopeModel" "rowMany") ∈ lw_all := lw_g (lw_at lw_m6 141 rfl) rfl
theorem q1417 : (Jvm.Cond.laysFinal "DownRopeModel" "DownRopeModel" "rows" "[J") ∈ lw_all := lw_g (lw_at lw_m6 142 rfl) rfl
theorem q1418 : (Jvm.Cond.soleField "DownRopeModel" "rows") ∈ lw_all := lw_g (lw_at lw_m6 143 rfl) rfl
theorem q1419 : (Jvm.Cond.laysFinal "DownRopeModel" "DownRopeModel" "between" "[J") ∈ lw_all := lw_g (lw_at lw_m6 144 rfl) rfl
theorem q1420 : (Jvm.Cond.soleField "DownRopeModel" "between") ∈ lw_all := lw_g (lw_at lw_m6 145 rfl) rfl
theorem q1421 : (Jvm.Cond.superclass "DownRopeModel" "java/lang/Object") ∈ lw_all := lw_g (lw_at lw_m6 146 rfl) rfl
theorem q1424 : (Jvm.Cond.instanceMethod ({ cls := "DownRopeModel", name := "thrown", desc := "()I" } : Jvm.MethodName)) ∈ lw_all := lw_g (lw_at lw_m6 149 rfl) rfl
theorem q1425 : (Jvm.Cond.selects "DownRopeModel" ({ cls := "DownRopeModel", name := "thrown", desc := "()I" } : Jvm.MethodName) ({ cls := "DownRopeModel", name := "thrown", desc := "()I" } : Jvm.MethodName)) ∈ lw_all := lw_g (lw_at lw_m6 150 rfl) rfl
theorem q1426 : (Jvm.Cond.code ({ cls := "DownRopeModel", name := "thrown", desc := "()I" } : Jvm.MethodName) prog_19_method_2_code (1 : Nat) (Option.some Jvm.ClassFile.FieldType.int)) ∈ lw_all := lw_g (lw_at lw_m6 151 rfl) rfl
theorem q1428 : (Jvm.Cond.instanceMethod ({ cls := "DownRopeModel", name := "face", desc := "(I)I" } : Jvm.MethodName)) ∈ lw_all := lw_g (lw_at lw_m6 153 rfl) rfl
theorem q1429 : (Jvm.Cond.selects "DownRopeModel" ({ cls := "DownRopeModel", name := "face", desc := "(I)I" } : Jvm.MethodName) ({ cls := "DownRopeModel", name := "face", desc := "(I)I" } : Jvm.MethodName)) ∈ lw_all := lw_g (lw_at lw_m6 154 rfl) rfl
theorem q1430 : (Jvm.Cond.code ({ cls := "DownRopeModel", name := "face", desc := "(I)I" } : Jvm.MethodName) prog_19_method_11_code (10 : Nat) (Option.some Jvm.ClassFile.FieldType.int)) ∈ lw_all := lw_g (lw_at lw_m6 155 rfl) rfl
theorem q1431 : (Jvm.Cond.methodLink "DownRopeModel" (178 : Nat) ({ cls := "DownRopeModel", name := "wrongRow", desc := "(I)I" } : Jvm.MethodName)) ∈ lw_all := lw_g (lw_at lw_m6 156 rfl) rfl
theorem q1432 : (Jvm.Cond.privateMethod ({ cls := "DownRopeModel", name := "wrongRow", desc := "(I)I" } : Jvm.MethodName)) ∈ lw_tbl := lw_at lw_m6 157 rfl
theorem q1433 : (Jvm.Cond.instanceMethod ({ cls := "DownRopeModel", name := "wrongRow", desc := "(I)I" } : Jvm.MethodName)) ∈ lw_all := lw_g (lw_at lw_m6 158 rfl) rfl
theorem q1434 : (Jvm.Cond.code ({ cls := "DownRopeModel", name := "wrongRow", desc := "(I)I" } : Jvm.MethodName) prog_19_method_70_code (2 : Nat) (Option.some Jvm.ClassFile.FieldType.int)) ∈ lw_all := lw_g (lw_at lw_m6 159 rfl) rfl
theorem q1435 : (Jvm.Cond.constantLong "DownRopeModel" (329 : Nat) (7 : Int64)) ∈ lw_all := lw_g (lw_at lw_m6 160 rfl) rfl
theorem q1436 : (Jvm.Cond.methodLink "DownRopeModel" (121 : Nat) ({ cls := "DownRopeModel", name := "in", desc := "(JJJ)Z" } : Jvm.MethodName)) ∈ lw_all := lw_g (lw_at lw_m6 161 rfl) rfl
theorem q1437 : (Jvm.Cond.static ({ cls := "DownRopeModel", name := "in", desc := "(JJJ)Z" } : Jvm.MethodName)) ∈ lw_all := lw_g (lw_at lw_m6 162 rfl) rfl
theorem q1438 : (Jvm.Cond.code ({ cls := "DownRopeModel", name := "in", desc := "(JJJ)Z" } : Jvm.MethodName) prog_19_method_3_code (6 : Nat) (Option.some Jvm.ClassFile.FieldType.boolean)) ∈ lw_all := lw_g (lw_at lw_m6 163 rfl) rfl
theorem q1439 : (Jvm.Cond.methodLink "DownRopeModel" (182 : Nat) ({ cls := "DownRopeModel", name := "readStatement", desc := "()V" } : Jvm.MethodName)) ∈ lw_all := lw_g (lw_at lw_m6 164 rfl) rfl
theorem q1440 : (Jvm.Cond.privateMethod ({ cls := "DownRopeModel", name := "readStatement", desc := "()V" } : Jvm.MethodName)) ∈ lw_tbl := lw_at lw_m6 165 rfl
theorem q1441 : (Jvm.Cond.instanceMethod ({ cls := "DownRopeModel", name := "readStatement", desc := "()V" } : Jvm.MethodName)) ∈ lw_all := lw_g (lw_at lw_m6 166 rfl) rfl
theorem q1442 : (Jvm.Cond.code ({ cls := "DownRopeModel", name := "readStatement", desc := "()V" } : Jvm.MethodName) prog_19_method_9_code (3 : Nat) (Option.none : Option Jvm.ClassFile.FieldType)) ∈ lw_all := lw_g (lw_at lw_m6 167 rfl) rfl
theorem q1443 : (Jvm.Cond.methodLink "DownRopeModel" (138 : Nat) ({ cls := "DownRopeModel", name := "here", desc := "()I" } : Jvm.MethodName)) ∈ lw_all := lw_g (lw_at lw_m6 168 rfl) rfl
theorem q1444 : (Jvm.Cond.privateMethod ({ cls := "DownRopeModel", name := "here", desc := "()I" } : Jvm.MethodName)) ∈ lw_tbl := lw_at lw_m6 169 rfl
theorem q1445 : (Jvm.Cond.instanceMethod ({ cls := "DownRopeModel", name := "here", desc := "()I" } : Jvm.MethodName)) ∈ lw_all := lw_g (lw_at lw_m6 170 rfl) rfl
theorem q1446 : (Jvm.Cond.code ({ cls := "DownRopeModel", name := "here", desc := "()I" } : Jvm.MethodName) prog_19_method_5_code (1 : Nat) (Option.some Jvm.ClassFile.FieldType.int)) ∈ lw_all := lw_g (lw_at lw_m6 171 rfl) rfl
theorem q1447 : (Jvm.Cond.methodLink "DownRopeModel" (146 : Nat) ({ cls := "DownRopeModel", name := "readDigit", desc := "()I" } : Jvm.MethodName)) ∈ lw_all := lw_g (lw_at lw_m6 172 rfl) rfl
theorem q1448 : (Jvm.Cond.privateMethod ({ cls := "DownRopeModel", name := "readDigit", desc := "()I" } : Jvm.MethodName)) ∈ lw_tbl := lw_at lw_m6 173 rfl
theorem q1449 : (Jvm.Cond.instanceMethod ({ cls := "DownRopeModel", name := "readDigit", desc := "()I" } : Jvm.MethodName)) ∈ lw_all := lw_g (lw_at lw_m6 174 rfl) rfl
theorem q1450 : (Jvm.Cond.code ({ cls := "DownRopeModel", name := "readDigit", desc := "()I" } : Jvm.MethodName) prog_19_method_7_code (1 : Nat) (Option.some Jvm.ClassFile.FieldType.int)) ∈ lw_all := lw_g (lw_at lw_m6 175 rfl) rfl
theorem q1451 : (Jvm.Cond.constantLong "DownRopeModel" (142 : Nat) (48 : Int64)) ∈ lw_all := lw_g (lw_at lw_m6 176 rfl) rfl
theorem q1452 : (Jvm.Cond.constantLong "DownRopeModel" (144 : Nat) (57 : Int64)) ∈ lw_all := lw_g (lw_at lw_m6 177 rfl) rfl
theorem q1453 : (Jvm.Cond.methodLink "DownRopeModel" (152 : Nat) ({ cls := "DownRopeModel", name := "readNumber", desc := "()I" } : Jvm.MethodName)) ∈ lw_all := lw_g (lw_at lw_m6 178 rfl) rfl
theorem q1454 : (Jvm.Cond.privateMethod ({ cls := "DownRopeModel", name := "readNumber", desc := "()I" } : Jvm.MethodName)) ∈ lw_tbl := lw_at lw_m6 179 rfl
theorem q1455 : (Jvm.Cond.instanceMethod ({ cls := "DownRopeModel", name := "readNumber", desc := "()I" } : Jvm.MethodName)) ∈ lw_all := lw_g (lw_at lw_m6 180 rfl) rfl
theorem q1456 : (Jvm.Cond.code ({ cls := "DownRopeModel", name := "readNumber", desc := "()I" } : Jvm.MethodName) prog_19_method_8_code (3 : Nat) (Option.some Jvm.ClassFile.FieldType.int)) ∈ lw_all := lw_g (lw_at lw_m6 181 rfl) rfl
theorem q1457 : (Jvm.Cond.methodLink "DownRopeModel" (155 : Nat) ({ cls := "DownRopeModel", name := "take", desc := "(I)V" } : Jvm.MethodName)) ∈ lw_all := lw_g (lw_at lw_m6 182 rfl) rfl
theorem q1458 : (Jvm.Cond.privateMethod ({ cls := "DownRopeModel", name := "take", desc := "(I)V" } : Jvm.MethodName)) ∈ lw_tbl := lw_at lw_m6 183 rfl
theorem q1459 : (Jvm.Cond.instanceMethod ({ cls := "DownRopeModel", name := "take", desc := "(I)V" } : Jvm.MethodName)) ∈ lw_all := lw_g (lw_at lw_m6 184 rfl) rfl
theorem q1460 : (Jvm.Cond.code ({ cls := "DownRopeModel", name := "take", desc := "(I)V" } : Jvm.MethodName) prog_19_method_6_code (2 : Nat) (Option.none : Option Jvm.ClassFile.FieldType)) ∈ lw_all := lw_g (lw_at lw_m6 185 rfl) rfl
theorem q1461 : (Jvm.Cond.methodLink "DownRopeModel" (185 : Nat) ({ cls := "DownRopeModel", name := "comes", desc := "(I)Z" } : Jvm.MethodName)) ∈ lw_all := lw_g (lw_at lw_m6 186 rfl) rfl
theorem q1462 : (Jvm.Cond.privateMethod ({ cls := "DownRopeModel", name := "comes", desc := "(I)Z" } : Jvm.MethodName)) ∈ lw_tbl := lw_at lw_m6 187 rfl
theorem q1463 : (Jvm.Cond.instanceMethod ({ cls := "DownRopeModel", name := "comes", desc := "(I)Z" } : Jvm.MethodName)) ∈ lw_all := lw_g (lw_at lw_m6 188 rfl) rfl
theorem q1464 : (Jvm.Cond.code ({ cls := "DownRopeModel", name := "comes", desc := "(I)Z" } : Jvm.MethodName) prog_19_method_10_code (4 : Nat) (Option.some Jvm.ClassFile.FieldType.boolean)) ∈ lw_all := lw_g (lw_at lw_m6 189 rfl) rfl
theorem q1465 : (Jvm.Cond.methodLink "DownRopeModel" (159 : Nat) ({ cls := "DownRopeModel", name := "isLedge", desc := "(I)Z" } : Jvm.MethodName)) ∈ lw_all := lw_g (lw_at lw_m6 190 rfl) rfl
theorem q1466 : (Jvm.Cond.privateMethod ({ cls := "DownRopeModel", name := "isLedge", desc := "(I)Z" } : Jvm.MethodName)) ∈ lw_tbl := lw_at lw_m6 191 rfl
theorem q1467 : (Jvm.Cond.instanceMethod ({ cls := "DownRopeModel", name := "isLedge", desc := "(I)Z" } : Jvm.MethodName)) ∈ lw_all := lw_g (lw_at lw_m6 192 rfl) rfl
theorem q1468 : (Jvm.Cond.code ({ cls := "DownRopeModel", name := "isLedge", desc := "(I)Z" } : Jvm.MethodName) prog_19_method_4_code (2 : Nat) (Option.some Jvm.ClassFile.FieldType.boolean)) ∈ lw_all := lw_g (lw_at lw_m6 193 rfl) rfl
theorem q1469 : (Jvm.Cond.constantLong "DownRopeModel" (163 : Nat) (200 : Int64)) ∈ lw_all := lw_g (lw_at lw_m6 194 rfl) rfl
theorem q1470 : (Jvm.Cond.constantLong "DownRopeModel" (168 : Nat) (400 : Int64)) ∈ lw_all := lw_g (lw_at lw_m6 195 rfl) rfl
theorem q1471 : (Jvm.Cond.constantLong "DownRopeModel" (176 : Nat) (999 : Int64)) ∈ lw_all := lw_g (lw_at lw_m6 196 rfl) rfl
theorem q1473 : (Jvm.Cond.instanceMethod ({ cls := "DownRopeModel", name := "ledge", desc := "(II)I" } : Jvm.MethodName)) ∈ lw_all := lw_g (lw_at lw_m6 198 rfl) rfl
theorem q1474 : (Jvm.Cond.selects "DownRopeModel" ({ cls := "DownRopeModel", name := "ledge", desc := "(II)I" } : Jvm.MethodName) ({ cls := "DownRopeModel", name := "ledge", desc := "(II)I" } : Jvm.MethodName)) ∈ lw_all := lw_g (lw_at lw_m6 199 rfl) rfl
theorem q1475 : (Jvm.Cond.code ({ cls := "DownRopeModel", name := "ledge", desc := "(II)I" } : Jvm.MethodName) prog_19_method_12_code (3 : Nat) (Option.some Jvm.ClassFile.FieldType.int)) ∈ lw_all := lw_g (lw_at lw_m6 200 rfl) rfl
theorem q1476 : (Jvm.Cond.constantLong "DownRopeModel" (194 : Nat) (3 : Int64)) ∈ lw_all := lw_g (lw_at lw_m6 201 rfl) rfl
theorem q1478 : (Jvm.Cond.instanceMethod ({ cls := "DownRopeModel", name := "hold", desc := "(II)I" } : Jvm.MethodName)) ∈ lw_all := lw_g (lw_at lw_m6 203 rfl) rfl
theorem q1479 : (Jvm.Cond.selects "DownRopeModel" ({ cls := "DownRopeModel", name := "hold", desc := "(II)I" } : Jvm.MethodName) ({ cls := "DownRopeModel", name := "hold", desc := "(II)I" } : Jvm.MethodName)) ∈ lw_all := lw_g (lw_at lw_m6 204 rfl) rfl
theorem q1480 : (Jvm.Cond.code ({ cls := "DownRopeModel", name := "hold", desc := "(II)I" } : Jvm.MethodName) prog_19_method_13_code (4 : Nat) (Option.some Jvm.ClassFile.FieldType.int)) ∈ lw_all := lw_g (lw_at lw_m6 205 rfl) rfl
theorem q1482 : (Jvm.Cond.instanceMethod ({ cls := "DownRopeModel", name := "set", desc := "(II)I" } : Jvm.MethodName)) ∈ lw_all := lw_g (lw_at lw_m6 207 rfl) rfl
theorem q1483 : (Jvm.Cond.selects "DownRopeModel" ({ cls := "DownRopeModel", name := "set", desc := "(II)I" } : Jvm.MethodName) ({ cls := "DownRopeModel", name := "set", desc := "(II)I" } : Jvm.MethodName)) ∈ lw_all := lw_g (lw_at lw_m6 208 rfl) rfl
theorem q1484 : (Jvm.Cond.code ({ cls := "DownRopeModel", name := "set", desc := "(II)I" } : Jvm.MethodName) prog_19_method_14_code (4 : Nat) (Option.some Jvm.ClassFile.FieldType.int)) ∈ lw_all := lw_g (lw_at lw_m6 209 rfl) rfl
theorem q1485 : (Jvm.Cond.constantLong "DownRopeModel" (196 : Nat) (100 : Int64)) ∈ lw_all := lw_g (lw_at lw_m6 210 rfl) rfl
theorem q1487 : (Jvm.Cond.instanceMethod ({ cls := "DownRopeModel", name := "cut", desc := "(II)I" } : Jvm.MethodName)) ∈ lw_all := lw_g (lw_at lw_m6 212 rfl) rfl
theorem q1488 : (Jvm.Cond.selects "DownRopeModel" ({ cls := "DownRopeModel", name := "cut", desc := "(II)I" } : Jvm.MethodName) ({ cls := "DownRopeModel", name := "cut", desc := "(II)I" } : Jvm.MethodName)) ∈ lw_all := lw_g (lw_at lw_m6 213 rfl) rfl
theorem q1489 : (Jvm.Cond.code ({ cls := "DownRopeModel", name := "cut", desc := "(II)I" } : Jvm.MethodName) prog_19_method_15_code (4 : Nat) (Option.some Jvm.ClassFile.FieldType.int)) ∈ lw_all := lw_g (lw_at lw_m6 214 rfl) rfl
theorem q1491 : (Jvm.Cond.instanceMethod ({ cls := "DownRopeModel", name := "person", desc := "(I)I" } : Jvm.MethodName)) ∈ lw_all := lw_g (lw_at lw_m6 216 rfl) rfl
theorem q1492 : (Jvm.Cond.selects "DownRopeModel" ({ cls := "DownRopeModel", name := "person", desc := "(I)I" } : Jvm.MethodName) ({ cls := "DownRopeModel", name := "person", desc := "(I)I" } : Jvm.MethodName)) ∈ lw_all := lw_g (lw_at lw_m6 217 rfl) rfl
theorem q1493 : (Jvm.Cond.code ({ cls := "DownRopeModel", name := "person", desc := "(I)I" } : Jvm.MethodName) prog_19_method_16_code (2 : Nat) (Option.some Jvm.ClassFile.FieldType.int)) ∈ lw_all := lw_g (lw_at lw_m6 218 rfl) rfl
theorem q1495 : (Jvm.Cond.instanceMethod ({ cls := "DownRopeModel", name := "rope", desc := "(II)I" } : Jvm.MethodName)) ∈ lw_all := lw_g (lw_at lw_m6 220 rfl) rfl
theorem q1496 : (Jvm.Cond.selects "DownRopeModel" ({ cls := "DownRopeModel", name := "rope", desc := "(II)I" } : Jvm.MethodName) ({ cls := "DownRopeModel", name := "rope", desc := "(II)I" } : Jvm.MethodName)) ∈ lw_all := lw_g (lw_at lw_m6 221 rfl) rfl
theorem q1497 : (Jvm.Cond.code ({ cls := "DownRopeModel", name := "rope", desc := "(II)I" } : Jvm.MethodName) prog_19_method_17_code (3 : Nat) (Option.some Jvm.ClassFile.FieldType.int)) ∈ lw_all := lw_g (lw_at lw_m6 222 rfl) rfl
theorem q1499 : (Jvm.Cond.instanceMethod ({ cls := "DownRopeModel", name := "far", desc := "(II)I" } : Jvm.MethodName)) ∈ lw_all := lw_g (lw_at lw_m6 224 rfl) rfl
theorem q1500 : (Jvm.Cond.selects "DownRopeModel" ({ cls := "DownRopeModel", name := "far", desc := "(II)I" } : Jvm.MethodName) ({ cls := "DownRopeModel", name := "far", desc := "(II)I" } : Jvm.MethodName)) ∈ lw_all := lw_g (lw_at lw_m6 225 rfl) rfl
theorem q1501 : (Jvm.Cond.code ({ cls := "DownRopeModel", name := "far", desc := "(II)I" } : Jvm.MethodName) prog_19_method_19_code (3 : Nat) (Option.some Jvm.ClassFile.FieldType.int)) ∈ lw_all := lw_g (lw_at lw_m6 226 rfl) rfl
theorem q1502 : (Jvm.Cond.methodLink "DownRopeModel" (198 : Nat) ({ cls := "DownRopeModel", name := "farFrom", desc := "(II)I" } : Jvm.MethodName)) ∈ lw_all := lw_g (lw_at lw_m6 227 rfl) rfl
theorem q1503 : (Jvm.Cond.privateMethod ({ cls := "DownRopeModel", name := "farFrom", desc := "(II)I" } : Jvm.MethodName)) ∈ lw_tbl := lw_at lw_m6 228 rfl
theorem q1504 : (Jvm.Cond.instanceMethod ({ cls := "DownRopeModel", name := "farFrom", desc := "(II)I" } : Jvm.MethodName)) ∈ lw_all := lw_g (lw_at lw_m6 229 rfl) rfl
theorem q1505 : (Jvm.Cond.code ({ cls := "DownRopeModel", name := "farFrom", desc := "(II)I" } : Jvm.MethodName) prog_19_method_18_code (5 : Nat) (Option.some Jvm.ClassFile.FieldType.int)) ∈ lw_all := lw_g (lw_at lw_m6 230 rfl) rfl
theorem q1507 : (Jvm.Cond.instanceMethod ({ cls := "DownRopeModel", name := "may", desc := "(I)I" } : Jvm.MethodName)) ∈ lw_all := lw_g (lw_at lw_m6 232 rfl) rfl
theorem q1508 : (Jvm.Cond.selects "DownRopeModel" ({ cls := "DownRopeModel", name := "may", desc := "(I)I" } : Jvm.MethodName) ({ cls := "DownRopeModel", name := "may", desc := "(I)I" } : Jvm.MethodName)) ∈ lw_all := lw_g (lw_at lw_m6 233 rfl) rfl
theorem q1509 : (Jvm.Cond.code ({ cls := "DownRopeModel", name := "may", desc := "(I)I" } : Jvm.MethodName) prog_19_method_32_code (3 : Nat) (Option.some Jvm.ClassFile.FieldType.int)) ∈ lw_all := lw_g (lw_at lw_m6 234 rfl) rfl
theorem q1510 : (Jvm.Cond.methodLink "DownRopeModel" (221 : Nat) ({ cls := "DownRopeModel", name := "isMove", desc := "(I)Z" } : Jvm.MethodName)) ∈ lw_all := lw_g (lw_at lw_m6 235 rfl) rfl
theorem q1511 : (Jvm.Cond.static ({ cls := "DownRopeModel", name := "isMove", desc := "(I)Z" } : Jvm.MethodName)) ∈ lw_all := lw_g (lw_at lw_m6 236 rfl) rfl
theorem q1512 : (Jvm.Cond.code ({ cls := "DownRopeModel", name := "isMove", desc := "(I)Z" } : Jvm.MethodName) prog_19_method_25_code (1 : Nat) (Option.some Jvm.ClassFile.FieldType.boolean)) ∈ lw_all := lw_g (lw_at lw_m6 237 rfl) rfl
theorem q1513 : (Jvm.Cond.constantLong "DownRopeModel" (202 : Nat) (69999 : Int64)) ∈ lw_all := lw_g (lw_at lw_m6 238 rfl) rfl
theorem q1514 : (Jvm.Cond.methodLink "DownRopeModel" (224 : Nat) ({ cls := "DownRopeModel", name := "stateNow", desc := "()I" } : Jvm.MethodName)) ∈ lw_all := lw_g (lw_at lw_m6 239 rfl) rfl
theorem q1515 : (Jvm.Cond.privateMethod ({ cls := "DownRopeModel", name := "stateNow", desc := "()I" } : Jvm.MethodName)) ∈ lw_tbl := lw_at lw_m7 0 rfl
theorem q1516 : (Jvm.Cond.instanceMethod ({ cls := "DownRopeModel", name := "stateNow", desc := "()I" } : Jvm.MethodName)) ∈ lw_all := lw_g (lw_at lw_m7 1 rfl) rfl
theorem q1517 : (Jvm.Cond.code ({ cls := "DownRopeModel", name := "stateNow", desc := "()I" } : Jvm.MethodName) prog_19_method_20_code (3 : Nat) (Option.some Jvm.ClassFile.FieldType.int)) ∈ lw_all := lw_g (lw_at lw_m7 2 rfl) rfl
theorem q1518 : (Jvm.Cond.methodLink "DownRopeModel" (227 : Nat) ({ cls := "DownRopeModel", name := "open", desc := "(I)V" } : Jvm.MethodName)) ∈ lw_all := lw_g (lw_at lw_m7 3 rfl) rfl
theorem q1519 : (Jvm.Cond.privateMethod ({ cls := "DownRopeModel", name := "open", desc := "(I)V" } : Jvm.MethodName)) ∈ lw_tbl := lw_at lw_m7 4 rfl
theorem q1520 : (Jvm.Cond.instanceMethod ({ cls := "DownRopeModel", name := "open", desc := "(I)V" } : Jvm.MethodName)) ∈ lw_all := lw_g (lw_at lw_m7 5 rfl) rfl
theorem q1521 : (Jvm.Cond.code ({ cls := "DownRopeModel", name := "open", desc := "(I)V" } : Jvm.MethodName) prog_19_method_21_code (2 : Nat) (Option.none : Option Jvm.ClassFile.FieldType)) ∈ lw_all := lw_g (lw_at lw_m7 6 rfl) rfl
theorem q1522 : (Jvm.Cond.methodLink "DownRopeModel" (230 : Nat) ({ cls := "DownRopeModel", name := "minutesOf", desc := "(I)I" } : Jvm.MethodName)) ∈ lw_all := lw_g (lw_at lw_m7 7 rfl) rfl
theorem q1523 : (Jvm.Cond.privateMethod ({ cls := "DownRopeModel", name := "minutesOf", desc := "(I)I" } : Jvm.MethodName)) ∈ lw_tbl := lw_at lw_m7 8 rfl
theorem q1524 : (Jvm.Cond.instanceMethod ({ cls := "DownRopeModel", name := "minutesOf", desc := "(I)I" } : Jvm.MethodName)) ∈ lw_all := lw_g (lw_at lw_m7 9 rfl) rfl
theorem q1525 : (Jvm.Cond.code ({ cls := "DownRopeModel", name := "minutesOf", desc := "(I)I" } : Jvm.MethodName) prog_19_method_30_code (16 : Nat) (Option.some Jvm.ClassFile.FieldType.int)) ∈ lw_all := lw_g (lw_at lw_m7 10 rfl) rfl
theorem q1526 : (Jvm.Cond.methodLink "DownRopeModel" (207 : Nat) ({ cls := "DownRopeModel", name := "mayGo", desc := "(III)Z" } : Jvm.MethodName)) ∈ lw_all := lw_g (lw_at lw_m7 11 rfl) rfl
theorem q1527 : (Jvm.Cond.privateMethod ({ cls := "DownRopeModel", name := "mayGo", desc := "(III)Z" } : Jvm.MethodName)) ∈ lw_tbl := lw_at lw_m7 12 rfl
theorem q1528 : (Jvm.Cond.instanceMethod ({ cls := "DownRopeModel", name := "mayGo", desc := "(III)Z" } : Jvm.MethodName)) ∈ lw_all := lw_g (lw_at lw_m7 13 rfl) rfl
theorem q1529 : (Jvm.Cond.code ({ cls := "DownRopeModel", name := "mayGo", desc := "(III)Z" } : Jvm.MethodName) prog_19_method_26_code (7 : Nat) (Option.some Jvm.ClassFile.FieldType.boolean)) ∈ lw_all := lw_g (lw_at lw_m7 14 rfl) rfl
theorem q1530 : (Jvm.Cond.methodLink "DownRopeModel" (204 : Nat) ({ cls := "DownRopeModel", name := "ones", desc := "(I)I" } : Jvm.MethodName)) ∈ lw_all := lw_g (lw_at lw_m7 15 rfl) rfl
theorem q1531 : (Jvm.Cond.static ({ cls := "DownRopeModel", name := "ones", desc := "(I)I" } : Jvm.MethodName)) ∈ lw_all := lw_g (lw_at lw_m7 16 rfl) rfl
theorem q1532 : (Jvm.Cond.code ({ cls := "DownRopeModel", name := "ones", desc := "(I)I" } : Jvm.MethodName) prog_19_method_23_code (1 : Nat) (Option.some Jvm.ClassFile.FieldType.int)) ∈ lw_all := lw_g (lw_at lw_m7 17 rfl) rfl
theorem q1533 : (Jvm.Cond.methodLink "DownRopeModel" (211 : Nat) ({ cls := "DownRopeModel", name := "hasHurt", desc := "(I)Z" } : Jvm.MethodName)) ∈ lw_all := lw_g (lw_at lw_m7 18 rfl) rfl
theorem q1534 : (Jvm.Cond.privateMethod ({ cls := "DownRopeModel", name := "hasHurt", desc := "(I)Z" } : Jvm.MethodName)) ∈ lw_tbl := lw_at lw_m7 19 rfl
theorem q1535 : (Jvm.Cond.instanceMethod ({ cls := "DownRopeModel", name := "hasHurt", desc := "(I)Z" } : Jvm.MethodName)) ∈ lw_all := lw_g (lw_at lw_m7 20 rfl) rfl
theorem q1536 : (Jvm.Cond.code ({ cls := "DownRopeModel", name := "hasHurt", desc := "(I)Z" } : Jvm.MethodName) prog_19_method_27_code (4 : Nat) (Option.some Jvm.ClassFile.FieldType.boolean)) ∈ lw_all := lw_g (lw_at lw_m7 21 rfl) rfl
theorem q1537 : (Jvm.Cond.methodLink "DownRopeModel" (214 : Nat) ({ cls := "DownRopeModel", name := "isRopeOn", desc := "(II)Z" } : Jvm.MethodName)) ∈ lw_all := lw_g (lw_at lw_m7 22 rfl) rfl
theorem q1538 : (Jvm.Cond.privateMethod ({ cls := "DownRopeModel", name := "isRopeOn", desc := "(II)Z" } : Jvm.MethodName)) ∈ lw_tbl := lw_at lw_m7 23 rfl
theorem q1539 : (Jvm.Cond.instanceMethod ({ cls := "DownRopeModel", name := "isRopeOn", desc := "(II)Z" } : Jvm.MethodName)) ∈ lw_all := lw_g (lw_at lw_m7 24 rfl) rfl
theorem q1540 : (Jvm.Cond.code ({ cls := "DownRopeModel", name := "isRopeOn", desc := "(II)Z" } : Jvm.MethodName) prog_19_method_29_code (3 : Nat) (Option.some Jvm.ClassFile.FieldType.boolean)) ∈ lw_all := lw_g (lw_at lw_m7 25 rfl) rfl
theorem q1541 : (Jvm.Cond.methodLink "DownRopeModel" (218 : Nat) ({ cls := "DownRopeModel", name := "isHelped", desc := "(II)Z" } : Jvm.MethodName)) ∈ lw_all := lw_g (lw_at lw_m7 26 rfl) rfl
theorem q1542 : (Jvm.Cond.privateMethod ({ cls := "DownRopeModel", name := "isHelped", desc := "(II)Z" } : Jvm.MethodName)) ∈ lw_tbl := lw_at lw_m7 27 rfl
theorem q1543 : (Jvm.Cond.instanceMethod ({ cls := "DownRopeModel", name := "isHelped", desc := "(II)Z" } : Jvm.MethodName)) ∈ lw_all := lw_g (lw_at lw_m7 28 rfl) rfl
theorem q1544 : (Jvm.Cond.code ({ cls := "DownRopeModel", name := "isHelped", desc := "(II)Z" } : Jvm.MethodName) prog_19_method_28_code (5 : Nat) (Option.some Jvm.ClassFile.FieldType.boolean)) ∈ lw_all := lw_g (lw_at lw_m7 29 rfl) rfl
theorem q1546 : (Jvm.Cond.instanceMethod ({ cls := "DownRopeModel", name := "move", desc := "(I)I" } : Jvm.MethodName)) ∈ lw_all := lw_g (lw_at lw_m7 31 rfl) rfl
theorem q1547 : (Jvm.Cond.selects "DownRopeModel" ({ cls := "DownRopeModel", name := "move", desc := "(I)I" } : Jvm.MethodName) ({ cls := "DownRopeModel", name := "move", desc := "(I)I" } : Jvm.MethodName)) ∈ lw_all := lw_g (lw_at lw_m7 32 rfl) rfl
theorem q1548 : (Jvm.Cond.code ({ cls := "DownRopeModel", name := "move", desc := "(I)I" } : Jvm.MethodName) prog_19_method_34_code (3 : Nat) (Option.some Jvm.ClassFile.FieldType.int)) ∈ lw_all := lw_g (lw_at lw_m7 33 rfl) rfl
theorem q1549 : (Jvm.Cond.methodLink "DownRopeModel" (233 : Nat) ({ cls := "DownRopeModel", name := "may", desc := "(I)I" } : Jvm.MethodName)) ∈ lw_all := lw_g (lw_at lw_m7 34 rfl) rfl
theorem q1550 : (Jvm.Cond.methodLink "DownRopeModel" (236 : Nat) ({ cls := "DownRopeModel", name := "make", desc := "(IZ)V" } : Jvm.MethodName)) ∈ lw_all := lw_g (lw_at lw_m7 35 rfl) rfl
theorem q1551 : (Jvm.Cond.privateMethod ({ cls := "DownRopeModel", name := "make", desc := "(IZ)V" } : Jvm.MethodName)) ∈ lw_tbl := lw_at lw_m7 36 rfl
theorem q1552 : (Jvm.Cond.instanceMethod ({ cls := "DownRopeModel", name := "make", desc := "(IZ)V" } : Jvm.MethodName)) ∈ lw_all := lw_g (lw_at lw_m7 37 rfl) rfl
theorem q1553 : (Jvm.Cond.code ({ cls := "DownRopeModel", name := "make", desc := "(IZ)V" } : Jvm.MethodName) prog_19_method_31_code (8 : Nat) (Option.none : Option Jvm.ClassFile.FieldType)) ∈ lw_all := lw_g (lw_at lw_m7 38 rfl) rfl
theorem q1554 : (Jvm.Cond.methodLink "DownRopeModel" (240 : Nat) ({ cls := "DownRopeModel", name := "keepState", desc := "()V" } : Jvm.MethodName)) ∈ lw_all := lw_g (lw_at lw_m7 39 rfl) rfl
theorem q1555 : (Jvm.Cond.privateMethod ({ cls := "DownRopeModel", name := "keepState", desc := "()V" } : Jvm.MethodName)) ∈ lw_tbl := lw_at lw_m7 40 rfl
theorem q1556 : (Jvm.Cond.instanceMethod ({ cls := "DownRopeModel", name := "keepState", desc := "()V" } : Jvm.MethodName)) ∈ lw_all := lw_g (lw_at lw_m7 41 rfl) rfl
theorem q1557 : (Jvm.Cond.code ({ cls := "DownRopeModel", name := "keepState", desc := "()V" } : Jvm.MethodName) prog_19_method_33_code (2 : Nat) (Option.none : Option Jvm.ClassFile.FieldType)) ∈ lw_all := lw_g (lw_at lw_m7 42 rfl) rfl
theorem q1559 : (Jvm.Cond.instanceMethod ({ cls := "DownRopeModel", name := "moves", desc := "(I)I" } : Jvm.MethodName)) ∈ lw_all := lw_g (lw_at lw_m7 44 rfl) rfl
theorem q1560 : (Jvm.Cond.selects "DownRopeModel" ({ cls := "DownRopeModel", name := "moves", desc := "(I)I" } : Jvm.MethodName) ({ cls := "DownRopeModel", name := "moves", desc := "(I)I" } : Jvm.MethodName)) ∈ lw_all := lw_g (lw_at lw_m7 45 rfl) rfl
theorem q1561 : (Jvm.Cond.code ({ cls := "DownRopeModel", name := "moves", desc := "(I)I" } : Jvm.MethodName) prog_19_method_36_code (4 : Nat) (Option.some Jvm.ClassFile.FieldType.int)) ∈ lw_all := lw_g (lw_at lw_m7 46 rfl) rfl
theorem q1562 : (Jvm.Cond.methodLink "DownRopeModel" (246 : Nat) ({ cls := "DownRopeModel", name := "findMoves", desc := "()V" } : Jvm.MethodName)) ∈ lw_all := lw_g (lw_at lw_m7 47 rfl) rfl
theorem q1563 : (Jvm.Cond.privateMethod ({ cls := "DownRopeModel", name := "findMoves", desc := "()V" } : Jvm.MethodName)) ∈ lw_tbl := lw_at lw_m7 48 rfl
theorem q1564 : (Jvm.Cond.instanceMethod ({ cls := "DownRopeModel", name := "findMoves", desc := "()V" } : Jvm.MethodName)) ∈ lw_all := lw_g (lw_at lw_m7 49 rfl) rfl
theorem q1565 : (Jvm.Cond.code ({ cls := "DownRopeModel", name := "findMoves", desc := "()V" } : Jvm.MethodName) prog_19_method_35_code (5 : Nat) (Option.none : Option Jvm.ClassFile.FieldType)) ∈ lw_all := lw_g (lw_at lw_m7 50 rfl) rfl
theorem q1567 : (Jvm.Cond.instanceMethod ({ cls := "DownRopeModel", name := "down", desc := "()I" } : Jvm.MethodName)) ∈ lw_all := lw_g (lw_at lw_m7 52 rfl) rfl
theorem q1568 : (Jvm.Cond.selects "DownRopeModel" ({ cls := "DownRopeModel", name := "down", desc := "()I" } : Jvm.MethodName) ({ cls := "DownRopeModel", name := "down", desc := "()I" } : Jvm.MethodName)) ∈ lw_all := lw_g (lw_at lw_m7 53 rfl) rfl
theorem q1569 : (Jvm.Cond.code ({ cls := "DownRopeModel", name := "down", desc := "()I" } : Jvm.MethodName) prog_19_method_37_code (1 : Nat) (Option.some Jvm.ClassFile.FieldType.int)) ∈ lw_all := lw_g (lw_at lw_m7 54 rfl) rfl
theorem q1570 : (Jvm.Cond.methodLink "DownRopeModel" (249 : Nat) ({ cls := "DownRopeModel", name := "isDown", desc := "()Z" } : Jvm.MethodName)) ∈ lw_all := lw_g (lw_at lw_m7 55 rfl) rfl
theorem q1571 : (Jvm.Cond.privateMethod ({ cls := "DownRopeModel", name := "isDown", desc := "()Z" } : Jvm.MethodName)) ∈ lw_tbl := lw_at lw_m7 56 rfl
theorem q1572 : (Jvm.Cond.instanceMethod ({ cls := "DownRopeModel", name := "isDown", desc := "()Z" } : Jvm.MethodName)) ∈ lw_all := lw_g (lw_at lw_m7 57 rfl) rfl
theorem q1573 : (Jvm.Cond.code ({ cls := "DownRopeModel", name := "isDown", desc := "()Z" } : Jvm.MethodName) prog_19_method_24_code (3 : Nat) (Option.some Jvm.ClassFile.FieldType.boolean)) ∈ lw_all := lw_g (lw_at lw_m7 58 rfl) rfl
theorem q1575 : (Jvm.Cond.instanceMethod ({ cls := "DownRopeModel", name := "judge", desc := "(II)I" } : Jvm.MethodName)) ∈ lw_all := lw_g (lw_at lw_m7 60 rfl) rfl
theorem q1576 : (Jvm.Cond.selects "DownRopeModel" ({ cls := "DownRopeModel", name := "judge", desc := "(II)I" } : Jvm.MethodName) ({ cls := "DownRopeModel", name := "judge", desc := "(II)I" } : Jvm.MethodName)) ∈ lw_all := lw_g (lw_at lw_m7 61 rfl) rfl
theorem q1577 : (Jvm.Cond.code ({ cls := "DownRopeModel", name := "judge", desc := "(II)I" } : Jvm.MethodName) prog_19_method_39_code (7 : Nat) (Option.some Jvm.ClassFile.FieldType.int)) ∈ lw_all := lw_g (lw_at lw_m7 62 rfl) rfl
theorem q1578 : (Jvm.Cond.methodLink "DownRopeModel" (253 : Nat) ({ cls := "DownRopeModel", name := "wrongMoves", desc := "(I)I" } : Jvm.MethodName)) ∈ lw_all := lw_g (lw_at lw_m7 63 rfl) rfl
theorem q1579 : (Jvm.Cond.privateMethod ({ cls := "DownRopeModel", name := "wrongMoves", desc := "(I)I" } : Jvm.MethodName)) ∈ lw_tbl := lw_at lw_m7 64 rfl
theorem q1580 : (Jvm.Cond.instanceMethod ({ cls := "DownRopeModel", name := "wrongMoves", desc := "(I)I" } : Jvm.MethodName)) ∈ lw_all := lw_g (lw_at lw_m7 65 rfl) rfl
theorem q1581 : (Jvm.Cond.code ({ cls := "DownRopeModel", name := "wrongMoves", desc := "(I)I" } : Jvm.MethodName) prog_19_method_38_code (2 : Nat) (Option.some Jvm.ClassFile.FieldType.int)) ∈ lw_all := lw_g (lw_at lw_m7 66 rfl) rfl
theorem q1583 : (Jvm.Cond.instanceMethod ({ cls := "DownRopeModel", name := "soonest", desc := "()I" } : Jvm.MethodName)) ∈ lw_all := lw_g (lw_at lw_m7 68 rfl) rfl
theorem q1584 : (Jvm.Cond.selects "DownRopeModel" ({ cls := "DownRopeModel", name := "soonest", desc := "()I" } : Jvm.MethodName) ({ cls := "DownRopeModel", name := "soonest", desc := "()I" } : Jvm.MethodName)) ∈ lw_all := lw_g (lw_at lw_m7 69 rfl) rfl
theorem q1585 : (Jvm.Cond.code ({ cls := "DownRopeModel", name := "soonest", desc := "()I" } : Jvm.MethodName) prog_19_method_44_code (1 : Nat) (Option.some Jvm.ClassFile.FieldType.int)) ∈ lw_all := lw_g (lw_at lw_m7 70 rfl) rfl
theorem q1586 : (Jvm.Cond.methodLink "DownRopeModel" (276 : Nat) ({ cls := "DownRopeModel", name := "soonestNow", desc := "()I" } : Jvm.MethodName)) ∈ lw_all := lw_g (lw_at lw_m7 71 rfl) rfl
theorem q1587 : (Jvm.Cond.privateMethod ({ cls := "DownRopeModel", name := "soonestNow", desc := "()I" } : Jvm.MethodName)) ∈ lw_tbl := lw_at lw_m7 72 rfl
theorem q1588 : (Jvm.Cond.instanceMethod ({ cls := "DownRopeModel", name := "soonestNow", desc := "()I" } : Jvm.MethodName)) ∈ lw_all := lw_g (lw_at lw_m7 73 rfl) rfl
theorem q1589 : (Jvm.Cond.code ({ cls := "DownRopeModel", name := "soonestNow", desc := "()I" } : Jvm.MethodName) prog_19_method_43_code (4 : Nat) (Option.some Jvm.ClassFile.FieldType.int)) ∈ lw_all := lw_g (lw_at lw_m7 74 rfl) rfl
theorem q1590 : (Jvm.Cond.methodLink "DownRopeModel" (270 : Nat) ({ cls := "DownRopeModel", name := "seekNow", desc := "()V" } : Jvm.MethodName)) ∈ lw_all := lw_g (lw_at lw_m7 75 rfl) rfl
theorem q1591 : (Jvm.Cond.privateMethod ({ cls := "DownRopeModel", name := "seekNow", desc := "()V" } : Jvm.MethodName)) ∈ lw_tbl := lw_at lw_m7 76 rfl
theorem q1592 : (Jvm.Cond.instanceMethod ({ cls := "DownRopeModel", name := "seekNow", desc := "()V" } : Jvm.MethodName)) ∈ lw_all := lw_g (lw_at lw_m7 77 rfl) rfl
theorem q1593 : (Jvm.Cond.code ({ cls := "DownRopeModel", name := "seekNow", desc := "()V" } : Jvm.MethodName) prog_19_method_40_code (1 : Nat) (Option.none : Option Jvm.ClassFile.FieldType)) ∈ lw_all := lw_g (lw_at lw_m7 78 rfl) rfl
theorem q1594 : (Jvm.Cond.methodLink "DownRopeModel" (256 : Nat) ({ cls := "DownRopeModel", name := "seek", desc := "(Z)V" } : Jvm.MethodName)) ∈ lw_all := lw_g (lw_at lw_m7 79 rfl) rfl
theorem q1595 : (Jvm.Cond.privateMethod ({ cls := "DownRopeModel", name := "seek", desc := "(Z)V" } : Jvm.MethodName)) ∈ lw_tbl := lw_at lw_m7 80 rfl
theorem q1596 : (Jvm.Cond.instanceMethod ({ cls := "DownRopeModel", name := "seek", desc := "(Z)V" } : Jvm.MethodName)) ∈ lw_all := lw_g (lw_at lw_m7 81 rfl) rfl
theorem q1597 : (Jvm.Cond.code ({ cls := "DownRopeModel", name := "seek", desc := "(Z)V" } : Jvm.MethodName) prog_19_method_41_code (10 : Nat) (Option.none : Option Jvm.ClassFile.FieldType)) ∈ lw_all := lw_g (lw_at lw_m7 82 rfl) rfl
theorem q1598 : (Jvm.Cond.constant "DownRopeModel" (263 : Nat) (1000000000 : Int32)) ∈ lw_all := lw_g (lw_at lw_m7 83 rfl) rfl
theorem q1599 : (Jvm.Cond.methodLink "DownRopeModel" (267 : Nat) ({ cls := "DownRopeModel", name := "closed", desc := "()I" } : Jvm.MethodName)) ∈ lw_all := lw_g (lw_at lw_m7 84 rfl) rfl
theorem q1600 : (Jvm.Cond.privateMethod ({ cls := "DownRopeModel", name := "closed", desc := "()I" } : Jvm.MethodName)) ∈ lw_tbl := lw_at lw_m7 85 rfl
theorem q1601 : (Jvm.Cond.instanceMethod ({ cls := "DownRopeModel", name := "closed", desc := "()I" } : Jvm.MethodName)) ∈ lw_all := lw_g (lw_at lw_m7 86 rfl) rfl
theorem q1602 : (Jvm.Cond.code ({ cls := "DownRopeModel", name := "closed", desc := "()I" } : Jvm.MethodName) prog_19_method_22_code (1 : Nat) (Option.some Jvm.ClassFile.FieldType.int)) ∈ lw_all := lw_g (lw_at lw_m7 87 rfl) rfl
theorem q1603 : (Jvm.Cond.methodLink "DownRopeModel" (273 : Nat) ({ cls := "DownRopeModel", name := "isDownState", desc := "(I)Z" } : Jvm.MethodName)) ∈ lw_all := lw_g (lw_at lw_m7 88 rfl) rfl
theorem q1604 : (Jvm.Cond.privateMethod ({ cls := "DownRopeModel", name := "isDownState", desc := "(I)Z" } : Jvm.MethodName)) ∈ lw_tbl := lw_at lw_m7 89 rfl
theorem q1605 : (Jvm.Cond.instanceMethod ({ cls := "DownRopeModel", name := "isDownState", desc := "(I)Z" } : Jvm.MethodName)) ∈ lw_all := lw_g (lw_at lw_m7 90 rfl) rfl
theorem q1606 : (Jvm.Cond.code ({ cls := "DownRopeModel", name := "isDownState", desc := "(I)Z" } : Jvm.MethodName) prog_19_method_42_code (2 : Nat) (Option.some Jvm.ClassFile.FieldType.boolean)) ∈ lw_all := lw_g (lw_at lw_m7 91 rfl) rfl
theorem q1608 : (Jvm.Cond.instanceMethod ({ cls := "DownRopeModel", name := "first", desc := "()I" } : Jvm.MethodName)) ∈ lw_all := lw_g (lw_at lw_m7 93 rfl) rfl
theorem q1609 : (Jvm.Cond.selects "DownRopeModel" ({ cls := "DownRopeModel", name := "first", desc := "()I" } : Jvm.MethodName) ({ cls := "DownRopeModel", name := "first", desc := "()I" } : Jvm.MethodName)) ∈ lw_all := lw_g (lw_at lw_m7 94 rfl) rfl
theorem q1610 : (Jvm.Cond.code ({ cls := "DownRopeModel", name := "first", desc := "()I" } : Jvm.MethodName) prog_19_method_45_code (5 : Nat) (Option.some Jvm.ClassFile.FieldType.int)) ∈ lw_all := lw_g (lw_at lw_m7 95 rfl) rfl
theorem q1611 : (Jvm.Cond.methodLink "DownRopeModel" (279 : Nat) ({ cls := "DownRopeModel", name := "wayFrom", desc := "(I)I" } : Jvm.MethodName)) ∈ lw_all := lw_g (lw_at lw_m7 96 rfl) rfl
theorem q1612 : (Jvm.Cond.privateMethod ({ cls := "DownRopeModel", name := "wayFrom", desc := "(I)I" } : Jvm.MethodName)) ∈ lw_tbl := lw_at lw_m7 97 rfl
theorem q1613 : (Jvm.Cond.instanceMethod ({ cls := "DownRopeModel", name := "wayFrom", desc := "(I)I" } : Jvm.MethodName)) ∈ lw_all := lw_g (lw_at lw_m7 98 rfl) rfl
theorem q1614 : (Jvm.Cond.code ({ cls := "DownRopeModel", name := "wayFrom", desc := "(I)I" } : Jvm.MethodName) prog_19_method_46_code (5 : Nat) (Option.some Jvm.ClassFile.FieldType.int)) ∈ lw_all := lw_g (lw_at lw_m7 99 rfl) rfl
theorem q1616 : (Jvm.Cond.instanceMethod ({ cls := "DownRopeModel", name := "left", desc := "(II)I" } : Jvm.MethodName)) ∈ lw_all := lw_g (lw_at lw_m7 101 rfl) rfl
theorem q1617 : (Jvm.Cond.selects "DownRopeModel" ({ cls := "DownRopeModel", name := "left", desc := "(II)I" } : Jvm.MethodName) ({ cls := "DownRopeModel", name := "left", desc := "(II)I" } : Jvm.MethodName)) ∈ lw_all := lw_g (lw_at lw_m7 102 rfl) rfl
theorem q1618 : (Jvm.Cond.code ({ cls := "DownRopeModel", name := "left", desc := "(II)I" } : Jvm.MethodName) prog_19_method_49_code (3 : Nat) (Option.some Jvm.ClassFile.FieldType.int)) ∈ lw_all := lw_g (lw_at lw_m7 103 rfl) rfl
theorem q1619 : (Jvm.Cond.constantLong "DownRopeModel" (285 : Nat) (9999 : Int64)) ∈ lw_all := lw_g (lw_at lw_m7 104 rfl) rfl
theorem q1620 : (Jvm.Cond.methodLink "DownRopeModel" (287 : Nat) ({ cls := "DownRopeModel", name := "leftWithin", desc := "(II)I" } : Jvm.MethodName)) ∈ lw_all := lw_g (lw_at lw_m7 105 rfl) rfl
theorem q1621 : (Jvm.Cond.privateMethod ({ cls := "DownRopeModel", name := "leftWithin", desc := "(II)I" } : Jvm.MethodName)) ∈ lw_tbl := lw_at lw_m7 106 rfl
theorem q1622 : (Jvm.Cond.instanceMethod ({ cls := "DownRopeModel", name := "leftWithin", desc := "(II)I" } : Jvm.MethodName)) ∈ lw_all := lw_g (lw_at lw_m7 107 rfl) rfl
theorem q1623 : (Jvm.Cond.code ({ cls := "DownRopeModel", name := "leftWithin", desc := "(II)I" } : Jvm.MethodName) prog_19_method_48_code (8 : Nat) (Option.some Jvm.ClassFile.FieldType.int)) ∈ lw_all := lw_g (lw_at lw_m7 108 rfl) rfl
theorem q1624 : (Jvm.Cond.methodLink "DownRopeModel" (282 : Nat) ({ cls := "DownRopeModel", name := "leftIn", desc := "(I)I" } : Jvm.MethodName)) ∈ lw_all := lw_g (lw_at lw_m7 109 rfl) rfl
theorem q1625 : (Jvm.Cond.privateMethod ({ cls := "DownRopeModel", name := "leftIn", desc := "(I)I" } : Jvm.MethodName)) ∈ lw_tbl := lw_at lw_m7 110 rfl
theorem q1626 : (Jvm.Cond.instanceMethod ({ cls := "DownRopeModel", name := "leftIn", desc := "(I)I" } : Jvm.MethodName)) ∈ lw_all := lw_g (lw_at lw_m7 111 rfl) rfl
theorem q1627 : (Jvm.Cond.code ({ cls := "DownRopeModel", name := "leftIn", desc := "(I)I" } : Jvm.MethodName) prog_19_method_47_code (4 : Nat) (Option.some Jvm.ClassFile.FieldType.int)) ∈ lw_all := lw_g (lw_at lw_m7 112 rfl) rfl
theorem q1629 : (Jvm.Cond.instanceMethod ({ cls := "DownRopeModel", name := "dusk", desc := "()I" } : Jvm.MethodName)) ∈ lw_all := lw_g (lw_at lw_m7 114 rfl) rfl
theorem q1630 : (Jvm.Cond.selects "DownRopeModel" ({ cls := "DownRopeModel", name := "dusk", desc := "()I" } : Jvm.MethodName) ({ cls := "DownRopeModel", name := "dusk", desc := "()I" } : Jvm.MethodName)) ∈ lw_all := lw_g (lw_at lw_m7 115 rfl) rfl
theorem q1631 : (Jvm.Cond.code ({ cls := "DownRopeModel", name := "dusk", desc := "()I" } : Jvm.MethodName) prog_19_method_50_code (1 : Nat) (Option.some Jvm.ClassFile.FieldType.int)) ∈ lw_all := lw_g (lw_at lw_m7 116 rfl) rfl
theorem q1633 : (Jvm.Cond.instanceMethod ({ cls := "DownRopeModel", name := "last", desc := "()I" } : Jvm.MethodName)) ∈ lw_all := lw_g (lw_at lw_m7 118 rfl) rfl
theorem q1634 : (Jvm.Cond.selects "DownRopeModel" ({ cls := "DownRopeModel", name := "last", desc := "()I" } : Jvm.MethodName) ({ cls := "DownRopeModel", name := "last", desc := "()I" } : Jvm.MethodName)) ∈ lw_all := lw_g (lw_at lw_m7 119 rfl) rfl
theorem q1635 : (Jvm.Cond.code ({ cls := "DownRopeModel", name := "last", desc := "()I" } : Jvm.MethodName) prog_19_method_55_code (3 : Nat) (Option.some Jvm.ClassFile.FieldType.int)) ∈ lw_all := lw_g (lw_at lw_m7 120 rfl) rfl
theorem q1636 : (Jvm.Cond.methodLink "DownRopeModel" (296 : Nat) ({ cls := "DownRopeModel", name := "mayBeLast", desc := "(I)Z" } : Jvm.MethodName)) ∈ lw_all := lw_g (lw_at lw_m7 121 rfl) rfl
theorem q1637 : (Jvm.Cond.privateMethod ({ cls := "DownRopeModel", name := "mayBeLast", desc := "(I)Z" } : Jvm.MethodName)) ∈ lw_tbl := lw_at lw_m7 122 rfl
theorem q1638 : (Jvm.Cond.instanceMethod ({ cls := "DownRopeModel", name := "mayBeLast", desc := "(I)Z" } : Jvm.MethodName)) ∈ lw_all := lw_g (lw_at lw_m7 123 rfl) rfl
theorem q1639 : (Jvm.Cond.code ({ cls := "DownRopeModel", name := "mayBeLast", desc := "(I)Z" } : Jvm.MethodName) prog_19_method_54_code (7 : Nat) (Option.some Jvm.ClassFile.FieldType.boolean)) ∈ lw_all := lw_g (lw_at lw_m7 124 rfl) rfl
theorem q1640 : (Jvm.Cond.methodLink "DownRopeModel" (293 : Nat) ({ cls := "DownRopeModel", name := "isAlone", desc := "(I)Z" } : Jvm.MethodName)) ∈ lw_all := lw_g (lw_at lw_m7 125 rfl) rfl
theorem q1641 : (Jvm.Cond.privateMethod ({ cls := "DownRopeModel", name := "isAlone", desc := "(I)Z" } : Jvm.MethodName)) ∈ lw_tbl := lw_at lw_m7 126 rfl
theorem q1642 : (Jvm.Cond.instanceMethod ({ cls := "DownRopeModel", name := "isAlone", desc := "(I)Z" } : Jvm.MethodName)) ∈ lw_all := lw_g (lw_at lw_m7 127 rfl) rfl
theorem q1643 : (Jvm.Cond.code ({ cls := "DownRopeModel", name := "isAlone", desc := "(I)Z" } : Jvm.MethodName) prog_19_method_53_code (4 : Nat) (Option.some Jvm.ClassFile.FieldType.boolean)) ∈ lw_all := lw_g (lw_at lw_m7 128 rfl) rfl
theorem q1645 : (Jvm.Cond.instanceMethod ({ cls := "DownRopeModel", name := "traps", desc := "()I" } : Jvm.MethodName)) ∈ lw_all := lw_g (lw_at lw_m7 130 rfl) rfl
theorem q1646 : (Jvm.Cond.selects "DownRopeModel" ({ cls := "DownRopeModel", name := "traps", desc := "()I" } : Jvm.MethodName) ({ cls := "DownRopeModel", name := "traps", desc := "()I" } : Jvm.MethodName)) ∈ lw_all := lw_g (lw_at lw_m7 131 rfl) rfl
theorem q1647 : (Jvm.Cond.code ({ cls := "DownRopeModel", name := "traps", desc := "()I" } : Jvm.MethodName) prog_19_method_56_code (3 : Nat) (Option.some Jvm.ClassFile.FieldType.int)) ∈ lw_all := lw_g (lw_at lw_m7 132 rfl) rfl
theorem q1648 : (Jvm.Cond.methodLink "DownRopeModel" (299 : Nat) ({ cls := "DownRopeModel", name := "findLeads", desc := "()V" } : Jvm.MethodName)) ∈ lw_all := lw_g (lw_at lw_m7 133 rfl) rfl
theorem q1649 : (Jvm.Cond.privateMethod ({ cls := "DownRopeModel", name := "findLeads", desc := "()V" } : Jvm.MethodName)) ∈ lw_tbl := lw_at lw_m7 134 rfl
theorem q1650 : (Jvm.Cond.instanceMethod ({ cls := "DownRopeModel", name := "findLeads", desc := "()V" } : Jvm.MethodName)) ∈ lw_all := lw_g (lw_at lw_m7 135 rfl) rfl
theorem q1651 : (Jvm.Cond.code ({ cls := "DownRopeModel", name := "findLeads", desc := "()V" } : Jvm.MethodName) prog_19_method_51_code (3 : Nat) (Option.none : Option Jvm.ClassFile.FieldType)) ∈ lw_all := lw_g (lw_at lw_m7 136 rfl) rfl
theorem q1652 : (Jvm.Cond.methodLink "DownRopeModel" (290 : Nat) ({ cls := "DownRopeModel", name := "leadsOn", desc := "(I)Z" } : Jvm.MethodName)) ∈ lw_all := lw_g (lw_at lw_m7 137 rfl) rfl
theorem q1653 : (Jvm.Cond.privateMethod ({ cls := "DownRopeModel", name := "leadsOn", desc := "(I)Z" } : Jvm.MethodName)) ∈ lw_tbl := lw_at lw_m7 138 rfl
theorem q1654 : (Jvm.Cond.instanceMethod ({ cls := "DownRopeModel", name := "leadsOn", desc := "(I)Z" } : Jvm.MethodName)) ∈ lw_all := lw_g (lw_at lw_m7 139 rfl) rfl
theorem q1655 : (Jvm.Cond.code ({ cls := "DownRopeModel", name := "leadsOn", desc := "(I)Z" } : Jvm.MethodName) prog_19_method_52_code (3 : Nat) (Option.some Jvm.ClassFile.FieldType.boolean)) ∈ lw_all := lw_g (lw_at lw_m7 140 rfl) rfl
theorem q1657 : (Jvm.Cond.instanceMethod ({ cls := "DownRopeModel", name := "lost", desc := "(I)I" } : Jvm.MethodName)) ∈ lw_all := lw_g (lw_at lw_m7 142 rfl) rfl
theorem q1658 : (Jvm.Cond.selects "DownRopeModel" ({ cls := "DownRopeModel", name := "lost", desc := "(I)I" } : Jvm.MethodName) ({ cls := "DownRopeModel", name := "lost", desc := "(I)I" } : Jvm.MethodName)) ∈ lw_all := lw_g (lw_at lw_m7 143 rfl) rfl
theorem q1659 : (Jvm.Cond.code ({ cls := "DownRopeModel", name := "lost", desc := "(I)I" } : Jvm.MethodName) prog_19_method_57_code (6 : Nat) (Option.some Jvm.ClassFile.FieldType.int)) ∈ lw_all := lw_g (lw_at lw_m7 144 rfl) rfl
theorem q1660 : (Jvm.Cond.methodLink "DownRopeModel" (302 : Nat) ({ cls := "DownRopeModel", name := "judge", desc := "(II)I" } : Jvm.MethodName)) ∈ lw_all := lw_g (lw_at lw_m7 145 rfl) rfl
theorem q1662 : (Jvm.Cond.instanceMethod ({ cls := "DownRopeModel", name := "feet", desc := "(I)I" } : Jvm.MethodName)) ∈ lw_all := lw_g (lw_at lw_m7 147 rfl) rfl
theorem q1663 : (Jvm.Cond.selects "DownRopeModel" ({ cls := "DownRopeModel", name := "feet", desc := "(I)I" } : Jvm.MethodName) ({ cls := "DownRopeModel", name := "feet", desc := "(I)I" } : Jvm.MethodName)) ∈ lw_all := lw_g (lw_at lw_m7 148 rfl) rfl
theorem q1664 : (Jvm.Cond.code ({ cls := "DownRopeModel", name := "feet", desc := "(I)I" } : Jvm.MethodName) prog_19_method_59_code (6 : Nat) (Option.some Jvm.ClassFile.FieldType.int)) ∈ lw_all := lw_g (lw_at lw_m7 149 rfl) rfl
theorem q1665 : (Jvm.Cond.methodLink "DownRopeModel" (305 : Nat) ({ cls := "DownRopeModel", name := "hasWay", desc := "()Z" } : Jvm.MethodName)) ∈ lw_all := lw_g (lw_at lw_m7 150 rfl) rfl
theorem q1666 : (Jvm.Cond.privateMethod ({ cls := "DownRopeModel", name := "hasWay", desc := "()Z" } : Jvm.MethodName)) ∈ lw_tbl := lw_at lw_m7 151 rfl
theorem q1667 : (Jvm.Cond.instanceMethod ({ cls := "DownRopeModel", name := "hasWay", desc := "()Z" } : Jvm.MethodName)) ∈ lw_all := lw_g (lw_at lw_m7 152 rfl) rfl
theorem q1668 : (Jvm.Cond.code ({ cls := "DownRopeModel", name := "hasWay", desc := "()Z" } : Jvm.MethodName) prog_19_method_58_code (1 : Nat) (Option.some Jvm.ClassFile.FieldType.boolean)) ∈ lw_all := lw_g (lw_at lw_m7 153 rfl) rfl
theorem q1670 : (Jvm.Cond.instanceMethod ({ cls := "DownRopeModel", name := "chance", desc := "()I" } : Jvm.MethodName)) ∈ lw_all := lw_g (lw_at lw_m7 155 rfl) rfl
theorem q1671 : (Jvm.Cond.selects "DownRopeModel" ({ cls := "DownRopeModel", name := "chance", desc := "()I" } : Jvm.MethodName) ({ cls := "DownRopeModel", name := "chance", desc := "()I" } : Jvm.MethodName)) ∈ lw_all := lw_g (lw_at lw_m7 156 rfl) rfl
theorem q1672 : (Jvm.Cond.code ({ cls := "DownRopeModel", name := "chance", desc := "()I" } : Jvm.MethodName) prog_19_method_61_code (4 : Nat) (Option.some Jvm.ClassFile.FieldType.int)) ∈ lw_all := lw_g (lw_at lw_m7 157 rfl) rfl
theorem q1673 : (Jvm.Cond.constant "DownRopeModel" (308 : Nat) (1000000 : Int32)) ∈ lw_all := lw_g (lw_at lw_m7 158 rfl) rfl
theorem q1674 : (Jvm.Cond.methodLink "DownRopeModel" (309 : Nat) ({ cls := "DownRopeModel", name := "bestChance", desc := "(I)I" } : Jvm.MethodName)) ∈ lw_all := lw_g (lw_at lw_m7 159 rfl) rfl
theorem q1675 : (Jvm.Cond.privateMethod ({ cls := "DownRopeModel", name := "bestChance", desc := "(I)I" } : Jvm.MethodName)) ∈ lw_tbl := lw_at lw_m7 160 rfl
theorem q1676 : (Jvm.Cond.instanceMethod ({ cls := "DownRopeModel", name := "bestChance", desc := "(I)I" } : Jvm.MethodName)) ∈ lw_all := lw_g (lw_at lw_m7 161 rfl) rfl
theorem q1677 : (Jvm.Cond.code ({ cls := "DownRopeModel", name := "bestChance", desc := "(I)I" } : Jvm.MethodName) prog_19_method_60_code (5 : Nat) (Option.some Jvm.ClassFile.FieldType.int)) ∈ lw_all := lw_g (lw_at lw_m7 162 rfl) rfl
theorem q1679 : (Jvm.Cond.instanceMethod ({ cls := "DownRopeModel", name := "states", desc := "()I" } : Jvm.MethodName)) ∈ lw_all := lw_g (lw_at lw_m7 164 rfl) rfl
theorem q1680 : (Jvm.Cond.selects "DownRopeModel" ({ cls := "DownRopeModel", name := "states", desc := "()I" } : Jvm.MethodName) ({ cls := "DownRopeModel", name := "states", desc := "()I" } : Jvm.MethodName)) ∈ lw_all := lw_g (lw_at lw_m7 165 rfl) rfl
theorem q1681 : (Jvm.Cond.code ({ cls := "DownRopeModel", name := "states", desc := "()I" } : Jvm.MethodName) prog_19_method_62_code (1 : Nat) (Option.some Jvm.ClassFile.FieldType.int)) ∈ lw_all := lw_g (lw_at lw_m7 166 rfl) rfl
theorem q1683 : (Jvm.Cond.instanceMethod ({ cls := "DownRopeModel", name := "hurt", desc := "(II)I" } : Jvm.MethodName)) ∈ lw_all := lw_g (lw_at lw_m7 168 rfl) rfl
theorem q1684 : (Jvm.Cond.selects "DownRopeModel" ({ cls := "DownRopeModel", name := "hurt", desc := "(II)I" } : Jvm.MethodName) ({ cls := "DownRopeModel", name := "hurt", desc := "(II)I" } : Jvm.MethodName)) ∈ lw_all := lw_g (lw_at lw_m7 169 rfl) rfl
theorem q1685 : (Jvm.Cond.code ({ cls := "DownRopeModel", name := "hurt", desc := "(II)I" } : Jvm.MethodName) prog_19_method_63_code (5 : Nat) (Option.some Jvm.ClassFile.FieldType.int)) ∈ lw_all := lw_g (lw_at lw_m7 170 rfl) rfl
theorem q1686 : (Jvm.Cond.constantLong "DownRopeModel" (312 : Nat) (2 : Int64)) ∈ lw_all := lw_g (lw_at lw_m7 171 rfl) rfl
theorem q1688 : (Jvm.Cond.instanceMethod ({ cls := "DownRopeModel", name := "image", desc := "()I" } : Jvm.MethodName)) ∈ lw_all := lw_g (lw_at lw_m7 173 rfl) rfl
theorem q1689 : (Jvm.Cond.selects "DownRopeModel" ({ cls := "DownRopeModel", name := "image", desc := "()I" } : Jvm.MethodName) ({ cls := "DownRopeModel", name := "image", desc := "()I" } : Jvm.MethodName)) ∈ lw_all := lw_g (lw_at lw_m7 174 rfl) rfl
theorem q1690 : (Jvm.Cond.code ({ cls := "DownRopeModel", name := "image", desc := "()I" } : Jvm.MethodName) prog_19_method_66_code (1 : Nat) (Option.some Jvm.ClassFile.FieldType.int)) ∈ lw_all := lw_g (lw_at lw_m7 175 rfl) rfl
theorem q1691 : (Jvm.Cond.methodLink "DownRopeModel" (326 : Nat) ({ cls := "DownRopeModel", name := "carryAll", desc := "()V" } : Jvm.MethodName)) ∈ lw_all := lw_g (lw_at lw_m7 176 rfl) rfl
theorem q1692 : (Jvm.Cond.privateMethod ({ cls := "DownRopeModel", name := "carryAll", desc := "()V" } : Jvm.MethodName)) ∈ lw_tbl := lw_at lw_m7 177 rfl
theorem q1693 : (Jvm.Cond.instanceMethod ({ cls := "DownRopeModel", name := "carryAll", desc := "()V" } : Jvm.MethodName)) ∈ lw_all := lw_g (lw_at lw_m7 178 rfl) rfl
theorem q1694 : (Jvm.Cond.code ({ cls := "DownRopeModel", name := "carryAll", desc := "()V" } : Jvm.MethodName) prog_19_method_65_code (2 : Nat) (Option.none : Option Jvm.ClassFile.FieldType)) ∈ lw_all := lw_g (lw_at lw_m7 179 rfl) rfl
theorem q1695 : (Jvm.Cond.methodLink "DownRopeModel" (320 : Nat) ({ cls := "DownRopeModel", name := "carry", desc := "(I)I" } : Jvm.MethodName)) ∈ lw_all := lw_g (lw_at lw_m7 180 rfl) rfl
theorem q1696 : (Jvm.Cond.privateMethod ({ cls := "DownRopeModel", name := "carry", desc := "(I)I" } : Jvm.MethodName)) ∈ lw_tbl := lw_at lw_m7 181 rfl
theorem q1697 : (Jvm.Cond.instanceMethod ({ cls := "DownRopeModel", name := "carry", desc := "(I)I" } : Jvm.MethodName)) ∈ lw_all := lw_g (lw_at lw_m7 182 rfl) rfl
theorem q1698 : (Jvm.Cond.code ({ cls := "DownRopeModel", name := "carry", desc := "(I)I" } : Jvm.MethodName) prog_19_method_64_code (2 : Nat) (Option.some Jvm.ClassFile.FieldType.int)) ∈ lw_all := lw_g (lw_at lw_m7 183 rfl) rfl
theorem q1700 : (Jvm.Cond.instanceMethod ({ cls := "DownRopeModel", name := "restore", desc := "()I" } : Jvm.MethodName)) ∈ lw_all := lw_g (lw_at lw_m7 185 rfl) rfl
theorem q1701 : (Jvm.Cond.selects "DownRopeModel" ({ cls := "DownRopeModel", name := "restore", desc := "()I" } : Jvm.MethodName) ({ cls := "DownRopeModel", name := "restore", desc := "()I" } : Jvm.MethodName)) ∈ lw_all := lw_g (lw_at lw_m7 186 rfl) rfl
theorem q1702 : (Jvm.Cond.code ({ cls := "DownRopeModel", name := "restore", desc := "()I" } : Jvm.MethodName) prog_19_method_67_code (1 : Nat) (Option.some Jvm.ClassFile.FieldType.int)) ∈ lw_all := lw_g (lw_at lw_m7 187 rfl) rfl
theorem q1704 : (Jvm.Cond.instanceMethod ({ cls := "DownRopeModel", name := "count", desc := "(I)I" } : Jvm.MethodName)) ∈ lw_all := lw_g (lw_at lw_m7 189 rfl) rfl
theorem q1705 : (Jvm.Cond.selects "DownRopeModel" ({ cls := "DownRopeModel", name := "count", desc := "(I)I" } : Jvm.MethodName) ({ cls := "DownRopeModel", name := "count", desc := "(I)I" } : Jvm.MethodName)) ∈ lw_all := lw_g (lw_at lw_m7 190 rfl) rfl
theorem q1706 : (Jvm.Cond.code ({ cls := "DownRopeModel", name := "count", desc := "(I)I" } : Jvm.MethodName) prog_19_method_68_code (2 : Nat) (Option.some Jvm.ClassFile.FieldType.int)) ∈ lw_all := lw_g (lw_at lw_m7 191 rfl) rfl
theorem q1708 : (Jvm.Cond.instanceMethod ({ cls := "DownRopeModel", name := "keep", desc := "(III)I" } : Jvm.MethodName)) ∈ lw_all := lw_g (lw_at lw_m7 193 rfl) rfl
theorem q1709 : (Jvm.Cond.selects "DownRopeModel" ({ cls := "DownRopeModel", name := "keep", desc := "(III)I" } : Jvm.MethodName) ({ cls := "DownRopeModel", name := "keep", desc := "(III)I" } : Jvm.MethodName)) ∈ lw_all := lw_g (lw_at lw_m7 194 rfl) rfl
theorem q1710 : (Jvm.Cond.code ({ cls := "DownRopeModel", name := "keep", desc := "(III)I" } : Jvm.MethodName) prog_19_method_69_code (4 : Nat) (Option.some Jvm.ClassFile.FieldType.int)) ∈ lw_all := lw_g (lw_at lw_m7 195 rfl) rfl
theorem q1712 : (Jvm.Cond.instanceMethod ({ cls := "DownRopeModel", name := "row", desc := "(III)I" } : Jvm.MethodName)) ∈ lw_all := lw_g (lw_at lw_m7 197 rfl) rfl
theorem q1713 : (Jvm.Cond.selects "DownRopeModel" ({ cls := "DownRopeModel", name := "row", desc := "(III)I" } : Jvm.MethodName) ({ cls := "DownRopeModel", name := "row", desc := "(III)I" } : Jvm.MethodName)) ∈ lw_all := lw_g (lw_at lw_m7 198 rfl) rfl
theorem q1714 : (Jvm.Cond.code ({ cls := "DownRopeModel", name := "row", desc := "(III)I" } : Jvm.MethodName) prog_19_method_72_code (5 : Nat) (Option.some Jvm.ClassFile.FieldType.int)) ∈ lw_all := lw_g (lw_at lw_m7 199 rfl) rfl
theorem q1716 : (Jvm.Cond.instanceMethod ({ cls := "DownRopeModel", name := "put", desc := "(III)I" } : Jvm.MethodName)) ∈ lw_all := lw_g (lw_at lw_m7 201 rfl) rfl
theorem q1717 : (Jvm.Cond.selects "DownRopeModel" ({ cls := "DownRopeModel", name := "put", desc := "(III)I" } : Jvm.MethodName) ({ cls := "DownRopeModel", name := "put", desc := "(III)I" } : Jvm.MethodName)) ∈ lw_all := lw_g (lw_at lw_m7 202 rfl) rfl
theorem q1718 : (Jvm.Cond.code ({ cls := "DownRopeModel", name := "put", desc := "(III)I" } : Jvm.MethodName) prog_19_method_73_code (5 : Nat) (Option.some Jvm.ClassFile.FieldType.int)) ∈ lw_all := lw_g (lw_at lw_m7 203 rfl) rfl
theorem q1719 : (Jvm.Cond.methodLink "DownRopeModel" (331 : Nat) ({ cls := "DownRopeModel", name := "narrowed", desc := "(II)J" } : Jvm.MethodName)) ∈ lw_all := lw_g (lw_at lw_m7 204 rfl) rfl
theorem q1720 : (Jvm.Cond.static ({ cls := "DownRopeModel", name := "narrowed", desc := "(II)J" } : Jvm.MethodName)) ∈ lw_all := lw_g (lw_at lw_m7 205 rfl) rfl
theorem q1721 : (Jvm.Cond.code ({ cls := "DownRopeModel", name := "narrowed", desc := "(II)J" } : Jvm.MethodName) prog_19_method_71_code (2 : Nat) (Option.some Jvm.ClassFile.FieldType.long)) ∈ lw_all := lw_g (lw_at lw_m7 206 rfl) rfl
theorem q1723 : (Jvm.Cond.instanceMethod ({ cls := "DownRopeModel", name := "element", desc := "(II)J" } : Jvm.MethodName)) ∈ lw_all := lw_g (lw_at lw_m7 208 rfl) rfl
theorem q1724 : (Jvm.Cond.selects "DownRopeModel" ({ cls := "DownRopeModel", name := "element", desc := "(II)J" } : Jvm.MethodName) ({ cls := "DownRopeModel", name := "element", desc := "(II)J" } : Jvm.MethodName)) ∈ lw_all := lw_g (lw_at lw_m7 209 rfl) rfl
theorem q1725 : (Jvm.Cond.code ({ cls := "DownRopeModel", name := "element", desc := "(II)J" } : Jvm.MethodName) prog_19_method_74_code (4 : Nat) (Option.some Jvm.ClassFile.FieldType.long)) ∈ lw_all := lw_g (lw_at lw_m7 210 rfl) rfl
theorem q1727 : (Jvm.Cond.instanceMethod ({ cls := "DownRopeModel", name := "copy", desc := "(IIIII)I" } : Jvm.MethodName)) ∈ lw_all := lw_g (lw_at lw_m7 212 rfl) rfl
theorem q1728 : (Jvm.Cond.selects "DownRopeModel" ({ cls := "DownRopeModel", name := "copy", desc := "(IIIII)I" } : Jvm.MethodName) ({ cls := "DownRopeModel", name := "copy", desc := "(IIIII)I" } : Jvm.MethodName)) ∈ lw_all := lw_g (lw_at lw_m7 213 rfl) rfl
theorem q1729 : (Jvm.Cond.code ({ cls := "DownRopeModel", name := "copy", desc := "(IIIII)I" } : Jvm.MethodName) prog_19_method_75_code (7 : Nat) (Option.some Jvm.ClassFile.FieldType.int)) ∈ lw_all := lw_g (lw_at lw_m7 214 rfl) rfl
theorem q1731 : (Jvm.Cond.instanceMethod ({ cls := "DownRopeModel", name := "effort", desc := "(I)I" } : Jvm.MethodName)) ∈ lw_all := lw_g (lw_at lw_m7 216 rfl) rfl
theorem q1732 : (Jvm.Cond.selects "DownRopeModel" ({ cls := "DownRopeModel", name := "effort", desc := "(I)I" } : Jvm.MethodName) ({ cls := "DownRopeModel", name := "effort", desc := "(I)I" } : Jvm.MethodName)) ∈ lw_all := lw_g (lw_at lw_m7 217 rfl) rfl
theorem q1733 : (Jvm.Cond.code ({ cls := "DownRopeModel", name := "effort", desc := "(I)I" } : Jvm.MethodName) prog_19_method_77_code (6 : Nat) (Option.some Jvm.ClassFile.FieldType.int)) ∈ lw_all := lw_g (lw_at lw_m7 218 rfl) rfl
theorem q1734 : (Jvm.Cond.methodLink "DownRopeModel" (335 : Nat) ({ cls := "DownRopeModel", name := "wrongShelf", desc := "(I)I" } : Jvm.MethodName)) ∈ lw_all := lw_g (lw_at lw_m7 219 rfl) rfl
theorem q1735 : (Jvm.Cond.privateMethod ({ cls := "DownRopeModel", name := "wrongShelf", desc := "(I)I" } : Jvm.MethodName)) ∈ lw_tbl := lw_at lw_m7 220 rfl
theorem q1736 : (Jvm.Cond.instanceMethod ({ cls := "DownRopeModel", name := "wrongShelf", desc := "(I)I" } : Jvm.MethodName)) ∈ lw_all := lw_g (lw_at lw_m7 221 rfl) rfl
theorem q1737 : (Jvm.Cond.code ({ cls := "DownRopeModel", name := "wrongShelf", desc := "(I)I" } : Jvm.MethodName) prog_19_method_76_code (2 : Nat) (Option.some Jvm.ClassFile.FieldType.int)) ∈ lw_all := lw_g (lw_at lw_m7 222 rfl) rfl
theorem q1739 : (Jvm.Cond.instanceMethod ({ cls := "DownRopeModel", name := "toss", desc := "(I)I" } : Jvm.MethodName)) ∈ lw_all := lw_g (lw_at lw_m7 224 rfl) rfl
theorem q1740 : (Jvm.Cond.selects "DownRopeModel" ({ cls := "DownRopeModel", name := "toss", desc := "(I)I" } : Jvm.MethodName) ({ cls := "DownRopeModel", name := "toss", desc := "(I)I" } : Jvm.MethodName)) ∈ lw_all := lw_g (lw_at lw_m7 225 rfl) rfl
theorem q1741 : (Jvm.Cond.code ({ cls := "DownRopeModel", name := "toss", desc := "(I)I" } : Jvm.MethodName) prog_19_method_78_code (4 : Nat) (Option.some Jvm.ClassFile.FieldType.int)) ∈ lw_all := lw_g (lw_at lw_m7 226 rfl) rfl
theorem q1742 : (Jvm.Cond.constant "DownRopeModel" (338 : Nat) (100000 : Int32)) ∈ lw_all := lw_g (lw_at lw_m7 227 rfl) rfl
theorem q1743 : (Jvm.Cond.constant "DownRopeModel" (339 : Nat) (200000 : Int32)) ∈ lw_all := lw_g (lw_at lw_m7 228 rfl) rfl
theorem in_X12 : ∀ w ∈ wsX120, w ∈ lw_all := lw_in wsX120 [1317, 1319, 1321, 1323, 1325, 1327, 1329, 1331, 1333, 1335, 1337, 1339, 1341, 1343, 1345, 1347, 1349, 1351, 1353, 1355, 1357, 1359, 1361, 1363, 1365, 1367, 1369, 1371, 1373, 1375, 1377, 1379, 1381, 1383, 1385, 1387, 1389, 1391, 1393, 1395, 1397, 1399, 1401, 1403, 1405, 1407, 1409, 1411, 1413, 1415, 1417, 1419] (by decide +kernel) (by decide +kernel)
