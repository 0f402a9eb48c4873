/-! DownRope -/
set_option maxRecDepth 100000
def RX1 : String := "DownRope"
def TX1 : u_T := fun k => match k with
  | 0 => ("DownRope", "now", "LDownRope$Face;", true)
  | 1 => ("DownRope", "tried", "LDownRope$Face;", true)
  | 2 => ("DownRope", "image", "LDownRope$Face;", true)
  | 3 => ("DownRope", "hasImage", "Z", false)
  | 4 => ("DownRope", "kinds", "[LDownRope$Move;", true)
  | 5 => ("DownRope", "list", "[I", true)
  | 6 => ("DownRope", "listMinutes", "[I", true)
  | 7 => ("DownRope", "listMany", "I", false)
  | 8 => ("DownRope", "spot", "LDownRope$Spot;", true)
  | 9 => ("DownRope", "spotMinutes", "I", false)
  | 10 => ("DownRope", "minutesTo", "[I", true)
  | 11 => ("DownRope", "met", "[I", true)
  | 12 => ("DownRope", "metMany", "I", false)
  | 13 => ("DownRope", "isQueued", "[Z", true)
  | 14 => ("DownRope", "queue", "[I", true)
  | 15 => ("DownRope", "there", "LDownRope$Spot;", true)
  | 16 => ("DownRope", "then", "LDownRope$Spot;", true)
  | 17 => ("DownRope", "leastLeft", "I", false)
  | 18 => ("DownRope", "isGood", "[Z", true)
  | 19 => ("DownRope", "sure", "[I", true)
  | _ => ("DownRope", "shelves", "[LDownRope$Shelf;", true)
def tyX1 : Nat → FieldType := fun k => match k with
  | 0 => .object "DownRope$Face"
  | 1 => .object "DownRope$Face"
  | 2 => .object "DownRope$Face"
  | 3 => .boolean
  | 4 => .array (.object "DownRope$Move")
  | 5 => .array .int
  | 6 => .array .int
  | 7 => .int
  | 8 => .object "DownRope$Spot"
  | 9 => .int
  | 10 => .array .int
  | 11 => .array .int
  | 12 => .int
  | 13 => .array .boolean
  | 14 => .array .int
  | 15 => .object "DownRope$Spot"
  | 16 => .object "DownRope$Spot"
  | 17 => .int
  | 18 => .array .boolean
  | 19 => .array .int
  | _ => .array (.object "DownRope$Shelf")
abbrev wsX10 : List Cond := u_ws RX1 TX1 21
set_option maxRecDepth 100000 in
theorem nmX1 : ∀ a, a < 21 → ∀ b, b < 21 → a ≠ b → (TX1 a).2.1 ≠ (TX1 b).2.1 := by decide +kernel
set_option maxRecDepth 100000 in
theorem tyX1_ok : ∀ k, k < 21 → parseFieldDescriptor (TX1 k).2.2.1 = some (tyX1 k) := by decide +kernel
abbrev cX1_face : ByteArray := prog_1_method_14_code
def yX1_face : MethodName := ⟨RX1, "face", "(I)I"⟩
def dkwX1_face_5 : List UInt8 := [17, 252, 24, 45, 180, 0, 173, 104, 45, 180, 0, 176, 100, 172]
abbrev dktX1_face_5 : List UInt8 := dkwX1_face_5 ++ []
def dkwX1_face_4 : List UInt8 := [180, 0, 1, 3, 181, 0, 170, 45, 180, 0, 155, 172, 78, 42, 180, 0, 1, 42, 180, 0, 140, 182, 0, 143]
abbrev dktX1_face_4 : List UInt8 := dkwX1_face_4 ++ dktX1_face_5
def dkwX1_face_3 : List UInt8 := [187, 0, 162, 89, 5, 45, 180, 0, 164, 21, 4, 46, 183, 0, 167, 191, 132, 4, 1, 167, 255, 218, 42]
abbrev dktX1_face_3 : List UInt8 := dkwX1_face_3 ++ dktX1_face_4
def dkwX1_face_2 : List UInt8 := [3, 54, 4, 21, 4, 45, 180, 0, 155, 162, 0, 35, 42, 45, 21, 4, 182, 0, 158, 154, 0, 19]
abbrev dktX1_face_2 : List UInt8 := dkwX1_face_2 ++ dktX1_face_3
def dkwX1_face_1 : List UInt8 := [187, 0, 90, 89, 42, 180, 0, 122, 27, 50, 180, 0, 126, 192, 0, 147, 183, 0, 149, 78, 45, 182, 0, 152]
abbrev dktX1_face_1 : List UInt8 := dkwX1_face_1 ++ dktX1_face_2
def dkwX1_face_0 : List UInt8 := [42, 27, 3, 182, 0, 136, 61, 28, 153, 0, 5, 28, 172, 42, 180, 0, 140, 42, 180, 0, 1, 182, 0, 143]
abbrev dktX1_face_0 : List UInt8 := dkwX1_face_0 ++ dktX1_face_1
theorem dksX1_face_0 : cX1_face.data.toList.drop 0 = dktX1_face_0 := by decide +kernel
theorem dksX1_face_1 : cX1_face.data.toList.drop 24 = dktX1_face_1 := dk_seg dksX1_face_0 24 rfl rfl
theorem dksX1_face_2 : cX1_face.data.toList.drop 48 = dktX1_face_2 := dk_seg dksX1_face_1 24 rfl rfl
theorem dksX1_face_3 : cX1_face.data.toList.drop 70 = dktX1_face_3 := dk_seg dksX1_face_2 22 rfl rfl
theorem dksX1_face_4 : cX1_face.data.toList.drop 93 = dktX1_face_4 := dk_seg dksX1_face_3 23 rfl rfl
theorem dksX1_face_5 : cX1_face.data.toList.drop 117 = dktX1_face_5 := dk_seg dksX1_face_4 24 rfl rfl
theorem dX1_face_0 : decode cX1_face 0 = .ok (.aload_n 0, 1) := dk_42 (dk_at dksX1_face_0 0 rfl rfl)
theorem dX1_face_1 : decode cX1_face 1 = .ok (.iload_n 1, 1) := dk_27 (dk_at dksX1_face_0 1 rfl rfl)
theorem dX1_face_2 : decode cX1_face 2 = .ok (.iconst 0, 1) := dk_3 (dk_at dksX1_face_0 2 rfl rfl)
theorem dX1_face_3 : decode cX1_face 3 = .ok (.invokevirtual 136, 3) := dk_182 0 136 (dk_at dksX1_face_0 3 rfl rfl)
theorem dX1_face_6 : decode cX1_face 6 = .ok (.istore_n 2, 1) := dk_61 (dk_at dksX1_face_0 6 rfl rfl)
theorem dX1_face_7 : decode cX1_face 7 = .ok (.iload_n 2, 1) := dk_28 (dk_at dksX1_face_0 7 rfl rfl)
theorem dX1_face_8 : decode cX1_face 8 = .ok (.ifCond .eq 5, 3) := dk_153 0 5 (dk_at dksX1_face_0 8 rfl rfl)
theorem dX1_face_11 : decode cX1_face 11 = .ok (.iload_n 2, 1) := dk_28 (dk_at dksX1_face_0 11 rfl rfl)
theorem dX1_face_12 : decode cX1_face 12 = .ok (.ireturn, 1) := dk_172 (dk_at dksX1_face_0 12 rfl rfl)
theorem dX1_face_13 : decode cX1_face 13 = .ok (.aload_n 0, 1) := dk_42 (dk_at dksX1_face_0 13 rfl rfl)
theorem dX1_face_14 : decode cX1_face 14 = .ok (.getfield 140, 3) := dk_180 0 140 (dk_at dksX1_face_0 14 rfl rfl)
theorem dX1_face_17 : decode cX1_face 17 = .ok (.aload_n 0, 1) := dk_42 (dk_at dksX1_face_0 17 rfl rfl)
theorem dX1_face_18 : decode cX1_face 18 = .ok (.getfield 1, 3) := dk_180 0 1 (dk_at dksX1_face_0 18 rfl rfl)
theorem dX1_face_21 : decode cX1_face 21 = .ok (.invokevirtual 143, 3) := dk_182 0 143 (dk_at dksX1_face_0 21 rfl rfl)
theorem dX1_face_24 : decode cX1_face 24 = .ok (.new 90, 3) := dk_187 0 90 (dk_at dksX1_face_1 0 rfl rfl)
theorem dX1_face_27 : decode cX1_face 27 = .ok (.dup, 1) := dk_89 (dk_at dksX1_face_1 3 rfl rfl)
theorem dX1_face_28 : decode cX1_face 28 = .ok (.aload_n 0, 1) := dk_42 (dk_at dksX1_face_1 4 rfl rfl)
theorem dX1_face_29 : decode cX1_face 29 = .ok (.getfield 122, 3) := dk_180 0 122 (dk_at dksX1_face_1 5 rfl rfl)
theorem dX1_face_32 : decode cX1_face 32 = .ok (.iload_n 1, 1) := dk_27 (dk_at dksX1_face_1 8 rfl rfl)
theorem dX1_face_33 : decode cX1_face 33 = .ok (.aaload, 1) := dk_50 (dk_at dksX1_face_1 9 rfl rfl)
theorem dX1_face_34 : decode cX1_face 34 = .ok (.getfield 126, 3) := dk_180 0 126 (dk_at dksX1_face_1 10 rfl rfl)
theorem dX1_face_37 : decode cX1_face 37 = .ok (.checkcast 147, 3) := dk_192 0 147 (dk_at dksX1_face_1 13 rfl rfl)
theorem dX1_face_40 : decode cX1_face 40 = .ok (.invokespecial 149, 3) := dk_183 0 149 (dk_at dksX1_face_1 16 rfl rfl)
theorem dX1_face_43 : decode cX1_face 43 = .ok (.astore_n 3, 1) := dk_78 (dk_at dksX1_face_1 19 rfl rfl)
theorem dX1_face_44 : decode cX1_face 44 = .ok (.aload_n 3, 1) := dk_45 (dk_at dksX1_face_1 20 rfl rfl)
theorem dX1_face_45 : decode cX1_face 45 = .ok (.invokevirtual 152, 3) := dk_182 0 152 (dk_at dksX1_face_1 21 rfl rfl)
theorem dX1_face_48 : decode cX1_face 48 = .ok (.iconst 0, 1) := dk_3 (dk_at dksX1_face_2 0 rfl rfl)
theorem dX1_face_49 : decode cX1_face 49 = .ok (.istore 4, 2) := dk_54 4 (dk_at dksX1_face_2 1 rfl rfl)
theorem dX1_face_51 : decode cX1_face 51 = .ok (.iload 4, 2) := dk_21 4 (dk_at dksX1_face_2 3 rfl rfl)
theorem dX1_face_53 : decode cX1_face 53 = .ok (.aload_n 3, 1) := dk_45 (dk_at dksX1_face_2 5 rfl rfl)
theorem dX1_face_54 : decode cX1_face 54 = .ok (.getfield 155, 3) := dk_180 0 155 (dk_at dksX1_face_2 6 rfl rfl)
theorem dX1_face_57 : decode cX1_face 57 = .ok (.if_icmp .ge 35, 3) := dk_162 0 35 (dk_at dksX1_face_2 9 rfl rfl)
theorem dX1_face_60 : decode cX1_face 60 = .ok (.aload_n 0, 1) := dk_42 (dk_at dksX1_face_2 12 rfl rfl)
theorem dX1_face_61 : decode cX1_face 61 = .ok (.aload_n 3, 1) := dk_45 (dk_at dksX1_face_2 13 rfl rfl)
theorem dX1_face_62 : decode cX1_face 62 = .ok (.iload 4, 2) := dk_21 4 (dk_at dksX1_face_2 14 rfl rfl)
theorem dX1_face_64 : decode cX1_face 64 = .ok (.invokevirtual 158, 3) := dk_182 0 158 (dk_at dksX1_face_2 16 rfl rfl)
theorem dX1_face_67 : decode cX1_face 67 = .ok (.ifCond .ne 19, 3) := dk_154 0 19 (dk_at dksX1_face_2 19 rfl rfl)
theorem dX1_face_70 : decode cX1_face 70 = .ok (.new 162, 3) := dk_187 0 162 (dk_at dksX1_face_3 0 rfl rfl)
theorem dX1_face_73 : decode cX1_face 73 = .ok (.dup, 1) := dk_89 (dk_at dksX1_face_3 3 rfl rfl)
theorem dX1_face_74 : decode cX1_face 74 = .ok (.iconst 2, 1) := dk_5 (dk_at dksX1_face_3 4 rfl rfl)
theorem dX1_face_75 : decode cX1_face 75 = .ok (.aload_n 3, 1) := dk_45 (dk_at dksX1_face_3 5 rfl rfl)
theorem dX1_face_76 : decode cX1_face 76 = .ok (.getfield 164, 3) := dk_180 0 164 (dk_at dksX1_face_3 6 rfl rfl)
theorem dX1_face_79 : decode cX1_face 79 = .ok (.iload 4, 2) := dk_21 4 (dk_at dksX1_face_3 9 rfl rfl)
theorem dX1_face_81 : decode cX1_face 81 = .ok (.iaload, 1) := dk_46 (dk_at dksX1_face_3 11 rfl rfl)
theorem dX1_face_82 : decode cX1_face 82 = .ok (.invokespecial 167, 3) := dk_183 0 167 (dk_at dksX1_face_3 12 rfl rfl)
theorem dX1_face_85 : decode cX1_face 85 = .ok (.athrow, 1) := dk_191 (dk_at dksX1_face_3 15 rfl rfl)
theorem dX1_face_86 : decode cX1_face 86 = .ok (.iinc 4 1, 3) := dk_132 4 1 (dk_at dksX1_face_3 16 rfl rfl)
theorem dX1_face_89 : decode cX1_face 89 = .ok (.goto (-38), 3) := dk_167 255 218 (dk_at dksX1_face_3 19 rfl rfl)
theorem dX1_face_92 : decode cX1_face 92 = .ok (.aload_n 0, 1) := dk_42 (dk_at dksX1_face_3 22 rfl rfl)
theorem dX1_face_93 : decode cX1_face 93 = .ok (.getfield 1, 3) := dk_180 0 1 (dk_at dksX1_face_4 0 rfl rfl)
theorem dX1_face_96 : decode cX1_face 96 = .ok (.iconst 0, 1) := dk_3 (dk_at dksX1_face_4 3 rfl rfl)
theorem dX1_face_97 : decode cX1_face 97 = .ok (.putfield 170, 3) := dk_181 0 170 (dk_at dksX1_face_4 4 rfl rfl)
theorem dX1_face_100 : decode cX1_face 100 = .ok (.aload_n 3, 1) := dk_45 (dk_at dksX1_face_4 7 rfl rfl)
theorem dX1_face_101 : decode cX1_face 101 = .ok (.getfield 155, 3) := dk_180 0 155 (dk_at dksX1_face_4 8 rfl rfl)
theorem dX1_face_104 : decode cX1_face 104 = .ok (.ireturn, 1) := dk_172 (dk_at dksX1_face_4 11 rfl rfl)
theorem dX1_face_105 : decode cX1_face 105 = .ok (.astore_n 3, 1) := dk_78 (dk_at dksX1_face_4 12 rfl rfl)
theorem dX1_face_106 : decode cX1_face 106 = .ok (.aload_n 0, 1) := dk_42 (dk_at dksX1_face_4 13 rfl rfl)
theorem dX1_face_107 : decode cX1_face 107 = .ok (.getfield 1, 3) := dk_180 0 1 (dk_at dksX1_face_4 14 rfl rfl)
theorem dX1_face_110 : decode cX1_face 110 = .ok (.aload_n 0, 1) := dk_42 (dk_at dksX1_face_4 17 rfl rfl)
theorem dX1_face_111 : decode cX1_face 111 = .ok (.getfield 140, 3) := dk_180 0 140 (dk_at dksX1_face_4 18 rfl rfl)
theorem dX1_face_114 : decode cX1_face 114 = .ok (.invokevirtual 143, 3) := dk_182 0 143 (dk_at dksX1_face_4 21 rfl rfl)
theorem dX1_face_117 : decode cX1_face 117 = .ok (.sipush (-1000), 3) := dk_17 252 24 (dk_at dksX1_face_5 0 rfl rfl)
theorem dX1_face_120 : decode cX1_face 120 = .ok (.aload_n 3, 1) := dk_45 (dk_at dksX1_face_5 3 rfl rfl)
theorem dX1_face_121 : decode cX1_face 121 = .ok (.getfield 173, 3) := dk_180 0 173 (dk_at dksX1_face_5 4 rfl rfl)
theorem dX1_face_124 : decode cX1_face 124 = .ok (.imul, 1) := dk_104 (dk_at dksX1_face_5 7 rfl rfl)
theorem dX1_face_125 : decode cX1_face 125 = .ok (.aload_n 3, 1) := dk_45 (dk_at dksX1_face_5 8 rfl rfl)
theorem dX1_face_126 : decode cX1_face 126 = .ok (.getfield 176, 3) := dk_180 0 176 (dk_at dksX1_face_5 9 rfl rfl)
theorem dX1_face_129 : decode cX1_face 129 = .ok (.isub, 1) := dk_100 (dk_at dksX1_face_5 12 rfl rfl)
theorem dX1_face_130 : decode cX1_face 130 = .ok (.ireturn, 1) := dk_172 (dk_at dksX1_face_5 13 rfl rfl)
abbrev cX1_notRow : ByteArray := prog_1_method_13_code
def yX1_notRow : MethodName := ⟨RX1, "notRow", "(II)I"⟩
def dkwX1_notRow_1 : List UInt8 := [16, 245, 167, 0, 17, 45, 184, 0, 132, 28, 160, 0, 7, 3, 167, 0, 5, 16, 244, 172]
abbrev dktX1_notRow_1 : List UInt8 := dkwX1_notRow_1 ++ []
def dkwX1_notRow_0 : List UInt8 := [27, 184, 0, 119, 154, 0, 5, 2, 172, 42, 180, 0, 122, 27, 50, 180, 0, 126, 78, 45, 199, 0, 8]
abbrev dktX1_notRow_0 : List UInt8 := dkwX1_notRow_0 ++ dktX1_notRow_1
theorem dksX1_notRow_0 : cX1_notRow.data.toList.drop 0 = dktX1_notRow_0 := by decide +kernel
theorem dksX1_notRow_1 : cX1_notRow.data.toList.drop 23 = dktX1_notRow_1 := dk_seg dksX1_notRow_0 23 rfl rfl
theorem dX1_notRow_0 : decode cX1_notRow 0 = .ok (.iload_n 1, 1) := dk_27 (dk_at dksX1_notRow_0 0 rfl rfl)
theorem dX1_notRow_1 : decode cX1_notRow 1 = .ok (.invokestatic 119, 3) := dk_184 0 119 (dk_at dksX1_notRow_0 1 rfl rfl)
theorem dX1_notRow_4 : decode cX1_notRow 4 = .ok (.ifCond .ne 5, 3) := dk_154 0 5 (dk_at dksX1_notRow_0 4 rfl rfl)
theorem dX1_notRow_7 : decode cX1_notRow 7 = .ok (.iconst (-1), 1) := dk_2 (dk_at dksX1_notRow_0 7 rfl rfl)
theorem dX1_notRow_8 : decode cX1_notRow 8 = .ok (.ireturn, 1) := dk_172 (dk_at dksX1_notRow_0 8 rfl rfl)
theorem dX1_notRow_9 : decode cX1_notRow 9 = .ok (.aload_n 0, 1) := dk_42 (dk_at dksX1_notRow_0 9 rfl rfl)
theorem dX1_notRow_10 : decode cX1_notRow 10 = .ok (.getfield 122, 3) := dk_180 0 122 (dk_at dksX1_notRow_0 10 rfl rfl)
theorem dX1_notRow_13 : decode cX1_notRow 13 = .ok (.iload_n 1, 1) := dk_27 (dk_at dksX1_notRow_0 13 rfl rfl)
theorem dX1_notRow_14 : decode cX1_notRow 14 = .ok (.aaload, 1) := dk_50 (dk_at dksX1_notRow_0 14 rfl rfl)
theorem dX1_notRow_15 : decode cX1_notRow 15 = .ok (.getfield 126, 3) := dk_180 0 126 (dk_at dksX1_notRow_0 15 rfl rfl)
theorem dX1_notRow_18 : decode cX1_notRow 18 = .ok (.astore_n 3, 1) := dk_78 (dk_at dksX1_notRow_0 18 rfl rfl)
theorem dX1_notRow_19 : decode cX1_notRow 19 = .ok (.aload_n 3, 1) := dk_45 (dk_at dksX1_notRow_0 19 rfl rfl)
theorem dX1_notRow_20 : decode cX1_notRow 20 = .ok (.ifnonnull 8, 3) := dk_199 0 8 (dk_at dksX1_notRow_0 20 rfl rfl)
theorem dX1_notRow_23 : decode cX1_notRow 23 = .ok (.bipush (-11), 2) := dk_16 245 (dk_at dksX1_notRow_1 0 rfl rfl)
theorem dX1_notRow_25 : decode cX1_notRow 25 = .ok (.goto 17, 3) := dk_167 0 17 (dk_at dksX1_notRow_1 2 rfl rfl)
theorem dX1_notRow_28 : decode cX1_notRow 28 = .ok (.aload_n 3, 1) := dk_45 (dk_at dksX1_notRow_1 5 rfl rfl)
theorem dX1_notRow_29 : decode cX1_notRow 29 = .ok (.invokestatic 132, 3) := dk_184 0 132 (dk_at dksX1_notRow_1 6 rfl rfl)
theorem dX1_notRow_32 : decode cX1_notRow 32 = .ok (.iload_n 2, 1) := dk_28 (dk_at dksX1_notRow_1 9 rfl rfl)
theorem dX1_notRow_33 : decode cX1_notRow 33 = .ok (.if_icmp .ne 7, 3) := dk_160 0 7 (dk_at dksX1_notRow_1 10 rfl rfl)
theorem dX1_notRow_36 : decode cX1_notRow 36 = .ok (.iconst 0, 1) := dk_3 (dk_at dksX1_notRow_1 13 rfl rfl)
theorem dX1_notRow_37 : decode cX1_notRow 37 = .ok (.goto 5, 3) := dk_167 0 5 (dk_at dksX1_notRow_1 14 rfl rfl)
theorem dX1_notRow_40 : decode cX1_notRow 40 = .ok (.bipush (-12), 2) := dk_16 244 (dk_at dksX1_notRow_1 17 rfl rfl)
theorem dX1_notRow_42 : decode cX1_notRow 42 = .ok (.ireturn, 1) := dk_172 (dk_at dksX1_notRow_1 19 rfl rfl)
abbrev cX1_isShelf : ByteArray := prog_1_method_12_code
def yX1_isShelf : MethodName := ⟨RX1, "isShelf", "(I)Z"⟩
def dkwX1_isShelf_0 : List UInt8 := [26, 3, 16, 7, 184, 0, 13, 172]
abbrev dktX1_isShelf_0 : List UInt8 := dkwX1_isShelf_0 ++ []
theorem dksX1_isShelf_0 : cX1_isShelf.data.toList.drop 0 = dktX1_isShelf_0 := by decide +kernel
theorem dX1_isShelf_0 : decode cX1_isShelf 0 = .ok (.iload_n 0, 1) := dk_26 (dk_at dksX1_isShelf_0 0 rfl rfl)
theorem dX1_isShelf_1 : decode cX1_isShelf 1 = .ok (.iconst 0, 1) := dk_3 (dk_at dksX1_isShelf_0 1 rfl rfl)
theorem dX1_isShelf_2 : decode cX1_isShelf 2 = .ok (.bipush 7, 2) := dk_16 7 (dk_at dksX1_isShelf_0 2 rfl rfl)
theorem dX1_isShelf_4 : decode cX1_isShelf 4 = .ok (.invokestatic 13, 3) := dk_184 0 13 (dk_at dksX1_isShelf_0 4 rfl rfl)
theorem dX1_isShelf_7 : decode cX1_isShelf 7 = .ok (.ireturn, 1) := dk_172 (dk_at dksX1_isShelf_0 7 rfl rfl)
abbrev cX1_isIn : ByteArray := prog_1_method_1_code
def yX1_isIn : MethodName := ⟨RX1, "isIn", "(III)Z"⟩
def dkwX1_isIn_0 : List UInt8 := [26, 27, 161, 0, 12, 26, 28, 163, 0, 7, 4, 167, 0, 4, 3, 172]
abbrev dktX1_isIn_0 : List UInt8 := dkwX1_isIn_0 ++ []
theorem dksX1_isIn_0 : cX1_isIn.data.toList.drop 0 = dktX1_isIn_0 := by decide +kernel
theorem dX1_isIn_0 : decode cX1_isIn 0 = .ok (.iload_n 0, 1) := dk_26 (dk_at dksX1_isIn_0 0 rfl rfl)
theorem dX1_isIn_1 : decode cX1_isIn 1 = .ok (.iload_n 1, 1) := dk_27 (dk_at dksX1_isIn_0 1 rfl rfl)
theorem dX1_isIn_2 : decode cX1_isIn 2 = .ok (.if_icmp .lt 12, 3) := dk_161 0 12 (dk_at dksX1_isIn_0 2 rfl rfl)
theorem dX1_isIn_5 : decode cX1_isIn 5 = .ok (.iload_n 0, 1) := dk_26 (dk_at dksX1_isIn_0 5 rfl rfl)
theorem dX1_isIn_6 : decode cX1_isIn 6 = .ok (.iload_n 2, 1) := dk_28 (dk_at dksX1_isIn_0 6 rfl rfl)
theorem dX1_isIn_7 : decode cX1_isIn 7 = .ok (.if_icmp .gt 7, 3) := dk_163 0 7 (dk_at dksX1_isIn_0 7 rfl rfl)
theorem dX1_isIn_10 : decode cX1_isIn 10 = .ok (.iconst 1, 1) := dk_4 (dk_at dksX1_isIn_0 10 rfl rfl)
theorem dX1_isIn_11 : decode cX1_isIn 11 = .ok (.goto 4, 3) := dk_167 0 4 (dk_at dksX1_isIn_0 11 rfl rfl)
theorem dX1_isIn_14 : decode cX1_isIn 14 = .ok (.iconst 0, 1) := dk_3 (dk_at dksX1_isIn_0 14 rfl rfl)
theorem dX1_isIn_15 : decode cX1_isIn 15 = .ok (.ireturn, 1) := dk_172 (dk_at dksX1_isIn_0 15 rfl rfl)
abbrev cX1_sortOf : ByteArray := prog_1_method_66_code
def yX1_sortOf : MethodName := ⟨RX1, "sortOf", "(Ljava/lang/Object;)I"⟩
def dkwX1_sortOf_1 : List UInt8 := [193, 0, 245, 153, 0, 7, 5, 167, 0, 4, 2, 172]
abbrev dktX1_sortOf_1 : List UInt8 := dkwX1_sortOf_1 ++ []
def dkwX1_sortOf_0 : List UInt8 := [42, 193, 0, 147, 153, 0, 7, 3, 167, 0, 26, 42, 193, 1, 109, 153, 0, 7, 4, 167, 0, 15, 42]
abbrev dktX1_sortOf_0 : List UInt8 := dkwX1_sortOf_0 ++ dktX1_sortOf_1
theorem dksX1_sortOf_0 : cX1_sortOf.data.toList.drop 0 = dktX1_sortOf_0 := by decide +kernel
theorem dksX1_sortOf_1 : cX1_sortOf.data.toList.drop 23 = dktX1_sortOf_1 := dk_seg dksX1_sortOf_0 23 rfl rfl
theorem dX1_sortOf_0 : decode cX1_sortOf 0 = .ok (.aload_n 0, 1) := dk_42 (dk_at dksX1_sortOf_0 0 rfl rfl)
theorem dX1_sortOf_1 : decode cX1_sortOf 1 = .ok (.instanceof 147, 3) := dk_193 0 147 (dk_at dksX1_sortOf_0 1 rfl rfl)
theorem dX1_sortOf_4 : decode cX1_sortOf 4 = .ok (.ifCond .eq 7, 3) := dk_153 0 7 (dk_at dksX1_sortOf_0 4 rfl rfl)
theorem dX1_sortOf_7 : decode cX1_sortOf 7 = .ok (.iconst 0, 1) := dk_3 (dk_at dksX1_sortOf_0 7 rfl rfl)
theorem dX1_sortOf_8 : decode cX1_sortOf 8 = .ok (.goto 26, 3) := dk_167 0 26 (dk_at dksX1_sortOf_0 8 rfl rfl)
theorem dX1_sortOf_11 : decode cX1_sortOf 11 = .ok (.aload_n 0, 1) := dk_42 (dk_at dksX1_sortOf_0 11 rfl rfl)
theorem dX1_sortOf_12 : decode cX1_sortOf 12 = .ok (.instanceof 365, 3) := dk_193 1 109 (dk_at dksX1_sortOf_0 12 rfl rfl)
theorem dX1_sortOf_15 : decode cX1_sortOf 15 = .ok (.ifCond .eq 7, 3) := dk_153 0 7 (dk_at dksX1_sortOf_0 15 rfl rfl)
theorem dX1_sortOf_18 : decode cX1_sortOf 18 = .ok (.iconst 1, 1) := dk_4 (dk_at dksX1_sortOf_0 18 rfl rfl)
theorem dX1_sortOf_19 : decode cX1_sortOf 19 = .ok (.goto 15, 3) := dk_167 0 15 (dk_at dksX1_sortOf_0 19 rfl rfl)
theorem dX1_sortOf_22 : decode cX1_sortOf 22 = .ok (.aload_n 0, 1) := dk_42 (dk_at dksX1_sortOf_0 22 rfl rfl)
theorem dX1_sortOf_23 : decode cX1_sortOf 23 = .ok (.instanceof 245, 3) := dk_193 0 245 (dk_at dksX1_sortOf_1 0 rfl rfl)
theorem dX1_sortOf_26 : decode cX1_sortOf 26 = .ok (.ifCond .eq 7, 3) := dk_153 0 7 (dk_at dksX1_sortOf_1 3 rfl rfl)
theorem dX1_sortOf_29 : decode cX1_sortOf 29 = .ok (.iconst 2, 1) := dk_5 (dk_at dksX1_sortOf_1 6 rfl rfl)
theorem dX1_sortOf_30 : decode cX1_sortOf 30 = .ok (.goto 4, 3) := dk_167 0 4 (dk_at dksX1_sortOf_1 7 rfl rfl)
theorem dX1_sortOf_33 : decode cX1_sortOf 33 = .ok (.iconst (-1), 1) := dk_2 (dk_at dksX1_sortOf_1 10 rfl rfl)
theorem dX1_sortOf_34 : decode cX1_sortOf 34 = .ok (.ireturn, 1) := dk_172 (dk_at dksX1_sortOf_1 11 rfl rfl)
abbrev cX1_comesAs : ByteArray := prog_1_method_11_code
def yX1_comesAs : MethodName := ⟨RX1, "comesAs", "(LDownRope$Reader;I)Z"⟩
def dkwX1_comesAs_3 : List UInt8 := [42, 45, 182, 0, 112, 172, 42, 3, 45, 3, 46, 182, 0, 115, 172, 42, 4, 45, 3, 46, 182, 0, 115, 172]
abbrev dktX1_comesAs_3 : List UInt8 := dkwX1_comesAs_3 ++ []
def dkwX1_comesAs_2 : List UInt8 := [42, 45, 182, 0, 98, 172, 42, 45, 43, 180, 0, 102, 28, 51, 182, 0, 105, 172, 42, 45, 182, 0, 109, 172]
abbrev dktX1_comesAs_2 : List UInt8 := dkwX1_comesAs_2 ++ dktX1_comesAs_3
def dkwX1_comesAs_1 : List UInt8 := [171, 0, 0, 0, 0, 0, 90, 0, 0, 0, 5, 0, 0, 0, 99, 0, 0, 0, 81, 0, 0, 0, 100, 0, 0, 0, 57, 0, 0, 0, 108, 0, 0, 0, 51, 0, 0, 0, 112, 0, 0, 0, 69, 0, 0, 0, 114, 0, 0, 0, 75]
abbrev dktX1_comesAs_1 : List UInt8 := dkwX1_comesAs_1 ++ dktX1_comesAs_2
def dkwX1_comesAs_0 : List UInt8 := [43, 180, 0, 89, 28, 50, 78, 43, 180, 0, 95, 28, 46]
abbrev dktX1_comesAs_0 : List UInt8 := dkwX1_comesAs_0 ++ dktX1_comesAs_1
theorem dksX1_comesAs_0 : cX1_comesAs.data.toList.drop 0 = dktX1_comesAs_0 := by decide +kernel
theorem dksX1_comesAs_1 : cX1_comesAs.data.toList.drop 13 = dktX1_comesAs_1 := dk_seg dksX1_comesAs_0 13 rfl rfl
theorem dksX1_comesAs_2 : cX1_comesAs.data.toList.drop 64 = dktX1_comesAs_2 := dk_seg dksX1_comesAs_1 51 rfl rfl
theorem dksX1_comesAs_3 : cX1_comesAs.data.toList.drop 88 = dktX1_comesAs_3 := dk_seg dksX1_comesAs_2 24 rfl rfl
theorem dX1_comesAs_0 : decode cX1_comesAs 0 = .ok (.aload_n 1, 1) := dk_43 (dk_at dksX1_comesAs_0 0 rfl rfl)
theorem dX1_comesAs_1 : decode cX1_comesAs 1 = .ok (.getfield 89, 3) := dk_180 0 89 (dk_at dksX1_comesAs_0 1 rfl rfl)
theorem dX1_comesAs_4 : decode cX1_comesAs 4 = .ok (.iload_n 2, 1) := dk_28 (dk_at dksX1_comesAs_0 4 rfl rfl)
theorem dX1_comesAs_5 : decode cX1_comesAs 5 = .ok (.aaload, 1) := dk_50 (dk_at dksX1_comesAs_0 5 rfl rfl)
theorem dX1_comesAs_6 : decode cX1_comesAs 6 = .ok (.astore_n 3, 1) := dk_78 (dk_at dksX1_comesAs_0 6 rfl rfl)
theorem dX1_comesAs_7 : decode cX1_comesAs 7 = .ok (.aload_n 1, 1) := dk_43 (dk_at dksX1_comesAs_0 7 rfl rfl)
theorem dX1_comesAs_8 : decode cX1_comesAs 8 = .ok (.getfield 95, 3) := dk_180 0 95 (dk_at dksX1_comesAs_0 8 rfl rfl)
theorem dX1_comesAs_11 : decode cX1_comesAs 11 = .ok (.iload_n 2, 1) := dk_28 (dk_at dksX1_comesAs_0 11 rfl rfl)
theorem dX1_comesAs_12 : decode cX1_comesAs 12 = .ok (.iaload, 1) := dk_46 (dk_at dksX1_comesAs_0 12 rfl rfl)
theorem dX1_comesAs_13 : decode cX1_comesAs 13 = .ok (.lookupswitch 90 #[(99, 81), (100, 57), (108, 51), (112, 69), (114, 75)], 51) := by decide +kernel
theorem dX1_comesAs_64 : decode cX1_comesAs 64 = .ok (.aload_n 0, 1) := dk_42 (dk_at dksX1_comesAs_2 0 rfl rfl)
theorem dX1_comesAs_65 : decode cX1_comesAs 65 = .ok (.aload_n 3, 1) := dk_45 (dk_at dksX1_comesAs_2 1 rfl rfl)
theorem dX1_comesAs_66 : decode cX1_comesAs 66 = .ok (.invokevirtual 98, 3) := dk_182 0 98 (dk_at dksX1_comesAs_2 2 rfl rfl)
theorem dX1_comesAs_69 : decode cX1_comesAs 69 = .ok (.ireturn, 1) := dk_172 (dk_at dksX1_comesAs_2 5 rfl rfl)
theorem dX1_comesAs_70 : decode cX1_comesAs 70 = .ok (.aload_n 0, 1) := dk_42 (dk_at dksX1_comesAs_2 6 rfl rfl)
theorem dX1_comesAs_71 : decode cX1_comesAs 71 = .ok (.aload_n 3, 1) := dk_45 (dk_at dksX1_comesAs_2 7 rfl rfl)
theorem dX1_comesAs_72 : decode cX1_comesAs 72 = .ok (.aload_n 1, 1) := dk_43 (dk_at dksX1_comesAs_2 8 rfl rfl)
theorem dX1_comesAs_73 : decode cX1_comesAs 73 = .ok (.getfield 102, 3) := dk_180 0 102 (dk_at dksX1_comesAs_2 9 rfl rfl)
theorem dX1_comesAs_76 : decode cX1_comesAs 76 = .ok (.iload_n 2, 1) := dk_28 (dk_at dksX1_comesAs_2 12 rfl rfl)
theorem dX1_comesAs_77 : decode cX1_comesAs 77 = .ok (.baload, 1) := dk_51 (dk_at dksX1_comesAs_2 13 rfl rfl)
theorem dX1_comesAs_78 : decode cX1_comesAs 78 = .ok (.invokevirtual 105, 3) := dk_182 0 105 (dk_at dksX1_comesAs_2 14 rfl rfl)
theorem dX1_comesAs_81 : decode cX1_comesAs 81 = .ok (.ireturn, 1) := dk_172 (dk_at dksX1_comesAs_2 17 rfl rfl)
theorem dX1_comesAs_82 : decode cX1_comesAs 82 = .ok (.aload_n 0, 1) := dk_42 (dk_at dksX1_comesAs_2 18 rfl rfl)
theorem dX1_comesAs_83 : decode cX1_comesAs 83 = .ok (.aload_n 3, 1) := dk_45 (dk_at dksX1_comesAs_2 19 rfl rfl)
theorem dX1_comesAs_84 : decode cX1_comesAs 84 = .ok (.invokevirtual 109, 3) := dk_182 0 109 (dk_at dksX1_comesAs_2 20 rfl rfl)
theorem dX1_comesAs_87 : decode cX1_comesAs 87 = .ok (.ireturn, 1) := dk_172 (dk_at dksX1_comesAs_2 23 rfl rfl)
theorem dX1_comesAs_88 : decode cX1_comesAs 88 = .ok (.aload_n 0, 1) := dk_42 (dk_at dksX1_comesAs_3 0 rfl rfl)
theorem dX1_comesAs_89 : decode cX1_comesAs 89 = .ok (.aload_n 3, 1) := dk_45 (dk_at dksX1_comesAs_3 1 rfl rfl)
theorem dX1_comesAs_90 : decode cX1_comesAs 90 = .ok (.invokevirtual 112, 3) := dk_182 0 112 (dk_at dksX1_comesAs_3 2 rfl rfl)
theorem dX1_comesAs_93 : decode cX1_comesAs 93 = .ok (.ireturn, 1) := dk_172 (dk_at dksX1_comesAs_3 5 rfl rfl)
theorem dX1_comesAs_94 : decode cX1_comesAs 94 = .ok (.aload_n 0, 1) := dk_42 (dk_at dksX1_comesAs_3 6 rfl rfl)
theorem dX1_comesAs_95 : decode cX1_comesAs 95 = .ok (.iconst 0, 1) := dk_3 (dk_at dksX1_comesAs_3 7 rfl rfl)
theorem dX1_comesAs_96 : decode cX1_comesAs 96 = .ok (.aload_n 3, 1) := dk_45 (dk_at dksX1_comesAs_3 8 rfl rfl)
theorem dX1_comesAs_97 : decode cX1_comesAs 97 = .ok (.iconst 0, 1) := dk_3 (dk_at dksX1_comesAs_3 9 rfl rfl)
theorem dX1_comesAs_98 : decode cX1_comesAs 98 = .ok (.iaload, 1) := dk_46 (dk_at dksX1_comesAs_3 10 rfl rfl)
theorem dX1_comesAs_99 : decode cX1_comesAs 99 = .ok (.invokevirtual 115, 3) := dk_182 0 115 (dk_at dksX1_comesAs_3 11 rfl rfl)
theorem dX1_comesAs_102 : decode cX1_comesAs 102 = .ok (.ireturn, 1) := dk_172 (dk_at dksX1_comesAs_3 14 rfl rfl)
theorem dX1_comesAs_103 : decode cX1_comesAs 103 = .ok (.aload_n 0, 1) := dk_42 (dk_at dksX1_comesAs_3 15 rfl rfl)
theorem dX1_comesAs_104 : decode cX1_comesAs 104 = .ok (.iconst 1, 1) := dk_4 (dk_at dksX1_comesAs_3 16 rfl rfl)
theorem dX1_comesAs_105 : decode cX1_comesAs 105 = .ok (.aload_n 3, 1) := dk_45 (dk_at dksX1_comesAs_3 17 rfl rfl)
theorem dX1_comesAs_106 : decode cX1_comesAs 106 = .ok (.iconst 0, 1) := dk_3 (dk_at dksX1_comesAs_3 18 rfl rfl)
theorem dX1_comesAs_107 : decode cX1_comesAs 107 = .ok (.iaload, 1) := dk_46 (dk_at dksX1_comesAs_3 19 rfl rfl)
theorem dX1_comesAs_108 : decode cX1_comesAs 108 = .ok (.invokevirtual 115, 3) := dk_182 0 115 (dk_at dksX1_comesAs_3 20 rfl rfl)
theorem dX1_comesAs_111 : decode cX1_comesAs 111 = .ok (.ireturn, 1) := dk_172 (dk_at dksX1_comesAs_3 23 rfl rfl)
abbrev cX1_comesLedge : ByteArray := prog_1_method_6_code
def yX1_comesLedge : MethodName := ⟨RX1, "comesLedge", "([I)Z"⟩
def dkwX1_comesLedge_4 : List UInt8 := [84, 42, 180, 0, 1, 89, 180, 0, 44, 4, 96, 181, 0, 44, 4, 172]
abbrev dktX1_comesLedge_4 : List UInt8 := dkwX1_comesLedge_4 ++ []
def dkwX1_comesLedge_3 : List UInt8 := [180, 0, 1, 180, 0, 44, 16, 50, 79, 42, 180, 0, 1, 180, 0, 57, 42, 180, 0, 1, 180, 0, 44, 3]
abbrev dktX1_comesLedge_3 : List UInt8 := dkwX1_comesLedge_3 ++ dktX1_comesLedge_4
def dkwX1_comesLedge_2 : List UInt8 := [180, 0, 51, 42, 180, 0, 1, 180, 0, 44, 43, 4, 46, 79, 42, 180, 0, 1, 180, 0, 54, 42]
abbrev dktX1_comesLedge_2 : List UInt8 := dkwX1_comesLedge_2 ++ dktX1_comesLedge_3
def dkwX1_comesLedge_1 : List UInt8 := [3, 172, 42, 180, 0, 1, 180, 0, 47, 42, 180, 0, 1, 180, 0, 44, 43, 3, 46, 79, 42, 180, 0, 1]
abbrev dktX1_comesLedge_1 : List UInt8 := dkwX1_comesLedge_1 ++ dktX1_comesLedge_2
def dkwX1_comesLedge_0 : List UInt8 := [42, 180, 0, 1, 180, 0, 44, 8, 159, 0, 16, 43, 3, 46, 153, 0, 10, 43, 4, 46, 4, 164, 0, 5]
abbrev dktX1_comesLedge_0 : List UInt8 := dkwX1_comesLedge_0 ++ dktX1_comesLedge_1
theorem dksX1_comesLedge_0 : cX1_comesLedge.data.toList.drop 0 = dktX1_comesLedge_0 := by decide +kernel
theorem dksX1_comesLedge_1 : cX1_comesLedge.data.toList.drop 24 = dktX1_comesLedge_1 := dk_seg dksX1_comesLedge_0 24 rfl rfl
theorem dksX1_comesLedge_2 : cX1_comesLedge.data.toList.drop 48 = dktX1_comesLedge_2 := dk_seg dksX1_comesLedge_1 24 rfl rfl
theorem dksX1_comesLedge_3 : cX1_comesLedge.data.toList.drop 70 = dktX1_comesLedge_3 := dk_seg dksX1_comesLedge_2 22 rfl rfl
theorem dksX1_comesLedge_4 : cX1_comesLedge.data.toList.drop 94 = dktX1_comesLedge_4 := dk_seg dksX1_comesLedge_3 24 rfl rfl
theorem dX1_comesLedge_0 : decode cX1_comesLedge 0 = .ok (.aload_n 0, 1) := dk_42 (dk_at dksX1_comesLedge_0 0 rfl rfl)
theorem dX1_comesLedge_1 : decode cX1_comesLedge 1 = .ok (.getfield 1, 3) := dk_180 0 1 (dk_at dksX1_comesLedge_0 1 rfl rfl)
theorem dX1_comesLedge_4 : decode cX1_comesLedge 4 = .ok (.getfield 44, 3) := dk_180 0 44 (dk_at dksX1_comesLedge_0 4 rfl rfl)
theorem dX1_comesLedge_7 : decode cX1_comesLedge 7 = .ok (.iconst 5, 1) := dk_8 (dk_at dksX1_comesLedge_0 7 rfl rfl)
theorem dX1_comesLedge_8 : decode cX1_comesLedge 8 = .ok (.if_icmp .eq 16, 3) := dk_159 0 16 (dk_at dksX1_comesLedge_0 8 rfl rfl)
theorem dX1_comesLedge_11 : decode cX1_comesLedge 11 = .ok (.aload_n 1, 1) := dk_43 (dk_at dksX1_comesLedge_0 11 rfl rfl)
theorem dX1_comesLedge_12 : decode cX1_comesLedge 12 = .ok (.iconst 0, 1) := dk_3 (dk_at dksX1_comesLedge_0 12 rfl rfl)
theorem dX1_comesLedge_13 : decode cX1_comesLedge 13 = .ok (.iaload, 1) := dk_46 (dk_at dksX1_comesLedge_0 13 rfl rfl)
theorem dX1_comesLedge_14 : decode cX1_comesLedge 14 = .ok (.ifCond .eq 10, 3) := dk_153 0 10 (dk_at dksX1_comesLedge_0 14 rfl rfl)
theorem dX1_comesLedge_17 : decode cX1_comesLedge 17 = .ok (.aload_n 1, 1) := dk_43 (dk_at dksX1_comesLedge_0 17 rfl rfl)
theorem dX1_comesLedge_18 : decode cX1_comesLedge 18 = .ok (.iconst 1, 1) := dk_4 (dk_at dksX1_comesLedge_0 18 rfl rfl)
theorem dX1_comesLedge_19 : decode cX1_comesLedge 19 = .ok (.iaload, 1) := dk_46 (dk_at dksX1_comesLedge_0 19 rfl rfl)
theorem dX1_comesLedge_20 : decode cX1_comesLedge 20 = .ok (.iconst 1, 1) := dk_4 (dk_at dksX1_comesLedge_0 20 rfl rfl)
theorem dX1_comesLedge_21 : decode cX1_comesLedge 21 = .ok (.if_icmp .le 5, 3) := dk_164 0 5 (dk_at dksX1_comesLedge_0 21 rfl rfl)
theorem dX1_comesLedge_24 : decode cX1_comesLedge 24 = .ok (.iconst 0, 1) := dk_3 (dk_at dksX1_comesLedge_1 0 rfl rfl)
theorem dX1_comesLedge_25 : decode cX1_comesLedge 25 = .ok (.ireturn, 1) := dk_172 (dk_at dksX1_comesLedge_1 1 rfl rfl)
theorem dX1_comesLedge_26 : decode cX1_comesLedge 26 = .ok (.aload_n 0, 1) := dk_42 (dk_at dksX1_comesLedge_1 2 rfl rfl)
theorem dX1_comesLedge_27 : decode cX1_comesLedge 27 = .ok (.getfield 1, 3) := dk_180 0 1 (dk_at dksX1_comesLedge_1 3 rfl rfl)
theorem dX1_comesLedge_30 : decode cX1_comesLedge 30 = .ok (.getfield 47, 3) := dk_180 0 47 (dk_at dksX1_comesLedge_1 6 rfl rfl)
theorem dX1_comesLedge_33 : decode cX1_comesLedge 33 = .ok (.aload_n 0, 1) := dk_42 (dk_at dksX1_comesLedge_1 9 rfl rfl)
theorem dX1_comesLedge_34 : decode cX1_comesLedge 34 = .ok (.getfield 1, 3) := dk_180 0 1 (dk_at dksX1_comesLedge_1 10 rfl rfl)
theorem dX1_comesLedge_37 : decode cX1_comesLedge 37 = .ok (.getfield 44, 3) := dk_180 0 44 (dk_at dksX1_comesLedge_1 13 rfl rfl)
theorem dX1_comesLedge_40 : decode cX1_comesLedge 40 = .ok (.aload_n 1, 1) := dk_43 (dk_at dksX1_comesLedge_1 16 rfl rfl)
theorem dX1_comesLedge_41 : decode cX1_comesLedge 41 = .ok (.iconst 0, 1) := dk_3 (dk_at dksX1_comesLedge_1 17 rfl rfl)
theorem dX1_comesLedge_42 : decode cX1_comesLedge 42 = .ok (.iaload, 1) := dk_46 (dk_at dksX1_comesLedge_1 18 rfl rfl)
theorem dX1_comesLedge_43 : decode cX1_comesLedge 43 = .ok (.iastore, 1) := dk_79 (dk_at dksX1_comesLedge_1 19 rfl rfl)
theorem dX1_comesLedge_44 : decode cX1_comesLedge 44 = .ok (.aload_n 0, 1) := dk_42 (dk_at dksX1_comesLedge_1 20 rfl rfl)
theorem dX1_comesLedge_45 : decode cX1_comesLedge 45 = .ok (.getfield 1, 3) := dk_180 0 1 (dk_at dksX1_comesLedge_1 21 rfl rfl)
theorem dX1_comesLedge_48 : decode cX1_comesLedge 48 = .ok (.getfield 51, 3) := dk_180 0 51 (dk_at dksX1_comesLedge_2 0 rfl rfl)
theorem dX1_comesLedge_51 : decode cX1_comesLedge 51 = .ok (.aload_n 0, 1) := dk_42 (dk_at dksX1_comesLedge_2 3 rfl rfl)
theorem dX1_comesLedge_52 : decode cX1_comesLedge 52 = .ok (.getfield 1, 3) := dk_180 0 1 (dk_at dksX1_comesLedge_2 4 rfl rfl)
theorem dX1_comesLedge_55 : decode cX1_comesLedge 55 = .ok (.getfield 44, 3) := dk_180 0 44 (dk_at dksX1_comesLedge_2 7 rfl rfl)
theorem dX1_comesLedge_58 : decode cX1_comesLedge 58 = .ok (.aload_n 1, 1) := dk_43 (dk_at dksX1_comesLedge_2 10 rfl rfl)
theorem dX1_comesLedge_59 : decode cX1_comesLedge 59 = .ok (.iconst 1, 1) := dk_4 (dk_at dksX1_comesLedge_2 11 rfl rfl)
theorem dX1_comesLedge_60 : decode cX1_comesLedge 60 = .ok (.iaload, 1) := dk_46 (dk_at dksX1_comesLedge_2 12 rfl rfl)
theorem dX1_comesLedge_61 : decode cX1_comesLedge 61 = .ok (.iastore, 1) := dk_79 (dk_at dksX1_comesLedge_2 13 rfl rfl)
theorem dX1_comesLedge_62 : decode cX1_comesLedge 62 = .ok (.aload_n 0, 1) := dk_42 (dk_at dksX1_comesLedge_2 14 rfl rfl)
theorem dX1_comesLedge_63 : decode cX1_comesLedge 63 = .ok (.getfield 1, 3) := dk_180 0 1 (dk_at dksX1_comesLedge_2 15 rfl rfl)
theorem dX1_comesLedge_66 : decode cX1_comesLedge 66 = .ok (.getfield 54, 3) := dk_180 0 54 (dk_at dksX1_comesLedge_2 18 rfl rfl)
theorem dX1_comesLedge_69 : decode cX1_comesLedge 69 = .ok (.aload_n 0, 1) := dk_42 (dk_at dksX1_comesLedge_2 21 rfl rfl)
theorem dX1_comesLedge_70 : decode cX1_comesLedge 70 = .ok (.getfield 1, 3) := dk_180 0 1 (dk_at dksX1_comesLedge_3 0 rfl rfl)
theorem dX1_comesLedge_73 : decode cX1_comesLedge 73 = .ok (.getfield 44, 3) := dk_180 0 44 (dk_at dksX1_comesLedge_3 3 rfl rfl)
theorem dX1_comesLedge_76 : decode cX1_comesLedge 76 = .ok (.bipush 50, 2) := dk_16 50 (dk_at dksX1_comesLedge_3 6 rfl rfl)
theorem dX1_comesLedge_78 : decode cX1_comesLedge 78 = .ok (.iastore, 1) := dk_79 (dk_at dksX1_comesLedge_3 8 rfl rfl)
theorem dX1_comesLedge_79 : decode cX1_comesLedge 79 = .ok (.aload_n 0, 1) := dk_42 (dk_at dksX1_comesLedge_3 9 rfl rfl)
theorem dX1_comesLedge_80 : decode cX1_comesLedge 80 = .ok (.getfield 1, 3) := dk_180 0 1 (dk_at dksX1_comesLedge_3 10 rfl rfl)
theorem dX1_comesLedge_83 : decode cX1_comesLedge 83 = .ok (.getfield 57, 3) := dk_180 0 57 (dk_at dksX1_comesLedge_3 13 rfl rfl)
theorem dX1_comesLedge_86 : decode cX1_comesLedge 86 = .ok (.aload_n 0, 1) := dk_42 (dk_at dksX1_comesLedge_3 16 rfl rfl)
theorem dX1_comesLedge_87 : decode cX1_comesLedge 87 = .ok (.getfield 1, 3) := dk_180 0 1 (dk_at dksX1_comesLedge_3 17 rfl rfl)
theorem dX1_comesLedge_90 : decode cX1_comesLedge 90 = .ok (.getfield 44, 3) := dk_180 0 44 (dk_at dksX1_comesLedge_3 20 rfl rfl)
theorem dX1_comesLedge_93 : decode cX1_comesLedge 93 = .ok (.iconst 0, 1) := dk_3 (dk_at dksX1_comesLedge_3 23 rfl rfl)
theorem dX1_comesLedge_94 : decode cX1_comesLedge 94 = .ok (.bastore, 1) := dk_84 (dk_at dksX1_comesLedge_4 0 rfl rfl)
theorem dX1_comesLedge_95 : decode cX1_comesLedge 95 = .ok (.aload_n 0, 1) := dk_42 (dk_at dksX1_comesLedge_4 1 rfl rfl)
theorem dX1_comesLedge_96 : decode cX1_comesLedge 96 = .ok (.getfield 1, 3) := dk_180 0 1 (dk_at dksX1_comesLedge_4 2 rfl rfl)
theorem dX1_comesLedge_99 : decode cX1_comesLedge 99 = .ok (.dup, 1) := dk_89 (dk_at dksX1_comesLedge_4 5 rfl rfl)
theorem dX1_comesLedge_100 : decode cX1_comesLedge 100 = .ok (.getfield 44, 3) := dk_180 0 44 (dk_at dksX1_comesLedge_4 6 rfl rfl)
theorem dX1_comesLedge_103 : decode cX1_comesLedge 103 = .ok (.iconst 1, 1) := dk_4 (dk_at dksX1_comesLedge_4 9 rfl rfl)
theorem dX1_comesLedge_104 : decode cX1_comesLedge 104 = .ok (.iadd, 1) := dk_96 (dk_at dksX1_comesLedge_4 10 rfl rfl)
theorem dX1_comesLedge_105 : decode cX1_comesLedge 105 = .ok (.putfield 44, 3) := dk_181 0 44 (dk_at dksX1_comesLedge_4 11 rfl rfl)
theorem dX1_comesLedge_108 : decode cX1_comesLedge 108 = .ok (.iconst 1, 1) := dk_4 (dk_at dksX1_comesLedge_4 14 rfl rfl)
theorem dX1_comesLedge_109 : decode cX1_comesLedge 109 = .ok (.ireturn, 1) := dk_172 (dk_at dksX1_comesLedge_4 15 rfl rfl)
abbrev cX1_comesDrop : ByteArray := prog_1_method_7_code
def yX1_comesDrop : MethodName := ⟨RX1, "comesDrop", "([IZ)Z"⟩
def dkwX1_comesDrop_2 : List UInt8 := [180, 0, 57, 43, 3, 46, 28, 84, 4, 172]
abbrev dktX1_comesDrop_2 : List UInt8 := dkwX1_comesDrop_2 ++ []
def dkwX1_comesDrop_1 : List UInt8 := [154, 0, 5, 3, 172, 42, 180, 0, 1, 180, 0, 54, 43, 3, 46, 43, 4, 46, 79, 42, 180, 0, 1]
abbrev dktX1_comesDrop_1 : List UInt8 := dkwX1_comesDrop_1 ++ dktX1_comesDrop_2
def dkwX1_comesDrop_0 : List UInt8 := [42, 180, 0, 1, 43, 3, 46, 182, 0, 61, 153, 0, 16, 43, 4, 46, 4, 17, 0, 200, 184, 0, 13]
abbrev dktX1_comesDrop_0 : List UInt8 := dkwX1_comesDrop_0 ++ dktX1_comesDrop_1
theorem dksX1_comesDrop_0 : cX1_comesDrop.data.toList.drop 0 = dktX1_comesDrop_0 := by decide +kernel
theorem dksX1_comesDrop_1 : cX1_comesDrop.data.toList.drop 23 = dktX1_comesDrop_1 := dk_seg dksX1_comesDrop_0 23 rfl rfl
theorem dksX1_comesDrop_2 : cX1_comesDrop.data.toList.drop 46 = dktX1_comesDrop_2 := dk_seg dksX1_comesDrop_1 23 rfl rfl
theorem dX1_comesDrop_0 : decode cX1_comesDrop 0 = .ok (.aload_n 0, 1) := dk_42 (dk_at dksX1_comesDrop_0 0 rfl rfl)
theorem dX1_comesDrop_1 : decode cX1_comesDrop 1 = .ok (.getfield 1, 3) := dk_180 0 1 (dk_at dksX1_comesDrop_0 1 rfl rfl)
theorem dX1_comesDrop_4 : decode cX1_comesDrop 4 = .ok (.aload_n 1, 1) := dk_43 (dk_at dksX1_comesDrop_0 4 rfl rfl)
theorem dX1_comesDrop_5 : decode cX1_comesDrop 5 = .ok (.iconst 0, 1) := dk_3 (dk_at dksX1_comesDrop_0 5 rfl rfl)
theorem dX1_comesDrop_6 : decode cX1_comesDrop 6 = .ok (.iaload, 1) := dk_46 (dk_at dksX1_comesDrop_0 6 rfl rfl)
theorem dX1_comesDrop_7 : decode cX1_comesDrop 7 = .ok (.invokevirtual 61, 3) := dk_182 0 61 (dk_at dksX1_comesDrop_0 7 rfl rfl)
theorem dX1_comesDrop_10 : decode cX1_comesDrop 10 = .ok (.ifCond .eq 16, 3) := dk_153 0 16 (dk_at dksX1_comesDrop_0 10 rfl rfl)
theorem dX1_comesDrop_13 : decode cX1_comesDrop 13 = .ok (.aload_n 1, 1) := dk_43 (dk_at dksX1_comesDrop_0 13 rfl rfl)
theorem dX1_comesDrop_14 : decode cX1_comesDrop 14 = .ok (.iconst 1, 1) := dk_4 (dk_at dksX1_comesDrop_0 14 rfl rfl)
theorem dX1_comesDrop_15 : decode cX1_comesDrop 15 = .ok (.iaload, 1) := dk_46 (dk_at dksX1_comesDrop_0 15 rfl rfl)
theorem dX1_comesDrop_16 : decode cX1_comesDrop 16 = .ok (.iconst 1, 1) := dk_4 (dk_at dksX1_comesDrop_0 16 rfl rfl)
theorem dX1_comesDrop_17 : decode cX1_comesDrop 17 = .ok (.sipush 200, 3) := dk_17 0 200 (dk_at dksX1_comesDrop_0 17 rfl rfl)
theorem dX1_comesDrop_20 : decode cX1_comesDrop 20 = .ok (.invokestatic 13, 3) := dk_184 0 13 (dk_at dksX1_comesDrop_0 20 rfl rfl)
theorem dX1_comesDrop_23 : decode cX1_comesDrop 23 = .ok (.ifCond .ne 5, 3) := dk_154 0 5 (dk_at dksX1_comesDrop_1 0 rfl rfl)
theorem dX1_comesDrop_26 : decode cX1_comesDrop 26 = .ok (.iconst 0, 1) := dk_3 (dk_at dksX1_comesDrop_1 3 rfl rfl)
theorem dX1_comesDrop_27 : decode cX1_comesDrop 27 = .ok (.ireturn, 1) := dk_172 (dk_at dksX1_comesDrop_1 4 rfl rfl)
theorem dX1_comesDrop_28 : decode cX1_comesDrop 28 = .ok (.aload_n 0, 1) := dk_42 (dk_at dksX1_comesDrop_1 5 rfl rfl)
theorem dX1_comesDrop_29 : decode cX1_comesDrop 29 = .ok (.getfield 1, 3) := dk_180 0 1 (dk_at dksX1_comesDrop_1 6 rfl rfl)
theorem dX1_comesDrop_32 : decode cX1_comesDrop 32 = .ok (.getfield 54, 3) := dk_180 0 54 (dk_at dksX1_comesDrop_1 9 rfl rfl)
theorem dX1_comesDrop_35 : decode cX1_comesDrop 35 = .ok (.aload_n 1, 1) := dk_43 (dk_at dksX1_comesDrop_1 12 rfl rfl)
theorem dX1_comesDrop_36 : decode cX1_comesDrop 36 = .ok (.iconst 0, 1) := dk_3 (dk_at dksX1_comesDrop_1 13 rfl rfl)
theorem dX1_comesDrop_37 : decode cX1_comesDrop 37 = .ok (.iaload, 1) := dk_46 (dk_at dksX1_comesDrop_1 14 rfl rfl)
theorem dX1_comesDrop_38 : decode cX1_comesDrop 38 = .ok (.aload_n 1, 1) := dk_43 (dk_at dksX1_comesDrop_1 15 rfl rfl)
theorem dX1_comesDrop_39 : decode cX1_comesDrop 39 = .ok (.iconst 1, 1) := dk_4 (dk_at dksX1_comesDrop_1 16 rfl rfl)
theorem dX1_comesDrop_40 : decode cX1_comesDrop 40 = .ok (.iaload, 1) := dk_46 (dk_at dksX1_comesDrop_1 17 rfl rfl)
theorem dX1_comesDrop_41 : decode cX1_comesDrop 41 = .ok (.iastore, 1) := dk_79 (dk_at dksX1_comesDrop_1 18 rfl rfl)
theorem dX1_comesDrop_42 : decode cX1_comesDrop 42 = .ok (.aload_n 0, 1) := dk_42 (dk_at dksX1_comesDrop_1 19 rfl rfl)
theorem dX1_comesDrop_43 : decode cX1_comesDrop 43 = .ok (.getfield 1, 3) := dk_180 0 1 (dk_at dksX1_comesDrop_1 20 rfl rfl)
theorem dX1_comesDrop_46 : decode cX1_comesDrop 46 = .ok (.getfield 57, 3) := dk_180 0 57 (dk_at dksX1_comesDrop_2 0 rfl rfl)
theorem dX1_comesDrop_49 : decode cX1_comesDrop 49 = .ok (.aload_n 1, 1) := dk_43 (dk_at dksX1_comesDrop_2 3 rfl rfl)
theorem dX1_comesDrop_50 : decode cX1_comesDrop 50 = .ok (.iconst 0, 1) := dk_3 (dk_at dksX1_comesDrop_2 4 rfl rfl)
theorem dX1_comesDrop_51 : decode cX1_comesDrop 51 = .ok (.iaload, 1) := dk_46 (dk_at dksX1_comesDrop_2 5 rfl rfl)
theorem dX1_comesDrop_52 : decode cX1_comesDrop 52 = .ok (.iload_n 2, 1) := dk_28 (dk_at dksX1_comesDrop_2 6 rfl rfl)
theorem dX1_comesDrop_53 : decode cX1_comesDrop 53 = .ok (.bastore, 1) := dk_84 (dk_at dksX1_comesDrop_2 7 rfl rfl)
theorem dX1_comesDrop_54 : decode cX1_comesDrop 54 = .ok (.iconst 1, 1) := dk_4 (dk_at dksX1_comesDrop_2 8 rfl rfl)
theorem dX1_comesDrop_55 : decode cX1_comesDrop 55 = .ok (.ireturn, 1) := dk_172 (dk_at dksX1_comesDrop_2 9 rfl rfl)
abbrev cX1_comesPerson : ByteArray := prog_1_method_8_code
def yX1_comesPerson : MethodName := ⟨RX1, "comesPerson", "([I)Z"⟩
def dkwX1_comesPerson_3 : List UInt8 := [42, 180, 0, 1, 89, 180, 0, 7, 4, 96, 181, 0, 7, 4, 172]
abbrev dktX1_comesPerson_3 : List UInt8 := dkwX1_comesPerson_3 ++ []
def dkwX1_comesPerson_2 : List UInt8 := [3, 46, 79, 42, 180, 0, 1, 180, 0, 68, 180, 0, 72, 42, 180, 0, 1, 180, 0, 7, 43, 4, 46, 79]
abbrev dktX1_comesPerson_2 : List UInt8 := dkwX1_comesPerson_2 ++ dktX1_comesPerson_3
def dkwX1_comesPerson_1 : List UInt8 := [46, 182, 0, 61, 154, 0, 5, 3, 172, 42, 180, 0, 1, 180, 0, 65, 42, 180, 0, 1, 180, 0, 7, 43]
abbrev dktX1_comesPerson_1 : List UInt8 := dkwX1_comesPerson_1 ++ dktX1_comesPerson_2
def dkwX1_comesPerson_0 : List UInt8 := [42, 180, 0, 1, 180, 0, 7, 6, 159, 0, 23, 43, 3, 46, 5, 163, 0, 16, 42, 180, 0, 1, 43, 4]
abbrev dktX1_comesPerson_0 : List UInt8 := dkwX1_comesPerson_0 ++ dktX1_comesPerson_1
theorem dksX1_comesPerson_0 : cX1_comesPerson.data.toList.drop 0 = dktX1_comesPerson_0 := by decide +kernel
theorem dksX1_comesPerson_1 : cX1_comesPerson.data.toList.drop 24 = dktX1_comesPerson_1 := dk_seg dksX1_comesPerson_0 24 rfl rfl
theorem dksX1_comesPerson_2 : cX1_comesPerson.data.toList.drop 48 = dktX1_comesPerson_2 := dk_seg dksX1_comesPerson_1 24 rfl rfl
theorem dksX1_comesPerson_3 : cX1_comesPerson.data.toList.drop 72 = dktX1_comesPerson_3 := dk_seg dksX1_comesPerson_2 24 rfl rfl
theorem dX1_comesPerson_0 : decode cX1_comesPerson 0 = .ok (.aload_n 0, 1) := dk_42 (dk_at dksX1_comesPerson_0 0 rfl rfl)
theorem dX1_comesPerson_1 : decode cX1_comesPerson 1 = .ok (.getfield 1, 3) := dk_180 0 1 (dk_at dksX1_comesPerson_0 1 rfl rfl)
theorem dX1_comesPerson_4 : decode cX1_comesPerson 4 = .ok (.getfield 7, 3) := dk_180 0 7 (dk_at dksX1_comesPerson_0 4 rfl rfl)
theorem dX1_comesPerson_7 : decode cX1_comesPerson 7 = .ok (.iconst 3, 1) := dk_6 (dk_at dksX1_comesPerson_0 7 rfl rfl)
theorem dX1_comesPerson_8 : decode cX1_comesPerson 8 = .ok (.if_icmp .eq 23, 3) := dk_159 0 23 (dk_at dksX1_comesPerson_0 8 rfl rfl)
theorem dX1_comesPerson_11 : decode cX1_comesPerson 11 = .ok (.aload_n 1, 1) := dk_43 (dk_at dksX1_comesPerson_0 11 rfl rfl)
theorem dX1_comesPerson_12 : decode cX1_comesPerson 12 = .ok (.iconst 0, 1) := dk_3 (dk_at dksX1_comesPerson_0 12 rfl rfl)
theorem dX1_comesPerson_13 : decode cX1_comesPerson 13 = .ok (.iaload, 1) := dk_46 (dk_at dksX1_comesPerson_0 13 rfl rfl)
theorem dX1_comesPerson_14 : decode cX1_comesPerson 14 = .ok (.iconst 2, 1) := dk_5 (dk_at dksX1_comesPerson_0 14 rfl rfl)
theorem dX1_comesPerson_15 : decode cX1_comesPerson 15 = .ok (.if_icmp .gt 16, 3) := dk_163 0 16 (dk_at dksX1_comesPerson_0 15 rfl rfl)
theorem dX1_comesPerson_18 : decode cX1_comesPerson 18 = .ok (.aload_n 0, 1) := dk_42 (dk_at dksX1_comesPerson_0 18 rfl rfl)
theorem dX1_comesPerson_19 : decode cX1_comesPerson 19 = .ok (.getfield 1, 3) := dk_180 0 1 (dk_at dksX1_comesPerson_0 19 rfl rfl)
theorem dX1_comesPerson_22 : decode cX1_comesPerson 22 = .ok (.aload_n 1, 1) := dk_43 (dk_at dksX1_comesPerson_0 22 rfl rfl)
theorem dX1_comesPerson_23 : decode cX1_comesPerson 23 = .ok (.iconst 1, 1) := dk_4 (dk_at dksX1_comesPerson_0 23 rfl rfl)
theorem dX1_comesPerson_24 : decode cX1_comesPerson 24 = .ok (.iaload, 1) := dk_46 (dk_at dksX1_comesPerson_1 0 rfl rfl)
theorem dX1_comesPerson_25 : decode cX1_comesPerson 25 = .ok (.invokevirtual 61, 3) := dk_182 0 61 (dk_at dksX1_comesPerson_1 1 rfl rfl)
theorem dX1_comesPerson_28 : decode cX1_comesPerson 28 = .ok (.ifCond .ne 5, 3) := dk_154 0 5 (dk_at dksX1_comesPerson_1 4 rfl rfl)
theorem dX1_comesPerson_31 : decode cX1_comesPerson 31 = .ok (.iconst 0, 1) := dk_3 (dk_at dksX1_comesPerson_1 7 rfl rfl)
theorem dX1_comesPerson_32 : decode cX1_comesPerson 32 = .ok (.ireturn, 1) := dk_172 (dk_at dksX1_comesPerson_1 8 rfl rfl)
theorem dX1_comesPerson_33 : decode cX1_comesPerson 33 = .ok (.aload_n 0, 1) := dk_42 (dk_at dksX1_comesPerson_1 9 rfl rfl)
theorem dX1_comesPerson_34 : decode cX1_comesPerson 34 = .ok (.getfield 1, 3) := dk_180 0 1 (dk_at dksX1_comesPerson_1 10 rfl rfl)
theorem dX1_comesPerson_37 : decode cX1_comesPerson 37 = .ok (.getfield 65, 3) := dk_180 0 65 (dk_at dksX1_comesPerson_1 13 rfl rfl)
theorem dX1_comesPerson_40 : decode cX1_comesPerson 40 = .ok (.aload_n 0, 1) := dk_42 (dk_at dksX1_comesPerson_1 16 rfl rfl)
theorem dX1_comesPerson_41 : decode cX1_comesPerson 41 = .ok (.getfield 1, 3) := dk_180 0 1 (dk_at dksX1_comesPerson_1 17 rfl rfl)
theorem dX1_comesPerson_44 : decode cX1_comesPerson 44 = .ok (.getfield 7, 3) := dk_180 0 7 (dk_at dksX1_comesPerson_1 20 rfl rfl)
theorem dX1_comesPerson_47 : decode cX1_comesPerson 47 = .ok (.aload_n 1, 1) := dk_43 (dk_at dksX1_comesPerson_1 23 rfl rfl)
theorem dX1_comesPerson_48 : decode cX1_comesPerson 48 = .ok (.iconst 0, 1) := dk_3 (dk_at dksX1_comesPerson_2 0 rfl rfl)
theorem dX1_comesPerson_49 : decode cX1_comesPerson 49 = .ok (.iaload, 1) := dk_46 (dk_at dksX1_comesPerson_2 1 rfl rfl)
theorem dX1_comesPerson_50 : decode cX1_comesPerson 50 = .ok (.iastore, 1) := dk_79 (dk_at dksX1_comesPerson_2 2 rfl rfl)
theorem dX1_comesPerson_51 : decode cX1_comesPerson 51 = .ok (.aload_n 0, 1) := dk_42 (dk_at dksX1_comesPerson_2 3 rfl rfl)
theorem dX1_comesPerson_52 : decode cX1_comesPerson 52 = .ok (.getfield 1, 3) := dk_180 0 1 (dk_at dksX1_comesPerson_2 4 rfl rfl)
theorem dX1_comesPerson_55 : decode cX1_comesPerson 55 = .ok (.getfield 68, 3) := dk_180 0 68 (dk_at dksX1_comesPerson_2 7 rfl rfl)
theorem dX1_comesPerson_58 : decode cX1_comesPerson 58 = .ok (.getfield 72, 3) := dk_180 0 72 (dk_at dksX1_comesPerson_2 10 rfl rfl)
theorem dX1_comesPerson_61 : decode cX1_comesPerson 61 = .ok (.aload_n 0, 1) := dk_42 (dk_at dksX1_comesPerson_2 13 rfl rfl)
theorem dX1_comesPerson_62 : decode cX1_comesPerson 62 = .ok (.getfield 1, 3) := dk_180 0 1 (dk_at dksX1_comesPerson_2 14 rfl rfl)
theorem dX1_comesPerson_65 : decode cX1_comesPerson 65 = .ok (.getfield 7, 3) := dk_180 0 7 (dk_at dksX1_comesPerson_2 17 rfl rfl)
theorem dX1_comesPerson_68 : decode cX1_comesPerson 68 = .ok (.aload_n 1, 1) := dk_43 (dk_at dksX1_comesPerson_2 20 rfl rfl)
theorem dX1_comesPerson_69 : decode cX1_comesPerson 69 = .ok (.iconst 1, 1) := dk_4 (dk_at dksX1_comesPerson_2 21 rfl rfl)
theorem dX1_comesPerson_70 : decode cX1_comesPerson 70 = .ok (.iaload, 1) := dk_46 (dk_at dksX1_comesPerson_2 22 rfl rfl)
theorem dX1_comesPerson_71 : decode cX1_comesPerson 71 = .ok (.iastore, 1) := dk_79 (dk_at dksX1_comesPerson_2 23 rfl rfl)
theorem dX1_comesPerson_72 : decode cX1_comesPerson 72 = .ok (.aload_n 0, 1) := dk_42 (dk_at dksX1_comesPerson_3 0 rfl rfl)
theorem dX1_comesPerson_73 : decode cX1_comesPerson 73 = .ok (.getfield 1, 3) := dk_180 0 1 (dk_at dksX1_comesPerson_3 1 rfl rfl)
theorem dX1_comesPerson_76 : decode cX1_comesPerson 76 = .ok (.dup, 1) := dk_89 (dk_at dksX1_comesPerson_3 4 rfl rfl)
theorem dX1_comesPerson_77 : decode cX1_comesPerson 77 = .ok (.getfield 7, 3) := dk_180 0 7 (dk_at dksX1_comesPerson_3 5 rfl rfl)
theorem dX1_comesPerson_80 : decode cX1_comesPerson 80 = .ok (.iconst 1, 1) := dk_4 (dk_at dksX1_comesPerson_3 8 rfl rfl)
theorem dX1_comesPerson_81 : decode cX1_comesPerson 81 = .ok (.iadd, 1) := dk_96 (dk_at dksX1_comesPerson_3 9 rfl rfl)
theorem dX1_comesPerson_82 : decode cX1_comesPerson 82 = .ok (.putfield 7, 3) := dk_181 0 7 (dk_at dksX1_comesPerson_3 10 rfl rfl)
theorem dX1_comesPerson_85 : decode cX1_comesPerson 85 = .ok (.iconst 1, 1) := dk_4 (dk_at dksX1_comesPerson_3 13 rfl rfl)
theorem dX1_comesPerson_86 : decode cX1_comesPerson 86 = .ok (.ireturn, 1) := dk_172 (dk_at dksX1_comesPerson_3 14 rfl rfl)
abbrev cX1_comesRope : ByteArray := prog_1_method_9_code
def yX1_comesRope : MethodName := ⟨RX1, "comesRope", "([I)Z"⟩
def dkwX1_comesRope_3 : List UInt8 := [180, 0, 17, 43, 4, 46, 79, 42, 180, 0, 1, 89, 180, 0, 17, 4, 96, 181, 0, 17, 4, 172]
abbrev dktX1_comesRope_3 : List UInt8 := dkwX1_comesRope_3 ++ []
def dkwX1_comesRope_2 : List UInt8 := [180, 0, 1, 180, 0, 17, 43, 3, 46, 79, 42, 180, 0, 1, 180, 0, 68, 180, 0, 80, 42, 180, 0, 1]
abbrev dktX1_comesRope_2 : List UInt8 := dkwX1_comesRope_2 ++ dktX1_comesRope_3
def dkwX1_comesRope_1 : List UInt8 := [42, 180, 0, 1, 43, 4, 46, 182, 0, 61, 154, 0, 5, 3, 172, 42, 180, 0, 1, 180, 0, 77, 42]
abbrev dktX1_comesRope_1 : List UInt8 := dkwX1_comesRope_1 ++ dktX1_comesRope_2
def dkwX1_comesRope_0 : List UInt8 := [42, 180, 0, 1, 180, 0, 17, 5, 159, 0, 29, 43, 3, 46, 4, 17, 1, 144, 184, 0, 13, 153, 0, 16]
abbrev dktX1_comesRope_0 : List UInt8 := dkwX1_comesRope_0 ++ dktX1_comesRope_1
theorem dksX1_comesRope_0 : cX1_comesRope.data.toList.drop 0 = dktX1_comesRope_0 := by decide +kernel
theorem dksX1_comesRope_1 : cX1_comesRope.data.toList.drop 24 = dktX1_comesRope_1 := dk_seg dksX1_comesRope_0 24 rfl rfl
theorem dksX1_comesRope_2 : cX1_comesRope.data.toList.drop 47 = dktX1_comesRope_2 := dk_seg dksX1_comesRope_1 23 rfl rfl
theorem dksX1_comesRope_3 : cX1_comesRope.data.toList.drop 71 = dktX1_comesRope_3 := dk_seg dksX1_comesRope_2 24 rfl rfl
theorem dX1_comesRope_0 : decode cX1_comesRope 0 = .ok (.aload_n 0, 1) := dk_42 (dk_at dksX1_comesRope_0 0 rfl rfl)
theorem dX1_comesRope_1 : decode cX1_comesRope 1 = .ok (.getfield 1, 3) := dk_180 0 1 (dk_at dksX1_comesRope_0 1 rfl rfl)
theorem dX1_comesRope_4 : decode cX1_comesRope 4 = .ok (.getfield 17, 3) := dk_180 0 17 (dk_at dksX1_comesRope_0 4 rfl rfl)
theorem dX1_comesRope_7 : decode cX1_comesRope 7 = .ok (.iconst 2, 1) := dk_5 (dk_at dksX1_comesRope_0 7 rfl rfl)
theorem dX1_comesRope_8 : decode cX1_comesRope 8 = .ok (.if_icmp .eq 29, 3) := dk_159 0 29 (dk_at dksX1_comesRope_0 8 rfl rfl)
theorem dX1_comesRope_11 : decode cX1_comesRope 11 = .ok (.aload_n 1, 1) := dk_43 (dk_at dksX1_comesRope_0 11 rfl rfl)
theorem dX1_comesRope_12 : decode cX1_comesRope 12 = .ok (.iconst 0, 1) := dk_3 (dk_at dksX1_comesRope_0 12 rfl rfl)
theorem dX1_comesRope_13 : decode cX1_comesRope 13 = .ok (.iaload, 1) := dk_46 (dk_at dksX1_comesRope_0 13 rfl rfl)
theorem dX1_comesRope_14 : decode cX1_comesRope 14 = .ok (.iconst 1, 1) := dk_4 (dk_at dksX1_comesRope_0 14 rfl rfl)
theorem dX1_comesRope_15 : decode cX1_comesRope 15 = .ok (.sipush 400, 3) := dk_17 1 144 (dk_at dksX1_comesRope_0 15 rfl rfl)
theorem dX1_comesRope_18 : decode cX1_comesRope 18 = .ok (.invokestatic 13, 3) := dk_184 0 13 (dk_at dksX1_comesRope_0 18 rfl rfl)
theorem dX1_comesRope_21 : decode cX1_comesRope 21 = .ok (.ifCond .eq 16, 3) := dk_153 0 16 (dk_at dksX1_comesRope_0 21 rfl rfl)
theorem dX1_comesRope_24 : decode cX1_comesRope 24 = .ok (.aload_n 0, 1) := dk_42 (dk_at dksX1_comesRope_1 0 rfl rfl)
theorem dX1_comesRope_25 : decode cX1_comesRope 25 = .ok (.getfield 1, 3) := dk_180 0 1 (dk_at dksX1_comesRope_1 1 rfl rfl)
theorem dX1_comesRope_28 : decode cX1_comesRope 28 = .ok (.aload_n 1, 1) := dk_43 (dk_at dksX1_comesRope_1 4 rfl rfl)
theorem dX1_comesRope_29 : decode cX1_comesRope 29 = .ok (.iconst 1, 1) := dk_4 (dk_at dksX1_comesRope_1 5 rfl rfl)
theorem dX1_comesRope_30 : decode cX1_comesRope 30 = .ok (.iaload, 1) := dk_46 (dk_at dksX1_comesRope_1 6 rfl rfl)
theorem dX1_comesRope_31 : decode cX1_comesRope 31 = .ok (.invokevirtual 61, 3) := dk_182 0 61 (dk_at dksX1_comesRope_1 7 rfl rfl)
theorem dX1_comesRope_34 : decode cX1_comesRope 34 = .ok (.ifCond .ne 5, 3) := dk_154 0 5 (dk_at dksX1_comesRope_1 10 rfl rfl)
theorem dX1_comesRope_37 : decode cX1_comesRope 37 = .ok (.iconst 0, 1) := dk_3 (dk_at dksX1_comesRope_1 13 rfl rfl)
theorem dX1_comesRope_38 : decode cX1_comesRope 38 = .ok (.ireturn, 1) := dk_172 (dk_at dksX1_comesRope_1 14 rfl rfl)
theorem dX1_comesRope_39 : decode cX1_comesRope 39 = .ok (.aload_n 0, 1) := dk_42 (dk_at dksX1_comesRope_1 15 rfl rfl)
theorem dX1_comesRope_40 : decode cX1_comesRope 40 = .ok (.getfield 1, 3) := dk_180 0 1 (dk_at dksX1_comesRope_1 16 rfl rfl)
theorem dX1_comesRope_43 : decode cX1_comesRope 43 = .ok (.getfield 77, 3) := dk_180 0 77 (dk_at dksX1_comesRope_1 19 rfl rfl)
theorem dX1_comesRope_46 : decode cX1_comesRope 46 = .ok (.aload_n 0, 1) := dk_42 (dk_at dksX1_comesRope_1 22 rfl rfl)
theorem dX1_comesRope_47 : decode cX1_comesRope 47 = .ok (.getfield 1, 3) := dk_180 0 1 (dk_at dksX1_comesRope_2 0 rfl rfl)
theorem dX1_comesRope_50 : decode cX1_comesRope 50 = .ok (.getfield 17, 3) := dk_180 0 17 (dk_at dksX1_comesRope_2 3 rfl rfl)
theorem dX1_comesRope_53 : decode cX1_comesRope 53 = .ok (.aload_n 1, 1) := dk_43 (dk_at dksX1_comesRope_2 6 rfl rfl)
theorem dX1_comesRope_54 : decode cX1_comesRope 54 = .ok (.iconst 0, 1) := dk_3 (dk_at dksX1_comesRope_2 7 rfl rfl)
theorem dX1_comesRope_55 : decode cX1_comesRope 55 = .ok (.iaload, 1) := dk_46 (dk_at dksX1_comesRope_2 8 rfl rfl)
theorem dX1_comesRope_56 : decode cX1_comesRope 56 = .ok (.iastore, 1) := dk_79 (dk_at dksX1_comesRope_2 9 rfl rfl)
theorem dX1_comesRope_57 : decode cX1_comesRope 57 = .ok (.aload_n 0, 1) := dk_42 (dk_at dksX1_comesRope_2 10 rfl rfl)
theorem dX1_comesRope_58 : decode cX1_comesRope 58 = .ok (.getfield 1, 3) := dk_180 0 1 (dk_at dksX1_comesRope_2 11 rfl rfl)
theorem dX1_comesRope_61 : decode cX1_comesRope 61 = .ok (.getfield 68, 3) := dk_180 0 68 (dk_at dksX1_comesRope_2 14 rfl rfl)
theorem dX1_comesRope_64 : decode cX1_comesRope 64 = .ok (.getfield 80, 3) := dk_180 0 80 (dk_at dksX1_comesRope_2 17 rfl rfl)
theorem dX1_comesRope_67 : decode cX1_comesRope 67 = .ok (.aload_n 0, 1) := dk_42 (dk_at dksX1_comesRope_2 20 rfl rfl)
theorem dX1_comesRope_68 : decode cX1_comesRope 68 = .ok (.getfield 1, 3) := dk_180 0 1 (dk_at dksX1_comesRope_2 21 rfl rfl)
theorem dX1_comesRope_71 : decode cX1_comesRope 71 = .ok (.getfield 17, 3) := dk_180 0 17 (dk_at dksX1_comesRope_3 0 rfl rfl)
theorem dX1_comesRope_74 : decode cX1_comesRope 74 = .ok (.aload_n 1, 1) := dk_43 (dk_at dksX1_comesRope_3 3 rfl rfl)
theorem dX1_comesRope_75 : decode cX1_comesRope 75 = .ok (.iconst 1, 1) := dk_4 (dk_at dksX1_comesRope_3 4 rfl rfl)
theorem dX1_comesRope_76 : decode cX1_comesRope 76 = .ok (.iaload, 1) := dk_46 (dk_at dksX1_comesRope_3 5 rfl rfl)
theorem dX1_comesRope_77 : decode cX1_comesRope 77 = .ok (.iastore, 1) := dk_79 (dk_at dksX1_comesRope_3 6 rfl rfl)
theorem dX1_comesRope_78 : decode cX1_comesRope 78 = .ok (.aload_n 0, 1) := dk_42 (dk_at dksX1_comesRope_3 7 rfl rfl)
theorem dX1_comesRope_79 : decode cX1_comesRope 79 = .ok (.getfield 1, 3) := dk_180 0 1 (dk_at dksX1_comesRope_3 8 rfl rfl)
theorem dX1_comesRope_82 : decode cX1_comesRope 82 = .ok (.dup, 1) := dk_89 (dk_at dksX1_comesRope_3 11 rfl rfl)
theorem dX1_comesRope_83 : decode cX1_comesRope 83 = .ok (.getfield 17, 3) := dk_180 0 17 (dk_at dksX1_comesRope_3 12 rfl rfl)
theorem dX1_comesRope_86 : decode cX1_comesRope 86 = .ok (.iconst 1, 1) := dk_4 (dk_at dksX1_comesRope_3 15 rfl rfl)
theorem dX1_comesRope_87 : decode cX1_comesRope 87 = .ok (.iadd, 1) := dk_96 (dk_at dksX1_comesRope_3 16 rfl rfl)
theorem dX1_comesRope_88 : decode cX1_comesRope 88 = .ok (.putfield 17, 3) := dk_181 0 17 (dk_at dksX1_comesRope_3 17 rfl rfl)
theorem dX1_comesRope_91 : decode cX1_comesRope 91 = .ok (.iconst 1, 1) := dk_4 (dk_at dksX1_comesRope_3 20 rfl rfl)
theorem dX1_comesRope_92 : decode cX1_comesRope 92 = .ok (.ireturn, 1) := dk_172 (dk_at dksX1_comesRope_3 21 rfl rfl)
abbrev cX1_sets : ByteArray := prog_1_method_10_code
def yX1_sets : MethodName := ⟨RX1, "sets", "(II)Z"⟩
def dkwX1_sets_2 : List UInt8 := [180, 0, 1, 28, 181, 0, 86, 4, 172]
abbrev dktX1_sets_2 : List UInt8 := dkwX1_sets_2 ++ []
def dkwX1_sets_1 : List UInt8 := [184, 0, 13, 154, 0, 5, 3, 172, 27, 154, 0, 14, 42, 180, 0, 1, 28, 181, 0, 83, 167, 0, 11, 42]
abbrev dktX1_sets_1 : List UInt8 := dkwX1_sets_1 ++ dktX1_sets_2
def dkwX1_sets_0 : List UInt8 := [27, 154, 0, 16, 28, 3, 16, 100, 184, 0, 13, 154, 0, 19, 167, 0, 14, 28, 4, 17, 3, 231]
abbrev dktX1_sets_0 : List UInt8 := dkwX1_sets_0 ++ dktX1_sets_1
theorem dksX1_sets_0 : cX1_sets.data.toList.drop 0 = dktX1_sets_0 := by decide +kernel
theorem dksX1_sets_1 : cX1_sets.data.toList.drop 22 = dktX1_sets_1 := dk_seg dksX1_sets_0 22 rfl rfl
theorem dksX1_sets_2 : cX1_sets.data.toList.drop 46 = dktX1_sets_2 := dk_seg dksX1_sets_1 24 rfl rfl
theorem dX1_sets_0 : decode cX1_sets 0 = .ok (.iload_n 1, 1) := dk_27 (dk_at dksX1_sets_0 0 rfl rfl)
theorem dX1_sets_1 : decode cX1_sets 1 = .ok (.ifCond .ne 16, 3) := dk_154 0 16 (dk_at dksX1_sets_0 1 rfl rfl)
theorem dX1_sets_4 : decode cX1_sets 4 = .ok (.iload_n 2, 1) := dk_28 (dk_at dksX1_sets_0 4 rfl rfl)
theorem dX1_sets_5 : decode cX1_sets 5 = .ok (.iconst 0, 1) := dk_3 (dk_at dksX1_sets_0 5 rfl rfl)
theorem dX1_sets_6 : decode cX1_sets 6 = .ok (.bipush 100, 2) := dk_16 100 (dk_at dksX1_sets_0 6 rfl rfl)
theorem dX1_sets_8 : decode cX1_sets 8 = .ok (.invokestatic 13, 3) := dk_184 0 13 (dk_at dksX1_sets_0 8 rfl rfl)
theorem dX1_sets_11 : decode cX1_sets 11 = .ok (.ifCond .ne 19, 3) := dk_154 0 19 (dk_at dksX1_sets_0 11 rfl rfl)
theorem dX1_sets_14 : decode cX1_sets 14 = .ok (.goto 14, 3) := dk_167 0 14 (dk_at dksX1_sets_0 14 rfl rfl)
theorem dX1_sets_17 : decode cX1_sets 17 = .ok (.iload_n 2, 1) := dk_28 (dk_at dksX1_sets_0 17 rfl rfl)
theorem dX1_sets_18 : decode cX1_sets 18 = .ok (.iconst 1, 1) := dk_4 (dk_at dksX1_sets_0 18 rfl rfl)
theorem dX1_sets_19 : decode cX1_sets 19 = .ok (.sipush 999, 3) := dk_17 3 231 (dk_at dksX1_sets_0 19 rfl rfl)
theorem dX1_sets_22 : decode cX1_sets 22 = .ok (.invokestatic 13, 3) := dk_184 0 13 (dk_at dksX1_sets_1 0 rfl rfl)
theorem dX1_sets_25 : decode cX1_sets 25 = .ok (.ifCond .ne 5, 3) := dk_154 0 5 (dk_at dksX1_sets_1 3 rfl rfl)
theorem dX1_sets_28 : decode cX1_sets 28 = .ok (.iconst 0, 1) := dk_3 (dk_at dksX1_sets_1 6 rfl rfl)
theorem dX1_sets_29 : decode cX1_sets 29 = .ok (.ireturn, 1) := dk_172 (dk_at dksX1_sets_1 7 rfl rfl)
theorem dX1_sets_30 : decode cX1_sets 30 = .ok (.iload_n 1, 1) := dk_27 (dk_at dksX1_sets_1 8 rfl rfl)
theorem dX1_sets_31 : decode cX1_sets 31 = .ok (.ifCond .ne 14, 3) := dk_154 0 14 (dk_at dksX1_sets_1 9 rfl rfl)
theorem dX1_sets_34 : decode cX1_sets 34 = .ok (.aload_n 0, 1) := dk_42 (dk_at dksX1_sets_1 12 rfl rfl)
theorem dX1_sets_35 : decode cX1_sets 35 = .ok (.getfield 1, 3) := dk_180 0 1 (dk_at dksX1_sets_1 13 rfl rfl)
theorem dX1_sets_38 : decode cX1_sets 38 = .ok (.iload_n 2, 1) := dk_28 (dk_at dksX1_sets_1 16 rfl rfl)
theorem dX1_sets_39 : decode cX1_sets 39 = .ok (.putfield 83, 3) := dk_181 0 83 (dk_at dksX1_sets_1 17 rfl rfl)
theorem dX1_sets_42 : decode cX1_sets 42 = .ok (.goto 11, 3) := dk_167 0 11 (dk_at dksX1_sets_1 20 rfl rfl)
theorem dX1_sets_45 : decode cX1_sets 45 = .ok (.aload_n 0, 1) := dk_42 (dk_at dksX1_sets_1 23 rfl rfl)
theorem dX1_sets_46 : decode cX1_sets 46 = .ok (.getfield 1, 3) := dk_180 0 1 (dk_at dksX1_sets_2 0 rfl rfl)
theorem dX1_sets_49 : decode cX1_sets 49 = .ok (.iload_n 2, 1) := dk_28 (dk_at dksX1_sets_2 3 rfl rfl)
theorem dX1_sets_50 : decode cX1_sets 50 = .ok (.putfield 86, 3) := dk_181 0 86 (dk_at dksX1_sets_2 4 rfl rfl)
theorem dX1_sets_53 : decode cX1_sets 53 = .ok (.iconst 1, 1) := dk_4 (dk_at dksX1_sets_2 7 rfl rfl)
theorem dX1_sets_54 : decode cX1_sets 54 = .ok (.ireturn, 1) := dk_172 (dk_at dksX1_sets_2 8 rfl rfl)
abbrev cX1_ledge : ByteArray := prog_1_method_15_code
def yX1_ledge : MethodName := ⟨RX1, "ledge", "(II)I"⟩
def dkwX1_ledge_4 : List UInt8 := [42, 180, 0, 1, 180, 0, 57, 27, 51, 153, 0, 7, 4, 167, 0, 4, 3, 172, 2, 172]
abbrev dktX1_ledge_4 : List UInt8 := dkwX1_ledge_4 ++ []
def dkwX1_ledge_3 : List UInt8 := [180, 0, 1, 182, 0, 178, 160, 0, 8, 16, 252, 167, 0, 12, 42, 180, 0, 1, 180, 0, 54, 27, 46, 172]
abbrev dktX1_ledge_3 : List UInt8 := dkwX1_ledge_3 ++ dktX1_ledge_4
def dkwX1_ledge_2 : List UInt8 := [42, 180, 0, 1, 180, 0, 47, 27, 46, 172, 42, 180, 0, 1, 180, 0, 51, 27, 46, 172, 27, 42]
abbrev dktX1_ledge_2 : List UInt8 := dkwX1_ledge_2 ++ dktX1_ledge_3
def dkwX1_ledge_1 : List UInt8 := [170, 0, 0, 0, 0, 94, 0, 0, 0, 0, 0, 0, 0, 3, 0, 0, 0, 30, 0, 0, 0, 40, 0, 0, 0, 50, 0, 0, 0, 76]
abbrev dktX1_ledge_1 : List UInt8 := dkwX1_ledge_1 ++ dktX1_ledge_2
def dkwX1_ledge_0 : List UInt8 := [42, 180, 0, 1, 27, 182, 0, 61, 154, 0, 5, 2, 172, 28]
abbrev dktX1_ledge_0 : List UInt8 := dkwX1_ledge_0 ++ dktX1_ledge_1
theorem dksX1_ledge_0 : cX1_ledge.data.toList.drop 0 = dktX1_ledge_0 := by decide +kernel
theorem dksX1_ledge_1 : cX1_ledge.data.toList.drop 14 = dktX1_ledge_1 := dk_seg dksX1_ledge_0 14 rfl rfl
theorem dksX1_ledge_2 : cX1_ledge.data.toList.drop 44 = dktX1_ledge_2 := dk_seg dksX1_ledge_1 30 rfl rfl
theorem dksX1_ledge_3 : cX1_ledge.data.toList.drop 66 = dktX1_ledge_3 := dk_seg dksX1_ledge_2 22 rfl rfl
theorem dksX1_ledge_4 : cX1_ledge.data.toList.drop 90 = dktX1_ledge_4 := dk_seg dksX1_ledge_3 24 rfl rfl
theorem dX1_ledge_0 : decode cX1_ledge 0 = .ok (.aload_n 0, 1) := dk_42 (dk_at dksX1_ledge_0 0 rfl rfl)
theorem dX1_ledge_1 : decode cX1_ledge 1 = .ok (.getfield 1, 3) := dk_180 0 1 (dk_at dksX1_ledge_0 1 rfl rfl)
theorem dX1_ledge_4 : decode cX1_ledge 4 = .ok (.iload_n 1, 1) := dk_27 (dk_at dksX1_ledge_0 4 rfl rfl)
theorem dX1_ledge_5 : decode cX1_ledge 5 = .ok (.invokevirtual 61, 3) := dk_182 0 61 (dk_at dksX1_ledge_0 5 rfl rfl)
theorem dX1_ledge_8 : decode cX1_ledge 8 = .ok (.ifCond .ne 5, 3) := dk_154 0 5 (dk_at dksX1_ledge_0 8 rfl rfl)
theorem dX1_ledge_11 : decode cX1_ledge 11 = .ok (.iconst (-1), 1) := dk_2 (dk_at dksX1_ledge_0 11 rfl rfl)
theorem dX1_ledge_12 : decode cX1_ledge 12 = .ok (.ireturn, 1) := dk_172 (dk_at dksX1_ledge_0 12 rfl rfl)
theorem dX1_ledge_13 : decode cX1_ledge 13 = .ok (.iload_n 2, 1) := dk_28 (dk_at dksX1_ledge_0 13 rfl rfl)
theorem dX1_ledge_14 : decode cX1_ledge 14 = .ok (.tableswitch 94 0 3 #[30, 40, 50, 76], 30) := by decide +kernel
theorem dX1_ledge_44 : decode cX1_ledge 44 = .ok (.aload_n 0, 1) := dk_42 (dk_at dksX1_ledge_2 0 rfl rfl)
theorem dX1_ledge_45 : decode cX1_ledge 45 = .ok (.getfield 1, 3) := dk_180 0 1 (dk_at dksX1_ledge_2 1 rfl rfl)
theorem dX1_ledge_48 : decode cX1_ledge 48 = .ok (.getfield 47, 3) := dk_180 0 47 (dk_at dksX1_ledge_2 4 rfl rfl)
theorem dX1_ledge_51 : decode cX1_ledge 51 = .ok (.iload_n 1, 1) := dk_27 (dk_at dksX1_ledge_2 7 rfl rfl)
theorem dX1_ledge_52 : decode cX1_ledge 52 = .ok (.iaload, 1) := dk_46 (dk_at dksX1_ledge_2 8 rfl rfl)
theorem dX1_ledge_53 : decode cX1_ledge 53 = .ok (.ireturn, 1) := dk_172 (dk_at dksX1_ledge_2 9 rfl rfl)
theorem dX1_ledge_54 : decode cX1_ledge 54 = .ok (.aload_n 0, 1) := dk_42 (dk_at dksX1_ledge_2 10 rfl rfl)
theorem dX1_ledge_55 : decode cX1_ledge 55 = .ok (.getfield 1, 3) := dk_180 0 1 (dk_at dksX1_ledge_2 11 rfl rfl)
theorem dX1_ledge_58 : decode cX1_ledge 58 = .ok (.getfield 51, 3) := dk_180 0 51 (dk_at dksX1_ledge_2 14 rfl rfl)
theorem dX1_ledge_61 : decode cX1_ledge 61 = .ok (.iload_n 1, 1) := dk_27 (dk_at dksX1_ledge_2 17 rfl rfl)
theorem dX1_ledge_62 : decode cX1_ledge 62 = .ok (.iaload, 1) := dk_46 (dk_at dksX1_ledge_2 18 rfl rfl)
theorem dX1_ledge_63 : decode cX1_ledge 63 = .ok (.ireturn, 1) := dk_172 (dk_at dksX1_ledge_2 19 rfl rfl)
theorem dX1_ledge_64 : decode cX1_ledge 64 = .ok (.iload_n 1, 1) := dk_27 (dk_at dksX1_ledge_2 20 rfl rfl)
theorem dX1_ledge_65 : decode cX1_ledge 65 = .ok (.aload_n 0, 1) := dk_42 (dk_at dksX1_ledge_2 21 rfl rfl)
theorem dX1_ledge_66 : decode cX1_ledge 66 = .ok (.getfield 1, 3) := dk_180 0 1 (dk_at dksX1_ledge_3 0 rfl rfl)
theorem dX1_ledge_69 : decode cX1_ledge 69 = .ok (.invokevirtual 178, 3) := dk_182 0 178 (dk_at dksX1_ledge_3 3 rfl rfl)
theorem dX1_ledge_72 : decode cX1_ledge 72 = .ok (.if_icmp .ne 8, 3) := dk_160 0 8 (dk_at dksX1_ledge_3 6 rfl rfl)
theorem dX1_ledge_75 : decode cX1_ledge 75 = .ok (.bipush (-4), 2) := dk_16 252 (dk_at dksX1_ledge_3 9 rfl rfl)
theorem dX1_ledge_77 : decode cX1_ledge 77 = .ok (.goto 12, 3) := dk_167 0 12 (dk_at dksX1_ledge_3 11 rfl rfl)
theorem dX1_ledge_80 : decode cX1_ledge 80 = .ok (.aload_n 0, 1) := dk_42 (dk_at dksX1_ledge_3 14 rfl rfl)
theorem dX1_ledge_81 : decode cX1_ledge 81 = .ok (.getfield 1, 3) := dk_180 0 1 (dk_at dksX1_ledge_3 15 rfl rfl)
theorem dX1_ledge_84 : decode cX1_ledge 84 = .ok (.getfield 54, 3) := dk_180 0 54 (dk_at dksX1_ledge_3 18 rfl rfl)
theorem dX1_ledge_87 : decode cX1_ledge 87 = .ok (.iload_n 1, 1) := dk_27 (dk_at dksX1_ledge_3 21 rfl rfl)
theorem dX1_ledge_88 : decode cX1_ledge 88 = .ok (.iaload, 1) := dk_46 (dk_at dksX1_ledge_3 22 rfl rfl)
theorem dX1_ledge_89 : decode cX1_ledge 89 = .ok (.ireturn, 1) := dk_172 (dk_at dksX1_ledge_3 23 rfl rfl)
theorem dX1_ledge_90 : decode cX1_ledge 90 = .ok (.aload_n 0, 1) := dk_42 (dk_at dksX1_ledge_4 0 rfl rfl)
theorem dX1_ledge_91 : decode cX1_ledge 91 = .ok (.getfield 1, 3) := dk_180 0 1 (dk_at dksX1_ledge_4 1 rfl rfl)
theorem dX1_ledge_94 : decode cX1_ledge 94 = .ok (.getfield 57, 3) := dk_180 0 57 (dk_at dksX1_ledge_4 4 rfl rfl)
theorem dX1_ledge_97 : decode cX1_ledge 97 = .ok (.iload_n 1, 1) := dk_27 (dk_at dksX1_ledge_4 7 rfl rfl)
theorem dX1_ledge_98 : decode cX1_ledge 98 = .ok (.baload, 1) := dk_51 (dk_at dksX1_ledge_4 8 rfl rfl)
theorem dX1_ledge_99 : decode cX1_ledge 99 = .ok (.ifCond .eq 7, 3) := dk_153 0 7 (dk_at dksX1_ledge_4 9 rfl rfl)
theorem dX1_ledge_102 : decode cX1_ledge 102 = .ok (.iconst 1, 1) := dk_4 (dk_at dksX1_ledge_4 12 rfl rfl)
theorem dX1_ledge_103 : decode cX1_ledge 103 = .ok (.goto 4, 3) := dk_167 0 4 (dk_at dksX1_ledge_4 13 rfl rfl)
theorem dX1_ledge_106 : decode cX1_ledge 106 = .ok (.iconst 0, 1) := dk_3 (dk_at dksX1_ledge_4 16 rfl rfl)
theorem dX1_ledge_107 : decode cX1_ledge 107 = .ok (.ireturn, 1) := dk_172 (dk_at dksX1_ledge_4 17 rfl rfl)
theorem dX1_ledge_108 : decode cX1_ledge 108 = .ok (.iconst (-1), 1) := dk_2 (dk_at dksX1_ledge_4 18 rfl rfl)
theorem dX1_ledge_109 : decode cX1_ledge 109 = .ok (.ireturn, 1) := dk_172 (dk_at dksX1_ledge_4 19 rfl rfl)
abbrev cX1_hold : ByteArray := prog_1_method_16_code
def yX1_hold : MethodName := ⟨RX1, "hold", "(II)I"⟩
def dkwX1_hold_1 : List UInt8 := [180, 0, 1, 180, 0, 51, 27, 46, 62, 42, 180, 0, 1, 180, 0, 51, 27, 28, 79, 29, 172]
abbrev dktX1_hold_1 : List UInt8 := dkwX1_hold_1 ++ []
def dkwX1_hold_0 : List UInt8 := [42, 180, 0, 1, 27, 182, 0, 61, 153, 0, 12, 28, 3, 4, 184, 0, 13, 154, 0, 5, 2, 172, 42]
abbrev dktX1_hold_0 : List UInt8 := dkwX1_hold_0 ++ dktX1_hold_1
theorem dksX1_hold_0 : cX1_hold.data.toList.drop 0 = dktX1_hold_0 := by decide +kernel
theorem dksX1_hold_1 : cX1_hold.data.toList.drop 23 = dktX1_hold_1 := dk_seg dksX1_hold_0 23 rfl rfl
theorem dX1_hold_0 : decode cX1_hold 0 = .ok (.aload_n 0, 1) := dk_42 (dk_at dksX1_hold_0 0 rfl rfl)
theorem dX1_hold_1 : decode cX1_hold 1 = .ok (.getfield 1, 3) := dk_180 0 1 (dk_at dksX1_hold_0 1 rfl rfl)
theorem dX1_hold_4 : decode cX1_hold 4 = .ok (.iload_n 1, 1) := dk_27 (dk_at dksX1_hold_0 4 rfl rfl)
theorem dX1_hold_5 : decode cX1_hold 5 = .ok (.invokevirtual 61, 3) := dk_182 0 61 (dk_at dksX1_hold_0 5 rfl rfl)
theorem dX1_hold_8 : decode cX1_hold 8 = .ok (.ifCond .eq 12, 3) := dk_153 0 12 (dk_at dksX1_hold_0 8 rfl rfl)
theorem dX1_hold_11 : decode cX1_hold 11 = .ok (.iload_n 2, 1) := dk_28 (dk_at dksX1_hold_0 11 rfl rfl)
theorem dX1_hold_12 : decode cX1_hold 12 = .ok (.iconst 0, 1) := dk_3 (dk_at dksX1_hold_0 12 rfl rfl)
theorem dX1_hold_13 : decode cX1_hold 13 = .ok (.iconst 1, 1) := dk_4 (dk_at dksX1_hold_0 13 rfl rfl)
theorem dX1_hold_14 : decode cX1_hold 14 = .ok (.invokestatic 13, 3) := dk_184 0 13 (dk_at dksX1_hold_0 14 rfl rfl)
theorem dX1_hold_17 : decode cX1_hold 17 = .ok (.ifCond .ne 5, 3) := dk_154 0 5 (dk_at dksX1_hold_0 17 rfl rfl)
theorem dX1_hold_20 : decode cX1_hold 20 = .ok (.iconst (-1), 1) := dk_2 (dk_at dksX1_hold_0 20 rfl rfl)
theorem dX1_hold_21 : decode cX1_hold 21 = .ok (.ireturn, 1) := dk_172 (dk_at dksX1_hold_0 21 rfl rfl)
theorem dX1_hold_22 : decode cX1_hold 22 = .ok (.aload_n 0, 1) := dk_42 (dk_at dksX1_hold_0 22 rfl rfl)
theorem dX1_hold_23 : decode cX1_hold 23 = .ok (.getfield 1, 3) := dk_180 0 1 (dk_at dksX1_hold_1 0 rfl rfl)
theorem dX1_hold_26 : decode cX1_hold 26 = .ok (.getfield 51, 3) := dk_180 0 51 (dk_at dksX1_hold_1 3 rfl rfl)
theorem dX1_hold_29 : decode cX1_hold 29 = .ok (.iload_n 1, 1) := dk_27 (dk_at dksX1_hold_1 6 rfl rfl)
theorem dX1_hold_30 : decode cX1_hold 30 = .ok (.iaload, 1) := dk_46 (dk_at dksX1_hold_1 7 rfl rfl)
theorem dX1_hold_31 : decode cX1_hold 31 = .ok (.istore_n 3, 1) := dk_62 (dk_at dksX1_hold_1 8 rfl rfl)
theorem dX1_hold_32 : decode cX1_hold 32 = .ok (.aload_n 0, 1) := dk_42 (dk_at dksX1_hold_1 9 rfl rfl)
theorem dX1_hold_33 : decode cX1_hold 33 = .ok (.getfield 1, 3) := dk_180 0 1 (dk_at dksX1_hold_1 10 rfl rfl)
theorem dX1_hold_36 : decode cX1_hold 36 = .ok (.getfield 51, 3) := dk_180 0 51 (dk_at dksX1_hold_1 13 rfl rfl)
theorem dX1_hold_39 : decode cX1_hold 39 = .ok (.iload_n 1, 1) := dk_27 (dk_at dksX1_hold_1 16 rfl rfl)
theorem dX1_hold_40 : decode cX1_hold 40 = .ok (.iload_n 2, 1) := dk_28 (dk_at dksX1_hold_1 17 rfl rfl)
theorem dX1_hold_41 : decode cX1_hold 41 = .ok (.iastore, 1) := dk_79 (dk_at dksX1_hold_1 18 rfl rfl)
theorem dX1_hold_42 : decode cX1_hold 42 = .ok (.iload_n 3, 1) := dk_29 (dk_at dksX1_hold_1 19 rfl rfl)
theorem dX1_hold_43 : decode cX1_hold 43 = .ok (.ireturn, 1) := dk_172 (dk_at dksX1_hold_1 20 rfl rfl)
abbrev cX1_set : ByteArray := prog_1_method_17_code
def yX1_set : MethodName := ⟨RX1, "set", "(II)I"⟩
def dkwX1_set_2 : List UInt8 := [2, 172]
abbrev dktX1_set_2 : List UInt8 := dkwX1_set_2 ++ []
def dkwX1_set_1 : List UInt8 := [167, 0, 10, 42, 180, 0, 1, 180, 0, 86, 62, 42, 27, 28, 182, 0, 115, 153, 0, 7, 29, 167, 0, 4]
abbrev dktX1_set_1 : List UInt8 := dkwX1_set_1 ++ dktX1_set_2
def dkwX1_set_0 : List UInt8 := [27, 3, 4, 184, 0, 13, 154, 0, 5, 2, 172, 27, 154, 0, 13, 42, 180, 0, 1, 180, 0, 83]
abbrev dktX1_set_0 : List UInt8 := dkwX1_set_0 ++ dktX1_set_1
theorem dksX1_set_0 : cX1_set.data.toList.drop 0 = dktX1_set_0 := by decide +kernel
theorem dksX1_set_1 : cX1_set.data.toList.drop 22 = dktX1_set_1 := dk_seg dksX1_set_0 22 rfl rfl
theorem dksX1_set_2 : cX1_set.data.toList.drop 46 = dktX1_set_2 := dk_seg dksX1_set_1 24 rfl rfl
theorem dX1_set_0 : decode cX1_set 0 = .ok (.iload_n 1, 1) := dk_27 (dk_at dksX1_set_0 0 rfl rfl)
theorem dX1_set_1 : decode cX1_set 1 = .ok (.iconst 0, 1) := dk_3 (dk_at dksX1_set_0 1 rfl rfl)
theorem dX1_set_2 : decode cX1_set 2 = .ok (.iconst 1, 1) := dk_4 (dk_at dksX1_set_0 2 rfl rfl)
theorem dX1_set_3 : decode cX1_set 3 = .ok (.invokestatic 13, 3) := dk_184 0 13 (dk_at dksX1_set_0 3 rfl rfl)
theorem dX1_set_6 : decode cX1_set 6 = .ok (.ifCond .ne 5, 3) := dk_154 0 5 (dk_at dksX1_set_0 6 rfl rfl)
theorem dX1_set_9 : decode cX1_set 9 = .ok (.iconst (-1), 1) := dk_2 (dk_at dksX1_set_0 9 rfl rfl)
theorem dX1_set_10 : decode cX1_set 10 = .ok (.ireturn, 1) := dk_172 (dk_at dksX1_set_0 10 rfl rfl)
theorem dX1_set_11 : decode cX1_set 11 = .ok (.iload_n 1, 1) := dk_27 (dk_at dksX1_set_0 11 rfl rfl)
theorem dX1_set_12 : decode cX1_set 12 = .ok (.ifCond .ne 13, 3) := dk_154 0 13 (dk_at dksX1_set_0 12 rfl rfl)
theorem dX1_set_15 : decode cX1_set 15 = .ok (.aload_n 0, 1) := dk_42 (dk_at dksX1_set_0 15 rfl rfl)
theorem dX1_set_16 : decode cX1_set 16 = .ok (.getfield 1, 3) := dk_180 0 1 (dk_at dksX1_set_0 16 rfl rfl)
theorem dX1_set_19 : decode cX1_set 19 = .ok (.getfield 83, 3) := dk_180 0 83 (dk_at dksX1_set_0 19 rfl rfl)
theorem dX1_set_22 : decode cX1_set 22 = .ok (.goto 10, 3) := dk_167 0 10 (dk_at dksX1_set_1 0 rfl rfl)
theorem dX1_set_25 : decode cX1_set 25 = .ok (.aload_n 0, 1) := dk_42 (dk_at dksX1_set_1 3 rfl rfl)
theorem dX1_set_26 : decode cX1_set 26 = .ok (.getfield 1, 3) := dk_180 0 1 (dk_at dksX1_set_1 4 rfl rfl)
theorem dX1_set_29 : decode cX1_set 29 = .ok (.getfield 86, 3) := dk_180 0 86 (dk_at dksX1_set_1 7 rfl rfl)
theorem dX1_set_32 : decode cX1_set 32 = .ok (.istore_n 3, 1) := dk_62 (dk_at dksX1_set_1 10 rfl rfl)
theorem dX1_set_33 : decode cX1_set 33 = .ok (.aload_n 0, 1) := dk_42 (dk_at dksX1_set_1 11 rfl rfl)
theorem dX1_set_34 : decode cX1_set 34 = .ok (.iload_n 1, 1) := dk_27 (dk_at dksX1_set_1 12 rfl rfl)
theorem dX1_set_35 : decode cX1_set 35 = .ok (.iload_n 2, 1) := dk_28 (dk_at dksX1_set_1 13 rfl rfl)
theorem dX1_set_36 : decode cX1_set 36 = .ok (.invokevirtual 115, 3) := dk_182 0 115 (dk_at dksX1_set_1 14 rfl rfl)
theorem dX1_set_39 : decode cX1_set 39 = .ok (.ifCond .eq 7, 3) := dk_153 0 7 (dk_at dksX1_set_1 17 rfl rfl)
theorem dX1_set_42 : decode cX1_set 42 = .ok (.iload_n 3, 1) := dk_29 (dk_at dksX1_set_1 20 rfl rfl)
theorem dX1_set_43 : decode cX1_set 43 = .ok (.goto 4, 3) := dk_167 0 4 (dk_at dksX1_set_1 21 rfl rfl)
theorem dX1_set_46 : decode cX1_set 46 = .ok (.iconst (-1), 1) := dk_2 (dk_at dksX1_set_2 0 rfl rfl)
theorem dX1_set_47 : decode cX1_set 47 = .ok (.ireturn, 1) := dk_172 (dk_at dksX1_set_2 1 rfl rfl)
abbrev cX1_cut : ByteArray := prog_1_method_18_code
def yX1_cut : MethodName := ⟨RX1, "cut", "(II)I"⟩
def dkwX1_cut_2 : List UInt8 := [79, 29, 172]
abbrev dktX1_cut_2 : List UInt8 := dkwX1_cut_2 ++ []
def dkwX1_cut_1 : List UInt8 := [154, 0, 5, 2, 172, 42, 180, 0, 1, 180, 0, 77, 27, 46, 62, 42, 180, 0, 1, 180, 0, 77, 27, 28]
abbrev dktX1_cut_1 : List UInt8 := dkwX1_cut_1 ++ dktX1_cut_2
def dkwX1_cut_0 : List UInt8 := [42, 27, 182, 0, 182, 153, 0, 20, 28, 4, 42, 180, 0, 1, 180, 0, 77, 27, 46, 184, 0, 13]
abbrev dktX1_cut_0 : List UInt8 := dkwX1_cut_0 ++ dktX1_cut_1
theorem dksX1_cut_0 : cX1_cut.data.toList.drop 0 = dktX1_cut_0 := by decide +kernel
theorem dksX1_cut_1 : cX1_cut.data.toList.drop 22 = dktX1_cut_1 := dk_seg dksX1_cut_0 22 rfl rfl
theorem dksX1_cut_2 : cX1_cut.data.toList.drop 46 = dktX1_cut_2 := dk_seg dksX1_cut_1 24 rfl rfl
theorem dX1_cut_0 : decode cX1_cut 0 = .ok (.aload_n 0, 1) := dk_42 (dk_at dksX1_cut_0 0 rfl rfl)
theorem dX1_cut_1 : decode cX1_cut 1 = .ok (.iload_n 1, 1) := dk_27 (dk_at dksX1_cut_0 1 rfl rfl)
theorem dX1_cut_2 : decode cX1_cut 2 = .ok (.invokevirtual 182, 3) := dk_182 0 182 (dk_at dksX1_cut_0 2 rfl rfl)
theorem dX1_cut_5 : decode cX1_cut 5 = .ok (.ifCond .eq 20, 3) := dk_153 0 20 (dk_at dksX1_cut_0 5 rfl rfl)
theorem dX1_cut_8 : decode cX1_cut 8 = .ok (.iload_n 2, 1) := dk_28 (dk_at dksX1_cut_0 8 rfl rfl)
theorem dX1_cut_9 : decode cX1_cut 9 = .ok (.iconst 1, 1) := dk_4 (dk_at dksX1_cut_0 9 rfl rfl)
theorem dX1_cut_10 : decode cX1_cut 10 = .ok (.aload_n 0, 1) := dk_42 (dk_at dksX1_cut_0 10 rfl rfl)
theorem dX1_cut_11 : decode cX1_cut 11 = .ok (.getfield 1, 3) := dk_180 0 1 (dk_at dksX1_cut_0 11 rfl rfl)
theorem dX1_cut_14 : decode cX1_cut 14 = .ok (.getfield 77, 3) := dk_180 0 77 (dk_at dksX1_cut_0 14 rfl rfl)
theorem dX1_cut_17 : decode cX1_cut 17 = .ok (.iload_n 1, 1) := dk_27 (dk_at dksX1_cut_0 17 rfl rfl)
theorem dX1_cut_18 : decode cX1_cut 18 = .ok (.iaload, 1) := dk_46 (dk_at dksX1_cut_0 18 rfl rfl)
theorem dX1_cut_19 : decode cX1_cut 19 = .ok (.invokestatic 13, 3) := dk_184 0 13 (dk_at dksX1_cut_0 19 rfl rfl)
theorem dX1_cut_22 : decode cX1_cut 22 = .ok (.ifCond .ne 5, 3) := dk_154 0 5 (dk_at dksX1_cut_1 0 rfl rfl)
theorem dX1_cut_25 : decode cX1_cut 25 = .ok (.iconst (-1), 1) := dk_2 (dk_at dksX1_cut_1 3 rfl rfl)
theorem dX1_cut_26 : decode cX1_cut 26 = .ok (.ireturn, 1) := dk_172 (dk_at dksX1_cut_1 4 rfl rfl)
theorem dX1_cut_27 : decode cX1_cut 27 = .ok (.aload_n 0, 1) := dk_42 (dk_at dksX1_cut_1 5 rfl rfl)
theorem dX1_cut_28 : decode cX1_cut 28 = .ok (.getfield 1, 3) := dk_180 0 1 (dk_at dksX1_cut_1 6 rfl rfl)
theorem dX1_cut_31 : decode cX1_cut 31 = .ok (.getfield 77, 3) := dk_180 0 77 (dk_at dksX1_cut_1 9 rfl rfl)
theorem dX1_cut_34 : decode cX1_cut 34 = .ok (.iload_n 1, 1) := dk_27 (dk_at dksX1_cut_1 12 rfl rfl)
theorem dX1_cut_35 : decode cX1_cut 35 = .ok (.iaload, 1) := dk_46 (dk_at dksX1_cut_1 13 rfl rfl)
theorem dX1_cut_36 : decode cX1_cut 36 = .ok (.istore_n 3, 1) := dk_62 (dk_at dksX1_cut_1 14 rfl rfl)
theorem dX1_cut_37 : decode cX1_cut 37 = .ok (.aload_n 0, 1) := dk_42 (dk_at dksX1_cut_1 15 rfl rfl)
theorem dX1_cut_38 : decode cX1_cut 38 = .ok (.getfield 1, 3) := dk_180 0 1 (dk_at dksX1_cut_1 16 rfl rfl)
theorem dX1_cut_41 : decode cX1_cut 41 = .ok (.getfield 77, 3) := dk_180 0 77 (dk_at dksX1_cut_1 19 rfl rfl)
theorem dX1_cut_44 : decode cX1_cut 44 = .ok (.iload_n 1, 1) := dk_27 (dk_at dksX1_cut_1 22 rfl rfl)
theorem dX1_cut_45 : decode cX1_cut 45 = .ok (.iload_n 2, 1) := dk_28 (dk_at dksX1_cut_1 23 rfl rfl)
theorem dX1_cut_46 : decode cX1_cut 46 = .ok (.iastore, 1) := dk_79 (dk_at dksX1_cut_2 0 rfl rfl)
theorem dX1_cut_47 : decode cX1_cut 47 = .ok (.iload_n 3, 1) := dk_29 (dk_at dksX1_cut_2 1 rfl rfl)
theorem dX1_cut_48 : decode cX1_cut 48 = .ok (.ireturn, 1) := dk_172 (dk_at dksX1_cut_2 2 rfl rfl)
abbrev cX1_isRope : ByteArray := prog_1_method_3_code
def yX1_isRope : MethodName := ⟨RX1, "isRope", "(I)Z"⟩
def dkwX1_isRope_0 : List UInt8 := [27, 3, 42, 180, 0, 1, 180, 0, 17, 4, 100, 184, 0, 13, 172]
abbrev dktX1_isRope_0 : List UInt8 := dkwX1_isRope_0 ++ []
theorem dksX1_isRope_0 : cX1_isRope.data.toList.drop 0 = dktX1_isRope_0 := by decide +kernel
theorem dX1_isRope_0 : decode cX1_isRope 0 = .ok (.iload_n 1, 1) := dk_27 (dk_at dksX1_isRope_0 0 rfl rfl)
theorem dX1_isRope_1 : decode cX1_isRope 1 = .ok (.iconst 0, 1) := dk_3 (dk_at dksX1_isRope_0 1 rfl rfl)
theorem dX1_isRope_2 : decode cX1_isRope 2 = .ok (.aload_n 0, 1) := dk_42 (dk_at dksX1_isRope_0 2 rfl rfl)
theorem dX1_isRope_3 : decode cX1_isRope 3 = .ok (.getfield 1, 3) := dk_180 0 1 (dk_at dksX1_isRope_0 3 rfl rfl)
theorem dX1_isRope_6 : decode cX1_isRope 6 = .ok (.getfield 17, 3) := dk_180 0 17 (dk_at dksX1_isRope_0 6 rfl rfl)
theorem dX1_isRope_9 : decode cX1_isRope 9 = .ok (.iconst 1, 1) := dk_4 (dk_at dksX1_isRope_0 9 rfl rfl)
theorem dX1_isRope_10 : decode cX1_isRope 10 = .ok (.isub, 1) := dk_100 (dk_at dksX1_isRope_0 10 rfl rfl)
theorem dX1_isRope_11 : decode cX1_isRope 11 = .ok (.invokestatic 13, 3) := dk_184 0 13 (dk_at dksX1_isRope_0 11 rfl rfl)
theorem dX1_isRope_14 : decode cX1_isRope 14 = .ok (.ireturn, 1) := dk_172 (dk_at dksX1_isRope_0 14 rfl rfl)
abbrev cX1_person : ByteArray := prog_1_method_19_code
def yX1_person : MethodName := ⟨RX1, "person", "(I)I"⟩
def dkwX1_person_1 : List UInt8 := [172]
abbrev dktX1_person_1 : List UInt8 := dkwX1_person_1 ++ []
def dkwX1_person_0 : List UInt8 := [42, 27, 182, 0, 185, 153, 0, 18, 42, 180, 0, 1, 180, 0, 68, 180, 0, 72, 27, 46, 167, 0, 4, 2]
abbrev dktX1_person_0 : List UInt8 := dkwX1_person_0 ++ dktX1_person_1
theorem dksX1_person_0 : cX1_person.data.toList.drop 0 = dktX1_person_0 := by decide +kernel
theorem dksX1_person_1 : cX1_person.data.toList.drop 24 = dktX1_person_1 := dk_seg dksX1_person_0 24 rfl rfl
theorem dX1_person_0 : decode cX1_person 0 = .ok (.aload_n 0, 1) := dk_42 (dk_at dksX1_person_0 0 rfl rfl)
theorem dX1_person_1 : decode cX1_person 1 = .ok (.iload_n 1, 1) := dk_27 (dk_at dksX1_person_0 1 rfl rfl)
theorem dX1_person_2 : decode cX1_person 2 = .ok (.invokevirtual 185, 3) := dk_182 0 185 (dk_at dksX1_person_0 2 rfl rfl)
theorem dX1_person_5 : decode cX1_person 5 = .ok (.ifCond .eq 18, 3) := dk_153 0 18 (dk_at dksX1_person_0 5 rfl rfl)
theorem dX1_person_8 : decode cX1_person 8 = .ok (.aload_n 0, 1) := dk_42 (dk_at dksX1_person_0 8 rfl rfl)
theorem dX1_person_9 : decode cX1_person 9 = .ok (.getfield 1, 3) := dk_180 0 1 (dk_at dksX1_person_0 9 rfl rfl)
theorem dX1_person_12 : decode cX1_person 12 = .ok (.getfield 68, 3) := dk_180 0 68 (dk_at dksX1_person_0 12 rfl rfl)
theorem dX1_person_15 : decode cX1_person 15 = .ok (.getfield 72, 3) := dk_180 0 72 (dk_at dksX1_person_0 15 rfl rfl)
theorem dX1_person_18 : decode cX1_person 18 = .ok (.iload_n 1, 1) := dk_27 (dk_at dksX1_person_0 18 rfl rfl)
theorem dX1_person_19 : decode cX1_person 19 = .ok (.iaload, 1) := dk_46 (dk_at dksX1_person_0 19 rfl rfl)
theorem dX1_person_20 : decode cX1_person 20 = .ok (.goto 4, 3) := dk_167 0 4 (dk_at dksX1_person_0 20 rfl rfl)
theorem dX1_person_23 : decode cX1_person 23 = .ok (.iconst (-1), 1) := dk_2 (dk_at dksX1_person_0 23 rfl rfl)
theorem dX1_person_24 : decode cX1_person 24 = .ok (.ireturn, 1) := dk_172 (dk_at dksX1_person_1 0 rfl rfl)
abbrev cX1_isPerson : ByteArray := prog_1_method_2_code
def yX1_isPerson : MethodName := ⟨RX1, "isPerson", "(I)Z"⟩
def dkwX1_isPerson_0 : List UInt8 := [27, 3, 42, 180, 0, 1, 180, 0, 7, 4, 100, 184, 0, 13, 172]
abbrev dktX1_isPerson_0 : List UInt8 := dkwX1_isPerson_0 ++ []
theorem dksX1_isPerson_0 : cX1_isPerson.data.toList.drop 0 = dktX1_isPerson_0 := by decide +kernel
theorem dX1_isPerson_0 : decode cX1_isPerson 0 = .ok (.iload_n 1, 1) := dk_27 (dk_at dksX1_isPerson_0 0 rfl rfl)
theorem dX1_isPerson_1 : decode cX1_isPerson 1 = .ok (.iconst 0, 1) := dk_3 (dk_at dksX1_isPerson_0 1 rfl rfl)
theorem dX1_isPerson_2 : decode cX1_isPerson 2 = .ok (.aload_n 0, 1) := dk_42 (dk_at dksX1_isPerson_0 2 rfl rfl)
theorem dX1_isPerson_3 : decode cX1_isPerson 3 = .ok (.getfield 1, 3) := dk_180 0 1 (dk_at dksX1_isPerson_0 3 rfl rfl)
theorem dX1_isPerson_6 : decode cX1_isPerson 6 = .ok (.getfield 7, 3) := dk_180 0 7 (dk_at dksX1_isPerson_0 6 rfl rfl)
theorem dX1_isPerson_9 : decode cX1_isPerson 9 = .ok (.iconst 1, 1) := dk_4 (dk_at dksX1_isPerson_0 9 rfl rfl)
theorem dX1_isPerson_10 : decode cX1_isPerson 10 = .ok (.isub, 1) := dk_100 (dk_at dksX1_isPerson_0 10 rfl rfl)
theorem dX1_isPerson_11 : decode cX1_isPerson 11 = .ok (.invokestatic 13, 3) := dk_184 0 13 (dk_at dksX1_isPerson_0 11 rfl rfl)
theorem dX1_isPerson_14 : decode cX1_isPerson 14 = .ok (.ireturn, 1) := dk_172 (dk_at dksX1_isPerson_0 14 rfl rfl)
abbrev cX1_rope : ByteArray := prog_1_method_20_code
def yX1_rope : MethodName := ⟨RX1, "rope", "(II)I"⟩
def dkwX1_rope_2 : List UInt8 := [8, 160, 0, 8, 16, 252, 167, 0, 15, 42, 180, 0, 1, 180, 0, 68, 180, 0, 80, 27, 46, 172]
abbrev dktX1_rope_2 : List UInt8 := dkwX1_rope_2 ++ []
def dkwX1_rope_1 : List UInt8 := [42, 180, 0, 1, 180, 0, 77, 27, 46, 167, 0, 36, 42, 180, 0, 1, 180, 0, 68, 180, 0, 80, 27, 46]
abbrev dktX1_rope_1 : List UInt8 := dkwX1_rope_1 ++ dktX1_rope_2
def dkwX1_rope_0 : List UInt8 := [42, 27, 182, 0, 182, 153, 0, 12, 28, 3, 4, 184, 0, 13, 154, 0, 5, 2, 172, 28, 4, 160, 0, 15]
abbrev dktX1_rope_0 : List UInt8 := dkwX1_rope_0 ++ dktX1_rope_1
theorem dksX1_rope_0 : cX1_rope.data.toList.drop 0 = dktX1_rope_0 := by decide +kernel
theorem dksX1_rope_1 : cX1_rope.data.toList.drop 24 = dktX1_rope_1 := dk_seg dksX1_rope_0 24 rfl rfl
theorem dksX1_rope_2 : cX1_rope.data.toList.drop 48 = dktX1_rope_2 := dk_seg dksX1_rope_1 24 rfl rfl
theorem dX1_rope_0 : decode cX1_rope 0 = .ok (.aload_n 0, 1) := dk_42 (dk_at dksX1_rope_0 0 rfl rfl)
theorem dX1_rope_1 : decode cX1_rope 1 = .ok (.iload_n 1, 1) := dk_27 (dk_at dksX1_rope_0 1 rfl rfl)
theorem dX1_rope_2 : decode cX1_rope 2 = .ok (.invokevirtual 182, 3) := dk_182 0 182 (dk_at dksX1_rope_0 2 rfl rfl)
theorem dX1_rope_5 : decode cX1_rope 5 = .ok (.ifCond .eq 12, 3) := dk_153 0 12 (dk_at dksX1_rope_0 5 rfl rfl)
theorem dX1_rope_8 : decode cX1_rope 8 = .ok (.iload_n 2, 1) := dk_28 (dk_at dksX1_rope_0 8 rfl rfl)
theorem dX1_rope_9 : decode cX1_rope 9 = .ok (.iconst 0, 1) := dk_3 (dk_at dksX1_rope_0 9 rfl rfl)
theorem dX1_rope_10 : decode cX1_rope 10 = .ok (.iconst 1, 1) := dk_4 (dk_at dksX1_rope_0 10 rfl rfl)
theorem dX1_rope_11 : decode cX1_rope 11 = .ok (.invokestatic 13, 3) := dk_184 0 13 (dk_at dksX1_rope_0 11 rfl rfl)
theorem dX1_rope_14 : decode cX1_rope 14 = .ok (.ifCond .ne 5, 3) := dk_154 0 5 (dk_at dksX1_rope_0 14 rfl rfl)
theorem dX1_rope_17 : decode cX1_rope 17 = .ok (.iconst (-1), 1) := dk_2 (dk_at dksX1_rope_0 17 rfl rfl)
theorem dX1_rope_18 : decode cX1_rope 18 = .ok (.ireturn, 1) := dk_172 (dk_at dksX1_rope_0 18 rfl rfl)
theorem dX1_rope_19 : decode cX1_rope 19 = .ok (.iload_n 2, 1) := dk_28 (dk_at dksX1_rope_0 19 rfl rfl)
theorem dX1_rope_20 : decode cX1_rope 20 = .ok (.iconst 1, 1) := dk_4 (dk_at dksX1_rope_0 20 rfl rfl)
theorem dX1_rope_21 : decode cX1_rope 21 = .ok (.if_icmp .ne 15, 3) := dk_160 0 15 (dk_at dksX1_rope_0 21 rfl rfl)
theorem dX1_rope_24 : decode cX1_rope 24 = .ok (.aload_n 0, 1) := dk_42 (dk_at dksX1_rope_1 0 rfl rfl)
theorem dX1_rope_25 : decode cX1_rope 25 = .ok (.getfield 1, 3) := dk_180 0 1 (dk_at dksX1_rope_1 1 rfl rfl)
theorem dX1_rope_28 : decode cX1_rope 28 = .ok (.getfield 77, 3) := dk_180 0 77 (dk_at dksX1_rope_1 4 rfl rfl)
theorem dX1_rope_31 : decode cX1_rope 31 = .ok (.iload_n 1, 1) := dk_27 (dk_at dksX1_rope_1 7 rfl rfl)
theorem dX1_rope_32 : decode cX1_rope 32 = .ok (.iaload, 1) := dk_46 (dk_at dksX1_rope_1 8 rfl rfl)
theorem dX1_rope_33 : decode cX1_rope 33 = .ok (.goto 36, 3) := dk_167 0 36 (dk_at dksX1_rope_1 9 rfl rfl)
theorem dX1_rope_36 : decode cX1_rope 36 = .ok (.aload_n 0, 1) := dk_42 (dk_at dksX1_rope_1 12 rfl rfl)
theorem dX1_rope_37 : decode cX1_rope 37 = .ok (.getfield 1, 3) := dk_180 0 1 (dk_at dksX1_rope_1 13 rfl rfl)
theorem dX1_rope_40 : decode cX1_rope 40 = .ok (.getfield 68, 3) := dk_180 0 68 (dk_at dksX1_rope_1 16 rfl rfl)
theorem dX1_rope_43 : decode cX1_rope 43 = .ok (.getfield 80, 3) := dk_180 0 80 (dk_at dksX1_rope_1 19 rfl rfl)
theorem dX1_rope_46 : decode cX1_rope 46 = .ok (.iload_n 1, 1) := dk_27 (dk_at dksX1_rope_1 22 rfl rfl)
theorem dX1_rope_47 : decode cX1_rope 47 = .ok (.iaload, 1) := dk_46 (dk_at dksX1_rope_1 23 rfl rfl)
theorem dX1_rope_48 : decode cX1_rope 48 = .ok (.iconst 5, 1) := dk_8 (dk_at dksX1_rope_2 0 rfl rfl)
theorem dX1_rope_49 : decode cX1_rope 49 = .ok (.if_icmp .ne 8, 3) := dk_160 0 8 (dk_at dksX1_rope_2 1 rfl rfl)
theorem dX1_rope_52 : decode cX1_rope 52 = .ok (.bipush (-4), 2) := dk_16 252 (dk_at dksX1_rope_2 4 rfl rfl)
theorem dX1_rope_54 : decode cX1_rope 54 = .ok (.goto 15, 3) := dk_167 0 15 (dk_at dksX1_rope_2 6 rfl rfl)
theorem dX1_rope_57 : decode cX1_rope 57 = .ok (.aload_n 0, 1) := dk_42 (dk_at dksX1_rope_2 9 rfl rfl)
theorem dX1_rope_58 : decode cX1_rope 58 = .ok (.getfield 1, 3) := dk_180 0 1 (dk_at dksX1_rope_2 10 rfl rfl)
theorem dX1_rope_61 : decode cX1_rope 61 = .ok (.getfield 68, 3) := dk_180 0 68 (dk_at dksX1_rope_2 13 rfl rfl)
theorem dX1_rope_64 : decode cX1_rope 64 = .ok (.getfield 80, 3) := dk_180 0 80 (dk_at dksX1_rope_2 16 rfl rfl)
theorem dX1_rope_67 : decode cX1_rope 67 = .ok (.iload_n 1, 1) := dk_27 (dk_at dksX1_rope_2 19 rfl rfl)
theorem dX1_rope_68 : decode cX1_rope 68 = .ok (.iaload, 1) := dk_46 (dk_at dksX1_rope_2 20 rfl rfl)
theorem dX1_rope_69 : decode cX1_rope 69 = .ok (.ireturn, 1) := dk_172 (dk_at dksX1_rope_2 21 rfl rfl)
abbrev cX1_far : ByteArray := prog_1_method_21_code
def yX1_far : MethodName := ⟨RX1, "far", "(II)I"⟩
def dkwX1_far_0 : List UInt8 := [42, 180, 0, 1, 27, 28, 182, 0, 188, 62, 29, 16, 252, 160, 0, 7, 2, 167, 0, 4, 29, 172]
abbrev dktX1_far_0 : List UInt8 := dkwX1_far_0 ++ []
theorem dksX1_far_0 : cX1_far.data.toList.drop 0 = dktX1_far_0 := by decide +kernel
theorem dX1_far_0 : decode cX1_far 0 = .ok (.aload_n 0, 1) := dk_42 (dk_at dksX1_far_0 0 rfl rfl)
theorem dX1_far_1 : decode cX1_far 1 = .ok (.getfield 1, 3) := dk_180 0 1 (dk_at dksX1_far_0 1 rfl rfl)
theorem dX1_far_4 : decode cX1_far 4 = .ok (.iload_n 1, 1) := dk_27 (dk_at dksX1_far_0 4 rfl rfl)
theorem dX1_far_5 : decode cX1_far 5 = .ok (.iload_n 2, 1) := dk_28 (dk_at dksX1_far_0 5 rfl rfl)
theorem dX1_far_6 : decode cX1_far 6 = .ok (.invokevirtual 188, 3) := dk_182 0 188 (dk_at dksX1_far_0 6 rfl rfl)
theorem dX1_far_9 : decode cX1_far 9 = .ok (.istore_n 3, 1) := dk_62 (dk_at dksX1_far_0 9 rfl rfl)
theorem dX1_far_10 : decode cX1_far 10 = .ok (.iload_n 3, 1) := dk_29 (dk_at dksX1_far_0 10 rfl rfl)
theorem dX1_far_11 : decode cX1_far 11 = .ok (.bipush (-4), 2) := dk_16 252 (dk_at dksX1_far_0 11 rfl rfl)
theorem dX1_far_13 : decode cX1_far 13 = .ok (.if_icmp .ne 7, 3) := dk_160 0 7 (dk_at dksX1_far_0 13 rfl rfl)
theorem dX1_far_16 : decode cX1_far 16 = .ok (.iconst (-1), 1) := dk_2 (dk_at dksX1_far_0 16 rfl rfl)
theorem dX1_far_17 : decode cX1_far 17 = .ok (.goto 4, 3) := dk_167 0 4 (dk_at dksX1_far_0 17 rfl rfl)
theorem dX1_far_20 : decode cX1_far 20 = .ok (.iload_n 3, 1) := dk_29 (dk_at dksX1_far_0 20 rfl rfl)
theorem dX1_far_21 : decode cX1_far 21 = .ok (.ireturn, 1) := dk_172 (dk_at dksX1_far_0 21 rfl rfl)
abbrev cX1_may : ByteArray := prog_1_method_24_code
def yX1_may : MethodName := ⟨RX1, "may", "(I)I"⟩
def dkwX1_may_1 : List UInt8 := [182, 0, 206, 167, 0, 4, 2, 172]
abbrev dktX1_may_1 : List UInt8 := dkwX1_may_1 ++ []
def dkwX1_may_0 : List UInt8 := [27, 184, 0, 200, 153, 0, 25, 42, 27, 182, 0, 203, 42, 180, 0, 1, 42, 180, 0, 1, 180, 0, 68]
abbrev dktX1_may_0 : List UInt8 := dkwX1_may_0 ++ dktX1_may_1
theorem dksX1_may_0 : cX1_may.data.toList.drop 0 = dktX1_may_0 := by decide +kernel
theorem dksX1_may_1 : cX1_may.data.toList.drop 23 = dktX1_may_1 := dk_seg dksX1_may_0 23 rfl rfl
theorem dX1_may_0 : decode cX1_may 0 = .ok (.iload_n 1, 1) := dk_27 (dk_at dksX1_may_0 0 rfl rfl)
theorem dX1_may_1 : decode cX1_may 1 = .ok (.invokestatic 200, 3) := dk_184 0 200 (dk_at dksX1_may_0 1 rfl rfl)
theorem dX1_may_4 : decode cX1_may 4 = .ok (.ifCond .eq 25, 3) := dk_153 0 25 (dk_at dksX1_may_0 4 rfl rfl)
theorem dX1_may_7 : decode cX1_may 7 = .ok (.aload_n 0, 1) := dk_42 (dk_at dksX1_may_0 7 rfl rfl)
theorem dX1_may_8 : decode cX1_may 8 = .ok (.iload_n 1, 1) := dk_27 (dk_at dksX1_may_0 8 rfl rfl)
theorem dX1_may_9 : decode cX1_may 9 = .ok (.invokevirtual 203, 3) := dk_182 0 203 (dk_at dksX1_may_0 9 rfl rfl)
theorem dX1_may_12 : decode cX1_may 12 = .ok (.aload_n 0, 1) := dk_42 (dk_at dksX1_may_0 12 rfl rfl)
theorem dX1_may_13 : decode cX1_may 13 = .ok (.getfield 1, 3) := dk_180 0 1 (dk_at dksX1_may_0 13 rfl rfl)
theorem dX1_may_16 : decode cX1_may 16 = .ok (.aload_n 0, 1) := dk_42 (dk_at dksX1_may_0 16 rfl rfl)
theorem dX1_may_17 : decode cX1_may 17 = .ok (.getfield 1, 3) := dk_180 0 1 (dk_at dksX1_may_0 17 rfl rfl)
theorem dX1_may_20 : decode cX1_may 20 = .ok (.getfield 68, 3) := dk_180 0 68 (dk_at dksX1_may_0 20 rfl rfl)
theorem dX1_may_23 : decode cX1_may 23 = .ok (.invokevirtual 206, 3) := dk_182 0 206 (dk_at dksX1_may_1 0 rfl rfl)
theorem dX1_may_26 : decode cX1_may 26 = .ok (.goto 4, 3) := dk_167 0 4 (dk_at dksX1_may_1 3 rfl rfl)
theorem dX1_may_29 : decode cX1_may 29 = .ok (.iconst (-1), 1) := dk_2 (dk_at dksX1_may_1 6 rfl rfl)
theorem dX1_may_30 : decode cX1_may 30 = .ok (.ireturn, 1) := dk_172 (dk_at dksX1_may_1 7 rfl rfl)
abbrev cX1_isTold : ByteArray := prog_1_method_22_code
def yX1_isTold : MethodName := ⟨RX1, "isTold", "(I)Z"⟩
def dkwX1_isTold_2 : List UInt8 := [112, 8, 162, 0, 7, 4, 167, 0, 4, 3, 172]
abbrev dktX1_isTold_2 : List UInt8 := dkwX1_isTold_2 ++ []
def dkwX1_isTold_1 : List UInt8 := [16, 100, 108, 16, 10, 112, 5, 162, 0, 26, 26, 16, 10, 108, 16, 10, 112, 8, 162, 0, 15, 26, 16, 10]
abbrev dktX1_isTold_1 : List UInt8 := dkwX1_isTold_1 ++ dktX1_isTold_2
def dkwX1_isTold_0 : List UInt8 := [26, 3, 18, 191, 184, 0, 13, 153, 0, 50, 26, 17, 3, 232, 108, 16, 10, 112, 16, 7, 163, 0, 37, 26]
abbrev dktX1_isTold_0 : List UInt8 := dkwX1_isTold_0 ++ dktX1_isTold_1
theorem dksX1_isTold_0 : cX1_isTold.data.toList.drop 0 = dktX1_isTold_0 := by decide +kernel
theorem dksX1_isTold_1 : cX1_isTold.data.toList.drop 24 = dktX1_isTold_1 := dk_seg dksX1_isTold_0 24 rfl rfl
theorem dksX1_isTold_2 : cX1_isTold.data.toList.drop 48 = dktX1_isTold_2 := dk_seg dksX1_isTold_1 24 rfl rfl
theorem dX1_isTold_0 : decode cX1_isTold 0 = .ok (.iload_n 0, 1) := dk_26 (dk_at dksX1_isTold_0 0 rfl rfl)
theorem dX1_isTold_1 : decode cX1_isTold 1 = .ok (.iconst 0, 1) := dk_3 (dk_at dksX1_isTold_0 1 rfl rfl)
theorem dX1_isTold_2 : decode cX1_isTold 2 = .ok (.ldc 191, 2) := dk_18 191 (dk_at dksX1_isTold_0 2 rfl rfl)
theorem dX1_isTold_4 : decode cX1_isTold 4 = .ok (.invokestatic 13, 3) := dk_184 0 13 (dk_at dksX1_isTold_0 4 rfl rfl)
theorem dX1_isTold_7 : decode cX1_isTold 7 = .ok (.ifCond .eq 50, 3) := dk_153 0 50 (dk_at dksX1_isTold_0 7 rfl rfl)
theorem dX1_isTold_10 : decode cX1_isTold 10 = .ok (.iload_n 0, 1) := dk_26 (dk_at dksX1_isTold_0 10 rfl rfl)
theorem dX1_isTold_11 : decode cX1_isTold 11 = .ok (.sipush 1000, 3) := dk_17 3 232 (dk_at dksX1_isTold_0 11 rfl rfl)
theorem dX1_isTold_14 : decode cX1_isTold 14 = .ok (.idiv, 1) := dk_108 (dk_at dksX1_isTold_0 14 rfl rfl)
theorem dX1_isTold_15 : decode cX1_isTold 15 = .ok (.bipush 10, 2) := dk_16 10 (dk_at dksX1_isTold_0 15 rfl rfl)
theorem dX1_isTold_17 : decode cX1_isTold 17 = .ok (.irem, 1) := dk_112 (dk_at dksX1_isTold_0 17 rfl rfl)
theorem dX1_isTold_18 : decode cX1_isTold 18 = .ok (.bipush 7, 2) := dk_16 7 (dk_at dksX1_isTold_0 18 rfl rfl)
theorem dX1_isTold_20 : decode cX1_isTold 20 = .ok (.if_icmp .gt 37, 3) := dk_163 0 37 (dk_at dksX1_isTold_0 20 rfl rfl)
theorem dX1_isTold_23 : decode cX1_isTold 23 = .ok (.iload_n 0, 1) := dk_26 (dk_at dksX1_isTold_0 23 rfl rfl)
theorem dX1_isTold_24 : decode cX1_isTold 24 = .ok (.bipush 100, 2) := dk_16 100 (dk_at dksX1_isTold_1 0 rfl rfl)
theorem dX1_isTold_26 : decode cX1_isTold 26 = .ok (.idiv, 1) := dk_108 (dk_at dksX1_isTold_1 2 rfl rfl)
theorem dX1_isTold_27 : decode cX1_isTold 27 = .ok (.bipush 10, 2) := dk_16 10 (dk_at dksX1_isTold_1 3 rfl rfl)
theorem dX1_isTold_29 : decode cX1_isTold 29 = .ok (.irem, 1) := dk_112 (dk_at dksX1_isTold_1 5 rfl rfl)
theorem dX1_isTold_30 : decode cX1_isTold 30 = .ok (.iconst 2, 1) := dk_5 (dk_at dksX1_isTold_1 6 rfl rfl)
theorem dX1_isTold_31 : decode cX1_isTold 31 = .ok (.if_icmp .ge 26, 3) := dk_162 0 26 (dk_at dksX1_isTold_1 7 rfl rfl)
theorem dX1_isTold_34 : decode cX1_isTold 34 = .ok (.iload_n 0, 1) := dk_26 (dk_at dksX1_isTold_1 10 rfl rfl)
theorem dX1_isTold_35 : decode cX1_isTold 35 = .ok (.bipush 10, 2) := dk_16 10 (dk_at dksX1_isTold_1 11 rfl rfl)
theorem dX1_isTold_37 : decode cX1_isTold 37 = .ok (.idiv, 1) := dk_108 (dk_at dksX1_isTold_1 13 rfl rfl)
theorem dX1_isTold_38 : decode cX1_isTold 38 = .ok (.bipush 10, 2) := dk_16 10 (dk_at dksX1_isTold_1 14 rfl rfl)
theorem dX1_isTold_40 : decode cX1_isTold 40 = .ok (.irem, 1) := dk_112 (dk_at dksX1_isTold_1 16 rfl rfl)
theorem dX1_isTold_41 : decode cX1_isTold 41 = .ok (.iconst 5, 1) := dk_8 (dk_at dksX1_isTold_1 17 rfl rfl)
theorem dX1_isTold_42 : decode cX1_isTold 42 = .ok (.if_icmp .ge 15, 3) := dk_162 0 15 (dk_at dksX1_isTold_1 18 rfl rfl)
theorem dX1_isTold_45 : decode cX1_isTold 45 = .ok (.iload_n 0, 1) := dk_26 (dk_at dksX1_isTold_1 21 rfl rfl)
theorem dX1_isTold_46 : decode cX1_isTold 46 = .ok (.bipush 10, 2) := dk_16 10 (dk_at dksX1_isTold_1 22 rfl rfl)
theorem dX1_isTold_48 : decode cX1_isTold 48 = .ok (.irem, 1) := dk_112 (dk_at dksX1_isTold_2 0 rfl rfl)
theorem dX1_isTold_49 : decode cX1_isTold 49 = .ok (.iconst 5, 1) := dk_8 (dk_at dksX1_isTold_2 1 rfl rfl)
theorem dX1_isTold_50 : decode cX1_isTold 50 = .ok (.if_icmp .ge 7, 3) := dk_162 0 7 (dk_at dksX1_isTold_2 2 rfl rfl)
theorem dX1_isTold_53 : decode cX1_isTold 53 = .ok (.iconst 1, 1) := dk_4 (dk_at dksX1_isTold_2 5 rfl rfl)
theorem dX1_isTold_54 : decode cX1_isTold 54 = .ok (.goto 4, 3) := dk_167 0 4 (dk_at dksX1_isTold_2 6 rfl rfl)
theorem dX1_isTold_57 : decode cX1_isTold 57 = .ok (.iconst 0, 1) := dk_3 (dk_at dksX1_isTold_2 9 rfl rfl)
theorem dX1_isTold_58 : decode cX1_isTold 58 = .ok (.ireturn, 1) := dk_172 (dk_at dksX1_isTold_2 10 rfl rfl)
abbrev cX1_told : ByteArray := prog_1_method_23_code
def yX1_told : MethodName := ⟨RX1, "told", "(I)LDownRope$Move;"⟩
def dkwX1_told_1 : List UInt8 := [112, 27, 16, 10, 108, 16, 10, 112, 27, 16, 10, 112, 182, 0, 196, 176]
abbrev dktX1_told_1 : List UInt8 := dkwX1_told_1 ++ []
def dkwX1_told_0 : List UInt8 := [42, 180, 0, 192, 27, 17, 39, 16, 108, 50, 27, 17, 3, 232, 108, 16, 10, 112, 27, 16, 100, 108, 16, 10]
abbrev dktX1_told_0 : List UInt8 := dkwX1_told_0 ++ dktX1_told_1
theorem dksX1_told_0 : cX1_told.data.toList.drop 0 = dktX1_told_0 := by decide +kernel
theorem dksX1_told_1 : cX1_told.data.toList.drop 24 = dktX1_told_1 := dk_seg dksX1_told_0 24 rfl rfl
theorem dX1_told_0 : decode cX1_told 0 = .ok (.aload_n 0, 1) := dk_42 (dk_at dksX1_told_0 0 rfl rfl)
theorem dX1_told_1 : decode cX1_told 1 = .ok (.getfield 192, 3) := dk_180 0 192 (dk_at dksX1_told_0 1 rfl rfl)
theorem dX1_told_4 : decode cX1_told 4 = .ok (.iload_n 1, 1) := dk_27 (dk_at dksX1_told_0 4 rfl rfl)
theorem dX1_told_5 : decode cX1_told 5 = .ok (.sipush 10000, 3) := dk_17 39 16 (dk_at dksX1_told_0 5 rfl rfl)
theorem dX1_told_8 : decode cX1_told 8 = .ok (.idiv, 1) := dk_108 (dk_at dksX1_told_0 8 rfl rfl)
theorem dX1_told_9 : decode cX1_told 9 = .ok (.aaload, 1) := dk_50 (dk_at dksX1_told_0 9 rfl rfl)
theorem dX1_told_10 : decode cX1_told 10 = .ok (.iload_n 1, 1) := dk_27 (dk_at dksX1_told_0 10 rfl rfl)
theorem dX1_told_11 : decode cX1_told 11 = .ok (.sipush 1000, 3) := dk_17 3 232 (dk_at dksX1_told_0 11 rfl rfl)
theorem dX1_told_14 : decode cX1_told 14 = .ok (.idiv, 1) := dk_108 (dk_at dksX1_told_0 14 rfl rfl)
theorem dX1_told_15 : decode cX1_told 15 = .ok (.bipush 10, 2) := dk_16 10 (dk_at dksX1_told_0 15 rfl rfl)
theorem dX1_told_17 : decode cX1_told 17 = .ok (.irem, 1) := dk_112 (dk_at dksX1_told_0 17 rfl rfl)
theorem dX1_told_18 : decode cX1_told 18 = .ok (.iload_n 1, 1) := dk_27 (dk_at dksX1_told_0 18 rfl rfl)
theorem dX1_told_19 : decode cX1_told 19 = .ok (.bipush 100, 2) := dk_16 100 (dk_at dksX1_told_0 19 rfl rfl)
theorem dX1_told_21 : decode cX1_told 21 = .ok (.idiv, 1) := dk_108 (dk_at dksX1_told_0 21 rfl rfl)
theorem dX1_told_22 : decode cX1_told 22 = .ok (.bipush 10, 2) := dk_16 10 (dk_at dksX1_told_0 22 rfl rfl)
theorem dX1_told_24 : decode cX1_told 24 = .ok (.irem, 1) := dk_112 (dk_at dksX1_told_1 0 rfl rfl)
theorem dX1_told_25 : decode cX1_told 25 = .ok (.iload_n 1, 1) := dk_27 (dk_at dksX1_told_1 1 rfl rfl)
theorem dX1_told_26 : decode cX1_told 26 = .ok (.bipush 10, 2) := dk_16 10 (dk_at dksX1_told_1 2 rfl rfl)
theorem dX1_told_28 : decode cX1_told 28 = .ok (.idiv, 1) := dk_108 (dk_at dksX1_told_1 4 rfl rfl)
theorem dX1_told_29 : decode cX1_told 29 = .ok (.bipush 10, 2) := dk_16 10 (dk_at dksX1_told_1 5 rfl rfl)
theorem dX1_told_31 : decode cX1_told 31 = .ok (.irem, 1) := dk_112 (dk_at dksX1_told_1 7 rfl rfl)
theorem dX1_told_32 : decode cX1_told 32 = .ok (.iload_n 1, 1) := dk_27 (dk_at dksX1_told_1 8 rfl rfl)
theorem dX1_told_33 : decode cX1_told 33 = .ok (.bipush 10, 2) := dk_16 10 (dk_at dksX1_told_1 9 rfl rfl)
theorem dX1_told_35 : decode cX1_told 35 = .ok (.irem, 1) := dk_112 (dk_at dksX1_told_1 11 rfl rfl)
theorem dX1_told_36 : decode cX1_told 36 = .ok (.invokevirtual 196, 3) := dk_182 0 196 (dk_at dksX1_told_1 12 rfl rfl)
theorem dX1_told_39 : decode cX1_told 39 = .ok (.areturn, 1) := dk_176 (dk_at dksX1_told_1 15 rfl rfl)
abbrev cX1_bits : ByteArray := prog_1_method_4_code
def yX1_bits : MethodName := ⟨RX1, "bits", "(I)I"⟩
def dkwX1_bits_0 : List UInt8 := [3, 60, 26, 61, 28, 153, 0, 15, 132, 1, 1, 28, 28, 4, 100, 126, 61, 167, 255, 243, 27, 172]
abbrev dktX1_bits_0 : List UInt8 := dkwX1_bits_0 ++ []
theorem dksX1_bits_0 : cX1_bits.data.toList.drop 0 = dktX1_bits_0 := by decide +kernel
theorem dX1_bits_0 : decode cX1_bits 0 = .ok (.iconst 0, 1) := dk_3 (dk_at dksX1_bits_0 0 rfl rfl)
theorem dX1_bits_1 : decode cX1_bits 1 = .ok (.istore_n 1, 1) := dk_60 (dk_at dksX1_bits_0 1 rfl rfl)
theorem dX1_bits_2 : decode cX1_bits 2 = .ok (.iload_n 0, 1) := dk_26 (dk_at dksX1_bits_0 2 rfl rfl)
theorem dX1_bits_3 : decode cX1_bits 3 = .ok (.istore_n 2, 1) := dk_61 (dk_at dksX1_bits_0 3 rfl rfl)
theorem dX1_bits_4 : decode cX1_bits 4 = .ok (.iload_n 2, 1) := dk_28 (dk_at dksX1_bits_0 4 rfl rfl)
theorem dX1_bits_5 : decode cX1_bits 5 = .ok (.ifCond .eq 15, 3) := dk_153 0 15 (dk_at dksX1_bits_0 5 rfl rfl)
theorem dX1_bits_8 : decode cX1_bits 8 = .ok (.iinc 1 1, 3) := dk_132 1 1 (dk_at dksX1_bits_0 8 rfl rfl)
theorem dX1_bits_11 : decode cX1_bits 11 = .ok (.iload_n 2, 1) := dk_28 (dk_at dksX1_bits_0 11 rfl rfl)
theorem dX1_bits_12 : decode cX1_bits 12 = .ok (.iload_n 2, 1) := dk_28 (dk_at dksX1_bits_0 12 rfl rfl)
theorem dX1_bits_13 : decode cX1_bits 13 = .ok (.iconst 1, 1) := dk_4 (dk_at dksX1_bits_0 13 rfl rfl)
theorem dX1_bits_14 : decode cX1_bits 14 = .ok (.isub, 1) := dk_100 (dk_at dksX1_bits_0 14 rfl rfl)
theorem dX1_bits_15 : decode cX1_bits 15 = .ok (.iand, 1) := dk_126 (dk_at dksX1_bits_0 15 rfl rfl)
theorem dX1_bits_16 : decode cX1_bits 16 = .ok (.istore_n 2, 1) := dk_61 (dk_at dksX1_bits_0 16 rfl rfl)
theorem dX1_bits_17 : decode cX1_bits 17 = .ok (.goto (-13), 3) := dk_167 255 243 (dk_at dksX1_bits_0 17 rfl rfl)
theorem dX1_bits_20 : decode cX1_bits 20 = .ok (.iload_n 1, 1) := dk_27 (dk_at dksX1_bits_0 20 rfl rfl)
theorem dX1_bits_21 : decode cX1_bits 21 = .ok (.ireturn, 1) := dk_172 (dk_at dksX1_bits_0 21 rfl rfl)
abbrev cX1_move : ByteArray := prog_1_method_25_code
def yX1_move : MethodName := ⟨RX1, "move", "(I)I"⟩
def dkwX1_move_3 : List UInt8 := [180, 0, 1, 180, 0, 170, 172]
abbrev dktX1_move_3 : List UInt8 := dkwX1_move_3 ++ []
def dkwX1_move_2 : List UInt8 := [180, 0, 1, 180, 0, 68, 182, 0, 209, 42, 180, 0, 1, 89, 180, 0, 170, 28, 96, 181, 0, 170, 42]
abbrev dktX1_move_2 : List UInt8 := dkwX1_move_2 ++ dktX1_move_3
def dkwX1_move_1 : List UInt8 := [180, 0, 68, 182, 0, 206, 61, 28, 16, 253, 160, 0, 6, 16, 253, 172, 42, 27, 182, 0, 203, 42]
abbrev dktX1_move_1 : List UInt8 := dkwX1_move_1 ++ dktX1_move_2
def dkwX1_move_0 : List UInt8 := [27, 184, 0, 200, 154, 0, 5, 2, 172, 42, 27, 182, 0, 203, 42, 180, 0, 1, 42, 180, 0, 1]
abbrev dktX1_move_0 : List UInt8 := dkwX1_move_0 ++ dktX1_move_1
theorem dksX1_move_0 : cX1_move.data.toList.drop 0 = dktX1_move_0 := by decide +kernel
theorem dksX1_move_1 : cX1_move.data.toList.drop 22 = dktX1_move_1 := dk_seg dksX1_move_0 22 rfl rfl
theorem dksX1_move_2 : cX1_move.data.toList.drop 44 = dktX1_move_2 := dk_seg dksX1_move_1 22 rfl rfl
theorem dksX1_move_3 : cX1_move.data.toList.drop 67 = dktX1_move_3 := dk_seg dksX1_move_2 23 rfl rfl
theorem dX1_move_0 : decode cX1_move 0 = .ok (.iload_n 1, 1) := dk_27 (dk_at dksX1_move_0 0 rfl rfl)
theorem dX1_move_1 : decode cX1_move 1 = .ok (.invokestatic 200, 3) := dk_184 0 200 (dk_at dksX1_move_0 1 rfl rfl)
theorem dX1_move_4 : decode cX1_move 4 = .ok (.ifCond .ne 5, 3) := dk_154 0 5 (dk_at dksX1_move_0 4 rfl rfl)
theorem dX1_move_7 : decode cX1_move 7 = .ok (.iconst (-1), 1) := dk_2 (dk_at dksX1_move_0 7 rfl rfl)
theorem dX1_move_8 : decode cX1_move 8 = .ok (.ireturn, 1) := dk_172 (dk_at dksX1_move_0 8 rfl rfl)
theorem dX1_move_9 : decode cX1_move 9 = .ok (.aload_n 0, 1) := dk_42 (dk_at dksX1_move_0 9 rfl rfl)
theorem dX1_move_10 : decode cX1_move 10 = .ok (.iload_n 1, 1) := dk_27 (dk_at dksX1_move_0 10 rfl rfl)
theorem dX1_move_11 : decode cX1_move 11 = .ok (.invokevirtual 203, 3) := dk_182 0 203 (dk_at dksX1_move_0 11 rfl rfl)
theorem dX1_move_14 : decode cX1_move 14 = .ok (.aload_n 0, 1) := dk_42 (dk_at dksX1_move_0 14 rfl rfl)
theorem dX1_move_15 : decode cX1_move 15 = .ok (.getfield 1, 3) := dk_180 0 1 (dk_at dksX1_move_0 15 rfl rfl)
theorem dX1_move_18 : decode cX1_move 18 = .ok (.aload_n 0, 1) := dk_42 (dk_at dksX1_move_0 18 rfl rfl)
theorem dX1_move_19 : decode cX1_move 19 = .ok (.getfield 1, 3) := dk_180 0 1 (dk_at dksX1_move_0 19 rfl rfl)
theorem dX1_move_22 : decode cX1_move 22 = .ok (.getfield 68, 3) := dk_180 0 68 (dk_at dksX1_move_1 0 rfl rfl)
theorem dX1_move_25 : decode cX1_move 25 = .ok (.invokevirtual 206, 3) := dk_182 0 206 (dk_at dksX1_move_1 3 rfl rfl)
theorem dX1_move_28 : decode cX1_move 28 = .ok (.istore_n 2, 1) := dk_61 (dk_at dksX1_move_1 6 rfl rfl)
theorem dX1_move_29 : decode cX1_move 29 = .ok (.iload_n 2, 1) := dk_28 (dk_at dksX1_move_1 7 rfl rfl)
theorem dX1_move_30 : decode cX1_move 30 = .ok (.bipush (-3), 2) := dk_16 253 (dk_at dksX1_move_1 8 rfl rfl)
theorem dX1_move_32 : decode cX1_move 32 = .ok (.if_icmp .ne 6, 3) := dk_160 0 6 (dk_at dksX1_move_1 10 rfl rfl)
theorem dX1_move_35 : decode cX1_move 35 = .ok (.bipush (-3), 2) := dk_16 253 (dk_at dksX1_move_1 13 rfl rfl)
theorem dX1_move_37 : decode cX1_move 37 = .ok (.ireturn, 1) := dk_172 (dk_at dksX1_move_1 15 rfl rfl)
theorem dX1_move_38 : decode cX1_move 38 = .ok (.aload_n 0, 1) := dk_42 (dk_at dksX1_move_1 16 rfl rfl)
theorem dX1_move_39 : decode cX1_move 39 = .ok (.iload_n 1, 1) := dk_27 (dk_at dksX1_move_1 17 rfl rfl)
theorem dX1_move_40 : decode cX1_move 40 = .ok (.invokevirtual 203, 3) := dk_182 0 203 (dk_at dksX1_move_1 18 rfl rfl)
theorem dX1_move_43 : decode cX1_move 43 = .ok (.aload_n 0, 1) := dk_42 (dk_at dksX1_move_1 21 rfl rfl)
theorem dX1_move_44 : decode cX1_move 44 = .ok (.getfield 1, 3) := dk_180 0 1 (dk_at dksX1_move_2 0 rfl rfl)
theorem dX1_move_47 : decode cX1_move 47 = .ok (.getfield 68, 3) := dk_180 0 68 (dk_at dksX1_move_2 3 rfl rfl)
theorem dX1_move_50 : decode cX1_move 50 = .ok (.invokevirtual 209, 3) := dk_182 0 209 (dk_at dksX1_move_2 6 rfl rfl)
theorem dX1_move_53 : decode cX1_move 53 = .ok (.aload_n 0, 1) := dk_42 (dk_at dksX1_move_2 9 rfl rfl)
theorem dX1_move_54 : decode cX1_move 54 = .ok (.getfield 1, 3) := dk_180 0 1 (dk_at dksX1_move_2 10 rfl rfl)
theorem dX1_move_57 : decode cX1_move 57 = .ok (.dup, 1) := dk_89 (dk_at dksX1_move_2 13 rfl rfl)
theorem dX1_move_58 : decode cX1_move 58 = .ok (.getfield 170, 3) := dk_180 0 170 (dk_at dksX1_move_2 14 rfl rfl)
theorem dX1_move_61 : decode cX1_move 61 = .ok (.iload_n 2, 1) := dk_28 (dk_at dksX1_move_2 17 rfl rfl)
theorem dX1_move_62 : decode cX1_move 62 = .ok (.iadd, 1) := dk_96 (dk_at dksX1_move_2 18 rfl rfl)
theorem dX1_move_63 : decode cX1_move 63 = .ok (.putfield 170, 3) := dk_181 0 170 (dk_at dksX1_move_2 19 rfl rfl)
theorem dX1_move_66 : decode cX1_move 66 = .ok (.aload_n 0, 1) := dk_42 (dk_at dksX1_move_2 22 rfl rfl)
theorem dX1_move_67 : decode cX1_move 67 = .ok (.getfield 1, 3) := dk_180 0 1 (dk_at dksX1_move_3 0 rfl rfl)
theorem dX1_move_70 : decode cX1_move 70 = .ok (.getfield 170, 3) := dk_180 0 170 (dk_at dksX1_move_3 3 rfl rfl)
theorem dX1_move_73 : decode cX1_move 73 = .ok (.ireturn, 1) := dk_172 (dk_at dksX1_move_3 6 rfl rfl)
abbrev cX1_moves : ByteArray := prog_1_method_29_code
def yX1_moves : MethodName := ⟨RX1, "moves", "(I)I"⟩
def dkwX1_moves_2 : List UInt8 := [16, 252, 172]
abbrev dktX1_moves_2 : List UInt8 := dkwX1_moves_2 ++ []
def dkwX1_moves_1 : List UInt8 := [42, 180, 0, 216, 167, 0, 22, 27, 42, 180, 0, 216, 162, 0, 12, 42, 180, 0, 213, 27, 46, 167, 0, 5]
abbrev dktX1_moves_1 : List UInt8 := dkwX1_moves_1 ++ dktX1_moves_2
def dkwX1_moves_0 : List UInt8 := [27, 2, 162, 0, 6, 16, 252, 172, 42, 42, 180, 0, 1, 180, 0, 68, 182, 0, 232, 27, 2, 160, 0, 10]
abbrev dktX1_moves_0 : List UInt8 := dkwX1_moves_0 ++ dktX1_moves_1
theorem dksX1_moves_0 : cX1_moves.data.toList.drop 0 = dktX1_moves_0 := by decide +kernel
theorem dksX1_moves_1 : cX1_moves.data.toList.drop 24 = dktX1_moves_1 := dk_seg dksX1_moves_0 24 rfl rfl
theorem dksX1_moves_2 : cX1_moves.data.toList.drop 48 = dktX1_moves_2 := dk_seg dksX1_moves_1 24 rfl rfl
theorem dX1_moves_0 : decode cX1_moves 0 = .ok (.iload_n 1, 1) := dk_27 (dk_at dksX1_moves_0 0 rfl rfl)
theorem dX1_moves_1 : decode cX1_moves 1 = .ok (.iconst (-1), 1) := dk_2 (dk_at dksX1_moves_0 1 rfl rfl)
theorem dX1_moves_2 : decode cX1_moves 2 = .ok (.if_icmp .ge 6, 3) := dk_162 0 6 (dk_at dksX1_moves_0 2 rfl rfl)
theorem dX1_moves_5 : decode cX1_moves 5 = .ok (.bipush (-4), 2) := dk_16 252 (dk_at dksX1_moves_0 5 rfl rfl)
theorem dX1_moves_7 : decode cX1_moves 7 = .ok (.ireturn, 1) := dk_172 (dk_at dksX1_moves_0 7 rfl rfl)
theorem dX1_moves_8 : decode cX1_moves 8 = .ok (.aload_n 0, 1) := dk_42 (dk_at dksX1_moves_0 8 rfl rfl)
theorem dX1_moves_9 : decode cX1_moves 9 = .ok (.aload_n 0, 1) := dk_42 (dk_at dksX1_moves_0 9 rfl rfl)
theorem dX1_moves_10 : decode cX1_moves 10 = .ok (.getfield 1, 3) := dk_180 0 1 (dk_at dksX1_moves_0 10 rfl rfl)
theorem dX1_moves_13 : decode cX1_moves 13 = .ok (.getfield 68, 3) := dk_180 0 68 (dk_at dksX1_moves_0 13 rfl rfl)
theorem dX1_moves_16 : decode cX1_moves 16 = .ok (.invokevirtual 232, 3) := dk_182 0 232 (dk_at dksX1_moves_0 16 rfl rfl)
theorem dX1_moves_19 : decode cX1_moves 19 = .ok (.iload_n 1, 1) := dk_27 (dk_at dksX1_moves_0 19 rfl rfl)
theorem dX1_moves_20 : decode cX1_moves 20 = .ok (.iconst (-1), 1) := dk_2 (dk_at dksX1_moves_0 20 rfl rfl)
theorem dX1_moves_21 : decode cX1_moves 21 = .ok (.if_icmp .ne 10, 3) := dk_160 0 10 (dk_at dksX1_moves_0 21 rfl rfl)
theorem dX1_moves_24 : decode cX1_moves 24 = .ok (.aload_n 0, 1) := dk_42 (dk_at dksX1_moves_1 0 rfl rfl)
theorem dX1_moves_25 : decode cX1_moves 25 = .ok (.getfield 216, 3) := dk_180 0 216 (dk_at dksX1_moves_1 1 rfl rfl)
theorem dX1_moves_28 : decode cX1_moves 28 = .ok (.goto 22, 3) := dk_167 0 22 (dk_at dksX1_moves_1 4 rfl rfl)
theorem dX1_moves_31 : decode cX1_moves 31 = .ok (.iload_n 1, 1) := dk_27 (dk_at dksX1_moves_1 7 rfl rfl)
theorem dX1_moves_32 : decode cX1_moves 32 = .ok (.aload_n 0, 1) := dk_42 (dk_at dksX1_moves_1 8 rfl rfl)
theorem dX1_moves_33 : decode cX1_moves 33 = .ok (.getfield 216, 3) := dk_180 0 216 (dk_at dksX1_moves_1 9 rfl rfl)
theorem dX1_moves_36 : decode cX1_moves 36 = .ok (.if_icmp .ge 12, 3) := dk_162 0 12 (dk_at dksX1_moves_1 12 rfl rfl)
theorem dX1_moves_39 : decode cX1_moves 39 = .ok (.aload_n 0, 1) := dk_42 (dk_at dksX1_moves_1 15 rfl rfl)
theorem dX1_moves_40 : decode cX1_moves 40 = .ok (.getfield 213, 3) := dk_180 0 213 (dk_at dksX1_moves_1 16 rfl rfl)
theorem dX1_moves_43 : decode cX1_moves 43 = .ok (.iload_n 1, 1) := dk_27 (dk_at dksX1_moves_1 19 rfl rfl)
theorem dX1_moves_44 : decode cX1_moves 44 = .ok (.iaload, 1) := dk_46 (dk_at dksX1_moves_1 20 rfl rfl)
theorem dX1_moves_45 : decode cX1_moves 45 = .ok (.goto 5, 3) := dk_167 0 5 (dk_at dksX1_moves_1 21 rfl rfl)
theorem dX1_moves_48 : decode cX1_moves 48 = .ok (.bipush (-4), 2) := dk_16 252 (dk_at dksX1_moves_2 0 rfl rfl)
theorem dX1_moves_50 : decode cX1_moves 50 = .ok (.ireturn, 1) := dk_172 (dk_at dksX1_moves_2 2 rfl rfl)
abbrev cX1_lists : ByteArray := prog_1_method_28_code
def yX1_lists : MethodName := ⟨RX1, "lists", "(LDownRope$Spot;)V"⟩
def dkwX1_lists_6 : List UInt8 := [167, 255, 210, 132, 5, 1, 167, 255, 149, 132, 3, 1, 167, 255, 119, 132, 2, 1, 167, 255, 105, 177]
abbrev dktX1_lists_6 : List UInt8 := dkwX1_lists_6 ++ []
def dkwX1_lists_5 : List UInt8 := [180, 0, 192, 28, 50, 29, 21, 5, 21, 6, 21, 7, 182, 0, 196, 43, 182, 0, 228, 132, 7, 1]
abbrev dktX1_lists_5 : List UInt8 := dkwX1_lists_5 ++ dktX1_lists_6
def dkwX1_lists_4 : List UInt8 := [3, 7, 184, 0, 13, 153, 0, 42, 21, 7, 42, 180, 0, 1, 180, 0, 44, 162, 0, 30, 42, 42]
abbrev dktX1_lists_4 : List UInt8 := dkwX1_lists_4 ++ dktX1_lists_5
def dkwX1_lists_3 : List UInt8 := [43, 180, 0, 80, 21, 5, 46, 167, 0, 10, 16, 252, 167, 0, 5, 21, 4, 54, 6, 3, 54, 7, 21, 6]
abbrev dktX1_lists_3 : List UInt8 := dkwX1_lists_3 ++ dktX1_lists_4
def dkwX1_lists_2 : List UInt8 := [161, 0, 8, 21, 5, 154, 0, 96, 29, 154, 0, 30, 21, 5, 42, 180, 0, 1, 180, 0, 17, 162, 0, 13]
abbrev dktX1_lists_2 : List UInt8 := dkwX1_lists_2 ++ dktX1_lists_3
def dkwX1_lists_1 : List UInt8 := [120, 162, 0, 130, 42, 29, 43, 182, 0, 224, 54, 4, 3, 54, 5, 21, 5, 42, 180, 0, 1, 180, 0, 17]
abbrev dktX1_lists_1 : List UInt8 := dkwX1_lists_1 ++ dktX1_lists_2
def dkwX1_lists_0 : List UInt8 := [42, 3, 181, 0, 216, 4, 61, 28, 16, 7, 162, 0, 151, 3, 62, 29, 4, 42, 180, 0, 1, 180, 0, 7]
abbrev dktX1_lists_0 : List UInt8 := dkwX1_lists_0 ++ dktX1_lists_1
theorem dksX1_lists_0 : cX1_lists.data.toList.drop 0 = dktX1_lists_0 := by decide +kernel
theorem dksX1_lists_1 : cX1_lists.data.toList.drop 24 = dktX1_lists_1 := dk_seg dksX1_lists_0 24 rfl rfl
theorem dksX1_lists_2 : cX1_lists.data.toList.drop 48 = dktX1_lists_2 := dk_seg dksX1_lists_1 24 rfl rfl
theorem dksX1_lists_3 : cX1_lists.data.toList.drop 72 = dktX1_lists_3 := dk_seg dksX1_lists_2 24 rfl rfl
theorem dksX1_lists_4 : cX1_lists.data.toList.drop 96 = dktX1_lists_4 := dk_seg dksX1_lists_3 24 rfl rfl
theorem dksX1_lists_5 : cX1_lists.data.toList.drop 118 = dktX1_lists_5 := dk_seg dksX1_lists_4 22 rfl rfl
theorem dksX1_lists_6 : cX1_lists.data.toList.drop 140 = dktX1_lists_6 := dk_seg dksX1_lists_5 22 rfl rfl
theorem dX1_lists_0 : decode cX1_lists 0 = .ok (.aload_n 0, 1) := dk_42 (dk_at dksX1_lists_0 0 rfl rfl)
theorem dX1_lists_1 : decode cX1_lists 1 = .ok (.iconst 0, 1) := dk_3 (dk_at dksX1_lists_0 1 rfl rfl)
theorem dX1_lists_2 : decode cX1_lists 2 = .ok (.putfield 216, 3) := dk_181 0 216 (dk_at dksX1_lists_0 2 rfl rfl)
theorem dX1_lists_5 : decode cX1_lists 5 = .ok (.iconst 1, 1) := dk_4 (dk_at dksX1_lists_0 5 rfl rfl)
theorem dX1_lists_6 : decode cX1_lists 6 = .ok (.istore_n 2, 1) := dk_61 (dk_at dksX1_lists_0 6 rfl rfl)
theorem dX1_lists_7 : decode cX1_lists 7 = .ok (.iload_n 2, 1) := dk_28 (dk_at dksX1_lists_0 7 rfl rfl)
theorem dX1_lists_8 : decode cX1_lists 8 = .ok (.bipush 7, 2) := dk_16 7 (dk_at dksX1_lists_0 8 rfl rfl)
theorem dX1_lists_10 : decode cX1_lists 10 = .ok (.if_icmp .ge 151, 3) := dk_162 0 151 (dk_at dksX1_lists_0 10 rfl rfl)
theorem dX1_lists_13 : decode cX1_lists 13 = .ok (.iconst 0, 1) := dk_3 (dk_at dksX1_lists_0 13 rfl rfl)
theorem dX1_lists_14 : decode cX1_lists 14 = .ok (.istore_n 3, 1) := dk_62 (dk_at dksX1_lists_0 14 rfl rfl)
theorem dX1_lists_15 : decode cX1_lists 15 = .ok (.iload_n 3, 1) := dk_29 (dk_at dksX1_lists_0 15 rfl rfl)
theorem dX1_lists_16 : decode cX1_lists 16 = .ok (.iconst 1, 1) := dk_4 (dk_at dksX1_lists_0 16 rfl rfl)
theorem dX1_lists_17 : decode cX1_lists 17 = .ok (.aload_n 0, 1) := dk_42 (dk_at dksX1_lists_0 17 rfl rfl)
theorem dX1_lists_18 : decode cX1_lists 18 = .ok (.getfield 1, 3) := dk_180 0 1 (dk_at dksX1_lists_0 18 rfl rfl)
theorem dX1_lists_21 : decode cX1_lists 21 = .ok (.getfield 7, 3) := dk_180 0 7 (dk_at dksX1_lists_0 21 rfl rfl)
theorem dX1_lists_24 : decode cX1_lists 24 = .ok (.ishl, 1) := dk_120 (dk_at dksX1_lists_1 0 rfl rfl)
theorem dX1_lists_25 : decode cX1_lists 25 = .ok (.if_icmp .ge 130, 3) := dk_162 0 130 (dk_at dksX1_lists_1 1 rfl rfl)
theorem dX1_lists_28 : decode cX1_lists 28 = .ok (.aload_n 0, 1) := dk_42 (dk_at dksX1_lists_1 4 rfl rfl)
theorem dX1_lists_29 : decode cX1_lists 29 = .ok (.iload_n 3, 1) := dk_29 (dk_at dksX1_lists_1 5 rfl rfl)
theorem dX1_lists_30 : decode cX1_lists 30 = .ok (.aload_n 1, 1) := dk_43 (dk_at dksX1_lists_1 6 rfl rfl)
theorem dX1_lists_31 : decode cX1_lists 31 = .ok (.invokevirtual 224, 3) := dk_182 0 224 (dk_at dksX1_lists_1 7 rfl rfl)
theorem dX1_lists_34 : decode cX1_lists 34 = .ok (.istore 4, 2) := dk_54 4 (dk_at dksX1_lists_1 10 rfl rfl)
theorem dX1_lists_36 : decode cX1_lists 36 = .ok (.iconst 0, 1) := dk_3 (dk_at dksX1_lists_1 12 rfl rfl)
theorem dX1_lists_37 : decode cX1_lists 37 = .ok (.istore 5, 2) := dk_54 5 (dk_at dksX1_lists_1 13 rfl rfl)
theorem dX1_lists_39 : decode cX1_lists 39 = .ok (.iload 5, 2) := dk_21 5 (dk_at dksX1_lists_1 15 rfl rfl)
theorem dX1_lists_41 : decode cX1_lists 41 = .ok (.aload_n 0, 1) := dk_42 (dk_at dksX1_lists_1 17 rfl rfl)
theorem dX1_lists_42 : decode cX1_lists 42 = .ok (.getfield 1, 3) := dk_180 0 1 (dk_at dksX1_lists_1 18 rfl rfl)
theorem dX1_lists_45 : decode cX1_lists 45 = .ok (.getfield 17, 3) := dk_180 0 17 (dk_at dksX1_lists_1 21 rfl rfl)
theorem dX1_lists_48 : decode cX1_lists 48 = .ok (.if_icmp .lt 8, 3) := dk_161 0 8 (dk_at dksX1_lists_2 0 rfl rfl)
theorem dX1_lists_51 : decode cX1_lists 51 = .ok (.iload 5, 2) := dk_21 5 (dk_at dksX1_lists_2 3 rfl rfl)
theorem dX1_lists_53 : decode cX1_lists 53 = .ok (.ifCond .ne 96, 3) := dk_154 0 96 (dk_at dksX1_lists_2 5 rfl rfl)
theorem dX1_lists_56 : decode cX1_lists 56 = .ok (.iload_n 3, 1) := dk_29 (dk_at dksX1_lists_2 8 rfl rfl)
theorem dX1_lists_57 : decode cX1_lists 57 = .ok (.ifCond .ne 30, 3) := dk_154 0 30 (dk_at dksX1_lists_2 9 rfl rfl)
theorem dX1_lists_60 : decode cX1_lists 60 = .ok (.iload 5, 2) := dk_21 5 (dk_at dksX1_lists_2 12 rfl rfl)
theorem dX1_lists_62 : decode cX1_lists 62 = .ok (.aload_n 0, 1) := dk_42 (dk_at dksX1_lists_2 14 rfl rfl)
theorem dX1_lists_63 : decode cX1_lists 63 = .ok (.getfield 1, 3) := dk_180 0 1 (dk_at dksX1_lists_2 15 rfl rfl)
theorem dX1_lists_66 : decode cX1_lists 66 = .ok (.getfield 17, 3) := dk_180 0 17 (dk_at dksX1_lists_2 18 rfl rfl)
theorem dX1_lists_69 : decode cX1_lists 69 = .ok (.if_icmp .ge 13, 3) := dk_162 0 13 (dk_at dksX1_lists_2 21 rfl rfl)
theorem dX1_lists_72 : decode cX1_lists 72 = .ok (.aload_n 1, 1) := dk_43 (dk_at dksX1_lists_3 0 rfl rfl)
theorem dX1_lists_73 : decode cX1_lists 73 = .ok (.getfield 80, 3) := dk_180 0 80 (dk_at dksX1_lists_3 1 rfl rfl)
theorem dX1_lists_76 : decode cX1_lists 76 = .ok (.iload 5, 2) := dk_21 5 (dk_at dksX1_lists_3 4 rfl rfl)
theorem dX1_lists_78 : decode cX1_lists 78 = .ok (.iaload, 1) := dk_46 (dk_at dksX1_lists_3 6 rfl rfl)
theorem dX1_lists_79 : decode cX1_lists 79 = .ok (.goto 10, 3) := dk_167 0 10 (dk_at dksX1_lists_3 7 rfl rfl)
theorem dX1_lists_82 : decode cX1_lists 82 = .ok (.bipush (-4), 2) := dk_16 252 (dk_at dksX1_lists_3 10 rfl rfl)
theorem dX1_lists_84 : decode cX1_lists 84 = .ok (.goto 5, 3) := dk_167 0 5 (dk_at dksX1_lists_3 12 rfl rfl)
theorem dX1_lists_87 : decode cX1_lists 87 = .ok (.iload 4, 2) := dk_21 4 (dk_at dksX1_lists_3 15 rfl rfl)
theorem dX1_lists_89 : decode cX1_lists 89 = .ok (.istore 6, 2) := dk_54 6 (dk_at dksX1_lists_3 17 rfl rfl)
theorem dX1_lists_91 : decode cX1_lists 91 = .ok (.iconst 0, 1) := dk_3 (dk_at dksX1_lists_3 19 rfl rfl)
theorem dX1_lists_92 : decode cX1_lists 92 = .ok (.istore 7, 2) := dk_54 7 (dk_at dksX1_lists_3 20 rfl rfl)
theorem dX1_lists_94 : decode cX1_lists 94 = .ok (.iload 6, 2) := dk_21 6 (dk_at dksX1_lists_3 22 rfl rfl)
theorem dX1_lists_96 : decode cX1_lists 96 = .ok (.iconst 0, 1) := dk_3 (dk_at dksX1_lists_4 0 rfl rfl)
theorem dX1_lists_97 : decode cX1_lists 97 = .ok (.iconst 4, 1) := dk_7 (dk_at dksX1_lists_4 1 rfl rfl)
theorem dX1_lists_98 : decode cX1_lists 98 = .ok (.invokestatic 13, 3) := dk_184 0 13 (dk_at dksX1_lists_4 2 rfl rfl)
theorem dX1_lists_101 : decode cX1_lists 101 = .ok (.ifCond .eq 42, 3) := dk_153 0 42 (dk_at dksX1_lists_4 5 rfl rfl)
theorem dX1_lists_104 : decode cX1_lists 104 = .ok (.iload 7, 2) := dk_21 7 (dk_at dksX1_lists_4 8 rfl rfl)
theorem dX1_lists_106 : decode cX1_lists 106 = .ok (.aload_n 0, 1) := dk_42 (dk_at dksX1_lists_4 10 rfl rfl)
theorem dX1_lists_107 : decode cX1_lists 107 = .ok (.getfield 1, 3) := dk_180 0 1 (dk_at dksX1_lists_4 11 rfl rfl)
theorem dX1_lists_110 : decode cX1_lists 110 = .ok (.getfield 44, 3) := dk_180 0 44 (dk_at dksX1_lists_4 14 rfl rfl)
theorem dX1_lists_113 : decode cX1_lists 113 = .ok (.if_icmp .ge 30, 3) := dk_162 0 30 (dk_at dksX1_lists_4 17 rfl rfl)
theorem dX1_lists_116 : decode cX1_lists 116 = .ok (.aload_n 0, 1) := dk_42 (dk_at dksX1_lists_4 20 rfl rfl)
theorem dX1_lists_117 : decode cX1_lists 117 = .ok (.aload_n 0, 1) := dk_42 (dk_at dksX1_lists_4 21 rfl rfl)
theorem dX1_lists_118 : decode cX1_lists 118 = .ok (.getfield 192, 3) := dk_180 0 192 (dk_at dksX1_lists_5 0 rfl rfl)
theorem dX1_lists_121 : decode cX1_lists 121 = .ok (.iload_n 2, 1) := dk_28 (dk_at dksX1_lists_5 3 rfl rfl)
theorem dX1_lists_122 : decode cX1_lists 122 = .ok (.aaload, 1) := dk_50 (dk_at dksX1_lists_5 4 rfl rfl)
theorem dX1_lists_123 : decode cX1_lists 123 = .ok (.iload_n 3, 1) := dk_29 (dk_at dksX1_lists_5 5 rfl rfl)
theorem dX1_lists_124 : decode cX1_lists 124 = .ok (.iload 5, 2) := dk_21 5 (dk_at dksX1_lists_5 6 rfl rfl)
theorem dX1_lists_126 : decode cX1_lists 126 = .ok (.iload 6, 2) := dk_21 6 (dk_at dksX1_lists_5 8 rfl rfl)
theorem dX1_lists_128 : decode cX1_lists 128 = .ok (.iload 7, 2) := dk_21 7 (dk_at dksX1_lists_5 10 rfl rfl)
theorem dX1_lists_130 : decode cX1_lists 130 = .ok (.invokevirtual 196, 3) := dk_182 0 196 (dk_at dksX1_lists_5 12 rfl rfl)
theorem dX1_lists_133 : decode cX1_lists 133 = .ok (.aload_n 1, 1) := dk_43 (dk_at dksX1_lists_5 15 rfl rfl)
theorem dX1_lists_134 : decode cX1_lists 134 = .ok (.invokevirtual 228, 3) := dk_182 0 228 (dk_at dksX1_lists_5 16 rfl rfl)
theorem dX1_lists_137 : decode cX1_lists 137 = .ok (.iinc 7 1, 3) := dk_132 7 1 (dk_at dksX1_lists_5 19 rfl rfl)
theorem dX1_lists_140 : decode cX1_lists 140 = .ok (.goto (-46), 3) := dk_167 255 210 (dk_at dksX1_lists_6 0 rfl rfl)
theorem dX1_lists_143 : decode cX1_lists 143 = .ok (.iinc 5 1, 3) := dk_132 5 1 (dk_at dksX1_lists_6 3 rfl rfl)
theorem dX1_lists_146 : decode cX1_lists 146 = .ok (.goto (-107), 3) := dk_167 255 149 (dk_at dksX1_lists_6 6 rfl rfl)
theorem dX1_lists_149 : decode cX1_lists 149 = .ok (.iinc 3 1, 3) := dk_132 3 1 (dk_at dksX1_lists_6 9 rfl rfl)
theorem dX1_lists_152 : decode cX1_lists 152 = .ok (.goto (-137), 3) := dk_167 255 119 (dk_at dksX1_lists_6 12 rfl rfl)
theorem dX1_lists_155 : decode cX1_lists 155 = .ok (.iinc 2 1, 3) := dk_132 2 1 (dk_at dksX1_lists_6 15 rfl rfl)
theorem dX1_lists_158 : decode cX1_lists 158 = .ok (.goto (-151), 3) := dk_167 255 105 (dk_at dksX1_lists_6 18 rfl rfl)
theorem dX1_lists_161 : decode cX1_lists 161 = .ok (.return_, 1) := dk_177 (dk_at dksX1_lists_6 21 rfl rfl)
abbrev cX1_ledgeOf : ByteArray := prog_1_method_27_code
def yX1_ledgeOf : MethodName := ⟨RX1, "ledgeOf", "(ILDownRope$Spot;)I"⟩
def dkwX1_ledgeOf_3 : List UInt8 := [172]
abbrev dktX1_ledgeOf_3 : List UInt8 := dkwX1_ledgeOf_3 ++ []
def dkwX1_ledgeOf_2 : List UInt8 := [21, 4, 46, 159, 0, 6, 16, 252, 172, 44, 180, 0, 72, 21, 4, 46, 62, 132, 4, 1, 167, 255, 195, 29]
abbrev dktX1_ledgeOf_2 : List UInt8 := dkwX1_ledgeOf_2 ++ dktX1_ledgeOf_3
def dkwX1_ledgeOf_1 : List UInt8 := [21, 4, 42, 180, 0, 1, 180, 0, 7, 162, 0, 20, 29, 16, 252, 159, 0, 17, 29, 44, 180, 0, 72]
abbrev dktX1_ledgeOf_1 : List UInt8 := dkwX1_ledgeOf_1 ++ dktX1_ledgeOf_2
def dkwX1_ledgeOf_0 : List UInt8 := [16, 252, 62, 3, 54, 4, 21, 4, 6, 162, 0, 61, 27, 21, 4, 122, 4, 126, 154, 0, 6, 167, 0, 43]
abbrev dktX1_ledgeOf_0 : List UInt8 := dkwX1_ledgeOf_0 ++ dktX1_ledgeOf_1
theorem dksX1_ledgeOf_0 : cX1_ledgeOf.data.toList.drop 0 = dktX1_ledgeOf_0 := by decide +kernel
theorem dksX1_ledgeOf_1 : cX1_ledgeOf.data.toList.drop 24 = dktX1_ledgeOf_1 := dk_seg dksX1_ledgeOf_0 24 rfl rfl
theorem dksX1_ledgeOf_2 : cX1_ledgeOf.data.toList.drop 47 = dktX1_ledgeOf_2 := dk_seg dksX1_ledgeOf_1 23 rfl rfl
theorem dksX1_ledgeOf_3 : cX1_ledgeOf.data.toList.drop 71 = dktX1_ledgeOf_3 := dk_seg dksX1_ledgeOf_2 24 rfl rfl
theorem dX1_ledgeOf_0 : decode cX1_ledgeOf 0 = .ok (.bipush (-4), 2) := dk_16 252 (dk_at dksX1_ledgeOf_0 0 rfl rfl)
theorem dX1_ledgeOf_2 : decode cX1_ledgeOf 2 = .ok (.istore_n 3, 1) := dk_62 (dk_at dksX1_ledgeOf_0 2 rfl rfl)
theorem dX1_ledgeOf_3 : decode cX1_ledgeOf 3 = .ok (.iconst 0, 1) := dk_3 (dk_at dksX1_ledgeOf_0 3 rfl rfl)
theorem dX1_ledgeOf_4 : decode cX1_ledgeOf 4 = .ok (.istore 4, 2) := dk_54 4 (dk_at dksX1_ledgeOf_0 4 rfl rfl)
theorem dX1_ledgeOf_6 : decode cX1_ledgeOf 6 = .ok (.iload 4, 2) := dk_21 4 (dk_at dksX1_ledgeOf_0 6 rfl rfl)
theorem dX1_ledgeOf_8 : decode cX1_ledgeOf 8 = .ok (.iconst 3, 1) := dk_6 (dk_at dksX1_ledgeOf_0 8 rfl rfl)
theorem dX1_ledgeOf_9 : decode cX1_ledgeOf 9 = .ok (.if_icmp .ge 61, 3) := dk_162 0 61 (dk_at dksX1_ledgeOf_0 9 rfl rfl)
theorem dX1_ledgeOf_12 : decode cX1_ledgeOf 12 = .ok (.iload_n 1, 1) := dk_27 (dk_at dksX1_ledgeOf_0 12 rfl rfl)
theorem dX1_ledgeOf_13 : decode cX1_ledgeOf 13 = .ok (.iload 4, 2) := dk_21 4 (dk_at dksX1_ledgeOf_0 13 rfl rfl)
theorem dX1_ledgeOf_15 : decode cX1_ledgeOf 15 = .ok (.ishr, 1) := dk_122 (dk_at dksX1_ledgeOf_0 15 rfl rfl)
theorem dX1_ledgeOf_16 : decode cX1_ledgeOf 16 = .ok (.iconst 1, 1) := dk_4 (dk_at dksX1_ledgeOf_0 16 rfl rfl)
theorem dX1_ledgeOf_17 : decode cX1_ledgeOf 17 = .ok (.iand, 1) := dk_126 (dk_at dksX1_ledgeOf_0 17 rfl rfl)
theorem dX1_ledgeOf_18 : decode cX1_ledgeOf 18 = .ok (.ifCond .ne 6, 3) := dk_154 0 6 (dk_at dksX1_ledgeOf_0 18 rfl rfl)
theorem dX1_ledgeOf_21 : decode cX1_ledgeOf 21 = .ok (.goto 43, 3) := dk_167 0 43 (dk_at dksX1_ledgeOf_0 21 rfl rfl)
theorem dX1_ledgeOf_24 : decode cX1_ledgeOf 24 = .ok (.iload 4, 2) := dk_21 4 (dk_at dksX1_ledgeOf_1 0 rfl rfl)
theorem dX1_ledgeOf_26 : decode cX1_ledgeOf 26 = .ok (.aload_n 0, 1) := dk_42 (dk_at dksX1_ledgeOf_1 2 rfl rfl)
theorem dX1_ledgeOf_27 : decode cX1_ledgeOf 27 = .ok (.getfield 1, 3) := dk_180 0 1 (dk_at dksX1_ledgeOf_1 3 rfl rfl)
theorem dX1_ledgeOf_30 : decode cX1_ledgeOf 30 = .ok (.getfield 7, 3) := dk_180 0 7 (dk_at dksX1_ledgeOf_1 6 rfl rfl)
theorem dX1_ledgeOf_33 : decode cX1_ledgeOf 33 = .ok (.if_icmp .ge 20, 3) := dk_162 0 20 (dk_at dksX1_ledgeOf_1 9 rfl rfl)
theorem dX1_ledgeOf_36 : decode cX1_ledgeOf 36 = .ok (.iload_n 3, 1) := dk_29 (dk_at dksX1_ledgeOf_1 12 rfl rfl)
theorem dX1_ledgeOf_37 : decode cX1_ledgeOf 37 = .ok (.bipush (-4), 2) := dk_16 252 (dk_at dksX1_ledgeOf_1 13 rfl rfl)
theorem dX1_ledgeOf_39 : decode cX1_ledgeOf 39 = .ok (.if_icmp .eq 17, 3) := dk_159 0 17 (dk_at dksX1_ledgeOf_1 15 rfl rfl)
theorem dX1_ledgeOf_42 : decode cX1_ledgeOf 42 = .ok (.iload_n 3, 1) := dk_29 (dk_at dksX1_ledgeOf_1 18 rfl rfl)
theorem dX1_ledgeOf_43 : decode cX1_ledgeOf 43 = .ok (.aload_n 2, 1) := dk_44 (dk_at dksX1_ledgeOf_1 19 rfl rfl)
theorem dX1_ledgeOf_44 : decode cX1_ledgeOf 44 = .ok (.getfield 72, 3) := dk_180 0 72 (dk_at dksX1_ledgeOf_1 20 rfl rfl)
theorem dX1_ledgeOf_47 : decode cX1_ledgeOf 47 = .ok (.iload 4, 2) := dk_21 4 (dk_at dksX1_ledgeOf_2 0 rfl rfl)
theorem dX1_ledgeOf_49 : decode cX1_ledgeOf 49 = .ok (.iaload, 1) := dk_46 (dk_at dksX1_ledgeOf_2 2 rfl rfl)
theorem dX1_ledgeOf_50 : decode cX1_ledgeOf 50 = .ok (.if_icmp .eq 6, 3) := dk_159 0 6 (dk_at dksX1_ledgeOf_2 3 rfl rfl)
theorem dX1_ledgeOf_53 : decode cX1_ledgeOf 53 = .ok (.bipush (-4), 2) := dk_16 252 (dk_at dksX1_ledgeOf_2 6 rfl rfl)
theorem dX1_ledgeOf_55 : decode cX1_ledgeOf 55 = .ok (.ireturn, 1) := dk_172 (dk_at dksX1_ledgeOf_2 8 rfl rfl)
theorem dX1_ledgeOf_56 : decode cX1_ledgeOf 56 = .ok (.aload_n 2, 1) := dk_44 (dk_at dksX1_ledgeOf_2 9 rfl rfl)
theorem dX1_ledgeOf_57 : decode cX1_ledgeOf 57 = .ok (.getfield 72, 3) := dk_180 0 72 (dk_at dksX1_ledgeOf_2 10 rfl rfl)
theorem dX1_ledgeOf_60 : decode cX1_ledgeOf 60 = .ok (.iload 4, 2) := dk_21 4 (dk_at dksX1_ledgeOf_2 13 rfl rfl)
theorem dX1_ledgeOf_62 : decode cX1_ledgeOf 62 = .ok (.iaload, 1) := dk_46 (dk_at dksX1_ledgeOf_2 15 rfl rfl)
theorem dX1_ledgeOf_63 : decode cX1_ledgeOf 63 = .ok (.istore_n 3, 1) := dk_62 (dk_at dksX1_ledgeOf_2 16 rfl rfl)
theorem dX1_ledgeOf_64 : decode cX1_ledgeOf 64 = .ok (.iinc 4 1, 3) := dk_132 4 1 (dk_at dksX1_ledgeOf_2 17 rfl rfl)
theorem dX1_ledgeOf_67 : decode cX1_ledgeOf 67 = .ok (.goto (-61), 3) := dk_167 255 195 (dk_at dksX1_ledgeOf_2 20 rfl rfl)
theorem dX1_ledgeOf_70 : decode cX1_ledgeOf 70 = .ok (.iload_n 3, 1) := dk_29 (dk_at dksX1_ledgeOf_2 23 rfl rfl)
theorem dX1_ledgeOf_71 : decode cX1_ledgeOf 71 = .ok (.ireturn, 1) := dk_172 (dk_at dksX1_ledgeOf_3 0 rfl rfl)
abbrev cX1_tries : ByteArray := prog_1_method_26_code
def yX1_tries : MethodName := ⟨RX1, "tries", "(LDownRope$Move;LDownRope$Spot;)V"⟩
def dkwX1_tries_2 : List UInt8 := [96, 181, 0, 216, 177]
abbrev dktX1_tries_2 : List UInt8 := dkwX1_tries_2 ++ []
def dkwX1_tries_1 : List UInt8 := [180, 0, 216, 43, 182, 0, 219, 79, 42, 180, 0, 221, 42, 180, 0, 216, 29, 79, 42, 89, 180, 0, 216, 4]
abbrev dktX1_tries_1 : List UInt8 := dkwX1_tries_1 ++ dktX1_tries_2
def dkwX1_tries_0 : List UInt8 := [43, 42, 180, 0, 1, 44, 182, 0, 206, 62, 29, 16, 253, 160, 0, 4, 177, 42, 180, 0, 213, 42]
abbrev dktX1_tries_0 : List UInt8 := dkwX1_tries_0 ++ dktX1_tries_1
theorem dksX1_tries_0 : cX1_tries.data.toList.drop 0 = dktX1_tries_0 := by decide +kernel
theorem dksX1_tries_1 : cX1_tries.data.toList.drop 22 = dktX1_tries_1 := dk_seg dksX1_tries_0 22 rfl rfl
theorem dksX1_tries_2 : cX1_tries.data.toList.drop 46 = dktX1_tries_2 := dk_seg dksX1_tries_1 24 rfl rfl
theorem dX1_tries_0 : decode cX1_tries 0 = .ok (.aload_n 1, 1) := dk_43 (dk_at dksX1_tries_0 0 rfl rfl)
theorem dX1_tries_1 : decode cX1_tries 1 = .ok (.aload_n 0, 1) := dk_42 (dk_at dksX1_tries_0 1 rfl rfl)
theorem dX1_tries_2 : decode cX1_tries 2 = .ok (.getfield 1, 3) := dk_180 0 1 (dk_at dksX1_tries_0 2 rfl rfl)
theorem dX1_tries_5 : decode cX1_tries 5 = .ok (.aload_n 2, 1) := dk_44 (dk_at dksX1_tries_0 5 rfl rfl)
theorem dX1_tries_6 : decode cX1_tries 6 = .ok (.invokevirtual 206, 3) := dk_182 0 206 (dk_at dksX1_tries_0 6 rfl rfl)
theorem dX1_tries_9 : decode cX1_tries 9 = .ok (.istore_n 3, 1) := dk_62 (dk_at dksX1_tries_0 9 rfl rfl)
theorem dX1_tries_10 : decode cX1_tries 10 = .ok (.iload_n 3, 1) := dk_29 (dk_at dksX1_tries_0 10 rfl rfl)
theorem dX1_tries_11 : decode cX1_tries 11 = .ok (.bipush (-3), 2) := dk_16 253 (dk_at dksX1_tries_0 11 rfl rfl)
theorem dX1_tries_13 : decode cX1_tries 13 = .ok (.if_icmp .ne 4, 3) := dk_160 0 4 (dk_at dksX1_tries_0 13 rfl rfl)
theorem dX1_tries_16 : decode cX1_tries 16 = .ok (.return_, 1) := dk_177 (dk_at dksX1_tries_0 16 rfl rfl)
theorem dX1_tries_17 : decode cX1_tries 17 = .ok (.aload_n 0, 1) := dk_42 (dk_at dksX1_tries_0 17 rfl rfl)
theorem dX1_tries_18 : decode cX1_tries 18 = .ok (.getfield 213, 3) := dk_180 0 213 (dk_at dksX1_tries_0 18 rfl rfl)
theorem dX1_tries_21 : decode cX1_tries 21 = .ok (.aload_n 0, 1) := dk_42 (dk_at dksX1_tries_0 21 rfl rfl)
theorem dX1_tries_22 : decode cX1_tries 22 = .ok (.getfield 216, 3) := dk_180 0 216 (dk_at dksX1_tries_1 0 rfl rfl)
theorem dX1_tries_25 : decode cX1_tries 25 = .ok (.aload_n 1, 1) := dk_43 (dk_at dksX1_tries_1 3 rfl rfl)
theorem dX1_tries_26 : decode cX1_tries 26 = .ok (.invokevirtual 219, 3) := dk_182 0 219 (dk_at dksX1_tries_1 4 rfl rfl)
theorem dX1_tries_29 : decode cX1_tries 29 = .ok (.iastore, 1) := dk_79 (dk_at dksX1_tries_1 7 rfl rfl)
theorem dX1_tries_30 : decode cX1_tries 30 = .ok (.aload_n 0, 1) := dk_42 (dk_at dksX1_tries_1 8 rfl rfl)
theorem dX1_tries_31 : decode cX1_tries 31 = .ok (.getfield 221, 3) := dk_180 0 221 (dk_at dksX1_tries_1 9 rfl rfl)
theorem dX1_tries_34 : decode cX1_tries 34 = .ok (.aload_n 0, 1) := dk_42 (dk_at dksX1_tries_1 12 rfl rfl)
theorem dX1_tries_35 : decode cX1_tries 35 = .ok (.getfield 216, 3) := dk_180 0 216 (dk_at dksX1_tries_1 13 rfl rfl)
theorem dX1_tries_38 : decode cX1_tries 38 = .ok (.iload_n 3, 1) := dk_29 (dk_at dksX1_tries_1 16 rfl rfl)
theorem dX1_tries_39 : decode cX1_tries 39 = .ok (.iastore, 1) := dk_79 (dk_at dksX1_tries_1 17 rfl rfl)
theorem dX1_tries_40 : decode cX1_tries 40 = .ok (.aload_n 0, 1) := dk_42 (dk_at dksX1_tries_1 18 rfl rfl)
theorem dX1_tries_41 : decode cX1_tries 41 = .ok (.dup, 1) := dk_89 (dk_at dksX1_tries_1 19 rfl rfl)
theorem dX1_tries_42 : decode cX1_tries 42 = .ok (.getfield 216, 3) := dk_180 0 216 (dk_at dksX1_tries_1 20 rfl rfl)
theorem dX1_tries_45 : decode cX1_tries 45 = .ok (.iconst 1, 1) := dk_4 (dk_at dksX1_tries_1 23 rfl rfl)
theorem dX1_tries_46 : decode cX1_tries 46 = .ok (.iadd, 1) := dk_96 (dk_at dksX1_tries_2 0 rfl rfl)
theorem dX1_tries_47 : decode cX1_tries 47 = .ok (.putfield 216, 3) := dk_181 0 216 (dk_at dksX1_tries_2 1 rfl rfl)
theorem dX1_tries_50 : decode cX1_tries 50 = .ok (.return_, 1) := dk_177 (dk_at dksX1_tries_2 4 rfl rfl)
abbrev cX1_down : ByteArray := prog_1_method_30_code
def yX1_down : MethodName := ⟨RX1, "down", "()I"⟩
def dkwX1_down_0 : List UInt8 := [42, 180, 0, 1, 42, 180, 0, 1, 180, 0, 68, 182, 0, 235, 153, 0, 7, 4, 167, 0, 4, 3, 172]
abbrev dktX1_down_0 : List UInt8 := dkwX1_down_0 ++ []
theorem dksX1_down_0 : cX1_down.data.toList.drop 0 = dktX1_down_0 := by decide +kernel
theorem dX1_down_0 : decode cX1_down 0 = .ok (.aload_n 0, 1) := dk_42 (dk_at dksX1_down_0 0 rfl rfl)
theorem dX1_down_1 : decode cX1_down 1 = .ok (.getfield 1, 3) := dk_180 0 1 (dk_at dksX1_down_0 1 rfl rfl)
theorem dX1_down_4 : decode cX1_down 4 = .ok (.aload_n 0, 1) := dk_42 (dk_at dksX1_down_0 4 rfl rfl)
theorem dX1_down_5 : decode cX1_down 5 = .ok (.getfield 1, 3) := dk_180 0 1 (dk_at dksX1_down_0 5 rfl rfl)
theorem dX1_down_8 : decode cX1_down 8 = .ok (.getfield 68, 3) := dk_180 0 68 (dk_at dksX1_down_0 8 rfl rfl)
theorem dX1_down_11 : decode cX1_down 11 = .ok (.invokevirtual 235, 3) := dk_182 0 235 (dk_at dksX1_down_0 11 rfl rfl)
theorem dX1_down_14 : decode cX1_down 14 = .ok (.ifCond .eq 7, 3) := dk_153 0 7 (dk_at dksX1_down_0 14 rfl rfl)
theorem dX1_down_17 : decode cX1_down 17 = .ok (.iconst 1, 1) := dk_4 (dk_at dksX1_down_0 17 rfl rfl)
theorem dX1_down_18 : decode cX1_down 18 = .ok (.goto 4, 3) := dk_167 0 4 (dk_at dksX1_down_0 18 rfl rfl)
theorem dX1_down_21 : decode cX1_down 21 = .ok (.iconst 0, 1) := dk_3 (dk_at dksX1_down_0 21 rfl rfl)
theorem dX1_down_22 : decode cX1_down 22 = .ok (.ireturn, 1) := dk_172 (dk_at dksX1_down_0 22 rfl rfl)
abbrev cX1_judge : ByteArray := prog_1_method_32_code
def yX1_judge : MethodName := ⟨RX1, "judge", "(II)I"⟩
def dkwX1_judge_2 : List UInt8 := [54, 4, 28, 154, 0, 8, 21, 4, 167, 0, 7, 42, 180, 0, 242, 172]
abbrev dktX1_judge_2 : List UInt8 := dkwX1_judge_2 ++ []
def dkwX1_judge_1 : List UInt8 := [62, 29, 153, 0, 5, 29, 172, 42, 42, 180, 0, 122, 27, 50, 180, 0, 126, 192, 0, 245, 182, 0, 246]
abbrev dktX1_judge_1 : List UInt8 := dkwX1_judge_1 ++ dktX1_judge_2
def dkwX1_judge_0 : List UInt8 := [27, 184, 0, 119, 153, 0, 12, 28, 3, 4, 184, 0, 13, 154, 0, 5, 2, 172, 42, 27, 5, 182, 0, 136]
abbrev dktX1_judge_0 : List UInt8 := dkwX1_judge_0 ++ dktX1_judge_1
theorem dksX1_judge_0 : cX1_judge.data.toList.drop 0 = dktX1_judge_0 := by decide +kernel
theorem dksX1_judge_1 : cX1_judge.data.toList.drop 24 = dktX1_judge_1 := dk_seg dksX1_judge_0 24 rfl rfl
theorem dksX1_judge_2 : cX1_judge.data.toList.drop 47 = dktX1_judge_2 := dk_seg dksX1_judge_1 23 rfl rfl
theorem dX1_judge_0 : decode cX1_judge 0 = .ok (.iload_n 1, 1) := dk_27 (dk_at dksX1_judge_0 0 rfl rfl)
theorem dX1_judge_1 : decode cX1_judge 1 = .ok (.invokestatic 119, 3) := dk_184 0 119 (dk_at dksX1_judge_0 1 rfl rfl)
theorem dX1_judge_4 : decode cX1_judge 4 = .ok (.ifCond .eq 12, 3) := dk_153 0 12 (dk_at dksX1_judge_0 4 rfl rfl)
theorem dX1_judge_7 : decode cX1_judge 7 = .ok (.iload_n 2, 1) := dk_28 (dk_at dksX1_judge_0 7 rfl rfl)
theorem dX1_judge_8 : decode cX1_judge 8 = .ok (.iconst 0, 1) := dk_3 (dk_at dksX1_judge_0 8 rfl rfl)
theorem dX1_judge_9 : decode cX1_judge 9 = .ok (.iconst 1, 1) := dk_4 (dk_at dksX1_judge_0 9 rfl rfl)
theorem dX1_judge_10 : decode cX1_judge 10 = .ok (.invokestatic 13, 3) := dk_184 0 13 (dk_at dksX1_judge_0 10 rfl rfl)
theorem dX1_judge_13 : decode cX1_judge 13 = .ok (.ifCond .ne 5, 3) := dk_154 0 5 (dk_at dksX1_judge_0 13 rfl rfl)
theorem dX1_judge_16 : decode cX1_judge 16 = .ok (.iconst (-1), 1) := dk_2 (dk_at dksX1_judge_0 16 rfl rfl)
theorem dX1_judge_17 : decode cX1_judge 17 = .ok (.ireturn, 1) := dk_172 (dk_at dksX1_judge_0 17 rfl rfl)
theorem dX1_judge_18 : decode cX1_judge 18 = .ok (.aload_n 0, 1) := dk_42 (dk_at dksX1_judge_0 18 rfl rfl)
theorem dX1_judge_19 : decode cX1_judge 19 = .ok (.iload_n 1, 1) := dk_27 (dk_at dksX1_judge_0 19 rfl rfl)
theorem dX1_judge_20 : decode cX1_judge 20 = .ok (.iconst 2, 1) := dk_5 (dk_at dksX1_judge_0 20 rfl rfl)
theorem dX1_judge_21 : decode cX1_judge 21 = .ok (.invokevirtual 136, 3) := dk_182 0 136 (dk_at dksX1_judge_0 21 rfl rfl)
theorem dX1_judge_24 : decode cX1_judge 24 = .ok (.istore_n 3, 1) := dk_62 (dk_at dksX1_judge_1 0 rfl rfl)
theorem dX1_judge_25 : decode cX1_judge 25 = .ok (.iload_n 3, 1) := dk_29 (dk_at dksX1_judge_1 1 rfl rfl)
theorem dX1_judge_26 : decode cX1_judge 26 = .ok (.ifCond .eq 5, 3) := dk_153 0 5 (dk_at dksX1_judge_1 2 rfl rfl)
theorem dX1_judge_29 : decode cX1_judge 29 = .ok (.iload_n 3, 1) := dk_29 (dk_at dksX1_judge_1 5 rfl rfl)
theorem dX1_judge_30 : decode cX1_judge 30 = .ok (.ireturn, 1) := dk_172 (dk_at dksX1_judge_1 6 rfl rfl)
theorem dX1_judge_31 : decode cX1_judge 31 = .ok (.aload_n 0, 1) := dk_42 (dk_at dksX1_judge_1 7 rfl rfl)
theorem dX1_judge_32 : decode cX1_judge 32 = .ok (.aload_n 0, 1) := dk_42 (dk_at dksX1_judge_1 8 rfl rfl)
theorem dX1_judge_33 : decode cX1_judge 33 = .ok (.getfield 122, 3) := dk_180 0 122 (dk_at dksX1_judge_1 9 rfl rfl)
theorem dX1_judge_36 : decode cX1_judge 36 = .ok (.iload_n 1, 1) := dk_27 (dk_at dksX1_judge_1 12 rfl rfl)
theorem dX1_judge_37 : decode cX1_judge 37 = .ok (.aaload, 1) := dk_50 (dk_at dksX1_judge_1 13 rfl rfl)
theorem dX1_judge_38 : decode cX1_judge 38 = .ok (.getfield 126, 3) := dk_180 0 126 (dk_at dksX1_judge_1 14 rfl rfl)
theorem dX1_judge_41 : decode cX1_judge 41 = .ok (.checkcast 245, 3) := dk_192 0 245 (dk_at dksX1_judge_1 17 rfl rfl)
theorem dX1_judge_44 : decode cX1_judge 44 = .ok (.invokevirtual 246, 3) := dk_182 0 246 (dk_at dksX1_judge_1 20 rfl rfl)
theorem dX1_judge_47 : decode cX1_judge 47 = .ok (.istore 4, 2) := dk_54 4 (dk_at dksX1_judge_2 0 rfl rfl)
theorem dX1_judge_49 : decode cX1_judge 49 = .ok (.iload_n 2, 1) := dk_28 (dk_at dksX1_judge_2 2 rfl rfl)
theorem dX1_judge_50 : decode cX1_judge 50 = .ok (.ifCond .ne 8, 3) := dk_154 0 8 (dk_at dksX1_judge_2 3 rfl rfl)
theorem dX1_judge_53 : decode cX1_judge 53 = .ok (.iload 4, 2) := dk_21 4 (dk_at dksX1_judge_2 6 rfl rfl)
theorem dX1_judge_55 : decode cX1_judge 55 = .ok (.goto 7, 3) := dk_167 0 7 (dk_at dksX1_judge_2 8 rfl rfl)
theorem dX1_judge_58 : decode cX1_judge 58 = .ok (.aload_n 0, 1) := dk_42 (dk_at dksX1_judge_2 11 rfl rfl)
theorem dX1_judge_59 : decode cX1_judge 59 = .ok (.getfield 242, 3) := dk_180 0 242 (dk_at dksX1_judge_2 12 rfl rfl)
theorem dX1_judge_62 : decode cX1_judge 62 = .ok (.ireturn, 1) := dk_172 (dk_at dksX1_judge_2 15 rfl rfl)
abbrev cX1_follows : ByteArray := prog_1_method_31_code
def yX1_follows : MethodName := ⟨RX1, "follows", "([I)I"⟩
def dkwX1_follows_4 : List UInt8 := [167, 255, 182, 16, 252, 172]
abbrev dktX1_follows_4 : List UInt8 := dkwX1_follows_4 ++ []
def dkwX1_follows_3 : List UInt8 := [182, 0, 203, 42, 180, 0, 239, 182, 0, 209, 42, 89, 180, 0, 242, 29, 96, 181, 0, 242, 132, 2, 1]
abbrev dktX1_follows_3 : List UInt8 := dkwX1_follows_3 ++ dktX1_follows_4
def dkwX1_follows_2 : List UInt8 := [180, 0, 239, 182, 0, 206, 167, 0, 5, 16, 253, 62, 29, 16, 253, 160, 0, 5, 28, 172, 42, 43, 28, 46]
abbrev dktX1_follows_2 : List UInt8 := dkwX1_follows_2 ++ dktX1_follows_3
def dkwX1_follows_1 : List UInt8 := [162, 0, 74, 43, 28, 46, 184, 0, 200, 153, 0, 24, 42, 43, 28, 46, 182, 0, 203, 42, 180, 0, 1, 42]
abbrev dktX1_follows_1 : List UInt8 := dkwX1_follows_1 ++ dktX1_follows_2
def dkwX1_follows_0 : List UInt8 := [42, 180, 0, 239, 42, 180, 0, 1, 180, 0, 68, 182, 0, 240, 42, 3, 181, 0, 242, 3, 61, 28, 43, 190]
abbrev dktX1_follows_0 : List UInt8 := dkwX1_follows_0 ++ dktX1_follows_1
theorem dksX1_follows_0 : cX1_follows.data.toList.drop 0 = dktX1_follows_0 := by decide +kernel
theorem dksX1_follows_1 : cX1_follows.data.toList.drop 24 = dktX1_follows_1 := dk_seg dksX1_follows_0 24 rfl rfl
theorem dksX1_follows_2 : cX1_follows.data.toList.drop 48 = dktX1_follows_2 := dk_seg dksX1_follows_1 24 rfl rfl
theorem dksX1_follows_3 : cX1_follows.data.toList.drop 72 = dktX1_follows_3 := dk_seg dksX1_follows_2 24 rfl rfl
theorem dksX1_follows_4 : cX1_follows.data.toList.drop 95 = dktX1_follows_4 := dk_seg dksX1_follows_3 23 rfl rfl
theorem dX1_follows_0 : decode cX1_follows 0 = .ok (.aload_n 0, 1) := dk_42 (dk_at dksX1_follows_0 0 rfl rfl)
theorem dX1_follows_1 : decode cX1_follows 1 = .ok (.getfield 239, 3) := dk_180 0 239 (dk_at dksX1_follows_0 1 rfl rfl)
theorem dX1_follows_4 : decode cX1_follows 4 = .ok (.aload_n 0, 1) := dk_42 (dk_at dksX1_follows_0 4 rfl rfl)
theorem dX1_follows_5 : decode cX1_follows 5 = .ok (.getfield 1, 3) := dk_180 0 1 (dk_at dksX1_follows_0 5 rfl rfl)
theorem dX1_follows_8 : decode cX1_follows 8 = .ok (.getfield 68, 3) := dk_180 0 68 (dk_at dksX1_follows_0 8 rfl rfl)
theorem dX1_follows_11 : decode cX1_follows 11 = .ok (.invokevirtual 240, 3) := dk_182 0 240 (dk_at dksX1_follows_0 11 rfl rfl)
theorem dX1_follows_14 : decode cX1_follows 14 = .ok (.aload_n 0, 1) := dk_42 (dk_at dksX1_follows_0 14 rfl rfl)
theorem dX1_follows_15 : decode cX1_follows 15 = .ok (.iconst 0, 1) := dk_3 (dk_at dksX1_follows_0 15 rfl rfl)
theorem dX1_follows_16 : decode cX1_follows 16 = .ok (.putfield 242, 3) := dk_181 0 242 (dk_at dksX1_follows_0 16 rfl rfl)
theorem dX1_follows_19 : decode cX1_follows 19 = .ok (.iconst 0, 1) := dk_3 (dk_at dksX1_follows_0 19 rfl rfl)
theorem dX1_follows_20 : decode cX1_follows 20 = .ok (.istore_n 2, 1) := dk_61 (dk_at dksX1_follows_0 20 rfl rfl)
theorem dX1_follows_21 : decode cX1_follows 21 = .ok (.iload_n 2, 1) := dk_28 (dk_at dksX1_follows_0 21 rfl rfl)
theorem dX1_follows_22 : decode cX1_follows 22 = .ok (.aload_n 1, 1) := dk_43 (dk_at dksX1_follows_0 22 rfl rfl)
theorem dX1_follows_23 : decode cX1_follows 23 = .ok (.arraylength, 1) := dk_190 (dk_at dksX1_follows_0 23 rfl rfl)
theorem dX1_follows_24 : decode cX1_follows 24 = .ok (.if_icmp .ge 74, 3) := dk_162 0 74 (dk_at dksX1_follows_1 0 rfl rfl)
theorem dX1_follows_27 : decode cX1_follows 27 = .ok (.aload_n 1, 1) := dk_43 (dk_at dksX1_follows_1 3 rfl rfl)
theorem dX1_follows_28 : decode cX1_follows 28 = .ok (.iload_n 2, 1) := dk_28 (dk_at dksX1_follows_1 4 rfl rfl)
theorem dX1_follows_29 : decode cX1_follows 29 = .ok (.iaload, 1) := dk_46 (dk_at dksX1_follows_1 5 rfl rfl)
theorem dX1_follows_30 : decode cX1_follows 30 = .ok (.invokestatic 200, 3) := dk_184 0 200 (dk_at dksX1_follows_1 6 rfl rfl)
theorem dX1_follows_33 : decode cX1_follows 33 = .ok (.ifCond .eq 24, 3) := dk_153 0 24 (dk_at dksX1_follows_1 9 rfl rfl)
theorem dX1_follows_36 : decode cX1_follows 36 = .ok (.aload_n 0, 1) := dk_42 (dk_at dksX1_follows_1 12 rfl rfl)
theorem dX1_follows_37 : decode cX1_follows 37 = .ok (.aload_n 1, 1) := dk_43 (dk_at dksX1_follows_1 13 rfl rfl)
theorem dX1_follows_38 : decode cX1_follows 38 = .ok (.iload_n 2, 1) := dk_28 (dk_at dksX1_follows_1 14 rfl rfl)
theorem dX1_follows_39 : decode cX1_follows 39 = .ok (.iaload, 1) := dk_46 (dk_at dksX1_follows_1 15 rfl rfl)
theorem dX1_follows_40 : decode cX1_follows 40 = .ok (.invokevirtual 203, 3) := dk_182 0 203 (dk_at dksX1_follows_1 16 rfl rfl)
theorem dX1_follows_43 : decode cX1_follows 43 = .ok (.aload_n 0, 1) := dk_42 (dk_at dksX1_follows_1 19 rfl rfl)
theorem dX1_follows_44 : decode cX1_follows 44 = .ok (.getfield 1, 3) := dk_180 0 1 (dk_at dksX1_follows_1 20 rfl rfl)
theorem dX1_follows_47 : decode cX1_follows 47 = .ok (.aload_n 0, 1) := dk_42 (dk_at dksX1_follows_1 23 rfl rfl)
theorem dX1_follows_48 : decode cX1_follows 48 = .ok (.getfield 239, 3) := dk_180 0 239 (dk_at dksX1_follows_2 0 rfl rfl)
theorem dX1_follows_51 : decode cX1_follows 51 = .ok (.invokevirtual 206, 3) := dk_182 0 206 (dk_at dksX1_follows_2 3 rfl rfl)
theorem dX1_follows_54 : decode cX1_follows 54 = .ok (.goto 5, 3) := dk_167 0 5 (dk_at dksX1_follows_2 6 rfl rfl)
theorem dX1_follows_57 : decode cX1_follows 57 = .ok (.bipush (-3), 2) := dk_16 253 (dk_at dksX1_follows_2 9 rfl rfl)
theorem dX1_follows_59 : decode cX1_follows 59 = .ok (.istore_n 3, 1) := dk_62 (dk_at dksX1_follows_2 11 rfl rfl)
theorem dX1_follows_60 : decode cX1_follows 60 = .ok (.iload_n 3, 1) := dk_29 (dk_at dksX1_follows_2 12 rfl rfl)
theorem dX1_follows_61 : decode cX1_follows 61 = .ok (.bipush (-3), 2) := dk_16 253 (dk_at dksX1_follows_2 13 rfl rfl)
theorem dX1_follows_63 : decode cX1_follows 63 = .ok (.if_icmp .ne 5, 3) := dk_160 0 5 (dk_at dksX1_follows_2 15 rfl rfl)
theorem dX1_follows_66 : decode cX1_follows 66 = .ok (.iload_n 2, 1) := dk_28 (dk_at dksX1_follows_2 18 rfl rfl)
theorem dX1_follows_67 : decode cX1_follows 67 = .ok (.ireturn, 1) := dk_172 (dk_at dksX1_follows_2 19 rfl rfl)
theorem dX1_follows_68 : decode cX1_follows 68 = .ok (.aload_n 0, 1) := dk_42 (dk_at dksX1_follows_2 20 rfl rfl)
theorem dX1_follows_69 : decode cX1_follows 69 = .ok (.aload_n 1, 1) := dk_43 (dk_at dksX1_follows_2 21 rfl rfl)
theorem dX1_follows_70 : decode cX1_follows 70 = .ok (.iload_n 2, 1) := dk_28 (dk_at dksX1_follows_2 22 rfl rfl)
theorem dX1_follows_71 : decode cX1_follows 71 = .ok (.iaload, 1) := dk_46 (dk_at dksX1_follows_2 23 rfl rfl)
theorem dX1_follows_72 : decode cX1_follows 72 = .ok (.invokevirtual 203, 3) := dk_182 0 203 (dk_at dksX1_follows_3 0 rfl rfl)
theorem dX1_follows_75 : decode cX1_follows 75 = .ok (.aload_n 0, 1) := dk_42 (dk_at dksX1_follows_3 3 rfl rfl)
theorem dX1_follows_76 : decode cX1_follows 76 = .ok (.getfield 239, 3) := dk_180 0 239 (dk_at dksX1_follows_3 4 rfl rfl)
theorem dX1_follows_79 : decode cX1_follows 79 = .ok (.invokevirtual 209, 3) := dk_182 0 209 (dk_at dksX1_follows_3 7 rfl rfl)
theorem dX1_follows_82 : decode cX1_follows 82 = .ok (.aload_n 0, 1) := dk_42 (dk_at dksX1_follows_3 10 rfl rfl)
theorem dX1_follows_83 : decode cX1_follows 83 = .ok (.dup, 1) := dk_89 (dk_at dksX1_follows_3 11 rfl rfl)
theorem dX1_follows_84 : decode cX1_follows 84 = .ok (.getfield 242, 3) := dk_180 0 242 (dk_at dksX1_follows_3 12 rfl rfl)
theorem dX1_follows_87 : decode cX1_follows 87 = .ok (.iload_n 3, 1) := dk_29 (dk_at dksX1_follows_3 15 rfl rfl)
theorem dX1_follows_88 : decode cX1_follows 88 = .ok (.iadd, 1) := dk_96 (dk_at dksX1_follows_3 16 rfl rfl)
theorem dX1_follows_89 : decode cX1_follows 89 = .ok (.putfield 242, 3) := dk_181 0 242 (dk_at dksX1_follows_3 17 rfl rfl)
theorem dX1_follows_92 : decode cX1_follows 92 = .ok (.iinc 2 1, 3) := dk_132 2 1 (dk_at dksX1_follows_3 20 rfl rfl)
theorem dX1_follows_95 : decode cX1_follows 95 = .ok (.goto (-74), 3) := dk_167 255 182 (dk_at dksX1_follows_4 0 rfl rfl)
theorem dX1_follows_98 : decode cX1_follows 98 = .ok (.bipush (-4), 2) := dk_16 252 (dk_at dksX1_follows_4 3 rfl rfl)
theorem dX1_follows_100 : decode cX1_follows 100 = .ok (.ireturn, 1) := dk_172 (dk_at dksX1_follows_4 5 rfl rfl)
abbrev cX1_soonest : ByteArray := prog_1_method_38_code
def yX1_soonest : MethodName := ⟨RX1, "soonest", "()I"⟩
def dkwX1_soonest_0 : List UInt8 := [42, 182, 1, 37, 42, 182, 1, 40, 172]
abbrev dktX1_soonest_0 : List UInt8 := dkwX1_soonest_0 ++ []
theorem dksX1_soonest_0 : cX1_soonest.data.toList.drop 0 = dktX1_soonest_0 := by decide +kernel
theorem dX1_soonest_0 : decode cX1_soonest 0 = .ok (.aload_n 0, 1) := dk_42 (dk_at dksX1_soonest_0 0 rfl rfl)
theorem dX1_soonest_1 : decode cX1_soonest 1 = .ok (.invokevirtual 293, 3) := dk_182 1 37 (dk_at dksX1_soonest_0 1 rfl rfl)
theorem dX1_soonest_4 : decode cX1_soonest 4 = .ok (.aload_n 0, 1) := dk_42 (dk_at dksX1_soonest_0 4 rfl rfl)
theorem dX1_soonest_5 : decode cX1_soonest 5 = .ok (.invokevirtual 296, 3) := dk_182 1 40 (dk_at dksX1_soonest_0 5 rfl rfl)
theorem dX1_soonest_8 : decode cX1_soonest 8 = .ok (.ireturn, 1) := dk_172 (dk_at dksX1_soonest_0 8 rfl rfl)
abbrev cX1_finds : ByteArray := prog_1_method_34_code
def yX1_finds : MethodName := ⟨RX1, "finds", "()V"⟩
def dkwX1_finds_9 : List UInt8 := [17, 17, 148, 112, 21, 5, 79, 132, 2, 1, 132, 4, 1, 167, 255, 150, 167, 255, 99, 177]
abbrev dktX1_finds_9 : List UInt8 := dkwX1_finds_9 ++ []
def dkwX1_finds_8 : List UInt8 := [21, 5, 51, 153, 0, 6, 167, 0, 28, 42, 180, 1, 4, 21, 5, 4, 84, 42, 180, 1, 7, 27, 28, 96]
abbrev dktX1_finds_8 : List UInt8 := dkwX1_finds_8 ++ dktX1_finds_9
def dkwX1_finds_7 : List UInt8 := [180, 0, 250, 21, 5, 46, 161, 0, 6, 167, 0, 49, 42, 21, 5, 21, 6, 182, 1, 13, 42, 180, 1, 4]
abbrev dktX1_finds_7 : List UInt8 := dkwX1_finds_7 ++ dktX1_finds_8
def dkwX1_finds_6 : List UInt8 := [182, 1, 23, 54, 5, 42, 180, 0, 250, 29, 46, 42, 180, 0, 221, 21, 4, 46, 96, 54, 6, 21, 6, 42]
abbrev dktX1_finds_6 : List UInt8 := dkwX1_finds_6 ++ dktX1_finds_7
def dkwX1_finds_5 : List UInt8 := [54, 4, 21, 4, 42, 180, 0, 216, 162, 0, 103, 42, 42, 180, 1, 16, 42, 180, 0, 213, 21, 4, 46]
abbrev dktX1_finds_5 : List UInt8 := dkwX1_finds_5 ++ dktX1_finds_6
def dkwX1_finds_4 : List UInt8 := [180, 1, 4, 29, 3, 84, 42, 180, 1, 16, 29, 182, 1, 19, 42, 42, 180, 1, 16, 182, 0, 232, 3]
abbrev dktX1_finds_4 : List UInt8 := dkwX1_finds_4 ++ dktX1_finds_5
def dkwX1_finds_3 : List UInt8 := [158, 0, 159, 42, 180, 1, 7, 27, 46, 62, 27, 4, 96, 17, 17, 148, 112, 60, 132, 2, 255, 42]
abbrev dktX1_finds_3 : List UInt8 := dkwX1_finds_3 ++ dktX1_finds_4
def dkwX1_finds_2 : List UInt8 := [180, 0, 1, 180, 0, 68, 182, 1, 10, 79, 42, 42, 180, 1, 7, 3, 46, 3, 182, 1, 13, 28]
abbrev dktX1_finds_2 : List UInt8 := dkwX1_finds_2 ++ dktX1_finds_3
def dkwX1_finds_1 : List UInt8 := [180, 1, 4, 27, 3, 84, 132, 1, 1, 167, 255, 231, 3, 60, 4, 61, 42, 180, 1, 7, 3, 42]
abbrev dktX1_finds_1 : List UInt8 := dkwX1_finds_1 ++ dktX1_finds_2
def dkwX1_finds_0 : List UInt8 := [42, 3, 181, 1, 1, 3, 60, 27, 17, 17, 148, 162, 0, 24, 42, 180, 0, 250, 27, 18, 253, 79, 42]
abbrev dktX1_finds_0 : List UInt8 := dkwX1_finds_0 ++ dktX1_finds_1
theorem dksX1_finds_0 : cX1_finds.data.toList.drop 0 = dktX1_finds_0 := by decide +kernel
theorem dksX1_finds_1 : cX1_finds.data.toList.drop 23 = dktX1_finds_1 := dk_seg dksX1_finds_0 23 rfl rfl
theorem dksX1_finds_2 : cX1_finds.data.toList.drop 45 = dktX1_finds_2 := dk_seg dksX1_finds_1 22 rfl rfl
theorem dksX1_finds_3 : cX1_finds.data.toList.drop 67 = dktX1_finds_3 := dk_seg dksX1_finds_2 22 rfl rfl
theorem dksX1_finds_4 : cX1_finds.data.toList.drop 89 = dktX1_finds_4 := dk_seg dksX1_finds_3 22 rfl rfl
theorem dksX1_finds_5 : cX1_finds.data.toList.drop 112 = dktX1_finds_5 := dk_seg dksX1_finds_4 23 rfl rfl
theorem dksX1_finds_6 : cX1_finds.data.toList.drop 135 = dktX1_finds_6 := dk_seg dksX1_finds_5 23 rfl rfl
theorem dksX1_finds_7 : cX1_finds.data.toList.drop 159 = dktX1_finds_7 := dk_seg dksX1_finds_6 24 rfl rfl
theorem dksX1_finds_8 : cX1_finds.data.toList.drop 183 = dktX1_finds_8 := dk_seg dksX1_finds_7 24 rfl rfl
theorem dksX1_finds_9 : cX1_finds.data.toList.drop 207 = dktX1_finds_9 := dk_seg dksX1_finds_8 24 rfl rfl
theorem dX1_finds_0 : decode cX1_finds 0 = .ok (.aload_n 0, 1) := dk_42 (dk_at dksX1_finds_0 0 rfl rfl)
theorem dX1_finds_1 : decode cX1_finds 1 = .ok (.iconst 0, 1) := dk_3 (dk_at dksX1_finds_0 1 rfl rfl)
theorem dX1_finds_2 : decode cX1_finds 2 = .ok (.putfield 257, 3) := dk_181 1 1 (dk_at dksX1_finds_0 2 rfl rfl)
theorem dX1_finds_5 : decode cX1_finds 5 = .ok (.iconst 0, 1) := dk_3 (dk_at dksX1_finds_0 5 rfl rfl)
theorem dX1_finds_6 : decode cX1_finds 6 = .ok (.istore_n 1, 1) := dk_60 (dk_at dksX1_finds_0 6 rfl rfl)
theorem dX1_finds_7 : decode cX1_finds 7 = .ok (.iload_n 1, 1) := dk_27 (dk_at dksX1_finds_0 7 rfl rfl)
theorem dX1_finds_8 : decode cX1_finds 8 = .ok (.sipush 4500, 3) := dk_17 17 148 (dk_at dksX1_finds_0 8 rfl rfl)
theorem dX1_finds_11 : decode cX1_finds 11 = .ok (.if_icmp .ge 24, 3) := dk_162 0 24 (dk_at dksX1_finds_0 11 rfl rfl)
theorem dX1_finds_14 : decode cX1_finds 14 = .ok (.aload_n 0, 1) := dk_42 (dk_at dksX1_finds_0 14 rfl rfl)
theorem dX1_finds_15 : decode cX1_finds 15 = .ok (.getfield 250, 3) := dk_180 0 250 (dk_at dksX1_finds_0 15 rfl rfl)
theorem dX1_finds_18 : decode cX1_finds 18 = .ok (.iload_n 1, 1) := dk_27 (dk_at dksX1_finds_0 18 rfl rfl)
theorem dX1_finds_19 : decode cX1_finds 19 = .ok (.ldc 253, 2) := dk_18 253 (dk_at dksX1_finds_0 19 rfl rfl)
theorem dX1_finds_21 : decode cX1_finds 21 = .ok (.iastore, 1) := dk_79 (dk_at dksX1_finds_0 21 rfl rfl)
theorem dX1_finds_22 : decode cX1_finds 22 = .ok (.aload_n 0, 1) := dk_42 (dk_at dksX1_finds_0 22 rfl rfl)
theorem dX1_finds_23 : decode cX1_finds 23 = .ok (.getfield 260, 3) := dk_180 1 4 (dk_at dksX1_finds_1 0 rfl rfl)
theorem dX1_finds_26 : decode cX1_finds 26 = .ok (.iload_n 1, 1) := dk_27 (dk_at dksX1_finds_1 3 rfl rfl)
theorem dX1_finds_27 : decode cX1_finds 27 = .ok (.iconst 0, 1) := dk_3 (dk_at dksX1_finds_1 4 rfl rfl)
theorem dX1_finds_28 : decode cX1_finds 28 = .ok (.bastore, 1) := dk_84 (dk_at dksX1_finds_1 5 rfl rfl)
theorem dX1_finds_29 : decode cX1_finds 29 = .ok (.iinc 1 1, 3) := dk_132 1 1 (dk_at dksX1_finds_1 6 rfl rfl)
theorem dX1_finds_32 : decode cX1_finds 32 = .ok (.goto (-25), 3) := dk_167 255 231 (dk_at dksX1_finds_1 9 rfl rfl)
theorem dX1_finds_35 : decode cX1_finds 35 = .ok (.iconst 0, 1) := dk_3 (dk_at dksX1_finds_1 12 rfl rfl)
theorem dX1_finds_36 : decode cX1_finds 36 = .ok (.istore_n 1, 1) := dk_60 (dk_at dksX1_finds_1 13 rfl rfl)
theorem dX1_finds_37 : decode cX1_finds 37 = .ok (.iconst 1, 1) := dk_4 (dk_at dksX1_finds_1 14 rfl rfl)
theorem dX1_finds_38 : decode cX1_finds 38 = .ok (.istore_n 2, 1) := dk_61 (dk_at dksX1_finds_1 15 rfl rfl)
theorem dX1_finds_39 : decode cX1_finds 39 = .ok (.aload_n 0, 1) := dk_42 (dk_at dksX1_finds_1 16 rfl rfl)
theorem dX1_finds_40 : decode cX1_finds 40 = .ok (.getfield 263, 3) := dk_180 1 7 (dk_at dksX1_finds_1 17 rfl rfl)
theorem dX1_finds_43 : decode cX1_finds 43 = .ok (.iconst 0, 1) := dk_3 (dk_at dksX1_finds_1 20 rfl rfl)
theorem dX1_finds_44 : decode cX1_finds 44 = .ok (.aload_n 0, 1) := dk_42 (dk_at dksX1_finds_1 21 rfl rfl)
theorem dX1_finds_45 : decode cX1_finds 45 = .ok (.getfield 1, 3) := dk_180 0 1 (dk_at dksX1_finds_2 0 rfl rfl)
theorem dX1_finds_48 : decode cX1_finds 48 = .ok (.getfield 68, 3) := dk_180 0 68 (dk_at dksX1_finds_2 3 rfl rfl)
theorem dX1_finds_51 : decode cX1_finds 51 = .ok (.invokevirtual 266, 3) := dk_182 1 10 (dk_at dksX1_finds_2 6 rfl rfl)
theorem dX1_finds_54 : decode cX1_finds 54 = .ok (.iastore, 1) := dk_79 (dk_at dksX1_finds_2 9 rfl rfl)
theorem dX1_finds_55 : decode cX1_finds 55 = .ok (.aload_n 0, 1) := dk_42 (dk_at dksX1_finds_2 10 rfl rfl)
theorem dX1_finds_56 : decode cX1_finds 56 = .ok (.aload_n 0, 1) := dk_42 (dk_at dksX1_finds_2 11 rfl rfl)
theorem dX1_finds_57 : decode cX1_finds 57 = .ok (.getfield 263, 3) := dk_180 1 7 (dk_at dksX1_finds_2 12 rfl rfl)
theorem dX1_finds_60 : decode cX1_finds 60 = .ok (.iconst 0, 1) := dk_3 (dk_at dksX1_finds_2 15 rfl rfl)
theorem dX1_finds_61 : decode cX1_finds 61 = .ok (.iaload, 1) := dk_46 (dk_at dksX1_finds_2 16 rfl rfl)
theorem dX1_finds_62 : decode cX1_finds 62 = .ok (.iconst 0, 1) := dk_3 (dk_at dksX1_finds_2 17 rfl rfl)
theorem dX1_finds_63 : decode cX1_finds 63 = .ok (.invokevirtual 269, 3) := dk_182 1 13 (dk_at dksX1_finds_2 18 rfl rfl)
theorem dX1_finds_66 : decode cX1_finds 66 = .ok (.iload_n 2, 1) := dk_28 (dk_at dksX1_finds_2 21 rfl rfl)
theorem dX1_finds_67 : decode cX1_finds 67 = .ok (.ifCond .le 159, 3) := dk_158 0 159 (dk_at dksX1_finds_3 0 rfl rfl)
theorem dX1_finds_70 : decode cX1_finds 70 = .ok (.aload_n 0, 1) := dk_42 (dk_at dksX1_finds_3 3 rfl rfl)
theorem dX1_finds_71 : decode cX1_finds 71 = .ok (.getfield 263, 3) := dk_180 1 7 (dk_at dksX1_finds_3 4 rfl rfl)
theorem dX1_finds_74 : decode cX1_finds 74 = .ok (.iload_n 1, 1) := dk_27 (dk_at dksX1_finds_3 7 rfl rfl)
theorem dX1_finds_75 : decode cX1_finds 75 = .ok (.iaload, 1) := dk_46 (dk_at dksX1_finds_3 8 rfl rfl)
theorem dX1_finds_76 : decode cX1_finds 76 = .ok (.istore_n 3, 1) := dk_62 (dk_at dksX1_finds_3 9 rfl rfl)
theorem dX1_finds_77 : decode cX1_finds 77 = .ok (.iload_n 1, 1) := dk_27 (dk_at dksX1_finds_3 10 rfl rfl)
theorem dX1_finds_78 : decode cX1_finds 78 = .ok (.iconst 1, 1) := dk_4 (dk_at dksX1_finds_3 11 rfl rfl)
theorem dX1_finds_79 : decode cX1_finds 79 = .ok (.iadd, 1) := dk_96 (dk_at dksX1_finds_3 12 rfl rfl)
theorem dX1_finds_80 : decode cX1_finds 80 = .ok (.sipush 4500, 3) := dk_17 17 148 (dk_at dksX1_finds_3 13 rfl rfl)
theorem dX1_finds_83 : decode cX1_finds 83 = .ok (.irem, 1) := dk_112 (dk_at dksX1_finds_3 16 rfl rfl)
theorem dX1_finds_84 : decode cX1_finds 84 = .ok (.istore_n 1, 1) := dk_60 (dk_at dksX1_finds_3 17 rfl rfl)
theorem dX1_finds_85 : decode cX1_finds 85 = .ok (.iinc 2 (-1), 3) := dk_132 2 255 (dk_at dksX1_finds_3 18 rfl rfl)
theorem dX1_finds_88 : decode cX1_finds 88 = .ok (.aload_n 0, 1) := dk_42 (dk_at dksX1_finds_3 21 rfl rfl)
theorem dX1_finds_89 : decode cX1_finds 89 = .ok (.getfield 260, 3) := dk_180 1 4 (dk_at dksX1_finds_4 0 rfl rfl)
theorem dX1_finds_92 : decode cX1_finds 92 = .ok (.iload_n 3, 1) := dk_29 (dk_at dksX1_finds_4 3 rfl rfl)
theorem dX1_finds_93 : decode cX1_finds 93 = .ok (.iconst 0, 1) := dk_3 (dk_at dksX1_finds_4 4 rfl rfl)
theorem dX1_finds_94 : decode cX1_finds 94 = .ok (.bastore, 1) := dk_84 (dk_at dksX1_finds_4 5 rfl rfl)
theorem dX1_finds_95 : decode cX1_finds 95 = .ok (.aload_n 0, 1) := dk_42 (dk_at dksX1_finds_4 6 rfl rfl)
theorem dX1_finds_96 : decode cX1_finds 96 = .ok (.getfield 272, 3) := dk_180 1 16 (dk_at dksX1_finds_4 7 rfl rfl)
theorem dX1_finds_99 : decode cX1_finds 99 = .ok (.iload_n 3, 1) := dk_29 (dk_at dksX1_finds_4 10 rfl rfl)
theorem dX1_finds_100 : decode cX1_finds 100 = .ok (.invokevirtual 275, 3) := dk_182 1 19 (dk_at dksX1_finds_4 11 rfl rfl)
theorem dX1_finds_103 : decode cX1_finds 103 = .ok (.aload_n 0, 1) := dk_42 (dk_at dksX1_finds_4 14 rfl rfl)
theorem dX1_finds_104 : decode cX1_finds 104 = .ok (.aload_n 0, 1) := dk_42 (dk_at dksX1_finds_4 15 rfl rfl)
theorem dX1_finds_105 : decode cX1_finds 105 = .ok (.getfield 272, 3) := dk_180 1 16 (dk_at dksX1_finds_4 16 rfl rfl)
theorem dX1_finds_108 : decode cX1_finds 108 = .ok (.invokevirtual 232, 3) := dk_182 0 232 (dk_at dksX1_finds_4 19 rfl rfl)
theorem dX1_finds_111 : decode cX1_finds 111 = .ok (.iconst 0, 1) := dk_3 (dk_at dksX1_finds_4 22 rfl rfl)
theorem dX1_finds_112 : decode cX1_finds 112 = .ok (.istore 4, 2) := dk_54 4 (dk_at dksX1_finds_5 0 rfl rfl)
theorem dX1_finds_114 : decode cX1_finds 114 = .ok (.iload 4, 2) := dk_21 4 (dk_at dksX1_finds_5 2 rfl rfl)
theorem dX1_finds_116 : decode cX1_finds 116 = .ok (.aload_n 0, 1) := dk_42 (dk_at dksX1_finds_5 4 rfl rfl)
theorem dX1_finds_117 : decode cX1_finds 117 = .ok (.getfield 216, 3) := dk_180 0 216 (dk_at dksX1_finds_5 5 rfl rfl)
theorem dX1_finds_120 : decode cX1_finds 120 = .ok (.if_icmp .ge 103, 3) := dk_162 0 103 (dk_at dksX1_finds_5 8 rfl rfl)
theorem dX1_finds_123 : decode cX1_finds 123 = .ok (.aload_n 0, 1) := dk_42 (dk_at dksX1_finds_5 11 rfl rfl)
theorem dX1_finds_124 : decode cX1_finds 124 = .ok (.aload_n 0, 1) := dk_42 (dk_at dksX1_finds_5 12 rfl rfl)
theorem dX1_finds_125 : decode cX1_finds 125 = .ok (.getfield 272, 3) := dk_180 1 16 (dk_at dksX1_finds_5 13 rfl rfl)
theorem dX1_finds_128 : decode cX1_finds 128 = .ok (.aload_n 0, 1) := dk_42 (dk_at dksX1_finds_5 16 rfl rfl)
theorem dX1_finds_129 : decode cX1_finds 129 = .ok (.getfield 213, 3) := dk_180 0 213 (dk_at dksX1_finds_5 17 rfl rfl)
theorem dX1_finds_132 : decode cX1_finds 132 = .ok (.iload 4, 2) := dk_21 4 (dk_at dksX1_finds_5 20 rfl rfl)
theorem dX1_finds_134 : decode cX1_finds 134 = .ok (.iaload, 1) := dk_46 (dk_at dksX1_finds_5 22 rfl rfl)
theorem dX1_finds_135 : decode cX1_finds 135 = .ok (.invokevirtual 279, 3) := dk_182 1 23 (dk_at dksX1_finds_6 0 rfl rfl)
theorem dX1_finds_138 : decode cX1_finds 138 = .ok (.istore 5, 2) := dk_54 5 (dk_at dksX1_finds_6 3 rfl rfl)
theorem dX1_finds_140 : decode cX1_finds 140 = .ok (.aload_n 0, 1) := dk_42 (dk_at dksX1_finds_6 5 rfl rfl)
theorem dX1_finds_141 : decode cX1_finds 141 = .ok (.getfield 250, 3) := dk_180 0 250 (dk_at dksX1_finds_6 6 rfl rfl)
theorem dX1_finds_144 : decode cX1_finds 144 = .ok (.iload_n 3, 1) := dk_29 (dk_at dksX1_finds_6 9 rfl rfl)
theorem dX1_finds_145 : decode cX1_finds 145 = .ok (.iaload, 1) := dk_46 (dk_at dksX1_finds_6 10 rfl rfl)
theorem dX1_finds_146 : decode cX1_finds 146 = .ok (.aload_n 0, 1) := dk_42 (dk_at dksX1_finds_6 11 rfl rfl)
theorem dX1_finds_147 : decode cX1_finds 147 = .ok (.getfield 221, 3) := dk_180 0 221 (dk_at dksX1_finds_6 12 rfl rfl)
theorem dX1_finds_150 : decode cX1_finds 150 = .ok (.iload 4, 2) := dk_21 4 (dk_at dksX1_finds_6 15 rfl rfl)
theorem dX1_finds_152 : decode cX1_finds 152 = .ok (.iaload, 1) := dk_46 (dk_at dksX1_finds_6 17 rfl rfl)
theorem dX1_finds_153 : decode cX1_finds 153 = .ok (.iadd, 1) := dk_96 (dk_at dksX1_finds_6 18 rfl rfl)
theorem dX1_finds_154 : decode cX1_finds 154 = .ok (.istore 6, 2) := dk_54 6 (dk_at dksX1_finds_6 19 rfl rfl)
theorem dX1_finds_156 : decode cX1_finds 156 = .ok (.iload 6, 2) := dk_21 6 (dk_at dksX1_finds_6 21 rfl rfl)
theorem dX1_finds_158 : decode cX1_finds 158 = .ok (.aload_n 0, 1) := dk_42 (dk_at dksX1_finds_6 23 rfl rfl)
theorem dX1_finds_159 : decode cX1_finds 159 = .ok (.getfield 250, 3) := dk_180 0 250 (dk_at dksX1_finds_7 0 rfl rfl)
theorem dX1_finds_162 : decode cX1_finds 162 = .ok (.iload 5, 2) := dk_21 5 (dk_at dksX1_finds_7 3 rfl rfl)
theorem dX1_finds_164 : decode cX1_finds 164 = .ok (.iaload, 1) := dk_46 (dk_at dksX1_finds_7 5 rfl rfl)
theorem dX1_finds_165 : decode cX1_finds 165 = .ok (.if_icmp .lt 6, 3) := dk_161 0 6 (dk_at dksX1_finds_7 6 rfl rfl)
theorem dX1_finds_168 : decode cX1_finds 168 = .ok (.goto 49, 3) := dk_167 0 49 (dk_at dksX1_finds_7 9 rfl rfl)
theorem dX1_finds_171 : decode cX1_finds 171 = .ok (.aload_n 0, 1) := dk_42 (dk_at dksX1_finds_7 12 rfl rfl)
theorem dX1_finds_172 : decode cX1_finds 172 = .ok (.iload 5, 2) := dk_21 5 (dk_at dksX1_finds_7 13 rfl rfl)
theorem dX1_finds_174 : decode cX1_finds 174 = .ok (.iload 6, 2) := dk_21 6 (dk_at dksX1_finds_7 15 rfl rfl)
theorem dX1_finds_176 : decode cX1_finds 176 = .ok (.invokevirtual 269, 3) := dk_182 1 13 (dk_at dksX1_finds_7 17 rfl rfl)
theorem dX1_finds_179 : decode cX1_finds 179 = .ok (.aload_n 0, 1) := dk_42 (dk_at dksX1_finds_7 20 rfl rfl)
theorem dX1_finds_180 : decode cX1_finds 180 = .ok (.getfield 260, 3) := dk_180 1 4 (dk_at dksX1_finds_7 21 rfl rfl)
theorem dX1_finds_183 : decode cX1_finds 183 = .ok (.iload 5, 2) := dk_21 5 (dk_at dksX1_finds_8 0 rfl rfl)
theorem dX1_finds_185 : decode cX1_finds 185 = .ok (.baload, 1) := dk_51 (dk_at dksX1_finds_8 2 rfl rfl)
theorem dX1_finds_186 : decode cX1_finds 186 = .ok (.ifCond .eq 6, 3) := dk_153 0 6 (dk_at dksX1_finds_8 3 rfl rfl)
theorem dX1_finds_189 : decode cX1_finds 189 = .ok (.goto 28, 3) := dk_167 0 28 (dk_at dksX1_finds_8 6 rfl rfl)
theorem dX1_finds_192 : decode cX1_finds 192 = .ok (.aload_n 0, 1) := dk_42 (dk_at dksX1_finds_8 9 rfl rfl)
theorem dX1_finds_193 : decode cX1_finds 193 = .ok (.getfield 260, 3) := dk_180 1 4 (dk_at dksX1_finds_8 10 rfl rfl)
theorem dX1_finds_196 : decode cX1_finds 196 = .ok (.iload 5, 2) := dk_21 5 (dk_at dksX1_finds_8 13 rfl rfl)
theorem dX1_finds_198 : decode cX1_finds 198 = .ok (.iconst 1, 1) := dk_4 (dk_at dksX1_finds_8 15 rfl rfl)
theorem dX1_finds_199 : decode cX1_finds 199 = .ok (.bastore, 1) := dk_84 (dk_at dksX1_finds_8 16 rfl rfl)
theorem dX1_finds_200 : decode cX1_finds 200 = .ok (.aload_n 0, 1) := dk_42 (dk_at dksX1_finds_8 17 rfl rfl)
theorem dX1_finds_201 : decode cX1_finds 201 = .ok (.getfield 263, 3) := dk_180 1 7 (dk_at dksX1_finds_8 18 rfl rfl)
theorem dX1_finds_204 : decode cX1_finds 204 = .ok (.iload_n 1, 1) := dk_27 (dk_at dksX1_finds_8 21 rfl rfl)
theorem dX1_finds_205 : decode cX1_finds 205 = .ok (.iload_n 2, 1) := dk_28 (dk_at dksX1_finds_8 22 rfl rfl)
theorem dX1_finds_206 : decode cX1_finds 206 = .ok (.iadd, 1) := dk_96 (dk_at dksX1_finds_8 23 rfl rfl)
theorem dX1_finds_207 : decode cX1_finds 207 = .ok (.sipush 4500, 3) := dk_17 17 148 (dk_at dksX1_finds_9 0 rfl rfl)
theorem dX1_finds_210 : decode cX1_finds 210 = .ok (.irem, 1) := dk_112 (dk_at dksX1_finds_9 3 rfl rfl)
theorem dX1_finds_211 : decode cX1_finds 211 = .ok (.iload 5, 2) := dk_21 5 (dk_at dksX1_finds_9 4 rfl rfl)
theorem dX1_finds_213 : decode cX1_finds 213 = .ok (.iastore, 1) := dk_79 (dk_at dksX1_finds_9 6 rfl rfl)
theorem dX1_finds_214 : decode cX1_finds 214 = .ok (.iinc 2 1, 3) := dk_132 2 1 (dk_at dksX1_finds_9 7 rfl rfl)
theorem dX1_finds_217 : decode cX1_finds 217 = .ok (.iinc 4 1, 3) := dk_132 4 1 (dk_at dksX1_finds_9 10 rfl rfl)
theorem dX1_finds_220 : decode cX1_finds 220 = .ok (.goto (-106), 3) := dk_167 255 150 (dk_at dksX1_finds_9 13 rfl rfl)
theorem dX1_finds_223 : decode cX1_finds 223 = .ok (.goto (-157), 3) := dk_167 255 99 (dk_at dksX1_finds_9 16 rfl rfl)
theorem dX1_finds_226 : decode cX1_finds 226 = .ok (.return_, 1) := dk_177 (dk_at dksX1_finds_9 19 rfl rfl)
abbrev cX1_reaches : ByteArray := prog_1_method_33_code
def yX1_reaches : MethodName := ⟨RX1, "reaches", "(II)V"⟩
def dkwX1_reaches_1 : List UInt8 := [180, 1, 1, 4, 96, 181, 1, 1, 42, 180, 0, 250, 27, 28, 79, 177]
abbrev dktX1_reaches_1 : List UInt8 := dkwX1_reaches_1 ++ []
def dkwX1_reaches_0 : List UInt8 := [42, 180, 0, 250, 27, 46, 18, 253, 160, 0, 23, 42, 180, 0, 254, 42, 180, 1, 1, 27, 79, 42, 89]
abbrev dktX1_reaches_0 : List UInt8 := dkwX1_reaches_0 ++ dktX1_reaches_1
theorem dksX1_reaches_0 : cX1_reaches.data.toList.drop 0 = dktX1_reaches_0 := by decide +kernel
theorem dksX1_reaches_1 : cX1_reaches.data.toList.drop 23 = dktX1_reaches_1 := dk_seg dksX1_reaches_0 23 rfl rfl
theorem dX1_reaches_0 : decode cX1_reaches 0 = .ok (.aload_n 0, 1) := dk_42 (dk_at dksX1_reaches_0 0 rfl rfl)
theorem dX1_reaches_1 : decode cX1_reaches 1 = .ok (.getfield 250, 3) := dk_180 0 250 (dk_at dksX1_reaches_0 1 rfl rfl)
theorem dX1_reaches_4 : decode cX1_reaches 4 = .ok (.iload_n 1, 1) := dk_27 (dk_at dksX1_reaches_0 4 rfl rfl)
theorem dX1_reaches_5 : decode cX1_reaches 5 = .ok (.iaload, 1) := dk_46 (dk_at dksX1_reaches_0 5 rfl rfl)
theorem dX1_reaches_6 : decode cX1_reaches 6 = .ok (.ldc 253, 2) := dk_18 253 (dk_at dksX1_reaches_0 6 rfl rfl)
theorem dX1_reaches_8 : decode cX1_reaches 8 = .ok (.if_icmp .ne 23, 3) := dk_160 0 23 (dk_at dksX1_reaches_0 8 rfl rfl)
theorem dX1_reaches_11 : decode cX1_reaches 11 = .ok (.aload_n 0, 1) := dk_42 (dk_at dksX1_reaches_0 11 rfl rfl)
theorem dX1_reaches_12 : decode cX1_reaches 12 = .ok (.getfield 254, 3) := dk_180 0 254 (dk_at dksX1_reaches_0 12 rfl rfl)
theorem dX1_reaches_15 : decode cX1_reaches 15 = .ok (.aload_n 0, 1) := dk_42 (dk_at dksX1_reaches_0 15 rfl rfl)
theorem dX1_reaches_16 : decode cX1_reaches 16 = .ok (.getfield 257, 3) := dk_180 1 1 (dk_at dksX1_reaches_0 16 rfl rfl)
theorem dX1_reaches_19 : decode cX1_reaches 19 = .ok (.iload_n 1, 1) := dk_27 (dk_at dksX1_reaches_0 19 rfl rfl)
theorem dX1_reaches_20 : decode cX1_reaches 20 = .ok (.iastore, 1) := dk_79 (dk_at dksX1_reaches_0 20 rfl rfl)
theorem dX1_reaches_21 : decode cX1_reaches 21 = .ok (.aload_n 0, 1) := dk_42 (dk_at dksX1_reaches_0 21 rfl rfl)
theorem dX1_reaches_22 : decode cX1_reaches 22 = .ok (.dup, 1) := dk_89 (dk_at dksX1_reaches_0 22 rfl rfl)
theorem dX1_reaches_23 : decode cX1_reaches 23 = .ok (.getfield 257, 3) := dk_180 1 1 (dk_at dksX1_reaches_1 0 rfl rfl)
theorem dX1_reaches_26 : decode cX1_reaches 26 = .ok (.iconst 1, 1) := dk_4 (dk_at dksX1_reaches_1 3 rfl rfl)
theorem dX1_reaches_27 : decode cX1_reaches 27 = .ok (.iadd, 1) := dk_96 (dk_at dksX1_reaches_1 4 rfl rfl)
theorem dX1_reaches_28 : decode cX1_reaches 28 = .ok (.putfield 257, 3) := dk_181 1 1 (dk_at dksX1_reaches_1 5 rfl rfl)
theorem dX1_reaches_31 : decode cX1_reaches 31 = .ok (.aload_n 0, 1) := dk_42 (dk_at dksX1_reaches_1 8 rfl rfl)
theorem dX1_reaches_32 : decode cX1_reaches 32 = .ok (.getfield 250, 3) := dk_180 0 250 (dk_at dksX1_reaches_1 9 rfl rfl)
theorem dX1_reaches_35 : decode cX1_reaches 35 = .ok (.iload_n 1, 1) := dk_27 (dk_at dksX1_reaches_1 12 rfl rfl)
theorem dX1_reaches_36 : decode cX1_reaches 36 = .ok (.iload_n 2, 1) := dk_28 (dk_at dksX1_reaches_1 13 rfl rfl)
theorem dX1_reaches_37 : decode cX1_reaches 37 = .ok (.iastore, 1) := dk_79 (dk_at dksX1_reaches_1 14 rfl rfl)
theorem dX1_reaches_38 : decode cX1_reaches 38 = .ok (.return_, 1) := dk_177 (dk_at dksX1_reaches_1 15 rfl rfl)
abbrev cX1_behind : ByteArray := prog_1_method_35_code
def yX1_behind : MethodName := ⟨RX1, "behind", "(LDownRope$Spot;I)I"⟩
def dkwX1_behind_1 : List UInt8 := [182, 1, 10, 172]
abbrev dktX1_behind_1 : List UInt8 := dkwX1_behind_1 ++ []
def dkwX1_behind_0 : List UInt8 := [42, 180, 1, 27, 43, 182, 0, 240, 42, 28, 182, 0, 203, 42, 180, 1, 27, 182, 0, 209, 42, 180, 1, 27]
abbrev dktX1_behind_0 : List UInt8 := dkwX1_behind_0 ++ dktX1_behind_1
theorem dksX1_behind_0 : cX1_behind.data.toList.drop 0 = dktX1_behind_0 := by decide +kernel
theorem dksX1_behind_1 : cX1_behind.data.toList.drop 24 = dktX1_behind_1 := dk_seg dksX1_behind_0 24 rfl rfl
theorem dX1_behind_0 : decode cX1_behind 0 = .ok (.aload_n 0, 1) := dk_42 (dk_at dksX1_behind_0 0 rfl rfl)
theorem dX1_behind_1 : decode cX1_behind 1 = .ok (.getfield 283, 3) := dk_180 1 27 (dk_at dksX1_behind_0 1 rfl rfl)
theorem dX1_behind_4 : decode cX1_behind 4 = .ok (.aload_n 1, 1) := dk_43 (dk_at dksX1_behind_0 4 rfl rfl)
theorem dX1_behind_5 : decode cX1_behind 5 = .ok (.invokevirtual 240, 3) := dk_182 0 240 (dk_at dksX1_behind_0 5 rfl rfl)
theorem dX1_behind_8 : decode cX1_behind 8 = .ok (.aload_n 0, 1) := dk_42 (dk_at dksX1_behind_0 8 rfl rfl)
theorem dX1_behind_9 : decode cX1_behind 9 = .ok (.iload_n 2, 1) := dk_28 (dk_at dksX1_behind_0 9 rfl rfl)
theorem dX1_behind_10 : decode cX1_behind 10 = .ok (.invokevirtual 203, 3) := dk_182 0 203 (dk_at dksX1_behind_0 10 rfl rfl)
theorem dX1_behind_13 : decode cX1_behind 13 = .ok (.aload_n 0, 1) := dk_42 (dk_at dksX1_behind_0 13 rfl rfl)
theorem dX1_behind_14 : decode cX1_behind 14 = .ok (.getfield 283, 3) := dk_180 1 27 (dk_at dksX1_behind_0 14 rfl rfl)
theorem dX1_behind_17 : decode cX1_behind 17 = .ok (.invokevirtual 209, 3) := dk_182 0 209 (dk_at dksX1_behind_0 17 rfl rfl)
theorem dX1_behind_20 : decode cX1_behind 20 = .ok (.aload_n 0, 1) := dk_42 (dk_at dksX1_behind_0 20 rfl rfl)
theorem dX1_behind_21 : decode cX1_behind 21 = .ok (.getfield 283, 3) := dk_180 1 27 (dk_at dksX1_behind_0 21 rfl rfl)
theorem dX1_behind_24 : decode cX1_behind 24 = .ok (.invokevirtual 266, 3) := dk_182 1 10 (dk_at dksX1_behind_1 0 rfl rfl)
theorem dX1_behind_27 : decode cX1_behind 27 = .ok (.ireturn, 1) := dk_172 (dk_at dksX1_behind_1 3 rfl rfl)
abbrev cX1_soonestOf : ByteArray := prog_1_method_37_code
def yX1_soonestOf : MethodName := ⟨RX1, "soonestOf", "()I"⟩
def dkwX1_soonestOf_2 : List UInt8 := [167, 255, 216, 27, 18, 253, 160, 0, 8, 16, 252, 167, 0, 4, 27, 172]
abbrev dktX1_soonestOf_2 : List UInt8 := dkwX1_soonestOf_2 ++ []
def dkwX1_soonestOf_1 : List UInt8 := [153, 0, 19, 27, 42, 180, 0, 250, 42, 180, 0, 254, 28, 46, 46, 184, 1, 32, 60, 132, 2, 1]
abbrev dktX1_soonestOf_1 : List UInt8 := dkwX1_soonestOf_1 ++ dktX1_soonestOf_2
def dkwX1_soonestOf_0 : List UInt8 := [18, 253, 60, 3, 61, 28, 42, 180, 1, 1, 162, 0, 38, 42, 42, 180, 0, 254, 28, 46, 182, 1, 30]
abbrev dktX1_soonestOf_0 : List UInt8 := dkwX1_soonestOf_0 ++ dktX1_soonestOf_1
theorem dksX1_soonestOf_0 : cX1_soonestOf.data.toList.drop 0 = dktX1_soonestOf_0 := by decide +kernel
theorem dksX1_soonestOf_1 : cX1_soonestOf.data.toList.drop 23 = dktX1_soonestOf_1 := dk_seg dksX1_soonestOf_0 23 rfl rfl
theorem dksX1_soonestOf_2 : cX1_soonestOf.data.toList.drop 45 = dktX1_soonestOf_2 := dk_seg dksX1_soonestOf_1 22 rfl rfl
theorem dX1_soonestOf_0 : decode cX1_soonestOf 0 = .ok (.ldc 253, 2) := dk_18 253 (dk_at dksX1_soonestOf_0 0 rfl rfl)
theorem dX1_soonestOf_2 : decode cX1_soonestOf 2 = .ok (.istore_n 1, 1) := dk_60 (dk_at dksX1_soonestOf_0 2 rfl rfl)
theorem dX1_soonestOf_3 : decode cX1_soonestOf 3 = .ok (.iconst 0, 1) := dk_3 (dk_at dksX1_soonestOf_0 3 rfl rfl)
theorem dX1_soonestOf_4 : decode cX1_soonestOf 4 = .ok (.istore_n 2, 1) := dk_61 (dk_at dksX1_soonestOf_0 4 rfl rfl)
theorem dX1_soonestOf_5 : decode cX1_soonestOf 5 = .ok (.iload_n 2, 1) := dk_28 (dk_at dksX1_soonestOf_0 5 rfl rfl)
theorem dX1_soonestOf_6 : decode cX1_soonestOf 6 = .ok (.aload_n 0, 1) := dk_42 (dk_at dksX1_soonestOf_0 6 rfl rfl)
theorem dX1_soonestOf_7 : decode cX1_soonestOf 7 = .ok (.getfield 257, 3) := dk_180 1 1 (dk_at dksX1_soonestOf_0 7 rfl rfl)
theorem dX1_soonestOf_10 : decode cX1_soonestOf 10 = .ok (.if_icmp .ge 38, 3) := dk_162 0 38 (dk_at dksX1_soonestOf_0 10 rfl rfl)
theorem dX1_soonestOf_13 : decode cX1_soonestOf 13 = .ok (.aload_n 0, 1) := dk_42 (dk_at dksX1_soonestOf_0 13 rfl rfl)
theorem dX1_soonestOf_14 : decode cX1_soonestOf 14 = .ok (.aload_n 0, 1) := dk_42 (dk_at dksX1_soonestOf_0 14 rfl rfl)
theorem dX1_soonestOf_15 : decode cX1_soonestOf 15 = .ok (.getfield 254, 3) := dk_180 0 254 (dk_at dksX1_soonestOf_0 15 rfl rfl)
theorem dX1_soonestOf_18 : decode cX1_soonestOf 18 = .ok (.iload_n 2, 1) := dk_28 (dk_at dksX1_soonestOf_0 18 rfl rfl)
theorem dX1_soonestOf_19 : decode cX1_soonestOf 19 = .ok (.iaload, 1) := dk_46 (dk_at dksX1_soonestOf_0 19 rfl rfl)
theorem dX1_soonestOf_20 : decode cX1_soonestOf 20 = .ok (.invokevirtual 286, 3) := dk_182 1 30 (dk_at dksX1_soonestOf_0 20 rfl rfl)
theorem dX1_soonestOf_23 : decode cX1_soonestOf 23 = .ok (.ifCond .eq 19, 3) := dk_153 0 19 (dk_at dksX1_soonestOf_1 0 rfl rfl)
theorem dX1_soonestOf_26 : decode cX1_soonestOf 26 = .ok (.iload_n 1, 1) := dk_27 (dk_at dksX1_soonestOf_1 3 rfl rfl)
theorem dX1_soonestOf_27 : decode cX1_soonestOf 27 = .ok (.aload_n 0, 1) := dk_42 (dk_at dksX1_soonestOf_1 4 rfl rfl)
theorem dX1_soonestOf_28 : decode cX1_soonestOf 28 = .ok (.getfield 250, 3) := dk_180 0 250 (dk_at dksX1_soonestOf_1 5 rfl rfl)
theorem dX1_soonestOf_31 : decode cX1_soonestOf 31 = .ok (.aload_n 0, 1) := dk_42 (dk_at dksX1_soonestOf_1 8 rfl rfl)
theorem dX1_soonestOf_32 : decode cX1_soonestOf 32 = .ok (.getfield 254, 3) := dk_180 0 254 (dk_at dksX1_soonestOf_1 9 rfl rfl)
theorem dX1_soonestOf_35 : decode cX1_soonestOf 35 = .ok (.iload_n 2, 1) := dk_28 (dk_at dksX1_soonestOf_1 12 rfl rfl)
theorem dX1_soonestOf_36 : decode cX1_soonestOf 36 = .ok (.iaload, 1) := dk_46 (dk_at dksX1_soonestOf_1 13 rfl rfl)
theorem dX1_soonestOf_37 : decode cX1_soonestOf 37 = .ok (.iaload, 1) := dk_46 (dk_at dksX1_soonestOf_1 14 rfl rfl)
theorem dX1_soonestOf_38 : decode cX1_soonestOf 38 = .ok (.invokestatic 288, 3) := dk_184 1 32 (dk_at dksX1_soonestOf_1 15 rfl rfl)
theorem dX1_soonestOf_41 : decode cX1_soonestOf 41 = .ok (.istore_n 1, 1) := dk_60 (dk_at dksX1_soonestOf_1 18 rfl rfl)
theorem dX1_soonestOf_42 : decode cX1_soonestOf 42 = .ok (.iinc 2 1, 3) := dk_132 2 1 (dk_at dksX1_soonestOf_1 19 rfl rfl)
theorem dX1_soonestOf_45 : decode cX1_soonestOf 45 = .ok (.goto (-40), 3) := dk_167 255 216 (dk_at dksX1_soonestOf_2 0 rfl rfl)
theorem dX1_soonestOf_48 : decode cX1_soonestOf 48 = .ok (.iload_n 1, 1) := dk_27 (dk_at dksX1_soonestOf_2 3 rfl rfl)
theorem dX1_soonestOf_49 : decode cX1_soonestOf 49 = .ok (.ldc 253, 2) := dk_18 253 (dk_at dksX1_soonestOf_2 4 rfl rfl)
theorem dX1_soonestOf_51 : decode cX1_soonestOf 51 = .ok (.if_icmp .ne 8, 3) := dk_160 0 8 (dk_at dksX1_soonestOf_2 6 rfl rfl)
theorem dX1_soonestOf_54 : decode cX1_soonestOf 54 = .ok (.bipush (-4), 2) := dk_16 252 (dk_at dksX1_soonestOf_2 9 rfl rfl)
theorem dX1_soonestOf_56 : decode cX1_soonestOf 56 = .ok (.goto 4, 3) := dk_167 0 4 (dk_at dksX1_soonestOf_2 11 rfl rfl)
theorem dX1_soonestOf_59 : decode cX1_soonestOf 59 = .ok (.iload_n 1, 1) := dk_27 (dk_at dksX1_soonestOf_2 14 rfl rfl)
theorem dX1_soonestOf_60 : decode cX1_soonestOf 60 = .ok (.ireturn, 1) := dk_172 (dk_at dksX1_soonestOf_2 15 rfl rfl)
abbrev cX1_isDown : ByteArray := prog_1_method_36_code
def yX1_isDown : MethodName := ⟨RX1, "isDown", "(I)Z"⟩
def dkwX1_isDown_0 : List UInt8 := [42, 180, 1, 16, 27, 182, 1, 19, 42, 180, 0, 1, 42, 180, 1, 16, 182, 0, 235, 172]
abbrev dktX1_isDown_0 : List UInt8 := dkwX1_isDown_0 ++ []
theorem dksX1_isDown_0 : cX1_isDown.data.toList.drop 0 = dktX1_isDown_0 := by decide +kernel
theorem dX1_isDown_0 : decode cX1_isDown 0 = .ok (.aload_n 0, 1) := dk_42 (dk_at dksX1_isDown_0 0 rfl rfl)
theorem dX1_isDown_1 : decode cX1_isDown 1 = .ok (.getfield 272, 3) := dk_180 1 16 (dk_at dksX1_isDown_0 1 rfl rfl)
theorem dX1_isDown_4 : decode cX1_isDown 4 = .ok (.iload_n 1, 1) := dk_27 (dk_at dksX1_isDown_0 4 rfl rfl)
theorem dX1_isDown_5 : decode cX1_isDown 5 = .ok (.invokevirtual 275, 3) := dk_182 1 19 (dk_at dksX1_isDown_0 5 rfl rfl)
theorem dX1_isDown_8 : decode cX1_isDown 8 = .ok (.aload_n 0, 1) := dk_42 (dk_at dksX1_isDown_0 8 rfl rfl)
theorem dX1_isDown_9 : decode cX1_isDown 9 = .ok (.getfield 1, 3) := dk_180 0 1 (dk_at dksX1_isDown_0 9 rfl rfl)
theorem dX1_isDown_12 : decode cX1_isDown 12 = .ok (.aload_n 0, 1) := dk_42 (dk_at dksX1_isDown_0 12 rfl rfl)
theorem dX1_isDown_13 : decode cX1_isDown 13 = .ok (.getfield 272, 3) := dk_180 1 16 (dk_at dksX1_isDown_0 13 rfl rfl)
theorem dX1_isDown_16 : decode cX1_isDown 16 = .ok (.invokevirtual 235, 3) := dk_182 0 235 (dk_at dksX1_isDown_0 16 rfl rfl)
theorem dX1_isDown_19 : decode cX1_isDown 19 = .ok (.ireturn, 1) := dk_172 (dk_at dksX1_isDown_0 19 rfl rfl)
abbrev cX1_first : ByteArray := prog_1_method_39_code
def yX1_first : MethodName := ⟨RX1, "first", "()I"⟩
def dkwX1_first_9 : List UInt8 := [42, 180, 0, 1, 180, 0, 68, 25, 4, 182, 0, 240, 25, 8, 191]
abbrev dktX1_first_9 : List UInt8 := dkwX1_first_9 ++ []
def dkwX1_first_8 : List UInt8 := [167, 255, 177, 16, 252, 54, 5, 42, 180, 0, 1, 180, 0, 68, 25, 4, 182, 0, 240, 21, 5, 172, 58, 8]
abbrev dktX1_first_8 : List UInt8 := dkwX1_first_8 ++ dktX1_first_9
def dkwX1_first_7 : List UInt8 := [44, 21, 5, 46, 54, 7, 42, 180, 0, 1, 180, 0, 68, 25, 4, 182, 0, 240, 21, 7, 172, 132, 5, 1]
abbrev dktX1_first_7 : List UInt8 := dkwX1_first_7 ++ dktX1_first_8
def dkwX1_first_6 : List UInt8 := [42, 182, 1, 40, 54, 6, 21, 6, 16, 252, 159, 0, 35, 45, 21, 5, 46, 21, 6, 96, 27, 160, 0, 24]
abbrev dktX1_first_6 : List UInt8 := dkwX1_first_6 ++ dktX1_first_7
def dkwX1_first_5 : List UInt8 := [42, 180, 0, 1, 180, 0, 68, 42, 25, 4, 44, 21, 5, 46, 182, 1, 23, 182, 1, 19, 42, 182, 1, 37]
abbrev dktX1_first_5 : List UInt8 := dkwX1_first_5 ++ dktX1_first_6
def dkwX1_first_4 : List UInt8 := [58, 4, 25, 4, 42, 180, 0, 1, 180, 0, 68, 182, 0, 240, 3, 54, 5, 21, 5, 44, 190, 162, 0, 78]
abbrev dktX1_first_4 : List UInt8 := dkwX1_first_4 ++ dktX1_first_5
def dkwX1_first_3 : List UInt8 := [44, 190, 184, 1, 43, 42, 180, 0, 221, 3, 45, 3, 44, 190, 184, 1, 43, 187, 0, 73, 89, 183, 1, 49]
abbrev dktX1_first_3 : List UInt8 := dkwX1_first_3 ++ dktX1_first_4
def dkwX1_first_2 : List UInt8 := [182, 0, 232, 42, 180, 0, 216, 188, 10, 77, 42, 180, 0, 216, 188, 10, 78, 42, 180, 0, 213, 3, 44, 3]
abbrev dktX1_first_2 : List UInt8 := dkwX1_first_2 ++ dktX1_first_3
def dkwX1_first_1 : List UInt8 := [42, 182, 1, 40, 60, 27, 16, 252, 160, 0, 6, 16, 252, 172, 42, 42, 180, 0, 1, 180, 0, 68]
abbrev dktX1_first_1 : List UInt8 := dkwX1_first_1 ++ dktX1_first_2
def dkwX1_first_0 : List UInt8 := [42, 180, 0, 1, 42, 180, 0, 1, 180, 0, 68, 182, 0, 235, 153, 0, 6, 16, 252, 172, 42, 182, 1, 37]
abbrev dktX1_first_0 : List UInt8 := dkwX1_first_0 ++ dktX1_first_1
theorem dksX1_first_0 : cX1_first.data.toList.drop 0 = dktX1_first_0 := by decide +kernel
theorem dksX1_first_1 : cX1_first.data.toList.drop 24 = dktX1_first_1 := dk_seg dksX1_first_0 24 rfl rfl
theorem dksX1_first_2 : cX1_first.data.toList.drop 46 = dktX1_first_2 := dk_seg dksX1_first_1 22 rfl rfl
theorem dksX1_first_3 : cX1_first.data.toList.drop 70 = dktX1_first_3 := dk_seg dksX1_first_2 24 rfl rfl
theorem dksX1_first_4 : cX1_first.data.toList.drop 94 = dktX1_first_4 := dk_seg dksX1_first_3 24 rfl rfl
theorem dksX1_first_5 : cX1_first.data.toList.drop 118 = dktX1_first_5 := dk_seg dksX1_first_4 24 rfl rfl
theorem dksX1_first_6 : cX1_first.data.toList.drop 142 = dktX1_first_6 := dk_seg dksX1_first_5 24 rfl rfl
theorem dksX1_first_7 : cX1_first.data.toList.drop 166 = dktX1_first_7 := dk_seg dksX1_first_6 24 rfl rfl
theorem dksX1_first_8 : cX1_first.data.toList.drop 190 = dktX1_first_8 := dk_seg dksX1_first_7 24 rfl rfl
theorem dksX1_first_9 : cX1_first.data.toList.drop 214 = dktX1_first_9 := dk_seg dksX1_first_8 24 rfl rfl
theorem dX1_first_0 : decode cX1_first 0 = .ok (.aload_n 0, 1) := dk_42 (dk_at dksX1_first_0 0 rfl rfl)
theorem dX1_first_1 : decode cX1_first 1 = .ok (.getfield 1, 3) := dk_180 0 1 (dk_at dksX1_first_0 1 rfl rfl)
theorem dX1_first_4 : decode cX1_first 4 = .ok (.aload_n 0, 1) := dk_42 (dk_at dksX1_first_0 4 rfl rfl)
theorem dX1_first_5 : decode cX1_first 5 = .ok (.getfield 1, 3) := dk_180 0 1 (dk_at dksX1_first_0 5 rfl rfl)
theorem dX1_first_8 : decode cX1_first 8 = .ok (.getfield 68, 3) := dk_180 0 68 (dk_at dksX1_first_0 8 rfl rfl)
theorem dX1_first_11 : decode cX1_first 11 = .ok (.invokevirtual 235, 3) := dk_182 0 235 (dk_at dksX1_first_0 11 rfl rfl)
theorem dX1_first_14 : decode cX1_first 14 = .ok (.ifCond .eq 6, 3) := dk_153 0 6 (dk_at dksX1_first_0 14 rfl rfl)
theorem dX1_first_17 : decode cX1_first 17 = .ok (.bipush (-4), 2) := dk_16 252 (dk_at dksX1_first_0 17 rfl rfl)
theorem dX1_first_19 : decode cX1_first 19 = .ok (.ireturn, 1) := dk_172 (dk_at dksX1_first_0 19 rfl rfl)
theorem dX1_first_20 : decode cX1_first 20 = .ok (.aload_n 0, 1) := dk_42 (dk_at dksX1_first_0 20 rfl rfl)
theorem dX1_first_21 : decode cX1_first 21 = .ok (.invokevirtual 293, 3) := dk_182 1 37 (dk_at dksX1_first_0 21 rfl rfl)
theorem dX1_first_24 : decode cX1_first 24 = .ok (.aload_n 0, 1) := dk_42 (dk_at dksX1_first_1 0 rfl rfl)
theorem dX1_first_25 : decode cX1_first 25 = .ok (.invokevirtual 296, 3) := dk_182 1 40 (dk_at dksX1_first_1 1 rfl rfl)
theorem dX1_first_28 : decode cX1_first 28 = .ok (.istore_n 1, 1) := dk_60 (dk_at dksX1_first_1 4 rfl rfl)
theorem dX1_first_29 : decode cX1_first 29 = .ok (.iload_n 1, 1) := dk_27 (dk_at dksX1_first_1 5 rfl rfl)
theorem dX1_first_30 : decode cX1_first 30 = .ok (.bipush (-4), 2) := dk_16 252 (dk_at dksX1_first_1 6 rfl rfl)
theorem dX1_first_32 : decode cX1_first 32 = .ok (.if_icmp .ne 6, 3) := dk_160 0 6 (dk_at dksX1_first_1 8 rfl rfl)
theorem dX1_first_35 : decode cX1_first 35 = .ok (.bipush (-4), 2) := dk_16 252 (dk_at dksX1_first_1 11 rfl rfl)
theorem dX1_first_37 : decode cX1_first 37 = .ok (.ireturn, 1) := dk_172 (dk_at dksX1_first_1 13 rfl rfl)
theorem dX1_first_38 : decode cX1_first 38 = .ok (.aload_n 0, 1) := dk_42 (dk_at dksX1_first_1 14 rfl rfl)
theorem dX1_first_39 : decode cX1_first 39 = .ok (.aload_n 0, 1) := dk_42 (dk_at dksX1_first_1 15 rfl rfl)
theorem dX1_first_40 : decode cX1_first 40 = .ok (.getfield 1, 3) := dk_180 0 1 (dk_at dksX1_first_1 16 rfl rfl)
theorem dX1_first_43 : decode cX1_first 43 = .ok (.getfield 68, 3) := dk_180 0 68 (dk_at dksX1_first_1 19 rfl rfl)
theorem dX1_first_46 : decode cX1_first 46 = .ok (.invokevirtual 232, 3) := dk_182 0 232 (dk_at dksX1_first_2 0 rfl rfl)
theorem dX1_first_49 : decode cX1_first 49 = .ok (.aload_n 0, 1) := dk_42 (dk_at dksX1_first_2 3 rfl rfl)
theorem dX1_first_50 : decode cX1_first 50 = .ok (.getfield 216, 3) := dk_180 0 216 (dk_at dksX1_first_2 4 rfl rfl)
theorem dX1_first_53 : decode cX1_first 53 = .ok (.newarray .int, 2) := dk_188_10 (dk_at dksX1_first_2 7 rfl rfl)
theorem dX1_first_55 : decode cX1_first 55 = .ok (.astore_n 2, 1) := dk_77 (dk_at dksX1_first_2 9 rfl rfl)
theorem dX1_first_56 : decode cX1_first 56 = .ok (.aload_n 0, 1) := dk_42 (dk_at dksX1_first_2 10 rfl rfl)
theorem dX1_first_57 : decode cX1_first 57 = .ok (.getfield 216, 3) := dk_180 0 216 (dk_at dksX1_first_2 11 rfl rfl)
theorem dX1_first_60 : decode cX1_first 60 = .ok (.newarray .int, 2) := dk_188_10 (dk_at dksX1_first_2 14 rfl rfl)
theorem dX1_first_62 : decode cX1_first 62 = .ok (.astore_n 3, 1) := dk_78 (dk_at dksX1_first_2 16 rfl rfl)
theorem dX1_first_63 : decode cX1_first 63 = .ok (.aload_n 0, 1) := dk_42 (dk_at dksX1_first_2 17 rfl rfl)
theorem dX1_first_64 : decode cX1_first 64 = .ok (.getfield 213, 3) := dk_180 0 213 (dk_at dksX1_first_2 18 rfl rfl)
theorem dX1_first_67 : decode cX1_first 67 = .ok (.iconst 0, 1) := dk_3 (dk_at dksX1_first_2 21 rfl rfl)
theorem dX1_first_68 : decode cX1_first 68 = .ok (.aload_n 2, 1) := dk_44 (dk_at dksX1_first_2 22 rfl rfl)
theorem dX1_first_69 : decode cX1_first 69 = .ok (.iconst 0, 1) := dk_3 (dk_at dksX1_first_2 23 rfl rfl)
theorem dX1_first_70 : decode cX1_first 70 = .ok (.aload_n 2, 1) := dk_44 (dk_at dksX1_first_3 0 rfl rfl)
theorem dX1_first_71 : decode cX1_first 71 = .ok (.arraylength, 1) := dk_190 (dk_at dksX1_first_3 1 rfl rfl)
theorem dX1_first_72 : decode cX1_first 72 = .ok (.invokestatic 299, 3) := dk_184 1 43 (dk_at dksX1_first_3 2 rfl rfl)
theorem dX1_first_75 : decode cX1_first 75 = .ok (.aload_n 0, 1) := dk_42 (dk_at dksX1_first_3 5 rfl rfl)
theorem dX1_first_76 : decode cX1_first 76 = .ok (.getfield 221, 3) := dk_180 0 221 (dk_at dksX1_first_3 6 rfl rfl)
theorem dX1_first_79 : decode cX1_first 79 = .ok (.iconst 0, 1) := dk_3 (dk_at dksX1_first_3 9 rfl rfl)
theorem dX1_first_80 : decode cX1_first 80 = .ok (.aload_n 3, 1) := dk_45 (dk_at dksX1_first_3 10 rfl rfl)
theorem dX1_first_81 : decode cX1_first 81 = .ok (.iconst 0, 1) := dk_3 (dk_at dksX1_first_3 11 rfl rfl)
theorem dX1_first_82 : decode cX1_first 82 = .ok (.aload_n 2, 1) := dk_44 (dk_at dksX1_first_3 12 rfl rfl)
theorem dX1_first_83 : decode cX1_first 83 = .ok (.arraylength, 1) := dk_190 (dk_at dksX1_first_3 13 rfl rfl)
theorem dX1_first_84 : decode cX1_first 84 = .ok (.invokestatic 299, 3) := dk_184 1 43 (dk_at dksX1_first_3 14 rfl rfl)
theorem dX1_first_87 : decode cX1_first 87 = .ok (.new 73, 3) := dk_187 0 73 (dk_at dksX1_first_3 17 rfl rfl)
theorem dX1_first_90 : decode cX1_first 90 = .ok (.dup, 1) := dk_89 (dk_at dksX1_first_3 20 rfl rfl)
theorem dX1_first_91 : decode cX1_first 91 = .ok (.invokespecial 305, 3) := dk_183 1 49 (dk_at dksX1_first_3 21 rfl rfl)
theorem dX1_first_94 : decode cX1_first 94 = .ok (.astore 4, 2) := dk_58 4 (dk_at dksX1_first_4 0 rfl rfl)
theorem dX1_first_96 : decode cX1_first 96 = .ok (.aload 4, 2) := dk_25 4 (dk_at dksX1_first_4 2 rfl rfl)
theorem dX1_first_98 : decode cX1_first 98 = .ok (.aload_n 0, 1) := dk_42 (dk_at dksX1_first_4 4 rfl rfl)
theorem dX1_first_99 : decode cX1_first 99 = .ok (.getfield 1, 3) := dk_180 0 1 (dk_at dksX1_first_4 5 rfl rfl)
theorem dX1_first_102 : decode cX1_first 102 = .ok (.getfield 68, 3) := dk_180 0 68 (dk_at dksX1_first_4 8 rfl rfl)
theorem dX1_first_105 : decode cX1_first 105 = .ok (.invokevirtual 240, 3) := dk_182 0 240 (dk_at dksX1_first_4 11 rfl rfl)
theorem dX1_first_108 : decode cX1_first 108 = .ok (.iconst 0, 1) := dk_3 (dk_at dksX1_first_4 14 rfl rfl)
theorem dX1_first_109 : decode cX1_first 109 = .ok (.istore 5, 2) := dk_54 5 (dk_at dksX1_first_4 15 rfl rfl)
theorem dX1_first_111 : decode cX1_first 111 = .ok (.iload 5, 2) := dk_21 5 (dk_at dksX1_first_4 17 rfl rfl)
theorem dX1_first_113 : decode cX1_first 113 = .ok (.aload_n 2, 1) := dk_44 (dk_at dksX1_first_4 19 rfl rfl)
theorem dX1_first_114 : decode cX1_first 114 = .ok (.arraylength, 1) := dk_190 (dk_at dksX1_first_4 20 rfl rfl)
theorem dX1_first_115 : decode cX1_first 115 = .ok (.if_icmp .ge 78, 3) := dk_162 0 78 (dk_at dksX1_first_4 21 rfl rfl)
theorem dX1_first_118 : decode cX1_first 118 = .ok (.aload_n 0, 1) := dk_42 (dk_at dksX1_first_5 0 rfl rfl)
theorem dX1_first_119 : decode cX1_first 119 = .ok (.getfield 1, 3) := dk_180 0 1 (dk_at dksX1_first_5 1 rfl rfl)
theorem dX1_first_122 : decode cX1_first 122 = .ok (.getfield 68, 3) := dk_180 0 68 (dk_at dksX1_first_5 4 rfl rfl)
theorem dX1_first_125 : decode cX1_first 125 = .ok (.aload_n 0, 1) := dk_42 (dk_at dksX1_first_5 7 rfl rfl)
theorem dX1_first_126 : decode cX1_first 126 = .ok (.aload 4, 2) := dk_25 4 (dk_at dksX1_first_5 8 rfl rfl)
theorem dX1_first_128 : decode cX1_first 128 = .ok (.aload_n 2, 1) := dk_44 (dk_at dksX1_first_5 10 rfl rfl)
theorem dX1_first_129 : decode cX1_first 129 = .ok (.iload 5, 2) := dk_21 5 (dk_at dksX1_first_5 11 rfl rfl)
theorem dX1_first_131 : decode cX1_first 131 = .ok (.iaload, 1) := dk_46 (dk_at dksX1_first_5 13 rfl rfl)
theorem dX1_first_132 : decode cX1_first 132 = .ok (.invokevirtual 279, 3) := dk_182 1 23 (dk_at dksX1_first_5 14 rfl rfl)
theorem dX1_first_135 : decode cX1_first 135 = .ok (.invokevirtual 275, 3) := dk_182 1 19 (dk_at dksX1_first_5 17 rfl rfl)
theorem dX1_first_138 : decode cX1_first 138 = .ok (.aload_n 0, 1) := dk_42 (dk_at dksX1_first_5 20 rfl rfl)
theorem dX1_first_139 : decode cX1_first 139 = .ok (.invokevirtual 293, 3) := dk_182 1 37 (dk_at dksX1_first_5 21 rfl rfl)
theorem dX1_first_142 : decode cX1_first 142 = .ok (.aload_n 0, 1) := dk_42 (dk_at dksX1_first_6 0 rfl rfl)
theorem dX1_first_143 : decode cX1_first 143 = .ok (.invokevirtual 296, 3) := dk_182 1 40 (dk_at dksX1_first_6 1 rfl rfl)
theorem dX1_first_146 : decode cX1_first 146 = .ok (.istore 6, 2) := dk_54 6 (dk_at dksX1_first_6 4 rfl rfl)
theorem dX1_first_148 : decode cX1_first 148 = .ok (.iload 6, 2) := dk_21 6 (dk_at dksX1_first_6 6 rfl rfl)
theorem dX1_first_150 : decode cX1_first 150 = .ok (.bipush (-4), 2) := dk_16 252 (dk_at dksX1_first_6 8 rfl rfl)
theorem dX1_first_152 : decode cX1_first 152 = .ok (.if_icmp .eq 35, 3) := dk_159 0 35 (dk_at dksX1_first_6 10 rfl rfl)
theorem dX1_first_155 : decode cX1_first 155 = .ok (.aload_n 3, 1) := dk_45 (dk_at dksX1_first_6 13 rfl rfl)
theorem dX1_first_156 : decode cX1_first 156 = .ok (.iload 5, 2) := dk_21 5 (dk_at dksX1_first_6 14 rfl rfl)
theorem dX1_first_158 : decode cX1_first 158 = .ok (.iaload, 1) := dk_46 (dk_at dksX1_first_6 16 rfl rfl)
theorem dX1_first_159 : decode cX1_first 159 = .ok (.iload 6, 2) := dk_21 6 (dk_at dksX1_first_6 17 rfl rfl)
theorem dX1_first_161 : decode cX1_first 161 = .ok (.iadd, 1) := dk_96 (dk_at dksX1_first_6 19 rfl rfl)
theorem dX1_first_162 : decode cX1_first 162 = .ok (.iload_n 1, 1) := dk_27 (dk_at dksX1_first_6 20 rfl rfl)
theorem dX1_first_163 : decode cX1_first 163 = .ok (.if_icmp .ne 24, 3) := dk_160 0 24 (dk_at dksX1_first_6 21 rfl rfl)
theorem dX1_first_166 : decode cX1_first 166 = .ok (.aload_n 2, 1) := dk_44 (dk_at dksX1_first_7 0 rfl rfl)
theorem dX1_first_167 : decode cX1_first 167 = .ok (.iload 5, 2) := dk_21 5 (dk_at dksX1_first_7 1 rfl rfl)
theorem dX1_first_169 : decode cX1_first 169 = .ok (.iaload, 1) := dk_46 (dk_at dksX1_first_7 3 rfl rfl)
theorem dX1_first_170 : decode cX1_first 170 = .ok (.istore 7, 2) := dk_54 7 (dk_at dksX1_first_7 4 rfl rfl)
theorem dX1_first_172 : decode cX1_first 172 = .ok (.aload_n 0, 1) := dk_42 (dk_at dksX1_first_7 6 rfl rfl)
theorem dX1_first_173 : decode cX1_first 173 = .ok (.getfield 1, 3) := dk_180 0 1 (dk_at dksX1_first_7 7 rfl rfl)
theorem dX1_first_176 : decode cX1_first 176 = .ok (.getfield 68, 3) := dk_180 0 68 (dk_at dksX1_first_7 10 rfl rfl)
theorem dX1_first_179 : decode cX1_first 179 = .ok (.aload 4, 2) := dk_25 4 (dk_at dksX1_first_7 13 rfl rfl)
theorem dX1_first_181 : decode cX1_first 181 = .ok (.invokevirtual 240, 3) := dk_182 0 240 (dk_at dksX1_first_7 15 rfl rfl)
theorem dX1_first_184 : decode cX1_first 184 = .ok (.iload 7, 2) := dk_21 7 (dk_at dksX1_first_7 18 rfl rfl)
theorem dX1_first_186 : decode cX1_first 186 = .ok (.ireturn, 1) := dk_172 (dk_at dksX1_first_7 20 rfl rfl)
theorem dX1_first_187 : decode cX1_first 187 = .ok (.iinc 5 1, 3) := dk_132 5 1 (dk_at dksX1_first_7 21 rfl rfl)
theorem dX1_first_190 : decode cX1_first 190 = .ok (.goto (-79), 3) := dk_167 255 177 (dk_at dksX1_first_8 0 rfl rfl)
theorem dX1_first_193 : decode cX1_first 193 = .ok (.bipush (-4), 2) := dk_16 252 (dk_at dksX1_first_8 3 rfl rfl)
theorem dX1_first_195 : decode cX1_first 195 = .ok (.istore 5, 2) := dk_54 5 (dk_at dksX1_first_8 5 rfl rfl)
theorem dX1_first_197 : decode cX1_first 197 = .ok (.aload_n 0, 1) := dk_42 (dk_at dksX1_first_8 7 rfl rfl)
theorem dX1_first_198 : decode cX1_first 198 = .ok (.getfield 1, 3) := dk_180 0 1 (dk_at dksX1_first_8 8 rfl rfl)
theorem dX1_first_201 : decode cX1_first 201 = .ok (.getfield 68, 3) := dk_180 0 68 (dk_at dksX1_first_8 11 rfl rfl)
theorem dX1_first_204 : decode cX1_first 204 = .ok (.aload 4, 2) := dk_25 4 (dk_at dksX1_first_8 14 rfl rfl)
theorem dX1_first_206 : decode cX1_first 206 = .ok (.invokevirtual 240, 3) := dk_182 0 240 (dk_at dksX1_first_8 16 rfl rfl)
theorem dX1_first_209 : decode cX1_first 209 = .ok (.iload 5, 2) := dk_21 5 (dk_at dksX1_first_8 19 rfl rfl)
theorem dX1_first_211 : decode cX1_first 211 = .ok (.ireturn, 1) := dk_172 (dk_at dksX1_first_8 21 rfl rfl)
theorem dX1_first_212 : decode cX1_first 212 = .ok (.astore 8, 2) := dk_58 8 (dk_at dksX1_first_8 22 rfl rfl)
theorem dX1_first_214 : decode cX1_first 214 = .ok (.aload_n 0, 1) := dk_42 (dk_at dksX1_first_9 0 rfl rfl)
theorem dX1_first_215 : decode cX1_first 215 = .ok (.getfield 1, 3) := dk_180 0 1 (dk_at dksX1_first_9 1 rfl rfl)
theorem dX1_first_218 : decode cX1_first 218 = .ok (.getfield 68, 3) := dk_180 0 68 (dk_at dksX1_first_9 4 rfl rfl)
theorem dX1_first_221 : decode cX1_first 221 = .ok (.aload 4, 2) := dk_25 4 (dk_at dksX1_first_9 7 rfl rfl)
theorem dX1_first_223 : decode cX1_first 223 = .ok (.invokevirtual 240, 3) := dk_182 0 240 (dk_at dksX1_first_9 9 rfl rfl)
theorem dX1_first_226 : decode cX1_first 226 = .ok (.aload 8, 2) := dk_25 8 (dk_at dksX1_first_9 12 rfl rfl)
theorem dX1_first_228 : decode cX1_first 228 = .ok (.athrow, 1) := dk_191 (dk_at dksX1_first_9 14 rfl rfl)
abbrev cX1_left : ByteArray := prog_1_method_42_code
def yX1_left : MethodName := ⟨RX1, "left", "(II)I"⟩
def dkwX1_left_1 : List UInt8 := [182, 1, 57, 62, 29, 16, 252, 159, 0, 7, 28, 154, 0, 7, 29, 167, 0, 7, 42, 180, 1, 54, 172]
abbrev dktX1_left_1 : List UInt8 := dkwX1_left_1 ++ []
def dkwX1_left_0 : List UInt8 := [27, 3, 17, 39, 15, 184, 0, 13, 153, 0, 12, 28, 3, 4, 184, 0, 13, 154, 0, 5, 2, 172, 42, 27]
abbrev dktX1_left_0 : List UInt8 := dkwX1_left_0 ++ dktX1_left_1
theorem dksX1_left_0 : cX1_left.data.toList.drop 0 = dktX1_left_0 := by decide +kernel
theorem dksX1_left_1 : cX1_left.data.toList.drop 24 = dktX1_left_1 := dk_seg dksX1_left_0 24 rfl rfl
theorem dX1_left_0 : decode cX1_left 0 = .ok (.iload_n 1, 1) := dk_27 (dk_at dksX1_left_0 0 rfl rfl)
theorem dX1_left_1 : decode cX1_left 1 = .ok (.iconst 0, 1) := dk_3 (dk_at dksX1_left_0 1 rfl rfl)
theorem dX1_left_2 : decode cX1_left 2 = .ok (.sipush 9999, 3) := dk_17 39 15 (dk_at dksX1_left_0 2 rfl rfl)
theorem dX1_left_5 : decode cX1_left 5 = .ok (.invokestatic 13, 3) := dk_184 0 13 (dk_at dksX1_left_0 5 rfl rfl)
theorem dX1_left_8 : decode cX1_left 8 = .ok (.ifCond .eq 12, 3) := dk_153 0 12 (dk_at dksX1_left_0 8 rfl rfl)
theorem dX1_left_11 : decode cX1_left 11 = .ok (.iload_n 2, 1) := dk_28 (dk_at dksX1_left_0 11 rfl rfl)
theorem dX1_left_12 : decode cX1_left 12 = .ok (.iconst 0, 1) := dk_3 (dk_at dksX1_left_0 12 rfl rfl)
theorem dX1_left_13 : decode cX1_left 13 = .ok (.iconst 1, 1) := dk_4 (dk_at dksX1_left_0 13 rfl rfl)
theorem dX1_left_14 : decode cX1_left 14 = .ok (.invokestatic 13, 3) := dk_184 0 13 (dk_at dksX1_left_0 14 rfl rfl)
theorem dX1_left_17 : decode cX1_left 17 = .ok (.ifCond .ne 5, 3) := dk_154 0 5 (dk_at dksX1_left_0 17 rfl rfl)
theorem dX1_left_20 : decode cX1_left 20 = .ok (.iconst (-1), 1) := dk_2 (dk_at dksX1_left_0 20 rfl rfl)
theorem dX1_left_21 : decode cX1_left 21 = .ok (.ireturn, 1) := dk_172 (dk_at dksX1_left_0 21 rfl rfl)
theorem dX1_left_22 : decode cX1_left 22 = .ok (.aload_n 0, 1) := dk_42 (dk_at dksX1_left_0 22 rfl rfl)
theorem dX1_left_23 : decode cX1_left 23 = .ok (.iload_n 1, 1) := dk_27 (dk_at dksX1_left_0 23 rfl rfl)
theorem dX1_left_24 : decode cX1_left 24 = .ok (.invokevirtual 313, 3) := dk_182 1 57 (dk_at dksX1_left_1 0 rfl rfl)
theorem dX1_left_27 : decode cX1_left 27 = .ok (.istore_n 3, 1) := dk_62 (dk_at dksX1_left_1 3 rfl rfl)
theorem dX1_left_28 : decode cX1_left 28 = .ok (.iload_n 3, 1) := dk_29 (dk_at dksX1_left_1 4 rfl rfl)
theorem dX1_left_29 : decode cX1_left 29 = .ok (.bipush (-4), 2) := dk_16 252 (dk_at dksX1_left_1 5 rfl rfl)
theorem dX1_left_31 : decode cX1_left 31 = .ok (.if_icmp .eq 7, 3) := dk_159 0 7 (dk_at dksX1_left_1 7 rfl rfl)
theorem dX1_left_34 : decode cX1_left 34 = .ok (.iload_n 2, 1) := dk_28 (dk_at dksX1_left_1 10 rfl rfl)
theorem dX1_left_35 : decode cX1_left 35 = .ok (.ifCond .ne 7, 3) := dk_154 0 7 (dk_at dksX1_left_1 11 rfl rfl)
theorem dX1_left_38 : decode cX1_left 38 = .ok (.iload_n 3, 1) := dk_29 (dk_at dksX1_left_1 14 rfl rfl)
theorem dX1_left_39 : decode cX1_left 39 = .ok (.goto 7, 3) := dk_167 0 7 (dk_at dksX1_left_1 15 rfl rfl)
theorem dX1_left_42 : decode cX1_left 42 = .ok (.aload_n 0, 1) := dk_42 (dk_at dksX1_left_1 18 rfl rfl)
theorem dX1_left_43 : decode cX1_left 43 = .ok (.getfield 310, 3) := dk_180 1 54 (dk_at dksX1_left_1 19 rfl rfl)
theorem dX1_left_46 : decode cX1_left 46 = .ok (.ireturn, 1) := dk_172 (dk_at dksX1_left_1 22 rfl rfl)
abbrev cX1_fewest : ByteArray := prog_1_method_41_code
def yX1_fewest : MethodName := ⟨RX1, "fewest", "(I)I"⟩
def dkwX1_fewest_4 : List UInt8 := [21, 5, 61, 42, 42, 180, 0, 250, 21, 4, 46, 181, 1, 54, 132, 3, 1, 167, 255, 157, 28, 172]
abbrev dktX1_fewest_4 : List UInt8 := dkwX1_fewest_4 ++ []
def dkwX1_fewest_3 : List UInt8 := [21, 5, 28, 160, 0, 20, 42, 180, 0, 250, 21, 4, 46, 42, 180, 1, 54, 161, 0, 6, 167, 0, 17]
abbrev dktX1_fewest_3 : List UInt8 := dkwX1_fewest_3 ++ dktX1_fewest_4
def dkwX1_fewest_2 : List UInt8 := [167, 0, 60, 42, 21, 4, 182, 1, 50, 54, 5, 28, 16, 252, 159, 0, 32, 21, 5, 28, 163, 0, 40]
abbrev dktX1_fewest_2 : List UInt8 := dkwX1_fewest_2 ++ dktX1_fewest_3
def dkwX1_fewest_1 : List UInt8 := [54, 4, 42, 180, 0, 250, 21, 4, 46, 27, 163, 0, 72, 42, 21, 4, 182, 1, 30, 154, 0, 6]
abbrev dktX1_fewest_1 : List UInt8 := dkwX1_fewest_1 ++ dktX1_fewest_2
def dkwX1_fewest_0 : List UInt8 := [42, 182, 1, 37, 16, 252, 61, 3, 62, 29, 42, 180, 1, 1, 162, 0, 97, 42, 180, 0, 254, 29, 46]
abbrev dktX1_fewest_0 : List UInt8 := dkwX1_fewest_0 ++ dktX1_fewest_1
theorem dksX1_fewest_0 : cX1_fewest.data.toList.drop 0 = dktX1_fewest_0 := by decide +kernel
theorem dksX1_fewest_1 : cX1_fewest.data.toList.drop 23 = dktX1_fewest_1 := dk_seg dksX1_fewest_0 23 rfl rfl
theorem dksX1_fewest_2 : cX1_fewest.data.toList.drop 45 = dktX1_fewest_2 := dk_seg dksX1_fewest_1 22 rfl rfl
theorem dksX1_fewest_3 : cX1_fewest.data.toList.drop 68 = dktX1_fewest_3 := dk_seg dksX1_fewest_2 23 rfl rfl
theorem dksX1_fewest_4 : cX1_fewest.data.toList.drop 91 = dktX1_fewest_4 := dk_seg dksX1_fewest_3 23 rfl rfl
theorem dX1_fewest_0 : decode cX1_fewest 0 = .ok (.aload_n 0, 1) := dk_42 (dk_at dksX1_fewest_0 0 rfl rfl)
theorem dX1_fewest_1 : decode cX1_fewest 1 = .ok (.invokevirtual 293, 3) := dk_182 1 37 (dk_at dksX1_fewest_0 1 rfl rfl)
theorem dX1_fewest_4 : decode cX1_fewest 4 = .ok (.bipush (-4), 2) := dk_16 252 (dk_at dksX1_fewest_0 4 rfl rfl)
theorem dX1_fewest_6 : decode cX1_fewest 6 = .ok (.istore_n 2, 1) := dk_61 (dk_at dksX1_fewest_0 6 rfl rfl)
theorem dX1_fewest_7 : decode cX1_fewest 7 = .ok (.iconst 0, 1) := dk_3 (dk_at dksX1_fewest_0 7 rfl rfl)
theorem dX1_fewest_8 : decode cX1_fewest 8 = .ok (.istore_n 3, 1) := dk_62 (dk_at dksX1_fewest_0 8 rfl rfl)
theorem dX1_fewest_9 : decode cX1_fewest 9 = .ok (.iload_n 3, 1) := dk_29 (dk_at dksX1_fewest_0 9 rfl rfl)
theorem dX1_fewest_10 : decode cX1_fewest 10 = .ok (.aload_n 0, 1) := dk_42 (dk_at dksX1_fewest_0 10 rfl rfl)
theorem dX1_fewest_11 : decode cX1_fewest 11 = .ok (.getfield 257, 3) := dk_180 1 1 (dk_at dksX1_fewest_0 11 rfl rfl)
theorem dX1_fewest_14 : decode cX1_fewest 14 = .ok (.if_icmp .ge 97, 3) := dk_162 0 97 (dk_at dksX1_fewest_0 14 rfl rfl)
theorem dX1_fewest_17 : decode cX1_fewest 17 = .ok (.aload_n 0, 1) := dk_42 (dk_at dksX1_fewest_0 17 rfl rfl)
theorem dX1_fewest_18 : decode cX1_fewest 18 = .ok (.getfield 254, 3) := dk_180 0 254 (dk_at dksX1_fewest_0 18 rfl rfl)
theorem dX1_fewest_21 : decode cX1_fewest 21 = .ok (.iload_n 3, 1) := dk_29 (dk_at dksX1_fewest_0 21 rfl rfl)
theorem dX1_fewest_22 : decode cX1_fewest 22 = .ok (.iaload, 1) := dk_46 (dk_at dksX1_fewest_0 22 rfl rfl)
theorem dX1_fewest_23 : decode cX1_fewest 23 = .ok (.istore 4, 2) := dk_54 4 (dk_at dksX1_fewest_1 0 rfl rfl)
theorem dX1_fewest_25 : decode cX1_fewest 25 = .ok (.aload_n 0, 1) := dk_42 (dk_at dksX1_fewest_1 2 rfl rfl)
theorem dX1_fewest_26 : decode cX1_fewest 26 = .ok (.getfield 250, 3) := dk_180 0 250 (dk_at dksX1_fewest_1 3 rfl rfl)
theorem dX1_fewest_29 : decode cX1_fewest 29 = .ok (.iload 4, 2) := dk_21 4 (dk_at dksX1_fewest_1 6 rfl rfl)
theorem dX1_fewest_31 : decode cX1_fewest 31 = .ok (.iaload, 1) := dk_46 (dk_at dksX1_fewest_1 8 rfl rfl)
theorem dX1_fewest_32 : decode cX1_fewest 32 = .ok (.iload_n 1, 1) := dk_27 (dk_at dksX1_fewest_1 9 rfl rfl)
theorem dX1_fewest_33 : decode cX1_fewest 33 = .ok (.if_icmp .gt 72, 3) := dk_163 0 72 (dk_at dksX1_fewest_1 10 rfl rfl)
theorem dX1_fewest_36 : decode cX1_fewest 36 = .ok (.aload_n 0, 1) := dk_42 (dk_at dksX1_fewest_1 13 rfl rfl)
theorem dX1_fewest_37 : decode cX1_fewest 37 = .ok (.iload 4, 2) := dk_21 4 (dk_at dksX1_fewest_1 14 rfl rfl)
theorem dX1_fewest_39 : decode cX1_fewest 39 = .ok (.invokevirtual 286, 3) := dk_182 1 30 (dk_at dksX1_fewest_1 16 rfl rfl)
theorem dX1_fewest_42 : decode cX1_fewest 42 = .ok (.ifCond .ne 6, 3) := dk_154 0 6 (dk_at dksX1_fewest_1 19 rfl rfl)
theorem dX1_fewest_45 : decode cX1_fewest 45 = .ok (.goto 60, 3) := dk_167 0 60 (dk_at dksX1_fewest_2 0 rfl rfl)
theorem dX1_fewest_48 : decode cX1_fewest 48 = .ok (.aload_n 0, 1) := dk_42 (dk_at dksX1_fewest_2 3 rfl rfl)
theorem dX1_fewest_49 : decode cX1_fewest 49 = .ok (.iload 4, 2) := dk_21 4 (dk_at dksX1_fewest_2 4 rfl rfl)
theorem dX1_fewest_51 : decode cX1_fewest 51 = .ok (.invokevirtual 306, 3) := dk_182 1 50 (dk_at dksX1_fewest_2 6 rfl rfl)
theorem dX1_fewest_54 : decode cX1_fewest 54 = .ok (.istore 5, 2) := dk_54 5 (dk_at dksX1_fewest_2 9 rfl rfl)
theorem dX1_fewest_56 : decode cX1_fewest 56 = .ok (.iload_n 2, 1) := dk_28 (dk_at dksX1_fewest_2 11 rfl rfl)
theorem dX1_fewest_57 : decode cX1_fewest 57 = .ok (.bipush (-4), 2) := dk_16 252 (dk_at dksX1_fewest_2 12 rfl rfl)
theorem dX1_fewest_59 : decode cX1_fewest 59 = .ok (.if_icmp .eq 32, 3) := dk_159 0 32 (dk_at dksX1_fewest_2 14 rfl rfl)
theorem dX1_fewest_62 : decode cX1_fewest 62 = .ok (.iload 5, 2) := dk_21 5 (dk_at dksX1_fewest_2 17 rfl rfl)
theorem dX1_fewest_64 : decode cX1_fewest 64 = .ok (.iload_n 2, 1) := dk_28 (dk_at dksX1_fewest_2 19 rfl rfl)
theorem dX1_fewest_65 : decode cX1_fewest 65 = .ok (.if_icmp .gt 40, 3) := dk_163 0 40 (dk_at dksX1_fewest_2 20 rfl rfl)
theorem dX1_fewest_68 : decode cX1_fewest 68 = .ok (.iload 5, 2) := dk_21 5 (dk_at dksX1_fewest_3 0 rfl rfl)
theorem dX1_fewest_70 : decode cX1_fewest 70 = .ok (.iload_n 2, 1) := dk_28 (dk_at dksX1_fewest_3 2 rfl rfl)
theorem dX1_fewest_71 : decode cX1_fewest 71 = .ok (.if_icmp .ne 20, 3) := dk_160 0 20 (dk_at dksX1_fewest_3 3 rfl rfl)
theorem dX1_fewest_74 : decode cX1_fewest 74 = .ok (.aload_n 0, 1) := dk_42 (dk_at dksX1_fewest_3 6 rfl rfl)
theorem dX1_fewest_75 : decode cX1_fewest 75 = .ok (.getfield 250, 3) := dk_180 0 250 (dk_at dksX1_fewest_3 7 rfl rfl)
theorem dX1_fewest_78 : decode cX1_fewest 78 = .ok (.iload 4, 2) := dk_21 4 (dk_at dksX1_fewest_3 10 rfl rfl)
theorem dX1_fewest_80 : decode cX1_fewest 80 = .ok (.iaload, 1) := dk_46 (dk_at dksX1_fewest_3 12 rfl rfl)
theorem dX1_fewest_81 : decode cX1_fewest 81 = .ok (.aload_n 0, 1) := dk_42 (dk_at dksX1_fewest_3 13 rfl rfl)
theorem dX1_fewest_82 : decode cX1_fewest 82 = .ok (.getfield 310, 3) := dk_180 1 54 (dk_at dksX1_fewest_3 14 rfl rfl)
theorem dX1_fewest_85 : decode cX1_fewest 85 = .ok (.if_icmp .lt 6, 3) := dk_161 0 6 (dk_at dksX1_fewest_3 17 rfl rfl)
theorem dX1_fewest_88 : decode cX1_fewest 88 = .ok (.goto 17, 3) := dk_167 0 17 (dk_at dksX1_fewest_3 20 rfl rfl)
theorem dX1_fewest_91 : decode cX1_fewest 91 = .ok (.iload 5, 2) := dk_21 5 (dk_at dksX1_fewest_4 0 rfl rfl)
theorem dX1_fewest_93 : decode cX1_fewest 93 = .ok (.istore_n 2, 1) := dk_61 (dk_at dksX1_fewest_4 2 rfl rfl)
theorem dX1_fewest_94 : decode cX1_fewest 94 = .ok (.aload_n 0, 1) := dk_42 (dk_at dksX1_fewest_4 3 rfl rfl)
theorem dX1_fewest_95 : decode cX1_fewest 95 = .ok (.aload_n 0, 1) := dk_42 (dk_at dksX1_fewest_4 4 rfl rfl)
theorem dX1_fewest_96 : decode cX1_fewest 96 = .ok (.getfield 250, 3) := dk_180 0 250 (dk_at dksX1_fewest_4 5 rfl rfl)
theorem dX1_fewest_99 : decode cX1_fewest 99 = .ok (.iload 4, 2) := dk_21 4 (dk_at dksX1_fewest_4 8 rfl rfl)
theorem dX1_fewest_101 : decode cX1_fewest 101 = .ok (.iaload, 1) := dk_46 (dk_at dksX1_fewest_4 10 rfl rfl)
theorem dX1_fewest_102 : decode cX1_fewest 102 = .ok (.putfield 310, 3) := dk_181 1 54 (dk_at dksX1_fewest_4 11 rfl rfl)
theorem dX1_fewest_105 : decode cX1_fewest 105 = .ok (.iinc 3 1, 3) := dk_132 3 1 (dk_at dksX1_fewest_4 14 rfl rfl)
theorem dX1_fewest_108 : decode cX1_fewest 108 = .ok (.goto (-99), 3) := dk_167 255 157 (dk_at dksX1_fewest_4 17 rfl rfl)
theorem dX1_fewest_111 : decode cX1_fewest 111 = .ok (.iload_n 2, 1) := dk_28 (dk_at dksX1_fewest_4 20 rfl rfl)
theorem dX1_fewest_112 : decode cX1_fewest 112 = .ok (.ireturn, 1) := dk_172 (dk_at dksX1_fewest_4 21 rfl rfl)
abbrev cX1_leftIn : ByteArray := prog_1_method_40_code
def yX1_leftIn : MethodName := ⟨RX1, "leftIn", "(I)I"⟩
def dkwX1_leftIn_2 : List UInt8 := [167, 255, 221, 28, 172]
abbrev dktX1_leftIn_2 : List UInt8 := dkwX1_leftIn_2 ++ []
def dkwX1_leftIn_1 : List UInt8 := [42, 180, 1, 16, 180, 0, 80, 29, 46, 8, 160, 0, 7, 4, 167, 0, 4, 3, 96, 61, 132, 3, 1]
abbrev dktX1_leftIn_1 : List UInt8 := dkwX1_leftIn_1 ++ dktX1_leftIn_2
def dkwX1_leftIn_0 : List UInt8 := [42, 180, 1, 16, 27, 182, 1, 19, 3, 61, 3, 62, 29, 42, 180, 0, 1, 180, 0, 17, 162, 0, 30, 28]
abbrev dktX1_leftIn_0 : List UInt8 := dkwX1_leftIn_0 ++ dktX1_leftIn_1
theorem dksX1_leftIn_0 : cX1_leftIn.data.toList.drop 0 = dktX1_leftIn_0 := by decide +kernel
theorem dksX1_leftIn_1 : cX1_leftIn.data.toList.drop 24 = dktX1_leftIn_1 := dk_seg dksX1_leftIn_0 24 rfl rfl
theorem dksX1_leftIn_2 : cX1_leftIn.data.toList.drop 47 = dktX1_leftIn_2 := dk_seg dksX1_leftIn_1 23 rfl rfl
theorem dX1_leftIn_0 : decode cX1_leftIn 0 = .ok (.aload_n 0, 1) := dk_42 (dk_at dksX1_leftIn_0 0 rfl rfl)
theorem dX1_leftIn_1 : decode cX1_leftIn 1 = .ok (.getfield 272, 3) := dk_180 1 16 (dk_at dksX1_leftIn_0 1 rfl rfl)
theorem dX1_leftIn_4 : decode cX1_leftIn 4 = .ok (.iload_n 1, 1) := dk_27 (dk_at dksX1_leftIn_0 4 rfl rfl)
theorem dX1_leftIn_5 : decode cX1_leftIn 5 = .ok (.invokevirtual 275, 3) := dk_182 1 19 (dk_at dksX1_leftIn_0 5 rfl rfl)
theorem dX1_leftIn_8 : decode cX1_leftIn 8 = .ok (.iconst 0, 1) := dk_3 (dk_at dksX1_leftIn_0 8 rfl rfl)
theorem dX1_leftIn_9 : decode cX1_leftIn 9 = .ok (.istore_n 2, 1) := dk_61 (dk_at dksX1_leftIn_0 9 rfl rfl)
theorem dX1_leftIn_10 : decode cX1_leftIn 10 = .ok (.iconst 0, 1) := dk_3 (dk_at dksX1_leftIn_0 10 rfl rfl)
theorem dX1_leftIn_11 : decode cX1_leftIn 11 = .ok (.istore_n 3, 1) := dk_62 (dk_at dksX1_leftIn_0 11 rfl rfl)
theorem dX1_leftIn_12 : decode cX1_leftIn 12 = .ok (.iload_n 3, 1) := dk_29 (dk_at dksX1_leftIn_0 12 rfl rfl)
theorem dX1_leftIn_13 : decode cX1_leftIn 13 = .ok (.aload_n 0, 1) := dk_42 (dk_at dksX1_leftIn_0 13 rfl rfl)
theorem dX1_leftIn_14 : decode cX1_leftIn 14 = .ok (.getfield 1, 3) := dk_180 0 1 (dk_at dksX1_leftIn_0 14 rfl rfl)
theorem dX1_leftIn_17 : decode cX1_leftIn 17 = .ok (.getfield 17, 3) := dk_180 0 17 (dk_at dksX1_leftIn_0 17 rfl rfl)
theorem dX1_leftIn_20 : decode cX1_leftIn 20 = .ok (.if_icmp .ge 30, 3) := dk_162 0 30 (dk_at dksX1_leftIn_0 20 rfl rfl)
theorem dX1_leftIn_23 : decode cX1_leftIn 23 = .ok (.iload_n 2, 1) := dk_28 (dk_at dksX1_leftIn_0 23 rfl rfl)
theorem dX1_leftIn_24 : decode cX1_leftIn 24 = .ok (.aload_n 0, 1) := dk_42 (dk_at dksX1_leftIn_1 0 rfl rfl)
theorem dX1_leftIn_25 : decode cX1_leftIn 25 = .ok (.getfield 272, 3) := dk_180 1 16 (dk_at dksX1_leftIn_1 1 rfl rfl)
theorem dX1_leftIn_28 : decode cX1_leftIn 28 = .ok (.getfield 80, 3) := dk_180 0 80 (dk_at dksX1_leftIn_1 4 rfl rfl)
theorem dX1_leftIn_31 : decode cX1_leftIn 31 = .ok (.iload_n 3, 1) := dk_29 (dk_at dksX1_leftIn_1 7 rfl rfl)
theorem dX1_leftIn_32 : decode cX1_leftIn 32 = .ok (.iaload, 1) := dk_46 (dk_at dksX1_leftIn_1 8 rfl rfl)
theorem dX1_leftIn_33 : decode cX1_leftIn 33 = .ok (.iconst 5, 1) := dk_8 (dk_at dksX1_leftIn_1 9 rfl rfl)
theorem dX1_leftIn_34 : decode cX1_leftIn 34 = .ok (.if_icmp .ne 7, 3) := dk_160 0 7 (dk_at dksX1_leftIn_1 10 rfl rfl)
theorem dX1_leftIn_37 : decode cX1_leftIn 37 = .ok (.iconst 1, 1) := dk_4 (dk_at dksX1_leftIn_1 13 rfl rfl)
theorem dX1_leftIn_38 : decode cX1_leftIn 38 = .ok (.goto 4, 3) := dk_167 0 4 (dk_at dksX1_leftIn_1 14 rfl rfl)
theorem dX1_leftIn_41 : decode cX1_leftIn 41 = .ok (.iconst 0, 1) := dk_3 (dk_at dksX1_leftIn_1 17 rfl rfl)
theorem dX1_leftIn_42 : decode cX1_leftIn 42 = .ok (.iadd, 1) := dk_96 (dk_at dksX1_leftIn_1 18 rfl rfl)
theorem dX1_leftIn_43 : decode cX1_leftIn 43 = .ok (.istore_n 2, 1) := dk_61 (dk_at dksX1_leftIn_1 19 rfl rfl)
theorem dX1_leftIn_44 : decode cX1_leftIn 44 = .ok (.iinc 3 1, 3) := dk_132 3 1 (dk_at dksX1_leftIn_1 20 rfl rfl)
theorem dX1_leftIn_47 : decode cX1_leftIn 47 = .ok (.goto (-35), 3) := dk_167 255 221 (dk_at dksX1_leftIn_2 0 rfl rfl)
theorem dX1_leftIn_50 : decode cX1_leftIn 50 = .ok (.iload_n 2, 1) := dk_28 (dk_at dksX1_leftIn_2 3 rfl rfl)
theorem dX1_leftIn_51 : decode cX1_leftIn 51 = .ok (.ireturn, 1) := dk_172 (dk_at dksX1_leftIn_2 4 rfl rfl)
abbrev cX1_dusk : ByteArray := prog_1_method_43_code
def yX1_dusk : MethodName := ⟨RX1, "dusk", "()I"⟩
def dkwX1_dusk_0 : List UInt8 := [42, 42, 180, 0, 1, 180, 0, 86, 42, 180, 0, 1, 180, 0, 170, 100, 182, 1, 57, 172]
abbrev dktX1_dusk_0 : List UInt8 := dkwX1_dusk_0 ++ []
theorem dksX1_dusk_0 : cX1_dusk.data.toList.drop 0 = dktX1_dusk_0 := by decide +kernel
theorem dX1_dusk_0 : decode cX1_dusk 0 = .ok (.aload_n 0, 1) := dk_42 (dk_at dksX1_dusk_0 0 rfl rfl)
theorem dX1_dusk_1 : decode cX1_dusk 1 = .ok (.aload_n 0, 1) := dk_42 (dk_at dksX1_dusk_0 1 rfl rfl)
theorem dX1_dusk_2 : decode cX1_dusk 2 = .ok (.getfield 1, 3) := dk_180 0 1 (dk_at dksX1_dusk_0 2 rfl rfl)
theorem dX1_dusk_5 : decode cX1_dusk 5 = .ok (.getfield 86, 3) := dk_180 0 86 (dk_at dksX1_dusk_0 5 rfl rfl)
theorem dX1_dusk_8 : decode cX1_dusk 8 = .ok (.aload_n 0, 1) := dk_42 (dk_at dksX1_dusk_0 8 rfl rfl)
theorem dX1_dusk_9 : decode cX1_dusk 9 = .ok (.getfield 1, 3) := dk_180 0 1 (dk_at dksX1_dusk_0 9 rfl rfl)
theorem dX1_dusk_12 : decode cX1_dusk 12 = .ok (.getfield 170, 3) := dk_180 0 170 (dk_at dksX1_dusk_0 12 rfl rfl)
theorem dX1_dusk_15 : decode cX1_dusk 15 = .ok (.isub, 1) := dk_100 (dk_at dksX1_dusk_0 15 rfl rfl)
theorem dX1_dusk_16 : decode cX1_dusk 16 = .ok (.invokevirtual 313, 3) := dk_182 1 57 (dk_at dksX1_dusk_0 16 rfl rfl)
theorem dX1_dusk_19 : decode cX1_dusk 19 = .ok (.ireturn, 1) := dk_172 (dk_at dksX1_dusk_0 19 rfl rfl)
abbrev cX1_last : ByteArray := prog_1_method_47_code
def yX1_last : MethodName := ⟨RX1, "last", "()I"⟩
def dkwX1_last_3 : List UInt8 := [128, 60, 132, 3, 1, 167, 255, 207, 132, 2, 1, 167, 255, 183, 27, 172]
abbrev dktX1_last_3 : List UInt8 := dkwX1_last_3 ++ []
def dkwX1_last_2 : List UInt8 := [153, 0, 23, 42, 42, 180, 0, 254, 29, 46, 28, 182, 1, 63, 153, 0, 9, 4, 28, 120, 167, 0, 4, 3]
abbrev dktX1_last_2 : List UInt8 := dkwX1_last_2 ++ dktX1_last_3
def dkwX1_last_1 : List UInt8 := [3, 62, 29, 42, 180, 1, 1, 162, 0, 47, 27, 42, 180, 1, 60, 42, 180, 0, 254, 29, 46, 51]
abbrev dktX1_last_1 : List UInt8 := dkwX1_last_1 ++ dktX1_last_2
def dkwX1_last_0 : List UInt8 := [42, 182, 1, 37, 3, 60, 3, 61, 28, 42, 180, 0, 1, 180, 0, 7, 162, 0, 68, 42, 28, 182, 1, 69]
abbrev dktX1_last_0 : List UInt8 := dkwX1_last_0 ++ dktX1_last_1
theorem dksX1_last_0 : cX1_last.data.toList.drop 0 = dktX1_last_0 := by decide +kernel
theorem dksX1_last_1 : cX1_last.data.toList.drop 24 = dktX1_last_1 := dk_seg dksX1_last_0 24 rfl rfl
theorem dksX1_last_2 : cX1_last.data.toList.drop 46 = dktX1_last_2 := dk_seg dksX1_last_1 22 rfl rfl
theorem dksX1_last_3 : cX1_last.data.toList.drop 70 = dktX1_last_3 := dk_seg dksX1_last_2 24 rfl rfl
theorem dX1_last_0 : decode cX1_last 0 = .ok (.aload_n 0, 1) := dk_42 (dk_at dksX1_last_0 0 rfl rfl)
theorem dX1_last_1 : decode cX1_last 1 = .ok (.invokevirtual 293, 3) := dk_182 1 37 (dk_at dksX1_last_0 1 rfl rfl)
theorem dX1_last_4 : decode cX1_last 4 = .ok (.iconst 0, 1) := dk_3 (dk_at dksX1_last_0 4 rfl rfl)
theorem dX1_last_5 : decode cX1_last 5 = .ok (.istore_n 1, 1) := dk_60 (dk_at dksX1_last_0 5 rfl rfl)
theorem dX1_last_6 : decode cX1_last 6 = .ok (.iconst 0, 1) := dk_3 (dk_at dksX1_last_0 6 rfl rfl)
theorem dX1_last_7 : decode cX1_last 7 = .ok (.istore_n 2, 1) := dk_61 (dk_at dksX1_last_0 7 rfl rfl)
theorem dX1_last_8 : decode cX1_last 8 = .ok (.iload_n 2, 1) := dk_28 (dk_at dksX1_last_0 8 rfl rfl)
theorem dX1_last_9 : decode cX1_last 9 = .ok (.aload_n 0, 1) := dk_42 (dk_at dksX1_last_0 9 rfl rfl)
theorem dX1_last_10 : decode cX1_last 10 = .ok (.getfield 1, 3) := dk_180 0 1 (dk_at dksX1_last_0 10 rfl rfl)
theorem dX1_last_13 : decode cX1_last 13 = .ok (.getfield 7, 3) := dk_180 0 7 (dk_at dksX1_last_0 13 rfl rfl)
theorem dX1_last_16 : decode cX1_last 16 = .ok (.if_icmp .ge 68, 3) := dk_162 0 68 (dk_at dksX1_last_0 16 rfl rfl)
theorem dX1_last_19 : decode cX1_last 19 = .ok (.aload_n 0, 1) := dk_42 (dk_at dksX1_last_0 19 rfl rfl)
theorem dX1_last_20 : decode cX1_last 20 = .ok (.iload_n 2, 1) := dk_28 (dk_at dksX1_last_0 20 rfl rfl)
theorem dX1_last_21 : decode cX1_last 21 = .ok (.invokevirtual 325, 3) := dk_182 1 69 (dk_at dksX1_last_0 21 rfl rfl)
theorem dX1_last_24 : decode cX1_last 24 = .ok (.iconst 0, 1) := dk_3 (dk_at dksX1_last_1 0 rfl rfl)
theorem dX1_last_25 : decode cX1_last 25 = .ok (.istore_n 3, 1) := dk_62 (dk_at dksX1_last_1 1 rfl rfl)
theorem dX1_last_26 : decode cX1_last 26 = .ok (.iload_n 3, 1) := dk_29 (dk_at dksX1_last_1 2 rfl rfl)
theorem dX1_last_27 : decode cX1_last 27 = .ok (.aload_n 0, 1) := dk_42 (dk_at dksX1_last_1 3 rfl rfl)
theorem dX1_last_28 : decode cX1_last 28 = .ok (.getfield 257, 3) := dk_180 1 1 (dk_at dksX1_last_1 4 rfl rfl)
theorem dX1_last_31 : decode cX1_last 31 = .ok (.if_icmp .ge 47, 3) := dk_162 0 47 (dk_at dksX1_last_1 7 rfl rfl)
theorem dX1_last_34 : decode cX1_last 34 = .ok (.iload_n 1, 1) := dk_27 (dk_at dksX1_last_1 10 rfl rfl)
theorem dX1_last_35 : decode cX1_last 35 = .ok (.aload_n 0, 1) := dk_42 (dk_at dksX1_last_1 11 rfl rfl)
theorem dX1_last_36 : decode cX1_last 36 = .ok (.getfield 316, 3) := dk_180 1 60 (dk_at dksX1_last_1 12 rfl rfl)
theorem dX1_last_39 : decode cX1_last 39 = .ok (.aload_n 0, 1) := dk_42 (dk_at dksX1_last_1 15 rfl rfl)
theorem dX1_last_40 : decode cX1_last 40 = .ok (.getfield 254, 3) := dk_180 0 254 (dk_at dksX1_last_1 16 rfl rfl)
theorem dX1_last_43 : decode cX1_last 43 = .ok (.iload_n 3, 1) := dk_29 (dk_at dksX1_last_1 19 rfl rfl)
theorem dX1_last_44 : decode cX1_last 44 = .ok (.iaload, 1) := dk_46 (dk_at dksX1_last_1 20 rfl rfl)
theorem dX1_last_45 : decode cX1_last 45 = .ok (.baload, 1) := dk_51 (dk_at dksX1_last_1 21 rfl rfl)
theorem dX1_last_46 : decode cX1_last 46 = .ok (.ifCond .eq 23, 3) := dk_153 0 23 (dk_at dksX1_last_2 0 rfl rfl)
theorem dX1_last_49 : decode cX1_last 49 = .ok (.aload_n 0, 1) := dk_42 (dk_at dksX1_last_2 3 rfl rfl)
theorem dX1_last_50 : decode cX1_last 50 = .ok (.aload_n 0, 1) := dk_42 (dk_at dksX1_last_2 4 rfl rfl)
theorem dX1_last_51 : decode cX1_last 51 = .ok (.getfield 254, 3) := dk_180 0 254 (dk_at dksX1_last_2 5 rfl rfl)
theorem dX1_last_54 : decode cX1_last 54 = .ok (.iload_n 3, 1) := dk_29 (dk_at dksX1_last_2 8 rfl rfl)
theorem dX1_last_55 : decode cX1_last 55 = .ok (.iaload, 1) := dk_46 (dk_at dksX1_last_2 9 rfl rfl)
theorem dX1_last_56 : decode cX1_last 56 = .ok (.iload_n 2, 1) := dk_28 (dk_at dksX1_last_2 10 rfl rfl)
theorem dX1_last_57 : decode cX1_last 57 = .ok (.invokevirtual 319, 3) := dk_182 1 63 (dk_at dksX1_last_2 11 rfl rfl)
theorem dX1_last_60 : decode cX1_last 60 = .ok (.ifCond .eq 9, 3) := dk_153 0 9 (dk_at dksX1_last_2 14 rfl rfl)
theorem dX1_last_63 : decode cX1_last 63 = .ok (.iconst 1, 1) := dk_4 (dk_at dksX1_last_2 17 rfl rfl)
theorem dX1_last_64 : decode cX1_last 64 = .ok (.iload_n 2, 1) := dk_28 (dk_at dksX1_last_2 18 rfl rfl)
theorem dX1_last_65 : decode cX1_last 65 = .ok (.ishl, 1) := dk_120 (dk_at dksX1_last_2 19 rfl rfl)
theorem dX1_last_66 : decode cX1_last 66 = .ok (.goto 4, 3) := dk_167 0 4 (dk_at dksX1_last_2 20 rfl rfl)
theorem dX1_last_69 : decode cX1_last 69 = .ok (.iconst 0, 1) := dk_3 (dk_at dksX1_last_2 23 rfl rfl)
theorem dX1_last_70 : decode cX1_last 70 = .ok (.ior, 1) := dk_128 (dk_at dksX1_last_3 0 rfl rfl)
theorem dX1_last_71 : decode cX1_last 71 = .ok (.istore_n 1, 1) := dk_60 (dk_at dksX1_last_3 1 rfl rfl)
theorem dX1_last_72 : decode cX1_last 72 = .ok (.iinc 3 1, 3) := dk_132 3 1 (dk_at dksX1_last_3 2 rfl rfl)
theorem dX1_last_75 : decode cX1_last 75 = .ok (.goto (-49), 3) := dk_167 255 207 (dk_at dksX1_last_3 5 rfl rfl)
theorem dX1_last_78 : decode cX1_last 78 = .ok (.iinc 2 1, 3) := dk_132 2 1 (dk_at dksX1_last_3 8 rfl rfl)
theorem dX1_last_81 : decode cX1_last 81 = .ok (.goto (-73), 3) := dk_167 255 183 (dk_at dksX1_last_3 11 rfl rfl)
theorem dX1_last_84 : decode cX1_last 84 = .ok (.iload_n 1, 1) := dk_27 (dk_at dksX1_last_3 14 rfl rfl)
theorem dX1_last_85 : decode cX1_last 85 = .ok (.ireturn, 1) := dk_172 (dk_at dksX1_last_3 15 rfl rfl)
abbrev cX1_findGood : ByteArray := prog_1_method_45_code
def yX1_findGood : MethodName := ⟨RX1, "findGood", "(I)V"⟩
def dkwX1_findGood_6 : List UInt8 := [167, 255, 177, 177]
abbrev dktX1_findGood_6 : List UInt8 := dkwX1_findGood_6 ++ []
def dkwX1_findGood_5 : List UInt8 := [154, 0, 6, 167, 0, 13, 42, 180, 1, 60, 21, 4, 4, 84, 4, 61, 132, 3, 255, 167, 255, 193]
abbrev dktX1_findGood_5 : List UInt8 := dkwX1_findGood_5 ++ dktX1_findGood_6
def dkwX1_findGood_4 : List UInt8 := [27, 2, 159, 0, 13, 42, 21, 4, 27, 182, 1, 63, 153, 0, 26, 42, 21, 4, 27, 182, 1, 66]
abbrev dktX1_findGood_4 : List UInt8 := dkwX1_findGood_4 ++ dktX1_findGood_5
def dkwX1_findGood_3 : List UInt8 := [100, 62, 29, 155, 0, 65, 42, 180, 0, 254, 29, 46, 54, 4, 42, 180, 1, 60, 21, 4, 51, 154, 0, 41]
abbrev dktX1_findGood_3 : List UInt8 := dkwX1_findGood_3 ++ dktX1_findGood_4
def dkwX1_findGood_2 : List UInt8 := [46, 182, 1, 30, 84, 132, 2, 1, 167, 255, 224, 4, 61, 28, 153, 0, 81, 3, 61, 42, 180, 1, 1, 4]
abbrev dktX1_findGood_2 : List UInt8 := dkwX1_findGood_2 ++ dktX1_findGood_3
def dkwX1_findGood_1 : List UInt8 := [28, 42, 180, 1, 1, 162, 0, 30, 42, 180, 1, 60, 42, 180, 0, 254, 28, 46, 42, 42, 180, 0, 254, 28]
abbrev dktX1_findGood_1 : List UInt8 := dkwX1_findGood_1 ++ dktX1_findGood_2
def dkwX1_findGood_0 : List UInt8 := [3, 61, 28, 17, 17, 148, 162, 0, 16, 42, 180, 1, 60, 28, 3, 84, 132, 2, 1, 167, 255, 239, 3, 61]
abbrev dktX1_findGood_0 : List UInt8 := dkwX1_findGood_0 ++ dktX1_findGood_1
theorem dksX1_findGood_0 : cX1_findGood.data.toList.drop 0 = dktX1_findGood_0 := by decide +kernel
theorem dksX1_findGood_1 : cX1_findGood.data.toList.drop 24 = dktX1_findGood_1 := dk_seg dksX1_findGood_0 24 rfl rfl
theorem dksX1_findGood_2 : cX1_findGood.data.toList.drop 48 = dktX1_findGood_2 := dk_seg dksX1_findGood_1 24 rfl rfl
theorem dksX1_findGood_3 : cX1_findGood.data.toList.drop 72 = dktX1_findGood_3 := dk_seg dksX1_findGood_2 24 rfl rfl
theorem dksX1_findGood_4 : cX1_findGood.data.toList.drop 96 = dktX1_findGood_4 := dk_seg dksX1_findGood_3 24 rfl rfl
theorem dksX1_findGood_5 : cX1_findGood.data.toList.drop 118 = dktX1_findGood_5 := dk_seg dksX1_findGood_4 22 rfl rfl
theorem dksX1_findGood_6 : cX1_findGood.data.toList.drop 140 = dktX1_findGood_6 := dk_seg dksX1_findGood_5 22 rfl rfl
theorem dX1_findGood_0 : decode cX1_findGood 0 = .ok (.iconst 0, 1) := dk_3 (dk_at dksX1_findGood_0 0 rfl rfl)
theorem dX1_findGood_1 : decode cX1_findGood 1 = .ok (.istore_n 2, 1) := dk_61 (dk_at dksX1_findGood_0 1 rfl rfl)
theorem dX1_findGood_2 : decode cX1_findGood 2 = .ok (.iload_n 2, 1) := dk_28 (dk_at dksX1_findGood_0 2 rfl rfl)
theorem dX1_findGood_3 : decode cX1_findGood 3 = .ok (.sipush 4500, 3) := dk_17 17 148 (dk_at dksX1_findGood_0 3 rfl rfl)
theorem dX1_findGood_6 : decode cX1_findGood 6 = .ok (.if_icmp .ge 16, 3) := dk_162 0 16 (dk_at dksX1_findGood_0 6 rfl rfl)
theorem dX1_findGood_9 : decode cX1_findGood 9 = .ok (.aload_n 0, 1) := dk_42 (dk_at dksX1_findGood_0 9 rfl rfl)
theorem dX1_findGood_10 : decode cX1_findGood 10 = .ok (.getfield 316, 3) := dk_180 1 60 (dk_at dksX1_findGood_0 10 rfl rfl)
theorem dX1_findGood_13 : decode cX1_findGood 13 = .ok (.iload_n 2, 1) := dk_28 (dk_at dksX1_findGood_0 13 rfl rfl)
theorem dX1_findGood_14 : decode cX1_findGood 14 = .ok (.iconst 0, 1) := dk_3 (dk_at dksX1_findGood_0 14 rfl rfl)
theorem dX1_findGood_15 : decode cX1_findGood 15 = .ok (.bastore, 1) := dk_84 (dk_at dksX1_findGood_0 15 rfl rfl)
theorem dX1_findGood_16 : decode cX1_findGood 16 = .ok (.iinc 2 1, 3) := dk_132 2 1 (dk_at dksX1_findGood_0 16 rfl rfl)
theorem dX1_findGood_19 : decode cX1_findGood 19 = .ok (.goto (-17), 3) := dk_167 255 239 (dk_at dksX1_findGood_0 19 rfl rfl)
theorem dX1_findGood_22 : decode cX1_findGood 22 = .ok (.iconst 0, 1) := dk_3 (dk_at dksX1_findGood_0 22 rfl rfl)
theorem dX1_findGood_23 : decode cX1_findGood 23 = .ok (.istore_n 2, 1) := dk_61 (dk_at dksX1_findGood_0 23 rfl rfl)
theorem dX1_findGood_24 : decode cX1_findGood 24 = .ok (.iload_n 2, 1) := dk_28 (dk_at dksX1_findGood_1 0 rfl rfl)
theorem dX1_findGood_25 : decode cX1_findGood 25 = .ok (.aload_n 0, 1) := dk_42 (dk_at dksX1_findGood_1 1 rfl rfl)
theorem dX1_findGood_26 : decode cX1_findGood 26 = .ok (.getfield 257, 3) := dk_180 1 1 (dk_at dksX1_findGood_1 2 rfl rfl)
theorem dX1_findGood_29 : decode cX1_findGood 29 = .ok (.if_icmp .ge 30, 3) := dk_162 0 30 (dk_at dksX1_findGood_1 5 rfl rfl)
theorem dX1_findGood_32 : decode cX1_findGood 32 = .ok (.aload_n 0, 1) := dk_42 (dk_at dksX1_findGood_1 8 rfl rfl)
theorem dX1_findGood_33 : decode cX1_findGood 33 = .ok (.getfield 316, 3) := dk_180 1 60 (dk_at dksX1_findGood_1 9 rfl rfl)
theorem dX1_findGood_36 : decode cX1_findGood 36 = .ok (.aload_n 0, 1) := dk_42 (dk_at dksX1_findGood_1 12 rfl rfl)
theorem dX1_findGood_37 : decode cX1_findGood 37 = .ok (.getfield 254, 3) := dk_180 0 254 (dk_at dksX1_findGood_1 13 rfl rfl)
theorem dX1_findGood_40 : decode cX1_findGood 40 = .ok (.iload_n 2, 1) := dk_28 (dk_at dksX1_findGood_1 16 rfl rfl)
theorem dX1_findGood_41 : decode cX1_findGood 41 = .ok (.iaload, 1) := dk_46 (dk_at dksX1_findGood_1 17 rfl rfl)
theorem dX1_findGood_42 : decode cX1_findGood 42 = .ok (.aload_n 0, 1) := dk_42 (dk_at dksX1_findGood_1 18 rfl rfl)
theorem dX1_findGood_43 : decode cX1_findGood 43 = .ok (.aload_n 0, 1) := dk_42 (dk_at dksX1_findGood_1 19 rfl rfl)
theorem dX1_findGood_44 : decode cX1_findGood 44 = .ok (.getfield 254, 3) := dk_180 0 254 (dk_at dksX1_findGood_1 20 rfl rfl)
theorem dX1_findGood_47 : decode cX1_findGood 47 = .ok (.iload_n 2, 1) := dk_28 (dk_at dksX1_findGood_1 23 rfl rfl)
theorem dX1_findGood_48 : decode cX1_findGood 48 = .ok (.iaload, 1) := dk_46 (dk_at dksX1_findGood_2 0 rfl rfl)
theorem dX1_findGood_49 : decode cX1_findGood 49 = .ok (.invokevirtual 286, 3) := dk_182 1 30 (dk_at dksX1_findGood_2 1 rfl rfl)
theorem dX1_findGood_52 : decode cX1_findGood 52 = .ok (.bastore, 1) := dk_84 (dk_at dksX1_findGood_2 4 rfl rfl)
theorem dX1_findGood_53 : decode cX1_findGood 53 = .ok (.iinc 2 1, 3) := dk_132 2 1 (dk_at dksX1_findGood_2 5 rfl rfl)
theorem dX1_findGood_56 : decode cX1_findGood 56 = .ok (.goto (-32), 3) := dk_167 255 224 (dk_at dksX1_findGood_2 8 rfl rfl)
theorem dX1_findGood_59 : decode cX1_findGood 59 = .ok (.iconst 1, 1) := dk_4 (dk_at dksX1_findGood_2 11 rfl rfl)
theorem dX1_findGood_60 : decode cX1_findGood 60 = .ok (.istore_n 2, 1) := dk_61 (dk_at dksX1_findGood_2 12 rfl rfl)
theorem dX1_findGood_61 : decode cX1_findGood 61 = .ok (.iload_n 2, 1) := dk_28 (dk_at dksX1_findGood_2 13 rfl rfl)
theorem dX1_findGood_62 : decode cX1_findGood 62 = .ok (.ifCond .eq 81, 3) := dk_153 0 81 (dk_at dksX1_findGood_2 14 rfl rfl)
theorem dX1_findGood_65 : decode cX1_findGood 65 = .ok (.iconst 0, 1) := dk_3 (dk_at dksX1_findGood_2 17 rfl rfl)
theorem dX1_findGood_66 : decode cX1_findGood 66 = .ok (.istore_n 2, 1) := dk_61 (dk_at dksX1_findGood_2 18 rfl rfl)
theorem dX1_findGood_67 : decode cX1_findGood 67 = .ok (.aload_n 0, 1) := dk_42 (dk_at dksX1_findGood_2 19 rfl rfl)
theorem dX1_findGood_68 : decode cX1_findGood 68 = .ok (.getfield 257, 3) := dk_180 1 1 (dk_at dksX1_findGood_2 20 rfl rfl)
theorem dX1_findGood_71 : decode cX1_findGood 71 = .ok (.iconst 1, 1) := dk_4 (dk_at dksX1_findGood_2 23 rfl rfl)
theorem dX1_findGood_72 : decode cX1_findGood 72 = .ok (.isub, 1) := dk_100 (dk_at dksX1_findGood_3 0 rfl rfl)
theorem dX1_findGood_73 : decode cX1_findGood 73 = .ok (.istore_n 3, 1) := dk_62 (dk_at dksX1_findGood_3 1 rfl rfl)
theorem dX1_findGood_74 : decode cX1_findGood 74 = .ok (.iload_n 3, 1) := dk_29 (dk_at dksX1_findGood_3 2 rfl rfl)
theorem dX1_findGood_75 : decode cX1_findGood 75 = .ok (.ifCond .lt 65, 3) := dk_155 0 65 (dk_at dksX1_findGood_3 3 rfl rfl)
theorem dX1_findGood_78 : decode cX1_findGood 78 = .ok (.aload_n 0, 1) := dk_42 (dk_at dksX1_findGood_3 6 rfl rfl)
theorem dX1_findGood_79 : decode cX1_findGood 79 = .ok (.getfield 254, 3) := dk_180 0 254 (dk_at dksX1_findGood_3 7 rfl rfl)
theorem dX1_findGood_82 : decode cX1_findGood 82 = .ok (.iload_n 3, 1) := dk_29 (dk_at dksX1_findGood_3 10 rfl rfl)
theorem dX1_findGood_83 : decode cX1_findGood 83 = .ok (.iaload, 1) := dk_46 (dk_at dksX1_findGood_3 11 rfl rfl)
theorem dX1_findGood_84 : decode cX1_findGood 84 = .ok (.istore 4, 2) := dk_54 4 (dk_at dksX1_findGood_3 12 rfl rfl)
theorem dX1_findGood_86 : decode cX1_findGood 86 = .ok (.aload_n 0, 1) := dk_42 (dk_at dksX1_findGood_3 14 rfl rfl)
theorem dX1_findGood_87 : decode cX1_findGood 87 = .ok (.getfield 316, 3) := dk_180 1 60 (dk_at dksX1_findGood_3 15 rfl rfl)
theorem dX1_findGood_90 : decode cX1_findGood 90 = .ok (.iload 4, 2) := dk_21 4 (dk_at dksX1_findGood_3 18 rfl rfl)
theorem dX1_findGood_92 : decode cX1_findGood 92 = .ok (.baload, 1) := dk_51 (dk_at dksX1_findGood_3 20 rfl rfl)
theorem dX1_findGood_93 : decode cX1_findGood 93 = .ok (.ifCond .ne 41, 3) := dk_154 0 41 (dk_at dksX1_findGood_3 21 rfl rfl)
theorem dX1_findGood_96 : decode cX1_findGood 96 = .ok (.iload_n 1, 1) := dk_27 (dk_at dksX1_findGood_4 0 rfl rfl)
theorem dX1_findGood_97 : decode cX1_findGood 97 = .ok (.iconst (-1), 1) := dk_2 (dk_at dksX1_findGood_4 1 rfl rfl)
theorem dX1_findGood_98 : decode cX1_findGood 98 = .ok (.if_icmp .eq 13, 3) := dk_159 0 13 (dk_at dksX1_findGood_4 2 rfl rfl)
theorem dX1_findGood_101 : decode cX1_findGood 101 = .ok (.aload_n 0, 1) := dk_42 (dk_at dksX1_findGood_4 5 rfl rfl)
theorem dX1_findGood_102 : decode cX1_findGood 102 = .ok (.iload 4, 2) := dk_21 4 (dk_at dksX1_findGood_4 6 rfl rfl)
theorem dX1_findGood_104 : decode cX1_findGood 104 = .ok (.iload_n 1, 1) := dk_27 (dk_at dksX1_findGood_4 8 rfl rfl)
theorem dX1_findGood_105 : decode cX1_findGood 105 = .ok (.invokevirtual 319, 3) := dk_182 1 63 (dk_at dksX1_findGood_4 9 rfl rfl)
theorem dX1_findGood_108 : decode cX1_findGood 108 = .ok (.ifCond .eq 26, 3) := dk_153 0 26 (dk_at dksX1_findGood_4 12 rfl rfl)
theorem dX1_findGood_111 : decode cX1_findGood 111 = .ok (.aload_n 0, 1) := dk_42 (dk_at dksX1_findGood_4 15 rfl rfl)
theorem dX1_findGood_112 : decode cX1_findGood 112 = .ok (.iload 4, 2) := dk_21 4 (dk_at dksX1_findGood_4 16 rfl rfl)
theorem dX1_findGood_114 : decode cX1_findGood 114 = .ok (.iload_n 1, 1) := dk_27 (dk_at dksX1_findGood_4 18 rfl rfl)
theorem dX1_findGood_115 : decode cX1_findGood 115 = .ok (.invokevirtual 322, 3) := dk_182 1 66 (dk_at dksX1_findGood_4 19 rfl rfl)
theorem dX1_findGood_118 : decode cX1_findGood 118 = .ok (.ifCond .ne 6, 3) := dk_154 0 6 (dk_at dksX1_findGood_5 0 rfl rfl)
theorem dX1_findGood_121 : decode cX1_findGood 121 = .ok (.goto 13, 3) := dk_167 0 13 (dk_at dksX1_findGood_5 3 rfl rfl)
theorem dX1_findGood_124 : decode cX1_findGood 124 = .ok (.aload_n 0, 1) := dk_42 (dk_at dksX1_findGood_5 6 rfl rfl)
theorem dX1_findGood_125 : decode cX1_findGood 125 = .ok (.getfield 316, 3) := dk_180 1 60 (dk_at dksX1_findGood_5 7 rfl rfl)
theorem dX1_findGood_128 : decode cX1_findGood 128 = .ok (.iload 4, 2) := dk_21 4 (dk_at dksX1_findGood_5 10 rfl rfl)
theorem dX1_findGood_130 : decode cX1_findGood 130 = .ok (.iconst 1, 1) := dk_4 (dk_at dksX1_findGood_5 12 rfl rfl)
theorem dX1_findGood_131 : decode cX1_findGood 131 = .ok (.bastore, 1) := dk_84 (dk_at dksX1_findGood_5 13 rfl rfl)
theorem dX1_findGood_132 : decode cX1_findGood 132 = .ok (.iconst 1, 1) := dk_4 (dk_at dksX1_findGood_5 14 rfl rfl)
theorem dX1_findGood_133 : decode cX1_findGood 133 = .ok (.istore_n 2, 1) := dk_61 (dk_at dksX1_findGood_5 15 rfl rfl)
theorem dX1_findGood_134 : decode cX1_findGood 134 = .ok (.iinc 3 (-1), 3) := dk_132 3 255 (dk_at dksX1_findGood_5 16 rfl rfl)
theorem dX1_findGood_137 : decode cX1_findGood 137 = .ok (.goto (-63), 3) := dk_167 255 193 (dk_at dksX1_findGood_5 19 rfl rfl)
theorem dX1_findGood_140 : decode cX1_findGood 140 = .ok (.goto (-79), 3) := dk_167 255 177 (dk_at dksX1_findGood_6 0 rfl rfl)
theorem dX1_findGood_143 : decode cX1_findGood 143 = .ok (.return_, 1) := dk_177 (dk_at dksX1_findGood_6 3 rfl rfl)
abbrev cX1_isAlone : ByteArray := prog_1_method_46_code
def yX1_isAlone : MethodName := ⟨RX1, "isAlone", "(II)Z"⟩
def dkwX1_isAlone_2 : List UInt8 := [28, 160, 0, 7, 4, 167, 0, 4, 3, 160, 0, 5, 3, 172, 132, 3, 1, 167, 255, 203, 4, 172]
abbrev dktX1_isAlone_2 : List UInt8 := dkwX1_isAlone_2 ++ []
def dkwX1_isAlone_1 : List UInt8 := [180, 1, 16, 180, 0, 72, 29, 46, 42, 180, 0, 1, 182, 0, 178, 160, 0, 7, 4, 167, 0, 4, 3, 29]
abbrev dktX1_isAlone_1 : List UInt8 := dkwX1_isAlone_1 ++ dktX1_isAlone_2
def dkwX1_isAlone_0 : List UInt8 := [42, 180, 1, 16, 27, 182, 1, 19, 3, 62, 29, 42, 180, 0, 1, 180, 0, 7, 162, 0, 48, 42]
abbrev dktX1_isAlone_0 : List UInt8 := dkwX1_isAlone_0 ++ dktX1_isAlone_1
theorem dksX1_isAlone_0 : cX1_isAlone.data.toList.drop 0 = dktX1_isAlone_0 := by decide +kernel
theorem dksX1_isAlone_1 : cX1_isAlone.data.toList.drop 22 = dktX1_isAlone_1 := dk_seg dksX1_isAlone_0 22 rfl rfl
theorem dksX1_isAlone_2 : cX1_isAlone.data.toList.drop 46 = dktX1_isAlone_2 := dk_seg dksX1_isAlone_1 24 rfl rfl
theorem dX1_isAlone_0 : decode cX1_isAlone 0 = .ok (.aload_n 0, 1) := dk_42 (dk_at dksX1_isAlone_0 0 rfl rfl)
theorem dX1_isAlone_1 : decode cX1_isAlone 1 = .ok (.getfield 272, 3) := dk_180 1 16 (dk_at dksX1_isAlone_0 1 rfl rfl)
theorem dX1_isAlone_4 : decode cX1_isAlone 4 = .ok (.iload_n 1, 1) := dk_27 (dk_at dksX1_isAlone_0 4 rfl rfl)
theorem dX1_isAlone_5 : decode cX1_isAlone 5 = .ok (.invokevirtual 275, 3) := dk_182 1 19 (dk_at dksX1_isAlone_0 5 rfl rfl)
theorem dX1_isAlone_8 : decode cX1_isAlone 8 = .ok (.iconst 0, 1) := dk_3 (dk_at dksX1_isAlone_0 8 rfl rfl)
theorem dX1_isAlone_9 : decode cX1_isAlone 9 = .ok (.istore_n 3, 1) := dk_62 (dk_at dksX1_isAlone_0 9 rfl rfl)
theorem dX1_isAlone_10 : decode cX1_isAlone 10 = .ok (.iload_n 3, 1) := dk_29 (dk_at dksX1_isAlone_0 10 rfl rfl)
theorem dX1_isAlone_11 : decode cX1_isAlone 11 = .ok (.aload_n 0, 1) := dk_42 (dk_at dksX1_isAlone_0 11 rfl rfl)
theorem dX1_isAlone_12 : decode cX1_isAlone 12 = .ok (.getfield 1, 3) := dk_180 0 1 (dk_at dksX1_isAlone_0 12 rfl rfl)
theorem dX1_isAlone_15 : decode cX1_isAlone 15 = .ok (.getfield 7, 3) := dk_180 0 7 (dk_at dksX1_isAlone_0 15 rfl rfl)
theorem dX1_isAlone_18 : decode cX1_isAlone 18 = .ok (.if_icmp .ge 48, 3) := dk_162 0 48 (dk_at dksX1_isAlone_0 18 rfl rfl)
theorem dX1_isAlone_21 : decode cX1_isAlone 21 = .ok (.aload_n 0, 1) := dk_42 (dk_at dksX1_isAlone_0 21 rfl rfl)
theorem dX1_isAlone_22 : decode cX1_isAlone 22 = .ok (.getfield 272, 3) := dk_180 1 16 (dk_at dksX1_isAlone_1 0 rfl rfl)
theorem dX1_isAlone_25 : decode cX1_isAlone 25 = .ok (.getfield 72, 3) := dk_180 0 72 (dk_at dksX1_isAlone_1 3 rfl rfl)
theorem dX1_isAlone_28 : decode cX1_isAlone 28 = .ok (.iload_n 3, 1) := dk_29 (dk_at dksX1_isAlone_1 6 rfl rfl)
theorem dX1_isAlone_29 : decode cX1_isAlone 29 = .ok (.iaload, 1) := dk_46 (dk_at dksX1_isAlone_1 7 rfl rfl)
theorem dX1_isAlone_30 : decode cX1_isAlone 30 = .ok (.aload_n 0, 1) := dk_42 (dk_at dksX1_isAlone_1 8 rfl rfl)
theorem dX1_isAlone_31 : decode cX1_isAlone 31 = .ok (.getfield 1, 3) := dk_180 0 1 (dk_at dksX1_isAlone_1 9 rfl rfl)
theorem dX1_isAlone_34 : decode cX1_isAlone 34 = .ok (.invokevirtual 178, 3) := dk_182 0 178 (dk_at dksX1_isAlone_1 12 rfl rfl)
theorem dX1_isAlone_37 : decode cX1_isAlone 37 = .ok (.if_icmp .ne 7, 3) := dk_160 0 7 (dk_at dksX1_isAlone_1 15 rfl rfl)
theorem dX1_isAlone_40 : decode cX1_isAlone 40 = .ok (.iconst 1, 1) := dk_4 (dk_at dksX1_isAlone_1 18 rfl rfl)
theorem dX1_isAlone_41 : decode cX1_isAlone 41 = .ok (.goto 4, 3) := dk_167 0 4 (dk_at dksX1_isAlone_1 19 rfl rfl)
theorem dX1_isAlone_44 : decode cX1_isAlone 44 = .ok (.iconst 0, 1) := dk_3 (dk_at dksX1_isAlone_1 22 rfl rfl)
theorem dX1_isAlone_45 : decode cX1_isAlone 45 = .ok (.iload_n 3, 1) := dk_29 (dk_at dksX1_isAlone_1 23 rfl rfl)
theorem dX1_isAlone_46 : decode cX1_isAlone 46 = .ok (.iload_n 2, 1) := dk_28 (dk_at dksX1_isAlone_2 0 rfl rfl)
theorem dX1_isAlone_47 : decode cX1_isAlone 47 = .ok (.if_icmp .ne 7, 3) := dk_160 0 7 (dk_at dksX1_isAlone_2 1 rfl rfl)
theorem dX1_isAlone_50 : decode cX1_isAlone 50 = .ok (.iconst 1, 1) := dk_4 (dk_at dksX1_isAlone_2 4 rfl rfl)
theorem dX1_isAlone_51 : decode cX1_isAlone 51 = .ok (.goto 4, 3) := dk_167 0 4 (dk_at dksX1_isAlone_2 5 rfl rfl)
theorem dX1_isAlone_54 : decode cX1_isAlone 54 = .ok (.iconst 0, 1) := dk_3 (dk_at dksX1_isAlone_2 8 rfl rfl)
theorem dX1_isAlone_55 : decode cX1_isAlone 55 = .ok (.if_icmp .ne 5, 3) := dk_160 0 5 (dk_at dksX1_isAlone_2 9 rfl rfl)
theorem dX1_isAlone_58 : decode cX1_isAlone 58 = .ok (.iconst 0, 1) := dk_3 (dk_at dksX1_isAlone_2 12 rfl rfl)
theorem dX1_isAlone_59 : decode cX1_isAlone 59 = .ok (.ireturn, 1) := dk_172 (dk_at dksX1_isAlone_2 13 rfl rfl)
theorem dX1_isAlone_60 : decode cX1_isAlone 60 = .ok (.iinc 3 1, 3) := dk_132 3 1 (dk_at dksX1_isAlone_2 14 rfl rfl)
theorem dX1_isAlone_63 : decode cX1_isAlone 63 = .ok (.goto (-53), 3) := dk_167 255 203 (dk_at dksX1_isAlone_2 17 rfl rfl)
theorem dX1_isAlone_66 : decode cX1_isAlone 66 = .ok (.iconst 1, 1) := dk_4 (dk_at dksX1_isAlone_2 20 rfl rfl)
theorem dX1_isAlone_67 : decode cX1_isAlone 67 = .ok (.ireturn, 1) := dk_172 (dk_at dksX1_isAlone_2 21 rfl rfl)
abbrev cX1_leadsOn : ByteArray := prog_1_method_44_code
def yX1_leadsOn : MethodName := ⟨RX1, "leadsOn", "(II)Z"⟩
def dkwX1_leadsOn_4 : List UInt8 := [3, 172]
abbrev dktX1_leadsOn_4 : List UInt8 := dkwX1_leadsOn_4 ++ []
def dkwX1_leadsOn_3 : List UInt8 := [180, 1, 16, 42, 180, 0, 213, 29, 46, 182, 1, 23, 51, 153, 0, 5, 4, 172, 132, 3, 1, 167, 255, 185]
abbrev dktX1_leadsOn_3 : List UInt8 := dkwX1_leadsOn_3 ++ dktX1_leadsOn_4
def dkwX1_leadsOn_2 : List UInt8 := [21, 4, 153, 0, 14, 21, 4, 4, 28, 120, 159, 0, 6, 167, 0, 27, 42, 180, 1, 60, 42, 42]
abbrev dktX1_leadsOn_2 : List UInt8 := dkwX1_leadsOn_2 ++ dktX1_leadsOn_3
def dkwX1_leadsOn_1 : List UInt8 := [162, 0, 69, 42, 180, 0, 213, 29, 46, 17, 3, 232, 108, 16, 10, 112, 54, 4, 28, 2, 159, 0, 19]
abbrev dktX1_leadsOn_1 : List UInt8 := dkwX1_leadsOn_1 ++ dktX1_leadsOn_2
def dkwX1_leadsOn_0 : List UInt8 := [42, 180, 1, 16, 27, 182, 1, 19, 42, 42, 180, 1, 16, 182, 0, 232, 3, 62, 29, 42, 180, 0, 216]
abbrev dktX1_leadsOn_0 : List UInt8 := dkwX1_leadsOn_0 ++ dktX1_leadsOn_1
theorem dksX1_leadsOn_0 : cX1_leadsOn.data.toList.drop 0 = dktX1_leadsOn_0 := by decide +kernel
theorem dksX1_leadsOn_1 : cX1_leadsOn.data.toList.drop 23 = dktX1_leadsOn_1 := dk_seg dksX1_leadsOn_0 23 rfl rfl
theorem dksX1_leadsOn_2 : cX1_leadsOn.data.toList.drop 46 = dktX1_leadsOn_2 := dk_seg dksX1_leadsOn_1 23 rfl rfl
theorem dksX1_leadsOn_3 : cX1_leadsOn.data.toList.drop 68 = dktX1_leadsOn_3 := dk_seg dksX1_leadsOn_2 22 rfl rfl
theorem dksX1_leadsOn_4 : cX1_leadsOn.data.toList.drop 92 = dktX1_leadsOn_4 := dk_seg dksX1_leadsOn_3 24 rfl rfl
theorem dX1_leadsOn_0 : decode cX1_leadsOn 0 = .ok (.aload_n 0, 1) := dk_42 (dk_at dksX1_leadsOn_0 0 rfl rfl)
theorem dX1_leadsOn_1 : decode cX1_leadsOn 1 = .ok (.getfield 272, 3) := dk_180 1 16 (dk_at dksX1_leadsOn_0 1 rfl rfl)
theorem dX1_leadsOn_4 : decode cX1_leadsOn 4 = .ok (.iload_n 1, 1) := dk_27 (dk_at dksX1_leadsOn_0 4 rfl rfl)
theorem dX1_leadsOn_5 : decode cX1_leadsOn 5 = .ok (.invokevirtual 275, 3) := dk_182 1 19 (dk_at dksX1_leadsOn_0 5 rfl rfl)
theorem dX1_leadsOn_8 : decode cX1_leadsOn 8 = .ok (.aload_n 0, 1) := dk_42 (dk_at dksX1_leadsOn_0 8 rfl rfl)
theorem dX1_leadsOn_9 : decode cX1_leadsOn 9 = .ok (.aload_n 0, 1) := dk_42 (dk_at dksX1_leadsOn_0 9 rfl rfl)
theorem dX1_leadsOn_10 : decode cX1_leadsOn 10 = .ok (.getfield 272, 3) := dk_180 1 16 (dk_at dksX1_leadsOn_0 10 rfl rfl)
theorem dX1_leadsOn_13 : decode cX1_leadsOn 13 = .ok (.invokevirtual 232, 3) := dk_182 0 232 (dk_at dksX1_leadsOn_0 13 rfl rfl)
theorem dX1_leadsOn_16 : decode cX1_leadsOn 16 = .ok (.iconst 0, 1) := dk_3 (dk_at dksX1_leadsOn_0 16 rfl rfl)
theorem dX1_leadsOn_17 : decode cX1_leadsOn 17 = .ok (.istore_n 3, 1) := dk_62 (dk_at dksX1_leadsOn_0 17 rfl rfl)
theorem dX1_leadsOn_18 : decode cX1_leadsOn 18 = .ok (.iload_n 3, 1) := dk_29 (dk_at dksX1_leadsOn_0 18 rfl rfl)
theorem dX1_leadsOn_19 : decode cX1_leadsOn 19 = .ok (.aload_n 0, 1) := dk_42 (dk_at dksX1_leadsOn_0 19 rfl rfl)
theorem dX1_leadsOn_20 : decode cX1_leadsOn 20 = .ok (.getfield 216, 3) := dk_180 0 216 (dk_at dksX1_leadsOn_0 20 rfl rfl)
theorem dX1_leadsOn_23 : decode cX1_leadsOn 23 = .ok (.if_icmp .ge 69, 3) := dk_162 0 69 (dk_at dksX1_leadsOn_1 0 rfl rfl)
theorem dX1_leadsOn_26 : decode cX1_leadsOn 26 = .ok (.aload_n 0, 1) := dk_42 (dk_at dksX1_leadsOn_1 3 rfl rfl)
theorem dX1_leadsOn_27 : decode cX1_leadsOn 27 = .ok (.getfield 213, 3) := dk_180 0 213 (dk_at dksX1_leadsOn_1 4 rfl rfl)
theorem dX1_leadsOn_30 : decode cX1_leadsOn 30 = .ok (.iload_n 3, 1) := dk_29 (dk_at dksX1_leadsOn_1 7 rfl rfl)
theorem dX1_leadsOn_31 : decode cX1_leadsOn 31 = .ok (.iaload, 1) := dk_46 (dk_at dksX1_leadsOn_1 8 rfl rfl)
theorem dX1_leadsOn_32 : decode cX1_leadsOn 32 = .ok (.sipush 1000, 3) := dk_17 3 232 (dk_at dksX1_leadsOn_1 9 rfl rfl)
theorem dX1_leadsOn_35 : decode cX1_leadsOn 35 = .ok (.idiv, 1) := dk_108 (dk_at dksX1_leadsOn_1 12 rfl rfl)
theorem dX1_leadsOn_36 : decode cX1_leadsOn 36 = .ok (.bipush 10, 2) := dk_16 10 (dk_at dksX1_leadsOn_1 13 rfl rfl)
theorem dX1_leadsOn_38 : decode cX1_leadsOn 38 = .ok (.irem, 1) := dk_112 (dk_at dksX1_leadsOn_1 15 rfl rfl)
theorem dX1_leadsOn_39 : decode cX1_leadsOn 39 = .ok (.istore 4, 2) := dk_54 4 (dk_at dksX1_leadsOn_1 16 rfl rfl)
theorem dX1_leadsOn_41 : decode cX1_leadsOn 41 = .ok (.iload_n 2, 1) := dk_28 (dk_at dksX1_leadsOn_1 18 rfl rfl)
theorem dX1_leadsOn_42 : decode cX1_leadsOn 42 = .ok (.iconst (-1), 1) := dk_2 (dk_at dksX1_leadsOn_1 19 rfl rfl)
theorem dX1_leadsOn_43 : decode cX1_leadsOn 43 = .ok (.if_icmp .eq 19, 3) := dk_159 0 19 (dk_at dksX1_leadsOn_1 20 rfl rfl)
theorem dX1_leadsOn_46 : decode cX1_leadsOn 46 = .ok (.iload 4, 2) := dk_21 4 (dk_at dksX1_leadsOn_2 0 rfl rfl)
theorem dX1_leadsOn_48 : decode cX1_leadsOn 48 = .ok (.ifCond .eq 14, 3) := dk_153 0 14 (dk_at dksX1_leadsOn_2 2 rfl rfl)
theorem dX1_leadsOn_51 : decode cX1_leadsOn 51 = .ok (.iload 4, 2) := dk_21 4 (dk_at dksX1_leadsOn_2 5 rfl rfl)
theorem dX1_leadsOn_53 : decode cX1_leadsOn 53 = .ok (.iconst 1, 1) := dk_4 (dk_at dksX1_leadsOn_2 7 rfl rfl)
theorem dX1_leadsOn_54 : decode cX1_leadsOn 54 = .ok (.iload_n 2, 1) := dk_28 (dk_at dksX1_leadsOn_2 8 rfl rfl)
theorem dX1_leadsOn_55 : decode cX1_leadsOn 55 = .ok (.ishl, 1) := dk_120 (dk_at dksX1_leadsOn_2 9 rfl rfl)
theorem dX1_leadsOn_56 : decode cX1_leadsOn 56 = .ok (.if_icmp .eq 6, 3) := dk_159 0 6 (dk_at dksX1_leadsOn_2 10 rfl rfl)
theorem dX1_leadsOn_59 : decode cX1_leadsOn 59 = .ok (.goto 27, 3) := dk_167 0 27 (dk_at dksX1_leadsOn_2 13 rfl rfl)
theorem dX1_leadsOn_62 : decode cX1_leadsOn 62 = .ok (.aload_n 0, 1) := dk_42 (dk_at dksX1_leadsOn_2 16 rfl rfl)
theorem dX1_leadsOn_63 : decode cX1_leadsOn 63 = .ok (.getfield 316, 3) := dk_180 1 60 (dk_at dksX1_leadsOn_2 17 rfl rfl)
theorem dX1_leadsOn_66 : decode cX1_leadsOn 66 = .ok (.aload_n 0, 1) := dk_42 (dk_at dksX1_leadsOn_2 20 rfl rfl)
theorem dX1_leadsOn_67 : decode cX1_leadsOn 67 = .ok (.aload_n 0, 1) := dk_42 (dk_at dksX1_leadsOn_2 21 rfl rfl)
theorem dX1_leadsOn_68 : decode cX1_leadsOn 68 = .ok (.getfield 272, 3) := dk_180 1 16 (dk_at dksX1_leadsOn_3 0 rfl rfl)
theorem dX1_leadsOn_71 : decode cX1_leadsOn 71 = .ok (.aload_n 0, 1) := dk_42 (dk_at dksX1_leadsOn_3 3 rfl rfl)
theorem dX1_leadsOn_72 : decode cX1_leadsOn 72 = .ok (.getfield 213, 3) := dk_180 0 213 (dk_at dksX1_leadsOn_3 4 rfl rfl)
theorem dX1_leadsOn_75 : decode cX1_leadsOn 75 = .ok (.iload_n 3, 1) := dk_29 (dk_at dksX1_leadsOn_3 7 rfl rfl)
theorem dX1_leadsOn_76 : decode cX1_leadsOn 76 = .ok (.iaload, 1) := dk_46 (dk_at dksX1_leadsOn_3 8 rfl rfl)
theorem dX1_leadsOn_77 : decode cX1_leadsOn 77 = .ok (.invokevirtual 279, 3) := dk_182 1 23 (dk_at dksX1_leadsOn_3 9 rfl rfl)
theorem dX1_leadsOn_80 : decode cX1_leadsOn 80 = .ok (.baload, 1) := dk_51 (dk_at dksX1_leadsOn_3 12 rfl rfl)
theorem dX1_leadsOn_81 : decode cX1_leadsOn 81 = .ok (.ifCond .eq 5, 3) := dk_153 0 5 (dk_at dksX1_leadsOn_3 13 rfl rfl)
theorem dX1_leadsOn_84 : decode cX1_leadsOn 84 = .ok (.iconst 1, 1) := dk_4 (dk_at dksX1_leadsOn_3 16 rfl rfl)
theorem dX1_leadsOn_85 : decode cX1_leadsOn 85 = .ok (.ireturn, 1) := dk_172 (dk_at dksX1_leadsOn_3 17 rfl rfl)
theorem dX1_leadsOn_86 : decode cX1_leadsOn 86 = .ok (.iinc 3 1, 3) := dk_132 3 1 (dk_at dksX1_leadsOn_3 18 rfl rfl)
theorem dX1_leadsOn_89 : decode cX1_leadsOn 89 = .ok (.goto (-71), 3) := dk_167 255 185 (dk_at dksX1_leadsOn_3 21 rfl rfl)
theorem dX1_leadsOn_92 : decode cX1_leadsOn 92 = .ok (.iconst 0, 1) := dk_3 (dk_at dksX1_leadsOn_4 0 rfl rfl)
theorem dX1_leadsOn_93 : decode cX1_leadsOn 93 = .ok (.ireturn, 1) := dk_172 (dk_at dksX1_leadsOn_4 1 rfl rfl)
abbrev cX1_traps : ByteArray := prog_1_method_48_code
def yX1_traps : MethodName := ⟨RX1, "traps", "()I"⟩
def dkwX1_traps_2 : List UInt8 := [167, 255, 223, 27, 172]
abbrev dktX1_traps_2 : List UInt8 := dkwX1_traps_2 ++ []
def dkwX1_traps_1 : List UInt8 := [180, 1, 60, 42, 180, 0, 254, 28, 46, 51, 153, 0, 7, 3, 167, 0, 4, 4, 96, 60, 132, 2, 1]
abbrev dktX1_traps_1 : List UInt8 := dkwX1_traps_1 ++ dktX1_traps_2
def dkwX1_traps_0 : List UInt8 := [42, 182, 1, 37, 42, 2, 182, 1, 69, 3, 60, 3, 61, 28, 42, 180, 1, 1, 162, 0, 31, 27, 42]
abbrev dktX1_traps_0 : List UInt8 := dkwX1_traps_0 ++ dktX1_traps_1
theorem dksX1_traps_0 : cX1_traps.data.toList.drop 0 = dktX1_traps_0 := by decide +kernel
theorem dksX1_traps_1 : cX1_traps.data.toList.drop 23 = dktX1_traps_1 := dk_seg dksX1_traps_0 23 rfl rfl
theorem dksX1_traps_2 : cX1_traps.data.toList.drop 46 = dktX1_traps_2 := dk_seg dksX1_traps_1 23 rfl rfl
theorem dX1_traps_0 : decode cX1_traps 0 = .ok (.aload_n 0, 1) := dk_42 (dk_at dksX1_traps_0 0 rfl rfl)
theorem dX1_traps_1 : decode cX1_traps 1 = .ok (.invokevirtual 293, 3) := dk_182 1 37 (dk_at dksX1_traps_0 1 rfl rfl)
theorem dX1_traps_4 : decode cX1_traps 4 = .ok (.aload_n 0, 1) := dk_42 (dk_at dksX1_traps_0 4 rfl rfl)
theorem dX1_traps_5 : decode cX1_traps 5 = .ok (.iconst (-1), 1) := dk_2 (dk_at dksX1_traps_0 5 rfl rfl)
theorem dX1_traps_6 : decode cX1_traps 6 = .ok (.invokevirtual 325, 3) := dk_182 1 69 (dk_at dksX1_traps_0 6 rfl rfl)
theorem dX1_traps_9 : decode cX1_traps 9 = .ok (.iconst 0, 1) := dk_3 (dk_at dksX1_traps_0 9 rfl rfl)
theorem dX1_traps_10 : decode cX1_traps 10 = .ok (.istore_n 1, 1) := dk_60 (dk_at dksX1_traps_0 10 rfl rfl)
theorem dX1_traps_11 : decode cX1_traps 11 = .ok (.iconst 0, 1) := dk_3 (dk_at dksX1_traps_0 11 rfl rfl)
theorem dX1_traps_12 : decode cX1_traps 12 = .ok (.istore_n 2, 1) := dk_61 (dk_at dksX1_traps_0 12 rfl rfl)
theorem dX1_traps_13 : decode cX1_traps 13 = .ok (.iload_n 2, 1) := dk_28 (dk_at dksX1_traps_0 13 rfl rfl)
theorem dX1_traps_14 : decode cX1_traps 14 = .ok (.aload_n 0, 1) := dk_42 (dk_at dksX1_traps_0 14 rfl rfl)
theorem dX1_traps_15 : decode cX1_traps 15 = .ok (.getfield 257, 3) := dk_180 1 1 (dk_at dksX1_traps_0 15 rfl rfl)
theorem dX1_traps_18 : decode cX1_traps 18 = .ok (.if_icmp .ge 31, 3) := dk_162 0 31 (dk_at dksX1_traps_0 18 rfl rfl)
theorem dX1_traps_21 : decode cX1_traps 21 = .ok (.iload_n 1, 1) := dk_27 (dk_at dksX1_traps_0 21 rfl rfl)
theorem dX1_traps_22 : decode cX1_traps 22 = .ok (.aload_n 0, 1) := dk_42 (dk_at dksX1_traps_0 22 rfl rfl)
theorem dX1_traps_23 : decode cX1_traps 23 = .ok (.getfield 316, 3) := dk_180 1 60 (dk_at dksX1_traps_1 0 rfl rfl)
theorem dX1_traps_26 : decode cX1_traps 26 = .ok (.aload_n 0, 1) := dk_42 (dk_at dksX1_traps_1 3 rfl rfl)
theorem dX1_traps_27 : decode cX1_traps 27 = .ok (.getfield 254, 3) := dk_180 0 254 (dk_at dksX1_traps_1 4 rfl rfl)
theorem dX1_traps_30 : decode cX1_traps 30 = .ok (.iload_n 2, 1) := dk_28 (dk_at dksX1_traps_1 7 rfl rfl)
theorem dX1_traps_31 : decode cX1_traps 31 = .ok (.iaload, 1) := dk_46 (dk_at dksX1_traps_1 8 rfl rfl)
theorem dX1_traps_32 : decode cX1_traps 32 = .ok (.baload, 1) := dk_51 (dk_at dksX1_traps_1 9 rfl rfl)
theorem dX1_traps_33 : decode cX1_traps 33 = .ok (.ifCond .eq 7, 3) := dk_153 0 7 (dk_at dksX1_traps_1 10 rfl rfl)
theorem dX1_traps_36 : decode cX1_traps 36 = .ok (.iconst 0, 1) := dk_3 (dk_at dksX1_traps_1 13 rfl rfl)
theorem dX1_traps_37 : decode cX1_traps 37 = .ok (.goto 4, 3) := dk_167 0 4 (dk_at dksX1_traps_1 14 rfl rfl)
theorem dX1_traps_40 : decode cX1_traps 40 = .ok (.iconst 1, 1) := dk_4 (dk_at dksX1_traps_1 17 rfl rfl)
theorem dX1_traps_41 : decode cX1_traps 41 = .ok (.iadd, 1) := dk_96 (dk_at dksX1_traps_1 18 rfl rfl)
theorem dX1_traps_42 : decode cX1_traps 42 = .ok (.istore_n 1, 1) := dk_60 (dk_at dksX1_traps_1 19 rfl rfl)
theorem dX1_traps_43 : decode cX1_traps 43 = .ok (.iinc 2 1, 3) := dk_132 2 1 (dk_at dksX1_traps_1 20 rfl rfl)
theorem dX1_traps_46 : decode cX1_traps 46 = .ok (.goto (-33), 3) := dk_167 255 223 (dk_at dksX1_traps_2 0 rfl rfl)
theorem dX1_traps_49 : decode cX1_traps 49 = .ok (.iload_n 1, 1) := dk_27 (dk_at dksX1_traps_2 3 rfl rfl)
theorem dX1_traps_50 : decode cX1_traps 50 = .ok (.ireturn, 1) := dk_172 (dk_at dksX1_traps_2 4 rfl rfl)
abbrev cX1_lost : ByteArray := prog_1_method_49_code
def yX1_lost : MethodName := ⟨RX1, "lost", "(I)I"⟩
def dkwX1_lost_6 : List UInt8 := [16, 252, 172]
abbrev dktX1_lost_6 : List UInt8 := dkwX1_lost_6 ++ []
def dkwX1_lost_5 : List UInt8 := [21, 4, 153, 0, 11, 21, 6, 154, 0, 6, 21, 5, 172, 21, 6, 54, 4, 132, 5, 1, 167, 255, 200]
abbrev dktX1_lost_5 : List UInt8 := dkwX1_lost_5 ++ dktX1_lost_6
def dkwX1_lost_4 : List UInt8 := [182, 0, 203, 42, 180, 0, 239, 182, 0, 209, 42, 180, 1, 60, 42, 180, 0, 239, 182, 1, 10, 51, 54, 6]
abbrev dktX1_lost_4 : List UInt8 := dkwX1_lost_4 ++ dktX1_lost_5
def dkwX1_lost_3 : List UInt8 := [180, 0, 239, 182, 1, 10, 51, 54, 4, 3, 54, 5, 21, 5, 45, 190, 162, 0, 55, 42, 45, 21, 5, 46]
abbrev dktX1_lost_3 : List UInt8 := dkwX1_lost_3 ++ dktX1_lost_4
def dkwX1_lost_2 : List UInt8 := [182, 1, 69, 42, 180, 0, 239, 42, 180, 0, 1, 180, 0, 68, 182, 0, 240, 42, 180, 1, 60, 42]
abbrev dktX1_lost_2 : List UInt8 := dkwX1_lost_2 ++ dktX1_lost_3
def dkwX1_lost_1 : List UInt8 := [192, 0, 245, 78, 42, 45, 182, 0, 246, 16, 252, 159, 0, 6, 16, 253, 172, 42, 182, 1, 37, 42, 2]
abbrev dktX1_lost_1 : List UInt8 := dkwX1_lost_1 ++ dktX1_lost_2
def dkwX1_lost_0 : List UInt8 := [42, 27, 5, 182, 0, 136, 61, 28, 153, 0, 5, 28, 172, 42, 180, 0, 122, 27, 50, 180, 0, 126]
abbrev dktX1_lost_0 : List UInt8 := dkwX1_lost_0 ++ dktX1_lost_1
theorem dksX1_lost_0 : cX1_lost.data.toList.drop 0 = dktX1_lost_0 := by decide +kernel
theorem dksX1_lost_1 : cX1_lost.data.toList.drop 22 = dktX1_lost_1 := dk_seg dksX1_lost_0 22 rfl rfl
theorem dksX1_lost_2 : cX1_lost.data.toList.drop 45 = dktX1_lost_2 := dk_seg dksX1_lost_1 23 rfl rfl
theorem dksX1_lost_3 : cX1_lost.data.toList.drop 67 = dktX1_lost_3 := dk_seg dksX1_lost_2 22 rfl rfl
theorem dksX1_lost_4 : cX1_lost.data.toList.drop 91 = dktX1_lost_4 := dk_seg dksX1_lost_3 24 rfl rfl
theorem dksX1_lost_5 : cX1_lost.data.toList.drop 115 = dktX1_lost_5 := dk_seg dksX1_lost_4 24 rfl rfl
theorem dksX1_lost_6 : cX1_lost.data.toList.drop 138 = dktX1_lost_6 := dk_seg dksX1_lost_5 23 rfl rfl
theorem dX1_lost_0 : decode cX1_lost 0 = .ok (.aload_n 0, 1) := dk_42 (dk_at dksX1_lost_0 0 rfl rfl)
theorem dX1_lost_1 : decode cX1_lost 1 = .ok (.iload_n 1, 1) := dk_27 (dk_at dksX1_lost_0 1 rfl rfl)
theorem dX1_lost_2 : decode cX1_lost 2 = .ok (.iconst 2, 1) := dk_5 (dk_at dksX1_lost_0 2 rfl rfl)
theorem dX1_lost_3 : decode cX1_lost 3 = .ok (.invokevirtual 136, 3) := dk_182 0 136 (dk_at dksX1_lost_0 3 rfl rfl)
theorem dX1_lost_6 : decode cX1_lost 6 = .ok (.istore_n 2, 1) := dk_61 (dk_at dksX1_lost_0 6 rfl rfl)
theorem dX1_lost_7 : decode cX1_lost 7 = .ok (.iload_n 2, 1) := dk_28 (dk_at dksX1_lost_0 7 rfl rfl)
theorem dX1_lost_8 : decode cX1_lost 8 = .ok (.ifCond .eq 5, 3) := dk_153 0 5 (dk_at dksX1_lost_0 8 rfl rfl)
theorem dX1_lost_11 : decode cX1_lost 11 = .ok (.iload_n 2, 1) := dk_28 (dk_at dksX1_lost_0 11 rfl rfl)
theorem dX1_lost_12 : decode cX1_lost 12 = .ok (.ireturn, 1) := dk_172 (dk_at dksX1_lost_0 12 rfl rfl)
theorem dX1_lost_13 : decode cX1_lost 13 = .ok (.aload_n 0, 1) := dk_42 (dk_at dksX1_lost_0 13 rfl rfl)
theorem dX1_lost_14 : decode cX1_lost 14 = .ok (.getfield 122, 3) := dk_180 0 122 (dk_at dksX1_lost_0 14 rfl rfl)
theorem dX1_lost_17 : decode cX1_lost 17 = .ok (.iload_n 1, 1) := dk_27 (dk_at dksX1_lost_0 17 rfl rfl)
theorem dX1_lost_18 : decode cX1_lost 18 = .ok (.aaload, 1) := dk_50 (dk_at dksX1_lost_0 18 rfl rfl)
theorem dX1_lost_19 : decode cX1_lost 19 = .ok (.getfield 126, 3) := dk_180 0 126 (dk_at dksX1_lost_0 19 rfl rfl)
theorem dX1_lost_22 : decode cX1_lost 22 = .ok (.checkcast 245, 3) := dk_192 0 245 (dk_at dksX1_lost_1 0 rfl rfl)
theorem dX1_lost_25 : decode cX1_lost 25 = .ok (.astore_n 3, 1) := dk_78 (dk_at dksX1_lost_1 3 rfl rfl)
theorem dX1_lost_26 : decode cX1_lost 26 = .ok (.aload_n 0, 1) := dk_42 (dk_at dksX1_lost_1 4 rfl rfl)
theorem dX1_lost_27 : decode cX1_lost 27 = .ok (.aload_n 3, 1) := dk_45 (dk_at dksX1_lost_1 5 rfl rfl)
theorem dX1_lost_28 : decode cX1_lost 28 = .ok (.invokevirtual 246, 3) := dk_182 0 246 (dk_at dksX1_lost_1 6 rfl rfl)
theorem dX1_lost_31 : decode cX1_lost 31 = .ok (.bipush (-4), 2) := dk_16 252 (dk_at dksX1_lost_1 9 rfl rfl)
theorem dX1_lost_33 : decode cX1_lost 33 = .ok (.if_icmp .eq 6, 3) := dk_159 0 6 (dk_at dksX1_lost_1 11 rfl rfl)
theorem dX1_lost_36 : decode cX1_lost 36 = .ok (.bipush (-3), 2) := dk_16 253 (dk_at dksX1_lost_1 14 rfl rfl)
theorem dX1_lost_38 : decode cX1_lost 38 = .ok (.ireturn, 1) := dk_172 (dk_at dksX1_lost_1 16 rfl rfl)
theorem dX1_lost_39 : decode cX1_lost 39 = .ok (.aload_n 0, 1) := dk_42 (dk_at dksX1_lost_1 17 rfl rfl)
theorem dX1_lost_40 : decode cX1_lost 40 = .ok (.invokevirtual 293, 3) := dk_182 1 37 (dk_at dksX1_lost_1 18 rfl rfl)
theorem dX1_lost_43 : decode cX1_lost 43 = .ok (.aload_n 0, 1) := dk_42 (dk_at dksX1_lost_1 21 rfl rfl)
theorem dX1_lost_44 : decode cX1_lost 44 = .ok (.iconst (-1), 1) := dk_2 (dk_at dksX1_lost_1 22 rfl rfl)
theorem dX1_lost_45 : decode cX1_lost 45 = .ok (.invokevirtual 325, 3) := dk_182 1 69 (dk_at dksX1_lost_2 0 rfl rfl)
theorem dX1_lost_48 : decode cX1_lost 48 = .ok (.aload_n 0, 1) := dk_42 (dk_at dksX1_lost_2 3 rfl rfl)
theorem dX1_lost_49 : decode cX1_lost 49 = .ok (.getfield 239, 3) := dk_180 0 239 (dk_at dksX1_lost_2 4 rfl rfl)
theorem dX1_lost_52 : decode cX1_lost 52 = .ok (.aload_n 0, 1) := dk_42 (dk_at dksX1_lost_2 7 rfl rfl)
theorem dX1_lost_53 : decode cX1_lost 53 = .ok (.getfield 1, 3) := dk_180 0 1 (dk_at dksX1_lost_2 8 rfl rfl)
theorem dX1_lost_56 : decode cX1_lost 56 = .ok (.getfield 68, 3) := dk_180 0 68 (dk_at dksX1_lost_2 11 rfl rfl)
theorem dX1_lost_59 : decode cX1_lost 59 = .ok (.invokevirtual 240, 3) := dk_182 0 240 (dk_at dksX1_lost_2 14 rfl rfl)
theorem dX1_lost_62 : decode cX1_lost 62 = .ok (.aload_n 0, 1) := dk_42 (dk_at dksX1_lost_2 17 rfl rfl)
theorem dX1_lost_63 : decode cX1_lost 63 = .ok (.getfield 316, 3) := dk_180 1 60 (dk_at dksX1_lost_2 18 rfl rfl)
theorem dX1_lost_66 : decode cX1_lost 66 = .ok (.aload_n 0, 1) := dk_42 (dk_at dksX1_lost_2 21 rfl rfl)
theorem dX1_lost_67 : decode cX1_lost 67 = .ok (.getfield 239, 3) := dk_180 0 239 (dk_at dksX1_lost_3 0 rfl rfl)
theorem dX1_lost_70 : decode cX1_lost 70 = .ok (.invokevirtual 266, 3) := dk_182 1 10 (dk_at dksX1_lost_3 3 rfl rfl)
theorem dX1_lost_73 : decode cX1_lost 73 = .ok (.baload, 1) := dk_51 (dk_at dksX1_lost_3 6 rfl rfl)
theorem dX1_lost_74 : decode cX1_lost 74 = .ok (.istore 4, 2) := dk_54 4 (dk_at dksX1_lost_3 7 rfl rfl)
theorem dX1_lost_76 : decode cX1_lost 76 = .ok (.iconst 0, 1) := dk_3 (dk_at dksX1_lost_3 9 rfl rfl)
theorem dX1_lost_77 : decode cX1_lost 77 = .ok (.istore 5, 2) := dk_54 5 (dk_at dksX1_lost_3 10 rfl rfl)
theorem dX1_lost_79 : decode cX1_lost 79 = .ok (.iload 5, 2) := dk_21 5 (dk_at dksX1_lost_3 12 rfl rfl)
theorem dX1_lost_81 : decode cX1_lost 81 = .ok (.aload_n 3, 1) := dk_45 (dk_at dksX1_lost_3 14 rfl rfl)
theorem dX1_lost_82 : decode cX1_lost 82 = .ok (.arraylength, 1) := dk_190 (dk_at dksX1_lost_3 15 rfl rfl)
theorem dX1_lost_83 : decode cX1_lost 83 = .ok (.if_icmp .ge 55, 3) := dk_162 0 55 (dk_at dksX1_lost_3 16 rfl rfl)
theorem dX1_lost_86 : decode cX1_lost 86 = .ok (.aload_n 0, 1) := dk_42 (dk_at dksX1_lost_3 19 rfl rfl)
theorem dX1_lost_87 : decode cX1_lost 87 = .ok (.aload_n 3, 1) := dk_45 (dk_at dksX1_lost_3 20 rfl rfl)
theorem dX1_lost_88 : decode cX1_lost 88 = .ok (.iload 5, 2) := dk_21 5 (dk_at dksX1_lost_3 21 rfl rfl)
theorem dX1_lost_90 : decode cX1_lost 90 = .ok (.iaload, 1) := dk_46 (dk_at dksX1_lost_3 23 rfl rfl)
theorem dX1_lost_91 : decode cX1_lost 91 = .ok (.invokevirtual 203, 3) := dk_182 0 203 (dk_at dksX1_lost_4 0 rfl rfl)
theorem dX1_lost_94 : decode cX1_lost 94 = .ok (.aload_n 0, 1) := dk_42 (dk_at dksX1_lost_4 3 rfl rfl)
theorem dX1_lost_95 : decode cX1_lost 95 = .ok (.getfield 239, 3) := dk_180 0 239 (dk_at dksX1_lost_4 4 rfl rfl)
theorem dX1_lost_98 : decode cX1_lost 98 = .ok (.invokevirtual 209, 3) := dk_182 0 209 (dk_at dksX1_lost_4 7 rfl rfl)
theorem dX1_lost_101 : decode cX1_lost 101 = .ok (.aload_n 0, 1) := dk_42 (dk_at dksX1_lost_4 10 rfl rfl)
theorem dX1_lost_102 : decode cX1_lost 102 = .ok (.getfield 316, 3) := dk_180 1 60 (dk_at dksX1_lost_4 11 rfl rfl)
theorem dX1_lost_105 : decode cX1_lost 105 = .ok (.aload_n 0, 1) := dk_42 (dk_at dksX1_lost_4 14 rfl rfl)
theorem dX1_lost_106 : decode cX1_lost 106 = .ok (.getfield 239, 3) := dk_180 0 239 (dk_at dksX1_lost_4 15 rfl rfl)
theorem dX1_lost_109 : decode cX1_lost 109 = .ok (.invokevirtual 266, 3) := dk_182 1 10 (dk_at dksX1_lost_4 18 rfl rfl)
theorem dX1_lost_112 : decode cX1_lost 112 = .ok (.baload, 1) := dk_51 (dk_at dksX1_lost_4 21 rfl rfl)
theorem dX1_lost_113 : decode cX1_lost 113 = .ok (.istore 6, 2) := dk_54 6 (dk_at dksX1_lost_4 22 rfl rfl)
theorem dX1_lost_115 : decode cX1_lost 115 = .ok (.iload 4, 2) := dk_21 4 (dk_at dksX1_lost_5 0 rfl rfl)
theorem dX1_lost_117 : decode cX1_lost 117 = .ok (.ifCond .eq 11, 3) := dk_153 0 11 (dk_at dksX1_lost_5 2 rfl rfl)
theorem dX1_lost_120 : decode cX1_lost 120 = .ok (.iload 6, 2) := dk_21 6 (dk_at dksX1_lost_5 5 rfl rfl)
theorem dX1_lost_122 : decode cX1_lost 122 = .ok (.ifCond .ne 6, 3) := dk_154 0 6 (dk_at dksX1_lost_5 7 rfl rfl)
theorem dX1_lost_125 : decode cX1_lost 125 = .ok (.iload 5, 2) := dk_21 5 (dk_at dksX1_lost_5 10 rfl rfl)
theorem dX1_lost_127 : decode cX1_lost 127 = .ok (.ireturn, 1) := dk_172 (dk_at dksX1_lost_5 12 rfl rfl)
theorem dX1_lost_128 : decode cX1_lost 128 = .ok (.iload 6, 2) := dk_21 6 (dk_at dksX1_lost_5 13 rfl rfl)
theorem dX1_lost_130 : decode cX1_lost 130 = .ok (.istore 4, 2) := dk_54 4 (dk_at dksX1_lost_5 15 rfl rfl)
theorem dX1_lost_132 : decode cX1_lost 132 = .ok (.iinc 5 1, 3) := dk_132 5 1 (dk_at dksX1_lost_5 17 rfl rfl)
theorem dX1_lost_135 : decode cX1_lost 135 = .ok (.goto (-56), 3) := dk_167 255 200 (dk_at dksX1_lost_5 20 rfl rfl)
theorem dX1_lost_138 : decode cX1_lost 138 = .ok (.bipush (-4), 2) := dk_16 252 (dk_at dksX1_lost_6 0 rfl rfl)
theorem dX1_lost_140 : decode cX1_lost 140 = .ok (.ireturn, 1) := dk_172 (dk_at dksX1_lost_6 2 rfl rfl)
abbrev cX1_feet : ByteArray := prog_1_method_51_code
def yX1_feet : MethodName := ⟨RX1, "feet", "(I)I"⟩
def dkwX1_feet_6 : List UInt8 := [180, 0, 1, 180, 0, 77, 27, 28, 79, 25, 6, 191]
abbrev dktX1_feet_6 : List UInt8 := dkwX1_feet_6 ++ []
def dkwX1_feet_5 : List UInt8 := [62, 167, 255, 202, 29, 54, 5, 42, 180, 0, 1, 180, 0, 77, 27, 28, 79, 21, 5, 172, 58, 6, 42]
abbrev dktX1_feet_5 : List UInt8 := dkwX1_feet_5 ++ dktX1_feet_6
def dkwX1_feet_4 : List UInt8 := [180, 0, 1, 180, 0, 77, 27, 46, 54, 4, 167, 255, 217, 42, 180, 0, 1, 180, 0, 77, 27, 46, 4, 96]
abbrev dktX1_feet_4 : List UInt8 := dkwX1_feet_4 ++ dktX1_feet_5
def dkwX1_feet_3 : List UInt8 := [180, 0, 1, 180, 0, 77, 27, 29, 21, 4, 96, 5, 108, 79, 42, 182, 1, 72, 153, 0, 17, 42]
abbrev dktX1_feet_3 : List UInt8 := dkwX1_feet_3 ++ dktX1_feet_4
def dkwX1_feet_2 : List UInt8 := [180, 0, 77, 27, 28, 79, 29, 172, 4, 62, 17, 1, 144, 54, 4, 29, 21, 4, 162, 0, 54, 42]
abbrev dktX1_feet_2 : List UInt8 := dkwX1_feet_2 ++ dktX1_feet_3
def dkwX1_feet_1 : List UInt8 := [180, 0, 77, 27, 17, 1, 144, 79, 42, 182, 1, 72, 154, 0, 18, 16, 252, 62, 42, 180, 0, 1]
abbrev dktX1_feet_1 : List UInt8 := dkwX1_feet_1 ++ dktX1_feet_2
def dkwX1_feet_0 : List UInt8 := [42, 27, 182, 0, 182, 154, 0, 5, 2, 172, 42, 180, 0, 1, 180, 0, 77, 27, 46, 61, 42, 180, 0, 1]
abbrev dktX1_feet_0 : List UInt8 := dkwX1_feet_0 ++ dktX1_feet_1
theorem dksX1_feet_0 : cX1_feet.data.toList.drop 0 = dktX1_feet_0 := by decide +kernel
theorem dksX1_feet_1 : cX1_feet.data.toList.drop 24 = dktX1_feet_1 := dk_seg dksX1_feet_0 24 rfl rfl
theorem dksX1_feet_2 : cX1_feet.data.toList.drop 46 = dktX1_feet_2 := dk_seg dksX1_feet_1 22 rfl rfl
theorem dksX1_feet_3 : cX1_feet.data.toList.drop 68 = dktX1_feet_3 := dk_seg dksX1_feet_2 22 rfl rfl
theorem dksX1_feet_4 : cX1_feet.data.toList.drop 90 = dktX1_feet_4 := dk_seg dksX1_feet_3 22 rfl rfl
theorem dksX1_feet_5 : cX1_feet.data.toList.drop 114 = dktX1_feet_5 := dk_seg dksX1_feet_4 24 rfl rfl
theorem dksX1_feet_6 : cX1_feet.data.toList.drop 137 = dktX1_feet_6 := dk_seg dksX1_feet_5 23 rfl rfl
theorem dX1_feet_0 : decode cX1_feet 0 = .ok (.aload_n 0, 1) := dk_42 (dk_at dksX1_feet_0 0 rfl rfl)
theorem dX1_feet_1 : decode cX1_feet 1 = .ok (.iload_n 1, 1) := dk_27 (dk_at dksX1_feet_0 1 rfl rfl)
theorem dX1_feet_2 : decode cX1_feet 2 = .ok (.invokevirtual 182, 3) := dk_182 0 182 (dk_at dksX1_feet_0 2 rfl rfl)
theorem dX1_feet_5 : decode cX1_feet 5 = .ok (.ifCond .ne 5, 3) := dk_154 0 5 (dk_at dksX1_feet_0 5 rfl rfl)
theorem dX1_feet_8 : decode cX1_feet 8 = .ok (.iconst (-1), 1) := dk_2 (dk_at dksX1_feet_0 8 rfl rfl)
theorem dX1_feet_9 : decode cX1_feet 9 = .ok (.ireturn, 1) := dk_172 (dk_at dksX1_feet_0 9 rfl rfl)
theorem dX1_feet_10 : decode cX1_feet 10 = .ok (.aload_n 0, 1) := dk_42 (dk_at dksX1_feet_0 10 rfl rfl)
theorem dX1_feet_11 : decode cX1_feet 11 = .ok (.getfield 1, 3) := dk_180 0 1 (dk_at dksX1_feet_0 11 rfl rfl)
theorem dX1_feet_14 : decode cX1_feet 14 = .ok (.getfield 77, 3) := dk_180 0 77 (dk_at dksX1_feet_0 14 rfl rfl)
theorem dX1_feet_17 : decode cX1_feet 17 = .ok (.iload_n 1, 1) := dk_27 (dk_at dksX1_feet_0 17 rfl rfl)
theorem dX1_feet_18 : decode cX1_feet 18 = .ok (.iaload, 1) := dk_46 (dk_at dksX1_feet_0 18 rfl rfl)
theorem dX1_feet_19 : decode cX1_feet 19 = .ok (.istore_n 2, 1) := dk_61 (dk_at dksX1_feet_0 19 rfl rfl)
theorem dX1_feet_20 : decode cX1_feet 20 = .ok (.aload_n 0, 1) := dk_42 (dk_at dksX1_feet_0 20 rfl rfl)
theorem dX1_feet_21 : decode cX1_feet 21 = .ok (.getfield 1, 3) := dk_180 0 1 (dk_at dksX1_feet_0 21 rfl rfl)
theorem dX1_feet_24 : decode cX1_feet 24 = .ok (.getfield 77, 3) := dk_180 0 77 (dk_at dksX1_feet_1 0 rfl rfl)
theorem dX1_feet_27 : decode cX1_feet 27 = .ok (.iload_n 1, 1) := dk_27 (dk_at dksX1_feet_1 3 rfl rfl)
theorem dX1_feet_28 : decode cX1_feet 28 = .ok (.sipush 400, 3) := dk_17 1 144 (dk_at dksX1_feet_1 4 rfl rfl)
theorem dX1_feet_31 : decode cX1_feet 31 = .ok (.iastore, 1) := dk_79 (dk_at dksX1_feet_1 7 rfl rfl)
theorem dX1_feet_32 : decode cX1_feet 32 = .ok (.aload_n 0, 1) := dk_42 (dk_at dksX1_feet_1 8 rfl rfl)
theorem dX1_feet_33 : decode cX1_feet 33 = .ok (.invokevirtual 328, 3) := dk_182 1 72 (dk_at dksX1_feet_1 9 rfl rfl)
theorem dX1_feet_36 : decode cX1_feet 36 = .ok (.ifCond .ne 18, 3) := dk_154 0 18 (dk_at dksX1_feet_1 12 rfl rfl)
theorem dX1_feet_39 : decode cX1_feet 39 = .ok (.bipush (-4), 2) := dk_16 252 (dk_at dksX1_feet_1 15 rfl rfl)
theorem dX1_feet_41 : decode cX1_feet 41 = .ok (.istore_n 3, 1) := dk_62 (dk_at dksX1_feet_1 17 rfl rfl)
theorem dX1_feet_42 : decode cX1_feet 42 = .ok (.aload_n 0, 1) := dk_42 (dk_at dksX1_feet_1 18 rfl rfl)
theorem dX1_feet_43 : decode cX1_feet 43 = .ok (.getfield 1, 3) := dk_180 0 1 (dk_at dksX1_feet_1 19 rfl rfl)
theorem dX1_feet_46 : decode cX1_feet 46 = .ok (.getfield 77, 3) := dk_180 0 77 (dk_at dksX1_feet_2 0 rfl rfl)
theorem dX1_feet_49 : decode cX1_feet 49 = .ok (.iload_n 1, 1) := dk_27 (dk_at dksX1_feet_2 3 rfl rfl)
theorem dX1_feet_50 : decode cX1_feet 50 = .ok (.iload_n 2, 1) := dk_28 (dk_at dksX1_feet_2 4 rfl rfl)
theorem dX1_feet_51 : decode cX1_feet 51 = .ok (.iastore, 1) := dk_79 (dk_at dksX1_feet_2 5 rfl rfl)
theorem dX1_feet_52 : decode cX1_feet 52 = .ok (.iload_n 3, 1) := dk_29 (dk_at dksX1_feet_2 6 rfl rfl)
theorem dX1_feet_53 : decode cX1_feet 53 = .ok (.ireturn, 1) := dk_172 (dk_at dksX1_feet_2 7 rfl rfl)
theorem dX1_feet_54 : decode cX1_feet 54 = .ok (.iconst 1, 1) := dk_4 (dk_at dksX1_feet_2 8 rfl rfl)
theorem dX1_feet_55 : decode cX1_feet 55 = .ok (.istore_n 3, 1) := dk_62 (dk_at dksX1_feet_2 9 rfl rfl)
theorem dX1_feet_56 : decode cX1_feet 56 = .ok (.sipush 400, 3) := dk_17 1 144 (dk_at dksX1_feet_2 10 rfl rfl)
theorem dX1_feet_59 : decode cX1_feet 59 = .ok (.istore 4, 2) := dk_54 4 (dk_at dksX1_feet_2 13 rfl rfl)
theorem dX1_feet_61 : decode cX1_feet 61 = .ok (.iload_n 3, 1) := dk_29 (dk_at dksX1_feet_2 15 rfl rfl)
theorem dX1_feet_62 : decode cX1_feet 62 = .ok (.iload 4, 2) := dk_21 4 (dk_at dksX1_feet_2 16 rfl rfl)
theorem dX1_feet_64 : decode cX1_feet 64 = .ok (.if_icmp .ge 54, 3) := dk_162 0 54 (dk_at dksX1_feet_2 18 rfl rfl)
theorem dX1_feet_67 : decode cX1_feet 67 = .ok (.aload_n 0, 1) := dk_42 (dk_at dksX1_feet_2 21 rfl rfl)
theorem dX1_feet_68 : decode cX1_feet 68 = .ok (.getfield 1, 3) := dk_180 0 1 (dk_at dksX1_feet_3 0 rfl rfl)
theorem dX1_feet_71 : decode cX1_feet 71 = .ok (.getfield 77, 3) := dk_180 0 77 (dk_at dksX1_feet_3 3 rfl rfl)
theorem dX1_feet_74 : decode cX1_feet 74 = .ok (.iload_n 1, 1) := dk_27 (dk_at dksX1_feet_3 6 rfl rfl)
theorem dX1_feet_75 : decode cX1_feet 75 = .ok (.iload_n 3, 1) := dk_29 (dk_at dksX1_feet_3 7 rfl rfl)
theorem dX1_feet_76 : decode cX1_feet 76 = .ok (.iload 4, 2) := dk_21 4 (dk_at dksX1_feet_3 8 rfl rfl)
theorem dX1_feet_78 : decode cX1_feet 78 = .ok (.iadd, 1) := dk_96 (dk_at dksX1_feet_3 10 rfl rfl)
theorem dX1_feet_79 : decode cX1_feet 79 = .ok (.iconst 2, 1) := dk_5 (dk_at dksX1_feet_3 11 rfl rfl)
theorem dX1_feet_80 : decode cX1_feet 80 = .ok (.idiv, 1) := dk_108 (dk_at dksX1_feet_3 12 rfl rfl)
theorem dX1_feet_81 : decode cX1_feet 81 = .ok (.iastore, 1) := dk_79 (dk_at dksX1_feet_3 13 rfl rfl)
theorem dX1_feet_82 : decode cX1_feet 82 = .ok (.aload_n 0, 1) := dk_42 (dk_at dksX1_feet_3 14 rfl rfl)
theorem dX1_feet_83 : decode cX1_feet 83 = .ok (.invokevirtual 328, 3) := dk_182 1 72 (dk_at dksX1_feet_3 15 rfl rfl)
theorem dX1_feet_86 : decode cX1_feet 86 = .ok (.ifCond .eq 17, 3) := dk_153 0 17 (dk_at dksX1_feet_3 18 rfl rfl)
theorem dX1_feet_89 : decode cX1_feet 89 = .ok (.aload_n 0, 1) := dk_42 (dk_at dksX1_feet_3 21 rfl rfl)
theorem dX1_feet_90 : decode cX1_feet 90 = .ok (.getfield 1, 3) := dk_180 0 1 (dk_at dksX1_feet_4 0 rfl rfl)
theorem dX1_feet_93 : decode cX1_feet 93 = .ok (.getfield 77, 3) := dk_180 0 77 (dk_at dksX1_feet_4 3 rfl rfl)
theorem dX1_feet_96 : decode cX1_feet 96 = .ok (.iload_n 1, 1) := dk_27 (dk_at dksX1_feet_4 6 rfl rfl)
theorem dX1_feet_97 : decode cX1_feet 97 = .ok (.iaload, 1) := dk_46 (dk_at dksX1_feet_4 7 rfl rfl)
theorem dX1_feet_98 : decode cX1_feet 98 = .ok (.istore 4, 2) := dk_54 4 (dk_at dksX1_feet_4 8 rfl rfl)
theorem dX1_feet_100 : decode cX1_feet 100 = .ok (.goto (-39), 3) := dk_167 255 217 (dk_at dksX1_feet_4 10 rfl rfl)
theorem dX1_feet_103 : decode cX1_feet 103 = .ok (.aload_n 0, 1) := dk_42 (dk_at dksX1_feet_4 13 rfl rfl)
theorem dX1_feet_104 : decode cX1_feet 104 = .ok (.getfield 1, 3) := dk_180 0 1 (dk_at dksX1_feet_4 14 rfl rfl)
theorem dX1_feet_107 : decode cX1_feet 107 = .ok (.getfield 77, 3) := dk_180 0 77 (dk_at dksX1_feet_4 17 rfl rfl)
theorem dX1_feet_110 : decode cX1_feet 110 = .ok (.iload_n 1, 1) := dk_27 (dk_at dksX1_feet_4 20 rfl rfl)
theorem dX1_feet_111 : decode cX1_feet 111 = .ok (.iaload, 1) := dk_46 (dk_at dksX1_feet_4 21 rfl rfl)
theorem dX1_feet_112 : decode cX1_feet 112 = .ok (.iconst 1, 1) := dk_4 (dk_at dksX1_feet_4 22 rfl rfl)
theorem dX1_feet_113 : decode cX1_feet 113 = .ok (.iadd, 1) := dk_96 (dk_at dksX1_feet_4 23 rfl rfl)
theorem dX1_feet_114 : decode cX1_feet 114 = .ok (.istore_n 3, 1) := dk_62 (dk_at dksX1_feet_5 0 rfl rfl)
theorem dX1_feet_115 : decode cX1_feet 115 = .ok (.goto (-54), 3) := dk_167 255 202 (dk_at dksX1_feet_5 1 rfl rfl)
theorem dX1_feet_118 : decode cX1_feet 118 = .ok (.iload_n 3, 1) := dk_29 (dk_at dksX1_feet_5 4 rfl rfl)
theorem dX1_feet_119 : decode cX1_feet 119 = .ok (.istore 5, 2) := dk_54 5 (dk_at dksX1_feet_5 5 rfl rfl)
theorem dX1_feet_121 : decode cX1_feet 121 = .ok (.aload_n 0, 1) := dk_42 (dk_at dksX1_feet_5 7 rfl rfl)
theorem dX1_feet_122 : decode cX1_feet 122 = .ok (.getfield 1, 3) := dk_180 0 1 (dk_at dksX1_feet_5 8 rfl rfl)
theorem dX1_feet_125 : decode cX1_feet 125 = .ok (.getfield 77, 3) := dk_180 0 77 (dk_at dksX1_feet_5 11 rfl rfl)
theorem dX1_feet_128 : decode cX1_feet 128 = .ok (.iload_n 1, 1) := dk_27 (dk_at dksX1_feet_5 14 rfl rfl)
theorem dX1_feet_129 : decode cX1_feet 129 = .ok (.iload_n 2, 1) := dk_28 (dk_at dksX1_feet_5 15 rfl rfl)
theorem dX1_feet_130 : decode cX1_feet 130 = .ok (.iastore, 1) := dk_79 (dk_at dksX1_feet_5 16 rfl rfl)
theorem dX1_feet_131 : decode cX1_feet 131 = .ok (.iload 5, 2) := dk_21 5 (dk_at dksX1_feet_5 17 rfl rfl)
theorem dX1_feet_133 : decode cX1_feet 133 = .ok (.ireturn, 1) := dk_172 (dk_at dksX1_feet_5 19 rfl rfl)
theorem dX1_feet_134 : decode cX1_feet 134 = .ok (.astore 6, 2) := dk_58 6 (dk_at dksX1_feet_5 20 rfl rfl)
theorem dX1_feet_136 : decode cX1_feet 136 = .ok (.aload_n 0, 1) := dk_42 (dk_at dksX1_feet_5 22 rfl rfl)
theorem dX1_feet_137 : decode cX1_feet 137 = .ok (.getfield 1, 3) := dk_180 0 1 (dk_at dksX1_feet_6 0 rfl rfl)
theorem dX1_feet_140 : decode cX1_feet 140 = .ok (.getfield 77, 3) := dk_180 0 77 (dk_at dksX1_feet_6 3 rfl rfl)
theorem dX1_feet_143 : decode cX1_feet 143 = .ok (.iload_n 1, 1) := dk_27 (dk_at dksX1_feet_6 6 rfl rfl)
theorem dX1_feet_144 : decode cX1_feet 144 = .ok (.iload_n 2, 1) := dk_28 (dk_at dksX1_feet_6 7 rfl rfl)
theorem dX1_feet_145 : decode cX1_feet 145 = .ok (.iastore, 1) := dk_79 (dk_at dksX1_feet_6 8 rfl rfl)
theorem dX1_feet_146 : decode cX1_feet 146 = .ok (.aload 6, 2) := dk_25 6 (dk_at dksX1_feet_6 9 rfl rfl)
theorem dX1_feet_148 : decode cX1_feet 148 = .ok (.athrow, 1) := dk_191 (dk_at dksX1_feet_6 11 rfl rfl)
abbrev cX1_leadsDown : ByteArray := prog_1_method_50_code
def yX1_leadsDown : MethodName := ⟨RX1, "leadsDown", "()Z"⟩
def dkwX1_leadsDown_0 : List UInt8 := [42, 182, 1, 37, 42, 182, 1, 40, 16, 252, 159, 0, 7, 4, 167, 0, 4, 3, 172]
abbrev dktX1_leadsDown_0 : List UInt8 := dkwX1_leadsDown_0 ++ []
theorem dksX1_leadsDown_0 : cX1_leadsDown.data.toList.drop 0 = dktX1_leadsDown_0 := by decide +kernel
theorem dX1_leadsDown_0 : decode cX1_leadsDown 0 = .ok (.aload_n 0, 1) := dk_42 (dk_at dksX1_leadsDown_0 0 rfl rfl)
theorem dX1_leadsDown_1 : decode cX1_leadsDown 1 = .ok (.invokevirtual 293, 3) := dk_182 1 37 (dk_at dksX1_leadsDown_0 1 rfl rfl)
theorem dX1_leadsDown_4 : decode cX1_leadsDown 4 = .ok (.aload_n 0, 1) := dk_42 (dk_at dksX1_leadsDown_0 4 rfl rfl)
theorem dX1_leadsDown_5 : decode cX1_leadsDown 5 = .ok (.invokevirtual 296, 3) := dk_182 1 40 (dk_at dksX1_leadsDown_0 5 rfl rfl)
theorem dX1_leadsDown_8 : decode cX1_leadsDown 8 = .ok (.bipush (-4), 2) := dk_16 252 (dk_at dksX1_leadsDown_0 8 rfl rfl)
theorem dX1_leadsDown_10 : decode cX1_leadsDown 10 = .ok (.if_icmp .eq 7, 3) := dk_159 0 7 (dk_at dksX1_leadsDown_0 10 rfl rfl)
theorem dX1_leadsDown_13 : decode cX1_leadsDown 13 = .ok (.iconst 1, 1) := dk_4 (dk_at dksX1_leadsDown_0 13 rfl rfl)
theorem dX1_leadsDown_14 : decode cX1_leadsDown 14 = .ok (.goto 4, 3) := dk_167 0 4 (dk_at dksX1_leadsDown_0 14 rfl rfl)
theorem dX1_leadsDown_17 : decode cX1_leadsDown 17 = .ok (.iconst 0, 1) := dk_3 (dk_at dksX1_leadsDown_0 17 rfl rfl)
theorem dX1_leadsDown_18 : decode cX1_leadsDown 18 = .ok (.ireturn, 1) := dk_172 (dk_at dksX1_leadsDown_0 18 rfl rfl)
abbrev cX1_chance : ByteArray := prog_1_method_55_code
def yX1_chance : MethodName := ⟨RX1, "chance", "()I"⟩
def dkwX1_chance_6 : List UInt8 := [167, 255, 168, 42, 180, 1, 79, 42, 180, 0, 1, 180, 0, 68, 182, 1, 10, 46, 172]
abbrev dktX1_chance_6 : List UInt8 := dkwX1_chance_6 ++ []
def dkwX1_chance_5 : List UInt8 := [42, 180, 1, 79, 29, 42, 180, 1, 79, 29, 46, 21, 4, 184, 1, 82, 79, 132, 2, 255, 167, 255, 184]
abbrev dktX1_chance_5 : List UInt8 := dkwX1_chance_5 ++ dktX1_chance_6
def dkwX1_chance_4 : List UInt8 := [182, 1, 89, 54, 4, 27, 21, 4, 42, 180, 1, 79, 29, 46, 164, 0, 7, 4, 167, 0, 4, 3, 128, 60]
abbrev dktX1_chance_4 : List UInt8 := dkwX1_chance_4 ++ dktX1_chance_5
def dkwX1_chance_3 : List UInt8 := [180, 0, 254, 28, 46, 62, 42, 180, 1, 79, 29, 46, 19, 1, 88, 160, 0, 6, 167, 0, 46, 42, 29]
abbrev dktX1_chance_3 : List UInt8 := dkwX1_chance_3 ++ dktX1_chance_4
def dkwX1_chance_2 : List UInt8 := [167, 255, 214, 4, 60, 27, 153, 0, 90, 3, 60, 42, 180, 1, 1, 4, 100, 61, 28, 155, 0, 74, 42]
abbrev dktX1_chance_2 : List UInt8 := dkwX1_chance_2 ++ dktX1_chance_3
def dkwX1_chance_1 : List UInt8 := [42, 42, 180, 0, 254, 27, 46, 182, 1, 30, 153, 0, 9, 19, 1, 88, 167, 0, 4, 3, 79, 132, 1, 1]
abbrev dktX1_chance_1 : List UInt8 := dkwX1_chance_1 ++ dktX1_chance_2
def dkwX1_chance_0 : List UInt8 := [42, 182, 1, 85, 3, 60, 27, 42, 180, 1, 1, 162, 0, 40, 42, 180, 1, 79, 42, 180, 0, 254, 27, 46]
abbrev dktX1_chance_0 : List UInt8 := dkwX1_chance_0 ++ dktX1_chance_1
theorem dksX1_chance_0 : cX1_chance.data.toList.drop 0 = dktX1_chance_0 := by decide +kernel
theorem dksX1_chance_1 : cX1_chance.data.toList.drop 24 = dktX1_chance_1 := dk_seg dksX1_chance_0 24 rfl rfl
theorem dksX1_chance_2 : cX1_chance.data.toList.drop 48 = dktX1_chance_2 := dk_seg dksX1_chance_1 24 rfl rfl
theorem dksX1_chance_3 : cX1_chance.data.toList.drop 71 = dktX1_chance_3 := dk_seg dksX1_chance_2 23 rfl rfl
theorem dksX1_chance_4 : cX1_chance.data.toList.drop 94 = dktX1_chance_4 := dk_seg dksX1_chance_3 23 rfl rfl
theorem dksX1_chance_5 : cX1_chance.data.toList.drop 118 = dktX1_chance_5 := dk_seg dksX1_chance_4 24 rfl rfl
theorem dksX1_chance_6 : cX1_chance.data.toList.drop 141 = dktX1_chance_6 := dk_seg dksX1_chance_5 23 rfl rfl
theorem dX1_chance_0 : decode cX1_chance 0 = .ok (.aload_n 0, 1) := dk_42 (dk_at dksX1_chance_0 0 rfl rfl)
theorem dX1_chance_1 : decode cX1_chance 1 = .ok (.invokevirtual 341, 3) := dk_182 1 85 (dk_at dksX1_chance_0 1 rfl rfl)
theorem dX1_chance_4 : decode cX1_chance 4 = .ok (.iconst 0, 1) := dk_3 (dk_at dksX1_chance_0 4 rfl rfl)
theorem dX1_chance_5 : decode cX1_chance 5 = .ok (.istore_n 1, 1) := dk_60 (dk_at dksX1_chance_0 5 rfl rfl)
theorem dX1_chance_6 : decode cX1_chance 6 = .ok (.iload_n 1, 1) := dk_27 (dk_at dksX1_chance_0 6 rfl rfl)
theorem dX1_chance_7 : decode cX1_chance 7 = .ok (.aload_n 0, 1) := dk_42 (dk_at dksX1_chance_0 7 rfl rfl)
theorem dX1_chance_8 : decode cX1_chance 8 = .ok (.getfield 257, 3) := dk_180 1 1 (dk_at dksX1_chance_0 8 rfl rfl)
theorem dX1_chance_11 : decode cX1_chance 11 = .ok (.if_icmp .ge 40, 3) := dk_162 0 40 (dk_at dksX1_chance_0 11 rfl rfl)
theorem dX1_chance_14 : decode cX1_chance 14 = .ok (.aload_n 0, 1) := dk_42 (dk_at dksX1_chance_0 14 rfl rfl)
theorem dX1_chance_15 : decode cX1_chance 15 = .ok (.getfield 335, 3) := dk_180 1 79 (dk_at dksX1_chance_0 15 rfl rfl)
theorem dX1_chance_18 : decode cX1_chance 18 = .ok (.aload_n 0, 1) := dk_42 (dk_at dksX1_chance_0 18 rfl rfl)
theorem dX1_chance_19 : decode cX1_chance 19 = .ok (.getfield 254, 3) := dk_180 0 254 (dk_at dksX1_chance_0 19 rfl rfl)
theorem dX1_chance_22 : decode cX1_chance 22 = .ok (.iload_n 1, 1) := dk_27 (dk_at dksX1_chance_0 22 rfl rfl)
theorem dX1_chance_23 : decode cX1_chance 23 = .ok (.iaload, 1) := dk_46 (dk_at dksX1_chance_0 23 rfl rfl)
theorem dX1_chance_24 : decode cX1_chance 24 = .ok (.aload_n 0, 1) := dk_42 (dk_at dksX1_chance_1 0 rfl rfl)
theorem dX1_chance_25 : decode cX1_chance 25 = .ok (.aload_n 0, 1) := dk_42 (dk_at dksX1_chance_1 1 rfl rfl)
theorem dX1_chance_26 : decode cX1_chance 26 = .ok (.getfield 254, 3) := dk_180 0 254 (dk_at dksX1_chance_1 2 rfl rfl)
theorem dX1_chance_29 : decode cX1_chance 29 = .ok (.iload_n 1, 1) := dk_27 (dk_at dksX1_chance_1 5 rfl rfl)
theorem dX1_chance_30 : decode cX1_chance 30 = .ok (.iaload, 1) := dk_46 (dk_at dksX1_chance_1 6 rfl rfl)
theorem dX1_chance_31 : decode cX1_chance 31 = .ok (.invokevirtual 286, 3) := dk_182 1 30 (dk_at dksX1_chance_1 7 rfl rfl)
theorem dX1_chance_34 : decode cX1_chance 34 = .ok (.ifCond .eq 9, 3) := dk_153 0 9 (dk_at dksX1_chance_1 10 rfl rfl)
theorem dX1_chance_37 : decode cX1_chance 37 = .ok (.ldc_w 344, 3) := dk_19 1 88 (dk_at dksX1_chance_1 13 rfl rfl)
theorem dX1_chance_40 : decode cX1_chance 40 = .ok (.goto 4, 3) := dk_167 0 4 (dk_at dksX1_chance_1 16 rfl rfl)
theorem dX1_chance_43 : decode cX1_chance 43 = .ok (.iconst 0, 1) := dk_3 (dk_at dksX1_chance_1 19 rfl rfl)
theorem dX1_chance_44 : decode cX1_chance 44 = .ok (.iastore, 1) := dk_79 (dk_at dksX1_chance_1 20 rfl rfl)
theorem dX1_chance_45 : decode cX1_chance 45 = .ok (.iinc 1 1, 3) := dk_132 1 1 (dk_at dksX1_chance_1 21 rfl rfl)
theorem dX1_chance_48 : decode cX1_chance 48 = .ok (.goto (-42), 3) := dk_167 255 214 (dk_at dksX1_chance_2 0 rfl rfl)
theorem dX1_chance_51 : decode cX1_chance 51 = .ok (.iconst 1, 1) := dk_4 (dk_at dksX1_chance_2 3 rfl rfl)
theorem dX1_chance_52 : decode cX1_chance 52 = .ok (.istore_n 1, 1) := dk_60 (dk_at dksX1_chance_2 4 rfl rfl)
theorem dX1_chance_53 : decode cX1_chance 53 = .ok (.iload_n 1, 1) := dk_27 (dk_at dksX1_chance_2 5 rfl rfl)
theorem dX1_chance_54 : decode cX1_chance 54 = .ok (.ifCond .eq 90, 3) := dk_153 0 90 (dk_at dksX1_chance_2 6 rfl rfl)
theorem dX1_chance_57 : decode cX1_chance 57 = .ok (.iconst 0, 1) := dk_3 (dk_at dksX1_chance_2 9 rfl rfl)
theorem dX1_chance_58 : decode cX1_chance 58 = .ok (.istore_n 1, 1) := dk_60 (dk_at dksX1_chance_2 10 rfl rfl)
theorem dX1_chance_59 : decode cX1_chance 59 = .ok (.aload_n 0, 1) := dk_42 (dk_at dksX1_chance_2 11 rfl rfl)
theorem dX1_chance_60 : decode cX1_chance 60 = .ok (.getfield 257, 3) := dk_180 1 1 (dk_at dksX1_chance_2 12 rfl rfl)
theorem dX1_chance_63 : decode cX1_chance 63 = .ok (.iconst 1, 1) := dk_4 (dk_at dksX1_chance_2 15 rfl rfl)
theorem dX1_chance_64 : decode cX1_chance 64 = .ok (.isub, 1) := dk_100 (dk_at dksX1_chance_2 16 rfl rfl)
theorem dX1_chance_65 : decode cX1_chance 65 = .ok (.istore_n 2, 1) := dk_61 (dk_at dksX1_chance_2 17 rfl rfl)
theorem dX1_chance_66 : decode cX1_chance 66 = .ok (.iload_n 2, 1) := dk_28 (dk_at dksX1_chance_2 18 rfl rfl)
theorem dX1_chance_67 : decode cX1_chance 67 = .ok (.ifCond .lt 74, 3) := dk_155 0 74 (dk_at dksX1_chance_2 19 rfl rfl)
theorem dX1_chance_70 : decode cX1_chance 70 = .ok (.aload_n 0, 1) := dk_42 (dk_at dksX1_chance_2 22 rfl rfl)
theorem dX1_chance_71 : decode cX1_chance 71 = .ok (.getfield 254, 3) := dk_180 0 254 (dk_at dksX1_chance_3 0 rfl rfl)
theorem dX1_chance_74 : decode cX1_chance 74 = .ok (.iload_n 2, 1) := dk_28 (dk_at dksX1_chance_3 3 rfl rfl)
theorem dX1_chance_75 : decode cX1_chance 75 = .ok (.iaload, 1) := dk_46 (dk_at dksX1_chance_3 4 rfl rfl)
theorem dX1_chance_76 : decode cX1_chance 76 = .ok (.istore_n 3, 1) := dk_62 (dk_at dksX1_chance_3 5 rfl rfl)
theorem dX1_chance_77 : decode cX1_chance 77 = .ok (.aload_n 0, 1) := dk_42 (dk_at dksX1_chance_3 6 rfl rfl)
theorem dX1_chance_78 : decode cX1_chance 78 = .ok (.getfield 335, 3) := dk_180 1 79 (dk_at dksX1_chance_3 7 rfl rfl)
theorem dX1_chance_81 : decode cX1_chance 81 = .ok (.iload_n 3, 1) := dk_29 (dk_at dksX1_chance_3 10 rfl rfl)
theorem dX1_chance_82 : decode cX1_chance 82 = .ok (.iaload, 1) := dk_46 (dk_at dksX1_chance_3 11 rfl rfl)
theorem dX1_chance_83 : decode cX1_chance 83 = .ok (.ldc_w 344, 3) := dk_19 1 88 (dk_at dksX1_chance_3 12 rfl rfl)
theorem dX1_chance_86 : decode cX1_chance 86 = .ok (.if_icmp .ne 6, 3) := dk_160 0 6 (dk_at dksX1_chance_3 15 rfl rfl)
theorem dX1_chance_89 : decode cX1_chance 89 = .ok (.goto 46, 3) := dk_167 0 46 (dk_at dksX1_chance_3 18 rfl rfl)
theorem dX1_chance_92 : decode cX1_chance 92 = .ok (.aload_n 0, 1) := dk_42 (dk_at dksX1_chance_3 21 rfl rfl)
theorem dX1_chance_93 : decode cX1_chance 93 = .ok (.iload_n 3, 1) := dk_29 (dk_at dksX1_chance_3 22 rfl rfl)
theorem dX1_chance_94 : decode cX1_chance 94 = .ok (.invokevirtual 345, 3) := dk_182 1 89 (dk_at dksX1_chance_4 0 rfl rfl)
theorem dX1_chance_97 : decode cX1_chance 97 = .ok (.istore 4, 2) := dk_54 4 (dk_at dksX1_chance_4 3 rfl rfl)
theorem dX1_chance_99 : decode cX1_chance 99 = .ok (.iload_n 1, 1) := dk_27 (dk_at dksX1_chance_4 5 rfl rfl)
theorem dX1_chance_100 : decode cX1_chance 100 = .ok (.iload 4, 2) := dk_21 4 (dk_at dksX1_chance_4 6 rfl rfl)
theorem dX1_chance_102 : decode cX1_chance 102 = .ok (.aload_n 0, 1) := dk_42 (dk_at dksX1_chance_4 8 rfl rfl)
theorem dX1_chance_103 : decode cX1_chance 103 = .ok (.getfield 335, 3) := dk_180 1 79 (dk_at dksX1_chance_4 9 rfl rfl)
theorem dX1_chance_106 : decode cX1_chance 106 = .ok (.iload_n 3, 1) := dk_29 (dk_at dksX1_chance_4 12 rfl rfl)
theorem dX1_chance_107 : decode cX1_chance 107 = .ok (.iaload, 1) := dk_46 (dk_at dksX1_chance_4 13 rfl rfl)
theorem dX1_chance_108 : decode cX1_chance 108 = .ok (.if_icmp .le 7, 3) := dk_164 0 7 (dk_at dksX1_chance_4 14 rfl rfl)
theorem dX1_chance_111 : decode cX1_chance 111 = .ok (.iconst 1, 1) := dk_4 (dk_at dksX1_chance_4 17 rfl rfl)
theorem dX1_chance_112 : decode cX1_chance 112 = .ok (.goto 4, 3) := dk_167 0 4 (dk_at dksX1_chance_4 18 rfl rfl)
theorem dX1_chance_115 : decode cX1_chance 115 = .ok (.iconst 0, 1) := dk_3 (dk_at dksX1_chance_4 21 rfl rfl)
theorem dX1_chance_116 : decode cX1_chance 116 = .ok (.ior, 1) := dk_128 (dk_at dksX1_chance_4 22 rfl rfl)
theorem dX1_chance_117 : decode cX1_chance 117 = .ok (.istore_n 1, 1) := dk_60 (dk_at dksX1_chance_4 23 rfl rfl)
theorem dX1_chance_118 : decode cX1_chance 118 = .ok (.aload_n 0, 1) := dk_42 (dk_at dksX1_chance_5 0 rfl rfl)
theorem dX1_chance_119 : decode cX1_chance 119 = .ok (.getfield 335, 3) := dk_180 1 79 (dk_at dksX1_chance_5 1 rfl rfl)
theorem dX1_chance_122 : decode cX1_chance 122 = .ok (.iload_n 3, 1) := dk_29 (dk_at dksX1_chance_5 4 rfl rfl)
theorem dX1_chance_123 : decode cX1_chance 123 = .ok (.aload_n 0, 1) := dk_42 (dk_at dksX1_chance_5 5 rfl rfl)
theorem dX1_chance_124 : decode cX1_chance 124 = .ok (.getfield 335, 3) := dk_180 1 79 (dk_at dksX1_chance_5 6 rfl rfl)
theorem dX1_chance_127 : decode cX1_chance 127 = .ok (.iload_n 3, 1) := dk_29 (dk_at dksX1_chance_5 9 rfl rfl)
theorem dX1_chance_128 : decode cX1_chance 128 = .ok (.iaload, 1) := dk_46 (dk_at dksX1_chance_5 10 rfl rfl)
theorem dX1_chance_129 : decode cX1_chance 129 = .ok (.iload 4, 2) := dk_21 4 (dk_at dksX1_chance_5 11 rfl rfl)
theorem dX1_chance_131 : decode cX1_chance 131 = .ok (.invokestatic 338, 3) := dk_184 1 82 (dk_at dksX1_chance_5 13 rfl rfl)
theorem dX1_chance_134 : decode cX1_chance 134 = .ok (.iastore, 1) := dk_79 (dk_at dksX1_chance_5 16 rfl rfl)
theorem dX1_chance_135 : decode cX1_chance 135 = .ok (.iinc 2 (-1), 3) := dk_132 2 255 (dk_at dksX1_chance_5 17 rfl rfl)
theorem dX1_chance_138 : decode cX1_chance 138 = .ok (.goto (-72), 3) := dk_167 255 184 (dk_at dksX1_chance_5 20 rfl rfl)
theorem dX1_chance_141 : decode cX1_chance 141 = .ok (.goto (-88), 3) := dk_167 255 168 (dk_at dksX1_chance_6 0 rfl rfl)
theorem dX1_chance_144 : decode cX1_chance 144 = .ok (.aload_n 0, 1) := dk_42 (dk_at dksX1_chance_6 3 rfl rfl)
theorem dX1_chance_145 : decode cX1_chance 145 = .ok (.getfield 335, 3) := dk_180 1 79 (dk_at dksX1_chance_6 4 rfl rfl)
theorem dX1_chance_148 : decode cX1_chance 148 = .ok (.aload_n 0, 1) := dk_42 (dk_at dksX1_chance_6 7 rfl rfl)
theorem dX1_chance_149 : decode cX1_chance 149 = .ok (.getfield 1, 3) := dk_180 0 1 (dk_at dksX1_chance_6 8 rfl rfl)
theorem dX1_chance_152 : decode cX1_chance 152 = .ok (.getfield 68, 3) := dk_180 0 68 (dk_at dksX1_chance_6 11 rfl rfl)
theorem dX1_chance_155 : decode cX1_chance 155 = .ok (.invokevirtual 266, 3) := dk_182 1 10 (dk_at dksX1_chance_6 14 rfl rfl)
theorem dX1_chance_158 : decode cX1_chance 158 = .ok (.iaload, 1) := dk_46 (dk_at dksX1_chance_6 17 rfl rfl)
theorem dX1_chance_159 : decode cX1_chance 159 = .ok (.ireturn, 1) := dk_172 (dk_at dksX1_chance_6 18 rfl rfl)
abbrev cX1_meets : ByteArray := prog_1_method_53_code
def yX1_meets : MethodName := ⟨RX1, "meets", "()V"⟩
def dkwX1_meets_7 : List UInt8 := [160, 0, 10, 42, 21, 4, 3, 182, 1, 13, 132, 2, 1, 167, 255, 161, 132, 1, 1, 167, 255, 124, 177]
abbrev dktX1_meets_7 : List UInt8 := dkwX1_meets_7 ++ []
def dkwX1_meets_6 : List UInt8 := [180, 1, 16, 42, 180, 0, 213, 28, 46, 182, 1, 76, 54, 4, 42, 180, 0, 250, 21, 4, 46, 18, 253]
abbrev dktX1_meets_6 : List UInt8 := dkwX1_meets_6 ++ dktX1_meets_7
def dkwX1_meets_5 : List UInt8 := [182, 1, 13, 42, 180, 0, 213, 28, 46, 17, 39, 16, 108, 6, 159, 0, 6, 167, 0, 38, 42, 42]
abbrev dktX1_meets_5 : List UInt8 := dkwX1_meets_5 ++ dktX1_meets_6
def dkwX1_meets_4 : List UInt8 := [180, 0, 213, 28, 46, 182, 1, 23, 62, 42, 180, 0, 250, 29, 46, 18, 253, 160, 0, 9, 42, 29, 3]
abbrev dktX1_meets_4 : List UInt8 := dkwX1_meets_4 ++ dktX1_meets_5
def dkwX1_meets_3 : List UInt8 := [180, 1, 16, 182, 0, 232, 3, 61, 28, 42, 180, 0, 216, 162, 0, 93, 42, 42, 180, 1, 16, 42]
abbrev dktX1_meets_3 : List UInt8 := dkwX1_meets_3 ++ dktX1_meets_4
def dkwX1_meets_2 : List UInt8 := [42, 180, 1, 1, 162, 0, 130, 42, 180, 1, 16, 42, 180, 0, 254, 27, 46, 182, 1, 19, 42, 42]
abbrev dktX1_meets_2 : List UInt8 := dkwX1_meets_2 ++ dktX1_meets_3
def dkwX1_meets_1 : List UInt8 := [132, 1, 1, 167, 255, 238, 42, 42, 180, 0, 1, 180, 0, 68, 182, 1, 10, 3, 182, 1, 13, 3, 60, 27]
abbrev dktX1_meets_1 : List UInt8 := dkwX1_meets_1 ++ dktX1_meets_2
def dkwX1_meets_0 : List UInt8 := [42, 3, 181, 1, 1, 3, 60, 27, 17, 17, 148, 162, 0, 17, 42, 180, 0, 250, 27, 18, 253, 79]
abbrev dktX1_meets_0 : List UInt8 := dkwX1_meets_0 ++ dktX1_meets_1
theorem dksX1_meets_0 : cX1_meets.data.toList.drop 0 = dktX1_meets_0 := by decide +kernel
theorem dksX1_meets_1 : cX1_meets.data.toList.drop 22 = dktX1_meets_1 := dk_seg dksX1_meets_0 22 rfl rfl
theorem dksX1_meets_2 : cX1_meets.data.toList.drop 46 = dktX1_meets_2 := dk_seg dksX1_meets_1 24 rfl rfl
theorem dksX1_meets_3 : cX1_meets.data.toList.drop 68 = dktX1_meets_3 := dk_seg dksX1_meets_2 22 rfl rfl
theorem dksX1_meets_4 : cX1_meets.data.toList.drop 90 = dktX1_meets_4 := dk_seg dksX1_meets_3 22 rfl rfl
theorem dksX1_meets_5 : cX1_meets.data.toList.drop 113 = dktX1_meets_5 := dk_seg dksX1_meets_4 23 rfl rfl
theorem dksX1_meets_6 : cX1_meets.data.toList.drop 135 = dktX1_meets_6 := dk_seg dksX1_meets_5 22 rfl rfl
theorem dksX1_meets_7 : cX1_meets.data.toList.drop 158 = dktX1_meets_7 := dk_seg dksX1_meets_6 23 rfl rfl
theorem dX1_meets_0 : decode cX1_meets 0 = .ok (.aload_n 0, 1) := dk_42 (dk_at dksX1_meets_0 0 rfl rfl)
theorem dX1_meets_1 : decode cX1_meets 1 = .ok (.iconst 0, 1) := dk_3 (dk_at dksX1_meets_0 1 rfl rfl)
theorem dX1_meets_2 : decode cX1_meets 2 = .ok (.putfield 257, 3) := dk_181 1 1 (dk_at dksX1_meets_0 2 rfl rfl)
theorem dX1_meets_5 : decode cX1_meets 5 = .ok (.iconst 0, 1) := dk_3 (dk_at dksX1_meets_0 5 rfl rfl)
theorem dX1_meets_6 : decode cX1_meets 6 = .ok (.istore_n 1, 1) := dk_60 (dk_at dksX1_meets_0 6 rfl rfl)
theorem dX1_meets_7 : decode cX1_meets 7 = .ok (.iload_n 1, 1) := dk_27 (dk_at dksX1_meets_0 7 rfl rfl)
theorem dX1_meets_8 : decode cX1_meets 8 = .ok (.sipush 4500, 3) := dk_17 17 148 (dk_at dksX1_meets_0 8 rfl rfl)
theorem dX1_meets_11 : decode cX1_meets 11 = .ok (.if_icmp .ge 17, 3) := dk_162 0 17 (dk_at dksX1_meets_0 11 rfl rfl)
theorem dX1_meets_14 : decode cX1_meets 14 = .ok (.aload_n 0, 1) := dk_42 (dk_at dksX1_meets_0 14 rfl rfl)
theorem dX1_meets_15 : decode cX1_meets 15 = .ok (.getfield 250, 3) := dk_180 0 250 (dk_at dksX1_meets_0 15 rfl rfl)
theorem dX1_meets_18 : decode cX1_meets 18 = .ok (.iload_n 1, 1) := dk_27 (dk_at dksX1_meets_0 18 rfl rfl)
theorem dX1_meets_19 : decode cX1_meets 19 = .ok (.ldc 253, 2) := dk_18 253 (dk_at dksX1_meets_0 19 rfl rfl)
theorem dX1_meets_21 : decode cX1_meets 21 = .ok (.iastore, 1) := dk_79 (dk_at dksX1_meets_0 21 rfl rfl)
theorem dX1_meets_22 : decode cX1_meets 22 = .ok (.iinc 1 1, 3) := dk_132 1 1 (dk_at dksX1_meets_1 0 rfl rfl)
theorem dX1_meets_25 : decode cX1_meets 25 = .ok (.goto (-18), 3) := dk_167 255 238 (dk_at dksX1_meets_1 3 rfl rfl)
theorem dX1_meets_28 : decode cX1_meets 28 = .ok (.aload_n 0, 1) := dk_42 (dk_at dksX1_meets_1 6 rfl rfl)
theorem dX1_meets_29 : decode cX1_meets 29 = .ok (.aload_n 0, 1) := dk_42 (dk_at dksX1_meets_1 7 rfl rfl)
theorem dX1_meets_30 : decode cX1_meets 30 = .ok (.getfield 1, 3) := dk_180 0 1 (dk_at dksX1_meets_1 8 rfl rfl)
theorem dX1_meets_33 : decode cX1_meets 33 = .ok (.getfield 68, 3) := dk_180 0 68 (dk_at dksX1_meets_1 11 rfl rfl)
theorem dX1_meets_36 : decode cX1_meets 36 = .ok (.invokevirtual 266, 3) := dk_182 1 10 (dk_at dksX1_meets_1 14 rfl rfl)
theorem dX1_meets_39 : decode cX1_meets 39 = .ok (.iconst 0, 1) := dk_3 (dk_at dksX1_meets_1 17 rfl rfl)
theorem dX1_meets_40 : decode cX1_meets 40 = .ok (.invokevirtual 269, 3) := dk_182 1 13 (dk_at dksX1_meets_1 18 rfl rfl)
theorem dX1_meets_43 : decode cX1_meets 43 = .ok (.iconst 0, 1) := dk_3 (dk_at dksX1_meets_1 21 rfl rfl)
theorem dX1_meets_44 : decode cX1_meets 44 = .ok (.istore_n 1, 1) := dk_60 (dk_at dksX1_meets_1 22 rfl rfl)
theorem dX1_meets_45 : decode cX1_meets 45 = .ok (.iload_n 1, 1) := dk_27 (dk_at dksX1_meets_1 23 rfl rfl)
theorem dX1_meets_46 : decode cX1_meets 46 = .ok (.aload_n 0, 1) := dk_42 (dk_at dksX1_meets_2 0 rfl rfl)
theorem dX1_meets_47 : decode cX1_meets 47 = .ok (.getfield 257, 3) := dk_180 1 1 (dk_at dksX1_meets_2 1 rfl rfl)
theorem dX1_meets_50 : decode cX1_meets 50 = .ok (.if_icmp .ge 130, 3) := dk_162 0 130 (dk_at dksX1_meets_2 4 rfl rfl)
theorem dX1_meets_53 : decode cX1_meets 53 = .ok (.aload_n 0, 1) := dk_42 (dk_at dksX1_meets_2 7 rfl rfl)
theorem dX1_meets_54 : decode cX1_meets 54 = .ok (.getfield 272, 3) := dk_180 1 16 (dk_at dksX1_meets_2 8 rfl rfl)
theorem dX1_meets_57 : decode cX1_meets 57 = .ok (.aload_n 0, 1) := dk_42 (dk_at dksX1_meets_2 11 rfl rfl)
theorem dX1_meets_58 : decode cX1_meets 58 = .ok (.getfield 254, 3) := dk_180 0 254 (dk_at dksX1_meets_2 12 rfl rfl)
theorem dX1_meets_61 : decode cX1_meets 61 = .ok (.iload_n 1, 1) := dk_27 (dk_at dksX1_meets_2 15 rfl rfl)
theorem dX1_meets_62 : decode cX1_meets 62 = .ok (.iaload, 1) := dk_46 (dk_at dksX1_meets_2 16 rfl rfl)
theorem dX1_meets_63 : decode cX1_meets 63 = .ok (.invokevirtual 275, 3) := dk_182 1 19 (dk_at dksX1_meets_2 17 rfl rfl)
theorem dX1_meets_66 : decode cX1_meets 66 = .ok (.aload_n 0, 1) := dk_42 (dk_at dksX1_meets_2 20 rfl rfl)
theorem dX1_meets_67 : decode cX1_meets 67 = .ok (.aload_n 0, 1) := dk_42 (dk_at dksX1_meets_2 21 rfl rfl)
theorem dX1_meets_68 : decode cX1_meets 68 = .ok (.getfield 272, 3) := dk_180 1 16 (dk_at dksX1_meets_3 0 rfl rfl)
theorem dX1_meets_71 : decode cX1_meets 71 = .ok (.invokevirtual 232, 3) := dk_182 0 232 (dk_at dksX1_meets_3 3 rfl rfl)
theorem dX1_meets_74 : decode cX1_meets 74 = .ok (.iconst 0, 1) := dk_3 (dk_at dksX1_meets_3 6 rfl rfl)
theorem dX1_meets_75 : decode cX1_meets 75 = .ok (.istore_n 2, 1) := dk_61 (dk_at dksX1_meets_3 7 rfl rfl)
theorem dX1_meets_76 : decode cX1_meets 76 = .ok (.iload_n 2, 1) := dk_28 (dk_at dksX1_meets_3 8 rfl rfl)
theorem dX1_meets_77 : decode cX1_meets 77 = .ok (.aload_n 0, 1) := dk_42 (dk_at dksX1_meets_3 9 rfl rfl)
theorem dX1_meets_78 : decode cX1_meets 78 = .ok (.getfield 216, 3) := dk_180 0 216 (dk_at dksX1_meets_3 10 rfl rfl)
theorem dX1_meets_81 : decode cX1_meets 81 = .ok (.if_icmp .ge 93, 3) := dk_162 0 93 (dk_at dksX1_meets_3 13 rfl rfl)
theorem dX1_meets_84 : decode cX1_meets 84 = .ok (.aload_n 0, 1) := dk_42 (dk_at dksX1_meets_3 16 rfl rfl)
theorem dX1_meets_85 : decode cX1_meets 85 = .ok (.aload_n 0, 1) := dk_42 (dk_at dksX1_meets_3 17 rfl rfl)
theorem dX1_meets_86 : decode cX1_meets 86 = .ok (.getfield 272, 3) := dk_180 1 16 (dk_at dksX1_meets_3 18 rfl rfl)
theorem dX1_meets_89 : decode cX1_meets 89 = .ok (.aload_n 0, 1) := dk_42 (dk_at dksX1_meets_3 21 rfl rfl)
theorem dX1_meets_90 : decode cX1_meets 90 = .ok (.getfield 213, 3) := dk_180 0 213 (dk_at dksX1_meets_4 0 rfl rfl)
theorem dX1_meets_93 : decode cX1_meets 93 = .ok (.iload_n 2, 1) := dk_28 (dk_at dksX1_meets_4 3 rfl rfl)
theorem dX1_meets_94 : decode cX1_meets 94 = .ok (.iaload, 1) := dk_46 (dk_at dksX1_meets_4 4 rfl rfl)
theorem dX1_meets_95 : decode cX1_meets 95 = .ok (.invokevirtual 279, 3) := dk_182 1 23 (dk_at dksX1_meets_4 5 rfl rfl)
theorem dX1_meets_98 : decode cX1_meets 98 = .ok (.istore_n 3, 1) := dk_62 (dk_at dksX1_meets_4 8 rfl rfl)
theorem dX1_meets_99 : decode cX1_meets 99 = .ok (.aload_n 0, 1) := dk_42 (dk_at dksX1_meets_4 9 rfl rfl)
theorem dX1_meets_100 : decode cX1_meets 100 = .ok (.getfield 250, 3) := dk_180 0 250 (dk_at dksX1_meets_4 10 rfl rfl)
theorem dX1_meets_103 : decode cX1_meets 103 = .ok (.iload_n 3, 1) := dk_29 (dk_at dksX1_meets_4 13 rfl rfl)
theorem dX1_meets_104 : decode cX1_meets 104 = .ok (.iaload, 1) := dk_46 (dk_at dksX1_meets_4 14 rfl rfl)
theorem dX1_meets_105 : decode cX1_meets 105 = .ok (.ldc 253, 2) := dk_18 253 (dk_at dksX1_meets_4 15 rfl rfl)
theorem dX1_meets_107 : decode cX1_meets 107 = .ok (.if_icmp .ne 9, 3) := dk_160 0 9 (dk_at dksX1_meets_4 17 rfl rfl)
theorem dX1_meets_110 : decode cX1_meets 110 = .ok (.aload_n 0, 1) := dk_42 (dk_at dksX1_meets_4 20 rfl rfl)
theorem dX1_meets_111 : decode cX1_meets 111 = .ok (.iload_n 3, 1) := dk_29 (dk_at dksX1_meets_4 21 rfl rfl)
theorem dX1_meets_112 : decode cX1_meets 112 = .ok (.iconst 0, 1) := dk_3 (dk_at dksX1_meets_4 22 rfl rfl)
theorem dX1_meets_113 : decode cX1_meets 113 = .ok (.invokevirtual 269, 3) := dk_182 1 13 (dk_at dksX1_meets_5 0 rfl rfl)
theorem dX1_meets_116 : decode cX1_meets 116 = .ok (.aload_n 0, 1) := dk_42 (dk_at dksX1_meets_5 3 rfl rfl)
theorem dX1_meets_117 : decode cX1_meets 117 = .ok (.getfield 213, 3) := dk_180 0 213 (dk_at dksX1_meets_5 4 rfl rfl)
theorem dX1_meets_120 : decode cX1_meets 120 = .ok (.iload_n 2, 1) := dk_28 (dk_at dksX1_meets_5 7 rfl rfl)
theorem dX1_meets_121 : decode cX1_meets 121 = .ok (.iaload, 1) := dk_46 (dk_at dksX1_meets_5 8 rfl rfl)
theorem dX1_meets_122 : decode cX1_meets 122 = .ok (.sipush 10000, 3) := dk_17 39 16 (dk_at dksX1_meets_5 9 rfl rfl)
theorem dX1_meets_125 : decode cX1_meets 125 = .ok (.idiv, 1) := dk_108 (dk_at dksX1_meets_5 12 rfl rfl)
theorem dX1_meets_126 : decode cX1_meets 126 = .ok (.iconst 3, 1) := dk_6 (dk_at dksX1_meets_5 13 rfl rfl)
theorem dX1_meets_127 : decode cX1_meets 127 = .ok (.if_icmp .eq 6, 3) := dk_159 0 6 (dk_at dksX1_meets_5 14 rfl rfl)
theorem dX1_meets_130 : decode cX1_meets 130 = .ok (.goto 38, 3) := dk_167 0 38 (dk_at dksX1_meets_5 17 rfl rfl)
theorem dX1_meets_133 : decode cX1_meets 133 = .ok (.aload_n 0, 1) := dk_42 (dk_at dksX1_meets_5 20 rfl rfl)
theorem dX1_meets_134 : decode cX1_meets 134 = .ok (.aload_n 0, 1) := dk_42 (dk_at dksX1_meets_5 21 rfl rfl)
theorem dX1_meets_135 : decode cX1_meets 135 = .ok (.getfield 272, 3) := dk_180 1 16 (dk_at dksX1_meets_6 0 rfl rfl)
theorem dX1_meets_138 : decode cX1_meets 138 = .ok (.aload_n 0, 1) := dk_42 (dk_at dksX1_meets_6 3 rfl rfl)
theorem dX1_meets_139 : decode cX1_meets 139 = .ok (.getfield 213, 3) := dk_180 0 213 (dk_at dksX1_meets_6 4 rfl rfl)
theorem dX1_meets_142 : decode cX1_meets 142 = .ok (.iload_n 2, 1) := dk_28 (dk_at dksX1_meets_6 7 rfl rfl)
theorem dX1_meets_143 : decode cX1_meets 143 = .ok (.iaload, 1) := dk_46 (dk_at dksX1_meets_6 8 rfl rfl)
theorem dX1_meets_144 : decode cX1_meets 144 = .ok (.invokevirtual 332, 3) := dk_182 1 76 (dk_at dksX1_meets_6 9 rfl rfl)
theorem dX1_meets_147 : decode cX1_meets 147 = .ok (.istore 4, 2) := dk_54 4 (dk_at dksX1_meets_6 12 rfl rfl)
theorem dX1_meets_149 : decode cX1_meets 149 = .ok (.aload_n 0, 1) := dk_42 (dk_at dksX1_meets_6 14 rfl rfl)
theorem dX1_meets_150 : decode cX1_meets 150 = .ok (.getfield 250, 3) := dk_180 0 250 (dk_at dksX1_meets_6 15 rfl rfl)
theorem dX1_meets_153 : decode cX1_meets 153 = .ok (.iload 4, 2) := dk_21 4 (dk_at dksX1_meets_6 18 rfl rfl)
theorem dX1_meets_155 : decode cX1_meets 155 = .ok (.iaload, 1) := dk_46 (dk_at dksX1_meets_6 20 rfl rfl)
theorem dX1_meets_156 : decode cX1_meets 156 = .ok (.ldc 253, 2) := dk_18 253 (dk_at dksX1_meets_6 21 rfl rfl)
theorem dX1_meets_158 : decode cX1_meets 158 = .ok (.if_icmp .ne 10, 3) := dk_160 0 10 (dk_at dksX1_meets_7 0 rfl rfl)
theorem dX1_meets_161 : decode cX1_meets 161 = .ok (.aload_n 0, 1) := dk_42 (dk_at dksX1_meets_7 3 rfl rfl)
theorem dX1_meets_162 : decode cX1_meets 162 = .ok (.iload 4, 2) := dk_21 4 (dk_at dksX1_meets_7 4 rfl rfl)
theorem dX1_meets_164 : decode cX1_meets 164 = .ok (.iconst 0, 1) := dk_3 (dk_at dksX1_meets_7 6 rfl rfl)
theorem dX1_meets_165 : decode cX1_meets 165 = .ok (.invokevirtual 269, 3) := dk_182 1 13 (dk_at dksX1_meets_7 7 rfl rfl)
theorem dX1_meets_168 : decode cX1_meets 168 = .ok (.iinc 2 1, 3) := dk_132 2 1 (dk_at dksX1_meets_7 10 rfl rfl)
theorem dX1_meets_171 : decode cX1_meets 171 = .ok (.goto (-95), 3) := dk_167 255 161 (dk_at dksX1_meets_7 13 rfl rfl)
theorem dX1_meets_174 : decode cX1_meets 174 = .ok (.iinc 1 1, 3) := dk_132 1 1 (dk_at dksX1_meets_7 16 rfl rfl)
theorem dX1_meets_177 : decode cX1_meets 177 = .ok (.goto (-132), 3) := dk_167 255 124 (dk_at dksX1_meets_7 19 rfl rfl)
theorem dX1_meets_180 : decode cX1_meets 180 = .ok (.return_, 1) := dk_177 (dk_at dksX1_meets_7 22 rfl rfl)
abbrev cX1_caughtBehind : ByteArray := prog_1_method_52_code
def yX1_caughtBehind : MethodName := ⟨RX1, "caughtBehind", "(LDownRope$Spot;I)I"⟩
def dkwX1_caughtBehind_1 : List UInt8 := [180, 0, 80, 3, 8, 79, 42, 180, 1, 27, 180, 0, 80, 4, 8, 79, 42, 180, 1, 27, 182, 1, 10, 172]
abbrev dktX1_caughtBehind_1 : List UInt8 := dkwX1_caughtBehind_1 ++ []
def dkwX1_caughtBehind_0 : List UInt8 := [42, 180, 1, 27, 43, 182, 0, 240, 42, 28, 182, 0, 203, 42, 180, 1, 27, 182, 0, 209, 42, 180, 1, 27]
abbrev dktX1_caughtBehind_0 : List UInt8 := dkwX1_caughtBehind_0 ++ dktX1_caughtBehind_1
theorem dksX1_caughtBehind_0 : cX1_caughtBehind.data.toList.drop 0 = dktX1_caughtBehind_0 := by decide +kernel
theorem dksX1_caughtBehind_1 : cX1_caughtBehind.data.toList.drop 24 = dktX1_caughtBehind_1 := dk_seg dksX1_caughtBehind_0 24 rfl rfl
theorem dX1_caughtBehind_0 : decode cX1_caughtBehind 0 = .ok (.aload_n 0, 1) := dk_42 (dk_at dksX1_caughtBehind_0 0 rfl rfl)
theorem dX1_caughtBehind_1 : decode cX1_caughtBehind 1 = .ok (.getfield 283, 3) := dk_180 1 27 (dk_at dksX1_caughtBehind_0 1 rfl rfl)
theorem dX1_caughtBehind_4 : decode cX1_caughtBehind 4 = .ok (.aload_n 1, 1) := dk_43 (dk_at dksX1_caughtBehind_0 4 rfl rfl)
theorem dX1_caughtBehind_5 : decode cX1_caughtBehind 5 = .ok (.invokevirtual 240, 3) := dk_182 0 240 (dk_at dksX1_caughtBehind_0 5 rfl rfl)
theorem dX1_caughtBehind_8 : decode cX1_caughtBehind 8 = .ok (.aload_n 0, 1) := dk_42 (dk_at dksX1_caughtBehind_0 8 rfl rfl)
theorem dX1_caughtBehind_9 : decode cX1_caughtBehind 9 = .ok (.iload_n 2, 1) := dk_28 (dk_at dksX1_caughtBehind_0 9 rfl rfl)
theorem dX1_caughtBehind_10 : decode cX1_caughtBehind 10 = .ok (.invokevirtual 203, 3) := dk_182 0 203 (dk_at dksX1_caughtBehind_0 10 rfl rfl)
theorem dX1_caughtBehind_13 : decode cX1_caughtBehind 13 = .ok (.aload_n 0, 1) := dk_42 (dk_at dksX1_caughtBehind_0 13 rfl rfl)
theorem dX1_caughtBehind_14 : decode cX1_caughtBehind 14 = .ok (.getfield 283, 3) := dk_180 1 27 (dk_at dksX1_caughtBehind_0 14 rfl rfl)
theorem dX1_caughtBehind_17 : decode cX1_caughtBehind 17 = .ok (.invokevirtual 209, 3) := dk_182 0 209 (dk_at dksX1_caughtBehind_0 17 rfl rfl)
theorem dX1_caughtBehind_20 : decode cX1_caughtBehind 20 = .ok (.aload_n 0, 1) := dk_42 (dk_at dksX1_caughtBehind_0 20 rfl rfl)
theorem dX1_caughtBehind_21 : decode cX1_caughtBehind 21 = .ok (.getfield 283, 3) := dk_180 1 27 (dk_at dksX1_caughtBehind_0 21 rfl rfl)
theorem dX1_caughtBehind_24 : decode cX1_caughtBehind 24 = .ok (.getfield 80, 3) := dk_180 0 80 (dk_at dksX1_caughtBehind_1 0 rfl rfl)
theorem dX1_caughtBehind_27 : decode cX1_caughtBehind 27 = .ok (.iconst 0, 1) := dk_3 (dk_at dksX1_caughtBehind_1 3 rfl rfl)
theorem dX1_caughtBehind_28 : decode cX1_caughtBehind 28 = .ok (.iconst 5, 1) := dk_8 (dk_at dksX1_caughtBehind_1 4 rfl rfl)
theorem dX1_caughtBehind_29 : decode cX1_caughtBehind 29 = .ok (.iastore, 1) := dk_79 (dk_at dksX1_caughtBehind_1 5 rfl rfl)
theorem dX1_caughtBehind_30 : decode cX1_caughtBehind 30 = .ok (.aload_n 0, 1) := dk_42 (dk_at dksX1_caughtBehind_1 6 rfl rfl)
theorem dX1_caughtBehind_31 : decode cX1_caughtBehind 31 = .ok (.getfield 283, 3) := dk_180 1 27 (dk_at dksX1_caughtBehind_1 7 rfl rfl)
theorem dX1_caughtBehind_34 : decode cX1_caughtBehind 34 = .ok (.getfield 80, 3) := dk_180 0 80 (dk_at dksX1_caughtBehind_1 10 rfl rfl)
theorem dX1_caughtBehind_37 : decode cX1_caughtBehind 37 = .ok (.iconst 1, 1) := dk_4 (dk_at dksX1_caughtBehind_1 13 rfl rfl)
theorem dX1_caughtBehind_38 : decode cX1_caughtBehind 38 = .ok (.iconst 5, 1) := dk_8 (dk_at dksX1_caughtBehind_1 14 rfl rfl)
theorem dX1_caughtBehind_39 : decode cX1_caughtBehind 39 = .ok (.iastore, 1) := dk_79 (dk_at dksX1_caughtBehind_1 15 rfl rfl)
theorem dX1_caughtBehind_40 : decode cX1_caughtBehind 40 = .ok (.aload_n 0, 1) := dk_42 (dk_at dksX1_caughtBehind_1 16 rfl rfl)
theorem dX1_caughtBehind_41 : decode cX1_caughtBehind 41 = .ok (.getfield 283, 3) := dk_180 1 27 (dk_at dksX1_caughtBehind_1 17 rfl rfl)
theorem dX1_caughtBehind_44 : decode cX1_caughtBehind 44 = .ok (.invokevirtual 266, 3) := dk_182 1 10 (dk_at dksX1_caughtBehind_1 20 rfl rfl)
theorem dX1_caughtBehind_47 : decode cX1_caughtBehind 47 = .ok (.ireturn, 1) := dk_172 (dk_at dksX1_caughtBehind_1 23 rfl rfl)
abbrev cX1_surest : ByteArray := prog_1_method_54_code
def yX1_surest : MethodName := ⟨RX1, "surest", "(I)I"⟩
def dkwX1_surest_5 : List UInt8 := [132, 3, 1, 167, 255, 157, 28, 172]
abbrev dktX1_surest_5 : List UInt8 := dkwX1_surest_5 ++ []
def dkwX1_surest_4 : List UInt8 := [180, 0, 213, 29, 46, 182, 1, 76, 46, 104, 96, 16, 100, 108, 54, 4, 28, 21, 4, 184, 1, 82, 61]
abbrev dktX1_surest_4 : List UInt8 := dkwX1_surest_4 ++ dktX1_surest_5
def dkwX1_surest_3 : List UInt8 := [180, 0, 83, 100, 21, 4, 104, 42, 180, 0, 1, 180, 0, 83, 42, 180, 1, 79, 42, 42, 180, 1, 16, 42]
abbrev dktX1_surest_3 : List UInt8 := dkwX1_surest_3 ++ dktX1_surest_4
def dkwX1_surest_2 : List UInt8 := [46, 54, 4, 42, 180, 0, 213, 29, 46, 17, 39, 16, 108, 6, 160, 0, 49, 16, 100, 42, 180, 0, 1]
abbrev dktX1_surest_2 : List UInt8 := dkwX1_surest_2 ++ dktX1_surest_3
def dkwX1_surest_1 : List UInt8 := [180, 0, 216, 162, 0, 97, 42, 180, 1, 79, 42, 42, 180, 1, 16, 42, 180, 0, 213, 29, 46, 182, 1, 23]
abbrev dktX1_surest_1 : List UInt8 := dkwX1_surest_1 ++ dktX1_surest_2
def dkwX1_surest_0 : List UInt8 := [42, 180, 1, 16, 27, 182, 1, 19, 42, 42, 180, 1, 16, 182, 0, 232, 3, 61, 3, 62, 29, 42]
abbrev dktX1_surest_0 : List UInt8 := dkwX1_surest_0 ++ dktX1_surest_1
theorem dksX1_surest_0 : cX1_surest.data.toList.drop 0 = dktX1_surest_0 := by decide +kernel
theorem dksX1_surest_1 : cX1_surest.data.toList.drop 22 = dktX1_surest_1 := dk_seg dksX1_surest_0 22 rfl rfl
theorem dksX1_surest_2 : cX1_surest.data.toList.drop 46 = dktX1_surest_2 := dk_seg dksX1_surest_1 24 rfl rfl
theorem dksX1_surest_3 : cX1_surest.data.toList.drop 69 = dktX1_surest_3 := dk_seg dksX1_surest_2 23 rfl rfl
theorem dksX1_surest_4 : cX1_surest.data.toList.drop 93 = dktX1_surest_4 := dk_seg dksX1_surest_3 24 rfl rfl
theorem dksX1_surest_5 : cX1_surest.data.toList.drop 116 = dktX1_surest_5 := dk_seg dksX1_surest_4 23 rfl rfl
theorem dX1_surest_0 : decode cX1_surest 0 = .ok (.aload_n 0, 1) := dk_42 (dk_at dksX1_surest_0 0 rfl rfl)
theorem dX1_surest_1 : decode cX1_surest 1 = .ok (.getfield 272, 3) := dk_180 1 16 (dk_at dksX1_surest_0 1 rfl rfl)
theorem dX1_surest_4 : decode cX1_surest 4 = .ok (.iload_n 1, 1) := dk_27 (dk_at dksX1_surest_0 4 rfl rfl)
theorem dX1_surest_5 : decode cX1_surest 5 = .ok (.invokevirtual 275, 3) := dk_182 1 19 (dk_at dksX1_surest_0 5 rfl rfl)
theorem dX1_surest_8 : decode cX1_surest 8 = .ok (.aload_n 0, 1) := dk_42 (dk_at dksX1_surest_0 8 rfl rfl)
theorem dX1_surest_9 : decode cX1_surest 9 = .ok (.aload_n 0, 1) := dk_42 (dk_at dksX1_surest_0 9 rfl rfl)
theorem dX1_surest_10 : decode cX1_surest 10 = .ok (.getfield 272, 3) := dk_180 1 16 (dk_at dksX1_surest_0 10 rfl rfl)
theorem dX1_surest_13 : decode cX1_surest 13 = .ok (.invokevirtual 232, 3) := dk_182 0 232 (dk_at dksX1_surest_0 13 rfl rfl)
theorem dX1_surest_16 : decode cX1_surest 16 = .ok (.iconst 0, 1) := dk_3 (dk_at dksX1_surest_0 16 rfl rfl)
theorem dX1_surest_17 : decode cX1_surest 17 = .ok (.istore_n 2, 1) := dk_61 (dk_at dksX1_surest_0 17 rfl rfl)
theorem dX1_surest_18 : decode cX1_surest 18 = .ok (.iconst 0, 1) := dk_3 (dk_at dksX1_surest_0 18 rfl rfl)
theorem dX1_surest_19 : decode cX1_surest 19 = .ok (.istore_n 3, 1) := dk_62 (dk_at dksX1_surest_0 19 rfl rfl)
theorem dX1_surest_20 : decode cX1_surest 20 = .ok (.iload_n 3, 1) := dk_29 (dk_at dksX1_surest_0 20 rfl rfl)
theorem dX1_surest_21 : decode cX1_surest 21 = .ok (.aload_n 0, 1) := dk_42 (dk_at dksX1_surest_0 21 rfl rfl)
theorem dX1_surest_22 : decode cX1_surest 22 = .ok (.getfield 216, 3) := dk_180 0 216 (dk_at dksX1_surest_1 0 rfl rfl)
theorem dX1_surest_25 : decode cX1_surest 25 = .ok (.if_icmp .ge 97, 3) := dk_162 0 97 (dk_at dksX1_surest_1 3 rfl rfl)
theorem dX1_surest_28 : decode cX1_surest 28 = .ok (.aload_n 0, 1) := dk_42 (dk_at dksX1_surest_1 6 rfl rfl)
theorem dX1_surest_29 : decode cX1_surest 29 = .ok (.getfield 335, 3) := dk_180 1 79 (dk_at dksX1_surest_1 7 rfl rfl)
theorem dX1_surest_32 : decode cX1_surest 32 = .ok (.aload_n 0, 1) := dk_42 (dk_at dksX1_surest_1 10 rfl rfl)
theorem dX1_surest_33 : decode cX1_surest 33 = .ok (.aload_n 0, 1) := dk_42 (dk_at dksX1_surest_1 11 rfl rfl)
theorem dX1_surest_34 : decode cX1_surest 34 = .ok (.getfield 272, 3) := dk_180 1 16 (dk_at dksX1_surest_1 12 rfl rfl)
theorem dX1_surest_37 : decode cX1_surest 37 = .ok (.aload_n 0, 1) := dk_42 (dk_at dksX1_surest_1 15 rfl rfl)
theorem dX1_surest_38 : decode cX1_surest 38 = .ok (.getfield 213, 3) := dk_180 0 213 (dk_at dksX1_surest_1 16 rfl rfl)
theorem dX1_surest_41 : decode cX1_surest 41 = .ok (.iload_n 3, 1) := dk_29 (dk_at dksX1_surest_1 19 rfl rfl)
theorem dX1_surest_42 : decode cX1_surest 42 = .ok (.iaload, 1) := dk_46 (dk_at dksX1_surest_1 20 rfl rfl)
theorem dX1_surest_43 : decode cX1_surest 43 = .ok (.invokevirtual 279, 3) := dk_182 1 23 (dk_at dksX1_surest_1 21 rfl rfl)
theorem dX1_surest_46 : decode cX1_surest 46 = .ok (.iaload, 1) := dk_46 (dk_at dksX1_surest_2 0 rfl rfl)
theorem dX1_surest_47 : decode cX1_surest 47 = .ok (.istore 4, 2) := dk_54 4 (dk_at dksX1_surest_2 1 rfl rfl)
theorem dX1_surest_49 : decode cX1_surest 49 = .ok (.aload_n 0, 1) := dk_42 (dk_at dksX1_surest_2 3 rfl rfl)
theorem dX1_surest_50 : decode cX1_surest 50 = .ok (.getfield 213, 3) := dk_180 0 213 (dk_at dksX1_surest_2 4 rfl rfl)
theorem dX1_surest_53 : decode cX1_surest 53 = .ok (.iload_n 3, 1) := dk_29 (dk_at dksX1_surest_2 7 rfl rfl)
theorem dX1_surest_54 : decode cX1_surest 54 = .ok (.iaload, 1) := dk_46 (dk_at dksX1_surest_2 8 rfl rfl)
theorem dX1_surest_55 : decode cX1_surest 55 = .ok (.sipush 10000, 3) := dk_17 39 16 (dk_at dksX1_surest_2 9 rfl rfl)
theorem dX1_surest_58 : decode cX1_surest 58 = .ok (.idiv, 1) := dk_108 (dk_at dksX1_surest_2 12 rfl rfl)
theorem dX1_surest_59 : decode cX1_surest 59 = .ok (.iconst 3, 1) := dk_6 (dk_at dksX1_surest_2 13 rfl rfl)
theorem dX1_surest_60 : decode cX1_surest 60 = .ok (.if_icmp .ne 49, 3) := dk_160 0 49 (dk_at dksX1_surest_2 14 rfl rfl)
theorem dX1_surest_63 : decode cX1_surest 63 = .ok (.bipush 100, 2) := dk_16 100 (dk_at dksX1_surest_2 17 rfl rfl)
theorem dX1_surest_65 : decode cX1_surest 65 = .ok (.aload_n 0, 1) := dk_42 (dk_at dksX1_surest_2 19 rfl rfl)
theorem dX1_surest_66 : decode cX1_surest 66 = .ok (.getfield 1, 3) := dk_180 0 1 (dk_at dksX1_surest_2 20 rfl rfl)
theorem dX1_surest_69 : decode cX1_surest 69 = .ok (.getfield 83, 3) := dk_180 0 83 (dk_at dksX1_surest_3 0 rfl rfl)
theorem dX1_surest_72 : decode cX1_surest 72 = .ok (.isub, 1) := dk_100 (dk_at dksX1_surest_3 3 rfl rfl)
theorem dX1_surest_73 : decode cX1_surest 73 = .ok (.iload 4, 2) := dk_21 4 (dk_at dksX1_surest_3 4 rfl rfl)
theorem dX1_surest_75 : decode cX1_surest 75 = .ok (.imul, 1) := dk_104 (dk_at dksX1_surest_3 6 rfl rfl)
theorem dX1_surest_76 : decode cX1_surest 76 = .ok (.aload_n 0, 1) := dk_42 (dk_at dksX1_surest_3 7 rfl rfl)
theorem dX1_surest_77 : decode cX1_surest 77 = .ok (.getfield 1, 3) := dk_180 0 1 (dk_at dksX1_surest_3 8 rfl rfl)
theorem dX1_surest_80 : decode cX1_surest 80 = .ok (.getfield 83, 3) := dk_180 0 83 (dk_at dksX1_surest_3 11 rfl rfl)
theorem dX1_surest_83 : decode cX1_surest 83 = .ok (.aload_n 0, 1) := dk_42 (dk_at dksX1_surest_3 14 rfl rfl)
theorem dX1_surest_84 : decode cX1_surest 84 = .ok (.getfield 335, 3) := dk_180 1 79 (dk_at dksX1_surest_3 15 rfl rfl)
theorem dX1_surest_87 : decode cX1_surest 87 = .ok (.aload_n 0, 1) := dk_42 (dk_at dksX1_surest_3 18 rfl rfl)
theorem dX1_surest_88 : decode cX1_surest 88 = .ok (.aload_n 0, 1) := dk_42 (dk_at dksX1_surest_3 19 rfl rfl)
theorem dX1_surest_89 : decode cX1_surest 89 = .ok (.getfield 272, 3) := dk_180 1 16 (dk_at dksX1_surest_3 20 rfl rfl)
theorem dX1_surest_92 : decode cX1_surest 92 = .ok (.aload_n 0, 1) := dk_42 (dk_at dksX1_surest_3 23 rfl rfl)
theorem dX1_surest_93 : decode cX1_surest 93 = .ok (.getfield 213, 3) := dk_180 0 213 (dk_at dksX1_surest_4 0 rfl rfl)
theorem dX1_surest_96 : decode cX1_surest 96 = .ok (.iload_n 3, 1) := dk_29 (dk_at dksX1_surest_4 3 rfl rfl)
theorem dX1_surest_97 : decode cX1_surest 97 = .ok (.iaload, 1) := dk_46 (dk_at dksX1_surest_4 4 rfl rfl)
theorem dX1_surest_98 : decode cX1_surest 98 = .ok (.invokevirtual 332, 3) := dk_182 1 76 (dk_at dksX1_surest_4 5 rfl rfl)
theorem dX1_surest_101 : decode cX1_surest 101 = .ok (.iaload, 1) := dk_46 (dk_at dksX1_surest_4 8 rfl rfl)
theorem dX1_surest_102 : decode cX1_surest 102 = .ok (.imul, 1) := dk_104 (dk_at dksX1_surest_4 9 rfl rfl)
theorem dX1_surest_103 : decode cX1_surest 103 = .ok (.iadd, 1) := dk_96 (dk_at dksX1_surest_4 10 rfl rfl)
theorem dX1_surest_104 : decode cX1_surest 104 = .ok (.bipush 100, 2) := dk_16 100 (dk_at dksX1_surest_4 11 rfl rfl)
theorem dX1_surest_106 : decode cX1_surest 106 = .ok (.idiv, 1) := dk_108 (dk_at dksX1_surest_4 13 rfl rfl)
theorem dX1_surest_107 : decode cX1_surest 107 = .ok (.istore 4, 2) := dk_54 4 (dk_at dksX1_surest_4 14 rfl rfl)
theorem dX1_surest_109 : decode cX1_surest 109 = .ok (.iload_n 2, 1) := dk_28 (dk_at dksX1_surest_4 16 rfl rfl)
theorem dX1_surest_110 : decode cX1_surest 110 = .ok (.iload 4, 2) := dk_21 4 (dk_at dksX1_surest_4 17 rfl rfl)
theorem dX1_surest_112 : decode cX1_surest 112 = .ok (.invokestatic 338, 3) := dk_184 1 82 (dk_at dksX1_surest_4 19 rfl rfl)
theorem dX1_surest_115 : decode cX1_surest 115 = .ok (.istore_n 2, 1) := dk_61 (dk_at dksX1_surest_4 22 rfl rfl)
theorem dX1_surest_116 : decode cX1_surest 116 = .ok (.iinc 3 1, 3) := dk_132 3 1 (dk_at dksX1_surest_5 0 rfl rfl)
theorem dX1_surest_119 : decode cX1_surest 119 = .ok (.goto (-99), 3) := dk_167 255 157 (dk_at dksX1_surest_5 3 rfl rfl)
theorem dX1_surest_122 : decode cX1_surest 122 = .ok (.iload_n 2, 1) := dk_28 (dk_at dksX1_surest_5 6 rfl rfl)
theorem dX1_surest_123 : decode cX1_surest 123 = .ok (.ireturn, 1) := dk_172 (dk_at dksX1_surest_5 7 rfl rfl)
abbrev cX1_states : ByteArray := prog_1_method_56_code
def yX1_states : MethodName := ⟨RX1, "states", "()I"⟩
def dkwX1_states_0 : List UInt8 := [42, 182, 1, 37, 42, 180, 1, 1, 172]
abbrev dktX1_states_0 : List UInt8 := dkwX1_states_0 ++ []
theorem dksX1_states_0 : cX1_states.data.toList.drop 0 = dktX1_states_0 := by decide +kernel
theorem dX1_states_0 : decode cX1_states 0 = .ok (.aload_n 0, 1) := dk_42 (dk_at dksX1_states_0 0 rfl rfl)
theorem dX1_states_1 : decode cX1_states 1 = .ok (.invokevirtual 293, 3) := dk_182 1 37 (dk_at dksX1_states_0 1 rfl rfl)
theorem dX1_states_4 : decode cX1_states 4 = .ok (.aload_n 0, 1) := dk_42 (dk_at dksX1_states_0 4 rfl rfl)
theorem dX1_states_5 : decode cX1_states 5 = .ok (.getfield 257, 3) := dk_180 1 1 (dk_at dksX1_states_0 5 rfl rfl)
theorem dX1_states_8 : decode cX1_states 8 = .ok (.ireturn, 1) := dk_172 (dk_at dksX1_states_0 8 rfl rfl)
abbrev cX1_hurt : ByteArray := prog_1_method_57_code
def yX1_hurt : MethodName := ⟨RX1, "hurt", "(II)I"⟩
def dkwX1_hurt_2 : List UInt8 := [180, 0, 65, 27, 29, 79, 42, 182, 1, 40, 172]
abbrev dktX1_hurt_2 : List UInt8 := dkwX1_hurt_2 ++ []
def dkwX1_hurt_1 : List UInt8 := [180, 0, 65, 27, 46, 62, 42, 180, 0, 1, 180, 0, 65, 27, 28, 79, 42, 182, 1, 37, 42, 180, 0, 1]
abbrev dktX1_hurt_1 : List UInt8 := dkwX1_hurt_1 ++ dktX1_hurt_2
def dkwX1_hurt_0 : List UInt8 := [42, 27, 182, 0, 185, 153, 0, 12, 28, 3, 5, 184, 0, 13, 154, 0, 5, 2, 172, 42, 180, 0, 1]
abbrev dktX1_hurt_0 : List UInt8 := dkwX1_hurt_0 ++ dktX1_hurt_1
theorem dksX1_hurt_0 : cX1_hurt.data.toList.drop 0 = dktX1_hurt_0 := by decide +kernel
theorem dksX1_hurt_1 : cX1_hurt.data.toList.drop 23 = dktX1_hurt_1 := dk_seg dksX1_hurt_0 23 rfl rfl
theorem dksX1_hurt_2 : cX1_hurt.data.toList.drop 47 = dktX1_hurt_2 := dk_seg dksX1_hurt_1 24 rfl rfl
theorem dX1_hurt_0 : decode cX1_hurt 0 = .ok (.aload_n 0, 1) := dk_42 (dk_at dksX1_hurt_0 0 rfl rfl)
theorem dX1_hurt_1 : decode cX1_hurt 1 = .ok (.iload_n 1, 1) := dk_27 (dk_at dksX1_hurt_0 1 rfl rfl)
theorem dX1_hurt_2 : decode cX1_hurt 2 = .ok (.invokevirtual 185, 3) := dk_182 0 185 (dk_at dksX1_hurt_0 2 rfl rfl)
theorem dX1_hurt_5 : decode cX1_hurt 5 = .ok (.ifCond .eq 12, 3) := dk_153 0 12 (dk_at dksX1_hurt_0 5 rfl rfl)
theorem dX1_hurt_8 : decode cX1_hurt 8 = .ok (.iload_n 2, 1) := dk_28 (dk_at dksX1_hurt_0 8 rfl rfl)
theorem dX1_hurt_9 : decode cX1_hurt 9 = .ok (.iconst 0, 1) := dk_3 (dk_at dksX1_hurt_0 9 rfl rfl)
theorem dX1_hurt_10 : decode cX1_hurt 10 = .ok (.iconst 2, 1) := dk_5 (dk_at dksX1_hurt_0 10 rfl rfl)
theorem dX1_hurt_11 : decode cX1_hurt 11 = .ok (.invokestatic 13, 3) := dk_184 0 13 (dk_at dksX1_hurt_0 11 rfl rfl)
theorem dX1_hurt_14 : decode cX1_hurt 14 = .ok (.ifCond .ne 5, 3) := dk_154 0 5 (dk_at dksX1_hurt_0 14 rfl rfl)
theorem dX1_hurt_17 : decode cX1_hurt 17 = .ok (.iconst (-1), 1) := dk_2 (dk_at dksX1_hurt_0 17 rfl rfl)
theorem dX1_hurt_18 : decode cX1_hurt 18 = .ok (.ireturn, 1) := dk_172 (dk_at dksX1_hurt_0 18 rfl rfl)
theorem dX1_hurt_19 : decode cX1_hurt 19 = .ok (.aload_n 0, 1) := dk_42 (dk_at dksX1_hurt_0 19 rfl rfl)
theorem dX1_hurt_20 : decode cX1_hurt 20 = .ok (.getfield 1, 3) := dk_180 0 1 (dk_at dksX1_hurt_0 20 rfl rfl)
theorem dX1_hurt_23 : decode cX1_hurt 23 = .ok (.getfield 65, 3) := dk_180 0 65 (dk_at dksX1_hurt_1 0 rfl rfl)
theorem dX1_hurt_26 : decode cX1_hurt 26 = .ok (.iload_n 1, 1) := dk_27 (dk_at dksX1_hurt_1 3 rfl rfl)
theorem dX1_hurt_27 : decode cX1_hurt 27 = .ok (.iaload, 1) := dk_46 (dk_at dksX1_hurt_1 4 rfl rfl)
theorem dX1_hurt_28 : decode cX1_hurt 28 = .ok (.istore_n 3, 1) := dk_62 (dk_at dksX1_hurt_1 5 rfl rfl)
theorem dX1_hurt_29 : decode cX1_hurt 29 = .ok (.aload_n 0, 1) := dk_42 (dk_at dksX1_hurt_1 6 rfl rfl)
theorem dX1_hurt_30 : decode cX1_hurt 30 = .ok (.getfield 1, 3) := dk_180 0 1 (dk_at dksX1_hurt_1 7 rfl rfl)
theorem dX1_hurt_33 : decode cX1_hurt 33 = .ok (.getfield 65, 3) := dk_180 0 65 (dk_at dksX1_hurt_1 10 rfl rfl)
theorem dX1_hurt_36 : decode cX1_hurt 36 = .ok (.iload_n 1, 1) := dk_27 (dk_at dksX1_hurt_1 13 rfl rfl)
theorem dX1_hurt_37 : decode cX1_hurt 37 = .ok (.iload_n 2, 1) := dk_28 (dk_at dksX1_hurt_1 14 rfl rfl)
theorem dX1_hurt_38 : decode cX1_hurt 38 = .ok (.iastore, 1) := dk_79 (dk_at dksX1_hurt_1 15 rfl rfl)
theorem dX1_hurt_39 : decode cX1_hurt 39 = .ok (.aload_n 0, 1) := dk_42 (dk_at dksX1_hurt_1 16 rfl rfl)
theorem dX1_hurt_40 : decode cX1_hurt 40 = .ok (.invokevirtual 293, 3) := dk_182 1 37 (dk_at dksX1_hurt_1 17 rfl rfl)
theorem dX1_hurt_43 : decode cX1_hurt 43 = .ok (.aload_n 0, 1) := dk_42 (dk_at dksX1_hurt_1 20 rfl rfl)
theorem dX1_hurt_44 : decode cX1_hurt 44 = .ok (.getfield 1, 3) := dk_180 0 1 (dk_at dksX1_hurt_1 21 rfl rfl)
theorem dX1_hurt_47 : decode cX1_hurt 47 = .ok (.getfield 65, 3) := dk_180 0 65 (dk_at dksX1_hurt_2 0 rfl rfl)
theorem dX1_hurt_50 : decode cX1_hurt 50 = .ok (.iload_n 1, 1) := dk_27 (dk_at dksX1_hurt_2 3 rfl rfl)
theorem dX1_hurt_51 : decode cX1_hurt 51 = .ok (.iload_n 3, 1) := dk_29 (dk_at dksX1_hurt_2 4 rfl rfl)
theorem dX1_hurt_52 : decode cX1_hurt 52 = .ok (.iastore, 1) := dk_79 (dk_at dksX1_hurt_2 5 rfl rfl)
theorem dX1_hurt_53 : decode cX1_hurt 53 = .ok (.aload_n 0, 1) := dk_42 (dk_at dksX1_hurt_2 6 rfl rfl)
theorem dX1_hurt_54 : decode cX1_hurt 54 = .ok (.invokevirtual 296, 3) := dk_182 1 40 (dk_at dksX1_hurt_2 7 rfl rfl)
theorem dX1_hurt_57 : decode cX1_hurt 57 = .ok (.ireturn, 1) := dk_172 (dk_at dksX1_hurt_2 10 rfl rfl)
abbrev cX1_image : ByteArray := prog_1_method_58_code
def yX1_image : MethodName := ⟨RX1, "image", "()I"⟩
def dkwX1_image_0 : List UInt8 := [42, 180, 1, 92, 42, 180, 0, 1, 182, 0, 143, 42, 4, 181, 1, 95, 42, 180, 0, 1, 180, 0, 44, 172]
abbrev dktX1_image_0 : List UInt8 := dkwX1_image_0 ++ []
theorem dksX1_image_0 : cX1_image.data.toList.drop 0 = dktX1_image_0 := by decide +kernel
theorem dX1_image_0 : decode cX1_image 0 = .ok (.aload_n 0, 1) := dk_42 (dk_at dksX1_image_0 0 rfl rfl)
theorem dX1_image_1 : decode cX1_image 1 = .ok (.getfield 348, 3) := dk_180 1 92 (dk_at dksX1_image_0 1 rfl rfl)
theorem dX1_image_4 : decode cX1_image 4 = .ok (.aload_n 0, 1) := dk_42 (dk_at dksX1_image_0 4 rfl rfl)
theorem dX1_image_5 : decode cX1_image 5 = .ok (.getfield 1, 3) := dk_180 0 1 (dk_at dksX1_image_0 5 rfl rfl)
theorem dX1_image_8 : decode cX1_image 8 = .ok (.invokevirtual 143, 3) := dk_182 0 143 (dk_at dksX1_image_0 8 rfl rfl)
theorem dX1_image_11 : decode cX1_image 11 = .ok (.aload_n 0, 1) := dk_42 (dk_at dksX1_image_0 11 rfl rfl)
theorem dX1_image_12 : decode cX1_image 12 = .ok (.iconst 1, 1) := dk_4 (dk_at dksX1_image_0 12 rfl rfl)
theorem dX1_image_13 : decode cX1_image 13 = .ok (.putfield 351, 3) := dk_181 1 95 (dk_at dksX1_image_0 13 rfl rfl)
theorem dX1_image_16 : decode cX1_image 16 = .ok (.aload_n 0, 1) := dk_42 (dk_at dksX1_image_0 16 rfl rfl)
theorem dX1_image_17 : decode cX1_image 17 = .ok (.getfield 1, 3) := dk_180 0 1 (dk_at dksX1_image_0 17 rfl rfl)
theorem dX1_image_20 : decode cX1_image 20 = .ok (.getfield 44, 3) := dk_180 0 44 (dk_at dksX1_image_0 20 rfl rfl)
theorem dX1_image_23 : decode cX1_image 23 = .ok (.ireturn, 1) := dk_172 (dk_at dksX1_image_0 23 rfl rfl)
abbrev cX1_restore : ByteArray := prog_1_method_59_code
def yX1_restore : MethodName := ⟨RX1, "restore", "()I"⟩
def dkwX1_restore_1 : List UInt8 := [180, 0, 1, 180, 0, 44, 172]
abbrev dktX1_restore_1 : List UInt8 := dkwX1_restore_1 ++ []
def dkwX1_restore_0 : List UInt8 := [42, 180, 1, 95, 154, 0, 6, 16, 253, 172, 42, 180, 0, 1, 42, 180, 1, 92, 182, 0, 143, 42]
abbrev dktX1_restore_0 : List UInt8 := dkwX1_restore_0 ++ dktX1_restore_1
theorem dksX1_restore_0 : cX1_restore.data.toList.drop 0 = dktX1_restore_0 := by decide +kernel
theorem dksX1_restore_1 : cX1_restore.data.toList.drop 22 = dktX1_restore_1 := dk_seg dksX1_restore_0 22 rfl rfl
theorem dX1_restore_0 : decode cX1_restore 0 = .ok (.aload_n 0, 1) := dk_42 (dk_at dksX1_restore_0 0 rfl rfl)
theorem dX1_restore_1 : decode cX1_restore 1 = .ok (.getfield 351, 3) := dk_180 1 95 (dk_at dksX1_restore_0 1 rfl rfl)
theorem dX1_restore_4 : decode cX1_restore 4 = .ok (.ifCond .ne 6, 3) := dk_154 0 6 (dk_at dksX1_restore_0 4 rfl rfl)
theorem dX1_restore_7 : decode cX1_restore 7 = .ok (.bipush (-3), 2) := dk_16 253 (dk_at dksX1_restore_0 7 rfl rfl)
theorem dX1_restore_9 : decode cX1_restore 9 = .ok (.ireturn, 1) := dk_172 (dk_at dksX1_restore_0 9 rfl rfl)
theorem dX1_restore_10 : decode cX1_restore 10 = .ok (.aload_n 0, 1) := dk_42 (dk_at dksX1_restore_0 10 rfl rfl)
theorem dX1_restore_11 : decode cX1_restore 11 = .ok (.getfield 1, 3) := dk_180 0 1 (dk_at dksX1_restore_0 11 rfl rfl)
theorem dX1_restore_14 : decode cX1_restore 14 = .ok (.aload_n 0, 1) := dk_42 (dk_at dksX1_restore_0 14 rfl rfl)
theorem dX1_restore_15 : decode cX1_restore 15 = .ok (.getfield 348, 3) := dk_180 1 92 (dk_at dksX1_restore_0 15 rfl rfl)
theorem dX1_restore_18 : decode cX1_restore 18 = .ok (.invokevirtual 143, 3) := dk_182 0 143 (dk_at dksX1_restore_0 18 rfl rfl)
theorem dX1_restore_21 : decode cX1_restore 21 = .ok (.aload_n 0, 1) := dk_42 (dk_at dksX1_restore_0 21 rfl rfl)
theorem dX1_restore_22 : decode cX1_restore 22 = .ok (.getfield 1, 3) := dk_180 0 1 (dk_at dksX1_restore_1 0 rfl rfl)
theorem dX1_restore_25 : decode cX1_restore 25 = .ok (.getfield 44, 3) := dk_180 0 44 (dk_at dksX1_restore_1 3 rfl rfl)
theorem dX1_restore_28 : decode cX1_restore 28 = .ok (.ireturn, 1) := dk_172 (dk_at dksX1_restore_1 6 rfl rfl)
abbrev cX1_count : ByteArray := prog_1_method_60_code
def yX1_count : MethodName := ⟨RX1, "count", "(I)I"⟩
def dkwX1_count_5 : List UInt8 := [132, 3, 1, 167, 255, 230, 28, 172, 2, 172]
abbrev dktX1_count_5 : List UInt8 := dkwX1_count_5 ++ []
def dkwX1_count_4 : List UInt8 := [62, 29, 42, 180, 0, 1, 182, 0, 178, 162, 0, 21, 28, 42, 180, 0, 1, 180, 0, 54, 29, 46, 96, 61]
abbrev dktX1_count_4 : List UInt8 := dkwX1_count_4 ++ dktX1_count_5
def dkwX1_count_3 : List UInt8 := [42, 42, 180, 0, 1, 180, 0, 68, 182, 1, 10, 182, 1, 50, 172, 42, 180, 0, 1, 180, 0, 170, 172, 3]
abbrev dktX1_count_3 : List UInt8 := dkwX1_count_3 ++ dktX1_count_4
def dkwX1_count_2 : List UInt8 := [42, 180, 0, 1, 180, 0, 44, 172, 42, 180, 0, 1, 180, 0, 7, 172, 42, 180, 0, 1, 180, 0, 17, 172]
abbrev dktX1_count_2 : List UInt8 := dkwX1_count_2 ++ dktX1_count_3
def dkwX1_count_1 : List UInt8 := [170, 0, 0, 0, 117, 0, 0, 0, 0, 0, 0, 0, 5, 0, 0, 0, 37, 0, 0, 0, 45, 0, 0, 0, 53, 0, 0, 0, 61, 0, 0, 0, 76, 0, 0, 0, 84]
abbrev dktX1_count_1 : List UInt8 := dkwX1_count_1 ++ dktX1_count_2
def dkwX1_count_0 : List UInt8 := [3, 61, 27]
abbrev dktX1_count_0 : List UInt8 := dkwX1_count_0 ++ dktX1_count_1
theorem dksX1_count_0 : cX1_count.data.toList.drop 0 = dktX1_count_0 := by decide +kernel
theorem dksX1_count_1 : cX1_count.data.toList.drop 3 = dktX1_count_1 := dk_seg dksX1_count_0 3 rfl rfl
theorem dksX1_count_2 : cX1_count.data.toList.drop 40 = dktX1_count_2 := dk_seg dksX1_count_1 37 rfl rfl
theorem dksX1_count_3 : cX1_count.data.toList.drop 64 = dktX1_count_3 := dk_seg dksX1_count_2 24 rfl rfl
theorem dksX1_count_4 : cX1_count.data.toList.drop 88 = dktX1_count_4 := dk_seg dksX1_count_3 24 rfl rfl
theorem dksX1_count_5 : cX1_count.data.toList.drop 112 = dktX1_count_5 := dk_seg dksX1_count_4 24 rfl rfl
theorem dX1_count_0 : decode cX1_count 0 = .ok (.iconst 0, 1) := dk_3 (dk_at dksX1_count_0 0 rfl rfl)
theorem dX1_count_1 : decode cX1_count 1 = .ok (.istore_n 2, 1) := dk_61 (dk_at dksX1_count_0 1 rfl rfl)
theorem dX1_count_2 : decode cX1_count 2 = .ok (.iload_n 1, 1) := dk_27 (dk_at dksX1_count_0 2 rfl rfl)
theorem dX1_count_3 : decode cX1_count 3 = .ok (.tableswitch 117 0 5 #[37, 45, 53, 61, 76, 84], 37) := by decide +kernel
theorem dX1_count_40 : decode cX1_count 40 = .ok (.aload_n 0, 1) := dk_42 (dk_at dksX1_count_2 0 rfl rfl)
theorem dX1_count_41 : decode cX1_count 41 = .ok (.getfield 1, 3) := dk_180 0 1 (dk_at dksX1_count_2 1 rfl rfl)
theorem dX1_count_44 : decode cX1_count 44 = .ok (.getfield 44, 3) := dk_180 0 44 (dk_at dksX1_count_2 4 rfl rfl)
theorem dX1_count_47 : decode cX1_count 47 = .ok (.ireturn, 1) := dk_172 (dk_at dksX1_count_2 7 rfl rfl)
theorem dX1_count_48 : decode cX1_count 48 = .ok (.aload_n 0, 1) := dk_42 (dk_at dksX1_count_2 8 rfl rfl)
theorem dX1_count_49 : decode cX1_count 49 = .ok (.getfield 1, 3) := dk_180 0 1 (dk_at dksX1_count_2 9 rfl rfl)
theorem dX1_count_52 : decode cX1_count 52 = .ok (.getfield 7, 3) := dk_180 0 7 (dk_at dksX1_count_2 12 rfl rfl)
theorem dX1_count_55 : decode cX1_count 55 = .ok (.ireturn, 1) := dk_172 (dk_at dksX1_count_2 15 rfl rfl)
theorem dX1_count_56 : decode cX1_count 56 = .ok (.aload_n 0, 1) := dk_42 (dk_at dksX1_count_2 16 rfl rfl)
theorem dX1_count_57 : decode cX1_count 57 = .ok (.getfield 1, 3) := dk_180 0 1 (dk_at dksX1_count_2 17 rfl rfl)
theorem dX1_count_60 : decode cX1_count 60 = .ok (.getfield 17, 3) := dk_180 0 17 (dk_at dksX1_count_2 20 rfl rfl)
theorem dX1_count_63 : decode cX1_count 63 = .ok (.ireturn, 1) := dk_172 (dk_at dksX1_count_2 23 rfl rfl)
theorem dX1_count_64 : decode cX1_count 64 = .ok (.aload_n 0, 1) := dk_42 (dk_at dksX1_count_3 0 rfl rfl)
theorem dX1_count_65 : decode cX1_count 65 = .ok (.aload_n 0, 1) := dk_42 (dk_at dksX1_count_3 1 rfl rfl)
theorem dX1_count_66 : decode cX1_count 66 = .ok (.getfield 1, 3) := dk_180 0 1 (dk_at dksX1_count_3 2 rfl rfl)
theorem dX1_count_69 : decode cX1_count 69 = .ok (.getfield 68, 3) := dk_180 0 68 (dk_at dksX1_count_3 5 rfl rfl)
theorem dX1_count_72 : decode cX1_count 72 = .ok (.invokevirtual 266, 3) := dk_182 1 10 (dk_at dksX1_count_3 8 rfl rfl)
theorem dX1_count_75 : decode cX1_count 75 = .ok (.invokevirtual 306, 3) := dk_182 1 50 (dk_at dksX1_count_3 11 rfl rfl)
theorem dX1_count_78 : decode cX1_count 78 = .ok (.ireturn, 1) := dk_172 (dk_at dksX1_count_3 14 rfl rfl)
theorem dX1_count_79 : decode cX1_count 79 = .ok (.aload_n 0, 1) := dk_42 (dk_at dksX1_count_3 15 rfl rfl)
theorem dX1_count_80 : decode cX1_count 80 = .ok (.getfield 1, 3) := dk_180 0 1 (dk_at dksX1_count_3 16 rfl rfl)
theorem dX1_count_83 : decode cX1_count 83 = .ok (.getfield 170, 3) := dk_180 0 170 (dk_at dksX1_count_3 19 rfl rfl)
theorem dX1_count_86 : decode cX1_count 86 = .ok (.ireturn, 1) := dk_172 (dk_at dksX1_count_3 22 rfl rfl)
theorem dX1_count_87 : decode cX1_count 87 = .ok (.iconst 0, 1) := dk_3 (dk_at dksX1_count_3 23 rfl rfl)
theorem dX1_count_88 : decode cX1_count 88 = .ok (.istore_n 3, 1) := dk_62 (dk_at dksX1_count_4 0 rfl rfl)
theorem dX1_count_89 : decode cX1_count 89 = .ok (.iload_n 3, 1) := dk_29 (dk_at dksX1_count_4 1 rfl rfl)
theorem dX1_count_90 : decode cX1_count 90 = .ok (.aload_n 0, 1) := dk_42 (dk_at dksX1_count_4 2 rfl rfl)
theorem dX1_count_91 : decode cX1_count 91 = .ok (.getfield 1, 3) := dk_180 0 1 (dk_at dksX1_count_4 3 rfl rfl)
theorem dX1_count_94 : decode cX1_count 94 = .ok (.invokevirtual 178, 3) := dk_182 0 178 (dk_at dksX1_count_4 6 rfl rfl)
theorem dX1_count_97 : decode cX1_count 97 = .ok (.if_icmp .ge 21, 3) := dk_162 0 21 (dk_at dksX1_count_4 9 rfl rfl)
theorem dX1_count_100 : decode cX1_count 100 = .ok (.iload_n 2, 1) := dk_28 (dk_at dksX1_count_4 12 rfl rfl)
theorem dX1_count_101 : decode cX1_count 101 = .ok (.aload_n 0, 1) := dk_42 (dk_at dksX1_count_4 13 rfl rfl)
theorem dX1_count_102 : decode cX1_count 102 = .ok (.getfield 1, 3) := dk_180 0 1 (dk_at dksX1_count_4 14 rfl rfl)
theorem dX1_count_105 : decode cX1_count 105 = .ok (.getfield 54, 3) := dk_180 0 54 (dk_at dksX1_count_4 17 rfl rfl)
theorem dX1_count_108 : decode cX1_count 108 = .ok (.iload_n 3, 1) := dk_29 (dk_at dksX1_count_4 20 rfl rfl)
theorem dX1_count_109 : decode cX1_count 109 = .ok (.iaload, 1) := dk_46 (dk_at dksX1_count_4 21 rfl rfl)
theorem dX1_count_110 : decode cX1_count 110 = .ok (.iadd, 1) := dk_96 (dk_at dksX1_count_4 22 rfl rfl)
theorem dX1_count_111 : decode cX1_count 111 = .ok (.istore_n 2, 1) := dk_61 (dk_at dksX1_count_4 23 rfl rfl)
theorem dX1_count_112 : decode cX1_count 112 = .ok (.iinc 3 1, 3) := dk_132 3 1 (dk_at dksX1_count_5 0 rfl rfl)
theorem dX1_count_115 : decode cX1_count 115 = .ok (.goto (-26), 3) := dk_167 255 230 (dk_at dksX1_count_5 3 rfl rfl)
theorem dX1_count_118 : decode cX1_count 118 = .ok (.iload_n 2, 1) := dk_28 (dk_at dksX1_count_5 6 rfl rfl)
theorem dX1_count_119 : decode cX1_count 119 = .ok (.ireturn, 1) := dk_172 (dk_at dksX1_count_5 7 rfl rfl)
theorem dX1_count_120 : decode cX1_count 120 = .ok (.iconst (-1), 1) := dk_2 (dk_at dksX1_count_5 8 rfl rfl)
theorem dX1_count_121 : decode cX1_count 121 = .ok (.ireturn, 1) := dk_172 (dk_at dksX1_count_5 9 rfl rfl)
abbrev cX1_init : ByteArray := prog_1_method_61_code
def yX1_init : MethodName := ⟨RX1, "<init>", "()V"⟩
def dkwX1_init_9 : List UInt8 := [177]
abbrev dktX1_init_9 : List UInt8 := dkwX1_init_9 ++ []
def dkwX1_init_8 : List UInt8 := [3, 60, 27, 16, 7, 162, 0, 19, 42, 180, 0, 192, 27, 27, 184, 1, 104, 83, 132, 1, 1, 167, 255, 237]
abbrev dktX1_init_8 : List UInt8 := dkwX1_init_8 ++ dktX1_init_9
def dkwX1_init_7 : List UInt8 := [16, 8, 162, 0, 22, 42, 180, 0, 122, 27, 187, 0, 127, 89, 183, 1, 103, 83, 132, 1, 1, 167, 255, 234]
abbrev dktX1_init_7 : List UInt8 := dkwX1_init_7 ++ dktX1_init_8
def dkwX1_init_6 : List UInt8 := [181, 1, 60, 42, 17, 17, 148, 188, 10, 181, 1, 79, 42, 16, 8, 189, 0, 127, 181, 0, 122, 3, 60, 27]
abbrev dktX1_init_6 : List UInt8 := dkwX1_init_6 ++ dktX1_init_7
def dkwX1_init_5 : List UInt8 := [183, 1, 49, 181, 1, 16, 42, 187, 0, 73, 89, 183, 1, 49, 181, 1, 27, 42, 17, 17, 148, 188, 4]
abbrev dktX1_init_5 : List UInt8 := dkwX1_init_5 ++ dktX1_init_6
def dkwX1_init_4 : List UInt8 := [42, 17, 17, 148, 188, 4, 181, 1, 4, 42, 17, 17, 148, 188, 10, 181, 1, 7, 42, 187, 0, 73, 89]
abbrev dktX1_init_4 : List UInt8 := dkwX1_init_4 ++ dktX1_init_5
def dkwX1_init_3 : List UInt8 := [183, 1, 49, 181, 0, 239, 42, 17, 17, 148, 188, 10, 181, 0, 250, 42, 17, 17, 148, 188, 10, 181, 0, 254]
abbrev dktX1_init_3 : List UInt8 := dkwX1_init_3 ++ dktX1_init_4
def dkwX1_init_2 : List UInt8 := [17, 1, 144, 188, 10, 181, 0, 213, 42, 17, 1, 144, 188, 10, 181, 0, 221, 42, 187, 0, 73, 89]
abbrev dktX1_init_2 : List UInt8 := dkwX1_init_2 ++ dktX1_init_3
def dkwX1_init_1 : List UInt8 := [181, 0, 140, 42, 187, 0, 8, 89, 183, 1, 102, 181, 1, 92, 42, 16, 7, 189, 0, 20, 181, 0, 192, 42]
abbrev dktX1_init_1 : List UInt8 := dkwX1_init_1 ++ dktX1_init_2
def dkwX1_init_0 : List UInt8 := [42, 183, 1, 99, 42, 187, 0, 8, 89, 183, 1, 102, 181, 0, 1, 42, 187, 0, 8, 89, 183, 1, 102]
abbrev dktX1_init_0 : List UInt8 := dkwX1_init_0 ++ dktX1_init_1
theorem dksX1_init_0 : cX1_init.data.toList.drop 0 = dktX1_init_0 := by decide +kernel
theorem dksX1_init_1 : cX1_init.data.toList.drop 23 = dktX1_init_1 := dk_seg dksX1_init_0 23 rfl rfl
theorem dksX1_init_2 : cX1_init.data.toList.drop 47 = dktX1_init_2 := dk_seg dksX1_init_1 24 rfl rfl
theorem dksX1_init_3 : cX1_init.data.toList.drop 69 = dktX1_init_3 := dk_seg dksX1_init_2 22 rfl rfl
theorem dksX1_init_4 : cX1_init.data.toList.drop 93 = dktX1_init_4 := dk_seg dksX1_init_3 24 rfl rfl
theorem dksX1_init_5 : cX1_init.data.toList.drop 116 = dktX1_init_5 := dk_seg dksX1_init_4 23 rfl rfl
theorem dksX1_init_6 : cX1_init.data.toList.drop 139 = dktX1_init_6 := dk_seg dksX1_init_5 23 rfl rfl
theorem dksX1_init_7 : cX1_init.data.toList.drop 163 = dktX1_init_7 := dk_seg dksX1_init_6 24 rfl rfl
theorem dksX1_init_8 : cX1_init.data.toList.drop 187 = dktX1_init_8 := dk_seg dksX1_init_7 24 rfl rfl
theorem dksX1_init_9 : cX1_init.data.toList.drop 211 = dktX1_init_9 := dk_seg dksX1_init_8 24 rfl rfl
theorem dX1_init_0 : decode cX1_init 0 = .ok (.aload_n 0, 1) := dk_42 (dk_at dksX1_init_0 0 rfl rfl)
theorem dX1_init_1 : decode cX1_init 1 = .ok (.invokespecial 355, 3) := dk_183 1 99 (dk_at dksX1_init_0 1 rfl rfl)
theorem dX1_init_4 : decode cX1_init 4 = .ok (.aload_n 0, 1) := dk_42 (dk_at dksX1_init_0 4 rfl rfl)
theorem dX1_init_5 : decode cX1_init 5 = .ok (.new 8, 3) := dk_187 0 8 (dk_at dksX1_init_0 5 rfl rfl)
theorem dX1_init_8 : decode cX1_init 8 = .ok (.dup, 1) := dk_89 (dk_at dksX1_init_0 8 rfl rfl)
theorem dX1_init_9 : decode cX1_init 9 = .ok (.invokespecial 358, 3) := dk_183 1 102 (dk_at dksX1_init_0 9 rfl rfl)
theorem dX1_init_12 : decode cX1_init 12 = .ok (.putfield 1, 3) := dk_181 0 1 (dk_at dksX1_init_0 12 rfl rfl)
theorem dX1_init_15 : decode cX1_init 15 = .ok (.aload_n 0, 1) := dk_42 (dk_at dksX1_init_0 15 rfl rfl)
theorem dX1_init_16 : decode cX1_init 16 = .ok (.new 8, 3) := dk_187 0 8 (dk_at dksX1_init_0 16 rfl rfl)
theorem dX1_init_19 : decode cX1_init 19 = .ok (.dup, 1) := dk_89 (dk_at dksX1_init_0 19 rfl rfl)
theorem dX1_init_20 : decode cX1_init 20 = .ok (.invokespecial 358, 3) := dk_183 1 102 (dk_at dksX1_init_0 20 rfl rfl)
theorem dX1_init_23 : decode cX1_init 23 = .ok (.putfield 140, 3) := dk_181 0 140 (dk_at dksX1_init_1 0 rfl rfl)
theorem dX1_init_26 : decode cX1_init 26 = .ok (.aload_n 0, 1) := dk_42 (dk_at dksX1_init_1 3 rfl rfl)
theorem dX1_init_27 : decode cX1_init 27 = .ok (.new 8, 3) := dk_187 0 8 (dk_at dksX1_init_1 4 rfl rfl)
theorem dX1_init_30 : decode cX1_init 30 = .ok (.dup, 1) := dk_89 (dk_at dksX1_init_1 7 rfl rfl)
theorem dX1_init_31 : decode cX1_init 31 = .ok (.invokespecial 358, 3) := dk_183 1 102 (dk_at dksX1_init_1 8 rfl rfl)
theorem dX1_init_34 : decode cX1_init 34 = .ok (.putfield 348, 3) := dk_181 1 92 (dk_at dksX1_init_1 11 rfl rfl)
theorem dX1_init_37 : decode cX1_init 37 = .ok (.aload_n 0, 1) := dk_42 (dk_at dksX1_init_1 14 rfl rfl)
theorem dX1_init_38 : decode cX1_init 38 = .ok (.bipush 7, 2) := dk_16 7 (dk_at dksX1_init_1 15 rfl rfl)
theorem dX1_init_40 : decode cX1_init 40 = .ok (.anewarray 20, 3) := dk_189 0 20 (dk_at dksX1_init_1 17 rfl rfl)
theorem dX1_init_43 : decode cX1_init 43 = .ok (.putfield 192, 3) := dk_181 0 192 (dk_at dksX1_init_1 20 rfl rfl)
theorem dX1_init_46 : decode cX1_init 46 = .ok (.aload_n 0, 1) := dk_42 (dk_at dksX1_init_1 23 rfl rfl)
theorem dX1_init_47 : decode cX1_init 47 = .ok (.sipush 400, 3) := dk_17 1 144 (dk_at dksX1_init_2 0 rfl rfl)
theorem dX1_init_50 : decode cX1_init 50 = .ok (.newarray .int, 2) := dk_188_10 (dk_at dksX1_init_2 3 rfl rfl)
theorem dX1_init_52 : decode cX1_init 52 = .ok (.putfield 213, 3) := dk_181 0 213 (dk_at dksX1_init_2 5 rfl rfl)
theorem dX1_init_55 : decode cX1_init 55 = .ok (.aload_n 0, 1) := dk_42 (dk_at dksX1_init_2 8 rfl rfl)
theorem dX1_init_56 : decode cX1_init 56 = .ok (.sipush 400, 3) := dk_17 1 144 (dk_at dksX1_init_2 9 rfl rfl)
theorem dX1_init_59 : decode cX1_init 59 = .ok (.newarray .int, 2) := dk_188_10 (dk_at dksX1_init_2 12 rfl rfl)
theorem dX1_init_61 : decode cX1_init 61 = .ok (.putfield 221, 3) := dk_181 0 221 (dk_at dksX1_init_2 14 rfl rfl)
theorem dX1_init_64 : decode cX1_init 64 = .ok (.aload_n 0, 1) := dk_42 (dk_at dksX1_init_2 17 rfl rfl)
theorem dX1_init_65 : decode cX1_init 65 = .ok (.new 73, 3) := dk_187 0 73 (dk_at dksX1_init_2 18 rfl rfl)
theorem dX1_init_68 : decode cX1_init 68 = .ok (.dup, 1) := dk_89 (dk_at dksX1_init_2 21 rfl rfl)
theorem dX1_init_69 : decode cX1_init 69 = .ok (.invokespecial 305, 3) := dk_183 1 49 (dk_at dksX1_init_3 0 rfl rfl)
theorem dX1_init_72 : decode cX1_init 72 = .ok (.putfield 239, 3) := dk_181 0 239 (dk_at dksX1_init_3 3 rfl rfl)
theorem dX1_init_75 : decode cX1_init 75 = .ok (.aload_n 0, 1) := dk_42 (dk_at dksX1_init_3 6 rfl rfl)
theorem dX1_init_76 : decode cX1_init 76 = .ok (.sipush 4500, 3) := dk_17 17 148 (dk_at dksX1_init_3 7 rfl rfl)
theorem dX1_init_79 : decode cX1_init 79 = .ok (.newarray .int, 2) := dk_188_10 (dk_at dksX1_init_3 10 rfl rfl)
theorem dX1_init_81 : decode cX1_init 81 = .ok (.putfield 250, 3) := dk_181 0 250 (dk_at dksX1_init_3 12 rfl rfl)
theorem dX1_init_84 : decode cX1_init 84 = .ok (.aload_n 0, 1) := dk_42 (dk_at dksX1_init_3 15 rfl rfl)
theorem dX1_init_85 : decode cX1_init 85 = .ok (.sipush 4500, 3) := dk_17 17 148 (dk_at dksX1_init_3 16 rfl rfl)
theorem dX1_init_88 : decode cX1_init 88 = .ok (.newarray .int, 2) := dk_188_10 (dk_at dksX1_init_3 19 rfl rfl)
theorem dX1_init_90 : decode cX1_init 90 = .ok (.putfield 254, 3) := dk_181 0 254 (dk_at dksX1_init_3 21 rfl rfl)
theorem dX1_init_93 : decode cX1_init 93 = .ok (.aload_n 0, 1) := dk_42 (dk_at dksX1_init_4 0 rfl rfl)
theorem dX1_init_94 : decode cX1_init 94 = .ok (.sipush 4500, 3) := dk_17 17 148 (dk_at dksX1_init_4 1 rfl rfl)
theorem dX1_init_97 : decode cX1_init 97 = .ok (.newarray .boolean, 2) := dk_188_4 (dk_at dksX1_init_4 4 rfl rfl)
theorem dX1_init_99 : decode cX1_init 99 = .ok (.putfield 260, 3) := dk_181 1 4 (dk_at dksX1_init_4 6 rfl rfl)
theorem dX1_init_102 : decode cX1_init 102 = .ok (.aload_n 0, 1) := dk_42 (dk_at dksX1_init_4 9 rfl rfl)
theorem dX1_init_103 : decode cX1_init 103 = .ok (.sipush 4500, 3) := dk_17 17 148 (dk_at dksX1_init_4 10 rfl rfl)
theorem dX1_init_106 : decode cX1_init 106 = .ok (.newarray .int, 2) := dk_188_10 (dk_at dksX1_init_4 13 rfl rfl)
theorem dX1_init_108 : decode cX1_init 108 = .ok (.putfield 263, 3) := dk_181 1 7 (dk_at dksX1_init_4 15 rfl rfl)
theorem dX1_init_111 : decode cX1_init 111 = .ok (.aload_n 0, 1) := dk_42 (dk_at dksX1_init_4 18 rfl rfl)
theorem dX1_init_112 : decode cX1_init 112 = .ok (.new 73, 3) := dk_187 0 73 (dk_at dksX1_init_4 19 rfl rfl)
theorem dX1_init_115 : decode cX1_init 115 = .ok (.dup, 1) := dk_89 (dk_at dksX1_init_4 22 rfl rfl)
theorem dX1_init_116 : decode cX1_init 116 = .ok (.invokespecial 305, 3) := dk_183 1 49 (dk_at dksX1_init_5 0 rfl rfl)
theorem dX1_init_119 : decode cX1_init 119 = .ok (.putfield 272, 3) := dk_181 1 16 (dk_at dksX1_init_5 3 rfl rfl)
theorem dX1_init_122 : decode cX1_init 122 = .ok (.aload_n 0, 1) := dk_42 (dk_at dksX1_init_5 6 rfl rfl)
theorem dX1_init_123 : decode cX1_init 123 = .ok (.new 73, 3) := dk_187 0 73 (dk_at dksX1_init_5 7 rfl rfl)
theorem dX1_init_126 : decode cX1_init 126 = .ok (.dup, 1) := dk_89 (dk_at dksX1_init_5 10 rfl rfl)
theorem dX1_init_127 : decode cX1_init 127 = .ok (.invokespecial 305, 3) := dk_183 1 49 (dk_at dksX1_init_5 11 rfl rfl)
theorem dX1_init_130 : decode cX1_init 130 = .ok (.putfield 283, 3) := dk_181 1 27 (dk_at dksX1_init_5 14 rfl rfl)
theorem dX1_init_133 : decode cX1_init 133 = .ok (.aload_n 0, 1) := dk_42 (dk_at dksX1_init_5 17 rfl rfl)
theorem dX1_init_134 : decode cX1_init 134 = .ok (.sipush 4500, 3) := dk_17 17 148 (dk_at dksX1_init_5 18 rfl rfl)
theorem dX1_init_137 : decode cX1_init 137 = .ok (.newarray .boolean, 2) := dk_188_4 (dk_at dksX1_init_5 21 rfl rfl)
theorem dX1_init_139 : decode cX1_init 139 = .ok (.putfield 316, 3) := dk_181 1 60 (dk_at dksX1_init_6 0 rfl rfl)
theorem dX1_init_142 : decode cX1_init 142 = .ok (.aload_n 0, 1) := dk_42 (dk_at dksX1_init_6 3 rfl rfl)
theorem dX1_init_143 : decode cX1_init 143 = .ok (.sipush 4500, 3) := dk_17 17 148 (dk_at dksX1_init_6 4 rfl rfl)
theorem dX1_init_146 : decode cX1_init 146 = .ok (.newarray .int, 2) := dk_188_10 (dk_at dksX1_init_6 7 rfl rfl)
theorem dX1_init_148 : decode cX1_init 148 = .ok (.putfield 335, 3) := dk_181 1 79 (dk_at dksX1_init_6 9 rfl rfl)
theorem dX1_init_151 : decode cX1_init 151 = .ok (.aload_n 0, 1) := dk_42 (dk_at dksX1_init_6 12 rfl rfl)
theorem dX1_init_152 : decode cX1_init 152 = .ok (.bipush 8, 2) := dk_16 8 (dk_at dksX1_init_6 13 rfl rfl)
theorem dX1_init_154 : decode cX1_init 154 = .ok (.anewarray 127, 3) := dk_189 0 127 (dk_at dksX1_init_6 15 rfl rfl)
theorem dX1_init_157 : decode cX1_init 157 = .ok (.putfield 122, 3) := dk_181 0 122 (dk_at dksX1_init_6 18 rfl rfl)
theorem dX1_init_160 : decode cX1_init 160 = .ok (.iconst 0, 1) := dk_3 (dk_at dksX1_init_6 21 rfl rfl)
theorem dX1_init_161 : decode cX1_init 161 = .ok (.istore_n 1, 1) := dk_60 (dk_at dksX1_init_6 22 rfl rfl)
theorem dX1_init_162 : decode cX1_init 162 = .ok (.iload_n 1, 1) := dk_27 (dk_at dksX1_init_6 23 rfl rfl)
theorem dX1_init_163 : decode cX1_init 163 = .ok (.bipush 8, 2) := dk_16 8 (dk_at dksX1_init_7 0 rfl rfl)
theorem dX1_init_165 : decode cX1_init 165 = .ok (.if_icmp .ge 22, 3) := dk_162 0 22 (dk_at dksX1_init_7 2 rfl rfl)
theorem dX1_init_168 : decode cX1_init 168 = .ok (.aload_n 0, 1) := dk_42 (dk_at dksX1_init_7 5 rfl rfl)
theorem dX1_init_169 : decode cX1_init 169 = .ok (.getfield 122, 3) := dk_180 0 122 (dk_at dksX1_init_7 6 rfl rfl)
theorem dX1_init_172 : decode cX1_init 172 = .ok (.iload_n 1, 1) := dk_27 (dk_at dksX1_init_7 9 rfl rfl)
theorem dX1_init_173 : decode cX1_init 173 = .ok (.new 127, 3) := dk_187 0 127 (dk_at dksX1_init_7 10 rfl rfl)
theorem dX1_init_176 : decode cX1_init 176 = .ok (.dup, 1) := dk_89 (dk_at dksX1_init_7 13 rfl rfl)
theorem dX1_init_177 : decode cX1_init 177 = .ok (.invokespecial 359, 3) := dk_183 1 103 (dk_at dksX1_init_7 14 rfl rfl)
theorem dX1_init_180 : decode cX1_init 180 = .ok (.aastore, 1) := dk_83 (dk_at dksX1_init_7 17 rfl rfl)
theorem dX1_init_181 : decode cX1_init 181 = .ok (.iinc 1 1, 3) := dk_132 1 1 (dk_at dksX1_init_7 18 rfl rfl)
theorem dX1_init_184 : decode cX1_init 184 = .ok (.goto (-22), 3) := dk_167 255 234 (dk_at dksX1_init_7 21 rfl rfl)
theorem dX1_init_187 : decode cX1_init 187 = .ok (.iconst 0, 1) := dk_3 (dk_at dksX1_init_8 0 rfl rfl)
theorem dX1_init_188 : decode cX1_init 188 = .ok (.istore_n 1, 1) := dk_60 (dk_at dksX1_init_8 1 rfl rfl)
theorem dX1_init_189 : decode cX1_init 189 = .ok (.iload_n 1, 1) := dk_27 (dk_at dksX1_init_8 2 rfl rfl)
theorem dX1_init_190 : decode cX1_init 190 = .ok (.bipush 7, 2) := dk_16 7 (dk_at dksX1_init_8 3 rfl rfl)
theorem dX1_init_192 : decode cX1_init 192 = .ok (.if_icmp .ge 19, 3) := dk_162 0 19 (dk_at dksX1_init_8 5 rfl rfl)
theorem dX1_init_195 : decode cX1_init 195 = .ok (.aload_n 0, 1) := dk_42 (dk_at dksX1_init_8 8 rfl rfl)
theorem dX1_init_196 : decode cX1_init 196 = .ok (.getfield 192, 3) := dk_180 0 192 (dk_at dksX1_init_8 9 rfl rfl)
theorem dX1_init_199 : decode cX1_init 199 = .ok (.iload_n 1, 1) := dk_27 (dk_at dksX1_init_8 12 rfl rfl)
theorem dX1_init_200 : decode cX1_init 200 = .ok (.iload_n 1, 1) := dk_27 (dk_at dksX1_init_8 13 rfl rfl)
theorem dX1_init_201 : decode cX1_init 201 = .ok (.invokestatic 360, 3) := dk_184 1 104 (dk_at dksX1_init_8 14 rfl rfl)
theorem dX1_init_204 : decode cX1_init 204 = .ok (.aastore, 1) := dk_83 (dk_at dksX1_init_8 17 rfl rfl)
theorem dX1_init_205 : decode cX1_init 205 = .ok (.iinc 1 1, 3) := dk_132 1 1 (dk_at dksX1_init_8 18 rfl rfl)
theorem dX1_init_208 : decode cX1_init 208 = .ok (.goto (-19), 3) := dk_167 255 237 (dk_at dksX1_init_8 21 rfl rfl)
theorem dX1_init_211 : decode cX1_init 211 = .ok (.return_, 1) := dk_177 (dk_at dksX1_init_9 0 rfl rfl)
abbrev cX1_moveOf : ByteArray := prog_1_method_5_code
def yX1_moveOf : MethodName := ⟨RX1, "moveOf", "(I)LDownRope$Move;"⟩
def dkwX1_moveOf_4 : List UInt8 := [187, 0, 41, 89, 183, 0, 43, 176]
abbrev dktX1_moveOf_4 : List UInt8 := dkwX1_moveOf_4 ++ []
def dkwX1_moveOf_3 : List UInt8 := [187, 0, 32, 89, 183, 0, 34, 176, 187, 0, 35, 89, 183, 0, 37, 176, 187, 0, 38, 89, 183, 0, 40, 176]
abbrev dktX1_moveOf_3 : List UInt8 := dkwX1_moveOf_3 ++ dktX1_moveOf_4
def dkwX1_moveOf_2 : List UInt8 := [187, 0, 20, 89, 183, 0, 22, 176, 187, 0, 26, 89, 183, 0, 28, 176, 187, 0, 29, 89, 183, 0, 31, 176]
abbrev dktX1_moveOf_2 : List UInt8 := dkwX1_moveOf_2 ++ dktX1_moveOf_3
def dkwX1_moveOf_1 : List UInt8 := [170, 0, 0, 0, 0, 0, 87, 0, 0, 0, 0, 0, 0, 0, 5, 0, 0, 0, 39, 0, 0, 0, 47, 0, 0, 0, 55, 0, 0, 0, 63, 0, 0, 0, 71, 0, 0, 0, 79]
abbrev dktX1_moveOf_1 : List UInt8 := dkwX1_moveOf_1 ++ dktX1_moveOf_2
def dkwX1_moveOf_0 : List UInt8 := [26]
abbrev dktX1_moveOf_0 : List UInt8 := dkwX1_moveOf_0 ++ dktX1_moveOf_1
theorem dksX1_moveOf_0 : cX1_moveOf.data.toList.drop 0 = dktX1_moveOf_0 := by decide +kernel
theorem dksX1_moveOf_1 : cX1_moveOf.data.toList.drop 1 = dktX1_moveOf_1 := dk_seg dksX1_moveOf_0 1 rfl rfl
theorem dksX1_moveOf_2 : cX1_moveOf.data.toList.drop 40 = dktX1_moveOf_2 := dk_seg dksX1_moveOf_1 39 rfl rfl
theorem dksX1_moveOf_3 : cX1_moveOf.data.toList.drop 64 = dktX1_moveOf_3 := dk_seg dksX1_moveOf_2 24 rfl rfl
theorem dksX1_moveOf_4 : cX1_moveOf.data.toList.drop 88 = dktX1_moveOf_4 := dk_seg dksX1_moveOf_3 24 rfl rfl
theorem dX1_moveOf_0 : decode cX1_moveOf 0 = .ok (.iload_n 0, 1) := dk_26 (dk_at dksX1_moveOf_0 0 rfl rfl)
theorem dX1_moveOf_1 : decode cX1_moveOf 1 = .ok (.tableswitch 87 0 5 #[39, 47, 55, 63, 71, 79], 39) := by decide +kernel
theorem dX1_moveOf_40 : decode cX1_moveOf 40 = .ok (.new 20, 3) := dk_187 0 20 (dk_at dksX1_moveOf_2 0 rfl rfl)
theorem dX1_moveOf_43 : decode cX1_moveOf 43 = .ok (.dup, 1) := dk_89 (dk_at dksX1_moveOf_2 3 rfl rfl)
theorem dX1_moveOf_44 : decode cX1_moveOf 44 = .ok (.invokespecial 22, 3) := dk_183 0 22 (dk_at dksX1_moveOf_2 4 rfl rfl)
theorem dX1_moveOf_47 : decode cX1_moveOf 47 = .ok (.areturn, 1) := dk_176 (dk_at dksX1_moveOf_2 7 rfl rfl)
theorem dX1_moveOf_48 : decode cX1_moveOf 48 = .ok (.new 26, 3) := dk_187 0 26 (dk_at dksX1_moveOf_2 8 rfl rfl)
theorem dX1_moveOf_51 : decode cX1_moveOf 51 = .ok (.dup, 1) := dk_89 (dk_at dksX1_moveOf_2 11 rfl rfl)
theorem dX1_moveOf_52 : decode cX1_moveOf 52 = .ok (.invokespecial 28, 3) := dk_183 0 28 (dk_at dksX1_moveOf_2 12 rfl rfl)
theorem dX1_moveOf_55 : decode cX1_moveOf 55 = .ok (.areturn, 1) := dk_176 (dk_at dksX1_moveOf_2 15 rfl rfl)
theorem dX1_moveOf_56 : decode cX1_moveOf 56 = .ok (.new 29, 3) := dk_187 0 29 (dk_at dksX1_moveOf_2 16 rfl rfl)
theorem dX1_moveOf_59 : decode cX1_moveOf 59 = .ok (.dup, 1) := dk_89 (dk_at dksX1_moveOf_2 19 rfl rfl)
theorem dX1_moveOf_60 : decode cX1_moveOf 60 = .ok (.invokespecial 31, 3) := dk_183 0 31 (dk_at dksX1_moveOf_2 20 rfl rfl)
theorem dX1_moveOf_63 : decode cX1_moveOf 63 = .ok (.areturn, 1) := dk_176 (dk_at dksX1_moveOf_2 23 rfl rfl)
theorem dX1_moveOf_64 : decode cX1_moveOf 64 = .ok (.new 32, 3) := dk_187 0 32 (dk_at dksX1_moveOf_3 0 rfl rfl)
theorem dX1_moveOf_67 : decode cX1_moveOf 67 = .ok (.dup, 1) := dk_89 (dk_at dksX1_moveOf_3 3 rfl rfl)
theorem dX1_moveOf_68 : decode cX1_moveOf 68 = .ok (.invokespecial 34, 3) := dk_183 0 34 (dk_at dksX1_moveOf_3 4 rfl rfl)
theorem dX1_moveOf_71 : decode cX1_moveOf 71 = .ok (.areturn, 1) := dk_176 (dk_at dksX1_moveOf_3 7 rfl rfl)
theorem dX1_moveOf_72 : decode cX1_moveOf 72 = .ok (.new 35, 3) := dk_187 0 35 (dk_at dksX1_moveOf_3 8 rfl rfl)
theorem dX1_moveOf_75 : decode cX1_moveOf 75 = .ok (.dup, 1) := dk_89 (dk_at dksX1_moveOf_3 11 rfl rfl)
theorem dX1_moveOf_76 : decode cX1_moveOf 76 = .ok (.invokespecial 37, 3) := dk_183 0 37 (dk_at dksX1_moveOf_3 12 rfl rfl)
theorem dX1_moveOf_79 : decode cX1_moveOf 79 = .ok (.areturn, 1) := dk_176 (dk_at dksX1_moveOf_3 15 rfl rfl)
theorem dX1_moveOf_80 : decode cX1_moveOf 80 = .ok (.new 38, 3) := dk_187 0 38 (dk_at dksX1_moveOf_3 16 rfl rfl)
theorem dX1_moveOf_83 : decode cX1_moveOf 83 = .ok (.dup, 1) := dk_89 (dk_at dksX1_moveOf_3 19 rfl rfl)
theorem dX1_moveOf_84 : decode cX1_moveOf 84 = .ok (.invokespecial 40, 3) := dk_183 0 40 (dk_at dksX1_moveOf_3 20 rfl rfl)
theorem dX1_moveOf_87 : decode cX1_moveOf 87 = .ok (.areturn, 1) := dk_176 (dk_at dksX1_moveOf_3 23 rfl rfl)
theorem dX1_moveOf_88 : decode cX1_moveOf 88 = .ok (.new 41, 3) := dk_187 0 41 (dk_at dksX1_moveOf_4 0 rfl rfl)
theorem dX1_moveOf_91 : decode cX1_moveOf 91 = .ok (.dup, 1) := dk_89 (dk_at dksX1_moveOf_4 3 rfl rfl)
theorem dX1_moveOf_92 : decode cX1_moveOf 92 = .ok (.invokespecial 43, 3) := dk_183 0 43 (dk_at dksX1_moveOf_4 4 rfl rfl)
theorem dX1_moveOf_95 : decode cX1_moveOf 95 = .ok (.areturn, 1) := dk_176 (dk_at dksX1_moveOf_4 7 rfl rfl)
abbrev cX1_keep : ByteArray := prog_1_method_62_code
def yX1_keep : MethodName := ⟨RX1, "keep", "(III)I"⟩
def dkwX1_keep_3 : List UInt8 := [16, 10, 108, 16, 10, 112, 29, 16, 10, 112, 182, 0, 196, 181, 0, 126, 3, 172]
abbrev dktX1_keep_3 : List UInt8 := dkwX1_keep_3 ++ []
def dkwX1_keep_2 : List UInt8 := [17, 39, 16, 108, 184, 1, 104, 29, 17, 3, 232, 108, 16, 10, 112, 29, 16, 100, 108, 16, 10, 112, 29]
abbrev dktX1_keep_2 : List UInt8 := dkwX1_keep_2 ++ dktX1_keep_3
def dkwX1_keep_1 : List UInt8 := [184, 0, 200, 154, 0, 5, 2, 172, 42, 180, 0, 122, 27, 50, 28, 154, 0, 7, 1, 167, 0, 40, 29]
abbrev dktX1_keep_1 : List UInt8 := dkwX1_keep_1 ++ dktX1_keep_2
def dkwX1_keep_0 : List UInt8 := [27, 184, 0, 119, 153, 0, 24, 28, 3, 4, 184, 0, 13, 153, 0, 15, 28, 4, 160, 0, 12, 29]
abbrev dktX1_keep_0 : List UInt8 := dkwX1_keep_0 ++ dktX1_keep_1
theorem dksX1_keep_0 : cX1_keep.data.toList.drop 0 = dktX1_keep_0 := by decide +kernel
theorem dksX1_keep_1 : cX1_keep.data.toList.drop 22 = dktX1_keep_1 := dk_seg dksX1_keep_0 22 rfl rfl
theorem dksX1_keep_2 : cX1_keep.data.toList.drop 45 = dktX1_keep_2 := dk_seg dksX1_keep_1 23 rfl rfl
theorem dksX1_keep_3 : cX1_keep.data.toList.drop 68 = dktX1_keep_3 := dk_seg dksX1_keep_2 23 rfl rfl
theorem dX1_keep_0 : decode cX1_keep 0 = .ok (.iload_n 1, 1) := dk_27 (dk_at dksX1_keep_0 0 rfl rfl)
theorem dX1_keep_1 : decode cX1_keep 1 = .ok (.invokestatic 119, 3) := dk_184 0 119 (dk_at dksX1_keep_0 1 rfl rfl)
theorem dX1_keep_4 : decode cX1_keep 4 = .ok (.ifCond .eq 24, 3) := dk_153 0 24 (dk_at dksX1_keep_0 4 rfl rfl)
theorem dX1_keep_7 : decode cX1_keep 7 = .ok (.iload_n 2, 1) := dk_28 (dk_at dksX1_keep_0 7 rfl rfl)
theorem dX1_keep_8 : decode cX1_keep 8 = .ok (.iconst 0, 1) := dk_3 (dk_at dksX1_keep_0 8 rfl rfl)
theorem dX1_keep_9 : decode cX1_keep 9 = .ok (.iconst 1, 1) := dk_4 (dk_at dksX1_keep_0 9 rfl rfl)
theorem dX1_keep_10 : decode cX1_keep 10 = .ok (.invokestatic 13, 3) := dk_184 0 13 (dk_at dksX1_keep_0 10 rfl rfl)
theorem dX1_keep_13 : decode cX1_keep 13 = .ok (.ifCond .eq 15, 3) := dk_153 0 15 (dk_at dksX1_keep_0 13 rfl rfl)
theorem dX1_keep_16 : decode cX1_keep 16 = .ok (.iload_n 2, 1) := dk_28 (dk_at dksX1_keep_0 16 rfl rfl)
theorem dX1_keep_17 : decode cX1_keep 17 = .ok (.iconst 1, 1) := dk_4 (dk_at dksX1_keep_0 17 rfl rfl)
theorem dX1_keep_18 : decode cX1_keep 18 = .ok (.if_icmp .ne 12, 3) := dk_160 0 12 (dk_at dksX1_keep_0 18 rfl rfl)
theorem dX1_keep_21 : decode cX1_keep 21 = .ok (.iload_n 3, 1) := dk_29 (dk_at dksX1_keep_0 21 rfl rfl)
theorem dX1_keep_22 : decode cX1_keep 22 = .ok (.invokestatic 200, 3) := dk_184 0 200 (dk_at dksX1_keep_1 0 rfl rfl)
theorem dX1_keep_25 : decode cX1_keep 25 = .ok (.ifCond .ne 5, 3) := dk_154 0 5 (dk_at dksX1_keep_1 3 rfl rfl)
theorem dX1_keep_28 : decode cX1_keep 28 = .ok (.iconst (-1), 1) := dk_2 (dk_at dksX1_keep_1 6 rfl rfl)
theorem dX1_keep_29 : decode cX1_keep 29 = .ok (.ireturn, 1) := dk_172 (dk_at dksX1_keep_1 7 rfl rfl)
theorem dX1_keep_30 : decode cX1_keep 30 = .ok (.aload_n 0, 1) := dk_42 (dk_at dksX1_keep_1 8 rfl rfl)
theorem dX1_keep_31 : decode cX1_keep 31 = .ok (.getfield 122, 3) := dk_180 0 122 (dk_at dksX1_keep_1 9 rfl rfl)
theorem dX1_keep_34 : decode cX1_keep 34 = .ok (.iload_n 1, 1) := dk_27 (dk_at dksX1_keep_1 12 rfl rfl)
theorem dX1_keep_35 : decode cX1_keep 35 = .ok (.aaload, 1) := dk_50 (dk_at dksX1_keep_1 13 rfl rfl)
theorem dX1_keep_36 : decode cX1_keep 36 = .ok (.iload_n 2, 1) := dk_28 (dk_at dksX1_keep_1 14 rfl rfl)
theorem dX1_keep_37 : decode cX1_keep 37 = .ok (.ifCond .ne 7, 3) := dk_154 0 7 (dk_at dksX1_keep_1 15 rfl rfl)
theorem dX1_keep_40 : decode cX1_keep 40 = .ok (.aconst_null, 1) := dk_1 (dk_at dksX1_keep_1 18 rfl rfl)
theorem dX1_keep_41 : decode cX1_keep 41 = .ok (.goto 40, 3) := dk_167 0 40 (dk_at dksX1_keep_1 19 rfl rfl)
theorem dX1_keep_44 : decode cX1_keep 44 = .ok (.iload_n 3, 1) := dk_29 (dk_at dksX1_keep_1 22 rfl rfl)
theorem dX1_keep_45 : decode cX1_keep 45 = .ok (.sipush 10000, 3) := dk_17 39 16 (dk_at dksX1_keep_2 0 rfl rfl)
theorem dX1_keep_48 : decode cX1_keep 48 = .ok (.idiv, 1) := dk_108 (dk_at dksX1_keep_2 3 rfl rfl)
theorem dX1_keep_49 : decode cX1_keep 49 = .ok (.invokestatic 360, 3) := dk_184 1 104 (dk_at dksX1_keep_2 4 rfl rfl)
theorem dX1_keep_52 : decode cX1_keep 52 = .ok (.iload_n 3, 1) := dk_29 (dk_at dksX1_keep_2 7 rfl rfl)
theorem dX1_keep_53 : decode cX1_keep 53 = .ok (.sipush 1000, 3) := dk_17 3 232 (dk_at dksX1_keep_2 8 rfl rfl)
theorem dX1_keep_56 : decode cX1_keep 56 = .ok (.idiv, 1) := dk_108 (dk_at dksX1_keep_2 11 rfl rfl)
theorem dX1_keep_57 : decode cX1_keep 57 = .ok (.bipush 10, 2) := dk_16 10 (dk_at dksX1_keep_2 12 rfl rfl)
theorem dX1_keep_59 : decode cX1_keep 59 = .ok (.irem, 1) := dk_112 (dk_at dksX1_keep_2 14 rfl rfl)
theorem dX1_keep_60 : decode cX1_keep 60 = .ok (.iload_n 3, 1) := dk_29 (dk_at dksX1_keep_2 15 rfl rfl)
theorem dX1_keep_61 : decode cX1_keep 61 = .ok (.bipush 100, 2) := dk_16 100 (dk_at dksX1_keep_2 16 rfl rfl)
theorem dX1_keep_63 : decode cX1_keep 63 = .ok (.idiv, 1) := dk_108 (dk_at dksX1_keep_2 18 rfl rfl)
theorem dX1_keep_64 : decode cX1_keep 64 = .ok (.bipush 10, 2) := dk_16 10 (dk_at dksX1_keep_2 19 rfl rfl)
theorem dX1_keep_66 : decode cX1_keep 66 = .ok (.irem, 1) := dk_112 (dk_at dksX1_keep_2 21 rfl rfl)
theorem dX1_keep_67 : decode cX1_keep 67 = .ok (.iload_n 3, 1) := dk_29 (dk_at dksX1_keep_2 22 rfl rfl)
theorem dX1_keep_68 : decode cX1_keep 68 = .ok (.bipush 10, 2) := dk_16 10 (dk_at dksX1_keep_3 0 rfl rfl)
theorem dX1_keep_70 : decode cX1_keep 70 = .ok (.idiv, 1) := dk_108 (dk_at dksX1_keep_3 2 rfl rfl)
theorem dX1_keep_71 : decode cX1_keep 71 = .ok (.bipush 10, 2) := dk_16 10 (dk_at dksX1_keep_3 3 rfl rfl)
theorem dX1_keep_73 : decode cX1_keep 73 = .ok (.irem, 1) := dk_112 (dk_at dksX1_keep_3 5 rfl rfl)
theorem dX1_keep_74 : decode cX1_keep 74 = .ok (.iload_n 3, 1) := dk_29 (dk_at dksX1_keep_3 6 rfl rfl)
theorem dX1_keep_75 : decode cX1_keep 75 = .ok (.bipush 10, 2) := dk_16 10 (dk_at dksX1_keep_3 7 rfl rfl)
theorem dX1_keep_77 : decode cX1_keep 77 = .ok (.irem, 1) := dk_112 (dk_at dksX1_keep_3 9 rfl rfl)
theorem dX1_keep_78 : decode cX1_keep 78 = .ok (.invokevirtual 196, 3) := dk_182 0 196 (dk_at dksX1_keep_3 10 rfl rfl)
theorem dX1_keep_81 : decode cX1_keep 81 = .ok (.putfield 126, 3) := dk_181 0 126 (dk_at dksX1_keep_3 13 rfl rfl)
theorem dX1_keep_84 : decode cX1_keep 84 = .ok (.iconst 0, 1) := dk_3 (dk_at dksX1_keep_3 16 rfl rfl)
theorem dX1_keep_85 : decode cX1_keep 85 = .ok (.ireturn, 1) := dk_172 (dk_at dksX1_keep_3 17 rfl rfl)
abbrev cX1_row : ByteArray := prog_1_method_63_code
def yX1_row : MethodName := ⟨RX1, "row", "(III)I"⟩
def dkwX1_row_3 : List UInt8 := [16, 242, 172]
abbrev dktX1_row_3 : List UInt8 := dkwX1_row_3 ++ []
def dkwX1_row_2 : List UInt8 := [167, 0, 8, 29, 188, 10, 58, 4, 42, 180, 0, 122, 27, 50, 25, 4, 181, 0, 126, 3, 172, 58, 4]
abbrev dktX1_row_2 : List UInt8 := dkwX1_row_2 ++ dktX1_row_3
def dkwX1_row_1 : List UInt8 := [28, 154, 0, 11, 29, 188, 8, 58, 4, 167, 0, 21, 28, 4, 160, 0, 11, 29, 188, 9, 58, 4]
abbrev dktX1_row_1 : List UInt8 := dkwX1_row_1 ++ dktX1_row_2
def dkwX1_row_0 : List UInt8 := [27, 184, 0, 119, 153, 0, 18, 28, 3, 5, 184, 0, 13, 153, 0, 9, 29, 16, 100, 164, 0, 5, 2, 172]
abbrev dktX1_row_0 : List UInt8 := dkwX1_row_0 ++ dktX1_row_1
theorem dksX1_row_0 : cX1_row.data.toList.drop 0 = dktX1_row_0 := by decide +kernel
theorem dksX1_row_1 : cX1_row.data.toList.drop 24 = dktX1_row_1 := dk_seg dksX1_row_0 24 rfl rfl
theorem dksX1_row_2 : cX1_row.data.toList.drop 46 = dktX1_row_2 := dk_seg dksX1_row_1 22 rfl rfl
theorem dksX1_row_3 : cX1_row.data.toList.drop 69 = dktX1_row_3 := dk_seg dksX1_row_2 23 rfl rfl
theorem dX1_row_0 : decode cX1_row 0 = .ok (.iload_n 1, 1) := dk_27 (dk_at dksX1_row_0 0 rfl rfl)
theorem dX1_row_1 : decode cX1_row 1 = .ok (.invokestatic 119, 3) := dk_184 0 119 (dk_at dksX1_row_0 1 rfl rfl)
theorem dX1_row_4 : decode cX1_row 4 = .ok (.ifCond .eq 18, 3) := dk_153 0 18 (dk_at dksX1_row_0 4 rfl rfl)
theorem dX1_row_7 : decode cX1_row 7 = .ok (.iload_n 2, 1) := dk_28 (dk_at dksX1_row_0 7 rfl rfl)
theorem dX1_row_8 : decode cX1_row 8 = .ok (.iconst 0, 1) := dk_3 (dk_at dksX1_row_0 8 rfl rfl)
theorem dX1_row_9 : decode cX1_row 9 = .ok (.iconst 2, 1) := dk_5 (dk_at dksX1_row_0 9 rfl rfl)
theorem dX1_row_10 : decode cX1_row 10 = .ok (.invokestatic 13, 3) := dk_184 0 13 (dk_at dksX1_row_0 10 rfl rfl)
theorem dX1_row_13 : decode cX1_row 13 = .ok (.ifCond .eq 9, 3) := dk_153 0 9 (dk_at dksX1_row_0 13 rfl rfl)
theorem dX1_row_16 : decode cX1_row 16 = .ok (.iload_n 3, 1) := dk_29 (dk_at dksX1_row_0 16 rfl rfl)
theorem dX1_row_17 : decode cX1_row 17 = .ok (.bipush 100, 2) := dk_16 100 (dk_at dksX1_row_0 17 rfl rfl)
theorem dX1_row_19 : decode cX1_row 19 = .ok (.if_icmp .le 5, 3) := dk_164 0 5 (dk_at dksX1_row_0 19 rfl rfl)
theorem dX1_row_22 : decode cX1_row 22 = .ok (.iconst (-1), 1) := dk_2 (dk_at dksX1_row_0 22 rfl rfl)
theorem dX1_row_23 : decode cX1_row 23 = .ok (.ireturn, 1) := dk_172 (dk_at dksX1_row_0 23 rfl rfl)
theorem dX1_row_24 : decode cX1_row 24 = .ok (.iload_n 2, 1) := dk_28 (dk_at dksX1_row_1 0 rfl rfl)
theorem dX1_row_25 : decode cX1_row 25 = .ok (.ifCond .ne 11, 3) := dk_154 0 11 (dk_at dksX1_row_1 1 rfl rfl)
theorem dX1_row_28 : decode cX1_row 28 = .ok (.iload_n 3, 1) := dk_29 (dk_at dksX1_row_1 4 rfl rfl)
theorem dX1_row_29 : decode cX1_row 29 = .ok (.newarray .byte, 2) := dk_188_8 (dk_at dksX1_row_1 5 rfl rfl)
theorem dX1_row_31 : decode cX1_row 31 = .ok (.astore 4, 2) := dk_58 4 (dk_at dksX1_row_1 7 rfl rfl)
theorem dX1_row_33 : decode cX1_row 33 = .ok (.goto 21, 3) := dk_167 0 21 (dk_at dksX1_row_1 9 rfl rfl)
theorem dX1_row_36 : decode cX1_row 36 = .ok (.iload_n 2, 1) := dk_28 (dk_at dksX1_row_1 12 rfl rfl)
theorem dX1_row_37 : decode cX1_row 37 = .ok (.iconst 1, 1) := dk_4 (dk_at dksX1_row_1 13 rfl rfl)
theorem dX1_row_38 : decode cX1_row 38 = .ok (.if_icmp .ne 11, 3) := dk_160 0 11 (dk_at dksX1_row_1 14 rfl rfl)
theorem dX1_row_41 : decode cX1_row 41 = .ok (.iload_n 3, 1) := dk_29 (dk_at dksX1_row_1 17 rfl rfl)
theorem dX1_row_42 : decode cX1_row 42 = .ok (.newarray .short, 2) := dk_188_9 (dk_at dksX1_row_1 18 rfl rfl)
theorem dX1_row_44 : decode cX1_row 44 = .ok (.astore 4, 2) := dk_58 4 (dk_at dksX1_row_1 20 rfl rfl)
theorem dX1_row_46 : decode cX1_row 46 = .ok (.goto 8, 3) := dk_167 0 8 (dk_at dksX1_row_2 0 rfl rfl)
theorem dX1_row_49 : decode cX1_row 49 = .ok (.iload_n 3, 1) := dk_29 (dk_at dksX1_row_2 3 rfl rfl)
theorem dX1_row_50 : decode cX1_row 50 = .ok (.newarray .int, 2) := dk_188_10 (dk_at dksX1_row_2 4 rfl rfl)
theorem dX1_row_52 : decode cX1_row 52 = .ok (.astore 4, 2) := dk_58 4 (dk_at dksX1_row_2 6 rfl rfl)
theorem dX1_row_54 : decode cX1_row 54 = .ok (.aload_n 0, 1) := dk_42 (dk_at dksX1_row_2 8 rfl rfl)
theorem dX1_row_55 : decode cX1_row 55 = .ok (.getfield 122, 3) := dk_180 0 122 (dk_at dksX1_row_2 9 rfl rfl)
theorem dX1_row_58 : decode cX1_row 58 = .ok (.iload_n 1, 1) := dk_27 (dk_at dksX1_row_2 12 rfl rfl)
theorem dX1_row_59 : decode cX1_row 59 = .ok (.aaload, 1) := dk_50 (dk_at dksX1_row_2 13 rfl rfl)
theorem dX1_row_60 : decode cX1_row 60 = .ok (.aload 4, 2) := dk_25 4 (dk_at dksX1_row_2 14 rfl rfl)
theorem dX1_row_62 : decode cX1_row 62 = .ok (.putfield 126, 3) := dk_181 0 126 (dk_at dksX1_row_2 16 rfl rfl)
theorem dX1_row_65 : decode cX1_row 65 = .ok (.iconst 0, 1) := dk_3 (dk_at dksX1_row_2 19 rfl rfl)
theorem dX1_row_66 : decode cX1_row 66 = .ok (.ireturn, 1) := dk_172 (dk_at dksX1_row_2 20 rfl rfl)
theorem dX1_row_67 : decode cX1_row 67 = .ok (.astore 4, 2) := dk_58 4 (dk_at dksX1_row_2 21 rfl rfl)
theorem dX1_row_69 : decode cX1_row 69 = .ok (.bipush (-14), 2) := dk_16 242 (dk_at dksX1_row_3 0 rfl rfl)
theorem dX1_row_71 : decode cX1_row 71 = .ok (.ireturn, 1) := dk_172 (dk_at dksX1_row_3 2 rfl rfl)
abbrev cX1_put : ByteArray := prog_1_method_64_code
def yX1_put : MethodName := ⟨RX1, "put", "(III)I"⟩
def dkwX1_put_3 : List UInt8 := [25, 4, 192, 0, 245, 28, 29, 79, 3, 172, 58, 5, 16, 244, 172, 58, 5, 16, 243, 172]
abbrev dktX1_put_3 : List UInt8 := dkwX1_put_3 ++ []
def dkwX1_put_2 : List UInt8 := [167, 0, 31, 25, 4, 193, 1, 109, 153, 0, 15, 25, 4, 192, 1, 109, 28, 29, 147, 86, 167, 0, 11]
abbrev dktX1_put_2 : List UInt8 := dkwX1_put_2 ++ dktX1_put_3
def dkwX1_put_1 : List UInt8 := [199, 0, 6, 16, 245, 172, 25, 4, 193, 0, 147, 153, 0, 15, 25, 4, 192, 0, 147, 28, 29, 145, 84]
abbrev dktX1_put_1 : List UInt8 := dkwX1_put_1 ++ dktX1_put_2
def dkwX1_put_0 : List UInt8 := [27, 184, 0, 119, 154, 0, 5, 2, 172, 42, 180, 0, 122, 27, 50, 180, 0, 126, 58, 4, 25, 4]
abbrev dktX1_put_0 : List UInt8 := dkwX1_put_0 ++ dktX1_put_1
theorem dksX1_put_0 : cX1_put.data.toList.drop 0 = dktX1_put_0 := by decide +kernel
theorem dksX1_put_1 : cX1_put.data.toList.drop 22 = dktX1_put_1 := dk_seg dksX1_put_0 22 rfl rfl
theorem dksX1_put_2 : cX1_put.data.toList.drop 45 = dktX1_put_2 := dk_seg dksX1_put_1 23 rfl rfl
theorem dksX1_put_3 : cX1_put.data.toList.drop 68 = dktX1_put_3 := dk_seg dksX1_put_2 23 rfl rfl
theorem dX1_put_0 : decode cX1_put 0 = .ok (.iload_n 1, 1) := dk_27 (dk_at dksX1_put_0 0 rfl rfl)
theorem dX1_put_1 : decode cX1_put 1 = .ok (.invokestatic 119, 3) := dk_184 0 119 (dk_at dksX1_put_0 1 rfl rfl)
theorem dX1_put_4 : decode cX1_put 4 = .ok (.ifCond .ne 5, 3) := dk_154 0 5 (dk_at dksX1_put_0 4 rfl rfl)
theorem dX1_put_7 : decode cX1_put 7 = .ok (.iconst (-1), 1) := dk_2 (dk_at dksX1_put_0 7 rfl rfl)
theorem dX1_put_8 : decode cX1_put 8 = .ok (.ireturn, 1) := dk_172 (dk_at dksX1_put_0 8 rfl rfl)
theorem dX1_put_9 : decode cX1_put 9 = .ok (.aload_n 0, 1) := dk_42 (dk_at dksX1_put_0 9 rfl rfl)
theorem dX1_put_10 : decode cX1_put 10 = .ok (.getfield 122, 3) := dk_180 0 122 (dk_at dksX1_put_0 10 rfl rfl)
theorem dX1_put_13 : decode cX1_put 13 = .ok (.iload_n 1, 1) := dk_27 (dk_at dksX1_put_0 13 rfl rfl)
theorem dX1_put_14 : decode cX1_put 14 = .ok (.aaload, 1) := dk_50 (dk_at dksX1_put_0 14 rfl rfl)
theorem dX1_put_15 : decode cX1_put 15 = .ok (.getfield 126, 3) := dk_180 0 126 (dk_at dksX1_put_0 15 rfl rfl)
theorem dX1_put_18 : decode cX1_put 18 = .ok (.astore 4, 2) := dk_58 4 (dk_at dksX1_put_0 18 rfl rfl)
theorem dX1_put_20 : decode cX1_put 20 = .ok (.aload 4, 2) := dk_25 4 (dk_at dksX1_put_0 20 rfl rfl)
theorem dX1_put_22 : decode cX1_put 22 = .ok (.ifnonnull 6, 3) := dk_199 0 6 (dk_at dksX1_put_1 0 rfl rfl)
theorem dX1_put_25 : decode cX1_put 25 = .ok (.bipush (-11), 2) := dk_16 245 (dk_at dksX1_put_1 3 rfl rfl)
theorem dX1_put_27 : decode cX1_put 27 = .ok (.ireturn, 1) := dk_172 (dk_at dksX1_put_1 5 rfl rfl)
theorem dX1_put_28 : decode cX1_put 28 = .ok (.aload 4, 2) := dk_25 4 (dk_at dksX1_put_1 6 rfl rfl)
theorem dX1_put_30 : decode cX1_put 30 = .ok (.instanceof 147, 3) := dk_193 0 147 (dk_at dksX1_put_1 8 rfl rfl)
theorem dX1_put_33 : decode cX1_put 33 = .ok (.ifCond .eq 15, 3) := dk_153 0 15 (dk_at dksX1_put_1 11 rfl rfl)
theorem dX1_put_36 : decode cX1_put 36 = .ok (.aload 4, 2) := dk_25 4 (dk_at dksX1_put_1 14 rfl rfl)
theorem dX1_put_38 : decode cX1_put 38 = .ok (.checkcast 147, 3) := dk_192 0 147 (dk_at dksX1_put_1 16 rfl rfl)
theorem dX1_put_41 : decode cX1_put 41 = .ok (.iload_n 2, 1) := dk_28 (dk_at dksX1_put_1 19 rfl rfl)
theorem dX1_put_42 : decode cX1_put 42 = .ok (.iload_n 3, 1) := dk_29 (dk_at dksX1_put_1 20 rfl rfl)
theorem dX1_put_43 : decode cX1_put 43 = .ok (.i2b, 1) := dk_145 (dk_at dksX1_put_1 21 rfl rfl)
theorem dX1_put_44 : decode cX1_put 44 = .ok (.bastore, 1) := dk_84 (dk_at dksX1_put_1 22 rfl rfl)
theorem dX1_put_45 : decode cX1_put 45 = .ok (.goto 31, 3) := dk_167 0 31 (dk_at dksX1_put_2 0 rfl rfl)
theorem dX1_put_48 : decode cX1_put 48 = .ok (.aload 4, 2) := dk_25 4 (dk_at dksX1_put_2 3 rfl rfl)
theorem dX1_put_50 : decode cX1_put 50 = .ok (.instanceof 365, 3) := dk_193 1 109 (dk_at dksX1_put_2 5 rfl rfl)
theorem dX1_put_53 : decode cX1_put 53 = .ok (.ifCond .eq 15, 3) := dk_153 0 15 (dk_at dksX1_put_2 8 rfl rfl)
theorem dX1_put_56 : decode cX1_put 56 = .ok (.aload 4, 2) := dk_25 4 (dk_at dksX1_put_2 11 rfl rfl)
theorem dX1_put_58 : decode cX1_put 58 = .ok (.checkcast 365, 3) := dk_192 1 109 (dk_at dksX1_put_2 13 rfl rfl)
theorem dX1_put_61 : decode cX1_put 61 = .ok (.iload_n 2, 1) := dk_28 (dk_at dksX1_put_2 16 rfl rfl)
theorem dX1_put_62 : decode cX1_put 62 = .ok (.iload_n 3, 1) := dk_29 (dk_at dksX1_put_2 17 rfl rfl)
theorem dX1_put_63 : decode cX1_put 63 = .ok (.i2s, 1) := dk_147 (dk_at dksX1_put_2 18 rfl rfl)
theorem dX1_put_64 : decode cX1_put 64 = .ok (.sastore, 1) := dk_86 (dk_at dksX1_put_2 19 rfl rfl)
theorem dX1_put_65 : decode cX1_put 65 = .ok (.goto 11, 3) := dk_167 0 11 (dk_at dksX1_put_2 20 rfl rfl)
theorem dX1_put_68 : decode cX1_put 68 = .ok (.aload 4, 2) := dk_25 4 (dk_at dksX1_put_3 0 rfl rfl)
theorem dX1_put_70 : decode cX1_put 70 = .ok (.checkcast 245, 3) := dk_192 0 245 (dk_at dksX1_put_3 2 rfl rfl)
theorem dX1_put_73 : decode cX1_put 73 = .ok (.iload_n 2, 1) := dk_28 (dk_at dksX1_put_3 5 rfl rfl)
theorem dX1_put_74 : decode cX1_put 74 = .ok (.iload_n 3, 1) := dk_29 (dk_at dksX1_put_3 6 rfl rfl)
theorem dX1_put_75 : decode cX1_put 75 = .ok (.iastore, 1) := dk_79 (dk_at dksX1_put_3 7 rfl rfl)
theorem dX1_put_76 : decode cX1_put 76 = .ok (.iconst 0, 1) := dk_3 (dk_at dksX1_put_3 8 rfl rfl)
theorem dX1_put_77 : decode cX1_put 77 = .ok (.ireturn, 1) := dk_172 (dk_at dksX1_put_3 9 rfl rfl)
theorem dX1_put_78 : decode cX1_put 78 = .ok (.astore 5, 2) := dk_58 5 (dk_at dksX1_put_3 10 rfl rfl)
theorem dX1_put_80 : decode cX1_put 80 = .ok (.bipush (-12), 2) := dk_16 244 (dk_at dksX1_put_3 12 rfl rfl)
theorem dX1_put_82 : decode cX1_put 82 = .ok (.ireturn, 1) := dk_172 (dk_at dksX1_put_3 14 rfl rfl)
theorem dX1_put_83 : decode cX1_put 83 = .ok (.astore 5, 2) := dk_58 5 (dk_at dksX1_put_3 15 rfl rfl)
theorem dX1_put_85 : decode cX1_put 85 = .ok (.bipush (-13), 2) := dk_16 243 (dk_at dksX1_put_3 17 rfl rfl)
theorem dX1_put_87 : decode cX1_put 87 = .ok (.ireturn, 1) := dk_172 (dk_at dksX1_put_3 19 rfl rfl)
abbrev cX1_copy : ByteArray := prog_1_method_67_code
def yX1_copy : MethodName := ⟨RX1, "copy", "(IIIII)I"⟩
def dkwX1_copy_4 : List UInt8 := [58, 8, 16, 243, 172]
abbrev dktX1_copy_4 : List UInt8 := dkwX1_copy_4 ++ []
def dkwX1_copy_3 : List UInt8 := [184, 0, 132, 159, 0, 6, 16, 244, 172, 25, 6, 28, 25, 7, 21, 4, 21, 5, 184, 1, 43, 21, 5, 172]
abbrev dktX1_copy_3 : List UInt8 := dkwX1_copy_3 ++ dktX1_copy_4
def dkwX1_copy_2 : List UInt8 := [199, 0, 6, 16, 245, 172, 25, 6, 184, 0, 132, 2, 159, 0, 16, 25, 6, 184, 0, 132, 25, 7]
abbrev dktX1_copy_2 : List UInt8 := dkwX1_copy_2 ++ dktX1_copy_3
def dkwX1_copy_1 : List UInt8 := [180, 0, 126, 58, 6, 42, 180, 0, 122, 29, 50, 180, 0, 126, 58, 7, 25, 6, 198, 0, 8, 25, 7]
abbrev dktX1_copy_1 : List UInt8 := dkwX1_copy_1 ++ dktX1_copy_2
def dkwX1_copy_0 : List UInt8 := [27, 184, 0, 119, 153, 0, 10, 29, 184, 0, 119, 154, 0, 5, 2, 172, 42, 180, 0, 122, 27, 50]
abbrev dktX1_copy_0 : List UInt8 := dkwX1_copy_0 ++ dktX1_copy_1
theorem dksX1_copy_0 : cX1_copy.data.toList.drop 0 = dktX1_copy_0 := by decide +kernel
theorem dksX1_copy_1 : cX1_copy.data.toList.drop 22 = dktX1_copy_1 := dk_seg dksX1_copy_0 22 rfl rfl
theorem dksX1_copy_2 : cX1_copy.data.toList.drop 45 = dktX1_copy_2 := dk_seg dksX1_copy_1 23 rfl rfl
theorem dksX1_copy_3 : cX1_copy.data.toList.drop 67 = dktX1_copy_3 := dk_seg dksX1_copy_2 22 rfl rfl
theorem dksX1_copy_4 : cX1_copy.data.toList.drop 91 = dktX1_copy_4 := dk_seg dksX1_copy_3 24 rfl rfl
theorem dX1_copy_0 : decode cX1_copy 0 = .ok (.iload_n 1, 1) := dk_27 (dk_at dksX1_copy_0 0 rfl rfl)
theorem dX1_copy_1 : decode cX1_copy 1 = .ok (.invokestatic 119, 3) := dk_184 0 119 (dk_at dksX1_copy_0 1 rfl rfl)
theorem dX1_copy_4 : decode cX1_copy 4 = .ok (.ifCond .eq 10, 3) := dk_153 0 10 (dk_at dksX1_copy_0 4 rfl rfl)
theorem dX1_copy_7 : decode cX1_copy 7 = .ok (.iload_n 3, 1) := dk_29 (dk_at dksX1_copy_0 7 rfl rfl)
theorem dX1_copy_8 : decode cX1_copy 8 = .ok (.invokestatic 119, 3) := dk_184 0 119 (dk_at dksX1_copy_0 8 rfl rfl)
theorem dX1_copy_11 : decode cX1_copy 11 = .ok (.ifCond .ne 5, 3) := dk_154 0 5 (dk_at dksX1_copy_0 11 rfl rfl)
theorem dX1_copy_14 : decode cX1_copy 14 = .ok (.iconst (-1), 1) := dk_2 (dk_at dksX1_copy_0 14 rfl rfl)
theorem dX1_copy_15 : decode cX1_copy 15 = .ok (.ireturn, 1) := dk_172 (dk_at dksX1_copy_0 15 rfl rfl)
theorem dX1_copy_16 : decode cX1_copy 16 = .ok (.aload_n 0, 1) := dk_42 (dk_at dksX1_copy_0 16 rfl rfl)
theorem dX1_copy_17 : decode cX1_copy 17 = .ok (.getfield 122, 3) := dk_180 0 122 (dk_at dksX1_copy_0 17 rfl rfl)
theorem dX1_copy_20 : decode cX1_copy 20 = .ok (.iload_n 1, 1) := dk_27 (dk_at dksX1_copy_0 20 rfl rfl)
theorem dX1_copy_21 : decode cX1_copy 21 = .ok (.aaload, 1) := dk_50 (dk_at dksX1_copy_0 21 rfl rfl)
theorem dX1_copy_22 : decode cX1_copy 22 = .ok (.getfield 126, 3) := dk_180 0 126 (dk_at dksX1_copy_1 0 rfl rfl)
theorem dX1_copy_25 : decode cX1_copy 25 = .ok (.astore 6, 2) := dk_58 6 (dk_at dksX1_copy_1 3 rfl rfl)
theorem dX1_copy_27 : decode cX1_copy 27 = .ok (.aload_n 0, 1) := dk_42 (dk_at dksX1_copy_1 5 rfl rfl)
theorem dX1_copy_28 : decode cX1_copy 28 = .ok (.getfield 122, 3) := dk_180 0 122 (dk_at dksX1_copy_1 6 rfl rfl)
theorem dX1_copy_31 : decode cX1_copy 31 = .ok (.iload_n 3, 1) := dk_29 (dk_at dksX1_copy_1 9 rfl rfl)
theorem dX1_copy_32 : decode cX1_copy 32 = .ok (.aaload, 1) := dk_50 (dk_at dksX1_copy_1 10 rfl rfl)
theorem dX1_copy_33 : decode cX1_copy 33 = .ok (.getfield 126, 3) := dk_180 0 126 (dk_at dksX1_copy_1 11 rfl rfl)
theorem dX1_copy_36 : decode cX1_copy 36 = .ok (.astore 7, 2) := dk_58 7 (dk_at dksX1_copy_1 14 rfl rfl)
theorem dX1_copy_38 : decode cX1_copy 38 = .ok (.aload 6, 2) := dk_25 6 (dk_at dksX1_copy_1 16 rfl rfl)
theorem dX1_copy_40 : decode cX1_copy 40 = .ok (.ifnull 8, 3) := dk_198 0 8 (dk_at dksX1_copy_1 18 rfl rfl)
theorem dX1_copy_43 : decode cX1_copy 43 = .ok (.aload 7, 2) := dk_25 7 (dk_at dksX1_copy_1 21 rfl rfl)
theorem dX1_copy_45 : decode cX1_copy 45 = .ok (.ifnonnull 6, 3) := dk_199 0 6 (dk_at dksX1_copy_2 0 rfl rfl)
theorem dX1_copy_48 : decode cX1_copy 48 = .ok (.bipush (-11), 2) := dk_16 245 (dk_at dksX1_copy_2 3 rfl rfl)
theorem dX1_copy_50 : decode cX1_copy 50 = .ok (.ireturn, 1) := dk_172 (dk_at dksX1_copy_2 5 rfl rfl)
theorem dX1_copy_51 : decode cX1_copy 51 = .ok (.aload 6, 2) := dk_25 6 (dk_at dksX1_copy_2 6 rfl rfl)
theorem dX1_copy_53 : decode cX1_copy 53 = .ok (.invokestatic 132, 3) := dk_184 0 132 (dk_at dksX1_copy_2 8 rfl rfl)
theorem dX1_copy_56 : decode cX1_copy 56 = .ok (.iconst (-1), 1) := dk_2 (dk_at dksX1_copy_2 11 rfl rfl)
theorem dX1_copy_57 : decode cX1_copy 57 = .ok (.if_icmp .eq 16, 3) := dk_159 0 16 (dk_at dksX1_copy_2 12 rfl rfl)
theorem dX1_copy_60 : decode cX1_copy 60 = .ok (.aload 6, 2) := dk_25 6 (dk_at dksX1_copy_2 15 rfl rfl)
theorem dX1_copy_62 : decode cX1_copy 62 = .ok (.invokestatic 132, 3) := dk_184 0 132 (dk_at dksX1_copy_2 17 rfl rfl)
theorem dX1_copy_65 : decode cX1_copy 65 = .ok (.aload 7, 2) := dk_25 7 (dk_at dksX1_copy_2 20 rfl rfl)
theorem dX1_copy_67 : decode cX1_copy 67 = .ok (.invokestatic 132, 3) := dk_184 0 132 (dk_at dksX1_copy_3 0 rfl rfl)
theorem dX1_copy_70 : decode cX1_copy 70 = .ok (.if_icmp .eq 6, 3) := dk_159 0 6 (dk_at dksX1_copy_3 3 rfl rfl)
theorem dX1_copy_73 : decode cX1_copy 73 = .ok (.bipush (-12), 2) := dk_16 244 (dk_at dksX1_copy_3 6 rfl rfl)
theorem dX1_copy_75 : decode cX1_copy 75 = .ok (.ireturn, 1) := dk_172 (dk_at dksX1_copy_3 8 rfl rfl)
theorem dX1_copy_76 : decode cX1_copy 76 = .ok (.aload 6, 2) := dk_25 6 (dk_at dksX1_copy_3 9 rfl rfl)
theorem dX1_copy_78 : decode cX1_copy 78 = .ok (.iload_n 2, 1) := dk_28 (dk_at dksX1_copy_3 11 rfl rfl)
theorem dX1_copy_79 : decode cX1_copy 79 = .ok (.aload 7, 2) := dk_25 7 (dk_at dksX1_copy_3 12 rfl rfl)
theorem dX1_copy_81 : decode cX1_copy 81 = .ok (.iload 4, 2) := dk_21 4 (dk_at dksX1_copy_3 14 rfl rfl)
theorem dX1_copy_83 : decode cX1_copy 83 = .ok (.iload 5, 2) := dk_21 5 (dk_at dksX1_copy_3 16 rfl rfl)
theorem dX1_copy_85 : decode cX1_copy 85 = .ok (.invokestatic 299, 3) := dk_184 1 43 (dk_at dksX1_copy_3 18 rfl rfl)
theorem dX1_copy_88 : decode cX1_copy 88 = .ok (.iload 5, 2) := dk_21 5 (dk_at dksX1_copy_3 21 rfl rfl)
theorem dX1_copy_90 : decode cX1_copy 90 = .ok (.ireturn, 1) := dk_172 (dk_at dksX1_copy_3 23 rfl rfl)
theorem dX1_copy_91 : decode cX1_copy 91 = .ok (.astore 8, 2) := dk_58 8 (dk_at dksX1_copy_4 0 rfl rfl)
theorem dX1_copy_93 : decode cX1_copy 93 = .ok (.bipush (-13), 2) := dk_16 243 (dk_at dksX1_copy_4 2 rfl rfl)
theorem dX1_copy_95 : decode cX1_copy 95 = .ok (.ireturn, 1) := dk_172 (dk_at dksX1_copy_4 4 rfl rfl)
abbrev cX1_effort : ByteArray := prog_1_method_68_code
def yX1_effort : MethodName := ⟨RX1, "effort", "(I)I"⟩
def dkwX1_effort_1 : List UInt8 := [180, 0, 1, 182, 1, 125, 172, 77, 16, 245, 172, 77, 16, 244, 172]
abbrev dktX1_effort_1 : List UInt8 := dkwX1_effort_1 ++ []
def dkwX1_effort_0 : List UInt8 := [27, 184, 0, 119, 154, 0, 5, 2, 172, 42, 180, 0, 122, 27, 50, 180, 0, 126, 192, 0, 20, 42]
abbrev dktX1_effort_0 : List UInt8 := dkwX1_effort_0 ++ dktX1_effort_1
theorem dksX1_effort_0 : cX1_effort.data.toList.drop 0 = dktX1_effort_0 := by decide +kernel
theorem dksX1_effort_1 : cX1_effort.data.toList.drop 22 = dktX1_effort_1 := dk_seg dksX1_effort_0 22 rfl rfl
theorem dX1_effort_0 : decode cX1_effort 0 = .ok (.iload_n 1, 1) := dk_27 (dk_at dksX1_effort_0 0 rfl rfl)
theorem dX1_effort_1 : decode cX1_effort 1 = .ok (.invokestatic 119, 3) := dk_184 0 119 (dk_at dksX1_effort_0 1 rfl rfl)
theorem dX1_effort_4 : decode cX1_effort 4 = .ok (.ifCond .ne 5, 3) := dk_154 0 5 (dk_at dksX1_effort_0 4 rfl rfl)
theorem dX1_effort_7 : decode cX1_effort 7 = .ok (.iconst (-1), 1) := dk_2 (dk_at dksX1_effort_0 7 rfl rfl)
theorem dX1_effort_8 : decode cX1_effort 8 = .ok (.ireturn, 1) := dk_172 (dk_at dksX1_effort_0 8 rfl rfl)
theorem dX1_effort_9 : decode cX1_effort 9 = .ok (.aload_n 0, 1) := dk_42 (dk_at dksX1_effort_0 9 rfl rfl)
theorem dX1_effort_10 : decode cX1_effort 10 = .ok (.getfield 122, 3) := dk_180 0 122 (dk_at dksX1_effort_0 10 rfl rfl)
theorem dX1_effort_13 : decode cX1_effort 13 = .ok (.iload_n 1, 1) := dk_27 (dk_at dksX1_effort_0 13 rfl rfl)
theorem dX1_effort_14 : decode cX1_effort 14 = .ok (.aaload, 1) := dk_50 (dk_at dksX1_effort_0 14 rfl rfl)
theorem dX1_effort_15 : decode cX1_effort 15 = .ok (.getfield 126, 3) := dk_180 0 126 (dk_at dksX1_effort_0 15 rfl rfl)
theorem dX1_effort_18 : decode cX1_effort 18 = .ok (.checkcast 20, 3) := dk_192 0 20 (dk_at dksX1_effort_0 18 rfl rfl)
theorem dX1_effort_21 : decode cX1_effort 21 = .ok (.aload_n 0, 1) := dk_42 (dk_at dksX1_effort_0 21 rfl rfl)
theorem dX1_effort_22 : decode cX1_effort 22 = .ok (.getfield 1, 3) := dk_180 0 1 (dk_at dksX1_effort_1 0 rfl rfl)
theorem dX1_effort_25 : decode cX1_effort 25 = .ok (.invokevirtual 381, 3) := dk_182 1 125 (dk_at dksX1_effort_1 3 rfl rfl)
theorem dX1_effort_28 : decode cX1_effort 28 = .ok (.ireturn, 1) := dk_172 (dk_at dksX1_effort_1 6 rfl rfl)
theorem dX1_effort_29 : decode cX1_effort 29 = .ok (.astore_n 2, 1) := dk_77 (dk_at dksX1_effort_1 7 rfl rfl)
theorem dX1_effort_30 : decode cX1_effort 30 = .ok (.bipush (-11), 2) := dk_16 245 (dk_at dksX1_effort_1 8 rfl rfl)
theorem dX1_effort_32 : decode cX1_effort 32 = .ok (.ireturn, 1) := dk_172 (dk_at dksX1_effort_1 10 rfl rfl)
theorem dX1_effort_33 : decode cX1_effort 33 = .ok (.astore_n 2, 1) := dk_77 (dk_at dksX1_effort_1 11 rfl rfl)
theorem dX1_effort_34 : decode cX1_effort 34 = .ok (.bipush (-12), 2) := dk_16 244 (dk_at dksX1_effort_1 12 rfl rfl)
theorem dX1_effort_36 : decode cX1_effort 36 = .ok (.ireturn, 1) := dk_172 (dk_at dksX1_effort_1 14 rfl rfl)
abbrev cX1_toss : ByteArray := prog_1_method_69_code
def yX1_toss : MethodName := ⟨RX1, "toss", "(I)I"⟩
def dkwX1_toss_2 : List UInt8 := [16, 241, 172, 77, 16, 244, 172]
abbrev dktX1_toss_2 : List UInt8 := dkwX1_toss_2 ++ []
def dkwX1_toss_1 : List UInt8 := [42, 180, 0, 122, 27, 50, 180, 0, 126, 192, 0, 20, 182, 1, 129, 191, 77, 44, 180, 1, 135, 172, 77]
abbrev dktX1_toss_1 : List UInt8 := dkwX1_toss_1 ++ dktX1_toss_2
def dkwX1_toss_0 : List UInt8 := [27, 184, 0, 119, 154, 0, 5, 2, 172, 42, 180, 0, 122, 27, 50, 180, 0, 126, 199, 0, 6, 16, 245, 172]
abbrev dktX1_toss_0 : List UInt8 := dkwX1_toss_0 ++ dktX1_toss_1
theorem dksX1_toss_0 : cX1_toss.data.toList.drop 0 = dktX1_toss_0 := by decide +kernel
theorem dksX1_toss_1 : cX1_toss.data.toList.drop 24 = dktX1_toss_1 := dk_seg dksX1_toss_0 24 rfl rfl
theorem dksX1_toss_2 : cX1_toss.data.toList.drop 47 = dktX1_toss_2 := dk_seg dksX1_toss_1 23 rfl rfl
theorem dX1_toss_0 : decode cX1_toss 0 = .ok (.iload_n 1, 1) := dk_27 (dk_at dksX1_toss_0 0 rfl rfl)
theorem dX1_toss_1 : decode cX1_toss 1 = .ok (.invokestatic 119, 3) := dk_184 0 119 (dk_at dksX1_toss_0 1 rfl rfl)
theorem dX1_toss_4 : decode cX1_toss 4 = .ok (.ifCond .ne 5, 3) := dk_154 0 5 (dk_at dksX1_toss_0 4 rfl rfl)
theorem dX1_toss_7 : decode cX1_toss 7 = .ok (.iconst (-1), 1) := dk_2 (dk_at dksX1_toss_0 7 rfl rfl)
theorem dX1_toss_8 : decode cX1_toss 8 = .ok (.ireturn, 1) := dk_172 (dk_at dksX1_toss_0 8 rfl rfl)
theorem dX1_toss_9 : decode cX1_toss 9 = .ok (.aload_n 0, 1) := dk_42 (dk_at dksX1_toss_0 9 rfl rfl)
theorem dX1_toss_10 : decode cX1_toss 10 = .ok (.getfield 122, 3) := dk_180 0 122 (dk_at dksX1_toss_0 10 rfl rfl)
theorem dX1_toss_13 : decode cX1_toss 13 = .ok (.iload_n 1, 1) := dk_27 (dk_at dksX1_toss_0 13 rfl rfl)
theorem dX1_toss_14 : decode cX1_toss 14 = .ok (.aaload, 1) := dk_50 (dk_at dksX1_toss_0 14 rfl rfl)
theorem dX1_toss_15 : decode cX1_toss 15 = .ok (.getfield 126, 3) := dk_180 0 126 (dk_at dksX1_toss_0 15 rfl rfl)
theorem dX1_toss_18 : decode cX1_toss 18 = .ok (.ifnonnull 6, 3) := dk_199 0 6 (dk_at dksX1_toss_0 18 rfl rfl)
theorem dX1_toss_21 : decode cX1_toss 21 = .ok (.bipush (-11), 2) := dk_16 245 (dk_at dksX1_toss_0 21 rfl rfl)
theorem dX1_toss_23 : decode cX1_toss 23 = .ok (.ireturn, 1) := dk_172 (dk_at dksX1_toss_0 23 rfl rfl)
theorem dX1_toss_24 : decode cX1_toss 24 = .ok (.aload_n 0, 1) := dk_42 (dk_at dksX1_toss_1 0 rfl rfl)
theorem dX1_toss_25 : decode cX1_toss 25 = .ok (.getfield 122, 3) := dk_180 0 122 (dk_at dksX1_toss_1 1 rfl rfl)
theorem dX1_toss_28 : decode cX1_toss 28 = .ok (.iload_n 1, 1) := dk_27 (dk_at dksX1_toss_1 4 rfl rfl)
theorem dX1_toss_29 : decode cX1_toss 29 = .ok (.aaload, 1) := dk_50 (dk_at dksX1_toss_1 5 rfl rfl)
theorem dX1_toss_30 : decode cX1_toss 30 = .ok (.getfield 126, 3) := dk_180 0 126 (dk_at dksX1_toss_1 6 rfl rfl)
theorem dX1_toss_33 : decode cX1_toss 33 = .ok (.checkcast 20, 3) := dk_192 0 20 (dk_at dksX1_toss_1 9 rfl rfl)
theorem dX1_toss_36 : decode cX1_toss 36 = .ok (.invokevirtual 385, 3) := dk_182 1 129 (dk_at dksX1_toss_1 12 rfl rfl)
theorem dX1_toss_39 : decode cX1_toss 39 = .ok (.athrow, 1) := dk_191 (dk_at dksX1_toss_1 15 rfl rfl)
theorem dX1_toss_40 : decode cX1_toss 40 = .ok (.astore_n 2, 1) := dk_77 (dk_at dksX1_toss_1 16 rfl rfl)
theorem dX1_toss_41 : decode cX1_toss 41 = .ok (.aload_n 2, 1) := dk_44 (dk_at dksX1_toss_1 17 rfl rfl)
theorem dX1_toss_42 : decode cX1_toss 42 = .ok (.getfield 391, 3) := dk_180 1 135 (dk_at dksX1_toss_1 18 rfl rfl)
theorem dX1_toss_45 : decode cX1_toss 45 = .ok (.ireturn, 1) := dk_172 (dk_at dksX1_toss_1 21 rfl rfl)
theorem dX1_toss_46 : decode cX1_toss 46 = .ok (.astore_n 2, 1) := dk_77 (dk_at dksX1_toss_1 22 rfl rfl)
theorem dX1_toss_47 : decode cX1_toss 47 = .ok (.bipush (-15), 2) := dk_16 241 (dk_at dksX1_toss_2 0 rfl rfl)
theorem dX1_toss_49 : decode cX1_toss 49 = .ok (.ireturn, 1) := dk_172 (dk_at dksX1_toss_2 2 rfl rfl)
theorem dX1_toss_50 : decode cX1_toss 50 = .ok (.astore_n 2, 1) := dk_77 (dk_at dksX1_toss_2 3 rfl rfl)
theorem dX1_toss_51 : decode cX1_toss 51 = .ok (.bipush (-12), 2) := dk_16 244 (dk_at dksX1_toss_2 4 rfl rfl)
theorem dX1_toss_53 : decode cX1_toss 53 = .ok (.ireturn, 1) := dk_172 (dk_at dksX1_toss_2 6 rfl rfl)
abbrev cX1_element : ByteArray := prog_1_method_65_code
def yX1_element : MethodName := ⟨RX1, "element", "(II)J"⟩
def dkwX1_element_3 : List UInt8 := [191, 58, 4, 187, 1, 120, 89, 183, 1, 122, 191, 58, 4, 187, 1, 120, 89, 183, 1, 122, 191]
abbrev dktX1_element_3 : List UInt8 := dkwX1_element_3 ++ []
def dkwX1_element_2 : List UInt8 := [192, 1, 109, 28, 53, 133, 173, 45, 192, 0, 245, 28, 46, 133, 173, 58, 4, 187, 1, 120, 89, 183, 1, 122]
abbrev dktX1_element_2 : List UInt8 := dkwX1_element_2 ++ dktX1_element_3
def dkwX1_element_1 : List UInt8 := [78, 45, 193, 0, 147, 153, 0, 11, 45, 192, 0, 147, 28, 51, 133, 173, 45, 193, 1, 109, 153, 0, 11, 45]
abbrev dktX1_element_1 : List UInt8 := dkwX1_element_1 ++ dktX1_element_2
def dkwX1_element_0 : List UInt8 := [27, 184, 0, 119, 154, 0, 11, 187, 1, 115, 89, 183, 1, 117, 191, 42, 180, 0, 122, 27, 50, 180, 0, 126]
abbrev dktX1_element_0 : List UInt8 := dkwX1_element_0 ++ dktX1_element_1
theorem dksX1_element_0 : cX1_element.data.toList.drop 0 = dktX1_element_0 := by decide +kernel
theorem dksX1_element_1 : cX1_element.data.toList.drop 24 = dktX1_element_1 := dk_seg dksX1_element_0 24 rfl rfl
theorem dksX1_element_2 : cX1_element.data.toList.drop 48 = dktX1_element_2 := dk_seg dksX1_element_1 24 rfl rfl
theorem dksX1_element_3 : cX1_element.data.toList.drop 72 = dktX1_element_3 := dk_seg dksX1_element_2 24 rfl rfl
theorem dX1_element_0 : decode cX1_element 0 = .ok (.iload_n 1, 1) := dk_27 (dk_at dksX1_element_0 0 rfl rfl)
theorem dX1_element_1 : decode cX1_element 1 = .ok (.invokestatic 119, 3) := dk_184 0 119 (dk_at dksX1_element_0 1 rfl rfl)
theorem dX1_element_4 : decode cX1_element 4 = .ok (.ifCond .ne 11, 3) := dk_154 0 11 (dk_at dksX1_element_0 4 rfl rfl)
theorem dX1_element_7 : decode cX1_element 7 = .ok (.new 371, 3) := dk_187 1 115 (dk_at dksX1_element_0 7 rfl rfl)
theorem dX1_element_10 : decode cX1_element 10 = .ok (.dup, 1) := dk_89 (dk_at dksX1_element_0 10 rfl rfl)
theorem dX1_element_11 : decode cX1_element 11 = .ok (.invokespecial 373, 3) := dk_183 1 117 (dk_at dksX1_element_0 11 rfl rfl)
theorem dX1_element_14 : decode cX1_element 14 = .ok (.athrow, 1) := dk_191 (dk_at dksX1_element_0 14 rfl rfl)
theorem dX1_element_15 : decode cX1_element 15 = .ok (.aload_n 0, 1) := dk_42 (dk_at dksX1_element_0 15 rfl rfl)
theorem dX1_element_16 : decode cX1_element 16 = .ok (.getfield 122, 3) := dk_180 0 122 (dk_at dksX1_element_0 16 rfl rfl)
theorem dX1_element_19 : decode cX1_element 19 = .ok (.iload_n 1, 1) := dk_27 (dk_at dksX1_element_0 19 rfl rfl)
theorem dX1_element_20 : decode cX1_element 20 = .ok (.aaload, 1) := dk_50 (dk_at dksX1_element_0 20 rfl rfl)
theorem dX1_element_21 : decode cX1_element 21 = .ok (.getfield 126, 3) := dk_180 0 126 (dk_at dksX1_element_0 21 rfl rfl)
theorem dX1_element_24 : decode cX1_element 24 = .ok (.astore_n 3, 1) := dk_78 (dk_at dksX1_element_1 0 rfl rfl)
theorem dX1_element_25 : decode cX1_element 25 = .ok (.aload_n 3, 1) := dk_45 (dk_at dksX1_element_1 1 rfl rfl)
theorem dX1_element_26 : decode cX1_element 26 = .ok (.instanceof 147, 3) := dk_193 0 147 (dk_at dksX1_element_1 2 rfl rfl)
theorem dX1_element_29 : decode cX1_element 29 = .ok (.ifCond .eq 11, 3) := dk_153 0 11 (dk_at dksX1_element_1 5 rfl rfl)
theorem dX1_element_32 : decode cX1_element 32 = .ok (.aload_n 3, 1) := dk_45 (dk_at dksX1_element_1 8 rfl rfl)
theorem dX1_element_33 : decode cX1_element 33 = .ok (.checkcast 147, 3) := dk_192 0 147 (dk_at dksX1_element_1 9 rfl rfl)
theorem dX1_element_36 : decode cX1_element 36 = .ok (.iload_n 2, 1) := dk_28 (dk_at dksX1_element_1 12 rfl rfl)
theorem dX1_element_37 : decode cX1_element 37 = .ok (.baload, 1) := dk_51 (dk_at dksX1_element_1 13 rfl rfl)
theorem dX1_element_38 : decode cX1_element 38 = .ok (.i2l, 1) := dk_133 (dk_at dksX1_element_1 14 rfl rfl)
theorem dX1_element_39 : decode cX1_element 39 = .ok (.lreturn, 1) := dk_173 (dk_at dksX1_element_1 15 rfl rfl)
theorem dX1_element_40 : decode cX1_element 40 = .ok (.aload_n 3, 1) := dk_45 (dk_at dksX1_element_1 16 rfl rfl)
theorem dX1_element_41 : decode cX1_element 41 = .ok (.instanceof 365, 3) := dk_193 1 109 (dk_at dksX1_element_1 17 rfl rfl)
theorem dX1_element_44 : decode cX1_element 44 = .ok (.ifCond .eq 11, 3) := dk_153 0 11 (dk_at dksX1_element_1 20 rfl rfl)
theorem dX1_element_47 : decode cX1_element 47 = .ok (.aload_n 3, 1) := dk_45 (dk_at dksX1_element_1 23 rfl rfl)
theorem dX1_element_48 : decode cX1_element 48 = .ok (.checkcast 365, 3) := dk_192 1 109 (dk_at dksX1_element_2 0 rfl rfl)
theorem dX1_element_51 : decode cX1_element 51 = .ok (.iload_n 2, 1) := dk_28 (dk_at dksX1_element_2 3 rfl rfl)
theorem dX1_element_52 : decode cX1_element 52 = .ok (.saload, 1) := dk_53 (dk_at dksX1_element_2 4 rfl rfl)
theorem dX1_element_53 : decode cX1_element 53 = .ok (.i2l, 1) := dk_133 (dk_at dksX1_element_2 5 rfl rfl)
theorem dX1_element_54 : decode cX1_element 54 = .ok (.lreturn, 1) := dk_173 (dk_at dksX1_element_2 6 rfl rfl)
theorem dX1_element_55 : decode cX1_element 55 = .ok (.aload_n 3, 1) := dk_45 (dk_at dksX1_element_2 7 rfl rfl)
theorem dX1_element_56 : decode cX1_element 56 = .ok (.checkcast 245, 3) := dk_192 0 245 (dk_at dksX1_element_2 8 rfl rfl)
theorem dX1_element_59 : decode cX1_element 59 = .ok (.iload_n 2, 1) := dk_28 (dk_at dksX1_element_2 11 rfl rfl)
theorem dX1_element_60 : decode cX1_element 60 = .ok (.iaload, 1) := dk_46 (dk_at dksX1_element_2 12 rfl rfl)
theorem dX1_element_61 : decode cX1_element 61 = .ok (.i2l, 1) := dk_133 (dk_at dksX1_element_2 13 rfl rfl)
theorem dX1_element_62 : decode cX1_element 62 = .ok (.lreturn, 1) := dk_173 (dk_at dksX1_element_2 14 rfl rfl)
theorem dX1_element_63 : decode cX1_element 63 = .ok (.astore 4, 2) := dk_58 4 (dk_at dksX1_element_2 15 rfl rfl)
theorem dX1_element_65 : decode cX1_element 65 = .ok (.new 376, 3) := dk_187 1 120 (dk_at dksX1_element_2 17 rfl rfl)
theorem dX1_element_68 : decode cX1_element 68 = .ok (.dup, 1) := dk_89 (dk_at dksX1_element_2 20 rfl rfl)
theorem dX1_element_69 : decode cX1_element 69 = .ok (.invokespecial 378, 3) := dk_183 1 122 (dk_at dksX1_element_2 21 rfl rfl)
theorem dX1_element_72 : decode cX1_element 72 = .ok (.athrow, 1) := dk_191 (dk_at dksX1_element_3 0 rfl rfl)
theorem dX1_element_73 : decode cX1_element 73 = .ok (.astore 4, 2) := dk_58 4 (dk_at dksX1_element_3 1 rfl rfl)
theorem dX1_element_75 : decode cX1_element 75 = .ok (.new 376, 3) := dk_187 1 120 (dk_at dksX1_element_3 3 rfl rfl)
theorem dX1_element_78 : decode cX1_element 78 = .ok (.dup, 1) := dk_89 (dk_at dksX1_element_3 6 rfl rfl)
theorem dX1_element_79 : decode cX1_element 79 = .ok (.invokespecial 378, 3) := dk_183 1 122 (dk_at dksX1_element_3 7 rfl rfl)
theorem dX1_element_82 : decode cX1_element 82 = .ok (.athrow, 1) := dk_191 (dk_at dksX1_element_3 10 rfl rfl)
theorem dX1_element_83 : decode cX1_element 83 = .ok (.astore 4, 2) := dk_58 4 (dk_at dksX1_element_3 11 rfl rfl)
theorem dX1_element_85 : decode cX1_element 85 = .ok (.new 376, 3) := dk_187 1 120 (dk_at dksX1_element_3 13 rfl rfl)
theorem dX1_element_88 : decode cX1_element 88 = .ok (.dup, 1) := dk_89 (dk_at dksX1_element_3 16 rfl rfl)
theorem dX1_element_89 : decode cX1_element 89 = .ok (.invokespecial 378, 3) := dk_183 1 122 (dk_at dksX1_element_3 17 rfl rfl)
theorem dX1_element_92 : decode cX1_element 92 = .ok (.athrow, 1) := dk_191 (dk_at dksX1_element_3 20 rfl rfl)
theorem q76 : (Jvm.Cond.initialized "DownRope") ∈ lw_all := lw_g (lw_at lw_m1 1 rfl) rfl
theorem q105 : (Jvm.Cond.instanceMethod ({ cls := "DownRope", name := "face", desc := "(I)I" } : Jvm.MethodName)) ∈ lw_all := lw_g (lw_at lw_m1 30 rfl) rfl
theorem q106 : (Jvm.Cond.selects "DownRope" ({ cls := "DownRope", name := "face", desc := "(I)I" } : Jvm.MethodName) ({ cls := "DownRope", name := "face", desc := "(I)I" } : Jvm.MethodName)) ∈ lw_all := lw_g (lw_at lw_m1 31 rfl) rfl
theorem q107 : (Jvm.Cond.codeWith ({ cls := "DownRope", name := "face", desc := "(I)I" } : Jvm.MethodName) prog_1_method_14_code (5 : Nat) (Option.some Jvm.ClassFile.FieldType.int) [((24 : Nat), (104 : Nat), (105 : Nat), (162 : Nat))]) ∈ lw_all := lw_g (lw_at lw_m1 32 rfl) rfl
theorem q108 : (Jvm.Cond.classLink "DownRope" (162 : Nat) "DownRope$Broken") ∈ lw_all := lw_g (lw_at lw_m1 33 rfl) rfl
theorem q109 : (Jvm.Cond.methodLink "DownRope" (136 : Nat) ({ cls := "DownRope", name := "notRow", desc := "(II)I" } : Jvm.MethodName)) ∈ lw_all := lw_g (lw_at lw_m1 34 rfl) rfl
theorem q110 : (Jvm.Cond.privateMethod ({ cls := "DownRope", name := "notRow", desc := "(II)I" } : Jvm.MethodName)) ∈ lw_tbl := lw_at lw_m1 35 rfl
theorem q111 : (Jvm.Cond.instanceMethod ({ cls := "DownRope", name := "notRow", desc := "(II)I" } : Jvm.MethodName)) ∈ lw_all := lw_g (lw_at lw_m1 36 rfl) rfl
theorem q112 : (Jvm.Cond.instantiable "DownRope" (21 : Nat)) ∈ lw_all := lw_g (lw_at lw_m1 37 rfl) rfl
theorem q113 : (Jvm.Cond.code ({ cls := "DownRope", name := "notRow", desc := "(II)I" } : Jvm.MethodName) prog_1_method_13_code (4 : Nat) (Option.some Jvm.ClassFile.FieldType.int)) ∈ lw_all := lw_g (lw_at lw_m1 38 rfl) rfl
theorem q114 : (Jvm.Cond.methodLink "DownRope" (119 : Nat) ({ cls := "DownRope", name := "isShelf", desc := "(I)Z" } : Jvm.MethodName)) ∈ lw_all := lw_g (lw_at lw_m1 39 rfl) rfl
theorem q115 : (Jvm.Cond.static ({ cls := "DownRope", name := "isShelf", desc := "(I)Z" } : Jvm.MethodName)) ∈ lw_all := lw_g (lw_at lw_m1 40 rfl) rfl
theorem q116 : (Jvm.Cond.code ({ cls := "DownRope", name := "isShelf", desc := "(I)Z" } : Jvm.MethodName) prog_1_method_12_code (1 : Nat) (Option.some Jvm.ClassFile.FieldType.boolean)) ∈ lw_all := lw_g (lw_at lw_m1 41 rfl) rfl
theorem q117 : (Jvm.Cond.methodLink "DownRope" (13 : Nat) ({ cls := "DownRope", name := "isIn", desc := "(III)Z" } : Jvm.MethodName)) ∈ lw_all := lw_g (lw_at lw_m1 42 rfl) rfl
theorem q118 : (Jvm.Cond.static ({ cls := "DownRope", name := "isIn", desc := "(III)Z" } : Jvm.MethodName)) ∈ lw_all := lw_g (lw_at lw_m1 43 rfl) rfl
theorem q119 : (Jvm.Cond.code ({ cls := "DownRope", name := "isIn", desc := "(III)Z" } : Jvm.MethodName) prog_1_method_1_code (3 : Nat) (Option.some Jvm.ClassFile.FieldType.boolean)) ∈ lw_all := lw_g (lw_at lw_m1 44 rfl) rfl
theorem q120 : (Jvm.Cond.methodLink "DownRope" (132 : Nat) ({ cls := "DownRope", name := "sortOf", desc := "(Ljava/lang/Object;)I" } : Jvm.MethodName)) ∈ lw_all := lw_g (lw_at lw_m1 45 rfl) rfl
theorem q121 : (Jvm.Cond.static ({ cls := "DownRope", name := "sortOf", desc := "(Ljava/lang/Object;)I" } : Jvm.MethodName)) ∈ lw_all := lw_g (lw_at lw_m1 46 rfl) rfl
theorem q122 : (Jvm.Cond.code ({ cls := "DownRope", name := "sortOf", desc := "(Ljava/lang/Object;)I" } : Jvm.MethodName) prog_1_method_66_code (1 : Nat) (Option.some Jvm.ClassFile.FieldType.int)) ∈ lw_all := lw_g (lw_at lw_m1 47 rfl) rfl
theorem q123 : (Jvm.Cond.classLink "DownRope" (147 : Nat) "[B") ∈ lw_all := lw_g (lw_at lw_m1 48 rfl) rfl
theorem q124 : (Jvm.Cond.classLink "DownRope" (365 : Nat) "[S") ∈ lw_all := lw_g (lw_at lw_m1 49 rfl) rfl
theorem q125 : (Jvm.Cond.classLink "DownRope" (245 : Nat) "[I") ∈ lw_all := lw_g (lw_at lw_m1 50 rfl) rfl
theorem q126 : (Jvm.Cond.methodLink "DownRope" (143 : Nat) ({ cls := "DownRope$Face", name := "takes", desc := "(LDownRope$Face;)V" } : Jvm.MethodName)) ∈ lw_all := lw_g (lw_at lw_m1 51 rfl) rfl
theorem q138 : (Jvm.Cond.classLink "DownRope" (90 : Nat) "DownRope$Reader") ∈ lw_all := lw_g (lw_at lw_m1 63 rfl) rfl
theorem q140 : (Jvm.Cond.methodLink "DownRope" (149 : Nat) ({ cls := "DownRope$Reader", name := "<init>", desc := "([B)V" } : Jvm.MethodName)) ∈ lw_all := lw_g (lw_at lw_m1 65 rfl) rfl
theorem q151 : (Jvm.Cond.fieldLink "DownRope" (95 : Nat) "DownRope$Reader" "letter" "[I") ∈ lw_all := lw_g (lw_at lw_m1 76 rfl) rfl
theorem q153 : (Jvm.Cond.fieldLink "DownRope" (164 : Nat) "DownRope$Reader" "place" "[I") ∈ lw_all := lw_g (lw_at lw_m1 78 rfl) rfl
theorem q155 : (Jvm.Cond.fieldLink "DownRope" (89 : Nat) "DownRope$Reader" "told" "[[I") ∈ lw_all := lw_g (lw_at lw_m1 80 rfl) rfl
theorem q157 : (Jvm.Cond.fieldLink "DownRope" (102 : Nat) "DownRope$Reader" "isSigned" "[Z") ∈ lw_all := lw_g (lw_at lw_m1 82 rfl) rfl
theorem q159 : (Jvm.Cond.fieldLink "DownRope" (155 : Nat) "DownRope$Reader" "statements" "I") ∈ lw_all := lw_g (lw_at lw_m1 84 rfl) rfl
theorem q177 : (Jvm.Cond.methodLink "DownRope" (152 : Nat) ({ cls := "DownRope$Reader", name := "reads", desc := "()V" } : Jvm.MethodName)) ∈ lw_all := lw_g (lw_at lw_m1 102 rfl) rfl
theorem q264 : (Jvm.Cond.fieldLink "DownRope" (173 : Nat) "DownRope$Broken" "kind" "I") ∈ lw_all := lw_g (lw_at lw_m1 189 rfl) rfl
theorem q266 : (Jvm.Cond.fieldLink "DownRope" (176 : Nat) "DownRope$Broken" "place" "I") ∈ lw_all := lw_g (lw_at lw_m1 191 rfl) rfl
theorem q296 : (Jvm.Cond.methodLink "DownRope" (158 : Nat) ({ cls := "DownRope", name := "comesAs", desc := "(LDownRope$Reader;I)Z" } : Jvm.MethodName)) ∈ lw_all := lw_g (lw_at lw_m1 221 rfl) rfl
theorem q297 : (Jvm.Cond.privateMethod ({ cls := "DownRope", name := "comesAs", desc := "(LDownRope$Reader;I)Z" } : Jvm.MethodName)) ∈ lw_tbl := lw_at lw_m1 222 rfl
theorem q298 : (Jvm.Cond.instanceMethod ({ cls := "DownRope", name := "comesAs", desc := "(LDownRope$Reader;I)Z" } : Jvm.MethodName)) ∈ lw_all := lw_g (lw_at lw_m1 223 rfl) rfl
theorem q299 : (Jvm.Cond.code ({ cls := "DownRope", name := "comesAs", desc := "(LDownRope$Reader;I)Z" } : Jvm.MethodName) prog_1_method_11_code (4 : Nat) (Option.some Jvm.ClassFile.FieldType.boolean)) ∈ lw_all := lw_g (lw_at lw_m1 224 rfl) rfl
theorem q300 : (Jvm.Cond.methodLink "DownRope" (98 : Nat) ({ cls := "DownRope", name := "comesLedge", desc := "([I)Z" } : Jvm.MethodName)) ∈ lw_all := lw_g (lw_at lw_m1 225 rfl) rfl
theorem q301 : (Jvm.Cond.privateMethod ({ cls := "DownRope", name := "comesLedge", desc := "([I)Z" } : Jvm.MethodName)) ∈ lw_tbl := lw_at lw_m1 226 rfl
theorem q302 : (Jvm.Cond.instanceMethod ({ cls := "DownRope", name := "comesLedge", desc := "([I)Z" } : Jvm.MethodName)) ∈ lw_all := lw_g (lw_at lw_m1 227 rfl) rfl
theorem q303 : (Jvm.Cond.code ({ cls := "DownRope", name := "comesLedge", desc := "([I)Z" } : Jvm.MethodName) prog_1_method_6_code (2 : Nat) (Option.some Jvm.ClassFile.FieldType.boolean)) ∈ lw_all := lw_g (lw_at lw_m1 228 rfl) rfl
theorem q304 : (Jvm.Cond.methodLink "DownRope" (105 : Nat) ({ cls := "DownRope", name := "comesDrop", desc := "([IZ)Z" } : Jvm.MethodName)) ∈ lw_all := lw_g (lw_at lw_m1 229 rfl) rfl
theorem q305 : (Jvm.Cond.privateMethod ({ cls := "DownRope", name := "comesDrop", desc := "([IZ)Z" } : Jvm.MethodName)) ∈ lw_tbl := lw_at lw_m1 230 rfl
theorem q306 : (Jvm.Cond.instanceMethod ({ cls := "DownRope", name := "comesDrop", desc := "([IZ)Z" } : Jvm.MethodName)) ∈ lw_all := lw_g (lw_at lw_m1 231 rfl) rfl
theorem q307 : (Jvm.Cond.code ({ cls := "DownRope", name := "comesDrop", desc := "([IZ)Z" } : Jvm.MethodName) prog_1_method_7_code (3 : Nat) (Option.some Jvm.ClassFile.FieldType.boolean)) ∈ lw_all := lw_g (lw_at lw_m1 232 rfl) rfl
theorem q308 : (Jvm.Cond.methodLink "DownRope" (61 : Nat) ({ cls := "DownRope$Face", name := "isLedge", desc := "(I)Z" } : Jvm.MethodName)) ∈ lw_all := lw_g (lw_at lw_m1 233 rfl) rfl
theorem q312 : (Jvm.Cond.methodLink "DownRope" (109 : Nat) ({ cls := "DownRope", name := "comesPerson", desc := "([I)Z" } : Jvm.MethodName)) ∈ lw_all := lw_g (lw_at lw_m1 237 rfl) rfl
theorem q313 : (Jvm.Cond.privateMethod ({ cls := "DownRope", name := "comesPerson", desc := "([I)Z" } : Jvm.MethodName)) ∈ lw_tbl := lw_at lw_m1 238 rfl
theorem q314 : (Jvm.Cond.instanceMethod ({ cls := "DownRope", name := "comesPerson", desc := "([I)Z" } : Jvm.MethodName)) ∈ lw_all := lw_g (lw_at lw_m1 239 rfl) rfl
theorem q315 : (Jvm.Cond.code ({ cls := "DownRope", name := "comesPerson", desc := "([I)Z" } : Jvm.MethodName) prog_1_method_8_code (2 : Nat) (Option.some Jvm.ClassFile.FieldType.boolean)) ∈ lw_all := lw_g (lw_at lw_m2 0 rfl) rfl
theorem q316 : (Jvm.Cond.methodLink "DownRope" (112 : Nat) ({ cls := "DownRope", name := "comesRope", desc := "([I)Z" } : Jvm.MethodName)) ∈ lw_all := lw_g (lw_at lw_m2 1 rfl) rfl
theorem q317 : (Jvm.Cond.privateMethod ({ cls := "DownRope", name := "comesRope", desc := "([I)Z" } : Jvm.MethodName)) ∈ lw_tbl := lw_at lw_m2 2 rfl
theorem q318 : (Jvm.Cond.instanceMethod ({ cls := "DownRope", name := "comesRope", desc := "([I)Z" } : Jvm.MethodName)) ∈ lw_all := lw_g (lw_at lw_m2 3 rfl) rfl
theorem q319 : (Jvm.Cond.code ({ cls := "DownRope", name := "comesRope", desc := "([I)Z" } : Jvm.MethodName) prog_1_method_9_code (2 : Nat) (Option.some Jvm.ClassFile.FieldType.boolean)) ∈ lw_all := lw_g (lw_at lw_m2 4 rfl) rfl
theorem q320 : (Jvm.Cond.methodLink "DownRope" (115 : Nat) ({ cls := "DownRope", name := "sets", desc := "(II)Z" } : Jvm.MethodName)) ∈ lw_all := lw_g (lw_at lw_m2 5 rfl) rfl
theorem q321 : (Jvm.Cond.privateMethod ({ cls := "DownRope", name := "sets", desc := "(II)Z" } : Jvm.MethodName)) ∈ lw_tbl := lw_at lw_m2 6 rfl
theorem q322 : (Jvm.Cond.instanceMethod ({ cls := "DownRope", name := "sets", desc := "(II)Z" } : Jvm.MethodName)) ∈ lw_all := lw_g (lw_at lw_m2 7 rfl) rfl
theorem q323 : (Jvm.Cond.code ({ cls := "DownRope", name := "sets", desc := "(II)Z" } : Jvm.MethodName) prog_1_method_10_code (3 : Nat) (Option.some Jvm.ClassFile.FieldType.boolean)) ∈ lw_all := lw_g (lw_at lw_m2 8 rfl) rfl
theorem q324 : (Jvm.Cond.methodLink "DownRope" (167 : Nat) ({ cls := "DownRope$Broken", name := "<init>", desc := "(II)V" } : Jvm.MethodName)) ∈ lw_all := lw_g (lw_at lw_m2 9 rfl) rfl
theorem q326 : (Jvm.Cond.instanceMethod ({ cls := "DownRope", name := "ledge", desc := "(II)I" } : Jvm.MethodName)) ∈ lw_all := lw_g (lw_at lw_m2 11 rfl) rfl
theorem q327 : (Jvm.Cond.selects "DownRope" ({ cls := "DownRope", name := "ledge", desc := "(II)I" } : Jvm.MethodName) ({ cls := "DownRope", name := "ledge", desc := "(II)I" } : Jvm.MethodName)) ∈ lw_all := lw_g (lw_at lw_m2 12 rfl) rfl
theorem q328 : (Jvm.Cond.code ({ cls := "DownRope", name := "ledge", desc := "(II)I" } : Jvm.MethodName) prog_1_method_15_code (3 : Nat) (Option.some Jvm.ClassFile.FieldType.int)) ∈ lw_all := lw_g (lw_at lw_m2 13 rfl) rfl
theorem q329 : (Jvm.Cond.methodLink "DownRope" (178 : Nat) ({ cls := "DownRope$Face", name := "ground", desc := "()I" } : Jvm.MethodName)) ∈ lw_all := lw_g (lw_at lw_m2 14 rfl) rfl
theorem q334 : (Jvm.Cond.instanceMethod ({ cls := "DownRope", name := "hold", desc := "(II)I" } : Jvm.MethodName)) ∈ lw_all := lw_g (lw_at lw_m2 19 rfl) rfl
theorem q335 : (Jvm.Cond.selects "DownRope" ({ cls := "DownRope", name := "hold", desc := "(II)I" } : Jvm.MethodName) ({ cls := "DownRope", name := "hold", desc := "(II)I" } : Jvm.MethodName)) ∈ lw_all := lw_g (lw_at lw_m2 20 rfl) rfl
theorem q336 : (Jvm.Cond.code ({ cls := "DownRope", name := "hold", desc := "(II)I" } : Jvm.MethodName) prog_1_method_16_code (4 : Nat) (Option.some Jvm.ClassFile.FieldType.int)) ∈ lw_all := lw_g (lw_at lw_m2 21 rfl) rfl
theorem q338 : (Jvm.Cond.instanceMethod ({ cls := "DownRope", name := "set", desc := "(II)I" } : Jvm.MethodName)) ∈ lw_all := lw_g (lw_at lw_m2 23 rfl) rfl
theorem q339 : (Jvm.Cond.selects "DownRope" ({ cls := "DownRope", name := "set", desc := "(II)I" } : Jvm.MethodName) ({ cls := "DownRope", name := "set", desc := "(II)I" } : Jvm.MethodName)) ∈ lw_all := lw_g (lw_at lw_m2 24 rfl) rfl
theorem q340 : (Jvm.Cond.code ({ cls := "DownRope", name := "set", desc := "(II)I" } : Jvm.MethodName) prog_1_method_17_code (4 : Nat) (Option.some Jvm.ClassFile.FieldType.int)) ∈ lw_all := lw_g (lw_at lw_m2 25 rfl) rfl
theorem q342 : (Jvm.Cond.instanceMethod ({ cls := "DownRope", name := "cut", desc := "(II)I" } : Jvm.MethodName)) ∈ lw_all := lw_g (lw_at lw_m2 27 rfl) rfl
theorem q343 : (Jvm.Cond.selects "DownRope" ({ cls := "DownRope", name := "cut", desc := "(II)I" } : Jvm.MethodName) ({ cls := "DownRope", name := "cut", desc := "(II)I" } : Jvm.MethodName)) ∈ lw_all := lw_g (lw_at lw_m2 28 rfl) rfl
theorem q344 : (Jvm.Cond.code ({ cls := "DownRope", name := "cut", desc := "(II)I" } : Jvm.MethodName) prog_1_method_18_code (4 : Nat) (Option.some Jvm.ClassFile.FieldType.int)) ∈ lw_all := lw_g (lw_at lw_m2 29 rfl) rfl
theorem q345 : (Jvm.Cond.methodLink "DownRope" (182 : Nat) ({ cls := "DownRope", name := "isRope", desc := "(I)Z" } : Jvm.MethodName)) ∈ lw_all := lw_g (lw_at lw_m2 30 rfl) rfl
theorem q346 : (Jvm.Cond.privateMethod ({ cls := "DownRope", name := "isRope", desc := "(I)Z" } : Jvm.MethodName)) ∈ lw_tbl := lw_at lw_m2 31 rfl
theorem q347 : (Jvm.Cond.instanceMethod ({ cls := "DownRope", name := "isRope", desc := "(I)Z" } : Jvm.MethodName)) ∈ lw_all := lw_g (lw_at lw_m2 32 rfl) rfl
theorem q348 : (Jvm.Cond.code ({ cls := "DownRope", name := "isRope", desc := "(I)Z" } : Jvm.MethodName) prog_1_method_3_code (2 : Nat) (Option.some Jvm.ClassFile.FieldType.boolean)) ∈ lw_all := lw_g (lw_at lw_m2 33 rfl) rfl
theorem q350 : (Jvm.Cond.instanceMethod ({ cls := "DownRope", name := "person", desc := "(I)I" } : Jvm.MethodName)) ∈ lw_all := lw_g (lw_at lw_m2 35 rfl) rfl
theorem q351 : (Jvm.Cond.selects "DownRope" ({ cls := "DownRope", name := "person", desc := "(I)I" } : Jvm.MethodName) ({ cls := "DownRope", name := "person", desc := "(I)I" } : Jvm.MethodName)) ∈ lw_all := lw_g (lw_at lw_m2 36 rfl) rfl
theorem q352 : (Jvm.Cond.code ({ cls := "DownRope", name := "person", desc := "(I)I" } : Jvm.MethodName) prog_1_method_19_code (2 : Nat) (Option.some Jvm.ClassFile.FieldType.int)) ∈ lw_all := lw_g (lw_at lw_m2 37 rfl) rfl
theorem q353 : (Jvm.Cond.methodLink "DownRope" (185 : Nat) ({ cls := "DownRope", name := "isPerson", desc := "(I)Z" } : Jvm.MethodName)) ∈ lw_all := lw_g (lw_at lw_m2 38 rfl) rfl
theorem q354 : (Jvm.Cond.privateMethod ({ cls := "DownRope", name := "isPerson", desc := "(I)Z" } : Jvm.MethodName)) ∈ lw_tbl := lw_at lw_m2 39 rfl
theorem q355 : (Jvm.Cond.instanceMethod ({ cls := "DownRope", name := "isPerson", desc := "(I)Z" } : Jvm.MethodName)) ∈ lw_all := lw_g (lw_at lw_m2 40 rfl) rfl
theorem q356 : (Jvm.Cond.code ({ cls := "DownRope", name := "isPerson", desc := "(I)Z" } : Jvm.MethodName) prog_1_method_2_code (2 : Nat) (Option.some Jvm.ClassFile.FieldType.boolean)) ∈ lw_all := lw_g (lw_at lw_m2 41 rfl) rfl
theorem q358 : (Jvm.Cond.instanceMethod ({ cls := "DownRope", name := "rope", desc := "(II)I" } : Jvm.MethodName)) ∈ lw_all := lw_g (lw_at lw_m2 43 rfl) rfl
theorem q359 : (Jvm.Cond.selects "DownRope" ({ cls := "DownRope", name := "rope", desc := "(II)I" } : Jvm.MethodName) ({ cls := "DownRope", name := "rope", desc := "(II)I" } : Jvm.MethodName)) ∈ lw_all := lw_g (lw_at lw_m2 44 rfl) rfl
theorem q360 : (Jvm.Cond.code ({ cls := "DownRope", name := "rope", desc := "(II)I" } : Jvm.MethodName) prog_1_method_20_code (3 : Nat) (Option.some Jvm.ClassFile.FieldType.int)) ∈ lw_all := lw_g (lw_at lw_m2 45 rfl) rfl
theorem q362 : (Jvm.Cond.instanceMethod ({ cls := "DownRope", name := "far", desc := "(II)I" } : Jvm.MethodName)) ∈ lw_all := lw_g (lw_at lw_m2 47 rfl) rfl
theorem q363 : (Jvm.Cond.selects "DownRope" ({ cls := "DownRope", name := "far", desc := "(II)I" } : Jvm.MethodName) ({ cls := "DownRope", name := "far", desc := "(II)I" } : Jvm.MethodName)) ∈ lw_all := lw_g (lw_at lw_m2 48 rfl) rfl
theorem q364 : (Jvm.Cond.code ({ cls := "DownRope", name := "far", desc := "(II)I" } : Jvm.MethodName) prog_1_method_21_code (4 : Nat) (Option.some Jvm.ClassFile.FieldType.int)) ∈ lw_all := lw_g (lw_at lw_m2 49 rfl) rfl
theorem q365 : (Jvm.Cond.methodLink "DownRope" (188 : Nat) ({ cls := "DownRope$Face", name := "far", desc := "(II)I" } : Jvm.MethodName)) ∈ lw_all := lw_g (lw_at lw_m2 50 rfl) rfl
theorem q371 : (Jvm.Cond.instanceMethod ({ cls := "DownRope", name := "may", desc := "(I)I" } : Jvm.MethodName)) ∈ lw_all := lw_g (lw_at lw_m2 56 rfl) rfl
theorem q372 : (Jvm.Cond.selects "DownRope" ({ cls := "DownRope", name := "may", desc := "(I)I" } : Jvm.MethodName) ({ cls := "DownRope", name := "may", desc := "(I)I" } : Jvm.MethodName)) ∈ lw_all := lw_g (lw_at lw_m2 57 rfl) rfl
theorem q373 : (Jvm.Cond.code ({ cls := "DownRope", name := "may", desc := "(I)I" } : Jvm.MethodName) prog_1_method_24_code (2 : Nat) (Option.some Jvm.ClassFile.FieldType.int)) ∈ lw_all := lw_g (lw_at lw_m2 58 rfl) rfl
theorem q374 : (Jvm.Cond.methodLink "DownRope" (200 : Nat) ({ cls := "DownRope", name := "isTold", desc := "(I)Z" } : Jvm.MethodName)) ∈ lw_all := lw_g (lw_at lw_m2 59 rfl) rfl
theorem q375 : (Jvm.Cond.static ({ cls := "DownRope", name := "isTold", desc := "(I)Z" } : Jvm.MethodName)) ∈ lw_all := lw_g (lw_at lw_m2 60 rfl) rfl
theorem q376 : (Jvm.Cond.code ({ cls := "DownRope", name := "isTold", desc := "(I)Z" } : Jvm.MethodName) prog_1_method_22_code (1 : Nat) (Option.some Jvm.ClassFile.FieldType.boolean)) ∈ lw_all := lw_g (lw_at lw_m2 61 rfl) rfl
theorem q377 : (Jvm.Cond.constant "DownRope" (191 : Nat) (69999 : Int32)) ∈ lw_all := lw_g (lw_at lw_m2 62 rfl) rfl
theorem q378 : (Jvm.Cond.methodLink "DownRope" (203 : Nat) ({ cls := "DownRope", name := "told", desc := "(I)LDownRope$Move;" } : Jvm.MethodName)) ∈ lw_all := lw_g (lw_at lw_m2 63 rfl) rfl
theorem q379 : (Jvm.Cond.privateMethod ({ cls := "DownRope", name := "told", desc := "(I)LDownRope$Move;" } : Jvm.MethodName)) ∈ lw_tbl := lw_at lw_m2 64 rfl
theorem q380 : (Jvm.Cond.instanceMethod ({ cls := "DownRope", name := "told", desc := "(I)LDownRope$Move;" } : Jvm.MethodName)) ∈ lw_all := lw_g (lw_at lw_m2 65 rfl) rfl
theorem q381 : (Jvm.Cond.code ({ cls := "DownRope", name := "told", desc := "(I)LDownRope$Move;" } : Jvm.MethodName) prog_1_method_23_code (2 : Nat) (Option.some (Jvm.ClassFile.FieldType.object "DownRope$Move"))) ∈ lw_all := lw_g (lw_at lw_m2 66 rfl) rfl
theorem q382 : (Jvm.Cond.methodLink "DownRope" (196 : Nat) ({ cls := "DownRope$Move", name := "tells", desc := "(IIII)LDownRope$Move;" } : Jvm.MethodName)) ∈ lw_all := lw_g (lw_at lw_m2 67 rfl) rfl
theorem q393 : (Jvm.Cond.methodLink "DownRope" (206 : Nat) ({ cls := "DownRope$Move", name := "minutes", desc := "(LDownRope$Face;LDownRope$Spot;)I" } : Jvm.MethodName)) ∈ lw_all := lw_g (lw_at lw_m2 78 rfl) rfl
theorem q404 : (Jvm.Cond.static ({ cls := "DownRope", name := "bits", desc := "(I)I" } : Jvm.MethodName)) ∈ lw_all := lw_g (lw_at lw_m2 89 rfl) rfl
theorem q405 : (Jvm.Cond.code ({ cls := "DownRope", name := "bits", desc := "(I)I" } : Jvm.MethodName) prog_1_method_4_code (3 : Nat) (Option.some Jvm.ClassFile.FieldType.int)) ∈ lw_all := lw_g (lw_at lw_m2 90 rfl) rfl
theorem q501 : (Jvm.Cond.instanceMethod ({ cls := "DownRope", name := "move", desc := "(I)I" } : Jvm.MethodName)) ∈ lw_all := lw_g (lw_at lw_m2 186 rfl) rfl
theorem q502 : (Jvm.Cond.selects "DownRope" ({ cls := "DownRope", name := "move", desc := "(I)I" } : Jvm.MethodName) ({ cls := "DownRope", name := "move", desc := "(I)I" } : Jvm.MethodName)) ∈ lw_all := lw_g (lw_at lw_m2 187 rfl) rfl
theorem q503 : (Jvm.Cond.code ({ cls := "DownRope", name := "move", desc := "(I)I" } : Jvm.MethodName) prog_1_method_25_code (3 : Nat) (Option.some Jvm.ClassFile.FieldType.int)) ∈ lw_all := lw_g (lw_at lw_m2 188 rfl) rfl
theorem q504 : (Jvm.Cond.methodLink "DownRope" (209 : Nat) ({ cls := "DownRope$Move", name := "does", desc := "(LDownRope$Spot;)V" } : Jvm.MethodName)) ∈ lw_all := lw_g (lw_at lw_m2 189 rfl) rfl
theorem q542 : (Jvm.Cond.instanceMethod ({ cls := "DownRope", name := "moves", desc := "(I)I" } : Jvm.MethodName)) ∈ lw_all := lw_g (lw_at lw_m2 227 rfl) rfl
theorem q543 : (Jvm.Cond.selects "DownRope" ({ cls := "DownRope", name := "moves", desc := "(I)I" } : Jvm.MethodName) ({ cls := "DownRope", name := "moves", desc := "(I)I" } : Jvm.MethodName)) ∈ lw_all := lw_g (lw_at lw_m2 228 rfl) rfl
theorem q544 : (Jvm.Cond.code ({ cls := "DownRope", name := "moves", desc := "(I)I" } : Jvm.MethodName) prog_1_method_29_code (2 : Nat) (Option.some Jvm.ClassFile.FieldType.int)) ∈ lw_all := lw_g (lw_at lw_m2 229 rfl) rfl
theorem q545 : (Jvm.Cond.methodLink "DownRope" (232 : Nat) ({ cls := "DownRope", name := "lists", desc := "(LDownRope$Spot;)V" } : Jvm.MethodName)) ∈ lw_all := lw_g (lw_at lw_m2 230 rfl) rfl
theorem q546 : (Jvm.Cond.privateMethod ({ cls := "DownRope", name := "lists", desc := "(LDownRope$Spot;)V" } : Jvm.MethodName)) ∈ lw_tbl := lw_at lw_m2 231 rfl
theorem q547 : (Jvm.Cond.instanceMethod ({ cls := "DownRope", name := "lists", desc := "(LDownRope$Spot;)V" } : Jvm.MethodName)) ∈ lw_all := lw_g (lw_at lw_m2 232 rfl) rfl
theorem q548 : (Jvm.Cond.code ({ cls := "DownRope", name := "lists", desc := "(LDownRope$Spot;)V" } : Jvm.MethodName) prog_1_method_28_code (8 : Nat) (Option.none : Option Jvm.ClassFile.FieldType)) ∈ lw_all := lw_g (lw_at lw_m2 233 rfl) rfl
theorem q549 : (Jvm.Cond.methodLink "DownRope" (224 : Nat) ({ cls := "DownRope", name := "ledgeOf", desc := "(ILDownRope$Spot;)I" } : Jvm.MethodName)) ∈ lw_all := lw_g (lw_at lw_m2 234 rfl) rfl
theorem q550 : (Jvm.Cond.privateMethod ({ cls := "DownRope", name := "ledgeOf", desc := "(ILDownRope$Spot;)I" } : Jvm.MethodName)) ∈ lw_tbl := lw_at lw_m2 235 rfl
theorem q551 : (Jvm.Cond.instanceMethod ({ cls := "DownRope", name := "ledgeOf", desc := "(ILDownRope$Spot;)I" } : Jvm.MethodName)) ∈ lw_all := lw_g (lw_at lw_m2 236 rfl) rfl
theorem q552 : (Jvm.Cond.code ({ cls := "DownRope", name := "ledgeOf", desc := "(ILDownRope$Spot;)I" } : Jvm.MethodName) prog_1_method_27_code (5 : Nat) (Option.some Jvm.ClassFile.FieldType.int)) ∈ lw_all := lw_g (lw_at lw_m2 237 rfl) rfl
theorem q553 : (Jvm.Cond.methodLink "DownRope" (228 : Nat) ({ cls := "DownRope", name := "tries", desc := "(LDownRope$Move;LDownRope$Spot;)V" } : Jvm.MethodName)) ∈ lw_all := lw_g (lw_at lw_m2 238 rfl) rfl
theorem q554 : (Jvm.Cond.privateMethod ({ cls := "DownRope", name := "tries", desc := "(LDownRope$Move;LDownRope$Spot;)V" } : Jvm.MethodName)) ∈ lw_tbl := lw_at lw_m2 239 rfl
theorem q555 : (Jvm.Cond.instanceMethod ({ cls := "DownRope", name := "tries", desc := "(LDownRope$Move;LDownRope$Spot;)V" } : Jvm.MethodName)) ∈ lw_all := lw_g (lw_at lw_m3 0 rfl) rfl
theorem q556 : (Jvm.Cond.code ({ cls := "DownRope", name := "tries", desc := "(LDownRope$Move;LDownRope$Spot;)V" } : Jvm.MethodName) prog_1_method_26_code (4 : Nat) (Option.none : Option Jvm.ClassFile.FieldType)) ∈ lw_all := lw_g (lw_at lw_m3 1 rfl) rfl
theorem q557 : (Jvm.Cond.methodLink "DownRope" (219 : Nat) ({ cls := "DownRope$Move", name := "told", desc := "()I" } : Jvm.MethodName)) ∈ lw_all := lw_g (lw_at lw_m3 2 rfl) rfl
theorem q592 : (Jvm.Cond.instanceMethod ({ cls := "DownRope", name := "down", desc := "()I" } : Jvm.MethodName)) ∈ lw_all := lw_g (lw_at lw_m3 37 rfl) rfl
theorem q593 : (Jvm.Cond.selects "DownRope" ({ cls := "DownRope", name := "down", desc := "()I" } : Jvm.MethodName) ({ cls := "DownRope", name := "down", desc := "()I" } : Jvm.MethodName)) ∈ lw_all := lw_g (lw_at lw_m3 38 rfl) rfl
theorem q594 : (Jvm.Cond.code ({ cls := "DownRope", name := "down", desc := "()I" } : Jvm.MethodName) prog_1_method_30_code (1 : Nat) (Option.some Jvm.ClassFile.FieldType.int)) ∈ lw_all := lw_g (lw_at lw_m3 39 rfl) rfl
theorem q595 : (Jvm.Cond.methodLink "DownRope" (235 : Nat) ({ cls := "DownRope$Face", name := "isDown", desc := "(LDownRope$Spot;)Z" } : Jvm.MethodName)) ∈ lw_all := lw_g (lw_at lw_m3 40 rfl) rfl
theorem q601 : (Jvm.Cond.instanceMethod ({ cls := "DownRope", name := "judge", desc := "(II)I" } : Jvm.MethodName)) ∈ lw_all := lw_g (lw_at lw_m3 46 rfl) rfl
theorem q602 : (Jvm.Cond.selects "DownRope" ({ cls := "DownRope", name := "judge", desc := "(II)I" } : Jvm.MethodName) ({ cls := "DownRope", name := "judge", desc := "(II)I" } : Jvm.MethodName)) ∈ lw_all := lw_g (lw_at lw_m3 47 rfl) rfl
theorem q603 : (Jvm.Cond.code ({ cls := "DownRope", name := "judge", desc := "(II)I" } : Jvm.MethodName) prog_1_method_32_code (5 : Nat) (Option.some Jvm.ClassFile.FieldType.int)) ∈ lw_all := lw_g (lw_at lw_m3 48 rfl) rfl
theorem q604 : (Jvm.Cond.methodLink "DownRope" (246 : Nat) ({ cls := "DownRope", name := "follows", desc := "([I)I" } : Jvm.MethodName)) ∈ lw_all := lw_g (lw_at lw_m3 49 rfl) rfl
theorem q605 : (Jvm.Cond.privateMethod ({ cls := "DownRope", name := "follows", desc := "([I)I" } : Jvm.MethodName)) ∈ lw_tbl := lw_at lw_m3 50 rfl
theorem q606 : (Jvm.Cond.instanceMethod ({ cls := "DownRope", name := "follows", desc := "([I)I" } : Jvm.MethodName)) ∈ lw_all := lw_g (lw_at lw_m3 51 rfl) rfl
theorem q607 : (Jvm.Cond.code ({ cls := "DownRope", name := "follows", desc := "([I)I" } : Jvm.MethodName) prog_1_method_31_code (4 : Nat) (Option.some Jvm.ClassFile.FieldType.int)) ∈ lw_all := lw_g (lw_at lw_m3 52 rfl) rfl
theorem q608 : (Jvm.Cond.methodLink "DownRope" (240 : Nat) ({ cls := "DownRope$Spot", name := "takes", desc := "(LDownRope$Spot;)V" } : Jvm.MethodName)) ∈ lw_all := lw_g (lw_at lw_m3 53 rfl) rfl
theorem q610 : (Jvm.Cond.instanceMethod ({ cls := "DownRope", name := "soonest", desc := "()I" } : Jvm.MethodName)) ∈ lw_all := lw_g (lw_at lw_m3 55 rfl) rfl
theorem q611 : (Jvm.Cond.selects "DownRope" ({ cls := "DownRope", name := "soonest", desc := "()I" } : Jvm.MethodName) ({ cls := "DownRope", name := "soonest", desc := "()I" } : Jvm.MethodName)) ∈ lw_all := lw_g (lw_at lw_m3 56 rfl) rfl
theorem q612 : (Jvm.Cond.code ({ cls := "DownRope", name := "soonest", desc := "()I" } : Jvm.MethodName) prog_1_method_38_code (1 : Nat) (Option.some Jvm.ClassFile.FieldType.int)) ∈ lw_all := lw_g (lw_at lw_m3 57 rfl) rfl
theorem q613 : (Jvm.Cond.methodLink "DownRope" (293 : Nat) ({ cls := "DownRope", name := "finds", desc := "()V" } : Jvm.MethodName)) ∈ lw_all := lw_g (lw_at lw_m3 58 rfl) rfl
theorem q614 : (Jvm.Cond.privateMethod ({ cls := "DownRope", name := "finds", desc := "()V" } : Jvm.MethodName)) ∈ lw_tbl := lw_at lw_m3 59 rfl
theorem q615 : (Jvm.Cond.instanceMethod ({ cls := "DownRope", name := "finds", desc := "()V" } : Jvm.MethodName)) ∈ lw_all := lw_g (lw_at lw_m3 60 rfl) rfl
theorem q616 : (Jvm.Cond.code ({ cls := "DownRope", name := "finds", desc := "()V" } : Jvm.MethodName) prog_1_method_34_code (7 : Nat) (Option.none : Option Jvm.ClassFile.FieldType)) ∈ lw_all := lw_g (lw_at lw_m3 61 rfl) rfl
theorem q617 : (Jvm.Cond.constant "DownRope" (253 : Nat) (1000000000 : Int32)) ∈ lw_all := lw_g (lw_at lw_m3 62 rfl) rfl
theorem q618 : (Jvm.Cond.methodLink "DownRope" (266 : Nat) ({ cls := "DownRope$Spot", name := "code", desc := "()I" } : Jvm.MethodName)) ∈ lw_all := lw_g (lw_at lw_m3 63 rfl) rfl
theorem q622 : (Jvm.Cond.methodLink "DownRope" (269 : Nat) ({ cls := "DownRope", name := "reaches", desc := "(II)V" } : Jvm.MethodName)) ∈ lw_all := lw_g (lw_at lw_m3 67 rfl) rfl
theorem q623 : (Jvm.Cond.privateMethod ({ cls := "DownRope", name := "reaches", desc := "(II)V" } : Jvm.MethodName)) ∈ lw_tbl := lw_at lw_m3 68 rfl
theorem q624 : (Jvm.Cond.instanceMethod ({ cls := "DownRope", name := "reaches", desc := "(II)V" } : Jvm.MethodName)) ∈ lw_all := lw_g (lw_at lw_m3 69 rfl) rfl
theorem q625 : (Jvm.Cond.code ({ cls := "DownRope", name := "reaches", desc := "(II)V" } : Jvm.MethodName) prog_1_method_33_code (3 : Nat) (Option.none : Option Jvm.ClassFile.FieldType)) ∈ lw_all := lw_g (lw_at lw_m3 70 rfl) rfl
theorem q626 : (Jvm.Cond.methodLink "DownRope" (275 : Nat) ({ cls := "DownRope$Spot", name := "decodes", desc := "(I)V" } : Jvm.MethodName)) ∈ lw_all := lw_g (lw_at lw_m3 71 rfl) rfl
theorem q630 : (Jvm.Cond.methodLink "DownRope" (279 : Nat) ({ cls := "DownRope", name := "behind", desc := "(LDownRope$Spot;I)I" } : Jvm.MethodName)) ∈ lw_all := lw_g (lw_at lw_m3 75 rfl) rfl
theorem q631 : (Jvm.Cond.privateMethod ({ cls := "DownRope", name := "behind", desc := "(LDownRope$Spot;I)I" } : Jvm.MethodName)) ∈ lw_tbl := lw_at lw_m3 76 rfl
theorem q632 : (Jvm.Cond.instanceMethod ({ cls := "DownRope", name := "behind", desc := "(LDownRope$Spot;I)I" } : Jvm.MethodName)) ∈ lw_all := lw_g (lw_at lw_m3 77 rfl) rfl
theorem q633 : (Jvm.Cond.code ({ cls := "DownRope", name := "behind", desc := "(LDownRope$Spot;I)I" } : Jvm.MethodName) prog_1_method_35_code (3 : Nat) (Option.some Jvm.ClassFile.FieldType.int)) ∈ lw_all := lw_g (lw_at lw_m3 78 rfl) rfl
theorem q634 : (Jvm.Cond.methodLink "DownRope" (296 : Nat) ({ cls := "DownRope", name := "soonestOf", desc := "()I" } : Jvm.MethodName)) ∈ lw_all := lw_g (lw_at lw_m3 79 rfl) rfl
theorem q635 : (Jvm.Cond.privateMethod ({ cls := "DownRope", name := "soonestOf", desc := "()I" } : Jvm.MethodName)) ∈ lw_tbl := lw_at lw_m3 80 rfl
theorem q636 : (Jvm.Cond.instanceMethod ({ cls := "DownRope", name := "soonestOf", desc := "()I" } : Jvm.MethodName)) ∈ lw_all := lw_g (lw_at lw_m3 81 rfl) rfl
theorem q637 : (Jvm.Cond.code ({ cls := "DownRope", name := "soonestOf", desc := "()I" } : Jvm.MethodName) prog_1_method_37_code (3 : Nat) (Option.some Jvm.ClassFile.FieldType.int)) ∈ lw_all := lw_g (lw_at lw_m3 82 rfl) rfl
theorem q638 : (Jvm.Cond.methodLink "DownRope" (286 : Nat) ({ cls := "DownRope", name := "isDown", desc := "(I)Z" } : Jvm.MethodName)) ∈ lw_all := lw_g (lw_at lw_m3 83 rfl) rfl
theorem q639 : (Jvm.Cond.privateMethod ({ cls := "DownRope", name := "isDown", desc := "(I)Z" } : Jvm.MethodName)) ∈ lw_tbl := lw_at lw_m3 84 rfl
theorem q640 : (Jvm.Cond.instanceMethod ({ cls := "DownRope", name := "isDown", desc := "(I)Z" } : Jvm.MethodName)) ∈ lw_all := lw_g (lw_at lw_m3 85 rfl) rfl
theorem q641 : (Jvm.Cond.code ({ cls := "DownRope", name := "isDown", desc := "(I)Z" } : Jvm.MethodName) prog_1_method_36_code (2 : Nat) (Option.some Jvm.ClassFile.FieldType.boolean)) ∈ lw_all := lw_g (lw_at lw_m3 86 rfl) rfl
theorem q642 : (Jvm.Cond.methodLink "DownRope" (288 : Nat) ({ cls := "java/lang/Math", name := "min", desc := "(II)I" } : Jvm.MethodName)) ∈ lw_all := lw_g (lw_at lw_m3 87 rfl) rfl
theorem q644 : (Jvm.Cond.instanceMethod ({ cls := "DownRope", name := "first", desc := "()I" } : Jvm.MethodName)) ∈ lw_all := lw_g (lw_at lw_m3 89 rfl) rfl
theorem q645 : (Jvm.Cond.selects "DownRope" ({ cls := "DownRope", name := "first", desc := "()I" } : Jvm.MethodName) ({ cls := "DownRope", name := "first", desc := "()I" } : Jvm.MethodName)) ∈ lw_all := lw_g (lw_at lw_m3 90 rfl) rfl
theorem q646 : (Jvm.Cond.codeWith ({ cls := "DownRope", name := "first", desc := "()I" } : Jvm.MethodName) prog_1_method_39_code (9 : Nat) (Option.some Jvm.ClassFile.FieldType.int) [((108 : Nat), (172 : Nat), (212 : Nat), (0 : Nat)), ((187 : Nat), (197 : Nat), (212 : Nat), (0 : Nat)), ((212 : Nat), (214 : Nat), (212 : Nat), (0 : Nat))]) ∈ lw_all := lw_g (lw_at lw_m3 91 rfl) rfl
theorem q647 : (Jvm.Cond.methodLink "DownRope" (299 : Nat) ({ cls := "java/lang/System", name := "arraycopy", desc := "(Ljava/lang/Object;ILjava/lang/Object;II)V" } : Jvm.MethodName)) ∈ lw_all := lw_g (lw_at lw_m3 92 rfl) rfl
theorem q648 : (Jvm.Cond.classLink "DownRope" (73 : Nat) "DownRope$Spot") ∈ lw_all := lw_g (lw_at lw_m3 93 rfl) rfl
theorem q650 : (Jvm.Cond.methodLinkNest "DownRope" (305 : Nat) ({ cls := "DownRope$Spot", name := "<init>", desc := "()V" } : Jvm.MethodName) "DownRope") ∈ lw_tbl := lw_at lw_m3 95 rfl
theorem q657 : (Jvm.Cond.fieldLink "DownRope" (72 : Nat) "DownRope$Spot" "at" "[I") ∈ lw_all := lw_g (lw_at lw_m3 102 rfl) rfl
theorem q664 : (Jvm.Cond.fieldLink "DownRope" (80 : Nat) "DownRope$Spot" "rope" "[I") ∈ lw_all := lw_g (lw_at lw_m3 109 rfl) rfl
theorem q671 : (Jvm.Cond.instanceMethod ({ cls := "DownRope", name := "left", desc := "(II)I" } : Jvm.MethodName)) ∈ lw_all := lw_g (lw_at lw_m3 116 rfl) rfl
theorem q672 : (Jvm.Cond.selects "DownRope" ({ cls := "DownRope", name := "left", desc := "(II)I" } : Jvm.MethodName) ({ cls := "DownRope", name := "left", desc := "(II)I" } : Jvm.MethodName)) ∈ lw_all := lw_g (lw_at lw_m3 117 rfl) rfl
theorem q673 : (Jvm.Cond.code ({ cls := "DownRope", name := "left", desc := "(II)I" } : Jvm.MethodName) prog_1_method_42_code (4 : Nat) (Option.some Jvm.ClassFile.FieldType.int)) ∈ lw_all := lw_g (lw_at lw_m3 118 rfl) rfl
theorem q674 : (Jvm.Cond.methodLink "DownRope" (313 : Nat) ({ cls := "DownRope", name := "fewest", desc := "(I)I" } : Jvm.MethodName)) ∈ lw_all := lw_g (lw_at lw_m3 119 rfl) rfl
theorem q675 : (Jvm.Cond.privateMethod ({ cls := "DownRope", name := "fewest", desc := "(I)I" } : Jvm.MethodName)) ∈ lw_tbl := lw_at lw_m3 120 rfl
theorem q676 : (Jvm.Cond.instanceMethod ({ cls := "DownRope", name := "fewest", desc := "(I)I" } : Jvm.MethodName)) ∈ lw_all := lw_g (lw_at lw_m3 121 rfl) rfl
theorem q677 : (Jvm.Cond.code ({ cls := "DownRope", name := "fewest", desc := "(I)I" } : Jvm.MethodName) prog_1_method_41_code (6 : Nat) (Option.some Jvm.ClassFile.FieldType.int)) ∈ lw_all := lw_g (lw_at lw_m3 122 rfl) rfl
theorem q678 : (Jvm.Cond.methodLink "DownRope" (306 : Nat) ({ cls := "DownRope", name := "leftIn", desc := "(I)I" } : Jvm.MethodName)) ∈ lw_all := lw_g (lw_at lw_m3 123 rfl) rfl
theorem q679 : (Jvm.Cond.privateMethod ({ cls := "DownRope", name := "leftIn", desc := "(I)I" } : Jvm.MethodName)) ∈ lw_tbl := lw_at lw_m3 124 rfl
theorem q680 : (Jvm.Cond.instanceMethod ({ cls := "DownRope", name := "leftIn", desc := "(I)I" } : Jvm.MethodName)) ∈ lw_all := lw_g (lw_at lw_m3 125 rfl) rfl
theorem q681 : (Jvm.Cond.code ({ cls := "DownRope", name := "leftIn", desc := "(I)I" } : Jvm.MethodName) prog_1_method_40_code (4 : Nat) (Option.some Jvm.ClassFile.FieldType.int)) ∈ lw_all := lw_g (lw_at lw_m3 126 rfl) rfl
theorem q683 : (Jvm.Cond.instanceMethod ({ cls := "DownRope", name := "dusk", desc := "()I" } : Jvm.MethodName)) ∈ lw_all := lw_g (lw_at lw_m3 128 rfl) rfl
theorem q684 : (Jvm.Cond.selects "DownRope" ({ cls := "DownRope", name := "dusk", desc := "()I" } : Jvm.MethodName) ({ cls := "DownRope", name := "dusk", desc := "()I" } : Jvm.MethodName)) ∈ lw_all := lw_g (lw_at lw_m3 129 rfl) rfl
theorem q685 : (Jvm.Cond.code ({ cls := "DownRope", name := "dusk", desc := "()I" } : Jvm.MethodName) prog_1_method_43_code (1 : Nat) (Option.some Jvm.ClassFile.FieldType.int)) ∈ lw_all := lw_g (lw_at lw_m3 130 rfl) rfl
theorem q687 : (Jvm.Cond.instanceMethod ({ cls := "DownRope", name := "last", desc := "()I" } : Jvm.MethodName)) ∈ lw_all := lw_g (lw_at lw_m3 132 rfl) rfl
theorem q688 : (Jvm.Cond.selects "DownRope" ({ cls := "DownRope", name := "last", desc := "()I" } : Jvm.MethodName) ({ cls := "DownRope", name := "last", desc := "()I" } : Jvm.MethodName)) ∈ lw_all := lw_g (lw_at lw_m3 133 rfl) rfl
theorem q689 : (Jvm.Cond.code ({ cls := "DownRope", name := "last", desc := "()I" } : Jvm.MethodName) prog_1_method_47_code (4 : Nat) (Option.some Jvm.ClassFile.FieldType.int)) ∈ lw_all := lw_g (lw_at lw_m3 134 rfl) rfl
theorem q690 : (Jvm.Cond.methodLink "DownRope" (325 : Nat) ({ cls := "DownRope", name := "findGood", desc := "(I)V" } : Jvm.MethodName)) ∈ lw_all := lw_g (lw_at lw_m3 135 rfl) rfl
theorem q691 : (Jvm.Cond.privateMethod ({ cls := "DownRope", name := "findGood", desc := "(I)V" } : Jvm.MethodName)) ∈ lw_tbl := lw_at lw_m3 136 rfl
theorem q692 : (Jvm.Cond.instanceMethod ({ cls := "DownRope", name := "findGood", desc := "(I)V" } : Jvm.MethodName)) ∈ lw_all := lw_g (lw_at lw_m3 137 rfl) rfl
theorem q693 : (Jvm.Cond.code ({ cls := "DownRope", name := "findGood", desc := "(I)V" } : Jvm.MethodName) prog_1_method_45_code (5 : Nat) (Option.none : Option Jvm.ClassFile.FieldType)) ∈ lw_all := lw_g (lw_at lw_m3 138 rfl) rfl
theorem q694 : (Jvm.Cond.methodLink "DownRope" (319 : Nat) ({ cls := "DownRope", name := "isAlone", desc := "(II)Z" } : Jvm.MethodName)) ∈ lw_all := lw_g (lw_at lw_m3 139 rfl) rfl
theorem q695 : (Jvm.Cond.privateMethod ({ cls := "DownRope", name := "isAlone", desc := "(II)Z" } : Jvm.MethodName)) ∈ lw_tbl := lw_at lw_m3 140 rfl
theorem q696 : (Jvm.Cond.instanceMethod ({ cls := "DownRope", name := "isAlone", desc := "(II)Z" } : Jvm.MethodName)) ∈ lw_all := lw_g (lw_at lw_m3 141 rfl) rfl
theorem q697 : (Jvm.Cond.code ({ cls := "DownRope", name := "isAlone", desc := "(II)Z" } : Jvm.MethodName) prog_1_method_46_code (4 : Nat) (Option.some Jvm.ClassFile.FieldType.boolean)) ∈ lw_all := lw_g (lw_at lw_m3 142 rfl) rfl
theorem q698 : (Jvm.Cond.methodLink "DownRope" (322 : Nat) ({ cls := "DownRope", name := "leadsOn", desc := "(II)Z" } : Jvm.MethodName)) ∈ lw_all := lw_g (lw_at lw_m3 143 rfl) rfl
theorem q699 : (Jvm.Cond.privateMethod ({ cls := "DownRope", name := "leadsOn", desc := "(II)Z" } : Jvm.MethodName)) ∈ lw_tbl := lw_at lw_m3 144 rfl
theorem q700 : (Jvm.Cond.instanceMethod ({ cls := "DownRope", name := "leadsOn", desc := "(II)Z" } : Jvm.MethodName)) ∈ lw_all := lw_g (lw_at lw_m3 145 rfl) rfl
theorem q701 : (Jvm.Cond.code ({ cls := "DownRope", name := "leadsOn", desc := "(II)Z" } : Jvm.MethodName) prog_1_method_44_code (5 : Nat) (Option.some Jvm.ClassFile.FieldType.boolean)) ∈ lw_all := lw_g (lw_at lw_m3 146 rfl) rfl
theorem q703 : (Jvm.Cond.instanceMethod ({ cls := "DownRope", name := "traps", desc := "()I" } : Jvm.MethodName)) ∈ lw_all := lw_g (lw_at lw_m3 148 rfl) rfl
theorem q704 : (Jvm.Cond.selects "DownRope" ({ cls := "DownRope", name := "traps", desc := "()I" } : Jvm.MethodName) ({ cls := "DownRope", name := "traps", desc := "()I" } : Jvm.MethodName)) ∈ lw_all := lw_g (lw_at lw_m3 149 rfl) rfl
theorem q705 : (Jvm.Cond.code ({ cls := "DownRope", name := "traps", desc := "()I" } : Jvm.MethodName) prog_1_method_48_code (3 : Nat) (Option.some Jvm.ClassFile.FieldType.int)) ∈ lw_all := lw_g (lw_at lw_m3 150 rfl) rfl
theorem q707 : (Jvm.Cond.instanceMethod ({ cls := "DownRope", name := "lost", desc := "(I)I" } : Jvm.MethodName)) ∈ lw_all := lw_g (lw_at lw_m3 152 rfl) rfl
theorem q708 : (Jvm.Cond.selects "DownRope" ({ cls := "DownRope", name := "lost", desc := "(I)I" } : Jvm.MethodName) ({ cls := "DownRope", name := "lost", desc := "(I)I" } : Jvm.MethodName)) ∈ lw_all := lw_g (lw_at lw_m3 153 rfl) rfl
theorem q709 : (Jvm.Cond.code ({ cls := "DownRope", name := "lost", desc := "(I)I" } : Jvm.MethodName) prog_1_method_49_code (7 : Nat) (Option.some Jvm.ClassFile.FieldType.int)) ∈ lw_all := lw_g (lw_at lw_m3 154 rfl) rfl
theorem q711 : (Jvm.Cond.instanceMethod ({ cls := "DownRope", name := "feet", desc := "(I)I" } : Jvm.MethodName)) ∈ lw_all := lw_g (lw_at lw_m3 156 rfl) rfl
theorem q712 : (Jvm.Cond.selects "DownRope" ({ cls := "DownRope", name := "feet", desc := "(I)I" } : Jvm.MethodName) ({ cls := "DownRope", name := "feet", desc := "(I)I" } : Jvm.MethodName)) ∈ lw_all := lw_g (lw_at lw_m3 157 rfl) rfl
theorem q713 : (Jvm.Cond.codeWith ({ cls := "DownRope", name := "feet", desc := "(I)I" } : Jvm.MethodName) prog_1_method_51_code (7 : Nat) (Option.some Jvm.ClassFile.FieldType.int) [((20 : Nat), (42 : Nat), (134 : Nat), (0 : Nat)), ((54 : Nat), (121 : Nat), (134 : Nat), (0 : Nat)), ((134 : Nat), (136 : Nat), (134 : Nat), (0 : Nat))]) ∈ lw_all := lw_g (lw_at lw_m3 158 rfl) rfl
theorem q714 : (Jvm.Cond.methodLink "DownRope" (328 : Nat) ({ cls := "DownRope", name := "leadsDown", desc := "()Z" } : Jvm.MethodName)) ∈ lw_all := lw_g (lw_at lw_m3 159 rfl) rfl
theorem q715 : (Jvm.Cond.privateMethod ({ cls := "DownRope", name := "leadsDown", desc := "()Z" } : Jvm.MethodName)) ∈ lw_tbl := lw_at lw_m3 160 rfl
theorem q716 : (Jvm.Cond.instanceMethod ({ cls := "DownRope", name := "leadsDown", desc := "()Z" } : Jvm.MethodName)) ∈ lw_all := lw_g (lw_at lw_m3 161 rfl) rfl
theorem q717 : (Jvm.Cond.code ({ cls := "DownRope", name := "leadsDown", desc := "()Z" } : Jvm.MethodName) prog_1_method_50_code (1 : Nat) (Option.some Jvm.ClassFile.FieldType.boolean)) ∈ lw_all := lw_g (lw_at lw_m3 162 rfl) rfl
theorem q719 : (Jvm.Cond.instanceMethod ({ cls := "DownRope", name := "chance", desc := "()I" } : Jvm.MethodName)) ∈ lw_all := lw_g (lw_at lw_m3 164 rfl) rfl
theorem q720 : (Jvm.Cond.selects "DownRope" ({ cls := "DownRope", name := "chance", desc := "()I" } : Jvm.MethodName) ({ cls := "DownRope", name := "chance", desc := "()I" } : Jvm.MethodName)) ∈ lw_all := lw_g (lw_at lw_m3 165 rfl) rfl
theorem q721 : (Jvm.Cond.code ({ cls := "DownRope", name := "chance", desc := "()I" } : Jvm.MethodName) prog_1_method_55_code (5 : Nat) (Option.some Jvm.ClassFile.FieldType.int)) ∈ lw_all := lw_g (lw_at lw_m3 166 rfl) rfl
theorem q722 : (Jvm.Cond.methodLink "DownRope" (341 : Nat) ({ cls := "DownRope", name := "meets", desc := "()V" } : Jvm.MethodName)) ∈ lw_all := lw_g (lw_at lw_m3 167 rfl) rfl
theorem q723 : (Jvm.Cond.privateMethod ({ cls := "DownRope", name := "meets", desc := "()V" } : Jvm.MethodName)) ∈ lw_tbl := lw_at lw_m3 168 rfl
theorem q724 : (Jvm.Cond.instanceMethod ({ cls := "DownRope", name := "meets", desc := "()V" } : Jvm.MethodName)) ∈ lw_all := lw_g (lw_at lw_m3 169 rfl) rfl
theorem q725 : (Jvm.Cond.code ({ cls := "DownRope", name := "meets", desc := "()V" } : Jvm.MethodName) prog_1_method_53_code (5 : Nat) (Option.none : Option Jvm.ClassFile.FieldType)) ∈ lw_all := lw_g (lw_at lw_m3 170 rfl) rfl
theorem q726 : (Jvm.Cond.methodLink "DownRope" (332 : Nat) ({ cls := "DownRope", name := "caughtBehind", desc := "(LDownRope$Spot;I)I" } : Jvm.MethodName)) ∈ lw_all := lw_g (lw_at lw_m3 171 rfl) rfl
theorem q727 : (Jvm.Cond.privateMethod ({ cls := "DownRope", name := "caughtBehind", desc := "(LDownRope$Spot;I)I" } : Jvm.MethodName)) ∈ lw_tbl := lw_at lw_m3 172 rfl
theorem q728 : (Jvm.Cond.instanceMethod ({ cls := "DownRope", name := "caughtBehind", desc := "(LDownRope$Spot;I)I" } : Jvm.MethodName)) ∈ lw_all := lw_g (lw_at lw_m3 173 rfl) rfl
theorem q729 : (Jvm.Cond.code ({ cls := "DownRope", name := "caughtBehind", desc := "(LDownRope$Spot;I)I" } : Jvm.MethodName) prog_1_method_52_code (3 : Nat) (Option.some Jvm.ClassFile.FieldType.int)) ∈ lw_all := lw_g (lw_at lw_m3 174 rfl) rfl
theorem q730 : (Jvm.Cond.constant "DownRope" (344 : Nat) (1000000 : Int32)) ∈ lw_all := lw_g (lw_at lw_m3 175 rfl) rfl
theorem q731 : (Jvm.Cond.methodLink "DownRope" (345 : Nat) ({ cls := "DownRope", name := "surest", desc := "(I)I" } : Jvm.MethodName)) ∈ lw_all := lw_g (lw_at lw_m3 176 rfl) rfl
theorem q732 : (Jvm.Cond.privateMethod ({ cls := "DownRope", name := "surest", desc := "(I)I" } : Jvm.MethodName)) ∈ lw_tbl := lw_at lw_m3 177 rfl
theorem q733 : (Jvm.Cond.instanceMethod ({ cls := "DownRope", name := "surest", desc := "(I)I" } : Jvm.MethodName)) ∈ lw_all := lw_g (lw_at lw_m3 178 rfl) rfl
theorem q734 : (Jvm.Cond.code ({ cls := "DownRope", name := "surest", desc := "(I)I" } : Jvm.MethodName) prog_1_method_54_code (5 : Nat) (Option.some Jvm.ClassFile.FieldType.int)) ∈ lw_all := lw_g (lw_at lw_m3 179 rfl) rfl
theorem q735 : (Jvm.Cond.methodLink "DownRope" (338 : Nat) ({ cls := "java/lang/Math", name := "max", desc := "(II)I" } : Jvm.MethodName)) ∈ lw_all := lw_g (lw_at lw_m3 180 rfl) rfl
theorem q739 : (Jvm.Cond.instanceMethod ({ cls := "DownRope", name := "states", desc := "()I" } : Jvm.MethodName)) ∈ lw_all := lw_g (lw_at lw_m3 184 rfl) rfl
theorem q740 : (Jvm.Cond.selects "DownRope" ({ cls := "DownRope", name := "states", desc := "()I" } : Jvm.MethodName) ({ cls := "DownRope", name := "states", desc := "()I" } : Jvm.MethodName)) ∈ lw_all := lw_g (lw_at lw_m3 185 rfl) rfl
theorem q741 : (Jvm.Cond.code ({ cls := "DownRope", name := "states", desc := "()I" } : Jvm.MethodName) prog_1_method_56_code (1 : Nat) (Option.some Jvm.ClassFile.FieldType.int)) ∈ lw_all := lw_g (lw_at lw_m3 186 rfl) rfl
theorem q743 : (Jvm.Cond.instanceMethod ({ cls := "DownRope", name := "hurt", desc := "(II)I" } : Jvm.MethodName)) ∈ lw_all := lw_g (lw_at lw_m3 188 rfl) rfl
theorem q744 : (Jvm.Cond.selects "DownRope" ({ cls := "DownRope", name := "hurt", desc := "(II)I" } : Jvm.MethodName) ({ cls := "DownRope", name := "hurt", desc := "(II)I" } : Jvm.MethodName)) ∈ lw_all := lw_g (lw_at lw_m3 189 rfl) rfl
theorem q745 : (Jvm.Cond.code ({ cls := "DownRope", name := "hurt", desc := "(II)I" } : Jvm.MethodName) prog_1_method_57_code (4 : Nat) (Option.some Jvm.ClassFile.FieldType.int)) ∈ lw_all := lw_g (lw_at lw_m3 190 rfl) rfl
theorem q747 : (Jvm.Cond.instanceMethod ({ cls := "DownRope", name := "image", desc := "()I" } : Jvm.MethodName)) ∈ lw_all := lw_g (lw_at lw_m3 192 rfl) rfl
theorem q748 : (Jvm.Cond.selects "DownRope" ({ cls := "DownRope", name := "image", desc := "()I" } : Jvm.MethodName) ({ cls := "DownRope", name := "image", desc := "()I" } : Jvm.MethodName)) ∈ lw_all := lw_g (lw_at lw_m3 193 rfl) rfl
theorem q749 : (Jvm.Cond.code ({ cls := "DownRope", name := "image", desc := "()I" } : Jvm.MethodName) prog_1_method_58_code (1 : Nat) (Option.some Jvm.ClassFile.FieldType.int)) ∈ lw_all := lw_g (lw_at lw_m3 194 rfl) rfl
theorem q751 : (Jvm.Cond.instanceMethod ({ cls := "DownRope", name := "restore", desc := "()I" } : Jvm.MethodName)) ∈ lw_all := lw_g (lw_at lw_m3 196 rfl) rfl
theorem q752 : (Jvm.Cond.selects "DownRope" ({ cls := "DownRope", name := "restore", desc := "()I" } : Jvm.MethodName) ({ cls := "DownRope", name := "restore", desc := "()I" } : Jvm.MethodName)) ∈ lw_all := lw_g (lw_at lw_m3 197 rfl) rfl
theorem q753 : (Jvm.Cond.code ({ cls := "DownRope", name := "restore", desc := "()I" } : Jvm.MethodName) prog_1_method_59_code (1 : Nat) (Option.some Jvm.ClassFile.FieldType.int)) ∈ lw_all := lw_g (lw_at lw_m3 198 rfl) rfl
theorem q755 : (Jvm.Cond.instanceMethod ({ cls := "DownRope", name := "count", desc := "(I)I" } : Jvm.MethodName)) ∈ lw_all := lw_g (lw_at lw_m3 200 rfl) rfl
theorem q756 : (Jvm.Cond.selects "DownRope" ({ cls := "DownRope", name := "count", desc := "(I)I" } : Jvm.MethodName) ({ cls := "DownRope", name := "count", desc := "(I)I" } : Jvm.MethodName)) ∈ lw_all := lw_g (lw_at lw_m3 201 rfl) rfl
theorem q757 : (Jvm.Cond.code ({ cls := "DownRope", name := "count", desc := "(I)I" } : Jvm.MethodName) prog_1_method_60_code (4 : Nat) (Option.some Jvm.ClassFile.FieldType.int)) ∈ lw_all := lw_g (lw_at lw_m3 202 rfl) rfl
theorem q760 : (Jvm.Cond.instanceMethod ({ cls := "DownRope", name := "<init>", desc := "()V" } : Jvm.MethodName)) ∈ lw_all := lw_g (lw_at lw_m3 205 rfl) rfl
theorem q761 : (Jvm.Cond.code ({ cls := "DownRope", name := "<init>", desc := "()V" } : Jvm.MethodName) prog_1_method_61_code (2 : Nat) (Option.none : Option Jvm.ClassFile.FieldType)) ∈ lw_all := lw_g (lw_at lw_m3 206 rfl) rfl
theorem q762 : (Jvm.Cond.methodLink "DownRope" (355 : Nat) ({ cls := "java/lang/Object", name := "<init>", desc := "()V" } : Jvm.MethodName)) ∈ lw_all := lw_g (lw_at lw_m3 207 rfl) rfl
theorem q763 : (Jvm.Cond.classLink "DownRope" (8 : Nat) "DownRope$Face") ∈ lw_all := lw_g (lw_at lw_m3 208 rfl) rfl
theorem q765 : (Jvm.Cond.methodLinkNest "DownRope" (358 : Nat) ({ cls := "DownRope$Face", name := "<init>", desc := "()V" } : Jvm.MethodName) "DownRope") ∈ lw_tbl := lw_at lw_m3 210 rfl
theorem q773 : (Jvm.Cond.fieldLink "DownRope" (47 : Nat) "DownRope$Face" "room" "[I") ∈ lw_all := lw_g (lw_at lw_m3 218 rfl) rfl
theorem q777 : (Jvm.Cond.fieldLink "DownRope" (51 : Nat) "DownRope$Face" "holds" "[I") ∈ lw_all := lw_g (lw_at lw_m3 222 rfl) rfl
theorem q780 : (Jvm.Cond.fieldLink "DownRope" (54 : Nat) "DownRope$Face" "feet" "[I") ∈ lw_all := lw_g (lw_at lw_m3 225 rfl) rfl
theorem q783 : (Jvm.Cond.fieldLink "DownRope" (57 : Nat) "DownRope$Face" "isClimbable" "[Z") ∈ lw_all := lw_g (lw_at lw_m3 228 rfl) rfl
theorem q785 : (Jvm.Cond.fieldLink "DownRope" (44 : Nat) "DownRope$Face" "ledges" "I") ∈ lw_all := lw_g (lw_at lw_m3 230 rfl) rfl
theorem q789 : (Jvm.Cond.fieldLink "DownRope" (65 : Nat) "DownRope$Face" "sort" "[I") ∈ lw_all := lw_g (lw_at lw_m3 234 rfl) rfl
theorem q790 : (Jvm.Cond.fieldLink "DownRope" (7 : Nat) "DownRope$Face" "people" "I") ∈ lw_all := lw_g (lw_at lw_m3 235 rfl) rfl
theorem q799 : (Jvm.Cond.fieldLink "DownRope" (77 : Nat) "DownRope$Face" "length" "[I") ∈ lw_all := lw_g (lw_at lw_m4 4 rfl) rfl
theorem q801 : (Jvm.Cond.fieldLink "DownRope" (17 : Nat) "DownRope$Face" "ropes" "I") ∈ lw_all := lw_g (lw_at lw_m4 6 rfl) rfl
theorem q804 : (Jvm.Cond.fieldLink "DownRope" (83 : Nat) "DownRope$Face" "caught" "I") ∈ lw_all := lw_g (lw_at lw_m4 9 rfl) rfl
theorem q806 : (Jvm.Cond.fieldLink "DownRope" (86 : Nat) "DownRope$Face" "dusk" "I") ∈ lw_all := lw_g (lw_at lw_m4 11 rfl) rfl
theorem q808 : (Jvm.Cond.fieldLink "DownRope" (170 : Nat) "DownRope$Face" "minutes" "I") ∈ lw_all := lw_g (lw_at lw_m4 13 rfl) rfl
theorem q810 : (Jvm.Cond.fieldLink "DownRope" (68 : Nat) "DownRope$Face" "spot" "LDownRope$Spot;") ∈ lw_all := lw_g (lw_at lw_m4 15 rfl) rfl
theorem q838 : (Jvm.Cond.classLink "DownRope" (20 : Nat) "DownRope$Move") ∈ lw_all := lw_g (lw_at lw_m4 43 rfl) rfl
theorem q840 : (Jvm.Cond.classLink "DownRope" (127 : Nat) "DownRope$Shelf") ∈ lw_all := lw_g (lw_at lw_m4 45 rfl) rfl
theorem q843 : (Jvm.Cond.methodLinkNest "DownRope" (359 : Nat) ({ cls := "DownRope$Shelf", name := "<init>", desc := "()V" } : Jvm.MethodName) "DownRope") ∈ lw_tbl := lw_at lw_m4 48 rfl
theorem q847 : (Jvm.Cond.fieldLink "DownRope" (126 : Nat) "DownRope$Shelf" "held" "Ljava/lang/Object;") ∈ lw_all := lw_g (lw_at lw_m4 52 rfl) rfl
theorem q851 : (Jvm.Cond.methodLink "DownRope" (360 : Nat) ({ cls := "DownRope", name := "moveOf", desc := "(I)LDownRope$Move;" } : Jvm.MethodName)) ∈ lw_all := lw_g (lw_at lw_m4 56 rfl) rfl
theorem q852 : (Jvm.Cond.static ({ cls := "DownRope", name := "moveOf", desc := "(I)LDownRope$Move;" } : Jvm.MethodName)) ∈ lw_all := lw_g (lw_at lw_m4 57 rfl) rfl
theorem q853 : (Jvm.Cond.code ({ cls := "DownRope", name := "moveOf", desc := "(I)LDownRope$Move;" } : Jvm.MethodName) prog_1_method_5_code (1 : Nat) (Option.some (Jvm.ClassFile.FieldType.object "DownRope$Move"))) ∈ lw_all := lw_g (lw_at lw_m4 58 rfl) rfl
theorem q855 : (Jvm.Cond.methodLinkNest "DownRope" (22 : Nat) ({ cls := "DownRope$Move", name := "<init>", desc := "()V" } : Jvm.MethodName) "DownRope") ∈ lw_tbl := lw_at lw_m4 60 rfl
theorem q916 : (Jvm.Cond.classLink "DownRope" (26 : Nat) "DownRope$Doubled") ∈ lw_all := lw_g (lw_at lw_m4 121 rfl) rfl
theorem q918 : (Jvm.Cond.methodLinkNest "DownRope" (28 : Nat) ({ cls := "DownRope$Doubled", name := "<init>", desc := "()V" } : Jvm.MethodName) "DownRope") ∈ lw_tbl := lw_at lw_m4 123 rfl
theorem q926 : (Jvm.Cond.classLink "DownRope" (29 : Nat) "DownRope$Single") ∈ lw_all := lw_g (lw_at lw_m4 131 rfl) rfl
theorem q928 : (Jvm.Cond.methodLinkNest "DownRope" (31 : Nat) ({ cls := "DownRope$Single", name := "<init>", desc := "()V" } : Jvm.MethodName) "DownRope") ∈ lw_tbl := lw_at lw_m4 133 rfl
theorem q936 : (Jvm.Cond.classLink "DownRope" (32 : Nat) "DownRope$Joined") ∈ lw_all := lw_g (lw_at lw_m4 141 rfl) rfl
theorem q938 : (Jvm.Cond.methodLinkNest "DownRope" (34 : Nat) ({ cls := "DownRope$Joined", name := "<init>", desc := "()V" } : Jvm.MethodName) "DownRope") ∈ lw_tbl := lw_at lw_m4 143 rfl
theorem q946 : (Jvm.Cond.classLink "DownRope" (35 : Nat) "DownRope$Let") ∈ lw_all := lw_g (lw_at lw_m4 151 rfl) rfl
theorem q948 : (Jvm.Cond.methodLinkNest "DownRope" (37 : Nat) ({ cls := "DownRope$Let", name := "<init>", desc := "()V" } : Jvm.MethodName) "DownRope") ∈ lw_tbl := lw_at lw_m4 153 rfl
theorem q957 : (Jvm.Cond.classLink "DownRope" (38 : Nat) "DownRope$Climb") ∈ lw_all := lw_g (lw_at lw_m4 162 rfl) rfl
theorem q958 : (Jvm.Cond.methodLinkNest "DownRope" (40 : Nat) ({ cls := "DownRope$Climb", name := "<init>", desc := "()V" } : Jvm.MethodName) "DownRope") ∈ lw_tbl := lw_at lw_m4 163 rfl
theorem q967 : (Jvm.Cond.classLink "DownRope" (41 : Nat) "DownRope$Throw") ∈ lw_all := lw_g (lw_at lw_m4 172 rfl) rfl
theorem q969 : (Jvm.Cond.methodLinkNest "DownRope" (43 : Nat) ({ cls := "DownRope$Throw", name := "<init>", desc := "()V" } : Jvm.MethodName) "DownRope") ∈ lw_tbl := lw_at lw_m4 174 rfl
theorem q977 : (Jvm.Cond.fieldLink "DownRope" (1 : Nat) "DownRope" "now" "LDownRope$Face;") ∈ lw_all := lw_g (lw_at lw_m4 182 rfl) rfl
theorem q978 : (Jvm.Cond.fieldLink "DownRope" (140 : Nat) "DownRope" "tried" "LDownRope$Face;") ∈ lw_all := lw_g (lw_at lw_m4 183 rfl) rfl
theorem q979 : (Jvm.Cond.fieldLink "DownRope" (348 : Nat) "DownRope" "image" "LDownRope$Face;") ∈ lw_all := lw_g (lw_at lw_m4 184 rfl) rfl
theorem q980 : (Jvm.Cond.fieldLink "DownRope" (351 : Nat) "DownRope" "hasImage" "Z") ∈ lw_all := lw_g (lw_at lw_m4 185 rfl) rfl
theorem q981 : (Jvm.Cond.fieldLink "DownRope" (192 : Nat) "DownRope" "kinds" "[LDownRope$Move;") ∈ lw_all := lw_g (lw_at lw_m4 186 rfl) rfl
theorem q982 : (Jvm.Cond.fieldLink "DownRope" (213 : Nat) "DownRope" "list" "[I") ∈ lw_all := lw_g (lw_at lw_m4 187 rfl) rfl
theorem q983 : (Jvm.Cond.fieldLink "DownRope" (221 : Nat) "DownRope" "listMinutes" "[I") ∈ lw_all := lw_g (lw_at lw_m4 188 rfl) rfl
theorem q984 : (Jvm.Cond.fieldLink "DownRope" (216 : Nat) "DownRope" "listMany" "I") ∈ lw_all := lw_g (lw_at lw_m4 189 rfl) rfl
theorem q985 : (Jvm.Cond.fieldLink "DownRope" (239 : Nat) "DownRope" "spot" "LDownRope$Spot;") ∈ lw_all := lw_g (lw_at lw_m4 190 rfl) rfl
theorem q986 : (Jvm.Cond.fieldLink "DownRope" (242 : Nat) "DownRope" "spotMinutes" "I") ∈ lw_all := lw_g (lw_at lw_m4 191 rfl) rfl
theorem q987 : (Jvm.Cond.fieldLink "DownRope" (250 : Nat) "DownRope" "minutesTo" "[I") ∈ lw_all := lw_g (lw_at lw_m4 192 rfl) rfl
theorem q988 : (Jvm.Cond.fieldLink "DownRope" (254 : Nat) "DownRope" "met" "[I") ∈ lw_all := lw_g (lw_at lw_m4 193 rfl) rfl
theorem q989 : (Jvm.Cond.fieldLink "DownRope" (257 : Nat) "DownRope" "metMany" "I") ∈ lw_all := lw_g (lw_at lw_m4 194 rfl) rfl
theorem q990 : (Jvm.Cond.fieldLink "DownRope" (260 : Nat) "DownRope" "isQueued" "[Z") ∈ lw_all := lw_g (lw_at lw_m4 195 rfl) rfl
theorem q991 : (Jvm.Cond.fieldLink "DownRope" (263 : Nat) "DownRope" "queue" "[I") ∈ lw_all := lw_g (lw_at lw_m4 196 rfl) rfl
theorem q992 : (Jvm.Cond.fieldLink "DownRope" (272 : Nat) "DownRope" "there" "LDownRope$Spot;") ∈ lw_all := lw_g (lw_at lw_m4 197 rfl) rfl
theorem q993 : (Jvm.Cond.fieldLink "DownRope" (283 : Nat) "DownRope" "then" "LDownRope$Spot;") ∈ lw_all := lw_g (lw_at lw_m4 198 rfl) rfl
theorem q994 : (Jvm.Cond.fieldLink "DownRope" (310 : Nat) "DownRope" "leastLeft" "I") ∈ lw_all := lw_g (lw_at lw_m4 199 rfl) rfl
theorem q995 : (Jvm.Cond.fieldLink "DownRope" (316 : Nat) "DownRope" "isGood" "[Z") ∈ lw_all := lw_g (lw_at lw_m4 200 rfl) rfl
theorem q996 : (Jvm.Cond.fieldLink "DownRope" (335 : Nat) "DownRope" "sure" "[I") ∈ lw_all := lw_g (lw_at lw_m4 201 rfl) rfl
theorem q997 : (Jvm.Cond.fieldLink "DownRope" (122 : Nat) "DownRope" "shelves" "[LDownRope$Shelf;") ∈ lw_all := lw_g (lw_at lw_m4 202 rfl) rfl
theorem q998 : (Jvm.Cond.laysFinal "DownRope" "DownRope" "now" "LDownRope$Face;") ∈ lw_all := lw_g (lw_at lw_m4 203 rfl) rfl
theorem q999 : (Jvm.Cond.soleField "DownRope" "now") ∈ lw_all := lw_g (lw_at lw_m4 204 rfl) rfl
theorem q1000 : (Jvm.Cond.laysFinal "DownRope" "DownRope" "tried" "LDownRope$Face;") ∈ lw_all := lw_g (lw_at lw_m4 205 rfl) rfl
theorem q1001 : (Jvm.Cond.soleField "DownRope" "tried") ∈ lw_all := lw_g (lw_at lw_m4 206 rfl) rfl
theorem q1002 : (Jvm.Cond.laysFinal "DownRope" "DownRope" "image" "LDownRope$Face;") ∈ lw_all := lw_g (lw_at lw_m4 207 rfl) rfl
theorem q1003 : (Jvm.Cond.soleField "DownRope" "image") ∈ lw_all := lw_g (lw_at lw_m4 208 rfl) rfl
theorem q1004 : (Jvm.Cond.lays "DownRope" "DownRope" "hasImage" "Z") ∈ lw_all := lw_g (lw_at lw_m4 209 rfl) rfl
theorem q1005 : (Jvm.Cond.soleField "DownRope" "hasImage") ∈ lw_all := lw_g (lw_at lw_m4 210 rfl) rfl
theorem q1006 : (Jvm.Cond.laysFinal "DownRope" "DownRope" "kinds" "[LDownRope$Move;") ∈ lw_all := lw_g (lw_at lw_m4 211 rfl) rfl
theorem q1007 : (Jvm.Cond.soleField "DownRope" "kinds") ∈ lw_all := lw_g (lw_at lw_m4 212 rfl) rfl
theorem q1008 : (Jvm.Cond.laysFinal "DownRope" "DownRope" "list" "[I") ∈ lw_all := lw_g (lw_at lw_m4 213 rfl) rfl
theorem q1009 : (Jvm.Cond.soleField "DownRope" "list") ∈ lw_all := lw_g (lw_at lw_m4 214 rfl) rfl
theorem q1010 : (Jvm.Cond.laysFinal "DownRope" "DownRope" "listMinutes" "[I") ∈ lw_all := lw_g (lw_at lw_m4 215 rfl) rfl
theorem q1011 : (Jvm.Cond.soleField "DownRope" "listMinutes") ∈ lw_all := lw_g (lw_at lw_m4 216 rfl) rfl
theorem q1012 : (Jvm.Cond.lays "DownRope" "DownRope" "listMany" "I") ∈ lw_all := lw_g (lw_at lw_m4 217 rfl) rfl
theorem q1013 : (Jvm.Cond.soleField "DownRope" "listMany") ∈ lw_all := lw_g (lw_at lw_m4 218 rfl) rfl
theorem q1014 : (Jvm.Cond.laysFinal "DownRope" "DownRope" "spot" "LDownRope$Spot;") ∈ lw_all := lw_g (lw_at lw_m4 219 rfl) rfl
theorem q1015 : (Jvm.Cond.soleField "DownRope" "spot") ∈ lw_all := lw_g (lw_at lw_m4 220 rfl) rfl
theorem q1016 : (Jvm.Cond.lays "DownRope" "DownRope" "spotMinutes" "I") ∈ lw_all := lw_g (lw_at lw_m4 221 rfl) rfl
theorem q1017 : (Jvm.Cond.soleField "DownRope" "spotMinutes") ∈ lw_all := lw_g (lw_at lw_m4 222 rfl) rfl
theorem q1018 : (Jvm.Cond.laysFinal "DownRope" "DownRope" "minutesTo" "[I") ∈ lw_all := lw_g (lw_at lw_m4 223 rfl) rfl
theorem q1019 : (Jvm.Cond.soleField "DownRope" "minutesTo") ∈ lw_all := lw_g (lw_at lw_m4 224 rfl) rfl
theorem q1020 : (Jvm.Cond.laysFinal "DownRope" "DownRope" "met" "[I") ∈ lw_all := lw_g (lw_at lw_m4 225 rfl) rfl
theorem q1021 : (Jvm.Cond.soleField "DownRope" "met") ∈ lw_all := lw_g (lw_at lw_m4 226 rfl) rfl
theorem q1022 : (Jvm.Cond.lays "DownRope" "DownRope" "metMany" "I") ∈ lw_all := lw_g (lw_at lw_m4 227 rfl) rfl
theorem q1023 : (Jvm.Cond.soleField "DownRope" "metMany") ∈ lw_all := lw_g (lw_at lw_m4 228 rfl) rfl
theorem q1024 : (Jvm.Cond.laysFinal "DownRope" "DownRope" "isQueued" "[Z") ∈ lw_all := lw_g (lw_at lw_m4 229 rfl) rfl
theorem q1025 : (Jvm.Cond.soleField "DownRope" "isQueued") ∈ lw_all := lw_g (lw_at lw_m4 230 rfl) rfl
theorem q1026 : (Jvm.Cond.laysFinal "DownRope" "DownRope" "queue" "[I") ∈ lw_all := lw_g (lw_at lw_m4 231 rfl) rfl
theorem q1027 : (Jvm.Cond.soleField "DownRope" "queue") ∈ lw_all := lw_g (lw_at lw_m4 232 rfl) rfl
theorem q1028 : (Jvm.Cond.laysFinal "DownRope" "DownRope" "there" "LDownRope$Spot;") ∈ lw_all := lw_g (lw_at lw_m4 233 rfl) rfl
theorem q1029 : (Jvm.Cond.soleField "DownRope" "there") ∈ lw_all := lw_g (lw_at lw_m4 234 rfl) rfl
theorem q1030 : (Jvm.Cond.laysFinal "DownRope" "DownRope" "then" "LDownRope$Spot;") ∈ lw_all := lw_g (lw_at lw_m4 235 rfl) rfl
theorem q1031 : (Jvm.Cond.soleField "DownRope" "then") ∈ lw_all := lw_g (lw_at lw_m4 236 rfl) rfl
theorem q1032 : (Jvm.Cond.lays "DownRope" "DownRope" "leastLeft" "I") ∈ lw_all := lw_g (lw_at lw_m4 237 rfl) rfl
theorem q1033 : (Jvm.Cond.soleField "DownRope" "leastLeft") ∈ lw_all := lw_g (lw_at lw_m4 238 rfl) rfl
theorem q1034 : (Jvm.Cond.laysFinal "DownRope" "DownRope" "isGood" "[Z") ∈ lw_all := lw_g (lw_at lw_m4 239 rfl) rfl
theorem q1035 : (Jvm.Cond.soleField "DownRope" "isGood") ∈ lw_all := lw_g (lw_at lw_m5 0 rfl) rfl
theorem q1036 : (Jvm.Cond.laysFinal "DownRope" "DownRope" "sure" "[I") ∈ lw_all := lw_g (lw_at lw_m5 1 rfl) rfl
theorem q1037 : (Jvm.Cond.soleField "DownRope" "sure") ∈ lw_all := lw_g (lw_at lw_m5 2 rfl) rfl
theorem q1038 : (Jvm.Cond.laysFinal "DownRope" "DownRope" "shelves" "[LDownRope$Shelf;") ∈ lw_all := lw_g (lw_at lw_m5 3 rfl) rfl
theorem q1039 : (Jvm.Cond.soleField "DownRope" "shelves") ∈ lw_all := lw_g (lw_at lw_m5 4 rfl) rfl
theorem q1040 : (Jvm.Cond.superclass "DownRope" "java/lang/Object") ∈ lw_all := lw_g (lw_at lw_m5 5 rfl) rfl
theorem q1042 : (Jvm.Cond.instanceMethod ({ cls := "DownRope", name := "keep", desc := "(III)I" } : Jvm.MethodName)) ∈ lw_all := lw_g (lw_at lw_m5 7 rfl) rfl
theorem q1043 : (Jvm.Cond.selects "DownRope" ({ cls := "DownRope", name := "keep", desc := "(III)I" } : Jvm.MethodName) ({ cls := "DownRope", name := "keep", desc := "(III)I" } : Jvm.MethodName)) ∈ lw_all := lw_g (lw_at lw_m5 8 rfl) rfl
theorem q1044 : (Jvm.Cond.code ({ cls := "DownRope", name := "keep", desc := "(III)I" } : Jvm.MethodName) prog_1_method_62_code (4 : Nat) (Option.some Jvm.ClassFile.FieldType.int)) ∈ lw_all := lw_g (lw_at lw_m5 9 rfl) rfl
theorem q1046 : (Jvm.Cond.instanceMethod ({ cls := "DownRope", name := "row", desc := "(III)I" } : Jvm.MethodName)) ∈ lw_all := lw_g (lw_at lw_m5 11 rfl) rfl
theorem q1047 : (Jvm.Cond.selects "DownRope" ({ cls := "DownRope", name := "row", desc := "(III)I" } : Jvm.MethodName) ({ cls := "DownRope", name := "row", desc := "(III)I" } : Jvm.MethodName)) ∈ lw_all := lw_g (lw_at lw_m5 12 rfl) rfl
theorem q1048 : (Jvm.Cond.codeWith ({ cls := "DownRope", name := "row", desc := "(III)I" } : Jvm.MethodName) prog_1_method_63_code (5 : Nat) (Option.some Jvm.ClassFile.FieldType.int) [((24 : Nat), (66 : Nat), (67 : Nat), (363 : Nat))]) ∈ lw_all := lw_g (lw_at lw_m5 13 rfl) rfl
theorem q1049 : (Jvm.Cond.classLink "DownRope" (363 : Nat) "java/lang/NegativeArraySizeException") ∈ lw_all := lw_g (lw_at lw_m5 14 rfl) rfl
theorem q1079 : (Jvm.Cond.instanceMethod ({ cls := "DownRope", name := "put", desc := "(III)I" } : Jvm.MethodName)) ∈ lw_all := lw_g (lw_at lw_m5 44 rfl) rfl
theorem q1080 : (Jvm.Cond.selects "DownRope" ({ cls := "DownRope", name := "put", desc := "(III)I" } : Jvm.MethodName) ({ cls := "DownRope", name := "put", desc := "(III)I" } : Jvm.MethodName)) ∈ lw_all := lw_g (lw_at lw_m5 45 rfl) rfl
theorem q1081 : (Jvm.Cond.codeWith ({ cls := "DownRope", name := "put", desc := "(III)I" } : Jvm.MethodName) prog_1_method_64_code (6 : Nat) (Option.some Jvm.ClassFile.FieldType.int) [((28 : Nat), (77 : Nat), (78 : Nat), (367 : Nat)), ((28 : Nat), (77 : Nat), (83 : Nat), (369 : Nat))]) ∈ lw_all := lw_g (lw_at lw_m5 46 rfl) rfl
theorem q1082 : (Jvm.Cond.classLink "DownRope" (367 : Nat) "java/lang/ClassCastException") ∈ lw_all := lw_g (lw_at lw_m5 47 rfl) rfl
theorem q1096 : (Jvm.Cond.classLink "DownRope" (369 : Nat) "java/lang/ArrayIndexOutOfBoundsException") ∈ lw_all := lw_g (lw_at lw_m5 61 rfl) rfl
theorem q1116 : (Jvm.Cond.instanceMethod ({ cls := "DownRope", name := "copy", desc := "(IIIII)I" } : Jvm.MethodName)) ∈ lw_all := lw_g (lw_at lw_m5 81 rfl) rfl
theorem q1117 : (Jvm.Cond.selects "DownRope" ({ cls := "DownRope", name := "copy", desc := "(IIIII)I" } : Jvm.MethodName) ({ cls := "DownRope", name := "copy", desc := "(IIIII)I" } : Jvm.MethodName)) ∈ lw_all := lw_g (lw_at lw_m5 82 rfl) rfl
theorem q1118 : (Jvm.Cond.codeWith ({ cls := "DownRope", name := "copy", desc := "(IIIII)I" } : Jvm.MethodName) prog_1_method_67_code (9 : Nat) (Option.some Jvm.ClassFile.FieldType.int) [((76 : Nat), (90 : Nat), (91 : Nat), (379 : Nat))]) ∈ lw_all := lw_g (lw_at lw_m5 83 rfl) rfl
theorem q1119 : (Jvm.Cond.classLink "DownRope" (379 : Nat) "java/lang/IndexOutOfBoundsException") ∈ lw_all := lw_g (lw_at lw_m5 84 rfl) rfl
theorem q1121 : (Jvm.Cond.instanceMethod ({ cls := "DownRope", name := "effort", desc := "(I)I" } : Jvm.MethodName)) ∈ lw_all := lw_g (lw_at lw_m5 86 rfl) rfl
theorem q1122 : (Jvm.Cond.selects "DownRope" ({ cls := "DownRope", name := "effort", desc := "(I)I" } : Jvm.MethodName) ({ cls := "DownRope", name := "effort", desc := "(I)I" } : Jvm.MethodName)) ∈ lw_all := lw_g (lw_at lw_m5 87 rfl) rfl
theorem q1123 : (Jvm.Cond.codeWith ({ cls := "DownRope", name := "effort", desc := "(I)I" } : Jvm.MethodName) prog_1_method_68_code (3 : Nat) (Option.some Jvm.ClassFile.FieldType.int) [((9 : Nat), (28 : Nat), (29 : Nat), (374 : Nat)), ((9 : Nat), (28 : Nat), (33 : Nat), (367 : Nat))]) ∈ lw_all := lw_g (lw_at lw_m5 88 rfl) rfl
theorem q1124 : (Jvm.Cond.classLink "DownRope" (374 : Nat) "java/lang/NullPointerException") ∈ lw_all := lw_g (lw_at lw_m5 89 rfl) rfl
theorem q1168 : (Jvm.Cond.instanceMethod ({ cls := "DownRope", name := "toss", desc := "(I)I" } : Jvm.MethodName)) ∈ lw_all := lw_g (lw_at lw_m5 133 rfl) rfl
theorem q1169 : (Jvm.Cond.selects "DownRope" ({ cls := "DownRope", name := "toss", desc := "(I)I" } : Jvm.MethodName) ({ cls := "DownRope", name := "toss", desc := "(I)I" } : Jvm.MethodName)) ∈ lw_all := lw_g (lw_at lw_m5 134 rfl) rfl
theorem q1170 : (Jvm.Cond.codeWith ({ cls := "DownRope", name := "toss", desc := "(I)I" } : Jvm.MethodName) prog_1_method_69_code (3 : Nat) (Option.some Jvm.ClassFile.FieldType.int) [((24 : Nat), (40 : Nat), (40 : Nat), (389 : Nat)), ((24 : Nat), (40 : Nat), (46 : Nat), (374 : Nat)), ((24 : Nat), (40 : Nat), (50 : Nat), (367 : Nat))]) ∈ lw_all := lw_g (lw_at lw_m5 135 rfl) rfl
theorem q1171 : (Jvm.Cond.classLink "DownRope" (389 : Nat) "DownRope$Tossed") ∈ lw_all := lw_g (lw_at lw_m5 136 rfl) rfl
theorem q1172 : (Jvm.Cond.methodLink "DownRope" (385 : Nat) ({ cls := "DownRope$Move", name := "failure", desc := "()LDownRope$Tossed;" } : Jvm.MethodName)) ∈ lw_all := lw_g (lw_at lw_m5 137 rfl) rfl
theorem q1201 : (Jvm.Cond.fieldLink "DownRope" (391 : Nat) "DownRope$Tossed" "n" "I") ∈ lw_all := lw_g (lw_at lw_m5 166 rfl) rfl
theorem q1226 : (Jvm.Cond.instanceMethod ({ cls := "DownRope", name := "element", desc := "(II)J" } : Jvm.MethodName)) ∈ lw_all := lw_g (lw_at lw_m5 191 rfl) rfl
theorem q1227 : (Jvm.Cond.selects "DownRope" ({ cls := "DownRope", name := "element", desc := "(II)J" } : Jvm.MethodName) ({ cls := "DownRope", name := "element", desc := "(II)J" } : Jvm.MethodName)) ∈ lw_all := lw_g (lw_at lw_m5 192 rfl) rfl
theorem q1228 : (Jvm.Cond.codeWith ({ cls := "DownRope", name := "element", desc := "(II)J" } : Jvm.MethodName) prog_1_method_65_code (5 : Nat) (Option.some Jvm.ClassFile.FieldType.long) [((25 : Nat), (39 : Nat), (63 : Nat), (374 : Nat)), ((40 : Nat), (54 : Nat), (63 : Nat), (374 : Nat)), ((55 : Nat), (62 : Nat), (63 : Nat), (374 : Nat)), ((25 : Nat), (39 : Nat), (73 : Nat), (367 : Nat)), ((40 : Nat), (54 : Nat), (73 : Nat), (367 : Nat)), ((55 : Nat), (62 : Nat), (73 : Nat), (367 : Nat)), ((25 : Nat), (39 : Nat), (83 : Nat), (369 : Nat)), ((40 : Nat), (54 : Nat), (83 : Nat), (369 : Nat)), ((55 : Nat), (62 : Nat), (83 : Nat), (369 : Nat))]) ∈ lw_all := lw_g (lw_at lw_m5 193 rfl) rfl
theorem q1229 : (Jvm.Cond.classLink "DownRope" (371 : Nat) "java/lang/IllegalArgumentException") ∈ lw_all := lw_g (lw_at lw_m5 194 rfl) rfl
theorem q1238 : (Jvm.Cond.methodLink "DownRope" (373 : Nat) ({ cls := "java/lang/IllegalArgumentException", name := "<init>", desc := "()V" } : Jvm.MethodName)) ∈ lw_all := lw_g (lw_at lw_m5 203 rfl) rfl
theorem q1244 : (Jvm.Cond.classLink "DownRope" (376 : Nat) "java/lang/IllegalStateException") ∈ lw_all := lw_g (lw_at lw_m5 209 rfl) rfl
theorem q1253 : (Jvm.Cond.methodLink "DownRope" (378 : Nat) ({ cls := "java/lang/IllegalStateException", name := "<init>", desc := "()V" } : Jvm.MethodName)) ∈ lw_all := lw_g (lw_at lw_m5 218 rfl) rfl
theorem in_X1 : ∀ w ∈ wsX10, w ∈ lw_all := lw_in wsX10 [998, 1000, 1002, 1004, 1006, 1008, 1010, 1012, 1014, 1016, 1018, 1020, 1022, 1024, 1026, 1028, 1030, 1032, 1034, 1036, 1038] (by decide +kernel) (by decide +kernel)
