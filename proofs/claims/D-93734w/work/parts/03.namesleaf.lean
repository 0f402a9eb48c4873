/-! DownRope$Spot -/
set_option maxRecDepth 100000
def RX3 : String := "DownRope$Spot"
def TX3 : u_T := fun k => match k with
  | 0 => ("DownRope$Spot", "at", "[I", true)
  | _ => ("DownRope$Spot", "rope", "[I", true)
def tyX3 : Nat → FieldType := fun k => match k with
  | 0 => .array .int
  | _ => .array .int
abbrev wsX30 : List Cond := u_ws RX3 TX3 2
theorem nmX3 : ∀ a, a < 2 → ∀ b, b < 2 → a ≠ b → (TX3 a).2.1 ≠ (TX3 b).2.1 := by decide +kernel
theorem tyX3_ok : ∀ k, k < 2 → parseFieldDescriptor (TX3 k).2.2.1 = some (tyX3 k) := by decide +kernel
abbrev cX3_takes : ByteArray := prog_14_method_2_code
def yX3_takes : MethodName := ⟨RX3, "takes", "(LDownRope$Spot;)V"⟩
def dkwX3_takes_1 : List UInt8 := [5, 184, 0, 18, 177]
abbrev dktX3_takes_1 : List UInt8 := dkwX3_takes_1 ++ []
def dkwX3_takes_0 : List UInt8 := [43, 180, 0, 9, 3, 42, 180, 0, 9, 3, 6, 184, 0, 18, 43, 180, 0, 15, 3, 42, 180, 0, 15, 3]
abbrev dktX3_takes_0 : List UInt8 := dkwX3_takes_0 ++ dktX3_takes_1
theorem dksX3_takes_0 : cX3_takes.data.toList.drop 0 = dktX3_takes_0 := by decide +kernel
theorem dksX3_takes_1 : cX3_takes.data.toList.drop 24 = dktX3_takes_1 := dk_seg dksX3_takes_0 24 rfl rfl
theorem dX3_takes_0 : decode cX3_takes 0 = .ok (.aload_n 1, 1) := dk_43 (dk_at dksX3_takes_0 0 rfl rfl)
theorem dX3_takes_1 : decode cX3_takes 1 = .ok (.getfield 9, 3) := dk_180 0 9 (dk_at dksX3_takes_0 1 rfl rfl)
theorem dX3_takes_4 : decode cX3_takes 4 = .ok (.iconst 0, 1) := dk_3 (dk_at dksX3_takes_0 4 rfl rfl)
theorem dX3_takes_5 : decode cX3_takes 5 = .ok (.aload_n 0, 1) := dk_42 (dk_at dksX3_takes_0 5 rfl rfl)
theorem dX3_takes_6 : decode cX3_takes 6 = .ok (.getfield 9, 3) := dk_180 0 9 (dk_at dksX3_takes_0 6 rfl rfl)
theorem dX3_takes_9 : decode cX3_takes 9 = .ok (.iconst 0, 1) := dk_3 (dk_at dksX3_takes_0 9 rfl rfl)
theorem dX3_takes_10 : decode cX3_takes 10 = .ok (.iconst 3, 1) := dk_6 (dk_at dksX3_takes_0 10 rfl rfl)
theorem dX3_takes_11 : decode cX3_takes 11 = .ok (.invokestatic 18, 3) := dk_184 0 18 (dk_at dksX3_takes_0 11 rfl rfl)
theorem dX3_takes_14 : decode cX3_takes 14 = .ok (.aload_n 1, 1) := dk_43 (dk_at dksX3_takes_0 14 rfl rfl)
theorem dX3_takes_15 : decode cX3_takes 15 = .ok (.getfield 15, 3) := dk_180 0 15 (dk_at dksX3_takes_0 15 rfl rfl)
theorem dX3_takes_18 : decode cX3_takes 18 = .ok (.iconst 0, 1) := dk_3 (dk_at dksX3_takes_0 18 rfl rfl)
theorem dX3_takes_19 : decode cX3_takes 19 = .ok (.aload_n 0, 1) := dk_42 (dk_at dksX3_takes_0 19 rfl rfl)
theorem dX3_takes_20 : decode cX3_takes 20 = .ok (.getfield 15, 3) := dk_180 0 15 (dk_at dksX3_takes_0 20 rfl rfl)
theorem dX3_takes_23 : decode cX3_takes 23 = .ok (.iconst 0, 1) := dk_3 (dk_at dksX3_takes_0 23 rfl rfl)
theorem dX3_takes_24 : decode cX3_takes 24 = .ok (.iconst 2, 1) := dk_5 (dk_at dksX3_takes_1 0 rfl rfl)
theorem dX3_takes_25 : decode cX3_takes 25 = .ok (.invokestatic 18, 3) := dk_184 0 18 (dk_at dksX3_takes_1 1 rfl rfl)
theorem dX3_takes_28 : decode cX3_takes 28 = .ok (.return_, 1) := dk_177 (dk_at dksX3_takes_1 4 rfl rfl)
abbrev cX3_code : ByteArray := prog_14_method_3_code
def yX3_code : MethodName := ⟨RX3, "code", "()I"⟩
def dkwX3_code_2 : List UInt8 := [167, 255, 238, 27, 172]
abbrev dktX3_code_2 : List UInt8 := dkwX3_code_2 ++ []
def dkwX3_code_1 : List UInt8 := [167, 255, 237, 5, 61, 28, 155, 0, 20, 8, 27, 104, 42, 180, 0, 9, 28, 46, 96, 60, 132, 2, 255]
abbrev dktX3_code_1 : List UInt8 := dkwX3_code_1 ++ dktX3_code_2
def dkwX3_code_0 : List UInt8 := [3, 60, 4, 61, 28, 155, 0, 21, 16, 6, 27, 104, 42, 180, 0, 15, 28, 46, 96, 60, 132, 2, 255]
abbrev dktX3_code_0 : List UInt8 := dkwX3_code_0 ++ dktX3_code_1
theorem dksX3_code_0 : cX3_code.data.toList.drop 0 = dktX3_code_0 := by decide +kernel
theorem dksX3_code_1 : cX3_code.data.toList.drop 23 = dktX3_code_1 := dk_seg dksX3_code_0 23 rfl rfl
theorem dksX3_code_2 : cX3_code.data.toList.drop 46 = dktX3_code_2 := dk_seg dksX3_code_1 23 rfl rfl
theorem dX3_code_0 : decode cX3_code 0 = .ok (.iconst 0, 1) := dk_3 (dk_at dksX3_code_0 0 rfl rfl)
theorem dX3_code_1 : decode cX3_code 1 = .ok (.istore_n 1, 1) := dk_60 (dk_at dksX3_code_0 1 rfl rfl)
theorem dX3_code_2 : decode cX3_code 2 = .ok (.iconst 1, 1) := dk_4 (dk_at dksX3_code_0 2 rfl rfl)
theorem dX3_code_3 : decode cX3_code 3 = .ok (.istore_n 2, 1) := dk_61 (dk_at dksX3_code_0 3 rfl rfl)
theorem dX3_code_4 : decode cX3_code 4 = .ok (.iload_n 2, 1) := dk_28 (dk_at dksX3_code_0 4 rfl rfl)
theorem dX3_code_5 : decode cX3_code 5 = .ok (.ifCond .lt 21, 3) := dk_155 0 21 (dk_at dksX3_code_0 5 rfl rfl)
theorem dX3_code_8 : decode cX3_code 8 = .ok (.bipush 6, 2) := dk_16 6 (dk_at dksX3_code_0 8 rfl rfl)
theorem dX3_code_10 : decode cX3_code 10 = .ok (.iload_n 1, 1) := dk_27 (dk_at dksX3_code_0 10 rfl rfl)
theorem dX3_code_11 : decode cX3_code 11 = .ok (.imul, 1) := dk_104 (dk_at dksX3_code_0 11 rfl rfl)
theorem dX3_code_12 : decode cX3_code 12 = .ok (.aload_n 0, 1) := dk_42 (dk_at dksX3_code_0 12 rfl rfl)
theorem dX3_code_13 : decode cX3_code 13 = .ok (.getfield 15, 3) := dk_180 0 15 (dk_at dksX3_code_0 13 rfl rfl)
theorem dX3_code_16 : decode cX3_code 16 = .ok (.iload_n 2, 1) := dk_28 (dk_at dksX3_code_0 16 rfl rfl)
theorem dX3_code_17 : decode cX3_code 17 = .ok (.iaload, 1) := dk_46 (dk_at dksX3_code_0 17 rfl rfl)
theorem dX3_code_18 : decode cX3_code 18 = .ok (.iadd, 1) := dk_96 (dk_at dksX3_code_0 18 rfl rfl)
theorem dX3_code_19 : decode cX3_code 19 = .ok (.istore_n 1, 1) := dk_60 (dk_at dksX3_code_0 19 rfl rfl)
theorem dX3_code_20 : decode cX3_code 20 = .ok (.iinc 2 (-1), 3) := dk_132 2 255 (dk_at dksX3_code_0 20 rfl rfl)
theorem dX3_code_23 : decode cX3_code 23 = .ok (.goto (-19), 3) := dk_167 255 237 (dk_at dksX3_code_1 0 rfl rfl)
theorem dX3_code_26 : decode cX3_code 26 = .ok (.iconst 2, 1) := dk_5 (dk_at dksX3_code_1 3 rfl rfl)
theorem dX3_code_27 : decode cX3_code 27 = .ok (.istore_n 2, 1) := dk_61 (dk_at dksX3_code_1 4 rfl rfl)
theorem dX3_code_28 : decode cX3_code 28 = .ok (.iload_n 2, 1) := dk_28 (dk_at dksX3_code_1 5 rfl rfl)
theorem dX3_code_29 : decode cX3_code 29 = .ok (.ifCond .lt 20, 3) := dk_155 0 20 (dk_at dksX3_code_1 6 rfl rfl)
theorem dX3_code_32 : decode cX3_code 32 = .ok (.iconst 5, 1) := dk_8 (dk_at dksX3_code_1 9 rfl rfl)
theorem dX3_code_33 : decode cX3_code 33 = .ok (.iload_n 1, 1) := dk_27 (dk_at dksX3_code_1 10 rfl rfl)
theorem dX3_code_34 : decode cX3_code 34 = .ok (.imul, 1) := dk_104 (dk_at dksX3_code_1 11 rfl rfl)
theorem dX3_code_35 : decode cX3_code 35 = .ok (.aload_n 0, 1) := dk_42 (dk_at dksX3_code_1 12 rfl rfl)
theorem dX3_code_36 : decode cX3_code 36 = .ok (.getfield 9, 3) := dk_180 0 9 (dk_at dksX3_code_1 13 rfl rfl)
theorem dX3_code_39 : decode cX3_code 39 = .ok (.iload_n 2, 1) := dk_28 (dk_at dksX3_code_1 16 rfl rfl)
theorem dX3_code_40 : decode cX3_code 40 = .ok (.iaload, 1) := dk_46 (dk_at dksX3_code_1 17 rfl rfl)
theorem dX3_code_41 : decode cX3_code 41 = .ok (.iadd, 1) := dk_96 (dk_at dksX3_code_1 18 rfl rfl)
theorem dX3_code_42 : decode cX3_code 42 = .ok (.istore_n 1, 1) := dk_60 (dk_at dksX3_code_1 19 rfl rfl)
theorem dX3_code_43 : decode cX3_code 43 = .ok (.iinc 2 (-1), 3) := dk_132 2 255 (dk_at dksX3_code_1 20 rfl rfl)
theorem dX3_code_46 : decode cX3_code 46 = .ok (.goto (-18), 3) := dk_167 255 238 (dk_at dksX3_code_2 0 rfl rfl)
theorem dX3_code_49 : decode cX3_code 49 = .ok (.iload_n 1, 1) := dk_27 (dk_at dksX3_code_2 3 rfl rfl)
theorem dX3_code_50 : decode cX3_code 50 = .ok (.ireturn, 1) := dk_172 (dk_at dksX3_code_2 4 rfl rfl)
abbrev cX3_decodes : ByteArray := prog_14_method_4_code
def yX3_decodes : MethodName := ⟨RX3, "decodes", "(I)V"⟩
def dkwX3_decodes_2 : List UInt8 := [16, 6, 108, 61, 132, 3, 1, 167, 255, 233, 177]
abbrev dktX3_decodes_2 : List UInt8 := dkwX3_decodes_2 ++ []
def dkwX3_decodes_1 : List UInt8 := [132, 3, 1, 167, 255, 235, 3, 62, 29, 5, 162, 0, 24, 42, 180, 0, 15, 29, 28, 16, 6, 112, 79, 28]
abbrev dktX3_decodes_1 : List UInt8 := dkwX3_decodes_1 ++ dktX3_decodes_2
def dkwX3_decodes_0 : List UInt8 := [27, 61, 3, 62, 29, 6, 162, 0, 22, 42, 180, 0, 9, 29, 28, 8, 112, 79, 28, 8, 108, 61]
abbrev dktX3_decodes_0 : List UInt8 := dkwX3_decodes_0 ++ dktX3_decodes_1
theorem dksX3_decodes_0 : cX3_decodes.data.toList.drop 0 = dktX3_decodes_0 := by decide +kernel
theorem dksX3_decodes_1 : cX3_decodes.data.toList.drop 22 = dktX3_decodes_1 := dk_seg dksX3_decodes_0 22 rfl rfl
theorem dksX3_decodes_2 : cX3_decodes.data.toList.drop 46 = dktX3_decodes_2 := dk_seg dksX3_decodes_1 24 rfl rfl
theorem dX3_decodes_0 : decode cX3_decodes 0 = .ok (.iload_n 1, 1) := dk_27 (dk_at dksX3_decodes_0 0 rfl rfl)
theorem dX3_decodes_1 : decode cX3_decodes 1 = .ok (.istore_n 2, 1) := dk_61 (dk_at dksX3_decodes_0 1 rfl rfl)
theorem dX3_decodes_2 : decode cX3_decodes 2 = .ok (.iconst 0, 1) := dk_3 (dk_at dksX3_decodes_0 2 rfl rfl)
theorem dX3_decodes_3 : decode cX3_decodes 3 = .ok (.istore_n 3, 1) := dk_62 (dk_at dksX3_decodes_0 3 rfl rfl)
theorem dX3_decodes_4 : decode cX3_decodes 4 = .ok (.iload_n 3, 1) := dk_29 (dk_at dksX3_decodes_0 4 rfl rfl)
theorem dX3_decodes_5 : decode cX3_decodes 5 = .ok (.iconst 3, 1) := dk_6 (dk_at dksX3_decodes_0 5 rfl rfl)
theorem dX3_decodes_6 : decode cX3_decodes 6 = .ok (.if_icmp .ge 22, 3) := dk_162 0 22 (dk_at dksX3_decodes_0 6 rfl rfl)
theorem dX3_decodes_9 : decode cX3_decodes 9 = .ok (.aload_n 0, 1) := dk_42 (dk_at dksX3_decodes_0 9 rfl rfl)
theorem dX3_decodes_10 : decode cX3_decodes 10 = .ok (.getfield 9, 3) := dk_180 0 9 (dk_at dksX3_decodes_0 10 rfl rfl)
theorem dX3_decodes_13 : decode cX3_decodes 13 = .ok (.iload_n 3, 1) := dk_29 (dk_at dksX3_decodes_0 13 rfl rfl)
theorem dX3_decodes_14 : decode cX3_decodes 14 = .ok (.iload_n 2, 1) := dk_28 (dk_at dksX3_decodes_0 14 rfl rfl)
theorem dX3_decodes_15 : decode cX3_decodes 15 = .ok (.iconst 5, 1) := dk_8 (dk_at dksX3_decodes_0 15 rfl rfl)
theorem dX3_decodes_16 : decode cX3_decodes 16 = .ok (.irem, 1) := dk_112 (dk_at dksX3_decodes_0 16 rfl rfl)
theorem dX3_decodes_17 : decode cX3_decodes 17 = .ok (.iastore, 1) := dk_79 (dk_at dksX3_decodes_0 17 rfl rfl)
theorem dX3_decodes_18 : decode cX3_decodes 18 = .ok (.iload_n 2, 1) := dk_28 (dk_at dksX3_decodes_0 18 rfl rfl)
theorem dX3_decodes_19 : decode cX3_decodes 19 = .ok (.iconst 5, 1) := dk_8 (dk_at dksX3_decodes_0 19 rfl rfl)
theorem dX3_decodes_20 : decode cX3_decodes 20 = .ok (.idiv, 1) := dk_108 (dk_at dksX3_decodes_0 20 rfl rfl)
theorem dX3_decodes_21 : decode cX3_decodes 21 = .ok (.istore_n 2, 1) := dk_61 (dk_at dksX3_decodes_0 21 rfl rfl)
theorem dX3_decodes_22 : decode cX3_decodes 22 = .ok (.iinc 3 1, 3) := dk_132 3 1 (dk_at dksX3_decodes_1 0 rfl rfl)
theorem dX3_decodes_25 : decode cX3_decodes 25 = .ok (.goto (-21), 3) := dk_167 255 235 (dk_at dksX3_decodes_1 3 rfl rfl)
theorem dX3_decodes_28 : decode cX3_decodes 28 = .ok (.iconst 0, 1) := dk_3 (dk_at dksX3_decodes_1 6 rfl rfl)
theorem dX3_decodes_29 : decode cX3_decodes 29 = .ok (.istore_n 3, 1) := dk_62 (dk_at dksX3_decodes_1 7 rfl rfl)
theorem dX3_decodes_30 : decode cX3_decodes 30 = .ok (.iload_n 3, 1) := dk_29 (dk_at dksX3_decodes_1 8 rfl rfl)
theorem dX3_decodes_31 : decode cX3_decodes 31 = .ok (.iconst 2, 1) := dk_5 (dk_at dksX3_decodes_1 9 rfl rfl)
theorem dX3_decodes_32 : decode cX3_decodes 32 = .ok (.if_icmp .ge 24, 3) := dk_162 0 24 (dk_at dksX3_decodes_1 10 rfl rfl)
theorem dX3_decodes_35 : decode cX3_decodes 35 = .ok (.aload_n 0, 1) := dk_42 (dk_at dksX3_decodes_1 13 rfl rfl)
theorem dX3_decodes_36 : decode cX3_decodes 36 = .ok (.getfield 15, 3) := dk_180 0 15 (dk_at dksX3_decodes_1 14 rfl rfl)
theorem dX3_decodes_39 : decode cX3_decodes 39 = .ok (.iload_n 3, 1) := dk_29 (dk_at dksX3_decodes_1 17 rfl rfl)
theorem dX3_decodes_40 : decode cX3_decodes 40 = .ok (.iload_n 2, 1) := dk_28 (dk_at dksX3_decodes_1 18 rfl rfl)
theorem dX3_decodes_41 : decode cX3_decodes 41 = .ok (.bipush 6, 2) := dk_16 6 (dk_at dksX3_decodes_1 19 rfl rfl)
theorem dX3_decodes_43 : decode cX3_decodes 43 = .ok (.irem, 1) := dk_112 (dk_at dksX3_decodes_1 21 rfl rfl)
theorem dX3_decodes_44 : decode cX3_decodes 44 = .ok (.iastore, 1) := dk_79 (dk_at dksX3_decodes_1 22 rfl rfl)
theorem dX3_decodes_45 : decode cX3_decodes 45 = .ok (.iload_n 2, 1) := dk_28 (dk_at dksX3_decodes_1 23 rfl rfl)
theorem dX3_decodes_46 : decode cX3_decodes 46 = .ok (.bipush 6, 2) := dk_16 6 (dk_at dksX3_decodes_2 0 rfl rfl)
theorem dX3_decodes_48 : decode cX3_decodes 48 = .ok (.idiv, 1) := dk_108 (dk_at dksX3_decodes_2 2 rfl rfl)
theorem dX3_decodes_49 : decode cX3_decodes 49 = .ok (.istore_n 2, 1) := dk_61 (dk_at dksX3_decodes_2 3 rfl rfl)
theorem dX3_decodes_50 : decode cX3_decodes 50 = .ok (.iinc 3 1, 3) := dk_132 3 1 (dk_at dksX3_decodes_2 4 rfl rfl)
theorem dX3_decodes_53 : decode cX3_decodes 53 = .ok (.goto (-23), 3) := dk_167 255 233 (dk_at dksX3_decodes_2 7 rfl rfl)
theorem dX3_decodes_56 : decode cX3_decodes 56 = .ok (.return_, 1) := dk_177 (dk_at dksX3_decodes_2 10 rfl rfl)
abbrev cX3_init : ByteArray := prog_14_method_1_code
def yX3_init : MethodName := ⟨RX3, "<init>", "()V"⟩
def dkwX3_init_0 : List UInt8 := [42, 183, 0, 3, 42, 6, 188, 10, 181, 0, 9, 42, 5, 188, 10, 181, 0, 15, 177]
abbrev dktX3_init_0 : List UInt8 := dkwX3_init_0 ++ []
theorem dksX3_init_0 : cX3_init.data.toList.drop 0 = dktX3_init_0 := by decide +kernel
theorem dX3_init_0 : decode cX3_init 0 = .ok (.aload_n 0, 1) := dk_42 (dk_at dksX3_init_0 0 rfl rfl)
theorem dX3_init_1 : decode cX3_init 1 = .ok (.invokespecial 3, 3) := dk_183 0 3 (dk_at dksX3_init_0 1 rfl rfl)
theorem dX3_init_4 : decode cX3_init 4 = .ok (.aload_n 0, 1) := dk_42 (dk_at dksX3_init_0 4 rfl rfl)
theorem dX3_init_5 : decode cX3_init 5 = .ok (.iconst 3, 1) := dk_6 (dk_at dksX3_init_0 5 rfl rfl)
theorem dX3_init_6 : decode cX3_init 6 = .ok (.newarray .int, 2) := dk_188_10 (dk_at dksX3_init_0 6 rfl rfl)
theorem dX3_init_8 : decode cX3_init 8 = .ok (.putfield 9, 3) := dk_181 0 9 (dk_at dksX3_init_0 8 rfl rfl)
theorem dX3_init_11 : decode cX3_init 11 = .ok (.aload_n 0, 1) := dk_42 (dk_at dksX3_init_0 11 rfl rfl)
theorem dX3_init_12 : decode cX3_init 12 = .ok (.iconst 2, 1) := dk_5 (dk_at dksX3_init_0 12 rfl rfl)
theorem dX3_init_13 : decode cX3_init 13 = .ok (.newarray .int, 2) := dk_188_10 (dk_at dksX3_init_0 13 rfl rfl)
theorem dX3_init_15 : decode cX3_init 15 = .ok (.putfield 15, 3) := dk_181 0 15 (dk_at dksX3_init_0 15 rfl rfl)
theorem dX3_init_18 : decode cX3_init 18 = .ok (.return_, 1) := dk_177 (dk_at dksX3_init_0 18 rfl rfl)
theorem q78 : (Jvm.Cond.initialized "DownRope$Spot") ∈ lw_all := lw_g (lw_at lw_m1 3 rfl) rfl
theorem q134 : (Jvm.Cond.instanceMethod ({ cls := "DownRope$Spot", name := "takes", desc := "(LDownRope$Spot;)V" } : Jvm.MethodName)) ∈ lw_all := lw_g (lw_at lw_m1 59 rfl) rfl
theorem q135 : (Jvm.Cond.selects "DownRope$Spot" ({ cls := "DownRope$Spot", name := "takes", desc := "(LDownRope$Spot;)V" } : Jvm.MethodName) ({ cls := "DownRope$Spot", name := "takes", desc := "(LDownRope$Spot;)V" } : Jvm.MethodName)) ∈ lw_all := lw_g (lw_at lw_m1 60 rfl) rfl
theorem q136 : (Jvm.Cond.code ({ cls := "DownRope$Spot", name := "takes", desc := "(LDownRope$Spot;)V" } : Jvm.MethodName) prog_14_method_2_code (2 : Nat) (Option.none : Option Jvm.ClassFile.FieldType)) ∈ lw_all := lw_g (lw_at lw_m1 61 rfl) rfl
theorem q137 : (Jvm.Cond.methodLink "DownRope$Spot" (18 : Nat) ({ cls := "java/lang/System", name := "arraycopy", desc := "(Ljava/lang/Object;ILjava/lang/Object;II)V" } : Jvm.MethodName)) ∈ lw_all := lw_g (lw_at lw_m1 62 rfl) rfl
theorem q619 : (Jvm.Cond.instanceMethod ({ cls := "DownRope$Spot", name := "code", desc := "()I" } : Jvm.MethodName)) ∈ lw_all := lw_g (lw_at lw_m3 64 rfl) rfl
theorem q620 : (Jvm.Cond.selects "DownRope$Spot" ({ cls := "DownRope$Spot", name := "code", desc := "()I" } : Jvm.MethodName) ({ cls := "DownRope$Spot", name := "code", desc := "()I" } : Jvm.MethodName)) ∈ lw_all := lw_g (lw_at lw_m3 65 rfl) rfl
theorem q621 : (Jvm.Cond.code ({ cls := "DownRope$Spot", name := "code", desc := "()I" } : Jvm.MethodName) prog_14_method_3_code (3 : Nat) (Option.some Jvm.ClassFile.FieldType.int)) ∈ lw_all := lw_g (lw_at lw_m3 66 rfl) rfl
theorem q627 : (Jvm.Cond.instanceMethod ({ cls := "DownRope$Spot", name := "decodes", desc := "(I)V" } : Jvm.MethodName)) ∈ lw_all := lw_g (lw_at lw_m3 72 rfl) rfl
theorem q628 : (Jvm.Cond.selects "DownRope$Spot" ({ cls := "DownRope$Spot", name := "decodes", desc := "(I)V" } : Jvm.MethodName) ({ cls := "DownRope$Spot", name := "decodes", desc := "(I)V" } : Jvm.MethodName)) ∈ lw_all := lw_g (lw_at lw_m3 73 rfl) rfl
theorem q629 : (Jvm.Cond.code ({ cls := "DownRope$Spot", name := "decodes", desc := "(I)V" } : Jvm.MethodName) prog_14_method_4_code (4 : Nat) (Option.none : Option Jvm.ClassFile.FieldType)) ∈ lw_all := lw_g (lw_at lw_m3 74 rfl) rfl
theorem q649 : (Jvm.Cond.instantiable "DownRope$Spot" (2 : Nat)) ∈ lw_all := lw_g (lw_at lw_m3 94 rfl) rfl
theorem q651 : (Jvm.Cond.instanceMethod ({ cls := "DownRope$Spot", name := "<init>", desc := "()V" } : Jvm.MethodName)) ∈ lw_all := lw_g (lw_at lw_m3 96 rfl) rfl
theorem q652 : (Jvm.Cond.code ({ cls := "DownRope$Spot", name := "<init>", desc := "()V" } : Jvm.MethodName) prog_14_method_1_code (1 : Nat) (Option.none : Option Jvm.ClassFile.FieldType)) ∈ lw_all := lw_g (lw_at lw_m3 97 rfl) rfl
theorem q653 : (Jvm.Cond.methodLink "DownRope$Spot" (3 : Nat) ({ cls := "java/lang/Object", name := "<init>", desc := "()V" } : Jvm.MethodName)) ∈ lw_all := lw_g (lw_at lw_m3 98 rfl) rfl
theorem q654 : (Jvm.Cond.fieldLink "DownRope$Spot" (9 : Nat) "DownRope$Spot" "at" "[I") ∈ lw_all := lw_g (lw_at lw_m3 99 rfl) rfl
theorem q658 : (Jvm.Cond.fieldLink "DownRope$Spot" (15 : Nat) "DownRope$Spot" "rope" "[I") ∈ lw_all := lw_g (lw_at lw_m3 103 rfl) rfl
theorem q665 : (Jvm.Cond.laysFinal "DownRope$Spot" "DownRope$Spot" "at" "[I") ∈ lw_all := lw_g (lw_at lw_m3 110 rfl) rfl
theorem q666 : (Jvm.Cond.soleField "DownRope$Spot" "at") ∈ lw_all := lw_g (lw_at lw_m3 111 rfl) rfl
theorem q667 : (Jvm.Cond.laysFinal "DownRope$Spot" "DownRope$Spot" "rope" "[I") ∈ lw_all := lw_g (lw_at lw_m3 112 rfl) rfl
theorem q668 : (Jvm.Cond.soleField "DownRope$Spot" "rope") ∈ lw_all := lw_g (lw_at lw_m3 113 rfl) rfl
theorem q669 : (Jvm.Cond.superclass "DownRope$Spot" "java/lang/Object") ∈ lw_all := lw_g (lw_at lw_m3 114 rfl) rfl
theorem in_X3 : ∀ w ∈ wsX30, w ∈ lw_all := lw_in wsX30 [665, 667] (by decide +kernel) (by decide +kernel)
/-! DownRope$Face -/
set_option maxRecDepth 100000
def RX2 : String := "DownRope$Face"
def TX2 : u_T := fun k => match k with
  | 0 => ("DownRope$Face", "room", "[I", true)
  | 1 => ("DownRope$Face", "holds", "[I", true)
  | 2 => ("DownRope$Face", "feet", "[I", true)
  | 3 => ("DownRope$Face", "isClimbable", "[Z", true)
  | 4 => ("DownRope$Face", "ledges", "I", false)
  | 5 => ("DownRope$Face", "sort", "[I", true)
  | 6 => ("DownRope$Face", "people", "I", false)
  | 7 => ("DownRope$Face", "length", "[I", true)
  | 8 => ("DownRope$Face", "ropes", "I", false)
  | 9 => ("DownRope$Face", "caught", "I", false)
  | 10 => ("DownRope$Face", "dusk", "I", false)
  | 11 => ("DownRope$Face", "minutes", "I", false)
  | _ => ("DownRope$Face", "spot", "LDownRope$Spot;", true)
def tyX2 : Nat → FieldType := fun k => match k with
  | 0 => .array .int
  | 1 => .array .int
  | 2 => .array .int
  | 3 => .array .boolean
  | 4 => .int
  | 5 => .array .int
  | 6 => .int
  | 7 => .array .int
  | 8 => .int
  | 9 => .int
  | 10 => .int
  | 11 => .int
  | _ => .object "DownRope$Spot"
abbrev wsX20 : List Cond := u_ws RX2 TX2 13
set_option maxRecDepth 100000 in
theorem nmX2 : ∀ a, a < 13 → ∀ b, b < 13 → a ≠ b → (TX2 a).2.1 ≠ (TX2 b).2.1 := by decide +kernel
set_option maxRecDepth 100000 in
theorem tyX2_ok : ∀ k, k < 13 → parseFieldDescriptor (TX2 k).2.2.1 = some (tyX2 k) := by decide +kernel
abbrev cX2_takes : ByteArray := prog_5_method_2_code
def yX2_takes : MethodName := ⟨RX2, "takes", "(LDownRope$Face;)V"⟩
def dkwX2_takes_6 : List UInt8 := [177]
abbrev dktX2_takes_6 : List UInt8 := dkwX2_takes_6 ++ []
def dkwX2_takes_5 : List UInt8 := [180, 0, 28, 3, 42, 180, 0, 28, 3, 5, 184, 0, 57, 42, 180, 0, 38, 43, 180, 0, 38, 182, 0, 63]
abbrev dktX2_takes_5 : List UInt8 := dkwX2_takes_5 ++ dktX2_takes_6
def dkwX2_takes_4 : List UInt8 := [180, 0, 21, 3, 8, 184, 0, 57, 43, 180, 0, 25, 3, 42, 180, 0, 25, 3, 6, 184, 0, 57, 43]
abbrev dktX2_takes_4 : List UInt8 := dkwX2_takes_4 ++ dktX2_takes_5
def dkwX2_takes_3 : List UInt8 := [8, 184, 0, 57, 43, 180, 0, 18, 3, 42, 180, 0, 18, 3, 8, 184, 0, 57, 43, 180, 0, 21, 3, 42]
abbrev dktX2_takes_3 : List UInt8 := dkwX2_takes_3 ++ dktX2_takes_4
def dkwX2_takes_2 : List UInt8 := [43, 180, 0, 9, 3, 42, 180, 0, 9, 3, 8, 184, 0, 57, 43, 180, 0, 15, 3, 42, 180, 0, 15, 3]
abbrev dktX2_takes_2 : List UInt8 := dkwX2_takes_2 ++ dktX2_takes_3
def dkwX2_takes_1 : List UInt8 := [42, 43, 180, 0, 51, 181, 0, 51, 42, 43, 180, 0, 31, 181, 0, 31, 42, 43, 180, 0, 54, 181, 0, 54]
abbrev dktX2_takes_1 : List UInt8 := dkwX2_takes_1 ++ dktX2_takes_2
def dkwX2_takes_0 : List UInt8 := [42, 43, 180, 0, 42, 181, 0, 42, 42, 43, 180, 0, 45, 181, 0, 45, 42, 43, 180, 0, 48, 181, 0, 48]
abbrev dktX2_takes_0 : List UInt8 := dkwX2_takes_0 ++ dktX2_takes_1
theorem dksX2_takes_0 : cX2_takes.data.toList.drop 0 = dktX2_takes_0 := by decide +kernel
theorem dksX2_takes_1 : cX2_takes.data.toList.drop 24 = dktX2_takes_1 := dk_seg dksX2_takes_0 24 rfl rfl
theorem dksX2_takes_2 : cX2_takes.data.toList.drop 48 = dktX2_takes_2 := dk_seg dksX2_takes_1 24 rfl rfl
theorem dksX2_takes_3 : cX2_takes.data.toList.drop 72 = dktX2_takes_3 := dk_seg dksX2_takes_2 24 rfl rfl
theorem dksX2_takes_4 : cX2_takes.data.toList.drop 96 = dktX2_takes_4 := dk_seg dksX2_takes_3 24 rfl rfl
theorem dksX2_takes_5 : cX2_takes.data.toList.drop 119 = dktX2_takes_5 := dk_seg dksX2_takes_4 23 rfl rfl
theorem dksX2_takes_6 : cX2_takes.data.toList.drop 143 = dktX2_takes_6 := dk_seg dksX2_takes_5 24 rfl rfl
theorem dX2_takes_0 : decode cX2_takes 0 = .ok (.aload_n 0, 1) := dk_42 (dk_at dksX2_takes_0 0 rfl rfl)
theorem dX2_takes_1 : decode cX2_takes 1 = .ok (.aload_n 1, 1) := dk_43 (dk_at dksX2_takes_0 1 rfl rfl)
theorem dX2_takes_2 : decode cX2_takes 2 = .ok (.getfield 42, 3) := dk_180 0 42 (dk_at dksX2_takes_0 2 rfl rfl)
theorem dX2_takes_5 : decode cX2_takes 5 = .ok (.putfield 42, 3) := dk_181 0 42 (dk_at dksX2_takes_0 5 rfl rfl)
theorem dX2_takes_8 : decode cX2_takes 8 = .ok (.aload_n 0, 1) := dk_42 (dk_at dksX2_takes_0 8 rfl rfl)
theorem dX2_takes_9 : decode cX2_takes 9 = .ok (.aload_n 1, 1) := dk_43 (dk_at dksX2_takes_0 9 rfl rfl)
theorem dX2_takes_10 : decode cX2_takes 10 = .ok (.getfield 45, 3) := dk_180 0 45 (dk_at dksX2_takes_0 10 rfl rfl)
theorem dX2_takes_13 : decode cX2_takes 13 = .ok (.putfield 45, 3) := dk_181 0 45 (dk_at dksX2_takes_0 13 rfl rfl)
theorem dX2_takes_16 : decode cX2_takes 16 = .ok (.aload_n 0, 1) := dk_42 (dk_at dksX2_takes_0 16 rfl rfl)
theorem dX2_takes_17 : decode cX2_takes 17 = .ok (.aload_n 1, 1) := dk_43 (dk_at dksX2_takes_0 17 rfl rfl)
theorem dX2_takes_18 : decode cX2_takes 18 = .ok (.getfield 48, 3) := dk_180 0 48 (dk_at dksX2_takes_0 18 rfl rfl)
theorem dX2_takes_21 : decode cX2_takes 21 = .ok (.putfield 48, 3) := dk_181 0 48 (dk_at dksX2_takes_0 21 rfl rfl)
theorem dX2_takes_24 : decode cX2_takes 24 = .ok (.aload_n 0, 1) := dk_42 (dk_at dksX2_takes_1 0 rfl rfl)
theorem dX2_takes_25 : decode cX2_takes 25 = .ok (.aload_n 1, 1) := dk_43 (dk_at dksX2_takes_1 1 rfl rfl)
theorem dX2_takes_26 : decode cX2_takes 26 = .ok (.getfield 51, 3) := dk_180 0 51 (dk_at dksX2_takes_1 2 rfl rfl)
theorem dX2_takes_29 : decode cX2_takes 29 = .ok (.putfield 51, 3) := dk_181 0 51 (dk_at dksX2_takes_1 5 rfl rfl)
theorem dX2_takes_32 : decode cX2_takes 32 = .ok (.aload_n 0, 1) := dk_42 (dk_at dksX2_takes_1 8 rfl rfl)
theorem dX2_takes_33 : decode cX2_takes 33 = .ok (.aload_n 1, 1) := dk_43 (dk_at dksX2_takes_1 9 rfl rfl)
theorem dX2_takes_34 : decode cX2_takes 34 = .ok (.getfield 31, 3) := dk_180 0 31 (dk_at dksX2_takes_1 10 rfl rfl)
theorem dX2_takes_37 : decode cX2_takes 37 = .ok (.putfield 31, 3) := dk_181 0 31 (dk_at dksX2_takes_1 13 rfl rfl)
theorem dX2_takes_40 : decode cX2_takes 40 = .ok (.aload_n 0, 1) := dk_42 (dk_at dksX2_takes_1 16 rfl rfl)
theorem dX2_takes_41 : decode cX2_takes 41 = .ok (.aload_n 1, 1) := dk_43 (dk_at dksX2_takes_1 17 rfl rfl)
theorem dX2_takes_42 : decode cX2_takes 42 = .ok (.getfield 54, 3) := dk_180 0 54 (dk_at dksX2_takes_1 18 rfl rfl)
theorem dX2_takes_45 : decode cX2_takes 45 = .ok (.putfield 54, 3) := dk_181 0 54 (dk_at dksX2_takes_1 21 rfl rfl)
theorem dX2_takes_48 : decode cX2_takes 48 = .ok (.aload_n 1, 1) := dk_43 (dk_at dksX2_takes_2 0 rfl rfl)
theorem dX2_takes_49 : decode cX2_takes 49 = .ok (.getfield 9, 3) := dk_180 0 9 (dk_at dksX2_takes_2 1 rfl rfl)
theorem dX2_takes_52 : decode cX2_takes 52 = .ok (.iconst 0, 1) := dk_3 (dk_at dksX2_takes_2 4 rfl rfl)
theorem dX2_takes_53 : decode cX2_takes 53 = .ok (.aload_n 0, 1) := dk_42 (dk_at dksX2_takes_2 5 rfl rfl)
theorem dX2_takes_54 : decode cX2_takes 54 = .ok (.getfield 9, 3) := dk_180 0 9 (dk_at dksX2_takes_2 6 rfl rfl)
theorem dX2_takes_57 : decode cX2_takes 57 = .ok (.iconst 0, 1) := dk_3 (dk_at dksX2_takes_2 9 rfl rfl)
theorem dX2_takes_58 : decode cX2_takes 58 = .ok (.iconst 5, 1) := dk_8 (dk_at dksX2_takes_2 10 rfl rfl)
theorem dX2_takes_59 : decode cX2_takes 59 = .ok (.invokestatic 57, 3) := dk_184 0 57 (dk_at dksX2_takes_2 11 rfl rfl)
theorem dX2_takes_62 : decode cX2_takes 62 = .ok (.aload_n 1, 1) := dk_43 (dk_at dksX2_takes_2 14 rfl rfl)
theorem dX2_takes_63 : decode cX2_takes 63 = .ok (.getfield 15, 3) := dk_180 0 15 (dk_at dksX2_takes_2 15 rfl rfl)
theorem dX2_takes_66 : decode cX2_takes 66 = .ok (.iconst 0, 1) := dk_3 (dk_at dksX2_takes_2 18 rfl rfl)
theorem dX2_takes_67 : decode cX2_takes 67 = .ok (.aload_n 0, 1) := dk_42 (dk_at dksX2_takes_2 19 rfl rfl)
theorem dX2_takes_68 : decode cX2_takes 68 = .ok (.getfield 15, 3) := dk_180 0 15 (dk_at dksX2_takes_2 20 rfl rfl)
theorem dX2_takes_71 : decode cX2_takes 71 = .ok (.iconst 0, 1) := dk_3 (dk_at dksX2_takes_2 23 rfl rfl)
theorem dX2_takes_72 : decode cX2_takes 72 = .ok (.iconst 5, 1) := dk_8 (dk_at dksX2_takes_3 0 rfl rfl)
theorem dX2_takes_73 : decode cX2_takes 73 = .ok (.invokestatic 57, 3) := dk_184 0 57 (dk_at dksX2_takes_3 1 rfl rfl)
theorem dX2_takes_76 : decode cX2_takes 76 = .ok (.aload_n 1, 1) := dk_43 (dk_at dksX2_takes_3 4 rfl rfl)
theorem dX2_takes_77 : decode cX2_takes 77 = .ok (.getfield 18, 3) := dk_180 0 18 (dk_at dksX2_takes_3 5 rfl rfl)
theorem dX2_takes_80 : decode cX2_takes 80 = .ok (.iconst 0, 1) := dk_3 (dk_at dksX2_takes_3 8 rfl rfl)
theorem dX2_takes_81 : decode cX2_takes 81 = .ok (.aload_n 0, 1) := dk_42 (dk_at dksX2_takes_3 9 rfl rfl)
theorem dX2_takes_82 : decode cX2_takes 82 = .ok (.getfield 18, 3) := dk_180 0 18 (dk_at dksX2_takes_3 10 rfl rfl)
theorem dX2_takes_85 : decode cX2_takes 85 = .ok (.iconst 0, 1) := dk_3 (dk_at dksX2_takes_3 13 rfl rfl)
theorem dX2_takes_86 : decode cX2_takes 86 = .ok (.iconst 5, 1) := dk_8 (dk_at dksX2_takes_3 14 rfl rfl)
theorem dX2_takes_87 : decode cX2_takes 87 = .ok (.invokestatic 57, 3) := dk_184 0 57 (dk_at dksX2_takes_3 15 rfl rfl)
theorem dX2_takes_90 : decode cX2_takes 90 = .ok (.aload_n 1, 1) := dk_43 (dk_at dksX2_takes_3 18 rfl rfl)
theorem dX2_takes_91 : decode cX2_takes 91 = .ok (.getfield 21, 3) := dk_180 0 21 (dk_at dksX2_takes_3 19 rfl rfl)
theorem dX2_takes_94 : decode cX2_takes 94 = .ok (.iconst 0, 1) := dk_3 (dk_at dksX2_takes_3 22 rfl rfl)
theorem dX2_takes_95 : decode cX2_takes 95 = .ok (.aload_n 0, 1) := dk_42 (dk_at dksX2_takes_3 23 rfl rfl)
theorem dX2_takes_96 : decode cX2_takes 96 = .ok (.getfield 21, 3) := dk_180 0 21 (dk_at dksX2_takes_4 0 rfl rfl)
theorem dX2_takes_99 : decode cX2_takes 99 = .ok (.iconst 0, 1) := dk_3 (dk_at dksX2_takes_4 3 rfl rfl)
theorem dX2_takes_100 : decode cX2_takes 100 = .ok (.iconst 5, 1) := dk_8 (dk_at dksX2_takes_4 4 rfl rfl)
theorem dX2_takes_101 : decode cX2_takes 101 = .ok (.invokestatic 57, 3) := dk_184 0 57 (dk_at dksX2_takes_4 5 rfl rfl)
theorem dX2_takes_104 : decode cX2_takes 104 = .ok (.aload_n 1, 1) := dk_43 (dk_at dksX2_takes_4 8 rfl rfl)
theorem dX2_takes_105 : decode cX2_takes 105 = .ok (.getfield 25, 3) := dk_180 0 25 (dk_at dksX2_takes_4 9 rfl rfl)
theorem dX2_takes_108 : decode cX2_takes 108 = .ok (.iconst 0, 1) := dk_3 (dk_at dksX2_takes_4 12 rfl rfl)
theorem dX2_takes_109 : decode cX2_takes 109 = .ok (.aload_n 0, 1) := dk_42 (dk_at dksX2_takes_4 13 rfl rfl)
theorem dX2_takes_110 : decode cX2_takes 110 = .ok (.getfield 25, 3) := dk_180 0 25 (dk_at dksX2_takes_4 14 rfl rfl)
theorem dX2_takes_113 : decode cX2_takes 113 = .ok (.iconst 0, 1) := dk_3 (dk_at dksX2_takes_4 17 rfl rfl)
theorem dX2_takes_114 : decode cX2_takes 114 = .ok (.iconst 3, 1) := dk_6 (dk_at dksX2_takes_4 18 rfl rfl)
theorem dX2_takes_115 : decode cX2_takes 115 = .ok (.invokestatic 57, 3) := dk_184 0 57 (dk_at dksX2_takes_4 19 rfl rfl)
theorem dX2_takes_118 : decode cX2_takes 118 = .ok (.aload_n 1, 1) := dk_43 (dk_at dksX2_takes_4 22 rfl rfl)
theorem dX2_takes_119 : decode cX2_takes 119 = .ok (.getfield 28, 3) := dk_180 0 28 (dk_at dksX2_takes_5 0 rfl rfl)
theorem dX2_takes_122 : decode cX2_takes 122 = .ok (.iconst 0, 1) := dk_3 (dk_at dksX2_takes_5 3 rfl rfl)
theorem dX2_takes_123 : decode cX2_takes 123 = .ok (.aload_n 0, 1) := dk_42 (dk_at dksX2_takes_5 4 rfl rfl)
theorem dX2_takes_124 : decode cX2_takes 124 = .ok (.getfield 28, 3) := dk_180 0 28 (dk_at dksX2_takes_5 5 rfl rfl)
theorem dX2_takes_127 : decode cX2_takes 127 = .ok (.iconst 0, 1) := dk_3 (dk_at dksX2_takes_5 8 rfl rfl)
theorem dX2_takes_128 : decode cX2_takes 128 = .ok (.iconst 2, 1) := dk_5 (dk_at dksX2_takes_5 9 rfl rfl)
theorem dX2_takes_129 : decode cX2_takes 129 = .ok (.invokestatic 57, 3) := dk_184 0 57 (dk_at dksX2_takes_5 10 rfl rfl)
theorem dX2_takes_132 : decode cX2_takes 132 = .ok (.aload_n 0, 1) := dk_42 (dk_at dksX2_takes_5 13 rfl rfl)
theorem dX2_takes_133 : decode cX2_takes 133 = .ok (.getfield 38, 3) := dk_180 0 38 (dk_at dksX2_takes_5 14 rfl rfl)
theorem dX2_takes_136 : decode cX2_takes 136 = .ok (.aload_n 1, 1) := dk_43 (dk_at dksX2_takes_5 17 rfl rfl)
theorem dX2_takes_137 : decode cX2_takes 137 = .ok (.getfield 38, 3) := dk_180 0 38 (dk_at dksX2_takes_5 18 rfl rfl)
theorem dX2_takes_140 : decode cX2_takes 140 = .ok (.invokevirtual 63, 3) := dk_182 0 63 (dk_at dksX2_takes_5 21 rfl rfl)
theorem dX2_takes_143 : decode cX2_takes 143 = .ok (.return_, 1) := dk_177 (dk_at dksX2_takes_6 0 rfl rfl)
abbrev cX2_isLedge : ByteArray := prog_5_method_4_code
def yX2_isLedge : MethodName := ⟨RX2, "isLedge", "(I)Z"⟩
def dkwX2_isLedge_0 : List UInt8 := [27, 155, 0, 15, 27, 42, 180, 0, 42, 162, 0, 7, 4, 167, 0, 4, 3, 172]
abbrev dktX2_isLedge_0 : List UInt8 := dkwX2_isLedge_0 ++ []
theorem dksX2_isLedge_0 : cX2_isLedge.data.toList.drop 0 = dktX2_isLedge_0 := by decide +kernel
theorem dX2_isLedge_0 : decode cX2_isLedge 0 = .ok (.iload_n 1, 1) := dk_27 (dk_at dksX2_isLedge_0 0 rfl rfl)
theorem dX2_isLedge_1 : decode cX2_isLedge 1 = .ok (.ifCond .lt 15, 3) := dk_155 0 15 (dk_at dksX2_isLedge_0 1 rfl rfl)
theorem dX2_isLedge_4 : decode cX2_isLedge 4 = .ok (.iload_n 1, 1) := dk_27 (dk_at dksX2_isLedge_0 4 rfl rfl)
theorem dX2_isLedge_5 : decode cX2_isLedge 5 = .ok (.aload_n 0, 1) := dk_42 (dk_at dksX2_isLedge_0 5 rfl rfl)
theorem dX2_isLedge_6 : decode cX2_isLedge 6 = .ok (.getfield 42, 3) := dk_180 0 42 (dk_at dksX2_isLedge_0 6 rfl rfl)
theorem dX2_isLedge_9 : decode cX2_isLedge 9 = .ok (.if_icmp .ge 7, 3) := dk_162 0 7 (dk_at dksX2_isLedge_0 9 rfl rfl)
theorem dX2_isLedge_12 : decode cX2_isLedge 12 = .ok (.iconst 1, 1) := dk_4 (dk_at dksX2_isLedge_0 12 rfl rfl)
theorem dX2_isLedge_13 : decode cX2_isLedge 13 = .ok (.goto 4, 3) := dk_167 0 4 (dk_at dksX2_isLedge_0 13 rfl rfl)
theorem dX2_isLedge_16 : decode cX2_isLedge 16 = .ok (.iconst 0, 1) := dk_3 (dk_at dksX2_isLedge_0 16 rfl rfl)
theorem dX2_isLedge_17 : decode cX2_isLedge 17 = .ok (.ireturn, 1) := dk_172 (dk_at dksX2_isLedge_0 17 rfl rfl)
abbrev cX2_ground : ByteArray := prog_5_method_3_code
def yX2_ground : MethodName := ⟨RX2, "ground", "()I"⟩
def dkwX2_ground_0 : List UInt8 := [42, 180, 0, 42, 4, 100, 172]
abbrev dktX2_ground_0 : List UInt8 := dkwX2_ground_0 ++ []
theorem dksX2_ground_0 : cX2_ground.data.toList.drop 0 = dktX2_ground_0 := by decide +kernel
theorem dX2_ground_0 : decode cX2_ground 0 = .ok (.aload_n 0, 1) := dk_42 (dk_at dksX2_ground_0 0 rfl rfl)
theorem dX2_ground_1 : decode cX2_ground 1 = .ok (.getfield 42, 3) := dk_180 0 42 (dk_at dksX2_ground_0 1 rfl rfl)
theorem dX2_ground_4 : decode cX2_ground 4 = .ok (.iconst 1, 1) := dk_4 (dk_at dksX2_ground_0 4 rfl rfl)
theorem dX2_ground_5 : decode cX2_ground 5 = .ok (.isub, 1) := dk_100 (dk_at dksX2_ground_0 5 rfl rfl)
theorem dX2_ground_6 : decode cX2_ground 6 = .ok (.ireturn, 1) := dk_172 (dk_at dksX2_ground_0 6 rfl rfl)
abbrev cX2_far : ByteArray := prog_5_method_5_code
def yX2_far : MethodName := ⟨RX2, "far", "(II)I"⟩
def dkwX2_far_2 : List UInt8 := [167, 255, 237, 29, 172]
abbrev dktX2_far_2 : List UInt8 := dkwX2_far_2 ++ []
def dkwX2_far_1 : List UInt8 := [3, 62, 27, 54, 4, 21, 4, 28, 162, 0, 19, 29, 42, 180, 0, 18, 21, 4, 46, 96, 62, 132, 4, 1]
abbrev dktX2_far_1 : List UInt8 := dkwX2_far_1 ++ dktX2_far_2
def dkwX2_far_0 : List UInt8 := [42, 27, 182, 0, 67, 153, 0, 16, 42, 28, 182, 0, 67, 153, 0, 8, 28, 27, 163, 0, 6, 16, 252, 172]
abbrev dktX2_far_0 : List UInt8 := dkwX2_far_0 ++ dktX2_far_1
theorem dksX2_far_0 : cX2_far.data.toList.drop 0 = dktX2_far_0 := by decide +kernel
theorem dksX2_far_1 : cX2_far.data.toList.drop 24 = dktX2_far_1 := dk_seg dksX2_far_0 24 rfl rfl
theorem dksX2_far_2 : cX2_far.data.toList.drop 48 = dktX2_far_2 := dk_seg dksX2_far_1 24 rfl rfl
theorem dX2_far_0 : decode cX2_far 0 = .ok (.aload_n 0, 1) := dk_42 (dk_at dksX2_far_0 0 rfl rfl)
theorem dX2_far_1 : decode cX2_far 1 = .ok (.iload_n 1, 1) := dk_27 (dk_at dksX2_far_0 1 rfl rfl)
theorem dX2_far_2 : decode cX2_far 2 = .ok (.invokevirtual 67, 3) := dk_182 0 67 (dk_at dksX2_far_0 2 rfl rfl)
theorem dX2_far_5 : decode cX2_far 5 = .ok (.ifCond .eq 16, 3) := dk_153 0 16 (dk_at dksX2_far_0 5 rfl rfl)
theorem dX2_far_8 : decode cX2_far 8 = .ok (.aload_n 0, 1) := dk_42 (dk_at dksX2_far_0 8 rfl rfl)
theorem dX2_far_9 : decode cX2_far 9 = .ok (.iload_n 2, 1) := dk_28 (dk_at dksX2_far_0 9 rfl rfl)
theorem dX2_far_10 : decode cX2_far 10 = .ok (.invokevirtual 67, 3) := dk_182 0 67 (dk_at dksX2_far_0 10 rfl rfl)
theorem dX2_far_13 : decode cX2_far 13 = .ok (.ifCond .eq 8, 3) := dk_153 0 8 (dk_at dksX2_far_0 13 rfl rfl)
theorem dX2_far_16 : decode cX2_far 16 = .ok (.iload_n 2, 1) := dk_28 (dk_at dksX2_far_0 16 rfl rfl)
theorem dX2_far_17 : decode cX2_far 17 = .ok (.iload_n 1, 1) := dk_27 (dk_at dksX2_far_0 17 rfl rfl)
theorem dX2_far_18 : decode cX2_far 18 = .ok (.if_icmp .gt 6, 3) := dk_163 0 6 (dk_at dksX2_far_0 18 rfl rfl)
theorem dX2_far_21 : decode cX2_far 21 = .ok (.bipush (-4), 2) := dk_16 252 (dk_at dksX2_far_0 21 rfl rfl)
theorem dX2_far_23 : decode cX2_far 23 = .ok (.ireturn, 1) := dk_172 (dk_at dksX2_far_0 23 rfl rfl)
theorem dX2_far_24 : decode cX2_far 24 = .ok (.iconst 0, 1) := dk_3 (dk_at dksX2_far_1 0 rfl rfl)
theorem dX2_far_25 : decode cX2_far 25 = .ok (.istore_n 3, 1) := dk_62 (dk_at dksX2_far_1 1 rfl rfl)
theorem dX2_far_26 : decode cX2_far 26 = .ok (.iload_n 1, 1) := dk_27 (dk_at dksX2_far_1 2 rfl rfl)
theorem dX2_far_27 : decode cX2_far 27 = .ok (.istore 4, 2) := dk_54 4 (dk_at dksX2_far_1 3 rfl rfl)
theorem dX2_far_29 : decode cX2_far 29 = .ok (.iload 4, 2) := dk_21 4 (dk_at dksX2_far_1 5 rfl rfl)
theorem dX2_far_31 : decode cX2_far 31 = .ok (.iload_n 2, 1) := dk_28 (dk_at dksX2_far_1 7 rfl rfl)
theorem dX2_far_32 : decode cX2_far 32 = .ok (.if_icmp .ge 19, 3) := dk_162 0 19 (dk_at dksX2_far_1 8 rfl rfl)
theorem dX2_far_35 : decode cX2_far 35 = .ok (.iload_n 3, 1) := dk_29 (dk_at dksX2_far_1 11 rfl rfl)
theorem dX2_far_36 : decode cX2_far 36 = .ok (.aload_n 0, 1) := dk_42 (dk_at dksX2_far_1 12 rfl rfl)
theorem dX2_far_37 : decode cX2_far 37 = .ok (.getfield 18, 3) := dk_180 0 18 (dk_at dksX2_far_1 13 rfl rfl)
theorem dX2_far_40 : decode cX2_far 40 = .ok (.iload 4, 2) := dk_21 4 (dk_at dksX2_far_1 16 rfl rfl)
theorem dX2_far_42 : decode cX2_far 42 = .ok (.iaload, 1) := dk_46 (dk_at dksX2_far_1 18 rfl rfl)
theorem dX2_far_43 : decode cX2_far 43 = .ok (.iadd, 1) := dk_96 (dk_at dksX2_far_1 19 rfl rfl)
theorem dX2_far_44 : decode cX2_far 44 = .ok (.istore_n 3, 1) := dk_62 (dk_at dksX2_far_1 20 rfl rfl)
theorem dX2_far_45 : decode cX2_far 45 = .ok (.iinc 4 1, 3) := dk_132 4 1 (dk_at dksX2_far_1 21 rfl rfl)
theorem dX2_far_48 : decode cX2_far 48 = .ok (.goto (-19), 3) := dk_167 255 237 (dk_at dksX2_far_2 0 rfl rfl)
theorem dX2_far_51 : decode cX2_far 51 = .ok (.iload_n 3, 1) := dk_29 (dk_at dksX2_far_2 3 rfl rfl)
theorem dX2_far_52 : decode cX2_far 52 = .ok (.ireturn, 1) := dk_172 (dk_at dksX2_far_2 4 rfl rfl)
abbrev cX2_isDown : ByteArray := prog_5_method_6_code
def yX2_isDown : MethodName := ⟨RX2, "isDown", "(LDownRope$Spot;)Z"⟩
def dkwX2_isDown_1 : List UInt8 := [172, 132, 2, 1, 167, 255, 230, 4, 172]
abbrev dktX2_isDown_1 : List UInt8 := dkwX2_isDown_1 ++ []
def dkwX2_isDown_0 : List UInt8 := [3, 61, 28, 42, 180, 0, 45, 162, 0, 24, 43, 180, 0, 71, 28, 46, 42, 182, 0, 74, 159, 0, 5, 3]
abbrev dktX2_isDown_0 : List UInt8 := dkwX2_isDown_0 ++ dktX2_isDown_1
theorem dksX2_isDown_0 : cX2_isDown.data.toList.drop 0 = dktX2_isDown_0 := by decide +kernel
theorem dksX2_isDown_1 : cX2_isDown.data.toList.drop 24 = dktX2_isDown_1 := dk_seg dksX2_isDown_0 24 rfl rfl
theorem dX2_isDown_0 : decode cX2_isDown 0 = .ok (.iconst 0, 1) := dk_3 (dk_at dksX2_isDown_0 0 rfl rfl)
theorem dX2_isDown_1 : decode cX2_isDown 1 = .ok (.istore_n 2, 1) := dk_61 (dk_at dksX2_isDown_0 1 rfl rfl)
theorem dX2_isDown_2 : decode cX2_isDown 2 = .ok (.iload_n 2, 1) := dk_28 (dk_at dksX2_isDown_0 2 rfl rfl)
theorem dX2_isDown_3 : decode cX2_isDown 3 = .ok (.aload_n 0, 1) := dk_42 (dk_at dksX2_isDown_0 3 rfl rfl)
theorem dX2_isDown_4 : decode cX2_isDown 4 = .ok (.getfield 45, 3) := dk_180 0 45 (dk_at dksX2_isDown_0 4 rfl rfl)
theorem dX2_isDown_7 : decode cX2_isDown 7 = .ok (.if_icmp .ge 24, 3) := dk_162 0 24 (dk_at dksX2_isDown_0 7 rfl rfl)
theorem dX2_isDown_10 : decode cX2_isDown 10 = .ok (.aload_n 1, 1) := dk_43 (dk_at dksX2_isDown_0 10 rfl rfl)
theorem dX2_isDown_11 : decode cX2_isDown 11 = .ok (.getfield 71, 3) := dk_180 0 71 (dk_at dksX2_isDown_0 11 rfl rfl)
theorem dX2_isDown_14 : decode cX2_isDown 14 = .ok (.iload_n 2, 1) := dk_28 (dk_at dksX2_isDown_0 14 rfl rfl)
theorem dX2_isDown_15 : decode cX2_isDown 15 = .ok (.iaload, 1) := dk_46 (dk_at dksX2_isDown_0 15 rfl rfl)
theorem dX2_isDown_16 : decode cX2_isDown 16 = .ok (.aload_n 0, 1) := dk_42 (dk_at dksX2_isDown_0 16 rfl rfl)
theorem dX2_isDown_17 : decode cX2_isDown 17 = .ok (.invokevirtual 74, 3) := dk_182 0 74 (dk_at dksX2_isDown_0 17 rfl rfl)
theorem dX2_isDown_20 : decode cX2_isDown 20 = .ok (.if_icmp .eq 5, 3) := dk_159 0 5 (dk_at dksX2_isDown_0 20 rfl rfl)
theorem dX2_isDown_23 : decode cX2_isDown 23 = .ok (.iconst 0, 1) := dk_3 (dk_at dksX2_isDown_0 23 rfl rfl)
theorem dX2_isDown_24 : decode cX2_isDown 24 = .ok (.ireturn, 1) := dk_172 (dk_at dksX2_isDown_1 0 rfl rfl)
theorem dX2_isDown_25 : decode cX2_isDown 25 = .ok (.iinc 2 1, 3) := dk_132 2 1 (dk_at dksX2_isDown_1 1 rfl rfl)
theorem dX2_isDown_28 : decode cX2_isDown 28 = .ok (.goto (-26), 3) := dk_167 255 230 (dk_at dksX2_isDown_1 4 rfl rfl)
theorem dX2_isDown_31 : decode cX2_isDown 31 = .ok (.iconst 1, 1) := dk_4 (dk_at dksX2_isDown_1 7 rfl rfl)
theorem dX2_isDown_32 : decode cX2_isDown 32 = .ok (.ireturn, 1) := dk_172 (dk_at dksX2_isDown_1 8 rfl rfl)
abbrev cX2_init : ByteArray := prog_5_method_1_code
def yX2_init : MethodName := ⟨RX2, "<init>", "()V"⟩
def dkwX2_init_2 : List UInt8 := [42, 17, 0, 180, 181, 0, 31, 42, 187, 0, 35, 89, 183, 0, 37, 181, 0, 38, 177]
abbrev dktX2_init_2 : List UInt8 := dkwX2_init_2 ++ []
def dkwX2_init_1 : List UInt8 := [181, 0, 18, 42, 8, 188, 4, 181, 0, 21, 42, 6, 188, 10, 181, 0, 25, 42, 5, 188, 10, 181, 0, 28]
abbrev dktX2_init_1 : List UInt8 := dkwX2_init_1 ++ dktX2_init_2
def dkwX2_init_0 : List UInt8 := [42, 183, 0, 3, 42, 8, 188, 10, 181, 0, 9, 42, 8, 188, 10, 181, 0, 15, 42, 8, 188, 10]
abbrev dktX2_init_0 : List UInt8 := dkwX2_init_0 ++ dktX2_init_1
theorem dksX2_init_0 : cX2_init.data.toList.drop 0 = dktX2_init_0 := by decide +kernel
theorem dksX2_init_1 : cX2_init.data.toList.drop 22 = dktX2_init_1 := dk_seg dksX2_init_0 22 rfl rfl
theorem dksX2_init_2 : cX2_init.data.toList.drop 46 = dktX2_init_2 := dk_seg dksX2_init_1 24 rfl rfl
theorem dX2_init_0 : decode cX2_init 0 = .ok (.aload_n 0, 1) := dk_42 (dk_at dksX2_init_0 0 rfl rfl)
theorem dX2_init_1 : decode cX2_init 1 = .ok (.invokespecial 3, 3) := dk_183 0 3 (dk_at dksX2_init_0 1 rfl rfl)
theorem dX2_init_4 : decode cX2_init 4 = .ok (.aload_n 0, 1) := dk_42 (dk_at dksX2_init_0 4 rfl rfl)
theorem dX2_init_5 : decode cX2_init 5 = .ok (.iconst 5, 1) := dk_8 (dk_at dksX2_init_0 5 rfl rfl)
theorem dX2_init_6 : decode cX2_init 6 = .ok (.newarray .int, 2) := dk_188_10 (dk_at dksX2_init_0 6 rfl rfl)
theorem dX2_init_8 : decode cX2_init 8 = .ok (.putfield 9, 3) := dk_181 0 9 (dk_at dksX2_init_0 8 rfl rfl)
theorem dX2_init_11 : decode cX2_init 11 = .ok (.aload_n 0, 1) := dk_42 (dk_at dksX2_init_0 11 rfl rfl)
theorem dX2_init_12 : decode cX2_init 12 = .ok (.iconst 5, 1) := dk_8 (dk_at dksX2_init_0 12 rfl rfl)
theorem dX2_init_13 : decode cX2_init 13 = .ok (.newarray .int, 2) := dk_188_10 (dk_at dksX2_init_0 13 rfl rfl)
theorem dX2_init_15 : decode cX2_init 15 = .ok (.putfield 15, 3) := dk_181 0 15 (dk_at dksX2_init_0 15 rfl rfl)
theorem dX2_init_18 : decode cX2_init 18 = .ok (.aload_n 0, 1) := dk_42 (dk_at dksX2_init_0 18 rfl rfl)
theorem dX2_init_19 : decode cX2_init 19 = .ok (.iconst 5, 1) := dk_8 (dk_at dksX2_init_0 19 rfl rfl)
theorem dX2_init_20 : decode cX2_init 20 = .ok (.newarray .int, 2) := dk_188_10 (dk_at dksX2_init_0 20 rfl rfl)
theorem dX2_init_22 : decode cX2_init 22 = .ok (.putfield 18, 3) := dk_181 0 18 (dk_at dksX2_init_1 0 rfl rfl)
theorem dX2_init_25 : decode cX2_init 25 = .ok (.aload_n 0, 1) := dk_42 (dk_at dksX2_init_1 3 rfl rfl)
theorem dX2_init_26 : decode cX2_init 26 = .ok (.iconst 5, 1) := dk_8 (dk_at dksX2_init_1 4 rfl rfl)
theorem dX2_init_27 : decode cX2_init 27 = .ok (.newarray .boolean, 2) := dk_188_4 (dk_at dksX2_init_1 5 rfl rfl)
theorem dX2_init_29 : decode cX2_init 29 = .ok (.putfield 21, 3) := dk_181 0 21 (dk_at dksX2_init_1 7 rfl rfl)
theorem dX2_init_32 : decode cX2_init 32 = .ok (.aload_n 0, 1) := dk_42 (dk_at dksX2_init_1 10 rfl rfl)
theorem dX2_init_33 : decode cX2_init 33 = .ok (.iconst 3, 1) := dk_6 (dk_at dksX2_init_1 11 rfl rfl)
theorem dX2_init_34 : decode cX2_init 34 = .ok (.newarray .int, 2) := dk_188_10 (dk_at dksX2_init_1 12 rfl rfl)
theorem dX2_init_36 : decode cX2_init 36 = .ok (.putfield 25, 3) := dk_181 0 25 (dk_at dksX2_init_1 14 rfl rfl)
theorem dX2_init_39 : decode cX2_init 39 = .ok (.aload_n 0, 1) := dk_42 (dk_at dksX2_init_1 17 rfl rfl)
theorem dX2_init_40 : decode cX2_init 40 = .ok (.iconst 2, 1) := dk_5 (dk_at dksX2_init_1 18 rfl rfl)
theorem dX2_init_41 : decode cX2_init 41 = .ok (.newarray .int, 2) := dk_188_10 (dk_at dksX2_init_1 19 rfl rfl)
theorem dX2_init_43 : decode cX2_init 43 = .ok (.putfield 28, 3) := dk_181 0 28 (dk_at dksX2_init_1 21 rfl rfl)
theorem dX2_init_46 : decode cX2_init 46 = .ok (.aload_n 0, 1) := dk_42 (dk_at dksX2_init_2 0 rfl rfl)
theorem dX2_init_47 : decode cX2_init 47 = .ok (.sipush 180, 3) := dk_17 0 180 (dk_at dksX2_init_2 1 rfl rfl)
theorem dX2_init_50 : decode cX2_init 50 = .ok (.putfield 31, 3) := dk_181 0 31 (dk_at dksX2_init_2 4 rfl rfl)
theorem dX2_init_53 : decode cX2_init 53 = .ok (.aload_n 0, 1) := dk_42 (dk_at dksX2_init_2 7 rfl rfl)
theorem dX2_init_54 : decode cX2_init 54 = .ok (.new 35, 3) := dk_187 0 35 (dk_at dksX2_init_2 8 rfl rfl)
theorem dX2_init_57 : decode cX2_init 57 = .ok (.dup, 1) := dk_89 (dk_at dksX2_init_2 11 rfl rfl)
theorem dX2_init_58 : decode cX2_init 58 = .ok (.invokespecial 37, 3) := dk_183 0 37 (dk_at dksX2_init_2 12 rfl rfl)
theorem dX2_init_61 : decode cX2_init 61 = .ok (.putfield 38, 3) := dk_181 0 38 (dk_at dksX2_init_2 15 rfl rfl)
theorem dX2_init_64 : decode cX2_init 64 = .ok (.return_, 1) := dk_177 (dk_at dksX2_init_2 18 rfl rfl)
theorem q77 : (Jvm.Cond.initialized "DownRope$Face") ∈ lw_all := lw_g (lw_at lw_m1 2 rfl) rfl
theorem q127 : (Jvm.Cond.instanceMethod ({ cls := "DownRope$Face", name := "takes", desc := "(LDownRope$Face;)V" } : Jvm.MethodName)) ∈ lw_all := lw_g (lw_at lw_m1 52 rfl) rfl
theorem q128 : (Jvm.Cond.selects "DownRope$Face" ({ cls := "DownRope$Face", name := "takes", desc := "(LDownRope$Face;)V" } : Jvm.MethodName) ({ cls := "DownRope$Face", name := "takes", desc := "(LDownRope$Face;)V" } : Jvm.MethodName)) ∈ lw_all := lw_g (lw_at lw_m1 53 rfl) rfl
theorem q129 : (Jvm.Cond.code ({ cls := "DownRope$Face", name := "takes", desc := "(LDownRope$Face;)V" } : Jvm.MethodName) prog_5_method_2_code (2 : Nat) (Option.none : Option Jvm.ClassFile.FieldType)) ∈ lw_all := lw_g (lw_at lw_m1 54 rfl) rfl
theorem q130 : (Jvm.Cond.methodLink "DownRope$Face" (57 : Nat) ({ cls := "java/lang/System", name := "arraycopy", desc := "(Ljava/lang/Object;ILjava/lang/Object;II)V" } : Jvm.MethodName)) ∈ lw_all := lw_g (lw_at lw_m1 55 rfl) rfl
theorem q133 : (Jvm.Cond.methodLink "DownRope$Face" (63 : Nat) ({ cls := "DownRope$Spot", name := "takes", desc := "(LDownRope$Spot;)V" } : Jvm.MethodName)) ∈ lw_all := lw_g (lw_at lw_m1 58 rfl) rfl
theorem q309 : (Jvm.Cond.instanceMethod ({ cls := "DownRope$Face", name := "isLedge", desc := "(I)Z" } : Jvm.MethodName)) ∈ lw_all := lw_g (lw_at lw_m1 234 rfl) rfl
theorem q310 : (Jvm.Cond.selects "DownRope$Face" ({ cls := "DownRope$Face", name := "isLedge", desc := "(I)Z" } : Jvm.MethodName) ({ cls := "DownRope$Face", name := "isLedge", desc := "(I)Z" } : Jvm.MethodName)) ∈ lw_all := lw_g (lw_at lw_m1 235 rfl) rfl
theorem q311 : (Jvm.Cond.code ({ cls := "DownRope$Face", name := "isLedge", desc := "(I)Z" } : Jvm.MethodName) prog_5_method_4_code (2 : Nat) (Option.some Jvm.ClassFile.FieldType.boolean)) ∈ lw_all := lw_g (lw_at lw_m1 236 rfl) rfl
theorem q330 : (Jvm.Cond.instanceMethod ({ cls := "DownRope$Face", name := "ground", desc := "()I" } : Jvm.MethodName)) ∈ lw_all := lw_g (lw_at lw_m2 15 rfl) rfl
theorem q331 : (Jvm.Cond.selects "DownRope$Face" ({ cls := "DownRope$Face", name := "ground", desc := "()I" } : Jvm.MethodName) ({ cls := "DownRope$Face", name := "ground", desc := "()I" } : Jvm.MethodName)) ∈ lw_all := lw_g (lw_at lw_m2 16 rfl) rfl
theorem q332 : (Jvm.Cond.code ({ cls := "DownRope$Face", name := "ground", desc := "()I" } : Jvm.MethodName) prog_5_method_3_code (1 : Nat) (Option.some Jvm.ClassFile.FieldType.int)) ∈ lw_all := lw_g (lw_at lw_m2 17 rfl) rfl
theorem q366 : (Jvm.Cond.instanceMethod ({ cls := "DownRope$Face", name := "far", desc := "(II)I" } : Jvm.MethodName)) ∈ lw_all := lw_g (lw_at lw_m2 51 rfl) rfl
theorem q367 : (Jvm.Cond.selects "DownRope$Face" ({ cls := "DownRope$Face", name := "far", desc := "(II)I" } : Jvm.MethodName) ({ cls := "DownRope$Face", name := "far", desc := "(II)I" } : Jvm.MethodName)) ∈ lw_all := lw_g (lw_at lw_m2 52 rfl) rfl
theorem q368 : (Jvm.Cond.code ({ cls := "DownRope$Face", name := "far", desc := "(II)I" } : Jvm.MethodName) prog_5_method_5_code (5 : Nat) (Option.some Jvm.ClassFile.FieldType.int)) ∈ lw_all := lw_g (lw_at lw_m2 53 rfl) rfl
theorem q369 : (Jvm.Cond.methodLink "DownRope$Face" (67 : Nat) ({ cls := "DownRope$Face", name := "isLedge", desc := "(I)Z" } : Jvm.MethodName)) ∈ lw_all := lw_g (lw_at lw_m2 54 rfl) rfl
theorem q596 : (Jvm.Cond.instanceMethod ({ cls := "DownRope$Face", name := "isDown", desc := "(LDownRope$Spot;)Z" } : Jvm.MethodName)) ∈ lw_all := lw_g (lw_at lw_m3 41 rfl) rfl
theorem q597 : (Jvm.Cond.selects "DownRope$Face" ({ cls := "DownRope$Face", name := "isDown", desc := "(LDownRope$Spot;)Z" } : Jvm.MethodName) ({ cls := "DownRope$Face", name := "isDown", desc := "(LDownRope$Spot;)Z" } : Jvm.MethodName)) ∈ lw_all := lw_g (lw_at lw_m3 42 rfl) rfl
theorem q598 : (Jvm.Cond.code ({ cls := "DownRope$Face", name := "isDown", desc := "(LDownRope$Spot;)Z" } : Jvm.MethodName) prog_5_method_6_code (3 : Nat) (Option.some Jvm.ClassFile.FieldType.boolean)) ∈ lw_all := lw_g (lw_at lw_m3 43 rfl) rfl
theorem q599 : (Jvm.Cond.methodLink "DownRope$Face" (74 : Nat) ({ cls := "DownRope$Face", name := "ground", desc := "()I" } : Jvm.MethodName)) ∈ lw_all := lw_g (lw_at lw_m3 44 rfl) rfl
theorem q656 : (Jvm.Cond.fieldLink "DownRope$Face" (71 : Nat) "DownRope$Spot" "at" "[I") ∈ lw_all := lw_g (lw_at lw_m3 101 rfl) rfl
theorem q764 : (Jvm.Cond.instantiable "DownRope$Face" (13 : Nat)) ∈ lw_all := lw_g (lw_at lw_m3 209 rfl) rfl
theorem q766 : (Jvm.Cond.instanceMethod ({ cls := "DownRope$Face", name := "<init>", desc := "()V" } : Jvm.MethodName)) ∈ lw_all := lw_g (lw_at lw_m3 211 rfl) rfl
theorem q767 : (Jvm.Cond.code ({ cls := "DownRope$Face", name := "<init>", desc := "()V" } : Jvm.MethodName) prog_5_method_1_code (1 : Nat) (Option.none : Option Jvm.ClassFile.FieldType)) ∈ lw_all := lw_g (lw_at lw_m3 212 rfl) rfl
theorem q768 : (Jvm.Cond.methodLink "DownRope$Face" (3 : Nat) ({ cls := "java/lang/Object", name := "<init>", desc := "()V" } : Jvm.MethodName)) ∈ lw_all := lw_g (lw_at lw_m3 213 rfl) rfl
theorem q769 : (Jvm.Cond.classLink "DownRope$Face" (35 : Nat) "DownRope$Spot") ∈ lw_all := lw_g (lw_at lw_m3 214 rfl) rfl
theorem q770 : (Jvm.Cond.methodLinkNest "DownRope$Face" (37 : Nat) ({ cls := "DownRope$Spot", name := "<init>", desc := "()V" } : Jvm.MethodName) "DownRope") ∈ lw_tbl := lw_at lw_m3 215 rfl
theorem q771 : (Jvm.Cond.fieldLink "DownRope$Face" (9 : Nat) "DownRope$Face" "room" "[I") ∈ lw_all := lw_g (lw_at lw_m3 216 rfl) rfl
theorem q774 : (Jvm.Cond.fieldLink "DownRope$Face" (15 : Nat) "DownRope$Face" "holds" "[I") ∈ lw_all := lw_g (lw_at lw_m3 219 rfl) rfl
theorem q778 : (Jvm.Cond.fieldLink "DownRope$Face" (18 : Nat) "DownRope$Face" "feet" "[I") ∈ lw_all := lw_g (lw_at lw_m3 223 rfl) rfl
theorem q781 : (Jvm.Cond.fieldLink "DownRope$Face" (21 : Nat) "DownRope$Face" "isClimbable" "[Z") ∈ lw_all := lw_g (lw_at lw_m3 226 rfl) rfl
theorem q784 : (Jvm.Cond.fieldLink "DownRope$Face" (42 : Nat) "DownRope$Face" "ledges" "I") ∈ lw_all := lw_g (lw_at lw_m3 229 rfl) rfl
theorem q786 : (Jvm.Cond.fieldLink "DownRope$Face" (25 : Nat) "DownRope$Face" "sort" "[I") ∈ lw_all := lw_g (lw_at lw_m3 231 rfl) rfl
theorem q791 : (Jvm.Cond.fieldLink "DownRope$Face" (45 : Nat) "DownRope$Face" "people" "I") ∈ lw_all := lw_g (lw_at lw_m3 236 rfl) rfl
theorem q794 : (Jvm.Cond.fieldLink "DownRope$Face" (28 : Nat) "DownRope$Face" "length" "[I") ∈ lw_all := lw_g (lw_at lw_m3 239 rfl) rfl
theorem q800 : (Jvm.Cond.fieldLink "DownRope$Face" (48 : Nat) "DownRope$Face" "ropes" "I") ∈ lw_all := lw_g (lw_at lw_m4 5 rfl) rfl
theorem q803 : (Jvm.Cond.fieldLink "DownRope$Face" (51 : Nat) "DownRope$Face" "caught" "I") ∈ lw_all := lw_g (lw_at lw_m4 8 rfl) rfl
theorem q805 : (Jvm.Cond.fieldLink "DownRope$Face" (31 : Nat) "DownRope$Face" "dusk" "I") ∈ lw_all := lw_g (lw_at lw_m4 10 rfl) rfl
theorem q807 : (Jvm.Cond.fieldLink "DownRope$Face" (54 : Nat) "DownRope$Face" "minutes" "I") ∈ lw_all := lw_g (lw_at lw_m4 12 rfl) rfl
theorem q809 : (Jvm.Cond.fieldLink "DownRope$Face" (38 : Nat) "DownRope$Face" "spot" "LDownRope$Spot;") ∈ lw_all := lw_g (lw_at lw_m4 14 rfl) rfl
theorem q811 : (Jvm.Cond.laysFinal "DownRope$Face" "DownRope$Face" "room" "[I") ∈ lw_all := lw_g (lw_at lw_m4 16 rfl) rfl
theorem q812 : (Jvm.Cond.soleField "DownRope$Face" "room") ∈ lw_all := lw_g (lw_at lw_m4 17 rfl) rfl
theorem q813 : (Jvm.Cond.laysFinal "DownRope$Face" "DownRope$Face" "holds" "[I") ∈ lw_all := lw_g (lw_at lw_m4 18 rfl) rfl
theorem q814 : (Jvm.Cond.soleField "DownRope$Face" "holds") ∈ lw_all := lw_g (lw_at lw_m4 19 rfl) rfl
theorem q815 : (Jvm.Cond.laysFinal "DownRope$Face" "DownRope$Face" "feet" "[I") ∈ lw_all := lw_g (lw_at lw_m4 20 rfl) rfl
theorem q816 : (Jvm.Cond.soleField "DownRope$Face" "feet") ∈ lw_all := lw_g (lw_at lw_m4 21 rfl) rfl
theorem q817 : (Jvm.Cond.laysFinal "DownRope$Face" "DownRope$Face" "isClimbable" "[Z") ∈ lw_all := lw_g (lw_at lw_m4 22 rfl) rfl
theorem q818 : (Jvm.Cond.soleField "DownRope$Face" "isClimbable") ∈ lw_all := lw_g (lw_at lw_m4 23 rfl) rfl
theorem q819 : (Jvm.Cond.lays "DownRope$Face" "DownRope$Face" "ledges" "I") ∈ lw_all := lw_g (lw_at lw_m4 24 rfl) rfl
theorem q820 : (Jvm.Cond.soleField "DownRope$Face" "ledges") ∈ lw_all := lw_g (lw_at lw_m4 25 rfl) rfl
theorem q821 : (Jvm.Cond.laysFinal "DownRope$Face" "DownRope$Face" "sort" "[I") ∈ lw_all := lw_g (lw_at lw_m4 26 rfl) rfl
theorem q822 : (Jvm.Cond.soleField "DownRope$Face" "sort") ∈ lw_all := lw_g (lw_at lw_m4 27 rfl) rfl
theorem q823 : (Jvm.Cond.lays "DownRope$Face" "DownRope$Face" "people" "I") ∈ lw_all := lw_g (lw_at lw_m4 28 rfl) rfl
theorem q824 : (Jvm.Cond.soleField "DownRope$Face" "people") ∈ lw_all := lw_g (lw_at lw_m4 29 rfl) rfl
theorem q825 : (Jvm.Cond.laysFinal "DownRope$Face" "DownRope$Face" "length" "[I") ∈ lw_all := lw_g (lw_at lw_m4 30 rfl) rfl
theorem q826 : (Jvm.Cond.soleField "DownRope$Face" "length") ∈ lw_all := lw_g (lw_at lw_m4 31 rfl) rfl
theorem q827 : (Jvm.Cond.lays "DownRope$Face" "DownRope$Face" "ropes" "I") ∈ lw_all := lw_g (lw_at lw_m4 32 rfl) rfl
theorem q828 : (Jvm.Cond.soleField "DownRope$Face" "ropes") ∈ lw_all := lw_g (lw_at lw_m4 33 rfl) rfl
theorem q829 : (Jvm.Cond.lays "DownRope$Face" "DownRope$Face" "caught" "I") ∈ lw_all := lw_g (lw_at lw_m4 34 rfl) rfl
theorem q830 : (Jvm.Cond.soleField "DownRope$Face" "caught") ∈ lw_all := lw_g (lw_at lw_m4 35 rfl) rfl
theorem q831 : (Jvm.Cond.lays "DownRope$Face" "DownRope$Face" "dusk" "I") ∈ lw_all := lw_g (lw_at lw_m4 36 rfl) rfl
theorem q832 : (Jvm.Cond.soleField "DownRope$Face" "dusk") ∈ lw_all := lw_g (lw_at lw_m4 37 rfl) rfl
theorem q833 : (Jvm.Cond.lays "DownRope$Face" "DownRope$Face" "minutes" "I") ∈ lw_all := lw_g (lw_at lw_m4 38 rfl) rfl
theorem q834 : (Jvm.Cond.soleField "DownRope$Face" "minutes") ∈ lw_all := lw_g (lw_at lw_m4 39 rfl) rfl
theorem q835 : (Jvm.Cond.laysFinal "DownRope$Face" "DownRope$Face" "spot" "LDownRope$Spot;") ∈ lw_all := lw_g (lw_at lw_m4 40 rfl) rfl
theorem q836 : (Jvm.Cond.soleField "DownRope$Face" "spot") ∈ lw_all := lw_g (lw_at lw_m4 41 rfl) rfl
theorem q837 : (Jvm.Cond.superclass "DownRope$Face" "java/lang/Object") ∈ lw_all := lw_g (lw_at lw_m4 42 rfl) rfl
theorem in_X2 : ∀ w ∈ wsX20, w ∈ lw_all := lw_in wsX20 [811, 813, 815, 817, 819, 821, 823, 825, 827, 829, 831, 833, 835] (by decide +kernel) (by decide +kernel)
/-! DownRope$Shelf -/
set_option maxRecDepth 100000
def RX4 : String := "DownRope$Shelf"
def TX4 : u_T := fun k => match k with
  | _ => ("DownRope$Shelf", "held", "Ljava/lang/Object;", false)
def tyX4 : Nat → FieldType := fun k => match k with
  | _ => .object "java/lang/Object"
abbrev wsX40 : List Cond := u_ws RX4 TX4 1
theorem nmX4 : ∀ a, a < 1 → ∀ b, b < 1 → a ≠ b → (TX4 a).2.1 ≠ (TX4 b).2.1 := by decide +kernel
theorem tyX4_ok : ∀ k, k < 1 → parseFieldDescriptor (TX4 k).2.2.1 = some (tyX4 k) := by decide +kernel
abbrev cX4_init : ByteArray := prog_12_method_1_code
def yX4_init : MethodName := ⟨RX4, "<init>", "()V"⟩
theorem dX4_init_0 : decode cX4_init 0 = .ok (.aload_n 0, 1) := by decide +kernel
theorem dX4_init_1 : decode cX4_init 1 = .ok (.invokespecial 1, 3) := by decide +kernel
theorem dX4_init_4 : decode cX4_init 4 = .ok (.return_, 1) := by decide +kernel
theorem q79 : (Jvm.Cond.initialized "DownRope$Shelf") ∈ lw_all := lw_g (lw_at lw_m1 4 rfl) rfl
theorem q842 : (Jvm.Cond.instantiable "DownRope$Shelf" (1 : Nat)) ∈ lw_all := lw_g (lw_at lw_m4 47 rfl) rfl
theorem q844 : (Jvm.Cond.instanceMethod ({ cls := "DownRope$Shelf", name := "<init>", desc := "()V" } : Jvm.MethodName)) ∈ lw_all := lw_g (lw_at lw_m4 49 rfl) rfl
theorem q845 : (Jvm.Cond.code ({ cls := "DownRope$Shelf", name := "<init>", desc := "()V" } : Jvm.MethodName) prog_12_method_1_code (1 : Nat) (Option.none : Option Jvm.ClassFile.FieldType)) ∈ lw_all := lw_g (lw_at lw_m4 50 rfl) rfl
theorem q846 : (Jvm.Cond.methodLink "DownRope$Shelf" (1 : Nat) ({ cls := "java/lang/Object", name := "<init>", desc := "()V" } : Jvm.MethodName)) ∈ lw_all := lw_g (lw_at lw_m4 51 rfl) rfl
theorem q848 : (Jvm.Cond.lays "DownRope$Shelf" "DownRope$Shelf" "held" "Ljava/lang/Object;") ∈ lw_all := lw_g (lw_at lw_m4 53 rfl) rfl
theorem q849 : (Jvm.Cond.soleField "DownRope$Shelf" "held") ∈ lw_all := lw_g (lw_at lw_m4 54 rfl) rfl
theorem q850 : (Jvm.Cond.superclass "DownRope$Shelf" "java/lang/Object") ∈ lw_all := lw_g (lw_at lw_m4 55 rfl) rfl
theorem in_X4 : ∀ w ∈ wsX40, w ∈ lw_all := lw_in wsX40 [848] (by decide +kernel) (by decide +kernel)
/-! DownRope$Move -/
set_option maxRecDepth 100000
def RX5 : String := "DownRope$Move"
def TX5 : u_T := fun k => match k with
  | 0 => ("DownRope$Move", "set", "I", false)
  | 1 => ("DownRope$Move", "rope", "I", false)
  | 2 => ("DownRope$Move", "from", "I", false)
  | _ => ("DownRope$Move", "to", "I", false)
def tyX5 : Nat → FieldType := fun k => match k with
  | 0 => .int
  | 1 => .int
  | 2 => .int
  | _ => .int
abbrev wsX50 : List Cond := u_ws RX5 TX5 4
theorem nmX5 : ∀ a, a < 4 → ∀ b, b < 4 → a ≠ b → (TX5 a).2.1 ≠ (TX5 b).2.1 := by decide +kernel
theorem tyX5_ok : ∀ k, k < 4 → parseFieldDescriptor (TX5 k).2.2.1 = some (tyX5 k) := by decide +kernel
abbrev cX5_tells : ByteArray := prog_10_method_3_code
def yX5_tells : MethodName := ⟨RX5, "tells", "(IIII)LDownRope$Move;"⟩
def dkwX5_tells_0 : List UInt8 := [42, 27, 181, 0, 9, 42, 28, 181, 0, 15, 42, 29, 181, 0, 18, 42, 21, 4, 181, 0, 21, 42, 176]
abbrev dktX5_tells_0 : List UInt8 := dkwX5_tells_0 ++ []
theorem dksX5_tells_0 : cX5_tells.data.toList.drop 0 = dktX5_tells_0 := by decide +kernel
theorem dX5_tells_0 : decode cX5_tells 0 = .ok (.aload_n 0, 1) := dk_42 (dk_at dksX5_tells_0 0 rfl rfl)
theorem dX5_tells_1 : decode cX5_tells 1 = .ok (.iload_n 1, 1) := dk_27 (dk_at dksX5_tells_0 1 rfl rfl)
theorem dX5_tells_2 : decode cX5_tells 2 = .ok (.putfield 9, 3) := dk_181 0 9 (dk_at dksX5_tells_0 2 rfl rfl)
theorem dX5_tells_5 : decode cX5_tells 5 = .ok (.aload_n 0, 1) := dk_42 (dk_at dksX5_tells_0 5 rfl rfl)
theorem dX5_tells_6 : decode cX5_tells 6 = .ok (.iload_n 2, 1) := dk_28 (dk_at dksX5_tells_0 6 rfl rfl)
theorem dX5_tells_7 : decode cX5_tells 7 = .ok (.putfield 15, 3) := dk_181 0 15 (dk_at dksX5_tells_0 7 rfl rfl)
theorem dX5_tells_10 : decode cX5_tells 10 = .ok (.aload_n 0, 1) := dk_42 (dk_at dksX5_tells_0 10 rfl rfl)
theorem dX5_tells_11 : decode cX5_tells 11 = .ok (.iload_n 3, 1) := dk_29 (dk_at dksX5_tells_0 11 rfl rfl)
theorem dX5_tells_12 : decode cX5_tells 12 = .ok (.putfield 18, 3) := dk_181 0 18 (dk_at dksX5_tells_0 12 rfl rfl)
theorem dX5_tells_15 : decode cX5_tells 15 = .ok (.aload_n 0, 1) := dk_42 (dk_at dksX5_tells_0 15 rfl rfl)
theorem dX5_tells_16 : decode cX5_tells 16 = .ok (.iload 4, 2) := dk_21 4 (dk_at dksX5_tells_0 16 rfl rfl)
theorem dX5_tells_18 : decode cX5_tells 18 = .ok (.putfield 21, 3) := dk_181 0 21 (dk_at dksX5_tells_0 18 rfl rfl)
theorem dX5_tells_21 : decode cX5_tells 21 = .ok (.aload_n 0, 1) := dk_42 (dk_at dksX5_tells_0 21 rfl rfl)
theorem dX5_tells_22 : decode cX5_tells 22 = .ok (.areturn, 1) := dk_176 (dk_at dksX5_tells_0 22 rfl rfl)
abbrev cX5_canGo : ByteArray := prog_10_method_5_code
def yX5_canGo : MethodName := ⟨RX5, "canGo", "(LDownRope$Face;LDownRope$Spot;Z)Z"⟩
def dkwX5_canGo_7 : List UInt8 := [180, 0, 49, 42, 180, 0, 21, 46, 163, 0, 7, 4, 167, 0, 4, 3, 172]
abbrev dktX5_canGo_7 : List UInt8 := dkwX5_canGo_7 ++ []
def dkwX5_canGo_6 : List UInt8 := [3, 96, 54, 4, 132, 5, 1, 167, 255, 144, 42, 180, 0, 21, 43, 182, 0, 46, 159, 0, 17, 21, 4, 43]
abbrev dktX5_canGo_6 : List UInt8 := dkwX5_canGo_6 ++ dktX5_canGo_7
def dkwX5_canGo_5 : List UInt8 := [180, 0, 34, 162, 0, 21, 44, 180, 0, 37, 21, 5, 46, 42, 180, 0, 21, 160, 0, 7, 4, 167, 0, 4]
abbrev dktX5_canGo_5 : List UInt8 := dkwX5_canGo_5 ++ dktX5_canGo_6
def dkwX5_canGo_4 : List UInt8 := [43, 180, 0, 43, 21, 5, 46, 5, 160, 0, 5, 3, 172, 21, 4, 21, 6, 154, 0, 26, 21, 5, 43]
abbrev dktX5_canGo_4 : List UInt8 := dkwX5_canGo_4 ++ dktX5_canGo_5
def dkwX5_canGo_3 : List UInt8 := [180, 0, 34, 162, 0, 32, 44, 180, 0, 37, 21, 5, 46, 42, 180, 0, 18, 160, 0, 18, 29, 153, 0, 16]
abbrev dktX5_canGo_3 : List UInt8 := dkwX5_canGo_3 ++ dktX5_canGo_4
def dkwX5_canGo_2 : List UInt8 := [21, 5, 122, 4, 126, 4, 160, 0, 7, 4, 167, 0, 4, 3, 54, 6, 21, 6, 153, 0, 43, 21, 5, 43]
abbrev dktX5_canGo_2 : List UInt8 := dkwX5_canGo_2 ++ dktX5_canGo_3
def dkwX5_canGo_1 : List UInt8 := [180, 0, 18, 160, 0, 5, 3, 172, 3, 54, 4, 3, 54, 5, 21, 5, 6, 162, 0, 112, 42, 180, 0, 9]
abbrev dktX5_canGo_1 : List UInt8 := dkwX5_canGo_1 ++ dktX5_canGo_2
def dkwX5_canGo_0 : List UInt8 := [42, 180, 0, 9, 153, 0, 25, 43, 42, 180, 0, 21, 182, 0, 28, 153, 0, 14, 42, 180, 0, 21, 42]
abbrev dktX5_canGo_0 : List UInt8 := dkwX5_canGo_0 ++ dktX5_canGo_1
theorem dksX5_canGo_0 : cX5_canGo.data.toList.drop 0 = dktX5_canGo_0 := by decide +kernel
theorem dksX5_canGo_1 : cX5_canGo.data.toList.drop 23 = dktX5_canGo_1 := dk_seg dksX5_canGo_0 23 rfl rfl
theorem dksX5_canGo_2 : cX5_canGo.data.toList.drop 47 = dktX5_canGo_2 := dk_seg dksX5_canGo_1 24 rfl rfl
theorem dksX5_canGo_3 : cX5_canGo.data.toList.drop 71 = dktX5_canGo_3 := dk_seg dksX5_canGo_2 24 rfl rfl
theorem dksX5_canGo_4 : cX5_canGo.data.toList.drop 95 = dktX5_canGo_4 := dk_seg dksX5_canGo_3 24 rfl rfl
theorem dksX5_canGo_5 : cX5_canGo.data.toList.drop 118 = dktX5_canGo_5 := dk_seg dksX5_canGo_4 23 rfl rfl
theorem dksX5_canGo_6 : cX5_canGo.data.toList.drop 142 = dktX5_canGo_6 := dk_seg dksX5_canGo_5 24 rfl rfl
theorem dksX5_canGo_7 : cX5_canGo.data.toList.drop 166 = dktX5_canGo_7 := dk_seg dksX5_canGo_6 24 rfl rfl
theorem dX5_canGo_0 : decode cX5_canGo 0 = .ok (.aload_n 0, 1) := dk_42 (dk_at dksX5_canGo_0 0 rfl rfl)
theorem dX5_canGo_1 : decode cX5_canGo 1 = .ok (.getfield 9, 3) := dk_180 0 9 (dk_at dksX5_canGo_0 1 rfl rfl)
theorem dX5_canGo_4 : decode cX5_canGo 4 = .ok (.ifCond .eq 25, 3) := dk_153 0 25 (dk_at dksX5_canGo_0 4 rfl rfl)
theorem dX5_canGo_7 : decode cX5_canGo 7 = .ok (.aload_n 1, 1) := dk_43 (dk_at dksX5_canGo_0 7 rfl rfl)
theorem dX5_canGo_8 : decode cX5_canGo 8 = .ok (.aload_n 0, 1) := dk_42 (dk_at dksX5_canGo_0 8 rfl rfl)
theorem dX5_canGo_9 : decode cX5_canGo 9 = .ok (.getfield 21, 3) := dk_180 0 21 (dk_at dksX5_canGo_0 9 rfl rfl)
theorem dX5_canGo_12 : decode cX5_canGo 12 = .ok (.invokevirtual 28, 3) := dk_182 0 28 (dk_at dksX5_canGo_0 12 rfl rfl)
theorem dX5_canGo_15 : decode cX5_canGo 15 = .ok (.ifCond .eq 14, 3) := dk_153 0 14 (dk_at dksX5_canGo_0 15 rfl rfl)
theorem dX5_canGo_18 : decode cX5_canGo 18 = .ok (.aload_n 0, 1) := dk_42 (dk_at dksX5_canGo_0 18 rfl rfl)
theorem dX5_canGo_19 : decode cX5_canGo 19 = .ok (.getfield 21, 3) := dk_180 0 21 (dk_at dksX5_canGo_0 19 rfl rfl)
theorem dX5_canGo_22 : decode cX5_canGo 22 = .ok (.aload_n 0, 1) := dk_42 (dk_at dksX5_canGo_0 22 rfl rfl)
theorem dX5_canGo_23 : decode cX5_canGo 23 = .ok (.getfield 18, 3) := dk_180 0 18 (dk_at dksX5_canGo_1 0 rfl rfl)
theorem dX5_canGo_26 : decode cX5_canGo 26 = .ok (.if_icmp .ne 5, 3) := dk_160 0 5 (dk_at dksX5_canGo_1 3 rfl rfl)
theorem dX5_canGo_29 : decode cX5_canGo 29 = .ok (.iconst 0, 1) := dk_3 (dk_at dksX5_canGo_1 6 rfl rfl)
theorem dX5_canGo_30 : decode cX5_canGo 30 = .ok (.ireturn, 1) := dk_172 (dk_at dksX5_canGo_1 7 rfl rfl)
theorem dX5_canGo_31 : decode cX5_canGo 31 = .ok (.iconst 0, 1) := dk_3 (dk_at dksX5_canGo_1 8 rfl rfl)
theorem dX5_canGo_32 : decode cX5_canGo 32 = .ok (.istore 4, 2) := dk_54 4 (dk_at dksX5_canGo_1 9 rfl rfl)
theorem dX5_canGo_34 : decode cX5_canGo 34 = .ok (.iconst 0, 1) := dk_3 (dk_at dksX5_canGo_1 11 rfl rfl)
theorem dX5_canGo_35 : decode cX5_canGo 35 = .ok (.istore 5, 2) := dk_54 5 (dk_at dksX5_canGo_1 12 rfl rfl)
theorem dX5_canGo_37 : decode cX5_canGo 37 = .ok (.iload 5, 2) := dk_21 5 (dk_at dksX5_canGo_1 14 rfl rfl)
theorem dX5_canGo_39 : decode cX5_canGo 39 = .ok (.iconst 3, 1) := dk_6 (dk_at dksX5_canGo_1 16 rfl rfl)
theorem dX5_canGo_40 : decode cX5_canGo 40 = .ok (.if_icmp .ge 112, 3) := dk_162 0 112 (dk_at dksX5_canGo_1 17 rfl rfl)
theorem dX5_canGo_43 : decode cX5_canGo 43 = .ok (.aload_n 0, 1) := dk_42 (dk_at dksX5_canGo_1 20 rfl rfl)
theorem dX5_canGo_44 : decode cX5_canGo 44 = .ok (.getfield 9, 3) := dk_180 0 9 (dk_at dksX5_canGo_1 21 rfl rfl)
theorem dX5_canGo_47 : decode cX5_canGo 47 = .ok (.iload 5, 2) := dk_21 5 (dk_at dksX5_canGo_2 0 rfl rfl)
theorem dX5_canGo_49 : decode cX5_canGo 49 = .ok (.ishr, 1) := dk_122 (dk_at dksX5_canGo_2 2 rfl rfl)
theorem dX5_canGo_50 : decode cX5_canGo 50 = .ok (.iconst 1, 1) := dk_4 (dk_at dksX5_canGo_2 3 rfl rfl)
theorem dX5_canGo_51 : decode cX5_canGo 51 = .ok (.iand, 1) := dk_126 (dk_at dksX5_canGo_2 4 rfl rfl)
theorem dX5_canGo_52 : decode cX5_canGo 52 = .ok (.iconst 1, 1) := dk_4 (dk_at dksX5_canGo_2 5 rfl rfl)
theorem dX5_canGo_53 : decode cX5_canGo 53 = .ok (.if_icmp .ne 7, 3) := dk_160 0 7 (dk_at dksX5_canGo_2 6 rfl rfl)
theorem dX5_canGo_56 : decode cX5_canGo 56 = .ok (.iconst 1, 1) := dk_4 (dk_at dksX5_canGo_2 9 rfl rfl)
theorem dX5_canGo_57 : decode cX5_canGo 57 = .ok (.goto 4, 3) := dk_167 0 4 (dk_at dksX5_canGo_2 10 rfl rfl)
theorem dX5_canGo_60 : decode cX5_canGo 60 = .ok (.iconst 0, 1) := dk_3 (dk_at dksX5_canGo_2 13 rfl rfl)
theorem dX5_canGo_61 : decode cX5_canGo 61 = .ok (.istore 6, 2) := dk_54 6 (dk_at dksX5_canGo_2 14 rfl rfl)
theorem dX5_canGo_63 : decode cX5_canGo 63 = .ok (.iload 6, 2) := dk_21 6 (dk_at dksX5_canGo_2 16 rfl rfl)
theorem dX5_canGo_65 : decode cX5_canGo 65 = .ok (.ifCond .eq 43, 3) := dk_153 0 43 (dk_at dksX5_canGo_2 18 rfl rfl)
theorem dX5_canGo_68 : decode cX5_canGo 68 = .ok (.iload 5, 2) := dk_21 5 (dk_at dksX5_canGo_2 21 rfl rfl)
theorem dX5_canGo_70 : decode cX5_canGo 70 = .ok (.aload_n 1, 1) := dk_43 (dk_at dksX5_canGo_2 23 rfl rfl)
theorem dX5_canGo_71 : decode cX5_canGo 71 = .ok (.getfield 34, 3) := dk_180 0 34 (dk_at dksX5_canGo_3 0 rfl rfl)
theorem dX5_canGo_74 : decode cX5_canGo 74 = .ok (.if_icmp .ge 32, 3) := dk_162 0 32 (dk_at dksX5_canGo_3 3 rfl rfl)
theorem dX5_canGo_77 : decode cX5_canGo 77 = .ok (.aload_n 2, 1) := dk_44 (dk_at dksX5_canGo_3 6 rfl rfl)
theorem dX5_canGo_78 : decode cX5_canGo 78 = .ok (.getfield 37, 3) := dk_180 0 37 (dk_at dksX5_canGo_3 7 rfl rfl)
theorem dX5_canGo_81 : decode cX5_canGo 81 = .ok (.iload 5, 2) := dk_21 5 (dk_at dksX5_canGo_3 10 rfl rfl)
theorem dX5_canGo_83 : decode cX5_canGo 83 = .ok (.iaload, 1) := dk_46 (dk_at dksX5_canGo_3 12 rfl rfl)
theorem dX5_canGo_84 : decode cX5_canGo 84 = .ok (.aload_n 0, 1) := dk_42 (dk_at dksX5_canGo_3 13 rfl rfl)
theorem dX5_canGo_85 : decode cX5_canGo 85 = .ok (.getfield 18, 3) := dk_180 0 18 (dk_at dksX5_canGo_3 14 rfl rfl)
theorem dX5_canGo_88 : decode cX5_canGo 88 = .ok (.if_icmp .ne 18, 3) := dk_160 0 18 (dk_at dksX5_canGo_3 17 rfl rfl)
theorem dX5_canGo_91 : decode cX5_canGo 91 = .ok (.iload_n 3, 1) := dk_29 (dk_at dksX5_canGo_3 20 rfl rfl)
theorem dX5_canGo_92 : decode cX5_canGo 92 = .ok (.ifCond .eq 16, 3) := dk_153 0 16 (dk_at dksX5_canGo_3 21 rfl rfl)
theorem dX5_canGo_95 : decode cX5_canGo 95 = .ok (.aload_n 1, 1) := dk_43 (dk_at dksX5_canGo_4 0 rfl rfl)
theorem dX5_canGo_96 : decode cX5_canGo 96 = .ok (.getfield 43, 3) := dk_180 0 43 (dk_at dksX5_canGo_4 1 rfl rfl)
theorem dX5_canGo_99 : decode cX5_canGo 99 = .ok (.iload 5, 2) := dk_21 5 (dk_at dksX5_canGo_4 4 rfl rfl)
theorem dX5_canGo_101 : decode cX5_canGo 101 = .ok (.iaload, 1) := dk_46 (dk_at dksX5_canGo_4 6 rfl rfl)
theorem dX5_canGo_102 : decode cX5_canGo 102 = .ok (.iconst 2, 1) := dk_5 (dk_at dksX5_canGo_4 7 rfl rfl)
theorem dX5_canGo_103 : decode cX5_canGo 103 = .ok (.if_icmp .ne 5, 3) := dk_160 0 5 (dk_at dksX5_canGo_4 8 rfl rfl)
theorem dX5_canGo_106 : decode cX5_canGo 106 = .ok (.iconst 0, 1) := dk_3 (dk_at dksX5_canGo_4 11 rfl rfl)
theorem dX5_canGo_107 : decode cX5_canGo 107 = .ok (.ireturn, 1) := dk_172 (dk_at dksX5_canGo_4 12 rfl rfl)
theorem dX5_canGo_108 : decode cX5_canGo 108 = .ok (.iload 4, 2) := dk_21 4 (dk_at dksX5_canGo_4 13 rfl rfl)
theorem dX5_canGo_110 : decode cX5_canGo 110 = .ok (.iload 6, 2) := dk_21 6 (dk_at dksX5_canGo_4 15 rfl rfl)
theorem dX5_canGo_112 : decode cX5_canGo 112 = .ok (.ifCond .ne 26, 3) := dk_154 0 26 (dk_at dksX5_canGo_4 17 rfl rfl)
theorem dX5_canGo_115 : decode cX5_canGo 115 = .ok (.iload 5, 2) := dk_21 5 (dk_at dksX5_canGo_4 20 rfl rfl)
theorem dX5_canGo_117 : decode cX5_canGo 117 = .ok (.aload_n 1, 1) := dk_43 (dk_at dksX5_canGo_4 22 rfl rfl)
theorem dX5_canGo_118 : decode cX5_canGo 118 = .ok (.getfield 34, 3) := dk_180 0 34 (dk_at dksX5_canGo_5 0 rfl rfl)
theorem dX5_canGo_121 : decode cX5_canGo 121 = .ok (.if_icmp .ge 21, 3) := dk_162 0 21 (dk_at dksX5_canGo_5 3 rfl rfl)
theorem dX5_canGo_124 : decode cX5_canGo 124 = .ok (.aload_n 2, 1) := dk_44 (dk_at dksX5_canGo_5 6 rfl rfl)
theorem dX5_canGo_125 : decode cX5_canGo 125 = .ok (.getfield 37, 3) := dk_180 0 37 (dk_at dksX5_canGo_5 7 rfl rfl)
theorem dX5_canGo_128 : decode cX5_canGo 128 = .ok (.iload 5, 2) := dk_21 5 (dk_at dksX5_canGo_5 10 rfl rfl)
theorem dX5_canGo_130 : decode cX5_canGo 130 = .ok (.iaload, 1) := dk_46 (dk_at dksX5_canGo_5 12 rfl rfl)
theorem dX5_canGo_131 : decode cX5_canGo 131 = .ok (.aload_n 0, 1) := dk_42 (dk_at dksX5_canGo_5 13 rfl rfl)
theorem dX5_canGo_132 : decode cX5_canGo 132 = .ok (.getfield 21, 3) := dk_180 0 21 (dk_at dksX5_canGo_5 14 rfl rfl)
theorem dX5_canGo_135 : decode cX5_canGo 135 = .ok (.if_icmp .ne 7, 3) := dk_160 0 7 (dk_at dksX5_canGo_5 17 rfl rfl)
theorem dX5_canGo_138 : decode cX5_canGo 138 = .ok (.iconst 1, 1) := dk_4 (dk_at dksX5_canGo_5 20 rfl rfl)
theorem dX5_canGo_139 : decode cX5_canGo 139 = .ok (.goto 4, 3) := dk_167 0 4 (dk_at dksX5_canGo_5 21 rfl rfl)
theorem dX5_canGo_142 : decode cX5_canGo 142 = .ok (.iconst 0, 1) := dk_3 (dk_at dksX5_canGo_6 0 rfl rfl)
theorem dX5_canGo_143 : decode cX5_canGo 143 = .ok (.iadd, 1) := dk_96 (dk_at dksX5_canGo_6 1 rfl rfl)
theorem dX5_canGo_144 : decode cX5_canGo 144 = .ok (.istore 4, 2) := dk_54 4 (dk_at dksX5_canGo_6 2 rfl rfl)
theorem dX5_canGo_146 : decode cX5_canGo 146 = .ok (.iinc 5 1, 3) := dk_132 5 1 (dk_at dksX5_canGo_6 4 rfl rfl)
theorem dX5_canGo_149 : decode cX5_canGo 149 = .ok (.goto (-112), 3) := dk_167 255 144 (dk_at dksX5_canGo_6 7 rfl rfl)
theorem dX5_canGo_152 : decode cX5_canGo 152 = .ok (.aload_n 0, 1) := dk_42 (dk_at dksX5_canGo_6 10 rfl rfl)
theorem dX5_canGo_153 : decode cX5_canGo 153 = .ok (.getfield 21, 3) := dk_180 0 21 (dk_at dksX5_canGo_6 11 rfl rfl)
theorem dX5_canGo_156 : decode cX5_canGo 156 = .ok (.aload_n 1, 1) := dk_43 (dk_at dksX5_canGo_6 14 rfl rfl)
theorem dX5_canGo_157 : decode cX5_canGo 157 = .ok (.invokevirtual 46, 3) := dk_182 0 46 (dk_at dksX5_canGo_6 15 rfl rfl)
theorem dX5_canGo_160 : decode cX5_canGo 160 = .ok (.if_icmp .eq 17, 3) := dk_159 0 17 (dk_at dksX5_canGo_6 18 rfl rfl)
theorem dX5_canGo_163 : decode cX5_canGo 163 = .ok (.iload 4, 2) := dk_21 4 (dk_at dksX5_canGo_6 21 rfl rfl)
theorem dX5_canGo_165 : decode cX5_canGo 165 = .ok (.aload_n 1, 1) := dk_43 (dk_at dksX5_canGo_6 23 rfl rfl)
theorem dX5_canGo_166 : decode cX5_canGo 166 = .ok (.getfield 49, 3) := dk_180 0 49 (dk_at dksX5_canGo_7 0 rfl rfl)
theorem dX5_canGo_169 : decode cX5_canGo 169 = .ok (.aload_n 0, 1) := dk_42 (dk_at dksX5_canGo_7 3 rfl rfl)
theorem dX5_canGo_170 : decode cX5_canGo 170 = .ok (.getfield 21, 3) := dk_180 0 21 (dk_at dksX5_canGo_7 4 rfl rfl)
theorem dX5_canGo_173 : decode cX5_canGo 173 = .ok (.iaload, 1) := dk_46 (dk_at dksX5_canGo_7 7 rfl rfl)
theorem dX5_canGo_174 : decode cX5_canGo 174 = .ok (.if_icmp .gt 7, 3) := dk_163 0 7 (dk_at dksX5_canGo_7 8 rfl rfl)
theorem dX5_canGo_177 : decode cX5_canGo 177 = .ok (.iconst 1, 1) := dk_4 (dk_at dksX5_canGo_7 11 rfl rfl)
theorem dX5_canGo_178 : decode cX5_canGo 178 = .ok (.goto 4, 3) := dk_167 0 4 (dk_at dksX5_canGo_7 12 rfl rfl)
theorem dX5_canGo_181 : decode cX5_canGo 181 = .ok (.iconst 0, 1) := dk_3 (dk_at dksX5_canGo_7 15 rfl rfl)
theorem dX5_canGo_182 : decode cX5_canGo 182 = .ok (.ireturn, 1) := dk_172 (dk_at dksX5_canGo_7 16 rfl rfl)
abbrev cX5_hasRope : ByteArray := prog_10_method_6_code
def yX5_hasRope : MethodName := ⟨RX5, "hasRope", "(LDownRope$Face;LDownRope$Spot;I)Z"⟩
def dkwX5_hasRope_1 : List UInt8 := [167, 0, 4, 3, 172]
abbrev dktX5_hasRope_1 : List UInt8 := dkwX5_hasRope_1 ++ []
def dkwX5_hasRope_0 : List UInt8 := [29, 43, 180, 0, 52, 162, 0, 20, 44, 180, 0, 55, 29, 46, 42, 180, 0, 18, 160, 0, 7, 4]
abbrev dktX5_hasRope_0 : List UInt8 := dkwX5_hasRope_0 ++ dktX5_hasRope_1
theorem dksX5_hasRope_0 : cX5_hasRope.data.toList.drop 0 = dktX5_hasRope_0 := by decide +kernel
theorem dksX5_hasRope_1 : cX5_hasRope.data.toList.drop 22 = dktX5_hasRope_1 := dk_seg dksX5_hasRope_0 22 rfl rfl
theorem dX5_hasRope_0 : decode cX5_hasRope 0 = .ok (.iload_n 3, 1) := dk_29 (dk_at dksX5_hasRope_0 0 rfl rfl)
theorem dX5_hasRope_1 : decode cX5_hasRope 1 = .ok (.aload_n 1, 1) := dk_43 (dk_at dksX5_hasRope_0 1 rfl rfl)
theorem dX5_hasRope_2 : decode cX5_hasRope 2 = .ok (.getfield 52, 3) := dk_180 0 52 (dk_at dksX5_hasRope_0 2 rfl rfl)
theorem dX5_hasRope_5 : decode cX5_hasRope 5 = .ok (.if_icmp .ge 20, 3) := dk_162 0 20 (dk_at dksX5_hasRope_0 5 rfl rfl)
theorem dX5_hasRope_8 : decode cX5_hasRope 8 = .ok (.aload_n 2, 1) := dk_44 (dk_at dksX5_hasRope_0 8 rfl rfl)
theorem dX5_hasRope_9 : decode cX5_hasRope 9 = .ok (.getfield 55, 3) := dk_180 0 55 (dk_at dksX5_hasRope_0 9 rfl rfl)
theorem dX5_hasRope_12 : decode cX5_hasRope 12 = .ok (.iload_n 3, 1) := dk_29 (dk_at dksX5_hasRope_0 12 rfl rfl)
theorem dX5_hasRope_13 : decode cX5_hasRope 13 = .ok (.iaload, 1) := dk_46 (dk_at dksX5_hasRope_0 13 rfl rfl)
theorem dX5_hasRope_14 : decode cX5_hasRope 14 = .ok (.aload_n 0, 1) := dk_42 (dk_at dksX5_hasRope_0 14 rfl rfl)
theorem dX5_hasRope_15 : decode cX5_hasRope 15 = .ok (.getfield 18, 3) := dk_180 0 18 (dk_at dksX5_hasRope_0 15 rfl rfl)
theorem dX5_hasRope_18 : decode cX5_hasRope 18 = .ok (.if_icmp .ne 7, 3) := dk_160 0 7 (dk_at dksX5_hasRope_0 18 rfl rfl)
theorem dX5_hasRope_21 : decode cX5_hasRope 21 = .ok (.iconst 1, 1) := dk_4 (dk_at dksX5_hasRope_0 21 rfl rfl)
theorem dX5_hasRope_22 : decode cX5_hasRope 22 = .ok (.goto 4, 3) := dk_167 0 4 (dk_at dksX5_hasRope_1 0 rfl rfl)
theorem dX5_hasRope_25 : decode cX5_hasRope 25 = .ok (.iconst 0, 1) := dk_3 (dk_at dksX5_hasRope_1 3 rfl rfl)
theorem dX5_hasRope_26 : decode cX5_hasRope 26 = .ok (.ireturn, 1) := dk_172 (dk_at dksX5_hasRope_1 4 rfl rfl)
abbrev cX5_hasHelp : ByteArray := prog_10_method_7_code
def yX5_hasHelp : MethodName := ⟨RX5, "hasHelp", "(LDownRope$Face;LDownRope$Spot;)Z"⟩
def dkwX5_hasHelp_2 : List UInt8 := [132, 3, 1, 167, 255, 209, 3, 172]
abbrev dktX5_hasHelp_2 : List UInt8 := dkwX5_hasHelp_2 ++ []
def dkwX5_hasHelp_1 : List UInt8 := [180, 0, 37, 29, 46, 42, 180, 0, 18, 160, 0, 15, 43, 180, 0, 43, 29, 46, 5, 159, 0, 5, 4, 172]
abbrev dktX5_hasHelp_1 : List UInt8 := dkwX5_hasHelp_1 ++ dktX5_hasHelp_2
def dkwX5_hasHelp_0 : List UInt8 := [3, 62, 29, 43, 180, 0, 34, 162, 0, 45, 42, 180, 0, 9, 29, 122, 4, 126, 154, 0, 28, 44]
abbrev dktX5_hasHelp_0 : List UInt8 := dkwX5_hasHelp_0 ++ dktX5_hasHelp_1
theorem dksX5_hasHelp_0 : cX5_hasHelp.data.toList.drop 0 = dktX5_hasHelp_0 := by decide +kernel
theorem dksX5_hasHelp_1 : cX5_hasHelp.data.toList.drop 22 = dktX5_hasHelp_1 := dk_seg dksX5_hasHelp_0 22 rfl rfl
theorem dksX5_hasHelp_2 : cX5_hasHelp.data.toList.drop 46 = dktX5_hasHelp_2 := dk_seg dksX5_hasHelp_1 24 rfl rfl
theorem dX5_hasHelp_0 : decode cX5_hasHelp 0 = .ok (.iconst 0, 1) := dk_3 (dk_at dksX5_hasHelp_0 0 rfl rfl)
theorem dX5_hasHelp_1 : decode cX5_hasHelp 1 = .ok (.istore_n 3, 1) := dk_62 (dk_at dksX5_hasHelp_0 1 rfl rfl)
theorem dX5_hasHelp_2 : decode cX5_hasHelp 2 = .ok (.iload_n 3, 1) := dk_29 (dk_at dksX5_hasHelp_0 2 rfl rfl)
theorem dX5_hasHelp_3 : decode cX5_hasHelp 3 = .ok (.aload_n 1, 1) := dk_43 (dk_at dksX5_hasHelp_0 3 rfl rfl)
theorem dX5_hasHelp_4 : decode cX5_hasHelp 4 = .ok (.getfield 34, 3) := dk_180 0 34 (dk_at dksX5_hasHelp_0 4 rfl rfl)
theorem dX5_hasHelp_7 : decode cX5_hasHelp 7 = .ok (.if_icmp .ge 45, 3) := dk_162 0 45 (dk_at dksX5_hasHelp_0 7 rfl rfl)
theorem dX5_hasHelp_10 : decode cX5_hasHelp 10 = .ok (.aload_n 0, 1) := dk_42 (dk_at dksX5_hasHelp_0 10 rfl rfl)
theorem dX5_hasHelp_11 : decode cX5_hasHelp 11 = .ok (.getfield 9, 3) := dk_180 0 9 (dk_at dksX5_hasHelp_0 11 rfl rfl)
theorem dX5_hasHelp_14 : decode cX5_hasHelp 14 = .ok (.iload_n 3, 1) := dk_29 (dk_at dksX5_hasHelp_0 14 rfl rfl)
theorem dX5_hasHelp_15 : decode cX5_hasHelp 15 = .ok (.ishr, 1) := dk_122 (dk_at dksX5_hasHelp_0 15 rfl rfl)
theorem dX5_hasHelp_16 : decode cX5_hasHelp 16 = .ok (.iconst 1, 1) := dk_4 (dk_at dksX5_hasHelp_0 16 rfl rfl)
theorem dX5_hasHelp_17 : decode cX5_hasHelp 17 = .ok (.iand, 1) := dk_126 (dk_at dksX5_hasHelp_0 17 rfl rfl)
theorem dX5_hasHelp_18 : decode cX5_hasHelp 18 = .ok (.ifCond .ne 28, 3) := dk_154 0 28 (dk_at dksX5_hasHelp_0 18 rfl rfl)
theorem dX5_hasHelp_21 : decode cX5_hasHelp 21 = .ok (.aload_n 2, 1) := dk_44 (dk_at dksX5_hasHelp_0 21 rfl rfl)
theorem dX5_hasHelp_22 : decode cX5_hasHelp 22 = .ok (.getfield 37, 3) := dk_180 0 37 (dk_at dksX5_hasHelp_1 0 rfl rfl)
theorem dX5_hasHelp_25 : decode cX5_hasHelp 25 = .ok (.iload_n 3, 1) := dk_29 (dk_at dksX5_hasHelp_1 3 rfl rfl)
theorem dX5_hasHelp_26 : decode cX5_hasHelp 26 = .ok (.iaload, 1) := dk_46 (dk_at dksX5_hasHelp_1 4 rfl rfl)
theorem dX5_hasHelp_27 : decode cX5_hasHelp 27 = .ok (.aload_n 0, 1) := dk_42 (dk_at dksX5_hasHelp_1 5 rfl rfl)
theorem dX5_hasHelp_28 : decode cX5_hasHelp 28 = .ok (.getfield 18, 3) := dk_180 0 18 (dk_at dksX5_hasHelp_1 6 rfl rfl)
theorem dX5_hasHelp_31 : decode cX5_hasHelp 31 = .ok (.if_icmp .ne 15, 3) := dk_160 0 15 (dk_at dksX5_hasHelp_1 9 rfl rfl)
theorem dX5_hasHelp_34 : decode cX5_hasHelp 34 = .ok (.aload_n 1, 1) := dk_43 (dk_at dksX5_hasHelp_1 12 rfl rfl)
theorem dX5_hasHelp_35 : decode cX5_hasHelp 35 = .ok (.getfield 43, 3) := dk_180 0 43 (dk_at dksX5_hasHelp_1 13 rfl rfl)
theorem dX5_hasHelp_38 : decode cX5_hasHelp 38 = .ok (.iload_n 3, 1) := dk_29 (dk_at dksX5_hasHelp_1 16 rfl rfl)
theorem dX5_hasHelp_39 : decode cX5_hasHelp 39 = .ok (.iaload, 1) := dk_46 (dk_at dksX5_hasHelp_1 17 rfl rfl)
theorem dX5_hasHelp_40 : decode cX5_hasHelp 40 = .ok (.iconst 2, 1) := dk_5 (dk_at dksX5_hasHelp_1 18 rfl rfl)
theorem dX5_hasHelp_41 : decode cX5_hasHelp 41 = .ok (.if_icmp .eq 5, 3) := dk_159 0 5 (dk_at dksX5_hasHelp_1 19 rfl rfl)
theorem dX5_hasHelp_44 : decode cX5_hasHelp 44 = .ok (.iconst 1, 1) := dk_4 (dk_at dksX5_hasHelp_1 22 rfl rfl)
theorem dX5_hasHelp_45 : decode cX5_hasHelp 45 = .ok (.ireturn, 1) := dk_172 (dk_at dksX5_hasHelp_1 23 rfl rfl)
theorem dX5_hasHelp_46 : decode cX5_hasHelp 46 = .ok (.iinc 3 1, 3) := dk_132 3 1 (dk_at dksX5_hasHelp_2 0 rfl rfl)
theorem dX5_hasHelp_49 : decode cX5_hasHelp 49 = .ok (.goto (-47), 3) := dk_167 255 209 (dk_at dksX5_hasHelp_2 3 rfl rfl)
theorem dX5_hasHelp_52 : decode cX5_hasHelp 52 = .ok (.iconst 0, 1) := dk_3 (dk_at dksX5_hasHelp_2 6 rfl rfl)
theorem dX5_hasHelp_53 : decode cX5_hasHelp 53 = .ok (.ireturn, 1) := dk_172 (dk_at dksX5_hasHelp_2 7 rfl rfl)
abbrev cX5_minutes : ByteArray := prog_10_method_9_code
def yX5_minutes : MethodName := ⟨RX5, "minutes", "(LDownRope$Face;LDownRope$Spot;)I"⟩
theorem dX5_minutes_0 : decode cX5_minutes 0 = .ok (.bipush (-3), 2) := by decide +kernel
theorem dX5_minutes_2 : decode cX5_minutes 2 = .ok (.ireturn, 1) := by decide +kernel
abbrev cX5_does : ByteArray := prog_10_method_10_code
def yX5_does : MethodName := ⟨RX5, "does", "(LDownRope$Spot;)V"⟩
def dkwX5_does_0 : List UInt8 := [42, 43, 182, 0, 57, 177]
abbrev dktX5_does_0 : List UInt8 := dkwX5_does_0 ++ []
theorem dksX5_does_0 : cX5_does.data.toList.drop 0 = dktX5_does_0 := by decide +kernel
theorem dX5_does_0 : decode cX5_does 0 = .ok (.aload_n 0, 1) := dk_42 (dk_at dksX5_does_0 0 rfl rfl)
theorem dX5_does_1 : decode cX5_does 1 = .ok (.aload_n 1, 1) := dk_43 (dk_at dksX5_does_0 1 rfl rfl)
theorem dX5_does_2 : decode cX5_does 2 = .ok (.invokevirtual 57, 3) := dk_182 0 57 (dk_at dksX5_does_0 2 rfl rfl)
theorem dX5_does_5 : decode cX5_does 5 = .ok (.return_, 1) := dk_177 (dk_at dksX5_does_0 5 rfl rfl)
abbrev cX5_moves : ByteArray := prog_10_method_8_code
def yX5_moves : MethodName := ⟨RX5, "moves", "(LDownRope$Spot;)V"⟩
def dkwX5_moves_1 : List UInt8 := [42, 180, 0, 21, 79, 132, 2, 1, 167, 255, 226, 177]
abbrev dktX5_moves_1 : List UInt8 := dkwX5_moves_1 ++ []
def dkwX5_moves_0 : List UInt8 := [3, 61, 28, 6, 162, 0, 31, 42, 180, 0, 9, 28, 122, 4, 126, 4, 160, 0, 13, 43, 180, 0, 37, 28]
abbrev dktX5_moves_0 : List UInt8 := dkwX5_moves_0 ++ dktX5_moves_1
theorem dksX5_moves_0 : cX5_moves.data.toList.drop 0 = dktX5_moves_0 := by decide +kernel
theorem dksX5_moves_1 : cX5_moves.data.toList.drop 24 = dktX5_moves_1 := dk_seg dksX5_moves_0 24 rfl rfl
theorem dX5_moves_0 : decode cX5_moves 0 = .ok (.iconst 0, 1) := dk_3 (dk_at dksX5_moves_0 0 rfl rfl)
theorem dX5_moves_1 : decode cX5_moves 1 = .ok (.istore_n 2, 1) := dk_61 (dk_at dksX5_moves_0 1 rfl rfl)
theorem dX5_moves_2 : decode cX5_moves 2 = .ok (.iload_n 2, 1) := dk_28 (dk_at dksX5_moves_0 2 rfl rfl)
theorem dX5_moves_3 : decode cX5_moves 3 = .ok (.iconst 3, 1) := dk_6 (dk_at dksX5_moves_0 3 rfl rfl)
theorem dX5_moves_4 : decode cX5_moves 4 = .ok (.if_icmp .ge 31, 3) := dk_162 0 31 (dk_at dksX5_moves_0 4 rfl rfl)
theorem dX5_moves_7 : decode cX5_moves 7 = .ok (.aload_n 0, 1) := dk_42 (dk_at dksX5_moves_0 7 rfl rfl)
theorem dX5_moves_8 : decode cX5_moves 8 = .ok (.getfield 9, 3) := dk_180 0 9 (dk_at dksX5_moves_0 8 rfl rfl)
theorem dX5_moves_11 : decode cX5_moves 11 = .ok (.iload_n 2, 1) := dk_28 (dk_at dksX5_moves_0 11 rfl rfl)
theorem dX5_moves_12 : decode cX5_moves 12 = .ok (.ishr, 1) := dk_122 (dk_at dksX5_moves_0 12 rfl rfl)
theorem dX5_moves_13 : decode cX5_moves 13 = .ok (.iconst 1, 1) := dk_4 (dk_at dksX5_moves_0 13 rfl rfl)
theorem dX5_moves_14 : decode cX5_moves 14 = .ok (.iand, 1) := dk_126 (dk_at dksX5_moves_0 14 rfl rfl)
theorem dX5_moves_15 : decode cX5_moves 15 = .ok (.iconst 1, 1) := dk_4 (dk_at dksX5_moves_0 15 rfl rfl)
theorem dX5_moves_16 : decode cX5_moves 16 = .ok (.if_icmp .ne 13, 3) := dk_160 0 13 (dk_at dksX5_moves_0 16 rfl rfl)
theorem dX5_moves_19 : decode cX5_moves 19 = .ok (.aload_n 1, 1) := dk_43 (dk_at dksX5_moves_0 19 rfl rfl)
theorem dX5_moves_20 : decode cX5_moves 20 = .ok (.getfield 37, 3) := dk_180 0 37 (dk_at dksX5_moves_0 20 rfl rfl)
theorem dX5_moves_23 : decode cX5_moves 23 = .ok (.iload_n 2, 1) := dk_28 (dk_at dksX5_moves_0 23 rfl rfl)
theorem dX5_moves_24 : decode cX5_moves 24 = .ok (.aload_n 0, 1) := dk_42 (dk_at dksX5_moves_1 0 rfl rfl)
theorem dX5_moves_25 : decode cX5_moves 25 = .ok (.getfield 21, 3) := dk_180 0 21 (dk_at dksX5_moves_1 1 rfl rfl)
theorem dX5_moves_28 : decode cX5_moves 28 = .ok (.iastore, 1) := dk_79 (dk_at dksX5_moves_1 4 rfl rfl)
theorem dX5_moves_29 : decode cX5_moves 29 = .ok (.iinc 2 1, 3) := dk_132 2 1 (dk_at dksX5_moves_1 5 rfl rfl)
theorem dX5_moves_32 : decode cX5_moves 32 = .ok (.goto (-30), 3) := dk_167 255 226 (dk_at dksX5_moves_1 8 rfl rfl)
theorem dX5_moves_35 : decode cX5_moves 35 = .ok (.return_, 1) := dk_177 (dk_at dksX5_moves_1 11 rfl rfl)
abbrev cX5_told : ByteArray := prog_10_method_4_code
def yX5_told : MethodName := ⟨RX5, "told", "()I"⟩
def dkwX5_told_1 : List UInt8 := [96, 16, 10, 42, 180, 0, 18, 104, 96, 42, 180, 0, 21, 96, 172]
abbrev dktX5_told_1 : List UInt8 := dkwX5_told_1 ++ []
def dkwX5_told_0 : List UInt8 := [17, 39, 16, 42, 182, 0, 24, 104, 17, 3, 232, 42, 180, 0, 9, 104, 96, 16, 100, 42, 180, 0, 15, 104]
abbrev dktX5_told_0 : List UInt8 := dkwX5_told_0 ++ dktX5_told_1
theorem dksX5_told_0 : cX5_told.data.toList.drop 0 = dktX5_told_0 := by decide +kernel
theorem dksX5_told_1 : cX5_told.data.toList.drop 24 = dktX5_told_1 := dk_seg dksX5_told_0 24 rfl rfl
theorem dX5_told_0 : decode cX5_told 0 = .ok (.sipush 10000, 3) := dk_17 39 16 (dk_at dksX5_told_0 0 rfl rfl)
theorem dX5_told_3 : decode cX5_told 3 = .ok (.aload_n 0, 1) := dk_42 (dk_at dksX5_told_0 3 rfl rfl)
theorem dX5_told_4 : decode cX5_told 4 = .ok (.invokevirtual 24, 3) := dk_182 0 24 (dk_at dksX5_told_0 4 rfl rfl)
theorem dX5_told_7 : decode cX5_told 7 = .ok (.imul, 1) := dk_104 (dk_at dksX5_told_0 7 rfl rfl)
theorem dX5_told_8 : decode cX5_told 8 = .ok (.sipush 1000, 3) := dk_17 3 232 (dk_at dksX5_told_0 8 rfl rfl)
theorem dX5_told_11 : decode cX5_told 11 = .ok (.aload_n 0, 1) := dk_42 (dk_at dksX5_told_0 11 rfl rfl)
theorem dX5_told_12 : decode cX5_told 12 = .ok (.getfield 9, 3) := dk_180 0 9 (dk_at dksX5_told_0 12 rfl rfl)
theorem dX5_told_15 : decode cX5_told 15 = .ok (.imul, 1) := dk_104 (dk_at dksX5_told_0 15 rfl rfl)
theorem dX5_told_16 : decode cX5_told 16 = .ok (.iadd, 1) := dk_96 (dk_at dksX5_told_0 16 rfl rfl)
theorem dX5_told_17 : decode cX5_told 17 = .ok (.bipush 100, 2) := dk_16 100 (dk_at dksX5_told_0 17 rfl rfl)
theorem dX5_told_19 : decode cX5_told 19 = .ok (.aload_n 0, 1) := dk_42 (dk_at dksX5_told_0 19 rfl rfl)
theorem dX5_told_20 : decode cX5_told 20 = .ok (.getfield 15, 3) := dk_180 0 15 (dk_at dksX5_told_0 20 rfl rfl)
theorem dX5_told_23 : decode cX5_told 23 = .ok (.imul, 1) := dk_104 (dk_at dksX5_told_0 23 rfl rfl)
theorem dX5_told_24 : decode cX5_told 24 = .ok (.iadd, 1) := dk_96 (dk_at dksX5_told_1 0 rfl rfl)
theorem dX5_told_25 : decode cX5_told 25 = .ok (.bipush 10, 2) := dk_16 10 (dk_at dksX5_told_1 1 rfl rfl)
theorem dX5_told_27 : decode cX5_told 27 = .ok (.aload_n 0, 1) := dk_42 (dk_at dksX5_told_1 3 rfl rfl)
theorem dX5_told_28 : decode cX5_told 28 = .ok (.getfield 18, 3) := dk_180 0 18 (dk_at dksX5_told_1 4 rfl rfl)
theorem dX5_told_31 : decode cX5_told 31 = .ok (.imul, 1) := dk_104 (dk_at dksX5_told_1 7 rfl rfl)
theorem dX5_told_32 : decode cX5_told 32 = .ok (.iadd, 1) := dk_96 (dk_at dksX5_told_1 8 rfl rfl)
theorem dX5_told_33 : decode cX5_told 33 = .ok (.aload_n 0, 1) := dk_42 (dk_at dksX5_told_1 9 rfl rfl)
theorem dX5_told_34 : decode cX5_told 34 = .ok (.getfield 21, 3) := dk_180 0 21 (dk_at dksX5_told_1 10 rfl rfl)
theorem dX5_told_37 : decode cX5_told 37 = .ok (.iadd, 1) := dk_96 (dk_at dksX5_told_1 13 rfl rfl)
theorem dX5_told_38 : decode cX5_told 38 = .ok (.ireturn, 1) := dk_172 (dk_at dksX5_told_1 14 rfl rfl)
abbrev cX5_kind : ByteArray := prog_10_method_2_code
def yX5_kind : MethodName := ⟨RX5, "kind", "()I"⟩
theorem dX5_kind_0 : decode cX5_kind 0 = .ok (.iconst 0, 1) := by decide +kernel
theorem dX5_kind_1 : decode cX5_kind 1 = .ok (.ireturn, 1) := by decide +kernel
abbrev cX5_init : ByteArray := prog_10_method_1_code
def yX5_init : MethodName := ⟨RX5, "<init>", "()V"⟩
theorem dX5_init_0 : decode cX5_init 0 = .ok (.aload_n 0, 1) := by decide +kernel
theorem dX5_init_1 : decode cX5_init 1 = .ok (.invokespecial 3, 3) := by decide +kernel
theorem dX5_init_4 : decode cX5_init 4 = .ok (.return_, 1) := by decide +kernel
abbrev cX5_failure : ByteArray := prog_10_method_11_code
def yX5_failure : MethodName := ⟨RX5, "failure", "()LDownRope$Tossed;"⟩
def dkwX5_failure_1 : List UInt8 := [183, 0, 66, 176]
abbrev dktX5_failure_1 : List UInt8 := dkwX5_failure_1 ++ []
def dkwX5_failure_0 : List UInt8 := [42, 180, 0, 18, 42, 180, 0, 21, 160, 0, 7, 1, 167, 0, 14, 187, 0, 61, 89, 42, 182, 0, 63]
abbrev dktX5_failure_0 : List UInt8 := dkwX5_failure_0 ++ dktX5_failure_1
theorem dksX5_failure_0 : cX5_failure.data.toList.drop 0 = dktX5_failure_0 := by decide +kernel
theorem dksX5_failure_1 : cX5_failure.data.toList.drop 23 = dktX5_failure_1 := dk_seg dksX5_failure_0 23 rfl rfl
theorem dX5_failure_0 : decode cX5_failure 0 = .ok (.aload_n 0, 1) := dk_42 (dk_at dksX5_failure_0 0 rfl rfl)
theorem dX5_failure_1 : decode cX5_failure 1 = .ok (.getfield 18, 3) := dk_180 0 18 (dk_at dksX5_failure_0 1 rfl rfl)
theorem dX5_failure_4 : decode cX5_failure 4 = .ok (.aload_n 0, 1) := dk_42 (dk_at dksX5_failure_0 4 rfl rfl)
theorem dX5_failure_5 : decode cX5_failure 5 = .ok (.getfield 21, 3) := dk_180 0 21 (dk_at dksX5_failure_0 5 rfl rfl)
theorem dX5_failure_8 : decode cX5_failure 8 = .ok (.if_icmp .ne 7, 3) := dk_160 0 7 (dk_at dksX5_failure_0 8 rfl rfl)
theorem dX5_failure_11 : decode cX5_failure 11 = .ok (.aconst_null, 1) := dk_1 (dk_at dksX5_failure_0 11 rfl rfl)
theorem dX5_failure_12 : decode cX5_failure 12 = .ok (.goto 14, 3) := dk_167 0 14 (dk_at dksX5_failure_0 12 rfl rfl)
theorem dX5_failure_15 : decode cX5_failure 15 = .ok (.new 61, 3) := dk_187 0 61 (dk_at dksX5_failure_0 15 rfl rfl)
theorem dX5_failure_18 : decode cX5_failure 18 = .ok (.dup, 1) := dk_89 (dk_at dksX5_failure_0 18 rfl rfl)
theorem dX5_failure_19 : decode cX5_failure 19 = .ok (.aload_n 0, 1) := dk_42 (dk_at dksX5_failure_0 19 rfl rfl)
theorem dX5_failure_20 : decode cX5_failure 20 = .ok (.invokevirtual 63, 3) := dk_182 0 63 (dk_at dksX5_failure_0 20 rfl rfl)
theorem dX5_failure_23 : decode cX5_failure 23 = .ok (.invokespecial 66, 3) := dk_183 0 66 (dk_at dksX5_failure_1 0 rfl rfl)
theorem dX5_failure_26 : decode cX5_failure 26 = .ok (.areturn, 1) := dk_176 (dk_at dksX5_failure_1 3 rfl rfl)
theorem q80 : (Jvm.Cond.initialized "DownRope$Move") ∈ lw_all := lw_g (lw_at lw_m1 5 rfl) rfl
theorem q383 : (Jvm.Cond.instanceMethod ({ cls := "DownRope$Move", name := "tells", desc := "(IIII)LDownRope$Move;" } : Jvm.MethodName)) ∈ lw_all := lw_g (lw_at lw_m2 68 rfl) rfl
theorem q384 : (Jvm.Cond.selects "DownRope$Move" ({ cls := "DownRope$Move", name := "tells", desc := "(IIII)LDownRope$Move;" } : Jvm.MethodName) ({ cls := "DownRope$Move", name := "tells", desc := "(IIII)LDownRope$Move;" } : Jvm.MethodName)) ∈ lw_all := lw_g (lw_at lw_m2 69 rfl) rfl
theorem q385 : (Jvm.Cond.sameMethod "DownRope$Move" "DownRope$Move" "tells" "(IIII)LDownRope$Move;") ∈ lw_all := lw_g (lw_at lw_m2 70 rfl) rfl
theorem q392 : (Jvm.Cond.code ({ cls := "DownRope$Move", name := "tells", desc := "(IIII)LDownRope$Move;" } : Jvm.MethodName) prog_10_method_3_code (5 : Nat) (Option.some (Jvm.ClassFile.FieldType.object "DownRope$Move"))) ∈ lw_all := lw_g (lw_at lw_m2 77 rfl) rfl
theorem q394 : (Jvm.Cond.instanceMethod ({ cls := "DownRope$Move", name := "minutes", desc := "(LDownRope$Face;LDownRope$Spot;)I" } : Jvm.MethodName)) ∈ lw_all := lw_g (lw_at lw_m2 79 rfl) rfl
theorem q395 : (Jvm.Cond.selects "DownRope$Move" ({ cls := "DownRope$Move", name := "minutes", desc := "(LDownRope$Face;LDownRope$Spot;)I" } : Jvm.MethodName) ({ cls := "DownRope$Move", name := "minutes", desc := "(LDownRope$Face;LDownRope$Spot;)I" } : Jvm.MethodName)) ∈ lw_all := lw_g (lw_at lw_m2 80 rfl) rfl
theorem q396 : (Jvm.Cond.sameMethod "DownRope$Move" "DownRope$Move" "minutes" "(LDownRope$Face;LDownRope$Spot;)I") ∈ lw_all := lw_g (lw_at lw_m2 81 rfl) rfl
theorem q411 : (Jvm.Cond.declares ({ cls := "DownRope$Move", name := "canGo", desc := "(LDownRope$Face;LDownRope$Spot;Z)Z" } : Jvm.MethodName)) ∈ lw_tbl := lw_at lw_m2 96 rfl
theorem q413 : (Jvm.Cond.instanceMethod ({ cls := "DownRope$Move", name := "canGo", desc := "(LDownRope$Face;LDownRope$Spot;Z)Z" } : Jvm.MethodName)) ∈ lw_all := lw_g (lw_at lw_m2 98 rfl) rfl
theorem q414 : (Jvm.Cond.code ({ cls := "DownRope$Move", name := "canGo", desc := "(LDownRope$Face;LDownRope$Spot;Z)Z" } : Jvm.MethodName) prog_10_method_5_code (7 : Nat) (Option.some Jvm.ClassFile.FieldType.boolean)) ∈ lw_all := lw_g (lw_at lw_m2 99 rfl) rfl
theorem q415 : (Jvm.Cond.methodLink "DownRope$Move" (28 : Nat) ({ cls := "DownRope$Face", name := "isLedge", desc := "(I)Z" } : Jvm.MethodName)) ∈ lw_all := lw_g (lw_at lw_m2 100 rfl) rfl
theorem q416 : (Jvm.Cond.methodLink "DownRope$Move" (46 : Nat) ({ cls := "DownRope$Face", name := "ground", desc := "()I" } : Jvm.MethodName)) ∈ lw_all := lw_g (lw_at lw_m2 101 rfl) rfl
theorem q439 : (Jvm.Cond.declares ({ cls := "DownRope$Move", name := "hasRope", desc := "(LDownRope$Face;LDownRope$Spot;I)Z" } : Jvm.MethodName)) ∈ lw_tbl := lw_at lw_m2 124 rfl
theorem q441 : (Jvm.Cond.instanceMethod ({ cls := "DownRope$Move", name := "hasRope", desc := "(LDownRope$Face;LDownRope$Spot;I)Z" } : Jvm.MethodName)) ∈ lw_all := lw_g (lw_at lw_m2 126 rfl) rfl
theorem q442 : (Jvm.Cond.code ({ cls := "DownRope$Move", name := "hasRope", desc := "(LDownRope$Face;LDownRope$Spot;I)Z" } : Jvm.MethodName) prog_10_method_6_code (4 : Nat) (Option.some Jvm.ClassFile.FieldType.boolean)) ∈ lw_all := lw_g (lw_at lw_m2 127 rfl) rfl
theorem q471 : (Jvm.Cond.declares ({ cls := "DownRope$Move", name := "hasHelp", desc := "(LDownRope$Face;LDownRope$Spot;)Z" } : Jvm.MethodName)) ∈ lw_tbl := lw_at lw_m2 156 rfl
theorem q473 : (Jvm.Cond.instanceMethod ({ cls := "DownRope$Move", name := "hasHelp", desc := "(LDownRope$Face;LDownRope$Spot;)Z" } : Jvm.MethodName)) ∈ lw_all := lw_g (lw_at lw_m2 158 rfl) rfl
theorem q474 : (Jvm.Cond.code ({ cls := "DownRope$Move", name := "hasHelp", desc := "(LDownRope$Face;LDownRope$Spot;)Z" } : Jvm.MethodName) prog_10_method_7_code (4 : Nat) (Option.some Jvm.ClassFile.FieldType.boolean)) ∈ lw_all := lw_g (lw_at lw_m2 159 rfl) rfl
theorem q499 : (Jvm.Cond.code ({ cls := "DownRope$Move", name := "minutes", desc := "(LDownRope$Face;LDownRope$Spot;)I" } : Jvm.MethodName) prog_10_method_9_code (3 : Nat) (Option.some Jvm.ClassFile.FieldType.int)) ∈ lw_all := lw_g (lw_at lw_m2 184 rfl) rfl
theorem q505 : (Jvm.Cond.instanceMethod ({ cls := "DownRope$Move", name := "does", desc := "(LDownRope$Spot;)V" } : Jvm.MethodName)) ∈ lw_all := lw_g (lw_at lw_m2 190 rfl) rfl
theorem q506 : (Jvm.Cond.selects "DownRope$Move" ({ cls := "DownRope$Move", name := "does", desc := "(LDownRope$Spot;)V" } : Jvm.MethodName) ({ cls := "DownRope$Move", name := "does", desc := "(LDownRope$Spot;)V" } : Jvm.MethodName)) ∈ lw_all := lw_g (lw_at lw_m2 191 rfl) rfl
theorem q507 : (Jvm.Cond.sameMethod "DownRope$Move" "DownRope$Move" "does" "(LDownRope$Spot;)V") ∈ lw_all := lw_g (lw_at lw_m2 192 rfl) rfl
theorem q514 : (Jvm.Cond.code ({ cls := "DownRope$Move", name := "does", desc := "(LDownRope$Spot;)V" } : Jvm.MethodName) prog_10_method_10_code (2 : Nat) (Option.none : Option Jvm.ClassFile.FieldType)) ∈ lw_all := lw_g (lw_at lw_m2 199 rfl) rfl
theorem q515 : (Jvm.Cond.methodLink "DownRope$Move" (57 : Nat) ({ cls := "DownRope$Move", name := "moves", desc := "(LDownRope$Spot;)V" } : Jvm.MethodName)) ∈ lw_all := lw_g (lw_at lw_m2 200 rfl) rfl
theorem q516 : (Jvm.Cond.instanceMethod ({ cls := "DownRope$Move", name := "moves", desc := "(LDownRope$Spot;)V" } : Jvm.MethodName)) ∈ lw_all := lw_g (lw_at lw_m2 201 rfl) rfl
theorem q517 : (Jvm.Cond.selects "DownRope$Move" ({ cls := "DownRope$Move", name := "moves", desc := "(LDownRope$Spot;)V" } : Jvm.MethodName) ({ cls := "DownRope$Move", name := "moves", desc := "(LDownRope$Spot;)V" } : Jvm.MethodName)) ∈ lw_all := lw_g (lw_at lw_m2 202 rfl) rfl
theorem q518 : (Jvm.Cond.sameMethod "DownRope$Move" "DownRope$Move" "moves" "(LDownRope$Spot;)V") ∈ lw_all := lw_g (lw_at lw_m2 203 rfl) rfl
theorem q525 : (Jvm.Cond.code ({ cls := "DownRope$Move", name := "moves", desc := "(LDownRope$Spot;)V" } : Jvm.MethodName) prog_10_method_8_code (3 : Nat) (Option.none : Option Jvm.ClassFile.FieldType)) ∈ lw_all := lw_g (lw_at lw_m2 210 rfl) rfl
theorem q558 : (Jvm.Cond.instanceMethod ({ cls := "DownRope$Move", name := "told", desc := "()I" } : Jvm.MethodName)) ∈ lw_all := lw_g (lw_at lw_m3 3 rfl) rfl
theorem q559 : (Jvm.Cond.selects "DownRope$Move" ({ cls := "DownRope$Move", name := "told", desc := "()I" } : Jvm.MethodName) ({ cls := "DownRope$Move", name := "told", desc := "()I" } : Jvm.MethodName)) ∈ lw_all := lw_g (lw_at lw_m3 4 rfl) rfl
theorem q560 : (Jvm.Cond.sameMethod "DownRope$Move" "DownRope$Move" "told" "()I") ∈ lw_all := lw_g (lw_at lw_m3 5 rfl) rfl
theorem q567 : (Jvm.Cond.code ({ cls := "DownRope$Move", name := "told", desc := "()I" } : Jvm.MethodName) prog_10_method_4_code (1 : Nat) (Option.some Jvm.ClassFile.FieldType.int)) ∈ lw_all := lw_g (lw_at lw_m3 12 rfl) rfl
theorem q568 : (Jvm.Cond.methodLink "DownRope$Move" (24 : Nat) ({ cls := "DownRope$Move", name := "kind", desc := "()I" } : Jvm.MethodName)) ∈ lw_all := lw_g (lw_at lw_m3 13 rfl) rfl
theorem q569 : (Jvm.Cond.instanceMethod ({ cls := "DownRope$Move", name := "kind", desc := "()I" } : Jvm.MethodName)) ∈ lw_all := lw_g (lw_at lw_m3 14 rfl) rfl
theorem q570 : (Jvm.Cond.selects "DownRope$Move" ({ cls := "DownRope$Move", name := "kind", desc := "()I" } : Jvm.MethodName) ({ cls := "DownRope$Move", name := "kind", desc := "()I" } : Jvm.MethodName)) ∈ lw_all := lw_g (lw_at lw_m3 15 rfl) rfl
theorem q571 : (Jvm.Cond.sameMethod "DownRope$Move" "DownRope$Move" "kind" "()I") ∈ lw_all := lw_g (lw_at lw_m3 16 rfl) rfl
theorem q590 : (Jvm.Cond.code ({ cls := "DownRope$Move", name := "kind", desc := "()I" } : Jvm.MethodName) prog_10_method_2_code (1 : Nat) (Option.some Jvm.ClassFile.FieldType.int)) ∈ lw_all := lw_g (lw_at lw_m3 35 rfl) rfl
theorem q655 : (Jvm.Cond.fieldLink "DownRope$Move" (37 : Nat) "DownRope$Spot" "at" "[I") ∈ lw_all := lw_g (lw_at lw_m3 100 rfl) rfl
theorem q663 : (Jvm.Cond.fieldLink "DownRope$Move" (55 : Nat) "DownRope$Spot" "rope" "[I") ∈ lw_all := lw_g (lw_at lw_m3 108 rfl) rfl
theorem q772 : (Jvm.Cond.fieldLink "DownRope$Move" (49 : Nat) "DownRope$Face" "room" "[I") ∈ lw_all := lw_g (lw_at lw_m3 217 rfl) rfl
theorem q788 : (Jvm.Cond.fieldLink "DownRope$Move" (43 : Nat) "DownRope$Face" "sort" "[I") ∈ lw_all := lw_g (lw_at lw_m3 233 rfl) rfl
theorem q793 : (Jvm.Cond.fieldLink "DownRope$Move" (34 : Nat) "DownRope$Face" "people" "I") ∈ lw_all := lw_g (lw_at lw_m3 238 rfl) rfl
theorem q802 : (Jvm.Cond.fieldLink "DownRope$Move" (52 : Nat) "DownRope$Face" "ropes" "I") ∈ lw_all := lw_g (lw_at lw_m4 7 rfl) rfl
theorem q854 : (Jvm.Cond.instantiable "DownRope$Move" (4 : Nat)) ∈ lw_all := lw_g (lw_at lw_m4 59 rfl) rfl
theorem q856 : (Jvm.Cond.instanceMethod ({ cls := "DownRope$Move", name := "<init>", desc := "()V" } : Jvm.MethodName)) ∈ lw_all := lw_g (lw_at lw_m4 61 rfl) rfl
theorem q857 : (Jvm.Cond.code ({ cls := "DownRope$Move", name := "<init>", desc := "()V" } : Jvm.MethodName) prog_10_method_1_code (1 : Nat) (Option.none : Option Jvm.ClassFile.FieldType)) ∈ lw_all := lw_g (lw_at lw_m4 62 rfl) rfl
theorem q858 : (Jvm.Cond.methodLink "DownRope$Move" (3 : Nat) ({ cls := "java/lang/Object", name := "<init>", desc := "()V" } : Jvm.MethodName)) ∈ lw_all := lw_g (lw_at lw_m4 63 rfl) rfl
theorem q861 : (Jvm.Cond.fieldLink "DownRope$Move" (9 : Nat) "DownRope$Move" "set" "I") ∈ lw_all := lw_g (lw_at lw_m4 66 rfl) rfl
theorem q874 : (Jvm.Cond.fieldLink "DownRope$Move" (15 : Nat) "DownRope$Move" "rope" "I") ∈ lw_all := lw_g (lw_at lw_m4 79 rfl) rfl
theorem q889 : (Jvm.Cond.fieldLink "DownRope$Move" (18 : Nat) "DownRope$Move" "from" "I") ∈ lw_all := lw_g (lw_at lw_m4 94 rfl) rfl
theorem q900 : (Jvm.Cond.fieldLink "DownRope$Move" (21 : Nat) "DownRope$Move" "to" "I") ∈ lw_all := lw_g (lw_at lw_m4 105 rfl) rfl
theorem q907 : (Jvm.Cond.lays "DownRope$Move" "DownRope$Move" "set" "I") ∈ lw_all := lw_g (lw_at lw_m4 112 rfl) rfl
theorem q908 : (Jvm.Cond.soleField "DownRope$Move" "set") ∈ lw_all := lw_g (lw_at lw_m4 113 rfl) rfl
theorem q909 : (Jvm.Cond.lays "DownRope$Move" "DownRope$Move" "rope" "I") ∈ lw_all := lw_g (lw_at lw_m4 114 rfl) rfl
theorem q910 : (Jvm.Cond.soleField "DownRope$Move" "rope") ∈ lw_all := lw_g (lw_at lw_m4 115 rfl) rfl
theorem q911 : (Jvm.Cond.lays "DownRope$Move" "DownRope$Move" "from" "I") ∈ lw_all := lw_g (lw_at lw_m4 116 rfl) rfl
theorem q912 : (Jvm.Cond.soleField "DownRope$Move" "from") ∈ lw_all := lw_g (lw_at lw_m4 117 rfl) rfl
theorem q913 : (Jvm.Cond.lays "DownRope$Move" "DownRope$Move" "to" "I") ∈ lw_all := lw_g (lw_at lw_m4 118 rfl) rfl
theorem q914 : (Jvm.Cond.soleField "DownRope$Move" "to") ∈ lw_all := lw_g (lw_at lw_m4 119 rfl) rfl
theorem q915 : (Jvm.Cond.superclass "DownRope$Move" "java/lang/Object") ∈ lw_all := lw_g (lw_at lw_m4 120 rfl) rfl
theorem q1159 : (Jvm.Cond.unhidden "DownRope$Move" "effort" "(LDownRope$Face;)I") ∈ lw_tbl := lw_at lw_m5 124 rfl
theorem q1173 : (Jvm.Cond.instanceMethod ({ cls := "DownRope$Move", name := "failure", desc := "()LDownRope$Tossed;" } : Jvm.MethodName)) ∈ lw_all := lw_g (lw_at lw_m5 138 rfl) rfl
theorem q1174 : (Jvm.Cond.selects "DownRope$Move" ({ cls := "DownRope$Move", name := "failure", desc := "()LDownRope$Tossed;" } : Jvm.MethodName) ({ cls := "DownRope$Move", name := "failure", desc := "()LDownRope$Tossed;" } : Jvm.MethodName)) ∈ lw_all := lw_g (lw_at lw_m5 139 rfl) rfl
theorem q1175 : (Jvm.Cond.sameMethod "DownRope$Move" "DownRope$Move" "failure" "()LDownRope$Tossed;") ∈ lw_all := lw_g (lw_at lw_m5 140 rfl) rfl
theorem q1183 : (Jvm.Cond.declares ({ cls := "DownRope$Move", name := "failure", desc := "()LDownRope$Tossed;" } : Jvm.MethodName)) ∈ lw_tbl := lw_at lw_m5 148 rfl
theorem q1184 : (Jvm.Cond.code ({ cls := "DownRope$Move", name := "failure", desc := "()LDownRope$Tossed;" } : Jvm.MethodName) prog_10_method_11_code (1 : Nat) (Option.some (Jvm.ClassFile.FieldType.object "DownRope$Tossed"))) ∈ lw_all := lw_g (lw_at lw_m5 149 rfl) rfl
theorem q1185 : (Jvm.Cond.classLink "DownRope$Move" (61 : Nat) "DownRope$Tossed") ∈ lw_all := lw_g (lw_at lw_m5 150 rfl) rfl
theorem q1194 : (Jvm.Cond.methodLink "DownRope$Move" (63 : Nat) ({ cls := "DownRope$Move", name := "told", desc := "()I" } : Jvm.MethodName)) ∈ lw_all := lw_g (lw_at lw_m5 159 rfl) rfl
theorem q1195 : (Jvm.Cond.methodLink "DownRope$Move" (66 : Nat) ({ cls := "DownRope$Tossed", name := "<init>", desc := "(I)V" } : Jvm.MethodName)) ∈ lw_all := lw_g (lw_at lw_m5 160 rfl) rfl
theorem in_X5 : ∀ w ∈ wsX50, w ∈ lw_all := lw_in wsX50 [907, 909, 911, 913] (by decide +kernel) (by decide +kernel)
/-! DownRope$Doubled -/
set_option maxRecDepth 100000
def RX6 : String := "DownRope$Doubled"
def TX6 : u_T := fun k => match k with
  | 0 => ("DownRope$Move", "set", "I", false)
  | 1 => ("DownRope$Move", "rope", "I", false)
  | 2 => ("DownRope$Move", "from", "I", false)
  | _ => ("DownRope$Move", "to", "I", false)
def tyX6 : Nat → FieldType := fun k => match k with
  | 0 => .int
  | 1 => .int
  | 2 => .int
  | _ => .int
abbrev wsX60 : List Cond := u_ws RX6 TX6 4
theorem nmX6 : ∀ a, a < 4 → ∀ b, b < 4 → a ≠ b → (TX6 a).2.1 ≠ (TX6 b).2.1 := by decide +kernel
theorem tyX6_ok : ∀ k, k < 4 → parseFieldDescriptor (TX6 k).2.2.1 = some (tyX6 k) := by decide +kernel
abbrev cX6_minutes : ByteArray := prog_4_method_5_code
def yX6_minutes : MethodName := ⟨RX6, "minutes", "(LDownRope$Face;LDownRope$Spot;)I"⟩
def dkwX6_minutes_3 : List UInt8 := [96, 172]
abbrev dktX6_minutes_3 : List UInt8 := dkwX6_minutes_3 ++ []
def dkwX6_minutes_2 : List UInt8 := [154, 0, 6, 16, 253, 172, 42, 182, 0, 45, 42, 180, 0, 49, 184, 0, 52, 29, 16, 10, 108, 4, 96, 104]
abbrev dktX6_minutes_2 : List UInt8 := dkwX6_minutes_2 ++ dktX6_minutes_3
def dkwX6_minutes_1 : List UInt8 := [180, 0, 25, 46, 153, 0, 23, 42, 43, 44, 4, 182, 0, 38, 153, 0, 13, 42, 43, 44, 29, 182, 0, 42]
abbrev dktX6_minutes_1 : List UInt8 := dkwX6_minutes_1 ++ dktX6_minutes_2
def dkwX6_minutes_0 : List UInt8 := [43, 42, 180, 0, 25, 42, 180, 0, 28, 182, 0, 31, 62, 29, 16, 252, 159, 0, 35, 43, 180, 0, 35, 42]
abbrev dktX6_minutes_0 : List UInt8 := dkwX6_minutes_0 ++ dktX6_minutes_1
theorem dksX6_minutes_0 : cX6_minutes.data.toList.drop 0 = dktX6_minutes_0 := by decide +kernel
theorem dksX6_minutes_1 : cX6_minutes.data.toList.drop 24 = dktX6_minutes_1 := dk_seg dksX6_minutes_0 24 rfl rfl
theorem dksX6_minutes_2 : cX6_minutes.data.toList.drop 48 = dktX6_minutes_2 := dk_seg dksX6_minutes_1 24 rfl rfl
theorem dksX6_minutes_3 : cX6_minutes.data.toList.drop 72 = dktX6_minutes_3 := dk_seg dksX6_minutes_2 24 rfl rfl
theorem dX6_minutes_0 : decode cX6_minutes 0 = .ok (.aload_n 1, 1) := dk_43 (dk_at dksX6_minutes_0 0 rfl rfl)
theorem dX6_minutes_1 : decode cX6_minutes 1 = .ok (.aload_n 0, 1) := dk_42 (dk_at dksX6_minutes_0 1 rfl rfl)
theorem dX6_minutes_2 : decode cX6_minutes 2 = .ok (.getfield 25, 3) := dk_180 0 25 (dk_at dksX6_minutes_0 2 rfl rfl)
theorem dX6_minutes_5 : decode cX6_minutes 5 = .ok (.aload_n 0, 1) := dk_42 (dk_at dksX6_minutes_0 5 rfl rfl)
theorem dX6_minutes_6 : decode cX6_minutes 6 = .ok (.getfield 28, 3) := dk_180 0 28 (dk_at dksX6_minutes_0 6 rfl rfl)
theorem dX6_minutes_9 : decode cX6_minutes 9 = .ok (.invokevirtual 31, 3) := dk_182 0 31 (dk_at dksX6_minutes_0 9 rfl rfl)
theorem dX6_minutes_12 : decode cX6_minutes 12 = .ok (.istore_n 3, 1) := dk_62 (dk_at dksX6_minutes_0 12 rfl rfl)
theorem dX6_minutes_13 : decode cX6_minutes 13 = .ok (.iload_n 3, 1) := dk_29 (dk_at dksX6_minutes_0 13 rfl rfl)
theorem dX6_minutes_14 : decode cX6_minutes 14 = .ok (.bipush (-4), 2) := dk_16 252 (dk_at dksX6_minutes_0 14 rfl rfl)
theorem dX6_minutes_16 : decode cX6_minutes 16 = .ok (.if_icmp .eq 35, 3) := dk_159 0 35 (dk_at dksX6_minutes_0 16 rfl rfl)
theorem dX6_minutes_19 : decode cX6_minutes 19 = .ok (.aload_n 1, 1) := dk_43 (dk_at dksX6_minutes_0 19 rfl rfl)
theorem dX6_minutes_20 : decode cX6_minutes 20 = .ok (.getfield 35, 3) := dk_180 0 35 (dk_at dksX6_minutes_0 20 rfl rfl)
theorem dX6_minutes_23 : decode cX6_minutes 23 = .ok (.aload_n 0, 1) := dk_42 (dk_at dksX6_minutes_0 23 rfl rfl)
theorem dX6_minutes_24 : decode cX6_minutes 24 = .ok (.getfield 25, 3) := dk_180 0 25 (dk_at dksX6_minutes_1 0 rfl rfl)
theorem dX6_minutes_27 : decode cX6_minutes 27 = .ok (.iaload, 1) := dk_46 (dk_at dksX6_minutes_1 3 rfl rfl)
theorem dX6_minutes_28 : decode cX6_minutes 28 = .ok (.ifCond .eq 23, 3) := dk_153 0 23 (dk_at dksX6_minutes_1 4 rfl rfl)
theorem dX6_minutes_31 : decode cX6_minutes 31 = .ok (.aload_n 0, 1) := dk_42 (dk_at dksX6_minutes_1 7 rfl rfl)
theorem dX6_minutes_32 : decode cX6_minutes 32 = .ok (.aload_n 1, 1) := dk_43 (dk_at dksX6_minutes_1 8 rfl rfl)
theorem dX6_minutes_33 : decode cX6_minutes 33 = .ok (.aload_n 2, 1) := dk_44 (dk_at dksX6_minutes_1 9 rfl rfl)
theorem dX6_minutes_34 : decode cX6_minutes 34 = .ok (.iconst 1, 1) := dk_4 (dk_at dksX6_minutes_1 10 rfl rfl)
theorem dX6_minutes_35 : decode cX6_minutes 35 = .ok (.invokevirtual 38, 3) := dk_182 0 38 (dk_at dksX6_minutes_1 11 rfl rfl)
theorem dX6_minutes_38 : decode cX6_minutes 38 = .ok (.ifCond .eq 13, 3) := dk_153 0 13 (dk_at dksX6_minutes_1 14 rfl rfl)
theorem dX6_minutes_41 : decode cX6_minutes 41 = .ok (.aload_n 0, 1) := dk_42 (dk_at dksX6_minutes_1 17 rfl rfl)
theorem dX6_minutes_42 : decode cX6_minutes 42 = .ok (.aload_n 1, 1) := dk_43 (dk_at dksX6_minutes_1 18 rfl rfl)
theorem dX6_minutes_43 : decode cX6_minutes 43 = .ok (.aload_n 2, 1) := dk_44 (dk_at dksX6_minutes_1 19 rfl rfl)
theorem dX6_minutes_44 : decode cX6_minutes 44 = .ok (.iload_n 3, 1) := dk_29 (dk_at dksX6_minutes_1 20 rfl rfl)
theorem dX6_minutes_45 : decode cX6_minutes 45 = .ok (.invokevirtual 42, 3) := dk_182 0 42 (dk_at dksX6_minutes_1 21 rfl rfl)
theorem dX6_minutes_48 : decode cX6_minutes 48 = .ok (.ifCond .ne 6, 3) := dk_154 0 6 (dk_at dksX6_minutes_2 0 rfl rfl)
theorem dX6_minutes_51 : decode cX6_minutes 51 = .ok (.bipush (-3), 2) := dk_16 253 (dk_at dksX6_minutes_2 3 rfl rfl)
theorem dX6_minutes_53 : decode cX6_minutes 53 = .ok (.ireturn, 1) := dk_172 (dk_at dksX6_minutes_2 5 rfl rfl)
theorem dX6_minutes_54 : decode cX6_minutes 54 = .ok (.aload_n 0, 1) := dk_42 (dk_at dksX6_minutes_2 6 rfl rfl)
theorem dX6_minutes_55 : decode cX6_minutes 55 = .ok (.invokevirtual 45, 3) := dk_182 0 45 (dk_at dksX6_minutes_2 7 rfl rfl)
theorem dX6_minutes_58 : decode cX6_minutes 58 = .ok (.aload_n 0, 1) := dk_42 (dk_at dksX6_minutes_2 10 rfl rfl)
theorem dX6_minutes_59 : decode cX6_minutes 59 = .ok (.getfield 49, 3) := dk_180 0 49 (dk_at dksX6_minutes_2 11 rfl rfl)
theorem dX6_minutes_62 : decode cX6_minutes 62 = .ok (.invokestatic 52, 3) := dk_184 0 52 (dk_at dksX6_minutes_2 14 rfl rfl)
theorem dX6_minutes_65 : decode cX6_minutes 65 = .ok (.iload_n 3, 1) := dk_29 (dk_at dksX6_minutes_2 17 rfl rfl)
theorem dX6_minutes_66 : decode cX6_minutes 66 = .ok (.bipush 10, 2) := dk_16 10 (dk_at dksX6_minutes_2 18 rfl rfl)
theorem dX6_minutes_68 : decode cX6_minutes 68 = .ok (.idiv, 1) := dk_108 (dk_at dksX6_minutes_2 20 rfl rfl)
theorem dX6_minutes_69 : decode cX6_minutes 69 = .ok (.iconst 1, 1) := dk_4 (dk_at dksX6_minutes_2 21 rfl rfl)
theorem dX6_minutes_70 : decode cX6_minutes 70 = .ok (.iadd, 1) := dk_96 (dk_at dksX6_minutes_2 22 rfl rfl)
theorem dX6_minutes_71 : decode cX6_minutes 71 = .ok (.imul, 1) := dk_104 (dk_at dksX6_minutes_2 23 rfl rfl)
theorem dX6_minutes_72 : decode cX6_minutes 72 = .ok (.iadd, 1) := dk_96 (dk_at dksX6_minutes_3 0 rfl rfl)
theorem dX6_minutes_73 : decode cX6_minutes 73 = .ok (.ireturn, 1) := dk_172 (dk_at dksX6_minutes_3 1 rfl rfl)
abbrev cX6_reaches : ByteArray := prog_4_method_3_code
def yX6_reaches : MethodName := ⟨RX6, "reaches", "(LDownRope$Face;LDownRope$Spot;I)Z"⟩
def dkwX6_reaches_1 : List UInt8 := [46, 163, 0, 7, 4, 167, 0, 4, 3, 172]
abbrev dktX6_reaches_1 : List UInt8 := dkwX6_reaches_1 ++ []
def dkwX6_reaches_0 : List UInt8 := [42, 43, 44, 42, 180, 0, 9, 182, 0, 15, 153, 0, 22, 5, 29, 104, 43, 180, 0, 19, 42, 180, 0, 9]
abbrev dktX6_reaches_0 : List UInt8 := dkwX6_reaches_0 ++ dktX6_reaches_1
theorem dksX6_reaches_0 : cX6_reaches.data.toList.drop 0 = dktX6_reaches_0 := by decide +kernel
theorem dksX6_reaches_1 : cX6_reaches.data.toList.drop 24 = dktX6_reaches_1 := dk_seg dksX6_reaches_0 24 rfl rfl
theorem dX6_reaches_0 : decode cX6_reaches 0 = .ok (.aload_n 0, 1) := dk_42 (dk_at dksX6_reaches_0 0 rfl rfl)
theorem dX6_reaches_1 : decode cX6_reaches 1 = .ok (.aload_n 1, 1) := dk_43 (dk_at dksX6_reaches_0 1 rfl rfl)
theorem dX6_reaches_2 : decode cX6_reaches 2 = .ok (.aload_n 2, 1) := dk_44 (dk_at dksX6_reaches_0 2 rfl rfl)
theorem dX6_reaches_3 : decode cX6_reaches 3 = .ok (.aload_n 0, 1) := dk_42 (dk_at dksX6_reaches_0 3 rfl rfl)
theorem dX6_reaches_4 : decode cX6_reaches 4 = .ok (.getfield 9, 3) := dk_180 0 9 (dk_at dksX6_reaches_0 4 rfl rfl)
theorem dX6_reaches_7 : decode cX6_reaches 7 = .ok (.invokevirtual 15, 3) := dk_182 0 15 (dk_at dksX6_reaches_0 7 rfl rfl)
theorem dX6_reaches_10 : decode cX6_reaches 10 = .ok (.ifCond .eq 22, 3) := dk_153 0 22 (dk_at dksX6_reaches_0 10 rfl rfl)
theorem dX6_reaches_13 : decode cX6_reaches 13 = .ok (.iconst 2, 1) := dk_5 (dk_at dksX6_reaches_0 13 rfl rfl)
theorem dX6_reaches_14 : decode cX6_reaches 14 = .ok (.iload_n 3, 1) := dk_29 (dk_at dksX6_reaches_0 14 rfl rfl)
theorem dX6_reaches_15 : decode cX6_reaches 15 = .ok (.imul, 1) := dk_104 (dk_at dksX6_reaches_0 15 rfl rfl)
theorem dX6_reaches_16 : decode cX6_reaches 16 = .ok (.aload_n 1, 1) := dk_43 (dk_at dksX6_reaches_0 16 rfl rfl)
theorem dX6_reaches_17 : decode cX6_reaches 17 = .ok (.getfield 19, 3) := dk_180 0 19 (dk_at dksX6_reaches_0 17 rfl rfl)
theorem dX6_reaches_20 : decode cX6_reaches 20 = .ok (.aload_n 0, 1) := dk_42 (dk_at dksX6_reaches_0 20 rfl rfl)
theorem dX6_reaches_21 : decode cX6_reaches 21 = .ok (.getfield 9, 3) := dk_180 0 9 (dk_at dksX6_reaches_0 21 rfl rfl)
theorem dX6_reaches_24 : decode cX6_reaches 24 = .ok (.iaload, 1) := dk_46 (dk_at dksX6_reaches_1 0 rfl rfl)
theorem dX6_reaches_25 : decode cX6_reaches 25 = .ok (.if_icmp .gt 7, 3) := dk_163 0 7 (dk_at dksX6_reaches_1 1 rfl rfl)
theorem dX6_reaches_28 : decode cX6_reaches 28 = .ok (.iconst 1, 1) := dk_4 (dk_at dksX6_reaches_1 4 rfl rfl)
theorem dX6_reaches_29 : decode cX6_reaches 29 = .ok (.goto 4, 3) := dk_167 0 4 (dk_at dksX6_reaches_1 5 rfl rfl)
theorem dX6_reaches_32 : decode cX6_reaches 32 = .ok (.iconst 0, 1) := dk_3 (dk_at dksX6_reaches_1 8 rfl rfl)
theorem dX6_reaches_33 : decode cX6_reaches 33 = .ok (.ireturn, 1) := dk_172 (dk_at dksX6_reaches_1 9 rfl rfl)
abbrev cX6_more : ByteArray := prog_4_method_4_code
def yX6_more : MethodName := ⟨RX6, "more", "()I"⟩
theorem dX6_more_0 : decode cX6_more 0 = .ok (.iconst 4, 1) := by decide +kernel
theorem dX6_more_1 : decode cX6_more 1 = .ok (.ireturn, 1) := by decide +kernel
abbrev cX6_does : ByteArray := prog_4_method_6_code
def yX6_does : MethodName := ⟨RX6, "does", "(LDownRope$Spot;)V"⟩
def dkwX6_does_0 : List UInt8 := [42, 43, 183, 0, 56, 43, 180, 0, 60, 42, 180, 0, 9, 42, 180, 0, 28, 79, 177]
abbrev dktX6_does_0 : List UInt8 := dkwX6_does_0 ++ []
theorem dksX6_does_0 : cX6_does.data.toList.drop 0 = dktX6_does_0 := by decide +kernel
theorem dX6_does_0 : decode cX6_does 0 = .ok (.aload_n 0, 1) := dk_42 (dk_at dksX6_does_0 0 rfl rfl)
theorem dX6_does_1 : decode cX6_does 1 = .ok (.aload_n 1, 1) := dk_43 (dk_at dksX6_does_0 1 rfl rfl)
theorem dX6_does_2 : decode cX6_does 2 = .ok (.invokespecial 56, 3) := dk_183 0 56 (dk_at dksX6_does_0 2 rfl rfl)
theorem dX6_does_5 : decode cX6_does 5 = .ok (.aload_n 1, 1) := dk_43 (dk_at dksX6_does_0 5 rfl rfl)
theorem dX6_does_6 : decode cX6_does 6 = .ok (.getfield 60, 3) := dk_180 0 60 (dk_at dksX6_does_0 6 rfl rfl)
theorem dX6_does_9 : decode cX6_does 9 = .ok (.aload_n 0, 1) := dk_42 (dk_at dksX6_does_0 9 rfl rfl)
theorem dX6_does_10 : decode cX6_does 10 = .ok (.getfield 9, 3) := dk_180 0 9 (dk_at dksX6_does_0 10 rfl rfl)
theorem dX6_does_13 : decode cX6_does 13 = .ok (.aload_n 0, 1) := dk_42 (dk_at dksX6_does_0 13 rfl rfl)
theorem dX6_does_14 : decode cX6_does 14 = .ok (.getfield 28, 3) := dk_180 0 28 (dk_at dksX6_does_0 14 rfl rfl)
theorem dX6_does_17 : decode cX6_does 17 = .ok (.iastore, 1) := dk_79 (dk_at dksX6_does_0 17 rfl rfl)
theorem dX6_does_18 : decode cX6_does 18 = .ok (.return_, 1) := dk_177 (dk_at dksX6_does_0 18 rfl rfl)
abbrev cX6_kind : ByteArray := prog_4_method_2_code
def yX6_kind : MethodName := ⟨RX6, "kind", "()I"⟩
theorem dX6_kind_0 : decode cX6_kind 0 = .ok (.iconst 1, 1) := by decide +kernel
theorem dX6_kind_1 : decode cX6_kind 1 = .ok (.ireturn, 1) := by decide +kernel
abbrev cX6_init : ByteArray := prog_4_method_1_code
def yX6_init : MethodName := ⟨RX6, "<init>", "()V"⟩
theorem dX6_init_0 : decode cX6_init 0 = .ok (.aload_n 0, 1) := by decide +kernel
theorem dX6_init_1 : decode cX6_init 1 = .ok (.invokespecial 3, 3) := by decide +kernel
theorem dX6_init_4 : decode cX6_init 4 = .ok (.return_, 1) := by decide +kernel
abbrev cX6_effort : ByteArray := prog_4_method_7_code
def yX6_effort : MethodName := ⟨RX6, "effort", "(LDownRope$Face;)I"⟩
def dkwX6_effort_0 : List UInt8 := [42, 43, 183, 0, 64, 5, 42, 180, 0, 49, 184, 0, 52, 104, 96, 172]
abbrev dktX6_effort_0 : List UInt8 := dkwX6_effort_0 ++ []
theorem dksX6_effort_0 : cX6_effort.data.toList.drop 0 = dktX6_effort_0 := by decide +kernel
theorem dX6_effort_0 : decode cX6_effort 0 = .ok (.aload_n 0, 1) := dk_42 (dk_at dksX6_effort_0 0 rfl rfl)
theorem dX6_effort_1 : decode cX6_effort 1 = .ok (.aload_n 1, 1) := dk_43 (dk_at dksX6_effort_0 1 rfl rfl)
theorem dX6_effort_2 : decode cX6_effort 2 = .ok (.invokespecial 64, 3) := dk_183 0 64 (dk_at dksX6_effort_0 2 rfl rfl)
theorem dX6_effort_5 : decode cX6_effort 5 = .ok (.iconst 2, 1) := dk_5 (dk_at dksX6_effort_0 5 rfl rfl)
theorem dX6_effort_6 : decode cX6_effort 6 = .ok (.aload_n 0, 1) := dk_42 (dk_at dksX6_effort_0 6 rfl rfl)
theorem dX6_effort_7 : decode cX6_effort 7 = .ok (.getfield 49, 3) := dk_180 0 49 (dk_at dksX6_effort_0 7 rfl rfl)
theorem dX6_effort_10 : decode cX6_effort 10 = .ok (.invokestatic 52, 3) := dk_184 0 52 (dk_at dksX6_effort_0 10 rfl rfl)
theorem dX6_effort_13 : decode cX6_effort 13 = .ok (.imul, 1) := dk_104 (dk_at dksX6_effort_0 13 rfl rfl)
theorem dX6_effort_14 : decode cX6_effort 14 = .ok (.iadd, 1) := dk_96 (dk_at dksX6_effort_0 14 rfl rfl)
theorem dX6_effort_15 : decode cX6_effort 15 = .ok (.ireturn, 1) := dk_172 (dk_at dksX6_effort_0 15 rfl rfl)
theorem q81 : (Jvm.Cond.initialized "DownRope$Doubled") ∈ lw_all := lw_g (lw_at lw_m1 6 rfl) rfl
theorem q387 : (Jvm.Cond.selects "DownRope$Doubled" ({ cls := "DownRope$Move", name := "tells", desc := "(IIII)LDownRope$Move;" } : Jvm.MethodName) ({ cls := "DownRope$Move", name := "tells", desc := "(IIII)LDownRope$Move;" } : Jvm.MethodName)) ∈ lw_all := lw_g (lw_at lw_m2 72 rfl) rfl
theorem q422 : (Jvm.Cond.selects "DownRope$Doubled" ({ cls := "DownRope$Move", name := "minutes", desc := "(LDownRope$Face;LDownRope$Spot;)I" } : Jvm.MethodName) ({ cls := "DownRope$Doubled", name := "minutes", desc := "(LDownRope$Face;LDownRope$Spot;)I" } : Jvm.MethodName)) ∈ lw_all := lw_g (lw_at lw_m2 107 rfl) rfl
theorem q423 : (Jvm.Cond.instanceMethod ({ cls := "DownRope$Doubled", name := "minutes", desc := "(LDownRope$Face;LDownRope$Spot;)I" } : Jvm.MethodName)) ∈ lw_all := lw_g (lw_at lw_m2 108 rfl) rfl
theorem q424 : (Jvm.Cond.code ({ cls := "DownRope$Doubled", name := "minutes", desc := "(LDownRope$Face;LDownRope$Spot;)I" } : Jvm.MethodName) prog_4_method_5_code (4 : Nat) (Option.some Jvm.ClassFile.FieldType.int)) ∈ lw_all := lw_g (lw_at lw_m2 109 rfl) rfl
theorem q425 : (Jvm.Cond.methodLink "DownRope$Doubled" (31 : Nat) ({ cls := "DownRope$Face", name := "far", desc := "(II)I" } : Jvm.MethodName)) ∈ lw_all := lw_g (lw_at lw_m2 110 rfl) rfl
theorem q426 : (Jvm.Cond.methodLink "DownRope$Doubled" (38 : Nat) ({ cls := "DownRope$Doubled", name := "canGo", desc := "(LDownRope$Face;LDownRope$Spot;Z)Z" } : Jvm.MethodName)) ∈ lw_all := lw_g (lw_at lw_m2 111 rfl) rfl
theorem q427 : (Jvm.Cond.sameMethod "DownRope$Doubled" "DownRope$Move" "canGo" "(LDownRope$Face;LDownRope$Spot;Z)Z") ∈ lw_all := lw_g (lw_at lw_m2 112 rfl) rfl
theorem q428 : (Jvm.Cond.selects "DownRope$Doubled" ({ cls := "DownRope$Doubled", name := "canGo", desc := "(LDownRope$Face;LDownRope$Spot;Z)Z" } : Jvm.MethodName) ({ cls := "DownRope$Move", name := "canGo", desc := "(LDownRope$Face;LDownRope$Spot;Z)Z" } : Jvm.MethodName)) ∈ lw_all := lw_g (lw_at lw_m2 113 rfl) rfl
theorem q430 : (Jvm.Cond.methodLink "DownRope$Doubled" (42 : Nat) ({ cls := "DownRope$Doubled", name := "reaches", desc := "(LDownRope$Face;LDownRope$Spot;I)Z" } : Jvm.MethodName)) ∈ lw_all := lw_g (lw_at lw_m2 115 rfl) rfl
theorem q431 : (Jvm.Cond.instanceMethod ({ cls := "DownRope$Doubled", name := "reaches", desc := "(LDownRope$Face;LDownRope$Spot;I)Z" } : Jvm.MethodName)) ∈ lw_all := lw_g (lw_at lw_m2 116 rfl) rfl
theorem q432 : (Jvm.Cond.selects "DownRope$Doubled" ({ cls := "DownRope$Doubled", name := "reaches", desc := "(LDownRope$Face;LDownRope$Spot;I)Z" } : Jvm.MethodName) ({ cls := "DownRope$Doubled", name := "reaches", desc := "(LDownRope$Face;LDownRope$Spot;I)Z" } : Jvm.MethodName)) ∈ lw_all := lw_g (lw_at lw_m2 117 rfl) rfl
theorem q433 : (Jvm.Cond.sameMethod "DownRope$Doubled" "DownRope$Doubled" "reaches" "(LDownRope$Face;LDownRope$Spot;I)Z") ∈ lw_all := lw_g (lw_at lw_m2 118 rfl) rfl
theorem q444 : (Jvm.Cond.code ({ cls := "DownRope$Doubled", name := "reaches", desc := "(LDownRope$Face;LDownRope$Spot;I)Z" } : Jvm.MethodName) prog_4_method_3_code (4 : Nat) (Option.some Jvm.ClassFile.FieldType.boolean)) ∈ lw_all := lw_g (lw_at lw_m2 129 rfl) rfl
theorem q445 : (Jvm.Cond.methodLink "DownRope$Doubled" (15 : Nat) ({ cls := "DownRope$Doubled", name := "hasRope", desc := "(LDownRope$Face;LDownRope$Spot;I)Z" } : Jvm.MethodName)) ∈ lw_all := lw_g (lw_at lw_m2 130 rfl) rfl
theorem q446 : (Jvm.Cond.sameMethod "DownRope$Doubled" "DownRope$Move" "hasRope" "(LDownRope$Face;LDownRope$Spot;I)Z") ∈ lw_all := lw_g (lw_at lw_m2 131 rfl) rfl
theorem q447 : (Jvm.Cond.selects "DownRope$Doubled" ({ cls := "DownRope$Doubled", name := "hasRope", desc := "(LDownRope$Face;LDownRope$Spot;I)Z" } : Jvm.MethodName) ({ cls := "DownRope$Move", name := "hasRope", desc := "(LDownRope$Face;LDownRope$Spot;I)Z" } : Jvm.MethodName)) ∈ lw_all := lw_g (lw_at lw_m2 132 rfl) rfl
theorem q449 : (Jvm.Cond.methodLink "DownRope$Doubled" (45 : Nat) ({ cls := "DownRope$Doubled", name := "more", desc := "()I" } : Jvm.MethodName)) ∈ lw_all := lw_g (lw_at lw_m2 134 rfl) rfl
theorem q450 : (Jvm.Cond.instanceMethod ({ cls := "DownRope$Doubled", name := "more", desc := "()I" } : Jvm.MethodName)) ∈ lw_all := lw_g (lw_at lw_m2 135 rfl) rfl
theorem q451 : (Jvm.Cond.selects "DownRope$Doubled" ({ cls := "DownRope$Doubled", name := "more", desc := "()I" } : Jvm.MethodName) ({ cls := "DownRope$Doubled", name := "more", desc := "()I" } : Jvm.MethodName)) ∈ lw_all := lw_g (lw_at lw_m2 136 rfl) rfl
theorem q452 : (Jvm.Cond.sameMethod "DownRope$Doubled" "DownRope$Doubled" "more" "()I") ∈ lw_all := lw_g (lw_at lw_m2 137 rfl) rfl
theorem q458 : (Jvm.Cond.code ({ cls := "DownRope$Doubled", name := "more", desc := "()I" } : Jvm.MethodName) prog_4_method_4_code (1 : Nat) (Option.some Jvm.ClassFile.FieldType.int)) ∈ lw_all := lw_g (lw_at lw_m2 143 rfl) rfl
theorem q459 : (Jvm.Cond.methodLinkNest "DownRope$Doubled" (52 : Nat) ({ cls := "DownRope", name := "bits", desc := "(I)I" } : Jvm.MethodName) "DownRope") ∈ lw_tbl := lw_at lw_m2 144 rfl
theorem q509 : (Jvm.Cond.selects "DownRope$Doubled" ({ cls := "DownRope$Move", name := "does", desc := "(LDownRope$Spot;)V" } : Jvm.MethodName) ({ cls := "DownRope$Doubled", name := "does", desc := "(LDownRope$Spot;)V" } : Jvm.MethodName)) ∈ lw_all := lw_g (lw_at lw_m2 194 rfl) rfl
theorem q510 : (Jvm.Cond.instanceMethod ({ cls := "DownRope$Doubled", name := "does", desc := "(LDownRope$Spot;)V" } : Jvm.MethodName)) ∈ lw_all := lw_g (lw_at lw_m2 195 rfl) rfl
theorem q511 : (Jvm.Cond.code ({ cls := "DownRope$Doubled", name := "does", desc := "(LDownRope$Spot;)V" } : Jvm.MethodName) prog_4_method_6_code (2 : Nat) (Option.none : Option Jvm.ClassFile.FieldType)) ∈ lw_all := lw_g (lw_at lw_m2 196 rfl) rfl
theorem q512 : (Jvm.Cond.methodLink "DownRope$Doubled" (56 : Nat) ({ cls := "DownRope$Move", name := "does", desc := "(LDownRope$Spot;)V" } : Jvm.MethodName)) ∈ lw_all := lw_g (lw_at lw_m2 197 rfl) rfl
theorem q513 : (Jvm.Cond.superclass "DownRope$Doubled" "DownRope$Move") ∈ lw_all := lw_g (lw_at lw_m2 198 rfl) rfl
theorem q520 : (Jvm.Cond.selects "DownRope$Doubled" ({ cls := "DownRope$Move", name := "moves", desc := "(LDownRope$Spot;)V" } : Jvm.MethodName) ({ cls := "DownRope$Move", name := "moves", desc := "(LDownRope$Spot;)V" } : Jvm.MethodName)) ∈ lw_all := lw_g (lw_at lw_m2 205 rfl) rfl
theorem q562 : (Jvm.Cond.selects "DownRope$Doubled" ({ cls := "DownRope$Move", name := "told", desc := "()I" } : Jvm.MethodName) ({ cls := "DownRope$Move", name := "told", desc := "()I" } : Jvm.MethodName)) ∈ lw_all := lw_g (lw_at lw_m3 7 rfl) rfl
theorem q575 : (Jvm.Cond.selects "DownRope$Doubled" ({ cls := "DownRope$Move", name := "kind", desc := "()I" } : Jvm.MethodName) ({ cls := "DownRope$Doubled", name := "kind", desc := "()I" } : Jvm.MethodName)) ∈ lw_all := lw_g (lw_at lw_m3 20 rfl) rfl
theorem q576 : (Jvm.Cond.instanceMethod ({ cls := "DownRope$Doubled", name := "kind", desc := "()I" } : Jvm.MethodName)) ∈ lw_all := lw_g (lw_at lw_m3 21 rfl) rfl
theorem q577 : (Jvm.Cond.code ({ cls := "DownRope$Doubled", name := "kind", desc := "()I" } : Jvm.MethodName) prog_4_method_2_code (1 : Nat) (Option.some Jvm.ClassFile.FieldType.int)) ∈ lw_all := lw_g (lw_at lw_m3 22 rfl) rfl
theorem q662 : (Jvm.Cond.fieldLink "DownRope$Doubled" (60 : Nat) "DownRope$Spot" "rope" "[I") ∈ lw_all := lw_g (lw_at lw_m3 107 rfl) rfl
theorem q776 : (Jvm.Cond.fieldLink "DownRope$Doubled" (35 : Nat) "DownRope$Face" "holds" "[I") ∈ lw_all := lw_g (lw_at lw_m3 221 rfl) rfl
theorem q795 : (Jvm.Cond.fieldLink "DownRope$Doubled" (19 : Nat) "DownRope$Face" "length" "[I") ∈ lw_all := lw_g (lw_at lw_m4 0 rfl) rfl
theorem q868 : (Jvm.Cond.fieldLink "DownRope$Doubled" (49 : Nat) "DownRope$Doubled" "set" "I") ∈ lw_all := lw_g (lw_at lw_m4 73 rfl) rfl
theorem q869 : (Jvm.Cond.sameField "DownRope$Doubled" "DownRope$Move" "set" "I") ∈ lw_all := lw_g (lw_at lw_m4 74 rfl) rfl
theorem q872 : (Jvm.Cond.fieldLink "DownRope$Doubled" (9 : Nat) "DownRope$Doubled" "rope" "I") ∈ lw_all := lw_g (lw_at lw_m4 77 rfl) rfl
theorem q873 : (Jvm.Cond.sameField "DownRope$Doubled" "DownRope$Move" "rope" "I") ∈ lw_all := lw_g (lw_at lw_m4 78 rfl) rfl
theorem q892 : (Jvm.Cond.fieldLink "DownRope$Doubled" (25 : Nat) "DownRope$Doubled" "from" "I") ∈ lw_all := lw_g (lw_at lw_m4 97 rfl) rfl
theorem q893 : (Jvm.Cond.sameField "DownRope$Doubled" "DownRope$Move" "from" "I") ∈ lw_all := lw_g (lw_at lw_m4 98 rfl) rfl
theorem q903 : (Jvm.Cond.fieldLink "DownRope$Doubled" (28 : Nat) "DownRope$Doubled" "to" "I") ∈ lw_all := lw_g (lw_at lw_m4 108 rfl) rfl
theorem q904 : (Jvm.Cond.sameField "DownRope$Doubled" "DownRope$Move" "to" "I") ∈ lw_all := lw_g (lw_at lw_m4 109 rfl) rfl
theorem q917 : (Jvm.Cond.instantiable "DownRope$Doubled" (4 : Nat)) ∈ lw_all := lw_g (lw_at lw_m4 122 rfl) rfl
theorem q919 : (Jvm.Cond.instanceMethod ({ cls := "DownRope$Doubled", name := "<init>", desc := "()V" } : Jvm.MethodName)) ∈ lw_all := lw_g (lw_at lw_m4 124 rfl) rfl
theorem q920 : (Jvm.Cond.code ({ cls := "DownRope$Doubled", name := "<init>", desc := "()V" } : Jvm.MethodName) prog_4_method_1_code (1 : Nat) (Option.none : Option Jvm.ClassFile.FieldType)) ∈ lw_all := lw_g (lw_at lw_m4 125 rfl) rfl
theorem q921 : (Jvm.Cond.methodLinkNest "DownRope$Doubled" (3 : Nat) ({ cls := "DownRope$Move", name := "<init>", desc := "()V" } : Jvm.MethodName) "DownRope") ∈ lw_tbl := lw_at lw_m4 126 rfl
theorem q922 : (Jvm.Cond.lays "DownRope$Doubled" "DownRope$Move" "set" "I") ∈ lw_all := lw_g (lw_at lw_m4 127 rfl) rfl
theorem q923 : (Jvm.Cond.lays "DownRope$Doubled" "DownRope$Move" "rope" "I") ∈ lw_all := lw_g (lw_at lw_m4 128 rfl) rfl
theorem q924 : (Jvm.Cond.lays "DownRope$Doubled" "DownRope$Move" "from" "I") ∈ lw_all := lw_g (lw_at lw_m4 129 rfl) rfl
theorem q925 : (Jvm.Cond.lays "DownRope$Doubled" "DownRope$Move" "to" "I") ∈ lw_all := lw_g (lw_at lw_m4 130 rfl) rfl
theorem q1149 : (Jvm.Cond.selects "DownRope$Doubled" ({ cls := "DownRope$Tires", name := "effort", desc := "(LDownRope$Face;)I" } : Jvm.MethodName) ({ cls := "DownRope$Doubled", name := "effort", desc := "(LDownRope$Face;)I" } : Jvm.MethodName)) ∈ lw_all := lw_g (lw_at lw_m5 114 rfl) rfl
theorem q1150 : (Jvm.Cond.instanceMethod ({ cls := "DownRope$Doubled", name := "effort", desc := "(LDownRope$Face;)I" } : Jvm.MethodName)) ∈ lw_all := lw_g (lw_at lw_m5 115 rfl) rfl
theorem q1151 : (Jvm.Cond.code ({ cls := "DownRope$Doubled", name := "effort", desc := "(LDownRope$Face;)I" } : Jvm.MethodName) prog_4_method_7_code (2 : Nat) (Option.some Jvm.ClassFile.FieldType.int)) ∈ lw_all := lw_g (lw_at lw_m5 116 rfl) rfl
theorem q1177 : (Jvm.Cond.selects "DownRope$Doubled" ({ cls := "DownRope$Move", name := "failure", desc := "()LDownRope$Tossed;" } : Jvm.MethodName) ({ cls := "DownRope$Move", name := "failure", desc := "()LDownRope$Tossed;" } : Jvm.MethodName)) ∈ lw_all := lw_g (lw_at lw_m5 142 rfl) rfl
theorem q1182 : (Jvm.Cond.sameMethod "DownRope$Doubled" "DownRope$Move" "failure" "()LDownRope$Tossed;") ∈ lw_all := lw_g (lw_at lw_m5 147 rfl) rfl
theorem q1745 : (Jvm.Cond.sameMethod "DownRope$Doubled" "DownRope$Doubled" "does" "(LDownRope$Spot;)V") ∈ lw_all := lw_g (lw_at lw_m7 230 rfl) rfl
theorem q1746 : (Jvm.Cond.sameMethod "DownRope$Doubled" "DownRope$Doubled" "effort" "(LDownRope$Face;)I") ∈ lw_all := lw_g (lw_at lw_m7 231 rfl) rfl
theorem q1750 : (Jvm.Cond.castable "DownRope$Doubled" "DownRope$Move") ∈ lw_tbl := lw_at lw_m7 235 rfl
theorem in_X6 : ∀ w ∈ wsX60, w ∈ lw_all := lw_in wsX60 [922, 923, 924, 925] (by decide +kernel) (by decide +kernel)
/-! DownRope$Single -/
set_option maxRecDepth 100000
def RX7 : String := "DownRope$Single"
def TX7 : u_T := fun k => match k with
  | 0 => ("DownRope$Move", "set", "I", false)
  | 1 => ("DownRope$Move", "rope", "I", false)
  | 2 => ("DownRope$Move", "from", "I", false)
  | _ => ("DownRope$Move", "to", "I", false)
def tyX7 : Nat → FieldType := fun k => match k with
  | 0 => .int
  | 1 => .int
  | 2 => .int
  | _ => .int
abbrev wsX70 : List Cond := u_ws RX7 TX7 4
theorem nmX7 : ∀ a, a < 4 → ∀ b, b < 4 → a ≠ b → (TX7 a).2.1 ≠ (TX7 b).2.1 := by decide +kernel
theorem tyX7_ok : ∀ k, k < 4 → parseFieldDescriptor (TX7 k).2.2.1 = some (tyX7 k) := by decide +kernel
abbrev cX7_minutes : ByteArray := prog_13_method_3_code
def yX7_minutes : MethodName := ⟨RX7, "minutes", "(LDownRope$Face;LDownRope$Spot;)I"⟩
def dkwX7_minutes_3 : List UInt8 := [180, 0, 42, 184, 0, 45, 29, 16, 10, 108, 4, 96, 104, 96, 172]
abbrev dktX7_minutes_3 : List UInt8 := dkwX7_minutes_3 ++ []
def dkwX7_minutes_2 : List UInt8 := [182, 0, 35, 153, 0, 16, 29, 43, 180, 0, 39, 42, 180, 0, 32, 46, 164, 0, 6, 16, 253, 172, 5, 42]
abbrev dktX7_minutes_2 : List UInt8 := dkwX7_minutes_2 ++ dktX7_minutes_3
def dkwX7_minutes_1 : List UInt8 := [180, 0, 9, 46, 153, 0, 39, 42, 43, 44, 4, 182, 0, 28, 153, 0, 29, 42, 43, 44, 42, 180, 0, 32]
abbrev dktX7_minutes_1 : List UInt8 := dkwX7_minutes_1 ++ dktX7_minutes_2
def dkwX7_minutes_0 : List UInt8 := [43, 42, 180, 0, 9, 42, 180, 0, 15, 182, 0, 18, 62, 29, 16, 252, 159, 0, 51, 43, 180, 0, 24, 42]
abbrev dktX7_minutes_0 : List UInt8 := dkwX7_minutes_0 ++ dktX7_minutes_1
theorem dksX7_minutes_0 : cX7_minutes.data.toList.drop 0 = dktX7_minutes_0 := by decide +kernel
theorem dksX7_minutes_1 : cX7_minutes.data.toList.drop 24 = dktX7_minutes_1 := dk_seg dksX7_minutes_0 24 rfl rfl
theorem dksX7_minutes_2 : cX7_minutes.data.toList.drop 48 = dktX7_minutes_2 := dk_seg dksX7_minutes_1 24 rfl rfl
theorem dksX7_minutes_3 : cX7_minutes.data.toList.drop 72 = dktX7_minutes_3 := dk_seg dksX7_minutes_2 24 rfl rfl
theorem dX7_minutes_0 : decode cX7_minutes 0 = .ok (.aload_n 1, 1) := dk_43 (dk_at dksX7_minutes_0 0 rfl rfl)
theorem dX7_minutes_1 : decode cX7_minutes 1 = .ok (.aload_n 0, 1) := dk_42 (dk_at dksX7_minutes_0 1 rfl rfl)
theorem dX7_minutes_2 : decode cX7_minutes 2 = .ok (.getfield 9, 3) := dk_180 0 9 (dk_at dksX7_minutes_0 2 rfl rfl)
theorem dX7_minutes_5 : decode cX7_minutes 5 = .ok (.aload_n 0, 1) := dk_42 (dk_at dksX7_minutes_0 5 rfl rfl)
theorem dX7_minutes_6 : decode cX7_minutes 6 = .ok (.getfield 15, 3) := dk_180 0 15 (dk_at dksX7_minutes_0 6 rfl rfl)
theorem dX7_minutes_9 : decode cX7_minutes 9 = .ok (.invokevirtual 18, 3) := dk_182 0 18 (dk_at dksX7_minutes_0 9 rfl rfl)
theorem dX7_minutes_12 : decode cX7_minutes 12 = .ok (.istore_n 3, 1) := dk_62 (dk_at dksX7_minutes_0 12 rfl rfl)
theorem dX7_minutes_13 : decode cX7_minutes 13 = .ok (.iload_n 3, 1) := dk_29 (dk_at dksX7_minutes_0 13 rfl rfl)
theorem dX7_minutes_14 : decode cX7_minutes 14 = .ok (.bipush (-4), 2) := dk_16 252 (dk_at dksX7_minutes_0 14 rfl rfl)
theorem dX7_minutes_16 : decode cX7_minutes 16 = .ok (.if_icmp .eq 51, 3) := dk_159 0 51 (dk_at dksX7_minutes_0 16 rfl rfl)
theorem dX7_minutes_19 : decode cX7_minutes 19 = .ok (.aload_n 1, 1) := dk_43 (dk_at dksX7_minutes_0 19 rfl rfl)
theorem dX7_minutes_20 : decode cX7_minutes 20 = .ok (.getfield 24, 3) := dk_180 0 24 (dk_at dksX7_minutes_0 20 rfl rfl)
theorem dX7_minutes_23 : decode cX7_minutes 23 = .ok (.aload_n 0, 1) := dk_42 (dk_at dksX7_minutes_0 23 rfl rfl)
theorem dX7_minutes_24 : decode cX7_minutes 24 = .ok (.getfield 9, 3) := dk_180 0 9 (dk_at dksX7_minutes_1 0 rfl rfl)
theorem dX7_minutes_27 : decode cX7_minutes 27 = .ok (.iaload, 1) := dk_46 (dk_at dksX7_minutes_1 3 rfl rfl)
theorem dX7_minutes_28 : decode cX7_minutes 28 = .ok (.ifCond .eq 39, 3) := dk_153 0 39 (dk_at dksX7_minutes_1 4 rfl rfl)
theorem dX7_minutes_31 : decode cX7_minutes 31 = .ok (.aload_n 0, 1) := dk_42 (dk_at dksX7_minutes_1 7 rfl rfl)
theorem dX7_minutes_32 : decode cX7_minutes 32 = .ok (.aload_n 1, 1) := dk_43 (dk_at dksX7_minutes_1 8 rfl rfl)
theorem dX7_minutes_33 : decode cX7_minutes 33 = .ok (.aload_n 2, 1) := dk_44 (dk_at dksX7_minutes_1 9 rfl rfl)
theorem dX7_minutes_34 : decode cX7_minutes 34 = .ok (.iconst 1, 1) := dk_4 (dk_at dksX7_minutes_1 10 rfl rfl)
theorem dX7_minutes_35 : decode cX7_minutes 35 = .ok (.invokevirtual 28, 3) := dk_182 0 28 (dk_at dksX7_minutes_1 11 rfl rfl)
theorem dX7_minutes_38 : decode cX7_minutes 38 = .ok (.ifCond .eq 29, 3) := dk_153 0 29 (dk_at dksX7_minutes_1 14 rfl rfl)
theorem dX7_minutes_41 : decode cX7_minutes 41 = .ok (.aload_n 0, 1) := dk_42 (dk_at dksX7_minutes_1 17 rfl rfl)
theorem dX7_minutes_42 : decode cX7_minutes 42 = .ok (.aload_n 1, 1) := dk_43 (dk_at dksX7_minutes_1 18 rfl rfl)
theorem dX7_minutes_43 : decode cX7_minutes 43 = .ok (.aload_n 2, 1) := dk_44 (dk_at dksX7_minutes_1 19 rfl rfl)
theorem dX7_minutes_44 : decode cX7_minutes 44 = .ok (.aload_n 0, 1) := dk_42 (dk_at dksX7_minutes_1 20 rfl rfl)
theorem dX7_minutes_45 : decode cX7_minutes 45 = .ok (.getfield 32, 3) := dk_180 0 32 (dk_at dksX7_minutes_1 21 rfl rfl)
theorem dX7_minutes_48 : decode cX7_minutes 48 = .ok (.invokevirtual 35, 3) := dk_182 0 35 (dk_at dksX7_minutes_2 0 rfl rfl)
theorem dX7_minutes_51 : decode cX7_minutes 51 = .ok (.ifCond .eq 16, 3) := dk_153 0 16 (dk_at dksX7_minutes_2 3 rfl rfl)
theorem dX7_minutes_54 : decode cX7_minutes 54 = .ok (.iload_n 3, 1) := dk_29 (dk_at dksX7_minutes_2 6 rfl rfl)
theorem dX7_minutes_55 : decode cX7_minutes 55 = .ok (.aload_n 1, 1) := dk_43 (dk_at dksX7_minutes_2 7 rfl rfl)
theorem dX7_minutes_56 : decode cX7_minutes 56 = .ok (.getfield 39, 3) := dk_180 0 39 (dk_at dksX7_minutes_2 8 rfl rfl)
theorem dX7_minutes_59 : decode cX7_minutes 59 = .ok (.aload_n 0, 1) := dk_42 (dk_at dksX7_minutes_2 11 rfl rfl)
theorem dX7_minutes_60 : decode cX7_minutes 60 = .ok (.getfield 32, 3) := dk_180 0 32 (dk_at dksX7_minutes_2 12 rfl rfl)
theorem dX7_minutes_63 : decode cX7_minutes 63 = .ok (.iaload, 1) := dk_46 (dk_at dksX7_minutes_2 15 rfl rfl)
theorem dX7_minutes_64 : decode cX7_minutes 64 = .ok (.if_icmp .le 6, 3) := dk_164 0 6 (dk_at dksX7_minutes_2 16 rfl rfl)
theorem dX7_minutes_67 : decode cX7_minutes 67 = .ok (.bipush (-3), 2) := dk_16 253 (dk_at dksX7_minutes_2 19 rfl rfl)
theorem dX7_minutes_69 : decode cX7_minutes 69 = .ok (.ireturn, 1) := dk_172 (dk_at dksX7_minutes_2 21 rfl rfl)
theorem dX7_minutes_70 : decode cX7_minutes 70 = .ok (.iconst 2, 1) := dk_5 (dk_at dksX7_minutes_2 22 rfl rfl)
theorem dX7_minutes_71 : decode cX7_minutes 71 = .ok (.aload_n 0, 1) := dk_42 (dk_at dksX7_minutes_2 23 rfl rfl)
theorem dX7_minutes_72 : decode cX7_minutes 72 = .ok (.getfield 42, 3) := dk_180 0 42 (dk_at dksX7_minutes_3 0 rfl rfl)
theorem dX7_minutes_75 : decode cX7_minutes 75 = .ok (.invokestatic 45, 3) := dk_184 0 45 (dk_at dksX7_minutes_3 3 rfl rfl)
theorem dX7_minutes_78 : decode cX7_minutes 78 = .ok (.iload_n 3, 1) := dk_29 (dk_at dksX7_minutes_3 6 rfl rfl)
theorem dX7_minutes_79 : decode cX7_minutes 79 = .ok (.bipush 10, 2) := dk_16 10 (dk_at dksX7_minutes_3 7 rfl rfl)
theorem dX7_minutes_81 : decode cX7_minutes 81 = .ok (.idiv, 1) := dk_108 (dk_at dksX7_minutes_3 9 rfl rfl)
theorem dX7_minutes_82 : decode cX7_minutes 82 = .ok (.iconst 1, 1) := dk_4 (dk_at dksX7_minutes_3 10 rfl rfl)
theorem dX7_minutes_83 : decode cX7_minutes 83 = .ok (.iadd, 1) := dk_96 (dk_at dksX7_minutes_3 11 rfl rfl)
theorem dX7_minutes_84 : decode cX7_minutes 84 = .ok (.imul, 1) := dk_104 (dk_at dksX7_minutes_3 12 rfl rfl)
theorem dX7_minutes_85 : decode cX7_minutes 85 = .ok (.iadd, 1) := dk_96 (dk_at dksX7_minutes_3 13 rfl rfl)
theorem dX7_minutes_86 : decode cX7_minutes 86 = .ok (.ireturn, 1) := dk_172 (dk_at dksX7_minutes_3 14 rfl rfl)
abbrev cX7_does : ByteArray := prog_13_method_4_code
def yX7_does : MethodName := ⟨RX7, "does", "(LDownRope$Spot;)V"⟩
def dkwX7_does_0 : List UInt8 := [42, 43, 183, 0, 49, 43, 180, 0, 53, 42, 180, 0, 32, 8, 79, 177]
abbrev dktX7_does_0 : List UInt8 := dkwX7_does_0 ++ []
theorem dksX7_does_0 : cX7_does.data.toList.drop 0 = dktX7_does_0 := by decide +kernel
theorem dX7_does_0 : decode cX7_does 0 = .ok (.aload_n 0, 1) := dk_42 (dk_at dksX7_does_0 0 rfl rfl)
theorem dX7_does_1 : decode cX7_does 1 = .ok (.aload_n 1, 1) := dk_43 (dk_at dksX7_does_0 1 rfl rfl)
theorem dX7_does_2 : decode cX7_does 2 = .ok (.invokespecial 49, 3) := dk_183 0 49 (dk_at dksX7_does_0 2 rfl rfl)
theorem dX7_does_5 : decode cX7_does 5 = .ok (.aload_n 1, 1) := dk_43 (dk_at dksX7_does_0 5 rfl rfl)
theorem dX7_does_6 : decode cX7_does 6 = .ok (.getfield 53, 3) := dk_180 0 53 (dk_at dksX7_does_0 6 rfl rfl)
theorem dX7_does_9 : decode cX7_does 9 = .ok (.aload_n 0, 1) := dk_42 (dk_at dksX7_does_0 9 rfl rfl)
theorem dX7_does_10 : decode cX7_does 10 = .ok (.getfield 32, 3) := dk_180 0 32 (dk_at dksX7_does_0 10 rfl rfl)
theorem dX7_does_13 : decode cX7_does 13 = .ok (.iconst 5, 1) := dk_8 (dk_at dksX7_does_0 13 rfl rfl)
theorem dX7_does_14 : decode cX7_does 14 = .ok (.iastore, 1) := dk_79 (dk_at dksX7_does_0 14 rfl rfl)
theorem dX7_does_15 : decode cX7_does 15 = .ok (.return_, 1) := dk_177 (dk_at dksX7_does_0 15 rfl rfl)
abbrev cX7_kind : ByteArray := prog_13_method_2_code
def yX7_kind : MethodName := ⟨RX7, "kind", "()I"⟩
theorem dX7_kind_0 : decode cX7_kind 0 = .ok (.iconst 2, 1) := by decide +kernel
theorem dX7_kind_1 : decode cX7_kind 1 = .ok (.ireturn, 1) := by decide +kernel
abbrev cX7_init : ByteArray := prog_13_method_1_code
def yX7_init : MethodName := ⟨RX7, "<init>", "()V"⟩
theorem dX7_init_0 : decode cX7_init 0 = .ok (.aload_n 0, 1) := by decide +kernel
theorem dX7_init_1 : decode cX7_init 1 = .ok (.invokespecial 3, 3) := by decide +kernel
theorem dX7_init_4 : decode cX7_init 4 = .ok (.return_, 1) := by decide +kernel
abbrev cX7_effort : ByteArray := prog_13_method_5_code
def yX7_effort : MethodName := ⟨RX7, "effort", "(LDownRope$Face;)I"⟩
def dkwX7_effort_1 : List UInt8 := [3, 167, 0, 7, 28, 16, 10, 108, 96, 172]
abbrev dktX7_effort_1 : List UInt8 := dkwX7_effort_1 ++ []
def dkwX7_effort_0 : List UInt8 := [43, 42, 180, 0, 9, 42, 180, 0, 15, 182, 0, 18, 61, 42, 43, 183, 0, 57, 28, 16, 252, 160, 0, 7]
abbrev dktX7_effort_0 : List UInt8 := dkwX7_effort_0 ++ dktX7_effort_1
theorem dksX7_effort_0 : cX7_effort.data.toList.drop 0 = dktX7_effort_0 := by decide +kernel
theorem dksX7_effort_1 : cX7_effort.data.toList.drop 24 = dktX7_effort_1 := dk_seg dksX7_effort_0 24 rfl rfl
theorem dX7_effort_0 : decode cX7_effort 0 = .ok (.aload_n 1, 1) := dk_43 (dk_at dksX7_effort_0 0 rfl rfl)
theorem dX7_effort_1 : decode cX7_effort 1 = .ok (.aload_n 0, 1) := dk_42 (dk_at dksX7_effort_0 1 rfl rfl)
theorem dX7_effort_2 : decode cX7_effort 2 = .ok (.getfield 9, 3) := dk_180 0 9 (dk_at dksX7_effort_0 2 rfl rfl)
theorem dX7_effort_5 : decode cX7_effort 5 = .ok (.aload_n 0, 1) := dk_42 (dk_at dksX7_effort_0 5 rfl rfl)
theorem dX7_effort_6 : decode cX7_effort 6 = .ok (.getfield 15, 3) := dk_180 0 15 (dk_at dksX7_effort_0 6 rfl rfl)
theorem dX7_effort_9 : decode cX7_effort 9 = .ok (.invokevirtual 18, 3) := dk_182 0 18 (dk_at dksX7_effort_0 9 rfl rfl)
theorem dX7_effort_12 : decode cX7_effort 12 = .ok (.istore_n 2, 1) := dk_61 (dk_at dksX7_effort_0 12 rfl rfl)
theorem dX7_effort_13 : decode cX7_effort 13 = .ok (.aload_n 0, 1) := dk_42 (dk_at dksX7_effort_0 13 rfl rfl)
theorem dX7_effort_14 : decode cX7_effort 14 = .ok (.aload_n 1, 1) := dk_43 (dk_at dksX7_effort_0 14 rfl rfl)
theorem dX7_effort_15 : decode cX7_effort 15 = .ok (.invokespecial 57, 3) := dk_183 0 57 (dk_at dksX7_effort_0 15 rfl rfl)
theorem dX7_effort_18 : decode cX7_effort 18 = .ok (.iload_n 2, 1) := dk_28 (dk_at dksX7_effort_0 18 rfl rfl)
theorem dX7_effort_19 : decode cX7_effort 19 = .ok (.bipush (-4), 2) := dk_16 252 (dk_at dksX7_effort_0 19 rfl rfl)
theorem dX7_effort_21 : decode cX7_effort 21 = .ok (.if_icmp .ne 7, 3) := dk_160 0 7 (dk_at dksX7_effort_0 21 rfl rfl)
theorem dX7_effort_24 : decode cX7_effort 24 = .ok (.iconst 0, 1) := dk_3 (dk_at dksX7_effort_1 0 rfl rfl)
theorem dX7_effort_25 : decode cX7_effort 25 = .ok (.goto 7, 3) := dk_167 0 7 (dk_at dksX7_effort_1 1 rfl rfl)
theorem dX7_effort_28 : decode cX7_effort 28 = .ok (.iload_n 2, 1) := dk_28 (dk_at dksX7_effort_1 4 rfl rfl)
theorem dX7_effort_29 : decode cX7_effort 29 = .ok (.bipush 10, 2) := dk_16 10 (dk_at dksX7_effort_1 5 rfl rfl)
theorem dX7_effort_31 : decode cX7_effort 31 = .ok (.idiv, 1) := dk_108 (dk_at dksX7_effort_1 7 rfl rfl)
theorem dX7_effort_32 : decode cX7_effort 32 = .ok (.iadd, 1) := dk_96 (dk_at dksX7_effort_1 8 rfl rfl)
theorem dX7_effort_33 : decode cX7_effort 33 = .ok (.ireturn, 1) := dk_172 (dk_at dksX7_effort_1 9 rfl rfl)
theorem q82 : (Jvm.Cond.initialized "DownRope$Single") ∈ lw_all := lw_g (lw_at lw_m1 7 rfl) rfl
theorem q390 : (Jvm.Cond.selects "DownRope$Single" ({ cls := "DownRope$Move", name := "tells", desc := "(IIII)LDownRope$Move;" } : Jvm.MethodName) ({ cls := "DownRope$Move", name := "tells", desc := "(IIII)LDownRope$Move;" } : Jvm.MethodName)) ∈ lw_all := lw_g (lw_at lw_m2 75 rfl) rfl
theorem q478 : (Jvm.Cond.selects "DownRope$Single" ({ cls := "DownRope$Move", name := "minutes", desc := "(LDownRope$Face;LDownRope$Spot;)I" } : Jvm.MethodName) ({ cls := "DownRope$Single", name := "minutes", desc := "(LDownRope$Face;LDownRope$Spot;)I" } : Jvm.MethodName)) ∈ lw_all := lw_g (lw_at lw_m2 163 rfl) rfl
theorem q479 : (Jvm.Cond.instanceMethod ({ cls := "DownRope$Single", name := "minutes", desc := "(LDownRope$Face;LDownRope$Spot;)I" } : Jvm.MethodName)) ∈ lw_all := lw_g (lw_at lw_m2 164 rfl) rfl
theorem q480 : (Jvm.Cond.code ({ cls := "DownRope$Single", name := "minutes", desc := "(LDownRope$Face;LDownRope$Spot;)I" } : Jvm.MethodName) prog_13_method_3_code (4 : Nat) (Option.some Jvm.ClassFile.FieldType.int)) ∈ lw_all := lw_g (lw_at lw_m2 165 rfl) rfl
theorem q481 : (Jvm.Cond.methodLink "DownRope$Single" (18 : Nat) ({ cls := "DownRope$Face", name := "far", desc := "(II)I" } : Jvm.MethodName)) ∈ lw_all := lw_g (lw_at lw_m2 166 rfl) rfl
theorem q482 : (Jvm.Cond.methodLink "DownRope$Single" (28 : Nat) ({ cls := "DownRope$Single", name := "canGo", desc := "(LDownRope$Face;LDownRope$Spot;Z)Z" } : Jvm.MethodName)) ∈ lw_all := lw_g (lw_at lw_m2 167 rfl) rfl
theorem q483 : (Jvm.Cond.sameMethod "DownRope$Single" "DownRope$Move" "canGo" "(LDownRope$Face;LDownRope$Spot;Z)Z") ∈ lw_all := lw_g (lw_at lw_m2 168 rfl) rfl
theorem q484 : (Jvm.Cond.selects "DownRope$Single" ({ cls := "DownRope$Single", name := "canGo", desc := "(LDownRope$Face;LDownRope$Spot;Z)Z" } : Jvm.MethodName) ({ cls := "DownRope$Move", name := "canGo", desc := "(LDownRope$Face;LDownRope$Spot;Z)Z" } : Jvm.MethodName)) ∈ lw_all := lw_g (lw_at lw_m2 169 rfl) rfl
theorem q485 : (Jvm.Cond.methodLink "DownRope$Single" (35 : Nat) ({ cls := "DownRope$Single", name := "hasRope", desc := "(LDownRope$Face;LDownRope$Spot;I)Z" } : Jvm.MethodName)) ∈ lw_all := lw_g (lw_at lw_m2 170 rfl) rfl
theorem q486 : (Jvm.Cond.sameMethod "DownRope$Single" "DownRope$Move" "hasRope" "(LDownRope$Face;LDownRope$Spot;I)Z") ∈ lw_all := lw_g (lw_at lw_m2 171 rfl) rfl
theorem q487 : (Jvm.Cond.selects "DownRope$Single" ({ cls := "DownRope$Single", name := "hasRope", desc := "(LDownRope$Face;LDownRope$Spot;I)Z" } : Jvm.MethodName) ({ cls := "DownRope$Move", name := "hasRope", desc := "(LDownRope$Face;LDownRope$Spot;I)Z" } : Jvm.MethodName)) ∈ lw_all := lw_g (lw_at lw_m2 172 rfl) rfl
theorem q488 : (Jvm.Cond.methodLinkNest "DownRope$Single" (45 : Nat) ({ cls := "DownRope", name := "bits", desc := "(I)I" } : Jvm.MethodName) "DownRope") ∈ lw_tbl := lw_at lw_m2 173 rfl
theorem q523 : (Jvm.Cond.selects "DownRope$Single" ({ cls := "DownRope$Move", name := "moves", desc := "(LDownRope$Spot;)V" } : Jvm.MethodName) ({ cls := "DownRope$Move", name := "moves", desc := "(LDownRope$Spot;)V" } : Jvm.MethodName)) ∈ lw_all := lw_g (lw_at lw_m2 208 rfl) rfl
theorem q531 : (Jvm.Cond.selects "DownRope$Single" ({ cls := "DownRope$Move", name := "does", desc := "(LDownRope$Spot;)V" } : Jvm.MethodName) ({ cls := "DownRope$Single", name := "does", desc := "(LDownRope$Spot;)V" } : Jvm.MethodName)) ∈ lw_all := lw_g (lw_at lw_m2 216 rfl) rfl
theorem q532 : (Jvm.Cond.instanceMethod ({ cls := "DownRope$Single", name := "does", desc := "(LDownRope$Spot;)V" } : Jvm.MethodName)) ∈ lw_all := lw_g (lw_at lw_m2 217 rfl) rfl
theorem q533 : (Jvm.Cond.code ({ cls := "DownRope$Single", name := "does", desc := "(LDownRope$Spot;)V" } : Jvm.MethodName) prog_13_method_4_code (2 : Nat) (Option.none : Option Jvm.ClassFile.FieldType)) ∈ lw_all := lw_g (lw_at lw_m2 218 rfl) rfl
theorem q534 : (Jvm.Cond.methodLink "DownRope$Single" (49 : Nat) ({ cls := "DownRope$Move", name := "does", desc := "(LDownRope$Spot;)V" } : Jvm.MethodName)) ∈ lw_all := lw_g (lw_at lw_m2 219 rfl) rfl
theorem q535 : (Jvm.Cond.superclass "DownRope$Single" "DownRope$Move") ∈ lw_all := lw_g (lw_at lw_m2 220 rfl) rfl
theorem q565 : (Jvm.Cond.selects "DownRope$Single" ({ cls := "DownRope$Move", name := "told", desc := "()I" } : Jvm.MethodName) ({ cls := "DownRope$Move", name := "told", desc := "()I" } : Jvm.MethodName)) ∈ lw_all := lw_g (lw_at lw_m3 10 rfl) rfl
theorem q584 : (Jvm.Cond.selects "DownRope$Single" ({ cls := "DownRope$Move", name := "kind", desc := "()I" } : Jvm.MethodName) ({ cls := "DownRope$Single", name := "kind", desc := "()I" } : Jvm.MethodName)) ∈ lw_all := lw_g (lw_at lw_m3 29 rfl) rfl
theorem q585 : (Jvm.Cond.instanceMethod ({ cls := "DownRope$Single", name := "kind", desc := "()I" } : Jvm.MethodName)) ∈ lw_all := lw_g (lw_at lw_m3 30 rfl) rfl
theorem q586 : (Jvm.Cond.code ({ cls := "DownRope$Single", name := "kind", desc := "()I" } : Jvm.MethodName) prog_13_method_2_code (1 : Nat) (Option.some Jvm.ClassFile.FieldType.int)) ∈ lw_all := lw_g (lw_at lw_m3 31 rfl) rfl
theorem q659 : (Jvm.Cond.fieldLink "DownRope$Single" (53 : Nat) "DownRope$Spot" "rope" "[I") ∈ lw_all := lw_g (lw_at lw_m3 104 rfl) rfl
theorem q775 : (Jvm.Cond.fieldLink "DownRope$Single" (24 : Nat) "DownRope$Face" "holds" "[I") ∈ lw_all := lw_g (lw_at lw_m3 220 rfl) rfl
theorem q797 : (Jvm.Cond.fieldLink "DownRope$Single" (39 : Nat) "DownRope$Face" "length" "[I") ∈ lw_all := lw_g (lw_at lw_m4 2 rfl) rfl
theorem q866 : (Jvm.Cond.fieldLink "DownRope$Single" (42 : Nat) "DownRope$Single" "set" "I") ∈ lw_all := lw_g (lw_at lw_m4 71 rfl) rfl
theorem q867 : (Jvm.Cond.sameField "DownRope$Single" "DownRope$Move" "set" "I") ∈ lw_all := lw_g (lw_at lw_m4 72 rfl) rfl
theorem q877 : (Jvm.Cond.fieldLink "DownRope$Single" (32 : Nat) "DownRope$Single" "rope" "I") ∈ lw_all := lw_g (lw_at lw_m4 82 rfl) rfl
theorem q878 : (Jvm.Cond.sameField "DownRope$Single" "DownRope$Move" "rope" "I") ∈ lw_all := lw_g (lw_at lw_m4 83 rfl) rfl
theorem q885 : (Jvm.Cond.fieldLink "DownRope$Single" (9 : Nat) "DownRope$Single" "from" "I") ∈ lw_all := lw_g (lw_at lw_m4 90 rfl) rfl
theorem q886 : (Jvm.Cond.sameField "DownRope$Single" "DownRope$Move" "from" "I") ∈ lw_all := lw_g (lw_at lw_m4 91 rfl) rfl
theorem q896 : (Jvm.Cond.fieldLink "DownRope$Single" (15 : Nat) "DownRope$Single" "to" "I") ∈ lw_all := lw_g (lw_at lw_m4 101 rfl) rfl
theorem q897 : (Jvm.Cond.sameField "DownRope$Single" "DownRope$Move" "to" "I") ∈ lw_all := lw_g (lw_at lw_m4 102 rfl) rfl
theorem q927 : (Jvm.Cond.instantiable "DownRope$Single" (4 : Nat)) ∈ lw_all := lw_g (lw_at lw_m4 132 rfl) rfl
theorem q929 : (Jvm.Cond.instanceMethod ({ cls := "DownRope$Single", name := "<init>", desc := "()V" } : Jvm.MethodName)) ∈ lw_all := lw_g (lw_at lw_m4 134 rfl) rfl
theorem q930 : (Jvm.Cond.code ({ cls := "DownRope$Single", name := "<init>", desc := "()V" } : Jvm.MethodName) prog_13_method_1_code (1 : Nat) (Option.none : Option Jvm.ClassFile.FieldType)) ∈ lw_all := lw_g (lw_at lw_m4 135 rfl) rfl
theorem q931 : (Jvm.Cond.methodLinkNest "DownRope$Single" (3 : Nat) ({ cls := "DownRope$Move", name := "<init>", desc := "()V" } : Jvm.MethodName) "DownRope") ∈ lw_tbl := lw_at lw_m4 136 rfl
theorem q932 : (Jvm.Cond.lays "DownRope$Single" "DownRope$Move" "set" "I") ∈ lw_all := lw_g (lw_at lw_m4 137 rfl) rfl
theorem q933 : (Jvm.Cond.lays "DownRope$Single" "DownRope$Move" "rope" "I") ∈ lw_all := lw_g (lw_at lw_m4 138 rfl) rfl
theorem q934 : (Jvm.Cond.lays "DownRope$Single" "DownRope$Move" "from" "I") ∈ lw_all := lw_g (lw_at lw_m4 139 rfl) rfl
theorem q935 : (Jvm.Cond.lays "DownRope$Single" "DownRope$Move" "to" "I") ∈ lw_all := lw_g (lw_at lw_m4 140 rfl) rfl
theorem q1160 : (Jvm.Cond.selects "DownRope$Single" ({ cls := "DownRope$Tires", name := "effort", desc := "(LDownRope$Face;)I" } : Jvm.MethodName) ({ cls := "DownRope$Single", name := "effort", desc := "(LDownRope$Face;)I" } : Jvm.MethodName)) ∈ lw_all := lw_g (lw_at lw_m5 125 rfl) rfl
theorem q1161 : (Jvm.Cond.instanceMethod ({ cls := "DownRope$Single", name := "effort", desc := "(LDownRope$Face;)I" } : Jvm.MethodName)) ∈ lw_all := lw_g (lw_at lw_m5 126 rfl) rfl
theorem q1162 : (Jvm.Cond.code ({ cls := "DownRope$Single", name := "effort", desc := "(LDownRope$Face;)I" } : Jvm.MethodName) prog_13_method_5_code (3 : Nat) (Option.some Jvm.ClassFile.FieldType.int)) ∈ lw_all := lw_g (lw_at lw_m5 127 rfl) rfl
theorem q1216 : (Jvm.Cond.selects "DownRope$Single" ({ cls := "DownRope$Move", name := "failure", desc := "()LDownRope$Tossed;" } : Jvm.MethodName) ({ cls := "DownRope$Move", name := "failure", desc := "()LDownRope$Tossed;" } : Jvm.MethodName)) ∈ lw_all := lw_g (lw_at lw_m5 181 rfl) rfl
theorem q1753 : (Jvm.Cond.castable "DownRope$Single" "DownRope$Move") ∈ lw_tbl := lw_at lw_m7 238 rfl
theorem in_X7 : ∀ w ∈ wsX70, w ∈ lw_all := lw_in wsX70 [932, 933, 934, 935] (by decide +kernel) (by decide +kernel)
/-! DownRope$Joined -/
set_option maxRecDepth 100000
def RX8 : String := "DownRope$Joined"
def TX8 : u_T := fun k => match k with
  | 0 => ("DownRope$Move", "set", "I", false)
  | 1 => ("DownRope$Move", "rope", "I", false)
  | 2 => ("DownRope$Move", "from", "I", false)
  | _ => ("DownRope$Move", "to", "I", false)
def tyX8 : Nat → FieldType := fun k => match k with
  | 0 => .int
  | 1 => .int
  | 2 => .int
  | _ => .int
abbrev wsX80 : List Cond := u_ws RX8 TX8 4
theorem nmX8 : ∀ a, a < 4 → ∀ b, b < 4 → a ≠ b → (TX8 a).2.1 ≠ (TX8 b).2.1 := by decide +kernel
theorem tyX8_ok : ∀ k, k < 4 → parseFieldDescriptor (TX8 k).2.2.1 = some (tyX8 k) := by decide +kernel
abbrev cX8_reaches : ByteArray := prog_8_method_3_code
def yX8_reaches : MethodName := ⟨RX8, "reaches", "(LDownRope$Face;LDownRope$Spot;I)Z"⟩
def dkwX8_reaches_2 : List UInt8 := [167, 0, 4, 3, 172]
abbrev dktX8_reaches_2 : List UInt8 := dkwX8_reaches_2 ++ []
def dkwX8_reaches_1 : List UInt8 := [153, 0, 26, 29, 43, 180, 0, 19, 3, 46, 43, 180, 0, 19, 4, 46, 184, 0, 25, 163, 0, 7, 4]
abbrev dktX8_reaches_1 : List UInt8 := dkwX8_reaches_1 ++ dktX8_reaches_2
def dkwX8_reaches_0 : List UInt8 := [42, 180, 0, 9, 154, 0, 46, 42, 43, 44, 3, 182, 0, 15, 153, 0, 36, 42, 43, 44, 4, 182, 0, 15]
abbrev dktX8_reaches_0 : List UInt8 := dkwX8_reaches_0 ++ dktX8_reaches_1
theorem dksX8_reaches_0 : cX8_reaches.data.toList.drop 0 = dktX8_reaches_0 := by decide +kernel
theorem dksX8_reaches_1 : cX8_reaches.data.toList.drop 24 = dktX8_reaches_1 := dk_seg dksX8_reaches_0 24 rfl rfl
theorem dksX8_reaches_2 : cX8_reaches.data.toList.drop 47 = dktX8_reaches_2 := dk_seg dksX8_reaches_1 23 rfl rfl
theorem dX8_reaches_0 : decode cX8_reaches 0 = .ok (.aload_n 0, 1) := dk_42 (dk_at dksX8_reaches_0 0 rfl rfl)
theorem dX8_reaches_1 : decode cX8_reaches 1 = .ok (.getfield 9, 3) := dk_180 0 9 (dk_at dksX8_reaches_0 1 rfl rfl)
theorem dX8_reaches_4 : decode cX8_reaches 4 = .ok (.ifCond .ne 46, 3) := dk_154 0 46 (dk_at dksX8_reaches_0 4 rfl rfl)
theorem dX8_reaches_7 : decode cX8_reaches 7 = .ok (.aload_n 0, 1) := dk_42 (dk_at dksX8_reaches_0 7 rfl rfl)
theorem dX8_reaches_8 : decode cX8_reaches 8 = .ok (.aload_n 1, 1) := dk_43 (dk_at dksX8_reaches_0 8 rfl rfl)
theorem dX8_reaches_9 : decode cX8_reaches 9 = .ok (.aload_n 2, 1) := dk_44 (dk_at dksX8_reaches_0 9 rfl rfl)
theorem dX8_reaches_10 : decode cX8_reaches 10 = .ok (.iconst 0, 1) := dk_3 (dk_at dksX8_reaches_0 10 rfl rfl)
theorem dX8_reaches_11 : decode cX8_reaches 11 = .ok (.invokevirtual 15, 3) := dk_182 0 15 (dk_at dksX8_reaches_0 11 rfl rfl)
theorem dX8_reaches_14 : decode cX8_reaches 14 = .ok (.ifCond .eq 36, 3) := dk_153 0 36 (dk_at dksX8_reaches_0 14 rfl rfl)
theorem dX8_reaches_17 : decode cX8_reaches 17 = .ok (.aload_n 0, 1) := dk_42 (dk_at dksX8_reaches_0 17 rfl rfl)
theorem dX8_reaches_18 : decode cX8_reaches 18 = .ok (.aload_n 1, 1) := dk_43 (dk_at dksX8_reaches_0 18 rfl rfl)
theorem dX8_reaches_19 : decode cX8_reaches 19 = .ok (.aload_n 2, 1) := dk_44 (dk_at dksX8_reaches_0 19 rfl rfl)
theorem dX8_reaches_20 : decode cX8_reaches 20 = .ok (.iconst 1, 1) := dk_4 (dk_at dksX8_reaches_0 20 rfl rfl)
theorem dX8_reaches_21 : decode cX8_reaches 21 = .ok (.invokevirtual 15, 3) := dk_182 0 15 (dk_at dksX8_reaches_0 21 rfl rfl)
theorem dX8_reaches_24 : decode cX8_reaches 24 = .ok (.ifCond .eq 26, 3) := dk_153 0 26 (dk_at dksX8_reaches_1 0 rfl rfl)
theorem dX8_reaches_27 : decode cX8_reaches 27 = .ok (.iload_n 3, 1) := dk_29 (dk_at dksX8_reaches_1 3 rfl rfl)
theorem dX8_reaches_28 : decode cX8_reaches 28 = .ok (.aload_n 1, 1) := dk_43 (dk_at dksX8_reaches_1 4 rfl rfl)
theorem dX8_reaches_29 : decode cX8_reaches 29 = .ok (.getfield 19, 3) := dk_180 0 19 (dk_at dksX8_reaches_1 5 rfl rfl)
theorem dX8_reaches_32 : decode cX8_reaches 32 = .ok (.iconst 0, 1) := dk_3 (dk_at dksX8_reaches_1 8 rfl rfl)
theorem dX8_reaches_33 : decode cX8_reaches 33 = .ok (.iaload, 1) := dk_46 (dk_at dksX8_reaches_1 9 rfl rfl)
theorem dX8_reaches_34 : decode cX8_reaches 34 = .ok (.aload_n 1, 1) := dk_43 (dk_at dksX8_reaches_1 10 rfl rfl)
theorem dX8_reaches_35 : decode cX8_reaches 35 = .ok (.getfield 19, 3) := dk_180 0 19 (dk_at dksX8_reaches_1 11 rfl rfl)
theorem dX8_reaches_38 : decode cX8_reaches 38 = .ok (.iconst 1, 1) := dk_4 (dk_at dksX8_reaches_1 14 rfl rfl)
theorem dX8_reaches_39 : decode cX8_reaches 39 = .ok (.iaload, 1) := dk_46 (dk_at dksX8_reaches_1 15 rfl rfl)
theorem dX8_reaches_40 : decode cX8_reaches 40 = .ok (.invokestatic 25, 3) := dk_184 0 25 (dk_at dksX8_reaches_1 16 rfl rfl)
theorem dX8_reaches_43 : decode cX8_reaches 43 = .ok (.if_icmp .gt 7, 3) := dk_163 0 7 (dk_at dksX8_reaches_1 19 rfl rfl)
theorem dX8_reaches_46 : decode cX8_reaches 46 = .ok (.iconst 1, 1) := dk_4 (dk_at dksX8_reaches_1 22 rfl rfl)
theorem dX8_reaches_47 : decode cX8_reaches 47 = .ok (.goto 4, 3) := dk_167 0 4 (dk_at dksX8_reaches_2 0 rfl rfl)
theorem dX8_reaches_50 : decode cX8_reaches 50 = .ok (.iconst 0, 1) := dk_3 (dk_at dksX8_reaches_2 3 rfl rfl)
theorem dX8_reaches_51 : decode cX8_reaches 51 = .ok (.ireturn, 1) := dk_172 (dk_at dksX8_reaches_2 4 rfl rfl)
abbrev cX8_more : ByteArray := prog_8_method_4_code
def yX8_more : MethodName := ⟨RX8, "more", "()I"⟩
def dkwX8_more_0 : List UInt8 := [42, 183, 0, 31, 8, 96, 172]
abbrev dktX8_more_0 : List UInt8 := dkwX8_more_0 ++ []
theorem dksX8_more_0 : cX8_more.data.toList.drop 0 = dktX8_more_0 := by decide +kernel
theorem dX8_more_0 : decode cX8_more 0 = .ok (.aload_n 0, 1) := dk_42 (dk_at dksX8_more_0 0 rfl rfl)
theorem dX8_more_1 : decode cX8_more 1 = .ok (.invokespecial 31, 3) := dk_183 0 31 (dk_at dksX8_more_0 1 rfl rfl)
theorem dX8_more_4 : decode cX8_more 4 = .ok (.iconst 5, 1) := dk_8 (dk_at dksX8_more_0 4 rfl rfl)
theorem dX8_more_5 : decode cX8_more 5 = .ok (.iadd, 1) := dk_96 (dk_at dksX8_more_0 5 rfl rfl)
theorem dX8_more_6 : decode cX8_more 6 = .ok (.ireturn, 1) := dk_172 (dk_at dksX8_more_0 6 rfl rfl)
abbrev cX8_does : ByteArray := prog_8_method_5_code
def yX8_does : MethodName := ⟨RX8, "does", "(LDownRope$Spot;)V"⟩
def dkwX8_does_0 : List UInt8 := [42, 43, 183, 0, 35, 43, 180, 0, 39, 4, 42, 180, 0, 43, 79, 177]
abbrev dktX8_does_0 : List UInt8 := dkwX8_does_0 ++ []
theorem dksX8_does_0 : cX8_does.data.toList.drop 0 = dktX8_does_0 := by decide +kernel
theorem dX8_does_0 : decode cX8_does 0 = .ok (.aload_n 0, 1) := dk_42 (dk_at dksX8_does_0 0 rfl rfl)
theorem dX8_does_1 : decode cX8_does 1 = .ok (.aload_n 1, 1) := dk_43 (dk_at dksX8_does_0 1 rfl rfl)
theorem dX8_does_2 : decode cX8_does 2 = .ok (.invokespecial 35, 3) := dk_183 0 35 (dk_at dksX8_does_0 2 rfl rfl)
theorem dX8_does_5 : decode cX8_does 5 = .ok (.aload_n 1, 1) := dk_43 (dk_at dksX8_does_0 5 rfl rfl)
theorem dX8_does_6 : decode cX8_does 6 = .ok (.getfield 39, 3) := dk_180 0 39 (dk_at dksX8_does_0 6 rfl rfl)
theorem dX8_does_9 : decode cX8_does 9 = .ok (.iconst 1, 1) := dk_4 (dk_at dksX8_does_0 9 rfl rfl)
theorem dX8_does_10 : decode cX8_does 10 = .ok (.aload_n 0, 1) := dk_42 (dk_at dksX8_does_0 10 rfl rfl)
theorem dX8_does_11 : decode cX8_does 11 = .ok (.getfield 43, 3) := dk_180 0 43 (dk_at dksX8_does_0 11 rfl rfl)
theorem dX8_does_14 : decode cX8_does 14 = .ok (.iastore, 1) := dk_79 (dk_at dksX8_does_0 14 rfl rfl)
theorem dX8_does_15 : decode cX8_does 15 = .ok (.return_, 1) := dk_177 (dk_at dksX8_does_0 15 rfl rfl)
abbrev cX8_kind : ByteArray := prog_8_method_2_code
def yX8_kind : MethodName := ⟨RX8, "kind", "()I"⟩
theorem dX8_kind_0 : decode cX8_kind 0 = .ok (.iconst 3, 1) := by decide +kernel
theorem dX8_kind_1 : decode cX8_kind 1 = .ok (.ireturn, 1) := by decide +kernel
abbrev cX8_init : ByteArray := prog_8_method_1_code
def yX8_init : MethodName := ⟨RX8, "<init>", "()V"⟩
theorem dX8_init_0 : decode cX8_init 0 = .ok (.aload_n 0, 1) := by decide +kernel
theorem dX8_init_1 : decode cX8_init 1 = .ok (.invokespecial 3, 3) := by decide +kernel
theorem dX8_init_4 : decode cX8_init 4 = .ok (.return_, 1) := by decide +kernel
abbrev cX8_effort : ByteArray := prog_8_method_6_code
def yX8_effort : MethodName := ⟨RX8, "effort", "(LDownRope$Face;)I"⟩
def dkwX8_effort_0 : List UInt8 := [6, 42, 43, 183, 0, 46, 104, 172]
abbrev dktX8_effort_0 : List UInt8 := dkwX8_effort_0 ++ []
theorem dksX8_effort_0 : cX8_effort.data.toList.drop 0 = dktX8_effort_0 := by decide +kernel
theorem dX8_effort_0 : decode cX8_effort 0 = .ok (.iconst 3, 1) := dk_6 (dk_at dksX8_effort_0 0 rfl rfl)
theorem dX8_effort_1 : decode cX8_effort 1 = .ok (.aload_n 0, 1) := dk_42 (dk_at dksX8_effort_0 1 rfl rfl)
theorem dX8_effort_2 : decode cX8_effort 2 = .ok (.aload_n 1, 1) := dk_43 (dk_at dksX8_effort_0 2 rfl rfl)
theorem dX8_effort_3 : decode cX8_effort 3 = .ok (.invokespecial 46, 3) := dk_183 0 46 (dk_at dksX8_effort_0 3 rfl rfl)
theorem dX8_effort_6 : decode cX8_effort 6 = .ok (.imul, 1) := dk_104 (dk_at dksX8_effort_0 6 rfl rfl)
theorem dX8_effort_7 : decode cX8_effort 7 = .ok (.ireturn, 1) := dk_172 (dk_at dksX8_effort_0 7 rfl rfl)
abbrev cX8_failure : ByteArray := prog_8_method_7_code
def yX8_failure : MethodName := ⟨RX8, "failure", "()LDownRope$Tossed;"⟩
def dkwX8_failure_1 : List UInt8 := [183, 0, 60, 176]
abbrev dktX8_failure_1 : List UInt8 := dkwX8_failure_1 ++ []
def dkwX8_failure_0 : List UInt8 := [42, 183, 0, 50, 76, 43, 199, 0, 7, 1, 167, 0, 17, 187, 0, 54, 89, 43, 180, 0, 56, 18, 59, 96]
abbrev dktX8_failure_0 : List UInt8 := dkwX8_failure_0 ++ dktX8_failure_1
theorem dksX8_failure_0 : cX8_failure.data.toList.drop 0 = dktX8_failure_0 := by decide +kernel
theorem dksX8_failure_1 : cX8_failure.data.toList.drop 24 = dktX8_failure_1 := dk_seg dksX8_failure_0 24 rfl rfl
theorem dX8_failure_0 : decode cX8_failure 0 = .ok (.aload_n 0, 1) := dk_42 (dk_at dksX8_failure_0 0 rfl rfl)
theorem dX8_failure_1 : decode cX8_failure 1 = .ok (.invokespecial 50, 3) := dk_183 0 50 (dk_at dksX8_failure_0 1 rfl rfl)
theorem dX8_failure_4 : decode cX8_failure 4 = .ok (.astore_n 1, 1) := dk_76 (dk_at dksX8_failure_0 4 rfl rfl)
theorem dX8_failure_5 : decode cX8_failure 5 = .ok (.aload_n 1, 1) := dk_43 (dk_at dksX8_failure_0 5 rfl rfl)
theorem dX8_failure_6 : decode cX8_failure 6 = .ok (.ifnonnull 7, 3) := dk_199 0 7 (dk_at dksX8_failure_0 6 rfl rfl)
theorem dX8_failure_9 : decode cX8_failure 9 = .ok (.aconst_null, 1) := dk_1 (dk_at dksX8_failure_0 9 rfl rfl)
theorem dX8_failure_10 : decode cX8_failure 10 = .ok (.goto 17, 3) := dk_167 0 17 (dk_at dksX8_failure_0 10 rfl rfl)
theorem dX8_failure_13 : decode cX8_failure 13 = .ok (.new 54, 3) := dk_187 0 54 (dk_at dksX8_failure_0 13 rfl rfl)
theorem dX8_failure_16 : decode cX8_failure 16 = .ok (.dup, 1) := dk_89 (dk_at dksX8_failure_0 16 rfl rfl)
theorem dX8_failure_17 : decode cX8_failure 17 = .ok (.aload_n 1, 1) := dk_43 (dk_at dksX8_failure_0 17 rfl rfl)
theorem dX8_failure_18 : decode cX8_failure 18 = .ok (.getfield 56, 3) := dk_180 0 56 (dk_at dksX8_failure_0 18 rfl rfl)
theorem dX8_failure_21 : decode cX8_failure 21 = .ok (.ldc 59, 2) := dk_18 59 (dk_at dksX8_failure_0 21 rfl rfl)
theorem dX8_failure_23 : decode cX8_failure 23 = .ok (.iadd, 1) := dk_96 (dk_at dksX8_failure_0 23 rfl rfl)
theorem dX8_failure_24 : decode cX8_failure 24 = .ok (.invokespecial 60, 3) := dk_183 0 60 (dk_at dksX8_failure_1 0 rfl rfl)
theorem dX8_failure_27 : decode cX8_failure 27 = .ok (.areturn, 1) := dk_176 (dk_at dksX8_failure_1 3 rfl rfl)
theorem q83 : (Jvm.Cond.initialized "DownRope$Joined") ∈ lw_all := lw_g (lw_at lw_m1 8 rfl) rfl
theorem q388 : (Jvm.Cond.selects "DownRope$Joined" ({ cls := "DownRope$Move", name := "tells", desc := "(IIII)LDownRope$Move;" } : Jvm.MethodName) ({ cls := "DownRope$Move", name := "tells", desc := "(IIII)LDownRope$Move;" } : Jvm.MethodName)) ∈ lw_all := lw_g (lw_at lw_m2 73 rfl) rfl
theorem q429 : (Jvm.Cond.selects "DownRope$Joined" ({ cls := "DownRope$Doubled", name := "canGo", desc := "(LDownRope$Face;LDownRope$Spot;Z)Z" } : Jvm.MethodName) ({ cls := "DownRope$Move", name := "canGo", desc := "(LDownRope$Face;LDownRope$Spot;Z)Z" } : Jvm.MethodName)) ∈ lw_all := lw_g (lw_at lw_m2 114 rfl) rfl
theorem q434 : (Jvm.Cond.selects "DownRope$Joined" ({ cls := "DownRope$Doubled", name := "reaches", desc := "(LDownRope$Face;LDownRope$Spot;I)Z" } : Jvm.MethodName) ({ cls := "DownRope$Joined", name := "reaches", desc := "(LDownRope$Face;LDownRope$Spot;I)Z" } : Jvm.MethodName)) ∈ lw_all := lw_g (lw_at lw_m2 119 rfl) rfl
theorem q435 : (Jvm.Cond.instanceMethod ({ cls := "DownRope$Joined", name := "reaches", desc := "(LDownRope$Face;LDownRope$Spot;I)Z" } : Jvm.MethodName)) ∈ lw_all := lw_g (lw_at lw_m2 120 rfl) rfl
theorem q436 : (Jvm.Cond.code ({ cls := "DownRope$Joined", name := "reaches", desc := "(LDownRope$Face;LDownRope$Spot;I)Z" } : Jvm.MethodName) prog_8_method_3_code (4 : Nat) (Option.some Jvm.ClassFile.FieldType.boolean)) ∈ lw_all := lw_g (lw_at lw_m2 121 rfl) rfl
theorem q437 : (Jvm.Cond.methodLink "DownRope$Joined" (15 : Nat) ({ cls := "DownRope$Joined", name := "hasRope", desc := "(LDownRope$Face;LDownRope$Spot;I)Z" } : Jvm.MethodName)) ∈ lw_all := lw_g (lw_at lw_m2 122 rfl) rfl
theorem q438 : (Jvm.Cond.sameMethod "DownRope$Joined" "DownRope$Move" "hasRope" "(LDownRope$Face;LDownRope$Spot;I)Z") ∈ lw_all := lw_g (lw_at lw_m2 123 rfl) rfl
theorem q440 : (Jvm.Cond.selects "DownRope$Joined" ({ cls := "DownRope$Joined", name := "hasRope", desc := "(LDownRope$Face;LDownRope$Spot;I)Z" } : Jvm.MethodName) ({ cls := "DownRope$Move", name := "hasRope", desc := "(LDownRope$Face;LDownRope$Spot;I)Z" } : Jvm.MethodName)) ∈ lw_all := lw_g (lw_at lw_m2 125 rfl) rfl
theorem q443 : (Jvm.Cond.methodLink "DownRope$Joined" (25 : Nat) ({ cls := "java/lang/Math", name := "min", desc := "(II)I" } : Jvm.MethodName)) ∈ lw_all := lw_g (lw_at lw_m2 128 rfl) rfl
theorem q448 : (Jvm.Cond.selects "DownRope$Joined" ({ cls := "DownRope$Doubled", name := "hasRope", desc := "(LDownRope$Face;LDownRope$Spot;I)Z" } : Jvm.MethodName) ({ cls := "DownRope$Move", name := "hasRope", desc := "(LDownRope$Face;LDownRope$Spot;I)Z" } : Jvm.MethodName)) ∈ lw_all := lw_g (lw_at lw_m2 133 rfl) rfl
theorem q453 : (Jvm.Cond.selects "DownRope$Joined" ({ cls := "DownRope$Doubled", name := "more", desc := "()I" } : Jvm.MethodName) ({ cls := "DownRope$Joined", name := "more", desc := "()I" } : Jvm.MethodName)) ∈ lw_all := lw_g (lw_at lw_m2 138 rfl) rfl
theorem q454 : (Jvm.Cond.instanceMethod ({ cls := "DownRope$Joined", name := "more", desc := "()I" } : Jvm.MethodName)) ∈ lw_all := lw_g (lw_at lw_m2 139 rfl) rfl
theorem q455 : (Jvm.Cond.code ({ cls := "DownRope$Joined", name := "more", desc := "()I" } : Jvm.MethodName) prog_8_method_4_code (1 : Nat) (Option.some Jvm.ClassFile.FieldType.int)) ∈ lw_all := lw_g (lw_at lw_m2 140 rfl) rfl
theorem q456 : (Jvm.Cond.methodLink "DownRope$Joined" (31 : Nat) ({ cls := "DownRope$Doubled", name := "more", desc := "()I" } : Jvm.MethodName)) ∈ lw_all := lw_g (lw_at lw_m2 141 rfl) rfl
theorem q457 : (Jvm.Cond.superclass "DownRope$Joined" "DownRope$Doubled") ∈ lw_all := lw_g (lw_at lw_m2 142 rfl) rfl
theorem q460 : (Jvm.Cond.selects "DownRope$Joined" ({ cls := "DownRope$Move", name := "minutes", desc := "(LDownRope$Face;LDownRope$Spot;)I" } : Jvm.MethodName) ({ cls := "DownRope$Doubled", name := "minutes", desc := "(LDownRope$Face;LDownRope$Spot;)I" } : Jvm.MethodName)) ∈ lw_all := lw_g (lw_at lw_m2 145 rfl) rfl
theorem q521 : (Jvm.Cond.selects "DownRope$Joined" ({ cls := "DownRope$Move", name := "moves", desc := "(LDownRope$Spot;)V" } : Jvm.MethodName) ({ cls := "DownRope$Move", name := "moves", desc := "(LDownRope$Spot;)V" } : Jvm.MethodName)) ∈ lw_all := lw_g (lw_at lw_m2 206 rfl) rfl
theorem q526 : (Jvm.Cond.selects "DownRope$Joined" ({ cls := "DownRope$Move", name := "does", desc := "(LDownRope$Spot;)V" } : Jvm.MethodName) ({ cls := "DownRope$Joined", name := "does", desc := "(LDownRope$Spot;)V" } : Jvm.MethodName)) ∈ lw_all := lw_g (lw_at lw_m2 211 rfl) rfl
theorem q527 : (Jvm.Cond.instanceMethod ({ cls := "DownRope$Joined", name := "does", desc := "(LDownRope$Spot;)V" } : Jvm.MethodName)) ∈ lw_all := lw_g (lw_at lw_m2 212 rfl) rfl
theorem q528 : (Jvm.Cond.code ({ cls := "DownRope$Joined", name := "does", desc := "(LDownRope$Spot;)V" } : Jvm.MethodName) prog_8_method_5_code (2 : Nat) (Option.none : Option Jvm.ClassFile.FieldType)) ∈ lw_all := lw_g (lw_at lw_m2 213 rfl) rfl
theorem q529 : (Jvm.Cond.methodLink "DownRope$Joined" (35 : Nat) ({ cls := "DownRope$Doubled", name := "does", desc := "(LDownRope$Spot;)V" } : Jvm.MethodName)) ∈ lw_all := lw_g (lw_at lw_m2 214 rfl) rfl
theorem q563 : (Jvm.Cond.selects "DownRope$Joined" ({ cls := "DownRope$Move", name := "told", desc := "()I" } : Jvm.MethodName) ({ cls := "DownRope$Move", name := "told", desc := "()I" } : Jvm.MethodName)) ∈ lw_all := lw_g (lw_at lw_m3 8 rfl) rfl
theorem q578 : (Jvm.Cond.selects "DownRope$Joined" ({ cls := "DownRope$Move", name := "kind", desc := "()I" } : Jvm.MethodName) ({ cls := "DownRope$Joined", name := "kind", desc := "()I" } : Jvm.MethodName)) ∈ lw_all := lw_g (lw_at lw_m3 23 rfl) rfl
theorem q579 : (Jvm.Cond.instanceMethod ({ cls := "DownRope$Joined", name := "kind", desc := "()I" } : Jvm.MethodName)) ∈ lw_all := lw_g (lw_at lw_m3 24 rfl) rfl
theorem q580 : (Jvm.Cond.code ({ cls := "DownRope$Joined", name := "kind", desc := "()I" } : Jvm.MethodName) prog_8_method_2_code (1 : Nat) (Option.some Jvm.ClassFile.FieldType.int)) ∈ lw_all := lw_g (lw_at lw_m3 25 rfl) rfl
theorem q661 : (Jvm.Cond.fieldLink "DownRope$Joined" (39 : Nat) "DownRope$Spot" "rope" "[I") ∈ lw_all := lw_g (lw_at lw_m3 106 rfl) rfl
theorem q796 : (Jvm.Cond.fieldLink "DownRope$Joined" (19 : Nat) "DownRope$Face" "length" "[I") ∈ lw_all := lw_g (lw_at lw_m4 1 rfl) rfl
theorem q870 : (Jvm.Cond.fieldLink "DownRope$Joined" (9 : Nat) "DownRope$Joined" "rope" "I") ∈ lw_all := lw_g (lw_at lw_m4 75 rfl) rfl
theorem q871 : (Jvm.Cond.sameField "DownRope$Joined" "DownRope$Move" "rope" "I") ∈ lw_all := lw_g (lw_at lw_m4 76 rfl) rfl
theorem q905 : (Jvm.Cond.fieldLink "DownRope$Joined" (43 : Nat) "DownRope$Joined" "to" "I") ∈ lw_all := lw_g (lw_at lw_m4 110 rfl) rfl
theorem q906 : (Jvm.Cond.sameField "DownRope$Joined" "DownRope$Move" "to" "I") ∈ lw_all := lw_g (lw_at lw_m4 111 rfl) rfl
theorem q937 : (Jvm.Cond.instantiable "DownRope$Joined" (4 : Nat)) ∈ lw_all := lw_g (lw_at lw_m4 142 rfl) rfl
theorem q939 : (Jvm.Cond.instanceMethod ({ cls := "DownRope$Joined", name := "<init>", desc := "()V" } : Jvm.MethodName)) ∈ lw_all := lw_g (lw_at lw_m4 144 rfl) rfl
theorem q940 : (Jvm.Cond.code ({ cls := "DownRope$Joined", name := "<init>", desc := "()V" } : Jvm.MethodName) prog_8_method_1_code (1 : Nat) (Option.none : Option Jvm.ClassFile.FieldType)) ∈ lw_all := lw_g (lw_at lw_m4 145 rfl) rfl
theorem q941 : (Jvm.Cond.methodLinkNest "DownRope$Joined" (3 : Nat) ({ cls := "DownRope$Doubled", name := "<init>", desc := "()V" } : Jvm.MethodName) "DownRope") ∈ lw_tbl := lw_at lw_m4 146 rfl
theorem q942 : (Jvm.Cond.lays "DownRope$Joined" "DownRope$Move" "set" "I") ∈ lw_all := lw_g (lw_at lw_m4 147 rfl) rfl
theorem q943 : (Jvm.Cond.lays "DownRope$Joined" "DownRope$Move" "rope" "I") ∈ lw_all := lw_g (lw_at lw_m4 148 rfl) rfl
theorem q944 : (Jvm.Cond.lays "DownRope$Joined" "DownRope$Move" "from" "I") ∈ lw_all := lw_g (lw_at lw_m4 149 rfl) rfl
theorem q945 : (Jvm.Cond.lays "DownRope$Joined" "DownRope$Move" "to" "I") ∈ lw_all := lw_g (lw_at lw_m4 150 rfl) rfl
theorem q1152 : (Jvm.Cond.selects "DownRope$Joined" ({ cls := "DownRope$Tires", name := "effort", desc := "(LDownRope$Face;)I" } : Jvm.MethodName) ({ cls := "DownRope$Joined", name := "effort", desc := "(LDownRope$Face;)I" } : Jvm.MethodName)) ∈ lw_all := lw_g (lw_at lw_m5 117 rfl) rfl
theorem q1153 : (Jvm.Cond.instanceMethod ({ cls := "DownRope$Joined", name := "effort", desc := "(LDownRope$Face;)I" } : Jvm.MethodName)) ∈ lw_all := lw_g (lw_at lw_m5 118 rfl) rfl
theorem q1154 : (Jvm.Cond.code ({ cls := "DownRope$Joined", name := "effort", desc := "(LDownRope$Face;)I" } : Jvm.MethodName) prog_8_method_6_code (2 : Nat) (Option.some Jvm.ClassFile.FieldType.int)) ∈ lw_all := lw_g (lw_at lw_m5 119 rfl) rfl
theorem q1155 : (Jvm.Cond.methodLink "DownRope$Joined" (46 : Nat) ({ cls := "DownRope$Doubled", name := "effort", desc := "(LDownRope$Face;)I" } : Jvm.MethodName)) ∈ lw_all := lw_g (lw_at lw_m5 120 rfl) rfl
theorem q1178 : (Jvm.Cond.selects "DownRope$Joined" ({ cls := "DownRope$Move", name := "failure", desc := "()LDownRope$Tossed;" } : Jvm.MethodName) ({ cls := "DownRope$Joined", name := "failure", desc := "()LDownRope$Tossed;" } : Jvm.MethodName)) ∈ lw_all := lw_g (lw_at lw_m5 143 rfl) rfl
theorem q1179 : (Jvm.Cond.instanceMethod ({ cls := "DownRope$Joined", name := "failure", desc := "()LDownRope$Tossed;" } : Jvm.MethodName)) ∈ lw_all := lw_g (lw_at lw_m5 144 rfl) rfl
theorem q1180 : (Jvm.Cond.code ({ cls := "DownRope$Joined", name := "failure", desc := "()LDownRope$Tossed;" } : Jvm.MethodName) prog_8_method_7_code (2 : Nat) (Option.some (Jvm.ClassFile.FieldType.object "DownRope$Tossed"))) ∈ lw_all := lw_g (lw_at lw_m5 145 rfl) rfl
theorem q1181 : (Jvm.Cond.methodLink "DownRope$Joined" (50 : Nat) ({ cls := "DownRope$Doubled", name := "failure", desc := "()LDownRope$Tossed;" } : Jvm.MethodName)) ∈ lw_all := lw_g (lw_at lw_m5 146 rfl) rfl
theorem q1200 : (Jvm.Cond.fieldLink "DownRope$Joined" (56 : Nat) "DownRope$Tossed" "n" "I") ∈ lw_all := lw_g (lw_at lw_m5 165 rfl) rfl
theorem q1206 : (Jvm.Cond.classLink "DownRope$Joined" (54 : Nat) "DownRope$Tossed") ∈ lw_all := lw_g (lw_at lw_m5 171 rfl) rfl
theorem q1207 : (Jvm.Cond.constant "DownRope$Joined" (59 : Nat) (100000 : Int32)) ∈ lw_all := lw_g (lw_at lw_m5 172 rfl) rfl
theorem q1208 : (Jvm.Cond.methodLink "DownRope$Joined" (60 : Nat) ({ cls := "DownRope$Tossed", name := "<init>", desc := "(I)V" } : Jvm.MethodName)) ∈ lw_all := lw_g (lw_at lw_m5 173 rfl) rfl
theorem q1751 : (Jvm.Cond.castable "DownRope$Joined" "DownRope$Move") ∈ lw_tbl := lw_at lw_m7 236 rfl
theorem in_X8 : ∀ w ∈ wsX80, w ∈ lw_all := lw_in wsX80 [942, 943, 944, 945] (by decide +kernel) (by decide +kernel)
/-! DownRope$Let -/
set_option maxRecDepth 100000
def RX9 : String := "DownRope$Let"
def TX9 : u_T := fun k => match k with
  | 0 => ("DownRope$Move", "set", "I", false)
  | 1 => ("DownRope$Move", "rope", "I", false)
  | 2 => ("DownRope$Move", "from", "I", false)
  | _ => ("DownRope$Move", "to", "I", false)
def tyX9 : Nat → FieldType := fun k => match k with
  | 0 => .int
  | 1 => .int
  | 2 => .int
  | _ => .int
abbrev wsX90 : List Cond := u_ws RX9 TX9 4
theorem nmX9 : ∀ a, a < 4 → ∀ b, b < 4 → a ≠ b → (TX9 a).2.1 ≠ (TX9 b).2.1 := by decide +kernel
theorem tyX9_ok : ∀ k, k < 4 → parseFieldDescriptor (TX9 k).2.2.1 = some (tyX9 k) := by decide +kernel
abbrev cX9_minutes : ByteArray := prog_9_method_3_code
def yX9_minutes : MethodName := ⟨RX9, "minutes", "(LDownRope$Face;LDownRope$Spot;)I"⟩
def dkwX9_minutes_3 : List UInt8 := [180, 0, 39, 46, 164, 0, 6, 16, 253, 172, 29, 8, 108, 6, 96, 172]
abbrev dktX9_minutes_3 : List UInt8 := dkwX9_minutes_3 ++ []
def dkwX9_minutes_2 : List UInt8 := [153, 0, 29, 42, 43, 44, 42, 180, 0, 39, 182, 0, 42, 153, 0, 16, 29, 43, 180, 0, 46, 42]
abbrev dktX9_minutes_2 : List UInt8 := dkwX9_minutes_2 ++ dktX9_minutes_3
def dkwX9_minutes_1 : List UInt8 := [184, 0, 27, 4, 160, 0, 48, 42, 43, 44, 3, 182, 0, 31, 153, 0, 38, 42, 43, 44, 182, 0, 35]
abbrev dktX9_minutes_1 : List UInt8 := dkwX9_minutes_1 ++ dktX9_minutes_2
def dkwX9_minutes_0 : List UInt8 := [43, 42, 180, 0, 9, 42, 180, 0, 15, 182, 0, 18, 62, 29, 16, 252, 159, 0, 59, 42, 180, 0, 24]
abbrev dktX9_minutes_0 : List UInt8 := dkwX9_minutes_0 ++ dktX9_minutes_1
theorem dksX9_minutes_0 : cX9_minutes.data.toList.drop 0 = dktX9_minutes_0 := by decide +kernel
theorem dksX9_minutes_1 : cX9_minutes.data.toList.drop 23 = dktX9_minutes_1 := dk_seg dksX9_minutes_0 23 rfl rfl
theorem dksX9_minutes_2 : cX9_minutes.data.toList.drop 46 = dktX9_minutes_2 := dk_seg dksX9_minutes_1 23 rfl rfl
theorem dksX9_minutes_3 : cX9_minutes.data.toList.drop 68 = dktX9_minutes_3 := dk_seg dksX9_minutes_2 22 rfl rfl
theorem dX9_minutes_0 : decode cX9_minutes 0 = .ok (.aload_n 1, 1) := dk_43 (dk_at dksX9_minutes_0 0 rfl rfl)
theorem dX9_minutes_1 : decode cX9_minutes 1 = .ok (.aload_n 0, 1) := dk_42 (dk_at dksX9_minutes_0 1 rfl rfl)
theorem dX9_minutes_2 : decode cX9_minutes 2 = .ok (.getfield 9, 3) := dk_180 0 9 (dk_at dksX9_minutes_0 2 rfl rfl)
theorem dX9_minutes_5 : decode cX9_minutes 5 = .ok (.aload_n 0, 1) := dk_42 (dk_at dksX9_minutes_0 5 rfl rfl)
theorem dX9_minutes_6 : decode cX9_minutes 6 = .ok (.getfield 15, 3) := dk_180 0 15 (dk_at dksX9_minutes_0 6 rfl rfl)
theorem dX9_minutes_9 : decode cX9_minutes 9 = .ok (.invokevirtual 18, 3) := dk_182 0 18 (dk_at dksX9_minutes_0 9 rfl rfl)
theorem dX9_minutes_12 : decode cX9_minutes 12 = .ok (.istore_n 3, 1) := dk_62 (dk_at dksX9_minutes_0 12 rfl rfl)
theorem dX9_minutes_13 : decode cX9_minutes 13 = .ok (.iload_n 3, 1) := dk_29 (dk_at dksX9_minutes_0 13 rfl rfl)
theorem dX9_minutes_14 : decode cX9_minutes 14 = .ok (.bipush (-4), 2) := dk_16 252 (dk_at dksX9_minutes_0 14 rfl rfl)
theorem dX9_minutes_16 : decode cX9_minutes 16 = .ok (.if_icmp .eq 59, 3) := dk_159 0 59 (dk_at dksX9_minutes_0 16 rfl rfl)
theorem dX9_minutes_19 : decode cX9_minutes 19 = .ok (.aload_n 0, 1) := dk_42 (dk_at dksX9_minutes_0 19 rfl rfl)
theorem dX9_minutes_20 : decode cX9_minutes 20 = .ok (.getfield 24, 3) := dk_180 0 24 (dk_at dksX9_minutes_0 20 rfl rfl)
theorem dX9_minutes_23 : decode cX9_minutes 23 = .ok (.invokestatic 27, 3) := dk_184 0 27 (dk_at dksX9_minutes_1 0 rfl rfl)
theorem dX9_minutes_26 : decode cX9_minutes 26 = .ok (.iconst 1, 1) := dk_4 (dk_at dksX9_minutes_1 3 rfl rfl)
theorem dX9_minutes_27 : decode cX9_minutes 27 = .ok (.if_icmp .ne 48, 3) := dk_160 0 48 (dk_at dksX9_minutes_1 4 rfl rfl)
theorem dX9_minutes_30 : decode cX9_minutes 30 = .ok (.aload_n 0, 1) := dk_42 (dk_at dksX9_minutes_1 7 rfl rfl)
theorem dX9_minutes_31 : decode cX9_minutes 31 = .ok (.aload_n 1, 1) := dk_43 (dk_at dksX9_minutes_1 8 rfl rfl)
theorem dX9_minutes_32 : decode cX9_minutes 32 = .ok (.aload_n 2, 1) := dk_44 (dk_at dksX9_minutes_1 9 rfl rfl)
theorem dX9_minutes_33 : decode cX9_minutes 33 = .ok (.iconst 0, 1) := dk_3 (dk_at dksX9_minutes_1 10 rfl rfl)
theorem dX9_minutes_34 : decode cX9_minutes 34 = .ok (.invokevirtual 31, 3) := dk_182 0 31 (dk_at dksX9_minutes_1 11 rfl rfl)
theorem dX9_minutes_37 : decode cX9_minutes 37 = .ok (.ifCond .eq 38, 3) := dk_153 0 38 (dk_at dksX9_minutes_1 14 rfl rfl)
theorem dX9_minutes_40 : decode cX9_minutes 40 = .ok (.aload_n 0, 1) := dk_42 (dk_at dksX9_minutes_1 17 rfl rfl)
theorem dX9_minutes_41 : decode cX9_minutes 41 = .ok (.aload_n 1, 1) := dk_43 (dk_at dksX9_minutes_1 18 rfl rfl)
theorem dX9_minutes_42 : decode cX9_minutes 42 = .ok (.aload_n 2, 1) := dk_44 (dk_at dksX9_minutes_1 19 rfl rfl)
theorem dX9_minutes_43 : decode cX9_minutes 43 = .ok (.invokevirtual 35, 3) := dk_182 0 35 (dk_at dksX9_minutes_1 20 rfl rfl)
theorem dX9_minutes_46 : decode cX9_minutes 46 = .ok (.ifCond .eq 29, 3) := dk_153 0 29 (dk_at dksX9_minutes_2 0 rfl rfl)
theorem dX9_minutes_49 : decode cX9_minutes 49 = .ok (.aload_n 0, 1) := dk_42 (dk_at dksX9_minutes_2 3 rfl rfl)
theorem dX9_minutes_50 : decode cX9_minutes 50 = .ok (.aload_n 1, 1) := dk_43 (dk_at dksX9_minutes_2 4 rfl rfl)
theorem dX9_minutes_51 : decode cX9_minutes 51 = .ok (.aload_n 2, 1) := dk_44 (dk_at dksX9_minutes_2 5 rfl rfl)
theorem dX9_minutes_52 : decode cX9_minutes 52 = .ok (.aload_n 0, 1) := dk_42 (dk_at dksX9_minutes_2 6 rfl rfl)
theorem dX9_minutes_53 : decode cX9_minutes 53 = .ok (.getfield 39, 3) := dk_180 0 39 (dk_at dksX9_minutes_2 7 rfl rfl)
theorem dX9_minutes_56 : decode cX9_minutes 56 = .ok (.invokevirtual 42, 3) := dk_182 0 42 (dk_at dksX9_minutes_2 10 rfl rfl)
theorem dX9_minutes_59 : decode cX9_minutes 59 = .ok (.ifCond .eq 16, 3) := dk_153 0 16 (dk_at dksX9_minutes_2 13 rfl rfl)
theorem dX9_minutes_62 : decode cX9_minutes 62 = .ok (.iload_n 3, 1) := dk_29 (dk_at dksX9_minutes_2 16 rfl rfl)
theorem dX9_minutes_63 : decode cX9_minutes 63 = .ok (.aload_n 1, 1) := dk_43 (dk_at dksX9_minutes_2 17 rfl rfl)
theorem dX9_minutes_64 : decode cX9_minutes 64 = .ok (.getfield 46, 3) := dk_180 0 46 (dk_at dksX9_minutes_2 18 rfl rfl)
theorem dX9_minutes_67 : decode cX9_minutes 67 = .ok (.aload_n 0, 1) := dk_42 (dk_at dksX9_minutes_2 21 rfl rfl)
theorem dX9_minutes_68 : decode cX9_minutes 68 = .ok (.getfield 39, 3) := dk_180 0 39 (dk_at dksX9_minutes_3 0 rfl rfl)
theorem dX9_minutes_71 : decode cX9_minutes 71 = .ok (.iaload, 1) := dk_46 (dk_at dksX9_minutes_3 3 rfl rfl)
theorem dX9_minutes_72 : decode cX9_minutes 72 = .ok (.if_icmp .le 6, 3) := dk_164 0 6 (dk_at dksX9_minutes_3 4 rfl rfl)
theorem dX9_minutes_75 : decode cX9_minutes 75 = .ok (.bipush (-3), 2) := dk_16 253 (dk_at dksX9_minutes_3 7 rfl rfl)
theorem dX9_minutes_77 : decode cX9_minutes 77 = .ok (.ireturn, 1) := dk_172 (dk_at dksX9_minutes_3 9 rfl rfl)
theorem dX9_minutes_78 : decode cX9_minutes 78 = .ok (.iload_n 3, 1) := dk_29 (dk_at dksX9_minutes_3 10 rfl rfl)
theorem dX9_minutes_79 : decode cX9_minutes 79 = .ok (.iconst 5, 1) := dk_8 (dk_at dksX9_minutes_3 11 rfl rfl)
theorem dX9_minutes_80 : decode cX9_minutes 80 = .ok (.idiv, 1) := dk_108 (dk_at dksX9_minutes_3 12 rfl rfl)
theorem dX9_minutes_81 : decode cX9_minutes 81 = .ok (.iconst 3, 1) := dk_6 (dk_at dksX9_minutes_3 13 rfl rfl)
theorem dX9_minutes_82 : decode cX9_minutes 82 = .ok (.iadd, 1) := dk_96 (dk_at dksX9_minutes_3 14 rfl rfl)
theorem dX9_minutes_83 : decode cX9_minutes 83 = .ok (.ireturn, 1) := dk_172 (dk_at dksX9_minutes_3 15 rfl rfl)
abbrev cX9_kind : ByteArray := prog_9_method_2_code
def yX9_kind : MethodName := ⟨RX9, "kind", "()I"⟩
theorem dX9_kind_0 : decode cX9_kind 0 = .ok (.iconst 4, 1) := by decide +kernel
theorem dX9_kind_1 : decode cX9_kind 1 = .ok (.ireturn, 1) := by decide +kernel
abbrev cX9_init : ByteArray := prog_9_method_1_code
def yX9_init : MethodName := ⟨RX9, "<init>", "()V"⟩
theorem dX9_init_0 : decode cX9_init 0 = .ok (.aload_n 0, 1) := by decide +kernel
theorem dX9_init_1 : decode cX9_init 1 = .ok (.invokespecial 3, 3) := by decide +kernel
theorem dX9_init_4 : decode cX9_init 4 = .ok (.return_, 1) := by decide +kernel
abbrev cX9_effort : ByteArray := prog_9_method_4_code
def yX9_effort : MethodName := ⟨RX9, "effort", "(LDownRope$Face;)I"⟩
def dkwX9_effort_0 : List UInt8 := [42, 43, 183, 0, 50, 16, 9, 96, 172]
abbrev dktX9_effort_0 : List UInt8 := dkwX9_effort_0 ++ []
theorem dksX9_effort_0 : cX9_effort.data.toList.drop 0 = dktX9_effort_0 := by decide +kernel
theorem dX9_effort_0 : decode cX9_effort 0 = .ok (.aload_n 0, 1) := dk_42 (dk_at dksX9_effort_0 0 rfl rfl)
theorem dX9_effort_1 : decode cX9_effort 1 = .ok (.aload_n 1, 1) := dk_43 (dk_at dksX9_effort_0 1 rfl rfl)
theorem dX9_effort_2 : decode cX9_effort 2 = .ok (.invokespecial 50, 3) := dk_183 0 50 (dk_at dksX9_effort_0 2 rfl rfl)
theorem dX9_effort_5 : decode cX9_effort 5 = .ok (.bipush 9, 2) := dk_16 9 (dk_at dksX9_effort_0 5 rfl rfl)
theorem dX9_effort_7 : decode cX9_effort 7 = .ok (.iadd, 1) := dk_96 (dk_at dksX9_effort_0 7 rfl rfl)
theorem dX9_effort_8 : decode cX9_effort 8 = .ok (.ireturn, 1) := dk_172 (dk_at dksX9_effort_0 8 rfl rfl)
abbrev cX9_failure : ByteArray := prog_9_method_5_code
def yX9_failure : MethodName := ⟨RX9, "failure", "()LDownRope$Tossed;"⟩
def dkwX9_failure_1 : List UInt8 := [183, 0, 61, 176]
abbrev dktX9_failure_1 : List UInt8 := dkwX9_failure_1 ++ []
def dkwX9_failure_0 : List UInt8 := [42, 183, 0, 54, 199, 0, 7, 1, 167, 0, 17, 187, 0, 58, 89, 18, 60, 42, 180, 0, 15, 96]
abbrev dktX9_failure_0 : List UInt8 := dkwX9_failure_0 ++ dktX9_failure_1
theorem dksX9_failure_0 : cX9_failure.data.toList.drop 0 = dktX9_failure_0 := by decide +kernel
theorem dksX9_failure_1 : cX9_failure.data.toList.drop 22 = dktX9_failure_1 := dk_seg dksX9_failure_0 22 rfl rfl
theorem dX9_failure_0 : decode cX9_failure 0 = .ok (.aload_n 0, 1) := dk_42 (dk_at dksX9_failure_0 0 rfl rfl)
theorem dX9_failure_1 : decode cX9_failure 1 = .ok (.invokespecial 54, 3) := dk_183 0 54 (dk_at dksX9_failure_0 1 rfl rfl)
theorem dX9_failure_4 : decode cX9_failure 4 = .ok (.ifnonnull 7, 3) := dk_199 0 7 (dk_at dksX9_failure_0 4 rfl rfl)
theorem dX9_failure_7 : decode cX9_failure 7 = .ok (.aconst_null, 1) := dk_1 (dk_at dksX9_failure_0 7 rfl rfl)
theorem dX9_failure_8 : decode cX9_failure 8 = .ok (.goto 17, 3) := dk_167 0 17 (dk_at dksX9_failure_0 8 rfl rfl)
theorem dX9_failure_11 : decode cX9_failure 11 = .ok (.new 58, 3) := dk_187 0 58 (dk_at dksX9_failure_0 11 rfl rfl)
theorem dX9_failure_14 : decode cX9_failure 14 = .ok (.dup, 1) := dk_89 (dk_at dksX9_failure_0 14 rfl rfl)
theorem dX9_failure_15 : decode cX9_failure 15 = .ok (.ldc 60, 2) := dk_18 60 (dk_at dksX9_failure_0 15 rfl rfl)
theorem dX9_failure_17 : decode cX9_failure 17 = .ok (.aload_n 0, 1) := dk_42 (dk_at dksX9_failure_0 17 rfl rfl)
theorem dX9_failure_18 : decode cX9_failure 18 = .ok (.getfield 15, 3) := dk_180 0 15 (dk_at dksX9_failure_0 18 rfl rfl)
theorem dX9_failure_21 : decode cX9_failure 21 = .ok (.iadd, 1) := dk_96 (dk_at dksX9_failure_0 21 rfl rfl)
theorem dX9_failure_22 : decode cX9_failure 22 = .ok (.invokespecial 61, 3) := dk_183 0 61 (dk_at dksX9_failure_1 0 rfl rfl)
theorem dX9_failure_25 : decode cX9_failure 25 = .ok (.areturn, 1) := dk_176 (dk_at dksX9_failure_1 3 rfl rfl)
theorem q84 : (Jvm.Cond.initialized "DownRope$Let") ∈ lw_all := lw_g (lw_at lw_m1 9 rfl) rfl
theorem q389 : (Jvm.Cond.selects "DownRope$Let" ({ cls := "DownRope$Move", name := "tells", desc := "(IIII)LDownRope$Move;" } : Jvm.MethodName) ({ cls := "DownRope$Move", name := "tells", desc := "(IIII)LDownRope$Move;" } : Jvm.MethodName)) ∈ lw_all := lw_g (lw_at lw_m2 74 rfl) rfl
theorem q461 : (Jvm.Cond.selects "DownRope$Let" ({ cls := "DownRope$Move", name := "minutes", desc := "(LDownRope$Face;LDownRope$Spot;)I" } : Jvm.MethodName) ({ cls := "DownRope$Let", name := "minutes", desc := "(LDownRope$Face;LDownRope$Spot;)I" } : Jvm.MethodName)) ∈ lw_all := lw_g (lw_at lw_m2 146 rfl) rfl
theorem q462 : (Jvm.Cond.instanceMethod ({ cls := "DownRope$Let", name := "minutes", desc := "(LDownRope$Face;LDownRope$Spot;)I" } : Jvm.MethodName)) ∈ lw_all := lw_g (lw_at lw_m2 147 rfl) rfl
theorem q463 : (Jvm.Cond.code ({ cls := "DownRope$Let", name := "minutes", desc := "(LDownRope$Face;LDownRope$Spot;)I" } : Jvm.MethodName) prog_9_method_3_code (4 : Nat) (Option.some Jvm.ClassFile.FieldType.int)) ∈ lw_all := lw_g (lw_at lw_m2 148 rfl) rfl
theorem q464 : (Jvm.Cond.methodLink "DownRope$Let" (18 : Nat) ({ cls := "DownRope$Face", name := "far", desc := "(II)I" } : Jvm.MethodName)) ∈ lw_all := lw_g (lw_at lw_m2 149 rfl) rfl
theorem q465 : (Jvm.Cond.methodLinkNest "DownRope$Let" (27 : Nat) ({ cls := "DownRope", name := "bits", desc := "(I)I" } : Jvm.MethodName) "DownRope") ∈ lw_tbl := lw_at lw_m2 150 rfl
theorem q466 : (Jvm.Cond.methodLink "DownRope$Let" (31 : Nat) ({ cls := "DownRope$Let", name := "canGo", desc := "(LDownRope$Face;LDownRope$Spot;Z)Z" } : Jvm.MethodName)) ∈ lw_all := lw_g (lw_at lw_m2 151 rfl) rfl
theorem q467 : (Jvm.Cond.sameMethod "DownRope$Let" "DownRope$Move" "canGo" "(LDownRope$Face;LDownRope$Spot;Z)Z") ∈ lw_all := lw_g (lw_at lw_m2 152 rfl) rfl
theorem q468 : (Jvm.Cond.selects "DownRope$Let" ({ cls := "DownRope$Let", name := "canGo", desc := "(LDownRope$Face;LDownRope$Spot;Z)Z" } : Jvm.MethodName) ({ cls := "DownRope$Move", name := "canGo", desc := "(LDownRope$Face;LDownRope$Spot;Z)Z" } : Jvm.MethodName)) ∈ lw_all := lw_g (lw_at lw_m2 153 rfl) rfl
theorem q469 : (Jvm.Cond.methodLink "DownRope$Let" (35 : Nat) ({ cls := "DownRope$Let", name := "hasHelp", desc := "(LDownRope$Face;LDownRope$Spot;)Z" } : Jvm.MethodName)) ∈ lw_all := lw_g (lw_at lw_m2 154 rfl) rfl
theorem q470 : (Jvm.Cond.sameMethod "DownRope$Let" "DownRope$Move" "hasHelp" "(LDownRope$Face;LDownRope$Spot;)Z") ∈ lw_all := lw_g (lw_at lw_m2 155 rfl) rfl
theorem q472 : (Jvm.Cond.selects "DownRope$Let" ({ cls := "DownRope$Let", name := "hasHelp", desc := "(LDownRope$Face;LDownRope$Spot;)Z" } : Jvm.MethodName) ({ cls := "DownRope$Move", name := "hasHelp", desc := "(LDownRope$Face;LDownRope$Spot;)Z" } : Jvm.MethodName)) ∈ lw_all := lw_g (lw_at lw_m2 157 rfl) rfl
theorem q475 : (Jvm.Cond.methodLink "DownRope$Let" (42 : Nat) ({ cls := "DownRope$Let", name := "hasRope", desc := "(LDownRope$Face;LDownRope$Spot;I)Z" } : Jvm.MethodName)) ∈ lw_all := lw_g (lw_at lw_m2 160 rfl) rfl
theorem q476 : (Jvm.Cond.sameMethod "DownRope$Let" "DownRope$Move" "hasRope" "(LDownRope$Face;LDownRope$Spot;I)Z") ∈ lw_all := lw_g (lw_at lw_m2 161 rfl) rfl
theorem q477 : (Jvm.Cond.selects "DownRope$Let" ({ cls := "DownRope$Let", name := "hasRope", desc := "(LDownRope$Face;LDownRope$Spot;I)Z" } : Jvm.MethodName) ({ cls := "DownRope$Move", name := "hasRope", desc := "(LDownRope$Face;LDownRope$Spot;I)Z" } : Jvm.MethodName)) ∈ lw_all := lw_g (lw_at lw_m2 162 rfl) rfl
theorem q522 : (Jvm.Cond.selects "DownRope$Let" ({ cls := "DownRope$Move", name := "moves", desc := "(LDownRope$Spot;)V" } : Jvm.MethodName) ({ cls := "DownRope$Move", name := "moves", desc := "(LDownRope$Spot;)V" } : Jvm.MethodName)) ∈ lw_all := lw_g (lw_at lw_m2 207 rfl) rfl
theorem q530 : (Jvm.Cond.selects "DownRope$Let" ({ cls := "DownRope$Move", name := "does", desc := "(LDownRope$Spot;)V" } : Jvm.MethodName) ({ cls := "DownRope$Move", name := "does", desc := "(LDownRope$Spot;)V" } : Jvm.MethodName)) ∈ lw_all := lw_g (lw_at lw_m2 215 rfl) rfl
theorem q564 : (Jvm.Cond.selects "DownRope$Let" ({ cls := "DownRope$Move", name := "told", desc := "()I" } : Jvm.MethodName) ({ cls := "DownRope$Move", name := "told", desc := "()I" } : Jvm.MethodName)) ∈ lw_all := lw_g (lw_at lw_m3 9 rfl) rfl
theorem q581 : (Jvm.Cond.selects "DownRope$Let" ({ cls := "DownRope$Move", name := "kind", desc := "()I" } : Jvm.MethodName) ({ cls := "DownRope$Let", name := "kind", desc := "()I" } : Jvm.MethodName)) ∈ lw_all := lw_g (lw_at lw_m3 26 rfl) rfl
theorem q582 : (Jvm.Cond.instanceMethod ({ cls := "DownRope$Let", name := "kind", desc := "()I" } : Jvm.MethodName)) ∈ lw_all := lw_g (lw_at lw_m3 27 rfl) rfl
theorem q583 : (Jvm.Cond.code ({ cls := "DownRope$Let", name := "kind", desc := "()I" } : Jvm.MethodName) prog_9_method_2_code (1 : Nat) (Option.some Jvm.ClassFile.FieldType.int)) ∈ lw_all := lw_g (lw_at lw_m3 28 rfl) rfl
theorem q798 : (Jvm.Cond.fieldLink "DownRope$Let" (46 : Nat) "DownRope$Face" "length" "[I") ∈ lw_all := lw_g (lw_at lw_m4 3 rfl) rfl
theorem q864 : (Jvm.Cond.fieldLink "DownRope$Let" (24 : Nat) "DownRope$Let" "set" "I") ∈ lw_all := lw_g (lw_at lw_m4 69 rfl) rfl
theorem q865 : (Jvm.Cond.sameField "DownRope$Let" "DownRope$Move" "set" "I") ∈ lw_all := lw_g (lw_at lw_m4 70 rfl) rfl
theorem q879 : (Jvm.Cond.fieldLink "DownRope$Let" (39 : Nat) "DownRope$Let" "rope" "I") ∈ lw_all := lw_g (lw_at lw_m4 84 rfl) rfl
theorem q880 : (Jvm.Cond.sameField "DownRope$Let" "DownRope$Move" "rope" "I") ∈ lw_all := lw_g (lw_at lw_m4 85 rfl) rfl
theorem q883 : (Jvm.Cond.fieldLink "DownRope$Let" (9 : Nat) "DownRope$Let" "from" "I") ∈ lw_all := lw_g (lw_at lw_m4 88 rfl) rfl
theorem q884 : (Jvm.Cond.sameField "DownRope$Let" "DownRope$Move" "from" "I") ∈ lw_all := lw_g (lw_at lw_m4 89 rfl) rfl
theorem q894 : (Jvm.Cond.fieldLink "DownRope$Let" (15 : Nat) "DownRope$Let" "to" "I") ∈ lw_all := lw_g (lw_at lw_m4 99 rfl) rfl
theorem q895 : (Jvm.Cond.sameField "DownRope$Let" "DownRope$Move" "to" "I") ∈ lw_all := lw_g (lw_at lw_m4 100 rfl) rfl
theorem q947 : (Jvm.Cond.instantiable "DownRope$Let" (4 : Nat)) ∈ lw_all := lw_g (lw_at lw_m4 152 rfl) rfl
theorem q949 : (Jvm.Cond.instanceMethod ({ cls := "DownRope$Let", name := "<init>", desc := "()V" } : Jvm.MethodName)) ∈ lw_all := lw_g (lw_at lw_m4 154 rfl) rfl
theorem q950 : (Jvm.Cond.code ({ cls := "DownRope$Let", name := "<init>", desc := "()V" } : Jvm.MethodName) prog_9_method_1_code (1 : Nat) (Option.none : Option Jvm.ClassFile.FieldType)) ∈ lw_all := lw_g (lw_at lw_m4 155 rfl) rfl
theorem q951 : (Jvm.Cond.methodLinkNest "DownRope$Let" (3 : Nat) ({ cls := "DownRope$Move", name := "<init>", desc := "()V" } : Jvm.MethodName) "DownRope") ∈ lw_tbl := lw_at lw_m4 156 rfl
theorem q952 : (Jvm.Cond.lays "DownRope$Let" "DownRope$Move" "set" "I") ∈ lw_all := lw_g (lw_at lw_m4 157 rfl) rfl
theorem q953 : (Jvm.Cond.lays "DownRope$Let" "DownRope$Move" "rope" "I") ∈ lw_all := lw_g (lw_at lw_m4 158 rfl) rfl
theorem q954 : (Jvm.Cond.lays "DownRope$Let" "DownRope$Move" "from" "I") ∈ lw_all := lw_g (lw_at lw_m4 159 rfl) rfl
theorem q955 : (Jvm.Cond.lays "DownRope$Let" "DownRope$Move" "to" "I") ∈ lw_all := lw_g (lw_at lw_m4 160 rfl) rfl
theorem q956 : (Jvm.Cond.superclass "DownRope$Let" "DownRope$Move") ∈ lw_all := lw_g (lw_at lw_m4 161 rfl) rfl
theorem q1156 : (Jvm.Cond.selects "DownRope$Let" ({ cls := "DownRope$Tires", name := "effort", desc := "(LDownRope$Face;)I" } : Jvm.MethodName) ({ cls := "DownRope$Let", name := "effort", desc := "(LDownRope$Face;)I" } : Jvm.MethodName)) ∈ lw_all := lw_g (lw_at lw_m5 121 rfl) rfl
theorem q1157 : (Jvm.Cond.instanceMethod ({ cls := "DownRope$Let", name := "effort", desc := "(LDownRope$Face;)I" } : Jvm.MethodName)) ∈ lw_all := lw_g (lw_at lw_m5 122 rfl) rfl
theorem q1158 : (Jvm.Cond.code ({ cls := "DownRope$Let", name := "effort", desc := "(LDownRope$Face;)I" } : Jvm.MethodName) prog_9_method_4_code (2 : Nat) (Option.some Jvm.ClassFile.FieldType.int)) ∈ lw_all := lw_g (lw_at lw_m5 123 rfl) rfl
theorem q1209 : (Jvm.Cond.selects "DownRope$Let" ({ cls := "DownRope$Move", name := "failure", desc := "()LDownRope$Tossed;" } : Jvm.MethodName) ({ cls := "DownRope$Let", name := "failure", desc := "()LDownRope$Tossed;" } : Jvm.MethodName)) ∈ lw_all := lw_g (lw_at lw_m5 174 rfl) rfl
theorem q1210 : (Jvm.Cond.instanceMethod ({ cls := "DownRope$Let", name := "failure", desc := "()LDownRope$Tossed;" } : Jvm.MethodName)) ∈ lw_all := lw_g (lw_at lw_m5 175 rfl) rfl
theorem q1211 : (Jvm.Cond.code ({ cls := "DownRope$Let", name := "failure", desc := "()LDownRope$Tossed;" } : Jvm.MethodName) prog_9_method_5_code (1 : Nat) (Option.some (Jvm.ClassFile.FieldType.object "DownRope$Tossed"))) ∈ lw_all := lw_g (lw_at lw_m5 176 rfl) rfl
theorem q1212 : (Jvm.Cond.methodLink "DownRope$Let" (54 : Nat) ({ cls := "DownRope$Move", name := "failure", desc := "()LDownRope$Tossed;" } : Jvm.MethodName)) ∈ lw_all := lw_g (lw_at lw_m5 177 rfl) rfl
theorem q1213 : (Jvm.Cond.classLink "DownRope$Let" (58 : Nat) "DownRope$Tossed") ∈ lw_all := lw_g (lw_at lw_m5 178 rfl) rfl
theorem q1214 : (Jvm.Cond.constant "DownRope$Let" (60 : Nat) (200000 : Int32)) ∈ lw_all := lw_g (lw_at lw_m5 179 rfl) rfl
theorem q1215 : (Jvm.Cond.methodLink "DownRope$Let" (61 : Nat) ({ cls := "DownRope$Tossed", name := "<init>", desc := "(I)V" } : Jvm.MethodName)) ∈ lw_all := lw_g (lw_at lw_m5 180 rfl) rfl
theorem q1752 : (Jvm.Cond.castable "DownRope$Let" "DownRope$Move") ∈ lw_tbl := lw_at lw_m7 237 rfl
theorem in_X9 : ∀ w ∈ wsX90, w ∈ lw_all := lw_in wsX90 [952, 953, 954, 955] (by decide +kernel) (by decide +kernel)
/-! DownRope$Climb -/
set_option maxRecDepth 100000
def RX10 : String := "DownRope$Climb"
def TX10 : u_T := fun k => match k with
  | 0 => ("DownRope$Move", "set", "I", false)
  | 1 => ("DownRope$Move", "rope", "I", false)
  | 2 => ("DownRope$Move", "from", "I", false)
  | _ => ("DownRope$Move", "to", "I", false)
def tyX10 : Nat → FieldType := fun k => match k with
  | 0 => .int
  | 1 => .int
  | 2 => .int
  | _ => .int
abbrev wsX100 : List Cond := u_ws RX10 TX10 4
theorem nmX10 : ∀ a, a < 4 → ∀ b, b < 4 → a ≠ b → (TX10 a).2.1 ≠ (TX10 b).2.1 := by decide +kernel
theorem tyX10_ok : ∀ k, k < 4 → parseFieldDescriptor (TX10 k).2.2.1 = some (tyX10 k) := by decide +kernel
abbrev cX10_minutes : ByteArray := prog_3_method_4_code
def yX10_minutes : MethodName := ⟨RX10, "minutes", "(LDownRope$Face;LDownRope$Spot;)I"⟩
def dkwX10_minutes_4 : List UInt8 := [162, 0, 7, 6, 167, 0, 4, 3, 96, 172]
abbrev dktX10_minutes_4 : List UInt8 := dkwX10_minutes_4 ++ []
def dkwX10_minutes_3 : List UInt8 := [154, 0, 6, 16, 253, 172, 43, 180, 0, 58, 29, 46, 7, 108, 5, 96, 42, 180, 0, 27, 42, 180, 0, 24]
abbrev dktX10_minutes_3 : List UInt8 := dkwX10_minutes_3 ++ dktX10_minutes_4
def dkwX10_minutes_2 : List UInt8 := [44, 4, 182, 0, 46, 153, 0, 20, 42, 43, 182, 0, 50, 153, 0, 12, 43, 180, 0, 54, 29, 51]
abbrev dktX10_minutes_2 : List UInt8 := dkwX10_minutes_2 ++ dktX10_minutes_3
def dkwX10_minutes_1 : List UInt8 := [180, 0, 40, 154, 0, 46, 42, 180, 0, 24, 42, 180, 0, 27, 100, 184, 0, 43, 4, 160, 0, 30, 42, 43]
abbrev dktX10_minutes_1 : List UInt8 := dkwX10_minutes_1 ++ dktX10_minutes_2
def dkwX10_minutes_0 : List UInt8 := [42, 180, 0, 24, 42, 180, 0, 27, 184, 0, 30, 62, 42, 180, 0, 15, 184, 0, 36, 4, 160, 0, 53, 42]
abbrev dktX10_minutes_0 : List UInt8 := dkwX10_minutes_0 ++ dktX10_minutes_1
theorem dksX10_minutes_0 : cX10_minutes.data.toList.drop 0 = dktX10_minutes_0 := by decide +kernel
theorem dksX10_minutes_1 : cX10_minutes.data.toList.drop 24 = dktX10_minutes_1 := dk_seg dksX10_minutes_0 24 rfl rfl
theorem dksX10_minutes_2 : cX10_minutes.data.toList.drop 48 = dktX10_minutes_2 := dk_seg dksX10_minutes_1 24 rfl rfl
theorem dksX10_minutes_3 : cX10_minutes.data.toList.drop 70 = dktX10_minutes_3 := dk_seg dksX10_minutes_2 22 rfl rfl
theorem dksX10_minutes_4 : cX10_minutes.data.toList.drop 94 = dktX10_minutes_4 := dk_seg dksX10_minutes_3 24 rfl rfl
theorem dX10_minutes_0 : decode cX10_minutes 0 = .ok (.aload_n 0, 1) := dk_42 (dk_at dksX10_minutes_0 0 rfl rfl)
theorem dX10_minutes_1 : decode cX10_minutes 1 = .ok (.getfield 24, 3) := dk_180 0 24 (dk_at dksX10_minutes_0 1 rfl rfl)
theorem dX10_minutes_4 : decode cX10_minutes 4 = .ok (.aload_n 0, 1) := dk_42 (dk_at dksX10_minutes_0 4 rfl rfl)
theorem dX10_minutes_5 : decode cX10_minutes 5 = .ok (.getfield 27, 3) := dk_180 0 27 (dk_at dksX10_minutes_0 5 rfl rfl)
theorem dX10_minutes_8 : decode cX10_minutes 8 = .ok (.invokestatic 30, 3) := dk_184 0 30 (dk_at dksX10_minutes_0 8 rfl rfl)
theorem dX10_minutes_11 : decode cX10_minutes 11 = .ok (.istore_n 3, 1) := dk_62 (dk_at dksX10_minutes_0 11 rfl rfl)
theorem dX10_minutes_12 : decode cX10_minutes 12 = .ok (.aload_n 0, 1) := dk_42 (dk_at dksX10_minutes_0 12 rfl rfl)
theorem dX10_minutes_13 : decode cX10_minutes 13 = .ok (.getfield 15, 3) := dk_180 0 15 (dk_at dksX10_minutes_0 13 rfl rfl)
theorem dX10_minutes_16 : decode cX10_minutes 16 = .ok (.invokestatic 36, 3) := dk_184 0 36 (dk_at dksX10_minutes_0 16 rfl rfl)
theorem dX10_minutes_19 : decode cX10_minutes 19 = .ok (.iconst 1, 1) := dk_4 (dk_at dksX10_minutes_0 19 rfl rfl)
theorem dX10_minutes_20 : decode cX10_minutes 20 = .ok (.if_icmp .ne 53, 3) := dk_160 0 53 (dk_at dksX10_minutes_0 20 rfl rfl)
theorem dX10_minutes_23 : decode cX10_minutes 23 = .ok (.aload_n 0, 1) := dk_42 (dk_at dksX10_minutes_0 23 rfl rfl)
theorem dX10_minutes_24 : decode cX10_minutes 24 = .ok (.getfield 40, 3) := dk_180 0 40 (dk_at dksX10_minutes_1 0 rfl rfl)
theorem dX10_minutes_27 : decode cX10_minutes 27 = .ok (.ifCond .ne 46, 3) := dk_154 0 46 (dk_at dksX10_minutes_1 3 rfl rfl)
theorem dX10_minutes_30 : decode cX10_minutes 30 = .ok (.aload_n 0, 1) := dk_42 (dk_at dksX10_minutes_1 6 rfl rfl)
theorem dX10_minutes_31 : decode cX10_minutes 31 = .ok (.getfield 24, 3) := dk_180 0 24 (dk_at dksX10_minutes_1 7 rfl rfl)
theorem dX10_minutes_34 : decode cX10_minutes 34 = .ok (.aload_n 0, 1) := dk_42 (dk_at dksX10_minutes_1 10 rfl rfl)
theorem dX10_minutes_35 : decode cX10_minutes 35 = .ok (.getfield 27, 3) := dk_180 0 27 (dk_at dksX10_minutes_1 11 rfl rfl)
theorem dX10_minutes_38 : decode cX10_minutes 38 = .ok (.isub, 1) := dk_100 (dk_at dksX10_minutes_1 14 rfl rfl)
theorem dX10_minutes_39 : decode cX10_minutes 39 = .ok (.invokestatic 43, 3) := dk_184 0 43 (dk_at dksX10_minutes_1 15 rfl rfl)
theorem dX10_minutes_42 : decode cX10_minutes 42 = .ok (.iconst 1, 1) := dk_4 (dk_at dksX10_minutes_1 18 rfl rfl)
theorem dX10_minutes_43 : decode cX10_minutes 43 = .ok (.if_icmp .ne 30, 3) := dk_160 0 30 (dk_at dksX10_minutes_1 19 rfl rfl)
theorem dX10_minutes_46 : decode cX10_minutes 46 = .ok (.aload_n 0, 1) := dk_42 (dk_at dksX10_minutes_1 22 rfl rfl)
theorem dX10_minutes_47 : decode cX10_minutes 47 = .ok (.aload_n 1, 1) := dk_43 (dk_at dksX10_minutes_1 23 rfl rfl)
theorem dX10_minutes_48 : decode cX10_minutes 48 = .ok (.aload_n 2, 1) := dk_44 (dk_at dksX10_minutes_2 0 rfl rfl)
theorem dX10_minutes_49 : decode cX10_minutes 49 = .ok (.iconst 1, 1) := dk_4 (dk_at dksX10_minutes_2 1 rfl rfl)
theorem dX10_minutes_50 : decode cX10_minutes 50 = .ok (.invokevirtual 46, 3) := dk_182 0 46 (dk_at dksX10_minutes_2 2 rfl rfl)
theorem dX10_minutes_53 : decode cX10_minutes 53 = .ok (.ifCond .eq 20, 3) := dk_153 0 20 (dk_at dksX10_minutes_2 5 rfl rfl)
theorem dX10_minutes_56 : decode cX10_minutes 56 = .ok (.aload_n 0, 1) := dk_42 (dk_at dksX10_minutes_2 8 rfl rfl)
theorem dX10_minutes_57 : decode cX10_minutes 57 = .ok (.aload_n 1, 1) := dk_43 (dk_at dksX10_minutes_2 9 rfl rfl)
theorem dX10_minutes_58 : decode cX10_minutes 58 = .ok (.invokevirtual 50, 3) := dk_182 0 50 (dk_at dksX10_minutes_2 10 rfl rfl)
theorem dX10_minutes_61 : decode cX10_minutes 61 = .ok (.ifCond .eq 12, 3) := dk_153 0 12 (dk_at dksX10_minutes_2 13 rfl rfl)
theorem dX10_minutes_64 : decode cX10_minutes 64 = .ok (.aload_n 1, 1) := dk_43 (dk_at dksX10_minutes_2 16 rfl rfl)
theorem dX10_minutes_65 : decode cX10_minutes 65 = .ok (.getfield 54, 3) := dk_180 0 54 (dk_at dksX10_minutes_2 17 rfl rfl)
theorem dX10_minutes_68 : decode cX10_minutes 68 = .ok (.iload_n 3, 1) := dk_29 (dk_at dksX10_minutes_2 20 rfl rfl)
theorem dX10_minutes_69 : decode cX10_minutes 69 = .ok (.baload, 1) := dk_51 (dk_at dksX10_minutes_2 21 rfl rfl)
theorem dX10_minutes_70 : decode cX10_minutes 70 = .ok (.ifCond .ne 6, 3) := dk_154 0 6 (dk_at dksX10_minutes_3 0 rfl rfl)
theorem dX10_minutes_73 : decode cX10_minutes 73 = .ok (.bipush (-3), 2) := dk_16 253 (dk_at dksX10_minutes_3 3 rfl rfl)
theorem dX10_minutes_75 : decode cX10_minutes 75 = .ok (.ireturn, 1) := dk_172 (dk_at dksX10_minutes_3 5 rfl rfl)
theorem dX10_minutes_76 : decode cX10_minutes 76 = .ok (.aload_n 1, 1) := dk_43 (dk_at dksX10_minutes_3 6 rfl rfl)
theorem dX10_minutes_77 : decode cX10_minutes 77 = .ok (.getfield 58, 3) := dk_180 0 58 (dk_at dksX10_minutes_3 7 rfl rfl)
theorem dX10_minutes_80 : decode cX10_minutes 80 = .ok (.iload_n 3, 1) := dk_29 (dk_at dksX10_minutes_3 10 rfl rfl)
theorem dX10_minutes_81 : decode cX10_minutes 81 = .ok (.iaload, 1) := dk_46 (dk_at dksX10_minutes_3 11 rfl rfl)
theorem dX10_minutes_82 : decode cX10_minutes 82 = .ok (.iconst 4, 1) := dk_7 (dk_at dksX10_minutes_3 12 rfl rfl)
theorem dX10_minutes_83 : decode cX10_minutes 83 = .ok (.idiv, 1) := dk_108 (dk_at dksX10_minutes_3 13 rfl rfl)
theorem dX10_minutes_84 : decode cX10_minutes 84 = .ok (.iconst 2, 1) := dk_5 (dk_at dksX10_minutes_3 14 rfl rfl)
theorem dX10_minutes_85 : decode cX10_minutes 85 = .ok (.iadd, 1) := dk_96 (dk_at dksX10_minutes_3 15 rfl rfl)
theorem dX10_minutes_86 : decode cX10_minutes 86 = .ok (.aload_n 0, 1) := dk_42 (dk_at dksX10_minutes_3 16 rfl rfl)
theorem dX10_minutes_87 : decode cX10_minutes 87 = .ok (.getfield 27, 3) := dk_180 0 27 (dk_at dksX10_minutes_3 17 rfl rfl)
theorem dX10_minutes_90 : decode cX10_minutes 90 = .ok (.aload_n 0, 1) := dk_42 (dk_at dksX10_minutes_3 20 rfl rfl)
theorem dX10_minutes_91 : decode cX10_minutes 91 = .ok (.getfield 24, 3) := dk_180 0 24 (dk_at dksX10_minutes_3 21 rfl rfl)
theorem dX10_minutes_94 : decode cX10_minutes 94 = .ok (.if_icmp .ge 7, 3) := dk_162 0 7 (dk_at dksX10_minutes_4 0 rfl rfl)
theorem dX10_minutes_97 : decode cX10_minutes 97 = .ok (.iconst 3, 1) := dk_6 (dk_at dksX10_minutes_4 3 rfl rfl)
theorem dX10_minutes_98 : decode cX10_minutes 98 = .ok (.goto 4, 3) := dk_167 0 4 (dk_at dksX10_minutes_4 4 rfl rfl)
theorem dX10_minutes_101 : decode cX10_minutes 101 = .ok (.iconst 0, 1) := dk_3 (dk_at dksX10_minutes_4 7 rfl rfl)
theorem dX10_minutes_102 : decode cX10_minutes 102 = .ok (.iadd, 1) := dk_96 (dk_at dksX10_minutes_4 8 rfl rfl)
theorem dX10_minutes_103 : decode cX10_minutes 103 = .ok (.ireturn, 1) := dk_172 (dk_at dksX10_minutes_4 9 rfl rfl)
abbrev cX10_isClimber : ByteArray := prog_3_method_3_code
def yX10_isClimber : MethodName := ⟨RX10, "isClimber", "(LDownRope$Face;)Z"⟩
def dkwX10_isClimber_1 : List UInt8 := [180, 0, 20, 28, 46, 153, 0, 5, 3, 172, 132, 2, 1, 167, 255, 222, 4, 172]
abbrev dktX10_isClimber_1 : List UInt8 := dkwX10_isClimber_1 ++ []
def dkwX10_isClimber_0 : List UInt8 := [3, 61, 28, 43, 180, 0, 9, 162, 0, 32, 42, 180, 0, 15, 28, 122, 4, 126, 4, 160, 0, 14, 43]
abbrev dktX10_isClimber_0 : List UInt8 := dkwX10_isClimber_0 ++ dktX10_isClimber_1
theorem dksX10_isClimber_0 : cX10_isClimber.data.toList.drop 0 = dktX10_isClimber_0 := by decide +kernel
theorem dksX10_isClimber_1 : cX10_isClimber.data.toList.drop 23 = dktX10_isClimber_1 := dk_seg dksX10_isClimber_0 23 rfl rfl
theorem dX10_isClimber_0 : decode cX10_isClimber 0 = .ok (.iconst 0, 1) := dk_3 (dk_at dksX10_isClimber_0 0 rfl rfl)
theorem dX10_isClimber_1 : decode cX10_isClimber 1 = .ok (.istore_n 2, 1) := dk_61 (dk_at dksX10_isClimber_0 1 rfl rfl)
theorem dX10_isClimber_2 : decode cX10_isClimber 2 = .ok (.iload_n 2, 1) := dk_28 (dk_at dksX10_isClimber_0 2 rfl rfl)
theorem dX10_isClimber_3 : decode cX10_isClimber 3 = .ok (.aload_n 1, 1) := dk_43 (dk_at dksX10_isClimber_0 3 rfl rfl)
theorem dX10_isClimber_4 : decode cX10_isClimber 4 = .ok (.getfield 9, 3) := dk_180 0 9 (dk_at dksX10_isClimber_0 4 rfl rfl)
theorem dX10_isClimber_7 : decode cX10_isClimber 7 = .ok (.if_icmp .ge 32, 3) := dk_162 0 32 (dk_at dksX10_isClimber_0 7 rfl rfl)
theorem dX10_isClimber_10 : decode cX10_isClimber 10 = .ok (.aload_n 0, 1) := dk_42 (dk_at dksX10_isClimber_0 10 rfl rfl)
theorem dX10_isClimber_11 : decode cX10_isClimber 11 = .ok (.getfield 15, 3) := dk_180 0 15 (dk_at dksX10_isClimber_0 11 rfl rfl)
theorem dX10_isClimber_14 : decode cX10_isClimber 14 = .ok (.iload_n 2, 1) := dk_28 (dk_at dksX10_isClimber_0 14 rfl rfl)
theorem dX10_isClimber_15 : decode cX10_isClimber 15 = .ok (.ishr, 1) := dk_122 (dk_at dksX10_isClimber_0 15 rfl rfl)
theorem dX10_isClimber_16 : decode cX10_isClimber 16 = .ok (.iconst 1, 1) := dk_4 (dk_at dksX10_isClimber_0 16 rfl rfl)
theorem dX10_isClimber_17 : decode cX10_isClimber 17 = .ok (.iand, 1) := dk_126 (dk_at dksX10_isClimber_0 17 rfl rfl)
theorem dX10_isClimber_18 : decode cX10_isClimber 18 = .ok (.iconst 1, 1) := dk_4 (dk_at dksX10_isClimber_0 18 rfl rfl)
theorem dX10_isClimber_19 : decode cX10_isClimber 19 = .ok (.if_icmp .ne 14, 3) := dk_160 0 14 (dk_at dksX10_isClimber_0 19 rfl rfl)
theorem dX10_isClimber_22 : decode cX10_isClimber 22 = .ok (.aload_n 1, 1) := dk_43 (dk_at dksX10_isClimber_0 22 rfl rfl)
theorem dX10_isClimber_23 : decode cX10_isClimber 23 = .ok (.getfield 20, 3) := dk_180 0 20 (dk_at dksX10_isClimber_1 0 rfl rfl)
theorem dX10_isClimber_26 : decode cX10_isClimber 26 = .ok (.iload_n 2, 1) := dk_28 (dk_at dksX10_isClimber_1 3 rfl rfl)
theorem dX10_isClimber_27 : decode cX10_isClimber 27 = .ok (.iaload, 1) := dk_46 (dk_at dksX10_isClimber_1 4 rfl rfl)
theorem dX10_isClimber_28 : decode cX10_isClimber 28 = .ok (.ifCond .eq 5, 3) := dk_153 0 5 (dk_at dksX10_isClimber_1 5 rfl rfl)
theorem dX10_isClimber_31 : decode cX10_isClimber 31 = .ok (.iconst 0, 1) := dk_3 (dk_at dksX10_isClimber_1 8 rfl rfl)
theorem dX10_isClimber_32 : decode cX10_isClimber 32 = .ok (.ireturn, 1) := dk_172 (dk_at dksX10_isClimber_1 9 rfl rfl)
theorem dX10_isClimber_33 : decode cX10_isClimber 33 = .ok (.iinc 2 1, 3) := dk_132 2 1 (dk_at dksX10_isClimber_1 10 rfl rfl)
theorem dX10_isClimber_36 : decode cX10_isClimber 36 = .ok (.goto (-34), 3) := dk_167 255 222 (dk_at dksX10_isClimber_1 13 rfl rfl)
theorem dX10_isClimber_39 : decode cX10_isClimber 39 = .ok (.iconst 1, 1) := dk_4 (dk_at dksX10_isClimber_1 16 rfl rfl)
theorem dX10_isClimber_40 : decode cX10_isClimber 40 = .ok (.ireturn, 1) := dk_172 (dk_at dksX10_isClimber_1 17 rfl rfl)
abbrev cX10_kind : ByteArray := prog_3_method_2_code
def yX10_kind : MethodName := ⟨RX10, "kind", "()I"⟩
theorem dX10_kind_0 : decode cX10_kind 0 = .ok (.iconst 5, 1) := by decide +kernel
theorem dX10_kind_1 : decode cX10_kind 1 = .ok (.ireturn, 1) := by decide +kernel
abbrev cX10_init : ByteArray := prog_3_method_1_code
def yX10_init : MethodName := ⟨RX10, "<init>", "()V"⟩
theorem dX10_init_0 : decode cX10_init 0 = .ok (.aload_n 0, 1) := by decide +kernel
theorem dX10_init_1 : decode cX10_init 1 = .ok (.invokespecial 3, 3) := by decide +kernel
theorem dX10_init_4 : decode cX10_init 4 = .ok (.return_, 1) := by decide +kernel
abbrev cX10_effort : ByteArray := prog_3_method_5_code
def yX10_effort : MethodName := ⟨RX10, "effort", "(LDownRope$Face;)I"⟩
def dkwX10_effort_0 : List UInt8 := [42, 43, 183, 0, 61, 42, 180, 0, 27, 96, 172]
abbrev dktX10_effort_0 : List UInt8 := dkwX10_effort_0 ++ []
theorem dksX10_effort_0 : cX10_effort.data.toList.drop 0 = dktX10_effort_0 := by decide +kernel
theorem dX10_effort_0 : decode cX10_effort 0 = .ok (.aload_n 0, 1) := dk_42 (dk_at dksX10_effort_0 0 rfl rfl)
theorem dX10_effort_1 : decode cX10_effort 1 = .ok (.aload_n 1, 1) := dk_43 (dk_at dksX10_effort_0 1 rfl rfl)
theorem dX10_effort_2 : decode cX10_effort 2 = .ok (.invokespecial 61, 3) := dk_183 0 61 (dk_at dksX10_effort_0 2 rfl rfl)
theorem dX10_effort_5 : decode cX10_effort 5 = .ok (.aload_n 0, 1) := dk_42 (dk_at dksX10_effort_0 5 rfl rfl)
theorem dX10_effort_6 : decode cX10_effort 6 = .ok (.getfield 27, 3) := dk_180 0 27 (dk_at dksX10_effort_0 6 rfl rfl)
theorem dX10_effort_9 : decode cX10_effort 9 = .ok (.iadd, 1) := dk_96 (dk_at dksX10_effort_0 9 rfl rfl)
theorem dX10_effort_10 : decode cX10_effort 10 = .ok (.ireturn, 1) := dk_172 (dk_at dksX10_effort_0 10 rfl rfl)
theorem q85 : (Jvm.Cond.initialized "DownRope$Climb") ∈ lw_all := lw_g (lw_at lw_m1 10 rfl) rfl
theorem q386 : (Jvm.Cond.selects "DownRope$Climb" ({ cls := "DownRope$Move", name := "tells", desc := "(IIII)LDownRope$Move;" } : Jvm.MethodName) ({ cls := "DownRope$Move", name := "tells", desc := "(IIII)LDownRope$Move;" } : Jvm.MethodName)) ∈ lw_all := lw_g (lw_at lw_m2 71 rfl) rfl
theorem q397 : (Jvm.Cond.selects "DownRope$Climb" ({ cls := "DownRope$Move", name := "minutes", desc := "(LDownRope$Face;LDownRope$Spot;)I" } : Jvm.MethodName) ({ cls := "DownRope$Climb", name := "minutes", desc := "(LDownRope$Face;LDownRope$Spot;)I" } : Jvm.MethodName)) ∈ lw_all := lw_g (lw_at lw_m2 82 rfl) rfl
theorem q398 : (Jvm.Cond.instanceMethod ({ cls := "DownRope$Climb", name := "minutes", desc := "(LDownRope$Face;LDownRope$Spot;)I" } : Jvm.MethodName)) ∈ lw_all := lw_g (lw_at lw_m2 83 rfl) rfl
theorem q399 : (Jvm.Cond.code ({ cls := "DownRope$Climb", name := "minutes", desc := "(LDownRope$Face;LDownRope$Spot;)I" } : Jvm.MethodName) prog_3_method_4_code (4 : Nat) (Option.some Jvm.ClassFile.FieldType.int)) ∈ lw_all := lw_g (lw_at lw_m2 84 rfl) rfl
theorem q400 : (Jvm.Cond.methodLink "DownRope$Climb" (30 : Nat) ({ cls := "java/lang/Math", name := "min", desc := "(II)I" } : Jvm.MethodName)) ∈ lw_all := lw_g (lw_at lw_m2 85 rfl) rfl
theorem q403 : (Jvm.Cond.methodLinkNest "DownRope$Climb" (36 : Nat) ({ cls := "DownRope", name := "bits", desc := "(I)I" } : Jvm.MethodName) "DownRope") ∈ lw_tbl := lw_at lw_m2 88 rfl
theorem q406 : (Jvm.Cond.methodLink "DownRope$Climb" (43 : Nat) ({ cls := "java/lang/Math", name := "abs", desc := "(I)I" } : Jvm.MethodName)) ∈ lw_all := lw_g (lw_at lw_m2 91 rfl) rfl
theorem q409 : (Jvm.Cond.methodLink "DownRope$Climb" (46 : Nat) ({ cls := "DownRope$Climb", name := "canGo", desc := "(LDownRope$Face;LDownRope$Spot;Z)Z" } : Jvm.MethodName)) ∈ lw_all := lw_g (lw_at lw_m2 94 rfl) rfl
theorem q410 : (Jvm.Cond.sameMethod "DownRope$Climb" "DownRope$Move" "canGo" "(LDownRope$Face;LDownRope$Spot;Z)Z") ∈ lw_all := lw_g (lw_at lw_m2 95 rfl) rfl
theorem q412 : (Jvm.Cond.selects "DownRope$Climb" ({ cls := "DownRope$Climb", name := "canGo", desc := "(LDownRope$Face;LDownRope$Spot;Z)Z" } : Jvm.MethodName) ({ cls := "DownRope$Move", name := "canGo", desc := "(LDownRope$Face;LDownRope$Spot;Z)Z" } : Jvm.MethodName)) ∈ lw_all := lw_g (lw_at lw_m2 97 rfl) rfl
theorem q417 : (Jvm.Cond.methodLink "DownRope$Climb" (50 : Nat) ({ cls := "DownRope$Climb", name := "isClimber", desc := "(LDownRope$Face;)Z" } : Jvm.MethodName)) ∈ lw_all := lw_g (lw_at lw_m2 102 rfl) rfl
theorem q418 : (Jvm.Cond.privateMethod ({ cls := "DownRope$Climb", name := "isClimber", desc := "(LDownRope$Face;)Z" } : Jvm.MethodName)) ∈ lw_tbl := lw_at lw_m2 103 rfl
theorem q419 : (Jvm.Cond.instanceMethod ({ cls := "DownRope$Climb", name := "isClimber", desc := "(LDownRope$Face;)Z" } : Jvm.MethodName)) ∈ lw_all := lw_g (lw_at lw_m2 104 rfl) rfl
theorem q420 : (Jvm.Cond.instantiable "DownRope$Climb" (4 : Nat)) ∈ lw_all := lw_g (lw_at lw_m2 105 rfl) rfl
theorem q421 : (Jvm.Cond.code ({ cls := "DownRope$Climb", name := "isClimber", desc := "(LDownRope$Face;)Z" } : Jvm.MethodName) prog_3_method_3_code (3 : Nat) (Option.some Jvm.ClassFile.FieldType.boolean)) ∈ lw_all := lw_g (lw_at lw_m2 106 rfl) rfl
theorem q508 : (Jvm.Cond.selects "DownRope$Climb" ({ cls := "DownRope$Move", name := "does", desc := "(LDownRope$Spot;)V" } : Jvm.MethodName) ({ cls := "DownRope$Move", name := "does", desc := "(LDownRope$Spot;)V" } : Jvm.MethodName)) ∈ lw_all := lw_g (lw_at lw_m2 193 rfl) rfl
theorem q519 : (Jvm.Cond.selects "DownRope$Climb" ({ cls := "DownRope$Move", name := "moves", desc := "(LDownRope$Spot;)V" } : Jvm.MethodName) ({ cls := "DownRope$Move", name := "moves", desc := "(LDownRope$Spot;)V" } : Jvm.MethodName)) ∈ lw_all := lw_g (lw_at lw_m2 204 rfl) rfl
theorem q561 : (Jvm.Cond.selects "DownRope$Climb" ({ cls := "DownRope$Move", name := "told", desc := "()I" } : Jvm.MethodName) ({ cls := "DownRope$Move", name := "told", desc := "()I" } : Jvm.MethodName)) ∈ lw_all := lw_g (lw_at lw_m3 6 rfl) rfl
theorem q572 : (Jvm.Cond.selects "DownRope$Climb" ({ cls := "DownRope$Move", name := "kind", desc := "()I" } : Jvm.MethodName) ({ cls := "DownRope$Climb", name := "kind", desc := "()I" } : Jvm.MethodName)) ∈ lw_all := lw_g (lw_at lw_m3 17 rfl) rfl
theorem q573 : (Jvm.Cond.instanceMethod ({ cls := "DownRope$Climb", name := "kind", desc := "()I" } : Jvm.MethodName)) ∈ lw_all := lw_g (lw_at lw_m3 18 rfl) rfl
theorem q574 : (Jvm.Cond.code ({ cls := "DownRope$Climb", name := "kind", desc := "()I" } : Jvm.MethodName) prog_3_method_2_code (1 : Nat) (Option.some Jvm.ClassFile.FieldType.int)) ∈ lw_all := lw_g (lw_at lw_m3 19 rfl) rfl
theorem q779 : (Jvm.Cond.fieldLink "DownRope$Climb" (58 : Nat) "DownRope$Face" "feet" "[I") ∈ lw_all := lw_g (lw_at lw_m3 224 rfl) rfl
theorem q782 : (Jvm.Cond.fieldLink "DownRope$Climb" (54 : Nat) "DownRope$Face" "isClimbable" "[Z") ∈ lw_all := lw_g (lw_at lw_m3 227 rfl) rfl
theorem q787 : (Jvm.Cond.fieldLink "DownRope$Climb" (20 : Nat) "DownRope$Face" "sort" "[I") ∈ lw_all := lw_g (lw_at lw_m3 232 rfl) rfl
theorem q792 : (Jvm.Cond.fieldLink "DownRope$Climb" (9 : Nat) "DownRope$Face" "people" "I") ∈ lw_all := lw_g (lw_at lw_m3 237 rfl) rfl
theorem q862 : (Jvm.Cond.fieldLink "DownRope$Climb" (15 : Nat) "DownRope$Climb" "set" "I") ∈ lw_all := lw_g (lw_at lw_m4 67 rfl) rfl
theorem q863 : (Jvm.Cond.sameField "DownRope$Climb" "DownRope$Move" "set" "I") ∈ lw_all := lw_g (lw_at lw_m4 68 rfl) rfl
theorem q881 : (Jvm.Cond.fieldLink "DownRope$Climb" (40 : Nat) "DownRope$Climb" "rope" "I") ∈ lw_all := lw_g (lw_at lw_m4 86 rfl) rfl
theorem q882 : (Jvm.Cond.sameField "DownRope$Climb" "DownRope$Move" "rope" "I") ∈ lw_all := lw_g (lw_at lw_m4 87 rfl) rfl
theorem q890 : (Jvm.Cond.fieldLink "DownRope$Climb" (24 : Nat) "DownRope$Climb" "from" "I") ∈ lw_all := lw_g (lw_at lw_m4 95 rfl) rfl
theorem q891 : (Jvm.Cond.sameField "DownRope$Climb" "DownRope$Move" "from" "I") ∈ lw_all := lw_g (lw_at lw_m4 96 rfl) rfl
theorem q901 : (Jvm.Cond.fieldLink "DownRope$Climb" (27 : Nat) "DownRope$Climb" "to" "I") ∈ lw_all := lw_g (lw_at lw_m4 106 rfl) rfl
theorem q902 : (Jvm.Cond.sameField "DownRope$Climb" "DownRope$Move" "to" "I") ∈ lw_all := lw_g (lw_at lw_m4 107 rfl) rfl
theorem q959 : (Jvm.Cond.instanceMethod ({ cls := "DownRope$Climb", name := "<init>", desc := "()V" } : Jvm.MethodName)) ∈ lw_all := lw_g (lw_at lw_m4 164 rfl) rfl
theorem q960 : (Jvm.Cond.code ({ cls := "DownRope$Climb", name := "<init>", desc := "()V" } : Jvm.MethodName) prog_3_method_1_code (1 : Nat) (Option.none : Option Jvm.ClassFile.FieldType)) ∈ lw_all := lw_g (lw_at lw_m4 165 rfl) rfl
theorem q961 : (Jvm.Cond.methodLinkNest "DownRope$Climb" (3 : Nat) ({ cls := "DownRope$Move", name := "<init>", desc := "()V" } : Jvm.MethodName) "DownRope") ∈ lw_tbl := lw_at lw_m4 166 rfl
theorem q962 : (Jvm.Cond.lays "DownRope$Climb" "DownRope$Move" "set" "I") ∈ lw_all := lw_g (lw_at lw_m4 167 rfl) rfl
theorem q963 : (Jvm.Cond.lays "DownRope$Climb" "DownRope$Move" "rope" "I") ∈ lw_all := lw_g (lw_at lw_m4 168 rfl) rfl
theorem q964 : (Jvm.Cond.lays "DownRope$Climb" "DownRope$Move" "from" "I") ∈ lw_all := lw_g (lw_at lw_m4 169 rfl) rfl
theorem q965 : (Jvm.Cond.lays "DownRope$Climb" "DownRope$Move" "to" "I") ∈ lw_all := lw_g (lw_at lw_m4 170 rfl) rfl
theorem q966 : (Jvm.Cond.superclass "DownRope$Climb" "DownRope$Move") ∈ lw_all := lw_g (lw_at lw_m4 171 rfl) rfl
theorem q1144 : (Jvm.Cond.selects "DownRope$Climb" ({ cls := "DownRope$Tires", name := "effort", desc := "(LDownRope$Face;)I" } : Jvm.MethodName) ({ cls := "DownRope$Climb", name := "effort", desc := "(LDownRope$Face;)I" } : Jvm.MethodName)) ∈ lw_all := lw_g (lw_at lw_m5 109 rfl) rfl
theorem q1145 : (Jvm.Cond.instanceMethod ({ cls := "DownRope$Climb", name := "effort", desc := "(LDownRope$Face;)I" } : Jvm.MethodName)) ∈ lw_all := lw_g (lw_at lw_m5 110 rfl) rfl
theorem q1146 : (Jvm.Cond.code ({ cls := "DownRope$Climb", name := "effort", desc := "(LDownRope$Face;)I" } : Jvm.MethodName) prog_3_method_5_code (2 : Nat) (Option.some Jvm.ClassFile.FieldType.int)) ∈ lw_all := lw_g (lw_at lw_m5 111 rfl) rfl
theorem q1176 : (Jvm.Cond.selects "DownRope$Climb" ({ cls := "DownRope$Move", name := "failure", desc := "()LDownRope$Tossed;" } : Jvm.MethodName) ({ cls := "DownRope$Move", name := "failure", desc := "()LDownRope$Tossed;" } : Jvm.MethodName)) ∈ lw_all := lw_g (lw_at lw_m5 141 rfl) rfl
theorem q1749 : (Jvm.Cond.castable "DownRope$Climb" "DownRope$Move") ∈ lw_tbl := lw_at lw_m7 234 rfl
theorem in_X10 : ∀ w ∈ wsX100, w ∈ lw_all := lw_in wsX100 [962, 963, 964, 965] (by decide +kernel) (by decide +kernel)
/-! DownRope$Throw -/
set_option maxRecDepth 100000
def RX11 : String := "DownRope$Throw"
def TX11 : u_T := fun k => match k with
  | 0 => ("DownRope$Move", "set", "I", false)
  | 1 => ("DownRope$Move", "rope", "I", false)
  | 2 => ("DownRope$Move", "from", "I", false)
  | _ => ("DownRope$Move", "to", "I", false)
def tyX11 : Nat → FieldType := fun k => match k with
  | 0 => .int
  | 1 => .int
  | 2 => .int
  | _ => .int
abbrev wsX110 : List Cond := u_ws RX11 TX11 4
theorem nmX11 : ∀ a, a < 4 → ∀ b, b < 4 → a ≠ b → (TX11 a).2.1 ≠ (TX11 b).2.1 := by decide +kernel
theorem tyX11_ok : ∀ k, k < 4 → parseFieldDescriptor (TX11 k).2.2.1 = some (tyX11 k) := by decide +kernel
abbrev cX11_minutes : ByteArray := prog_15_method_3_code
def yX11_minutes : MethodName := ⟨RX11, "minutes", "(LDownRope$Face;LDownRope$Spot;)I"⟩
def dkwX11_minutes_2 : List UInt8 := [167, 0, 5, 16, 253, 172]
abbrev dktX11_minutes_2 : List UInt8 := dkwX11_minutes_2 ++ []
def dkwX11_minutes_1 : List UInt8 := [42, 43, 44, 182, 0, 27, 153, 0, 20, 42, 43, 44, 42, 180, 0, 31, 182, 0, 34, 153, 0, 7, 4]
abbrev dktX11_minutes_1 : List UInt8 := dkwX11_minutes_1 ++ dktX11_minutes_2
def dkwX11_minutes_0 : List UInt8 := [42, 180, 0, 9, 154, 0, 46, 43, 42, 180, 0, 15, 42, 180, 0, 18, 182, 0, 21, 16, 252, 159, 0, 29]
abbrev dktX11_minutes_0 : List UInt8 := dkwX11_minutes_0 ++ dktX11_minutes_1
theorem dksX11_minutes_0 : cX11_minutes.data.toList.drop 0 = dktX11_minutes_0 := by decide +kernel
theorem dksX11_minutes_1 : cX11_minutes.data.toList.drop 24 = dktX11_minutes_1 := dk_seg dksX11_minutes_0 24 rfl rfl
theorem dksX11_minutes_2 : cX11_minutes.data.toList.drop 47 = dktX11_minutes_2 := dk_seg dksX11_minutes_1 23 rfl rfl
theorem dX11_minutes_0 : decode cX11_minutes 0 = .ok (.aload_n 0, 1) := dk_42 (dk_at dksX11_minutes_0 0 rfl rfl)
theorem dX11_minutes_1 : decode cX11_minutes 1 = .ok (.getfield 9, 3) := dk_180 0 9 (dk_at dksX11_minutes_0 1 rfl rfl)
theorem dX11_minutes_4 : decode cX11_minutes 4 = .ok (.ifCond .ne 46, 3) := dk_154 0 46 (dk_at dksX11_minutes_0 4 rfl rfl)
theorem dX11_minutes_7 : decode cX11_minutes 7 = .ok (.aload_n 1, 1) := dk_43 (dk_at dksX11_minutes_0 7 rfl rfl)
theorem dX11_minutes_8 : decode cX11_minutes 8 = .ok (.aload_n 0, 1) := dk_42 (dk_at dksX11_minutes_0 8 rfl rfl)
theorem dX11_minutes_9 : decode cX11_minutes 9 = .ok (.getfield 15, 3) := dk_180 0 15 (dk_at dksX11_minutes_0 9 rfl rfl)
theorem dX11_minutes_12 : decode cX11_minutes 12 = .ok (.aload_n 0, 1) := dk_42 (dk_at dksX11_minutes_0 12 rfl rfl)
theorem dX11_minutes_13 : decode cX11_minutes 13 = .ok (.getfield 18, 3) := dk_180 0 18 (dk_at dksX11_minutes_0 13 rfl rfl)
theorem dX11_minutes_16 : decode cX11_minutes 16 = .ok (.invokevirtual 21, 3) := dk_182 0 21 (dk_at dksX11_minutes_0 16 rfl rfl)
theorem dX11_minutes_19 : decode cX11_minutes 19 = .ok (.bipush (-4), 2) := dk_16 252 (dk_at dksX11_minutes_0 19 rfl rfl)
theorem dX11_minutes_21 : decode cX11_minutes 21 = .ok (.if_icmp .eq 29, 3) := dk_159 0 29 (dk_at dksX11_minutes_0 21 rfl rfl)
theorem dX11_minutes_24 : decode cX11_minutes 24 = .ok (.aload_n 0, 1) := dk_42 (dk_at dksX11_minutes_1 0 rfl rfl)
theorem dX11_minutes_25 : decode cX11_minutes 25 = .ok (.aload_n 1, 1) := dk_43 (dk_at dksX11_minutes_1 1 rfl rfl)
theorem dX11_minutes_26 : decode cX11_minutes 26 = .ok (.aload_n 2, 1) := dk_44 (dk_at dksX11_minutes_1 2 rfl rfl)
theorem dX11_minutes_27 : decode cX11_minutes 27 = .ok (.invokevirtual 27, 3) := dk_182 0 27 (dk_at dksX11_minutes_1 3 rfl rfl)
theorem dX11_minutes_30 : decode cX11_minutes 30 = .ok (.ifCond .eq 20, 3) := dk_153 0 20 (dk_at dksX11_minutes_1 6 rfl rfl)
theorem dX11_minutes_33 : decode cX11_minutes 33 = .ok (.aload_n 0, 1) := dk_42 (dk_at dksX11_minutes_1 9 rfl rfl)
theorem dX11_minutes_34 : decode cX11_minutes 34 = .ok (.aload_n 1, 1) := dk_43 (dk_at dksX11_minutes_1 10 rfl rfl)
theorem dX11_minutes_35 : decode cX11_minutes 35 = .ok (.aload_n 2, 1) := dk_44 (dk_at dksX11_minutes_1 11 rfl rfl)
theorem dX11_minutes_36 : decode cX11_minutes 36 = .ok (.aload_n 0, 1) := dk_42 (dk_at dksX11_minutes_1 12 rfl rfl)
theorem dX11_minutes_37 : decode cX11_minutes 37 = .ok (.getfield 31, 3) := dk_180 0 31 (dk_at dksX11_minutes_1 13 rfl rfl)
theorem dX11_minutes_40 : decode cX11_minutes 40 = .ok (.invokevirtual 34, 3) := dk_182 0 34 (dk_at dksX11_minutes_1 16 rfl rfl)
theorem dX11_minutes_43 : decode cX11_minutes 43 = .ok (.ifCond .eq 7, 3) := dk_153 0 7 (dk_at dksX11_minutes_1 19 rfl rfl)
theorem dX11_minutes_46 : decode cX11_minutes 46 = .ok (.iconst 1, 1) := dk_4 (dk_at dksX11_minutes_1 22 rfl rfl)
theorem dX11_minutes_47 : decode cX11_minutes 47 = .ok (.goto 5, 3) := dk_167 0 5 (dk_at dksX11_minutes_2 0 rfl rfl)
theorem dX11_minutes_50 : decode cX11_minutes 50 = .ok (.bipush (-3), 2) := dk_16 253 (dk_at dksX11_minutes_2 3 rfl rfl)
theorem dX11_minutes_52 : decode cX11_minutes 52 = .ok (.ireturn, 1) := dk_172 (dk_at dksX11_minutes_2 5 rfl rfl)
abbrev cX11_does : ByteArray := prog_15_method_4_code
def yX11_does : MethodName := ⟨RX11, "does", "(LDownRope$Spot;)V"⟩
def dkwX11_does_0 : List UInt8 := [42, 43, 183, 0, 38, 43, 180, 0, 42, 42, 180, 0, 31, 42, 180, 0, 18, 79, 177]
abbrev dktX11_does_0 : List UInt8 := dkwX11_does_0 ++ []
theorem dksX11_does_0 : cX11_does.data.toList.drop 0 = dktX11_does_0 := by decide +kernel
theorem dX11_does_0 : decode cX11_does 0 = .ok (.aload_n 0, 1) := dk_42 (dk_at dksX11_does_0 0 rfl rfl)
theorem dX11_does_1 : decode cX11_does 1 = .ok (.aload_n 1, 1) := dk_43 (dk_at dksX11_does_0 1 rfl rfl)
theorem dX11_does_2 : decode cX11_does 2 = .ok (.invokespecial 38, 3) := dk_183 0 38 (dk_at dksX11_does_0 2 rfl rfl)
theorem dX11_does_5 : decode cX11_does 5 = .ok (.aload_n 1, 1) := dk_43 (dk_at dksX11_does_0 5 rfl rfl)
theorem dX11_does_6 : decode cX11_does 6 = .ok (.getfield 42, 3) := dk_180 0 42 (dk_at dksX11_does_0 6 rfl rfl)
theorem dX11_does_9 : decode cX11_does 9 = .ok (.aload_n 0, 1) := dk_42 (dk_at dksX11_does_0 9 rfl rfl)
theorem dX11_does_10 : decode cX11_does 10 = .ok (.getfield 31, 3) := dk_180 0 31 (dk_at dksX11_does_0 10 rfl rfl)
theorem dX11_does_13 : decode cX11_does 13 = .ok (.aload_n 0, 1) := dk_42 (dk_at dksX11_does_0 13 rfl rfl)
theorem dX11_does_14 : decode cX11_does 14 = .ok (.getfield 18, 3) := dk_180 0 18 (dk_at dksX11_does_0 14 rfl rfl)
theorem dX11_does_17 : decode cX11_does 17 = .ok (.iastore, 1) := dk_79 (dk_at dksX11_does_0 17 rfl rfl)
theorem dX11_does_18 : decode cX11_does 18 = .ok (.return_, 1) := dk_177 (dk_at dksX11_does_0 18 rfl rfl)
abbrev cX11_kind : ByteArray := prog_15_method_2_code
def yX11_kind : MethodName := ⟨RX11, "kind", "()I"⟩
theorem dX11_kind_0 : decode cX11_kind 0 = .ok (.bipush 6, 2) := by decide +kernel
theorem dX11_kind_2 : decode cX11_kind 2 = .ok (.ireturn, 1) := by decide +kernel
abbrev cX11_init : ByteArray := prog_15_method_1_code
def yX11_init : MethodName := ⟨RX11, "<init>", "()V"⟩
theorem dX11_init_0 : decode cX11_init 0 = .ok (.aload_n 0, 1) := by decide +kernel
theorem dX11_init_1 : decode cX11_init 1 = .ok (.invokespecial 3, 3) := by decide +kernel
theorem dX11_init_4 : decode cX11_init 4 = .ok (.return_, 1) := by decide +kernel
abbrev cX11_effort : ByteArray := prog_15_method_5_code
def yX11_effort : MethodName := ⟨RX11, "effort", "(LDownRope$Face;)I"⟩
def dkwX11_effort_0 : List UInt8 := [42, 43, 183, 0, 47, 5, 108, 172]
abbrev dktX11_effort_0 : List UInt8 := dkwX11_effort_0 ++ []
theorem dksX11_effort_0 : cX11_effort.data.toList.drop 0 = dktX11_effort_0 := by decide +kernel
theorem dX11_effort_0 : decode cX11_effort 0 = .ok (.aload_n 0, 1) := dk_42 (dk_at dksX11_effort_0 0 rfl rfl)
theorem dX11_effort_1 : decode cX11_effort 1 = .ok (.aload_n 1, 1) := dk_43 (dk_at dksX11_effort_0 1 rfl rfl)
theorem dX11_effort_2 : decode cX11_effort 2 = .ok (.invokespecial 47, 3) := dk_183 0 47 (dk_at dksX11_effort_0 2 rfl rfl)
theorem dX11_effort_5 : decode cX11_effort 5 = .ok (.iconst 2, 1) := dk_5 (dk_at dksX11_effort_0 5 rfl rfl)
theorem dX11_effort_6 : decode cX11_effort 6 = .ok (.idiv, 1) := dk_108 (dk_at dksX11_effort_0 6 rfl rfl)
theorem dX11_effort_7 : decode cX11_effort 7 = .ok (.ireturn, 1) := dk_172 (dk_at dksX11_effort_0 7 rfl rfl)
abbrev cX11_failure : ByteArray := prog_15_method_6_code
def yX11_failure : MethodName := ⟨RX11, "failure", "()LDownRope$Tossed;"⟩
theorem dX11_failure_0 : decode cX11_failure 0 = .ok (.aconst_null, 1) := by decide +kernel
theorem dX11_failure_1 : decode cX11_failure 1 = .ok (.areturn, 1) := by decide +kernel
theorem q86 : (Jvm.Cond.initialized "DownRope$Throw") ∈ lw_all := lw_g (lw_at lw_m1 11 rfl) rfl
theorem q391 : (Jvm.Cond.selects "DownRope$Throw" ({ cls := "DownRope$Move", name := "tells", desc := "(IIII)LDownRope$Move;" } : Jvm.MethodName) ({ cls := "DownRope$Move", name := "tells", desc := "(IIII)LDownRope$Move;" } : Jvm.MethodName)) ∈ lw_all := lw_g (lw_at lw_m2 76 rfl) rfl
theorem q489 : (Jvm.Cond.selects "DownRope$Throw" ({ cls := "DownRope$Move", name := "minutes", desc := "(LDownRope$Face;LDownRope$Spot;)I" } : Jvm.MethodName) ({ cls := "DownRope$Throw", name := "minutes", desc := "(LDownRope$Face;LDownRope$Spot;)I" } : Jvm.MethodName)) ∈ lw_all := lw_g (lw_at lw_m2 174 rfl) rfl
theorem q490 : (Jvm.Cond.instanceMethod ({ cls := "DownRope$Throw", name := "minutes", desc := "(LDownRope$Face;LDownRope$Spot;)I" } : Jvm.MethodName)) ∈ lw_all := lw_g (lw_at lw_m2 175 rfl) rfl
theorem q491 : (Jvm.Cond.code ({ cls := "DownRope$Throw", name := "minutes", desc := "(LDownRope$Face;LDownRope$Spot;)I" } : Jvm.MethodName) prog_15_method_3_code (3 : Nat) (Option.some Jvm.ClassFile.FieldType.int)) ∈ lw_all := lw_g (lw_at lw_m2 176 rfl) rfl
theorem q492 : (Jvm.Cond.methodLink "DownRope$Throw" (21 : Nat) ({ cls := "DownRope$Face", name := "far", desc := "(II)I" } : Jvm.MethodName)) ∈ lw_all := lw_g (lw_at lw_m2 177 rfl) rfl
theorem q493 : (Jvm.Cond.methodLink "DownRope$Throw" (27 : Nat) ({ cls := "DownRope$Throw", name := "hasHelp", desc := "(LDownRope$Face;LDownRope$Spot;)Z" } : Jvm.MethodName)) ∈ lw_all := lw_g (lw_at lw_m2 178 rfl) rfl
theorem q494 : (Jvm.Cond.sameMethod "DownRope$Throw" "DownRope$Move" "hasHelp" "(LDownRope$Face;LDownRope$Spot;)Z") ∈ lw_all := lw_g (lw_at lw_m2 179 rfl) rfl
theorem q495 : (Jvm.Cond.selects "DownRope$Throw" ({ cls := "DownRope$Throw", name := "hasHelp", desc := "(LDownRope$Face;LDownRope$Spot;)Z" } : Jvm.MethodName) ({ cls := "DownRope$Move", name := "hasHelp", desc := "(LDownRope$Face;LDownRope$Spot;)Z" } : Jvm.MethodName)) ∈ lw_all := lw_g (lw_at lw_m2 180 rfl) rfl
theorem q496 : (Jvm.Cond.methodLink "DownRope$Throw" (34 : Nat) ({ cls := "DownRope$Throw", name := "hasRope", desc := "(LDownRope$Face;LDownRope$Spot;I)Z" } : Jvm.MethodName)) ∈ lw_all := lw_g (lw_at lw_m2 181 rfl) rfl
theorem q497 : (Jvm.Cond.sameMethod "DownRope$Throw" "DownRope$Move" "hasRope" "(LDownRope$Face;LDownRope$Spot;I)Z") ∈ lw_all := lw_g (lw_at lw_m2 182 rfl) rfl
theorem q498 : (Jvm.Cond.selects "DownRope$Throw" ({ cls := "DownRope$Throw", name := "hasRope", desc := "(LDownRope$Face;LDownRope$Spot;I)Z" } : Jvm.MethodName) ({ cls := "DownRope$Move", name := "hasRope", desc := "(LDownRope$Face;LDownRope$Spot;I)Z" } : Jvm.MethodName)) ∈ lw_all := lw_g (lw_at lw_m2 183 rfl) rfl
theorem q524 : (Jvm.Cond.selects "DownRope$Throw" ({ cls := "DownRope$Move", name := "moves", desc := "(LDownRope$Spot;)V" } : Jvm.MethodName) ({ cls := "DownRope$Move", name := "moves", desc := "(LDownRope$Spot;)V" } : Jvm.MethodName)) ∈ lw_all := lw_g (lw_at lw_m2 209 rfl) rfl
theorem q536 : (Jvm.Cond.selects "DownRope$Throw" ({ cls := "DownRope$Move", name := "does", desc := "(LDownRope$Spot;)V" } : Jvm.MethodName) ({ cls := "DownRope$Throw", name := "does", desc := "(LDownRope$Spot;)V" } : Jvm.MethodName)) ∈ lw_all := lw_g (lw_at lw_m2 221 rfl) rfl
theorem q537 : (Jvm.Cond.instanceMethod ({ cls := "DownRope$Throw", name := "does", desc := "(LDownRope$Spot;)V" } : Jvm.MethodName)) ∈ lw_all := lw_g (lw_at lw_m2 222 rfl) rfl
theorem q538 : (Jvm.Cond.code ({ cls := "DownRope$Throw", name := "does", desc := "(LDownRope$Spot;)V" } : Jvm.MethodName) prog_15_method_4_code (2 : Nat) (Option.none : Option Jvm.ClassFile.FieldType)) ∈ lw_all := lw_g (lw_at lw_m2 223 rfl) rfl
theorem q539 : (Jvm.Cond.methodLink "DownRope$Throw" (38 : Nat) ({ cls := "DownRope$Move", name := "does", desc := "(LDownRope$Spot;)V" } : Jvm.MethodName)) ∈ lw_all := lw_g (lw_at lw_m2 224 rfl) rfl
theorem q540 : (Jvm.Cond.superclass "DownRope$Throw" "DownRope$Move") ∈ lw_all := lw_g (lw_at lw_m2 225 rfl) rfl
theorem q566 : (Jvm.Cond.selects "DownRope$Throw" ({ cls := "DownRope$Move", name := "told", desc := "()I" } : Jvm.MethodName) ({ cls := "DownRope$Move", name := "told", desc := "()I" } : Jvm.MethodName)) ∈ lw_all := lw_g (lw_at lw_m3 11 rfl) rfl
theorem q587 : (Jvm.Cond.selects "DownRope$Throw" ({ cls := "DownRope$Move", name := "kind", desc := "()I" } : Jvm.MethodName) ({ cls := "DownRope$Throw", name := "kind", desc := "()I" } : Jvm.MethodName)) ∈ lw_all := lw_g (lw_at lw_m3 32 rfl) rfl
theorem q588 : (Jvm.Cond.instanceMethod ({ cls := "DownRope$Throw", name := "kind", desc := "()I" } : Jvm.MethodName)) ∈ lw_all := lw_g (lw_at lw_m3 33 rfl) rfl
theorem q589 : (Jvm.Cond.code ({ cls := "DownRope$Throw", name := "kind", desc := "()I" } : Jvm.MethodName) prog_15_method_2_code (1 : Nat) (Option.some Jvm.ClassFile.FieldType.int)) ∈ lw_all := lw_g (lw_at lw_m3 34 rfl) rfl
theorem q660 : (Jvm.Cond.fieldLink "DownRope$Throw" (42 : Nat) "DownRope$Spot" "rope" "[I") ∈ lw_all := lw_g (lw_at lw_m3 105 rfl) rfl
theorem q859 : (Jvm.Cond.fieldLink "DownRope$Throw" (9 : Nat) "DownRope$Throw" "set" "I") ∈ lw_all := lw_g (lw_at lw_m4 64 rfl) rfl
theorem q860 : (Jvm.Cond.sameField "DownRope$Throw" "DownRope$Move" "set" "I") ∈ lw_all := lw_g (lw_at lw_m4 65 rfl) rfl
theorem q875 : (Jvm.Cond.fieldLink "DownRope$Throw" (31 : Nat) "DownRope$Throw" "rope" "I") ∈ lw_all := lw_g (lw_at lw_m4 80 rfl) rfl
theorem q876 : (Jvm.Cond.sameField "DownRope$Throw" "DownRope$Move" "rope" "I") ∈ lw_all := lw_g (lw_at lw_m4 81 rfl) rfl
theorem q887 : (Jvm.Cond.fieldLink "DownRope$Throw" (15 : Nat) "DownRope$Throw" "from" "I") ∈ lw_all := lw_g (lw_at lw_m4 92 rfl) rfl
theorem q888 : (Jvm.Cond.sameField "DownRope$Throw" "DownRope$Move" "from" "I") ∈ lw_all := lw_g (lw_at lw_m4 93 rfl) rfl
theorem q898 : (Jvm.Cond.fieldLink "DownRope$Throw" (18 : Nat) "DownRope$Throw" "to" "I") ∈ lw_all := lw_g (lw_at lw_m4 103 rfl) rfl
theorem q899 : (Jvm.Cond.sameField "DownRope$Throw" "DownRope$Move" "to" "I") ∈ lw_all := lw_g (lw_at lw_m4 104 rfl) rfl
theorem q968 : (Jvm.Cond.instantiable "DownRope$Throw" (4 : Nat)) ∈ lw_all := lw_g (lw_at lw_m4 173 rfl) rfl
theorem q970 : (Jvm.Cond.instanceMethod ({ cls := "DownRope$Throw", name := "<init>", desc := "()V" } : Jvm.MethodName)) ∈ lw_all := lw_g (lw_at lw_m4 175 rfl) rfl
theorem q971 : (Jvm.Cond.code ({ cls := "DownRope$Throw", name := "<init>", desc := "()V" } : Jvm.MethodName) prog_15_method_1_code (1 : Nat) (Option.none : Option Jvm.ClassFile.FieldType)) ∈ lw_all := lw_g (lw_at lw_m4 176 rfl) rfl
theorem q972 : (Jvm.Cond.methodLinkNest "DownRope$Throw" (3 : Nat) ({ cls := "DownRope$Move", name := "<init>", desc := "()V" } : Jvm.MethodName) "DownRope") ∈ lw_tbl := lw_at lw_m4 177 rfl
theorem q973 : (Jvm.Cond.lays "DownRope$Throw" "DownRope$Move" "set" "I") ∈ lw_all := lw_g (lw_at lw_m4 178 rfl) rfl
theorem q974 : (Jvm.Cond.lays "DownRope$Throw" "DownRope$Move" "rope" "I") ∈ lw_all := lw_g (lw_at lw_m4 179 rfl) rfl
theorem q975 : (Jvm.Cond.lays "DownRope$Throw" "DownRope$Move" "from" "I") ∈ lw_all := lw_g (lw_at lw_m4 180 rfl) rfl
theorem q976 : (Jvm.Cond.lays "DownRope$Throw" "DownRope$Move" "to" "I") ∈ lw_all := lw_g (lw_at lw_m4 181 rfl) rfl
theorem q1163 : (Jvm.Cond.selects "DownRope$Throw" ({ cls := "DownRope$Tires", name := "effort", desc := "(LDownRope$Face;)I" } : Jvm.MethodName) ({ cls := "DownRope$Throw", name := "effort", desc := "(LDownRope$Face;)I" } : Jvm.MethodName)) ∈ lw_all := lw_g (lw_at lw_m5 128 rfl) rfl
theorem q1164 : (Jvm.Cond.instanceMethod ({ cls := "DownRope$Throw", name := "effort", desc := "(LDownRope$Face;)I" } : Jvm.MethodName)) ∈ lw_all := lw_g (lw_at lw_m5 129 rfl) rfl
theorem q1165 : (Jvm.Cond.code ({ cls := "DownRope$Throw", name := "effort", desc := "(LDownRope$Face;)I" } : Jvm.MethodName) prog_15_method_5_code (2 : Nat) (Option.some Jvm.ClassFile.FieldType.int)) ∈ lw_all := lw_g (lw_at lw_m5 130 rfl) rfl
theorem q1217 : (Jvm.Cond.selects "DownRope$Throw" ({ cls := "DownRope$Move", name := "failure", desc := "()LDownRope$Tossed;" } : Jvm.MethodName) ({ cls := "DownRope$Throw", name := "failure", desc := "()LDownRope$Tossed;" } : Jvm.MethodName)) ∈ lw_all := lw_g (lw_at lw_m5 182 rfl) rfl
theorem q1218 : (Jvm.Cond.instanceMethod ({ cls := "DownRope$Throw", name := "failure", desc := "()LDownRope$Tossed;" } : Jvm.MethodName)) ∈ lw_all := lw_g (lw_at lw_m5 183 rfl) rfl
theorem q1219 : (Jvm.Cond.code ({ cls := "DownRope$Throw", name := "failure", desc := "()LDownRope$Tossed;" } : Jvm.MethodName) prog_15_method_6_code (1 : Nat) (Option.some (Jvm.ClassFile.FieldType.object "DownRope$Tossed"))) ∈ lw_all := lw_g (lw_at lw_m5 184 rfl) rfl
theorem q1754 : (Jvm.Cond.castable "DownRope$Throw" "DownRope$Move") ∈ lw_tbl := lw_at lw_m7 239 rfl
theorem in_X11 : ∀ w ∈ wsX110, w ∈ lw_all := lw_in wsX110 [973, 974, 975, 976] (by decide +kernel) (by decide +kernel)
/-! DownRope$Reader -/
set_option maxRecDepth 100000
def RX13 : String := "DownRope$Reader"
def TX13 : u_T := fun k => match k with
  | 0 => ("DownRope$Reader", "text", "[B", true)
  | 1 => ("DownRope$Reader", "at", "I", false)
  | 2 => ("DownRope$Reader", "letter", "[I", true)
  | 3 => ("DownRope$Reader", "place", "[I", true)
  | 4 => ("DownRope$Reader", "told", "[[I", true)
  | 5 => ("DownRope$Reader", "isSigned", "[Z", true)
  | _ => ("DownRope$Reader", "statements", "I", false)
def tyX13 : Nat → FieldType := fun k => match k with
  | 0 => .array .byte
  | 1 => .int
  | 2 => .array .int
  | 3 => .array .int
  | 4 => .array (.array .int)
  | 5 => .array .boolean
  | _ => .int
abbrev wsX130 : List Cond := u_ws RX13 TX13 7
theorem nmX13 : ∀ a, a < 7 → ∀ b, b < 7 → a ≠ b → (TX13 a).2.1 ≠ (TX13 b).2.1 := by decide +kernel
theorem tyX13_ok : ∀ k, k < 7 → parseFieldDescriptor (TX13 k).2.2.1 = some (tyX13 k) := by decide +kernel
abbrev cX13_init : ByteArray := prog_11_method_1_code
def yX13_init : MethodName := ⟨RX13, "<init>", "([B)V"⟩
def dkwX13_init_1 : List UInt8 := [197, 0, 18, 2, 181, 0, 20, 42, 16, 40, 188, 4, 181, 0, 23, 42, 43, 181, 0, 27, 177]
abbrev dktX13_init_1 : List UInt8 := dkwX13_init_1 ++ []
def dkwX13_init_0 : List UInt8 := [42, 183, 0, 3, 42, 16, 40, 188, 10, 181, 0, 9, 42, 16, 40, 188, 10, 181, 0, 15, 42, 16, 40, 5]
abbrev dktX13_init_0 : List UInt8 := dkwX13_init_0 ++ dktX13_init_1
theorem dksX13_init_0 : cX13_init.data.toList.drop 0 = dktX13_init_0 := by decide +kernel
theorem dksX13_init_1 : cX13_init.data.toList.drop 24 = dktX13_init_1 := dk_seg dksX13_init_0 24 rfl rfl
theorem dX13_init_0 : decode cX13_init 0 = .ok (.aload_n 0, 1) := dk_42 (dk_at dksX13_init_0 0 rfl rfl)
theorem dX13_init_1 : decode cX13_init 1 = .ok (.invokespecial 3, 3) := dk_183 0 3 (dk_at dksX13_init_0 1 rfl rfl)
theorem dX13_init_4 : decode cX13_init 4 = .ok (.aload_n 0, 1) := dk_42 (dk_at dksX13_init_0 4 rfl rfl)
theorem dX13_init_5 : decode cX13_init 5 = .ok (.bipush 40, 2) := dk_16 40 (dk_at dksX13_init_0 5 rfl rfl)
theorem dX13_init_7 : decode cX13_init 7 = .ok (.newarray .int, 2) := dk_188_10 (dk_at dksX13_init_0 7 rfl rfl)
theorem dX13_init_9 : decode cX13_init 9 = .ok (.putfield 9, 3) := dk_181 0 9 (dk_at dksX13_init_0 9 rfl rfl)
theorem dX13_init_12 : decode cX13_init 12 = .ok (.aload_n 0, 1) := dk_42 (dk_at dksX13_init_0 12 rfl rfl)
theorem dX13_init_13 : decode cX13_init 13 = .ok (.bipush 40, 2) := dk_16 40 (dk_at dksX13_init_0 13 rfl rfl)
theorem dX13_init_15 : decode cX13_init 15 = .ok (.newarray .int, 2) := dk_188_10 (dk_at dksX13_init_0 15 rfl rfl)
theorem dX13_init_17 : decode cX13_init 17 = .ok (.putfield 15, 3) := dk_181 0 15 (dk_at dksX13_init_0 17 rfl rfl)
theorem dX13_init_20 : decode cX13_init 20 = .ok (.aload_n 0, 1) := dk_42 (dk_at dksX13_init_0 20 rfl rfl)
theorem dX13_init_21 : decode cX13_init 21 = .ok (.bipush 40, 2) := dk_16 40 (dk_at dksX13_init_0 21 rfl rfl)
theorem dX13_init_23 : decode cX13_init 23 = .ok (.iconst 2, 1) := dk_5 (dk_at dksX13_init_0 23 rfl rfl)
theorem dX13_init_24 : decode cX13_init 24 = .ok (.multianewarray 18 2, 4) := by decide +kernel
theorem dX13_init_28 : decode cX13_init 28 = .ok (.putfield 20, 3) := dk_181 0 20 (dk_at dksX13_init_1 4 rfl rfl)
theorem dX13_init_31 : decode cX13_init 31 = .ok (.aload_n 0, 1) := dk_42 (dk_at dksX13_init_1 7 rfl rfl)
theorem dX13_init_32 : decode cX13_init 32 = .ok (.bipush 40, 2) := dk_16 40 (dk_at dksX13_init_1 8 rfl rfl)
theorem dX13_init_34 : decode cX13_init 34 = .ok (.newarray .boolean, 2) := dk_188_4 (dk_at dksX13_init_1 10 rfl rfl)
theorem dX13_init_36 : decode cX13_init 36 = .ok (.putfield 23, 3) := dk_181 0 23 (dk_at dksX13_init_1 12 rfl rfl)
theorem dX13_init_39 : decode cX13_init 39 = .ok (.aload_n 0, 1) := dk_42 (dk_at dksX13_init_1 15 rfl rfl)
theorem dX13_init_40 : decode cX13_init 40 = .ok (.aload_n 1, 1) := dk_43 (dk_at dksX13_init_1 16 rfl rfl)
theorem dX13_init_41 : decode cX13_init 41 = .ok (.putfield 27, 3) := dk_181 0 27 (dk_at dksX13_init_1 17 rfl rfl)
theorem dX13_init_44 : decode cX13_init 44 = .ok (.return_, 1) := dk_177 (dk_at dksX13_init_1 20 rfl rfl)
abbrev cX13_reads : ByteArray := prog_11_method_8_code
def yX13_reads : MethodName := ⟨RX13, "reads", "()V"⟩
def dkwX13_reads_0 : List UInt8 := [42, 182, 0, 65, 42, 180, 0, 31, 42, 180, 0, 27, 190, 161, 255, 243, 177]
abbrev dktX13_reads_0 : List UInt8 := dkwX13_reads_0 ++ []
theorem dksX13_reads_0 : cX13_reads.data.toList.drop 0 = dktX13_reads_0 := by decide +kernel
theorem dX13_reads_0 : decode cX13_reads 0 = .ok (.aload_n 0, 1) := dk_42 (dk_at dksX13_reads_0 0 rfl rfl)
theorem dX13_reads_1 : decode cX13_reads 1 = .ok (.invokevirtual 65, 3) := dk_182 0 65 (dk_at dksX13_reads_0 1 rfl rfl)
theorem dX13_reads_4 : decode cX13_reads 4 = .ok (.aload_n 0, 1) := dk_42 (dk_at dksX13_reads_0 4 rfl rfl)
theorem dX13_reads_5 : decode cX13_reads 5 = .ok (.getfield 31, 3) := dk_180 0 31 (dk_at dksX13_reads_0 5 rfl rfl)
theorem dX13_reads_8 : decode cX13_reads 8 = .ok (.aload_n 0, 1) := dk_42 (dk_at dksX13_reads_0 8 rfl rfl)
theorem dX13_reads_9 : decode cX13_reads 9 = .ok (.getfield 27, 3) := dk_180 0 27 (dk_at dksX13_reads_0 9 rfl rfl)
theorem dX13_reads_12 : decode cX13_reads 12 = .ok (.arraylength, 1) := dk_190 (dk_at dksX13_reads_0 12 rfl rfl)
theorem dX13_reads_13 : decode cX13_reads 13 = .ok (.if_icmp .lt (-13), 3) := dk_161 255 243 (dk_at dksX13_reads_0 13 rfl rfl)
theorem dX13_reads_16 : decode cX13_reads 16 = .ok (.return_, 1) := dk_177 (dk_at dksX13_reads_0 16 rfl rfl)
abbrev cX13_statement : ByteArray := prog_11_method_7_code
def yX13_statement : MethodName := ⟨RX13, "statement", "()V"⟩
def dkwX13_statement_10 : List UInt8 := [181, 0, 55, 177]
abbrev dktX13_statement_10 : List UInt8 := dkwX13_statement_10 ++ []
def dkwX13_statement_9 : List UInt8 := [180, 0, 31, 4, 100, 183, 0, 45, 191, 42, 16, 59, 182, 0, 58, 42, 89, 180, 0, 55, 4, 96]
abbrev dktX13_statement_9 : List UInt8 := dkwX13_statement_9 ++ dktX13_statement_10
def dkwX13_statement_8 : List UInt8 := [182, 0, 52, 79, 167, 0, 28, 44, 3, 42, 182, 0, 62, 79, 167, 0, 18, 187, 0, 43, 89, 4, 42]
abbrev dktX13_statement_8 : List UInt8 := dkwX13_statement_8 ++ dktX13_statement_9
def dkwX13_statement_7 : List UInt8 := [182, 0, 52, 79, 167, 0, 51, 44, 3, 42, 182, 0, 62, 79, 42, 16, 32, 182, 0, 58, 44, 4, 42]
abbrev dktX13_statement_7 : List UInt8 := dkwX13_statement_7 ++ dktX13_statement_8
def dkwX13_statement_6 : List UInt8 := [180, 0, 55, 42, 16, 99, 182, 0, 39, 84, 167, 0, 68, 44, 3, 42, 182, 0, 52, 79, 44, 4, 42]
abbrev dktX13_statement_6 : List UInt8 := dkwX13_statement_6 ++ dktX13_statement_7
def dkwX13_statement_5 : List UInt8 := [3, 42, 182, 0, 52, 79, 42, 16, 32, 182, 0, 58, 44, 4, 42, 182, 0, 62, 79, 42, 180, 0, 23, 42]
abbrev dktX13_statement_5 : List UInt8 := dkwX13_statement_5 ++ dktX13_statement_6
def dkwX13_statement_4 : List UInt8 := [44, 3, 42, 182, 0, 52, 79, 42, 16, 32, 182, 0, 58, 44, 4, 42, 182, 0, 52, 79, 167, 0, 106, 44]
abbrev dktX13_statement_4 : List UInt8 := dkwX13_statement_4 ++ dktX13_statement_5
def dkwX13_statement_3 : List UInt8 := [170, 0, 0, 0, 0, 0, 190, 0, 0, 0, 99, 0, 0, 0, 114, 0, 0, 0, 180, 0, 0, 0, 102, 0, 0, 0, 190, 0, 0, 0, 190, 0, 0, 0, 190, 0, 0, 0, 190, 0, 0, 0, 190, 0, 0, 0, 190, 0, 0, 0, 180, 0, 0, 0, 79, 0, 0, 0, 190, 0, 0, 0, 190, 0, 0, 0, 190, 0, 0, 0, 140, 0, 0, 0, 190, 0, 0, 0, 157]
abbrev dktX13_statement_3 : List UInt8 := dkwX13_statement_3 ++ dktX13_statement_4
def dkwX13_statement_2 : List UInt8 := [27]
abbrev dktX13_statement_2 : List UInt8 := dkwX13_statement_2 ++ dktX13_statement_3
def dkwX13_statement_1 : List UInt8 := [79, 42, 180, 0, 15, 42, 180, 0, 55, 42, 180, 0, 31, 79, 42, 89, 180, 0, 31, 4, 96, 181, 0, 31]
abbrev dktX13_statement_1 : List UInt8 := dkwX13_statement_1 ++ dktX13_statement_2
def dkwX13_statement_0 : List UInt8 := [42, 182, 0, 35, 60, 42, 180, 0, 20, 42, 180, 0, 55, 50, 77, 42, 180, 0, 9, 42, 180, 0, 55, 27]
abbrev dktX13_statement_0 : List UInt8 := dkwX13_statement_0 ++ dktX13_statement_1
theorem dksX13_statement_0 : cX13_statement.data.toList.drop 0 = dktX13_statement_0 := by decide +kernel
theorem dksX13_statement_1 : cX13_statement.data.toList.drop 24 = dktX13_statement_1 := dk_seg dksX13_statement_0 24 rfl rfl
theorem dksX13_statement_2 : cX13_statement.data.toList.drop 48 = dktX13_statement_2 := dk_seg dksX13_statement_1 24 rfl rfl
theorem dksX13_statement_3 : cX13_statement.data.toList.drop 49 = dktX13_statement_3 := dk_seg dksX13_statement_2 1 rfl rfl
theorem dksX13_statement_4 : cX13_statement.data.toList.drop 128 = dktX13_statement_4 := dk_seg dksX13_statement_3 79 rfl rfl
theorem dksX13_statement_5 : cX13_statement.data.toList.drop 152 = dktX13_statement_5 := dk_seg dksX13_statement_4 24 rfl rfl
theorem dksX13_statement_6 : cX13_statement.data.toList.drop 176 = dktX13_statement_6 := dk_seg dksX13_statement_5 24 rfl rfl
theorem dksX13_statement_7 : cX13_statement.data.toList.drop 199 = dktX13_statement_7 := dk_seg dksX13_statement_6 23 rfl rfl
theorem dksX13_statement_8 : cX13_statement.data.toList.drop 222 = dktX13_statement_8 := dk_seg dksX13_statement_7 23 rfl rfl
theorem dksX13_statement_9 : cX13_statement.data.toList.drop 245 = dktX13_statement_9 := dk_seg dksX13_statement_8 23 rfl rfl
theorem dksX13_statement_10 : cX13_statement.data.toList.drop 267 = dktX13_statement_10 := dk_seg dksX13_statement_9 22 rfl rfl
theorem dX13_statement_0 : decode cX13_statement 0 = .ok (.aload_n 0, 1) := dk_42 (dk_at dksX13_statement_0 0 rfl rfl)
theorem dX13_statement_1 : decode cX13_statement 1 = .ok (.invokevirtual 35, 3) := dk_182 0 35 (dk_at dksX13_statement_0 1 rfl rfl)
theorem dX13_statement_4 : decode cX13_statement 4 = .ok (.istore_n 1, 1) := dk_60 (dk_at dksX13_statement_0 4 rfl rfl)
theorem dX13_statement_5 : decode cX13_statement 5 = .ok (.aload_n 0, 1) := dk_42 (dk_at dksX13_statement_0 5 rfl rfl)
theorem dX13_statement_6 : decode cX13_statement 6 = .ok (.getfield 20, 3) := dk_180 0 20 (dk_at dksX13_statement_0 6 rfl rfl)
theorem dX13_statement_9 : decode cX13_statement 9 = .ok (.aload_n 0, 1) := dk_42 (dk_at dksX13_statement_0 9 rfl rfl)
theorem dX13_statement_10 : decode cX13_statement 10 = .ok (.getfield 55, 3) := dk_180 0 55 (dk_at dksX13_statement_0 10 rfl rfl)
theorem dX13_statement_13 : decode cX13_statement 13 = .ok (.aaload, 1) := dk_50 (dk_at dksX13_statement_0 13 rfl rfl)
theorem dX13_statement_14 : decode cX13_statement 14 = .ok (.astore_n 2, 1) := dk_77 (dk_at dksX13_statement_0 14 rfl rfl)
theorem dX13_statement_15 : decode cX13_statement 15 = .ok (.aload_n 0, 1) := dk_42 (dk_at dksX13_statement_0 15 rfl rfl)
theorem dX13_statement_16 : decode cX13_statement 16 = .ok (.getfield 9, 3) := dk_180 0 9 (dk_at dksX13_statement_0 16 rfl rfl)
theorem dX13_statement_19 : decode cX13_statement 19 = .ok (.aload_n 0, 1) := dk_42 (dk_at dksX13_statement_0 19 rfl rfl)
theorem dX13_statement_20 : decode cX13_statement 20 = .ok (.getfield 55, 3) := dk_180 0 55 (dk_at dksX13_statement_0 20 rfl rfl)
theorem dX13_statement_23 : decode cX13_statement 23 = .ok (.iload_n 1, 1) := dk_27 (dk_at dksX13_statement_0 23 rfl rfl)
theorem dX13_statement_24 : decode cX13_statement 24 = .ok (.iastore, 1) := dk_79 (dk_at dksX13_statement_1 0 rfl rfl)
theorem dX13_statement_25 : decode cX13_statement 25 = .ok (.aload_n 0, 1) := dk_42 (dk_at dksX13_statement_1 1 rfl rfl)
theorem dX13_statement_26 : decode cX13_statement 26 = .ok (.getfield 15, 3) := dk_180 0 15 (dk_at dksX13_statement_1 2 rfl rfl)
theorem dX13_statement_29 : decode cX13_statement 29 = .ok (.aload_n 0, 1) := dk_42 (dk_at dksX13_statement_1 5 rfl rfl)
theorem dX13_statement_30 : decode cX13_statement 30 = .ok (.getfield 55, 3) := dk_180 0 55 (dk_at dksX13_statement_1 6 rfl rfl)
theorem dX13_statement_33 : decode cX13_statement 33 = .ok (.aload_n 0, 1) := dk_42 (dk_at dksX13_statement_1 9 rfl rfl)
theorem dX13_statement_34 : decode cX13_statement 34 = .ok (.getfield 31, 3) := dk_180 0 31 (dk_at dksX13_statement_1 10 rfl rfl)
theorem dX13_statement_37 : decode cX13_statement 37 = .ok (.iastore, 1) := dk_79 (dk_at dksX13_statement_1 13 rfl rfl)
theorem dX13_statement_38 : decode cX13_statement 38 = .ok (.aload_n 0, 1) := dk_42 (dk_at dksX13_statement_1 14 rfl rfl)
theorem dX13_statement_39 : decode cX13_statement 39 = .ok (.dup, 1) := dk_89 (dk_at dksX13_statement_1 15 rfl rfl)
theorem dX13_statement_40 : decode cX13_statement 40 = .ok (.getfield 31, 3) := dk_180 0 31 (dk_at dksX13_statement_1 16 rfl rfl)
theorem dX13_statement_43 : decode cX13_statement 43 = .ok (.iconst 1, 1) := dk_4 (dk_at dksX13_statement_1 19 rfl rfl)
theorem dX13_statement_44 : decode cX13_statement 44 = .ok (.iadd, 1) := dk_96 (dk_at dksX13_statement_1 20 rfl rfl)
theorem dX13_statement_45 : decode cX13_statement 45 = .ok (.putfield 31, 3) := dk_181 0 31 (dk_at dksX13_statement_1 21 rfl rfl)
theorem dX13_statement_48 : decode cX13_statement 48 = .ok (.iload_n 1, 1) := dk_27 (dk_at dksX13_statement_2 0 rfl rfl)
theorem dX13_statement_49 : decode cX13_statement 49 = .ok (.tableswitch 190 99 114 #[180, 102, 190, 190, 190, 190, 190, 190, 180, 79, 190, 190, 190, 140, 190, 157], 79) := by decide +kernel
theorem dX13_statement_128 : decode cX13_statement 128 = .ok (.aload_n 2, 1) := dk_44 (dk_at dksX13_statement_4 0 rfl rfl)
theorem dX13_statement_129 : decode cX13_statement 129 = .ok (.iconst 0, 1) := dk_3 (dk_at dksX13_statement_4 1 rfl rfl)
theorem dX13_statement_130 : decode cX13_statement 130 = .ok (.aload_n 0, 1) := dk_42 (dk_at dksX13_statement_4 2 rfl rfl)
theorem dX13_statement_131 : decode cX13_statement 131 = .ok (.invokevirtual 52, 3) := dk_182 0 52 (dk_at dksX13_statement_4 3 rfl rfl)
theorem dX13_statement_134 : decode cX13_statement 134 = .ok (.iastore, 1) := dk_79 (dk_at dksX13_statement_4 6 rfl rfl)
theorem dX13_statement_135 : decode cX13_statement 135 = .ok (.aload_n 0, 1) := dk_42 (dk_at dksX13_statement_4 7 rfl rfl)
theorem dX13_statement_136 : decode cX13_statement 136 = .ok (.bipush 32, 2) := dk_16 32 (dk_at dksX13_statement_4 8 rfl rfl)
theorem dX13_statement_138 : decode cX13_statement 138 = .ok (.invokevirtual 58, 3) := dk_182 0 58 (dk_at dksX13_statement_4 10 rfl rfl)
theorem dX13_statement_141 : decode cX13_statement 141 = .ok (.aload_n 2, 1) := dk_44 (dk_at dksX13_statement_4 13 rfl rfl)
theorem dX13_statement_142 : decode cX13_statement 142 = .ok (.iconst 1, 1) := dk_4 (dk_at dksX13_statement_4 14 rfl rfl)
theorem dX13_statement_143 : decode cX13_statement 143 = .ok (.aload_n 0, 1) := dk_42 (dk_at dksX13_statement_4 15 rfl rfl)
theorem dX13_statement_144 : decode cX13_statement 144 = .ok (.invokevirtual 52, 3) := dk_182 0 52 (dk_at dksX13_statement_4 16 rfl rfl)
theorem dX13_statement_147 : decode cX13_statement 147 = .ok (.iastore, 1) := dk_79 (dk_at dksX13_statement_4 19 rfl rfl)
theorem dX13_statement_148 : decode cX13_statement 148 = .ok (.goto 106, 3) := dk_167 0 106 (dk_at dksX13_statement_4 20 rfl rfl)
theorem dX13_statement_151 : decode cX13_statement 151 = .ok (.aload_n 2, 1) := dk_44 (dk_at dksX13_statement_4 23 rfl rfl)
theorem dX13_statement_152 : decode cX13_statement 152 = .ok (.iconst 0, 1) := dk_3 (dk_at dksX13_statement_5 0 rfl rfl)
theorem dX13_statement_153 : decode cX13_statement 153 = .ok (.aload_n 0, 1) := dk_42 (dk_at dksX13_statement_5 1 rfl rfl)
theorem dX13_statement_154 : decode cX13_statement 154 = .ok (.invokevirtual 52, 3) := dk_182 0 52 (dk_at dksX13_statement_5 2 rfl rfl)
theorem dX13_statement_157 : decode cX13_statement 157 = .ok (.iastore, 1) := dk_79 (dk_at dksX13_statement_5 5 rfl rfl)
theorem dX13_statement_158 : decode cX13_statement 158 = .ok (.aload_n 0, 1) := dk_42 (dk_at dksX13_statement_5 6 rfl rfl)
theorem dX13_statement_159 : decode cX13_statement 159 = .ok (.bipush 32, 2) := dk_16 32 (dk_at dksX13_statement_5 7 rfl rfl)
theorem dX13_statement_161 : decode cX13_statement 161 = .ok (.invokevirtual 58, 3) := dk_182 0 58 (dk_at dksX13_statement_5 9 rfl rfl)
theorem dX13_statement_164 : decode cX13_statement 164 = .ok (.aload_n 2, 1) := dk_44 (dk_at dksX13_statement_5 12 rfl rfl)
theorem dX13_statement_165 : decode cX13_statement 165 = .ok (.iconst 1, 1) := dk_4 (dk_at dksX13_statement_5 13 rfl rfl)
theorem dX13_statement_166 : decode cX13_statement 166 = .ok (.aload_n 0, 1) := dk_42 (dk_at dksX13_statement_5 14 rfl rfl)
theorem dX13_statement_167 : decode cX13_statement 167 = .ok (.invokevirtual 62, 3) := dk_182 0 62 (dk_at dksX13_statement_5 15 rfl rfl)
theorem dX13_statement_170 : decode cX13_statement 170 = .ok (.iastore, 1) := dk_79 (dk_at dksX13_statement_5 18 rfl rfl)
theorem dX13_statement_171 : decode cX13_statement 171 = .ok (.aload_n 0, 1) := dk_42 (dk_at dksX13_statement_5 19 rfl rfl)
theorem dX13_statement_172 : decode cX13_statement 172 = .ok (.getfield 23, 3) := dk_180 0 23 (dk_at dksX13_statement_5 20 rfl rfl)
theorem dX13_statement_175 : decode cX13_statement 175 = .ok (.aload_n 0, 1) := dk_42 (dk_at dksX13_statement_5 23 rfl rfl)
theorem dX13_statement_176 : decode cX13_statement 176 = .ok (.getfield 55, 3) := dk_180 0 55 (dk_at dksX13_statement_6 0 rfl rfl)
theorem dX13_statement_179 : decode cX13_statement 179 = .ok (.aload_n 0, 1) := dk_42 (dk_at dksX13_statement_6 3 rfl rfl)
theorem dX13_statement_180 : decode cX13_statement 180 = .ok (.bipush 99, 2) := dk_16 99 (dk_at dksX13_statement_6 4 rfl rfl)
theorem dX13_statement_182 : decode cX13_statement 182 = .ok (.invokevirtual 39, 3) := dk_182 0 39 (dk_at dksX13_statement_6 6 rfl rfl)
theorem dX13_statement_185 : decode cX13_statement 185 = .ok (.bastore, 1) := dk_84 (dk_at dksX13_statement_6 9 rfl rfl)
theorem dX13_statement_186 : decode cX13_statement 186 = .ok (.goto 68, 3) := dk_167 0 68 (dk_at dksX13_statement_6 10 rfl rfl)
theorem dX13_statement_189 : decode cX13_statement 189 = .ok (.aload_n 2, 1) := dk_44 (dk_at dksX13_statement_6 13 rfl rfl)
theorem dX13_statement_190 : decode cX13_statement 190 = .ok (.iconst 0, 1) := dk_3 (dk_at dksX13_statement_6 14 rfl rfl)
theorem dX13_statement_191 : decode cX13_statement 191 = .ok (.aload_n 0, 1) := dk_42 (dk_at dksX13_statement_6 15 rfl rfl)
theorem dX13_statement_192 : decode cX13_statement 192 = .ok (.invokevirtual 52, 3) := dk_182 0 52 (dk_at dksX13_statement_6 16 rfl rfl)
theorem dX13_statement_195 : decode cX13_statement 195 = .ok (.iastore, 1) := dk_79 (dk_at dksX13_statement_6 19 rfl rfl)
theorem dX13_statement_196 : decode cX13_statement 196 = .ok (.aload_n 2, 1) := dk_44 (dk_at dksX13_statement_6 20 rfl rfl)
theorem dX13_statement_197 : decode cX13_statement 197 = .ok (.iconst 1, 1) := dk_4 (dk_at dksX13_statement_6 21 rfl rfl)
theorem dX13_statement_198 : decode cX13_statement 198 = .ok (.aload_n 0, 1) := dk_42 (dk_at dksX13_statement_6 22 rfl rfl)
theorem dX13_statement_199 : decode cX13_statement 199 = .ok (.invokevirtual 52, 3) := dk_182 0 52 (dk_at dksX13_statement_7 0 rfl rfl)
theorem dX13_statement_202 : decode cX13_statement 202 = .ok (.iastore, 1) := dk_79 (dk_at dksX13_statement_7 3 rfl rfl)
theorem dX13_statement_203 : decode cX13_statement 203 = .ok (.goto 51, 3) := dk_167 0 51 (dk_at dksX13_statement_7 4 rfl rfl)
theorem dX13_statement_206 : decode cX13_statement 206 = .ok (.aload_n 2, 1) := dk_44 (dk_at dksX13_statement_7 7 rfl rfl)
theorem dX13_statement_207 : decode cX13_statement 207 = .ok (.iconst 0, 1) := dk_3 (dk_at dksX13_statement_7 8 rfl rfl)
theorem dX13_statement_208 : decode cX13_statement 208 = .ok (.aload_n 0, 1) := dk_42 (dk_at dksX13_statement_7 9 rfl rfl)
theorem dX13_statement_209 : decode cX13_statement 209 = .ok (.invokevirtual 62, 3) := dk_182 0 62 (dk_at dksX13_statement_7 10 rfl rfl)
theorem dX13_statement_212 : decode cX13_statement 212 = .ok (.iastore, 1) := dk_79 (dk_at dksX13_statement_7 13 rfl rfl)
theorem dX13_statement_213 : decode cX13_statement 213 = .ok (.aload_n 0, 1) := dk_42 (dk_at dksX13_statement_7 14 rfl rfl)
theorem dX13_statement_214 : decode cX13_statement 214 = .ok (.bipush 32, 2) := dk_16 32 (dk_at dksX13_statement_7 15 rfl rfl)
theorem dX13_statement_216 : decode cX13_statement 216 = .ok (.invokevirtual 58, 3) := dk_182 0 58 (dk_at dksX13_statement_7 17 rfl rfl)
theorem dX13_statement_219 : decode cX13_statement 219 = .ok (.aload_n 2, 1) := dk_44 (dk_at dksX13_statement_7 20 rfl rfl)
theorem dX13_statement_220 : decode cX13_statement 220 = .ok (.iconst 1, 1) := dk_4 (dk_at dksX13_statement_7 21 rfl rfl)
theorem dX13_statement_221 : decode cX13_statement 221 = .ok (.aload_n 0, 1) := dk_42 (dk_at dksX13_statement_7 22 rfl rfl)
theorem dX13_statement_222 : decode cX13_statement 222 = .ok (.invokevirtual 52, 3) := dk_182 0 52 (dk_at dksX13_statement_8 0 rfl rfl)
theorem dX13_statement_225 : decode cX13_statement 225 = .ok (.iastore, 1) := dk_79 (dk_at dksX13_statement_8 3 rfl rfl)
theorem dX13_statement_226 : decode cX13_statement 226 = .ok (.goto 28, 3) := dk_167 0 28 (dk_at dksX13_statement_8 4 rfl rfl)
theorem dX13_statement_229 : decode cX13_statement 229 = .ok (.aload_n 2, 1) := dk_44 (dk_at dksX13_statement_8 7 rfl rfl)
theorem dX13_statement_230 : decode cX13_statement 230 = .ok (.iconst 0, 1) := dk_3 (dk_at dksX13_statement_8 8 rfl rfl)
theorem dX13_statement_231 : decode cX13_statement 231 = .ok (.aload_n 0, 1) := dk_42 (dk_at dksX13_statement_8 9 rfl rfl)
theorem dX13_statement_232 : decode cX13_statement 232 = .ok (.invokevirtual 62, 3) := dk_182 0 62 (dk_at dksX13_statement_8 10 rfl rfl)
theorem dX13_statement_235 : decode cX13_statement 235 = .ok (.iastore, 1) := dk_79 (dk_at dksX13_statement_8 13 rfl rfl)
theorem dX13_statement_236 : decode cX13_statement 236 = .ok (.goto 18, 3) := dk_167 0 18 (dk_at dksX13_statement_8 14 rfl rfl)
theorem dX13_statement_239 : decode cX13_statement 239 = .ok (.new 43, 3) := dk_187 0 43 (dk_at dksX13_statement_8 17 rfl rfl)
theorem dX13_statement_242 : decode cX13_statement 242 = .ok (.dup, 1) := dk_89 (dk_at dksX13_statement_8 20 rfl rfl)
theorem dX13_statement_243 : decode cX13_statement 243 = .ok (.iconst 1, 1) := dk_4 (dk_at dksX13_statement_8 21 rfl rfl)
theorem dX13_statement_244 : decode cX13_statement 244 = .ok (.aload_n 0, 1) := dk_42 (dk_at dksX13_statement_8 22 rfl rfl)
theorem dX13_statement_245 : decode cX13_statement 245 = .ok (.getfield 31, 3) := dk_180 0 31 (dk_at dksX13_statement_9 0 rfl rfl)
theorem dX13_statement_248 : decode cX13_statement 248 = .ok (.iconst 1, 1) := dk_4 (dk_at dksX13_statement_9 3 rfl rfl)
theorem dX13_statement_249 : decode cX13_statement 249 = .ok (.isub, 1) := dk_100 (dk_at dksX13_statement_9 4 rfl rfl)
theorem dX13_statement_250 : decode cX13_statement 250 = .ok (.invokespecial 45, 3) := dk_183 0 45 (dk_at dksX13_statement_9 5 rfl rfl)
theorem dX13_statement_253 : decode cX13_statement 253 = .ok (.athrow, 1) := dk_191 (dk_at dksX13_statement_9 8 rfl rfl)
theorem dX13_statement_254 : decode cX13_statement 254 = .ok (.aload_n 0, 1) := dk_42 (dk_at dksX13_statement_9 9 rfl rfl)
theorem dX13_statement_255 : decode cX13_statement 255 = .ok (.bipush 59, 2) := dk_16 59 (dk_at dksX13_statement_9 10 rfl rfl)
theorem dX13_statement_257 : decode cX13_statement 257 = .ok (.invokevirtual 58, 3) := dk_182 0 58 (dk_at dksX13_statement_9 12 rfl rfl)
theorem dX13_statement_260 : decode cX13_statement 260 = .ok (.aload_n 0, 1) := dk_42 (dk_at dksX13_statement_9 15 rfl rfl)
theorem dX13_statement_261 : decode cX13_statement 261 = .ok (.dup, 1) := dk_89 (dk_at dksX13_statement_9 16 rfl rfl)
theorem dX13_statement_262 : decode cX13_statement 262 = .ok (.getfield 55, 3) := dk_180 0 55 (dk_at dksX13_statement_9 17 rfl rfl)
theorem dX13_statement_265 : decode cX13_statement 265 = .ok (.iconst 1, 1) := dk_4 (dk_at dksX13_statement_9 20 rfl rfl)
theorem dX13_statement_266 : decode cX13_statement 266 = .ok (.iadd, 1) := dk_96 (dk_at dksX13_statement_9 21 rfl rfl)
theorem dX13_statement_267 : decode cX13_statement 267 = .ok (.putfield 55, 3) := dk_181 0 55 (dk_at dksX13_statement_10 0 rfl rfl)
theorem dX13_statement_270 : decode cX13_statement 270 = .ok (.return_, 1) := dk_177 (dk_at dksX13_statement_10 3 rfl rfl)
abbrev cX13_sign : ByteArray := prog_11_method_2_code
def yX13_sign : MethodName := ⟨RX13, "sign", "()I"⟩
def dkwX13_sign_1 : List UInt8 := [2, 172]
abbrev dktX13_sign_1 : List UInt8 := dkwX13_sign_1 ++ []
def dkwX13_sign_0 : List UInt8 := [42, 180, 0, 31, 42, 180, 0, 27, 190, 162, 0, 15, 42, 180, 0, 27, 42, 180, 0, 31, 51, 167, 0, 4]
abbrev dktX13_sign_0 : List UInt8 := dkwX13_sign_0 ++ dktX13_sign_1
theorem dksX13_sign_0 : cX13_sign.data.toList.drop 0 = dktX13_sign_0 := by decide +kernel
theorem dksX13_sign_1 : cX13_sign.data.toList.drop 24 = dktX13_sign_1 := dk_seg dksX13_sign_0 24 rfl rfl
theorem dX13_sign_0 : decode cX13_sign 0 = .ok (.aload_n 0, 1) := dk_42 (dk_at dksX13_sign_0 0 rfl rfl)
theorem dX13_sign_1 : decode cX13_sign 1 = .ok (.getfield 31, 3) := dk_180 0 31 (dk_at dksX13_sign_0 1 rfl rfl)
theorem dX13_sign_4 : decode cX13_sign 4 = .ok (.aload_n 0, 1) := dk_42 (dk_at dksX13_sign_0 4 rfl rfl)
theorem dX13_sign_5 : decode cX13_sign 5 = .ok (.getfield 27, 3) := dk_180 0 27 (dk_at dksX13_sign_0 5 rfl rfl)
theorem dX13_sign_8 : decode cX13_sign 8 = .ok (.arraylength, 1) := dk_190 (dk_at dksX13_sign_0 8 rfl rfl)
theorem dX13_sign_9 : decode cX13_sign 9 = .ok (.if_icmp .ge 15, 3) := dk_162 0 15 (dk_at dksX13_sign_0 9 rfl rfl)
theorem dX13_sign_12 : decode cX13_sign 12 = .ok (.aload_n 0, 1) := dk_42 (dk_at dksX13_sign_0 12 rfl rfl)
theorem dX13_sign_13 : decode cX13_sign 13 = .ok (.getfield 27, 3) := dk_180 0 27 (dk_at dksX13_sign_0 13 rfl rfl)
theorem dX13_sign_16 : decode cX13_sign 16 = .ok (.aload_n 0, 1) := dk_42 (dk_at dksX13_sign_0 16 rfl rfl)
theorem dX13_sign_17 : decode cX13_sign 17 = .ok (.getfield 31, 3) := dk_180 0 31 (dk_at dksX13_sign_0 17 rfl rfl)
theorem dX13_sign_20 : decode cX13_sign 20 = .ok (.baload, 1) := dk_51 (dk_at dksX13_sign_0 20 rfl rfl)
theorem dX13_sign_21 : decode cX13_sign 21 = .ok (.goto 4, 3) := dk_167 0 4 (dk_at dksX13_sign_0 21 rfl rfl)
theorem dX13_sign_24 : decode cX13_sign 24 = .ok (.iconst (-1), 1) := dk_2 (dk_at dksX13_sign_1 0 rfl rfl)
theorem dX13_sign_25 : decode cX13_sign 25 = .ok (.ireturn, 1) := dk_172 (dk_at dksX13_sign_1 1 rfl rfl)
abbrev cX13_digit : ByteArray := prog_11_method_5_code
def yX13_digit : MethodName := ⟨RX13, "digit", "()I"⟩
def dkwX13_digit_1 : List UInt8 := [180, 0, 31, 183, 0, 45, 191, 42, 89, 180, 0, 31, 4, 96, 181, 0, 31, 27, 172]
abbrev dktX13_digit_1 : List UInt8 := dkwX13_digit_1 ++ []
def dkwX13_digit_0 : List UInt8 := [42, 182, 0, 35, 16, 48, 100, 60, 27, 3, 16, 9, 184, 0, 48, 154, 0, 16, 187, 0, 43, 89, 4, 42]
abbrev dktX13_digit_0 : List UInt8 := dkwX13_digit_0 ++ dktX13_digit_1
theorem dksX13_digit_0 : cX13_digit.data.toList.drop 0 = dktX13_digit_0 := by decide +kernel
theorem dksX13_digit_1 : cX13_digit.data.toList.drop 24 = dktX13_digit_1 := dk_seg dksX13_digit_0 24 rfl rfl
theorem dX13_digit_0 : decode cX13_digit 0 = .ok (.aload_n 0, 1) := dk_42 (dk_at dksX13_digit_0 0 rfl rfl)
theorem dX13_digit_1 : decode cX13_digit 1 = .ok (.invokevirtual 35, 3) := dk_182 0 35 (dk_at dksX13_digit_0 1 rfl rfl)
theorem dX13_digit_4 : decode cX13_digit 4 = .ok (.bipush 48, 2) := dk_16 48 (dk_at dksX13_digit_0 4 rfl rfl)
theorem dX13_digit_6 : decode cX13_digit 6 = .ok (.isub, 1) := dk_100 (dk_at dksX13_digit_0 6 rfl rfl)
theorem dX13_digit_7 : decode cX13_digit 7 = .ok (.istore_n 1, 1) := dk_60 (dk_at dksX13_digit_0 7 rfl rfl)
theorem dX13_digit_8 : decode cX13_digit 8 = .ok (.iload_n 1, 1) := dk_27 (dk_at dksX13_digit_0 8 rfl rfl)
theorem dX13_digit_9 : decode cX13_digit 9 = .ok (.iconst 0, 1) := dk_3 (dk_at dksX13_digit_0 9 rfl rfl)
theorem dX13_digit_10 : decode cX13_digit 10 = .ok (.bipush 9, 2) := dk_16 9 (dk_at dksX13_digit_0 10 rfl rfl)
theorem dX13_digit_12 : decode cX13_digit 12 = .ok (.invokestatic 48, 3) := dk_184 0 48 (dk_at dksX13_digit_0 12 rfl rfl)
theorem dX13_digit_15 : decode cX13_digit 15 = .ok (.ifCond .ne 16, 3) := dk_154 0 16 (dk_at dksX13_digit_0 15 rfl rfl)
theorem dX13_digit_18 : decode cX13_digit 18 = .ok (.new 43, 3) := dk_187 0 43 (dk_at dksX13_digit_0 18 rfl rfl)
theorem dX13_digit_21 : decode cX13_digit 21 = .ok (.dup, 1) := dk_89 (dk_at dksX13_digit_0 21 rfl rfl)
theorem dX13_digit_22 : decode cX13_digit 22 = .ok (.iconst 1, 1) := dk_4 (dk_at dksX13_digit_0 22 rfl rfl)
theorem dX13_digit_23 : decode cX13_digit 23 = .ok (.aload_n 0, 1) := dk_42 (dk_at dksX13_digit_0 23 rfl rfl)
theorem dX13_digit_24 : decode cX13_digit 24 = .ok (.getfield 31, 3) := dk_180 0 31 (dk_at dksX13_digit_1 0 rfl rfl)
theorem dX13_digit_27 : decode cX13_digit 27 = .ok (.invokespecial 45, 3) := dk_183 0 45 (dk_at dksX13_digit_1 3 rfl rfl)
theorem dX13_digit_30 : decode cX13_digit 30 = .ok (.athrow, 1) := dk_191 (dk_at dksX13_digit_1 6 rfl rfl)
theorem dX13_digit_31 : decode cX13_digit 31 = .ok (.aload_n 0, 1) := dk_42 (dk_at dksX13_digit_1 7 rfl rfl)
theorem dX13_digit_32 : decode cX13_digit 32 = .ok (.dup, 1) := dk_89 (dk_at dksX13_digit_1 8 rfl rfl)
theorem dX13_digit_33 : decode cX13_digit 33 = .ok (.getfield 31, 3) := dk_180 0 31 (dk_at dksX13_digit_1 9 rfl rfl)
theorem dX13_digit_36 : decode cX13_digit 36 = .ok (.iconst 1, 1) := dk_4 (dk_at dksX13_digit_1 12 rfl rfl)
theorem dX13_digit_37 : decode cX13_digit 37 = .ok (.iadd, 1) := dk_96 (dk_at dksX13_digit_1 13 rfl rfl)
theorem dX13_digit_38 : decode cX13_digit 38 = .ok (.putfield 31, 3) := dk_181 0 31 (dk_at dksX13_digit_1 14 rfl rfl)
theorem dX13_digit_41 : decode cX13_digit 41 = .ok (.iload_n 1, 1) := dk_27 (dk_at dksX13_digit_1 17 rfl rfl)
theorem dX13_digit_42 : decode cX13_digit 42 = .ok (.ireturn, 1) := dk_172 (dk_at dksX13_digit_1 18 rfl rfl)
abbrev cX13_wants : ByteArray := prog_11_method_4_code
def yX13_wants : MethodName := ⟨RX13, "wants", "(I)V"⟩
def dkwX13_wants_0 : List UInt8 := [42, 27, 182, 0, 39, 154, 0, 16, 187, 0, 43, 89, 4, 42, 180, 0, 31, 183, 0, 45, 191, 177]
abbrev dktX13_wants_0 : List UInt8 := dkwX13_wants_0 ++ []
theorem dksX13_wants_0 : cX13_wants.data.toList.drop 0 = dktX13_wants_0 := by decide +kernel
theorem dX13_wants_0 : decode cX13_wants 0 = .ok (.aload_n 0, 1) := dk_42 (dk_at dksX13_wants_0 0 rfl rfl)
theorem dX13_wants_1 : decode cX13_wants 1 = .ok (.iload_n 1, 1) := dk_27 (dk_at dksX13_wants_0 1 rfl rfl)
theorem dX13_wants_2 : decode cX13_wants 2 = .ok (.invokevirtual 39, 3) := dk_182 0 39 (dk_at dksX13_wants_0 2 rfl rfl)
theorem dX13_wants_5 : decode cX13_wants 5 = .ok (.ifCond .ne 16, 3) := dk_154 0 16 (dk_at dksX13_wants_0 5 rfl rfl)
theorem dX13_wants_8 : decode cX13_wants 8 = .ok (.new 43, 3) := dk_187 0 43 (dk_at dksX13_wants_0 8 rfl rfl)
theorem dX13_wants_11 : decode cX13_wants 11 = .ok (.dup, 1) := dk_89 (dk_at dksX13_wants_0 11 rfl rfl)
theorem dX13_wants_12 : decode cX13_wants 12 = .ok (.iconst 1, 1) := dk_4 (dk_at dksX13_wants_0 12 rfl rfl)
theorem dX13_wants_13 : decode cX13_wants 13 = .ok (.aload_n 0, 1) := dk_42 (dk_at dksX13_wants_0 13 rfl rfl)
theorem dX13_wants_14 : decode cX13_wants 14 = .ok (.getfield 31, 3) := dk_180 0 31 (dk_at dksX13_wants_0 14 rfl rfl)
theorem dX13_wants_17 : decode cX13_wants 17 = .ok (.invokespecial 45, 3) := dk_183 0 45 (dk_at dksX13_wants_0 17 rfl rfl)
theorem dX13_wants_20 : decode cX13_wants 20 = .ok (.athrow, 1) := dk_191 (dk_at dksX13_wants_0 20 rfl rfl)
theorem dX13_wants_21 : decode cX13_wants 21 = .ok (.return_, 1) := dk_177 (dk_at dksX13_wants_0 21 rfl rfl)
abbrev cX13_takes : ByteArray := prog_11_method_3_code
def yX13_takes : MethodName := ⟨RX13, "takes", "(I)Z"⟩
def dkwX13_takes_0 : List UInt8 := [42, 182, 0, 35, 27, 159, 0, 5, 3, 172, 42, 89, 180, 0, 31, 4, 96, 181, 0, 31, 4, 172]
abbrev dktX13_takes_0 : List UInt8 := dkwX13_takes_0 ++ []
theorem dksX13_takes_0 : cX13_takes.data.toList.drop 0 = dktX13_takes_0 := by decide +kernel
theorem dX13_takes_0 : decode cX13_takes 0 = .ok (.aload_n 0, 1) := dk_42 (dk_at dksX13_takes_0 0 rfl rfl)
theorem dX13_takes_1 : decode cX13_takes 1 = .ok (.invokevirtual 35, 3) := dk_182 0 35 (dk_at dksX13_takes_0 1 rfl rfl)
theorem dX13_takes_4 : decode cX13_takes 4 = .ok (.iload_n 1, 1) := dk_27 (dk_at dksX13_takes_0 4 rfl rfl)
theorem dX13_takes_5 : decode cX13_takes 5 = .ok (.if_icmp .eq 5, 3) := dk_159 0 5 (dk_at dksX13_takes_0 5 rfl rfl)
theorem dX13_takes_8 : decode cX13_takes 8 = .ok (.iconst 0, 1) := dk_3 (dk_at dksX13_takes_0 8 rfl rfl)
theorem dX13_takes_9 : decode cX13_takes 9 = .ok (.ireturn, 1) := dk_172 (dk_at dksX13_takes_0 9 rfl rfl)
theorem dX13_takes_10 : decode cX13_takes 10 = .ok (.aload_n 0, 1) := dk_42 (dk_at dksX13_takes_0 10 rfl rfl)
theorem dX13_takes_11 : decode cX13_takes 11 = .ok (.dup, 1) := dk_89 (dk_at dksX13_takes_0 11 rfl rfl)
theorem dX13_takes_12 : decode cX13_takes 12 = .ok (.getfield 31, 3) := dk_180 0 31 (dk_at dksX13_takes_0 12 rfl rfl)
theorem dX13_takes_15 : decode cX13_takes 15 = .ok (.iconst 1, 1) := dk_4 (dk_at dksX13_takes_0 15 rfl rfl)
theorem dX13_takes_16 : decode cX13_takes 16 = .ok (.iadd, 1) := dk_96 (dk_at dksX13_takes_0 16 rfl rfl)
theorem dX13_takes_17 : decode cX13_takes 17 = .ok (.putfield 31, 3) := dk_181 0 31 (dk_at dksX13_takes_0 17 rfl rfl)
theorem dX13_takes_20 : decode cX13_takes 20 = .ok (.iconst 1, 1) := dk_4 (dk_at dksX13_takes_0 20 rfl rfl)
theorem dX13_takes_21 : decode cX13_takes 21 = .ok (.ireturn, 1) := dk_172 (dk_at dksX13_takes_0 21 rfl rfl)
abbrev cX13_number : ByteArray := prog_11_method_6_code
def yX13_number : MethodName := ⟨RX13, "number", "()I"⟩
def dkwX13_number_1 : List UInt8 := [184, 0, 48, 153, 0, 19, 16, 10, 27, 104, 42, 182, 0, 52, 96, 60, 132, 2, 1, 167, 255, 220, 27, 172]
abbrev dktX13_number_1 : List UInt8 := dkwX13_number_1 ++ []
def dkwX13_number_0 : List UInt8 := [42, 182, 0, 52, 60, 4, 61, 28, 6, 162, 0, 37, 27, 158, 0, 33, 42, 182, 0, 35, 16, 48, 16, 57]
abbrev dktX13_number_0 : List UInt8 := dkwX13_number_0 ++ dktX13_number_1
theorem dksX13_number_0 : cX13_number.data.toList.drop 0 = dktX13_number_0 := by decide +kernel
theorem dksX13_number_1 : cX13_number.data.toList.drop 24 = dktX13_number_1 := dk_seg dksX13_number_0 24 rfl rfl
theorem dX13_number_0 : decode cX13_number 0 = .ok (.aload_n 0, 1) := dk_42 (dk_at dksX13_number_0 0 rfl rfl)
theorem dX13_number_1 : decode cX13_number 1 = .ok (.invokevirtual 52, 3) := dk_182 0 52 (dk_at dksX13_number_0 1 rfl rfl)
theorem dX13_number_4 : decode cX13_number 4 = .ok (.istore_n 1, 1) := dk_60 (dk_at dksX13_number_0 4 rfl rfl)
theorem dX13_number_5 : decode cX13_number 5 = .ok (.iconst 1, 1) := dk_4 (dk_at dksX13_number_0 5 rfl rfl)
theorem dX13_number_6 : decode cX13_number 6 = .ok (.istore_n 2, 1) := dk_61 (dk_at dksX13_number_0 6 rfl rfl)
theorem dX13_number_7 : decode cX13_number 7 = .ok (.iload_n 2, 1) := dk_28 (dk_at dksX13_number_0 7 rfl rfl)
theorem dX13_number_8 : decode cX13_number 8 = .ok (.iconst 3, 1) := dk_6 (dk_at dksX13_number_0 8 rfl rfl)
theorem dX13_number_9 : decode cX13_number 9 = .ok (.if_icmp .ge 37, 3) := dk_162 0 37 (dk_at dksX13_number_0 9 rfl rfl)
theorem dX13_number_12 : decode cX13_number 12 = .ok (.iload_n 1, 1) := dk_27 (dk_at dksX13_number_0 12 rfl rfl)
theorem dX13_number_13 : decode cX13_number 13 = .ok (.ifCond .le 33, 3) := dk_158 0 33 (dk_at dksX13_number_0 13 rfl rfl)
theorem dX13_number_16 : decode cX13_number 16 = .ok (.aload_n 0, 1) := dk_42 (dk_at dksX13_number_0 16 rfl rfl)
theorem dX13_number_17 : decode cX13_number 17 = .ok (.invokevirtual 35, 3) := dk_182 0 35 (dk_at dksX13_number_0 17 rfl rfl)
theorem dX13_number_20 : decode cX13_number 20 = .ok (.bipush 48, 2) := dk_16 48 (dk_at dksX13_number_0 20 rfl rfl)
theorem dX13_number_22 : decode cX13_number 22 = .ok (.bipush 57, 2) := dk_16 57 (dk_at dksX13_number_0 22 rfl rfl)
theorem dX13_number_24 : decode cX13_number 24 = .ok (.invokestatic 48, 3) := dk_184 0 48 (dk_at dksX13_number_1 0 rfl rfl)
theorem dX13_number_27 : decode cX13_number 27 = .ok (.ifCond .eq 19, 3) := dk_153 0 19 (dk_at dksX13_number_1 3 rfl rfl)
theorem dX13_number_30 : decode cX13_number 30 = .ok (.bipush 10, 2) := dk_16 10 (dk_at dksX13_number_1 6 rfl rfl)
theorem dX13_number_32 : decode cX13_number 32 = .ok (.iload_n 1, 1) := dk_27 (dk_at dksX13_number_1 8 rfl rfl)
theorem dX13_number_33 : decode cX13_number 33 = .ok (.imul, 1) := dk_104 (dk_at dksX13_number_1 9 rfl rfl)
theorem dX13_number_34 : decode cX13_number 34 = .ok (.aload_n 0, 1) := dk_42 (dk_at dksX13_number_1 10 rfl rfl)
theorem dX13_number_35 : decode cX13_number 35 = .ok (.invokevirtual 52, 3) := dk_182 0 52 (dk_at dksX13_number_1 11 rfl rfl)
theorem dX13_number_38 : decode cX13_number 38 = .ok (.iadd, 1) := dk_96 (dk_at dksX13_number_1 14 rfl rfl)
theorem dX13_number_39 : decode cX13_number 39 = .ok (.istore_n 1, 1) := dk_60 (dk_at dksX13_number_1 15 rfl rfl)
theorem dX13_number_40 : decode cX13_number 40 = .ok (.iinc 2 1, 3) := dk_132 2 1 (dk_at dksX13_number_1 16 rfl rfl)
theorem dX13_number_43 : decode cX13_number 43 = .ok (.goto (-36), 3) := dk_167 255 220 (dk_at dksX13_number_1 19 rfl rfl)
theorem dX13_number_46 : decode cX13_number 46 = .ok (.iload_n 1, 1) := dk_27 (dk_at dksX13_number_1 22 rfl rfl)
theorem dX13_number_47 : decode cX13_number 47 = .ok (.ireturn, 1) := dk_172 (dk_at dksX13_number_1 23 rfl rfl)
theorem q89 : (Jvm.Cond.initialized "DownRope$Reader") ∈ lw_all := lw_g (lw_at lw_m1 14 rfl) rfl
theorem q139 : (Jvm.Cond.instantiable "DownRope$Reader" (7 : Nat)) ∈ lw_all := lw_g (lw_at lw_m1 64 rfl) rfl
theorem q141 : (Jvm.Cond.instanceMethod ({ cls := "DownRope$Reader", name := "<init>", desc := "([B)V" } : Jvm.MethodName)) ∈ lw_all := lw_g (lw_at lw_m1 66 rfl) rfl
theorem q142 : (Jvm.Cond.code ({ cls := "DownRope$Reader", name := "<init>", desc := "([B)V" } : Jvm.MethodName) prog_11_method_1_code (2 : Nat) (Option.none : Option Jvm.ClassFile.FieldType)) ∈ lw_all := lw_g (lw_at lw_m1 67 rfl) rfl
theorem q143 : (Jvm.Cond.methodLink "DownRope$Reader" (3 : Nat) ({ cls := "java/lang/Object", name := "<init>", desc := "()V" } : Jvm.MethodName)) ∈ lw_all := lw_g (lw_at lw_m1 68 rfl) rfl
theorem q146 : (Jvm.Cond.classLink "DownRope$Reader" (18 : Nat) "[[I") ∈ lw_all := lw_g (lw_at lw_m1 71 rfl) rfl
theorem q148 : (Jvm.Cond.fieldLink "DownRope$Reader" (27 : Nat) "DownRope$Reader" "text" "[B") ∈ lw_all := lw_g (lw_at lw_m1 73 rfl) rfl
theorem q149 : (Jvm.Cond.fieldLink "DownRope$Reader" (31 : Nat) "DownRope$Reader" "at" "I") ∈ lw_all := lw_g (lw_at lw_m1 74 rfl) rfl
theorem q150 : (Jvm.Cond.fieldLink "DownRope$Reader" (9 : Nat) "DownRope$Reader" "letter" "[I") ∈ lw_all := lw_g (lw_at lw_m1 75 rfl) rfl
theorem q152 : (Jvm.Cond.fieldLink "DownRope$Reader" (15 : Nat) "DownRope$Reader" "place" "[I") ∈ lw_all := lw_g (lw_at lw_m1 77 rfl) rfl
theorem q154 : (Jvm.Cond.fieldLink "DownRope$Reader" (20 : Nat) "DownRope$Reader" "told" "[[I") ∈ lw_all := lw_g (lw_at lw_m1 79 rfl) rfl
theorem q156 : (Jvm.Cond.fieldLink "DownRope$Reader" (23 : Nat) "DownRope$Reader" "isSigned" "[Z") ∈ lw_all := lw_g (lw_at lw_m1 81 rfl) rfl
theorem q158 : (Jvm.Cond.fieldLink "DownRope$Reader" (55 : Nat) "DownRope$Reader" "statements" "I") ∈ lw_all := lw_g (lw_at lw_m1 83 rfl) rfl
theorem q160 : (Jvm.Cond.laysFinal "DownRope$Reader" "DownRope$Reader" "text" "[B") ∈ lw_all := lw_g (lw_at lw_m1 85 rfl) rfl
theorem q161 : (Jvm.Cond.soleField "DownRope$Reader" "text") ∈ lw_all := lw_g (lw_at lw_m1 86 rfl) rfl
theorem q162 : (Jvm.Cond.lays "DownRope$Reader" "DownRope$Reader" "at" "I") ∈ lw_all := lw_g (lw_at lw_m1 87 rfl) rfl
theorem q163 : (Jvm.Cond.soleField "DownRope$Reader" "at") ∈ lw_all := lw_g (lw_at lw_m1 88 rfl) rfl
theorem q164 : (Jvm.Cond.laysFinal "DownRope$Reader" "DownRope$Reader" "letter" "[I") ∈ lw_all := lw_g (lw_at lw_m1 89 rfl) rfl
theorem q165 : (Jvm.Cond.soleField "DownRope$Reader" "letter") ∈ lw_all := lw_g (lw_at lw_m1 90 rfl) rfl
theorem q166 : (Jvm.Cond.laysFinal "DownRope$Reader" "DownRope$Reader" "place" "[I") ∈ lw_all := lw_g (lw_at lw_m1 91 rfl) rfl
theorem q167 : (Jvm.Cond.soleField "DownRope$Reader" "place") ∈ lw_all := lw_g (lw_at lw_m1 92 rfl) rfl
theorem q168 : (Jvm.Cond.laysFinal "DownRope$Reader" "DownRope$Reader" "told" "[[I") ∈ lw_all := lw_g (lw_at lw_m1 93 rfl) rfl
theorem q169 : (Jvm.Cond.soleField "DownRope$Reader" "told") ∈ lw_all := lw_g (lw_at lw_m1 94 rfl) rfl
theorem q170 : (Jvm.Cond.laysFinal "DownRope$Reader" "DownRope$Reader" "isSigned" "[Z") ∈ lw_all := lw_g (lw_at lw_m1 95 rfl) rfl
theorem q171 : (Jvm.Cond.soleField "DownRope$Reader" "isSigned") ∈ lw_all := lw_g (lw_at lw_m1 96 rfl) rfl
theorem q172 : (Jvm.Cond.lays "DownRope$Reader" "DownRope$Reader" "statements" "I") ∈ lw_all := lw_g (lw_at lw_m1 97 rfl) rfl
theorem q173 : (Jvm.Cond.soleField "DownRope$Reader" "statements") ∈ lw_all := lw_g (lw_at lw_m1 98 rfl) rfl
theorem q174 : (Jvm.Cond.superclass "DownRope$Reader" "java/lang/Object") ∈ lw_all := lw_g (lw_at lw_m1 99 rfl) rfl
theorem q178 : (Jvm.Cond.instanceMethod ({ cls := "DownRope$Reader", name := "reads", desc := "()V" } : Jvm.MethodName)) ∈ lw_all := lw_g (lw_at lw_m1 103 rfl) rfl
theorem q179 : (Jvm.Cond.selects "DownRope$Reader" ({ cls := "DownRope$Reader", name := "reads", desc := "()V" } : Jvm.MethodName) ({ cls := "DownRope$Reader", name := "reads", desc := "()V" } : Jvm.MethodName)) ∈ lw_all := lw_g (lw_at lw_m1 104 rfl) rfl
theorem q180 : (Jvm.Cond.code ({ cls := "DownRope$Reader", name := "reads", desc := "()V" } : Jvm.MethodName) prog_11_method_8_code (1 : Nat) (Option.none : Option Jvm.ClassFile.FieldType)) ∈ lw_all := lw_g (lw_at lw_m1 105 rfl) rfl
theorem q181 : (Jvm.Cond.methodLink "DownRope$Reader" (65 : Nat) ({ cls := "DownRope$Reader", name := "statement", desc := "()V" } : Jvm.MethodName)) ∈ lw_all := lw_g (lw_at lw_m1 106 rfl) rfl
theorem q182 : (Jvm.Cond.privateMethod ({ cls := "DownRope$Reader", name := "statement", desc := "()V" } : Jvm.MethodName)) ∈ lw_tbl := lw_at lw_m1 107 rfl
theorem q183 : (Jvm.Cond.instanceMethod ({ cls := "DownRope$Reader", name := "statement", desc := "()V" } : Jvm.MethodName)) ∈ lw_all := lw_g (lw_at lw_m1 108 rfl) rfl
theorem q184 : (Jvm.Cond.code ({ cls := "DownRope$Reader", name := "statement", desc := "()V" } : Jvm.MethodName) prog_11_method_7_code (3 : Nat) (Option.none : Option Jvm.ClassFile.FieldType)) ∈ lw_all := lw_g (lw_at lw_m1 109 rfl) rfl
theorem q185 : (Jvm.Cond.methodLink "DownRope$Reader" (35 : Nat) ({ cls := "DownRope$Reader", name := "sign", desc := "()I" } : Jvm.MethodName)) ∈ lw_all := lw_g (lw_at lw_m1 110 rfl) rfl
theorem q186 : (Jvm.Cond.privateMethod ({ cls := "DownRope$Reader", name := "sign", desc := "()I" } : Jvm.MethodName)) ∈ lw_tbl := lw_at lw_m1 111 rfl
theorem q187 : (Jvm.Cond.instanceMethod ({ cls := "DownRope$Reader", name := "sign", desc := "()I" } : Jvm.MethodName)) ∈ lw_all := lw_g (lw_at lw_m1 112 rfl) rfl
theorem q188 : (Jvm.Cond.code ({ cls := "DownRope$Reader", name := "sign", desc := "()I" } : Jvm.MethodName) prog_11_method_2_code (1 : Nat) (Option.some Jvm.ClassFile.FieldType.int)) ∈ lw_all := lw_g (lw_at lw_m1 113 rfl) rfl
theorem q189 : (Jvm.Cond.methodLink "DownRope$Reader" (52 : Nat) ({ cls := "DownRope$Reader", name := "digit", desc := "()I" } : Jvm.MethodName)) ∈ lw_all := lw_g (lw_at lw_m1 114 rfl) rfl
theorem q190 : (Jvm.Cond.privateMethod ({ cls := "DownRope$Reader", name := "digit", desc := "()I" } : Jvm.MethodName)) ∈ lw_tbl := lw_at lw_m1 115 rfl
theorem q191 : (Jvm.Cond.instanceMethod ({ cls := "DownRope$Reader", name := "digit", desc := "()I" } : Jvm.MethodName)) ∈ lw_all := lw_g (lw_at lw_m1 116 rfl) rfl
theorem q192 : (Jvm.Cond.code ({ cls := "DownRope$Reader", name := "digit", desc := "()I" } : Jvm.MethodName) prog_11_method_5_code (2 : Nat) (Option.some Jvm.ClassFile.FieldType.int)) ∈ lw_all := lw_g (lw_at lw_m1 117 rfl) rfl
theorem q193 : (Jvm.Cond.methodLinkNest "DownRope$Reader" (48 : Nat) ({ cls := "DownRope", name := "isIn", desc := "(III)Z" } : Jvm.MethodName) "DownRope") ∈ lw_tbl := lw_at lw_m1 118 rfl
theorem q194 : (Jvm.Cond.classLink "DownRope$Reader" (43 : Nat) "DownRope$Broken") ∈ lw_all := lw_g (lw_at lw_m1 119 rfl) rfl
theorem q253 : (Jvm.Cond.methodLink "DownRope$Reader" (45 : Nat) ({ cls := "DownRope$Broken", name := "<init>", desc := "(II)V" } : Jvm.MethodName)) ∈ lw_all := lw_g (lw_at lw_m1 178 rfl) rfl
theorem q284 : (Jvm.Cond.methodLink "DownRope$Reader" (58 : Nat) ({ cls := "DownRope$Reader", name := "wants", desc := "(I)V" } : Jvm.MethodName)) ∈ lw_all := lw_g (lw_at lw_m1 209 rfl) rfl
theorem q285 : (Jvm.Cond.privateMethod ({ cls := "DownRope$Reader", name := "wants", desc := "(I)V" } : Jvm.MethodName)) ∈ lw_tbl := lw_at lw_m1 210 rfl
theorem q286 : (Jvm.Cond.instanceMethod ({ cls := "DownRope$Reader", name := "wants", desc := "(I)V" } : Jvm.MethodName)) ∈ lw_all := lw_g (lw_at lw_m1 211 rfl) rfl
theorem q287 : (Jvm.Cond.code ({ cls := "DownRope$Reader", name := "wants", desc := "(I)V" } : Jvm.MethodName) prog_11_method_4_code (2 : Nat) (Option.none : Option Jvm.ClassFile.FieldType)) ∈ lw_all := lw_g (lw_at lw_m1 212 rfl) rfl
theorem q288 : (Jvm.Cond.methodLink "DownRope$Reader" (39 : Nat) ({ cls := "DownRope$Reader", name := "takes", desc := "(I)Z" } : Jvm.MethodName)) ∈ lw_all := lw_g (lw_at lw_m1 213 rfl) rfl
theorem q289 : (Jvm.Cond.privateMethod ({ cls := "DownRope$Reader", name := "takes", desc := "(I)Z" } : Jvm.MethodName)) ∈ lw_tbl := lw_at lw_m1 214 rfl
theorem q290 : (Jvm.Cond.instanceMethod ({ cls := "DownRope$Reader", name := "takes", desc := "(I)Z" } : Jvm.MethodName)) ∈ lw_all := lw_g (lw_at lw_m1 215 rfl) rfl
theorem q291 : (Jvm.Cond.code ({ cls := "DownRope$Reader", name := "takes", desc := "(I)Z" } : Jvm.MethodName) prog_11_method_3_code (2 : Nat) (Option.some Jvm.ClassFile.FieldType.boolean)) ∈ lw_all := lw_g (lw_at lw_m1 216 rfl) rfl
theorem q292 : (Jvm.Cond.methodLink "DownRope$Reader" (62 : Nat) ({ cls := "DownRope$Reader", name := "number", desc := "()I" } : Jvm.MethodName)) ∈ lw_all := lw_g (lw_at lw_m1 217 rfl) rfl
theorem q293 : (Jvm.Cond.privateMethod ({ cls := "DownRope$Reader", name := "number", desc := "()I" } : Jvm.MethodName)) ∈ lw_tbl := lw_at lw_m1 218 rfl
theorem q294 : (Jvm.Cond.instanceMethod ({ cls := "DownRope$Reader", name := "number", desc := "()I" } : Jvm.MethodName)) ∈ lw_all := lw_g (lw_at lw_m1 219 rfl) rfl
theorem q295 : (Jvm.Cond.code ({ cls := "DownRope$Reader", name := "number", desc := "()I" } : Jvm.MethodName) prog_11_method_6_code (3 : Nat) (Option.some Jvm.ClassFile.FieldType.int)) ∈ lw_all := lw_g (lw_at lw_m1 220 rfl) rfl
theorem in_X13 : ∀ w ∈ wsX130, w ∈ lw_all := lw_in wsX130 [160, 162, 164, 166, 168, 170, 172] (by decide +kernel) (by decide +kernel)
/-! DownRope$Broken -/
set_option maxRecDepth 100000
def RX14 : String := "DownRope$Broken"
def TX14 : u_T := fun k => match k with
  | 0 => ("java/lang/Throwable", "cause", "Ljava/lang/Throwable;", false)
  | 1 => ("java/lang/Throwable", "stackTrace", "[Ljava/lang/StackTraceElement;", false)
  | 2 => ("java/lang/Throwable", "suppressedExceptions", "Ljava/util/List;", false)
  | 3 => ("java/lang/Throwable", "detailMessage", "Ljava/lang/String;", false)
  | 4 => ("java/lang/Throwable", "backtrace", "Ljava/lang/Object;", false)
  | 5 => ("java/lang/Throwable", "depth", "I", false)
  | 6 => ("DownRope$Broken", "kind", "I", true)
  | _ => ("DownRope$Broken", "place", "I", true)
def tyX14 : Nat → FieldType := fun k => match k with
  | 0 => .object "java/lang/Throwable"
  | 1 => .array (.object "java/lang/StackTraceElement")
  | 2 => .object "java/util/List"
  | 3 => .object "java/lang/String"
  | 4 => .object "java/lang/Object"
  | 5 => .int
  | 6 => .int
  | _ => .int
abbrev wsX140 : List Cond := u_ws RX14 TX14 8
theorem nmX14 : ∀ a, a < 8 → ∀ b, b < 8 → a ≠ b → (TX14 a).2.1 ≠ (TX14 b).2.1 := by decide +kernel
theorem tyX14_ok : ∀ k, k < 8 → parseFieldDescriptor (TX14 k).2.2.1 = some (tyX14 k) := by decide +kernel
abbrev cX14_init : ByteArray := prog_2_method_1_code
def yX14_init : MethodName := ⟨RX14, "<init>", "(II)V"⟩
def dkwX14_init_0 : List UInt8 := [42, 183, 0, 1, 42, 27, 181, 0, 7, 42, 28, 181, 0, 13, 177]
abbrev dktX14_init_0 : List UInt8 := dkwX14_init_0 ++ []
theorem dksX14_init_0 : cX14_init.data.toList.drop 0 = dktX14_init_0 := by decide +kernel
theorem dX14_init_0 : decode cX14_init 0 = .ok (.aload_n 0, 1) := dk_42 (dk_at dksX14_init_0 0 rfl rfl)
theorem dX14_init_1 : decode cX14_init 1 = .ok (.invokespecial 1, 3) := dk_183 0 1 (dk_at dksX14_init_0 1 rfl rfl)
theorem dX14_init_4 : decode cX14_init 4 = .ok (.aload_n 0, 1) := dk_42 (dk_at dksX14_init_0 4 rfl rfl)
theorem dX14_init_5 : decode cX14_init 5 = .ok (.iload_n 1, 1) := dk_27 (dk_at dksX14_init_0 5 rfl rfl)
theorem dX14_init_6 : decode cX14_init 6 = .ok (.putfield 7, 3) := dk_181 0 7 (dk_at dksX14_init_0 6 rfl rfl)
theorem dX14_init_9 : decode cX14_init 9 = .ok (.aload_n 0, 1) := dk_42 (dk_at dksX14_init_0 9 rfl rfl)
theorem dX14_init_10 : decode cX14_init 10 = .ok (.iload_n 2, 1) := dk_28 (dk_at dksX14_init_0 10 rfl rfl)
theorem dX14_init_11 : decode cX14_init 11 = .ok (.putfield 13, 3) := dk_181 0 13 (dk_at dksX14_init_0 11 rfl rfl)
theorem dX14_init_14 : decode cX14_init 14 = .ok (.return_, 1) := dk_177 (dk_at dksX14_init_0 14 rfl rfl)
theorem q93 : (Jvm.Cond.initialized "DownRope$Broken") ∈ lw_all := lw_g (lw_at lw_m1 18 rfl) rfl
theorem q195 : (Jvm.Cond.instantiable "DownRope$Broken" (8 : Nat)) ∈ lw_all := lw_g (lw_at lw_m1 120 rfl) rfl
theorem q196 : (Jvm.Cond.castable "DownRope$Broken" "DownRope$Broken") ∈ lw_tbl := lw_at lw_m1 121 rfl
theorem q203 : (Jvm.Cond.selects "DownRope$Broken" ({ cls := "java/lang/Throwable", name := "fillInStackTrace", desc := "(I)Ljava/lang/Throwable;" } : Jvm.MethodName) ({ cls := "java/lang/Throwable", name := "fillInStackTrace", desc := "(I)Ljava/lang/Throwable;" } : Jvm.MethodName)) ∈ lw_all := lw_g (lw_at lw_m1 128 rfl) rfl
theorem q204 : (Jvm.Cond.selects "DownRope$Broken" ({ cls := "java/lang/Throwable", name := "fillInStackTrace", desc := "()Ljava/lang/Throwable;" } : Jvm.MethodName) ({ cls := "java/lang/Throwable", name := "fillInStackTrace", desc := "()Ljava/lang/Throwable;" } : Jvm.MethodName)) ∈ lw_all := lw_g (lw_at lw_m1 129 rfl) rfl
theorem q205 : (Jvm.Cond.lays "DownRope$Broken" "java/lang/Throwable" "cause" "Ljava/lang/Throwable;") ∈ lw_all := lw_g (lw_at lw_m1 130 rfl) rfl
theorem q207 : (Jvm.Cond.lays "DownRope$Broken" "java/lang/Throwable" "stackTrace" "[Ljava/lang/StackTraceElement;") ∈ lw_all := lw_g (lw_at lw_m1 132 rfl) rfl
theorem q209 : (Jvm.Cond.lays "DownRope$Broken" "java/lang/Throwable" "suppressedExceptions" "Ljava/util/List;") ∈ lw_all := lw_g (lw_at lw_m1 134 rfl) rfl
theorem q211 : (Jvm.Cond.lays "DownRope$Broken" "java/lang/Throwable" "detailMessage" "Ljava/lang/String;") ∈ lw_all := lw_g (lw_at lw_m1 136 rfl) rfl
theorem q213 : (Jvm.Cond.lays "DownRope$Broken" "java/lang/Throwable" "backtrace" "Ljava/lang/Object;") ∈ lw_all := lw_g (lw_at lw_m1 138 rfl) rfl
theorem q254 : (Jvm.Cond.instanceMethod ({ cls := "DownRope$Broken", name := "<init>", desc := "(II)V" } : Jvm.MethodName)) ∈ lw_all := lw_g (lw_at lw_m1 179 rfl) rfl
theorem q255 : (Jvm.Cond.code ({ cls := "DownRope$Broken", name := "<init>", desc := "(II)V" } : Jvm.MethodName) prog_2_method_1_code (3 : Nat) (Option.none : Option Jvm.ClassFile.FieldType)) ∈ lw_all := lw_g (lw_at lw_m1 180 rfl) rfl
theorem q256 : (Jvm.Cond.methodLink "DownRope$Broken" (1 : Nat) ({ cls := "java/lang/RuntimeException", name := "<init>", desc := "()V" } : Jvm.MethodName)) ∈ lw_all := lw_g (lw_at lw_m1 181 rfl) rfl
theorem q263 : (Jvm.Cond.fieldLink "DownRope$Broken" (7 : Nat) "DownRope$Broken" "kind" "I") ∈ lw_all := lw_g (lw_at lw_m1 188 rfl) rfl
theorem q265 : (Jvm.Cond.fieldLink "DownRope$Broken" (13 : Nat) "DownRope$Broken" "place" "I") ∈ lw_all := lw_g (lw_at lw_m1 190 rfl) rfl
theorem q272 : (Jvm.Cond.laysFinal "DownRope$Broken" "DownRope$Broken" "kind" "I") ∈ lw_all := lw_g (lw_at lw_m1 197 rfl) rfl
theorem q273 : (Jvm.Cond.soleField "DownRope$Broken" "kind") ∈ lw_all := lw_g (lw_at lw_m1 198 rfl) rfl
theorem q274 : (Jvm.Cond.laysFinal "DownRope$Broken" "DownRope$Broken" "place" "I") ∈ lw_all := lw_g (lw_at lw_m1 199 rfl) rfl
theorem q275 : (Jvm.Cond.soleField "DownRope$Broken" "place") ∈ lw_all := lw_g (lw_at lw_m1 200 rfl) rfl
theorem q280 : (Jvm.Cond.lays "DownRope$Broken" "java/lang/Throwable" "depth" "I") ∈ lw_all := lw_g (lw_at lw_m1 205 rfl) rfl
theorem q283 : (Jvm.Cond.superclass "DownRope$Broken" "java/lang/RuntimeException") ∈ lw_all := lw_g (lw_at lw_m1 208 rfl) rfl
theorem in_X14 : ∀ w ∈ wsX140, w ∈ lw_all := lw_in wsX140 [205, 207, 209, 211, 213, 280, 272, 274] (by decide +kernel) (by decide +kernel)
/-! DownRope$Tossed -/
set_option maxRecDepth 100000
def RX15 : String := "DownRope$Tossed"
def TX15 : u_T := fun k => match k with
  | 0 => ("java/lang/Throwable", "cause", "Ljava/lang/Throwable;", false)
  | 1 => ("java/lang/Throwable", "stackTrace", "[Ljava/lang/StackTraceElement;", false)
  | 2 => ("java/lang/Throwable", "suppressedExceptions", "Ljava/util/List;", false)
  | 3 => ("java/lang/Throwable", "detailMessage", "Ljava/lang/String;", false)
  | 4 => ("java/lang/Throwable", "backtrace", "Ljava/lang/Object;", false)
  | 5 => ("java/lang/Throwable", "depth", "I", false)
  | _ => ("DownRope$Tossed", "n", "I", true)
def tyX15 : Nat → FieldType := fun k => match k with
  | 0 => .object "java/lang/Throwable"
  | 1 => .array (.object "java/lang/StackTraceElement")
  | 2 => .object "java/util/List"
  | 3 => .object "java/lang/String"
  | 4 => .object "java/lang/Object"
  | 5 => .int
  | _ => .int
abbrev wsX150 : List Cond := u_ws RX15 TX15 7
theorem nmX15 : ∀ a, a < 7 → ∀ b, b < 7 → a ≠ b → (TX15 a).2.1 ≠ (TX15 b).2.1 := by decide +kernel
theorem tyX15_ok : ∀ k, k < 7 → parseFieldDescriptor (TX15 k).2.2.1 = some (tyX15 k) := by decide +kernel
abbrev cX15_init : ByteArray := prog_17_method_1_code
def yX15_init : MethodName := ⟨RX15, "<init>", "(I)V"⟩
def dkwX15_init_0 : List UInt8 := [42, 183, 0, 1, 42, 27, 181, 0, 7, 177]
abbrev dktX15_init_0 : List UInt8 := dkwX15_init_0 ++ []
theorem dksX15_init_0 : cX15_init.data.toList.drop 0 = dktX15_init_0 := by decide +kernel
theorem dX15_init_0 : decode cX15_init 0 = .ok (.aload_n 0, 1) := dk_42 (dk_at dksX15_init_0 0 rfl rfl)
theorem dX15_init_1 : decode cX15_init 1 = .ok (.invokespecial 1, 3) := dk_183 0 1 (dk_at dksX15_init_0 1 rfl rfl)
theorem dX15_init_4 : decode cX15_init 4 = .ok (.aload_n 0, 1) := dk_42 (dk_at dksX15_init_0 4 rfl rfl)
theorem dX15_init_5 : decode cX15_init 5 = .ok (.iload_n 1, 1) := dk_27 (dk_at dksX15_init_0 5 rfl rfl)
theorem dX15_init_6 : decode cX15_init 6 = .ok (.putfield 7, 3) := dk_181 0 7 (dk_at dksX15_init_0 6 rfl rfl)
theorem dX15_init_9 : decode cX15_init 9 = .ok (.return_, 1) := dk_177 (dk_at dksX15_init_0 9 rfl rfl)
theorem q103 : (Jvm.Cond.initialized "DownRope$Tossed") ∈ lw_all := lw_g (lw_at lw_m1 28 rfl) rfl
theorem q227 : (Jvm.Cond.selects "DownRope$Tossed" ({ cls := "java/lang/Throwable", name := "fillInStackTrace", desc := "()Ljava/lang/Throwable;" } : Jvm.MethodName) ({ cls := "java/lang/Throwable", name := "fillInStackTrace", desc := "()Ljava/lang/Throwable;" } : Jvm.MethodName)) ∈ lw_all := lw_g (lw_at lw_m1 152 rfl) rfl
theorem q1186 : (Jvm.Cond.instantiable "DownRope$Tossed" (7 : Nat)) ∈ lw_all := lw_g (lw_at lw_m5 151 rfl) rfl
theorem q1187 : (Jvm.Cond.castable "DownRope$Tossed" "DownRope$Tossed") ∈ lw_tbl := lw_at lw_m5 152 rfl
theorem q1188 : (Jvm.Cond.selects "DownRope$Tossed" ({ cls := "java/lang/Throwable", name := "fillInStackTrace", desc := "(I)Ljava/lang/Throwable;" } : Jvm.MethodName) ({ cls := "java/lang/Throwable", name := "fillInStackTrace", desc := "(I)Ljava/lang/Throwable;" } : Jvm.MethodName)) ∈ lw_all := lw_g (lw_at lw_m5 153 rfl) rfl
theorem q1189 : (Jvm.Cond.lays "DownRope$Tossed" "java/lang/Throwable" "cause" "Ljava/lang/Throwable;") ∈ lw_all := lw_g (lw_at lw_m5 154 rfl) rfl
theorem q1190 : (Jvm.Cond.lays "DownRope$Tossed" "java/lang/Throwable" "stackTrace" "[Ljava/lang/StackTraceElement;") ∈ lw_all := lw_g (lw_at lw_m5 155 rfl) rfl
theorem q1191 : (Jvm.Cond.lays "DownRope$Tossed" "java/lang/Throwable" "suppressedExceptions" "Ljava/util/List;") ∈ lw_all := lw_g (lw_at lw_m5 156 rfl) rfl
theorem q1192 : (Jvm.Cond.lays "DownRope$Tossed" "java/lang/Throwable" "detailMessage" "Ljava/lang/String;") ∈ lw_all := lw_g (lw_at lw_m5 157 rfl) rfl
theorem q1193 : (Jvm.Cond.lays "DownRope$Tossed" "java/lang/Throwable" "backtrace" "Ljava/lang/Object;") ∈ lw_all := lw_g (lw_at lw_m5 158 rfl) rfl
theorem q1196 : (Jvm.Cond.instanceMethod ({ cls := "DownRope$Tossed", name := "<init>", desc := "(I)V" } : Jvm.MethodName)) ∈ lw_all := lw_g (lw_at lw_m5 161 rfl) rfl
theorem q1197 : (Jvm.Cond.code ({ cls := "DownRope$Tossed", name := "<init>", desc := "(I)V" } : Jvm.MethodName) prog_17_method_1_code (2 : Nat) (Option.none : Option Jvm.ClassFile.FieldType)) ∈ lw_all := lw_g (lw_at lw_m5 162 rfl) rfl
theorem q1198 : (Jvm.Cond.methodLink "DownRope$Tossed" (1 : Nat) ({ cls := "java/lang/RuntimeException", name := "<init>", desc := "()V" } : Jvm.MethodName)) ∈ lw_all := lw_g (lw_at lw_m5 163 rfl) rfl
theorem q1199 : (Jvm.Cond.fieldLink "DownRope$Tossed" (7 : Nat) "DownRope$Tossed" "n" "I") ∈ lw_all := lw_g (lw_at lw_m5 164 rfl) rfl
theorem q1202 : (Jvm.Cond.laysFinal "DownRope$Tossed" "DownRope$Tossed" "n" "I") ∈ lw_all := lw_g (lw_at lw_m5 167 rfl) rfl
theorem q1203 : (Jvm.Cond.soleField "DownRope$Tossed" "n") ∈ lw_all := lw_g (lw_at lw_m5 168 rfl) rfl
theorem q1204 : (Jvm.Cond.lays "DownRope$Tossed" "java/lang/Throwable" "depth" "I") ∈ lw_all := lw_g (lw_at lw_m5 169 rfl) rfl
theorem q1205 : (Jvm.Cond.superclass "DownRope$Tossed" "java/lang/RuntimeException") ∈ lw_all := lw_g (lw_at lw_m5 170 rfl) rfl
theorem in_X15 : ∀ w ∈ wsX150, w ∈ lw_all := lw_in wsX150 [1189, 1190, 1191, 1192, 1193, 1204, 1202] (by decide +kernel) (by decide +kernel)
/-! DownRope$Tires -/
set_option maxRecDepth 100000
def RX16 : String := "DownRope$Tires"
abbrev cX16_effort : ByteArray := prog_16_method_1_code
def yX16_effort : MethodName := ⟨RX16, "effort", "(LDownRope$Face;)I"⟩
theorem dX16_effort_0 : decode cX16_effort 0 = .ok (.iconst 1, 1) := by decide +kernel
theorem dX16_effort_1 : decode cX16_effort 1 = .ok (.ireturn, 1) := by decide +kernel
theorem q1143 : (Jvm.Cond.declares ({ cls := "DownRope$Tires", name := "effort", desc := "(LDownRope$Face;)I" } : Jvm.MethodName)) ∈ lw_tbl := lw_at lw_m5 108 rfl
theorem q1147 : (Jvm.Cond.instanceMethod ({ cls := "DownRope$Tires", name := "effort", desc := "(LDownRope$Face;)I" } : Jvm.MethodName)) ∈ lw_all := lw_g (lw_at lw_m5 112 rfl) rfl
theorem q1148 : (Jvm.Cond.code ({ cls := "DownRope$Tires", name := "effort", desc := "(LDownRope$Face;)I" } : Jvm.MethodName) prog_16_method_1_code (2 : Nat) (Option.some Jvm.ClassFile.FieldType.int)) ∈ lw_all := lw_g (lw_at lw_m5 113 rfl) rfl
theorem q1166 : (Jvm.Cond.publicMethod ({ cls := "DownRope$Tires", name := "effort", desc := "(LDownRope$Face;)I" } : Jvm.MethodName)) ∈ lw_tbl := lw_at lw_m5 131 rfl
theorem q1747 : (Jvm.Cond.initialized "DownRope$Tires") ∈ lw_all := lw_g (lw_at lw_m7 232 rfl) rfl
theorem q88 : (Jvm.Cond.initialized "java/lang/System") ∈ lw_all := lw_g (lw_at lw_m1 13 rfl) rfl
set_option maxRecDepth 100000
theorem q131 : (Jvm.Cond.static ({ cls := "java/lang/System", name := "arraycopy", desc := "(Ljava/lang/Object;ILjava/lang/Object;II)V" } : Jvm.MethodName)) ∈ lw_all := lw_g (lw_at lw_m1 56 rfl) rfl
theorem q132 : (Jvm.Cond.native ({ cls := "java/lang/System", name := "arraycopy", desc := "(Ljava/lang/Object;ILjava/lang/Object;II)V" } : Jvm.MethodName)) ∈ lw_all := lw_g (lw_at lw_m1 57 rfl) rfl
theorem q147 : (Jvm.Cond.arrayOver (Jvm.ClassFile.FieldType.array Jvm.ClassFile.FieldType.int)) ∈ lw_tbl := lw_at lw_m1 72 rfl
set_option maxRecDepth 100000
theorem q175 : (Jvm.Cond.arrayClass Jvm.ClassFile.FieldType.int) ∈ lw_all := lw_g (lw_at lw_m1 100 rfl) rfl
theorem q176 : (Jvm.Cond.arrayClass Jvm.ClassFile.FieldType.boolean) ∈ lw_all := lw_g (lw_at lw_m1 101 rfl) rfl
theorem q839 : (Jvm.Cond.arrayOver (Jvm.ClassFile.FieldType.object "DownRope$Move")) ∈ lw_tbl := lw_at lw_m4 44 rfl
theorem q841 : (Jvm.Cond.arrayOver (Jvm.ClassFile.FieldType.object "DownRope$Shelf")) ∈ lw_tbl := lw_at lw_m4 46 rfl
theorem q1072 : (Jvm.Cond.arrayClass Jvm.ClassFile.FieldType.byte) ∈ lw_all := lw_g (lw_at lw_m5 37 rfl) rfl
theorem q1077 : (Jvm.Cond.arrayClass Jvm.ClassFile.FieldType.short) ∈ lw_all := lw_g (lw_at lw_m5 42 rfl) rfl
theorem q1422 : (Jvm.Cond.arrayClass Jvm.ClassFile.FieldType.long) ∈ lw_all := lw_g (lw_at lw_m6 147 rfl) rfl
