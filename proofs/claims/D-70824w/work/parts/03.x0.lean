/-! SongLamps -/
set_option maxRecDepth 100000
def RX0 : String := "SongLamps"
def TX0 : u_T := fun k => match k with
  | 0 => ("SongLamps", "mine", "LSongLamps$Mine;", true)
  | 1 => ("SongLamps", "trial", "LSongLamps$Mine;", true)
  | 2 => ("SongLamps", "images", "[LSongLamps$Mine;", true)
  | 3 => ("SongLamps", "sign", "[C", true)
  | 4 => ("SongLamps", "signMany", "I", false)
  | 5 => ("SongLamps", "act", "[I", true)
  | 6 => ("SongLamps", "who", "[I", true)
  | 7 => ("SongLamps", "what", "[I", true)
  | 8 => ("SongLamps", "actMany", "I", false)
  | 9 => ("SongLamps", "due", "I", false)
  | 10 => ("SongLamps", "badWhy", "I", false)
  | 11 => ("SongLamps", "darkAct", "I", false)
  | 12 => ("SongLamps", "darkGallery", "I", false)
  | 13 => ("SongLamps", "lasts", "[I", true)
  | 14 => ("SongLamps", "song", "[I", true)
  | 15 => ("SongLamps", "rest", "[I", true)
  | 16 => ("SongLamps", "far", "[I", true)
  | _ => ("SongLamps", "manyBy", "[I", true)
def tyX0 : Nat → FieldType := fun k => match k with
  | 0 => .object "SongLamps$Mine"
  | 1 => .object "SongLamps$Mine"
  | 2 => .array (.object "SongLamps$Mine")
  | 3 => .array .char
  | 4 => .int
  | 5 => .array .int
  | 6 => .array .int
  | 7 => .array .int
  | 8 => .int
  | 9 => .int
  | 10 => .int
  | 11 => .int
  | 12 => .int
  | 13 => .array .int
  | 14 => .array .int
  | 15 => .array .int
  | 16 => .array .int
  | _ => .array .int
abbrev wsX00 : List Cond := u_ws RX0 TX0 18
set_option maxRecDepth 100000 in
theorem nmX0 : ∀ a, a < 18 → ∀ b, b < 18 → a ≠ b → (TX0 a).2.1 ≠ (TX0 b).2.1 := by decide +kernel
set_option maxRecDepth 100000 in
theorem tyX0_ok : ∀ k, k < 18 → parseFieldDescriptor (TX0 k).2.2.1 = some (tyX0 k) := by decide +kernel
abbrev cX0_init : ByteArray := prog_1_method_11_code
def yX0_init : MethodName := ⟨RX0, "<init>", "()V"⟩
def dkwX0_init_4 : List UInt8 := [181, 0, 72, 42, 16, 25, 188, 10, 181, 0, 75, 177]
abbrev dktX0_init_4 : List UInt8 := dkwX0_init_4 ++ []
def dkwX0_init_3 : List UInt8 := [188, 10, 181, 0, 63, 42, 6, 188, 10, 181, 0, 66, 42, 6, 188, 10, 181, 0, 69, 42, 16, 100, 188, 10]
abbrev dktX0_init_3 : List UInt8 := dkwX0_init_3 ++ dktX0_init_4
def dkwX0_init_2 : List UInt8 := [181, 0, 53, 42, 16, 60, 188, 10, 181, 0, 57, 42, 16, 60, 188, 10, 181, 0, 60, 42, 17, 3, 232]
abbrev dktX0_init_2 : List UInt8 := dkwX0_init_2 ++ dktX0_init_3
def dkwX0_init_1 : List UInt8 := [181, 0, 42, 42, 5, 189, 0, 35, 181, 0, 45, 42, 16, 60, 188, 5, 181, 0, 49, 42, 16, 60, 188, 10]
abbrev dktX0_init_1 : List UInt8 := dkwX0_init_1 ++ dktX0_init_2
def dkwX0_init_0 : List UInt8 := [42, 183, 0, 29, 42, 187, 0, 35, 89, 183, 0, 37, 181, 0, 38, 42, 187, 0, 35, 89, 183, 0, 37]
abbrev dktX0_init_0 : List UInt8 := dkwX0_init_0 ++ dktX0_init_1
theorem dksX0_init_0 : cX0_init.data.toList.drop 0 = dktX0_init_0 := by decide +kernel
theorem dksX0_init_1 : cX0_init.data.toList.drop 23 = dktX0_init_1 := dk_seg dksX0_init_0 23 rfl rfl
theorem dksX0_init_2 : cX0_init.data.toList.drop 47 = dktX0_init_2 := dk_seg dksX0_init_1 24 rfl rfl
theorem dksX0_init_3 : cX0_init.data.toList.drop 70 = dktX0_init_3 := dk_seg dksX0_init_2 23 rfl rfl
theorem dksX0_init_4 : cX0_init.data.toList.drop 94 = dktX0_init_4 := dk_seg dksX0_init_3 24 rfl rfl
theorem dX0_init_0 : decode cX0_init 0 = .ok (.aload_n 0, 1) := dk_42 (dk_at dksX0_init_0 0 rfl rfl)
theorem dX0_init_1 : decode cX0_init 1 = .ok (.invokespecial 29, 3) := dk_183 0 29 (dk_at dksX0_init_0 1 rfl rfl)
theorem dX0_init_4 : decode cX0_init 4 = .ok (.aload_n 0, 1) := dk_42 (dk_at dksX0_init_0 4 rfl rfl)
theorem dX0_init_5 : decode cX0_init 5 = .ok (.new 35, 3) := dk_187 0 35 (dk_at dksX0_init_0 5 rfl rfl)
theorem dX0_init_8 : decode cX0_init 8 = .ok (.dup, 1) := dk_89 (dk_at dksX0_init_0 8 rfl rfl)
theorem dX0_init_9 : decode cX0_init 9 = .ok (.invokespecial 37, 3) := dk_183 0 37 (dk_at dksX0_init_0 9 rfl rfl)
theorem dX0_init_12 : decode cX0_init 12 = .ok (.putfield 38, 3) := dk_181 0 38 (dk_at dksX0_init_0 12 rfl rfl)
theorem dX0_init_15 : decode cX0_init 15 = .ok (.aload_n 0, 1) := dk_42 (dk_at dksX0_init_0 15 rfl rfl)
theorem dX0_init_16 : decode cX0_init 16 = .ok (.new 35, 3) := dk_187 0 35 (dk_at dksX0_init_0 16 rfl rfl)
theorem dX0_init_19 : decode cX0_init 19 = .ok (.dup, 1) := dk_89 (dk_at dksX0_init_0 19 rfl rfl)
theorem dX0_init_20 : decode cX0_init 20 = .ok (.invokespecial 37, 3) := dk_183 0 37 (dk_at dksX0_init_0 20 rfl rfl)
theorem dX0_init_23 : decode cX0_init 23 = .ok (.putfield 42, 3) := dk_181 0 42 (dk_at dksX0_init_1 0 rfl rfl)
theorem dX0_init_26 : decode cX0_init 26 = .ok (.aload_n 0, 1) := dk_42 (dk_at dksX0_init_1 3 rfl rfl)
theorem dX0_init_27 : decode cX0_init 27 = .ok (.iconst 2, 1) := dk_5 (dk_at dksX0_init_1 4 rfl rfl)
theorem dX0_init_28 : decode cX0_init 28 = .ok (.anewarray 35, 3) := dk_189 0 35 (dk_at dksX0_init_1 5 rfl rfl)
theorem dX0_init_31 : decode cX0_init 31 = .ok (.putfield 45, 3) := dk_181 0 45 (dk_at dksX0_init_1 8 rfl rfl)
theorem dX0_init_34 : decode cX0_init 34 = .ok (.aload_n 0, 1) := dk_42 (dk_at dksX0_init_1 11 rfl rfl)
theorem dX0_init_35 : decode cX0_init 35 = .ok (.bipush 60, 2) := dk_16 60 (dk_at dksX0_init_1 12 rfl rfl)
theorem dX0_init_37 : decode cX0_init 37 = .ok (.newarray .char, 2) := dk_188_5 (dk_at dksX0_init_1 14 rfl rfl)
theorem dX0_init_39 : decode cX0_init 39 = .ok (.putfield 49, 3) := dk_181 0 49 (dk_at dksX0_init_1 16 rfl rfl)
theorem dX0_init_42 : decode cX0_init 42 = .ok (.aload_n 0, 1) := dk_42 (dk_at dksX0_init_1 19 rfl rfl)
theorem dX0_init_43 : decode cX0_init 43 = .ok (.bipush 60, 2) := dk_16 60 (dk_at dksX0_init_1 20 rfl rfl)
theorem dX0_init_45 : decode cX0_init 45 = .ok (.newarray .int, 2) := dk_188_10 (dk_at dksX0_init_1 22 rfl rfl)
theorem dX0_init_47 : decode cX0_init 47 = .ok (.putfield 53, 3) := dk_181 0 53 (dk_at dksX0_init_2 0 rfl rfl)
theorem dX0_init_50 : decode cX0_init 50 = .ok (.aload_n 0, 1) := dk_42 (dk_at dksX0_init_2 3 rfl rfl)
theorem dX0_init_51 : decode cX0_init 51 = .ok (.bipush 60, 2) := dk_16 60 (dk_at dksX0_init_2 4 rfl rfl)
theorem dX0_init_53 : decode cX0_init 53 = .ok (.newarray .int, 2) := dk_188_10 (dk_at dksX0_init_2 6 rfl rfl)
theorem dX0_init_55 : decode cX0_init 55 = .ok (.putfield 57, 3) := dk_181 0 57 (dk_at dksX0_init_2 8 rfl rfl)
theorem dX0_init_58 : decode cX0_init 58 = .ok (.aload_n 0, 1) := dk_42 (dk_at dksX0_init_2 11 rfl rfl)
theorem dX0_init_59 : decode cX0_init 59 = .ok (.bipush 60, 2) := dk_16 60 (dk_at dksX0_init_2 12 rfl rfl)
theorem dX0_init_61 : decode cX0_init 61 = .ok (.newarray .int, 2) := dk_188_10 (dk_at dksX0_init_2 14 rfl rfl)
theorem dX0_init_63 : decode cX0_init 63 = .ok (.putfield 60, 3) := dk_181 0 60 (dk_at dksX0_init_2 16 rfl rfl)
theorem dX0_init_66 : decode cX0_init 66 = .ok (.aload_n 0, 1) := dk_42 (dk_at dksX0_init_2 19 rfl rfl)
theorem dX0_init_67 : decode cX0_init 67 = .ok (.sipush 1000, 3) := dk_17 3 232 (dk_at dksX0_init_2 20 rfl rfl)
theorem dX0_init_70 : decode cX0_init 70 = .ok (.newarray .int, 2) := dk_188_10 (dk_at dksX0_init_3 0 rfl rfl)
theorem dX0_init_72 : decode cX0_init 72 = .ok (.putfield 63, 3) := dk_181 0 63 (dk_at dksX0_init_3 2 rfl rfl)
theorem dX0_init_75 : decode cX0_init 75 = .ok (.aload_n 0, 1) := dk_42 (dk_at dksX0_init_3 5 rfl rfl)
theorem dX0_init_76 : decode cX0_init 76 = .ok (.iconst 3, 1) := dk_6 (dk_at dksX0_init_3 6 rfl rfl)
theorem dX0_init_77 : decode cX0_init 77 = .ok (.newarray .int, 2) := dk_188_10 (dk_at dksX0_init_3 7 rfl rfl)
theorem dX0_init_79 : decode cX0_init 79 = .ok (.putfield 66, 3) := dk_181 0 66 (dk_at dksX0_init_3 9 rfl rfl)
theorem dX0_init_82 : decode cX0_init 82 = .ok (.aload_n 0, 1) := dk_42 (dk_at dksX0_init_3 12 rfl rfl)
theorem dX0_init_83 : decode cX0_init 83 = .ok (.iconst 3, 1) := dk_6 (dk_at dksX0_init_3 13 rfl rfl)
theorem dX0_init_84 : decode cX0_init 84 = .ok (.newarray .int, 2) := dk_188_10 (dk_at dksX0_init_3 14 rfl rfl)
theorem dX0_init_86 : decode cX0_init 86 = .ok (.putfield 69, 3) := dk_181 0 69 (dk_at dksX0_init_3 16 rfl rfl)
theorem dX0_init_89 : decode cX0_init 89 = .ok (.aload_n 0, 1) := dk_42 (dk_at dksX0_init_3 19 rfl rfl)
theorem dX0_init_90 : decode cX0_init 90 = .ok (.bipush 100, 2) := dk_16 100 (dk_at dksX0_init_3 20 rfl rfl)
theorem dX0_init_92 : decode cX0_init 92 = .ok (.newarray .int, 2) := dk_188_10 (dk_at dksX0_init_3 22 rfl rfl)
theorem dX0_init_94 : decode cX0_init 94 = .ok (.putfield 72, 3) := dk_181 0 72 (dk_at dksX0_init_4 0 rfl rfl)
theorem dX0_init_97 : decode cX0_init 97 = .ok (.aload_n 0, 1) := dk_42 (dk_at dksX0_init_4 3 rfl rfl)
theorem dX0_init_98 : decode cX0_init 98 = .ok (.bipush 25, 2) := dk_16 25 (dk_at dksX0_init_4 4 rfl rfl)
theorem dX0_init_100 : decode cX0_init 100 = .ok (.newarray .int, 2) := dk_188_10 (dk_at dksX0_init_4 6 rfl rfl)
theorem dX0_init_102 : decode cX0_init 102 = .ok (.putfield 75, 3) := dk_181 0 75 (dk_at dksX0_init_4 8 rfl rfl)
theorem dX0_init_105 : decode cX0_init 105 = .ok (.return_, 1) := dk_177 (dk_at dksX0_init_4 11 rfl rfl)
abbrev cX0_fill : ByteArray := prog_1_method_10_code
def yX0_fill : MethodName := ⟨RX0, "fill", "([II)V"⟩
def dkwX0_fill_0 : List UInt8 := [3, 61, 28, 42, 190, 162, 0, 13, 42, 28, 27, 79, 132, 2, 1, 167, 255, 243, 177]
abbrev dktX0_fill_0 : List UInt8 := dkwX0_fill_0 ++ []
theorem dksX0_fill_0 : cX0_fill.data.toList.drop 0 = dktX0_fill_0 := by decide +kernel
theorem dX0_fill_0 : decode cX0_fill 0 = .ok (.iconst 0, 1) := dk_3 (dk_at dksX0_fill_0 0 rfl rfl)
theorem dX0_fill_1 : decode cX0_fill 1 = .ok (.istore_n 2, 1) := dk_61 (dk_at dksX0_fill_0 1 rfl rfl)
theorem dX0_fill_2 : decode cX0_fill 2 = .ok (.iload_n 2, 1) := dk_28 (dk_at dksX0_fill_0 2 rfl rfl)
theorem dX0_fill_3 : decode cX0_fill 3 = .ok (.aload_n 0, 1) := dk_42 (dk_at dksX0_fill_0 3 rfl rfl)
theorem dX0_fill_4 : decode cX0_fill 4 = .ok (.arraylength, 1) := dk_190 (dk_at dksX0_fill_0 4 rfl rfl)
theorem dX0_fill_5 : decode cX0_fill 5 = .ok (.if_icmp .ge 13, 3) := dk_162 0 13 (dk_at dksX0_fill_0 5 rfl rfl)
theorem dX0_fill_8 : decode cX0_fill 8 = .ok (.aload_n 0, 1) := dk_42 (dk_at dksX0_fill_0 8 rfl rfl)
theorem dX0_fill_9 : decode cX0_fill 9 = .ok (.iload_n 2, 1) := dk_28 (dk_at dksX0_fill_0 9 rfl rfl)
theorem dX0_fill_10 : decode cX0_fill 10 = .ok (.iload_n 1, 1) := dk_27 (dk_at dksX0_fill_0 10 rfl rfl)
theorem dX0_fill_11 : decode cX0_fill 11 = .ok (.iastore, 1) := dk_79 (dk_at dksX0_fill_0 11 rfl rfl)
theorem dX0_fill_12 : decode cX0_fill 12 = .ok (.iinc 2 1, 3) := dk_132 2 1 (dk_at dksX0_fill_0 12 rfl rfl)
theorem dX0_fill_15 : decode cX0_fill 15 = .ok (.goto (-13), 3) := dk_167 255 243 (dk_at dksX0_fill_0 15 rfl rfl)
theorem dX0_fill_18 : decode cX0_fill 18 = .ok (.return_, 1) := dk_177 (dk_at dksX0_fill_0 18 rfl rfl)
abbrev cX0_passage : ByteArray := prog_1_method_13_code
def yX0_passage : MethodName := ⟨RX0, "passage", "(IIZ)I"⟩
def dkwX0_passage_4 : List UInt8 := [184, 0, 95, 96, 54, 4, 132, 5, 1, 167, 255, 228, 21, 4, 5, 108, 172]
abbrev dktX0_passage_4 : List UInt8 := dkwX0_passage_4 ++ []
def dkwX0_passage_3 : List UInt8 := [54, 4, 3, 54, 5, 21, 5, 16, 10, 162, 0, 27, 21, 4, 42, 180, 0, 38, 180, 0, 88, 21, 5, 46]
abbrev dktX0_passage_3 : List UInt8 := dkwX0_passage_3 ++ dktX0_passage_4
def dkwX0_passage_2 : List UInt8 := [180, 0, 38, 180, 0, 88, 28, 42, 180, 0, 38, 180, 0, 88, 28, 46, 27, 29, 184, 0, 91, 79, 3]
abbrev dktX0_passage_2 : List UInt8 := dkwX0_passage_2 ++ dktX0_passage_3
def dkwX0_passage_1 : List UInt8 := [180, 0, 38, 180, 0, 88, 27, 42, 180, 0, 38, 180, 0, 88, 27, 46, 28, 29, 184, 0, 91, 79, 42]
abbrev dktX0_passage_1 : List UInt8 := dkwX0_passage_1 ++ dktX0_passage_2
def dkwX0_passage_0 : List UInt8 := [27, 184, 0, 85, 153, 0, 15, 28, 184, 0, 85, 153, 0, 8, 27, 28, 160, 0, 5, 2, 172, 42]
abbrev dktX0_passage_0 : List UInt8 := dkwX0_passage_0 ++ dktX0_passage_1
theorem dksX0_passage_0 : cX0_passage.data.toList.drop 0 = dktX0_passage_0 := by decide +kernel
theorem dksX0_passage_1 : cX0_passage.data.toList.drop 22 = dktX0_passage_1 := dk_seg dksX0_passage_0 22 rfl rfl
theorem dksX0_passage_2 : cX0_passage.data.toList.drop 45 = dktX0_passage_2 := dk_seg dksX0_passage_1 23 rfl rfl
theorem dksX0_passage_3 : cX0_passage.data.toList.drop 68 = dktX0_passage_3 := dk_seg dksX0_passage_2 23 rfl rfl
theorem dksX0_passage_4 : cX0_passage.data.toList.drop 92 = dktX0_passage_4 := dk_seg dksX0_passage_3 24 rfl rfl
theorem dX0_passage_0 : decode cX0_passage 0 = .ok (.iload_n 1, 1) := dk_27 (dk_at dksX0_passage_0 0 rfl rfl)
theorem dX0_passage_1 : decode cX0_passage 1 = .ok (.invokestatic 85, 3) := dk_184 0 85 (dk_at dksX0_passage_0 1 rfl rfl)
theorem dX0_passage_4 : decode cX0_passage 4 = .ok (.ifCond .eq 15, 3) := dk_153 0 15 (dk_at dksX0_passage_0 4 rfl rfl)
theorem dX0_passage_7 : decode cX0_passage 7 = .ok (.iload_n 2, 1) := dk_28 (dk_at dksX0_passage_0 7 rfl rfl)
theorem dX0_passage_8 : decode cX0_passage 8 = .ok (.invokestatic 85, 3) := dk_184 0 85 (dk_at dksX0_passage_0 8 rfl rfl)
theorem dX0_passage_11 : decode cX0_passage 11 = .ok (.ifCond .eq 8, 3) := dk_153 0 8 (dk_at dksX0_passage_0 11 rfl rfl)
theorem dX0_passage_14 : decode cX0_passage 14 = .ok (.iload_n 1, 1) := dk_27 (dk_at dksX0_passage_0 14 rfl rfl)
theorem dX0_passage_15 : decode cX0_passage 15 = .ok (.iload_n 2, 1) := dk_28 (dk_at dksX0_passage_0 15 rfl rfl)
theorem dX0_passage_16 : decode cX0_passage 16 = .ok (.if_icmp .ne 5, 3) := dk_160 0 5 (dk_at dksX0_passage_0 16 rfl rfl)
theorem dX0_passage_19 : decode cX0_passage 19 = .ok (.iconst (-1), 1) := dk_2 (dk_at dksX0_passage_0 19 rfl rfl)
theorem dX0_passage_20 : decode cX0_passage 20 = .ok (.ireturn, 1) := dk_172 (dk_at dksX0_passage_0 20 rfl rfl)
theorem dX0_passage_21 : decode cX0_passage 21 = .ok (.aload_n 0, 1) := dk_42 (dk_at dksX0_passage_0 21 rfl rfl)
theorem dX0_passage_22 : decode cX0_passage 22 = .ok (.getfield 38, 3) := dk_180 0 38 (dk_at dksX0_passage_1 0 rfl rfl)
theorem dX0_passage_25 : decode cX0_passage 25 = .ok (.getfield 88, 3) := dk_180 0 88 (dk_at dksX0_passage_1 3 rfl rfl)
theorem dX0_passage_28 : decode cX0_passage 28 = .ok (.iload_n 1, 1) := dk_27 (dk_at dksX0_passage_1 6 rfl rfl)
theorem dX0_passage_29 : decode cX0_passage 29 = .ok (.aload_n 0, 1) := dk_42 (dk_at dksX0_passage_1 7 rfl rfl)
theorem dX0_passage_30 : decode cX0_passage 30 = .ok (.getfield 38, 3) := dk_180 0 38 (dk_at dksX0_passage_1 8 rfl rfl)
theorem dX0_passage_33 : decode cX0_passage 33 = .ok (.getfield 88, 3) := dk_180 0 88 (dk_at dksX0_passage_1 11 rfl rfl)
theorem dX0_passage_36 : decode cX0_passage 36 = .ok (.iload_n 1, 1) := dk_27 (dk_at dksX0_passage_1 14 rfl rfl)
theorem dX0_passage_37 : decode cX0_passage 37 = .ok (.iaload, 1) := dk_46 (dk_at dksX0_passage_1 15 rfl rfl)
theorem dX0_passage_38 : decode cX0_passage 38 = .ok (.iload_n 2, 1) := dk_28 (dk_at dksX0_passage_1 16 rfl rfl)
theorem dX0_passage_39 : decode cX0_passage 39 = .ok (.iload_n 3, 1) := dk_29 (dk_at dksX0_passage_1 17 rfl rfl)
theorem dX0_passage_40 : decode cX0_passage 40 = .ok (.invokestatic 91, 3) := dk_184 0 91 (dk_at dksX0_passage_1 18 rfl rfl)
theorem dX0_passage_43 : decode cX0_passage 43 = .ok (.iastore, 1) := dk_79 (dk_at dksX0_passage_1 21 rfl rfl)
theorem dX0_passage_44 : decode cX0_passage 44 = .ok (.aload_n 0, 1) := dk_42 (dk_at dksX0_passage_1 22 rfl rfl)
theorem dX0_passage_45 : decode cX0_passage 45 = .ok (.getfield 38, 3) := dk_180 0 38 (dk_at dksX0_passage_2 0 rfl rfl)
theorem dX0_passage_48 : decode cX0_passage 48 = .ok (.getfield 88, 3) := dk_180 0 88 (dk_at dksX0_passage_2 3 rfl rfl)
theorem dX0_passage_51 : decode cX0_passage 51 = .ok (.iload_n 2, 1) := dk_28 (dk_at dksX0_passage_2 6 rfl rfl)
theorem dX0_passage_52 : decode cX0_passage 52 = .ok (.aload_n 0, 1) := dk_42 (dk_at dksX0_passage_2 7 rfl rfl)
theorem dX0_passage_53 : decode cX0_passage 53 = .ok (.getfield 38, 3) := dk_180 0 38 (dk_at dksX0_passage_2 8 rfl rfl)
theorem dX0_passage_56 : decode cX0_passage 56 = .ok (.getfield 88, 3) := dk_180 0 88 (dk_at dksX0_passage_2 11 rfl rfl)
theorem dX0_passage_59 : decode cX0_passage 59 = .ok (.iload_n 2, 1) := dk_28 (dk_at dksX0_passage_2 14 rfl rfl)
theorem dX0_passage_60 : decode cX0_passage 60 = .ok (.iaload, 1) := dk_46 (dk_at dksX0_passage_2 15 rfl rfl)
theorem dX0_passage_61 : decode cX0_passage 61 = .ok (.iload_n 1, 1) := dk_27 (dk_at dksX0_passage_2 16 rfl rfl)
theorem dX0_passage_62 : decode cX0_passage 62 = .ok (.iload_n 3, 1) := dk_29 (dk_at dksX0_passage_2 17 rfl rfl)
theorem dX0_passage_63 : decode cX0_passage 63 = .ok (.invokestatic 91, 3) := dk_184 0 91 (dk_at dksX0_passage_2 18 rfl rfl)
theorem dX0_passage_66 : decode cX0_passage 66 = .ok (.iastore, 1) := dk_79 (dk_at dksX0_passage_2 21 rfl rfl)
theorem dX0_passage_67 : decode cX0_passage 67 = .ok (.iconst 0, 1) := dk_3 (dk_at dksX0_passage_2 22 rfl rfl)
theorem dX0_passage_68 : decode cX0_passage 68 = .ok (.istore 4, 2) := dk_54 4 (dk_at dksX0_passage_3 0 rfl rfl)
theorem dX0_passage_70 : decode cX0_passage 70 = .ok (.iconst 0, 1) := dk_3 (dk_at dksX0_passage_3 2 rfl rfl)
theorem dX0_passage_71 : decode cX0_passage 71 = .ok (.istore 5, 2) := dk_54 5 (dk_at dksX0_passage_3 3 rfl rfl)
theorem dX0_passage_73 : decode cX0_passage 73 = .ok (.iload 5, 2) := dk_21 5 (dk_at dksX0_passage_3 5 rfl rfl)
theorem dX0_passage_75 : decode cX0_passage 75 = .ok (.bipush 10, 2) := dk_16 10 (dk_at dksX0_passage_3 7 rfl rfl)
theorem dX0_passage_77 : decode cX0_passage 77 = .ok (.if_icmp .ge 27, 3) := dk_162 0 27 (dk_at dksX0_passage_3 9 rfl rfl)
theorem dX0_passage_80 : decode cX0_passage 80 = .ok (.iload 4, 2) := dk_21 4 (dk_at dksX0_passage_3 12 rfl rfl)
theorem dX0_passage_82 : decode cX0_passage 82 = .ok (.aload_n 0, 1) := dk_42 (dk_at dksX0_passage_3 14 rfl rfl)
theorem dX0_passage_83 : decode cX0_passage 83 = .ok (.getfield 38, 3) := dk_180 0 38 (dk_at dksX0_passage_3 15 rfl rfl)
theorem dX0_passage_86 : decode cX0_passage 86 = .ok (.getfield 88, 3) := dk_180 0 88 (dk_at dksX0_passage_3 18 rfl rfl)
theorem dX0_passage_89 : decode cX0_passage 89 = .ok (.iload 5, 2) := dk_21 5 (dk_at dksX0_passage_3 21 rfl rfl)
theorem dX0_passage_91 : decode cX0_passage 91 = .ok (.iaload, 1) := dk_46 (dk_at dksX0_passage_3 23 rfl rfl)
theorem dX0_passage_92 : decode cX0_passage 92 = .ok (.invokestatic 95, 3) := dk_184 0 95 (dk_at dksX0_passage_4 0 rfl rfl)
theorem dX0_passage_95 : decode cX0_passage 95 = .ok (.iadd, 1) := dk_96 (dk_at dksX0_passage_4 3 rfl rfl)
theorem dX0_passage_96 : decode cX0_passage 96 = .ok (.istore 4, 2) := dk_54 4 (dk_at dksX0_passage_4 4 rfl rfl)
theorem dX0_passage_98 : decode cX0_passage 98 = .ok (.iinc 5 1, 3) := dk_132 5 1 (dk_at dksX0_passage_4 6 rfl rfl)
theorem dX0_passage_101 : decode cX0_passage 101 = .ok (.goto (-28), 3) := dk_167 255 228 (dk_at dksX0_passage_4 9 rfl rfl)
theorem dX0_passage_104 : decode cX0_passage 104 = .ok (.iload 4, 2) := dk_21 4 (dk_at dksX0_passage_4 12 rfl rfl)
theorem dX0_passage_106 : decode cX0_passage 106 = .ok (.iconst 2, 1) := dk_5 (dk_at dksX0_passage_4 14 rfl rfl)
theorem dX0_passage_107 : decode cX0_passage 107 = .ok (.idiv, 1) := dk_108 (dk_at dksX0_passage_4 15 rfl rfl)
theorem dX0_passage_108 : decode cX0_passage 108 = .ok (.ireturn, 1) := dk_172 (dk_at dksX0_passage_4 16 rfl rfl)
abbrev cX0_isGallery : ByteArray := prog_1_method_3_code
def yX0_isGallery : MethodName := ⟨RX0, "isGallery", "(I)Z"⟩
def dkwX0_isGallery_0 : List UInt8 := [26, 133, 9, 20, 0, 7, 184, 0, 3, 172]
abbrev dktX0_isGallery_0 : List UInt8 := dkwX0_isGallery_0 ++ []
theorem dksX0_isGallery_0 : cX0_isGallery.data.toList.drop 0 = dktX0_isGallery_0 := by decide +kernel
theorem dX0_isGallery_0 : decode cX0_isGallery 0 = .ok (.iload_n 0, 1) := dk_26 (dk_at dksX0_isGallery_0 0 rfl rfl)
theorem dX0_isGallery_1 : decode cX0_isGallery 1 = .ok (.i2l, 1) := dk_133 (dk_at dksX0_isGallery_0 1 rfl rfl)
theorem dX0_isGallery_2 : decode cX0_isGallery 2 = .ok (.lconst 0, 1) := dk_9 (dk_at dksX0_isGallery_0 2 rfl rfl)
theorem dX0_isGallery_3 : decode cX0_isGallery 3 = .ok (.ldc2_w 7, 3) := dk_20 0 7 (dk_at dksX0_isGallery_0 3 rfl rfl)
theorem dX0_isGallery_6 : decode cX0_isGallery 6 = .ok (.invokestatic 3, 3) := dk_184 0 3 (dk_at dksX0_isGallery_0 6 rfl rfl)
theorem dX0_isGallery_9 : decode cX0_isGallery 9 = .ok (.ireturn, 1) := dk_172 (dk_at dksX0_isGallery_0 9 rfl rfl)
abbrev cX0_isIn : ByteArray := prog_1_method_1_code
def yX0_isIn : MethodName := ⟨RX0, "isIn", "(JJJ)Z"⟩
def dkwX0_isIn_0 : List UInt8 := [30, 32, 148, 155, 0, 14, 30, 22, 4, 148, 157, 0, 7, 4, 167, 0, 4, 3, 172]
abbrev dktX0_isIn_0 : List UInt8 := dkwX0_isIn_0 ++ []
theorem dksX0_isIn_0 : cX0_isIn.data.toList.drop 0 = dktX0_isIn_0 := by decide +kernel
theorem dX0_isIn_0 : decode cX0_isIn 0 = .ok (.lload_n 0, 1) := dk_30 (dk_at dksX0_isIn_0 0 rfl rfl)
theorem dX0_isIn_1 : decode cX0_isIn 1 = .ok (.lload_n 2, 1) := dk_32 (dk_at dksX0_isIn_0 1 rfl rfl)
theorem dX0_isIn_2 : decode cX0_isIn 2 = .ok (.lcmp, 1) := dk_148 (dk_at dksX0_isIn_0 2 rfl rfl)
theorem dX0_isIn_3 : decode cX0_isIn 3 = .ok (.ifCond .lt 14, 3) := dk_155 0 14 (dk_at dksX0_isIn_0 3 rfl rfl)
theorem dX0_isIn_6 : decode cX0_isIn 6 = .ok (.lload_n 0, 1) := dk_30 (dk_at dksX0_isIn_0 6 rfl rfl)
theorem dX0_isIn_7 : decode cX0_isIn 7 = .ok (.lload 4, 2) := dk_22 4 (dk_at dksX0_isIn_0 7 rfl rfl)
theorem dX0_isIn_9 : decode cX0_isIn 9 = .ok (.lcmp, 1) := dk_148 (dk_at dksX0_isIn_0 9 rfl rfl)
theorem dX0_isIn_10 : decode cX0_isIn 10 = .ok (.ifCond .gt 7, 3) := dk_157 0 7 (dk_at dksX0_isIn_0 10 rfl rfl)
theorem dX0_isIn_13 : decode cX0_isIn 13 = .ok (.iconst 1, 1) := dk_4 (dk_at dksX0_isIn_0 13 rfl rfl)
theorem dX0_isIn_14 : decode cX0_isIn 14 = .ok (.goto 4, 3) := dk_167 0 4 (dk_at dksX0_isIn_0 14 rfl rfl)
theorem dX0_isIn_17 : decode cX0_isIn 17 = .ok (.iconst 0, 1) := dk_3 (dk_at dksX0_isIn_0 17 rfl rfl)
theorem dX0_isIn_18 : decode cX0_isIn 18 = .ok (.ireturn, 1) := dk_172 (dk_at dksX0_isIn_0 18 rfl rfl)
abbrev cX0_with : ByteArray := prog_1_method_7_code
def yX0_with : MethodName := ⟨RX0, "with", "(IIZ)I"⟩
def dkwX0_with_0 : List UInt8 := [28, 153, 0, 11, 26, 4, 27, 120, 128, 167, 0, 10, 26, 4, 27, 120, 2, 130, 126, 172]
abbrev dktX0_with_0 : List UInt8 := dkwX0_with_0 ++ []
theorem dksX0_with_0 : cX0_with.data.toList.drop 0 = dktX0_with_0 := by decide +kernel
theorem dX0_with_0 : decode cX0_with 0 = .ok (.iload_n 2, 1) := dk_28 (dk_at dksX0_with_0 0 rfl rfl)
theorem dX0_with_1 : decode cX0_with 1 = .ok (.ifCond .eq 11, 3) := dk_153 0 11 (dk_at dksX0_with_0 1 rfl rfl)
theorem dX0_with_4 : decode cX0_with 4 = .ok (.iload_n 0, 1) := dk_26 (dk_at dksX0_with_0 4 rfl rfl)
theorem dX0_with_5 : decode cX0_with 5 = .ok (.iconst 1, 1) := dk_4 (dk_at dksX0_with_0 5 rfl rfl)
theorem dX0_with_6 : decode cX0_with 6 = .ok (.iload_n 1, 1) := dk_27 (dk_at dksX0_with_0 6 rfl rfl)
theorem dX0_with_7 : decode cX0_with 7 = .ok (.ishl, 1) := dk_120 (dk_at dksX0_with_0 7 rfl rfl)
theorem dX0_with_8 : decode cX0_with 8 = .ok (.ior, 1) := dk_128 (dk_at dksX0_with_0 8 rfl rfl)
theorem dX0_with_9 : decode cX0_with 9 = .ok (.goto 10, 3) := dk_167 0 10 (dk_at dksX0_with_0 9 rfl rfl)
theorem dX0_with_12 : decode cX0_with 12 = .ok (.iload_n 0, 1) := dk_26 (dk_at dksX0_with_0 12 rfl rfl)
theorem dX0_with_13 : decode cX0_with 13 = .ok (.iconst 1, 1) := dk_4 (dk_at dksX0_with_0 13 rfl rfl)
theorem dX0_with_14 : decode cX0_with 14 = .ok (.iload_n 1, 1) := dk_27 (dk_at dksX0_with_0 14 rfl rfl)
theorem dX0_with_15 : decode cX0_with 15 = .ok (.ishl, 1) := dk_120 (dk_at dksX0_with_0 15 rfl rfl)
theorem dX0_with_16 : decode cX0_with 16 = .ok (.iconst (-1), 1) := dk_2 (dk_at dksX0_with_0 16 rfl rfl)
theorem dX0_with_17 : decode cX0_with 17 = .ok (.ixor, 1) := dk_130 (dk_at dksX0_with_0 17 rfl rfl)
theorem dX0_with_18 : decode cX0_with 18 = .ok (.iand, 1) := dk_126 (dk_at dksX0_with_0 18 rfl rfl)
theorem dX0_with_19 : decode cX0_with 19 = .ok (.ireturn, 1) := dk_172 (dk_at dksX0_with_0 19 rfl rfl)
abbrev cX0_gallery : ByteArray := prog_1_method_14_code
def yX0_gallery : MethodName := ⟨RX0, "gallery", "(IIZ)I"⟩
def dkwX0_gallery_2 : List UInt8 := [27, 29, 184, 0, 91, 181, 0, 103, 21, 4, 172]
abbrev dktX0_gallery_2 : List UInt8 := dkwX0_gallery_2 ++ []
def dkwX0_gallery_1 : List UInt8 := [46, 54, 4, 42, 180, 0, 38, 180, 0, 100, 27, 28, 79, 42, 180, 0, 38, 42, 180, 0, 38, 180, 0, 103]
abbrev dktX0_gallery_1 : List UInt8 := dkwX0_gallery_1 ++ dktX0_gallery_2
def dkwX0_gallery_0 : List UInt8 := [27, 184, 0, 85, 153, 0, 10, 28, 184, 0, 85, 154, 0, 5, 2, 172, 42, 180, 0, 38, 180, 0, 100, 27]
abbrev dktX0_gallery_0 : List UInt8 := dkwX0_gallery_0 ++ dktX0_gallery_1
theorem dksX0_gallery_0 : cX0_gallery.data.toList.drop 0 = dktX0_gallery_0 := by decide +kernel
theorem dksX0_gallery_1 : cX0_gallery.data.toList.drop 24 = dktX0_gallery_1 := dk_seg dksX0_gallery_0 24 rfl rfl
theorem dksX0_gallery_2 : cX0_gallery.data.toList.drop 48 = dktX0_gallery_2 := dk_seg dksX0_gallery_1 24 rfl rfl
theorem dX0_gallery_0 : decode cX0_gallery 0 = .ok (.iload_n 1, 1) := dk_27 (dk_at dksX0_gallery_0 0 rfl rfl)
theorem dX0_gallery_1 : decode cX0_gallery 1 = .ok (.invokestatic 85, 3) := dk_184 0 85 (dk_at dksX0_gallery_0 1 rfl rfl)
theorem dX0_gallery_4 : decode cX0_gallery 4 = .ok (.ifCond .eq 10, 3) := dk_153 0 10 (dk_at dksX0_gallery_0 4 rfl rfl)
theorem dX0_gallery_7 : decode cX0_gallery 7 = .ok (.iload_n 2, 1) := dk_28 (dk_at dksX0_gallery_0 7 rfl rfl)
theorem dX0_gallery_8 : decode cX0_gallery 8 = .ok (.invokestatic 85, 3) := dk_184 0 85 (dk_at dksX0_gallery_0 8 rfl rfl)
theorem dX0_gallery_11 : decode cX0_gallery 11 = .ok (.ifCond .ne 5, 3) := dk_154 0 5 (dk_at dksX0_gallery_0 11 rfl rfl)
theorem dX0_gallery_14 : decode cX0_gallery 14 = .ok (.iconst (-1), 1) := dk_2 (dk_at dksX0_gallery_0 14 rfl rfl)
theorem dX0_gallery_15 : decode cX0_gallery 15 = .ok (.ireturn, 1) := dk_172 (dk_at dksX0_gallery_0 15 rfl rfl)
theorem dX0_gallery_16 : decode cX0_gallery 16 = .ok (.aload_n 0, 1) := dk_42 (dk_at dksX0_gallery_0 16 rfl rfl)
theorem dX0_gallery_17 : decode cX0_gallery 17 = .ok (.getfield 38, 3) := dk_180 0 38 (dk_at dksX0_gallery_0 17 rfl rfl)
theorem dX0_gallery_20 : decode cX0_gallery 20 = .ok (.getfield 100, 3) := dk_180 0 100 (dk_at dksX0_gallery_0 20 rfl rfl)
theorem dX0_gallery_23 : decode cX0_gallery 23 = .ok (.iload_n 1, 1) := dk_27 (dk_at dksX0_gallery_0 23 rfl rfl)
theorem dX0_gallery_24 : decode cX0_gallery 24 = .ok (.iaload, 1) := dk_46 (dk_at dksX0_gallery_1 0 rfl rfl)
theorem dX0_gallery_25 : decode cX0_gallery 25 = .ok (.istore 4, 2) := dk_54 4 (dk_at dksX0_gallery_1 1 rfl rfl)
theorem dX0_gallery_27 : decode cX0_gallery 27 = .ok (.aload_n 0, 1) := dk_42 (dk_at dksX0_gallery_1 3 rfl rfl)
theorem dX0_gallery_28 : decode cX0_gallery 28 = .ok (.getfield 38, 3) := dk_180 0 38 (dk_at dksX0_gallery_1 4 rfl rfl)
theorem dX0_gallery_31 : decode cX0_gallery 31 = .ok (.getfield 100, 3) := dk_180 0 100 (dk_at dksX0_gallery_1 7 rfl rfl)
theorem dX0_gallery_34 : decode cX0_gallery 34 = .ok (.iload_n 1, 1) := dk_27 (dk_at dksX0_gallery_1 10 rfl rfl)
theorem dX0_gallery_35 : decode cX0_gallery 35 = .ok (.iload_n 2, 1) := dk_28 (dk_at dksX0_gallery_1 11 rfl rfl)
theorem dX0_gallery_36 : decode cX0_gallery 36 = .ok (.iastore, 1) := dk_79 (dk_at dksX0_gallery_1 12 rfl rfl)
theorem dX0_gallery_37 : decode cX0_gallery 37 = .ok (.aload_n 0, 1) := dk_42 (dk_at dksX0_gallery_1 13 rfl rfl)
theorem dX0_gallery_38 : decode cX0_gallery 38 = .ok (.getfield 38, 3) := dk_180 0 38 (dk_at dksX0_gallery_1 14 rfl rfl)
theorem dX0_gallery_41 : decode cX0_gallery 41 = .ok (.aload_n 0, 1) := dk_42 (dk_at dksX0_gallery_1 17 rfl rfl)
theorem dX0_gallery_42 : decode cX0_gallery 42 = .ok (.getfield 38, 3) := dk_180 0 38 (dk_at dksX0_gallery_1 18 rfl rfl)
theorem dX0_gallery_45 : decode cX0_gallery 45 = .ok (.getfield 103, 3) := dk_180 0 103 (dk_at dksX0_gallery_1 21 rfl rfl)
theorem dX0_gallery_48 : decode cX0_gallery 48 = .ok (.iload_n 1, 1) := dk_27 (dk_at dksX0_gallery_2 0 rfl rfl)
theorem dX0_gallery_49 : decode cX0_gallery 49 = .ok (.iload_n 3, 1) := dk_29 (dk_at dksX0_gallery_2 1 rfl rfl)
theorem dX0_gallery_50 : decode cX0_gallery 50 = .ok (.invokestatic 91, 3) := dk_184 0 91 (dk_at dksX0_gallery_2 2 rfl rfl)
theorem dX0_gallery_53 : decode cX0_gallery 53 = .ok (.putfield 103, 3) := dk_181 0 103 (dk_at dksX0_gallery_2 5 rfl rfl)
theorem dX0_gallery_56 : decode cX0_gallery 56 = .ok (.iload 4, 2) := dk_21 4 (dk_at dksX0_gallery_2 8 rfl rfl)
theorem dX0_gallery_58 : decode cX0_gallery 58 = .ok (.ireturn, 1) := dk_172 (dk_at dksX0_gallery_2 10 rfl rfl)
abbrev cX0_voice : ByteArray := prog_1_method_15_code
def yX0_voice : MethodName := ⟨RX0, "voice", "(IIIII)I"⟩
def dkwX0_voice_6 : List UInt8 := [180, 0, 38, 180, 0, 112, 184, 0, 95, 172]
abbrev dktX0_voice_6 : List UInt8 := dkwX0_voice_6 ++ []
def dkwX0_voice_5 : List UInt8 := [180, 0, 38, 180, 0, 127, 27, 21, 5, 79, 42, 180, 0, 38, 180, 0, 130, 27, 16, 250, 79, 42]
abbrev dktX0_voice_5 : List UInt8 := dkwX0_voice_5 ++ dktX0_voice_6
def dkwX0_voice_4 : List UInt8 := [180, 0, 38, 180, 0, 121, 27, 21, 4, 79, 42, 180, 0, 38, 180, 0, 124, 27, 21, 4, 79, 42]
abbrev dktX0_voice_4 : List UInt8 := dkwX0_voice_4 ++ dktX0_voice_5
def dkwX0_voice_3 : List UInt8 := [181, 0, 112, 42, 180, 0, 38, 180, 0, 115, 27, 28, 79, 42, 180, 0, 38, 180, 0, 118, 27, 29, 79, 42]
abbrev dktX0_voice_3 : List UInt8 := dkwX0_voice_3 ++ dktX0_voice_4
def dkwX0_voice_2 : List UInt8 := [154, 0, 6, 16, 254, 172, 42, 180, 0, 38, 42, 180, 0, 38, 180, 0, 112, 27, 4, 184, 0, 91]
abbrev dktX0_voice_2 : List UInt8 := dkwX0_voice_2 ++ dktX0_voice_3
def dkwX0_voice_1 : List UInt8 := [29, 133, 28, 133, 20, 0, 11, 184, 0, 3, 153, 0, 16, 21, 4, 133, 9, 20, 0, 110, 184, 0, 3]
abbrev dktX0_voice_1 : List UInt8 := dkwX0_voice_1 ++ dktX0_voice_2
def dkwX0_voice_0 : List UInt8 := [27, 184, 0, 78, 153, 0, 11, 21, 5, 184, 0, 85, 154, 0, 5, 2, 172, 28, 184, 0, 107, 153, 0, 29]
abbrev dktX0_voice_0 : List UInt8 := dkwX0_voice_0 ++ dktX0_voice_1
theorem dksX0_voice_0 : cX0_voice.data.toList.drop 0 = dktX0_voice_0 := by decide +kernel
theorem dksX0_voice_1 : cX0_voice.data.toList.drop 24 = dktX0_voice_1 := dk_seg dksX0_voice_0 24 rfl rfl
theorem dksX0_voice_2 : cX0_voice.data.toList.drop 47 = dktX0_voice_2 := dk_seg dksX0_voice_1 23 rfl rfl
theorem dksX0_voice_3 : cX0_voice.data.toList.drop 69 = dktX0_voice_3 := dk_seg dksX0_voice_2 22 rfl rfl
theorem dksX0_voice_4 : cX0_voice.data.toList.drop 93 = dktX0_voice_4 := dk_seg dksX0_voice_3 24 rfl rfl
theorem dksX0_voice_5 : cX0_voice.data.toList.drop 115 = dktX0_voice_5 := dk_seg dksX0_voice_4 22 rfl rfl
theorem dksX0_voice_6 : cX0_voice.data.toList.drop 137 = dktX0_voice_6 := dk_seg dksX0_voice_5 22 rfl rfl
theorem dX0_voice_0 : decode cX0_voice 0 = .ok (.iload_n 1, 1) := dk_27 (dk_at dksX0_voice_0 0 rfl rfl)
theorem dX0_voice_1 : decode cX0_voice 1 = .ok (.invokestatic 78, 3) := dk_184 0 78 (dk_at dksX0_voice_0 1 rfl rfl)
theorem dX0_voice_4 : decode cX0_voice 4 = .ok (.ifCond .eq 11, 3) := dk_153 0 11 (dk_at dksX0_voice_0 4 rfl rfl)
theorem dX0_voice_7 : decode cX0_voice 7 = .ok (.iload 5, 2) := dk_21 5 (dk_at dksX0_voice_0 7 rfl rfl)
theorem dX0_voice_9 : decode cX0_voice 9 = .ok (.invokestatic 85, 3) := dk_184 0 85 (dk_at dksX0_voice_0 9 rfl rfl)
theorem dX0_voice_12 : decode cX0_voice 12 = .ok (.ifCond .ne 5, 3) := dk_154 0 5 (dk_at dksX0_voice_0 12 rfl rfl)
theorem dX0_voice_15 : decode cX0_voice 15 = .ok (.iconst (-1), 1) := dk_2 (dk_at dksX0_voice_0 15 rfl rfl)
theorem dX0_voice_16 : decode cX0_voice 16 = .ok (.ireturn, 1) := dk_172 (dk_at dksX0_voice_0 16 rfl rfl)
theorem dX0_voice_17 : decode cX0_voice 17 = .ok (.iload_n 2, 1) := dk_28 (dk_at dksX0_voice_0 17 rfl rfl)
theorem dX0_voice_18 : decode cX0_voice 18 = .ok (.invokestatic 107, 3) := dk_184 0 107 (dk_at dksX0_voice_0 18 rfl rfl)
theorem dX0_voice_21 : decode cX0_voice 21 = .ok (.ifCond .eq 29, 3) := dk_153 0 29 (dk_at dksX0_voice_0 21 rfl rfl)
theorem dX0_voice_24 : decode cX0_voice 24 = .ok (.iload_n 3, 1) := dk_29 (dk_at dksX0_voice_1 0 rfl rfl)
theorem dX0_voice_25 : decode cX0_voice 25 = .ok (.i2l, 1) := dk_133 (dk_at dksX0_voice_1 1 rfl rfl)
theorem dX0_voice_26 : decode cX0_voice 26 = .ok (.iload_n 2, 1) := dk_28 (dk_at dksX0_voice_1 2 rfl rfl)
theorem dX0_voice_27 : decode cX0_voice 27 = .ok (.i2l, 1) := dk_133 (dk_at dksX0_voice_1 3 rfl rfl)
theorem dX0_voice_28 : decode cX0_voice 28 = .ok (.ldc2_w 11, 3) := dk_20 0 11 (dk_at dksX0_voice_1 4 rfl rfl)
theorem dX0_voice_31 : decode cX0_voice 31 = .ok (.invokestatic 3, 3) := dk_184 0 3 (dk_at dksX0_voice_1 7 rfl rfl)
theorem dX0_voice_34 : decode cX0_voice 34 = .ok (.ifCond .eq 16, 3) := dk_153 0 16 (dk_at dksX0_voice_1 10 rfl rfl)
theorem dX0_voice_37 : decode cX0_voice 37 = .ok (.iload 4, 2) := dk_21 4 (dk_at dksX0_voice_1 13 rfl rfl)
theorem dX0_voice_39 : decode cX0_voice 39 = .ok (.i2l, 1) := dk_133 (dk_at dksX0_voice_1 15 rfl rfl)
theorem dX0_voice_40 : decode cX0_voice 40 = .ok (.lconst 0, 1) := dk_9 (dk_at dksX0_voice_1 16 rfl rfl)
theorem dX0_voice_41 : decode cX0_voice 41 = .ok (.ldc2_w 110, 3) := dk_20 0 110 (dk_at dksX0_voice_1 17 rfl rfl)
theorem dX0_voice_44 : decode cX0_voice 44 = .ok (.invokestatic 3, 3) := dk_184 0 3 (dk_at dksX0_voice_1 20 rfl rfl)
theorem dX0_voice_47 : decode cX0_voice 47 = .ok (.ifCond .ne 6, 3) := dk_154 0 6 (dk_at dksX0_voice_2 0 rfl rfl)
theorem dX0_voice_50 : decode cX0_voice 50 = .ok (.bipush (-2), 2) := dk_16 254 (dk_at dksX0_voice_2 3 rfl rfl)
theorem dX0_voice_52 : decode cX0_voice 52 = .ok (.ireturn, 1) := dk_172 (dk_at dksX0_voice_2 5 rfl rfl)
theorem dX0_voice_53 : decode cX0_voice 53 = .ok (.aload_n 0, 1) := dk_42 (dk_at dksX0_voice_2 6 rfl rfl)
theorem dX0_voice_54 : decode cX0_voice 54 = .ok (.getfield 38, 3) := dk_180 0 38 (dk_at dksX0_voice_2 7 rfl rfl)
theorem dX0_voice_57 : decode cX0_voice 57 = .ok (.aload_n 0, 1) := dk_42 (dk_at dksX0_voice_2 10 rfl rfl)
theorem dX0_voice_58 : decode cX0_voice 58 = .ok (.getfield 38, 3) := dk_180 0 38 (dk_at dksX0_voice_2 11 rfl rfl)
theorem dX0_voice_61 : decode cX0_voice 61 = .ok (.getfield 112, 3) := dk_180 0 112 (dk_at dksX0_voice_2 14 rfl rfl)
theorem dX0_voice_64 : decode cX0_voice 64 = .ok (.iload_n 1, 1) := dk_27 (dk_at dksX0_voice_2 17 rfl rfl)
theorem dX0_voice_65 : decode cX0_voice 65 = .ok (.iconst 1, 1) := dk_4 (dk_at dksX0_voice_2 18 rfl rfl)
theorem dX0_voice_66 : decode cX0_voice 66 = .ok (.invokestatic 91, 3) := dk_184 0 91 (dk_at dksX0_voice_2 19 rfl rfl)
theorem dX0_voice_69 : decode cX0_voice 69 = .ok (.putfield 112, 3) := dk_181 0 112 (dk_at dksX0_voice_3 0 rfl rfl)
theorem dX0_voice_72 : decode cX0_voice 72 = .ok (.aload_n 0, 1) := dk_42 (dk_at dksX0_voice_3 3 rfl rfl)
theorem dX0_voice_73 : decode cX0_voice 73 = .ok (.getfield 38, 3) := dk_180 0 38 (dk_at dksX0_voice_3 4 rfl rfl)
theorem dX0_voice_76 : decode cX0_voice 76 = .ok (.getfield 115, 3) := dk_180 0 115 (dk_at dksX0_voice_3 7 rfl rfl)
theorem dX0_voice_79 : decode cX0_voice 79 = .ok (.iload_n 1, 1) := dk_27 (dk_at dksX0_voice_3 10 rfl rfl)
theorem dX0_voice_80 : decode cX0_voice 80 = .ok (.iload_n 2, 1) := dk_28 (dk_at dksX0_voice_3 11 rfl rfl)
theorem dX0_voice_81 : decode cX0_voice 81 = .ok (.iastore, 1) := dk_79 (dk_at dksX0_voice_3 12 rfl rfl)
theorem dX0_voice_82 : decode cX0_voice 82 = .ok (.aload_n 0, 1) := dk_42 (dk_at dksX0_voice_3 13 rfl rfl)
theorem dX0_voice_83 : decode cX0_voice 83 = .ok (.getfield 38, 3) := dk_180 0 38 (dk_at dksX0_voice_3 14 rfl rfl)
theorem dX0_voice_86 : decode cX0_voice 86 = .ok (.getfield 118, 3) := dk_180 0 118 (dk_at dksX0_voice_3 17 rfl rfl)
theorem dX0_voice_89 : decode cX0_voice 89 = .ok (.iload_n 1, 1) := dk_27 (dk_at dksX0_voice_3 20 rfl rfl)
theorem dX0_voice_90 : decode cX0_voice 90 = .ok (.iload_n 3, 1) := dk_29 (dk_at dksX0_voice_3 21 rfl rfl)
theorem dX0_voice_91 : decode cX0_voice 91 = .ok (.iastore, 1) := dk_79 (dk_at dksX0_voice_3 22 rfl rfl)
theorem dX0_voice_92 : decode cX0_voice 92 = .ok (.aload_n 0, 1) := dk_42 (dk_at dksX0_voice_3 23 rfl rfl)
theorem dX0_voice_93 : decode cX0_voice 93 = .ok (.getfield 38, 3) := dk_180 0 38 (dk_at dksX0_voice_4 0 rfl rfl)
theorem dX0_voice_96 : decode cX0_voice 96 = .ok (.getfield 121, 3) := dk_180 0 121 (dk_at dksX0_voice_4 3 rfl rfl)
theorem dX0_voice_99 : decode cX0_voice 99 = .ok (.iload_n 1, 1) := dk_27 (dk_at dksX0_voice_4 6 rfl rfl)
theorem dX0_voice_100 : decode cX0_voice 100 = .ok (.iload 4, 2) := dk_21 4 (dk_at dksX0_voice_4 7 rfl rfl)
theorem dX0_voice_102 : decode cX0_voice 102 = .ok (.iastore, 1) := dk_79 (dk_at dksX0_voice_4 9 rfl rfl)
theorem dX0_voice_103 : decode cX0_voice 103 = .ok (.aload_n 0, 1) := dk_42 (dk_at dksX0_voice_4 10 rfl rfl)
theorem dX0_voice_104 : decode cX0_voice 104 = .ok (.getfield 38, 3) := dk_180 0 38 (dk_at dksX0_voice_4 11 rfl rfl)
theorem dX0_voice_107 : decode cX0_voice 107 = .ok (.getfield 124, 3) := dk_180 0 124 (dk_at dksX0_voice_4 14 rfl rfl)
theorem dX0_voice_110 : decode cX0_voice 110 = .ok (.iload_n 1, 1) := dk_27 (dk_at dksX0_voice_4 17 rfl rfl)
theorem dX0_voice_111 : decode cX0_voice 111 = .ok (.iload 4, 2) := dk_21 4 (dk_at dksX0_voice_4 18 rfl rfl)
theorem dX0_voice_113 : decode cX0_voice 113 = .ok (.iastore, 1) := dk_79 (dk_at dksX0_voice_4 20 rfl rfl)
theorem dX0_voice_114 : decode cX0_voice 114 = .ok (.aload_n 0, 1) := dk_42 (dk_at dksX0_voice_4 21 rfl rfl)
theorem dX0_voice_115 : decode cX0_voice 115 = .ok (.getfield 38, 3) := dk_180 0 38 (dk_at dksX0_voice_5 0 rfl rfl)
theorem dX0_voice_118 : decode cX0_voice 118 = .ok (.getfield 127, 3) := dk_180 0 127 (dk_at dksX0_voice_5 3 rfl rfl)
theorem dX0_voice_121 : decode cX0_voice 121 = .ok (.iload_n 1, 1) := dk_27 (dk_at dksX0_voice_5 6 rfl rfl)
theorem dX0_voice_122 : decode cX0_voice 122 = .ok (.iload 5, 2) := dk_21 5 (dk_at dksX0_voice_5 7 rfl rfl)
theorem dX0_voice_124 : decode cX0_voice 124 = .ok (.iastore, 1) := dk_79 (dk_at dksX0_voice_5 9 rfl rfl)
theorem dX0_voice_125 : decode cX0_voice 125 = .ok (.aload_n 0, 1) := dk_42 (dk_at dksX0_voice_5 10 rfl rfl)
theorem dX0_voice_126 : decode cX0_voice 126 = .ok (.getfield 38, 3) := dk_180 0 38 (dk_at dksX0_voice_5 11 rfl rfl)
theorem dX0_voice_129 : decode cX0_voice 129 = .ok (.getfield 130, 3) := dk_180 0 130 (dk_at dksX0_voice_5 14 rfl rfl)
theorem dX0_voice_132 : decode cX0_voice 132 = .ok (.iload_n 1, 1) := dk_27 (dk_at dksX0_voice_5 17 rfl rfl)
theorem dX0_voice_133 : decode cX0_voice 133 = .ok (.bipush (-6), 2) := dk_16 250 (dk_at dksX0_voice_5 18 rfl rfl)
theorem dX0_voice_135 : decode cX0_voice 135 = .ok (.iastore, 1) := dk_79 (dk_at dksX0_voice_5 20 rfl rfl)
theorem dX0_voice_136 : decode cX0_voice 136 = .ok (.aload_n 0, 1) := dk_42 (dk_at dksX0_voice_5 21 rfl rfl)
theorem dX0_voice_137 : decode cX0_voice 137 = .ok (.getfield 38, 3) := dk_180 0 38 (dk_at dksX0_voice_6 0 rfl rfl)
theorem dX0_voice_140 : decode cX0_voice 140 = .ok (.getfield 112, 3) := dk_180 0 112 (dk_at dksX0_voice_6 3 rfl rfl)
theorem dX0_voice_143 : decode cX0_voice 143 = .ok (.invokestatic 95, 3) := dk_184 0 95 (dk_at dksX0_voice_6 6 rfl rfl)
theorem dX0_voice_146 : decode cX0_voice 146 = .ok (.ireturn, 1) := dk_172 (dk_at dksX0_voice_6 9 rfl rfl)
abbrev cX0_isVoice : ByteArray := prog_1_method_4_code
def yX0_isVoice : MethodName := ⟨RX0, "isVoice", "(I)Z"⟩
def dkwX0_isVoice_0 : List UInt8 := [26, 133, 9, 20, 0, 9, 184, 0, 3, 172]
abbrev dktX0_isVoice_0 : List UInt8 := dkwX0_isVoice_0 ++ []
theorem dksX0_isVoice_0 : cX0_isVoice.data.toList.drop 0 = dktX0_isVoice_0 := by decide +kernel
theorem dX0_isVoice_0 : decode cX0_isVoice 0 = .ok (.iload_n 0, 1) := dk_26 (dk_at dksX0_isVoice_0 0 rfl rfl)
theorem dX0_isVoice_1 : decode cX0_isVoice 1 = .ok (.i2l, 1) := dk_133 (dk_at dksX0_isVoice_0 1 rfl rfl)
theorem dX0_isVoice_2 : decode cX0_isVoice 2 = .ok (.lconst 0, 1) := dk_9 (dk_at dksX0_isVoice_0 2 rfl rfl)
theorem dX0_isVoice_3 : decode cX0_isVoice 3 = .ok (.ldc2_w 9, 3) := dk_20 0 9 (dk_at dksX0_isVoice_0 3 rfl rfl)
theorem dX0_isVoice_6 : decode cX0_isVoice 6 = .ok (.invokestatic 3, 3) := dk_184 0 3 (dk_at dksX0_isVoice_0 6 rfl rfl)
theorem dX0_isVoice_9 : decode cX0_isVoice 9 = .ok (.ireturn, 1) := dk_172 (dk_at dksX0_isVoice_0 9 rfl rfl)
abbrev cX0_isNote : ByteArray := prog_1_method_5_code
def yX0_isNote : MethodName := ⟨RX0, "isNote", "(I)Z"⟩
def dkwX0_isNote_0 : List UInt8 := [26, 133, 9, 20, 0, 11, 184, 0, 3, 172]
abbrev dktX0_isNote_0 : List UInt8 := dkwX0_isNote_0 ++ []
theorem dksX0_isNote_0 : cX0_isNote.data.toList.drop 0 = dktX0_isNote_0 := by decide +kernel
theorem dX0_isNote_0 : decode cX0_isNote 0 = .ok (.iload_n 0, 1) := dk_26 (dk_at dksX0_isNote_0 0 rfl rfl)
theorem dX0_isNote_1 : decode cX0_isNote 1 = .ok (.i2l, 1) := dk_133 (dk_at dksX0_isNote_0 1 rfl rfl)
theorem dX0_isNote_2 : decode cX0_isNote 2 = .ok (.lconst 0, 1) := dk_9 (dk_at dksX0_isNote_0 2 rfl rfl)
theorem dX0_isNote_3 : decode cX0_isNote 3 = .ok (.ldc2_w 11, 3) := dk_20 0 11 (dk_at dksX0_isNote_0 3 rfl rfl)
theorem dX0_isNote_6 : decode cX0_isNote 6 = .ok (.invokestatic 3, 3) := dk_184 0 3 (dk_at dksX0_isNote_0 6 rfl rfl)
theorem dX0_isNote_9 : decode cX0_isNote 9 = .ok (.ireturn, 1) := dk_172 (dk_at dksX0_isNote_0 9 rfl rfl)
abbrev cX0_breath : ByteArray := prog_1_method_16_code
def yX0_breath : MethodName := ⟨RX0, "breath", "(II)I"⟩
def dkwX0_breath_3 : List UInt8 := [180, 0, 38, 180, 0, 130, 27, 46, 79, 29, 172]
abbrev dktX0_breath_3 : List UInt8 := dkwX0_breath_3 ++ []
def dkwX0_breath_2 : List UInt8 := [180, 0, 124, 27, 28, 79, 42, 180, 0, 38, 180, 0, 130, 27, 28, 154, 0, 8, 16, 250, 167, 0, 12, 42]
abbrev dktX0_breath_2 : List UInt8 := dkwX0_breath_2 ++ dktX0_breath_3
def dkwX0_breath_1 : List UInt8 := [184, 0, 3, 154, 0, 6, 16, 254, 172, 42, 180, 0, 38, 180, 0, 124, 27, 46, 62, 42, 180, 0, 38]
abbrev dktX0_breath_1 : List UInt8 := dkwX0_breath_1 ++ dktX0_breath_2
def dkwX0_breath_0 : List UInt8 := [42, 27, 182, 0, 133, 154, 0, 5, 2, 172, 28, 133, 9, 42, 180, 0, 38, 180, 0, 121, 27, 46, 133]
abbrev dktX0_breath_0 : List UInt8 := dkwX0_breath_0 ++ dktX0_breath_1
theorem dksX0_breath_0 : cX0_breath.data.toList.drop 0 = dktX0_breath_0 := by decide +kernel
theorem dksX0_breath_1 : cX0_breath.data.toList.drop 23 = dktX0_breath_1 := dk_seg dksX0_breath_0 23 rfl rfl
theorem dksX0_breath_2 : cX0_breath.data.toList.drop 46 = dktX0_breath_2 := dk_seg dksX0_breath_1 23 rfl rfl
theorem dksX0_breath_3 : cX0_breath.data.toList.drop 70 = dktX0_breath_3 := dk_seg dksX0_breath_2 24 rfl rfl
theorem dX0_breath_0 : decode cX0_breath 0 = .ok (.aload_n 0, 1) := dk_42 (dk_at dksX0_breath_0 0 rfl rfl)
theorem dX0_breath_1 : decode cX0_breath 1 = .ok (.iload_n 1, 1) := dk_27 (dk_at dksX0_breath_0 1 rfl rfl)
theorem dX0_breath_2 : decode cX0_breath 2 = .ok (.invokevirtual 133, 3) := dk_182 0 133 (dk_at dksX0_breath_0 2 rfl rfl)
theorem dX0_breath_5 : decode cX0_breath 5 = .ok (.ifCond .ne 5, 3) := dk_154 0 5 (dk_at dksX0_breath_0 5 rfl rfl)
theorem dX0_breath_8 : decode cX0_breath 8 = .ok (.iconst (-1), 1) := dk_2 (dk_at dksX0_breath_0 8 rfl rfl)
theorem dX0_breath_9 : decode cX0_breath 9 = .ok (.ireturn, 1) := dk_172 (dk_at dksX0_breath_0 9 rfl rfl)
theorem dX0_breath_10 : decode cX0_breath 10 = .ok (.iload_n 2, 1) := dk_28 (dk_at dksX0_breath_0 10 rfl rfl)
theorem dX0_breath_11 : decode cX0_breath 11 = .ok (.i2l, 1) := dk_133 (dk_at dksX0_breath_0 11 rfl rfl)
theorem dX0_breath_12 : decode cX0_breath 12 = .ok (.lconst 0, 1) := dk_9 (dk_at dksX0_breath_0 12 rfl rfl)
theorem dX0_breath_13 : decode cX0_breath 13 = .ok (.aload_n 0, 1) := dk_42 (dk_at dksX0_breath_0 13 rfl rfl)
theorem dX0_breath_14 : decode cX0_breath 14 = .ok (.getfield 38, 3) := dk_180 0 38 (dk_at dksX0_breath_0 14 rfl rfl)
theorem dX0_breath_17 : decode cX0_breath 17 = .ok (.getfield 121, 3) := dk_180 0 121 (dk_at dksX0_breath_0 17 rfl rfl)
theorem dX0_breath_20 : decode cX0_breath 20 = .ok (.iload_n 1, 1) := dk_27 (dk_at dksX0_breath_0 20 rfl rfl)
theorem dX0_breath_21 : decode cX0_breath 21 = .ok (.iaload, 1) := dk_46 (dk_at dksX0_breath_0 21 rfl rfl)
theorem dX0_breath_22 : decode cX0_breath 22 = .ok (.i2l, 1) := dk_133 (dk_at dksX0_breath_0 22 rfl rfl)
theorem dX0_breath_23 : decode cX0_breath 23 = .ok (.invokestatic 3, 3) := dk_184 0 3 (dk_at dksX0_breath_1 0 rfl rfl)
theorem dX0_breath_26 : decode cX0_breath 26 = .ok (.ifCond .ne 6, 3) := dk_154 0 6 (dk_at dksX0_breath_1 3 rfl rfl)
theorem dX0_breath_29 : decode cX0_breath 29 = .ok (.bipush (-2), 2) := dk_16 254 (dk_at dksX0_breath_1 6 rfl rfl)
theorem dX0_breath_31 : decode cX0_breath 31 = .ok (.ireturn, 1) := dk_172 (dk_at dksX0_breath_1 8 rfl rfl)
theorem dX0_breath_32 : decode cX0_breath 32 = .ok (.aload_n 0, 1) := dk_42 (dk_at dksX0_breath_1 9 rfl rfl)
theorem dX0_breath_33 : decode cX0_breath 33 = .ok (.getfield 38, 3) := dk_180 0 38 (dk_at dksX0_breath_1 10 rfl rfl)
theorem dX0_breath_36 : decode cX0_breath 36 = .ok (.getfield 124, 3) := dk_180 0 124 (dk_at dksX0_breath_1 13 rfl rfl)
theorem dX0_breath_39 : decode cX0_breath 39 = .ok (.iload_n 1, 1) := dk_27 (dk_at dksX0_breath_1 16 rfl rfl)
theorem dX0_breath_40 : decode cX0_breath 40 = .ok (.iaload, 1) := dk_46 (dk_at dksX0_breath_1 17 rfl rfl)
theorem dX0_breath_41 : decode cX0_breath 41 = .ok (.istore_n 3, 1) := dk_62 (dk_at dksX0_breath_1 18 rfl rfl)
theorem dX0_breath_42 : decode cX0_breath 42 = .ok (.aload_n 0, 1) := dk_42 (dk_at dksX0_breath_1 19 rfl rfl)
theorem dX0_breath_43 : decode cX0_breath 43 = .ok (.getfield 38, 3) := dk_180 0 38 (dk_at dksX0_breath_1 20 rfl rfl)
theorem dX0_breath_46 : decode cX0_breath 46 = .ok (.getfield 124, 3) := dk_180 0 124 (dk_at dksX0_breath_2 0 rfl rfl)
theorem dX0_breath_49 : decode cX0_breath 49 = .ok (.iload_n 1, 1) := dk_27 (dk_at dksX0_breath_2 3 rfl rfl)
theorem dX0_breath_50 : decode cX0_breath 50 = .ok (.iload_n 2, 1) := dk_28 (dk_at dksX0_breath_2 4 rfl rfl)
theorem dX0_breath_51 : decode cX0_breath 51 = .ok (.iastore, 1) := dk_79 (dk_at dksX0_breath_2 5 rfl rfl)
theorem dX0_breath_52 : decode cX0_breath 52 = .ok (.aload_n 0, 1) := dk_42 (dk_at dksX0_breath_2 6 rfl rfl)
theorem dX0_breath_53 : decode cX0_breath 53 = .ok (.getfield 38, 3) := dk_180 0 38 (dk_at dksX0_breath_2 7 rfl rfl)
theorem dX0_breath_56 : decode cX0_breath 56 = .ok (.getfield 130, 3) := dk_180 0 130 (dk_at dksX0_breath_2 10 rfl rfl)
theorem dX0_breath_59 : decode cX0_breath 59 = .ok (.iload_n 1, 1) := dk_27 (dk_at dksX0_breath_2 13 rfl rfl)
theorem dX0_breath_60 : decode cX0_breath 60 = .ok (.iload_n 2, 1) := dk_28 (dk_at dksX0_breath_2 14 rfl rfl)
theorem dX0_breath_61 : decode cX0_breath 61 = .ok (.ifCond .ne 8, 3) := dk_154 0 8 (dk_at dksX0_breath_2 15 rfl rfl)
theorem dX0_breath_64 : decode cX0_breath 64 = .ok (.bipush (-6), 2) := dk_16 250 (dk_at dksX0_breath_2 18 rfl rfl)
theorem dX0_breath_66 : decode cX0_breath 66 = .ok (.goto 12, 3) := dk_167 0 12 (dk_at dksX0_breath_2 20 rfl rfl)
theorem dX0_breath_69 : decode cX0_breath 69 = .ok (.aload_n 0, 1) := dk_42 (dk_at dksX0_breath_2 23 rfl rfl)
theorem dX0_breath_70 : decode cX0_breath 70 = .ok (.getfield 38, 3) := dk_180 0 38 (dk_at dksX0_breath_3 0 rfl rfl)
theorem dX0_breath_73 : decode cX0_breath 73 = .ok (.getfield 130, 3) := dk_180 0 130 (dk_at dksX0_breath_3 3 rfl rfl)
theorem dX0_breath_76 : decode cX0_breath 76 = .ok (.iload_n 1, 1) := dk_27 (dk_at dksX0_breath_3 6 rfl rfl)
theorem dX0_breath_77 : decode cX0_breath 77 = .ok (.iaload, 1) := dk_46 (dk_at dksX0_breath_3 7 rfl rfl)
theorem dX0_breath_78 : decode cX0_breath 78 = .ok (.iastore, 1) := dk_79 (dk_at dksX0_breath_3 8 rfl rfl)
theorem dX0_breath_79 : decode cX0_breath 79 = .ok (.iload_n 3, 1) := dk_29 (dk_at dksX0_breath_3 9 rfl rfl)
theorem dX0_breath_80 : decode cX0_breath 80 = .ok (.ireturn, 1) := dk_172 (dk_at dksX0_breath_3 10 rfl rfl)
abbrev cX0_isHere : ByteArray := prog_1_method_12_code
def yX0_isHere : MethodName := ⟨RX0, "isHere", "(I)Z"⟩
def dkwX0_isHere_0 : List UInt8 := [27, 184, 0, 78, 153, 0, 18, 42, 180, 0, 38, 27, 182, 0, 82, 153, 0, 7, 4, 167, 0, 4, 3, 172]
abbrev dktX0_isHere_0 : List UInt8 := dkwX0_isHere_0 ++ []
theorem dksX0_isHere_0 : cX0_isHere.data.toList.drop 0 = dktX0_isHere_0 := by decide +kernel
theorem dX0_isHere_0 : decode cX0_isHere 0 = .ok (.iload_n 1, 1) := dk_27 (dk_at dksX0_isHere_0 0 rfl rfl)
theorem dX0_isHere_1 : decode cX0_isHere 1 = .ok (.invokestatic 78, 3) := dk_184 0 78 (dk_at dksX0_isHere_0 1 rfl rfl)
theorem dX0_isHere_4 : decode cX0_isHere 4 = .ok (.ifCond .eq 18, 3) := dk_153 0 18 (dk_at dksX0_isHere_0 4 rfl rfl)
theorem dX0_isHere_7 : decode cX0_isHere 7 = .ok (.aload_n 0, 1) := dk_42 (dk_at dksX0_isHere_0 7 rfl rfl)
theorem dX0_isHere_8 : decode cX0_isHere 8 = .ok (.getfield 38, 3) := dk_180 0 38 (dk_at dksX0_isHere_0 8 rfl rfl)
theorem dX0_isHere_11 : decode cX0_isHere 11 = .ok (.iload_n 1, 1) := dk_27 (dk_at dksX0_isHere_0 11 rfl rfl)
theorem dX0_isHere_12 : decode cX0_isHere 12 = .ok (.invokevirtual 82, 3) := dk_182 0 82 (dk_at dksX0_isHere_0 12 rfl rfl)
theorem dX0_isHere_15 : decode cX0_isHere 15 = .ok (.ifCond .eq 7, 3) := dk_153 0 7 (dk_at dksX0_isHere_0 15 rfl rfl)
theorem dX0_isHere_18 : decode cX0_isHere 18 = .ok (.iconst 1, 1) := dk_4 (dk_at dksX0_isHere_0 18 rfl rfl)
theorem dX0_isHere_19 : decode cX0_isHere 19 = .ok (.goto 4, 3) := dk_167 0 4 (dk_at dksX0_isHere_0 19 rfl rfl)
theorem dX0_isHere_22 : decode cX0_isHere 22 = .ok (.iconst 0, 1) := dk_3 (dk_at dksX0_isHere_0 22 rfl rfl)
theorem dX0_isHere_23 : decode cX0_isHere 23 = .ok (.ireturn, 1) := dk_172 (dk_at dksX0_isHere_0 23 rfl rfl)
abbrev cX0_holds : ByteArray := prog_1_method_6_code
def yX0_holds : MethodName := ⟨RX0, "holds", "(II)Z"⟩
def dkwX0_holds_0 : List UInt8 := [26, 27, 122, 4, 126, 4, 160, 0, 7, 4, 167, 0, 4, 3, 172]
abbrev dktX0_holds_0 : List UInt8 := dkwX0_holds_0 ++ []
theorem dksX0_holds_0 : cX0_holds.data.toList.drop 0 = dktX0_holds_0 := by decide +kernel
theorem dX0_holds_0 : decode cX0_holds 0 = .ok (.iload_n 0, 1) := dk_26 (dk_at dksX0_holds_0 0 rfl rfl)
theorem dX0_holds_1 : decode cX0_holds 1 = .ok (.iload_n 1, 1) := dk_27 (dk_at dksX0_holds_0 1 rfl rfl)
theorem dX0_holds_2 : decode cX0_holds 2 = .ok (.ishr, 1) := dk_122 (dk_at dksX0_holds_0 2 rfl rfl)
theorem dX0_holds_3 : decode cX0_holds 3 = .ok (.iconst 1, 1) := dk_4 (dk_at dksX0_holds_0 3 rfl rfl)
theorem dX0_holds_4 : decode cX0_holds 4 = .ok (.iand, 1) := dk_126 (dk_at dksX0_holds_0 4 rfl rfl)
theorem dX0_holds_5 : decode cX0_holds 5 = .ok (.iconst 1, 1) := dk_4 (dk_at dksX0_holds_0 5 rfl rfl)
theorem dX0_holds_6 : decode cX0_holds 6 = .ok (.if_icmp .ne 7, 3) := dk_160 0 7 (dk_at dksX0_holds_0 6 rfl rfl)
theorem dX0_holds_9 : decode cX0_holds 9 = .ok (.iconst 1, 1) := dk_4 (dk_at dksX0_holds_0 9 rfl rfl)
theorem dX0_holds_10 : decode cX0_holds 10 = .ok (.goto 4, 3) := dk_167 0 4 (dk_at dksX0_holds_0 10 rfl rfl)
theorem dX0_holds_13 : decode cX0_holds 13 = .ok (.iconst 0, 1) := dk_3 (dk_at dksX0_holds_0 13 rfl rfl)
theorem dX0_holds_14 : decode cX0_holds 14 = .ok (.ireturn, 1) := dk_172 (dk_at dksX0_holds_0 14 rfl rfl)
abbrev cX0_leave : ByteArray := prog_1_method_17_code
def yX0_leave : MethodName := ⟨RX0, "leave", "(I)I"⟩
def dkwX0_leave_2 : List UInt8 := [184, 0, 95, 172]
abbrev dktX0_leave_2 : List UInt8 := dkwX0_leave_2 ++ []
def dkwX0_leave_1 : List UInt8 := [184, 0, 91, 181, 0, 112, 42, 180, 0, 38, 180, 0, 130, 27, 16, 250, 79, 42, 180, 0, 38, 180, 0, 112]
abbrev dktX0_leave_1 : List UInt8 := dkwX0_leave_1 ++ dktX0_leave_2
def dkwX0_leave_0 : List UInt8 := [42, 27, 182, 0, 133, 154, 0, 5, 2, 172, 42, 180, 0, 38, 42, 180, 0, 38, 180, 0, 112, 27, 3]
abbrev dktX0_leave_0 : List UInt8 := dkwX0_leave_0 ++ dktX0_leave_1
theorem dksX0_leave_0 : cX0_leave.data.toList.drop 0 = dktX0_leave_0 := by decide +kernel
theorem dksX0_leave_1 : cX0_leave.data.toList.drop 23 = dktX0_leave_1 := dk_seg dksX0_leave_0 23 rfl rfl
theorem dksX0_leave_2 : cX0_leave.data.toList.drop 47 = dktX0_leave_2 := dk_seg dksX0_leave_1 24 rfl rfl
theorem dX0_leave_0 : decode cX0_leave 0 = .ok (.aload_n 0, 1) := dk_42 (dk_at dksX0_leave_0 0 rfl rfl)
theorem dX0_leave_1 : decode cX0_leave 1 = .ok (.iload_n 1, 1) := dk_27 (dk_at dksX0_leave_0 1 rfl rfl)
theorem dX0_leave_2 : decode cX0_leave 2 = .ok (.invokevirtual 133, 3) := dk_182 0 133 (dk_at dksX0_leave_0 2 rfl rfl)
theorem dX0_leave_5 : decode cX0_leave 5 = .ok (.ifCond .ne 5, 3) := dk_154 0 5 (dk_at dksX0_leave_0 5 rfl rfl)
theorem dX0_leave_8 : decode cX0_leave 8 = .ok (.iconst (-1), 1) := dk_2 (dk_at dksX0_leave_0 8 rfl rfl)
theorem dX0_leave_9 : decode cX0_leave 9 = .ok (.ireturn, 1) := dk_172 (dk_at dksX0_leave_0 9 rfl rfl)
theorem dX0_leave_10 : decode cX0_leave 10 = .ok (.aload_n 0, 1) := dk_42 (dk_at dksX0_leave_0 10 rfl rfl)
theorem dX0_leave_11 : decode cX0_leave 11 = .ok (.getfield 38, 3) := dk_180 0 38 (dk_at dksX0_leave_0 11 rfl rfl)
theorem dX0_leave_14 : decode cX0_leave 14 = .ok (.aload_n 0, 1) := dk_42 (dk_at dksX0_leave_0 14 rfl rfl)
theorem dX0_leave_15 : decode cX0_leave 15 = .ok (.getfield 38, 3) := dk_180 0 38 (dk_at dksX0_leave_0 15 rfl rfl)
theorem dX0_leave_18 : decode cX0_leave 18 = .ok (.getfield 112, 3) := dk_180 0 112 (dk_at dksX0_leave_0 18 rfl rfl)
theorem dX0_leave_21 : decode cX0_leave 21 = .ok (.iload_n 1, 1) := dk_27 (dk_at dksX0_leave_0 21 rfl rfl)
theorem dX0_leave_22 : decode cX0_leave 22 = .ok (.iconst 0, 1) := dk_3 (dk_at dksX0_leave_0 22 rfl rfl)
theorem dX0_leave_23 : decode cX0_leave 23 = .ok (.invokestatic 91, 3) := dk_184 0 91 (dk_at dksX0_leave_1 0 rfl rfl)
theorem dX0_leave_26 : decode cX0_leave 26 = .ok (.putfield 112, 3) := dk_181 0 112 (dk_at dksX0_leave_1 3 rfl rfl)
theorem dX0_leave_29 : decode cX0_leave 29 = .ok (.aload_n 0, 1) := dk_42 (dk_at dksX0_leave_1 6 rfl rfl)
theorem dX0_leave_30 : decode cX0_leave 30 = .ok (.getfield 38, 3) := dk_180 0 38 (dk_at dksX0_leave_1 7 rfl rfl)
theorem dX0_leave_33 : decode cX0_leave 33 = .ok (.getfield 130, 3) := dk_180 0 130 (dk_at dksX0_leave_1 10 rfl rfl)
theorem dX0_leave_36 : decode cX0_leave 36 = .ok (.iload_n 1, 1) := dk_27 (dk_at dksX0_leave_1 13 rfl rfl)
theorem dX0_leave_37 : decode cX0_leave 37 = .ok (.bipush (-6), 2) := dk_16 250 (dk_at dksX0_leave_1 14 rfl rfl)
theorem dX0_leave_39 : decode cX0_leave 39 = .ok (.iastore, 1) := dk_79 (dk_at dksX0_leave_1 16 rfl rfl)
theorem dX0_leave_40 : decode cX0_leave 40 = .ok (.aload_n 0, 1) := dk_42 (dk_at dksX0_leave_1 17 rfl rfl)
theorem dX0_leave_41 : decode cX0_leave 41 = .ok (.getfield 38, 3) := dk_180 0 38 (dk_at dksX0_leave_1 18 rfl rfl)
theorem dX0_leave_44 : decode cX0_leave 44 = .ok (.getfield 112, 3) := dk_180 0 112 (dk_at dksX0_leave_1 21 rfl rfl)
theorem dX0_leave_47 : decode cX0_leave 47 = .ok (.invokestatic 95, 3) := dk_184 0 95 (dk_at dksX0_leave_2 0 rfl rfl)
theorem dX0_leave_50 : decode cX0_leave 50 = .ok (.ireturn, 1) := dk_172 (dk_at dksX0_leave_2 3 rfl rfl)
abbrev cX0_say : ByteArray := prog_1_method_18_code
def yX0_say : MethodName := ⟨RX0, "say", "(I)I"⟩
def dkwX0_say_2 : List UInt8 := [181, 0, 140, 42, 180, 0, 140, 172]
abbrev dktX0_say_2 : List UInt8 := dkwX0_say_2 ++ []
def dkwX0_say_1 : List UInt8 := [160, 0, 6, 16, 252, 172, 42, 180, 0, 49, 42, 180, 0, 140, 27, 146, 85, 42, 89, 180, 0, 140, 4, 96]
abbrev dktX0_say_1 : List UInt8 := dkwX0_say_1 ++ dktX0_say_2
def dkwX0_say_0 : List UInt8 := [27, 133, 20, 0, 136, 20, 0, 138, 184, 0, 3, 154, 0, 6, 16, 254, 172, 42, 180, 0, 140, 16, 60]
abbrev dktX0_say_0 : List UInt8 := dkwX0_say_0 ++ dktX0_say_1
theorem dksX0_say_0 : cX0_say.data.toList.drop 0 = dktX0_say_0 := by decide +kernel
theorem dksX0_say_1 : cX0_say.data.toList.drop 23 = dktX0_say_1 := dk_seg dksX0_say_0 23 rfl rfl
theorem dksX0_say_2 : cX0_say.data.toList.drop 47 = dktX0_say_2 := dk_seg dksX0_say_1 24 rfl rfl
theorem dX0_say_0 : decode cX0_say 0 = .ok (.iload_n 1, 1) := dk_27 (dk_at dksX0_say_0 0 rfl rfl)
theorem dX0_say_1 : decode cX0_say 1 = .ok (.i2l, 1) := dk_133 (dk_at dksX0_say_0 1 rfl rfl)
theorem dX0_say_2 : decode cX0_say 2 = .ok (.ldc2_w 136, 3) := dk_20 0 136 (dk_at dksX0_say_0 2 rfl rfl)
theorem dX0_say_5 : decode cX0_say 5 = .ok (.ldc2_w 138, 3) := dk_20 0 138 (dk_at dksX0_say_0 5 rfl rfl)
theorem dX0_say_8 : decode cX0_say 8 = .ok (.invokestatic 3, 3) := dk_184 0 3 (dk_at dksX0_say_0 8 rfl rfl)
theorem dX0_say_11 : decode cX0_say 11 = .ok (.ifCond .ne 6, 3) := dk_154 0 6 (dk_at dksX0_say_0 11 rfl rfl)
theorem dX0_say_14 : decode cX0_say 14 = .ok (.bipush (-2), 2) := dk_16 254 (dk_at dksX0_say_0 14 rfl rfl)
theorem dX0_say_16 : decode cX0_say 16 = .ok (.ireturn, 1) := dk_172 (dk_at dksX0_say_0 16 rfl rfl)
theorem dX0_say_17 : decode cX0_say 17 = .ok (.aload_n 0, 1) := dk_42 (dk_at dksX0_say_0 17 rfl rfl)
theorem dX0_say_18 : decode cX0_say 18 = .ok (.getfield 140, 3) := dk_180 0 140 (dk_at dksX0_say_0 18 rfl rfl)
theorem dX0_say_21 : decode cX0_say 21 = .ok (.bipush 60, 2) := dk_16 60 (dk_at dksX0_say_0 21 rfl rfl)
theorem dX0_say_23 : decode cX0_say 23 = .ok (.if_icmp .ne 6, 3) := dk_160 0 6 (dk_at dksX0_say_1 0 rfl rfl)
theorem dX0_say_26 : decode cX0_say 26 = .ok (.bipush (-4), 2) := dk_16 252 (dk_at dksX0_say_1 3 rfl rfl)
theorem dX0_say_28 : decode cX0_say 28 = .ok (.ireturn, 1) := dk_172 (dk_at dksX0_say_1 5 rfl rfl)
theorem dX0_say_29 : decode cX0_say 29 = .ok (.aload_n 0, 1) := dk_42 (dk_at dksX0_say_1 6 rfl rfl)
theorem dX0_say_30 : decode cX0_say 30 = .ok (.getfield 49, 3) := dk_180 0 49 (dk_at dksX0_say_1 7 rfl rfl)
theorem dX0_say_33 : decode cX0_say 33 = .ok (.aload_n 0, 1) := dk_42 (dk_at dksX0_say_1 10 rfl rfl)
theorem dX0_say_34 : decode cX0_say 34 = .ok (.getfield 140, 3) := dk_180 0 140 (dk_at dksX0_say_1 11 rfl rfl)
theorem dX0_say_37 : decode cX0_say 37 = .ok (.iload_n 1, 1) := dk_27 (dk_at dksX0_say_1 14 rfl rfl)
theorem dX0_say_38 : decode cX0_say 38 = .ok (.i2c, 1) := dk_146 (dk_at dksX0_say_1 15 rfl rfl)
theorem dX0_say_39 : decode cX0_say 39 = .ok (.castore, 1) := dk_85 (dk_at dksX0_say_1 16 rfl rfl)
theorem dX0_say_40 : decode cX0_say 40 = .ok (.aload_n 0, 1) := dk_42 (dk_at dksX0_say_1 17 rfl rfl)
theorem dX0_say_41 : decode cX0_say 41 = .ok (.dup, 1) := dk_89 (dk_at dksX0_say_1 18 rfl rfl)
theorem dX0_say_42 : decode cX0_say 42 = .ok (.getfield 140, 3) := dk_180 0 140 (dk_at dksX0_say_1 19 rfl rfl)
theorem dX0_say_45 : decode cX0_say 45 = .ok (.iconst 1, 1) := dk_4 (dk_at dksX0_say_1 22 rfl rfl)
theorem dX0_say_46 : decode cX0_say 46 = .ok (.iadd, 1) := dk_96 (dk_at dksX0_say_1 23 rfl rfl)
theorem dX0_say_47 : decode cX0_say 47 = .ok (.putfield 140, 3) := dk_181 0 140 (dk_at dksX0_say_2 0 rfl rfl)
theorem dX0_say_50 : decode cX0_say 50 = .ok (.aload_n 0, 1) := dk_42 (dk_at dksX0_say_2 3 rfl rfl)
theorem dX0_say_51 : decode cX0_say 51 = .ok (.getfield 140, 3) := dk_180 0 140 (dk_at dksX0_say_2 4 rfl rfl)
theorem dX0_say_54 : decode cX0_say 54 = .ok (.ireturn, 1) := dk_172 (dk_at dksX0_say_2 7 rfl rfl)
abbrev cX0_wipe : ByteArray := prog_1_method_19_code
def yX0_wipe : MethodName := ⟨RX0, "wipe", "()I"⟩
def dkwX0_wipe_0 : List UInt8 := [42, 180, 0, 140, 60, 42, 3, 181, 0, 140, 27, 172]
abbrev dktX0_wipe_0 : List UInt8 := dkwX0_wipe_0 ++ []
theorem dksX0_wipe_0 : cX0_wipe.data.toList.drop 0 = dktX0_wipe_0 := by decide +kernel
theorem dX0_wipe_0 : decode cX0_wipe 0 = .ok (.aload_n 0, 1) := dk_42 (dk_at dksX0_wipe_0 0 rfl rfl)
theorem dX0_wipe_1 : decode cX0_wipe 1 = .ok (.getfield 140, 3) := dk_180 0 140 (dk_at dksX0_wipe_0 1 rfl rfl)
theorem dX0_wipe_4 : decode cX0_wipe 4 = .ok (.istore_n 1, 1) := dk_60 (dk_at dksX0_wipe_0 4 rfl rfl)
theorem dX0_wipe_5 : decode cX0_wipe 5 = .ok (.aload_n 0, 1) := dk_42 (dk_at dksX0_wipe_0 5 rfl rfl)
theorem dX0_wipe_6 : decode cX0_wipe 6 = .ok (.iconst 0, 1) := dk_3 (dk_at dksX0_wipe_0 6 rfl rfl)
theorem dX0_wipe_7 : decode cX0_wipe 7 = .ok (.putfield 140, 3) := dk_181 0 140 (dk_at dksX0_wipe_0 7 rfl rfl)
theorem dX0_wipe_10 : decode cX0_wipe 10 = .ok (.iload_n 1, 1) := dk_27 (dk_at dksX0_wipe_0 10 rfl rfl)
theorem dX0_wipe_11 : decode cX0_wipe 11 = .ok (.ireturn, 1) := dk_172 (dk_at dksX0_wipe_0 11 rfl rfl)
abbrev cX0_fault : ByteArray := prog_1_method_24_code
def yX0_fault : MethodName := ⟨RX0, "fault", "()I"⟩
def dkwX0_fault_2 : List UInt8 := [154, 0, 8, 16, 250, 167, 0, 7, 42, 180, 0, 140, 172]
abbrev dktX0_fault_2 : List UInt8 := dkwX0_fault_2 ++ []
def dkwX0_fault_1 : List UInt8 := [180, 0, 49, 27, 52, 182, 0, 160, 154, 0, 5, 27, 172, 132, 1, 1, 167, 255, 230, 42, 180, 0, 146]
abbrev dktX0_fault_1 : List UInt8 := dkwX0_fault_1 ++ dktX0_fault_2
def dkwX0_fault_0 : List UInt8 := [42, 3, 181, 0, 143, 42, 3, 181, 0, 146, 3, 60, 27, 42, 180, 0, 140, 162, 0, 24, 42, 42]
abbrev dktX0_fault_0 : List UInt8 := dkwX0_fault_0 ++ dktX0_fault_1
theorem dksX0_fault_0 : cX0_fault.data.toList.drop 0 = dktX0_fault_0 := by decide +kernel
theorem dksX0_fault_1 : cX0_fault.data.toList.drop 22 = dktX0_fault_1 := dk_seg dksX0_fault_0 22 rfl rfl
theorem dksX0_fault_2 : cX0_fault.data.toList.drop 45 = dktX0_fault_2 := dk_seg dksX0_fault_1 23 rfl rfl
theorem dX0_fault_0 : decode cX0_fault 0 = .ok (.aload_n 0, 1) := dk_42 (dk_at dksX0_fault_0 0 rfl rfl)
theorem dX0_fault_1 : decode cX0_fault 1 = .ok (.iconst 0, 1) := dk_3 (dk_at dksX0_fault_0 1 rfl rfl)
theorem dX0_fault_2 : decode cX0_fault 2 = .ok (.putfield 143, 3) := dk_181 0 143 (dk_at dksX0_fault_0 2 rfl rfl)
theorem dX0_fault_5 : decode cX0_fault 5 = .ok (.aload_n 0, 1) := dk_42 (dk_at dksX0_fault_0 5 rfl rfl)
theorem dX0_fault_6 : decode cX0_fault 6 = .ok (.iconst 0, 1) := dk_3 (dk_at dksX0_fault_0 6 rfl rfl)
theorem dX0_fault_7 : decode cX0_fault 7 = .ok (.putfield 146, 3) := dk_181 0 146 (dk_at dksX0_fault_0 7 rfl rfl)
theorem dX0_fault_10 : decode cX0_fault 10 = .ok (.iconst 0, 1) := dk_3 (dk_at dksX0_fault_0 10 rfl rfl)
theorem dX0_fault_11 : decode cX0_fault 11 = .ok (.istore_n 1, 1) := dk_60 (dk_at dksX0_fault_0 11 rfl rfl)
theorem dX0_fault_12 : decode cX0_fault 12 = .ok (.iload_n 1, 1) := dk_27 (dk_at dksX0_fault_0 12 rfl rfl)
theorem dX0_fault_13 : decode cX0_fault 13 = .ok (.aload_n 0, 1) := dk_42 (dk_at dksX0_fault_0 13 rfl rfl)
theorem dX0_fault_14 : decode cX0_fault 14 = .ok (.getfield 140, 3) := dk_180 0 140 (dk_at dksX0_fault_0 14 rfl rfl)
theorem dX0_fault_17 : decode cX0_fault 17 = .ok (.if_icmp .ge 24, 3) := dk_162 0 24 (dk_at dksX0_fault_0 17 rfl rfl)
theorem dX0_fault_20 : decode cX0_fault 20 = .ok (.aload_n 0, 1) := dk_42 (dk_at dksX0_fault_0 20 rfl rfl)
theorem dX0_fault_21 : decode cX0_fault 21 = .ok (.aload_n 0, 1) := dk_42 (dk_at dksX0_fault_0 21 rfl rfl)
theorem dX0_fault_22 : decode cX0_fault 22 = .ok (.getfield 49, 3) := dk_180 0 49 (dk_at dksX0_fault_1 0 rfl rfl)
theorem dX0_fault_25 : decode cX0_fault 25 = .ok (.iload_n 1, 1) := dk_27 (dk_at dksX0_fault_1 3 rfl rfl)
theorem dX0_fault_26 : decode cX0_fault 26 = .ok (.caload, 1) := dk_52 (dk_at dksX0_fault_1 4 rfl rfl)
theorem dX0_fault_27 : decode cX0_fault 27 = .ok (.invokevirtual 160, 3) := dk_182 0 160 (dk_at dksX0_fault_1 5 rfl rfl)
theorem dX0_fault_30 : decode cX0_fault 30 = .ok (.ifCond .ne 5, 3) := dk_154 0 5 (dk_at dksX0_fault_1 8 rfl rfl)
theorem dX0_fault_33 : decode cX0_fault 33 = .ok (.iload_n 1, 1) := dk_27 (dk_at dksX0_fault_1 11 rfl rfl)
theorem dX0_fault_34 : decode cX0_fault 34 = .ok (.ireturn, 1) := dk_172 (dk_at dksX0_fault_1 12 rfl rfl)
theorem dX0_fault_35 : decode cX0_fault 35 = .ok (.iinc 1 1, 3) := dk_132 1 1 (dk_at dksX0_fault_1 13 rfl rfl)
theorem dX0_fault_38 : decode cX0_fault 38 = .ok (.goto (-26), 3) := dk_167 255 230 (dk_at dksX0_fault_1 16 rfl rfl)
theorem dX0_fault_41 : decode cX0_fault 41 = .ok (.aload_n 0, 1) := dk_42 (dk_at dksX0_fault_1 19 rfl rfl)
theorem dX0_fault_42 : decode cX0_fault 42 = .ok (.getfield 146, 3) := dk_180 0 146 (dk_at dksX0_fault_1 20 rfl rfl)
theorem dX0_fault_45 : decode cX0_fault 45 = .ok (.ifCond .ne 8, 3) := dk_154 0 8 (dk_at dksX0_fault_2 0 rfl rfl)
theorem dX0_fault_48 : decode cX0_fault 48 = .ok (.bipush (-6), 2) := dk_16 250 (dk_at dksX0_fault_2 3 rfl rfl)
theorem dX0_fault_50 : decode cX0_fault 50 = .ok (.goto 7, 3) := dk_167 0 7 (dk_at dksX0_fault_2 5 rfl rfl)
theorem dX0_fault_53 : decode cX0_fault 53 = .ok (.aload_n 0, 1) := dk_42 (dk_at dksX0_fault_2 8 rfl rfl)
theorem dX0_fault_54 : decode cX0_fault 54 = .ok (.getfield 140, 3) := dk_180 0 140 (dk_at dksX0_fault_2 9 rfl rfl)
theorem dX0_fault_57 : decode cX0_fault 57 = .ok (.ireturn, 1) := dk_172 (dk_at dksX0_fault_2 12 rfl rfl)
abbrev cX0_reads : ByteArray := prog_1_method_23_code
def yX0_reads : MethodName := ⟨RX0, "reads", "(C)Z"⟩
def dkwX0_reads_3 : List UInt8 := [184, 0, 85, 182, 0, 149, 172, 42, 6, 27, 16, 48, 100, 27, 16, 48, 100, 184, 0, 85, 182, 0, 149, 172]
abbrev dktX0_reads_3 : List UInt8 := dkwX0_reads_3 ++ []
def dkwX0_reads_2 : List UInt8 := [42, 27, 182, 0, 153, 172, 42, 27, 182, 0, 157, 172, 42, 5, 27, 16, 48, 100, 27, 16, 48, 100]
abbrev dktX0_reads_2 : List UInt8 := dkwX0_reads_2 ++ dktX0_reads_3
def dkwX0_reads_1 : List UInt8 := [170, 0, 0, 0, 0, 0, 0, 57, 0, 0, 0, 0, 0, 0, 0, 2, 0, 0, 0, 28, 0, 0, 0, 34, 0, 0, 0, 40]
abbrev dktX0_reads_1 : List UInt8 := dkwX0_reads_1 ++ dktX0_reads_2
def dkwX0_reads_0 : List UInt8 := [42, 180, 0, 146]
abbrev dktX0_reads_0 : List UInt8 := dkwX0_reads_0 ++ dktX0_reads_1
theorem dksX0_reads_0 : cX0_reads.data.toList.drop 0 = dktX0_reads_0 := by decide +kernel
theorem dksX0_reads_1 : cX0_reads.data.toList.drop 4 = dktX0_reads_1 := dk_seg dksX0_reads_0 4 rfl rfl
theorem dksX0_reads_2 : cX0_reads.data.toList.drop 32 = dktX0_reads_2 := dk_seg dksX0_reads_1 28 rfl rfl
theorem dksX0_reads_3 : cX0_reads.data.toList.drop 54 = dktX0_reads_3 := dk_seg dksX0_reads_2 22 rfl rfl
theorem dX0_reads_0 : decode cX0_reads 0 = .ok (.aload_n 0, 1) := dk_42 (dk_at dksX0_reads_0 0 rfl rfl)
theorem dX0_reads_1 : decode cX0_reads 1 = .ok (.getfield 146, 3) := dk_180 0 146 (dk_at dksX0_reads_0 1 rfl rfl)
theorem dX0_reads_4 : decode cX0_reads 4 = .ok (.tableswitch 57 0 2 #[28, 34, 40], 28) := by decide +kernel
theorem dX0_reads_32 : decode cX0_reads 32 = .ok (.aload_n 0, 1) := dk_42 (dk_at dksX0_reads_2 0 rfl rfl)
theorem dX0_reads_33 : decode cX0_reads 33 = .ok (.iload_n 1, 1) := dk_27 (dk_at dksX0_reads_2 1 rfl rfl)
theorem dX0_reads_34 : decode cX0_reads 34 = .ok (.invokevirtual 153, 3) := dk_182 0 153 (dk_at dksX0_reads_2 2 rfl rfl)
theorem dX0_reads_37 : decode cX0_reads 37 = .ok (.ireturn, 1) := dk_172 (dk_at dksX0_reads_2 5 rfl rfl)
theorem dX0_reads_38 : decode cX0_reads 38 = .ok (.aload_n 0, 1) := dk_42 (dk_at dksX0_reads_2 6 rfl rfl)
theorem dX0_reads_39 : decode cX0_reads 39 = .ok (.iload_n 1, 1) := dk_27 (dk_at dksX0_reads_2 7 rfl rfl)
theorem dX0_reads_40 : decode cX0_reads 40 = .ok (.invokevirtual 157, 3) := dk_182 0 157 (dk_at dksX0_reads_2 8 rfl rfl)
theorem dX0_reads_43 : decode cX0_reads 43 = .ok (.ireturn, 1) := dk_172 (dk_at dksX0_reads_2 11 rfl rfl)
theorem dX0_reads_44 : decode cX0_reads 44 = .ok (.aload_n 0, 1) := dk_42 (dk_at dksX0_reads_2 12 rfl rfl)
theorem dX0_reads_45 : decode cX0_reads 45 = .ok (.iconst 2, 1) := dk_5 (dk_at dksX0_reads_2 13 rfl rfl)
theorem dX0_reads_46 : decode cX0_reads 46 = .ok (.iload_n 1, 1) := dk_27 (dk_at dksX0_reads_2 14 rfl rfl)
theorem dX0_reads_47 : decode cX0_reads 47 = .ok (.bipush 48, 2) := dk_16 48 (dk_at dksX0_reads_2 15 rfl rfl)
theorem dX0_reads_49 : decode cX0_reads 49 = .ok (.isub, 1) := dk_100 (dk_at dksX0_reads_2 17 rfl rfl)
theorem dX0_reads_50 : decode cX0_reads 50 = .ok (.iload_n 1, 1) := dk_27 (dk_at dksX0_reads_2 18 rfl rfl)
theorem dX0_reads_51 : decode cX0_reads 51 = .ok (.bipush 48, 2) := dk_16 48 (dk_at dksX0_reads_2 19 rfl rfl)
theorem dX0_reads_53 : decode cX0_reads 53 = .ok (.isub, 1) := dk_100 (dk_at dksX0_reads_2 21 rfl rfl)
theorem dX0_reads_54 : decode cX0_reads 54 = .ok (.invokestatic 85, 3) := dk_184 0 85 (dk_at dksX0_reads_3 0 rfl rfl)
theorem dX0_reads_57 : decode cX0_reads 57 = .ok (.invokevirtual 149, 3) := dk_182 0 149 (dk_at dksX0_reads_3 3 rfl rfl)
theorem dX0_reads_60 : decode cX0_reads 60 = .ok (.ireturn, 1) := dk_172 (dk_at dksX0_reads_3 6 rfl rfl)
theorem dX0_reads_61 : decode cX0_reads 61 = .ok (.aload_n 0, 1) := dk_42 (dk_at dksX0_reads_3 7 rfl rfl)
theorem dX0_reads_62 : decode cX0_reads 62 = .ok (.iconst 3, 1) := dk_6 (dk_at dksX0_reads_3 8 rfl rfl)
theorem dX0_reads_63 : decode cX0_reads 63 = .ok (.iload_n 1, 1) := dk_27 (dk_at dksX0_reads_3 9 rfl rfl)
theorem dX0_reads_64 : decode cX0_reads 64 = .ok (.bipush 48, 2) := dk_16 48 (dk_at dksX0_reads_3 10 rfl rfl)
theorem dX0_reads_66 : decode cX0_reads 66 = .ok (.isub, 1) := dk_100 (dk_at dksX0_reads_3 12 rfl rfl)
theorem dX0_reads_67 : decode cX0_reads 67 = .ok (.iload_n 1, 1) := dk_27 (dk_at dksX0_reads_3 13 rfl rfl)
theorem dX0_reads_68 : decode cX0_reads 68 = .ok (.bipush 48, 2) := dk_16 48 (dk_at dksX0_reads_3 14 rfl rfl)
theorem dX0_reads_70 : decode cX0_reads 70 = .ok (.isub, 1) := dk_100 (dk_at dksX0_reads_3 16 rfl rfl)
theorem dX0_reads_71 : decode cX0_reads 71 = .ok (.invokestatic 85, 3) := dk_184 0 85 (dk_at dksX0_reads_3 17 rfl rfl)
theorem dX0_reads_74 : decode cX0_reads 74 = .ok (.invokevirtual 149, 3) := dk_182 0 149 (dk_at dksX0_reads_3 20 rfl rfl)
theorem dX0_reads_77 : decode cX0_reads 77 = .ok (.ireturn, 1) := dk_172 (dk_at dksX0_reads_3 23 rfl rfl)
abbrev cX0_begins : ByteArray := prog_1_method_21_code
def yX0_begins : MethodName := ⟨RX0, "begins", "(C)Z"⟩
def dkwX0_begins_3 : List UInt8 := [153, 0, 7, 4, 167, 0, 4, 3, 172]
abbrev dktX0_begins_3 : List UInt8 := dkwX0_begins_3 ++ []
def dkwX0_begins_2 : List UInt8 := [160, 0, 7, 6, 167, 0, 4, 4, 181, 0, 146, 27, 16, 42, 159, 0, 13, 27, 16, 65, 100, 184, 0, 78]
abbrev dktX0_begins_2 : List UInt8 := dkwX0_begins_2 ++ dktX0_begins_3
def dkwX0_begins_1 : List UInt8 := [167, 0, 4, 3, 79, 27, 16, 46, 160, 0, 11, 42, 7, 3, 4, 182, 0, 149, 172, 42, 27, 16, 42]
abbrev dktX0_begins_1 : List UInt8 := dkwX0_begins_1 ++ dktX0_begins_2
def dkwX0_begins_0 : List UInt8 := [42, 180, 0, 57, 42, 180, 0, 143, 27, 16, 65, 100, 184, 0, 78, 153, 0, 10, 27, 16, 65, 100]
abbrev dktX0_begins_0 : List UInt8 := dkwX0_begins_0 ++ dktX0_begins_1
theorem dksX0_begins_0 : cX0_begins.data.toList.drop 0 = dktX0_begins_0 := by decide +kernel
theorem dksX0_begins_1 : cX0_begins.data.toList.drop 22 = dktX0_begins_1 := dk_seg dksX0_begins_0 22 rfl rfl
theorem dksX0_begins_2 : cX0_begins.data.toList.drop 45 = dktX0_begins_2 := dk_seg dksX0_begins_1 23 rfl rfl
theorem dksX0_begins_3 : cX0_begins.data.toList.drop 69 = dktX0_begins_3 := dk_seg dksX0_begins_2 24 rfl rfl
theorem dX0_begins_0 : decode cX0_begins 0 = .ok (.aload_n 0, 1) := dk_42 (dk_at dksX0_begins_0 0 rfl rfl)
theorem dX0_begins_1 : decode cX0_begins 1 = .ok (.getfield 57, 3) := dk_180 0 57 (dk_at dksX0_begins_0 1 rfl rfl)
theorem dX0_begins_4 : decode cX0_begins 4 = .ok (.aload_n 0, 1) := dk_42 (dk_at dksX0_begins_0 4 rfl rfl)
theorem dX0_begins_5 : decode cX0_begins 5 = .ok (.getfield 143, 3) := dk_180 0 143 (dk_at dksX0_begins_0 5 rfl rfl)
theorem dX0_begins_8 : decode cX0_begins 8 = .ok (.iload_n 1, 1) := dk_27 (dk_at dksX0_begins_0 8 rfl rfl)
theorem dX0_begins_9 : decode cX0_begins 9 = .ok (.bipush 65, 2) := dk_16 65 (dk_at dksX0_begins_0 9 rfl rfl)
theorem dX0_begins_11 : decode cX0_begins 11 = .ok (.isub, 1) := dk_100 (dk_at dksX0_begins_0 11 rfl rfl)
theorem dX0_begins_12 : decode cX0_begins 12 = .ok (.invokestatic 78, 3) := dk_184 0 78 (dk_at dksX0_begins_0 12 rfl rfl)
theorem dX0_begins_15 : decode cX0_begins 15 = .ok (.ifCond .eq 10, 3) := dk_153 0 10 (dk_at dksX0_begins_0 15 rfl rfl)
theorem dX0_begins_18 : decode cX0_begins 18 = .ok (.iload_n 1, 1) := dk_27 (dk_at dksX0_begins_0 18 rfl rfl)
theorem dX0_begins_19 : decode cX0_begins 19 = .ok (.bipush 65, 2) := dk_16 65 (dk_at dksX0_begins_0 19 rfl rfl)
theorem dX0_begins_21 : decode cX0_begins 21 = .ok (.isub, 1) := dk_100 (dk_at dksX0_begins_0 21 rfl rfl)
theorem dX0_begins_22 : decode cX0_begins 22 = .ok (.goto 4, 3) := dk_167 0 4 (dk_at dksX0_begins_1 0 rfl rfl)
theorem dX0_begins_25 : decode cX0_begins 25 = .ok (.iconst 0, 1) := dk_3 (dk_at dksX0_begins_1 3 rfl rfl)
theorem dX0_begins_26 : decode cX0_begins 26 = .ok (.iastore, 1) := dk_79 (dk_at dksX0_begins_1 4 rfl rfl)
theorem dX0_begins_27 : decode cX0_begins 27 = .ok (.iload_n 1, 1) := dk_27 (dk_at dksX0_begins_1 5 rfl rfl)
theorem dX0_begins_28 : decode cX0_begins 28 = .ok (.bipush 46, 2) := dk_16 46 (dk_at dksX0_begins_1 6 rfl rfl)
theorem dX0_begins_30 : decode cX0_begins 30 = .ok (.if_icmp .ne 11, 3) := dk_160 0 11 (dk_at dksX0_begins_1 8 rfl rfl)
theorem dX0_begins_33 : decode cX0_begins 33 = .ok (.aload_n 0, 1) := dk_42 (dk_at dksX0_begins_1 11 rfl rfl)
theorem dX0_begins_34 : decode cX0_begins 34 = .ok (.iconst 4, 1) := dk_7 (dk_at dksX0_begins_1 12 rfl rfl)
theorem dX0_begins_35 : decode cX0_begins 35 = .ok (.iconst 0, 1) := dk_3 (dk_at dksX0_begins_1 13 rfl rfl)
theorem dX0_begins_36 : decode cX0_begins 36 = .ok (.iconst 1, 1) := dk_4 (dk_at dksX0_begins_1 14 rfl rfl)
theorem dX0_begins_37 : decode cX0_begins 37 = .ok (.invokevirtual 149, 3) := dk_182 0 149 (dk_at dksX0_begins_1 15 rfl rfl)
theorem dX0_begins_40 : decode cX0_begins 40 = .ok (.ireturn, 1) := dk_172 (dk_at dksX0_begins_1 18 rfl rfl)
theorem dX0_begins_41 : decode cX0_begins 41 = .ok (.aload_n 0, 1) := dk_42 (dk_at dksX0_begins_1 19 rfl rfl)
theorem dX0_begins_42 : decode cX0_begins 42 = .ok (.iload_n 1, 1) := dk_27 (dk_at dksX0_begins_1 20 rfl rfl)
theorem dX0_begins_43 : decode cX0_begins 43 = .ok (.bipush 42, 2) := dk_16 42 (dk_at dksX0_begins_1 21 rfl rfl)
theorem dX0_begins_45 : decode cX0_begins 45 = .ok (.if_icmp .ne 7, 3) := dk_160 0 7 (dk_at dksX0_begins_2 0 rfl rfl)
theorem dX0_begins_48 : decode cX0_begins 48 = .ok (.iconst 3, 1) := dk_6 (dk_at dksX0_begins_2 3 rfl rfl)
theorem dX0_begins_49 : decode cX0_begins 49 = .ok (.goto 4, 3) := dk_167 0 4 (dk_at dksX0_begins_2 4 rfl rfl)
theorem dX0_begins_52 : decode cX0_begins 52 = .ok (.iconst 1, 1) := dk_4 (dk_at dksX0_begins_2 7 rfl rfl)
theorem dX0_begins_53 : decode cX0_begins 53 = .ok (.putfield 146, 3) := dk_181 0 146 (dk_at dksX0_begins_2 8 rfl rfl)
theorem dX0_begins_56 : decode cX0_begins 56 = .ok (.iload_n 1, 1) := dk_27 (dk_at dksX0_begins_2 11 rfl rfl)
theorem dX0_begins_57 : decode cX0_begins 57 = .ok (.bipush 42, 2) := dk_16 42 (dk_at dksX0_begins_2 12 rfl rfl)
theorem dX0_begins_59 : decode cX0_begins 59 = .ok (.if_icmp .eq 13, 3) := dk_159 0 13 (dk_at dksX0_begins_2 14 rfl rfl)
theorem dX0_begins_62 : decode cX0_begins 62 = .ok (.iload_n 1, 1) := dk_27 (dk_at dksX0_begins_2 17 rfl rfl)
theorem dX0_begins_63 : decode cX0_begins 63 = .ok (.bipush 65, 2) := dk_16 65 (dk_at dksX0_begins_2 18 rfl rfl)
theorem dX0_begins_65 : decode cX0_begins 65 = .ok (.isub, 1) := dk_100 (dk_at dksX0_begins_2 20 rfl rfl)
theorem dX0_begins_66 : decode cX0_begins 66 = .ok (.invokestatic 78, 3) := dk_184 0 78 (dk_at dksX0_begins_2 21 rfl rfl)
theorem dX0_begins_69 : decode cX0_begins 69 = .ok (.ifCond .eq 7, 3) := dk_153 0 7 (dk_at dksX0_begins_3 0 rfl rfl)
theorem dX0_begins_72 : decode cX0_begins 72 = .ok (.iconst 1, 1) := dk_4 (dk_at dksX0_begins_3 3 rfl rfl)
theorem dX0_begins_73 : decode cX0_begins 73 = .ok (.goto 4, 3) := dk_167 0 4 (dk_at dksX0_begins_3 4 rfl rfl)
theorem dX0_begins_76 : decode cX0_begins 76 = .ok (.iconst 0, 1) := dk_3 (dk_at dksX0_begins_3 7 rfl rfl)
theorem dX0_begins_77 : decode cX0_begins 77 = .ok (.ireturn, 1) := dk_172 (dk_at dksX0_begins_3 8 rfl rfl)
abbrev cX0_closes : ByteArray := prog_1_method_20_code
def yX0_closes : MethodName := ⟨RX0, "closes", "(IIZ)Z"⟩
def dkwX0_closes_1 : List UInt8 := [180, 0, 143, 4, 96, 181, 0, 143, 42, 3, 181, 0, 146, 29, 172]
abbrev dktX0_closes_1 : List UInt8 := dkwX0_closes_1 ++ []
def dkwX0_closes_0 : List UInt8 := [42, 180, 0, 53, 42, 180, 0, 143, 27, 79, 42, 180, 0, 60, 42, 180, 0, 143, 28, 79, 42, 89]
abbrev dktX0_closes_0 : List UInt8 := dkwX0_closes_0 ++ dktX0_closes_1
theorem dksX0_closes_0 : cX0_closes.data.toList.drop 0 = dktX0_closes_0 := by decide +kernel
theorem dksX0_closes_1 : cX0_closes.data.toList.drop 22 = dktX0_closes_1 := dk_seg dksX0_closes_0 22 rfl rfl
theorem dX0_closes_0 : decode cX0_closes 0 = .ok (.aload_n 0, 1) := dk_42 (dk_at dksX0_closes_0 0 rfl rfl)
theorem dX0_closes_1 : decode cX0_closes 1 = .ok (.getfield 53, 3) := dk_180 0 53 (dk_at dksX0_closes_0 1 rfl rfl)
theorem dX0_closes_4 : decode cX0_closes 4 = .ok (.aload_n 0, 1) := dk_42 (dk_at dksX0_closes_0 4 rfl rfl)
theorem dX0_closes_5 : decode cX0_closes 5 = .ok (.getfield 143, 3) := dk_180 0 143 (dk_at dksX0_closes_0 5 rfl rfl)
theorem dX0_closes_8 : decode cX0_closes 8 = .ok (.iload_n 1, 1) := dk_27 (dk_at dksX0_closes_0 8 rfl rfl)
theorem dX0_closes_9 : decode cX0_closes 9 = .ok (.iastore, 1) := dk_79 (dk_at dksX0_closes_0 9 rfl rfl)
theorem dX0_closes_10 : decode cX0_closes 10 = .ok (.aload_n 0, 1) := dk_42 (dk_at dksX0_closes_0 10 rfl rfl)
theorem dX0_closes_11 : decode cX0_closes 11 = .ok (.getfield 60, 3) := dk_180 0 60 (dk_at dksX0_closes_0 11 rfl rfl)
theorem dX0_closes_14 : decode cX0_closes 14 = .ok (.aload_n 0, 1) := dk_42 (dk_at dksX0_closes_0 14 rfl rfl)
theorem dX0_closes_15 : decode cX0_closes 15 = .ok (.getfield 143, 3) := dk_180 0 143 (dk_at dksX0_closes_0 15 rfl rfl)
theorem dX0_closes_18 : decode cX0_closes 18 = .ok (.iload_n 2, 1) := dk_28 (dk_at dksX0_closes_0 18 rfl rfl)
theorem dX0_closes_19 : decode cX0_closes 19 = .ok (.iastore, 1) := dk_79 (dk_at dksX0_closes_0 19 rfl rfl)
theorem dX0_closes_20 : decode cX0_closes 20 = .ok (.aload_n 0, 1) := dk_42 (dk_at dksX0_closes_0 20 rfl rfl)
theorem dX0_closes_21 : decode cX0_closes 21 = .ok (.dup, 1) := dk_89 (dk_at dksX0_closes_0 21 rfl rfl)
theorem dX0_closes_22 : decode cX0_closes 22 = .ok (.getfield 143, 3) := dk_180 0 143 (dk_at dksX0_closes_1 0 rfl rfl)
theorem dX0_closes_25 : decode cX0_closes 25 = .ok (.iconst 1, 1) := dk_4 (dk_at dksX0_closes_1 3 rfl rfl)
theorem dX0_closes_26 : decode cX0_closes 26 = .ok (.iadd, 1) := dk_96 (dk_at dksX0_closes_1 4 rfl rfl)
theorem dX0_closes_27 : decode cX0_closes 27 = .ok (.putfield 143, 3) := dk_181 0 143 (dk_at dksX0_closes_1 5 rfl rfl)
theorem dX0_closes_30 : decode cX0_closes 30 = .ok (.aload_n 0, 1) := dk_42 (dk_at dksX0_closes_1 8 rfl rfl)
theorem dX0_closes_31 : decode cX0_closes 31 = .ok (.iconst 0, 1) := dk_3 (dk_at dksX0_closes_1 9 rfl rfl)
theorem dX0_closes_32 : decode cX0_closes 32 = .ok (.putfield 146, 3) := dk_181 0 146 (dk_at dksX0_closes_1 10 rfl rfl)
theorem dX0_closes_35 : decode cX0_closes 35 = .ok (.iload_n 3, 1) := dk_29 (dk_at dksX0_closes_1 13 rfl rfl)
theorem dX0_closes_36 : decode cX0_closes 36 = .ok (.ireturn, 1) := dk_172 (dk_at dksX0_closes_1 14 rfl rfl)
abbrev cX0_goesOn : ByteArray := prog_1_method_22_code
def yX0_goesOn : MethodName := ⟨RX0, "goesOn", "(C)Z"⟩
def dkwX0_goesOn_1 : List UInt8 := [182, 0, 149, 167, 0, 19, 42, 3, 27, 16, 97, 100, 27, 16, 97, 100, 184, 0, 107, 182, 0, 149, 172]
abbrev dktX0_goesOn_1 : List UInt8 := dkwX0_goesOn_1 ++ []
def dkwX0_goesOn_0 : List UInt8 := [27, 16, 62, 160, 0, 10, 42, 5, 181, 0, 146, 4, 172, 27, 16, 45, 160, 0, 13, 42, 4, 3, 4]
abbrev dktX0_goesOn_0 : List UInt8 := dkwX0_goesOn_0 ++ dktX0_goesOn_1
theorem dksX0_goesOn_0 : cX0_goesOn.data.toList.drop 0 = dktX0_goesOn_0 := by decide +kernel
theorem dksX0_goesOn_1 : cX0_goesOn.data.toList.drop 23 = dktX0_goesOn_1 := dk_seg dksX0_goesOn_0 23 rfl rfl
theorem dX0_goesOn_0 : decode cX0_goesOn 0 = .ok (.iload_n 1, 1) := dk_27 (dk_at dksX0_goesOn_0 0 rfl rfl)
theorem dX0_goesOn_1 : decode cX0_goesOn 1 = .ok (.bipush 62, 2) := dk_16 62 (dk_at dksX0_goesOn_0 1 rfl rfl)
theorem dX0_goesOn_3 : decode cX0_goesOn 3 = .ok (.if_icmp .ne 10, 3) := dk_160 0 10 (dk_at dksX0_goesOn_0 3 rfl rfl)
theorem dX0_goesOn_6 : decode cX0_goesOn 6 = .ok (.aload_n 0, 1) := dk_42 (dk_at dksX0_goesOn_0 6 rfl rfl)
theorem dX0_goesOn_7 : decode cX0_goesOn 7 = .ok (.iconst 2, 1) := dk_5 (dk_at dksX0_goesOn_0 7 rfl rfl)
theorem dX0_goesOn_8 : decode cX0_goesOn 8 = .ok (.putfield 146, 3) := dk_181 0 146 (dk_at dksX0_goesOn_0 8 rfl rfl)
theorem dX0_goesOn_11 : decode cX0_goesOn 11 = .ok (.iconst 1, 1) := dk_4 (dk_at dksX0_goesOn_0 11 rfl rfl)
theorem dX0_goesOn_12 : decode cX0_goesOn 12 = .ok (.ireturn, 1) := dk_172 (dk_at dksX0_goesOn_0 12 rfl rfl)
theorem dX0_goesOn_13 : decode cX0_goesOn 13 = .ok (.iload_n 1, 1) := dk_27 (dk_at dksX0_goesOn_0 13 rfl rfl)
theorem dX0_goesOn_14 : decode cX0_goesOn 14 = .ok (.bipush 45, 2) := dk_16 45 (dk_at dksX0_goesOn_0 14 rfl rfl)
theorem dX0_goesOn_16 : decode cX0_goesOn 16 = .ok (.if_icmp .ne 13, 3) := dk_160 0 13 (dk_at dksX0_goesOn_0 16 rfl rfl)
theorem dX0_goesOn_19 : decode cX0_goesOn 19 = .ok (.aload_n 0, 1) := dk_42 (dk_at dksX0_goesOn_0 19 rfl rfl)
theorem dX0_goesOn_20 : decode cX0_goesOn 20 = .ok (.iconst 1, 1) := dk_4 (dk_at dksX0_goesOn_0 20 rfl rfl)
theorem dX0_goesOn_21 : decode cX0_goesOn 21 = .ok (.iconst 0, 1) := dk_3 (dk_at dksX0_goesOn_0 21 rfl rfl)
theorem dX0_goesOn_22 : decode cX0_goesOn 22 = .ok (.iconst 1, 1) := dk_4 (dk_at dksX0_goesOn_0 22 rfl rfl)
theorem dX0_goesOn_23 : decode cX0_goesOn 23 = .ok (.invokevirtual 149, 3) := dk_182 0 149 (dk_at dksX0_goesOn_1 0 rfl rfl)
theorem dX0_goesOn_26 : decode cX0_goesOn 26 = .ok (.goto 19, 3) := dk_167 0 19 (dk_at dksX0_goesOn_1 3 rfl rfl)
theorem dX0_goesOn_29 : decode cX0_goesOn 29 = .ok (.aload_n 0, 1) := dk_42 (dk_at dksX0_goesOn_1 6 rfl rfl)
theorem dX0_goesOn_30 : decode cX0_goesOn 30 = .ok (.iconst 0, 1) := dk_3 (dk_at dksX0_goesOn_1 7 rfl rfl)
theorem dX0_goesOn_31 : decode cX0_goesOn 31 = .ok (.iload_n 1, 1) := dk_27 (dk_at dksX0_goesOn_1 8 rfl rfl)
theorem dX0_goesOn_32 : decode cX0_goesOn 32 = .ok (.bipush 97, 2) := dk_16 97 (dk_at dksX0_goesOn_1 9 rfl rfl)
theorem dX0_goesOn_34 : decode cX0_goesOn 34 = .ok (.isub, 1) := dk_100 (dk_at dksX0_goesOn_1 11 rfl rfl)
theorem dX0_goesOn_35 : decode cX0_goesOn 35 = .ok (.iload_n 1, 1) := dk_27 (dk_at dksX0_goesOn_1 12 rfl rfl)
theorem dX0_goesOn_36 : decode cX0_goesOn 36 = .ok (.bipush 97, 2) := dk_16 97 (dk_at dksX0_goesOn_1 13 rfl rfl)
theorem dX0_goesOn_38 : decode cX0_goesOn 38 = .ok (.isub, 1) := dk_100 (dk_at dksX0_goesOn_1 15 rfl rfl)
theorem dX0_goesOn_39 : decode cX0_goesOn 39 = .ok (.invokestatic 107, 3) := dk_184 0 107 (dk_at dksX0_goesOn_1 16 rfl rfl)
theorem dX0_goesOn_42 : decode cX0_goesOn 42 = .ok (.invokevirtual 149, 3) := dk_182 0 149 (dk_at dksX0_goesOn_1 19 rfl rfl)
theorem dX0_goesOn_45 : decode cX0_goesOn 45 = .ok (.ireturn, 1) := dk_172 (dk_at dksX0_goesOn_1 22 rfl rfl)
abbrev cX0_judge : ByteArray := prog_1_method_27_code
def yX0_judge : MethodName := ⟨RX0, "judge", "(I)I"⟩
def dkwX0_judge_1 : List UInt8 := [61, 27, 154, 0, 7, 28, 167, 0, 7, 42, 180, 0, 167, 172]
abbrev dktX0_judge_1 : List UInt8 := dkwX0_judge_1 ++ []
def dkwX0_judge_0 : List UInt8 := [27, 184, 0, 197, 154, 0, 6, 16, 254, 172, 42, 182, 0, 191, 155, 0, 6, 16, 251, 172, 42, 182, 0, 194]
abbrev dktX0_judge_0 : List UInt8 := dkwX0_judge_0 ++ dktX0_judge_1
theorem dksX0_judge_0 : cX0_judge.data.toList.drop 0 = dktX0_judge_0 := by decide +kernel
theorem dksX0_judge_1 : cX0_judge.data.toList.drop 24 = dktX0_judge_1 := dk_seg dksX0_judge_0 24 rfl rfl
theorem dX0_judge_0 : decode cX0_judge 0 = .ok (.iload_n 1, 1) := dk_27 (dk_at dksX0_judge_0 0 rfl rfl)
theorem dX0_judge_1 : decode cX0_judge 1 = .ok (.invokestatic 197, 3) := dk_184 0 197 (dk_at dksX0_judge_0 1 rfl rfl)
theorem dX0_judge_4 : decode cX0_judge 4 = .ok (.ifCond .ne 6, 3) := dk_154 0 6 (dk_at dksX0_judge_0 4 rfl rfl)
theorem dX0_judge_7 : decode cX0_judge 7 = .ok (.bipush (-2), 2) := dk_16 254 (dk_at dksX0_judge_0 7 rfl rfl)
theorem dX0_judge_9 : decode cX0_judge 9 = .ok (.ireturn, 1) := dk_172 (dk_at dksX0_judge_0 9 rfl rfl)
theorem dX0_judge_10 : decode cX0_judge 10 = .ok (.aload_n 0, 1) := dk_42 (dk_at dksX0_judge_0 10 rfl rfl)
theorem dX0_judge_11 : decode cX0_judge 11 = .ok (.invokevirtual 191, 3) := dk_182 0 191 (dk_at dksX0_judge_0 11 rfl rfl)
theorem dX0_judge_14 : decode cX0_judge 14 = .ok (.ifCond .lt 6, 3) := dk_155 0 6 (dk_at dksX0_judge_0 14 rfl rfl)
theorem dX0_judge_17 : decode cX0_judge 17 = .ok (.bipush (-5), 2) := dk_16 251 (dk_at dksX0_judge_0 17 rfl rfl)
theorem dX0_judge_19 : decode cX0_judge 19 = .ok (.ireturn, 1) := dk_172 (dk_at dksX0_judge_0 19 rfl rfl)
theorem dX0_judge_20 : decode cX0_judge 20 = .ok (.aload_n 0, 1) := dk_42 (dk_at dksX0_judge_0 20 rfl rfl)
theorem dX0_judge_21 : decode cX0_judge 21 = .ok (.invokevirtual 194, 3) := dk_182 0 194 (dk_at dksX0_judge_0 21 rfl rfl)
theorem dX0_judge_24 : decode cX0_judge 24 = .ok (.istore_n 2, 1) := dk_61 (dk_at dksX0_judge_1 0 rfl rfl)
theorem dX0_judge_25 : decode cX0_judge 25 = .ok (.iload_n 1, 1) := dk_27 (dk_at dksX0_judge_1 1 rfl rfl)
theorem dX0_judge_26 : decode cX0_judge 26 = .ok (.ifCond .ne 7, 3) := dk_154 0 7 (dk_at dksX0_judge_1 2 rfl rfl)
theorem dX0_judge_29 : decode cX0_judge 29 = .ok (.iload_n 2, 1) := dk_28 (dk_at dksX0_judge_1 5 rfl rfl)
theorem dX0_judge_30 : decode cX0_judge 30 = .ok (.goto 7, 3) := dk_167 0 7 (dk_at dksX0_judge_1 6 rfl rfl)
theorem dX0_judge_33 : decode cX0_judge 33 = .ok (.aload_n 0, 1) := dk_42 (dk_at dksX0_judge_1 9 rfl rfl)
theorem dX0_judge_34 : decode cX0_judge 34 = .ok (.getfield 167, 3) := dk_180 0 167 (dk_at dksX0_judge_1 10 rfl rfl)
theorem dX0_judge_37 : decode cX0_judge 37 = .ok (.ireturn, 1) := dk_172 (dk_at dksX0_judge_1 13 rfl rfl)
abbrev cX0_isEnd : ByteArray := prog_1_method_2_code
def yX0_isEnd : MethodName := ⟨RX0, "isEnd", "(I)Z"⟩
def dkwX0_isEnd_0 : List UInt8 := [26, 133, 9, 10, 184, 0, 3, 172]
abbrev dktX0_isEnd_0 : List UInt8 := dkwX0_isEnd_0 ++ []
theorem dksX0_isEnd_0 : cX0_isEnd.data.toList.drop 0 = dktX0_isEnd_0 := by decide +kernel
theorem dX0_isEnd_0 : decode cX0_isEnd 0 = .ok (.iload_n 0, 1) := dk_26 (dk_at dksX0_isEnd_0 0 rfl rfl)
theorem dX0_isEnd_1 : decode cX0_isEnd 1 = .ok (.i2l, 1) := dk_133 (dk_at dksX0_isEnd_0 1 rfl rfl)
theorem dX0_isEnd_2 : decode cX0_isEnd 2 = .ok (.lconst 0, 1) := dk_9 (dk_at dksX0_isEnd_0 2 rfl rfl)
theorem dX0_isEnd_3 : decode cX0_isEnd 3 = .ok (.lconst 1, 1) := dk_10 (dk_at dksX0_isEnd_0 3 rfl rfl)
theorem dX0_isEnd_4 : decode cX0_isEnd 4 = .ok (.invokestatic 3, 3) := dk_184 0 3 (dk_at dksX0_isEnd_0 4 rfl rfl)
theorem dX0_isEnd_7 : decode cX0_isEnd 7 = .ok (.ireturn, 1) := dk_172 (dk_at dksX0_isEnd_0 7 rfl rfl)
abbrev cX0_go : ByteArray := prog_1_method_25_code
def yX0_go : MethodName := ⟨RX0, "go", "()I"⟩
def dkwX0_go_6 : List UInt8 := [184, 0, 188, 181, 0, 173, 132, 1, 1, 167, 255, 136, 16, 250, 172]
abbrev dktX0_go_6 : List UInt8 := dkwX0_go_6 ++ []
def dkwX0_go_5 : List UInt8 := [126, 54, 4, 21, 4, 153, 0, 24, 42, 180, 0, 170, 156, 0, 17, 42, 27, 181, 0, 170, 42, 21, 4]
abbrev dktX0_go_5 : List UInt8 := dkwX0_go_5 ++ dktX0_go_6
def dkwX0_go_4 : List UInt8 := [180, 0, 57, 27, 46, 42, 180, 0, 60, 27, 46, 182, 0, 184, 29, 42, 180, 0, 42, 182, 0, 180, 2, 130]
abbrev dktX0_go_4 : List UInt8 := dkwX0_go_4 ++ dktX0_go_5
def dkwX0_go_3 : List UInt8 := [181, 0, 167, 27, 172, 42, 180, 0, 42, 182, 0, 180, 62, 42, 180, 0, 42, 42, 180, 0, 53, 27, 46, 42]
abbrev dktX0_go_3 : List UInt8 := dkwX0_go_3 ++ dktX0_go_4
def dkwX0_go_2 : List UInt8 := [46, 42, 180, 0, 57, 27, 46, 42, 180, 0, 60, 27, 46, 182, 0, 176, 61, 28, 158, 0, 10, 42, 28]
abbrev dktX0_go_2 : List UInt8 := dkwX0_go_2 ++ dktX0_go_3
def dkwX0_go_1 : List UInt8 := [16, 250, 181, 0, 173, 3, 60, 27, 42, 180, 0, 143, 162, 0, 118, 42, 180, 0, 42, 42, 180, 0, 53, 27]
abbrev dktX0_go_1 : List UInt8 := dkwX0_go_1 ++ dktX0_go_2
def dkwX0_go_0 : List UInt8 := [42, 180, 0, 42, 42, 180, 0, 38, 182, 0, 163, 42, 16, 250, 181, 0, 167, 42, 16, 250, 181, 0, 170, 42]
abbrev dktX0_go_0 : List UInt8 := dkwX0_go_0 ++ dktX0_go_1
theorem dksX0_go_0 : cX0_go.data.toList.drop 0 = dktX0_go_0 := by decide +kernel
theorem dksX0_go_1 : cX0_go.data.toList.drop 24 = dktX0_go_1 := dk_seg dksX0_go_0 24 rfl rfl
theorem dksX0_go_2 : cX0_go.data.toList.drop 48 = dktX0_go_2 := dk_seg dksX0_go_1 24 rfl rfl
theorem dksX0_go_3 : cX0_go.data.toList.drop 71 = dktX0_go_3 := dk_seg dksX0_go_2 23 rfl rfl
theorem dksX0_go_4 : cX0_go.data.toList.drop 95 = dktX0_go_4 := dk_seg dksX0_go_3 24 rfl rfl
theorem dksX0_go_5 : cX0_go.data.toList.drop 119 = dktX0_go_5 := dk_seg dksX0_go_4 24 rfl rfl
theorem dksX0_go_6 : cX0_go.data.toList.drop 142 = dktX0_go_6 := dk_seg dksX0_go_5 23 rfl rfl
theorem dX0_go_0 : decode cX0_go 0 = .ok (.aload_n 0, 1) := dk_42 (dk_at dksX0_go_0 0 rfl rfl)
theorem dX0_go_1 : decode cX0_go 1 = .ok (.getfield 42, 3) := dk_180 0 42 (dk_at dksX0_go_0 1 rfl rfl)
theorem dX0_go_4 : decode cX0_go 4 = .ok (.aload_n 0, 1) := dk_42 (dk_at dksX0_go_0 4 rfl rfl)
theorem dX0_go_5 : decode cX0_go 5 = .ok (.getfield 38, 3) := dk_180 0 38 (dk_at dksX0_go_0 5 rfl rfl)
theorem dX0_go_8 : decode cX0_go 8 = .ok (.invokevirtual 163, 3) := dk_182 0 163 (dk_at dksX0_go_0 8 rfl rfl)
theorem dX0_go_11 : decode cX0_go 11 = .ok (.aload_n 0, 1) := dk_42 (dk_at dksX0_go_0 11 rfl rfl)
theorem dX0_go_12 : decode cX0_go 12 = .ok (.bipush (-6), 2) := dk_16 250 (dk_at dksX0_go_0 12 rfl rfl)
theorem dX0_go_14 : decode cX0_go 14 = .ok (.putfield 167, 3) := dk_181 0 167 (dk_at dksX0_go_0 14 rfl rfl)
theorem dX0_go_17 : decode cX0_go 17 = .ok (.aload_n 0, 1) := dk_42 (dk_at dksX0_go_0 17 rfl rfl)
theorem dX0_go_18 : decode cX0_go 18 = .ok (.bipush (-6), 2) := dk_16 250 (dk_at dksX0_go_0 18 rfl rfl)
theorem dX0_go_20 : decode cX0_go 20 = .ok (.putfield 170, 3) := dk_181 0 170 (dk_at dksX0_go_0 20 rfl rfl)
theorem dX0_go_23 : decode cX0_go 23 = .ok (.aload_n 0, 1) := dk_42 (dk_at dksX0_go_0 23 rfl rfl)
theorem dX0_go_24 : decode cX0_go 24 = .ok (.bipush (-6), 2) := dk_16 250 (dk_at dksX0_go_1 0 rfl rfl)
theorem dX0_go_26 : decode cX0_go 26 = .ok (.putfield 173, 3) := dk_181 0 173 (dk_at dksX0_go_1 2 rfl rfl)
theorem dX0_go_29 : decode cX0_go 29 = .ok (.iconst 0, 1) := dk_3 (dk_at dksX0_go_1 5 rfl rfl)
theorem dX0_go_30 : decode cX0_go 30 = .ok (.istore_n 1, 1) := dk_60 (dk_at dksX0_go_1 6 rfl rfl)
theorem dX0_go_31 : decode cX0_go 31 = .ok (.iload_n 1, 1) := dk_27 (dk_at dksX0_go_1 7 rfl rfl)
theorem dX0_go_32 : decode cX0_go 32 = .ok (.aload_n 0, 1) := dk_42 (dk_at dksX0_go_1 8 rfl rfl)
theorem dX0_go_33 : decode cX0_go 33 = .ok (.getfield 143, 3) := dk_180 0 143 (dk_at dksX0_go_1 9 rfl rfl)
theorem dX0_go_36 : decode cX0_go 36 = .ok (.if_icmp .ge 118, 3) := dk_162 0 118 (dk_at dksX0_go_1 12 rfl rfl)
theorem dX0_go_39 : decode cX0_go 39 = .ok (.aload_n 0, 1) := dk_42 (dk_at dksX0_go_1 15 rfl rfl)
theorem dX0_go_40 : decode cX0_go 40 = .ok (.getfield 42, 3) := dk_180 0 42 (dk_at dksX0_go_1 16 rfl rfl)
theorem dX0_go_43 : decode cX0_go 43 = .ok (.aload_n 0, 1) := dk_42 (dk_at dksX0_go_1 19 rfl rfl)
theorem dX0_go_44 : decode cX0_go 44 = .ok (.getfield 53, 3) := dk_180 0 53 (dk_at dksX0_go_1 20 rfl rfl)
theorem dX0_go_47 : decode cX0_go 47 = .ok (.iload_n 1, 1) := dk_27 (dk_at dksX0_go_1 23 rfl rfl)
theorem dX0_go_48 : decode cX0_go 48 = .ok (.iaload, 1) := dk_46 (dk_at dksX0_go_2 0 rfl rfl)
theorem dX0_go_49 : decode cX0_go 49 = .ok (.aload_n 0, 1) := dk_42 (dk_at dksX0_go_2 1 rfl rfl)
theorem dX0_go_50 : decode cX0_go 50 = .ok (.getfield 57, 3) := dk_180 0 57 (dk_at dksX0_go_2 2 rfl rfl)
theorem dX0_go_53 : decode cX0_go 53 = .ok (.iload_n 1, 1) := dk_27 (dk_at dksX0_go_2 5 rfl rfl)
theorem dX0_go_54 : decode cX0_go 54 = .ok (.iaload, 1) := dk_46 (dk_at dksX0_go_2 6 rfl rfl)
theorem dX0_go_55 : decode cX0_go 55 = .ok (.aload_n 0, 1) := dk_42 (dk_at dksX0_go_2 7 rfl rfl)
theorem dX0_go_56 : decode cX0_go 56 = .ok (.getfield 60, 3) := dk_180 0 60 (dk_at dksX0_go_2 8 rfl rfl)
theorem dX0_go_59 : decode cX0_go 59 = .ok (.iload_n 1, 1) := dk_27 (dk_at dksX0_go_2 11 rfl rfl)
theorem dX0_go_60 : decode cX0_go 60 = .ok (.iaload, 1) := dk_46 (dk_at dksX0_go_2 12 rfl rfl)
theorem dX0_go_61 : decode cX0_go 61 = .ok (.invokevirtual 176, 3) := dk_182 0 176 (dk_at dksX0_go_2 13 rfl rfl)
theorem dX0_go_64 : decode cX0_go 64 = .ok (.istore_n 2, 1) := dk_61 (dk_at dksX0_go_2 16 rfl rfl)
theorem dX0_go_65 : decode cX0_go 65 = .ok (.iload_n 2, 1) := dk_28 (dk_at dksX0_go_2 17 rfl rfl)
theorem dX0_go_66 : decode cX0_go 66 = .ok (.ifCond .le 10, 3) := dk_158 0 10 (dk_at dksX0_go_2 18 rfl rfl)
theorem dX0_go_69 : decode cX0_go 69 = .ok (.aload_n 0, 1) := dk_42 (dk_at dksX0_go_2 21 rfl rfl)
theorem dX0_go_70 : decode cX0_go 70 = .ok (.iload_n 2, 1) := dk_28 (dk_at dksX0_go_2 22 rfl rfl)
theorem dX0_go_71 : decode cX0_go 71 = .ok (.putfield 167, 3) := dk_181 0 167 (dk_at dksX0_go_3 0 rfl rfl)
theorem dX0_go_74 : decode cX0_go 74 = .ok (.iload_n 1, 1) := dk_27 (dk_at dksX0_go_3 3 rfl rfl)
theorem dX0_go_75 : decode cX0_go 75 = .ok (.ireturn, 1) := dk_172 (dk_at dksX0_go_3 4 rfl rfl)
theorem dX0_go_76 : decode cX0_go 76 = .ok (.aload_n 0, 1) := dk_42 (dk_at dksX0_go_3 5 rfl rfl)
theorem dX0_go_77 : decode cX0_go 77 = .ok (.getfield 42, 3) := dk_180 0 42 (dk_at dksX0_go_3 6 rfl rfl)
theorem dX0_go_80 : decode cX0_go 80 = .ok (.invokevirtual 180, 3) := dk_182 0 180 (dk_at dksX0_go_3 9 rfl rfl)
theorem dX0_go_83 : decode cX0_go 83 = .ok (.istore_n 3, 1) := dk_62 (dk_at dksX0_go_3 12 rfl rfl)
theorem dX0_go_84 : decode cX0_go 84 = .ok (.aload_n 0, 1) := dk_42 (dk_at dksX0_go_3 13 rfl rfl)
theorem dX0_go_85 : decode cX0_go 85 = .ok (.getfield 42, 3) := dk_180 0 42 (dk_at dksX0_go_3 14 rfl rfl)
theorem dX0_go_88 : decode cX0_go 88 = .ok (.aload_n 0, 1) := dk_42 (dk_at dksX0_go_3 17 rfl rfl)
theorem dX0_go_89 : decode cX0_go 89 = .ok (.getfield 53, 3) := dk_180 0 53 (dk_at dksX0_go_3 18 rfl rfl)
theorem dX0_go_92 : decode cX0_go 92 = .ok (.iload_n 1, 1) := dk_27 (dk_at dksX0_go_3 21 rfl rfl)
theorem dX0_go_93 : decode cX0_go 93 = .ok (.iaload, 1) := dk_46 (dk_at dksX0_go_3 22 rfl rfl)
theorem dX0_go_94 : decode cX0_go 94 = .ok (.aload_n 0, 1) := dk_42 (dk_at dksX0_go_3 23 rfl rfl)
theorem dX0_go_95 : decode cX0_go 95 = .ok (.getfield 57, 3) := dk_180 0 57 (dk_at dksX0_go_4 0 rfl rfl)
theorem dX0_go_98 : decode cX0_go 98 = .ok (.iload_n 1, 1) := dk_27 (dk_at dksX0_go_4 3 rfl rfl)
theorem dX0_go_99 : decode cX0_go 99 = .ok (.iaload, 1) := dk_46 (dk_at dksX0_go_4 4 rfl rfl)
theorem dX0_go_100 : decode cX0_go 100 = .ok (.aload_n 0, 1) := dk_42 (dk_at dksX0_go_4 5 rfl rfl)
theorem dX0_go_101 : decode cX0_go 101 = .ok (.getfield 60, 3) := dk_180 0 60 (dk_at dksX0_go_4 6 rfl rfl)
theorem dX0_go_104 : decode cX0_go 104 = .ok (.iload_n 1, 1) := dk_27 (dk_at dksX0_go_4 9 rfl rfl)
theorem dX0_go_105 : decode cX0_go 105 = .ok (.iaload, 1) := dk_46 (dk_at dksX0_go_4 10 rfl rfl)
theorem dX0_go_106 : decode cX0_go 106 = .ok (.invokevirtual 184, 3) := dk_182 0 184 (dk_at dksX0_go_4 11 rfl rfl)
theorem dX0_go_109 : decode cX0_go 109 = .ok (.iload_n 3, 1) := dk_29 (dk_at dksX0_go_4 14 rfl rfl)
theorem dX0_go_110 : decode cX0_go 110 = .ok (.aload_n 0, 1) := dk_42 (dk_at dksX0_go_4 15 rfl rfl)
theorem dX0_go_111 : decode cX0_go 111 = .ok (.getfield 42, 3) := dk_180 0 42 (dk_at dksX0_go_4 16 rfl rfl)
theorem dX0_go_114 : decode cX0_go 114 = .ok (.invokevirtual 180, 3) := dk_182 0 180 (dk_at dksX0_go_4 19 rfl rfl)
theorem dX0_go_117 : decode cX0_go 117 = .ok (.iconst (-1), 1) := dk_2 (dk_at dksX0_go_4 22 rfl rfl)
theorem dX0_go_118 : decode cX0_go 118 = .ok (.ixor, 1) := dk_130 (dk_at dksX0_go_4 23 rfl rfl)
theorem dX0_go_119 : decode cX0_go 119 = .ok (.iand, 1) := dk_126 (dk_at dksX0_go_5 0 rfl rfl)
theorem dX0_go_120 : decode cX0_go 120 = .ok (.istore 4, 2) := dk_54 4 (dk_at dksX0_go_5 1 rfl rfl)
theorem dX0_go_122 : decode cX0_go 122 = .ok (.iload 4, 2) := dk_21 4 (dk_at dksX0_go_5 3 rfl rfl)
theorem dX0_go_124 : decode cX0_go 124 = .ok (.ifCond .eq 24, 3) := dk_153 0 24 (dk_at dksX0_go_5 5 rfl rfl)
theorem dX0_go_127 : decode cX0_go 127 = .ok (.aload_n 0, 1) := dk_42 (dk_at dksX0_go_5 8 rfl rfl)
theorem dX0_go_128 : decode cX0_go 128 = .ok (.getfield 170, 3) := dk_180 0 170 (dk_at dksX0_go_5 9 rfl rfl)
theorem dX0_go_131 : decode cX0_go 131 = .ok (.ifCond .ge 17, 3) := dk_156 0 17 (dk_at dksX0_go_5 12 rfl rfl)
theorem dX0_go_134 : decode cX0_go 134 = .ok (.aload_n 0, 1) := dk_42 (dk_at dksX0_go_5 15 rfl rfl)
theorem dX0_go_135 : decode cX0_go 135 = .ok (.iload_n 1, 1) := dk_27 (dk_at dksX0_go_5 16 rfl rfl)
theorem dX0_go_136 : decode cX0_go 136 = .ok (.putfield 170, 3) := dk_181 0 170 (dk_at dksX0_go_5 17 rfl rfl)
theorem dX0_go_139 : decode cX0_go 139 = .ok (.aload_n 0, 1) := dk_42 (dk_at dksX0_go_5 20 rfl rfl)
theorem dX0_go_140 : decode cX0_go 140 = .ok (.iload 4, 2) := dk_21 4 (dk_at dksX0_go_5 21 rfl rfl)
theorem dX0_go_142 : decode cX0_go 142 = .ok (.invokestatic 188, 3) := dk_184 0 188 (dk_at dksX0_go_6 0 rfl rfl)
theorem dX0_go_145 : decode cX0_go 145 = .ok (.putfield 173, 3) := dk_181 0 173 (dk_at dksX0_go_6 3 rfl rfl)
theorem dX0_go_148 : decode cX0_go 148 = .ok (.iinc 1 1, 3) := dk_132 1 1 (dk_at dksX0_go_6 6 rfl rfl)
theorem dX0_go_151 : decode cX0_go 151 = .ok (.goto (-120), 3) := dk_167 255 136 (dk_at dksX0_go_6 9 rfl rfl)
theorem dX0_go_154 : decode cX0_go 154 = .ok (.bipush (-6), 2) := dk_16 250 (dk_at dksX0_go_6 12 rfl rfl)
theorem dX0_go_156 : decode cX0_go 156 = .ok (.ireturn, 1) := dk_172 (dk_at dksX0_go_6 14 rfl rfl)
abbrev cX0_layOver : ByteArray := prog_1_method_9_code
def yX0_layOver : MethodName := ⟨RX0, "layOver", "([I[I)V"⟩
def dkwX0_layOver_0 : List UInt8 := [42, 3, 43, 3, 42, 190, 184, 0, 23, 177]
abbrev dktX0_layOver_0 : List UInt8 := dkwX0_layOver_0 ++ []
theorem dksX0_layOver_0 : cX0_layOver.data.toList.drop 0 = dktX0_layOver_0 := by decide +kernel
theorem dX0_layOver_0 : decode cX0_layOver 0 = .ok (.aload_n 0, 1) := dk_42 (dk_at dksX0_layOver_0 0 rfl rfl)
theorem dX0_layOver_1 : decode cX0_layOver 1 = .ok (.iconst 0, 1) := dk_3 (dk_at dksX0_layOver_0 1 rfl rfl)
theorem dX0_layOver_2 : decode cX0_layOver 2 = .ok (.aload_n 1, 1) := dk_43 (dk_at dksX0_layOver_0 2 rfl rfl)
theorem dX0_layOver_3 : decode cX0_layOver 3 = .ok (.iconst 0, 1) := dk_3 (dk_at dksX0_layOver_0 3 rfl rfl)
theorem dX0_layOver_4 : decode cX0_layOver 4 = .ok (.aload_n 0, 1) := dk_42 (dk_at dksX0_layOver_0 4 rfl rfl)
theorem dX0_layOver_5 : decode cX0_layOver 5 = .ok (.arraylength, 1) := dk_190 (dk_at dksX0_layOver_0 5 rfl rfl)
theorem dX0_layOver_6 : decode cX0_layOver 6 = .ok (.invokestatic 23, 3) := dk_184 0 23 (dk_at dksX0_layOver_0 6 rfl rfl)
theorem dX0_layOver_9 : decode cX0_layOver 9 = .ok (.return_, 1) := dk_177 (dk_at dksX0_layOver_0 9 rfl rfl)
abbrev cX0_isThird : ByteArray := prog_1_method_8_code
def yX0_isThird : MethodName := ⟨RX0, "isThird", "(II)Z"⟩
def dkwX0_isThird_0 : List UInt8 := [26, 27, 100, 184, 0, 13, 133, 20, 0, 19, 20, 0, 21, 184, 0, 3, 172]
abbrev dktX0_isThird_0 : List UInt8 := dkwX0_isThird_0 ++ []
theorem dksX0_isThird_0 : cX0_isThird.data.toList.drop 0 = dktX0_isThird_0 := by decide +kernel
theorem dX0_isThird_0 : decode cX0_isThird 0 = .ok (.iload_n 0, 1) := dk_26 (dk_at dksX0_isThird_0 0 rfl rfl)
theorem dX0_isThird_1 : decode cX0_isThird 1 = .ok (.iload_n 1, 1) := dk_27 (dk_at dksX0_isThird_0 1 rfl rfl)
theorem dX0_isThird_2 : decode cX0_isThird 2 = .ok (.isub, 1) := dk_100 (dk_at dksX0_isThird_0 2 rfl rfl)
theorem dX0_isThird_3 : decode cX0_isThird 3 = .ok (.invokestatic 13, 3) := dk_184 0 13 (dk_at dksX0_isThird_0 3 rfl rfl)
theorem dX0_isThird_6 : decode cX0_isThird 6 = .ok (.i2l, 1) := dk_133 (dk_at dksX0_isThird_0 6 rfl rfl)
theorem dX0_isThird_7 : decode cX0_isThird 7 = .ok (.ldc2_w 19, 3) := dk_20 0 19 (dk_at dksX0_isThird_0 7 rfl rfl)
theorem dX0_isThird_10 : decode cX0_isThird 10 = .ok (.ldc2_w 21, 3) := dk_20 0 21 (dk_at dksX0_isThird_0 10 rfl rfl)
theorem dX0_isThird_13 : decode cX0_isThird 13 = .ok (.invokestatic 3, 3) := dk_184 0 3 (dk_at dksX0_isThird_0 13 rfl rfl)
theorem dX0_isThird_16 : decode cX0_isThird 16 = .ok (.ireturn, 1) := dk_172 (dk_at dksX0_isThird_0 16 rfl rfl)
abbrev cX0_done : ByteArray := prog_1_method_28_code
def yX0_done : MethodName := ⟨RX0, "done", "()I"⟩
def dkwX0_done_1 : List UInt8 := [181, 0, 140, 42, 180, 0, 143, 172]
abbrev dktX0_done_1 : List UInt8 := dkwX0_done_1 ++ []
def dkwX0_done_0 : List UInt8 := [42, 182, 0, 200, 153, 0, 6, 16, 251, 172, 42, 180, 0, 38, 42, 180, 0, 42, 182, 0, 163, 42, 3]
abbrev dktX0_done_0 : List UInt8 := dkwX0_done_0 ++ dktX0_done_1
theorem dksX0_done_0 : cX0_done.data.toList.drop 0 = dktX0_done_0 := by decide +kernel
theorem dksX0_done_1 : cX0_done.data.toList.drop 23 = dktX0_done_1 := dk_seg dksX0_done_0 23 rfl rfl
theorem dX0_done_0 : decode cX0_done 0 = .ok (.aload_n 0, 1) := dk_42 (dk_at dksX0_done_0 0 rfl rfl)
theorem dX0_done_1 : decode cX0_done 1 = .ok (.invokevirtual 200, 3) := dk_182 0 200 (dk_at dksX0_done_0 1 rfl rfl)
theorem dX0_done_4 : decode cX0_done 4 = .ok (.ifCond .eq 6, 3) := dk_153 0 6 (dk_at dksX0_done_0 4 rfl rfl)
theorem dX0_done_7 : decode cX0_done 7 = .ok (.bipush (-5), 2) := dk_16 251 (dk_at dksX0_done_0 7 rfl rfl)
theorem dX0_done_9 : decode cX0_done 9 = .ok (.ireturn, 1) := dk_172 (dk_at dksX0_done_0 9 rfl rfl)
theorem dX0_done_10 : decode cX0_done 10 = .ok (.aload_n 0, 1) := dk_42 (dk_at dksX0_done_0 10 rfl rfl)
theorem dX0_done_11 : decode cX0_done 11 = .ok (.getfield 38, 3) := dk_180 0 38 (dk_at dksX0_done_0 11 rfl rfl)
theorem dX0_done_14 : decode cX0_done 14 = .ok (.aload_n 0, 1) := dk_42 (dk_at dksX0_done_0 14 rfl rfl)
theorem dX0_done_15 : decode cX0_done 15 = .ok (.getfield 42, 3) := dk_180 0 42 (dk_at dksX0_done_0 15 rfl rfl)
theorem dX0_done_18 : decode cX0_done 18 = .ok (.invokevirtual 163, 3) := dk_182 0 163 (dk_at dksX0_done_0 18 rfl rfl)
theorem dX0_done_21 : decode cX0_done 21 = .ok (.aload_n 0, 1) := dk_42 (dk_at dksX0_done_0 21 rfl rfl)
theorem dX0_done_22 : decode cX0_done 22 = .ok (.iconst 0, 1) := dk_3 (dk_at dksX0_done_0 22 rfl rfl)
theorem dX0_done_23 : decode cX0_done 23 = .ok (.putfield 140, 3) := dk_181 0 140 (dk_at dksX0_done_1 0 rfl rfl)
theorem dX0_done_26 : decode cX0_done 26 = .ok (.aload_n 0, 1) := dk_42 (dk_at dksX0_done_1 3 rfl rfl)
theorem dX0_done_27 : decode cX0_done 27 = .ok (.getfield 143, 3) := dk_180 0 143 (dk_at dksX0_done_1 4 rfl rfl)
theorem dX0_done_30 : decode cX0_done 30 = .ok (.ireturn, 1) := dk_172 (dk_at dksX0_done_1 7 rfl rfl)
abbrev cX0_isRefused : ByteArray := prog_1_method_26_code
def yX0_isRefused : MethodName := ⟨RX0, "isRefused", "()Z"⟩
def dkwX0_isRefused_0 : List UInt8 := [42, 182, 0, 191, 156, 0, 10, 42, 182, 0, 194, 155, 0, 7, 4, 167, 0, 4, 3, 172]
abbrev dktX0_isRefused_0 : List UInt8 := dkwX0_isRefused_0 ++ []
theorem dksX0_isRefused_0 : cX0_isRefused.data.toList.drop 0 = dktX0_isRefused_0 := by decide +kernel
theorem dX0_isRefused_0 : decode cX0_isRefused 0 = .ok (.aload_n 0, 1) := dk_42 (dk_at dksX0_isRefused_0 0 rfl rfl)
theorem dX0_isRefused_1 : decode cX0_isRefused 1 = .ok (.invokevirtual 191, 3) := dk_182 0 191 (dk_at dksX0_isRefused_0 1 rfl rfl)
theorem dX0_isRefused_4 : decode cX0_isRefused 4 = .ok (.ifCond .ge 10, 3) := dk_156 0 10 (dk_at dksX0_isRefused_0 4 rfl rfl)
theorem dX0_isRefused_7 : decode cX0_isRefused 7 = .ok (.aload_n 0, 1) := dk_42 (dk_at dksX0_isRefused_0 7 rfl rfl)
theorem dX0_isRefused_8 : decode cX0_isRefused 8 = .ok (.invokevirtual 194, 3) := dk_182 0 194 (dk_at dksX0_isRefused_0 8 rfl rfl)
theorem dX0_isRefused_11 : decode cX0_isRefused 11 = .ok (.ifCond .lt 7, 3) := dk_155 0 7 (dk_at dksX0_isRefused_0 11 rfl rfl)
theorem dX0_isRefused_14 : decode cX0_isRefused 14 = .ok (.iconst 1, 1) := dk_4 (dk_at dksX0_isRefused_0 14 rfl rfl)
theorem dX0_isRefused_15 : decode cX0_isRefused 15 = .ok (.goto 4, 3) := dk_167 0 4 (dk_at dksX0_isRefused_0 15 rfl rfl)
theorem dX0_isRefused_18 : decode cX0_isRefused 18 = .ok (.iconst 0, 1) := dk_3 (dk_at dksX0_isRefused_0 18 rfl rfl)
theorem dX0_isRefused_19 : decode cX0_isRefused 19 = .ok (.ireturn, 1) := dk_172 (dk_at dksX0_isRefused_0 19 rfl rfl)
abbrev cX0_behind : ByteArray := prog_1_method_29_code
def yX0_behind : MethodName := ⟨RX0, "behind", "(II)I"⟩
def dkwX0_behind_3 : List UInt8 := [180, 0, 127, 27, 46, 172]
abbrev dktX0_behind_3 : List UInt8 := dkwX0_behind_3 ++ []
def dkwX0_behind_2 : List UInt8 := [167, 0, 29, 28, 4, 160, 0, 15, 42, 180, 0, 42, 180, 0, 124, 27, 46, 167, 0, 12, 42, 180, 0, 42]
abbrev dktX0_behind_2 : List UInt8 := dkwX0_behind_2 ++ dktX0_behind_3
def dkwX0_behind_1 : List UInt8 := [172, 42, 182, 0, 200, 153, 0, 6, 16, 251, 172, 28, 154, 0, 15, 42, 180, 0, 42, 180, 0, 130, 27, 46]
abbrev dktX0_behind_1 : List UInt8 := dkwX0_behind_1 ++ dktX0_behind_2
def dkwX0_behind_0 : List UInt8 := [42, 27, 182, 0, 133, 154, 0, 5, 2, 172, 28, 133, 9, 20, 0, 204, 184, 0, 3, 154, 0, 6, 16, 254]
abbrev dktX0_behind_0 : List UInt8 := dkwX0_behind_0 ++ dktX0_behind_1
theorem dksX0_behind_0 : cX0_behind.data.toList.drop 0 = dktX0_behind_0 := by decide +kernel
theorem dksX0_behind_1 : cX0_behind.data.toList.drop 24 = dktX0_behind_1 := dk_seg dksX0_behind_0 24 rfl rfl
theorem dksX0_behind_2 : cX0_behind.data.toList.drop 48 = dktX0_behind_2 := dk_seg dksX0_behind_1 24 rfl rfl
theorem dksX0_behind_3 : cX0_behind.data.toList.drop 72 = dktX0_behind_3 := dk_seg dksX0_behind_2 24 rfl rfl
theorem dX0_behind_0 : decode cX0_behind 0 = .ok (.aload_n 0, 1) := dk_42 (dk_at dksX0_behind_0 0 rfl rfl)
theorem dX0_behind_1 : decode cX0_behind 1 = .ok (.iload_n 1, 1) := dk_27 (dk_at dksX0_behind_0 1 rfl rfl)
theorem dX0_behind_2 : decode cX0_behind 2 = .ok (.invokevirtual 133, 3) := dk_182 0 133 (dk_at dksX0_behind_0 2 rfl rfl)
theorem dX0_behind_5 : decode cX0_behind 5 = .ok (.ifCond .ne 5, 3) := dk_154 0 5 (dk_at dksX0_behind_0 5 rfl rfl)
theorem dX0_behind_8 : decode cX0_behind 8 = .ok (.iconst (-1), 1) := dk_2 (dk_at dksX0_behind_0 8 rfl rfl)
theorem dX0_behind_9 : decode cX0_behind 9 = .ok (.ireturn, 1) := dk_172 (dk_at dksX0_behind_0 9 rfl rfl)
theorem dX0_behind_10 : decode cX0_behind 10 = .ok (.iload_n 2, 1) := dk_28 (dk_at dksX0_behind_0 10 rfl rfl)
theorem dX0_behind_11 : decode cX0_behind 11 = .ok (.i2l, 1) := dk_133 (dk_at dksX0_behind_0 11 rfl rfl)
theorem dX0_behind_12 : decode cX0_behind 12 = .ok (.lconst 0, 1) := dk_9 (dk_at dksX0_behind_0 12 rfl rfl)
theorem dX0_behind_13 : decode cX0_behind 13 = .ok (.ldc2_w 204, 3) := dk_20 0 204 (dk_at dksX0_behind_0 13 rfl rfl)
theorem dX0_behind_16 : decode cX0_behind 16 = .ok (.invokestatic 3, 3) := dk_184 0 3 (dk_at dksX0_behind_0 16 rfl rfl)
theorem dX0_behind_19 : decode cX0_behind 19 = .ok (.ifCond .ne 6, 3) := dk_154 0 6 (dk_at dksX0_behind_0 19 rfl rfl)
theorem dX0_behind_22 : decode cX0_behind 22 = .ok (.bipush (-2), 2) := dk_16 254 (dk_at dksX0_behind_0 22 rfl rfl)
theorem dX0_behind_24 : decode cX0_behind 24 = .ok (.ireturn, 1) := dk_172 (dk_at dksX0_behind_1 0 rfl rfl)
theorem dX0_behind_25 : decode cX0_behind 25 = .ok (.aload_n 0, 1) := dk_42 (dk_at dksX0_behind_1 1 rfl rfl)
theorem dX0_behind_26 : decode cX0_behind 26 = .ok (.invokevirtual 200, 3) := dk_182 0 200 (dk_at dksX0_behind_1 2 rfl rfl)
theorem dX0_behind_29 : decode cX0_behind 29 = .ok (.ifCond .eq 6, 3) := dk_153 0 6 (dk_at dksX0_behind_1 5 rfl rfl)
theorem dX0_behind_32 : decode cX0_behind 32 = .ok (.bipush (-5), 2) := dk_16 251 (dk_at dksX0_behind_1 8 rfl rfl)
theorem dX0_behind_34 : decode cX0_behind 34 = .ok (.ireturn, 1) := dk_172 (dk_at dksX0_behind_1 10 rfl rfl)
theorem dX0_behind_35 : decode cX0_behind 35 = .ok (.iload_n 2, 1) := dk_28 (dk_at dksX0_behind_1 11 rfl rfl)
theorem dX0_behind_36 : decode cX0_behind 36 = .ok (.ifCond .ne 15, 3) := dk_154 0 15 (dk_at dksX0_behind_1 12 rfl rfl)
theorem dX0_behind_39 : decode cX0_behind 39 = .ok (.aload_n 0, 1) := dk_42 (dk_at dksX0_behind_1 15 rfl rfl)
theorem dX0_behind_40 : decode cX0_behind 40 = .ok (.getfield 42, 3) := dk_180 0 42 (dk_at dksX0_behind_1 16 rfl rfl)
theorem dX0_behind_43 : decode cX0_behind 43 = .ok (.getfield 130, 3) := dk_180 0 130 (dk_at dksX0_behind_1 19 rfl rfl)
theorem dX0_behind_46 : decode cX0_behind 46 = .ok (.iload_n 1, 1) := dk_27 (dk_at dksX0_behind_1 22 rfl rfl)
theorem dX0_behind_47 : decode cX0_behind 47 = .ok (.iaload, 1) := dk_46 (dk_at dksX0_behind_1 23 rfl rfl)
theorem dX0_behind_48 : decode cX0_behind 48 = .ok (.goto 29, 3) := dk_167 0 29 (dk_at dksX0_behind_2 0 rfl rfl)
theorem dX0_behind_51 : decode cX0_behind 51 = .ok (.iload_n 2, 1) := dk_28 (dk_at dksX0_behind_2 3 rfl rfl)
theorem dX0_behind_52 : decode cX0_behind 52 = .ok (.iconst 1, 1) := dk_4 (dk_at dksX0_behind_2 4 rfl rfl)
theorem dX0_behind_53 : decode cX0_behind 53 = .ok (.if_icmp .ne 15, 3) := dk_160 0 15 (dk_at dksX0_behind_2 5 rfl rfl)
theorem dX0_behind_56 : decode cX0_behind 56 = .ok (.aload_n 0, 1) := dk_42 (dk_at dksX0_behind_2 8 rfl rfl)
theorem dX0_behind_57 : decode cX0_behind 57 = .ok (.getfield 42, 3) := dk_180 0 42 (dk_at dksX0_behind_2 9 rfl rfl)
theorem dX0_behind_60 : decode cX0_behind 60 = .ok (.getfield 124, 3) := dk_180 0 124 (dk_at dksX0_behind_2 12 rfl rfl)
theorem dX0_behind_63 : decode cX0_behind 63 = .ok (.iload_n 1, 1) := dk_27 (dk_at dksX0_behind_2 15 rfl rfl)
theorem dX0_behind_64 : decode cX0_behind 64 = .ok (.iaload, 1) := dk_46 (dk_at dksX0_behind_2 16 rfl rfl)
theorem dX0_behind_65 : decode cX0_behind 65 = .ok (.goto 12, 3) := dk_167 0 12 (dk_at dksX0_behind_2 17 rfl rfl)
theorem dX0_behind_68 : decode cX0_behind 68 = .ok (.aload_n 0, 1) := dk_42 (dk_at dksX0_behind_2 20 rfl rfl)
theorem dX0_behind_69 : decode cX0_behind 69 = .ok (.getfield 42, 3) := dk_180 0 42 (dk_at dksX0_behind_2 21 rfl rfl)
theorem dX0_behind_72 : decode cX0_behind 72 = .ok (.getfield 127, 3) := dk_180 0 127 (dk_at dksX0_behind_3 0 rfl rfl)
theorem dX0_behind_75 : decode cX0_behind 75 = .ok (.iload_n 1, 1) := dk_27 (dk_at dksX0_behind_3 3 rfl rfl)
theorem dX0_behind_76 : decode cX0_behind 76 = .ok (.iaload, 1) := dk_46 (dk_at dksX0_behind_3 4 rfl rfl)
theorem dX0_behind_77 : decode cX0_behind 77 = .ok (.ireturn, 1) := dk_172 (dk_at dksX0_behind_3 5 rfl rfl)
abbrev cX0_seam : ByteArray := prog_1_method_30_code
def yX0_seam : MethodName := ⟨RX0, "seam", "(II)I"⟩
def dkwX0_seam_2 : List UInt8 := [180, 0, 42, 180, 0, 209, 27, 46, 172]
abbrev dktX0_seam_2 : List UInt8 := dkwX0_seam_2 ++ []
def dkwX0_seam_1 : List UInt8 := [153, 0, 8, 16, 251, 167, 0, 27, 28, 154, 0, 14, 42, 180, 0, 42, 27, 182, 0, 206, 167, 0, 12, 42]
abbrev dktX0_seam_1 : List UInt8 := dkwX0_seam_1 ++ dktX0_seam_2
def dkwX0_seam_0 : List UInt8 := [27, 184, 0, 85, 154, 0, 5, 2, 172, 28, 184, 0, 197, 154, 0, 6, 16, 254, 172, 42, 182, 0, 200]
abbrev dktX0_seam_0 : List UInt8 := dkwX0_seam_0 ++ dktX0_seam_1
theorem dksX0_seam_0 : cX0_seam.data.toList.drop 0 = dktX0_seam_0 := by decide +kernel
theorem dksX0_seam_1 : cX0_seam.data.toList.drop 23 = dktX0_seam_1 := dk_seg dksX0_seam_0 23 rfl rfl
theorem dksX0_seam_2 : cX0_seam.data.toList.drop 47 = dktX0_seam_2 := dk_seg dksX0_seam_1 24 rfl rfl
theorem dX0_seam_0 : decode cX0_seam 0 = .ok (.iload_n 1, 1) := dk_27 (dk_at dksX0_seam_0 0 rfl rfl)
theorem dX0_seam_1 : decode cX0_seam 1 = .ok (.invokestatic 85, 3) := dk_184 0 85 (dk_at dksX0_seam_0 1 rfl rfl)
theorem dX0_seam_4 : decode cX0_seam 4 = .ok (.ifCond .ne 5, 3) := dk_154 0 5 (dk_at dksX0_seam_0 4 rfl rfl)
theorem dX0_seam_7 : decode cX0_seam 7 = .ok (.iconst (-1), 1) := dk_2 (dk_at dksX0_seam_0 7 rfl rfl)
theorem dX0_seam_8 : decode cX0_seam 8 = .ok (.ireturn, 1) := dk_172 (dk_at dksX0_seam_0 8 rfl rfl)
theorem dX0_seam_9 : decode cX0_seam 9 = .ok (.iload_n 2, 1) := dk_28 (dk_at dksX0_seam_0 9 rfl rfl)
theorem dX0_seam_10 : decode cX0_seam 10 = .ok (.invokestatic 197, 3) := dk_184 0 197 (dk_at dksX0_seam_0 10 rfl rfl)
theorem dX0_seam_13 : decode cX0_seam 13 = .ok (.ifCond .ne 6, 3) := dk_154 0 6 (dk_at dksX0_seam_0 13 rfl rfl)
theorem dX0_seam_16 : decode cX0_seam 16 = .ok (.bipush (-2), 2) := dk_16 254 (dk_at dksX0_seam_0 16 rfl rfl)
theorem dX0_seam_18 : decode cX0_seam 18 = .ok (.ireturn, 1) := dk_172 (dk_at dksX0_seam_0 18 rfl rfl)
theorem dX0_seam_19 : decode cX0_seam 19 = .ok (.aload_n 0, 1) := dk_42 (dk_at dksX0_seam_0 19 rfl rfl)
theorem dX0_seam_20 : decode cX0_seam 20 = .ok (.invokevirtual 200, 3) := dk_182 0 200 (dk_at dksX0_seam_0 20 rfl rfl)
theorem dX0_seam_23 : decode cX0_seam 23 = .ok (.ifCond .eq 8, 3) := dk_153 0 8 (dk_at dksX0_seam_1 0 rfl rfl)
theorem dX0_seam_26 : decode cX0_seam 26 = .ok (.bipush (-5), 2) := dk_16 251 (dk_at dksX0_seam_1 3 rfl rfl)
theorem dX0_seam_28 : decode cX0_seam 28 = .ok (.goto 27, 3) := dk_167 0 27 (dk_at dksX0_seam_1 5 rfl rfl)
theorem dX0_seam_31 : decode cX0_seam 31 = .ok (.iload_n 2, 1) := dk_28 (dk_at dksX0_seam_1 8 rfl rfl)
theorem dX0_seam_32 : decode cX0_seam 32 = .ok (.ifCond .ne 14, 3) := dk_154 0 14 (dk_at dksX0_seam_1 9 rfl rfl)
theorem dX0_seam_35 : decode cX0_seam 35 = .ok (.aload_n 0, 1) := dk_42 (dk_at dksX0_seam_1 12 rfl rfl)
theorem dX0_seam_36 : decode cX0_seam 36 = .ok (.getfield 42, 3) := dk_180 0 42 (dk_at dksX0_seam_1 13 rfl rfl)
theorem dX0_seam_39 : decode cX0_seam 39 = .ok (.iload_n 1, 1) := dk_27 (dk_at dksX0_seam_1 16 rfl rfl)
theorem dX0_seam_40 : decode cX0_seam 40 = .ok (.invokevirtual 206, 3) := dk_182 0 206 (dk_at dksX0_seam_1 17 rfl rfl)
theorem dX0_seam_43 : decode cX0_seam 43 = .ok (.goto 12, 3) := dk_167 0 12 (dk_at dksX0_seam_1 20 rfl rfl)
theorem dX0_seam_46 : decode cX0_seam 46 = .ok (.aload_n 0, 1) := dk_42 (dk_at dksX0_seam_1 23 rfl rfl)
theorem dX0_seam_47 : decode cX0_seam 47 = .ok (.getfield 42, 3) := dk_180 0 42 (dk_at dksX0_seam_2 0 rfl rfl)
theorem dX0_seam_50 : decode cX0_seam 50 = .ok (.getfield 209, 3) := dk_180 0 209 (dk_at dksX0_seam_2 3 rfl rfl)
theorem dX0_seam_53 : decode cX0_seam 53 = .ok (.iload_n 1, 1) := dk_27 (dk_at dksX0_seam_2 6 rfl rfl)
theorem dX0_seam_54 : decode cX0_seam 54 = .ok (.iaload, 1) := dk_46 (dk_at dksX0_seam_2 7 rfl rfl)
theorem dX0_seam_55 : decode cX0_seam 55 = .ok (.ireturn, 1) := dk_172 (dk_at dksX0_seam_2 8 rfl rfl)
abbrev cX0_then : ByteArray := prog_1_method_31_code
def yX0_then : MethodName := ⟨RX0, "then", "(I)I"⟩
def dkwX0_then_4 : List UInt8 := [42, 180, 0, 170, 172, 42, 180, 0, 173, 172]
abbrev dktX0_then_4 : List UInt8 := dkwX0_then_4 ++ []
def dkwX0_then_3 : List UInt8 := [42, 180, 0, 42, 182, 0, 180, 172, 42, 180, 0, 42, 180, 0, 212, 172, 42, 180, 0, 42, 182, 0, 215, 172]
abbrev dktX0_then_3 : List UInt8 := dkwX0_then_3 ++ dktX0_then_4
def dkwX0_then_2 : List UInt8 := [170, 0, 0, 0, 0, 59, 0, 0, 0, 0, 0, 0, 0, 3, 0, 0, 0, 30, 0, 0, 0, 38, 0, 0, 0, 46, 0, 0, 0, 54]
abbrev dktX0_then_2 : List UInt8 := dkwX0_then_2 ++ dktX0_then_3
def dkwX0_then_1 : List UInt8 := [172, 27]
abbrev dktX0_then_1 : List UInt8 := dkwX0_then_1 ++ dktX0_then_2
def dkwX0_then_0 : List UInt8 := [27, 133, 9, 20, 0, 21, 184, 0, 3, 154, 0, 6, 16, 254, 172, 42, 182, 0, 200, 153, 0, 6, 16, 251]
abbrev dktX0_then_0 : List UInt8 := dkwX0_then_0 ++ dktX0_then_1
theorem dksX0_then_0 : cX0_then.data.toList.drop 0 = dktX0_then_0 := by decide +kernel
theorem dksX0_then_1 : cX0_then.data.toList.drop 24 = dktX0_then_1 := dk_seg dksX0_then_0 24 rfl rfl
theorem dksX0_then_2 : cX0_then.data.toList.drop 26 = dktX0_then_2 := dk_seg dksX0_then_1 2 rfl rfl
theorem dksX0_then_3 : cX0_then.data.toList.drop 56 = dktX0_then_3 := dk_seg dksX0_then_2 30 rfl rfl
theorem dksX0_then_4 : cX0_then.data.toList.drop 80 = dktX0_then_4 := dk_seg dksX0_then_3 24 rfl rfl
theorem dX0_then_0 : decode cX0_then 0 = .ok (.iload_n 1, 1) := dk_27 (dk_at dksX0_then_0 0 rfl rfl)
theorem dX0_then_1 : decode cX0_then 1 = .ok (.i2l, 1) := dk_133 (dk_at dksX0_then_0 1 rfl rfl)
theorem dX0_then_2 : decode cX0_then 2 = .ok (.lconst 0, 1) := dk_9 (dk_at dksX0_then_0 2 rfl rfl)
theorem dX0_then_3 : decode cX0_then 3 = .ok (.ldc2_w 21, 3) := dk_20 0 21 (dk_at dksX0_then_0 3 rfl rfl)
theorem dX0_then_6 : decode cX0_then 6 = .ok (.invokestatic 3, 3) := dk_184 0 3 (dk_at dksX0_then_0 6 rfl rfl)
theorem dX0_then_9 : decode cX0_then 9 = .ok (.ifCond .ne 6, 3) := dk_154 0 6 (dk_at dksX0_then_0 9 rfl rfl)
theorem dX0_then_12 : decode cX0_then 12 = .ok (.bipush (-2), 2) := dk_16 254 (dk_at dksX0_then_0 12 rfl rfl)
theorem dX0_then_14 : decode cX0_then 14 = .ok (.ireturn, 1) := dk_172 (dk_at dksX0_then_0 14 rfl rfl)
theorem dX0_then_15 : decode cX0_then 15 = .ok (.aload_n 0, 1) := dk_42 (dk_at dksX0_then_0 15 rfl rfl)
theorem dX0_then_16 : decode cX0_then 16 = .ok (.invokevirtual 200, 3) := dk_182 0 200 (dk_at dksX0_then_0 16 rfl rfl)
theorem dX0_then_19 : decode cX0_then 19 = .ok (.ifCond .eq 6, 3) := dk_153 0 6 (dk_at dksX0_then_0 19 rfl rfl)
theorem dX0_then_22 : decode cX0_then 22 = .ok (.bipush (-5), 2) := dk_16 251 (dk_at dksX0_then_0 22 rfl rfl)
theorem dX0_then_24 : decode cX0_then 24 = .ok (.ireturn, 1) := dk_172 (dk_at dksX0_then_1 0 rfl rfl)
theorem dX0_then_25 : decode cX0_then 25 = .ok (.iload_n 1, 1) := dk_27 (dk_at dksX0_then_1 1 rfl rfl)
theorem dX0_then_26 : decode cX0_then 26 = .ok (.tableswitch 59 0 3 #[30, 38, 46, 54], 30) := by decide +kernel
theorem dX0_then_56 : decode cX0_then 56 = .ok (.aload_n 0, 1) := dk_42 (dk_at dksX0_then_3 0 rfl rfl)
theorem dX0_then_57 : decode cX0_then 57 = .ok (.getfield 42, 3) := dk_180 0 42 (dk_at dksX0_then_3 1 rfl rfl)
theorem dX0_then_60 : decode cX0_then 60 = .ok (.invokevirtual 180, 3) := dk_182 0 180 (dk_at dksX0_then_3 4 rfl rfl)
theorem dX0_then_63 : decode cX0_then 63 = .ok (.ireturn, 1) := dk_172 (dk_at dksX0_then_3 7 rfl rfl)
theorem dX0_then_64 : decode cX0_then 64 = .ok (.aload_n 0, 1) := dk_42 (dk_at dksX0_then_3 8 rfl rfl)
theorem dX0_then_65 : decode cX0_then 65 = .ok (.getfield 42, 3) := dk_180 0 42 (dk_at dksX0_then_3 9 rfl rfl)
theorem dX0_then_68 : decode cX0_then 68 = .ok (.getfield 212, 3) := dk_180 0 212 (dk_at dksX0_then_3 12 rfl rfl)
theorem dX0_then_71 : decode cX0_then 71 = .ok (.ireturn, 1) := dk_172 (dk_at dksX0_then_3 15 rfl rfl)
theorem dX0_then_72 : decode cX0_then 72 = .ok (.aload_n 0, 1) := dk_42 (dk_at dksX0_then_3 16 rfl rfl)
theorem dX0_then_73 : decode cX0_then 73 = .ok (.getfield 42, 3) := dk_180 0 42 (dk_at dksX0_then_3 17 rfl rfl)
theorem dX0_then_76 : decode cX0_then 76 = .ok (.invokevirtual 215, 3) := dk_182 0 215 (dk_at dksX0_then_3 20 rfl rfl)
theorem dX0_then_79 : decode cX0_then 79 = .ok (.ireturn, 1) := dk_172 (dk_at dksX0_then_3 23 rfl rfl)
theorem dX0_then_80 : decode cX0_then 80 = .ok (.aload_n 0, 1) := dk_42 (dk_at dksX0_then_4 0 rfl rfl)
theorem dX0_then_81 : decode cX0_then 81 = .ok (.getfield 170, 3) := dk_180 0 170 (dk_at dksX0_then_4 1 rfl rfl)
theorem dX0_then_84 : decode cX0_then 84 = .ok (.ireturn, 1) := dk_172 (dk_at dksX0_then_4 4 rfl rfl)
theorem dX0_then_85 : decode cX0_then 85 = .ok (.aload_n 0, 1) := dk_42 (dk_at dksX0_then_4 5 rfl rfl)
theorem dX0_then_86 : decode cX0_then 86 = .ok (.getfield 173, 3) := dk_180 0 173 (dk_at dksX0_then_4 6 rfl rfl)
theorem dX0_then_89 : decode cX0_then 89 = .ok (.ireturn, 1) := dk_172 (dk_at dksX0_then_4 9 rfl rfl)
abbrev cX0_light : ByteArray := prog_1_method_32_code
def yX0_light : MethodName := ⟨RX0, "light", "(I)I"⟩
def dkwX0_light_0 : List UInt8 := [27, 184, 0, 85, 153, 0, 14, 42, 180, 0, 38, 27, 182, 0, 206, 167, 0, 4, 2, 172]
abbrev dktX0_light_0 : List UInt8 := dkwX0_light_0 ++ []
theorem dksX0_light_0 : cX0_light.data.toList.drop 0 = dktX0_light_0 := by decide +kernel
theorem dX0_light_0 : decode cX0_light 0 = .ok (.iload_n 1, 1) := dk_27 (dk_at dksX0_light_0 0 rfl rfl)
theorem dX0_light_1 : decode cX0_light 1 = .ok (.invokestatic 85, 3) := dk_184 0 85 (dk_at dksX0_light_0 1 rfl rfl)
theorem dX0_light_4 : decode cX0_light 4 = .ok (.ifCond .eq 14, 3) := dk_153 0 14 (dk_at dksX0_light_0 4 rfl rfl)
theorem dX0_light_7 : decode cX0_light 7 = .ok (.aload_n 0, 1) := dk_42 (dk_at dksX0_light_0 7 rfl rfl)
theorem dX0_light_8 : decode cX0_light 8 = .ok (.getfield 38, 3) := dk_180 0 38 (dk_at dksX0_light_0 8 rfl rfl)
theorem dX0_light_11 : decode cX0_light 11 = .ok (.iload_n 1, 1) := dk_27 (dk_at dksX0_light_0 11 rfl rfl)
theorem dX0_light_12 : decode cX0_light 12 = .ok (.invokevirtual 206, 3) := dk_182 0 206 (dk_at dksX0_light_0 12 rfl rfl)
theorem dX0_light_15 : decode cX0_light 15 = .ok (.goto 4, 3) := dk_167 0 4 (dk_at dksX0_light_0 15 rfl rfl)
theorem dX0_light_18 : decode cX0_light 18 = .ok (.iconst (-1), 1) := dk_2 (dk_at dksX0_light_0 18 rfl rfl)
theorem dX0_light_19 : decode cX0_light 19 = .ok (.ireturn, 1) := dk_172 (dk_at dksX0_light_0 19 rfl rfl)
abbrev cX0_shakes : ByteArray := prog_1_method_33_code
def yX0_shakes : MethodName := ⟨RX0, "shakes", "()I"⟩
def dkwX0_shakes_5 : List UInt8 := [167, 255, 151, 132, 2, 1, 167, 255, 137, 27, 172]
abbrev dktX0_shakes_5 : List UInt8 := dkwX0_shakes_5 ++ []
def dkwX0_shakes_4 : List UInt8 := [160, 0, 17, 4, 42, 180, 0, 38, 180, 0, 127, 28, 46, 120, 167, 0, 4, 3, 128, 60, 132, 3, 1]
abbrev dktX0_shakes_4 : List UInt8 := dkwX0_shakes_4 ++ dktX0_shakes_5
def dkwX0_shakes_3 : List UInt8 := [153, 0, 40, 42, 180, 0, 38, 180, 0, 130, 28, 46, 42, 180, 0, 38, 180, 0, 130, 29, 46, 100, 4]
abbrev dktX0_shakes_3 : List UInt8 := dkwX0_shakes_3 ++ dktX0_shakes_4
def dkwX0_shakes_2 : List UInt8 := [28, 46, 42, 180, 0, 38, 180, 0, 127, 29, 46, 160, 0, 7, 4, 167, 0, 4, 3, 54, 4, 27, 21, 4]
abbrev dktX0_shakes_2 : List UInt8 := dkwX0_shakes_2 ++ dktX0_shakes_3
def dkwX0_shakes_1 : List UInt8 := [182, 0, 218, 153, 0, 39, 42, 180, 0, 38, 29, 182, 0, 218, 153, 0, 28, 42, 180, 0, 38, 180, 0, 127]
abbrev dktX0_shakes_1 : List UInt8 := dkwX0_shakes_1 ++ dktX0_shakes_2
def dkwX0_shakes_0 : List UInt8 := [3, 60, 3, 61, 28, 16, 8, 162, 0, 119, 3, 62, 29, 16, 8, 162, 0, 105, 42, 180, 0, 38, 28]
abbrev dktX0_shakes_0 : List UInt8 := dkwX0_shakes_0 ++ dktX0_shakes_1
theorem dksX0_shakes_0 : cX0_shakes.data.toList.drop 0 = dktX0_shakes_0 := by decide +kernel
theorem dksX0_shakes_1 : cX0_shakes.data.toList.drop 23 = dktX0_shakes_1 := dk_seg dksX0_shakes_0 23 rfl rfl
theorem dksX0_shakes_2 : cX0_shakes.data.toList.drop 47 = dktX0_shakes_2 := dk_seg dksX0_shakes_1 24 rfl rfl
theorem dksX0_shakes_3 : cX0_shakes.data.toList.drop 71 = dktX0_shakes_3 := dk_seg dksX0_shakes_2 24 rfl rfl
theorem dksX0_shakes_4 : cX0_shakes.data.toList.drop 94 = dktX0_shakes_4 := dk_seg dksX0_shakes_3 23 rfl rfl
theorem dksX0_shakes_5 : cX0_shakes.data.toList.drop 117 = dktX0_shakes_5 := dk_seg dksX0_shakes_4 23 rfl rfl
theorem dX0_shakes_0 : decode cX0_shakes 0 = .ok (.iconst 0, 1) := dk_3 (dk_at dksX0_shakes_0 0 rfl rfl)
theorem dX0_shakes_1 : decode cX0_shakes 1 = .ok (.istore_n 1, 1) := dk_60 (dk_at dksX0_shakes_0 1 rfl rfl)
theorem dX0_shakes_2 : decode cX0_shakes 2 = .ok (.iconst 0, 1) := dk_3 (dk_at dksX0_shakes_0 2 rfl rfl)
theorem dX0_shakes_3 : decode cX0_shakes 3 = .ok (.istore_n 2, 1) := dk_61 (dk_at dksX0_shakes_0 3 rfl rfl)
theorem dX0_shakes_4 : decode cX0_shakes 4 = .ok (.iload_n 2, 1) := dk_28 (dk_at dksX0_shakes_0 4 rfl rfl)
theorem dX0_shakes_5 : decode cX0_shakes 5 = .ok (.bipush 8, 2) := dk_16 8 (dk_at dksX0_shakes_0 5 rfl rfl)
theorem dX0_shakes_7 : decode cX0_shakes 7 = .ok (.if_icmp .ge 119, 3) := dk_162 0 119 (dk_at dksX0_shakes_0 7 rfl rfl)
theorem dX0_shakes_10 : decode cX0_shakes 10 = .ok (.iconst 0, 1) := dk_3 (dk_at dksX0_shakes_0 10 rfl rfl)
theorem dX0_shakes_11 : decode cX0_shakes 11 = .ok (.istore_n 3, 1) := dk_62 (dk_at dksX0_shakes_0 11 rfl rfl)
theorem dX0_shakes_12 : decode cX0_shakes 12 = .ok (.iload_n 3, 1) := dk_29 (dk_at dksX0_shakes_0 12 rfl rfl)
theorem dX0_shakes_13 : decode cX0_shakes 13 = .ok (.bipush 8, 2) := dk_16 8 (dk_at dksX0_shakes_0 13 rfl rfl)
theorem dX0_shakes_15 : decode cX0_shakes 15 = .ok (.if_icmp .ge 105, 3) := dk_162 0 105 (dk_at dksX0_shakes_0 15 rfl rfl)
theorem dX0_shakes_18 : decode cX0_shakes 18 = .ok (.aload_n 0, 1) := dk_42 (dk_at dksX0_shakes_0 18 rfl rfl)
theorem dX0_shakes_19 : decode cX0_shakes 19 = .ok (.getfield 38, 3) := dk_180 0 38 (dk_at dksX0_shakes_0 19 rfl rfl)
theorem dX0_shakes_22 : decode cX0_shakes 22 = .ok (.iload_n 2, 1) := dk_28 (dk_at dksX0_shakes_0 22 rfl rfl)
theorem dX0_shakes_23 : decode cX0_shakes 23 = .ok (.invokevirtual 218, 3) := dk_182 0 218 (dk_at dksX0_shakes_1 0 rfl rfl)
theorem dX0_shakes_26 : decode cX0_shakes 26 = .ok (.ifCond .eq 39, 3) := dk_153 0 39 (dk_at dksX0_shakes_1 3 rfl rfl)
theorem dX0_shakes_29 : decode cX0_shakes 29 = .ok (.aload_n 0, 1) := dk_42 (dk_at dksX0_shakes_1 6 rfl rfl)
theorem dX0_shakes_30 : decode cX0_shakes 30 = .ok (.getfield 38, 3) := dk_180 0 38 (dk_at dksX0_shakes_1 7 rfl rfl)
theorem dX0_shakes_33 : decode cX0_shakes 33 = .ok (.iload_n 3, 1) := dk_29 (dk_at dksX0_shakes_1 10 rfl rfl)
theorem dX0_shakes_34 : decode cX0_shakes 34 = .ok (.invokevirtual 218, 3) := dk_182 0 218 (dk_at dksX0_shakes_1 11 rfl rfl)
theorem dX0_shakes_37 : decode cX0_shakes 37 = .ok (.ifCond .eq 28, 3) := dk_153 0 28 (dk_at dksX0_shakes_1 14 rfl rfl)
theorem dX0_shakes_40 : decode cX0_shakes 40 = .ok (.aload_n 0, 1) := dk_42 (dk_at dksX0_shakes_1 17 rfl rfl)
theorem dX0_shakes_41 : decode cX0_shakes 41 = .ok (.getfield 38, 3) := dk_180 0 38 (dk_at dksX0_shakes_1 18 rfl rfl)
theorem dX0_shakes_44 : decode cX0_shakes 44 = .ok (.getfield 127, 3) := dk_180 0 127 (dk_at dksX0_shakes_1 21 rfl rfl)
theorem dX0_shakes_47 : decode cX0_shakes 47 = .ok (.iload_n 2, 1) := dk_28 (dk_at dksX0_shakes_2 0 rfl rfl)
theorem dX0_shakes_48 : decode cX0_shakes 48 = .ok (.iaload, 1) := dk_46 (dk_at dksX0_shakes_2 1 rfl rfl)
theorem dX0_shakes_49 : decode cX0_shakes 49 = .ok (.aload_n 0, 1) := dk_42 (dk_at dksX0_shakes_2 2 rfl rfl)
theorem dX0_shakes_50 : decode cX0_shakes 50 = .ok (.getfield 38, 3) := dk_180 0 38 (dk_at dksX0_shakes_2 3 rfl rfl)
theorem dX0_shakes_53 : decode cX0_shakes 53 = .ok (.getfield 127, 3) := dk_180 0 127 (dk_at dksX0_shakes_2 6 rfl rfl)
theorem dX0_shakes_56 : decode cX0_shakes 56 = .ok (.iload_n 3, 1) := dk_29 (dk_at dksX0_shakes_2 9 rfl rfl)
theorem dX0_shakes_57 : decode cX0_shakes 57 = .ok (.iaload, 1) := dk_46 (dk_at dksX0_shakes_2 10 rfl rfl)
theorem dX0_shakes_58 : decode cX0_shakes 58 = .ok (.if_icmp .ne 7, 3) := dk_160 0 7 (dk_at dksX0_shakes_2 11 rfl rfl)
theorem dX0_shakes_61 : decode cX0_shakes 61 = .ok (.iconst 1, 1) := dk_4 (dk_at dksX0_shakes_2 14 rfl rfl)
theorem dX0_shakes_62 : decode cX0_shakes 62 = .ok (.goto 4, 3) := dk_167 0 4 (dk_at dksX0_shakes_2 15 rfl rfl)
theorem dX0_shakes_65 : decode cX0_shakes 65 = .ok (.iconst 0, 1) := dk_3 (dk_at dksX0_shakes_2 18 rfl rfl)
theorem dX0_shakes_66 : decode cX0_shakes 66 = .ok (.istore 4, 2) := dk_54 4 (dk_at dksX0_shakes_2 19 rfl rfl)
theorem dX0_shakes_68 : decode cX0_shakes 68 = .ok (.iload_n 1, 1) := dk_27 (dk_at dksX0_shakes_2 21 rfl rfl)
theorem dX0_shakes_69 : decode cX0_shakes 69 = .ok (.iload 4, 2) := dk_21 4 (dk_at dksX0_shakes_2 22 rfl rfl)
theorem dX0_shakes_71 : decode cX0_shakes 71 = .ok (.ifCond .eq 40, 3) := dk_153 0 40 (dk_at dksX0_shakes_3 0 rfl rfl)
theorem dX0_shakes_74 : decode cX0_shakes 74 = .ok (.aload_n 0, 1) := dk_42 (dk_at dksX0_shakes_3 3 rfl rfl)
theorem dX0_shakes_75 : decode cX0_shakes 75 = .ok (.getfield 38, 3) := dk_180 0 38 (dk_at dksX0_shakes_3 4 rfl rfl)
theorem dX0_shakes_78 : decode cX0_shakes 78 = .ok (.getfield 130, 3) := dk_180 0 130 (dk_at dksX0_shakes_3 7 rfl rfl)
theorem dX0_shakes_81 : decode cX0_shakes 81 = .ok (.iload_n 2, 1) := dk_28 (dk_at dksX0_shakes_3 10 rfl rfl)
theorem dX0_shakes_82 : decode cX0_shakes 82 = .ok (.iaload, 1) := dk_46 (dk_at dksX0_shakes_3 11 rfl rfl)
theorem dX0_shakes_83 : decode cX0_shakes 83 = .ok (.aload_n 0, 1) := dk_42 (dk_at dksX0_shakes_3 12 rfl rfl)
theorem dX0_shakes_84 : decode cX0_shakes 84 = .ok (.getfield 38, 3) := dk_180 0 38 (dk_at dksX0_shakes_3 13 rfl rfl)
theorem dX0_shakes_87 : decode cX0_shakes 87 = .ok (.getfield 130, 3) := dk_180 0 130 (dk_at dksX0_shakes_3 16 rfl rfl)
theorem dX0_shakes_90 : decode cX0_shakes 90 = .ok (.iload_n 3, 1) := dk_29 (dk_at dksX0_shakes_3 19 rfl rfl)
theorem dX0_shakes_91 : decode cX0_shakes 91 = .ok (.iaload, 1) := dk_46 (dk_at dksX0_shakes_3 20 rfl rfl)
theorem dX0_shakes_92 : decode cX0_shakes 92 = .ok (.isub, 1) := dk_100 (dk_at dksX0_shakes_3 21 rfl rfl)
theorem dX0_shakes_93 : decode cX0_shakes 93 = .ok (.iconst 1, 1) := dk_4 (dk_at dksX0_shakes_3 22 rfl rfl)
theorem dX0_shakes_94 : decode cX0_shakes 94 = .ok (.if_icmp .ne 17, 3) := dk_160 0 17 (dk_at dksX0_shakes_4 0 rfl rfl)
theorem dX0_shakes_97 : decode cX0_shakes 97 = .ok (.iconst 1, 1) := dk_4 (dk_at dksX0_shakes_4 3 rfl rfl)
theorem dX0_shakes_98 : decode cX0_shakes 98 = .ok (.aload_n 0, 1) := dk_42 (dk_at dksX0_shakes_4 4 rfl rfl)
theorem dX0_shakes_99 : decode cX0_shakes 99 = .ok (.getfield 38, 3) := dk_180 0 38 (dk_at dksX0_shakes_4 5 rfl rfl)
theorem dX0_shakes_102 : decode cX0_shakes 102 = .ok (.getfield 127, 3) := dk_180 0 127 (dk_at dksX0_shakes_4 8 rfl rfl)
theorem dX0_shakes_105 : decode cX0_shakes 105 = .ok (.iload_n 2, 1) := dk_28 (dk_at dksX0_shakes_4 11 rfl rfl)
theorem dX0_shakes_106 : decode cX0_shakes 106 = .ok (.iaload, 1) := dk_46 (dk_at dksX0_shakes_4 12 rfl rfl)
theorem dX0_shakes_107 : decode cX0_shakes 107 = .ok (.ishl, 1) := dk_120 (dk_at dksX0_shakes_4 13 rfl rfl)
theorem dX0_shakes_108 : decode cX0_shakes 108 = .ok (.goto 4, 3) := dk_167 0 4 (dk_at dksX0_shakes_4 14 rfl rfl)
theorem dX0_shakes_111 : decode cX0_shakes 111 = .ok (.iconst 0, 1) := dk_3 (dk_at dksX0_shakes_4 17 rfl rfl)
theorem dX0_shakes_112 : decode cX0_shakes 112 = .ok (.ior, 1) := dk_128 (dk_at dksX0_shakes_4 18 rfl rfl)
theorem dX0_shakes_113 : decode cX0_shakes 113 = .ok (.istore_n 1, 1) := dk_60 (dk_at dksX0_shakes_4 19 rfl rfl)
theorem dX0_shakes_114 : decode cX0_shakes 114 = .ok (.iinc 3 1, 3) := dk_132 3 1 (dk_at dksX0_shakes_4 20 rfl rfl)
theorem dX0_shakes_117 : decode cX0_shakes 117 = .ok (.goto (-105), 3) := dk_167 255 151 (dk_at dksX0_shakes_5 0 rfl rfl)
theorem dX0_shakes_120 : decode cX0_shakes 120 = .ok (.iinc 2 1, 3) := dk_132 2 1 (dk_at dksX0_shakes_5 3 rfl rfl)
theorem dX0_shakes_123 : decode cX0_shakes 123 = .ok (.goto (-119), 3) := dk_167 255 137 (dk_at dksX0_shakes_5 6 rfl rfl)
theorem dX0_shakes_126 : decode cX0_shakes 126 = .ok (.iload_n 1, 1) := dk_27 (dk_at dksX0_shakes_5 9 rfl rfl)
theorem dX0_shakes_127 : decode cX0_shakes 127 = .ok (.ireturn, 1) := dk_172 (dk_at dksX0_shakes_5 10 rfl rfl)
abbrev cX0_way : ByteArray := prog_1_method_36_code
def yX0_way : MethodName := ⟨RX0, "way", "(III)I"⟩
def dkwX0_way_5 : List UInt8 := [21, 6, 54, 6, 132, 7, 255, 167, 255, 201, 21, 6, 172]
abbrev dktX0_way_5 : List UInt8 := dkwX0_way_5 ++ []
def dkwX0_way_4 : List UInt8 := [153, 0, 24, 42, 21, 4, 21, 7, 28, 182, 0, 231, 21, 5, 4, 100, 160, 0, 8, 21, 7, 167, 0, 5]
abbrev dktX0_way_4 : List UInt8 := dkwX0_way_4 ++ dktX0_way_5
def dkwX0_way_3 : List UInt8 := [155, 0, 56, 21, 5, 158, 0, 41, 42, 180, 0, 38, 180, 0, 88, 27, 46, 21, 7, 184, 0, 221]
abbrev dktX0_way_3 : List UInt8 := dkwX0_way_3 ++ dktX0_way_4
def dkwX0_way_2 : List UInt8 := [182, 0, 231, 54, 5, 29, 154, 0, 6, 21, 5, 172, 16, 250, 54, 6, 16, 9, 54, 7, 21, 7]
abbrev dktX0_way_2 : List UInt8 := dkwX0_way_2 ++ dktX0_way_3
def dkwX0_way_1 : List UInt8 := [16, 254, 172, 42, 182, 0, 228, 42, 180, 0, 38, 182, 0, 180, 126, 54, 4, 42, 21, 4, 27, 28]
abbrev dktX0_way_1 : List UInt8 := dkwX0_way_1 ++ dktX0_way_2
def dkwX0_way_0 : List UInt8 := [27, 184, 0, 85, 153, 0, 10, 28, 184, 0, 85, 154, 0, 5, 2, 172, 29, 184, 0, 197, 154, 0, 6]
abbrev dktX0_way_0 : List UInt8 := dkwX0_way_0 ++ dktX0_way_1
theorem dksX0_way_0 : cX0_way.data.toList.drop 0 = dktX0_way_0 := by decide +kernel
theorem dksX0_way_1 : cX0_way.data.toList.drop 23 = dktX0_way_1 := dk_seg dksX0_way_0 23 rfl rfl
theorem dksX0_way_2 : cX0_way.data.toList.drop 45 = dktX0_way_2 := dk_seg dksX0_way_1 22 rfl rfl
theorem dksX0_way_3 : cX0_way.data.toList.drop 67 = dktX0_way_3 := dk_seg dksX0_way_2 22 rfl rfl
theorem dksX0_way_4 : cX0_way.data.toList.drop 89 = dktX0_way_4 := dk_seg dksX0_way_3 22 rfl rfl
theorem dksX0_way_5 : cX0_way.data.toList.drop 113 = dktX0_way_5 := dk_seg dksX0_way_4 24 rfl rfl
theorem dX0_way_0 : decode cX0_way 0 = .ok (.iload_n 1, 1) := dk_27 (dk_at dksX0_way_0 0 rfl rfl)
theorem dX0_way_1 : decode cX0_way 1 = .ok (.invokestatic 85, 3) := dk_184 0 85 (dk_at dksX0_way_0 1 rfl rfl)
theorem dX0_way_4 : decode cX0_way 4 = .ok (.ifCond .eq 10, 3) := dk_153 0 10 (dk_at dksX0_way_0 4 rfl rfl)
theorem dX0_way_7 : decode cX0_way 7 = .ok (.iload_n 2, 1) := dk_28 (dk_at dksX0_way_0 7 rfl rfl)
theorem dX0_way_8 : decode cX0_way 8 = .ok (.invokestatic 85, 3) := dk_184 0 85 (dk_at dksX0_way_0 8 rfl rfl)
theorem dX0_way_11 : decode cX0_way 11 = .ok (.ifCond .ne 5, 3) := dk_154 0 5 (dk_at dksX0_way_0 11 rfl rfl)
theorem dX0_way_14 : decode cX0_way 14 = .ok (.iconst (-1), 1) := dk_2 (dk_at dksX0_way_0 14 rfl rfl)
theorem dX0_way_15 : decode cX0_way 15 = .ok (.ireturn, 1) := dk_172 (dk_at dksX0_way_0 15 rfl rfl)
theorem dX0_way_16 : decode cX0_way 16 = .ok (.iload_n 3, 1) := dk_29 (dk_at dksX0_way_0 16 rfl rfl)
theorem dX0_way_17 : decode cX0_way 17 = .ok (.invokestatic 197, 3) := dk_184 0 197 (dk_at dksX0_way_0 17 rfl rfl)
theorem dX0_way_20 : decode cX0_way 20 = .ok (.ifCond .ne 6, 3) := dk_154 0 6 (dk_at dksX0_way_0 20 rfl rfl)
theorem dX0_way_23 : decode cX0_way 23 = .ok (.bipush (-2), 2) := dk_16 254 (dk_at dksX0_way_1 0 rfl rfl)
theorem dX0_way_25 : decode cX0_way 25 = .ok (.ireturn, 1) := dk_172 (dk_at dksX0_way_1 2 rfl rfl)
theorem dX0_way_26 : decode cX0_way 26 = .ok (.aload_n 0, 1) := dk_42 (dk_at dksX0_way_1 3 rfl rfl)
theorem dX0_way_27 : decode cX0_way 27 = .ok (.invokevirtual 228, 3) := dk_182 0 228 (dk_at dksX0_way_1 4 rfl rfl)
theorem dX0_way_30 : decode cX0_way 30 = .ok (.aload_n 0, 1) := dk_42 (dk_at dksX0_way_1 7 rfl rfl)
theorem dX0_way_31 : decode cX0_way 31 = .ok (.getfield 38, 3) := dk_180 0 38 (dk_at dksX0_way_1 8 rfl rfl)
theorem dX0_way_34 : decode cX0_way 34 = .ok (.invokevirtual 180, 3) := dk_182 0 180 (dk_at dksX0_way_1 11 rfl rfl)
theorem dX0_way_37 : decode cX0_way 37 = .ok (.iand, 1) := dk_126 (dk_at dksX0_way_1 14 rfl rfl)
theorem dX0_way_38 : decode cX0_way 38 = .ok (.istore 4, 2) := dk_54 4 (dk_at dksX0_way_1 15 rfl rfl)
theorem dX0_way_40 : decode cX0_way 40 = .ok (.aload_n 0, 1) := dk_42 (dk_at dksX0_way_1 17 rfl rfl)
theorem dX0_way_41 : decode cX0_way 41 = .ok (.iload 4, 2) := dk_21 4 (dk_at dksX0_way_1 18 rfl rfl)
theorem dX0_way_43 : decode cX0_way 43 = .ok (.iload_n 1, 1) := dk_27 (dk_at dksX0_way_1 20 rfl rfl)
theorem dX0_way_44 : decode cX0_way 44 = .ok (.iload_n 2, 1) := dk_28 (dk_at dksX0_way_1 21 rfl rfl)
theorem dX0_way_45 : decode cX0_way 45 = .ok (.invokevirtual 231, 3) := dk_182 0 231 (dk_at dksX0_way_2 0 rfl rfl)
theorem dX0_way_48 : decode cX0_way 48 = .ok (.istore 5, 2) := dk_54 5 (dk_at dksX0_way_2 3 rfl rfl)
theorem dX0_way_50 : decode cX0_way 50 = .ok (.iload_n 3, 1) := dk_29 (dk_at dksX0_way_2 5 rfl rfl)
theorem dX0_way_51 : decode cX0_way 51 = .ok (.ifCond .ne 6, 3) := dk_154 0 6 (dk_at dksX0_way_2 6 rfl rfl)
theorem dX0_way_54 : decode cX0_way 54 = .ok (.iload 5, 2) := dk_21 5 (dk_at dksX0_way_2 9 rfl rfl)
theorem dX0_way_56 : decode cX0_way 56 = .ok (.ireturn, 1) := dk_172 (dk_at dksX0_way_2 11 rfl rfl)
theorem dX0_way_57 : decode cX0_way 57 = .ok (.bipush (-6), 2) := dk_16 250 (dk_at dksX0_way_2 12 rfl rfl)
theorem dX0_way_59 : decode cX0_way 59 = .ok (.istore 6, 2) := dk_54 6 (dk_at dksX0_way_2 14 rfl rfl)
theorem dX0_way_61 : decode cX0_way 61 = .ok (.bipush 9, 2) := dk_16 9 (dk_at dksX0_way_2 16 rfl rfl)
theorem dX0_way_63 : decode cX0_way 63 = .ok (.istore 7, 2) := dk_54 7 (dk_at dksX0_way_2 18 rfl rfl)
theorem dX0_way_65 : decode cX0_way 65 = .ok (.iload 7, 2) := dk_21 7 (dk_at dksX0_way_2 20 rfl rfl)
theorem dX0_way_67 : decode cX0_way 67 = .ok (.ifCond .lt 56, 3) := dk_155 0 56 (dk_at dksX0_way_3 0 rfl rfl)
theorem dX0_way_70 : decode cX0_way 70 = .ok (.iload 5, 2) := dk_21 5 (dk_at dksX0_way_3 3 rfl rfl)
theorem dX0_way_72 : decode cX0_way 72 = .ok (.ifCond .le 41, 3) := dk_158 0 41 (dk_at dksX0_way_3 5 rfl rfl)
theorem dX0_way_75 : decode cX0_way 75 = .ok (.aload_n 0, 1) := dk_42 (dk_at dksX0_way_3 8 rfl rfl)
theorem dX0_way_76 : decode cX0_way 76 = .ok (.getfield 38, 3) := dk_180 0 38 (dk_at dksX0_way_3 9 rfl rfl)
theorem dX0_way_79 : decode cX0_way 79 = .ok (.getfield 88, 3) := dk_180 0 88 (dk_at dksX0_way_3 12 rfl rfl)
theorem dX0_way_82 : decode cX0_way 82 = .ok (.iload_n 1, 1) := dk_27 (dk_at dksX0_way_3 15 rfl rfl)
theorem dX0_way_83 : decode cX0_way 83 = .ok (.iaload, 1) := dk_46 (dk_at dksX0_way_3 16 rfl rfl)
theorem dX0_way_84 : decode cX0_way 84 = .ok (.iload 7, 2) := dk_21 7 (dk_at dksX0_way_3 17 rfl rfl)
theorem dX0_way_86 : decode cX0_way 86 = .ok (.invokestatic 221, 3) := dk_184 0 221 (dk_at dksX0_way_3 19 rfl rfl)
theorem dX0_way_89 : decode cX0_way 89 = .ok (.ifCond .eq 24, 3) := dk_153 0 24 (dk_at dksX0_way_4 0 rfl rfl)
theorem dX0_way_92 : decode cX0_way 92 = .ok (.aload_n 0, 1) := dk_42 (dk_at dksX0_way_4 3 rfl rfl)
theorem dX0_way_93 : decode cX0_way 93 = .ok (.iload 4, 2) := dk_21 4 (dk_at dksX0_way_4 4 rfl rfl)
theorem dX0_way_95 : decode cX0_way 95 = .ok (.iload 7, 2) := dk_21 7 (dk_at dksX0_way_4 6 rfl rfl)
theorem dX0_way_97 : decode cX0_way 97 = .ok (.iload_n 2, 1) := dk_28 (dk_at dksX0_way_4 8 rfl rfl)
theorem dX0_way_98 : decode cX0_way 98 = .ok (.invokevirtual 231, 3) := dk_182 0 231 (dk_at dksX0_way_4 9 rfl rfl)
theorem dX0_way_101 : decode cX0_way 101 = .ok (.iload 5, 2) := dk_21 5 (dk_at dksX0_way_4 12 rfl rfl)
theorem dX0_way_103 : decode cX0_way 103 = .ok (.iconst 1, 1) := dk_4 (dk_at dksX0_way_4 14 rfl rfl)
theorem dX0_way_104 : decode cX0_way 104 = .ok (.isub, 1) := dk_100 (dk_at dksX0_way_4 15 rfl rfl)
theorem dX0_way_105 : decode cX0_way 105 = .ok (.if_icmp .ne 8, 3) := dk_160 0 8 (dk_at dksX0_way_4 16 rfl rfl)
theorem dX0_way_108 : decode cX0_way 108 = .ok (.iload 7, 2) := dk_21 7 (dk_at dksX0_way_4 19 rfl rfl)
theorem dX0_way_110 : decode cX0_way 110 = .ok (.goto 5, 3) := dk_167 0 5 (dk_at dksX0_way_4 21 rfl rfl)
theorem dX0_way_113 : decode cX0_way 113 = .ok (.iload 6, 2) := dk_21 6 (dk_at dksX0_way_5 0 rfl rfl)
theorem dX0_way_115 : decode cX0_way 115 = .ok (.istore 6, 2) := dk_54 6 (dk_at dksX0_way_5 2 rfl rfl)
theorem dX0_way_117 : decode cX0_way 117 = .ok (.iinc 7 (-1), 3) := dk_132 7 255 (dk_at dksX0_way_5 4 rfl rfl)
theorem dX0_way_120 : decode cX0_way 120 = .ok (.goto (-55), 3) := dk_167 255 201 (dk_at dksX0_way_5 7 rfl rfl)
theorem dX0_way_123 : decode cX0_way 123 = .ok (.iload 6, 2) := dk_21 6 (dk_at dksX0_way_5 10 rfl rfl)
theorem dX0_way_125 : decode cX0_way 125 = .ok (.ireturn, 1) := dk_172 (dk_at dksX0_way_5 12 rfl rfl)
abbrev cX0_open : ByteArray := prog_1_method_35_code
def yX0_open : MethodName := ⟨RX0, "open", "()I"⟩
def dkwX0_open_0 : List UInt8 := [17, 3, 255, 42, 180, 0, 38, 180, 0, 225, 2, 130, 126, 172]
abbrev dktX0_open_0 : List UInt8 := dkwX0_open_0 ++ []
theorem dksX0_open_0 : cX0_open.data.toList.drop 0 = dktX0_open_0 := by decide +kernel
theorem dX0_open_0 : decode cX0_open 0 = .ok (.sipush 1023, 3) := dk_17 3 255 (dk_at dksX0_open_0 0 rfl rfl)
theorem dX0_open_3 : decode cX0_open 3 = .ok (.aload_n 0, 1) := dk_42 (dk_at dksX0_open_0 3 rfl rfl)
theorem dX0_open_4 : decode cX0_open 4 = .ok (.getfield 38, 3) := dk_180 0 38 (dk_at dksX0_open_0 4 rfl rfl)
theorem dX0_open_7 : decode cX0_open 7 = .ok (.getfield 225, 3) := dk_180 0 225 (dk_at dksX0_open_0 7 rfl rfl)
theorem dX0_open_10 : decode cX0_open 10 = .ok (.iconst (-1), 1) := dk_2 (dk_at dksX0_open_0 10 rfl rfl)
theorem dX0_open_11 : decode cX0_open 11 = .ok (.ixor, 1) := dk_130 (dk_at dksX0_open_0 11 rfl rfl)
theorem dX0_open_12 : decode cX0_open 12 = .ok (.iand, 1) := dk_126 (dk_at dksX0_open_0 12 rfl rfl)
theorem dX0_open_13 : decode cX0_open 13 = .ok (.ireturn, 1) := dk_172 (dk_at dksX0_open_0 13 rfl rfl)
abbrev cX0_farIn : ByteArray := prog_1_method_34_code
def yX0_farIn : MethodName := ⟨RX0, "farIn", "(III)I"⟩
def dkwX0_farIn_3 : List UInt8 := [54, 6, 132, 7, 1, 167, 255, 217, 21, 6, 27, 126, 54, 4, 132, 5, 1, 167, 255, 179, 16, 250, 172]
abbrev dktX0_farIn_3 : List UInt8 := dkwX0_farIn_3 ++ []
def dkwX0_farIn_2 : List UInt8 := [21, 7, 184, 0, 221, 153, 0, 16, 42, 180, 0, 38, 180, 0, 88, 21, 7, 46, 167, 0, 4, 3, 128]
abbrev dktX0_farIn_2 : List UInt8 := dkwX0_farIn_2 ++ dktX0_farIn_3
def dkwX0_farIn_1 : List UInt8 := [153, 0, 6, 21, 5, 172, 21, 4, 54, 6, 3, 54, 7, 21, 7, 16, 10, 162, 0, 38, 21, 6, 21, 4]
abbrev dktX0_farIn_1 : List UInt8 := dkwX0_farIn_1 ++ dktX0_farIn_2
def dkwX0_farIn_0 : List UInt8 := [4, 28, 120, 27, 126, 54, 4, 3, 54, 5, 21, 5, 16, 10, 162, 0, 76, 21, 4, 29, 184, 0, 221]
abbrev dktX0_farIn_0 : List UInt8 := dkwX0_farIn_0 ++ dktX0_farIn_1
theorem dksX0_farIn_0 : cX0_farIn.data.toList.drop 0 = dktX0_farIn_0 := by decide +kernel
theorem dksX0_farIn_1 : cX0_farIn.data.toList.drop 23 = dktX0_farIn_1 := dk_seg dksX0_farIn_0 23 rfl rfl
theorem dksX0_farIn_2 : cX0_farIn.data.toList.drop 47 = dktX0_farIn_2 := dk_seg dksX0_farIn_1 24 rfl rfl
theorem dksX0_farIn_3 : cX0_farIn.data.toList.drop 70 = dktX0_farIn_3 := dk_seg dksX0_farIn_2 23 rfl rfl
theorem dX0_farIn_0 : decode cX0_farIn 0 = .ok (.iconst 1, 1) := dk_4 (dk_at dksX0_farIn_0 0 rfl rfl)
theorem dX0_farIn_1 : decode cX0_farIn 1 = .ok (.iload_n 2, 1) := dk_28 (dk_at dksX0_farIn_0 1 rfl rfl)
theorem dX0_farIn_2 : decode cX0_farIn 2 = .ok (.ishl, 1) := dk_120 (dk_at dksX0_farIn_0 2 rfl rfl)
theorem dX0_farIn_3 : decode cX0_farIn 3 = .ok (.iload_n 1, 1) := dk_27 (dk_at dksX0_farIn_0 3 rfl rfl)
theorem dX0_farIn_4 : decode cX0_farIn 4 = .ok (.iand, 1) := dk_126 (dk_at dksX0_farIn_0 4 rfl rfl)
theorem dX0_farIn_5 : decode cX0_farIn 5 = .ok (.istore 4, 2) := dk_54 4 (dk_at dksX0_farIn_0 5 rfl rfl)
theorem dX0_farIn_7 : decode cX0_farIn 7 = .ok (.iconst 0, 1) := dk_3 (dk_at dksX0_farIn_0 7 rfl rfl)
theorem dX0_farIn_8 : decode cX0_farIn 8 = .ok (.istore 5, 2) := dk_54 5 (dk_at dksX0_farIn_0 8 rfl rfl)
theorem dX0_farIn_10 : decode cX0_farIn 10 = .ok (.iload 5, 2) := dk_21 5 (dk_at dksX0_farIn_0 10 rfl rfl)
theorem dX0_farIn_12 : decode cX0_farIn 12 = .ok (.bipush 10, 2) := dk_16 10 (dk_at dksX0_farIn_0 12 rfl rfl)
theorem dX0_farIn_14 : decode cX0_farIn 14 = .ok (.if_icmp .ge 76, 3) := dk_162 0 76 (dk_at dksX0_farIn_0 14 rfl rfl)
theorem dX0_farIn_17 : decode cX0_farIn 17 = .ok (.iload 4, 2) := dk_21 4 (dk_at dksX0_farIn_0 17 rfl rfl)
theorem dX0_farIn_19 : decode cX0_farIn 19 = .ok (.iload_n 3, 1) := dk_29 (dk_at dksX0_farIn_0 19 rfl rfl)
theorem dX0_farIn_20 : decode cX0_farIn 20 = .ok (.invokestatic 221, 3) := dk_184 0 221 (dk_at dksX0_farIn_0 20 rfl rfl)
theorem dX0_farIn_23 : decode cX0_farIn 23 = .ok (.ifCond .eq 6, 3) := dk_153 0 6 (dk_at dksX0_farIn_1 0 rfl rfl)
theorem dX0_farIn_26 : decode cX0_farIn 26 = .ok (.iload 5, 2) := dk_21 5 (dk_at dksX0_farIn_1 3 rfl rfl)
theorem dX0_farIn_28 : decode cX0_farIn 28 = .ok (.ireturn, 1) := dk_172 (dk_at dksX0_farIn_1 5 rfl rfl)
theorem dX0_farIn_29 : decode cX0_farIn 29 = .ok (.iload 4, 2) := dk_21 4 (dk_at dksX0_farIn_1 6 rfl rfl)
theorem dX0_farIn_31 : decode cX0_farIn 31 = .ok (.istore 6, 2) := dk_54 6 (dk_at dksX0_farIn_1 8 rfl rfl)
theorem dX0_farIn_33 : decode cX0_farIn 33 = .ok (.iconst 0, 1) := dk_3 (dk_at dksX0_farIn_1 10 rfl rfl)
theorem dX0_farIn_34 : decode cX0_farIn 34 = .ok (.istore 7, 2) := dk_54 7 (dk_at dksX0_farIn_1 11 rfl rfl)
theorem dX0_farIn_36 : decode cX0_farIn 36 = .ok (.iload 7, 2) := dk_21 7 (dk_at dksX0_farIn_1 13 rfl rfl)
theorem dX0_farIn_38 : decode cX0_farIn 38 = .ok (.bipush 10, 2) := dk_16 10 (dk_at dksX0_farIn_1 15 rfl rfl)
theorem dX0_farIn_40 : decode cX0_farIn 40 = .ok (.if_icmp .ge 38, 3) := dk_162 0 38 (dk_at dksX0_farIn_1 17 rfl rfl)
theorem dX0_farIn_43 : decode cX0_farIn 43 = .ok (.iload 6, 2) := dk_21 6 (dk_at dksX0_farIn_1 20 rfl rfl)
theorem dX0_farIn_45 : decode cX0_farIn 45 = .ok (.iload 4, 2) := dk_21 4 (dk_at dksX0_farIn_1 22 rfl rfl)
theorem dX0_farIn_47 : decode cX0_farIn 47 = .ok (.iload 7, 2) := dk_21 7 (dk_at dksX0_farIn_2 0 rfl rfl)
theorem dX0_farIn_49 : decode cX0_farIn 49 = .ok (.invokestatic 221, 3) := dk_184 0 221 (dk_at dksX0_farIn_2 2 rfl rfl)
theorem dX0_farIn_52 : decode cX0_farIn 52 = .ok (.ifCond .eq 16, 3) := dk_153 0 16 (dk_at dksX0_farIn_2 5 rfl rfl)
theorem dX0_farIn_55 : decode cX0_farIn 55 = .ok (.aload_n 0, 1) := dk_42 (dk_at dksX0_farIn_2 8 rfl rfl)
theorem dX0_farIn_56 : decode cX0_farIn 56 = .ok (.getfield 38, 3) := dk_180 0 38 (dk_at dksX0_farIn_2 9 rfl rfl)
theorem dX0_farIn_59 : decode cX0_farIn 59 = .ok (.getfield 88, 3) := dk_180 0 88 (dk_at dksX0_farIn_2 12 rfl rfl)
theorem dX0_farIn_62 : decode cX0_farIn 62 = .ok (.iload 7, 2) := dk_21 7 (dk_at dksX0_farIn_2 15 rfl rfl)
theorem dX0_farIn_64 : decode cX0_farIn 64 = .ok (.iaload, 1) := dk_46 (dk_at dksX0_farIn_2 17 rfl rfl)
theorem dX0_farIn_65 : decode cX0_farIn 65 = .ok (.goto 4, 3) := dk_167 0 4 (dk_at dksX0_farIn_2 18 rfl rfl)
theorem dX0_farIn_68 : decode cX0_farIn 68 = .ok (.iconst 0, 1) := dk_3 (dk_at dksX0_farIn_2 21 rfl rfl)
theorem dX0_farIn_69 : decode cX0_farIn 69 = .ok (.ior, 1) := dk_128 (dk_at dksX0_farIn_2 22 rfl rfl)
theorem dX0_farIn_70 : decode cX0_farIn 70 = .ok (.istore 6, 2) := dk_54 6 (dk_at dksX0_farIn_3 0 rfl rfl)
theorem dX0_farIn_72 : decode cX0_farIn 72 = .ok (.iinc 7 1, 3) := dk_132 7 1 (dk_at dksX0_farIn_3 2 rfl rfl)
theorem dX0_farIn_75 : decode cX0_farIn 75 = .ok (.goto (-39), 3) := dk_167 255 217 (dk_at dksX0_farIn_3 5 rfl rfl)
theorem dX0_farIn_78 : decode cX0_farIn 78 = .ok (.iload 6, 2) := dk_21 6 (dk_at dksX0_farIn_3 8 rfl rfl)
theorem dX0_farIn_80 : decode cX0_farIn 80 = .ok (.iload_n 1, 1) := dk_27 (dk_at dksX0_farIn_3 10 rfl rfl)
theorem dX0_farIn_81 : decode cX0_farIn 81 = .ok (.iand, 1) := dk_126 (dk_at dksX0_farIn_3 11 rfl rfl)
theorem dX0_farIn_82 : decode cX0_farIn 82 = .ok (.istore 4, 2) := dk_54 4 (dk_at dksX0_farIn_3 12 rfl rfl)
theorem dX0_farIn_84 : decode cX0_farIn 84 = .ok (.iinc 5 1, 3) := dk_132 5 1 (dk_at dksX0_farIn_3 14 rfl rfl)
theorem dX0_farIn_87 : decode cX0_farIn 87 = .ok (.goto (-77), 3) := dk_167 255 179 (dk_at dksX0_farIn_3 17 rfl rfl)
theorem dX0_farIn_90 : decode cX0_farIn 90 = .ok (.bipush (-6), 2) := dk_16 250 (dk_at dksX0_farIn_3 20 rfl rfl)
theorem dX0_farIn_92 : decode cX0_farIn 92 = .ok (.ireturn, 1) := dk_172 (dk_at dksX0_farIn_3 22 rfl rfl)
abbrev cX0_fewest : ByteArray := prog_1_method_38_code
def yX0_fewest : MethodName := ⟨RX0, "fewest", "(II)I"⟩
def dkwX0_fewest_4 : List UInt8 := [29, 172]
abbrev dktX0_fewest_4 : List UInt8 := dkwX0_fewest_4 ++ []
def dkwX0_fewest_3 : List UInt8 := [21, 4, 167, 0, 4, 29, 62, 132, 4, 255, 167, 255, 204, 28, 154, 0, 10, 29, 184, 0, 95, 167, 0, 4]
abbrev dktX0_fewest_3 : List UInt8 := dkwX0_fewest_3 ++ dktX0_fewest_4
def dkwX0_fewest_2 : List UInt8 := [167, 0, 4, 3, 54, 5, 21, 5, 153, 0, 21, 27, 42, 21, 4, 182, 0, 236, 2, 130, 126, 154, 0, 8]
abbrev dktX0_fewest_2 : List UInt8 := dkwX0_fewest_2 ++ dktX0_fewest_3
def dkwX0_fewest_1 : List UInt8 := [17, 3, 255, 54, 4, 21, 4, 155, 0, 53, 21, 4, 184, 0, 95, 29, 184, 0, 95, 163, 0, 7, 4]
abbrev dktX0_fewest_1 : List UInt8 := dkwX0_fewest_1 ++ dktX0_fewest_2
def dkwX0_fewest_0 : List UInt8 := [27, 133, 9, 20, 0, 234, 184, 0, 3, 153, 0, 10, 28, 184, 0, 197, 154, 0, 6, 16, 254, 172, 27, 62]
abbrev dktX0_fewest_0 : List UInt8 := dkwX0_fewest_0 ++ dktX0_fewest_1
theorem dksX0_fewest_0 : cX0_fewest.data.toList.drop 0 = dktX0_fewest_0 := by decide +kernel
theorem dksX0_fewest_1 : cX0_fewest.data.toList.drop 24 = dktX0_fewest_1 := dk_seg dksX0_fewest_0 24 rfl rfl
theorem dksX0_fewest_2 : cX0_fewest.data.toList.drop 47 = dktX0_fewest_2 := dk_seg dksX0_fewest_1 23 rfl rfl
theorem dksX0_fewest_3 : cX0_fewest.data.toList.drop 71 = dktX0_fewest_3 := dk_seg dksX0_fewest_2 24 rfl rfl
theorem dksX0_fewest_4 : cX0_fewest.data.toList.drop 95 = dktX0_fewest_4 := dk_seg dksX0_fewest_3 24 rfl rfl
theorem dX0_fewest_0 : decode cX0_fewest 0 = .ok (.iload_n 1, 1) := dk_27 (dk_at dksX0_fewest_0 0 rfl rfl)
theorem dX0_fewest_1 : decode cX0_fewest 1 = .ok (.i2l, 1) := dk_133 (dk_at dksX0_fewest_0 1 rfl rfl)
theorem dX0_fewest_2 : decode cX0_fewest 2 = .ok (.lconst 0, 1) := dk_9 (dk_at dksX0_fewest_0 2 rfl rfl)
theorem dX0_fewest_3 : decode cX0_fewest 3 = .ok (.ldc2_w 234, 3) := dk_20 0 234 (dk_at dksX0_fewest_0 3 rfl rfl)
theorem dX0_fewest_6 : decode cX0_fewest 6 = .ok (.invokestatic 3, 3) := dk_184 0 3 (dk_at dksX0_fewest_0 6 rfl rfl)
theorem dX0_fewest_9 : decode cX0_fewest 9 = .ok (.ifCond .eq 10, 3) := dk_153 0 10 (dk_at dksX0_fewest_0 9 rfl rfl)
theorem dX0_fewest_12 : decode cX0_fewest 12 = .ok (.iload_n 2, 1) := dk_28 (dk_at dksX0_fewest_0 12 rfl rfl)
theorem dX0_fewest_13 : decode cX0_fewest 13 = .ok (.invokestatic 197, 3) := dk_184 0 197 (dk_at dksX0_fewest_0 13 rfl rfl)
theorem dX0_fewest_16 : decode cX0_fewest 16 = .ok (.ifCond .ne 6, 3) := dk_154 0 6 (dk_at dksX0_fewest_0 16 rfl rfl)
theorem dX0_fewest_19 : decode cX0_fewest 19 = .ok (.bipush (-2), 2) := dk_16 254 (dk_at dksX0_fewest_0 19 rfl rfl)
theorem dX0_fewest_21 : decode cX0_fewest 21 = .ok (.ireturn, 1) := dk_172 (dk_at dksX0_fewest_0 21 rfl rfl)
theorem dX0_fewest_22 : decode cX0_fewest 22 = .ok (.iload_n 1, 1) := dk_27 (dk_at dksX0_fewest_0 22 rfl rfl)
theorem dX0_fewest_23 : decode cX0_fewest 23 = .ok (.istore_n 3, 1) := dk_62 (dk_at dksX0_fewest_0 23 rfl rfl)
theorem dX0_fewest_24 : decode cX0_fewest 24 = .ok (.sipush 1023, 3) := dk_17 3 255 (dk_at dksX0_fewest_1 0 rfl rfl)
theorem dX0_fewest_27 : decode cX0_fewest 27 = .ok (.istore 4, 2) := dk_54 4 (dk_at dksX0_fewest_1 3 rfl rfl)
theorem dX0_fewest_29 : decode cX0_fewest 29 = .ok (.iload 4, 2) := dk_21 4 (dk_at dksX0_fewest_1 5 rfl rfl)
theorem dX0_fewest_31 : decode cX0_fewest 31 = .ok (.ifCond .lt 53, 3) := dk_155 0 53 (dk_at dksX0_fewest_1 7 rfl rfl)
theorem dX0_fewest_34 : decode cX0_fewest 34 = .ok (.iload 4, 2) := dk_21 4 (dk_at dksX0_fewest_1 10 rfl rfl)
theorem dX0_fewest_36 : decode cX0_fewest 36 = .ok (.invokestatic 95, 3) := dk_184 0 95 (dk_at dksX0_fewest_1 12 rfl rfl)
theorem dX0_fewest_39 : decode cX0_fewest 39 = .ok (.iload_n 3, 1) := dk_29 (dk_at dksX0_fewest_1 15 rfl rfl)
theorem dX0_fewest_40 : decode cX0_fewest 40 = .ok (.invokestatic 95, 3) := dk_184 0 95 (dk_at dksX0_fewest_1 16 rfl rfl)
theorem dX0_fewest_43 : decode cX0_fewest 43 = .ok (.if_icmp .gt 7, 3) := dk_163 0 7 (dk_at dksX0_fewest_1 19 rfl rfl)
theorem dX0_fewest_46 : decode cX0_fewest 46 = .ok (.iconst 1, 1) := dk_4 (dk_at dksX0_fewest_1 22 rfl rfl)
theorem dX0_fewest_47 : decode cX0_fewest 47 = .ok (.goto 4, 3) := dk_167 0 4 (dk_at dksX0_fewest_2 0 rfl rfl)
theorem dX0_fewest_50 : decode cX0_fewest 50 = .ok (.iconst 0, 1) := dk_3 (dk_at dksX0_fewest_2 3 rfl rfl)
theorem dX0_fewest_51 : decode cX0_fewest 51 = .ok (.istore 5, 2) := dk_54 5 (dk_at dksX0_fewest_2 4 rfl rfl)
theorem dX0_fewest_53 : decode cX0_fewest 53 = .ok (.iload 5, 2) := dk_21 5 (dk_at dksX0_fewest_2 6 rfl rfl)
theorem dX0_fewest_55 : decode cX0_fewest 55 = .ok (.ifCond .eq 21, 3) := dk_153 0 21 (dk_at dksX0_fewest_2 8 rfl rfl)
theorem dX0_fewest_58 : decode cX0_fewest 58 = .ok (.iload_n 1, 1) := dk_27 (dk_at dksX0_fewest_2 11 rfl rfl)
theorem dX0_fewest_59 : decode cX0_fewest 59 = .ok (.aload_n 0, 1) := dk_42 (dk_at dksX0_fewest_2 12 rfl rfl)
theorem dX0_fewest_60 : decode cX0_fewest 60 = .ok (.iload 4, 2) := dk_21 4 (dk_at dksX0_fewest_2 13 rfl rfl)
theorem dX0_fewest_62 : decode cX0_fewest 62 = .ok (.invokevirtual 236, 3) := dk_182 0 236 (dk_at dksX0_fewest_2 15 rfl rfl)
theorem dX0_fewest_65 : decode cX0_fewest 65 = .ok (.iconst (-1), 1) := dk_2 (dk_at dksX0_fewest_2 18 rfl rfl)
theorem dX0_fewest_66 : decode cX0_fewest 66 = .ok (.ixor, 1) := dk_130 (dk_at dksX0_fewest_2 19 rfl rfl)
theorem dX0_fewest_67 : decode cX0_fewest 67 = .ok (.iand, 1) := dk_126 (dk_at dksX0_fewest_2 20 rfl rfl)
theorem dX0_fewest_68 : decode cX0_fewest 68 = .ok (.ifCond .ne 8, 3) := dk_154 0 8 (dk_at dksX0_fewest_2 21 rfl rfl)
theorem dX0_fewest_71 : decode cX0_fewest 71 = .ok (.iload 4, 2) := dk_21 4 (dk_at dksX0_fewest_3 0 rfl rfl)
theorem dX0_fewest_73 : decode cX0_fewest 73 = .ok (.goto 4, 3) := dk_167 0 4 (dk_at dksX0_fewest_3 2 rfl rfl)
theorem dX0_fewest_76 : decode cX0_fewest 76 = .ok (.iload_n 3, 1) := dk_29 (dk_at dksX0_fewest_3 5 rfl rfl)
theorem dX0_fewest_77 : decode cX0_fewest 77 = .ok (.istore_n 3, 1) := dk_62 (dk_at dksX0_fewest_3 6 rfl rfl)
theorem dX0_fewest_78 : decode cX0_fewest 78 = .ok (.iinc 4 (-1), 3) := dk_132 4 255 (dk_at dksX0_fewest_3 7 rfl rfl)
theorem dX0_fewest_81 : decode cX0_fewest 81 = .ok (.goto (-52), 3) := dk_167 255 204 (dk_at dksX0_fewest_3 10 rfl rfl)
theorem dX0_fewest_84 : decode cX0_fewest 84 = .ok (.iload_n 2, 1) := dk_28 (dk_at dksX0_fewest_3 13 rfl rfl)
theorem dX0_fewest_85 : decode cX0_fewest 85 = .ok (.ifCond .ne 10, 3) := dk_154 0 10 (dk_at dksX0_fewest_3 14 rfl rfl)
theorem dX0_fewest_88 : decode cX0_fewest 88 = .ok (.iload_n 3, 1) := dk_29 (dk_at dksX0_fewest_3 17 rfl rfl)
theorem dX0_fewest_89 : decode cX0_fewest 89 = .ok (.invokestatic 95, 3) := dk_184 0 95 (dk_at dksX0_fewest_3 18 rfl rfl)
theorem dX0_fewest_92 : decode cX0_fewest 92 = .ok (.goto 4, 3) := dk_167 0 4 (dk_at dksX0_fewest_3 21 rfl rfl)
theorem dX0_fewest_95 : decode cX0_fewest 95 = .ok (.iload_n 3, 1) := dk_29 (dk_at dksX0_fewest_4 0 rfl rfl)
theorem dX0_fewest_96 : decode cX0_fewest 96 = .ok (.ireturn, 1) := dk_172 (dk_at dksX0_fewest_4 1 rfl rfl)
abbrev cX0_litBy : ByteArray := prog_1_method_37_code
def yX0_litBy : MethodName := ⟨RX0, "litBy", "(I)I"⟩
def dkwX0_litBy_1 : List UInt8 := [180, 0, 100, 29, 46, 120, 167, 0, 4, 3, 128, 61, 132, 3, 1, 167, 255, 221, 28, 172]
abbrev dktX0_litBy_1 : List UInt8 := dkwX0_litBy_1 ++ []
def dkwX0_litBy_0 : List UInt8 := [27, 61, 3, 62, 29, 16, 10, 162, 0, 35, 28, 27, 29, 184, 0, 221, 153, 0, 17, 4, 42, 180, 0, 38]
abbrev dktX0_litBy_0 : List UInt8 := dkwX0_litBy_0 ++ dktX0_litBy_1
theorem dksX0_litBy_0 : cX0_litBy.data.toList.drop 0 = dktX0_litBy_0 := by decide +kernel
theorem dksX0_litBy_1 : cX0_litBy.data.toList.drop 24 = dktX0_litBy_1 := dk_seg dksX0_litBy_0 24 rfl rfl
theorem dX0_litBy_0 : decode cX0_litBy 0 = .ok (.iload_n 1, 1) := dk_27 (dk_at dksX0_litBy_0 0 rfl rfl)
theorem dX0_litBy_1 : decode cX0_litBy 1 = .ok (.istore_n 2, 1) := dk_61 (dk_at dksX0_litBy_0 1 rfl rfl)
theorem dX0_litBy_2 : decode cX0_litBy 2 = .ok (.iconst 0, 1) := dk_3 (dk_at dksX0_litBy_0 2 rfl rfl)
theorem dX0_litBy_3 : decode cX0_litBy 3 = .ok (.istore_n 3, 1) := dk_62 (dk_at dksX0_litBy_0 3 rfl rfl)
theorem dX0_litBy_4 : decode cX0_litBy 4 = .ok (.iload_n 3, 1) := dk_29 (dk_at dksX0_litBy_0 4 rfl rfl)
theorem dX0_litBy_5 : decode cX0_litBy 5 = .ok (.bipush 10, 2) := dk_16 10 (dk_at dksX0_litBy_0 5 rfl rfl)
theorem dX0_litBy_7 : decode cX0_litBy 7 = .ok (.if_icmp .ge 35, 3) := dk_162 0 35 (dk_at dksX0_litBy_0 7 rfl rfl)
theorem dX0_litBy_10 : decode cX0_litBy 10 = .ok (.iload_n 2, 1) := dk_28 (dk_at dksX0_litBy_0 10 rfl rfl)
theorem dX0_litBy_11 : decode cX0_litBy 11 = .ok (.iload_n 1, 1) := dk_27 (dk_at dksX0_litBy_0 11 rfl rfl)
theorem dX0_litBy_12 : decode cX0_litBy 12 = .ok (.iload_n 3, 1) := dk_29 (dk_at dksX0_litBy_0 12 rfl rfl)
theorem dX0_litBy_13 : decode cX0_litBy 13 = .ok (.invokestatic 221, 3) := dk_184 0 221 (dk_at dksX0_litBy_0 13 rfl rfl)
theorem dX0_litBy_16 : decode cX0_litBy 16 = .ok (.ifCond .eq 17, 3) := dk_153 0 17 (dk_at dksX0_litBy_0 16 rfl rfl)
theorem dX0_litBy_19 : decode cX0_litBy 19 = .ok (.iconst 1, 1) := dk_4 (dk_at dksX0_litBy_0 19 rfl rfl)
theorem dX0_litBy_20 : decode cX0_litBy 20 = .ok (.aload_n 0, 1) := dk_42 (dk_at dksX0_litBy_0 20 rfl rfl)
theorem dX0_litBy_21 : decode cX0_litBy 21 = .ok (.getfield 38, 3) := dk_180 0 38 (dk_at dksX0_litBy_0 21 rfl rfl)
theorem dX0_litBy_24 : decode cX0_litBy 24 = .ok (.getfield 100, 3) := dk_180 0 100 (dk_at dksX0_litBy_1 0 rfl rfl)
theorem dX0_litBy_27 : decode cX0_litBy 27 = .ok (.iload_n 3, 1) := dk_29 (dk_at dksX0_litBy_1 3 rfl rfl)
theorem dX0_litBy_28 : decode cX0_litBy 28 = .ok (.iaload, 1) := dk_46 (dk_at dksX0_litBy_1 4 rfl rfl)
theorem dX0_litBy_29 : decode cX0_litBy 29 = .ok (.ishl, 1) := dk_120 (dk_at dksX0_litBy_1 5 rfl rfl)
theorem dX0_litBy_30 : decode cX0_litBy 30 = .ok (.goto 4, 3) := dk_167 0 4 (dk_at dksX0_litBy_1 6 rfl rfl)
theorem dX0_litBy_33 : decode cX0_litBy 33 = .ok (.iconst 0, 1) := dk_3 (dk_at dksX0_litBy_1 9 rfl rfl)
theorem dX0_litBy_34 : decode cX0_litBy 34 = .ok (.ior, 1) := dk_128 (dk_at dksX0_litBy_1 10 rfl rfl)
theorem dX0_litBy_35 : decode cX0_litBy 35 = .ok (.istore_n 2, 1) := dk_61 (dk_at dksX0_litBy_1 11 rfl rfl)
theorem dX0_litBy_36 : decode cX0_litBy 36 = .ok (.iinc 3 1, 3) := dk_132 3 1 (dk_at dksX0_litBy_1 12 rfl rfl)
theorem dX0_litBy_39 : decode cX0_litBy 39 = .ok (.goto (-35), 3) := dk_167 255 221 (dk_at dksX0_litBy_1 15 rfl rfl)
theorem dX0_litBy_42 : decode cX0_litBy 42 = .ok (.iload_n 2, 1) := dk_28 (dk_at dksX0_litBy_1 18 rfl rfl)
theorem dX0_litBy_43 : decode cX0_litBy 43 = .ok (.ireturn, 1) := dk_172 (dk_at dksX0_litBy_1 19 rfl rfl)
abbrev cX0_keep : ByteArray := prog_1_method_40_code
def yX0_keep : MethodName := ⟨RX0, "keep", "(I)I"⟩
def dkwX0_keep_4 : List UInt8 := [29, 172]
abbrev dktX0_keep_4 : List UInt8 := dkwX0_keep_4 ++ []
def dkwX0_keep_3 : List UInt8 := [21, 4, 167, 0, 4, 29, 62, 132, 4, 1, 167, 255, 198, 27, 154, 0, 10, 29, 184, 0, 95, 167, 0, 4]
abbrev dktX0_keep_3 : List UInt8 := dkwX0_keep_3 ++ dktX0_keep_4
def dkwX0_keep_2 : List UInt8 := [164, 0, 7, 4, 167, 0, 4, 3, 54, 5, 21, 5, 153, 0, 17, 42, 21, 4, 182, 0, 245, 153, 0, 8]
abbrev dktX0_keep_2 : List UInt8 := dkwX0_keep_2 ++ dktX0_keep_3
def dkwX0_keep_1 : List UInt8 := [21, 4, 28, 163, 0, 58, 21, 4, 28, 2, 130, 126, 154, 0, 19, 21, 4, 184, 0, 95, 29, 184, 0, 95]
abbrev dktX0_keep_1 : List UInt8 := dkwX0_keep_1 ++ dktX0_keep_2
def dkwX0_keep_0 : List UInt8 := [27, 184, 0, 197, 154, 0, 6, 16, 254, 172, 42, 180, 0, 38, 182, 0, 242, 61, 3, 62, 4, 54, 4]
abbrev dktX0_keep_0 : List UInt8 := dkwX0_keep_0 ++ dktX0_keep_1
theorem dksX0_keep_0 : cX0_keep.data.toList.drop 0 = dktX0_keep_0 := by decide +kernel
theorem dksX0_keep_1 : cX0_keep.data.toList.drop 23 = dktX0_keep_1 := dk_seg dksX0_keep_0 23 rfl rfl
theorem dksX0_keep_2 : cX0_keep.data.toList.drop 47 = dktX0_keep_2 := dk_seg dksX0_keep_1 24 rfl rfl
theorem dksX0_keep_3 : cX0_keep.data.toList.drop 71 = dktX0_keep_3 := dk_seg dksX0_keep_2 24 rfl rfl
theorem dksX0_keep_4 : cX0_keep.data.toList.drop 95 = dktX0_keep_4 := dk_seg dksX0_keep_3 24 rfl rfl
theorem dX0_keep_0 : decode cX0_keep 0 = .ok (.iload_n 1, 1) := dk_27 (dk_at dksX0_keep_0 0 rfl rfl)
theorem dX0_keep_1 : decode cX0_keep 1 = .ok (.invokestatic 197, 3) := dk_184 0 197 (dk_at dksX0_keep_0 1 rfl rfl)
theorem dX0_keep_4 : decode cX0_keep 4 = .ok (.ifCond .ne 6, 3) := dk_154 0 6 (dk_at dksX0_keep_0 4 rfl rfl)
theorem dX0_keep_7 : decode cX0_keep 7 = .ok (.bipush (-2), 2) := dk_16 254 (dk_at dksX0_keep_0 7 rfl rfl)
theorem dX0_keep_9 : decode cX0_keep 9 = .ok (.ireturn, 1) := dk_172 (dk_at dksX0_keep_0 9 rfl rfl)
theorem dX0_keep_10 : decode cX0_keep 10 = .ok (.aload_n 0, 1) := dk_42 (dk_at dksX0_keep_0 10 rfl rfl)
theorem dX0_keep_11 : decode cX0_keep 11 = .ok (.getfield 38, 3) := dk_180 0 38 (dk_at dksX0_keep_0 11 rfl rfl)
theorem dX0_keep_14 : decode cX0_keep 14 = .ok (.invokevirtual 242, 3) := dk_182 0 242 (dk_at dksX0_keep_0 14 rfl rfl)
theorem dX0_keep_17 : decode cX0_keep 17 = .ok (.istore_n 2, 1) := dk_61 (dk_at dksX0_keep_0 17 rfl rfl)
theorem dX0_keep_18 : decode cX0_keep 18 = .ok (.iconst 0, 1) := dk_3 (dk_at dksX0_keep_0 18 rfl rfl)
theorem dX0_keep_19 : decode cX0_keep 19 = .ok (.istore_n 3, 1) := dk_62 (dk_at dksX0_keep_0 19 rfl rfl)
theorem dX0_keep_20 : decode cX0_keep 20 = .ok (.iconst 1, 1) := dk_4 (dk_at dksX0_keep_0 20 rfl rfl)
theorem dX0_keep_21 : decode cX0_keep 21 = .ok (.istore 4, 2) := dk_54 4 (dk_at dksX0_keep_0 21 rfl rfl)
theorem dX0_keep_23 : decode cX0_keep 23 = .ok (.iload 4, 2) := dk_21 4 (dk_at dksX0_keep_1 0 rfl rfl)
theorem dX0_keep_25 : decode cX0_keep 25 = .ok (.iload_n 2, 1) := dk_28 (dk_at dksX0_keep_1 2 rfl rfl)
theorem dX0_keep_26 : decode cX0_keep 26 = .ok (.if_icmp .gt 58, 3) := dk_163 0 58 (dk_at dksX0_keep_1 3 rfl rfl)
theorem dX0_keep_29 : decode cX0_keep 29 = .ok (.iload 4, 2) := dk_21 4 (dk_at dksX0_keep_1 6 rfl rfl)
theorem dX0_keep_31 : decode cX0_keep 31 = .ok (.iload_n 2, 1) := dk_28 (dk_at dksX0_keep_1 8 rfl rfl)
theorem dX0_keep_32 : decode cX0_keep 32 = .ok (.iconst (-1), 1) := dk_2 (dk_at dksX0_keep_1 9 rfl rfl)
theorem dX0_keep_33 : decode cX0_keep 33 = .ok (.ixor, 1) := dk_130 (dk_at dksX0_keep_1 10 rfl rfl)
theorem dX0_keep_34 : decode cX0_keep 34 = .ok (.iand, 1) := dk_126 (dk_at dksX0_keep_1 11 rfl rfl)
theorem dX0_keep_35 : decode cX0_keep 35 = .ok (.ifCond .ne 19, 3) := dk_154 0 19 (dk_at dksX0_keep_1 12 rfl rfl)
theorem dX0_keep_38 : decode cX0_keep 38 = .ok (.iload 4, 2) := dk_21 4 (dk_at dksX0_keep_1 15 rfl rfl)
theorem dX0_keep_40 : decode cX0_keep 40 = .ok (.invokestatic 95, 3) := dk_184 0 95 (dk_at dksX0_keep_1 17 rfl rfl)
theorem dX0_keep_43 : decode cX0_keep 43 = .ok (.iload_n 3, 1) := dk_29 (dk_at dksX0_keep_1 20 rfl rfl)
theorem dX0_keep_44 : decode cX0_keep 44 = .ok (.invokestatic 95, 3) := dk_184 0 95 (dk_at dksX0_keep_1 21 rfl rfl)
theorem dX0_keep_47 : decode cX0_keep 47 = .ok (.if_icmp .le 7, 3) := dk_164 0 7 (dk_at dksX0_keep_2 0 rfl rfl)
theorem dX0_keep_50 : decode cX0_keep 50 = .ok (.iconst 1, 1) := dk_4 (dk_at dksX0_keep_2 3 rfl rfl)
theorem dX0_keep_51 : decode cX0_keep 51 = .ok (.goto 4, 3) := dk_167 0 4 (dk_at dksX0_keep_2 4 rfl rfl)
theorem dX0_keep_54 : decode cX0_keep 54 = .ok (.iconst 0, 1) := dk_3 (dk_at dksX0_keep_2 7 rfl rfl)
theorem dX0_keep_55 : decode cX0_keep 55 = .ok (.istore 5, 2) := dk_54 5 (dk_at dksX0_keep_2 8 rfl rfl)
theorem dX0_keep_57 : decode cX0_keep 57 = .ok (.iload 5, 2) := dk_21 5 (dk_at dksX0_keep_2 10 rfl rfl)
theorem dX0_keep_59 : decode cX0_keep 59 = .ok (.ifCond .eq 17, 3) := dk_153 0 17 (dk_at dksX0_keep_2 12 rfl rfl)
theorem dX0_keep_62 : decode cX0_keep 62 = .ok (.aload_n 0, 1) := dk_42 (dk_at dksX0_keep_2 15 rfl rfl)
theorem dX0_keep_63 : decode cX0_keep 63 = .ok (.iload 4, 2) := dk_21 4 (dk_at dksX0_keep_2 16 rfl rfl)
theorem dX0_keep_65 : decode cX0_keep 65 = .ok (.invokevirtual 245, 3) := dk_182 0 245 (dk_at dksX0_keep_2 18 rfl rfl)
theorem dX0_keep_68 : decode cX0_keep 68 = .ok (.ifCond .eq 8, 3) := dk_153 0 8 (dk_at dksX0_keep_2 21 rfl rfl)
theorem dX0_keep_71 : decode cX0_keep 71 = .ok (.iload 4, 2) := dk_21 4 (dk_at dksX0_keep_3 0 rfl rfl)
theorem dX0_keep_73 : decode cX0_keep 73 = .ok (.goto 4, 3) := dk_167 0 4 (dk_at dksX0_keep_3 2 rfl rfl)
theorem dX0_keep_76 : decode cX0_keep 76 = .ok (.iload_n 3, 1) := dk_29 (dk_at dksX0_keep_3 5 rfl rfl)
theorem dX0_keep_77 : decode cX0_keep 77 = .ok (.istore_n 3, 1) := dk_62 (dk_at dksX0_keep_3 6 rfl rfl)
theorem dX0_keep_78 : decode cX0_keep 78 = .ok (.iinc 4 1, 3) := dk_132 4 1 (dk_at dksX0_keep_3 7 rfl rfl)
theorem dX0_keep_81 : decode cX0_keep 81 = .ok (.goto (-58), 3) := dk_167 255 198 (dk_at dksX0_keep_3 10 rfl rfl)
theorem dX0_keep_84 : decode cX0_keep 84 = .ok (.iload_n 1, 1) := dk_27 (dk_at dksX0_keep_3 13 rfl rfl)
theorem dX0_keep_85 : decode cX0_keep 85 = .ok (.ifCond .ne 10, 3) := dk_154 0 10 (dk_at dksX0_keep_3 14 rfl rfl)
theorem dX0_keep_88 : decode cX0_keep 88 = .ok (.iload_n 3, 1) := dk_29 (dk_at dksX0_keep_3 17 rfl rfl)
theorem dX0_keep_89 : decode cX0_keep 89 = .ok (.invokestatic 95, 3) := dk_184 0 95 (dk_at dksX0_keep_3 18 rfl rfl)
theorem dX0_keep_92 : decode cX0_keep 92 = .ok (.goto 4, 3) := dk_167 0 4 (dk_at dksX0_keep_3 21 rfl rfl)
theorem dX0_keep_95 : decode cX0_keep 95 = .ok (.iload_n 3, 1) := dk_29 (dk_at dksX0_keep_4 0 rfl rfl)
theorem dX0_keep_96 : decode cX0_keep 96 = .ok (.ireturn, 1) := dk_172 (dk_at dksX0_keep_4 1 rfl rfl)
abbrev cX0_isKept : ByteArray := prog_1_method_39_code
def yX0_isKept : MethodName := ⟨RX0, "isKept", "(I)Z"⟩
def dkwX0_isKept_5 : List UInt8 := [132, 2, 1, 167, 255, 136, 4, 172]
abbrev dktX0_isKept_5 : List UInt8 := dkwX0_isKept_5 ++ []
def dkwX0_isKept_4 : List UInt8 := [42, 180, 0, 38, 180, 0, 130, 29, 46, 184, 0, 239, 153, 0, 5, 3, 172, 132, 3, 1, 167, 255, 150]
abbrev dktX0_isKept_4 : List UInt8 := dkwX0_isKept_4 ++ dktX0_isKept_5
def dkwX0_isKept_3 : List UInt8 := [42, 180, 0, 38, 180, 0, 127, 28, 46, 184, 0, 221, 153, 0, 29, 42, 180, 0, 38, 180, 0, 130, 28, 46]
abbrev dktX0_isKept_3 : List UInt8 := dkwX0_isKept_3 ++ dktX0_isKept_4
def dkwX0_isKept_2 : List UInt8 := [29, 46, 160, 0, 7, 4, 167, 0, 4, 3, 54, 4, 21, 4, 153, 0, 51, 42, 180, 0, 38, 180, 0, 103]
abbrev dktX0_isKept_2 : List UInt8 := dkwX0_isKept_2 ++ dktX0_isKept_3
def dkwX0_isKept_1 : List UInt8 := [27, 29, 184, 0, 221, 153, 0, 28, 42, 180, 0, 38, 180, 0, 127, 28, 46, 42, 180, 0, 38, 180, 0, 127]
abbrev dktX0_isKept_1 : List UInt8 := dkwX0_isKept_1 ++ dktX0_isKept_2
def dkwX0_isKept_0 : List UInt8 := [3, 61, 28, 16, 8, 162, 0, 120, 3, 62, 29, 16, 8, 162, 0, 106, 27, 28, 184, 0, 221, 153, 0, 36]
abbrev dktX0_isKept_0 : List UInt8 := dkwX0_isKept_0 ++ dktX0_isKept_1
theorem dksX0_isKept_0 : cX0_isKept.data.toList.drop 0 = dktX0_isKept_0 := by decide +kernel
theorem dksX0_isKept_1 : cX0_isKept.data.toList.drop 24 = dktX0_isKept_1 := dk_seg dksX0_isKept_0 24 rfl rfl
theorem dksX0_isKept_2 : cX0_isKept.data.toList.drop 48 = dktX0_isKept_2 := dk_seg dksX0_isKept_1 24 rfl rfl
theorem dksX0_isKept_3 : cX0_isKept.data.toList.drop 72 = dktX0_isKept_3 := dk_seg dksX0_isKept_2 24 rfl rfl
theorem dksX0_isKept_4 : cX0_isKept.data.toList.drop 96 = dktX0_isKept_4 := dk_seg dksX0_isKept_3 24 rfl rfl
theorem dksX0_isKept_5 : cX0_isKept.data.toList.drop 119 = dktX0_isKept_5 := dk_seg dksX0_isKept_4 23 rfl rfl
theorem dX0_isKept_0 : decode cX0_isKept 0 = .ok (.iconst 0, 1) := dk_3 (dk_at dksX0_isKept_0 0 rfl rfl)
theorem dX0_isKept_1 : decode cX0_isKept 1 = .ok (.istore_n 2, 1) := dk_61 (dk_at dksX0_isKept_0 1 rfl rfl)
theorem dX0_isKept_2 : decode cX0_isKept 2 = .ok (.iload_n 2, 1) := dk_28 (dk_at dksX0_isKept_0 2 rfl rfl)
theorem dX0_isKept_3 : decode cX0_isKept 3 = .ok (.bipush 8, 2) := dk_16 8 (dk_at dksX0_isKept_0 3 rfl rfl)
theorem dX0_isKept_5 : decode cX0_isKept 5 = .ok (.if_icmp .ge 120, 3) := dk_162 0 120 (dk_at dksX0_isKept_0 5 rfl rfl)
theorem dX0_isKept_8 : decode cX0_isKept 8 = .ok (.iconst 0, 1) := dk_3 (dk_at dksX0_isKept_0 8 rfl rfl)
theorem dX0_isKept_9 : decode cX0_isKept 9 = .ok (.istore_n 3, 1) := dk_62 (dk_at dksX0_isKept_0 9 rfl rfl)
theorem dX0_isKept_10 : decode cX0_isKept 10 = .ok (.iload_n 3, 1) := dk_29 (dk_at dksX0_isKept_0 10 rfl rfl)
theorem dX0_isKept_11 : decode cX0_isKept 11 = .ok (.bipush 8, 2) := dk_16 8 (dk_at dksX0_isKept_0 11 rfl rfl)
theorem dX0_isKept_13 : decode cX0_isKept 13 = .ok (.if_icmp .ge 106, 3) := dk_162 0 106 (dk_at dksX0_isKept_0 13 rfl rfl)
theorem dX0_isKept_16 : decode cX0_isKept 16 = .ok (.iload_n 1, 1) := dk_27 (dk_at dksX0_isKept_0 16 rfl rfl)
theorem dX0_isKept_17 : decode cX0_isKept 17 = .ok (.iload_n 2, 1) := dk_28 (dk_at dksX0_isKept_0 17 rfl rfl)
theorem dX0_isKept_18 : decode cX0_isKept 18 = .ok (.invokestatic 221, 3) := dk_184 0 221 (dk_at dksX0_isKept_0 18 rfl rfl)
theorem dX0_isKept_21 : decode cX0_isKept 21 = .ok (.ifCond .eq 36, 3) := dk_153 0 36 (dk_at dksX0_isKept_0 21 rfl rfl)
theorem dX0_isKept_24 : decode cX0_isKept 24 = .ok (.iload_n 1, 1) := dk_27 (dk_at dksX0_isKept_1 0 rfl rfl)
theorem dX0_isKept_25 : decode cX0_isKept 25 = .ok (.iload_n 3, 1) := dk_29 (dk_at dksX0_isKept_1 1 rfl rfl)
theorem dX0_isKept_26 : decode cX0_isKept 26 = .ok (.invokestatic 221, 3) := dk_184 0 221 (dk_at dksX0_isKept_1 2 rfl rfl)
theorem dX0_isKept_29 : decode cX0_isKept 29 = .ok (.ifCond .eq 28, 3) := dk_153 0 28 (dk_at dksX0_isKept_1 5 rfl rfl)
theorem dX0_isKept_32 : decode cX0_isKept 32 = .ok (.aload_n 0, 1) := dk_42 (dk_at dksX0_isKept_1 8 rfl rfl)
theorem dX0_isKept_33 : decode cX0_isKept 33 = .ok (.getfield 38, 3) := dk_180 0 38 (dk_at dksX0_isKept_1 9 rfl rfl)
theorem dX0_isKept_36 : decode cX0_isKept 36 = .ok (.getfield 127, 3) := dk_180 0 127 (dk_at dksX0_isKept_1 12 rfl rfl)
theorem dX0_isKept_39 : decode cX0_isKept 39 = .ok (.iload_n 2, 1) := dk_28 (dk_at dksX0_isKept_1 15 rfl rfl)
theorem dX0_isKept_40 : decode cX0_isKept 40 = .ok (.iaload, 1) := dk_46 (dk_at dksX0_isKept_1 16 rfl rfl)
theorem dX0_isKept_41 : decode cX0_isKept 41 = .ok (.aload_n 0, 1) := dk_42 (dk_at dksX0_isKept_1 17 rfl rfl)
theorem dX0_isKept_42 : decode cX0_isKept 42 = .ok (.getfield 38, 3) := dk_180 0 38 (dk_at dksX0_isKept_1 18 rfl rfl)
theorem dX0_isKept_45 : decode cX0_isKept 45 = .ok (.getfield 127, 3) := dk_180 0 127 (dk_at dksX0_isKept_1 21 rfl rfl)
theorem dX0_isKept_48 : decode cX0_isKept 48 = .ok (.iload_n 3, 1) := dk_29 (dk_at dksX0_isKept_2 0 rfl rfl)
theorem dX0_isKept_49 : decode cX0_isKept 49 = .ok (.iaload, 1) := dk_46 (dk_at dksX0_isKept_2 1 rfl rfl)
theorem dX0_isKept_50 : decode cX0_isKept 50 = .ok (.if_icmp .ne 7, 3) := dk_160 0 7 (dk_at dksX0_isKept_2 2 rfl rfl)
theorem dX0_isKept_53 : decode cX0_isKept 53 = .ok (.iconst 1, 1) := dk_4 (dk_at dksX0_isKept_2 5 rfl rfl)
theorem dX0_isKept_54 : decode cX0_isKept 54 = .ok (.goto 4, 3) := dk_167 0 4 (dk_at dksX0_isKept_2 6 rfl rfl)
theorem dX0_isKept_57 : decode cX0_isKept 57 = .ok (.iconst 0, 1) := dk_3 (dk_at dksX0_isKept_2 9 rfl rfl)
theorem dX0_isKept_58 : decode cX0_isKept 58 = .ok (.istore 4, 2) := dk_54 4 (dk_at dksX0_isKept_2 10 rfl rfl)
theorem dX0_isKept_60 : decode cX0_isKept 60 = .ok (.iload 4, 2) := dk_21 4 (dk_at dksX0_isKept_2 12 rfl rfl)
theorem dX0_isKept_62 : decode cX0_isKept 62 = .ok (.ifCond .eq 51, 3) := dk_153 0 51 (dk_at dksX0_isKept_2 14 rfl rfl)
theorem dX0_isKept_65 : decode cX0_isKept 65 = .ok (.aload_n 0, 1) := dk_42 (dk_at dksX0_isKept_2 17 rfl rfl)
theorem dX0_isKept_66 : decode cX0_isKept 66 = .ok (.getfield 38, 3) := dk_180 0 38 (dk_at dksX0_isKept_2 18 rfl rfl)
theorem dX0_isKept_69 : decode cX0_isKept 69 = .ok (.getfield 103, 3) := dk_180 0 103 (dk_at dksX0_isKept_2 21 rfl rfl)
theorem dX0_isKept_72 : decode cX0_isKept 72 = .ok (.aload_n 0, 1) := dk_42 (dk_at dksX0_isKept_3 0 rfl rfl)
theorem dX0_isKept_73 : decode cX0_isKept 73 = .ok (.getfield 38, 3) := dk_180 0 38 (dk_at dksX0_isKept_3 1 rfl rfl)
theorem dX0_isKept_76 : decode cX0_isKept 76 = .ok (.getfield 127, 3) := dk_180 0 127 (dk_at dksX0_isKept_3 4 rfl rfl)
theorem dX0_isKept_79 : decode cX0_isKept 79 = .ok (.iload_n 2, 1) := dk_28 (dk_at dksX0_isKept_3 7 rfl rfl)
theorem dX0_isKept_80 : decode cX0_isKept 80 = .ok (.iaload, 1) := dk_46 (dk_at dksX0_isKept_3 8 rfl rfl)
theorem dX0_isKept_81 : decode cX0_isKept 81 = .ok (.invokestatic 221, 3) := dk_184 0 221 (dk_at dksX0_isKept_3 9 rfl rfl)
theorem dX0_isKept_84 : decode cX0_isKept 84 = .ok (.ifCond .eq 29, 3) := dk_153 0 29 (dk_at dksX0_isKept_3 12 rfl rfl)
theorem dX0_isKept_87 : decode cX0_isKept 87 = .ok (.aload_n 0, 1) := dk_42 (dk_at dksX0_isKept_3 15 rfl rfl)
theorem dX0_isKept_88 : decode cX0_isKept 88 = .ok (.getfield 38, 3) := dk_180 0 38 (dk_at dksX0_isKept_3 16 rfl rfl)
theorem dX0_isKept_91 : decode cX0_isKept 91 = .ok (.getfield 130, 3) := dk_180 0 130 (dk_at dksX0_isKept_3 19 rfl rfl)
theorem dX0_isKept_94 : decode cX0_isKept 94 = .ok (.iload_n 2, 1) := dk_28 (dk_at dksX0_isKept_3 22 rfl rfl)
theorem dX0_isKept_95 : decode cX0_isKept 95 = .ok (.iaload, 1) := dk_46 (dk_at dksX0_isKept_3 23 rfl rfl)
theorem dX0_isKept_96 : decode cX0_isKept 96 = .ok (.aload_n 0, 1) := dk_42 (dk_at dksX0_isKept_4 0 rfl rfl)
theorem dX0_isKept_97 : decode cX0_isKept 97 = .ok (.getfield 38, 3) := dk_180 0 38 (dk_at dksX0_isKept_4 1 rfl rfl)
theorem dX0_isKept_100 : decode cX0_isKept 100 = .ok (.getfield 130, 3) := dk_180 0 130 (dk_at dksX0_isKept_4 4 rfl rfl)
theorem dX0_isKept_103 : decode cX0_isKept 103 = .ok (.iload_n 3, 1) := dk_29 (dk_at dksX0_isKept_4 7 rfl rfl)
theorem dX0_isKept_104 : decode cX0_isKept 104 = .ok (.iaload, 1) := dk_46 (dk_at dksX0_isKept_4 8 rfl rfl)
theorem dX0_isKept_105 : decode cX0_isKept 105 = .ok (.invokestatic 239, 3) := dk_184 0 239 (dk_at dksX0_isKept_4 9 rfl rfl)
theorem dX0_isKept_108 : decode cX0_isKept 108 = .ok (.ifCond .eq 5, 3) := dk_153 0 5 (dk_at dksX0_isKept_4 12 rfl rfl)
theorem dX0_isKept_111 : decode cX0_isKept 111 = .ok (.iconst 0, 1) := dk_3 (dk_at dksX0_isKept_4 15 rfl rfl)
theorem dX0_isKept_112 : decode cX0_isKept 112 = .ok (.ireturn, 1) := dk_172 (dk_at dksX0_isKept_4 16 rfl rfl)
theorem dX0_isKept_113 : decode cX0_isKept 113 = .ok (.iinc 3 1, 3) := dk_132 3 1 (dk_at dksX0_isKept_4 17 rfl rfl)
theorem dX0_isKept_116 : decode cX0_isKept 116 = .ok (.goto (-106), 3) := dk_167 255 150 (dk_at dksX0_isKept_4 20 rfl rfl)
theorem dX0_isKept_119 : decode cX0_isKept 119 = .ok (.iinc 2 1, 3) := dk_132 2 1 (dk_at dksX0_isKept_5 0 rfl rfl)
theorem dX0_isKept_122 : decode cX0_isKept 122 = .ok (.goto (-120), 3) := dk_167 255 136 (dk_at dksX0_isKept_5 3 rfl rfl)
theorem dX0_isKept_125 : decode cX0_isKept 125 = .ok (.iconst 1, 1) := dk_4 (dk_at dksX0_isKept_5 6 rfl rfl)
theorem dX0_isKept_126 : decode cX0_isKept 126 = .ok (.ireturn, 1) := dk_172 (dk_at dksX0_isKept_5 7 rfl rfl)
abbrev cX0_cut : ByteArray := prog_1_method_41_code
def yX0_cut : MethodName := ⟨RX0, "cut", "()I"⟩
def dkwX0_cut_2 : List UInt8 := [167, 0, 4, 3, 128, 60, 132, 2, 1, 167, 255, 205, 27, 172]
abbrev dktX0_cut_2 : List UInt8 := dkwX0_cut_2 ++ []
def dkwX0_cut_1 : List UInt8 := [182, 0, 228, 42, 180, 0, 38, 180, 0, 127, 28, 46, 3, 182, 0, 231, 156, 0, 9, 4, 28, 120]
abbrev dktX0_cut_1 : List UInt8 := dkwX0_cut_1 ++ dktX0_cut_2
def dkwX0_cut_0 : List UInt8 := [3, 60, 3, 61, 28, 16, 8, 162, 0, 51, 27, 42, 180, 0, 38, 28, 182, 0, 82, 153, 0, 30, 42, 42]
abbrev dktX0_cut_0 : List UInt8 := dkwX0_cut_0 ++ dktX0_cut_1
theorem dksX0_cut_0 : cX0_cut.data.toList.drop 0 = dktX0_cut_0 := by decide +kernel
theorem dksX0_cut_1 : cX0_cut.data.toList.drop 24 = dktX0_cut_1 := dk_seg dksX0_cut_0 24 rfl rfl
theorem dksX0_cut_2 : cX0_cut.data.toList.drop 46 = dktX0_cut_2 := dk_seg dksX0_cut_1 22 rfl rfl
theorem dX0_cut_0 : decode cX0_cut 0 = .ok (.iconst 0, 1) := dk_3 (dk_at dksX0_cut_0 0 rfl rfl)
theorem dX0_cut_1 : decode cX0_cut 1 = .ok (.istore_n 1, 1) := dk_60 (dk_at dksX0_cut_0 1 rfl rfl)
theorem dX0_cut_2 : decode cX0_cut 2 = .ok (.iconst 0, 1) := dk_3 (dk_at dksX0_cut_0 2 rfl rfl)
theorem dX0_cut_3 : decode cX0_cut 3 = .ok (.istore_n 2, 1) := dk_61 (dk_at dksX0_cut_0 3 rfl rfl)
theorem dX0_cut_4 : decode cX0_cut 4 = .ok (.iload_n 2, 1) := dk_28 (dk_at dksX0_cut_0 4 rfl rfl)
theorem dX0_cut_5 : decode cX0_cut 5 = .ok (.bipush 8, 2) := dk_16 8 (dk_at dksX0_cut_0 5 rfl rfl)
theorem dX0_cut_7 : decode cX0_cut 7 = .ok (.if_icmp .ge 51, 3) := dk_162 0 51 (dk_at dksX0_cut_0 7 rfl rfl)
theorem dX0_cut_10 : decode cX0_cut 10 = .ok (.iload_n 1, 1) := dk_27 (dk_at dksX0_cut_0 10 rfl rfl)
theorem dX0_cut_11 : decode cX0_cut 11 = .ok (.aload_n 0, 1) := dk_42 (dk_at dksX0_cut_0 11 rfl rfl)
theorem dX0_cut_12 : decode cX0_cut 12 = .ok (.getfield 38, 3) := dk_180 0 38 (dk_at dksX0_cut_0 12 rfl rfl)
theorem dX0_cut_15 : decode cX0_cut 15 = .ok (.iload_n 2, 1) := dk_28 (dk_at dksX0_cut_0 15 rfl rfl)
theorem dX0_cut_16 : decode cX0_cut 16 = .ok (.invokevirtual 82, 3) := dk_182 0 82 (dk_at dksX0_cut_0 16 rfl rfl)
theorem dX0_cut_19 : decode cX0_cut 19 = .ok (.ifCond .eq 30, 3) := dk_153 0 30 (dk_at dksX0_cut_0 19 rfl rfl)
theorem dX0_cut_22 : decode cX0_cut 22 = .ok (.aload_n 0, 1) := dk_42 (dk_at dksX0_cut_0 22 rfl rfl)
theorem dX0_cut_23 : decode cX0_cut 23 = .ok (.aload_n 0, 1) := dk_42 (dk_at dksX0_cut_0 23 rfl rfl)
theorem dX0_cut_24 : decode cX0_cut 24 = .ok (.invokevirtual 228, 3) := dk_182 0 228 (dk_at dksX0_cut_1 0 rfl rfl)
theorem dX0_cut_27 : decode cX0_cut 27 = .ok (.aload_n 0, 1) := dk_42 (dk_at dksX0_cut_1 3 rfl rfl)
theorem dX0_cut_28 : decode cX0_cut 28 = .ok (.getfield 38, 3) := dk_180 0 38 (dk_at dksX0_cut_1 4 rfl rfl)
theorem dX0_cut_31 : decode cX0_cut 31 = .ok (.getfield 127, 3) := dk_180 0 127 (dk_at dksX0_cut_1 7 rfl rfl)
theorem dX0_cut_34 : decode cX0_cut 34 = .ok (.iload_n 2, 1) := dk_28 (dk_at dksX0_cut_1 10 rfl rfl)
theorem dX0_cut_35 : decode cX0_cut 35 = .ok (.iaload, 1) := dk_46 (dk_at dksX0_cut_1 11 rfl rfl)
theorem dX0_cut_36 : decode cX0_cut 36 = .ok (.iconst 0, 1) := dk_3 (dk_at dksX0_cut_1 12 rfl rfl)
theorem dX0_cut_37 : decode cX0_cut 37 = .ok (.invokevirtual 231, 3) := dk_182 0 231 (dk_at dksX0_cut_1 13 rfl rfl)
theorem dX0_cut_40 : decode cX0_cut 40 = .ok (.ifCond .ge 9, 3) := dk_156 0 9 (dk_at dksX0_cut_1 16 rfl rfl)
theorem dX0_cut_43 : decode cX0_cut 43 = .ok (.iconst 1, 1) := dk_4 (dk_at dksX0_cut_1 19 rfl rfl)
theorem dX0_cut_44 : decode cX0_cut 44 = .ok (.iload_n 2, 1) := dk_28 (dk_at dksX0_cut_1 20 rfl rfl)
theorem dX0_cut_45 : decode cX0_cut 45 = .ok (.ishl, 1) := dk_120 (dk_at dksX0_cut_1 21 rfl rfl)
theorem dX0_cut_46 : decode cX0_cut 46 = .ok (.goto 4, 3) := dk_167 0 4 (dk_at dksX0_cut_2 0 rfl rfl)
theorem dX0_cut_49 : decode cX0_cut 49 = .ok (.iconst 0, 1) := dk_3 (dk_at dksX0_cut_2 3 rfl rfl)
theorem dX0_cut_50 : decode cX0_cut 50 = .ok (.ior, 1) := dk_128 (dk_at dksX0_cut_2 4 rfl rfl)
theorem dX0_cut_51 : decode cX0_cut 51 = .ok (.istore_n 1, 1) := dk_60 (dk_at dksX0_cut_2 5 rfl rfl)
theorem dX0_cut_52 : decode cX0_cut 52 = .ok (.iinc 2 1, 3) := dk_132 2 1 (dk_at dksX0_cut_2 6 rfl rfl)
theorem dX0_cut_55 : decode cX0_cut 55 = .ok (.goto (-51), 3) := dk_167 255 205 (dk_at dksX0_cut_2 9 rfl rfl)
theorem dX0_cut_58 : decode cX0_cut 58 = .ok (.iload_n 1, 1) := dk_27 (dk_at dksX0_cut_2 12 rfl rfl)
theorem dX0_cut_59 : decode cX0_cut 59 = .ok (.ireturn, 1) := dk_172 (dk_at dksX0_cut_2 13 rfl rfl)
abbrev cX0_hold : ByteArray := prog_1_method_46_code
def yX0_hold : MethodName := ⟨RX0, "hold", "(III)I"⟩
def dkwX0_hold_7 : List UInt8 := [154, 0, 12, 42, 180, 0, 63, 3, 46, 167, 0, 5, 21, 6, 172]
abbrev dktX0_hold_7 : List UInt8 := dkwX0_hold_7 ++ []
def dkwX0_hold_6 : List UInt8 := [42, 3, 21, 6, 182, 1, 5, 42, 180, 0, 63, 3, 46, 162, 0, 9, 132, 6, 1, 167, 255, 237, 29]
abbrev dktX0_hold_6 : List UInt8 := dkwX0_hold_6 ++ dktX0_hold_7
def dkwX0_hold_5 : List UInt8 := [3, 184, 1, 12, 4, 54, 5, 21, 5, 153, 0, 12, 42, 182, 1, 16, 54, 5, 167, 255, 245, 3, 54, 6]
abbrev dktX0_hold_5 : List UInt8 := dkwX0_hold_5 ++ dktX0_hold_6
def dkwX0_hold_4 : List UInt8 := [167, 0, 4, 3, 54, 4, 132, 5, 1, 167, 255, 199, 21, 4, 154, 0, 6, 16, 254, 172, 42, 180, 0, 63]
abbrev dktX0_hold_4 : List UInt8 := dkwX0_hold_4 ++ dktX0_hold_5
def dkwX0_hold_3 : List UInt8 := [180, 0, 69, 21, 5, 28, 21, 5, 184, 0, 248, 79, 42, 180, 0, 66, 21, 5, 46, 158, 0, 7, 4]
abbrev dktX0_hold_3 : List UInt8 := dkwX0_hold_3 ++ dktX0_hold_4
def dkwX0_hold_2 : List UInt8 := [162, 0, 57, 21, 4, 153, 0, 52, 42, 180, 0, 66, 21, 5, 27, 21, 5, 184, 0, 248, 79, 42]
abbrev dktX0_hold_2 : List UInt8 := dkwX0_hold_2 ++ dktX0_hold_3
def dkwX0_hold_1 : List UInt8 := [153, 0, 14, 29, 184, 0, 197, 153, 0, 7, 4, 167, 0, 4, 3, 54, 4, 3, 54, 5, 21, 5, 6]
abbrev dktX0_hold_1 : List UInt8 := dkwX0_hold_1 ++ dktX0_hold_2
def dkwX0_hold_0 : List UInt8 := [27, 133, 20, 1, 8, 20, 1, 10, 184, 0, 3, 153, 0, 26, 28, 133, 9, 20, 1, 10, 184, 0, 3]
abbrev dktX0_hold_0 : List UInt8 := dkwX0_hold_0 ++ dktX0_hold_1
theorem dksX0_hold_0 : cX0_hold.data.toList.drop 0 = dktX0_hold_0 := by decide +kernel
theorem dksX0_hold_1 : cX0_hold.data.toList.drop 23 = dktX0_hold_1 := dk_seg dksX0_hold_0 23 rfl rfl
theorem dksX0_hold_2 : cX0_hold.data.toList.drop 46 = dktX0_hold_2 := dk_seg dksX0_hold_1 23 rfl rfl
theorem dksX0_hold_3 : cX0_hold.data.toList.drop 68 = dktX0_hold_3 := dk_seg dksX0_hold_2 22 rfl rfl
theorem dksX0_hold_4 : cX0_hold.data.toList.drop 91 = dktX0_hold_4 := dk_seg dksX0_hold_3 23 rfl rfl
theorem dksX0_hold_5 : cX0_hold.data.toList.drop 115 = dktX0_hold_5 := dk_seg dksX0_hold_4 24 rfl rfl
theorem dksX0_hold_6 : cX0_hold.data.toList.drop 139 = dktX0_hold_6 := dk_seg dksX0_hold_5 24 rfl rfl
theorem dksX0_hold_7 : cX0_hold.data.toList.drop 162 = dktX0_hold_7 := dk_seg dksX0_hold_6 23 rfl rfl
theorem dX0_hold_0 : decode cX0_hold 0 = .ok (.iload_n 1, 1) := dk_27 (dk_at dksX0_hold_0 0 rfl rfl)
theorem dX0_hold_1 : decode cX0_hold 1 = .ok (.i2l, 1) := dk_133 (dk_at dksX0_hold_0 1 rfl rfl)
theorem dX0_hold_2 : decode cX0_hold 2 = .ok (.ldc2_w 264, 3) := dk_20 1 8 (dk_at dksX0_hold_0 2 rfl rfl)
theorem dX0_hold_5 : decode cX0_hold 5 = .ok (.ldc2_w 266, 3) := dk_20 1 10 (dk_at dksX0_hold_0 5 rfl rfl)
theorem dX0_hold_8 : decode cX0_hold 8 = .ok (.invokestatic 3, 3) := dk_184 0 3 (dk_at dksX0_hold_0 8 rfl rfl)
theorem dX0_hold_11 : decode cX0_hold 11 = .ok (.ifCond .eq 26, 3) := dk_153 0 26 (dk_at dksX0_hold_0 11 rfl rfl)
theorem dX0_hold_14 : decode cX0_hold 14 = .ok (.iload_n 2, 1) := dk_28 (dk_at dksX0_hold_0 14 rfl rfl)
theorem dX0_hold_15 : decode cX0_hold 15 = .ok (.i2l, 1) := dk_133 (dk_at dksX0_hold_0 15 rfl rfl)
theorem dX0_hold_16 : decode cX0_hold 16 = .ok (.lconst 0, 1) := dk_9 (dk_at dksX0_hold_0 16 rfl rfl)
theorem dX0_hold_17 : decode cX0_hold 17 = .ok (.ldc2_w 266, 3) := dk_20 1 10 (dk_at dksX0_hold_0 17 rfl rfl)
theorem dX0_hold_20 : decode cX0_hold 20 = .ok (.invokestatic 3, 3) := dk_184 0 3 (dk_at dksX0_hold_0 20 rfl rfl)
theorem dX0_hold_23 : decode cX0_hold 23 = .ok (.ifCond .eq 14, 3) := dk_153 0 14 (dk_at dksX0_hold_1 0 rfl rfl)
theorem dX0_hold_26 : decode cX0_hold 26 = .ok (.iload_n 3, 1) := dk_29 (dk_at dksX0_hold_1 3 rfl rfl)
theorem dX0_hold_27 : decode cX0_hold 27 = .ok (.invokestatic 197, 3) := dk_184 0 197 (dk_at dksX0_hold_1 4 rfl rfl)
theorem dX0_hold_30 : decode cX0_hold 30 = .ok (.ifCond .eq 7, 3) := dk_153 0 7 (dk_at dksX0_hold_1 7 rfl rfl)
theorem dX0_hold_33 : decode cX0_hold 33 = .ok (.iconst 1, 1) := dk_4 (dk_at dksX0_hold_1 10 rfl rfl)
theorem dX0_hold_34 : decode cX0_hold 34 = .ok (.goto 4, 3) := dk_167 0 4 (dk_at dksX0_hold_1 11 rfl rfl)
theorem dX0_hold_37 : decode cX0_hold 37 = .ok (.iconst 0, 1) := dk_3 (dk_at dksX0_hold_1 14 rfl rfl)
theorem dX0_hold_38 : decode cX0_hold 38 = .ok (.istore 4, 2) := dk_54 4 (dk_at dksX0_hold_1 15 rfl rfl)
theorem dX0_hold_40 : decode cX0_hold 40 = .ok (.iconst 0, 1) := dk_3 (dk_at dksX0_hold_1 17 rfl rfl)
theorem dX0_hold_41 : decode cX0_hold 41 = .ok (.istore 5, 2) := dk_54 5 (dk_at dksX0_hold_1 18 rfl rfl)
theorem dX0_hold_43 : decode cX0_hold 43 = .ok (.iload 5, 2) := dk_21 5 (dk_at dksX0_hold_1 20 rfl rfl)
theorem dX0_hold_45 : decode cX0_hold 45 = .ok (.iconst 3, 1) := dk_6 (dk_at dksX0_hold_1 22 rfl rfl)
theorem dX0_hold_46 : decode cX0_hold 46 = .ok (.if_icmp .ge 57, 3) := dk_162 0 57 (dk_at dksX0_hold_2 0 rfl rfl)
theorem dX0_hold_49 : decode cX0_hold 49 = .ok (.iload 4, 2) := dk_21 4 (dk_at dksX0_hold_2 3 rfl rfl)
theorem dX0_hold_51 : decode cX0_hold 51 = .ok (.ifCond .eq 52, 3) := dk_153 0 52 (dk_at dksX0_hold_2 5 rfl rfl)
theorem dX0_hold_54 : decode cX0_hold 54 = .ok (.aload_n 0, 1) := dk_42 (dk_at dksX0_hold_2 8 rfl rfl)
theorem dX0_hold_55 : decode cX0_hold 55 = .ok (.getfield 66, 3) := dk_180 0 66 (dk_at dksX0_hold_2 9 rfl rfl)
theorem dX0_hold_58 : decode cX0_hold 58 = .ok (.iload 5, 2) := dk_21 5 (dk_at dksX0_hold_2 12 rfl rfl)
theorem dX0_hold_60 : decode cX0_hold 60 = .ok (.iload_n 1, 1) := dk_27 (dk_at dksX0_hold_2 14 rfl rfl)
theorem dX0_hold_61 : decode cX0_hold 61 = .ok (.iload 5, 2) := dk_21 5 (dk_at dksX0_hold_2 15 rfl rfl)
theorem dX0_hold_63 : decode cX0_hold 63 = .ok (.invokestatic 248, 3) := dk_184 0 248 (dk_at dksX0_hold_2 17 rfl rfl)
theorem dX0_hold_66 : decode cX0_hold 66 = .ok (.iastore, 1) := dk_79 (dk_at dksX0_hold_2 20 rfl rfl)
theorem dX0_hold_67 : decode cX0_hold 67 = .ok (.aload_n 0, 1) := dk_42 (dk_at dksX0_hold_2 21 rfl rfl)
theorem dX0_hold_68 : decode cX0_hold 68 = .ok (.getfield 69, 3) := dk_180 0 69 (dk_at dksX0_hold_3 0 rfl rfl)
theorem dX0_hold_71 : decode cX0_hold 71 = .ok (.iload 5, 2) := dk_21 5 (dk_at dksX0_hold_3 3 rfl rfl)
theorem dX0_hold_73 : decode cX0_hold 73 = .ok (.iload_n 2, 1) := dk_28 (dk_at dksX0_hold_3 5 rfl rfl)
theorem dX0_hold_74 : decode cX0_hold 74 = .ok (.iload 5, 2) := dk_21 5 (dk_at dksX0_hold_3 6 rfl rfl)
theorem dX0_hold_76 : decode cX0_hold 76 = .ok (.invokestatic 248, 3) := dk_184 0 248 (dk_at dksX0_hold_3 8 rfl rfl)
theorem dX0_hold_79 : decode cX0_hold 79 = .ok (.iastore, 1) := dk_79 (dk_at dksX0_hold_3 11 rfl rfl)
theorem dX0_hold_80 : decode cX0_hold 80 = .ok (.aload_n 0, 1) := dk_42 (dk_at dksX0_hold_3 12 rfl rfl)
theorem dX0_hold_81 : decode cX0_hold 81 = .ok (.getfield 66, 3) := dk_180 0 66 (dk_at dksX0_hold_3 13 rfl rfl)
theorem dX0_hold_84 : decode cX0_hold 84 = .ok (.iload 5, 2) := dk_21 5 (dk_at dksX0_hold_3 16 rfl rfl)
theorem dX0_hold_86 : decode cX0_hold 86 = .ok (.iaload, 1) := dk_46 (dk_at dksX0_hold_3 18 rfl rfl)
theorem dX0_hold_87 : decode cX0_hold 87 = .ok (.ifCond .le 7, 3) := dk_158 0 7 (dk_at dksX0_hold_3 19 rfl rfl)
theorem dX0_hold_90 : decode cX0_hold 90 = .ok (.iconst 1, 1) := dk_4 (dk_at dksX0_hold_3 22 rfl rfl)
theorem dX0_hold_91 : decode cX0_hold 91 = .ok (.goto 4, 3) := dk_167 0 4 (dk_at dksX0_hold_4 0 rfl rfl)
theorem dX0_hold_94 : decode cX0_hold 94 = .ok (.iconst 0, 1) := dk_3 (dk_at dksX0_hold_4 3 rfl rfl)
theorem dX0_hold_95 : decode cX0_hold 95 = .ok (.istore 4, 2) := dk_54 4 (dk_at dksX0_hold_4 4 rfl rfl)
theorem dX0_hold_97 : decode cX0_hold 97 = .ok (.iinc 5 1, 3) := dk_132 5 1 (dk_at dksX0_hold_4 6 rfl rfl)
theorem dX0_hold_100 : decode cX0_hold 100 = .ok (.goto (-57), 3) := dk_167 255 199 (dk_at dksX0_hold_4 9 rfl rfl)
theorem dX0_hold_103 : decode cX0_hold 103 = .ok (.iload 4, 2) := dk_21 4 (dk_at dksX0_hold_4 12 rfl rfl)
theorem dX0_hold_105 : decode cX0_hold 105 = .ok (.ifCond .ne 6, 3) := dk_154 0 6 (dk_at dksX0_hold_4 14 rfl rfl)
theorem dX0_hold_108 : decode cX0_hold 108 = .ok (.bipush (-2), 2) := dk_16 254 (dk_at dksX0_hold_4 17 rfl rfl)
theorem dX0_hold_110 : decode cX0_hold 110 = .ok (.ireturn, 1) := dk_172 (dk_at dksX0_hold_4 19 rfl rfl)
theorem dX0_hold_111 : decode cX0_hold 111 = .ok (.aload_n 0, 1) := dk_42 (dk_at dksX0_hold_4 20 rfl rfl)
theorem dX0_hold_112 : decode cX0_hold 112 = .ok (.getfield 63, 3) := dk_180 0 63 (dk_at dksX0_hold_4 21 rfl rfl)
theorem dX0_hold_115 : decode cX0_hold 115 = .ok (.iconst 0, 1) := dk_3 (dk_at dksX0_hold_5 0 rfl rfl)
theorem dX0_hold_116 : decode cX0_hold 116 = .ok (.invokestatic 268, 3) := dk_184 1 12 (dk_at dksX0_hold_5 1 rfl rfl)
theorem dX0_hold_119 : decode cX0_hold 119 = .ok (.iconst 1, 1) := dk_4 (dk_at dksX0_hold_5 4 rfl rfl)
theorem dX0_hold_120 : decode cX0_hold 120 = .ok (.istore 5, 2) := dk_54 5 (dk_at dksX0_hold_5 5 rfl rfl)
theorem dX0_hold_122 : decode cX0_hold 122 = .ok (.iload 5, 2) := dk_21 5 (dk_at dksX0_hold_5 7 rfl rfl)
theorem dX0_hold_124 : decode cX0_hold 124 = .ok (.ifCond .eq 12, 3) := dk_153 0 12 (dk_at dksX0_hold_5 9 rfl rfl)
theorem dX0_hold_127 : decode cX0_hold 127 = .ok (.aload_n 0, 1) := dk_42 (dk_at dksX0_hold_5 12 rfl rfl)
theorem dX0_hold_128 : decode cX0_hold 128 = .ok (.invokevirtual 272, 3) := dk_182 1 16 (dk_at dksX0_hold_5 13 rfl rfl)
theorem dX0_hold_131 : decode cX0_hold 131 = .ok (.istore 5, 2) := dk_54 5 (dk_at dksX0_hold_5 16 rfl rfl)
theorem dX0_hold_133 : decode cX0_hold 133 = .ok (.goto (-11), 3) := dk_167 255 245 (dk_at dksX0_hold_5 18 rfl rfl)
theorem dX0_hold_136 : decode cX0_hold 136 = .ok (.iconst 0, 1) := dk_3 (dk_at dksX0_hold_5 21 rfl rfl)
theorem dX0_hold_137 : decode cX0_hold 137 = .ok (.istore 6, 2) := dk_54 6 (dk_at dksX0_hold_5 22 rfl rfl)
theorem dX0_hold_139 : decode cX0_hold 139 = .ok (.aload_n 0, 1) := dk_42 (dk_at dksX0_hold_6 0 rfl rfl)
theorem dX0_hold_140 : decode cX0_hold 140 = .ok (.iconst 0, 1) := dk_3 (dk_at dksX0_hold_6 1 rfl rfl)
theorem dX0_hold_141 : decode cX0_hold 141 = .ok (.iload 6, 2) := dk_21 6 (dk_at dksX0_hold_6 2 rfl rfl)
theorem dX0_hold_143 : decode cX0_hold 143 = .ok (.invokevirtual 261, 3) := dk_182 1 5 (dk_at dksX0_hold_6 4 rfl rfl)
theorem dX0_hold_146 : decode cX0_hold 146 = .ok (.aload_n 0, 1) := dk_42 (dk_at dksX0_hold_6 7 rfl rfl)
theorem dX0_hold_147 : decode cX0_hold 147 = .ok (.getfield 63, 3) := dk_180 0 63 (dk_at dksX0_hold_6 8 rfl rfl)
theorem dX0_hold_150 : decode cX0_hold 150 = .ok (.iconst 0, 1) := dk_3 (dk_at dksX0_hold_6 11 rfl rfl)
theorem dX0_hold_151 : decode cX0_hold 151 = .ok (.iaload, 1) := dk_46 (dk_at dksX0_hold_6 12 rfl rfl)
theorem dX0_hold_152 : decode cX0_hold 152 = .ok (.if_icmp .ge 9, 3) := dk_162 0 9 (dk_at dksX0_hold_6 13 rfl rfl)
theorem dX0_hold_155 : decode cX0_hold 155 = .ok (.iinc 6 1, 3) := dk_132 6 1 (dk_at dksX0_hold_6 16 rfl rfl)
theorem dX0_hold_158 : decode cX0_hold 158 = .ok (.goto (-19), 3) := dk_167 255 237 (dk_at dksX0_hold_6 19 rfl rfl)
theorem dX0_hold_161 : decode cX0_hold 161 = .ok (.iload_n 3, 1) := dk_29 (dk_at dksX0_hold_6 22 rfl rfl)
theorem dX0_hold_162 : decode cX0_hold 162 = .ok (.ifCond .ne 12, 3) := dk_154 0 12 (dk_at dksX0_hold_7 0 rfl rfl)
theorem dX0_hold_165 : decode cX0_hold 165 = .ok (.aload_n 0, 1) := dk_42 (dk_at dksX0_hold_7 3 rfl rfl)
theorem dX0_hold_166 : decode cX0_hold 166 = .ok (.getfield 63, 3) := dk_180 0 63 (dk_at dksX0_hold_7 4 rfl rfl)
theorem dX0_hold_169 : decode cX0_hold 169 = .ok (.iconst 0, 1) := dk_3 (dk_at dksX0_hold_7 7 rfl rfl)
theorem dX0_hold_170 : decode cX0_hold 170 = .ok (.iaload, 1) := dk_46 (dk_at dksX0_hold_7 8 rfl rfl)
theorem dX0_hold_171 : decode cX0_hold 171 = .ok (.goto 5, 3) := dk_167 0 5 (dk_at dksX0_hold_7 9 rfl rfl)
theorem dX0_hold_174 : decode cX0_hold 174 = .ok (.iload 6, 2) := dk_21 6 (dk_at dksX0_hold_7 12 rfl rfl)
theorem dX0_hold_176 : decode cX0_hold 176 = .ok (.ireturn, 1) := dk_172 (dk_at dksX0_hold_7 14 rfl rfl)
abbrev cX0_digit : ByteArray := prog_1_method_42_code
def yX0_digit : MethodName := ⟨RX0, "digit", "(II)I"⟩
def dkwX0_digit_1 : List UInt8 := [167, 0, 7, 26, 16, 10, 112, 172]
abbrev dktX0_digit_1 : List UInt8 := dkwX0_digit_1 ++ []
def dkwX0_digit_0 : List UInt8 := [27, 154, 0, 10, 26, 16, 100, 108, 167, 0, 22, 27, 4, 160, 0, 13, 26, 16, 10, 108, 16, 10, 112]
abbrev dktX0_digit_0 : List UInt8 := dkwX0_digit_0 ++ dktX0_digit_1
theorem dksX0_digit_0 : cX0_digit.data.toList.drop 0 = dktX0_digit_0 := by decide +kernel
theorem dksX0_digit_1 : cX0_digit.data.toList.drop 23 = dktX0_digit_1 := dk_seg dksX0_digit_0 23 rfl rfl
theorem dX0_digit_0 : decode cX0_digit 0 = .ok (.iload_n 1, 1) := dk_27 (dk_at dksX0_digit_0 0 rfl rfl)
theorem dX0_digit_1 : decode cX0_digit 1 = .ok (.ifCond .ne 10, 3) := dk_154 0 10 (dk_at dksX0_digit_0 1 rfl rfl)
theorem dX0_digit_4 : decode cX0_digit 4 = .ok (.iload_n 0, 1) := dk_26 (dk_at dksX0_digit_0 4 rfl rfl)
theorem dX0_digit_5 : decode cX0_digit 5 = .ok (.bipush 100, 2) := dk_16 100 (dk_at dksX0_digit_0 5 rfl rfl)
theorem dX0_digit_7 : decode cX0_digit 7 = .ok (.idiv, 1) := dk_108 (dk_at dksX0_digit_0 7 rfl rfl)
theorem dX0_digit_8 : decode cX0_digit 8 = .ok (.goto 22, 3) := dk_167 0 22 (dk_at dksX0_digit_0 8 rfl rfl)
theorem dX0_digit_11 : decode cX0_digit 11 = .ok (.iload_n 1, 1) := dk_27 (dk_at dksX0_digit_0 11 rfl rfl)
theorem dX0_digit_12 : decode cX0_digit 12 = .ok (.iconst 1, 1) := dk_4 (dk_at dksX0_digit_0 12 rfl rfl)
theorem dX0_digit_13 : decode cX0_digit 13 = .ok (.if_icmp .ne 13, 3) := dk_160 0 13 (dk_at dksX0_digit_0 13 rfl rfl)
theorem dX0_digit_16 : decode cX0_digit 16 = .ok (.iload_n 0, 1) := dk_26 (dk_at dksX0_digit_0 16 rfl rfl)
theorem dX0_digit_17 : decode cX0_digit 17 = .ok (.bipush 10, 2) := dk_16 10 (dk_at dksX0_digit_0 17 rfl rfl)
theorem dX0_digit_19 : decode cX0_digit 19 = .ok (.idiv, 1) := dk_108 (dk_at dksX0_digit_0 19 rfl rfl)
theorem dX0_digit_20 : decode cX0_digit 20 = .ok (.bipush 10, 2) := dk_16 10 (dk_at dksX0_digit_0 20 rfl rfl)
theorem dX0_digit_22 : decode cX0_digit 22 = .ok (.irem, 1) := dk_112 (dk_at dksX0_digit_0 22 rfl rfl)
theorem dX0_digit_23 : decode cX0_digit 23 = .ok (.goto 7, 3) := dk_167 0 7 (dk_at dksX0_digit_1 0 rfl rfl)
theorem dX0_digit_26 : decode cX0_digit 26 = .ok (.iload_n 0, 1) := dk_26 (dk_at dksX0_digit_1 3 rfl rfl)
theorem dX0_digit_27 : decode cX0_digit 27 = .ok (.bipush 10, 2) := dk_16 10 (dk_at dksX0_digit_1 4 rfl rfl)
theorem dX0_digit_29 : decode cX0_digit 29 = .ok (.irem, 1) := dk_112 (dk_at dksX0_digit_1 6 rfl rfl)
theorem dX0_digit_30 : decode cX0_digit 30 = .ok (.ireturn, 1) := dk_172 (dk_at dksX0_digit_1 7 rfl rfl)
abbrev cX0_holdOn : ByteArray := prog_1_method_45_code
def yX0_holdOn : MethodName := ⟨RX0, "holdOn", "()Z"⟩
def dkwX0_holdOn_3 : List UInt8 := [79, 132, 2, 1, 167, 255, 185, 27, 172]
abbrev dktX0_holdOn_3 : List UInt8 := dkwX0_holdOn_3 ++ []
def dkwX0_holdOn_2 : List UInt8 := [27, 29, 42, 180, 0, 63, 28, 46, 164, 0, 7, 4, 167, 0, 4, 3, 128, 60, 42, 180, 0, 63, 28, 29]
abbrev dktX0_holdOn_2 : List UInt8 := dkwX0_holdOn_2 ++ dktX0_holdOn_3
def dkwX0_holdOn_1 : List UInt8 := [21, 4, 6, 162, 0, 21, 29, 42, 28, 21, 4, 182, 1, 5, 184, 0, 252, 62, 132, 4, 1, 167, 255, 235]
abbrev dktX0_holdOn_1 : List UInt8 := dkwX0_holdOn_1 ++ dktX0_holdOn_2
def dkwX0_holdOn_0 : List UInt8 := [3, 60, 3, 61, 28, 42, 180, 0, 63, 190, 162, 0, 68, 42, 180, 0, 63, 28, 46, 62, 3, 54, 4]
abbrev dktX0_holdOn_0 : List UInt8 := dkwX0_holdOn_0 ++ dktX0_holdOn_1
theorem dksX0_holdOn_0 : cX0_holdOn.data.toList.drop 0 = dktX0_holdOn_0 := by decide +kernel
theorem dksX0_holdOn_1 : cX0_holdOn.data.toList.drop 23 = dktX0_holdOn_1 := dk_seg dksX0_holdOn_0 23 rfl rfl
theorem dksX0_holdOn_2 : cX0_holdOn.data.toList.drop 47 = dktX0_holdOn_2 := dk_seg dksX0_holdOn_1 24 rfl rfl
theorem dksX0_holdOn_3 : cX0_holdOn.data.toList.drop 71 = dktX0_holdOn_3 := dk_seg dksX0_holdOn_2 24 rfl rfl
theorem dX0_holdOn_0 : decode cX0_holdOn 0 = .ok (.iconst 0, 1) := dk_3 (dk_at dksX0_holdOn_0 0 rfl rfl)
theorem dX0_holdOn_1 : decode cX0_holdOn 1 = .ok (.istore_n 1, 1) := dk_60 (dk_at dksX0_holdOn_0 1 rfl rfl)
theorem dX0_holdOn_2 : decode cX0_holdOn 2 = .ok (.iconst 0, 1) := dk_3 (dk_at dksX0_holdOn_0 2 rfl rfl)
theorem dX0_holdOn_3 : decode cX0_holdOn 3 = .ok (.istore_n 2, 1) := dk_61 (dk_at dksX0_holdOn_0 3 rfl rfl)
theorem dX0_holdOn_4 : decode cX0_holdOn 4 = .ok (.iload_n 2, 1) := dk_28 (dk_at dksX0_holdOn_0 4 rfl rfl)
theorem dX0_holdOn_5 : decode cX0_holdOn 5 = .ok (.aload_n 0, 1) := dk_42 (dk_at dksX0_holdOn_0 5 rfl rfl)
theorem dX0_holdOn_6 : decode cX0_holdOn 6 = .ok (.getfield 63, 3) := dk_180 0 63 (dk_at dksX0_holdOn_0 6 rfl rfl)
theorem dX0_holdOn_9 : decode cX0_holdOn 9 = .ok (.arraylength, 1) := dk_190 (dk_at dksX0_holdOn_0 9 rfl rfl)
theorem dX0_holdOn_10 : decode cX0_holdOn 10 = .ok (.if_icmp .ge 68, 3) := dk_162 0 68 (dk_at dksX0_holdOn_0 10 rfl rfl)
theorem dX0_holdOn_13 : decode cX0_holdOn 13 = .ok (.aload_n 0, 1) := dk_42 (dk_at dksX0_holdOn_0 13 rfl rfl)
theorem dX0_holdOn_14 : decode cX0_holdOn 14 = .ok (.getfield 63, 3) := dk_180 0 63 (dk_at dksX0_holdOn_0 14 rfl rfl)
theorem dX0_holdOn_17 : decode cX0_holdOn 17 = .ok (.iload_n 2, 1) := dk_28 (dk_at dksX0_holdOn_0 17 rfl rfl)
theorem dX0_holdOn_18 : decode cX0_holdOn 18 = .ok (.iaload, 1) := dk_46 (dk_at dksX0_holdOn_0 18 rfl rfl)
theorem dX0_holdOn_19 : decode cX0_holdOn 19 = .ok (.istore_n 3, 1) := dk_62 (dk_at dksX0_holdOn_0 19 rfl rfl)
theorem dX0_holdOn_20 : decode cX0_holdOn 20 = .ok (.iconst 0, 1) := dk_3 (dk_at dksX0_holdOn_0 20 rfl rfl)
theorem dX0_holdOn_21 : decode cX0_holdOn 21 = .ok (.istore 4, 2) := dk_54 4 (dk_at dksX0_holdOn_0 21 rfl rfl)
theorem dX0_holdOn_23 : decode cX0_holdOn 23 = .ok (.iload 4, 2) := dk_21 4 (dk_at dksX0_holdOn_1 0 rfl rfl)
theorem dX0_holdOn_25 : decode cX0_holdOn 25 = .ok (.iconst 3, 1) := dk_6 (dk_at dksX0_holdOn_1 2 rfl rfl)
theorem dX0_holdOn_26 : decode cX0_holdOn 26 = .ok (.if_icmp .ge 21, 3) := dk_162 0 21 (dk_at dksX0_holdOn_1 3 rfl rfl)
theorem dX0_holdOn_29 : decode cX0_holdOn 29 = .ok (.iload_n 3, 1) := dk_29 (dk_at dksX0_holdOn_1 6 rfl rfl)
theorem dX0_holdOn_30 : decode cX0_holdOn 30 = .ok (.aload_n 0, 1) := dk_42 (dk_at dksX0_holdOn_1 7 rfl rfl)
theorem dX0_holdOn_31 : decode cX0_holdOn 31 = .ok (.iload_n 2, 1) := dk_28 (dk_at dksX0_holdOn_1 8 rfl rfl)
theorem dX0_holdOn_32 : decode cX0_holdOn 32 = .ok (.iload 4, 2) := dk_21 4 (dk_at dksX0_holdOn_1 9 rfl rfl)
theorem dX0_holdOn_34 : decode cX0_holdOn 34 = .ok (.invokevirtual 261, 3) := dk_182 1 5 (dk_at dksX0_holdOn_1 11 rfl rfl)
theorem dX0_holdOn_37 : decode cX0_holdOn 37 = .ok (.invokestatic 252, 3) := dk_184 0 252 (dk_at dksX0_holdOn_1 14 rfl rfl)
theorem dX0_holdOn_40 : decode cX0_holdOn 40 = .ok (.istore_n 3, 1) := dk_62 (dk_at dksX0_holdOn_1 17 rfl rfl)
theorem dX0_holdOn_41 : decode cX0_holdOn 41 = .ok (.iinc 4 1, 3) := dk_132 4 1 (dk_at dksX0_holdOn_1 18 rfl rfl)
theorem dX0_holdOn_44 : decode cX0_holdOn 44 = .ok (.goto (-21), 3) := dk_167 255 235 (dk_at dksX0_holdOn_1 21 rfl rfl)
theorem dX0_holdOn_47 : decode cX0_holdOn 47 = .ok (.iload_n 1, 1) := dk_27 (dk_at dksX0_holdOn_2 0 rfl rfl)
theorem dX0_holdOn_48 : decode cX0_holdOn 48 = .ok (.iload_n 3, 1) := dk_29 (dk_at dksX0_holdOn_2 1 rfl rfl)
theorem dX0_holdOn_49 : decode cX0_holdOn 49 = .ok (.aload_n 0, 1) := dk_42 (dk_at dksX0_holdOn_2 2 rfl rfl)
theorem dX0_holdOn_50 : decode cX0_holdOn 50 = .ok (.getfield 63, 3) := dk_180 0 63 (dk_at dksX0_holdOn_2 3 rfl rfl)
theorem dX0_holdOn_53 : decode cX0_holdOn 53 = .ok (.iload_n 2, 1) := dk_28 (dk_at dksX0_holdOn_2 6 rfl rfl)
theorem dX0_holdOn_54 : decode cX0_holdOn 54 = .ok (.iaload, 1) := dk_46 (dk_at dksX0_holdOn_2 7 rfl rfl)
theorem dX0_holdOn_55 : decode cX0_holdOn 55 = .ok (.if_icmp .le 7, 3) := dk_164 0 7 (dk_at dksX0_holdOn_2 8 rfl rfl)
theorem dX0_holdOn_58 : decode cX0_holdOn 58 = .ok (.iconst 1, 1) := dk_4 (dk_at dksX0_holdOn_2 11 rfl rfl)
theorem dX0_holdOn_59 : decode cX0_holdOn 59 = .ok (.goto 4, 3) := dk_167 0 4 (dk_at dksX0_holdOn_2 12 rfl rfl)
theorem dX0_holdOn_62 : decode cX0_holdOn 62 = .ok (.iconst 0, 1) := dk_3 (dk_at dksX0_holdOn_2 15 rfl rfl)
theorem dX0_holdOn_63 : decode cX0_holdOn 63 = .ok (.ior, 1) := dk_128 (dk_at dksX0_holdOn_2 16 rfl rfl)
theorem dX0_holdOn_64 : decode cX0_holdOn 64 = .ok (.istore_n 1, 1) := dk_60 (dk_at dksX0_holdOn_2 17 rfl rfl)
theorem dX0_holdOn_65 : decode cX0_holdOn 65 = .ok (.aload_n 0, 1) := dk_42 (dk_at dksX0_holdOn_2 18 rfl rfl)
theorem dX0_holdOn_66 : decode cX0_holdOn 66 = .ok (.getfield 63, 3) := dk_180 0 63 (dk_at dksX0_holdOn_2 19 rfl rfl)
theorem dX0_holdOn_69 : decode cX0_holdOn 69 = .ok (.iload_n 2, 1) := dk_28 (dk_at dksX0_holdOn_2 22 rfl rfl)
theorem dX0_holdOn_70 : decode cX0_holdOn 70 = .ok (.iload_n 3, 1) := dk_29 (dk_at dksX0_holdOn_2 23 rfl rfl)
theorem dX0_holdOn_71 : decode cX0_holdOn 71 = .ok (.iastore, 1) := dk_79 (dk_at dksX0_holdOn_3 0 rfl rfl)
theorem dX0_holdOn_72 : decode cX0_holdOn 72 = .ok (.iinc 2 1, 3) := dk_132 2 1 (dk_at dksX0_holdOn_3 1 rfl rfl)
theorem dX0_holdOn_75 : decode cX0_holdOn 75 = .ok (.goto (-71), 3) := dk_167 255 185 (dk_at dksX0_holdOn_3 4 rfl rfl)
theorem dX0_holdOn_78 : decode cX0_holdOn 78 = .ok (.iload_n 1, 1) := dk_27 (dk_at dksX0_holdOn_3 7 rfl rfl)
theorem dX0_holdOn_79 : decode cX0_holdOn 79 = .ok (.ireturn, 1) := dk_172 (dk_at dksX0_holdOn_3 8 rfl rfl)
abbrev cX0_beatsBy : ByteArray := prog_1_method_44_code
def yX0_beatsBy : MethodName := ⟨RX0, "beatsBy", "(II)I"⟩
def dkwX0_beatsBy_1 : List UInt8 := [42, 27, 28, 182, 0, 255, 46, 96, 184, 1, 2, 172]
abbrev dktX0_beatsBy_1 : List UInt8 := dkwX0_beatsBy_1 ++ []
def dkwX0_beatsBy_0 : List UInt8 := [27, 28, 184, 0, 248, 158, 0, 7, 3, 167, 0, 26, 16, 99, 42, 180, 0, 66, 28, 46, 42, 180, 0, 63]
abbrev dktX0_beatsBy_0 : List UInt8 := dkwX0_beatsBy_0 ++ dktX0_beatsBy_1
theorem dksX0_beatsBy_0 : cX0_beatsBy.data.toList.drop 0 = dktX0_beatsBy_0 := by decide +kernel
theorem dksX0_beatsBy_1 : cX0_beatsBy.data.toList.drop 24 = dktX0_beatsBy_1 := dk_seg dksX0_beatsBy_0 24 rfl rfl
theorem dX0_beatsBy_0 : decode cX0_beatsBy 0 = .ok (.iload_n 1, 1) := dk_27 (dk_at dksX0_beatsBy_0 0 rfl rfl)
theorem dX0_beatsBy_1 : decode cX0_beatsBy 1 = .ok (.iload_n 2, 1) := dk_28 (dk_at dksX0_beatsBy_0 1 rfl rfl)
theorem dX0_beatsBy_2 : decode cX0_beatsBy 2 = .ok (.invokestatic 248, 3) := dk_184 0 248 (dk_at dksX0_beatsBy_0 2 rfl rfl)
theorem dX0_beatsBy_5 : decode cX0_beatsBy 5 = .ok (.ifCond .le 7, 3) := dk_158 0 7 (dk_at dksX0_beatsBy_0 5 rfl rfl)
theorem dX0_beatsBy_8 : decode cX0_beatsBy 8 = .ok (.iconst 0, 1) := dk_3 (dk_at dksX0_beatsBy_0 8 rfl rfl)
theorem dX0_beatsBy_9 : decode cX0_beatsBy 9 = .ok (.goto 26, 3) := dk_167 0 26 (dk_at dksX0_beatsBy_0 9 rfl rfl)
theorem dX0_beatsBy_12 : decode cX0_beatsBy 12 = .ok (.bipush 99, 2) := dk_16 99 (dk_at dksX0_beatsBy_0 12 rfl rfl)
theorem dX0_beatsBy_14 : decode cX0_beatsBy 14 = .ok (.aload_n 0, 1) := dk_42 (dk_at dksX0_beatsBy_0 14 rfl rfl)
theorem dX0_beatsBy_15 : decode cX0_beatsBy 15 = .ok (.getfield 66, 3) := dk_180 0 66 (dk_at dksX0_beatsBy_0 15 rfl rfl)
theorem dX0_beatsBy_18 : decode cX0_beatsBy 18 = .ok (.iload_n 2, 1) := dk_28 (dk_at dksX0_beatsBy_0 18 rfl rfl)
theorem dX0_beatsBy_19 : decode cX0_beatsBy 19 = .ok (.iaload, 1) := dk_46 (dk_at dksX0_beatsBy_0 19 rfl rfl)
theorem dX0_beatsBy_20 : decode cX0_beatsBy 20 = .ok (.aload_n 0, 1) := dk_42 (dk_at dksX0_beatsBy_0 20 rfl rfl)
theorem dX0_beatsBy_21 : decode cX0_beatsBy 21 = .ok (.getfield 63, 3) := dk_180 0 63 (dk_at dksX0_beatsBy_0 21 rfl rfl)
theorem dX0_beatsBy_24 : decode cX0_beatsBy 24 = .ok (.aload_n 0, 1) := dk_42 (dk_at dksX0_beatsBy_1 0 rfl rfl)
theorem dX0_beatsBy_25 : decode cX0_beatsBy 25 = .ok (.iload_n 1, 1) := dk_27 (dk_at dksX0_beatsBy_1 1 rfl rfl)
theorem dX0_beatsBy_26 : decode cX0_beatsBy 26 = .ok (.iload_n 2, 1) := dk_28 (dk_at dksX0_beatsBy_1 2 rfl rfl)
theorem dX0_beatsBy_27 : decode cX0_beatsBy 27 = .ok (.invokevirtual 255, 3) := dk_182 0 255 (dk_at dksX0_beatsBy_1 3 rfl rfl)
theorem dX0_beatsBy_30 : decode cX0_beatsBy 30 = .ok (.iaload, 1) := dk_46 (dk_at dksX0_beatsBy_1 6 rfl rfl)
theorem dX0_beatsBy_31 : decode cX0_beatsBy 31 = .ok (.iadd, 1) := dk_96 (dk_at dksX0_beatsBy_1 7 rfl rfl)
theorem dX0_beatsBy_32 : decode cX0_beatsBy 32 = .ok (.invokestatic 258, 3) := dk_184 1 2 (dk_at dksX0_beatsBy_1 8 rfl rfl)
theorem dX0_beatsBy_35 : decode cX0_beatsBy 35 = .ok (.ireturn, 1) := dk_172 (dk_at dksX0_beatsBy_1 11 rfl rfl)
abbrev cX0_restsThen : ByteArray := prog_1_method_43_code
def yX0_restsThen : MethodName := ⟨RX0, "restsThen", "(II)I"⟩
def dkwX0_restsThen_2 : List UInt8 := [167, 0, 5, 21, 5, 96, 62, 132, 4, 1, 167, 255, 205, 29, 172]
abbrev dktX0_restsThen_2 : List UInt8 := dkwX0_restsThen_2 ++ []
def dkwX0_restsThen_1 : List UInt8 := [100, 184, 0, 252, 54, 5, 16, 10, 29, 104, 21, 4, 28, 160, 0, 12, 42, 180, 0, 69, 28, 46]
abbrev dktX0_restsThen_1 : List UInt8 := dkwX0_restsThen_1 ++ dktX0_restsThen_2
def dkwX0_restsThen_0 : List UInt8 := [3, 62, 3, 54, 4, 21, 4, 6, 162, 0, 51, 3, 27, 21, 4, 184, 0, 248, 42, 180, 0, 66, 28, 46]
abbrev dktX0_restsThen_0 : List UInt8 := dkwX0_restsThen_0 ++ dktX0_restsThen_1
theorem dksX0_restsThen_0 : cX0_restsThen.data.toList.drop 0 = dktX0_restsThen_0 := by decide +kernel
theorem dksX0_restsThen_1 : cX0_restsThen.data.toList.drop 24 = dktX0_restsThen_1 := dk_seg dksX0_restsThen_0 24 rfl rfl
theorem dksX0_restsThen_2 : cX0_restsThen.data.toList.drop 46 = dktX0_restsThen_2 := dk_seg dksX0_restsThen_1 22 rfl rfl
theorem dX0_restsThen_0 : decode cX0_restsThen 0 = .ok (.iconst 0, 1) := dk_3 (dk_at dksX0_restsThen_0 0 rfl rfl)
theorem dX0_restsThen_1 : decode cX0_restsThen 1 = .ok (.istore_n 3, 1) := dk_62 (dk_at dksX0_restsThen_0 1 rfl rfl)
theorem dX0_restsThen_2 : decode cX0_restsThen 2 = .ok (.iconst 0, 1) := dk_3 (dk_at dksX0_restsThen_0 2 rfl rfl)
theorem dX0_restsThen_3 : decode cX0_restsThen 3 = .ok (.istore 4, 2) := dk_54 4 (dk_at dksX0_restsThen_0 3 rfl rfl)
theorem dX0_restsThen_5 : decode cX0_restsThen 5 = .ok (.iload 4, 2) := dk_21 4 (dk_at dksX0_restsThen_0 5 rfl rfl)
theorem dX0_restsThen_7 : decode cX0_restsThen 7 = .ok (.iconst 3, 1) := dk_6 (dk_at dksX0_restsThen_0 7 rfl rfl)
theorem dX0_restsThen_8 : decode cX0_restsThen 8 = .ok (.if_icmp .ge 51, 3) := dk_162 0 51 (dk_at dksX0_restsThen_0 8 rfl rfl)
theorem dX0_restsThen_11 : decode cX0_restsThen 11 = .ok (.iconst 0, 1) := dk_3 (dk_at dksX0_restsThen_0 11 rfl rfl)
theorem dX0_restsThen_12 : decode cX0_restsThen 12 = .ok (.iload_n 1, 1) := dk_27 (dk_at dksX0_restsThen_0 12 rfl rfl)
theorem dX0_restsThen_13 : decode cX0_restsThen 13 = .ok (.iload 4, 2) := dk_21 4 (dk_at dksX0_restsThen_0 13 rfl rfl)
theorem dX0_restsThen_15 : decode cX0_restsThen 15 = .ok (.invokestatic 248, 3) := dk_184 0 248 (dk_at dksX0_restsThen_0 15 rfl rfl)
theorem dX0_restsThen_18 : decode cX0_restsThen 18 = .ok (.aload_n 0, 1) := dk_42 (dk_at dksX0_restsThen_0 18 rfl rfl)
theorem dX0_restsThen_19 : decode cX0_restsThen 19 = .ok (.getfield 66, 3) := dk_180 0 66 (dk_at dksX0_restsThen_0 19 rfl rfl)
theorem dX0_restsThen_22 : decode cX0_restsThen 22 = .ok (.iload_n 2, 1) := dk_28 (dk_at dksX0_restsThen_0 22 rfl rfl)
theorem dX0_restsThen_23 : decode cX0_restsThen 23 = .ok (.iaload, 1) := dk_46 (dk_at dksX0_restsThen_0 23 rfl rfl)
theorem dX0_restsThen_24 : decode cX0_restsThen 24 = .ok (.isub, 1) := dk_100 (dk_at dksX0_restsThen_1 0 rfl rfl)
theorem dX0_restsThen_25 : decode cX0_restsThen 25 = .ok (.invokestatic 252, 3) := dk_184 0 252 (dk_at dksX0_restsThen_1 1 rfl rfl)
theorem dX0_restsThen_28 : decode cX0_restsThen 28 = .ok (.istore 5, 2) := dk_54 5 (dk_at dksX0_restsThen_1 4 rfl rfl)
theorem dX0_restsThen_30 : decode cX0_restsThen 30 = .ok (.bipush 10, 2) := dk_16 10 (dk_at dksX0_restsThen_1 6 rfl rfl)
theorem dX0_restsThen_32 : decode cX0_restsThen 32 = .ok (.iload_n 3, 1) := dk_29 (dk_at dksX0_restsThen_1 8 rfl rfl)
theorem dX0_restsThen_33 : decode cX0_restsThen 33 = .ok (.imul, 1) := dk_104 (dk_at dksX0_restsThen_1 9 rfl rfl)
theorem dX0_restsThen_34 : decode cX0_restsThen 34 = .ok (.iload 4, 2) := dk_21 4 (dk_at dksX0_restsThen_1 10 rfl rfl)
theorem dX0_restsThen_36 : decode cX0_restsThen 36 = .ok (.iload_n 2, 1) := dk_28 (dk_at dksX0_restsThen_1 12 rfl rfl)
theorem dX0_restsThen_37 : decode cX0_restsThen 37 = .ok (.if_icmp .ne 12, 3) := dk_160 0 12 (dk_at dksX0_restsThen_1 13 rfl rfl)
theorem dX0_restsThen_40 : decode cX0_restsThen 40 = .ok (.aload_n 0, 1) := dk_42 (dk_at dksX0_restsThen_1 16 rfl rfl)
theorem dX0_restsThen_41 : decode cX0_restsThen 41 = .ok (.getfield 69, 3) := dk_180 0 69 (dk_at dksX0_restsThen_1 17 rfl rfl)
theorem dX0_restsThen_44 : decode cX0_restsThen 44 = .ok (.iload_n 2, 1) := dk_28 (dk_at dksX0_restsThen_1 20 rfl rfl)
theorem dX0_restsThen_45 : decode cX0_restsThen 45 = .ok (.iaload, 1) := dk_46 (dk_at dksX0_restsThen_1 21 rfl rfl)
theorem dX0_restsThen_46 : decode cX0_restsThen 46 = .ok (.goto 5, 3) := dk_167 0 5 (dk_at dksX0_restsThen_2 0 rfl rfl)
theorem dX0_restsThen_49 : decode cX0_restsThen 49 = .ok (.iload 5, 2) := dk_21 5 (dk_at dksX0_restsThen_2 3 rfl rfl)
theorem dX0_restsThen_51 : decode cX0_restsThen 51 = .ok (.iadd, 1) := dk_96 (dk_at dksX0_restsThen_2 5 rfl rfl)
theorem dX0_restsThen_52 : decode cX0_restsThen 52 = .ok (.istore_n 3, 1) := dk_62 (dk_at dksX0_restsThen_2 6 rfl rfl)
theorem dX0_restsThen_53 : decode cX0_restsThen 53 = .ok (.iinc 4 1, 3) := dk_132 4 1 (dk_at dksX0_restsThen_2 7 rfl rfl)
theorem dX0_restsThen_56 : decode cX0_restsThen 56 = .ok (.goto (-51), 3) := dk_167 255 205 (dk_at dksX0_restsThen_2 10 rfl rfl)
theorem dX0_restsThen_59 : decode cX0_restsThen 59 = .ok (.iload_n 3, 1) := dk_29 (dk_at dksX0_restsThen_2 13 rfl rfl)
theorem dX0_restsThen_60 : decode cX0_restsThen 60 = .ok (.ireturn, 1) := dk_172 (dk_at dksX0_restsThen_2 14 rfl rfl)
abbrev cX0_round : ByteArray := prog_1_method_47_code
def yX0_round : MethodName := ⟨RX0, "round", "(IIII)I"⟩
def dkwX0_round_4 : List UInt8 := [172]
abbrev dktX0_round_4 : List UInt8 := dkwX0_round_4 ++ []
def dkwX0_round_3 : List UInt8 := [154, 0, 16, 21, 5, 21, 4, 96, 29, 112, 154, 0, 6, 21, 5, 172, 132, 5, 1, 167, 255, 223, 16, 250]
abbrev dktX0_round_3 : List UInt8 := dkwX0_round_3 ++ dktX0_round_4
def dkwX0_round_2 : List UInt8 := [154, 0, 6, 16, 254, 172, 3, 54, 5, 21, 5, 27, 29, 104, 162, 0, 31, 21, 5, 28, 96, 27, 112]
abbrev dktX0_round_2 : List UInt8 := dkwX0_round_2 ++ dktX0_round_3
def dkwX0_round_1 : List UInt8 := [29, 133, 10, 20, 0, 110, 184, 0, 3, 153, 0, 16, 21, 4, 133, 9, 20, 0, 110, 184, 0, 3]
abbrev dktX0_round_1 : List UInt8 := dkwX0_round_1 ++ dktX0_round_2
def dkwX0_round_0 : List UInt8 := [27, 133, 10, 20, 0, 110, 184, 0, 3, 153, 0, 40, 28, 133, 9, 20, 0, 110, 184, 0, 3, 153, 0, 28]
abbrev dktX0_round_0 : List UInt8 := dkwX0_round_0 ++ dktX0_round_1
theorem dksX0_round_0 : cX0_round.data.toList.drop 0 = dktX0_round_0 := by decide +kernel
theorem dksX0_round_1 : cX0_round.data.toList.drop 24 = dktX0_round_1 := dk_seg dksX0_round_0 24 rfl rfl
theorem dksX0_round_2 : cX0_round.data.toList.drop 46 = dktX0_round_2 := dk_seg dksX0_round_1 22 rfl rfl
theorem dksX0_round_3 : cX0_round.data.toList.drop 69 = dktX0_round_3 := dk_seg dksX0_round_2 23 rfl rfl
theorem dksX0_round_4 : cX0_round.data.toList.drop 93 = dktX0_round_4 := dk_seg dksX0_round_3 24 rfl rfl
theorem dX0_round_0 : decode cX0_round 0 = .ok (.iload_n 1, 1) := dk_27 (dk_at dksX0_round_0 0 rfl rfl)
theorem dX0_round_1 : decode cX0_round 1 = .ok (.i2l, 1) := dk_133 (dk_at dksX0_round_0 1 rfl rfl)
theorem dX0_round_2 : decode cX0_round 2 = .ok (.lconst 1, 1) := dk_10 (dk_at dksX0_round_0 2 rfl rfl)
theorem dX0_round_3 : decode cX0_round 3 = .ok (.ldc2_w 110, 3) := dk_20 0 110 (dk_at dksX0_round_0 3 rfl rfl)
theorem dX0_round_6 : decode cX0_round 6 = .ok (.invokestatic 3, 3) := dk_184 0 3 (dk_at dksX0_round_0 6 rfl rfl)
theorem dX0_round_9 : decode cX0_round 9 = .ok (.ifCond .eq 40, 3) := dk_153 0 40 (dk_at dksX0_round_0 9 rfl rfl)
theorem dX0_round_12 : decode cX0_round 12 = .ok (.iload_n 2, 1) := dk_28 (dk_at dksX0_round_0 12 rfl rfl)
theorem dX0_round_13 : decode cX0_round 13 = .ok (.i2l, 1) := dk_133 (dk_at dksX0_round_0 13 rfl rfl)
theorem dX0_round_14 : decode cX0_round 14 = .ok (.lconst 0, 1) := dk_9 (dk_at dksX0_round_0 14 rfl rfl)
theorem dX0_round_15 : decode cX0_round 15 = .ok (.ldc2_w 110, 3) := dk_20 0 110 (dk_at dksX0_round_0 15 rfl rfl)
theorem dX0_round_18 : decode cX0_round 18 = .ok (.invokestatic 3, 3) := dk_184 0 3 (dk_at dksX0_round_0 18 rfl rfl)
theorem dX0_round_21 : decode cX0_round 21 = .ok (.ifCond .eq 28, 3) := dk_153 0 28 (dk_at dksX0_round_0 21 rfl rfl)
theorem dX0_round_24 : decode cX0_round 24 = .ok (.iload_n 3, 1) := dk_29 (dk_at dksX0_round_1 0 rfl rfl)
theorem dX0_round_25 : decode cX0_round 25 = .ok (.i2l, 1) := dk_133 (dk_at dksX0_round_1 1 rfl rfl)
theorem dX0_round_26 : decode cX0_round 26 = .ok (.lconst 1, 1) := dk_10 (dk_at dksX0_round_1 2 rfl rfl)
theorem dX0_round_27 : decode cX0_round 27 = .ok (.ldc2_w 110, 3) := dk_20 0 110 (dk_at dksX0_round_1 3 rfl rfl)
theorem dX0_round_30 : decode cX0_round 30 = .ok (.invokestatic 3, 3) := dk_184 0 3 (dk_at dksX0_round_1 6 rfl rfl)
theorem dX0_round_33 : decode cX0_round 33 = .ok (.ifCond .eq 16, 3) := dk_153 0 16 (dk_at dksX0_round_1 9 rfl rfl)
theorem dX0_round_36 : decode cX0_round 36 = .ok (.iload 4, 2) := dk_21 4 (dk_at dksX0_round_1 12 rfl rfl)
theorem dX0_round_38 : decode cX0_round 38 = .ok (.i2l, 1) := dk_133 (dk_at dksX0_round_1 14 rfl rfl)
theorem dX0_round_39 : decode cX0_round 39 = .ok (.lconst 0, 1) := dk_9 (dk_at dksX0_round_1 15 rfl rfl)
theorem dX0_round_40 : decode cX0_round 40 = .ok (.ldc2_w 110, 3) := dk_20 0 110 (dk_at dksX0_round_1 16 rfl rfl)
theorem dX0_round_43 : decode cX0_round 43 = .ok (.invokestatic 3, 3) := dk_184 0 3 (dk_at dksX0_round_1 19 rfl rfl)
theorem dX0_round_46 : decode cX0_round 46 = .ok (.ifCond .ne 6, 3) := dk_154 0 6 (dk_at dksX0_round_2 0 rfl rfl)
theorem dX0_round_49 : decode cX0_round 49 = .ok (.bipush (-2), 2) := dk_16 254 (dk_at dksX0_round_2 3 rfl rfl)
theorem dX0_round_51 : decode cX0_round 51 = .ok (.ireturn, 1) := dk_172 (dk_at dksX0_round_2 5 rfl rfl)
theorem dX0_round_52 : decode cX0_round 52 = .ok (.iconst 0, 1) := dk_3 (dk_at dksX0_round_2 6 rfl rfl)
theorem dX0_round_53 : decode cX0_round 53 = .ok (.istore 5, 2) := dk_54 5 (dk_at dksX0_round_2 7 rfl rfl)
theorem dX0_round_55 : decode cX0_round 55 = .ok (.iload 5, 2) := dk_21 5 (dk_at dksX0_round_2 9 rfl rfl)
theorem dX0_round_57 : decode cX0_round 57 = .ok (.iload_n 1, 1) := dk_27 (dk_at dksX0_round_2 11 rfl rfl)
theorem dX0_round_58 : decode cX0_round 58 = .ok (.iload_n 3, 1) := dk_29 (dk_at dksX0_round_2 12 rfl rfl)
theorem dX0_round_59 : decode cX0_round 59 = .ok (.imul, 1) := dk_104 (dk_at dksX0_round_2 13 rfl rfl)
theorem dX0_round_60 : decode cX0_round 60 = .ok (.if_icmp .ge 31, 3) := dk_162 0 31 (dk_at dksX0_round_2 14 rfl rfl)
theorem dX0_round_63 : decode cX0_round 63 = .ok (.iload 5, 2) := dk_21 5 (dk_at dksX0_round_2 17 rfl rfl)
theorem dX0_round_65 : decode cX0_round 65 = .ok (.iload_n 2, 1) := dk_28 (dk_at dksX0_round_2 19 rfl rfl)
theorem dX0_round_66 : decode cX0_round 66 = .ok (.iadd, 1) := dk_96 (dk_at dksX0_round_2 20 rfl rfl)
theorem dX0_round_67 : decode cX0_round 67 = .ok (.iload_n 1, 1) := dk_27 (dk_at dksX0_round_2 21 rfl rfl)
theorem dX0_round_68 : decode cX0_round 68 = .ok (.irem, 1) := dk_112 (dk_at dksX0_round_2 22 rfl rfl)
theorem dX0_round_69 : decode cX0_round 69 = .ok (.ifCond .ne 16, 3) := dk_154 0 16 (dk_at dksX0_round_3 0 rfl rfl)
theorem dX0_round_72 : decode cX0_round 72 = .ok (.iload 5, 2) := dk_21 5 (dk_at dksX0_round_3 3 rfl rfl)
theorem dX0_round_74 : decode cX0_round 74 = .ok (.iload 4, 2) := dk_21 4 (dk_at dksX0_round_3 5 rfl rfl)
theorem dX0_round_76 : decode cX0_round 76 = .ok (.iadd, 1) := dk_96 (dk_at dksX0_round_3 7 rfl rfl)
theorem dX0_round_77 : decode cX0_round 77 = .ok (.iload_n 3, 1) := dk_29 (dk_at dksX0_round_3 8 rfl rfl)
theorem dX0_round_78 : decode cX0_round 78 = .ok (.irem, 1) := dk_112 (dk_at dksX0_round_3 9 rfl rfl)
theorem dX0_round_79 : decode cX0_round 79 = .ok (.ifCond .ne 6, 3) := dk_154 0 6 (dk_at dksX0_round_3 10 rfl rfl)
theorem dX0_round_82 : decode cX0_round 82 = .ok (.iload 5, 2) := dk_21 5 (dk_at dksX0_round_3 13 rfl rfl)
theorem dX0_round_84 : decode cX0_round 84 = .ok (.ireturn, 1) := dk_172 (dk_at dksX0_round_3 15 rfl rfl)
theorem dX0_round_85 : decode cX0_round 85 = .ok (.iinc 5 1, 3) := dk_132 5 1 (dk_at dksX0_round_3 16 rfl rfl)
theorem dX0_round_88 : decode cX0_round 88 = .ok (.goto (-33), 3) := dk_167 255 223 (dk_at dksX0_round_3 19 rfl rfl)
theorem dX0_round_91 : decode cX0_round 91 = .ok (.bipush (-6), 2) := dk_16 250 (dk_at dksX0_round_3 22 rfl rfl)
theorem dX0_round_93 : decode cX0_round 93 = .ok (.ireturn, 1) := dk_172 (dk_at dksX0_round_4 0 rfl rfl)
abbrev cX0_heard : ByteArray := prog_1_method_48_code
def yX0_heard : MethodName := ⟨RX0, "heard", "(II)I"⟩
def dkwX0_heard_4 : List UInt8 := [180, 1, 21, 172]
abbrev dktX0_heard_4 : List UInt8 := dkwX0_heard_4 ++ []
def dkwX0_heard_3 : List UInt8 := [180, 1, 21, 28, 79, 42, 180, 0, 38, 89, 180, 1, 21, 4, 96, 181, 1, 21, 42, 180, 0, 38]
abbrev dktX0_heard_3 : List UInt8 := dkwX0_heard_3 ++ dktX0_heard_4
def dkwX0_heard_2 : List UInt8 := [180, 1, 24, 42, 180, 0, 38, 180, 1, 21, 27, 79, 42, 180, 0, 38, 180, 1, 27, 42, 180, 0, 38]
abbrev dktX0_heard_2 : List UInt8 := dkwX0_heard_2 ++ dktX0_heard_3
def dkwX0_heard_1 : List UInt8 := [16, 254, 172, 42, 180, 0, 38, 180, 1, 21, 16, 8, 160, 0, 6, 16, 252, 172, 42, 180, 0, 38]
abbrev dktX0_heard_1 : List UInt8 := dkwX0_heard_1 ++ dktX0_heard_2
def dkwX0_heard_0 : List UInt8 := [27, 184, 0, 85, 154, 0, 5, 2, 172, 28, 133, 20, 1, 19, 20, 0, 11, 184, 0, 3, 154, 0, 6]
abbrev dktX0_heard_0 : List UInt8 := dkwX0_heard_0 ++ dktX0_heard_1
theorem dksX0_heard_0 : cX0_heard.data.toList.drop 0 = dktX0_heard_0 := by decide +kernel
theorem dksX0_heard_1 : cX0_heard.data.toList.drop 23 = dktX0_heard_1 := dk_seg dksX0_heard_0 23 rfl rfl
theorem dksX0_heard_2 : cX0_heard.data.toList.drop 45 = dktX0_heard_2 := dk_seg dksX0_heard_1 22 rfl rfl
theorem dksX0_heard_3 : cX0_heard.data.toList.drop 68 = dktX0_heard_3 := dk_seg dksX0_heard_2 23 rfl rfl
theorem dksX0_heard_4 : cX0_heard.data.toList.drop 90 = dktX0_heard_4 := dk_seg dksX0_heard_3 22 rfl rfl
theorem dX0_heard_0 : decode cX0_heard 0 = .ok (.iload_n 1, 1) := dk_27 (dk_at dksX0_heard_0 0 rfl rfl)
theorem dX0_heard_1 : decode cX0_heard 1 = .ok (.invokestatic 85, 3) := dk_184 0 85 (dk_at dksX0_heard_0 1 rfl rfl)
theorem dX0_heard_4 : decode cX0_heard 4 = .ok (.ifCond .ne 5, 3) := dk_154 0 5 (dk_at dksX0_heard_0 4 rfl rfl)
theorem dX0_heard_7 : decode cX0_heard 7 = .ok (.iconst (-1), 1) := dk_2 (dk_at dksX0_heard_0 7 rfl rfl)
theorem dX0_heard_8 : decode cX0_heard 8 = .ok (.ireturn, 1) := dk_172 (dk_at dksX0_heard_0 8 rfl rfl)
theorem dX0_heard_9 : decode cX0_heard 9 = .ok (.iload_n 2, 1) := dk_28 (dk_at dksX0_heard_0 9 rfl rfl)
theorem dX0_heard_10 : decode cX0_heard 10 = .ok (.i2l, 1) := dk_133 (dk_at dksX0_heard_0 10 rfl rfl)
theorem dX0_heard_11 : decode cX0_heard 11 = .ok (.ldc2_w 275, 3) := dk_20 1 19 (dk_at dksX0_heard_0 11 rfl rfl)
theorem dX0_heard_14 : decode cX0_heard 14 = .ok (.ldc2_w 11, 3) := dk_20 0 11 (dk_at dksX0_heard_0 14 rfl rfl)
theorem dX0_heard_17 : decode cX0_heard 17 = .ok (.invokestatic 3, 3) := dk_184 0 3 (dk_at dksX0_heard_0 17 rfl rfl)
theorem dX0_heard_20 : decode cX0_heard 20 = .ok (.ifCond .ne 6, 3) := dk_154 0 6 (dk_at dksX0_heard_0 20 rfl rfl)
theorem dX0_heard_23 : decode cX0_heard 23 = .ok (.bipush (-2), 2) := dk_16 254 (dk_at dksX0_heard_1 0 rfl rfl)
theorem dX0_heard_25 : decode cX0_heard 25 = .ok (.ireturn, 1) := dk_172 (dk_at dksX0_heard_1 2 rfl rfl)
theorem dX0_heard_26 : decode cX0_heard 26 = .ok (.aload_n 0, 1) := dk_42 (dk_at dksX0_heard_1 3 rfl rfl)
theorem dX0_heard_27 : decode cX0_heard 27 = .ok (.getfield 38, 3) := dk_180 0 38 (dk_at dksX0_heard_1 4 rfl rfl)
theorem dX0_heard_30 : decode cX0_heard 30 = .ok (.getfield 277, 3) := dk_180 1 21 (dk_at dksX0_heard_1 7 rfl rfl)
theorem dX0_heard_33 : decode cX0_heard 33 = .ok (.bipush 8, 2) := dk_16 8 (dk_at dksX0_heard_1 10 rfl rfl)
theorem dX0_heard_35 : decode cX0_heard 35 = .ok (.if_icmp .ne 6, 3) := dk_160 0 6 (dk_at dksX0_heard_1 12 rfl rfl)
theorem dX0_heard_38 : decode cX0_heard 38 = .ok (.bipush (-4), 2) := dk_16 252 (dk_at dksX0_heard_1 15 rfl rfl)
theorem dX0_heard_40 : decode cX0_heard 40 = .ok (.ireturn, 1) := dk_172 (dk_at dksX0_heard_1 17 rfl rfl)
theorem dX0_heard_41 : decode cX0_heard 41 = .ok (.aload_n 0, 1) := dk_42 (dk_at dksX0_heard_1 18 rfl rfl)
theorem dX0_heard_42 : decode cX0_heard 42 = .ok (.getfield 38, 3) := dk_180 0 38 (dk_at dksX0_heard_1 19 rfl rfl)
theorem dX0_heard_45 : decode cX0_heard 45 = .ok (.getfield 280, 3) := dk_180 1 24 (dk_at dksX0_heard_2 0 rfl rfl)
theorem dX0_heard_48 : decode cX0_heard 48 = .ok (.aload_n 0, 1) := dk_42 (dk_at dksX0_heard_2 3 rfl rfl)
theorem dX0_heard_49 : decode cX0_heard 49 = .ok (.getfield 38, 3) := dk_180 0 38 (dk_at dksX0_heard_2 4 rfl rfl)
theorem dX0_heard_52 : decode cX0_heard 52 = .ok (.getfield 277, 3) := dk_180 1 21 (dk_at dksX0_heard_2 7 rfl rfl)
theorem dX0_heard_55 : decode cX0_heard 55 = .ok (.iload_n 1, 1) := dk_27 (dk_at dksX0_heard_2 10 rfl rfl)
theorem dX0_heard_56 : decode cX0_heard 56 = .ok (.iastore, 1) := dk_79 (dk_at dksX0_heard_2 11 rfl rfl)
theorem dX0_heard_57 : decode cX0_heard 57 = .ok (.aload_n 0, 1) := dk_42 (dk_at dksX0_heard_2 12 rfl rfl)
theorem dX0_heard_58 : decode cX0_heard 58 = .ok (.getfield 38, 3) := dk_180 0 38 (dk_at dksX0_heard_2 13 rfl rfl)
theorem dX0_heard_61 : decode cX0_heard 61 = .ok (.getfield 283, 3) := dk_180 1 27 (dk_at dksX0_heard_2 16 rfl rfl)
theorem dX0_heard_64 : decode cX0_heard 64 = .ok (.aload_n 0, 1) := dk_42 (dk_at dksX0_heard_2 19 rfl rfl)
theorem dX0_heard_65 : decode cX0_heard 65 = .ok (.getfield 38, 3) := dk_180 0 38 (dk_at dksX0_heard_2 20 rfl rfl)
theorem dX0_heard_68 : decode cX0_heard 68 = .ok (.getfield 277, 3) := dk_180 1 21 (dk_at dksX0_heard_3 0 rfl rfl)
theorem dX0_heard_71 : decode cX0_heard 71 = .ok (.iload_n 2, 1) := dk_28 (dk_at dksX0_heard_3 3 rfl rfl)
theorem dX0_heard_72 : decode cX0_heard 72 = .ok (.iastore, 1) := dk_79 (dk_at dksX0_heard_3 4 rfl rfl)
theorem dX0_heard_73 : decode cX0_heard 73 = .ok (.aload_n 0, 1) := dk_42 (dk_at dksX0_heard_3 5 rfl rfl)
theorem dX0_heard_74 : decode cX0_heard 74 = .ok (.getfield 38, 3) := dk_180 0 38 (dk_at dksX0_heard_3 6 rfl rfl)
theorem dX0_heard_77 : decode cX0_heard 77 = .ok (.dup, 1) := dk_89 (dk_at dksX0_heard_3 9 rfl rfl)
theorem dX0_heard_78 : decode cX0_heard 78 = .ok (.getfield 277, 3) := dk_180 1 21 (dk_at dksX0_heard_3 10 rfl rfl)
theorem dX0_heard_81 : decode cX0_heard 81 = .ok (.iconst 1, 1) := dk_4 (dk_at dksX0_heard_3 13 rfl rfl)
theorem dX0_heard_82 : decode cX0_heard 82 = .ok (.iadd, 1) := dk_96 (dk_at dksX0_heard_3 14 rfl rfl)
theorem dX0_heard_83 : decode cX0_heard 83 = .ok (.putfield 277, 3) := dk_181 1 21 (dk_at dksX0_heard_3 15 rfl rfl)
theorem dX0_heard_86 : decode cX0_heard 86 = .ok (.aload_n 0, 1) := dk_42 (dk_at dksX0_heard_3 18 rfl rfl)
theorem dX0_heard_87 : decode cX0_heard 87 = .ok (.getfield 38, 3) := dk_180 0 38 (dk_at dksX0_heard_3 19 rfl rfl)
theorem dX0_heard_90 : decode cX0_heard 90 = .ok (.getfield 277, 3) := dk_180 1 21 (dk_at dksX0_heard_4 0 rfl rfl)
theorem dX0_heard_93 : decode cX0_heard 93 = .ok (.ireturn, 1) := dk_172 (dk_at dksX0_heard_4 3 rfl rfl)
abbrev cX0_forget : ByteArray := prog_1_method_49_code
def yX0_forget : MethodName := ⟨RX0, "forget", "()I"⟩
def dkwX0_forget_0 : List UInt8 := [42, 180, 0, 38, 180, 1, 21, 60, 42, 180, 0, 38, 3, 181, 1, 21, 27, 172]
abbrev dktX0_forget_0 : List UInt8 := dkwX0_forget_0 ++ []
theorem dksX0_forget_0 : cX0_forget.data.toList.drop 0 = dktX0_forget_0 := by decide +kernel
theorem dX0_forget_0 : decode cX0_forget 0 = .ok (.aload_n 0, 1) := dk_42 (dk_at dksX0_forget_0 0 rfl rfl)
theorem dX0_forget_1 : decode cX0_forget 1 = .ok (.getfield 38, 3) := dk_180 0 38 (dk_at dksX0_forget_0 1 rfl rfl)
theorem dX0_forget_4 : decode cX0_forget 4 = .ok (.getfield 277, 3) := dk_180 1 21 (dk_at dksX0_forget_0 4 rfl rfl)
theorem dX0_forget_7 : decode cX0_forget 7 = .ok (.istore_n 1, 1) := dk_60 (dk_at dksX0_forget_0 7 rfl rfl)
theorem dX0_forget_8 : decode cX0_forget 8 = .ok (.aload_n 0, 1) := dk_42 (dk_at dksX0_forget_0 8 rfl rfl)
theorem dX0_forget_9 : decode cX0_forget 9 = .ok (.getfield 38, 3) := dk_180 0 38 (dk_at dksX0_forget_0 9 rfl rfl)
theorem dX0_forget_12 : decode cX0_forget 12 = .ok (.iconst 0, 1) := dk_3 (dk_at dksX0_forget_0 12 rfl rfl)
theorem dX0_forget_13 : decode cX0_forget 13 = .ok (.putfield 277, 3) := dk_181 1 21 (dk_at dksX0_forget_0 13 rfl rfl)
theorem dX0_forget_16 : decode cX0_forget 16 = .ok (.iload_n 1, 1) := dk_27 (dk_at dksX0_forget_0 16 rfl rfl)
theorem dX0_forget_17 : decode cX0_forget 17 = .ok (.ireturn, 1) := dk_172 (dk_at dksX0_forget_0 17 rfl rfl)
abbrev cX0_losts : ByteArray := prog_1_method_53_code
def yX0_losts : MethodName := ⟨RX0, "losts", "(I)I"⟩
def dkwX0_losts_2 : List UInt8 := [16, 250, 172]
abbrev dktX0_losts_2 : List UInt8 := dkwX0_losts_2 ++ []
def dkwX0_losts_1 : List UInt8 := [27, 160, 0, 5, 29, 172, 132, 2, 1, 132, 3, 1, 167, 255, 228, 27, 2, 160, 0, 7, 28, 167, 0, 5]
abbrev dktX0_losts_1 : List UInt8 := dkwX0_losts_1 ++ dktX0_losts_2
def dkwX0_losts_0 : List UInt8 := [42, 182, 1, 33, 3, 61, 3, 62, 29, 17, 3, 232, 162, 0, 27, 42, 29, 182, 1, 36, 153, 0, 13, 28]
abbrev dktX0_losts_0 : List UInt8 := dkwX0_losts_0 ++ dktX0_losts_1
theorem dksX0_losts_0 : cX0_losts.data.toList.drop 0 = dktX0_losts_0 := by decide +kernel
theorem dksX0_losts_1 : cX0_losts.data.toList.drop 24 = dktX0_losts_1 := dk_seg dksX0_losts_0 24 rfl rfl
theorem dksX0_losts_2 : cX0_losts.data.toList.drop 48 = dktX0_losts_2 := dk_seg dksX0_losts_1 24 rfl rfl
theorem dX0_losts_0 : decode cX0_losts 0 = .ok (.aload_n 0, 1) := dk_42 (dk_at dksX0_losts_0 0 rfl rfl)
theorem dX0_losts_1 : decode cX0_losts 1 = .ok (.invokevirtual 289, 3) := dk_182 1 33 (dk_at dksX0_losts_0 1 rfl rfl)
theorem dX0_losts_4 : decode cX0_losts 4 = .ok (.iconst 0, 1) := dk_3 (dk_at dksX0_losts_0 4 rfl rfl)
theorem dX0_losts_5 : decode cX0_losts 5 = .ok (.istore_n 2, 1) := dk_61 (dk_at dksX0_losts_0 5 rfl rfl)
theorem dX0_losts_6 : decode cX0_losts 6 = .ok (.iconst 0, 1) := dk_3 (dk_at dksX0_losts_0 6 rfl rfl)
theorem dX0_losts_7 : decode cX0_losts 7 = .ok (.istore_n 3, 1) := dk_62 (dk_at dksX0_losts_0 7 rfl rfl)
theorem dX0_losts_8 : decode cX0_losts 8 = .ok (.iload_n 3, 1) := dk_29 (dk_at dksX0_losts_0 8 rfl rfl)
theorem dX0_losts_9 : decode cX0_losts 9 = .ok (.sipush 1000, 3) := dk_17 3 232 (dk_at dksX0_losts_0 9 rfl rfl)
theorem dX0_losts_12 : decode cX0_losts 12 = .ok (.if_icmp .ge 27, 3) := dk_162 0 27 (dk_at dksX0_losts_0 12 rfl rfl)
theorem dX0_losts_15 : decode cX0_losts 15 = .ok (.aload_n 0, 1) := dk_42 (dk_at dksX0_losts_0 15 rfl rfl)
theorem dX0_losts_16 : decode cX0_losts 16 = .ok (.iload_n 3, 1) := dk_29 (dk_at dksX0_losts_0 16 rfl rfl)
theorem dX0_losts_17 : decode cX0_losts 17 = .ok (.invokevirtual 292, 3) := dk_182 1 36 (dk_at dksX0_losts_0 17 rfl rfl)
theorem dX0_losts_20 : decode cX0_losts 20 = .ok (.ifCond .eq 13, 3) := dk_153 0 13 (dk_at dksX0_losts_0 20 rfl rfl)
theorem dX0_losts_23 : decode cX0_losts 23 = .ok (.iload_n 2, 1) := dk_28 (dk_at dksX0_losts_0 23 rfl rfl)
theorem dX0_losts_24 : decode cX0_losts 24 = .ok (.iload_n 1, 1) := dk_27 (dk_at dksX0_losts_1 0 rfl rfl)
theorem dX0_losts_25 : decode cX0_losts 25 = .ok (.if_icmp .ne 5, 3) := dk_160 0 5 (dk_at dksX0_losts_1 1 rfl rfl)
theorem dX0_losts_28 : decode cX0_losts 28 = .ok (.iload_n 3, 1) := dk_29 (dk_at dksX0_losts_1 4 rfl rfl)
theorem dX0_losts_29 : decode cX0_losts 29 = .ok (.ireturn, 1) := dk_172 (dk_at dksX0_losts_1 5 rfl rfl)
theorem dX0_losts_30 : decode cX0_losts 30 = .ok (.iinc 2 1, 3) := dk_132 2 1 (dk_at dksX0_losts_1 6 rfl rfl)
theorem dX0_losts_33 : decode cX0_losts 33 = .ok (.iinc 3 1, 3) := dk_132 3 1 (dk_at dksX0_losts_1 9 rfl rfl)
theorem dX0_losts_36 : decode cX0_losts 36 = .ok (.goto (-28), 3) := dk_167 255 228 (dk_at dksX0_losts_1 12 rfl rfl)
theorem dX0_losts_39 : decode cX0_losts 39 = .ok (.iload_n 1, 1) := dk_27 (dk_at dksX0_losts_1 15 rfl rfl)
theorem dX0_losts_40 : decode cX0_losts 40 = .ok (.iconst (-1), 1) := dk_2 (dk_at dksX0_losts_1 16 rfl rfl)
theorem dX0_losts_41 : decode cX0_losts 41 = .ok (.if_icmp .ne 7, 3) := dk_160 0 7 (dk_at dksX0_losts_1 17 rfl rfl)
theorem dX0_losts_44 : decode cX0_losts 44 = .ok (.iload_n 2, 1) := dk_28 (dk_at dksX0_losts_1 20 rfl rfl)
theorem dX0_losts_45 : decode cX0_losts 45 = .ok (.goto 5, 3) := dk_167 0 5 (dk_at dksX0_losts_1 21 rfl rfl)
theorem dX0_losts_48 : decode cX0_losts 48 = .ok (.bipush (-6), 2) := dk_16 250 (dk_at dksX0_losts_2 0 rfl rfl)
theorem dX0_losts_50 : decode cX0_losts 50 = .ok (.ireturn, 1) := dk_172 (dk_at dksX0_losts_2 2 rfl rfl)
abbrev cX0_findFar : ByteArray := prog_1_method_50_code
def yX0_findFar : MethodName := ⟨RX0, "findFar", "()V"⟩
def dkwX0_findFar_1 : List UInt8 := [108, 27, 16, 10, 112, 182, 0, 231, 79, 132, 1, 1, 167, 255, 222, 177]
abbrev dktX0_findFar_1 : List UInt8 := dkwX0_findFar_1 ++ []
def dkwX0_findFar_0 : List UInt8 := [3, 60, 27, 42, 180, 0, 72, 190, 162, 0, 31, 42, 180, 0, 72, 27, 42, 42, 182, 0, 228, 27, 16, 10]
abbrev dktX0_findFar_0 : List UInt8 := dkwX0_findFar_0 ++ dktX0_findFar_1
theorem dksX0_findFar_0 : cX0_findFar.data.toList.drop 0 = dktX0_findFar_0 := by decide +kernel
theorem dksX0_findFar_1 : cX0_findFar.data.toList.drop 24 = dktX0_findFar_1 := dk_seg dksX0_findFar_0 24 rfl rfl
theorem dX0_findFar_0 : decode cX0_findFar 0 = .ok (.iconst 0, 1) := dk_3 (dk_at dksX0_findFar_0 0 rfl rfl)
theorem dX0_findFar_1 : decode cX0_findFar 1 = .ok (.istore_n 1, 1) := dk_60 (dk_at dksX0_findFar_0 1 rfl rfl)
theorem dX0_findFar_2 : decode cX0_findFar 2 = .ok (.iload_n 1, 1) := dk_27 (dk_at dksX0_findFar_0 2 rfl rfl)
theorem dX0_findFar_3 : decode cX0_findFar 3 = .ok (.aload_n 0, 1) := dk_42 (dk_at dksX0_findFar_0 3 rfl rfl)
theorem dX0_findFar_4 : decode cX0_findFar 4 = .ok (.getfield 72, 3) := dk_180 0 72 (dk_at dksX0_findFar_0 4 rfl rfl)
theorem dX0_findFar_7 : decode cX0_findFar 7 = .ok (.arraylength, 1) := dk_190 (dk_at dksX0_findFar_0 7 rfl rfl)
theorem dX0_findFar_8 : decode cX0_findFar 8 = .ok (.if_icmp .ge 31, 3) := dk_162 0 31 (dk_at dksX0_findFar_0 8 rfl rfl)
theorem dX0_findFar_11 : decode cX0_findFar 11 = .ok (.aload_n 0, 1) := dk_42 (dk_at dksX0_findFar_0 11 rfl rfl)
theorem dX0_findFar_12 : decode cX0_findFar 12 = .ok (.getfield 72, 3) := dk_180 0 72 (dk_at dksX0_findFar_0 12 rfl rfl)
theorem dX0_findFar_15 : decode cX0_findFar 15 = .ok (.iload_n 1, 1) := dk_27 (dk_at dksX0_findFar_0 15 rfl rfl)
theorem dX0_findFar_16 : decode cX0_findFar 16 = .ok (.aload_n 0, 1) := dk_42 (dk_at dksX0_findFar_0 16 rfl rfl)
theorem dX0_findFar_17 : decode cX0_findFar 17 = .ok (.aload_n 0, 1) := dk_42 (dk_at dksX0_findFar_0 17 rfl rfl)
theorem dX0_findFar_18 : decode cX0_findFar 18 = .ok (.invokevirtual 228, 3) := dk_182 0 228 (dk_at dksX0_findFar_0 18 rfl rfl)
theorem dX0_findFar_21 : decode cX0_findFar 21 = .ok (.iload_n 1, 1) := dk_27 (dk_at dksX0_findFar_0 21 rfl rfl)
theorem dX0_findFar_22 : decode cX0_findFar 22 = .ok (.bipush 10, 2) := dk_16 10 (dk_at dksX0_findFar_0 22 rfl rfl)
theorem dX0_findFar_24 : decode cX0_findFar 24 = .ok (.idiv, 1) := dk_108 (dk_at dksX0_findFar_1 0 rfl rfl)
theorem dX0_findFar_25 : decode cX0_findFar 25 = .ok (.iload_n 1, 1) := dk_27 (dk_at dksX0_findFar_1 1 rfl rfl)
theorem dX0_findFar_26 : decode cX0_findFar 26 = .ok (.bipush 10, 2) := dk_16 10 (dk_at dksX0_findFar_1 2 rfl rfl)
theorem dX0_findFar_28 : decode cX0_findFar 28 = .ok (.irem, 1) := dk_112 (dk_at dksX0_findFar_1 4 rfl rfl)
theorem dX0_findFar_29 : decode cX0_findFar 29 = .ok (.invokevirtual 231, 3) := dk_182 0 231 (dk_at dksX0_findFar_1 5 rfl rfl)
theorem dX0_findFar_32 : decode cX0_findFar 32 = .ok (.iastore, 1) := dk_79 (dk_at dksX0_findFar_1 8 rfl rfl)
theorem dX0_findFar_33 : decode cX0_findFar 33 = .ok (.iinc 1 1, 3) := dk_132 1 1 (dk_at dksX0_findFar_1 9 rfl rfl)
theorem dX0_findFar_36 : decode cX0_findFar 36 = .ok (.goto (-34), 3) := dk_167 255 222 (dk_at dksX0_findFar_1 12 rfl rfl)
theorem dX0_findFar_39 : decode cX0_findFar 39 = .ok (.return_, 1) := dk_177 (dk_at dksX0_findFar_1 15 rfl rfl)
abbrev cX0_canBe : ByteArray := prog_1_method_52_code
def yX0_canBe : MethodName := ⟨RX0, "canBe", "(I)Z"⟩
def dkwX0_canBe_2 : List UInt8 := [28, 46, 159, 0, 5, 3, 172, 132, 2, 1, 167, 255, 214, 4, 172]
abbrev dktX0_canBe_2 : List UInt8 := dkwX0_canBe_2 ++ []
def dkwX0_canBe_1 : List UInt8 := [162, 0, 37, 42, 42, 180, 0, 38, 180, 1, 24, 28, 46, 27, 182, 1, 30, 42, 180, 0, 38, 180, 1, 27]
abbrev dktX0_canBe_1 : List UInt8 := dkwX0_canBe_1 ++ dktX0_canBe_2
def dkwX0_canBe_0 : List UInt8 := [27, 16, 100, 112, 184, 0, 107, 154, 0, 5, 3, 172, 3, 61, 28, 42, 180, 0, 38, 180, 1, 21]
abbrev dktX0_canBe_0 : List UInt8 := dkwX0_canBe_0 ++ dktX0_canBe_1
theorem dksX0_canBe_0 : cX0_canBe.data.toList.drop 0 = dktX0_canBe_0 := by decide +kernel
theorem dksX0_canBe_1 : cX0_canBe.data.toList.drop 22 = dktX0_canBe_1 := dk_seg dksX0_canBe_0 22 rfl rfl
theorem dksX0_canBe_2 : cX0_canBe.data.toList.drop 46 = dktX0_canBe_2 := dk_seg dksX0_canBe_1 24 rfl rfl
theorem dX0_canBe_0 : decode cX0_canBe 0 = .ok (.iload_n 1, 1) := dk_27 (dk_at dksX0_canBe_0 0 rfl rfl)
theorem dX0_canBe_1 : decode cX0_canBe 1 = .ok (.bipush 100, 2) := dk_16 100 (dk_at dksX0_canBe_0 1 rfl rfl)
theorem dX0_canBe_3 : decode cX0_canBe 3 = .ok (.irem, 1) := dk_112 (dk_at dksX0_canBe_0 3 rfl rfl)
theorem dX0_canBe_4 : decode cX0_canBe 4 = .ok (.invokestatic 107, 3) := dk_184 0 107 (dk_at dksX0_canBe_0 4 rfl rfl)
theorem dX0_canBe_7 : decode cX0_canBe 7 = .ok (.ifCond .ne 5, 3) := dk_154 0 5 (dk_at dksX0_canBe_0 7 rfl rfl)
theorem dX0_canBe_10 : decode cX0_canBe 10 = .ok (.iconst 0, 1) := dk_3 (dk_at dksX0_canBe_0 10 rfl rfl)
theorem dX0_canBe_11 : decode cX0_canBe 11 = .ok (.ireturn, 1) := dk_172 (dk_at dksX0_canBe_0 11 rfl rfl)
theorem dX0_canBe_12 : decode cX0_canBe 12 = .ok (.iconst 0, 1) := dk_3 (dk_at dksX0_canBe_0 12 rfl rfl)
theorem dX0_canBe_13 : decode cX0_canBe 13 = .ok (.istore_n 2, 1) := dk_61 (dk_at dksX0_canBe_0 13 rfl rfl)
theorem dX0_canBe_14 : decode cX0_canBe 14 = .ok (.iload_n 2, 1) := dk_28 (dk_at dksX0_canBe_0 14 rfl rfl)
theorem dX0_canBe_15 : decode cX0_canBe 15 = .ok (.aload_n 0, 1) := dk_42 (dk_at dksX0_canBe_0 15 rfl rfl)
theorem dX0_canBe_16 : decode cX0_canBe 16 = .ok (.getfield 38, 3) := dk_180 0 38 (dk_at dksX0_canBe_0 16 rfl rfl)
theorem dX0_canBe_19 : decode cX0_canBe 19 = .ok (.getfield 277, 3) := dk_180 1 21 (dk_at dksX0_canBe_0 19 rfl rfl)
theorem dX0_canBe_22 : decode cX0_canBe 22 = .ok (.if_icmp .ge 37, 3) := dk_162 0 37 (dk_at dksX0_canBe_1 0 rfl rfl)
theorem dX0_canBe_25 : decode cX0_canBe 25 = .ok (.aload_n 0, 1) := dk_42 (dk_at dksX0_canBe_1 3 rfl rfl)
theorem dX0_canBe_26 : decode cX0_canBe 26 = .ok (.aload_n 0, 1) := dk_42 (dk_at dksX0_canBe_1 4 rfl rfl)
theorem dX0_canBe_27 : decode cX0_canBe 27 = .ok (.getfield 38, 3) := dk_180 0 38 (dk_at dksX0_canBe_1 5 rfl rfl)
theorem dX0_canBe_30 : decode cX0_canBe 30 = .ok (.getfield 280, 3) := dk_180 1 24 (dk_at dksX0_canBe_1 8 rfl rfl)
theorem dX0_canBe_33 : decode cX0_canBe 33 = .ok (.iload_n 2, 1) := dk_28 (dk_at dksX0_canBe_1 11 rfl rfl)
theorem dX0_canBe_34 : decode cX0_canBe 34 = .ok (.iaload, 1) := dk_46 (dk_at dksX0_canBe_1 12 rfl rfl)
theorem dX0_canBe_35 : decode cX0_canBe 35 = .ok (.iload_n 1, 1) := dk_27 (dk_at dksX0_canBe_1 13 rfl rfl)
theorem dX0_canBe_36 : decode cX0_canBe 36 = .ok (.invokevirtual 286, 3) := dk_182 1 30 (dk_at dksX0_canBe_1 14 rfl rfl)
theorem dX0_canBe_39 : decode cX0_canBe 39 = .ok (.aload_n 0, 1) := dk_42 (dk_at dksX0_canBe_1 17 rfl rfl)
theorem dX0_canBe_40 : decode cX0_canBe 40 = .ok (.getfield 38, 3) := dk_180 0 38 (dk_at dksX0_canBe_1 18 rfl rfl)
theorem dX0_canBe_43 : decode cX0_canBe 43 = .ok (.getfield 283, 3) := dk_180 1 27 (dk_at dksX0_canBe_1 21 rfl rfl)
theorem dX0_canBe_46 : decode cX0_canBe 46 = .ok (.iload_n 2, 1) := dk_28 (dk_at dksX0_canBe_2 0 rfl rfl)
theorem dX0_canBe_47 : decode cX0_canBe 47 = .ok (.iaload, 1) := dk_46 (dk_at dksX0_canBe_2 1 rfl rfl)
theorem dX0_canBe_48 : decode cX0_canBe 48 = .ok (.if_icmp .eq 5, 3) := dk_159 0 5 (dk_at dksX0_canBe_2 2 rfl rfl)
theorem dX0_canBe_51 : decode cX0_canBe 51 = .ok (.iconst 0, 1) := dk_3 (dk_at dksX0_canBe_2 5 rfl rfl)
theorem dX0_canBe_52 : decode cX0_canBe 52 = .ok (.ireturn, 1) := dk_172 (dk_at dksX0_canBe_2 6 rfl rfl)
theorem dX0_canBe_53 : decode cX0_canBe 53 = .ok (.iinc 2 1, 3) := dk_132 2 1 (dk_at dksX0_canBe_2 7 rfl rfl)
theorem dX0_canBe_56 : decode cX0_canBe 56 = .ok (.goto (-42), 3) := dk_167 255 214 (dk_at dksX0_canBe_2 10 rfl rfl)
theorem dX0_canBe_59 : decode cX0_canBe 59 = .ok (.iconst 1, 1) := dk_4 (dk_at dksX0_canBe_2 13 rfl rfl)
theorem dX0_canBe_60 : decode cX0_canBe 60 = .ok (.ireturn, 1) := dk_172 (dk_at dksX0_canBe_2 14 rfl rfl)
abbrev cX0_heardIn : ByteArray := prog_1_method_51_code
def yX0_heardIn : MethodName := ⟨RX0, "heardIn", "(II)I"⟩
def dkwX0_heardIn_1 : List UInt8 := [28, 16, 100, 112, 29, 100, 184, 0, 252, 172]
abbrev dktX0_heardIn_1 : List UInt8 := dkwX0_heardIn_1 ++ []
def dkwX0_heardIn_0 : List UInt8 := [42, 180, 0, 72, 16, 10, 27, 104, 28, 16, 100, 108, 96, 46, 62, 29, 156, 0, 7, 2, 167, 0, 13, 2]
abbrev dktX0_heardIn_0 : List UInt8 := dkwX0_heardIn_0 ++ dktX0_heardIn_1
theorem dksX0_heardIn_0 : cX0_heardIn.data.toList.drop 0 = dktX0_heardIn_0 := by decide +kernel
theorem dksX0_heardIn_1 : cX0_heardIn.data.toList.drop 24 = dktX0_heardIn_1 := dk_seg dksX0_heardIn_0 24 rfl rfl
theorem dX0_heardIn_0 : decode cX0_heardIn 0 = .ok (.aload_n 0, 1) := dk_42 (dk_at dksX0_heardIn_0 0 rfl rfl)
theorem dX0_heardIn_1 : decode cX0_heardIn 1 = .ok (.getfield 72, 3) := dk_180 0 72 (dk_at dksX0_heardIn_0 1 rfl rfl)
theorem dX0_heardIn_4 : decode cX0_heardIn 4 = .ok (.bipush 10, 2) := dk_16 10 (dk_at dksX0_heardIn_0 4 rfl rfl)
theorem dX0_heardIn_6 : decode cX0_heardIn 6 = .ok (.iload_n 1, 1) := dk_27 (dk_at dksX0_heardIn_0 6 rfl rfl)
theorem dX0_heardIn_7 : decode cX0_heardIn 7 = .ok (.imul, 1) := dk_104 (dk_at dksX0_heardIn_0 7 rfl rfl)
theorem dX0_heardIn_8 : decode cX0_heardIn 8 = .ok (.iload_n 2, 1) := dk_28 (dk_at dksX0_heardIn_0 8 rfl rfl)
theorem dX0_heardIn_9 : decode cX0_heardIn 9 = .ok (.bipush 100, 2) := dk_16 100 (dk_at dksX0_heardIn_0 9 rfl rfl)
theorem dX0_heardIn_11 : decode cX0_heardIn 11 = .ok (.idiv, 1) := dk_108 (dk_at dksX0_heardIn_0 11 rfl rfl)
theorem dX0_heardIn_12 : decode cX0_heardIn 12 = .ok (.iadd, 1) := dk_96 (dk_at dksX0_heardIn_0 12 rfl rfl)
theorem dX0_heardIn_13 : decode cX0_heardIn 13 = .ok (.iaload, 1) := dk_46 (dk_at dksX0_heardIn_0 13 rfl rfl)
theorem dX0_heardIn_14 : decode cX0_heardIn 14 = .ok (.istore_n 3, 1) := dk_62 (dk_at dksX0_heardIn_0 14 rfl rfl)
theorem dX0_heardIn_15 : decode cX0_heardIn 15 = .ok (.iload_n 3, 1) := dk_29 (dk_at dksX0_heardIn_0 15 rfl rfl)
theorem dX0_heardIn_16 : decode cX0_heardIn 16 = .ok (.ifCond .ge 7, 3) := dk_156 0 7 (dk_at dksX0_heardIn_0 16 rfl rfl)
theorem dX0_heardIn_19 : decode cX0_heardIn 19 = .ok (.iconst (-1), 1) := dk_2 (dk_at dksX0_heardIn_0 19 rfl rfl)
theorem dX0_heardIn_20 : decode cX0_heardIn 20 = .ok (.goto 13, 3) := dk_167 0 13 (dk_at dksX0_heardIn_0 20 rfl rfl)
theorem dX0_heardIn_23 : decode cX0_heardIn 23 = .ok (.iconst (-1), 1) := dk_2 (dk_at dksX0_heardIn_0 23 rfl rfl)
theorem dX0_heardIn_24 : decode cX0_heardIn 24 = .ok (.iload_n 2, 1) := dk_28 (dk_at dksX0_heardIn_1 0 rfl rfl)
theorem dX0_heardIn_25 : decode cX0_heardIn 25 = .ok (.bipush 100, 2) := dk_16 100 (dk_at dksX0_heardIn_1 1 rfl rfl)
theorem dX0_heardIn_27 : decode cX0_heardIn 27 = .ok (.irem, 1) := dk_112 (dk_at dksX0_heardIn_1 3 rfl rfl)
theorem dX0_heardIn_28 : decode cX0_heardIn 28 = .ok (.iload_n 3, 1) := dk_29 (dk_at dksX0_heardIn_1 4 rfl rfl)
theorem dX0_heardIn_29 : decode cX0_heardIn 29 = .ok (.isub, 1) := dk_100 (dk_at dksX0_heardIn_1 5 rfl rfl)
theorem dX0_heardIn_30 : decode cX0_heardIn 30 = .ok (.invokestatic 252, 3) := dk_184 0 252 (dk_at dksX0_heardIn_1 6 rfl rfl)
theorem dX0_heardIn_33 : decode cX0_heardIn 33 = .ok (.ireturn, 1) := dk_172 (dk_at dksX0_heardIn_1 9 rfl rfl)
abbrev cX0_listen : ByteArray := prog_1_method_55_code
def yX0_listen : MethodName := ⟨RX0, "listen", "(I)I"⟩
def dkwX0_listen_3 : List UInt8 := [16, 250, 167, 0, 12, 27, 154, 0, 7, 28, 167, 0, 4, 29, 172]
abbrev dktX0_listen_3 : List UInt8 := dkwX0_listen_3 ++ []
def dkwX0_listen_2 : List UInt8 := [21, 4, 167, 0, 4, 28, 61, 29, 21, 5, 184, 1, 2, 62, 132, 4, 1, 167, 255, 218, 29, 154, 0, 8]
abbrev dktX0_listen_2 : List UInt8 := dkwX0_listen_2 ++ dktX0_listen_3
def dkwX0_listen_1 : List UInt8 := [54, 4, 21, 4, 16, 10, 162, 0, 37, 42, 21, 4, 182, 1, 39, 54, 5, 21, 5, 29, 162, 0, 8]
abbrev dktX0_listen_1 : List UInt8 := dkwX0_listen_1 ++ dktX0_listen_2
def dkwX0_listen_0 : List UInt8 := [27, 184, 0, 197, 154, 0, 6, 16, 254, 172, 42, 182, 1, 33, 3, 61, 42, 3, 182, 1, 39, 62, 4]
abbrev dktX0_listen_0 : List UInt8 := dkwX0_listen_0 ++ dktX0_listen_1
theorem dksX0_listen_0 : cX0_listen.data.toList.drop 0 = dktX0_listen_0 := by decide +kernel
theorem dksX0_listen_1 : cX0_listen.data.toList.drop 23 = dktX0_listen_1 := dk_seg dksX0_listen_0 23 rfl rfl
theorem dksX0_listen_2 : cX0_listen.data.toList.drop 46 = dktX0_listen_2 := dk_seg dksX0_listen_1 23 rfl rfl
theorem dksX0_listen_3 : cX0_listen.data.toList.drop 70 = dktX0_listen_3 := dk_seg dksX0_listen_2 24 rfl rfl
theorem dX0_listen_0 : decode cX0_listen 0 = .ok (.iload_n 1, 1) := dk_27 (dk_at dksX0_listen_0 0 rfl rfl)
theorem dX0_listen_1 : decode cX0_listen 1 = .ok (.invokestatic 197, 3) := dk_184 0 197 (dk_at dksX0_listen_0 1 rfl rfl)
theorem dX0_listen_4 : decode cX0_listen 4 = .ok (.ifCond .ne 6, 3) := dk_154 0 6 (dk_at dksX0_listen_0 4 rfl rfl)
theorem dX0_listen_7 : decode cX0_listen 7 = .ok (.bipush (-2), 2) := dk_16 254 (dk_at dksX0_listen_0 7 rfl rfl)
theorem dX0_listen_9 : decode cX0_listen 9 = .ok (.ireturn, 1) := dk_172 (dk_at dksX0_listen_0 9 rfl rfl)
theorem dX0_listen_10 : decode cX0_listen 10 = .ok (.aload_n 0, 1) := dk_42 (dk_at dksX0_listen_0 10 rfl rfl)
theorem dX0_listen_11 : decode cX0_listen 11 = .ok (.invokevirtual 289, 3) := dk_182 1 33 (dk_at dksX0_listen_0 11 rfl rfl)
theorem dX0_listen_14 : decode cX0_listen 14 = .ok (.iconst 0, 1) := dk_3 (dk_at dksX0_listen_0 14 rfl rfl)
theorem dX0_listen_15 : decode cX0_listen 15 = .ok (.istore_n 2, 1) := dk_61 (dk_at dksX0_listen_0 15 rfl rfl)
theorem dX0_listen_16 : decode cX0_listen 16 = .ok (.aload_n 0, 1) := dk_42 (dk_at dksX0_listen_0 16 rfl rfl)
theorem dX0_listen_17 : decode cX0_listen 17 = .ok (.iconst 0, 1) := dk_3 (dk_at dksX0_listen_0 17 rfl rfl)
theorem dX0_listen_18 : decode cX0_listen 18 = .ok (.invokevirtual 295, 3) := dk_182 1 39 (dk_at dksX0_listen_0 18 rfl rfl)
theorem dX0_listen_21 : decode cX0_listen 21 = .ok (.istore_n 3, 1) := dk_62 (dk_at dksX0_listen_0 21 rfl rfl)
theorem dX0_listen_22 : decode cX0_listen 22 = .ok (.iconst 1, 1) := dk_4 (dk_at dksX0_listen_0 22 rfl rfl)
theorem dX0_listen_23 : decode cX0_listen 23 = .ok (.istore 4, 2) := dk_54 4 (dk_at dksX0_listen_1 0 rfl rfl)
theorem dX0_listen_25 : decode cX0_listen 25 = .ok (.iload 4, 2) := dk_21 4 (dk_at dksX0_listen_1 2 rfl rfl)
theorem dX0_listen_27 : decode cX0_listen 27 = .ok (.bipush 10, 2) := dk_16 10 (dk_at dksX0_listen_1 4 rfl rfl)
theorem dX0_listen_29 : decode cX0_listen 29 = .ok (.if_icmp .ge 37, 3) := dk_162 0 37 (dk_at dksX0_listen_1 6 rfl rfl)
theorem dX0_listen_32 : decode cX0_listen 32 = .ok (.aload_n 0, 1) := dk_42 (dk_at dksX0_listen_1 9 rfl rfl)
theorem dX0_listen_33 : decode cX0_listen 33 = .ok (.iload 4, 2) := dk_21 4 (dk_at dksX0_listen_1 10 rfl rfl)
theorem dX0_listen_35 : decode cX0_listen 35 = .ok (.invokevirtual 295, 3) := dk_182 1 39 (dk_at dksX0_listen_1 12 rfl rfl)
theorem dX0_listen_38 : decode cX0_listen 38 = .ok (.istore 5, 2) := dk_54 5 (dk_at dksX0_listen_1 15 rfl rfl)
theorem dX0_listen_40 : decode cX0_listen 40 = .ok (.iload 5, 2) := dk_21 5 (dk_at dksX0_listen_1 17 rfl rfl)
theorem dX0_listen_42 : decode cX0_listen 42 = .ok (.iload_n 3, 1) := dk_29 (dk_at dksX0_listen_1 19 rfl rfl)
theorem dX0_listen_43 : decode cX0_listen 43 = .ok (.if_icmp .ge 8, 3) := dk_162 0 8 (dk_at dksX0_listen_1 20 rfl rfl)
theorem dX0_listen_46 : decode cX0_listen 46 = .ok (.iload 4, 2) := dk_21 4 (dk_at dksX0_listen_2 0 rfl rfl)
theorem dX0_listen_48 : decode cX0_listen 48 = .ok (.goto 4, 3) := dk_167 0 4 (dk_at dksX0_listen_2 2 rfl rfl)
theorem dX0_listen_51 : decode cX0_listen 51 = .ok (.iload_n 2, 1) := dk_28 (dk_at dksX0_listen_2 5 rfl rfl)
theorem dX0_listen_52 : decode cX0_listen 52 = .ok (.istore_n 2, 1) := dk_61 (dk_at dksX0_listen_2 6 rfl rfl)
theorem dX0_listen_53 : decode cX0_listen 53 = .ok (.iload_n 3, 1) := dk_29 (dk_at dksX0_listen_2 7 rfl rfl)
theorem dX0_listen_54 : decode cX0_listen 54 = .ok (.iload 5, 2) := dk_21 5 (dk_at dksX0_listen_2 8 rfl rfl)
theorem dX0_listen_56 : decode cX0_listen 56 = .ok (.invokestatic 258, 3) := dk_184 1 2 (dk_at dksX0_listen_2 10 rfl rfl)
theorem dX0_listen_59 : decode cX0_listen 59 = .ok (.istore_n 3, 1) := dk_62 (dk_at dksX0_listen_2 13 rfl rfl)
theorem dX0_listen_60 : decode cX0_listen 60 = .ok (.iinc 4 1, 3) := dk_132 4 1 (dk_at dksX0_listen_2 14 rfl rfl)
theorem dX0_listen_63 : decode cX0_listen 63 = .ok (.goto (-38), 3) := dk_167 255 218 (dk_at dksX0_listen_2 17 rfl rfl)
theorem dX0_listen_66 : decode cX0_listen 66 = .ok (.iload_n 3, 1) := dk_29 (dk_at dksX0_listen_2 20 rfl rfl)
theorem dX0_listen_67 : decode cX0_listen 67 = .ok (.ifCond .ne 8, 3) := dk_154 0 8 (dk_at dksX0_listen_2 21 rfl rfl)
theorem dX0_listen_70 : decode cX0_listen 70 = .ok (.bipush (-6), 2) := dk_16 250 (dk_at dksX0_listen_3 0 rfl rfl)
theorem dX0_listen_72 : decode cX0_listen 72 = .ok (.goto 12, 3) := dk_167 0 12 (dk_at dksX0_listen_3 2 rfl rfl)
theorem dX0_listen_75 : decode cX0_listen 75 = .ok (.iload_n 1, 1) := dk_27 (dk_at dksX0_listen_3 5 rfl rfl)
theorem dX0_listen_76 : decode cX0_listen 76 = .ok (.ifCond .ne 7, 3) := dk_154 0 7 (dk_at dksX0_listen_3 6 rfl rfl)
theorem dX0_listen_79 : decode cX0_listen 79 = .ok (.iload_n 2, 1) := dk_28 (dk_at dksX0_listen_3 9 rfl rfl)
theorem dX0_listen_80 : decode cX0_listen 80 = .ok (.goto 4, 3) := dk_167 0 4 (dk_at dksX0_listen_3 10 rfl rfl)
theorem dX0_listen_83 : decode cX0_listen 83 = .ok (.iload_n 3, 1) := dk_29 (dk_at dksX0_listen_3 13 rfl rfl)
theorem dX0_listen_84 : decode cX0_listen 84 = .ok (.ireturn, 1) := dk_172 (dk_at dksX0_listen_3 14 rfl rfl)
abbrev cX0_mostLeft : ByteArray := prog_1_method_54_code
def yX0_mostLeft : MethodName := ⟨RX0, "mostLeft", "(I)I"⟩
def dkwX0_mostLeft_2 : List UInt8 := [28, 42, 180, 0, 75, 21, 4, 46, 184, 0, 252, 61, 132, 3, 1, 167, 255, 205, 28, 172]
abbrev dktX0_mostLeft_2 : List UInt8 := dkwX0_mostLeft_2 ++ []
def dkwX0_mostLeft_1 : List UInt8 := [153, 0, 36, 4, 42, 27, 29, 182, 1, 30, 96, 54, 4, 42, 180, 0, 75, 21, 4, 92, 46, 4, 96, 79]
abbrev dktX0_mostLeft_1 : List UInt8 := dkwX0_mostLeft_1 ++ dktX0_mostLeft_2
def dkwX0_mostLeft_0 : List UInt8 := [42, 180, 0, 75, 3, 184, 1, 12, 3, 61, 3, 62, 29, 17, 3, 232, 162, 0, 50, 42, 29, 182, 1, 36]
abbrev dktX0_mostLeft_0 : List UInt8 := dkwX0_mostLeft_0 ++ dktX0_mostLeft_1
theorem dksX0_mostLeft_0 : cX0_mostLeft.data.toList.drop 0 = dktX0_mostLeft_0 := by decide +kernel
theorem dksX0_mostLeft_1 : cX0_mostLeft.data.toList.drop 24 = dktX0_mostLeft_1 := dk_seg dksX0_mostLeft_0 24 rfl rfl
theorem dksX0_mostLeft_2 : cX0_mostLeft.data.toList.drop 48 = dktX0_mostLeft_2 := dk_seg dksX0_mostLeft_1 24 rfl rfl
theorem dX0_mostLeft_0 : decode cX0_mostLeft 0 = .ok (.aload_n 0, 1) := dk_42 (dk_at dksX0_mostLeft_0 0 rfl rfl)
theorem dX0_mostLeft_1 : decode cX0_mostLeft 1 = .ok (.getfield 75, 3) := dk_180 0 75 (dk_at dksX0_mostLeft_0 1 rfl rfl)
theorem dX0_mostLeft_4 : decode cX0_mostLeft 4 = .ok (.iconst 0, 1) := dk_3 (dk_at dksX0_mostLeft_0 4 rfl rfl)
theorem dX0_mostLeft_5 : decode cX0_mostLeft 5 = .ok (.invokestatic 268, 3) := dk_184 1 12 (dk_at dksX0_mostLeft_0 5 rfl rfl)
theorem dX0_mostLeft_8 : decode cX0_mostLeft 8 = .ok (.iconst 0, 1) := dk_3 (dk_at dksX0_mostLeft_0 8 rfl rfl)
theorem dX0_mostLeft_9 : decode cX0_mostLeft 9 = .ok (.istore_n 2, 1) := dk_61 (dk_at dksX0_mostLeft_0 9 rfl rfl)
theorem dX0_mostLeft_10 : decode cX0_mostLeft 10 = .ok (.iconst 0, 1) := dk_3 (dk_at dksX0_mostLeft_0 10 rfl rfl)
theorem dX0_mostLeft_11 : decode cX0_mostLeft 11 = .ok (.istore_n 3, 1) := dk_62 (dk_at dksX0_mostLeft_0 11 rfl rfl)
theorem dX0_mostLeft_12 : decode cX0_mostLeft 12 = .ok (.iload_n 3, 1) := dk_29 (dk_at dksX0_mostLeft_0 12 rfl rfl)
theorem dX0_mostLeft_13 : decode cX0_mostLeft 13 = .ok (.sipush 1000, 3) := dk_17 3 232 (dk_at dksX0_mostLeft_0 13 rfl rfl)
theorem dX0_mostLeft_16 : decode cX0_mostLeft 16 = .ok (.if_icmp .ge 50, 3) := dk_162 0 50 (dk_at dksX0_mostLeft_0 16 rfl rfl)
theorem dX0_mostLeft_19 : decode cX0_mostLeft 19 = .ok (.aload_n 0, 1) := dk_42 (dk_at dksX0_mostLeft_0 19 rfl rfl)
theorem dX0_mostLeft_20 : decode cX0_mostLeft 20 = .ok (.iload_n 3, 1) := dk_29 (dk_at dksX0_mostLeft_0 20 rfl rfl)
theorem dX0_mostLeft_21 : decode cX0_mostLeft 21 = .ok (.invokevirtual 292, 3) := dk_182 1 36 (dk_at dksX0_mostLeft_0 21 rfl rfl)
theorem dX0_mostLeft_24 : decode cX0_mostLeft 24 = .ok (.ifCond .eq 36, 3) := dk_153 0 36 (dk_at dksX0_mostLeft_1 0 rfl rfl)
theorem dX0_mostLeft_27 : decode cX0_mostLeft 27 = .ok (.iconst 1, 1) := dk_4 (dk_at dksX0_mostLeft_1 3 rfl rfl)
theorem dX0_mostLeft_28 : decode cX0_mostLeft 28 = .ok (.aload_n 0, 1) := dk_42 (dk_at dksX0_mostLeft_1 4 rfl rfl)
theorem dX0_mostLeft_29 : decode cX0_mostLeft 29 = .ok (.iload_n 1, 1) := dk_27 (dk_at dksX0_mostLeft_1 5 rfl rfl)
theorem dX0_mostLeft_30 : decode cX0_mostLeft 30 = .ok (.iload_n 3, 1) := dk_29 (dk_at dksX0_mostLeft_1 6 rfl rfl)
theorem dX0_mostLeft_31 : decode cX0_mostLeft 31 = .ok (.invokevirtual 286, 3) := dk_182 1 30 (dk_at dksX0_mostLeft_1 7 rfl rfl)
theorem dX0_mostLeft_34 : decode cX0_mostLeft 34 = .ok (.iadd, 1) := dk_96 (dk_at dksX0_mostLeft_1 10 rfl rfl)
theorem dX0_mostLeft_35 : decode cX0_mostLeft 35 = .ok (.istore 4, 2) := dk_54 4 (dk_at dksX0_mostLeft_1 11 rfl rfl)
theorem dX0_mostLeft_37 : decode cX0_mostLeft 37 = .ok (.aload_n 0, 1) := dk_42 (dk_at dksX0_mostLeft_1 13 rfl rfl)
theorem dX0_mostLeft_38 : decode cX0_mostLeft 38 = .ok (.getfield 75, 3) := dk_180 0 75 (dk_at dksX0_mostLeft_1 14 rfl rfl)
theorem dX0_mostLeft_41 : decode cX0_mostLeft 41 = .ok (.iload 4, 2) := dk_21 4 (dk_at dksX0_mostLeft_1 17 rfl rfl)
theorem dX0_mostLeft_43 : decode cX0_mostLeft 43 = .ok (.dup2, 1) := dk_92 (dk_at dksX0_mostLeft_1 19 rfl rfl)
theorem dX0_mostLeft_44 : decode cX0_mostLeft 44 = .ok (.iaload, 1) := dk_46 (dk_at dksX0_mostLeft_1 20 rfl rfl)
theorem dX0_mostLeft_45 : decode cX0_mostLeft 45 = .ok (.iconst 1, 1) := dk_4 (dk_at dksX0_mostLeft_1 21 rfl rfl)
theorem dX0_mostLeft_46 : decode cX0_mostLeft 46 = .ok (.iadd, 1) := dk_96 (dk_at dksX0_mostLeft_1 22 rfl rfl)
theorem dX0_mostLeft_47 : decode cX0_mostLeft 47 = .ok (.iastore, 1) := dk_79 (dk_at dksX0_mostLeft_1 23 rfl rfl)
theorem dX0_mostLeft_48 : decode cX0_mostLeft 48 = .ok (.iload_n 2, 1) := dk_28 (dk_at dksX0_mostLeft_2 0 rfl rfl)
theorem dX0_mostLeft_49 : decode cX0_mostLeft 49 = .ok (.aload_n 0, 1) := dk_42 (dk_at dksX0_mostLeft_2 1 rfl rfl)
theorem dX0_mostLeft_50 : decode cX0_mostLeft 50 = .ok (.getfield 75, 3) := dk_180 0 75 (dk_at dksX0_mostLeft_2 2 rfl rfl)
theorem dX0_mostLeft_53 : decode cX0_mostLeft 53 = .ok (.iload 4, 2) := dk_21 4 (dk_at dksX0_mostLeft_2 5 rfl rfl)
theorem dX0_mostLeft_55 : decode cX0_mostLeft 55 = .ok (.iaload, 1) := dk_46 (dk_at dksX0_mostLeft_2 7 rfl rfl)
theorem dX0_mostLeft_56 : decode cX0_mostLeft 56 = .ok (.invokestatic 252, 3) := dk_184 0 252 (dk_at dksX0_mostLeft_2 8 rfl rfl)
theorem dX0_mostLeft_59 : decode cX0_mostLeft 59 = .ok (.istore_n 2, 1) := dk_61 (dk_at dksX0_mostLeft_2 11 rfl rfl)
theorem dX0_mostLeft_60 : decode cX0_mostLeft 60 = .ok (.iinc 3 1, 3) := dk_132 3 1 (dk_at dksX0_mostLeft_2 12 rfl rfl)
theorem dX0_mostLeft_63 : decode cX0_mostLeft 63 = .ok (.goto (-51), 3) := dk_167 255 205 (dk_at dksX0_mostLeft_2 15 rfl rfl)
theorem dX0_mostLeft_66 : decode cX0_mostLeft 66 = .ok (.iload_n 2, 1) := dk_28 (dk_at dksX0_mostLeft_2 18 rfl rfl)
theorem dX0_mostLeft_67 : decode cX0_mostLeft 67 = .ok (.ireturn, 1) := dk_172 (dk_at dksX0_mostLeft_2 19 rfl rfl)
abbrev cX0_cold : ByteArray := prog_1_method_59_code
def yX0_cold : MethodName := ⟨RX0, "cold", "(IIIII)J"⟩
def dkwX0_cold_6 : List UInt8 := [21, 5, 184, 1, 55, 173]
abbrev dktX0_cold_6 : List UInt8 := dkwX0_cold_6 ++ []
def dkwX0_cold_5 : List UInt8 := [21, 6, 184, 1, 51, 22, 7, 22, 9, 101, 21, 6, 184, 1, 51, 101, 22, 7, 21, 6, 184, 1, 51]
abbrev dktX0_cold_5 : List UInt8 := dkwX0_cold_5 ++ dktX0_cold_6
def dkwX0_cold_4 : List UInt8 := [22, 7, 21, 5, 184, 1, 55, 173, 29, 21, 6, 104, 16, 18, 164, 0, 7, 20, 1, 59, 173, 22, 7]
abbrev dktX0_cold_4 : List UInt8 := dkwX0_cold_4 ++ dktX0_cold_5
def dkwX0_cold_3 : List UInt8 := [16, 10, 28, 100, 133, 29, 184, 1, 51, 55, 9, 21, 4, 4, 160, 0, 17, 21, 6, 133, 22, 9, 105]
abbrev dktX0_cold_3 : List UInt8 := dkwX0_cold_3 ++ dktX0_cold_4
def dkwX0_cold_2 : List UInt8 := [154, 0, 7, 20, 1, 46, 173, 42, 27, 182, 1, 48, 54, 6, 20, 1, 44, 29, 184, 1, 51, 55, 7]
abbrev dktX0_cold_2 : List UInt8 := dkwX0_cold_2 ++ dktX0_cold_3
def dkwX0_cold_1 : List UInt8 := [133, 9, 20, 0, 7, 184, 0, 3, 153, 0, 19, 21, 4, 184, 0, 197, 153, 0, 11, 21, 5, 184, 0, 197]
abbrev dktX0_cold_1 : List UInt8 := dkwX0_cold_1 ++ dktX0_cold_2
def dkwX0_cold_0 : List UInt8 := [27, 184, 0, 85, 154, 0, 7, 20, 1, 42, 173, 28, 133, 9, 20, 1, 44, 184, 0, 3, 153, 0, 31, 29]
abbrev dktX0_cold_0 : List UInt8 := dkwX0_cold_0 ++ dktX0_cold_1
theorem dksX0_cold_0 : cX0_cold.data.toList.drop 0 = dktX0_cold_0 := by decide +kernel
theorem dksX0_cold_1 : cX0_cold.data.toList.drop 24 = dktX0_cold_1 := dk_seg dksX0_cold_0 24 rfl rfl
theorem dksX0_cold_2 : cX0_cold.data.toList.drop 48 = dktX0_cold_2 := dk_seg dksX0_cold_1 24 rfl rfl
theorem dksX0_cold_3 : cX0_cold.data.toList.drop 71 = dktX0_cold_3 := dk_seg dksX0_cold_2 23 rfl rfl
theorem dksX0_cold_4 : cX0_cold.data.toList.drop 94 = dktX0_cold_4 := dk_seg dksX0_cold_3 23 rfl rfl
theorem dksX0_cold_5 : cX0_cold.data.toList.drop 117 = dktX0_cold_5 := dk_seg dksX0_cold_4 23 rfl rfl
theorem dksX0_cold_6 : cX0_cold.data.toList.drop 140 = dktX0_cold_6 := dk_seg dksX0_cold_5 23 rfl rfl
theorem dX0_cold_0 : decode cX0_cold 0 = .ok (.iload_n 1, 1) := dk_27 (dk_at dksX0_cold_0 0 rfl rfl)
theorem dX0_cold_1 : decode cX0_cold 1 = .ok (.invokestatic 85, 3) := dk_184 0 85 (dk_at dksX0_cold_0 1 rfl rfl)
theorem dX0_cold_4 : decode cX0_cold 4 = .ok (.ifCond .ne 7, 3) := dk_154 0 7 (dk_at dksX0_cold_0 4 rfl rfl)
theorem dX0_cold_7 : decode cX0_cold 7 = .ok (.ldc2_w 298, 3) := dk_20 1 42 (dk_at dksX0_cold_0 7 rfl rfl)
theorem dX0_cold_10 : decode cX0_cold 10 = .ok (.lreturn, 1) := dk_173 (dk_at dksX0_cold_0 10 rfl rfl)
theorem dX0_cold_11 : decode cX0_cold 11 = .ok (.iload_n 2, 1) := dk_28 (dk_at dksX0_cold_0 11 rfl rfl)
theorem dX0_cold_12 : decode cX0_cold 12 = .ok (.i2l, 1) := dk_133 (dk_at dksX0_cold_0 12 rfl rfl)
theorem dX0_cold_13 : decode cX0_cold 13 = .ok (.lconst 0, 1) := dk_9 (dk_at dksX0_cold_0 13 rfl rfl)
theorem dX0_cold_14 : decode cX0_cold 14 = .ok (.ldc2_w 300, 3) := dk_20 1 44 (dk_at dksX0_cold_0 14 rfl rfl)
theorem dX0_cold_17 : decode cX0_cold 17 = .ok (.invokestatic 3, 3) := dk_184 0 3 (dk_at dksX0_cold_0 17 rfl rfl)
theorem dX0_cold_20 : decode cX0_cold 20 = .ok (.ifCond .eq 31, 3) := dk_153 0 31 (dk_at dksX0_cold_0 20 rfl rfl)
theorem dX0_cold_23 : decode cX0_cold 23 = .ok (.iload_n 3, 1) := dk_29 (dk_at dksX0_cold_0 23 rfl rfl)
theorem dX0_cold_24 : decode cX0_cold 24 = .ok (.i2l, 1) := dk_133 (dk_at dksX0_cold_1 0 rfl rfl)
theorem dX0_cold_25 : decode cX0_cold 25 = .ok (.lconst 0, 1) := dk_9 (dk_at dksX0_cold_1 1 rfl rfl)
theorem dX0_cold_26 : decode cX0_cold 26 = .ok (.ldc2_w 7, 3) := dk_20 0 7 (dk_at dksX0_cold_1 2 rfl rfl)
theorem dX0_cold_29 : decode cX0_cold 29 = .ok (.invokestatic 3, 3) := dk_184 0 3 (dk_at dksX0_cold_1 5 rfl rfl)
theorem dX0_cold_32 : decode cX0_cold 32 = .ok (.ifCond .eq 19, 3) := dk_153 0 19 (dk_at dksX0_cold_1 8 rfl rfl)
theorem dX0_cold_35 : decode cX0_cold 35 = .ok (.iload 4, 2) := dk_21 4 (dk_at dksX0_cold_1 11 rfl rfl)
theorem dX0_cold_37 : decode cX0_cold 37 = .ok (.invokestatic 197, 3) := dk_184 0 197 (dk_at dksX0_cold_1 13 rfl rfl)
theorem dX0_cold_40 : decode cX0_cold 40 = .ok (.ifCond .eq 11, 3) := dk_153 0 11 (dk_at dksX0_cold_1 16 rfl rfl)
theorem dX0_cold_43 : decode cX0_cold 43 = .ok (.iload 5, 2) := dk_21 5 (dk_at dksX0_cold_1 19 rfl rfl)
theorem dX0_cold_45 : decode cX0_cold 45 = .ok (.invokestatic 197, 3) := dk_184 0 197 (dk_at dksX0_cold_1 21 rfl rfl)
theorem dX0_cold_48 : decode cX0_cold 48 = .ok (.ifCond .ne 7, 3) := dk_154 0 7 (dk_at dksX0_cold_2 0 rfl rfl)
theorem dX0_cold_51 : decode cX0_cold 51 = .ok (.ldc2_w 302, 3) := dk_20 1 46 (dk_at dksX0_cold_2 3 rfl rfl)
theorem dX0_cold_54 : decode cX0_cold 54 = .ok (.lreturn, 1) := dk_173 (dk_at dksX0_cold_2 6 rfl rfl)
theorem dX0_cold_55 : decode cX0_cold 55 = .ok (.aload_n 0, 1) := dk_42 (dk_at dksX0_cold_2 7 rfl rfl)
theorem dX0_cold_56 : decode cX0_cold 56 = .ok (.iload_n 1, 1) := dk_27 (dk_at dksX0_cold_2 8 rfl rfl)
theorem dX0_cold_57 : decode cX0_cold 57 = .ok (.invokevirtual 304, 3) := dk_182 1 48 (dk_at dksX0_cold_2 9 rfl rfl)
theorem dX0_cold_60 : decode cX0_cold 60 = .ok (.istore 6, 2) := dk_54 6 (dk_at dksX0_cold_2 12 rfl rfl)
theorem dX0_cold_62 : decode cX0_cold 62 = .ok (.ldc2_w 300, 3) := dk_20 1 44 (dk_at dksX0_cold_2 14 rfl rfl)
theorem dX0_cold_65 : decode cX0_cold 65 = .ok (.iload_n 3, 1) := dk_29 (dk_at dksX0_cold_2 17 rfl rfl)
theorem dX0_cold_66 : decode cX0_cold 66 = .ok (.invokestatic 307, 3) := dk_184 1 51 (dk_at dksX0_cold_2 18 rfl rfl)
theorem dX0_cold_69 : decode cX0_cold 69 = .ok (.lstore 7, 2) := dk_55 7 (dk_at dksX0_cold_2 21 rfl rfl)
theorem dX0_cold_71 : decode cX0_cold 71 = .ok (.bipush 10, 2) := dk_16 10 (dk_at dksX0_cold_3 0 rfl rfl)
theorem dX0_cold_73 : decode cX0_cold 73 = .ok (.iload_n 2, 1) := dk_28 (dk_at dksX0_cold_3 2 rfl rfl)
theorem dX0_cold_74 : decode cX0_cold 74 = .ok (.isub, 1) := dk_100 (dk_at dksX0_cold_3 3 rfl rfl)
theorem dX0_cold_75 : decode cX0_cold 75 = .ok (.i2l, 1) := dk_133 (dk_at dksX0_cold_3 4 rfl rfl)
theorem dX0_cold_76 : decode cX0_cold 76 = .ok (.iload_n 3, 1) := dk_29 (dk_at dksX0_cold_3 5 rfl rfl)
theorem dX0_cold_77 : decode cX0_cold 77 = .ok (.invokestatic 307, 3) := dk_184 1 51 (dk_at dksX0_cold_3 6 rfl rfl)
theorem dX0_cold_80 : decode cX0_cold 80 = .ok (.lstore 9, 2) := dk_55 9 (dk_at dksX0_cold_3 9 rfl rfl)
theorem dX0_cold_82 : decode cX0_cold 82 = .ok (.iload 4, 2) := dk_21 4 (dk_at dksX0_cold_3 11 rfl rfl)
theorem dX0_cold_84 : decode cX0_cold 84 = .ok (.iconst 1, 1) := dk_4 (dk_at dksX0_cold_3 13 rfl rfl)
theorem dX0_cold_85 : decode cX0_cold 85 = .ok (.if_icmp .ne 17, 3) := dk_160 0 17 (dk_at dksX0_cold_3 14 rfl rfl)
theorem dX0_cold_88 : decode cX0_cold 88 = .ok (.iload 6, 2) := dk_21 6 (dk_at dksX0_cold_3 17 rfl rfl)
theorem dX0_cold_90 : decode cX0_cold 90 = .ok (.i2l, 1) := dk_133 (dk_at dksX0_cold_3 19 rfl rfl)
theorem dX0_cold_91 : decode cX0_cold 91 = .ok (.lload 9, 2) := dk_22 9 (dk_at dksX0_cold_3 20 rfl rfl)
theorem dX0_cold_93 : decode cX0_cold 93 = .ok (.lmul, 1) := dk_105 (dk_at dksX0_cold_3 22 rfl rfl)
theorem dX0_cold_94 : decode cX0_cold 94 = .ok (.lload 7, 2) := dk_22 7 (dk_at dksX0_cold_4 0 rfl rfl)
theorem dX0_cold_96 : decode cX0_cold 96 = .ok (.iload 5, 2) := dk_21 5 (dk_at dksX0_cold_4 2 rfl rfl)
theorem dX0_cold_98 : decode cX0_cold 98 = .ok (.invokestatic 311, 3) := dk_184 1 55 (dk_at dksX0_cold_4 4 rfl rfl)
theorem dX0_cold_101 : decode cX0_cold 101 = .ok (.lreturn, 1) := dk_173 (dk_at dksX0_cold_4 7 rfl rfl)
theorem dX0_cold_102 : decode cX0_cold 102 = .ok (.iload_n 3, 1) := dk_29 (dk_at dksX0_cold_4 8 rfl rfl)
theorem dX0_cold_103 : decode cX0_cold 103 = .ok (.iload 6, 2) := dk_21 6 (dk_at dksX0_cold_4 9 rfl rfl)
theorem dX0_cold_105 : decode cX0_cold 105 = .ok (.imul, 1) := dk_104 (dk_at dksX0_cold_4 11 rfl rfl)
theorem dX0_cold_106 : decode cX0_cold 106 = .ok (.bipush 18, 2) := dk_16 18 (dk_at dksX0_cold_4 12 rfl rfl)
theorem dX0_cold_108 : decode cX0_cold 108 = .ok (.if_icmp .le 7, 3) := dk_164 0 7 (dk_at dksX0_cold_4 14 rfl rfl)
theorem dX0_cold_111 : decode cX0_cold 111 = .ok (.ldc2_w 315, 3) := dk_20 1 59 (dk_at dksX0_cold_4 17 rfl rfl)
theorem dX0_cold_114 : decode cX0_cold 114 = .ok (.lreturn, 1) := dk_173 (dk_at dksX0_cold_4 20 rfl rfl)
theorem dX0_cold_115 : decode cX0_cold 115 = .ok (.lload 7, 2) := dk_22 7 (dk_at dksX0_cold_4 21 rfl rfl)
theorem dX0_cold_117 : decode cX0_cold 117 = .ok (.iload 6, 2) := dk_21 6 (dk_at dksX0_cold_5 0 rfl rfl)
theorem dX0_cold_119 : decode cX0_cold 119 = .ok (.invokestatic 307, 3) := dk_184 1 51 (dk_at dksX0_cold_5 2 rfl rfl)
theorem dX0_cold_122 : decode cX0_cold 122 = .ok (.lload 7, 2) := dk_22 7 (dk_at dksX0_cold_5 5 rfl rfl)
theorem dX0_cold_124 : decode cX0_cold 124 = .ok (.lload 9, 2) := dk_22 9 (dk_at dksX0_cold_5 7 rfl rfl)
theorem dX0_cold_126 : decode cX0_cold 126 = .ok (.lsub, 1) := dk_101 (dk_at dksX0_cold_5 9 rfl rfl)
theorem dX0_cold_127 : decode cX0_cold 127 = .ok (.iload 6, 2) := dk_21 6 (dk_at dksX0_cold_5 10 rfl rfl)
theorem dX0_cold_129 : decode cX0_cold 129 = .ok (.invokestatic 307, 3) := dk_184 1 51 (dk_at dksX0_cold_5 12 rfl rfl)
theorem dX0_cold_132 : decode cX0_cold 132 = .ok (.lsub, 1) := dk_101 (dk_at dksX0_cold_5 15 rfl rfl)
theorem dX0_cold_133 : decode cX0_cold 133 = .ok (.lload 7, 2) := dk_22 7 (dk_at dksX0_cold_5 16 rfl rfl)
theorem dX0_cold_135 : decode cX0_cold 135 = .ok (.iload 6, 2) := dk_21 6 (dk_at dksX0_cold_5 18 rfl rfl)
theorem dX0_cold_137 : decode cX0_cold 137 = .ok (.invokestatic 307, 3) := dk_184 1 51 (dk_at dksX0_cold_5 20 rfl rfl)
theorem dX0_cold_140 : decode cX0_cold 140 = .ok (.iload 5, 2) := dk_21 5 (dk_at dksX0_cold_6 0 rfl rfl)
theorem dX0_cold_142 : decode cX0_cold 142 = .ok (.invokestatic 311, 3) := dk_184 1 55 (dk_at dksX0_cold_6 2 rfl rfl)
theorem dX0_cold_145 : decode cX0_cold 145 = .ok (.lreturn, 1) := dk_173 (dk_at dksX0_cold_6 5 rfl rfl)
abbrev cX0_singingIn : ByteArray := prog_1_method_58_code
def yX0_singingIn : MethodName := ⟨RX0, "singingIn", "(I)I"⟩
def dkwX0_singingIn_2 : List UInt8 := [167, 255, 215, 28, 172]
abbrev dktX0_singingIn_2 : List UInt8 := dkwX0_singingIn_2 ++ []
def dkwX0_singingIn_1 : List UInt8 := [180, 0, 38, 180, 0, 127, 29, 46, 27, 160, 0, 7, 4, 167, 0, 4, 3, 96, 61, 132, 3, 1]
abbrev dktX0_singingIn_1 : List UInt8 := dkwX0_singingIn_1 ++ dktX0_singingIn_2
def dkwX0_singingIn_0 : List UInt8 := [3, 61, 3, 62, 29, 16, 8, 162, 0, 41, 28, 42, 180, 0, 38, 29, 182, 0, 218, 153, 0, 20, 42]
abbrev dktX0_singingIn_0 : List UInt8 := dkwX0_singingIn_0 ++ dktX0_singingIn_1
theorem dksX0_singingIn_0 : cX0_singingIn.data.toList.drop 0 = dktX0_singingIn_0 := by decide +kernel
theorem dksX0_singingIn_1 : cX0_singingIn.data.toList.drop 23 = dktX0_singingIn_1 := dk_seg dksX0_singingIn_0 23 rfl rfl
theorem dksX0_singingIn_2 : cX0_singingIn.data.toList.drop 45 = dktX0_singingIn_2 := dk_seg dksX0_singingIn_1 22 rfl rfl
theorem dX0_singingIn_0 : decode cX0_singingIn 0 = .ok (.iconst 0, 1) := dk_3 (dk_at dksX0_singingIn_0 0 rfl rfl)
theorem dX0_singingIn_1 : decode cX0_singingIn 1 = .ok (.istore_n 2, 1) := dk_61 (dk_at dksX0_singingIn_0 1 rfl rfl)
theorem dX0_singingIn_2 : decode cX0_singingIn 2 = .ok (.iconst 0, 1) := dk_3 (dk_at dksX0_singingIn_0 2 rfl rfl)
theorem dX0_singingIn_3 : decode cX0_singingIn 3 = .ok (.istore_n 3, 1) := dk_62 (dk_at dksX0_singingIn_0 3 rfl rfl)
theorem dX0_singingIn_4 : decode cX0_singingIn 4 = .ok (.iload_n 3, 1) := dk_29 (dk_at dksX0_singingIn_0 4 rfl rfl)
theorem dX0_singingIn_5 : decode cX0_singingIn 5 = .ok (.bipush 8, 2) := dk_16 8 (dk_at dksX0_singingIn_0 5 rfl rfl)
theorem dX0_singingIn_7 : decode cX0_singingIn 7 = .ok (.if_icmp .ge 41, 3) := dk_162 0 41 (dk_at dksX0_singingIn_0 7 rfl rfl)
theorem dX0_singingIn_10 : decode cX0_singingIn 10 = .ok (.iload_n 2, 1) := dk_28 (dk_at dksX0_singingIn_0 10 rfl rfl)
theorem dX0_singingIn_11 : decode cX0_singingIn 11 = .ok (.aload_n 0, 1) := dk_42 (dk_at dksX0_singingIn_0 11 rfl rfl)
theorem dX0_singingIn_12 : decode cX0_singingIn 12 = .ok (.getfield 38, 3) := dk_180 0 38 (dk_at dksX0_singingIn_0 12 rfl rfl)
theorem dX0_singingIn_15 : decode cX0_singingIn 15 = .ok (.iload_n 3, 1) := dk_29 (dk_at dksX0_singingIn_0 15 rfl rfl)
theorem dX0_singingIn_16 : decode cX0_singingIn 16 = .ok (.invokevirtual 218, 3) := dk_182 0 218 (dk_at dksX0_singingIn_0 16 rfl rfl)
theorem dX0_singingIn_19 : decode cX0_singingIn 19 = .ok (.ifCond .eq 20, 3) := dk_153 0 20 (dk_at dksX0_singingIn_0 19 rfl rfl)
theorem dX0_singingIn_22 : decode cX0_singingIn 22 = .ok (.aload_n 0, 1) := dk_42 (dk_at dksX0_singingIn_0 22 rfl rfl)
theorem dX0_singingIn_23 : decode cX0_singingIn 23 = .ok (.getfield 38, 3) := dk_180 0 38 (dk_at dksX0_singingIn_1 0 rfl rfl)
theorem dX0_singingIn_26 : decode cX0_singingIn 26 = .ok (.getfield 127, 3) := dk_180 0 127 (dk_at dksX0_singingIn_1 3 rfl rfl)
theorem dX0_singingIn_29 : decode cX0_singingIn 29 = .ok (.iload_n 3, 1) := dk_29 (dk_at dksX0_singingIn_1 6 rfl rfl)
theorem dX0_singingIn_30 : decode cX0_singingIn 30 = .ok (.iaload, 1) := dk_46 (dk_at dksX0_singingIn_1 7 rfl rfl)
theorem dX0_singingIn_31 : decode cX0_singingIn 31 = .ok (.iload_n 1, 1) := dk_27 (dk_at dksX0_singingIn_1 8 rfl rfl)
theorem dX0_singingIn_32 : decode cX0_singingIn 32 = .ok (.if_icmp .ne 7, 3) := dk_160 0 7 (dk_at dksX0_singingIn_1 9 rfl rfl)
theorem dX0_singingIn_35 : decode cX0_singingIn 35 = .ok (.iconst 1, 1) := dk_4 (dk_at dksX0_singingIn_1 12 rfl rfl)
theorem dX0_singingIn_36 : decode cX0_singingIn 36 = .ok (.goto 4, 3) := dk_167 0 4 (dk_at dksX0_singingIn_1 13 rfl rfl)
theorem dX0_singingIn_39 : decode cX0_singingIn 39 = .ok (.iconst 0, 1) := dk_3 (dk_at dksX0_singingIn_1 16 rfl rfl)
theorem dX0_singingIn_40 : decode cX0_singingIn 40 = .ok (.iadd, 1) := dk_96 (dk_at dksX0_singingIn_1 17 rfl rfl)
theorem dX0_singingIn_41 : decode cX0_singingIn 41 = .ok (.istore_n 2, 1) := dk_61 (dk_at dksX0_singingIn_1 18 rfl rfl)
theorem dX0_singingIn_42 : decode cX0_singingIn 42 = .ok (.iinc 3 1, 3) := dk_132 3 1 (dk_at dksX0_singingIn_1 19 rfl rfl)
theorem dX0_singingIn_45 : decode cX0_singingIn 45 = .ok (.goto (-41), 3) := dk_167 255 215 (dk_at dksX0_singingIn_2 0 rfl rfl)
theorem dX0_singingIn_48 : decode cX0_singingIn 48 = .ok (.iload_n 2, 1) := dk_28 (dk_at dksX0_singingIn_2 3 rfl rfl)
theorem dX0_singingIn_49 : decode cX0_singingIn 49 = .ok (.ireturn, 1) := dk_172 (dk_at dksX0_singingIn_2 4 rfl rfl)
abbrev cX0_times : ByteArray := prog_1_method_56_code
def yX0_times : MethodName := ⟨RX0, "times", "(JI)J"⟩
def dkwX0_times_0 : List UInt8 := [10, 66, 3, 54, 5, 21, 5, 28, 162, 0, 13, 33, 30, 105, 66, 132, 5, 1, 167, 255, 243, 33, 173]
abbrev dktX0_times_0 : List UInt8 := dkwX0_times_0 ++ []
theorem dksX0_times_0 : cX0_times.data.toList.drop 0 = dktX0_times_0 := by decide +kernel
theorem dX0_times_0 : decode cX0_times 0 = .ok (.lconst 1, 1) := dk_10 (dk_at dksX0_times_0 0 rfl rfl)
theorem dX0_times_1 : decode cX0_times 1 = .ok (.lstore_n 3, 1) := dk_66 (dk_at dksX0_times_0 1 rfl rfl)
theorem dX0_times_2 : decode cX0_times 2 = .ok (.iconst 0, 1) := dk_3 (dk_at dksX0_times_0 2 rfl rfl)
theorem dX0_times_3 : decode cX0_times 3 = .ok (.istore 5, 2) := dk_54 5 (dk_at dksX0_times_0 3 rfl rfl)
theorem dX0_times_5 : decode cX0_times 5 = .ok (.iload 5, 2) := dk_21 5 (dk_at dksX0_times_0 5 rfl rfl)
theorem dX0_times_7 : decode cX0_times 7 = .ok (.iload_n 2, 1) := dk_28 (dk_at dksX0_times_0 7 rfl rfl)
theorem dX0_times_8 : decode cX0_times 8 = .ok (.if_icmp .ge 13, 3) := dk_162 0 13 (dk_at dksX0_times_0 8 rfl rfl)
theorem dX0_times_11 : decode cX0_times 11 = .ok (.lload_n 3, 1) := dk_33 (dk_at dksX0_times_0 11 rfl rfl)
theorem dX0_times_12 : decode cX0_times 12 = .ok (.lload_n 0, 1) := dk_30 (dk_at dksX0_times_0 12 rfl rfl)
theorem dX0_times_13 : decode cX0_times 13 = .ok (.lmul, 1) := dk_105 (dk_at dksX0_times_0 13 rfl rfl)
theorem dX0_times_14 : decode cX0_times 14 = .ok (.lstore_n 3, 1) := dk_66 (dk_at dksX0_times_0 14 rfl rfl)
theorem dX0_times_15 : decode cX0_times 15 = .ok (.iinc 5 1, 3) := dk_132 5 1 (dk_at dksX0_times_0 15 rfl rfl)
theorem dX0_times_18 : decode cX0_times 18 = .ok (.goto (-13), 3) := dk_167 255 243 (dk_at dksX0_times_0 18 rfl rfl)
theorem dX0_times_21 : decode cX0_times 21 = .ok (.lload_n 3, 1) := dk_33 (dk_at dksX0_times_0 21 rfl rfl)
theorem dX0_times_22 : decode cX0_times 22 = .ok (.lreturn, 1) := dk_173 (dk_at dksX0_times_0 22 rfl rfl)
abbrev cX0_lowest : ByteArray := prog_1_method_57_code
def yX0_lowest : MethodName := ⟨RX0, "lowest", "(JJI)J"⟩
def dkwX0_lowest_1 : List UInt8 := [22, 9, 55, 7, 167, 255, 234, 21, 4, 154, 0, 7, 30, 167, 0, 4, 32, 22, 5, 109, 173]
abbrev dktX0_lowest_1 : List UInt8 := dkwX0_lowest_1 ++ []
def dkwX0_lowest_0 : List UInt8 := [32, 55, 5, 30, 55, 7, 22, 7, 9, 148, 153, 0, 21, 22, 5, 22, 7, 113, 55, 9, 22, 7, 55, 5]
abbrev dktX0_lowest_0 : List UInt8 := dkwX0_lowest_0 ++ dktX0_lowest_1
theorem dksX0_lowest_0 : cX0_lowest.data.toList.drop 0 = dktX0_lowest_0 := by decide +kernel
theorem dksX0_lowest_1 : cX0_lowest.data.toList.drop 24 = dktX0_lowest_1 := dk_seg dksX0_lowest_0 24 rfl rfl
theorem dX0_lowest_0 : decode cX0_lowest 0 = .ok (.lload_n 2, 1) := dk_32 (dk_at dksX0_lowest_0 0 rfl rfl)
theorem dX0_lowest_1 : decode cX0_lowest 1 = .ok (.lstore 5, 2) := dk_55 5 (dk_at dksX0_lowest_0 1 rfl rfl)
theorem dX0_lowest_3 : decode cX0_lowest 3 = .ok (.lload_n 0, 1) := dk_30 (dk_at dksX0_lowest_0 3 rfl rfl)
theorem dX0_lowest_4 : decode cX0_lowest 4 = .ok (.lstore 7, 2) := dk_55 7 (dk_at dksX0_lowest_0 4 rfl rfl)
theorem dX0_lowest_6 : decode cX0_lowest 6 = .ok (.lload 7, 2) := dk_22 7 (dk_at dksX0_lowest_0 6 rfl rfl)
theorem dX0_lowest_8 : decode cX0_lowest 8 = .ok (.lconst 0, 1) := dk_9 (dk_at dksX0_lowest_0 8 rfl rfl)
theorem dX0_lowest_9 : decode cX0_lowest 9 = .ok (.lcmp, 1) := dk_148 (dk_at dksX0_lowest_0 9 rfl rfl)
theorem dX0_lowest_10 : decode cX0_lowest 10 = .ok (.ifCond .eq 21, 3) := dk_153 0 21 (dk_at dksX0_lowest_0 10 rfl rfl)
theorem dX0_lowest_13 : decode cX0_lowest 13 = .ok (.lload 5, 2) := dk_22 5 (dk_at dksX0_lowest_0 13 rfl rfl)
theorem dX0_lowest_15 : decode cX0_lowest 15 = .ok (.lload 7, 2) := dk_22 7 (dk_at dksX0_lowest_0 15 rfl rfl)
theorem dX0_lowest_17 : decode cX0_lowest 17 = .ok (.lrem, 1) := dk_113 (dk_at dksX0_lowest_0 17 rfl rfl)
theorem dX0_lowest_18 : decode cX0_lowest 18 = .ok (.lstore 9, 2) := dk_55 9 (dk_at dksX0_lowest_0 18 rfl rfl)
theorem dX0_lowest_20 : decode cX0_lowest 20 = .ok (.lload 7, 2) := dk_22 7 (dk_at dksX0_lowest_0 20 rfl rfl)
theorem dX0_lowest_22 : decode cX0_lowest 22 = .ok (.lstore 5, 2) := dk_55 5 (dk_at dksX0_lowest_0 22 rfl rfl)
theorem dX0_lowest_24 : decode cX0_lowest 24 = .ok (.lload 9, 2) := dk_22 9 (dk_at dksX0_lowest_1 0 rfl rfl)
theorem dX0_lowest_26 : decode cX0_lowest 26 = .ok (.lstore 7, 2) := dk_55 7 (dk_at dksX0_lowest_1 2 rfl rfl)
theorem dX0_lowest_28 : decode cX0_lowest 28 = .ok (.goto (-22), 3) := dk_167 255 234 (dk_at dksX0_lowest_1 4 rfl rfl)
theorem dX0_lowest_31 : decode cX0_lowest 31 = .ok (.iload 4, 2) := dk_21 4 (dk_at dksX0_lowest_1 7 rfl rfl)
theorem dX0_lowest_33 : decode cX0_lowest 33 = .ok (.ifCond .ne 7, 3) := dk_154 0 7 (dk_at dksX0_lowest_1 9 rfl rfl)
theorem dX0_lowest_36 : decode cX0_lowest 36 = .ok (.lload_n 0, 1) := dk_30 (dk_at dksX0_lowest_1 12 rfl rfl)
theorem dX0_lowest_37 : decode cX0_lowest 37 = .ok (.goto 4, 3) := dk_167 0 4 (dk_at dksX0_lowest_1 13 rfl rfl)
theorem dX0_lowest_40 : decode cX0_lowest 40 = .ok (.lload_n 2, 1) := dk_32 (dk_at dksX0_lowest_1 16 rfl rfl)
theorem dX0_lowest_41 : decode cX0_lowest 41 = .ok (.lload 5, 2) := dk_22 5 (dk_at dksX0_lowest_1 17 rfl rfl)
theorem dX0_lowest_43 : decode cX0_lowest 43 = .ok (.ldiv, 1) := dk_109 (dk_at dksX0_lowest_1 19 rfl rfl)
theorem dX0_lowest_44 : decode cX0_lowest 44 = .ok (.lreturn, 1) := dk_173 (dk_at dksX0_lowest_1 20 rfl rfl)
abbrev cX0_year : ByteArray := prog_1_method_61_code
def yX0_year : MethodName := ⟨RX0, "year", "(III)I"⟩
def dkwX0_year_8 : List UInt8 := [42, 180, 0, 42, 182, 0, 242, 184, 0, 95, 172]
abbrev dktX0_year_8 : List UInt8 := dkwX0_year_8 ++ []
def dkwX0_year_7 : List UInt8 := [182, 0, 215, 167, 0, 31, 29, 4, 160, 0, 16, 42, 180, 0, 42, 182, 0, 180, 184, 0, 95, 167, 0, 13]
abbrev dktX0_year_7 : List UInt8 := dkwX0_year_7 ++ dktX0_year_8
def dkwX0_year_6 : List UInt8 := [16, 8, 112, 21, 7, 182, 0, 184, 132, 5, 1, 167, 255, 161, 29, 154, 0, 13, 42, 180, 0, 42]
abbrev dktX0_year_6 : List UInt8 := dkwX0_year_6 ++ dktX0_year_7
def dkwX0_year_5 : List UInt8 := [21, 6, 21, 4, 16, 8, 112, 21, 7, 182, 0, 176, 154, 0, 19, 42, 180, 0, 42, 21, 6, 21, 4]
abbrev dktX0_year_5 : List UInt8 := dkwX0_year_5 ++ dktX0_year_6
def dkwX0_year_4 : List UInt8 := [21, 4, 16, 64, 108, 21, 6, 154, 0, 8, 16, 24, 167, 0, 5, 16, 10, 112, 54, 7, 42, 180, 0, 42]
abbrev dktX0_year_4 : List UInt8 := dkwX0_year_4 ++ dktX0_year_5
def dkwX0_year_3 : List UInt8 := [20, 1, 65, 97, 20, 1, 67, 113, 136, 54, 4, 21, 4, 16, 8, 108, 16, 8, 112, 184, 1, 69, 54, 6]
abbrev dktX0_year_3 : List UInt8 := dkwX0_year_3 ++ dktX0_year_4
def dkwX0_year_2 : List UInt8 := [182, 0, 163, 27, 54, 4, 3, 54, 5, 21, 5, 28, 162, 0, 95, 20, 1, 63, 21, 4, 133, 105]
abbrev dktX0_year_2 : List UInt8 := dkwX0_year_2 ++ dktX0_year_3
def dkwX0_year_1 : List UInt8 := [29, 133, 9, 20, 0, 204, 184, 0, 3, 154, 0, 6, 16, 254, 172, 42, 180, 0, 42, 42, 180, 0, 38]
abbrev dktX0_year_1 : List UInt8 := dkwX0_year_1 ++ dktX0_year_2
def dkwX0_year_0 : List UInt8 := [27, 133, 9, 20, 1, 61, 184, 0, 3, 153, 0, 27, 28, 133, 10, 20, 0, 110, 184, 0, 3, 153, 0, 15]
abbrev dktX0_year_0 : List UInt8 := dkwX0_year_0 ++ dktX0_year_1
theorem dksX0_year_0 : cX0_year.data.toList.drop 0 = dktX0_year_0 := by decide +kernel
theorem dksX0_year_1 : cX0_year.data.toList.drop 24 = dktX0_year_1 := dk_seg dksX0_year_0 24 rfl rfl
theorem dksX0_year_2 : cX0_year.data.toList.drop 47 = dktX0_year_2 := dk_seg dksX0_year_1 23 rfl rfl
theorem dksX0_year_3 : cX0_year.data.toList.drop 69 = dktX0_year_3 := dk_seg dksX0_year_2 22 rfl rfl
theorem dksX0_year_4 : cX0_year.data.toList.drop 93 = dktX0_year_4 := dk_seg dksX0_year_3 24 rfl rfl
theorem dksX0_year_5 : cX0_year.data.toList.drop 117 = dktX0_year_5 := dk_seg dksX0_year_4 24 rfl rfl
theorem dksX0_year_6 : cX0_year.data.toList.drop 140 = dktX0_year_6 := dk_seg dksX0_year_5 23 rfl rfl
theorem dksX0_year_7 : cX0_year.data.toList.drop 162 = dktX0_year_7 := dk_seg dksX0_year_6 22 rfl rfl
theorem dksX0_year_8 : cX0_year.data.toList.drop 186 = dktX0_year_8 := dk_seg dksX0_year_7 24 rfl rfl
theorem dX0_year_0 : decode cX0_year 0 = .ok (.iload_n 1, 1) := dk_27 (dk_at dksX0_year_0 0 rfl rfl)
theorem dX0_year_1 : decode cX0_year 1 = .ok (.i2l, 1) := dk_133 (dk_at dksX0_year_0 1 rfl rfl)
theorem dX0_year_2 : decode cX0_year 2 = .ok (.lconst 0, 1) := dk_9 (dk_at dksX0_year_0 2 rfl rfl)
theorem dX0_year_3 : decode cX0_year 3 = .ok (.ldc2_w 317, 3) := dk_20 1 61 (dk_at dksX0_year_0 3 rfl rfl)
theorem dX0_year_6 : decode cX0_year 6 = .ok (.invokestatic 3, 3) := dk_184 0 3 (dk_at dksX0_year_0 6 rfl rfl)
theorem dX0_year_9 : decode cX0_year 9 = .ok (.ifCond .eq 27, 3) := dk_153 0 27 (dk_at dksX0_year_0 9 rfl rfl)
theorem dX0_year_12 : decode cX0_year 12 = .ok (.iload_n 2, 1) := dk_28 (dk_at dksX0_year_0 12 rfl rfl)
theorem dX0_year_13 : decode cX0_year 13 = .ok (.i2l, 1) := dk_133 (dk_at dksX0_year_0 13 rfl rfl)
theorem dX0_year_14 : decode cX0_year 14 = .ok (.lconst 1, 1) := dk_10 (dk_at dksX0_year_0 14 rfl rfl)
theorem dX0_year_15 : decode cX0_year 15 = .ok (.ldc2_w 110, 3) := dk_20 0 110 (dk_at dksX0_year_0 15 rfl rfl)
theorem dX0_year_18 : decode cX0_year 18 = .ok (.invokestatic 3, 3) := dk_184 0 3 (dk_at dksX0_year_0 18 rfl rfl)
theorem dX0_year_21 : decode cX0_year 21 = .ok (.ifCond .eq 15, 3) := dk_153 0 15 (dk_at dksX0_year_0 21 rfl rfl)
theorem dX0_year_24 : decode cX0_year 24 = .ok (.iload_n 3, 1) := dk_29 (dk_at dksX0_year_1 0 rfl rfl)
theorem dX0_year_25 : decode cX0_year 25 = .ok (.i2l, 1) := dk_133 (dk_at dksX0_year_1 1 rfl rfl)
theorem dX0_year_26 : decode cX0_year 26 = .ok (.lconst 0, 1) := dk_9 (dk_at dksX0_year_1 2 rfl rfl)
theorem dX0_year_27 : decode cX0_year 27 = .ok (.ldc2_w 204, 3) := dk_20 0 204 (dk_at dksX0_year_1 3 rfl rfl)
theorem dX0_year_30 : decode cX0_year 30 = .ok (.invokestatic 3, 3) := dk_184 0 3 (dk_at dksX0_year_1 6 rfl rfl)
theorem dX0_year_33 : decode cX0_year 33 = .ok (.ifCond .ne 6, 3) := dk_154 0 6 (dk_at dksX0_year_1 9 rfl rfl)
theorem dX0_year_36 : decode cX0_year 36 = .ok (.bipush (-2), 2) := dk_16 254 (dk_at dksX0_year_1 12 rfl rfl)
theorem dX0_year_38 : decode cX0_year 38 = .ok (.ireturn, 1) := dk_172 (dk_at dksX0_year_1 14 rfl rfl)
theorem dX0_year_39 : decode cX0_year 39 = .ok (.aload_n 0, 1) := dk_42 (dk_at dksX0_year_1 15 rfl rfl)
theorem dX0_year_40 : decode cX0_year 40 = .ok (.getfield 42, 3) := dk_180 0 42 (dk_at dksX0_year_1 16 rfl rfl)
theorem dX0_year_43 : decode cX0_year 43 = .ok (.aload_n 0, 1) := dk_42 (dk_at dksX0_year_1 19 rfl rfl)
theorem dX0_year_44 : decode cX0_year 44 = .ok (.getfield 38, 3) := dk_180 0 38 (dk_at dksX0_year_1 20 rfl rfl)
theorem dX0_year_47 : decode cX0_year 47 = .ok (.invokevirtual 163, 3) := dk_182 0 163 (dk_at dksX0_year_2 0 rfl rfl)
theorem dX0_year_50 : decode cX0_year 50 = .ok (.iload_n 1, 1) := dk_27 (dk_at dksX0_year_2 3 rfl rfl)
theorem dX0_year_51 : decode cX0_year 51 = .ok (.istore 4, 2) := dk_54 4 (dk_at dksX0_year_2 4 rfl rfl)
theorem dX0_year_53 : decode cX0_year 53 = .ok (.iconst 0, 1) := dk_3 (dk_at dksX0_year_2 6 rfl rfl)
theorem dX0_year_54 : decode cX0_year 54 = .ok (.istore 5, 2) := dk_54 5 (dk_at dksX0_year_2 7 rfl rfl)
theorem dX0_year_56 : decode cX0_year 56 = .ok (.iload 5, 2) := dk_21 5 (dk_at dksX0_year_2 9 rfl rfl)
theorem dX0_year_58 : decode cX0_year 58 = .ok (.iload_n 2, 1) := dk_28 (dk_at dksX0_year_2 11 rfl rfl)
theorem dX0_year_59 : decode cX0_year 59 = .ok (.if_icmp .ge 95, 3) := dk_162 0 95 (dk_at dksX0_year_2 12 rfl rfl)
theorem dX0_year_62 : decode cX0_year 62 = .ok (.ldc2_w 319, 3) := dk_20 1 63 (dk_at dksX0_year_2 15 rfl rfl)
theorem dX0_year_65 : decode cX0_year 65 = .ok (.iload 4, 2) := dk_21 4 (dk_at dksX0_year_2 18 rfl rfl)
theorem dX0_year_67 : decode cX0_year 67 = .ok (.i2l, 1) := dk_133 (dk_at dksX0_year_2 20 rfl rfl)
theorem dX0_year_68 : decode cX0_year 68 = .ok (.lmul, 1) := dk_105 (dk_at dksX0_year_2 21 rfl rfl)
theorem dX0_year_69 : decode cX0_year 69 = .ok (.ldc2_w 321, 3) := dk_20 1 65 (dk_at dksX0_year_3 0 rfl rfl)
theorem dX0_year_72 : decode cX0_year 72 = .ok (.ladd, 1) := dk_97 (dk_at dksX0_year_3 3 rfl rfl)
theorem dX0_year_73 : decode cX0_year 73 = .ok (.ldc2_w 323, 3) := dk_20 1 67 (dk_at dksX0_year_3 4 rfl rfl)
theorem dX0_year_76 : decode cX0_year 76 = .ok (.lrem, 1) := dk_113 (dk_at dksX0_year_3 7 rfl rfl)
theorem dX0_year_77 : decode cX0_year 77 = .ok (.l2i, 1) := dk_136 (dk_at dksX0_year_3 8 rfl rfl)
theorem dX0_year_78 : decode cX0_year 78 = .ok (.istore 4, 2) := dk_54 4 (dk_at dksX0_year_3 9 rfl rfl)
theorem dX0_year_80 : decode cX0_year 80 = .ok (.iload 4, 2) := dk_21 4 (dk_at dksX0_year_3 11 rfl rfl)
theorem dX0_year_82 : decode cX0_year 82 = .ok (.bipush 8, 2) := dk_16 8 (dk_at dksX0_year_3 13 rfl rfl)
theorem dX0_year_84 : decode cX0_year 84 = .ok (.idiv, 1) := dk_108 (dk_at dksX0_year_3 15 rfl rfl)
theorem dX0_year_85 : decode cX0_year 85 = .ok (.bipush 8, 2) := dk_16 8 (dk_at dksX0_year_3 16 rfl rfl)
theorem dX0_year_87 : decode cX0_year 87 = .ok (.irem, 1) := dk_112 (dk_at dksX0_year_3 18 rfl rfl)
theorem dX0_year_88 : decode cX0_year 88 = .ok (.invokestatic 325, 3) := dk_184 1 69 (dk_at dksX0_year_3 19 rfl rfl)
theorem dX0_year_91 : decode cX0_year 91 = .ok (.istore 6, 2) := dk_54 6 (dk_at dksX0_year_3 22 rfl rfl)
theorem dX0_year_93 : decode cX0_year 93 = .ok (.iload 4, 2) := dk_21 4 (dk_at dksX0_year_4 0 rfl rfl)
theorem dX0_year_95 : decode cX0_year 95 = .ok (.bipush 64, 2) := dk_16 64 (dk_at dksX0_year_4 2 rfl rfl)
theorem dX0_year_97 : decode cX0_year 97 = .ok (.idiv, 1) := dk_108 (dk_at dksX0_year_4 4 rfl rfl)
theorem dX0_year_98 : decode cX0_year 98 = .ok (.iload 6, 2) := dk_21 6 (dk_at dksX0_year_4 5 rfl rfl)
theorem dX0_year_100 : decode cX0_year 100 = .ok (.ifCond .ne 8, 3) := dk_154 0 8 (dk_at dksX0_year_4 7 rfl rfl)
theorem dX0_year_103 : decode cX0_year 103 = .ok (.bipush 24, 2) := dk_16 24 (dk_at dksX0_year_4 10 rfl rfl)
theorem dX0_year_105 : decode cX0_year 105 = .ok (.goto 5, 3) := dk_167 0 5 (dk_at dksX0_year_4 12 rfl rfl)
theorem dX0_year_108 : decode cX0_year 108 = .ok (.bipush 10, 2) := dk_16 10 (dk_at dksX0_year_4 15 rfl rfl)
theorem dX0_year_110 : decode cX0_year 110 = .ok (.irem, 1) := dk_112 (dk_at dksX0_year_4 17 rfl rfl)
theorem dX0_year_111 : decode cX0_year 111 = .ok (.istore 7, 2) := dk_54 7 (dk_at dksX0_year_4 18 rfl rfl)
theorem dX0_year_113 : decode cX0_year 113 = .ok (.aload_n 0, 1) := dk_42 (dk_at dksX0_year_4 20 rfl rfl)
theorem dX0_year_114 : decode cX0_year 114 = .ok (.getfield 42, 3) := dk_180 0 42 (dk_at dksX0_year_4 21 rfl rfl)
theorem dX0_year_117 : decode cX0_year 117 = .ok (.iload 6, 2) := dk_21 6 (dk_at dksX0_year_5 0 rfl rfl)
theorem dX0_year_119 : decode cX0_year 119 = .ok (.iload 4, 2) := dk_21 4 (dk_at dksX0_year_5 2 rfl rfl)
theorem dX0_year_121 : decode cX0_year 121 = .ok (.bipush 8, 2) := dk_16 8 (dk_at dksX0_year_5 4 rfl rfl)
theorem dX0_year_123 : decode cX0_year 123 = .ok (.irem, 1) := dk_112 (dk_at dksX0_year_5 6 rfl rfl)
theorem dX0_year_124 : decode cX0_year 124 = .ok (.iload 7, 2) := dk_21 7 (dk_at dksX0_year_5 7 rfl rfl)
theorem dX0_year_126 : decode cX0_year 126 = .ok (.invokevirtual 176, 3) := dk_182 0 176 (dk_at dksX0_year_5 9 rfl rfl)
theorem dX0_year_129 : decode cX0_year 129 = .ok (.ifCond .ne 19, 3) := dk_154 0 19 (dk_at dksX0_year_5 12 rfl rfl)
theorem dX0_year_132 : decode cX0_year 132 = .ok (.aload_n 0, 1) := dk_42 (dk_at dksX0_year_5 15 rfl rfl)
theorem dX0_year_133 : decode cX0_year 133 = .ok (.getfield 42, 3) := dk_180 0 42 (dk_at dksX0_year_5 16 rfl rfl)
theorem dX0_year_136 : decode cX0_year 136 = .ok (.iload 6, 2) := dk_21 6 (dk_at dksX0_year_5 19 rfl rfl)
theorem dX0_year_138 : decode cX0_year 138 = .ok (.iload 4, 2) := dk_21 4 (dk_at dksX0_year_5 21 rfl rfl)
theorem dX0_year_140 : decode cX0_year 140 = .ok (.bipush 8, 2) := dk_16 8 (dk_at dksX0_year_6 0 rfl rfl)
theorem dX0_year_142 : decode cX0_year 142 = .ok (.irem, 1) := dk_112 (dk_at dksX0_year_6 2 rfl rfl)
theorem dX0_year_143 : decode cX0_year 143 = .ok (.iload 7, 2) := dk_21 7 (dk_at dksX0_year_6 3 rfl rfl)
theorem dX0_year_145 : decode cX0_year 145 = .ok (.invokevirtual 184, 3) := dk_182 0 184 (dk_at dksX0_year_6 5 rfl rfl)
theorem dX0_year_148 : decode cX0_year 148 = .ok (.iinc 5 1, 3) := dk_132 5 1 (dk_at dksX0_year_6 8 rfl rfl)
theorem dX0_year_151 : decode cX0_year 151 = .ok (.goto (-95), 3) := dk_167 255 161 (dk_at dksX0_year_6 11 rfl rfl)
theorem dX0_year_154 : decode cX0_year 154 = .ok (.iload_n 3, 1) := dk_29 (dk_at dksX0_year_6 14 rfl rfl)
theorem dX0_year_155 : decode cX0_year 155 = .ok (.ifCond .ne 13, 3) := dk_154 0 13 (dk_at dksX0_year_6 15 rfl rfl)
theorem dX0_year_158 : decode cX0_year 158 = .ok (.aload_n 0, 1) := dk_42 (dk_at dksX0_year_6 18 rfl rfl)
theorem dX0_year_159 : decode cX0_year 159 = .ok (.getfield 42, 3) := dk_180 0 42 (dk_at dksX0_year_6 19 rfl rfl)
theorem dX0_year_162 : decode cX0_year 162 = .ok (.invokevirtual 215, 3) := dk_182 0 215 (dk_at dksX0_year_7 0 rfl rfl)
theorem dX0_year_165 : decode cX0_year 165 = .ok (.goto 31, 3) := dk_167 0 31 (dk_at dksX0_year_7 3 rfl rfl)
theorem dX0_year_168 : decode cX0_year 168 = .ok (.iload_n 3, 1) := dk_29 (dk_at dksX0_year_7 6 rfl rfl)
theorem dX0_year_169 : decode cX0_year 169 = .ok (.iconst 1, 1) := dk_4 (dk_at dksX0_year_7 7 rfl rfl)
theorem dX0_year_170 : decode cX0_year 170 = .ok (.if_icmp .ne 16, 3) := dk_160 0 16 (dk_at dksX0_year_7 8 rfl rfl)
theorem dX0_year_173 : decode cX0_year 173 = .ok (.aload_n 0, 1) := dk_42 (dk_at dksX0_year_7 11 rfl rfl)
theorem dX0_year_174 : decode cX0_year 174 = .ok (.getfield 42, 3) := dk_180 0 42 (dk_at dksX0_year_7 12 rfl rfl)
theorem dX0_year_177 : decode cX0_year 177 = .ok (.invokevirtual 180, 3) := dk_182 0 180 (dk_at dksX0_year_7 15 rfl rfl)
theorem dX0_year_180 : decode cX0_year 180 = .ok (.invokestatic 95, 3) := dk_184 0 95 (dk_at dksX0_year_7 18 rfl rfl)
theorem dX0_year_183 : decode cX0_year 183 = .ok (.goto 13, 3) := dk_167 0 13 (dk_at dksX0_year_7 21 rfl rfl)
theorem dX0_year_186 : decode cX0_year 186 = .ok (.aload_n 0, 1) := dk_42 (dk_at dksX0_year_8 0 rfl rfl)
theorem dX0_year_187 : decode cX0_year 187 = .ok (.getfield 42, 3) := dk_180 0 42 (dk_at dksX0_year_8 1 rfl rfl)
theorem dX0_year_190 : decode cX0_year 190 = .ok (.invokevirtual 242, 3) := dk_182 0 242 (dk_at dksX0_year_8 4 rfl rfl)
theorem dX0_year_193 : decode cX0_year 193 = .ok (.invokestatic 95, 3) := dk_184 0 95 (dk_at dksX0_year_8 7 rfl rfl)
theorem dX0_year_196 : decode cX0_year 196 = .ok (.ireturn, 1) := dk_172 (dk_at dksX0_year_8 10 rfl rfl)
abbrev cX0_actBy : ByteArray := prog_1_method_60_code
def yX0_actBy : MethodName := ⟨RX0, "actBy", "(I)I"⟩
def dkwX0_actBy_1 : List UInt8 := [5, 167, 0, 14, 26, 16, 6, 160, 0, 7, 6, 167, 0, 4, 7, 172]
abbrev dktX0_actBy_1 : List UInt8 := dkwX0_actBy_1 ++ []
def dkwX0_actBy_0 : List UInt8 := [26, 6, 162, 0, 7, 3, 167, 0, 33, 26, 6, 160, 0, 7, 4, 167, 0, 24, 26, 16, 6, 162, 0, 7]
abbrev dktX0_actBy_0 : List UInt8 := dkwX0_actBy_0 ++ dktX0_actBy_1
theorem dksX0_actBy_0 : cX0_actBy.data.toList.drop 0 = dktX0_actBy_0 := by decide +kernel
theorem dksX0_actBy_1 : cX0_actBy.data.toList.drop 24 = dktX0_actBy_1 := dk_seg dksX0_actBy_0 24 rfl rfl
theorem dX0_actBy_0 : decode cX0_actBy 0 = .ok (.iload_n 0, 1) := dk_26 (dk_at dksX0_actBy_0 0 rfl rfl)
theorem dX0_actBy_1 : decode cX0_actBy 1 = .ok (.iconst 3, 1) := dk_6 (dk_at dksX0_actBy_0 1 rfl rfl)
theorem dX0_actBy_2 : decode cX0_actBy 2 = .ok (.if_icmp .ge 7, 3) := dk_162 0 7 (dk_at dksX0_actBy_0 2 rfl rfl)
theorem dX0_actBy_5 : decode cX0_actBy 5 = .ok (.iconst 0, 1) := dk_3 (dk_at dksX0_actBy_0 5 rfl rfl)
theorem dX0_actBy_6 : decode cX0_actBy 6 = .ok (.goto 33, 3) := dk_167 0 33 (dk_at dksX0_actBy_0 6 rfl rfl)
theorem dX0_actBy_9 : decode cX0_actBy 9 = .ok (.iload_n 0, 1) := dk_26 (dk_at dksX0_actBy_0 9 rfl rfl)
theorem dX0_actBy_10 : decode cX0_actBy 10 = .ok (.iconst 3, 1) := dk_6 (dk_at dksX0_actBy_0 10 rfl rfl)
theorem dX0_actBy_11 : decode cX0_actBy 11 = .ok (.if_icmp .ne 7, 3) := dk_160 0 7 (dk_at dksX0_actBy_0 11 rfl rfl)
theorem dX0_actBy_14 : decode cX0_actBy 14 = .ok (.iconst 1, 1) := dk_4 (dk_at dksX0_actBy_0 14 rfl rfl)
theorem dX0_actBy_15 : decode cX0_actBy 15 = .ok (.goto 24, 3) := dk_167 0 24 (dk_at dksX0_actBy_0 15 rfl rfl)
theorem dX0_actBy_18 : decode cX0_actBy 18 = .ok (.iload_n 0, 1) := dk_26 (dk_at dksX0_actBy_0 18 rfl rfl)
theorem dX0_actBy_19 : decode cX0_actBy 19 = .ok (.bipush 6, 2) := dk_16 6 (dk_at dksX0_actBy_0 19 rfl rfl)
theorem dX0_actBy_21 : decode cX0_actBy 21 = .ok (.if_icmp .ge 7, 3) := dk_162 0 7 (dk_at dksX0_actBy_0 21 rfl rfl)
theorem dX0_actBy_24 : decode cX0_actBy 24 = .ok (.iconst 2, 1) := dk_5 (dk_at dksX0_actBy_1 0 rfl rfl)
theorem dX0_actBy_25 : decode cX0_actBy 25 = .ok (.goto 14, 3) := dk_167 0 14 (dk_at dksX0_actBy_1 1 rfl rfl)
theorem dX0_actBy_28 : decode cX0_actBy 28 = .ok (.iload_n 0, 1) := dk_26 (dk_at dksX0_actBy_1 4 rfl rfl)
theorem dX0_actBy_29 : decode cX0_actBy 29 = .ok (.bipush 6, 2) := dk_16 6 (dk_at dksX0_actBy_1 5 rfl rfl)
theorem dX0_actBy_31 : decode cX0_actBy 31 = .ok (.if_icmp .ne 7, 3) := dk_160 0 7 (dk_at dksX0_actBy_1 7 rfl rfl)
theorem dX0_actBy_34 : decode cX0_actBy 34 = .ok (.iconst 3, 1) := dk_6 (dk_at dksX0_actBy_1 10 rfl rfl)
theorem dX0_actBy_35 : decode cX0_actBy 35 = .ok (.goto 4, 3) := dk_167 0 4 (dk_at dksX0_actBy_1 11 rfl rfl)
theorem dX0_actBy_38 : decode cX0_actBy 38 = .ok (.iconst 4, 1) := dk_7 (dk_at dksX0_actBy_1 14 rfl rfl)
theorem dX0_actBy_39 : decode cX0_actBy 39 = .ok (.ireturn, 1) := dk_172 (dk_at dksX0_actBy_1 15 rfl rfl)
abbrev cX0_image : ByteArray := prog_1_method_62_code
def yX0_image : MethodName := ⟨RX0, "image", "(I)I"⟩
def dkwX0_image_1 : List UInt8 := [187, 0, 35, 89, 183, 0, 37, 83, 42, 180, 0, 45, 27, 50, 42, 180, 0, 38, 182, 0, 163, 4, 172]
abbrev dktX0_image_1 : List UInt8 := dkwX0_image_1 ++ []
def dkwX0_image_0 : List UInt8 := [27, 184, 0, 197, 154, 0, 6, 16, 254, 172, 42, 180, 0, 45, 27, 50, 199, 0, 16, 42, 180, 0, 45, 27]
abbrev dktX0_image_0 : List UInt8 := dkwX0_image_0 ++ dktX0_image_1
theorem dksX0_image_0 : cX0_image.data.toList.drop 0 = dktX0_image_0 := by decide +kernel
theorem dksX0_image_1 : cX0_image.data.toList.drop 24 = dktX0_image_1 := dk_seg dksX0_image_0 24 rfl rfl
theorem dX0_image_0 : decode cX0_image 0 = .ok (.iload_n 1, 1) := dk_27 (dk_at dksX0_image_0 0 rfl rfl)
theorem dX0_image_1 : decode cX0_image 1 = .ok (.invokestatic 197, 3) := dk_184 0 197 (dk_at dksX0_image_0 1 rfl rfl)
theorem dX0_image_4 : decode cX0_image 4 = .ok (.ifCond .ne 6, 3) := dk_154 0 6 (dk_at dksX0_image_0 4 rfl rfl)
theorem dX0_image_7 : decode cX0_image 7 = .ok (.bipush (-2), 2) := dk_16 254 (dk_at dksX0_image_0 7 rfl rfl)
theorem dX0_image_9 : decode cX0_image 9 = .ok (.ireturn, 1) := dk_172 (dk_at dksX0_image_0 9 rfl rfl)
theorem dX0_image_10 : decode cX0_image 10 = .ok (.aload_n 0, 1) := dk_42 (dk_at dksX0_image_0 10 rfl rfl)
theorem dX0_image_11 : decode cX0_image 11 = .ok (.getfield 45, 3) := dk_180 0 45 (dk_at dksX0_image_0 11 rfl rfl)
theorem dX0_image_14 : decode cX0_image 14 = .ok (.iload_n 1, 1) := dk_27 (dk_at dksX0_image_0 14 rfl rfl)
theorem dX0_image_15 : decode cX0_image 15 = .ok (.aaload, 1) := dk_50 (dk_at dksX0_image_0 15 rfl rfl)
theorem dX0_image_16 : decode cX0_image 16 = .ok (.ifnonnull 16, 3) := dk_199 0 16 (dk_at dksX0_image_0 16 rfl rfl)
theorem dX0_image_19 : decode cX0_image 19 = .ok (.aload_n 0, 1) := dk_42 (dk_at dksX0_image_0 19 rfl rfl)
theorem dX0_image_20 : decode cX0_image 20 = .ok (.getfield 45, 3) := dk_180 0 45 (dk_at dksX0_image_0 20 rfl rfl)
theorem dX0_image_23 : decode cX0_image 23 = .ok (.iload_n 1, 1) := dk_27 (dk_at dksX0_image_0 23 rfl rfl)
theorem dX0_image_24 : decode cX0_image 24 = .ok (.new 35, 3) := dk_187 0 35 (dk_at dksX0_image_1 0 rfl rfl)
theorem dX0_image_27 : decode cX0_image 27 = .ok (.dup, 1) := dk_89 (dk_at dksX0_image_1 3 rfl rfl)
theorem dX0_image_28 : decode cX0_image 28 = .ok (.invokespecial 37, 3) := dk_183 0 37 (dk_at dksX0_image_1 4 rfl rfl)
theorem dX0_image_31 : decode cX0_image 31 = .ok (.aastore, 1) := dk_83 (dk_at dksX0_image_1 7 rfl rfl)
theorem dX0_image_32 : decode cX0_image 32 = .ok (.aload_n 0, 1) := dk_42 (dk_at dksX0_image_1 8 rfl rfl)
theorem dX0_image_33 : decode cX0_image 33 = .ok (.getfield 45, 3) := dk_180 0 45 (dk_at dksX0_image_1 9 rfl rfl)
theorem dX0_image_36 : decode cX0_image 36 = .ok (.iload_n 1, 1) := dk_27 (dk_at dksX0_image_1 12 rfl rfl)
theorem dX0_image_37 : decode cX0_image 37 = .ok (.aaload, 1) := dk_50 (dk_at dksX0_image_1 13 rfl rfl)
theorem dX0_image_38 : decode cX0_image 38 = .ok (.aload_n 0, 1) := dk_42 (dk_at dksX0_image_1 14 rfl rfl)
theorem dX0_image_39 : decode cX0_image 39 = .ok (.getfield 38, 3) := dk_180 0 38 (dk_at dksX0_image_1 15 rfl rfl)
theorem dX0_image_42 : decode cX0_image 42 = .ok (.invokevirtual 163, 3) := dk_182 0 163 (dk_at dksX0_image_1 18 rfl rfl)
theorem dX0_image_45 : decode cX0_image 45 = .ok (.iconst 1, 1) := dk_4 (dk_at dksX0_image_1 21 rfl rfl)
theorem dX0_image_46 : decode cX0_image 46 = .ok (.ireturn, 1) := dk_172 (dk_at dksX0_image_1 22 rfl rfl)
abbrev cX0_restore : ByteArray := prog_1_method_63_code
def yX0_restore : MethodName := ⟨RX0, "restore", "(I)I"⟩
def dkwX0_restore_1 : List UInt8 := [180, 0, 38, 42, 180, 0, 45, 27, 50, 182, 0, 163, 4, 172]
abbrev dktX0_restore_1 : List UInt8 := dkwX0_restore_1 ++ []
def dkwX0_restore_0 : List UInt8 := [27, 184, 0, 197, 154, 0, 6, 16, 254, 172, 42, 180, 0, 45, 27, 50, 199, 0, 6, 16, 253, 172, 42]
abbrev dktX0_restore_0 : List UInt8 := dkwX0_restore_0 ++ dktX0_restore_1
theorem dksX0_restore_0 : cX0_restore.data.toList.drop 0 = dktX0_restore_0 := by decide +kernel
theorem dksX0_restore_1 : cX0_restore.data.toList.drop 23 = dktX0_restore_1 := dk_seg dksX0_restore_0 23 rfl rfl
theorem dX0_restore_0 : decode cX0_restore 0 = .ok (.iload_n 1, 1) := dk_27 (dk_at dksX0_restore_0 0 rfl rfl)
theorem dX0_restore_1 : decode cX0_restore 1 = .ok (.invokestatic 197, 3) := dk_184 0 197 (dk_at dksX0_restore_0 1 rfl rfl)
theorem dX0_restore_4 : decode cX0_restore 4 = .ok (.ifCond .ne 6, 3) := dk_154 0 6 (dk_at dksX0_restore_0 4 rfl rfl)
theorem dX0_restore_7 : decode cX0_restore 7 = .ok (.bipush (-2), 2) := dk_16 254 (dk_at dksX0_restore_0 7 rfl rfl)
theorem dX0_restore_9 : decode cX0_restore 9 = .ok (.ireturn, 1) := dk_172 (dk_at dksX0_restore_0 9 rfl rfl)
theorem dX0_restore_10 : decode cX0_restore 10 = .ok (.aload_n 0, 1) := dk_42 (dk_at dksX0_restore_0 10 rfl rfl)
theorem dX0_restore_11 : decode cX0_restore 11 = .ok (.getfield 45, 3) := dk_180 0 45 (dk_at dksX0_restore_0 11 rfl rfl)
theorem dX0_restore_14 : decode cX0_restore 14 = .ok (.iload_n 1, 1) := dk_27 (dk_at dksX0_restore_0 14 rfl rfl)
theorem dX0_restore_15 : decode cX0_restore 15 = .ok (.aaload, 1) := dk_50 (dk_at dksX0_restore_0 15 rfl rfl)
theorem dX0_restore_16 : decode cX0_restore 16 = .ok (.ifnonnull 6, 3) := dk_199 0 6 (dk_at dksX0_restore_0 16 rfl rfl)
theorem dX0_restore_19 : decode cX0_restore 19 = .ok (.bipush (-3), 2) := dk_16 253 (dk_at dksX0_restore_0 19 rfl rfl)
theorem dX0_restore_21 : decode cX0_restore 21 = .ok (.ireturn, 1) := dk_172 (dk_at dksX0_restore_0 21 rfl rfl)
theorem dX0_restore_22 : decode cX0_restore 22 = .ok (.aload_n 0, 1) := dk_42 (dk_at dksX0_restore_0 22 rfl rfl)
theorem dX0_restore_23 : decode cX0_restore 23 = .ok (.getfield 38, 3) := dk_180 0 38 (dk_at dksX0_restore_1 0 rfl rfl)
theorem dX0_restore_26 : decode cX0_restore 26 = .ok (.aload_n 0, 1) := dk_42 (dk_at dksX0_restore_1 3 rfl rfl)
theorem dX0_restore_27 : decode cX0_restore 27 = .ok (.getfield 45, 3) := dk_180 0 45 (dk_at dksX0_restore_1 4 rfl rfl)
theorem dX0_restore_30 : decode cX0_restore 30 = .ok (.iload_n 1, 1) := dk_27 (dk_at dksX0_restore_1 7 rfl rfl)
theorem dX0_restore_31 : decode cX0_restore 31 = .ok (.aaload, 1) := dk_50 (dk_at dksX0_restore_1 8 rfl rfl)
theorem dX0_restore_32 : decode cX0_restore 32 = .ok (.invokevirtual 163, 3) := dk_182 0 163 (dk_at dksX0_restore_1 9 rfl rfl)
theorem dX0_restore_35 : decode cX0_restore 35 = .ok (.iconst 1, 1) := dk_4 (dk_at dksX0_restore_1 12 rfl rfl)
theorem dX0_restore_36 : decode cX0_restore 36 = .ok (.ireturn, 1) := dk_172 (dk_at dksX0_restore_1 13 rfl rfl)
abbrev cX0_told : ByteArray := prog_1_method_67_code
def yX0_told : MethodName := ⟨RX0, "told", "(I)I"⟩
def dkwX0_told_2 : List UInt8 := [16, 10, 108, 4, 100, 27, 16, 10, 112, 182, 1, 81, 167, 0, 8, 42, 27, 182, 1, 84, 172]
abbrev dktX0_told_2 : List UInt8 := dkwX0_told_2 ++ []
def dkwX0_told_1 : List UInt8 := [16, 10, 112, 182, 1, 76, 172, 27, 133, 20, 1, 44, 20, 1, 79, 184, 0, 3, 153, 0, 20, 42, 27]
abbrev dktX0_told_1 : List UInt8 := dkwX0_told_1 ++ dktX0_told_2
def dkwX0_told_0 : List UInt8 := [27, 133, 20, 1, 72, 20, 1, 74, 184, 0, 3, 153, 0, 19, 42, 27, 16, 100, 100, 16, 10, 108, 27]
abbrev dktX0_told_0 : List UInt8 := dkwX0_told_0 ++ dktX0_told_1
theorem dksX0_told_0 : cX0_told.data.toList.drop 0 = dktX0_told_0 := by decide +kernel
theorem dksX0_told_1 : cX0_told.data.toList.drop 23 = dktX0_told_1 := dk_seg dksX0_told_0 23 rfl rfl
theorem dksX0_told_2 : cX0_told.data.toList.drop 46 = dktX0_told_2 := dk_seg dksX0_told_1 23 rfl rfl
theorem dX0_told_0 : decode cX0_told 0 = .ok (.iload_n 1, 1) := dk_27 (dk_at dksX0_told_0 0 rfl rfl)
theorem dX0_told_1 : decode cX0_told 1 = .ok (.i2l, 1) := dk_133 (dk_at dksX0_told_0 1 rfl rfl)
theorem dX0_told_2 : decode cX0_told 2 = .ok (.ldc2_w 328, 3) := dk_20 1 72 (dk_at dksX0_told_0 2 rfl rfl)
theorem dX0_told_5 : decode cX0_told 5 = .ok (.ldc2_w 330, 3) := dk_20 1 74 (dk_at dksX0_told_0 5 rfl rfl)
theorem dX0_told_8 : decode cX0_told 8 = .ok (.invokestatic 3, 3) := dk_184 0 3 (dk_at dksX0_told_0 8 rfl rfl)
theorem dX0_told_11 : decode cX0_told 11 = .ok (.ifCond .eq 19, 3) := dk_153 0 19 (dk_at dksX0_told_0 11 rfl rfl)
theorem dX0_told_14 : decode cX0_told 14 = .ok (.aload_n 0, 1) := dk_42 (dk_at dksX0_told_0 14 rfl rfl)
theorem dX0_told_15 : decode cX0_told 15 = .ok (.iload_n 1, 1) := dk_27 (dk_at dksX0_told_0 15 rfl rfl)
theorem dX0_told_16 : decode cX0_told 16 = .ok (.bipush 100, 2) := dk_16 100 (dk_at dksX0_told_0 16 rfl rfl)
theorem dX0_told_18 : decode cX0_told 18 = .ok (.isub, 1) := dk_100 (dk_at dksX0_told_0 18 rfl rfl)
theorem dX0_told_19 : decode cX0_told 19 = .ok (.bipush 10, 2) := dk_16 10 (dk_at dksX0_told_0 19 rfl rfl)
theorem dX0_told_21 : decode cX0_told 21 = .ok (.idiv, 1) := dk_108 (dk_at dksX0_told_0 21 rfl rfl)
theorem dX0_told_22 : decode cX0_told 22 = .ok (.iload_n 1, 1) := dk_27 (dk_at dksX0_told_0 22 rfl rfl)
theorem dX0_told_23 : decode cX0_told 23 = .ok (.bipush 10, 2) := dk_16 10 (dk_at dksX0_told_1 0 rfl rfl)
theorem dX0_told_25 : decode cX0_told 25 = .ok (.irem, 1) := dk_112 (dk_at dksX0_told_1 2 rfl rfl)
theorem dX0_told_26 : decode cX0_told 26 = .ok (.invokevirtual 332, 3) := dk_182 1 76 (dk_at dksX0_told_1 3 rfl rfl)
theorem dX0_told_29 : decode cX0_told 29 = .ok (.ireturn, 1) := dk_172 (dk_at dksX0_told_1 6 rfl rfl)
theorem dX0_told_30 : decode cX0_told 30 = .ok (.iload_n 1, 1) := dk_27 (dk_at dksX0_told_1 7 rfl rfl)
theorem dX0_told_31 : decode cX0_told 31 = .ok (.i2l, 1) := dk_133 (dk_at dksX0_told_1 8 rfl rfl)
theorem dX0_told_32 : decode cX0_told 32 = .ok (.ldc2_w 300, 3) := dk_20 1 44 (dk_at dksX0_told_1 9 rfl rfl)
theorem dX0_told_35 : decode cX0_told 35 = .ok (.ldc2_w 335, 3) := dk_20 1 79 (dk_at dksX0_told_1 12 rfl rfl)
theorem dX0_told_38 : decode cX0_told 38 = .ok (.invokestatic 3, 3) := dk_184 0 3 (dk_at dksX0_told_1 15 rfl rfl)
theorem dX0_told_41 : decode cX0_told 41 = .ok (.ifCond .eq 20, 3) := dk_153 0 20 (dk_at dksX0_told_1 18 rfl rfl)
theorem dX0_told_44 : decode cX0_told 44 = .ok (.aload_n 0, 1) := dk_42 (dk_at dksX0_told_1 21 rfl rfl)
theorem dX0_told_45 : decode cX0_told 45 = .ok (.iload_n 1, 1) := dk_27 (dk_at dksX0_told_1 22 rfl rfl)
theorem dX0_told_46 : decode cX0_told 46 = .ok (.bipush 10, 2) := dk_16 10 (dk_at dksX0_told_2 0 rfl rfl)
theorem dX0_told_48 : decode cX0_told 48 = .ok (.idiv, 1) := dk_108 (dk_at dksX0_told_2 2 rfl rfl)
theorem dX0_told_49 : decode cX0_told 49 = .ok (.iconst 1, 1) := dk_4 (dk_at dksX0_told_2 3 rfl rfl)
theorem dX0_told_50 : decode cX0_told 50 = .ok (.isub, 1) := dk_100 (dk_at dksX0_told_2 4 rfl rfl)
theorem dX0_told_51 : decode cX0_told 51 = .ok (.iload_n 1, 1) := dk_27 (dk_at dksX0_told_2 5 rfl rfl)
theorem dX0_told_52 : decode cX0_told 52 = .ok (.bipush 10, 2) := dk_16 10 (dk_at dksX0_told_2 6 rfl rfl)
theorem dX0_told_54 : decode cX0_told 54 = .ok (.irem, 1) := dk_112 (dk_at dksX0_told_2 8 rfl rfl)
theorem dX0_told_55 : decode cX0_told 55 = .ok (.invokevirtual 337, 3) := dk_182 1 81 (dk_at dksX0_told_2 9 rfl rfl)
theorem dX0_told_58 : decode cX0_told 58 = .ok (.goto 8, 3) := dk_167 0 8 (dk_at dksX0_told_2 12 rfl rfl)
theorem dX0_told_61 : decode cX0_told 61 = .ok (.aload_n 0, 1) := dk_42 (dk_at dksX0_told_2 15 rfl rfl)
theorem dX0_told_62 : decode cX0_told 62 = .ok (.iload_n 1, 1) := dk_27 (dk_at dksX0_told_2 16 rfl rfl)
theorem dX0_told_63 : decode cX0_told 63 = .ok (.invokevirtual 340, 3) := dk_182 1 84 (dk_at dksX0_told_2 17 rfl rfl)
theorem dX0_told_66 : decode cX0_told 66 = .ok (.ireturn, 1) := dk_172 (dk_at dksX0_told_2 20 rfl rfl)
abbrev cX0_toldOfGallery : ByteArray := prog_1_method_65_code
def yX0_toldOfGallery : MethodName := ⟨RX0, "toldOfGallery", "(II)I"⟩
def dkwX0_toldOfGallery_2 : List UInt8 := [46, 167, 0, 5, 16, 254, 172]
abbrev dktX0_toldOfGallery_2 : List UInt8 := dkwX0_toldOfGallery_2 ++ []
def dkwX0_toldOfGallery_1 : List UInt8 := [180, 0, 38, 180, 0, 209, 27, 46, 167, 0, 22, 28, 5, 160, 0, 15, 42, 180, 0, 38, 180, 0, 88, 27]
abbrev dktX0_toldOfGallery_1 : List UInt8 := dkwX0_toldOfGallery_1 ++ dktX0_toldOfGallery_2
def dkwX0_toldOfGallery_0 : List UInt8 := [28, 154, 0, 15, 42, 180, 0, 38, 180, 0, 100, 27, 46, 167, 0, 39, 28, 4, 160, 0, 15, 42]
abbrev dktX0_toldOfGallery_0 : List UInt8 := dkwX0_toldOfGallery_0 ++ dktX0_toldOfGallery_1
theorem dksX0_toldOfGallery_0 : cX0_toldOfGallery.data.toList.drop 0 = dktX0_toldOfGallery_0 := by decide +kernel
theorem dksX0_toldOfGallery_1 : cX0_toldOfGallery.data.toList.drop 22 = dktX0_toldOfGallery_1 := dk_seg dksX0_toldOfGallery_0 22 rfl rfl
theorem dksX0_toldOfGallery_2 : cX0_toldOfGallery.data.toList.drop 46 = dktX0_toldOfGallery_2 := dk_seg dksX0_toldOfGallery_1 24 rfl rfl
theorem dX0_toldOfGallery_0 : decode cX0_toldOfGallery 0 = .ok (.iload_n 2, 1) := dk_28 (dk_at dksX0_toldOfGallery_0 0 rfl rfl)
theorem dX0_toldOfGallery_1 : decode cX0_toldOfGallery 1 = .ok (.ifCond .ne 15, 3) := dk_154 0 15 (dk_at dksX0_toldOfGallery_0 1 rfl rfl)
theorem dX0_toldOfGallery_4 : decode cX0_toldOfGallery 4 = .ok (.aload_n 0, 1) := dk_42 (dk_at dksX0_toldOfGallery_0 4 rfl rfl)
theorem dX0_toldOfGallery_5 : decode cX0_toldOfGallery 5 = .ok (.getfield 38, 3) := dk_180 0 38 (dk_at dksX0_toldOfGallery_0 5 rfl rfl)
theorem dX0_toldOfGallery_8 : decode cX0_toldOfGallery 8 = .ok (.getfield 100, 3) := dk_180 0 100 (dk_at dksX0_toldOfGallery_0 8 rfl rfl)
theorem dX0_toldOfGallery_11 : decode cX0_toldOfGallery 11 = .ok (.iload_n 1, 1) := dk_27 (dk_at dksX0_toldOfGallery_0 11 rfl rfl)
theorem dX0_toldOfGallery_12 : decode cX0_toldOfGallery 12 = .ok (.iaload, 1) := dk_46 (dk_at dksX0_toldOfGallery_0 12 rfl rfl)
theorem dX0_toldOfGallery_13 : decode cX0_toldOfGallery 13 = .ok (.goto 39, 3) := dk_167 0 39 (dk_at dksX0_toldOfGallery_0 13 rfl rfl)
theorem dX0_toldOfGallery_16 : decode cX0_toldOfGallery 16 = .ok (.iload_n 2, 1) := dk_28 (dk_at dksX0_toldOfGallery_0 16 rfl rfl)
theorem dX0_toldOfGallery_17 : decode cX0_toldOfGallery 17 = .ok (.iconst 1, 1) := dk_4 (dk_at dksX0_toldOfGallery_0 17 rfl rfl)
theorem dX0_toldOfGallery_18 : decode cX0_toldOfGallery 18 = .ok (.if_icmp .ne 15, 3) := dk_160 0 15 (dk_at dksX0_toldOfGallery_0 18 rfl rfl)
theorem dX0_toldOfGallery_21 : decode cX0_toldOfGallery 21 = .ok (.aload_n 0, 1) := dk_42 (dk_at dksX0_toldOfGallery_0 21 rfl rfl)
theorem dX0_toldOfGallery_22 : decode cX0_toldOfGallery 22 = .ok (.getfield 38, 3) := dk_180 0 38 (dk_at dksX0_toldOfGallery_1 0 rfl rfl)
theorem dX0_toldOfGallery_25 : decode cX0_toldOfGallery 25 = .ok (.getfield 209, 3) := dk_180 0 209 (dk_at dksX0_toldOfGallery_1 3 rfl rfl)
theorem dX0_toldOfGallery_28 : decode cX0_toldOfGallery 28 = .ok (.iload_n 1, 1) := dk_27 (dk_at dksX0_toldOfGallery_1 6 rfl rfl)
theorem dX0_toldOfGallery_29 : decode cX0_toldOfGallery 29 = .ok (.iaload, 1) := dk_46 (dk_at dksX0_toldOfGallery_1 7 rfl rfl)
theorem dX0_toldOfGallery_30 : decode cX0_toldOfGallery 30 = .ok (.goto 22, 3) := dk_167 0 22 (dk_at dksX0_toldOfGallery_1 8 rfl rfl)
theorem dX0_toldOfGallery_33 : decode cX0_toldOfGallery 33 = .ok (.iload_n 2, 1) := dk_28 (dk_at dksX0_toldOfGallery_1 11 rfl rfl)
theorem dX0_toldOfGallery_34 : decode cX0_toldOfGallery 34 = .ok (.iconst 2, 1) := dk_5 (dk_at dksX0_toldOfGallery_1 12 rfl rfl)
theorem dX0_toldOfGallery_35 : decode cX0_toldOfGallery 35 = .ok (.if_icmp .ne 15, 3) := dk_160 0 15 (dk_at dksX0_toldOfGallery_1 13 rfl rfl)
theorem dX0_toldOfGallery_38 : decode cX0_toldOfGallery 38 = .ok (.aload_n 0, 1) := dk_42 (dk_at dksX0_toldOfGallery_1 16 rfl rfl)
theorem dX0_toldOfGallery_39 : decode cX0_toldOfGallery 39 = .ok (.getfield 38, 3) := dk_180 0 38 (dk_at dksX0_toldOfGallery_1 17 rfl rfl)
theorem dX0_toldOfGallery_42 : decode cX0_toldOfGallery 42 = .ok (.getfield 88, 3) := dk_180 0 88 (dk_at dksX0_toldOfGallery_1 20 rfl rfl)
theorem dX0_toldOfGallery_45 : decode cX0_toldOfGallery 45 = .ok (.iload_n 1, 1) := dk_27 (dk_at dksX0_toldOfGallery_1 23 rfl rfl)
theorem dX0_toldOfGallery_46 : decode cX0_toldOfGallery 46 = .ok (.iaload, 1) := dk_46 (dk_at dksX0_toldOfGallery_2 0 rfl rfl)
theorem dX0_toldOfGallery_47 : decode cX0_toldOfGallery 47 = .ok (.goto 5, 3) := dk_167 0 5 (dk_at dksX0_toldOfGallery_2 1 rfl rfl)
theorem dX0_toldOfGallery_50 : decode cX0_toldOfGallery 50 = .ok (.bipush (-2), 2) := dk_16 254 (dk_at dksX0_toldOfGallery_2 4 rfl rfl)
theorem dX0_toldOfGallery_52 : decode cX0_toldOfGallery 52 = .ok (.ireturn, 1) := dk_172 (dk_at dksX0_toldOfGallery_2 6 rfl rfl)
abbrev cX0_toldOfVoice : ByteArray := prog_1_method_64_code
def yX0_toldOfVoice : MethodName := ⟨RX0, "toldOfVoice", "(II)I"⟩
def dkwX0_toldOfVoice_4 : List UInt8 := [46, 172, 42, 180, 0, 38, 180, 0, 130, 27, 46, 172, 16, 254, 172]
abbrev dktX0_toldOfVoice_4 : List UInt8 := dkwX0_toldOfVoice_4 ++ []
def dkwX0_toldOfVoice_3 : List UInt8 := [180, 0, 124, 27, 46, 172, 42, 180, 0, 38, 180, 0, 121, 27, 46, 172, 42, 180, 0, 38, 180, 0, 127, 27]
abbrev dktX0_toldOfVoice_3 : List UInt8 := dkwX0_toldOfVoice_3 ++ dktX0_toldOfVoice_4
def dkwX0_toldOfVoice_2 : List UInt8 := [42, 180, 0, 38, 180, 0, 115, 27, 46, 172, 42, 180, 0, 38, 180, 0, 118, 27, 46, 172, 42, 180, 0, 38]
abbrev dktX0_toldOfVoice_2 : List UInt8 := dkwX0_toldOfVoice_2 ++ dktX0_toldOfVoice_3
def dkwX0_toldOfVoice_1 : List UInt8 := [170, 0, 0, 0, 0, 0, 0, 100, 0, 0, 0, 0, 0, 0, 0, 5, 0, 0, 0, 40, 0, 0, 0, 50, 0, 0, 0, 60, 0, 0, 0, 70, 0, 0, 0, 80, 0, 0, 0, 90]
abbrev dktX0_toldOfVoice_1 : List UInt8 := dkwX0_toldOfVoice_1 ++ dktX0_toldOfVoice_2
def dkwX0_toldOfVoice_0 : List UInt8 := [42, 27, 182, 0, 133, 154, 0, 6, 16, 254, 172, 28]
abbrev dktX0_toldOfVoice_0 : List UInt8 := dkwX0_toldOfVoice_0 ++ dktX0_toldOfVoice_1
theorem dksX0_toldOfVoice_0 : cX0_toldOfVoice.data.toList.drop 0 = dktX0_toldOfVoice_0 := by decide +kernel
theorem dksX0_toldOfVoice_1 : cX0_toldOfVoice.data.toList.drop 12 = dktX0_toldOfVoice_1 := dk_seg dksX0_toldOfVoice_0 12 rfl rfl
theorem dksX0_toldOfVoice_2 : cX0_toldOfVoice.data.toList.drop 52 = dktX0_toldOfVoice_2 := dk_seg dksX0_toldOfVoice_1 40 rfl rfl
theorem dksX0_toldOfVoice_3 : cX0_toldOfVoice.data.toList.drop 76 = dktX0_toldOfVoice_3 := dk_seg dksX0_toldOfVoice_2 24 rfl rfl
theorem dksX0_toldOfVoice_4 : cX0_toldOfVoice.data.toList.drop 100 = dktX0_toldOfVoice_4 := dk_seg dksX0_toldOfVoice_3 24 rfl rfl
theorem dX0_toldOfVoice_0 : decode cX0_toldOfVoice 0 = .ok (.aload_n 0, 1) := dk_42 (dk_at dksX0_toldOfVoice_0 0 rfl rfl)
theorem dX0_toldOfVoice_1 : decode cX0_toldOfVoice 1 = .ok (.iload_n 1, 1) := dk_27 (dk_at dksX0_toldOfVoice_0 1 rfl rfl)
theorem dX0_toldOfVoice_2 : decode cX0_toldOfVoice 2 = .ok (.invokevirtual 133, 3) := dk_182 0 133 (dk_at dksX0_toldOfVoice_0 2 rfl rfl)
theorem dX0_toldOfVoice_5 : decode cX0_toldOfVoice 5 = .ok (.ifCond .ne 6, 3) := dk_154 0 6 (dk_at dksX0_toldOfVoice_0 5 rfl rfl)
theorem dX0_toldOfVoice_8 : decode cX0_toldOfVoice 8 = .ok (.bipush (-2), 2) := dk_16 254 (dk_at dksX0_toldOfVoice_0 8 rfl rfl)
theorem dX0_toldOfVoice_10 : decode cX0_toldOfVoice 10 = .ok (.ireturn, 1) := dk_172 (dk_at dksX0_toldOfVoice_0 10 rfl rfl)
theorem dX0_toldOfVoice_11 : decode cX0_toldOfVoice 11 = .ok (.iload_n 2, 1) := dk_28 (dk_at dksX0_toldOfVoice_0 11 rfl rfl)
theorem dX0_toldOfVoice_12 : decode cX0_toldOfVoice 12 = .ok (.tableswitch 100 0 5 #[40, 50, 60, 70, 80, 90], 40) := by decide +kernel
theorem dX0_toldOfVoice_52 : decode cX0_toldOfVoice 52 = .ok (.aload_n 0, 1) := dk_42 (dk_at dksX0_toldOfVoice_2 0 rfl rfl)
theorem dX0_toldOfVoice_53 : decode cX0_toldOfVoice 53 = .ok (.getfield 38, 3) := dk_180 0 38 (dk_at dksX0_toldOfVoice_2 1 rfl rfl)
theorem dX0_toldOfVoice_56 : decode cX0_toldOfVoice 56 = .ok (.getfield 115, 3) := dk_180 0 115 (dk_at dksX0_toldOfVoice_2 4 rfl rfl)
theorem dX0_toldOfVoice_59 : decode cX0_toldOfVoice 59 = .ok (.iload_n 1, 1) := dk_27 (dk_at dksX0_toldOfVoice_2 7 rfl rfl)
theorem dX0_toldOfVoice_60 : decode cX0_toldOfVoice 60 = .ok (.iaload, 1) := dk_46 (dk_at dksX0_toldOfVoice_2 8 rfl rfl)
theorem dX0_toldOfVoice_61 : decode cX0_toldOfVoice 61 = .ok (.ireturn, 1) := dk_172 (dk_at dksX0_toldOfVoice_2 9 rfl rfl)
theorem dX0_toldOfVoice_62 : decode cX0_toldOfVoice 62 = .ok (.aload_n 0, 1) := dk_42 (dk_at dksX0_toldOfVoice_2 10 rfl rfl)
theorem dX0_toldOfVoice_63 : decode cX0_toldOfVoice 63 = .ok (.getfield 38, 3) := dk_180 0 38 (dk_at dksX0_toldOfVoice_2 11 rfl rfl)
theorem dX0_toldOfVoice_66 : decode cX0_toldOfVoice 66 = .ok (.getfield 118, 3) := dk_180 0 118 (dk_at dksX0_toldOfVoice_2 14 rfl rfl)
theorem dX0_toldOfVoice_69 : decode cX0_toldOfVoice 69 = .ok (.iload_n 1, 1) := dk_27 (dk_at dksX0_toldOfVoice_2 17 rfl rfl)
theorem dX0_toldOfVoice_70 : decode cX0_toldOfVoice 70 = .ok (.iaload, 1) := dk_46 (dk_at dksX0_toldOfVoice_2 18 rfl rfl)
theorem dX0_toldOfVoice_71 : decode cX0_toldOfVoice 71 = .ok (.ireturn, 1) := dk_172 (dk_at dksX0_toldOfVoice_2 19 rfl rfl)
theorem dX0_toldOfVoice_72 : decode cX0_toldOfVoice 72 = .ok (.aload_n 0, 1) := dk_42 (dk_at dksX0_toldOfVoice_2 20 rfl rfl)
theorem dX0_toldOfVoice_73 : decode cX0_toldOfVoice 73 = .ok (.getfield 38, 3) := dk_180 0 38 (dk_at dksX0_toldOfVoice_2 21 rfl rfl)
theorem dX0_toldOfVoice_76 : decode cX0_toldOfVoice 76 = .ok (.getfield 124, 3) := dk_180 0 124 (dk_at dksX0_toldOfVoice_3 0 rfl rfl)
theorem dX0_toldOfVoice_79 : decode cX0_toldOfVoice 79 = .ok (.iload_n 1, 1) := dk_27 (dk_at dksX0_toldOfVoice_3 3 rfl rfl)
theorem dX0_toldOfVoice_80 : decode cX0_toldOfVoice 80 = .ok (.iaload, 1) := dk_46 (dk_at dksX0_toldOfVoice_3 4 rfl rfl)
theorem dX0_toldOfVoice_81 : decode cX0_toldOfVoice 81 = .ok (.ireturn, 1) := dk_172 (dk_at dksX0_toldOfVoice_3 5 rfl rfl)
theorem dX0_toldOfVoice_82 : decode cX0_toldOfVoice 82 = .ok (.aload_n 0, 1) := dk_42 (dk_at dksX0_toldOfVoice_3 6 rfl rfl)
theorem dX0_toldOfVoice_83 : decode cX0_toldOfVoice 83 = .ok (.getfield 38, 3) := dk_180 0 38 (dk_at dksX0_toldOfVoice_3 7 rfl rfl)
theorem dX0_toldOfVoice_86 : decode cX0_toldOfVoice 86 = .ok (.getfield 121, 3) := dk_180 0 121 (dk_at dksX0_toldOfVoice_3 10 rfl rfl)
theorem dX0_toldOfVoice_89 : decode cX0_toldOfVoice 89 = .ok (.iload_n 1, 1) := dk_27 (dk_at dksX0_toldOfVoice_3 13 rfl rfl)
theorem dX0_toldOfVoice_90 : decode cX0_toldOfVoice 90 = .ok (.iaload, 1) := dk_46 (dk_at dksX0_toldOfVoice_3 14 rfl rfl)
theorem dX0_toldOfVoice_91 : decode cX0_toldOfVoice 91 = .ok (.ireturn, 1) := dk_172 (dk_at dksX0_toldOfVoice_3 15 rfl rfl)
theorem dX0_toldOfVoice_92 : decode cX0_toldOfVoice 92 = .ok (.aload_n 0, 1) := dk_42 (dk_at dksX0_toldOfVoice_3 16 rfl rfl)
theorem dX0_toldOfVoice_93 : decode cX0_toldOfVoice 93 = .ok (.getfield 38, 3) := dk_180 0 38 (dk_at dksX0_toldOfVoice_3 17 rfl rfl)
theorem dX0_toldOfVoice_96 : decode cX0_toldOfVoice 96 = .ok (.getfield 127, 3) := dk_180 0 127 (dk_at dksX0_toldOfVoice_3 20 rfl rfl)
theorem dX0_toldOfVoice_99 : decode cX0_toldOfVoice 99 = .ok (.iload_n 1, 1) := dk_27 (dk_at dksX0_toldOfVoice_3 23 rfl rfl)
theorem dX0_toldOfVoice_100 : decode cX0_toldOfVoice 100 = .ok (.iaload, 1) := dk_46 (dk_at dksX0_toldOfVoice_4 0 rfl rfl)
theorem dX0_toldOfVoice_101 : decode cX0_toldOfVoice 101 = .ok (.ireturn, 1) := dk_172 (dk_at dksX0_toldOfVoice_4 1 rfl rfl)
theorem dX0_toldOfVoice_102 : decode cX0_toldOfVoice 102 = .ok (.aload_n 0, 1) := dk_42 (dk_at dksX0_toldOfVoice_4 2 rfl rfl)
theorem dX0_toldOfVoice_103 : decode cX0_toldOfVoice 103 = .ok (.getfield 38, 3) := dk_180 0 38 (dk_at dksX0_toldOfVoice_4 3 rfl rfl)
theorem dX0_toldOfVoice_106 : decode cX0_toldOfVoice 106 = .ok (.getfield 130, 3) := dk_180 0 130 (dk_at dksX0_toldOfVoice_4 6 rfl rfl)
theorem dX0_toldOfVoice_109 : decode cX0_toldOfVoice 109 = .ok (.iload_n 1, 1) := dk_27 (dk_at dksX0_toldOfVoice_4 9 rfl rfl)
theorem dX0_toldOfVoice_110 : decode cX0_toldOfVoice 110 = .ok (.iaload, 1) := dk_46 (dk_at dksX0_toldOfVoice_4 10 rfl rfl)
theorem dX0_toldOfVoice_111 : decode cX0_toldOfVoice 111 = .ok (.ireturn, 1) := dk_172 (dk_at dksX0_toldOfVoice_4 11 rfl rfl)
theorem dX0_toldOfVoice_112 : decode cX0_toldOfVoice 112 = .ok (.bipush (-2), 2) := dk_16 254 (dk_at dksX0_toldOfVoice_4 12 rfl rfl)
theorem dX0_toldOfVoice_114 : decode cX0_toldOfVoice 114 = .ok (.ireturn, 1) := dk_172 (dk_at dksX0_toldOfVoice_4 14 rfl rfl)
abbrev cX0_toldOfAll : ByteArray := prog_1_method_66_code
def yX0_toldOfAll : MethodName := ⟨RX0, "toldOfAll", "(I)I"⟩
def dkwX0_toldOfAll_4 : List UInt8 := [180, 0, 38, 180, 1, 21, 172, 16, 254, 172]
abbrev dktX0_toldOfAll_4 : List UInt8 := dkwX0_toldOfAll_4 ++ []
def dkwX0_toldOfAll_3 : List UInt8 := [180, 0, 38, 180, 0, 212, 172, 42, 180, 0, 38, 180, 0, 225, 172, 42, 180, 0, 38, 180, 0, 103, 172, 42]
abbrev dktX0_toldOfAll_3 : List UInt8 := dkwX0_toldOfAll_3 ++ dktX0_toldOfAll_4
def dkwX0_toldOfAll_2 : List UInt8 := [42, 180, 0, 140, 172, 42, 180, 0, 38, 180, 0, 112, 172, 42, 180, 0, 38, 182, 0, 180, 172, 42]
abbrev dktX0_toldOfAll_2 : List UInt8 := dkwX0_toldOfAll_2 ++ dktX0_toldOfAll_3
def dkwX0_toldOfAll_1 : List UInt8 := [170, 0, 0, 0, 0, 0, 96, 0, 0, 0, 0, 0, 0, 0, 6, 0, 0, 0, 43, 0, 0, 0, 48, 0, 0, 0, 56, 0, 0, 0, 64, 0, 0, 0, 72, 0, 0, 0, 80, 0, 0, 0, 88]
abbrev dktX0_toldOfAll_1 : List UInt8 := dkwX0_toldOfAll_1 ++ dktX0_toldOfAll_2
def dkwX0_toldOfAll_0 : List UInt8 := [27]
abbrev dktX0_toldOfAll_0 : List UInt8 := dkwX0_toldOfAll_0 ++ dktX0_toldOfAll_1
theorem dksX0_toldOfAll_0 : cX0_toldOfAll.data.toList.drop 0 = dktX0_toldOfAll_0 := by decide +kernel
theorem dksX0_toldOfAll_1 : cX0_toldOfAll.data.toList.drop 1 = dktX0_toldOfAll_1 := dk_seg dksX0_toldOfAll_0 1 rfl rfl
theorem dksX0_toldOfAll_2 : cX0_toldOfAll.data.toList.drop 44 = dktX0_toldOfAll_2 := dk_seg dksX0_toldOfAll_1 43 rfl rfl
theorem dksX0_toldOfAll_3 : cX0_toldOfAll.data.toList.drop 66 = dktX0_toldOfAll_3 := dk_seg dksX0_toldOfAll_2 22 rfl rfl
theorem dksX0_toldOfAll_4 : cX0_toldOfAll.data.toList.drop 90 = dktX0_toldOfAll_4 := dk_seg dksX0_toldOfAll_3 24 rfl rfl
theorem dX0_toldOfAll_0 : decode cX0_toldOfAll 0 = .ok (.iload_n 1, 1) := dk_27 (dk_at dksX0_toldOfAll_0 0 rfl rfl)
theorem dX0_toldOfAll_1 : decode cX0_toldOfAll 1 = .ok (.tableswitch 96 0 6 #[43, 48, 56, 64, 72, 80, 88], 43) := by decide +kernel
theorem dX0_toldOfAll_44 : decode cX0_toldOfAll 44 = .ok (.aload_n 0, 1) := dk_42 (dk_at dksX0_toldOfAll_2 0 rfl rfl)
theorem dX0_toldOfAll_45 : decode cX0_toldOfAll 45 = .ok (.getfield 140, 3) := dk_180 0 140 (dk_at dksX0_toldOfAll_2 1 rfl rfl)
theorem dX0_toldOfAll_48 : decode cX0_toldOfAll 48 = .ok (.ireturn, 1) := dk_172 (dk_at dksX0_toldOfAll_2 4 rfl rfl)
theorem dX0_toldOfAll_49 : decode cX0_toldOfAll 49 = .ok (.aload_n 0, 1) := dk_42 (dk_at dksX0_toldOfAll_2 5 rfl rfl)
theorem dX0_toldOfAll_50 : decode cX0_toldOfAll 50 = .ok (.getfield 38, 3) := dk_180 0 38 (dk_at dksX0_toldOfAll_2 6 rfl rfl)
theorem dX0_toldOfAll_53 : decode cX0_toldOfAll 53 = .ok (.getfield 112, 3) := dk_180 0 112 (dk_at dksX0_toldOfAll_2 9 rfl rfl)
theorem dX0_toldOfAll_56 : decode cX0_toldOfAll 56 = .ok (.ireturn, 1) := dk_172 (dk_at dksX0_toldOfAll_2 12 rfl rfl)
theorem dX0_toldOfAll_57 : decode cX0_toldOfAll 57 = .ok (.aload_n 0, 1) := dk_42 (dk_at dksX0_toldOfAll_2 13 rfl rfl)
theorem dX0_toldOfAll_58 : decode cX0_toldOfAll 58 = .ok (.getfield 38, 3) := dk_180 0 38 (dk_at dksX0_toldOfAll_2 14 rfl rfl)
theorem dX0_toldOfAll_61 : decode cX0_toldOfAll 61 = .ok (.invokevirtual 180, 3) := dk_182 0 180 (dk_at dksX0_toldOfAll_2 17 rfl rfl)
theorem dX0_toldOfAll_64 : decode cX0_toldOfAll 64 = .ok (.ireturn, 1) := dk_172 (dk_at dksX0_toldOfAll_2 20 rfl rfl)
theorem dX0_toldOfAll_65 : decode cX0_toldOfAll 65 = .ok (.aload_n 0, 1) := dk_42 (dk_at dksX0_toldOfAll_2 21 rfl rfl)
theorem dX0_toldOfAll_66 : decode cX0_toldOfAll 66 = .ok (.getfield 38, 3) := dk_180 0 38 (dk_at dksX0_toldOfAll_3 0 rfl rfl)
theorem dX0_toldOfAll_69 : decode cX0_toldOfAll 69 = .ok (.getfield 212, 3) := dk_180 0 212 (dk_at dksX0_toldOfAll_3 3 rfl rfl)
theorem dX0_toldOfAll_72 : decode cX0_toldOfAll 72 = .ok (.ireturn, 1) := dk_172 (dk_at dksX0_toldOfAll_3 6 rfl rfl)
theorem dX0_toldOfAll_73 : decode cX0_toldOfAll 73 = .ok (.aload_n 0, 1) := dk_42 (dk_at dksX0_toldOfAll_3 7 rfl rfl)
theorem dX0_toldOfAll_74 : decode cX0_toldOfAll 74 = .ok (.getfield 38, 3) := dk_180 0 38 (dk_at dksX0_toldOfAll_3 8 rfl rfl)
theorem dX0_toldOfAll_77 : decode cX0_toldOfAll 77 = .ok (.getfield 225, 3) := dk_180 0 225 (dk_at dksX0_toldOfAll_3 11 rfl rfl)
theorem dX0_toldOfAll_80 : decode cX0_toldOfAll 80 = .ok (.ireturn, 1) := dk_172 (dk_at dksX0_toldOfAll_3 14 rfl rfl)
theorem dX0_toldOfAll_81 : decode cX0_toldOfAll 81 = .ok (.aload_n 0, 1) := dk_42 (dk_at dksX0_toldOfAll_3 15 rfl rfl)
theorem dX0_toldOfAll_82 : decode cX0_toldOfAll 82 = .ok (.getfield 38, 3) := dk_180 0 38 (dk_at dksX0_toldOfAll_3 16 rfl rfl)
theorem dX0_toldOfAll_85 : decode cX0_toldOfAll 85 = .ok (.getfield 103, 3) := dk_180 0 103 (dk_at dksX0_toldOfAll_3 19 rfl rfl)
theorem dX0_toldOfAll_88 : decode cX0_toldOfAll 88 = .ok (.ireturn, 1) := dk_172 (dk_at dksX0_toldOfAll_3 22 rfl rfl)
theorem dX0_toldOfAll_89 : decode cX0_toldOfAll 89 = .ok (.aload_n 0, 1) := dk_42 (dk_at dksX0_toldOfAll_3 23 rfl rfl)
theorem dX0_toldOfAll_90 : decode cX0_toldOfAll 90 = .ok (.getfield 38, 3) := dk_180 0 38 (dk_at dksX0_toldOfAll_4 0 rfl rfl)
theorem dX0_toldOfAll_93 : decode cX0_toldOfAll 93 = .ok (.getfield 277, 3) := dk_180 1 21 (dk_at dksX0_toldOfAll_4 3 rfl rfl)
theorem dX0_toldOfAll_96 : decode cX0_toldOfAll 96 = .ok (.ireturn, 1) := dk_172 (dk_at dksX0_toldOfAll_4 6 rfl rfl)
theorem dX0_toldOfAll_97 : decode cX0_toldOfAll 97 = .ok (.bipush (-2), 2) := dk_16 254 (dk_at dksX0_toldOfAll_4 7 rfl rfl)
theorem dX0_toldOfAll_99 : decode cX0_toldOfAll 99 = .ok (.ireturn, 1) := dk_172 (dk_at dksX0_toldOfAll_4 9 rfl rfl)
theorem q51 : (Jvm.Cond.initialized "SongLamps") ∈ lw_all := lw_g (lw_at lw_m1 1 rfl) rfl
theorem q58 : (Jvm.Cond.instantiable "SongLamps" (18 : Nat)) ∈ lw_all := lw_g (lw_at lw_m1 8 rfl) rfl
theorem q60 : (Jvm.Cond.instanceMethod ({ cls := "SongLamps", name := "<init>", desc := "()V" } : Jvm.MethodName)) ∈ lw_all := lw_g (lw_at lw_m1 10 rfl) rfl
theorem q61 : (Jvm.Cond.code ({ cls := "SongLamps", name := "<init>", desc := "()V" } : Jvm.MethodName) prog_1_method_11_code (1 : Nat) (Option.none : Option Jvm.ClassFile.FieldType)) ∈ lw_all := lw_g (lw_at lw_m1 11 rfl) rfl
theorem q62 : (Jvm.Cond.methodLink "SongLamps" (29 : Nat) ({ cls := "java/lang/Object", name := "<init>", desc := "()V" } : Jvm.MethodName)) ∈ lw_all := lw_g (lw_at lw_m1 12 rfl) rfl
theorem q65 : (Jvm.Cond.classLink "SongLamps" (35 : Nat) "SongLamps$Mine") ∈ lw_all := lw_g (lw_at lw_m1 15 rfl) rfl
theorem q67 : (Jvm.Cond.methodLink "SongLamps" (37 : Nat) ({ cls := "SongLamps$Mine", name := "<init>", desc := "()V" } : Jvm.MethodName)) ∈ lw_all := lw_g (lw_at lw_m1 17 rfl) rfl
theorem q72 : (Jvm.Cond.static ({ cls := "SongLamps", name := "fill", desc := "([II)V" } : Jvm.MethodName)) ∈ lw_all := lw_g (lw_at lw_m1 22 rfl) rfl
theorem q73 : (Jvm.Cond.code ({ cls := "SongLamps", name := "fill", desc := "([II)V" } : Jvm.MethodName) prog_1_method_10_code (3 : Nat) (Option.none : Option Jvm.ClassFile.FieldType)) ∈ lw_all := lw_g (lw_at lw_m1 23 rfl) rfl
theorem q75 : (Jvm.Cond.fieldLinkNest "SongLamps" (88 : Nat) "SongLamps$Mine" "passages" "[I" "SongLamps") ∈ lw_tbl := lw_at lw_m1 25 rfl
theorem q77 : (Jvm.Cond.fieldLinkNest "SongLamps" (100 : Nat) "SongLamps$Mine" "echo" "[I" "SongLamps") ∈ lw_tbl := lw_at lw_m1 27 rfl
theorem q79 : (Jvm.Cond.fieldLinkNest "SongLamps" (209 : Nat) "SongLamps$Mine" "coal" "[I" "SongLamps") ∈ lw_tbl := lw_at lw_m1 29 rfl
theorem q81 : (Jvm.Cond.fieldLinkNest "SongLamps" (103 : Nat) "SongLamps$Mine" "gas" "I" "SongLamps") ∈ lw_tbl := lw_at lw_m1 31 rfl
theorem q83 : (Jvm.Cond.fieldLinkNest "SongLamps" (225 : Nat) "SongLamps$Mine" "closed" "I" "SongLamps") ∈ lw_tbl := lw_at lw_m1 33 rfl
theorem q85 : (Jvm.Cond.fieldLinkNest "SongLamps" (112 : Nat) "SongLamps$Mine" "present" "I" "SongLamps") ∈ lw_tbl := lw_at lw_m1 35 rfl
theorem q87 : (Jvm.Cond.fieldLinkNest "SongLamps" (115 : Nat) "SongLamps$Mine" "low" "[I" "SongLamps") ∈ lw_tbl := lw_at lw_m1 37 rfl
theorem q89 : (Jvm.Cond.fieldLinkNest "SongLamps" (118 : Nat) "SongLamps$Mine" "high" "[I" "SongLamps") ∈ lw_tbl := lw_at lw_m1 39 rfl
theorem q91 : (Jvm.Cond.fieldLinkNest "SongLamps" (121 : Nat) "SongLamps$Mine" "lungs" "[I" "SongLamps") ∈ lw_tbl := lw_at lw_m1 41 rfl
theorem q93 : (Jvm.Cond.fieldLinkNest "SongLamps" (124 : Nat) "SongLamps$Mine" "breath" "[I" "SongLamps") ∈ lw_tbl := lw_at lw_m1 43 rfl
theorem q95 : (Jvm.Cond.fieldLinkNest "SongLamps" (127 : Nat) "SongLamps$Mine" "place" "[I" "SongLamps") ∈ lw_tbl := lw_at lw_m1 45 rfl
theorem q97 : (Jvm.Cond.fieldLinkNest "SongLamps" (130 : Nat) "SongLamps$Mine" "note" "[I" "SongLamps") ∈ lw_tbl := lw_at lw_m1 47 rfl
theorem q99 : (Jvm.Cond.fieldLinkNest "SongLamps" (212 : Nat) "SongLamps$Mine" "beat" "I" "SongLamps") ∈ lw_tbl := lw_at lw_m1 49 rfl
theorem q101 : (Jvm.Cond.fieldLinkNest "SongLamps" (280 : Nat) "SongLamps$Mine" "sightGallery" "[I" "SongLamps") ∈ lw_tbl := lw_at lw_m1 51 rfl
theorem q103 : (Jvm.Cond.fieldLinkNest "SongLamps" (283 : Nat) "SongLamps$Mine" "sightNote" "[I" "SongLamps") ∈ lw_tbl := lw_at lw_m1 53 rfl
theorem q105 : (Jvm.Cond.fieldLinkNest "SongLamps" (277 : Nat) "SongLamps$Mine" "sights" "I" "SongLamps") ∈ lw_tbl := lw_at lw_m1 55 rfl
theorem q144 : (Jvm.Cond.fieldLink "SongLamps" (38 : Nat) "SongLamps" "mine" "LSongLamps$Mine;") ∈ lw_all := lw_g (lw_at lw_m1 94 rfl) rfl
theorem q145 : (Jvm.Cond.fieldLink "SongLamps" (42 : Nat) "SongLamps" "trial" "LSongLamps$Mine;") ∈ lw_all := lw_g (lw_at lw_m1 95 rfl) rfl
theorem q146 : (Jvm.Cond.fieldLink "SongLamps" (45 : Nat) "SongLamps" "images" "[LSongLamps$Mine;") ∈ lw_all := lw_g (lw_at lw_m1 96 rfl) rfl
theorem q147 : (Jvm.Cond.fieldLink "SongLamps" (49 : Nat) "SongLamps" "sign" "[C") ∈ lw_all := lw_g (lw_at lw_m1 97 rfl) rfl
theorem q148 : (Jvm.Cond.fieldLink "SongLamps" (140 : Nat) "SongLamps" "signMany" "I") ∈ lw_all := lw_g (lw_at lw_m1 98 rfl) rfl
theorem q149 : (Jvm.Cond.fieldLink "SongLamps" (53 : Nat) "SongLamps" "act" "[I") ∈ lw_all := lw_g (lw_at lw_m1 99 rfl) rfl
theorem q150 : (Jvm.Cond.fieldLink "SongLamps" (57 : Nat) "SongLamps" "who" "[I") ∈ lw_all := lw_g (lw_at lw_m1 100 rfl) rfl
theorem q151 : (Jvm.Cond.fieldLink "SongLamps" (60 : Nat) "SongLamps" "what" "[I") ∈ lw_all := lw_g (lw_at lw_m1 101 rfl) rfl
theorem q152 : (Jvm.Cond.fieldLink "SongLamps" (143 : Nat) "SongLamps" "actMany" "I") ∈ lw_all := lw_g (lw_at lw_m1 102 rfl) rfl
theorem q153 : (Jvm.Cond.fieldLink "SongLamps" (146 : Nat) "SongLamps" "due" "I") ∈ lw_all := lw_g (lw_at lw_m1 103 rfl) rfl
theorem q154 : (Jvm.Cond.fieldLink "SongLamps" (167 : Nat) "SongLamps" "badWhy" "I") ∈ lw_all := lw_g (lw_at lw_m1 104 rfl) rfl
theorem q155 : (Jvm.Cond.fieldLink "SongLamps" (170 : Nat) "SongLamps" "darkAct" "I") ∈ lw_all := lw_g (lw_at lw_m1 105 rfl) rfl
theorem q156 : (Jvm.Cond.fieldLink "SongLamps" (173 : Nat) "SongLamps" "darkGallery" "I") ∈ lw_all := lw_g (lw_at lw_m1 106 rfl) rfl
theorem q157 : (Jvm.Cond.fieldLink "SongLamps" (63 : Nat) "SongLamps" "lasts" "[I") ∈ lw_all := lw_g (lw_at lw_m1 107 rfl) rfl
theorem q158 : (Jvm.Cond.fieldLink "SongLamps" (66 : Nat) "SongLamps" "song" "[I") ∈ lw_all := lw_g (lw_at lw_m1 108 rfl) rfl
theorem q159 : (Jvm.Cond.fieldLink "SongLamps" (69 : Nat) "SongLamps" "rest" "[I") ∈ lw_all := lw_g (lw_at lw_m1 109 rfl) rfl
theorem q160 : (Jvm.Cond.fieldLink "SongLamps" (72 : Nat) "SongLamps" "far" "[I") ∈ lw_all := lw_g (lw_at lw_m1 110 rfl) rfl
theorem q161 : (Jvm.Cond.fieldLink "SongLamps" (75 : Nat) "SongLamps" "manyBy" "[I") ∈ lw_all := lw_g (lw_at lw_m1 111 rfl) rfl
theorem q162 : (Jvm.Cond.laysFinal "SongLamps" "SongLamps" "mine" "LSongLamps$Mine;") ∈ lw_all := lw_g (lw_at lw_m1 112 rfl) rfl
theorem q163 : (Jvm.Cond.soleField "SongLamps" "mine") ∈ lw_all := lw_g (lw_at lw_m1 113 rfl) rfl
theorem q164 : (Jvm.Cond.laysFinal "SongLamps" "SongLamps" "trial" "LSongLamps$Mine;") ∈ lw_all := lw_g (lw_at lw_m1 114 rfl) rfl
theorem q165 : (Jvm.Cond.soleField "SongLamps" "trial") ∈ lw_all := lw_g (lw_at lw_m1 115 rfl) rfl
theorem q166 : (Jvm.Cond.laysFinal "SongLamps" "SongLamps" "images" "[LSongLamps$Mine;") ∈ lw_all := lw_g (lw_at lw_m1 116 rfl) rfl
theorem q167 : (Jvm.Cond.soleField "SongLamps" "images") ∈ lw_all := lw_g (lw_at lw_m1 117 rfl) rfl
theorem q168 : (Jvm.Cond.laysFinal "SongLamps" "SongLamps" "sign" "[C") ∈ lw_all := lw_g (lw_at lw_m1 118 rfl) rfl
theorem q169 : (Jvm.Cond.soleField "SongLamps" "sign") ∈ lw_all := lw_g (lw_at lw_m1 119 rfl) rfl
theorem q170 : (Jvm.Cond.lays "SongLamps" "SongLamps" "signMany" "I") ∈ lw_all := lw_g (lw_at lw_m1 120 rfl) rfl
theorem q171 : (Jvm.Cond.soleField "SongLamps" "signMany") ∈ lw_all := lw_g (lw_at lw_m1 121 rfl) rfl
theorem q172 : (Jvm.Cond.laysFinal "SongLamps" "SongLamps" "act" "[I") ∈ lw_all := lw_g (lw_at lw_m1 122 rfl) rfl
theorem q173 : (Jvm.Cond.soleField "SongLamps" "act") ∈ lw_all := lw_g (lw_at lw_m1 123 rfl) rfl
theorem q174 : (Jvm.Cond.laysFinal "SongLamps" "SongLamps" "who" "[I") ∈ lw_all := lw_g (lw_at lw_m1 124 rfl) rfl
theorem q175 : (Jvm.Cond.soleField "SongLamps" "who") ∈ lw_all := lw_g (lw_at lw_m1 125 rfl) rfl
theorem q176 : (Jvm.Cond.laysFinal "SongLamps" "SongLamps" "what" "[I") ∈ lw_all := lw_g (lw_at lw_m1 126 rfl) rfl
theorem q177 : (Jvm.Cond.soleField "SongLamps" "what") ∈ lw_all := lw_g (lw_at lw_m1 127 rfl) rfl
theorem q178 : (Jvm.Cond.lays "SongLamps" "SongLamps" "actMany" "I") ∈ lw_all := lw_g (lw_at lw_m1 128 rfl) rfl
theorem q179 : (Jvm.Cond.soleField "SongLamps" "actMany") ∈ lw_all := lw_g (lw_at lw_m1 129 rfl) rfl
theorem q180 : (Jvm.Cond.lays "SongLamps" "SongLamps" "due" "I") ∈ lw_all := lw_g (lw_at lw_m1 130 rfl) rfl
theorem q181 : (Jvm.Cond.soleField "SongLamps" "due") ∈ lw_all := lw_g (lw_at lw_m1 131 rfl) rfl
theorem q182 : (Jvm.Cond.lays "SongLamps" "SongLamps" "badWhy" "I") ∈ lw_all := lw_g (lw_at lw_m1 132 rfl) rfl
theorem q183 : (Jvm.Cond.soleField "SongLamps" "badWhy") ∈ lw_all := lw_g (lw_at lw_m1 133 rfl) rfl
theorem q184 : (Jvm.Cond.lays "SongLamps" "SongLamps" "darkAct" "I") ∈ lw_all := lw_g (lw_at lw_m1 134 rfl) rfl
theorem q185 : (Jvm.Cond.soleField "SongLamps" "darkAct") ∈ lw_all := lw_g (lw_at lw_m1 135 rfl) rfl
theorem q186 : (Jvm.Cond.lays "SongLamps" "SongLamps" "darkGallery" "I") ∈ lw_all := lw_g (lw_at lw_m1 136 rfl) rfl
theorem q187 : (Jvm.Cond.soleField "SongLamps" "darkGallery") ∈ lw_all := lw_g (lw_at lw_m1 137 rfl) rfl
theorem q188 : (Jvm.Cond.laysFinal "SongLamps" "SongLamps" "lasts" "[I") ∈ lw_all := lw_g (lw_at lw_m1 138 rfl) rfl
theorem q189 : (Jvm.Cond.soleField "SongLamps" "lasts") ∈ lw_all := lw_g (lw_at lw_m1 139 rfl) rfl
theorem q190 : (Jvm.Cond.laysFinal "SongLamps" "SongLamps" "song" "[I") ∈ lw_all := lw_g (lw_at lw_m1 140 rfl) rfl
theorem q191 : (Jvm.Cond.soleField "SongLamps" "song") ∈ lw_all := lw_g (lw_at lw_m1 141 rfl) rfl
theorem q192 : (Jvm.Cond.laysFinal "SongLamps" "SongLamps" "rest" "[I") ∈ lw_all := lw_g (lw_at lw_m1 142 rfl) rfl
theorem q193 : (Jvm.Cond.soleField "SongLamps" "rest") ∈ lw_all := lw_g (lw_at lw_m1 143 rfl) rfl
theorem q194 : (Jvm.Cond.laysFinal "SongLamps" "SongLamps" "far" "[I") ∈ lw_all := lw_g (lw_at lw_m1 144 rfl) rfl
theorem q195 : (Jvm.Cond.soleField "SongLamps" "far") ∈ lw_all := lw_g (lw_at lw_m1 145 rfl) rfl
theorem q196 : (Jvm.Cond.laysFinal "SongLamps" "SongLamps" "manyBy" "[I") ∈ lw_all := lw_g (lw_at lw_m1 146 rfl) rfl
theorem q197 : (Jvm.Cond.soleField "SongLamps" "manyBy") ∈ lw_all := lw_g (lw_at lw_m1 147 rfl) rfl
theorem q198 : (Jvm.Cond.superclass "SongLamps" "java/lang/Object") ∈ lw_all := lw_g (lw_at lw_m1 148 rfl) rfl
theorem q201 : (Jvm.Cond.instanceMethod ({ cls := "SongLamps", name := "passage", desc := "(IIZ)I" } : Jvm.MethodName)) ∈ lw_all := lw_g (lw_at lw_m1 151 rfl) rfl
theorem q202 : (Jvm.Cond.selects "SongLamps" ({ cls := "SongLamps", name := "passage", desc := "(IIZ)I" } : Jvm.MethodName) ({ cls := "SongLamps", name := "passage", desc := "(IIZ)I" } : Jvm.MethodName)) ∈ lw_all := lw_g (lw_at lw_m1 152 rfl) rfl
theorem q203 : (Jvm.Cond.code ({ cls := "SongLamps", name := "passage", desc := "(IIZ)I" } : Jvm.MethodName) prog_1_method_13_code (6 : Nat) (Option.some Jvm.ClassFile.FieldType.int)) ∈ lw_all := lw_g (lw_at lw_m1 153 rfl) rfl
theorem q204 : (Jvm.Cond.methodLink "SongLamps" (85 : Nat) ({ cls := "SongLamps", name := "isGallery", desc := "(I)Z" } : Jvm.MethodName)) ∈ lw_all := lw_g (lw_at lw_m1 154 rfl) rfl
theorem q205 : (Jvm.Cond.static ({ cls := "SongLamps", name := "isGallery", desc := "(I)Z" } : Jvm.MethodName)) ∈ lw_all := lw_g (lw_at lw_m1 155 rfl) rfl
theorem q206 : (Jvm.Cond.code ({ cls := "SongLamps", name := "isGallery", desc := "(I)Z" } : Jvm.MethodName) prog_1_method_3_code (1 : Nat) (Option.some Jvm.ClassFile.FieldType.boolean)) ∈ lw_all := lw_g (lw_at lw_m1 156 rfl) rfl
theorem q207 : (Jvm.Cond.constantLong "SongLamps" (7 : Nat) (9 : Int64)) ∈ lw_all := lw_g (lw_at lw_m1 157 rfl) rfl
theorem q208 : (Jvm.Cond.methodLink "SongLamps" (3 : Nat) ({ cls := "SongLamps", name := "isIn", desc := "(JJJ)Z" } : Jvm.MethodName)) ∈ lw_all := lw_g (lw_at lw_m1 158 rfl) rfl
theorem q209 : (Jvm.Cond.static ({ cls := "SongLamps", name := "isIn", desc := "(JJJ)Z" } : Jvm.MethodName)) ∈ lw_all := lw_g (lw_at lw_m1 159 rfl) rfl
theorem q210 : (Jvm.Cond.code ({ cls := "SongLamps", name := "isIn", desc := "(JJJ)Z" } : Jvm.MethodName) prog_1_method_1_code (6 : Nat) (Option.some Jvm.ClassFile.FieldType.boolean)) ∈ lw_all := lw_g (lw_at lw_m1 160 rfl) rfl
theorem q211 : (Jvm.Cond.methodLink "SongLamps" (91 : Nat) ({ cls := "SongLamps", name := "with", desc := "(IIZ)I" } : Jvm.MethodName)) ∈ lw_all := lw_g (lw_at lw_m1 161 rfl) rfl
theorem q212 : (Jvm.Cond.static ({ cls := "SongLamps", name := "with", desc := "(IIZ)I" } : Jvm.MethodName)) ∈ lw_all := lw_g (lw_at lw_m1 162 rfl) rfl
theorem q213 : (Jvm.Cond.code ({ cls := "SongLamps", name := "with", desc := "(IIZ)I" } : Jvm.MethodName) prog_1_method_7_code (3 : Nat) (Option.some Jvm.ClassFile.FieldType.int)) ∈ lw_all := lw_g (lw_at lw_m1 163 rfl) rfl
theorem q214 : (Jvm.Cond.methodLink "SongLamps" (95 : Nat) ({ cls := "java/lang/Integer", name := "bitCount", desc := "(I)I" } : Jvm.MethodName)) ∈ lw_all := lw_g (lw_at lw_m1 164 rfl) rfl
theorem q221 : (Jvm.Cond.instanceMethod ({ cls := "SongLamps", name := "gallery", desc := "(IIZ)I" } : Jvm.MethodName)) ∈ lw_all := lw_g (lw_at lw_m1 171 rfl) rfl
theorem q222 : (Jvm.Cond.selects "SongLamps" ({ cls := "SongLamps", name := "gallery", desc := "(IIZ)I" } : Jvm.MethodName) ({ cls := "SongLamps", name := "gallery", desc := "(IIZ)I" } : Jvm.MethodName)) ∈ lw_all := lw_g (lw_at lw_m1 172 rfl) rfl
theorem q223 : (Jvm.Cond.code ({ cls := "SongLamps", name := "gallery", desc := "(IIZ)I" } : Jvm.MethodName) prog_1_method_14_code (5 : Nat) (Option.some Jvm.ClassFile.FieldType.int)) ∈ lw_all := lw_g (lw_at lw_m1 173 rfl) rfl
theorem q225 : (Jvm.Cond.instanceMethod ({ cls := "SongLamps", name := "voice", desc := "(IIIII)I" } : Jvm.MethodName)) ∈ lw_all := lw_g (lw_at lw_m1 175 rfl) rfl
theorem q226 : (Jvm.Cond.selects "SongLamps" ({ cls := "SongLamps", name := "voice", desc := "(IIIII)I" } : Jvm.MethodName) ({ cls := "SongLamps", name := "voice", desc := "(IIIII)I" } : Jvm.MethodName)) ∈ lw_all := lw_g (lw_at lw_m1 176 rfl) rfl
theorem q227 : (Jvm.Cond.code ({ cls := "SongLamps", name := "voice", desc := "(IIIII)I" } : Jvm.MethodName) prog_1_method_15_code (6 : Nat) (Option.some Jvm.ClassFile.FieldType.int)) ∈ lw_all := lw_g (lw_at lw_m1 177 rfl) rfl
theorem q228 : (Jvm.Cond.methodLink "SongLamps" (78 : Nat) ({ cls := "SongLamps", name := "isVoice", desc := "(I)Z" } : Jvm.MethodName)) ∈ lw_all := lw_g (lw_at lw_m1 178 rfl) rfl
theorem q229 : (Jvm.Cond.static ({ cls := "SongLamps", name := "isVoice", desc := "(I)Z" } : Jvm.MethodName)) ∈ lw_all := lw_g (lw_at lw_m1 179 rfl) rfl
theorem q230 : (Jvm.Cond.code ({ cls := "SongLamps", name := "isVoice", desc := "(I)Z" } : Jvm.MethodName) prog_1_method_4_code (1 : Nat) (Option.some Jvm.ClassFile.FieldType.boolean)) ∈ lw_all := lw_g (lw_at lw_m1 180 rfl) rfl
theorem q231 : (Jvm.Cond.constantLong "SongLamps" (9 : Nat) (7 : Int64)) ∈ lw_all := lw_g (lw_at lw_m1 181 rfl) rfl
theorem q232 : (Jvm.Cond.methodLink "SongLamps" (107 : Nat) ({ cls := "SongLamps", name := "isNote", desc := "(I)Z" } : Jvm.MethodName)) ∈ lw_all := lw_g (lw_at lw_m1 182 rfl) rfl
theorem q233 : (Jvm.Cond.static ({ cls := "SongLamps", name := "isNote", desc := "(I)Z" } : Jvm.MethodName)) ∈ lw_all := lw_g (lw_at lw_m1 183 rfl) rfl
theorem q234 : (Jvm.Cond.code ({ cls := "SongLamps", name := "isNote", desc := "(I)Z" } : Jvm.MethodName) prog_1_method_5_code (1 : Nat) (Option.some Jvm.ClassFile.FieldType.boolean)) ∈ lw_all := lw_g (lw_at lw_m1 184 rfl) rfl
theorem q235 : (Jvm.Cond.constantLong "SongLamps" (11 : Nat) (23 : Int64)) ∈ lw_all := lw_g (lw_at lw_m1 185 rfl) rfl
theorem q236 : (Jvm.Cond.constantLong "SongLamps" (110 : Nat) (99 : Int64)) ∈ lw_all := lw_g (lw_at lw_m1 186 rfl) rfl
theorem q238 : (Jvm.Cond.instanceMethod ({ cls := "SongLamps", name := "breath", desc := "(II)I" } : Jvm.MethodName)) ∈ lw_all := lw_g (lw_at lw_m1 188 rfl) rfl
theorem q239 : (Jvm.Cond.selects "SongLamps" ({ cls := "SongLamps", name := "breath", desc := "(II)I" } : Jvm.MethodName) ({ cls := "SongLamps", name := "breath", desc := "(II)I" } : Jvm.MethodName)) ∈ lw_all := lw_g (lw_at lw_m1 189 rfl) rfl
theorem q240 : (Jvm.Cond.code ({ cls := "SongLamps", name := "breath", desc := "(II)I" } : Jvm.MethodName) prog_1_method_16_code (4 : Nat) (Option.some Jvm.ClassFile.FieldType.int)) ∈ lw_all := lw_g (lw_at lw_m1 190 rfl) rfl
theorem q241 : (Jvm.Cond.methodLink "SongLamps" (133 : Nat) ({ cls := "SongLamps", name := "isHere", desc := "(I)Z" } : Jvm.MethodName)) ∈ lw_all := lw_g (lw_at lw_m1 191 rfl) rfl
theorem q242 : (Jvm.Cond.privateMethod ({ cls := "SongLamps", name := "isHere", desc := "(I)Z" } : Jvm.MethodName)) ∈ lw_tbl := lw_at lw_m1 192 rfl
theorem q243 : (Jvm.Cond.instanceMethod ({ cls := "SongLamps", name := "isHere", desc := "(I)Z" } : Jvm.MethodName)) ∈ lw_all := lw_g (lw_at lw_m1 193 rfl) rfl
theorem q244 : (Jvm.Cond.code ({ cls := "SongLamps", name := "isHere", desc := "(I)Z" } : Jvm.MethodName) prog_1_method_12_code (2 : Nat) (Option.some Jvm.ClassFile.FieldType.boolean)) ∈ lw_all := lw_g (lw_at lw_m1 194 rfl) rfl
theorem q245 : (Jvm.Cond.methodLink "SongLamps" (82 : Nat) ({ cls := "SongLamps$Mine", name := "isThere", desc := "(I)Z" } : Jvm.MethodName)) ∈ lw_all := lw_g (lw_at lw_m1 195 rfl) rfl
theorem q250 : (Jvm.Cond.static ({ cls := "SongLamps", name := "holds", desc := "(II)Z" } : Jvm.MethodName)) ∈ lw_all := lw_g (lw_at lw_m1 200 rfl) rfl
theorem q251 : (Jvm.Cond.code ({ cls := "SongLamps", name := "holds", desc := "(II)Z" } : Jvm.MethodName) prog_1_method_6_code (2 : Nat) (Option.some Jvm.ClassFile.FieldType.boolean)) ∈ lw_all := lw_g (lw_at lw_m1 201 rfl) rfl
theorem q253 : (Jvm.Cond.instanceMethod ({ cls := "SongLamps", name := "leave", desc := "(I)I" } : Jvm.MethodName)) ∈ lw_all := lw_g (lw_at lw_m1 203 rfl) rfl
theorem q254 : (Jvm.Cond.selects "SongLamps" ({ cls := "SongLamps", name := "leave", desc := "(I)I" } : Jvm.MethodName) ({ cls := "SongLamps", name := "leave", desc := "(I)I" } : Jvm.MethodName)) ∈ lw_all := lw_g (lw_at lw_m1 204 rfl) rfl
theorem q255 : (Jvm.Cond.code ({ cls := "SongLamps", name := "leave", desc := "(I)I" } : Jvm.MethodName) prog_1_method_17_code (2 : Nat) (Option.some Jvm.ClassFile.FieldType.int)) ∈ lw_all := lw_g (lw_at lw_m1 205 rfl) rfl
theorem q257 : (Jvm.Cond.instanceMethod ({ cls := "SongLamps", name := "say", desc := "(I)I" } : Jvm.MethodName)) ∈ lw_all := lw_g (lw_at lw_m1 207 rfl) rfl
theorem q258 : (Jvm.Cond.selects "SongLamps" ({ cls := "SongLamps", name := "say", desc := "(I)I" } : Jvm.MethodName) ({ cls := "SongLamps", name := "say", desc := "(I)I" } : Jvm.MethodName)) ∈ lw_all := lw_g (lw_at lw_m1 208 rfl) rfl
theorem q259 : (Jvm.Cond.code ({ cls := "SongLamps", name := "say", desc := "(I)I" } : Jvm.MethodName) prog_1_method_18_code (2 : Nat) (Option.some Jvm.ClassFile.FieldType.int)) ∈ lw_all := lw_g (lw_at lw_m1 209 rfl) rfl
theorem q260 : (Jvm.Cond.constantLong "SongLamps" (136 : Nat) (33 : Int64)) ∈ lw_all := lw_g (lw_at lw_m1 210 rfl) rfl
theorem q261 : (Jvm.Cond.constantLong "SongLamps" (138 : Nat) (126 : Int64)) ∈ lw_all := lw_g (lw_at lw_m1 211 rfl) rfl
theorem q263 : (Jvm.Cond.instanceMethod ({ cls := "SongLamps", name := "wipe", desc := "()I" } : Jvm.MethodName)) ∈ lw_all := lw_g (lw_at lw_m1 213 rfl) rfl
theorem q264 : (Jvm.Cond.selects "SongLamps" ({ cls := "SongLamps", name := "wipe", desc := "()I" } : Jvm.MethodName) ({ cls := "SongLamps", name := "wipe", desc := "()I" } : Jvm.MethodName)) ∈ lw_all := lw_g (lw_at lw_m1 214 rfl) rfl
theorem q265 : (Jvm.Cond.code ({ cls := "SongLamps", name := "wipe", desc := "()I" } : Jvm.MethodName) prog_1_method_19_code (2 : Nat) (Option.some Jvm.ClassFile.FieldType.int)) ∈ lw_all := lw_g (lw_at lw_m1 215 rfl) rfl
theorem q267 : (Jvm.Cond.instanceMethod ({ cls := "SongLamps", name := "fault", desc := "()I" } : Jvm.MethodName)) ∈ lw_all := lw_g (lw_at lw_m1 217 rfl) rfl
theorem q268 : (Jvm.Cond.selects "SongLamps" ({ cls := "SongLamps", name := "fault", desc := "()I" } : Jvm.MethodName) ({ cls := "SongLamps", name := "fault", desc := "()I" } : Jvm.MethodName)) ∈ lw_all := lw_g (lw_at lw_m1 218 rfl) rfl
theorem q269 : (Jvm.Cond.code ({ cls := "SongLamps", name := "fault", desc := "()I" } : Jvm.MethodName) prog_1_method_24_code (2 : Nat) (Option.some Jvm.ClassFile.FieldType.int)) ∈ lw_all := lw_g (lw_at lw_m1 219 rfl) rfl
theorem q270 : (Jvm.Cond.methodLink "SongLamps" (160 : Nat) ({ cls := "SongLamps", name := "reads", desc := "(C)Z" } : Jvm.MethodName)) ∈ lw_all := lw_g (lw_at lw_m1 220 rfl) rfl
theorem q271 : (Jvm.Cond.privateMethod ({ cls := "SongLamps", name := "reads", desc := "(C)Z" } : Jvm.MethodName)) ∈ lw_tbl := lw_at lw_m1 221 rfl
theorem q272 : (Jvm.Cond.instanceMethod ({ cls := "SongLamps", name := "reads", desc := "(C)Z" } : Jvm.MethodName)) ∈ lw_all := lw_g (lw_at lw_m1 222 rfl) rfl
theorem q273 : (Jvm.Cond.code ({ cls := "SongLamps", name := "reads", desc := "(C)Z" } : Jvm.MethodName) prog_1_method_23_code (2 : Nat) (Option.some Jvm.ClassFile.FieldType.boolean)) ∈ lw_all := lw_g (lw_at lw_m1 223 rfl) rfl
theorem q274 : (Jvm.Cond.methodLink "SongLamps" (153 : Nat) ({ cls := "SongLamps", name := "begins", desc := "(C)Z" } : Jvm.MethodName)) ∈ lw_all := lw_g (lw_at lw_m1 224 rfl) rfl
theorem q275 : (Jvm.Cond.privateMethod ({ cls := "SongLamps", name := "begins", desc := "(C)Z" } : Jvm.MethodName)) ∈ lw_tbl := lw_at lw_m1 225 rfl
theorem q276 : (Jvm.Cond.instanceMethod ({ cls := "SongLamps", name := "begins", desc := "(C)Z" } : Jvm.MethodName)) ∈ lw_all := lw_g (lw_at lw_m1 226 rfl) rfl
theorem q277 : (Jvm.Cond.code ({ cls := "SongLamps", name := "begins", desc := "(C)Z" } : Jvm.MethodName) prog_1_method_21_code (2 : Nat) (Option.some Jvm.ClassFile.FieldType.boolean)) ∈ lw_all := lw_g (lw_at lw_m1 227 rfl) rfl
theorem q278 : (Jvm.Cond.methodLink "SongLamps" (149 : Nat) ({ cls := "SongLamps", name := "closes", desc := "(IIZ)Z" } : Jvm.MethodName)) ∈ lw_all := lw_g (lw_at lw_m1 228 rfl) rfl
theorem q279 : (Jvm.Cond.privateMethod ({ cls := "SongLamps", name := "closes", desc := "(IIZ)Z" } : Jvm.MethodName)) ∈ lw_tbl := lw_at lw_m1 229 rfl
theorem q280 : (Jvm.Cond.instanceMethod ({ cls := "SongLamps", name := "closes", desc := "(IIZ)Z" } : Jvm.MethodName)) ∈ lw_all := lw_g (lw_at lw_m1 230 rfl) rfl
theorem q281 : (Jvm.Cond.code ({ cls := "SongLamps", name := "closes", desc := "(IIZ)Z" } : Jvm.MethodName) prog_1_method_20_code (4 : Nat) (Option.some Jvm.ClassFile.FieldType.boolean)) ∈ lw_all := lw_g (lw_at lw_m1 231 rfl) rfl
theorem q282 : (Jvm.Cond.methodLink "SongLamps" (157 : Nat) ({ cls := "SongLamps", name := "goesOn", desc := "(C)Z" } : Jvm.MethodName)) ∈ lw_all := lw_g (lw_at lw_m1 232 rfl) rfl
theorem q283 : (Jvm.Cond.privateMethod ({ cls := "SongLamps", name := "goesOn", desc := "(C)Z" } : Jvm.MethodName)) ∈ lw_tbl := lw_at lw_m1 233 rfl
theorem q284 : (Jvm.Cond.instanceMethod ({ cls := "SongLamps", name := "goesOn", desc := "(C)Z" } : Jvm.MethodName)) ∈ lw_all := lw_g (lw_at lw_m1 234 rfl) rfl
theorem q285 : (Jvm.Cond.code ({ cls := "SongLamps", name := "goesOn", desc := "(C)Z" } : Jvm.MethodName) prog_1_method_22_code (2 : Nat) (Option.some Jvm.ClassFile.FieldType.boolean)) ∈ lw_all := lw_g (lw_at lw_m1 235 rfl) rfl
theorem q287 : (Jvm.Cond.instanceMethod ({ cls := "SongLamps", name := "judge", desc := "(I)I" } : Jvm.MethodName)) ∈ lw_all := lw_g (lw_at lw_m1 237 rfl) rfl
theorem q288 : (Jvm.Cond.selects "SongLamps" ({ cls := "SongLamps", name := "judge", desc := "(I)I" } : Jvm.MethodName) ({ cls := "SongLamps", name := "judge", desc := "(I)I" } : Jvm.MethodName)) ∈ lw_all := lw_g (lw_at lw_m1 238 rfl) rfl
theorem q289 : (Jvm.Cond.code ({ cls := "SongLamps", name := "judge", desc := "(I)I" } : Jvm.MethodName) prog_1_method_27_code (3 : Nat) (Option.some Jvm.ClassFile.FieldType.int)) ∈ lw_all := lw_g (lw_at lw_m1 239 rfl) rfl
theorem q290 : (Jvm.Cond.methodLink "SongLamps" (197 : Nat) ({ cls := "SongLamps", name := "isEnd", desc := "(I)Z" } : Jvm.MethodName)) ∈ lw_all := lw_g (lw_at lw_m2 0 rfl) rfl
theorem q291 : (Jvm.Cond.static ({ cls := "SongLamps", name := "isEnd", desc := "(I)Z" } : Jvm.MethodName)) ∈ lw_all := lw_g (lw_at lw_m2 1 rfl) rfl
theorem q292 : (Jvm.Cond.code ({ cls := "SongLamps", name := "isEnd", desc := "(I)Z" } : Jvm.MethodName) prog_1_method_2_code (1 : Nat) (Option.some Jvm.ClassFile.FieldType.boolean)) ∈ lw_all := lw_g (lw_at lw_m2 2 rfl) rfl
theorem q293 : (Jvm.Cond.methodLink "SongLamps" (191 : Nat) ({ cls := "SongLamps", name := "fault", desc := "()I" } : Jvm.MethodName)) ∈ lw_all := lw_g (lw_at lw_m2 3 rfl) rfl
theorem q294 : (Jvm.Cond.methodLink "SongLamps" (194 : Nat) ({ cls := "SongLamps", name := "go", desc := "()I" } : Jvm.MethodName)) ∈ lw_all := lw_g (lw_at lw_m2 4 rfl) rfl
theorem q295 : (Jvm.Cond.privateMethod ({ cls := "SongLamps", name := "go", desc := "()I" } : Jvm.MethodName)) ∈ lw_tbl := lw_at lw_m2 5 rfl
theorem q296 : (Jvm.Cond.instanceMethod ({ cls := "SongLamps", name := "go", desc := "()I" } : Jvm.MethodName)) ∈ lw_all := lw_g (lw_at lw_m2 6 rfl) rfl
theorem q297 : (Jvm.Cond.code ({ cls := "SongLamps", name := "go", desc := "()I" } : Jvm.MethodName) prog_1_method_25_code (5 : Nat) (Option.some Jvm.ClassFile.FieldType.int)) ∈ lw_all := lw_g (lw_at lw_m2 7 rfl) rfl
theorem q298 : (Jvm.Cond.methodLink "SongLamps" (163 : Nat) ({ cls := "SongLamps$Mine", name := "take", desc := "(LSongLamps$Mine;)V" } : Jvm.MethodName)) ∈ lw_all := lw_g (lw_at lw_m2 8 rfl) rfl
theorem q303 : (Jvm.Cond.static ({ cls := "SongLamps", name := "layOver", desc := "([I[I)V" } : Jvm.MethodName)) ∈ lw_all := lw_g (lw_at lw_m2 13 rfl) rfl
theorem q304 : (Jvm.Cond.code ({ cls := "SongLamps", name := "layOver", desc := "([I[I)V" } : Jvm.MethodName) prog_1_method_9_code (2 : Nat) (Option.none : Option Jvm.ClassFile.FieldType)) ∈ lw_all := lw_g (lw_at lw_m2 14 rfl) rfl
theorem q305 : (Jvm.Cond.methodLink "SongLamps" (23 : Nat) ({ cls := "java/lang/System", name := "arraycopy", desc := "(Ljava/lang/Object;ILjava/lang/Object;II)V" } : Jvm.MethodName)) ∈ lw_all := lw_g (lw_at lw_m2 15 rfl) rfl
theorem q308 : (Jvm.Cond.methodLink "SongLamps" (176 : Nat) ({ cls := "SongLamps$Mine", name := "whyNot", desc := "(III)I" } : Jvm.MethodName)) ∈ lw_all := lw_g (lw_at lw_m2 18 rfl) rfl
theorem q322 : (Jvm.Cond.methodLink "SongLamps" (180 : Nat) ({ cls := "SongLamps$Mine", name := "lamps", desc := "()I" } : Jvm.MethodName)) ∈ lw_all := lw_g (lw_at lw_m2 32 rfl) rfl
theorem q343 : (Jvm.Cond.static ({ cls := "SongLamps", name := "isThird", desc := "(II)Z" } : Jvm.MethodName)) ∈ lw_all := lw_g (lw_at lw_m2 53 rfl) rfl
theorem q344 : (Jvm.Cond.code ({ cls := "SongLamps", name := "isThird", desc := "(II)Z" } : Jvm.MethodName) prog_1_method_8_code (2 : Nat) (Option.some Jvm.ClassFile.FieldType.boolean)) ∈ lw_all := lw_g (lw_at lw_m2 54 rfl) rfl
theorem q345 : (Jvm.Cond.methodLink "SongLamps" (13 : Nat) ({ cls := "java/lang/Math", name := "abs", desc := "(I)I" } : Jvm.MethodName)) ∈ lw_all := lw_g (lw_at lw_m2 55 rfl) rfl
theorem q348 : (Jvm.Cond.constantLong "SongLamps" (19 : Nat) (3 : Int64)) ∈ lw_all := lw_g (lw_at lw_m2 58 rfl) rfl
theorem q349 : (Jvm.Cond.constantLong "SongLamps" (21 : Nat) (4 : Int64)) ∈ lw_all := lw_g (lw_at lw_m2 59 rfl) rfl
theorem q353 : (Jvm.Cond.methodLink "SongLamps" (184 : Nat) ({ cls := "SongLamps$Mine", name := "happen", desc := "(III)V" } : Jvm.MethodName)) ∈ lw_all := lw_g (lw_at lw_m2 63 rfl) rfl
theorem q372 : (Jvm.Cond.methodLink "SongLamps" (188 : Nat) ({ cls := "java/lang/Integer", name := "numberOfTrailingZeros", desc := "(I)I" } : Jvm.MethodName)) ∈ lw_all := lw_g (lw_at lw_m2 82 rfl) rfl
theorem q377 : (Jvm.Cond.instanceMethod ({ cls := "SongLamps", name := "done", desc := "()I" } : Jvm.MethodName)) ∈ lw_all := lw_g (lw_at lw_m2 87 rfl) rfl
theorem q378 : (Jvm.Cond.selects "SongLamps" ({ cls := "SongLamps", name := "done", desc := "()I" } : Jvm.MethodName) ({ cls := "SongLamps", name := "done", desc := "()I" } : Jvm.MethodName)) ∈ lw_all := lw_g (lw_at lw_m2 88 rfl) rfl
theorem q379 : (Jvm.Cond.code ({ cls := "SongLamps", name := "done", desc := "()I" } : Jvm.MethodName) prog_1_method_28_code (1 : Nat) (Option.some Jvm.ClassFile.FieldType.int)) ∈ lw_all := lw_g (lw_at lw_m2 89 rfl) rfl
theorem q380 : (Jvm.Cond.methodLink "SongLamps" (200 : Nat) ({ cls := "SongLamps", name := "isRefused", desc := "()Z" } : Jvm.MethodName)) ∈ lw_all := lw_g (lw_at lw_m2 90 rfl) rfl
theorem q381 : (Jvm.Cond.privateMethod ({ cls := "SongLamps", name := "isRefused", desc := "()Z" } : Jvm.MethodName)) ∈ lw_tbl := lw_at lw_m2 91 rfl
theorem q382 : (Jvm.Cond.instanceMethod ({ cls := "SongLamps", name := "isRefused", desc := "()Z" } : Jvm.MethodName)) ∈ lw_all := lw_g (lw_at lw_m2 92 rfl) rfl
theorem q383 : (Jvm.Cond.code ({ cls := "SongLamps", name := "isRefused", desc := "()Z" } : Jvm.MethodName) prog_1_method_26_code (1 : Nat) (Option.some Jvm.ClassFile.FieldType.boolean)) ∈ lw_all := lw_g (lw_at lw_m2 93 rfl) rfl
theorem q385 : (Jvm.Cond.instanceMethod ({ cls := "SongLamps", name := "behind", desc := "(II)I" } : Jvm.MethodName)) ∈ lw_all := lw_g (lw_at lw_m2 95 rfl) rfl
theorem q386 : (Jvm.Cond.selects "SongLamps" ({ cls := "SongLamps", name := "behind", desc := "(II)I" } : Jvm.MethodName) ({ cls := "SongLamps", name := "behind", desc := "(II)I" } : Jvm.MethodName)) ∈ lw_all := lw_g (lw_at lw_m2 96 rfl) rfl
theorem q387 : (Jvm.Cond.code ({ cls := "SongLamps", name := "behind", desc := "(II)I" } : Jvm.MethodName) prog_1_method_29_code (3 : Nat) (Option.some Jvm.ClassFile.FieldType.int)) ∈ lw_all := lw_g (lw_at lw_m2 97 rfl) rfl
theorem q388 : (Jvm.Cond.constantLong "SongLamps" (204 : Nat) (2 : Int64)) ∈ lw_all := lw_g (lw_at lw_m2 98 rfl) rfl
theorem q390 : (Jvm.Cond.instanceMethod ({ cls := "SongLamps", name := "seam", desc := "(II)I" } : Jvm.MethodName)) ∈ lw_all := lw_g (lw_at lw_m2 100 rfl) rfl
theorem q391 : (Jvm.Cond.selects "SongLamps" ({ cls := "SongLamps", name := "seam", desc := "(II)I" } : Jvm.MethodName) ({ cls := "SongLamps", name := "seam", desc := "(II)I" } : Jvm.MethodName)) ∈ lw_all := lw_g (lw_at lw_m2 101 rfl) rfl
theorem q392 : (Jvm.Cond.code ({ cls := "SongLamps", name := "seam", desc := "(II)I" } : Jvm.MethodName) prog_1_method_30_code (3 : Nat) (Option.some Jvm.ClassFile.FieldType.int)) ∈ lw_all := lw_g (lw_at lw_m2 102 rfl) rfl
theorem q393 : (Jvm.Cond.methodLink "SongLamps" (206 : Nat) ({ cls := "SongLamps$Mine", name := "light", desc := "(I)I" } : Jvm.MethodName)) ∈ lw_all := lw_g (lw_at lw_m2 103 rfl) rfl
theorem q395 : (Jvm.Cond.instanceMethod ({ cls := "SongLamps", name := "then", desc := "(I)I" } : Jvm.MethodName)) ∈ lw_all := lw_g (lw_at lw_m2 105 rfl) rfl
theorem q396 : (Jvm.Cond.selects "SongLamps" ({ cls := "SongLamps", name := "then", desc := "(I)I" } : Jvm.MethodName) ({ cls := "SongLamps", name := "then", desc := "(I)I" } : Jvm.MethodName)) ∈ lw_all := lw_g (lw_at lw_m2 106 rfl) rfl
theorem q397 : (Jvm.Cond.code ({ cls := "SongLamps", name := "then", desc := "(I)I" } : Jvm.MethodName) prog_1_method_31_code (2 : Nat) (Option.some Jvm.ClassFile.FieldType.int)) ∈ lw_all := lw_g (lw_at lw_m2 107 rfl) rfl
theorem q398 : (Jvm.Cond.methodLink "SongLamps" (215 : Nat) ({ cls := "SongLamps$Mine", name := "coalInAll", desc := "()I" } : Jvm.MethodName)) ∈ lw_all := lw_g (lw_at lw_m2 108 rfl) rfl
theorem q403 : (Jvm.Cond.instanceMethod ({ cls := "SongLamps", name := "light", desc := "(I)I" } : Jvm.MethodName)) ∈ lw_all := lw_g (lw_at lw_m2 113 rfl) rfl
theorem q404 : (Jvm.Cond.selects "SongLamps" ({ cls := "SongLamps", name := "light", desc := "(I)I" } : Jvm.MethodName) ({ cls := "SongLamps", name := "light", desc := "(I)I" } : Jvm.MethodName)) ∈ lw_all := lw_g (lw_at lw_m2 114 rfl) rfl
theorem q405 : (Jvm.Cond.code ({ cls := "SongLamps", name := "light", desc := "(I)I" } : Jvm.MethodName) prog_1_method_32_code (2 : Nat) (Option.some Jvm.ClassFile.FieldType.int)) ∈ lw_all := lw_g (lw_at lw_m2 115 rfl) rfl
theorem q407 : (Jvm.Cond.instanceMethod ({ cls := "SongLamps", name := "shakes", desc := "()I" } : Jvm.MethodName)) ∈ lw_all := lw_g (lw_at lw_m2 117 rfl) rfl
theorem q408 : (Jvm.Cond.selects "SongLamps" ({ cls := "SongLamps", name := "shakes", desc := "()I" } : Jvm.MethodName) ({ cls := "SongLamps", name := "shakes", desc := "()I" } : Jvm.MethodName)) ∈ lw_all := lw_g (lw_at lw_m2 118 rfl) rfl
theorem q409 : (Jvm.Cond.code ({ cls := "SongLamps", name := "shakes", desc := "()I" } : Jvm.MethodName) prog_1_method_33_code (5 : Nat) (Option.some Jvm.ClassFile.FieldType.int)) ∈ lw_all := lw_g (lw_at lw_m2 119 rfl) rfl
theorem q410 : (Jvm.Cond.methodLink "SongLamps" (218 : Nat) ({ cls := "SongLamps$Mine", name := "sings", desc := "(I)Z" } : Jvm.MethodName)) ∈ lw_all := lw_g (lw_at lw_m2 120 rfl) rfl
theorem q412 : (Jvm.Cond.instanceMethod ({ cls := "SongLamps", name := "way", desc := "(III)I" } : Jvm.MethodName)) ∈ lw_all := lw_g (lw_at lw_m2 122 rfl) rfl
theorem q413 : (Jvm.Cond.selects "SongLamps" ({ cls := "SongLamps", name := "way", desc := "(III)I" } : Jvm.MethodName) ({ cls := "SongLamps", name := "way", desc := "(III)I" } : Jvm.MethodName)) ∈ lw_all := lw_g (lw_at lw_m2 123 rfl) rfl
theorem q414 : (Jvm.Cond.code ({ cls := "SongLamps", name := "way", desc := "(III)I" } : Jvm.MethodName) prog_1_method_36_code (8 : Nat) (Option.some Jvm.ClassFile.FieldType.int)) ∈ lw_all := lw_g (lw_at lw_m2 124 rfl) rfl
theorem q415 : (Jvm.Cond.methodLink "SongLamps" (228 : Nat) ({ cls := "SongLamps", name := "open", desc := "()I" } : Jvm.MethodName)) ∈ lw_all := lw_g (lw_at lw_m2 125 rfl) rfl
theorem q416 : (Jvm.Cond.privateMethod ({ cls := "SongLamps", name := "open", desc := "()I" } : Jvm.MethodName)) ∈ lw_tbl := lw_at lw_m2 126 rfl
theorem q417 : (Jvm.Cond.instanceMethod ({ cls := "SongLamps", name := "open", desc := "()I" } : Jvm.MethodName)) ∈ lw_all := lw_g (lw_at lw_m2 127 rfl) rfl
theorem q418 : (Jvm.Cond.code ({ cls := "SongLamps", name := "open", desc := "()I" } : Jvm.MethodName) prog_1_method_35_code (1 : Nat) (Option.some Jvm.ClassFile.FieldType.int)) ∈ lw_all := lw_g (lw_at lw_m2 128 rfl) rfl
theorem q419 : (Jvm.Cond.methodLink "SongLamps" (231 : Nat) ({ cls := "SongLamps", name := "farIn", desc := "(III)I" } : Jvm.MethodName)) ∈ lw_all := lw_g (lw_at lw_m2 129 rfl) rfl
theorem q420 : (Jvm.Cond.privateMethod ({ cls := "SongLamps", name := "farIn", desc := "(III)I" } : Jvm.MethodName)) ∈ lw_tbl := lw_at lw_m2 130 rfl
theorem q421 : (Jvm.Cond.instanceMethod ({ cls := "SongLamps", name := "farIn", desc := "(III)I" } : Jvm.MethodName)) ∈ lw_all := lw_g (lw_at lw_m2 131 rfl) rfl
theorem q422 : (Jvm.Cond.code ({ cls := "SongLamps", name := "farIn", desc := "(III)I" } : Jvm.MethodName) prog_1_method_34_code (8 : Nat) (Option.some Jvm.ClassFile.FieldType.int)) ∈ lw_all := lw_g (lw_at lw_m2 132 rfl) rfl
theorem q423 : (Jvm.Cond.methodLink "SongLamps" (221 : Nat) ({ cls := "SongLamps", name := "holds", desc := "(II)Z" } : Jvm.MethodName)) ∈ lw_all := lw_g (lw_at lw_m2 133 rfl) rfl
theorem q425 : (Jvm.Cond.instanceMethod ({ cls := "SongLamps", name := "fewest", desc := "(II)I" } : Jvm.MethodName)) ∈ lw_all := lw_g (lw_at lw_m2 135 rfl) rfl
theorem q426 : (Jvm.Cond.selects "SongLamps" ({ cls := "SongLamps", name := "fewest", desc := "(II)I" } : Jvm.MethodName) ({ cls := "SongLamps", name := "fewest", desc := "(II)I" } : Jvm.MethodName)) ∈ lw_all := lw_g (lw_at lw_m2 136 rfl) rfl
theorem q427 : (Jvm.Cond.code ({ cls := "SongLamps", name := "fewest", desc := "(II)I" } : Jvm.MethodName) prog_1_method_38_code (6 : Nat) (Option.some Jvm.ClassFile.FieldType.int)) ∈ lw_all := lw_g (lw_at lw_m2 137 rfl) rfl
theorem q428 : (Jvm.Cond.constantLong "SongLamps" (234 : Nat) (1023 : Int64)) ∈ lw_all := lw_g (lw_at lw_m2 138 rfl) rfl
theorem q429 : (Jvm.Cond.methodLink "SongLamps" (236 : Nat) ({ cls := "SongLamps", name := "litBy", desc := "(I)I" } : Jvm.MethodName)) ∈ lw_all := lw_g (lw_at lw_m2 139 rfl) rfl
theorem q430 : (Jvm.Cond.privateMethod ({ cls := "SongLamps", name := "litBy", desc := "(I)I" } : Jvm.MethodName)) ∈ lw_tbl := lw_at lw_m2 140 rfl
theorem q431 : (Jvm.Cond.instanceMethod ({ cls := "SongLamps", name := "litBy", desc := "(I)I" } : Jvm.MethodName)) ∈ lw_all := lw_g (lw_at lw_m2 141 rfl) rfl
theorem q432 : (Jvm.Cond.code ({ cls := "SongLamps", name := "litBy", desc := "(I)I" } : Jvm.MethodName) prog_1_method_37_code (4 : Nat) (Option.some Jvm.ClassFile.FieldType.int)) ∈ lw_all := lw_g (lw_at lw_m2 142 rfl) rfl
theorem q434 : (Jvm.Cond.instanceMethod ({ cls := "SongLamps", name := "keep", desc := "(I)I" } : Jvm.MethodName)) ∈ lw_all := lw_g (lw_at lw_m2 144 rfl) rfl
theorem q435 : (Jvm.Cond.selects "SongLamps" ({ cls := "SongLamps", name := "keep", desc := "(I)I" } : Jvm.MethodName) ({ cls := "SongLamps", name := "keep", desc := "(I)I" } : Jvm.MethodName)) ∈ lw_all := lw_g (lw_at lw_m2 145 rfl) rfl
theorem q436 : (Jvm.Cond.code ({ cls := "SongLamps", name := "keep", desc := "(I)I" } : Jvm.MethodName) prog_1_method_40_code (6 : Nat) (Option.some Jvm.ClassFile.FieldType.int)) ∈ lw_all := lw_g (lw_at lw_m2 146 rfl) rfl
theorem q437 : (Jvm.Cond.methodLink "SongLamps" (242 : Nat) ({ cls := "SongLamps$Mine", name := "singing", desc := "()I" } : Jvm.MethodName)) ∈ lw_all := lw_g (lw_at lw_m2 147 rfl) rfl
theorem q441 : (Jvm.Cond.methodLink "SongLamps" (245 : Nat) ({ cls := "SongLamps", name := "isKept", desc := "(I)Z" } : Jvm.MethodName)) ∈ lw_all := lw_g (lw_at lw_m2 151 rfl) rfl
theorem q442 : (Jvm.Cond.privateMethod ({ cls := "SongLamps", name := "isKept", desc := "(I)Z" } : Jvm.MethodName)) ∈ lw_tbl := lw_at lw_m2 152 rfl
theorem q443 : (Jvm.Cond.instanceMethod ({ cls := "SongLamps", name := "isKept", desc := "(I)Z" } : Jvm.MethodName)) ∈ lw_all := lw_g (lw_at lw_m2 153 rfl) rfl
theorem q444 : (Jvm.Cond.code ({ cls := "SongLamps", name := "isKept", desc := "(I)Z" } : Jvm.MethodName) prog_1_method_39_code (5 : Nat) (Option.some Jvm.ClassFile.FieldType.boolean)) ∈ lw_all := lw_g (lw_at lw_m2 154 rfl) rfl
theorem q445 : (Jvm.Cond.methodLink "SongLamps" (239 : Nat) ({ cls := "SongLamps", name := "isThird", desc := "(II)Z" } : Jvm.MethodName)) ∈ lw_all := lw_g (lw_at lw_m2 155 rfl) rfl
theorem q447 : (Jvm.Cond.instanceMethod ({ cls := "SongLamps", name := "cut", desc := "()I" } : Jvm.MethodName)) ∈ lw_all := lw_g (lw_at lw_m2 157 rfl) rfl
theorem q448 : (Jvm.Cond.selects "SongLamps" ({ cls := "SongLamps", name := "cut", desc := "()I" } : Jvm.MethodName) ({ cls := "SongLamps", name := "cut", desc := "()I" } : Jvm.MethodName)) ∈ lw_all := lw_g (lw_at lw_m2 158 rfl) rfl
theorem q449 : (Jvm.Cond.code ({ cls := "SongLamps", name := "cut", desc := "()I" } : Jvm.MethodName) prog_1_method_41_code (3 : Nat) (Option.some Jvm.ClassFile.FieldType.int)) ∈ lw_all := lw_g (lw_at lw_m2 159 rfl) rfl
theorem q451 : (Jvm.Cond.instanceMethod ({ cls := "SongLamps", name := "hold", desc := "(III)I" } : Jvm.MethodName)) ∈ lw_all := lw_g (lw_at lw_m2 161 rfl) rfl
theorem q452 : (Jvm.Cond.selects "SongLamps" ({ cls := "SongLamps", name := "hold", desc := "(III)I" } : Jvm.MethodName) ({ cls := "SongLamps", name := "hold", desc := "(III)I" } : Jvm.MethodName)) ∈ lw_all := lw_g (lw_at lw_m2 162 rfl) rfl
theorem q453 : (Jvm.Cond.code ({ cls := "SongLamps", name := "hold", desc := "(III)I" } : Jvm.MethodName) prog_1_method_46_code (7 : Nat) (Option.some Jvm.ClassFile.FieldType.int)) ∈ lw_all := lw_g (lw_at lw_m2 163 rfl) rfl
theorem q454 : (Jvm.Cond.constantLong "SongLamps" (264 : Nat) (111 : Int64)) ∈ lw_all := lw_g (lw_at lw_m2 164 rfl) rfl
theorem q455 : (Jvm.Cond.constantLong "SongLamps" (266 : Nat) (999 : Int64)) ∈ lw_all := lw_g (lw_at lw_m2 165 rfl) rfl
theorem q456 : (Jvm.Cond.methodLink "SongLamps" (248 : Nat) ({ cls := "SongLamps", name := "digit", desc := "(II)I" } : Jvm.MethodName)) ∈ lw_all := lw_g (lw_at lw_m2 166 rfl) rfl
theorem q457 : (Jvm.Cond.static ({ cls := "SongLamps", name := "digit", desc := "(II)I" } : Jvm.MethodName)) ∈ lw_all := lw_g (lw_at lw_m2 167 rfl) rfl
theorem q458 : (Jvm.Cond.code ({ cls := "SongLamps", name := "digit", desc := "(II)I" } : Jvm.MethodName) prog_1_method_42_code (2 : Nat) (Option.some Jvm.ClassFile.FieldType.int)) ∈ lw_all := lw_g (lw_at lw_m2 168 rfl) rfl
theorem q459 : (Jvm.Cond.methodLink "SongLamps" (268 : Nat) ({ cls := "SongLamps", name := "fill", desc := "([II)V" } : Jvm.MethodName)) ∈ lw_all := lw_g (lw_at lw_m2 169 rfl) rfl
theorem q460 : (Jvm.Cond.methodLink "SongLamps" (272 : Nat) ({ cls := "SongLamps", name := "holdOn", desc := "()Z" } : Jvm.MethodName)) ∈ lw_all := lw_g (lw_at lw_m2 170 rfl) rfl
theorem q461 : (Jvm.Cond.privateMethod ({ cls := "SongLamps", name := "holdOn", desc := "()Z" } : Jvm.MethodName)) ∈ lw_tbl := lw_at lw_m2 171 rfl
theorem q462 : (Jvm.Cond.instanceMethod ({ cls := "SongLamps", name := "holdOn", desc := "()Z" } : Jvm.MethodName)) ∈ lw_all := lw_g (lw_at lw_m2 172 rfl) rfl
theorem q463 : (Jvm.Cond.code ({ cls := "SongLamps", name := "holdOn", desc := "()Z" } : Jvm.MethodName) prog_1_method_45_code (5 : Nat) (Option.some Jvm.ClassFile.FieldType.boolean)) ∈ lw_all := lw_g (lw_at lw_m2 173 rfl) rfl
theorem q464 : (Jvm.Cond.methodLink "SongLamps" (261 : Nat) ({ cls := "SongLamps", name := "beatsBy", desc := "(II)I" } : Jvm.MethodName)) ∈ lw_all := lw_g (lw_at lw_m2 174 rfl) rfl
theorem q465 : (Jvm.Cond.privateMethod ({ cls := "SongLamps", name := "beatsBy", desc := "(II)I" } : Jvm.MethodName)) ∈ lw_tbl := lw_at lw_m2 175 rfl
theorem q466 : (Jvm.Cond.instanceMethod ({ cls := "SongLamps", name := "beatsBy", desc := "(II)I" } : Jvm.MethodName)) ∈ lw_all := lw_g (lw_at lw_m2 176 rfl) rfl
theorem q467 : (Jvm.Cond.code ({ cls := "SongLamps", name := "beatsBy", desc := "(II)I" } : Jvm.MethodName) prog_1_method_44_code (3 : Nat) (Option.some Jvm.ClassFile.FieldType.int)) ∈ lw_all := lw_g (lw_at lw_m2 177 rfl) rfl
theorem q468 : (Jvm.Cond.methodLink "SongLamps" (255 : Nat) ({ cls := "SongLamps", name := "restsThen", desc := "(II)I" } : Jvm.MethodName)) ∈ lw_all := lw_g (lw_at lw_m2 178 rfl) rfl
theorem q469 : (Jvm.Cond.privateMethod ({ cls := "SongLamps", name := "restsThen", desc := "(II)I" } : Jvm.MethodName)) ∈ lw_tbl := lw_at lw_m2 179 rfl
theorem q470 : (Jvm.Cond.instanceMethod ({ cls := "SongLamps", name := "restsThen", desc := "(II)I" } : Jvm.MethodName)) ∈ lw_all := lw_g (lw_at lw_m2 180 rfl) rfl
theorem q471 : (Jvm.Cond.code ({ cls := "SongLamps", name := "restsThen", desc := "(II)I" } : Jvm.MethodName) prog_1_method_43_code (6 : Nat) (Option.some Jvm.ClassFile.FieldType.int)) ∈ lw_all := lw_g (lw_at lw_m2 181 rfl) rfl
theorem q472 : (Jvm.Cond.methodLink "SongLamps" (252 : Nat) ({ cls := "java/lang/Math", name := "max", desc := "(II)I" } : Jvm.MethodName)) ∈ lw_all := lw_g (lw_at lw_m2 182 rfl) rfl
theorem q473 : (Jvm.Cond.methodLink "SongLamps" (258 : Nat) ({ cls := "java/lang/Math", name := "min", desc := "(II)I" } : Jvm.MethodName)) ∈ lw_all := lw_g (lw_at lw_m2 183 rfl) rfl
theorem q475 : (Jvm.Cond.instanceMethod ({ cls := "SongLamps", name := "round", desc := "(IIII)I" } : Jvm.MethodName)) ∈ lw_all := lw_g (lw_at lw_m2 185 rfl) rfl
theorem q476 : (Jvm.Cond.selects "SongLamps" ({ cls := "SongLamps", name := "round", desc := "(IIII)I" } : Jvm.MethodName) ({ cls := "SongLamps", name := "round", desc := "(IIII)I" } : Jvm.MethodName)) ∈ lw_all := lw_g (lw_at lw_m2 186 rfl) rfl
theorem q477 : (Jvm.Cond.code ({ cls := "SongLamps", name := "round", desc := "(IIII)I" } : Jvm.MethodName) prog_1_method_47_code (6 : Nat) (Option.some Jvm.ClassFile.FieldType.int)) ∈ lw_all := lw_g (lw_at lw_m2 187 rfl) rfl
theorem q479 : (Jvm.Cond.instanceMethod ({ cls := "SongLamps", name := "heard", desc := "(II)I" } : Jvm.MethodName)) ∈ lw_all := lw_g (lw_at lw_m2 189 rfl) rfl
theorem q480 : (Jvm.Cond.selects "SongLamps" ({ cls := "SongLamps", name := "heard", desc := "(II)I" } : Jvm.MethodName) ({ cls := "SongLamps", name := "heard", desc := "(II)I" } : Jvm.MethodName)) ∈ lw_all := lw_g (lw_at lw_m2 190 rfl) rfl
theorem q481 : (Jvm.Cond.code ({ cls := "SongLamps", name := "heard", desc := "(II)I" } : Jvm.MethodName) prog_1_method_48_code (3 : Nat) (Option.some Jvm.ClassFile.FieldType.int)) ∈ lw_all := lw_g (lw_at lw_m2 191 rfl) rfl
theorem q482 : (Jvm.Cond.constantLong "SongLamps" (275 : Nat) (-1 : Int64)) ∈ lw_all := lw_g (lw_at lw_m2 192 rfl) rfl
theorem q484 : (Jvm.Cond.instanceMethod ({ cls := "SongLamps", name := "forget", desc := "()I" } : Jvm.MethodName)) ∈ lw_all := lw_g (lw_at lw_m2 194 rfl) rfl
theorem q485 : (Jvm.Cond.selects "SongLamps" ({ cls := "SongLamps", name := "forget", desc := "()I" } : Jvm.MethodName) ({ cls := "SongLamps", name := "forget", desc := "()I" } : Jvm.MethodName)) ∈ lw_all := lw_g (lw_at lw_m2 195 rfl) rfl
theorem q486 : (Jvm.Cond.code ({ cls := "SongLamps", name := "forget", desc := "()I" } : Jvm.MethodName) prog_1_method_49_code (2 : Nat) (Option.some Jvm.ClassFile.FieldType.int)) ∈ lw_all := lw_g (lw_at lw_m2 196 rfl) rfl
theorem q488 : (Jvm.Cond.instanceMethod ({ cls := "SongLamps", name := "losts", desc := "(I)I" } : Jvm.MethodName)) ∈ lw_all := lw_g (lw_at lw_m2 198 rfl) rfl
theorem q489 : (Jvm.Cond.selects "SongLamps" ({ cls := "SongLamps", name := "losts", desc := "(I)I" } : Jvm.MethodName) ({ cls := "SongLamps", name := "losts", desc := "(I)I" } : Jvm.MethodName)) ∈ lw_all := lw_g (lw_at lw_m2 199 rfl) rfl
theorem q490 : (Jvm.Cond.code ({ cls := "SongLamps", name := "losts", desc := "(I)I" } : Jvm.MethodName) prog_1_method_53_code (4 : Nat) (Option.some Jvm.ClassFile.FieldType.int)) ∈ lw_all := lw_g (lw_at lw_m2 200 rfl) rfl
theorem q491 : (Jvm.Cond.methodLink "SongLamps" (289 : Nat) ({ cls := "SongLamps", name := "findFar", desc := "()V" } : Jvm.MethodName)) ∈ lw_all := lw_g (lw_at lw_m2 201 rfl) rfl
theorem q492 : (Jvm.Cond.privateMethod ({ cls := "SongLamps", name := "findFar", desc := "()V" } : Jvm.MethodName)) ∈ lw_tbl := lw_at lw_m2 202 rfl
theorem q493 : (Jvm.Cond.instanceMethod ({ cls := "SongLamps", name := "findFar", desc := "()V" } : Jvm.MethodName)) ∈ lw_all := lw_g (lw_at lw_m2 203 rfl) rfl
theorem q494 : (Jvm.Cond.code ({ cls := "SongLamps", name := "findFar", desc := "()V" } : Jvm.MethodName) prog_1_method_50_code (2 : Nat) (Option.none : Option Jvm.ClassFile.FieldType)) ∈ lw_all := lw_g (lw_at lw_m2 204 rfl) rfl
theorem q495 : (Jvm.Cond.methodLink "SongLamps" (292 : Nat) ({ cls := "SongLamps", name := "canBe", desc := "(I)Z" } : Jvm.MethodName)) ∈ lw_all := lw_g (lw_at lw_m2 205 rfl) rfl
theorem q496 : (Jvm.Cond.privateMethod ({ cls := "SongLamps", name := "canBe", desc := "(I)Z" } : Jvm.MethodName)) ∈ lw_tbl := lw_at lw_m2 206 rfl
theorem q497 : (Jvm.Cond.instanceMethod ({ cls := "SongLamps", name := "canBe", desc := "(I)Z" } : Jvm.MethodName)) ∈ lw_all := lw_g (lw_at lw_m2 207 rfl) rfl
theorem q498 : (Jvm.Cond.code ({ cls := "SongLamps", name := "canBe", desc := "(I)Z" } : Jvm.MethodName) prog_1_method_52_code (3 : Nat) (Option.some Jvm.ClassFile.FieldType.boolean)) ∈ lw_all := lw_g (lw_at lw_m2 208 rfl) rfl
theorem q499 : (Jvm.Cond.methodLink "SongLamps" (286 : Nat) ({ cls := "SongLamps", name := "heardIn", desc := "(II)I" } : Jvm.MethodName)) ∈ lw_all := lw_g (lw_at lw_m2 209 rfl) rfl
theorem q500 : (Jvm.Cond.privateMethod ({ cls := "SongLamps", name := "heardIn", desc := "(II)I" } : Jvm.MethodName)) ∈ lw_tbl := lw_at lw_m2 210 rfl
theorem q501 : (Jvm.Cond.instanceMethod ({ cls := "SongLamps", name := "heardIn", desc := "(II)I" } : Jvm.MethodName)) ∈ lw_all := lw_g (lw_at lw_m2 211 rfl) rfl
theorem q502 : (Jvm.Cond.code ({ cls := "SongLamps", name := "heardIn", desc := "(II)I" } : Jvm.MethodName) prog_1_method_51_code (4 : Nat) (Option.some Jvm.ClassFile.FieldType.int)) ∈ lw_all := lw_g (lw_at lw_m2 212 rfl) rfl
theorem q504 : (Jvm.Cond.instanceMethod ({ cls := "SongLamps", name := "listen", desc := "(I)I" } : Jvm.MethodName)) ∈ lw_all := lw_g (lw_at lw_m2 214 rfl) rfl
theorem q505 : (Jvm.Cond.selects "SongLamps" ({ cls := "SongLamps", name := "listen", desc := "(I)I" } : Jvm.MethodName) ({ cls := "SongLamps", name := "listen", desc := "(I)I" } : Jvm.MethodName)) ∈ lw_all := lw_g (lw_at lw_m2 215 rfl) rfl
theorem q506 : (Jvm.Cond.code ({ cls := "SongLamps", name := "listen", desc := "(I)I" } : Jvm.MethodName) prog_1_method_55_code (6 : Nat) (Option.some Jvm.ClassFile.FieldType.int)) ∈ lw_all := lw_g (lw_at lw_m2 216 rfl) rfl
theorem q507 : (Jvm.Cond.methodLink "SongLamps" (295 : Nat) ({ cls := "SongLamps", name := "mostLeft", desc := "(I)I" } : Jvm.MethodName)) ∈ lw_all := lw_g (lw_at lw_m2 217 rfl) rfl
theorem q508 : (Jvm.Cond.privateMethod ({ cls := "SongLamps", name := "mostLeft", desc := "(I)I" } : Jvm.MethodName)) ∈ lw_tbl := lw_at lw_m2 218 rfl
theorem q509 : (Jvm.Cond.instanceMethod ({ cls := "SongLamps", name := "mostLeft", desc := "(I)I" } : Jvm.MethodName)) ∈ lw_all := lw_g (lw_at lw_m2 219 rfl) rfl
theorem q510 : (Jvm.Cond.code ({ cls := "SongLamps", name := "mostLeft", desc := "(I)I" } : Jvm.MethodName) prog_1_method_54_code (5 : Nat) (Option.some Jvm.ClassFile.FieldType.int)) ∈ lw_all := lw_g (lw_at lw_m2 220 rfl) rfl
theorem q512 : (Jvm.Cond.instanceMethod ({ cls := "SongLamps", name := "cold", desc := "(IIIII)J" } : Jvm.MethodName)) ∈ lw_all := lw_g (lw_at lw_m2 222 rfl) rfl
theorem q513 : (Jvm.Cond.selects "SongLamps" ({ cls := "SongLamps", name := "cold", desc := "(IIIII)J" } : Jvm.MethodName) ({ cls := "SongLamps", name := "cold", desc := "(IIIII)J" } : Jvm.MethodName)) ∈ lw_all := lw_g (lw_at lw_m2 223 rfl) rfl
theorem q514 : (Jvm.Cond.code ({ cls := "SongLamps", name := "cold", desc := "(IIIII)J" } : Jvm.MethodName) prog_1_method_59_code (11 : Nat) (Option.some Jvm.ClassFile.FieldType.long)) ∈ lw_all := lw_g (lw_at lw_m2 224 rfl) rfl
theorem q515 : (Jvm.Cond.constantLong "SongLamps" (298 : Nat) (-1000000000000000001 : Int64)) ∈ lw_all := lw_g (lw_at lw_m2 225 rfl) rfl
theorem q516 : (Jvm.Cond.constantLong "SongLamps" (300 : Nat) (10 : Int64)) ∈ lw_all := lw_g (lw_at lw_m2 226 rfl) rfl
theorem q517 : (Jvm.Cond.constantLong "SongLamps" (302 : Nat) (-1000000000000000002 : Int64)) ∈ lw_all := lw_g (lw_at lw_m2 227 rfl) rfl
theorem q518 : (Jvm.Cond.methodLink "SongLamps" (304 : Nat) ({ cls := "SongLamps", name := "singingIn", desc := "(I)I" } : Jvm.MethodName)) ∈ lw_all := lw_g (lw_at lw_m2 228 rfl) rfl
theorem q519 : (Jvm.Cond.privateMethod ({ cls := "SongLamps", name := "singingIn", desc := "(I)I" } : Jvm.MethodName)) ∈ lw_tbl := lw_at lw_m2 229 rfl
theorem q520 : (Jvm.Cond.instanceMethod ({ cls := "SongLamps", name := "singingIn", desc := "(I)I" } : Jvm.MethodName)) ∈ lw_all := lw_g (lw_at lw_m2 230 rfl) rfl
theorem q521 : (Jvm.Cond.code ({ cls := "SongLamps", name := "singingIn", desc := "(I)I" } : Jvm.MethodName) prog_1_method_58_code (4 : Nat) (Option.some Jvm.ClassFile.FieldType.int)) ∈ lw_all := lw_g (lw_at lw_m2 231 rfl) rfl
theorem q522 : (Jvm.Cond.methodLink "SongLamps" (307 : Nat) ({ cls := "SongLamps", name := "times", desc := "(JI)J" } : Jvm.MethodName)) ∈ lw_all := lw_g (lw_at lw_m2 232 rfl) rfl
theorem q523 : (Jvm.Cond.static ({ cls := "SongLamps", name := "times", desc := "(JI)J" } : Jvm.MethodName)) ∈ lw_all := lw_g (lw_at lw_m2 233 rfl) rfl
theorem q524 : (Jvm.Cond.code ({ cls := "SongLamps", name := "times", desc := "(JI)J" } : Jvm.MethodName) prog_1_method_56_code (6 : Nat) (Option.some Jvm.ClassFile.FieldType.long)) ∈ lw_all := lw_g (lw_at lw_m2 234 rfl) rfl
theorem q525 : (Jvm.Cond.methodLink "SongLamps" (311 : Nat) ({ cls := "SongLamps", name := "lowest", desc := "(JJI)J" } : Jvm.MethodName)) ∈ lw_all := lw_g (lw_at lw_m2 235 rfl) rfl
theorem q526 : (Jvm.Cond.static ({ cls := "SongLamps", name := "lowest", desc := "(JJI)J" } : Jvm.MethodName)) ∈ lw_all := lw_g (lw_at lw_m2 236 rfl) rfl
theorem q527 : (Jvm.Cond.code ({ cls := "SongLamps", name := "lowest", desc := "(JJI)J" } : Jvm.MethodName) prog_1_method_57_code (11 : Nat) (Option.some Jvm.ClassFile.FieldType.long)) ∈ lw_all := lw_g (lw_at lw_m2 237 rfl) rfl
theorem q528 : (Jvm.Cond.constantLong "SongLamps" (315 : Nat) (-1000000000000000003 : Int64)) ∈ lw_all := lw_g (lw_at lw_m2 238 rfl) rfl
theorem q530 : (Jvm.Cond.instanceMethod ({ cls := "SongLamps", name := "year", desc := "(III)I" } : Jvm.MethodName)) ∈ lw_all := lw_g (lw_at lw_m3 0 rfl) rfl
theorem q531 : (Jvm.Cond.selects "SongLamps" ({ cls := "SongLamps", name := "year", desc := "(III)I" } : Jvm.MethodName) ({ cls := "SongLamps", name := "year", desc := "(III)I" } : Jvm.MethodName)) ∈ lw_all := lw_g (lw_at lw_m3 1 rfl) rfl
theorem q532 : (Jvm.Cond.code ({ cls := "SongLamps", name := "year", desc := "(III)I" } : Jvm.MethodName) prog_1_method_61_code (8 : Nat) (Option.some Jvm.ClassFile.FieldType.int)) ∈ lw_all := lw_g (lw_at lw_m3 2 rfl) rfl
theorem q533 : (Jvm.Cond.constantLong "SongLamps" (317 : Nat) (9999 : Int64)) ∈ lw_all := lw_g (lw_at lw_m3 3 rfl) rfl
theorem q534 : (Jvm.Cond.constantLong "SongLamps" (319 : Nat) (75 : Int64)) ∈ lw_all := lw_g (lw_at lw_m3 4 rfl) rfl
theorem q535 : (Jvm.Cond.constantLong "SongLamps" (321 : Nat) (74 : Int64)) ∈ lw_all := lw_g (lw_at lw_m3 5 rfl) rfl
theorem q536 : (Jvm.Cond.constantLong "SongLamps" (323 : Nat) (65537 : Int64)) ∈ lw_all := lw_g (lw_at lw_m3 6 rfl) rfl
theorem q537 : (Jvm.Cond.methodLink "SongLamps" (325 : Nat) ({ cls := "SongLamps", name := "actBy", desc := "(I)I" } : Jvm.MethodName)) ∈ lw_all := lw_g (lw_at lw_m3 7 rfl) rfl
theorem q538 : (Jvm.Cond.static ({ cls := "SongLamps", name := "actBy", desc := "(I)I" } : Jvm.MethodName)) ∈ lw_all := lw_g (lw_at lw_m3 8 rfl) rfl
theorem q539 : (Jvm.Cond.code ({ cls := "SongLamps", name := "actBy", desc := "(I)I" } : Jvm.MethodName) prog_1_method_60_code (1 : Nat) (Option.some Jvm.ClassFile.FieldType.int)) ∈ lw_all := lw_g (lw_at lw_m3 9 rfl) rfl
theorem q541 : (Jvm.Cond.instanceMethod ({ cls := "SongLamps", name := "image", desc := "(I)I" } : Jvm.MethodName)) ∈ lw_all := lw_g (lw_at lw_m3 11 rfl) rfl
theorem q542 : (Jvm.Cond.selects "SongLamps" ({ cls := "SongLamps", name := "image", desc := "(I)I" } : Jvm.MethodName) ({ cls := "SongLamps", name := "image", desc := "(I)I" } : Jvm.MethodName)) ∈ lw_all := lw_g (lw_at lw_m3 12 rfl) rfl
theorem q543 : (Jvm.Cond.code ({ cls := "SongLamps", name := "image", desc := "(I)I" } : Jvm.MethodName) prog_1_method_62_code (2 : Nat) (Option.some Jvm.ClassFile.FieldType.int)) ∈ lw_all := lw_g (lw_at lw_m3 13 rfl) rfl
theorem q545 : (Jvm.Cond.instanceMethod ({ cls := "SongLamps", name := "restore", desc := "(I)I" } : Jvm.MethodName)) ∈ lw_all := lw_g (lw_at lw_m3 15 rfl) rfl
theorem q546 : (Jvm.Cond.selects "SongLamps" ({ cls := "SongLamps", name := "restore", desc := "(I)I" } : Jvm.MethodName) ({ cls := "SongLamps", name := "restore", desc := "(I)I" } : Jvm.MethodName)) ∈ lw_all := lw_g (lw_at lw_m3 16 rfl) rfl
theorem q547 : (Jvm.Cond.code ({ cls := "SongLamps", name := "restore", desc := "(I)I" } : Jvm.MethodName) prog_1_method_63_code (2 : Nat) (Option.some Jvm.ClassFile.FieldType.int)) ∈ lw_all := lw_g (lw_at lw_m3 17 rfl) rfl
theorem q549 : (Jvm.Cond.instanceMethod ({ cls := "SongLamps", name := "told", desc := "(I)I" } : Jvm.MethodName)) ∈ lw_all := lw_g (lw_at lw_m3 19 rfl) rfl
theorem q550 : (Jvm.Cond.selects "SongLamps" ({ cls := "SongLamps", name := "told", desc := "(I)I" } : Jvm.MethodName) ({ cls := "SongLamps", name := "told", desc := "(I)I" } : Jvm.MethodName)) ∈ lw_all := lw_g (lw_at lw_m3 20 rfl) rfl
theorem q551 : (Jvm.Cond.code ({ cls := "SongLamps", name := "told", desc := "(I)I" } : Jvm.MethodName) prog_1_method_67_code (2 : Nat) (Option.some Jvm.ClassFile.FieldType.int)) ∈ lw_all := lw_g (lw_at lw_m3 21 rfl) rfl
theorem q552 : (Jvm.Cond.constantLong "SongLamps" (328 : Nat) (100 : Int64)) ∈ lw_all := lw_g (lw_at lw_m3 22 rfl) rfl
theorem q553 : (Jvm.Cond.constantLong "SongLamps" (330 : Nat) (199 : Int64)) ∈ lw_all := lw_g (lw_at lw_m3 23 rfl) rfl
theorem q554 : (Jvm.Cond.methodLink "SongLamps" (332 : Nat) ({ cls := "SongLamps", name := "toldOfGallery", desc := "(II)I" } : Jvm.MethodName)) ∈ lw_all := lw_g (lw_at lw_m3 24 rfl) rfl
theorem q555 : (Jvm.Cond.privateMethod ({ cls := "SongLamps", name := "toldOfGallery", desc := "(II)I" } : Jvm.MethodName)) ∈ lw_tbl := lw_at lw_m3 25 rfl
theorem q556 : (Jvm.Cond.instanceMethod ({ cls := "SongLamps", name := "toldOfGallery", desc := "(II)I" } : Jvm.MethodName)) ∈ lw_all := lw_g (lw_at lw_m3 26 rfl) rfl
theorem q557 : (Jvm.Cond.code ({ cls := "SongLamps", name := "toldOfGallery", desc := "(II)I" } : Jvm.MethodName) prog_1_method_65_code (3 : Nat) (Option.some Jvm.ClassFile.FieldType.int)) ∈ lw_all := lw_g (lw_at lw_m3 27 rfl) rfl
theorem q558 : (Jvm.Cond.constantLong "SongLamps" (335 : Nat) (89 : Int64)) ∈ lw_all := lw_g (lw_at lw_m3 28 rfl) rfl
theorem q559 : (Jvm.Cond.methodLink "SongLamps" (337 : Nat) ({ cls := "SongLamps", name := "toldOfVoice", desc := "(II)I" } : Jvm.MethodName)) ∈ lw_all := lw_g (lw_at lw_m3 29 rfl) rfl
theorem q560 : (Jvm.Cond.privateMethod ({ cls := "SongLamps", name := "toldOfVoice", desc := "(II)I" } : Jvm.MethodName)) ∈ lw_tbl := lw_at lw_m3 30 rfl
theorem q561 : (Jvm.Cond.instanceMethod ({ cls := "SongLamps", name := "toldOfVoice", desc := "(II)I" } : Jvm.MethodName)) ∈ lw_all := lw_g (lw_at lw_m3 31 rfl) rfl
theorem q562 : (Jvm.Cond.code ({ cls := "SongLamps", name := "toldOfVoice", desc := "(II)I" } : Jvm.MethodName) prog_1_method_64_code (3 : Nat) (Option.some Jvm.ClassFile.FieldType.int)) ∈ lw_all := lw_g (lw_at lw_m3 32 rfl) rfl
theorem q563 : (Jvm.Cond.methodLink "SongLamps" (340 : Nat) ({ cls := "SongLamps", name := "toldOfAll", desc := "(I)I" } : Jvm.MethodName)) ∈ lw_all := lw_g (lw_at lw_m3 33 rfl) rfl
theorem q564 : (Jvm.Cond.privateMethod ({ cls := "SongLamps", name := "toldOfAll", desc := "(I)I" } : Jvm.MethodName)) ∈ lw_tbl := lw_at lw_m3 34 rfl
theorem q565 : (Jvm.Cond.instanceMethod ({ cls := "SongLamps", name := "toldOfAll", desc := "(I)I" } : Jvm.MethodName)) ∈ lw_all := lw_g (lw_at lw_m3 35 rfl) rfl
theorem q566 : (Jvm.Cond.code ({ cls := "SongLamps", name := "toldOfAll", desc := "(I)I" } : Jvm.MethodName) prog_1_method_66_code (2 : Nat) (Option.some Jvm.ClassFile.FieldType.int)) ∈ lw_all := lw_g (lw_at lw_m3 36 rfl) rfl
theorem in_X0 : ∀ w ∈ wsX00, w ∈ lw_all := lw_in wsX00 [162, 164, 166, 168, 170, 172, 174, 176, 178, 180, 182, 184, 186, 188, 190, 192, 194, 196] (by decide +kernel) (by decide +kernel)
