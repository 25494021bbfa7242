/-! SyncHallModel -/
set_option maxRecDepth 100000
def RX3 : String := "SyncHallModel"
def TX3 : u_T := fun k => match k with
  | 0 => ("SyncHallModel", "failed", "I", false)
  | 1 => ("SyncHallModel", "blocked", "[Z", true)
  | 2 => ("SyncHallModel", "flag", "[Z", true)
  | 3 => ("SyncHallModel", "priority", "[D", true)
  | 4 => ("SyncHallModel", "outcome", "[I", true)
  | 5 => ("SyncHallModel", "waitsFor", "[I", true)
  | 6 => ("SyncHallModel", "mode", "[I", true)
  | 7 => ("SyncHallModel", "end", "[D", true)
  | 8 => ("SyncHallModel", "since", "[D", true)
  | 9 => ("SyncHallModel", "back", "[I", true)
  | 10 => ("SyncHallModel", "after", "[I", true)
  | 11 => ("SyncHallModel", "time", "D", false)
  | 12 => ("SyncHallModel", "kind", "[I", true)
  | 13 => ("SyncHallModel", "owner", "[I", true)
  | 14 => ("SyncHallModel", "depth", "[I", true)
  | 15 => ("SyncHallModel", "permits", "[I", true)
  | 16 => ("SyncHallModel", "lock", "[I", true)
  | 17 => ("SyncHallModel", "reads", "[I", true)
  | 18 => ("SyncHallModel", "row", "[I", true)
  | 19 => ("SyncHallModel", "waiters", "[I", true)
  | 20 => ("SyncHallModel", "waitedSum", "[D", true)
  | 21 => ("SyncHallModel", "waitedCount", "[I", true)
  | 22 => ("SyncHallModel", "before", "[Z", true)
  | 23 => ("SyncHallModel", "reached", "[Z", true)
  | 24 => ("SyncHallModel", "policy", "I", false)
  | _ => ("SyncHallModel", "warnings", "I", false)
def tyX3 : Nat → FieldType := fun k => match k with
  | 0 => .int
  | 1 => .array .boolean
  | 2 => .array .boolean
  | 3 => .array .double
  | 4 => .array .int
  | 5 => .array .int
  | 6 => .array .int
  | 7 => .array .double
  | 8 => .array .double
  | 9 => .array .int
  | 10 => .array .int
  | 11 => .double
  | 12 => .array .int
  | 13 => .array .int
  | 14 => .array .int
  | 15 => .array .int
  | 16 => .array .int
  | 17 => .array .int
  | 18 => .array .int
  | 19 => .array .int
  | 20 => .array .double
  | 21 => .array .int
  | 22 => .array .boolean
  | 23 => .array .boolean
  | 24 => .int
  | _ => .int
abbrev wsX30 : List Cond := u_ws RX3 TX3 26
set_option maxRecDepth 100000 in
theorem nmX3 : ∀ a, a < 26 → ∀ b, b < 26 → a ≠ b → (TX3 a).2.1 ≠ (TX3 b).2.1 := by decide +kernel
set_option maxRecDepth 100000 in
theorem tyX3_ok : ∀ k, k < 26 → parseFieldDescriptor (TX3 k).2.2.1 = some (tyX3 k) := by decide +kernel
abbrev cX3_init : ByteArray := prog_11_method_1_code
def yX3_init : MethodName := ⟨RX3, "<init>", "()V"⟩
theorem dX3_init_0 : decode cX3_init 0 = .ok (.aload_n 0, 1) := by decide +kernel
theorem dX3_init_1 : decode cX3_init 1 = .ok (.invokespecial 1, 3) := by decide +kernel
theorem dX3_init_4 : decode cX3_init 4 = .ok (.aload_n 0, 1) := by decide +kernel
theorem dX3_init_5 : decode cX3_init 5 = .ok (.bipush 6, 2) := by decide +kernel
theorem dX3_init_7 : decode cX3_init 7 = .ok (.newarray .boolean, 2) := by decide +kernel
theorem dX3_init_9 : decode cX3_init 9 = .ok (.putfield 7, 3) := by decide +kernel
theorem dX3_init_12 : decode cX3_init 12 = .ok (.aload_n 0, 1) := by decide +kernel
theorem dX3_init_13 : decode cX3_init 13 = .ok (.bipush 6, 2) := by decide +kernel
theorem dX3_init_15 : decode cX3_init 15 = .ok (.newarray .boolean, 2) := by decide +kernel
theorem dX3_init_17 : decode cX3_init 17 = .ok (.putfield 13, 3) := by decide +kernel
theorem dX3_init_20 : decode cX3_init 20 = .ok (.aload_n 0, 1) := by decide +kernel
theorem dX3_init_21 : decode cX3_init 21 = .ok (.bipush 6, 2) := by decide +kernel
theorem dX3_init_23 : decode cX3_init 23 = .ok (.newarray .double, 2) := by decide +kernel
theorem dX3_init_25 : decode cX3_init 25 = .ok (.putfield 16, 3) := by decide +kernel
theorem dX3_init_28 : decode cX3_init 28 = .ok (.aload_n 0, 1) := by decide +kernel
theorem dX3_init_29 : decode cX3_init 29 = .ok (.bipush 6, 2) := by decide +kernel
theorem dX3_init_31 : decode cX3_init 31 = .ok (.newarray .int, 2) := by decide +kernel
theorem dX3_init_33 : decode cX3_init 33 = .ok (.putfield 20, 3) := by decide +kernel
theorem dX3_init_36 : decode cX3_init 36 = .ok (.aload_n 0, 1) := by decide +kernel
theorem dX3_init_37 : decode cX3_init 37 = .ok (.bipush 6, 2) := by decide +kernel
theorem dX3_init_39 : decode cX3_init 39 = .ok (.newarray .int, 2) := by decide +kernel
theorem dX3_init_41 : decode cX3_init 41 = .ok (.putfield 24, 3) := by decide +kernel
theorem dX3_init_44 : decode cX3_init 44 = .ok (.aload_n 0, 1) := by decide +kernel
theorem dX3_init_45 : decode cX3_init 45 = .ok (.bipush 6, 2) := by decide +kernel
theorem dX3_init_47 : decode cX3_init 47 = .ok (.newarray .int, 2) := by decide +kernel
theorem dX3_init_49 : decode cX3_init 49 = .ok (.putfield 27, 3) := by decide +kernel
theorem dX3_init_52 : decode cX3_init 52 = .ok (.aload_n 0, 1) := by decide +kernel
theorem dX3_init_53 : decode cX3_init 53 = .ok (.bipush 6, 2) := by decide +kernel
theorem dX3_init_55 : decode cX3_init 55 = .ok (.newarray .double, 2) := by decide +kernel
theorem dX3_init_57 : decode cX3_init 57 = .ok (.putfield 30, 3) := by decide +kernel
theorem dX3_init_60 : decode cX3_init 60 = .ok (.aload_n 0, 1) := by decide +kernel
theorem dX3_init_61 : decode cX3_init 61 = .ok (.bipush 6, 2) := by decide +kernel
theorem dX3_init_63 : decode cX3_init 63 = .ok (.newarray .double, 2) := by decide +kernel
theorem dX3_init_65 : decode cX3_init 65 = .ok (.putfield 33, 3) := by decide +kernel
theorem dX3_init_68 : decode cX3_init 68 = .ok (.aload_n 0, 1) := by decide +kernel
theorem dX3_init_69 : decode cX3_init 69 = .ok (.bipush 6, 2) := by decide +kernel
theorem dX3_init_71 : decode cX3_init 71 = .ok (.newarray .int, 2) := by decide +kernel
theorem dX3_init_73 : decode cX3_init 73 = .ok (.putfield 36, 3) := by decide +kernel
theorem dX3_init_76 : decode cX3_init 76 = .ok (.aload_n 0, 1) := by decide +kernel
theorem dX3_init_77 : decode cX3_init 77 = .ok (.bipush 6, 2) := by decide +kernel
theorem dX3_init_79 : decode cX3_init 79 = .ok (.newarray .int, 2) := by decide +kernel
theorem dX3_init_81 : decode cX3_init 81 = .ok (.putfield 39, 3) := by decide +kernel
theorem dX3_init_84 : decode cX3_init 84 = .ok (.aload_n 0, 1) := by decide +kernel
theorem dX3_init_85 : decode cX3_init 85 = .ok (.bipush 8, 2) := by decide +kernel
theorem dX3_init_87 : decode cX3_init 87 = .ok (.newarray .int, 2) := by decide +kernel
theorem dX3_init_89 : decode cX3_init 89 = .ok (.putfield 42, 3) := by decide +kernel
theorem dX3_init_92 : decode cX3_init 92 = .ok (.aload_n 0, 1) := by decide +kernel
theorem dX3_init_93 : decode cX3_init 93 = .ok (.bipush 8, 2) := by decide +kernel
theorem dX3_init_95 : decode cX3_init 95 = .ok (.newarray .int, 2) := by decide +kernel
theorem dX3_init_97 : decode cX3_init 97 = .ok (.putfield 45, 3) := by decide +kernel
theorem dX3_init_100 : decode cX3_init 100 = .ok (.aload_n 0, 1) := by decide +kernel
theorem dX3_init_101 : decode cX3_init 101 = .ok (.bipush 8, 2) := by decide +kernel
theorem dX3_init_103 : decode cX3_init 103 = .ok (.newarray .int, 2) := by decide +kernel
theorem dX3_init_105 : decode cX3_init 105 = .ok (.putfield 48, 3) := by decide +kernel
theorem dX3_init_108 : decode cX3_init 108 = .ok (.aload_n 0, 1) := by decide +kernel
theorem dX3_init_109 : decode cX3_init 109 = .ok (.bipush 8, 2) := by decide +kernel
theorem dX3_init_111 : decode cX3_init 111 = .ok (.newarray .int, 2) := by decide +kernel
theorem dX3_init_113 : decode cX3_init 113 = .ok (.putfield 51, 3) := by decide +kernel
theorem dX3_init_116 : decode cX3_init 116 = .ok (.aload_n 0, 1) := by decide +kernel
theorem dX3_init_117 : decode cX3_init 117 = .ok (.bipush 8, 2) := by decide +kernel
theorem dX3_init_119 : decode cX3_init 119 = .ok (.newarray .int, 2) := by decide +kernel
theorem dX3_init_121 : decode cX3_init 121 = .ok (.putfield 54, 3) := by decide +kernel
theorem dX3_init_124 : decode cX3_init 124 = .ok (.aload_n 0, 1) := by decide +kernel
theorem dX3_init_125 : decode cX3_init 125 = .ok (.bipush 48, 2) := by decide +kernel
theorem dX3_init_127 : decode cX3_init 127 = .ok (.newarray .int, 2) := by decide +kernel
theorem dX3_init_129 : decode cX3_init 129 = .ok (.putfield 57, 3) := by decide +kernel
theorem dX3_init_132 : decode cX3_init 132 = .ok (.aload_n 0, 1) := by decide +kernel
theorem dX3_init_133 : decode cX3_init 133 = .ok (.bipush 48, 2) := by decide +kernel
theorem dX3_init_135 : decode cX3_init 135 = .ok (.newarray .int, 2) := by decide +kernel
theorem dX3_init_137 : decode cX3_init 137 = .ok (.putfield 60, 3) := by decide +kernel
theorem dX3_init_140 : decode cX3_init 140 = .ok (.aload_n 0, 1) := by decide +kernel
theorem dX3_init_141 : decode cX3_init 141 = .ok (.bipush 8, 2) := by decide +kernel
theorem dX3_init_143 : decode cX3_init 143 = .ok (.newarray .int, 2) := by decide +kernel
theorem dX3_init_145 : decode cX3_init 145 = .ok (.putfield 63, 3) := by decide +kernel
theorem dX3_init_148 : decode cX3_init 148 = .ok (.aload_n 0, 1) := by decide +kernel
theorem dX3_init_149 : decode cX3_init 149 = .ok (.bipush 8, 2) := by decide +kernel
theorem dX3_init_151 : decode cX3_init 151 = .ok (.newarray .double, 2) := by decide +kernel
theorem dX3_init_153 : decode cX3_init 153 = .ok (.putfield 66, 3) := by decide +kernel
theorem dX3_init_156 : decode cX3_init 156 = .ok (.aload_n 0, 1) := by decide +kernel
theorem dX3_init_157 : decode cX3_init 157 = .ok (.bipush 8, 2) := by decide +kernel
theorem dX3_init_159 : decode cX3_init 159 = .ok (.newarray .int, 2) := by decide +kernel
theorem dX3_init_161 : decode cX3_init 161 = .ok (.putfield 69, 3) := by decide +kernel
theorem dX3_init_164 : decode cX3_init 164 = .ok (.aload_n 0, 1) := by decide +kernel
theorem dX3_init_165 : decode cX3_init 165 = .ok (.bipush 64, 2) := by decide +kernel
theorem dX3_init_167 : decode cX3_init 167 = .ok (.newarray .boolean, 2) := by decide +kernel
theorem dX3_init_169 : decode cX3_init 169 = .ok (.putfield 72, 3) := by decide +kernel
theorem dX3_init_172 : decode cX3_init 172 = .ok (.aload_n 0, 1) := by decide +kernel
theorem dX3_init_173 : decode cX3_init 173 = .ok (.bipush 8, 2) := by decide +kernel
theorem dX3_init_175 : decode cX3_init 175 = .ok (.newarray .boolean, 2) := by decide +kernel
theorem dX3_init_177 : decode cX3_init 177 = .ok (.putfield 75, 3) := by decide +kernel
theorem dX3_init_180 : decode cX3_init 180 = .ok (.iconst 0, 1) := by decide +kernel
theorem dX3_init_181 : decode cX3_init 181 = .ok (.istore_n 1, 1) := by decide +kernel
theorem dX3_init_182 : decode cX3_init 182 = .ok (.iload_n 1, 1) := by decide +kernel
theorem dX3_init_183 : decode cX3_init 183 = .ok (.bipush 6, 2) := by decide +kernel
theorem dX3_init_185 : decode cX3_init 185 = .ok (.if_icmp .ge 23, 3) := by decide +kernel
theorem dX3_init_188 : decode cX3_init 188 = .ok (.aload_n 0, 1) := by decide +kernel
theorem dX3_init_189 : decode cX3_init 189 = .ok (.getfield 20, 3) := by decide +kernel
theorem dX3_init_192 : decode cX3_init 192 = .ok (.iload_n 1, 1) := by decide +kernel
theorem dX3_init_193 : decode cX3_init 193 = .ok (.iconst (-1), 1) := by decide +kernel
theorem dX3_init_194 : decode cX3_init 194 = .ok (.iastore, 1) := by decide +kernel
theorem dX3_init_195 : decode cX3_init 195 = .ok (.aload_n 0, 1) := by decide +kernel
theorem dX3_init_196 : decode cX3_init 196 = .ok (.getfield 24, 3) := by decide +kernel
theorem dX3_init_199 : decode cX3_init 199 = .ok (.iload_n 1, 1) := by decide +kernel
theorem dX3_init_200 : decode cX3_init 200 = .ok (.iconst (-1), 1) := by decide +kernel
theorem dX3_init_201 : decode cX3_init 201 = .ok (.iastore, 1) := by decide +kernel
theorem dX3_init_202 : decode cX3_init 202 = .ok (.iinc 1 1, 3) := by decide +kernel
theorem dX3_init_205 : decode cX3_init 205 = .ok (.goto (-23), 3) := by decide +kernel
theorem dX3_init_208 : decode cX3_init 208 = .ok (.iconst 0, 1) := by decide +kernel
theorem dX3_init_209 : decode cX3_init 209 = .ok (.istore_n 1, 1) := by decide +kernel
theorem dX3_init_210 : decode cX3_init 210 = .ok (.iload_n 1, 1) := by decide +kernel
theorem dX3_init_211 : decode cX3_init 211 = .ok (.bipush 8, 2) := by decide +kernel
theorem dX3_init_213 : decode cX3_init 213 = .ok (.if_icmp .ge 23, 3) := by decide +kernel
theorem dX3_init_216 : decode cX3_init 216 = .ok (.aload_n 0, 1) := by decide +kernel
theorem dX3_init_217 : decode cX3_init 217 = .ok (.getfield 42, 3) := by decide +kernel
theorem dX3_init_220 : decode cX3_init 220 = .ok (.iload_n 1, 1) := by decide +kernel
theorem dX3_init_221 : decode cX3_init 221 = .ok (.iconst (-1), 1) := by decide +kernel
theorem dX3_init_222 : decode cX3_init 222 = .ok (.iastore, 1) := by decide +kernel
theorem dX3_init_223 : decode cX3_init 223 = .ok (.aload_n 0, 1) := by decide +kernel
theorem dX3_init_224 : decode cX3_init 224 = .ok (.getfield 45, 3) := by decide +kernel
theorem dX3_init_227 : decode cX3_init 227 = .ok (.iload_n 1, 1) := by decide +kernel
theorem dX3_init_228 : decode cX3_init 228 = .ok (.iconst (-1), 1) := by decide +kernel
theorem dX3_init_229 : decode cX3_init 229 = .ok (.iastore, 1) := by decide +kernel
theorem dX3_init_230 : decode cX3_init 230 = .ok (.iinc 1 1, 3) := by decide +kernel
theorem dX3_init_233 : decode cX3_init 233 = .ok (.goto (-23), 3) := by decide +kernel
theorem dX3_init_236 : decode cX3_init 236 = .ok (.return_, 1) := by decide +kernel
abbrev cX3_thrown : ByteArray := prog_11_method_2_code
def yX3_thrown : MethodName := ⟨RX3, "thrown", "()I"⟩
theorem dX3_thrown_0 : decode cX3_thrown 0 = .ok (.aload_n 0, 1) := by decide +kernel
theorem dX3_thrown_1 : decode cX3_thrown 1 = .ok (.getfield 78, 3) := by decide +kernel
theorem dX3_thrown_4 : decode cX3_thrown 4 = .ok (.ireturn, 1) := by decide +kernel
abbrev cX3_make : ByteArray := prog_11_method_5_code
def yX3_make : MethodName := ⟨RX3, "make", "(III)I"⟩
theorem dX3_make_0 : decode cX3_make 0 = .ok (.aload_n 0, 1) := by decide +kernel
theorem dX3_make_1 : decode cX3_make 1 = .ok (.iconst 0, 1) := by decide +kernel
theorem dX3_make_2 : decode cX3_make 2 = .ok (.putfield 78, 3) := by decide +kernel
theorem dX3_make_5 : decode cX3_make 5 = .ok (.iload_n 2, 1) := by decide +kernel
theorem dX3_make_6 : decode cX3_make 6 = .ok (.iconst 2, 1) := by decide +kernel
theorem dX3_make_7 : decode cX3_make 7 = .ok (.if_icmp .lt 12, 3) := by decide +kernel
theorem dX3_make_10 : decode cX3_make 10 = .ok (.iload_n 2, 1) := by decide +kernel
theorem dX3_make_11 : decode cX3_make 11 = .ok (.iconst 4, 1) := by decide +kernel
theorem dX3_make_12 : decode cX3_make 12 = .ok (.if_icmp .gt 7, 3) := by decide +kernel
theorem dX3_make_15 : decode cX3_make 15 = .ok (.iconst 5, 1) := by decide +kernel
theorem dX3_make_16 : decode cX3_make 16 = .ok (.goto 15, 3) := by decide +kernel
theorem dX3_make_19 : decode cX3_make 19 = .ok (.iload_n 2, 1) := by decide +kernel
theorem dX3_make_20 : decode cX3_make 20 = .ok (.bipush 6, 2) := by decide +kernel
theorem dX3_make_22 : decode cX3_make 22 = .ok (.if_icmp .ne 8, 3) := by decide +kernel
theorem dX3_make_25 : decode cX3_make 25 = .ok (.bipush 7, 2) := by decide +kernel
theorem dX3_make_27 : decode cX3_make 27 = .ok (.goto 4, 3) := by decide +kernel
theorem dX3_make_30 : decode cX3_make 30 = .ok (.iconst 0, 1) := by decide +kernel
theorem dX3_make_31 : decode cX3_make 31 = .ok (.istore 4, 2) := by decide +kernel
theorem dX3_make_33 : decode cX3_make 33 = .ok (.aload_n 0, 1) := by decide +kernel
theorem dX3_make_34 : decode cX3_make 34 = .ok (.iload_n 1, 1) := by decide +kernel
theorem dX3_make_35 : decode cX3_make 35 = .ok (.bipush 8, 2) := by decide +kernel
theorem dX3_make_37 : decode cX3_make 37 = .ok (.invokevirtual 82, 3) := by decide +kernel
theorem dX3_make_40 : decode cX3_make 40 = .ok (.ifCond .ne 25, 3) := by decide +kernel
theorem dX3_make_43 : decode cX3_make 43 = .ok (.aload_n 0, 1) := by decide +kernel
theorem dX3_make_44 : decode cX3_make 44 = .ok (.iload_n 2, 1) := by decide +kernel
theorem dX3_make_45 : decode cX3_make 45 = .ok (.bipush 7, 2) := by decide +kernel
theorem dX3_make_47 : decode cX3_make 47 = .ok (.invokevirtual 82, 3) := by decide +kernel
theorem dX3_make_50 : decode cX3_make 50 = .ok (.ifCond .ne 15, 3) := by decide +kernel
theorem dX3_make_53 : decode cX3_make 53 = .ok (.aload_n 0, 1) := by decide +kernel
theorem dX3_make_54 : decode cX3_make 54 = .ok (.iload_n 3, 1) := by decide +kernel
theorem dX3_make_55 : decode cX3_make 55 = .ok (.iload 4, 2) := by decide +kernel
theorem dX3_make_57 : decode cX3_make 57 = .ok (.iconst 1, 1) := by decide +kernel
theorem dX3_make_58 : decode cX3_make 58 = .ok (.iadd, 1) := by decide +kernel
theorem dX3_make_59 : decode cX3_make 59 = .ok (.invokevirtual 82, 3) := by decide +kernel
theorem dX3_make_62 : decode cX3_make 62 = .ok (.ifCond .eq 9, 3) := by decide +kernel
theorem dX3_make_65 : decode cX3_make 65 = .ok (.aload_n 0, 1) := by decide +kernel
theorem dX3_make_66 : decode cX3_make 66 = .ok (.iconst 1, 1) := by decide +kernel
theorem dX3_make_67 : decode cX3_make 67 = .ok (.invokevirtual 86, 3) := by decide +kernel
theorem dX3_make_70 : decode cX3_make 70 = .ok (.ireturn, 1) := by decide +kernel
theorem dX3_make_71 : decode cX3_make 71 = .ok (.iload_n 2, 1) := by decide +kernel
theorem dX3_make_72 : decode cX3_make 72 = .ok (.bipush 6, 2) := by decide +kernel
theorem dX3_make_74 : decode cX3_make 74 = .ok (.if_icmp .ne 28, 3) := by decide +kernel
theorem dX3_make_77 : decode cX3_make 77 = .ok (.aload_n 0, 1) := by decide +kernel
theorem dX3_make_78 : decode cX3_make 78 = .ok (.getfield 42, 3) := by decide +kernel
theorem dX3_make_81 : decode cX3_make 81 = .ok (.iload_n 3, 1) := by decide +kernel
theorem dX3_make_82 : decode cX3_make 82 = .ok (.iaload, 1) := by decide +kernel
theorem dX3_make_83 : decode cX3_make 83 = .ok (.ifCond .eq 19, 3) := by decide +kernel
theorem dX3_make_86 : decode cX3_make 86 = .ok (.aload_n 0, 1) := by decide +kernel
theorem dX3_make_87 : decode cX3_make 87 = .ok (.getfield 42, 3) := by decide +kernel
theorem dX3_make_90 : decode cX3_make 90 = .ok (.iload_n 3, 1) := by decide +kernel
theorem dX3_make_91 : decode cX3_make 91 = .ok (.iaload, 1) := by decide +kernel
theorem dX3_make_92 : decode cX3_make 92 = .ok (.iconst 1, 1) := by decide +kernel
theorem dX3_make_93 : decode cX3_make 93 = .ok (.if_icmp .eq 9, 3) := by decide +kernel
theorem dX3_make_96 : decode cX3_make 96 = .ok (.aload_n 0, 1) := by decide +kernel
theorem dX3_make_97 : decode cX3_make 97 = .ok (.iconst 2, 1) := by decide +kernel
theorem dX3_make_98 : decode cX3_make 98 = .ok (.invokevirtual 86, 3) := by decide +kernel
theorem dX3_make_101 : decode cX3_make 101 = .ok (.ireturn, 1) := by decide +kernel
theorem dX3_make_102 : decode cX3_make 102 = .ok (.aload_n 0, 1) := by decide +kernel
theorem dX3_make_103 : decode cX3_make 103 = .ok (.getfield 42, 3) := by decide +kernel
theorem dX3_make_106 : decode cX3_make 106 = .ok (.iload_n 1, 1) := by decide +kernel
theorem dX3_make_107 : decode cX3_make 107 = .ok (.iaload, 1) := by decide +kernel
theorem dX3_make_108 : decode cX3_make 108 = .ok (.ifCond .lt 9, 3) := by decide +kernel
theorem dX3_make_111 : decode cX3_make 111 = .ok (.aload_n 0, 1) := by decide +kernel
theorem dX3_make_112 : decode cX3_make 112 = .ok (.iconst 3, 1) := by decide +kernel
theorem dX3_make_113 : decode cX3_make 113 = .ok (.invokevirtual 86, 3) := by decide +kernel
theorem dX3_make_116 : decode cX3_make 116 = .ok (.ireturn, 1) := by decide +kernel
theorem dX3_make_117 : decode cX3_make 117 = .ok (.aload_n 0, 1) := by decide +kernel
theorem dX3_make_118 : decode cX3_make 118 = .ok (.getfield 42, 3) := by decide +kernel
theorem dX3_make_121 : decode cX3_make 121 = .ok (.iload_n 1, 1) := by decide +kernel
theorem dX3_make_122 : decode cX3_make 122 = .ok (.iload_n 2, 1) := by decide +kernel
theorem dX3_make_123 : decode cX3_make 123 = .ok (.iastore, 1) := by decide +kernel
theorem dX3_make_124 : decode cX3_make 124 = .ok (.aload_n 0, 1) := by decide +kernel
theorem dX3_make_125 : decode cX3_make 125 = .ok (.getfield 51, 3) := by decide +kernel
theorem dX3_make_128 : decode cX3_make 128 = .ok (.iload_n 1, 1) := by decide +kernel
theorem dX3_make_129 : decode cX3_make 129 = .ok (.iload_n 2, 1) := by decide +kernel
theorem dX3_make_130 : decode cX3_make 130 = .ok (.iconst 2, 1) := by decide +kernel
theorem dX3_make_131 : decode cX3_make 131 = .ok (.if_icmp .lt 12, 3) := by decide +kernel
theorem dX3_make_134 : decode cX3_make 134 = .ok (.iload_n 2, 1) := by decide +kernel
theorem dX3_make_135 : decode cX3_make 135 = .ok (.iconst 4, 1) := by decide +kernel
theorem dX3_make_136 : decode cX3_make 136 = .ok (.if_icmp .gt 7, 3) := by decide +kernel
theorem dX3_make_139 : decode cX3_make 139 = .ok (.iload_n 3, 1) := by decide +kernel
theorem dX3_make_140 : decode cX3_make 140 = .ok (.goto 4, 3) := by decide +kernel
theorem dX3_make_143 : decode cX3_make 143 = .ok (.iconst 0, 1) := by decide +kernel
theorem dX3_make_144 : decode cX3_make 144 = .ok (.iastore, 1) := by decide +kernel
theorem dX3_make_145 : decode cX3_make 145 = .ok (.aload_n 0, 1) := by decide +kernel
theorem dX3_make_146 : decode cX3_make 146 = .ok (.getfield 54, 3) := by decide +kernel
theorem dX3_make_149 : decode cX3_make 149 = .ok (.iload_n 1, 1) := by decide +kernel
theorem dX3_make_150 : decode cX3_make 150 = .ok (.iload_n 2, 1) := by decide +kernel
theorem dX3_make_151 : decode cX3_make 151 = .ok (.bipush 6, 2) := by decide +kernel
theorem dX3_make_153 : decode cX3_make 153 = .ok (.if_icmp .ne 7, 3) := by decide +kernel
theorem dX3_make_156 : decode cX3_make 156 = .ok (.iload_n 3, 1) := by decide +kernel
theorem dX3_make_157 : decode cX3_make 157 = .ok (.goto 4, 3) := by decide +kernel
theorem dX3_make_160 : decode cX3_make 160 = .ok (.iconst (-1), 1) := by decide +kernel
theorem dX3_make_161 : decode cX3_make 161 = .ok (.iastore, 1) := by decide +kernel
theorem dX3_make_162 : decode cX3_make 162 = .ok (.iconst 0, 1) := by decide +kernel
theorem dX3_make_163 : decode cX3_make 163 = .ok (.istore 5, 2) := by decide +kernel
theorem dX3_make_165 : decode cX3_make 165 = .ok (.iconst 0, 1) := by decide +kernel
theorem dX3_make_166 : decode cX3_make 166 = .ok (.istore 6, 2) := by decide +kernel
theorem dX3_make_168 : decode cX3_make 168 = .ok (.iload 6, 2) := by decide +kernel
theorem dX3_make_170 : decode cX3_make 170 = .ok (.bipush 8, 2) := by decide +kernel
theorem dX3_make_172 : decode cX3_make 172 = .ok (.if_icmp .ge 29, 3) := by decide +kernel
theorem dX3_make_175 : decode cX3_make 175 = .ok (.iload 5, 2) := by decide +kernel
theorem dX3_make_177 : decode cX3_make 177 = .ok (.aload_n 0, 1) := by decide +kernel
theorem dX3_make_178 : decode cX3_make 178 = .ok (.getfield 42, 3) := by decide +kernel
theorem dX3_make_181 : decode cX3_make 181 = .ok (.iload 6, 2) := by decide +kernel
theorem dX3_make_183 : decode cX3_make 183 = .ok (.iaload, 1) := by decide +kernel
theorem dX3_make_184 : decode cX3_make 184 = .ok (.ifCond .lt 7, 3) := by decide +kernel
theorem dX3_make_187 : decode cX3_make 187 = .ok (.iconst 1, 1) := by decide +kernel
theorem dX3_make_188 : decode cX3_make 188 = .ok (.goto 4, 3) := by decide +kernel
theorem dX3_make_191 : decode cX3_make 191 = .ok (.iconst 0, 1) := by decide +kernel
theorem dX3_make_192 : decode cX3_make 192 = .ok (.iadd, 1) := by decide +kernel
theorem dX3_make_193 : decode cX3_make 193 = .ok (.istore 5, 2) := by decide +kernel
theorem dX3_make_195 : decode cX3_make 195 = .ok (.iinc 6 1, 3) := by decide +kernel
theorem dX3_make_198 : decode cX3_make 198 = .ok (.goto (-30), 3) := by decide +kernel
theorem dX3_make_201 : decode cX3_make 201 = .ok (.iload 5, 2) := by decide +kernel
theorem dX3_make_203 : decode cX3_make 203 = .ok (.ireturn, 1) := by decide +kernel
abbrev cX3_out : ByteArray := prog_11_method_4_code
def yX3_out : MethodName := ⟨RX3, "out", "(II)Z"⟩
theorem dX3_out_0 : decode cX3_out 0 = .ok (.iload_n 1, 1) := by decide +kernel
theorem dX3_out_1 : decode cX3_out 1 = .ok (.ifCond .lt 8, 3) := by decide +kernel
theorem dX3_out_4 : decode cX3_out 4 = .ok (.iload_n 1, 1) := by decide +kernel
theorem dX3_out_5 : decode cX3_out 5 = .ok (.iload_n 2, 1) := by decide +kernel
theorem dX3_out_6 : decode cX3_out 6 = .ok (.if_icmp .lt 7, 3) := by decide +kernel
theorem dX3_out_9 : decode cX3_out 9 = .ok (.iconst 1, 1) := by decide +kernel
theorem dX3_out_10 : decode cX3_out 10 = .ok (.goto 4, 3) := by decide +kernel
theorem dX3_out_13 : decode cX3_out 13 = .ok (.iconst 0, 1) := by decide +kernel
theorem dX3_out_14 : decode cX3_out 14 = .ok (.ireturn, 1) := by decide +kernel
abbrev cX3_fail : ByteArray := prog_11_method_3_code
def yX3_fail : MethodName := ⟨RX3, "fail", "(I)I"⟩
theorem dX3_fail_0 : decode cX3_fail 0 = .ok (.aload_n 0, 1) := by decide +kernel
theorem dX3_fail_1 : decode cX3_fail 1 = .ok (.iload_n 1, 1) := by decide +kernel
theorem dX3_fail_2 : decode cX3_fail 2 = .ok (.putfield 78, 3) := by decide +kernel
theorem dX3_fail_5 : decode cX3_fail 5 = .ok (.iconst 0, 1) := by decide +kernel
theorem dX3_fail_6 : decode cX3_fail 6 = .ok (.ireturn, 1) := by decide +kernel
abbrev cX3_rank : ByteArray := prog_11_method_6_code
def yX3_rank : MethodName := ⟨RX3, "rank", "(ID)V"⟩
theorem dX3_rank_0 : decode cX3_rank 0 = .ok (.aload_n 0, 1) := by decide +kernel
theorem dX3_rank_1 : decode cX3_rank 1 = .ok (.aload_n 0, 1) := by decide +kernel
theorem dX3_rank_2 : decode cX3_rank 2 = .ok (.iload_n 1, 1) := by decide +kernel
theorem dX3_rank_3 : decode cX3_rank 3 = .ok (.bipush 6, 2) := by decide +kernel
theorem dX3_rank_5 : decode cX3_rank 5 = .ok (.invokevirtual 82, 3) := by decide +kernel
theorem dX3_rank_8 : decode cX3_rank 8 = .ok (.ifCond .ne 19, 3) := by decide +kernel
theorem dX3_rank_11 : decode cX3_rank 11 = .ok (.dload_n 2, 1) := by decide +kernel
theorem dX3_rank_12 : decode cX3_rank 12 = .ok (.ldc2_w 90, 3) := by decide +kernel
theorem dX3_rank_15 : decode cX3_rank 15 = .ok (.dcmp .l, 1) := by decide +kernel
theorem dX3_rank_16 : decode cX3_rank 16 = .ok (.ifCond .lt 11, 3) := by decide +kernel
theorem dX3_rank_19 : decode cX3_rank 19 = .ok (.dload_n 2, 1) := by decide +kernel
theorem dX3_rank_20 : decode cX3_rank 20 = .ok (.ldc2_w 92, 3) := by decide +kernel
theorem dX3_rank_23 : decode cX3_rank 23 = .ok (.dcmp .g, 1) := by decide +kernel
theorem dX3_rank_24 : decode cX3_rank 24 = .ok (.ifCond .le 7, 3) := by decide +kernel
theorem dX3_rank_27 : decode cX3_rank 27 = .ok (.iconst 1, 1) := by decide +kernel
theorem dX3_rank_28 : decode cX3_rank 28 = .ok (.goto 4, 3) := by decide +kernel
theorem dX3_rank_31 : decode cX3_rank 31 = .ok (.iconst 0, 1) := by decide +kernel
theorem dX3_rank_32 : decode cX3_rank 32 = .ok (.putfield 78, 3) := by decide +kernel
theorem dX3_rank_35 : decode cX3_rank 35 = .ok (.aload_n 0, 1) := by decide +kernel
theorem dX3_rank_36 : decode cX3_rank 36 = .ok (.getfield 78, 3) := by decide +kernel
theorem dX3_rank_39 : decode cX3_rank 39 = .ok (.ifCond .ne 10, 3) := by decide +kernel
theorem dX3_rank_42 : decode cX3_rank 42 = .ok (.aload_n 0, 1) := by decide +kernel
theorem dX3_rank_43 : decode cX3_rank 43 = .ok (.getfield 16, 3) := by decide +kernel
theorem dX3_rank_46 : decode cX3_rank 46 = .ok (.iload_n 1, 1) := by decide +kernel
theorem dX3_rank_47 : decode cX3_rank 47 = .ok (.dload_n 2, 1) := by decide +kernel
theorem dX3_rank_48 : decode cX3_rank 48 = .ok (.dastore, 1) := by decide +kernel
theorem dX3_rank_49 : decode cX3_rank 49 = .ok (.return_, 1) := by decide +kernel
abbrev cX3_acquire : ByteArray := prog_11_method_22_code
def yX3_acquire : MethodName := ⟨RX3, "acquire", "(IIID)I"⟩
theorem dX3_acquire_0 : decode cX3_acquire 0 = .ok (.aload_n 0, 1) := by decide +kernel
theorem dX3_acquire_1 : decode cX3_acquire 1 = .ok (.aload_n 0, 1) := by decide +kernel
theorem dX3_acquire_2 : decode cX3_acquire 2 = .ok (.iload_n 1, 1) := by decide +kernel
theorem dX3_acquire_3 : decode cX3_acquire 3 = .ok (.bipush 6, 2) := by decide +kernel
theorem dX3_acquire_5 : decode cX3_acquire 5 = .ok (.invokevirtual 82, 3) := by decide +kernel
theorem dX3_acquire_8 : decode cX3_acquire 8 = .ok (.ifCond .ne 31, 3) := by decide +kernel
theorem dX3_acquire_11 : decode cX3_acquire 11 = .ok (.aload_n 0, 1) := by decide +kernel
theorem dX3_acquire_12 : decode cX3_acquire 12 = .ok (.iload_n 2, 1) := by decide +kernel
theorem dX3_acquire_13 : decode cX3_acquire 13 = .ok (.bipush 8, 2) := by decide +kernel
theorem dX3_acquire_15 : decode cX3_acquire 15 = .ok (.invokevirtual 82, 3) := by decide +kernel
theorem dX3_acquire_18 : decode cX3_acquire 18 = .ok (.ifCond .ne 21, 3) := by decide +kernel
theorem dX3_acquire_21 : decode cX3_acquire 21 = .ok (.aload_n 0, 1) := by decide +kernel
theorem dX3_acquire_22 : decode cX3_acquire 22 = .ok (.iload_n 3, 1) := by decide +kernel
theorem dX3_acquire_23 : decode cX3_acquire 23 = .ok (.iconst 2, 1) := by decide +kernel
theorem dX3_acquire_24 : decode cX3_acquire 24 = .ok (.invokevirtual 82, 3) := by decide +kernel
theorem dX3_acquire_27 : decode cX3_acquire 27 = .ok (.ifCond .ne 12, 3) := by decide +kernel
theorem dX3_acquire_30 : decode cX3_acquire 30 = .ok (.aload_n 0, 1) := by decide +kernel
theorem dX3_acquire_31 : decode cX3_acquire 31 = .ok (.dload 4, 2) := by decide +kernel
theorem dX3_acquire_33 : decode cX3_acquire 33 = .ok (.invokevirtual 138, 3) := by decide +kernel
theorem dX3_acquire_36 : decode cX3_acquire 36 = .ok (.ifCond .eq 7, 3) := by decide +kernel
theorem dX3_acquire_39 : decode cX3_acquire 39 = .ok (.iconst 1, 1) := by decide +kernel
theorem dX3_acquire_40 : decode cX3_acquire 40 = .ok (.goto 9, 3) := by decide +kernel
theorem dX3_acquire_43 : decode cX3_acquire 43 = .ok (.aload_n 0, 1) := by decide +kernel
theorem dX3_acquire_44 : decode cX3_acquire 44 = .ok (.iload_n 1, 1) := by decide +kernel
theorem dX3_acquire_45 : decode cX3_acquire 45 = .ok (.iload_n 2, 1) := by decide +kernel
theorem dX3_acquire_46 : decode cX3_acquire 46 = .ok (.invokevirtual 142, 3) := by decide +kernel
theorem dX3_acquire_49 : decode cX3_acquire 49 = .ok (.putfield 78, 3) := by decide +kernel
theorem dX3_acquire_52 : decode cX3_acquire 52 = .ok (.aload_n 0, 1) := by decide +kernel
theorem dX3_acquire_53 : decode cX3_acquire 53 = .ok (.getfield 78, 3) := by decide +kernel
theorem dX3_acquire_56 : decode cX3_acquire 56 = .ok (.ifCond .le 5, 3) := by decide +kernel
theorem dX3_acquire_59 : decode cX3_acquire 59 = .ok (.iconst 0, 1) := by decide +kernel
theorem dX3_acquire_60 : decode cX3_acquire 60 = .ok (.ireturn, 1) := by decide +kernel
theorem dX3_acquire_61 : decode cX3_acquire 61 = .ok (.aload_n 0, 1) := by decide +kernel
theorem dX3_acquire_62 : decode cX3_acquire 62 = .ok (.getfield 42, 3) := by decide +kernel
theorem dX3_acquire_65 : decode cX3_acquire 65 = .ok (.iload_n 2, 1) := by decide +kernel
theorem dX3_acquire_66 : decode cX3_acquire 66 = .ok (.iaload, 1) := by decide +kernel
theorem dX3_acquire_67 : decode cX3_acquire 67 = .ok (.bipush 6, 2) := by decide +kernel
theorem dX3_acquire_69 : decode cX3_acquire 69 = .ok (.if_icmp .ne 9, 3) := by decide +kernel
theorem dX3_acquire_72 : decode cX3_acquire 72 = .ok (.aload_n 0, 1) := by decide +kernel
theorem dX3_acquire_73 : decode cX3_acquire 73 = .ok (.iconst 4, 1) := by decide +kernel
theorem dX3_acquire_74 : decode cX3_acquire 74 = .ok (.invokevirtual 86, 3) := by decide +kernel
theorem dX3_acquire_77 : decode cX3_acquire 77 = .ok (.ireturn, 1) := by decide +kernel
theorem dX3_acquire_78 : decode cX3_acquire 78 = .ok (.aload_n 0, 1) := by decide +kernel
theorem dX3_acquire_79 : decode cX3_acquire 79 = .ok (.getfield 13, 3) := by decide +kernel
theorem dX3_acquire_82 : decode cX3_acquire 82 = .ok (.iload_n 1, 1) := by decide +kernel
theorem dX3_acquire_83 : decode cX3_acquire 83 = .ok (.baload, 1) := by decide +kernel
theorem dX3_acquire_84 : decode cX3_acquire 84 = .ok (.ifCond .eq 17, 3) := by decide +kernel
theorem dX3_acquire_87 : decode cX3_acquire 87 = .ok (.aload_n 0, 1) := by decide +kernel
theorem dX3_acquire_88 : decode cX3_acquire 88 = .ok (.getfield 13, 3) := by decide +kernel
theorem dX3_acquire_91 : decode cX3_acquire 91 = .ok (.iload_n 1, 1) := by decide +kernel
theorem dX3_acquire_92 : decode cX3_acquire 92 = .ok (.iconst 0, 1) := by decide +kernel
theorem dX3_acquire_93 : decode cX3_acquire 93 = .ok (.bastore, 1) := by decide +kernel
theorem dX3_acquire_94 : decode cX3_acquire 94 = .ok (.aload_n 0, 1) := by decide +kernel
theorem dX3_acquire_95 : decode cX3_acquire 95 = .ok (.iload_n 1, 1) := by decide +kernel
theorem dX3_acquire_96 : decode cX3_acquire 96 = .ok (.iconst 3, 1) := by decide +kernel
theorem dX3_acquire_97 : decode cX3_acquire 97 = .ok (.invokevirtual 146, 3) := by decide +kernel
theorem dX3_acquire_100 : decode cX3_acquire 100 = .ok (.ireturn, 1) := by decide +kernel
theorem dX3_acquire_101 : decode cX3_acquire 101 = .ok (.aload_n 0, 1) := by decide +kernel
theorem dX3_acquire_102 : decode cX3_acquire 102 = .ok (.iload_n 1, 1) := by decide +kernel
theorem dX3_acquire_103 : decode cX3_acquire 103 = .ok (.iload_n 2, 1) := by decide +kernel
theorem dX3_acquire_104 : decode cX3_acquire 104 = .ok (.invokevirtual 149, 3) := by decide +kernel
theorem dX3_acquire_107 : decode cX3_acquire 107 = .ok (.ifCond .ne 9, 3) := by decide +kernel
theorem dX3_acquire_110 : decode cX3_acquire 110 = .ok (.aload_n 0, 1) := by decide +kernel
theorem dX3_acquire_111 : decode cX3_acquire 111 = .ok (.iconst 4, 1) := by decide +kernel
theorem dX3_acquire_112 : decode cX3_acquire 112 = .ok (.invokevirtual 86, 3) := by decide +kernel
theorem dX3_acquire_115 : decode cX3_acquire 115 = .ok (.ireturn, 1) := by decide +kernel
theorem dX3_acquire_116 : decode cX3_acquire 116 = .ok (.aload_n 0, 1) := by decide +kernel
theorem dX3_acquire_117 : decode cX3_acquire 117 = .ok (.getfield 42, 3) := by decide +kernel
theorem dX3_acquire_120 : decode cX3_acquire 120 = .ok (.iload_n 2, 1) := by decide +kernel
theorem dX3_acquire_121 : decode cX3_acquire 121 = .ok (.iaload, 1) := by decide +kernel
theorem dX3_acquire_122 : decode cX3_acquire 122 = .ok (.iconst 5, 1) := by decide +kernel
theorem dX3_acquire_123 : decode cX3_acquire 123 = .ok (.if_icmp .ne 38, 3) := by decide +kernel
theorem dX3_acquire_126 : decode cX3_acquire 126 = .ok (.iload_n 3, 1) := by decide +kernel
theorem dX3_acquire_127 : decode cX3_acquire 127 = .ok (.iconst 1, 1) := by decide +kernel
theorem dX3_acquire_128 : decode cX3_acquire 128 = .ok (.if_icmp .ne 33, 3) := by decide +kernel
theorem dX3_acquire_131 : decode cX3_acquire 131 = .ok (.aload_n 0, 1) := by decide +kernel
theorem dX3_acquire_132 : decode cX3_acquire 132 = .ok (.getfield 57, 3) := by decide +kernel
theorem dX3_acquire_135 : decode cX3_acquire 135 = .ok (.bipush 6, 2) := by decide +kernel
theorem dX3_acquire_137 : decode cX3_acquire 137 = .ok (.iload_n 2, 1) := by decide +kernel
theorem dX3_acquire_138 : decode cX3_acquire 138 = .ok (.imul, 1) := by decide +kernel
theorem dX3_acquire_139 : decode cX3_acquire 139 = .ok (.iload_n 1, 1) := by decide +kernel
theorem dX3_acquire_140 : decode cX3_acquire 140 = .ok (.iadd, 1) := by decide +kernel
theorem dX3_acquire_141 : decode cX3_acquire 141 = .ok (.iaload, 1) := by decide +kernel
theorem dX3_acquire_142 : decode cX3_acquire 142 = .ok (.ifCond .le 19, 3) := by decide +kernel
theorem dX3_acquire_145 : decode cX3_acquire 145 = .ok (.aload_n 0, 1) := by decide +kernel
theorem dX3_acquire_146 : decode cX3_acquire 146 = .ok (.getfield 45, 3) := by decide +kernel
theorem dX3_acquire_149 : decode cX3_acquire 149 = .ok (.iload_n 2, 1) := by decide +kernel
theorem dX3_acquire_150 : decode cX3_acquire 150 = .ok (.iaload, 1) := by decide +kernel
theorem dX3_acquire_151 : decode cX3_acquire 151 = .ok (.iload_n 1, 1) := by decide +kernel
theorem dX3_acquire_152 : decode cX3_acquire 152 = .ok (.if_icmp .eq 9, 3) := by decide +kernel
theorem dX3_acquire_155 : decode cX3_acquire 155 = .ok (.aload_n 0, 1) := by decide +kernel
theorem dX3_acquire_156 : decode cX3_acquire 156 = .ok (.iconst 4, 1) := by decide +kernel
theorem dX3_acquire_157 : decode cX3_acquire 157 = .ok (.invokevirtual 86, 3) := by decide +kernel
theorem dX3_acquire_160 : decode cX3_acquire 160 = .ok (.ireturn, 1) := by decide +kernel
theorem dX3_acquire_161 : decode cX3_acquire 161 = .ok (.aload_n 0, 1) := by decide +kernel
theorem dX3_acquire_162 : decode cX3_acquire 162 = .ok (.iload_n 1, 1) := by decide +kernel
theorem dX3_acquire_163 : decode cX3_acquire 163 = .ok (.iload_n 2, 1) := by decide +kernel
theorem dX3_acquire_164 : decode cX3_acquire 164 = .ok (.iload_n 3, 1) := by decide +kernel
theorem dX3_acquire_165 : decode cX3_acquire 165 = .ok (.invokevirtual 152, 3) := by decide +kernel
theorem dX3_acquire_168 : decode cX3_acquire 168 = .ok (.ifCond .ne 27, 3) := by decide +kernel
theorem dX3_acquire_171 : decode cX3_acquire 171 = .ok (.aload_n 0, 1) := by decide +kernel
theorem dX3_acquire_172 : decode cX3_acquire 172 = .ok (.iload_n 1, 1) := by decide +kernel
theorem dX3_acquire_173 : decode cX3_acquire 173 = .ok (.iload_n 2, 1) := by decide +kernel
theorem dX3_acquire_174 : decode cX3_acquire 174 = .ok (.iload_n 3, 1) := by decide +kernel
theorem dX3_acquire_175 : decode cX3_acquire 175 = .ok (.invokevirtual 101, 3) := by decide +kernel
theorem dX3_acquire_178 : decode cX3_acquire 178 = .ok (.ifCond .eq 17, 3) := by decide +kernel
theorem dX3_acquire_181 : decode cX3_acquire 181 = .ok (.aload_n 0, 1) := by decide +kernel
theorem dX3_acquire_182 : decode cX3_acquire 182 = .ok (.iload_n 1, 1) := by decide +kernel
theorem dX3_acquire_183 : decode cX3_acquire 183 = .ok (.iload_n 2, 1) := by decide +kernel
theorem dX3_acquire_184 : decode cX3_acquire 184 = .ok (.iload_n 3, 1) := by decide +kernel
theorem dX3_acquire_185 : decode cX3_acquire 185 = .ok (.invokevirtual 112, 3) := by decide +kernel
theorem dX3_acquire_188 : decode cX3_acquire 188 = .ok (.aload_n 0, 1) := by decide +kernel
theorem dX3_acquire_189 : decode cX3_acquire 189 = .ok (.iload_n 1, 1) := by decide +kernel
theorem dX3_acquire_190 : decode cX3_acquire 190 = .ok (.iconst 1, 1) := by decide +kernel
theorem dX3_acquire_191 : decode cX3_acquire 191 = .ok (.invokevirtual 146, 3) := by decide +kernel
theorem dX3_acquire_194 : decode cX3_acquire 194 = .ok (.ireturn, 1) := by decide +kernel
theorem dX3_acquire_195 : decode cX3_acquire 195 = .ok (.dload 4, 2) := by decide +kernel
theorem dX3_acquire_197 : decode cX3_acquire 197 = .ok (.dconst 0, 1) := by decide +kernel
theorem dX3_acquire_198 : decode cX3_acquire 198 = .ok (.dcmp .l, 1) := by decide +kernel
theorem dX3_acquire_199 : decode cX3_acquire 199 = .ok (.ifCond .ne 10, 3) := by decide +kernel
theorem dX3_acquire_202 : decode cX3_acquire 202 = .ok (.aload_n 0, 1) := by decide +kernel
theorem dX3_acquire_203 : decode cX3_acquire 203 = .ok (.iload_n 1, 1) := by decide +kernel
theorem dX3_acquire_204 : decode cX3_acquire 204 = .ok (.iconst 2, 1) := by decide +kernel
theorem dX3_acquire_205 : decode cX3_acquire 205 = .ok (.invokevirtual 146, 3) := by decide +kernel
theorem dX3_acquire_208 : decode cX3_acquire 208 = .ok (.ireturn, 1) := by decide +kernel
theorem dX3_acquire_209 : decode cX3_acquire 209 = .ok (.aload_n 0, 1) := by decide +kernel
theorem dX3_acquire_210 : decode cX3_acquire 210 = .ok (.getfield 27, 3) := by decide +kernel
theorem dX3_acquire_213 : decode cX3_acquire 213 = .ok (.iload_n 1, 1) := by decide +kernel
theorem dX3_acquire_214 : decode cX3_acquire 214 = .ok (.iload_n 3, 1) := by decide +kernel
theorem dX3_acquire_215 : decode cX3_acquire 215 = .ok (.iastore, 1) := by decide +kernel
theorem dX3_acquire_216 : decode cX3_acquire 216 = .ok (.aload_n 0, 1) := by decide +kernel
theorem dX3_acquire_217 : decode cX3_acquire 217 = .ok (.getfield 30, 3) := by decide +kernel
theorem dX3_acquire_220 : decode cX3_acquire 220 = .ok (.iload_n 1, 1) := by decide +kernel
theorem dX3_acquire_221 : decode cX3_acquire 221 = .ok (.dload 4, 2) := by decide +kernel
theorem dX3_acquire_223 : decode cX3_acquire 223 = .ok (.dconst 0, 1) := by decide +kernel
theorem dX3_acquire_224 : decode cX3_acquire 224 = .ok (.dcmp .l, 1) := by decide +kernel
theorem dX3_acquire_225 : decode cX3_acquire 225 = .ok (.ifCond .le 13, 3) := by decide +kernel
theorem dX3_acquire_228 : decode cX3_acquire 228 = .ok (.aload_n 0, 1) := by decide +kernel
theorem dX3_acquire_229 : decode cX3_acquire 229 = .ok (.getfield 94, 3) := by decide +kernel
theorem dX3_acquire_232 : decode cX3_acquire 232 = .ok (.dload 4, 2) := by decide +kernel
theorem dX3_acquire_234 : decode cX3_acquire 234 = .ok (.dadd, 1) := by decide +kernel
theorem dX3_acquire_235 : decode cX3_acquire 235 = .ok (.goto 6, 3) := by decide +kernel
theorem dX3_acquire_238 : decode cX3_acquire 238 = .ok (.ldc2_w 116, 3) := by decide +kernel
theorem dX3_acquire_241 : decode cX3_acquire 241 = .ok (.dastore, 1) := by decide +kernel
theorem dX3_acquire_242 : decode cX3_acquire 242 = .ok (.aload_n 0, 1) := by decide +kernel
theorem dX3_acquire_243 : decode cX3_acquire 243 = .ok (.getfield 36, 3) := by decide +kernel
theorem dX3_acquire_246 : decode cX3_acquire 246 = .ok (.iload_n 1, 1) := by decide +kernel
theorem dX3_acquire_247 : decode cX3_acquire 247 = .ok (.iconst 0, 1) := by decide +kernel
theorem dX3_acquire_248 : decode cX3_acquire 248 = .ok (.iastore, 1) := by decide +kernel
theorem dX3_acquire_249 : decode cX3_acquire 249 = .ok (.aload_n 0, 1) := by decide +kernel
theorem dX3_acquire_250 : decode cX3_acquire 250 = .ok (.iload_n 1, 1) := by decide +kernel
theorem dX3_acquire_251 : decode cX3_acquire 251 = .ok (.iload_n 2, 1) := by decide +kernel
theorem dX3_acquire_252 : decode cX3_acquire 252 = .ok (.invokevirtual 118, 3) := by decide +kernel
theorem dX3_acquire_255 : decode cX3_acquire 255 = .ok (.aload_n 0, 1) := by decide +kernel
theorem dX3_acquire_256 : decode cX3_acquire 256 = .ok (.iload_n 1, 1) := by decide +kernel
theorem dX3_acquire_257 : decode cX3_acquire 257 = .ok (.iconst 0, 1) := by decide +kernel
theorem dX3_acquire_258 : decode cX3_acquire 258 = .ok (.invokevirtual 146, 3) := by decide +kernel
theorem dX3_acquire_261 : decode cX3_acquire 261 = .ok (.ireturn, 1) := by decide +kernel
abbrev cX3_badLimit : ByteArray := prog_11_method_19_code
def yX3_badLimit : MethodName := ⟨RX3, "badLimit", "(D)Z"⟩
theorem dX3_badLimit_0 : decode cX3_badLimit 0 = .ok (.dload_n 1, 1) := by decide +kernel
theorem dX3_badLimit_1 : decode cX3_badLimit 1 = .ok (.ldc2_w 116, 3) := by decide +kernel
theorem dX3_badLimit_4 : decode cX3_badLimit 4 = .ok (.dcmp .l, 1) := by decide +kernel
theorem dX3_badLimit_5 : decode cX3_badLimit 5 = .ok (.ifCond .lt 11, 3) := by decide +kernel
theorem dX3_badLimit_8 : decode cX3_badLimit 8 = .ok (.dload_n 1, 1) := by decide +kernel
theorem dX3_badLimit_9 : decode cX3_badLimit 9 = .ok (.ldc2_w 92, 3) := by decide +kernel
theorem dX3_badLimit_12 : decode cX3_badLimit 12 = .ok (.dcmp .g, 1) := by decide +kernel
theorem dX3_badLimit_13 : decode cX3_badLimit 13 = .ok (.ifCond .le 7, 3) := by decide +kernel
theorem dX3_badLimit_16 : decode cX3_badLimit 16 = .ok (.iconst 1, 1) := by decide +kernel
theorem dX3_badLimit_17 : decode cX3_badLimit 17 = .ok (.goto 4, 3) := by decide +kernel
theorem dX3_badLimit_20 : decode cX3_badLimit 20 = .ok (.iconst 0, 1) := by decide +kernel
theorem dX3_badLimit_21 : decode cX3_badLimit 21 = .ok (.ireturn, 1) := by decide +kernel
abbrev cX3_check : ByteArray := prog_11_method_20_code
def yX3_check : MethodName := ⟨RX3, "check", "(II)I"⟩
theorem dX3_check_0 : decode cX3_check 0 = .ok (.aload_n 0, 1) := by decide +kernel
theorem dX3_check_1 : decode cX3_check 1 = .ok (.getfield 42, 3) := by decide +kernel
theorem dX3_check_4 : decode cX3_check 4 = .ok (.iload_n 2, 1) := by decide +kernel
theorem dX3_check_5 : decode cX3_check 5 = .ok (.iaload, 1) := by decide +kernel
theorem dX3_check_6 : decode cX3_check 6 = .ok (.ifCond .ge 7, 3) := by decide +kernel
theorem dX3_check_9 : decode cX3_check 9 = .ok (.iconst 2, 1) := by decide +kernel
theorem dX3_check_10 : decode cX3_check 10 = .ok (.goto 17, 3) := by decide +kernel
theorem dX3_check_13 : decode cX3_check 13 = .ok (.aload_n 0, 1) := by decide +kernel
theorem dX3_check_14 : decode cX3_check 14 = .ok (.getfield 7, 3) := by decide +kernel
theorem dX3_check_17 : decode cX3_check 17 = .ok (.iload_n 1, 1) := by decide +kernel
theorem dX3_check_18 : decode cX3_check 18 = .ok (.baload, 1) := by decide +kernel
theorem dX3_check_19 : decode cX3_check 19 = .ok (.ifCond .eq 7, 3) := by decide +kernel
theorem dX3_check_22 : decode cX3_check 22 = .ok (.iconst 3, 1) := by decide +kernel
theorem dX3_check_23 : decode cX3_check 23 = .ok (.goto 4, 3) := by decide +kernel
theorem dX3_check_26 : decode cX3_check 26 = .ok (.iconst 0, 1) := by decide +kernel
theorem dX3_check_27 : decode cX3_check 27 = .ok (.ireturn, 1) := by decide +kernel
abbrev cX3_settle : ByteArray := prog_11_method_21_code
def yX3_settle : MethodName := ⟨RX3, "settle", "(II)I"⟩
theorem dX3_settle_0 : decode cX3_settle 0 = .ok (.aload_n 0, 1) := by decide +kernel
theorem dX3_settle_1 : decode cX3_settle 1 = .ok (.getfield 20, 3) := by decide +kernel
theorem dX3_settle_4 : decode cX3_settle 4 = .ok (.iload_n 1, 1) := by decide +kernel
theorem dX3_settle_5 : decode cX3_settle 5 = .ok (.iload_n 2, 1) := by decide +kernel
theorem dX3_settle_6 : decode cX3_settle 6 = .ok (.iastore, 1) := by decide +kernel
theorem dX3_settle_7 : decode cX3_settle 7 = .ok (.iload_n 2, 1) := by decide +kernel
theorem dX3_settle_8 : decode cX3_settle 8 = .ok (.ireturn, 1) := by decide +kernel
abbrev cX3_ordered : ByteArray := prog_11_method_18_code
def yX3_ordered : MethodName := ⟨RX3, "ordered", "(II)Z"⟩
theorem dX3_ordered_0 : decode cX3_ordered 0 = .ok (.aload_n 0, 1) := by decide +kernel
theorem dX3_ordered_1 : decode cX3_ordered 1 = .ok (.getfield 125, 3) := by decide +kernel
theorem dX3_ordered_4 : decode cX3_ordered 4 = .ok (.ifCond .eq 21, 3) := by decide +kernel
theorem dX3_ordered_7 : decode cX3_ordered 7 = .ok (.aload_n 0, 1) := by decide +kernel
theorem dX3_ordered_8 : decode cX3_ordered 8 = .ok (.iload_n 2, 1) := by decide +kernel
theorem dX3_ordered_9 : decode cX3_ordered 9 = .ok (.invokevirtual 128, 3) := by decide +kernel
theorem dX3_ordered_12 : decode cX3_ordered 12 = .ok (.ifCond .eq 13, 3) := by decide +kernel
theorem dX3_ordered_15 : decode cX3_ordered 15 = .ok (.aload_n 0, 1) := by decide +kernel
theorem dX3_ordered_16 : decode cX3_ordered 16 = .ok (.getfield 45, 3) := by decide +kernel
theorem dX3_ordered_19 : decode cX3_ordered 19 = .ok (.iload_n 2, 1) := by decide +kernel
theorem dX3_ordered_20 : decode cX3_ordered 20 = .ok (.iaload, 1) := by decide +kernel
theorem dX3_ordered_21 : decode cX3_ordered 21 = .ok (.iload_n 1, 1) := by decide +kernel
theorem dX3_ordered_22 : decode cX3_ordered 22 = .ok (.if_icmp .ne 5, 3) := by decide +kernel
theorem dX3_ordered_25 : decode cX3_ordered 25 = .ok (.iconst 1, 1) := by decide +kernel
theorem dX3_ordered_26 : decode cX3_ordered 26 = .ok (.ireturn, 1) := by decide +kernel
theorem dX3_ordered_27 : decode cX3_ordered 27 = .ok (.iconst 0, 1) := by decide +kernel
theorem dX3_ordered_28 : decode cX3_ordered 28 = .ok (.istore_n 3, 1) := by decide +kernel
theorem dX3_ordered_29 : decode cX3_ordered 29 = .ok (.iconst 0, 1) := by decide +kernel
theorem dX3_ordered_30 : decode cX3_ordered 30 = .ok (.istore 4, 2) := by decide +kernel
theorem dX3_ordered_32 : decode cX3_ordered 32 = .ok (.iload 4, 2) := by decide +kernel
theorem dX3_ordered_34 : decode cX3_ordered 34 = .ok (.bipush 8, 2) := by decide +kernel
theorem dX3_ordered_36 : decode cX3_ordered 36 = .ok (.if_icmp .ge 51, 3) := by decide +kernel
theorem dX3_ordered_39 : decode cX3_ordered 39 = .ok (.aload_n 0, 1) := by decide +kernel
theorem dX3_ordered_40 : decode cX3_ordered 40 = .ok (.getfield 42, 3) := by decide +kernel
theorem dX3_ordered_43 : decode cX3_ordered 43 = .ok (.iload 4, 2) := by decide +kernel
theorem dX3_ordered_45 : decode cX3_ordered 45 = .ok (.iaload, 1) := by decide +kernel
theorem dX3_ordered_46 : decode cX3_ordered 46 = .ok (.ifCond .lt 35, 3) := by decide +kernel
theorem dX3_ordered_49 : decode cX3_ordered 49 = .ok (.aload_n 0, 1) := by decide +kernel
theorem dX3_ordered_50 : decode cX3_ordered 50 = .ok (.iload 4, 2) := by decide +kernel
theorem dX3_ordered_52 : decode cX3_ordered 52 = .ok (.invokevirtual 128, 3) := by decide +kernel
theorem dX3_ordered_55 : decode cX3_ordered 55 = .ok (.ifCond .eq 26, 3) := by decide +kernel
theorem dX3_ordered_58 : decode cX3_ordered 58 = .ok (.aload_n 0, 1) := by decide +kernel
theorem dX3_ordered_59 : decode cX3_ordered 59 = .ok (.getfield 45, 3) := by decide +kernel
theorem dX3_ordered_62 : decode cX3_ordered 62 = .ok (.iload 4, 2) := by decide +kernel
theorem dX3_ordered_64 : decode cX3_ordered 64 = .ok (.iaload, 1) := by decide +kernel
theorem dX3_ordered_65 : decode cX3_ordered 65 = .ok (.iload_n 1, 1) := by decide +kernel
theorem dX3_ordered_66 : decode cX3_ordered 66 = .ok (.if_icmp .ne 15, 3) := by decide +kernel
theorem dX3_ordered_69 : decode cX3_ordered 69 = .ok (.aload_n 0, 1) := by decide +kernel
theorem dX3_ordered_70 : decode cX3_ordered 70 = .ok (.iload_n 2, 1) := by decide +kernel
theorem dX3_ordered_71 : decode cX3_ordered 71 = .ok (.iload 4, 2) := by decide +kernel
theorem dX3_ordered_73 : decode cX3_ordered 73 = .ok (.invokevirtual 132, 3) := by decide +kernel
theorem dX3_ordered_76 : decode cX3_ordered 76 = .ok (.ifCond .eq 5, 3) := by decide +kernel
theorem dX3_ordered_79 : decode cX3_ordered 79 = .ok (.iconst 1, 1) := by decide +kernel
theorem dX3_ordered_80 : decode cX3_ordered 80 = .ok (.istore_n 3, 1) := by decide +kernel
theorem dX3_ordered_81 : decode cX3_ordered 81 = .ok (.iinc 4 1, 3) := by decide +kernel
theorem dX3_ordered_84 : decode cX3_ordered 84 = .ok (.goto (-52), 3) := by decide +kernel
theorem dX3_ordered_87 : decode cX3_ordered 87 = .ok (.iload_n 3, 1) := by decide +kernel
theorem dX3_ordered_88 : decode cX3_ordered 88 = .ok (.ifCond .eq 13, 3) := by decide +kernel
theorem dX3_ordered_91 : decode cX3_ordered 91 = .ok (.aload_n 0, 1) := by decide +kernel
theorem dX3_ordered_92 : decode cX3_ordered 92 = .ok (.dup, 1) := by decide +kernel
theorem dX3_ordered_93 : decode cX3_ordered 93 = .ok (.getfield 135, 3) := by decide +kernel
theorem dX3_ordered_96 : decode cX3_ordered 96 = .ok (.iconst 1, 1) := by decide +kernel
theorem dX3_ordered_97 : decode cX3_ordered 97 = .ok (.iadd, 1) := by decide +kernel
theorem dX3_ordered_98 : decode cX3_ordered 98 = .ok (.putfield 135, 3) := by decide +kernel
theorem dX3_ordered_101 : decode cX3_ordered 101 = .ok (.iload_n 3, 1) := by decide +kernel
theorem dX3_ordered_102 : decode cX3_ordered 102 = .ok (.ifCond .eq 13, 3) := by decide +kernel
theorem dX3_ordered_105 : decode cX3_ordered 105 = .ok (.aload_n 0, 1) := by decide +kernel
theorem dX3_ordered_106 : decode cX3_ordered 106 = .ok (.getfield 125, 3) := by decide +kernel
theorem dX3_ordered_109 : decode cX3_ordered 109 = .ok (.iconst 2, 1) := by decide +kernel
theorem dX3_ordered_110 : decode cX3_ordered 110 = .ok (.if_icmp .ne 5, 3) := by decide +kernel
theorem dX3_ordered_113 : decode cX3_ordered 113 = .ok (.iconst 0, 1) := by decide +kernel
theorem dX3_ordered_114 : decode cX3_ordered 114 = .ok (.ireturn, 1) := by decide +kernel
theorem dX3_ordered_115 : decode cX3_ordered 115 = .ok (.iconst 0, 1) := by decide +kernel
theorem dX3_ordered_116 : decode cX3_ordered 116 = .ok (.istore 4, 2) := by decide +kernel
theorem dX3_ordered_118 : decode cX3_ordered 118 = .ok (.iload 4, 2) := by decide +kernel
theorem dX3_ordered_120 : decode cX3_ordered 120 = .ok (.bipush 8, 2) := by decide +kernel
theorem dX3_ordered_122 : decode cX3_ordered 122 = .ok (.if_icmp .ge 52, 3) := by decide +kernel
theorem dX3_ordered_125 : decode cX3_ordered 125 = .ok (.aload_n 0, 1) := by decide +kernel
theorem dX3_ordered_126 : decode cX3_ordered 126 = .ok (.getfield 42, 3) := by decide +kernel
theorem dX3_ordered_129 : decode cX3_ordered 129 = .ok (.iload 4, 2) := by decide +kernel
theorem dX3_ordered_131 : decode cX3_ordered 131 = .ok (.iaload, 1) := by decide +kernel
theorem dX3_ordered_132 : decode cX3_ordered 132 = .ok (.ifCond .lt 36, 3) := by decide +kernel
theorem dX3_ordered_135 : decode cX3_ordered 135 = .ok (.aload_n 0, 1) := by decide +kernel
theorem dX3_ordered_136 : decode cX3_ordered 136 = .ok (.iload 4, 2) := by decide +kernel
theorem dX3_ordered_138 : decode cX3_ordered 138 = .ok (.invokevirtual 128, 3) := by decide +kernel
theorem dX3_ordered_141 : decode cX3_ordered 141 = .ok (.ifCond .eq 27, 3) := by decide +kernel
theorem dX3_ordered_144 : decode cX3_ordered 144 = .ok (.aload_n 0, 1) := by decide +kernel
theorem dX3_ordered_145 : decode cX3_ordered 145 = .ok (.getfield 45, 3) := by decide +kernel
theorem dX3_ordered_148 : decode cX3_ordered 148 = .ok (.iload 4, 2) := by decide +kernel
theorem dX3_ordered_150 : decode cX3_ordered 150 = .ok (.iaload, 1) := by decide +kernel
theorem dX3_ordered_151 : decode cX3_ordered 151 = .ok (.iload_n 1, 1) := by decide +kernel
theorem dX3_ordered_152 : decode cX3_ordered 152 = .ok (.if_icmp .ne 16, 3) := by decide +kernel
theorem dX3_ordered_155 : decode cX3_ordered 155 = .ok (.aload_n 0, 1) := by decide +kernel
theorem dX3_ordered_156 : decode cX3_ordered 156 = .ok (.getfield 72, 3) := by decide +kernel
theorem dX3_ordered_159 : decode cX3_ordered 159 = .ok (.bipush 8, 2) := by decide +kernel
theorem dX3_ordered_161 : decode cX3_ordered 161 = .ok (.iload 4, 2) := by decide +kernel
theorem dX3_ordered_163 : decode cX3_ordered 163 = .ok (.imul, 1) := by decide +kernel
theorem dX3_ordered_164 : decode cX3_ordered 164 = .ok (.iload_n 2, 1) := by decide +kernel
theorem dX3_ordered_165 : decode cX3_ordered 165 = .ok (.iadd, 1) := by decide +kernel
theorem dX3_ordered_166 : decode cX3_ordered 166 = .ok (.iconst 1, 1) := by decide +kernel
theorem dX3_ordered_167 : decode cX3_ordered 167 = .ok (.bastore, 1) := by decide +kernel
theorem dX3_ordered_168 : decode cX3_ordered 168 = .ok (.iinc 4 1, 3) := by decide +kernel
theorem dX3_ordered_171 : decode cX3_ordered 171 = .ok (.goto (-53), 3) := by decide +kernel
theorem dX3_ordered_174 : decode cX3_ordered 174 = .ok (.iconst 1, 1) := by decide +kernel
theorem dX3_ordered_175 : decode cX3_ordered 175 = .ok (.ireturn, 1) := by decide +kernel
abbrev cX3_isLock : ByteArray := prog_11_method_7_code
def yX3_isLock : MethodName := ⟨RX3, "isLock", "(I)Z"⟩
theorem dX3_isLock_0 : decode cX3_isLock 0 = .ok (.aload_n 0, 1) := by decide +kernel
theorem dX3_isLock_1 : decode cX3_isLock 1 = .ok (.getfield 42, 3) := by decide +kernel
theorem dX3_isLock_4 : decode cX3_isLock 4 = .ok (.iload_n 1, 1) := by decide +kernel
theorem dX3_isLock_5 : decode cX3_isLock 5 = .ok (.iaload, 1) := by decide +kernel
theorem dX3_isLock_6 : decode cX3_isLock 6 = .ok (.ifCond .eq 13, 3) := by decide +kernel
theorem dX3_isLock_9 : decode cX3_isLock 9 = .ok (.aload_n 0, 1) := by decide +kernel
theorem dX3_isLock_10 : decode cX3_isLock 10 = .ok (.getfield 42, 3) := by decide +kernel
theorem dX3_isLock_13 : decode cX3_isLock 13 = .ok (.iload_n 1, 1) := by decide +kernel
theorem dX3_isLock_14 : decode cX3_isLock 14 = .ok (.iaload, 1) := by decide +kernel
theorem dX3_isLock_15 : decode cX3_isLock 15 = .ok (.iconst 1, 1) := by decide +kernel
theorem dX3_isLock_16 : decode cX3_isLock 16 = .ok (.if_icmp .ne 7, 3) := by decide +kernel
theorem dX3_isLock_19 : decode cX3_isLock 19 = .ok (.iconst 1, 1) := by decide +kernel
theorem dX3_isLock_20 : decode cX3_isLock 20 = .ok (.goto 4, 3) := by decide +kernel
theorem dX3_isLock_23 : decode cX3_isLock 23 = .ok (.iconst 0, 1) := by decide +kernel
theorem dX3_isLock_24 : decode cX3_isLock 24 = .ok (.ireturn, 1) := by decide +kernel
abbrev cX3_leads : ByteArray := prog_11_method_17_code
def yX3_leads : MethodName := ⟨RX3, "leads", "(II)Z"⟩
theorem dX3_leads_0 : decode cX3_leads 0 = .ok (.iconst 0, 1) := by decide +kernel
theorem dX3_leads_1 : decode cX3_leads 1 = .ok (.istore_n 3, 1) := by decide +kernel
theorem dX3_leads_2 : decode cX3_leads 2 = .ok (.iload_n 3, 1) := by decide +kernel
theorem dX3_leads_3 : decode cX3_leads 3 = .ok (.bipush 8, 2) := by decide +kernel
theorem dX3_leads_5 : decode cX3_leads 5 = .ok (.if_icmp .ge 26, 3) := by decide +kernel
theorem dX3_leads_8 : decode cX3_leads 8 = .ok (.aload_n 0, 1) := by decide +kernel
theorem dX3_leads_9 : decode cX3_leads 9 = .ok (.getfield 75, 3) := by decide +kernel
theorem dX3_leads_12 : decode cX3_leads 12 = .ok (.iload_n 3, 1) := by decide +kernel
theorem dX3_leads_13 : decode cX3_leads 13 = .ok (.aload_n 0, 1) := by decide +kernel
theorem dX3_leads_14 : decode cX3_leads 14 = .ok (.getfield 72, 3) := by decide +kernel
theorem dX3_leads_17 : decode cX3_leads 17 = .ok (.bipush 8, 2) := by decide +kernel
theorem dX3_leads_19 : decode cX3_leads 19 = .ok (.iload_n 1, 1) := by decide +kernel
theorem dX3_leads_20 : decode cX3_leads 20 = .ok (.imul, 1) := by decide +kernel
theorem dX3_leads_21 : decode cX3_leads 21 = .ok (.iload_n 3, 1) := by decide +kernel
theorem dX3_leads_22 : decode cX3_leads 22 = .ok (.iadd, 1) := by decide +kernel
theorem dX3_leads_23 : decode cX3_leads 23 = .ok (.baload, 1) := by decide +kernel
theorem dX3_leads_24 : decode cX3_leads 24 = .ok (.bastore, 1) := by decide +kernel
theorem dX3_leads_25 : decode cX3_leads 25 = .ok (.iinc 3 1, 3) := by decide +kernel
theorem dX3_leads_28 : decode cX3_leads 28 = .ok (.goto (-26), 3) := by decide +kernel
theorem dX3_leads_31 : decode cX3_leads 31 = .ok (.iconst 0, 1) := by decide +kernel
theorem dX3_leads_32 : decode cX3_leads 32 = .ok (.istore_n 3, 1) := by decide +kernel
theorem dX3_leads_33 : decode cX3_leads 33 = .ok (.iload_n 3, 1) := by decide +kernel
theorem dX3_leads_34 : decode cX3_leads 34 = .ok (.bipush 8, 2) := by decide +kernel
theorem dX3_leads_36 : decode cX3_leads 36 = .ok (.if_icmp .ge 75, 3) := by decide +kernel
theorem dX3_leads_39 : decode cX3_leads 39 = .ok (.iconst 0, 1) := by decide +kernel
theorem dX3_leads_40 : decode cX3_leads 40 = .ok (.istore 4, 2) := by decide +kernel
theorem dX3_leads_42 : decode cX3_leads 42 = .ok (.iload 4, 2) := by decide +kernel
theorem dX3_leads_44 : decode cX3_leads 44 = .ok (.bipush 8, 2) := by decide +kernel
theorem dX3_leads_46 : decode cX3_leads 46 = .ok (.if_icmp .ge 59, 3) := by decide +kernel
theorem dX3_leads_49 : decode cX3_leads 49 = .ok (.iconst 0, 1) := by decide +kernel
theorem dX3_leads_50 : decode cX3_leads 50 = .ok (.istore 5, 2) := by decide +kernel
theorem dX3_leads_52 : decode cX3_leads 52 = .ok (.iload 5, 2) := by decide +kernel
theorem dX3_leads_54 : decode cX3_leads 54 = .ok (.bipush 8, 2) := by decide +kernel
theorem dX3_leads_56 : decode cX3_leads 56 = .ok (.if_icmp .ge 43, 3) := by decide +kernel
theorem dX3_leads_59 : decode cX3_leads 59 = .ok (.aload_n 0, 1) := by decide +kernel
theorem dX3_leads_60 : decode cX3_leads 60 = .ok (.getfield 75, 3) := by decide +kernel
theorem dX3_leads_63 : decode cX3_leads 63 = .ok (.iload 4, 2) := by decide +kernel
theorem dX3_leads_65 : decode cX3_leads 65 = .ok (.baload, 1) := by decide +kernel
theorem dX3_leads_66 : decode cX3_leads 66 = .ok (.ifCond .eq 33, 3) := by decide +kernel
theorem dX3_leads_69 : decode cX3_leads 69 = .ok (.aload_n 0, 1) := by decide +kernel
theorem dX3_leads_70 : decode cX3_leads 70 = .ok (.getfield 72, 3) := by decide +kernel
theorem dX3_leads_73 : decode cX3_leads 73 = .ok (.bipush 8, 2) := by decide +kernel
theorem dX3_leads_75 : decode cX3_leads 75 = .ok (.iload 4, 2) := by decide +kernel
theorem dX3_leads_77 : decode cX3_leads 77 = .ok (.imul, 1) := by decide +kernel
theorem dX3_leads_78 : decode cX3_leads 78 = .ok (.iload 5, 2) := by decide +kernel
theorem dX3_leads_80 : decode cX3_leads 80 = .ok (.iadd, 1) := by decide +kernel
theorem dX3_leads_81 : decode cX3_leads 81 = .ok (.baload, 1) := by decide +kernel
theorem dX3_leads_82 : decode cX3_leads 82 = .ok (.ifCond .eq 11, 3) := by decide +kernel
theorem dX3_leads_85 : decode cX3_leads 85 = .ok (.aload_n 0, 1) := by decide +kernel
theorem dX3_leads_86 : decode cX3_leads 86 = .ok (.getfield 75, 3) := by decide +kernel
theorem dX3_leads_89 : decode cX3_leads 89 = .ok (.iload 5, 2) := by decide +kernel
theorem dX3_leads_91 : decode cX3_leads 91 = .ok (.iconst 1, 1) := by decide +kernel
theorem dX3_leads_92 : decode cX3_leads 92 = .ok (.bastore, 1) := by decide +kernel
theorem dX3_leads_93 : decode cX3_leads 93 = .ok (.iinc 5 1, 3) := by decide +kernel
theorem dX3_leads_96 : decode cX3_leads 96 = .ok (.goto (-44), 3) := by decide +kernel
theorem dX3_leads_99 : decode cX3_leads 99 = .ok (.iinc 4 1, 3) := by decide +kernel
theorem dX3_leads_102 : decode cX3_leads 102 = .ok (.goto (-60), 3) := by decide +kernel
theorem dX3_leads_105 : decode cX3_leads 105 = .ok (.iinc 3 1, 3) := by decide +kernel
theorem dX3_leads_108 : decode cX3_leads 108 = .ok (.goto (-75), 3) := by decide +kernel
theorem dX3_leads_111 : decode cX3_leads 111 = .ok (.aload_n 0, 1) := by decide +kernel
theorem dX3_leads_112 : decode cX3_leads 112 = .ok (.getfield 75, 3) := by decide +kernel
theorem dX3_leads_115 : decode cX3_leads 115 = .ok (.iload_n 2, 1) := by decide +kernel
theorem dX3_leads_116 : decode cX3_leads 116 = .ok (.baload, 1) := by decide +kernel
theorem dX3_leads_117 : decode cX3_leads 117 = .ok (.ireturn, 1) := by decide +kernel
abbrev cX3_mustQueue : ByteArray := prog_11_method_10_code
def yX3_mustQueue : MethodName := ⟨RX3, "mustQueue", "(III)Z"⟩
theorem dX3_mustQueue_0 : decode cX3_mustQueue 0 = .ok (.aload_n 0, 1) := by decide +kernel
theorem dX3_mustQueue_1 : decode cX3_mustQueue 1 = .ok (.getfield 42, 3) := by decide +kernel
theorem dX3_mustQueue_4 : decode cX3_mustQueue 4 = .ok (.iload_n 2, 1) := by decide +kernel
theorem dX3_mustQueue_5 : decode cX3_mustQueue 5 = .ok (.iaload, 1) := by decide +kernel
theorem dX3_mustQueue_6 : decode cX3_mustQueue 6 = .ok (.istore 4, 2) := by decide +kernel
theorem dX3_mustQueue_8 : decode cX3_mustQueue 8 = .ok (.iload 4, 2) := by decide +kernel
theorem dX3_mustQueue_10 : decode cX3_mustQueue 10 = .ok (.iconst 4, 1) := by decide +kernel
theorem dX3_mustQueue_11 : decode cX3_mustQueue 11 = .ok (.if_icmp .eq 19, 3) := by decide +kernel
theorem dX3_mustQueue_14 : decode cX3_mustQueue 14 = .ok (.iload 4, 2) := by decide +kernel
theorem dX3_mustQueue_16 : decode cX3_mustQueue 16 = .ok (.iconst 1, 1) := by decide +kernel
theorem dX3_mustQueue_17 : decode cX3_mustQueue 17 = .ok (.if_icmp .ne 15, 3) := by decide +kernel
theorem dX3_mustQueue_20 : decode cX3_mustQueue 20 = .ok (.aload_n 0, 1) := by decide +kernel
theorem dX3_mustQueue_21 : decode cX3_mustQueue 21 = .ok (.getfield 45, 3) := by decide +kernel
theorem dX3_mustQueue_24 : decode cX3_mustQueue 24 = .ok (.iload_n 2, 1) := by decide +kernel
theorem dX3_mustQueue_25 : decode cX3_mustQueue 25 = .ok (.iaload, 1) := by decide +kernel
theorem dX3_mustQueue_26 : decode cX3_mustQueue 26 = .ok (.iload_n 1, 1) := by decide +kernel
theorem dX3_mustQueue_27 : decode cX3_mustQueue 27 = .ok (.if_icmp .ne 5, 3) := by decide +kernel
theorem dX3_mustQueue_30 : decode cX3_mustQueue 30 = .ok (.iconst 0, 1) := by decide +kernel
theorem dX3_mustQueue_31 : decode cX3_mustQueue 31 = .ok (.ireturn, 1) := by decide +kernel
theorem dX3_mustQueue_32 : decode cX3_mustQueue 32 = .ok (.iload 4, 2) := by decide +kernel
theorem dX3_mustQueue_34 : decode cX3_mustQueue 34 = .ok (.iconst 5, 1) := by decide +kernel
theorem dX3_mustQueue_35 : decode cX3_mustQueue 35 = .ok (.if_icmp .eq 18, 3) := by decide +kernel
theorem dX3_mustQueue_38 : decode cX3_mustQueue 38 = .ok (.aload_n 0, 1) := by decide +kernel
theorem dX3_mustQueue_39 : decode cX3_mustQueue 39 = .ok (.getfield 63, 3) := by decide +kernel
theorem dX3_mustQueue_42 : decode cX3_mustQueue 42 = .ok (.iload_n 2, 1) := by decide +kernel
theorem dX3_mustQueue_43 : decode cX3_mustQueue 43 = .ok (.iaload, 1) := by decide +kernel
theorem dX3_mustQueue_44 : decode cX3_mustQueue 44 = .ok (.ifCond .le 7, 3) := by decide +kernel
theorem dX3_mustQueue_47 : decode cX3_mustQueue 47 = .ok (.iconst 1, 1) := by decide +kernel
theorem dX3_mustQueue_48 : decode cX3_mustQueue 48 = .ok (.goto 4, 3) := by decide +kernel
theorem dX3_mustQueue_51 : decode cX3_mustQueue 51 = .ok (.iconst 0, 1) := by decide +kernel
theorem dX3_mustQueue_52 : decode cX3_mustQueue 52 = .ok (.ireturn, 1) := by decide +kernel
theorem dX3_mustQueue_53 : decode cX3_mustQueue 53 = .ok (.aload_n 0, 1) := by decide +kernel
theorem dX3_mustQueue_54 : decode cX3_mustQueue 54 = .ok (.getfield 57, 3) := by decide +kernel
theorem dX3_mustQueue_57 : decode cX3_mustQueue 57 = .ok (.bipush 6, 2) := by decide +kernel
theorem dX3_mustQueue_59 : decode cX3_mustQueue 59 = .ok (.iload_n 2, 1) := by decide +kernel
theorem dX3_mustQueue_60 : decode cX3_mustQueue 60 = .ok (.imul, 1) := by decide +kernel
theorem dX3_mustQueue_61 : decode cX3_mustQueue 61 = .ok (.iload_n 1, 1) := by decide +kernel
theorem dX3_mustQueue_62 : decode cX3_mustQueue 62 = .ok (.iadd, 1) := by decide +kernel
theorem dX3_mustQueue_63 : decode cX3_mustQueue 63 = .ok (.iaload, 1) := by decide +kernel
theorem dX3_mustQueue_64 : decode cX3_mustQueue 64 = .ok (.ifCond .gt 13, 3) := by decide +kernel
theorem dX3_mustQueue_67 : decode cX3_mustQueue 67 = .ok (.aload_n 0, 1) := by decide +kernel
theorem dX3_mustQueue_68 : decode cX3_mustQueue 68 = .ok (.getfield 45, 3) := by decide +kernel
theorem dX3_mustQueue_71 : decode cX3_mustQueue 71 = .ok (.iload_n 2, 1) := by decide +kernel
theorem dX3_mustQueue_72 : decode cX3_mustQueue 72 = .ok (.iaload, 1) := by decide +kernel
theorem dX3_mustQueue_73 : decode cX3_mustQueue 73 = .ok (.iload_n 1, 1) := by decide +kernel
theorem dX3_mustQueue_74 : decode cX3_mustQueue 74 = .ok (.if_icmp .ne 5, 3) := by decide +kernel
theorem dX3_mustQueue_77 : decode cX3_mustQueue 77 = .ok (.iconst 0, 1) := by decide +kernel
theorem dX3_mustQueue_78 : decode cX3_mustQueue 78 = .ok (.ireturn, 1) := by decide +kernel
theorem dX3_mustQueue_79 : decode cX3_mustQueue 79 = .ok (.iconst 0, 1) := by decide +kernel
theorem dX3_mustQueue_80 : decode cX3_mustQueue 80 = .ok (.istore 5, 2) := by decide +kernel
theorem dX3_mustQueue_82 : decode cX3_mustQueue 82 = .ok (.iload 5, 2) := by decide +kernel
theorem dX3_mustQueue_84 : decode cX3_mustQueue 84 = .ok (.aload_n 0, 1) := by decide +kernel
theorem dX3_mustQueue_85 : decode cX3_mustQueue 85 = .ok (.getfield 63, 3) := by decide +kernel
theorem dX3_mustQueue_88 : decode cX3_mustQueue 88 = .ok (.iload_n 2, 1) := by decide +kernel
theorem dX3_mustQueue_89 : decode cX3_mustQueue 89 = .ok (.iaload, 1) := by decide +kernel
theorem dX3_mustQueue_90 : decode cX3_mustQueue 90 = .ok (.if_icmp .ge 37, 3) := by decide +kernel
theorem dX3_mustQueue_93 : decode cX3_mustQueue 93 = .ok (.iload_n 3, 1) := by decide +kernel
theorem dX3_mustQueue_94 : decode cX3_mustQueue 94 = .ok (.iconst 1, 1) := by decide +kernel
theorem dX3_mustQueue_95 : decode cX3_mustQueue 95 = .ok (.if_icmp .eq 24, 3) := by decide +kernel
theorem dX3_mustQueue_98 : decode cX3_mustQueue 98 = .ok (.aload_n 0, 1) := by decide +kernel
theorem dX3_mustQueue_99 : decode cX3_mustQueue 99 = .ok (.getfield 27, 3) := by decide +kernel
theorem dX3_mustQueue_102 : decode cX3_mustQueue 102 = .ok (.aload_n 0, 1) := by decide +kernel
theorem dX3_mustQueue_103 : decode cX3_mustQueue 103 = .ok (.getfield 60, 3) := by decide +kernel
theorem dX3_mustQueue_106 : decode cX3_mustQueue 106 = .ok (.bipush 6, 2) := by decide +kernel
theorem dX3_mustQueue_108 : decode cX3_mustQueue 108 = .ok (.iload_n 2, 1) := by decide +kernel
theorem dX3_mustQueue_109 : decode cX3_mustQueue 109 = .ok (.imul, 1) := by decide +kernel
theorem dX3_mustQueue_110 : decode cX3_mustQueue 110 = .ok (.iload 5, 2) := by decide +kernel
theorem dX3_mustQueue_112 : decode cX3_mustQueue 112 = .ok (.iadd, 1) := by decide +kernel
theorem dX3_mustQueue_113 : decode cX3_mustQueue 113 = .ok (.iaload, 1) := by decide +kernel
theorem dX3_mustQueue_114 : decode cX3_mustQueue 114 = .ok (.iaload, 1) := by decide +kernel
theorem dX3_mustQueue_115 : decode cX3_mustQueue 115 = .ok (.iconst 1, 1) := by decide +kernel
theorem dX3_mustQueue_116 : decode cX3_mustQueue 116 = .ok (.if_icmp .ne 5, 3) := by decide +kernel
theorem dX3_mustQueue_119 : decode cX3_mustQueue 119 = .ok (.iconst 1, 1) := by decide +kernel
theorem dX3_mustQueue_120 : decode cX3_mustQueue 120 = .ok (.ireturn, 1) := by decide +kernel
theorem dX3_mustQueue_121 : decode cX3_mustQueue 121 = .ok (.iinc 5 1, 3) := by decide +kernel
theorem dX3_mustQueue_124 : decode cX3_mustQueue 124 = .ok (.goto (-42), 3) := by decide +kernel
theorem dX3_mustQueue_127 : decode cX3_mustQueue 127 = .ok (.iconst 0, 1) := by decide +kernel
theorem dX3_mustQueue_128 : decode cX3_mustQueue 128 = .ok (.ireturn, 1) := by decide +kernel
abbrev cX3_canTake : ByteArray := prog_11_method_8_code
def yX3_canTake : MethodName := ⟨RX3, "canTake", "(III)Z"⟩
theorem dX3_canTake_0 : decode cX3_canTake 0 = .ok (.aload_n 0, 1) := by decide +kernel
theorem dX3_canTake_1 : decode cX3_canTake 1 = .ok (.getfield 42, 3) := by decide +kernel
theorem dX3_canTake_4 : decode cX3_canTake 4 = .ok (.iload_n 2, 1) := by decide +kernel
theorem dX3_canTake_5 : decode cX3_canTake 5 = .ok (.iaload, 1) := by decide +kernel
theorem dX3_canTake_6 : decode cX3_canTake 6 = .ok (.istore 4, 2) := by decide +kernel
theorem dX3_canTake_8 : decode cX3_canTake 8 = .ok (.iload 4, 2) := by decide +kernel
theorem dX3_canTake_10 : decode cX3_canTake 10 = .ok (.ifCond .ne 18, 3) := by decide +kernel
theorem dX3_canTake_13 : decode cX3_canTake 13 = .ok (.aload_n 0, 1) := by decide +kernel
theorem dX3_canTake_14 : decode cX3_canTake 14 = .ok (.getfield 45, 3) := by decide +kernel
theorem dX3_canTake_17 : decode cX3_canTake 17 = .ok (.iload_n 2, 1) := by decide +kernel
theorem dX3_canTake_18 : decode cX3_canTake 18 = .ok (.iaload, 1) := by decide +kernel
theorem dX3_canTake_19 : decode cX3_canTake 19 = .ok (.ifCond .ge 7, 3) := by decide +kernel
theorem dX3_canTake_22 : decode cX3_canTake 22 = .ok (.iconst 1, 1) := by decide +kernel
theorem dX3_canTake_23 : decode cX3_canTake 23 = .ok (.goto 4, 3) := by decide +kernel
theorem dX3_canTake_26 : decode cX3_canTake 26 = .ok (.iconst 0, 1) := by decide +kernel
theorem dX3_canTake_27 : decode cX3_canTake 27 = .ok (.ireturn, 1) := by decide +kernel
theorem dX3_canTake_28 : decode cX3_canTake 28 = .ok (.iload 4, 2) := by decide +kernel
theorem dX3_canTake_30 : decode cX3_canTake 30 = .ok (.iconst 1, 1) := by decide +kernel
theorem dX3_canTake_31 : decode cX3_canTake 31 = .ok (.if_icmp .ne 28, 3) := by decide +kernel
theorem dX3_canTake_34 : decode cX3_canTake 34 = .ok (.aload_n 0, 1) := by decide +kernel
theorem dX3_canTake_35 : decode cX3_canTake 35 = .ok (.getfield 45, 3) := by decide +kernel
theorem dX3_canTake_38 : decode cX3_canTake 38 = .ok (.iload_n 2, 1) := by decide +kernel
theorem dX3_canTake_39 : decode cX3_canTake 39 = .ok (.iaload, 1) := by decide +kernel
theorem dX3_canTake_40 : decode cX3_canTake 40 = .ok (.ifCond .lt 13, 3) := by decide +kernel
theorem dX3_canTake_43 : decode cX3_canTake 43 = .ok (.aload_n 0, 1) := by decide +kernel
theorem dX3_canTake_44 : decode cX3_canTake 44 = .ok (.getfield 45, 3) := by decide +kernel
theorem dX3_canTake_47 : decode cX3_canTake 47 = .ok (.iload_n 2, 1) := by decide +kernel
theorem dX3_canTake_48 : decode cX3_canTake 48 = .ok (.iaload, 1) := by decide +kernel
theorem dX3_canTake_49 : decode cX3_canTake 49 = .ok (.iload_n 1, 1) := by decide +kernel
theorem dX3_canTake_50 : decode cX3_canTake 50 = .ok (.if_icmp .ne 7, 3) := by decide +kernel
theorem dX3_canTake_53 : decode cX3_canTake 53 = .ok (.iconst 1, 1) := by decide +kernel
theorem dX3_canTake_54 : decode cX3_canTake 54 = .ok (.goto 4, 3) := by decide +kernel
theorem dX3_canTake_57 : decode cX3_canTake 57 = .ok (.iconst 0, 1) := by decide +kernel
theorem dX3_canTake_58 : decode cX3_canTake 58 = .ok (.ireturn, 1) := by decide +kernel
theorem dX3_canTake_59 : decode cX3_canTake 59 = .ok (.iload 4, 2) := by decide +kernel
theorem dX3_canTake_61 : decode cX3_canTake 61 = .ok (.iconst 2, 1) := by decide +kernel
theorem dX3_canTake_62 : decode cX3_canTake 62 = .ok (.if_icmp .eq 9, 3) := by decide +kernel
theorem dX3_canTake_65 : decode cX3_canTake 65 = .ok (.iload 4, 2) := by decide +kernel
theorem dX3_canTake_67 : decode cX3_canTake 67 = .ok (.iconst 3, 1) := by decide +kernel
theorem dX3_canTake_68 : decode cX3_canTake 68 = .ok (.if_icmp .ne 18, 3) := by decide +kernel
theorem dX3_canTake_71 : decode cX3_canTake 71 = .ok (.aload_n 0, 1) := by decide +kernel
theorem dX3_canTake_72 : decode cX3_canTake 72 = .ok (.getfield 51, 3) := by decide +kernel
theorem dX3_canTake_75 : decode cX3_canTake 75 = .ok (.iload_n 2, 1) := by decide +kernel
theorem dX3_canTake_76 : decode cX3_canTake 76 = .ok (.iaload, 1) := by decide +kernel
theorem dX3_canTake_77 : decode cX3_canTake 77 = .ok (.ifCond .le 7, 3) := by decide +kernel
theorem dX3_canTake_80 : decode cX3_canTake 80 = .ok (.iconst 1, 1) := by decide +kernel
theorem dX3_canTake_81 : decode cX3_canTake 81 = .ok (.goto 4, 3) := by decide +kernel
theorem dX3_canTake_84 : decode cX3_canTake 84 = .ok (.iconst 0, 1) := by decide +kernel
theorem dX3_canTake_85 : decode cX3_canTake 85 = .ok (.ireturn, 1) := by decide +kernel
theorem dX3_canTake_86 : decode cX3_canTake 86 = .ok (.iload 4, 2) := by decide +kernel
theorem dX3_canTake_88 : decode cX3_canTake 88 = .ok (.iconst 4, 1) := by decide +kernel
theorem dX3_canTake_89 : decode cX3_canTake 89 = .ok (.if_icmp .ne 18, 3) := by decide +kernel
theorem dX3_canTake_92 : decode cX3_canTake 92 = .ok (.aload_n 0, 1) := by decide +kernel
theorem dX3_canTake_93 : decode cX3_canTake 93 = .ok (.getfield 51, 3) := by decide +kernel
theorem dX3_canTake_96 : decode cX3_canTake 96 = .ok (.iload_n 2, 1) := by decide +kernel
theorem dX3_canTake_97 : decode cX3_canTake 97 = .ok (.iaload, 1) := by decide +kernel
theorem dX3_canTake_98 : decode cX3_canTake 98 = .ok (.ifCond .ne 7, 3) := by decide +kernel
theorem dX3_canTake_101 : decode cX3_canTake 101 = .ok (.iconst 1, 1) := by decide +kernel
theorem dX3_canTake_102 : decode cX3_canTake 102 = .ok (.goto 4, 3) := by decide +kernel
theorem dX3_canTake_105 : decode cX3_canTake 105 = .ok (.iconst 0, 1) := by decide +kernel
theorem dX3_canTake_106 : decode cX3_canTake 106 = .ok (.ireturn, 1) := by decide +kernel
theorem dX3_canTake_107 : decode cX3_canTake 107 = .ok (.aload_n 0, 1) := by decide +kernel
theorem dX3_canTake_108 : decode cX3_canTake 108 = .ok (.getfield 45, 3) := by decide +kernel
theorem dX3_canTake_111 : decode cX3_canTake 111 = .ok (.iload_n 2, 1) := by decide +kernel
theorem dX3_canTake_112 : decode cX3_canTake 112 = .ok (.iaload, 1) := by decide +kernel
theorem dX3_canTake_113 : decode cX3_canTake 113 = .ok (.ifCond .lt 15, 3) := by decide +kernel
theorem dX3_canTake_116 : decode cX3_canTake 116 = .ok (.aload_n 0, 1) := by decide +kernel
theorem dX3_canTake_117 : decode cX3_canTake 117 = .ok (.getfield 45, 3) := by decide +kernel
theorem dX3_canTake_120 : decode cX3_canTake 120 = .ok (.iload_n 2, 1) := by decide +kernel
theorem dX3_canTake_121 : decode cX3_canTake 121 = .ok (.iaload, 1) := by decide +kernel
theorem dX3_canTake_122 : decode cX3_canTake 122 = .ok (.iload_n 1, 1) := by decide +kernel
theorem dX3_canTake_123 : decode cX3_canTake 123 = .ok (.if_icmp .eq 5, 3) := by decide +kernel
theorem dX3_canTake_126 : decode cX3_canTake 126 = .ok (.iconst 0, 1) := by decide +kernel
theorem dX3_canTake_127 : decode cX3_canTake 127 = .ok (.ireturn, 1) := by decide +kernel
theorem dX3_canTake_128 : decode cX3_canTake 128 = .ok (.iconst 0, 1) := by decide +kernel
theorem dX3_canTake_129 : decode cX3_canTake 129 = .ok (.istore 5, 2) := by decide +kernel
theorem dX3_canTake_131 : decode cX3_canTake 131 = .ok (.iload_n 3, 1) := by decide +kernel
theorem dX3_canTake_132 : decode cX3_canTake 132 = .ok (.iconst 1, 1) := by decide +kernel
theorem dX3_canTake_133 : decode cX3_canTake 133 = .ok (.if_icmp .ne 39, 3) := by decide +kernel
theorem dX3_canTake_136 : decode cX3_canTake 136 = .ok (.iload 5, 2) := by decide +kernel
theorem dX3_canTake_138 : decode cX3_canTake 138 = .ok (.bipush 6, 2) := by decide +kernel
theorem dX3_canTake_140 : decode cX3_canTake 140 = .ok (.if_icmp .ge 32, 3) := by decide +kernel
theorem dX3_canTake_143 : decode cX3_canTake 143 = .ok (.iload 5, 2) := by decide +kernel
theorem dX3_canTake_145 : decode cX3_canTake 145 = .ok (.iload_n 1, 1) := by decide +kernel
theorem dX3_canTake_146 : decode cX3_canTake 146 = .ok (.if_icmp .eq 20, 3) := by decide +kernel
theorem dX3_canTake_149 : decode cX3_canTake 149 = .ok (.aload_n 0, 1) := by decide +kernel
theorem dX3_canTake_150 : decode cX3_canTake 150 = .ok (.getfield 57, 3) := by decide +kernel
theorem dX3_canTake_153 : decode cX3_canTake 153 = .ok (.bipush 6, 2) := by decide +kernel
theorem dX3_canTake_155 : decode cX3_canTake 155 = .ok (.iload_n 2, 1) := by decide +kernel
theorem dX3_canTake_156 : decode cX3_canTake 156 = .ok (.imul, 1) := by decide +kernel
theorem dX3_canTake_157 : decode cX3_canTake 157 = .ok (.iload 5, 2) := by decide +kernel
theorem dX3_canTake_159 : decode cX3_canTake 159 = .ok (.iadd, 1) := by decide +kernel
theorem dX3_canTake_160 : decode cX3_canTake 160 = .ok (.iaload, 1) := by decide +kernel
theorem dX3_canTake_161 : decode cX3_canTake 161 = .ok (.ifCond .le 5, 3) := by decide +kernel
theorem dX3_canTake_164 : decode cX3_canTake 164 = .ok (.iconst 0, 1) := by decide +kernel
theorem dX3_canTake_165 : decode cX3_canTake 165 = .ok (.ireturn, 1) := by decide +kernel
theorem dX3_canTake_166 : decode cX3_canTake 166 = .ok (.iinc 5 1, 3) := by decide +kernel
theorem dX3_canTake_169 : decode cX3_canTake 169 = .ok (.goto (-38), 3) := by decide +kernel
theorem dX3_canTake_172 : decode cX3_canTake 172 = .ok (.iconst 1, 1) := by decide +kernel
theorem dX3_canTake_173 : decode cX3_canTake 173 = .ok (.ireturn, 1) := by decide +kernel
abbrev cX3_take : ByteArray := prog_11_method_9_code
def yX3_take : MethodName := ⟨RX3, "take", "(III)V"⟩
theorem dX3_take_0 : decode cX3_take 0 = .ok (.aload_n 0, 1) := by decide +kernel
theorem dX3_take_1 : decode cX3_take 1 = .ok (.getfield 42, 3) := by decide +kernel
theorem dX3_take_4 : decode cX3_take 4 = .ok (.iload_n 2, 1) := by decide +kernel
theorem dX3_take_5 : decode cX3_take 5 = .ok (.iaload, 1) := by decide +kernel
theorem dX3_take_6 : decode cX3_take 6 = .ok (.istore 4, 2) := by decide +kernel
theorem dX3_take_8 : decode cX3_take 8 = .ok (.iload 4, 2) := by decide +kernel
theorem dX3_take_10 : decode cX3_take 10 = .ok (.iconst 2, 1) := by decide +kernel
theorem dX3_take_11 : decode cX3_take 11 = .ok (.if_icmp .eq 9, 3) := by decide +kernel
theorem dX3_take_14 : decode cX3_take 14 = .ok (.iload 4, 2) := by decide +kernel
theorem dX3_take_16 : decode cX3_take 16 = .ok (.iconst 3, 1) := by decide +kernel
theorem dX3_take_17 : decode cX3_take 17 = .ok (.if_icmp .ne 16, 3) := by decide +kernel
theorem dX3_take_20 : decode cX3_take 20 = .ok (.aload_n 0, 1) := by decide +kernel
theorem dX3_take_21 : decode cX3_take 21 = .ok (.getfield 51, 3) := by decide +kernel
theorem dX3_take_24 : decode cX3_take 24 = .ok (.iload_n 2, 1) := by decide +kernel
theorem dX3_take_25 : decode cX3_take 25 = .ok (.dup2, 1) := by decide +kernel
theorem dX3_take_26 : decode cX3_take 26 = .ok (.iaload, 1) := by decide +kernel
theorem dX3_take_27 : decode cX3_take 27 = .ok (.iconst 1, 1) := by decide +kernel
theorem dX3_take_28 : decode cX3_take 28 = .ok (.isub, 1) := by decide +kernel
theorem dX3_take_29 : decode cX3_take 29 = .ok (.iastore, 1) := by decide +kernel
theorem dX3_take_30 : decode cX3_take 30 = .ok (.goto 54, 3) := by decide +kernel
theorem dX3_take_33 : decode cX3_take 33 = .ok (.iload 4, 2) := by decide +kernel
theorem dX3_take_35 : decode cX3_take 35 = .ok (.iconst 5, 1) := by decide +kernel
theorem dX3_take_36 : decode cX3_take 36 = .ok (.if_icmp .ne 25, 3) := by decide +kernel
theorem dX3_take_39 : decode cX3_take 39 = .ok (.iload_n 3, 1) := by decide +kernel
theorem dX3_take_40 : decode cX3_take 40 = .ok (.ifCond .ne 21, 3) := by decide +kernel
theorem dX3_take_43 : decode cX3_take 43 = .ok (.aload_n 0, 1) := by decide +kernel
theorem dX3_take_44 : decode cX3_take 44 = .ok (.getfield 57, 3) := by decide +kernel
theorem dX3_take_47 : decode cX3_take 47 = .ok (.bipush 6, 2) := by decide +kernel
theorem dX3_take_49 : decode cX3_take 49 = .ok (.iload_n 2, 1) := by decide +kernel
theorem dX3_take_50 : decode cX3_take 50 = .ok (.imul, 1) := by decide +kernel
theorem dX3_take_51 : decode cX3_take 51 = .ok (.iload_n 1, 1) := by decide +kernel
theorem dX3_take_52 : decode cX3_take 52 = .ok (.iadd, 1) := by decide +kernel
theorem dX3_take_53 : decode cX3_take 53 = .ok (.dup2, 1) := by decide +kernel
theorem dX3_take_54 : decode cX3_take 54 = .ok (.iaload, 1) := by decide +kernel
theorem dX3_take_55 : decode cX3_take 55 = .ok (.iconst 1, 1) := by decide +kernel
theorem dX3_take_56 : decode cX3_take 56 = .ok (.iadd, 1) := by decide +kernel
theorem dX3_take_57 : decode cX3_take 57 = .ok (.iastore, 1) := by decide +kernel
theorem dX3_take_58 : decode cX3_take 58 = .ok (.goto 26, 3) := by decide +kernel
theorem dX3_take_61 : decode cX3_take 61 = .ok (.iload 4, 2) := by decide +kernel
theorem dX3_take_63 : decode cX3_take 63 = .ok (.iconst 4, 1) := by decide +kernel
theorem dX3_take_64 : decode cX3_take 64 = .ok (.if_icmp .eq 20, 3) := by decide +kernel
theorem dX3_take_67 : decode cX3_take 67 = .ok (.aload_n 0, 1) := by decide +kernel
theorem dX3_take_68 : decode cX3_take 68 = .ok (.getfield 45, 3) := by decide +kernel
theorem dX3_take_71 : decode cX3_take 71 = .ok (.iload_n 2, 1) := by decide +kernel
theorem dX3_take_72 : decode cX3_take 72 = .ok (.iload_n 1, 1) := by decide +kernel
theorem dX3_take_73 : decode cX3_take 73 = .ok (.iastore, 1) := by decide +kernel
theorem dX3_take_74 : decode cX3_take 74 = .ok (.aload_n 0, 1) := by decide +kernel
theorem dX3_take_75 : decode cX3_take 75 = .ok (.getfield 48, 3) := by decide +kernel
theorem dX3_take_78 : decode cX3_take 78 = .ok (.iload_n 2, 1) := by decide +kernel
theorem dX3_take_79 : decode cX3_take 79 = .ok (.dup2, 1) := by decide +kernel
theorem dX3_take_80 : decode cX3_take 80 = .ok (.iaload, 1) := by decide +kernel
theorem dX3_take_81 : decode cX3_take 81 = .ok (.iconst 1, 1) := by decide +kernel
theorem dX3_take_82 : decode cX3_take 82 = .ok (.iadd, 1) := by decide +kernel
theorem dX3_take_83 : decode cX3_take 83 = .ok (.iastore, 1) := by decide +kernel
theorem dX3_take_84 : decode cX3_take 84 = .ok (.return_, 1) := by decide +kernel
abbrev cX3_enter : ByteArray := prog_11_method_11_code
def yX3_enter : MethodName := ⟨RX3, "enter", "(II)V"⟩
theorem dX3_enter_0 : decode cX3_enter 0 = .ok (.aload_n 0, 1) := by decide +kernel
theorem dX3_enter_1 : decode cX3_enter 1 = .ok (.getfield 60, 3) := by decide +kernel
theorem dX3_enter_4 : decode cX3_enter 4 = .ok (.bipush 6, 2) := by decide +kernel
theorem dX3_enter_6 : decode cX3_enter 6 = .ok (.iload_n 2, 1) := by decide +kernel
theorem dX3_enter_7 : decode cX3_enter 7 = .ok (.imul, 1) := by decide +kernel
theorem dX3_enter_8 : decode cX3_enter 8 = .ok (.aload_n 0, 1) := by decide +kernel
theorem dX3_enter_9 : decode cX3_enter 9 = .ok (.getfield 63, 3) := by decide +kernel
theorem dX3_enter_12 : decode cX3_enter 12 = .ok (.iload_n 2, 1) := by decide +kernel
theorem dX3_enter_13 : decode cX3_enter 13 = .ok (.iaload, 1) := by decide +kernel
theorem dX3_enter_14 : decode cX3_enter 14 = .ok (.iadd, 1) := by decide +kernel
theorem dX3_enter_15 : decode cX3_enter 15 = .ok (.iload_n 1, 1) := by decide +kernel
theorem dX3_enter_16 : decode cX3_enter 16 = .ok (.iastore, 1) := by decide +kernel
theorem dX3_enter_17 : decode cX3_enter 17 = .ok (.aload_n 0, 1) := by decide +kernel
theorem dX3_enter_18 : decode cX3_enter 18 = .ok (.getfield 63, 3) := by decide +kernel
theorem dX3_enter_21 : decode cX3_enter 21 = .ok (.iload_n 2, 1) := by decide +kernel
theorem dX3_enter_22 : decode cX3_enter 22 = .ok (.dup2, 1) := by decide +kernel
theorem dX3_enter_23 : decode cX3_enter 23 = .ok (.iaload, 1) := by decide +kernel
theorem dX3_enter_24 : decode cX3_enter 24 = .ok (.iconst 1, 1) := by decide +kernel
theorem dX3_enter_25 : decode cX3_enter 25 = .ok (.iadd, 1) := by decide +kernel
theorem dX3_enter_26 : decode cX3_enter 26 = .ok (.iastore, 1) := by decide +kernel
theorem dX3_enter_27 : decode cX3_enter 27 = .ok (.aload_n 0, 1) := by decide +kernel
theorem dX3_enter_28 : decode cX3_enter 28 = .ok (.getfield 24, 3) := by decide +kernel
theorem dX3_enter_31 : decode cX3_enter 31 = .ok (.iload_n 1, 1) := by decide +kernel
theorem dX3_enter_32 : decode cX3_enter 32 = .ok (.iload_n 2, 1) := by decide +kernel
theorem dX3_enter_33 : decode cX3_enter 33 = .ok (.iastore, 1) := by decide +kernel
theorem dX3_enter_34 : decode cX3_enter 34 = .ok (.aload_n 0, 1) := by decide +kernel
theorem dX3_enter_35 : decode cX3_enter 35 = .ok (.getfield 33, 3) := by decide +kernel
theorem dX3_enter_38 : decode cX3_enter 38 = .ok (.iload_n 1, 1) := by decide +kernel
theorem dX3_enter_39 : decode cX3_enter 39 = .ok (.aload_n 0, 1) := by decide +kernel
theorem dX3_enter_40 : decode cX3_enter 40 = .ok (.getfield 94, 3) := by decide +kernel
theorem dX3_enter_43 : decode cX3_enter 43 = .ok (.dastore, 1) := by decide +kernel
theorem dX3_enter_44 : decode cX3_enter 44 = .ok (.aload_n 0, 1) := by decide +kernel
theorem dX3_enter_45 : decode cX3_enter 45 = .ok (.getfield 7, 3) := by decide +kernel
theorem dX3_enter_48 : decode cX3_enter 48 = .ok (.iload_n 1, 1) := by decide +kernel
theorem dX3_enter_49 : decode cX3_enter 49 = .ok (.iconst 1, 1) := by decide +kernel
theorem dX3_enter_50 : decode cX3_enter 50 = .ok (.bastore, 1) := by decide +kernel
theorem dX3_enter_51 : decode cX3_enter 51 = .ok (.return_, 1) := by decide +kernel
abbrev cX3_release : ByteArray := prog_11_method_23_code
def yX3_release : MethodName := ⟨RX3, "release", "(III)I"⟩
theorem dX3_release_0 : decode cX3_release 0 = .ok (.aload_n 0, 1) := by decide +kernel
theorem dX3_release_1 : decode cX3_release 1 = .ok (.aload_n 0, 1) := by decide +kernel
theorem dX3_release_2 : decode cX3_release 2 = .ok (.iload_n 1, 1) := by decide +kernel
theorem dX3_release_3 : decode cX3_release 3 = .ok (.bipush 6, 2) := by decide +kernel
theorem dX3_release_5 : decode cX3_release 5 = .ok (.invokevirtual 82, 3) := by decide +kernel
theorem dX3_release_8 : decode cX3_release 8 = .ok (.ifCond .ne 22, 3) := by decide +kernel
theorem dX3_release_11 : decode cX3_release 11 = .ok (.aload_n 0, 1) := by decide +kernel
theorem dX3_release_12 : decode cX3_release 12 = .ok (.iload_n 2, 1) := by decide +kernel
theorem dX3_release_13 : decode cX3_release 13 = .ok (.bipush 8, 2) := by decide +kernel
theorem dX3_release_15 : decode cX3_release 15 = .ok (.invokevirtual 82, 3) := by decide +kernel
theorem dX3_release_18 : decode cX3_release 18 = .ok (.ifCond .ne 12, 3) := by decide +kernel
theorem dX3_release_21 : decode cX3_release 21 = .ok (.aload_n 0, 1) := by decide +kernel
theorem dX3_release_22 : decode cX3_release 22 = .ok (.iload_n 3, 1) := by decide +kernel
theorem dX3_release_23 : decode cX3_release 23 = .ok (.iconst 2, 1) := by decide +kernel
theorem dX3_release_24 : decode cX3_release 24 = .ok (.invokevirtual 82, 3) := by decide +kernel
theorem dX3_release_27 : decode cX3_release 27 = .ok (.ifCond .eq 7, 3) := by decide +kernel
theorem dX3_release_30 : decode cX3_release 30 = .ok (.iconst 1, 1) := by decide +kernel
theorem dX3_release_31 : decode cX3_release 31 = .ok (.goto 9, 3) := by decide +kernel
theorem dX3_release_34 : decode cX3_release 34 = .ok (.aload_n 0, 1) := by decide +kernel
theorem dX3_release_35 : decode cX3_release 35 = .ok (.iload_n 1, 1) := by decide +kernel
theorem dX3_release_36 : decode cX3_release 36 = .ok (.iload_n 2, 1) := by decide +kernel
theorem dX3_release_37 : decode cX3_release 37 = .ok (.invokevirtual 142, 3) := by decide +kernel
theorem dX3_release_40 : decode cX3_release 40 = .ok (.putfield 78, 3) := by decide +kernel
theorem dX3_release_43 : decode cX3_release 43 = .ok (.aload_n 0, 1) := by decide +kernel
theorem dX3_release_44 : decode cX3_release 44 = .ok (.getfield 78, 3) := by decide +kernel
theorem dX3_release_47 : decode cX3_release 47 = .ok (.ifCond .le 5, 3) := by decide +kernel
theorem dX3_release_50 : decode cX3_release 50 = .ok (.iconst 0, 1) := by decide +kernel
theorem dX3_release_51 : decode cX3_release 51 = .ok (.ireturn, 1) := by decide +kernel
theorem dX3_release_52 : decode cX3_release 52 = .ok (.aload_n 0, 1) := by decide +kernel
theorem dX3_release_53 : decode cX3_release 53 = .ok (.getfield 42, 3) := by decide +kernel
theorem dX3_release_56 : decode cX3_release 56 = .ok (.iload_n 2, 1) := by decide +kernel
theorem dX3_release_57 : decode cX3_release 57 = .ok (.iaload, 1) := by decide +kernel
theorem dX3_release_58 : decode cX3_release 58 = .ok (.istore 4, 2) := by decide +kernel
theorem dX3_release_60 : decode cX3_release 60 = .ok (.aload_n 0, 1) := by decide +kernel
theorem dX3_release_61 : decode cX3_release 61 = .ok (.getfield 63, 3) := by decide +kernel
theorem dX3_release_64 : decode cX3_release 64 = .ok (.iload_n 2, 1) := by decide +kernel
theorem dX3_release_65 : decode cX3_release 65 = .ok (.iaload, 1) := by decide +kernel
theorem dX3_release_66 : decode cX3_release 66 = .ok (.istore 5, 2) := by decide +kernel
theorem dX3_release_68 : decode cX3_release 68 = .ok (.iload 4, 2) := by decide +kernel
theorem dX3_release_70 : decode cX3_release 70 = .ok (.bipush 6, 2) := by decide +kernel
theorem dX3_release_72 : decode cX3_release 72 = .ok (.if_icmp .eq 26, 3) := by decide +kernel
theorem dX3_release_75 : decode cX3_release 75 = .ok (.iload 4, 2) := by decide +kernel
theorem dX3_release_77 : decode cX3_release 77 = .ok (.iconst 2, 1) := by decide +kernel
theorem dX3_release_78 : decode cX3_release 78 = .ok (.if_icmp .eq 9, 3) := by decide +kernel
theorem dX3_release_81 : decode cX3_release 81 = .ok (.iload 4, 2) := by decide +kernel
theorem dX3_release_83 : decode cX3_release 83 = .ok (.iconst 3, 1) := by decide +kernel
theorem dX3_release_84 : decode cX3_release 84 = .ok (.if_icmp .ne 20, 3) := by decide +kernel
theorem dX3_release_87 : decode cX3_release 87 = .ok (.aload_n 0, 1) := by decide +kernel
theorem dX3_release_88 : decode cX3_release 88 = .ok (.getfield 51, 3) := by decide +kernel
theorem dX3_release_91 : decode cX3_release 91 = .ok (.iload_n 2, 1) := by decide +kernel
theorem dX3_release_92 : decode cX3_release 92 = .ok (.iaload, 1) := by decide +kernel
theorem dX3_release_93 : decode cX3_release 93 = .ok (.bipush 100, 2) := by decide +kernel
theorem dX3_release_95 : decode cX3_release 95 = .ok (.if_icmp .ne 9, 3) := by decide +kernel
theorem dX3_release_98 : decode cX3_release 98 = .ok (.aload_n 0, 1) := by decide +kernel
theorem dX3_release_99 : decode cX3_release 99 = .ok (.iconst 4, 1) := by decide +kernel
theorem dX3_release_100 : decode cX3_release 100 = .ok (.invokevirtual 86, 3) := by decide +kernel
theorem dX3_release_103 : decode cX3_release 103 = .ok (.ireturn, 1) := by decide +kernel
theorem dX3_release_104 : decode cX3_release 104 = .ok (.aload_n 0, 1) := by decide +kernel
theorem dX3_release_105 : decode cX3_release 105 = .ok (.getfield 45, 3) := by decide +kernel
theorem dX3_release_108 : decode cX3_release 108 = .ok (.iload_n 2, 1) := by decide +kernel
theorem dX3_release_109 : decode cX3_release 109 = .ok (.iaload, 1) := by decide +kernel
theorem dX3_release_110 : decode cX3_release 110 = .ok (.iload_n 1, 1) := by decide +kernel
theorem dX3_release_111 : decode cX3_release 111 = .ok (.if_icmp .ne 7, 3) := by decide +kernel
theorem dX3_release_114 : decode cX3_release 114 = .ok (.iconst 1, 1) := by decide +kernel
theorem dX3_release_115 : decode cX3_release 115 = .ok (.goto 4, 3) := by decide +kernel
theorem dX3_release_118 : decode cX3_release 118 = .ok (.iconst 0, 1) := by decide +kernel
theorem dX3_release_119 : decode cX3_release 119 = .ok (.istore 6, 2) := by decide +kernel
theorem dX3_release_121 : decode cX3_release 121 = .ok (.iload 4, 2) := by decide +kernel
theorem dX3_release_123 : decode cX3_release 123 = .ok (.iconst 5, 1) := by decide +kernel
theorem dX3_release_124 : decode cX3_release 124 = .ok (.if_icmp .ne 45, 3) := by decide +kernel
theorem dX3_release_127 : decode cX3_release 127 = .ok (.iload_n 3, 1) := by decide +kernel
theorem dX3_release_128 : decode cX3_release 128 = .ok (.ifCond .ne 41, 3) := by decide +kernel
theorem dX3_release_131 : decode cX3_release 131 = .ok (.aload_n 0, 1) := by decide +kernel
theorem dX3_release_132 : decode cX3_release 132 = .ok (.getfield 57, 3) := by decide +kernel
theorem dX3_release_135 : decode cX3_release 135 = .ok (.bipush 6, 2) := by decide +kernel
theorem dX3_release_137 : decode cX3_release 137 = .ok (.iload_n 2, 1) := by decide +kernel
theorem dX3_release_138 : decode cX3_release 138 = .ok (.imul, 1) := by decide +kernel
theorem dX3_release_139 : decode cX3_release 139 = .ok (.iload_n 1, 1) := by decide +kernel
theorem dX3_release_140 : decode cX3_release 140 = .ok (.iadd, 1) := by decide +kernel
theorem dX3_release_141 : decode cX3_release 141 = .ok (.iaload, 1) := by decide +kernel
theorem dX3_release_142 : decode cX3_release 142 = .ok (.ifCond .ne 9, 3) := by decide +kernel
theorem dX3_release_145 : decode cX3_release 145 = .ok (.aload_n 0, 1) := by decide +kernel
theorem dX3_release_146 : decode cX3_release 146 = .ok (.iconst 3, 1) := by decide +kernel
theorem dX3_release_147 : decode cX3_release 147 = .ok (.invokevirtual 86, 3) := by decide +kernel
theorem dX3_release_150 : decode cX3_release 150 = .ok (.ireturn, 1) := by decide +kernel
theorem dX3_release_151 : decode cX3_release 151 = .ok (.aload_n 0, 1) := by decide +kernel
theorem dX3_release_152 : decode cX3_release 152 = .ok (.getfield 57, 3) := by decide +kernel
theorem dX3_release_155 : decode cX3_release 155 = .ok (.bipush 6, 2) := by decide +kernel
theorem dX3_release_157 : decode cX3_release 157 = .ok (.iload_n 2, 1) := by decide +kernel
theorem dX3_release_158 : decode cX3_release 158 = .ok (.imul, 1) := by decide +kernel
theorem dX3_release_159 : decode cX3_release 159 = .ok (.iload_n 1, 1) := by decide +kernel
theorem dX3_release_160 : decode cX3_release 160 = .ok (.iadd, 1) := by decide +kernel
theorem dX3_release_161 : decode cX3_release 161 = .ok (.dup2, 1) := by decide +kernel
theorem dX3_release_162 : decode cX3_release 162 = .ok (.iaload, 1) := by decide +kernel
theorem dX3_release_163 : decode cX3_release 163 = .ok (.iconst 1, 1) := by decide +kernel
theorem dX3_release_164 : decode cX3_release 164 = .ok (.isub, 1) := by decide +kernel
theorem dX3_release_165 : decode cX3_release 165 = .ok (.iastore, 1) := by decide +kernel
theorem dX3_release_166 : decode cX3_release 166 = .ok (.goto 101, 3) := by decide +kernel
theorem dX3_release_169 : decode cX3_release 169 = .ok (.iload 4, 2) := by decide +kernel
theorem dX3_release_171 : decode cX3_release 171 = .ok (.iconst 2, 1) := by decide +kernel
theorem dX3_release_172 : decode cX3_release 172 = .ok (.if_icmp .eq 9, 3) := by decide +kernel
theorem dX3_release_175 : decode cX3_release 175 = .ok (.iload 4, 2) := by decide +kernel
theorem dX3_release_177 : decode cX3_release 177 = .ok (.iconst 3, 1) := by decide +kernel
theorem dX3_release_178 : decode cX3_release 178 = .ok (.if_icmp .ne 16, 3) := by decide +kernel
theorem dX3_release_181 : decode cX3_release 181 = .ok (.aload_n 0, 1) := by decide +kernel
theorem dX3_release_182 : decode cX3_release 182 = .ok (.getfield 51, 3) := by decide +kernel
theorem dX3_release_185 : decode cX3_release 185 = .ok (.iload_n 2, 1) := by decide +kernel
theorem dX3_release_186 : decode cX3_release 186 = .ok (.dup2, 1) := by decide +kernel
theorem dX3_release_187 : decode cX3_release 187 = .ok (.iaload, 1) := by decide +kernel
theorem dX3_release_188 : decode cX3_release 188 = .ok (.iconst 1, 1) := by decide +kernel
theorem dX3_release_189 : decode cX3_release 189 = .ok (.iadd, 1) := by decide +kernel
theorem dX3_release_190 : decode cX3_release 190 = .ok (.iastore, 1) := by decide +kernel
theorem dX3_release_191 : decode cX3_release 191 = .ok (.goto 76, 3) := by decide +kernel
theorem dX3_release_194 : decode cX3_release 194 = .ok (.iload 4, 2) := by decide +kernel
theorem dX3_release_196 : decode cX3_release 196 = .ok (.iconst 4, 1) := by decide +kernel
theorem dX3_release_197 : decode cX3_release 197 = .ok (.if_icmp .ne 33, 3) := by decide +kernel
theorem dX3_release_200 : decode cX3_release 200 = .ok (.aload_n 0, 1) := by decide +kernel
theorem dX3_release_201 : decode cX3_release 201 = .ok (.getfield 51, 3) := by decide +kernel
theorem dX3_release_204 : decode cX3_release 204 = .ok (.iload_n 2, 1) := by decide +kernel
theorem dX3_release_205 : decode cX3_release 205 = .ok (.aload_n 0, 1) := by decide +kernel
theorem dX3_release_206 : decode cX3_release 206 = .ok (.getfield 51, 3) := by decide +kernel
theorem dX3_release_209 : decode cX3_release 209 = .ok (.iload_n 2, 1) := by decide +kernel
theorem dX3_release_210 : decode cX3_release 210 = .ok (.iaload, 1) := by decide +kernel
theorem dX3_release_211 : decode cX3_release 211 = .ok (.ifCond .le 14, 3) := by decide +kernel
theorem dX3_release_214 : decode cX3_release 214 = .ok (.aload_n 0, 1) := by decide +kernel
theorem dX3_release_215 : decode cX3_release 215 = .ok (.getfield 51, 3) := by decide +kernel
theorem dX3_release_218 : decode cX3_release 218 = .ok (.iload_n 2, 1) := by decide +kernel
theorem dX3_release_219 : decode cX3_release 219 = .ok (.iaload, 1) := by decide +kernel
theorem dX3_release_220 : decode cX3_release 220 = .ok (.iconst 1, 1) := by decide +kernel
theorem dX3_release_221 : decode cX3_release 221 = .ok (.isub, 1) := by decide +kernel
theorem dX3_release_222 : decode cX3_release 222 = .ok (.goto 4, 3) := by decide +kernel
theorem dX3_release_225 : decode cX3_release 225 = .ok (.iconst 0, 1) := by decide +kernel
theorem dX3_release_226 : decode cX3_release 226 = .ok (.iastore, 1) := by decide +kernel
theorem dX3_release_227 : decode cX3_release 227 = .ok (.goto 40, 3) := by decide +kernel
theorem dX3_release_230 : decode cX3_release 230 = .ok (.iload 6, 2) := by decide +kernel
theorem dX3_release_232 : decode cX3_release 232 = .ok (.ifCond .ne 9, 3) := by decide +kernel
theorem dX3_release_235 : decode cX3_release 235 = .ok (.aload_n 0, 1) := by decide +kernel
theorem dX3_release_236 : decode cX3_release 236 = .ok (.iconst 3, 1) := by decide +kernel
theorem dX3_release_237 : decode cX3_release 237 = .ok (.invokevirtual 86, 3) := by decide +kernel
theorem dX3_release_240 : decode cX3_release 240 = .ok (.ireturn, 1) := by decide +kernel
theorem dX3_release_241 : decode cX3_release 241 = .ok (.aload_n 0, 1) := by decide +kernel
theorem dX3_release_242 : decode cX3_release 242 = .ok (.getfield 48, 3) := by decide +kernel
theorem dX3_release_245 : decode cX3_release 245 = .ok (.iload_n 2, 1) := by decide +kernel
theorem dX3_release_246 : decode cX3_release 246 = .ok (.dup2, 1) := by decide +kernel
theorem dX3_release_247 : decode cX3_release 247 = .ok (.iaload, 1) := by decide +kernel
theorem dX3_release_248 : decode cX3_release 248 = .ok (.iconst 1, 1) := by decide +kernel
theorem dX3_release_249 : decode cX3_release 249 = .ok (.isub, 1) := by decide +kernel
theorem dX3_release_250 : decode cX3_release 250 = .ok (.iastore, 1) := by decide +kernel
theorem dX3_release_251 : decode cX3_release 251 = .ok (.aload_n 0, 1) := by decide +kernel
theorem dX3_release_252 : decode cX3_release 252 = .ok (.getfield 48, 3) := by decide +kernel
theorem dX3_release_255 : decode cX3_release 255 = .ok (.iload_n 2, 1) := by decide +kernel
theorem dX3_release_256 : decode cX3_release 256 = .ok (.iaload, 1) := by decide +kernel
theorem dX3_release_257 : decode cX3_release 257 = .ok (.ifCond .ne 10, 3) := by decide +kernel
theorem dX3_release_260 : decode cX3_release 260 = .ok (.aload_n 0, 1) := by decide +kernel
theorem dX3_release_261 : decode cX3_release 261 = .ok (.getfield 45, 3) := by decide +kernel
theorem dX3_release_264 : decode cX3_release 264 = .ok (.iload_n 2, 1) := by decide +kernel
theorem dX3_release_265 : decode cX3_release 265 = .ok (.iconst (-1), 1) := by decide +kernel
theorem dX3_release_266 : decode cX3_release 266 = .ok (.iastore, 1) := by decide +kernel
theorem dX3_release_267 : decode cX3_release 267 = .ok (.aload_n 0, 1) := by decide +kernel
theorem dX3_release_268 : decode cX3_release 268 = .ok (.iload_n 2, 1) := by decide +kernel
theorem dX3_release_269 : decode cX3_release 269 = .ok (.invokevirtual 121, 3) := by decide +kernel
theorem dX3_release_272 : decode cX3_release 272 = .ok (.iload 5, 2) := by decide +kernel
theorem dX3_release_274 : decode cX3_release 274 = .ok (.ireturn, 1) := by decide +kernel
abbrev cX3_serve : ByteArray := prog_11_method_15_code
def yX3_serve : MethodName := ⟨RX3, "serve", "(I)V"⟩
theorem dX3_serve_0 : decode cX3_serve 0 = .ok (.aload_n 0, 1) := by decide +kernel
theorem dX3_serve_1 : decode cX3_serve 1 = .ok (.getfield 42, 3) := by decide +kernel
theorem dX3_serve_4 : decode cX3_serve 4 = .ok (.iload_n 1, 1) := by decide +kernel
theorem dX3_serve_5 : decode cX3_serve 5 = .ok (.iaload, 1) := by decide +kernel
theorem dX3_serve_6 : decode cX3_serve 6 = .ok (.bipush 6, 2) := by decide +kernel
theorem dX3_serve_8 : decode cX3_serve 8 = .ok (.if_icmp .eq 131, 3) := by decide +kernel
theorem dX3_serve_11 : decode cX3_serve 11 = .ok (.aload_n 0, 1) := by decide +kernel
theorem dX3_serve_12 : decode cX3_serve 12 = .ok (.getfield 63, 3) := by decide +kernel
theorem dX3_serve_15 : decode cX3_serve 15 = .ok (.iload_n 1, 1) := by decide +kernel
theorem dX3_serve_16 : decode cX3_serve 16 = .ok (.iaload, 1) := by decide +kernel
theorem dX3_serve_17 : decode cX3_serve 17 = .ok (.ifCond .le 122, 3) := by decide +kernel
theorem dX3_serve_20 : decode cX3_serve 20 = .ok (.aload_n 0, 1) := by decide +kernel
theorem dX3_serve_21 : decode cX3_serve 21 = .ok (.iload_n 1, 1) := by decide +kernel
theorem dX3_serve_22 : decode cX3_serve 22 = .ok (.invokevirtual 98, 3) := by decide +kernel
theorem dX3_serve_25 : decode cX3_serve 25 = .ok (.istore_n 2, 1) := by decide +kernel
theorem dX3_serve_26 : decode cX3_serve 26 = .ok (.aload_n 0, 1) := by decide +kernel
theorem dX3_serve_27 : decode cX3_serve 27 = .ok (.iload_n 2, 1) := by decide +kernel
theorem dX3_serve_28 : decode cX3_serve 28 = .ok (.iload_n 1, 1) := by decide +kernel
theorem dX3_serve_29 : decode cX3_serve 29 = .ok (.aload_n 0, 1) := by decide +kernel
theorem dX3_serve_30 : decode cX3_serve 30 = .ok (.getfield 27, 3) := by decide +kernel
theorem dX3_serve_33 : decode cX3_serve 33 = .ok (.iload_n 2, 1) := by decide +kernel
theorem dX3_serve_34 : decode cX3_serve 34 = .ok (.iaload, 1) := by decide +kernel
theorem dX3_serve_35 : decode cX3_serve 35 = .ok (.invokevirtual 101, 3) := by decide +kernel
theorem dX3_serve_38 : decode cX3_serve 38 = .ok (.ifCond .ne 4, 3) := by decide +kernel
theorem dX3_serve_41 : decode cX3_serve 41 = .ok (.return_, 1) := by decide +kernel
theorem dX3_serve_42 : decode cX3_serve 42 = .ok (.aload_n 0, 1) := by decide +kernel
theorem dX3_serve_43 : decode cX3_serve 43 = .ok (.iload_n 2, 1) := by decide +kernel
theorem dX3_serve_44 : decode cX3_serve 44 = .ok (.iload_n 1, 1) := by decide +kernel
theorem dX3_serve_45 : decode cX3_serve 45 = .ok (.invokevirtual 105, 3) := by decide +kernel
theorem dX3_serve_48 : decode cX3_serve 48 = .ok (.aload_n 0, 1) := by decide +kernel
theorem dX3_serve_49 : decode cX3_serve 49 = .ok (.iload_n 2, 1) := by decide +kernel
theorem dX3_serve_50 : decode cX3_serve 50 = .ok (.iload_n 1, 1) := by decide +kernel
theorem dX3_serve_51 : decode cX3_serve 51 = .ok (.invokevirtual 109, 3) := by decide +kernel
theorem dX3_serve_54 : decode cX3_serve 54 = .ok (.aload_n 0, 1) := by decide +kernel
theorem dX3_serve_55 : decode cX3_serve 55 = .ok (.getfield 7, 3) := by decide +kernel
theorem dX3_serve_58 : decode cX3_serve 58 = .ok (.iload_n 2, 1) := by decide +kernel
theorem dX3_serve_59 : decode cX3_serve 59 = .ok (.iconst 0, 1) := by decide +kernel
theorem dX3_serve_60 : decode cX3_serve 60 = .ok (.bastore, 1) := by decide +kernel
theorem dX3_serve_61 : decode cX3_serve 61 = .ok (.aload_n 0, 1) := by decide +kernel
theorem dX3_serve_62 : decode cX3_serve 62 = .ok (.getfield 20, 3) := by decide +kernel
theorem dX3_serve_65 : decode cX3_serve 65 = .ok (.iload_n 2, 1) := by decide +kernel
theorem dX3_serve_66 : decode cX3_serve 66 = .ok (.aload_n 0, 1) := by decide +kernel
theorem dX3_serve_67 : decode cX3_serve 67 = .ok (.getfield 36, 3) := by decide +kernel
theorem dX3_serve_70 : decode cX3_serve 70 = .ok (.iload_n 2, 1) := by decide +kernel
theorem dX3_serve_71 : decode cX3_serve 71 = .ok (.iaload, 1) := by decide +kernel
theorem dX3_serve_72 : decode cX3_serve 72 = .ok (.ifCond .le 12, 3) := by decide +kernel
theorem dX3_serve_75 : decode cX3_serve 75 = .ok (.aload_n 0, 1) := by decide +kernel
theorem dX3_serve_76 : decode cX3_serve 76 = .ok (.getfield 39, 3) := by decide +kernel
theorem dX3_serve_79 : decode cX3_serve 79 = .ok (.iload_n 2, 1) := by decide +kernel
theorem dX3_serve_80 : decode cX3_serve 80 = .ok (.iaload, 1) := by decide +kernel
theorem dX3_serve_81 : decode cX3_serve 81 = .ok (.goto 4, 3) := by decide +kernel
theorem dX3_serve_84 : decode cX3_serve 84 = .ok (.iconst 1, 1) := by decide +kernel
theorem dX3_serve_85 : decode cX3_serve 85 = .ok (.iastore, 1) := by decide +kernel
theorem dX3_serve_86 : decode cX3_serve 86 = .ok (.aload_n 0, 1) := by decide +kernel
theorem dX3_serve_87 : decode cX3_serve 87 = .ok (.getfield 36, 3) := by decide +kernel
theorem dX3_serve_90 : decode cX3_serve 90 = .ok (.iload_n 2, 1) := by decide +kernel
theorem dX3_serve_91 : decode cX3_serve 91 = .ok (.iaload, 1) := by decide +kernel
theorem dX3_serve_92 : decode cX3_serve 92 = .ok (.ifCond .le 32, 3) := by decide +kernel
theorem dX3_serve_95 : decode cX3_serve 95 = .ok (.aload_n 0, 1) := by decide +kernel
theorem dX3_serve_96 : decode cX3_serve 96 = .ok (.getfield 45, 3) := by decide +kernel
theorem dX3_serve_99 : decode cX3_serve 99 = .ok (.iload_n 1, 1) := by decide +kernel
theorem dX3_serve_100 : decode cX3_serve 100 = .ok (.iload_n 2, 1) := by decide +kernel
theorem dX3_serve_101 : decode cX3_serve 101 = .ok (.iastore, 1) := by decide +kernel
theorem dX3_serve_102 : decode cX3_serve 102 = .ok (.aload_n 0, 1) := by decide +kernel
theorem dX3_serve_103 : decode cX3_serve 103 = .ok (.getfield 48, 3) := by decide +kernel
theorem dX3_serve_106 : decode cX3_serve 106 = .ok (.iload_n 1, 1) := by decide +kernel
theorem dX3_serve_107 : decode cX3_serve 107 = .ok (.aload_n 0, 1) := by decide +kernel
theorem dX3_serve_108 : decode cX3_serve 108 = .ok (.getfield 36, 3) := by decide +kernel
theorem dX3_serve_111 : decode cX3_serve 111 = .ok (.iload_n 2, 1) := by decide +kernel
theorem dX3_serve_112 : decode cX3_serve 112 = .ok (.iaload, 1) := by decide +kernel
theorem dX3_serve_113 : decode cX3_serve 113 = .ok (.iastore, 1) := by decide +kernel
theorem dX3_serve_114 : decode cX3_serve 114 = .ok (.aload_n 0, 1) := by decide +kernel
theorem dX3_serve_115 : decode cX3_serve 115 = .ok (.getfield 36, 3) := by decide +kernel
theorem dX3_serve_118 : decode cX3_serve 118 = .ok (.iload_n 2, 1) := by decide +kernel
theorem dX3_serve_119 : decode cX3_serve 119 = .ok (.iconst 0, 1) := by decide +kernel
theorem dX3_serve_120 : decode cX3_serve 120 = .ok (.iastore, 1) := by decide +kernel
theorem dX3_serve_121 : decode cX3_serve 121 = .ok (.goto 15, 3) := by decide +kernel
theorem dX3_serve_124 : decode cX3_serve 124 = .ok (.aload_n 0, 1) := by decide +kernel
theorem dX3_serve_125 : decode cX3_serve 125 = .ok (.iload_n 2, 1) := by decide +kernel
theorem dX3_serve_126 : decode cX3_serve 126 = .ok (.iload_n 1, 1) := by decide +kernel
theorem dX3_serve_127 : decode cX3_serve 127 = .ok (.aload_n 0, 1) := by decide +kernel
theorem dX3_serve_128 : decode cX3_serve 128 = .ok (.getfield 27, 3) := by decide +kernel
theorem dX3_serve_131 : decode cX3_serve 131 = .ok (.iload_n 2, 1) := by decide +kernel
theorem dX3_serve_132 : decode cX3_serve 132 = .ok (.iaload, 1) := by decide +kernel
theorem dX3_serve_133 : decode cX3_serve 133 = .ok (.invokevirtual 112, 3) := by decide +kernel
theorem dX3_serve_136 : decode cX3_serve 136 = .ok (.goto (-136), 3) := by decide +kernel
theorem dX3_serve_139 : decode cX3_serve 139 = .ok (.return_, 1) := by decide +kernel
abbrev cX3_next : ByteArray := prog_11_method_13_code
def yX3_next : MethodName := ⟨RX3, "next", "(I)I"⟩
theorem dX3_next_0 : decode cX3_next 0 = .ok (.aload_n 0, 1) := by decide +kernel
theorem dX3_next_1 : decode cX3_next 1 = .ok (.getfield 60, 3) := by decide +kernel
theorem dX3_next_4 : decode cX3_next 4 = .ok (.bipush 6, 2) := by decide +kernel
theorem dX3_next_6 : decode cX3_next 6 = .ok (.iload_n 1, 1) := by decide +kernel
theorem dX3_next_7 : decode cX3_next 7 = .ok (.imul, 1) := by decide +kernel
theorem dX3_next_8 : decode cX3_next 8 = .ok (.iaload, 1) := by decide +kernel
theorem dX3_next_9 : decode cX3_next 9 = .ok (.istore_n 2, 1) := by decide +kernel
theorem dX3_next_10 : decode cX3_next 10 = .ok (.iconst 1, 1) := by decide +kernel
theorem dX3_next_11 : decode cX3_next 11 = .ok (.istore_n 3, 1) := by decide +kernel
theorem dX3_next_12 : decode cX3_next 12 = .ok (.iload_n 3, 1) := by decide +kernel
theorem dX3_next_13 : decode cX3_next 13 = .ok (.aload_n 0, 1) := by decide +kernel
theorem dX3_next_14 : decode cX3_next 14 = .ok (.getfield 63, 3) := by decide +kernel
theorem dX3_next_17 : decode cX3_next 17 = .ok (.iload_n 1, 1) := by decide +kernel
theorem dX3_next_18 : decode cX3_next 18 = .ok (.iaload, 1) := by decide +kernel
theorem dX3_next_19 : decode cX3_next 19 = .ok (.if_icmp .ge 82, 3) := by decide +kernel
theorem dX3_next_22 : decode cX3_next 22 = .ok (.aload_n 0, 1) := by decide +kernel
theorem dX3_next_23 : decode cX3_next 23 = .ok (.getfield 60, 3) := by decide +kernel
theorem dX3_next_26 : decode cX3_next 26 = .ok (.bipush 6, 2) := by decide +kernel
theorem dX3_next_28 : decode cX3_next 28 = .ok (.iload_n 1, 1) := by decide +kernel
theorem dX3_next_29 : decode cX3_next 29 = .ok (.imul, 1) := by decide +kernel
theorem dX3_next_30 : decode cX3_next 30 = .ok (.iload_n 3, 1) := by decide +kernel
theorem dX3_next_31 : decode cX3_next 31 = .ok (.iadd, 1) := by decide +kernel
theorem dX3_next_32 : decode cX3_next 32 = .ok (.iaload, 1) := by decide +kernel
theorem dX3_next_33 : decode cX3_next 33 = .ok (.istore 4, 2) := by decide +kernel
theorem dX3_next_35 : decode cX3_next 35 = .ok (.aload_n 0, 1) := by decide +kernel
theorem dX3_next_36 : decode cX3_next 36 = .ok (.getfield 42, 3) := by decide +kernel
theorem dX3_next_39 : decode cX3_next 39 = .ok (.iload_n 1, 1) := by decide +kernel
theorem dX3_next_40 : decode cX3_next 40 = .ok (.iaload, 1) := by decide +kernel
theorem dX3_next_41 : decode cX3_next 41 = .ok (.iconst 3, 1) := by decide +kernel
theorem dX3_next_42 : decode cX3_next 42 = .ok (.if_icmp .ne 20, 3) := by decide +kernel
theorem dX3_next_45 : decode cX3_next 45 = .ok (.aload_n 0, 1) := by decide +kernel
theorem dX3_next_46 : decode cX3_next 46 = .ok (.getfield 16, 3) := by decide +kernel
theorem dX3_next_49 : decode cX3_next 49 = .ok (.iload 4, 2) := by decide +kernel
theorem dX3_next_51 : decode cX3_next 51 = .ok (.daload, 1) := by decide +kernel
theorem dX3_next_52 : decode cX3_next 52 = .ok (.aload_n 0, 1) := by decide +kernel
theorem dX3_next_53 : decode cX3_next 53 = .ok (.getfield 16, 3) := by decide +kernel
theorem dX3_next_56 : decode cX3_next 56 = .ok (.iload_n 2, 1) := by decide +kernel
theorem dX3_next_57 : decode cX3_next 57 = .ok (.daload, 1) := by decide +kernel
theorem dX3_next_58 : decode cX3_next 58 = .ok (.dcmp .l, 1) := by decide +kernel
theorem dX3_next_59 : decode cX3_next 59 = .ok (.ifCond .gt 33, 3) := by decide +kernel
theorem dX3_next_62 : decode cX3_next 62 = .ok (.aload_n 0, 1) := by decide +kernel
theorem dX3_next_63 : decode cX3_next 63 = .ok (.getfield 42, 3) := by decide +kernel
theorem dX3_next_66 : decode cX3_next 66 = .ok (.iload_n 1, 1) := by decide +kernel
theorem dX3_next_67 : decode cX3_next 67 = .ok (.iaload, 1) := by decide +kernel
theorem dX3_next_68 : decode cX3_next 68 = .ok (.iconst 5, 1) := by decide +kernel
theorem dX3_next_69 : decode cX3_next 69 = .ok (.if_icmp .ne 26, 3) := by decide +kernel
theorem dX3_next_72 : decode cX3_next 72 = .ok (.aload_n 0, 1) := by decide +kernel
theorem dX3_next_73 : decode cX3_next 73 = .ok (.getfield 27, 3) := by decide +kernel
theorem dX3_next_76 : decode cX3_next 76 = .ok (.iload_n 2, 1) := by decide +kernel
theorem dX3_next_77 : decode cX3_next 77 = .ok (.iaload, 1) := by decide +kernel
theorem dX3_next_78 : decode cX3_next 78 = .ok (.ifCond .ne 17, 3) := by decide +kernel
theorem dX3_next_81 : decode cX3_next 81 = .ok (.aload_n 0, 1) := by decide +kernel
theorem dX3_next_82 : decode cX3_next 82 = .ok (.getfield 27, 3) := by decide +kernel
theorem dX3_next_85 : decode cX3_next 85 = .ok (.iload 4, 2) := by decide +kernel
theorem dX3_next_87 : decode cX3_next 87 = .ok (.iaload, 1) := by decide +kernel
theorem dX3_next_88 : decode cX3_next 88 = .ok (.iconst 1, 1) := by decide +kernel
theorem dX3_next_89 : decode cX3_next 89 = .ok (.if_icmp .ne 6, 3) := by decide +kernel
theorem dX3_next_92 : decode cX3_next 92 = .ok (.iload 4, 2) := by decide +kernel
theorem dX3_next_94 : decode cX3_next 94 = .ok (.istore_n 2, 1) := by decide +kernel
theorem dX3_next_95 : decode cX3_next 95 = .ok (.iinc 3 1, 3) := by decide +kernel
theorem dX3_next_98 : decode cX3_next 98 = .ok (.goto (-86), 3) := by decide +kernel
theorem dX3_next_101 : decode cX3_next 101 = .ok (.iload_n 2, 1) := by decide +kernel
theorem dX3_next_102 : decode cX3_next 102 = .ok (.ireturn, 1) := by decide +kernel
abbrev cX3_remove : ByteArray := prog_11_method_12_code
def yX3_remove : MethodName := ⟨RX3, "remove", "(II)V"⟩
theorem dX3_remove_0 : decode cX3_remove 0 = .ok (.iconst 0, 1) := by decide +kernel
theorem dX3_remove_1 : decode cX3_remove 1 = .ok (.istore_n 3, 1) := by decide +kernel
theorem dX3_remove_2 : decode cX3_remove 2 = .ok (.aload_n 0, 1) := by decide +kernel
theorem dX3_remove_3 : decode cX3_remove 3 = .ok (.getfield 60, 3) := by decide +kernel
theorem dX3_remove_6 : decode cX3_remove 6 = .ok (.bipush 6, 2) := by decide +kernel
theorem dX3_remove_8 : decode cX3_remove 8 = .ok (.iload_n 2, 1) := by decide +kernel
theorem dX3_remove_9 : decode cX3_remove 9 = .ok (.imul, 1) := by decide +kernel
theorem dX3_remove_10 : decode cX3_remove 10 = .ok (.iload_n 3, 1) := by decide +kernel
theorem dX3_remove_11 : decode cX3_remove 11 = .ok (.iadd, 1) := by decide +kernel
theorem dX3_remove_12 : decode cX3_remove 12 = .ok (.iaload, 1) := by decide +kernel
theorem dX3_remove_13 : decode cX3_remove 13 = .ok (.iload_n 1, 1) := by decide +kernel
theorem dX3_remove_14 : decode cX3_remove 14 = .ok (.if_icmp .eq 9, 3) := by decide +kernel
theorem dX3_remove_17 : decode cX3_remove 17 = .ok (.iinc 3 1, 3) := by decide +kernel
theorem dX3_remove_20 : decode cX3_remove 20 = .ok (.goto (-18), 3) := by decide +kernel
theorem dX3_remove_23 : decode cX3_remove 23 = .ok (.aload_n 0, 1) := by decide +kernel
theorem dX3_remove_24 : decode cX3_remove 24 = .ok (.getfield 63, 3) := by decide +kernel
theorem dX3_remove_27 : decode cX3_remove 27 = .ok (.iload_n 2, 1) := by decide +kernel
theorem dX3_remove_28 : decode cX3_remove 28 = .ok (.dup2, 1) := by decide +kernel
theorem dX3_remove_29 : decode cX3_remove 29 = .ok (.iaload, 1) := by decide +kernel
theorem dX3_remove_30 : decode cX3_remove 30 = .ok (.iconst 1, 1) := by decide +kernel
theorem dX3_remove_31 : decode cX3_remove 31 = .ok (.isub, 1) := by decide +kernel
theorem dX3_remove_32 : decode cX3_remove 32 = .ok (.iastore, 1) := by decide +kernel
theorem dX3_remove_33 : decode cX3_remove 33 = .ok (.iload_n 3, 1) := by decide +kernel
theorem dX3_remove_34 : decode cX3_remove 34 = .ok (.istore 4, 2) := by decide +kernel
theorem dX3_remove_36 : decode cX3_remove 36 = .ok (.iload 4, 2) := by decide +kernel
theorem dX3_remove_38 : decode cX3_remove 38 = .ok (.aload_n 0, 1) := by decide +kernel
theorem dX3_remove_39 : decode cX3_remove 39 = .ok (.getfield 63, 3) := by decide +kernel
theorem dX3_remove_42 : decode cX3_remove 42 = .ok (.iload_n 2, 1) := by decide +kernel
theorem dX3_remove_43 : decode cX3_remove 43 = .ok (.iaload, 1) := by decide +kernel
theorem dX3_remove_44 : decode cX3_remove 44 = .ok (.if_icmp .ge 35, 3) := by decide +kernel
theorem dX3_remove_47 : decode cX3_remove 47 = .ok (.aload_n 0, 1) := by decide +kernel
theorem dX3_remove_48 : decode cX3_remove 48 = .ok (.getfield 60, 3) := by decide +kernel
theorem dX3_remove_51 : decode cX3_remove 51 = .ok (.bipush 6, 2) := by decide +kernel
theorem dX3_remove_53 : decode cX3_remove 53 = .ok (.iload_n 2, 1) := by decide +kernel
theorem dX3_remove_54 : decode cX3_remove 54 = .ok (.imul, 1) := by decide +kernel
theorem dX3_remove_55 : decode cX3_remove 55 = .ok (.iload 4, 2) := by decide +kernel
theorem dX3_remove_57 : decode cX3_remove 57 = .ok (.iadd, 1) := by decide +kernel
theorem dX3_remove_58 : decode cX3_remove 58 = .ok (.aload_n 0, 1) := by decide +kernel
theorem dX3_remove_59 : decode cX3_remove 59 = .ok (.getfield 60, 3) := by decide +kernel
theorem dX3_remove_62 : decode cX3_remove 62 = .ok (.bipush 6, 2) := by decide +kernel
theorem dX3_remove_64 : decode cX3_remove 64 = .ok (.iload_n 2, 1) := by decide +kernel
theorem dX3_remove_65 : decode cX3_remove 65 = .ok (.imul, 1) := by decide +kernel
theorem dX3_remove_66 : decode cX3_remove 66 = .ok (.iload 4, 2) := by decide +kernel
theorem dX3_remove_68 : decode cX3_remove 68 = .ok (.iadd, 1) := by decide +kernel
theorem dX3_remove_69 : decode cX3_remove 69 = .ok (.iconst 1, 1) := by decide +kernel
theorem dX3_remove_70 : decode cX3_remove 70 = .ok (.iadd, 1) := by decide +kernel
theorem dX3_remove_71 : decode cX3_remove 71 = .ok (.iaload, 1) := by decide +kernel
theorem dX3_remove_72 : decode cX3_remove 72 = .ok (.iastore, 1) := by decide +kernel
theorem dX3_remove_73 : decode cX3_remove 73 = .ok (.iinc 4 1, 3) := by decide +kernel
theorem dX3_remove_76 : decode cX3_remove 76 = .ok (.goto (-40), 3) := by decide +kernel
theorem dX3_remove_79 : decode cX3_remove 79 = .ok (.aload_n 0, 1) := by decide +kernel
theorem dX3_remove_80 : decode cX3_remove 80 = .ok (.getfield 24, 3) := by decide +kernel
theorem dX3_remove_83 : decode cX3_remove 83 = .ok (.iload_n 1, 1) := by decide +kernel
theorem dX3_remove_84 : decode cX3_remove 84 = .ok (.iconst (-1), 1) := by decide +kernel
theorem dX3_remove_85 : decode cX3_remove 85 = .ok (.iastore, 1) := by decide +kernel
theorem dX3_remove_86 : decode cX3_remove 86 = .ok (.return_, 1) := by decide +kernel
abbrev cX3_addWaited : ByteArray := prog_11_method_14_code
def yX3_addWaited : MethodName := ⟨RX3, "addWaited", "(II)V"⟩
theorem dX3_addWaited_0 : decode cX3_addWaited 0 = .ok (.aload_n 0, 1) := by decide +kernel
theorem dX3_addWaited_1 : decode cX3_addWaited 1 = .ok (.getfield 66, 3) := by decide +kernel
theorem dX3_addWaited_4 : decode cX3_addWaited 4 = .ok (.iload_n 2, 1) := by decide +kernel
theorem dX3_addWaited_5 : decode cX3_addWaited 5 = .ok (.dup2, 1) := by decide +kernel
theorem dX3_addWaited_6 : decode cX3_addWaited 6 = .ok (.daload, 1) := by decide +kernel
theorem dX3_addWaited_7 : decode cX3_addWaited 7 = .ok (.aload_n 0, 1) := by decide +kernel
theorem dX3_addWaited_8 : decode cX3_addWaited 8 = .ok (.getfield 94, 3) := by decide +kernel
theorem dX3_addWaited_11 : decode cX3_addWaited 11 = .ok (.aload_n 0, 1) := by decide +kernel
theorem dX3_addWaited_12 : decode cX3_addWaited 12 = .ok (.getfield 33, 3) := by decide +kernel
theorem dX3_addWaited_15 : decode cX3_addWaited 15 = .ok (.iload_n 1, 1) := by decide +kernel
theorem dX3_addWaited_16 : decode cX3_addWaited 16 = .ok (.daload, 1) := by decide +kernel
theorem dX3_addWaited_17 : decode cX3_addWaited 17 = .ok (.dsub, 1) := by decide +kernel
theorem dX3_addWaited_18 : decode cX3_addWaited 18 = .ok (.dadd, 1) := by decide +kernel
theorem dX3_addWaited_19 : decode cX3_addWaited 19 = .ok (.dastore, 1) := by decide +kernel
theorem dX3_addWaited_20 : decode cX3_addWaited 20 = .ok (.aload_n 0, 1) := by decide +kernel
theorem dX3_addWaited_21 : decode cX3_addWaited 21 = .ok (.getfield 69, 3) := by decide +kernel
theorem dX3_addWaited_24 : decode cX3_addWaited 24 = .ok (.iload_n 2, 1) := by decide +kernel
theorem dX3_addWaited_25 : decode cX3_addWaited 25 = .ok (.dup2, 1) := by decide +kernel
theorem dX3_addWaited_26 : decode cX3_addWaited 26 = .ok (.iaload, 1) := by decide +kernel
theorem dX3_addWaited_27 : decode cX3_addWaited 27 = .ok (.iconst 1, 1) := by decide +kernel
theorem dX3_addWaited_28 : decode cX3_addWaited 28 = .ok (.iadd, 1) := by decide +kernel
theorem dX3_addWaited_29 : decode cX3_addWaited 29 = .ok (.iastore, 1) := by decide +kernel
theorem dX3_addWaited_30 : decode cX3_addWaited 30 = .ok (.return_, 1) := by decide +kernel
abbrev cX3_await : ByteArray := prog_11_method_25_code
def yX3_await : MethodName := ⟨RX3, "await", "(IID)I"⟩
theorem dX3_await_0 : decode cX3_await 0 = .ok (.aload_n 0, 1) := by decide +kernel
theorem dX3_await_1 : decode cX3_await 1 = .ok (.aload_n 0, 1) := by decide +kernel
theorem dX3_await_2 : decode cX3_await 2 = .ok (.iload_n 1, 1) := by decide +kernel
theorem dX3_await_3 : decode cX3_await 3 = .ok (.bipush 6, 2) := by decide +kernel
theorem dX3_await_5 : decode cX3_await 5 = .ok (.invokevirtual 82, 3) := by decide +kernel
theorem dX3_await_8 : decode cX3_await 8 = .ok (.ifCond .ne 21, 3) := by decide +kernel
theorem dX3_await_11 : decode cX3_await 11 = .ok (.aload_n 0, 1) := by decide +kernel
theorem dX3_await_12 : decode cX3_await 12 = .ok (.iload_n 2, 1) := by decide +kernel
theorem dX3_await_13 : decode cX3_await 13 = .ok (.bipush 8, 2) := by decide +kernel
theorem dX3_await_15 : decode cX3_await 15 = .ok (.invokevirtual 82, 3) := by decide +kernel
theorem dX3_await_18 : decode cX3_await 18 = .ok (.ifCond .ne 11, 3) := by decide +kernel
theorem dX3_await_21 : decode cX3_await 21 = .ok (.aload_n 0, 1) := by decide +kernel
theorem dX3_await_22 : decode cX3_await 22 = .ok (.dload_n 3, 1) := by decide +kernel
theorem dX3_await_23 : decode cX3_await 23 = .ok (.invokevirtual 138, 3) := by decide +kernel
theorem dX3_await_26 : decode cX3_await 26 = .ok (.ifCond .eq 7, 3) := by decide +kernel
theorem dX3_await_29 : decode cX3_await 29 = .ok (.iconst 1, 1) := by decide +kernel
theorem dX3_await_30 : decode cX3_await 30 = .ok (.goto 9, 3) := by decide +kernel
theorem dX3_await_33 : decode cX3_await 33 = .ok (.aload_n 0, 1) := by decide +kernel
theorem dX3_await_34 : decode cX3_await 34 = .ok (.iload_n 1, 1) := by decide +kernel
theorem dX3_await_35 : decode cX3_await 35 = .ok (.iload_n 2, 1) := by decide +kernel
theorem dX3_await_36 : decode cX3_await 36 = .ok (.invokevirtual 155, 3) := by decide +kernel
theorem dX3_await_39 : decode cX3_await 39 = .ok (.putfield 78, 3) := by decide +kernel
theorem dX3_await_42 : decode cX3_await 42 = .ok (.aload_n 0, 1) := by decide +kernel
theorem dX3_await_43 : decode cX3_await 43 = .ok (.getfield 78, 3) := by decide +kernel
theorem dX3_await_46 : decode cX3_await 46 = .ok (.ifCond .le 5, 3) := by decide +kernel
theorem dX3_await_49 : decode cX3_await 49 = .ok (.iconst 0, 1) := by decide +kernel
theorem dX3_await_50 : decode cX3_await 50 = .ok (.ireturn, 1) := by decide +kernel
theorem dX3_await_51 : decode cX3_await 51 = .ok (.aload_n 0, 1) := by decide +kernel
theorem dX3_await_52 : decode cX3_await 52 = .ok (.getfield 13, 3) := by decide +kernel
theorem dX3_await_55 : decode cX3_await 55 = .ok (.iload_n 1, 1) := by decide +kernel
theorem dX3_await_56 : decode cX3_await 56 = .ok (.baload, 1) := by decide +kernel
theorem dX3_await_57 : decode cX3_await 57 = .ok (.ifCond .eq 17, 3) := by decide +kernel
theorem dX3_await_60 : decode cX3_await 60 = .ok (.aload_n 0, 1) := by decide +kernel
theorem dX3_await_61 : decode cX3_await 61 = .ok (.getfield 13, 3) := by decide +kernel
theorem dX3_await_64 : decode cX3_await 64 = .ok (.iload_n 1, 1) := by decide +kernel
theorem dX3_await_65 : decode cX3_await 65 = .ok (.iconst 0, 1) := by decide +kernel
theorem dX3_await_66 : decode cX3_await 66 = .ok (.bastore, 1) := by decide +kernel
theorem dX3_await_67 : decode cX3_await 67 = .ok (.aload_n 0, 1) := by decide +kernel
theorem dX3_await_68 : decode cX3_await 68 = .ok (.iload_n 1, 1) := by decide +kernel
theorem dX3_await_69 : decode cX3_await 69 = .ok (.iconst 3, 1) := by decide +kernel
theorem dX3_await_70 : decode cX3_await 70 = .ok (.invokevirtual 146, 3) := by decide +kernel
theorem dX3_await_73 : decode cX3_await 73 = .ok (.ireturn, 1) := by decide +kernel
theorem dX3_await_74 : decode cX3_await 74 = .ok (.aload_n 0, 1) := by decide +kernel
theorem dX3_await_75 : decode cX3_await 75 = .ok (.getfield 54, 3) := by decide +kernel
theorem dX3_await_78 : decode cX3_await 78 = .ok (.iload_n 2, 1) := by decide +kernel
theorem dX3_await_79 : decode cX3_await 79 = .ok (.iaload, 1) := by decide +kernel
theorem dX3_await_80 : decode cX3_await 80 = .ok (.istore 5, 2) := by decide +kernel
theorem dX3_await_82 : decode cX3_await 82 = .ok (.aload_n 0, 1) := by decide +kernel
theorem dX3_await_83 : decode cX3_await 83 = .ok (.getfield 36, 3) := by decide +kernel
theorem dX3_await_86 : decode cX3_await 86 = .ok (.iload_n 1, 1) := by decide +kernel
theorem dX3_await_87 : decode cX3_await 87 = .ok (.aload_n 0, 1) := by decide +kernel
theorem dX3_await_88 : decode cX3_await 88 = .ok (.getfield 48, 3) := by decide +kernel
theorem dX3_await_91 : decode cX3_await 91 = .ok (.iload 5, 2) := by decide +kernel
theorem dX3_await_93 : decode cX3_await 93 = .ok (.iaload, 1) := by decide +kernel
theorem dX3_await_94 : decode cX3_await 94 = .ok (.iastore, 1) := by decide +kernel
theorem dX3_await_95 : decode cX3_await 95 = .ok (.aload_n 0, 1) := by decide +kernel
theorem dX3_await_96 : decode cX3_await 96 = .ok (.getfield 45, 3) := by decide +kernel
theorem dX3_await_99 : decode cX3_await 99 = .ok (.iload 5, 2) := by decide +kernel
theorem dX3_await_101 : decode cX3_await 101 = .ok (.iconst (-1), 1) := by decide +kernel
theorem dX3_await_102 : decode cX3_await 102 = .ok (.iastore, 1) := by decide +kernel
theorem dX3_await_103 : decode cX3_await 103 = .ok (.aload_n 0, 1) := by decide +kernel
theorem dX3_await_104 : decode cX3_await 104 = .ok (.getfield 48, 3) := by decide +kernel
theorem dX3_await_107 : decode cX3_await 107 = .ok (.iload 5, 2) := by decide +kernel
theorem dX3_await_109 : decode cX3_await 109 = .ok (.iconst 0, 1) := by decide +kernel
theorem dX3_await_110 : decode cX3_await 110 = .ok (.iastore, 1) := by decide +kernel
theorem dX3_await_111 : decode cX3_await 111 = .ok (.aload_n 0, 1) := by decide +kernel
theorem dX3_await_112 : decode cX3_await 112 = .ok (.getfield 20, 3) := by decide +kernel
theorem dX3_await_115 : decode cX3_await 115 = .ok (.iload_n 1, 1) := by decide +kernel
theorem dX3_await_116 : decode cX3_await 116 = .ok (.iconst 0, 1) := by decide +kernel
theorem dX3_await_117 : decode cX3_await 117 = .ok (.iastore, 1) := by decide +kernel
theorem dX3_await_118 : decode cX3_await 118 = .ok (.dload_n 3, 1) := by decide +kernel
theorem dX3_await_119 : decode cX3_await 119 = .ok (.dconst 0, 1) := by decide +kernel
theorem dX3_await_120 : decode cX3_await 120 = .ok (.dcmp .l, 1) := by decide +kernel
theorem dX3_await_121 : decode cX3_await 121 = .ok (.ifCond .ne 13, 3) := by decide +kernel
theorem dX3_await_124 : decode cX3_await 124 = .ok (.aload_n 0, 1) := by decide +kernel
theorem dX3_await_125 : decode cX3_await 125 = .ok (.iload_n 1, 1) := by decide +kernel
theorem dX3_await_126 : decode cX3_await 126 = .ok (.iload_n 2, 1) := by decide +kernel
theorem dX3_await_127 : decode cX3_await 127 = .ok (.iconst 2, 1) := by decide +kernel
theorem dX3_await_128 : decode cX3_await 128 = .ok (.invokevirtual 158, 3) := by decide +kernel
theorem dX3_await_131 : decode cX3_await 131 = .ok (.goto 46, 3) := by decide +kernel
theorem dX3_await_134 : decode cX3_await 134 = .ok (.aload_n 0, 1) := by decide +kernel
theorem dX3_await_135 : decode cX3_await 135 = .ok (.getfield 30, 3) := by decide +kernel
theorem dX3_await_138 : decode cX3_await 138 = .ok (.iload_n 1, 1) := by decide +kernel
theorem dX3_await_139 : decode cX3_await 139 = .ok (.dload_n 3, 1) := by decide +kernel
theorem dX3_await_140 : decode cX3_await 140 = .ok (.dconst 0, 1) := by decide +kernel
theorem dX3_await_141 : decode cX3_await 141 = .ok (.dcmp .l, 1) := by decide +kernel
theorem dX3_await_142 : decode cX3_await 142 = .ok (.ifCond .le 12, 3) := by decide +kernel
theorem dX3_await_145 : decode cX3_await 145 = .ok (.aload_n 0, 1) := by decide +kernel
theorem dX3_await_146 : decode cX3_await 146 = .ok (.getfield 94, 3) := by decide +kernel
theorem dX3_await_149 : decode cX3_await 149 = .ok (.dload_n 3, 1) := by decide +kernel
theorem dX3_await_150 : decode cX3_await 150 = .ok (.dadd, 1) := by decide +kernel
theorem dX3_await_151 : decode cX3_await 151 = .ok (.goto 6, 3) := by decide +kernel
theorem dX3_await_154 : decode cX3_await 154 = .ok (.ldc2_w 116, 3) := by decide +kernel
theorem dX3_await_157 : decode cX3_await 157 = .ok (.dastore, 1) := by decide +kernel
theorem dX3_await_158 : decode cX3_await 158 = .ok (.aload_n 0, 1) := by decide +kernel
theorem dX3_await_159 : decode cX3_await 159 = .ok (.getfield 27, 3) := by decide +kernel
theorem dX3_await_162 : decode cX3_await 162 = .ok (.iload_n 1, 1) := by decide +kernel
theorem dX3_await_163 : decode cX3_await 163 = .ok (.iconst 0, 1) := by decide +kernel
theorem dX3_await_164 : decode cX3_await 164 = .ok (.iastore, 1) := by decide +kernel
theorem dX3_await_165 : decode cX3_await 165 = .ok (.aload_n 0, 1) := by decide +kernel
theorem dX3_await_166 : decode cX3_await 166 = .ok (.iload_n 1, 1) := by decide +kernel
theorem dX3_await_167 : decode cX3_await 167 = .ok (.iload_n 2, 1) := by decide +kernel
theorem dX3_await_168 : decode cX3_await 168 = .ok (.invokevirtual 118, 3) := by decide +kernel
theorem dX3_await_171 : decode cX3_await 171 = .ok (.aload_n 0, 1) := by decide +kernel
theorem dX3_await_172 : decode cX3_await 172 = .ok (.iload 5, 2) := by decide +kernel
theorem dX3_await_174 : decode cX3_await 174 = .ok (.invokevirtual 121, 3) := by decide +kernel
theorem dX3_await_177 : decode cX3_await 177 = .ok (.aload_n 0, 1) := by decide +kernel
theorem dX3_await_178 : decode cX3_await 178 = .ok (.getfield 20, 3) := by decide +kernel
theorem dX3_await_181 : decode cX3_await 181 = .ok (.iload_n 1, 1) := by decide +kernel
theorem dX3_await_182 : decode cX3_await 182 = .ok (.iaload, 1) := by decide +kernel
theorem dX3_await_183 : decode cX3_await 183 = .ok (.ireturn, 1) := by decide +kernel
abbrev cX3_checkCondition : ByteArray := prog_11_method_24_code
def yX3_checkCondition : MethodName := ⟨RX3, "checkCondition", "(II)I"⟩
theorem dX3_checkCondition_0 : decode cX3_checkCondition 0 = .ok (.aload_n 0, 1) := by decide +kernel
theorem dX3_checkCondition_1 : decode cX3_checkCondition 1 = .ok (.iload_n 1, 1) := by decide +kernel
theorem dX3_checkCondition_2 : decode cX3_checkCondition 2 = .ok (.iload_n 2, 1) := by decide +kernel
theorem dX3_checkCondition_3 : decode cX3_checkCondition 3 = .ok (.invokevirtual 142, 3) := by decide +kernel
theorem dX3_checkCondition_6 : decode cX3_checkCondition 6 = .ok (.istore_n 3, 1) := by decide +kernel
theorem dX3_checkCondition_7 : decode cX3_checkCondition 7 = .ok (.iload_n 3, 1) := by decide +kernel
theorem dX3_checkCondition_8 : decode cX3_checkCondition 8 = .ok (.ifCond .le 5, 3) := by decide +kernel
theorem dX3_checkCondition_11 : decode cX3_checkCondition 11 = .ok (.iload_n 3, 1) := by decide +kernel
theorem dX3_checkCondition_12 : decode cX3_checkCondition 12 = .ok (.ireturn, 1) := by decide +kernel
theorem dX3_checkCondition_13 : decode cX3_checkCondition 13 = .ok (.aload_n 0, 1) := by decide +kernel
theorem dX3_checkCondition_14 : decode cX3_checkCondition 14 = .ok (.getfield 42, 3) := by decide +kernel
theorem dX3_checkCondition_17 : decode cX3_checkCondition 17 = .ok (.iload_n 2, 1) := by decide +kernel
theorem dX3_checkCondition_18 : decode cX3_checkCondition 18 = .ok (.iaload, 1) := by decide +kernel
theorem dX3_checkCondition_19 : decode cX3_checkCondition 19 = .ok (.bipush 6, 2) := by decide +kernel
theorem dX3_checkCondition_21 : decode cX3_checkCondition 21 = .ok (.if_icmp .eq 5, 3) := by decide +kernel
theorem dX3_checkCondition_24 : decode cX3_checkCondition 24 = .ok (.iconst 4, 1) := by decide +kernel
theorem dX3_checkCondition_25 : decode cX3_checkCondition 25 = .ok (.ireturn, 1) := by decide +kernel
theorem dX3_checkCondition_26 : decode cX3_checkCondition 26 = .ok (.aload_n 0, 1) := by decide +kernel
theorem dX3_checkCondition_27 : decode cX3_checkCondition 27 = .ok (.getfield 45, 3) := by decide +kernel
theorem dX3_checkCondition_30 : decode cX3_checkCondition 30 = .ok (.aload_n 0, 1) := by decide +kernel
theorem dX3_checkCondition_31 : decode cX3_checkCondition 31 = .ok (.getfield 54, 3) := by decide +kernel
theorem dX3_checkCondition_34 : decode cX3_checkCondition 34 = .ok (.iload_n 2, 1) := by decide +kernel
theorem dX3_checkCondition_35 : decode cX3_checkCondition 35 = .ok (.iaload, 1) := by decide +kernel
theorem dX3_checkCondition_36 : decode cX3_checkCondition 36 = .ok (.iaload, 1) := by decide +kernel
theorem dX3_checkCondition_37 : decode cX3_checkCondition 37 = .ok (.iload_n 1, 1) := by decide +kernel
theorem dX3_checkCondition_38 : decode cX3_checkCondition 38 = .ok (.if_icmp .eq 7, 3) := by decide +kernel
theorem dX3_checkCondition_41 : decode cX3_checkCondition 41 = .ok (.iconst 3, 1) := by decide +kernel
theorem dX3_checkCondition_42 : decode cX3_checkCondition 42 = .ok (.goto 4, 3) := by decide +kernel
theorem dX3_checkCondition_45 : decode cX3_checkCondition 45 = .ok (.iconst 0, 1) := by decide +kernel
theorem dX3_checkCondition_46 : decode cX3_checkCondition 46 = .ok (.ireturn, 1) := by decide +kernel
abbrev cX3_queue : ByteArray := prog_11_method_16_code
def yX3_queue : MethodName := ⟨RX3, "queue", "(III)V"⟩
theorem dX3_queue_0 : decode cX3_queue 0 = .ok (.aload_n 0, 1) := by decide +kernel
theorem dX3_queue_1 : decode cX3_queue 1 = .ok (.getfield 24, 3) := by decide +kernel
theorem dX3_queue_4 : decode cX3_queue 4 = .ok (.iload_n 1, 1) := by decide +kernel
theorem dX3_queue_5 : decode cX3_queue 5 = .ok (.iaload, 1) := by decide +kernel
theorem dX3_queue_6 : decode cX3_queue 6 = .ok (.iload_n 2, 1) := by decide +kernel
theorem dX3_queue_7 : decode cX3_queue 7 = .ok (.if_icmp .ne 20, 3) := by decide +kernel
theorem dX3_queue_10 : decode cX3_queue 10 = .ok (.iload_n 3, 1) := by decide +kernel
theorem dX3_queue_11 : decode cX3_queue 11 = .ok (.iconst 1, 1) := by decide +kernel
theorem dX3_queue_12 : decode cX3_queue 12 = .ok (.if_icmp .ne 9, 3) := by decide +kernel
theorem dX3_queue_15 : decode cX3_queue 15 = .ok (.aload_n 0, 1) := by decide +kernel
theorem dX3_queue_16 : decode cX3_queue 16 = .ok (.iload_n 1, 1) := by decide +kernel
theorem dX3_queue_17 : decode cX3_queue 17 = .ok (.iload_n 2, 1) := by decide +kernel
theorem dX3_queue_18 : decode cX3_queue 18 = .ok (.invokevirtual 109, 3) := by decide +kernel
theorem dX3_queue_21 : decode cX3_queue 21 = .ok (.aload_n 0, 1) := by decide +kernel
theorem dX3_queue_22 : decode cX3_queue 22 = .ok (.iload_n 1, 1) := by decide +kernel
theorem dX3_queue_23 : decode cX3_queue 23 = .ok (.iload_n 2, 1) := by decide +kernel
theorem dX3_queue_24 : decode cX3_queue 24 = .ok (.invokevirtual 105, 3) := by decide +kernel
theorem dX3_queue_27 : decode cX3_queue 27 = .ok (.aload_n 0, 1) := by decide +kernel
theorem dX3_queue_28 : decode cX3_queue 28 = .ok (.getfield 39, 3) := by decide +kernel
theorem dX3_queue_31 : decode cX3_queue 31 = .ok (.iload_n 1, 1) := by decide +kernel
theorem dX3_queue_32 : decode cX3_queue 32 = .ok (.iload_n 3, 1) := by decide +kernel
theorem dX3_queue_33 : decode cX3_queue 33 = .ok (.iastore, 1) := by decide +kernel
theorem dX3_queue_34 : decode cX3_queue 34 = .ok (.aload_n 0, 1) := by decide +kernel
theorem dX3_queue_35 : decode cX3_queue 35 = .ok (.getfield 30, 3) := by decide +kernel
theorem dX3_queue_38 : decode cX3_queue 38 = .ok (.iload_n 1, 1) := by decide +kernel
theorem dX3_queue_39 : decode cX3_queue 39 = .ok (.ldc2_w 116, 3) := by decide +kernel
theorem dX3_queue_42 : decode cX3_queue 42 = .ok (.dastore, 1) := by decide +kernel
theorem dX3_queue_43 : decode cX3_queue 43 = .ok (.aload_n 0, 1) := by decide +kernel
theorem dX3_queue_44 : decode cX3_queue 44 = .ok (.getfield 27, 3) := by decide +kernel
theorem dX3_queue_47 : decode cX3_queue 47 = .ok (.iload_n 1, 1) := by decide +kernel
theorem dX3_queue_48 : decode cX3_queue 48 = .ok (.iconst 0, 1) := by decide +kernel
theorem dX3_queue_49 : decode cX3_queue 49 = .ok (.iastore, 1) := by decide +kernel
theorem dX3_queue_50 : decode cX3_queue 50 = .ok (.aload_n 0, 1) := by decide +kernel
theorem dX3_queue_51 : decode cX3_queue 51 = .ok (.iload_n 1, 1) := by decide +kernel
theorem dX3_queue_52 : decode cX3_queue 52 = .ok (.aload_n 0, 1) := by decide +kernel
theorem dX3_queue_53 : decode cX3_queue 53 = .ok (.getfield 54, 3) := by decide +kernel
theorem dX3_queue_56 : decode cX3_queue 56 = .ok (.iload_n 2, 1) := by decide +kernel
theorem dX3_queue_57 : decode cX3_queue 57 = .ok (.iaload, 1) := by decide +kernel
theorem dX3_queue_58 : decode cX3_queue 58 = .ok (.invokevirtual 118, 3) := by decide +kernel
theorem dX3_queue_61 : decode cX3_queue 61 = .ok (.aload_n 0, 1) := by decide +kernel
theorem dX3_queue_62 : decode cX3_queue 62 = .ok (.aload_n 0, 1) := by decide +kernel
theorem dX3_queue_63 : decode cX3_queue 63 = .ok (.getfield 54, 3) := by decide +kernel
theorem dX3_queue_66 : decode cX3_queue 66 = .ok (.iload_n 2, 1) := by decide +kernel
theorem dX3_queue_67 : decode cX3_queue 67 = .ok (.iaload, 1) := by decide +kernel
theorem dX3_queue_68 : decode cX3_queue 68 = .ok (.invokevirtual 121, 3) := by decide +kernel
theorem dX3_queue_71 : decode cX3_queue 71 = .ok (.return_, 1) := by decide +kernel
abbrev cX3_signal : ByteArray := prog_11_method_26_code
def yX3_signal : MethodName := ⟨RX3, "signal", "(IIZ)I"⟩
theorem dX3_signal_0 : decode cX3_signal 0 = .ok (.aload_n 0, 1) := by decide +kernel
theorem dX3_signal_1 : decode cX3_signal 1 = .ok (.aload_n 0, 1) := by decide +kernel
theorem dX3_signal_2 : decode cX3_signal 2 = .ok (.iload_n 1, 1) := by decide +kernel
theorem dX3_signal_3 : decode cX3_signal 3 = .ok (.bipush 6, 2) := by decide +kernel
theorem dX3_signal_5 : decode cX3_signal 5 = .ok (.invokevirtual 82, 3) := by decide +kernel
theorem dX3_signal_8 : decode cX3_signal 8 = .ok (.ifCond .ne 13, 3) := by decide +kernel
theorem dX3_signal_11 : decode cX3_signal 11 = .ok (.aload_n 0, 1) := by decide +kernel
theorem dX3_signal_12 : decode cX3_signal 12 = .ok (.iload_n 2, 1) := by decide +kernel
theorem dX3_signal_13 : decode cX3_signal 13 = .ok (.bipush 8, 2) := by decide +kernel
theorem dX3_signal_15 : decode cX3_signal 15 = .ok (.invokevirtual 82, 3) := by decide +kernel
theorem dX3_signal_18 : decode cX3_signal 18 = .ok (.ifCond .eq 7, 3) := by decide +kernel
theorem dX3_signal_21 : decode cX3_signal 21 = .ok (.iconst 1, 1) := by decide +kernel
theorem dX3_signal_22 : decode cX3_signal 22 = .ok (.goto 9, 3) := by decide +kernel
theorem dX3_signal_25 : decode cX3_signal 25 = .ok (.aload_n 0, 1) := by decide +kernel
theorem dX3_signal_26 : decode cX3_signal 26 = .ok (.iload_n 1, 1) := by decide +kernel
theorem dX3_signal_27 : decode cX3_signal 27 = .ok (.iload_n 2, 1) := by decide +kernel
theorem dX3_signal_28 : decode cX3_signal 28 = .ok (.invokevirtual 155, 3) := by decide +kernel
theorem dX3_signal_31 : decode cX3_signal 31 = .ok (.putfield 78, 3) := by decide +kernel
theorem dX3_signal_34 : decode cX3_signal 34 = .ok (.aload_n 0, 1) := by decide +kernel
theorem dX3_signal_35 : decode cX3_signal 35 = .ok (.getfield 78, 3) := by decide +kernel
theorem dX3_signal_38 : decode cX3_signal 38 = .ok (.ifCond .le 5, 3) := by decide +kernel
theorem dX3_signal_41 : decode cX3_signal 41 = .ok (.iconst 0, 1) := by decide +kernel
theorem dX3_signal_42 : decode cX3_signal 42 = .ok (.ireturn, 1) := by decide +kernel
theorem dX3_signal_43 : decode cX3_signal 43 = .ok (.iconst 0, 1) := by decide +kernel
theorem dX3_signal_44 : decode cX3_signal 44 = .ok (.istore 4, 2) := by decide +kernel
theorem dX3_signal_46 : decode cX3_signal 46 = .ok (.aload_n 0, 1) := by decide +kernel
theorem dX3_signal_47 : decode cX3_signal 47 = .ok (.getfield 63, 3) := by decide +kernel
theorem dX3_signal_50 : decode cX3_signal 50 = .ok (.iload_n 2, 1) := by decide +kernel
theorem dX3_signal_51 : decode cX3_signal 51 = .ok (.iaload, 1) := by decide +kernel
theorem dX3_signal_52 : decode cX3_signal 52 = .ok (.ifCond .le 33, 3) := by decide +kernel
theorem dX3_signal_55 : decode cX3_signal 55 = .ok (.iload_n 3, 1) := by decide +kernel
theorem dX3_signal_56 : decode cX3_signal 56 = .ok (.ifCond .ne 8, 3) := by decide +kernel
theorem dX3_signal_59 : decode cX3_signal 59 = .ok (.iload 4, 2) := by decide +kernel
theorem dX3_signal_61 : decode cX3_signal 61 = .ok (.ifCond .ne 24, 3) := by decide +kernel
theorem dX3_signal_64 : decode cX3_signal 64 = .ok (.aload_n 0, 1) := by decide +kernel
theorem dX3_signal_65 : decode cX3_signal 65 = .ok (.aload_n 0, 1) := by decide +kernel
theorem dX3_signal_66 : decode cX3_signal 66 = .ok (.getfield 60, 3) := by decide +kernel
theorem dX3_signal_69 : decode cX3_signal 69 = .ok (.bipush 6, 2) := by decide +kernel
theorem dX3_signal_71 : decode cX3_signal 71 = .ok (.iload_n 2, 1) := by decide +kernel
theorem dX3_signal_72 : decode cX3_signal 72 = .ok (.imul, 1) := by decide +kernel
theorem dX3_signal_73 : decode cX3_signal 73 = .ok (.iaload, 1) := by decide +kernel
theorem dX3_signal_74 : decode cX3_signal 74 = .ok (.iload_n 2, 1) := by decide +kernel
theorem dX3_signal_75 : decode cX3_signal 75 = .ok (.iconst 1, 1) := by decide +kernel
theorem dX3_signal_76 : decode cX3_signal 76 = .ok (.invokevirtual 158, 3) := by decide +kernel
theorem dX3_signal_79 : decode cX3_signal 79 = .ok (.iinc 4 1, 3) := by decide +kernel
theorem dX3_signal_82 : decode cX3_signal 82 = .ok (.goto (-36), 3) := by decide +kernel
theorem dX3_signal_85 : decode cX3_signal 85 = .ok (.iload 4, 2) := by decide +kernel
theorem dX3_signal_87 : decode cX3_signal 87 = .ok (.ireturn, 1) := by decide +kernel
abbrev cX3_interrupt : ByteArray := prog_11_method_27_code
def yX3_interrupt : MethodName := ⟨RX3, "interrupt", "(I)I"⟩
theorem dX3_interrupt_0 : decode cX3_interrupt 0 = .ok (.aload_n 0, 1) := by decide +kernel
theorem dX3_interrupt_1 : decode cX3_interrupt 1 = .ok (.iconst 0, 1) := by decide +kernel
theorem dX3_interrupt_2 : decode cX3_interrupt 2 = .ok (.putfield 78, 3) := by decide +kernel
theorem dX3_interrupt_5 : decode cX3_interrupt 5 = .ok (.aload_n 0, 1) := by decide +kernel
theorem dX3_interrupt_6 : decode cX3_interrupt 6 = .ok (.iload_n 1, 1) := by decide +kernel
theorem dX3_interrupt_7 : decode cX3_interrupt 7 = .ok (.bipush 6, 2) := by decide +kernel
theorem dX3_interrupt_9 : decode cX3_interrupt 9 = .ok (.invokevirtual 82, 3) := by decide +kernel
theorem dX3_interrupt_12 : decode cX3_interrupt 12 = .ok (.ifCond .eq 9, 3) := by decide +kernel
theorem dX3_interrupt_15 : decode cX3_interrupt 15 = .ok (.aload_n 0, 1) := by decide +kernel
theorem dX3_interrupt_16 : decode cX3_interrupt 16 = .ok (.iconst 1, 1) := by decide +kernel
theorem dX3_interrupt_17 : decode cX3_interrupt 17 = .ok (.invokevirtual 86, 3) := by decide +kernel
theorem dX3_interrupt_20 : decode cX3_interrupt 20 = .ok (.ireturn, 1) := by decide +kernel
theorem dX3_interrupt_21 : decode cX3_interrupt 21 = .ok (.aload_n 0, 1) := by decide +kernel
theorem dX3_interrupt_22 : decode cX3_interrupt 22 = .ok (.getfield 24, 3) := by decide +kernel
theorem dX3_interrupt_25 : decode cX3_interrupt 25 = .ok (.iload_n 1, 1) := by decide +kernel
theorem dX3_interrupt_26 : decode cX3_interrupt 26 = .ok (.iaload, 1) := by decide +kernel
theorem dX3_interrupt_27 : decode cX3_interrupt 27 = .ok (.istore_n 2, 1) := by decide +kernel
theorem dX3_interrupt_28 : decode cX3_interrupt 28 = .ok (.aload_n 0, 1) := by decide +kernel
theorem dX3_interrupt_29 : decode cX3_interrupt 29 = .ok (.getfield 7, 3) := by decide +kernel
theorem dX3_interrupt_32 : decode cX3_interrupt 32 = .ok (.iload_n 1, 1) := by decide +kernel
theorem dX3_interrupt_33 : decode cX3_interrupt 33 = .ok (.baload, 1) := by decide +kernel
theorem dX3_interrupt_34 : decode cX3_interrupt 34 = .ok (.ifCond .eq 23, 3) := by decide +kernel
theorem dX3_interrupt_37 : decode cX3_interrupt 37 = .ok (.aload_n 0, 1) := by decide +kernel
theorem dX3_interrupt_38 : decode cX3_interrupt 38 = .ok (.getfield 42, 3) := by decide +kernel
theorem dX3_interrupt_41 : decode cX3_interrupt 41 = .ok (.iload_n 2, 1) := by decide +kernel
theorem dX3_interrupt_42 : decode cX3_interrupt 42 = .ok (.iaload, 1) := by decide +kernel
theorem dX3_interrupt_43 : decode cX3_interrupt 43 = .ok (.bipush 6, 2) := by decide +kernel
theorem dX3_interrupt_45 : decode cX3_interrupt 45 = .ok (.if_icmp .eq 22, 3) := by decide +kernel
theorem dX3_interrupt_48 : decode cX3_interrupt 48 = .ok (.aload_n 0, 1) := by decide +kernel
theorem dX3_interrupt_49 : decode cX3_interrupt 49 = .ok (.getfield 36, 3) := by decide +kernel
theorem dX3_interrupt_52 : decode cX3_interrupt 52 = .ok (.iload_n 1, 1) := by decide +kernel
theorem dX3_interrupt_53 : decode cX3_interrupt 53 = .ok (.iaload, 1) := by decide +kernel
theorem dX3_interrupt_54 : decode cX3_interrupt 54 = .ok (.ifCond .le 13, 3) := by decide +kernel
theorem dX3_interrupt_57 : decode cX3_interrupt 57 = .ok (.aload_n 0, 1) := by decide +kernel
theorem dX3_interrupt_58 : decode cX3_interrupt 58 = .ok (.getfield 13, 3) := by decide +kernel
theorem dX3_interrupt_61 : decode cX3_interrupt 61 = .ok (.iload_n 1, 1) := by decide +kernel
theorem dX3_interrupt_62 : decode cX3_interrupt 62 = .ok (.iconst 1, 1) := by decide +kernel
theorem dX3_interrupt_63 : decode cX3_interrupt 63 = .ok (.bastore, 1) := by decide +kernel
theorem dX3_interrupt_64 : decode cX3_interrupt 64 = .ok (.goto 49, 3) := by decide +kernel
theorem dX3_interrupt_67 : decode cX3_interrupt 67 = .ok (.aload_n 0, 1) := by decide +kernel
theorem dX3_interrupt_68 : decode cX3_interrupt 68 = .ok (.getfield 42, 3) := by decide +kernel
theorem dX3_interrupt_71 : decode cX3_interrupt 71 = .ok (.iload_n 2, 1) := by decide +kernel
theorem dX3_interrupt_72 : decode cX3_interrupt 72 = .ok (.iaload, 1) := by decide +kernel
theorem dX3_interrupt_73 : decode cX3_interrupt 73 = .ok (.bipush 6, 2) := by decide +kernel
theorem dX3_interrupt_75 : decode cX3_interrupt 75 = .ok (.if_icmp .ne 13, 3) := by decide +kernel
theorem dX3_interrupt_78 : decode cX3_interrupt 78 = .ok (.aload_n 0, 1) := by decide +kernel
theorem dX3_interrupt_79 : decode cX3_interrupt 79 = .ok (.iload_n 1, 1) := by decide +kernel
theorem dX3_interrupt_80 : decode cX3_interrupt 80 = .ok (.iload_n 2, 1) := by decide +kernel
theorem dX3_interrupt_81 : decode cX3_interrupt 81 = .ok (.iconst 3, 1) := by decide +kernel
theorem dX3_interrupt_82 : decode cX3_interrupt 82 = .ok (.invokevirtual 158, 3) := by decide +kernel
theorem dX3_interrupt_85 : decode cX3_interrupt 85 = .ok (.goto 28, 3) := by decide +kernel
theorem dX3_interrupt_88 : decode cX3_interrupt 88 = .ok (.aload_n 0, 1) := by decide +kernel
theorem dX3_interrupt_89 : decode cX3_interrupt 89 = .ok (.iload_n 1, 1) := by decide +kernel
theorem dX3_interrupt_90 : decode cX3_interrupt 90 = .ok (.iload_n 2, 1) := by decide +kernel
theorem dX3_interrupt_91 : decode cX3_interrupt 91 = .ok (.invokevirtual 105, 3) := by decide +kernel
theorem dX3_interrupt_94 : decode cX3_interrupt 94 = .ok (.aload_n 0, 1) := by decide +kernel
theorem dX3_interrupt_95 : decode cX3_interrupt 95 = .ok (.getfield 7, 3) := by decide +kernel
theorem dX3_interrupt_98 : decode cX3_interrupt 98 = .ok (.iload_n 1, 1) := by decide +kernel
theorem dX3_interrupt_99 : decode cX3_interrupt 99 = .ok (.iconst 0, 1) := by decide +kernel
theorem dX3_interrupt_100 : decode cX3_interrupt 100 = .ok (.bastore, 1) := by decide +kernel
theorem dX3_interrupt_101 : decode cX3_interrupt 101 = .ok (.aload_n 0, 1) := by decide +kernel
theorem dX3_interrupt_102 : decode cX3_interrupt 102 = .ok (.getfield 20, 3) := by decide +kernel
theorem dX3_interrupt_105 : decode cX3_interrupt 105 = .ok (.iload_n 1, 1) := by decide +kernel
theorem dX3_interrupt_106 : decode cX3_interrupt 106 = .ok (.iconst 3, 1) := by decide +kernel
theorem dX3_interrupt_107 : decode cX3_interrupt 107 = .ok (.iastore, 1) := by decide +kernel
theorem dX3_interrupt_108 : decode cX3_interrupt 108 = .ok (.aload_n 0, 1) := by decide +kernel
theorem dX3_interrupt_109 : decode cX3_interrupt 109 = .ok (.iload_n 2, 1) := by decide +kernel
theorem dX3_interrupt_110 : decode cX3_interrupt 110 = .ok (.invokevirtual 121, 3) := by decide +kernel
theorem dX3_interrupt_113 : decode cX3_interrupt 113 = .ok (.aload_n 0, 1) := by decide +kernel
theorem dX3_interrupt_114 : decode cX3_interrupt 114 = .ok (.getfield 20, 3) := by decide +kernel
theorem dX3_interrupt_117 : decode cX3_interrupt 117 = .ok (.iload_n 1, 1) := by decide +kernel
theorem dX3_interrupt_118 : decode cX3_interrupt 118 = .ok (.iaload, 1) := by decide +kernel
theorem dX3_interrupt_119 : decode cX3_interrupt 119 = .ok (.ireturn, 1) := by decide +kernel
abbrev cX3_tick : ByteArray := prog_11_method_28_code
def yX3_tick : MethodName := ⟨RX3, "tick", "(D)I"⟩
theorem dX3_tick_0 : decode cX3_tick 0 = .ok (.aload_n 0, 1) := by decide +kernel
theorem dX3_tick_1 : decode cX3_tick 1 = .ok (.iconst 0, 1) := by decide +kernel
theorem dX3_tick_2 : decode cX3_tick 2 = .ok (.putfield 78, 3) := by decide +kernel
theorem dX3_tick_5 : decode cX3_tick 5 = .ok (.dload_n 1, 1) := by decide +kernel
theorem dX3_tick_6 : decode cX3_tick 6 = .ok (.dconst 0, 1) := by decide +kernel
theorem dX3_tick_7 : decode cX3_tick 7 = .ok (.dcmp .l, 1) := by decide +kernel
theorem dX3_tick_8 : decode cX3_tick 8 = .ok (.ifCond .lt 11, 3) := by decide +kernel
theorem dX3_tick_11 : decode cX3_tick 11 = .ok (.dload_n 1, 1) := by decide +kernel
theorem dX3_tick_12 : decode cX3_tick 12 = .ok (.ldc2_w 92, 3) := by decide +kernel
theorem dX3_tick_15 : decode cX3_tick 15 = .ok (.dcmp .g, 1) := by decide +kernel
theorem dX3_tick_16 : decode cX3_tick 16 = .ok (.ifCond .le 9, 3) := by decide +kernel
theorem dX3_tick_19 : decode cX3_tick 19 = .ok (.aload_n 0, 1) := by decide +kernel
theorem dX3_tick_20 : decode cX3_tick 20 = .ok (.iconst 1, 1) := by decide +kernel
theorem dX3_tick_21 : decode cX3_tick 21 = .ok (.invokevirtual 86, 3) := by decide +kernel
theorem dX3_tick_24 : decode cX3_tick 24 = .ok (.ireturn, 1) := by decide +kernel
theorem dX3_tick_25 : decode cX3_tick 25 = .ok (.aload_n 0, 1) := by decide +kernel
theorem dX3_tick_26 : decode cX3_tick 26 = .ok (.dup, 1) := by decide +kernel
theorem dX3_tick_27 : decode cX3_tick 27 = .ok (.getfield 94, 3) := by decide +kernel
theorem dX3_tick_30 : decode cX3_tick 30 = .ok (.dload_n 1, 1) := by decide +kernel
theorem dX3_tick_31 : decode cX3_tick 31 = .ok (.dadd, 1) := by decide +kernel
theorem dX3_tick_32 : decode cX3_tick 32 = .ok (.putfield 94, 3) := by decide +kernel
theorem dX3_tick_35 : decode cX3_tick 35 = .ok (.iconst 0, 1) := by decide +kernel
theorem dX3_tick_36 : decode cX3_tick 36 = .ok (.istore_n 3, 1) := by decide +kernel
theorem dX3_tick_37 : decode cX3_tick 37 = .ok (.aload_n 0, 1) := by decide +kernel
theorem dX3_tick_38 : decode cX3_tick 38 = .ok (.invokevirtual 161, 3) := by decide +kernel
theorem dX3_tick_41 : decode cX3_tick 41 = .ok (.istore 4, 2) := by decide +kernel
theorem dX3_tick_43 : decode cX3_tick 43 = .ok (.iload 4, 2) := by decide +kernel
theorem dX3_tick_45 : decode cX3_tick 45 = .ok (.ifCond .lt 78, 3) := by decide +kernel
theorem dX3_tick_48 : decode cX3_tick 48 = .ok (.iinc 3 1, 3) := by decide +kernel
theorem dX3_tick_51 : decode cX3_tick 51 = .ok (.aload_n 0, 1) := by decide +kernel
theorem dX3_tick_52 : decode cX3_tick 52 = .ok (.getfield 24, 3) := by decide +kernel
theorem dX3_tick_55 : decode cX3_tick 55 = .ok (.iload 4, 2) := by decide +kernel
theorem dX3_tick_57 : decode cX3_tick 57 = .ok (.iaload, 1) := by decide +kernel
theorem dX3_tick_58 : decode cX3_tick 58 = .ok (.istore 5, 2) := by decide +kernel
theorem dX3_tick_60 : decode cX3_tick 60 = .ok (.aload_n 0, 1) := by decide +kernel
theorem dX3_tick_61 : decode cX3_tick 61 = .ok (.getfield 42, 3) := by decide +kernel
theorem dX3_tick_64 : decode cX3_tick 64 = .ok (.iload 5, 2) := by decide +kernel
theorem dX3_tick_66 : decode cX3_tick 66 = .ok (.iaload, 1) := by decide +kernel
theorem dX3_tick_67 : decode cX3_tick 67 = .ok (.bipush 6, 2) := by decide +kernel
theorem dX3_tick_69 : decode cX3_tick 69 = .ok (.if_icmp .ne 15, 3) := by decide +kernel
theorem dX3_tick_72 : decode cX3_tick 72 = .ok (.aload_n 0, 1) := by decide +kernel
theorem dX3_tick_73 : decode cX3_tick 73 = .ok (.iload 4, 2) := by decide +kernel
theorem dX3_tick_75 : decode cX3_tick 75 = .ok (.iload 5, 2) := by decide +kernel
theorem dX3_tick_77 : decode cX3_tick 77 = .ok (.iconst 2, 1) := by decide +kernel
theorem dX3_tick_78 : decode cX3_tick 78 = .ok (.invokevirtual 158, 3) := by decide +kernel
theorem dX3_tick_81 : decode cX3_tick 81 = .ok (.goto 33, 3) := by decide +kernel
theorem dX3_tick_84 : decode cX3_tick 84 = .ok (.aload_n 0, 1) := by decide +kernel
theorem dX3_tick_85 : decode cX3_tick 85 = .ok (.iload 4, 2) := by decide +kernel
theorem dX3_tick_87 : decode cX3_tick 87 = .ok (.iload 5, 2) := by decide +kernel
theorem dX3_tick_89 : decode cX3_tick 89 = .ok (.invokevirtual 105, 3) := by decide +kernel
theorem dX3_tick_92 : decode cX3_tick 92 = .ok (.aload_n 0, 1) := by decide +kernel
theorem dX3_tick_93 : decode cX3_tick 93 = .ok (.getfield 7, 3) := by decide +kernel
theorem dX3_tick_96 : decode cX3_tick 96 = .ok (.iload 4, 2) := by decide +kernel
theorem dX3_tick_98 : decode cX3_tick 98 = .ok (.iconst 0, 1) := by decide +kernel
theorem dX3_tick_99 : decode cX3_tick 99 = .ok (.bastore, 1) := by decide +kernel
theorem dX3_tick_100 : decode cX3_tick 100 = .ok (.aload_n 0, 1) := by decide +kernel
theorem dX3_tick_101 : decode cX3_tick 101 = .ok (.getfield 20, 3) := by decide +kernel
theorem dX3_tick_104 : decode cX3_tick 104 = .ok (.iload 4, 2) := by decide +kernel
theorem dX3_tick_106 : decode cX3_tick 106 = .ok (.iconst 2, 1) := by decide +kernel
theorem dX3_tick_107 : decode cX3_tick 107 = .ok (.iastore, 1) := by decide +kernel
theorem dX3_tick_108 : decode cX3_tick 108 = .ok (.aload_n 0, 1) := by decide +kernel
theorem dX3_tick_109 : decode cX3_tick 109 = .ok (.iload 5, 2) := by decide +kernel
theorem dX3_tick_111 : decode cX3_tick 111 = .ok (.invokevirtual 121, 3) := by decide +kernel
theorem dX3_tick_114 : decode cX3_tick 114 = .ok (.aload_n 0, 1) := by decide +kernel
theorem dX3_tick_115 : decode cX3_tick 115 = .ok (.invokevirtual 161, 3) := by decide +kernel
theorem dX3_tick_118 : decode cX3_tick 118 = .ok (.istore 4, 2) := by decide +kernel
theorem dX3_tick_120 : decode cX3_tick 120 = .ok (.goto (-77), 3) := by decide +kernel
theorem dX3_tick_123 : decode cX3_tick 123 = .ok (.iload_n 3, 1) := by decide +kernel
theorem dX3_tick_124 : decode cX3_tick 124 = .ok (.ireturn, 1) := by decide +kernel
abbrev cX3_latest : ByteArray := prog_11_method_29_code
def yX3_latest : MethodName := ⟨RX3, "latest", "()I"⟩
theorem dX3_latest_0 : decode cX3_latest 0 = .ok (.iconst (-1), 1) := by decide +kernel
theorem dX3_latest_1 : decode cX3_latest 1 = .ok (.istore_n 1, 1) := by decide +kernel
theorem dX3_latest_2 : decode cX3_latest 2 = .ok (.iconst 0, 1) := by decide +kernel
theorem dX3_latest_3 : decode cX3_latest 3 = .ok (.istore_n 2, 1) := by decide +kernel
theorem dX3_latest_4 : decode cX3_latest 4 = .ok (.iload_n 2, 1) := by decide +kernel
theorem dX3_latest_5 : decode cX3_latest 5 = .ok (.bipush 6, 2) := by decide +kernel
theorem dX3_latest_7 : decode cX3_latest 7 = .ok (.if_icmp .ge 75, 3) := by decide +kernel
theorem dX3_latest_10 : decode cX3_latest 10 = .ok (.aload_n 0, 1) := by decide +kernel
theorem dX3_latest_11 : decode cX3_latest 11 = .ok (.getfield 7, 3) := by decide +kernel
theorem dX3_latest_14 : decode cX3_latest 14 = .ok (.iload_n 2, 1) := by decide +kernel
theorem dX3_latest_15 : decode cX3_latest 15 = .ok (.baload, 1) := by decide +kernel
theorem dX3_latest_16 : decode cX3_latest 16 = .ok (.ifCond .eq 32, 3) := by decide +kernel
theorem dX3_latest_19 : decode cX3_latest 19 = .ok (.aload_n 0, 1) := by decide +kernel
theorem dX3_latest_20 : decode cX3_latest 20 = .ok (.getfield 30, 3) := by decide +kernel
theorem dX3_latest_23 : decode cX3_latest 23 = .ok (.iload_n 2, 1) := by decide +kernel
theorem dX3_latest_24 : decode cX3_latest 24 = .ok (.daload, 1) := by decide +kernel
theorem dX3_latest_25 : decode cX3_latest 25 = .ok (.dconst 0, 1) := by decide +kernel
theorem dX3_latest_26 : decode cX3_latest 26 = .ok (.dcmp .l, 1) := by decide +kernel
theorem dX3_latest_27 : decode cX3_latest 27 = .ok (.ifCond .lt 21, 3) := by decide +kernel
theorem dX3_latest_30 : decode cX3_latest 30 = .ok (.aload_n 0, 1) := by decide +kernel
theorem dX3_latest_31 : decode cX3_latest 31 = .ok (.getfield 30, 3) := by decide +kernel
theorem dX3_latest_34 : decode cX3_latest 34 = .ok (.iload_n 2, 1) := by decide +kernel
theorem dX3_latest_35 : decode cX3_latest 35 = .ok (.daload, 1) := by decide +kernel
theorem dX3_latest_36 : decode cX3_latest 36 = .ok (.aload_n 0, 1) := by decide +kernel
theorem dX3_latest_37 : decode cX3_latest 37 = .ok (.getfield 94, 3) := by decide +kernel
theorem dX3_latest_40 : decode cX3_latest 40 = .ok (.dcmp .g, 1) := by decide +kernel
theorem dX3_latest_41 : decode cX3_latest 41 = .ok (.ifCond .gt 7, 3) := by decide +kernel
theorem dX3_latest_44 : decode cX3_latest 44 = .ok (.iconst 1, 1) := by decide +kernel
theorem dX3_latest_45 : decode cX3_latest 45 = .ok (.goto 4, 3) := by decide +kernel
theorem dX3_latest_48 : decode cX3_latest 48 = .ok (.iconst 0, 1) := by decide +kernel
theorem dX3_latest_49 : decode cX3_latest 49 = .ok (.istore_n 3, 1) := by decide +kernel
theorem dX3_latest_50 : decode cX3_latest 50 = .ok (.iload_n 3, 1) := by decide +kernel
theorem dX3_latest_51 : decode cX3_latest 51 = .ok (.ifCond .eq 25, 3) := by decide +kernel
theorem dX3_latest_54 : decode cX3_latest 54 = .ok (.iload_n 1, 1) := by decide +kernel
theorem dX3_latest_55 : decode cX3_latest 55 = .ok (.ifCond .lt 19, 3) := by decide +kernel
theorem dX3_latest_58 : decode cX3_latest 58 = .ok (.aload_n 0, 1) := by decide +kernel
theorem dX3_latest_59 : decode cX3_latest 59 = .ok (.getfield 30, 3) := by decide +kernel
theorem dX3_latest_62 : decode cX3_latest 62 = .ok (.iload_n 2, 1) := by decide +kernel
theorem dX3_latest_63 : decode cX3_latest 63 = .ok (.daload, 1) := by decide +kernel
theorem dX3_latest_64 : decode cX3_latest 64 = .ok (.aload_n 0, 1) := by decide +kernel
theorem dX3_latest_65 : decode cX3_latest 65 = .ok (.getfield 30, 3) := by decide +kernel
theorem dX3_latest_68 : decode cX3_latest 68 = .ok (.iload_n 1, 1) := by decide +kernel
theorem dX3_latest_69 : decode cX3_latest 69 = .ok (.daload, 1) := by decide +kernel
theorem dX3_latest_70 : decode cX3_latest 70 = .ok (.dcmp .g, 1) := by decide +kernel
theorem dX3_latest_71 : decode cX3_latest 71 = .ok (.ifCond .ge 5, 3) := by decide +kernel
theorem dX3_latest_74 : decode cX3_latest 74 = .ok (.iload_n 2, 1) := by decide +kernel
theorem dX3_latest_75 : decode cX3_latest 75 = .ok (.istore_n 1, 1) := by decide +kernel
theorem dX3_latest_76 : decode cX3_latest 76 = .ok (.iinc 2 1, 3) := by decide +kernel
theorem dX3_latest_79 : decode cX3_latest 79 = .ok (.goto (-75), 3) := by decide +kernel
theorem dX3_latest_82 : decode cX3_latest 82 = .ok (.iload_n 1, 1) := by decide +kernel
theorem dX3_latest_83 : decode cX3_latest 83 = .ok (.ireturn, 1) := by decide +kernel
abbrev cX3_policy : ByteArray := prog_11_method_30_code
def yX3_policy : MethodName := ⟨RX3, "policy", "(I)I"⟩
theorem dX3_policy_0 : decode cX3_policy 0 = .ok (.aload_n 0, 1) := by decide +kernel
theorem dX3_policy_1 : decode cX3_policy 1 = .ok (.iconst 0, 1) := by decide +kernel
theorem dX3_policy_2 : decode cX3_policy 2 = .ok (.putfield 78, 3) := by decide +kernel
theorem dX3_policy_5 : decode cX3_policy 5 = .ok (.aload_n 0, 1) := by decide +kernel
theorem dX3_policy_6 : decode cX3_policy 6 = .ok (.iload_n 1, 1) := by decide +kernel
theorem dX3_policy_7 : decode cX3_policy 7 = .ok (.iconst 3, 1) := by decide +kernel
theorem dX3_policy_8 : decode cX3_policy 8 = .ok (.invokevirtual 82, 3) := by decide +kernel
theorem dX3_policy_11 : decode cX3_policy 11 = .ok (.ifCond .eq 9, 3) := by decide +kernel
theorem dX3_policy_14 : decode cX3_policy 14 = .ok (.aload_n 0, 1) := by decide +kernel
theorem dX3_policy_15 : decode cX3_policy 15 = .ok (.iconst 1, 1) := by decide +kernel
theorem dX3_policy_16 : decode cX3_policy 16 = .ok (.invokevirtual 86, 3) := by decide +kernel
theorem dX3_policy_19 : decode cX3_policy 19 = .ok (.ireturn, 1) := by decide +kernel
theorem dX3_policy_20 : decode cX3_policy 20 = .ok (.aload_n 0, 1) := by decide +kernel
theorem dX3_policy_21 : decode cX3_policy 21 = .ok (.iload_n 1, 1) := by decide +kernel
theorem dX3_policy_22 : decode cX3_policy 22 = .ok (.putfield 125, 3) := by decide +kernel
theorem dX3_policy_25 : decode cX3_policy 25 = .ok (.aload_n 0, 1) := by decide +kernel
theorem dX3_policy_26 : decode cX3_policy 26 = .ok (.getfield 135, 3) := by decide +kernel
theorem dX3_policy_29 : decode cX3_policy 29 = .ok (.ireturn, 1) := by decide +kernel
abbrev cX3_thread : ByteArray := prog_11_method_31_code
def yX3_thread : MethodName := ⟨RX3, "thread", "(II)I"⟩
theorem dX3_thread_0 : decode cX3_thread 0 = .ok (.aload_n 0, 1) := by decide +kernel
theorem dX3_thread_1 : decode cX3_thread 1 = .ok (.iconst 0, 1) := by decide +kernel
theorem dX3_thread_2 : decode cX3_thread 2 = .ok (.putfield 78, 3) := by decide +kernel
theorem dX3_thread_5 : decode cX3_thread 5 = .ok (.aload_n 0, 1) := by decide +kernel
theorem dX3_thread_6 : decode cX3_thread 6 = .ok (.iload_n 1, 1) := by decide +kernel
theorem dX3_thread_7 : decode cX3_thread 7 = .ok (.bipush 6, 2) := by decide +kernel
theorem dX3_thread_9 : decode cX3_thread 9 = .ok (.invokevirtual 82, 3) := by decide +kernel
theorem dX3_thread_12 : decode cX3_thread 12 = .ok (.ifCond .ne 13, 3) := by decide +kernel
theorem dX3_thread_15 : decode cX3_thread 15 = .ok (.aload_n 0, 1) := by decide +kernel
theorem dX3_thread_16 : decode cX3_thread 16 = .ok (.iload_n 2, 1) := by decide +kernel
theorem dX3_thread_17 : decode cX3_thread 17 = .ok (.bipush 11, 2) := by decide +kernel
theorem dX3_thread_19 : decode cX3_thread 19 = .ok (.invokevirtual 82, 3) := by decide +kernel
theorem dX3_thread_22 : decode cX3_thread 22 = .ok (.ifCond .eq 9, 3) := by decide +kernel
theorem dX3_thread_25 : decode cX3_thread 25 = .ok (.aload_n 0, 1) := by decide +kernel
theorem dX3_thread_26 : decode cX3_thread 26 = .ok (.iconst 1, 1) := by decide +kernel
theorem dX3_thread_27 : decode cX3_thread 27 = .ok (.invokevirtual 86, 3) := by decide +kernel
theorem dX3_thread_30 : decode cX3_thread 30 = .ok (.ireturn, 1) := by decide +kernel
theorem dX3_thread_31 : decode cX3_thread 31 = .ok (.iload_n 2, 1) := by decide +kernel
theorem dX3_thread_32 : decode cX3_thread 32 = .ok (.ifCond .ne 18, 3) := by decide +kernel
theorem dX3_thread_35 : decode cX3_thread 35 = .ok (.aload_n 0, 1) := by decide +kernel
theorem dX3_thread_36 : decode cX3_thread 36 = .ok (.getfield 7, 3) := by decide +kernel
theorem dX3_thread_39 : decode cX3_thread 39 = .ok (.iload_n 1, 1) := by decide +kernel
theorem dX3_thread_40 : decode cX3_thread 40 = .ok (.baload, 1) := by decide +kernel
theorem dX3_thread_41 : decode cX3_thread 41 = .ok (.ifCond .eq 7, 3) := by decide +kernel
theorem dX3_thread_44 : decode cX3_thread 44 = .ok (.iconst 1, 1) := by decide +kernel
theorem dX3_thread_45 : decode cX3_thread 45 = .ok (.goto 4, 3) := by decide +kernel
theorem dX3_thread_48 : decode cX3_thread 48 = .ok (.iconst 0, 1) := by decide +kernel
theorem dX3_thread_49 : decode cX3_thread 49 = .ok (.ireturn, 1) := by decide +kernel
theorem dX3_thread_50 : decode cX3_thread 50 = .ok (.iload_n 2, 1) := by decide +kernel
theorem dX3_thread_51 : decode cX3_thread 51 = .ok (.iconst 1, 1) := by decide +kernel
theorem dX3_thread_52 : decode cX3_thread 52 = .ok (.if_icmp .ne 10, 3) := by decide +kernel
theorem dX3_thread_55 : decode cX3_thread 55 = .ok (.aload_n 0, 1) := by decide +kernel
theorem dX3_thread_56 : decode cX3_thread 56 = .ok (.getfield 20, 3) := by decide +kernel
theorem dX3_thread_59 : decode cX3_thread 59 = .ok (.iload_n 1, 1) := by decide +kernel
theorem dX3_thread_60 : decode cX3_thread 60 = .ok (.iaload, 1) := by decide +kernel
theorem dX3_thread_61 : decode cX3_thread 61 = .ok (.ireturn, 1) := by decide +kernel
theorem dX3_thread_62 : decode cX3_thread 62 = .ok (.iload_n 2, 1) := by decide +kernel
theorem dX3_thread_63 : decode cX3_thread 63 = .ok (.iconst 2, 1) := by decide +kernel
theorem dX3_thread_64 : decode cX3_thread 64 = .ok (.if_icmp .ne 18, 3) := by decide +kernel
theorem dX3_thread_67 : decode cX3_thread 67 = .ok (.aload_n 0, 1) := by decide +kernel
theorem dX3_thread_68 : decode cX3_thread 68 = .ok (.getfield 13, 3) := by decide +kernel
theorem dX3_thread_71 : decode cX3_thread 71 = .ok (.iload_n 1, 1) := by decide +kernel
theorem dX3_thread_72 : decode cX3_thread 72 = .ok (.baload, 1) := by decide +kernel
theorem dX3_thread_73 : decode cX3_thread 73 = .ok (.ifCond .eq 7, 3) := by decide +kernel
theorem dX3_thread_76 : decode cX3_thread 76 = .ok (.iconst 1, 1) := by decide +kernel
theorem dX3_thread_77 : decode cX3_thread 77 = .ok (.goto 4, 3) := by decide +kernel
theorem dX3_thread_80 : decode cX3_thread 80 = .ok (.iconst 0, 1) := by decide +kernel
theorem dX3_thread_81 : decode cX3_thread 81 = .ok (.ireturn, 1) := by decide +kernel
theorem dX3_thread_82 : decode cX3_thread 82 = .ok (.iload_n 2, 1) := by decide +kernel
theorem dX3_thread_83 : decode cX3_thread 83 = .ok (.iconst 3, 1) := by decide +kernel
theorem dX3_thread_84 : decode cX3_thread 84 = .ok (.isub, 1) := by decide +kernel
theorem dX3_thread_85 : decode cX3_thread 85 = .ok (.istore_n 3, 1) := by decide +kernel
theorem dX3_thread_86 : decode cX3_thread 86 = .ok (.aload_n 0, 1) := by decide +kernel
theorem dX3_thread_87 : decode cX3_thread 87 = .ok (.getfield 45, 3) := by decide +kernel
theorem dX3_thread_90 : decode cX3_thread 90 = .ok (.iload_n 3, 1) := by decide +kernel
theorem dX3_thread_91 : decode cX3_thread 91 = .ok (.iaload, 1) := by decide +kernel
theorem dX3_thread_92 : decode cX3_thread 92 = .ok (.iload_n 1, 1) := by decide +kernel
theorem dX3_thread_93 : decode cX3_thread 93 = .ok (.if_icmp .ne 12, 3) := by decide +kernel
theorem dX3_thread_96 : decode cX3_thread 96 = .ok (.aload_n 0, 1) := by decide +kernel
theorem dX3_thread_97 : decode cX3_thread 97 = .ok (.getfield 48, 3) := by decide +kernel
theorem dX3_thread_100 : decode cX3_thread 100 = .ok (.iload_n 3, 1) := by decide +kernel
theorem dX3_thread_101 : decode cX3_thread 101 = .ok (.iaload, 1) := by decide +kernel
theorem dX3_thread_102 : decode cX3_thread 102 = .ok (.goto 4, 3) := by decide +kernel
theorem dX3_thread_105 : decode cX3_thread 105 = .ok (.iconst 0, 1) := by decide +kernel
theorem dX3_thread_106 : decode cX3_thread 106 = .ok (.aload_n 0, 1) := by decide +kernel
theorem dX3_thread_107 : decode cX3_thread 107 = .ok (.getfield 57, 3) := by decide +kernel
theorem dX3_thread_110 : decode cX3_thread 110 = .ok (.bipush 6, 2) := by decide +kernel
theorem dX3_thread_112 : decode cX3_thread 112 = .ok (.iload_n 3, 1) := by decide +kernel
theorem dX3_thread_113 : decode cX3_thread 113 = .ok (.imul, 1) := by decide +kernel
theorem dX3_thread_114 : decode cX3_thread 114 = .ok (.iload_n 1, 1) := by decide +kernel
theorem dX3_thread_115 : decode cX3_thread 115 = .ok (.iadd, 1) := by decide +kernel
theorem dX3_thread_116 : decode cX3_thread 116 = .ok (.iaload, 1) := by decide +kernel
theorem dX3_thread_117 : decode cX3_thread 117 = .ok (.iadd, 1) := by decide +kernel
theorem dX3_thread_118 : decode cX3_thread 118 = .ok (.ireturn, 1) := by decide +kernel
abbrev cX3_sync : ByteArray := prog_11_method_32_code
def yX3_sync : MethodName := ⟨RX3, "sync", "(II)I"⟩
theorem dX3_sync_0 : decode cX3_sync 0 = .ok (.aload_n 0, 1) := by decide +kernel
theorem dX3_sync_1 : decode cX3_sync 1 = .ok (.iconst 0, 1) := by decide +kernel
theorem dX3_sync_2 : decode cX3_sync 2 = .ok (.putfield 78, 3) := by decide +kernel
theorem dX3_sync_5 : decode cX3_sync 5 = .ok (.aload_n 0, 1) := by decide +kernel
theorem dX3_sync_6 : decode cX3_sync 6 = .ok (.iload_n 1, 1) := by decide +kernel
theorem dX3_sync_7 : decode cX3_sync 7 = .ok (.bipush 8, 2) := by decide +kernel
theorem dX3_sync_9 : decode cX3_sync 9 = .ok (.invokevirtual 82, 3) := by decide +kernel
theorem dX3_sync_12 : decode cX3_sync 12 = .ok (.ifCond .ne 13, 3) := by decide +kernel
theorem dX3_sync_15 : decode cX3_sync 15 = .ok (.aload_n 0, 1) := by decide +kernel
theorem dX3_sync_16 : decode cX3_sync 16 = .ok (.iload_n 2, 1) := by decide +kernel
theorem dX3_sync_17 : decode cX3_sync 17 = .ok (.bipush 9, 2) := by decide +kernel
theorem dX3_sync_19 : decode cX3_sync 19 = .ok (.invokevirtual 82, 3) := by decide +kernel
theorem dX3_sync_22 : decode cX3_sync 22 = .ok (.ifCond .eq 9, 3) := by decide +kernel
theorem dX3_sync_25 : decode cX3_sync 25 = .ok (.aload_n 0, 1) := by decide +kernel
theorem dX3_sync_26 : decode cX3_sync 26 = .ok (.iconst 1, 1) := by decide +kernel
theorem dX3_sync_27 : decode cX3_sync 27 = .ok (.invokevirtual 86, 3) := by decide +kernel
theorem dX3_sync_30 : decode cX3_sync 30 = .ok (.ireturn, 1) := by decide +kernel
theorem dX3_sync_31 : decode cX3_sync 31 = .ok (.aload_n 0, 1) := by decide +kernel
theorem dX3_sync_32 : decode cX3_sync 32 = .ok (.getfield 42, 3) := by decide +kernel
theorem dX3_sync_35 : decode cX3_sync 35 = .ok (.iload_n 1, 1) := by decide +kernel
theorem dX3_sync_36 : decode cX3_sync 36 = .ok (.iaload, 1) := by decide +kernel
theorem dX3_sync_37 : decode cX3_sync 37 = .ok (.ifCond .ge 9, 3) := by decide +kernel
theorem dX3_sync_40 : decode cX3_sync 40 = .ok (.aload_n 0, 1) := by decide +kernel
theorem dX3_sync_41 : decode cX3_sync 41 = .ok (.iconst 2, 1) := by decide +kernel
theorem dX3_sync_42 : decode cX3_sync 42 = .ok (.invokevirtual 86, 3) := by decide +kernel
theorem dX3_sync_45 : decode cX3_sync 45 = .ok (.ireturn, 1) := by decide +kernel
theorem dX3_sync_46 : decode cX3_sync 46 = .ok (.iload_n 2, 1) := by decide +kernel
theorem dX3_sync_47 : decode cX3_sync 47 = .ok (.ifCond .ne 10, 3) := by decide +kernel
theorem dX3_sync_50 : decode cX3_sync 50 = .ok (.aload_n 0, 1) := by decide +kernel
theorem dX3_sync_51 : decode cX3_sync 51 = .ok (.getfield 42, 3) := by decide +kernel
theorem dX3_sync_54 : decode cX3_sync 54 = .ok (.iload_n 1, 1) := by decide +kernel
theorem dX3_sync_55 : decode cX3_sync 55 = .ok (.iaload, 1) := by decide +kernel
theorem dX3_sync_56 : decode cX3_sync 56 = .ok (.ireturn, 1) := by decide +kernel
theorem dX3_sync_57 : decode cX3_sync 57 = .ok (.iload_n 2, 1) := by decide +kernel
theorem dX3_sync_58 : decode cX3_sync 58 = .ok (.iconst 1, 1) := by decide +kernel
theorem dX3_sync_59 : decode cX3_sync 59 = .ok (.if_icmp .ne 10, 3) := by decide +kernel
theorem dX3_sync_62 : decode cX3_sync 62 = .ok (.aload_n 0, 1) := by decide +kernel
theorem dX3_sync_63 : decode cX3_sync 63 = .ok (.getfield 63, 3) := by decide +kernel
theorem dX3_sync_66 : decode cX3_sync 66 = .ok (.iload_n 1, 1) := by decide +kernel
theorem dX3_sync_67 : decode cX3_sync 67 = .ok (.iaload, 1) := by decide +kernel
theorem dX3_sync_68 : decode cX3_sync 68 = .ok (.ireturn, 1) := by decide +kernel
theorem dX3_sync_69 : decode cX3_sync 69 = .ok (.iload_n 2, 1) := by decide +kernel
theorem dX3_sync_70 : decode cX3_sync 70 = .ok (.bipush 8, 2) := by decide +kernel
theorem dX3_sync_72 : decode cX3_sync 72 = .ok (.if_icmp .ne 10, 3) := by decide +kernel
theorem dX3_sync_75 : decode cX3_sync 75 = .ok (.aload_n 0, 1) := by decide +kernel
theorem dX3_sync_76 : decode cX3_sync 76 = .ok (.getfield 51, 3) := by decide +kernel
theorem dX3_sync_79 : decode cX3_sync 79 = .ok (.iload_n 1, 1) := by decide +kernel
theorem dX3_sync_80 : decode cX3_sync 80 = .ok (.iaload, 1) := by decide +kernel
theorem dX3_sync_81 : decode cX3_sync 81 = .ok (.ireturn, 1) := by decide +kernel
theorem dX3_sync_82 : decode cX3_sync 82 = .ok (.iload_n 2, 1) := by decide +kernel
theorem dX3_sync_83 : decode cX3_sync 83 = .ok (.iconst 2, 1) := by decide +kernel
theorem dX3_sync_84 : decode cX3_sync 84 = .ok (.isub, 1) := by decide +kernel
theorem dX3_sync_85 : decode cX3_sync 85 = .ok (.aload_n 0, 1) := by decide +kernel
theorem dX3_sync_86 : decode cX3_sync 86 = .ok (.getfield 63, 3) := by decide +kernel
theorem dX3_sync_89 : decode cX3_sync 89 = .ok (.iload_n 1, 1) := by decide +kernel
theorem dX3_sync_90 : decode cX3_sync 90 = .ok (.iaload, 1) := by decide +kernel
theorem dX3_sync_91 : decode cX3_sync 91 = .ok (.if_icmp .ge 19, 3) := by decide +kernel
theorem dX3_sync_94 : decode cX3_sync 94 = .ok (.aload_n 0, 1) := by decide +kernel
theorem dX3_sync_95 : decode cX3_sync 95 = .ok (.getfield 60, 3) := by decide +kernel
theorem dX3_sync_98 : decode cX3_sync 98 = .ok (.bipush 6, 2) := by decide +kernel
theorem dX3_sync_100 : decode cX3_sync 100 = .ok (.iload_n 1, 1) := by decide +kernel
theorem dX3_sync_101 : decode cX3_sync 101 = .ok (.imul, 1) := by decide +kernel
theorem dX3_sync_102 : decode cX3_sync 102 = .ok (.iload_n 2, 1) := by decide +kernel
theorem dX3_sync_103 : decode cX3_sync 103 = .ok (.iadd, 1) := by decide +kernel
theorem dX3_sync_104 : decode cX3_sync 104 = .ok (.iconst 2, 1) := by decide +kernel
theorem dX3_sync_105 : decode cX3_sync 105 = .ok (.isub, 1) := by decide +kernel
theorem dX3_sync_106 : decode cX3_sync 106 = .ok (.iaload, 1) := by decide +kernel
theorem dX3_sync_107 : decode cX3_sync 107 = .ok (.goto 4, 3) := by decide +kernel
theorem dX3_sync_110 : decode cX3_sync 110 = .ok (.iconst (-1), 1) := by decide +kernel
theorem dX3_sync_111 : decode cX3_sync 111 = .ok (.ireturn, 1) := by decide +kernel
abbrev cX3_waited : ByteArray := prog_11_method_33_code
def yX3_waited : MethodName := ⟨RX3, "waited", "(I)D"⟩
theorem dX3_waited_0 : decode cX3_waited 0 = .ok (.aload_n 0, 1) := by decide +kernel
theorem dX3_waited_1 : decode cX3_waited 1 = .ok (.iconst 0, 1) := by decide +kernel
theorem dX3_waited_2 : decode cX3_waited 2 = .ok (.putfield 78, 3) := by decide +kernel
theorem dX3_waited_5 : decode cX3_waited 5 = .ok (.aload_n 0, 1) := by decide +kernel
theorem dX3_waited_6 : decode cX3_waited 6 = .ok (.iload_n 1, 1) := by decide +kernel
theorem dX3_waited_7 : decode cX3_waited 7 = .ok (.bipush 8, 2) := by decide +kernel
theorem dX3_waited_9 : decode cX3_waited 9 = .ok (.invokevirtual 82, 3) := by decide +kernel
theorem dX3_waited_12 : decode cX3_waited 12 = .ok (.ifCond .eq 10, 3) := by decide +kernel
theorem dX3_waited_15 : decode cX3_waited 15 = .ok (.aload_n 0, 1) := by decide +kernel
theorem dX3_waited_16 : decode cX3_waited 16 = .ok (.iconst 1, 1) := by decide +kernel
theorem dX3_waited_17 : decode cX3_waited 17 = .ok (.invokevirtual 86, 3) := by decide +kernel
theorem dX3_waited_20 : decode cX3_waited 20 = .ok (.i2d, 1) := by decide +kernel
theorem dX3_waited_21 : decode cX3_waited 21 = .ok (.dreturn, 1) := by decide +kernel
theorem dX3_waited_22 : decode cX3_waited 22 = .ok (.aload_n 0, 1) := by decide +kernel
theorem dX3_waited_23 : decode cX3_waited 23 = .ok (.getfield 42, 3) := by decide +kernel
theorem dX3_waited_26 : decode cX3_waited 26 = .ok (.iload_n 1, 1) := by decide +kernel
theorem dX3_waited_27 : decode cX3_waited 27 = .ok (.iaload, 1) := by decide +kernel
theorem dX3_waited_28 : decode cX3_waited 28 = .ok (.ifCond .ge 10, 3) := by decide +kernel
theorem dX3_waited_31 : decode cX3_waited 31 = .ok (.aload_n 0, 1) := by decide +kernel
theorem dX3_waited_32 : decode cX3_waited 32 = .ok (.iconst 2, 1) := by decide +kernel
theorem dX3_waited_33 : decode cX3_waited 33 = .ok (.invokevirtual 86, 3) := by decide +kernel
theorem dX3_waited_36 : decode cX3_waited 36 = .ok (.i2d, 1) := by decide +kernel
theorem dX3_waited_37 : decode cX3_waited 37 = .ok (.dreturn, 1) := by decide +kernel
theorem dX3_waited_38 : decode cX3_waited 38 = .ok (.aload_n 0, 1) := by decide +kernel
theorem dX3_waited_39 : decode cX3_waited 39 = .ok (.getfield 69, 3) := by decide +kernel
theorem dX3_waited_42 : decode cX3_waited 42 = .ok (.iload_n 1, 1) := by decide +kernel
theorem dX3_waited_43 : decode cX3_waited 43 = .ok (.iaload, 1) := by decide +kernel
theorem dX3_waited_44 : decode cX3_waited 44 = .ok (.ifCond .ne 10, 3) := by decide +kernel
theorem dX3_waited_47 : decode cX3_waited 47 = .ok (.aload_n 0, 1) := by decide +kernel
theorem dX3_waited_48 : decode cX3_waited 48 = .ok (.iconst 3, 1) := by decide +kernel
theorem dX3_waited_49 : decode cX3_waited 49 = .ok (.invokevirtual 86, 3) := by decide +kernel
theorem dX3_waited_52 : decode cX3_waited 52 = .ok (.i2d, 1) := by decide +kernel
theorem dX3_waited_53 : decode cX3_waited 53 = .ok (.dreturn, 1) := by decide +kernel
theorem dX3_waited_54 : decode cX3_waited 54 = .ok (.aload_n 0, 1) := by decide +kernel
theorem dX3_waited_55 : decode cX3_waited 55 = .ok (.getfield 66, 3) := by decide +kernel
theorem dX3_waited_58 : decode cX3_waited 58 = .ok (.iload_n 1, 1) := by decide +kernel
theorem dX3_waited_59 : decode cX3_waited 59 = .ok (.daload, 1) := by decide +kernel
theorem dX3_waited_60 : decode cX3_waited 60 = .ok (.aload_n 0, 1) := by decide +kernel
theorem dX3_waited_61 : decode cX3_waited 61 = .ok (.getfield 69, 3) := by decide +kernel
theorem dX3_waited_64 : decode cX3_waited 64 = .ok (.iload_n 1, 1) := by decide +kernel
theorem dX3_waited_65 : decode cX3_waited 65 = .ok (.iaload, 1) := by decide +kernel
theorem dX3_waited_66 : decode cX3_waited 66 = .ok (.i2d, 1) := by decide +kernel
theorem dX3_waited_67 : decode cX3_waited 67 = .ok (.ddiv, 1) := by decide +kernel
theorem dX3_waited_68 : decode cX3_waited 68 = .ok (.dreturn, 1) := by decide +kernel
abbrev cX3_time : ByteArray := prog_11_method_34_code
def yX3_time : MethodName := ⟨RX3, "time", "()D"⟩
theorem dX3_time_0 : decode cX3_time 0 = .ok (.aload_n 0, 1) := by decide +kernel
theorem dX3_time_1 : decode cX3_time 1 = .ok (.iconst 0, 1) := by decide +kernel
theorem dX3_time_2 : decode cX3_time 2 = .ok (.putfield 78, 3) := by decide +kernel
theorem dX3_time_5 : decode cX3_time 5 = .ok (.aload_n 0, 1) := by decide +kernel
theorem dX3_time_6 : decode cX3_time 6 = .ok (.getfield 94, 3) := by decide +kernel
theorem dX3_time_9 : decode cX3_time 9 = .ok (.dreturn, 1) := by decide +kernel
theorem q38 : (Jvm.Cond.initialized "SyncHallModel") ∈ lw_all := lw_g (lw_at lw_m1 3 rfl) rfl
theorem q880 : (Jvm.Cond.instantiable "SyncHallModel" (26 : Nat)) ∈ lw_all := lw_g (lw_at lw_m4 125 rfl) rfl
theorem q882 : (Jvm.Cond.instanceMethod ({ cls := "SyncHallModel", name := "<init>", desc := "()V" } : Jvm.MethodName)) ∈ lw_all := lw_g (lw_at lw_m4 127 rfl) rfl
theorem q883 : (Jvm.Cond.code ({ cls := "SyncHallModel", name := "<init>", desc := "()V" } : Jvm.MethodName) prog_11_method_1_code (2 : Nat) (Option.none : Option Jvm.ClassFile.FieldType)) ∈ lw_all := lw_g (lw_at lw_m4 128 rfl) rfl
theorem q884 : (Jvm.Cond.methodLink "SyncHallModel" (1 : Nat) ({ cls := "java/lang/Object", name := "<init>", desc := "()V" } : Jvm.MethodName)) ∈ lw_all := lw_g (lw_at lw_m4 129 rfl) rfl
theorem q885 : (Jvm.Cond.fieldLink "SyncHallModel" (78 : Nat) "SyncHallModel" "failed" "I") ∈ lw_all := lw_g (lw_at lw_m4 130 rfl) rfl
theorem q886 : (Jvm.Cond.fieldLink "SyncHallModel" (7 : Nat) "SyncHallModel" "blocked" "[Z") ∈ lw_all := lw_g (lw_at lw_m4 131 rfl) rfl
theorem q887 : (Jvm.Cond.fieldLink "SyncHallModel" (13 : Nat) "SyncHallModel" "flag" "[Z") ∈ lw_all := lw_g (lw_at lw_m4 132 rfl) rfl
theorem q888 : (Jvm.Cond.fieldLink "SyncHallModel" (16 : Nat) "SyncHallModel" "priority" "[D") ∈ lw_all := lw_g (lw_at lw_m4 133 rfl) rfl
theorem q889 : (Jvm.Cond.fieldLink "SyncHallModel" (20 : Nat) "SyncHallModel" "outcome" "[I") ∈ lw_all := lw_g (lw_at lw_m4 134 rfl) rfl
theorem q890 : (Jvm.Cond.fieldLink "SyncHallModel" (24 : Nat) "SyncHallModel" "waitsFor" "[I") ∈ lw_all := lw_g (lw_at lw_m4 135 rfl) rfl
theorem q891 : (Jvm.Cond.fieldLink "SyncHallModel" (27 : Nat) "SyncHallModel" "mode" "[I") ∈ lw_all := lw_g (lw_at lw_m4 136 rfl) rfl
theorem q892 : (Jvm.Cond.fieldLink "SyncHallModel" (30 : Nat) "SyncHallModel" "end" "[D") ∈ lw_all := lw_g (lw_at lw_m4 137 rfl) rfl
theorem q893 : (Jvm.Cond.fieldLink "SyncHallModel" (33 : Nat) "SyncHallModel" "since" "[D") ∈ lw_all := lw_g (lw_at lw_m4 138 rfl) rfl
theorem q894 : (Jvm.Cond.fieldLink "SyncHallModel" (36 : Nat) "SyncHallModel" "back" "[I") ∈ lw_all := lw_g (lw_at lw_m4 139 rfl) rfl
theorem q895 : (Jvm.Cond.fieldLink "SyncHallModel" (39 : Nat) "SyncHallModel" "after" "[I") ∈ lw_all := lw_g (lw_at lw_m4 140 rfl) rfl
theorem q896 : (Jvm.Cond.fieldLink "SyncHallModel" (94 : Nat) "SyncHallModel" "time" "D") ∈ lw_all := lw_g (lw_at lw_m4 141 rfl) rfl
theorem q897 : (Jvm.Cond.fieldLink "SyncHallModel" (42 : Nat) "SyncHallModel" "kind" "[I") ∈ lw_all := lw_g (lw_at lw_m4 142 rfl) rfl
theorem q898 : (Jvm.Cond.fieldLink "SyncHallModel" (45 : Nat) "SyncHallModel" "owner" "[I") ∈ lw_all := lw_g (lw_at lw_m4 143 rfl) rfl
theorem q899 : (Jvm.Cond.fieldLink "SyncHallModel" (48 : Nat) "SyncHallModel" "depth" "[I") ∈ lw_all := lw_g (lw_at lw_m4 144 rfl) rfl
theorem q900 : (Jvm.Cond.fieldLink "SyncHallModel" (51 : Nat) "SyncHallModel" "permits" "[I") ∈ lw_all := lw_g (lw_at lw_m4 145 rfl) rfl
theorem q901 : (Jvm.Cond.fieldLink "SyncHallModel" (54 : Nat) "SyncHallModel" "lock" "[I") ∈ lw_all := lw_g (lw_at lw_m4 146 rfl) rfl
theorem q902 : (Jvm.Cond.fieldLink "SyncHallModel" (57 : Nat) "SyncHallModel" "reads" "[I") ∈ lw_all := lw_g (lw_at lw_m4 147 rfl) rfl
theorem q903 : (Jvm.Cond.fieldLink "SyncHallModel" (60 : Nat) "SyncHallModel" "row" "[I") ∈ lw_all := lw_g (lw_at lw_m4 148 rfl) rfl
theorem q904 : (Jvm.Cond.fieldLink "SyncHallModel" (63 : Nat) "SyncHallModel" "waiters" "[I") ∈ lw_all := lw_g (lw_at lw_m4 149 rfl) rfl
theorem q905 : (Jvm.Cond.fieldLink "SyncHallModel" (66 : Nat) "SyncHallModel" "waitedSum" "[D") ∈ lw_all := lw_g (lw_at lw_m4 150 rfl) rfl
theorem q906 : (Jvm.Cond.fieldLink "SyncHallModel" (69 : Nat) "SyncHallModel" "waitedCount" "[I") ∈ lw_all := lw_g (lw_at lw_m4 151 rfl) rfl
theorem q907 : (Jvm.Cond.fieldLink "SyncHallModel" (72 : Nat) "SyncHallModel" "before" "[Z") ∈ lw_all := lw_g (lw_at lw_m4 152 rfl) rfl
theorem q908 : (Jvm.Cond.fieldLink "SyncHallModel" (75 : Nat) "SyncHallModel" "reached" "[Z") ∈ lw_all := lw_g (lw_at lw_m4 153 rfl) rfl
theorem q909 : (Jvm.Cond.fieldLink "SyncHallModel" (125 : Nat) "SyncHallModel" "policy" "I") ∈ lw_all := lw_g (lw_at lw_m4 154 rfl) rfl
theorem q910 : (Jvm.Cond.fieldLink "SyncHallModel" (135 : Nat) "SyncHallModel" "warnings" "I") ∈ lw_all := lw_g (lw_at lw_m4 155 rfl) rfl
theorem q911 : (Jvm.Cond.lays "SyncHallModel" "SyncHallModel" "failed" "I") ∈ lw_all := lw_g (lw_at lw_m4 156 rfl) rfl
theorem q912 : (Jvm.Cond.soleField "SyncHallModel" "failed") ∈ lw_all := lw_g (lw_at lw_m4 157 rfl) rfl
theorem q913 : (Jvm.Cond.laysFinal "SyncHallModel" "SyncHallModel" "blocked" "[Z") ∈ lw_all := lw_g (lw_at lw_m4 158 rfl) rfl
theorem q914 : (Jvm.Cond.soleField "SyncHallModel" "blocked") ∈ lw_all := lw_g (lw_at lw_m4 159 rfl) rfl
theorem q915 : (Jvm.Cond.laysFinal "SyncHallModel" "SyncHallModel" "flag" "[Z") ∈ lw_all := lw_g (lw_at lw_m4 160 rfl) rfl
theorem q916 : (Jvm.Cond.soleField "SyncHallModel" "flag") ∈ lw_all := lw_g (lw_at lw_m4 161 rfl) rfl
theorem q917 : (Jvm.Cond.laysFinal "SyncHallModel" "SyncHallModel" "priority" "[D") ∈ lw_all := lw_g (lw_at lw_m4 162 rfl) rfl
theorem q918 : (Jvm.Cond.soleField "SyncHallModel" "priority") ∈ lw_all := lw_g (lw_at lw_m4 163 rfl) rfl
theorem q919 : (Jvm.Cond.laysFinal "SyncHallModel" "SyncHallModel" "outcome" "[I") ∈ lw_all := lw_g (lw_at lw_m4 164 rfl) rfl
theorem q920 : (Jvm.Cond.soleField "SyncHallModel" "outcome") ∈ lw_all := lw_g (lw_at lw_m4 165 rfl) rfl
theorem q921 : (Jvm.Cond.laysFinal "SyncHallModel" "SyncHallModel" "waitsFor" "[I") ∈ lw_all := lw_g (lw_at lw_m4 166 rfl) rfl
theorem q922 : (Jvm.Cond.soleField "SyncHallModel" "waitsFor") ∈ lw_all := lw_g (lw_at lw_m4 167 rfl) rfl
theorem q923 : (Jvm.Cond.laysFinal "SyncHallModel" "SyncHallModel" "mode" "[I") ∈ lw_all := lw_g (lw_at lw_m4 168 rfl) rfl
theorem q924 : (Jvm.Cond.soleField "SyncHallModel" "mode") ∈ lw_all := lw_g (lw_at lw_m4 169 rfl) rfl
theorem q925 : (Jvm.Cond.laysFinal "SyncHallModel" "SyncHallModel" "end" "[D") ∈ lw_all := lw_g (lw_at lw_m4 170 rfl) rfl
theorem q926 : (Jvm.Cond.soleField "SyncHallModel" "end") ∈ lw_all := lw_g (lw_at lw_m4 171 rfl) rfl
theorem q927 : (Jvm.Cond.laysFinal "SyncHallModel" "SyncHallModel" "since" "[D") ∈ lw_all := lw_g (lw_at lw_m4 172 rfl) rfl
theorem q928 : (Jvm.Cond.soleField "SyncHallModel" "since") ∈ lw_all := lw_g (lw_at lw_m4 173 rfl) rfl
theorem q929 : (Jvm.Cond.laysFinal "SyncHallModel" "SyncHallModel" "back" "[I") ∈ lw_all := lw_g (lw_at lw_m4 174 rfl) rfl
theorem q930 : (Jvm.Cond.soleField "SyncHallModel" "back") ∈ lw_all := lw_g (lw_at lw_m4 175 rfl) rfl
theorem q931 : (Jvm.Cond.laysFinal "SyncHallModel" "SyncHallModel" "after" "[I") ∈ lw_all := lw_g (lw_at lw_m4 176 rfl) rfl
theorem q932 : (Jvm.Cond.soleField "SyncHallModel" "after") ∈ lw_all := lw_g (lw_at lw_m4 177 rfl) rfl
theorem q933 : (Jvm.Cond.lays "SyncHallModel" "SyncHallModel" "time" "D") ∈ lw_all := lw_g (lw_at lw_m4 178 rfl) rfl
theorem q934 : (Jvm.Cond.soleField "SyncHallModel" "time") ∈ lw_all := lw_g (lw_at lw_m4 179 rfl) rfl
theorem q935 : (Jvm.Cond.laysFinal "SyncHallModel" "SyncHallModel" "kind" "[I") ∈ lw_all := lw_g (lw_at lw_m4 180 rfl) rfl
theorem q936 : (Jvm.Cond.soleField "SyncHallModel" "kind") ∈ lw_all := lw_g (lw_at lw_m4 181 rfl) rfl
theorem q937 : (Jvm.Cond.laysFinal "SyncHallModel" "SyncHallModel" "owner" "[I") ∈ lw_all := lw_g (lw_at lw_m4 182 rfl) rfl
theorem q938 : (Jvm.Cond.soleField "SyncHallModel" "owner") ∈ lw_all := lw_g (lw_at lw_m4 183 rfl) rfl
theorem q939 : (Jvm.Cond.laysFinal "SyncHallModel" "SyncHallModel" "depth" "[I") ∈ lw_all := lw_g (lw_at lw_m4 184 rfl) rfl
theorem q940 : (Jvm.Cond.soleField "SyncHallModel" "depth") ∈ lw_all := lw_g (lw_at lw_m4 185 rfl) rfl
theorem q941 : (Jvm.Cond.laysFinal "SyncHallModel" "SyncHallModel" "permits" "[I") ∈ lw_all := lw_g (lw_at lw_m4 186 rfl) rfl
theorem q942 : (Jvm.Cond.soleField "SyncHallModel" "permits") ∈ lw_all := lw_g (lw_at lw_m4 187 rfl) rfl
theorem q943 : (Jvm.Cond.laysFinal "SyncHallModel" "SyncHallModel" "lock" "[I") ∈ lw_all := lw_g (lw_at lw_m4 188 rfl) rfl
theorem q944 : (Jvm.Cond.soleField "SyncHallModel" "lock") ∈ lw_all := lw_g (lw_at lw_m4 189 rfl) rfl
theorem q945 : (Jvm.Cond.laysFinal "SyncHallModel" "SyncHallModel" "reads" "[I") ∈ lw_all := lw_g (lw_at lw_m4 190 rfl) rfl
theorem q946 : (Jvm.Cond.soleField "SyncHallModel" "reads") ∈ lw_all := lw_g (lw_at lw_m4 191 rfl) rfl
theorem q947 : (Jvm.Cond.laysFinal "SyncHallModel" "SyncHallModel" "row" "[I") ∈ lw_all := lw_g (lw_at lw_m4 192 rfl) rfl
theorem q948 : (Jvm.Cond.soleField "SyncHallModel" "row") ∈ lw_all := lw_g (lw_at lw_m4 193 rfl) rfl
theorem q949 : (Jvm.Cond.laysFinal "SyncHallModel" "SyncHallModel" "waiters" "[I") ∈ lw_all := lw_g (lw_at lw_m4 194 rfl) rfl
theorem q950 : (Jvm.Cond.soleField "SyncHallModel" "waiters") ∈ lw_all := lw_g (lw_at lw_m4 195 rfl) rfl
theorem q951 : (Jvm.Cond.laysFinal "SyncHallModel" "SyncHallModel" "waitedSum" "[D") ∈ lw_all := lw_g (lw_at lw_m4 196 rfl) rfl
theorem q952 : (Jvm.Cond.soleField "SyncHallModel" "waitedSum") ∈ lw_all := lw_g (lw_at lw_m4 197 rfl) rfl
theorem q953 : (Jvm.Cond.laysFinal "SyncHallModel" "SyncHallModel" "waitedCount" "[I") ∈ lw_all := lw_g (lw_at lw_m4 198 rfl) rfl
theorem q954 : (Jvm.Cond.soleField "SyncHallModel" "waitedCount") ∈ lw_all := lw_g (lw_at lw_m4 199 rfl) rfl
theorem q955 : (Jvm.Cond.laysFinal "SyncHallModel" "SyncHallModel" "before" "[Z") ∈ lw_all := lw_g (lw_at lw_m4 200 rfl) rfl
theorem q956 : (Jvm.Cond.soleField "SyncHallModel" "before") ∈ lw_all := lw_g (lw_at lw_m4 201 rfl) rfl
theorem q957 : (Jvm.Cond.laysFinal "SyncHallModel" "SyncHallModel" "reached" "[Z") ∈ lw_all := lw_g (lw_at lw_m4 202 rfl) rfl
theorem q958 : (Jvm.Cond.soleField "SyncHallModel" "reached") ∈ lw_all := lw_g (lw_at lw_m4 203 rfl) rfl
theorem q959 : (Jvm.Cond.lays "SyncHallModel" "SyncHallModel" "policy" "I") ∈ lw_all := lw_g (lw_at lw_m4 204 rfl) rfl
theorem q960 : (Jvm.Cond.soleField "SyncHallModel" "policy") ∈ lw_all := lw_g (lw_at lw_m4 205 rfl) rfl
theorem q961 : (Jvm.Cond.lays "SyncHallModel" "SyncHallModel" "warnings" "I") ∈ lw_all := lw_g (lw_at lw_m4 206 rfl) rfl
theorem q962 : (Jvm.Cond.soleField "SyncHallModel" "warnings") ∈ lw_all := lw_g (lw_at lw_m4 207 rfl) rfl
theorem q963 : (Jvm.Cond.superclass "SyncHallModel" "java/lang/Object") ∈ lw_all := lw_g (lw_at lw_m4 208 rfl) rfl
theorem q966 : (Jvm.Cond.instanceMethod ({ cls := "SyncHallModel", name := "thrown", desc := "()I" } : Jvm.MethodName)) ∈ lw_all := lw_g (lw_at lw_m4 211 rfl) rfl
theorem q967 : (Jvm.Cond.selects "SyncHallModel" ({ cls := "SyncHallModel", name := "thrown", desc := "()I" } : Jvm.MethodName) ({ cls := "SyncHallModel", name := "thrown", desc := "()I" } : Jvm.MethodName)) ∈ lw_all := lw_g (lw_at lw_m4 212 rfl) rfl
theorem q968 : (Jvm.Cond.code ({ cls := "SyncHallModel", name := "thrown", desc := "()I" } : Jvm.MethodName) prog_11_method_2_code (1 : Nat) (Option.some Jvm.ClassFile.FieldType.int)) ∈ lw_all := lw_g (lw_at lw_m4 213 rfl) rfl
theorem q970 : (Jvm.Cond.instanceMethod ({ cls := "SyncHallModel", name := "make", desc := "(III)I" } : Jvm.MethodName)) ∈ lw_all := lw_g (lw_at lw_m4 215 rfl) rfl
theorem q971 : (Jvm.Cond.selects "SyncHallModel" ({ cls := "SyncHallModel", name := "make", desc := "(III)I" } : Jvm.MethodName) ({ cls := "SyncHallModel", name := "make", desc := "(III)I" } : Jvm.MethodName)) ∈ lw_all := lw_g (lw_at lw_m4 216 rfl) rfl
theorem q972 : (Jvm.Cond.code ({ cls := "SyncHallModel", name := "make", desc := "(III)I" } : Jvm.MethodName) prog_11_method_5_code (7 : Nat) (Option.some Jvm.ClassFile.FieldType.int)) ∈ lw_all := lw_g (lw_at lw_m4 217 rfl) rfl
theorem q973 : (Jvm.Cond.methodLink "SyncHallModel" (82 : Nat) ({ cls := "SyncHallModel", name := "out", desc := "(II)Z" } : Jvm.MethodName)) ∈ lw_all := lw_g (lw_at lw_m4 218 rfl) rfl
theorem q974 : (Jvm.Cond.privateMethod ({ cls := "SyncHallModel", name := "out", desc := "(II)Z" } : Jvm.MethodName)) ∈ lw_tbl := lw_at lw_m4 219 rfl
theorem q975 : (Jvm.Cond.instanceMethod ({ cls := "SyncHallModel", name := "out", desc := "(II)Z" } : Jvm.MethodName)) ∈ lw_all := lw_g (lw_at lw_m4 220 rfl) rfl
theorem q976 : (Jvm.Cond.code ({ cls := "SyncHallModel", name := "out", desc := "(II)Z" } : Jvm.MethodName) prog_11_method_4_code (3 : Nat) (Option.some Jvm.ClassFile.FieldType.boolean)) ∈ lw_all := lw_g (lw_at lw_m4 221 rfl) rfl
theorem q977 : (Jvm.Cond.methodLink "SyncHallModel" (86 : Nat) ({ cls := "SyncHallModel", name := "fail", desc := "(I)I" } : Jvm.MethodName)) ∈ lw_all := lw_g (lw_at lw_m4 222 rfl) rfl
theorem q978 : (Jvm.Cond.privateMethod ({ cls := "SyncHallModel", name := "fail", desc := "(I)I" } : Jvm.MethodName)) ∈ lw_tbl := lw_at lw_m4 223 rfl
theorem q979 : (Jvm.Cond.instanceMethod ({ cls := "SyncHallModel", name := "fail", desc := "(I)I" } : Jvm.MethodName)) ∈ lw_all := lw_g (lw_at lw_m4 224 rfl) rfl
theorem q980 : (Jvm.Cond.code ({ cls := "SyncHallModel", name := "fail", desc := "(I)I" } : Jvm.MethodName) prog_11_method_3_code (2 : Nat) (Option.some Jvm.ClassFile.FieldType.int)) ∈ lw_all := lw_g (lw_at lw_m4 225 rfl) rfl
theorem q982 : (Jvm.Cond.instanceMethod ({ cls := "SyncHallModel", name := "rank", desc := "(ID)V" } : Jvm.MethodName)) ∈ lw_all := lw_g (lw_at lw_m4 227 rfl) rfl
theorem q983 : (Jvm.Cond.selects "SyncHallModel" ({ cls := "SyncHallModel", name := "rank", desc := "(ID)V" } : Jvm.MethodName) ({ cls := "SyncHallModel", name := "rank", desc := "(ID)V" } : Jvm.MethodName)) ∈ lw_all := lw_g (lw_at lw_m4 228 rfl) rfl
theorem q984 : (Jvm.Cond.code ({ cls := "SyncHallModel", name := "rank", desc := "(ID)V" } : Jvm.MethodName) prog_11_method_6_code (4 : Nat) (Option.none : Option Jvm.ClassFile.FieldType)) ∈ lw_all := lw_g (lw_at lw_m4 229 rfl) rfl
theorem q985 : (Jvm.Cond.constantDouble "SyncHallModel" (90 : Nat) (13875379345695965184 : UInt64)) ∈ lw_all := lw_g (lw_at lw_m4 230 rfl) rfl
theorem q986 : (Jvm.Cond.constantDouble "SyncHallModel" (92 : Nat) (4652007308841189376 : UInt64)) ∈ lw_all := lw_g (lw_at lw_m4 231 rfl) rfl
theorem q988 : (Jvm.Cond.instanceMethod ({ cls := "SyncHallModel", name := "acquire", desc := "(IIID)I" } : Jvm.MethodName)) ∈ lw_all := lw_g (lw_at lw_m4 233 rfl) rfl
theorem q989 : (Jvm.Cond.selects "SyncHallModel" ({ cls := "SyncHallModel", name := "acquire", desc := "(IIID)I" } : Jvm.MethodName) ({ cls := "SyncHallModel", name := "acquire", desc := "(IIID)I" } : Jvm.MethodName)) ∈ lw_all := lw_g (lw_at lw_m4 234 rfl) rfl
theorem q990 : (Jvm.Cond.code ({ cls := "SyncHallModel", name := "acquire", desc := "(IIID)I" } : Jvm.MethodName) prog_11_method_22_code (6 : Nat) (Option.some Jvm.ClassFile.FieldType.int)) ∈ lw_all := lw_g (lw_at lw_m4 235 rfl) rfl
theorem q991 : (Jvm.Cond.methodLink "SyncHallModel" (138 : Nat) ({ cls := "SyncHallModel", name := "badLimit", desc := "(D)Z" } : Jvm.MethodName)) ∈ lw_all := lw_g (lw_at lw_m4 236 rfl) rfl
theorem q992 : (Jvm.Cond.privateMethod ({ cls := "SyncHallModel", name := "badLimit", desc := "(D)Z" } : Jvm.MethodName)) ∈ lw_tbl := lw_at lw_m4 237 rfl
theorem q993 : (Jvm.Cond.instanceMethod ({ cls := "SyncHallModel", name := "badLimit", desc := "(D)Z" } : Jvm.MethodName)) ∈ lw_all := lw_g (lw_at lw_m4 238 rfl) rfl
theorem q994 : (Jvm.Cond.code ({ cls := "SyncHallModel", name := "badLimit", desc := "(D)Z" } : Jvm.MethodName) prog_11_method_19_code (3 : Nat) (Option.some Jvm.ClassFile.FieldType.boolean)) ∈ lw_all := lw_g (lw_at lw_m4 239 rfl) rfl
theorem q995 : (Jvm.Cond.constantDouble "SyncHallModel" (116 : Nat) (13830554455654793216 : UInt64)) ∈ lw_all := lw_g (lw_at lw_m5 0 rfl) rfl
theorem q996 : (Jvm.Cond.methodLink "SyncHallModel" (142 : Nat) ({ cls := "SyncHallModel", name := "check", desc := "(II)I" } : Jvm.MethodName)) ∈ lw_all := lw_g (lw_at lw_m5 1 rfl) rfl
theorem q997 : (Jvm.Cond.privateMethod ({ cls := "SyncHallModel", name := "check", desc := "(II)I" } : Jvm.MethodName)) ∈ lw_tbl := lw_at lw_m5 2 rfl
theorem q998 : (Jvm.Cond.instanceMethod ({ cls := "SyncHallModel", name := "check", desc := "(II)I" } : Jvm.MethodName)) ∈ lw_all := lw_g (lw_at lw_m5 3 rfl) rfl
theorem q999 : (Jvm.Cond.code ({ cls := "SyncHallModel", name := "check", desc := "(II)I" } : Jvm.MethodName) prog_11_method_20_code (3 : Nat) (Option.some Jvm.ClassFile.FieldType.int)) ∈ lw_all := lw_g (lw_at lw_m5 4 rfl) rfl
theorem q1000 : (Jvm.Cond.methodLink "SyncHallModel" (146 : Nat) ({ cls := "SyncHallModel", name := "settle", desc := "(II)I" } : Jvm.MethodName)) ∈ lw_all := lw_g (lw_at lw_m5 5 rfl) rfl
theorem q1001 : (Jvm.Cond.privateMethod ({ cls := "SyncHallModel", name := "settle", desc := "(II)I" } : Jvm.MethodName)) ∈ lw_tbl := lw_at lw_m5 6 rfl
theorem q1002 : (Jvm.Cond.instanceMethod ({ cls := "SyncHallModel", name := "settle", desc := "(II)I" } : Jvm.MethodName)) ∈ lw_all := lw_g (lw_at lw_m5 7 rfl) rfl
theorem q1003 : (Jvm.Cond.code ({ cls := "SyncHallModel", name := "settle", desc := "(II)I" } : Jvm.MethodName) prog_11_method_21_code (3 : Nat) (Option.some Jvm.ClassFile.FieldType.int)) ∈ lw_all := lw_g (lw_at lw_m5 8 rfl) rfl
theorem q1004 : (Jvm.Cond.methodLink "SyncHallModel" (149 : Nat) ({ cls := "SyncHallModel", name := "ordered", desc := "(II)Z" } : Jvm.MethodName)) ∈ lw_all := lw_g (lw_at lw_m5 9 rfl) rfl
theorem q1005 : (Jvm.Cond.privateMethod ({ cls := "SyncHallModel", name := "ordered", desc := "(II)Z" } : Jvm.MethodName)) ∈ lw_tbl := lw_at lw_m5 10 rfl
theorem q1006 : (Jvm.Cond.instanceMethod ({ cls := "SyncHallModel", name := "ordered", desc := "(II)Z" } : Jvm.MethodName)) ∈ lw_all := lw_g (lw_at lw_m5 11 rfl) rfl
theorem q1007 : (Jvm.Cond.code ({ cls := "SyncHallModel", name := "ordered", desc := "(II)Z" } : Jvm.MethodName) prog_11_method_18_code (5 : Nat) (Option.some Jvm.ClassFile.FieldType.boolean)) ∈ lw_all := lw_g (lw_at lw_m5 12 rfl) rfl
theorem q1008 : (Jvm.Cond.methodLink "SyncHallModel" (128 : Nat) ({ cls := "SyncHallModel", name := "isLock", desc := "(I)Z" } : Jvm.MethodName)) ∈ lw_all := lw_g (lw_at lw_m5 13 rfl) rfl
theorem q1009 : (Jvm.Cond.privateMethod ({ cls := "SyncHallModel", name := "isLock", desc := "(I)Z" } : Jvm.MethodName)) ∈ lw_tbl := lw_at lw_m5 14 rfl
theorem q1010 : (Jvm.Cond.instanceMethod ({ cls := "SyncHallModel", name := "isLock", desc := "(I)Z" } : Jvm.MethodName)) ∈ lw_all := lw_g (lw_at lw_m5 15 rfl) rfl
theorem q1011 : (Jvm.Cond.code ({ cls := "SyncHallModel", name := "isLock", desc := "(I)Z" } : Jvm.MethodName) prog_11_method_7_code (2 : Nat) (Option.some Jvm.ClassFile.FieldType.boolean)) ∈ lw_all := lw_g (lw_at lw_m5 16 rfl) rfl
theorem q1012 : (Jvm.Cond.methodLink "SyncHallModel" (132 : Nat) ({ cls := "SyncHallModel", name := "leads", desc := "(II)Z" } : Jvm.MethodName)) ∈ lw_all := lw_g (lw_at lw_m5 17 rfl) rfl
theorem q1013 : (Jvm.Cond.privateMethod ({ cls := "SyncHallModel", name := "leads", desc := "(II)Z" } : Jvm.MethodName)) ∈ lw_tbl := lw_at lw_m5 18 rfl
theorem q1014 : (Jvm.Cond.instanceMethod ({ cls := "SyncHallModel", name := "leads", desc := "(II)Z" } : Jvm.MethodName)) ∈ lw_all := lw_g (lw_at lw_m5 19 rfl) rfl
theorem q1015 : (Jvm.Cond.code ({ cls := "SyncHallModel", name := "leads", desc := "(II)Z" } : Jvm.MethodName) prog_11_method_17_code (6 : Nat) (Option.some Jvm.ClassFile.FieldType.boolean)) ∈ lw_all := lw_g (lw_at lw_m5 20 rfl) rfl
theorem q1016 : (Jvm.Cond.methodLink "SyncHallModel" (152 : Nat) ({ cls := "SyncHallModel", name := "mustQueue", desc := "(III)Z" } : Jvm.MethodName)) ∈ lw_all := lw_g (lw_at lw_m5 21 rfl) rfl
theorem q1017 : (Jvm.Cond.privateMethod ({ cls := "SyncHallModel", name := "mustQueue", desc := "(III)Z" } : Jvm.MethodName)) ∈ lw_tbl := lw_at lw_m5 22 rfl
theorem q1018 : (Jvm.Cond.instanceMethod ({ cls := "SyncHallModel", name := "mustQueue", desc := "(III)Z" } : Jvm.MethodName)) ∈ lw_all := lw_g (lw_at lw_m5 23 rfl) rfl
theorem q1019 : (Jvm.Cond.code ({ cls := "SyncHallModel", name := "mustQueue", desc := "(III)Z" } : Jvm.MethodName) prog_11_method_10_code (6 : Nat) (Option.some Jvm.ClassFile.FieldType.boolean)) ∈ lw_all := lw_g (lw_at lw_m5 24 rfl) rfl
theorem q1020 : (Jvm.Cond.methodLink "SyncHallModel" (101 : Nat) ({ cls := "SyncHallModel", name := "canTake", desc := "(III)Z" } : Jvm.MethodName)) ∈ lw_all := lw_g (lw_at lw_m5 25 rfl) rfl
theorem q1021 : (Jvm.Cond.privateMethod ({ cls := "SyncHallModel", name := "canTake", desc := "(III)Z" } : Jvm.MethodName)) ∈ lw_tbl := lw_at lw_m5 26 rfl
theorem q1022 : (Jvm.Cond.instanceMethod ({ cls := "SyncHallModel", name := "canTake", desc := "(III)Z" } : Jvm.MethodName)) ∈ lw_all := lw_g (lw_at lw_m5 27 rfl) rfl
theorem q1023 : (Jvm.Cond.code ({ cls := "SyncHallModel", name := "canTake", desc := "(III)Z" } : Jvm.MethodName) prog_11_method_8_code (6 : Nat) (Option.some Jvm.ClassFile.FieldType.boolean)) ∈ lw_all := lw_g (lw_at lw_m5 28 rfl) rfl
theorem q1024 : (Jvm.Cond.methodLink "SyncHallModel" (112 : Nat) ({ cls := "SyncHallModel", name := "take", desc := "(III)V" } : Jvm.MethodName)) ∈ lw_all := lw_g (lw_at lw_m5 29 rfl) rfl
theorem q1025 : (Jvm.Cond.privateMethod ({ cls := "SyncHallModel", name := "take", desc := "(III)V" } : Jvm.MethodName)) ∈ lw_tbl := lw_at lw_m5 30 rfl
theorem q1026 : (Jvm.Cond.instanceMethod ({ cls := "SyncHallModel", name := "take", desc := "(III)V" } : Jvm.MethodName)) ∈ lw_all := lw_g (lw_at lw_m5 31 rfl) rfl
theorem q1027 : (Jvm.Cond.code ({ cls := "SyncHallModel", name := "take", desc := "(III)V" } : Jvm.MethodName) prog_11_method_9_code (5 : Nat) (Option.none : Option Jvm.ClassFile.FieldType)) ∈ lw_all := lw_g (lw_at lw_m5 32 rfl) rfl
theorem q1028 : (Jvm.Cond.methodLink "SyncHallModel" (118 : Nat) ({ cls := "SyncHallModel", name := "enter", desc := "(II)V" } : Jvm.MethodName)) ∈ lw_all := lw_g (lw_at lw_m5 33 rfl) rfl
theorem q1029 : (Jvm.Cond.privateMethod ({ cls := "SyncHallModel", name := "enter", desc := "(II)V" } : Jvm.MethodName)) ∈ lw_tbl := lw_at lw_m5 34 rfl
theorem q1030 : (Jvm.Cond.instanceMethod ({ cls := "SyncHallModel", name := "enter", desc := "(II)V" } : Jvm.MethodName)) ∈ lw_all := lw_g (lw_at lw_m5 35 rfl) rfl
theorem q1031 : (Jvm.Cond.code ({ cls := "SyncHallModel", name := "enter", desc := "(II)V" } : Jvm.MethodName) prog_11_method_11_code (3 : Nat) (Option.none : Option Jvm.ClassFile.FieldType)) ∈ lw_all := lw_g (lw_at lw_m5 36 rfl) rfl
theorem q1033 : (Jvm.Cond.instanceMethod ({ cls := "SyncHallModel", name := "release", desc := "(III)I" } : Jvm.MethodName)) ∈ lw_all := lw_g (lw_at lw_m5 38 rfl) rfl
theorem q1034 : (Jvm.Cond.selects "SyncHallModel" ({ cls := "SyncHallModel", name := "release", desc := "(III)I" } : Jvm.MethodName) ({ cls := "SyncHallModel", name := "release", desc := "(III)I" } : Jvm.MethodName)) ∈ lw_all := lw_g (lw_at lw_m5 39 rfl) rfl
theorem q1035 : (Jvm.Cond.code ({ cls := "SyncHallModel", name := "release", desc := "(III)I" } : Jvm.MethodName) prog_11_method_23_code (7 : Nat) (Option.some Jvm.ClassFile.FieldType.int)) ∈ lw_all := lw_g (lw_at lw_m5 40 rfl) rfl
theorem q1036 : (Jvm.Cond.methodLink "SyncHallModel" (121 : Nat) ({ cls := "SyncHallModel", name := "serve", desc := "(I)V" } : Jvm.MethodName)) ∈ lw_all := lw_g (lw_at lw_m5 41 rfl) rfl
theorem q1037 : (Jvm.Cond.privateMethod ({ cls := "SyncHallModel", name := "serve", desc := "(I)V" } : Jvm.MethodName)) ∈ lw_tbl := lw_at lw_m5 42 rfl
theorem q1038 : (Jvm.Cond.instanceMethod ({ cls := "SyncHallModel", name := "serve", desc := "(I)V" } : Jvm.MethodName)) ∈ lw_all := lw_g (lw_at lw_m5 43 rfl) rfl
theorem q1039 : (Jvm.Cond.code ({ cls := "SyncHallModel", name := "serve", desc := "(I)V" } : Jvm.MethodName) prog_11_method_15_code (3 : Nat) (Option.none : Option Jvm.ClassFile.FieldType)) ∈ lw_all := lw_g (lw_at lw_m5 44 rfl) rfl
theorem q1040 : (Jvm.Cond.methodLink "SyncHallModel" (98 : Nat) ({ cls := "SyncHallModel", name := "next", desc := "(I)I" } : Jvm.MethodName)) ∈ lw_all := lw_g (lw_at lw_m5 45 rfl) rfl
theorem q1041 : (Jvm.Cond.privateMethod ({ cls := "SyncHallModel", name := "next", desc := "(I)I" } : Jvm.MethodName)) ∈ lw_tbl := lw_at lw_m5 46 rfl
theorem q1042 : (Jvm.Cond.instanceMethod ({ cls := "SyncHallModel", name := "next", desc := "(I)I" } : Jvm.MethodName)) ∈ lw_all := lw_g (lw_at lw_m5 47 rfl) rfl
theorem q1043 : (Jvm.Cond.code ({ cls := "SyncHallModel", name := "next", desc := "(I)I" } : Jvm.MethodName) prog_11_method_13_code (5 : Nat) (Option.some Jvm.ClassFile.FieldType.int)) ∈ lw_all := lw_g (lw_at lw_m5 48 rfl) rfl
theorem q1044 : (Jvm.Cond.methodLink "SyncHallModel" (105 : Nat) ({ cls := "SyncHallModel", name := "remove", desc := "(II)V" } : Jvm.MethodName)) ∈ lw_all := lw_g (lw_at lw_m5 49 rfl) rfl
theorem q1045 : (Jvm.Cond.privateMethod ({ cls := "SyncHallModel", name := "remove", desc := "(II)V" } : Jvm.MethodName)) ∈ lw_tbl := lw_at lw_m5 50 rfl
theorem q1046 : (Jvm.Cond.instanceMethod ({ cls := "SyncHallModel", name := "remove", desc := "(II)V" } : Jvm.MethodName)) ∈ lw_all := lw_g (lw_at lw_m5 51 rfl) rfl
theorem q1047 : (Jvm.Cond.code ({ cls := "SyncHallModel", name := "remove", desc := "(II)V" } : Jvm.MethodName) prog_11_method_12_code (5 : Nat) (Option.none : Option Jvm.ClassFile.FieldType)) ∈ lw_all := lw_g (lw_at lw_m5 52 rfl) rfl
theorem q1048 : (Jvm.Cond.methodLink "SyncHallModel" (109 : Nat) ({ cls := "SyncHallModel", name := "addWaited", desc := "(II)V" } : Jvm.MethodName)) ∈ lw_all := lw_g (lw_at lw_m5 53 rfl) rfl
theorem q1049 : (Jvm.Cond.privateMethod ({ cls := "SyncHallModel", name := "addWaited", desc := "(II)V" } : Jvm.MethodName)) ∈ lw_tbl := lw_at lw_m5 54 rfl
theorem q1050 : (Jvm.Cond.instanceMethod ({ cls := "SyncHallModel", name := "addWaited", desc := "(II)V" } : Jvm.MethodName)) ∈ lw_all := lw_g (lw_at lw_m5 55 rfl) rfl
theorem q1051 : (Jvm.Cond.code ({ cls := "SyncHallModel", name := "addWaited", desc := "(II)V" } : Jvm.MethodName) prog_11_method_14_code (3 : Nat) (Option.none : Option Jvm.ClassFile.FieldType)) ∈ lw_all := lw_g (lw_at lw_m5 56 rfl) rfl
theorem q1053 : (Jvm.Cond.instanceMethod ({ cls := "SyncHallModel", name := "await", desc := "(IID)I" } : Jvm.MethodName)) ∈ lw_all := lw_g (lw_at lw_m5 58 rfl) rfl
theorem q1054 : (Jvm.Cond.selects "SyncHallModel" ({ cls := "SyncHallModel", name := "await", desc := "(IID)I" } : Jvm.MethodName) ({ cls := "SyncHallModel", name := "await", desc := "(IID)I" } : Jvm.MethodName)) ∈ lw_all := lw_g (lw_at lw_m5 59 rfl) rfl
theorem q1055 : (Jvm.Cond.code ({ cls := "SyncHallModel", name := "await", desc := "(IID)I" } : Jvm.MethodName) prog_11_method_25_code (6 : Nat) (Option.some Jvm.ClassFile.FieldType.int)) ∈ lw_all := lw_g (lw_at lw_m5 60 rfl) rfl
theorem q1056 : (Jvm.Cond.methodLink "SyncHallModel" (155 : Nat) ({ cls := "SyncHallModel", name := "checkCondition", desc := "(II)I" } : Jvm.MethodName)) ∈ lw_all := lw_g (lw_at lw_m5 61 rfl) rfl
theorem q1057 : (Jvm.Cond.privateMethod ({ cls := "SyncHallModel", name := "checkCondition", desc := "(II)I" } : Jvm.MethodName)) ∈ lw_tbl := lw_at lw_m5 62 rfl
theorem q1058 : (Jvm.Cond.instanceMethod ({ cls := "SyncHallModel", name := "checkCondition", desc := "(II)I" } : Jvm.MethodName)) ∈ lw_all := lw_g (lw_at lw_m5 63 rfl) rfl
theorem q1059 : (Jvm.Cond.code ({ cls := "SyncHallModel", name := "checkCondition", desc := "(II)I" } : Jvm.MethodName) prog_11_method_24_code (4 : Nat) (Option.some Jvm.ClassFile.FieldType.int)) ∈ lw_all := lw_g (lw_at lw_m5 64 rfl) rfl
theorem q1060 : (Jvm.Cond.methodLink "SyncHallModel" (158 : Nat) ({ cls := "SyncHallModel", name := "queue", desc := "(III)V" } : Jvm.MethodName)) ∈ lw_all := lw_g (lw_at lw_m5 65 rfl) rfl
theorem q1061 : (Jvm.Cond.privateMethod ({ cls := "SyncHallModel", name := "queue", desc := "(III)V" } : Jvm.MethodName)) ∈ lw_tbl := lw_at lw_m5 66 rfl
theorem q1062 : (Jvm.Cond.instanceMethod ({ cls := "SyncHallModel", name := "queue", desc := "(III)V" } : Jvm.MethodName)) ∈ lw_all := lw_g (lw_at lw_m5 67 rfl) rfl
theorem q1063 : (Jvm.Cond.code ({ cls := "SyncHallModel", name := "queue", desc := "(III)V" } : Jvm.MethodName) prog_11_method_16_code (4 : Nat) (Option.none : Option Jvm.ClassFile.FieldType)) ∈ lw_all := lw_g (lw_at lw_m5 68 rfl) rfl
theorem q1065 : (Jvm.Cond.instanceMethod ({ cls := "SyncHallModel", name := "signal", desc := "(IIZ)I" } : Jvm.MethodName)) ∈ lw_all := lw_g (lw_at lw_m5 70 rfl) rfl
theorem q1066 : (Jvm.Cond.selects "SyncHallModel" ({ cls := "SyncHallModel", name := "signal", desc := "(IIZ)I" } : Jvm.MethodName) ({ cls := "SyncHallModel", name := "signal", desc := "(IIZ)I" } : Jvm.MethodName)) ∈ lw_all := lw_g (lw_at lw_m5 71 rfl) rfl
theorem q1067 : (Jvm.Cond.code ({ cls := "SyncHallModel", name := "signal", desc := "(IIZ)I" } : Jvm.MethodName) prog_11_method_26_code (5 : Nat) (Option.some Jvm.ClassFile.FieldType.int)) ∈ lw_all := lw_g (lw_at lw_m5 72 rfl) rfl
theorem q1069 : (Jvm.Cond.instanceMethod ({ cls := "SyncHallModel", name := "interrupt", desc := "(I)I" } : Jvm.MethodName)) ∈ lw_all := lw_g (lw_at lw_m5 74 rfl) rfl
theorem q1070 : (Jvm.Cond.selects "SyncHallModel" ({ cls := "SyncHallModel", name := "interrupt", desc := "(I)I" } : Jvm.MethodName) ({ cls := "SyncHallModel", name := "interrupt", desc := "(I)I" } : Jvm.MethodName)) ∈ lw_all := lw_g (lw_at lw_m5 75 rfl) rfl
theorem q1071 : (Jvm.Cond.code ({ cls := "SyncHallModel", name := "interrupt", desc := "(I)I" } : Jvm.MethodName) prog_11_method_27_code (3 : Nat) (Option.some Jvm.ClassFile.FieldType.int)) ∈ lw_all := lw_g (lw_at lw_m5 76 rfl) rfl
theorem q1073 : (Jvm.Cond.instanceMethod ({ cls := "SyncHallModel", name := "tick", desc := "(D)I" } : Jvm.MethodName)) ∈ lw_all := lw_g (lw_at lw_m5 78 rfl) rfl
theorem q1074 : (Jvm.Cond.selects "SyncHallModel" ({ cls := "SyncHallModel", name := "tick", desc := "(D)I" } : Jvm.MethodName) ({ cls := "SyncHallModel", name := "tick", desc := "(D)I" } : Jvm.MethodName)) ∈ lw_all := lw_g (lw_at lw_m5 79 rfl) rfl
theorem q1075 : (Jvm.Cond.code ({ cls := "SyncHallModel", name := "tick", desc := "(D)I" } : Jvm.MethodName) prog_11_method_28_code (6 : Nat) (Option.some Jvm.ClassFile.FieldType.int)) ∈ lw_all := lw_g (lw_at lw_m5 80 rfl) rfl
theorem q1076 : (Jvm.Cond.methodLink "SyncHallModel" (161 : Nat) ({ cls := "SyncHallModel", name := "latest", desc := "()I" } : Jvm.MethodName)) ∈ lw_all := lw_g (lw_at lw_m5 81 rfl) rfl
theorem q1077 : (Jvm.Cond.privateMethod ({ cls := "SyncHallModel", name := "latest", desc := "()I" } : Jvm.MethodName)) ∈ lw_tbl := lw_at lw_m5 82 rfl
theorem q1078 : (Jvm.Cond.instanceMethod ({ cls := "SyncHallModel", name := "latest", desc := "()I" } : Jvm.MethodName)) ∈ lw_all := lw_g (lw_at lw_m5 83 rfl) rfl
theorem q1079 : (Jvm.Cond.code ({ cls := "SyncHallModel", name := "latest", desc := "()I" } : Jvm.MethodName) prog_11_method_29_code (4 : Nat) (Option.some Jvm.ClassFile.FieldType.int)) ∈ lw_all := lw_g (lw_at lw_m5 84 rfl) rfl
theorem q1081 : (Jvm.Cond.instanceMethod ({ cls := "SyncHallModel", name := "policy", desc := "(I)I" } : Jvm.MethodName)) ∈ lw_all := lw_g (lw_at lw_m5 86 rfl) rfl
theorem q1082 : (Jvm.Cond.selects "SyncHallModel" ({ cls := "SyncHallModel", name := "policy", desc := "(I)I" } : Jvm.MethodName) ({ cls := "SyncHallModel", name := "policy", desc := "(I)I" } : Jvm.MethodName)) ∈ lw_all := lw_g (lw_at lw_m5 87 rfl) rfl
theorem q1083 : (Jvm.Cond.code ({ cls := "SyncHallModel", name := "policy", desc := "(I)I" } : Jvm.MethodName) prog_11_method_30_code (2 : Nat) (Option.some Jvm.ClassFile.FieldType.int)) ∈ lw_all := lw_g (lw_at lw_m5 88 rfl) rfl
theorem q1085 : (Jvm.Cond.instanceMethod ({ cls := "SyncHallModel", name := "thread", desc := "(II)I" } : Jvm.MethodName)) ∈ lw_all := lw_g (lw_at lw_m5 90 rfl) rfl
theorem q1086 : (Jvm.Cond.selects "SyncHallModel" ({ cls := "SyncHallModel", name := "thread", desc := "(II)I" } : Jvm.MethodName) ({ cls := "SyncHallModel", name := "thread", desc := "(II)I" } : Jvm.MethodName)) ∈ lw_all := lw_g (lw_at lw_m5 91 rfl) rfl
theorem q1087 : (Jvm.Cond.code ({ cls := "SyncHallModel", name := "thread", desc := "(II)I" } : Jvm.MethodName) prog_11_method_31_code (4 : Nat) (Option.some Jvm.ClassFile.FieldType.int)) ∈ lw_all := lw_g (lw_at lw_m5 92 rfl) rfl
theorem q1089 : (Jvm.Cond.instanceMethod ({ cls := "SyncHallModel", name := "sync", desc := "(II)I" } : Jvm.MethodName)) ∈ lw_all := lw_g (lw_at lw_m5 94 rfl) rfl
theorem q1090 : (Jvm.Cond.selects "SyncHallModel" ({ cls := "SyncHallModel", name := "sync", desc := "(II)I" } : Jvm.MethodName) ({ cls := "SyncHallModel", name := "sync", desc := "(II)I" } : Jvm.MethodName)) ∈ lw_all := lw_g (lw_at lw_m5 95 rfl) rfl
theorem q1091 : (Jvm.Cond.code ({ cls := "SyncHallModel", name := "sync", desc := "(II)I" } : Jvm.MethodName) prog_11_method_32_code (3 : Nat) (Option.some Jvm.ClassFile.FieldType.int)) ∈ lw_all := lw_g (lw_at lw_m5 96 rfl) rfl
theorem q1093 : (Jvm.Cond.instanceMethod ({ cls := "SyncHallModel", name := "waited", desc := "(I)D" } : Jvm.MethodName)) ∈ lw_all := lw_g (lw_at lw_m5 98 rfl) rfl
theorem q1094 : (Jvm.Cond.selects "SyncHallModel" ({ cls := "SyncHallModel", name := "waited", desc := "(I)D" } : Jvm.MethodName) ({ cls := "SyncHallModel", name := "waited", desc := "(I)D" } : Jvm.MethodName)) ∈ lw_all := lw_g (lw_at lw_m5 99 rfl) rfl
theorem q1095 : (Jvm.Cond.code ({ cls := "SyncHallModel", name := "waited", desc := "(I)D" } : Jvm.MethodName) prog_11_method_33_code (2 : Nat) (Option.some Jvm.ClassFile.FieldType.double)) ∈ lw_all := lw_g (lw_at lw_m5 100 rfl) rfl
theorem q1097 : (Jvm.Cond.instanceMethod ({ cls := "SyncHallModel", name := "time", desc := "()D" } : Jvm.MethodName)) ∈ lw_all := lw_g (lw_at lw_m5 102 rfl) rfl
theorem q1098 : (Jvm.Cond.selects "SyncHallModel" ({ cls := "SyncHallModel", name := "time", desc := "()D" } : Jvm.MethodName) ({ cls := "SyncHallModel", name := "time", desc := "()D" } : Jvm.MethodName)) ∈ lw_all := lw_g (lw_at lw_m5 103 rfl) rfl
theorem q1099 : (Jvm.Cond.code ({ cls := "SyncHallModel", name := "time", desc := "()D" } : Jvm.MethodName) prog_11_method_34_code (1 : Nat) (Option.some Jvm.ClassFile.FieldType.double)) ∈ lw_all := lw_g (lw_at lw_m5 104 rfl) rfl
theorem in_X3 : ∀ w ∈ wsX30, w ∈ lw_all := lw_in wsX30 [911, 913, 915, 917, 919, 921, 923, 925, 927, 929, 931, 933, 935, 937, 939, 941, 943, 945, 947, 949, 951, 953, 955, 957, 959, 961] (by decide +kernel) (by decide +kernel)
