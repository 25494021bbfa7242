/-! SyncHall -/
set_option maxRecDepth 100000
def RX1 : String := "SyncHall"
def TX1 : u_T := fun k => match k with
  | 0 => ("SyncHall", "tasks", "[LSyncHall$Task;", true)
  | 1 => ("SyncHall", "syncs", "[LSyncHall$Sync;", true)
  | 2 => ("SyncHall", "before", "[[Z", true)
  | 3 => ("SyncHall", "policy", "I", false)
  | 4 => ("SyncHall", "warnings", "I", false)
  | _ => ("SyncHall", "time", "D", false)
def tyX1 : Nat → FieldType := fun k => match k with
  | 0 => .array (.object "SyncHall$Task")
  | 1 => .array (.object "SyncHall$Sync")
  | 2 => .array (.array .boolean)
  | 3 => .int
  | 4 => .int
  | _ => .double
abbrev wsX10 : List Cond := u_ws RX1 TX1 6
theorem nmX1 : ∀ a, a < 6 → ∀ b, b < 6 → a ≠ b → (TX1 a).2.1 ≠ (TX1 b).2.1 := by decide +kernel
theorem tyX1_ok : ∀ k, k < 6 → parseFieldDescriptor (TX1 k).2.2.1 = some (tyX1 k) := by decide +kernel
abbrev cX1_init : ByteArray := prog_1_method_1_code
def yX1_init : MethodName := ⟨RX1, "<init>", "()V"⟩
theorem dX1_init_0 : decode cX1_init 0 = .ok (.aload_n 0, 1) := by decide +kernel
theorem dX1_init_1 : decode cX1_init 1 = .ok (.invokespecial 1, 3) := by decide +kernel
theorem dX1_init_4 : decode cX1_init 4 = .ok (.aload_n 0, 1) := by decide +kernel
theorem dX1_init_5 : decode cX1_init 5 = .ok (.bipush 6, 2) := by decide +kernel
theorem dX1_init_7 : decode cX1_init 7 = .ok (.anewarray 9, 3) := by decide +kernel
theorem dX1_init_10 : decode cX1_init 10 = .ok (.putfield 11, 3) := by decide +kernel
theorem dX1_init_13 : decode cX1_init 13 = .ok (.aload_n 0, 1) := by decide +kernel
theorem dX1_init_14 : decode cX1_init 14 = .ok (.bipush 8, 2) := by decide +kernel
theorem dX1_init_16 : decode cX1_init 16 = .ok (.anewarray 15, 3) := by decide +kernel
theorem dX1_init_19 : decode cX1_init 19 = .ok (.putfield 17, 3) := by decide +kernel
theorem dX1_init_22 : decode cX1_init 22 = .ok (.aload_n 0, 1) := by decide +kernel
theorem dX1_init_23 : decode cX1_init 23 = .ok (.bipush 8, 2) := by decide +kernel
theorem dX1_init_25 : decode cX1_init 25 = .ok (.bipush 8, 2) := by decide +kernel
theorem dX1_init_27 : decode cX1_init 27 = .ok (.multianewarray 21 2, 4) := by decide +kernel
theorem dX1_init_31 : decode cX1_init 31 = .ok (.putfield 23, 3) := by decide +kernel
theorem dX1_init_34 : decode cX1_init 34 = .ok (.iconst 0, 1) := by decide +kernel
theorem dX1_init_35 : decode cX1_init 35 = .ok (.istore_n 1, 1) := by decide +kernel
theorem dX1_init_36 : decode cX1_init 36 = .ok (.iload_n 1, 1) := by decide +kernel
theorem dX1_init_37 : decode cX1_init 37 = .ok (.bipush 6, 2) := by decide +kernel
theorem dX1_init_39 : decode cX1_init 39 = .ok (.if_icmp .ge 23, 3) := by decide +kernel
theorem dX1_init_42 : decode cX1_init 42 = .ok (.aload_n 0, 1) := by decide +kernel
theorem dX1_init_43 : decode cX1_init 43 = .ok (.getfield 11, 3) := by decide +kernel
theorem dX1_init_46 : decode cX1_init 46 = .ok (.iload_n 1, 1) := by decide +kernel
theorem dX1_init_47 : decode cX1_init 47 = .ok (.new 9, 3) := by decide +kernel
theorem dX1_init_50 : decode cX1_init 50 = .ok (.dup, 1) := by decide +kernel
theorem dX1_init_51 : decode cX1_init 51 = .ok (.iload_n 1, 1) := by decide +kernel
theorem dX1_init_52 : decode cX1_init 52 = .ok (.invokespecial 26, 3) := by decide +kernel
theorem dX1_init_55 : decode cX1_init 55 = .ok (.aastore, 1) := by decide +kernel
theorem dX1_init_56 : decode cX1_init 56 = .ok (.iinc 1 1, 3) := by decide +kernel
theorem dX1_init_59 : decode cX1_init 59 = .ok (.goto (-23), 3) := by decide +kernel
theorem dX1_init_62 : decode cX1_init 62 = .ok (.return_, 1) := by decide +kernel
abbrev cX1_time : ByteArray := prog_1_method_32_code
def yX1_time : MethodName := ⟨RX1, "time", "()D"⟩
theorem dX1_time_0 : decode cX1_time 0 = .ok (.aload_n 0, 1) := by decide +kernel
theorem dX1_time_1 : decode cX1_time 1 = .ok (.getfield 125, 3) := by decide +kernel
theorem dX1_time_4 : decode cX1_time 4 = .ok (.dreturn, 1) := by decide +kernel
abbrev cX1_make : ByteArray := prog_1_method_11_code
def yX1_make : MethodName := ⟨RX1, "make", "(III)I"⟩
theorem dX1_make_0 : decode cX1_make 0 = .ok (.iload_n 1, 1) := by decide +kernel
theorem dX1_make_1 : decode cX1_make 1 = .ok (.invokestatic 72, 3) := by decide +kernel
theorem dX1_make_4 : decode cX1_make 4 = .ok (.iload_n 2, 1) := by decide +kernel
theorem dX1_make_5 : decode cX1_make 5 = .ok (.ifCond .lt 13, 3) := by decide +kernel
theorem dX1_make_8 : decode cX1_make 8 = .ok (.iload_n 2, 1) := by decide +kernel
theorem dX1_make_9 : decode cX1_make 9 = .ok (.bipush 6, 2) := by decide +kernel
theorem dX1_make_11 : decode cX1_make 11 = .ok (.if_icmp .gt 7, 3) := by decide +kernel
theorem dX1_make_14 : decode cX1_make 14 = .ok (.iconst 1, 1) := by decide +kernel
theorem dX1_make_15 : decode cX1_make 15 = .ok (.goto 4, 3) := by decide +kernel
theorem dX1_make_18 : decode cX1_make 18 = .ok (.iconst 0, 1) := by decide +kernel
theorem dX1_make_19 : decode cX1_make 19 = .ok (.invokestatic 41, 3) := by decide +kernel
theorem dX1_make_22 : decode cX1_make 22 = .ok (.iload_n 2, 1) := by decide +kernel
theorem dX1_make_23 : decode cX1_make 23 = .ok (.iconst 2, 1) := by decide +kernel
theorem dX1_make_24 : decode cX1_make 24 = .ok (.if_icmp .lt 12, 3) := by decide +kernel
theorem dX1_make_27 : decode cX1_make 27 = .ok (.iload_n 2, 1) := by decide +kernel
theorem dX1_make_28 : decode cX1_make 28 = .ok (.iconst 4, 1) := by decide +kernel
theorem dX1_make_29 : decode cX1_make 29 = .ok (.if_icmp .gt 7, 3) := by decide +kernel
theorem dX1_make_32 : decode cX1_make 32 = .ok (.iconst 1, 1) := by decide +kernel
theorem dX1_make_33 : decode cX1_make 33 = .ok (.goto 4, 3) := by decide +kernel
theorem dX1_make_36 : decode cX1_make 36 = .ok (.iconst 0, 1) := by decide +kernel
theorem dX1_make_37 : decode cX1_make 37 = .ok (.istore 4, 2) := by decide +kernel
theorem dX1_make_39 : decode cX1_make 39 = .ok (.iload_n 3, 1) := by decide +kernel
theorem dX1_make_40 : decode cX1_make 40 = .ok (.ifCond .lt 32, 3) := by decide +kernel
theorem dX1_make_43 : decode cX1_make 43 = .ok (.iload_n 3, 1) := by decide +kernel
theorem dX1_make_44 : decode cX1_make 44 = .ok (.iload 4, 2) := by decide +kernel
theorem dX1_make_46 : decode cX1_make 46 = .ok (.ifCond .eq 7, 3) := by decide +kernel
theorem dX1_make_49 : decode cX1_make 49 = .ok (.iconst 5, 1) := by decide +kernel
theorem dX1_make_50 : decode cX1_make 50 = .ok (.goto 15, 3) := by decide +kernel
theorem dX1_make_53 : decode cX1_make 53 = .ok (.iload_n 2, 1) := by decide +kernel
theorem dX1_make_54 : decode cX1_make 54 = .ok (.bipush 6, 2) := by decide +kernel
theorem dX1_make_56 : decode cX1_make 56 = .ok (.if_icmp .ne 8, 3) := by decide +kernel
theorem dX1_make_59 : decode cX1_make 59 = .ok (.bipush 7, 2) := by decide +kernel
theorem dX1_make_61 : decode cX1_make 61 = .ok (.goto 4, 3) := by decide +kernel
theorem dX1_make_64 : decode cX1_make 64 = .ok (.iconst 0, 1) := by decide +kernel
theorem dX1_make_65 : decode cX1_make 65 = .ok (.if_icmp .gt 7, 3) := by decide +kernel
theorem dX1_make_68 : decode cX1_make 68 = .ok (.iconst 1, 1) := by decide +kernel
theorem dX1_make_69 : decode cX1_make 69 = .ok (.goto 4, 3) := by decide +kernel
theorem dX1_make_72 : decode cX1_make 72 = .ok (.iconst 0, 1) := by decide +kernel
theorem dX1_make_73 : decode cX1_make 73 = .ok (.invokestatic 41, 3) := by decide +kernel
theorem dX1_make_76 : decode cX1_make 76 = .ok (.iload_n 2, 1) := by decide +kernel
theorem dX1_make_77 : decode cX1_make 77 = .ok (.bipush 6, 2) := by decide +kernel
theorem dX1_make_79 : decode cX1_make 79 = .ok (.if_icmp .ne 15, 3) := by decide +kernel
theorem dX1_make_82 : decode cX1_make 82 = .ok (.aload_n 0, 1) := by decide +kernel
theorem dX1_make_83 : decode cX1_make 83 = .ok (.getfield 17, 3) := by decide +kernel
theorem dX1_make_86 : decode cX1_make 86 = .ok (.iload_n 3, 1) := by decide +kernel
theorem dX1_make_87 : decode cX1_make 87 = .ok (.aaload, 1) := by decide +kernel
theorem dX1_make_88 : decode cX1_make 88 = .ok (.instanceof 52, 3) := by decide +kernel
theorem dX1_make_91 : decode cX1_make 91 = .ok (.invokestatic 45, 3) := by decide +kernel
theorem dX1_make_94 : decode cX1_make 94 = .ok (.aload_n 0, 1) := by decide +kernel
theorem dX1_make_95 : decode cX1_make 95 = .ok (.getfield 17, 3) := by decide +kernel
theorem dX1_make_98 : decode cX1_make 98 = .ok (.iload_n 1, 1) := by decide +kernel
theorem dX1_make_99 : decode cX1_make 99 = .ok (.aaload, 1) := by decide +kernel
theorem dX1_make_100 : decode cX1_make 100 = .ok (.ifnonnull 7, 3) := by decide +kernel
theorem dX1_make_103 : decode cX1_make 103 = .ok (.iconst 1, 1) := by decide +kernel
theorem dX1_make_104 : decode cX1_make 104 = .ok (.goto 4, 3) := by decide +kernel
theorem dX1_make_107 : decode cX1_make 107 = .ok (.iconst 0, 1) := by decide +kernel
theorem dX1_make_108 : decode cX1_make 108 = .ok (.invokestatic 75, 3) := by decide +kernel
theorem dX1_make_111 : decode cX1_make 111 = .ok (.aload_n 0, 1) := by decide +kernel
theorem dX1_make_112 : decode cX1_make 112 = .ok (.getfield 17, 3) := by decide +kernel
theorem dX1_make_115 : decode cX1_make 115 = .ok (.iload_n 1, 1) := by decide +kernel
theorem dX1_make_116 : decode cX1_make 116 = .ok (.aload_n 0, 1) := by decide +kernel
theorem dX1_make_117 : decode cX1_make 117 = .ok (.iload_n 2, 1) := by decide +kernel
theorem dX1_make_118 : decode cX1_make 118 = .ok (.iload_n 3, 1) := by decide +kernel
theorem dX1_make_119 : decode cX1_make 119 = .ok (.invokevirtual 78, 3) := by decide +kernel
theorem dX1_make_122 : decode cX1_make 122 = .ok (.aastore, 1) := by decide +kernel
theorem dX1_make_123 : decode cX1_make 123 = .ok (.iconst 0, 1) := by decide +kernel
theorem dX1_make_124 : decode cX1_make 124 = .ok (.istore 5, 2) := by decide +kernel
theorem dX1_make_126 : decode cX1_make 126 = .ok (.aload_n 0, 1) := by decide +kernel
theorem dX1_make_127 : decode cX1_make 127 = .ok (.getfield 17, 3) := by decide +kernel
theorem dX1_make_130 : decode cX1_make 130 = .ok (.astore 6, 2) := by decide +kernel
theorem dX1_make_132 : decode cX1_make 132 = .ok (.aload 6, 2) := by decide +kernel
theorem dX1_make_134 : decode cX1_make 134 = .ok (.arraylength, 1) := by decide +kernel
theorem dX1_make_135 : decode cX1_make 135 = .ok (.istore 7, 2) := by decide +kernel
theorem dX1_make_137 : decode cX1_make 137 = .ok (.iconst 0, 1) := by decide +kernel
theorem dX1_make_138 : decode cX1_make 138 = .ok (.istore 8, 2) := by decide +kernel
theorem dX1_make_140 : decode cX1_make 140 = .ok (.iload 8, 2) := by decide +kernel
theorem dX1_make_142 : decode cX1_make 142 = .ok (.iload 7, 2) := by decide +kernel
theorem dX1_make_144 : decode cX1_make 144 = .ok (.if_icmp .ge 24, 3) := by decide +kernel
theorem dX1_make_147 : decode cX1_make 147 = .ok (.aload 6, 2) := by decide +kernel
theorem dX1_make_149 : decode cX1_make 149 = .ok (.iload 8, 2) := by decide +kernel
theorem dX1_make_151 : decode cX1_make 151 = .ok (.aaload, 1) := by decide +kernel
theorem dX1_make_152 : decode cX1_make 152 = .ok (.astore 9, 2) := by decide +kernel
theorem dX1_make_154 : decode cX1_make 154 = .ok (.aload 9, 2) := by decide +kernel
theorem dX1_make_156 : decode cX1_make 156 = .ok (.ifnull 6, 3) := by decide +kernel
theorem dX1_make_159 : decode cX1_make 159 = .ok (.iinc 5 1, 3) := by decide +kernel
theorem dX1_make_162 : decode cX1_make 162 = .ok (.iinc 8 1, 3) := by decide +kernel
theorem dX1_make_165 : decode cX1_make 165 = .ok (.goto (-25), 3) := by decide +kernel
theorem dX1_make_168 : decode cX1_make 168 = .ok (.iload 5, 2) := by decide +kernel
theorem dX1_make_170 : decode cX1_make 170 = .ok (.ireturn, 1) := by decide +kernel
abbrev cX1_number : ByteArray := prog_1_method_7_code
def yX1_number : MethodName := ⟨RX1, "number", "(I)V"⟩
theorem dX1_number_0 : decode cX1_number 0 = .ok (.iload_n 0, 1) := by decide +kernel
theorem dX1_number_1 : decode cX1_number 1 = .ok (.ifCond .lt 13, 3) := by decide +kernel
theorem dX1_number_4 : decode cX1_number 4 = .ok (.iload_n 0, 1) := by decide +kernel
theorem dX1_number_5 : decode cX1_number 5 = .ok (.bipush 8, 2) := by decide +kernel
theorem dX1_number_7 : decode cX1_number 7 = .ok (.if_icmp .ge 7, 3) := by decide +kernel
theorem dX1_number_10 : decode cX1_number 10 = .ok (.iconst 1, 1) := by decide +kernel
theorem dX1_number_11 : decode cX1_number 11 = .ok (.goto 4, 3) := by decide +kernel
theorem dX1_number_14 : decode cX1_number 14 = .ok (.iconst 0, 1) := by decide +kernel
theorem dX1_number_15 : decode cX1_number 15 = .ok (.invokestatic 41, 3) := by decide +kernel
theorem dX1_number_18 : decode cX1_number 18 = .ok (.return_, 1) := by decide +kernel
abbrev cX1_range : ByteArray := prog_1_method_2_code
def yX1_range : MethodName := ⟨RX1, "range", "(Z)V"⟩
theorem dX1_range_0 : decode cX1_range 0 = .ok (.iload_n 0, 1) := by decide +kernel
theorem dX1_range_1 : decode cX1_range 1 = .ok (.ifCond .ne 11, 3) := by decide +kernel
theorem dX1_range_4 : decode cX1_range 4 = .ok (.new 29, 3) := by decide +kernel
theorem dX1_range_7 : decode cX1_range 7 = .ok (.dup, 1) := by decide +kernel
theorem dX1_range_8 : decode cX1_range 8 = .ok (.invokespecial 31, 3) := by decide +kernel
theorem dX1_range_11 : decode cX1_range 11 = .ok (.athrow, 1) := by decide +kernel
theorem dX1_range_12 : decode cX1_range 12 = .ok (.return_, 1) := by decide +kernel
abbrev cX1_exists : ByteArray := prog_1_method_3_code
def yX1_exists : MethodName := ⟨RX1, "exists", "(Z)V"⟩
theorem dX1_exists_0 : decode cX1_exists 0 = .ok (.iload_n 0, 1) := by decide +kernel
theorem dX1_exists_1 : decode cX1_exists 1 = .ok (.ifCond .ne 11, 3) := by decide +kernel
theorem dX1_exists_4 : decode cX1_exists 4 = .ok (.new 32, 3) := by decide +kernel
theorem dX1_exists_7 : decode cX1_exists 7 = .ok (.dup, 1) := by decide +kernel
theorem dX1_exists_8 : decode cX1_exists 8 = .ok (.invokespecial 34, 3) := by decide +kernel
theorem dX1_exists_11 : decode cX1_exists 11 = .ok (.athrow, 1) := by decide +kernel
theorem dX1_exists_12 : decode cX1_exists 12 = .ok (.return_, 1) := by decide +kernel
abbrev cX1_state : ByteArray := prog_1_method_4_code
def yX1_state : MethodName := ⟨RX1, "state", "(Z)V"⟩
theorem dX1_state_0 : decode cX1_state 0 = .ok (.iload_n 0, 1) := by decide +kernel
theorem dX1_state_1 : decode cX1_state 1 = .ok (.ifCond .ne 11, 3) := by decide +kernel
theorem dX1_state_4 : decode cX1_state 4 = .ok (.new 35, 3) := by decide +kernel
theorem dX1_state_7 : decode cX1_state 7 = .ok (.dup, 1) := by decide +kernel
theorem dX1_state_8 : decode cX1_state 8 = .ok (.invokespecial 37, 3) := by decide +kernel
theorem dX1_state_11 : decode cX1_state 11 = .ok (.athrow, 1) := by decide +kernel
theorem dX1_state_12 : decode cX1_state 12 = .ok (.return_, 1) := by decide +kernel
abbrev cX1_made : ByteArray := prog_1_method_10_code
def yX1_made : MethodName := ⟨RX1, "made", "(II)LSyncHall$Sync;"⟩
theorem dX1_made_0 : decode cX1_made 0 = .ok (.iload_n 1, 1) := by decide +kernel
theorem dX1_made_1 : decode cX1_made 1 = .ok (.tableswitch 93 0 5 #[39, 39, 57, 57, 76, 85], 39) := by decide +kernel
theorem dX1_made_40 : decode cX1_made 40 = .ok (.new 52, 3) := by decide +kernel
theorem dX1_made_43 : decode cX1_made 43 = .ok (.dup, 1) := by decide +kernel
theorem dX1_made_44 : decode cX1_made 44 = .ok (.iload_n 1, 1) := by decide +kernel
theorem dX1_made_45 : decode cX1_made 45 = .ok (.iconst 1, 1) := by decide +kernel
theorem dX1_made_46 : decode cX1_made 46 = .ok (.if_icmp .ne 7, 3) := by decide +kernel
theorem dX1_made_49 : decode cX1_made 49 = .ok (.iconst 1, 1) := by decide +kernel
theorem dX1_made_50 : decode cX1_made 50 = .ok (.goto 4, 3) := by decide +kernel
theorem dX1_made_53 : decode cX1_made 53 = .ok (.iconst 0, 1) := by decide +kernel
theorem dX1_made_54 : decode cX1_made 54 = .ok (.invokespecial 54, 3) := by decide +kernel
theorem dX1_made_57 : decode cX1_made 57 = .ok (.areturn, 1) := by decide +kernel
theorem dX1_made_58 : decode cX1_made 58 = .ok (.new 56, 3) := by decide +kernel
theorem dX1_made_61 : decode cX1_made 61 = .ok (.dup, 1) := by decide +kernel
theorem dX1_made_62 : decode cX1_made 62 = .ok (.iload_n 1, 1) := by decide +kernel
theorem dX1_made_63 : decode cX1_made 63 = .ok (.iconst 3, 1) := by decide +kernel
theorem dX1_made_64 : decode cX1_made 64 = .ok (.if_icmp .ne 7, 3) := by decide +kernel
theorem dX1_made_67 : decode cX1_made 67 = .ok (.iconst 1, 1) := by decide +kernel
theorem dX1_made_68 : decode cX1_made 68 = .ok (.goto 4, 3) := by decide +kernel
theorem dX1_made_71 : decode cX1_made 71 = .ok (.iconst 0, 1) := by decide +kernel
theorem dX1_made_72 : decode cX1_made 72 = .ok (.iload_n 2, 1) := by decide +kernel
theorem dX1_made_73 : decode cX1_made 73 = .ok (.invokespecial 58, 3) := by decide +kernel
theorem dX1_made_76 : decode cX1_made 76 = .ok (.areturn, 1) := by decide +kernel
theorem dX1_made_77 : decode cX1_made 77 = .ok (.new 61, 3) := by decide +kernel
theorem dX1_made_80 : decode cX1_made 80 = .ok (.dup, 1) := by decide +kernel
theorem dX1_made_81 : decode cX1_made 81 = .ok (.iload_n 2, 1) := by decide +kernel
theorem dX1_made_82 : decode cX1_made 82 = .ok (.invokespecial 63, 3) := by decide +kernel
theorem dX1_made_85 : decode cX1_made 85 = .ok (.areturn, 1) := by decide +kernel
theorem dX1_made_86 : decode cX1_made 86 = .ok (.new 64, 3) := by decide +kernel
theorem dX1_made_89 : decode cX1_made 89 = .ok (.dup, 1) := by decide +kernel
theorem dX1_made_90 : decode cX1_made 90 = .ok (.invokespecial 66, 3) := by decide +kernel
theorem dX1_made_93 : decode cX1_made 93 = .ok (.areturn, 1) := by decide +kernel
theorem dX1_made_94 : decode cX1_made 94 = .ok (.aload_n 0, 1) := by decide +kernel
theorem dX1_made_95 : decode cX1_made 95 = .ok (.getfield 17, 3) := by decide +kernel
theorem dX1_made_98 : decode cX1_made 98 = .ok (.iload_n 2, 1) := by decide +kernel
theorem dX1_made_99 : decode cX1_made 99 = .ok (.aaload, 1) := by decide +kernel
theorem dX1_made_100 : decode cX1_made 100 = .ok (.instanceof 52, 3) := by decide +kernel
theorem dX1_made_103 : decode cX1_made 103 = .ok (.invokestatic 45, 3) := by decide +kernel
theorem dX1_made_106 : decode cX1_made 106 = .ok (.new 67, 3) := by decide +kernel
theorem dX1_made_109 : decode cX1_made 109 = .ok (.dup, 1) := by decide +kernel
theorem dX1_made_110 : decode cX1_made 110 = .ok (.aload_n 0, 1) := by decide +kernel
theorem dX1_made_111 : decode cX1_made 111 = .ok (.getfield 17, 3) := by decide +kernel
theorem dX1_made_114 : decode cX1_made 114 = .ok (.iload_n 2, 1) := by decide +kernel
theorem dX1_made_115 : decode cX1_made 115 = .ok (.aaload, 1) := by decide +kernel
theorem dX1_made_116 : decode cX1_made 116 = .ok (.checkcast 52, 3) := by decide +kernel
theorem dX1_made_119 : decode cX1_made 119 = .ok (.invokespecial 69, 3) := by decide +kernel
theorem dX1_made_122 : decode cX1_made 122 = .ok (.areturn, 1) := by decide +kernel
abbrev cX1_rank : ByteArray := prog_1_method_12_code
def yX1_rank : MethodName := ⟨RX1, "rank", "(ID)V"⟩
theorem dX1_rank_0 : decode cX1_rank 0 = .ok (.aload_n 0, 1) := by decide +kernel
theorem dX1_rank_1 : decode cX1_rank 1 = .ok (.iload_n 1, 1) := by decide +kernel
theorem dX1_rank_2 : decode cX1_rank 2 = .ok (.invokevirtual 82, 3) := by decide +kernel
theorem dX1_rank_5 : decode cX1_rank 5 = .ok (.astore 4, 2) := by decide +kernel
theorem dX1_rank_7 : decode cX1_rank 7 = .ok (.dload_n 2, 1) := by decide +kernel
theorem dX1_rank_8 : decode cX1_rank 8 = .ok (.ldc2_w 86, 3) := by decide +kernel
theorem dX1_rank_11 : decode cX1_rank 11 = .ok (.dcmp .l, 1) := by decide +kernel
theorem dX1_rank_12 : decode cX1_rank 12 = .ok (.ifCond .lt 15, 3) := by decide +kernel
theorem dX1_rank_15 : decode cX1_rank 15 = .ok (.dload_n 2, 1) := by decide +kernel
theorem dX1_rank_16 : decode cX1_rank 16 = .ok (.ldc2_w 50, 3) := by decide +kernel
theorem dX1_rank_19 : decode cX1_rank 19 = .ok (.dcmp .g, 1) := by decide +kernel
theorem dX1_rank_20 : decode cX1_rank 20 = .ok (.ifCond .gt 7, 3) := by decide +kernel
theorem dX1_rank_23 : decode cX1_rank 23 = .ok (.iconst 1, 1) := by decide +kernel
theorem dX1_rank_24 : decode cX1_rank 24 = .ok (.goto 4, 3) := by decide +kernel
theorem dX1_rank_27 : decode cX1_rank 27 = .ok (.iconst 0, 1) := by decide +kernel
theorem dX1_rank_28 : decode cX1_rank 28 = .ok (.invokestatic 41, 3) := by decide +kernel
theorem dX1_rank_31 : decode cX1_rank 31 = .ok (.aload 4, 2) := by decide +kernel
theorem dX1_rank_33 : decode cX1_rank 33 = .ok (.dload_n 2, 1) := by decide +kernel
theorem dX1_rank_34 : decode cX1_rank 34 = .ok (.putfield 88, 3) := by decide +kernel
theorem dX1_rank_37 : decode cX1_rank 37 = .ok (.return_, 1) := by decide +kernel
abbrev cX1_task : ByteArray := prog_1_method_6_code
def yX1_task : MethodName := ⟨RX1, "task", "(I)LSyncHall$Task;"⟩
theorem dX1_task_0 : decode cX1_task 0 = .ok (.iload_n 1, 1) := by decide +kernel
theorem dX1_task_1 : decode cX1_task 1 = .ok (.ifCond .lt 13, 3) := by decide +kernel
theorem dX1_task_4 : decode cX1_task 4 = .ok (.iload_n 1, 1) := by decide +kernel
theorem dX1_task_5 : decode cX1_task 5 = .ok (.bipush 6, 2) := by decide +kernel
theorem dX1_task_7 : decode cX1_task 7 = .ok (.if_icmp .ge 7, 3) := by decide +kernel
theorem dX1_task_10 : decode cX1_task 10 = .ok (.iconst 1, 1) := by decide +kernel
theorem dX1_task_11 : decode cX1_task 11 = .ok (.goto 4, 3) := by decide +kernel
theorem dX1_task_14 : decode cX1_task 14 = .ok (.iconst 0, 1) := by decide +kernel
theorem dX1_task_15 : decode cX1_task 15 = .ok (.invokestatic 41, 3) := by decide +kernel
theorem dX1_task_18 : decode cX1_task 18 = .ok (.aload_n 0, 1) := by decide +kernel
theorem dX1_task_19 : decode cX1_task 19 = .ok (.getfield 11, 3) := by decide +kernel
theorem dX1_task_22 : decode cX1_task 22 = .ok (.iload_n 1, 1) := by decide +kernel
theorem dX1_task_23 : decode cX1_task 23 = .ok (.aaload, 1) := by decide +kernel
theorem dX1_task_24 : decode cX1_task 24 = .ok (.areturn, 1) := by decide +kernel
abbrev cX1_acquire : ByteArray := prog_1_method_19_code
def yX1_acquire : MethodName := ⟨RX1, "acquire", "(IIID)I"⟩
theorem dX1_acquire_0 : decode cX1_acquire 0 = .ok (.aload_n 0, 1) := by decide +kernel
theorem dX1_acquire_1 : decode cX1_acquire 1 = .ok (.iload_n 1, 1) := by decide +kernel
theorem dX1_acquire_2 : decode cX1_acquire 2 = .ok (.invokevirtual 82, 3) := by decide +kernel
theorem dX1_acquire_5 : decode cX1_acquire 5 = .ok (.astore 6, 2) := by decide +kernel
theorem dX1_acquire_7 : decode cX1_acquire 7 = .ok (.iload_n 2, 1) := by decide +kernel
theorem dX1_acquire_8 : decode cX1_acquire 8 = .ok (.invokestatic 72, 3) := by decide +kernel
theorem dX1_acquire_11 : decode cX1_acquire 11 = .ok (.iload_n 3, 1) := by decide +kernel
theorem dX1_acquire_12 : decode cX1_acquire 12 = .ok (.ifCond .eq 8, 3) := by decide +kernel
theorem dX1_acquire_15 : decode cX1_acquire 15 = .ok (.iload_n 3, 1) := by decide +kernel
theorem dX1_acquire_16 : decode cX1_acquire 16 = .ok (.iconst 1, 1) := by decide +kernel
theorem dX1_acquire_17 : decode cX1_acquire 17 = .ok (.if_icmp .ne 7, 3) := by decide +kernel
theorem dX1_acquire_20 : decode cX1_acquire 20 = .ok (.iconst 1, 1) := by decide +kernel
theorem dX1_acquire_21 : decode cX1_acquire 21 = .ok (.goto 4, 3) := by decide +kernel
theorem dX1_acquire_24 : decode cX1_acquire 24 = .ok (.iconst 0, 1) := by decide +kernel
theorem dX1_acquire_25 : decode cX1_acquire 25 = .ok (.invokestatic 41, 3) := by decide +kernel
theorem dX1_acquire_28 : decode cX1_acquire 28 = .ok (.dload 4, 2) := by decide +kernel
theorem dX1_acquire_30 : decode cX1_acquire 30 = .ok (.invokestatic 128, 3) := by decide +kernel
theorem dX1_acquire_33 : decode cX1_acquire 33 = .ok (.aload_n 0, 1) := by decide +kernel
theorem dX1_acquire_34 : decode cX1_acquire 34 = .ok (.iload_n 2, 1) := by decide +kernel
theorem dX1_acquire_35 : decode cX1_acquire 35 = .ok (.invokevirtual 132, 3) := by decide +kernel
theorem dX1_acquire_38 : decode cX1_acquire 38 = .ok (.astore 7, 2) := by decide +kernel
theorem dX1_acquire_40 : decode cX1_acquire 40 = .ok (.aload 6, 2) := by decide +kernel
theorem dX1_acquire_42 : decode cX1_acquire 42 = .ok (.invokevirtual 136, 3) := by decide +kernel
theorem dX1_acquire_45 : decode cX1_acquire 45 = .ok (.ifCond .ne 7, 3) := by decide +kernel
theorem dX1_acquire_48 : decode cX1_acquire 48 = .ok (.iconst 1, 1) := by decide +kernel
theorem dX1_acquire_49 : decode cX1_acquire 49 = .ok (.goto 4, 3) := by decide +kernel
theorem dX1_acquire_52 : decode cX1_acquire 52 = .ok (.iconst 0, 1) := by decide +kernel
theorem dX1_acquire_53 : decode cX1_acquire 53 = .ok (.invokestatic 75, 3) := by decide +kernel
theorem dX1_acquire_56 : decode cX1_acquire 56 = .ok (.aload 7, 2) := by decide +kernel
theorem dX1_acquire_58 : decode cX1_acquire 58 = .ok (.instanceof 67, 3) := by decide +kernel
theorem dX1_acquire_61 : decode cX1_acquire 61 = .ok (.ifCond .ne 7, 3) := by decide +kernel
theorem dX1_acquire_64 : decode cX1_acquire 64 = .ok (.iconst 1, 1) := by decide +kernel
theorem dX1_acquire_65 : decode cX1_acquire 65 = .ok (.goto 4, 3) := by decide +kernel
theorem dX1_acquire_68 : decode cX1_acquire 68 = .ok (.iconst 0, 1) := by decide +kernel
theorem dX1_acquire_69 : decode cX1_acquire 69 = .ok (.invokestatic 111, 3) := by decide +kernel
theorem dX1_acquire_72 : decode cX1_acquire 72 = .ok (.aload 6, 2) := by decide +kernel
theorem dX1_acquire_74 : decode cX1_acquire 74 = .ok (.getfield 117, 3) := by decide +kernel
theorem dX1_acquire_77 : decode cX1_acquire 77 = .ok (.ifCond .eq 10, 3) := by decide +kernel
theorem dX1_acquire_80 : decode cX1_acquire 80 = .ok (.aload_n 0, 1) := by decide +kernel
theorem dX1_acquire_81 : decode cX1_acquire 81 = .ok (.aload 6, 2) := by decide +kernel
theorem dX1_acquire_83 : decode cX1_acquire 83 = .ok (.invokevirtual 140, 3) := by decide +kernel
theorem dX1_acquire_86 : decode cX1_acquire 86 = .ok (.ireturn, 1) := by decide +kernel
theorem dX1_acquire_87 : decode cX1_acquire 87 = .ok (.aload_n 0, 1) := by decide +kernel
theorem dX1_acquire_88 : decode cX1_acquire 88 = .ok (.aload 6, 2) := by decide +kernel
theorem dX1_acquire_90 : decode cX1_acquire 90 = .ok (.iload_n 2, 1) := by decide +kernel
theorem dX1_acquire_91 : decode cX1_acquire 91 = .ok (.invokevirtual 144, 3) := by decide +kernel
theorem dX1_acquire_94 : decode cX1_acquire 94 = .ok (.iload_n 3, 1) := by decide +kernel
theorem dX1_acquire_95 : decode cX1_acquire 95 = .ok (.iconst 1, 1) := by decide +kernel
theorem dX1_acquire_96 : decode cX1_acquire 96 = .ok (.if_icmp .ne 15, 3) := by decide +kernel
theorem dX1_acquire_99 : decode cX1_acquire 99 = .ok (.aload 7, 2) := by decide +kernel
theorem dX1_acquire_101 : decode cX1_acquire 101 = .ok (.instanceof 64, 3) := by decide +kernel
theorem dX1_acquire_104 : decode cX1_acquire 104 = .ok (.ifCond .eq 7, 3) := by decide +kernel
theorem dX1_acquire_107 : decode cX1_acquire 107 = .ok (.iconst 1, 1) := by decide +kernel
theorem dX1_acquire_108 : decode cX1_acquire 108 = .ok (.goto 4, 3) := by decide +kernel
theorem dX1_acquire_111 : decode cX1_acquire 111 = .ok (.iconst 0, 1) := by decide +kernel
theorem dX1_acquire_112 : decode cX1_acquire 112 = .ok (.istore 8, 2) := by decide +kernel
theorem dX1_acquire_114 : decode cX1_acquire 114 = .ok (.aload 7, 2) := by decide +kernel
theorem dX1_acquire_116 : decode cX1_acquire 116 = .ok (.aload 6, 2) := by decide +kernel
theorem dX1_acquire_118 : decode cX1_acquire 118 = .ok (.iload 8, 2) := by decide +kernel
theorem dX1_acquire_120 : decode cX1_acquire 120 = .ok (.invokevirtual 148, 3) := by decide +kernel
theorem dX1_acquire_123 : decode cX1_acquire 123 = .ok (.ifCond .ne 7, 3) := by decide +kernel
theorem dX1_acquire_126 : decode cX1_acquire 126 = .ok (.iconst 1, 1) := by decide +kernel
theorem dX1_acquire_127 : decode cX1_acquire 127 = .ok (.goto 4, 3) := by decide +kernel
theorem dX1_acquire_130 : decode cX1_acquire 130 = .ok (.iconst 0, 1) := by decide +kernel
theorem dX1_acquire_131 : decode cX1_acquire 131 = .ok (.invokestatic 111, 3) := by decide +kernel
theorem dX1_acquire_134 : decode cX1_acquire 134 = .ok (.aload 7, 2) := by decide +kernel
theorem dX1_acquire_136 : decode cX1_acquire 136 = .ok (.aload 6, 2) := by decide +kernel
theorem dX1_acquire_138 : decode cX1_acquire 138 = .ok (.iload 8, 2) := by decide +kernel
theorem dX1_acquire_140 : decode cX1_acquire 140 = .ok (.invokevirtual 152, 3) := by decide +kernel
theorem dX1_acquire_143 : decode cX1_acquire 143 = .ok (.ifCond .ne 32, 3) := by decide +kernel
theorem dX1_acquire_146 : decode cX1_acquire 146 = .ok (.aload 7, 2) := by decide +kernel
theorem dX1_acquire_148 : decode cX1_acquire 148 = .ok (.aload 6, 2) := by decide +kernel
theorem dX1_acquire_150 : decode cX1_acquire 150 = .ok (.iload 8, 2) := by decide +kernel
theorem dX1_acquire_152 : decode cX1_acquire 152 = .ok (.invokevirtual 155, 3) := by decide +kernel
theorem dX1_acquire_155 : decode cX1_acquire 155 = .ok (.ifCond .eq 20, 3) := by decide +kernel
theorem dX1_acquire_158 : decode cX1_acquire 158 = .ok (.aload 7, 2) := by decide +kernel
theorem dX1_acquire_160 : decode cX1_acquire 160 = .ok (.aload 6, 2) := by decide +kernel
theorem dX1_acquire_162 : decode cX1_acquire 162 = .ok (.iload 8, 2) := by decide +kernel
theorem dX1_acquire_164 : decode cX1_acquire 164 = .ok (.invokevirtual 158, 3) := by decide +kernel
theorem dX1_acquire_167 : decode cX1_acquire 167 = .ok (.aload_n 0, 1) := by decide +kernel
theorem dX1_acquire_168 : decode cX1_acquire 168 = .ok (.aload 6, 2) := by decide +kernel
theorem dX1_acquire_170 : decode cX1_acquire 170 = .ok (.iconst 1, 1) := by decide +kernel
theorem dX1_acquire_171 : decode cX1_acquire 171 = .ok (.invokevirtual 121, 3) := by decide +kernel
theorem dX1_acquire_174 : decode cX1_acquire 174 = .ok (.ireturn, 1) := by decide +kernel
theorem dX1_acquire_175 : decode cX1_acquire 175 = .ok (.dload 4, 2) := by decide +kernel
theorem dX1_acquire_177 : decode cX1_acquire 177 = .ok (.dconst 0, 1) := by decide +kernel
theorem dX1_acquire_178 : decode cX1_acquire 178 = .ok (.dcmp .l, 1) := by decide +kernel
theorem dX1_acquire_179 : decode cX1_acquire 179 = .ok (.ifCond .ne 11, 3) := by decide +kernel
theorem dX1_acquire_182 : decode cX1_acquire 182 = .ok (.aload_n 0, 1) := by decide +kernel
theorem dX1_acquire_183 : decode cX1_acquire 183 = .ok (.aload 6, 2) := by decide +kernel
theorem dX1_acquire_185 : decode cX1_acquire 185 = .ok (.iconst 2, 1) := by decide +kernel
theorem dX1_acquire_186 : decode cX1_acquire 186 = .ok (.invokevirtual 121, 3) := by decide +kernel
theorem dX1_acquire_189 : decode cX1_acquire 189 = .ok (.ireturn, 1) := by decide +kernel
theorem dX1_acquire_190 : decode cX1_acquire 190 = .ok (.aload 7, 2) := by decide +kernel
theorem dX1_acquire_192 : decode cX1_acquire 192 = .ok (.new 162, 3) := by decide +kernel
theorem dX1_acquire_195 : decode cX1_acquire 195 = .ok (.dup, 1) := by decide +kernel
theorem dX1_acquire_196 : decode cX1_acquire 196 = .ok (.aload 6, 2) := by decide +kernel
theorem dX1_acquire_198 : decode cX1_acquire 198 = .ok (.aload 7, 2) := by decide +kernel
theorem dX1_acquire_200 : decode cX1_acquire 200 = .ok (.iload 8, 2) := by decide +kernel
theorem dX1_acquire_202 : decode cX1_acquire 202 = .ok (.aload_n 0, 1) := by decide +kernel
theorem dX1_acquire_203 : decode cX1_acquire 203 = .ok (.dload 4, 2) := by decide +kernel
theorem dX1_acquire_205 : decode cX1_acquire 205 = .ok (.invokevirtual 164, 3) := by decide +kernel
theorem dX1_acquire_208 : decode cX1_acquire 208 = .ok (.aload_n 0, 1) := by decide +kernel
theorem dX1_acquire_209 : decode cX1_acquire 209 = .ok (.getfield 125, 3) := by decide +kernel
theorem dX1_acquire_212 : decode cX1_acquire 212 = .ok (.iconst 0, 1) := by decide +kernel
theorem dX1_acquire_213 : decode cX1_acquire 213 = .ok (.iconst 1, 1) := by decide +kernel
theorem dX1_acquire_214 : decode cX1_acquire 214 = .ok (.invokespecial 168, 3) := by decide +kernel
theorem dX1_acquire_217 : decode cX1_acquire 217 = .ok (.invokevirtual 171, 3) := by decide +kernel
theorem dX1_acquire_220 : decode cX1_acquire 220 = .ok (.aload_n 0, 1) := by decide +kernel
theorem dX1_acquire_221 : decode cX1_acquire 221 = .ok (.aload 6, 2) := by decide +kernel
theorem dX1_acquire_223 : decode cX1_acquire 223 = .ok (.iconst 0, 1) := by decide +kernel
theorem dX1_acquire_224 : decode cX1_acquire 224 = .ok (.invokevirtual 121, 3) := by decide +kernel
theorem dX1_acquire_227 : decode cX1_acquire 227 = .ok (.ireturn, 1) := by decide +kernel
abbrev cX1_limit : ByteArray := prog_1_method_9_code
def yX1_limit : MethodName := ⟨RX1, "limit", "(D)V"⟩
theorem dX1_limit_0 : decode cX1_limit 0 = .ok (.dload_n 0, 1) := by decide +kernel
theorem dX1_limit_1 : decode cX1_limit 1 = .ok (.ldc2_w 48, 3) := by decide +kernel
theorem dX1_limit_4 : decode cX1_limit 4 = .ok (.dcmp .l, 1) := by decide +kernel
theorem dX1_limit_5 : decode cX1_limit 5 = .ok (.ifCond .lt 15, 3) := by decide +kernel
theorem dX1_limit_8 : decode cX1_limit 8 = .ok (.dload_n 0, 1) := by decide +kernel
theorem dX1_limit_9 : decode cX1_limit 9 = .ok (.ldc2_w 50, 3) := by decide +kernel
theorem dX1_limit_12 : decode cX1_limit 12 = .ok (.dcmp .g, 1) := by decide +kernel
theorem dX1_limit_13 : decode cX1_limit 13 = .ok (.ifCond .gt 7, 3) := by decide +kernel
theorem dX1_limit_16 : decode cX1_limit 16 = .ok (.iconst 1, 1) := by decide +kernel
theorem dX1_limit_17 : decode cX1_limit 17 = .ok (.goto 4, 3) := by decide +kernel
theorem dX1_limit_20 : decode cX1_limit 20 = .ok (.iconst 0, 1) := by decide +kernel
theorem dX1_limit_21 : decode cX1_limit 21 = .ok (.invokestatic 41, 3) := by decide +kernel
theorem dX1_limit_24 : decode cX1_limit 24 = .ok (.return_, 1) := by decide +kernel
abbrev cX1_there : ByteArray := prog_1_method_8_code
def yX1_there : MethodName := ⟨RX1, "there", "(I)LSyncHall$Sync;"⟩
theorem dX1_there_0 : decode cX1_there 0 = .ok (.aload_n 0, 1) := by decide +kernel
theorem dX1_there_1 : decode cX1_there 1 = .ok (.getfield 17, 3) := by decide +kernel
theorem dX1_there_4 : decode cX1_there 4 = .ok (.iload_n 1, 1) := by decide +kernel
theorem dX1_there_5 : decode cX1_there 5 = .ok (.aaload, 1) := by decide +kernel
theorem dX1_there_6 : decode cX1_there 6 = .ok (.ifnull 7, 3) := by decide +kernel
theorem dX1_there_9 : decode cX1_there 9 = .ok (.iconst 1, 1) := by decide +kernel
theorem dX1_there_10 : decode cX1_there 10 = .ok (.goto 4, 3) := by decide +kernel
theorem dX1_there_13 : decode cX1_there 13 = .ok (.iconst 0, 1) := by decide +kernel
theorem dX1_there_14 : decode cX1_there 14 = .ok (.invokestatic 45, 3) := by decide +kernel
theorem dX1_there_17 : decode cX1_there 17 = .ok (.aload_n 0, 1) := by decide +kernel
theorem dX1_there_18 : decode cX1_there 18 = .ok (.getfield 17, 3) := by decide +kernel
theorem dX1_there_21 : decode cX1_there 21 = .ok (.iload_n 1, 1) := by decide +kernel
theorem dX1_there_22 : decode cX1_there 22 = .ok (.aaload, 1) := by decide +kernel
theorem dX1_there_23 : decode cX1_there 23 = .ok (.areturn, 1) := by decide +kernel
abbrev cX1_can : ByteArray := prog_1_method_5_code
def yX1_can : MethodName := ⟨RX1, "can", "(Z)V"⟩
theorem dX1_can_0 : decode cX1_can 0 = .ok (.iload_n 0, 1) := by decide +kernel
theorem dX1_can_1 : decode cX1_can 1 = .ok (.ifCond .ne 11, 3) := by decide +kernel
theorem dX1_can_4 : decode cX1_can 4 = .ok (.new 38, 3) := by decide +kernel
theorem dX1_can_7 : decode cX1_can 7 = .ok (.dup, 1) := by decide +kernel
theorem dX1_can_8 : decode cX1_can 8 = .ok (.invokespecial 40, 3) := by decide +kernel
theorem dX1_can_11 : decode cX1_can 11 = .ok (.athrow, 1) := by decide +kernel
theorem dX1_can_12 : decode cX1_can 12 = .ok (.return_, 1) := by decide +kernel
abbrev cX1_interrupted : ByteArray := prog_1_method_17_code
def yX1_interrupted : MethodName := ⟨RX1, "interrupted", "(LSyncHall$Task;)I"⟩
theorem dX1_interrupted_0 : decode cX1_interrupted 0 = .ok (.aload_n 1, 1) := by decide +kernel
theorem dX1_interrupted_1 : decode cX1_interrupted 1 = .ok (.iconst 0, 1) := by decide +kernel
theorem dX1_interrupted_2 : decode cX1_interrupted 2 = .ok (.putfield 117, 3) := by decide +kernel
theorem dX1_interrupted_5 : decode cX1_interrupted 5 = .ok (.aload_n 0, 1) := by decide +kernel
theorem dX1_interrupted_6 : decode cX1_interrupted 6 = .ok (.aload_n 1, 1) := by decide +kernel
theorem dX1_interrupted_7 : decode cX1_interrupted 7 = .ok (.iconst 3, 1) := by decide +kernel
theorem dX1_interrupted_8 : decode cX1_interrupted 8 = .ok (.invokevirtual 121, 3) := by decide +kernel
theorem dX1_interrupted_11 : decode cX1_interrupted 11 = .ok (.ireturn, 1) := by decide +kernel
abbrev cX1_ended : ByteArray := prog_1_method_16_code
def yX1_ended : MethodName := ⟨RX1, "ended", "(LSyncHall$Task;I)I"⟩
theorem dX1_ended_0 : decode cX1_ended 0 = .ok (.aload_n 1, 1) := by decide +kernel
theorem dX1_ended_1 : decode cX1_ended 1 = .ok (.iload_n 2, 1) := by decide +kernel
theorem dX1_ended_2 : decode cX1_ended 2 = .ok (.putfield 114, 3) := by decide +kernel
theorem dX1_ended_5 : decode cX1_ended 5 = .ok (.iload_n 2, 1) := by decide +kernel
theorem dX1_ended_6 : decode cX1_ended 6 = .ok (.ireturn, 1) := by decide +kernel
abbrev cX1_watch : ByteArray := prog_1_method_15_code
def yX1_watch : MethodName := ⟨RX1, "watch", "(LSyncHall$Task;I)V"⟩
theorem dX1_watch_0 : decode cX1_watch 0 = .ok (.aload_n 0, 1) := by decide +kernel
theorem dX1_watch_1 : decode cX1_watch 1 = .ok (.getfield 96, 3) := by decide +kernel
theorem dX1_watch_4 : decode cX1_watch 4 = .ok (.ifCond .eq 24, 3) := by decide +kernel
theorem dX1_watch_7 : decode cX1_watch 7 = .ok (.aload_n 0, 1) := by decide +kernel
theorem dX1_watch_8 : decode cX1_watch 8 = .ok (.getfield 17, 3) := by decide +kernel
theorem dX1_watch_11 : decode cX1_watch 11 = .ok (.iload_n 2, 1) := by decide +kernel
theorem dX1_watch_12 : decode cX1_watch 12 = .ok (.aaload, 1) := by decide +kernel
theorem dX1_watch_13 : decode cX1_watch 13 = .ok (.instanceof 52, 3) := by decide +kernel
theorem dX1_watch_16 : decode cX1_watch 16 = .ok (.ifCond .eq 12, 3) := by decide +kernel
theorem dX1_watch_19 : decode cX1_watch 19 = .ok (.aload_n 0, 1) := by decide +kernel
theorem dX1_watch_20 : decode cX1_watch 20 = .ok (.aload_n 1, 1) := by decide +kernel
theorem dX1_watch_21 : decode cX1_watch 21 = .ok (.iload_n 2, 1) := by decide +kernel
theorem dX1_watch_22 : decode cX1_watch 22 = .ok (.invokevirtual 100, 3) := by decide +kernel
theorem dX1_watch_25 : decode cX1_watch 25 = .ok (.ifCond .eq 4, 3) := by decide +kernel
theorem dX1_watch_28 : decode cX1_watch 28 = .ok (.return_, 1) := by decide +kernel
theorem dX1_watch_29 : decode cX1_watch 29 = .ok (.iconst 0, 1) := by decide +kernel
theorem dX1_watch_30 : decode cX1_watch 30 = .ok (.istore_n 3, 1) := by decide +kernel
theorem dX1_watch_31 : decode cX1_watch 31 = .ok (.iconst 0, 1) := by decide +kernel
theorem dX1_watch_32 : decode cX1_watch 32 = .ok (.istore 4, 2) := by decide +kernel
theorem dX1_watch_34 : decode cX1_watch 34 = .ok (.iload 4, 2) := by decide +kernel
theorem dX1_watch_36 : decode cX1_watch 36 = .ok (.bipush 8, 2) := by decide +kernel
theorem dX1_watch_38 : decode cX1_watch 38 = .ok (.if_icmp .ge 31, 3) := by decide +kernel
theorem dX1_watch_41 : decode cX1_watch 41 = .ok (.aload_n 0, 1) := by decide +kernel
theorem dX1_watch_42 : decode cX1_watch 42 = .ok (.aload_n 1, 1) := by decide +kernel
theorem dX1_watch_43 : decode cX1_watch 43 = .ok (.iload 4, 2) := by decide +kernel
theorem dX1_watch_45 : decode cX1_watch 45 = .ok (.invokevirtual 100, 3) := by decide +kernel
theorem dX1_watch_48 : decode cX1_watch 48 = .ok (.ifCond .eq 15, 3) := by decide +kernel
theorem dX1_watch_51 : decode cX1_watch 51 = .ok (.aload_n 0, 1) := by decide +kernel
theorem dX1_watch_52 : decode cX1_watch 52 = .ok (.iload_n 2, 1) := by decide +kernel
theorem dX1_watch_53 : decode cX1_watch 53 = .ok (.iload 4, 2) := by decide +kernel
theorem dX1_watch_55 : decode cX1_watch 55 = .ok (.invokevirtual 104, 3) := by decide +kernel
theorem dX1_watch_58 : decode cX1_watch 58 = .ok (.ifCond .eq 5, 3) := by decide +kernel
theorem dX1_watch_61 : decode cX1_watch 61 = .ok (.iconst 1, 1) := by decide +kernel
theorem dX1_watch_62 : decode cX1_watch 62 = .ok (.istore_n 3, 1) := by decide +kernel
theorem dX1_watch_63 : decode cX1_watch 63 = .ok (.iinc 4 1, 3) := by decide +kernel
theorem dX1_watch_66 : decode cX1_watch 66 = .ok (.goto (-32), 3) := by decide +kernel
theorem dX1_watch_69 : decode cX1_watch 69 = .ok (.iload_n 3, 1) := by decide +kernel
theorem dX1_watch_70 : decode cX1_watch 70 = .ok (.ifCond .eq 13, 3) := by decide +kernel
theorem dX1_watch_73 : decode cX1_watch 73 = .ok (.aload_n 0, 1) := by decide +kernel
theorem dX1_watch_74 : decode cX1_watch 74 = .ok (.dup, 1) := by decide +kernel
theorem dX1_watch_75 : decode cX1_watch 75 = .ok (.getfield 108, 3) := by decide +kernel
theorem dX1_watch_78 : decode cX1_watch 78 = .ok (.iconst 1, 1) := by decide +kernel
theorem dX1_watch_79 : decode cX1_watch 79 = .ok (.iadd, 1) := by decide +kernel
theorem dX1_watch_80 : decode cX1_watch 80 = .ok (.putfield 108, 3) := by decide +kernel
theorem dX1_watch_83 : decode cX1_watch 83 = .ok (.iload_n 3, 1) := by decide +kernel
theorem dX1_watch_84 : decode cX1_watch 84 = .ok (.ifCond .eq 11, 3) := by decide +kernel
theorem dX1_watch_87 : decode cX1_watch 87 = .ok (.aload_n 0, 1) := by decide +kernel
theorem dX1_watch_88 : decode cX1_watch 88 = .ok (.getfield 96, 3) := by decide +kernel
theorem dX1_watch_91 : decode cX1_watch 91 = .ok (.iconst 1, 1) := by decide +kernel
theorem dX1_watch_92 : decode cX1_watch 92 = .ok (.if_icmp .ne 7, 3) := by decide +kernel
theorem dX1_watch_95 : decode cX1_watch 95 = .ok (.iconst 1, 1) := by decide +kernel
theorem dX1_watch_96 : decode cX1_watch 96 = .ok (.goto 4, 3) := by decide +kernel
theorem dX1_watch_99 : decode cX1_watch 99 = .ok (.iconst 0, 1) := by decide +kernel
theorem dX1_watch_100 : decode cX1_watch 100 = .ok (.invokestatic 111, 3) := by decide +kernel
theorem dX1_watch_103 : decode cX1_watch 103 = .ok (.iconst 0, 1) := by decide +kernel
theorem dX1_watch_104 : decode cX1_watch 104 = .ok (.istore 4, 2) := by decide +kernel
theorem dX1_watch_106 : decode cX1_watch 106 = .ok (.iload 4, 2) := by decide +kernel
theorem dX1_watch_108 : decode cX1_watch 108 = .ok (.bipush 8, 2) := by decide +kernel
theorem dX1_watch_110 : decode cX1_watch 110 = .ok (.if_icmp .ge 29, 3) := by decide +kernel
theorem dX1_watch_113 : decode cX1_watch 113 = .ok (.aload_n 0, 1) := by decide +kernel
theorem dX1_watch_114 : decode cX1_watch 114 = .ok (.aload_n 1, 1) := by decide +kernel
theorem dX1_watch_115 : decode cX1_watch 115 = .ok (.iload 4, 2) := by decide +kernel
theorem dX1_watch_117 : decode cX1_watch 117 = .ok (.invokevirtual 100, 3) := by decide +kernel
theorem dX1_watch_120 : decode cX1_watch 120 = .ok (.ifCond .eq 13, 3) := by decide +kernel
theorem dX1_watch_123 : decode cX1_watch 123 = .ok (.aload_n 0, 1) := by decide +kernel
theorem dX1_watch_124 : decode cX1_watch 124 = .ok (.getfield 23, 3) := by decide +kernel
theorem dX1_watch_127 : decode cX1_watch 127 = .ok (.iload 4, 2) := by decide +kernel
theorem dX1_watch_129 : decode cX1_watch 129 = .ok (.aaload, 1) := by decide +kernel
theorem dX1_watch_130 : decode cX1_watch 130 = .ok (.iload_n 2, 1) := by decide +kernel
theorem dX1_watch_131 : decode cX1_watch 131 = .ok (.iconst 1, 1) := by decide +kernel
theorem dX1_watch_132 : decode cX1_watch 132 = .ok (.bastore, 1) := by decide +kernel
theorem dX1_watch_133 : decode cX1_watch 133 = .ok (.iinc 4 1, 3) := by decide +kernel
theorem dX1_watch_136 : decode cX1_watch 136 = .ok (.goto (-30), 3) := by decide +kernel
theorem dX1_watch_139 : decode cX1_watch 139 = .ok (.return_, 1) := by decide +kernel
abbrev cX1_owns : ByteArray := prog_1_method_14_code
def yX1_owns : MethodName := ⟨RX1, "owns", "(LSyncHall$Task;I)Z"⟩
theorem dX1_owns_0 : decode cX1_owns 0 = .ok (.aload_n 0, 1) := by decide +kernel
theorem dX1_owns_1 : decode cX1_owns 1 = .ok (.getfield 17, 3) := by decide +kernel
theorem dX1_owns_4 : decode cX1_owns 4 = .ok (.iload_n 2, 1) := by decide +kernel
theorem dX1_owns_5 : decode cX1_owns 5 = .ok (.aaload, 1) := by decide +kernel
theorem dX1_owns_6 : decode cX1_owns 6 = .ok (.instanceof 52, 3) := by decide +kernel
theorem dX1_owns_9 : decode cX1_owns 9 = .ok (.ifCond .eq 23, 3) := by decide +kernel
theorem dX1_owns_12 : decode cX1_owns 12 = .ok (.aload_n 0, 1) := by decide +kernel
theorem dX1_owns_13 : decode cX1_owns 13 = .ok (.getfield 17, 3) := by decide +kernel
theorem dX1_owns_16 : decode cX1_owns 16 = .ok (.iload_n 2, 1) := by decide +kernel
theorem dX1_owns_17 : decode cX1_owns 17 = .ok (.aaload, 1) := by decide +kernel
theorem dX1_owns_18 : decode cX1_owns 18 = .ok (.checkcast 52, 3) := by decide +kernel
theorem dX1_owns_21 : decode cX1_owns 21 = .ok (.aload_n 1, 1) := by decide +kernel
theorem dX1_owns_22 : decode cX1_owns 22 = .ok (.invokevirtual 92, 3) := by decide +kernel
theorem dX1_owns_25 : decode cX1_owns 25 = .ok (.ifCond .eq 7, 3) := by decide +kernel
theorem dX1_owns_28 : decode cX1_owns 28 = .ok (.iconst 1, 1) := by decide +kernel
theorem dX1_owns_29 : decode cX1_owns 29 = .ok (.goto 4, 3) := by decide +kernel
theorem dX1_owns_32 : decode cX1_owns 32 = .ok (.iconst 0, 1) := by decide +kernel
theorem dX1_owns_33 : decode cX1_owns 33 = .ok (.ireturn, 1) := by decide +kernel
abbrev cX1_leads : ByteArray := prog_1_method_13_code
def yX1_leads : MethodName := ⟨RX1, "leads", "(II)Z"⟩
theorem dX1_leads_0 : decode cX1_leads 0 = .ok (.bipush 8, 2) := by decide +kernel
theorem dX1_leads_2 : decode cX1_leads 2 = .ok (.newarray .boolean, 2) := by decide +kernel
theorem dX1_leads_4 : decode cX1_leads 4 = .ok (.astore_n 3, 1) := by decide +kernel
theorem dX1_leads_5 : decode cX1_leads 5 = .ok (.iconst 1, 1) := by decide +kernel
theorem dX1_leads_6 : decode cX1_leads 6 = .ok (.istore 4, 2) := by decide +kernel
theorem dX1_leads_8 : decode cX1_leads 8 = .ok (.iconst 0, 1) := by decide +kernel
theorem dX1_leads_9 : decode cX1_leads 9 = .ok (.istore 5, 2) := by decide +kernel
theorem dX1_leads_11 : decode cX1_leads 11 = .ok (.iload 5, 2) := by decide +kernel
theorem dX1_leads_13 : decode cX1_leads 13 = .ok (.bipush 8, 2) := by decide +kernel
theorem dX1_leads_15 : decode cX1_leads 15 = .ok (.if_icmp .ge 22, 3) := by decide +kernel
theorem dX1_leads_18 : decode cX1_leads 18 = .ok (.aload_n 3, 1) := by decide +kernel
theorem dX1_leads_19 : decode cX1_leads 19 = .ok (.iload 5, 2) := by decide +kernel
theorem dX1_leads_21 : decode cX1_leads 21 = .ok (.aload_n 0, 1) := by decide +kernel
theorem dX1_leads_22 : decode cX1_leads 22 = .ok (.getfield 23, 3) := by decide +kernel
theorem dX1_leads_25 : decode cX1_leads 25 = .ok (.iload_n 1, 1) := by decide +kernel
theorem dX1_leads_26 : decode cX1_leads 26 = .ok (.aaload, 1) := by decide +kernel
theorem dX1_leads_27 : decode cX1_leads 27 = .ok (.iload 5, 2) := by decide +kernel
theorem dX1_leads_29 : decode cX1_leads 29 = .ok (.baload, 1) := by decide +kernel
theorem dX1_leads_30 : decode cX1_leads 30 = .ok (.bastore, 1) := by decide +kernel
theorem dX1_leads_31 : decode cX1_leads 31 = .ok (.iinc 5 1, 3) := by decide +kernel
theorem dX1_leads_34 : decode cX1_leads 34 = .ok (.goto (-23), 3) := by decide +kernel
theorem dX1_leads_37 : decode cX1_leads 37 = .ok (.iload 4, 2) := by decide +kernel
theorem dX1_leads_39 : decode cX1_leads 39 = .ok (.ifCond .eq 79, 3) := by decide +kernel
theorem dX1_leads_42 : decode cX1_leads 42 = .ok (.iconst 0, 1) := by decide +kernel
theorem dX1_leads_43 : decode cX1_leads 43 = .ok (.istore 4, 2) := by decide +kernel
theorem dX1_leads_45 : decode cX1_leads 45 = .ok (.iconst 0, 1) := by decide +kernel
theorem dX1_leads_46 : decode cX1_leads 46 = .ok (.istore 5, 2) := by decide +kernel
theorem dX1_leads_48 : decode cX1_leads 48 = .ok (.iload 5, 2) := by decide +kernel
theorem dX1_leads_50 : decode cX1_leads 50 = .ok (.bipush 8, 2) := by decide +kernel
theorem dX1_leads_52 : decode cX1_leads 52 = .ok (.if_icmp .ge 63, 3) := by decide +kernel
theorem dX1_leads_55 : decode cX1_leads 55 = .ok (.iconst 0, 1) := by decide +kernel
theorem dX1_leads_56 : decode cX1_leads 56 = .ok (.istore 6, 2) := by decide +kernel
theorem dX1_leads_58 : decode cX1_leads 58 = .ok (.iload 6, 2) := by decide +kernel
theorem dX1_leads_60 : decode cX1_leads 60 = .ok (.bipush 8, 2) := by decide +kernel
theorem dX1_leads_62 : decode cX1_leads 62 = .ok (.if_icmp .ge 47, 3) := by decide +kernel
theorem dX1_leads_65 : decode cX1_leads 65 = .ok (.aload_n 3, 1) := by decide +kernel
theorem dX1_leads_66 : decode cX1_leads 66 = .ok (.iload 5, 2) := by decide +kernel
theorem dX1_leads_68 : decode cX1_leads 68 = .ok (.baload, 1) := by decide +kernel
theorem dX1_leads_69 : decode cX1_leads 69 = .ok (.ifCond .eq 34, 3) := by decide +kernel
theorem dX1_leads_72 : decode cX1_leads 72 = .ok (.aload_n 0, 1) := by decide +kernel
theorem dX1_leads_73 : decode cX1_leads 73 = .ok (.getfield 23, 3) := by decide +kernel
theorem dX1_leads_76 : decode cX1_leads 76 = .ok (.iload 5, 2) := by decide +kernel
theorem dX1_leads_78 : decode cX1_leads 78 = .ok (.aaload, 1) := by decide +kernel
theorem dX1_leads_79 : decode cX1_leads 79 = .ok (.iload 6, 2) := by decide +kernel
theorem dX1_leads_81 : decode cX1_leads 81 = .ok (.baload, 1) := by decide +kernel
theorem dX1_leads_82 : decode cX1_leads 82 = .ok (.ifCond .eq 21, 3) := by decide +kernel
theorem dX1_leads_85 : decode cX1_leads 85 = .ok (.aload_n 3, 1) := by decide +kernel
theorem dX1_leads_86 : decode cX1_leads 86 = .ok (.iload 6, 2) := by decide +kernel
theorem dX1_leads_88 : decode cX1_leads 88 = .ok (.baload, 1) := by decide +kernel
theorem dX1_leads_89 : decode cX1_leads 89 = .ok (.ifCond .eq 6, 3) := by decide +kernel
theorem dX1_leads_92 : decode cX1_leads 92 = .ok (.goto 11, 3) := by decide +kernel
theorem dX1_leads_95 : decode cX1_leads 95 = .ok (.aload_n 3, 1) := by decide +kernel
theorem dX1_leads_96 : decode cX1_leads 96 = .ok (.iload 6, 2) := by decide +kernel
theorem dX1_leads_98 : decode cX1_leads 98 = .ok (.iconst 1, 1) := by decide +kernel
theorem dX1_leads_99 : decode cX1_leads 99 = .ok (.bastore, 1) := by decide +kernel
theorem dX1_leads_100 : decode cX1_leads 100 = .ok (.iconst 1, 1) := by decide +kernel
theorem dX1_leads_101 : decode cX1_leads 101 = .ok (.istore 4, 2) := by decide +kernel
theorem dX1_leads_103 : decode cX1_leads 103 = .ok (.iinc 6 1, 3) := by decide +kernel
theorem dX1_leads_106 : decode cX1_leads 106 = .ok (.goto (-48), 3) := by decide +kernel
theorem dX1_leads_109 : decode cX1_leads 109 = .ok (.iinc 5 1, 3) := by decide +kernel
theorem dX1_leads_112 : decode cX1_leads 112 = .ok (.goto (-64), 3) := by decide +kernel
theorem dX1_leads_115 : decode cX1_leads 115 = .ok (.goto (-78), 3) := by decide +kernel
theorem dX1_leads_118 : decode cX1_leads 118 = .ok (.aload_n 3, 1) := by decide +kernel
theorem dX1_leads_119 : decode cX1_leads 119 = .ok (.iload_n 2, 1) := by decide +kernel
theorem dX1_leads_120 : decode cX1_leads 120 = .ok (.baload, 1) := by decide +kernel
theorem dX1_leads_121 : decode cX1_leads 121 = .ok (.ireturn, 1) := by decide +kernel
abbrev cX1_endOf : ByteArray := prog_1_method_18_code
def yX1_endOf : MethodName := ⟨RX1, "endOf", "(D)D"⟩
theorem dX1_endOf_0 : decode cX1_endOf 0 = .ok (.dload_n 1, 1) := by decide +kernel
theorem dX1_endOf_1 : decode cX1_endOf 1 = .ok (.dconst 0, 1) := by decide +kernel
theorem dX1_endOf_2 : decode cX1_endOf 2 = .ok (.dcmp .g, 1) := by decide +kernel
theorem dX1_endOf_3 : decode cX1_endOf 3 = .ok (.ifCond .ge 9, 3) := by decide +kernel
theorem dX1_endOf_6 : decode cX1_endOf 6 = .ok (.ldc2_w 48, 3) := by decide +kernel
theorem dX1_endOf_9 : decode cX1_endOf 9 = .ok (.goto 9, 3) := by decide +kernel
theorem dX1_endOf_12 : decode cX1_endOf 12 = .ok (.aload_n 0, 1) := by decide +kernel
theorem dX1_endOf_13 : decode cX1_endOf 13 = .ok (.getfield 125, 3) := by decide +kernel
theorem dX1_endOf_16 : decode cX1_endOf 16 = .ok (.dload_n 1, 1) := by decide +kernel
theorem dX1_endOf_17 : decode cX1_endOf 17 = .ok (.dadd, 1) := by decide +kernel
theorem dX1_endOf_18 : decode cX1_endOf 18 = .ok (.dreturn, 1) := by decide +kernel
abbrev cX1_release : ByteArray := prog_1_method_20_code
def yX1_release : MethodName := ⟨RX1, "release", "(III)I"⟩
theorem dX1_release_0 : decode cX1_release 0 = .ok (.aload_n 0, 1) := by decide +kernel
theorem dX1_release_1 : decode cX1_release 1 = .ok (.iload_n 1, 1) := by decide +kernel
theorem dX1_release_2 : decode cX1_release 2 = .ok (.invokevirtual 82, 3) := by decide +kernel
theorem dX1_release_5 : decode cX1_release 5 = .ok (.astore 4, 2) := by decide +kernel
theorem dX1_release_7 : decode cX1_release 7 = .ok (.iload_n 2, 1) := by decide +kernel
theorem dX1_release_8 : decode cX1_release 8 = .ok (.invokestatic 72, 3) := by decide +kernel
theorem dX1_release_11 : decode cX1_release 11 = .ok (.iload_n 3, 1) := by decide +kernel
theorem dX1_release_12 : decode cX1_release 12 = .ok (.ifCond .eq 8, 3) := by decide +kernel
theorem dX1_release_15 : decode cX1_release 15 = .ok (.iload_n 3, 1) := by decide +kernel
theorem dX1_release_16 : decode cX1_release 16 = .ok (.iconst 1, 1) := by decide +kernel
theorem dX1_release_17 : decode cX1_release 17 = .ok (.if_icmp .ne 7, 3) := by decide +kernel
theorem dX1_release_20 : decode cX1_release 20 = .ok (.iconst 1, 1) := by decide +kernel
theorem dX1_release_21 : decode cX1_release 21 = .ok (.goto 4, 3) := by decide +kernel
theorem dX1_release_24 : decode cX1_release 24 = .ok (.iconst 0, 1) := by decide +kernel
theorem dX1_release_25 : decode cX1_release 25 = .ok (.invokestatic 41, 3) := by decide +kernel
theorem dX1_release_28 : decode cX1_release 28 = .ok (.aload_n 0, 1) := by decide +kernel
theorem dX1_release_29 : decode cX1_release 29 = .ok (.iload_n 2, 1) := by decide +kernel
theorem dX1_release_30 : decode cX1_release 30 = .ok (.invokevirtual 132, 3) := by decide +kernel
theorem dX1_release_33 : decode cX1_release 33 = .ok (.astore 5, 2) := by decide +kernel
theorem dX1_release_35 : decode cX1_release 35 = .ok (.aload 4, 2) := by decide +kernel
theorem dX1_release_37 : decode cX1_release 37 = .ok (.invokevirtual 136, 3) := by decide +kernel
theorem dX1_release_40 : decode cX1_release 40 = .ok (.ifCond .ne 7, 3) := by decide +kernel
theorem dX1_release_43 : decode cX1_release 43 = .ok (.iconst 1, 1) := by decide +kernel
theorem dX1_release_44 : decode cX1_release 44 = .ok (.goto 4, 3) := by decide +kernel
theorem dX1_release_47 : decode cX1_release 47 = .ok (.iconst 0, 1) := by decide +kernel
theorem dX1_release_48 : decode cX1_release 48 = .ok (.invokestatic 75, 3) := by decide +kernel
theorem dX1_release_51 : decode cX1_release 51 = .ok (.aload 5, 2) := by decide +kernel
theorem dX1_release_53 : decode cX1_release 53 = .ok (.invokevirtual 175, 3) := by decide +kernel
theorem dX1_release_56 : decode cX1_release 56 = .ok (.istore 6, 2) := by decide +kernel
theorem dX1_release_58 : decode cX1_release 58 = .ok (.aload 5, 2) := by decide +kernel
theorem dX1_release_60 : decode cX1_release 60 = .ok (.aload 4, 2) := by decide +kernel
theorem dX1_release_62 : decode cX1_release 62 = .ok (.iload_n 3, 1) := by decide +kernel
theorem dX1_release_63 : decode cX1_release 63 = .ok (.iconst 1, 1) := by decide +kernel
theorem dX1_release_64 : decode cX1_release 64 = .ok (.if_icmp .ne 7, 3) := by decide +kernel
theorem dX1_release_67 : decode cX1_release 67 = .ok (.iconst 1, 1) := by decide +kernel
theorem dX1_release_68 : decode cX1_release 68 = .ok (.goto 4, 3) := by decide +kernel
theorem dX1_release_71 : decode cX1_release 71 = .ok (.iconst 0, 1) := by decide +kernel
theorem dX1_release_72 : decode cX1_release 72 = .ok (.invokevirtual 179, 3) := by decide +kernel
theorem dX1_release_75 : decode cX1_release 75 = .ok (.aload 5, 2) := by decide +kernel
theorem dX1_release_77 : decode cX1_release 77 = .ok (.aload_n 0, 1) := by decide +kernel
theorem dX1_release_78 : decode cX1_release 78 = .ok (.getfield 125, 3) := by decide +kernel
theorem dX1_release_81 : decode cX1_release 81 = .ok (.invokevirtual 182, 3) := by decide +kernel
theorem dX1_release_84 : decode cX1_release 84 = .ok (.iload 6, 2) := by decide +kernel
theorem dX1_release_86 : decode cX1_release 86 = .ok (.ireturn, 1) := by decide +kernel
abbrev cX1_await : ByteArray := prog_1_method_22_code
def yX1_await : MethodName := ⟨RX1, "await", "(IID)I"⟩
theorem dX1_await_0 : decode cX1_await 0 = .ok (.aload_n 0, 1) := by decide +kernel
theorem dX1_await_1 : decode cX1_await 1 = .ok (.iload_n 1, 1) := by decide +kernel
theorem dX1_await_2 : decode cX1_await 2 = .ok (.invokevirtual 82, 3) := by decide +kernel
theorem dX1_await_5 : decode cX1_await 5 = .ok (.astore 5, 2) := by decide +kernel
theorem dX1_await_7 : decode cX1_await 7 = .ok (.iload_n 2, 1) := by decide +kernel
theorem dX1_await_8 : decode cX1_await 8 = .ok (.invokestatic 72, 3) := by decide +kernel
theorem dX1_await_11 : decode cX1_await 11 = .ok (.dload_n 3, 1) := by decide +kernel
theorem dX1_await_12 : decode cX1_await 12 = .ok (.invokestatic 128, 3) := by decide +kernel
theorem dX1_await_15 : decode cX1_await 15 = .ok (.aload_n 0, 1) := by decide +kernel
theorem dX1_await_16 : decode cX1_await 16 = .ok (.aload 5, 2) := by decide +kernel
theorem dX1_await_18 : decode cX1_await 18 = .ok (.iload_n 2, 1) := by decide +kernel
theorem dX1_await_19 : decode cX1_await 19 = .ok (.invokevirtual 189, 3) := by decide +kernel
theorem dX1_await_22 : decode cX1_await 22 = .ok (.astore 6, 2) := by decide +kernel
theorem dX1_await_24 : decode cX1_await 24 = .ok (.aload 5, 2) := by decide +kernel
theorem dX1_await_26 : decode cX1_await 26 = .ok (.getfield 117, 3) := by decide +kernel
theorem dX1_await_29 : decode cX1_await 29 = .ok (.ifCond .eq 10, 3) := by decide +kernel
theorem dX1_await_32 : decode cX1_await 32 = .ok (.aload_n 0, 1) := by decide +kernel
theorem dX1_await_33 : decode cX1_await 33 = .ok (.aload 5, 2) := by decide +kernel
theorem dX1_await_35 : decode cX1_await 35 = .ok (.invokevirtual 140, 3) := by decide +kernel
theorem dX1_await_38 : decode cX1_await 38 = .ok (.ireturn, 1) := by decide +kernel
theorem dX1_await_39 : decode cX1_await 39 = .ok (.new 162, 3) := by decide +kernel
theorem dX1_await_42 : decode cX1_await 42 = .ok (.dup, 1) := by decide +kernel
theorem dX1_await_43 : decode cX1_await 43 = .ok (.aload 5, 2) := by decide +kernel
theorem dX1_await_45 : decode cX1_await 45 = .ok (.aload 6, 2) := by decide +kernel
theorem dX1_await_47 : decode cX1_await 47 = .ok (.iconst 0, 1) := by decide +kernel
theorem dX1_await_48 : decode cX1_await 48 = .ok (.aload_n 0, 1) := by decide +kernel
theorem dX1_await_49 : decode cX1_await 49 = .ok (.dload_n 3, 1) := by decide +kernel
theorem dX1_await_50 : decode cX1_await 50 = .ok (.invokevirtual 164, 3) := by decide +kernel
theorem dX1_await_53 : decode cX1_await 53 = .ok (.aload_n 0, 1) := by decide +kernel
theorem dX1_await_54 : decode cX1_await 54 = .ok (.getfield 125, 3) := by decide +kernel
theorem dX1_await_57 : decode cX1_await 57 = .ok (.aload 6, 2) := by decide +kernel
theorem dX1_await_59 : decode cX1_await 59 = .ok (.invokevirtual 185, 3) := by decide +kernel
theorem dX1_await_62 : decode cX1_await 62 = .ok (.invokevirtual 193, 3) := by decide +kernel
theorem dX1_await_65 : decode cX1_await 65 = .ok (.iconst 0, 1) := by decide +kernel
theorem dX1_await_66 : decode cX1_await 66 = .ok (.invokespecial 168, 3) := by decide +kernel
theorem dX1_await_69 : decode cX1_await 69 = .ok (.astore 7, 2) := by decide +kernel
theorem dX1_await_71 : decode cX1_await 71 = .ok (.aload 6, 2) := by decide +kernel
theorem dX1_await_73 : decode cX1_await 73 = .ok (.aload 7, 2) := by decide +kernel
theorem dX1_await_75 : decode cX1_await 75 = .ok (.invokevirtual 196, 3) := by decide +kernel
theorem dX1_await_78 : decode cX1_await 78 = .ok (.aload 5, 2) := by decide +kernel
theorem dX1_await_80 : decode cX1_await 80 = .ok (.iconst 0, 1) := by decide +kernel
theorem dX1_await_81 : decode cX1_await 81 = .ok (.putfield 114, 3) := by decide +kernel
theorem dX1_await_84 : decode cX1_await 84 = .ok (.dload_n 3, 1) := by decide +kernel
theorem dX1_await_85 : decode cX1_await 85 = .ok (.dconst 0, 1) := by decide +kernel
theorem dX1_await_86 : decode cX1_await 86 = .ok (.dcmp .l, 1) := by decide +kernel
theorem dX1_await_87 : decode cX1_await 87 = .ok (.ifCond .ne 18, 3) := by decide +kernel
theorem dX1_await_90 : decode cX1_await 90 = .ok (.aload 6, 2) := by decide +kernel
theorem dX1_await_92 : decode cX1_await 92 = .ok (.aload 7, 2) := by decide +kernel
theorem dX1_await_94 : decode cX1_await 94 = .ok (.iconst 2, 1) := by decide +kernel
theorem dX1_await_95 : decode cX1_await 95 = .ok (.aload_n 0, 1) := by decide +kernel
theorem dX1_await_96 : decode cX1_await 96 = .ok (.getfield 125, 3) := by decide +kernel
theorem dX1_await_99 : decode cX1_await 99 = .ok (.invokevirtual 197, 3) := by decide +kernel
theorem dX1_await_102 : decode cX1_await 102 = .ok (.goto 15, 3) := by decide +kernel
theorem dX1_await_105 : decode cX1_await 105 = .ok (.aload 6, 2) := by decide +kernel
theorem dX1_await_107 : decode cX1_await 107 = .ok (.invokevirtual 185, 3) := by decide +kernel
theorem dX1_await_110 : decode cX1_await 110 = .ok (.aload_n 0, 1) := by decide +kernel
theorem dX1_await_111 : decode cX1_await 111 = .ok (.getfield 125, 3) := by decide +kernel
theorem dX1_await_114 : decode cX1_await 114 = .ok (.invokevirtual 201, 3) := by decide +kernel
theorem dX1_await_117 : decode cX1_await 117 = .ok (.aload 5, 2) := by decide +kernel
theorem dX1_await_119 : decode cX1_await 119 = .ok (.getfield 114, 3) := by decide +kernel
theorem dX1_await_122 : decode cX1_await 122 = .ok (.ireturn, 1) := by decide +kernel
abbrev cX1_owned : ByteArray := prog_1_method_21_code
def yX1_owned : MethodName := ⟨RX1, "owned", "(LSyncHall$Task;I)LSyncHall$Condition;"⟩
theorem dX1_owned_0 : decode cX1_owned 0 = .ok (.aload_n 0, 1) := by decide +kernel
theorem dX1_owned_1 : decode cX1_owned 1 = .ok (.iload_n 2, 1) := by decide +kernel
theorem dX1_owned_2 : decode cX1_owned 2 = .ok (.invokevirtual 132, 3) := by decide +kernel
theorem dX1_owned_5 : decode cX1_owned 5 = .ok (.astore_n 3, 1) := by decide +kernel
theorem dX1_owned_6 : decode cX1_owned 6 = .ok (.aload_n 1, 1) := by decide +kernel
theorem dX1_owned_7 : decode cX1_owned 7 = .ok (.invokevirtual 136, 3) := by decide +kernel
theorem dX1_owned_10 : decode cX1_owned 10 = .ok (.ifCond .ne 7, 3) := by decide +kernel
theorem dX1_owned_13 : decode cX1_owned 13 = .ok (.iconst 1, 1) := by decide +kernel
theorem dX1_owned_14 : decode cX1_owned 14 = .ok (.goto 4, 3) := by decide +kernel
theorem dX1_owned_17 : decode cX1_owned 17 = .ok (.iconst 0, 1) := by decide +kernel
theorem dX1_owned_18 : decode cX1_owned 18 = .ok (.invokestatic 75, 3) := by decide +kernel
theorem dX1_owned_21 : decode cX1_owned 21 = .ok (.aload_n 3, 1) := by decide +kernel
theorem dX1_owned_22 : decode cX1_owned 22 = .ok (.instanceof 67, 3) := by decide +kernel
theorem dX1_owned_25 : decode cX1_owned 25 = .ok (.invokestatic 111, 3) := by decide +kernel
theorem dX1_owned_28 : decode cX1_owned 28 = .ok (.aload_n 3, 1) := by decide +kernel
theorem dX1_owned_29 : decode cX1_owned 29 = .ok (.checkcast 67, 3) := by decide +kernel
theorem dX1_owned_32 : decode cX1_owned 32 = .ok (.astore 4, 2) := by decide +kernel
theorem dX1_owned_34 : decode cX1_owned 34 = .ok (.aload 4, 2) := by decide +kernel
theorem dX1_owned_36 : decode cX1_owned 36 = .ok (.invokevirtual 185, 3) := by decide +kernel
theorem dX1_owned_39 : decode cX1_owned 39 = .ok (.aload_n 1, 1) := by decide +kernel
theorem dX1_owned_40 : decode cX1_owned 40 = .ok (.invokevirtual 92, 3) := by decide +kernel
theorem dX1_owned_43 : decode cX1_owned 43 = .ok (.invokestatic 75, 3) := by decide +kernel
theorem dX1_owned_46 : decode cX1_owned 46 = .ok (.aload 4, 2) := by decide +kernel
theorem dX1_owned_48 : decode cX1_owned 48 = .ok (.areturn, 1) := by decide +kernel
abbrev cX1_signal : ByteArray := prog_1_method_23_code
def yX1_signal : MethodName := ⟨RX1, "signal", "(IIZ)I"⟩
theorem dX1_signal_0 : decode cX1_signal 0 = .ok (.aload_n 0, 1) := by decide +kernel
theorem dX1_signal_1 : decode cX1_signal 1 = .ok (.iload_n 1, 1) := by decide +kernel
theorem dX1_signal_2 : decode cX1_signal 2 = .ok (.invokevirtual 82, 3) := by decide +kernel
theorem dX1_signal_5 : decode cX1_signal 5 = .ok (.astore 4, 2) := by decide +kernel
theorem dX1_signal_7 : decode cX1_signal 7 = .ok (.iload_n 2, 1) := by decide +kernel
theorem dX1_signal_8 : decode cX1_signal 8 = .ok (.invokestatic 72, 3) := by decide +kernel
theorem dX1_signal_11 : decode cX1_signal 11 = .ok (.aload_n 0, 1) := by decide +kernel
theorem dX1_signal_12 : decode cX1_signal 12 = .ok (.aload 4, 2) := by decide +kernel
theorem dX1_signal_14 : decode cX1_signal 14 = .ok (.iload_n 2, 1) := by decide +kernel
theorem dX1_signal_15 : decode cX1_signal 15 = .ok (.invokevirtual 189, 3) := by decide +kernel
theorem dX1_signal_18 : decode cX1_signal 18 = .ok (.astore 5, 2) := by decide +kernel
theorem dX1_signal_20 : decode cX1_signal 20 = .ok (.iconst 0, 1) := by decide +kernel
theorem dX1_signal_21 : decode cX1_signal 21 = .ok (.istore 6, 2) := by decide +kernel
theorem dX1_signal_23 : decode cX1_signal 23 = .ok (.aload 5, 2) := by decide +kernel
theorem dX1_signal_25 : decode cX1_signal 25 = .ok (.getfield 202, 3) := by decide +kernel
theorem dX1_signal_28 : decode cX1_signal 28 = .ok (.ifnull 33, 3) := by decide +kernel
theorem dX1_signal_31 : decode cX1_signal 31 = .ok (.iload_n 3, 1) := by decide +kernel
theorem dX1_signal_32 : decode cX1_signal 32 = .ok (.ifCond .ne 8, 3) := by decide +kernel
theorem dX1_signal_35 : decode cX1_signal 35 = .ok (.iload 6, 2) := by decide +kernel
theorem dX1_signal_37 : decode cX1_signal 37 = .ok (.ifCond .ne 24, 3) := by decide +kernel
theorem dX1_signal_40 : decode cX1_signal 40 = .ok (.aload 5, 2) := by decide +kernel
theorem dX1_signal_42 : decode cX1_signal 42 = .ok (.aload 5, 2) := by decide +kernel
theorem dX1_signal_44 : decode cX1_signal 44 = .ok (.getfield 202, 3) := by decide +kernel
theorem dX1_signal_47 : decode cX1_signal 47 = .ok (.iconst 1, 1) := by decide +kernel
theorem dX1_signal_48 : decode cX1_signal 48 = .ok (.aload_n 0, 1) := by decide +kernel
theorem dX1_signal_49 : decode cX1_signal 49 = .ok (.getfield 125, 3) := by decide +kernel
theorem dX1_signal_52 : decode cX1_signal 52 = .ok (.invokevirtual 197, 3) := by decide +kernel
theorem dX1_signal_55 : decode cX1_signal 55 = .ok (.iinc 6 1, 3) := by decide +kernel
theorem dX1_signal_58 : decode cX1_signal 58 = .ok (.goto (-35), 3) := by decide +kernel
theorem dX1_signal_61 : decode cX1_signal 61 = .ok (.iload 6, 2) := by decide +kernel
theorem dX1_signal_63 : decode cX1_signal 63 = .ok (.ireturn, 1) := by decide +kernel
abbrev cX1_interrupt : ByteArray := prog_1_method_25_code
def yX1_interrupt : MethodName := ⟨RX1, "interrupt", "(I)I"⟩
theorem dX1_interrupt_0 : decode cX1_interrupt 0 = .ok (.aload_n 0, 1) := by decide +kernel
theorem dX1_interrupt_1 : decode cX1_interrupt 1 = .ok (.iload_n 1, 1) := by decide +kernel
theorem dX1_interrupt_2 : decode cX1_interrupt 2 = .ok (.invokevirtual 82, 3) := by decide +kernel
theorem dX1_interrupt_5 : decode cX1_interrupt 5 = .ok (.astore_n 2, 1) := by decide +kernel
theorem dX1_interrupt_6 : decode cX1_interrupt 6 = .ok (.aload_n 2, 1) := by decide +kernel
theorem dX1_interrupt_7 : decode cX1_interrupt 7 = .ok (.invokevirtual 136, 3) := by decide +kernel
theorem dX1_interrupt_10 : decode cX1_interrupt 10 = .ok (.ifCond .eq 26, 3) := by decide +kernel
theorem dX1_interrupt_13 : decode cX1_interrupt 13 = .ok (.aload_n 2, 1) := by decide +kernel
theorem dX1_interrupt_14 : decode cX1_interrupt 14 = .ok (.getfield 216, 3) := by decide +kernel
theorem dX1_interrupt_17 : decode cX1_interrupt 17 = .ok (.invokevirtual 219, 3) := by decide +kernel
theorem dX1_interrupt_20 : decode cX1_interrupt 20 = .ok (.ifCond .eq 24, 3) := by decide +kernel
theorem dX1_interrupt_23 : decode cX1_interrupt 23 = .ok (.aload_n 2, 1) := by decide +kernel
theorem dX1_interrupt_24 : decode cX1_interrupt 24 = .ok (.getfield 216, 3) := by decide +kernel
theorem dX1_interrupt_27 : decode cX1_interrupt 27 = .ok (.invokevirtual 206, 3) := by decide +kernel
theorem dX1_interrupt_30 : decode cX1_interrupt 30 = .ok (.instanceof 52, 3) := by decide +kernel
theorem dX1_interrupt_33 : decode cX1_interrupt 33 = .ok (.ifCond .eq 11, 3) := by decide +kernel
theorem dX1_interrupt_36 : decode cX1_interrupt 36 = .ok (.aload_n 2, 1) := by decide +kernel
theorem dX1_interrupt_37 : decode cX1_interrupt 37 = .ok (.iconst 1, 1) := by decide +kernel
theorem dX1_interrupt_38 : decode cX1_interrupt 38 = .ok (.putfield 117, 3) := by decide +kernel
theorem dX1_interrupt_41 : decode cX1_interrupt 41 = .ok (.goto 12, 3) := by decide +kernel
theorem dX1_interrupt_44 : decode cX1_interrupt 44 = .ok (.aload_n 0, 1) := by decide +kernel
theorem dX1_interrupt_45 : decode cX1_interrupt 45 = .ok (.aload_n 2, 1) := by decide +kernel
theorem dX1_interrupt_46 : decode cX1_interrupt 46 = .ok (.getfield 216, 3) := by decide +kernel
theorem dX1_interrupt_49 : decode cX1_interrupt 49 = .ok (.iconst 3, 1) := by decide +kernel
theorem dX1_interrupt_50 : decode cX1_interrupt 50 = .ok (.invokevirtual 222, 3) := by decide +kernel
theorem dX1_interrupt_53 : decode cX1_interrupt 53 = .ok (.aload_n 2, 1) := by decide +kernel
theorem dX1_interrupt_54 : decode cX1_interrupt 54 = .ok (.getfield 114, 3) := by decide +kernel
theorem dX1_interrupt_57 : decode cX1_interrupt 57 = .ok (.ireturn, 1) := by decide +kernel
abbrev cX1_giveUp : ByteArray := prog_1_method_24_code
def yX1_giveUp : MethodName := ⟨RX1, "giveUp", "(LSyncHall$Waiter;I)V"⟩
theorem dX1_giveUp_0 : decode cX1_giveUp 0 = .ok (.aload_n 1, 1) := by decide +kernel
theorem dX1_giveUp_1 : decode cX1_giveUp 1 = .ok (.invokevirtual 206, 3) := by decide +kernel
theorem dX1_giveUp_4 : decode cX1_giveUp 4 = .ok (.astore_n 3, 1) := by decide +kernel
theorem dX1_giveUp_5 : decode cX1_giveUp 5 = .ok (.aload_n 3, 1) := by decide +kernel
theorem dX1_giveUp_6 : decode cX1_giveUp 6 = .ok (.instanceof 67, 3) := by decide +kernel
theorem dX1_giveUp_9 : decode cX1_giveUp 9 = .ok (.ifCond .eq 17, 3) := by decide +kernel
theorem dX1_giveUp_12 : decode cX1_giveUp 12 = .ok (.aload_n 3, 1) := by decide +kernel
theorem dX1_giveUp_13 : decode cX1_giveUp 13 = .ok (.checkcast 67, 3) := by decide +kernel
theorem dX1_giveUp_16 : decode cX1_giveUp 16 = .ok (.aload_n 1, 1) := by decide +kernel
theorem dX1_giveUp_17 : decode cX1_giveUp 17 = .ok (.iload_n 2, 1) := by decide +kernel
theorem dX1_giveUp_18 : decode cX1_giveUp 18 = .ok (.aload_n 0, 1) := by decide +kernel
theorem dX1_giveUp_19 : decode cX1_giveUp 19 = .ok (.getfield 125, 3) := by decide +kernel
theorem dX1_giveUp_22 : decode cX1_giveUp 22 = .ok (.invokevirtual 197, 3) := by decide +kernel
theorem dX1_giveUp_25 : decode cX1_giveUp 25 = .ok (.return_, 1) := by decide +kernel
theorem dX1_giveUp_26 : decode cX1_giveUp 26 = .ok (.aload_n 3, 1) := by decide +kernel
theorem dX1_giveUp_27 : decode cX1_giveUp 27 = .ok (.aload_n 1, 1) := by decide +kernel
theorem dX1_giveUp_28 : decode cX1_giveUp 28 = .ok (.invokevirtual 210, 3) := by decide +kernel
theorem dX1_giveUp_31 : decode cX1_giveUp 31 = .ok (.aload_n 1, 1) := by decide +kernel
theorem dX1_giveUp_32 : decode cX1_giveUp 32 = .ok (.invokevirtual 213, 3) := by decide +kernel
theorem dX1_giveUp_35 : decode cX1_giveUp 35 = .ok (.iload_n 2, 1) := by decide +kernel
theorem dX1_giveUp_36 : decode cX1_giveUp 36 = .ok (.putfield 114, 3) := by decide +kernel
theorem dX1_giveUp_39 : decode cX1_giveUp 39 = .ok (.aload_n 3, 1) := by decide +kernel
theorem dX1_giveUp_40 : decode cX1_giveUp 40 = .ok (.aload_n 0, 1) := by decide +kernel
theorem dX1_giveUp_41 : decode cX1_giveUp 41 = .ok (.getfield 125, 3) := by decide +kernel
theorem dX1_giveUp_44 : decode cX1_giveUp 44 = .ok (.invokevirtual 182, 3) := by decide +kernel
theorem dX1_giveUp_47 : decode cX1_giveUp 47 = .ok (.return_, 1) := by decide +kernel
abbrev cX1_tick : ByteArray := prog_1_method_27_code
def yX1_tick : MethodName := ⟨RX1, "tick", "(D)I"⟩
theorem dX1_tick_0 : decode cX1_tick 0 = .ok (.dload_n 1, 1) := by decide +kernel
theorem dX1_tick_1 : decode cX1_tick 1 = .ok (.dconst 0, 1) := by decide +kernel
theorem dX1_tick_2 : decode cX1_tick 2 = .ok (.dcmp .l, 1) := by decide +kernel
theorem dX1_tick_3 : decode cX1_tick 3 = .ok (.ifCond .lt 15, 3) := by decide +kernel
theorem dX1_tick_6 : decode cX1_tick 6 = .ok (.dload_n 1, 1) := by decide +kernel
theorem dX1_tick_7 : decode cX1_tick 7 = .ok (.ldc2_w 50, 3) := by decide +kernel
theorem dX1_tick_10 : decode cX1_tick 10 = .ok (.dcmp .g, 1) := by decide +kernel
theorem dX1_tick_11 : decode cX1_tick 11 = .ok (.ifCond .gt 7, 3) := by decide +kernel
theorem dX1_tick_14 : decode cX1_tick 14 = .ok (.iconst 1, 1) := by decide +kernel
theorem dX1_tick_15 : decode cX1_tick 15 = .ok (.goto 4, 3) := by decide +kernel
theorem dX1_tick_18 : decode cX1_tick 18 = .ok (.iconst 0, 1) := by decide +kernel
theorem dX1_tick_19 : decode cX1_tick 19 = .ok (.invokestatic 41, 3) := by decide +kernel
theorem dX1_tick_22 : decode cX1_tick 22 = .ok (.aload_n 0, 1) := by decide +kernel
theorem dX1_tick_23 : decode cX1_tick 23 = .ok (.dup, 1) := by decide +kernel
theorem dX1_tick_24 : decode cX1_tick 24 = .ok (.getfield 125, 3) := by decide +kernel
theorem dX1_tick_27 : decode cX1_tick 27 = .ok (.dload_n 1, 1) := by decide +kernel
theorem dX1_tick_28 : decode cX1_tick 28 = .ok (.dadd, 1) := by decide +kernel
theorem dX1_tick_29 : decode cX1_tick 29 = .ok (.putfield 125, 3) := by decide +kernel
theorem dX1_tick_32 : decode cX1_tick 32 = .ok (.iconst 0, 1) := by decide +kernel
theorem dX1_tick_33 : decode cX1_tick 33 = .ok (.istore_n 3, 1) := by decide +kernel
theorem dX1_tick_34 : decode cX1_tick 34 = .ok (.aload_n 0, 1) := by decide +kernel
theorem dX1_tick_35 : decode cX1_tick 35 = .ok (.invokevirtual 233, 3) := by decide +kernel
theorem dX1_tick_38 : decode cX1_tick 38 = .ok (.astore 4, 2) := by decide +kernel
theorem dX1_tick_40 : decode cX1_tick 40 = .ok (.aload 4, 2) := by decide +kernel
theorem dX1_tick_42 : decode cX1_tick 42 = .ok (.ifnull 22, 3) := by decide +kernel
theorem dX1_tick_45 : decode cX1_tick 45 = .ok (.aload_n 0, 1) := by decide +kernel
theorem dX1_tick_46 : decode cX1_tick 46 = .ok (.aload 4, 2) := by decide +kernel
theorem dX1_tick_48 : decode cX1_tick 48 = .ok (.iconst 2, 1) := by decide +kernel
theorem dX1_tick_49 : decode cX1_tick 49 = .ok (.invokevirtual 222, 3) := by decide +kernel
theorem dX1_tick_52 : decode cX1_tick 52 = .ok (.iinc 3 1, 3) := by decide +kernel
theorem dX1_tick_55 : decode cX1_tick 55 = .ok (.aload_n 0, 1) := by decide +kernel
theorem dX1_tick_56 : decode cX1_tick 56 = .ok (.invokevirtual 233, 3) := by decide +kernel
theorem dX1_tick_59 : decode cX1_tick 59 = .ok (.astore 4, 2) := by decide +kernel
theorem dX1_tick_61 : decode cX1_tick 61 = .ok (.goto (-21), 3) := by decide +kernel
theorem dX1_tick_64 : decode cX1_tick 64 = .ok (.iload_n 3, 1) := by decide +kernel
theorem dX1_tick_65 : decode cX1_tick 65 = .ok (.ireturn, 1) := by decide +kernel
abbrev cX1_latest : ByteArray := prog_1_method_26_code
def yX1_latest : MethodName := ⟨RX1, "latest", "()LSyncHall$Waiter;"⟩
theorem dX1_latest_0 : decode cX1_latest 0 = .ok (.aconst_null, 1) := by decide +kernel
theorem dX1_latest_1 : decode cX1_latest 1 = .ok (.astore_n 1, 1) := by decide +kernel
theorem dX1_latest_2 : decode cX1_latest 2 = .ok (.aload_n 0, 1) := by decide +kernel
theorem dX1_latest_3 : decode cX1_latest 3 = .ok (.getfield 11, 3) := by decide +kernel
theorem dX1_latest_6 : decode cX1_latest 6 = .ok (.astore_n 2, 1) := by decide +kernel
theorem dX1_latest_7 : decode cX1_latest 7 = .ok (.aload_n 2, 1) := by decide +kernel
theorem dX1_latest_8 : decode cX1_latest 8 = .ok (.arraylength, 1) := by decide +kernel
theorem dX1_latest_9 : decode cX1_latest 9 = .ok (.istore_n 3, 1) := by decide +kernel
theorem dX1_latest_10 : decode cX1_latest 10 = .ok (.iconst 0, 1) := by decide +kernel
theorem dX1_latest_11 : decode cX1_latest 11 = .ok (.istore 4, 2) := by decide +kernel
theorem dX1_latest_13 : decode cX1_latest 13 = .ok (.iload 4, 2) := by decide +kernel
theorem dX1_latest_15 : decode cX1_latest 15 = .ok (.iload_n 3, 1) := by decide +kernel
theorem dX1_latest_16 : decode cX1_latest 16 = .ok (.if_icmp .ge 63, 3) := by decide +kernel
theorem dX1_latest_19 : decode cX1_latest 19 = .ok (.aload_n 2, 1) := by decide +kernel
theorem dX1_latest_20 : decode cX1_latest 20 = .ok (.iload 4, 2) := by decide +kernel
theorem dX1_latest_22 : decode cX1_latest 22 = .ok (.aaload, 1) := by decide +kernel
theorem dX1_latest_23 : decode cX1_latest 23 = .ok (.astore 5, 2) := by decide +kernel
theorem dX1_latest_25 : decode cX1_latest 25 = .ok (.aload 5, 2) := by decide +kernel
theorem dX1_latest_27 : decode cX1_latest 27 = .ok (.invokevirtual 136, 3) := by decide +kernel
theorem dX1_latest_30 : decode cX1_latest 30 = .ok (.ifCond .eq 43, 3) := by decide +kernel
theorem dX1_latest_33 : decode cX1_latest 33 = .ok (.aload 5, 2) := by decide +kernel
theorem dX1_latest_35 : decode cX1_latest 35 = .ok (.getfield 216, 3) := by decide +kernel
theorem dX1_latest_38 : decode cX1_latest 38 = .ok (.aload_n 0, 1) := by decide +kernel
theorem dX1_latest_39 : decode cX1_latest 39 = .ok (.getfield 125, 3) := by decide +kernel
theorem dX1_latest_42 : decode cX1_latest 42 = .ok (.invokevirtual 226, 3) := by decide +kernel
theorem dX1_latest_45 : decode cX1_latest 45 = .ok (.ifCond .ne 6, 3) := by decide +kernel
theorem dX1_latest_48 : decode cX1_latest 48 = .ok (.goto 25, 3) := by decide +kernel
theorem dX1_latest_51 : decode cX1_latest 51 = .ok (.aload_n 1, 1) := by decide +kernel
theorem dX1_latest_52 : decode cX1_latest 52 = .ok (.ifnull 15, 3) := by decide +kernel
theorem dX1_latest_55 : decode cX1_latest 55 = .ok (.aload 5, 2) := by decide +kernel
theorem dX1_latest_57 : decode cX1_latest 57 = .ok (.getfield 216, 3) := by decide +kernel
theorem dX1_latest_60 : decode cX1_latest 60 = .ok (.aload_n 1, 1) := by decide +kernel
theorem dX1_latest_61 : decode cX1_latest 61 = .ok (.invokevirtual 230, 3) := by decide +kernel
theorem dX1_latest_64 : decode cX1_latest 64 = .ok (.ifCond .eq 9, 3) := by decide +kernel
theorem dX1_latest_67 : decode cX1_latest 67 = .ok (.aload 5, 2) := by decide +kernel
theorem dX1_latest_69 : decode cX1_latest 69 = .ok (.getfield 216, 3) := by decide +kernel
theorem dX1_latest_72 : decode cX1_latest 72 = .ok (.astore_n 1, 1) := by decide +kernel
theorem dX1_latest_73 : decode cX1_latest 73 = .ok (.iinc 4 1, 3) := by decide +kernel
theorem dX1_latest_76 : decode cX1_latest 76 = .ok (.goto (-63), 3) := by decide +kernel
theorem dX1_latest_79 : decode cX1_latest 79 = .ok (.aload_n 1, 1) := by decide +kernel
theorem dX1_latest_80 : decode cX1_latest 80 = .ok (.areturn, 1) := by decide +kernel
abbrev cX1_policy : ByteArray := prog_1_method_28_code
def yX1_policy : MethodName := ⟨RX1, "policy", "(I)I"⟩
theorem dX1_policy_0 : decode cX1_policy 0 = .ok (.iload_n 1, 1) := by decide +kernel
theorem dX1_policy_1 : decode cX1_policy 1 = .ok (.ifCond .lt 12, 3) := by decide +kernel
theorem dX1_policy_4 : decode cX1_policy 4 = .ok (.iload_n 1, 1) := by decide +kernel
theorem dX1_policy_5 : decode cX1_policy 5 = .ok (.iconst 2, 1) := by decide +kernel
theorem dX1_policy_6 : decode cX1_policy 6 = .ok (.if_icmp .gt 7, 3) := by decide +kernel
theorem dX1_policy_9 : decode cX1_policy 9 = .ok (.iconst 1, 1) := by decide +kernel
theorem dX1_policy_10 : decode cX1_policy 10 = .ok (.goto 4, 3) := by decide +kernel
theorem dX1_policy_13 : decode cX1_policy 13 = .ok (.iconst 0, 1) := by decide +kernel
theorem dX1_policy_14 : decode cX1_policy 14 = .ok (.invokestatic 41, 3) := by decide +kernel
theorem dX1_policy_17 : decode cX1_policy 17 = .ok (.aload_n 0, 1) := by decide +kernel
theorem dX1_policy_18 : decode cX1_policy 18 = .ok (.iload_n 1, 1) := by decide +kernel
theorem dX1_policy_19 : decode cX1_policy 19 = .ok (.putfield 96, 3) := by decide +kernel
theorem dX1_policy_22 : decode cX1_policy 22 = .ok (.aload_n 0, 1) := by decide +kernel
theorem dX1_policy_23 : decode cX1_policy 23 = .ok (.getfield 108, 3) := by decide +kernel
theorem dX1_policy_26 : decode cX1_policy 26 = .ok (.ireturn, 1) := by decide +kernel
abbrev cX1_thread : ByteArray := prog_1_method_29_code
def yX1_thread : MethodName := ⟨RX1, "thread", "(II)I"⟩
theorem dX1_thread_0 : decode cX1_thread 0 = .ok (.aload_n 0, 1) := by decide +kernel
theorem dX1_thread_1 : decode cX1_thread 1 = .ok (.iload_n 1, 1) := by decide +kernel
theorem dX1_thread_2 : decode cX1_thread 2 = .ok (.invokevirtual 82, 3) := by decide +kernel
theorem dX1_thread_5 : decode cX1_thread 5 = .ok (.astore_n 3, 1) := by decide +kernel
theorem dX1_thread_6 : decode cX1_thread 6 = .ok (.iload_n 2, 1) := by decide +kernel
theorem dX1_thread_7 : decode cX1_thread 7 = .ok (.ifCond .lt 13, 3) := by decide +kernel
theorem dX1_thread_10 : decode cX1_thread 10 = .ok (.iload_n 2, 1) := by decide +kernel
theorem dX1_thread_11 : decode cX1_thread 11 = .ok (.bipush 10, 2) := by decide +kernel
theorem dX1_thread_13 : decode cX1_thread 13 = .ok (.if_icmp .gt 7, 3) := by decide +kernel
theorem dX1_thread_16 : decode cX1_thread 16 = .ok (.iconst 1, 1) := by decide +kernel
theorem dX1_thread_17 : decode cX1_thread 17 = .ok (.goto 4, 3) := by decide +kernel
theorem dX1_thread_20 : decode cX1_thread 20 = .ok (.iconst 0, 1) := by decide +kernel
theorem dX1_thread_21 : decode cX1_thread 21 = .ok (.invokestatic 41, 3) := by decide +kernel
theorem dX1_thread_24 : decode cX1_thread 24 = .ok (.iload_n 2, 1) := by decide +kernel
theorem dX1_thread_25 : decode cX1_thread 25 = .ok (.tableswitch 58 0 2 #[27, 40, 45], 27) := by decide +kernel
theorem dX1_thread_52 : decode cX1_thread 52 = .ok (.aload_n 3, 1) := by decide +kernel
theorem dX1_thread_53 : decode cX1_thread 53 = .ok (.invokevirtual 136, 3) := by decide +kernel
theorem dX1_thread_56 : decode cX1_thread 56 = .ok (.ifCond .eq 7, 3) := by decide +kernel
theorem dX1_thread_59 : decode cX1_thread 59 = .ok (.iconst 1, 1) := by decide +kernel
theorem dX1_thread_60 : decode cX1_thread 60 = .ok (.goto 4, 3) := by decide +kernel
theorem dX1_thread_63 : decode cX1_thread 63 = .ok (.iconst 0, 1) := by decide +kernel
theorem dX1_thread_64 : decode cX1_thread 64 = .ok (.ireturn, 1) := by decide +kernel
theorem dX1_thread_65 : decode cX1_thread 65 = .ok (.aload_n 3, 1) := by decide +kernel
theorem dX1_thread_66 : decode cX1_thread 66 = .ok (.getfield 114, 3) := by decide +kernel
theorem dX1_thread_69 : decode cX1_thread 69 = .ok (.ireturn, 1) := by decide +kernel
theorem dX1_thread_70 : decode cX1_thread 70 = .ok (.aload_n 3, 1) := by decide +kernel
theorem dX1_thread_71 : decode cX1_thread 71 = .ok (.getfield 117, 3) := by decide +kernel
theorem dX1_thread_74 : decode cX1_thread 74 = .ok (.ifCond .eq 7, 3) := by decide +kernel
theorem dX1_thread_77 : decode cX1_thread 77 = .ok (.iconst 1, 1) := by decide +kernel
theorem dX1_thread_78 : decode cX1_thread 78 = .ok (.goto 4, 3) := by decide +kernel
theorem dX1_thread_81 : decode cX1_thread 81 = .ok (.iconst 0, 1) := by decide +kernel
theorem dX1_thread_82 : decode cX1_thread 82 = .ok (.ireturn, 1) := by decide +kernel
theorem dX1_thread_83 : decode cX1_thread 83 = .ok (.aload_n 0, 1) := by decide +kernel
theorem dX1_thread_84 : decode cX1_thread 84 = .ok (.getfield 17, 3) := by decide +kernel
theorem dX1_thread_87 : decode cX1_thread 87 = .ok (.iload_n 2, 1) := by decide +kernel
theorem dX1_thread_88 : decode cX1_thread 88 = .ok (.iconst 3, 1) := by decide +kernel
theorem dX1_thread_89 : decode cX1_thread 89 = .ok (.isub, 1) := by decide +kernel
theorem dX1_thread_90 : decode cX1_thread 90 = .ok (.aaload, 1) := by decide +kernel
theorem dX1_thread_91 : decode cX1_thread 91 = .ok (.astore 4, 2) := by decide +kernel
theorem dX1_thread_93 : decode cX1_thread 93 = .ok (.aload 4, 2) := by decide +kernel
theorem dX1_thread_95 : decode cX1_thread 95 = .ok (.ifnonnull 7, 3) := by decide +kernel
theorem dX1_thread_98 : decode cX1_thread 98 = .ok (.iconst 0, 1) := by decide +kernel
theorem dX1_thread_99 : decode cX1_thread 99 = .ok (.goto 9, 3) := by decide +kernel
theorem dX1_thread_102 : decode cX1_thread 102 = .ok (.aload 4, 2) := by decide +kernel
theorem dX1_thread_104 : decode cX1_thread 104 = .ok (.aload_n 3, 1) := by decide +kernel
theorem dX1_thread_105 : decode cX1_thread 105 = .ok (.invokevirtual 237, 3) := by decide +kernel
theorem dX1_thread_108 : decode cX1_thread 108 = .ok (.ireturn, 1) := by decide +kernel
abbrev cX1_sync : ByteArray := prog_1_method_30_code
def yX1_sync : MethodName := ⟨RX1, "sync", "(II)I"⟩
theorem dX1_sync_0 : decode cX1_sync 0 = .ok (.iload_n 1, 1) := by decide +kernel
theorem dX1_sync_1 : decode cX1_sync 1 = .ok (.invokestatic 72, 3) := by decide +kernel
theorem dX1_sync_4 : decode cX1_sync 4 = .ok (.iload_n 2, 1) := by decide +kernel
theorem dX1_sync_5 : decode cX1_sync 5 = .ok (.ifCond .lt 13, 3) := by decide +kernel
theorem dX1_sync_8 : decode cX1_sync 8 = .ok (.iload_n 2, 1) := by decide +kernel
theorem dX1_sync_9 : decode cX1_sync 9 = .ok (.bipush 8, 2) := by decide +kernel
theorem dX1_sync_11 : decode cX1_sync 11 = .ok (.if_icmp .gt 7, 3) := by decide +kernel
theorem dX1_sync_14 : decode cX1_sync 14 = .ok (.iconst 1, 1) := by decide +kernel
theorem dX1_sync_15 : decode cX1_sync 15 = .ok (.goto 4, 3) := by decide +kernel
theorem dX1_sync_18 : decode cX1_sync 18 = .ok (.iconst 0, 1) := by decide +kernel
theorem dX1_sync_19 : decode cX1_sync 19 = .ok (.invokestatic 41, 3) := by decide +kernel
theorem dX1_sync_22 : decode cX1_sync 22 = .ok (.aload_n 0, 1) := by decide +kernel
theorem dX1_sync_23 : decode cX1_sync 23 = .ok (.iload_n 1, 1) := by decide +kernel
theorem dX1_sync_24 : decode cX1_sync 24 = .ok (.invokevirtual 132, 3) := by decide +kernel
theorem dX1_sync_27 : decode cX1_sync 27 = .ok (.astore_n 3, 1) := by decide +kernel
theorem dX1_sync_28 : decode cX1_sync 28 = .ok (.iload_n 2, 1) := by decide +kernel
theorem dX1_sync_29 : decode cX1_sync 29 = .ok (.lookupswitch 50 #[(0, 35), (1, 40), (8, 45)], 35) := by decide +kernel
theorem dX1_sync_64 : decode cX1_sync 64 = .ok (.aload_n 3, 1) := by decide +kernel
theorem dX1_sync_65 : decode cX1_sync 65 = .ok (.invokevirtual 240, 3) := by decide +kernel
theorem dX1_sync_68 : decode cX1_sync 68 = .ok (.ireturn, 1) := by decide +kernel
theorem dX1_sync_69 : decode cX1_sync 69 = .ok (.aload_n 3, 1) := by decide +kernel
theorem dX1_sync_70 : decode cX1_sync 70 = .ok (.invokevirtual 175, 3) := by decide +kernel
theorem dX1_sync_73 : decode cX1_sync 73 = .ok (.ireturn, 1) := by decide +kernel
theorem dX1_sync_74 : decode cX1_sync 74 = .ok (.aload_n 3, 1) := by decide +kernel
theorem dX1_sync_75 : decode cX1_sync 75 = .ok (.invokevirtual 243, 3) := by decide +kernel
theorem dX1_sync_78 : decode cX1_sync 78 = .ok (.ireturn, 1) := by decide +kernel
theorem dX1_sync_79 : decode cX1_sync 79 = .ok (.aload_n 3, 1) := by decide +kernel
theorem dX1_sync_80 : decode cX1_sync 80 = .ok (.getfield 246, 3) := by decide +kernel
theorem dX1_sync_83 : decode cX1_sync 83 = .ok (.astore 4, 2) := by decide +kernel
theorem dX1_sync_85 : decode cX1_sync 85 = .ok (.iconst 2, 1) := by decide +kernel
theorem dX1_sync_86 : decode cX1_sync 86 = .ok (.istore 5, 2) := by decide +kernel
theorem dX1_sync_88 : decode cX1_sync 88 = .ok (.iload 5, 2) := by decide +kernel
theorem dX1_sync_90 : decode cX1_sync 90 = .ok (.iload_n 2, 1) := by decide +kernel
theorem dX1_sync_91 : decode cX1_sync 91 = .ok (.if_icmp .ge 21, 3) := by decide +kernel
theorem dX1_sync_94 : decode cX1_sync 94 = .ok (.aload 4, 2) := by decide +kernel
theorem dX1_sync_96 : decode cX1_sync 96 = .ok (.ifnull 16, 3) := by decide +kernel
theorem dX1_sync_99 : decode cX1_sync 99 = .ok (.aload 4, 2) := by decide +kernel
theorem dX1_sync_101 : decode cX1_sync 101 = .ok (.getfield 247, 3) := by decide +kernel
theorem dX1_sync_104 : decode cX1_sync 104 = .ok (.astore 4, 2) := by decide +kernel
theorem dX1_sync_106 : decode cX1_sync 106 = .ok (.iinc 5 1, 3) := by decide +kernel
theorem dX1_sync_109 : decode cX1_sync 109 = .ok (.goto (-21), 3) := by decide +kernel
theorem dX1_sync_112 : decode cX1_sync 112 = .ok (.aload 4, 2) := by decide +kernel
theorem dX1_sync_114 : decode cX1_sync 114 = .ok (.ifnonnull 7, 3) := by decide +kernel
theorem dX1_sync_117 : decode cX1_sync 117 = .ok (.iconst (-1), 1) := by decide +kernel
theorem dX1_sync_118 : decode cX1_sync 118 = .ok (.goto 11, 3) := by decide +kernel
theorem dX1_sync_121 : decode cX1_sync 121 = .ok (.aload 4, 2) := by decide +kernel
theorem dX1_sync_123 : decode cX1_sync 123 = .ok (.invokevirtual 213, 3) := by decide +kernel
theorem dX1_sync_126 : decode cX1_sync 126 = .ok (.invokevirtual 250, 3) := by decide +kernel
theorem dX1_sync_129 : decode cX1_sync 129 = .ok (.ireturn, 1) := by decide +kernel
abbrev cX1_waited : ByteArray := prog_1_method_31_code
def yX1_waited : MethodName := ⟨RX1, "waited", "(I)D"⟩
theorem dX1_waited_0 : decode cX1_waited 0 = .ok (.iload_n 1, 1) := by decide +kernel
theorem dX1_waited_1 : decode cX1_waited 1 = .ok (.invokestatic 72, 3) := by decide +kernel
theorem dX1_waited_4 : decode cX1_waited 4 = .ok (.aload_n 0, 1) := by decide +kernel
theorem dX1_waited_5 : decode cX1_waited 5 = .ok (.iload_n 1, 1) := by decide +kernel
theorem dX1_waited_6 : decode cX1_waited 6 = .ok (.invokevirtual 132, 3) := by decide +kernel
theorem dX1_waited_9 : decode cX1_waited 9 = .ok (.astore_n 2, 1) := by decide +kernel
theorem dX1_waited_10 : decode cX1_waited 10 = .ok (.aload_n 2, 1) := by decide +kernel
theorem dX1_waited_11 : decode cX1_waited 11 = .ok (.invokevirtual 252, 3) := by decide +kernel
theorem dX1_waited_14 : decode cX1_waited 14 = .ok (.ifCond .ne 11, 3) := by decide +kernel
theorem dX1_waited_17 : decode cX1_waited 17 = .ok (.new 255, 3) := by decide +kernel
theorem dX1_waited_20 : decode cX1_waited 20 = .ok (.dup, 1) := by decide +kernel
theorem dX1_waited_21 : decode cX1_waited 21 = .ok (.invokespecial 257, 3) := by decide +kernel
theorem dX1_waited_24 : decode cX1_waited 24 = .ok (.athrow, 1) := by decide +kernel
theorem dX1_waited_25 : decode cX1_waited 25 = .ok (.aload_n 2, 1) := by decide +kernel
theorem dX1_waited_26 : decode cX1_waited 26 = .ok (.invokevirtual 258, 3) := by decide +kernel
theorem dX1_waited_29 : decode cX1_waited 29 = .ok (.dreturn, 1) := by decide +kernel
theorem q36 : (Jvm.Cond.initialized "SyncHall") ∈ lw_all := lw_g (lw_at lw_m1 1 rfl) rfl
theorem q56 : (Jvm.Cond.instantiable "SyncHall" (6 : Nat)) ∈ lw_all := lw_g (lw_at lw_m1 21 rfl) rfl
theorem q58 : (Jvm.Cond.instanceMethod ({ cls := "SyncHall", name := "<init>", desc := "()V" } : Jvm.MethodName)) ∈ lw_all := lw_g (lw_at lw_m1 23 rfl) rfl
theorem q59 : (Jvm.Cond.code ({ cls := "SyncHall", name := "<init>", desc := "()V" } : Jvm.MethodName) prog_1_method_1_code (2 : Nat) (Option.none : Option Jvm.ClassFile.FieldType)) ∈ lw_all := lw_g (lw_at lw_m1 24 rfl) rfl
theorem q60 : (Jvm.Cond.methodLink "SyncHall" (1 : Nat) ({ cls := "java/lang/Object", name := "<init>", desc := "()V" } : Jvm.MethodName)) ∈ lw_all := lw_g (lw_at lw_m1 25 rfl) rfl
theorem q63 : (Jvm.Cond.classLink "SyncHall" (9 : Nat) "SyncHall$Task") ∈ lw_all := lw_g (lw_at lw_m1 28 rfl) rfl
theorem q65 : (Jvm.Cond.classLink "SyncHall" (15 : Nat) "SyncHall$Sync") ∈ lw_all := lw_g (lw_at lw_m1 30 rfl) rfl
theorem q67 : (Jvm.Cond.classLink "SyncHall" (21 : Nat) "[[Z") ∈ lw_all := lw_g (lw_at lw_m1 32 rfl) rfl
theorem q70 : (Jvm.Cond.methodLink "SyncHall" (26 : Nat) ({ cls := "SyncHall$Task", name := "<init>", desc := "(I)V" } : Jvm.MethodName)) ∈ lw_all := lw_g (lw_at lw_m1 35 rfl) rfl
theorem q76 : (Jvm.Cond.fieldLink "SyncHall" (88 : Nat) "SyncHall$Task" "priority" "D") ∈ lw_all := lw_g (lw_at lw_m1 41 rfl) rfl
theorem q78 : (Jvm.Cond.fieldLink "SyncHall" (114 : Nat) "SyncHall$Task" "outcome" "I") ∈ lw_all := lw_g (lw_at lw_m1 43 rfl) rfl
theorem q80 : (Jvm.Cond.fieldLink "SyncHall" (117 : Nat) "SyncHall$Task" "flag" "Z") ∈ lw_all := lw_g (lw_at lw_m1 45 rfl) rfl
theorem q83 : (Jvm.Cond.fieldLink "SyncHall" (216 : Nat) "SyncHall$Task" "place" "LSyncHall$Waiter;") ∈ lw_all := lw_g (lw_at lw_m1 48 rfl) rfl
theorem q96 : (Jvm.Cond.fieldLink "SyncHall" (11 : Nat) "SyncHall" "tasks" "[LSyncHall$Task;") ∈ lw_all := lw_g (lw_at lw_m1 61 rfl) rfl
theorem q97 : (Jvm.Cond.fieldLink "SyncHall" (17 : Nat) "SyncHall" "syncs" "[LSyncHall$Sync;") ∈ lw_all := lw_g (lw_at lw_m1 62 rfl) rfl
theorem q98 : (Jvm.Cond.fieldLink "SyncHall" (23 : Nat) "SyncHall" "before" "[[Z") ∈ lw_all := lw_g (lw_at lw_m1 63 rfl) rfl
theorem q99 : (Jvm.Cond.fieldLink "SyncHall" (96 : Nat) "SyncHall" "policy" "I") ∈ lw_all := lw_g (lw_at lw_m1 64 rfl) rfl
theorem q100 : (Jvm.Cond.fieldLink "SyncHall" (108 : Nat) "SyncHall" "warnings" "I") ∈ lw_all := lw_g (lw_at lw_m1 65 rfl) rfl
theorem q101 : (Jvm.Cond.fieldLink "SyncHall" (125 : Nat) "SyncHall" "time" "D") ∈ lw_all := lw_g (lw_at lw_m1 66 rfl) rfl
theorem q102 : (Jvm.Cond.laysFinal "SyncHall" "SyncHall" "tasks" "[LSyncHall$Task;") ∈ lw_all := lw_g (lw_at lw_m1 67 rfl) rfl
theorem q103 : (Jvm.Cond.soleField "SyncHall" "tasks") ∈ lw_all := lw_g (lw_at lw_m1 68 rfl) rfl
theorem q104 : (Jvm.Cond.laysFinal "SyncHall" "SyncHall" "syncs" "[LSyncHall$Sync;") ∈ lw_all := lw_g (lw_at lw_m1 69 rfl) rfl
theorem q105 : (Jvm.Cond.soleField "SyncHall" "syncs") ∈ lw_all := lw_g (lw_at lw_m1 70 rfl) rfl
theorem q106 : (Jvm.Cond.laysFinal "SyncHall" "SyncHall" "before" "[[Z") ∈ lw_all := lw_g (lw_at lw_m1 71 rfl) rfl
theorem q107 : (Jvm.Cond.soleField "SyncHall" "before") ∈ lw_all := lw_g (lw_at lw_m1 72 rfl) rfl
theorem q108 : (Jvm.Cond.lays "SyncHall" "SyncHall" "policy" "I") ∈ lw_all := lw_g (lw_at lw_m1 73 rfl) rfl
theorem q109 : (Jvm.Cond.soleField "SyncHall" "policy") ∈ lw_all := lw_g (lw_at lw_m1 74 rfl) rfl
theorem q110 : (Jvm.Cond.lays "SyncHall" "SyncHall" "warnings" "I") ∈ lw_all := lw_g (lw_at lw_m1 75 rfl) rfl
theorem q111 : (Jvm.Cond.soleField "SyncHall" "warnings") ∈ lw_all := lw_g (lw_at lw_m1 76 rfl) rfl
theorem q112 : (Jvm.Cond.lays "SyncHall" "SyncHall" "time" "D") ∈ lw_all := lw_g (lw_at lw_m1 77 rfl) rfl
theorem q113 : (Jvm.Cond.soleField "SyncHall" "time") ∈ lw_all := lw_g (lw_at lw_m1 78 rfl) rfl
theorem q114 : (Jvm.Cond.superclass "SyncHall" "java/lang/Object") ∈ lw_all := lw_g (lw_at lw_m1 79 rfl) rfl
theorem q116 : (Jvm.Cond.instanceMethod ({ cls := "SyncHall", name := "time", desc := "()D" } : Jvm.MethodName)) ∈ lw_all := lw_g (lw_at lw_m1 81 rfl) rfl
theorem q117 : (Jvm.Cond.selects "SyncHall" ({ cls := "SyncHall", name := "time", desc := "()D" } : Jvm.MethodName) ({ cls := "SyncHall", name := "time", desc := "()D" } : Jvm.MethodName)) ∈ lw_all := lw_g (lw_at lw_m1 82 rfl) rfl
theorem q118 : (Jvm.Cond.code ({ cls := "SyncHall", name := "time", desc := "()D" } : Jvm.MethodName) prog_1_method_32_code (1 : Nat) (Option.some Jvm.ClassFile.FieldType.double)) ∈ lw_all := lw_g (lw_at lw_m1 83 rfl) rfl
theorem q126 : (Jvm.Cond.instanceMethod ({ cls := "SyncHall", name := "make", desc := "(III)I" } : Jvm.MethodName)) ∈ lw_all := lw_g (lw_at lw_m1 91 rfl) rfl
theorem q127 : (Jvm.Cond.selects "SyncHall" ({ cls := "SyncHall", name := "make", desc := "(III)I" } : Jvm.MethodName) ({ cls := "SyncHall", name := "make", desc := "(III)I" } : Jvm.MethodName)) ∈ lw_all := lw_g (lw_at lw_m1 92 rfl) rfl
theorem q128 : (Jvm.Cond.code ({ cls := "SyncHall", name := "make", desc := "(III)I" } : Jvm.MethodName) prog_1_method_11_code (10 : Nat) (Option.some Jvm.ClassFile.FieldType.int)) ∈ lw_all := lw_g (lw_at lw_m1 93 rfl) rfl
theorem q129 : (Jvm.Cond.methodLink "SyncHall" (72 : Nat) ({ cls := "SyncHall", name := "number", desc := "(I)V" } : Jvm.MethodName)) ∈ lw_all := lw_g (lw_at lw_m1 94 rfl) rfl
theorem q130 : (Jvm.Cond.static ({ cls := "SyncHall", name := "number", desc := "(I)V" } : Jvm.MethodName)) ∈ lw_all := lw_g (lw_at lw_m1 95 rfl) rfl
theorem q131 : (Jvm.Cond.code ({ cls := "SyncHall", name := "number", desc := "(I)V" } : Jvm.MethodName) prog_1_method_7_code (1 : Nat) (Option.none : Option Jvm.ClassFile.FieldType)) ∈ lw_all := lw_g (lw_at lw_m1 96 rfl) rfl
theorem q132 : (Jvm.Cond.methodLink "SyncHall" (41 : Nat) ({ cls := "SyncHall", name := "range", desc := "(Z)V" } : Jvm.MethodName)) ∈ lw_all := lw_g (lw_at lw_m1 97 rfl) rfl
theorem q133 : (Jvm.Cond.static ({ cls := "SyncHall", name := "range", desc := "(Z)V" } : Jvm.MethodName)) ∈ lw_all := lw_g (lw_at lw_m1 98 rfl) rfl
theorem q134 : (Jvm.Cond.code ({ cls := "SyncHall", name := "range", desc := "(Z)V" } : Jvm.MethodName) prog_1_method_2_code (1 : Nat) (Option.none : Option Jvm.ClassFile.FieldType)) ∈ lw_all := lw_g (lw_at lw_m1 99 rfl) rfl
theorem q135 : (Jvm.Cond.classLink "SyncHall" (29 : Nat) "java/lang/IllegalArgumentException") ∈ lw_all := lw_g (lw_at lw_m1 100 rfl) rfl
theorem q178 : (Jvm.Cond.methodLink "SyncHall" (31 : Nat) ({ cls := "java/lang/IllegalArgumentException", name := "<init>", desc := "()V" } : Jvm.MethodName)) ∈ lw_all := lw_g (lw_at lw_m1 143 rfl) rfl
theorem q201 : (Jvm.Cond.classLink "SyncHall" (52 : Nat) "SyncHall$Lock") ∈ lw_all := lw_g (lw_at lw_m1 166 rfl) rfl
theorem q202 : (Jvm.Cond.methodLink "SyncHall" (45 : Nat) ({ cls := "SyncHall", name := "exists", desc := "(Z)V" } : Jvm.MethodName)) ∈ lw_all := lw_g (lw_at lw_m1 167 rfl) rfl
theorem q203 : (Jvm.Cond.static ({ cls := "SyncHall", name := "exists", desc := "(Z)V" } : Jvm.MethodName)) ∈ lw_all := lw_g (lw_at lw_m1 168 rfl) rfl
theorem q204 : (Jvm.Cond.code ({ cls := "SyncHall", name := "exists", desc := "(Z)V" } : Jvm.MethodName) prog_1_method_3_code (1 : Nat) (Option.none : Option Jvm.ClassFile.FieldType)) ∈ lw_all := lw_g (lw_at lw_m1 169 rfl) rfl
theorem q205 : (Jvm.Cond.classLink "SyncHall" (32 : Nat) "java/util/NoSuchElementException") ∈ lw_all := lw_g (lw_at lw_m1 170 rfl) rfl
theorem q214 : (Jvm.Cond.methodLink "SyncHall" (34 : Nat) ({ cls := "java/util/NoSuchElementException", name := "<init>", desc := "()V" } : Jvm.MethodName)) ∈ lw_all := lw_g (lw_at lw_m1 179 rfl) rfl
theorem q220 : (Jvm.Cond.methodLink "SyncHall" (75 : Nat) ({ cls := "SyncHall", name := "state", desc := "(Z)V" } : Jvm.MethodName)) ∈ lw_all := lw_g (lw_at lw_m1 185 rfl) rfl
theorem q221 : (Jvm.Cond.static ({ cls := "SyncHall", name := "state", desc := "(Z)V" } : Jvm.MethodName)) ∈ lw_all := lw_g (lw_at lw_m1 186 rfl) rfl
theorem q222 : (Jvm.Cond.code ({ cls := "SyncHall", name := "state", desc := "(Z)V" } : Jvm.MethodName) prog_1_method_4_code (1 : Nat) (Option.none : Option Jvm.ClassFile.FieldType)) ∈ lw_all := lw_g (lw_at lw_m1 187 rfl) rfl
theorem q223 : (Jvm.Cond.classLink "SyncHall" (35 : Nat) "java/lang/IllegalStateException") ∈ lw_all := lw_g (lw_at lw_m1 188 rfl) rfl
theorem q232 : (Jvm.Cond.methodLink "SyncHall" (37 : Nat) ({ cls := "java/lang/IllegalStateException", name := "<init>", desc := "()V" } : Jvm.MethodName)) ∈ lw_all := lw_g (lw_at lw_m1 197 rfl) rfl
theorem q238 : (Jvm.Cond.methodLink "SyncHall" (78 : Nat) ({ cls := "SyncHall", name := "made", desc := "(II)LSyncHall$Sync;" } : Jvm.MethodName)) ∈ lw_all := lw_g (lw_at lw_m1 203 rfl) rfl
theorem q239 : (Jvm.Cond.privateMethod ({ cls := "SyncHall", name := "made", desc := "(II)LSyncHall$Sync;" } : Jvm.MethodName)) ∈ lw_tbl := lw_at lw_m1 204 rfl
theorem q240 : (Jvm.Cond.instanceMethod ({ cls := "SyncHall", name := "made", desc := "(II)LSyncHall$Sync;" } : Jvm.MethodName)) ∈ lw_all := lw_g (lw_at lw_m1 205 rfl) rfl
theorem q241 : (Jvm.Cond.code ({ cls := "SyncHall", name := "made", desc := "(II)LSyncHall$Sync;" } : Jvm.MethodName) prog_1_method_10_code (3 : Nat) (Option.some (Jvm.ClassFile.FieldType.object "SyncHall$Sync"))) ∈ lw_all := lw_g (lw_at lw_m1 206 rfl) rfl
theorem q243 : (Jvm.Cond.methodLink "SyncHall" (54 : Nat) ({ cls := "SyncHall$Lock", name := "<init>", desc := "(Z)V" } : Jvm.MethodName)) ∈ lw_all := lw_g (lw_at lw_m1 208 rfl) rfl
theorem q260 : (Jvm.Cond.fieldLink "SyncHall" (202 : Nat) "SyncHall$Condition" "first" "LSyncHall$Waiter;") ∈ lw_all := lw_g (lw_at lw_m1 225 rfl) rfl
theorem q262 : (Jvm.Cond.fieldLink "SyncHall" (246 : Nat) "SyncHall$Sync" "first" "LSyncHall$Waiter;") ∈ lw_all := lw_g (lw_at lw_m1 227 rfl) rfl
theorem q278 : (Jvm.Cond.classLink "SyncHall" (56 : Nat) "SyncHall$Semaphore") ∈ lw_all := lw_g (lw_at lw_m2 3 rfl) rfl
theorem q280 : (Jvm.Cond.methodLink "SyncHall" (58 : Nat) ({ cls := "SyncHall$Semaphore", name := "<init>", desc := "(ZI)V" } : Jvm.MethodName)) ∈ lw_all := lw_g (lw_at lw_m2 5 rfl) rfl
theorem q294 : (Jvm.Cond.classLink "SyncHall" (61 : Nat) "SyncHall$Latch") ∈ lw_all := lw_g (lw_at lw_m2 19 rfl) rfl
theorem q296 : (Jvm.Cond.methodLink "SyncHall" (63 : Nat) ({ cls := "SyncHall$Latch", name := "<init>", desc := "(I)V" } : Jvm.MethodName)) ∈ lw_all := lw_g (lw_at lw_m2 21 rfl) rfl
theorem q307 : (Jvm.Cond.classLink "SyncHall" (64 : Nat) "SyncHall$Shared") ∈ lw_all := lw_g (lw_at lw_m2 32 rfl) rfl
theorem q309 : (Jvm.Cond.methodLinkNest "SyncHall" (66 : Nat) ({ cls := "SyncHall$Shared", name := "<init>", desc := "()V" } : Jvm.MethodName) "SyncHall") ∈ lw_tbl := lw_at lw_m2 34 rfl
theorem q327 : (Jvm.Cond.classLink "SyncHall" (67 : Nat) "SyncHall$Condition") ∈ lw_all := lw_g (lw_at lw_m2 52 rfl) rfl
theorem q329 : (Jvm.Cond.methodLink "SyncHall" (69 : Nat) ({ cls := "SyncHall$Condition", name := "<init>", desc := "(LSyncHall$Lock;)V" } : Jvm.MethodName)) ∈ lw_all := lw_g (lw_at lw_m2 54 rfl) rfl
theorem q344 : (Jvm.Cond.instanceMethod ({ cls := "SyncHall", name := "rank", desc := "(ID)V" } : Jvm.MethodName)) ∈ lw_all := lw_g (lw_at lw_m2 69 rfl) rfl
theorem q345 : (Jvm.Cond.selects "SyncHall" ({ cls := "SyncHall", name := "rank", desc := "(ID)V" } : Jvm.MethodName) ({ cls := "SyncHall", name := "rank", desc := "(ID)V" } : Jvm.MethodName)) ∈ lw_all := lw_g (lw_at lw_m2 70 rfl) rfl
theorem q346 : (Jvm.Cond.code ({ cls := "SyncHall", name := "rank", desc := "(ID)V" } : Jvm.MethodName) prog_1_method_12_code (5 : Nat) (Option.none : Option Jvm.ClassFile.FieldType)) ∈ lw_all := lw_g (lw_at lw_m2 71 rfl) rfl
theorem q347 : (Jvm.Cond.methodLink "SyncHall" (82 : Nat) ({ cls := "SyncHall", name := "task", desc := "(I)LSyncHall$Task;" } : Jvm.MethodName)) ∈ lw_all := lw_g (lw_at lw_m2 72 rfl) rfl
theorem q348 : (Jvm.Cond.privateMethod ({ cls := "SyncHall", name := "task", desc := "(I)LSyncHall$Task;" } : Jvm.MethodName)) ∈ lw_tbl := lw_at lw_m2 73 rfl
theorem q349 : (Jvm.Cond.instanceMethod ({ cls := "SyncHall", name := "task", desc := "(I)LSyncHall$Task;" } : Jvm.MethodName)) ∈ lw_all := lw_g (lw_at lw_m2 74 rfl) rfl
theorem q350 : (Jvm.Cond.code ({ cls := "SyncHall", name := "task", desc := "(I)LSyncHall$Task;" } : Jvm.MethodName) prog_1_method_6_code (2 : Nat) (Option.some (Jvm.ClassFile.FieldType.object "SyncHall$Task"))) ∈ lw_all := lw_g (lw_at lw_m2 75 rfl) rfl
theorem q351 : (Jvm.Cond.constantDouble "SyncHall" (86 : Nat) (13875379345695965184 : UInt64)) ∈ lw_all := lw_g (lw_at lw_m2 76 rfl) rfl
theorem q352 : (Jvm.Cond.constantDouble "SyncHall" (50 : Nat) (4652007308841189376 : UInt64)) ∈ lw_all := lw_g (lw_at lw_m2 77 rfl) rfl
theorem q358 : (Jvm.Cond.instanceMethod ({ cls := "SyncHall", name := "acquire", desc := "(IIID)I" } : Jvm.MethodName)) ∈ lw_all := lw_g (lw_at lw_m2 83 rfl) rfl
theorem q359 : (Jvm.Cond.selects "SyncHall" ({ cls := "SyncHall", name := "acquire", desc := "(IIID)I" } : Jvm.MethodName) ({ cls := "SyncHall", name := "acquire", desc := "(IIID)I" } : Jvm.MethodName)) ∈ lw_all := lw_g (lw_at lw_m2 84 rfl) rfl
theorem q360 : (Jvm.Cond.code ({ cls := "SyncHall", name := "acquire", desc := "(IIID)I" } : Jvm.MethodName) prog_1_method_19_code (9 : Nat) (Option.some Jvm.ClassFile.FieldType.int)) ∈ lw_all := lw_g (lw_at lw_m2 85 rfl) rfl
theorem q361 : (Jvm.Cond.methodLink "SyncHall" (128 : Nat) ({ cls := "SyncHall", name := "limit", desc := "(D)V" } : Jvm.MethodName)) ∈ lw_all := lw_g (lw_at lw_m2 86 rfl) rfl
theorem q362 : (Jvm.Cond.static ({ cls := "SyncHall", name := "limit", desc := "(D)V" } : Jvm.MethodName)) ∈ lw_all := lw_g (lw_at lw_m2 87 rfl) rfl
theorem q363 : (Jvm.Cond.code ({ cls := "SyncHall", name := "limit", desc := "(D)V" } : Jvm.MethodName) prog_1_method_9_code (2 : Nat) (Option.none : Option Jvm.ClassFile.FieldType)) ∈ lw_all := lw_g (lw_at lw_m2 88 rfl) rfl
theorem q364 : (Jvm.Cond.constantDouble "SyncHall" (48 : Nat) (13830554455654793216 : UInt64)) ∈ lw_all := lw_g (lw_at lw_m2 89 rfl) rfl
theorem q365 : (Jvm.Cond.methodLink "SyncHall" (132 : Nat) ({ cls := "SyncHall", name := "there", desc := "(I)LSyncHall$Sync;" } : Jvm.MethodName)) ∈ lw_all := lw_g (lw_at lw_m2 90 rfl) rfl
theorem q366 : (Jvm.Cond.privateMethod ({ cls := "SyncHall", name := "there", desc := "(I)LSyncHall$Sync;" } : Jvm.MethodName)) ∈ lw_tbl := lw_at lw_m2 91 rfl
theorem q367 : (Jvm.Cond.instanceMethod ({ cls := "SyncHall", name := "there", desc := "(I)LSyncHall$Sync;" } : Jvm.MethodName)) ∈ lw_all := lw_g (lw_at lw_m2 92 rfl) rfl
theorem q368 : (Jvm.Cond.code ({ cls := "SyncHall", name := "there", desc := "(I)LSyncHall$Sync;" } : Jvm.MethodName) prog_1_method_8_code (2 : Nat) (Option.some (Jvm.ClassFile.FieldType.object "SyncHall$Sync"))) ∈ lw_all := lw_g (lw_at lw_m2 93 rfl) rfl
theorem q369 : (Jvm.Cond.methodLink "SyncHall" (136 : Nat) ({ cls := "SyncHall$Task", name := "blocked", desc := "()Z" } : Jvm.MethodName)) ∈ lw_all := lw_g (lw_at lw_m2 94 rfl) rfl
theorem q373 : (Jvm.Cond.methodLink "SyncHall" (111 : Nat) ({ cls := "SyncHall", name := "can", desc := "(Z)V" } : Jvm.MethodName)) ∈ lw_all := lw_g (lw_at lw_m2 98 rfl) rfl
theorem q374 : (Jvm.Cond.static ({ cls := "SyncHall", name := "can", desc := "(Z)V" } : Jvm.MethodName)) ∈ lw_all := lw_g (lw_at lw_m2 99 rfl) rfl
theorem q375 : (Jvm.Cond.code ({ cls := "SyncHall", name := "can", desc := "(Z)V" } : Jvm.MethodName) prog_1_method_5_code (1 : Nat) (Option.none : Option Jvm.ClassFile.FieldType)) ∈ lw_all := lw_g (lw_at lw_m2 100 rfl) rfl
theorem q376 : (Jvm.Cond.classLink "SyncHall" (38 : Nat) "java/lang/UnsupportedOperationException") ∈ lw_all := lw_g (lw_at lw_m2 101 rfl) rfl
theorem q385 : (Jvm.Cond.methodLink "SyncHall" (40 : Nat) ({ cls := "java/lang/UnsupportedOperationException", name := "<init>", desc := "()V" } : Jvm.MethodName)) ∈ lw_all := lw_g (lw_at lw_m2 110 rfl) rfl
theorem q391 : (Jvm.Cond.methodLink "SyncHall" (140 : Nat) ({ cls := "SyncHall", name := "interrupted", desc := "(LSyncHall$Task;)I" } : Jvm.MethodName)) ∈ lw_all := lw_g (lw_at lw_m2 116 rfl) rfl
theorem q392 : (Jvm.Cond.privateMethod ({ cls := "SyncHall", name := "interrupted", desc := "(LSyncHall$Task;)I" } : Jvm.MethodName)) ∈ lw_tbl := lw_at lw_m2 117 rfl
theorem q393 : (Jvm.Cond.instanceMethod ({ cls := "SyncHall", name := "interrupted", desc := "(LSyncHall$Task;)I" } : Jvm.MethodName)) ∈ lw_all := lw_g (lw_at lw_m2 118 rfl) rfl
theorem q394 : (Jvm.Cond.code ({ cls := "SyncHall", name := "interrupted", desc := "(LSyncHall$Task;)I" } : Jvm.MethodName) prog_1_method_17_code (2 : Nat) (Option.some Jvm.ClassFile.FieldType.int)) ∈ lw_all := lw_g (lw_at lw_m2 119 rfl) rfl
theorem q395 : (Jvm.Cond.methodLink "SyncHall" (121 : Nat) ({ cls := "SyncHall", name := "ended", desc := "(LSyncHall$Task;I)I" } : Jvm.MethodName)) ∈ lw_all := lw_g (lw_at lw_m2 120 rfl) rfl
theorem q396 : (Jvm.Cond.privateMethod ({ cls := "SyncHall", name := "ended", desc := "(LSyncHall$Task;I)I" } : Jvm.MethodName)) ∈ lw_tbl := lw_at lw_m2 121 rfl
theorem q397 : (Jvm.Cond.instanceMethod ({ cls := "SyncHall", name := "ended", desc := "(LSyncHall$Task;I)I" } : Jvm.MethodName)) ∈ lw_all := lw_g (lw_at lw_m2 122 rfl) rfl
theorem q398 : (Jvm.Cond.code ({ cls := "SyncHall", name := "ended", desc := "(LSyncHall$Task;I)I" } : Jvm.MethodName) prog_1_method_16_code (3 : Nat) (Option.some Jvm.ClassFile.FieldType.int)) ∈ lw_all := lw_g (lw_at lw_m2 123 rfl) rfl
theorem q399 : (Jvm.Cond.methodLink "SyncHall" (144 : Nat) ({ cls := "SyncHall", name := "watch", desc := "(LSyncHall$Task;I)V" } : Jvm.MethodName)) ∈ lw_all := lw_g (lw_at lw_m2 124 rfl) rfl
theorem q400 : (Jvm.Cond.privateMethod ({ cls := "SyncHall", name := "watch", desc := "(LSyncHall$Task;I)V" } : Jvm.MethodName)) ∈ lw_tbl := lw_at lw_m2 125 rfl
theorem q401 : (Jvm.Cond.instanceMethod ({ cls := "SyncHall", name := "watch", desc := "(LSyncHall$Task;I)V" } : Jvm.MethodName)) ∈ lw_all := lw_g (lw_at lw_m2 126 rfl) rfl
theorem q402 : (Jvm.Cond.code ({ cls := "SyncHall", name := "watch", desc := "(LSyncHall$Task;I)V" } : Jvm.MethodName) prog_1_method_15_code (5 : Nat) (Option.none : Option Jvm.ClassFile.FieldType)) ∈ lw_all := lw_g (lw_at lw_m2 127 rfl) rfl
theorem q403 : (Jvm.Cond.methodLink "SyncHall" (100 : Nat) ({ cls := "SyncHall", name := "owns", desc := "(LSyncHall$Task;I)Z" } : Jvm.MethodName)) ∈ lw_all := lw_g (lw_at lw_m2 128 rfl) rfl
theorem q404 : (Jvm.Cond.privateMethod ({ cls := "SyncHall", name := "owns", desc := "(LSyncHall$Task;I)Z" } : Jvm.MethodName)) ∈ lw_tbl := lw_at lw_m2 129 rfl
theorem q405 : (Jvm.Cond.instanceMethod ({ cls := "SyncHall", name := "owns", desc := "(LSyncHall$Task;I)Z" } : Jvm.MethodName)) ∈ lw_all := lw_g (lw_at lw_m2 130 rfl) rfl
theorem q406 : (Jvm.Cond.code ({ cls := "SyncHall", name := "owns", desc := "(LSyncHall$Task;I)Z" } : Jvm.MethodName) prog_1_method_14_code (3 : Nat) (Option.some Jvm.ClassFile.FieldType.boolean)) ∈ lw_all := lw_g (lw_at lw_m2 131 rfl) rfl
theorem q407 : (Jvm.Cond.methodLink "SyncHall" (92 : Nat) ({ cls := "SyncHall$Lock", name := "isOwner", desc := "(LSyncHall$Task;)Z" } : Jvm.MethodName)) ∈ lw_all := lw_g (lw_at lw_m2 132 rfl) rfl
theorem q411 : (Jvm.Cond.methodLink "SyncHall" (104 : Nat) ({ cls := "SyncHall", name := "leads", desc := "(II)Z" } : Jvm.MethodName)) ∈ lw_all := lw_g (lw_at lw_m2 136 rfl) rfl
theorem q412 : (Jvm.Cond.privateMethod ({ cls := "SyncHall", name := "leads", desc := "(II)Z" } : Jvm.MethodName)) ∈ lw_tbl := lw_at lw_m2 137 rfl
theorem q413 : (Jvm.Cond.instanceMethod ({ cls := "SyncHall", name := "leads", desc := "(II)Z" } : Jvm.MethodName)) ∈ lw_all := lw_g (lw_at lw_m2 138 rfl) rfl
theorem q414 : (Jvm.Cond.code ({ cls := "SyncHall", name := "leads", desc := "(II)Z" } : Jvm.MethodName) prog_1_method_13_code (7 : Nat) (Option.some Jvm.ClassFile.FieldType.boolean)) ∈ lw_all := lw_g (lw_at lw_m2 139 rfl) rfl
theorem q415 : (Jvm.Cond.methodLink "SyncHall" (148 : Nat) ({ cls := "SyncHall$Sync", name := "refuses", desc := "(LSyncHall$Task;Z)Z" } : Jvm.MethodName)) ∈ lw_all := lw_g (lw_at lw_m2 140 rfl) rfl
theorem q430 : (Jvm.Cond.methodLink "SyncHall" (152 : Nat) ({ cls := "SyncHall$Sync", name := "mustQueue", desc := "(LSyncHall$Task;Z)Z" } : Jvm.MethodName)) ∈ lw_all := lw_g (lw_at lw_m2 155 rfl) rfl
theorem q460 : (Jvm.Cond.methodLink "SyncHall" (155 : Nat) ({ cls := "SyncHall$Sync", name := "canTake", desc := "(LSyncHall$Task;Z)Z" } : Jvm.MethodName)) ∈ lw_all := lw_g (lw_at lw_m2 185 rfl) rfl
theorem q482 : (Jvm.Cond.methodLink "SyncHall" (158 : Nat) ({ cls := "SyncHall$Sync", name := "take", desc := "(LSyncHall$Task;Z)V" } : Jvm.MethodName)) ∈ lw_all := lw_g (lw_at lw_m2 207 rfl) rfl
theorem q500 : (Jvm.Cond.classLink "SyncHall" (162 : Nat) "SyncHall$Waiter") ∈ lw_all := lw_g (lw_at lw_m2 225 rfl) rfl
theorem q502 : (Jvm.Cond.methodLink "SyncHall" (164 : Nat) ({ cls := "SyncHall", name := "endOf", desc := "(D)D" } : Jvm.MethodName)) ∈ lw_all := lw_g (lw_at lw_m2 227 rfl) rfl
theorem q503 : (Jvm.Cond.privateMethod ({ cls := "SyncHall", name := "endOf", desc := "(D)D" } : Jvm.MethodName)) ∈ lw_tbl := lw_at lw_m2 228 rfl
theorem q504 : (Jvm.Cond.instanceMethod ({ cls := "SyncHall", name := "endOf", desc := "(D)D" } : Jvm.MethodName)) ∈ lw_all := lw_g (lw_at lw_m2 229 rfl) rfl
theorem q505 : (Jvm.Cond.code ({ cls := "SyncHall", name := "endOf", desc := "(D)D" } : Jvm.MethodName) prog_1_method_18_code (3 : Nat) (Option.some Jvm.ClassFile.FieldType.double)) ∈ lw_all := lw_g (lw_at lw_m2 230 rfl) rfl
theorem q506 : (Jvm.Cond.methodLink "SyncHall" (168 : Nat) ({ cls := "SyncHall$Waiter", name := "<init>", desc := "(LSyncHall$Task;LSyncHall$Sync;ZDDII)V" } : Jvm.MethodName)) ∈ lw_all := lw_g (lw_at lw_m2 231 rfl) rfl
theorem q520 : (Jvm.Cond.fieldLink "SyncHall" (247 : Nat) "SyncHall$Waiter" "next" "LSyncHall$Waiter;") ∈ lw_all := lw_g (lw_at lw_m3 5 rfl) rfl
theorem q538 : (Jvm.Cond.methodLink "SyncHall" (171 : Nat) ({ cls := "SyncHall$Sync", name := "add", desc := "(LSyncHall$Waiter;)V" } : Jvm.MethodName)) ∈ lw_all := lw_g (lw_at lw_m3 23 rfl) rfl
theorem q555 : (Jvm.Cond.instanceMethod ({ cls := "SyncHall", name := "release", desc := "(III)I" } : Jvm.MethodName)) ∈ lw_all := lw_g (lw_at lw_m3 40 rfl) rfl
theorem q556 : (Jvm.Cond.selects "SyncHall" ({ cls := "SyncHall", name := "release", desc := "(III)I" } : Jvm.MethodName) ({ cls := "SyncHall", name := "release", desc := "(III)I" } : Jvm.MethodName)) ∈ lw_all := lw_g (lw_at lw_m3 41 rfl) rfl
theorem q557 : (Jvm.Cond.code ({ cls := "SyncHall", name := "release", desc := "(III)I" } : Jvm.MethodName) prog_1_method_20_code (7 : Nat) (Option.some Jvm.ClassFile.FieldType.int)) ∈ lw_all := lw_g (lw_at lw_m3 42 rfl) rfl
theorem q558 : (Jvm.Cond.methodLink "SyncHall" (175 : Nat) ({ cls := "SyncHall$Sync", name := "waiters", desc := "()I" } : Jvm.MethodName)) ∈ lw_all := lw_g (lw_at lw_m3 43 rfl) rfl
theorem q567 : (Jvm.Cond.methodLink "SyncHall" (179 : Nat) ({ cls := "SyncHall$Sync", name := "giveBack", desc := "(LSyncHall$Task;Z)V" } : Jvm.MethodName)) ∈ lw_all := lw_g (lw_at lw_m3 52 rfl) rfl
theorem q589 : (Jvm.Cond.methodLink "SyncHall" (182 : Nat) ({ cls := "SyncHall$Sync", name := "serve", desc := "(D)V" } : Jvm.MethodName)) ∈ lw_all := lw_g (lw_at lw_m3 74 rfl) rfl
theorem q665 : (Jvm.Cond.instanceMethod ({ cls := "SyncHall", name := "await", desc := "(IID)I" } : Jvm.MethodName)) ∈ lw_all := lw_g (lw_at lw_m3 150 rfl) rfl
theorem q666 : (Jvm.Cond.selects "SyncHall" ({ cls := "SyncHall", name := "await", desc := "(IID)I" } : Jvm.MethodName) ({ cls := "SyncHall", name := "await", desc := "(IID)I" } : Jvm.MethodName)) ∈ lw_all := lw_g (lw_at lw_m3 151 rfl) rfl
theorem q667 : (Jvm.Cond.code ({ cls := "SyncHall", name := "await", desc := "(IID)I" } : Jvm.MethodName) prog_1_method_22_code (8 : Nat) (Option.some Jvm.ClassFile.FieldType.int)) ∈ lw_all := lw_g (lw_at lw_m3 152 rfl) rfl
theorem q668 : (Jvm.Cond.methodLink "SyncHall" (189 : Nat) ({ cls := "SyncHall", name := "owned", desc := "(LSyncHall$Task;I)LSyncHall$Condition;" } : Jvm.MethodName)) ∈ lw_all := lw_g (lw_at lw_m3 153 rfl) rfl
theorem q669 : (Jvm.Cond.privateMethod ({ cls := "SyncHall", name := "owned", desc := "(LSyncHall$Task;I)LSyncHall$Condition;" } : Jvm.MethodName)) ∈ lw_tbl := lw_at lw_m3 154 rfl
theorem q670 : (Jvm.Cond.instanceMethod ({ cls := "SyncHall", name := "owned", desc := "(LSyncHall$Task;I)LSyncHall$Condition;" } : Jvm.MethodName)) ∈ lw_all := lw_g (lw_at lw_m3 155 rfl) rfl
theorem q671 : (Jvm.Cond.code ({ cls := "SyncHall", name := "owned", desc := "(LSyncHall$Task;I)LSyncHall$Condition;" } : Jvm.MethodName) prog_1_method_21_code (5 : Nat) (Option.some (Jvm.ClassFile.FieldType.object "SyncHall$Condition"))) ∈ lw_all := lw_g (lw_at lw_m3 156 rfl) rfl
theorem q672 : (Jvm.Cond.methodLink "SyncHall" (185 : Nat) ({ cls := "SyncHall$Condition", name := "lock", desc := "()LSyncHall$Lock;" } : Jvm.MethodName)) ∈ lw_all := lw_g (lw_at lw_m3 157 rfl) rfl
theorem q676 : (Jvm.Cond.methodLink "SyncHall" (193 : Nat) ({ cls := "SyncHall$Lock", name := "leave", desc := "()I" } : Jvm.MethodName)) ∈ lw_all := lw_g (lw_at lw_m3 161 rfl) rfl
theorem q680 : (Jvm.Cond.methodLink "SyncHall" (196 : Nat) ({ cls := "SyncHall$Condition", name := "add", desc := "(LSyncHall$Waiter;)V" } : Jvm.MethodName)) ∈ lw_all := lw_g (lw_at lw_m3 165 rfl) rfl
theorem q684 : (Jvm.Cond.methodLink "SyncHall" (197 : Nat) ({ cls := "SyncHall$Condition", name := "queue", desc := "(LSyncHall$Waiter;ID)V" } : Jvm.MethodName)) ∈ lw_all := lw_g (lw_at lw_m3 169 rfl) rfl
theorem q709 : (Jvm.Cond.methodLink "SyncHall" (201 : Nat) ({ cls := "SyncHall$Lock", name := "serve", desc := "(D)V" } : Jvm.MethodName)) ∈ lw_all := lw_g (lw_at lw_m3 194 rfl) rfl
theorem q714 : (Jvm.Cond.instanceMethod ({ cls := "SyncHall", name := "signal", desc := "(IIZ)I" } : Jvm.MethodName)) ∈ lw_all := lw_g (lw_at lw_m3 199 rfl) rfl
theorem q715 : (Jvm.Cond.selects "SyncHall" ({ cls := "SyncHall", name := "signal", desc := "(IIZ)I" } : Jvm.MethodName) ({ cls := "SyncHall", name := "signal", desc := "(IIZ)I" } : Jvm.MethodName)) ∈ lw_all := lw_g (lw_at lw_m3 200 rfl) rfl
theorem q716 : (Jvm.Cond.code ({ cls := "SyncHall", name := "signal", desc := "(IIZ)I" } : Jvm.MethodName) prog_1_method_23_code (7 : Nat) (Option.some Jvm.ClassFile.FieldType.int)) ∈ lw_all := lw_g (lw_at lw_m3 201 rfl) rfl
theorem q721 : (Jvm.Cond.instanceMethod ({ cls := "SyncHall", name := "interrupt", desc := "(I)I" } : Jvm.MethodName)) ∈ lw_all := lw_g (lw_at lw_m3 206 rfl) rfl
theorem q722 : (Jvm.Cond.selects "SyncHall" ({ cls := "SyncHall", name := "interrupt", desc := "(I)I" } : Jvm.MethodName) ({ cls := "SyncHall", name := "interrupt", desc := "(I)I" } : Jvm.MethodName)) ∈ lw_all := lw_g (lw_at lw_m3 207 rfl) rfl
theorem q723 : (Jvm.Cond.code ({ cls := "SyncHall", name := "interrupt", desc := "(I)I" } : Jvm.MethodName) prog_1_method_25_code (3 : Nat) (Option.some Jvm.ClassFile.FieldType.int)) ∈ lw_all := lw_g (lw_at lw_m3 208 rfl) rfl
theorem q724 : (Jvm.Cond.methodLink "SyncHall" (219 : Nat) ({ cls := "SyncHall$Waiter", name := "takesBack", desc := "()Z" } : Jvm.MethodName)) ∈ lw_all := lw_g (lw_at lw_m3 209 rfl) rfl
theorem q725 : (Jvm.Cond.methodLink "SyncHall" (206 : Nat) ({ cls := "SyncHall$Waiter", name := "sync", desc := "()LSyncHall$Sync;" } : Jvm.MethodName)) ∈ lw_all := lw_g (lw_at lw_m3 210 rfl) rfl
theorem q729 : (Jvm.Cond.methodLink "SyncHall" (222 : Nat) ({ cls := "SyncHall", name := "giveUp", desc := "(LSyncHall$Waiter;I)V" } : Jvm.MethodName)) ∈ lw_all := lw_g (lw_at lw_m3 214 rfl) rfl
theorem q730 : (Jvm.Cond.privateMethod ({ cls := "SyncHall", name := "giveUp", desc := "(LSyncHall$Waiter;I)V" } : Jvm.MethodName)) ∈ lw_tbl := lw_at lw_m3 215 rfl
theorem q731 : (Jvm.Cond.instanceMethod ({ cls := "SyncHall", name := "giveUp", desc := "(LSyncHall$Waiter;I)V" } : Jvm.MethodName)) ∈ lw_all := lw_g (lw_at lw_m3 216 rfl) rfl
theorem q732 : (Jvm.Cond.code ({ cls := "SyncHall", name := "giveUp", desc := "(LSyncHall$Waiter;I)V" } : Jvm.MethodName) prog_1_method_24_code (4 : Nat) (Option.none : Option Jvm.ClassFile.FieldType)) ∈ lw_all := lw_g (lw_at lw_m3 217 rfl) rfl
theorem q733 : (Jvm.Cond.methodLink "SyncHall" (210 : Nat) ({ cls := "SyncHall$Sync", name := "remove", desc := "(LSyncHall$Waiter;)V" } : Jvm.MethodName)) ∈ lw_all := lw_g (lw_at lw_m3 218 rfl) rfl
theorem q734 : (Jvm.Cond.methodLink "SyncHall" (213 : Nat) ({ cls := "SyncHall$Waiter", name := "task", desc := "()LSyncHall$Task;" } : Jvm.MethodName)) ∈ lw_all := lw_g (lw_at lw_m3 219 rfl) rfl
theorem q739 : (Jvm.Cond.instanceMethod ({ cls := "SyncHall", name := "tick", desc := "(D)I" } : Jvm.MethodName)) ∈ lw_all := lw_g (lw_at lw_m3 224 rfl) rfl
theorem q740 : (Jvm.Cond.selects "SyncHall" ({ cls := "SyncHall", name := "tick", desc := "(D)I" } : Jvm.MethodName) ({ cls := "SyncHall", name := "tick", desc := "(D)I" } : Jvm.MethodName)) ∈ lw_all := lw_g (lw_at lw_m3 225 rfl) rfl
theorem q741 : (Jvm.Cond.code ({ cls := "SyncHall", name := "tick", desc := "(D)I" } : Jvm.MethodName) prog_1_method_27_code (5 : Nat) (Option.some Jvm.ClassFile.FieldType.int)) ∈ lw_all := lw_g (lw_at lw_m3 226 rfl) rfl
theorem q742 : (Jvm.Cond.methodLink "SyncHall" (233 : Nat) ({ cls := "SyncHall", name := "latest", desc := "()LSyncHall$Waiter;" } : Jvm.MethodName)) ∈ lw_all := lw_g (lw_at lw_m3 227 rfl) rfl
theorem q743 : (Jvm.Cond.privateMethod ({ cls := "SyncHall", name := "latest", desc := "()LSyncHall$Waiter;" } : Jvm.MethodName)) ∈ lw_tbl := lw_at lw_m3 228 rfl
theorem q744 : (Jvm.Cond.instanceMethod ({ cls := "SyncHall", name := "latest", desc := "()LSyncHall$Waiter;" } : Jvm.MethodName)) ∈ lw_all := lw_g (lw_at lw_m3 229 rfl) rfl
theorem q745 : (Jvm.Cond.code ({ cls := "SyncHall", name := "latest", desc := "()LSyncHall$Waiter;" } : Jvm.MethodName) prog_1_method_26_code (6 : Nat) (Option.some (Jvm.ClassFile.FieldType.object "SyncHall$Waiter"))) ∈ lw_all := lw_g (lw_at lw_m3 230 rfl) rfl
theorem q746 : (Jvm.Cond.methodLink "SyncHall" (226 : Nat) ({ cls := "SyncHall$Waiter", name := "isLate", desc := "(D)Z" } : Jvm.MethodName)) ∈ lw_all := lw_g (lw_at lw_m3 231 rfl) rfl
theorem q750 : (Jvm.Cond.methodLink "SyncHall" (230 : Nat) ({ cls := "SyncHall$Waiter", name := "before", desc := "(LSyncHall$Waiter;)Z" } : Jvm.MethodName)) ∈ lw_all := lw_g (lw_at lw_m3 235 rfl) rfl
theorem q759 : (Jvm.Cond.instanceMethod ({ cls := "SyncHall", name := "policy", desc := "(I)I" } : Jvm.MethodName)) ∈ lw_all := lw_g (lw_at lw_m4 4 rfl) rfl
theorem q760 : (Jvm.Cond.selects "SyncHall" ({ cls := "SyncHall", name := "policy", desc := "(I)I" } : Jvm.MethodName) ({ cls := "SyncHall", name := "policy", desc := "(I)I" } : Jvm.MethodName)) ∈ lw_all := lw_g (lw_at lw_m4 5 rfl) rfl
theorem q761 : (Jvm.Cond.code ({ cls := "SyncHall", name := "policy", desc := "(I)I" } : Jvm.MethodName) prog_1_method_28_code (2 : Nat) (Option.some Jvm.ClassFile.FieldType.int)) ∈ lw_all := lw_g (lw_at lw_m4 6 rfl) rfl
theorem q766 : (Jvm.Cond.instanceMethod ({ cls := "SyncHall", name := "thread", desc := "(II)I" } : Jvm.MethodName)) ∈ lw_all := lw_g (lw_at lw_m4 11 rfl) rfl
theorem q767 : (Jvm.Cond.selects "SyncHall" ({ cls := "SyncHall", name := "thread", desc := "(II)I" } : Jvm.MethodName) ({ cls := "SyncHall", name := "thread", desc := "(II)I" } : Jvm.MethodName)) ∈ lw_all := lw_g (lw_at lw_m4 12 rfl) rfl
theorem q768 : (Jvm.Cond.code ({ cls := "SyncHall", name := "thread", desc := "(II)I" } : Jvm.MethodName) prog_1_method_29_code (5 : Nat) (Option.some Jvm.ClassFile.FieldType.int)) ∈ lw_all := lw_g (lw_at lw_m4 13 rfl) rfl
theorem q769 : (Jvm.Cond.methodLink "SyncHall" (237 : Nat) ({ cls := "SyncHall$Sync", name := "held", desc := "(LSyncHall$Task;)I" } : Jvm.MethodName)) ∈ lw_all := lw_g (lw_at lw_m4 14 rfl) rfl
theorem q786 : (Jvm.Cond.instanceMethod ({ cls := "SyncHall", name := "sync", desc := "(II)I" } : Jvm.MethodName)) ∈ lw_all := lw_g (lw_at lw_m4 31 rfl) rfl
theorem q787 : (Jvm.Cond.selects "SyncHall" ({ cls := "SyncHall", name := "sync", desc := "(II)I" } : Jvm.MethodName) ({ cls := "SyncHall", name := "sync", desc := "(II)I" } : Jvm.MethodName)) ∈ lw_all := lw_g (lw_at lw_m4 32 rfl) rfl
theorem q788 : (Jvm.Cond.code ({ cls := "SyncHall", name := "sync", desc := "(II)I" } : Jvm.MethodName) prog_1_method_30_code (6 : Nat) (Option.some Jvm.ClassFile.FieldType.int)) ∈ lw_all := lw_g (lw_at lw_m4 33 rfl) rfl
theorem q789 : (Jvm.Cond.methodLink "SyncHall" (240 : Nat) ({ cls := "SyncHall$Sync", name := "kind", desc := "()I" } : Jvm.MethodName)) ∈ lw_all := lw_g (lw_at lw_m4 34 rfl) rfl
theorem q807 : (Jvm.Cond.methodLink "SyncHall" (243 : Nat) ({ cls := "SyncHall$Sync", name := "amount", desc := "()I" } : Jvm.MethodName)) ∈ lw_all := lw_g (lw_at lw_m4 52 rfl) rfl
theorem q820 : (Jvm.Cond.methodLink "SyncHall" (250 : Nat) ({ cls := "SyncHall$Task", name := "number", desc := "()I" } : Jvm.MethodName)) ∈ lw_all := lw_g (lw_at lw_m4 65 rfl) rfl
theorem q853 : (Jvm.Cond.instanceMethod ({ cls := "SyncHall", name := "waited", desc := "(I)D" } : Jvm.MethodName)) ∈ lw_all := lw_g (lw_at lw_m4 98 rfl) rfl
theorem q854 : (Jvm.Cond.selects "SyncHall" ({ cls := "SyncHall", name := "waited", desc := "(I)D" } : Jvm.MethodName) ({ cls := "SyncHall", name := "waited", desc := "(I)D" } : Jvm.MethodName)) ∈ lw_all := lw_g (lw_at lw_m4 99 rfl) rfl
theorem q855 : (Jvm.Cond.code ({ cls := "SyncHall", name := "waited", desc := "(I)D" } : Jvm.MethodName) prog_1_method_31_code (3 : Nat) (Option.some Jvm.ClassFile.FieldType.double)) ∈ lw_all := lw_g (lw_at lw_m4 100 rfl) rfl
theorem q856 : (Jvm.Cond.methodLink "SyncHall" (252 : Nat) ({ cls := "SyncHall$Sync", name := "served", desc := "()I" } : Jvm.MethodName)) ∈ lw_all := lw_g (lw_at lw_m4 101 rfl) rfl
theorem q865 : (Jvm.Cond.classLink "SyncHall" (255 : Nat) "java/lang/ArithmeticException") ∈ lw_all := lw_g (lw_at lw_m4 110 rfl) rfl
theorem q866 : (Jvm.Cond.methodLink "SyncHall" (257 : Nat) ({ cls := "java/lang/ArithmeticException", name := "<init>", desc := "()V" } : Jvm.MethodName)) ∈ lw_all := lw_g (lw_at lw_m4 111 rfl) rfl
theorem q870 : (Jvm.Cond.methodLink "SyncHall" (258 : Nat) ({ cls := "SyncHall$Sync", name := "mean", desc := "()D" } : Jvm.MethodName)) ∈ lw_all := lw_g (lw_at lw_m4 115 rfl) rfl
theorem in_X1 : ∀ w ∈ wsX10, w ∈ lw_all := lw_in wsX10 [102, 104, 106, 108, 110, 112] (by decide +kernel) (by decide +kernel)
