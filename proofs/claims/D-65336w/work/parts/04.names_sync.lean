/-! SyncHall$Task -/
set_option maxRecDepth 100000
def RX2 : String := "SyncHall$Task"
def TX2 : u_T := fun k => match k with
  | 0 => ("SyncHall$Task", "number", "I", true)
  | 1 => ("SyncHall$Task", "priority", "D", false)
  | 2 => ("SyncHall$Task", "outcome", "I", false)
  | 3 => ("SyncHall$Task", "flag", "Z", false)
  | _ => ("SyncHall$Task", "place", "LSyncHall$Waiter;", false)
def tyX2 : Nat → FieldType := fun k => match k with
  | 0 => .int
  | 1 => .double
  | 2 => .int
  | 3 => .boolean
  | _ => .object "SyncHall$Waiter"
abbrev wsX20 : List Cond := u_ws RX2 TX2 5
theorem nmX2 : ∀ a, a < 5 → ∀ b, b < 5 → a ≠ b → (TX2 a).2.1 ≠ (TX2 b).2.1 := by decide +kernel
theorem tyX2_ok : ∀ k, k < 5 → parseFieldDescriptor (TX2 k).2.2.1 = some (tyX2 k) := by decide +kernel
abbrev cX2_init : ByteArray := prog_8_method_1_code
def yX2_init : MethodName := ⟨RX2, "<init>", "(I)V"⟩
theorem dX2_init_0 : decode cX2_init 0 = .ok (.aload_n 0, 1) := by decide +kernel
theorem dX2_init_1 : decode cX2_init 1 = .ok (.invokespecial 1, 3) := by decide +kernel
theorem dX2_init_4 : decode cX2_init 4 = .ok (.aload_n 0, 1) := by decide +kernel
theorem dX2_init_5 : decode cX2_init 5 = .ok (.iconst (-1), 1) := by decide +kernel
theorem dX2_init_6 : decode cX2_init 6 = .ok (.putfield 7, 3) := by decide +kernel
theorem dX2_init_9 : decode cX2_init 9 = .ok (.aload_n 0, 1) := by decide +kernel
theorem dX2_init_10 : decode cX2_init 10 = .ok (.iload_n 1, 1) := by decide +kernel
theorem dX2_init_11 : decode cX2_init 11 = .ok (.putfield 13, 3) := by decide +kernel
theorem dX2_init_14 : decode cX2_init 14 = .ok (.return_, 1) := by decide +kernel
abbrev cX2_blocked : ByteArray := prog_8_method_3_code
def yX2_blocked : MethodName := ⟨RX2, "blocked", "()Z"⟩
theorem dX2_blocked_0 : decode cX2_blocked 0 = .ok (.aload_n 0, 1) := by decide +kernel
theorem dX2_blocked_1 : decode cX2_blocked 1 = .ok (.getfield 16, 3) := by decide +kernel
theorem dX2_blocked_4 : decode cX2_blocked 4 = .ok (.ifnull 7, 3) := by decide +kernel
theorem dX2_blocked_7 : decode cX2_blocked 7 = .ok (.iconst 1, 1) := by decide +kernel
theorem dX2_blocked_8 : decode cX2_blocked 8 = .ok (.goto 4, 3) := by decide +kernel
theorem dX2_blocked_11 : decode cX2_blocked 11 = .ok (.iconst 0, 1) := by decide +kernel
theorem dX2_blocked_12 : decode cX2_blocked 12 = .ok (.ireturn, 1) := by decide +kernel
abbrev cX2_number : ByteArray := prog_8_method_2_code
def yX2_number : MethodName := ⟨RX2, "number", "()I"⟩
theorem dX2_number_0 : decode cX2_number 0 = .ok (.aload_n 0, 1) := by decide +kernel
theorem dX2_number_1 : decode cX2_number 1 = .ok (.getfield 13, 3) := by decide +kernel
theorem dX2_number_4 : decode cX2_number 4 = .ok (.ireturn, 1) := by decide +kernel
theorem q37 : (Jvm.Cond.initialized "SyncHall$Task") ∈ lw_all := lw_g (lw_at lw_m1 2 rfl) rfl
theorem q69 : (Jvm.Cond.instantiable "SyncHall$Task" (5 : Nat)) ∈ lw_all := lw_g (lw_at lw_m1 34 rfl) rfl
theorem q71 : (Jvm.Cond.instanceMethod ({ cls := "SyncHall$Task", name := "<init>", desc := "(I)V" } : Jvm.MethodName)) ∈ lw_all := lw_g (lw_at lw_m1 36 rfl) rfl
theorem q72 : (Jvm.Cond.code ({ cls := "SyncHall$Task", name := "<init>", desc := "(I)V" } : Jvm.MethodName) prog_8_method_1_code (2 : Nat) (Option.none : Option Jvm.ClassFile.FieldType)) ∈ lw_all := lw_g (lw_at lw_m1 37 rfl) rfl
theorem q73 : (Jvm.Cond.methodLink "SyncHall$Task" (1 : Nat) ({ cls := "java/lang/Object", name := "<init>", desc := "()V" } : Jvm.MethodName)) ∈ lw_all := lw_g (lw_at lw_m1 38 rfl) rfl
theorem q74 : (Jvm.Cond.fieldLink "SyncHall$Task" (13 : Nat) "SyncHall$Task" "number" "I") ∈ lw_all := lw_g (lw_at lw_m1 39 rfl) rfl
theorem q77 : (Jvm.Cond.fieldLink "SyncHall$Task" (7 : Nat) "SyncHall$Task" "outcome" "I") ∈ lw_all := lw_g (lw_at lw_m1 42 rfl) rfl
theorem q81 : (Jvm.Cond.fieldLink "SyncHall$Task" (16 : Nat) "SyncHall$Task" "place" "LSyncHall$Waiter;") ∈ lw_all := lw_g (lw_at lw_m1 46 rfl) rfl
theorem q84 : (Jvm.Cond.laysFinal "SyncHall$Task" "SyncHall$Task" "number" "I") ∈ lw_all := lw_g (lw_at lw_m1 49 rfl) rfl
theorem q85 : (Jvm.Cond.soleField "SyncHall$Task" "number") ∈ lw_all := lw_g (lw_at lw_m1 50 rfl) rfl
theorem q86 : (Jvm.Cond.lays "SyncHall$Task" "SyncHall$Task" "priority" "D") ∈ lw_all := lw_g (lw_at lw_m1 51 rfl) rfl
theorem q87 : (Jvm.Cond.soleField "SyncHall$Task" "priority") ∈ lw_all := lw_g (lw_at lw_m1 52 rfl) rfl
theorem q88 : (Jvm.Cond.lays "SyncHall$Task" "SyncHall$Task" "outcome" "I") ∈ lw_all := lw_g (lw_at lw_m1 53 rfl) rfl
theorem q89 : (Jvm.Cond.soleField "SyncHall$Task" "outcome") ∈ lw_all := lw_g (lw_at lw_m1 54 rfl) rfl
theorem q90 : (Jvm.Cond.lays "SyncHall$Task" "SyncHall$Task" "flag" "Z") ∈ lw_all := lw_g (lw_at lw_m1 55 rfl) rfl
theorem q91 : (Jvm.Cond.soleField "SyncHall$Task" "flag") ∈ lw_all := lw_g (lw_at lw_m1 56 rfl) rfl
theorem q92 : (Jvm.Cond.lays "SyncHall$Task" "SyncHall$Task" "place" "LSyncHall$Waiter;") ∈ lw_all := lw_g (lw_at lw_m1 57 rfl) rfl
theorem q93 : (Jvm.Cond.soleField "SyncHall$Task" "place") ∈ lw_all := lw_g (lw_at lw_m1 58 rfl) rfl
theorem q94 : (Jvm.Cond.superclass "SyncHall$Task" "java/lang/Object") ∈ lw_all := lw_g (lw_at lw_m1 59 rfl) rfl
theorem q370 : (Jvm.Cond.instanceMethod ({ cls := "SyncHall$Task", name := "blocked", desc := "()Z" } : Jvm.MethodName)) ∈ lw_all := lw_g (lw_at lw_m2 95 rfl) rfl
theorem q371 : (Jvm.Cond.selects "SyncHall$Task" ({ cls := "SyncHall$Task", name := "blocked", desc := "()Z" } : Jvm.MethodName) ({ cls := "SyncHall$Task", name := "blocked", desc := "()Z" } : Jvm.MethodName)) ∈ lw_all := lw_g (lw_at lw_m2 96 rfl) rfl
theorem q372 : (Jvm.Cond.code ({ cls := "SyncHall$Task", name := "blocked", desc := "()Z" } : Jvm.MethodName) prog_8_method_3_code (1 : Nat) (Option.some Jvm.ClassFile.FieldType.boolean)) ∈ lw_all := lw_g (lw_at lw_m2 97 rfl) rfl
theorem q426 : (Jvm.Cond.instanceMethod ({ cls := "SyncHall$Task", name := "number", desc := "()I" } : Jvm.MethodName)) ∈ lw_all := lw_g (lw_at lw_m2 151 rfl) rfl
theorem q427 : (Jvm.Cond.selects "SyncHall$Task" ({ cls := "SyncHall$Task", name := "number", desc := "()I" } : Jvm.MethodName) ({ cls := "SyncHall$Task", name := "number", desc := "()I" } : Jvm.MethodName)) ∈ lw_all := lw_g (lw_at lw_m2 152 rfl) rfl
theorem q428 : (Jvm.Cond.code ({ cls := "SyncHall$Task", name := "number", desc := "()I" } : Jvm.MethodName) prog_8_method_2_code (1 : Nat) (Option.some Jvm.ClassFile.FieldType.int)) ∈ lw_all := lw_g (lw_at lw_m2 153 rfl) rfl
theorem in_X2 : ∀ w ∈ wsX20, w ∈ lw_all := lw_in wsX20 [84, 86, 88, 90, 92] (by decide +kernel) (by decide +kernel)

/-! SyncHall$Waiter -/
set_option maxRecDepth 100000
def RX10 : String := "SyncHall$Waiter"
def TX10 : u_T := fun k => match k with
  | 0 => ("SyncHall$Waiter", "task", "LSyncHall$Task;", true)
  | 1 => ("SyncHall$Waiter", "sync", "LSyncHall$Sync;", true)
  | 2 => ("SyncHall$Waiter", "writes", "Z", true)
  | 3 => ("SyncHall$Waiter", "end", "D", true)
  | 4 => ("SyncHall$Waiter", "since", "D", true)
  | 5 => ("SyncHall$Waiter", "depth", "I", true)
  | 6 => ("SyncHall$Waiter", "outcome", "I", true)
  | _ => ("SyncHall$Waiter", "next", "LSyncHall$Waiter;", false)
def tyX10 : Nat → FieldType := fun k => match k with
  | 0 => .object "SyncHall$Task"
  | 1 => .object "SyncHall$Sync"
  | 2 => .boolean
  | 3 => .double
  | 4 => .double
  | 5 => .int
  | 6 => .int
  | _ => .object "SyncHall$Waiter"
abbrev wsX100 : List Cond := u_ws RX10 TX10 8
theorem nmX10 : ∀ a, a < 8 → ∀ b, b < 8 → a ≠ b → (TX10 a).2.1 ≠ (TX10 b).2.1 := by decide +kernel
theorem tyX10_ok : ∀ k, k < 8 → parseFieldDescriptor (TX10 k).2.2.1 = some (tyX10 k) := by decide +kernel
abbrev cX10_writes : ByteArray := prog_9_method_4_code
def yX10_writes : MethodName := ⟨RX10, "writes", "()Z"⟩
theorem dX10_writes_0 : decode cX10_writes 0 = .ok (.aload_n 0, 1) := by decide +kernel
theorem dX10_writes_1 : decode cX10_writes 1 = .ok (.getfield 17, 3) := by decide +kernel
theorem dX10_writes_4 : decode cX10_writes 4 = .ok (.ireturn, 1) := by decide +kernel
abbrev cX10_init : ByteArray := prog_9_method_1_code
def yX10_init : MethodName := ⟨RX10, "<init>", "(LSyncHall$Task;LSyncHall$Sync;ZDDII)V"⟩
theorem dX10_init_0 : decode cX10_init 0 = .ok (.aload_n 0, 1) := by decide +kernel
theorem dX10_init_1 : decode cX10_init 1 = .ok (.invokespecial 1, 3) := by decide +kernel
theorem dX10_init_4 : decode cX10_init 4 = .ok (.aload_n 0, 1) := by decide +kernel
theorem dX10_init_5 : decode cX10_init 5 = .ok (.aload_n 1, 1) := by decide +kernel
theorem dX10_init_6 : decode cX10_init 6 = .ok (.putfield 7, 3) := by decide +kernel
theorem dX10_init_9 : decode cX10_init 9 = .ok (.aload_n 0, 1) := by decide +kernel
theorem dX10_init_10 : decode cX10_init 10 = .ok (.aload_n 2, 1) := by decide +kernel
theorem dX10_init_11 : decode cX10_init 11 = .ok (.putfield 13, 3) := by decide +kernel
theorem dX10_init_14 : decode cX10_init 14 = .ok (.aload_n 0, 1) := by decide +kernel
theorem dX10_init_15 : decode cX10_init 15 = .ok (.iload_n 3, 1) := by decide +kernel
theorem dX10_init_16 : decode cX10_init 16 = .ok (.putfield 17, 3) := by decide +kernel
theorem dX10_init_19 : decode cX10_init 19 = .ok (.aload_n 0, 1) := by decide +kernel
theorem dX10_init_20 : decode cX10_init 20 = .ok (.dload 4, 2) := by decide +kernel
theorem dX10_init_22 : decode cX10_init 22 = .ok (.putfield 21, 3) := by decide +kernel
theorem dX10_init_25 : decode cX10_init 25 = .ok (.aload_n 0, 1) := by decide +kernel
theorem dX10_init_26 : decode cX10_init 26 = .ok (.dload 6, 2) := by decide +kernel
theorem dX10_init_28 : decode cX10_init 28 = .ok (.putfield 25, 3) := by decide +kernel
theorem dX10_init_31 : decode cX10_init 31 = .ok (.aload_n 0, 1) := by decide +kernel
theorem dX10_init_32 : decode cX10_init 32 = .ok (.iload 8, 2) := by decide +kernel
theorem dX10_init_34 : decode cX10_init 34 = .ok (.putfield 28, 3) := by decide +kernel
theorem dX10_init_37 : decode cX10_init 37 = .ok (.aload_n 0, 1) := by decide +kernel
theorem dX10_init_38 : decode cX10_init 38 = .ok (.iload 9, 2) := by decide +kernel
theorem dX10_init_40 : decode cX10_init 40 = .ok (.putfield 32, 3) := by decide +kernel
theorem dX10_init_43 : decode cX10_init 43 = .ok (.return_, 1) := by decide +kernel
abbrev cX10_task : ByteArray := prog_9_method_2_code
def yX10_task : MethodName := ⟨RX10, "task", "()LSyncHall$Task;"⟩
theorem dX10_task_0 : decode cX10_task 0 = .ok (.aload_n 0, 1) := by decide +kernel
theorem dX10_task_1 : decode cX10_task 1 = .ok (.getfield 7, 3) := by decide +kernel
theorem dX10_task_4 : decode cX10_task 4 = .ok (.areturn, 1) := by decide +kernel
abbrev cX10_takesBack : ByteArray := prog_9_method_5_code
def yX10_takesBack : MethodName := ⟨RX10, "takesBack", "()Z"⟩
theorem dX10_takesBack_0 : decode cX10_takesBack 0 = .ok (.aload_n 0, 1) := by decide +kernel
theorem dX10_takesBack_1 : decode cX10_takesBack 1 = .ok (.getfield 28, 3) := by decide +kernel
theorem dX10_takesBack_4 : decode cX10_takesBack 4 = .ok (.ifCond .le 7, 3) := by decide +kernel
theorem dX10_takesBack_7 : decode cX10_takesBack 7 = .ok (.iconst 1, 1) := by decide +kernel
theorem dX10_takesBack_8 : decode cX10_takesBack 8 = .ok (.goto 4, 3) := by decide +kernel
theorem dX10_takesBack_11 : decode cX10_takesBack 11 = .ok (.iconst 0, 1) := by decide +kernel
theorem dX10_takesBack_12 : decode cX10_takesBack 12 = .ok (.ireturn, 1) := by decide +kernel
abbrev cX10_depth : ByteArray := prog_9_method_6_code
def yX10_depth : MethodName := ⟨RX10, "depth", "()I"⟩
theorem dX10_depth_0 : decode cX10_depth 0 = .ok (.aload_n 0, 1) := by decide +kernel
theorem dX10_depth_1 : decode cX10_depth 1 = .ok (.getfield 28, 3) := by decide +kernel
theorem dX10_depth_4 : decode cX10_depth 4 = .ok (.ireturn, 1) := by decide +kernel
abbrev cX10_outcome : ByteArray := prog_9_method_7_code
def yX10_outcome : MethodName := ⟨RX10, "outcome", "()I"⟩
theorem dX10_outcome_0 : decode cX10_outcome 0 = .ok (.aload_n 0, 1) := by decide +kernel
theorem dX10_outcome_1 : decode cX10_outcome 1 = .ok (.getfield 32, 3) := by decide +kernel
theorem dX10_outcome_4 : decode cX10_outcome 4 = .ok (.ireturn, 1) := by decide +kernel
abbrev cX10_since : ByteArray := prog_9_method_8_code
def yX10_since : MethodName := ⟨RX10, "since", "()D"⟩
theorem dX10_since_0 : decode cX10_since 0 = .ok (.aload_n 0, 1) := by decide +kernel
theorem dX10_since_1 : decode cX10_since 1 = .ok (.getfield 25, 3) := by decide +kernel
theorem dX10_since_4 : decode cX10_since 4 = .ok (.dreturn, 1) := by decide +kernel
abbrev cX10_sync : ByteArray := prog_9_method_3_code
def yX10_sync : MethodName := ⟨RX10, "sync", "()LSyncHall$Sync;"⟩
theorem dX10_sync_0 : decode cX10_sync 0 = .ok (.aload_n 0, 1) := by decide +kernel
theorem dX10_sync_1 : decode cX10_sync 1 = .ok (.getfield 13, 3) := by decide +kernel
theorem dX10_sync_4 : decode cX10_sync 4 = .ok (.areturn, 1) := by decide +kernel
abbrev cX10_isLate : ByteArray := prog_9_method_9_code
def yX10_isLate : MethodName := ⟨RX10, "isLate", "(D)Z"⟩
theorem dX10_isLate_0 : decode cX10_isLate 0 = .ok (.aload_n 0, 1) := by decide +kernel
theorem dX10_isLate_1 : decode cX10_isLate 1 = .ok (.getfield 21, 3) := by decide +kernel
theorem dX10_isLate_4 : decode cX10_isLate 4 = .ok (.dconst 0, 1) := by decide +kernel
theorem dX10_isLate_5 : decode cX10_isLate 5 = .ok (.dcmp .l, 1) := by decide +kernel
theorem dX10_isLate_6 : decode cX10_isLate 6 = .ok (.ifCond .lt 16, 3) := by decide +kernel
theorem dX10_isLate_9 : decode cX10_isLate 9 = .ok (.aload_n 0, 1) := by decide +kernel
theorem dX10_isLate_10 : decode cX10_isLate 10 = .ok (.getfield 21, 3) := by decide +kernel
theorem dX10_isLate_13 : decode cX10_isLate 13 = .ok (.dload_n 1, 1) := by decide +kernel
theorem dX10_isLate_14 : decode cX10_isLate 14 = .ok (.dcmp .g, 1) := by decide +kernel
theorem dX10_isLate_15 : decode cX10_isLate 15 = .ok (.ifCond .gt 7, 3) := by decide +kernel
theorem dX10_isLate_18 : decode cX10_isLate 18 = .ok (.iconst 1, 1) := by decide +kernel
theorem dX10_isLate_19 : decode cX10_isLate 19 = .ok (.goto 4, 3) := by decide +kernel
theorem dX10_isLate_22 : decode cX10_isLate 22 = .ok (.iconst 0, 1) := by decide +kernel
theorem dX10_isLate_23 : decode cX10_isLate 23 = .ok (.ireturn, 1) := by decide +kernel
abbrev cX10_before : ByteArray := prog_9_method_10_code
def yX10_before : MethodName := ⟨RX10, "before", "(LSyncHall$Waiter;)Z"⟩
theorem dX10_before_0 : decode cX10_before 0 = .ok (.aload_n 0, 1) := by decide +kernel
theorem dX10_before_1 : decode cX10_before 1 = .ok (.getfield 21, 3) := by decide +kernel
theorem dX10_before_4 : decode cX10_before 4 = .ok (.aload_n 1, 1) := by decide +kernel
theorem dX10_before_5 : decode cX10_before 5 = .ok (.getfield 21, 3) := by decide +kernel
theorem dX10_before_8 : decode cX10_before 8 = .ok (.dcmp .g, 1) := by decide +kernel
theorem dX10_before_9 : decode cX10_before 9 = .ok (.ifCond .lt 32, 3) := by decide +kernel
theorem dX10_before_12 : decode cX10_before 12 = .ok (.aload_n 0, 1) := by decide +kernel
theorem dX10_before_13 : decode cX10_before 13 = .ok (.getfield 21, 3) := by decide +kernel
theorem dX10_before_16 : decode cX10_before 16 = .ok (.aload_n 1, 1) := by decide +kernel
theorem dX10_before_17 : decode cX10_before 17 = .ok (.getfield 21, 3) := by decide +kernel
theorem dX10_before_20 : decode cX10_before 20 = .ok (.dcmp .l, 1) := by decide +kernel
theorem dX10_before_21 : decode cX10_before 21 = .ok (.ifCond .ne 24, 3) := by decide +kernel
theorem dX10_before_24 : decode cX10_before 24 = .ok (.aload_n 0, 1) := by decide +kernel
theorem dX10_before_25 : decode cX10_before 25 = .ok (.getfield 7, 3) := by decide +kernel
theorem dX10_before_28 : decode cX10_before 28 = .ok (.invokevirtual 35, 3) := by decide +kernel
theorem dX10_before_31 : decode cX10_before 31 = .ok (.aload_n 1, 1) := by decide +kernel
theorem dX10_before_32 : decode cX10_before 32 = .ok (.getfield 7, 3) := by decide +kernel
theorem dX10_before_35 : decode cX10_before 35 = .ok (.invokevirtual 35, 3) := by decide +kernel
theorem dX10_before_38 : decode cX10_before 38 = .ok (.if_icmp .ge 7, 3) := by decide +kernel
theorem dX10_before_41 : decode cX10_before 41 = .ok (.iconst 1, 1) := by decide +kernel
theorem dX10_before_42 : decode cX10_before 42 = .ok (.goto 4, 3) := by decide +kernel
theorem dX10_before_45 : decode cX10_before 45 = .ok (.iconst 0, 1) := by decide +kernel
theorem dX10_before_46 : decode cX10_before 46 = .ok (.ireturn, 1) := by decide +kernel
theorem q52 : (Jvm.Cond.initialized "SyncHall$Waiter") ∈ lw_all := lw_g (lw_at lw_m1 17 rfl) rfl
theorem q457 : (Jvm.Cond.instanceMethod ({ cls := "SyncHall$Waiter", name := "writes", desc := "()Z" } : Jvm.MethodName)) ∈ lw_all := lw_g (lw_at lw_m2 182 rfl) rfl
theorem q458 : (Jvm.Cond.selects "SyncHall$Waiter" ({ cls := "SyncHall$Waiter", name := "writes", desc := "()Z" } : Jvm.MethodName) ({ cls := "SyncHall$Waiter", name := "writes", desc := "()Z" } : Jvm.MethodName)) ∈ lw_all := lw_g (lw_at lw_m2 183 rfl) rfl
theorem q459 : (Jvm.Cond.code ({ cls := "SyncHall$Waiter", name := "writes", desc := "()Z" } : Jvm.MethodName) prog_9_method_4_code (1 : Nat) (Option.some Jvm.ClassFile.FieldType.boolean)) ∈ lw_all := lw_g (lw_at lw_m2 184 rfl) rfl
theorem q501 : (Jvm.Cond.instantiable "SyncHall$Waiter" (8 : Nat)) ∈ lw_all := lw_g (lw_at lw_m2 226 rfl) rfl
theorem q507 : (Jvm.Cond.instanceMethod ({ cls := "SyncHall$Waiter", name := "<init>", desc := "(LSyncHall$Task;LSyncHall$Sync;ZDDII)V" } : Jvm.MethodName)) ∈ lw_all := lw_g (lw_at lw_m2 232 rfl) rfl
theorem q508 : (Jvm.Cond.code ({ cls := "SyncHall$Waiter", name := "<init>", desc := "(LSyncHall$Task;LSyncHall$Sync;ZDDII)V" } : Jvm.MethodName) prog_9_method_1_code (10 : Nat) (Option.none : Option Jvm.ClassFile.FieldType)) ∈ lw_all := lw_g (lw_at lw_m2 233 rfl) rfl
theorem q509 : (Jvm.Cond.methodLink "SyncHall$Waiter" (1 : Nat) ({ cls := "java/lang/Object", name := "<init>", desc := "()V" } : Jvm.MethodName)) ∈ lw_all := lw_g (lw_at lw_m2 234 rfl) rfl
theorem q510 : (Jvm.Cond.fieldLink "SyncHall$Waiter" (7 : Nat) "SyncHall$Waiter" "task" "LSyncHall$Task;") ∈ lw_all := lw_g (lw_at lw_m2 235 rfl) rfl
theorem q511 : (Jvm.Cond.fieldLink "SyncHall$Waiter" (13 : Nat) "SyncHall$Waiter" "sync" "LSyncHall$Sync;") ∈ lw_all := lw_g (lw_at lw_m2 236 rfl) rfl
theorem q512 : (Jvm.Cond.fieldLink "SyncHall$Waiter" (17 : Nat) "SyncHall$Waiter" "writes" "Z") ∈ lw_all := lw_g (lw_at lw_m2 237 rfl) rfl
theorem q513 : (Jvm.Cond.fieldLink "SyncHall$Waiter" (21 : Nat) "SyncHall$Waiter" "end" "D") ∈ lw_all := lw_g (lw_at lw_m2 238 rfl) rfl
theorem q514 : (Jvm.Cond.fieldLink "SyncHall$Waiter" (25 : Nat) "SyncHall$Waiter" "since" "D") ∈ lw_all := lw_g (lw_at lw_m2 239 rfl) rfl
theorem q515 : (Jvm.Cond.fieldLink "SyncHall$Waiter" (28 : Nat) "SyncHall$Waiter" "depth" "I") ∈ lw_all := lw_g (lw_at lw_m3 0 rfl) rfl
theorem q516 : (Jvm.Cond.fieldLink "SyncHall$Waiter" (32 : Nat) "SyncHall$Waiter" "outcome" "I") ∈ lw_all := lw_g (lw_at lw_m3 1 rfl) rfl
theorem q521 : (Jvm.Cond.laysFinal "SyncHall$Waiter" "SyncHall$Waiter" "task" "LSyncHall$Task;") ∈ lw_all := lw_g (lw_at lw_m3 6 rfl) rfl
theorem q522 : (Jvm.Cond.soleField "SyncHall$Waiter" "task") ∈ lw_all := lw_g (lw_at lw_m3 7 rfl) rfl
theorem q523 : (Jvm.Cond.laysFinal "SyncHall$Waiter" "SyncHall$Waiter" "sync" "LSyncHall$Sync;") ∈ lw_all := lw_g (lw_at lw_m3 8 rfl) rfl
theorem q524 : (Jvm.Cond.soleField "SyncHall$Waiter" "sync") ∈ lw_all := lw_g (lw_at lw_m3 9 rfl) rfl
theorem q525 : (Jvm.Cond.laysFinal "SyncHall$Waiter" "SyncHall$Waiter" "writes" "Z") ∈ lw_all := lw_g (lw_at lw_m3 10 rfl) rfl
theorem q526 : (Jvm.Cond.soleField "SyncHall$Waiter" "writes") ∈ lw_all := lw_g (lw_at lw_m3 11 rfl) rfl
theorem q527 : (Jvm.Cond.laysFinal "SyncHall$Waiter" "SyncHall$Waiter" "end" "D") ∈ lw_all := lw_g (lw_at lw_m3 12 rfl) rfl
theorem q528 : (Jvm.Cond.soleField "SyncHall$Waiter" "end") ∈ lw_all := lw_g (lw_at lw_m3 13 rfl) rfl
theorem q529 : (Jvm.Cond.laysFinal "SyncHall$Waiter" "SyncHall$Waiter" "since" "D") ∈ lw_all := lw_g (lw_at lw_m3 14 rfl) rfl
theorem q530 : (Jvm.Cond.soleField "SyncHall$Waiter" "since") ∈ lw_all := lw_g (lw_at lw_m3 15 rfl) rfl
theorem q531 : (Jvm.Cond.laysFinal "SyncHall$Waiter" "SyncHall$Waiter" "depth" "I") ∈ lw_all := lw_g (lw_at lw_m3 16 rfl) rfl
theorem q532 : (Jvm.Cond.soleField "SyncHall$Waiter" "depth") ∈ lw_all := lw_g (lw_at lw_m3 17 rfl) rfl
theorem q533 : (Jvm.Cond.laysFinal "SyncHall$Waiter" "SyncHall$Waiter" "outcome" "I") ∈ lw_all := lw_g (lw_at lw_m3 18 rfl) rfl
theorem q534 : (Jvm.Cond.soleField "SyncHall$Waiter" "outcome") ∈ lw_all := lw_g (lw_at lw_m3 19 rfl) rfl
theorem q535 : (Jvm.Cond.lays "SyncHall$Waiter" "SyncHall$Waiter" "next" "LSyncHall$Waiter;") ∈ lw_all := lw_g (lw_at lw_m3 20 rfl) rfl
theorem q536 : (Jvm.Cond.soleField "SyncHall$Waiter" "next") ∈ lw_all := lw_g (lw_at lw_m3 21 rfl) rfl
theorem q537 : (Jvm.Cond.superclass "SyncHall$Waiter" "java/lang/Object") ∈ lw_all := lw_g (lw_at lw_m3 22 rfl) rfl
theorem q548 : (Jvm.Cond.instanceMethod ({ cls := "SyncHall$Waiter", name := "task", desc := "()LSyncHall$Task;" } : Jvm.MethodName)) ∈ lw_all := lw_g (lw_at lw_m3 33 rfl) rfl
theorem q549 : (Jvm.Cond.selects "SyncHall$Waiter" ({ cls := "SyncHall$Waiter", name := "task", desc := "()LSyncHall$Task;" } : Jvm.MethodName) ({ cls := "SyncHall$Waiter", name := "task", desc := "()LSyncHall$Task;" } : Jvm.MethodName)) ∈ lw_all := lw_g (lw_at lw_m3 34 rfl) rfl
theorem q550 : (Jvm.Cond.code ({ cls := "SyncHall$Waiter", name := "task", desc := "()LSyncHall$Task;" } : Jvm.MethodName) prog_9_method_2_code (1 : Nat) (Option.some (Jvm.ClassFile.FieldType.object "SyncHall$Task"))) ∈ lw_all := lw_g (lw_at lw_m3 35 rfl) rfl
theorem q633 : (Jvm.Cond.instanceMethod ({ cls := "SyncHall$Waiter", name := "takesBack", desc := "()Z" } : Jvm.MethodName)) ∈ lw_all := lw_g (lw_at lw_m3 118 rfl) rfl
theorem q634 : (Jvm.Cond.selects "SyncHall$Waiter" ({ cls := "SyncHall$Waiter", name := "takesBack", desc := "()Z" } : Jvm.MethodName) ({ cls := "SyncHall$Waiter", name := "takesBack", desc := "()Z" } : Jvm.MethodName)) ∈ lw_all := lw_g (lw_at lw_m3 119 rfl) rfl
theorem q635 : (Jvm.Cond.code ({ cls := "SyncHall$Waiter", name := "takesBack", desc := "()Z" } : Jvm.MethodName) prog_9_method_5_code (1 : Nat) (Option.some Jvm.ClassFile.FieldType.boolean)) ∈ lw_all := lw_g (lw_at lw_m3 120 rfl) rfl
theorem q637 : (Jvm.Cond.instanceMethod ({ cls := "SyncHall$Waiter", name := "depth", desc := "()I" } : Jvm.MethodName)) ∈ lw_all := lw_g (lw_at lw_m3 122 rfl) rfl
theorem q638 : (Jvm.Cond.selects "SyncHall$Waiter" ({ cls := "SyncHall$Waiter", name := "depth", desc := "()I" } : Jvm.MethodName) ({ cls := "SyncHall$Waiter", name := "depth", desc := "()I" } : Jvm.MethodName)) ∈ lw_all := lw_g (lw_at lw_m3 123 rfl) rfl
theorem q639 : (Jvm.Cond.code ({ cls := "SyncHall$Waiter", name := "depth", desc := "()I" } : Jvm.MethodName) prog_9_method_6_code (1 : Nat) (Option.some Jvm.ClassFile.FieldType.int)) ∈ lw_all := lw_g (lw_at lw_m3 124 rfl) rfl
theorem q645 : (Jvm.Cond.instanceMethod ({ cls := "SyncHall$Waiter", name := "outcome", desc := "()I" } : Jvm.MethodName)) ∈ lw_all := lw_g (lw_at lw_m3 130 rfl) rfl
theorem q646 : (Jvm.Cond.selects "SyncHall$Waiter" ({ cls := "SyncHall$Waiter", name := "outcome", desc := "()I" } : Jvm.MethodName) ({ cls := "SyncHall$Waiter", name := "outcome", desc := "()I" } : Jvm.MethodName)) ∈ lw_all := lw_g (lw_at lw_m3 131 rfl) rfl
theorem q647 : (Jvm.Cond.code ({ cls := "SyncHall$Waiter", name := "outcome", desc := "()I" } : Jvm.MethodName) prog_9_method_7_code (1 : Nat) (Option.some Jvm.ClassFile.FieldType.int)) ∈ lw_all := lw_g (lw_at lw_m3 132 rfl) rfl
theorem q649 : (Jvm.Cond.instanceMethod ({ cls := "SyncHall$Waiter", name := "since", desc := "()D" } : Jvm.MethodName)) ∈ lw_all := lw_g (lw_at lw_m3 134 rfl) rfl
theorem q650 : (Jvm.Cond.selects "SyncHall$Waiter" ({ cls := "SyncHall$Waiter", name := "since", desc := "()D" } : Jvm.MethodName) ({ cls := "SyncHall$Waiter", name := "since", desc := "()D" } : Jvm.MethodName)) ∈ lw_all := lw_g (lw_at lw_m3 135 rfl) rfl
theorem q651 : (Jvm.Cond.code ({ cls := "SyncHall$Waiter", name := "since", desc := "()D" } : Jvm.MethodName) prog_9_method_8_code (1 : Nat) (Option.some Jvm.ClassFile.FieldType.double)) ∈ lw_all := lw_g (lw_at lw_m3 136 rfl) rfl
theorem q726 : (Jvm.Cond.instanceMethod ({ cls := "SyncHall$Waiter", name := "sync", desc := "()LSyncHall$Sync;" } : Jvm.MethodName)) ∈ lw_all := lw_g (lw_at lw_m3 211 rfl) rfl
theorem q727 : (Jvm.Cond.selects "SyncHall$Waiter" ({ cls := "SyncHall$Waiter", name := "sync", desc := "()LSyncHall$Sync;" } : Jvm.MethodName) ({ cls := "SyncHall$Waiter", name := "sync", desc := "()LSyncHall$Sync;" } : Jvm.MethodName)) ∈ lw_all := lw_g (lw_at lw_m3 212 rfl) rfl
theorem q728 : (Jvm.Cond.code ({ cls := "SyncHall$Waiter", name := "sync", desc := "()LSyncHall$Sync;" } : Jvm.MethodName) prog_9_method_3_code (1 : Nat) (Option.some (Jvm.ClassFile.FieldType.object "SyncHall$Sync"))) ∈ lw_all := lw_g (lw_at lw_m3 213 rfl) rfl
theorem q747 : (Jvm.Cond.instanceMethod ({ cls := "SyncHall$Waiter", name := "isLate", desc := "(D)Z" } : Jvm.MethodName)) ∈ lw_all := lw_g (lw_at lw_m3 232 rfl) rfl
theorem q748 : (Jvm.Cond.selects "SyncHall$Waiter" ({ cls := "SyncHall$Waiter", name := "isLate", desc := "(D)Z" } : Jvm.MethodName) ({ cls := "SyncHall$Waiter", name := "isLate", desc := "(D)Z" } : Jvm.MethodName)) ∈ lw_all := lw_g (lw_at lw_m3 233 rfl) rfl
theorem q749 : (Jvm.Cond.code ({ cls := "SyncHall$Waiter", name := "isLate", desc := "(D)Z" } : Jvm.MethodName) prog_9_method_9_code (3 : Nat) (Option.some Jvm.ClassFile.FieldType.boolean)) ∈ lw_all := lw_g (lw_at lw_m3 234 rfl) rfl
theorem q751 : (Jvm.Cond.instanceMethod ({ cls := "SyncHall$Waiter", name := "before", desc := "(LSyncHall$Waiter;)Z" } : Jvm.MethodName)) ∈ lw_all := lw_g (lw_at lw_m3 236 rfl) rfl
theorem q752 : (Jvm.Cond.selects "SyncHall$Waiter" ({ cls := "SyncHall$Waiter", name := "before", desc := "(LSyncHall$Waiter;)Z" } : Jvm.MethodName) ({ cls := "SyncHall$Waiter", name := "before", desc := "(LSyncHall$Waiter;)Z" } : Jvm.MethodName)) ∈ lw_all := lw_g (lw_at lw_m3 237 rfl) rfl
theorem q753 : (Jvm.Cond.code ({ cls := "SyncHall$Waiter", name := "before", desc := "(LSyncHall$Waiter;)Z" } : Jvm.MethodName) prog_9_method_10_code (2 : Nat) (Option.some Jvm.ClassFile.FieldType.boolean)) ∈ lw_all := lw_g (lw_at lw_m3 238 rfl) rfl
theorem q754 : (Jvm.Cond.methodLink "SyncHall$Waiter" (35 : Nat) ({ cls := "SyncHall$Task", name := "number", desc := "()I" } : Jvm.MethodName)) ∈ lw_all := lw_g (lw_at lw_m3 239 rfl) rfl
theorem in_X10 : ∀ w ∈ wsX100, w ∈ lw_all := lw_in wsX100 [521, 523, 525, 527, 529, 531, 533, 535] (by decide +kernel) (by decide +kernel)

/-! SyncHall$Sync -/
set_option maxRecDepth 100000
def RX4 : String := "SyncHall$Sync"
abbrev cX4_init : ByteArray := prog_7_method_1_code
def yX4_init : MethodName := ⟨RX4, "<init>", "()V"⟩
theorem dX4_init_0 : decode cX4_init 0 = .ok (.aload_n 0, 1) := by decide +kernel
theorem dX4_init_1 : decode cX4_init 1 = .ok (.invokespecial 1, 3) := by decide +kernel
theorem dX4_init_4 : decode cX4_init 4 = .ok (.return_, 1) := by decide +kernel
abbrev cX4_refuses : ByteArray := prog_7_method_9_code
def yX4_refuses : MethodName := ⟨RX4, "refuses", "(LSyncHall$Task;Z)Z"⟩
theorem dX4_refuses_0 : decode cX4_refuses 0 = .ok (.iconst 0, 1) := by decide +kernel
theorem dX4_refuses_1 : decode cX4_refuses 1 = .ok (.ireturn, 1) := by decide +kernel
abbrev cX4_add : ByteArray := prog_7_method_11_code
def yX4_add : MethodName := ⟨RX4, "add", "(LSyncHall$Waiter;)V"⟩
theorem dX4_add_0 : decode cX4_add 0 = .ok (.aload_n 1, 1) := by decide +kernel
theorem dX4_add_1 : decode cX4_add 1 = .ok (.invokevirtual 13, 3) := by decide +kernel
theorem dX4_add_4 : decode cX4_add 4 = .ok (.aload_n 1, 1) := by decide +kernel
theorem dX4_add_5 : decode cX4_add 5 = .ok (.putfield 19, 3) := by decide +kernel
theorem dX4_add_8 : decode cX4_add 8 = .ok (.aload_n 0, 1) := by decide +kernel
theorem dX4_add_9 : decode cX4_add 9 = .ok (.getfield 7, 3) := by decide +kernel
theorem dX4_add_12 : decode cX4_add 12 = .ok (.ifnonnull 9, 3) := by decide +kernel
theorem dX4_add_15 : decode cX4_add 15 = .ok (.aload_n 0, 1) := by decide +kernel
theorem dX4_add_16 : decode cX4_add 16 = .ok (.aload_n 1, 1) := by decide +kernel
theorem dX4_add_17 : decode cX4_add 17 = .ok (.putfield 7, 3) := by decide +kernel
theorem dX4_add_20 : decode cX4_add 20 = .ok (.return_, 1) := by decide +kernel
theorem dX4_add_21 : decode cX4_add 21 = .ok (.aload_n 0, 1) := by decide +kernel
theorem dX4_add_22 : decode cX4_add 22 = .ok (.getfield 7, 3) := by decide +kernel
theorem dX4_add_25 : decode cX4_add 25 = .ok (.astore_n 2, 1) := by decide +kernel
theorem dX4_add_26 : decode cX4_add 26 = .ok (.aload_n 2, 1) := by decide +kernel
theorem dX4_add_27 : decode cX4_add 27 = .ok (.getfield 24, 3) := by decide +kernel
theorem dX4_add_30 : decode cX4_add 30 = .ok (.ifnull 11, 3) := by decide +kernel
theorem dX4_add_33 : decode cX4_add 33 = .ok (.aload_n 2, 1) := by decide +kernel
theorem dX4_add_34 : decode cX4_add 34 = .ok (.getfield 24, 3) := by decide +kernel
theorem dX4_add_37 : decode cX4_add 37 = .ok (.astore_n 2, 1) := by decide +kernel
theorem dX4_add_38 : decode cX4_add 38 = .ok (.goto (-12), 3) := by decide +kernel
theorem dX4_add_41 : decode cX4_add 41 = .ok (.aload_n 2, 1) := by decide +kernel
theorem dX4_add_42 : decode cX4_add 42 = .ok (.aload_n 1, 1) := by decide +kernel
theorem dX4_add_43 : decode cX4_add 43 = .ok (.putfield 24, 3) := by decide +kernel
theorem dX4_add_46 : decode cX4_add 46 = .ok (.return_, 1) := by decide +kernel
abbrev cX4_waiters : ByteArray := prog_7_method_13_code
def yX4_waiters : MethodName := ⟨RX4, "waiters", "()I"⟩
theorem dX4_waiters_0 : decode cX4_waiters 0 = .ok (.iconst 0, 1) := by decide +kernel
theorem dX4_waiters_1 : decode cX4_waiters 1 = .ok (.istore_n 1, 1) := by decide +kernel
theorem dX4_waiters_2 : decode cX4_waiters 2 = .ok (.aload_n 0, 1) := by decide +kernel
theorem dX4_waiters_3 : decode cX4_waiters 3 = .ok (.getfield 7, 3) := by decide +kernel
theorem dX4_waiters_6 : decode cX4_waiters 6 = .ok (.astore_n 2, 1) := by decide +kernel
theorem dX4_waiters_7 : decode cX4_waiters 7 = .ok (.aload_n 2, 1) := by decide +kernel
theorem dX4_waiters_8 : decode cX4_waiters 8 = .ok (.ifnull 14, 3) := by decide +kernel
theorem dX4_waiters_11 : decode cX4_waiters 11 = .ok (.iinc 1 1, 3) := by decide +kernel
theorem dX4_waiters_14 : decode cX4_waiters 14 = .ok (.aload_n 2, 1) := by decide +kernel
theorem dX4_waiters_15 : decode cX4_waiters 15 = .ok (.getfield 24, 3) := by decide +kernel
theorem dX4_waiters_18 : decode cX4_waiters 18 = .ok (.astore_n 2, 1) := by decide +kernel
theorem dX4_waiters_19 : decode cX4_waiters 19 = .ok (.goto (-12), 3) := by decide +kernel
theorem dX4_waiters_22 : decode cX4_waiters 22 = .ok (.iload_n 1, 1) := by decide +kernel
theorem dX4_waiters_23 : decode cX4_waiters 23 = .ok (.ireturn, 1) := by decide +kernel
abbrev cX4_serve : ByteArray := prog_7_method_18_code
def yX4_serve : MethodName := ⟨RX4, "serve", "(D)V"⟩
theorem dX4_serve_0 : decode cX4_serve 0 = .ok (.aload_n 0, 1) := by decide +kernel
theorem dX4_serve_1 : decode cX4_serve 1 = .ok (.invokevirtual 43, 3) := by decide +kernel
theorem dX4_serve_4 : decode cX4_serve 4 = .ok (.astore_n 3, 1) := by decide +kernel
theorem dX4_serve_5 : decode cX4_serve 5 = .ok (.aload_n 3, 1) := by decide +kernel
theorem dX4_serve_6 : decode cX4_serve 6 = .ok (.ifnull 57, 3) := by decide +kernel
theorem dX4_serve_9 : decode cX4_serve 9 = .ok (.aload_n 0, 1) := by decide +kernel
theorem dX4_serve_10 : decode cX4_serve 10 = .ok (.aload_n 3, 1) := by decide +kernel
theorem dX4_serve_11 : decode cX4_serve 11 = .ok (.invokevirtual 13, 3) := by decide +kernel
theorem dX4_serve_14 : decode cX4_serve 14 = .ok (.aload_n 3, 1) := by decide +kernel
theorem dX4_serve_15 : decode cX4_serve 15 = .ok (.invokevirtual 35, 3) := by decide +kernel
theorem dX4_serve_18 : decode cX4_serve 18 = .ok (.invokevirtual 47, 3) := by decide +kernel
theorem dX4_serve_21 : decode cX4_serve 21 = .ok (.ifCond .eq 42, 3) := by decide +kernel
theorem dX4_serve_24 : decode cX4_serve 24 = .ok (.aload_n 0, 1) := by decide +kernel
theorem dX4_serve_25 : decode cX4_serve 25 = .ok (.aload_n 3, 1) := by decide +kernel
theorem dX4_serve_26 : decode cX4_serve 26 = .ok (.invokevirtual 51, 3) := by decide +kernel
theorem dX4_serve_29 : decode cX4_serve 29 = .ok (.aload_n 0, 1) := by decide +kernel
theorem dX4_serve_30 : decode cX4_serve 30 = .ok (.aload_n 3, 1) := by decide +kernel
theorem dX4_serve_31 : decode cX4_serve 31 = .ok (.invokevirtual 55, 3) := by decide +kernel
theorem dX4_serve_34 : decode cX4_serve 34 = .ok (.aload_n 3, 1) := by decide +kernel
theorem dX4_serve_35 : decode cX4_serve 35 = .ok (.invokevirtual 13, 3) := by decide +kernel
theorem dX4_serve_38 : decode cX4_serve 38 = .ok (.aload_n 3, 1) := by decide +kernel
theorem dX4_serve_39 : decode cX4_serve 39 = .ok (.invokevirtual 58, 3) := by decide +kernel
theorem dX4_serve_42 : decode cX4_serve 42 = .ok (.putfield 62, 3) := by decide +kernel
theorem dX4_serve_45 : decode cX4_serve 45 = .ok (.aload_n 0, 1) := by decide +kernel
theorem dX4_serve_46 : decode cX4_serve 46 = .ok (.dload_n 1, 1) := by decide +kernel
theorem dX4_serve_47 : decode cX4_serve 47 = .ok (.aload_n 3, 1) := by decide +kernel
theorem dX4_serve_48 : decode cX4_serve 48 = .ok (.invokevirtual 64, 3) := by decide +kernel
theorem dX4_serve_51 : decode cX4_serve 51 = .ok (.dsub, 1) := by decide +kernel
theorem dX4_serve_52 : decode cX4_serve 52 = .ok (.invokevirtual 68, 3) := by decide +kernel
theorem dX4_serve_55 : decode cX4_serve 55 = .ok (.aload_n 0, 1) := by decide +kernel
theorem dX4_serve_56 : decode cX4_serve 56 = .ok (.invokevirtual 43, 3) := by decide +kernel
theorem dX4_serve_59 : decode cX4_serve 59 = .ok (.astore_n 3, 1) := by decide +kernel
theorem dX4_serve_60 : decode cX4_serve 60 = .ok (.goto (-55), 3) := by decide +kernel
theorem dX4_serve_63 : decode cX4_serve 63 = .ok (.return_, 1) := by decide +kernel
abbrev cX4_nextToServe : ByteArray := prog_7_method_10_code
def yX4_nextToServe : MethodName := ⟨RX4, "nextToServe", "()LSyncHall$Waiter;"⟩
theorem dX4_nextToServe_0 : decode cX4_nextToServe 0 = .ok (.aload_n 0, 1) := by decide +kernel
theorem dX4_nextToServe_1 : decode cX4_nextToServe 1 = .ok (.getfield 7, 3) := by decide +kernel
theorem dX4_nextToServe_4 : decode cX4_nextToServe 4 = .ok (.areturn, 1) := by decide +kernel
abbrev cX4_remove : ByteArray := prog_7_method_12_code
def yX4_remove : MethodName := ⟨RX4, "remove", "(LSyncHall$Waiter;)V"⟩
theorem dX4_remove_0 : decode cX4_remove 0 = .ok (.aload_n 1, 1) := by decide +kernel
theorem dX4_remove_1 : decode cX4_remove 1 = .ok (.invokevirtual 13, 3) := by decide +kernel
theorem dX4_remove_4 : decode cX4_remove 4 = .ok (.aconst_null, 1) := by decide +kernel
theorem dX4_remove_5 : decode cX4_remove 5 = .ok (.putfield 19, 3) := by decide +kernel
theorem dX4_remove_8 : decode cX4_remove 8 = .ok (.aload_n 0, 1) := by decide +kernel
theorem dX4_remove_9 : decode cX4_remove 9 = .ok (.getfield 7, 3) := by decide +kernel
theorem dX4_remove_12 : decode cX4_remove 12 = .ok (.aload_n 1, 1) := by decide +kernel
theorem dX4_remove_13 : decode cX4_remove 13 = .ok (.if_acmp .ne 12, 3) := by decide +kernel
theorem dX4_remove_16 : decode cX4_remove 16 = .ok (.aload_n 0, 1) := by decide +kernel
theorem dX4_remove_17 : decode cX4_remove 17 = .ok (.aload_n 1, 1) := by decide +kernel
theorem dX4_remove_18 : decode cX4_remove 18 = .ok (.getfield 24, 3) := by decide +kernel
theorem dX4_remove_21 : decode cX4_remove 21 = .ok (.putfield 7, 3) := by decide +kernel
theorem dX4_remove_24 : decode cX4_remove 24 = .ok (.return_, 1) := by decide +kernel
theorem dX4_remove_25 : decode cX4_remove 25 = .ok (.aload_n 0, 1) := by decide +kernel
theorem dX4_remove_26 : decode cX4_remove 26 = .ok (.getfield 7, 3) := by decide +kernel
theorem dX4_remove_29 : decode cX4_remove 29 = .ok (.astore_n 2, 1) := by decide +kernel
theorem dX4_remove_30 : decode cX4_remove 30 = .ok (.aload_n 2, 1) := by decide +kernel
theorem dX4_remove_31 : decode cX4_remove 31 = .ok (.getfield 24, 3) := by decide +kernel
theorem dX4_remove_34 : decode cX4_remove 34 = .ok (.aload_n 1, 1) := by decide +kernel
theorem dX4_remove_35 : decode cX4_remove 35 = .ok (.if_acmp .eq 11, 3) := by decide +kernel
theorem dX4_remove_38 : decode cX4_remove 38 = .ok (.aload_n 2, 1) := by decide +kernel
theorem dX4_remove_39 : decode cX4_remove 39 = .ok (.getfield 24, 3) := by decide +kernel
theorem dX4_remove_42 : decode cX4_remove 42 = .ok (.astore_n 2, 1) := by decide +kernel
theorem dX4_remove_43 : decode cX4_remove 43 = .ok (.goto (-13), 3) := by decide +kernel
theorem dX4_remove_46 : decode cX4_remove 46 = .ok (.aload_n 2, 1) := by decide +kernel
theorem dX4_remove_47 : decode cX4_remove 47 = .ok (.aload_n 1, 1) := by decide +kernel
theorem dX4_remove_48 : decode cX4_remove 48 = .ok (.getfield 24, 3) := by decide +kernel
theorem dX4_remove_51 : decode cX4_remove 51 = .ok (.putfield 24, 3) := by decide +kernel
theorem dX4_remove_54 : decode cX4_remove 54 = .ok (.return_, 1) := by decide +kernel
abbrev cX4_takeFor : ByteArray := prog_7_method_17_code
def yX4_takeFor : MethodName := ⟨RX4, "takeFor", "(LSyncHall$Waiter;)V"⟩
theorem dX4_takeFor_0 : decode cX4_takeFor 0 = .ok (.aload_n 0, 1) := by decide +kernel
theorem dX4_takeFor_1 : decode cX4_takeFor 1 = .ok (.aload_n 1, 1) := by decide +kernel
theorem dX4_takeFor_2 : decode cX4_takeFor 2 = .ok (.invokevirtual 13, 3) := by decide +kernel
theorem dX4_takeFor_5 : decode cX4_takeFor 5 = .ok (.aload_n 1, 1) := by decide +kernel
theorem dX4_takeFor_6 : decode cX4_takeFor 6 = .ok (.invokevirtual 35, 3) := by decide +kernel
theorem dX4_takeFor_9 : decode cX4_takeFor 9 = .ok (.invokevirtual 39, 3) := by decide +kernel
theorem dX4_takeFor_12 : decode cX4_takeFor 12 = .ok (.return_, 1) := by decide +kernel
abbrev cX4_note : ByteArray := prog_7_method_14_code
def yX4_note : MethodName := ⟨RX4, "note", "(D)V"⟩
theorem dX4_note_0 : decode cX4_note 0 = .ok (.aload_n 0, 1) := by decide +kernel
theorem dX4_note_1 : decode cX4_note 1 = .ok (.dup, 1) := by decide +kernel
theorem dX4_note_2 : decode cX4_note 2 = .ok (.getfield 27, 3) := by decide +kernel
theorem dX4_note_5 : decode cX4_note 5 = .ok (.dload_n 1, 1) := by decide +kernel
theorem dX4_note_6 : decode cX4_note 6 = .ok (.dadd, 1) := by decide +kernel
theorem dX4_note_7 : decode cX4_note 7 = .ok (.putfield 27, 3) := by decide +kernel
theorem dX4_note_10 : decode cX4_note 10 = .ok (.aload_n 0, 1) := by decide +kernel
theorem dX4_note_11 : decode cX4_note 11 = .ok (.dup, 1) := by decide +kernel
theorem dX4_note_12 : decode cX4_note 12 = .ok (.getfield 31, 3) := by decide +kernel
theorem dX4_note_15 : decode cX4_note 15 = .ok (.iconst 1, 1) := by decide +kernel
theorem dX4_note_16 : decode cX4_note 16 = .ok (.iadd, 1) := by decide +kernel
theorem dX4_note_17 : decode cX4_note 17 = .ok (.putfield 31, 3) := by decide +kernel
theorem dX4_note_20 : decode cX4_note 20 = .ok (.return_, 1) := by decide +kernel
abbrev cX4_held : ByteArray := prog_7_method_8_code
def yX4_held : MethodName := ⟨RX4, "held", "(LSyncHall$Task;)I"⟩
theorem dX4_held_0 : decode cX4_held 0 = .ok (.iconst 0, 1) := by decide +kernel
theorem dX4_held_1 : decode cX4_held 1 = .ok (.ireturn, 1) := by decide +kernel
abbrev cX4_amount : ByteArray := prog_7_method_7_code
def yX4_amount : MethodName := ⟨RX4, "amount", "()I"⟩
theorem dX4_amount_0 : decode cX4_amount 0 = .ok (.iconst 0, 1) := by decide +kernel
theorem dX4_amount_1 : decode cX4_amount 1 = .ok (.ireturn, 1) := by decide +kernel
abbrev cX4_served : ByteArray := prog_7_method_15_code
def yX4_served : MethodName := ⟨RX4, "served", "()I"⟩
theorem dX4_served_0 : decode cX4_served 0 = .ok (.aload_n 0, 1) := by decide +kernel
theorem dX4_served_1 : decode cX4_served 1 = .ok (.getfield 31, 3) := by decide +kernel
theorem dX4_served_4 : decode cX4_served 4 = .ok (.ireturn, 1) := by decide +kernel
abbrev cX4_mean : ByteArray := prog_7_method_16_code
def yX4_mean : MethodName := ⟨RX4, "mean", "()D"⟩
theorem dX4_mean_0 : decode cX4_mean 0 = .ok (.aload_n 0, 1) := by decide +kernel
theorem dX4_mean_1 : decode cX4_mean 1 = .ok (.getfield 27, 3) := by decide +kernel
theorem dX4_mean_4 : decode cX4_mean 4 = .ok (.aload_n 0, 1) := by decide +kernel
theorem dX4_mean_5 : decode cX4_mean 5 = .ok (.getfield 31, 3) := by decide +kernel
theorem dX4_mean_8 : decode cX4_mean 8 = .ok (.i2d, 1) := by decide +kernel
theorem dX4_mean_9 : decode cX4_mean 9 = .ok (.ddiv, 1) := by decide +kernel
theorem dX4_mean_10 : decode cX4_mean 10 = .ok (.dreturn, 1) := by decide +kernel
theorem q45 : (Jvm.Cond.initialized "SyncHall$Sync") ∈ lw_all := lw_g (lw_at lw_m1 10 rfl) rfl
theorem q79 : (Jvm.Cond.fieldLink "SyncHall$Sync" (62 : Nat) "SyncHall$Task" "outcome" "I") ∈ lw_all := lw_g (lw_at lw_m1 44 rfl) rfl
theorem q82 : (Jvm.Cond.fieldLink "SyncHall$Sync" (19 : Nat) "SyncHall$Task" "place" "LSyncHall$Waiter;") ∈ lw_all := lw_g (lw_at lw_m1 47 rfl) rfl
theorem q247 : (Jvm.Cond.instanceMethod ({ cls := "SyncHall$Sync", name := "<init>", desc := "()V" } : Jvm.MethodName)) ∈ lw_all := lw_g (lw_at lw_m1 212 rfl) rfl
theorem q248 : (Jvm.Cond.code ({ cls := "SyncHall$Sync", name := "<init>", desc := "()V" } : Jvm.MethodName) prog_7_method_1_code (1 : Nat) (Option.none : Option Jvm.ClassFile.FieldType)) ∈ lw_all := lw_g (lw_at lw_m1 213 rfl) rfl
theorem q249 : (Jvm.Cond.methodLink "SyncHall$Sync" (1 : Nat) ({ cls := "java/lang/Object", name := "<init>", desc := "()V" } : Jvm.MethodName)) ∈ lw_all := lw_g (lw_at lw_m1 214 rfl) rfl
theorem q259 : (Jvm.Cond.fieldLink "SyncHall$Sync" (7 : Nat) "SyncHall$Sync" "first" "LSyncHall$Waiter;") ∈ lw_all := lw_g (lw_at lw_m1 224 rfl) rfl
theorem q263 : (Jvm.Cond.fieldLink "SyncHall$Sync" (27 : Nat) "SyncHall$Sync" "waited" "D") ∈ lw_all := lw_g (lw_at lw_m1 228 rfl) rfl
theorem q264 : (Jvm.Cond.fieldLink "SyncHall$Sync" (31 : Nat) "SyncHall$Sync" "served" "I") ∈ lw_all := lw_g (lw_at lw_m1 229 rfl) rfl
theorem q272 : (Jvm.Cond.soleField "SyncHall$Sync" "first") ∈ lw_all := lw_g (lw_at lw_m1 237 rfl) rfl
theorem q274 : (Jvm.Cond.soleField "SyncHall$Sync" "waited") ∈ lw_all := lw_g (lw_at lw_m1 239 rfl) rfl
theorem q276 : (Jvm.Cond.soleField "SyncHall$Sync" "served") ∈ lw_all := lw_g (lw_at lw_m2 1 rfl) rfl
theorem q416 : (Jvm.Cond.instanceMethod ({ cls := "SyncHall$Sync", name := "refuses", desc := "(LSyncHall$Task;Z)Z" } : Jvm.MethodName)) ∈ lw_all := lw_g (lw_at lw_m2 141 rfl) rfl
theorem q417 : (Jvm.Cond.sameMethod "SyncHall$Sync" "SyncHall$Sync" "refuses" "(LSyncHall$Task;Z)Z") ∈ lw_all := lw_g (lw_at lw_m2 142 rfl) rfl
theorem q429 : (Jvm.Cond.code ({ cls := "SyncHall$Sync", name := "refuses", desc := "(LSyncHall$Task;Z)Z" } : Jvm.MethodName) prog_7_method_9_code (3 : Nat) (Option.some Jvm.ClassFile.FieldType.boolean)) ∈ lw_all := lw_g (lw_at lw_m2 154 rfl) rfl
theorem q431 : (Jvm.Cond.declares ({ cls := "SyncHall$Sync", name := "mustQueue", desc := "(LSyncHall$Task;Z)Z" } : Jvm.MethodName)) ∈ lw_tbl := lw_at lw_m2 156 rfl
theorem q432 : (Jvm.Cond.sameMethod "SyncHall$Sync" "SyncHall$Sync" "mustQueue" "(LSyncHall$Task;Z)Z") ∈ lw_all := lw_g (lw_at lw_m2 157 rfl) rfl
theorem q461 : (Jvm.Cond.declares ({ cls := "SyncHall$Sync", name := "canTake", desc := "(LSyncHall$Task;Z)Z" } : Jvm.MethodName)) ∈ lw_tbl := lw_at lw_m2 186 rfl
theorem q462 : (Jvm.Cond.sameMethod "SyncHall$Sync" "SyncHall$Sync" "canTake" "(LSyncHall$Task;Z)Z") ∈ lw_all := lw_g (lw_at lw_m2 187 rfl) rfl
theorem q483 : (Jvm.Cond.declares ({ cls := "SyncHall$Sync", name := "take", desc := "(LSyncHall$Task;Z)V" } : Jvm.MethodName)) ∈ lw_tbl := lw_at lw_m2 208 rfl
theorem q484 : (Jvm.Cond.sameMethod "SyncHall$Sync" "SyncHall$Sync" "take" "(LSyncHall$Task;Z)V") ∈ lw_all := lw_g (lw_at lw_m2 209 rfl) rfl
theorem q519 : (Jvm.Cond.fieldLink "SyncHall$Sync" (24 : Nat) "SyncHall$Waiter" "next" "LSyncHall$Waiter;") ∈ lw_all := lw_g (lw_at lw_m3 4 rfl) rfl
theorem q539 : (Jvm.Cond.instanceMethod ({ cls := "SyncHall$Sync", name := "add", desc := "(LSyncHall$Waiter;)V" } : Jvm.MethodName)) ∈ lw_all := lw_g (lw_at lw_m3 24 rfl) rfl
theorem q540 : (Jvm.Cond.sameMethod "SyncHall$Sync" "SyncHall$Sync" "add" "(LSyncHall$Waiter;)V") ∈ lw_all := lw_g (lw_at lw_m3 25 rfl) rfl
theorem q546 : (Jvm.Cond.code ({ cls := "SyncHall$Sync", name := "add", desc := "(LSyncHall$Waiter;)V" } : Jvm.MethodName) prog_7_method_11_code (3 : Nat) (Option.none : Option Jvm.ClassFile.FieldType)) ∈ lw_all := lw_g (lw_at lw_m3 31 rfl) rfl
theorem q547 : (Jvm.Cond.methodLink "SyncHall$Sync" (13 : Nat) ({ cls := "SyncHall$Waiter", name := "task", desc := "()LSyncHall$Task;" } : Jvm.MethodName)) ∈ lw_all := lw_g (lw_at lw_m3 32 rfl) rfl
theorem q559 : (Jvm.Cond.instanceMethod ({ cls := "SyncHall$Sync", name := "waiters", desc := "()I" } : Jvm.MethodName)) ∈ lw_all := lw_g (lw_at lw_m3 44 rfl) rfl
theorem q560 : (Jvm.Cond.sameMethod "SyncHall$Sync" "SyncHall$Sync" "waiters" "()I") ∈ lw_all := lw_g (lw_at lw_m3 45 rfl) rfl
theorem q566 : (Jvm.Cond.code ({ cls := "SyncHall$Sync", name := "waiters", desc := "()I" } : Jvm.MethodName) prog_7_method_13_code (3 : Nat) (Option.some Jvm.ClassFile.FieldType.int)) ∈ lw_all := lw_g (lw_at lw_m3 51 rfl) rfl
theorem q568 : (Jvm.Cond.declares ({ cls := "SyncHall$Sync", name := "giveBack", desc := "(LSyncHall$Task;Z)V" } : Jvm.MethodName)) ∈ lw_tbl := lw_at lw_m3 53 rfl
theorem q569 : (Jvm.Cond.sameMethod "SyncHall$Sync" "SyncHall$Sync" "giveBack" "(LSyncHall$Task;Z)V") ∈ lw_all := lw_g (lw_at lw_m3 54 rfl) rfl
theorem q590 : (Jvm.Cond.instanceMethod ({ cls := "SyncHall$Sync", name := "serve", desc := "(D)V" } : Jvm.MethodName)) ∈ lw_all := lw_g (lw_at lw_m3 75 rfl) rfl
theorem q591 : (Jvm.Cond.sameMethod "SyncHall$Sync" "SyncHall$Sync" "serve" "(D)V") ∈ lw_all := lw_g (lw_at lw_m3 76 rfl) rfl
theorem q597 : (Jvm.Cond.code ({ cls := "SyncHall$Sync", name := "serve", desc := "(D)V" } : Jvm.MethodName) prog_7_method_18_code (4 : Nat) (Option.none : Option Jvm.ClassFile.FieldType)) ∈ lw_all := lw_g (lw_at lw_m3 82 rfl) rfl
theorem q598 : (Jvm.Cond.methodLink "SyncHall$Sync" (43 : Nat) ({ cls := "SyncHall$Sync", name := "nextToServe", desc := "()LSyncHall$Waiter;" } : Jvm.MethodName)) ∈ lw_all := lw_g (lw_at lw_m3 83 rfl) rfl
theorem q599 : (Jvm.Cond.instanceMethod ({ cls := "SyncHall$Sync", name := "nextToServe", desc := "()LSyncHall$Waiter;" } : Jvm.MethodName)) ∈ lw_all := lw_g (lw_at lw_m3 84 rfl) rfl
theorem q600 : (Jvm.Cond.sameMethod "SyncHall$Sync" "SyncHall$Sync" "nextToServe" "()LSyncHall$Waiter;") ∈ lw_all := lw_g (lw_at lw_m3 85 rfl) rfl
theorem q611 : (Jvm.Cond.code ({ cls := "SyncHall$Sync", name := "nextToServe", desc := "()LSyncHall$Waiter;" } : Jvm.MethodName) prog_7_method_10_code (1 : Nat) (Option.some (Jvm.ClassFile.FieldType.object "SyncHall$Waiter"))) ∈ lw_all := lw_g (lw_at lw_m3 96 rfl) rfl
theorem q612 : (Jvm.Cond.methodLink "SyncHall$Sync" (35 : Nat) ({ cls := "SyncHall$Waiter", name := "writes", desc := "()Z" } : Jvm.MethodName)) ∈ lw_all := lw_g (lw_at lw_m3 97 rfl) rfl
theorem q613 : (Jvm.Cond.methodLink "SyncHall$Sync" (47 : Nat) ({ cls := "SyncHall$Sync", name := "canTake", desc := "(LSyncHall$Task;Z)Z" } : Jvm.MethodName)) ∈ lw_all := lw_g (lw_at lw_m3 98 rfl) rfl
theorem q614 : (Jvm.Cond.methodLink "SyncHall$Sync" (51 : Nat) ({ cls := "SyncHall$Sync", name := "remove", desc := "(LSyncHall$Waiter;)V" } : Jvm.MethodName)) ∈ lw_all := lw_g (lw_at lw_m3 99 rfl) rfl
theorem q615 : (Jvm.Cond.instanceMethod ({ cls := "SyncHall$Sync", name := "remove", desc := "(LSyncHall$Waiter;)V" } : Jvm.MethodName)) ∈ lw_all := lw_g (lw_at lw_m3 100 rfl) rfl
theorem q616 : (Jvm.Cond.sameMethod "SyncHall$Sync" "SyncHall$Sync" "remove" "(LSyncHall$Waiter;)V") ∈ lw_all := lw_g (lw_at lw_m3 101 rfl) rfl
theorem q622 : (Jvm.Cond.code ({ cls := "SyncHall$Sync", name := "remove", desc := "(LSyncHall$Waiter;)V" } : Jvm.MethodName) prog_7_method_12_code (3 : Nat) (Option.none : Option Jvm.ClassFile.FieldType)) ∈ lw_all := lw_g (lw_at lw_m3 107 rfl) rfl
theorem q623 : (Jvm.Cond.methodLink "SyncHall$Sync" (55 : Nat) ({ cls := "SyncHall$Sync", name := "takeFor", desc := "(LSyncHall$Waiter;)V" } : Jvm.MethodName)) ∈ lw_all := lw_g (lw_at lw_m3 108 rfl) rfl
theorem q624 : (Jvm.Cond.instanceMethod ({ cls := "SyncHall$Sync", name := "takeFor", desc := "(LSyncHall$Waiter;)V" } : Jvm.MethodName)) ∈ lw_all := lw_g (lw_at lw_m3 109 rfl) rfl
theorem q625 : (Jvm.Cond.sameMethod "SyncHall$Sync" "SyncHall$Sync" "takeFor" "(LSyncHall$Waiter;)V") ∈ lw_all := lw_g (lw_at lw_m3 110 rfl) rfl
theorem q642 : (Jvm.Cond.code ({ cls := "SyncHall$Sync", name := "takeFor", desc := "(LSyncHall$Waiter;)V" } : Jvm.MethodName) prog_7_method_17_code (2 : Nat) (Option.none : Option Jvm.ClassFile.FieldType)) ∈ lw_all := lw_g (lw_at lw_m3 127 rfl) rfl
theorem q643 : (Jvm.Cond.methodLink "SyncHall$Sync" (39 : Nat) ({ cls := "SyncHall$Sync", name := "take", desc := "(LSyncHall$Task;Z)V" } : Jvm.MethodName)) ∈ lw_all := lw_g (lw_at lw_m3 128 rfl) rfl
theorem q644 : (Jvm.Cond.methodLink "SyncHall$Sync" (58 : Nat) ({ cls := "SyncHall$Waiter", name := "outcome", desc := "()I" } : Jvm.MethodName)) ∈ lw_all := lw_g (lw_at lw_m3 129 rfl) rfl
theorem q648 : (Jvm.Cond.methodLink "SyncHall$Sync" (64 : Nat) ({ cls := "SyncHall$Waiter", name := "since", desc := "()D" } : Jvm.MethodName)) ∈ lw_all := lw_g (lw_at lw_m3 133 rfl) rfl
theorem q652 : (Jvm.Cond.methodLink "SyncHall$Sync" (68 : Nat) ({ cls := "SyncHall$Sync", name := "note", desc := "(D)V" } : Jvm.MethodName)) ∈ lw_all := lw_g (lw_at lw_m3 137 rfl) rfl
theorem q653 : (Jvm.Cond.instanceMethod ({ cls := "SyncHall$Sync", name := "note", desc := "(D)V" } : Jvm.MethodName)) ∈ lw_all := lw_g (lw_at lw_m3 138 rfl) rfl
theorem q654 : (Jvm.Cond.sameMethod "SyncHall$Sync" "SyncHall$Sync" "note" "(D)V") ∈ lw_all := lw_g (lw_at lw_m3 139 rfl) rfl
theorem q660 : (Jvm.Cond.code ({ cls := "SyncHall$Sync", name := "note", desc := "(D)V" } : Jvm.MethodName) prog_7_method_14_code (3 : Nat) (Option.none : Option Jvm.ClassFile.FieldType)) ∈ lw_all := lw_g (lw_at lw_m3 145 rfl) rfl
theorem q682 : (Jvm.Cond.declares ({ cls := "SyncHall$Sync", name := "add", desc := "(LSyncHall$Waiter;)V" } : Jvm.MethodName)) ∈ lw_tbl := lw_at lw_m3 167 rfl
theorem q690 : (Jvm.Cond.declares ({ cls := "SyncHall$Sync", name := "remove", desc := "(LSyncHall$Waiter;)V" } : Jvm.MethodName)) ∈ lw_tbl := lw_at lw_m3 175 rfl
theorem q695 : (Jvm.Cond.declares ({ cls := "SyncHall$Sync", name := "note", desc := "(D)V" } : Jvm.MethodName)) ∈ lw_tbl := lw_at lw_m3 180 rfl
theorem q707 : (Jvm.Cond.declares ({ cls := "SyncHall$Sync", name := "serve", desc := "(D)V" } : Jvm.MethodName)) ∈ lw_tbl := lw_at lw_m3 192 rfl
theorem q770 : (Jvm.Cond.instanceMethod ({ cls := "SyncHall$Sync", name := "held", desc := "(LSyncHall$Task;)I" } : Jvm.MethodName)) ∈ lw_all := lw_g (lw_at lw_m4 15 rfl) rfl
theorem q771 : (Jvm.Cond.sameMethod "SyncHall$Sync" "SyncHall$Sync" "held" "(LSyncHall$Task;)I") ∈ lw_all := lw_g (lw_at lw_m4 16 rfl) rfl
theorem q781 : (Jvm.Cond.code ({ cls := "SyncHall$Sync", name := "held", desc := "(LSyncHall$Task;)I" } : Jvm.MethodName) prog_7_method_8_code (2 : Nat) (Option.some Jvm.ClassFile.FieldType.int)) ∈ lw_all := lw_g (lw_at lw_m4 26 rfl) rfl
theorem q790 : (Jvm.Cond.declares ({ cls := "SyncHall$Sync", name := "kind", desc := "()I" } : Jvm.MethodName)) ∈ lw_tbl := lw_at lw_m4 35 rfl
theorem q791 : (Jvm.Cond.sameMethod "SyncHall$Sync" "SyncHall$Sync" "kind" "()I") ∈ lw_all := lw_g (lw_at lw_m4 36 rfl) rfl
theorem q808 : (Jvm.Cond.instanceMethod ({ cls := "SyncHall$Sync", name := "amount", desc := "()I" } : Jvm.MethodName)) ∈ lw_all := lw_g (lw_at lw_m4 53 rfl) rfl
theorem q809 : (Jvm.Cond.sameMethod "SyncHall$Sync" "SyncHall$Sync" "amount" "()I") ∈ lw_all := lw_g (lw_at lw_m4 54 rfl) rfl
theorem q819 : (Jvm.Cond.code ({ cls := "SyncHall$Sync", name := "amount", desc := "()I" } : Jvm.MethodName) prog_7_method_7_code (1 : Nat) (Option.some Jvm.ClassFile.FieldType.int)) ∈ lw_all := lw_g (lw_at lw_m4 64 rfl) rfl
theorem q857 : (Jvm.Cond.instanceMethod ({ cls := "SyncHall$Sync", name := "served", desc := "()I" } : Jvm.MethodName)) ∈ lw_all := lw_g (lw_at lw_m4 102 rfl) rfl
theorem q858 : (Jvm.Cond.sameMethod "SyncHall$Sync" "SyncHall$Sync" "served" "()I") ∈ lw_all := lw_g (lw_at lw_m4 103 rfl) rfl
theorem q864 : (Jvm.Cond.code ({ cls := "SyncHall$Sync", name := "served", desc := "()I" } : Jvm.MethodName) prog_7_method_15_code (1 : Nat) (Option.some Jvm.ClassFile.FieldType.int)) ∈ lw_all := lw_g (lw_at lw_m4 109 rfl) rfl
theorem q871 : (Jvm.Cond.instanceMethod ({ cls := "SyncHall$Sync", name := "mean", desc := "()D" } : Jvm.MethodName)) ∈ lw_all := lw_g (lw_at lw_m4 116 rfl) rfl
theorem q872 : (Jvm.Cond.sameMethod "SyncHall$Sync" "SyncHall$Sync" "mean" "()D") ∈ lw_all := lw_g (lw_at lw_m4 117 rfl) rfl
theorem q878 : (Jvm.Cond.code ({ cls := "SyncHall$Sync", name := "mean", desc := "()D" } : Jvm.MethodName) prog_7_method_16_code (1 : Nat) (Option.some Jvm.ClassFile.FieldType.double)) ∈ lw_all := lw_g (lw_at lw_m4 123 rfl) rfl

/-! SyncHall$Lock -/
set_option maxRecDepth 100000
def RX5 : String := "SyncHall$Lock"
def TX5 : u_T := fun k => match k with
  | 0 => ("SyncHall$Sync", "first", "LSyncHall$Waiter;", false)
  | 1 => ("SyncHall$Sync", "waited", "D", false)
  | 2 => ("SyncHall$Sync", "served", "I", false)
  | 3 => ("SyncHall$Lock", "reentrant", "Z", true)
  | 4 => ("SyncHall$Lock", "owner", "LSyncHall$Task;", false)
  | _ => ("SyncHall$Lock", "depth", "I", false)
def tyX5 : Nat → FieldType := fun k => match k with
  | 0 => .object "SyncHall$Waiter"
  | 1 => .double
  | 2 => .int
  | 3 => .boolean
  | 4 => .object "SyncHall$Task"
  | _ => .int
abbrev wsX50 : List Cond := u_ws RX5 TX5 6
theorem nmX5 : ∀ a, a < 6 → ∀ b, b < 6 → a ≠ b → (TX5 a).2.1 ≠ (TX5 b).2.1 := by decide +kernel
theorem tyX5_ok : ∀ k, k < 6 → parseFieldDescriptor (TX5 k).2.2.1 = some (tyX5 k) := by decide +kernel
abbrev cX5_init : ByteArray := prog_4_method_1_code
def yX5_init : MethodName := ⟨RX5, "<init>", "(Z)V"⟩
theorem dX5_init_0 : decode cX5_init 0 = .ok (.aload_n 0, 1) := by decide +kernel
theorem dX5_init_1 : decode cX5_init 1 = .ok (.invokespecial 1, 3) := by decide +kernel
theorem dX5_init_4 : decode cX5_init 4 = .ok (.aload_n 0, 1) := by decide +kernel
theorem dX5_init_5 : decode cX5_init 5 = .ok (.iload_n 1, 1) := by decide +kernel
theorem dX5_init_6 : decode cX5_init 6 = .ok (.putfield 7, 3) := by decide +kernel
theorem dX5_init_9 : decode cX5_init 9 = .ok (.return_, 1) := by decide +kernel
abbrev cX5_isOwner : ByteArray := prog_4_method_2_code
def yX5_isOwner : MethodName := ⟨RX5, "isOwner", "(LSyncHall$Task;)Z"⟩
theorem dX5_isOwner_0 : decode cX5_isOwner 0 = .ok (.aload_n 0, 1) := by decide +kernel
theorem dX5_isOwner_1 : decode cX5_isOwner 1 = .ok (.getfield 13, 3) := by decide +kernel
theorem dX5_isOwner_4 : decode cX5_isOwner 4 = .ok (.aload_n 1, 1) := by decide +kernel
theorem dX5_isOwner_5 : decode cX5_isOwner 5 = .ok (.if_acmp .ne 7, 3) := by decide +kernel
theorem dX5_isOwner_8 : decode cX5_isOwner 8 = .ok (.iconst 1, 1) := by decide +kernel
theorem dX5_isOwner_9 : decode cX5_isOwner 9 = .ok (.goto 4, 3) := by decide +kernel
theorem dX5_isOwner_12 : decode cX5_isOwner 12 = .ok (.iconst 0, 1) := by decide +kernel
theorem dX5_isOwner_13 : decode cX5_isOwner 13 = .ok (.ireturn, 1) := by decide +kernel
abbrev cX5_mustQueue : ByteArray := prog_4_method_6_code
def yX5_mustQueue : MethodName := ⟨RX5, "mustQueue", "(LSyncHall$Task;Z)Z"⟩
theorem dX5_mustQueue_0 : decode cX5_mustQueue 0 = .ok (.aload_n 0, 1) := by decide +kernel
theorem dX5_mustQueue_1 : decode cX5_mustQueue 1 = .ok (.getfield 21, 3) := by decide +kernel
theorem dX5_mustQueue_4 : decode cX5_mustQueue 4 = .ok (.ifnull 22, 3) := by decide +kernel
theorem dX5_mustQueue_7 : decode cX5_mustQueue 7 = .ok (.aload_n 0, 1) := by decide +kernel
theorem dX5_mustQueue_8 : decode cX5_mustQueue 8 = .ok (.getfield 7, 3) := by decide +kernel
theorem dX5_mustQueue_11 : decode cX5_mustQueue 11 = .ok (.ifCond .eq 11, 3) := by decide +kernel
theorem dX5_mustQueue_14 : decode cX5_mustQueue 14 = .ok (.aload_n 0, 1) := by decide +kernel
theorem dX5_mustQueue_15 : decode cX5_mustQueue 15 = .ok (.getfield 13, 3) := by decide +kernel
theorem dX5_mustQueue_18 : decode cX5_mustQueue 18 = .ok (.aload_n 1, 1) := by decide +kernel
theorem dX5_mustQueue_19 : decode cX5_mustQueue 19 = .ok (.if_acmp .eq 7, 3) := by decide +kernel
theorem dX5_mustQueue_22 : decode cX5_mustQueue 22 = .ok (.iconst 1, 1) := by decide +kernel
theorem dX5_mustQueue_23 : decode cX5_mustQueue 23 = .ok (.goto 4, 3) := by decide +kernel
theorem dX5_mustQueue_26 : decode cX5_mustQueue 26 = .ok (.iconst 0, 1) := by decide +kernel
theorem dX5_mustQueue_27 : decode cX5_mustQueue 27 = .ok (.ireturn, 1) := by decide +kernel
abbrev cX5_canTake : ByteArray := prog_4_method_5_code
def yX5_canTake : MethodName := ⟨RX5, "canTake", "(LSyncHall$Task;Z)Z"⟩
theorem dX5_canTake_0 : decode cX5_canTake 0 = .ok (.aload_n 0, 1) := by decide +kernel
theorem dX5_canTake_1 : decode cX5_canTake 1 = .ok (.getfield 13, 3) := by decide +kernel
theorem dX5_canTake_4 : decode cX5_canTake 4 = .ok (.ifnull 18, 3) := by decide +kernel
theorem dX5_canTake_7 : decode cX5_canTake 7 = .ok (.aload_n 0, 1) := by decide +kernel
theorem dX5_canTake_8 : decode cX5_canTake 8 = .ok (.getfield 7, 3) := by decide +kernel
theorem dX5_canTake_11 : decode cX5_canTake 11 = .ok (.ifCond .eq 15, 3) := by decide +kernel
theorem dX5_canTake_14 : decode cX5_canTake 14 = .ok (.aload_n 0, 1) := by decide +kernel
theorem dX5_canTake_15 : decode cX5_canTake 15 = .ok (.getfield 13, 3) := by decide +kernel
theorem dX5_canTake_18 : decode cX5_canTake 18 = .ok (.aload_n 1, 1) := by decide +kernel
theorem dX5_canTake_19 : decode cX5_canTake 19 = .ok (.if_acmp .ne 7, 3) := by decide +kernel
theorem dX5_canTake_22 : decode cX5_canTake 22 = .ok (.iconst 1, 1) := by decide +kernel
theorem dX5_canTake_23 : decode cX5_canTake 23 = .ok (.goto 4, 3) := by decide +kernel
theorem dX5_canTake_26 : decode cX5_canTake 26 = .ok (.iconst 0, 1) := by decide +kernel
theorem dX5_canTake_27 : decode cX5_canTake 27 = .ok (.ireturn, 1) := by decide +kernel
abbrev cX5_take : ByteArray := prog_4_method_7_code
def yX5_take : MethodName := ⟨RX5, "take", "(LSyncHall$Task;Z)V"⟩
theorem dX5_take_0 : decode cX5_take 0 = .ok (.aload_n 0, 1) := by decide +kernel
theorem dX5_take_1 : decode cX5_take 1 = .ok (.aload_n 1, 1) := by decide +kernel
theorem dX5_take_2 : decode cX5_take 2 = .ok (.putfield 13, 3) := by decide +kernel
theorem dX5_take_5 : decode cX5_take 5 = .ok (.aload_n 0, 1) := by decide +kernel
theorem dX5_take_6 : decode cX5_take 6 = .ok (.dup, 1) := by decide +kernel
theorem dX5_take_7 : decode cX5_take 7 = .ok (.getfield 17, 3) := by decide +kernel
theorem dX5_take_10 : decode cX5_take 10 = .ok (.iconst 1, 1) := by decide +kernel
theorem dX5_take_11 : decode cX5_take 11 = .ok (.iadd, 1) := by decide +kernel
theorem dX5_take_12 : decode cX5_take 12 = .ok (.putfield 17, 3) := by decide +kernel
theorem dX5_take_15 : decode cX5_take 15 = .ok (.return_, 1) := by decide +kernel
abbrev cX5_giveBack : ByteArray := prog_4_method_9_code
def yX5_giveBack : MethodName := ⟨RX5, "giveBack", "(LSyncHall$Task;Z)V"⟩
theorem dX5_giveBack_0 : decode cX5_giveBack 0 = .ok (.aload_n 0, 1) := by decide +kernel
theorem dX5_giveBack_1 : decode cX5_giveBack 1 = .ok (.getfield 13, 3) := by decide +kernel
theorem dX5_giveBack_4 : decode cX5_giveBack 4 = .ok (.aload_n 1, 1) := by decide +kernel
theorem dX5_giveBack_5 : decode cX5_giveBack 5 = .ok (.if_acmp .ne 7, 3) := by decide +kernel
theorem dX5_giveBack_8 : decode cX5_giveBack 8 = .ok (.iconst 1, 1) := by decide +kernel
theorem dX5_giveBack_9 : decode cX5_giveBack 9 = .ok (.goto 4, 3) := by decide +kernel
theorem dX5_giveBack_12 : decode cX5_giveBack 12 = .ok (.iconst 0, 1) := by decide +kernel
theorem dX5_giveBack_13 : decode cX5_giveBack 13 = .ok (.invokestatic 38, 3) := by decide +kernel
theorem dX5_giveBack_16 : decode cX5_giveBack 16 = .ok (.aload_n 0, 1) := by decide +kernel
theorem dX5_giveBack_17 : decode cX5_giveBack 17 = .ok (.dup, 1) := by decide +kernel
theorem dX5_giveBack_18 : decode cX5_giveBack 18 = .ok (.getfield 17, 3) := by decide +kernel
theorem dX5_giveBack_21 : decode cX5_giveBack 21 = .ok (.iconst 1, 1) := by decide +kernel
theorem dX5_giveBack_22 : decode cX5_giveBack 22 = .ok (.isub, 1) := by decide +kernel
theorem dX5_giveBack_23 : decode cX5_giveBack 23 = .ok (.putfield 17, 3) := by decide +kernel
theorem dX5_giveBack_26 : decode cX5_giveBack 26 = .ok (.aload_n 0, 1) := by decide +kernel
theorem dX5_giveBack_27 : decode cX5_giveBack 27 = .ok (.getfield 17, 3) := by decide +kernel
theorem dX5_giveBack_30 : decode cX5_giveBack 30 = .ok (.ifCond .ne 8, 3) := by decide +kernel
theorem dX5_giveBack_33 : decode cX5_giveBack 33 = .ok (.aload_n 0, 1) := by decide +kernel
theorem dX5_giveBack_34 : decode cX5_giveBack 34 = .ok (.aconst_null, 1) := by decide +kernel
theorem dX5_giveBack_35 : decode cX5_giveBack 35 = .ok (.putfield 13, 3) := by decide +kernel
theorem dX5_giveBack_38 : decode cX5_giveBack 38 = .ok (.return_, 1) := by decide +kernel
abbrev cX5_takeFor : ByteArray := prog_4_method_8_code
def yX5_takeFor : MethodName := ⟨RX5, "takeFor", "(LSyncHall$Waiter;)V"⟩
theorem dX5_takeFor_0 : decode cX5_takeFor 0 = .ok (.aload_n 0, 1) := by decide +kernel
theorem dX5_takeFor_1 : decode cX5_takeFor 1 = .ok (.aload_n 1, 1) := by decide +kernel
theorem dX5_takeFor_2 : decode cX5_takeFor 2 = .ok (.invokevirtual 25, 3) := by decide +kernel
theorem dX5_takeFor_5 : decode cX5_takeFor 5 = .ok (.putfield 13, 3) := by decide +kernel
theorem dX5_takeFor_8 : decode cX5_takeFor 8 = .ok (.aload_n 0, 1) := by decide +kernel
theorem dX5_takeFor_9 : decode cX5_takeFor 9 = .ok (.dup, 1) := by decide +kernel
theorem dX5_takeFor_10 : decode cX5_takeFor 10 = .ok (.getfield 17, 3) := by decide +kernel
theorem dX5_takeFor_13 : decode cX5_takeFor 13 = .ok (.aload_n 1, 1) := by decide +kernel
theorem dX5_takeFor_14 : decode cX5_takeFor 14 = .ok (.invokevirtual 31, 3) := by decide +kernel
theorem dX5_takeFor_17 : decode cX5_takeFor 17 = .ok (.ifCond .eq 10, 3) := by decide +kernel
theorem dX5_takeFor_20 : decode cX5_takeFor 20 = .ok (.aload_n 1, 1) := by decide +kernel
theorem dX5_takeFor_21 : decode cX5_takeFor 21 = .ok (.invokevirtual 35, 3) := by decide +kernel
theorem dX5_takeFor_24 : decode cX5_takeFor 24 = .ok (.goto 4, 3) := by decide +kernel
theorem dX5_takeFor_27 : decode cX5_takeFor 27 = .ok (.iconst 1, 1) := by decide +kernel
theorem dX5_takeFor_28 : decode cX5_takeFor 28 = .ok (.iadd, 1) := by decide +kernel
theorem dX5_takeFor_29 : decode cX5_takeFor 29 = .ok (.putfield 17, 3) := by decide +kernel
theorem dX5_takeFor_32 : decode cX5_takeFor 32 = .ok (.return_, 1) := by decide +kernel
abbrev cX5_leave : ByteArray := prog_4_method_3_code
def yX5_leave : MethodName := ⟨RX5, "leave", "()I"⟩
theorem dX5_leave_0 : decode cX5_leave 0 = .ok (.aload_n 0, 1) := by decide +kernel
theorem dX5_leave_1 : decode cX5_leave 1 = .ok (.getfield 17, 3) := by decide +kernel
theorem dX5_leave_4 : decode cX5_leave 4 = .ok (.istore_n 1, 1) := by decide +kernel
theorem dX5_leave_5 : decode cX5_leave 5 = .ok (.aload_n 0, 1) := by decide +kernel
theorem dX5_leave_6 : decode cX5_leave 6 = .ok (.iconst 0, 1) := by decide +kernel
theorem dX5_leave_7 : decode cX5_leave 7 = .ok (.putfield 17, 3) := by decide +kernel
theorem dX5_leave_10 : decode cX5_leave 10 = .ok (.aload_n 0, 1) := by decide +kernel
theorem dX5_leave_11 : decode cX5_leave 11 = .ok (.aconst_null, 1) := by decide +kernel
theorem dX5_leave_12 : decode cX5_leave 12 = .ok (.putfield 13, 3) := by decide +kernel
theorem dX5_leave_15 : decode cX5_leave 15 = .ok (.iload_n 1, 1) := by decide +kernel
theorem dX5_leave_16 : decode cX5_leave 16 = .ok (.ireturn, 1) := by decide +kernel
abbrev cX5_held : ByteArray := prog_4_method_10_code
def yX5_held : MethodName := ⟨RX5, "held", "(LSyncHall$Task;)I"⟩
theorem dX5_held_0 : decode cX5_held 0 = .ok (.aload_n 0, 1) := by decide +kernel
theorem dX5_held_1 : decode cX5_held 1 = .ok (.getfield 13, 3) := by decide +kernel
theorem dX5_held_4 : decode cX5_held 4 = .ok (.aload_n 1, 1) := by decide +kernel
theorem dX5_held_5 : decode cX5_held 5 = .ok (.if_acmp .ne 10, 3) := by decide +kernel
theorem dX5_held_8 : decode cX5_held 8 = .ok (.aload_n 0, 1) := by decide +kernel
theorem dX5_held_9 : decode cX5_held 9 = .ok (.getfield 17, 3) := by decide +kernel
theorem dX5_held_12 : decode cX5_held 12 = .ok (.goto 4, 3) := by decide +kernel
theorem dX5_held_15 : decode cX5_held 15 = .ok (.iconst 0, 1) := by decide +kernel
theorem dX5_held_16 : decode cX5_held 16 = .ok (.ireturn, 1) := by decide +kernel
abbrev cX5_kind : ByteArray := prog_4_method_4_code
def yX5_kind : MethodName := ⟨RX5, "kind", "()I"⟩
theorem dX5_kind_0 : decode cX5_kind 0 = .ok (.aload_n 0, 1) := by decide +kernel
theorem dX5_kind_1 : decode cX5_kind 1 = .ok (.getfield 7, 3) := by decide +kernel
theorem dX5_kind_4 : decode cX5_kind 4 = .ok (.ifCond .eq 7, 3) := by decide +kernel
theorem dX5_kind_7 : decode cX5_kind 7 = .ok (.iconst 1, 1) := by decide +kernel
theorem dX5_kind_8 : decode cX5_kind 8 = .ok (.goto 4, 3) := by decide +kernel
theorem dX5_kind_11 : decode cX5_kind 11 = .ok (.iconst 0, 1) := by decide +kernel
theorem dX5_kind_12 : decode cX5_kind 12 = .ok (.ireturn, 1) := by decide +kernel
theorem q46 : (Jvm.Cond.initialized "SyncHall$Lock") ∈ lw_all := lw_g (lw_at lw_m1 11 rfl) rfl
theorem q242 : (Jvm.Cond.instantiable "SyncHall$Lock" (6 : Nat)) ∈ lw_all := lw_g (lw_at lw_m1 207 rfl) rfl
theorem q244 : (Jvm.Cond.instanceMethod ({ cls := "SyncHall$Lock", name := "<init>", desc := "(Z)V" } : Jvm.MethodName)) ∈ lw_all := lw_g (lw_at lw_m1 209 rfl) rfl
theorem q245 : (Jvm.Cond.code ({ cls := "SyncHall$Lock", name := "<init>", desc := "(Z)V" } : Jvm.MethodName) prog_4_method_1_code (2 : Nat) (Option.none : Option Jvm.ClassFile.FieldType)) ∈ lw_all := lw_g (lw_at lw_m1 210 rfl) rfl
theorem q246 : (Jvm.Cond.methodLinkNest "SyncHall$Lock" (1 : Nat) ({ cls := "SyncHall$Sync", name := "<init>", desc := "()V" } : Jvm.MethodName) "SyncHall") ∈ lw_tbl := lw_at lw_m1 211 rfl
theorem q250 : (Jvm.Cond.fieldLink "SyncHall$Lock" (7 : Nat) "SyncHall$Lock" "reentrant" "Z") ∈ lw_all := lw_g (lw_at lw_m1 215 rfl) rfl
theorem q251 : (Jvm.Cond.fieldLink "SyncHall$Lock" (13 : Nat) "SyncHall$Lock" "owner" "LSyncHall$Task;") ∈ lw_all := lw_g (lw_at lw_m1 216 rfl) rfl
theorem q252 : (Jvm.Cond.fieldLink "SyncHall$Lock" (17 : Nat) "SyncHall$Lock" "depth" "I") ∈ lw_all := lw_g (lw_at lw_m1 217 rfl) rfl
theorem q255 : (Jvm.Cond.fieldLink "SyncHall$Lock" (21 : Nat) "SyncHall$Lock" "first" "LSyncHall$Waiter;") ∈ lw_all := lw_g (lw_at lw_m1 220 rfl) rfl
theorem q256 : (Jvm.Cond.sameField "SyncHall$Lock" "SyncHall$Sync" "first" "LSyncHall$Waiter;") ∈ lw_all := lw_g (lw_at lw_m1 221 rfl) rfl
theorem q265 : (Jvm.Cond.laysFinal "SyncHall$Lock" "SyncHall$Lock" "reentrant" "Z") ∈ lw_all := lw_g (lw_at lw_m1 230 rfl) rfl
theorem q266 : (Jvm.Cond.soleField "SyncHall$Lock" "reentrant") ∈ lw_all := lw_g (lw_at lw_m1 231 rfl) rfl
theorem q267 : (Jvm.Cond.lays "SyncHall$Lock" "SyncHall$Lock" "owner" "LSyncHall$Task;") ∈ lw_all := lw_g (lw_at lw_m1 232 rfl) rfl
theorem q268 : (Jvm.Cond.soleField "SyncHall$Lock" "owner") ∈ lw_all := lw_g (lw_at lw_m1 233 rfl) rfl
theorem q269 : (Jvm.Cond.lays "SyncHall$Lock" "SyncHall$Lock" "depth" "I") ∈ lw_all := lw_g (lw_at lw_m1 234 rfl) rfl
theorem q270 : (Jvm.Cond.soleField "SyncHall$Lock" "depth") ∈ lw_all := lw_g (lw_at lw_m1 235 rfl) rfl
theorem q271 : (Jvm.Cond.lays "SyncHall$Lock" "SyncHall$Sync" "first" "LSyncHall$Waiter;") ∈ lw_all := lw_g (lw_at lw_m1 236 rfl) rfl
theorem q273 : (Jvm.Cond.lays "SyncHall$Lock" "SyncHall$Sync" "waited" "D") ∈ lw_all := lw_g (lw_at lw_m1 238 rfl) rfl
theorem q275 : (Jvm.Cond.lays "SyncHall$Lock" "SyncHall$Sync" "served" "I") ∈ lw_all := lw_g (lw_at lw_m2 0 rfl) rfl
theorem q277 : (Jvm.Cond.superclass "SyncHall$Lock" "SyncHall$Sync") ∈ lw_all := lw_g (lw_at lw_m2 2 rfl) rfl
theorem q408 : (Jvm.Cond.instanceMethod ({ cls := "SyncHall$Lock", name := "isOwner", desc := "(LSyncHall$Task;)Z" } : Jvm.MethodName)) ∈ lw_all := lw_g (lw_at lw_m2 133 rfl) rfl
theorem q409 : (Jvm.Cond.selects "SyncHall$Lock" ({ cls := "SyncHall$Lock", name := "isOwner", desc := "(LSyncHall$Task;)Z" } : Jvm.MethodName) ({ cls := "SyncHall$Lock", name := "isOwner", desc := "(LSyncHall$Task;)Z" } : Jvm.MethodName)) ∈ lw_all := lw_g (lw_at lw_m2 134 rfl) rfl
theorem q410 : (Jvm.Cond.code ({ cls := "SyncHall$Lock", name := "isOwner", desc := "(LSyncHall$Task;)Z" } : Jvm.MethodName) prog_4_method_2_code (2 : Nat) (Option.some Jvm.ClassFile.FieldType.boolean)) ∈ lw_all := lw_g (lw_at lw_m2 135 rfl) rfl
theorem q420 : (Jvm.Cond.selects "SyncHall$Lock" ({ cls := "SyncHall$Sync", name := "refuses", desc := "(LSyncHall$Task;Z)Z" } : Jvm.MethodName) ({ cls := "SyncHall$Sync", name := "refuses", desc := "(LSyncHall$Task;Z)Z" } : Jvm.MethodName)) ∈ lw_all := lw_g (lw_at lw_m2 145 rfl) rfl
theorem q439 : (Jvm.Cond.selects "SyncHall$Lock" ({ cls := "SyncHall$Sync", name := "mustQueue", desc := "(LSyncHall$Task;Z)Z" } : Jvm.MethodName) ({ cls := "SyncHall$Lock", name := "mustQueue", desc := "(LSyncHall$Task;Z)Z" } : Jvm.MethodName)) ∈ lw_all := lw_g (lw_at lw_m2 164 rfl) rfl
theorem q440 : (Jvm.Cond.instanceMethod ({ cls := "SyncHall$Lock", name := "mustQueue", desc := "(LSyncHall$Task;Z)Z" } : Jvm.MethodName)) ∈ lw_all := lw_g (lw_at lw_m2 165 rfl) rfl
theorem q441 : (Jvm.Cond.code ({ cls := "SyncHall$Lock", name := "mustQueue", desc := "(LSyncHall$Task;Z)Z" } : Jvm.MethodName) prog_4_method_6_code (3 : Nat) (Option.some Jvm.ClassFile.FieldType.boolean)) ∈ lw_all := lw_g (lw_at lw_m2 166 rfl) rfl
theorem q469 : (Jvm.Cond.selects "SyncHall$Lock" ({ cls := "SyncHall$Sync", name := "canTake", desc := "(LSyncHall$Task;Z)Z" } : Jvm.MethodName) ({ cls := "SyncHall$Lock", name := "canTake", desc := "(LSyncHall$Task;Z)Z" } : Jvm.MethodName)) ∈ lw_all := lw_g (lw_at lw_m2 194 rfl) rfl
theorem q470 : (Jvm.Cond.instanceMethod ({ cls := "SyncHall$Lock", name := "canTake", desc := "(LSyncHall$Task;Z)Z" } : Jvm.MethodName)) ∈ lw_all := lw_g (lw_at lw_m2 195 rfl) rfl
theorem q471 : (Jvm.Cond.code ({ cls := "SyncHall$Lock", name := "canTake", desc := "(LSyncHall$Task;Z)Z" } : Jvm.MethodName) prog_4_method_5_code (3 : Nat) (Option.some Jvm.ClassFile.FieldType.boolean)) ∈ lw_all := lw_g (lw_at lw_m2 196 rfl) rfl
theorem q491 : (Jvm.Cond.selects "SyncHall$Lock" ({ cls := "SyncHall$Sync", name := "take", desc := "(LSyncHall$Task;Z)V" } : Jvm.MethodName) ({ cls := "SyncHall$Lock", name := "take", desc := "(LSyncHall$Task;Z)V" } : Jvm.MethodName)) ∈ lw_all := lw_g (lw_at lw_m2 216 rfl) rfl
theorem q492 : (Jvm.Cond.instanceMethod ({ cls := "SyncHall$Lock", name := "take", desc := "(LSyncHall$Task;Z)V" } : Jvm.MethodName)) ∈ lw_all := lw_g (lw_at lw_m2 217 rfl) rfl
theorem q493 : (Jvm.Cond.code ({ cls := "SyncHall$Lock", name := "take", desc := "(LSyncHall$Task;Z)V" } : Jvm.MethodName) prog_4_method_7_code (3 : Nat) (Option.none : Option Jvm.ClassFile.FieldType)) ∈ lw_all := lw_g (lw_at lw_m2 218 rfl) rfl
theorem q543 : (Jvm.Cond.selects "SyncHall$Lock" ({ cls := "SyncHall$Sync", name := "add", desc := "(LSyncHall$Waiter;)V" } : Jvm.MethodName) ({ cls := "SyncHall$Sync", name := "add", desc := "(LSyncHall$Waiter;)V" } : Jvm.MethodName)) ∈ lw_all := lw_g (lw_at lw_m3 28 rfl) rfl
theorem q563 : (Jvm.Cond.selects "SyncHall$Lock" ({ cls := "SyncHall$Sync", name := "waiters", desc := "()I" } : Jvm.MethodName) ({ cls := "SyncHall$Sync", name := "waiters", desc := "()I" } : Jvm.MethodName)) ∈ lw_all := lw_g (lw_at lw_m3 48 rfl) rfl
theorem q577 : (Jvm.Cond.selects "SyncHall$Lock" ({ cls := "SyncHall$Sync", name := "giveBack", desc := "(LSyncHall$Task;Z)V" } : Jvm.MethodName) ({ cls := "SyncHall$Lock", name := "giveBack", desc := "(LSyncHall$Task;Z)V" } : Jvm.MethodName)) ∈ lw_all := lw_g (lw_at lw_m3 62 rfl) rfl
theorem q578 : (Jvm.Cond.instanceMethod ({ cls := "SyncHall$Lock", name := "giveBack", desc := "(LSyncHall$Task;Z)V" } : Jvm.MethodName)) ∈ lw_all := lw_g (lw_at lw_m3 63 rfl) rfl
theorem q579 : (Jvm.Cond.code ({ cls := "SyncHall$Lock", name := "giveBack", desc := "(LSyncHall$Task;Z)V" } : Jvm.MethodName) prog_4_method_9_code (3 : Nat) (Option.none : Option Jvm.ClassFile.FieldType)) ∈ lw_all := lw_g (lw_at lw_m3 64 rfl) rfl
theorem q580 : (Jvm.Cond.methodLinkNest "SyncHall$Lock" (38 : Nat) ({ cls := "SyncHall", name := "state", desc := "(Z)V" } : Jvm.MethodName) "SyncHall") ∈ lw_tbl := lw_at lw_m3 65 rfl
theorem q594 : (Jvm.Cond.selects "SyncHall$Lock" ({ cls := "SyncHall$Sync", name := "serve", desc := "(D)V" } : Jvm.MethodName) ({ cls := "SyncHall$Sync", name := "serve", desc := "(D)V" } : Jvm.MethodName)) ∈ lw_all := lw_g (lw_at lw_m3 79 rfl) rfl
theorem q603 : (Jvm.Cond.selects "SyncHall$Lock" ({ cls := "SyncHall$Sync", name := "nextToServe", desc := "()LSyncHall$Waiter;" } : Jvm.MethodName) ({ cls := "SyncHall$Sync", name := "nextToServe", desc := "()LSyncHall$Waiter;" } : Jvm.MethodName)) ∈ lw_all := lw_g (lw_at lw_m3 88 rfl) rfl
theorem q619 : (Jvm.Cond.selects "SyncHall$Lock" ({ cls := "SyncHall$Sync", name := "remove", desc := "(LSyncHall$Waiter;)V" } : Jvm.MethodName) ({ cls := "SyncHall$Sync", name := "remove", desc := "(LSyncHall$Waiter;)V" } : Jvm.MethodName)) ∈ lw_all := lw_g (lw_at lw_m3 104 rfl) rfl
theorem q628 : (Jvm.Cond.selects "SyncHall$Lock" ({ cls := "SyncHall$Sync", name := "takeFor", desc := "(LSyncHall$Waiter;)V" } : Jvm.MethodName) ({ cls := "SyncHall$Lock", name := "takeFor", desc := "(LSyncHall$Waiter;)V" } : Jvm.MethodName)) ∈ lw_all := lw_g (lw_at lw_m3 113 rfl) rfl
theorem q629 : (Jvm.Cond.instanceMethod ({ cls := "SyncHall$Lock", name := "takeFor", desc := "(LSyncHall$Waiter;)V" } : Jvm.MethodName)) ∈ lw_all := lw_g (lw_at lw_m3 114 rfl) rfl
theorem q630 : (Jvm.Cond.code ({ cls := "SyncHall$Lock", name := "takeFor", desc := "(LSyncHall$Waiter;)V" } : Jvm.MethodName) prog_4_method_8_code (2 : Nat) (Option.none : Option Jvm.ClassFile.FieldType)) ∈ lw_all := lw_g (lw_at lw_m3 115 rfl) rfl
theorem q631 : (Jvm.Cond.methodLink "SyncHall$Lock" (25 : Nat) ({ cls := "SyncHall$Waiter", name := "task", desc := "()LSyncHall$Task;" } : Jvm.MethodName)) ∈ lw_all := lw_g (lw_at lw_m3 116 rfl) rfl
theorem q632 : (Jvm.Cond.methodLink "SyncHall$Lock" (31 : Nat) ({ cls := "SyncHall$Waiter", name := "takesBack", desc := "()Z" } : Jvm.MethodName)) ∈ lw_all := lw_g (lw_at lw_m3 117 rfl) rfl
theorem q636 : (Jvm.Cond.methodLink "SyncHall$Lock" (35 : Nat) ({ cls := "SyncHall$Waiter", name := "depth", desc := "()I" } : Jvm.MethodName)) ∈ lw_all := lw_g (lw_at lw_m3 121 rfl) rfl
theorem q657 : (Jvm.Cond.selects "SyncHall$Lock" ({ cls := "SyncHall$Sync", name := "note", desc := "(D)V" } : Jvm.MethodName) ({ cls := "SyncHall$Sync", name := "note", desc := "(D)V" } : Jvm.MethodName)) ∈ lw_all := lw_g (lw_at lw_m3 142 rfl) rfl
theorem q677 : (Jvm.Cond.instanceMethod ({ cls := "SyncHall$Lock", name := "leave", desc := "()I" } : Jvm.MethodName)) ∈ lw_all := lw_g (lw_at lw_m3 162 rfl) rfl
theorem q678 : (Jvm.Cond.selects "SyncHall$Lock" ({ cls := "SyncHall$Lock", name := "leave", desc := "()I" } : Jvm.MethodName) ({ cls := "SyncHall$Lock", name := "leave", desc := "()I" } : Jvm.MethodName)) ∈ lw_all := lw_g (lw_at lw_m3 163 rfl) rfl
theorem q679 : (Jvm.Cond.code ({ cls := "SyncHall$Lock", name := "leave", desc := "()I" } : Jvm.MethodName) prog_4_method_3_code (2 : Nat) (Option.some Jvm.ClassFile.FieldType.int)) ∈ lw_all := lw_g (lw_at lw_m3 164 rfl) rfl
theorem q703 : (Jvm.Cond.sameMethod "SyncHall$Lock" "SyncHall$Sync" "add" "(LSyncHall$Waiter;)V") ∈ lw_all := lw_g (lw_at lw_m3 188 rfl) rfl
theorem q704 : (Jvm.Cond.selects "SyncHall$Lock" ({ cls := "SyncHall$Lock", name := "add", desc := "(LSyncHall$Waiter;)V" } : Jvm.MethodName) ({ cls := "SyncHall$Sync", name := "add", desc := "(LSyncHall$Waiter;)V" } : Jvm.MethodName)) ∈ lw_all := lw_g (lw_at lw_m3 189 rfl) rfl
theorem q706 : (Jvm.Cond.sameMethod "SyncHall$Lock" "SyncHall$Sync" "serve" "(D)V") ∈ lw_all := lw_g (lw_at lw_m3 191 rfl) rfl
theorem q708 : (Jvm.Cond.selects "SyncHall$Lock" ({ cls := "SyncHall$Lock", name := "serve", desc := "(D)V" } : Jvm.MethodName) ({ cls := "SyncHall$Sync", name := "serve", desc := "(D)V" } : Jvm.MethodName)) ∈ lw_all := lw_g (lw_at lw_m3 193 rfl) rfl
theorem q774 : (Jvm.Cond.selects "SyncHall$Lock" ({ cls := "SyncHall$Sync", name := "held", desc := "(LSyncHall$Task;)I" } : Jvm.MethodName) ({ cls := "SyncHall$Lock", name := "held", desc := "(LSyncHall$Task;)I" } : Jvm.MethodName)) ∈ lw_all := lw_g (lw_at lw_m4 19 rfl) rfl
theorem q775 : (Jvm.Cond.instanceMethod ({ cls := "SyncHall$Lock", name := "held", desc := "(LSyncHall$Task;)I" } : Jvm.MethodName)) ∈ lw_all := lw_g (lw_at lw_m4 20 rfl) rfl
theorem q776 : (Jvm.Cond.code ({ cls := "SyncHall$Lock", name := "held", desc := "(LSyncHall$Task;)I" } : Jvm.MethodName) prog_4_method_10_code (2 : Nat) (Option.some Jvm.ClassFile.FieldType.int)) ∈ lw_all := lw_g (lw_at lw_m4 21 rfl) rfl
theorem q798 : (Jvm.Cond.selects "SyncHall$Lock" ({ cls := "SyncHall$Sync", name := "kind", desc := "()I" } : Jvm.MethodName) ({ cls := "SyncHall$Lock", name := "kind", desc := "()I" } : Jvm.MethodName)) ∈ lw_all := lw_g (lw_at lw_m4 43 rfl) rfl
theorem q799 : (Jvm.Cond.instanceMethod ({ cls := "SyncHall$Lock", name := "kind", desc := "()I" } : Jvm.MethodName)) ∈ lw_all := lw_g (lw_at lw_m4 44 rfl) rfl
theorem q800 : (Jvm.Cond.code ({ cls := "SyncHall$Lock", name := "kind", desc := "()I" } : Jvm.MethodName) prog_4_method_4_code (1 : Nat) (Option.some Jvm.ClassFile.FieldType.int)) ∈ lw_all := lw_g (lw_at lw_m4 45 rfl) rfl
theorem q814 : (Jvm.Cond.selects "SyncHall$Lock" ({ cls := "SyncHall$Sync", name := "amount", desc := "()I" } : Jvm.MethodName) ({ cls := "SyncHall$Sync", name := "amount", desc := "()I" } : Jvm.MethodName)) ∈ lw_all := lw_g (lw_at lw_m4 59 rfl) rfl
theorem q861 : (Jvm.Cond.selects "SyncHall$Lock" ({ cls := "SyncHall$Sync", name := "served", desc := "()I" } : Jvm.MethodName) ({ cls := "SyncHall$Sync", name := "served", desc := "()I" } : Jvm.MethodName)) ∈ lw_all := lw_g (lw_at lw_m4 106 rfl) rfl
theorem q875 : (Jvm.Cond.selects "SyncHall$Lock" ({ cls := "SyncHall$Sync", name := "mean", desc := "()D" } : Jvm.MethodName) ({ cls := "SyncHall$Sync", name := "mean", desc := "()D" } : Jvm.MethodName)) ∈ lw_all := lw_g (lw_at lw_m4 120 rfl) rfl
theorem q1103 : (Jvm.Cond.castable "SyncHall$Lock" "SyncHall$Sync") ∈ lw_tbl := lw_at lw_m5 108 rfl
theorem in_X5 : ∀ w ∈ wsX50, w ∈ lw_all := lw_in wsX50 [271, 273, 275, 265, 267, 269] (by decide +kernel) (by decide +kernel)

/-! SyncHall$Semaphore -/
set_option maxRecDepth 100000
def RX6 : String := "SyncHall$Semaphore"
def TX6 : u_T := fun k => match k with
  | 0 => ("SyncHall$Sync", "first", "LSyncHall$Waiter;", false)
  | 1 => ("SyncHall$Sync", "waited", "D", false)
  | 2 => ("SyncHall$Sync", "served", "I", false)
  | 3 => ("SyncHall$Semaphore", "ranked", "Z", true)
  | _ => ("SyncHall$Semaphore", "permits", "I", false)
def tyX6 : Nat → FieldType := fun k => match k with
  | 0 => .object "SyncHall$Waiter"
  | 1 => .double
  | 2 => .int
  | 3 => .boolean
  | _ => .int
abbrev wsX60 : List Cond := u_ws RX6 TX6 5
theorem nmX6 : ∀ a, a < 5 → ∀ b, b < 5 → a ≠ b → (TX6 a).2.1 ≠ (TX6 b).2.1 := by decide +kernel
theorem tyX6_ok : ∀ k, k < 5 → parseFieldDescriptor (TX6 k).2.2.1 = some (tyX6 k) := by decide +kernel
abbrev cX6_init : ByteArray := prog_5_method_1_code
def yX6_init : MethodName := ⟨RX6, "<init>", "(ZI)V"⟩
theorem dX6_init_0 : decode cX6_init 0 = .ok (.aload_n 0, 1) := by decide +kernel
theorem dX6_init_1 : decode cX6_init 1 = .ok (.invokespecial 3, 3) := by decide +kernel
theorem dX6_init_4 : decode cX6_init 4 = .ok (.aload_n 0, 1) := by decide +kernel
theorem dX6_init_5 : decode cX6_init 5 = .ok (.iload_n 1, 1) := by decide +kernel
theorem dX6_init_6 : decode cX6_init 6 = .ok (.putfield 9, 3) := by decide +kernel
theorem dX6_init_9 : decode cX6_init 9 = .ok (.aload_n 0, 1) := by decide +kernel
theorem dX6_init_10 : decode cX6_init 10 = .ok (.iload_n 2, 1) := by decide +kernel
theorem dX6_init_11 : decode cX6_init 11 = .ok (.putfield 15, 3) := by decide +kernel
theorem dX6_init_14 : decode cX6_init 14 = .ok (.return_, 1) := by decide +kernel
abbrev cX6_mustQueue : ByteArray := prog_5_method_4_code
def yX6_mustQueue : MethodName := ⟨RX6, "mustQueue", "(LSyncHall$Task;Z)Z"⟩
theorem dX6_mustQueue_0 : decode cX6_mustQueue 0 = .ok (.aload_n 0, 1) := by decide +kernel
theorem dX6_mustQueue_1 : decode cX6_mustQueue 1 = .ok (.getfield 19, 3) := by decide +kernel
theorem dX6_mustQueue_4 : decode cX6_mustQueue 4 = .ok (.ifnull 7, 3) := by decide +kernel
theorem dX6_mustQueue_7 : decode cX6_mustQueue 7 = .ok (.iconst 1, 1) := by decide +kernel
theorem dX6_mustQueue_8 : decode cX6_mustQueue 8 = .ok (.goto 4, 3) := by decide +kernel
theorem dX6_mustQueue_11 : decode cX6_mustQueue 11 = .ok (.iconst 0, 1) := by decide +kernel
theorem dX6_mustQueue_12 : decode cX6_mustQueue 12 = .ok (.ireturn, 1) := by decide +kernel
abbrev cX6_canTake : ByteArray := prog_5_method_3_code
def yX6_canTake : MethodName := ⟨RX6, "canTake", "(LSyncHall$Task;Z)Z"⟩
theorem dX6_canTake_0 : decode cX6_canTake 0 = .ok (.aload_n 0, 1) := by decide +kernel
theorem dX6_canTake_1 : decode cX6_canTake 1 = .ok (.getfield 15, 3) := by decide +kernel
theorem dX6_canTake_4 : decode cX6_canTake 4 = .ok (.ifCond .le 7, 3) := by decide +kernel
theorem dX6_canTake_7 : decode cX6_canTake 7 = .ok (.iconst 1, 1) := by decide +kernel
theorem dX6_canTake_8 : decode cX6_canTake 8 = .ok (.goto 4, 3) := by decide +kernel
theorem dX6_canTake_11 : decode cX6_canTake 11 = .ok (.iconst 0, 1) := by decide +kernel
theorem dX6_canTake_12 : decode cX6_canTake 12 = .ok (.ireturn, 1) := by decide +kernel
abbrev cX6_take : ByteArray := prog_5_method_5_code
def yX6_take : MethodName := ⟨RX6, "take", "(LSyncHall$Task;Z)V"⟩
theorem dX6_take_0 : decode cX6_take 0 = .ok (.aload_n 0, 1) := by decide +kernel
theorem dX6_take_1 : decode cX6_take 1 = .ok (.dup, 1) := by decide +kernel
theorem dX6_take_2 : decode cX6_take 2 = .ok (.getfield 15, 3) := by decide +kernel
theorem dX6_take_5 : decode cX6_take 5 = .ok (.iconst 1, 1) := by decide +kernel
theorem dX6_take_6 : decode cX6_take 6 = .ok (.isub, 1) := by decide +kernel
theorem dX6_take_7 : decode cX6_take 7 = .ok (.putfield 15, 3) := by decide +kernel
theorem dX6_take_10 : decode cX6_take 10 = .ok (.return_, 1) := by decide +kernel
abbrev cX6_giveBack : ByteArray := prog_5_method_6_code
def yX6_giveBack : MethodName := ⟨RX6, "giveBack", "(LSyncHall$Task;Z)V"⟩
theorem dX6_giveBack_0 : decode cX6_giveBack 0 = .ok (.aload_n 0, 1) := by decide +kernel
theorem dX6_giveBack_1 : decode cX6_giveBack 1 = .ok (.getfield 15, 3) := by decide +kernel
theorem dX6_giveBack_4 : decode cX6_giveBack 4 = .ok (.bipush 100, 2) := by decide +kernel
theorem dX6_giveBack_6 : decode cX6_giveBack 6 = .ok (.if_icmp .ge 7, 3) := by decide +kernel
theorem dX6_giveBack_9 : decode cX6_giveBack 9 = .ok (.iconst 1, 1) := by decide +kernel
theorem dX6_giveBack_10 : decode cX6_giveBack 10 = .ok (.goto 4, 3) := by decide +kernel
theorem dX6_giveBack_13 : decode cX6_giveBack 13 = .ok (.iconst 0, 1) := by decide +kernel
theorem dX6_giveBack_14 : decode cX6_giveBack 14 = .ok (.invokestatic 23, 3) := by decide +kernel
theorem dX6_giveBack_17 : decode cX6_giveBack 17 = .ok (.aload_n 0, 1) := by decide +kernel
theorem dX6_giveBack_18 : decode cX6_giveBack 18 = .ok (.dup, 1) := by decide +kernel
theorem dX6_giveBack_19 : decode cX6_giveBack 19 = .ok (.getfield 15, 3) := by decide +kernel
theorem dX6_giveBack_22 : decode cX6_giveBack 22 = .ok (.iconst 1, 1) := by decide +kernel
theorem dX6_giveBack_23 : decode cX6_giveBack 23 = .ok (.iadd, 1) := by decide +kernel
theorem dX6_giveBack_24 : decode cX6_giveBack 24 = .ok (.putfield 15, 3) := by decide +kernel
theorem dX6_giveBack_27 : decode cX6_giveBack 27 = .ok (.return_, 1) := by decide +kernel
abbrev cX6_nextToServe : ByteArray := prog_5_method_8_code
def yX6_nextToServe : MethodName := ⟨RX6, "nextToServe", "()LSyncHall$Waiter;"⟩
theorem dX6_nextToServe_0 : decode cX6_nextToServe 0 = .ok (.aload_n 0, 1) := by decide +kernel
theorem dX6_nextToServe_1 : decode cX6_nextToServe 1 = .ok (.getfield 19, 3) := by decide +kernel
theorem dX6_nextToServe_4 : decode cX6_nextToServe 4 = .ok (.astore_n 1, 1) := by decide +kernel
theorem dX6_nextToServe_5 : decode cX6_nextToServe 5 = .ok (.aload_n 0, 1) := by decide +kernel
theorem dX6_nextToServe_6 : decode cX6_nextToServe 6 = .ok (.getfield 19, 3) := by decide +kernel
theorem dX6_nextToServe_9 : decode cX6_nextToServe 9 = .ok (.astore_n 2, 1) := by decide +kernel
theorem dX6_nextToServe_10 : decode cX6_nextToServe 10 = .ok (.aload_n 2, 1) := by decide +kernel
theorem dX6_nextToServe_11 : decode cX6_nextToServe 11 = .ok (.ifnull 38, 3) := by decide +kernel
theorem dX6_nextToServe_14 : decode cX6_nextToServe 14 = .ok (.aload_n 0, 1) := by decide +kernel
theorem dX6_nextToServe_15 : decode cX6_nextToServe 15 = .ok (.getfield 9, 3) := by decide +kernel
theorem dX6_nextToServe_18 : decode cX6_nextToServe 18 = .ok (.ifCond .eq 31, 3) := by decide +kernel
theorem dX6_nextToServe_21 : decode cX6_nextToServe 21 = .ok (.aload_n 2, 1) := by decide +kernel
theorem dX6_nextToServe_22 : decode cX6_nextToServe 22 = .ok (.invokevirtual 27, 3) := by decide +kernel
theorem dX6_nextToServe_25 : decode cX6_nextToServe 25 = .ok (.getfield 33, 3) := by decide +kernel
theorem dX6_nextToServe_28 : decode cX6_nextToServe 28 = .ok (.aload_n 1, 1) := by decide +kernel
theorem dX6_nextToServe_29 : decode cX6_nextToServe 29 = .ok (.invokevirtual 27, 3) := by decide +kernel
theorem dX6_nextToServe_32 : decode cX6_nextToServe 32 = .ok (.getfield 33, 3) := by decide +kernel
theorem dX6_nextToServe_35 : decode cX6_nextToServe 35 = .ok (.dcmp .l, 1) := by decide +kernel
theorem dX6_nextToServe_36 : decode cX6_nextToServe 36 = .ok (.ifCond .le 5, 3) := by decide +kernel
theorem dX6_nextToServe_39 : decode cX6_nextToServe 39 = .ok (.aload_n 2, 1) := by decide +kernel
theorem dX6_nextToServe_40 : decode cX6_nextToServe 40 = .ok (.astore_n 1, 1) := by decide +kernel
theorem dX6_nextToServe_41 : decode cX6_nextToServe 41 = .ok (.aload_n 2, 1) := by decide +kernel
theorem dX6_nextToServe_42 : decode cX6_nextToServe 42 = .ok (.getfield 39, 3) := by decide +kernel
theorem dX6_nextToServe_45 : decode cX6_nextToServe 45 = .ok (.astore_n 2, 1) := by decide +kernel
theorem dX6_nextToServe_46 : decode cX6_nextToServe 46 = .ok (.goto (-36), 3) := by decide +kernel
theorem dX6_nextToServe_49 : decode cX6_nextToServe 49 = .ok (.aload_n 1, 1) := by decide +kernel
theorem dX6_nextToServe_50 : decode cX6_nextToServe 50 = .ok (.areturn, 1) := by decide +kernel
abbrev cX6_kind : ByteArray := prog_5_method_2_code
def yX6_kind : MethodName := ⟨RX6, "kind", "()I"⟩
theorem dX6_kind_0 : decode cX6_kind 0 = .ok (.aload_n 0, 1) := by decide +kernel
theorem dX6_kind_1 : decode cX6_kind 1 = .ok (.getfield 9, 3) := by decide +kernel
theorem dX6_kind_4 : decode cX6_kind 4 = .ok (.ifCond .eq 7, 3) := by decide +kernel
theorem dX6_kind_7 : decode cX6_kind 7 = .ok (.iconst 3, 1) := by decide +kernel
theorem dX6_kind_8 : decode cX6_kind 8 = .ok (.goto 4, 3) := by decide +kernel
theorem dX6_kind_11 : decode cX6_kind 11 = .ok (.iconst 2, 1) := by decide +kernel
theorem dX6_kind_12 : decode cX6_kind 12 = .ok (.ireturn, 1) := by decide +kernel
abbrev cX6_amount : ByteArray := prog_5_method_7_code
def yX6_amount : MethodName := ⟨RX6, "amount", "()I"⟩
theorem dX6_amount_0 : decode cX6_amount 0 = .ok (.aload_n 0, 1) := by decide +kernel
theorem dX6_amount_1 : decode cX6_amount 1 = .ok (.getfield 15, 3) := by decide +kernel
theorem dX6_amount_4 : decode cX6_amount 4 = .ok (.ireturn, 1) := by decide +kernel
theorem q47 : (Jvm.Cond.initialized "SyncHall$Semaphore") ∈ lw_all := lw_g (lw_at lw_m1 12 rfl) rfl
theorem q75 : (Jvm.Cond.fieldLink "SyncHall$Semaphore" (33 : Nat) "SyncHall$Task" "priority" "D") ∈ lw_all := lw_g (lw_at lw_m1 40 rfl) rfl
theorem q253 : (Jvm.Cond.fieldLink "SyncHall$Semaphore" (19 : Nat) "SyncHall$Semaphore" "first" "LSyncHall$Waiter;") ∈ lw_all := lw_g (lw_at lw_m1 218 rfl) rfl
theorem q254 : (Jvm.Cond.sameField "SyncHall$Semaphore" "SyncHall$Sync" "first" "LSyncHall$Waiter;") ∈ lw_all := lw_g (lw_at lw_m1 219 rfl) rfl
theorem q279 : (Jvm.Cond.instantiable "SyncHall$Semaphore" (5 : Nat)) ∈ lw_all := lw_g (lw_at lw_m2 4 rfl) rfl
theorem q281 : (Jvm.Cond.instanceMethod ({ cls := "SyncHall$Semaphore", name := "<init>", desc := "(ZI)V" } : Jvm.MethodName)) ∈ lw_all := lw_g (lw_at lw_m2 6 rfl) rfl
theorem q282 : (Jvm.Cond.code ({ cls := "SyncHall$Semaphore", name := "<init>", desc := "(ZI)V" } : Jvm.MethodName) prog_5_method_1_code (3 : Nat) (Option.none : Option Jvm.ClassFile.FieldType)) ∈ lw_all := lw_g (lw_at lw_m2 7 rfl) rfl
theorem q283 : (Jvm.Cond.methodLinkNest "SyncHall$Semaphore" (3 : Nat) ({ cls := "SyncHall$Sync", name := "<init>", desc := "()V" } : Jvm.MethodName) "SyncHall") ∈ lw_tbl := lw_at lw_m2 8 rfl
theorem q284 : (Jvm.Cond.fieldLink "SyncHall$Semaphore" (9 : Nat) "SyncHall$Semaphore" "ranked" "Z") ∈ lw_all := lw_g (lw_at lw_m2 9 rfl) rfl
theorem q285 : (Jvm.Cond.fieldLink "SyncHall$Semaphore" (15 : Nat) "SyncHall$Semaphore" "permits" "I") ∈ lw_all := lw_g (lw_at lw_m2 10 rfl) rfl
theorem q286 : (Jvm.Cond.laysFinal "SyncHall$Semaphore" "SyncHall$Semaphore" "ranked" "Z") ∈ lw_all := lw_g (lw_at lw_m2 11 rfl) rfl
theorem q287 : (Jvm.Cond.soleField "SyncHall$Semaphore" "ranked") ∈ lw_all := lw_g (lw_at lw_m2 12 rfl) rfl
theorem q288 : (Jvm.Cond.lays "SyncHall$Semaphore" "SyncHall$Semaphore" "permits" "I") ∈ lw_all := lw_g (lw_at lw_m2 13 rfl) rfl
theorem q289 : (Jvm.Cond.soleField "SyncHall$Semaphore" "permits") ∈ lw_all := lw_g (lw_at lw_m2 14 rfl) rfl
theorem q290 : (Jvm.Cond.lays "SyncHall$Semaphore" "SyncHall$Sync" "first" "LSyncHall$Waiter;") ∈ lw_all := lw_g (lw_at lw_m2 15 rfl) rfl
theorem q291 : (Jvm.Cond.lays "SyncHall$Semaphore" "SyncHall$Sync" "waited" "D") ∈ lw_all := lw_g (lw_at lw_m2 16 rfl) rfl
theorem q292 : (Jvm.Cond.lays "SyncHall$Semaphore" "SyncHall$Sync" "served" "I") ∈ lw_all := lw_g (lw_at lw_m2 17 rfl) rfl
theorem q293 : (Jvm.Cond.superclass "SyncHall$Semaphore" "SyncHall$Sync") ∈ lw_all := lw_g (lw_at lw_m2 18 rfl) rfl
theorem q421 : (Jvm.Cond.selects "SyncHall$Semaphore" ({ cls := "SyncHall$Sync", name := "refuses", desc := "(LSyncHall$Task;Z)Z" } : Jvm.MethodName) ({ cls := "SyncHall$Sync", name := "refuses", desc := "(LSyncHall$Task;Z)Z" } : Jvm.MethodName)) ∈ lw_all := lw_g (lw_at lw_m2 146 rfl) rfl
theorem q442 : (Jvm.Cond.selects "SyncHall$Semaphore" ({ cls := "SyncHall$Sync", name := "mustQueue", desc := "(LSyncHall$Task;Z)Z" } : Jvm.MethodName) ({ cls := "SyncHall$Semaphore", name := "mustQueue", desc := "(LSyncHall$Task;Z)Z" } : Jvm.MethodName)) ∈ lw_all := lw_g (lw_at lw_m2 167 rfl) rfl
theorem q443 : (Jvm.Cond.instanceMethod ({ cls := "SyncHall$Semaphore", name := "mustQueue", desc := "(LSyncHall$Task;Z)Z" } : Jvm.MethodName)) ∈ lw_all := lw_g (lw_at lw_m2 168 rfl) rfl
theorem q444 : (Jvm.Cond.code ({ cls := "SyncHall$Semaphore", name := "mustQueue", desc := "(LSyncHall$Task;Z)Z" } : Jvm.MethodName) prog_5_method_4_code (3 : Nat) (Option.some Jvm.ClassFile.FieldType.boolean)) ∈ lw_all := lw_g (lw_at lw_m2 169 rfl) rfl
theorem q472 : (Jvm.Cond.selects "SyncHall$Semaphore" ({ cls := "SyncHall$Sync", name := "canTake", desc := "(LSyncHall$Task;Z)Z" } : Jvm.MethodName) ({ cls := "SyncHall$Semaphore", name := "canTake", desc := "(LSyncHall$Task;Z)Z" } : Jvm.MethodName)) ∈ lw_all := lw_g (lw_at lw_m2 197 rfl) rfl
theorem q473 : (Jvm.Cond.instanceMethod ({ cls := "SyncHall$Semaphore", name := "canTake", desc := "(LSyncHall$Task;Z)Z" } : Jvm.MethodName)) ∈ lw_all := lw_g (lw_at lw_m2 198 rfl) rfl
theorem q474 : (Jvm.Cond.code ({ cls := "SyncHall$Semaphore", name := "canTake", desc := "(LSyncHall$Task;Z)Z" } : Jvm.MethodName) prog_5_method_3_code (3 : Nat) (Option.some Jvm.ClassFile.FieldType.boolean)) ∈ lw_all := lw_g (lw_at lw_m2 199 rfl) rfl
theorem q494 : (Jvm.Cond.selects "SyncHall$Semaphore" ({ cls := "SyncHall$Sync", name := "take", desc := "(LSyncHall$Task;Z)V" } : Jvm.MethodName) ({ cls := "SyncHall$Semaphore", name := "take", desc := "(LSyncHall$Task;Z)V" } : Jvm.MethodName)) ∈ lw_all := lw_g (lw_at lw_m2 219 rfl) rfl
theorem q495 : (Jvm.Cond.instanceMethod ({ cls := "SyncHall$Semaphore", name := "take", desc := "(LSyncHall$Task;Z)V" } : Jvm.MethodName)) ∈ lw_all := lw_g (lw_at lw_m2 220 rfl) rfl
theorem q496 : (Jvm.Cond.code ({ cls := "SyncHall$Semaphore", name := "take", desc := "(LSyncHall$Task;Z)V" } : Jvm.MethodName) prog_5_method_5_code (3 : Nat) (Option.none : Option Jvm.ClassFile.FieldType)) ∈ lw_all := lw_g (lw_at lw_m2 221 rfl) rfl
theorem q518 : (Jvm.Cond.fieldLink "SyncHall$Semaphore" (39 : Nat) "SyncHall$Waiter" "next" "LSyncHall$Waiter;") ∈ lw_all := lw_g (lw_at lw_m3 3 rfl) rfl
theorem q544 : (Jvm.Cond.selects "SyncHall$Semaphore" ({ cls := "SyncHall$Sync", name := "add", desc := "(LSyncHall$Waiter;)V" } : Jvm.MethodName) ({ cls := "SyncHall$Sync", name := "add", desc := "(LSyncHall$Waiter;)V" } : Jvm.MethodName)) ∈ lw_all := lw_g (lw_at lw_m3 29 rfl) rfl
theorem q564 : (Jvm.Cond.selects "SyncHall$Semaphore" ({ cls := "SyncHall$Sync", name := "waiters", desc := "()I" } : Jvm.MethodName) ({ cls := "SyncHall$Sync", name := "waiters", desc := "()I" } : Jvm.MethodName)) ∈ lw_all := lw_g (lw_at lw_m3 49 rfl) rfl
theorem q581 : (Jvm.Cond.selects "SyncHall$Semaphore" ({ cls := "SyncHall$Sync", name := "giveBack", desc := "(LSyncHall$Task;Z)V" } : Jvm.MethodName) ({ cls := "SyncHall$Semaphore", name := "giveBack", desc := "(LSyncHall$Task;Z)V" } : Jvm.MethodName)) ∈ lw_all := lw_g (lw_at lw_m3 66 rfl) rfl
theorem q582 : (Jvm.Cond.instanceMethod ({ cls := "SyncHall$Semaphore", name := "giveBack", desc := "(LSyncHall$Task;Z)V" } : Jvm.MethodName)) ∈ lw_all := lw_g (lw_at lw_m3 67 rfl) rfl
theorem q583 : (Jvm.Cond.code ({ cls := "SyncHall$Semaphore", name := "giveBack", desc := "(LSyncHall$Task;Z)V" } : Jvm.MethodName) prog_5_method_6_code (3 : Nat) (Option.none : Option Jvm.ClassFile.FieldType)) ∈ lw_all := lw_g (lw_at lw_m3 68 rfl) rfl
theorem q584 : (Jvm.Cond.methodLinkNest "SyncHall$Semaphore" (23 : Nat) ({ cls := "SyncHall", name := "can", desc := "(Z)V" } : Jvm.MethodName) "SyncHall") ∈ lw_tbl := lw_at lw_m3 69 rfl
theorem q595 : (Jvm.Cond.selects "SyncHall$Semaphore" ({ cls := "SyncHall$Sync", name := "serve", desc := "(D)V" } : Jvm.MethodName) ({ cls := "SyncHall$Sync", name := "serve", desc := "(D)V" } : Jvm.MethodName)) ∈ lw_all := lw_g (lw_at lw_m3 80 rfl) rfl
theorem q604 : (Jvm.Cond.selects "SyncHall$Semaphore" ({ cls := "SyncHall$Sync", name := "nextToServe", desc := "()LSyncHall$Waiter;" } : Jvm.MethodName) ({ cls := "SyncHall$Semaphore", name := "nextToServe", desc := "()LSyncHall$Waiter;" } : Jvm.MethodName)) ∈ lw_all := lw_g (lw_at lw_m3 89 rfl) rfl
theorem q605 : (Jvm.Cond.instanceMethod ({ cls := "SyncHall$Semaphore", name := "nextToServe", desc := "()LSyncHall$Waiter;" } : Jvm.MethodName)) ∈ lw_all := lw_g (lw_at lw_m3 90 rfl) rfl
theorem q606 : (Jvm.Cond.code ({ cls := "SyncHall$Semaphore", name := "nextToServe", desc := "()LSyncHall$Waiter;" } : Jvm.MethodName) prog_5_method_8_code (3 : Nat) (Option.some (Jvm.ClassFile.FieldType.object "SyncHall$Waiter"))) ∈ lw_all := lw_g (lw_at lw_m3 91 rfl) rfl
theorem q607 : (Jvm.Cond.methodLink "SyncHall$Semaphore" (27 : Nat) ({ cls := "SyncHall$Waiter", name := "task", desc := "()LSyncHall$Task;" } : Jvm.MethodName)) ∈ lw_all := lw_g (lw_at lw_m3 92 rfl) rfl
theorem q620 : (Jvm.Cond.selects "SyncHall$Semaphore" ({ cls := "SyncHall$Sync", name := "remove", desc := "(LSyncHall$Waiter;)V" } : Jvm.MethodName) ({ cls := "SyncHall$Sync", name := "remove", desc := "(LSyncHall$Waiter;)V" } : Jvm.MethodName)) ∈ lw_all := lw_g (lw_at lw_m3 105 rfl) rfl
theorem q640 : (Jvm.Cond.selects "SyncHall$Semaphore" ({ cls := "SyncHall$Sync", name := "takeFor", desc := "(LSyncHall$Waiter;)V" } : Jvm.MethodName) ({ cls := "SyncHall$Sync", name := "takeFor", desc := "(LSyncHall$Waiter;)V" } : Jvm.MethodName)) ∈ lw_all := lw_g (lw_at lw_m3 125 rfl) rfl
theorem q658 : (Jvm.Cond.selects "SyncHall$Semaphore" ({ cls := "SyncHall$Sync", name := "note", desc := "(D)V" } : Jvm.MethodName) ({ cls := "SyncHall$Sync", name := "note", desc := "(D)V" } : Jvm.MethodName)) ∈ lw_all := lw_g (lw_at lw_m3 143 rfl) rfl
theorem q777 : (Jvm.Cond.selects "SyncHall$Semaphore" ({ cls := "SyncHall$Sync", name := "held", desc := "(LSyncHall$Task;)I" } : Jvm.MethodName) ({ cls := "SyncHall$Sync", name := "held", desc := "(LSyncHall$Task;)I" } : Jvm.MethodName)) ∈ lw_all := lw_g (lw_at lw_m4 22 rfl) rfl
theorem q801 : (Jvm.Cond.selects "SyncHall$Semaphore" ({ cls := "SyncHall$Sync", name := "kind", desc := "()I" } : Jvm.MethodName) ({ cls := "SyncHall$Semaphore", name := "kind", desc := "()I" } : Jvm.MethodName)) ∈ lw_all := lw_g (lw_at lw_m4 46 rfl) rfl
theorem q802 : (Jvm.Cond.instanceMethod ({ cls := "SyncHall$Semaphore", name := "kind", desc := "()I" } : Jvm.MethodName)) ∈ lw_all := lw_g (lw_at lw_m4 47 rfl) rfl
theorem q803 : (Jvm.Cond.code ({ cls := "SyncHall$Semaphore", name := "kind", desc := "()I" } : Jvm.MethodName) prog_5_method_2_code (1 : Nat) (Option.some Jvm.ClassFile.FieldType.int)) ∈ lw_all := lw_g (lw_at lw_m4 48 rfl) rfl
theorem q815 : (Jvm.Cond.selects "SyncHall$Semaphore" ({ cls := "SyncHall$Sync", name := "amount", desc := "()I" } : Jvm.MethodName) ({ cls := "SyncHall$Semaphore", name := "amount", desc := "()I" } : Jvm.MethodName)) ∈ lw_all := lw_g (lw_at lw_m4 60 rfl) rfl
theorem q816 : (Jvm.Cond.instanceMethod ({ cls := "SyncHall$Semaphore", name := "amount", desc := "()I" } : Jvm.MethodName)) ∈ lw_all := lw_g (lw_at lw_m4 61 rfl) rfl
theorem q817 : (Jvm.Cond.code ({ cls := "SyncHall$Semaphore", name := "amount", desc := "()I" } : Jvm.MethodName) prog_5_method_7_code (1 : Nat) (Option.some Jvm.ClassFile.FieldType.int)) ∈ lw_all := lw_g (lw_at lw_m4 62 rfl) rfl
theorem q862 : (Jvm.Cond.selects "SyncHall$Semaphore" ({ cls := "SyncHall$Sync", name := "served", desc := "()I" } : Jvm.MethodName) ({ cls := "SyncHall$Sync", name := "served", desc := "()I" } : Jvm.MethodName)) ∈ lw_all := lw_g (lw_at lw_m4 107 rfl) rfl
theorem q876 : (Jvm.Cond.selects "SyncHall$Semaphore" ({ cls := "SyncHall$Sync", name := "mean", desc := "()D" } : Jvm.MethodName) ({ cls := "SyncHall$Sync", name := "mean", desc := "()D" } : Jvm.MethodName)) ∈ lw_all := lw_g (lw_at lw_m4 121 rfl) rfl
theorem q1104 : (Jvm.Cond.castable "SyncHall$Semaphore" "SyncHall$Sync") ∈ lw_tbl := lw_at lw_m5 109 rfl
theorem in_X6 : ∀ w ∈ wsX60, w ∈ lw_all := lw_in wsX60 [290, 291, 292, 286, 288] (by decide +kernel) (by decide +kernel)

/-! SyncHall$Latch -/
set_option maxRecDepth 100000
def RX7 : String := "SyncHall$Latch"
def TX7 : u_T := fun k => match k with
  | 0 => ("SyncHall$Sync", "first", "LSyncHall$Waiter;", false)
  | 1 => ("SyncHall$Sync", "waited", "D", false)
  | 2 => ("SyncHall$Sync", "served", "I", false)
  | _ => ("SyncHall$Latch", "count", "I", false)
def tyX7 : Nat → FieldType := fun k => match k with
  | 0 => .object "SyncHall$Waiter"
  | 1 => .double
  | 2 => .int
  | _ => .int
abbrev wsX70 : List Cond := u_ws RX7 TX7 4
theorem nmX7 : ∀ a, a < 4 → ∀ b, b < 4 → a ≠ b → (TX7 a).2.1 ≠ (TX7 b).2.1 := by decide +kernel
theorem tyX7_ok : ∀ k, k < 4 → parseFieldDescriptor (TX7 k).2.2.1 = some (tyX7 k) := by decide +kernel
abbrev cX7_init : ByteArray := prog_3_method_1_code
def yX7_init : MethodName := ⟨RX7, "<init>", "(I)V"⟩
theorem dX7_init_0 : decode cX7_init 0 = .ok (.aload_n 0, 1) := by decide +kernel
theorem dX7_init_1 : decode cX7_init 1 = .ok (.invokespecial 1, 3) := by decide +kernel
theorem dX7_init_4 : decode cX7_init 4 = .ok (.aload_n 0, 1) := by decide +kernel
theorem dX7_init_5 : decode cX7_init 5 = .ok (.iload_n 1, 1) := by decide +kernel
theorem dX7_init_6 : decode cX7_init 6 = .ok (.putfield 7, 3) := by decide +kernel
theorem dX7_init_9 : decode cX7_init 9 = .ok (.return_, 1) := by decide +kernel
abbrev cX7_mustQueue : ByteArray := prog_3_method_4_code
def yX7_mustQueue : MethodName := ⟨RX7, "mustQueue", "(LSyncHall$Task;Z)Z"⟩
theorem dX7_mustQueue_0 : decode cX7_mustQueue 0 = .ok (.iconst 0, 1) := by decide +kernel
theorem dX7_mustQueue_1 : decode cX7_mustQueue 1 = .ok (.ireturn, 1) := by decide +kernel
abbrev cX7_canTake : ByteArray := prog_3_method_3_code
def yX7_canTake : MethodName := ⟨RX7, "canTake", "(LSyncHall$Task;Z)Z"⟩
theorem dX7_canTake_0 : decode cX7_canTake 0 = .ok (.aload_n 0, 1) := by decide +kernel
theorem dX7_canTake_1 : decode cX7_canTake 1 = .ok (.getfield 7, 3) := by decide +kernel
theorem dX7_canTake_4 : decode cX7_canTake 4 = .ok (.ifCond .ne 7, 3) := by decide +kernel
theorem dX7_canTake_7 : decode cX7_canTake 7 = .ok (.iconst 1, 1) := by decide +kernel
theorem dX7_canTake_8 : decode cX7_canTake 8 = .ok (.goto 4, 3) := by decide +kernel
theorem dX7_canTake_11 : decode cX7_canTake 11 = .ok (.iconst 0, 1) := by decide +kernel
theorem dX7_canTake_12 : decode cX7_canTake 12 = .ok (.ireturn, 1) := by decide +kernel
abbrev cX7_take : ByteArray := prog_3_method_5_code
def yX7_take : MethodName := ⟨RX7, "take", "(LSyncHall$Task;Z)V"⟩
theorem dX7_take_0 : decode cX7_take 0 = .ok (.return_, 1) := by decide +kernel
abbrev cX7_giveBack : ByteArray := prog_3_method_6_code
def yX7_giveBack : MethodName := ⟨RX7, "giveBack", "(LSyncHall$Task;Z)V"⟩
theorem dX7_giveBack_0 : decode cX7_giveBack 0 = .ok (.aload_n 0, 1) := by decide +kernel
theorem dX7_giveBack_1 : decode cX7_giveBack 1 = .ok (.getfield 7, 3) := by decide +kernel
theorem dX7_giveBack_4 : decode cX7_giveBack 4 = .ok (.ifCond .le 13, 3) := by decide +kernel
theorem dX7_giveBack_7 : decode cX7_giveBack 7 = .ok (.aload_n 0, 1) := by decide +kernel
theorem dX7_giveBack_8 : decode cX7_giveBack 8 = .ok (.dup, 1) := by decide +kernel
theorem dX7_giveBack_9 : decode cX7_giveBack 9 = .ok (.getfield 7, 3) := by decide +kernel
theorem dX7_giveBack_12 : decode cX7_giveBack 12 = .ok (.iconst 1, 1) := by decide +kernel
theorem dX7_giveBack_13 : decode cX7_giveBack 13 = .ok (.isub, 1) := by decide +kernel
theorem dX7_giveBack_14 : decode cX7_giveBack 14 = .ok (.putfield 7, 3) := by decide +kernel
theorem dX7_giveBack_17 : decode cX7_giveBack 17 = .ok (.return_, 1) := by decide +kernel
abbrev cX7_kind : ByteArray := prog_3_method_2_code
def yX7_kind : MethodName := ⟨RX7, "kind", "()I"⟩
theorem dX7_kind_0 : decode cX7_kind 0 = .ok (.iconst 4, 1) := by decide +kernel
theorem dX7_kind_1 : decode cX7_kind 1 = .ok (.ireturn, 1) := by decide +kernel
abbrev cX7_amount : ByteArray := prog_3_method_7_code
def yX7_amount : MethodName := ⟨RX7, "amount", "()I"⟩
theorem dX7_amount_0 : decode cX7_amount 0 = .ok (.aload_n 0, 1) := by decide +kernel
theorem dX7_amount_1 : decode cX7_amount 1 = .ok (.getfield 7, 3) := by decide +kernel
theorem dX7_amount_4 : decode cX7_amount 4 = .ok (.ireturn, 1) := by decide +kernel
theorem q48 : (Jvm.Cond.initialized "SyncHall$Latch") ∈ lw_all := lw_g (lw_at lw_m1 13 rfl) rfl
theorem q295 : (Jvm.Cond.instantiable "SyncHall$Latch" (4 : Nat)) ∈ lw_all := lw_g (lw_at lw_m2 20 rfl) rfl
theorem q297 : (Jvm.Cond.instanceMethod ({ cls := "SyncHall$Latch", name := "<init>", desc := "(I)V" } : Jvm.MethodName)) ∈ lw_all := lw_g (lw_at lw_m2 22 rfl) rfl
theorem q298 : (Jvm.Cond.code ({ cls := "SyncHall$Latch", name := "<init>", desc := "(I)V" } : Jvm.MethodName) prog_3_method_1_code (2 : Nat) (Option.none : Option Jvm.ClassFile.FieldType)) ∈ lw_all := lw_g (lw_at lw_m2 23 rfl) rfl
theorem q299 : (Jvm.Cond.methodLinkNest "SyncHall$Latch" (1 : Nat) ({ cls := "SyncHall$Sync", name := "<init>", desc := "()V" } : Jvm.MethodName) "SyncHall") ∈ lw_tbl := lw_at lw_m2 24 rfl
theorem q300 : (Jvm.Cond.fieldLink "SyncHall$Latch" (7 : Nat) "SyncHall$Latch" "count" "I") ∈ lw_all := lw_g (lw_at lw_m2 25 rfl) rfl
theorem q301 : (Jvm.Cond.lays "SyncHall$Latch" "SyncHall$Latch" "count" "I") ∈ lw_all := lw_g (lw_at lw_m2 26 rfl) rfl
theorem q302 : (Jvm.Cond.soleField "SyncHall$Latch" "count") ∈ lw_all := lw_g (lw_at lw_m2 27 rfl) rfl
theorem q303 : (Jvm.Cond.lays "SyncHall$Latch" "SyncHall$Sync" "first" "LSyncHall$Waiter;") ∈ lw_all := lw_g (lw_at lw_m2 28 rfl) rfl
theorem q304 : (Jvm.Cond.lays "SyncHall$Latch" "SyncHall$Sync" "waited" "D") ∈ lw_all := lw_g (lw_at lw_m2 29 rfl) rfl
theorem q305 : (Jvm.Cond.lays "SyncHall$Latch" "SyncHall$Sync" "served" "I") ∈ lw_all := lw_g (lw_at lw_m2 30 rfl) rfl
theorem q306 : (Jvm.Cond.superclass "SyncHall$Latch" "SyncHall$Sync") ∈ lw_all := lw_g (lw_at lw_m2 31 rfl) rfl
theorem q419 : (Jvm.Cond.selects "SyncHall$Latch" ({ cls := "SyncHall$Sync", name := "refuses", desc := "(LSyncHall$Task;Z)Z" } : Jvm.MethodName) ({ cls := "SyncHall$Sync", name := "refuses", desc := "(LSyncHall$Task;Z)Z" } : Jvm.MethodName)) ∈ lw_all := lw_g (lw_at lw_m2 144 rfl) rfl
theorem q436 : (Jvm.Cond.selects "SyncHall$Latch" ({ cls := "SyncHall$Sync", name := "mustQueue", desc := "(LSyncHall$Task;Z)Z" } : Jvm.MethodName) ({ cls := "SyncHall$Latch", name := "mustQueue", desc := "(LSyncHall$Task;Z)Z" } : Jvm.MethodName)) ∈ lw_all := lw_g (lw_at lw_m2 161 rfl) rfl
theorem q437 : (Jvm.Cond.instanceMethod ({ cls := "SyncHall$Latch", name := "mustQueue", desc := "(LSyncHall$Task;Z)Z" } : Jvm.MethodName)) ∈ lw_all := lw_g (lw_at lw_m2 162 rfl) rfl
theorem q438 : (Jvm.Cond.code ({ cls := "SyncHall$Latch", name := "mustQueue", desc := "(LSyncHall$Task;Z)Z" } : Jvm.MethodName) prog_3_method_4_code (3 : Nat) (Option.some Jvm.ClassFile.FieldType.boolean)) ∈ lw_all := lw_g (lw_at lw_m2 163 rfl) rfl
theorem q466 : (Jvm.Cond.selects "SyncHall$Latch" ({ cls := "SyncHall$Sync", name := "canTake", desc := "(LSyncHall$Task;Z)Z" } : Jvm.MethodName) ({ cls := "SyncHall$Latch", name := "canTake", desc := "(LSyncHall$Task;Z)Z" } : Jvm.MethodName)) ∈ lw_all := lw_g (lw_at lw_m2 191 rfl) rfl
theorem q467 : (Jvm.Cond.instanceMethod ({ cls := "SyncHall$Latch", name := "canTake", desc := "(LSyncHall$Task;Z)Z" } : Jvm.MethodName)) ∈ lw_all := lw_g (lw_at lw_m2 192 rfl) rfl
theorem q468 : (Jvm.Cond.code ({ cls := "SyncHall$Latch", name := "canTake", desc := "(LSyncHall$Task;Z)Z" } : Jvm.MethodName) prog_3_method_3_code (3 : Nat) (Option.some Jvm.ClassFile.FieldType.boolean)) ∈ lw_all := lw_g (lw_at lw_m2 193 rfl) rfl
theorem q488 : (Jvm.Cond.selects "SyncHall$Latch" ({ cls := "SyncHall$Sync", name := "take", desc := "(LSyncHall$Task;Z)V" } : Jvm.MethodName) ({ cls := "SyncHall$Latch", name := "take", desc := "(LSyncHall$Task;Z)V" } : Jvm.MethodName)) ∈ lw_all := lw_g (lw_at lw_m2 213 rfl) rfl
theorem q489 : (Jvm.Cond.instanceMethod ({ cls := "SyncHall$Latch", name := "take", desc := "(LSyncHall$Task;Z)V" } : Jvm.MethodName)) ∈ lw_all := lw_g (lw_at lw_m2 214 rfl) rfl
theorem q490 : (Jvm.Cond.code ({ cls := "SyncHall$Latch", name := "take", desc := "(LSyncHall$Task;Z)V" } : Jvm.MethodName) prog_3_method_5_code (3 : Nat) (Option.none : Option Jvm.ClassFile.FieldType)) ∈ lw_all := lw_g (lw_at lw_m2 215 rfl) rfl
theorem q542 : (Jvm.Cond.selects "SyncHall$Latch" ({ cls := "SyncHall$Sync", name := "add", desc := "(LSyncHall$Waiter;)V" } : Jvm.MethodName) ({ cls := "SyncHall$Sync", name := "add", desc := "(LSyncHall$Waiter;)V" } : Jvm.MethodName)) ∈ lw_all := lw_g (lw_at lw_m3 27 rfl) rfl
theorem q562 : (Jvm.Cond.selects "SyncHall$Latch" ({ cls := "SyncHall$Sync", name := "waiters", desc := "()I" } : Jvm.MethodName) ({ cls := "SyncHall$Sync", name := "waiters", desc := "()I" } : Jvm.MethodName)) ∈ lw_all := lw_g (lw_at lw_m3 47 rfl) rfl
theorem q574 : (Jvm.Cond.selects "SyncHall$Latch" ({ cls := "SyncHall$Sync", name := "giveBack", desc := "(LSyncHall$Task;Z)V" } : Jvm.MethodName) ({ cls := "SyncHall$Latch", name := "giveBack", desc := "(LSyncHall$Task;Z)V" } : Jvm.MethodName)) ∈ lw_all := lw_g (lw_at lw_m3 59 rfl) rfl
theorem q575 : (Jvm.Cond.instanceMethod ({ cls := "SyncHall$Latch", name := "giveBack", desc := "(LSyncHall$Task;Z)V" } : Jvm.MethodName)) ∈ lw_all := lw_g (lw_at lw_m3 60 rfl) rfl
theorem q576 : (Jvm.Cond.code ({ cls := "SyncHall$Latch", name := "giveBack", desc := "(LSyncHall$Task;Z)V" } : Jvm.MethodName) prog_3_method_6_code (3 : Nat) (Option.none : Option Jvm.ClassFile.FieldType)) ∈ lw_all := lw_g (lw_at lw_m3 61 rfl) rfl
theorem q593 : (Jvm.Cond.selects "SyncHall$Latch" ({ cls := "SyncHall$Sync", name := "serve", desc := "(D)V" } : Jvm.MethodName) ({ cls := "SyncHall$Sync", name := "serve", desc := "(D)V" } : Jvm.MethodName)) ∈ lw_all := lw_g (lw_at lw_m3 78 rfl) rfl
theorem q602 : (Jvm.Cond.selects "SyncHall$Latch" ({ cls := "SyncHall$Sync", name := "nextToServe", desc := "()LSyncHall$Waiter;" } : Jvm.MethodName) ({ cls := "SyncHall$Sync", name := "nextToServe", desc := "()LSyncHall$Waiter;" } : Jvm.MethodName)) ∈ lw_all := lw_g (lw_at lw_m3 87 rfl) rfl
theorem q618 : (Jvm.Cond.selects "SyncHall$Latch" ({ cls := "SyncHall$Sync", name := "remove", desc := "(LSyncHall$Waiter;)V" } : Jvm.MethodName) ({ cls := "SyncHall$Sync", name := "remove", desc := "(LSyncHall$Waiter;)V" } : Jvm.MethodName)) ∈ lw_all := lw_g (lw_at lw_m3 103 rfl) rfl
theorem q627 : (Jvm.Cond.selects "SyncHall$Latch" ({ cls := "SyncHall$Sync", name := "takeFor", desc := "(LSyncHall$Waiter;)V" } : Jvm.MethodName) ({ cls := "SyncHall$Sync", name := "takeFor", desc := "(LSyncHall$Waiter;)V" } : Jvm.MethodName)) ∈ lw_all := lw_g (lw_at lw_m3 112 rfl) rfl
theorem q656 : (Jvm.Cond.selects "SyncHall$Latch" ({ cls := "SyncHall$Sync", name := "note", desc := "(D)V" } : Jvm.MethodName) ({ cls := "SyncHall$Sync", name := "note", desc := "(D)V" } : Jvm.MethodName)) ∈ lw_all := lw_g (lw_at lw_m3 141 rfl) rfl
theorem q773 : (Jvm.Cond.selects "SyncHall$Latch" ({ cls := "SyncHall$Sync", name := "held", desc := "(LSyncHall$Task;)I" } : Jvm.MethodName) ({ cls := "SyncHall$Sync", name := "held", desc := "(LSyncHall$Task;)I" } : Jvm.MethodName)) ∈ lw_all := lw_g (lw_at lw_m4 18 rfl) rfl
theorem q795 : (Jvm.Cond.selects "SyncHall$Latch" ({ cls := "SyncHall$Sync", name := "kind", desc := "()I" } : Jvm.MethodName) ({ cls := "SyncHall$Latch", name := "kind", desc := "()I" } : Jvm.MethodName)) ∈ lw_all := lw_g (lw_at lw_m4 40 rfl) rfl
theorem q796 : (Jvm.Cond.instanceMethod ({ cls := "SyncHall$Latch", name := "kind", desc := "()I" } : Jvm.MethodName)) ∈ lw_all := lw_g (lw_at lw_m4 41 rfl) rfl
theorem q797 : (Jvm.Cond.code ({ cls := "SyncHall$Latch", name := "kind", desc := "()I" } : Jvm.MethodName) prog_3_method_2_code (1 : Nat) (Option.some Jvm.ClassFile.FieldType.int)) ∈ lw_all := lw_g (lw_at lw_m4 42 rfl) rfl
theorem q811 : (Jvm.Cond.selects "SyncHall$Latch" ({ cls := "SyncHall$Sync", name := "amount", desc := "()I" } : Jvm.MethodName) ({ cls := "SyncHall$Latch", name := "amount", desc := "()I" } : Jvm.MethodName)) ∈ lw_all := lw_g (lw_at lw_m4 56 rfl) rfl
theorem q812 : (Jvm.Cond.instanceMethod ({ cls := "SyncHall$Latch", name := "amount", desc := "()I" } : Jvm.MethodName)) ∈ lw_all := lw_g (lw_at lw_m4 57 rfl) rfl
theorem q813 : (Jvm.Cond.code ({ cls := "SyncHall$Latch", name := "amount", desc := "()I" } : Jvm.MethodName) prog_3_method_7_code (1 : Nat) (Option.some Jvm.ClassFile.FieldType.int)) ∈ lw_all := lw_g (lw_at lw_m4 58 rfl) rfl
theorem q860 : (Jvm.Cond.selects "SyncHall$Latch" ({ cls := "SyncHall$Sync", name := "served", desc := "()I" } : Jvm.MethodName) ({ cls := "SyncHall$Sync", name := "served", desc := "()I" } : Jvm.MethodName)) ∈ lw_all := lw_g (lw_at lw_m4 105 rfl) rfl
theorem q874 : (Jvm.Cond.selects "SyncHall$Latch" ({ cls := "SyncHall$Sync", name := "mean", desc := "()D" } : Jvm.MethodName) ({ cls := "SyncHall$Sync", name := "mean", desc := "()D" } : Jvm.MethodName)) ∈ lw_all := lw_g (lw_at lw_m4 119 rfl) rfl
theorem q1105 : (Jvm.Cond.castable "SyncHall$Latch" "SyncHall$Sync") ∈ lw_tbl := lw_at lw_m5 110 rfl
theorem in_X7 : ∀ w ∈ wsX70, w ∈ lw_all := lw_in wsX70 [303, 304, 305, 301] (by decide +kernel) (by decide +kernel)

/-! SyncHall$Shared -/
set_option maxRecDepth 100000
def RX8 : String := "SyncHall$Shared"
def TX8 : u_T := fun k => match k with
  | 0 => ("SyncHall$Sync", "first", "LSyncHall$Waiter;", false)
  | 1 => ("SyncHall$Sync", "waited", "D", false)
  | 2 => ("SyncHall$Sync", "served", "I", false)
  | 3 => ("SyncHall$Shared", "writer", "LSyncHall$Task;", false)
  | 4 => ("SyncHall$Shared", "depth", "I", false)
  | _ => ("SyncHall$Shared", "reads", "[I", true)
def tyX8 : Nat → FieldType := fun k => match k with
  | 0 => .object "SyncHall$Waiter"
  | 1 => .double
  | 2 => .int
  | 3 => .object "SyncHall$Task"
  | 4 => .int
  | _ => .array .int
abbrev wsX80 : List Cond := u_ws RX8 TX8 6
theorem nmX8 : ∀ a, a < 6 → ∀ b, b < 6 → a ≠ b → (TX8 a).2.1 ≠ (TX8 b).2.1 := by decide +kernel
theorem tyX8_ok : ∀ k, k < 6 → parseFieldDescriptor (TX8 k).2.2.1 = some (tyX8 k) := by decide +kernel
abbrev cX8_init : ByteArray := prog_6_method_1_code
def yX8_init : MethodName := ⟨RX8, "<init>", "()V"⟩
theorem dX8_init_0 : decode cX8_init 0 = .ok (.aload_n 0, 1) := by decide +kernel
theorem dX8_init_1 : decode cX8_init 1 = .ok (.invokespecial 3, 3) := by decide +kernel
theorem dX8_init_4 : decode cX8_init 4 = .ok (.aload_n 0, 1) := by decide +kernel
theorem dX8_init_5 : decode cX8_init 5 = .ok (.bipush 6, 2) := by decide +kernel
theorem dX8_init_7 : decode cX8_init 7 = .ok (.newarray .int, 2) := by decide +kernel
theorem dX8_init_9 : decode cX8_init 9 = .ok (.putfield 9, 3) := by decide +kernel
theorem dX8_init_12 : decode cX8_init 12 = .ok (.return_, 1) := by decide +kernel
abbrev cX8_refuses : ByteArray := prog_6_method_8_code
def yX8_refuses : MethodName := ⟨RX8, "refuses", "(LSyncHall$Task;Z)Z"⟩
theorem dX8_refuses_0 : decode cX8_refuses 0 = .ok (.iload_n 2, 1) := by decide +kernel
theorem dX8_refuses_1 : decode cX8_refuses 1 = .ok (.ifCond .eq 27, 3) := by decide +kernel
theorem dX8_refuses_4 : decode cX8_refuses 4 = .ok (.aload_n 0, 1) := by decide +kernel
theorem dX8_refuses_5 : decode cX8_refuses 5 = .ok (.getfield 21, 3) := by decide +kernel
theorem dX8_refuses_8 : decode cX8_refuses 8 = .ok (.aload_n 1, 1) := by decide +kernel
theorem dX8_refuses_9 : decode cX8_refuses 9 = .ok (.if_acmp .eq 19, 3) := by decide +kernel
theorem dX8_refuses_12 : decode cX8_refuses 12 = .ok (.aload_n 0, 1) := by decide +kernel
theorem dX8_refuses_13 : decode cX8_refuses 13 = .ok (.getfield 9, 3) := by decide +kernel
theorem dX8_refuses_16 : decode cX8_refuses 16 = .ok (.aload_n 1, 1) := by decide +kernel
theorem dX8_refuses_17 : decode cX8_refuses 17 = .ok (.invokevirtual 15, 3) := by decide +kernel
theorem dX8_refuses_20 : decode cX8_refuses 20 = .ok (.iaload, 1) := by decide +kernel
theorem dX8_refuses_21 : decode cX8_refuses 21 = .ok (.ifCond .le 7, 3) := by decide +kernel
theorem dX8_refuses_24 : decode cX8_refuses 24 = .ok (.iconst 1, 1) := by decide +kernel
theorem dX8_refuses_25 : decode cX8_refuses 25 = .ok (.goto 4, 3) := by decide +kernel
theorem dX8_refuses_28 : decode cX8_refuses 28 = .ok (.iconst 0, 1) := by decide +kernel
theorem dX8_refuses_29 : decode cX8_refuses 29 = .ok (.ireturn, 1) := by decide +kernel
abbrev cX8_mustQueue : ByteArray := prog_6_method_7_code
def yX8_mustQueue : MethodName := ⟨RX8, "mustQueue", "(LSyncHall$Task;Z)Z"⟩
theorem dX8_mustQueue_0 : decode cX8_mustQueue 0 = .ok (.aload_n 0, 1) := by decide +kernel
theorem dX8_mustQueue_1 : decode cX8_mustQueue 1 = .ok (.aload_n 1, 1) := by decide +kernel
theorem dX8_mustQueue_2 : decode cX8_mustQueue 2 = .ok (.invokevirtual 42, 3) := by decide +kernel
theorem dX8_mustQueue_5 : decode cX8_mustQueue 5 = .ok (.ifCond .eq 5, 3) := by decide +kernel
theorem dX8_mustQueue_8 : decode cX8_mustQueue 8 = .ok (.iconst 0, 1) := by decide +kernel
theorem dX8_mustQueue_9 : decode cX8_mustQueue 9 = .ok (.ireturn, 1) := by decide +kernel
theorem dX8_mustQueue_10 : decode cX8_mustQueue 10 = .ok (.iload_n 2, 1) := by decide +kernel
theorem dX8_mustQueue_11 : decode cX8_mustQueue 11 = .ok (.ifCond .eq 18, 3) := by decide +kernel
theorem dX8_mustQueue_14 : decode cX8_mustQueue 14 = .ok (.aload_n 0, 1) := by decide +kernel
theorem dX8_mustQueue_15 : decode cX8_mustQueue 15 = .ok (.getfield 29, 3) := by decide +kernel
theorem dX8_mustQueue_18 : decode cX8_mustQueue 18 = .ok (.ifnull 7, 3) := by decide +kernel
theorem dX8_mustQueue_21 : decode cX8_mustQueue 21 = .ok (.iconst 1, 1) := by decide +kernel
theorem dX8_mustQueue_22 : decode cX8_mustQueue 22 = .ok (.goto 11, 3) := by decide +kernel
theorem dX8_mustQueue_25 : decode cX8_mustQueue 25 = .ok (.iconst 0, 1) := by decide +kernel
theorem dX8_mustQueue_26 : decode cX8_mustQueue 26 = .ok (.goto 7, 3) := by decide +kernel
theorem dX8_mustQueue_29 : decode cX8_mustQueue 29 = .ok (.aload_n 0, 1) := by decide +kernel
theorem dX8_mustQueue_30 : decode cX8_mustQueue 30 = .ok (.invokevirtual 45, 3) := by decide +kernel
theorem dX8_mustQueue_33 : decode cX8_mustQueue 33 = .ok (.ireturn, 1) := by decide +kernel
abbrev cX8_isInside : ByteArray := prog_6_method_4_code
def yX8_isInside : MethodName := ⟨RX8, "isInside", "(LSyncHall$Task;)Z"⟩
theorem dX8_isInside_0 : decode cX8_isInside 0 = .ok (.aload_n 0, 1) := by decide +kernel
theorem dX8_isInside_1 : decode cX8_isInside 1 = .ok (.getfield 21, 3) := by decide +kernel
theorem dX8_isInside_4 : decode cX8_isInside 4 = .ok (.aload_n 1, 1) := by decide +kernel
theorem dX8_isInside_5 : decode cX8_isInside 5 = .ok (.if_acmp .eq 15, 3) := by decide +kernel
theorem dX8_isInside_8 : decode cX8_isInside 8 = .ok (.aload_n 0, 1) := by decide +kernel
theorem dX8_isInside_9 : decode cX8_isInside 9 = .ok (.getfield 9, 3) := by decide +kernel
theorem dX8_isInside_12 : decode cX8_isInside 12 = .ok (.aload_n 1, 1) := by decide +kernel
theorem dX8_isInside_13 : decode cX8_isInside 13 = .ok (.invokevirtual 15, 3) := by decide +kernel
theorem dX8_isInside_16 : decode cX8_isInside 16 = .ok (.iaload, 1) := by decide +kernel
theorem dX8_isInside_17 : decode cX8_isInside 17 = .ok (.ifCond .le 7, 3) := by decide +kernel
theorem dX8_isInside_20 : decode cX8_isInside 20 = .ok (.iconst 1, 1) := by decide +kernel
theorem dX8_isInside_21 : decode cX8_isInside 21 = .ok (.goto 4, 3) := by decide +kernel
theorem dX8_isInside_24 : decode cX8_isInside 24 = .ok (.iconst 0, 1) := by decide +kernel
theorem dX8_isInside_25 : decode cX8_isInside 25 = .ok (.ireturn, 1) := by decide +kernel
abbrev cX8_writerWaits : ByteArray := prog_6_method_6_code
def yX8_writerWaits : MethodName := ⟨RX8, "writerWaits", "()Z"⟩
theorem dX8_writerWaits_0 : decode cX8_writerWaits 0 = .ok (.aload_n 0, 1) := by decide +kernel
theorem dX8_writerWaits_1 : decode cX8_writerWaits 1 = .ok (.getfield 29, 3) := by decide +kernel
theorem dX8_writerWaits_4 : decode cX8_writerWaits 4 = .ok (.astore_n 1, 1) := by decide +kernel
theorem dX8_writerWaits_5 : decode cX8_writerWaits 5 = .ok (.aload_n 1, 1) := by decide +kernel
theorem dX8_writerWaits_6 : decode cX8_writerWaits 6 = .ok (.ifnull 20, 3) := by decide +kernel
theorem dX8_writerWaits_9 : decode cX8_writerWaits 9 = .ok (.aload_n 1, 1) := by decide +kernel
theorem dX8_writerWaits_10 : decode cX8_writerWaits 10 = .ok (.invokevirtual 33, 3) := by decide +kernel
theorem dX8_writerWaits_13 : decode cX8_writerWaits 13 = .ok (.ifCond .eq 5, 3) := by decide +kernel
theorem dX8_writerWaits_16 : decode cX8_writerWaits 16 = .ok (.iconst 1, 1) := by decide +kernel
theorem dX8_writerWaits_17 : decode cX8_writerWaits 17 = .ok (.ireturn, 1) := by decide +kernel
theorem dX8_writerWaits_18 : decode cX8_writerWaits 18 = .ok (.aload_n 1, 1) := by decide +kernel
theorem dX8_writerWaits_19 : decode cX8_writerWaits 19 = .ok (.getfield 39, 3) := by decide +kernel
theorem dX8_writerWaits_22 : decode cX8_writerWaits 22 = .ok (.astore_n 1, 1) := by decide +kernel
theorem dX8_writerWaits_23 : decode cX8_writerWaits 23 = .ok (.goto (-18), 3) := by decide +kernel
theorem dX8_writerWaits_26 : decode cX8_writerWaits 26 = .ok (.iconst 0, 1) := by decide +kernel
theorem dX8_writerWaits_27 : decode cX8_writerWaits 27 = .ok (.ireturn, 1) := by decide +kernel
abbrev cX8_canTake : ByteArray := prog_6_method_5_code
def yX8_canTake : MethodName := ⟨RX8, "canTake", "(LSyncHall$Task;Z)Z"⟩
theorem dX8_canTake_0 : decode cX8_canTake 0 = .ok (.aload_n 0, 1) := by decide +kernel
theorem dX8_canTake_1 : decode cX8_canTake 1 = .ok (.getfield 21, 3) := by decide +kernel
theorem dX8_canTake_4 : decode cX8_canTake 4 = .ok (.ifnull 11, 3) := by decide +kernel
theorem dX8_canTake_7 : decode cX8_canTake 7 = .ok (.aload_n 0, 1) := by decide +kernel
theorem dX8_canTake_8 : decode cX8_canTake 8 = .ok (.getfield 21, 3) := by decide +kernel
theorem dX8_canTake_11 : decode cX8_canTake 11 = .ok (.aload_n 1, 1) := by decide +kernel
theorem dX8_canTake_12 : decode cX8_canTake 12 = .ok (.if_acmp .ne 7, 3) := by decide +kernel
theorem dX8_canTake_15 : decode cX8_canTake 15 = .ok (.iconst 1, 1) := by decide +kernel
theorem dX8_canTake_16 : decode cX8_canTake 16 = .ok (.goto 4, 3) := by decide +kernel
theorem dX8_canTake_19 : decode cX8_canTake 19 = .ok (.iconst 0, 1) := by decide +kernel
theorem dX8_canTake_20 : decode cX8_canTake 20 = .ok (.istore_n 3, 1) := by decide +kernel
theorem dX8_canTake_21 : decode cX8_canTake 21 = .ok (.iload_n 3, 1) := by decide +kernel
theorem dX8_canTake_22 : decode cX8_canTake 22 = .ok (.ifCond .eq 19, 3) := by decide +kernel
theorem dX8_canTake_25 : decode cX8_canTake 25 = .ok (.iload_n 2, 1) := by decide +kernel
theorem dX8_canTake_26 : decode cX8_canTake 26 = .ok (.ifCond .eq 11, 3) := by decide +kernel
theorem dX8_canTake_29 : decode cX8_canTake 29 = .ok (.aload_n 0, 1) := by decide +kernel
theorem dX8_canTake_30 : decode cX8_canTake 30 = .ok (.aload_n 1, 1) := by decide +kernel
theorem dX8_canTake_31 : decode cX8_canTake 31 = .ok (.invokevirtual 25, 3) := by decide +kernel
theorem dX8_canTake_34 : decode cX8_canTake 34 = .ok (.ifCond .ne 7, 3) := by decide +kernel
theorem dX8_canTake_37 : decode cX8_canTake 37 = .ok (.iconst 1, 1) := by decide +kernel
theorem dX8_canTake_38 : decode cX8_canTake 38 = .ok (.goto 4, 3) := by decide +kernel
theorem dX8_canTake_41 : decode cX8_canTake 41 = .ok (.iconst 0, 1) := by decide +kernel
theorem dX8_canTake_42 : decode cX8_canTake 42 = .ok (.ireturn, 1) := by decide +kernel
abbrev cX8_othersRead : ByteArray := prog_6_method_3_code
def yX8_othersRead : MethodName := ⟨RX8, "othersRead", "(LSyncHall$Task;)Z"⟩
theorem dX8_othersRead_0 : decode cX8_othersRead 0 = .ok (.iconst 0, 1) := by decide +kernel
theorem dX8_othersRead_1 : decode cX8_othersRead 1 = .ok (.istore_n 2, 1) := by decide +kernel
theorem dX8_othersRead_2 : decode cX8_othersRead 2 = .ok (.iload_n 2, 1) := by decide +kernel
theorem dX8_othersRead_3 : decode cX8_othersRead 3 = .ok (.bipush 6, 2) := by decide +kernel
theorem dX8_othersRead_5 : decode cX8_othersRead 5 = .ok (.if_icmp .ge 28, 3) := by decide +kernel
theorem dX8_othersRead_8 : decode cX8_othersRead 8 = .ok (.iload_n 2, 1) := by decide +kernel
theorem dX8_othersRead_9 : decode cX8_othersRead 9 = .ok (.aload_n 1, 1) := by decide +kernel
theorem dX8_othersRead_10 : decode cX8_othersRead 10 = .ok (.invokevirtual 15, 3) := by decide +kernel
theorem dX8_othersRead_13 : decode cX8_othersRead 13 = .ok (.if_icmp .eq 14, 3) := by decide +kernel
theorem dX8_othersRead_16 : decode cX8_othersRead 16 = .ok (.aload_n 0, 1) := by decide +kernel
theorem dX8_othersRead_17 : decode cX8_othersRead 17 = .ok (.getfield 9, 3) := by decide +kernel
theorem dX8_othersRead_20 : decode cX8_othersRead 20 = .ok (.iload_n 2, 1) := by decide +kernel
theorem dX8_othersRead_21 : decode cX8_othersRead 21 = .ok (.iaload, 1) := by decide +kernel
theorem dX8_othersRead_22 : decode cX8_othersRead 22 = .ok (.ifCond .le 5, 3) := by decide +kernel
theorem dX8_othersRead_25 : decode cX8_othersRead 25 = .ok (.iconst 1, 1) := by decide +kernel
theorem dX8_othersRead_26 : decode cX8_othersRead 26 = .ok (.ireturn, 1) := by decide +kernel
theorem dX8_othersRead_27 : decode cX8_othersRead 27 = .ok (.iinc 2 1, 3) := by decide +kernel
theorem dX8_othersRead_30 : decode cX8_othersRead 30 = .ok (.goto (-28), 3) := by decide +kernel
theorem dX8_othersRead_33 : decode cX8_othersRead 33 = .ok (.iconst 0, 1) := by decide +kernel
theorem dX8_othersRead_34 : decode cX8_othersRead 34 = .ok (.ireturn, 1) := by decide +kernel
abbrev cX8_take : ByteArray := prog_6_method_9_code
def yX8_take : MethodName := ⟨RX8, "take", "(LSyncHall$Task;Z)V"⟩
theorem dX8_take_0 : decode cX8_take 0 = .ok (.iload_n 2, 1) := by decide +kernel
theorem dX8_take_1 : decode cX8_take 1 = .ok (.ifCond .eq 21, 3) := by decide +kernel
theorem dX8_take_4 : decode cX8_take 4 = .ok (.aload_n 0, 1) := by decide +kernel
theorem dX8_take_5 : decode cX8_take 5 = .ok (.aload_n 1, 1) := by decide +kernel
theorem dX8_take_6 : decode cX8_take 6 = .ok (.putfield 21, 3) := by decide +kernel
theorem dX8_take_9 : decode cX8_take 9 = .ok (.aload_n 0, 1) := by decide +kernel
theorem dX8_take_10 : decode cX8_take 10 = .ok (.dup, 1) := by decide +kernel
theorem dX8_take_11 : decode cX8_take 11 = .ok (.getfield 48, 3) := by decide +kernel
theorem dX8_take_14 : decode cX8_take 14 = .ok (.iconst 1, 1) := by decide +kernel
theorem dX8_take_15 : decode cX8_take 15 = .ok (.iadd, 1) := by decide +kernel
theorem dX8_take_16 : decode cX8_take 16 = .ok (.putfield 48, 3) := by decide +kernel
theorem dX8_take_19 : decode cX8_take 19 = .ok (.goto 16, 3) := by decide +kernel
theorem dX8_take_22 : decode cX8_take 22 = .ok (.aload_n 0, 1) := by decide +kernel
theorem dX8_take_23 : decode cX8_take 23 = .ok (.getfield 9, 3) := by decide +kernel
theorem dX8_take_26 : decode cX8_take 26 = .ok (.aload_n 1, 1) := by decide +kernel
theorem dX8_take_27 : decode cX8_take 27 = .ok (.invokevirtual 15, 3) := by decide +kernel
theorem dX8_take_30 : decode cX8_take 30 = .ok (.dup2, 1) := by decide +kernel
theorem dX8_take_31 : decode cX8_take 31 = .ok (.iaload, 1) := by decide +kernel
theorem dX8_take_32 : decode cX8_take 32 = .ok (.iconst 1, 1) := by decide +kernel
theorem dX8_take_33 : decode cX8_take 33 = .ok (.iadd, 1) := by decide +kernel
theorem dX8_take_34 : decode cX8_take 34 = .ok (.iastore, 1) := by decide +kernel
theorem dX8_take_35 : decode cX8_take 35 = .ok (.return_, 1) := by decide +kernel
abbrev cX8_giveBack : ByteArray := prog_6_method_10_code
def yX8_giveBack : MethodName := ⟨RX8, "giveBack", "(LSyncHall$Task;Z)V"⟩
theorem dX8_giveBack_0 : decode cX8_giveBack 0 = .ok (.iload_n 2, 1) := by decide +kernel
theorem dX8_giveBack_1 : decode cX8_giveBack 1 = .ok (.ifCond .eq 19, 3) := by decide +kernel
theorem dX8_giveBack_4 : decode cX8_giveBack 4 = .ok (.aload_n 0, 1) := by decide +kernel
theorem dX8_giveBack_5 : decode cX8_giveBack 5 = .ok (.getfield 21, 3) := by decide +kernel
theorem dX8_giveBack_8 : decode cX8_giveBack 8 = .ok (.aload_n 1, 1) := by decide +kernel
theorem dX8_giveBack_9 : decode cX8_giveBack 9 = .ok (.if_acmp .ne 7, 3) := by decide +kernel
theorem dX8_giveBack_12 : decode cX8_giveBack 12 = .ok (.iconst 1, 1) := by decide +kernel
theorem dX8_giveBack_13 : decode cX8_giveBack 13 = .ok (.goto 24, 3) := by decide +kernel
theorem dX8_giveBack_16 : decode cX8_giveBack 16 = .ok (.iconst 0, 1) := by decide +kernel
theorem dX8_giveBack_17 : decode cX8_giveBack 17 = .ok (.goto 20, 3) := by decide +kernel
theorem dX8_giveBack_20 : decode cX8_giveBack 20 = .ok (.aload_n 0, 1) := by decide +kernel
theorem dX8_giveBack_21 : decode cX8_giveBack 21 = .ok (.getfield 9, 3) := by decide +kernel
theorem dX8_giveBack_24 : decode cX8_giveBack 24 = .ok (.aload_n 1, 1) := by decide +kernel
theorem dX8_giveBack_25 : decode cX8_giveBack 25 = .ok (.invokevirtual 15, 3) := by decide +kernel
theorem dX8_giveBack_28 : decode cX8_giveBack 28 = .ok (.iaload, 1) := by decide +kernel
theorem dX8_giveBack_29 : decode cX8_giveBack 29 = .ok (.ifCond .le 7, 3) := by decide +kernel
theorem dX8_giveBack_32 : decode cX8_giveBack 32 = .ok (.iconst 1, 1) := by decide +kernel
theorem dX8_giveBack_33 : decode cX8_giveBack 33 = .ok (.goto 4, 3) := by decide +kernel
theorem dX8_giveBack_36 : decode cX8_giveBack 36 = .ok (.iconst 0, 1) := by decide +kernel
theorem dX8_giveBack_37 : decode cX8_giveBack 37 = .ok (.invokestatic 52, 3) := by decide +kernel
theorem dX8_giveBack_40 : decode cX8_giveBack 40 = .ok (.iload_n 2, 1) := by decide +kernel
theorem dX8_giveBack_41 : decode cX8_giveBack 41 = .ok (.ifCond .ne 17, 3) := by decide +kernel
theorem dX8_giveBack_44 : decode cX8_giveBack 44 = .ok (.aload_n 0, 1) := by decide +kernel
theorem dX8_giveBack_45 : decode cX8_giveBack 45 = .ok (.getfield 9, 3) := by decide +kernel
theorem dX8_giveBack_48 : decode cX8_giveBack 48 = .ok (.aload_n 1, 1) := by decide +kernel
theorem dX8_giveBack_49 : decode cX8_giveBack 49 = .ok (.invokevirtual 15, 3) := by decide +kernel
theorem dX8_giveBack_52 : decode cX8_giveBack 52 = .ok (.dup2, 1) := by decide +kernel
theorem dX8_giveBack_53 : decode cX8_giveBack 53 = .ok (.iaload, 1) := by decide +kernel
theorem dX8_giveBack_54 : decode cX8_giveBack 54 = .ok (.iconst 1, 1) := by decide +kernel
theorem dX8_giveBack_55 : decode cX8_giveBack 55 = .ok (.isub, 1) := by decide +kernel
theorem dX8_giveBack_56 : decode cX8_giveBack 56 = .ok (.iastore, 1) := by decide +kernel
theorem dX8_giveBack_57 : decode cX8_giveBack 57 = .ok (.return_, 1) := by decide +kernel
theorem dX8_giveBack_58 : decode cX8_giveBack 58 = .ok (.aload_n 0, 1) := by decide +kernel
theorem dX8_giveBack_59 : decode cX8_giveBack 59 = .ok (.dup, 1) := by decide +kernel
theorem dX8_giveBack_60 : decode cX8_giveBack 60 = .ok (.getfield 48, 3) := by decide +kernel
theorem dX8_giveBack_63 : decode cX8_giveBack 63 = .ok (.iconst 1, 1) := by decide +kernel
theorem dX8_giveBack_64 : decode cX8_giveBack 64 = .ok (.isub, 1) := by decide +kernel
theorem dX8_giveBack_65 : decode cX8_giveBack 65 = .ok (.putfield 48, 3) := by decide +kernel
theorem dX8_giveBack_68 : decode cX8_giveBack 68 = .ok (.aload_n 0, 1) := by decide +kernel
theorem dX8_giveBack_69 : decode cX8_giveBack 69 = .ok (.getfield 48, 3) := by decide +kernel
theorem dX8_giveBack_72 : decode cX8_giveBack 72 = .ok (.ifCond .ne 8, 3) := by decide +kernel
theorem dX8_giveBack_75 : decode cX8_giveBack 75 = .ok (.aload_n 0, 1) := by decide +kernel
theorem dX8_giveBack_76 : decode cX8_giveBack 76 = .ok (.aconst_null, 1) := by decide +kernel
theorem dX8_giveBack_77 : decode cX8_giveBack 77 = .ok (.putfield 21, 3) := by decide +kernel
theorem dX8_giveBack_80 : decode cX8_giveBack 80 = .ok (.return_, 1) := by decide +kernel
abbrev cX8_nextToServe : ByteArray := prog_6_method_12_code
def yX8_nextToServe : MethodName := ⟨RX8, "nextToServe", "()LSyncHall$Waiter;"⟩
theorem dX8_nextToServe_0 : decode cX8_nextToServe 0 = .ok (.aload_n 0, 1) := by decide +kernel
theorem dX8_nextToServe_1 : decode cX8_nextToServe 1 = .ok (.getfield 29, 3) := by decide +kernel
theorem dX8_nextToServe_4 : decode cX8_nextToServe 4 = .ok (.astore_n 1, 1) := by decide +kernel
theorem dX8_nextToServe_5 : decode cX8_nextToServe 5 = .ok (.aload_n 1, 1) := by decide +kernel
theorem dX8_nextToServe_6 : decode cX8_nextToServe 6 = .ok (.ifnull 20, 3) := by decide +kernel
theorem dX8_nextToServe_9 : decode cX8_nextToServe 9 = .ok (.aload_n 1, 1) := by decide +kernel
theorem dX8_nextToServe_10 : decode cX8_nextToServe 10 = .ok (.invokevirtual 33, 3) := by decide +kernel
theorem dX8_nextToServe_13 : decode cX8_nextToServe 13 = .ok (.ifCond .eq 5, 3) := by decide +kernel
theorem dX8_nextToServe_16 : decode cX8_nextToServe 16 = .ok (.aload_n 1, 1) := by decide +kernel
theorem dX8_nextToServe_17 : decode cX8_nextToServe 17 = .ok (.areturn, 1) := by decide +kernel
theorem dX8_nextToServe_18 : decode cX8_nextToServe 18 = .ok (.aload_n 1, 1) := by decide +kernel
theorem dX8_nextToServe_19 : decode cX8_nextToServe 19 = .ok (.getfield 39, 3) := by decide +kernel
theorem dX8_nextToServe_22 : decode cX8_nextToServe 22 = .ok (.astore_n 1, 1) := by decide +kernel
theorem dX8_nextToServe_23 : decode cX8_nextToServe 23 = .ok (.goto (-18), 3) := by decide +kernel
theorem dX8_nextToServe_26 : decode cX8_nextToServe 26 = .ok (.aload_n 0, 1) := by decide +kernel
theorem dX8_nextToServe_27 : decode cX8_nextToServe 27 = .ok (.getfield 29, 3) := by decide +kernel
theorem dX8_nextToServe_30 : decode cX8_nextToServe 30 = .ok (.areturn, 1) := by decide +kernel
abbrev cX8_held : ByteArray := prog_6_method_11_code
def yX8_held : MethodName := ⟨RX8, "held", "(LSyncHall$Task;)I"⟩
theorem dX8_held_0 : decode cX8_held 0 = .ok (.aload_n 0, 1) := by decide +kernel
theorem dX8_held_1 : decode cX8_held 1 = .ok (.getfield 21, 3) := by decide +kernel
theorem dX8_held_4 : decode cX8_held 4 = .ok (.aload_n 1, 1) := by decide +kernel
theorem dX8_held_5 : decode cX8_held 5 = .ok (.if_acmp .ne 10, 3) := by decide +kernel
theorem dX8_held_8 : decode cX8_held 8 = .ok (.aload_n 0, 1) := by decide +kernel
theorem dX8_held_9 : decode cX8_held 9 = .ok (.getfield 48, 3) := by decide +kernel
theorem dX8_held_12 : decode cX8_held 12 = .ok (.goto 4, 3) := by decide +kernel
theorem dX8_held_15 : decode cX8_held 15 = .ok (.iconst 0, 1) := by decide +kernel
theorem dX8_held_16 : decode cX8_held 16 = .ok (.aload_n 0, 1) := by decide +kernel
theorem dX8_held_17 : decode cX8_held 17 = .ok (.getfield 9, 3) := by decide +kernel
theorem dX8_held_20 : decode cX8_held 20 = .ok (.aload_n 1, 1) := by decide +kernel
theorem dX8_held_21 : decode cX8_held 21 = .ok (.invokevirtual 15, 3) := by decide +kernel
theorem dX8_held_24 : decode cX8_held 24 = .ok (.iaload, 1) := by decide +kernel
theorem dX8_held_25 : decode cX8_held 25 = .ok (.iadd, 1) := by decide +kernel
theorem dX8_held_26 : decode cX8_held 26 = .ok (.ireturn, 1) := by decide +kernel
abbrev cX8_kind : ByteArray := prog_6_method_2_code
def yX8_kind : MethodName := ⟨RX8, "kind", "()I"⟩
theorem dX8_kind_0 : decode cX8_kind 0 = .ok (.iconst 5, 1) := by decide +kernel
theorem dX8_kind_1 : decode cX8_kind 1 = .ok (.ireturn, 1) := by decide +kernel
theorem q49 : (Jvm.Cond.initialized "SyncHall$Shared") ∈ lw_all := lw_g (lw_at lw_m1 14 rfl) rfl
theorem q257 : (Jvm.Cond.fieldLink "SyncHall$Shared" (29 : Nat) "SyncHall$Shared" "first" "LSyncHall$Waiter;") ∈ lw_all := lw_g (lw_at lw_m1 222 rfl) rfl
theorem q258 : (Jvm.Cond.sameField "SyncHall$Shared" "SyncHall$Sync" "first" "LSyncHall$Waiter;") ∈ lw_all := lw_g (lw_at lw_m1 223 rfl) rfl
theorem q308 : (Jvm.Cond.instantiable "SyncHall$Shared" (6 : Nat)) ∈ lw_all := lw_g (lw_at lw_m2 33 rfl) rfl
theorem q310 : (Jvm.Cond.instanceMethod ({ cls := "SyncHall$Shared", name := "<init>", desc := "()V" } : Jvm.MethodName)) ∈ lw_all := lw_g (lw_at lw_m2 35 rfl) rfl
theorem q311 : (Jvm.Cond.code ({ cls := "SyncHall$Shared", name := "<init>", desc := "()V" } : Jvm.MethodName) prog_6_method_1_code (1 : Nat) (Option.none : Option Jvm.ClassFile.FieldType)) ∈ lw_all := lw_g (lw_at lw_m2 36 rfl) rfl
theorem q312 : (Jvm.Cond.methodLinkNest "SyncHall$Shared" (3 : Nat) ({ cls := "SyncHall$Sync", name := "<init>", desc := "()V" } : Jvm.MethodName) "SyncHall") ∈ lw_tbl := lw_at lw_m2 37 rfl
theorem q313 : (Jvm.Cond.fieldLink "SyncHall$Shared" (21 : Nat) "SyncHall$Shared" "writer" "LSyncHall$Task;") ∈ lw_all := lw_g (lw_at lw_m2 38 rfl) rfl
theorem q314 : (Jvm.Cond.fieldLink "SyncHall$Shared" (48 : Nat) "SyncHall$Shared" "depth" "I") ∈ lw_all := lw_g (lw_at lw_m2 39 rfl) rfl
theorem q315 : (Jvm.Cond.fieldLink "SyncHall$Shared" (9 : Nat) "SyncHall$Shared" "reads" "[I") ∈ lw_all := lw_g (lw_at lw_m2 40 rfl) rfl
theorem q316 : (Jvm.Cond.lays "SyncHall$Shared" "SyncHall$Shared" "writer" "LSyncHall$Task;") ∈ lw_all := lw_g (lw_at lw_m2 41 rfl) rfl
theorem q317 : (Jvm.Cond.soleField "SyncHall$Shared" "writer") ∈ lw_all := lw_g (lw_at lw_m2 42 rfl) rfl
theorem q318 : (Jvm.Cond.lays "SyncHall$Shared" "SyncHall$Shared" "depth" "I") ∈ lw_all := lw_g (lw_at lw_m2 43 rfl) rfl
theorem q319 : (Jvm.Cond.soleField "SyncHall$Shared" "depth") ∈ lw_all := lw_g (lw_at lw_m2 44 rfl) rfl
theorem q320 : (Jvm.Cond.laysFinal "SyncHall$Shared" "SyncHall$Shared" "reads" "[I") ∈ lw_all := lw_g (lw_at lw_m2 45 rfl) rfl
theorem q321 : (Jvm.Cond.soleField "SyncHall$Shared" "reads") ∈ lw_all := lw_g (lw_at lw_m2 46 rfl) rfl
theorem q322 : (Jvm.Cond.lays "SyncHall$Shared" "SyncHall$Sync" "first" "LSyncHall$Waiter;") ∈ lw_all := lw_g (lw_at lw_m2 47 rfl) rfl
theorem q323 : (Jvm.Cond.lays "SyncHall$Shared" "SyncHall$Sync" "waited" "D") ∈ lw_all := lw_g (lw_at lw_m2 48 rfl) rfl
theorem q324 : (Jvm.Cond.lays "SyncHall$Shared" "SyncHall$Sync" "served" "I") ∈ lw_all := lw_g (lw_at lw_m2 49 rfl) rfl
theorem q325 : (Jvm.Cond.superclass "SyncHall$Shared" "SyncHall$Sync") ∈ lw_all := lw_g (lw_at lw_m2 50 rfl) rfl
theorem q422 : (Jvm.Cond.selects "SyncHall$Shared" ({ cls := "SyncHall$Sync", name := "refuses", desc := "(LSyncHall$Task;Z)Z" } : Jvm.MethodName) ({ cls := "SyncHall$Shared", name := "refuses", desc := "(LSyncHall$Task;Z)Z" } : Jvm.MethodName)) ∈ lw_all := lw_g (lw_at lw_m2 147 rfl) rfl
theorem q423 : (Jvm.Cond.instanceMethod ({ cls := "SyncHall$Shared", name := "refuses", desc := "(LSyncHall$Task;Z)Z" } : Jvm.MethodName)) ∈ lw_all := lw_g (lw_at lw_m2 148 rfl) rfl
theorem q424 : (Jvm.Cond.code ({ cls := "SyncHall$Shared", name := "refuses", desc := "(LSyncHall$Task;Z)Z" } : Jvm.MethodName) prog_6_method_8_code (3 : Nat) (Option.some Jvm.ClassFile.FieldType.boolean)) ∈ lw_all := lw_g (lw_at lw_m2 149 rfl) rfl
theorem q425 : (Jvm.Cond.methodLink "SyncHall$Shared" (15 : Nat) ({ cls := "SyncHall$Task", name := "number", desc := "()I" } : Jvm.MethodName)) ∈ lw_all := lw_g (lw_at lw_m2 150 rfl) rfl
theorem q445 : (Jvm.Cond.selects "SyncHall$Shared" ({ cls := "SyncHall$Sync", name := "mustQueue", desc := "(LSyncHall$Task;Z)Z" } : Jvm.MethodName) ({ cls := "SyncHall$Shared", name := "mustQueue", desc := "(LSyncHall$Task;Z)Z" } : Jvm.MethodName)) ∈ lw_all := lw_g (lw_at lw_m2 170 rfl) rfl
theorem q446 : (Jvm.Cond.instanceMethod ({ cls := "SyncHall$Shared", name := "mustQueue", desc := "(LSyncHall$Task;Z)Z" } : Jvm.MethodName)) ∈ lw_all := lw_g (lw_at lw_m2 171 rfl) rfl
theorem q447 : (Jvm.Cond.code ({ cls := "SyncHall$Shared", name := "mustQueue", desc := "(LSyncHall$Task;Z)Z" } : Jvm.MethodName) prog_6_method_7_code (3 : Nat) (Option.some Jvm.ClassFile.FieldType.boolean)) ∈ lw_all := lw_g (lw_at lw_m2 172 rfl) rfl
theorem q448 : (Jvm.Cond.methodLink "SyncHall$Shared" (42 : Nat) ({ cls := "SyncHall$Shared", name := "isInside", desc := "(LSyncHall$Task;)Z" } : Jvm.MethodName)) ∈ lw_all := lw_g (lw_at lw_m2 173 rfl) rfl
theorem q449 : (Jvm.Cond.privateMethod ({ cls := "SyncHall$Shared", name := "isInside", desc := "(LSyncHall$Task;)Z" } : Jvm.MethodName)) ∈ lw_tbl := lw_at lw_m2 174 rfl
theorem q450 : (Jvm.Cond.instanceMethod ({ cls := "SyncHall$Shared", name := "isInside", desc := "(LSyncHall$Task;)Z" } : Jvm.MethodName)) ∈ lw_all := lw_g (lw_at lw_m2 175 rfl) rfl
theorem q451 : (Jvm.Cond.code ({ cls := "SyncHall$Shared", name := "isInside", desc := "(LSyncHall$Task;)Z" } : Jvm.MethodName) prog_6_method_4_code (2 : Nat) (Option.some Jvm.ClassFile.FieldType.boolean)) ∈ lw_all := lw_g (lw_at lw_m2 176 rfl) rfl
theorem q452 : (Jvm.Cond.methodLink "SyncHall$Shared" (45 : Nat) ({ cls := "SyncHall$Shared", name := "writerWaits", desc := "()Z" } : Jvm.MethodName)) ∈ lw_all := lw_g (lw_at lw_m2 177 rfl) rfl
theorem q453 : (Jvm.Cond.privateMethod ({ cls := "SyncHall$Shared", name := "writerWaits", desc := "()Z" } : Jvm.MethodName)) ∈ lw_tbl := lw_at lw_m2 178 rfl
theorem q454 : (Jvm.Cond.instanceMethod ({ cls := "SyncHall$Shared", name := "writerWaits", desc := "()Z" } : Jvm.MethodName)) ∈ lw_all := lw_g (lw_at lw_m2 179 rfl) rfl
theorem q455 : (Jvm.Cond.code ({ cls := "SyncHall$Shared", name := "writerWaits", desc := "()Z" } : Jvm.MethodName) prog_6_method_6_code (2 : Nat) (Option.some Jvm.ClassFile.FieldType.boolean)) ∈ lw_all := lw_g (lw_at lw_m2 180 rfl) rfl
theorem q456 : (Jvm.Cond.methodLink "SyncHall$Shared" (33 : Nat) ({ cls := "SyncHall$Waiter", name := "writes", desc := "()Z" } : Jvm.MethodName)) ∈ lw_all := lw_g (lw_at lw_m2 181 rfl) rfl
theorem q475 : (Jvm.Cond.selects "SyncHall$Shared" ({ cls := "SyncHall$Sync", name := "canTake", desc := "(LSyncHall$Task;Z)Z" } : Jvm.MethodName) ({ cls := "SyncHall$Shared", name := "canTake", desc := "(LSyncHall$Task;Z)Z" } : Jvm.MethodName)) ∈ lw_all := lw_g (lw_at lw_m2 200 rfl) rfl
theorem q476 : (Jvm.Cond.instanceMethod ({ cls := "SyncHall$Shared", name := "canTake", desc := "(LSyncHall$Task;Z)Z" } : Jvm.MethodName)) ∈ lw_all := lw_g (lw_at lw_m2 201 rfl) rfl
theorem q477 : (Jvm.Cond.code ({ cls := "SyncHall$Shared", name := "canTake", desc := "(LSyncHall$Task;Z)Z" } : Jvm.MethodName) prog_6_method_5_code (4 : Nat) (Option.some Jvm.ClassFile.FieldType.boolean)) ∈ lw_all := lw_g (lw_at lw_m2 202 rfl) rfl
theorem q478 : (Jvm.Cond.methodLink "SyncHall$Shared" (25 : Nat) ({ cls := "SyncHall$Shared", name := "othersRead", desc := "(LSyncHall$Task;)Z" } : Jvm.MethodName)) ∈ lw_all := lw_g (lw_at lw_m2 203 rfl) rfl
theorem q479 : (Jvm.Cond.privateMethod ({ cls := "SyncHall$Shared", name := "othersRead", desc := "(LSyncHall$Task;)Z" } : Jvm.MethodName)) ∈ lw_tbl := lw_at lw_m2 204 rfl
theorem q480 : (Jvm.Cond.instanceMethod ({ cls := "SyncHall$Shared", name := "othersRead", desc := "(LSyncHall$Task;)Z" } : Jvm.MethodName)) ∈ lw_all := lw_g (lw_at lw_m2 205 rfl) rfl
theorem q481 : (Jvm.Cond.code ({ cls := "SyncHall$Shared", name := "othersRead", desc := "(LSyncHall$Task;)Z" } : Jvm.MethodName) prog_6_method_3_code (3 : Nat) (Option.some Jvm.ClassFile.FieldType.boolean)) ∈ lw_all := lw_g (lw_at lw_m2 206 rfl) rfl
theorem q497 : (Jvm.Cond.selects "SyncHall$Shared" ({ cls := "SyncHall$Sync", name := "take", desc := "(LSyncHall$Task;Z)V" } : Jvm.MethodName) ({ cls := "SyncHall$Shared", name := "take", desc := "(LSyncHall$Task;Z)V" } : Jvm.MethodName)) ∈ lw_all := lw_g (lw_at lw_m2 222 rfl) rfl
theorem q498 : (Jvm.Cond.instanceMethod ({ cls := "SyncHall$Shared", name := "take", desc := "(LSyncHall$Task;Z)V" } : Jvm.MethodName)) ∈ lw_all := lw_g (lw_at lw_m2 223 rfl) rfl
theorem q499 : (Jvm.Cond.code ({ cls := "SyncHall$Shared", name := "take", desc := "(LSyncHall$Task;Z)V" } : Jvm.MethodName) prog_6_method_9_code (3 : Nat) (Option.none : Option Jvm.ClassFile.FieldType)) ∈ lw_all := lw_g (lw_at lw_m2 224 rfl) rfl
theorem q517 : (Jvm.Cond.fieldLink "SyncHall$Shared" (39 : Nat) "SyncHall$Waiter" "next" "LSyncHall$Waiter;") ∈ lw_all := lw_g (lw_at lw_m3 2 rfl) rfl
theorem q545 : (Jvm.Cond.selects "SyncHall$Shared" ({ cls := "SyncHall$Sync", name := "add", desc := "(LSyncHall$Waiter;)V" } : Jvm.MethodName) ({ cls := "SyncHall$Sync", name := "add", desc := "(LSyncHall$Waiter;)V" } : Jvm.MethodName)) ∈ lw_all := lw_g (lw_at lw_m3 30 rfl) rfl
theorem q565 : (Jvm.Cond.selects "SyncHall$Shared" ({ cls := "SyncHall$Sync", name := "waiters", desc := "()I" } : Jvm.MethodName) ({ cls := "SyncHall$Sync", name := "waiters", desc := "()I" } : Jvm.MethodName)) ∈ lw_all := lw_g (lw_at lw_m3 50 rfl) rfl
theorem q585 : (Jvm.Cond.selects "SyncHall$Shared" ({ cls := "SyncHall$Sync", name := "giveBack", desc := "(LSyncHall$Task;Z)V" } : Jvm.MethodName) ({ cls := "SyncHall$Shared", name := "giveBack", desc := "(LSyncHall$Task;Z)V" } : Jvm.MethodName)) ∈ lw_all := lw_g (lw_at lw_m3 70 rfl) rfl
theorem q586 : (Jvm.Cond.instanceMethod ({ cls := "SyncHall$Shared", name := "giveBack", desc := "(LSyncHall$Task;Z)V" } : Jvm.MethodName)) ∈ lw_all := lw_g (lw_at lw_m3 71 rfl) rfl
theorem q587 : (Jvm.Cond.code ({ cls := "SyncHall$Shared", name := "giveBack", desc := "(LSyncHall$Task;Z)V" } : Jvm.MethodName) prog_6_method_10_code (3 : Nat) (Option.none : Option Jvm.ClassFile.FieldType)) ∈ lw_all := lw_g (lw_at lw_m3 72 rfl) rfl
theorem q588 : (Jvm.Cond.methodLinkNest "SyncHall$Shared" (52 : Nat) ({ cls := "SyncHall", name := "state", desc := "(Z)V" } : Jvm.MethodName) "SyncHall") ∈ lw_tbl := lw_at lw_m3 73 rfl
theorem q596 : (Jvm.Cond.selects "SyncHall$Shared" ({ cls := "SyncHall$Sync", name := "serve", desc := "(D)V" } : Jvm.MethodName) ({ cls := "SyncHall$Sync", name := "serve", desc := "(D)V" } : Jvm.MethodName)) ∈ lw_all := lw_g (lw_at lw_m3 81 rfl) rfl
theorem q608 : (Jvm.Cond.selects "SyncHall$Shared" ({ cls := "SyncHall$Sync", name := "nextToServe", desc := "()LSyncHall$Waiter;" } : Jvm.MethodName) ({ cls := "SyncHall$Shared", name := "nextToServe", desc := "()LSyncHall$Waiter;" } : Jvm.MethodName)) ∈ lw_all := lw_g (lw_at lw_m3 93 rfl) rfl
theorem q609 : (Jvm.Cond.instanceMethod ({ cls := "SyncHall$Shared", name := "nextToServe", desc := "()LSyncHall$Waiter;" } : Jvm.MethodName)) ∈ lw_all := lw_g (lw_at lw_m3 94 rfl) rfl
theorem q610 : (Jvm.Cond.code ({ cls := "SyncHall$Shared", name := "nextToServe", desc := "()LSyncHall$Waiter;" } : Jvm.MethodName) prog_6_method_12_code (2 : Nat) (Option.some (Jvm.ClassFile.FieldType.object "SyncHall$Waiter"))) ∈ lw_all := lw_g (lw_at lw_m3 95 rfl) rfl
theorem q621 : (Jvm.Cond.selects "SyncHall$Shared" ({ cls := "SyncHall$Sync", name := "remove", desc := "(LSyncHall$Waiter;)V" } : Jvm.MethodName) ({ cls := "SyncHall$Sync", name := "remove", desc := "(LSyncHall$Waiter;)V" } : Jvm.MethodName)) ∈ lw_all := lw_g (lw_at lw_m3 106 rfl) rfl
theorem q641 : (Jvm.Cond.selects "SyncHall$Shared" ({ cls := "SyncHall$Sync", name := "takeFor", desc := "(LSyncHall$Waiter;)V" } : Jvm.MethodName) ({ cls := "SyncHall$Sync", name := "takeFor", desc := "(LSyncHall$Waiter;)V" } : Jvm.MethodName)) ∈ lw_all := lw_g (lw_at lw_m3 126 rfl) rfl
theorem q659 : (Jvm.Cond.selects "SyncHall$Shared" ({ cls := "SyncHall$Sync", name := "note", desc := "(D)V" } : Jvm.MethodName) ({ cls := "SyncHall$Sync", name := "note", desc := "(D)V" } : Jvm.MethodName)) ∈ lw_all := lw_g (lw_at lw_m3 144 rfl) rfl
theorem q778 : (Jvm.Cond.selects "SyncHall$Shared" ({ cls := "SyncHall$Sync", name := "held", desc := "(LSyncHall$Task;)I" } : Jvm.MethodName) ({ cls := "SyncHall$Shared", name := "held", desc := "(LSyncHall$Task;)I" } : Jvm.MethodName)) ∈ lw_all := lw_g (lw_at lw_m4 23 rfl) rfl
theorem q779 : (Jvm.Cond.instanceMethod ({ cls := "SyncHall$Shared", name := "held", desc := "(LSyncHall$Task;)I" } : Jvm.MethodName)) ∈ lw_all := lw_g (lw_at lw_m4 24 rfl) rfl
theorem q780 : (Jvm.Cond.code ({ cls := "SyncHall$Shared", name := "held", desc := "(LSyncHall$Task;)I" } : Jvm.MethodName) prog_6_method_11_code (2 : Nat) (Option.some Jvm.ClassFile.FieldType.int)) ∈ lw_all := lw_g (lw_at lw_m4 25 rfl) rfl
theorem q804 : (Jvm.Cond.selects "SyncHall$Shared" ({ cls := "SyncHall$Sync", name := "kind", desc := "()I" } : Jvm.MethodName) ({ cls := "SyncHall$Shared", name := "kind", desc := "()I" } : Jvm.MethodName)) ∈ lw_all := lw_g (lw_at lw_m4 49 rfl) rfl
theorem q805 : (Jvm.Cond.instanceMethod ({ cls := "SyncHall$Shared", name := "kind", desc := "()I" } : Jvm.MethodName)) ∈ lw_all := lw_g (lw_at lw_m4 50 rfl) rfl
theorem q806 : (Jvm.Cond.code ({ cls := "SyncHall$Shared", name := "kind", desc := "()I" } : Jvm.MethodName) prog_6_method_2_code (1 : Nat) (Option.some Jvm.ClassFile.FieldType.int)) ∈ lw_all := lw_g (lw_at lw_m4 51 rfl) rfl
theorem q818 : (Jvm.Cond.selects "SyncHall$Shared" ({ cls := "SyncHall$Sync", name := "amount", desc := "()I" } : Jvm.MethodName) ({ cls := "SyncHall$Sync", name := "amount", desc := "()I" } : Jvm.MethodName)) ∈ lw_all := lw_g (lw_at lw_m4 63 rfl) rfl
theorem q863 : (Jvm.Cond.selects "SyncHall$Shared" ({ cls := "SyncHall$Sync", name := "served", desc := "()I" } : Jvm.MethodName) ({ cls := "SyncHall$Sync", name := "served", desc := "()I" } : Jvm.MethodName)) ∈ lw_all := lw_g (lw_at lw_m4 108 rfl) rfl
theorem q877 : (Jvm.Cond.selects "SyncHall$Shared" ({ cls := "SyncHall$Sync", name := "mean", desc := "()D" } : Jvm.MethodName) ({ cls := "SyncHall$Sync", name := "mean", desc := "()D" } : Jvm.MethodName)) ∈ lw_all := lw_g (lw_at lw_m4 122 rfl) rfl
theorem q1106 : (Jvm.Cond.castable "SyncHall$Shared" "SyncHall$Sync") ∈ lw_tbl := lw_at lw_m5 111 rfl
theorem in_X8 : ∀ w ∈ wsX80, w ∈ lw_all := lw_in wsX80 [322, 323, 324, 316, 318, 320] (by decide +kernel) (by decide +kernel)

/-! SyncHall$Condition -/
set_option maxRecDepth 100000
def RX9 : String := "SyncHall$Condition"
def TX9 : u_T := fun k => match k with
  | 0 => ("SyncHall$Sync", "first", "LSyncHall$Waiter;", false)
  | 1 => ("SyncHall$Sync", "waited", "D", false)
  | 2 => ("SyncHall$Sync", "served", "I", false)
  | _ => ("SyncHall$Condition", "lock", "LSyncHall$Lock;", true)
def tyX9 : Nat → FieldType := fun k => match k with
  | 0 => .object "SyncHall$Waiter"
  | 1 => .double
  | 2 => .int
  | _ => .object "SyncHall$Lock"
abbrev wsX90 : List Cond := u_ws RX9 TX9 4
theorem nmX9 : ∀ a, a < 4 → ∀ b, b < 4 → a ≠ b → (TX9 a).2.1 ≠ (TX9 b).2.1 := by decide +kernel
theorem tyX9_ok : ∀ k, k < 4 → parseFieldDescriptor (TX9 k).2.2.1 = some (tyX9 k) := by decide +kernel
abbrev cX9_init : ByteArray := prog_2_method_1_code
def yX9_init : MethodName := ⟨RX9, "<init>", "(LSyncHall$Lock;)V"⟩
theorem dX9_init_0 : decode cX9_init 0 = .ok (.aload_n 0, 1) := by decide +kernel
theorem dX9_init_1 : decode cX9_init 1 = .ok (.invokespecial 3, 3) := by decide +kernel
theorem dX9_init_4 : decode cX9_init 4 = .ok (.aload_n 0, 1) := by decide +kernel
theorem dX9_init_5 : decode cX9_init 5 = .ok (.aload_n 1, 1) := by decide +kernel
theorem dX9_init_6 : decode cX9_init 6 = .ok (.putfield 9, 3) := by decide +kernel
theorem dX9_init_9 : decode cX9_init 9 = .ok (.return_, 1) := by decide +kernel
abbrev cX9_mustQueue : ByteArray := prog_2_method_5_code
def yX9_mustQueue : MethodName := ⟨RX9, "mustQueue", "(LSyncHall$Task;Z)Z"⟩
theorem dX9_mustQueue_0 : decode cX9_mustQueue 0 = .ok (.iconst 1, 1) := by decide +kernel
theorem dX9_mustQueue_1 : decode cX9_mustQueue 1 = .ok (.ireturn, 1) := by decide +kernel
abbrev cX9_canTake : ByteArray := prog_2_method_4_code
def yX9_canTake : MethodName := ⟨RX9, "canTake", "(LSyncHall$Task;Z)Z"⟩
theorem dX9_canTake_0 : decode cX9_canTake 0 = .ok (.iconst 0, 1) := by decide +kernel
theorem dX9_canTake_1 : decode cX9_canTake 1 = .ok (.ireturn, 1) := by decide +kernel
abbrev cX9_take : ByteArray := prog_2_method_6_code
def yX9_take : MethodName := ⟨RX9, "take", "(LSyncHall$Task;Z)V"⟩
theorem dX9_take_0 : decode cX9_take 0 = .ok (.return_, 1) := by decide +kernel
abbrev cX9_giveBack : ByteArray := prog_2_method_7_code
def yX9_giveBack : MethodName := ⟨RX9, "giveBack", "(LSyncHall$Task;Z)V"⟩
theorem dX9_giveBack_0 : decode cX9_giveBack 0 = .ok (.iconst 0, 1) := by decide +kernel
theorem dX9_giveBack_1 : decode cX9_giveBack 1 = .ok (.invokestatic 15, 3) := by decide +kernel
theorem dX9_giveBack_4 : decode cX9_giveBack 4 = .ok (.return_, 1) := by decide +kernel
abbrev cX9_lock : ByteArray := prog_2_method_2_code
def yX9_lock : MethodName := ⟨RX9, "lock", "()LSyncHall$Lock;"⟩
theorem dX9_lock_0 : decode cX9_lock 0 = .ok (.aload_n 0, 1) := by decide +kernel
theorem dX9_lock_1 : decode cX9_lock 1 = .ok (.getfield 9, 3) := by decide +kernel
theorem dX9_lock_4 : decode cX9_lock 4 = .ok (.areturn, 1) := by decide +kernel
abbrev cX9_queue : ByteArray := prog_2_method_8_code
def yX9_queue : MethodName := ⟨RX9, "queue", "(LSyncHall$Waiter;ID)V"⟩
theorem dX9_queue_0 : decode cX9_queue 0 = .ok (.aload_n 0, 1) := by decide +kernel
theorem dX9_queue_1 : decode cX9_queue 1 = .ok (.aload_n 1, 1) := by decide +kernel
theorem dX9_queue_2 : decode cX9_queue 2 = .ok (.invokevirtual 19, 3) := by decide +kernel
theorem dX9_queue_5 : decode cX9_queue 5 = .ok (.iload_n 2, 1) := by decide +kernel
theorem dX9_queue_6 : decode cX9_queue 6 = .ok (.iconst 1, 1) := by decide +kernel
theorem dX9_queue_7 : decode cX9_queue 7 = .ok (.if_icmp .ne 13, 3) := by decide +kernel
theorem dX9_queue_10 : decode cX9_queue 10 = .ok (.aload_n 0, 1) := by decide +kernel
theorem dX9_queue_11 : decode cX9_queue 11 = .ok (.dload_n 3, 1) := by decide +kernel
theorem dX9_queue_12 : decode cX9_queue 12 = .ok (.aload_n 1, 1) := by decide +kernel
theorem dX9_queue_13 : decode cX9_queue 13 = .ok (.invokevirtual 23, 3) := by decide +kernel
theorem dX9_queue_16 : decode cX9_queue 16 = .ok (.dsub, 1) := by decide +kernel
theorem dX9_queue_17 : decode cX9_queue 17 = .ok (.invokevirtual 29, 3) := by decide +kernel
theorem dX9_queue_20 : decode cX9_queue 20 = .ok (.aload_n 0, 1) := by decide +kernel
theorem dX9_queue_21 : decode cX9_queue 21 = .ok (.getfield 9, 3) := by decide +kernel
theorem dX9_queue_24 : decode cX9_queue 24 = .ok (.new 24, 3) := by decide +kernel
theorem dX9_queue_27 : decode cX9_queue 27 = .ok (.dup, 1) := by decide +kernel
theorem dX9_queue_28 : decode cX9_queue 28 = .ok (.aload_n 1, 1) := by decide +kernel
theorem dX9_queue_29 : decode cX9_queue 29 = .ok (.invokevirtual 33, 3) := by decide +kernel
theorem dX9_queue_32 : decode cX9_queue 32 = .ok (.aload_n 0, 1) := by decide +kernel
theorem dX9_queue_33 : decode cX9_queue 33 = .ok (.getfield 9, 3) := by decide +kernel
theorem dX9_queue_36 : decode cX9_queue 36 = .ok (.iconst 0, 1) := by decide +kernel
theorem dX9_queue_37 : decode cX9_queue 37 = .ok (.ldc2_w 37, 3) := by decide +kernel
theorem dX9_queue_40 : decode cX9_queue 40 = .ok (.dload_n 3, 1) := by decide +kernel
theorem dX9_queue_41 : decode cX9_queue 41 = .ok (.aload_n 1, 1) := by decide +kernel
theorem dX9_queue_42 : decode cX9_queue 42 = .ok (.invokevirtual 39, 3) := by decide +kernel
theorem dX9_queue_45 : decode cX9_queue 45 = .ok (.iload_n 2, 1) := by decide +kernel
theorem dX9_queue_46 : decode cX9_queue 46 = .ok (.invokespecial 43, 3) := by decide +kernel
theorem dX9_queue_49 : decode cX9_queue 49 = .ok (.invokevirtual 46, 3) := by decide +kernel
theorem dX9_queue_52 : decode cX9_queue 52 = .ok (.aload_n 0, 1) := by decide +kernel
theorem dX9_queue_53 : decode cX9_queue 53 = .ok (.getfield 9, 3) := by decide +kernel
theorem dX9_queue_56 : decode cX9_queue 56 = .ok (.dload_n 3, 1) := by decide +kernel
theorem dX9_queue_57 : decode cX9_queue 57 = .ok (.invokevirtual 51, 3) := by decide +kernel
theorem dX9_queue_60 : decode cX9_queue 60 = .ok (.return_, 1) := by decide +kernel
abbrev cX9_kind : ByteArray := prog_2_method_3_code
def yX9_kind : MethodName := ⟨RX9, "kind", "()I"⟩
theorem dX9_kind_0 : decode cX9_kind 0 = .ok (.bipush 6, 2) := by decide +kernel
theorem dX9_kind_2 : decode cX9_kind 2 = .ok (.ireturn, 1) := by decide +kernel
theorem q50 : (Jvm.Cond.initialized "SyncHall$Condition") ∈ lw_all := lw_g (lw_at lw_m1 15 rfl) rfl
theorem q261 : (Jvm.Cond.sameField "SyncHall$Condition" "SyncHall$Sync" "first" "LSyncHall$Waiter;") ∈ lw_all := lw_g (lw_at lw_m1 226 rfl) rfl
theorem q328 : (Jvm.Cond.instantiable "SyncHall$Condition" (4 : Nat)) ∈ lw_all := lw_g (lw_at lw_m2 53 rfl) rfl
theorem q330 : (Jvm.Cond.instanceMethod ({ cls := "SyncHall$Condition", name := "<init>", desc := "(LSyncHall$Lock;)V" } : Jvm.MethodName)) ∈ lw_all := lw_g (lw_at lw_m2 55 rfl) rfl
theorem q331 : (Jvm.Cond.code ({ cls := "SyncHall$Condition", name := "<init>", desc := "(LSyncHall$Lock;)V" } : Jvm.MethodName) prog_2_method_1_code (2 : Nat) (Option.none : Option Jvm.ClassFile.FieldType)) ∈ lw_all := lw_g (lw_at lw_m2 56 rfl) rfl
theorem q332 : (Jvm.Cond.methodLinkNest "SyncHall$Condition" (3 : Nat) ({ cls := "SyncHall$Sync", name := "<init>", desc := "()V" } : Jvm.MethodName) "SyncHall") ∈ lw_tbl := lw_at lw_m2 57 rfl
theorem q333 : (Jvm.Cond.fieldLink "SyncHall$Condition" (9 : Nat) "SyncHall$Condition" "lock" "LSyncHall$Lock;") ∈ lw_all := lw_g (lw_at lw_m2 58 rfl) rfl
theorem q334 : (Jvm.Cond.laysFinal "SyncHall$Condition" "SyncHall$Condition" "lock" "LSyncHall$Lock;") ∈ lw_all := lw_g (lw_at lw_m2 59 rfl) rfl
theorem q335 : (Jvm.Cond.soleField "SyncHall$Condition" "lock") ∈ lw_all := lw_g (lw_at lw_m2 60 rfl) rfl
theorem q336 : (Jvm.Cond.lays "SyncHall$Condition" "SyncHall$Sync" "first" "LSyncHall$Waiter;") ∈ lw_all := lw_g (lw_at lw_m2 61 rfl) rfl
theorem q337 : (Jvm.Cond.lays "SyncHall$Condition" "SyncHall$Sync" "waited" "D") ∈ lw_all := lw_g (lw_at lw_m2 62 rfl) rfl
theorem q338 : (Jvm.Cond.lays "SyncHall$Condition" "SyncHall$Sync" "served" "I") ∈ lw_all := lw_g (lw_at lw_m2 63 rfl) rfl
theorem q339 : (Jvm.Cond.superclass "SyncHall$Condition" "SyncHall$Sync") ∈ lw_all := lw_g (lw_at lw_m2 64 rfl) rfl
theorem q418 : (Jvm.Cond.selects "SyncHall$Condition" ({ cls := "SyncHall$Sync", name := "refuses", desc := "(LSyncHall$Task;Z)Z" } : Jvm.MethodName) ({ cls := "SyncHall$Sync", name := "refuses", desc := "(LSyncHall$Task;Z)Z" } : Jvm.MethodName)) ∈ lw_all := lw_g (lw_at lw_m2 143 rfl) rfl
theorem q433 : (Jvm.Cond.selects "SyncHall$Condition" ({ cls := "SyncHall$Sync", name := "mustQueue", desc := "(LSyncHall$Task;Z)Z" } : Jvm.MethodName) ({ cls := "SyncHall$Condition", name := "mustQueue", desc := "(LSyncHall$Task;Z)Z" } : Jvm.MethodName)) ∈ lw_all := lw_g (lw_at lw_m2 158 rfl) rfl
theorem q434 : (Jvm.Cond.instanceMethod ({ cls := "SyncHall$Condition", name := "mustQueue", desc := "(LSyncHall$Task;Z)Z" } : Jvm.MethodName)) ∈ lw_all := lw_g (lw_at lw_m2 159 rfl) rfl
theorem q435 : (Jvm.Cond.code ({ cls := "SyncHall$Condition", name := "mustQueue", desc := "(LSyncHall$Task;Z)Z" } : Jvm.MethodName) prog_2_method_5_code (3 : Nat) (Option.some Jvm.ClassFile.FieldType.boolean)) ∈ lw_all := lw_g (lw_at lw_m2 160 rfl) rfl
theorem q463 : (Jvm.Cond.selects "SyncHall$Condition" ({ cls := "SyncHall$Sync", name := "canTake", desc := "(LSyncHall$Task;Z)Z" } : Jvm.MethodName) ({ cls := "SyncHall$Condition", name := "canTake", desc := "(LSyncHall$Task;Z)Z" } : Jvm.MethodName)) ∈ lw_all := lw_g (lw_at lw_m2 188 rfl) rfl
theorem q464 : (Jvm.Cond.instanceMethod ({ cls := "SyncHall$Condition", name := "canTake", desc := "(LSyncHall$Task;Z)Z" } : Jvm.MethodName)) ∈ lw_all := lw_g (lw_at lw_m2 189 rfl) rfl
theorem q465 : (Jvm.Cond.code ({ cls := "SyncHall$Condition", name := "canTake", desc := "(LSyncHall$Task;Z)Z" } : Jvm.MethodName) prog_2_method_4_code (3 : Nat) (Option.some Jvm.ClassFile.FieldType.boolean)) ∈ lw_all := lw_g (lw_at lw_m2 190 rfl) rfl
theorem q485 : (Jvm.Cond.selects "SyncHall$Condition" ({ cls := "SyncHall$Sync", name := "take", desc := "(LSyncHall$Task;Z)V" } : Jvm.MethodName) ({ cls := "SyncHall$Condition", name := "take", desc := "(LSyncHall$Task;Z)V" } : Jvm.MethodName)) ∈ lw_all := lw_g (lw_at lw_m2 210 rfl) rfl
theorem q486 : (Jvm.Cond.instanceMethod ({ cls := "SyncHall$Condition", name := "take", desc := "(LSyncHall$Task;Z)V" } : Jvm.MethodName)) ∈ lw_all := lw_g (lw_at lw_m2 211 rfl) rfl
theorem q487 : (Jvm.Cond.code ({ cls := "SyncHall$Condition", name := "take", desc := "(LSyncHall$Task;Z)V" } : Jvm.MethodName) prog_2_method_6_code (3 : Nat) (Option.none : Option Jvm.ClassFile.FieldType)) ∈ lw_all := lw_g (lw_at lw_m2 212 rfl) rfl
theorem q541 : (Jvm.Cond.selects "SyncHall$Condition" ({ cls := "SyncHall$Sync", name := "add", desc := "(LSyncHall$Waiter;)V" } : Jvm.MethodName) ({ cls := "SyncHall$Sync", name := "add", desc := "(LSyncHall$Waiter;)V" } : Jvm.MethodName)) ∈ lw_all := lw_g (lw_at lw_m3 26 rfl) rfl
theorem q561 : (Jvm.Cond.selects "SyncHall$Condition" ({ cls := "SyncHall$Sync", name := "waiters", desc := "()I" } : Jvm.MethodName) ({ cls := "SyncHall$Sync", name := "waiters", desc := "()I" } : Jvm.MethodName)) ∈ lw_all := lw_g (lw_at lw_m3 46 rfl) rfl
theorem q570 : (Jvm.Cond.selects "SyncHall$Condition" ({ cls := "SyncHall$Sync", name := "giveBack", desc := "(LSyncHall$Task;Z)V" } : Jvm.MethodName) ({ cls := "SyncHall$Condition", name := "giveBack", desc := "(LSyncHall$Task;Z)V" } : Jvm.MethodName)) ∈ lw_all := lw_g (lw_at lw_m3 55 rfl) rfl
theorem q571 : (Jvm.Cond.instanceMethod ({ cls := "SyncHall$Condition", name := "giveBack", desc := "(LSyncHall$Task;Z)V" } : Jvm.MethodName)) ∈ lw_all := lw_g (lw_at lw_m3 56 rfl) rfl
theorem q572 : (Jvm.Cond.code ({ cls := "SyncHall$Condition", name := "giveBack", desc := "(LSyncHall$Task;Z)V" } : Jvm.MethodName) prog_2_method_7_code (3 : Nat) (Option.none : Option Jvm.ClassFile.FieldType)) ∈ lw_all := lw_g (lw_at lw_m3 57 rfl) rfl
theorem q573 : (Jvm.Cond.methodLinkNest "SyncHall$Condition" (15 : Nat) ({ cls := "SyncHall", name := "can", desc := "(Z)V" } : Jvm.MethodName) "SyncHall") ∈ lw_tbl := lw_at lw_m3 58 rfl
theorem q592 : (Jvm.Cond.selects "SyncHall$Condition" ({ cls := "SyncHall$Sync", name := "serve", desc := "(D)V" } : Jvm.MethodName) ({ cls := "SyncHall$Sync", name := "serve", desc := "(D)V" } : Jvm.MethodName)) ∈ lw_all := lw_g (lw_at lw_m3 77 rfl) rfl
theorem q601 : (Jvm.Cond.selects "SyncHall$Condition" ({ cls := "SyncHall$Sync", name := "nextToServe", desc := "()LSyncHall$Waiter;" } : Jvm.MethodName) ({ cls := "SyncHall$Sync", name := "nextToServe", desc := "()LSyncHall$Waiter;" } : Jvm.MethodName)) ∈ lw_all := lw_g (lw_at lw_m3 86 rfl) rfl
theorem q617 : (Jvm.Cond.selects "SyncHall$Condition" ({ cls := "SyncHall$Sync", name := "remove", desc := "(LSyncHall$Waiter;)V" } : Jvm.MethodName) ({ cls := "SyncHall$Sync", name := "remove", desc := "(LSyncHall$Waiter;)V" } : Jvm.MethodName)) ∈ lw_all := lw_g (lw_at lw_m3 102 rfl) rfl
theorem q626 : (Jvm.Cond.selects "SyncHall$Condition" ({ cls := "SyncHall$Sync", name := "takeFor", desc := "(LSyncHall$Waiter;)V" } : Jvm.MethodName) ({ cls := "SyncHall$Sync", name := "takeFor", desc := "(LSyncHall$Waiter;)V" } : Jvm.MethodName)) ∈ lw_all := lw_g (lw_at lw_m3 111 rfl) rfl
theorem q655 : (Jvm.Cond.selects "SyncHall$Condition" ({ cls := "SyncHall$Sync", name := "note", desc := "(D)V" } : Jvm.MethodName) ({ cls := "SyncHall$Sync", name := "note", desc := "(D)V" } : Jvm.MethodName)) ∈ lw_all := lw_g (lw_at lw_m3 140 rfl) rfl
theorem q673 : (Jvm.Cond.instanceMethod ({ cls := "SyncHall$Condition", name := "lock", desc := "()LSyncHall$Lock;" } : Jvm.MethodName)) ∈ lw_all := lw_g (lw_at lw_m3 158 rfl) rfl
theorem q674 : (Jvm.Cond.selects "SyncHall$Condition" ({ cls := "SyncHall$Condition", name := "lock", desc := "()LSyncHall$Lock;" } : Jvm.MethodName) ({ cls := "SyncHall$Condition", name := "lock", desc := "()LSyncHall$Lock;" } : Jvm.MethodName)) ∈ lw_all := lw_g (lw_at lw_m3 159 rfl) rfl
theorem q675 : (Jvm.Cond.code ({ cls := "SyncHall$Condition", name := "lock", desc := "()LSyncHall$Lock;" } : Jvm.MethodName) prog_2_method_2_code (1 : Nat) (Option.some (Jvm.ClassFile.FieldType.object "SyncHall$Lock"))) ∈ lw_all := lw_g (lw_at lw_m3 160 rfl) rfl
theorem q681 : (Jvm.Cond.sameMethod "SyncHall$Condition" "SyncHall$Sync" "add" "(LSyncHall$Waiter;)V") ∈ lw_all := lw_g (lw_at lw_m3 166 rfl) rfl
theorem q683 : (Jvm.Cond.selects "SyncHall$Condition" ({ cls := "SyncHall$Condition", name := "add", desc := "(LSyncHall$Waiter;)V" } : Jvm.MethodName) ({ cls := "SyncHall$Sync", name := "add", desc := "(LSyncHall$Waiter;)V" } : Jvm.MethodName)) ∈ lw_all := lw_g (lw_at lw_m3 168 rfl) rfl
theorem q685 : (Jvm.Cond.instanceMethod ({ cls := "SyncHall$Condition", name := "queue", desc := "(LSyncHall$Waiter;ID)V" } : Jvm.MethodName)) ∈ lw_all := lw_g (lw_at lw_m3 170 rfl) rfl
theorem q686 : (Jvm.Cond.selects "SyncHall$Condition" ({ cls := "SyncHall$Condition", name := "queue", desc := "(LSyncHall$Waiter;ID)V" } : Jvm.MethodName) ({ cls := "SyncHall$Condition", name := "queue", desc := "(LSyncHall$Waiter;ID)V" } : Jvm.MethodName)) ∈ lw_all := lw_g (lw_at lw_m3 171 rfl) rfl
theorem q687 : (Jvm.Cond.code ({ cls := "SyncHall$Condition", name := "queue", desc := "(LSyncHall$Waiter;ID)V" } : Jvm.MethodName) prog_2_method_8_code (5 : Nat) (Option.none : Option Jvm.ClassFile.FieldType)) ∈ lw_all := lw_g (lw_at lw_m3 172 rfl) rfl
theorem q688 : (Jvm.Cond.methodLink "SyncHall$Condition" (19 : Nat) ({ cls := "SyncHall$Condition", name := "remove", desc := "(LSyncHall$Waiter;)V" } : Jvm.MethodName)) ∈ lw_all := lw_g (lw_at lw_m3 173 rfl) rfl
theorem q689 : (Jvm.Cond.sameMethod "SyncHall$Condition" "SyncHall$Sync" "remove" "(LSyncHall$Waiter;)V") ∈ lw_all := lw_g (lw_at lw_m3 174 rfl) rfl
theorem q691 : (Jvm.Cond.selects "SyncHall$Condition" ({ cls := "SyncHall$Condition", name := "remove", desc := "(LSyncHall$Waiter;)V" } : Jvm.MethodName) ({ cls := "SyncHall$Sync", name := "remove", desc := "(LSyncHall$Waiter;)V" } : Jvm.MethodName)) ∈ lw_all := lw_g (lw_at lw_m3 176 rfl) rfl
theorem q692 : (Jvm.Cond.methodLink "SyncHall$Condition" (23 : Nat) ({ cls := "SyncHall$Waiter", name := "since", desc := "()D" } : Jvm.MethodName)) ∈ lw_all := lw_g (lw_at lw_m3 177 rfl) rfl
theorem q693 : (Jvm.Cond.methodLink "SyncHall$Condition" (29 : Nat) ({ cls := "SyncHall$Condition", name := "note", desc := "(D)V" } : Jvm.MethodName)) ∈ lw_all := lw_g (lw_at lw_m3 178 rfl) rfl
theorem q694 : (Jvm.Cond.sameMethod "SyncHall$Condition" "SyncHall$Sync" "note" "(D)V") ∈ lw_all := lw_g (lw_at lw_m3 179 rfl) rfl
theorem q696 : (Jvm.Cond.selects "SyncHall$Condition" ({ cls := "SyncHall$Condition", name := "note", desc := "(D)V" } : Jvm.MethodName) ({ cls := "SyncHall$Sync", name := "note", desc := "(D)V" } : Jvm.MethodName)) ∈ lw_all := lw_g (lw_at lw_m3 181 rfl) rfl
theorem q697 : (Jvm.Cond.classLink "SyncHall$Condition" (24 : Nat) "SyncHall$Waiter") ∈ lw_all := lw_g (lw_at lw_m3 182 rfl) rfl
theorem q698 : (Jvm.Cond.methodLink "SyncHall$Condition" (33 : Nat) ({ cls := "SyncHall$Waiter", name := "task", desc := "()LSyncHall$Task;" } : Jvm.MethodName)) ∈ lw_all := lw_g (lw_at lw_m3 183 rfl) rfl
theorem q699 : (Jvm.Cond.constantDouble "SyncHall$Condition" (37 : Nat) (13830554455654793216 : UInt64)) ∈ lw_all := lw_g (lw_at lw_m3 184 rfl) rfl
theorem q700 : (Jvm.Cond.methodLink "SyncHall$Condition" (39 : Nat) ({ cls := "SyncHall$Waiter", name := "depth", desc := "()I" } : Jvm.MethodName)) ∈ lw_all := lw_g (lw_at lw_m3 185 rfl) rfl
theorem q701 : (Jvm.Cond.methodLink "SyncHall$Condition" (43 : Nat) ({ cls := "SyncHall$Waiter", name := "<init>", desc := "(LSyncHall$Task;LSyncHall$Sync;ZDDII)V" } : Jvm.MethodName)) ∈ lw_all := lw_g (lw_at lw_m3 186 rfl) rfl
theorem q702 : (Jvm.Cond.methodLink "SyncHall$Condition" (46 : Nat) ({ cls := "SyncHall$Lock", name := "add", desc := "(LSyncHall$Waiter;)V" } : Jvm.MethodName)) ∈ lw_all := lw_g (lw_at lw_m3 187 rfl) rfl
theorem q705 : (Jvm.Cond.methodLink "SyncHall$Condition" (51 : Nat) ({ cls := "SyncHall$Lock", name := "serve", desc := "(D)V" } : Jvm.MethodName)) ∈ lw_all := lw_g (lw_at lw_m3 190 rfl) rfl
theorem q772 : (Jvm.Cond.selects "SyncHall$Condition" ({ cls := "SyncHall$Sync", name := "held", desc := "(LSyncHall$Task;)I" } : Jvm.MethodName) ({ cls := "SyncHall$Sync", name := "held", desc := "(LSyncHall$Task;)I" } : Jvm.MethodName)) ∈ lw_all := lw_g (lw_at lw_m4 17 rfl) rfl
theorem q792 : (Jvm.Cond.selects "SyncHall$Condition" ({ cls := "SyncHall$Sync", name := "kind", desc := "()I" } : Jvm.MethodName) ({ cls := "SyncHall$Condition", name := "kind", desc := "()I" } : Jvm.MethodName)) ∈ lw_all := lw_g (lw_at lw_m4 37 rfl) rfl
theorem q793 : (Jvm.Cond.instanceMethod ({ cls := "SyncHall$Condition", name := "kind", desc := "()I" } : Jvm.MethodName)) ∈ lw_all := lw_g (lw_at lw_m4 38 rfl) rfl
theorem q794 : (Jvm.Cond.code ({ cls := "SyncHall$Condition", name := "kind", desc := "()I" } : Jvm.MethodName) prog_2_method_3_code (1 : Nat) (Option.some Jvm.ClassFile.FieldType.int)) ∈ lw_all := lw_g (lw_at lw_m4 39 rfl) rfl
theorem q810 : (Jvm.Cond.selects "SyncHall$Condition" ({ cls := "SyncHall$Sync", name := "amount", desc := "()I" } : Jvm.MethodName) ({ cls := "SyncHall$Sync", name := "amount", desc := "()I" } : Jvm.MethodName)) ∈ lw_all := lw_g (lw_at lw_m4 55 rfl) rfl
theorem q859 : (Jvm.Cond.selects "SyncHall$Condition" ({ cls := "SyncHall$Sync", name := "served", desc := "()I" } : Jvm.MethodName) ({ cls := "SyncHall$Sync", name := "served", desc := "()I" } : Jvm.MethodName)) ∈ lw_all := lw_g (lw_at lw_m4 104 rfl) rfl
theorem q873 : (Jvm.Cond.selects "SyncHall$Condition" ({ cls := "SyncHall$Sync", name := "mean", desc := "()D" } : Jvm.MethodName) ({ cls := "SyncHall$Sync", name := "mean", desc := "()D" } : Jvm.MethodName)) ∈ lw_all := lw_g (lw_at lw_m4 118 rfl) rfl
theorem q1107 : (Jvm.Cond.castable "SyncHall$Condition" "SyncHall$Sync") ∈ lw_tbl := lw_at lw_m5 112 rfl
theorem in_X9 : ∀ w ∈ wsX90, w ∈ lw_all := lw_in wsX90 [336, 337, 338, 334] (by decide +kernel) (by decide +kernel)
