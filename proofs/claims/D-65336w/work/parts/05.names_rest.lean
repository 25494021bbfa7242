/-! SyncHallLaw -/
set_option maxRecDepth 100000
def RX0 : String := "SyncHallLaw"
abbrev cX0_make : ByteArray := method_3_code
def yX0_make : MethodName := ⟨RX0, "make", "(LSyncHall;III[J)I"⟩
theorem dX0_make_0 : decode cX0_make 0 = .ok (.aload 4, 2) := by decide +kernel
theorem dX0_make_2 : decode cX0_make 2 = .ok (.iconst 0, 1) := by decide +kernel
theorem dX0_make_3 : decode cX0_make 3 = .ok (.aload_n 0, 1) := by decide +kernel
theorem dX0_make_4 : decode cX0_make 4 = .ok (.iload_n 1, 1) := by decide +kernel
theorem dX0_make_5 : decode cX0_make 5 = .ok (.iload_n 2, 1) := by decide +kernel
theorem dX0_make_6 : decode cX0_make 6 = .ok (.iload_n 3, 1) := by decide +kernel
theorem dX0_make_7 : decode cX0_make 7 = .ok (.invokevirtual 7, 3) := by decide +kernel
theorem dX0_make_10 : decode cX0_make 10 = .ok (.i2l, 1) := by decide +kernel
theorem dX0_make_11 : decode cX0_make 11 = .ok (.lastore, 1) := by decide +kernel
theorem dX0_make_12 : decode cX0_make 12 = .ok (.goto 15, 3) := by decide +kernel
theorem dX0_make_15 : decode cX0_make 15 = .ok (.astore 5, 2) := by decide +kernel
theorem dX0_make_17 : decode cX0_make 17 = .ok (.iconst 1, 1) := by decide +kernel
theorem dX0_make_18 : decode cX0_make 18 = .ok (.ireturn, 1) := by decide +kernel
theorem dX0_make_19 : decode cX0_make 19 = .ok (.astore 5, 2) := by decide +kernel
theorem dX0_make_21 : decode cX0_make 21 = .ok (.iconst 2, 1) := by decide +kernel
theorem dX0_make_22 : decode cX0_make 22 = .ok (.ireturn, 1) := by decide +kernel
theorem dX0_make_23 : decode cX0_make 23 = .ok (.astore 5, 2) := by decide +kernel
theorem dX0_make_25 : decode cX0_make 25 = .ok (.iconst 3, 1) := by decide +kernel
theorem dX0_make_26 : decode cX0_make 26 = .ok (.ireturn, 1) := by decide +kernel
theorem dX0_make_27 : decode cX0_make 27 = .ok (.iconst 0, 1) := by decide +kernel
theorem dX0_make_28 : decode cX0_make 28 = .ok (.ireturn, 1) := by decide +kernel
abbrev cX0_rank : ByteArray := method_4_code
def yX0_rank : MethodName := ⟨RX0, "rank", "(LSyncHall;ID)I"⟩
theorem dX0_rank_0 : decode cX0_rank 0 = .ok (.aload_n 0, 1) := by decide +kernel
theorem dX0_rank_1 : decode cX0_rank 1 = .ok (.iload_n 1, 1) := by decide +kernel
theorem dX0_rank_2 : decode cX0_rank 2 = .ok (.dload_n 2, 1) := by decide +kernel
theorem dX0_rank_3 : decode cX0_rank 3 = .ok (.invokevirtual 19, 3) := by decide +kernel
theorem dX0_rank_6 : decode cX0_rank 6 = .ok (.goto 7, 3) := by decide +kernel
theorem dX0_rank_9 : decode cX0_rank 9 = .ok (.astore 4, 2) := by decide +kernel
theorem dX0_rank_11 : decode cX0_rank 11 = .ok (.iconst 1, 1) := by decide +kernel
theorem dX0_rank_12 : decode cX0_rank 12 = .ok (.ireturn, 1) := by decide +kernel
theorem dX0_rank_13 : decode cX0_rank 13 = .ok (.iconst 0, 1) := by decide +kernel
theorem dX0_rank_14 : decode cX0_rank 14 = .ok (.ireturn, 1) := by decide +kernel
abbrev cX0_acquire : ByteArray := method_5_code
def yX0_acquire : MethodName := ⟨RX0, "acquire", "(LSyncHall;IIID[J)I"⟩
theorem dX0_acquire_0 : decode cX0_acquire 0 = .ok (.aload 6, 2) := by decide +kernel
theorem dX0_acquire_2 : decode cX0_acquire 2 = .ok (.iconst 0, 1) := by decide +kernel
theorem dX0_acquire_3 : decode cX0_acquire 3 = .ok (.aload_n 0, 1) := by decide +kernel
theorem dX0_acquire_4 : decode cX0_acquire 4 = .ok (.iload_n 1, 1) := by decide +kernel
theorem dX0_acquire_5 : decode cX0_acquire 5 = .ok (.iload_n 2, 1) := by decide +kernel
theorem dX0_acquire_6 : decode cX0_acquire 6 = .ok (.iload_n 3, 1) := by decide +kernel
theorem dX0_acquire_7 : decode cX0_acquire 7 = .ok (.dload 4, 2) := by decide +kernel
theorem dX0_acquire_9 : decode cX0_acquire 9 = .ok (.invokevirtual 23, 3) := by decide +kernel
theorem dX0_acquire_12 : decode cX0_acquire 12 = .ok (.i2l, 1) := by decide +kernel
theorem dX0_acquire_13 : decode cX0_acquire 13 = .ok (.lastore, 1) := by decide +kernel
theorem dX0_acquire_14 : decode cX0_acquire 14 = .ok (.goto 19, 3) := by decide +kernel
theorem dX0_acquire_17 : decode cX0_acquire 17 = .ok (.astore 7, 2) := by decide +kernel
theorem dX0_acquire_19 : decode cX0_acquire 19 = .ok (.iconst 1, 1) := by decide +kernel
theorem dX0_acquire_20 : decode cX0_acquire 20 = .ok (.ireturn, 1) := by decide +kernel
theorem dX0_acquire_21 : decode cX0_acquire 21 = .ok (.astore 7, 2) := by decide +kernel
theorem dX0_acquire_23 : decode cX0_acquire 23 = .ok (.iconst 2, 1) := by decide +kernel
theorem dX0_acquire_24 : decode cX0_acquire 24 = .ok (.ireturn, 1) := by decide +kernel
theorem dX0_acquire_25 : decode cX0_acquire 25 = .ok (.astore 7, 2) := by decide +kernel
theorem dX0_acquire_27 : decode cX0_acquire 27 = .ok (.iconst 3, 1) := by decide +kernel
theorem dX0_acquire_28 : decode cX0_acquire 28 = .ok (.ireturn, 1) := by decide +kernel
theorem dX0_acquire_29 : decode cX0_acquire 29 = .ok (.astore 7, 2) := by decide +kernel
theorem dX0_acquire_31 : decode cX0_acquire 31 = .ok (.iconst 4, 1) := by decide +kernel
theorem dX0_acquire_32 : decode cX0_acquire 32 = .ok (.ireturn, 1) := by decide +kernel
theorem dX0_acquire_33 : decode cX0_acquire 33 = .ok (.iconst 0, 1) := by decide +kernel
theorem dX0_acquire_34 : decode cX0_acquire 34 = .ok (.ireturn, 1) := by decide +kernel
abbrev cX0_release : ByteArray := method_6_code
def yX0_release : MethodName := ⟨RX0, "release", "(LSyncHall;III[J)I"⟩
theorem dX0_release_0 : decode cX0_release 0 = .ok (.aload 4, 2) := by decide +kernel
theorem dX0_release_2 : decode cX0_release 2 = .ok (.iconst 0, 1) := by decide +kernel
theorem dX0_release_3 : decode cX0_release 3 = .ok (.aload_n 0, 1) := by decide +kernel
theorem dX0_release_4 : decode cX0_release 4 = .ok (.iload_n 1, 1) := by decide +kernel
theorem dX0_release_5 : decode cX0_release 5 = .ok (.iload_n 2, 1) := by decide +kernel
theorem dX0_release_6 : decode cX0_release 6 = .ok (.iload_n 3, 1) := by decide +kernel
theorem dX0_release_7 : decode cX0_release 7 = .ok (.invokevirtual 29, 3) := by decide +kernel
theorem dX0_release_10 : decode cX0_release 10 = .ok (.i2l, 1) := by decide +kernel
theorem dX0_release_11 : decode cX0_release 11 = .ok (.lastore, 1) := by decide +kernel
theorem dX0_release_12 : decode cX0_release 12 = .ok (.goto 19, 3) := by decide +kernel
theorem dX0_release_15 : decode cX0_release 15 = .ok (.astore 5, 2) := by decide +kernel
theorem dX0_release_17 : decode cX0_release 17 = .ok (.iconst 1, 1) := by decide +kernel
theorem dX0_release_18 : decode cX0_release 18 = .ok (.ireturn, 1) := by decide +kernel
theorem dX0_release_19 : decode cX0_release 19 = .ok (.astore 5, 2) := by decide +kernel
theorem dX0_release_21 : decode cX0_release 21 = .ok (.iconst 2, 1) := by decide +kernel
theorem dX0_release_22 : decode cX0_release 22 = .ok (.ireturn, 1) := by decide +kernel
theorem dX0_release_23 : decode cX0_release 23 = .ok (.astore 5, 2) := by decide +kernel
theorem dX0_release_25 : decode cX0_release 25 = .ok (.iconst 3, 1) := by decide +kernel
theorem dX0_release_26 : decode cX0_release 26 = .ok (.ireturn, 1) := by decide +kernel
theorem dX0_release_27 : decode cX0_release 27 = .ok (.astore 5, 2) := by decide +kernel
theorem dX0_release_29 : decode cX0_release 29 = .ok (.iconst 4, 1) := by decide +kernel
theorem dX0_release_30 : decode cX0_release 30 = .ok (.ireturn, 1) := by decide +kernel
theorem dX0_release_31 : decode cX0_release 31 = .ok (.iconst 0, 1) := by decide +kernel
theorem dX0_release_32 : decode cX0_release 32 = .ok (.ireturn, 1) := by decide +kernel
abbrev cX0_await : ByteArray := method_7_code
def yX0_await : MethodName := ⟨RX0, "await", "(LSyncHall;IID[J)I"⟩
theorem dX0_await_0 : decode cX0_await 0 = .ok (.aload 5, 2) := by decide +kernel
theorem dX0_await_2 : decode cX0_await 2 = .ok (.iconst 0, 1) := by decide +kernel
theorem dX0_await_3 : decode cX0_await 3 = .ok (.aload_n 0, 1) := by decide +kernel
theorem dX0_await_4 : decode cX0_await 4 = .ok (.iload_n 1, 1) := by decide +kernel
theorem dX0_await_5 : decode cX0_await 5 = .ok (.iload_n 2, 1) := by decide +kernel
theorem dX0_await_6 : decode cX0_await 6 = .ok (.dload_n 3, 1) := by decide +kernel
theorem dX0_await_7 : decode cX0_await 7 = .ok (.invokevirtual 32, 3) := by decide +kernel
theorem dX0_await_10 : decode cX0_await 10 = .ok (.i2l, 1) := by decide +kernel
theorem dX0_await_11 : decode cX0_await 11 = .ok (.lastore, 1) := by decide +kernel
theorem dX0_await_12 : decode cX0_await 12 = .ok (.goto 19, 3) := by decide +kernel
theorem dX0_await_15 : decode cX0_await 15 = .ok (.astore 6, 2) := by decide +kernel
theorem dX0_await_17 : decode cX0_await 17 = .ok (.iconst 1, 1) := by decide +kernel
theorem dX0_await_18 : decode cX0_await 18 = .ok (.ireturn, 1) := by decide +kernel
theorem dX0_await_19 : decode cX0_await 19 = .ok (.astore 6, 2) := by decide +kernel
theorem dX0_await_21 : decode cX0_await 21 = .ok (.iconst 2, 1) := by decide +kernel
theorem dX0_await_22 : decode cX0_await 22 = .ok (.ireturn, 1) := by decide +kernel
theorem dX0_await_23 : decode cX0_await 23 = .ok (.astore 6, 2) := by decide +kernel
theorem dX0_await_25 : decode cX0_await 25 = .ok (.iconst 3, 1) := by decide +kernel
theorem dX0_await_26 : decode cX0_await 26 = .ok (.ireturn, 1) := by decide +kernel
theorem dX0_await_27 : decode cX0_await 27 = .ok (.astore 6, 2) := by decide +kernel
theorem dX0_await_29 : decode cX0_await 29 = .ok (.iconst 4, 1) := by decide +kernel
theorem dX0_await_30 : decode cX0_await 30 = .ok (.ireturn, 1) := by decide +kernel
theorem dX0_await_31 : decode cX0_await 31 = .ok (.iconst 0, 1) := by decide +kernel
theorem dX0_await_32 : decode cX0_await 32 = .ok (.ireturn, 1) := by decide +kernel
abbrev cX0_signal : ByteArray := method_8_code
def yX0_signal : MethodName := ⟨RX0, "signal", "(LSyncHall;IIZ[J)I"⟩
theorem dX0_signal_0 : decode cX0_signal 0 = .ok (.aload 4, 2) := by decide +kernel
theorem dX0_signal_2 : decode cX0_signal 2 = .ok (.iconst 0, 1) := by decide +kernel
theorem dX0_signal_3 : decode cX0_signal 3 = .ok (.aload_n 0, 1) := by decide +kernel
theorem dX0_signal_4 : decode cX0_signal 4 = .ok (.iload_n 1, 1) := by decide +kernel
theorem dX0_signal_5 : decode cX0_signal 5 = .ok (.iload_n 2, 1) := by decide +kernel
theorem dX0_signal_6 : decode cX0_signal 6 = .ok (.iload_n 3, 1) := by decide +kernel
theorem dX0_signal_7 : decode cX0_signal 7 = .ok (.invokevirtual 36, 3) := by decide +kernel
theorem dX0_signal_10 : decode cX0_signal 10 = .ok (.i2l, 1) := by decide +kernel
theorem dX0_signal_11 : decode cX0_signal 11 = .ok (.lastore, 1) := by decide +kernel
theorem dX0_signal_12 : decode cX0_signal 12 = .ok (.goto 19, 3) := by decide +kernel
theorem dX0_signal_15 : decode cX0_signal 15 = .ok (.astore 5, 2) := by decide +kernel
theorem dX0_signal_17 : decode cX0_signal 17 = .ok (.iconst 1, 1) := by decide +kernel
theorem dX0_signal_18 : decode cX0_signal 18 = .ok (.ireturn, 1) := by decide +kernel
theorem dX0_signal_19 : decode cX0_signal 19 = .ok (.astore 5, 2) := by decide +kernel
theorem dX0_signal_21 : decode cX0_signal 21 = .ok (.iconst 2, 1) := by decide +kernel
theorem dX0_signal_22 : decode cX0_signal 22 = .ok (.ireturn, 1) := by decide +kernel
theorem dX0_signal_23 : decode cX0_signal 23 = .ok (.astore 5, 2) := by decide +kernel
theorem dX0_signal_25 : decode cX0_signal 25 = .ok (.iconst 3, 1) := by decide +kernel
theorem dX0_signal_26 : decode cX0_signal 26 = .ok (.ireturn, 1) := by decide +kernel
theorem dX0_signal_27 : decode cX0_signal 27 = .ok (.astore 5, 2) := by decide +kernel
theorem dX0_signal_29 : decode cX0_signal 29 = .ok (.iconst 4, 1) := by decide +kernel
theorem dX0_signal_30 : decode cX0_signal 30 = .ok (.ireturn, 1) := by decide +kernel
theorem dX0_signal_31 : decode cX0_signal 31 = .ok (.iconst 0, 1) := by decide +kernel
theorem dX0_signal_32 : decode cX0_signal 32 = .ok (.ireturn, 1) := by decide +kernel
abbrev cX0_interrupt : ByteArray := method_9_code
def yX0_interrupt : MethodName := ⟨RX0, "interrupt", "(LSyncHall;I[J)I"⟩
theorem dX0_interrupt_0 : decode cX0_interrupt 0 = .ok (.aload_n 2, 1) := by decide +kernel
theorem dX0_interrupt_1 : decode cX0_interrupt 1 = .ok (.iconst 0, 1) := by decide +kernel
theorem dX0_interrupt_2 : decode cX0_interrupt 2 = .ok (.aload_n 0, 1) := by decide +kernel
theorem dX0_interrupt_3 : decode cX0_interrupt 3 = .ok (.iload_n 1, 1) := by decide +kernel
theorem dX0_interrupt_4 : decode cX0_interrupt 4 = .ok (.invokevirtual 40, 3) := by decide +kernel
theorem dX0_interrupt_7 : decode cX0_interrupt 7 = .ok (.i2l, 1) := by decide +kernel
theorem dX0_interrupt_8 : decode cX0_interrupt 8 = .ok (.lastore, 1) := by decide +kernel
theorem dX0_interrupt_9 : decode cX0_interrupt 9 = .ok (.goto 6, 3) := by decide +kernel
theorem dX0_interrupt_12 : decode cX0_interrupt 12 = .ok (.astore_n 3, 1) := by decide +kernel
theorem dX0_interrupt_13 : decode cX0_interrupt 13 = .ok (.iconst 1, 1) := by decide +kernel
theorem dX0_interrupt_14 : decode cX0_interrupt 14 = .ok (.ireturn, 1) := by decide +kernel
theorem dX0_interrupt_15 : decode cX0_interrupt 15 = .ok (.iconst 0, 1) := by decide +kernel
theorem dX0_interrupt_16 : decode cX0_interrupt 16 = .ok (.ireturn, 1) := by decide +kernel
abbrev cX0_tick : ByteArray := method_10_code
def yX0_tick : MethodName := ⟨RX0, "tick", "(LSyncHall;D[J)I"⟩
theorem dX0_tick_0 : decode cX0_tick 0 = .ok (.aload_n 3, 1) := by decide +kernel
theorem dX0_tick_1 : decode cX0_tick 1 = .ok (.iconst 0, 1) := by decide +kernel
theorem dX0_tick_2 : decode cX0_tick 2 = .ok (.aload_n 0, 1) := by decide +kernel
theorem dX0_tick_3 : decode cX0_tick 3 = .ok (.dload_n 1, 1) := by decide +kernel
theorem dX0_tick_4 : decode cX0_tick 4 = .ok (.invokevirtual 44, 3) := by decide +kernel
theorem dX0_tick_7 : decode cX0_tick 7 = .ok (.i2l, 1) := by decide +kernel
theorem dX0_tick_8 : decode cX0_tick 8 = .ok (.lastore, 1) := by decide +kernel
theorem dX0_tick_9 : decode cX0_tick 9 = .ok (.goto 7, 3) := by decide +kernel
theorem dX0_tick_12 : decode cX0_tick 12 = .ok (.astore 4, 2) := by decide +kernel
theorem dX0_tick_14 : decode cX0_tick 14 = .ok (.iconst 1, 1) := by decide +kernel
theorem dX0_tick_15 : decode cX0_tick 15 = .ok (.ireturn, 1) := by decide +kernel
theorem dX0_tick_16 : decode cX0_tick 16 = .ok (.iconst 0, 1) := by decide +kernel
theorem dX0_tick_17 : decode cX0_tick 17 = .ok (.ireturn, 1) := by decide +kernel
abbrev cX0_policy : ByteArray := method_11_code
def yX0_policy : MethodName := ⟨RX0, "policy", "(LSyncHall;I[J)I"⟩
theorem dX0_policy_0 : decode cX0_policy 0 = .ok (.aload_n 2, 1) := by decide +kernel
theorem dX0_policy_1 : decode cX0_policy 1 = .ok (.iconst 0, 1) := by decide +kernel
theorem dX0_policy_2 : decode cX0_policy 2 = .ok (.aload_n 0, 1) := by decide +kernel
theorem dX0_policy_3 : decode cX0_policy 3 = .ok (.iload_n 1, 1) := by decide +kernel
theorem dX0_policy_4 : decode cX0_policy 4 = .ok (.invokevirtual 48, 3) := by decide +kernel
theorem dX0_policy_7 : decode cX0_policy 7 = .ok (.i2l, 1) := by decide +kernel
theorem dX0_policy_8 : decode cX0_policy 8 = .ok (.lastore, 1) := by decide +kernel
theorem dX0_policy_9 : decode cX0_policy 9 = .ok (.goto 6, 3) := by decide +kernel
theorem dX0_policy_12 : decode cX0_policy 12 = .ok (.astore_n 3, 1) := by decide +kernel
theorem dX0_policy_13 : decode cX0_policy 13 = .ok (.iconst 1, 1) := by decide +kernel
theorem dX0_policy_14 : decode cX0_policy 14 = .ok (.ireturn, 1) := by decide +kernel
theorem dX0_policy_15 : decode cX0_policy 15 = .ok (.iconst 0, 1) := by decide +kernel
theorem dX0_policy_16 : decode cX0_policy 16 = .ok (.ireturn, 1) := by decide +kernel
abbrev cX0_thread : ByteArray := method_12_code
def yX0_thread : MethodName := ⟨RX0, "thread", "(LSyncHall;II[J)I"⟩
theorem dX0_thread_0 : decode cX0_thread 0 = .ok (.aload_n 3, 1) := by decide +kernel
theorem dX0_thread_1 : decode cX0_thread 1 = .ok (.iconst 0, 1) := by decide +kernel
theorem dX0_thread_2 : decode cX0_thread 2 = .ok (.aload_n 0, 1) := by decide +kernel
theorem dX0_thread_3 : decode cX0_thread 3 = .ok (.iload_n 1, 1) := by decide +kernel
theorem dX0_thread_4 : decode cX0_thread 4 = .ok (.iload_n 2, 1) := by decide +kernel
theorem dX0_thread_5 : decode cX0_thread 5 = .ok (.invokevirtual 51, 3) := by decide +kernel
theorem dX0_thread_8 : decode cX0_thread 8 = .ok (.i2l, 1) := by decide +kernel
theorem dX0_thread_9 : decode cX0_thread 9 = .ok (.lastore, 1) := by decide +kernel
theorem dX0_thread_10 : decode cX0_thread 10 = .ok (.goto 7, 3) := by decide +kernel
theorem dX0_thread_13 : decode cX0_thread 13 = .ok (.astore 4, 2) := by decide +kernel
theorem dX0_thread_15 : decode cX0_thread 15 = .ok (.iconst 1, 1) := by decide +kernel
theorem dX0_thread_16 : decode cX0_thread 16 = .ok (.ireturn, 1) := by decide +kernel
theorem dX0_thread_17 : decode cX0_thread 17 = .ok (.iconst 0, 1) := by decide +kernel
theorem dX0_thread_18 : decode cX0_thread 18 = .ok (.ireturn, 1) := by decide +kernel
abbrev cX0_sync : ByteArray := method_13_code
def yX0_sync : MethodName := ⟨RX0, "sync", "(LSyncHall;II[J)I"⟩
theorem dX0_sync_0 : decode cX0_sync 0 = .ok (.aload_n 3, 1) := by decide +kernel
theorem dX0_sync_1 : decode cX0_sync 1 = .ok (.iconst 0, 1) := by decide +kernel
theorem dX0_sync_2 : decode cX0_sync 2 = .ok (.aload_n 0, 1) := by decide +kernel
theorem dX0_sync_3 : decode cX0_sync 3 = .ok (.iload_n 1, 1) := by decide +kernel
theorem dX0_sync_4 : decode cX0_sync 4 = .ok (.iload_n 2, 1) := by decide +kernel
theorem dX0_sync_5 : decode cX0_sync 5 = .ok (.invokevirtual 55, 3) := by decide +kernel
theorem dX0_sync_8 : decode cX0_sync 8 = .ok (.i2l, 1) := by decide +kernel
theorem dX0_sync_9 : decode cX0_sync 9 = .ok (.lastore, 1) := by decide +kernel
theorem dX0_sync_10 : decode cX0_sync 10 = .ok (.goto 11, 3) := by decide +kernel
theorem dX0_sync_13 : decode cX0_sync 13 = .ok (.astore 4, 2) := by decide +kernel
theorem dX0_sync_15 : decode cX0_sync 15 = .ok (.iconst 1, 1) := by decide +kernel
theorem dX0_sync_16 : decode cX0_sync 16 = .ok (.ireturn, 1) := by decide +kernel
theorem dX0_sync_17 : decode cX0_sync 17 = .ok (.astore 4, 2) := by decide +kernel
theorem dX0_sync_19 : decode cX0_sync 19 = .ok (.iconst 2, 1) := by decide +kernel
theorem dX0_sync_20 : decode cX0_sync 20 = .ok (.ireturn, 1) := by decide +kernel
theorem dX0_sync_21 : decode cX0_sync 21 = .ok (.iconst 0, 1) := by decide +kernel
theorem dX0_sync_22 : decode cX0_sync 22 = .ok (.ireturn, 1) := by decide +kernel
abbrev cX0_waited : ByteArray := method_14_code
def yX0_waited : MethodName := ⟨RX0, "waited", "(LSyncHall;I[D)I"⟩
theorem dX0_waited_0 : decode cX0_waited 0 = .ok (.aload_n 2, 1) := by decide +kernel
theorem dX0_waited_1 : decode cX0_waited 1 = .ok (.iconst 0, 1) := by decide +kernel
theorem dX0_waited_2 : decode cX0_waited 2 = .ok (.aload_n 0, 1) := by decide +kernel
theorem dX0_waited_3 : decode cX0_waited 3 = .ok (.iload_n 1, 1) := by decide +kernel
theorem dX0_waited_4 : decode cX0_waited 4 = .ok (.invokevirtual 58, 3) := by decide +kernel
theorem dX0_waited_7 : decode cX0_waited 7 = .ok (.dastore, 1) := by decide +kernel
theorem dX0_waited_8 : decode cX0_waited 8 = .ok (.goto 12, 3) := by decide +kernel
theorem dX0_waited_11 : decode cX0_waited 11 = .ok (.astore_n 3, 1) := by decide +kernel
theorem dX0_waited_12 : decode cX0_waited 12 = .ok (.iconst 1, 1) := by decide +kernel
theorem dX0_waited_13 : decode cX0_waited 13 = .ok (.ireturn, 1) := by decide +kernel
theorem dX0_waited_14 : decode cX0_waited 14 = .ok (.astore_n 3, 1) := by decide +kernel
theorem dX0_waited_15 : decode cX0_waited 15 = .ok (.iconst 2, 1) := by decide +kernel
theorem dX0_waited_16 : decode cX0_waited 16 = .ok (.ireturn, 1) := by decide +kernel
theorem dX0_waited_17 : decode cX0_waited 17 = .ok (.astore_n 3, 1) := by decide +kernel
theorem dX0_waited_18 : decode cX0_waited 18 = .ok (.iconst 3, 1) := by decide +kernel
theorem dX0_waited_19 : decode cX0_waited 19 = .ok (.ireturn, 1) := by decide +kernel
theorem dX0_waited_20 : decode cX0_waited 20 = .ok (.iconst 0, 1) := by decide +kernel
theorem dX0_waited_21 : decode cX0_waited 21 = .ok (.ireturn, 1) := by decide +kernel
theorem q35 : (Jvm.Cond.initialized "SyncHallLaw") ∈ lw_all := lw_g (lw_at lw_m1 0 rfl) rfl
theorem q55 : (Jvm.Cond.classLink "SyncHallLaw" (8 : Nat) "SyncHall") ∈ lw_all := lw_g (lw_at lw_m1 20 rfl) rfl
theorem q57 : (Jvm.Cond.methodLink "SyncHallLaw" (64 : Nat) ({ cls := "SyncHall", name := "<init>", desc := "()V" } : Jvm.MethodName)) ∈ lw_all := lw_g (lw_at lw_m1 22 rfl) rfl
theorem q115 : (Jvm.Cond.methodLink "SyncHallLaw" (121 : Nat) ({ cls := "SyncHall", name := "time", desc := "()D" } : Jvm.MethodName)) ∈ lw_all := lw_g (lw_at lw_m1 80 rfl) rfl
theorem q119 : (Jvm.Cond.methodLink "SyncHallLaw" (68 : Nat) ({ cls := "SyncHallLaw", name := "make", desc := "(LSyncHall;III[J)I" } : Jvm.MethodName)) ∈ lw_all := lw_g (lw_at lw_m1 84 rfl) rfl
theorem q120 : (Jvm.Cond.static ({ cls := "SyncHallLaw", name := "make", desc := "(LSyncHall;III[J)I" } : Jvm.MethodName)) ∈ lw_all := lw_g (lw_at lw_m1 85 rfl) rfl
theorem q121 : (Jvm.Cond.codeWith ({ cls := "SyncHallLaw", name := "make", desc := "(LSyncHall;III[J)I" } : Jvm.MethodName) method_3_code (6 : Nat) (Option.some Jvm.ClassFile.FieldType.int) [((0 : Nat), (12 : Nat), (15 : Nat), (13 : Nat)), ((0 : Nat), (12 : Nat), (19 : Nat), (15 : Nat)), ((0 : Nat), (12 : Nat), (23 : Nat), (17 : Nat))]) ∈ lw_all := lw_g (lw_at lw_m1 86 rfl) rfl
theorem q122 : (Jvm.Cond.classLink "SyncHallLaw" (13 : Nat) "java/lang/IllegalArgumentException") ∈ lw_all := lw_g (lw_at lw_m1 87 rfl) rfl
theorem q123 : (Jvm.Cond.classLink "SyncHallLaw" (15 : Nat) "java/util/NoSuchElementException") ∈ lw_all := lw_g (lw_at lw_m1 88 rfl) rfl
theorem q124 : (Jvm.Cond.classLink "SyncHallLaw" (17 : Nat) "java/lang/IllegalStateException") ∈ lw_all := lw_g (lw_at lw_m1 89 rfl) rfl
theorem q125 : (Jvm.Cond.methodLink "SyncHallLaw" (7 : Nat) ({ cls := "SyncHall", name := "make", desc := "(III)I" } : Jvm.MethodName)) ∈ lw_all := lw_g (lw_at lw_m1 90 rfl) rfl
theorem q340 : (Jvm.Cond.methodLink "SyncHallLaw" (80 : Nat) ({ cls := "SyncHallLaw", name := "rank", desc := "(LSyncHall;ID)I" } : Jvm.MethodName)) ∈ lw_all := lw_g (lw_at lw_m2 65 rfl) rfl
theorem q341 : (Jvm.Cond.static ({ cls := "SyncHallLaw", name := "rank", desc := "(LSyncHall;ID)I" } : Jvm.MethodName)) ∈ lw_all := lw_g (lw_at lw_m2 66 rfl) rfl
theorem q342 : (Jvm.Cond.codeWith ({ cls := "SyncHallLaw", name := "rank", desc := "(LSyncHall;ID)I" } : Jvm.MethodName) method_4_code (5 : Nat) (Option.some Jvm.ClassFile.FieldType.int) [((0 : Nat), (6 : Nat), (9 : Nat), (13 : Nat))]) ∈ lw_all := lw_g (lw_at lw_m2 67 rfl) rfl
theorem q343 : (Jvm.Cond.methodLink "SyncHallLaw" (19 : Nat) ({ cls := "SyncHall", name := "rank", desc := "(ID)V" } : Jvm.MethodName)) ∈ lw_all := lw_g (lw_at lw_m2 68 rfl) rfl
theorem q353 : (Jvm.Cond.methodLink "SyncHallLaw" (84 : Nat) ({ cls := "SyncHallLaw", name := "acquire", desc := "(LSyncHall;IIID[J)I" } : Jvm.MethodName)) ∈ lw_all := lw_g (lw_at lw_m2 78 rfl) rfl
theorem q354 : (Jvm.Cond.static ({ cls := "SyncHallLaw", name := "acquire", desc := "(LSyncHall;IIID[J)I" } : Jvm.MethodName)) ∈ lw_all := lw_g (lw_at lw_m2 79 rfl) rfl
theorem q355 : (Jvm.Cond.codeWith ({ cls := "SyncHallLaw", name := "acquire", desc := "(LSyncHall;IIID[J)I" } : Jvm.MethodName) method_5_code (8 : Nat) (Option.some Jvm.ClassFile.FieldType.int) [((0 : Nat), (14 : Nat), (17 : Nat), (13 : Nat)), ((0 : Nat), (14 : Nat), (21 : Nat), (15 : Nat)), ((0 : Nat), (14 : Nat), (25 : Nat), (17 : Nat)), ((0 : Nat), (14 : Nat), (29 : Nat), (27 : Nat))]) ∈ lw_all := lw_g (lw_at lw_m2 80 rfl) rfl
theorem q356 : (Jvm.Cond.classLink "SyncHallLaw" (27 : Nat) "java/lang/UnsupportedOperationException") ∈ lw_all := lw_g (lw_at lw_m2 81 rfl) rfl
theorem q357 : (Jvm.Cond.methodLink "SyncHallLaw" (23 : Nat) ({ cls := "SyncHall", name := "acquire", desc := "(IIID)I" } : Jvm.MethodName)) ∈ lw_all := lw_g (lw_at lw_m2 82 rfl) rfl
theorem q551 : (Jvm.Cond.methodLink "SyncHallLaw" (88 : Nat) ({ cls := "SyncHallLaw", name := "release", desc := "(LSyncHall;III[J)I" } : Jvm.MethodName)) ∈ lw_all := lw_g (lw_at lw_m3 36 rfl) rfl
theorem q552 : (Jvm.Cond.static ({ cls := "SyncHallLaw", name := "release", desc := "(LSyncHall;III[J)I" } : Jvm.MethodName)) ∈ lw_all := lw_g (lw_at lw_m3 37 rfl) rfl
theorem q553 : (Jvm.Cond.codeWith ({ cls := "SyncHallLaw", name := "release", desc := "(LSyncHall;III[J)I" } : Jvm.MethodName) method_6_code (6 : Nat) (Option.some Jvm.ClassFile.FieldType.int) [((0 : Nat), (12 : Nat), (15 : Nat), (13 : Nat)), ((0 : Nat), (12 : Nat), (19 : Nat), (15 : Nat)), ((0 : Nat), (12 : Nat), (23 : Nat), (17 : Nat)), ((0 : Nat), (12 : Nat), (27 : Nat), (27 : Nat))]) ∈ lw_all := lw_g (lw_at lw_m3 38 rfl) rfl
theorem q554 : (Jvm.Cond.methodLink "SyncHallLaw" (29 : Nat) ({ cls := "SyncHall", name := "release", desc := "(III)I" } : Jvm.MethodName)) ∈ lw_all := lw_g (lw_at lw_m3 39 rfl) rfl
theorem q661 : (Jvm.Cond.methodLink "SyncHallLaw" (91 : Nat) ({ cls := "SyncHallLaw", name := "await", desc := "(LSyncHall;IID[J)I" } : Jvm.MethodName)) ∈ lw_all := lw_g (lw_at lw_m3 146 rfl) rfl
theorem q662 : (Jvm.Cond.static ({ cls := "SyncHallLaw", name := "await", desc := "(LSyncHall;IID[J)I" } : Jvm.MethodName)) ∈ lw_all := lw_g (lw_at lw_m3 147 rfl) rfl
theorem q663 : (Jvm.Cond.codeWith ({ cls := "SyncHallLaw", name := "await", desc := "(LSyncHall;IID[J)I" } : Jvm.MethodName) method_7_code (7 : Nat) (Option.some Jvm.ClassFile.FieldType.int) [((0 : Nat), (12 : Nat), (15 : Nat), (13 : Nat)), ((0 : Nat), (12 : Nat), (19 : Nat), (15 : Nat)), ((0 : Nat), (12 : Nat), (23 : Nat), (17 : Nat)), ((0 : Nat), (12 : Nat), (27 : Nat), (27 : Nat))]) ∈ lw_all := lw_g (lw_at lw_m3 148 rfl) rfl
theorem q664 : (Jvm.Cond.methodLink "SyncHallLaw" (32 : Nat) ({ cls := "SyncHall", name := "await", desc := "(IID)I" } : Jvm.MethodName)) ∈ lw_all := lw_g (lw_at lw_m3 149 rfl) rfl
theorem q710 : (Jvm.Cond.methodLink "SyncHallLaw" (95 : Nat) ({ cls := "SyncHallLaw", name := "signal", desc := "(LSyncHall;IIZ[J)I" } : Jvm.MethodName)) ∈ lw_all := lw_g (lw_at lw_m3 195 rfl) rfl
theorem q711 : (Jvm.Cond.static ({ cls := "SyncHallLaw", name := "signal", desc := "(LSyncHall;IIZ[J)I" } : Jvm.MethodName)) ∈ lw_all := lw_g (lw_at lw_m3 196 rfl) rfl
theorem q712 : (Jvm.Cond.codeWith ({ cls := "SyncHallLaw", name := "signal", desc := "(LSyncHall;IIZ[J)I" } : Jvm.MethodName) method_8_code (6 : Nat) (Option.some Jvm.ClassFile.FieldType.int) [((0 : Nat), (12 : Nat), (15 : Nat), (13 : Nat)), ((0 : Nat), (12 : Nat), (19 : Nat), (15 : Nat)), ((0 : Nat), (12 : Nat), (23 : Nat), (17 : Nat)), ((0 : Nat), (12 : Nat), (27 : Nat), (27 : Nat))]) ∈ lw_all := lw_g (lw_at lw_m3 197 rfl) rfl
theorem q713 : (Jvm.Cond.methodLink "SyncHallLaw" (36 : Nat) ({ cls := "SyncHall", name := "signal", desc := "(IIZ)I" } : Jvm.MethodName)) ∈ lw_all := lw_g (lw_at lw_m3 198 rfl) rfl
theorem q717 : (Jvm.Cond.methodLink "SyncHallLaw" (99 : Nat) ({ cls := "SyncHallLaw", name := "interrupt", desc := "(LSyncHall;I[J)I" } : Jvm.MethodName)) ∈ lw_all := lw_g (lw_at lw_m3 202 rfl) rfl
theorem q718 : (Jvm.Cond.static ({ cls := "SyncHallLaw", name := "interrupt", desc := "(LSyncHall;I[J)I" } : Jvm.MethodName)) ∈ lw_all := lw_g (lw_at lw_m3 203 rfl) rfl
theorem q719 : (Jvm.Cond.codeWith ({ cls := "SyncHallLaw", name := "interrupt", desc := "(LSyncHall;I[J)I" } : Jvm.MethodName) method_9_code (4 : Nat) (Option.some Jvm.ClassFile.FieldType.int) [((0 : Nat), (9 : Nat), (12 : Nat), (13 : Nat))]) ∈ lw_all := lw_g (lw_at lw_m3 204 rfl) rfl
theorem q720 : (Jvm.Cond.methodLink "SyncHallLaw" (40 : Nat) ({ cls := "SyncHall", name := "interrupt", desc := "(I)I" } : Jvm.MethodName)) ∈ lw_all := lw_g (lw_at lw_m3 205 rfl) rfl
theorem q735 : (Jvm.Cond.methodLink "SyncHallLaw" (103 : Nat) ({ cls := "SyncHallLaw", name := "tick", desc := "(LSyncHall;D[J)I" } : Jvm.MethodName)) ∈ lw_all := lw_g (lw_at lw_m3 220 rfl) rfl
theorem q736 : (Jvm.Cond.static ({ cls := "SyncHallLaw", name := "tick", desc := "(LSyncHall;D[J)I" } : Jvm.MethodName)) ∈ lw_all := lw_g (lw_at lw_m3 221 rfl) rfl
theorem q737 : (Jvm.Cond.codeWith ({ cls := "SyncHallLaw", name := "tick", desc := "(LSyncHall;D[J)I" } : Jvm.MethodName) method_10_code (5 : Nat) (Option.some Jvm.ClassFile.FieldType.int) [((0 : Nat), (9 : Nat), (12 : Nat), (13 : Nat))]) ∈ lw_all := lw_g (lw_at lw_m3 222 rfl) rfl
theorem q738 : (Jvm.Cond.methodLink "SyncHallLaw" (44 : Nat) ({ cls := "SyncHall", name := "tick", desc := "(D)I" } : Jvm.MethodName)) ∈ lw_all := lw_g (lw_at lw_m3 223 rfl) rfl
theorem q755 : (Jvm.Cond.methodLink "SyncHallLaw" (107 : Nat) ({ cls := "SyncHallLaw", name := "policy", desc := "(LSyncHall;I[J)I" } : Jvm.MethodName)) ∈ lw_all := lw_g (lw_at lw_m4 0 rfl) rfl
theorem q756 : (Jvm.Cond.static ({ cls := "SyncHallLaw", name := "policy", desc := "(LSyncHall;I[J)I" } : Jvm.MethodName)) ∈ lw_all := lw_g (lw_at lw_m4 1 rfl) rfl
theorem q757 : (Jvm.Cond.codeWith ({ cls := "SyncHallLaw", name := "policy", desc := "(LSyncHall;I[J)I" } : Jvm.MethodName) method_11_code (4 : Nat) (Option.some Jvm.ClassFile.FieldType.int) [((0 : Nat), (9 : Nat), (12 : Nat), (13 : Nat))]) ∈ lw_all := lw_g (lw_at lw_m4 2 rfl) rfl
theorem q758 : (Jvm.Cond.methodLink "SyncHallLaw" (48 : Nat) ({ cls := "SyncHall", name := "policy", desc := "(I)I" } : Jvm.MethodName)) ∈ lw_all := lw_g (lw_at lw_m4 3 rfl) rfl
theorem q762 : (Jvm.Cond.methodLink "SyncHallLaw" (110 : Nat) ({ cls := "SyncHallLaw", name := "thread", desc := "(LSyncHall;II[J)I" } : Jvm.MethodName)) ∈ lw_all := lw_g (lw_at lw_m4 7 rfl) rfl
theorem q763 : (Jvm.Cond.static ({ cls := "SyncHallLaw", name := "thread", desc := "(LSyncHall;II[J)I" } : Jvm.MethodName)) ∈ lw_all := lw_g (lw_at lw_m4 8 rfl) rfl
theorem q764 : (Jvm.Cond.codeWith ({ cls := "SyncHallLaw", name := "thread", desc := "(LSyncHall;II[J)I" } : Jvm.MethodName) method_12_code (5 : Nat) (Option.some Jvm.ClassFile.FieldType.int) [((0 : Nat), (10 : Nat), (13 : Nat), (13 : Nat))]) ∈ lw_all := lw_g (lw_at lw_m4 9 rfl) rfl
theorem q765 : (Jvm.Cond.methodLink "SyncHallLaw" (51 : Nat) ({ cls := "SyncHall", name := "thread", desc := "(II)I" } : Jvm.MethodName)) ∈ lw_all := lw_g (lw_at lw_m4 10 rfl) rfl
theorem q782 : (Jvm.Cond.methodLink "SyncHallLaw" (114 : Nat) ({ cls := "SyncHallLaw", name := "sync", desc := "(LSyncHall;II[J)I" } : Jvm.MethodName)) ∈ lw_all := lw_g (lw_at lw_m4 27 rfl) rfl
theorem q783 : (Jvm.Cond.static ({ cls := "SyncHallLaw", name := "sync", desc := "(LSyncHall;II[J)I" } : Jvm.MethodName)) ∈ lw_all := lw_g (lw_at lw_m4 28 rfl) rfl
theorem q784 : (Jvm.Cond.codeWith ({ cls := "SyncHallLaw", name := "sync", desc := "(LSyncHall;II[J)I" } : Jvm.MethodName) method_13_code (5 : Nat) (Option.some Jvm.ClassFile.FieldType.int) [((0 : Nat), (10 : Nat), (13 : Nat), (13 : Nat)), ((0 : Nat), (10 : Nat), (17 : Nat), (15 : Nat))]) ∈ lw_all := lw_g (lw_at lw_m4 29 rfl) rfl
theorem q785 : (Jvm.Cond.methodLink "SyncHallLaw" (55 : Nat) ({ cls := "SyncHall", name := "sync", desc := "(II)I" } : Jvm.MethodName)) ∈ lw_all := lw_g (lw_at lw_m4 30 rfl) rfl
theorem q821 : (Jvm.Cond.methodLink "SyncHallLaw" (117 : Nat) ({ cls := "SyncHallLaw", name := "waited", desc := "(LSyncHall;I[D)I" } : Jvm.MethodName)) ∈ lw_all := lw_g (lw_at lw_m4 66 rfl) rfl
theorem q822 : (Jvm.Cond.static ({ cls := "SyncHallLaw", name := "waited", desc := "(LSyncHall;I[D)I" } : Jvm.MethodName)) ∈ lw_all := lw_g (lw_at lw_m4 67 rfl) rfl
theorem q823 : (Jvm.Cond.codeWith ({ cls := "SyncHallLaw", name := "waited", desc := "(LSyncHall;I[D)I" } : Jvm.MethodName) method_14_code (4 : Nat) (Option.some Jvm.ClassFile.FieldType.int) [((0 : Nat), (8 : Nat), (11 : Nat), (13 : Nat)), ((0 : Nat), (8 : Nat), (14 : Nat), (15 : Nat)), ((0 : Nat), (8 : Nat), (17 : Nat), (62 : Nat))]) ∈ lw_all := lw_g (lw_at lw_m4 68 rfl) rfl
theorem q824 : (Jvm.Cond.classLink "SyncHallLaw" (62 : Nat) "java/lang/ArithmeticException") ∈ lw_all := lw_g (lw_at lw_m4 69 rfl) rfl
theorem q852 : (Jvm.Cond.methodLink "SyncHallLaw" (58 : Nat) ({ cls := "SyncHall", name := "waited", desc := "(I)D" } : Jvm.MethodName)) ∈ lw_all := lw_g (lw_at lw_m4 97 rfl) rfl
theorem q879 : (Jvm.Cond.classLink "SyncHallLaw" (65 : Nat) "SyncHallModel") ∈ lw_all := lw_g (lw_at lw_m4 124 rfl) rfl
theorem q881 : (Jvm.Cond.methodLink "SyncHallLaw" (67 : Nat) ({ cls := "SyncHallModel", name := "<init>", desc := "()V" } : Jvm.MethodName)) ∈ lw_all := lw_g (lw_at lw_m4 126 rfl) rfl
theorem q965 : (Jvm.Cond.methodLink "SyncHallLaw" (74 : Nat) ({ cls := "SyncHallModel", name := "thrown", desc := "()I" } : Jvm.MethodName)) ∈ lw_all := lw_g (lw_at lw_m4 210 rfl) rfl
theorem q969 : (Jvm.Cond.methodLink "SyncHallLaw" (73 : Nat) ({ cls := "SyncHallModel", name := "make", desc := "(III)I" } : Jvm.MethodName)) ∈ lw_all := lw_g (lw_at lw_m4 214 rfl) rfl
theorem q981 : (Jvm.Cond.methodLink "SyncHallLaw" (83 : Nat) ({ cls := "SyncHallModel", name := "rank", desc := "(ID)V" } : Jvm.MethodName)) ∈ lw_all := lw_g (lw_at lw_m4 226 rfl) rfl
theorem q987 : (Jvm.Cond.methodLink "SyncHallLaw" (87 : Nat) ({ cls := "SyncHallModel", name := "acquire", desc := "(IIID)I" } : Jvm.MethodName)) ∈ lw_all := lw_g (lw_at lw_m4 232 rfl) rfl
theorem q1032 : (Jvm.Cond.methodLink "SyncHallLaw" (90 : Nat) ({ cls := "SyncHallModel", name := "release", desc := "(III)I" } : Jvm.MethodName)) ∈ lw_all := lw_g (lw_at lw_m5 37 rfl) rfl
theorem q1052 : (Jvm.Cond.methodLink "SyncHallLaw" (94 : Nat) ({ cls := "SyncHallModel", name := "await", desc := "(IID)I" } : Jvm.MethodName)) ∈ lw_all := lw_g (lw_at lw_m5 57 rfl) rfl
theorem q1064 : (Jvm.Cond.methodLink "SyncHallLaw" (98 : Nat) ({ cls := "SyncHallModel", name := "signal", desc := "(IIZ)I" } : Jvm.MethodName)) ∈ lw_all := lw_g (lw_at lw_m5 69 rfl) rfl
theorem q1068 : (Jvm.Cond.methodLink "SyncHallLaw" (102 : Nat) ({ cls := "SyncHallModel", name := "interrupt", desc := "(I)I" } : Jvm.MethodName)) ∈ lw_all := lw_g (lw_at lw_m5 73 rfl) rfl
theorem q1072 : (Jvm.Cond.methodLink "SyncHallLaw" (106 : Nat) ({ cls := "SyncHallModel", name := "tick", desc := "(D)I" } : Jvm.MethodName)) ∈ lw_all := lw_g (lw_at lw_m5 77 rfl) rfl
theorem q1080 : (Jvm.Cond.methodLink "SyncHallLaw" (109 : Nat) ({ cls := "SyncHallModel", name := "policy", desc := "(I)I" } : Jvm.MethodName)) ∈ lw_all := lw_g (lw_at lw_m5 85 rfl) rfl
theorem q1084 : (Jvm.Cond.methodLink "SyncHallLaw" (113 : Nat) ({ cls := "SyncHallModel", name := "thread", desc := "(II)I" } : Jvm.MethodName)) ∈ lw_all := lw_g (lw_at lw_m5 89 rfl) rfl
theorem q1088 : (Jvm.Cond.methodLink "SyncHallLaw" (116 : Nat) ({ cls := "SyncHallModel", name := "sync", desc := "(II)I" } : Jvm.MethodName)) ∈ lw_all := lw_g (lw_at lw_m5 93 rfl) rfl
theorem q1092 : (Jvm.Cond.methodLink "SyncHallLaw" (120 : Nat) ({ cls := "SyncHallModel", name := "waited", desc := "(I)D" } : Jvm.MethodName)) ∈ lw_all := lw_g (lw_at lw_m5 97 rfl) rfl
theorem q1096 : (Jvm.Cond.methodLink "SyncHallLaw" (125 : Nat) ({ cls := "SyncHallModel", name := "time", desc := "()D" } : Jvm.MethodName)) ∈ lw_all := lw_g (lw_at lw_m5 101 rfl) rfl
theorem q1100 : (Jvm.Cond.constantDouble "SyncHallLaw" (78 : Nat) (4593671619917905920 : UInt64)) ∈ lw_all := lw_g (lw_at lw_m5 105 rfl) rfl

/-! java/lang/Throwable -/
set_option maxRecDepth 100000
def RJ0 : String := "java/lang/Throwable"
def TJ0 : u_T := fun k => match k with
  | 0 => ("java/lang/Throwable", "cause", "Ljava/lang/Throwable;", false)
  | 1 => ("java/lang/Throwable", "stackTrace", "[Ljava/lang/StackTraceElement;", false)
  | 2 => ("java/lang/Throwable", "suppressedExceptions", "Ljava/util/List;", false)
  | 3 => ("java/lang/Throwable", "detailMessage", "Ljava/lang/String;", false)
  | _ => ("java/lang/Throwable", "backtrace", "Ljava/lang/Object;", false)
def tyJ0 : Nat → FieldType := fun k => match k with
  | 0 => .object "java/lang/Throwable"
  | 1 => .array (.object "java/lang/StackTraceElement")
  | 2 => .object "java/util/List"
  | 3 => .object "java/lang/String"
  | _ => .object "java/lang/Object"
abbrev wsJ00 : List Cond := u_ws RJ0 TJ0 5
theorem nmJ0 : ∀ a, a < 5 → ∀ b, b < 5 → a ≠ b → (TJ0 a).2.1 ≠ (TJ0 b).2.1 := by decide +kernel
theorem tyJ0_ok : ∀ k, k < 5 → parseFieldDescriptor (TJ0 k).2.2.1 = some (tyJ0 k) := by decide +kernel
abbrev cJ0_init : ByteArray := prog_18_method_1_code
def yJ0_init : MethodName := ⟨RJ0, "<init>", "()V"⟩
theorem dJ0_init_0 : decode cJ0_init 0 = .ok (.aload_n 0, 1) := by decide +kernel
theorem dJ0_init_1 : decode cJ0_init 1 = .ok (.invokespecial 1, 3) := by decide +kernel
theorem dJ0_init_4 : decode cJ0_init 4 = .ok (.aload_n 0, 1) := by decide +kernel
theorem dJ0_init_5 : decode cJ0_init 5 = .ok (.aload_n 0, 1) := by decide +kernel
theorem dJ0_init_6 : decode cJ0_init 6 = .ok (.putfield 7, 3) := by decide +kernel
theorem dJ0_init_9 : decode cJ0_init 9 = .ok (.aload_n 0, 1) := by decide +kernel
theorem dJ0_init_10 : decode cJ0_init 10 = .ok (.getstatic 13, 3) := by decide +kernel
theorem dJ0_init_13 : decode cJ0_init 13 = .ok (.putfield 17, 3) := by decide +kernel
theorem dJ0_init_16 : decode cJ0_init 16 = .ok (.aload_n 0, 1) := by decide +kernel
theorem dJ0_init_17 : decode cJ0_init 17 = .ok (.getstatic 20, 3) := by decide +kernel
theorem dJ0_init_20 : decode cJ0_init 20 = .ok (.putfield 24, 3) := by decide +kernel
theorem dJ0_init_23 : decode cJ0_init 23 = .ok (.aload_n 0, 1) := by decide +kernel
theorem dJ0_init_24 : decode cJ0_init 24 = .ok (.invokevirtual 27, 3) := by decide +kernel
theorem dJ0_init_27 : decode cJ0_init 27 = .ok (.pop, 1) := by decide +kernel
theorem dJ0_init_28 : decode cJ0_init 28 = .ok (.return_, 1) := by decide +kernel
abbrev cJ0_init_2 : ByteArray := prog_18_method_2_code
def yJ0_init_2 : MethodName := ⟨RJ0, "<init>", "(Ljava/lang/String;)V"⟩
theorem dJ0_init_2_0 : decode cJ0_init_2 0 = .ok (.aload_n 0, 1) := by decide +kernel
theorem dJ0_init_2_1 : decode cJ0_init_2 1 = .ok (.invokespecial 1, 3) := by decide +kernel
theorem dJ0_init_2_4 : decode cJ0_init_2 4 = .ok (.aload_n 0, 1) := by decide +kernel
theorem dJ0_init_2_5 : decode cJ0_init_2 5 = .ok (.aload_n 0, 1) := by decide +kernel
theorem dJ0_init_2_6 : decode cJ0_init_2 6 = .ok (.putfield 7, 3) := by decide +kernel
theorem dJ0_init_2_9 : decode cJ0_init_2 9 = .ok (.aload_n 0, 1) := by decide +kernel
theorem dJ0_init_2_10 : decode cJ0_init_2 10 = .ok (.getstatic 13, 3) := by decide +kernel
theorem dJ0_init_2_13 : decode cJ0_init_2 13 = .ok (.putfield 17, 3) := by decide +kernel
theorem dJ0_init_2_16 : decode cJ0_init_2 16 = .ok (.aload_n 0, 1) := by decide +kernel
theorem dJ0_init_2_17 : decode cJ0_init_2 17 = .ok (.getstatic 20, 3) := by decide +kernel
theorem dJ0_init_2_20 : decode cJ0_init_2 20 = .ok (.putfield 24, 3) := by decide +kernel
theorem dJ0_init_2_23 : decode cJ0_init_2 23 = .ok (.aload_n 0, 1) := by decide +kernel
theorem dJ0_init_2_24 : decode cJ0_init_2 24 = .ok (.invokevirtual 27, 3) := by decide +kernel
theorem dJ0_init_2_27 : decode cJ0_init_2 27 = .ok (.pop, 1) := by decide +kernel
theorem dJ0_init_2_28 : decode cJ0_init_2 28 = .ok (.aload_n 0, 1) := by decide +kernel
theorem dJ0_init_2_29 : decode cJ0_init_2 29 = .ok (.aload_n 1, 1) := by decide +kernel
theorem dJ0_init_2_30 : decode cJ0_init_2 30 = .ok (.putfield 31, 3) := by decide +kernel
theorem dJ0_init_2_33 : decode cJ0_init_2 33 = .ok (.return_, 1) := by decide +kernel
theorem q39 : (Jvm.Cond.initialized "java/lang/Throwable") ∈ lw_all := lw_g (lw_at lw_m1 4 rfl) rfl
theorem q142 : (Jvm.Cond.declares ({ cls := "java/lang/Throwable", name := "<init>", desc := "()V" } : Jvm.MethodName)) ∈ lw_tbl := lw_at lw_m1 107 rfl
theorem q143 : (Jvm.Cond.declares ({ cls := "java/lang/Throwable", name := "<init>", desc := "(Ljava/lang/String;)V" } : Jvm.MethodName)) ∈ lw_tbl := lw_at lw_m1 108 rfl
theorem q147 : (Jvm.Cond.lays "java/lang/Throwable" "java/lang/Throwable" "cause" "Ljava/lang/Throwable;") ∈ lw_all := lw_g (lw_at lw_m1 112 rfl) rfl
theorem q149 : (Jvm.Cond.lays "java/lang/Throwable" "java/lang/Throwable" "stackTrace" "[Ljava/lang/StackTraceElement;") ∈ lw_all := lw_g (lw_at lw_m1 114 rfl) rfl
theorem q151 : (Jvm.Cond.lays "java/lang/Throwable" "java/lang/Throwable" "suppressedExceptions" "Ljava/util/List;") ∈ lw_all := lw_g (lw_at lw_m1 116 rfl) rfl
theorem q153 : (Jvm.Cond.lays "java/lang/Throwable" "java/lang/Throwable" "detailMessage" "Ljava/lang/String;") ∈ lw_all := lw_g (lw_at lw_m1 118 rfl) rfl
theorem q155 : (Jvm.Cond.lays "java/lang/Throwable" "java/lang/Throwable" "backtrace" "Ljava/lang/Object;") ∈ lw_all := lw_g (lw_at lw_m1 120 rfl) rfl
theorem q156 : (Jvm.Cond.fieldLink "java/lang/Throwable" (198 : Nat) "java/lang/Throwable" "backtrace" "Ljava/lang/Object;") ∈ lw_all := lw_g (lw_at lw_m1 121 rfl) rfl
theorem q157 : (Jvm.Cond.superclass "java/lang/Throwable" "java/lang/Object") ∈ lw_all := lw_g (lw_at lw_m1 122 rfl) rfl
theorem q158 : (Jvm.Cond.instanceMethod ({ cls := "java/lang/Throwable", name := "<init>", desc := "()V" } : Jvm.MethodName)) ∈ lw_all := lw_g (lw_at lw_m1 123 rfl) rfl
theorem q159 : (Jvm.Cond.code ({ cls := "java/lang/Throwable", name := "<init>", desc := "()V" } : Jvm.MethodName) prog_18_method_1_code (1 : Nat) (Option.none : Option Jvm.ClassFile.FieldType)) ∈ lw_all := lw_g (lw_at lw_m1 124 rfl) rfl
theorem q160 : (Jvm.Cond.methodLink "java/lang/Throwable" (1 : Nat) ({ cls := "java/lang/Object", name := "<init>", desc := "()V" } : Jvm.MethodName)) ∈ lw_all := lw_g (lw_at lw_m1 125 rfl) rfl
theorem q161 : (Jvm.Cond.fieldLink "java/lang/Throwable" (13 : Nat) "java/lang/Throwable" "UNASSIGNED_STACK" "[Ljava/lang/StackTraceElement;") ∈ lw_all := lw_g (lw_at lw_m1 126 rfl) rfl
theorem q162 : (Jvm.Cond.laysStatic "java/lang/Throwable" "UNASSIGNED_STACK" "[Ljava/lang/StackTraceElement;") ∈ lw_tbl := lw_at lw_m1 127 rfl
theorem q163 : (Jvm.Cond.fieldLink "java/lang/Throwable" (20 : Nat) "java/lang/Throwable" "SUPPRESSED_SENTINEL" "Ljava/util/List;") ∈ lw_all := lw_g (lw_at lw_m1 128 rfl) rfl
theorem q164 : (Jvm.Cond.laysStatic "java/lang/Throwable" "SUPPRESSED_SENTINEL" "Ljava/util/List;") ∈ lw_tbl := lw_at lw_m1 129 rfl
theorem q165 : (Jvm.Cond.methodLink "java/lang/Throwable" (27 : Nat) ({ cls := "java/lang/Throwable", name := "fillInStackTrace", desc := "()Ljava/lang/Throwable;" } : Jvm.MethodName)) ∈ lw_all := lw_g (lw_at lw_m1 130 rfl) rfl
theorem q166 : (Jvm.Cond.instanceMethod ({ cls := "java/lang/Throwable", name := "fillInStackTrace", desc := "()Ljava/lang/Throwable;" } : Jvm.MethodName)) ∈ lw_all := lw_g (lw_at lw_m1 131 rfl) rfl
theorem q167 : (Jvm.Cond.sameMethod "java/lang/Throwable" "java/lang/Throwable" "fillInStackTrace" "()Ljava/lang/Throwable;") ∈ lw_all := lw_g (lw_at lw_m1 132 rfl) rfl
theorem q172 : (Jvm.Cond.codeSync ({ cls := "java/lang/Throwable", name := "fillInStackTrace", desc := "()Ljava/lang/Throwable;" } : Jvm.MethodName) prog_18_method_18_code (1 : Nat) (Option.some (Jvm.ClassFile.FieldType.object "java/lang/Throwable"))) ∈ lw_all := lw_g (lw_at lw_m1 137 rfl) rfl
theorem q173 : (Jvm.Cond.methodLink "java/lang/Throwable" (202 : Nat) ({ cls := "java/lang/Throwable", name := "fillInStackTrace", desc := "(I)Ljava/lang/Throwable;" } : Jvm.MethodName)) ∈ lw_all := lw_g (lw_at lw_m1 138 rfl) rfl
theorem q174 : (Jvm.Cond.privateMethod ({ cls := "java/lang/Throwable", name := "fillInStackTrace", desc := "(I)Ljava/lang/Throwable;" } : Jvm.MethodName)) ∈ lw_tbl := lw_at lw_m1 139 rfl
theorem q175 : (Jvm.Cond.instanceMethod ({ cls := "java/lang/Throwable", name := "fillInStackTrace", desc := "(I)Ljava/lang/Throwable;" } : Jvm.MethodName)) ∈ lw_all := lw_g (lw_at lw_m1 140 rfl) rfl
theorem q176 : (Jvm.Cond.instantiable "java/lang/Throwable" (6 : Nat)) ∈ lw_all := lw_g (lw_at lw_m1 141 rfl) rfl
theorem q177 : (Jvm.Cond.native ({ cls := "java/lang/Throwable", name := "fillInStackTrace", desc := "(I)Ljava/lang/Throwable;" } : Jvm.MethodName)) ∈ lw_all := lw_g (lw_at lw_m1 142 rfl) rfl
theorem q188 : (Jvm.Cond.fieldLink "java/lang/Throwable" (198 : Nat) "java/lang/Throwable" "backtrace" "Ljava/lang/Object;") ∈ lw_all := lw_g (lw_at lw_m1 153 rfl) rfl
theorem q189 : (Jvm.Cond.fieldLink "java/lang/Throwable" (31 : Nat) "java/lang/Throwable" "detailMessage" "Ljava/lang/String;") ∈ lw_all := lw_g (lw_at lw_m1 154 rfl) rfl
theorem q190 : (Jvm.Cond.fieldLink "java/lang/Throwable" (7 : Nat) "java/lang/Throwable" "cause" "Ljava/lang/Throwable;") ∈ lw_all := lw_g (lw_at lw_m1 155 rfl) rfl
theorem q191 : (Jvm.Cond.fieldLink "java/lang/Throwable" (17 : Nat) "java/lang/Throwable" "stackTrace" "[Ljava/lang/StackTraceElement;") ∈ lw_all := lw_g (lw_at lw_m1 156 rfl) rfl
theorem q192 : (Jvm.Cond.fieldLink "java/lang/Throwable" (24 : Nat) "java/lang/Throwable" "suppressedExceptions" "Ljava/util/List;") ∈ lw_all := lw_g (lw_at lw_m1 157 rfl) rfl
theorem q193 : (Jvm.Cond.soleField "java/lang/Throwable" "backtrace") ∈ lw_all := lw_g (lw_at lw_m1 158 rfl) rfl
theorem q194 : (Jvm.Cond.soleField "java/lang/Throwable" "detailMessage") ∈ lw_all := lw_g (lw_at lw_m1 159 rfl) rfl
theorem q195 : (Jvm.Cond.soleField "java/lang/Throwable" "cause") ∈ lw_all := lw_g (lw_at lw_m1 160 rfl) rfl
theorem q196 : (Jvm.Cond.soleField "java/lang/Throwable" "stackTrace") ∈ lw_all := lw_g (lw_at lw_m1 161 rfl) rfl
theorem q198 : (Jvm.Cond.soleField "java/lang/Throwable" "depth") ∈ lw_all := lw_g (lw_at lw_m1 163 rfl) rfl
theorem q199 : (Jvm.Cond.soleField "java/lang/Throwable" "suppressedExceptions") ∈ lw_all := lw_g (lw_at lw_m1 164 rfl) rfl
theorem q835 : (Jvm.Cond.instanceMethod ({ cls := "java/lang/Throwable", name := "<init>", desc := "(Ljava/lang/String;)V" } : Jvm.MethodName)) ∈ lw_all := lw_g (lw_at lw_m4 80 rfl) rfl
theorem q836 : (Jvm.Cond.code ({ cls := "java/lang/Throwable", name := "<init>", desc := "(Ljava/lang/String;)V" } : Jvm.MethodName) prog_18_method_2_code (2 : Nat) (Option.none : Option Jvm.ClassFile.FieldType)) ∈ lw_all := lw_g (lw_at lw_m4 81 rfl) rfl
theorem q1102 : (Jvm.Cond.sameMethod "java/lang/Throwable" "java/lang/Throwable" "fillInStackTrace" "(I)Ljava/lang/Throwable;") ∈ lw_all := lw_g (lw_at lw_m5 107 rfl) rfl
theorem in_J0 : ∀ w ∈ wsJ00, w ∈ lw_all := lw_in wsJ00 [147, 149, 151, 153, 155] (by decide +kernel) (by decide +kernel)

/-! java/lang/Exception -/
set_option maxRecDepth 100000
def RJ1 : String := "java/lang/Exception"
abbrev cJ1_init : ByteArray := prog_13_method_1_code
def yJ1_init : MethodName := ⟨RJ1, "<init>", "()V"⟩
theorem dJ1_init_0 : decode cJ1_init 0 = .ok (.aload_n 0, 1) := by decide +kernel
theorem dJ1_init_1 : decode cJ1_init 1 = .ok (.invokespecial 1, 3) := by decide +kernel
theorem dJ1_init_4 : decode cJ1_init 4 = .ok (.return_, 1) := by decide +kernel
abbrev cJ1_init_2 : ByteArray := prog_13_method_2_code
def yJ1_init_2 : MethodName := ⟨RJ1, "<init>", "(Ljava/lang/String;)V"⟩
theorem dJ1_init_2_0 : decode cJ1_init_2 0 = .ok (.aload_n 0, 1) := by decide +kernel
theorem dJ1_init_2_1 : decode cJ1_init_2 1 = .ok (.aload_n 1, 1) := by decide +kernel
theorem dJ1_init_2_2 : decode cJ1_init_2 2 = .ok (.invokespecial 7, 3) := by decide +kernel
theorem dJ1_init_2_5 : decode cJ1_init_2 5 = .ok (.return_, 1) := by decide +kernel
theorem q40 : (Jvm.Cond.initialized "java/lang/Exception") ∈ lw_all := lw_g (lw_at lw_m1 5 rfl) rfl
theorem q140 : (Jvm.Cond.declares ({ cls := "java/lang/Exception", name := "<init>", desc := "()V" } : Jvm.MethodName)) ∈ lw_tbl := lw_at lw_m1 105 rfl
theorem q141 : (Jvm.Cond.declares ({ cls := "java/lang/Exception", name := "<init>", desc := "(Ljava/lang/String;)V" } : Jvm.MethodName)) ∈ lw_tbl := lw_at lw_m1 106 rfl
theorem q185 : (Jvm.Cond.instanceMethod ({ cls := "java/lang/Exception", name := "<init>", desc := "()V" } : Jvm.MethodName)) ∈ lw_all := lw_g (lw_at lw_m1 150 rfl) rfl
theorem q186 : (Jvm.Cond.code ({ cls := "java/lang/Exception", name := "<init>", desc := "()V" } : Jvm.MethodName) prog_13_method_1_code (1 : Nat) (Option.none : Option Jvm.ClassFile.FieldType)) ∈ lw_all := lw_g (lw_at lw_m1 151 rfl) rfl
theorem q187 : (Jvm.Cond.methodLink "java/lang/Exception" (1 : Nat) ({ cls := "java/lang/Throwable", name := "<init>", desc := "()V" } : Jvm.MethodName)) ∈ lw_all := lw_g (lw_at lw_m1 152 rfl) rfl
theorem q832 : (Jvm.Cond.instanceMethod ({ cls := "java/lang/Exception", name := "<init>", desc := "(Ljava/lang/String;)V" } : Jvm.MethodName)) ∈ lw_all := lw_g (lw_at lw_m4 77 rfl) rfl
theorem q833 : (Jvm.Cond.code ({ cls := "java/lang/Exception", name := "<init>", desc := "(Ljava/lang/String;)V" } : Jvm.MethodName) prog_13_method_2_code (2 : Nat) (Option.none : Option Jvm.ClassFile.FieldType)) ∈ lw_all := lw_g (lw_at lw_m4 78 rfl) rfl
theorem q834 : (Jvm.Cond.methodLink "java/lang/Exception" (7 : Nat) ({ cls := "java/lang/Throwable", name := "<init>", desc := "(Ljava/lang/String;)V" } : Jvm.MethodName)) ∈ lw_all := lw_g (lw_at lw_m4 79 rfl) rfl

/-! java/lang/RuntimeException -/
set_option maxRecDepth 100000
def RJ2 : String := "java/lang/RuntimeException"
abbrev cJ2_init : ByteArray := prog_16_method_1_code
def yJ2_init : MethodName := ⟨RJ2, "<init>", "()V"⟩
theorem dJ2_init_0 : decode cJ2_init 0 = .ok (.aload_n 0, 1) := by decide +kernel
theorem dJ2_init_1 : decode cJ2_init 1 = .ok (.invokespecial 1, 3) := by decide +kernel
theorem dJ2_init_4 : decode cJ2_init 4 = .ok (.return_, 1) := by decide +kernel
abbrev cJ2_init_2 : ByteArray := prog_16_method_2_code
def yJ2_init_2 : MethodName := ⟨RJ2, "<init>", "(Ljava/lang/String;)V"⟩
theorem dJ2_init_2_0 : decode cJ2_init_2 0 = .ok (.aload_n 0, 1) := by decide +kernel
theorem dJ2_init_2_1 : decode cJ2_init_2 1 = .ok (.aload_n 1, 1) := by decide +kernel
theorem dJ2_init_2_2 : decode cJ2_init_2 2 = .ok (.invokespecial 7, 3) := by decide +kernel
theorem dJ2_init_2_5 : decode cJ2_init_2 5 = .ok (.return_, 1) := by decide +kernel
theorem q41 : (Jvm.Cond.initialized "java/lang/RuntimeException") ∈ lw_all := lw_g (lw_at lw_m1 6 rfl) rfl
theorem q138 : (Jvm.Cond.declares ({ cls := "java/lang/RuntimeException", name := "<init>", desc := "()V" } : Jvm.MethodName)) ∈ lw_tbl := lw_at lw_m1 103 rfl
theorem q139 : (Jvm.Cond.declares ({ cls := "java/lang/RuntimeException", name := "<init>", desc := "(Ljava/lang/String;)V" } : Jvm.MethodName)) ∈ lw_tbl := lw_at lw_m1 104 rfl
theorem q182 : (Jvm.Cond.instanceMethod ({ cls := "java/lang/RuntimeException", name := "<init>", desc := "()V" } : Jvm.MethodName)) ∈ lw_all := lw_g (lw_at lw_m1 147 rfl) rfl
theorem q183 : (Jvm.Cond.code ({ cls := "java/lang/RuntimeException", name := "<init>", desc := "()V" } : Jvm.MethodName) prog_16_method_1_code (1 : Nat) (Option.none : Option Jvm.ClassFile.FieldType)) ∈ lw_all := lw_g (lw_at lw_m1 148 rfl) rfl
theorem q184 : (Jvm.Cond.methodLink "java/lang/RuntimeException" (1 : Nat) ({ cls := "java/lang/Exception", name := "<init>", desc := "()V" } : Jvm.MethodName)) ∈ lw_all := lw_g (lw_at lw_m1 149 rfl) rfl
theorem q829 : (Jvm.Cond.instanceMethod ({ cls := "java/lang/RuntimeException", name := "<init>", desc := "(Ljava/lang/String;)V" } : Jvm.MethodName)) ∈ lw_all := lw_g (lw_at lw_m4 74 rfl) rfl
theorem q830 : (Jvm.Cond.code ({ cls := "java/lang/RuntimeException", name := "<init>", desc := "(Ljava/lang/String;)V" } : Jvm.MethodName) prog_16_method_2_code (2 : Nat) (Option.none : Option Jvm.ClassFile.FieldType)) ∈ lw_all := lw_g (lw_at lw_m4 75 rfl) rfl
theorem q831 : (Jvm.Cond.methodLink "java/lang/RuntimeException" (7 : Nat) ({ cls := "java/lang/Exception", name := "<init>", desc := "(Ljava/lang/String;)V" } : Jvm.MethodName)) ∈ lw_all := lw_g (lw_at lw_m4 76 rfl) rfl

/-! java/lang/IllegalArgumentException -/
set_option maxRecDepth 100000
def RJ3 : String := "java/lang/IllegalArgumentException"
def TJ3 : u_T := fun k => match k with
  | 0 => ("java/lang/Throwable", "cause", "Ljava/lang/Throwable;", false)
  | 1 => ("java/lang/Throwable", "stackTrace", "[Ljava/lang/StackTraceElement;", false)
  | 2 => ("java/lang/Throwable", "suppressedExceptions", "Ljava/util/List;", false)
  | 3 => ("java/lang/Throwable", "detailMessage", "Ljava/lang/String;", false)
  | 4 => ("java/lang/Throwable", "backtrace", "Ljava/lang/Object;", false)
  | _ => ("java/lang/Throwable", "depth", "I", false)
def tyJ3 : Nat → FieldType := fun k => match k with
  | 0 => .object "java/lang/Throwable"
  | 1 => .array (.object "java/lang/StackTraceElement")
  | 2 => .object "java/util/List"
  | 3 => .object "java/lang/String"
  | 4 => .object "java/lang/Object"
  | _ => .int
abbrev wsJ30 : List Cond := u_ws RJ3 TJ3 6
theorem nmJ3 : ∀ a, a < 6 → ∀ b, b < 6 → a ≠ b → (TJ3 a).2.1 ≠ (TJ3 b).2.1 := by decide +kernel
theorem tyJ3_ok : ∀ k, k < 6 → parseFieldDescriptor (TJ3 k).2.2.1 = some (tyJ3 k) := by decide +kernel
abbrev cJ3_init : ByteArray := prog_14_method_1_code
def yJ3_init : MethodName := ⟨RJ3, "<init>", "()V"⟩
theorem dJ3_init_0 : decode cJ3_init 0 = .ok (.aload_n 0, 1) := by decide +kernel
theorem dJ3_init_1 : decode cJ3_init 1 = .ok (.invokespecial 1, 3) := by decide +kernel
theorem dJ3_init_4 : decode cJ3_init 4 = .ok (.return_, 1) := by decide +kernel
theorem q42 : (Jvm.Cond.initialized "java/lang/IllegalArgumentException") ∈ lw_all := lw_g (lw_at lw_m1 7 rfl) rfl
theorem q136 : (Jvm.Cond.instantiable "java/lang/IllegalArgumentException" (6 : Nat)) ∈ lw_all := lw_g (lw_at lw_m1 101 rfl) rfl
theorem q137 : (Jvm.Cond.castable "java/lang/IllegalArgumentException" "java/lang/IllegalArgumentException") ∈ lw_tbl := lw_at lw_m1 102 rfl
theorem q144 : (Jvm.Cond.selects "java/lang/IllegalArgumentException" ({ cls := "java/lang/Throwable", name := "fillInStackTrace", desc := "(I)Ljava/lang/Throwable;" } : Jvm.MethodName) ({ cls := "java/lang/Throwable", name := "fillInStackTrace", desc := "(I)Ljava/lang/Throwable;" } : Jvm.MethodName)) ∈ lw_all := lw_g (lw_at lw_m1 109 rfl) rfl
theorem q145 : (Jvm.Cond.selects "java/lang/IllegalArgumentException" ({ cls := "java/lang/Throwable", name := "fillInStackTrace", desc := "()Ljava/lang/Throwable;" } : Jvm.MethodName) ({ cls := "java/lang/Throwable", name := "fillInStackTrace", desc := "()Ljava/lang/Throwable;" } : Jvm.MethodName)) ∈ lw_all := lw_g (lw_at lw_m1 110 rfl) rfl
theorem q146 : (Jvm.Cond.lays "java/lang/IllegalArgumentException" "java/lang/Throwable" "cause" "Ljava/lang/Throwable;") ∈ lw_all := lw_g (lw_at lw_m1 111 rfl) rfl
theorem q148 : (Jvm.Cond.lays "java/lang/IllegalArgumentException" "java/lang/Throwable" "stackTrace" "[Ljava/lang/StackTraceElement;") ∈ lw_all := lw_g (lw_at lw_m1 113 rfl) rfl
theorem q150 : (Jvm.Cond.lays "java/lang/IllegalArgumentException" "java/lang/Throwable" "suppressedExceptions" "Ljava/util/List;") ∈ lw_all := lw_g (lw_at lw_m1 115 rfl) rfl
theorem q152 : (Jvm.Cond.lays "java/lang/IllegalArgumentException" "java/lang/Throwable" "detailMessage" "Ljava/lang/String;") ∈ lw_all := lw_g (lw_at lw_m1 117 rfl) rfl
theorem q154 : (Jvm.Cond.lays "java/lang/IllegalArgumentException" "java/lang/Throwable" "backtrace" "Ljava/lang/Object;") ∈ lw_all := lw_g (lw_at lw_m1 119 rfl) rfl
theorem q179 : (Jvm.Cond.instanceMethod ({ cls := "java/lang/IllegalArgumentException", name := "<init>", desc := "()V" } : Jvm.MethodName)) ∈ lw_all := lw_g (lw_at lw_m1 144 rfl) rfl
theorem q180 : (Jvm.Cond.code ({ cls := "java/lang/IllegalArgumentException", name := "<init>", desc := "()V" } : Jvm.MethodName) prog_14_method_1_code (1 : Nat) (Option.none : Option Jvm.ClassFile.FieldType)) ∈ lw_all := lw_g (lw_at lw_m1 145 rfl) rfl
theorem q181 : (Jvm.Cond.methodLink "java/lang/IllegalArgumentException" (1 : Nat) ({ cls := "java/lang/RuntimeException", name := "<init>", desc := "()V" } : Jvm.MethodName)) ∈ lw_all := lw_g (lw_at lw_m1 146 rfl) rfl
theorem q197 : (Jvm.Cond.lays "java/lang/IllegalArgumentException" "java/lang/Throwable" "depth" "I") ∈ lw_all := lw_g (lw_at lw_m1 162 rfl) rfl
theorem q200 : (Jvm.Cond.superclass "java/lang/IllegalArgumentException" "java/lang/RuntimeException") ∈ lw_all := lw_g (lw_at lw_m1 165 rfl) rfl
theorem in_J3 : ∀ w ∈ wsJ30, w ∈ lw_all := lw_in wsJ30 [146, 148, 150, 152, 154, 197] (by decide +kernel) (by decide +kernel)

/-! java/util/NoSuchElementException -/
set_option maxRecDepth 100000
def RJ4 : String := "java/util/NoSuchElementException"
def TJ4 : u_T := fun k => match k with
  | 0 => ("java/lang/Throwable", "cause", "Ljava/lang/Throwable;", false)
  | 1 => ("java/lang/Throwable", "stackTrace", "[Ljava/lang/StackTraceElement;", false)
  | 2 => ("java/lang/Throwable", "suppressedExceptions", "Ljava/util/List;", false)
  | 3 => ("java/lang/Throwable", "detailMessage", "Ljava/lang/String;", false)
  | 4 => ("java/lang/Throwable", "backtrace", "Ljava/lang/Object;", false)
  | _ => ("java/lang/Throwable", "depth", "I", false)
def tyJ4 : Nat → FieldType := fun k => match k with
  | 0 => .object "java/lang/Throwable"
  | 1 => .array (.object "java/lang/StackTraceElement")
  | 2 => .object "java/util/List"
  | 3 => .object "java/lang/String"
  | 4 => .object "java/lang/Object"
  | _ => .int
abbrev wsJ40 : List Cond := u_ws RJ4 TJ4 6
theorem nmJ4 : ∀ a, a < 6 → ∀ b, b < 6 → a ≠ b → (TJ4 a).2.1 ≠ (TJ4 b).2.1 := by decide +kernel
theorem tyJ4_ok : ∀ k, k < 6 → parseFieldDescriptor (TJ4 k).2.2.1 = some (tyJ4 k) := by decide +kernel
abbrev cJ4_init : ByteArray := prog_20_method_1_code
def yJ4_init : MethodName := ⟨RJ4, "<init>", "()V"⟩
theorem dJ4_init_0 : decode cJ4_init 0 = .ok (.aload_n 0, 1) := by decide +kernel
theorem dJ4_init_1 : decode cJ4_init 1 = .ok (.invokespecial 1, 3) := by decide +kernel
theorem dJ4_init_4 : decode cJ4_init 4 = .ok (.return_, 1) := by decide +kernel
theorem q43 : (Jvm.Cond.initialized "java/util/NoSuchElementException") ∈ lw_all := lw_g (lw_at lw_m1 8 rfl) rfl
theorem q171 : (Jvm.Cond.selects "java/util/NoSuchElementException" ({ cls := "java/lang/Throwable", name := "fillInStackTrace", desc := "()Ljava/lang/Throwable;" } : Jvm.MethodName) ({ cls := "java/lang/Throwable", name := "fillInStackTrace", desc := "()Ljava/lang/Throwable;" } : Jvm.MethodName)) ∈ lw_all := lw_g (lw_at lw_m1 136 rfl) rfl
theorem q206 : (Jvm.Cond.instantiable "java/util/NoSuchElementException" (6 : Nat)) ∈ lw_all := lw_g (lw_at lw_m1 171 rfl) rfl
theorem q207 : (Jvm.Cond.castable "java/util/NoSuchElementException" "java/util/NoSuchElementException") ∈ lw_tbl := lw_at lw_m1 172 rfl
theorem q208 : (Jvm.Cond.selects "java/util/NoSuchElementException" ({ cls := "java/lang/Throwable", name := "fillInStackTrace", desc := "(I)Ljava/lang/Throwable;" } : Jvm.MethodName) ({ cls := "java/lang/Throwable", name := "fillInStackTrace", desc := "(I)Ljava/lang/Throwable;" } : Jvm.MethodName)) ∈ lw_all := lw_g (lw_at lw_m1 173 rfl) rfl
theorem q209 : (Jvm.Cond.lays "java/util/NoSuchElementException" "java/lang/Throwable" "cause" "Ljava/lang/Throwable;") ∈ lw_all := lw_g (lw_at lw_m1 174 rfl) rfl
theorem q210 : (Jvm.Cond.lays "java/util/NoSuchElementException" "java/lang/Throwable" "stackTrace" "[Ljava/lang/StackTraceElement;") ∈ lw_all := lw_g (lw_at lw_m1 175 rfl) rfl
theorem q211 : (Jvm.Cond.lays "java/util/NoSuchElementException" "java/lang/Throwable" "suppressedExceptions" "Ljava/util/List;") ∈ lw_all := lw_g (lw_at lw_m1 176 rfl) rfl
theorem q212 : (Jvm.Cond.lays "java/util/NoSuchElementException" "java/lang/Throwable" "detailMessage" "Ljava/lang/String;") ∈ lw_all := lw_g (lw_at lw_m1 177 rfl) rfl
theorem q213 : (Jvm.Cond.lays "java/util/NoSuchElementException" "java/lang/Throwable" "backtrace" "Ljava/lang/Object;") ∈ lw_all := lw_g (lw_at lw_m1 178 rfl) rfl
theorem q215 : (Jvm.Cond.instanceMethod ({ cls := "java/util/NoSuchElementException", name := "<init>", desc := "()V" } : Jvm.MethodName)) ∈ lw_all := lw_g (lw_at lw_m1 180 rfl) rfl
theorem q216 : (Jvm.Cond.code ({ cls := "java/util/NoSuchElementException", name := "<init>", desc := "()V" } : Jvm.MethodName) prog_20_method_1_code (1 : Nat) (Option.none : Option Jvm.ClassFile.FieldType)) ∈ lw_all := lw_g (lw_at lw_m1 181 rfl) rfl
theorem q217 : (Jvm.Cond.methodLink "java/util/NoSuchElementException" (1 : Nat) ({ cls := "java/lang/RuntimeException", name := "<init>", desc := "()V" } : Jvm.MethodName)) ∈ lw_all := lw_g (lw_at lw_m1 182 rfl) rfl
theorem q218 : (Jvm.Cond.lays "java/util/NoSuchElementException" "java/lang/Throwable" "depth" "I") ∈ lw_all := lw_g (lw_at lw_m1 183 rfl) rfl
theorem q219 : (Jvm.Cond.superclass "java/util/NoSuchElementException" "java/lang/RuntimeException") ∈ lw_all := lw_g (lw_at lw_m1 184 rfl) rfl
theorem in_J4 : ∀ w ∈ wsJ40, w ∈ lw_all := lw_in wsJ40 [209, 210, 211, 212, 213, 218] (by decide +kernel) (by decide +kernel)

/-! java/lang/IllegalStateException -/
set_option maxRecDepth 100000
def RJ5 : String := "java/lang/IllegalStateException"
def TJ5 : u_T := fun k => match k with
  | 0 => ("java/lang/Throwable", "cause", "Ljava/lang/Throwable;", false)
  | 1 => ("java/lang/Throwable", "stackTrace", "[Ljava/lang/StackTraceElement;", false)
  | 2 => ("java/lang/Throwable", "suppressedExceptions", "Ljava/util/List;", false)
  | 3 => ("java/lang/Throwable", "detailMessage", "Ljava/lang/String;", false)
  | 4 => ("java/lang/Throwable", "backtrace", "Ljava/lang/Object;", false)
  | _ => ("java/lang/Throwable", "depth", "I", false)
def tyJ5 : Nat → FieldType := fun k => match k with
  | 0 => .object "java/lang/Throwable"
  | 1 => .array (.object "java/lang/StackTraceElement")
  | 2 => .object "java/util/List"
  | 3 => .object "java/lang/String"
  | 4 => .object "java/lang/Object"
  | _ => .int
abbrev wsJ50 : List Cond := u_ws RJ5 TJ5 6
theorem nmJ5 : ∀ a, a < 6 → ∀ b, b < 6 → a ≠ b → (TJ5 a).2.1 ≠ (TJ5 b).2.1 := by decide +kernel
theorem tyJ5_ok : ∀ k, k < 6 → parseFieldDescriptor (TJ5 k).2.2.1 = some (tyJ5 k) := by decide +kernel
abbrev cJ5_init : ByteArray := prog_15_method_1_code
def yJ5_init : MethodName := ⟨RJ5, "<init>", "()V"⟩
theorem dJ5_init_0 : decode cJ5_init 0 = .ok (.aload_n 0, 1) := by decide +kernel
theorem dJ5_init_1 : decode cJ5_init 1 = .ok (.invokespecial 1, 3) := by decide +kernel
theorem dJ5_init_4 : decode cJ5_init 4 = .ok (.return_, 1) := by decide +kernel
theorem q44 : (Jvm.Cond.initialized "java/lang/IllegalStateException") ∈ lw_all := lw_g (lw_at lw_m1 9 rfl) rfl
theorem q169 : (Jvm.Cond.selects "java/lang/IllegalStateException" ({ cls := "java/lang/Throwable", name := "fillInStackTrace", desc := "()Ljava/lang/Throwable;" } : Jvm.MethodName) ({ cls := "java/lang/Throwable", name := "fillInStackTrace", desc := "()Ljava/lang/Throwable;" } : Jvm.MethodName)) ∈ lw_all := lw_g (lw_at lw_m1 134 rfl) rfl
theorem q224 : (Jvm.Cond.instantiable "java/lang/IllegalStateException" (6 : Nat)) ∈ lw_all := lw_g (lw_at lw_m1 189 rfl) rfl
theorem q225 : (Jvm.Cond.castable "java/lang/IllegalStateException" "java/lang/IllegalStateException") ∈ lw_tbl := lw_at lw_m1 190 rfl
theorem q226 : (Jvm.Cond.selects "java/lang/IllegalStateException" ({ cls := "java/lang/Throwable", name := "fillInStackTrace", desc := "(I)Ljava/lang/Throwable;" } : Jvm.MethodName) ({ cls := "java/lang/Throwable", name := "fillInStackTrace", desc := "(I)Ljava/lang/Throwable;" } : Jvm.MethodName)) ∈ lw_all := lw_g (lw_at lw_m1 191 rfl) rfl
theorem q227 : (Jvm.Cond.lays "java/lang/IllegalStateException" "java/lang/Throwable" "cause" "Ljava/lang/Throwable;") ∈ lw_all := lw_g (lw_at lw_m1 192 rfl) rfl
theorem q228 : (Jvm.Cond.lays "java/lang/IllegalStateException" "java/lang/Throwable" "stackTrace" "[Ljava/lang/StackTraceElement;") ∈ lw_all := lw_g (lw_at lw_m1 193 rfl) rfl
theorem q229 : (Jvm.Cond.lays "java/lang/IllegalStateException" "java/lang/Throwable" "suppressedExceptions" "Ljava/util/List;") ∈ lw_all := lw_g (lw_at lw_m1 194 rfl) rfl
theorem q230 : (Jvm.Cond.lays "java/lang/IllegalStateException" "java/lang/Throwable" "detailMessage" "Ljava/lang/String;") ∈ lw_all := lw_g (lw_at lw_m1 195 rfl) rfl
theorem q231 : (Jvm.Cond.lays "java/lang/IllegalStateException" "java/lang/Throwable" "backtrace" "Ljava/lang/Object;") ∈ lw_all := lw_g (lw_at lw_m1 196 rfl) rfl
theorem q233 : (Jvm.Cond.instanceMethod ({ cls := "java/lang/IllegalStateException", name := "<init>", desc := "()V" } : Jvm.MethodName)) ∈ lw_all := lw_g (lw_at lw_m1 198 rfl) rfl
theorem q234 : (Jvm.Cond.code ({ cls := "java/lang/IllegalStateException", name := "<init>", desc := "()V" } : Jvm.MethodName) prog_15_method_1_code (1 : Nat) (Option.none : Option Jvm.ClassFile.FieldType)) ∈ lw_all := lw_g (lw_at lw_m1 199 rfl) rfl
theorem q235 : (Jvm.Cond.methodLink "java/lang/IllegalStateException" (1 : Nat) ({ cls := "java/lang/RuntimeException", name := "<init>", desc := "()V" } : Jvm.MethodName)) ∈ lw_all := lw_g (lw_at lw_m1 200 rfl) rfl
theorem q236 : (Jvm.Cond.lays "java/lang/IllegalStateException" "java/lang/Throwable" "depth" "I") ∈ lw_all := lw_g (lw_at lw_m1 201 rfl) rfl
theorem q237 : (Jvm.Cond.superclass "java/lang/IllegalStateException" "java/lang/RuntimeException") ∈ lw_all := lw_g (lw_at lw_m1 202 rfl) rfl
theorem in_J5 : ∀ w ∈ wsJ50, w ∈ lw_all := lw_in wsJ50 [227, 228, 229, 230, 231, 236] (by decide +kernel) (by decide +kernel)

/-! java/lang/UnsupportedOperationException -/
set_option maxRecDepth 100000
def RJ6 : String := "java/lang/UnsupportedOperationException"
def TJ6 : u_T := fun k => match k with
  | 0 => ("java/lang/Throwable", "cause", "Ljava/lang/Throwable;", false)
  | 1 => ("java/lang/Throwable", "stackTrace", "[Ljava/lang/StackTraceElement;", false)
  | 2 => ("java/lang/Throwable", "suppressedExceptions", "Ljava/util/List;", false)
  | 3 => ("java/lang/Throwable", "detailMessage", "Ljava/lang/String;", false)
  | 4 => ("java/lang/Throwable", "backtrace", "Ljava/lang/Object;", false)
  | _ => ("java/lang/Throwable", "depth", "I", false)
def tyJ6 : Nat → FieldType := fun k => match k with
  | 0 => .object "java/lang/Throwable"
  | 1 => .array (.object "java/lang/StackTraceElement")
  | 2 => .object "java/util/List"
  | 3 => .object "java/lang/String"
  | 4 => .object "java/lang/Object"
  | _ => .int
abbrev wsJ60 : List Cond := u_ws RJ6 TJ6 6
theorem nmJ6 : ∀ a, a < 6 → ∀ b, b < 6 → a ≠ b → (TJ6 a).2.1 ≠ (TJ6 b).2.1 := by decide +kernel
theorem tyJ6_ok : ∀ k, k < 6 → parseFieldDescriptor (TJ6 k).2.2.1 = some (tyJ6 k) := by decide +kernel
abbrev cJ6_init : ByteArray := prog_19_method_1_code
def yJ6_init : MethodName := ⟨RJ6, "<init>", "()V"⟩
theorem dJ6_init_0 : decode cJ6_init 0 = .ok (.aload_n 0, 1) := by decide +kernel
theorem dJ6_init_1 : decode cJ6_init 1 = .ok (.invokespecial 1, 3) := by decide +kernel
theorem dJ6_init_4 : decode cJ6_init 4 = .ok (.return_, 1) := by decide +kernel
theorem q51 : (Jvm.Cond.initialized "java/lang/UnsupportedOperationException") ∈ lw_all := lw_g (lw_at lw_m1 16 rfl) rfl
theorem q170 : (Jvm.Cond.selects "java/lang/UnsupportedOperationException" ({ cls := "java/lang/Throwable", name := "fillInStackTrace", desc := "()Ljava/lang/Throwable;" } : Jvm.MethodName) ({ cls := "java/lang/Throwable", name := "fillInStackTrace", desc := "()Ljava/lang/Throwable;" } : Jvm.MethodName)) ∈ lw_all := lw_g (lw_at lw_m1 135 rfl) rfl
theorem q377 : (Jvm.Cond.instantiable "java/lang/UnsupportedOperationException" (6 : Nat)) ∈ lw_all := lw_g (lw_at lw_m2 102 rfl) rfl
theorem q378 : (Jvm.Cond.castable "java/lang/UnsupportedOperationException" "java/lang/UnsupportedOperationException") ∈ lw_tbl := lw_at lw_m2 103 rfl
theorem q379 : (Jvm.Cond.selects "java/lang/UnsupportedOperationException" ({ cls := "java/lang/Throwable", name := "fillInStackTrace", desc := "(I)Ljava/lang/Throwable;" } : Jvm.MethodName) ({ cls := "java/lang/Throwable", name := "fillInStackTrace", desc := "(I)Ljava/lang/Throwable;" } : Jvm.MethodName)) ∈ lw_all := lw_g (lw_at lw_m2 104 rfl) rfl
theorem q380 : (Jvm.Cond.lays "java/lang/UnsupportedOperationException" "java/lang/Throwable" "cause" "Ljava/lang/Throwable;") ∈ lw_all := lw_g (lw_at lw_m2 105 rfl) rfl
theorem q381 : (Jvm.Cond.lays "java/lang/UnsupportedOperationException" "java/lang/Throwable" "stackTrace" "[Ljava/lang/StackTraceElement;") ∈ lw_all := lw_g (lw_at lw_m2 106 rfl) rfl
theorem q382 : (Jvm.Cond.lays "java/lang/UnsupportedOperationException" "java/lang/Throwable" "suppressedExceptions" "Ljava/util/List;") ∈ lw_all := lw_g (lw_at lw_m2 107 rfl) rfl
theorem q383 : (Jvm.Cond.lays "java/lang/UnsupportedOperationException" "java/lang/Throwable" "detailMessage" "Ljava/lang/String;") ∈ lw_all := lw_g (lw_at lw_m2 108 rfl) rfl
theorem q384 : (Jvm.Cond.lays "java/lang/UnsupportedOperationException" "java/lang/Throwable" "backtrace" "Ljava/lang/Object;") ∈ lw_all := lw_g (lw_at lw_m2 109 rfl) rfl
theorem q386 : (Jvm.Cond.instanceMethod ({ cls := "java/lang/UnsupportedOperationException", name := "<init>", desc := "()V" } : Jvm.MethodName)) ∈ lw_all := lw_g (lw_at lw_m2 111 rfl) rfl
theorem q387 : (Jvm.Cond.code ({ cls := "java/lang/UnsupportedOperationException", name := "<init>", desc := "()V" } : Jvm.MethodName) prog_19_method_1_code (1 : Nat) (Option.none : Option Jvm.ClassFile.FieldType)) ∈ lw_all := lw_g (lw_at lw_m2 112 rfl) rfl
theorem q388 : (Jvm.Cond.methodLink "java/lang/UnsupportedOperationException" (1 : Nat) ({ cls := "java/lang/RuntimeException", name := "<init>", desc := "()V" } : Jvm.MethodName)) ∈ lw_all := lw_g (lw_at lw_m2 113 rfl) rfl
theorem q389 : (Jvm.Cond.lays "java/lang/UnsupportedOperationException" "java/lang/Throwable" "depth" "I") ∈ lw_all := lw_g (lw_at lw_m2 114 rfl) rfl
theorem q390 : (Jvm.Cond.superclass "java/lang/UnsupportedOperationException" "java/lang/RuntimeException") ∈ lw_all := lw_g (lw_at lw_m2 115 rfl) rfl
theorem in_J6 : ∀ w ∈ wsJ60, w ∈ lw_all := lw_in wsJ60 [380, 381, 382, 383, 384, 389] (by decide +kernel) (by decide +kernel)

/-! java/lang/ArithmeticException -/
set_option maxRecDepth 100000
def RJ7 : String := "java/lang/ArithmeticException"
def TJ7 : u_T := fun k => match k with
  | 0 => ("java/lang/Throwable", "backtrace", "Ljava/lang/Object;", false)
  | 1 => ("java/lang/Throwable", "detailMessage", "Ljava/lang/String;", false)
  | 2 => ("java/lang/Throwable", "cause", "Ljava/lang/Throwable;", false)
  | 3 => ("java/lang/Throwable", "stackTrace", "[Ljava/lang/StackTraceElement;", false)
  | 4 => ("java/lang/Throwable", "depth", "I", false)
  | _ => ("java/lang/Throwable", "suppressedExceptions", "Ljava/util/List;", false)
def tyJ7 : Nat → FieldType := fun k => match k with
  | 0 => .object "java/lang/Object"
  | 1 => .object "java/lang/String"
  | 2 => .object "java/lang/Throwable"
  | 3 => .array (.object "java/lang/StackTraceElement")
  | 4 => .int
  | _ => .object "java/util/List"
abbrev wsJ70 : List Cond := u_ws RJ7 TJ7 6
theorem nmJ7 : ∀ a, a < 6 → ∀ b, b < 6 → a ≠ b → (TJ7 a).2.1 ≠ (TJ7 b).2.1 := by decide +kernel
theorem tyJ7_ok : ∀ k, k < 6 → parseFieldDescriptor (TJ7 k).2.2.1 = some (tyJ7 k) := by decide +kernel
abbrev cJ7_init : ByteArray := prog_12_method_2_code
def yJ7_init : MethodName := ⟨RJ7, "<init>", "(Ljava/lang/String;)V"⟩
theorem dJ7_init_0 : decode cJ7_init 0 = .ok (.aload_n 0, 1) := by decide +kernel
theorem dJ7_init_1 : decode cJ7_init 1 = .ok (.aload_n 1, 1) := by decide +kernel
theorem dJ7_init_2 : decode cJ7_init 2 = .ok (.invokespecial 7, 3) := by decide +kernel
theorem dJ7_init_5 : decode cJ7_init 5 = .ok (.return_, 1) := by decide +kernel
abbrev cJ7_init_2 : ByteArray := prog_12_method_1_code
def yJ7_init_2 : MethodName := ⟨RJ7, "<init>", "()V"⟩
theorem dJ7_init_2_0 : decode cJ7_init_2 0 = .ok (.aload_n 0, 1) := by decide +kernel
theorem dJ7_init_2_1 : decode cJ7_init_2 1 = .ok (.invokespecial 1, 3) := by decide +kernel
theorem dJ7_init_2_4 : decode cJ7_init_2 4 = .ok (.return_, 1) := by decide +kernel
theorem q53 : (Jvm.Cond.initialized "java/lang/ArithmeticException") ∈ lw_all := lw_g (lw_at lw_m1 18 rfl) rfl
theorem q168 : (Jvm.Cond.selects "java/lang/ArithmeticException" ({ cls := "java/lang/Throwable", name := "fillInStackTrace", desc := "()Ljava/lang/Throwable;" } : Jvm.MethodName) ({ cls := "java/lang/Throwable", name := "fillInStackTrace", desc := "()Ljava/lang/Throwable;" } : Jvm.MethodName)) ∈ lw_all := lw_g (lw_at lw_m1 133 rfl) rfl
theorem q825 : (Jvm.Cond.instantiable "java/lang/ArithmeticException" (6 : Nat)) ∈ lw_all := lw_g (lw_at lw_m4 70 rfl) rfl
theorem q826 : (Jvm.Cond.instanceMethod ({ cls := "java/lang/ArithmeticException", name := "<init>", desc := "(Ljava/lang/String;)V" } : Jvm.MethodName)) ∈ lw_all := lw_g (lw_at lw_m4 71 rfl) rfl
theorem q827 : (Jvm.Cond.code ({ cls := "java/lang/ArithmeticException", name := "<init>", desc := "(Ljava/lang/String;)V" } : Jvm.MethodName) prog_12_method_2_code (2 : Nat) (Option.none : Option Jvm.ClassFile.FieldType)) ∈ lw_all := lw_g (lw_at lw_m4 72 rfl) rfl
theorem q828 : (Jvm.Cond.methodLink "java/lang/ArithmeticException" (7 : Nat) ({ cls := "java/lang/RuntimeException", name := "<init>", desc := "(Ljava/lang/String;)V" } : Jvm.MethodName)) ∈ lw_all := lw_g (lw_at lw_m4 73 rfl) rfl
theorem q837 : (Jvm.Cond.lays "java/lang/ArithmeticException" "java/lang/Throwable" "backtrace" "Ljava/lang/Object;") ∈ lw_all := lw_g (lw_at lw_m4 82 rfl) rfl
theorem q838 : (Jvm.Cond.lays "java/lang/ArithmeticException" "java/lang/Throwable" "detailMessage" "Ljava/lang/String;") ∈ lw_all := lw_g (lw_at lw_m4 83 rfl) rfl
theorem q839 : (Jvm.Cond.lays "java/lang/ArithmeticException" "java/lang/Throwable" "cause" "Ljava/lang/Throwable;") ∈ lw_all := lw_g (lw_at lw_m4 84 rfl) rfl
theorem q840 : (Jvm.Cond.lays "java/lang/ArithmeticException" "java/lang/Throwable" "stackTrace" "[Ljava/lang/StackTraceElement;") ∈ lw_all := lw_g (lw_at lw_m4 85 rfl) rfl
theorem q841 : (Jvm.Cond.lays "java/lang/ArithmeticException" "java/lang/Throwable" "depth" "I") ∈ lw_all := lw_g (lw_at lw_m4 86 rfl) rfl
theorem q842 : (Jvm.Cond.lays "java/lang/ArithmeticException" "java/lang/Throwable" "suppressedExceptions" "Ljava/util/List;") ∈ lw_all := lw_g (lw_at lw_m4 87 rfl) rfl
theorem q843 : (Jvm.Cond.superclass "java/lang/ArithmeticException" "java/lang/RuntimeException") ∈ lw_all := lw_g (lw_at lw_m4 88 rfl) rfl
theorem q844 : (Jvm.Cond.castable "java/lang/ArithmeticException" "java/lang/ArithmeticException") ∈ lw_tbl := lw_at lw_m4 89 rfl
theorem q845 : (Jvm.Cond.selects "java/lang/ArithmeticException" ({ cls := "java/lang/Throwable", name := "fillInStackTrace", desc := "(I)Ljava/lang/Throwable;" } : Jvm.MethodName) ({ cls := "java/lang/Throwable", name := "fillInStackTrace", desc := "(I)Ljava/lang/Throwable;" } : Jvm.MethodName)) ∈ lw_all := lw_g (lw_at lw_m4 90 rfl) rfl
theorem q867 : (Jvm.Cond.instanceMethod ({ cls := "java/lang/ArithmeticException", name := "<init>", desc := "()V" } : Jvm.MethodName)) ∈ lw_all := lw_g (lw_at lw_m4 112 rfl) rfl
theorem q868 : (Jvm.Cond.code ({ cls := "java/lang/ArithmeticException", name := "<init>", desc := "()V" } : Jvm.MethodName) prog_12_method_1_code (1 : Nat) (Option.none : Option Jvm.ClassFile.FieldType)) ∈ lw_all := lw_g (lw_at lw_m4 113 rfl) rfl
theorem q869 : (Jvm.Cond.methodLink "java/lang/ArithmeticException" (1 : Nat) ({ cls := "java/lang/RuntimeException", name := "<init>", desc := "()V" } : Jvm.MethodName)) ∈ lw_all := lw_g (lw_at lw_m4 114 rfl) rfl
theorem in_J7 : ∀ w ∈ wsJ70, w ∈ lw_all := lw_in wsJ70 [837, 838, 839, 840, 841, 842] (by decide +kernel) (by decide +kernel)

/-! java/lang/String -/
set_option maxRecDepth 100000
def RJ8 : String := "java/lang/String"
def TJ8 : u_T := fun k => match k with
  | 0 => ("java/lang/String", "value", "[B", true)
  | _ => ("java/lang/String", "coder", "B", true)
def tyJ8 : Nat → FieldType := fun k => match k with
  | 0 => .array .byte
  | _ => .byte
abbrev wsJ80 : List Cond := u_ws RJ8 TJ8 2
theorem nmJ8 : ∀ a, a < 2 → ∀ b, b < 2 → a ≠ b → (TJ8 a).2.1 ≠ (TJ8 b).2.1 := by decide +kernel
theorem tyJ8_ok : ∀ k, k < 2 → parseFieldDescriptor (TJ8 k).2.2.1 = some (tyJ8 k) := by decide +kernel
theorem q54 : (Jvm.Cond.initialized "java/lang/String") ∈ lw_all := lw_g (lw_at lw_m1 19 rfl) rfl
theorem q846 : (Jvm.Cond.instantiable "java/lang/String" (4 : Nat)) ∈ lw_all := lw_g (lw_at lw_m4 91 rfl) rfl
theorem q848 : (Jvm.Cond.laysFinal "java/lang/String" "java/lang/String" "value" "[B") ∈ lw_all := lw_g (lw_at lw_m4 93 rfl) rfl
theorem q849 : (Jvm.Cond.soleField "java/lang/String" "value") ∈ lw_all := lw_g (lw_at lw_m4 94 rfl) rfl
theorem q850 : (Jvm.Cond.laysFinal "java/lang/String" "java/lang/String" "coder" "B") ∈ lw_all := lw_g (lw_at lw_m4 95 rfl) rfl
theorem q851 : (Jvm.Cond.soleField "java/lang/String" "coder") ∈ lw_all := lw_g (lw_at lw_m4 96 rfl) rfl
theorem in_J8 : ∀ w ∈ wsJ80, w ∈ lw_all := lw_in wsJ80 [848, 850] (by decide +kernel) (by decide +kernel)

/-! java/lang/Object -/
set_option maxRecDepth 100000
def RJ9 : String := "java/lang/Object"
abbrev cJ9_init : ByteArray := object_method_1_code
def yJ9_init : MethodName := ⟨RJ9, "<init>", "()V"⟩
theorem dJ9_init_0 : decode cJ9_init 0 = .ok (.return_, 1) := by decide +kernel
theorem q61 : (Jvm.Cond.instanceMethod ({ cls := "java/lang/Object", name := "<init>", desc := "()V" } : Jvm.MethodName)) ∈ lw_all := lw_g (lw_at lw_m1 26 rfl) rfl
theorem q62 : (Jvm.Cond.code ({ cls := "java/lang/Object", name := "<init>", desc := "()V" } : Jvm.MethodName) object_method_1_code (1 : Nat) (Option.none : Option Jvm.ClassFile.FieldType)) ∈ lw_all := lw_g (lw_at lw_m1 27 rfl) rfl

theorem q64 : (Jvm.Cond.arrayOver (Jvm.ClassFile.FieldType.object "SyncHall$Task")) ∈ lw_tbl := lw_at lw_m1 29 rfl
set_option maxRecDepth 100000
theorem q66 : (Jvm.Cond.arrayOver (Jvm.ClassFile.FieldType.object "SyncHall$Sync")) ∈ lw_tbl := lw_at lw_m1 31 rfl
theorem q68 : (Jvm.Cond.arrayOver (Jvm.ClassFile.FieldType.array Jvm.ClassFile.FieldType.boolean)) ∈ lw_tbl := lw_at lw_m1 33 rfl
theorem q95 : (Jvm.Cond.arrayClass Jvm.ClassFile.FieldType.boolean) ∈ lw_all := lw_g (lw_at lw_m1 60 rfl) rfl
theorem q326 : (Jvm.Cond.arrayClass Jvm.ClassFile.FieldType.int) ∈ lw_all := lw_g (lw_at lw_m2 51 rfl) rfl
theorem q847 : (Jvm.Cond.arrayClass Jvm.ClassFile.FieldType.byte) ∈ lw_all := lw_g (lw_at lw_m4 92 rfl) rfl
theorem q964 : (Jvm.Cond.arrayClass Jvm.ClassFile.FieldType.double) ∈ lw_all := lw_g (lw_at lw_m4 209 rfl) rfl
theorem q1101 : (Jvm.Cond.arrayClass Jvm.ClassFile.FieldType.long) ∈ lw_all := lw_g (lw_at lw_m5 106 rfl) rfl
