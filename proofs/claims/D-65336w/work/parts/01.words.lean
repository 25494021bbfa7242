-- ===== PART A: goes FIRST, ahead of the names: the tables' words, and 'selects' of the private methods out of them =====
/-- a private method of a class that the tables say can be made, by its rows of tables_1 -/
def lw_okq (q : MethodName × Nat) : Prop := (q.1.cls ≠ "java/lang/invoke/MethodHandle" ∧ q.1.cls ≠ "java/lang/invoke/VarHandle") ∧ Cond.instantiable q.1.cls q.2 ∈ tables_1 ∧ Cond.privateMethod q.1 ∈ tables_1 ∧ Cond.instanceMethod q.1 ∈ tables_1
set_option maxRecDepth 100000
theorem lw_t1 {w : Cond} (h : w ∈ tables_1_1) : w ∈ tables_1 := List.mem_append_left _ h
theorem lw_t2 {w : Cond} (h : w ∈ tables_1_2) : w ∈ tables_1 := List.mem_append_right _ (List.mem_append_left _ h)
theorem lw_t3 {w : Cond} (h : w ∈ tables_1_3) : w ∈ tables_1 := List.mem_append_right _ (List.mem_append_right _ (List.mem_append_left _ h))
theorem lw_t4 {w : Cond} (h : w ∈ tables_1_4) : w ∈ tables_1 := List.mem_append_right _ (List.mem_append_right _ (List.mem_append_right _ (List.mem_append_left _ h)))
theorem lw_t5 {w : Cond} (h : w ∈ tables_1_5) : w ∈ tables_1 := List.mem_append_right _ (List.mem_append_right _ (List.mem_append_right _ (List.mem_append_right _ h)))
theorem lw_p0 : lw_okq (⟨"java/lang/Throwable", "fillInStackTrace", "(I)Ljava/lang/Throwable;"⟩, 6) := ⟨⟨by decide +kernel, by decide +kernel⟩, lw_t1 (List.mem_of_getElem? (i := 141) rfl), lw_t1 (List.mem_of_getElem? (i := 139) rfl), lw_t1 (List.mem_of_getElem? (i := 140) rfl)⟩
theorem lw_p1 : lw_okq (⟨"SyncHall", "made", "(II)LSyncHall$Sync;"⟩, 6) := ⟨⟨by decide +kernel, by decide +kernel⟩, lw_t1 (List.mem_of_getElem? (i := 21) rfl), lw_t1 (List.mem_of_getElem? (i := 204) rfl), lw_t1 (List.mem_of_getElem? (i := 205) rfl)⟩
theorem lw_p2 : lw_okq (⟨"SyncHall", "task", "(I)LSyncHall$Task;"⟩, 6) := ⟨⟨by decide +kernel, by decide +kernel⟩, lw_t1 (List.mem_of_getElem? (i := 21) rfl), lw_t2 (List.mem_of_getElem? (i := 73) rfl), lw_t2 (List.mem_of_getElem? (i := 74) rfl)⟩
theorem lw_p3 : lw_okq (⟨"SyncHall", "there", "(I)LSyncHall$Sync;"⟩, 6) := ⟨⟨by decide +kernel, by decide +kernel⟩, lw_t1 (List.mem_of_getElem? (i := 21) rfl), lw_t2 (List.mem_of_getElem? (i := 91) rfl), lw_t2 (List.mem_of_getElem? (i := 92) rfl)⟩
theorem lw_p4 : lw_okq (⟨"SyncHall", "interrupted", "(LSyncHall$Task;)I"⟩, 6) := ⟨⟨by decide +kernel, by decide +kernel⟩, lw_t1 (List.mem_of_getElem? (i := 21) rfl), lw_t2 (List.mem_of_getElem? (i := 117) rfl), lw_t2 (List.mem_of_getElem? (i := 118) rfl)⟩
theorem lw_p5 : lw_okq (⟨"SyncHall", "ended", "(LSyncHall$Task;I)I"⟩, 6) := ⟨⟨by decide +kernel, by decide +kernel⟩, lw_t1 (List.mem_of_getElem? (i := 21) rfl), lw_t2 (List.mem_of_getElem? (i := 121) rfl), lw_t2 (List.mem_of_getElem? (i := 122) rfl)⟩
theorem lw_p6 : lw_okq (⟨"SyncHall", "watch", "(LSyncHall$Task;I)V"⟩, 6) := ⟨⟨by decide +kernel, by decide +kernel⟩, lw_t1 (List.mem_of_getElem? (i := 21) rfl), lw_t2 (List.mem_of_getElem? (i := 125) rfl), lw_t2 (List.mem_of_getElem? (i := 126) rfl)⟩
theorem lw_p7 : lw_okq (⟨"SyncHall", "owns", "(LSyncHall$Task;I)Z"⟩, 6) := ⟨⟨by decide +kernel, by decide +kernel⟩, lw_t1 (List.mem_of_getElem? (i := 21) rfl), lw_t2 (List.mem_of_getElem? (i := 129) rfl), lw_t2 (List.mem_of_getElem? (i := 130) rfl)⟩
theorem lw_p8 : lw_okq (⟨"SyncHall", "leads", "(II)Z"⟩, 6) := ⟨⟨by decide +kernel, by decide +kernel⟩, lw_t1 (List.mem_of_getElem? (i := 21) rfl), lw_t2 (List.mem_of_getElem? (i := 137) rfl), lw_t2 (List.mem_of_getElem? (i := 138) rfl)⟩
theorem lw_p9 : lw_okq (⟨"SyncHall$Shared", "isInside", "(LSyncHall$Task;)Z"⟩, 6) := ⟨⟨by decide +kernel, by decide +kernel⟩, lw_t2 (List.mem_of_getElem? (i := 33) rfl), lw_t2 (List.mem_of_getElem? (i := 174) rfl), lw_t2 (List.mem_of_getElem? (i := 175) rfl)⟩
theorem lw_p10 : lw_okq (⟨"SyncHall$Shared", "writerWaits", "()Z"⟩, 6) := ⟨⟨by decide +kernel, by decide +kernel⟩, lw_t2 (List.mem_of_getElem? (i := 33) rfl), lw_t2 (List.mem_of_getElem? (i := 178) rfl), lw_t2 (List.mem_of_getElem? (i := 179) rfl)⟩
theorem lw_p11 : lw_okq (⟨"SyncHall$Shared", "othersRead", "(LSyncHall$Task;)Z"⟩, 6) := ⟨⟨by decide +kernel, by decide +kernel⟩, lw_t2 (List.mem_of_getElem? (i := 33) rfl), lw_t2 (List.mem_of_getElem? (i := 204) rfl), lw_t2 (List.mem_of_getElem? (i := 205) rfl)⟩
theorem lw_p12 : lw_okq (⟨"SyncHall", "endOf", "(D)D"⟩, 6) := ⟨⟨by decide +kernel, by decide +kernel⟩, lw_t1 (List.mem_of_getElem? (i := 21) rfl), lw_t2 (List.mem_of_getElem? (i := 228) rfl), lw_t2 (List.mem_of_getElem? (i := 229) rfl)⟩
theorem lw_p13 : lw_okq (⟨"SyncHall", "owned", "(LSyncHall$Task;I)LSyncHall$Condition;"⟩, 6) := ⟨⟨by decide +kernel, by decide +kernel⟩, lw_t1 (List.mem_of_getElem? (i := 21) rfl), lw_t3 (List.mem_of_getElem? (i := 154) rfl), lw_t3 (List.mem_of_getElem? (i := 155) rfl)⟩
theorem lw_p14 : lw_okq (⟨"SyncHall", "giveUp", "(LSyncHall$Waiter;I)V"⟩, 6) := ⟨⟨by decide +kernel, by decide +kernel⟩, lw_t1 (List.mem_of_getElem? (i := 21) rfl), lw_t3 (List.mem_of_getElem? (i := 215) rfl), lw_t3 (List.mem_of_getElem? (i := 216) rfl)⟩
theorem lw_p15 : lw_okq (⟨"SyncHall", "latest", "()LSyncHall$Waiter;"⟩, 6) := ⟨⟨by decide +kernel, by decide +kernel⟩, lw_t1 (List.mem_of_getElem? (i := 21) rfl), lw_t3 (List.mem_of_getElem? (i := 228) rfl), lw_t3 (List.mem_of_getElem? (i := 229) rfl)⟩
def lw_privs_1 : List (MethodName × Nat) := [(⟨"java/lang/Throwable", "fillInStackTrace", "(I)Ljava/lang/Throwable;"⟩, 6), (⟨"SyncHall", "made", "(II)LSyncHall$Sync;"⟩, 6), (⟨"SyncHall", "task", "(I)LSyncHall$Task;"⟩, 6), (⟨"SyncHall", "there", "(I)LSyncHall$Sync;"⟩, 6), (⟨"SyncHall", "interrupted", "(LSyncHall$Task;)I"⟩, 6), (⟨"SyncHall", "ended", "(LSyncHall$Task;I)I"⟩, 6), (⟨"SyncHall", "watch", "(LSyncHall$Task;I)V"⟩, 6), (⟨"SyncHall", "owns", "(LSyncHall$Task;I)Z"⟩, 6), (⟨"SyncHall", "leads", "(II)Z"⟩, 6), (⟨"SyncHall$Shared", "isInside", "(LSyncHall$Task;)Z"⟩, 6), (⟨"SyncHall$Shared", "writerWaits", "()Z"⟩, 6), (⟨"SyncHall$Shared", "othersRead", "(LSyncHall$Task;)Z"⟩, 6), (⟨"SyncHall", "endOf", "(D)D"⟩, 6), (⟨"SyncHall", "owned", "(LSyncHall$Task;I)LSyncHall$Condition;"⟩, 6), (⟨"SyncHall", "giveUp", "(LSyncHall$Waiter;I)V"⟩, 6), (⟨"SyncHall", "latest", "()LSyncHall$Waiter;"⟩, 6)]
theorem lw_r1 : ∀ q ∈ lw_privs_1, lw_okq q := List.forall_mem_cons.mpr ⟨lw_p0, List.forall_mem_cons.mpr ⟨lw_p1, List.forall_mem_cons.mpr ⟨lw_p2, List.forall_mem_cons.mpr ⟨lw_p3, List.forall_mem_cons.mpr ⟨lw_p4, List.forall_mem_cons.mpr ⟨lw_p5, List.forall_mem_cons.mpr ⟨lw_p6, List.forall_mem_cons.mpr ⟨lw_p7, List.forall_mem_cons.mpr ⟨lw_p8, List.forall_mem_cons.mpr ⟨lw_p9, List.forall_mem_cons.mpr ⟨lw_p10, List.forall_mem_cons.mpr ⟨lw_p11, List.forall_mem_cons.mpr ⟨lw_p12, List.forall_mem_cons.mpr ⟨lw_p13, List.forall_mem_cons.mpr ⟨lw_p14, List.forall_mem_cons.mpr ⟨lw_p15, fun _ h => absurd h List.not_mem_nil⟩⟩⟩⟩⟩⟩⟩⟩⟩⟩⟩⟩⟩⟩⟩⟩
theorem lw_p16 : lw_okq (⟨"SyncHallModel", "out", "(II)Z"⟩, 26) := ⟨⟨by decide +kernel, by decide +kernel⟩, lw_t4 (List.mem_of_getElem? (i := 125) rfl), lw_t4 (List.mem_of_getElem? (i := 219) rfl), lw_t4 (List.mem_of_getElem? (i := 220) rfl)⟩
theorem lw_p17 : lw_okq (⟨"SyncHallModel", "fail", "(I)I"⟩, 26) := ⟨⟨by decide +kernel, by decide +kernel⟩, lw_t4 (List.mem_of_getElem? (i := 125) rfl), lw_t4 (List.mem_of_getElem? (i := 223) rfl), lw_t4 (List.mem_of_getElem? (i := 224) rfl)⟩
theorem lw_p18 : lw_okq (⟨"SyncHallModel", "badLimit", "(D)Z"⟩, 26) := ⟨⟨by decide +kernel, by decide +kernel⟩, lw_t4 (List.mem_of_getElem? (i := 125) rfl), lw_t4 (List.mem_of_getElem? (i := 237) rfl), lw_t4 (List.mem_of_getElem? (i := 238) rfl)⟩
theorem lw_p19 : lw_okq (⟨"SyncHallModel", "check", "(II)I"⟩, 26) := ⟨⟨by decide +kernel, by decide +kernel⟩, lw_t4 (List.mem_of_getElem? (i := 125) rfl), lw_t5 (List.mem_of_getElem? (i := 2) rfl), lw_t5 (List.mem_of_getElem? (i := 3) rfl)⟩
theorem lw_p20 : lw_okq (⟨"SyncHallModel", "settle", "(II)I"⟩, 26) := ⟨⟨by decide +kernel, by decide +kernel⟩, lw_t4 (List.mem_of_getElem? (i := 125) rfl), lw_t5 (List.mem_of_getElem? (i := 6) rfl), lw_t5 (List.mem_of_getElem? (i := 7) rfl)⟩
theorem lw_p21 : lw_okq (⟨"SyncHallModel", "ordered", "(II)Z"⟩, 26) := ⟨⟨by decide +kernel, by decide +kernel⟩, lw_t4 (List.mem_of_getElem? (i := 125) rfl), lw_t5 (List.mem_of_getElem? (i := 10) rfl), lw_t5 (List.mem_of_getElem? (i := 11) rfl)⟩
theorem lw_p22 : lw_okq (⟨"SyncHallModel", "isLock", "(I)Z"⟩, 26) := ⟨⟨by decide +kernel, by decide +kernel⟩, lw_t4 (List.mem_of_getElem? (i := 125) rfl), lw_t5 (List.mem_of_getElem? (i := 14) rfl), lw_t5 (List.mem_of_getElem? (i := 15) rfl)⟩
theorem lw_p23 : lw_okq (⟨"SyncHallModel", "leads", "(II)Z"⟩, 26) := ⟨⟨by decide +kernel, by decide +kernel⟩, lw_t4 (List.mem_of_getElem? (i := 125) rfl), lw_t5 (List.mem_of_getElem? (i := 18) rfl), lw_t5 (List.mem_of_getElem? (i := 19) rfl)⟩
theorem lw_p24 : lw_okq (⟨"SyncHallModel", "mustQueue", "(III)Z"⟩, 26) := ⟨⟨by decide +kernel, by decide +kernel⟩, lw_t4 (List.mem_of_getElem? (i := 125) rfl), lw_t5 (List.mem_of_getElem? (i := 22) rfl), lw_t5 (List.mem_of_getElem? (i := 23) rfl)⟩
theorem lw_p25 : lw_okq (⟨"SyncHallModel", "canTake", "(III)Z"⟩, 26) := ⟨⟨by decide +kernel, by decide +kernel⟩, lw_t4 (List.mem_of_getElem? (i := 125) rfl), lw_t5 (List.mem_of_getElem? (i := 26) rfl), lw_t5 (List.mem_of_getElem? (i := 27) rfl)⟩
theorem lw_p26 : lw_okq (⟨"SyncHallModel", "take", "(III)V"⟩, 26) := ⟨⟨by decide +kernel, by decide +kernel⟩, lw_t4 (List.mem_of_getElem? (i := 125) rfl), lw_t5 (List.mem_of_getElem? (i := 30) rfl), lw_t5 (List.mem_of_getElem? (i := 31) rfl)⟩
theorem lw_p27 : lw_okq (⟨"SyncHallModel", "enter", "(II)V"⟩, 26) := ⟨⟨by decide +kernel, by decide +kernel⟩, lw_t4 (List.mem_of_getElem? (i := 125) rfl), lw_t5 (List.mem_of_getElem? (i := 34) rfl), lw_t5 (List.mem_of_getElem? (i := 35) rfl)⟩
theorem lw_p28 : lw_okq (⟨"SyncHallModel", "serve", "(I)V"⟩, 26) := ⟨⟨by decide +kernel, by decide +kernel⟩, lw_t4 (List.mem_of_getElem? (i := 125) rfl), lw_t5 (List.mem_of_getElem? (i := 42) rfl), lw_t5 (List.mem_of_getElem? (i := 43) rfl)⟩
theorem lw_p29 : lw_okq (⟨"SyncHallModel", "next", "(I)I"⟩, 26) := ⟨⟨by decide +kernel, by decide +kernel⟩, lw_t4 (List.mem_of_getElem? (i := 125) rfl), lw_t5 (List.mem_of_getElem? (i := 46) rfl), lw_t5 (List.mem_of_getElem? (i := 47) rfl)⟩
theorem lw_p30 : lw_okq (⟨"SyncHallModel", "remove", "(II)V"⟩, 26) := ⟨⟨by decide +kernel, by decide +kernel⟩, lw_t4 (List.mem_of_getElem? (i := 125) rfl), lw_t5 (List.mem_of_getElem? (i := 50) rfl), lw_t5 (List.mem_of_getElem? (i := 51) rfl)⟩
theorem lw_p31 : lw_okq (⟨"SyncHallModel", "addWaited", "(II)V"⟩, 26) := ⟨⟨by decide +kernel, by decide +kernel⟩, lw_t4 (List.mem_of_getElem? (i := 125) rfl), lw_t5 (List.mem_of_getElem? (i := 54) rfl), lw_t5 (List.mem_of_getElem? (i := 55) rfl)⟩
def lw_privs_2 : List (MethodName × Nat) := [(⟨"SyncHallModel", "out", "(II)Z"⟩, 26), (⟨"SyncHallModel", "fail", "(I)I"⟩, 26), (⟨"SyncHallModel", "badLimit", "(D)Z"⟩, 26), (⟨"SyncHallModel", "check", "(II)I"⟩, 26), (⟨"SyncHallModel", "settle", "(II)I"⟩, 26), (⟨"SyncHallModel", "ordered", "(II)Z"⟩, 26), (⟨"SyncHallModel", "isLock", "(I)Z"⟩, 26), (⟨"SyncHallModel", "leads", "(II)Z"⟩, 26), (⟨"SyncHallModel", "mustQueue", "(III)Z"⟩, 26), (⟨"SyncHallModel", "canTake", "(III)Z"⟩, 26), (⟨"SyncHallModel", "take", "(III)V"⟩, 26), (⟨"SyncHallModel", "enter", "(II)V"⟩, 26), (⟨"SyncHallModel", "serve", "(I)V"⟩, 26), (⟨"SyncHallModel", "next", "(I)I"⟩, 26), (⟨"SyncHallModel", "remove", "(II)V"⟩, 26), (⟨"SyncHallModel", "addWaited", "(II)V"⟩, 26)]
theorem lw_r2 : ∀ q ∈ lw_privs_2, lw_okq q := List.forall_mem_cons.mpr ⟨lw_p16, List.forall_mem_cons.mpr ⟨lw_p17, List.forall_mem_cons.mpr ⟨lw_p18, List.forall_mem_cons.mpr ⟨lw_p19, List.forall_mem_cons.mpr ⟨lw_p20, List.forall_mem_cons.mpr ⟨lw_p21, List.forall_mem_cons.mpr ⟨lw_p22, List.forall_mem_cons.mpr ⟨lw_p23, List.forall_mem_cons.mpr ⟨lw_p24, List.forall_mem_cons.mpr ⟨lw_p25, List.forall_mem_cons.mpr ⟨lw_p26, List.forall_mem_cons.mpr ⟨lw_p27, List.forall_mem_cons.mpr ⟨lw_p28, List.forall_mem_cons.mpr ⟨lw_p29, List.forall_mem_cons.mpr ⟨lw_p30, List.forall_mem_cons.mpr ⟨lw_p31, fun _ h => absurd h List.not_mem_nil⟩⟩⟩⟩⟩⟩⟩⟩⟩⟩⟩⟩⟩⟩⟩⟩
theorem lw_p32 : lw_okq (⟨"SyncHallModel", "checkCondition", "(II)I"⟩, 26) := ⟨⟨by decide +kernel, by decide +kernel⟩, lw_t4 (List.mem_of_getElem? (i := 125) rfl), lw_t5 (List.mem_of_getElem? (i := 62) rfl), lw_t5 (List.mem_of_getElem? (i := 63) rfl)⟩
theorem lw_p33 : lw_okq (⟨"SyncHallModel", "queue", "(III)V"⟩, 26) := ⟨⟨by decide +kernel, by decide +kernel⟩, lw_t4 (List.mem_of_getElem? (i := 125) rfl), lw_t5 (List.mem_of_getElem? (i := 66) rfl), lw_t5 (List.mem_of_getElem? (i := 67) rfl)⟩
theorem lw_p34 : lw_okq (⟨"SyncHallModel", "latest", "()I"⟩, 26) := ⟨⟨by decide +kernel, by decide +kernel⟩, lw_t4 (List.mem_of_getElem? (i := 125) rfl), lw_t5 (List.mem_of_getElem? (i := 82) rfl), lw_t5 (List.mem_of_getElem? (i := 83) rfl)⟩
def lw_privs_3 : List (MethodName × Nat) := [(⟨"SyncHallModel", "checkCondition", "(II)I"⟩, 26), (⟨"SyncHallModel", "queue", "(III)V"⟩, 26), (⟨"SyncHallModel", "latest", "()I"⟩, 26)]
theorem lw_r3 : ∀ q ∈ lw_privs_3, lw_okq q := List.forall_mem_cons.mpr ⟨lw_p32, List.forall_mem_cons.mpr ⟨lw_p33, List.forall_mem_cons.mpr ⟨lw_p34, fun _ h => absurd h List.not_mem_nil⟩⟩⟩
def lw_privs : List (MethodName × Nat) := lw_privs_1 ++ (lw_privs_2 ++ (lw_privs_3))
def lw_tbl : List Cond := k2_sels lw_privs ++ tables_1
theorem lw_privs_ok : ∀ q ∈ lw_privs, lw_okq q := by
  show ∀ q ∈ lw_privs_1 ++ (lw_privs_2 ++ (lw_privs_3)), lw_okq q
  exact List.forall_mem_append.mpr ⟨lw_r1, List.forall_mem_append.mpr ⟨lw_r2, lw_r3⟩⟩
-- ===== ONE list of words for every method: the tables' words that hold all through a run =====
def lw_all : List Cond := lw_tbl.filter goodWord
/-- a word of the tables by its place: claim/WORDS.tsv -/
theorem lw_w {w : Cond} (i : Nat) (h : lw_tbl[i]? = some w) (g : goodWord w = true) : w ∈ lw_all := List.mem_filter.mpr ⟨List.mem_of_getElem? h, g⟩
theorem lw_all_tbl {w : Cond} (h : w ∈ lw_all) : w ∈ lw_tbl := (List.mem_filter.mp h).1
theorem lw_self : GoodIn lw_all lw_all := fun w h => ⟨h, good_of_word (List.mem_filter.mp h).2⟩
/-- a class's field words, by their places -/
theorem lw_in (ws : List Cond) (ps : List Nat) (hp : ws = ps.filterMap (fun i => lw_tbl[i]?)) (hg : ws.all goodWord = true) : ∀ w ∈ ws, w ∈ lw_all := by
  intro w h
  have h1 := List.all_eq_true.mp hg w h
  rw [hp] at h
  obtain ⟨i, -, hi⟩ := List.mem_filterMap.mp h
  exact lw_w i hi h1
/-- the words of a contract for the method y with code b, L locals, answer r -/
abbrev ws_ (y : MethodName) (b : ByteArray) (L : Nat) (r : Option FieldType) : List Cond := Cond.code y b L r :: lw_all
theorem lw_meth {y : MethodName} {b : ByteArray} {L : Nat} {r : Option FieldType} (h : Cond.code y b L r ∈ lw_all) : GoodIn lw_all (ws_ y b L r) := by
  intro w hw
  rcases List.mem_cons.mp hw with e | e
  · rw [e]
    exact lw_self _ h
  · exact lw_self _ e
theorem lw_app {a c : List Cond} (ha : ∀ w ∈ a, w ∈ lw_all) (hc : GoodIn lw_all c) : GoodIn lw_all (a ++ c) := by
  intro w hw
  rcases List.mem_append.mp hw with e | e
  · exact lw_self w (ha w e)
  · exact hc w e
/-- what a call through an object asks: cwV n hts (lw_V ..) -/
theorem lw_V {own : String} {idx : Nat} {C : String} {y : MethodName} {b : ByteArray} {L : Nat} {r : Option FieldType} (h1 : Cond.methodLink own idx y ∈ lw_all) (h2 : Cond.instanceMethod y ∈ lw_all) (h3 : Cond.selects C y y ∈ lw_all) (h4 : Cond.initialized C ∈ lw_all) (h5 : Cond.code y b L r ∈ lw_all) : GoodIn lw_all (wsV own idx C y (ws_ y b L r)) := by
  refine lw_app ?_ (lw_meth h5)
  intro w hw
  simp only [List.mem_cons, List.not_mem_nil, or_false] at hw
  rcases hw with e | e | e | e
  · rw [e]; exact h1
  · rw [e]; exact h2
  · rw [e]; exact h3
  · rw [e]; exact h4
/-- what a static call asks: va_cwS n hts (lw_S ..) -/
theorem lw_S {own : String} {idx : Nat} {y : MethodName} {b : ByteArray} {L : Nat} {r : Option FieldType} (h1 : Cond.methodLink own idx y ∈ lw_all) (h2 : Cond.static y ∈ lw_all) (h3 : Cond.initialized y.cls ∈ lw_all) (h4 : Cond.code y b L r ∈ lw_all) : GoodIn lw_all (va_wsS own idx y (ws_ y b L r)) := by
  refine lw_app ?_ (lw_meth h4)
  intro w hw
  simp only [List.mem_cons, List.not_mem_nil, or_false] at hw
  rcases hw with e | e | e
  · rw [e]; exact h1
  · rw [e]; exact h2
  · rw [e]; exact h3
/-- the words of a contract for a method WITH HANDLERS (hh: its table) -/
abbrev wsW_ (y : MethodName) (b : ByteArray) (L : Nat) (r : Option FieldType) (hh : List (Nat × Nat × Nat × Nat)) : List Cond := Cond.codeWith y b L r hh :: lw_all
theorem lw_methW {y : MethodName} {b : ByteArray} {L : Nat} {r : Option FieldType} {hh : List (Nat × Nat × Nat × Nat)} (h : Cond.codeWith y b L r hh ∈ lw_all) : GoodIn lw_all (wsW_ y b L r hh) := by
  intro w hw
  rcases List.mem_cons.mp hw with e | e
  · rw [e]
    exact lw_self _ h
  · exact lw_self _ e
/-- any list of words by their places (lw_in), good -/
theorem lw_good {ws : List Cond} (h : ∀ w ∈ ws, w ∈ lw_all) : GoodIn lw_all ws := fun w hw => lw_self w (h w hw)
/-- what a call of a method with handlers asks: vx_cwVW n hts (lw_VW ..), vx_cwSW n hts (lw_SW ..) -/
theorem lw_VW {own : String} {idx : Nat} {C : String} {y : MethodName} {b : ByteArray} {L : Nat} {r : Option FieldType} {hh : List (Nat × Nat × Nat × Nat)} (h1 : Cond.methodLink own idx y ∈ lw_all) (h2 : Cond.instanceMethod y ∈ lw_all) (h3 : Cond.selects C y y ∈ lw_all) (h4 : Cond.initialized C ∈ lw_all) (h5 : Cond.codeWith y b L r hh ∈ lw_all) : GoodIn lw_all (wsV own idx C y (wsW_ y b L r hh)) := by
  refine lw_app ?_ (lw_methW h5)
  intro w hw
  simp only [List.mem_cons, List.not_mem_nil, or_false] at hw
  rcases hw with e | e | e | e
  · rw [e]; exact h1
  · rw [e]; exact h2
  · rw [e]; exact h3
  · rw [e]; exact h4
theorem lw_SW {own : String} {idx : Nat} {y : MethodName} {b : ByteArray} {L : Nat} {r : Option FieldType} {hh : List (Nat × Nat × Nat × Nat)} (h1 : Cond.methodLink own idx y ∈ lw_all) (h2 : Cond.static y ∈ lw_all) (h3 : Cond.initialized y.cls ∈ lw_all) (h4 : Cond.codeWith y b L r hh ∈ lw_all) : GoodIn lw_all (va_wsS own idx y (wsW_ y b L r hh)) := by
  refine lw_app ?_ (lw_methW h4)
  intro w hw
  simp only [List.mem_cons, List.not_mem_nil, or_false] at hw
  rcases hw with e | e | e
  · rw [e]; exact h1
  · rw [e]; exact h2
  · rw [e]; exact h3
/-- a word by its place in its run of the tables -/
theorem lw_at {r : List Cond} (hr : ∀ w ∈ r, w ∈ lw_tbl) {w : Cond} (i : Nat) (h : r[i]? = some w) : w ∈ lw_tbl := hr w (List.mem_of_getElem? h)
theorem lw_g {w : Cond} (h : w ∈ lw_tbl) (g : goodWord w = true) : w ∈ lw_all := List.mem_filter.mpr ⟨h, g⟩
theorem lw_ms : ∀ w ∈ k2_sels lw_privs, w ∈ lw_tbl := fun w h => show w ∈ k2_sels lw_privs ++ tables_1 from List.mem_append_left _ h
theorem lw_m1 : ∀ w ∈ tables_1_1, w ∈ lw_tbl := fun w h => show w ∈ k2_sels lw_privs ++ tables_1 from List.mem_append_right (k2_sels lw_privs) (show w ∈ tables_1 from List.mem_append_left _ h)
theorem lw_m2 : ∀ w ∈ tables_1_2, w ∈ lw_tbl := fun w h => show w ∈ k2_sels lw_privs ++ tables_1 from List.mem_append_right (k2_sels lw_privs) (show w ∈ tables_1 from List.mem_append_right _ (List.mem_append_left _ h))
theorem lw_m3 : ∀ w ∈ tables_1_3, w ∈ lw_tbl := fun w h => show w ∈ k2_sels lw_privs ++ tables_1 from List.mem_append_right (k2_sels lw_privs) (show w ∈ tables_1 from List.mem_append_right _ (List.mem_append_right _ (List.mem_append_left _ h)))
theorem lw_m4 : ∀ w ∈ tables_1_4, w ∈ lw_tbl := fun w h => show w ∈ k2_sels lw_privs ++ tables_1 from List.mem_append_right (k2_sels lw_privs) (show w ∈ tables_1 from List.mem_append_right _ (List.mem_append_right _ (List.mem_append_right _ (List.mem_append_left _ h))))
theorem lw_m5 : ∀ w ∈ tables_1_5, w ∈ lw_tbl := fun w h => show w ∈ k2_sels lw_privs ++ tables_1 from List.mem_append_right (k2_sels lw_privs) (show w ∈ tables_1 from List.mem_append_right _ (List.mem_append_right _ (List.mem_append_right _ (List.mem_append_right _ h))))
theorem qs0 : (Cond.selects "java/lang/Throwable" ⟨"java/lang/Throwable", "fillInStackTrace", "(I)Ljava/lang/Throwable;"⟩ ⟨"java/lang/Throwable", "fillInStackTrace", "(I)Ljava/lang/Throwable;"⟩) ∈ lw_all := lw_g (lw_at lw_ms 0 rfl) rfl
theorem qs1 : (Cond.selects "SyncHall" ⟨"SyncHall", "made", "(II)LSyncHall$Sync;"⟩ ⟨"SyncHall", "made", "(II)LSyncHall$Sync;"⟩) ∈ lw_all := lw_g (lw_at lw_ms 1 rfl) rfl
theorem qs2 : (Cond.selects "SyncHall" ⟨"SyncHall", "task", "(I)LSyncHall$Task;"⟩ ⟨"SyncHall", "task", "(I)LSyncHall$Task;"⟩) ∈ lw_all := lw_g (lw_at lw_ms 2 rfl) rfl
theorem qs3 : (Cond.selects "SyncHall" ⟨"SyncHall", "there", "(I)LSyncHall$Sync;"⟩ ⟨"SyncHall", "there", "(I)LSyncHall$Sync;"⟩) ∈ lw_all := lw_g (lw_at lw_ms 3 rfl) rfl
theorem qs4 : (Cond.selects "SyncHall" ⟨"SyncHall", "interrupted", "(LSyncHall$Task;)I"⟩ ⟨"SyncHall", "interrupted", "(LSyncHall$Task;)I"⟩) ∈ lw_all := lw_g (lw_at lw_ms 4 rfl) rfl
theorem qs5 : (Cond.selects "SyncHall" ⟨"SyncHall", "ended", "(LSyncHall$Task;I)I"⟩ ⟨"SyncHall", "ended", "(LSyncHall$Task;I)I"⟩) ∈ lw_all := lw_g (lw_at lw_ms 5 rfl) rfl
theorem qs6 : (Cond.selects "SyncHall" ⟨"SyncHall", "watch", "(LSyncHall$Task;I)V"⟩ ⟨"SyncHall", "watch", "(LSyncHall$Task;I)V"⟩) ∈ lw_all := lw_g (lw_at lw_ms 6 rfl) rfl
theorem qs7 : (Cond.selects "SyncHall" ⟨"SyncHall", "owns", "(LSyncHall$Task;I)Z"⟩ ⟨"SyncHall", "owns", "(LSyncHall$Task;I)Z"⟩) ∈ lw_all := lw_g (lw_at lw_ms 7 rfl) rfl
theorem qs8 : (Cond.selects "SyncHall" ⟨"SyncHall", "leads", "(II)Z"⟩ ⟨"SyncHall", "leads", "(II)Z"⟩) ∈ lw_all := lw_g (lw_at lw_ms 8 rfl) rfl
theorem qs9 : (Cond.selects "SyncHall$Shared" ⟨"SyncHall$Shared", "isInside", "(LSyncHall$Task;)Z"⟩ ⟨"SyncHall$Shared", "isInside", "(LSyncHall$Task;)Z"⟩) ∈ lw_all := lw_g (lw_at lw_ms 9 rfl) rfl
theorem qs10 : (Cond.selects "SyncHall$Shared" ⟨"SyncHall$Shared", "writerWaits", "()Z"⟩ ⟨"SyncHall$Shared", "writerWaits", "()Z"⟩) ∈ lw_all := lw_g (lw_at lw_ms 10 rfl) rfl
theorem qs11 : (Cond.selects "SyncHall$Shared" ⟨"SyncHall$Shared", "othersRead", "(LSyncHall$Task;)Z"⟩ ⟨"SyncHall$Shared", "othersRead", "(LSyncHall$Task;)Z"⟩) ∈ lw_all := lw_g (lw_at lw_ms 11 rfl) rfl
theorem qs12 : (Cond.selects "SyncHall" ⟨"SyncHall", "endOf", "(D)D"⟩ ⟨"SyncHall", "endOf", "(D)D"⟩) ∈ lw_all := lw_g (lw_at lw_ms 12 rfl) rfl
theorem qs13 : (Cond.selects "SyncHall" ⟨"SyncHall", "owned", "(LSyncHall$Task;I)LSyncHall$Condition;"⟩ ⟨"SyncHall", "owned", "(LSyncHall$Task;I)LSyncHall$Condition;"⟩) ∈ lw_all := lw_g (lw_at lw_ms 13 rfl) rfl
theorem qs14 : (Cond.selects "SyncHall" ⟨"SyncHall", "giveUp", "(LSyncHall$Waiter;I)V"⟩ ⟨"SyncHall", "giveUp", "(LSyncHall$Waiter;I)V"⟩) ∈ lw_all := lw_g (lw_at lw_ms 14 rfl) rfl
theorem qs15 : (Cond.selects "SyncHall" ⟨"SyncHall", "latest", "()LSyncHall$Waiter;"⟩ ⟨"SyncHall", "latest", "()LSyncHall$Waiter;"⟩) ∈ lw_all := lw_g (lw_at lw_ms 15 rfl) rfl
theorem qs16 : (Cond.selects "SyncHallModel" ⟨"SyncHallModel", "out", "(II)Z"⟩ ⟨"SyncHallModel", "out", "(II)Z"⟩) ∈ lw_all := lw_g (lw_at lw_ms 16 rfl) rfl
theorem qs17 : (Cond.selects "SyncHallModel" ⟨"SyncHallModel", "fail", "(I)I"⟩ ⟨"SyncHallModel", "fail", "(I)I"⟩) ∈ lw_all := lw_g (lw_at lw_ms 17 rfl) rfl
theorem qs18 : (Cond.selects "SyncHallModel" ⟨"SyncHallModel", "badLimit", "(D)Z"⟩ ⟨"SyncHallModel", "badLimit", "(D)Z"⟩) ∈ lw_all := lw_g (lw_at lw_ms 18 rfl) rfl
theorem qs19 : (Cond.selects "SyncHallModel" ⟨"SyncHallModel", "check", "(II)I"⟩ ⟨"SyncHallModel", "check", "(II)I"⟩) ∈ lw_all := lw_g (lw_at lw_ms 19 rfl) rfl
theorem qs20 : (Cond.selects "SyncHallModel" ⟨"SyncHallModel", "settle", "(II)I"⟩ ⟨"SyncHallModel", "settle", "(II)I"⟩) ∈ lw_all := lw_g (lw_at lw_ms 20 rfl) rfl
theorem qs21 : (Cond.selects "SyncHallModel" ⟨"SyncHallModel", "ordered", "(II)Z"⟩ ⟨"SyncHallModel", "ordered", "(II)Z"⟩) ∈ lw_all := lw_g (lw_at lw_ms 21 rfl) rfl
theorem qs22 : (Cond.selects "SyncHallModel" ⟨"SyncHallModel", "isLock", "(I)Z"⟩ ⟨"SyncHallModel", "isLock", "(I)Z"⟩) ∈ lw_all := lw_g (lw_at lw_ms 22 rfl) rfl
theorem qs23 : (Cond.selects "SyncHallModel" ⟨"SyncHallModel", "leads", "(II)Z"⟩ ⟨"SyncHallModel", "leads", "(II)Z"⟩) ∈ lw_all := lw_g (lw_at lw_ms 23 rfl) rfl
theorem qs24 : (Cond.selects "SyncHallModel" ⟨"SyncHallModel", "mustQueue", "(III)Z"⟩ ⟨"SyncHallModel", "mustQueue", "(III)Z"⟩) ∈ lw_all := lw_g (lw_at lw_ms 24 rfl) rfl
theorem qs25 : (Cond.selects "SyncHallModel" ⟨"SyncHallModel", "canTake", "(III)Z"⟩ ⟨"SyncHallModel", "canTake", "(III)Z"⟩) ∈ lw_all := lw_g (lw_at lw_ms 25 rfl) rfl
theorem qs26 : (Cond.selects "SyncHallModel" ⟨"SyncHallModel", "take", "(III)V"⟩ ⟨"SyncHallModel", "take", "(III)V"⟩) ∈ lw_all := lw_g (lw_at lw_ms 26 rfl) rfl
theorem qs27 : (Cond.selects "SyncHallModel" ⟨"SyncHallModel", "enter", "(II)V"⟩ ⟨"SyncHallModel", "enter", "(II)V"⟩) ∈ lw_all := lw_g (lw_at lw_ms 27 rfl) rfl
theorem qs28 : (Cond.selects "SyncHallModel" ⟨"SyncHallModel", "serve", "(I)V"⟩ ⟨"SyncHallModel", "serve", "(I)V"⟩) ∈ lw_all := lw_g (lw_at lw_ms 28 rfl) rfl
theorem qs29 : (Cond.selects "SyncHallModel" ⟨"SyncHallModel", "next", "(I)I"⟩ ⟨"SyncHallModel", "next", "(I)I"⟩) ∈ lw_all := lw_g (lw_at lw_ms 29 rfl) rfl
theorem qs30 : (Cond.selects "SyncHallModel" ⟨"SyncHallModel", "remove", "(II)V"⟩ ⟨"SyncHallModel", "remove", "(II)V"⟩) ∈ lw_all := lw_g (lw_at lw_ms 30 rfl) rfl
theorem qs31 : (Cond.selects "SyncHallModel" ⟨"SyncHallModel", "addWaited", "(II)V"⟩ ⟨"SyncHallModel", "addWaited", "(II)V"⟩) ∈ lw_all := lw_g (lw_at lw_ms 31 rfl) rfl
theorem qs32 : (Cond.selects "SyncHallModel" ⟨"SyncHallModel", "checkCondition", "(II)I"⟩ ⟨"SyncHallModel", "checkCondition", "(II)I"⟩) ∈ lw_all := lw_g (lw_at lw_ms 32 rfl) rfl
theorem qs33 : (Cond.selects "SyncHallModel" ⟨"SyncHallModel", "queue", "(III)V"⟩ ⟨"SyncHallModel", "queue", "(III)V"⟩) ∈ lw_all := lw_g (lw_at lw_ms 33 rfl) rfl
theorem qs34 : (Cond.selects "SyncHallModel" ⟨"SyncHallModel", "latest", "()I"⟩ ⟨"SyncHallModel", "latest", "()I"⟩) ∈ lw_all := lw_g (lw_at lw_ms 34 rfl) rfl
