/-! WHAT HOLDS ALL THROUGH THE RUN beside lw_all: castable, declares, nest links, array classes; pairs not castable; Throwable's two statics -/
def gW : Cond → Bool
  | .castable _ _ => true
  | .declares _ => true
  | .methodLinkNest _ _ _ _ => true
  | .arrayOver _ => true
  | _ => false
def gNc : List (String × String) := [("SyncHall$Semaphore", "SyncHall$Lock"), ("SyncHall$Latch", "SyncHall$Lock"), ("SyncHall$Shared", "SyncHall$Lock"), ("SyncHall$Condition", "SyncHall$Lock"), ("SyncHall$Lock", "SyncHall$Condition"), ("SyncHall$Semaphore", "SyncHall$Condition"), ("SyncHall$Latch", "SyncHall$Condition"), ("SyncHall$Shared", "SyncHall$Condition"), ("SyncHall$Lock", "SyncHall$Shared"), ("SyncHall$Semaphore", "SyncHall$Shared"), ("SyncHall$Latch", "SyncHall$Shared"), ("SyncHall$Condition", "SyncHall$Shared"),
  ("java/util/NoSuchElementException", "java/lang/IllegalArgumentException"), ("java/lang/IllegalStateException", "java/lang/IllegalArgumentException"), ("java/lang/IllegalStateException", "java/util/NoSuchElementException"), ("java/lang/UnsupportedOperationException", "java/lang/IllegalArgumentException"), ("java/lang/UnsupportedOperationException", "java/util/NoSuchElementException"), ("java/lang/UnsupportedOperationException", "java/lang/IllegalStateException"), ("java/lang/ArithmeticException", "java/lang/IllegalArgumentException"), ("java/lang/ArithmeticException", "java/util/NoSuchElementException")]
def Gw (U : State) : Prop := (∀ V : State, U.WarmedH V.vm → ∀ w ∈ lw_tbl, gW w = true → w.before #[] V = true) ∧ ∀ V : State, U.WarmedH V.vm → ∀ q ∈ gNc, va_Nc q.1 q.2 V
theorem Gw.moved {u U : State} (h : Gw u) (hW : u.WarmedH U.vm) : Gw U := ⟨fun V hV => h.1 V (State.WarmedH.trans hW hV), fun V hV => h.2 V (State.WarmedH.trans hW hV)⟩
theorem Gw.use {u : State} (h : Gw u) {w : Cond} (hw : w ∈ lw_tbl) (hg : gW w = true) : va_Nw w u := h.1 u (State.WarmedH.refl u) w hw hg
theorem Gw.nc {u : State} (h : Gw u) {C D : String} (hq : (C, D) ∈ gNc) : va_Nc C D u := h.2 u (State.WarmedH.refl u) (C, D) hq
def xsW : List Cond := [.laysStatic "java/lang/Throwable" "UNASSIGNED_STACK" "[Ljava/lang/StackTraceElement;", .laysStatic "java/lang/Throwable" "SUPPRESSED_SENTINEL" "Ljava/util/List;", .isRef (.static "java/lang/Throwable" "UNASSIGNED_STACK" "[Ljava/lang/StackTraceElement;"), .isRef (.static "java/lang/Throwable" "SUPPRESSED_SENTINEL" "Ljava/util/List;")]
/-- Throwable's statics lie in a cell that is not of A -/
def Xs (A : Nat → Prop) (U : State) (H : Heap) : Prop := ∃ (aS : Nat) (cell : Cell), H[aS]? = some cell ∧ ¬ A aS ∧ ∀ (V : State) (a : Array Value), U.vm.Alike V.vm → V.heap[aS]? = some cell → ∀ w ∈ xsW, w.before a V = true
theorem Xs.moved {A A' : Nat → Prop} {s U : State} {H : Heap} {locs : List Loc} (h : Xs A s s.heap) (hS : va_S A s.heap H locs) (hvm : s.vm.Alike U.vm) (hA : ∀ q, q < H.size → A' q → A q) : Xs A' U H := by
  obtain ⟨aS, cell, h1, h2, h3⟩ := h
  have hlt : aS < s.heap.size := (Array.getElem?_eq_some_iff.mp h1).1
  have h4 : H[aS]? = some cell := (hS.2.1 aS hlt h2).trans h1
  exact ⟨aS, cell, h4, fun z => h2 (hA aS (Array.getElem?_eq_some_iff.mp h4).1 z), fun V a hV hc => h3 V a (hvm.trans hV) hc⟩
theorem Xs.blind {A : Nat → Prop} {U U' : State} {H : Heap} (h : Xs A U H) (hvm : U'.vm = U.vm) : Xs A U' H := by
  obtain ⟨aS, cell, h1, h2, h3⟩ := h
  exact ⟨aS, cell, h1, h2, fun V a hV hc => h3 V a (by rw [← hvm]; exact hV) hc⟩
def xaN : List String := ["java/lang/RuntimeException", "java/lang/Exception"]
theorem xaN_fit : ∀ n ∈ xaN, Bundle.fit n = true := by decide +kernel
/-- the words of 'throw new X()' of which the class SyncHall speaks -/
theorem xa_all {s : State} {args : Array Value} {A : Nat → Prop} {ic : Nat} {X : String} (ps gs : List Nat) (hp : (Bundle.ownAtoms0 "SyncHall" ic X xaN).filter goodWord = ps.filterMap (fun i => lw_tbl[i]?)) (hgs : (Bundle.ownAtoms0 "SyncHall" ic X xaN).filter (fun w => !goodWord w && !(xsW.contains w)) = gs.filterMap (fun i => lw_tbl[i]?)) (hgg : (gs.filterMap (fun i => lw_tbl[i]?)).all (fun w => gW w && w.onTables) = true)
    (hts : ∀ w ∈ lw_all, w.before args s = true) (hG : Gw s) (hX : Xs A s s.heap) : ∀ a ∈ Bundle.ownAtoms0 "SyncHall" ic X xaN, a.before args s = true := by
  intro a ha
  by_cases hg : goodWord a = true
  · have h1 : a ∈ (Bundle.ownAtoms0 "SyncHall" ic X xaN).filter goodWord := List.mem_filter.mpr ⟨ha, hg⟩
    rw [hp] at h1
    obtain ⟨i, -, hi⟩ := List.mem_filterMap.mp h1
    exact hts a (lw_w i hi hg)
  · by_cases hx : xsW.contains a = true
    · obtain ⟨aS, cell, h1, h2, h3⟩ := hX
      exact h3 s args (Vm.Alike.refl s.vm) h1 a (List.contains_iff_mem.mp hx)
    · have h1 : a ∈ (Bundle.ownAtoms0 "SyncHall" ic X xaN).filter (fun w => !goodWord w && !(xsW.contains w)) := List.mem_filter.mpr ⟨ha, by
        show (!goodWord a && !xsW.contains a) = true
        rw [(Bool.not_eq_true _).mp hg, (Bool.not_eq_true _).mp hx]; rfl⟩
      rw [hgs] at h1
      have h2 := List.all_eq_true.mp hgg a h1
      simp only [Bool.and_eq_true] at h2
      obtain ⟨i, -, hi⟩ := List.mem_filterMap.mp h1
      exact va_Nw.use h2.2 (hG.use (List.mem_of_getElem? hi) h2.1)
set_option maxRecDepth 100000
theorem xa_IAE {s : State} {args : Array Value} {A : Nat → Prop} (hts : ∀ w ∈ lw_all, w.before args s = true) (hG : Gw s) (hX : Xs A s s.heap) : ∀ a ∈ Bundle.ownAtoms0 "SyncHall" 31 "java/lang/IllegalArgumentException" xaN, a.before args s = true :=
  xa_all [39, 157, 166, 172, 175, 177, 158, 159, 61, 62, 160, 165, 173, 190, 147, 191, 149, 192, 151, 161, 163, 153, 179, 180, 181, 182, 182, 183, 184, 185, 185, 186, 187, 158, 178, 136, 144, 145, 146, 148, 150, 152, 156, 155, 154] [138, 140, 142, 137] (by decide +kernel) (by decide +kernel) (by decide +kernel) hts hG hX
theorem xa_NSE {s : State} {args : Array Value} {A : Nat → Prop} (hts : ∀ w ∈ lw_all, w.before args s = true) (hG : Gw s) (hX : Xs A s s.heap) : ∀ a ∈ Bundle.ownAtoms0 "SyncHall" 34 "java/util/NoSuchElementException" xaN, a.before args s = true :=
  xa_all [39, 157, 166, 172, 175, 177, 158, 159, 61, 62, 160, 165, 173, 190, 147, 191, 149, 192, 151, 161, 163, 153, 215, 216, 217, 182, 182, 183, 184, 185, 185, 186, 187, 158, 214, 206, 208, 171, 209, 210, 211, 212, 156, 155, 213] [138, 140, 142, 207] (by decide +kernel) (by decide +kernel) (by decide +kernel) hts hG hX
theorem xa_ISE {s : State} {args : Array Value} {A : Nat → Prop} (hts : ∀ w ∈ lw_all, w.before args s = true) (hG : Gw s) (hX : Xs A s s.heap) : ∀ a ∈ Bundle.ownAtoms0 "SyncHall" 37 "java/lang/IllegalStateException" xaN, a.before args s = true :=
  xa_all [39, 157, 166, 172, 175, 177, 158, 159, 61, 62, 160, 165, 173, 190, 147, 191, 149, 192, 151, 161, 163, 153, 233, 234, 235, 182, 182, 183, 184, 185, 185, 186, 187, 158, 232, 224, 226, 169, 227, 228, 229, 230, 156, 155, 231] [138, 140, 142, 225] (by decide +kernel) (by decide +kernel) (by decide +kernel) hts hG hX
theorem xa_UOE {s : State} {args : Array Value} {A : Nat → Prop} (hts : ∀ w ∈ lw_all, w.before args s = true) (hG : Gw s) (hX : Xs A s s.heap) : ∀ a ∈ Bundle.ownAtoms0 "SyncHall" 40 "java/lang/UnsupportedOperationException" xaN, a.before args s = true :=
  xa_all [39, 157, 166, 172, 175, 177, 158, 159, 61, 62, 160, 165, 173, 190, 147, 191, 149, 192, 151, 161, 163, 153, 386, 387, 388, 182, 182, 183, 184, 185, 185, 186, 187, 158, 385, 377, 379, 170, 380, 381, 382, 383, 156, 155, 384] [138, 140, 142, 378] (by decide +kernel) (by decide +kernel) (by decide +kernel) hts hG hX
theorem xa_AE {s : State} {args : Array Value} {A : Nat → Prop} (hts : ∀ w ∈ lw_all, w.before args s = true) (hG : Gw s) (hX : Xs A s s.heap) : ∀ a ∈ Bundle.ownAtoms0 "SyncHall" 257 "java/lang/ArithmeticException" xaN, a.before args s = true :=
  xa_all [39, 157, 166, 172, 175, 177, 158, 159, 61, 62, 160, 165, 173, 190, 147, 191, 149, 192, 151, 161, 163, 153, 867, 868, 869, 182, 182, 183, 184, 185, 185, 186, 187, 158, 866, 825, 845, 168, 839, 840, 842, 838, 156, 155, 837] [138, 140, 142, 844] (by decide +kernel) (by decide +kernel) (by decide +kernel) hts hG hX
