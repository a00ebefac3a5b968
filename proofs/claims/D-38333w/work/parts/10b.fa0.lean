/-! the facts of the methods' entries (written by emit_fa.py) -/
set_option maxRecDepth 100000
/-- ints and longs that statics hold; classes that can't be cast -/
def iT : XT := ([("java/lang/StrictMath", "$assertionsDisabled", "Z", vI 1), ("java/lang/String", "COMPACT_STRINGS", "Z", vI 1), ("java/lang/StringUTF16", "$assertionsDisabled", "Z", vI 1), ("java/lang/StringUTF16", "HI_BYTE_SHIFT", "I", vI 0), ("java/lang/StringUTF16", "LO_BYTE_SHIFT", "I", vI 8), ("java/lang/Math", "negativeZeroDoubleBits", "J", vJ (Int64.ofNat 9223372036854775808))], [("java/lang/IllegalArgumentException", "java/lang/IllegalStateException"), ("java/lang/IllegalArgumentException", "java/lang/IndexOutOfBoundsException"), ("java/lang/IllegalArgumentException", "java/lang/IllegalMonitorStateException"), ("java/lang/IllegalStateException", "java/lang/IllegalArgumentException"), ("java/lang/IllegalStateException", "java/lang/IndexOutOfBoundsException"), ("java/lang/IllegalStateException", "java/lang/IllegalMonitorStateException"), ("java/lang/IndexOutOfBoundsException", "java/lang/IllegalArgumentException"), ("java/lang/IndexOutOfBoundsException", "java/lang/IllegalStateException"), ("java/lang/IndexOutOfBoundsException", "java/lang/IllegalMonitorStateException"), ("java/lang/IllegalMonitorStateException", "java/lang/IllegalArgumentException"), ("java/lang/IllegalMonitorStateException", "java/lang/IllegalStateException"), ("java/lang/IllegalMonitorStateException", "java/lang/IndexOutOfBoundsException")])
theorem at_ck {ws : List Cond} (h : ws.all (fun w => lw_tbl.any (fun v => decide (v = w)) && stW w) = true) : ∀ w ∈ ws, w ∈ lw_tbl ∧ stW w = true := fun w hw => by
  have h1 := List.all_eq_true.mp h w hw
  simp only [Bool.and_eq_true] at h1
  obtain ⟨v, hv, he⟩ := List.any_eq_true.mp h1.1
  exact ⟨of_decide_eq_true he ▸ hv, h1.2⟩
def HPrs (q : MI) (nT : List (String × String)) (bp : Nat → Nat) (pc k9 : Nat) : List Nat → Prop
  | E :: b :: t => Hnd q nT pc E k9 (bp b) ∧ HPrs q nT bp pc k9 t
  | _ => True
theorem hnd_prs {q : MI} {nT : List (String × String)} {bp : Nat → Nat} {pc k9 : Nat} : ∀ (hs : List Nat), HPrs q nT bp pc k9 hs → ∀ (i E b : Nat), hs[2 * i]? = some E → hs[2 * i + 1]? = some b → Hnd q nT pc E k9 (bp b)
  | [], _, i, _, _, h, _ => absurd h (by simp)
  | [_], _, i, _, _, _, h => absurd h (by simp)
  | a :: b :: t, h, 0, kd, m', h1, h2 => by
    simp at h1 h2
    subst h1; subst h2
    exact h.1
  | a :: b :: t, h, i + 1, kd, m', h1, h2 => by
    refine hnd_prs t h.2 i kd m' ?_ ?_
    · rw [show 2 * (i + 1) = 2 * i + 1 + 1 by omega] at h1; simpa using h1
    · rw [show 2 * (i + 1) + 1 = 2 * i + 1 + 1 + 1 by omega] at h2; simpa using h2
theorem oy_ne {a b : String} (h : a ≠ b) : a ≠ b := h
theorem oi_w : Cond.instanceMethod Lib.objectInit ∈ lw_tbl ∧ Cond.code Lib.objectInit ⟨#[0xb1]⟩ 1 none ∈ lw_tbl := ⟨W209, W210⟩

theorem QS0 : Cond.selects "KeelHouse" ({ cls := "KeelHouse", name := "isSoundNow", desc := "()Z" } : Jvm.MethodName) ({ cls := "KeelHouse", name := "isSoundNow", desc := "()Z" } : Jvm.MethodName) ∈ lw_tbl := lw_ms _ (List.mem_of_getElem? (i := 0) rfl)
theorem QS1 : Cond.selects "KeelHouse$Books" ({ cls := "KeelHouse$Books", name := "months", desc := "(III)I" } : Jvm.MethodName) ({ cls := "KeelHouse$Books", name := "months", desc := "(III)I" } : Jvm.MethodName) ∈ lw_tbl := lw_ms _ (List.mem_of_getElem? (i := 1) rfl)
theorem QS2 : Cond.selects "KeelHouse$Jobs" ({ cls := "KeelHouse$Jobs", name := "isOpen", desc := "(LKeelHouse$Job;)Z" } : Jvm.MethodName) ({ cls := "KeelHouse$Jobs", name := "isOpen", desc := "(LKeelHouse$Job;)Z" } : Jvm.MethodName) ∈ lw_tbl := lw_ms _ (List.mem_of_getElem? (i := 2) rfl)
theorem QS3 : Cond.selects "KeelHouse$Net" ({ cls := "KeelHouse$Net", name := "reach", desc := "()Z" } : Jvm.MethodName) ({ cls := "KeelHouse$Net", name := "reach", desc := "()Z" } : Jvm.MethodName) ∈ lw_tbl := lw_ms _ (List.mem_of_getElem? (i := 3) rfl)
theorem QS4 : Cond.selects "KeelHouse$Net" ({ cls := "KeelHouse$Net", name := "over", desc := "(LKeelHouse$Pipe;II)I" } : Jvm.MethodName) ({ cls := "KeelHouse$Net", name := "over", desc := "(LKeelHouse$Pipe;II)I" } : Jvm.MethodName) ∈ lw_tbl := lw_ms _ (List.mem_of_getElem? (i := 4) rfl)
theorem QS5 : Cond.selects "KeelHouse$Net" ({ cls := "KeelHouse$Net", name := "spare", desc := "()I" } : Jvm.MethodName) ({ cls := "KeelHouse$Net", name := "spare", desc := "()I" } : Jvm.MethodName) ∈ lw_tbl := lw_ms _ (List.mem_of_getElem? (i := 5) rfl)
theorem QS6 : Cond.selects "KeelHouse$Net" ({ cls := "KeelHouse$Net", name := "push", desc := "(I)V" } : Jvm.MethodName) ({ cls := "KeelHouse$Net", name := "push", desc := "(I)V" } : Jvm.MethodName) ∈ lw_tbl := lw_ms _ (List.mem_of_getElem? (i := 6) rfl)
theorem QS7 : Cond.selects "java/lang/Throwable" ({ cls := "java/lang/Throwable", name := "fillInStackTrace", desc := "(I)Ljava/lang/Throwable;" } : Jvm.MethodName) ({ cls := "java/lang/Throwable", name := "fillInStackTrace", desc := "(I)Ljava/lang/Throwable;" } : Jvm.MethodName) ∈ lw_tbl := lw_ms _ (List.mem_of_getElem? (i := 7) rfl)
theorem QS8 : Cond.selects "KeelHouse" ({ cls := "KeelHouse", name := "auditNow", desc := "(I)I" } : Jvm.MethodName) ({ cls := "KeelHouse", name := "auditNow", desc := "(I)I" } : Jvm.MethodName) ∈ lw_tbl := lw_ms _ (List.mem_of_getElem? (i := 8) rfl)
theorem QS9 : Cond.selects "KeelHouse" ({ cls := "KeelHouse", name := "auditAhead", desc := "(I)V" } : Jvm.MethodName) ({ cls := "KeelHouse", name := "auditAhead", desc := "(I)V" } : Jvm.MethodName) ∈ lw_tbl := lw_ms _ (List.mem_of_getElem? (i := 9) rfl)
theorem QS10 : Cond.selects "KeelHouse" ({ cls := "KeelHouse", name := "note", desc := "(I)V" } : Jvm.MethodName) ({ cls := "KeelHouse", name := "note", desc := "(I)V" } : Jvm.MethodName) ∈ lw_tbl := lw_ms _ (List.mem_of_getElem? (i := 10) rfl)
theorem QS11 : Cond.selects "KeelHouse" ({ cls := "KeelHouse", name := "spotNow", desc := "(II)I" } : Jvm.MethodName) ({ cls := "KeelHouse", name := "spotNow", desc := "(II)I" } : Jvm.MethodName) ∈ lw_tbl := lw_ms _ (List.mem_of_getElem? (i := 11) rfl)
theorem QS12 : Cond.selects "KeelHouse" ({ cls := "KeelHouse", name := "yardNow", desc := "(I)I" } : Jvm.MethodName) ({ cls := "KeelHouse", name := "yardNow", desc := "(I)I" } : Jvm.MethodName) ∈ lw_tbl := lw_ms _ (List.mem_of_getElem? (i := 12) rfl)
theorem QS13 : Cond.selects "KeelHouse" ({ cls := "KeelHouse", name := "auditShip", desc := "(LKeelHouse$Ship;I)V" } : Jvm.MethodName) ({ cls := "KeelHouse", name := "auditShip", desc := "(LKeelHouse$Ship;I)V" } : Jvm.MethodName) ∈ lw_tbl := lw_ms _ (List.mem_of_getElem? (i := 13) rfl)
theorem QS14 : Cond.selects "KeelHouse$Tank" ({ cls := "KeelHouse$Tank", name := "room", desc := "()D" } : Jvm.MethodName) ({ cls := "KeelHouse$Tank", name := "room", desc := "()D" } : Jvm.MethodName) ∈ lw_tbl := lw_ms _ (List.mem_of_getElem? (i := 14) rfl)
theorem QS15 : Cond.selects "KeelHouse$Lines" ({ cls := "KeelHouse$Lines", name := "slice", desc := "(II)D" } : Jvm.MethodName) ({ cls := "KeelHouse$Lines", name := "slice", desc := "(II)D" } : Jvm.MethodName) ∈ lw_tbl := lw_ms _ (List.mem_of_getElem? (i := 15) rfl)
theorem QS16 : Cond.selects "KeelHouse$Lines" ({ cls := "KeelHouse$Lines", name := "simpson", desc := "()D" } : Jvm.MethodName) ({ cls := "KeelHouse$Lines", name := "simpson", desc := "()D" } : Jvm.MethodName) ∈ lw_tbl := lw_ms _ (List.mem_of_getElem? (i := 16) rfl)
theorem QS17 : Cond.selects "KeelHouse$Trim" ({ cls := "KeelHouse$Trim", name := "tellAfloat", desc := "(I)D" } : Jvm.MethodName) ({ cls := "KeelHouse$Trim", name := "tellAfloat", desc := "(I)D" } : Jvm.MethodName) ∈ lw_tbl := lw_ms _ (List.mem_of_getElem? (i := 17) rfl)
theorem QS18 : Cond.selects "KeelHouse$Lines" ({ cls := "KeelHouse$Lines", name := "byVolume", desc := "(DD)D" } : Jvm.MethodName) ({ cls := "KeelHouse$Lines", name := "byVolume", desc := "(DD)D" } : Jvm.MethodName) ∈ lw_tbl := lw_ms _ (List.mem_of_getElem? (i := 18) rfl)
theorem QS19 : Cond.selects "KeelHouse$Flood" ({ cls := "KeelHouse$Flood", name := "spread", desc := "()V" } : Jvm.MethodName) ({ cls := "KeelHouse$Flood", name := "spread", desc := "()V" } : Jvm.MethodName) ∈ lw_tbl := lw_ms _ (List.mem_of_getElem? (i := 19) rfl)
theorem QS20 : Cond.selects "KeelHouse$Flood" ({ cls := "KeelHouse$Flood", name := "has", desc := "(I)Z" } : Jvm.MethodName) ({ cls := "KeelHouse$Flood", name := "has", desc := "(I)Z" } : Jvm.MethodName) ∈ lw_tbl := lw_ms _ (List.mem_of_getElem? (i := 20) rfl)
theorem QS21 : Cond.selects "KeelHouse$Flood" ({ cls := "KeelHouse$Flood", name := "settles", desc := "(D)Z" } : Jvm.MethodName) ({ cls := "KeelHouse$Flood", name := "settles", desc := "(D)Z" } : Jvm.MethodName) ∈ lw_tbl := lw_ms _ (List.mem_of_getElem? (i := 21) rfl)
theorem QS22 : Cond.selects "KeelHouse$Flood" ({ cls := "KeelHouse$Flood", name := "water", desc := "()D" } : Jvm.MethodName) ({ cls := "KeelHouse$Flood", name := "water", desc := "()D" } : Jvm.MethodName) ∈ lw_tbl := lw_ms _ (List.mem_of_getElem? (i := 22) rfl)
theorem QS23 : Cond.selects "KeelHouse$Flood" ({ cls := "KeelHouse$Flood", name := "runOver", desc := "()V" } : Jvm.MethodName) ({ cls := "KeelHouse$Flood", name := "runOver", desc := "()V" } : Jvm.MethodName) ∈ lw_tbl := lw_ms _ (List.mem_of_getElem? (i := 23) rfl)
theorem QS24 : Cond.selects "KeelHouse$Strength" ({ cls := "KeelHouse$Strength", name := "begin", desc := "(Z)Z" } : Jvm.MethodName) ({ cls := "KeelHouse$Strength", name := "begin", desc := "(Z)Z" } : Jvm.MethodName) ∈ lw_tbl := lw_ms _ (List.mem_of_getElem? (i := 24) rfl)
theorem QS25 : Cond.selects "KeelHouse$Strength" ({ cls := "KeelHouse$Strength", name := "carry", desc := "()V" } : Jvm.MethodName) ({ cls := "KeelHouse$Strength", name := "carry", desc := "()V" } : Jvm.MethodName) ∈ lw_tbl := lw_ms _ (List.mem_of_getElem? (i := 25) rfl)
theorem QS26 : Cond.selects "KeelHouse$Strength" ({ cls := "KeelHouse$Strength", name := "look", desc := "(I)V" } : Jvm.MethodName) ({ cls := "KeelHouse$Strength", name := "look", desc := "(I)V" } : Jvm.MethodName) ∈ lw_tbl := lw_ms _ (List.mem_of_getElem? (i := 26) rfl)
theorem QS27 : Cond.selects "KeelHouse$Strength" ({ cls := "KeelHouse$Strength", name := "meet", desc := "(LKeelHouse$Sea;)V" } : Jvm.MethodName) ({ cls := "KeelHouse$Strength", name := "meet", desc := "(LKeelHouse$Sea;)V" } : Jvm.MethodName) ∈ lw_tbl := lw_ms _ (List.mem_of_getElem? (i := 27) rfl)
theorem QS28 : Cond.selects "KeelHouse$Strength" ({ cls := "KeelHouse$Strength", name := "bear", desc := "(LKeelHouse$Sea;)V" } : Jvm.MethodName) ({ cls := "KeelHouse$Strength", name := "bear", desc := "(LKeelHouse$Sea;)V" } : Jvm.MethodName) ∈ lw_tbl := lw_ms _ (List.mem_of_getElem? (i := 28) rfl)
theorem QS29 : Cond.selects "KeelHouse$Strength" ({ cls := "KeelHouse$Strength", name := "water", desc := "(LKeelHouse$Sea;I)D" } : Jvm.MethodName) ({ cls := "KeelHouse$Strength", name := "water", desc := "(LKeelHouse$Sea;I)D" } : Jvm.MethodName) ∈ lw_tbl := lw_ms _ (List.mem_of_getElem? (i := 29) rfl)
theorem QS30 : Cond.selects "KeelHouse$Strength" ({ cls := "KeelHouse$Strength", name := "bend", desc := "()V" } : Jvm.MethodName) ({ cls := "KeelHouse$Strength", name := "bend", desc := "()V" } : Jvm.MethodName) ∈ lw_tbl := lw_ms _ (List.mem_of_getElem? (i := 30) rfl)
theorem QS31 : Cond.selects "KeelHouse$Strength" ({ cls := "KeelHouse$Strength", name := "worst", desc := "()I" } : Jvm.MethodName) ({ cls := "KeelHouse$Strength", name := "worst", desc := "()I" } : Jvm.MethodName) ∈ lw_tbl := lw_ms _ (List.mem_of_getElem? (i := 31) rfl)
theorem QS32 : Cond.selects "KeelHouse$Net" ({ cls := "KeelHouse$Net", name := "flowWithout", desc := "(LKeelHouse$Pipe;)I" } : Jvm.MethodName) ({ cls := "KeelHouse$Net", name := "flowWithout", desc := "(LKeelHouse$Pipe;)I" } : Jvm.MethodName) ∈ lw_tbl := lw_ms _ (List.mem_of_getElem? (i := 32) rfl)
theorem QS33 : Cond.selects "KeelHouse$Engine" ({ cls := "KeelHouse$Engine", name := "need", desc := "(DD)D" } : Jvm.MethodName) ({ cls := "KeelHouse$Engine", name := "need", desc := "(DD)D" } : Jvm.MethodName) ∈ lw_tbl := lw_ms _ (List.mem_of_getElem? (i := 33) rfl)
theorem QS34 : Cond.selects "KeelHouse" ({ cls := "KeelHouse", name := "auditBehind", desc := "(I)V" } : Jvm.MethodName) ({ cls := "KeelHouse", name := "auditBehind", desc := "(I)V" } : Jvm.MethodName) ∈ lw_tbl := lw_ms _ (List.mem_of_getElem? (i := 34) rfl)
theorem QS35 : Cond.selects "KeelHouse" ({ cls := "KeelHouse", name := "add", desc := "(J)J" } : Jvm.MethodName) ({ cls := "KeelHouse", name := "add", desc := "(J)J" } : Jvm.MethodName) ∈ lw_tbl := lw_ms _ (List.mem_of_getElem? (i := 35) rfl)
theorem QS36 : Cond.selects "KeelHouse$Jobs" ({ cls := "KeelHouse$Jobs", name := "line", desc := "()V" } : Jvm.MethodName) ({ cls := "KeelHouse$Jobs", name := "line", desc := "()V" } : Jvm.MethodName) ∈ lw_tbl := lw_ms _ (List.mem_of_getElem? (i := 36) rfl)
theorem QS37 : Cond.selects "java/util/ArrayList" ({ cls := "java/util/ArrayList", name := "add", desc := "(Ljava/lang/Object;[Ljava/lang/Object;I)V" } : Jvm.MethodName) ({ cls := "java/util/ArrayList", name := "add", desc := "(Ljava/lang/Object;[Ljava/lang/Object;I)V" } : Jvm.MethodName) ∈ lw_tbl := lw_ms _ (List.mem_of_getElem? (i := 37) rfl)
theorem QS38 : Cond.selects "java/util/ArrayList" ({ cls := "java/util/ArrayList", name := "grow", desc := "()[Ljava/lang/Object;" } : Jvm.MethodName) ({ cls := "java/util/ArrayList", name := "grow", desc := "()[Ljava/lang/Object;" } : Jvm.MethodName) ∈ lw_tbl := lw_ms _ (List.mem_of_getElem? (i := 38) rfl)
theorem QS39 : Cond.selects "java/util/ArrayList" ({ cls := "java/util/ArrayList", name := "grow", desc := "(I)[Ljava/lang/Object;" } : Jvm.MethodName) ({ cls := "java/util/ArrayList", name := "grow", desc := "(I)[Ljava/lang/Object;" } : Jvm.MethodName) ∈ lw_tbl := lw_ms _ (List.mem_of_getElem? (i := 39) rfl)
theorem QS40 : Cond.selects "KeelHouse" ({ cls := "KeelHouse", name := "shipAt", desc := "(I)LKeelHouse$Ship;" } : Jvm.MethodName) ({ cls := "KeelHouse", name := "shipAt", desc := "(I)LKeelHouse$Ship;" } : Jvm.MethodName) ∈ lw_tbl := lw_ms _ (List.mem_of_getElem? (i := 40) rfl)
theorem QS41 : Cond.selects "java/util/ArrayList" ({ cls := "java/util/ArrayList", name := "fastRemove", desc := "([Ljava/lang/Object;I)V" } : Jvm.MethodName) ({ cls := "java/util/ArrayList", name := "fastRemove", desc := "([Ljava/lang/Object;I)V" } : Jvm.MethodName) ∈ lw_tbl := lw_ms _ (List.mem_of_getElem? (i := 41) rfl)
theorem QS42 : Cond.selects "KeelHouse$Strength" ({ cls := "KeelHouse$Strength", name := "thin", desc := "()V" } : Jvm.MethodName) ({ cls := "KeelHouse$Strength", name := "thin", desc := "()V" } : Jvm.MethodName) ∈ lw_tbl := lw_ms _ (List.mem_of_getElem? (i := 42) rfl)
theorem QS43 : Cond.selects "KeelHouse$Strength" ({ cls := "KeelHouse$Strength", name := "thicken", desc := "(I)Z" } : Jvm.MethodName) ({ cls := "KeelHouse$Strength", name := "thicken", desc := "(I)Z" } : Jvm.MethodName) ∈ lw_tbl := lw_ms _ (List.mem_of_getElem? (i := 43) rfl)
theorem QS44 : Cond.selects "KeelHouse$Store" ({ cls := "KeelHouse$Store", name := "piece", desc := "(LKeelHouse$Kind;II)Ljava/util/Optional;" } : Jvm.MethodName) ({ cls := "KeelHouse$Store", name := "piece", desc := "(LKeelHouse$Kind;II)Ljava/util/Optional;" } : Jvm.MethodName) ∈ lw_tbl := lw_ms _ (List.mem_of_getElem? (i := 44) rfl)
theorem QS45 : Cond.selects "KeelHouse$Nest" ({ cls := "KeelHouse$Nest", name := "many", desc := "(Z)I" } : Jvm.MethodName) ({ cls := "KeelHouse$Nest", name := "many", desc := "(Z)I" } : Jvm.MethodName) ∈ lw_tbl := lw_ms _ (List.mem_of_getElem? (i := 45) rfl)
theorem QS46 : Cond.selects "KeelHouse$Nest" ({ cls := "KeelHouse$Nest", name := "measure", desc := "(ZZ)I" } : Jvm.MethodName) ({ cls := "KeelHouse$Nest", name := "measure", desc := "(ZZ)I" } : Jvm.MethodName) ∈ lw_tbl := lw_ms _ (List.mem_of_getElem? (i := 46) rfl)
theorem QS47 : Cond.selects "KeelHouse$Sales" ({ cls := "KeelHouse$Sales", name := "pay", desc := "(LKeelHouse$Buyer;I)V" } : Jvm.MethodName) ({ cls := "KeelHouse$Sales", name := "pay", desc := "(LKeelHouse$Buyer;I)V" } : Jvm.MethodName) ∈ lw_tbl := lw_ms _ (List.mem_of_getElem? (i := 47) rfl)
theorem QS48 : Cond.selects "KeelHouse" ({ cls := "KeelHouse", name := "begin", desc := "()V" } : Jvm.MethodName) ({ cls := "KeelHouse", name := "begin", desc := "()V" } : Jvm.MethodName) ∈ lw_tbl := lw_ms _ (List.mem_of_getElem? (i := 48) rfl)
theorem QS49 : Cond.selects "KeelHouse$Works" ({ cls := "KeelHouse$Works", name := "begin", desc := "()V" } : Jvm.MethodName) ({ cls := "KeelHouse$Works", name := "begin", desc := "()V" } : Jvm.MethodName) ∈ lw_tbl := lw_ms _ (List.mem_of_getElem? (i := 49) rfl)
theorem QS50 : Cond.selects "KeelHouse$Works" ({ cls := "KeelHouse$Works", name := "find", desc := "(ILKeelHouse$Ship;)Z" } : Jvm.MethodName) ({ cls := "KeelHouse$Works", name := "find", desc := "(ILKeelHouse$Ship;)Z" } : Jvm.MethodName) ∈ lw_tbl := lw_ms _ (List.mem_of_getElem? (i := 50) rfl)
theorem QS51 : Cond.selects "KeelHouse$Jobs" ({ cls := "KeelHouse$Jobs", name := "isPlace", desc := "(LKeelHouse$Job;)Z" } : Jvm.MethodName) ({ cls := "KeelHouse$Jobs", name := "isPlace", desc := "(LKeelHouse$Job;)Z" } : Jvm.MethodName) ∈ lw_tbl := lw_ms _ (List.mem_of_getElem? (i := 51) rfl)
theorem QS52 : Cond.selects "KeelHouse$Jobs" ({ cls := "KeelHouse$Jobs", name := "hasPlates", desc := "(LKeelHouse$Job;)Z" } : Jvm.MethodName) ({ cls := "KeelHouse$Jobs", name := "hasPlates", desc := "(LKeelHouse$Job;)Z" } : Jvm.MethodName) ∈ lw_tbl := lw_ms _ (List.mem_of_getElem? (i := 52) rfl)
theorem QS53 : Cond.selects "KeelHouse$Works" ({ cls := "KeelHouse$Works", name := "workAt", desc := "(LKeelHouse$Ship;LKeelHouse$Job;I)V" } : Jvm.MethodName) ({ cls := "KeelHouse$Works", name := "workAt", desc := "(LKeelHouse$Ship;LKeelHouse$Job;I)V" } : Jvm.MethodName) ∈ lw_tbl := lw_ms _ (List.mem_of_getElem? (i := 53) rfl)
theorem QS54 : Cond.selects "KeelHouse$Works" ({ cls := "KeelHouse$Works", name := "finish", desc := "(LKeelHouse$Ship;LKeelHouse$Job;)V" } : Jvm.MethodName) ({ cls := "KeelHouse$Works", name := "finish", desc := "(LKeelHouse$Ship;LKeelHouse$Job;)V" } : Jvm.MethodName) ∈ lw_tbl := lw_ms _ (List.mem_of_getElem? (i := 54) rfl)
theorem QS55 : Cond.selects "KeelHouse$Voyages" ({ cls := "KeelHouse$Voyages", name := "land", desc := "(LKeelHouse$Ship;)V" } : Jvm.MethodName) ({ cls := "KeelHouse$Voyages", name := "land", desc := "(LKeelHouse$Ship;)V" } : Jvm.MethodName) ∈ lw_tbl := lw_ms _ (List.mem_of_getElem? (i := 55) rfl)
theorem QS56 : Cond.selects "KeelHouse$Voyages" ({ cls := "KeelHouse$Voyages", name := "weathers", desc := "(LKeelHouse$Ship;)Z" } : Jvm.MethodName) ({ cls := "KeelHouse$Voyages", name := "weathers", desc := "(LKeelHouse$Ship;)Z" } : Jvm.MethodName) ∈ lw_tbl := lw_ms _ (List.mem_of_getElem? (i := 56) rfl)
theorem QS57 : Cond.selects "KeelHouse$Sales" ({ cls := "KeelHouse$Sales", name := "end", desc := "(LKeelHouse$Buyer;)V" } : Jvm.MethodName) ({ cls := "KeelHouse$Sales", name := "end", desc := "(LKeelHouse$Buyer;)V" } : Jvm.MethodName) ∈ lw_tbl := lw_ms _ (List.mem_of_getElem? (i := 57) rfl)
theorem QS58 : Cond.selects "KeelHouse$Sales" ({ cls := "KeelHouse$Sales", name := "fine", desc := "(LKeelHouse$Buyer;)V" } : Jvm.MethodName) ({ cls := "KeelHouse$Sales", name := "fine", desc := "(LKeelHouse$Buyer;)V" } : Jvm.MethodName) ∈ lw_tbl := lw_ms _ (List.mem_of_getElem? (i := 58) rfl)
theorem QS59 : Cond.selects "KeelHouse$Works" ({ cls := "KeelHouse$Works", name := "suppose", desc := "(LKeelHouse$Ship;I)V" } : Jvm.MethodName) ({ cls := "KeelHouse$Works", name := "suppose", desc := "(LKeelHouse$Ship;I)V" } : Jvm.MethodName) ∈ lw_tbl := lw_ms _ (List.mem_of_getElem? (i := 59) rfl)
theorem QS60 : Cond.selects "java/util/ArrayList" ({ cls := "java/util/ArrayList", name := "rangeCheckForAdd", desc := "(I)V" } : Jvm.MethodName) ({ cls := "java/util/ArrayList", name := "rangeCheckForAdd", desc := "(I)V" } : Jvm.MethodName) ∈ lw_tbl := lw_ms _ (List.mem_of_getElem? (i := 60) rfl)
theorem QS62 : Cond.selects "KeelHouse$Route" ({ cls := "KeelHouse$Route", name := "go", desc := "(LKeelHouse$Port;III)V" } : Jvm.MethodName) ({ cls := "KeelHouse$Route", name := "go", desc := "(LKeelHouse$Port;III)V" } : Jvm.MethodName) ∈ lw_tbl := lw_ms _ (List.mem_of_getElem? (i := 62) rfl)
theorem QS63 : Cond.selects "KeelHouseModel" ({ cls := "KeelHouseModel", name := "start", desc := "(ZI)Z" } : Jvm.MethodName) ({ cls := "KeelHouseModel", name := "start", desc := "(ZI)Z" } : Jvm.MethodName) ∈ lw_tbl := lw_ms _ (List.mem_of_getElem? (i := 63) rfl)
theorem QS64 : Cond.selects "KeelHouseModel" ({ cls := "KeelHouseModel", name := "refuse", desc := "(ZI)Z" } : Jvm.MethodName) ({ cls := "KeelHouseModel", name := "refuse", desc := "(ZI)Z" } : Jvm.MethodName) ∈ lw_tbl := lw_ms _ (List.mem_of_getElem? (i := 64) rfl)
theorem QS65 : Cond.selects "KeelHouseModel" ({ cls := "KeelHouseModel", name := "isNoShip", desc := "(I)Z" } : Jvm.MethodName) ({ cls := "KeelHouseModel", name := "isNoShip", desc := "(I)Z" } : Jvm.MethodName) ∈ lw_tbl := lw_ms _ (List.mem_of_getElem? (i := 65) rfl)
theorem QS66 : Cond.selects "KeelHouseModel" ({ cls := "KeelHouseModel", name := "hullOf", desc := "(LKeelHouseModel$Ship;I)I" } : Jvm.MethodName) ({ cls := "KeelHouseModel", name := "hullOf", desc := "(LKeelHouseModel$Ship;I)I" } : Jvm.MethodName) ∈ lw_tbl := lw_ms _ (List.mem_of_getElem? (i := 66) rfl)
theorem QS70 : Cond.selects "KeelHouseModel" ({ cls := "KeelHouseModel", name := "isNoRoom", desc := "(II)Z" } : Jvm.MethodName) ({ cls := "KeelHouseModel", name := "isNoRoom", desc := "(II)Z" } : Jvm.MethodName) ∈ lw_tbl := lw_ms _ (List.mem_of_getElem? (i := 70) rfl)
theorem QS71 : Cond.selects "KeelHouseModel$Ship" ({ cls := "KeelHouseModel$Ship", name := "loads", desc := "(Z)V" } : Jvm.MethodName) ({ cls := "KeelHouseModel$Ship", name := "loads", desc := "(Z)V" } : Jvm.MethodName) ∈ lw_tbl := lw_ms _ (List.mem_of_getElem? (i := 71) rfl)
theorem QS72 : Cond.selects "KeelHouseModel$Ship" ({ cls := "KeelHouseModel$Ship", name := "thickness", desc := "(IZ)I" } : Jvm.MethodName) ({ cls := "KeelHouseModel$Ship", name := "thickness", desc := "(IZ)I" } : Jvm.MethodName) ∈ lw_tbl := lw_ms _ (List.mem_of_getElem? (i := 72) rfl)
theorem QS73 : Cond.selects "KeelHouseModel$Ship" ({ cls := "KeelHouseModel$Ship", name := "load", desc := "(DIDD)V" } : Jvm.MethodName) ({ cls := "KeelHouseModel$Ship", name := "load", desc := "(DIDD)V" } : Jvm.MethodName) ∈ lw_tbl := lw_ms _ (List.mem_of_getElem? (i := 73) rfl)
theorem QS74 : Cond.selects "KeelHouseModel$Ship" ({ cls := "KeelHouseModel$Ship", name := "spread", desc := "(I)I" } : Jvm.MethodName) ({ cls := "KeelHouseModel$Ship", name := "spread", desc := "(I)I" } : Jvm.MethodName) ∈ lw_tbl := lw_ms _ (List.mem_of_getElem? (i := 74) rfl)
theorem QS75 : Cond.selects "KeelHouseModel$Ship" ({ cls := "KeelHouseModel$Ship", name := "hold", desc := "(D)D" } : Jvm.MethodName) ({ cls := "KeelHouseModel$Ship", name := "hold", desc := "(D)D" } : Jvm.MethodName) ∈ lw_tbl := lw_ms _ (List.mem_of_getElem? (i := 75) rfl)
theorem QS76 : Cond.selects "KeelHouseModel$Ship" ({ cls := "KeelHouseModel$Ship", name := "hardest", desc := "(D)I" } : Jvm.MethodName) ({ cls := "KeelHouseModel$Ship", name := "hardest", desc := "(D)I" } : Jvm.MethodName) ∈ lw_tbl := lw_ms _ (List.mem_of_getElem? (i := 76) rfl)
theorem QS77 : Cond.selects "KeelHouseModel" ({ cls := "KeelHouseModel", name := "strakeOf", desc := "(LKeelHouseModel$Ship;II)I" } : Jvm.MethodName) ({ cls := "KeelHouseModel", name := "strakeOf", desc := "(LKeelHouseModel$Ship;II)I" } : Jvm.MethodName) ∈ lw_tbl := lw_ms _ (List.mem_of_getElem? (i := 77) rfl)
theorem QS78 : Cond.selects "KeelHouseModel" ({ cls := "KeelHouseModel", name := "isNoKind", desc := "(I)Z" } : Jvm.MethodName) ({ cls := "KeelHouseModel", name := "isNoKind", desc := "(I)Z" } : Jvm.MethodName) ∈ lw_tbl := lw_ms _ (List.mem_of_getElem? (i := 78) rfl)
theorem QS79 : Cond.selects "KeelHouseModel" ({ cls := "KeelHouseModel", name := "book", desc := "(III)V" } : Jvm.MethodName) ({ cls := "KeelHouseModel", name := "book", desc := "(III)V" } : Jvm.MethodName) ∈ lw_tbl := lw_ms _ (List.mem_of_getElem? (i := 79) rfl)
theorem QS80 : Cond.selects "KeelHouseModel" ({ cls := "KeelHouseModel", name := "isCutWrong", desc := "(LKeelHouseModel$Ship;II)Z" } : Jvm.MethodName) ({ cls := "KeelHouseModel", name := "isCutWrong", desc := "(LKeelHouseModel$Ship;II)Z" } : Jvm.MethodName) ∈ lw_tbl := lw_ms _ (List.mem_of_getElem? (i := 80) rfl)
theorem QS81 : Cond.selects "KeelHouseModel" ({ cls := "KeelHouseModel", name := "cutNow", desc := "(LKeelHouseModel$Ship;II)I" } : Jvm.MethodName) ({ cls := "KeelHouseModel", name := "cutNow", desc := "(LKeelHouseModel$Ship;II)I" } : Jvm.MethodName) ∈ lw_tbl := lw_ms _ (List.mem_of_getElem? (i := 81) rfl)
theorem QS82 : Cond.selects "KeelHouseModel" ({ cls := "KeelHouseModel", name := "offcutFor", desc := "(III)I" } : Jvm.MethodName) ({ cls := "KeelHouseModel", name := "offcutFor", desc := "(III)I" } : Jvm.MethodName) ∈ lw_tbl := lw_ms _ (List.mem_of_getElem? (i := 82) rfl)
theorem QS83 : Cond.selects "KeelHouseModel" ({ cls := "KeelHouseModel", name := "sheetsFor", desc := "([III)I" } : Jvm.MethodName) ({ cls := "KeelHouseModel", name := "sheetsFor", desc := "([III)I" } : Jvm.MethodName) ∈ lw_tbl := lw_ms _ (List.mem_of_getElem? (i := 83) rfl)
theorem QS84 : Cond.selects "KeelHouseModel" ({ cls := "KeelHouseModel", name := "leave", desc := "(III)V" } : Jvm.MethodName) ({ cls := "KeelHouseModel", name := "leave", desc := "(III)V" } : Jvm.MethodName) ∈ lw_tbl := lw_ms _ (List.mem_of_getElem? (i := 84) rfl)
theorem QS85 : Cond.selects "KeelHouseModel" ({ cls := "KeelHouseModel", name := "storeOf", desc := "(II)I" } : Jvm.MethodName) ({ cls := "KeelHouseModel", name := "storeOf", desc := "(II)I" } : Jvm.MethodName) ∈ lw_tbl := lw_ms _ (List.mem_of_getElem? (i := 85) rfl)
theorem QS86 : Cond.selects "KeelHouseModel" ({ cls := "KeelHouseModel", name := "at", desc := "(I)I" } : Jvm.MethodName) ({ cls := "KeelHouseModel", name := "at", desc := "(I)I" } : Jvm.MethodName) ∈ lw_tbl := lw_ms _ (List.mem_of_getElem? (i := 86) rfl)
theorem QS87 : Cond.selects "KeelHouseModel$Ship" ({ cls := "KeelHouseModel$Ship", name := "hoursOf", desc := "(I)I" } : Jvm.MethodName) ({ cls := "KeelHouseModel$Ship", name := "hoursOf", desc := "(I)I" } : Jvm.MethodName) ∈ lw_tbl := lw_ms _ (List.mem_of_getElem? (i := 87) rfl)
theorem QS88 : Cond.selects "KeelHouseModel" ({ cls := "KeelHouseModel", name := "isStorm", desc := "()Z" } : Jvm.MethodName) ({ cls := "KeelHouseModel", name := "isStorm", desc := "()Z" } : Jvm.MethodName) ∈ lw_tbl := lw_ms _ (List.mem_of_getElem? (i := 88) rfl)
theorem QS89 : Cond.selects "KeelHouseModel" ({ cls := "KeelHouseModel", name := "pay", desc := "([II)V" } : Jvm.MethodName) ({ cls := "KeelHouseModel", name := "pay", desc := "([II)V" } : Jvm.MethodName) ∈ lw_tbl := lw_ms _ (List.mem_of_getElem? (i := 89) rfl)
theorem QS90 : Cond.selects "KeelHouseModel" ({ cls := "KeelHouseModel", name := "isOut", desc := "(LKeelHouseModel$Ship;)Z" } : Jvm.MethodName) ({ cls := "KeelHouseModel", name := "isOut", desc := "(LKeelHouseModel$Ship;)Z" } : Jvm.MethodName) ∈ lw_tbl := lw_ms _ (List.mem_of_getElem? (i := 90) rfl)
theorem QS91 : Cond.selects "KeelHouseModel" ({ cls := "KeelHouseModel", name := "spotOf", desc := "(II)I" } : Jvm.MethodName) ({ cls := "KeelHouseModel", name := "spotOf", desc := "(II)I" } : Jvm.MethodName) ∈ lw_tbl := lw_ms _ (List.mem_of_getElem? (i := 91) rfl)
theorem QS92 : Cond.selects "KeelHouseModel" ({ cls := "KeelHouseModel", name := "liesOf", desc := "(LKeelHouseModel$Ship;I)I" } : Jvm.MethodName) ({ cls := "KeelHouseModel", name := "liesOf", desc := "(LKeelHouseModel$Ship;I)I" } : Jvm.MethodName) ∈ lw_tbl := lw_ms _ (List.mem_of_getElem? (i := 92) rfl)
theorem QS93 : Cond.selects "KeelHouseModel" ({ cls := "KeelHouseModel", name := "oneDay", desc := "()V" } : Jvm.MethodName) ({ cls := "KeelHouseModel", name := "oneDay", desc := "()V" } : Jvm.MethodName) ∈ lw_tbl := lw_ms _ (List.mem_of_getElem? (i := 93) rfl)
theorem QS94 : Cond.selects "KeelHouseModel" ({ cls := "KeelHouseModel", name := "begin", desc := "()V" } : Jvm.MethodName) ({ cls := "KeelHouseModel", name := "begin", desc := "()V" } : Jvm.MethodName) ∈ lw_tbl := lw_ms _ (List.mem_of_getElem? (i := 94) rfl)
theorem QS95 : Cond.selects "KeelHouseModel$Works" ({ cls := "KeelHouseModel$Works", name := "reckonSlack", desc := "(I)V" } : Jvm.MethodName) ({ cls := "KeelHouseModel$Works", name := "reckonSlack", desc := "(I)V" } : Jvm.MethodName) ∈ lw_tbl := lw_ms _ (List.mem_of_getElem? (i := 95) rfl)
theorem QS96 : Cond.selects "KeelHouseModel$Works" ({ cls := "KeelHouseModel$Works", name := "days", desc := "(II)I" } : Jvm.MethodName) ({ cls := "KeelHouseModel$Works", name := "days", desc := "(II)I" } : Jvm.MethodName) ∈ lw_tbl := lw_ms _ (List.mem_of_getElem? (i := 96) rfl)
theorem QS97 : Cond.selects "KeelHouseModel$Works" ({ cls := "KeelHouseModel$Works", name := "team", desc := "(II)V" } : Jvm.MethodName) ({ cls := "KeelHouseModel$Works", name := "team", desc := "(II)V" } : Jvm.MethodName) ∈ lw_tbl := lw_ms _ (List.mem_of_getElem? (i := 97) rfl)
theorem QS98 : Cond.selects "KeelHouseModel$Works" ({ cls := "KeelHouseModel$Works", name := "isReady", desc := "(LKeelHouseModel$Ship;I)Z" } : Jvm.MethodName) ({ cls := "KeelHouseModel$Works", name := "isReady", desc := "(LKeelHouseModel$Ship;I)Z" } : Jvm.MethodName) ∈ lw_tbl := lw_ms _ (List.mem_of_getElem? (i := 98) rfl)
theorem QS99 : Cond.selects "KeelHouseModel$Works" ({ cls := "KeelHouseModel$Works", name := "finish", desc := "(LKeelHouseModel$Ship;I)V" } : Jvm.MethodName) ({ cls := "KeelHouseModel$Works", name := "finish", desc := "(LKeelHouseModel$Ship;I)V" } : Jvm.MethodName) ∈ lw_tbl := lw_ms _ (List.mem_of_getElem? (i := 99) rfl)
theorem QS100 : Cond.selects "KeelHouseModel$Ship" ({ cls := "KeelHouseModel$Ship", name := "push", desc := "(I[I)I" } : Jvm.MethodName) ({ cls := "KeelHouseModel$Ship", name := "push", desc := "(I[I)I" } : Jvm.MethodName) ∈ lw_tbl := lw_ms _ (List.mem_of_getElem? (i := 100) rfl)
theorem QS101 : Cond.selects "KeelHouseModel$Ship" ({ cls := "KeelHouseModel$Ship", name := "reach", desc := "(I[I)[I" } : Jvm.MethodName) ({ cls := "KeelHouseModel$Ship", name := "reach", desc := "(I[I)[I" } : Jvm.MethodName) ∈ lw_tbl := lw_ms _ (List.mem_of_getElem? (i := 101) rfl)
theorem QS102 : Cond.selects "KeelHouseModel$Ship" ({ cls := "KeelHouseModel$Ship", name := "isUsed", desc := "(II)Z" } : Jvm.MethodName) ({ cls := "KeelHouseModel$Ship", name := "isUsed", desc := "(II)Z" } : Jvm.MethodName) ∈ lw_tbl := lw_ms _ (List.mem_of_getElem? (i := 102) rfl)
theorem QS103 : Cond.selects "KeelHouseModel$Ship" ({ cls := "KeelHouseModel$Ship", name := "room", desc := "(IZ[I)I" } : Jvm.MethodName) ({ cls := "KeelHouseModel$Ship", name := "room", desc := "(IZ[I)I" } : Jvm.MethodName) ∈ lw_tbl := lw_ms _ (List.mem_of_getElem? (i := 103) rfl)
theorem QS104 : Cond.selects "KeelHouseModel$Ship" ({ cls := "KeelHouseModel$Ship", name := "need", desc := "(DDD)D" } : Jvm.MethodName) ({ cls := "KeelHouseModel$Ship", name := "need", desc := "(DDD)D" } : Jvm.MethodName) ∈ lw_tbl := lw_ms _ (List.mem_of_getElem? (i := 104) rfl)
theorem QS105 : Cond.selects "KeelHouseModel$Ship" ({ cls := "KeelHouseModel$Ship", name := "storm", desc := "()V" } : Jvm.MethodName) ({ cls := "KeelHouseModel$Ship", name := "storm", desc := "()V" } : Jvm.MethodName) ∈ lw_tbl := lw_ms _ (List.mem_of_getElem? (i := 105) rfl)
theorem QS106 : Cond.selects "KeelHouseModel$Ship" ({ cls := "KeelHouseModel$Ship", name := "arrive", desc := "()V" } : Jvm.MethodName) ({ cls := "KeelHouseModel$Ship", name := "arrive", desc := "()V" } : Jvm.MethodName) ∈ lw_tbl := lw_ms _ (List.mem_of_getElem? (i := 106) rfl)
theorem QS107 : Cond.selects "KeelHouseModel" ({ cls := "KeelHouseModel", name := "settle", desc := "([I)V" } : Jvm.MethodName) ({ cls := "KeelHouseModel", name := "settle", desc := "([I)V" } : Jvm.MethodName) ∈ lw_tbl := lw_ms _ (List.mem_of_getElem? (i := 107) rfl)
theorem QS108 : Cond.selects "KeelHouseModel" ({ cls := "KeelHouseModel", name := "worksOf", desc := "(LKeelHouseModel$Ship;I)I" } : Jvm.MethodName) ({ cls := "KeelHouseModel", name := "worksOf", desc := "(LKeelHouseModel$Ship;I)I" } : Jvm.MethodName) ∈ lw_tbl := lw_ms _ (List.mem_of_getElem? (i := 108) rfl)
theorem QS109 : Cond.selects "KeelHouseModel" ({ cls := "KeelHouseModel", name := "yardOf", desc := "(I)I" } : Jvm.MethodName) ({ cls := "KeelHouseModel", name := "yardOf", desc := "(I)I" } : Jvm.MethodName) ∈ lw_tbl := lw_ms _ (List.mem_of_getElem? (i := 109) rfl)
theorem QS110 : Cond.selects "KeelHouseModel$Ship" ({ cls := "KeelHouseModel$Ship", name := "pipesThat", desc := "(I)I" } : Jvm.MethodName) ({ cls := "KeelHouseModel$Ship", name := "pipesThat", desc := "(I)I" } : Jvm.MethodName) ∈ lw_tbl := lw_ms _ (List.mem_of_getElem? (i := 110) rfl)
theorem QS111 : Cond.selects "KeelHouseModel$Ship" ({ cls := "KeelHouseModel$Ship", name := "spare", desc := "()I" } : Jvm.MethodName) ({ cls := "KeelHouseModel$Ship", name := "spare", desc := "()I" } : Jvm.MethodName) ∈ lw_tbl := lw_ms _ (List.mem_of_getElem? (i := 111) rfl)
theorem QS112 : Cond.selects "KeelHouseModel" ({ cls := "KeelHouseModel", name := "isNoBuyer", desc := "(I)Z" } : Jvm.MethodName) ({ cls := "KeelHouseModel", name := "isNoBuyer", desc := "(I)Z" } : Jvm.MethodName) ∈ lw_tbl := lw_ms _ (List.mem_of_getElem? (i := 112) rfl)
theorem QS113 : Cond.selects "KeelHouseModel" ({ cls := "KeelHouseModel", name := "isTaken", desc := "(I)Z" } : Jvm.MethodName) ({ cls := "KeelHouseModel", name := "isTaken", desc := "(I)Z" } : Jvm.MethodName) ∈ lw_tbl := lw_ms _ (List.mem_of_getElem? (i := 113) rfl)
theorem QS114 : Cond.selects "KeelHouseModel" ({ cls := "KeelHouseModel", name := "rival", desc := "([I)I" } : Jvm.MethodName) ({ cls := "KeelHouseModel", name := "rival", desc := "([I)I" } : Jvm.MethodName) ∈ lw_tbl := lw_ms _ (List.mem_of_getElem? (i := 114) rfl)
theorem QS115 : Cond.selects "KeelHouseModel" ({ cls := "KeelHouseModel", name := "isFit", desc := "([ILKeelHouseModel$Ship;)Z" } : Jvm.MethodName) ({ cls := "KeelHouseModel", name := "isFit", desc := "([ILKeelHouseModel$Ship;)Z" } : Jvm.MethodName) ∈ lw_tbl := lw_ms _ (List.mem_of_getElem? (i := 115) rfl)
theorem QS116 : Cond.selects "KeelHouseModel" ({ cls := "KeelHouseModel", name := "saleOf", desc := "([II)I" } : Jvm.MethodName) ({ cls := "KeelHouseModel", name := "saleOf", desc := "([II)I" } : Jvm.MethodName) ∈ lw_tbl := lw_ms _ (List.mem_of_getElem? (i := 116) rfl)
theorem QS117 : Cond.selects "KeelHouseModel" ({ cls := "KeelHouseModel", name := "isNoPort", desc := "(I)Z" } : Jvm.MethodName) ({ cls := "KeelHouseModel", name := "isNoPort", desc := "(I)Z" } : Jvm.MethodName) ∈ lw_tbl := lw_ms _ (List.mem_of_getElem? (i := 117) rfl)
theorem QS118 : Cond.selects "KeelHouseModel" ({ cls := "KeelHouseModel", name := "isLet", desc := "(LKeelHouseModel$Ship;LKeelHouseModel$Lot;I)Z" } : Jvm.MethodName) ({ cls := "KeelHouseModel", name := "isLet", desc := "(LKeelHouseModel$Ship;LKeelHouseModel$Lot;I)Z" } : Jvm.MethodName) ∈ lw_tbl := lw_ms _ (List.mem_of_getElem? (i := 118) rfl)
theorem QS119 : Cond.selects "KeelHouseModel" ({ cls := "KeelHouseModel", name := "tonnesIn", desc := "(II)I" } : Jvm.MethodName) ({ cls := "KeelHouseModel", name := "tonnesIn", desc := "(II)I" } : Jvm.MethodName) ∈ lw_tbl := lw_ms _ (List.mem_of_getElem? (i := 119) rfl)
theorem QS120 : Cond.selects "KeelHouseModel" ({ cls := "KeelHouseModel", name := "hasFire", desc := "(II)Z" } : Jvm.MethodName) ({ cls := "KeelHouseModel", name := "hasFire", desc := "(II)Z" } : Jvm.MethodName) ∈ lw_tbl := lw_ms _ (List.mem_of_getElem? (i := 120) rfl)
theorem QS121 : Cond.selects "KeelHouseModel" ({ cls := "KeelHouseModel", name := "way", desc := "(II)I" } : Jvm.MethodName) ({ cls := "KeelHouseModel", name := "way", desc := "(II)I" } : Jvm.MethodName) ∈ lw_tbl := lw_ms _ (List.mem_of_getElem? (i := 121) rfl)
theorem QS122 : Cond.selects "KeelHouseModel" ({ cls := "KeelHouseModel", name := "lotOf", desc := "(LKeelHouseModel$Lot;I)I" } : Jvm.MethodName) ({ cls := "KeelHouseModel", name := "lotOf", desc := "(LKeelHouseModel$Lot;I)I" } : Jvm.MethodName) ∈ lw_tbl := lw_ms _ (List.mem_of_getElem? (i := 122) rfl)
theorem QS123 : Cond.selects "KeelHouseModel" ({ cls := "KeelHouseModel", name := "least", desc := "(II)I" } : Jvm.MethodName) ({ cls := "KeelHouseModel", name := "least", desc := "(II)I" } : Jvm.MethodName) ∈ lw_tbl := lw_ms _ (List.mem_of_getElem? (i := 123) rfl)
theorem QS124 : Cond.selects "KeelHouseModel" ({ cls := "KeelHouseModel", name := "booked", desc := "(III)I" } : Jvm.MethodName) ({ cls := "KeelHouseModel", name := "booked", desc := "(III)I" } : Jvm.MethodName) ∈ lw_tbl := lw_ms _ (List.mem_of_getElem? (i := 124) rfl)
theorem QS125 : Cond.selects "KeelHouseModel" ({ cls := "KeelHouseModel", name := "audited", desc := "(I)I" } : Jvm.MethodName) ({ cls := "KeelHouseModel", name := "audited", desc := "(I)I" } : Jvm.MethodName) ∈ lw_tbl := lw_ms _ (List.mem_of_getElem? (i := 125) rfl)
theorem QS126 : Cond.selects "KeelHouseModel" ({ cls := "KeelHouseModel", name := "audited", desc := "(LKeelHouseModel$Ship;II)I" } : Jvm.MethodName) ({ cls := "KeelHouseModel", name := "audited", desc := "(LKeelHouseModel$Ship;II)I" } : Jvm.MethodName) ∈ lw_tbl := lw_ms _ (List.mem_of_getElem? (i := 126) rfl)
theorem QS127 : Cond.selects "KeelHouseModel" ({ cls := "KeelHouseModel", name := "isWhole", desc := "()Z" } : Jvm.MethodName) ({ cls := "KeelHouseModel", name := "isWhole", desc := "()Z" } : Jvm.MethodName) ∈ lw_tbl := lw_ms _ (List.mem_of_getElem? (i := 127) rfl)
theorem QS128 : Cond.selects "KeelHouseModel" ({ cls := "KeelHouseModel", name := "isSoundAt", desc := "(LKeelHouseModel$Ship;)Z" } : Jvm.MethodName) ({ cls := "KeelHouseModel", name := "isSoundAt", desc := "(LKeelHouseModel$Ship;)Z" } : Jvm.MethodName) ∈ lw_tbl := lw_ms _ (List.mem_of_getElem? (i := 128) rfl)
theorem ac_w : Cond.native arraycopyName ∈ lw_tbl ∧ Cond.static arraycopyName ∈ lw_tbl ∧ Cond.initialized "java/lang/System" ∈ lw_tbl := ⟨W2506, W2505, W174⟩
theorem dl_w : Cond.native d2lN ∈ lw_tbl ∧ Cond.static d2lN ∈ lw_tbl ∧ Cond.initialized "java/lang/Double" ∈ lw_tbl := ⟨W1321, W1320, W181⟩
theorem ld_w : Cond.native l2dN ∈ lw_tbl ∧ Cond.static l2dN ∈ lw_tbl ∧ Cond.initialized "java/lang/Double" ∈ lw_tbl := ⟨W1325, W1324, W181⟩
theorem mo_w0 : Cond.static (moN 0) ∈ lw_tbl ∧ Cond.initialized "java/lang/Math" ∈ lw_tbl ∧ Cond.code (moN 0) prog_97_method_64_code (moL 0) (some .double) ∈ lw_tbl := ⟨W1317, W171, W1318⟩
theorem mo_w1 : Cond.static (moN 1) ∈ lw_tbl ∧ Cond.initialized "java/lang/Math" ∈ lw_tbl ∧ Cond.code (moN 1) prog_97_method_68_code (moL 1) (some .double) ∈ lw_tbl := ⟨W1426, W171, W1427⟩
theorem mo_w2 : Cond.static (moN 2) ∈ lw_tbl ∧ Cond.initialized "java/lang/Math" ∈ lw_tbl ∧ Cond.code (moN 2) prog_97_method_72_code (moL 2) (some .double) ∈ lw_tbl := ⟨W1488, W171, W1489⟩
theorem gc_w : Cond.declares gcN ∈ lw_tbl ∧ Cond.selects "[Ljava/lang/Object;" gcN gcN ∈ lw_tbl ∧ Cond.instanceMethod gcN ∈ lw_tbl ∧ Cond.native gcN ∈ lw_tbl := ⟨W5729, W5728, W2414, W2496⟩
theorem cl_w : Cond.sameMethod "[B" "java/lang/Object" "clone" "()Ljava/lang/Object;" ∈ lw_tbl ∧ Cond.native cloN ∈ lw_tbl ∧ Cond.instanceMethod cloN ∈ lw_tbl ∧ Cond.selects "[B" ⟨"[B", "clone", "()Ljava/lang/Object;"⟩ cloN ∈ lw_tbl ∧ Cond.castable "[B" "java/lang/Cloneable" ∈ lw_tbl := ⟨W3983, W3984, W3985, W3986, W3987⟩
theorem mi_at_X9_go {m : Nat} (hm : 1999 ≤ m ∧ m ≤ 2099) : mi m = mi_X9_go (m - 1999) := by
  unfold mi
  rw [show Nat.ble 1999 m = true from Nat.ble_eq_true_of_le (by omega), show Nat.ble m 2099 = true from Nat.ble_eq_true_of_le (by omega)]
theorem mi_pred_X9_go {m : Nat} (hm : 2000 ≤ m ∧ m ≤ 2099) : mi (m - 1) = mi_X9_go (m - 1 - 1999) := mi_at_X9_go (by omega)
theorem rkc_X9_go {m k : Nat} (h : k ≤ 4) : Nat.ble k (mi_X9_go (m - 1999)).2.2.2.2.2 = true := Nat.ble_eq_true_of_le (by show k ≤ 4 + (m - 1999); omega)
theorem rk_X9_go {m : Nat} (hm : 2000 ≤ m ∧ m ≤ 2099) : Nat.ble ((mi_X9_go (m - 1 - 1999)).2.2.2.2.2 + 1) (mi_X9_go (m - 1999)).2.2.2.2.2 = true := Nat.ble_eq_true_of_le (by show 4 + (m - 1 - 1999) + 1 ≤ 4 + (m - 1999); omega)
theorem mi_at_X10_least {m : Nat} (hm : 2999 ≤ m ∧ m ≤ 3099) : mi m = mi_X10_least (m - 2999) := by
  unfold mi
  rw [show Nat.ble 1999 m = true from Nat.ble_eq_true_of_le (by omega), show Nat.ble m 2099 = false from by cases h : Nat.ble m 2099 with | false => rfl | true => exact absurd (Nat.le_of_ble_eq_true h) (by omega)]
theorem mi_pred_X10_least {m : Nat} (hm : 3000 ≤ m ∧ m ≤ 3099) : mi (m - 1) = mi_X10_least (m - 1 - 2999) := mi_at_X10_least (by omega)
theorem rkc_X10_least {m k : Nat} (h : k ≤ 5) : Nat.ble k (mi_X10_least (m - 2999)).2.2.2.2.2 = true := Nat.ble_eq_true_of_le (by show k ≤ 5 + (m - 2999); omega)
theorem rk_X10_least {m : Nat} (hm : 3000 ≤ m ∧ m ≤ 3099) : Nat.ble ((mi_X10_least (m - 1 - 2999)).2.2.2.2.2 + 1) (mi_X10_least (m - 2999)).2.2.2.2.2 = true := Nat.ble_eq_true_of_le (by show 5 + (m - 1 - 2999) + 1 ≤ 5 + (m - 2999); omega)
theorem mt_1 : mi 1 = mi_1 := rfl
theorem cf_1 : CalF mi_1 := ⟨W256, by decide⟩
theorem oy_java_util_AbstractCollection : ∀ (n d : String), okY ⟨"java/util/AbstractCollection", n, d⟩ := fun _ _ => ⟨show "java/util/AbstractCollection" ≠ "java/lang/invoke/MethodHandle" by decide, show "java/util/AbstractCollection" ≠ "java/lang/invoke/VarHandle" by decide⟩
theorem ic_1 : IcF mi_1 0 := ⟨cf_1, rfl, W255, rfl, oy_java_util_AbstractCollection _ _, _, rfl⟩
theorem fld_5_0 : FldF 5 0 0 21 ("java/util/AbstractList", "modCount", "I", false) := ⟨_, rfl, by decide, by decide, by decide, rfl, rfl⟩
theorem mt_2 : mi 2 = mi_2 := rfl
theorem cf_2 : CalF mi_2 := ⟨W253, by decide⟩
theorem oy_java_util_AbstractList : ∀ (n d : String), okY ⟨"java/util/AbstractList", n, d⟩ := fun _ _ => ⟨show "java/util/AbstractList" ≠ "java/lang/invoke/MethodHandle" by decide, show "java/util/AbstractList" ≠ "java/lang/invoke/VarHandle" by decide⟩
theorem ic_2 : IcF mi_2 0 := ⟨cf_2, rfl, W252, rfl, oy_java_util_AbstractList _ _, _, rfl⟩
theorem fld_5_1 : FldF 5 1 3 22 ("java/util/ArrayList", "elementData", "[Ljava/lang/Object;", false) := ⟨_, rfl, by decide, by decide, by decide, rfl, rfl⟩
theorem mt_3 : mi 3 = mi_3 := rfl
theorem nf_11 : NewF 11 4 "java/util/ArrayList$Itr" := ⟨_, rfl, by decide, by decide, by decide, by decide, rfl, W476, W182⟩
theorem cf_86 : CalF mi_86 := ⟨W479, by decide⟩
theorem oy_java_util_ArrayList_Itr : ∀ (n d : String), okY ⟨"java/util/ArrayList$Itr", n, d⟩ := fun _ _ => ⟨show "java/util/ArrayList$Itr" ≠ "java/lang/invoke/MethodHandle" by decide, show "java/util/ArrayList$Itr" ≠ "java/lang/invoke/VarHandle" by decide⟩
theorem ic_86 : IcF mi_86 1 := ⟨cf_86, rfl, W478, rfl, oy_java_util_ArrayList_Itr _ _, _, rfl⟩
theorem mt_86 : mi 86 = mi_86 := rfl
theorem mt_4 : mi 4 = mi_4 := rfl
theorem fld_5_2 : FldF 5 2 0 23 ("java/util/ArrayList", "size", "I", false) := ⟨_, rfl, by decide, by decide, by decide, rfl, rfl⟩
theorem mt_5 : mi 5 = mi_5 := rfl
theorem cf_84 : CalF mi_84 := ⟨W579, by decide⟩
theorem oy_java_util_Objects : ∀ (n d : String), okY ⟨"java/util/Objects", n, d⟩ := fun _ _ => ⟨show "java/util/Objects" ≠ "java/lang/invoke/MethodHandle" by decide, show "java/util/Objects" ≠ "java/lang/invoke/VarHandle" by decide⟩
theorem sf_84 : StF mi_84 2 := ⟨cf_84, W578, W179, oy_java_util_Objects _ _, rfl⟩
theorem mt_84 : mi 84 = mi_84 := rfl
theorem kn_5 : KN 5 "java/util/ArrayList" := ⟨by decide, Or.inl ⟨_, rfl, by decide, rfl⟩⟩
theorem cf_7 : CalF mi_7 := ⟨W586, by decide⟩
theorem oy_java_util_ArrayList : ∀ (n d : String), okY ⟨"java/util/ArrayList", n, d⟩ := fun _ _ => ⟨show "java/util/ArrayList" ≠ "java/lang/invoke/MethodHandle" by decide, show "java/util/ArrayList" ≠ "java/lang/invoke/VarHandle" by decide⟩
theorem vf_7_5 : ViF mi_7 5 1 := ⟨cf_7, "java/util/ArrayList", kn_5, W584, W585, oy_java_util_ArrayList _ _, rfl⟩
theorem mt_7 : mi 7 = mi_7 := rfl
theorem mt_6 : mi 6 = mi_6 := rfl
theorem cf_9 : CalF mi_9 := ⟨W2393, by decide⟩
theorem vf_9_5 : ViF mi_9 5 3 := ⟨cf_9, "java/util/ArrayList", kn_5, W2392, QS37, oy_java_util_ArrayList _ _, rfl⟩
theorem mt_9 : mi 9 = mi_9 := rfl
theorem mt_8 : mi 8 = mi_8 := rfl
theorem cf_10 : CalF mi_10 := ⟨W2397, by decide⟩
theorem vf_10_5 : ViF mi_10 5 0 := ⟨cf_10, "java/util/ArrayList", kn_5, W2396, QS38, oy_java_util_ArrayList _ _, rfl⟩
theorem mt_10 : mi 10 = mi_10 := rfl
theorem kn_40 : KN 40 "KeelHouseModel$Lot" := ⟨by decide, Or.inl ⟨_, rfl, by decide, rfl⟩⟩
theorem kx_40 : KX 40 "KeelHouseModel$Lot" := Or.inl kn_40
theorem kn_38 : KN 38 "KeelHouseModel$Ship" := ⟨by decide, Or.inl ⟨_, rfl, by decide, rfl⟩⟩
theorem kx_38 : KX 38 "KeelHouseModel$Ship" := Or.inl kn_38
theorem kx_100 : KX 100 "[I" := Or.inr ⟨0, _, rfl, rfl, by decide⟩
theorem kn_32 : KN 32 "KeelHouse$Pipe" := ⟨by decide, Or.inl ⟨_, rfl, by decide, rfl⟩⟩
theorem kx_32 : KX 32 "KeelHouse$Pipe" := Or.inl kn_32
theorem kn_26 : KN 26 "KeelHouse$Item" := ⟨by decide, Or.inl ⟨_, rfl, by decide, rfl⟩⟩
theorem kx_26 : KX 26 "KeelHouse$Item" := Or.inl kn_26
theorem kn_35 : KN 35 "KeelHouse$Lot" := ⟨by decide, Or.inl ⟨_, rfl, by decide, rfl⟩⟩
theorem kx_35 : KX 35 "KeelHouse$Lot" := Or.inl kn_35
theorem kn_34 : KN 34 "KeelHouse$Port" := ⟨by decide, Or.inl ⟨_, rfl, by decide, rfl⟩⟩
theorem kx_34 : KX 34 "KeelHouse$Port" := Or.inl kn_34
theorem kn_33 : KN 33 "KeelHouse$Buyer" := ⟨by decide, Or.inl ⟨_, rfl, by decide, rfl⟩⟩
theorem kx_33 : KX 33 "KeelHouse$Buyer" := Or.inl kn_33
theorem kn_31 : KN 31 "KeelHouse$Offcut" := ⟨by decide, Or.inl ⟨_, rfl, by decide, rfl⟩⟩
theorem kx_31 : KX 31 "KeelHouse$Offcut" := Or.inl kn_31
theorem kn_28 : KN 28 "KeelHouse$Delivery" := ⟨by decide, Or.inl ⟨_, rfl, by decide, rfl⟩⟩
theorem kx_28 : KX 28 "KeelHouse$Delivery" := Or.inl kn_28
theorem kn_27 : KN 27 "KeelHouse$Kind" := ⟨by decide, Or.inl ⟨_, rfl, by decide, rfl⟩⟩
theorem kx_27 : KX 27 "KeelHouse$Kind" := Or.inl kn_27
theorem kn_22 : KN 22 "KeelHouse$Ship" := ⟨by decide, Or.inl ⟨_, rfl, by decide, rfl⟩⟩
theorem kx_22 : KX 22 "KeelHouse$Ship" := Or.inl kn_22
theorem as_111_L : AsgK (.object "java/lang/Object") [22, 27, 28, 31, 33, 34, 35, 26, 32, 100, 38, 40] := Or.inl ⟨"java/lang/Object", rfl, List.forall_mem_cons.mpr ⟨⟨"KeelHouse$Ship", kx_22, Or.inr W5645⟩, List.forall_mem_cons.mpr ⟨⟨"KeelHouse$Kind", kx_27, Or.inr W5688⟩, List.forall_mem_cons.mpr ⟨⟨"KeelHouse$Delivery", kx_28, Or.inr W5690⟩, List.forall_mem_cons.mpr ⟨⟨"KeelHouse$Offcut", kx_31, Or.inr W5693⟩, List.forall_mem_cons.mpr ⟨⟨"KeelHouse$Buyer", kx_33, Or.inr W5708⟩, List.forall_mem_cons.mpr ⟨⟨"KeelHouse$Port", kx_34, Or.inr W5718⟩, List.forall_mem_cons.mpr ⟨⟨"KeelHouse$Lot", kx_35, Or.inr W5719⟩, List.forall_mem_cons.mpr ⟨⟨"KeelHouse$Item", kx_26, Or.inr W5683⟩, List.forall_mem_cons.mpr ⟨⟨"KeelHouse$Pipe", kx_32, Or.inr W5706⟩, List.forall_mem_cons.mpr ⟨⟨"[I", kx_100, Or.inr W5736⟩, List.forall_mem_cons.mpr ⟨⟨"KeelHouseModel$Ship", kx_38, Or.inr W5676⟩, List.forall_mem_cons.mpr ⟨⟨"KeelHouseModel$Lot", kx_40, Or.inr W5720⟩, fun _ h => absurd h List.not_mem_nil⟩⟩⟩⟩⟩⟩⟩⟩⟩⟩⟩⟩⟩
theorem cf_11 : CalF mi_11 := ⟨W2401, by decide⟩
theorem vf_11_5 : ViF mi_11 5 1 := ⟨cf_11, "java/util/ArrayList", kn_5, W2400, QS39, oy_java_util_ArrayList _ _, rfl⟩
theorem mt_11 : mi 11 = mi_11 := rfl
theorem cf_65 : CalF mi_65 := ⟨W2404, by decide⟩
theorem oy_jdk_internal_util_ArraysSupport : ∀ (n d : String), okY ⟨"jdk/internal/util/ArraysSupport", n, d⟩ := fun _ _ => ⟨show "jdk/internal/util/ArraysSupport" ≠ "java/lang/invoke/MethodHandle" by decide, show "jdk/internal/util/ArraysSupport" ≠ "java/lang/invoke/VarHandle" by decide⟩
theorem sf_65 : StF mi_65 3 := ⟨cf_65, W2403, W170, oy_jdk_internal_util_ArraysSupport _ _, rfl⟩
theorem mt_65 : mi 65 = mi_65 := rfl
theorem cf_75 : CalF mi_75 := ⟨W2412, by decide⟩
theorem oy_java_util_Arrays : ∀ (n d : String), okY ⟨"java/util/Arrays", n, d⟩ := fun _ _ => ⟨show "java/util/Arrays" ≠ "java/lang/invoke/MethodHandle" by decide, show "java/util/Arrays" ≠ "java/lang/invoke/VarHandle" by decide⟩
theorem sf_75 : StF mi_75 2 := ⟨cf_75, W2411, W172, oy_java_util_Arrays _ _, rfl⟩
theorem mt_75 : mi 75 = mi_75 := rfl
theorem cf_74 : CalF mi_74 := ⟨W1551, by decide⟩
theorem oy_java_lang_Math : ∀ (n d : String), okY ⟨"java/lang/Math", n, d⟩ := fun _ _ => ⟨show "java/lang/Math" ≠ "java/lang/invoke/MethodHandle" by decide, show "java/lang/Math" ≠ "java/lang/invoke/VarHandle" by decide⟩
theorem sf_74 : StF mi_74 2 := ⟨cf_74, W1550, W171, oy_java_lang_Math _ _, rfl⟩
theorem mt_74 : mi 74 = mi_74 := rfl
theorem cf_13 : CalF mi_13 := ⟨W2670, by decide⟩
theorem vf_13_5 : ViF mi_13 5 2 := ⟨cf_13, "java/util/ArrayList", kn_5, W2669, QS41, oy_java_util_ArrayList _ _, rfl⟩
theorem mt_13 : mi 13 = mi_13 := rfl
theorem mt_12 : mi 12 = mi_12 := rfl
theorem as_111_O : AsgK (.object "java/lang/Object") ksO := Or.inl ⟨"java/lang/Object", rfl, List.forall_mem_cons.mpr ⟨⟨"KeelHouse$Ship", kx_22, Or.inr W5645⟩, List.forall_mem_cons.mpr ⟨⟨"KeelHouse$Kind", kx_27, Or.inr W5688⟩, List.forall_mem_cons.mpr ⟨⟨"KeelHouse$Delivery", kx_28, Or.inr W5690⟩, List.forall_mem_cons.mpr ⟨⟨"KeelHouse$Offcut", kx_31, Or.inr W5693⟩, List.forall_mem_cons.mpr ⟨⟨"KeelHouse$Buyer", kx_33, Or.inr W5708⟩, List.forall_mem_cons.mpr ⟨⟨"KeelHouse$Port", kx_34, Or.inr W5718⟩, List.forall_mem_cons.mpr ⟨⟨"KeelHouse$Lot", kx_35, Or.inr W5719⟩, List.forall_mem_cons.mpr ⟨⟨"KeelHouse$Item", kx_26, Or.inr W5683⟩, List.forall_mem_cons.mpr ⟨⟨"KeelHouse$Pipe", kx_32, Or.inr W5706⟩, List.forall_mem_cons.mpr ⟨⟨"[I", kx_100, Or.inr W5736⟩, List.forall_mem_cons.mpr ⟨⟨"KeelHouseModel$Ship", kx_38, Or.inr W5676⟩, List.forall_mem_cons.mpr ⟨⟨"KeelHouseModel$Lot", kx_40, Or.inr W5720⟩, fun _ h => absurd h List.not_mem_nil⟩⟩⟩⟩⟩⟩⟩⟩⟩⟩⟩⟩⟩
theorem cf_116 : CalF mi_116 := ⟨W3058, by decide⟩
theorem oy_java_lang_Object : ∀ (n d : String), okY ⟨"java/lang/Object", n, d⟩ := fun _ _ => ⟨show "java/lang/Object" ≠ "java/lang/invoke/MethodHandle" by decide, show "java/lang/Object" ≠ "java/lang/invoke/VarHandle" by decide⟩
theorem vf_116_31 : ViF mi_116 31 1 := ⟨cf_116, "KeelHouse$Offcut", kn_31, W2971, W3004, oy_java_lang_Object _ _, rfl⟩
theorem mt_116 : mi 116 = mi_116 := rfl
theorem mt_14 : mi 14 = mi_14 := rfl
theorem mt_15 : mi 15 = mi_15 := rfl
theorem cf_17 : CalF mi_17 := ⟨W3921, by decide⟩
theorem vf_17_5 : ViF mi_17 5 1 := ⟨cf_17, "java/util/ArrayList", kn_5, W3920, QS60, oy_java_util_ArrayList _ _, rfl⟩
theorem mt_17 : mi 17 = mi_17 := rfl
theorem mt_16 : mi 16 = mi_16 := rfl
theorem nf_36 : NewF 36 4 "java/lang/StringBuilder" := ⟨_, rfl, by decide, by decide, by decide, by decide, rfl, W3928, W201⟩
theorem cf_109 : CalF mi_109 := ⟨W3931, by decide⟩
theorem oy_java_lang_StringBuilder : ∀ (n d : String), okY ⟨"java/lang/StringBuilder", n, d⟩ := fun _ _ => ⟨show "java/lang/StringBuilder" ≠ "java/lang/invoke/MethodHandle" by decide, show "java/lang/StringBuilder" ≠ "java/lang/invoke/VarHandle" by decide⟩
theorem ic_109 : IcF mi_109 0 := ⟨cf_109, rfl, W3930, rfl, oy_java_lang_StringBuilder _ _, _, rfl⟩
theorem mt_109 : mi 109 = mi_109 := rfl
theorem kn_36 : KN 36 "java/lang/StringBuilder" := ⟨by decide, Or.inl ⟨_, rfl, by decide, rfl⟩⟩
theorem cf_110 : CalF mi_110 := ⟨W3961, by decide⟩
theorem vf_110_36 : ViF mi_110 36 1 := ⟨cf_110, "java/lang/StringBuilder", kn_36, W3959, W3960, oy_java_lang_StringBuilder _ _, rfl⟩
theorem mt_110 : mi 110 = mi_110 := rfl
theorem cf_111 : CalF mi_111 := ⟨W4054, by decide⟩
theorem vf_111_36 : ViF mi_111 36 1 := ⟨cf_111, "java/lang/StringBuilder", kn_36, W4052, W4053, oy_java_lang_StringBuilder _ _, rfl⟩
theorem mt_111 : mi 111 = mi_111 := rfl
theorem cf_112 : CalF mi_112 := ⟨W4080, by decide⟩
theorem vf_112_36 : ViF mi_112 36 0 := ⟨cf_112, "java/lang/StringBuilder", kn_36, W4078, W4079, oy_java_lang_StringBuilder _ _, rfl⟩
theorem mt_112 : mi 112 = mi_112 := rfl
theorem mt_18 : mi 18 = mi_18 := rfl
theorem mt_19 : mi 19 = mi_19 := rfl
theorem mt_20 : mi 20 = mi_20 := rfl
theorem mt_21 : mi 21 = mi_21 := rfl
theorem mt_22 : mi 22 = mi_22 := rfl
theorem mt_23 : mi 23 = mi_23 := rfl
theorem mt_24 : mi 24 = mi_24 := rfl
theorem mt_25 : mi 25 = mi_25 := rfl
theorem mt_26 : mi 26 = mi_26 := rfl
theorem mt_27 : mi 27 = mi_27 := rfl
theorem mt_28 : mi 28 = mi_28 := rfl
theorem kn_14 : KN 14 "java/lang/String" := ⟨by decide, Or.inl ⟨_, rfl, by decide, rfl⟩⟩
theorem cf_30 : CalF mi_30 := ⟨W1846, by decide⟩
theorem oy_java_lang_String : ∀ (n d : String), okY ⟨"java/lang/String", n, d⟩ := fun _ _ => ⟨show "java/lang/String" ≠ "java/lang/invoke/MethodHandle" by decide, show "java/lang/String" ≠ "java/lang/invoke/VarHandle" by decide⟩
theorem vf_30_14 : ViF mi_30 14 0 := ⟨cf_30, "java/lang/String", kn_14, W1844, W1845, oy_java_lang_String _ _, rfl⟩
theorem mt_30 : mi 30 = mi_30 := rfl
theorem fld_14_0 : FldF 14 0 3 55 ("java/lang/String", "value", "[B", true) := ⟨_, rfl, by decide, by decide, by decide, rfl, rfl⟩
theorem cf_40 : CalF mi_40 := ⟨W1851, by decide⟩
theorem oy_java_lang_StringLatin1 : ∀ (n d : String), okY ⟨"java/lang/StringLatin1", n, d⟩ := fun _ _ => ⟨show "java/lang/StringLatin1" ≠ "java/lang/invoke/MethodHandle" by decide, show "java/lang/StringLatin1" ≠ "java/lang/invoke/VarHandle" by decide⟩
theorem sf_40 : StF mi_40 2 := ⟨cf_40, W1850, W154, oy_java_lang_StringLatin1 _ _, rfl⟩
theorem mt_40 : mi 40 = mi_40 := rfl
theorem cf_46 : CalF mi_46 := ⟨W1860, by decide⟩
theorem oy_java_lang_StringUTF16 : ∀ (n d : String), okY ⟨"java/lang/StringUTF16", n, d⟩ := fun _ _ => ⟨show "java/lang/StringUTF16" ≠ "java/lang/invoke/MethodHandle" by decide, show "java/lang/StringUTF16" ≠ "java/lang/invoke/VarHandle" by decide⟩
theorem sf_46 : StF mi_46 2 := ⟨cf_46, W1859, W156, oy_java_lang_StringUTF16 _ _, rfl⟩
theorem mt_46 : mi 46 = mi_46 := rfl
theorem mt_29 : mi 29 = mi_29 := rfl
theorem fld_14_1 : FldF 14 1 5 56 ("java/lang/String", "coder", "B", true) := ⟨_, rfl, by decide, by decide, by decide, rfl, rfl⟩
theorem cf_43 : CalF mi_43 := ⟨W582, by decide⟩
theorem oy_jdk_internal_util_Preconditions : ∀ (n d : String), okY ⟨"jdk/internal/util/Preconditions", n, d⟩ := fun _ _ => ⟨show "jdk/internal/util/Preconditions" ≠ "java/lang/invoke/MethodHandle" by decide, show "jdk/internal/util/Preconditions" ≠ "java/lang/invoke/VarHandle" by decide⟩
theorem sf_43 : StF mi_43 3 := ⟨cf_43, W581, W155, oy_jdk_internal_util_Preconditions _ _, rfl⟩
theorem mt_43 : mi 43 = mi_43 := rfl
theorem mt_31 : mi 31 = mi_31 := rfl
theorem kx_14 : KX 14 "java/lang/String" := Or.inl kn_14
theorem cf_41 : CalF mi_41 := ⟨W3056, by decide⟩
theorem sf_41 : StF mi_41 2 := ⟨cf_41, W3055, W154, oy_java_lang_StringLatin1 _ _, rfl⟩
theorem mt_41 : mi 41 = mi_41 := rfl
theorem mt_32 : mi 32 = mi_32 := rfl
theorem cf_44 : CalF mi_44 := ⟨W4005, by decide⟩
theorem sf_44 : StF mi_44 4 := ⟨cf_44, W4004, W155, oy_jdk_internal_util_Preconditions _ _, rfl⟩
theorem mt_44 : mi 44 = mi_44 := rfl
theorem mt_33 : mi 33 = mi_33 := rfl
theorem cf_35 : CalF mi_35 := ⟨W4016, by decide⟩
theorem vf_35_14 : ViF mi_35 14 0 := ⟨cf_35, "java/lang/String", kn_14, W4014, W4015, oy_java_lang_String _ _, rfl⟩
theorem mt_35 : mi 35 = mi_35 := rfl
theorem mt_34 : mi 34 = mi_34 := rfl
theorem cf_45 : CalF mi_45 := ⟨W4044, by decide⟩
theorem sf_45 : StF mi_45 4 := ⟨cf_45, W4043, W155, oy_jdk_internal_util_Preconditions _ _, rfl⟩
theorem mt_45 : mi 45 = mi_45 := rfl
theorem mt_36 : mi 36 = mi_36 := rfl
theorem cf_42 : CalF mi_42 := ⟨W4032, by decide⟩
theorem sf_42 : StF mi_42 5 := ⟨cf_42, W4031, W154, oy_java_lang_StringLatin1 _ _, rfl⟩
theorem mt_42 : mi 42 = mi_42 := rfl
theorem mt_37 : mi 37 = mi_37 := rfl
theorem cf_39 : CalF mi_39 := ⟨W4087, by decide⟩
theorem ic_39 : IcF mi_39 2 := ⟨cf_39, rfl, W4086, rfl, oy_java_lang_String _ _, _, rfl⟩
theorem mt_39 : mi 39 = mi_39 := rfl
theorem mt_38 : mi 38 = mi_38 := rfl
theorem cf_107 : CalF mi_107 := ⟨W4093, by decide⟩
theorem oy_java_lang_AbstractStringBuilder : ∀ (n d : String), okY ⟨"java/lang/AbstractStringBuilder", n, d⟩ := fun _ _ => ⟨show "java/lang/AbstractStringBuilder" ≠ "java/lang/invoke/MethodHandle" by decide, show "java/lang/AbstractStringBuilder" ≠ "java/lang/invoke/VarHandle" by decide⟩
theorem vf_107_36 : ViF mi_107 36 0 := ⟨cf_107, "java/lang/StringBuilder", kn_36, W4090, W4092, oy_java_lang_AbstractStringBuilder _ _, rfl⟩
theorem mt_107 : mi 107 = mi_107 := rfl
theorem cf_113 : CalF mi_113 := ⟨W4099, by decide⟩
theorem if_113_36_java_lang_AbstractStringBuilderlength__I : InF mi_113 ({ cls := "java/lang/AbstractStringBuilder", name := "length", desc := "()I" } : Jvm.MethodName) 36 0 := ⟨cf_113, "java/lang/StringBuilder", "java/lang/AbstractStringBuilder", kn_36, W4098, ⟨_, _, rfl⟩, W4096, Or.inr ⟨W4095, _, _, _, W4101⟩, oy_java_lang_AbstractStringBuilder _ _, W4097, rfl⟩
theorem mt_113 : mi 113 = mi_113 := rfl
theorem cf_102 : CalF mi_102 := ⟨W3993, by decide⟩
theorem vf_102_36 : ViF mi_102 36 0 := ⟨cf_102, "java/lang/StringBuilder", kn_36, W3990, W3992, oy_java_lang_AbstractStringBuilder _ _, rfl⟩
theorem mt_102 : mi 102 = mi_102 := rfl
theorem cf_78 : CalF mi_78 := ⟨W4105, by decide⟩
theorem sf_78 : StF mi_78 3 := ⟨cf_78, W4104, W172, oy_java_util_Arrays _ _, rfl⟩
theorem mt_78 : mi 78 = mi_78 := rfl
theorem fld_36_2 : FldF 36 2 4 192 ("java/lang/AbstractStringBuilder", "maybeLatin1", "Z", false) := ⟨_, rfl, by decide, by decide, by decide, rfl, rfl⟩
theorem cf_59 : CalF mi_59 := ⟨W4125, by decide⟩
theorem sf_59 : StF mi_59 3 := ⟨cf_59, W4124, W156, oy_java_lang_StringUTF16 _ _, rfl⟩
theorem mt_59 : mi 59 = mi_59 := rfl
theorem cf_61 : CalF mi_61 := ⟨W4132, by decide⟩
theorem sf_61 : StF mi_61 2 := ⟨cf_61, W4131, W156, oy_java_lang_StringUTF16 _ _, rfl⟩
theorem mt_61 : mi 61 = mi_61 := rfl
theorem cf_31 : CalF mi_31 := ⟨W1854, by decide⟩
theorem sf_31 : StF mi_31 2 := ⟨cf_31, W1853, W153, oy_java_lang_String _ _, rfl⟩
theorem cf_55 : CalF mi_55 := ⟨W4035, by decide⟩
theorem sf_55 : StF mi_55 5 := ⟨cf_55, W4034, W156, oy_java_lang_StringUTF16 _ _, rfl⟩
theorem mt_55 : mi 55 = mi_55 := rfl
theorem cf_47 : CalF mi_47 := ⟨W1863, by decide⟩
theorem sf_47 : StF mi_47 2 := ⟨cf_47, W1862, W156, oy_java_lang_StringUTF16 _ _, rfl⟩
theorem mt_47 : mi 47 = mi_47 := rfl
theorem cf_49 : CalF mi_49 := ⟨W1870, by decide⟩
theorem sf_49 : StF mi_49 2 := ⟨cf_49, W1869, W156, oy_java_lang_StringUTF16 _ _, rfl⟩
theorem mt_49 : mi 49 = mi_49 := rfl
theorem cf_48 : CalF mi_48 := ⟨W1866, by decide⟩
theorem sf_48 : StF mi_48 1 := ⟨cf_48, W1865, W156, oy_java_lang_StringUTF16 _ _, rfl⟩
theorem mt_48 : mi 48 = mi_48 := rfl
theorem cf_51 : CalF mi_51 := ⟨W3942, by decide⟩
theorem sf_51 : StF mi_51 1 := ⟨cf_51, W3941, W156, oy_java_lang_StringUTF16 _ _, rfl⟩
theorem mt_51 : mi 51 = mi_51 := rfl
theorem mt_50 : mi 50 = mi_50 := rfl
theorem cf_53 : CalF mi_53 := ⟨W3999, by decide⟩
theorem sf_53 : StF mi_53 3 := ⟨cf_53, W3998, W156, oy_java_lang_StringUTF16 _ _, rfl⟩
theorem mt_53 : mi 53 = mi_53 := rfl
theorem cf_54 : CalF mi_54 := ⟨W4008, by decide⟩
theorem sf_54 : StF mi_54 3 := ⟨cf_54, W4007, W156, oy_java_lang_StringUTF16 _ _, rfl⟩
theorem mt_54 : mi 54 = mi_54 := rfl
theorem mt_52 : mi 52 = mi_52 := rfl
theorem cf_33 : CalF mi_33 := ⟨W4002, by decide⟩
theorem sf_33 : StF mi_33 3 := ⟨cf_33, W4001, W153, oy_java_lang_String _ _, rfl⟩
theorem cf_56 : CalF mi_56 := ⟨W4038, by decide⟩
theorem sf_56 : StF mi_56 3 := ⟨cf_56, W4037, W156, oy_java_lang_StringUTF16 _ _, rfl⟩
theorem mt_56 : mi 56 = mi_56 := rfl
theorem cf_36 : CalF mi_36 := ⟨W4041, by decide⟩
theorem sf_36 : StF mi_36 3 := ⟨cf_36, W4040, W153, oy_java_lang_String _ _, rfl⟩
theorem cf_58 : CalF mi_58 := ⟨W4073, by decide⟩
theorem sf_58 : StF mi_58 3 := ⟨cf_58, W4072, W156, oy_java_lang_StringUTF16 _ _, rfl⟩
theorem mt_58 : mi 58 = mi_58 := rfl
theorem mt_57 : mi 57 = mi_57 := rfl
theorem cf_60 : CalF mi_60 := ⟨W4128, by decide⟩
theorem sf_60 : StF mi_60 5 := ⟨cf_60, W4127, W156, oy_java_lang_StringUTF16 _ _, rfl⟩
theorem mt_60 : mi 60 = mi_60 := rfl
theorem mt_62 : mi 62 = mi_62 := rfl
theorem mt_63 : mi 63 = mi_63 := rfl
theorem mt_64 : mi 64 = mi_64 := rfl
theorem cf_66 : CalF mi_66 := ⟨W2409, by decide⟩
theorem sf_66 : StF mi_66 2 := ⟨cf_66, W2408, W170, oy_jdk_internal_util_ArraysSupport _ _, rfl⟩
theorem mt_66 : mi 66 = mi_66 := rfl
theorem mt_67 : mi 67 = mi_67 := rfl
theorem mt_70 : mi 70 = mi_70 := rfl
theorem cf_95 : CalF mi_95 := ⟨W1518, by decide⟩
theorem oy_java_lang_StrictMath : ∀ (n d : String), okY ⟨"java/lang/StrictMath", n, d⟩ := fun _ _ => ⟨show "java/lang/StrictMath" ≠ "java/lang/invoke/MethodHandle" by decide, show "java/lang/StrictMath" ≠ "java/lang/invoke/VarHandle" by decide⟩
theorem sf_95 : StF mi_95 1 := ⟨cf_95, W1517, W192, oy_java_lang_StrictMath _ _, rfl⟩
theorem mt_95 : mi 95 = mi_95 := rfl
theorem mt_72 : mi 72 = mi_72 := rfl
theorem mt_73 : mi 73 = mi_73 := rfl
theorem kx_111 : KX 111 "[Ljava/lang/Object;" := Or.inr ⟨11, _, rfl, rfl, by decide⟩
theorem cf_76 : CalF mi_76 := ⟨W2499, by decide⟩
theorem sf_76 : StF mi_76 3 := ⟨cf_76, W2498, W172, oy_java_util_Arrays _ _, rfl⟩
theorem mt_76 : mi 76 = mi_76 := rfl
theorem cf_67 : CalF mi_67 := ⟨W651, by decide⟩
theorem sf_67 : StF mi_67 2 := ⟨cf_67, W650, W171, oy_java_lang_Math _ _, rfl⟩
theorem kx_102 : KX 102 "[B" := Or.inr ⟨2, _, rfl, rfl, by decide⟩
theorem mt_77 : mi 77 = mi_77 := rfl
theorem cf_79 : CalF mi_79 := ⟨W4108, by decide⟩
theorem sf_79 : StF mi_79 3 := ⟨cf_79, W4107, W172, oy_java_util_Arrays _ _, rfl⟩
theorem mt_79 : mi 79 = mi_79 := rfl
theorem cf_80 : CalF mi_80 := ⟨W4111, by decide⟩
theorem sf_80 : StF mi_80 2 := ⟨cf_80, W4110, W172, oy_java_util_Arrays _ _, rfl⟩
theorem mt_80 : mi 80 = mi_80 := rfl
theorem mt_81 : mi 81 = mi_81 := rfl
theorem mt_82 : mi 82 = mi_82 := rfl
theorem mt_83 : mi 83 = mi_83 := rfl
theorem mt_85 : mi 85 = mi_85 := rfl
theorem fld_11_3 : FldF 11 3 3 46 ("java/util/ArrayList$Itr", "this$0", "Ljava/util/ArrayList;", true) := ⟨_, rfl, by decide, by decide, by decide, rfl, rfl⟩
theorem fld_11_1 : FldF 11 1 0 44 ("java/util/ArrayList$Itr", "lastRet", "I", false) := ⟨_, rfl, by decide, by decide, by decide, rfl, rfl⟩
theorem fld_11_2 : FldF 11 2 0 45 ("java/util/ArrayList$Itr", "expectedModCount", "I", false) := ⟨_, rfl, by decide, by decide, by decide, rfl, rfl⟩
theorem fld_11_0 : FldF 11 0 0 43 ("java/util/ArrayList$Itr", "cursor", "I", false) := ⟨_, rfl, by decide, by decide, by decide, rfl, rfl⟩
theorem mt_87 : mi 87 = mi_87 := rfl
theorem kn_11 : KN 11 "java/util/ArrayList$Itr" := ⟨by decide, Or.inl ⟨_, rfl, by decide, rfl⟩⟩
theorem cf_89 : CalF mi_89 := ⟨W516, by decide⟩
theorem vf_89_11 : ViF mi_89 11 0 := ⟨cf_89, "java/util/ArrayList$Itr", kn_11, W514, W515, oy_java_util_ArrayList_Itr _ _, rfl⟩
theorem mt_89 : mi 89 = mi_89 := rfl
theorem mt_88 : mi 88 = mi_88 := rfl
theorem mt_90 : mi 90 = mi_90 := rfl
theorem fld_29_0 : FldF 29 0 3 152 ("java/util/Optional", "value", "Ljava/lang/Object;", true) := ⟨_, rfl, by decide, by decide, by decide, rfl, rfl⟩
theorem mt_91 : mi 91 = mi_91 := rfl
theorem mt_92 : mi 92 = mi_92 := rfl
theorem nf_29 : NewF 29 1 "java/util/Optional" := ⟨_, rfl, by decide, by decide, by decide, by decide, rfl, W2953, W188⟩
theorem cf_85 : CalF mi_85 := ⟨W2956, by decide⟩
theorem sf_85 : StF mi_85 1 := ⟨cf_85, W2955, W179, oy_java_util_Objects _ _, rfl⟩
theorem cf_94 : CalF mi_94 := ⟨W2959, by decide⟩
theorem oy_java_util_Optional : ∀ (n d : String), okY ⟨"java/util/Optional", n, d⟩ := fun _ _ => ⟨show "java/util/Optional" ≠ "java/lang/invoke/MethodHandle" by decide, show "java/util/Optional" ≠ "java/lang/invoke/VarHandle" by decide⟩
theorem ic_94 : IcF mi_94 1 := ⟨cf_94, rfl, W2958, rfl, oy_java_util_Optional _ _, _, rfl⟩
theorem mt_94 : mi 94 = mi_94 := rfl
theorem mt_93 : mi 93 = mi_93 := rfl
theorem cf_96 : CalF mi_96 := ⟨W1522, by decide⟩
theorem sf_96 : StF mi_96 4 := ⟨cf_96, W1521, W192, oy_java_lang_StrictMath _ _, rfl⟩
theorem mt_96 : mi 96 = mi_96 := rfl
theorem cf_73 : CalF mi_73 := ⟨W1525, by decide⟩
theorem sf_73 : StF mi_73 1 := ⟨cf_73, W1524, W171, oy_java_lang_Math _ _, rfl⟩
theorem fld_36_0 : FldF 36 0 3 190 ("java/lang/AbstractStringBuilder", "value", "[B", false) := ⟨_, rfl, by decide, by decide, by decide, rfl, rfl⟩
theorem fld_36_1 : FldF 36 1 5 191 ("java/lang/AbstractStringBuilder", "coder", "B", false) := ⟨_, rfl, by decide, by decide, by decide, rfl, rfl⟩
theorem cf_50 : CalF mi_50 := ⟨W3939, by decide⟩
theorem sf_50 : StF mi_50 1 := ⟨cf_50, W3938, W156, oy_java_lang_StringUTF16 _ _, rfl⟩
theorem mt_97 : mi 97 = mi_97 := rfl
theorem cf_99 : CalF mi_99 := ⟨W3968, by decide⟩
theorem pf_99_36 : PrF mi_99 36 0 := ⟨cf_99, "java/lang/StringBuilder", _, _, ({ cls := "java/lang/AbstractStringBuilder", name := "isLatin1", desc := "()Z" } : Jvm.MethodName), kn_36, W3967, ⟨_, _, rfl⟩, W3966, rfl, W3990, W3992, oy_java_lang_AbstractStringBuilder _ _, rfl⟩
theorem mt_99 : mi 99 = mi_99 := rfl
theorem cf_34 : CalF mi_34 := ⟨W4012, by decide⟩
theorem vf_34_14 : ViF mi_34 14 0 := ⟨cf_34, "java/lang/String", kn_14, W4010, W4011, oy_java_lang_String _ _, rfl⟩
theorem fld_36_3 : FldF 36 3 0 193 ("java/lang/AbstractStringBuilder", "count", "I", false) := ⟨_, rfl, by decide, by decide, by decide, rfl, rfl⟩
theorem cf_100 : CalF mi_100 := ⟨W3972, by decide⟩
theorem pf_100_36 : PrF mi_100 36 1 := ⟨cf_100, "java/lang/StringBuilder", _, _, ({ cls := "java/lang/AbstractStringBuilder", name := "isLatin1", desc := "()Z" } : Jvm.MethodName), kn_36, W3971, ⟨_, _, rfl⟩, W3970, rfl, W3990, W3992, oy_java_lang_AbstractStringBuilder _ _, rfl⟩
theorem mt_100 : mi 100 = mi_100 := rfl
theorem cf_103 : CalF mi_103 := ⟨W4020, by decide⟩
theorem pf_103_36 : PrF mi_103 36 2 := ⟨cf_103, "java/lang/StringBuilder", _, _, ({ cls := "java/lang/AbstractStringBuilder", name := "isLatin1", desc := "()Z" } : Jvm.MethodName), kn_36, W4019, ⟨_, _, rfl⟩, W4018, rfl, W3990, W3992, oy_java_lang_AbstractStringBuilder _ _, rfl⟩
theorem mt_103 : mi 103 = mi_103 := rfl
theorem mt_98 : mi 98 = mi_98 := rfl
theorem cf_52 : CalF mi_52 := ⟨W3996, by decide⟩
theorem sf_52 : StF mi_52 6 := ⟨cf_52, W3995, W156, oy_java_lang_StringUTF16 _ _, rfl⟩
theorem cf_101 : CalF mi_101 := ⟨W3976, by decide⟩
theorem pf_101_36 : PrF mi_101 36 1 := ⟨cf_101, "java/lang/StringBuilder", _, _, ({ cls := "java/lang/AbstractStringBuilder", name := "isLatin1", desc := "()Z" } : Jvm.MethodName), kn_36, W3975, ⟨_, _, rfl⟩, W3974, rfl, W3990, W3992, oy_java_lang_AbstractStringBuilder _ _, rfl⟩
theorem mt_101 : mi 101 = mi_101 := rfl
theorem cf_77 : CalF mi_77 := ⟨W3981, by decide⟩
theorem sf_77 : StF mi_77 2 := ⟨cf_77, W3980, W172, oy_java_util_Arrays _ _, rfl⟩
theorem cf_104 : CalF mi_104 := ⟨W4024, by decide⟩
theorem pf_104_36 : PrF mi_104 36 1 := ⟨cf_104, "java/lang/StringBuilder", _, _, ({ cls := "java/lang/AbstractStringBuilder", name := "isLatin1", desc := "()Z" } : Jvm.MethodName), kn_36, W4023, ⟨_, _, rfl⟩, W4022, rfl, W3990, W3992, oy_java_lang_AbstractStringBuilder _ _, rfl⟩
theorem mt_104 : mi 104 = mi_104 := rfl
theorem cf_37 : CalF mi_37 := ⟨W4048, by decide⟩
theorem vf_37_14 : ViF mi_37 14 3 := ⟨cf_37, "java/lang/String", kn_14, W4046, W4047, oy_java_lang_String _ _, rfl⟩
theorem cf_105 : CalF mi_105 := ⟨W4029, by decide⟩
theorem pf_105_36 : PrF mi_105 36 0 := ⟨cf_105, "java/lang/StringBuilder", _, _, ({ cls := "java/lang/AbstractStringBuilder", name := "isLatin1", desc := "()Z" } : Jvm.MethodName), kn_36, W4028, ⟨_, _, rfl⟩, W4027, rfl, W3990, W3992, oy_java_lang_AbstractStringBuilder _ _, rfl⟩
theorem mt_105 : mi 105 = mi_105 := rfl
theorem cf_63 : CalF mi_63 := ⟨W4060, by decide⟩
theorem oy_java_lang_Integer : ∀ (n d : String), okY ⟨"java/lang/Integer", n, d⟩ := fun _ _ => ⟨show "java/lang/Integer" ≠ "java/lang/invoke/MethodHandle" by decide, show "java/lang/Integer" ≠ "java/lang/invoke/VarHandle" by decide⟩
theorem sf_63 : StF mi_63 1 := ⟨cf_63, W4059, W169, oy_java_lang_Integer _ _, rfl⟩
theorem cf_64 : CalF mi_64 := ⟨W4063, by decide⟩
theorem sf_64 : StF mi_64 3 := ⟨cf_64, W4062, W169, oy_java_lang_Integer _ _, rfl⟩
theorem cf_57 : CalF mi_57 := ⟨W4070, by decide⟩
theorem sf_57 : StF mi_57 4 := ⟨cf_57, W4069, W156, oy_java_lang_StringUTF16 _ _, rfl⟩
theorem mt_106 : mi 106 = mi_106 := rfl
theorem mt_108 : mi 108 = mi_108 := rfl
theorem cf_97 : CalF mi_97 := ⟨W3934, by decide⟩
theorem ic_97 : IcF mi_97 1 := ⟨cf_97, rfl, W3933, rfl, oy_java_lang_AbstractStringBuilder _ _, _, rfl⟩
theorem cf_98 : CalF mi_98 := ⟨W3964, by decide⟩
theorem su_98_36 : SuF mi_98 "java/lang/StringBuilder" 36 1 := ⟨cf_98, rfl, W3963, "java/lang/StringBuilder", kn_36, ⟨_, _, rfl⟩, W5628, W3956, by decide⟩
theorem cf_106 : CalF mi_106 := ⟨W4057, by decide⟩
theorem su_106_36 : SuF mi_106 "java/lang/StringBuilder" 36 1 := ⟨cf_106, rfl, W4056, "java/lang/StringBuilder", kn_36, ⟨_, _, rfl⟩, W5635, W3956, by decide⟩
theorem nf_14 : NewF 14 4 "java/lang/String" := ⟨_, rfl, by decide, by decide, by decide, by decide, rfl, W735, W153⟩
theorem cf_38 : CalF mi_38 := ⟨W4084, by decide⟩
theorem ic_38 : IcF mi_38 1 := ⟨cf_38, rfl, W4083, rfl, oy_java_lang_String _ _, _, rfl⟩
theorem cf_108 : CalF mi_108 := ⟨W4101, by decide⟩
theorem su_108_36 : SuF mi_108 "java/lang/StringBuilder" 36 0 := ⟨cf_108, rfl, W4095, "java/lang/StringBuilder", kn_36, ⟨_, _, rfl⟩, W4096, W3956, by decide⟩
theorem mt_114 : mi 114 = mi_114 := rfl
theorem nf_1 : NewF 1 13 "KeelHouse" := ⟨_, rfl, by decide, by decide, by decide, by decide, rfl, W204, W130⟩
theorem cf_182 : CalF mi_182 := ⟨W207, by decide⟩
theorem oy_KeelHouse : ∀ (n d : String), okY ⟨"KeelHouse", n, d⟩ := fun _ _ => ⟨show "KeelHouse" ≠ "java/lang/invoke/MethodHandle" by decide, show "KeelHouse" ≠ "java/lang/invoke/VarHandle" by decide⟩
theorem ic_182 : IcF mi_182 0 := ⟨cf_182, rfl, W206, rfl, oy_KeelHouse _ _, _, rfl⟩
theorem mt_182 : mi 182 = mi_182 := rfl
theorem nf_37 : NewF 37 18 "KeelHouseModel" := ⟨_, rfl, by decide, by decide, by decide, by decide, rfl, W4274, W142⟩
theorem cf_359 : CalF mi_359 := ⟨W4277, by decide⟩
theorem oy_KeelHouseModel : ∀ (n d : String), okY ⟨"KeelHouseModel", n, d⟩ := fun _ _ => ⟨show "KeelHouseModel" ≠ "java/lang/invoke/MethodHandle" by decide, show "KeelHouseModel" ≠ "java/lang/invoke/VarHandle" by decide⟩
theorem ic_359 : IcF mi_359 0 := ⟨cf_359, rfl, W4276, rfl, oy_KeelHouseModel _ _, _, rfl⟩
theorem mt_359 : mi 359 = mi_359 := rfl
theorem nf_21 : NewF 21 3 "KeelHouseLaw$Out" := ⟨_, rfl, by decide, by decide, by decide, by decide, rfl, W1742, W143⟩
theorem cf_483 : CalF mi_483 := ⟨W1745, by decide⟩
theorem oy_KeelHouseLaw_Out : ∀ (n d : String), okY ⟨"KeelHouseLaw$Out", n, d⟩ := fun _ _ => ⟨show "KeelHouseLaw$Out" ≠ "java/lang/invoke/MethodHandle" by decide, show "KeelHouseLaw$Out" ≠ "java/lang/invoke/VarHandle" by decide⟩
theorem ic_483 : IcF mi_483 0 := ⟨cf_483, rfl, W1744, rfl, oy_KeelHouseLaw_Out _ _, _, rfl⟩
theorem mt_483 : mi 483 = mi_483 := rfl
theorem cf_118 : CalF mi_118 := ⟨W1759, by decide⟩
theorem oy_KeelHouseLaw : ∀ (n d : String), okY ⟨"KeelHouseLaw", n, d⟩ := fun _ _ => ⟨show "KeelHouseLaw" ≠ "java/lang/invoke/MethodHandle" by decide, show "KeelHouseLaw" ≠ "java/lang/invoke/VarHandle" by decide⟩
theorem sf_118 : StF mi_118 6 := ⟨cf_118, W1758, W129, oy_KeelHouseLaw _ _, rfl⟩
theorem mt_118 : mi 118 = mi_118 := rfl
theorem kn_37 : KN 37 "KeelHouseModel" := ⟨by decide, Or.inl ⟨_, rfl, by decide, rfl⟩⟩
theorem cf_361 : CalF mi_361 := ⟨W4352, by decide⟩
theorem vf_361_37 : ViF mi_361 37 4 := ⟨cf_361, "KeelHouseModel", kn_37, W4350, W4351, oy_KeelHouseModel _ _, rfl⟩
theorem mt_361 : mi 361 = mi_361 := rfl
theorem cf_360 : CalF mi_360 := ⟨W4348, by decide⟩
theorem vf_360_37 : ViF mi_360 37 0 := ⟨cf_360, "KeelHouseModel", kn_37, W4346, W4347, oy_KeelHouseModel _ _, rfl⟩
theorem mt_360 : mi 360 = mi_360 := rfl
theorem fld_21_0 : FldF 21 0 1 89 ("KeelHouseLaw$Out", "n", "J", false) := ⟨_, rfl, by decide, by decide, by decide, rfl, rfl⟩
theorem cf_119 : CalF mi_119 := ⟨W2511, by decide⟩
theorem sf_119 : StF mi_119 6 := ⟨cf_119, W2510, W129, oy_KeelHouseLaw _ _, rfl⟩
theorem mt_119 : mi 119 = mi_119 := rfl
theorem cf_365 : CalF mi_365 := ⟨W4541, by decide⟩
theorem vf_365_37 : ViF mi_365 37 4 := ⟨cf_365, "KeelHouseModel", kn_37, W4539, W4540, oy_KeelHouseModel _ _, rfl⟩
theorem mt_365 : mi 365 = mi_365 := rfl
theorem cf_120 : CalF mi_120 := ⟨W2565, by decide⟩
theorem sf_120 : StF mi_120 3 := ⟨cf_120, W2564, W129, oy_KeelHouseLaw _ _, rfl⟩
theorem mt_120 : mi 120 = mi_120 := rfl
theorem cf_367 : CalF mi_367 := ⟨W4550, by decide⟩
theorem vf_367_37 : ViF mi_367 37 1 := ⟨cf_367, "KeelHouseModel", kn_37, W4548, W4549, oy_KeelHouseModel _ _, rfl⟩
theorem mt_367 : mi 367 = mi_367 := rfl
theorem cf_121 : CalF mi_121 := ⟨W2578, by decide⟩
theorem sf_121 : StF mi_121 4 := ⟨cf_121, W2577, W129, oy_KeelHouseLaw _ _, rfl⟩
theorem mt_121 : mi 121 = mi_121 := rfl
theorem cf_368 : CalF mi_368 := ⟨W4561, by decide⟩
theorem vf_368_37 : ViF mi_368 37 2 := ⟨cf_368, "KeelHouseModel", kn_37, W4559, W4560, oy_KeelHouseModel _ _, rfl⟩
theorem mt_368 : mi 368 = mi_368 := rfl
theorem cf_122 : CalF mi_122 := ⟨W2585, by decide⟩
theorem sf_122 : StF mi_122 5 := ⟨cf_122, W2584, W129, oy_KeelHouseLaw _ _, rfl⟩
theorem mt_122 : mi 122 = mi_122 := rfl
theorem cf_370 : CalF mi_370 := ⟨W4569, by decide⟩
theorem vf_370_37 : ViF mi_370 37 3 := ⟨cf_370, "KeelHouseModel", kn_37, W4567, W4568, oy_KeelHouseModel _ _, rfl⟩
theorem mt_370 : mi 370 = mi_370 := rfl
theorem fld_21_1 : FldF 21 1 2 90 ("KeelHouseLaw$Out", "d", "D", false) := ⟨_, rfl, by decide, by decide, by decide, rfl, rfl⟩
theorem cf_123 : CalF mi_123 := ⟨W2609, by decide⟩
theorem sf_123 : StF mi_123 4 := ⟨cf_123, W2608, W129, oy_KeelHouseLaw _ _, rfl⟩
theorem mt_123 : mi 123 = mi_123 := rfl
theorem cf_371 : CalF mi_371 := ⟨W4629, by decide⟩
theorem vf_371_37 : ViF mi_371 37 2 := ⟨cf_371, "KeelHouseModel", kn_37, W4627, W4628, oy_KeelHouseModel _ _, rfl⟩
theorem mt_371 : mi 371 = mi_371 := rfl
theorem cf_124 : CalF mi_124 := ⟨W2618, by decide⟩
theorem sf_124 : StF mi_124 7 := ⟨cf_124, W2617, W129, oy_KeelHouseLaw _ _, rfl⟩
theorem mt_124 : mi 124 = mi_124 := rfl
theorem cf_372 : CalF mi_372 := ⟨W4641, by decide⟩
theorem vf_372_37 : ViF mi_372 37 5 := ⟨cf_372, "KeelHouseModel", kn_37, W4639, W4640, oy_KeelHouseModel _ _, rfl⟩
theorem mt_372 : mi 372 = mi_372 := rfl
theorem cf_125 : CalF mi_125 := ⟨W2658, by decide⟩
theorem sf_125 : StF mi_125 4 := ⟨cf_125, W2657, W129, oy_KeelHouseLaw _ _, rfl⟩
theorem mt_125 : mi 125 = mi_125 := rfl
theorem cf_374 : CalF mi_374 := ⟨W4653, by decide⟩
theorem vf_374_37 : ViF mi_374 37 2 := ⟨cf_374, "KeelHouseModel", kn_37, W4651, W4652, oy_KeelHouseModel _ _, rfl⟩
theorem mt_374 : mi 374 = mi_374 := rfl
theorem cf_126 : CalF mi_126 := ⟨W2674, by decide⟩
theorem sf_126 : StF mi_126 4 := ⟨cf_126, W2673, W129, oy_KeelHouseLaw _ _, rfl⟩
theorem mt_126 : mi 126 = mi_126 := rfl
theorem cf_375 : CalF mi_375 := ⟨W4658, by decide⟩
theorem vf_375_37 : ViF mi_375 37 2 := ⟨cf_375, "KeelHouseModel", kn_37, W4656, W4657, oy_KeelHouseModel _ _, rfl⟩
theorem mt_375 : mi 375 = mi_375 := rfl
theorem cf_127 : CalF mi_127 := ⟨W2689, by decide⟩
theorem sf_127 : StF mi_127 4 := ⟨cf_127, W2688, W129, oy_KeelHouseLaw _ _, rfl⟩
theorem mt_127 : mi 127 = mi_127 := rfl
theorem cf_376 : CalF mi_376 := ⟨W4663, by decide⟩
theorem vf_376_37 : ViF mi_376 37 2 := ⟨cf_376, "KeelHouseModel", kn_37, W4661, W4662, oy_KeelHouseModel _ _, rfl⟩
theorem mt_376 : mi 376 = mi_376 := rfl
theorem cf_128 : CalF mi_128 := ⟨W2697, by decide⟩
theorem sf_128 : StF mi_128 4 := ⟨cf_128, W2696, W129, oy_KeelHouseLaw _ _, rfl⟩
theorem mt_128 : mi 128 = mi_128 := rfl
theorem cf_377 : CalF mi_377 := ⟨W4667, by decide⟩
theorem vf_377_37 : ViF mi_377 37 2 := ⟨cf_377, "KeelHouseModel", kn_37, W4665, W4666, oy_KeelHouseModel _ _, rfl⟩
theorem mt_377 : mi 377 = mi_377 := rfl
theorem cf_129 : CalF mi_129 := ⟨W2704, by decide⟩
theorem sf_129 : StF mi_129 5 := ⟨cf_129, W2703, W129, oy_KeelHouseLaw _ _, rfl⟩
theorem mt_129 : mi 129 = mi_129 := rfl
theorem cf_378 : CalF mi_378 := ⟨W4778, by decide⟩
theorem vf_378_37 : ViF mi_378 37 3 := ⟨cf_378, "KeelHouseModel", kn_37, W4776, W4777, oy_KeelHouseModel _ _, rfl⟩
theorem mt_378 : mi 378 = mi_378 := rfl
theorem cf_130 : CalF mi_130 := ⟨W2713, by decide⟩
theorem sf_130 : StF mi_130 3 := ⟨cf_130, W2712, W129, oy_KeelHouseLaw _ _, rfl⟩
theorem mt_130 : mi 130 = mi_130 := rfl
theorem cf_380 : CalF mi_380 := ⟨W4802, by decide⟩
theorem vf_380_37 : ViF mi_380 37 1 := ⟨cf_380, "KeelHouseModel", kn_37, W4800, W4801, oy_KeelHouseModel _ _, rfl⟩
theorem mt_380 : mi 380 = mi_380 := rfl
theorem cf_131 : CalF mi_131 := ⟨W2720, by decide⟩
theorem sf_131 : StF mi_131 7 := ⟨cf_131, W2719, W129, oy_KeelHouseLaw _ _, rfl⟩
theorem mt_131 : mi 131 = mi_131 := rfl
theorem cf_382 : CalF mi_382 := ⟨W4814, by decide⟩
theorem vf_382_37 : ViF mi_382 37 5 := ⟨cf_382, "KeelHouseModel", kn_37, W4812, W4813, oy_KeelHouseModel _ _, rfl⟩
theorem mt_382 : mi 382 = mi_382 := rfl
theorem cf_132 : CalF mi_132 := ⟨W2727, by decide⟩
theorem sf_132 : StF mi_132 4 := ⟨cf_132, W2726, W129, oy_KeelHouseLaw _ _, rfl⟩
theorem mt_132 : mi 132 = mi_132 := rfl
theorem cf_383 : CalF mi_383 := ⟨W4818, by decide⟩
theorem vf_383_37 : ViF mi_383 37 2 := ⟨cf_383, "KeelHouseModel", kn_37, W4816, W4817, oy_KeelHouseModel _ _, rfl⟩
theorem mt_383 : mi 383 = mi_383 := rfl
theorem cf_133 : CalF mi_133 := ⟨W2734, by decide⟩
theorem sf_133 : StF mi_133 3 := ⟨cf_133, W2733, W129, oy_KeelHouseLaw _ _, rfl⟩
theorem mt_133 : mi 133 = mi_133 := rfl
theorem cf_384 : CalF mi_384 := ⟨W4822, by decide⟩
theorem vf_384_37 : ViF mi_384 37 1 := ⟨cf_384, "KeelHouseModel", kn_37, W4820, W4821, oy_KeelHouseModel _ _, rfl⟩
theorem mt_384 : mi 384 = mi_384 := rfl
theorem cf_134 : CalF mi_134 := ⟨W2753, by decide⟩
theorem sf_134 : StF mi_134 5 := ⟨cf_134, W2752, W129, oy_KeelHouseLaw _ _, rfl⟩
theorem mt_134 : mi 134 = mi_134 := rfl
theorem cf_385 : CalF mi_385 := ⟨W4866, by decide⟩
theorem vf_385_37 : ViF mi_385 37 3 := ⟨cf_385, "KeelHouseModel", kn_37, W4864, W4865, oy_KeelHouseModel _ _, rfl⟩
theorem mt_385 : mi 385 = mi_385 := rfl
theorem cf_135 : CalF mi_135 := ⟨W2760, by decide⟩
theorem sf_135 : StF mi_135 6 := ⟨cf_135, W2759, W129, oy_KeelHouseLaw _ _, rfl⟩
theorem mt_135 : mi 135 = mi_135 := rfl
theorem cf_387 : CalF mi_387 := ⟨W4874, by decide⟩
theorem vf_387_37 : ViF mi_387 37 4 := ⟨cf_387, "KeelHouseModel", kn_37, W4872, W4873, oy_KeelHouseModel _ _, rfl⟩
theorem mt_387 : mi 387 = mi_387 := rfl
theorem cf_136 : CalF mi_136 := ⟨W2780, by decide⟩
theorem sf_136 : StF mi_136 4 := ⟨cf_136, W2779, W129, oy_KeelHouseLaw _ _, rfl⟩
theorem mt_136 : mi 136 = mi_136 := rfl
theorem cf_388 : CalF mi_388 := ⟨W4882, by decide⟩
theorem vf_388_37 : ViF mi_388 37 2 := ⟨cf_388, "KeelHouseModel", kn_37, W4880, W4881, oy_KeelHouseModel _ _, rfl⟩
theorem mt_388 : mi 388 = mi_388 := rfl
theorem cf_137 : CalF mi_137 := ⟨W2787, by decide⟩
theorem sf_137 : StF mi_137 7 := ⟨cf_137, W2786, W129, oy_KeelHouseLaw _ _, rfl⟩
theorem mt_137 : mi 137 = mi_137 := rfl
theorem cf_389 : CalF mi_389 := ⟨W4890, by decide⟩
theorem vf_389_37 : ViF mi_389 37 5 := ⟨cf_389, "KeelHouseModel", kn_37, W4888, W4889, oy_KeelHouseModel _ _, rfl⟩
theorem mt_389 : mi 389 = mi_389 := rfl
theorem cf_138 : CalF mi_138 := ⟨W2833, by decide⟩
theorem sf_138 : StF mi_138 4 := ⟨cf_138, W2832, W129, oy_KeelHouseLaw _ _, rfl⟩
theorem mt_138 : mi 138 = mi_138 := rfl
theorem cf_390 : CalF mi_390 := ⟨W4894, by decide⟩
theorem vf_390_37 : ViF mi_390 37 2 := ⟨cf_390, "KeelHouseModel", kn_37, W4892, W4893, oy_KeelHouseModel _ _, rfl⟩
theorem mt_390 : mi 390 = mi_390 := rfl
theorem cf_139 : CalF mi_139 := ⟨W2906, by decide⟩
theorem sf_139 : StF mi_139 6 := ⟨cf_139, W2905, W129, oy_KeelHouseLaw _ _, rfl⟩
theorem mt_139 : mi 139 = mi_139 := rfl
theorem cf_393 : CalF mi_393 := ⟨W4907, by decide⟩
theorem vf_393_37 : ViF mi_393 37 4 := ⟨cf_393, "KeelHouseModel", kn_37, W4905, W4906, oy_KeelHouseModel _ _, rfl⟩
theorem mt_393 : mi 393 = mi_393 := rfl
theorem cf_140 : CalF mi_140 := ⟨W3123, by decide⟩
theorem sf_140 : StF mi_140 4 := ⟨cf_140, W3122, W129, oy_KeelHouseLaw _ _, rfl⟩
theorem mt_140 : mi 140 = mi_140 := rfl
theorem cf_402 : CalF mi_402 := ⟨W4951, by decide⟩
theorem vf_402_37 : ViF mi_402 37 2 := ⟨cf_402, "KeelHouseModel", kn_37, W4949, W4950, oy_KeelHouseModel _ _, rfl⟩
theorem mt_402 : mi 402 = mi_402 := rfl
theorem cf_141 : CalF mi_141 := ⟨W3130, by decide⟩
theorem sf_141 : StF mi_141 3 := ⟨cf_141, W3129, W129, oy_KeelHouseLaw _ _, rfl⟩
theorem mt_141 : mi 141 = mi_141 := rfl
theorem cf_403 : CalF mi_403 := ⟨W4956, by decide⟩
theorem vf_403_37 : ViF mi_403 37 1 := ⟨cf_403, "KeelHouseModel", kn_37, W4954, W4955, oy_KeelHouseModel _ _, rfl⟩
theorem mt_403 : mi 403 = mi_403 := rfl
theorem cf_142 : CalF mi_142 := ⟨W3141, by decide⟩
theorem sf_142 : StF mi_142 4 := ⟨cf_142, W3140, W129, oy_KeelHouseLaw _ _, rfl⟩
theorem mt_142 : mi 142 = mi_142 := rfl
theorem cf_404 : CalF mi_404 := ⟨W4960, by decide⟩
theorem vf_404_37 : ViF mi_404 37 2 := ⟨cf_404, "KeelHouseModel", kn_37, W4958, W4959, oy_KeelHouseModel _ _, rfl⟩
theorem mt_404 : mi 404 = mi_404 := rfl
theorem cf_143 : CalF mi_143 := ⟨W3148, by decide⟩
theorem sf_143 : StF mi_143 4 := ⟨cf_143, W3147, W129, oy_KeelHouseLaw _ _, rfl⟩
theorem mt_143 : mi 143 = mi_143 := rfl
theorem cf_406 : CalF mi_406 := ⟨W4973, by decide⟩
theorem vf_406_37 : ViF mi_406 37 2 := ⟨cf_406, "KeelHouseModel", kn_37, W4971, W4972, oy_KeelHouseModel _ _, rfl⟩
theorem mt_406 : mi 406 = mi_406 := rfl
theorem cf_144 : CalF mi_144 := ⟨W3160, by decide⟩
theorem sf_144 : StF mi_144 4 := ⟨cf_144, W3159, W129, oy_KeelHouseLaw _ _, rfl⟩
theorem mt_144 : mi 144 = mi_144 := rfl
theorem cf_407 : CalF mi_407 := ⟨W4977, by decide⟩
theorem vf_407_37 : ViF mi_407 37 2 := ⟨cf_407, "KeelHouseModel", kn_37, W4975, W4976, oy_KeelHouseModel _ _, rfl⟩
theorem mt_407 : mi 407 = mi_407 := rfl
theorem cf_145 : CalF mi_145 := ⟨W3198, by decide⟩
theorem sf_145 : StF mi_145 3 := ⟨cf_145, W3197, W129, oy_KeelHouseLaw _ _, rfl⟩
theorem mt_145 : mi 145 = mi_145 := rfl
theorem cf_409 : CalF mi_409 := ⟨W5007, by decide⟩
theorem vf_409_37 : ViF mi_409 37 1 := ⟨cf_409, "KeelHouseModel", kn_37, W5005, W5006, oy_KeelHouseModel _ _, rfl⟩
theorem mt_409 : mi 409 = mi_409 := rfl
theorem cf_146 : CalF mi_146 := ⟨W3268, by decide⟩
theorem sf_146 : StF mi_146 4 := ⟨cf_146, W3267, W129, oy_KeelHouseLaw _ _, rfl⟩
theorem mt_146 : mi 146 = mi_146 := rfl
theorem cf_413 : CalF mi_413 := ⟨W5055, by decide⟩
theorem vf_413_37 : ViF mi_413 37 2 := ⟨cf_413, "KeelHouseModel", kn_37, W5053, W5054, oy_KeelHouseModel _ _, rfl⟩
theorem mt_413 : mi 413 = mi_413 := rfl
theorem cf_147 : CalF mi_147 := ⟨W3293, by decide⟩
theorem sf_147 : StF mi_147 4 := ⟨cf_147, W3292, W129, oy_KeelHouseLaw _ _, rfl⟩
theorem mt_147 : mi 147 = mi_147 := rfl
theorem cf_415 : CalF mi_415 := ⟨W5064, by decide⟩
theorem vf_415_37 : ViF mi_415 37 2 := ⟨cf_415, "KeelHouseModel", kn_37, W5062, W5063, oy_KeelHouseModel _ _, rfl⟩
theorem mt_415 : mi 415 = mi_415 := rfl
theorem cf_148 : CalF mi_148 := ⟨W3300, by decide⟩
theorem sf_148 : StF mi_148 4 := ⟨cf_148, W3299, W129, oy_KeelHouseLaw _ _, rfl⟩
theorem mt_148 : mi 148 = mi_148 := rfl
theorem cf_417 : CalF mi_417 := ⟨W5073, by decide⟩
theorem vf_417_37 : ViF mi_417 37 2 := ⟨cf_417, "KeelHouseModel", kn_37, W5071, W5072, oy_KeelHouseModel _ _, rfl⟩
theorem mt_417 : mi 417 = mi_417 := rfl
theorem cf_149 : CalF mi_149 := ⟨W3307, by decide⟩
theorem sf_149 : StF mi_149 3 := ⟨cf_149, W3306, W129, oy_KeelHouseLaw _ _, rfl⟩
theorem mt_149 : mi 149 = mi_149 := rfl
theorem cf_419 : CalF mi_419 := ⟨W5082, by decide⟩
theorem vf_419_37 : ViF mi_419 37 1 := ⟨cf_419, "KeelHouseModel", kn_37, W5080, W5081, oy_KeelHouseModel _ _, rfl⟩
theorem mt_419 : mi 419 = mi_419 := rfl
theorem cf_150 : CalF mi_150 := ⟨W3317, by decide⟩
theorem sf_150 : StF mi_150 4 := ⟨cf_150, W3316, W129, oy_KeelHouseLaw _ _, rfl⟩
theorem mt_150 : mi 150 = mi_150 := rfl
theorem cf_421 : CalF mi_421 := ⟨W5089, by decide⟩
theorem vf_421_37 : ViF mi_421 37 2 := ⟨cf_421, "KeelHouseModel", kn_37, W5087, W5088, oy_KeelHouseModel _ _, rfl⟩
theorem mt_421 : mi 421 = mi_421 := rfl
theorem cf_151 : CalF mi_151 := ⟨W3324, by decide⟩
theorem sf_151 : StF mi_151 3 := ⟨cf_151, W3323, W129, oy_KeelHouseLaw _ _, rfl⟩
theorem mt_151 : mi 151 = mi_151 := rfl
theorem cf_422 : CalF mi_422 := ⟨W5093, by decide⟩
theorem vf_422_37 : ViF mi_422 37 1 := ⟨cf_422, "KeelHouseModel", kn_37, W5091, W5092, oy_KeelHouseModel _ _, rfl⟩
theorem mt_422 : mi 422 = mi_422 := rfl
theorem cf_152 : CalF mi_152 := ⟨W3482, by decide⟩
theorem sf_152 : StF mi_152 5 := ⟨cf_152, W3481, W129, oy_KeelHouseLaw _ _, rfl⟩
theorem mt_152 : mi 152 = mi_152 := rfl
theorem cf_429 : CalF mi_429 := ⟨W5255, by decide⟩
theorem vf_429_37 : ViF mi_429 37 3 := ⟨cf_429, "KeelHouseModel", kn_37, W5253, W5254, oy_KeelHouseModel _ _, rfl⟩
theorem mt_429 : mi 429 = mi_429 := rfl
theorem cf_153 : CalF mi_153 := ⟨W3497, by decide⟩
theorem sf_153 : StF mi_153 4 := ⟨cf_153, W3496, W129, oy_KeelHouseLaw _ _, rfl⟩
theorem mt_153 : mi 153 = mi_153 := rfl
theorem cf_430 : CalF mi_430 := ⟨W5274, by decide⟩
theorem vf_430_37 : ViF mi_430 37 2 := ⟨cf_430, "KeelHouseModel", kn_37, W5272, W5273, oy_KeelHouseModel _ _, rfl⟩
theorem mt_430 : mi 430 = mi_430 := rfl
theorem cf_154 : CalF mi_154 := ⟨W3504, by decide⟩
theorem sf_154 : StF mi_154 3 := ⟨cf_154, W3503, W129, oy_KeelHouseLaw _ _, rfl⟩
theorem mt_154 : mi 154 = mi_154 := rfl
theorem cf_432 : CalF mi_432 := ⟨W5295, by decide⟩
theorem vf_432_37 : ViF mi_432 37 1 := ⟨cf_432, "KeelHouseModel", kn_37, W5293, W5294, oy_KeelHouseModel _ _, rfl⟩
theorem mt_432 : mi 432 = mi_432 := rfl
theorem cf_155 : CalF mi_155 := ⟨W3511, by decide⟩
theorem sf_155 : StF mi_155 4 := ⟨cf_155, W3510, W129, oy_KeelHouseLaw _ _, rfl⟩
theorem mt_155 : mi 155 = mi_155 := rfl
theorem cf_434 : CalF mi_434 := ⟨W5303, by decide⟩
theorem vf_434_37 : ViF mi_434 37 2 := ⟨cf_434, "KeelHouseModel", kn_37, W5301, W5302, oy_KeelHouseModel _ _, rfl⟩
theorem mt_434 : mi 434 = mi_434 := rfl
theorem cf_156 : CalF mi_156 := ⟨W3542, by decide⟩
theorem sf_156 : StF mi_156 4 := ⟨cf_156, W3541, W129, oy_KeelHouseLaw _ _, rfl⟩
theorem mt_156 : mi 156 = mi_156 := rfl
theorem cf_435 : CalF mi_435 := ⟨W5311, by decide⟩
theorem vf_435_37 : ViF mi_435 37 2 := ⟨cf_435, "KeelHouseModel", kn_37, W5309, W5310, oy_KeelHouseModel _ _, rfl⟩
theorem mt_435 : mi 435 = mi_435 := rfl
theorem cf_157 : CalF mi_157 := ⟨W3549, by decide⟩
theorem sf_157 : StF mi_157 6 := ⟨cf_157, W3548, W129, oy_KeelHouseLaw _ _, rfl⟩
theorem mt_157 : mi 157 = mi_157 := rfl
theorem cf_436 : CalF mi_436 := ⟨W5315, by decide⟩
theorem vf_436_37 : ViF mi_436 37 4 := ⟨cf_436, "KeelHouseModel", kn_37, W5313, W5314, oy_KeelHouseModel _ _, rfl⟩
theorem mt_436 : mi 436 = mi_436 := rfl
theorem cf_158 : CalF mi_158 := ⟨W3592, by decide⟩
theorem sf_158 : StF mi_158 4 := ⟨cf_158, W3591, W129, oy_KeelHouseLaw _ _, rfl⟩
theorem mt_158 : mi 158 = mi_158 := rfl
theorem cf_437 : CalF mi_437 := ⟨W5319, by decide⟩
theorem vf_437_37 : ViF mi_437 37 2 := ⟨cf_437, "KeelHouseModel", kn_37, W5317, W5318, oy_KeelHouseModel _ _, rfl⟩
theorem mt_437 : mi 437 = mi_437 := rfl
theorem cf_159 : CalF mi_159 := ⟨W3605, by decide⟩
theorem sf_159 : StF mi_159 4 := ⟨cf_159, W3604, W129, oy_KeelHouseLaw _ _, rfl⟩
theorem mt_159 : mi 159 = mi_159 := rfl
theorem cf_438 : CalF mi_438 := ⟨W5324, by decide⟩
theorem vf_438_37 : ViF mi_438 37 2 := ⟨cf_438, "KeelHouseModel", kn_37, W5322, W5323, oy_KeelHouseModel _ _, rfl⟩
theorem mt_438 : mi 438 = mi_438 := rfl
theorem cf_160 : CalF mi_160 := ⟨W3613, by decide⟩
theorem sf_160 : StF mi_160 3 := ⟨cf_160, W3612, W129, oy_KeelHouseLaw _ _, rfl⟩
theorem mt_160 : mi 160 = mi_160 := rfl
theorem cf_439 : CalF mi_439 := ⟨W5328, by decide⟩
theorem vf_439_37 : ViF mi_439 37 1 := ⟨cf_439, "KeelHouseModel", kn_37, W5326, W5327, oy_KeelHouseModel _ _, rfl⟩
theorem mt_439 : mi 439 = mi_439 := rfl
theorem cf_161 : CalF mi_161 := ⟨W3631, by decide⟩
theorem sf_161 : StF mi_161 3 := ⟨cf_161, W3630, W129, oy_KeelHouseLaw _ _, rfl⟩
theorem mt_161 : mi 161 = mi_161 := rfl
theorem cf_440 : CalF mi_440 := ⟨W5332, by decide⟩
theorem vf_440_37 : ViF mi_440 37 1 := ⟨cf_440, "KeelHouseModel", kn_37, W5330, W5331, oy_KeelHouseModel _ _, rfl⟩
theorem mt_440 : mi 440 = mi_440 := rfl
theorem cf_162 : CalF mi_162 := ⟨W3644, by decide⟩
theorem sf_162 : StF mi_162 4 := ⟨cf_162, W3643, W129, oy_KeelHouseLaw _ _, rfl⟩
theorem mt_162 : mi 162 = mi_162 := rfl
theorem cf_441 : CalF mi_441 := ⟨W5345, by decide⟩
theorem vf_441_37 : ViF mi_441 37 2 := ⟨cf_441, "KeelHouseModel", kn_37, W5343, W5344, oy_KeelHouseModel _ _, rfl⟩
theorem mt_441 : mi 441 = mi_441 := rfl
theorem cf_163 : CalF mi_163 := ⟨W3651, by decide⟩
theorem sf_163 : StF mi_163 4 := ⟨cf_163, W3650, W129, oy_KeelHouseLaw _ _, rfl⟩
theorem mt_163 : mi 163 = mi_163 := rfl
theorem cf_442 : CalF mi_442 := ⟨W5365, by decide⟩
theorem vf_442_37 : ViF mi_442 37 2 := ⟨cf_442, "KeelHouseModel", kn_37, W5363, W5364, oy_KeelHouseModel _ _, rfl⟩
theorem mt_442 : mi 442 = mi_442 := rfl
theorem cf_164 : CalF mi_164 := ⟨W3658, by decide⟩
theorem sf_164 : StF mi_164 7 := ⟨cf_164, W3657, W129, oy_KeelHouseLaw _ _, rfl⟩
theorem mt_164 : mi 164 = mi_164 := rfl
theorem cf_443 : CalF mi_443 := ⟨W5371, by decide⟩
theorem vf_443_37 : ViF mi_443 37 5 := ⟨cf_443, "KeelHouseModel", kn_37, W5369, W5370, oy_KeelHouseModel _ _, rfl⟩
theorem mt_443 : mi 443 = mi_443 := rfl
theorem cf_165 : CalF mi_165 := ⟨W3714, by decide⟩
theorem sf_165 : StF mi_165 5 := ⟨cf_165, W3713, W129, oy_KeelHouseLaw _ _, rfl⟩
theorem mt_165 : mi 165 = mi_165 := rfl
theorem cf_444 : CalF mi_444 := ⟨W5375, by decide⟩
theorem vf_444_37 : ViF mi_444 37 3 := ⟨cf_444, "KeelHouseModel", kn_37, W5373, W5374, oy_KeelHouseModel _ _, rfl⟩
theorem mt_444 : mi 444 = mi_444 := rfl
theorem cf_166 : CalF mi_166 := ⟨W3737, by decide⟩
theorem sf_166 : StF mi_166 3 := ⟨cf_166, W3736, W129, oy_KeelHouseLaw _ _, rfl⟩
theorem mt_166 : mi 166 = mi_166 := rfl
theorem cf_448 : CalF mi_448 := ⟨W5391, by decide⟩
theorem vf_448_37 : ViF mi_448 37 1 := ⟨cf_448, "KeelHouseModel", kn_37, W5389, W5390, oy_KeelHouseModel _ _, rfl⟩
theorem mt_448 : mi 448 = mi_448 := rfl
theorem cf_167 : CalF mi_167 := ⟨W3754, by decide⟩
theorem sf_167 : StF mi_167 3 := ⟨cf_167, W3753, W129, oy_KeelHouseLaw _ _, rfl⟩
theorem mt_167 : mi 167 = mi_167 := rfl
theorem cf_450 : CalF mi_450 := ⟨W5405, by decide⟩
theorem vf_450_37 : ViF mi_450 37 1 := ⟨cf_450, "KeelHouseModel", kn_37, W5403, W5404, oy_KeelHouseModel _ _, rfl⟩
theorem mt_450 : mi 450 = mi_450 := rfl
theorem cf_168 : CalF mi_168 := ⟨W3761, by decide⟩
theorem sf_168 : StF mi_168 4 := ⟨cf_168, W3760, W129, oy_KeelHouseLaw _ _, rfl⟩
theorem mt_168 : mi 168 = mi_168 := rfl
theorem cf_451 : CalF mi_451 := ⟨W5409, by decide⟩
theorem vf_451_37 : ViF mi_451 37 2 := ⟨cf_451, "KeelHouseModel", kn_37, W5407, W5408, oy_KeelHouseModel _ _, rfl⟩
theorem mt_451 : mi 451 = mi_451 := rfl
theorem cf_169 : CalF mi_169 := ⟨W3768, by decide⟩
theorem sf_169 : StF mi_169 3 := ⟨cf_169, W3767, W129, oy_KeelHouseLaw _ _, rfl⟩
theorem mt_169 : mi 169 = mi_169 := rfl
theorem cf_453 : CalF mi_453 := ⟨W5417, by decide⟩
theorem vf_453_37 : ViF mi_453 37 1 := ⟨cf_453, "KeelHouseModel", kn_37, W5415, W5416, oy_KeelHouseModel _ _, rfl⟩
theorem mt_453 : mi 453 = mi_453 := rfl
theorem cf_170 : CalF mi_170 := ⟨W3785, by decide⟩
theorem sf_170 : StF mi_170 5 := ⟨cf_170, W3784, W129, oy_KeelHouseLaw _ _, rfl⟩
theorem mt_170 : mi 170 = mi_170 := rfl
theorem cf_454 : CalF mi_454 := ⟨W5421, by decide⟩
theorem vf_454_37 : ViF mi_454 37 3 := ⟨cf_454, "KeelHouseModel", kn_37, W5419, W5420, oy_KeelHouseModel _ _, rfl⟩
theorem mt_454 : mi 454 = mi_454 := rfl
theorem cf_171 : CalF mi_171 := ⟨W3814, by decide⟩
theorem sf_171 : StF mi_171 7 := ⟨cf_171, W3813, W129, oy_KeelHouseLaw _ _, rfl⟩
theorem mt_171 : mi 171 = mi_171 := rfl
theorem cf_455 : CalF mi_455 := ⟨W5425, by decide⟩
theorem vf_455_37 : ViF mi_455 37 5 := ⟨cf_455, "KeelHouseModel", kn_37, W5423, W5424, oy_KeelHouseModel _ _, rfl⟩
theorem mt_455 : mi 455 = mi_455 := rfl
theorem cf_172 : CalF mi_172 := ⟨W3880, by decide⟩
theorem sf_172 : StF mi_172 4 := ⟨cf_172, W3879, W129, oy_KeelHouseLaw _ _, rfl⟩
theorem mt_172 : mi 172 = mi_172 := rfl
theorem cf_457 : CalF mi_457 := ⟨W5480, by decide⟩
theorem vf_457_37 : ViF mi_457 37 2 := ⟨cf_457, "KeelHouseModel", kn_37, W5478, W5479, oy_KeelHouseModel _ _, rfl⟩
theorem mt_457 : mi 457 = mi_457 := rfl
theorem cf_173 : CalF mi_173 := ⟨W3889, by decide⟩
theorem sf_173 : StF mi_173 5 := ⟨cf_173, W3888, W129, oy_KeelHouseLaw _ _, rfl⟩
theorem mt_173 : mi 173 = mi_173 := rfl
theorem cf_458 : CalF mi_458 := ⟨W5484, by decide⟩
theorem vf_458_37 : ViF mi_458 37 3 := ⟨cf_458, "KeelHouseModel", kn_37, W5482, W5483, oy_KeelHouseModel _ _, rfl⟩
theorem mt_458 : mi 458 = mi_458 := rfl
theorem cf_174 : CalF mi_174 := ⟨W4143, by decide⟩
theorem sf_174 : StF mi_174 3 := ⟨cf_174, W4142, W129, oy_KeelHouseLaw _ _, rfl⟩
theorem mt_174 : mi 174 = mi_174 := rfl
theorem cf_462 : CalF mi_462 := ⟨W5507, by decide⟩
theorem vf_462_37 : ViF mi_462 37 1 := ⟨cf_462, "KeelHouseModel", kn_37, W5505, W5506, oy_KeelHouseModel _ _, rfl⟩
theorem mt_462 : mi 462 = mi_462 := rfl
theorem cf_175 : CalF mi_175 := ⟨W4161, by decide⟩
theorem sf_175 : StF mi_175 4 := ⟨cf_175, W4160, W129, oy_KeelHouseLaw _ _, rfl⟩
theorem mt_175 : mi 175 = mi_175 := rfl
theorem cf_463 : CalF mi_463 := ⟨W5512, by decide⟩
theorem vf_463_37 : ViF mi_463 37 2 := ⟨cf_463, "KeelHouseModel", kn_37, W5510, W5511, oy_KeelHouseModel _ _, rfl⟩
theorem mt_463 : mi 463 = mi_463 := rfl
theorem cf_176 : CalF mi_176 := ⟨W4181, by decide⟩
theorem sf_176 : StF mi_176 4 := ⟨cf_176, W4180, W129, oy_KeelHouseLaw _ _, rfl⟩
theorem mt_176 : mi 176 = mi_176 := rfl
theorem cf_465 : CalF mi_465 := ⟨W5521, by decide⟩
theorem vf_465_37 : ViF mi_465 37 2 := ⟨cf_465, "KeelHouseModel", kn_37, W5519, W5520, oy_KeelHouseModel _ _, rfl⟩
theorem mt_465 : mi 465 = mi_465 := rfl
theorem cf_177 : CalF mi_177 := ⟨W4188, by decide⟩
theorem sf_177 : StF mi_177 4 := ⟨cf_177, W4187, W129, oy_KeelHouseLaw _ _, rfl⟩
theorem mt_177 : mi 177 = mi_177 := rfl
theorem cf_466 : CalF mi_466 := ⟨W5533, by decide⟩
theorem vf_466_37 : ViF mi_466 37 2 := ⟨cf_466, "KeelHouseModel", kn_37, W5531, W5532, oy_KeelHouseModel _ _, rfl⟩
theorem mt_466 : mi 466 = mi_466 := rfl
theorem cf_178 : CalF mi_178 := ⟨W4195, by decide⟩
theorem sf_178 : StF mi_178 5 := ⟨cf_178, W4194, W129, oy_KeelHouseLaw _ _, rfl⟩
theorem mt_178 : mi 178 = mi_178 := rfl
theorem cf_468 : CalF mi_468 := ⟨W5541, by decide⟩
theorem vf_468_37 : ViF mi_468 37 3 := ⟨cf_468, "KeelHouseModel", kn_37, W5539, W5540, oy_KeelHouseModel _ _, rfl⟩
theorem mt_468 : mi 468 = mi_468 := rfl
theorem cf_179 : CalF mi_179 := ⟨W4214, by decide⟩
theorem sf_179 : StF mi_179 5 := ⟨cf_179, W4213, W129, oy_KeelHouseLaw _ _, rfl⟩
theorem mt_179 : mi 179 = mi_179 := rfl
theorem cf_470 : CalF mi_470 := ⟨W5551, by decide⟩
theorem vf_470_37 : ViF mi_470 37 3 := ⟨cf_470, "KeelHouseModel", kn_37, W5549, W5550, oy_KeelHouseModel _ _, rfl⟩
theorem mt_470 : mi 470 = mi_470 := rfl
theorem kn_1 : KN 1 "KeelHouse" := ⟨by decide, Or.inl ⟨_, rfl, by decide, rfl⟩⟩
theorem cf_183 : CalF mi_183 := ⟨W443, by decide⟩
theorem vf_183_1 : ViF mi_183 1 0 := ⟨cf_183, "KeelHouse", kn_1, W441, W442, oy_KeelHouse _ _, rfl⟩
theorem mt_183 : mi 183 = mi_183 := rfl
theorem cf_472 : CalF mi_472 := ⟨W5559, by decide⟩
theorem vf_472_37 : ViF mi_472 37 0 := ⟨cf_472, "KeelHouseModel", kn_37, W5557, W5558, oy_KeelHouseModel _ _, rfl⟩
theorem mt_472 : mi 472 = mi_472 := rfl
theorem cf_180 : CalF mi_180 := ⟨W4221, by decide⟩
theorem sf_180 : StF mi_180 3 := ⟨cf_180, W4220, W129, oy_KeelHouseLaw _ _, rfl⟩
theorem mt_180 : mi 180 = mi_180 := rfl
theorem cf_473 : CalF mi_473 := ⟨W5563, by decide⟩
theorem vf_473_37 : ViF mi_473 37 1 := ⟨cf_473, "KeelHouseModel", kn_37, W5561, W5562, oy_KeelHouseModel _ _, rfl⟩
theorem mt_473 : mi 473 = mi_473 := rfl
theorem cf_184 : CalF mi_184 := ⟨W447, by decide⟩
theorem vf_184_1 : ViF mi_184 1 0 := ⟨cf_184, "KeelHouse", kn_1, W445, W446, oy_KeelHouse _ _, rfl⟩
theorem mt_184 : mi 184 = mi_184 := rfl
theorem cf_477 : CalF mi_477 := ⟨W5579, by decide⟩
theorem vf_477_37 : ViF mi_477 37 0 := ⟨cf_477, "KeelHouseModel", kn_37, W5577, W5578, oy_KeelHouseModel _ _, rfl⟩
theorem mt_477 : mi 477 = mi_477 := rfl
theorem cf_186 : CalF mi_186 := ⟨W667, by decide⟩
theorem vf_186_1 : ViF mi_186 1 0 := ⟨cf_186, "KeelHouse", kn_1, W665, W666, oy_KeelHouse _ _, rfl⟩
theorem mt_186 : mi 186 = mi_186 := rfl
theorem cf_480 : CalF mi_480 := ⟨W5597, by decide⟩
theorem vf_480_37 : ViF mi_480 37 0 := ⟨cf_480, "KeelHouseModel", kn_37, W5595, W5596, oy_KeelHouseModel _ _, rfl⟩
theorem mt_480 : mi 480 = mi_480 := rfl
theorem cf_181 : CalF mi_181 := ⟨W4228, by decide⟩
theorem sf_181 : StF mi_181 3 := ⟨cf_181, W4227, W129, oy_KeelHouseLaw _ _, rfl⟩
theorem mt_181 : mi 181 = mi_181 := rfl
theorem cf_481 : CalF mi_481 := ⟨W5601, by decide⟩
theorem vf_481_37 : ViF mi_481 37 1 := ⟨cf_481, "KeelHouseModel", kn_37, W5599, W5600, oy_KeelHouseModel _ _, rfl⟩
theorem mt_481 : mi 481 = mi_481 := rfl
theorem fld_21_2 : FldF 21 2 3 91 ("KeelHouseLaw$Out", "s", "Ljava/lang/String;", false) := ⟨_, rfl, by decide, by decide, by decide, rfl, rfl⟩
theorem cf_32 : CalF mi_32 := ⟨W3052, by decide⟩
theorem vf_32_14 : ViF mi_32 14 1 := ⟨cf_32, "java/lang/String", kn_14, W3051, W5641, oy_java_lang_String _ _, rfl⟩
theorem cf_187 : CalF mi_187 := ⟨W912, by decide⟩
theorem vf_187_1 : ViF mi_187 1 0 := ⟨cf_187, "KeelHouse", kn_1, W910, W911, oy_KeelHouse _ _, rfl⟩
theorem mt_187 : mi 187 = mi_187 := rfl
theorem cf_482 : CalF mi_482 := ⟨W5623, by decide⟩
theorem vf_482_37 : ViF mi_482 37 0 := ⟨cf_482, "KeelHouseModel", kn_37, W5621, W5622, oy_KeelHouseModel _ _, rfl⟩
theorem mt_482 : mi 482 = mi_482 := rfl
theorem mt_117 : mi 117 = mi_117 := rfl
theorem cf_202 : CalF mi_202 := ⟨W1765, by decide⟩
theorem vf_202_1 : ViF mi_202 1 4 := ⟨cf_202, "KeelHouse", kn_1, W1763, W1764, oy_KeelHouse _ _, rfl⟩
theorem mt_202 : mi 202 = mi_202 := rfl
theorem cf_208 : CalF mi_208 := ⟨W2534, by decide⟩
theorem vf_208_1 : ViF mi_208 1 4 := ⟨cf_208, "KeelHouse", kn_1, W2532, W2533, oy_KeelHouse _ _, rfl⟩
theorem mt_208 : mi 208 = mi_208 := rfl
theorem cf_211 : CalF mi_211 := ⟨W2569, by decide⟩
theorem vf_211_1 : ViF mi_211 1 1 := ⟨cf_211, "KeelHouse", kn_1, W2567, W2568, oy_KeelHouse _ _, rfl⟩
theorem mt_211 : mi 211 = mi_211 := rfl
theorem cf_212 : CalF mi_212 := ⟨W2582, by decide⟩
theorem vf_212_1 : ViF mi_212 1 2 := ⟨cf_212, "KeelHouse", kn_1, W2580, W2581, oy_KeelHouse _ _, rfl⟩
theorem mt_212 : mi 212 = mi_212 := rfl
theorem cf_213 : CalF mi_213 := ⟨W2589, by decide⟩
theorem vf_213_1 : ViF mi_213 1 3 := ⟨cf_213, "KeelHouse", kn_1, W2587, W2588, oy_KeelHouse _ _, rfl⟩
theorem mt_213 : mi 213 = mi_213 := rfl
theorem cf_215 : CalF mi_215 := ⟨W2613, by decide⟩
theorem vf_215_1 : ViF mi_215 1 2 := ⟨cf_215, "KeelHouse", kn_1, W2611, W2612, oy_KeelHouse _ _, rfl⟩
theorem mt_215 : mi 215 = mi_215 := rfl
theorem cf_216 : CalF mi_216 := ⟨W2622, by decide⟩
theorem vf_216_1 : ViF mi_216 1 5 := ⟨cf_216, "KeelHouse", kn_1, W2620, W2621, oy_KeelHouse _ _, rfl⟩
theorem mt_216 : mi 216 = mi_216 := rfl
theorem cf_217 : CalF mi_217 := ⟨W2662, by decide⟩
theorem vf_217_1 : ViF mi_217 1 2 := ⟨cf_217, "KeelHouse", kn_1, W2660, W2661, oy_KeelHouse _ _, rfl⟩
theorem mt_217 : mi 217 = mi_217 := rfl
theorem cf_218 : CalF mi_218 := ⟨W2678, by decide⟩
theorem vf_218_1 : ViF mi_218 1 2 := ⟨cf_218, "KeelHouse", kn_1, W2676, W2677, oy_KeelHouse _ _, rfl⟩
theorem mt_218 : mi 218 = mi_218 := rfl
theorem cf_220 : CalF mi_220 := ⟨W2693, by decide⟩
theorem vf_220_1 : ViF mi_220 1 2 := ⟨cf_220, "KeelHouse", kn_1, W2691, W2692, oy_KeelHouse _ _, rfl⟩
theorem mt_220 : mi 220 = mi_220 := rfl
theorem cf_221 : CalF mi_221 := ⟨W2701, by decide⟩
theorem vf_221_1 : ViF mi_221 1 2 := ⟨cf_221, "KeelHouse", kn_1, W2699, W2700, oy_KeelHouse _ _, rfl⟩
theorem mt_221 : mi 221 = mi_221 := rfl
theorem cf_222 : CalF mi_222 := ⟨W2708, by decide⟩
theorem vf_222_1 : ViF mi_222 1 3 := ⟨cf_222, "KeelHouse", kn_1, W2706, W2707, oy_KeelHouse _ _, rfl⟩
theorem mt_222 : mi 222 = mi_222 := rfl
theorem cf_223 : CalF mi_223 := ⟨W2717, by decide⟩
theorem vf_223_1 : ViF mi_223 1 1 := ⟨cf_223, "KeelHouse", kn_1, W2715, W2716, oy_KeelHouse _ _, rfl⟩
theorem mt_223 : mi 223 = mi_223 := rfl
theorem cf_224 : CalF mi_224 := ⟨W2724, by decide⟩
theorem vf_224_1 : ViF mi_224 1 5 := ⟨cf_224, "KeelHouse", kn_1, W2722, W2723, oy_KeelHouse _ _, rfl⟩
theorem mt_224 : mi 224 = mi_224 := rfl
theorem cf_225 : CalF mi_225 := ⟨W2731, by decide⟩
theorem vf_225_1 : ViF mi_225 1 2 := ⟨cf_225, "KeelHouse", kn_1, W2729, W2730, oy_KeelHouse _ _, rfl⟩
theorem mt_225 : mi 225 = mi_225 := rfl
theorem cf_226 : CalF mi_226 := ⟨W2738, by decide⟩
theorem vf_226_1 : ViF mi_226 1 1 := ⟨cf_226, "KeelHouse", kn_1, W2736, W2737, oy_KeelHouse _ _, rfl⟩
theorem mt_226 : mi 226 = mi_226 := rfl
theorem cf_227 : CalF mi_227 := ⟨W2757, by decide⟩
theorem vf_227_1 : ViF mi_227 1 3 := ⟨cf_227, "KeelHouse", kn_1, W2755, W2756, oy_KeelHouse _ _, rfl⟩
theorem mt_227 : mi 227 = mi_227 := rfl
theorem cf_228 : CalF mi_228 := ⟨W2764, by decide⟩
theorem vf_228_1 : ViF mi_228 1 4 := ⟨cf_228, "KeelHouse", kn_1, W2762, W2763, oy_KeelHouse _ _, rfl⟩
theorem mt_228 : mi 228 = mi_228 := rfl
theorem cf_229 : CalF mi_229 := ⟨W2784, by decide⟩
theorem vf_229_1 : ViF mi_229 1 2 := ⟨cf_229, "KeelHouse", kn_1, W2782, W2783, oy_KeelHouse _ _, rfl⟩
theorem mt_229 : mi 229 = mi_229 := rfl
theorem cf_230 : CalF mi_230 := ⟨W2791, by decide⟩
theorem vf_230_1 : ViF mi_230 1 5 := ⟨cf_230, "KeelHouse", kn_1, W2789, W2790, oy_KeelHouse _ _, rfl⟩
theorem mt_230 : mi 230 = mi_230 := rfl
theorem cf_231 : CalF mi_231 := ⟨W2837, by decide⟩
theorem vf_231_1 : ViF mi_231 1 2 := ⟨cf_231, "KeelHouse", kn_1, W2835, W2836, oy_KeelHouse _ _, rfl⟩
theorem mt_231 : mi 231 = mi_231 := rfl
theorem cf_232 : CalF mi_232 := ⟨W2910, by decide⟩
theorem vf_232_1 : ViF mi_232 1 4 := ⟨cf_232, "KeelHouse", kn_1, W2908, W2909, oy_KeelHouse _ _, rfl⟩
theorem mt_232 : mi 232 = mi_232 := rfl
theorem cf_234 : CalF mi_234 := ⟨W3127, by decide⟩
theorem vf_234_1 : ViF mi_234 1 2 := ⟨cf_234, "KeelHouse", kn_1, W3125, W3126, oy_KeelHouse _ _, rfl⟩
theorem mt_234 : mi 234 = mi_234 := rfl
theorem cf_235 : CalF mi_235 := ⟨W3134, by decide⟩
theorem vf_235_1 : ViF mi_235 1 1 := ⟨cf_235, "KeelHouse", kn_1, W3132, W3133, oy_KeelHouse _ _, rfl⟩
theorem mt_235 : mi 235 = mi_235 := rfl
theorem cf_236 : CalF mi_236 := ⟨W3145, by decide⟩
theorem vf_236_1 : ViF mi_236 1 2 := ⟨cf_236, "KeelHouse", kn_1, W3143, W3144, oy_KeelHouse _ _, rfl⟩
theorem mt_236 : mi 236 = mi_236 := rfl
theorem cf_237 : CalF mi_237 := ⟨W3152, by decide⟩
theorem vf_237_1 : ViF mi_237 1 2 := ⟨cf_237, "KeelHouse", kn_1, W3150, W3151, oy_KeelHouse _ _, rfl⟩
theorem mt_237 : mi 237 = mi_237 := rfl
theorem cf_238 : CalF mi_238 := ⟨W3164, by decide⟩
theorem vf_238_1 : ViF mi_238 1 2 := ⟨cf_238, "KeelHouse", kn_1, W3162, W3163, oy_KeelHouse _ _, rfl⟩
theorem mt_238 : mi 238 = mi_238 := rfl
theorem cf_239 : CalF mi_239 := ⟨W3202, by decide⟩
theorem vf_239_1 : ViF mi_239 1 1 := ⟨cf_239, "KeelHouse", kn_1, W3200, W3201, oy_KeelHouse _ _, rfl⟩
theorem mt_239 : mi 239 = mi_239 := rfl
theorem cf_241 : CalF mi_241 := ⟨W3272, by decide⟩
theorem vf_241_1 : ViF mi_241 1 2 := ⟨cf_241, "KeelHouse", kn_1, W3270, W3271, oy_KeelHouse _ _, rfl⟩
theorem mt_241 : mi 241 = mi_241 := rfl
theorem cf_242 : CalF mi_242 := ⟨W3297, by decide⟩
theorem vf_242_1 : ViF mi_242 1 2 := ⟨cf_242, "KeelHouse", kn_1, W3295, W3296, oy_KeelHouse _ _, rfl⟩
theorem mt_242 : mi 242 = mi_242 := rfl
theorem cf_243 : CalF mi_243 := ⟨W3304, by decide⟩
theorem vf_243_1 : ViF mi_243 1 2 := ⟨cf_243, "KeelHouse", kn_1, W3302, W3303, oy_KeelHouse _ _, rfl⟩
theorem mt_243 : mi 243 = mi_243 := rfl
theorem cf_244 : CalF mi_244 := ⟨W3311, by decide⟩
theorem vf_244_1 : ViF mi_244 1 1 := ⟨cf_244, "KeelHouse", kn_1, W3309, W3310, oy_KeelHouse _ _, rfl⟩
theorem mt_244 : mi 244 = mi_244 := rfl
theorem cf_246 : CalF mi_246 := ⟨W3321, by decide⟩
theorem vf_246_1 : ViF mi_246 1 2 := ⟨cf_246, "KeelHouse", kn_1, W3319, W3320, oy_KeelHouse _ _, rfl⟩
theorem mt_246 : mi 246 = mi_246 := rfl
theorem cf_247 : CalF mi_247 := ⟨W3328, by decide⟩
theorem vf_247_1 : ViF mi_247 1 1 := ⟨cf_247, "KeelHouse", kn_1, W3326, W3327, oy_KeelHouse _ _, rfl⟩
theorem mt_247 : mi 247 = mi_247 := rfl
theorem cf_250 : CalF mi_250 := ⟨W3486, by decide⟩
theorem vf_250_1 : ViF mi_250 1 3 := ⟨cf_250, "KeelHouse", kn_1, W3484, W3485, oy_KeelHouse _ _, rfl⟩
theorem mt_250 : mi 250 = mi_250 := rfl
theorem cf_251 : CalF mi_251 := ⟨W3501, by decide⟩
theorem vf_251_1 : ViF mi_251 1 2 := ⟨cf_251, "KeelHouse", kn_1, W3499, W3500, oy_KeelHouse _ _, rfl⟩
theorem mt_251 : mi 251 = mi_251 := rfl
theorem cf_252 : CalF mi_252 := ⟨W3508, by decide⟩
theorem vf_252_1 : ViF mi_252 1 1 := ⟨cf_252, "KeelHouse", kn_1, W3506, W3507, oy_KeelHouse _ _, rfl⟩
theorem mt_252 : mi 252 = mi_252 := rfl
theorem cf_253 : CalF mi_253 := ⟨W3515, by decide⟩
theorem vf_253_1 : ViF mi_253 1 2 := ⟨cf_253, "KeelHouse", kn_1, W3513, W3514, oy_KeelHouse _ _, rfl⟩
theorem mt_253 : mi 253 = mi_253 := rfl
theorem cf_254 : CalF mi_254 := ⟨W3546, by decide⟩
theorem vf_254_1 : ViF mi_254 1 2 := ⟨cf_254, "KeelHouse", kn_1, W3544, W3545, oy_KeelHouse _ _, rfl⟩
theorem mt_254 : mi 254 = mi_254 := rfl
theorem cf_255 : CalF mi_255 := ⟨W3553, by decide⟩
theorem vf_255_1 : ViF mi_255 1 4 := ⟨cf_255, "KeelHouse", kn_1, W3551, W3552, oy_KeelHouse _ _, rfl⟩
theorem mt_255 : mi 255 = mi_255 := rfl
theorem cf_256 : CalF mi_256 := ⟨W3596, by decide⟩
theorem vf_256_1 : ViF mi_256 1 2 := ⟨cf_256, "KeelHouse", kn_1, W3594, W3595, oy_KeelHouse _ _, rfl⟩
theorem mt_256 : mi 256 = mi_256 := rfl
theorem cf_257 : CalF mi_257 := ⟨W3609, by decide⟩
theorem vf_257_1 : ViF mi_257 1 2 := ⟨cf_257, "KeelHouse", kn_1, W3607, W3608, oy_KeelHouse _ _, rfl⟩
theorem mt_257 : mi 257 = mi_257 := rfl
theorem cf_258 : CalF mi_258 := ⟨W3617, by decide⟩
theorem vf_258_1 : ViF mi_258 1 1 := ⟨cf_258, "KeelHouse", kn_1, W3615, W3616, oy_KeelHouse _ _, rfl⟩
theorem mt_258 : mi 258 = mi_258 := rfl
theorem cf_259 : CalF mi_259 := ⟨W3635, by decide⟩
theorem vf_259_1 : ViF mi_259 1 1 := ⟨cf_259, "KeelHouse", kn_1, W3633, W3634, oy_KeelHouse _ _, rfl⟩
theorem mt_259 : mi 259 = mi_259 := rfl
theorem cf_260 : CalF mi_260 := ⟨W3648, by decide⟩
theorem vf_260_1 : ViF mi_260 1 2 := ⟨cf_260, "KeelHouse", kn_1, W3646, W3647, oy_KeelHouse _ _, rfl⟩
theorem mt_260 : mi 260 = mi_260 := rfl
theorem cf_261 : CalF mi_261 := ⟨W3655, by decide⟩
theorem vf_261_1 : ViF mi_261 1 2 := ⟨cf_261, "KeelHouse", kn_1, W3653, W3654, oy_KeelHouse _ _, rfl⟩
theorem mt_261 : mi 261 = mi_261 := rfl
theorem cf_262 : CalF mi_262 := ⟨W3662, by decide⟩
theorem vf_262_1 : ViF mi_262 1 5 := ⟨cf_262, "KeelHouse", kn_1, W3660, W3661, oy_KeelHouse _ _, rfl⟩
theorem mt_262 : mi 262 = mi_262 := rfl
theorem cf_263 : CalF mi_263 := ⟨W3718, by decide⟩
theorem vf_263_1 : ViF mi_263 1 3 := ⟨cf_263, "KeelHouse", kn_1, W3716, W3717, oy_KeelHouse _ _, rfl⟩
theorem mt_263 : mi 263 = mi_263 := rfl
theorem cf_264 : CalF mi_264 := ⟨W3741, by decide⟩
theorem vf_264_1 : ViF mi_264 1 1 := ⟨cf_264, "KeelHouse", kn_1, W3739, W3740, oy_KeelHouse _ _, rfl⟩
theorem mt_264 : mi 264 = mi_264 := rfl
theorem cf_265 : CalF mi_265 := ⟨W3758, by decide⟩
theorem vf_265_1 : ViF mi_265 1 1 := ⟨cf_265, "KeelHouse", kn_1, W3756, W3757, oy_KeelHouse _ _, rfl⟩
theorem mt_265 : mi 265 = mi_265 := rfl
theorem cf_266 : CalF mi_266 := ⟨W3765, by decide⟩
theorem vf_266_1 : ViF mi_266 1 2 := ⟨cf_266, "KeelHouse", kn_1, W3763, W3764, oy_KeelHouse _ _, rfl⟩
theorem mt_266 : mi 266 = mi_266 := rfl
theorem cf_267 : CalF mi_267 := ⟨W3772, by decide⟩
theorem vf_267_1 : ViF mi_267 1 1 := ⟨cf_267, "KeelHouse", kn_1, W3770, W3771, oy_KeelHouse _ _, rfl⟩
theorem mt_267 : mi 267 = mi_267 := rfl
theorem cf_268 : CalF mi_268 := ⟨W3789, by decide⟩
theorem vf_268_1 : ViF mi_268 1 3 := ⟨cf_268, "KeelHouse", kn_1, W3787, W3788, oy_KeelHouse _ _, rfl⟩
theorem mt_268 : mi 268 = mi_268 := rfl
theorem cf_269 : CalF mi_269 := ⟨W3818, by decide⟩
theorem vf_269_1 : ViF mi_269 1 5 := ⟨cf_269, "KeelHouse", kn_1, W3816, W3817, oy_KeelHouse _ _, rfl⟩
theorem mt_269 : mi 269 = mi_269 := rfl
theorem cf_270 : CalF mi_270 := ⟨W3884, by decide⟩
theorem vf_270_1 : ViF mi_270 1 2 := ⟨cf_270, "KeelHouse", kn_1, W3882, W3883, oy_KeelHouse _ _, rfl⟩
theorem mt_270 : mi 270 = mi_270 := rfl
theorem cf_271 : CalF mi_271 := ⟨W3893, by decide⟩
theorem vf_271_1 : ViF mi_271 1 3 := ⟨cf_271, "KeelHouse", kn_1, W3891, W3892, oy_KeelHouse _ _, rfl⟩
theorem mt_271 : mi 271 = mi_271 := rfl
theorem cf_272 : CalF mi_272 := ⟨W4147, by decide⟩
theorem vf_272_1 : ViF mi_272 1 1 := ⟨cf_272, "KeelHouse", kn_1, W4145, W4146, oy_KeelHouse _ _, rfl⟩
theorem mt_272 : mi 272 = mi_272 := rfl
theorem cf_273 : CalF mi_273 := ⟨W4165, by decide⟩
theorem vf_273_1 : ViF mi_273 1 2 := ⟨cf_273, "KeelHouse", kn_1, W4163, W4164, oy_KeelHouse _ _, rfl⟩
theorem mt_273 : mi 273 = mi_273 := rfl
theorem cf_274 : CalF mi_274 := ⟨W4185, by decide⟩
theorem vf_274_1 : ViF mi_274 1 2 := ⟨cf_274, "KeelHouse", kn_1, W4183, W4184, oy_KeelHouse _ _, rfl⟩
theorem mt_274 : mi 274 = mi_274 := rfl
theorem cf_275 : CalF mi_275 := ⟨W4192, by decide⟩
theorem vf_275_1 : ViF mi_275 1 2 := ⟨cf_275, "KeelHouse", kn_1, W4190, W4191, oy_KeelHouse _ _, rfl⟩
theorem mt_275 : mi 275 = mi_275 := rfl
theorem cf_276 : CalF mi_276 := ⟨W4199, by decide⟩
theorem vf_276_1 : ViF mi_276 1 3 := ⟨cf_276, "KeelHouse", kn_1, W4197, W4198, oy_KeelHouse _ _, rfl⟩
theorem mt_276 : mi 276 = mi_276 := rfl
theorem cf_277 : CalF mi_277 := ⟨W4218, by decide⟩
theorem vf_277_1 : ViF mi_277 1 3 := ⟨cf_277, "KeelHouse", kn_1, W4216, W4217, oy_KeelHouse _ _, rfl⟩
theorem mt_277 : mi 277 = mi_277 := rfl
theorem cf_278 : CalF mi_278 := ⟨W4225, by decide⟩
theorem vf_278_1 : ViF mi_278 1 1 := ⟨cf_278, "KeelHouse", kn_1, W4223, W4224, oy_KeelHouse _ _, rfl⟩
theorem mt_278 : mi 278 = mi_278 := rfl
theorem cf_279 : CalF mi_279 := ⟨W4232, by decide⟩
theorem vf_279_1 : ViF mi_279 1 1 := ⟨cf_279, "KeelHouse", kn_1, W4230, W4231, oy_KeelHouse _ _, rfl⟩
theorem mt_279 : mi 279 = mi_279 := rfl
theorem nf_2 : NewF 2 1 "KeelHouse$Bell" := ⟨_, rfl, by decide, by decide, by decide, by decide, rfl, W212, W131⟩
theorem cf_280 : CalF mi_280 := ⟨W215, by decide⟩
theorem oy_KeelHouse_Bell : ∀ (n d : String), okY ⟨"KeelHouse$Bell", n, d⟩ := fun _ _ => ⟨show "KeelHouse$Bell" ≠ "java/lang/invoke/MethodHandle" by decide, show "KeelHouse$Bell" ≠ "java/lang/invoke/VarHandle" by decide⟩
theorem ic_280 : IcF mi_280 0 := ⟨cf_280, rfl, W214, rfl, oy_KeelHouse_Bell _ _, _, rfl⟩
theorem mt_280 : mi 280 = mi_280 := rfl
theorem fld_1_0 : FldF 1 0 3 1 ("KeelHouse", "bell", "LKeelHouse$Bell;", true) := ⟨_, rfl, by decide, by decide, by decide, rfl, rfl⟩
theorem nf_3 : NewF 3 3 "KeelHouse$Books" := ⟨_, rfl, by decide, by decide, by decide, by decide, rfl, W222, W132⟩
theorem cf_281 : CalF mi_281 := ⟨W225, by decide⟩
theorem oy_KeelHouse_Books : ∀ (n d : String), okY ⟨"KeelHouse$Books", n, d⟩ := fun _ _ => ⟨show "KeelHouse$Books" ≠ "java/lang/invoke/MethodHandle" by decide, show "KeelHouse$Books" ≠ "java/lang/invoke/VarHandle" by decide⟩
theorem ic_281 : IcF mi_281 0 := ⟨cf_281, rfl, W224, rfl, oy_KeelHouse_Books _ _, _, rfl⟩
theorem mt_281 : mi 281 = mi_281 := rfl
theorem fld_1_1 : FldF 1 1 3 2 ("KeelHouse", "books", "LKeelHouse$Books;", true) := ⟨_, rfl, by decide, by decide, by decide, rfl, rfl⟩
theorem nf_4 : NewF 4 3 "KeelHouse$Store" := ⟨_, rfl, by decide, by decide, by decide, by decide, rfl, W241, W133⟩
theorem cf_287 : CalF mi_287 := ⟨W244, by decide⟩
theorem oy_KeelHouse_Store : ∀ (n d : String), okY ⟨"KeelHouse$Store", n, d⟩ := fun _ _ => ⟨show "KeelHouse$Store" ≠ "java/lang/invoke/MethodHandle" by decide, show "KeelHouse$Store" ≠ "java/lang/invoke/VarHandle" by decide⟩
theorem ic_287 : IcF mi_287 0 := ⟨cf_287, rfl, W243, rfl, oy_KeelHouse_Store _ _, _, rfl⟩
theorem mt_287 : mi 287 = mi_287 := rfl
theorem fld_1_2 : FldF 1 2 3 3 ("KeelHouse", "store", "LKeelHouse$Store;", true) := ⟨_, rfl, by decide, by decide, by decide, rfl, rfl⟩
theorem nf_6 : NewF 6 1 "KeelHouse$Edge" := ⟨_, rfl, by decide, by decide, by decide, by decide, rfl, W289, W137⟩
theorem cf_299 : CalF mi_299 := ⟨W292, by decide⟩
theorem oy_KeelHouse_Edge : ∀ (n d : String), okY ⟨"KeelHouse$Edge", n, d⟩ := fun _ _ => ⟨show "KeelHouse$Edge" ≠ "java/lang/invoke/MethodHandle" by decide, show "KeelHouse$Edge" ≠ "java/lang/invoke/VarHandle" by decide⟩
theorem ic_299 : IcF mi_299 0 := ⟨cf_299, rfl, W291, rfl, oy_KeelHouse_Edge _ _, _, rfl⟩
theorem mt_299 : mi 299 = mi_299 := rfl
theorem fld_1_3 : FldF 1 3 3 4 ("KeelHouse", "edge", "LKeelHouse$Edge;", true) := ⟨_, rfl, by decide, by decide, by decide, rfl, rfl⟩
theorem nf_5 : NewF 5 3 "java/util/ArrayList" := ⟨_, rfl, by decide, by decide, by decide, by decide, rfl, W247, W136⟩
theorem cf_3 : CalF mi_3 := ⟨W250, by decide⟩
theorem ic_3 : IcF mi_3 0 := ⟨cf_3, rfl, W249, rfl, oy_java_util_ArrayList _ _, _, rfl⟩
theorem fld_1_4 : FldF 1 4 3 5 ("KeelHouse", "ships", "Ljava/util/ArrayList;", true) := ⟨_, rfl, by decide, by decide, by decide, rfl, rfl⟩
theorem nf_7 : NewF 7 8 "KeelHouse$Works" := ⟨_, rfl, by decide, by decide, by decide, by decide, rfl, W304, W138⟩
theorem cf_315 : CalF mi_315 := ⟨W307, by decide⟩
theorem oy_KeelHouse_Works : ∀ (n d : String), okY ⟨"KeelHouse$Works", n, d⟩ := fun _ _ => ⟨show "KeelHouse$Works" ≠ "java/lang/invoke/MethodHandle" by decide, show "KeelHouse$Works" ≠ "java/lang/invoke/VarHandle" by decide⟩
theorem ic_315 : IcF mi_315 1 := ⟨cf_315, rfl, W306, rfl, oy_KeelHouse_Works _ _, _, rfl⟩
theorem mt_315 : mi 315 = mi_315 := rfl
theorem fld_1_5 : FldF 1 5 3 6 ("KeelHouse", "works", "LKeelHouse$Works;", true) := ⟨_, rfl, by decide, by decide, by decide, rfl, rfl⟩
theorem nf_8 : NewF 8 2 "KeelHouse$Sales" := ⟨_, rfl, by decide, by decide, by decide, by decide, rfl, W340, W139⟩
theorem cf_326 : CalF mi_326 := ⟨W343, by decide⟩
theorem oy_KeelHouse_Sales : ∀ (n d : String), okY ⟨"KeelHouse$Sales", n, d⟩ := fun _ _ => ⟨show "KeelHouse$Sales" ≠ "java/lang/invoke/MethodHandle" by decide, show "KeelHouse$Sales" ≠ "java/lang/invoke/VarHandle" by decide⟩
theorem ic_326 : IcF mi_326 1 := ⟨cf_326, rfl, W342, rfl, oy_KeelHouse_Sales _ _, _, rfl⟩
theorem mt_326 : mi 326 = mi_326 := rfl
theorem fld_1_6 : FldF 1 6 3 7 ("KeelHouse", "sales", "LKeelHouse$Sales;", true) := ⟨_, rfl, by decide, by decide, by decide, rfl, rfl⟩
theorem nf_9 : NewF 9 4 "KeelHouse$Voyages" := ⟨_, rfl, by decide, by decide, by decide, by decide, rfl, W356, W140⟩
theorem cf_340 : CalF mi_340 := ⟨W359, by decide⟩
theorem oy_KeelHouse_Voyages : ∀ (n d : String), okY ⟨"KeelHouse$Voyages", n, d⟩ := fun _ _ => ⟨show "KeelHouse$Voyages" ≠ "java/lang/invoke/MethodHandle" by decide, show "KeelHouse$Voyages" ≠ "java/lang/invoke/VarHandle" by decide⟩
theorem ic_340 : IcF mi_340 1 := ⟨cf_340, rfl, W358, rfl, oy_KeelHouse_Voyages _ _, _, rfl⟩
theorem mt_340 : mi 340 = mi_340 := rfl
theorem fld_1_7 : FldF 1 7 3 8 ("KeelHouse", "voyages", "LKeelHouse$Voyages;", true) := ⟨_, rfl, by decide, by decide, by decide, rfl, rfl⟩
theorem fld_1_9 : FldF 1 9 0 10 ("KeelHouse", "weather", "I", false) := ⟨_, rfl, by decide, by decide, by decide, rfl, rfl⟩
theorem fld_3_2 : FldF 3 2 0 17 ("KeelHouse$Books", "cash", "I", false) := ⟨_, rfl, by decide, by decide, by decide, rfl, rfl⟩
theorem cf_185 : CalF mi_185 := ⟨W451, by decide⟩
theorem vf_185_1 : ViF mi_185 1 0 := ⟨cf_185, "KeelHouse", kn_1, W450, QS0, oy_KeelHouse _ _, rfl⟩
theorem mt_185 : mi 185 = mi_185 := rfl
theorem kn_3 : KN 3 "KeelHouse$Books" := ⟨by decide, Or.inl ⟨_, rfl, by decide, rfl⟩⟩
theorem cf_282 : CalF mi_282 := ⟨W455, by decide⟩
theorem vf_282_3 : ViF mi_282 3 0 := ⟨cf_282, "KeelHouse$Books", kn_3, W453, W454, oy_KeelHouse_Books _ _, rfl⟩
theorem mt_282 : mi 282 = mi_282 := rfl
theorem kn_6 : KN 6 "KeelHouse$Edge" := ⟨by decide, Or.inl ⟨_, rfl, by decide, rfl⟩⟩
theorem cf_300 : CalF mi_300 := ⟨W470, by decide⟩
theorem vf_300_6 : ViF mi_300 6 1 := ⟨cf_300, "KeelHouse$Edge", kn_6, W468, W469, oy_KeelHouse_Edge _ _, rfl⟩
theorem mt_300 : mi 300 = mi_300 := rfl
theorem kn_4 : KN 4 "KeelHouse$Store" := ⟨by decide, Or.inl ⟨_, rfl, by decide, rfl⟩⟩
theorem cf_288 : CalF mi_288 := ⟨W520, by decide⟩
theorem vf_288_4 : ViF mi_288 4 0 := ⟨cf_288, "KeelHouse$Store", kn_4, W518, W519, oy_KeelHouse_Store _ _, rfl⟩
theorem mt_288 : mi 288 = mi_288 := rfl
theorem kn_8 : KN 8 "KeelHouse$Sales" := ⟨by decide, Or.inl ⟨_, rfl, by decide, rfl⟩⟩
theorem cf_327 : CalF mi_327 := ⟨W534, by decide⟩
theorem vf_327_8 : ViF mi_327 8 1 := ⟨cf_327, "KeelHouse$Sales", kn_8, W532, W533, oy_KeelHouse_Sales _ _, rfl⟩
theorem mt_327 : mi 327 = mi_327 := rfl
theorem kn_9 : KN 9 "KeelHouse$Voyages" := ⟨by decide, Or.inl ⟨_, rfl, by decide, rfl⟩⟩
theorem cf_341 : CalF mi_341 := ⟨W551, by decide⟩
theorem vf_341_9 : ViF mi_341 9 1 := ⟨cf_341, "KeelHouse$Voyages", kn_9, W549, W550, oy_KeelHouse_Voyages _ _, rfl⟩
theorem mt_341 : mi 341 = mi_341 := rfl
theorem cf_4 : CalF mi_4 := ⟨W474, by decide⟩
theorem vf_4_5 : ViF mi_4 5 0 := ⟨cf_4, "java/util/ArrayList", kn_5, W472, W473, oy_java_util_ArrayList _ _, rfl⟩
theorem cf_87 : CalF mi_87 := ⟨W503, by decide⟩
theorem oy_java_util_Iterator : ∀ (n d : String), okY ⟨"java/util/Iterator", n, d⟩ := fun _ _ => ⟨show "java/util/Iterator" ≠ "java/lang/invoke/MethodHandle" by decide, show "java/util/Iterator" ≠ "java/lang/invoke/VarHandle" by decide⟩
theorem ff_87_11 : IfF mi_87 ({ cls := "java/util/Iterator", name := "hasNext", desc := "()Z" } : Jvm.MethodName) 11 0 := ⟨cf_87, "java/util/ArrayList$Itr", kn_11, ⟨_, _, rfl⟩, W497, W496, Or.inl W499, W501, W502, W500, W498, oy_java_util_Iterator _ _, rfl⟩
theorem cf_88 : CalF mi_88 := ⟨W512, by decide⟩
theorem ff_88_11 : IfF mi_88 ({ cls := "java/util/Iterator", name := "next", desc := "()Ljava/lang/Object;" } : Jvm.MethodName) 11 0 := ⟨cf_88, "java/util/ArrayList$Itr", kn_11, ⟨_, _, rfl⟩, W507, W506, Or.inl W508, W510, W511, W509, W498, oy_java_util_Iterator _ _, rfl⟩
theorem fld_22_10 : FldF 22 10 3 102 ("KeelHouse$Ship", "jobs", "LKeelHouse$Jobs;", true) := ⟨_, rfl, by decide, by decide, by decide, rfl, rfl⟩
theorem kn_12 : KN 12 "KeelHouse$Jobs" := ⟨by decide, Or.inl ⟨_, rfl, by decide, rfl⟩⟩
theorem cf_610 : CalF mi_610 := ⟨W611, by decide⟩
theorem oy_KeelHouse_Jobs : ∀ (n d : String), okY ⟨"KeelHouse$Jobs", n, d⟩ := fun _ _ => ⟨show "KeelHouse$Jobs" ≠ "java/lang/invoke/MethodHandle" by decide, show "KeelHouse$Jobs" ≠ "java/lang/invoke/VarHandle" by decide⟩
theorem vf_610_12 : ViF mi_610 12 0 := ⟨cf_610, "KeelHouse$Jobs", kn_12, W609, W610, oy_KeelHouse_Jobs _ _, rfl⟩
theorem mt_610 : mi 610 = mi_610 := rfl
theorem fld_22_5 : FldF 22 5 3 97 ("KeelHouse$Ship", "engine", "LKeelHouse$Engine;", true) := ⟨_, rfl, by decide, by decide, by decide, rfl, rfl⟩
theorem fld_20_1 : FldF 20 1 3 87 ("KeelHouse$Engine", "net", "LKeelHouse$Net;", true) := ⟨_, rfl, by decide, by decide, by decide, rfl, rfl⟩
theorem kn_13 : KN 13 "KeelHouse$Net" := ⟨by decide, Or.inl ⟨_, rfl, by decide, rfl⟩⟩
theorem cf_529 : CalF mi_529 := ⟨W624, by decide⟩
theorem oy_KeelHouse_Net : ∀ (n d : String), okY ⟨"KeelHouse$Net", n, d⟩ := fun _ _ => ⟨show "KeelHouse$Net" ≠ "java/lang/invoke/MethodHandle" by decide, show "KeelHouse$Net" ≠ "java/lang/invoke/VarHandle" by decide⟩
theorem vf_529_13 : ViF mi_529 13 0 := ⟨cf_529, "KeelHouse$Net", kn_13, W622, W623, oy_KeelHouse_Net _ _, rfl⟩
theorem mt_529 : mi 529 = mi_529 := rfl
theorem kn_2 : KN 2 "KeelHouse$Bell" := ⟨by decide, Or.inl ⟨_, rfl, by decide, rfl⟩⟩
theorem nt_ok : ok25 iT mi_186 (bpc code_186) 4 [2, 3, 37, 1, 1] := ⟨_, _, _, _, _, rfl, nt_of (E := 4) kn_2 rfl W741 W742 W754 W824 (at_ck (by decide +kernel)) (by decide +kernel) (show decode prog_1_method_95_code 4 = .ok (.invokevirtual 823, 3) by decide +kernel) (by decide) (⟨[⟨14, 36, 39, 0⟩, ⟨39, 42, 39, 0⟩], ⟨0, 44, 47, 832⟩, [], "java/lang/IllegalMonitorStateException", 1, rfl, List.forall_mem_cons.mpr ⟨Or.inl rfl, List.forall_mem_cons.mpr ⟨Or.inl rfl, fun _ h => absurd h List.not_mem_nil⟩⟩, by decide, by decide, W668, W718, Or.inr ⟨1, rfl, (show decode prog_1_method_95_code 47 = .ok (.astore_n 1, 1) by decide +kernel), rfl⟩, by decide, rfl⟩ : Hnd mi_186 iT.2 4 4 1 (bpc code_186 1))⟩
theorem fld_1_10 : FldF 1 10 0 11 ("KeelHouse", "refused", "I", false) := ⟨_, rfl, by decide, by decide, by decide, rfl, rfl⟩
theorem fld_1_12 : FldF 1 12 1 13 ("KeelHouse", "sum", "J", false) := ⟨_, rfl, by decide, by decide, by decide, rfl, rfl⟩
theorem cf_188 : CalF mi_188 := ⟨W917, by decide⟩
theorem vf_188_1 : ViF mi_188 1 1 := ⟨cf_188, "KeelHouse", kn_1, W916, QS8, oy_KeelHouse _ _, rfl⟩
theorem mt_188 : mi 188 = mi_188 := rfl
theorem cf_201 : CalF mi_201 := ⟨W1739, by decide⟩
theorem vf_201_1 : ViF mi_201 1 1 := ⟨cf_201, "KeelHouse", kn_1, W1738, QS35, oy_KeelHouse _ _, rfl⟩
theorem mt_201 : mi 201 = mi_201 := rfl
theorem fld_1_11 : FldF 1 11 0 12 ("KeelHouse", "count", "I", false) := ⟨_, rfl, by decide, by decide, by decide, rfl, rfl⟩
theorem cf_189 : CalF mi_189 := ⟨W921, by decide⟩
theorem vf_189_1 : ViF mi_189 1 1 := ⟨cf_189, "KeelHouse", kn_1, W920, QS9, oy_KeelHouse _ _, rfl⟩
theorem mt_189 : mi 189 = mi_189 := rfl
theorem cf_193 : CalF mi_193 := ⟨W1040, by decide⟩
theorem vf_193_1 : ViF mi_193 1 2 := ⟨cf_193, "KeelHouse", kn_1, W1039, QS13, oy_KeelHouse _ _, rfl⟩
theorem mt_193 : mi 193 = mi_193 := rfl
theorem cf_200 : CalF mi_200 := ⟨W1728, by decide⟩
theorem vf_200_1 : ViF mi_200 1 1 := ⟨cf_200, "KeelHouse", kn_1, W1727, QS34, oy_KeelHouse _ _, rfl⟩
theorem mt_200 : mi 200 = mi_200 := rfl
theorem fld_4_0 : FldF 4 0 3 18 ("KeelHouse$Store", "kinds", "Ljava/util/ArrayList;", true) := ⟨_, rfl, by decide, by decide, by decide, rfl, rfl⟩
theorem cf_289 : CalF mi_289 := ⟨W926, by decide⟩
theorem vf_289_4 : ViF mi_289 4 2 := ⟨cf_289, "KeelHouse$Store", kn_4, W924, W925, oy_KeelHouse_Store _ _, rfl⟩
theorem mt_289 : mi 289 = mi_289 := rfl
theorem cf_190 : CalF mi_190 := ⟨W939, by decide⟩
theorem vf_190_1 : ViF mi_190 1 1 := ⟨cf_190, "KeelHouse", kn_1, W938, QS10, oy_KeelHouse _ _, rfl⟩
theorem mt_190 : mi 190 = mi_190 := rfl
theorem cf_191 : CalF mi_191 := ⟨W943, by decide⟩
theorem vf_191_1 : ViF mi_191 1 2 := ⟨cf_191, "KeelHouse", kn_1, W942, QS11, oy_KeelHouse _ _, rfl⟩
theorem mt_191 : mi 191 = mi_191 := rfl
theorem cf_192 : CalF mi_192 := ⟨W1020, by decide⟩
theorem vf_192_1 : ViF mi_192 1 1 := ⟨cf_192, "KeelHouse", kn_1, W1019, QS12, oy_KeelHouse _ _, rfl⟩
theorem mt_192 : mi 192 = mi_192 := rfl
theorem fld_8_1 : FldF 8 1 3 34 ("KeelHouse$Sales", "buyers", "Ljava/util/ArrayList;", true) := ⟨_, rfl, by decide, by decide, by decide, rfl, rfl⟩
theorem cf_752 : CalF mi_752 := ⟨W1026, by decide⟩
theorem oy_KeelHouse_Buyer : ∀ (n d : String), okY ⟨"KeelHouse$Buyer", n, d⟩ := fun _ _ => ⟨show "KeelHouse$Buyer" ≠ "java/lang/invoke/MethodHandle" by decide, show "KeelHouse$Buyer" ≠ "java/lang/invoke/VarHandle" by decide⟩
theorem vf_752_33 : ViF mi_752 33 2 := ⟨cf_752, "KeelHouse$Buyer", kn_33, W1024, W1025, oy_KeelHouse_Buyer _ _, rfl⟩
theorem mt_752 : mi 752 = mi_752 := rfl
theorem cf_301 : CalF mi_301 := ⟨W947, by decide⟩
theorem vf_301_6 : ViF mi_301 6 1 := ⟨cf_301, "KeelHouse$Edge", kn_6, W945, W946, oy_KeelHouse_Edge _ _, rfl⟩
theorem mt_301 : mi 301 = mi_301 := rfl
theorem fld_6_0 : FldF 6 0 3 24 ("KeelHouse$Edge", "there", "[LKeelHouse$Ship;", true) := ⟨_, rfl, by decide, by decide, by decide, rfl, rfl⟩
theorem fld_22_0 : FldF 22 0 0 92 ("KeelHouse$Ship", "number", "I", true) := ⟨_, rfl, by decide, by decide, by decide, rfl, rfl⟩
theorem cf_302 : CalF mi_302 := ⟨W950, by decide⟩
theorem sf_302 : StF mi_302 1 := ⟨cf_302, W949, W137, oy_KeelHouse_Edge _ _, rfl⟩
theorem mt_302 : mi 302 = mi_302 := rfl
theorem mt_806 : mi 806 = mi_806 := rfl
theorem cf_806 : CalF mi_806 := ⟨W983, by decide⟩
theorem oy_KeelHouse_Spot : ∀ (n d : String), okY ⟨"KeelHouse$Spot", n, d⟩ := fun _ _ => ⟨show "KeelHouse$Spot" ≠ "java/lang/invoke/MethodHandle" by decide, show "KeelHouse$Spot" ≠ "java/lang/invoke/VarHandle" by decide⟩
theorem ei_806_33_KeelHouse_Spotroom__I : EiF mi_806 ({ cls := "KeelHouse$Spot", name := "room", desc := "()I" } : Jvm.MethodName) 33 0 := ⟨cf_806, "KeelHouse$Spot$6", "KeelHouse$Spot", by decide, W982, ⟨_, _, rfl⟩, W965, Or.inl W964, oy_KeelHouse_Spot _ _, W981, rfl⟩
theorem mt_804 : mi 804 = mi_804 := rfl
theorem cf_804 : CalF mi_804 := ⟨W980, by decide⟩
theorem ei_804_28_KeelHouse_Spotroom__I : EiF mi_804 ({ cls := "KeelHouse$Spot", name := "room", desc := "()I" } : Jvm.MethodName) 28 0 := ⟨cf_804, "KeelHouse$Spot$5", "KeelHouse$Spot", by decide, W979, ⟨_, _, rfl⟩, W965, Or.inl W964, oy_KeelHouse_Spot _ _, W978, rfl⟩
theorem mt_802 : mi 802 = mi_802 := rfl
theorem cf_802 : CalF mi_802 := ⟨W977, by decide⟩
theorem ei_802_29_KeelHouse_Spotroom__I : EiF mi_802 ({ cls := "KeelHouse$Spot", name := "room", desc := "()I" } : Jvm.MethodName) 29 0 := ⟨cf_802, "KeelHouse$Spot$4", "KeelHouse$Spot", by decide, W976, ⟨_, _, rfl⟩, W965, Or.inl W964, oy_KeelHouse_Spot _ _, W975, rfl⟩
theorem mt_799 : mi 799 = mi_799 := rfl
theorem cf_799 : CalF mi_799 := ⟨W974, by decide⟩
theorem ei_799_30_KeelHouse_Spotroom__I : EiF mi_799 ({ cls := "KeelHouse$Spot", name := "room", desc := "()I" } : Jvm.MethodName) 30 0 := ⟨cf_799, "KeelHouse$Spot$3", "KeelHouse$Spot", by decide, W973, ⟨_, _, rfl⟩, W965, Or.inl W964, oy_KeelHouse_Spot _ _, W972, rfl⟩
theorem mt_797 : mi 797 = mi_797 := rfl
theorem cf_797 : CalF mi_797 := ⟨W971, by decide⟩
theorem ei_797_31_KeelHouse_Spotroom__I : EiF mi_797 ({ cls := "KeelHouse$Spot", name := "room", desc := "()I" } : Jvm.MethodName) 31 0 := ⟨cf_797, "KeelHouse$Spot$2", "KeelHouse$Spot", by decide, W970, ⟨_, _, rfl⟩, W965, Or.inl W964, oy_KeelHouse_Spot _ _, W969, rfl⟩
theorem mt_795 : mi 795 = mi_795 := rfl
theorem cf_795 : CalF mi_795 := ⟨W968, by decide⟩
theorem ei_795_32_KeelHouse_Spotroom__I : EiF mi_795 ({ cls := "KeelHouse$Spot", name := "room", desc := "()I" } : Jvm.MethodName) 32 0 := ⟨cf_795, "KeelHouse$Spot$1", "KeelHouse$Spot", by decide, W967, ⟨_, _, rfl⟩, W965, Or.inl W964, oy_KeelHouse_Spot _ _, W966, rfl⟩
theorem mt_807 : mi 807 = mi_807 := rfl
theorem cf_807 : CalF mi_807 := ⟨W1004, by decide⟩
theorem ei_807_33_KeelHouse_Spotdeep__I : EiF mi_807 ({ cls := "KeelHouse$Spot", name := "deep", desc := "()I" } : Jvm.MethodName) 33 0 := ⟨cf_807, "KeelHouse$Spot$6", "KeelHouse$Spot", by decide, W1003, ⟨_, _, rfl⟩, W986, Or.inl W985, oy_KeelHouse_Spot _ _, W1002, rfl⟩
theorem mt_805 : mi 805 = mi_805 := rfl
theorem cf_805 : CalF mi_805 := ⟨W1001, by decide⟩
theorem ei_805_28_KeelHouse_Spotdeep__I : EiF mi_805 ({ cls := "KeelHouse$Spot", name := "deep", desc := "()I" } : Jvm.MethodName) 28 0 := ⟨cf_805, "KeelHouse$Spot$5", "KeelHouse$Spot", by decide, W1000, ⟨_, _, rfl⟩, W986, Or.inl W985, oy_KeelHouse_Spot _ _, W999, rfl⟩
theorem mt_803 : mi 803 = mi_803 := rfl
theorem cf_803 : CalF mi_803 := ⟨W998, by decide⟩
theorem ei_803_29_KeelHouse_Spotdeep__I : EiF mi_803 ({ cls := "KeelHouse$Spot", name := "deep", desc := "()I" } : Jvm.MethodName) 29 0 := ⟨cf_803, "KeelHouse$Spot$4", "KeelHouse$Spot", by decide, W997, ⟨_, _, rfl⟩, W986, Or.inl W985, oy_KeelHouse_Spot _ _, W996, rfl⟩
theorem mt_800 : mi 800 = mi_800 := rfl
theorem cf_800 : CalF mi_800 := ⟨W995, by decide⟩
theorem ei_800_30_KeelHouse_Spotdeep__I : EiF mi_800 ({ cls := "KeelHouse$Spot", name := "deep", desc := "()I" } : Jvm.MethodName) 30 0 := ⟨cf_800, "KeelHouse$Spot$3", "KeelHouse$Spot", by decide, W994, ⟨_, _, rfl⟩, W986, Or.inl W985, oy_KeelHouse_Spot _ _, W993, rfl⟩
theorem mt_798 : mi 798 = mi_798 := rfl
theorem cf_798 : CalF mi_798 := ⟨W992, by decide⟩
theorem ei_798_31_KeelHouse_Spotdeep__I : EiF mi_798 ({ cls := "KeelHouse$Spot", name := "deep", desc := "()I" } : Jvm.MethodName) 31 0 := ⟨cf_798, "KeelHouse$Spot$2", "KeelHouse$Spot", by decide, W991, ⟨_, _, rfl⟩, W986, Or.inl W985, oy_KeelHouse_Spot _ _, W990, rfl⟩
theorem mt_796 : mi 796 = mi_796 := rfl
theorem cf_796 : CalF mi_796 := ⟨W989, by decide⟩
theorem ei_796_32_KeelHouse_Spotdeep__I : EiF mi_796 ({ cls := "KeelHouse$Spot", name := "deep", desc := "()I" } : Jvm.MethodName) 32 0 := ⟨cf_796, "KeelHouse$Spot$1", "KeelHouse$Spot", by decide, W988, ⟨_, _, rfl⟩, W986, Or.inl W985, oy_KeelHouse_Spot _ _, W987, rfl⟩
theorem fld_1_8 : FldF 1 8 0 9 ("KeelHouse", "day", "I", false) := ⟨_, rfl, by decide, by decide, by decide, rfl, rfl⟩
theorem cf_303 : CalF mi_303 := ⟨W1007, by decide⟩
theorem sf_303 : StF mi_303 1 := ⟨cf_303, W1006, W137, oy_KeelHouse_Edge _ _, rfl⟩
theorem mt_303 : mi 303 = mi_303 := rfl
theorem fld_7_2 : FldF 7 2 0 27 ("KeelHouse$Works", "luck", "I", false) := ⟨_, rfl, by decide, by decide, by decide, rfl, rfl⟩
theorem fld_7_1 : FldF 7 1 3 26 ("KeelHouse$Works", "teams", "[I", true) := ⟨_, rfl, by decide, by decide, by decide, rfl, rfl⟩
theorem cf_5 : CalF mi_5 := ⟨W572, by decide⟩
theorem vf_5_5 : ViF mi_5 5 0 := ⟨cf_5, "java/util/ArrayList", kn_5, W570, W571, oy_java_util_ArrayList _ _, rfl⟩
theorem fld_4_2 : FldF 4 2 3 20 ("KeelHouse$Store", "offcuts", "Ljava/util/ArrayList;", true) := ⟨_, rfl, by decide, by decide, by decide, rfl, rfl⟩
theorem fld_4_1 : FldF 4 1 3 19 ("KeelHouse$Store", "deliveries", "Ljava/util/ArrayList;", true) := ⟨_, rfl, by decide, by decide, by decide, rfl, rfl⟩
theorem fld_7_3 : FldF 7 3 0 28 ("KeelHouse$Works", "faults", "I", false) := ⟨_, rfl, by decide, by decide, by decide, rfl, rfl⟩
theorem fld_7_4 : FldF 7 4 0 29 ("KeelHouse$Works", "worked", "I", false) := ⟨_, rfl, by decide, by decide, by decide, rfl, rfl⟩
theorem fld_7_5 : FldF 7 5 0 30 ("KeelHouse$Works", "lost", "I", false) := ⟨_, rfl, by decide, by decide, by decide, rfl, rfl⟩
theorem cf_194 : CalF mi_194 := ⟨W1043, by decide⟩
theorem sf_194 : StF mi_194 2 := ⟨cf_194, W1042, W130, oy_KeelHouse _ _, rfl⟩
theorem mt_194 : mi 194 = mi_194 := rfl
theorem fld_22_7 : FldF 22 7 3 99 ("KeelHouse$Ship", "trim", "LKeelHouse$Trim;", true) := ⟨_, rfl, by decide, by decide, by decide, rfl, rfl⟩
theorem kn_17 : KN 17 "KeelHouse$Trim" := ⟨by decide, Or.inl ⟨_, rfl, by decide, rfl⟩⟩
theorem cf_546 : CalF mi_546 := ⟨W1067, by decide⟩
theorem oy_KeelHouse_Trim : ∀ (n d : String), okY ⟨"KeelHouse$Trim", n, d⟩ := fun _ _ => ⟨show "KeelHouse$Trim" ≠ "java/lang/invoke/MethodHandle" by decide, show "KeelHouse$Trim" ≠ "java/lang/invoke/VarHandle" by decide⟩
theorem vf_546_17 : ViF mi_546 17 1 := ⟨cf_546, "KeelHouse$Trim", kn_17, W1065, W1066, oy_KeelHouse_Trim _ _, rfl⟩
theorem mt_546 : mi 546 = mi_546 := rfl
theorem fld_22_8 : FldF 22 8 3 100 ("KeelHouse$Ship", "flood", "LKeelHouse$Flood;", true) := ⟨_, rfl, by decide, by decide, by decide, rfl, rfl⟩
theorem kn_18 : KN 18 "KeelHouse$Flood" := ⟨by decide, Or.inl ⟨_, rfl, by decide, rfl⟩⟩
theorem cf_556 : CalF mi_556 := ⟨W1359, by decide⟩
theorem oy_KeelHouse_Flood : ∀ (n d : String), okY ⟨"KeelHouse$Flood", n, d⟩ := fun _ _ => ⟨show "KeelHouse$Flood" ≠ "java/lang/invoke/MethodHandle" by decide, show "KeelHouse$Flood" ≠ "java/lang/invoke/VarHandle" by decide⟩
theorem vf_556_18 : ViF mi_556 18 0 := ⟨cf_556, "KeelHouse$Flood", kn_18, W1357, W1358, oy_KeelHouse_Flood _ _, rfl⟩
theorem mt_556 : mi 556 = mi_556 := rfl
theorem cf_195 : CalF mi_195 := ⟨W1395, by decide⟩
theorem sf_195 : StF mi_195 3 := ⟨cf_195, W1394, W130, oy_KeelHouse _ _, rfl⟩
theorem mt_195 : mi 195 = mi_195 := rfl
theorem fld_22_9 : FldF 22 9 3 101 ("KeelHouse$Ship", "strength", "LKeelHouse$Strength;", true) := ⟨_, rfl, by decide, by decide, by decide, rfl, rfl⟩
theorem kn_19 : KN 19 "KeelHouse$Strength" := ⟨by decide, Or.inl ⟨_, rfl, by decide, rfl⟩⟩
theorem cf_564 : CalF mi_564 := ⟨W1403, by decide⟩
theorem oy_KeelHouse_Strength : ∀ (n d : String), okY ⟨"KeelHouse$Strength", n, d⟩ := fun _ _ => ⟨show "KeelHouse$Strength" ≠ "java/lang/invoke/MethodHandle" by decide, show "KeelHouse$Strength" ≠ "java/lang/invoke/VarHandle" by decide⟩
theorem vf_564_19 : ViF mi_564 19 1 := ⟨cf_564, "KeelHouse$Strength", kn_19, W1401, W1402, oy_KeelHouse_Strength _ _, rfl⟩
theorem mt_564 : mi 564 = mi_564 := rfl
theorem cf_197 : CalF mi_197 := ⟨W1506, by decide⟩
theorem sf_197 : StF mi_197 2 := ⟨cf_197, W1505, W130, oy_KeelHouse _ _, rfl⟩
theorem mt_197 : mi 197 = mi_197 := rfl
theorem fld_12_3 : FldF 12 3 4 50 ("KeelHouse$Jobs", "isTold", "Z", false) := ⟨_, rfl, by decide, by decide, by decide, rfl, rfl⟩
theorem cf_613 : CalF mi_613 := ⟨W1537, by decide⟩
theorem vf_613_12 : ViF mi_613 12 1 := ⟨cf_613, "KeelHouse$Jobs", kn_12, W1535, W1536, oy_KeelHouse_Jobs _ _, rfl⟩
theorem mt_613 : mi 613 = mi_613 := rfl
theorem kn_20 : KN 20 "KeelHouse$Engine" := ⟨by decide, Or.inl ⟨_, rfl, by decide, rfl⟩⟩
theorem cf_524 : CalF mi_524 := ⟨W1576, by decide⟩
theorem oy_KeelHouse_Engine : ∀ (n d : String), okY ⟨"KeelHouse$Engine", n, d⟩ := fun _ _ => ⟨show "KeelHouse$Engine" ≠ "java/lang/invoke/MethodHandle" by decide, show "KeelHouse$Engine" ≠ "java/lang/invoke/VarHandle" by decide⟩
theorem vf_524_20 : ViF mi_524 20 1 := ⟨cf_524, "KeelHouse$Engine", kn_20, W1574, W1575, oy_KeelHouse_Engine _ _, rfl⟩
theorem mt_524 : mi 524 = mi_524 := rfl
theorem cf_199 : CalF mi_199 := ⟨W1607, by decide⟩
theorem sf_199 : StF mi_199 1 := ⟨cf_199, W1606, W130, oy_KeelHouse _ _, rfl⟩
theorem mt_199 : mi 199 = mi_199 := rfl
theorem cf_343 : CalF mi_343 := ⟨W1718, by decide⟩
theorem vf_343_9 : ViF mi_343 9 2 := ⟨cf_343, "KeelHouse$Voyages", kn_9, W1716, W1717, oy_KeelHouse_Voyages _ _, rfl⟩
theorem mt_343 : mi 343 = mi_343 := rfl
theorem fld_22_1 : FldF 22 1 3 93 ("KeelHouse$Ship", "lines", "LKeelHouse$Lines;", true) := ⟨_, rfl, by decide, by decide, by decide, rfl, rfl⟩
theorem fld_16_0 : FldF 16 0 0 62 ("KeelHouse$Lines", "form", "I", true) := ⟨_, rfl, by decide, by decide, by decide, rfl, rfl⟩
theorem fld_16_1 : FldF 16 1 0 63 ("KeelHouse$Lines", "length", "I", true) := ⟨_, rfl, by decide, by decide, by decide, rfl, rfl⟩
theorem fld_16_2 : FldF 16 2 0 64 ("KeelHouse$Lines", "depth", "I", true) := ⟨_, rfl, by decide, by decide, by decide, rfl, rfl⟩
theorem fld_22_13 : FldF 22 13 3 105 ("KeelHouse$Ship", "stage", "LKeelHouse$Stage;", false) := ⟨_, rfl, by decide, by decide, by decide, rfl, rfl⟩
theorem mt_582 : mi 582 = mi_582 := rfl
theorem cf_582 : CalF mi_582 := ⟨W1053, by decide⟩
theorem oy_KeelHouse_Stage : ∀ (n d : String), okY ⟨"KeelHouse$Stage", n, d⟩ := fun _ _ => ⟨show "KeelHouse$Stage" ≠ "java/lang/invoke/MethodHandle" by decide, show "KeelHouse$Stage" ≠ "java/lang/invoke/VarHandle" by decide⟩
theorem ev_582_25 : EvF mi_582 25 0 := ⟨cf_582, "KeelHouse$Stage$6", by decide, W1045, W1052, oy_KeelHouse_Stage _ _, rfl⟩
theorem ev_582_18 : EvF mi_582 18 0 := ⟨cf_582, "KeelHouse$Stage$5", by decide, W1045, W1051, oy_KeelHouse_Stage _ _, rfl⟩
theorem ev_582_24 : EvF mi_582 24 0 := ⟨cf_582, "KeelHouse$Stage$4", by decide, W1045, W1050, oy_KeelHouse_Stage _ _, rfl⟩
theorem ev_582_19 : EvF mi_582 19 0 := ⟨cf_582, "KeelHouse$Stage$3", by decide, W1045, W1049, oy_KeelHouse_Stage _ _, rfl⟩
theorem ev_582_16 : EvF mi_582 16 0 := ⟨cf_582, "KeelHouse$Stage$2", by decide, W1045, W1048, oy_KeelHouse_Stage _ _, rfl⟩
theorem ev_582_15 : EvF mi_582 15 0 := ⟨cf_582, "KeelHouse$Stage$1", by decide, W1045, W1047, oy_KeelHouse_Stage _ _, rfl⟩
theorem fld_16_3 : FldF 16 3 3 65 ("KeelHouse$Lines", "halves", "[I", true) := ⟨_, rfl, by decide, by decide, by decide, rfl, rfl⟩
theorem cf_487 : CalF mi_487 := ⟨W1399, by decide⟩
theorem oy_KeelHouse_Ship : ∀ (n d : String), okY ⟨"KeelHouse$Ship", n, d⟩ := fun _ _ => ⟨show "KeelHouse$Ship" ≠ "java/lang/invoke/MethodHandle" by decide, show "KeelHouse$Ship" ≠ "java/lang/invoke/VarHandle" by decide⟩
theorem vf_487_22 : ViF mi_487 22 2 := ⟨cf_487, "KeelHouse$Ship", kn_22, W1397, W1398, oy_KeelHouse_Ship _ _, rfl⟩
theorem mt_487 : mi 487 = mi_487 := rfl
theorem fld_23_3 : FldF 23 3 0 122 ("KeelHouse$Plates", "plan", "I", false) := ⟨_, rfl, by decide, by decide, by decide, rfl, rfl⟩
theorem fld_23_4 : FldF 23 4 0 123 ("KeelHouse$Plates", "fitted", "I", false) := ⟨_, rfl, by decide, by decide, by decide, rfl, rfl⟩
theorem mt_196 : mi 196 = mi_196 := rfl
theorem fld_22_17 : FldF 22 17 0 109 ("KeelHouse$Ship", "spot", "I", false) := ⟨_, rfl, by decide, by decide, by decide, rfl, rfl⟩
theorem fld_22_18 : FldF 22 18 0 110 ("KeelHouse$Ship", "foul", "I", false) := ⟨_, rfl, by decide, by decide, by decide, rfl, rfl⟩
theorem cf_307 : CalF mi_307 := ⟨W1509, by decide⟩
theorem sf_307 : StF mi_307 1 := ⟨cf_307, W1508, W137, oy_KeelHouse_Edge _ _, rfl⟩
theorem mt_307 : mi 307 = mi_307 := rfl
theorem mt_198 : mi 198 = mi_198 := rfl
theorem cf_756 : CalF mi_756 := ⟨W1610, by decide⟩
theorem oy_KeelHouse_Rule : ∀ (n d : String), okY ⟨"KeelHouse$Rule", n, d⟩ := fun _ _ => ⟨show "KeelHouse$Rule" ≠ "java/lang/invoke/MethodHandle" by decide, show "KeelHouse$Rule" ≠ "java/lang/invoke/VarHandle" by decide⟩
theorem sf_756 : StF mi_756 1 := ⟨cf_756, W1609, W196, oy_KeelHouse_Rule _ _, rfl⟩
theorem mt_756 : mi 756 = mi_756 := rfl
theorem mt_757 : mi 757 = mi_757 := rfl
theorem cf_757 : CalF mi_757 := ⟨W1638, by decide⟩
theorem ev_757_65 : EvF mi_757 65 1 := ⟨cf_757, "KeelHouse$Rule$8", by decide, W1628, W1637, oy_KeelHouse_Rule _ _, rfl⟩
theorem ev_757_58 : EvF mi_757 58 1 := ⟨cf_757, "KeelHouse$Rule$7", by decide, W1628, W1636, oy_KeelHouse_Rule _ _, rfl⟩
theorem ev_757_59 : EvF mi_757 59 1 := ⟨cf_757, "KeelHouse$Rule$6", by decide, W1628, W1635, oy_KeelHouse_Rule _ _, rfl⟩
theorem ev_757_60 : EvF mi_757 60 1 := ⟨cf_757, "KeelHouse$Rule$5", by decide, W1628, W1634, oy_KeelHouse_Rule _ _, rfl⟩
theorem ev_757_61 : EvF mi_757 61 1 := ⟨cf_757, "KeelHouse$Rule$4", by decide, W1628, W1633, oy_KeelHouse_Rule _ _, rfl⟩
theorem ev_757_62 : EvF mi_757 62 1 := ⟨cf_757, "KeelHouse$Rule$3", by decide, W1628, W1632, oy_KeelHouse_Rule _ _, rfl⟩
theorem ev_757_63 : EvF mi_757 63 1 := ⟨cf_757, "KeelHouse$Rule$2", by decide, W1628, W1631, oy_KeelHouse_Rule _ _, rfl⟩
theorem ev_757_64 : EvF mi_757 64 1 := ⟨cf_757, "KeelHouse$Rule$1", by decide, W1628, W1630, oy_KeelHouse_Rule _ _, rfl⟩
theorem fld_9_2 : FldF 9 2 3 37 ("KeelHouse$Voyages", "lots", "Ljava/util/ArrayList;", true) := ⟨_, rfl, by decide, by decide, by decide, rfl, rfl⟩
theorem cf_761 : CalF mi_761 := ⟨W1733, by decide⟩
theorem oy_KeelHouse_Lot : ∀ (n d : String), okY ⟨"KeelHouse$Lot", n, d⟩ := fun _ _ => ⟨show "KeelHouse$Lot" ≠ "java/lang/invoke/MethodHandle" by decide, show "KeelHouse$Lot" ≠ "java/lang/invoke/VarHandle" by decide⟩
theorem vf_761_35 : ViF mi_761 35 1 := ⟨cf_761, "KeelHouse$Lot", kn_35, W1731, W1732, oy_KeelHouse_Lot _ _, rfl⟩
theorem mt_761 : mi 761 = mi_761 := rfl
theorem cf_283 : CalF mi_283 := ⟨W459, by decide⟩
theorem vf_283_3 : ViF mi_283 3 3 := ⟨cf_283, "KeelHouse$Books", kn_3, W457, W458, oy_KeelHouse_Books _ _, rfl⟩
theorem mt_283 : mi 283 = mi_283 := rfl
theorem cf_203 : CalF mi_203 := ⟨W1768, by decide⟩
theorem sf_203 : StF mi_203 3 := ⟨cf_203, W1767, W130, oy_KeelHouse _ _, rfl⟩
theorem mt_203 : mi 203 = mi_203 := rfl
theorem cf_204 : CalF mi_204 := ⟨W1771, by decide⟩
theorem sf_204 : StF mi_204 1 := ⟨cf_204, W1770, W130, oy_KeelHouse _ _, rfl⟩
theorem mt_204 : mi 204 = mi_204 := rfl
theorem cf_205 : CalF mi_205 := ⟨W1795, by decide⟩
theorem sf_205 : StF mi_205 1 := ⟨cf_205, W1794, W130, oy_KeelHouse _ _, rfl⟩
theorem mt_205 : mi 205 = mi_205 := rfl
theorem nf_22 : NewF 22 27 "KeelHouse$Ship" := ⟨_, rfl, by decide, by decide, by decide, by decide, rfl, W1811, W149⟩
theorem nf_16 : NewF 16 5 "KeelHouse$Lines" := ⟨_, rfl, by decide, by decide, by decide, by decide, rfl, W1257, W150⟩
theorem cf_516 : CalF mi_516 := ⟨W1815, by decide⟩
theorem oy_KeelHouse_Lines : ∀ (n d : String), okY ⟨"KeelHouse$Lines", n, d⟩ := fun _ _ => ⟨show "KeelHouse$Lines" ≠ "java/lang/invoke/MethodHandle" by decide, show "KeelHouse$Lines" ≠ "java/lang/invoke/VarHandle" by decide⟩
theorem ic_516 : IcF mi_516 4 := ⟨cf_516, rfl, W1814, rfl, oy_KeelHouse_Lines _ _, _, rfl⟩
theorem mt_516 : mi 516 = mi_516 := rfl
theorem cf_488 : CalF mi_488 := ⟨W1935, by decide⟩
theorem ic_488 : IcF mi_488 2 := ⟨cf_488, rfl, W1934, rfl, oy_KeelHouse_Ship _ _, _, rfl⟩
theorem mt_488 : mi 488 = mi_488 := rfl
theorem cf_8 : CalF mi_8 := ⟨W2389, by decide⟩
theorem vf_8_5 : ViF mi_8 5 1 := ⟨cf_8, "java/util/ArrayList", kn_5, W2387, W2388, oy_java_util_ArrayList _ _, rfl⟩
theorem at_1_3 : ∀ w ∈ vx_at0 "KeelHouse" 3 "java/lang/IllegalArgumentException" ["java/lang/RuntimeException", "java/lang/Exception"], w ∈ lw_tbl ∧ stW w = true := at_ck (by decide +kernel)
theorem at_2_9 : ∀ w ∈ vx_at0 "KeelHouse" 9 "java/lang/IllegalStateException" ["java/lang/RuntimeException", "java/lang/Exception"], w ∈ lw_tbl ∧ stW w = true := at_ck (by decide +kernel)
theorem mt_206 : mi 206 = mi_206 := rfl
theorem cf_29 : CalF mi_29 := ⟨W1842, by decide⟩
theorem vf_29_14 : ViF mi_29 14 1 := ⟨cf_29, "java/lang/String", kn_14, W1840, W1841, oy_java_lang_String _ _, rfl⟩
theorem mt_207 : mi 207 = mi_207 := rfl
theorem cf_209 : CalF mi_209 := ⟨W2538, by decide⟩
theorem vf_209_1 : ViF mi_209 1 1 := ⟨cf_209, "KeelHouse", kn_1, W2537, QS40, oy_KeelHouse _ _, rfl⟩
theorem mt_209 : mi 209 = mi_209 := rfl
theorem cf_210 : CalF mi_210 := ⟨W2541, by decide⟩
theorem sf_210 : StF mi_210 2 := ⟨cf_210, W2540, W130, oy_KeelHouse _ _, rfl⟩
theorem mt_210 : mi 210 = mi_210 := rfl
theorem kn_16 : KN 16 "KeelHouse$Lines" := ⟨by decide, Or.inl ⟨_, rfl, by decide, rfl⟩⟩
theorem cf_517 : CalF mi_517 := ⟨W2562, by decide⟩
theorem vf_517_16 : ViF mi_517 16 3 := ⟨cf_517, "KeelHouse$Lines", kn_16, W2560, W2561, oy_KeelHouse_Lines _ _, rfl⟩
theorem mt_517 : mi 517 = mi_517 := rfl
theorem cf_6 : CalF mi_6 := ⟨W576, by decide⟩
theorem vf_6_5 : ViF mi_6 5 1 := ⟨cf_6, "java/util/ArrayList", kn_5, W574, W575, oy_java_util_ArrayList _ _, rfl⟩
theorem at_3_12 : ∀ w ∈ vx_at0 "KeelHouse" 12 "java/lang/IndexOutOfBoundsException" ["java/lang/RuntimeException", "java/lang/Exception"], w ∈ lw_tbl ∧ stW w = true := at_ck (by decide +kernel)
theorem cf_518 : CalF mi_518 := ⟨W2573, by decide⟩
theorem vf_518_16 : ViF mi_518 16 0 := ⟨cf_518, "KeelHouse$Lines", kn_16, W2571, W2572, oy_KeelHouse_Lines _ _, rfl⟩
theorem mt_518 : mi 518 = mi_518 := rfl
theorem cf_519 : CalF mi_519 := ⟨W2594, by decide⟩
theorem vf_519_16 : ViF mi_519 16 2 := ⟨cf_519, "KeelHouse$Lines", kn_16, W2592, W2593, oy_KeelHouse_Lines _ _, rfl⟩
theorem mt_519 : mi 519 = mi_519 := rfl
theorem cf_214 : CalF mi_214 := ⟨W2606, by decide⟩
theorem sf_214 : StF mi_214 1 := ⟨cf_214, W2605, W130, oy_KeelHouse _ _, rfl⟩
theorem mt_214 : mi 214 = mi_214 := rfl
theorem cf_500 : CalF mi_500 := ⟨W1240, by decide⟩
theorem vf_500_16 : ViF mi_500 16 1 := ⟨cf_500, "KeelHouse$Lines", kn_16, W1238, W1239, oy_KeelHouse_Lines _ _, rfl⟩
theorem mt_500 : mi 500 = mi_500 := rfl
theorem mt_816 : mi 816 = mi_816 := rfl
theorem cf_816 : CalF mi_816 := ⟨W2635, by decide⟩
theorem ei_816_25_KeelHouse_StageisGone__Z : EiF mi_816 ({ cls := "KeelHouse$Stage", name := "isGone", desc := "()Z" } : Jvm.MethodName) 25 0 := ⟨cf_816, "KeelHouse$Stage$6", "KeelHouse$Stage", by decide, W2634, ⟨_, _, rfl⟩, W2625, Or.inr ⟨W2624, _, _, _, W2636⟩, oy_KeelHouse_Stage _ _, W2633, rfl⟩
theorem mt_814 : mi 814 = mi_814 := rfl
theorem cf_814 : CalF mi_814 := ⟨W2632, by decide⟩
theorem ei_814_18_KeelHouse_StageisGone__Z : EiF mi_814 ({ cls := "KeelHouse$Stage", name := "isGone", desc := "()Z" } : Jvm.MethodName) 18 0 := ⟨cf_814, "KeelHouse$Stage$5", "KeelHouse$Stage", by decide, W2631, ⟨_, _, rfl⟩, W2625, Or.inr ⟨W2624, _, _, _, W2636⟩, oy_KeelHouse_Stage _ _, W2630, rfl⟩
theorem mt_583 : mi 583 = mi_583 := rfl
theorem cf_583 : CalF mi_583 := ⟨W2636, by decide⟩
theorem ev_583_24 : EvF mi_583 24 0 := ⟨cf_583, "KeelHouse$Stage$4", by decide, W2624, W2629, oy_KeelHouse_Stage _ _, rfl⟩
theorem ev_583_19 : EvF mi_583 19 0 := ⟨cf_583, "KeelHouse$Stage$3", by decide, W2624, W2628, oy_KeelHouse_Stage _ _, rfl⟩
theorem ev_583_16 : EvF mi_583 16 0 := ⟨cf_583, "KeelHouse$Stage$2", by decide, W2624, W2627, oy_KeelHouse_Stage _ _, rfl⟩
theorem ev_583_15 : EvF mi_583 15 0 := ⟨cf_583, "KeelHouse$Stage$1", by decide, W2624, W2626, oy_KeelHouse_Stage _ _, rfl⟩
theorem fld_22_3 : FldF 22 3 3 95 ("KeelHouse$Ship", "items", "Ljava/util/ArrayList;", true) := ⟨_, rfl, by decide, by decide, by decide, rfl, rfl⟩
theorem nf_26 : NewF 26 4 "KeelHouse$Item" := ⟨_, rfl, by decide, by decide, by decide, by decide, rfl, W2638, W180⟩
theorem cf_728 : CalF mi_728 := ⟨W2641, by decide⟩
theorem oy_KeelHouse_Item : ∀ (n d : String), okY ⟨"KeelHouse$Item", n, d⟩ := fun _ _ => ⟨show "KeelHouse$Item" ≠ "java/lang/invoke/MethodHandle" by decide, show "KeelHouse$Item" ≠ "java/lang/invoke/VarHandle" by decide⟩
theorem ic_728 : IcF mi_728 4 := ⟨cf_728, rfl, W2640, rfl, oy_KeelHouse_Item _ _, _, rfl⟩
theorem mt_728 : mi 728 = mi_728 := rfl
theorem cf_12 : CalF mi_12 := ⟨W2666, by decide⟩
theorem vf_12_5 : ViF mi_12 5 1 := ⟨cf_12, "java/util/ArrayList", kn_5, W2664, W2665, oy_java_util_ArrayList _ _, rfl⟩
theorem cf_219 : CalF mi_219 := ⟨W2681, by decide⟩
theorem sf_219 : StF mi_219 1 := ⟨cf_219, W2680, W130, oy_KeelHouse _ _, rfl⟩
theorem mt_219 : mi 219 = mi_219 := rfl
theorem cf_489 : CalF mi_489 := ⟨W2686, by decide⟩
theorem vf_489_22 : ViF mi_489 22 0 := ⟨cf_489, "KeelHouse$Ship", kn_22, W2684, W2685, oy_KeelHouse_Ship _ _, rfl⟩
theorem mt_489 : mi 489 = mi_489 := rfl
theorem fld_22_4 : FldF 22 4 3 96 ("KeelHouse$Ship", "tanks", "[LKeelHouse$Tank;", true) := ⟨_, rfl, by decide, by decide, by decide, rfl, rfl⟩
theorem fld_15_2 : FldF 15 2 0 61 ("KeelHouse$Tank", "fill", "I", false) := ⟨_, rfl, by decide, by decide, by decide, rfl, rfl⟩
theorem fld_22_14 : FldF 22 14 0 106 ("KeelHouse$Ship", "bulkheads", "I", false) := ⟨_, rfl, by decide, by decide, by decide, rfl, rfl⟩
theorem cf_557 : CalF mi_557 := ⟨W1363, by decide⟩
theorem vf_557_18 : ViF mi_557 18 1 := ⟨cf_557, "KeelHouse$Flood", kn_18, W1361, W1362, oy_KeelHouse_Flood _ _, rfl⟩
theorem mt_557 : mi 557 = mi_557 := rfl
theorem fld_18_1 : FldF 18 1 0 74 ("KeelHouse$Flood", "flooded", "I", false) := ⟨_, rfl, by decide, by decide, by decide, rfl, rfl⟩
theorem fld_18_2 : FldF 18 2 2 75 ("KeelHouse$Flood", "draught", "D", false) := ⟨_, rfl, by decide, by decide, by decide, rfl, rfl⟩
theorem fld_22_15 : FldF 22 15 0 107 ("KeelHouse$Ship", "limit", "I", false) := ⟨_, rfl, by decide, by decide, by decide, rfl, rfl⟩
theorem cf_576 : CalF mi_576 := ⟨W2742, by decide⟩
theorem vf_576_19 : ViF mi_576 19 0 := ⟨cf_576, "KeelHouse$Strength", kn_19, W2740, W2741, oy_KeelHouse_Strength _ _, rfl⟩
theorem mt_576 : mi 576 = mi_576 := rfl
theorem cf_196 : CalF mi_196 := ⟨W1449, by decide⟩
theorem sf_196 : StF mi_196 1 := ⟨cf_196, W1448, W130, oy_KeelHouse _ _, rfl⟩
theorem cf_579 : CalF mi_579 := ⟨W2769, by decide⟩
theorem vf_579_19 : ViF mi_579 19 2 := ⟨cf_579, "KeelHouse$Strength", kn_19, W2767, W2768, oy_KeelHouse_Strength _ _, rfl⟩
theorem mt_579 : mi 579 = mi_579 := rfl
theorem cf_580 : CalF mi_580 := ⟨W2773, by decide⟩
theorem vf_580_19 : ViF mi_580 19 1 := ⟨cf_580, "KeelHouse$Strength", kn_19, W2771, W2772, oy_KeelHouse_Strength _ _, rfl⟩
theorem mt_580 : mi 580 = mi_580 := rfl
theorem cf_292 : CalF mi_292 := ⟨W2795, by decide⟩
theorem vf_292_4 : ViF mi_292 4 0 := ⟨cf_292, "KeelHouse$Store", kn_4, W2793, W2794, oy_KeelHouse_Store _ _, rfl⟩
theorem mt_292 : mi 292 = mi_292 := rfl
theorem nf_27 : NewF 27 6 "KeelHouse$Kind" := ⟨_, rfl, by decide, by decide, by decide, by decide, rfl, W2797, W185⟩
theorem cf_730 : CalF mi_730 := ⟨W2800, by decide⟩
theorem oy_KeelHouse_Kind : ∀ (n d : String), okY ⟨"KeelHouse$Kind", n, d⟩ := fun _ _ => ⟨show "KeelHouse$Kind" ≠ "java/lang/invoke/MethodHandle" by decide, show "KeelHouse$Kind" ≠ "java/lang/invoke/VarHandle" by decide⟩
theorem ic_730 : IcF mi_730 5 := ⟨cf_730, rfl, W2799, rfl, oy_KeelHouse_Kind _ _, _, rfl⟩
theorem mt_730 : mi 730 = mi_730 := rfl
theorem cf_293 : CalF mi_293 := ⟨W2841, by decide⟩
theorem vf_293_4 : ViF mi_293 4 1 := ⟨cf_293, "KeelHouse$Store", kn_4, W2839, W2840, oy_KeelHouse_Store _ _, rfl⟩
theorem mt_293 : mi 293 = mi_293 := rfl
theorem cf_294 : CalF mi_294 := ⟨W2848, by decide⟩
theorem vf_294_4 : ViF mi_294 4 0 := ⟨cf_294, "KeelHouse$Store", kn_4, W2846, W2847, oy_KeelHouse_Store _ _, rfl⟩
theorem mt_294 : mi 294 = mi_294 := rfl
theorem fld_27_3 : FldF 27 3 0 146 ("KeelHouse$Kind", "price", "I", true) := ⟨_, rfl, by decide, by decide, by decide, rfl, rfl⟩
theorem cf_286 : CalF mi_286 := ⟨W2854, by decide⟩
theorem vf_286_3 : ViF mi_286 3 3 := ⟨cf_286, "KeelHouse$Books", kn_3, W2852, W2853, oy_KeelHouse_Books _ _, rfl⟩
theorem mt_286 : mi 286 = mi_286 := rfl
theorem nf_28 : NewF 28 3 "KeelHouse$Delivery" := ⟨_, rfl, by decide, by decide, by decide, by decide, rfl, W2886, W187⟩
theorem fld_27_4 : FldF 27 4 0 147 ("KeelHouse$Kind", "lead", "I", true) := ⟨_, rfl, by decide, by decide, by decide, rfl, rfl⟩
theorem cf_731 : CalF mi_731 := ⟨W2889, by decide⟩
theorem oy_KeelHouse_Delivery : ∀ (n d : String), okY ⟨"KeelHouse$Delivery", n, d⟩ := fun _ _ => ⟨show "KeelHouse$Delivery" ≠ "java/lang/invoke/MethodHandle" by decide, show "KeelHouse$Delivery" ≠ "java/lang/invoke/VarHandle" by decide⟩
theorem ic_731 : IcF mi_731 3 := ⟨cf_731, rfl, W2888, rfl, oy_KeelHouse_Delivery _ _, _, rfl⟩
theorem mt_731 : mi 731 = mi_731 := rfl
theorem cf_233 : CalF mi_233 := ⟨W2913, by decide⟩
theorem sf_233 : StF mi_233 2 := ⟨cf_233, W2912, W130, oy_KeelHouse _ _, rfl⟩
theorem mt_233 : mi 233 = mi_233 := rfl
theorem fld_23_5 : FldF 23 5 0 124 ("KeelHouse$Plates", "state", "I", false) := ⟨_, rfl, by decide, by decide, by decide, rfl, rfl⟩
theorem cf_295 : CalF mi_295 := ⟨W2917, by decide⟩
theorem vf_295_4 : ViF mi_295 4 2 := ⟨cf_295, "KeelHouse$Store", kn_4, W2915, W2916, oy_KeelHouse_Store _ _, rfl⟩
theorem mt_295 : mi 295 = mi_295 := rfl
theorem fld_27_2 : FldF 27 2 0 145 ("KeelHouse$Kind", "thickness", "I", true) := ⟨_, rfl, by decide, by decide, by decide, rfl, rfl⟩
theorem fld_22_2 : FldF 22 2 3 94 ("KeelHouse$Ship", "plates", "[LKeelHouse$Plates;", true) := ⟨_, rfl, by decide, by decide, by decide, rfl, rfl⟩
theorem cf_490 : CalF mi_490 := ⟨W3138, by decide⟩
theorem vf_490_22 : ViF mi_490 22 0 := ⟨cf_490, "KeelHouse$Ship", kn_22, W3136, W3137, oy_KeelHouse_Ship _ _, rfl⟩
theorem mt_490 : mi 490 = mi_490 := rfl
theorem nf_30 : NewF 30 4 "KeelHouse$Nest" := ⟨_, rfl, by decide, by decide, by decide, by decide, rfl, W3064, W189⟩
theorem kn_23 : KN 23 "KeelHouse$Plates" := ⟨by decide, Or.inl ⟨_, rfl, by decide, rfl⟩⟩
theorem cf_592 : CalF mi_592 := ⟨W2921, by decide⟩
theorem oy_KeelHouse_Plates : ∀ (n d : String), okY ⟨"KeelHouse$Plates", n, d⟩ := fun _ _ => ⟨show "KeelHouse$Plates" ≠ "java/lang/invoke/MethodHandle" by decide, show "KeelHouse$Plates" ≠ "java/lang/invoke/VarHandle" by decide⟩
theorem vf_592_23 : ViF mi_592 23 0 := ⟨cf_592, "KeelHouse$Plates", kn_23, W2919, W2920, oy_KeelHouse_Plates _ _, rfl⟩
theorem mt_592 : mi 592 = mi_592 := rfl
theorem cf_593 : CalF mi_593 := ⟨W2925, by decide⟩
theorem vf_593_23 : ViF mi_593 23 0 := ⟨cf_593, "KeelHouse$Plates", kn_23, W2923, W2924, oy_KeelHouse_Plates _ _, rfl⟩
theorem mt_593 : mi 593 = mi_593 := rfl
theorem cf_732 : CalF mi_732 := ⟨W3067, by decide⟩
theorem oy_KeelHouse_Nest : ∀ (n d : String), okY ⟨"KeelHouse$Nest", n, d⟩ := fun _ _ => ⟨show "KeelHouse$Nest" ≠ "java/lang/invoke/MethodHandle" by decide, show "KeelHouse$Nest" ≠ "java/lang/invoke/VarHandle" by decide⟩
theorem ic_732 : IcF mi_732 3 := ⟨cf_732, rfl, W3066, rfl, oy_KeelHouse_Nest _ _, _, rfl⟩
theorem mt_732 : mi 732 = mi_732 := rfl
theorem kn_30 : KN 30 "KeelHouse$Nest" := ⟨by decide, Or.inl ⟨_, rfl, by decide, rfl⟩⟩
theorem cf_735 : CalF mi_735 := ⟨W3094, by decide⟩
theorem vf_735_30 : ViF mi_735 30 0 := ⟨cf_735, "KeelHouse$Nest", kn_30, W3092, W3093, oy_KeelHouse_Nest _ _, rfl⟩
theorem mt_735 : mi 735 = mi_735 := rfl
theorem cf_308 : CalF mi_308 := ⟨W3168, by decide⟩
theorem vf_308_6 : ViF mi_308 6 2 := ⟨cf_308, "KeelHouse$Edge", kn_6, W3166, W3167, oy_KeelHouse_Edge _ _, rfl⟩
theorem mt_308 : mi 308 = mi_308 := rfl
theorem cf_309 : CalF mi_309 := ⟨W3175, by decide⟩
theorem vf_309_6 : ViF mi_309 6 2 := ⟨cf_309, "KeelHouse$Edge", kn_6, W3173, W3174, oy_KeelHouse_Edge _ _, rfl⟩
theorem mt_309 : mi 309 = mi_309 := rfl
theorem cf_626 : CalF mi_626 := ⟨W3183, by decide⟩
theorem vf_626_12 : ViF mi_626 12 0 := ⟨cf_626, "KeelHouse$Jobs", kn_12, W3181, W3182, oy_KeelHouse_Jobs _ _, rfl⟩
theorem mt_626 : mi 626 = mi_626 := rfl
theorem cf_627 : CalF mi_627 := ⟨W3206, by decide⟩
theorem vf_627_12 : ViF mi_627 12 1 := ⟨cf_627, "KeelHouse$Jobs", kn_12, W3204, W3205, oy_KeelHouse_Jobs _ _, rfl⟩
theorem mt_627 : mi 627 = mi_627 := rfl
theorem cf_240 : CalF mi_240 := ⟨W3210, by decide⟩
theorem sf_240 : StF mi_240 1 := ⟨cf_240, W3209, W130, oy_KeelHouse _ _, rfl⟩
theorem mt_240 : mi 240 = mi_240 := rfl
theorem cf_311 : CalF mi_311 := ⟨W3213, by decide⟩
theorem sf_311 : StF mi_311 3 := ⟨cf_311, W3212, W137, oy_KeelHouse_Edge _ _, rfl⟩
theorem mt_311 : mi 311 = mi_311 := rfl
theorem cf_312 : CalF mi_312 := ⟨W3219, by decide⟩
theorem vf_312_6 : ViF mi_312 6 2 := ⟨cf_312, "KeelHouse$Edge", kn_6, W3217, W3218, oy_KeelHouse_Edge _ _, rfl⟩
theorem mt_312 : mi 312 = mi_312 := rfl
theorem cf_491 : CalF mi_491 := ⟨W3225, by decide⟩
theorem vf_491_22 : ViF mi_491 22 0 := ⟨cf_491, "KeelHouse$Ship", kn_22, W3223, W3224, oy_KeelHouse_Ship _ _, rfl⟩
theorem mt_491 : mi 491 = mi_491 := rfl
theorem cf_310 : CalF mi_310 := ⟨W3179, by decide⟩
theorem vf_310_6 : ViF mi_310 6 1 := ⟨cf_310, "KeelHouse$Edge", kn_6, W3177, W3178, oy_KeelHouse_Edge _ _, rfl⟩
theorem mt_310 : mi 310 = mi_310 := rfl
theorem cf_492 : CalF mi_492 := ⟨W3233, by decide⟩
theorem vf_492_22 : ViF mi_492 22 1 := ⟨cf_492, "KeelHouse$Ship", kn_22, W3231, W3232, oy_KeelHouse_Ship _ _, rfl⟩
theorem mt_492 : mi 492 = mi_492 := rfl
theorem cf_328 : CalF mi_328 := ⟨W3248, by decide⟩
theorem vf_328_8 : ViF mi_328 8 1 := ⟨cf_328, "KeelHouse$Sales", kn_8, W3246, W3247, oy_KeelHouse_Sales _ _, rfl⟩
theorem mt_328 : mi 328 = mi_328 := rfl
theorem mt_584 : mi 584 = mi_584 := rfl
theorem cf_584 : CalF mi_584 := ⟨W3286, by decide⟩
theorem ev_584_25 : EvF mi_584 25 0 := ⟨cf_584, "KeelHouse$Stage$6", by decide, W3274, W3285, oy_KeelHouse_Stage _ _, rfl⟩
theorem ev_584_18 : EvF mi_584 18 0 := ⟨cf_584, "KeelHouse$Stage$5", by decide, W3274, W3284, oy_KeelHouse_Stage _ _, rfl⟩
theorem mt_812 : mi 812 = mi_812 := rfl
theorem cf_812 : CalF mi_812 := ⟨W3283, by decide⟩
theorem ei_812_24_KeelHouse_StageisWet__Z : EiF mi_812 ({ cls := "KeelHouse$Stage", name := "isWet", desc := "()Z" } : Jvm.MethodName) 24 0 := ⟨cf_812, "KeelHouse$Stage$4", "KeelHouse$Stage", by decide, W3282, ⟨_, _, rfl⟩, W3275, Or.inr ⟨W3274, _, _, _, W3286⟩, oy_KeelHouse_Stage _ _, W3281, rfl⟩
theorem mt_810 : mi 810 = mi_810 := rfl
theorem cf_810 : CalF mi_810 := ⟨W3280, by decide⟩
theorem ei_810_19_KeelHouse_StageisWet__Z : EiF mi_810 ({ cls := "KeelHouse$Stage", name := "isWet", desc := "()Z" } : Jvm.MethodName) 19 0 := ⟨cf_810, "KeelHouse$Stage$3", "KeelHouse$Stage", by decide, W3279, ⟨_, _, rfl⟩, W3275, Or.inr ⟨W3274, _, _, _, W3286⟩, oy_KeelHouse_Stage _ _, W3278, rfl⟩
theorem ev_584_16 : EvF mi_584 16 0 := ⟨cf_584, "KeelHouse$Stage$2", by decide, W3274, W3277, oy_KeelHouse_Stage _ _, rfl⟩
theorem ev_584_15 : EvF mi_584 15 0 := ⟨cf_584, "KeelHouse$Stage$1", by decide, W3274, W3276, oy_KeelHouse_Stage _ _, rfl⟩
theorem cf_313 : CalF mi_313 := ⟨W3290, by decide⟩
theorem vf_313_6 : ViF mi_313 6 3 := ⟨cf_313, "KeelHouse$Edge", kn_6, W3288, W3289, oy_KeelHouse_Edge _ _, rfl⟩
theorem mt_313 : mi 313 = mi_313 := rfl
theorem cf_245 : CalF mi_245 := ⟨W3314, by decide⟩
theorem sf_245 : StF mi_245 1 := ⟨cf_245, W3313, W130, oy_KeelHouse _ _, rfl⟩
theorem mt_245 : mi 245 = mi_245 := rfl
theorem cf_248 : CalF mi_248 := ⟨W3332, by decide⟩
theorem vf_248_1 : ViF mi_248 1 0 := ⟨cf_248, "KeelHouse", kn_1, W3331, QS48, oy_KeelHouse _ _, rfl⟩
theorem mt_248 : mi 248 = mi_248 := rfl
theorem kn_7 : KN 7 "KeelHouse$Works" := ⟨by decide, Or.inl ⟨_, rfl, by decide, rfl⟩⟩
theorem cf_316 : CalF mi_316 := ⟨W3359, by decide⟩
theorem vf_316_7 : ViF mi_316 7 0 := ⟨cf_316, "KeelHouse$Works", kn_7, W3357, W3358, oy_KeelHouse_Works _ _, rfl⟩
theorem mt_316 : mi 316 = mi_316 := rfl
theorem cf_317 : CalF mi_317 := ⟨W3363, by decide⟩
theorem vf_317_7 : ViF mi_317 7 1 := ⟨cf_317, "KeelHouse$Works", kn_7, W3361, W3362, oy_KeelHouse_Works _ _, rfl⟩
theorem mt_317 : mi 317 = mi_317 := rfl
theorem fld_22_19 : FldF 22 19 4 111 ("KeelHouse$Ship", "isAtSea", "Z", false) := ⟨_, rfl, by decide, by decide, by decide, rfl, rfl⟩
theorem cf_345 : CalF mi_345 := ⟨W3439, by decide⟩
theorem vf_345_9 : ViF mi_345 9 2 := ⟨cf_345, "KeelHouse$Voyages", kn_9, W3437, W3438, oy_KeelHouse_Voyages _ _, rfl⟩
theorem mt_345 : mi 345 = mi_345 := rfl
theorem cf_331 : CalF mi_331 := ⟨W3468, by decide⟩
theorem vf_331_8 : ViF mi_331 8 1 := ⟨cf_331, "KeelHouse$Sales", kn_8, W3466, W3467, oy_KeelHouse_Sales _ _, rfl⟩
theorem mt_331 : mi 331 = mi_331 := rfl
theorem fld_3_1 : FldF 3 1 0 16 ("KeelHouse$Books", "month", "I", false) := ⟨_, rfl, by decide, by decide, by decide, rfl, rfl⟩
theorem cf_298 : CalF mi_298 := ⟨W3336, by decide⟩
theorem vf_298_4 : ViF mi_298 4 1 := ⟨cf_298, "KeelHouse$Store", kn_4, W3334, W3335, oy_KeelHouse_Store _ _, rfl⟩
theorem mt_298 : mi 298 = mi_298 := rfl
theorem mt_740 : mi 740 = mi_740 := rfl
theorem cf_740 : CalF mi_740 := ⟨W3350, by decide⟩
theorem ev_740_33 : EvF mi_740 33 0 := ⟨cf_740, "KeelHouse$Spot$6", by decide, W3340, W3349, oy_KeelHouse_Spot _ _, rfl⟩
theorem ev_740_28 : EvF mi_740 28 0 := ⟨cf_740, "KeelHouse$Spot$5", by decide, W3340, W3348, oy_KeelHouse_Spot _ _, rfl⟩
theorem ev_740_29 : EvF mi_740 29 0 := ⟨cf_740, "KeelHouse$Spot$4", by decide, W3340, W3347, oy_KeelHouse_Spot _ _, rfl⟩
theorem mt_801 : mi 801 = mi_801 := rfl
theorem cf_801 : CalF mi_801 := ⟨W3346, by decide⟩
theorem ei_801_30_KeelHouse_Spotcost__I : EiF mi_801 ({ cls := "KeelHouse$Spot", name := "cost", desc := "()I" } : Jvm.MethodName) 30 0 := ⟨cf_801, "KeelHouse$Spot$3", "KeelHouse$Spot", by decide, W3345, ⟨_, _, rfl⟩, W3341, Or.inr ⟨W3340, _, _, _, W3350⟩, oy_KeelHouse_Spot _ _, W3344, rfl⟩
theorem ev_740_31 : EvF mi_740 31 0 := ⟨cf_740, "KeelHouse$Spot$2", by decide, W3340, W3343, oy_KeelHouse_Spot _ _, rfl⟩
theorem ev_740_32 : EvF mi_740 32 0 := ⟨cf_740, "KeelHouse$Spot$1", by decide, W3340, W3342, oy_KeelHouse_Spot _ _, rfl⟩
theorem fld_22_24 : FldF 22 24 0 116 ("KeelHouse$Ship", "holed", "I", false) := ⟨_, rfl, by decide, by decide, by decide, rfl, rfl⟩
theorem cf_62 : CalF mi_62 := ⟨W1033, by decide⟩
theorem sf_62 : StF mi_62 1 := ⟨cf_62, W1032, W169, oy_java_lang_Integer _ _, rfl⟩
theorem mt_249 : mi 249 = mi_249 := rfl
theorem cf_631 : CalF mi_631 := ⟨W3490, by decide⟩
theorem vf_631_12 : ViF mi_631 12 1 := ⟨cf_631, "KeelHouse$Jobs", kn_12, W3488, W3489, oy_KeelHouse_Jobs _ _, rfl⟩
theorem mt_631 : mi 631 = mi_631 := rfl
theorem cf_632 : CalF mi_632 := ⟨W3494, by decide⟩
theorem vf_632_12 : ViF mi_632 12 2 := ⟨cf_632, "KeelHouse$Jobs", kn_12, W3492, W3493, oy_KeelHouse_Jobs _ _, rfl⟩
theorem mt_632 : mi 632 = mi_632 := rfl
theorem cf_324 : CalF mi_324 := ⟨W3519, by decide⟩
theorem vf_324_7 : ViF mi_324 7 3 := ⟨cf_324, "KeelHouse$Works", kn_7, W3517, W3518, oy_KeelHouse_Works _ _, rfl⟩
theorem mt_324 : mi 324 = mi_324 := rfl
theorem fld_20_2 : FldF 20 2 0 88 ("KeelHouse$Engine", "power", "I", false) := ⟨_, rfl, by decide, by decide, by decide, rfl, rfl⟩
theorem fld_13_0 : FldF 13 0 3 51 ("KeelHouse$Net", "pipes", "Ljava/util/ArrayList;", true) := ⟨_, rfl, by decide, by decide, by decide, rfl, rfl⟩
theorem cf_543 : CalF mi_543 := ⟨W3557, by decide⟩
theorem vf_543_13 : ViF mi_543 13 3 := ⟨cf_543, "KeelHouse$Net", kn_13, W3555, W3556, oy_KeelHouse_Net _ _, rfl⟩
theorem mt_543 : mi 543 = mi_543 := rfl
theorem cf_544 : CalF mi_544 := ⟨W3600, by decide⟩
theorem vf_544_13 : ViF mi_544 13 1 := ⟨cf_544, "KeelHouse$Net", kn_13, W3598, W3599, oy_KeelHouse_Net _ _, rfl⟩
theorem mt_544 : mi 544 = mi_544 := rfl
theorem fld_32_3 : FldF 32 3 4 163 ("KeelHouse$Pipe", "isShut", "Z", false) := ⟨_, rfl, by decide, by decide, by decide, rfl, rfl⟩
theorem cf_545 : CalF mi_545 := ⟨W3621, by decide⟩
theorem vf_545_13 : ViF mi_545 13 0 := ⟨cf_545, "KeelHouse$Net", kn_13, W3619, W3620, oy_KeelHouse_Net _ _, rfl⟩
theorem mt_545 : mi 545 = mi_545 := rfl
theorem cf_535 : CalF mi_535 := ⟨W659, by decide⟩
theorem vf_535_13 : ViF mi_535 13 0 := ⟨cf_535, "KeelHouse$Net", kn_13, W657, W658, oy_KeelHouse_Net _ _, rfl⟩
theorem mt_535 : mi 535 = mi_535 := rfl
theorem cf_323 : CalF mi_323 := ⟨W3430, by decide⟩
theorem vf_323_7 : ViF mi_323 7 0 := ⟨cf_323, "KeelHouse$Works", kn_7, W3428, W3429, oy_KeelHouse_Works _ _, rfl⟩
theorem mt_323 : mi 323 = mi_323 := rfl
theorem fld_32_4 : FldF 32 4 4 164 ("KeelHouse$Pipe", "isBurst", "Z", false) := ⟨_, rfl, by decide, by decide, by decide, rfl, rfl⟩
theorem cf_525 : CalF mi_525 := ⟨W1591, by decide⟩
theorem vf_525_20 : ViF mi_525 20 0 := ⟨cf_525, "KeelHouse$Engine", kn_20, W1589, W1590, oy_KeelHouse_Engine _ _, rfl⟩
theorem mt_525 : mi 525 = mi_525 := rfl
theorem cf_526 : CalF mi_526 := ⟨W1683, by decide⟩
theorem vf_526_20 : ViF mi_526 20 1 := ⟨cf_526, "KeelHouse$Engine", kn_20, W1681, W1682, oy_KeelHouse_Engine _ _, rfl⟩
theorem mt_526 : mi 526 = mi_526 := rfl
theorem cf_334 : CalF mi_334 := ⟨W3666, by decide⟩
theorem vf_334_8 : ViF mi_334 8 0 := ⟨cf_334, "KeelHouse$Sales", kn_8, W3664, W3665, oy_KeelHouse_Sales _ _, rfl⟩
theorem mt_334 : mi 334 = mi_334 := rfl
theorem nf_33 : NewF 33 10 "KeelHouse$Buyer" := ⟨_, rfl, by decide, by decide, by decide, by decide, rfl, W3667, W195⟩
theorem cf_754 : CalF mi_754 := ⟨W3670, by decide⟩
theorem ic_754 : IcF mi_754 5 := ⟨cf_754, rfl, W3669, rfl, oy_KeelHouse_Buyer _ _, _, rfl⟩
theorem mt_754 : mi 754 = mi_754 := rfl
theorem cf_335 : CalF mi_335 := ⟨W3722, by decide⟩
theorem vf_335_8 : ViF mi_335 8 1 := ⟨cf_335, "KeelHouse$Sales", kn_8, W3720, W3721, oy_KeelHouse_Sales _ _, rfl⟩
theorem mt_335 : mi 335 = mi_335 := rfl
theorem fld_33_5 : FldF 33 5 0 171 ("KeelHouse$Buyer", "state", "I", false) := ⟨_, rfl, by decide, by decide, by decide, rfl, rfl⟩
theorem cf_336 : CalF mi_336 := ⟨W3727, by decide⟩
theorem vf_336_8 : ViF mi_336 8 1 := ⟨cf_336, "KeelHouse$Sales", kn_8, W3725, W3726, oy_KeelHouse_Sales _ _, rfl⟩
theorem mt_336 : mi 336 = mi_336 := rfl
theorem cf_337 : CalF mi_337 := ⟨W3732, by decide⟩
theorem vf_337_8 : ViF mi_337 8 4 := ⟨cf_337, "KeelHouse$Sales", kn_8, W3730, W3731, oy_KeelHouse_Sales _ _, rfl⟩
theorem mt_337 : mi 337 = mi_337 := rfl
theorem fld_33_6 : FldF 33 6 3 172 ("KeelHouse$Buyer", "ship", "LKeelHouse$Ship;", false) := ⟨_, rfl, by decide, by decide, by decide, rfl, rfl⟩
theorem cf_484 : CalF mi_484 := ⟨W561, by decide⟩
theorem vf_484_22 : ViF mi_484 22 0 := ⟨cf_484, "KeelHouse$Ship", kn_22, W559, W560, oy_KeelHouse_Ship _ _, rfl⟩
theorem mt_484 : mi 484 = mi_484 := rfl
theorem cf_755 : CalF mi_755 := ⟨W3746, by decide⟩
theorem vf_755_33 : ViF mi_755 33 3 := ⟨cf_755, "KeelHouse$Buyer", kn_33, W3744, W3745, oy_KeelHouse_Buyer _ _, rfl⟩
theorem mt_755 : mi 755 = mi_755 := rfl
theorem cf_338 : CalF mi_338 := ⟨W3750, by decide⟩
theorem vf_338_8 : ViF mi_338 8 1 := ⟨cf_338, "KeelHouse$Sales", kn_8, W3748, W3749, oy_KeelHouse_Sales _ _, rfl⟩
theorem mt_338 : mi 338 = mi_338 := rfl
theorem cf_339 : CalF mi_339 := ⟨W3776, by decide⟩
theorem vf_339_8 : ViF mi_339 8 2 := ⟨cf_339, "KeelHouse$Sales", kn_8, W3774, W3775, oy_KeelHouse_Sales _ _, rfl⟩
theorem mt_339 : mi 339 = mi_339 := rfl
theorem fld_9_1 : FldF 9 1 3 36 ("KeelHouse$Voyages", "ports", "Ljava/util/ArrayList;", true) := ⟨_, rfl, by decide, by decide, by decide, rfl, rfl⟩
theorem nf_34 : NewF 34 4 "KeelHouse$Port" := ⟨_, rfl, by decide, by decide, by decide, by decide, rfl, W3791, W197⟩
theorem cf_759 : CalF mi_759 := ⟨W3794, by decide⟩
theorem oy_KeelHouse_Port : ∀ (n d : String), okY ⟨"KeelHouse$Port", n, d⟩ := fun _ _ => ⟨show "KeelHouse$Port" ≠ "java/lang/invoke/MethodHandle" by decide, show "KeelHouse$Port" ≠ "java/lang/invoke/VarHandle" by decide⟩
theorem ic_759 : IcF mi_759 4 := ⟨cf_759, rfl, W3793, rfl, oy_KeelHouse_Port _ _, _, rfl⟩
theorem mt_759 : mi 759 = mi_759 := rfl
theorem cf_348 : CalF mi_348 := ⟨W3822, by decide⟩
theorem vf_348_9 : ViF mi_348 9 1 := ⟨cf_348, "KeelHouse$Voyages", kn_9, W3820, W3821, oy_KeelHouse_Voyages _ _, rfl⟩
theorem mt_348 : mi 348 = mi_348 := rfl
theorem nf_35 : NewF 35 10 "KeelHouse$Lot" := ⟨_, rfl, by decide, by decide, by decide, by decide, rfl, W3826, W198⟩
theorem cf_762 : CalF mi_762 := ⟨W3829, by decide⟩
theorem ic_762 : IcF mi_762 6 := ⟨cf_762, rfl, W3828, rfl, oy_KeelHouse_Lot _ _, _, rfl⟩
theorem mt_762 : mi 762 = mi_762 := rfl
theorem fld_22_23 : FldF 22 23 0 115 ("KeelHouse$Ship", "fuel", "I", false) := ⟨_, rfl, by decide, by decide, by decide, rfl, rfl⟩
theorem cf_349 : CalF mi_349 := ⟨W3897, by decide⟩
theorem vf_349_9 : ViF mi_349 9 1 := ⟨cf_349, "KeelHouse$Voyages", kn_9, W3895, W3896, oy_KeelHouse_Voyages _ _, rfl⟩
theorem mt_349 : mi 349 = mi_349 := rfl
theorem fld_22_21 : FldF 22 21 3 113 ("KeelHouse$Ship", "port", "LKeelHouse$Port;", false) := ⟨_, rfl, by decide, by decide, by decide, rfl, rfl⟩
theorem fld_35_1 : FldF 35 1 3 181 ("KeelHouse$Lot", "at", "LKeelHouse$Port;", true) := ⟨_, rfl, by decide, by decide, by decide, rfl, rfl⟩
theorem fld_35_6 : FldF 35 6 0 186 ("KeelHouse$Lot", "state", "I", false) := ⟨_, rfl, by decide, by decide, by decide, rfl, rfl⟩
theorem cf_350 : CalF mi_350 := ⟨W3900, by decide⟩
theorem sf_350 : StF mi_350 3 := ⟨cf_350, W3899, W140, oy_KeelHouse_Voyages _ _, rfl⟩
theorem mt_350 : mi 350 = mi_350 := rfl
theorem cf_763 : CalF mi_763 := ⟨W3910, by decide⟩
theorem vf_763_35 : ViF mi_763 35 2 := ⟨cf_763, "KeelHouse$Lot", kn_35, W3908, W3909, oy_KeelHouse_Lot _ _, rfl⟩
theorem mt_763 : mi 763 = mi_763 := rfl
theorem cf_353 : CalF mi_353 := ⟨W4151, by decide⟩
theorem vf_353_9 : ViF mi_353 9 1 := ⟨cf_353, "KeelHouse$Voyages", kn_9, W4149, W4150, oy_KeelHouse_Voyages _ _, rfl⟩
theorem mt_353 : mi 353 = mi_353 := rfl
theorem cf_354 : CalF mi_354 := ⟨W4169, by decide⟩
theorem vf_354_9 : ViF mi_354 9 1 := ⟨cf_354, "KeelHouse$Voyages", kn_9, W4167, W4168, oy_KeelHouse_Voyages _ _, rfl⟩
theorem mt_354 : mi 354 = mi_354 := rfl
theorem fld_34_3 : FldF 34 3 0 179 ("KeelHouse$Port", "deep", "I", true) := ⟨_, rfl, by decide, by decide, by decide, rfl, rfl⟩
theorem cf_355 : CalF mi_355 := ⟨W4173, by decide⟩
theorem vf_355_9 : ViF mi_355 9 2 := ⟨cf_355, "KeelHouse$Voyages", kn_9, W4171, W4172, oy_KeelHouse_Voyages _ _, rfl⟩
theorem mt_355 : mi 355 = mi_355 := rfl
theorem fld_22_22 : FldF 22 22 2 114 ("KeelHouse$Ship", "way", "D", false) := ⟨_, rfl, by decide, by decide, by decide, rfl, rfl⟩
theorem fld_9_3 : FldF 9 3 3 38 ("KeelHouse$Voyages", "route", "LKeelHouse$Route;", true) := ⟨_, rfl, by decide, by decide, by decide, rfl, rfl⟩
theorem kn_10 : KN 10 "KeelHouse$Route" := ⟨by decide, Or.inl ⟨_, rfl, by decide, rfl⟩⟩
theorem cf_357 : CalF mi_357 := ⟨W4203, by decide⟩
theorem oy_KeelHouse_Route : ∀ (n d : String), okY ⟨"KeelHouse$Route", n, d⟩ := fun _ _ => ⟨show "KeelHouse$Route" ≠ "java/lang/invoke/MethodHandle" by decide, show "KeelHouse$Route" ≠ "java/lang/invoke/VarHandle" by decide⟩
theorem vf_357_10 : ViF mi_357 10 2 := ⟨cf_357, "KeelHouse$Route", kn_10, W4201, W4202, oy_KeelHouse_Route _ _, rfl⟩
theorem mt_357 : mi 357 = mi_357 := rfl
theorem fld_10_2 : FldF 10 2 0 41 ("KeelHouse$Route", "least", "I", false) := ⟨_, rfl, by decide, by decide, by decide, rfl, rfl⟩
theorem fld_10_3 : FldF 10 3 0 42 ("KeelHouse$Route", "first", "I", false) := ⟨_, rfl, by decide, by decide, by decide, rfl, rfl⟩
theorem cf_495 : CalF mi_495 := ⟨W4236, by decide⟩
theorem vf_495_22 : ViF mi_495 22 0 := ⟨cf_495, "KeelHouse$Ship", kn_22, W4234, W4235, oy_KeelHouse_Ship _ _, rfl⟩
theorem mt_495 : mi 495 = mi_495 := rfl
theorem fld_3_0 : FldF 3 0 3 15 ("KeelHouse$Books", "amounts", "[I", true) := ⟨_, rfl, by decide, by decide, by decide, rfl, rfl⟩
theorem cf_284 : CalF mi_284 := ⟨W463, by decide⟩
theorem vf_284_3 : ViF mi_284 3 3 := ⟨cf_284, "KeelHouse$Books", kn_3, W462, QS1, oy_KeelHouse_Books _ _, rfl⟩
theorem mt_284 : mi 284 = mi_284 := rfl
theorem cf_285 : CalF mi_285 := ⟨W466, by decide⟩
theorem sf_285 : StF mi_285 3 := ⟨cf_285, W465, W132, oy_KeelHouse_Books _ _, rfl⟩
theorem mt_285 : mi 285 = mi_285 := rfl
theorem mt_777 : mi 777 = mi_777 := rfl
theorem cf_777 : CalF mi_777 := ⟨W2884, by decide⟩
theorem oy_KeelHouse_Account : ∀ (n d : String), okY ⟨"KeelHouse$Account", n, d⟩ := fun _ _ => ⟨show "KeelHouse$Account" ≠ "java/lang/invoke/MethodHandle" by decide, show "KeelHouse$Account" ≠ "java/lang/invoke/VarHandle" by decide⟩
theorem ei_777_23_KeelHouse_Accountnumber__I : EiF mi_777 ({ cls := "KeelHouse$Account", name := "number", desc := "()I" } : Jvm.MethodName) 23 0 := ⟨cf_777, "KeelHouse$Account$9", "KeelHouse$Account", by decide, W2883, ⟨_, _, rfl⟩, W2857, Or.inl W2856, oy_KeelHouse_Account _ _, W2882, rfl⟩
theorem mt_776 : mi 776 = mi_776 := rfl
theorem cf_776 : CalF mi_776 := ⟨W2881, by decide⟩
theorem ei_776_22_KeelHouse_Accountnumber__I : EiF mi_776 ({ cls := "KeelHouse$Account", name := "number", desc := "()I" } : Jvm.MethodName) 22 0 := ⟨cf_776, "KeelHouse$Account$8", "KeelHouse$Account", by decide, W2880, ⟨_, _, rfl⟩, W2857, Or.inl W2856, oy_KeelHouse_Account _ _, W2879, rfl⟩
theorem mt_775 : mi 775 = mi_775 := rfl
theorem cf_775 : CalF mi_775 := ⟨W2878, by decide⟩
theorem ei_775_27_KeelHouse_Accountnumber__I : EiF mi_775 ({ cls := "KeelHouse$Account", name := "number", desc := "()I" } : Jvm.MethodName) 27 0 := ⟨cf_775, "KeelHouse$Account$7", "KeelHouse$Account", by decide, W2877, ⟨_, _, rfl⟩, W2857, Or.inl W2856, oy_KeelHouse_Account _ _, W2876, rfl⟩
theorem mt_774 : mi 774 = mi_774 := rfl
theorem cf_774 : CalF mi_774 := ⟨W2875, by decide⟩
theorem ei_774_26_KeelHouse_Accountnumber__I : EiF mi_774 ({ cls := "KeelHouse$Account", name := "number", desc := "()I" } : Jvm.MethodName) 26 0 := ⟨cf_774, "KeelHouse$Account$6", "KeelHouse$Account", by decide, W2874, ⟨_, _, rfl⟩, W2857, Or.inl W2856, oy_KeelHouse_Account _ _, W2873, rfl⟩
theorem mt_773 : mi 773 = mi_773 := rfl
theorem cf_773 : CalF mi_773 := ⟨W2872, by decide⟩
theorem ei_773_35_KeelHouse_Accountnumber__I : EiF mi_773 ({ cls := "KeelHouse$Account", name := "number", desc := "()I" } : Jvm.MethodName) 35 0 := ⟨cf_773, "KeelHouse$Account$5", "KeelHouse$Account", by decide, W2871, ⟨_, _, rfl⟩, W2857, Or.inl W2856, oy_KeelHouse_Account _ _, W2870, rfl⟩
theorem mt_772 : mi 772 = mi_772 := rfl
theorem cf_772 : CalF mi_772 := ⟨W2869, by decide⟩
theorem ei_772_34_KeelHouse_Accountnumber__I : EiF mi_772 ({ cls := "KeelHouse$Account", name := "number", desc := "()I" } : Jvm.MethodName) 34 0 := ⟨cf_772, "KeelHouse$Account$4", "KeelHouse$Account", by decide, W2868, ⟨_, _, rfl⟩, W2857, Or.inl W2856, oy_KeelHouse_Account _ _, W2867, rfl⟩
theorem mt_771 : mi 771 = mi_771 := rfl
theorem cf_771 : CalF mi_771 := ⟨W2866, by decide⟩
theorem ei_771_21_KeelHouse_Accountnumber__I : EiF mi_771 ({ cls := "KeelHouse$Account", name := "number", desc := "()I" } : Jvm.MethodName) 21 0 := ⟨cf_771, "KeelHouse$Account$3", "KeelHouse$Account", by decide, W2865, ⟨_, _, rfl⟩, W2857, Or.inl W2856, oy_KeelHouse_Account _ _, W2864, rfl⟩
theorem mt_770 : mi 770 = mi_770 := rfl
theorem cf_770 : CalF mi_770 := ⟨W2863, by decide⟩
theorem ei_770_20_KeelHouse_Accountnumber__I : EiF mi_770 ({ cls := "KeelHouse$Account", name := "number", desc := "()I" } : Jvm.MethodName) 20 0 := ⟨cf_770, "KeelHouse$Account$2", "KeelHouse$Account", by decide, W2862, ⟨_, _, rfl⟩, W2857, Or.inl W2856, oy_KeelHouse_Account _ _, W2861, rfl⟩
theorem mt_769 : mi 769 = mi_769 := rfl
theorem cf_769 : CalF mi_769 := ⟨W2860, by decide⟩
theorem ei_769_17_KeelHouse_Accountnumber__I : EiF mi_769 ({ cls := "KeelHouse$Account", name := "number", desc := "()I" } : Jvm.MethodName) 17 0 := ⟨cf_769, "KeelHouse$Account$1", "KeelHouse$Account", by decide, W2859, ⟨_, _, rfl⟩, W2857, Or.inl W2856, oy_KeelHouse_Account _ _, W2858, rfl⟩
theorem cf_737 : CalF mi_737 := ⟨W530, by decide⟩
theorem oy_KeelHouse_Offcut : ∀ (n d : String), okY ⟨"KeelHouse$Offcut", n, d⟩ := fun _ _ => ⟨show "KeelHouse$Offcut" ≠ "java/lang/invoke/MethodHandle" by decide, show "KeelHouse$Offcut" ≠ "java/lang/invoke/VarHandle" by decide⟩
theorem vf_737_31 : ViF mi_737 31 0 := ⟨cf_737, "KeelHouse$Offcut", kn_31, W528, W529, oy_KeelHouse_Offcut _ _, rfl⟩
theorem mt_737 : mi 737 = mi_737 := rfl
theorem fld_31_0 : FldF 31 0 3 157 ("KeelHouse$Offcut", "kind", "LKeelHouse$Kind;", true) := ⟨_, rfl, by decide, by decide, by decide, rfl, rfl⟩
theorem fld_27_0 : FldF 27 0 0 143 ("KeelHouse$Kind", "wide", "I", true) := ⟨_, rfl, by decide, by decide, by decide, rfl, rfl⟩
theorem fld_27_1 : FldF 27 1 0 144 ("KeelHouse$Kind", "longer", "I", true) := ⟨_, rfl, by decide, by decide, by decide, rfl, rfl⟩
theorem fld_27_5 : FldF 27 5 0 148 ("KeelHouse$Kind", "stock", "I", false) := ⟨_, rfl, by decide, by decide, by decide, rfl, rfl⟩
theorem cf_290 : CalF mi_290 := ⟨W930, by decide⟩
theorem vf_290_4 : ViF mi_290 4 1 := ⟨cf_290, "KeelHouse$Store", kn_4, W928, W929, oy_KeelHouse_Store _ _, rfl⟩
theorem mt_290 : mi 290 = mi_290 := rfl
theorem cf_291 : CalF mi_291 := ⟨W935, by decide⟩
theorem vf_291_4 : ViF mi_291 4 2 := ⟨cf_291, "KeelHouse$Store", kn_4, W933, W934, oy_KeelHouse_Store _ _, rfl⟩
theorem mt_291 : mi 291 = mi_291 := rfl
theorem fld_28_0 : FldF 28 0 3 149 ("KeelHouse$Delivery", "kind", "LKeelHouse$Kind;", true) := ⟨_, rfl, by decide, by decide, by decide, rfl, rfl⟩
theorem fld_28_1 : FldF 28 1 0 150 ("KeelHouse$Delivery", "many", "I", true) := ⟨_, rfl, by decide, by decide, by decide, rfl, rfl⟩
theorem cf_296 : CalF mi_296 := ⟨W2931, by decide⟩
theorem vf_296_4 : ViF mi_296 4 3 := ⟨cf_296, "KeelHouse$Store", kn_4, W2930, QS44, oy_KeelHouse_Store _ _, rfl⟩
theorem mt_296 : mi 296 = mi_296 := rfl
theorem kn_29 : KN 29 "java/util/Optional" := ⟨by decide, Or.inl ⟨_, rfl, by decide, rfl⟩⟩
theorem cf_91 : CalF mi_91 := ⟨W2944, by decide⟩
theorem vf_91_29 : ViF mi_91 29 0 := ⟨cf_91, "java/util/Optional", kn_29, W2942, W2943, oy_java_util_Optional _ _, rfl⟩
theorem cf_92 : CalF mi_92 := ⟨W2948, by decide⟩
theorem vf_92_29 : ViF mi_92 29 0 := ⟨cf_92, "java/util/Optional", kn_29, W2946, W2947, oy_java_util_Optional _ _, rfl⟩
theorem cf_14 : CalF mi_14 := ⟨W2968, by decide⟩
theorem vf_14_5 : ViF mi_14 5 1 := ⟨cf_14, "java/util/ArrayList", kn_5, W2966, W2967, oy_java_util_ArrayList _ _, rfl⟩
theorem cf_594 : CalF mi_594 := ⟨W3062, by decide⟩
theorem vf_594_23 : ViF mi_594 23 1 := ⟨cf_594, "KeelHouse$Plates", kn_23, W3060, W3061, oy_KeelHouse_Plates _ _, rfl⟩
theorem mt_594 : mi 594 = mi_594 := rfl
theorem cf_736 : CalF mi_736 := ⟨W3098, by decide⟩
theorem vf_736_30 : ViF mi_736 30 1 := ⟨cf_736, "KeelHouse$Nest", kn_30, W3096, W3097, oy_KeelHouse_Nest _ _, rfl⟩
theorem mt_736 : mi 736 = mi_736 := rfl
theorem cf_90 : CalF mi_90 := ⟨W2934, by decide⟩
theorem sf_90 : StF mi_90 0 := ⟨cf_90, W2933, W188, oy_java_util_Optional _ _, rfl⟩
theorem cf_738 : CalF mi_738 := ⟨W2940, by decide⟩
theorem vf_738_31 : ViF mi_738 31 2 := ⟨cf_738, "KeelHouse$Offcut", kn_31, W2938, W2939, oy_KeelHouse_Offcut _ _, rfl⟩
theorem mt_738 : mi 738 = mi_738 := rfl
theorem cf_93 : CalF mi_93 := ⟨W2951, by decide⟩
theorem sf_93 : StF mi_93 1 := ⟨cf_93, W2950, W188, oy_java_util_Optional _ _, rfl⟩
theorem nf_31 : NewF 31 3 "KeelHouse$Offcut" := ⟨_, rfl, by decide, by decide, by decide, by decide, rfl, W3104, W190⟩
theorem cf_739 : CalF mi_739 := ⟨W3107, by decide⟩
theorem ic_739 : IcF mi_739 3 := ⟨cf_739, rfl, W3106, rfl, oy_KeelHouse_Offcut _ _, _, rfl⟩
theorem mt_739 : mi 739 = mi_739 := rfl
theorem mt_297 : mi 297 = mi_297 := rfl
theorem fld_28_2 : FldF 28 2 0 151 ("KeelHouse$Delivery", "day", "I", true) := ⟨_, rfl, by decide, by decide, by decide, rfl, rfl⟩
theorem cf_304 : CalF mi_304 := ⟨W1010, by decide⟩
theorem sf_304 : StF mi_304 1 := ⟨cf_304, W1009, W137, oy_KeelHouse_Edge _ _, rfl⟩
theorem mt_304 : mi 304 = mi_304 := rfl
theorem cf_306 : CalF mi_306 := ⟨W1016, by decide⟩
theorem sf_306 : StF mi_306 1 := ⟨cf_306, W1015, W137, oy_KeelHouse_Edge _ _, rfl⟩
theorem mt_306 : mi 306 = mi_306 := rfl
theorem cf_305 : CalF mi_305 := ⟨W1013, by decide⟩
theorem sf_305 : StF mi_305 1 := ⟨cf_305, W1012, W137, oy_KeelHouse_Edge _ _, rfl⟩
theorem mt_305 : mi 305 = mi_305 := rfl
theorem cf_547 : CalF mi_547 := ⟨W1071, by decide⟩
theorem vf_547_17 : ViF mi_547 17 0 := ⟨cf_547, "KeelHouse$Trim", kn_17, W1069, W1070, oy_KeelHouse_Trim _ _, rfl⟩
theorem mt_547 : mi 547 = mi_547 := rfl
theorem cf_549 : CalF mi_549 := ⟨W1283, by decide⟩
theorem vf_549_17 : ViF mi_549 17 0 := ⟨cf_549, "KeelHouse$Trim", kn_17, W1281, W1282, oy_KeelHouse_Trim _ _, rfl⟩
theorem mt_549 : mi 549 = mi_549 := rfl
theorem fld_17_5 : FldF 17 5 2 72 ("KeelHouse$Trim", "draught", "D", false) := ⟨_, rfl, by decide, by decide, by decide, rfl, rfl⟩
theorem cf_72 : CalF mi_72 := ⟨W1515, by decide⟩
theorem sf_72 : StF mi_72 1 := ⟨cf_72, W1514, W171, oy_java_lang_Math _ _, rfl⟩
theorem as_104_L : AsgK (.object "KeelHouse$Ship") [22] := Or.inl ⟨"KeelHouse$Ship", rfl, List.forall_mem_cons.mpr ⟨⟨"KeelHouse$Ship", kx_22, Or.inl rfl⟩, fun _ h => absurd h List.not_mem_nil⟩⟩
theorem mt_314 : mi 314 = mi_314 := rfl
theorem fld_7_0 : FldF 7 0 3 25 ("KeelHouse$Works", "ships", "Ljava/util/ArrayList;", true) := ⟨_, rfl, by decide, by decide, by decide, rfl, rfl⟩
theorem cf_318 : CalF mi_318 := ⟨W3367, by decide⟩
theorem vf_318_7 : ViF mi_318 7 0 := ⟨cf_318, "KeelHouse$Works", kn_7, W3366, QS49, oy_KeelHouse_Works _ _, rfl⟩
theorem mt_318 : mi 318 = mi_318 := rfl
theorem cf_319 : CalF mi_319 := ⟨W3374, by decide⟩
theorem sf_319 : StF mi_319 2 := ⟨cf_319, W3373, W138, oy_KeelHouse_Works _ _, rfl⟩
theorem mt_319 : mi 319 = mi_319 := rfl
theorem cf_320 : CalF mi_320 := ⟨W3381, by decide⟩
theorem vf_320_7 : ViF mi_320 7 2 := ⟨cf_320, "KeelHouse$Works", kn_7, W3380, QS50, oy_KeelHouse_Works _ _, rfl⟩
theorem mt_320 : mi 320 = mi_320 := rfl
theorem fld_7_6 : FldF 7 6 3 31 ("KeelHouse$Works", "found", "LKeelHouse$Ship;", false) := ⟨_, rfl, by decide, by decide, by decide, rfl, rfl⟩
theorem fld_7_7 : FldF 7 7 3 32 ("KeelHouse$Works", "foundJob", "LKeelHouse$Job;", false) := ⟨_, rfl, by decide, by decide, by decide, rfl, rfl⟩
theorem cf_321 : CalF mi_321 := ⟨W3416, by decide⟩
theorem vf_321_7 : ViF mi_321 7 3 := ⟨cf_321, "KeelHouse$Works", kn_7, W3415, QS53, oy_KeelHouse_Works _ _, rfl⟩
theorem mt_321 : mi 321 = mi_321 := rfl
theorem cf_614 : CalF mi_614 := ⟨W1541, by decide⟩
theorem vf_614_12 : ViF mi_614 12 0 := ⟨cf_614, "KeelHouse$Jobs", kn_12, W1539, W1540, oy_KeelHouse_Jobs _ _, rfl⟩
theorem mt_614 : mi 614 = mi_614 := rfl
theorem fld_12_1 : FldF 12 1 3 48 ("KeelHouse$Jobs", "jobs", "[LKeelHouse$Job;", true) := ⟨_, rfl, by decide, by decide, by decide, rfl, rfl⟩
theorem fld_25_10 : FldF 25 10 0 138 ("KeelHouse$Job", "teams", "I", false) := ⟨_, rfl, by decide, by decide, by decide, rfl, rfl⟩
theorem cf_249 : CalF mi_249 := ⟨W3377, by decide⟩
theorem sf_249 : StF mi_249 1 := ⟨cf_249, W3376, W130, oy_KeelHouse _ _, rfl⟩
theorem cf_628 : CalF mi_628 := ⟨W3385, by decide⟩
theorem vf_628_12 : ViF mi_628 12 3 := ⟨cf_628, "KeelHouse$Jobs", kn_12, W3383, W3384, oy_KeelHouse_Jobs _ _, rfl⟩
theorem mt_628 : mi 628 = mi_628 := rfl
theorem kn_25 : KN 25 "KeelHouse$Job" := ⟨by decide, Or.inl ⟨_, rfl, by decide, rfl⟩⟩
theorem cf_635 : CalF mi_635 := ⟨W1568, by decide⟩
theorem oy_KeelHouse_Job : ∀ (n d : String), okY ⟨"KeelHouse$Job", n, d⟩ := fun _ _ => ⟨show "KeelHouse$Job" ≠ "java/lang/invoke/MethodHandle" by decide, show "KeelHouse$Job" ≠ "java/lang/invoke/VarHandle" by decide⟩
theorem vf_635_25 : ViF mi_635 25 0 := ⟨cf_635, "KeelHouse$Job", kn_25, W1566, W1567, oy_KeelHouse_Job _ _, rfl⟩
theorem mt_635 : mi 635 = mi_635 := rfl
theorem cf_638 : CalF mi_638 := ⟨W3399, by decide⟩
theorem vf_638_25 : ViF mi_638 25 0 := ⟨cf_638, "KeelHouse$Job", kn_25, W3397, W3398, oy_KeelHouse_Job _ _, rfl⟩
theorem mt_638 : mi 638 = mi_638 := rfl
theorem cf_639 : CalF mi_639 := ⟨W3403, by decide⟩
theorem vf_639_25 : ViF mi_639 25 0 := ⟨cf_639, "KeelHouse$Job", kn_25, W3401, W3402, oy_KeelHouse_Job _ _, rfl⟩
theorem mt_639 : mi 639 = mi_639 := rfl
theorem cf_640 : CalF mi_640 := ⟨W3407, by decide⟩
theorem vf_640_25 : ViF mi_640 25 0 := ⟨cf_640, "KeelHouse$Job", kn_25, W3405, W3406, oy_KeelHouse_Job _ _, rfl⟩
theorem mt_640 : mi 640 = mi_640 := rfl
theorem fld_25_5 : FldF 25 5 0 133 ("KeelHouse$Job", "left", "I", false) := ⟨_, rfl, by decide, by decide, by decide, rfl, rfl⟩
theorem cf_633 : CalF mi_633 := ⟨W615, by decide⟩
theorem vf_633_25 : ViF mi_633 25 0 := ⟨cf_633, "KeelHouse$Job", kn_25, W613, W614, oy_KeelHouse_Job _ _, rfl⟩
theorem mt_633 : mi 633 = mi_633 := rfl
theorem cf_322 : CalF mi_322 := ⟨W3426, by decide⟩
theorem vf_322_7 : ViF mi_322 7 2 := ⟨cf_322, "KeelHouse$Works", kn_7, W3425, QS54, oy_KeelHouse_Works _ _, rfl⟩
theorem mt_322 : mi 322 = mi_322 := rfl
theorem fld_25_6 : FldF 25 6 4 134 ("KeelHouse$Job", "isAsked", "Z", false) := ⟨_, rfl, by decide, by decide, by decide, rfl, rfl⟩
theorem fld_25_7 : FldF 25 7 4 135 ("KeelHouse$Job", "isFaulty", "Z", false) := ⟨_, rfl, by decide, by decide, by decide, rfl, rfl⟩
theorem fld_25_4 : FldF 25 4 0 132 ("KeelHouse$Job", "hours", "I", false) := ⟨_, rfl, by decide, by decide, by decide, rfl, rfl⟩
theorem cf_198 : CalF mi_198 := ⟨W1548, by decide⟩
theorem sf_198 : StF mi_198 2 := ⟨cf_198, W1547, W130, oy_KeelHouse _ _, rfl⟩
theorem cf_597 : CalF mi_597 := ⟨W3435, by decide⟩
theorem vf_597_23 : ViF mi_597 23 0 := ⟨cf_597, "KeelHouse$Plates", kn_23, W3433, W3434, oy_KeelHouse_Plates _ _, rfl⟩
theorem mt_597 : mi 597 = mi_597 := rfl
theorem cf_493 : CalF mi_493 := ⟨W3528, by decide⟩
theorem vf_493_22 : ViF mi_493 22 0 := ⟨cf_493, "KeelHouse$Ship", kn_22, W3526, W3527, oy_KeelHouse_Ship _ _, rfl⟩
theorem mt_493 : mi 493 = mi_493 := rfl
theorem cf_325 : CalF mi_325 := ⟨W3535, by decide⟩
theorem vf_325_7 : ViF mi_325 7 2 := ⟨cf_325, "KeelHouse$Works", kn_7, W3534, QS59, oy_KeelHouse_Works _ _, rfl⟩
theorem mt_325 : mi 325 = mi_325 := rfl
theorem cf_494 : CalF mi_494 := ⟨W3539, by decide⟩
theorem vf_494_22 : ViF mi_494 22 0 := ⟨cf_494, "KeelHouse$Ship", kn_22, W3537, W3538, oy_KeelHouse_Ship _ _, rfl⟩
theorem mt_494 : mi 494 = mi_494 := rfl
theorem fld_8_0 : FldF 8 0 3 33 ("KeelHouse$Sales", "books", "LKeelHouse$Books;", true) := ⟨_, rfl, by decide, by decide, by decide, rfl, rfl⟩
theorem cf_751 : CalF mi_751 := ⟨W545, by decide⟩
theorem vf_751_33 : ViF mi_751 33 1 := ⟨cf_751, "KeelHouse$Buyer", kn_33, W543, W544, oy_KeelHouse_Buyer _ _, rfl⟩
theorem mt_751 : mi 751 = mi_751 := rfl
theorem cf_329 : CalF mi_329 := ⟨W3252, by decide⟩
theorem vf_329_8 : ViF mi_329 8 1 := ⟨cf_329, "KeelHouse$Sales", kn_8, W3250, W3251, oy_KeelHouse_Sales _ _, rfl⟩
theorem mt_329 : mi 329 = mi_329 := rfl
theorem fld_33_7 : FldF 33 7 0 173 ("KeelHouse$Buyer", "our", "I", false) := ⟨_, rfl, by decide, by decide, by decide, rfl, rfl⟩
theorem cf_330 : CalF mi_330 := ⟨W3262, by decide⟩
theorem vf_330_8 : ViF mi_330 8 2 := ⟨cf_330, "KeelHouse$Sales", kn_8, W3261, QS47, oy_KeelHouse_Sales _ _, rfl⟩
theorem mt_330 : mi 330 = mi_330 := rfl
theorem fld_33_9 : FldF 33 9 0 175 ("KeelHouse$Buyer", "paid", "I", false) := ⟨_, rfl, by decide, by decide, by decide, rfl, rfl⟩
theorem cf_332 : CalF mi_332 := ⟨W3473, by decide⟩
theorem vf_332_8 : ViF mi_332 8 1 := ⟨cf_332, "KeelHouse$Sales", kn_8, W3472, QS57, oy_KeelHouse_Sales _ _, rfl⟩
theorem mt_332 : mi 332 = mi_332 := rfl
theorem fld_33_3 : FldF 33 3 0 169 ("KeelHouse$Buyer", "due", "I", true) := ⟨_, rfl, by decide, by decide, by decide, rfl, rfl⟩
theorem cf_333 : CalF mi_333 := ⟨W3477, by decide⟩
theorem vf_333_8 : ViF mi_333 8 1 := ⟨cf_333, "KeelHouse$Sales", kn_8, W3476, QS58, oy_KeelHouse_Sales _ _, rfl⟩
theorem mt_333 : mi 333 = mi_333 := rfl
theorem fld_33_8 : FldF 33 8 0 174 ("KeelHouse$Buyer", "fines", "I", false) := ⟨_, rfl, by decide, by decide, by decide, rfl, rfl⟩
theorem fld_33_4 : FldF 33 4 0 170 ("KeelHouse$Buyer", "price", "I", true) := ⟨_, rfl, by decide, by decide, by decide, rfl, rfl⟩
theorem cf_753 : CalF mi_753 := ⟨W1030, by decide⟩
theorem vf_753_33 : ViF mi_753 33 1 := ⟨cf_753, "KeelHouse$Buyer", kn_33, W1028, W1029, oy_KeelHouse_Buyer _ _, rfl⟩
theorem mt_753 : mi 753 = mi_753 := rfl
theorem nf_10 : NewF 10 4 "KeelHouse$Route" := ⟨_, rfl, by decide, by decide, by decide, by decide, rfl, W364, W141⟩
theorem cf_356 : CalF mi_356 := ⟨W367, by decide⟩
theorem ic_356 : IcF mi_356 1 := ⟨cf_356, rfl, W366, rfl, oy_KeelHouse_Route _ _, _, rfl⟩
theorem mt_356 : mi 356 = mi_356 := rfl
theorem fld_9_0 : FldF 9 0 3 35 ("KeelHouse$Voyages", "edge", "LKeelHouse$Edge;", true) := ⟨_, rfl, by decide, by decide, by decide, rfl, rfl⟩
theorem fld_35_7 : FldF 35 7 3 187 ("KeelHouse$Lot", "ship", "LKeelHouse$Ship;", false) := ⟨_, rfl, by decide, by decide, by decide, rfl, rfl⟩
theorem fld_22_6 : FldF 22 6 3 98 ("KeelHouse$Ship", "holds", "[LKeelHouse$Cargo;", true) := ⟨_, rfl, by decide, by decide, by decide, rfl, rfl⟩
theorem kn_24 : KN 24 "KeelHouse$Cargo" := ⟨by decide, Or.inl ⟨_, rfl, by decide, rfl⟩⟩
theorem cf_604 : CalF mi_604 := ⟨W568, by decide⟩
theorem oy_KeelHouse_Cargo : ∀ (n d : String), okY ⟨"KeelHouse$Cargo", n, d⟩ := fun _ _ => ⟨show "KeelHouse$Cargo" ≠ "java/lang/invoke/MethodHandle" by decide, show "KeelHouse$Cargo" ≠ "java/lang/invoke/VarHandle" by decide⟩
theorem vf_604_24 : ViF mi_604 24 0 := ⟨cf_604, "KeelHouse$Cargo", kn_24, W566, W567, oy_KeelHouse_Cargo _ _, rfl⟩
theorem mt_604 : mi 604 = mi_604 := rfl
theorem cf_342 : CalF mi_342 := ⟨W590, by decide⟩
theorem sf_342 : StF mi_342 2 := ⟨cf_342, W589, W140, oy_KeelHouse_Voyages _ _, rfl⟩
theorem mt_342 : mi 342 = mi_342 := rfl
theorem cf_496 : CalF mi_496 := ⟨W594, by decide⟩
theorem vf_496_16 : ViF mi_496 16 1 := ⟨cf_496, "KeelHouse$Lines", kn_16, W592, W593, oy_KeelHouse_Lines _ _, rfl⟩
theorem mt_496 : mi 496 = mi_496 := rfl
theorem fld_34_0 : FldF 34 0 0 176 ("KeelHouse$Port", "number", "I", true) := ⟨_, rfl, by decide, by decide, by decide, rfl, rfl⟩
theorem fld_22_11 : FldF 22 11 3 103 ("KeelHouse$Ship", "aboard", "Ljava/util/ArrayList;", true) := ⟨_, rfl, by decide, by decide, by decide, rfl, rfl⟩
theorem cf_344 : CalF mi_344 := ⟨W1724, by decide⟩
theorem sf_344 : StF mi_344 1 := ⟨cf_344, W1723, W140, oy_KeelHouse_Voyages _ _, rfl⟩
theorem mt_344 : mi 344 = mi_344 := rfl
theorem fld_22_25 : FldF 22 25 0 117 ("KeelHouse$Ship", "earned", "I", false) := ⟨_, rfl, by decide, by decide, by decide, rfl, rfl⟩
theorem fld_22_26 : FldF 22 26 0 118 ("KeelHouse$Ship", "days", "I", false) := ⟨_, rfl, by decide, by decide, by decide, rfl, rfl⟩
theorem fld_35_3 : FldF 35 3 0 183 ("KeelHouse$Lot", "tonnes", "I", true) := ⟨_, rfl, by decide, by decide, by decide, rfl, rfl⟩
theorem fld_22_20 : FldF 22 20 4 112 ("KeelHouse$Ship", "isWaiting", "Z", false) := ⟨_, rfl, by decide, by decide, by decide, rfl, rfl⟩
theorem cf_346 : CalF mi_346 := ⟨W3443, by decide⟩
theorem vf_346_9 : ViF mi_346 9 1 := ⟨cf_346, "KeelHouse$Voyages", kn_9, W3442, QS55, oy_KeelHouse_Voyages _ _, rfl⟩
theorem mt_346 : mi 346 = mi_346 := rfl
theorem cf_347 : CalF mi_347 := ⟨W3457, by decide⟩
theorem vf_347_9 : ViF mi_347 9 1 := ⟨cf_347, "KeelHouse$Voyages", kn_9, W3456, QS56, oy_KeelHouse_Voyages _ _, rfl⟩
theorem mt_347 : mi 347 = mi_347 := rfl
theorem cf_314 : CalF mi_314 := ⟨W3447, by decide⟩
theorem vf_314_6 : ViF mi_314 6 1 := ⟨cf_314, "KeelHouse$Edge", kn_6, W3445, W3446, oy_KeelHouse_Edge _ _, rfl⟩
theorem fld_35_4 : FldF 35 4 0 184 ("KeelHouse$Lot", "sort", "I", true) := ⟨_, rfl, by decide, by decide, by decide, rfl, rfl⟩
theorem fld_35_9 : FldF 35 9 2 189 ("KeelHouse$Lot", "side", "D", false) := ⟨_, rfl, by decide, by decide, by decide, rfl, rfl⟩
theorem cf_565 : CalF mi_565 := ⟨W1407, by decide⟩
theorem vf_565_19 : ViF mi_565 19 2 := ⟨cf_565, "KeelHouse$Strength", kn_19, W1405, W1406, oy_KeelHouse_Strength _ _, rfl⟩
theorem mt_565 : mi 565 = mi_565 := rfl
theorem cf_351 : CalF mi_351 := ⟨W3903, by decide⟩
theorem sf_351 : StF mi_351 2 := ⟨cf_351, W3902, W140, oy_KeelHouse_Voyages _ _, rfl⟩
theorem mt_351 : mi 351 = mi_351 := rfl
theorem cf_352 : CalF mi_352 := ⟨W3906, by decide⟩
theorem sf_352 : StF mi_352 2 := ⟨cf_352, W3905, W140, oy_KeelHouse_Voyages _ _, rfl⟩
theorem mt_352 : mi 352 = mi_352 := rfl
theorem fld_35_8 : FldF 35 8 0 188 ("KeelHouse$Lot", "compartment", "I", false) := ⟨_, rfl, by decide, by decide, by decide, rfl, rfl⟩
theorem fld_35_2 : FldF 35 2 3 182 ("KeelHouse$Lot", "to", "LKeelHouse$Port;", true) := ⟨_, rfl, by decide, by decide, by decide, rfl, rfl⟩
theorem cf_764 : CalF mi_764 := ⟨W4155, by decide⟩
theorem vf_764_35 : ViF mi_764 35 0 := ⟨cf_764, "KeelHouse$Lot", kn_35, W4153, W4154, oy_KeelHouse_Lot _ _, rfl⟩
theorem mt_764 : mi 764 = mi_764 := rfl
theorem fld_35_5 : FldF 35 5 0 185 ("KeelHouse$Lot", "freight", "I", true) := ⟨_, rfl, by decide, by decide, by decide, rfl, rfl⟩
theorem cf_760 : CalF mi_760 := ⟨W4176, by decide⟩
theorem sf_760 : StF mi_760 2 := ⟨cf_760, W4175, W197, oy_KeelHouse_Port _ _, rfl⟩
theorem mt_760 : mi 760 = mi_760 := rfl
theorem fld_10_1 : FldF 10 1 3 40 ("KeelHouse$Route", "order", "[I", true) := ⟨_, rfl, by decide, by decide, by decide, rfl, rfl⟩
theorem fld_10_0 : FldF 10 0 3 39 ("KeelHouse$Route", "ports", "Ljava/util/ArrayList;", true) := ⟨_, rfl, by decide, by decide, by decide, rfl, rfl⟩
theorem cf_X9_go : ∀ j, CalF (mi_X9_go j) := fun _ => ⟨W4207, by show 7 ≤ 61; decide⟩
theorem vf_X9_go_10 : ViF (mi_X9_go 7) 10 4 := ⟨cf_X9_go 7, "KeelHouse$Route", kn_10, W4206, QS62, oy_KeelHouse_Route _ _, rfl⟩
theorem vfr_X9_go : ∀ j, ViF (mi_X9_go j) 10 4 := fun j => ⟨cf_X9_go j, "KeelHouse$Route", kn_10, W4206, QS62, oy_KeelHouse_Route _ _, show dN ({ cls := "KeelHouse$Route", name := "go", desc := "(LKeelHouse$Port;III)V" } : Jvm.MethodName) 4 from rfl⟩
theorem fld_37_1 : FldF 37 1 3 195 ("KeelHouseModel", "ships", "Ljava/util/ArrayList;", true) := ⟨_, rfl, by decide, by decide, by decide, rfl, rfl⟩
theorem fld_37_3 : FldF 37 3 0 197 ("KeelHouseModel", "weather", "I", false) := ⟨_, rfl, by decide, by decide, by decide, rfl, rfl⟩
theorem fld_37_8 : FldF 37 8 3 202 ("KeelHouseModel", "teams", "[I", true) := ⟨_, rfl, by decide, by decide, by decide, rfl, rfl⟩
theorem fld_37_9 : FldF 37 9 3 203 ("KeelHouseModel", "kinds", "Ljava/util/ArrayList;", true) := ⟨_, rfl, by decide, by decide, by decide, rfl, rfl⟩
theorem fld_37_10 : FldF 37 10 3 204 ("KeelHouseModel", "orders", "Ljava/util/ArrayList;", true) := ⟨_, rfl, by decide, by decide, by decide, rfl, rfl⟩
theorem fld_37_11 : FldF 37 11 3 205 ("KeelHouseModel", "offcuts", "Ljava/util/ArrayList;", true) := ⟨_, rfl, by decide, by decide, by decide, rfl, rfl⟩
theorem fld_37_12 : FldF 37 12 3 206 ("KeelHouseModel", "buyers", "Ljava/util/ArrayList;", true) := ⟨_, rfl, by decide, by decide, by decide, rfl, rfl⟩
theorem fld_37_13 : FldF 37 13 3 207 ("KeelHouseModel", "ports", "Ljava/util/ArrayList;", true) := ⟨_, rfl, by decide, by decide, by decide, rfl, rfl⟩
theorem fld_37_14 : FldF 37 14 3 208 ("KeelHouseModel", "lots", "Ljava/util/ArrayList;", true) := ⟨_, rfl, by decide, by decide, by decide, rfl, rfl⟩
theorem fld_37_15 : FldF 37 15 3 209 ("KeelHouseModel", "books", "[I", true) := ⟨_, rfl, by decide, by decide, by decide, rfl, rfl⟩
theorem fld_37_16 : FldF 37 16 0 210 ("KeelHouseModel", "cash", "I", false) := ⟨_, rfl, by decide, by decide, by decide, rfl, rfl⟩
theorem fld_37_0 : FldF 37 0 0 194 ("KeelHouseModel", "thrown", "I", false) := ⟨_, rfl, by decide, by decide, by decide, rfl, rfl⟩
theorem cf_362 : CalF mi_362 := ⟨W4355, by decide⟩
theorem sf_362 : StF mi_362 3 := ⟨cf_362, W4354, W142, oy_KeelHouseModel _ _, rfl⟩
theorem mt_362 : mi 362 = mi_362 := rfl
theorem cf_363 : CalF mi_363 := ⟨W4359, by decide⟩
theorem vf_363_37 : ViF mi_363 37 2 := ⟨cf_363, "KeelHouseModel", kn_37, W4358, QS63, oy_KeelHouseModel _ _, rfl⟩
theorem mt_363 : mi 363 = mi_363 := rfl
theorem cf_364 : CalF mi_364 := ⟨W4363, by decide⟩
theorem vf_364_37 : ViF mi_364 37 2 := ⟨cf_364, "KeelHouseModel", kn_37, W4362, QS64, oy_KeelHouseModel _ _, rfl⟩
theorem mt_364 : mi 364 = mi_364 := rfl
theorem nf_38 : NewF 38 37 "KeelHouseModel$Ship" := ⟨_, rfl, by decide, by decide, by decide, by decide, rfl, W4366, W176⟩
theorem cf_660 : CalF mi_660 := ⟨W4369, by decide⟩
theorem oy_KeelHouseModel_Ship : ∀ (n d : String), okY ⟨"KeelHouseModel$Ship", n, d⟩ := fun _ _ => ⟨show "KeelHouseModel$Ship" ≠ "java/lang/invoke/MethodHandle" by decide, show "KeelHouseModel$Ship" ≠ "java/lang/invoke/VarHandle" by decide⟩
theorem ic_660 : IcF mi_660 6 := ⟨cf_660, rfl, W4368, rfl, oy_KeelHouseModel_Ship _ _, _, rfl⟩
theorem mt_660 : mi 660 = mi_660 := rfl
theorem cf_366 : CalF mi_366 := ⟨W4545, by decide⟩
theorem vf_366_37 : ViF mi_366 37 1 := ⟨cf_366, "KeelHouseModel", kn_37, W4544, QS65, oy_KeelHouseModel _ _, rfl⟩
theorem mt_366 : mi 366 = mi_366 := rfl
theorem fld_38_5 : FldF 38 5 0 217 ("KeelHouseModel$Ship", "stage", "I", false) := ⟨_, rfl, by decide, by decide, by decide, rfl, rfl⟩
theorem fld_38_3 : FldF 38 3 3 215 ("KeelHouseModel$Hull", "half", "[[I", true) := ⟨_, rfl, by decide, by decide, by decide, rfl, rfl⟩
theorem cf_642 : CalF mi_642 := ⟨W4556, by decide⟩
theorem oy_KeelHouseModel_Hull : ∀ (n d : String), okY ⟨"KeelHouseModel$Hull", n, d⟩ := fun _ _ => ⟨show "KeelHouseModel$Hull" ≠ "java/lang/invoke/MethodHandle" by decide, show "KeelHouseModel$Hull" ≠ "java/lang/invoke/VarHandle" by decide⟩
theorem if_642_38_KeelHouseModel_Shipfair__I : InF mi_642 ({ cls := "KeelHouseModel$Ship", name := "fair", desc := "()I" } : Jvm.MethodName) 38 0 := ⟨cf_642, "KeelHouseModel$Ship", "KeelHouseModel$Hull", kn_38, W4555, ⟨_, _, rfl⟩, W4552, Or.inl W4553, oy_KeelHouseModel_Hull _ _, W4554, rfl⟩
theorem mt_642 : mi 642 = mi_642 := rfl
theorem cf_369 : CalF mi_369 := ⟨W4565, by decide⟩
theorem vf_369_37 : ViF mi_369 37 2 := ⟨cf_369, "KeelHouseModel", kn_37, W4564, QS66, oy_KeelHouseModel _ _, rfl⟩
theorem mt_369 : mi 369 = mi_369 := rfl
theorem fld_38_0 : FldF 38 0 0 212 ("KeelHouseModel$Hull", "form", "I", true) := ⟨_, rfl, by decide, by decide, by decide, rfl, rfl⟩
theorem fld_38_1 : FldF 38 1 0 213 ("KeelHouseModel$Hull", "length", "I", true) := ⟨_, rfl, by decide, by decide, by decide, rfl, rfl⟩
theorem fld_38_2 : FldF 38 2 0 214 ("KeelHouseModel$Hull", "depth", "I", true) := ⟨_, rfl, by decide, by decide, by decide, rfl, rfl⟩
theorem cf_643 : CalF mi_643 := ⟨W4576, by decide⟩
theorem if_643_38_KeelHouseModel_Shipwater_DI_D : InF mi_643 ({ cls := "KeelHouseModel$Ship", name := "water", desc := "(DI)D" } : Jvm.MethodName) 38 2 := ⟨cf_643, "KeelHouseModel$Ship", "KeelHouseModel$Hull", kn_38, W4575, ⟨_, _, rfl⟩, W4572, Or.inl W4573, oy_KeelHouseModel_Hull _ _, W4574, rfl⟩
theorem mt_643 : mi 643 = mi_643 := rfl
theorem cf_652 : CalF mi_652 := ⟨W4636, by decide⟩
theorem if_652_38_KeelHouseModel_Shipdraught_D_D : InF mi_652 ({ cls := "KeelHouseModel$Ship", name := "draught", desc := "(D)D" } : Jvm.MethodName) 38 1 := ⟨cf_652, "KeelHouseModel$Ship", "KeelHouseModel$Hull", kn_38, W4635, ⟨_, _, rfl⟩, W4632, Or.inl W4633, oy_KeelHouseModel_Hull _ _, W4634, rfl⟩
theorem mt_652 : mi 652 = mi_652 := rfl
theorem cf_373 : CalF mi_373 := ⟨W4645, by decide⟩
theorem vf_373_37 : ViF mi_373 37 2 := ⟨cf_373, "KeelHouseModel", kn_37, W4644, QS70, oy_KeelHouseModel _ _, rfl⟩
theorem mt_373 : mi 373 = mi_373 := rfl
theorem cf_661 : CalF mi_661 := ⟨W4649, by decide⟩
theorem vf_661_38 : ViF mi_661 38 0 := ⟨cf_661, "KeelHouseModel$Ship", kn_38, W4647, W4648, oy_KeelHouseModel_Ship _ _, rfl⟩
theorem mt_661 : mi 661 = mi_661 := rfl
theorem fld_38_6 : FldF 38 6 3 218 ("KeelHouseModel$Ship", "items", "Ljava/util/ArrayList;", true) := ⟨_, rfl, by decide, by decide, by decide, rfl, rfl⟩
theorem fld_38_7 : FldF 38 7 3 219 ("KeelHouseModel$Ship", "fills", "[I", true) := ⟨_, rfl, by decide, by decide, by decide, rfl, rfl⟩
theorem fld_38_8 : FldF 38 8 0 220 ("KeelHouseModel$Ship", "bulkheads", "I", false) := ⟨_, rfl, by decide, by decide, by decide, rfl, rfl⟩
theorem cf_662 : CalF mi_662 := ⟨W4671, by decide⟩
theorem vf_662_38 : ViF mi_662 38 1 := ⟨cf_662, "KeelHouseModel$Ship", kn_38, W4669, W4670, oy_KeelHouseModel_Ship _ _, rfl⟩
theorem mt_662 : mi 662 = mi_662 := rfl
theorem cf_675 : CalF mi_675 := ⟨W4782, by decide⟩
theorem vf_675_38 : ViF mi_675 38 2 := ⟨cf_675, "KeelHouseModel$Ship", kn_38, W4780, W4781, oy_KeelHouseModel_Ship _ _, rfl⟩
theorem mt_675 : mi 675 = mi_675 := rfl
theorem mt_379 : mi 379 = mi_379 := rfl
theorem cf_677 : CalF mi_677 := ⟨W4806, by decide⟩
theorem vf_677_38 : ViF mi_677 38 0 := ⟨cf_677, "KeelHouseModel$Ship", kn_38, W4804, W4805, oy_KeelHouseModel_Ship _ _, rfl⟩
theorem mt_677 : mi 677 = mi_677 := rfl
theorem mt_381 : mi 381 = mi_381 := rfl
theorem fld_38_9 : FldF 38 9 3 221 ("KeelHouseModel$Ship", "plans", "[I", true) := ⟨_, rfl, by decide, by decide, by decide, rfl, rfl⟩
theorem fld_38_13 : FldF 38 13 0 225 ("KeelHouseModel$Ship", "limit", "I", false) := ⟨_, rfl, by decide, by decide, by decide, rfl, rfl⟩
theorem cf_678 : CalF mi_678 := ⟨W4826, by decide⟩
theorem vf_678_38 : ViF mi_678 38 0 := ⟨cf_678, "KeelHouseModel$Ship", kn_38, W4824, W4825, oy_KeelHouseModel_Ship _ _, rfl⟩
theorem mt_678 : mi 678 = mi_678 := rfl
theorem cf_386 : CalF mi_386 := ⟨W4870, by decide⟩
theorem vf_386_37 : ViF mi_386 37 3 := ⟨cf_386, "KeelHouseModel", kn_37, W4869, QS77, oy_KeelHouseModel _ _, rfl⟩
theorem mt_386 : mi 386 = mi_386 := rfl
theorem fld_38_10 : FldF 38 10 3 222 ("KeelHouseModel$Ship", "plates", "[I", true) := ⟨_, rfl, by decide, by decide, by decide, rfl, rfl⟩
theorem cf_684 : CalF mi_684 := ⟨W4878, by decide⟩
theorem vf_684_38 : ViF mi_684 38 3 := ⟨cf_684, "KeelHouseModel$Ship", kn_38, W4876, W4877, oy_KeelHouseModel_Ship _ _, rfl⟩
theorem mt_684 : mi 684 = mi_684 := rfl
theorem cf_685 : CalF mi_685 := ⟨W4886, by decide⟩
theorem vf_685_38 : ViF mi_685 38 1 := ⟨cf_685, "KeelHouseModel$Ship", kn_38, W4884, W4885, oy_KeelHouseModel_Ship _ _, rfl⟩
theorem mt_685 : mi 685 = mi_685 := rfl
theorem cf_391 : CalF mi_391 := ⟨W4898, by decide⟩
theorem vf_391_37 : ViF mi_391 37 1 := ⟨cf_391, "KeelHouseModel", kn_37, W4897, QS78, oy_KeelHouseModel _ _, rfl⟩
theorem mt_391 : mi 391 = mi_391 := rfl
theorem fld_37_2 : FldF 37 2 0 196 ("KeelHouseModel", "day", "I", false) := ⟨_, rfl, by decide, by decide, by decide, rfl, rfl⟩
theorem cf_392 : CalF mi_392 := ⟨W4903, by decide⟩
theorem vf_392_37 : ViF mi_392 37 3 := ⟨cf_392, "KeelHouseModel", kn_37, W4902, QS79, oy_KeelHouseModel _ _, rfl⟩
theorem mt_392 : mi 392 = mi_392 := rfl
theorem cf_394 : CalF mi_394 := ⟨W4911, by decide⟩
theorem vf_394_37 : ViF mi_394 37 3 := ⟨cf_394, "KeelHouseModel", kn_37, W4910, QS80, oy_KeelHouseModel _ _, rfl⟩
theorem mt_394 : mi 394 = mi_394 := rfl
theorem fld_38_11 : FldF 38 11 3 223 ("KeelHouseModel$Ship", "strakes", "[I", true) := ⟨_, rfl, by decide, by decide, by decide, rfl, rfl⟩
theorem cf_395 : CalF mi_395 := ⟨W4915, by decide⟩
theorem vf_395_37 : ViF mi_395 37 3 := ⟨cf_395, "KeelHouseModel", kn_37, W4914, QS81, oy_KeelHouseModel _ _, rfl⟩
theorem mt_395 : mi 395 = mi_395 := rfl
theorem cf_686 : CalF mi_686 := ⟨W4919, by decide⟩
theorem vf_686_38 : ViF mi_686 38 0 := ⟨cf_686, "KeelHouseModel$Ship", kn_38, W4917, W4918, oy_KeelHouseModel_Ship _ _, rfl⟩
theorem mt_686 : mi 686 = mi_686 := rfl
theorem cf_687 : CalF mi_687 := ⟨W4923, by decide⟩
theorem vf_687_38 : ViF mi_687 38 1 := ⟨cf_687, "KeelHouseModel$Ship", kn_38, W4921, W4922, oy_KeelHouseModel_Ship _ _, rfl⟩
theorem mt_687 : mi 687 = mi_687 := rfl
theorem cf_396 : CalF mi_396 := ⟨W4929, by decide⟩
theorem vf_396_37 : ViF mi_396 37 3 := ⟨cf_396, "KeelHouseModel", kn_37, W4928, QS82, oy_KeelHouseModel _ _, rfl⟩
theorem mt_396 : mi 396 = mi_396 := rfl
theorem cf_398 : CalF mi_398 := ⟨W4936, by decide⟩
theorem vf_398_37 : ViF mi_398 37 3 := ⟨cf_398, "KeelHouseModel", kn_37, W4935, QS83, oy_KeelHouseModel _ _, rfl⟩
theorem mt_398 : mi 398 = mi_398 := rfl
theorem cf_399 : CalF mi_399 := ⟨W4939, by decide⟩
theorem sf_399 : StF mi_399 4 := ⟨cf_399, W4938, W142, oy_KeelHouseModel _ _, rfl⟩
theorem mt_399 : mi 399 = mi_399 := rfl
theorem cf_400 : CalF mi_400 := ⟨W4942, by decide⟩
theorem sf_400 : StF mi_400 2 := ⟨cf_400, W4941, W142, oy_KeelHouseModel _ _, rfl⟩
theorem mt_400 : mi 400 = mi_400 := rfl
theorem cf_401 : CalF mi_401 := ⟨W4947, by decide⟩
theorem vf_401_37 : ViF mi_401 37 3 := ⟨cf_401, "KeelHouseModel", kn_37, W4946, QS84, oy_KeelHouseModel _ _, rfl⟩
theorem mt_401 : mi 401 = mi_401 := rfl
theorem fld_38_12 : FldF 38 12 3 224 ("KeelHouseModel$Ship", "cuts", "[I", true) := ⟨_, rfl, by decide, by decide, by decide, rfl, rfl⟩
theorem cf_397 : CalF mi_397 := ⟨W4932, by decide⟩
theorem sf_397 : StF mi_397 3 := ⟨cf_397, W4931, W142, oy_KeelHouseModel _ _, rfl⟩
theorem mt_397 : mi 397 = mi_397 := rfl
theorem cf_381 : CalF mi_381 := ⟨W4810, by decide⟩
theorem sf_381 : StF mi_381 1 := ⟨cf_381, W4809, W142, oy_KeelHouseModel _ _, rfl⟩
theorem cf_405 : CalF mi_405 := ⟨W4964, by decide⟩
theorem vf_405_37 : ViF mi_405 37 2 := ⟨cf_405, "KeelHouseModel", kn_37, W4963, QS85, oy_KeelHouseModel _ _, rfl⟩
theorem mt_405 : mi 405 = mi_405 := rfl
theorem cf_688 : CalF mi_688 := ⟨W4981, by decide⟩
theorem vf_688_38 : ViF mi_688 38 1 := ⟨cf_688, "KeelHouseModel$Ship", kn_38, W4979, W4980, oy_KeelHouseModel_Ship _ _, rfl⟩
theorem mt_688 : mi 688 = mi_688 := rfl
theorem fld_38_14 : FldF 38 14 0 226 ("KeelHouseModel$Ship", "spot", "I", false) := ⟨_, rfl, by decide, by decide, by decide, rfl, rfl⟩
theorem cf_689 : CalF mi_689 := ⟨W4991, by decide⟩
theorem vf_689_38 : ViF mi_689 38 0 := ⟨cf_689, "KeelHouseModel$Ship", kn_38, W4989, W4990, oy_KeelHouseModel_Ship _ _, rfl⟩
theorem mt_689 : mi 689 = mi_689 := rfl
theorem cf_408 : CalF mi_408 := ⟨W4985, by decide⟩
theorem vf_408_37 : ViF mi_408 37 1 := ⟨cf_408, "KeelHouseModel", kn_37, W4984, QS86, oy_KeelHouseModel _ _, rfl⟩
theorem mt_408 : mi 408 = mi_408 := rfl
theorem fld_38_4 : FldF 38 4 0 216 ("KeelHouseModel$Ship", "number", "I", true) := ⟨_, rfl, by decide, by decide, by decide, rfl, rfl⟩
theorem cf_692 : CalF mi_692 := ⟨W5011, by decide⟩
theorem vf_692_38 : ViF mi_692 38 0 := ⟨cf_692, "KeelHouseModel$Ship", kn_38, W5009, W5010, oy_KeelHouseModel_Ship _ _, rfl⟩
theorem mt_692 : mi 692 = mi_692 := rfl
theorem cf_410 : CalF mi_410 := ⟨W5016, by decide⟩
theorem vf_410_37 : ViF mi_410 37 0 := ⟨cf_410, "KeelHouseModel", kn_37, W5015, QS88, oy_KeelHouseModel _ _, rfl⟩
theorem mt_410 : mi 410 = mi_410 := rfl
theorem cf_693 : CalF mi_693 := ⟨W5022, by decide⟩
theorem vf_693_38 : ViF mi_693 38 1 := ⟨cf_693, "KeelHouseModel$Ship", kn_38, W5020, W5021, oy_KeelHouseModel_Ship _ _, rfl⟩
theorem mt_693 : mi 693 = mi_693 := rfl
theorem cf_673 : CalF mi_673 := ⟨W4765, by decide⟩
theorem vf_673_38 : ViF mi_673 38 0 := ⟨cf_673, "KeelHouseModel$Ship", kn_38, W4763, W4764, oy_KeelHouseModel_Ship _ _, rfl⟩
theorem mt_673 : mi 673 = mi_673 := rfl
theorem cf_695 : CalF mi_695 := ⟨W5039, by decide⟩
theorem vf_695_38 : ViF mi_695 38 0 := ⟨cf_695, "KeelHouseModel$Ship", kn_38, W5037, W5038, oy_KeelHouseModel_Ship _ _, rfl⟩
theorem mt_695 : mi 695 = mi_695 := rfl
theorem cf_412 : CalF mi_412 := ⟨W5051, by decide⟩
theorem vf_412_37 : ViF mi_412 37 2 := ⟨cf_412, "KeelHouseModel", kn_37, W5050, QS89, oy_KeelHouseModel _ _, rfl⟩
theorem mt_412 : mi 412 = mi_412 := rfl
theorem mt_411 : mi 411 = mi_411 := rfl
theorem cf_414 : CalF mi_414 := ⟨W5059, by decide⟩
theorem vf_414_37 : ViF mi_414 37 1 := ⟨cf_414, "KeelHouseModel", kn_37, W5058, QS90, oy_KeelHouseModel _ _, rfl⟩
theorem mt_414 : mi 414 = mi_414 := rfl
theorem cf_411 : CalF mi_411 := ⟨W5030, by decide⟩
theorem sf_411 : StF mi_411 1 := ⟨cf_411, W5029, W142, oy_KeelHouseModel _ _, rfl⟩
theorem fld_38_15 : FldF 38 15 0 227 ("KeelHouseModel$Ship", "foul", "I", false) := ⟨_, rfl, by decide, by decide, by decide, rfl, rfl⟩
theorem fld_38_23 : FldF 38 23 0 235 ("KeelHouseModel$Ship", "where", "I", false) := ⟨_, rfl, by decide, by decide, by decide, rfl, rfl⟩
theorem cf_416 : CalF mi_416 := ⟨W5068, by decide⟩
theorem vf_416_37 : ViF mi_416 37 2 := ⟨cf_416, "KeelHouseModel", kn_37, W5067, QS91, oy_KeelHouseModel _ _, rfl⟩
theorem mt_416 : mi 416 = mi_416 := rfl
theorem cf_418 : CalF mi_418 := ⟨W5077, by decide⟩
theorem vf_418_37 : ViF mi_418 37 2 := ⟨cf_418, "KeelHouseModel", kn_37, W5076, QS92, oy_KeelHouseModel _ _, rfl⟩
theorem mt_418 : mi 418 = mi_418 := rfl
theorem cf_694 : CalF mi_694 := ⟨W5026, by decide⟩
theorem vf_694_38 : ViF mi_694 38 0 := ⟨cf_694, "KeelHouseModel$Ship", kn_38, W5024, W5025, oy_KeelHouseModel_Ship _ _, rfl⟩
theorem mt_694 : mi 694 = mi_694 := rfl
theorem cf_420 : CalF mi_420 := ⟨W5085, by decide⟩
theorem sf_420 : StF mi_420 1 := ⟨cf_420, W5084, W142, oy_KeelHouseModel _ _, rfl⟩
theorem mt_420 : mi 420 = mi_420 := rfl
theorem cf_423 : CalF mi_423 := ⟨W5097, by decide⟩
theorem vf_423_37 : ViF mi_423 37 0 := ⟨cf_423, "KeelHouseModel", kn_37, W5096, QS93, oy_KeelHouseModel _ _, rfl⟩
theorem mt_423 : mi 423 = mi_423 := rfl
theorem cf_424 : CalF mi_424 := ⟨W5101, by decide⟩
theorem vf_424_37 : ViF mi_424 37 0 := ⟨cf_424, "KeelHouseModel", kn_37, W5100, QS94, oy_KeelHouseModel _ _, rfl⟩
theorem mt_424 : mi 424 = mi_424 := rfl
theorem nf_39 : NewF 39 6 "KeelHouseModel$Works" := ⟨_, rfl, by decide, by decide, by decide, by decide, rfl, W5104, W193⟩
theorem cf_741 : CalF mi_741 := ⟨W5107, by decide⟩
theorem oy_KeelHouseModel_Works : ∀ (n d : String), okY ⟨"KeelHouseModel$Works", n, d⟩ := fun _ _ => ⟨show "KeelHouseModel$Works" ≠ "java/lang/invoke/MethodHandle" by decide, show "KeelHouseModel$Works" ≠ "java/lang/invoke/VarHandle" by decide⟩
theorem ic_741 : IcF mi_741 2 := ⟨cf_741, rfl, W5106, rfl, oy_KeelHouseModel_Works _ _, _, rfl⟩
theorem mt_741 : mi 741 = mi_741 := rfl
theorem kn_39 : KN 39 "KeelHouseModel$Works" := ⟨by decide, Or.inl ⟨_, rfl, by decide, rfl⟩⟩
theorem cf_742 : CalF mi_742 := ⟨W5140, by decide⟩
theorem vf_742_39 : ViF mi_742 39 2 := ⟨cf_742, "KeelHouseModel$Works", kn_39, W5138, W5139, oy_KeelHouseModel_Works _ _, rfl⟩
theorem mt_742 : mi 742 = mi_742 := rfl
theorem cf_696 : CalF mi_696 := ⟨W5184, by decide⟩
theorem vf_696_38 : ViF mi_696 38 0 := ⟨cf_696, "KeelHouseModel$Ship", kn_38, W5182, W5183, oy_KeelHouseModel_Ship _ _, rfl⟩
theorem mt_696 : mi 696 = mi_696 := rfl
theorem cf_428 : CalF mi_428 := ⟨W5251, by decide⟩
theorem vf_428_37 : ViF mi_428 37 1 := ⟨cf_428, "KeelHouseModel", kn_37, W5250, QS107, oy_KeelHouseModel _ _, rfl⟩
theorem mt_428 : mi 428 = mi_428 := rfl
theorem fld_38_28 : FldF 38 28 0 240 ("KeelHouseModel$Ship", "holed", "I", false) := ⟨_, rfl, by decide, by decide, by decide, rfl, rfl⟩
theorem cf_426 : CalF mi_426 := ⟨W5153, by decide⟩
theorem sf_426 : StF mi_426 1 := ⟨cf_426, W5152, W142, oy_KeelHouseModel _ _, rfl⟩
theorem mt_426 : mi 426 = mi_426 := rfl
theorem mt_425 : mi 425 = mi_425 := rfl
theorem mt_427 : mi 427 = mi_427 := rfl
theorem fld_38_16 : FldF 38 16 4 228 ("KeelHouseModel$Ship", "isLaid", "Z", false) := ⟨_, rfl, by decide, by decide, by decide, rfl, rfl⟩
theorem cf_709 : CalF mi_709 := ⟨W5259, by decide⟩
theorem vf_709_38 : ViF mi_709 38 2 := ⟨cf_709, "KeelHouseModel$Ship", kn_38, W5257, W5258, oy_KeelHouseModel_Ship _ _, rfl⟩
theorem mt_709 : mi 709 = mi_709 := rfl
theorem fld_38_18 : FldF 38 18 3 230 ("KeelHouseModel$Ship", "left", "[I", true) := ⟨_, rfl, by decide, by decide, by decide, rfl, rfl⟩
theorem cf_427 : CalF mi_427 := ⟨W5170, by decide⟩
theorem sf_427 : StF mi_427 1 := ⟨cf_427, W5169, W142, oy_KeelHouseModel _ _, rfl⟩
theorem cf_668 : CalF mi_668 := ⟨W4730, by decide⟩
theorem vf_668_38 : ViF mi_668 38 1 := ⟨cf_668, "KeelHouseModel$Ship", kn_38, W4728, W4729, oy_KeelHouseModel_Ship _ _, rfl⟩
theorem mt_668 : mi 668 = mi_668 := rfl
theorem cf_710 : CalF mi_710 := ⟨W5265, by decide⟩
theorem vf_710_38 : ViF mi_710 38 1 := ⟨cf_710, "KeelHouseModel$Ship", kn_38, W5263, W5264, oy_KeelHouseModel_Ship _ _, rfl⟩
theorem mt_710 : mi 710 = mi_710 := rfl
theorem fld_38_20 : FldF 38 20 3 232 ("KeelHouseModel$Ship", "isFaulty", "[Z", true) := ⟨_, rfl, by decide, by decide, by decide, rfl, rfl⟩
theorem cf_425 : CalF mi_425 := ⟨W5149, by decide⟩
theorem sf_425 : StF mi_425 1 := ⟨cf_425, W5148, W142, oy_KeelHouseModel _ _, rfl⟩
theorem cf_431 : CalF mi_431 := ⟨W5278, by decide⟩
theorem vf_431_37 : ViF mi_431 37 2 := ⟨cf_431, "KeelHouseModel", kn_37, W5277, QS108, oy_KeelHouseModel _ _, rfl⟩
theorem mt_431 : mi 431 = mi_431 := rfl
theorem cf_711 : CalF mi_711 := ⟨W5282, by decide⟩
theorem vf_711_38 : ViF mi_711 38 0 := ⟨cf_711, "KeelHouseModel$Ship", kn_38, W5280, W5281, oy_KeelHouseModel_Ship _ _, rfl⟩
theorem mt_711 : mi 711 = mi_711 := rfl
theorem cf_712 : CalF mi_712 := ⟨W5287, by decide⟩
theorem vf_712_38 : ViF mi_712 38 0 := ⟨cf_712, "KeelHouseModel$Ship", kn_38, W5285, W5286, oy_KeelHouseModel_Ship _ _, rfl⟩
theorem mt_712 : mi 712 = mi_712 := rfl
theorem cf_713 : CalF mi_713 := ⟨W5291, by decide⟩
theorem vf_713_38 : ViF mi_713 38 0 := ⟨cf_713, "KeelHouseModel$Ship", kn_38, W5289, W5290, oy_KeelHouseModel_Ship _ _, rfl⟩
theorem mt_713 : mi 713 = mi_713 := rfl
theorem cf_433 : CalF mi_433 := ⟨W5299, by decide⟩
theorem vf_433_37 : ViF mi_433 37 1 := ⟨cf_433, "KeelHouseModel", kn_37, W5298, QS109, oy_KeelHouseModel _ _, rfl⟩
theorem mt_433 : mi 433 = mi_433 := rfl
theorem fld_37_4 : FldF 37 4 0 198 ("KeelHouseModel", "luck", "I", false) := ⟨_, rfl, by decide, by decide, by decide, rfl, rfl⟩
theorem fld_37_5 : FldF 37 5 0 199 ("KeelHouseModel", "faults", "I", false) := ⟨_, rfl, by decide, by decide, by decide, rfl, rfl⟩
theorem fld_37_6 : FldF 37 6 0 200 ("KeelHouseModel", "worked", "I", false) := ⟨_, rfl, by decide, by decide, by decide, rfl, rfl⟩
theorem fld_37_7 : FldF 37 7 0 201 ("KeelHouseModel", "wasted", "I", false) := ⟨_, rfl, by decide, by decide, by decide, rfl, rfl⟩
theorem fld_39_1 : FldF 39 1 3 250 ("KeelHouseModel$Works", "strakes", "[[I", true) := ⟨_, rfl, by decide, by decide, by decide, rfl, rfl⟩
theorem cf_748 : CalF mi_748 := ⟨W5307, by decide⟩
theorem vf_748_39 : ViF mi_748 39 1 := ⟨cf_748, "KeelHouseModel$Works", kn_39, W5305, W5306, oy_KeelHouseModel_Works _ _, rfl⟩
theorem mt_748 : mi 748 = mi_748 := rfl
theorem fld_38_21 : FldF 38 21 0 233 ("KeelHouseModel$Ship", "power", "I", false) := ⟨_, rfl, by decide, by decide, by decide, rfl, rfl⟩
theorem fld_38_22 : FldF 38 22 3 234 ("KeelHouseModel$Ship", "pipes", "Ljava/util/ArrayList;", true) := ⟨_, rfl, by decide, by decide, by decide, rfl, rfl⟩
theorem cf_15 : CalF mi_15 := ⟨W3243, by decide⟩
theorem vf_15_5 : ViF mi_15 5 0 := ⟨cf_15, "java/util/ArrayList", kn_5, W3241, W3242, oy_java_util_ArrayList _ _, rfl⟩
theorem cf_714 : CalF mi_714 := ⟨W5337, by decide⟩
theorem vf_714_38 : ViF mi_714 38 0 := ⟨cf_714, "KeelHouseModel$Ship", kn_38, W5335, W5336, oy_KeelHouseModel_Ship _ _, rfl⟩
theorem mt_714 : mi 714 = mi_714 := rfl
theorem cf_716 : CalF mi_716 := ⟨W5349, by decide⟩
theorem vf_716_38 : ViF mi_716 38 1 := ⟨cf_716, "KeelHouseModel$Ship", kn_38, W5347, W5348, oy_KeelHouseModel_Ship _ _, rfl⟩
theorem mt_716 : mi 716 = mi_716 := rfl
theorem cf_697 : CalF mi_697 := ⟨W5188, by decide⟩
theorem vf_697_38 : ViF mi_697 38 0 := ⟨cf_697, "KeelHouseModel$Ship", kn_38, W5186, W5187, oy_KeelHouseModel_Ship _ _, rfl⟩
theorem mt_697 : mi 697 = mi_697 := rfl
theorem cf_705 : CalF mi_705 := ⟨W5224, by decide⟩
theorem vf_705_38 : ViF mi_705 38 1 := ⟨cf_705, "KeelHouseModel$Ship", kn_38, W5222, W5223, oy_KeelHouseModel_Ship _ _, rfl⟩
theorem mt_705 : mi 705 = mi_705 := rfl
theorem cf_445 : CalF mi_445 := ⟨W5379, by decide⟩
theorem vf_445_37 : ViF mi_445 37 1 := ⟨cf_445, "KeelHouseModel", kn_37, W5378, QS112, oy_KeelHouseModel _ _, rfl⟩
theorem mt_445 : mi 445 = mi_445 := rfl
theorem cf_446 : CalF mi_446 := ⟨W5383, by decide⟩
theorem vf_446_37 : ViF mi_446 37 1 := ⟨cf_446, "KeelHouseModel", kn_37, W5382, QS113, oy_KeelHouseModel _ _, rfl⟩
theorem mt_446 : mi 446 = mi_446 := rfl
theorem cf_447 : CalF mi_447 := ⟨W5387, by decide⟩
theorem vf_447_37 : ViF mi_447 37 1 := ⟨cf_447, "KeelHouseModel", kn_37, W5386, QS114, oy_KeelHouseModel _ _, rfl⟩
theorem mt_447 : mi 447 = mi_447 := rfl
theorem cf_449 : CalF mi_449 := ⟨W5395, by decide⟩
theorem vf_449_37 : ViF mi_449 37 2 := ⟨cf_449, "KeelHouseModel", kn_37, W5394, QS115, oy_KeelHouseModel _ _, rfl⟩
theorem mt_449 : mi 449 = mi_449 := rfl
theorem cf_720 : CalF mi_720 := ⟨W5399, by decide⟩
theorem vf_720_38 : ViF mi_720 38 0 := ⟨cf_720, "KeelHouseModel$Ship", kn_38, W5397, W5398, oy_KeelHouseModel_Ship _ _, rfl⟩
theorem mt_720 : mi 720 = mi_720 := rfl
theorem cf_452 : CalF mi_452 := ⟨W5413, by decide⟩
theorem vf_452_37 : ViF mi_452 37 2 := ⟨cf_452, "KeelHouseModel", kn_37, W5412, QS116, oy_KeelHouseModel _ _, rfl⟩
theorem mt_452 : mi 452 = mi_452 := rfl
theorem cf_456 : CalF mi_456 := ⟨W5429, by decide⟩
theorem vf_456_37 : ViF mi_456 37 1 := ⟨cf_456, "KeelHouseModel", kn_37, W5428, QS117, oy_KeelHouseModel _ _, rfl⟩
theorem mt_456 : mi 456 = mi_456 := rfl
theorem nf_40 : NewF 40 9 "KeelHouseModel$Lot" := ⟨_, rfl, by decide, by decide, by decide, by decide, rfl, W5431, W199⟩
theorem cf_768 : CalF mi_768 := ⟨W5434, by decide⟩
theorem oy_KeelHouseModel_Lot : ∀ (n d : String), okY ⟨"KeelHouseModel$Lot", n, d⟩ := fun _ _ => ⟨show "KeelHouseModel$Lot" ≠ "java/lang/invoke/MethodHandle" by decide, show "KeelHouseModel$Lot" ≠ "java/lang/invoke/VarHandle" by decide⟩
theorem ic_768 : IcF mi_768 5 := ⟨cf_768, rfl, W5433, rfl, oy_KeelHouseModel_Lot _ _, _, rfl⟩
theorem mt_768 : mi 768 = mi_768 := rfl
theorem fld_38_25 : FldF 38 25 0 237 ("KeelHouseModel$Ship", "fuel", "I", false) := ⟨_, rfl, by decide, by decide, by decide, rfl, rfl⟩
theorem fld_38_24 : FldF 38 24 0 236 ("KeelHouseModel$Ship", "port", "I", false) := ⟨_, rfl, by decide, by decide, by decide, rfl, rfl⟩
theorem fld_40_0 : FldF 40 0 0 255 ("KeelHouseModel$Lot", "at", "I", true) := ⟨_, rfl, by decide, by decide, by decide, rfl, rfl⟩
theorem fld_40_5 : FldF 40 5 0 260 ("KeelHouseModel$Lot", "stands", "I", false) := ⟨_, rfl, by decide, by decide, by decide, rfl, rfl⟩
theorem cf_459 : CalF mi_459 := ⟨W5488, by decide⟩
theorem vf_459_37 : ViF mi_459 37 3 := ⟨cf_459, "KeelHouseModel", kn_37, W5487, QS118, oy_KeelHouseModel _ _, rfl⟩
theorem mt_459 : mi 459 = mi_459 := rfl
theorem fld_40_6 : FldF 40 6 0 261 ("KeelHouseModel$Lot", "ship", "I", false) := ⟨_, rfl, by decide, by decide, by decide, rfl, rfl⟩
theorem fld_40_7 : FldF 40 7 0 262 ("KeelHouseModel$Lot", "compartment", "I", false) := ⟨_, rfl, by decide, by decide, by decide, rfl, rfl⟩
theorem fld_40_8 : FldF 40 8 2 263 ("KeelHouseModel$Lot", "side", "D", false) := ⟨_, rfl, by decide, by decide, by decide, rfl, rfl⟩
theorem cf_460 : CalF mi_460 := ⟨W5492, by decide⟩
theorem vf_460_37 : ViF mi_460 37 2 := ⟨cf_460, "KeelHouseModel", kn_37, W5491, QS119, oy_KeelHouseModel _ _, rfl⟩
theorem mt_460 : mi 460 = mi_460 := rfl
theorem fld_40_2 : FldF 40 2 0 257 ("KeelHouseModel$Lot", "tonnes", "I", true) := ⟨_, rfl, by decide, by decide, by decide, rfl, rfl⟩
theorem cf_659 : CalF mi_659 := ⟨W5499, by decide⟩
theorem if_659_38_KeelHouseModel_Shipspace_I_I : InF mi_659 ({ cls := "KeelHouseModel$Ship", name := "space", desc := "(I)I" } : Jvm.MethodName) 38 1 := ⟨cf_659, "KeelHouseModel$Ship", "KeelHouseModel$Hull", kn_38, W5498, ⟨_, _, rfl⟩, W5495, Or.inl W5496, oy_KeelHouseModel_Hull _ _, W5497, rfl⟩
theorem mt_659 : mi 659 = mi_659 := rfl
theorem cf_461 : CalF mi_461 := ⟨W5503, by decide⟩
theorem vf_461_37 : ViF mi_461 37 2 := ⟨cf_461, "KeelHouseModel", kn_37, W5502, QS120, oy_KeelHouseModel _ _, rfl⟩
theorem mt_461 : mi 461 = mi_461 := rfl
theorem fld_40_3 : FldF 40 3 0 258 ("KeelHouseModel$Lot", "sort", "I", true) := ⟨_, rfl, by decide, by decide, by decide, rfl, rfl⟩
theorem cf_765 : CalF mi_765 := ⟨W4737, by decide⟩
theorem vf_765_40 : ViF mi_765 40 2 := ⟨cf_765, "KeelHouseModel$Lot", kn_40, W4735, W4736, oy_KeelHouseModel_Lot _ _, rfl⟩
theorem mt_765 : mi 765 = mi_765 := rfl
theorem fld_40_1 : FldF 40 1 0 256 ("KeelHouseModel$Lot", "to", "I", true) := ⟨_, rfl, by decide, by decide, by decide, rfl, rfl⟩
theorem cf_767 : CalF mi_767 := ⟨W5047, by decide⟩
theorem vf_767_40 : ViF mi_767 40 1 := ⟨cf_767, "KeelHouseModel$Lot", kn_40, W5045, W5046, oy_KeelHouseModel_Lot _ _, rfl⟩
theorem mt_767 : mi 767 = mi_767 := rfl
theorem fld_40_4 : FldF 40 4 0 259 ("KeelHouseModel$Lot", "freight", "I", true) := ⟨_, rfl, by decide, by decide, by decide, rfl, rfl⟩
theorem fld_38_29 : FldF 38 29 0 241 ("KeelHouseModel$Ship", "earned", "I", false) := ⟨_, rfl, by decide, by decide, by decide, rfl, rfl⟩
theorem cf_464 : CalF mi_464 := ⟨W5516, by decide⟩
theorem vf_464_37 : ViF mi_464 37 2 := ⟨cf_464, "KeelHouseModel", kn_37, W5515, QS121, oy_KeelHouseModel _ _, rfl⟩
theorem mt_464 : mi 464 = mi_464 := rfl
theorem fld_38_26 : FldF 38 26 2 238 ("KeelHouseModel$Ship", "way", "D", false) := ⟨_, rfl, by decide, by decide, by decide, rfl, rfl⟩
theorem cf_70 : CalF mi_70 := ⟨W1479, by decide⟩
theorem sf_70 : StF mi_70 1 := ⟨cf_70, W1478, W171, oy_java_lang_Math _ _, rfl⟩
theorem cf_721 : CalF mi_721 := ⟨W5525, by decide⟩
theorem vf_721_38 : ViF mi_721 38 1 := ⟨cf_721, "KeelHouseModel$Ship", kn_38, W5523, W5524, oy_KeelHouseModel_Ship _ _, rfl⟩
theorem mt_721 : mi 721 = mi_721 := rfl
theorem cf_467 : CalF mi_467 := ⟨W5537, by decide⟩
theorem vf_467_37 : ViF mi_467 37 2 := ⟨cf_467, "KeelHouseModel", kn_37, W5536, QS122, oy_KeelHouseModel _ _, rfl⟩
theorem mt_467 : mi 467 = mi_467 := rfl
theorem cf_X10_least : ∀ j, CalF (mi_X10_least j) := fun _ => ⟨W5545, by show 5 ≤ 61; decide⟩
theorem vf_X10_least_37 : ViF (mi_X10_least 7) 37 2 := ⟨cf_X10_least 7, "KeelHouseModel", kn_37, W5544, QS123, oy_KeelHouseModel _ _, rfl⟩
theorem cf_379 : CalF mi_379 := ⟨W4789, by decide⟩
theorem sf_379 : StF mi_379 2 := ⟨cf_379, W4788, W142, oy_KeelHouseModel _ _, rfl⟩
theorem vfr_X10_least : ∀ j, ViF (mi_X10_least j) 37 2 := fun j => ⟨cf_X10_least j, "KeelHouseModel", kn_37, W5544, QS123, oy_KeelHouseModel _ _, show dN ({ cls := "KeelHouseModel", name := "least", desc := "(II)I" } : Jvm.MethodName) 2 from rfl⟩
theorem cf_471 : CalF mi_471 := ⟨W5555, by decide⟩
theorem vf_471_37 : ViF mi_471 37 3 := ⟨cf_471, "KeelHouseModel", kn_37, W5554, QS124, oy_KeelHouseModel _ _, rfl⟩
theorem mt_471 : mi 471 = mi_471 := rfl
theorem cf_474 : CalF mi_474 := ⟨W5567, by decide⟩
theorem vf_474_37 : ViF mi_474 37 1 := ⟨cf_474, "KeelHouseModel", kn_37, W5566, QS125, oy_KeelHouseModel _ _, rfl⟩
theorem mt_474 : mi 474 = mi_474 := rfl
theorem cf_475 : CalF mi_475 := ⟨W5570, by decide⟩
theorem sf_475 : StF mi_475 2 := ⟨cf_475, W5569, W142, oy_KeelHouseModel _ _, rfl⟩
theorem mt_475 : mi 475 = mi_475 := rfl
theorem cf_476 : CalF mi_476 := ⟨W5574, by decide⟩
theorem vf_476_37 : ViF mi_476 37 3 := ⟨cf_476, "KeelHouseModel", kn_37, W5573, QS126, oy_KeelHouseModel _ _, rfl⟩
theorem mt_476 : mi 476 = mi_476 := rfl
theorem cf_478 : CalF mi_478 := ⟨W5583, by decide⟩
theorem vf_478_37 : ViF mi_478 37 0 := ⟨cf_478, "KeelHouseModel", kn_37, W5582, QS127, oy_KeelHouseModel _ _, rfl⟩
theorem mt_478 : mi 478 = mi_478 := rfl
theorem cf_479 : CalF mi_479 := ⟨W5587, by decide⟩
theorem vf_479_37 : ViF mi_479 37 1 := ⟨cf_479, "KeelHouseModel", kn_37, W5586, QS128, oy_KeelHouseModel _ _, rfl⟩
theorem mt_479 : mi 479 = mi_479 := rfl
theorem cf_698 : CalF mi_698 := ⟨W5192, by decide⟩
theorem vf_698_38 : ViF mi_698 38 0 := ⟨cf_698, "KeelHouseModel$Ship", kn_38, W5190, W5191, oy_KeelHouseModel_Ship _ _, rfl⟩
theorem mt_698 : mi 698 = mi_698 := rfl
theorem cf_715 : CalF mi_715 := ⟨W5341, by decide⟩
theorem vf_715_38 : ViF mi_715 38 0 := ⟨cf_715, "KeelHouseModel$Ship", kn_38, W5339, W5340, oy_KeelHouseModel_Ship _ _, rfl⟩
theorem mt_715 : mi 715 = mi_715 := rfl
theorem cf_723 : CalF mi_723 := ⟨W5593, by decide⟩
theorem vf_723_38 : ViF mi_723 38 1 := ⟨cf_723, "KeelHouseModel$Ship", kn_38, W5591, W5592, oy_KeelHouseModel_Ship _ _, rfl⟩
theorem mt_723 : mi 723 = mi_723 := rfl
theorem fld_38_17 : FldF 38 17 3 229 ("KeelHouseModel$Ship", "hours", "[I", true) := ⟨_, rfl, by decide, by decide, by decide, rfl, rfl⟩
theorem fld_37_17 : FldF 37 17 0 211 ("KeelHouseModel", "refused", "I", false) := ⟨_, rfl, by decide, by decide, by decide, rfl, rfl⟩
theorem as_110_L : AsgK (.object "java/lang/String") [14] := Or.inl ⟨"java/lang/String", rfl, List.forall_mem_cons.mpr ⟨⟨"java/lang/String", kx_14, Or.inl rfl⟩, fun _ h => absurd h List.not_mem_nil⟩⟩
theorem mt_485 : mi 485 = mi_485 := rfl
theorem mt_486 : mi 486 = mi_486 := rfl
theorem nf_20 : NewF 20 3 "KeelHouse$Engine" := ⟨_, rfl, by decide, by decide, by decide, by decide, rfl, W1695, W157⟩
theorem cf_528 : CalF mi_528 := ⟨W1946, by decide⟩
theorem ic_528 : IcF mi_528 1 := ⟨cf_528, rfl, W1945, rfl, oy_KeelHouse_Engine _ _, _, rfl⟩
theorem mt_528 : mi 528 = mi_528 := rfl
theorem nf_17 : NewF 17 6 "KeelHouse$Trim" := ⟨_, rfl, by decide, by decide, by decide, by decide, rfl, W1287, W159⟩
theorem cf_555 : CalF mi_555 := ⟨W1990, by decide⟩
theorem ic_555 : IcF mi_555 1 := ⟨cf_555, rfl, W1989, rfl, oy_KeelHouse_Trim _ _, _, rfl⟩
theorem mt_555 : mi 555 = mi_555 := rfl
theorem nf_18 : NewF 18 3 "KeelHouse$Flood" := ⟨_, rfl, by decide, by decide, by decide, by decide, rfl, W1368, W160⟩
theorem cf_563 : CalF mi_563 := ⟨W2022, by decide⟩
theorem ic_563 : IcF mi_563 1 := ⟨cf_563, rfl, W2021, rfl, oy_KeelHouse_Flood _ _, _, rfl⟩
theorem mt_563 : mi 563 = mi_563 := rfl
theorem nf_19 : NewF 19 10 "KeelHouse$Strength" := ⟨_, rfl, by decide, by decide, by decide, by decide, rfl, W1411, W161⟩
theorem cf_575 : CalF mi_575 := ⟨W2039, by decide⟩
theorem ic_575 : IcF mi_575 1 := ⟨cf_575, rfl, W2038, rfl, oy_KeelHouse_Strength _ _, _, rfl⟩
theorem mt_575 : mi 575 = mi_575 := rfl
theorem fld_22_12 : FldF 22 12 3 104 ("KeelHouse$Ship", "remembered", "[I", true) := ⟨_, rfl, by decide, by decide, by decide, rfl, rfl⟩
theorem nf_23 : NewF 23 7 "KeelHouse$Plates" := ⟨_, rfl, by decide, by decide, by decide, by decide, rfl, W2073, W163⟩
theorem cf_591 : CalF mi_591 := ⟨W2076, by decide⟩
theorem ic_591 : IcF mi_591 3 := ⟨cf_591, rfl, W2075, rfl, oy_KeelHouse_Plates _ _, _, rfl⟩
theorem mt_591 : mi 591 = mi_591 := rfl
theorem kx_23 : KX 23 "KeelHouse$Plates" := Or.inl kn_23
theorem as_105_L : AsgK (.object "KeelHouse$Plates") [23] := Or.inl ⟨"KeelHouse$Plates", rfl, List.forall_mem_cons.mpr ⟨⟨"KeelHouse$Plates", kx_23, Or.inl rfl⟩, fun _ h => absurd h List.not_mem_nil⟩⟩
theorem nf_15 : NewF 15 3 "KeelHouse$Tank" := ⟨_, rfl, by decide, by decide, by decide, by decide, rfl, W1143, W164⟩
theorem cf_603 : CalF mi_603 := ⟨W2109, by decide⟩
theorem oy_KeelHouse_Tank : ∀ (n d : String), okY ⟨"KeelHouse$Tank", n, d⟩ := fun _ _ => ⟨show "KeelHouse$Tank" ≠ "java/lang/invoke/MethodHandle" by decide, show "KeelHouse$Tank" ≠ "java/lang/invoke/VarHandle" by decide⟩
theorem ic_603 : IcF mi_603 2 := ⟨cf_603, rfl, W2108, rfl, oy_KeelHouse_Tank _ _, _, rfl⟩
theorem mt_603 : mi 603 = mi_603 := rfl
theorem kn_15 : KN 15 "KeelHouse$Tank" := ⟨by decide, Or.inl ⟨_, rfl, by decide, rfl⟩⟩
theorem kx_15 : KX 15 "KeelHouse$Tank" := Or.inl kn_15
theorem as_106_L : AsgK (.object "KeelHouse$Tank") [15] := Or.inl ⟨"KeelHouse$Tank", rfl, List.forall_mem_cons.mpr ⟨⟨"KeelHouse$Tank", kx_15, Or.inl rfl⟩, fun _ h => absurd h List.not_mem_nil⟩⟩
theorem nf_24 : NewF 24 2 "KeelHouse$Cargo" := ⟨_, rfl, by decide, by decide, by decide, by decide, rfl, W2123, W165⟩
theorem cf_609 : CalF mi_609 := ⟨W2126, by decide⟩
theorem ic_609 : IcF mi_609 2 := ⟨cf_609, rfl, W2125, rfl, oy_KeelHouse_Cargo _ _, _, rfl⟩
theorem mt_609 : mi 609 = mi_609 := rfl
theorem kx_24 : KX 24 "KeelHouse$Cargo" := Or.inl kn_24
theorem as_107_L : AsgK (.object "KeelHouse$Cargo") [24] := Or.inl ⟨"KeelHouse$Cargo", rfl, List.forall_mem_cons.mpr ⟨⟨"KeelHouse$Cargo", kx_24, Or.inl rfl⟩, fun _ h => absurd h List.not_mem_nil⟩⟩
theorem nf_12 : NewF 12 4 "KeelHouse$Jobs" := ⟨_, rfl, by decide, by decide, by decide, by decide, rfl, W619, W166⟩
theorem cf_619 : CalF mi_619 := ⟨W2138, by decide⟩
theorem ic_619 : IcF mi_619 1 := ⟨cf_619, rfl, W2137, rfl, oy_KeelHouse_Jobs _ _, _, rfl⟩
theorem mt_619 : mi 619 = mi_619 := rfl
theorem cf_552 : CalF mi_552 := ⟨W1314, by decide⟩
theorem vf_552_17 : ViF mi_552 17 0 := ⟨cf_552, "KeelHouse$Trim", kn_17, W1312, W1313, oy_KeelHouse_Trim _ _, rfl⟩
theorem mt_552 : mi 552 = mi_552 := rfl
theorem mt_817 : mi 817 = mi_817 := rfl
theorem cf_817 : CalF mi_817 := ⟨W4267, by decide⟩
theorem ei_817_25_KeelHouse_Stageword__Ljava_lang_String_ : EiF mi_817 ({ cls := "KeelHouse$Stage", name := "word", desc := "()Ljava/lang/String;" } : Jvm.MethodName) 25 0 := ⟨cf_817, "KeelHouse$Stage$6", "KeelHouse$Stage", by decide, W4266, ⟨_, _, rfl⟩, W4244, Or.inl W4243, oy_KeelHouse_Stage _ _, W4265, rfl⟩
theorem mt_815 : mi 815 = mi_815 := rfl
theorem cf_815 : CalF mi_815 := ⟨W4263, by decide⟩
theorem ei_815_18_KeelHouse_Stageword__Ljava_lang_String_ : EiF mi_815 ({ cls := "KeelHouse$Stage", name := "word", desc := "()Ljava/lang/String;" } : Jvm.MethodName) 18 0 := ⟨cf_815, "KeelHouse$Stage$5", "KeelHouse$Stage", by decide, W4262, ⟨_, _, rfl⟩, W4244, Or.inl W4243, oy_KeelHouse_Stage _ _, W4261, rfl⟩
theorem mt_813 : mi 813 = mi_813 := rfl
theorem cf_813 : CalF mi_813 := ⟨W4259, by decide⟩
theorem ei_813_24_KeelHouse_Stageword__Ljava_lang_String_ : EiF mi_813 ({ cls := "KeelHouse$Stage", name := "word", desc := "()Ljava/lang/String;" } : Jvm.MethodName) 24 0 := ⟨cf_813, "KeelHouse$Stage$4", "KeelHouse$Stage", by decide, W4258, ⟨_, _, rfl⟩, W4244, Or.inl W4243, oy_KeelHouse_Stage _ _, W4257, rfl⟩
theorem mt_811 : mi 811 = mi_811 := rfl
theorem cf_811 : CalF mi_811 := ⟨W4255, by decide⟩
theorem ei_811_19_KeelHouse_Stageword__Ljava_lang_String_ : EiF mi_811 ({ cls := "KeelHouse$Stage", name := "word", desc := "()Ljava/lang/String;" } : Jvm.MethodName) 19 0 := ⟨cf_811, "KeelHouse$Stage$3", "KeelHouse$Stage", by decide, W4254, ⟨_, _, rfl⟩, W4244, Or.inl W4243, oy_KeelHouse_Stage _ _, W4253, rfl⟩
theorem mt_809 : mi 809 = mi_809 := rfl
theorem cf_809 : CalF mi_809 := ⟨W4251, by decide⟩
theorem ei_809_16_KeelHouse_Stageword__Ljava_lang_String_ : EiF mi_809 ({ cls := "KeelHouse$Stage", name := "word", desc := "()Ljava/lang/String;" } : Jvm.MethodName) 16 0 := ⟨cf_809, "KeelHouse$Stage$2", "KeelHouse$Stage", by decide, W4250, ⟨_, _, rfl⟩, W4244, Or.inl W4243, oy_KeelHouse_Stage _ _, W4249, rfl⟩
theorem mt_808 : mi 808 = mi_808 := rfl
theorem cf_808 : CalF mi_808 := ⟨W4247, by decide⟩
theorem ei_808_15_KeelHouse_Stageword__Ljava_lang_String_ : EiF mi_808 ({ cls := "KeelHouse$Stage", name := "word", desc := "()Ljava/lang/String;" } : Jvm.MethodName) 15 0 := ⟨cf_808, "KeelHouse$Stage$1", "KeelHouse$Stage", by decide, W4246, ⟨_, _, rfl⟩, W4244, Or.inl W4243, oy_KeelHouse_Stage _ _, W4245, rfl⟩
theorem cf_497 : CalF mi_497 := ⟨W598, by decide⟩
theorem vf_497_16 : ViF mi_497 16 2 := ⟨cf_497, "KeelHouse$Lines", kn_16, W596, W597, oy_KeelHouse_Lines _ _, rfl⟩
theorem mt_497 : mi 497 = mi_497 := rfl
theorem mt_498 : mi 498 = mi_498 := rfl
theorem mt_499 : mi 499 = mi_499 := rfl
theorem cf_501 : CalF mi_501 := ⟨W1244, by decide⟩
theorem vf_501_16 : ViF mi_501 16 1 := ⟨cf_501, "KeelHouse$Lines", kn_16, W1242, W1243, oy_KeelHouse_Lines _ _, rfl⟩
theorem mt_501 : mi 501 = mi_501 := rfl
theorem fld_16_4 : FldF 16 4 3 66 ("KeelHouse$Lines", "ordinates", "[D", true) := ⟨_, rfl, by decide, by decide, by decide, rfl, rfl⟩
theorem cf_502 : CalF mi_502 := ⟨W1248, by decide⟩
theorem vf_502_16 : ViF mi_502 16 2 := ⟨cf_502, "KeelHouse$Lines", kn_16, W1246, W1247, oy_KeelHouse_Lines _ _, rfl⟩
theorem mt_502 : mi 502 = mi_502 := rfl
theorem cf_506 : CalF mi_506 := ⟨W1267, by decide⟩
theorem vf_506_16 : ViF mi_506 16 0 := ⟨cf_506, "KeelHouse$Lines", kn_16, W1266, QS16, oy_KeelHouse_Lines _ _, rfl⟩
theorem mt_506 : mi 506 = mi_506 := rfl
theorem cf_503 : CalF mi_503 := ⟨W1252, by decide⟩
theorem vf_503_16 : ViF mi_503 16 0 := ⟨cf_503, "KeelHouse$Lines", kn_16, W1250, W1251, oy_KeelHouse_Lines _ _, rfl⟩
theorem mt_503 : mi 503 = mi_503 := rfl
theorem cf_504 : CalF mi_504 := ⟨W1258, by decide⟩
theorem vf_504_16 : ViF mi_504 16 2 := ⟨cf_504, "KeelHouse$Lines", kn_16, W1256, QS15, oy_KeelHouse_Lines _ _, rfl⟩
theorem mt_504 : mi 504 = mi_504 := rfl
theorem cf_505 : CalF mi_505 := ⟨W1262, by decide⟩
theorem vf_505_16 : ViF mi_505 16 2 := ⟨cf_505, "KeelHouse$Lines", kn_16, W1260, W1261, oy_KeelHouse_Lines _ _, rfl⟩
theorem mt_505 : mi 505 = mi_505 := rfl
theorem cf_508 : CalF mi_508 := ⟨W1300, by decide⟩
theorem vf_508_16 : ViF mi_508 16 2 := ⟨cf_508, "KeelHouse$Lines", kn_16, W1298, W1299, oy_KeelHouse_Lines _ _, rfl⟩
theorem mt_508 : mi 508 = mi_508 := rfl
theorem cf_509 : CalF mi_509 := ⟨W1304, by decide⟩
theorem vf_509_16 : ViF mi_509 16 2 := ⟨cf_509, "KeelHouse$Lines", kn_16, W1303, QS18, oy_KeelHouse_Lines _ _, rfl⟩
theorem mt_509 : mi 509 = mi_509 := rfl
theorem mt_507 : mi 507 = mi_507 := rfl
theorem mt_510 : mi 510 = mi_510 := rfl
theorem cf_512 : CalF mi_512 := ⟨W1349, by decide⟩
theorem vf_512_16 : ViF mi_512 16 1 := ⟨cf_512, "KeelHouse$Lines", kn_16, W1347, W1348, oy_KeelHouse_Lines _ _, rfl⟩
theorem mt_512 : mi 512 = mi_512 := rfl
theorem mt_511 : mi 511 = mi_511 := rfl
theorem mt_513 : mi 513 = mi_513 := rfl
theorem mt_514 : mi 514 = mi_514 := rfl
theorem mt_515 : mi 515 = mi_515 := rfl
theorem cf_206 : CalF mi_206 := ⟨W1819, by decide⟩
theorem sf_206 : StF mi_206 1 := ⟨cf_206, W1818, W130, oy_KeelHouse _ _, rfl⟩
theorem mt_782 : mi 782 = mi_782 := rfl
theorem cf_782 : CalF mi_782 := ⟨W1879, by decide⟩
theorem oy_KeelHouse_Form : ∀ (n d : String), okY ⟨"KeelHouse$Form", n, d⟩ := fun _ _ => ⟨show "KeelHouse$Form" ≠ "java/lang/invoke/MethodHandle" by decide, show "KeelHouse$Form" ≠ "java/lang/invoke/VarHandle" by decide⟩
theorem ei_782_14_KeelHouse_Formalong_I_I : EiF mi_782 ({ cls := "KeelHouse$Form", name := "along", desc := "(I)I" } : Jvm.MethodName) 14 1 := ⟨cf_782, "KeelHouse$Form$3", "KeelHouse$Form", by decide, W1878, ⟨_, _, rfl⟩, W1828, Or.inl W1827, oy_KeelHouse_Form _ _, W1877, rfl⟩
theorem mt_780 : mi 780 = mi_780 := rfl
theorem cf_780 : CalF mi_780 := ⟨W1834, by decide⟩
theorem ei_780_13_KeelHouse_Formalong_I_I : EiF mi_780 ({ cls := "KeelHouse$Form", name := "along", desc := "(I)I" } : Jvm.MethodName) 13 1 := ⟨cf_780, "KeelHouse$Form$2", "KeelHouse$Form", by decide, W1833, ⟨_, _, rfl⟩, W1828, Or.inl W1827, oy_KeelHouse_Form _ _, W1832, rfl⟩
theorem mt_778 : mi 778 = mi_778 := rfl
theorem cf_778 : CalF mi_778 := ⟨W1831, by decide⟩
theorem ei_778_12_KeelHouse_Formalong_I_I : EiF mi_778 ({ cls := "KeelHouse$Form", name := "along", desc := "(I)I" } : Jvm.MethodName) 12 1 := ⟨cf_778, "KeelHouse$Form$1", "KeelHouse$Form", by decide, W1830, ⟨_, _, rfl⟩, W1828, Or.inl W1827, oy_KeelHouse_Form _ _, W1829, rfl⟩
theorem mt_783 : mi 783 = mi_783 := rfl
theorem cf_783 : CalF mi_783 := ⟨W1894, by decide⟩
theorem ei_783_14_KeelHouse_Formup_I_I : EiF mi_783 ({ cls := "KeelHouse$Form", name := "up", desc := "(I)I" } : Jvm.MethodName) 14 1 := ⟨cf_783, "KeelHouse$Form$3", "KeelHouse$Form", by decide, W1893, ⟨_, _, rfl⟩, W1884, Or.inl W1883, oy_KeelHouse_Form _ _, W1892, rfl⟩
theorem mt_781 : mi 781 = mi_781 := rfl
theorem cf_781 : CalF mi_781 := ⟨W1890, by decide⟩
theorem ei_781_13_KeelHouse_Formup_I_I : EiF mi_781 ({ cls := "KeelHouse$Form", name := "up", desc := "(I)I" } : Jvm.MethodName) 13 1 := ⟨cf_781, "KeelHouse$Form$2", "KeelHouse$Form", by decide, W1889, ⟨_, _, rfl⟩, W1884, Or.inl W1883, oy_KeelHouse_Form _ _, W1888, rfl⟩
theorem mt_779 : mi 779 = mi_779 := rfl
theorem cf_779 : CalF mi_779 := ⟨W1887, by decide⟩
theorem ei_779_12_KeelHouse_Formup_I_I : EiF mi_779 ({ cls := "KeelHouse$Form", name := "up", desc := "(I)I" } : Jvm.MethodName) 12 1 := ⟨cf_779, "KeelHouse$Form$1", "KeelHouse$Form", by decide, W1886, ⟨_, _, rfl⟩, W1884, Or.inl W1883, oy_KeelHouse_Form _ _, W1885, rfl⟩
theorem cf_513 : CalF mi_513 := ⟨W1354, by decide⟩
theorem vf_513_16 : ViF mi_513 16 1 := ⟨cf_513, "KeelHouse$Lines", kn_16, W1352, W1353, oy_KeelHouse_Lines _ _, rfl⟩
theorem cf_507 : CalF mi_507 := ⟨W1296, by decide⟩
theorem vf_507_16 : ViF mi_507 16 1 := ⟨cf_507, "KeelHouse$Lines", kn_16, W1294, W1295, oy_KeelHouse_Lines _ _, rfl⟩
theorem cf_520 : CalF mi_520 := ⟨W2600, by decide⟩
theorem vf_520_16 : ViF mi_520 16 1 := ⟨cf_520, "KeelHouse$Lines", kn_16, W2598, W2599, oy_KeelHouse_Lines _ _, rfl⟩
theorem mt_520 : mi 520 = mi_520 := rfl
theorem cf_510 : CalF mi_510 := ⟨W1309, by decide⟩
theorem vf_510_16 : ViF mi_510 16 1 := ⟨cf_510, "KeelHouse$Lines", kn_16, W1307, W1308, oy_KeelHouse_Lines _ _, rfl⟩
theorem cf_511 : CalF mi_511 := ⟨W1345, by decide⟩
theorem vf_511_16 : ViF mi_511 16 1 := ⟨cf_511, "KeelHouse$Lines", kn_16, W1343, W1344, oy_KeelHouse_Lines _ _, rfl⟩
theorem cf_515 : CalF mi_515 := ⟨W1689, by decide⟩
theorem vf_515_16 : ViF mi_515 16 1 := ⟨cf_515, "KeelHouse$Lines", kn_16, W1687, W1688, oy_KeelHouse_Lines _ _, rfl⟩
theorem fld_20_0 : FldF 20 0 3 86 ("KeelHouse$Engine", "ship", "LKeelHouse$Ship;", true) := ⟨_, rfl, by decide, by decide, by decide, rfl, rfl⟩
theorem cf_612 : CalF mi_612 := ⟨W1103, by decide⟩
theorem vf_612_12 : ViF mi_612 12 1 := ⟨cf_612, "KeelHouse$Jobs", kn_12, W1101, W1102, oy_KeelHouse_Jobs _ _, rfl⟩
theorem mt_612 : mi 612 = mi_612 := rfl
theorem mt_521 : mi 521 = mi_521 := rfl
theorem mt_522 : mi 522 = mi_522 := rfl
theorem mt_523 : mi 523 = mi_523 := rfl
theorem cf_530 : CalF mi_530 := ⟨W628, by decide⟩
theorem vf_530_13 : ViF mi_530 13 0 := ⟨cf_530, "KeelHouse$Net", kn_13, W626, W627, oy_KeelHouse_Net _ _, rfl⟩
theorem mt_530 : mi 530 = mi_530 := rfl
theorem cf_537 : CalF mi_537 := ⟨W1583, by decide⟩
theorem vf_537_13 : ViF mi_537 13 0 := ⟨cf_537, "KeelHouse$Net", kn_13, W1581, W1582, oy_KeelHouse_Net _ _, rfl⟩
theorem mt_537 : mi 537 = mi_537 := rfl
theorem cf_538 : CalF mi_538 := ⟨W1587, by decide⟩
theorem vf_538_13 : ViF mi_538 13 0 := ⟨cf_538, "KeelHouse$Net", kn_13, W1585, W1586, oy_KeelHouse_Net _ _, rfl⟩
theorem mt_538 : mi 538 = mi_538 := rfl
theorem cf_539 : CalF mi_539 := ⟨W1596, by decide⟩
theorem vf_539_13 : ViF mi_539 13 0 := ⟨cf_539, "KeelHouse$Net", kn_13, W1594, W1595, oy_KeelHouse_Net _ _, rfl⟩
theorem mt_539 : mi 539 = mi_539 := rfl
theorem cf_541 : CalF mi_541 := ⟨W1604, by decide⟩
theorem vf_541_13 : ViF mi_541 13 0 := ⟨cf_541, "KeelHouse$Net", kn_13, W1602, W1603, oy_KeelHouse_Net _ _, rfl⟩
theorem mt_541 : mi 541 = mi_541 := rfl
theorem cf_527 : CalF mi_527 := ⟨W1696, by decide⟩
theorem vf_527_20 : ViF mi_527 20 2 := ⟨cf_527, "KeelHouse$Engine", kn_20, W1694, QS33, oy_KeelHouse_Engine _ _, rfl⟩
theorem mt_527 : mi 527 = mi_527 := rfl
theorem fld_17_1 : FldF 17 1 2 68 ("KeelHouse$Trim", "weight", "D", false) := ⟨_, rfl, by decide, by decide, by decide, rfl, rfl⟩
theorem nf_13 : NewF 13 4 "KeelHouse$Net" := ⟨_, rfl, by decide, by decide, by decide, by decide, rfl, W635, W158⟩
theorem cf_542 : CalF mi_542 := ⟨W1951, by decide⟩
theorem ic_542 : IcF mi_542 0 := ⟨cf_542, rfl, W1950, rfl, oy_KeelHouse_Net _ _, _, rfl⟩
theorem mt_542 : mi 542 = mi_542 := rfl
theorem cf_536 : CalF mi_536 := ⟨W663, by decide⟩
theorem vf_536_13 : ViF mi_536 13 1 := ⟨cf_536, "KeelHouse$Net", kn_13, W661, W662, oy_KeelHouse_Net _ _, rfl⟩
theorem mt_536 : mi 536 = mi_536 := rfl
theorem fld_32_5 : FldF 32 5 0 165 ("KeelHouse$Pipe", "flow", "I", false) := ⟨_, rfl, by decide, by decide, by decide, rfl, rfl⟩
theorem cf_531 : CalF mi_531 := ⟨W636, by decide⟩
theorem vf_531_13 : ViF mi_531 13 0 := ⟨cf_531, "KeelHouse$Net", kn_13, W634, QS3, oy_KeelHouse_Net _ _, rfl⟩
theorem mt_531 : mi 531 = mi_531 := rfl
theorem cf_533 : CalF mi_533 := ⟨W648, by decide⟩
theorem vf_533_13 : ViF mi_533 13 0 := ⟨cf_533, "KeelHouse$Net", kn_13, W647, QS5, oy_KeelHouse_Net _ _, rfl⟩
theorem mt_533 : mi 533 = mi_533 := rfl
theorem cf_534 : CalF mi_534 := ⟨W655, by decide⟩
theorem vf_534_13 : ViF mi_534 13 1 := ⟨cf_534, "KeelHouse$Net", kn_13, W654, QS6, oy_KeelHouse_Net _ _, rfl⟩
theorem mt_534 : mi 534 = mi_534 := rfl
theorem fld_13_1 : FldF 13 1 3 52 ("KeelHouse$Net", "reached", "[Z", true) := ⟨_, rfl, by decide, by decide, by decide, rfl, rfl⟩
theorem fld_13_3 : FldF 13 3 3 54 ("KeelHouse$Net", "queue", "[I", true) := ⟨_, rfl, by decide, by decide, by decide, rfl, rfl⟩
theorem cf_532 : CalF mi_532 := ⟨W640, by decide⟩
theorem vf_532_13 : ViF mi_532 13 3 := ⟨cf_532, "KeelHouse$Net", kn_13, W639, QS4, oy_KeelHouse_Net _ _, rfl⟩
theorem mt_532 : mi 532 = mi_532 := rfl
theorem cf_749 : CalF mi_749 := ⟨W644, by decide⟩
theorem oy_KeelHouse_Pipe : ∀ (n d : String), okY ⟨"KeelHouse$Pipe", n, d⟩ := fun _ _ => ⟨show "KeelHouse$Pipe" ≠ "java/lang/invoke/MethodHandle" by decide, show "KeelHouse$Pipe" ≠ "java/lang/invoke/VarHandle" by decide⟩
theorem vf_749_32 : ViF mi_749 32 0 := ⟨cf_749, "KeelHouse$Pipe", kn_32, W642, W643, oy_KeelHouse_Pipe _ _, rfl⟩
theorem mt_749 : mi 749 = mi_749 := rfl
theorem fld_32_0 : FldF 32 0 0 160 ("KeelHouse$Pipe", "from", "I", true) := ⟨_, rfl, by decide, by decide, by decide, rfl, rfl⟩
theorem fld_32_2 : FldF 32 2 0 162 ("KeelHouse$Pipe", "width", "I", true) := ⟨_, rfl, by decide, by decide, by decide, rfl, rfl⟩
theorem fld_32_1 : FldF 32 1 0 161 ("KeelHouse$Pipe", "to", "I", true) := ⟨_, rfl, by decide, by decide, by decide, rfl, rfl⟩
theorem fld_13_2 : FldF 13 2 3 53 ("KeelHouse$Net", "by", "[I", true) := ⟨_, rfl, by decide, by decide, by decide, rfl, rfl⟩
theorem cf_540 : CalF mi_540 := ⟨W1600, by decide⟩
theorem vf_540_13 : ViF mi_540 13 1 := ⟨cf_540, "KeelHouse$Net", kn_13, W1599, QS32, oy_KeelHouse_Net _ _, rfl⟩
theorem mt_540 : mi 540 = mi_540 := rfl
theorem nf_32 : NewF 32 6 "KeelHouse$Pipe" := ⟨_, rfl, by decide, by decide, by decide, by decide, rfl, W3558, W194⟩
theorem cf_750 : CalF mi_750 := ⟨W3561, by decide⟩
theorem ic_750 : IcF mi_750 3 := ⟨cf_750, rfl, W3560, rfl, oy_KeelHouse_Pipe _ _, _, rfl⟩
theorem mt_750 : mi 750 = mi_750 := rfl
theorem fld_17_2 : FldF 17 2 2 69 ("KeelHouse$Trim", "lcg", "D", false) := ⟨_, rfl, by decide, by decide, by decide, rfl, rfl⟩
theorem fld_17_3 : FldF 17 3 2 70 ("KeelHouse$Trim", "tcg", "D", false) := ⟨_, rfl, by decide, by decide, by decide, rfl, rfl⟩
theorem fld_17_4 : FldF 17 4 2 71 ("KeelHouse$Trim", "kg", "D", false) := ⟨_, rfl, by decide, by decide, by decide, rfl, rfl⟩
theorem cf_548 : CalF mi_548 := ⟨W1273, by decide⟩
theorem vf_548_17 : ViF mi_548 17 0 := ⟨cf_548, "KeelHouse$Trim", kn_17, W1271, W1272, oy_KeelHouse_Trim _ _, rfl⟩
theorem mt_548 : mi 548 = mi_548 := rfl
theorem cf_550 : CalF mi_550 := ⟨W1288, by decide⟩
theorem vf_550_17 : ViF mi_550 17 1 := ⟨cf_550, "KeelHouse$Trim", kn_17, W1286, QS17, oy_KeelHouse_Trim _ _, rfl⟩
theorem mt_550 : mi 550 = mi_550 := rfl
theorem fld_17_0 : FldF 17 0 3 67 ("KeelHouse$Trim", "ship", "LKeelHouse$Ship;", true) := ⟨_, rfl, by decide, by decide, by decide, rfl, rfl⟩
theorem cf_485 : CalF mi_485 := ⟨W1075, by decide⟩
theorem vf_485_22 : ViF mi_485 22 0 := ⟨cf_485, "KeelHouse$Ship", kn_22, W1073, W1074, oy_KeelHouse_Ship _ _, rfl⟩
theorem cf_486 : CalF mi_486 := ⟨W1080, by decide⟩
theorem vf_486_22 : ViF mi_486 22 1 := ⟨cf_486, "KeelHouse$Ship", kn_22, W1078, W1079, oy_KeelHouse_Ship _ _, rfl⟩
theorem mt_724 : mi 724 = mi_724 := rfl
theorem cf_724 : CalF mi_724 := ⟨W1111, by decide⟩
theorem oy_KeelHouse_Load : ∀ (n d : String), okY ⟨"KeelHouse$Load", n, d⟩ := fun _ _ => ⟨show "KeelHouse$Load" ≠ "java/lang/invoke/MethodHandle" by decide, show "KeelHouse$Load" ≠ "java/lang/invoke/VarHandle" by decide⟩
theorem ff_724_26 : IfF mi_724 ({ cls := "KeelHouse$Load", name := "tonnes", desc := "()D" } : Jvm.MethodName) 26 0 := ⟨cf_724, "KeelHouse$Item", kn_26, ⟨_, _, rfl⟩, W1086, W1085, Or.inl W1107, W1109, W1110, W1108, W1106, oy_KeelHouse_Load _ _, rfl⟩
theorem mt_605 : mi 605 = mi_605 := rfl
theorem cf_605 : CalF mi_605 := ⟨W1092, by decide⟩
theorem ff_605_24 : IfF mi_605 ({ cls := "KeelHouse$Load", name := "tonnes", desc := "()D" } : Jvm.MethodName) 24 0 := ⟨cf_605, "KeelHouse$Cargo", kn_24, ⟨_, _, rfl⟩, W1086, W1085, Or.inl W1088, W1090, W1091, W1089, W1087, oy_KeelHouse_Load _ _, rfl⟩
theorem mt_585 : mi 585 = mi_585 := rfl
theorem cf_585 : CalF mi_585 := ⟨W1117, by decide⟩
theorem ff_585_23 : IfF mi_585 ({ cls := "KeelHouse$Load", name := "tonnes", desc := "()D" } : Jvm.MethodName) 23 0 := ⟨cf_585, "KeelHouse$Plates", kn_23, ⟨_, _, rfl⟩, W1086, W1085, Or.inl W1113, W1115, W1116, W1114, W1112, oy_KeelHouse_Load _ _, rfl⟩
theorem cf_521 : CalF mi_521 := ⟨W1099, by decide⟩
theorem ff_521_20 : IfF mi_521 ({ cls := "KeelHouse$Load", name := "tonnes", desc := "()D" } : Jvm.MethodName) 20 0 := ⟨cf_521, "KeelHouse$Engine", kn_20, ⟨_, _, rfl⟩, W1086, W1085, Or.inl W1095, W1097, W1098, W1096, W1094, oy_KeelHouse_Load _ _, rfl⟩
theorem mt_598 : mi 598 = mi_598 := rfl
theorem cf_598 : CalF mi_598 := ⟨W1139, by decide⟩
theorem ff_598_15 : IfF mi_598 ({ cls := "KeelHouse$Load", name := "tonnes", desc := "()D" } : Jvm.MethodName) 15 0 := ⟨cf_598, "KeelHouse$Tank", kn_15, ⟨_, _, rfl⟩, W1086, W1085, Or.inl W1135, W1137, W1138, W1136, W1134, oy_KeelHouse_Load _ _, rfl⟩
theorem mt_725 : mi 725 = mi_725 := rfl
theorem cf_725 : CalF mi_725 := ⟨W1168, by decide⟩
theorem ff_725_26 : IfF mi_725 ({ cls := "KeelHouse$Load", name := "compartment", desc := "()I" } : Jvm.MethodName) 26 0 := ⟨cf_725, "KeelHouse$Item", kn_26, ⟨_, _, rfl⟩, W1153, W1152, Or.inl W1164, W1166, W1167, W1165, W1106, oy_KeelHouse_Load _ _, rfl⟩
theorem mt_606 : mi 606 = mi_606 := rfl
theorem cf_606 : CalF mi_606 := ⟨W1158, by decide⟩
theorem ff_606_24 : IfF mi_606 ({ cls := "KeelHouse$Load", name := "compartment", desc := "()I" } : Jvm.MethodName) 24 0 := ⟨cf_606, "KeelHouse$Cargo", kn_24, ⟨_, _, rfl⟩, W1153, W1152, Or.inl W1154, W1156, W1157, W1155, W1087, oy_KeelHouse_Load _ _, rfl⟩
theorem mt_588 : mi 588 = mi_588 := rfl
theorem cf_588 : CalF mi_588 := ⟨W1173, by decide⟩
theorem ff_588_23 : IfF mi_588 ({ cls := "KeelHouse$Load", name := "compartment", desc := "()I" } : Jvm.MethodName) 23 0 := ⟨cf_588, "KeelHouse$Plates", kn_23, ⟨_, _, rfl⟩, W1153, W1152, Or.inl W1169, W1171, W1172, W1170, W1112, oy_KeelHouse_Load _ _, rfl⟩
theorem cf_522 : CalF mi_522 := ⟨W1163, by decide⟩
theorem ff_522_20 : IfF mi_522 ({ cls := "KeelHouse$Load", name := "compartment", desc := "()I" } : Jvm.MethodName) 20 0 := ⟨cf_522, "KeelHouse$Engine", kn_20, ⟨_, _, rfl⟩, W1153, W1152, Or.inl W1159, W1161, W1162, W1160, W1094, oy_KeelHouse_Load _ _, rfl⟩
theorem mt_600 : mi 600 = mi_600 := rfl
theorem cf_600 : CalF mi_600 := ⟨W1178, by decide⟩
theorem ff_600_15 : IfF mi_600 ({ cls := "KeelHouse$Load", name := "compartment", desc := "()I" } : Jvm.MethodName) 15 0 := ⟨cf_600, "KeelHouse$Tank", kn_15, ⟨_, _, rfl⟩, W1153, W1152, Or.inl W1174, W1176, W1177, W1175, W1134, oy_KeelHouse_Load _ _, rfl⟩
theorem cf_499 : CalF mi_499 := ⟨W1182, by decide⟩
theorem vf_499_16 : ViF mi_499 16 1 := ⟨cf_499, "KeelHouse$Lines", kn_16, W1180, W1181, oy_KeelHouse_Lines _ _, rfl⟩
theorem mt_726 : mi 726 = mi_726 := rfl
theorem cf_726 : CalF mi_726 := ⟨W1201, by decide⟩
theorem ff_726_26 : IfF mi_726 ({ cls := "KeelHouse$Load", name := "side", desc := "()D" } : Jvm.MethodName) 26 0 := ⟨cf_726, "KeelHouse$Item", kn_26, ⟨_, _, rfl⟩, W1187, W1186, Or.inl W1197, W1199, W1200, W1198, W1106, oy_KeelHouse_Load _ _, rfl⟩
theorem mt_607 : mi 607 = mi_607 := rfl
theorem cf_607 : CalF mi_607 := ⟨W1192, by decide⟩
theorem ff_607_24 : IfF mi_607 ({ cls := "KeelHouse$Load", name := "side", desc := "()D" } : Jvm.MethodName) 24 0 := ⟨cf_607, "KeelHouse$Cargo", kn_24, ⟨_, _, rfl⟩, W1187, W1186, Or.inl W1188, W1190, W1191, W1189, W1087, oy_KeelHouse_Load _ _, rfl⟩
theorem mt_818 : mi 818 = mi_818 := rfl
theorem cf_818 : CalF mi_818 := ⟨W1196, by decide⟩
theorem ff_818_23 : IfF mi_818 ({ cls := "KeelHouse$Load", name := "side", desc := "()D" } : Jvm.MethodName) 23 0 := ⟨cf_818, "KeelHouse$Plates", kn_23, ⟨_, _, rfl⟩, W1187, W1186, Or.inr ⟨rfl, by decide⟩, W1194, W1195, W1203, W1112, oy_KeelHouse_Load _ _, rfl⟩
theorem ff_818_20 : IfF mi_818 ({ cls := "KeelHouse$Load", name := "side", desc := "()D" } : Jvm.MethodName) 20 0 := ⟨cf_818, "KeelHouse$Engine", kn_20, ⟨_, _, rfl⟩, W1187, W1186, Or.inr ⟨rfl, by decide⟩, W1194, W1195, W1193, W1094, oy_KeelHouse_Load _ _, rfl⟩
theorem ff_818_15 : IfF mi_818 ({ cls := "KeelHouse$Load", name := "side", desc := "()D" } : Jvm.MethodName) 15 0 := ⟨cf_818, "KeelHouse$Tank", kn_15, ⟨_, _, rfl⟩, W1187, W1186, Or.inr ⟨rfl, by decide⟩, W1194, W1195, W1204, W1134, oy_KeelHouse_Load _ _, rfl⟩
theorem mt_727 : mi 727 = mi_727 := rfl
theorem cf_727 : CalF mi_727 := ⟨W1225, by decide⟩
theorem ff_727_26 : IfF mi_727 ({ cls := "KeelHouse$Load", name := "up", desc := "()D" } : Jvm.MethodName) 26 0 := ⟨cf_727, "KeelHouse$Item", kn_26, ⟨_, _, rfl⟩, W1208, W1207, Or.inl W1221, W1223, W1224, W1222, W1106, oy_KeelHouse_Load _ _, rfl⟩
theorem mt_608 : mi 608 = mi_608 := rfl
theorem cf_608 : CalF mi_608 := ⟨W1213, by decide⟩
theorem ff_608_24 : IfF mi_608 ({ cls := "KeelHouse$Load", name := "up", desc := "()D" } : Jvm.MethodName) 24 0 := ⟨cf_608, "KeelHouse$Cargo", kn_24, ⟨_, _, rfl⟩, W1208, W1207, Or.inl W1209, W1211, W1212, W1210, W1087, oy_KeelHouse_Load _ _, rfl⟩
theorem mt_589 : mi 589 = mi_589 := rfl
theorem cf_589 : CalF mi_589 := ⟨W1230, by decide⟩
theorem ff_589_23 : IfF mi_589 ({ cls := "KeelHouse$Load", name := "up", desc := "()D" } : Jvm.MethodName) 23 0 := ⟨cf_589, "KeelHouse$Plates", kn_23, ⟨_, _, rfl⟩, W1208, W1207, Or.inl W1226, W1228, W1229, W1227, W1112, oy_KeelHouse_Load _ _, rfl⟩
theorem cf_523 : CalF mi_523 := ⟨W1219, by decide⟩
theorem ff_523_20 : IfF mi_523 ({ cls := "KeelHouse$Load", name := "up", desc := "()D" } : Jvm.MethodName) 20 0 := ⟨cf_523, "KeelHouse$Engine", kn_20, ⟨_, _, rfl⟩, W1208, W1207, Or.inl W1215, W1217, W1218, W1216, W1094, oy_KeelHouse_Load _ _, rfl⟩
theorem mt_601 : mi 601 = mi_601 := rfl
theorem cf_601 : CalF mi_601 := ⟨W1235, by decide⟩
theorem ff_601_15 : IfF mi_601 ({ cls := "KeelHouse$Load", name := "up", desc := "()D" } : Jvm.MethodName) 15 0 := ⟨cf_601, "KeelHouse$Tank", kn_15, ⟨_, _, rfl⟩, W1208, W1207, Or.inl W1231, W1233, W1234, W1232, W1134, oy_KeelHouse_Load _ _, rfl⟩
theorem cf_602 : CalF mi_602 := ⟨W1277, by decide⟩
theorem vf_602_15 : ViF mi_602 15 0 := ⟨cf_602, "KeelHouse$Tank", kn_15, W1275, W1276, oy_KeelHouse_Tank _ _, rfl⟩
theorem mt_602 : mi 602 = mi_602 := rfl
theorem cf_551 : CalF mi_551 := ⟨W1292, by decide⟩
theorem vf_551_17 : ViF mi_551 17 0 := ⟨cf_551, "KeelHouse$Trim", kn_17, W1290, W1291, oy_KeelHouse_Trim _ _, rfl⟩
theorem mt_551 : mi 551 = mi_551 := rfl
theorem cf_554 : CalF mi_554 := ⟨W1341, by decide⟩
theorem vf_554_17 : ViF mi_554 17 0 := ⟨cf_554, "KeelHouse$Trim", kn_17, W1339, W1340, oy_KeelHouse_Trim _ _, rfl⟩
theorem mt_554 : mi 554 = mi_554 := rfl
theorem cf_553 : CalF mi_553 := ⟨W1328, by decide⟩
theorem sf_553 : StF mi_553 1 := ⟨cf_553, W1327, W159, oy_KeelHouse_Trim _ _, rfl⟩
theorem mt_553 : mi 553 = mi_553 := rfl
theorem fld_18_0 : FldF 18 0 3 73 ("KeelHouse$Flood", "ship", "LKeelHouse$Ship;", true) := ⟨_, rfl, by decide, by decide, by decide, rfl, rfl⟩
theorem cf_558 : CalF mi_558 := ⟨W1369, by decide⟩
theorem vf_558_18 : ViF mi_558 18 0 := ⟨cf_558, "KeelHouse$Flood", kn_18, W1367, QS19, oy_KeelHouse_Flood _ _, rfl⟩
theorem mt_558 : mi 558 = mi_558 := rfl
theorem cf_560 : CalF mi_560 := ⟨W1377, by decide⟩
theorem vf_560_18 : ViF mi_560 18 1 := ⟨cf_560, "KeelHouse$Flood", kn_18, W1376, QS21, oy_KeelHouse_Flood _ _, rfl⟩
theorem mt_560 : mi 560 = mi_560 := rfl
theorem cf_562 : CalF mi_562 := ⟨W1392, by decide⟩
theorem vf_562_18 : ViF mi_562 18 0 := ⟨cf_562, "KeelHouse$Flood", kn_18, W1391, QS23, oy_KeelHouse_Flood _ _, rfl⟩
theorem mt_562 : mi 562 = mi_562 := rfl
theorem cf_559 : CalF mi_559 := ⟨W1373, by decide⟩
theorem vf_559_18 : ViF mi_559 18 1 := ⟨cf_559, "KeelHouse$Flood", kn_18, W1372, QS20, oy_KeelHouse_Flood _ _, rfl⟩
theorem mt_559 : mi 559 = mi_559 := rfl
theorem cf_561 : CalF mi_561 := ⟨W1381, by decide⟩
theorem vf_561_18 : ViF mi_561 18 0 := ⟨cf_561, "KeelHouse$Flood", kn_18, W1380, QS22, oy_KeelHouse_Flood _ _, rfl⟩
theorem mt_561 : mi 561 = mi_561 := rfl
theorem cf_514 : CalF mi_514 := ⟨W1385, by decide⟩
theorem vf_514_16 : ViF mi_514 16 3 := ⟨cf_514, "KeelHouse$Lines", kn_16, W1383, W1384, oy_KeelHouse_Lines _ _, rfl⟩
theorem fld_19_9 : FldF 19 9 0 85 ("KeelHouse$Strength", "byNumber", "I", false) := ⟨_, rfl, by decide, by decide, by decide, rfl, rfl⟩
theorem cf_566 : CalF mi_566 := ⟨W1412, by decide⟩
theorem vf_566_19 : ViF mi_566 19 1 := ⟨cf_566, "KeelHouse$Strength", kn_19, W1410, QS24, oy_KeelHouse_Strength _ _, rfl⟩
theorem mt_566 : mi 566 = mi_566 := rfl
theorem cf_569 : CalF mi_569 := ⟨W1446, by decide⟩
theorem vf_569_19 : ViF mi_569 19 1 := ⟨cf_569, "KeelHouse$Strength", kn_19, W1445, QS26, oy_KeelHouse_Strength _ _, rfl⟩
theorem mt_569 : mi 569 = mi_569 := rfl
theorem fld_19_7 : FldF 19 7 2 83 ("KeelHouse$Strength", "most", "D", false) := ⟨_, rfl, by decide, by decide, by decide, rfl, rfl⟩
theorem fld_19_0 : FldF 19 0 3 76 ("KeelHouse$Strength", "ship", "LKeelHouse$Ship;", true) := ⟨_, rfl, by decide, by decide, by decide, rfl, rfl⟩
theorem fld_22_16 : FldF 22 16 4 108 ("KeelHouse$Ship", "isByPlan", "Z", false) := ⟨_, rfl, by decide, by decide, by decide, rfl, rfl⟩
theorem fld_19_6 : FldF 19 6 3 82 ("KeelHouse$Strength", "moduli", "[D", true) := ⟨_, rfl, by decide, by decide, by decide, rfl, rfl⟩
theorem cf_567 : CalF mi_567 := ⟨W1417, by decide⟩
theorem vf_567_19 : ViF mi_567 19 1 := ⟨cf_567, "KeelHouse$Strength", kn_19, W1415, W1416, oy_KeelHouse_Strength _ _, rfl⟩
theorem mt_567 : mi 567 = mi_567 := rfl
theorem cf_568 : CalF mi_568 := ⟨W1434, by decide⟩
theorem vf_568_19 : ViF mi_568 19 0 := ⟨cf_568, "KeelHouse$Strength", kn_19, W1433, QS25, oy_KeelHouse_Strength _ _, rfl⟩
theorem mt_568 : mi 568 = mi_568 := rfl
theorem cf_590 : CalF mi_590 := ⟨W1422, by decide⟩
theorem vf_590_23 : ViF mi_590 23 0 := ⟨cf_590, "KeelHouse$Plates", kn_23, W1420, W1421, oy_KeelHouse_Plates _ _, rfl⟩
theorem mt_590 : mi 590 = mi_590 := rfl
theorem fld_19_1 : FldF 19 1 3 77 ("KeelHouse$Strength", "carries", "[D", true) := ⟨_, rfl, by decide, by decide, by decide, rfl, rfl⟩
theorem cf_570 : CalF mi_570 := ⟨W1459, by decide⟩
theorem vf_570_19 : ViF mi_570 19 1 := ⟨cf_570, "KeelHouse$Strength", kn_19, W1458, QS27, oy_KeelHouse_Strength _ _, rfl⟩
theorem mt_570 : mi 570 = mi_570 := rfl
theorem cf_574 : CalF mi_574 := ⟨W1502, by decide⟩
theorem vf_574_19 : ViF mi_574 19 0 := ⟨cf_574, "KeelHouse$Strength", kn_19, W1501, QS31, oy_KeelHouse_Strength _ _, rfl⟩
theorem mt_574 : mi 574 = mi_574 := rfl
theorem fld_19_5 : FldF 19 5 3 81 ("KeelHouse$Strength", "stresses", "[D", true) := ⟨_, rfl, by decide, by decide, by decide, rfl, rfl⟩
theorem fld_19_8 : FldF 19 8 0 84 ("KeelHouse$Strength", "bySea", "I", false) := ⟨_, rfl, by decide, by decide, by decide, rfl, rfl⟩
theorem cf_571 : CalF mi_571 := ⟨W1463, by decide⟩
theorem vf_571_19 : ViF mi_571 19 1 := ⟨cf_571, "KeelHouse$Strength", kn_19, W1462, QS28, oy_KeelHouse_Strength _ _, rfl⟩
theorem mt_571 : mi 571 = mi_571 := rfl
theorem cf_573 : CalF mi_573 := ⟨W1495, by decide⟩
theorem vf_573_19 : ViF mi_573 19 0 := ⟨cf_573, "KeelHouse$Strength", kn_19, W1494, QS30, oy_KeelHouse_Strength _ _, rfl⟩
theorem mt_573 : mi 573 = mi_573 := rfl
theorem fld_19_2 : FldF 19 2 3 78 ("KeelHouse$Strength", "bears", "[D", true) := ⟨_, rfl, by decide, by decide, by decide, rfl, rfl⟩
theorem cf_572 : CalF mi_572 := ⟨W1467, by decide⟩
theorem vf_572_19 : ViF mi_572 19 2 := ⟨cf_572, "KeelHouse$Strength", kn_19, W1466, QS29, oy_KeelHouse_Strength _ _, rfl⟩
theorem mt_572 : mi 572 = mi_572 := rfl
theorem mt_729 : mi 729 = mi_729 := rfl
theorem cf_729 : CalF mi_729 := ⟨W1482, by decide⟩
theorem oy_KeelHouse_Sea : ∀ (n d : String), okY ⟨"KeelHouse$Sea", n, d⟩ := fun _ _ => ⟨show "KeelHouse$Sea" ≠ "java/lang/invoke/MethodHandle" by decide, show "KeelHouse$Sea" ≠ "java/lang/invoke/VarHandle" by decide⟩
theorem ei_729_11_KeelHouse_Seaswell_I_I : EiF mi_729 ({ cls := "KeelHouse$Sea", name := "swell", desc := "(I)I" } : Jvm.MethodName) 11 1 := ⟨cf_729, "KeelHouse$Sea$3", "KeelHouse$Sea", by decide, W1481, ⟨_, _, rfl⟩, W1470, Or.inl W1469, oy_KeelHouse_Sea _ _, W1480, rfl⟩
theorem mt_794 : mi 794 = mi_794 := rfl
theorem cf_794 : CalF mi_794 := ⟨W1476, by decide⟩
theorem ei_794_10_KeelHouse_Seaswell_I_I : EiF mi_794 ({ cls := "KeelHouse$Sea", name := "swell", desc := "(I)I" } : Jvm.MethodName) 10 1 := ⟨cf_794, "KeelHouse$Sea$2", "KeelHouse$Sea", by decide, W1475, ⟨_, _, rfl⟩, W1470, Or.inl W1469, oy_KeelHouse_Sea _ _, W1474, rfl⟩
theorem mt_793 : mi 793 = mi_793 := rfl
theorem cf_793 : CalF mi_793 := ⟨W1473, by decide⟩
theorem ei_793_9_KeelHouse_Seaswell_I_I : EiF mi_793 ({ cls := "KeelHouse$Sea", name := "swell", desc := "(I)I" } : Jvm.MethodName) 9 1 := ⟨cf_793, "KeelHouse$Sea$1", "KeelHouse$Sea", by decide, W1472, ⟨_, _, rfl⟩, W1470, Or.inl W1469, oy_KeelHouse_Sea _ _, W1471, rfl⟩
theorem fld_19_3 : FldF 19 3 3 79 ("KeelHouse$Strength", "shears", "[D", true) := ⟨_, rfl, by decide, by decide, by decide, rfl, rfl⟩
theorem fld_19_4 : FldF 19 4 3 80 ("KeelHouse$Strength", "moments", "[D", true) := ⟨_, rfl, by decide, by decide, by decide, rfl, rfl⟩
theorem cf_577 : CalF mi_577 := ⟨W2746, by decide⟩
theorem vf_577_19 : ViF mi_577 19 0 := ⟨cf_577, "KeelHouse$Strength", kn_19, W2745, QS42, oy_KeelHouse_Strength _ _, rfl⟩
theorem mt_577 : mi 577 = mi_577 := rfl
theorem cf_578 : CalF mi_578 := ⟨W2750, by decide⟩
theorem vf_578_19 : ViF mi_578 19 1 := ⟨cf_578, "KeelHouse$Strength", kn_19, W2749, QS43, oy_KeelHouse_Strength _ _, rfl⟩
theorem mt_578 : mi 578 = mi_578 := rfl
theorem cf_581 : CalF mi_581 := ⟨W2777, by decide⟩
theorem vf_581_19 : ViF mi_581 19 0 := ⟨cf_581, "KeelHouse$Strength", kn_19, W2775, W2776, oy_KeelHouse_Strength _ _, rfl⟩
theorem mt_581 : mi 581 = mi_581 := rfl
theorem cf_586 : CalF mi_586 := ⟨W1121, by decide⟩
theorem vf_586_23 : ViF mi_586 23 0 := ⟨cf_586, "KeelHouse$Plates", kn_23, W1119, W1120, oy_KeelHouse_Plates _ _, rfl⟩
theorem mt_586 : mi 586 = mi_586 := rfl
theorem fld_23_0 : FldF 23 0 3 119 ("KeelHouse$Plates", "ship", "LKeelHouse$Ship;", true) := ⟨_, rfl, by decide, by decide, by decide, rfl, rfl⟩
theorem cf_587 : CalF mi_587 := ⟨W1132, by decide⟩
theorem vf_587_23 : ViF mi_587 23 0 := ⟨cf_587, "KeelHouse$Plates", kn_23, W1130, W1131, oy_KeelHouse_Plates _ _, rfl⟩
theorem mt_587 : mi 587 = mi_587 := rfl
theorem fld_23_2 : FldF 23 2 0 121 ("KeelHouse$Plates", "strake", "I", true) := ⟨_, rfl, by decide, by decide, by decide, rfl, rfl⟩
theorem fld_23_1 : FldF 23 1 0 120 ("KeelHouse$Plates", "compartment", "I", true) := ⟨_, rfl, by decide, by decide, by decide, rfl, rfl⟩
theorem cf_498 : CalF mi_498 := ⟨W1125, by decide⟩
theorem vf_498_16 : ViF mi_498 16 2 := ⟨cf_498, "KeelHouse$Lines", kn_16, W1123, W1124, oy_KeelHouse_Lines _ _, rfl⟩
theorem fld_23_6 : FldF 23 6 0 125 ("KeelHouse$Plates", "thickness", "I", false) := ⟨_, rfl, by decide, by decide, by decide, rfl, rfl⟩
theorem mt_595 : mi 595 = mi_595 := rfl
theorem mt_596 : mi 596 = mi_596 := rfl
theorem cf_599 : CalF mi_599 := ⟨W1144, by decide⟩
theorem vf_599_15 : ViF mi_599 15 0 := ⟨cf_599, "KeelHouse$Tank", kn_15, W1142, QS14, oy_KeelHouse_Tank _ _, rfl⟩
theorem mt_599 : mi 599 = mi_599 := rfl
theorem fld_15_0 : FldF 15 0 3 59 ("KeelHouse$Tank", "lines", "LKeelHouse$Lines;", true) := ⟨_, rfl, by decide, by decide, by decide, rfl, rfl⟩
theorem fld_15_1 : FldF 15 1 0 60 ("KeelHouse$Tank", "compartment", "I", true) := ⟨_, rfl, by decide, by decide, by decide, rfl, rfl⟩
theorem fld_24_0 : FldF 24 0 3 126 ("KeelHouse$Cargo", "ship", "LKeelHouse$Ship;", true) := ⟨_, rfl, by decide, by decide, by decide, rfl, rfl⟩
theorem fld_24_1 : FldF 24 1 0 127 ("KeelHouse$Cargo", "compartment", "I", true) := ⟨_, rfl, by decide, by decide, by decide, rfl, rfl⟩
theorem cf_611 : CalF mi_611 := ⟨W620, by decide⟩
theorem vf_611_12 : ViF mi_611 12 1 := ⟨cf_611, "KeelHouse$Jobs", kn_12, W618, QS2, oy_KeelHouse_Jobs _ _, rfl⟩
theorem mt_611 : mi 611 = mi_611 := rfl
theorem fld_25_3 : FldF 25 3 3 131 ("KeelHouse$Job", "ahead", "[I", true) := ⟨_, rfl, by decide, by decide, by decide, rfl, rfl⟩
theorem cf_615 : CalF mi_615 := ⟨W1555, by decide⟩
theorem vf_615_12 : ViF mi_615 12 0 := ⟨cf_615, "KeelHouse$Jobs", kn_12, W1553, W1554, oy_KeelHouse_Jobs _ _, rfl⟩
theorem mt_615 : mi 615 = mi_615 := rfl
theorem cf_616 : CalF mi_616 := ⟨W1560, by decide⟩
theorem vf_616_12 : ViF mi_616 12 0 := ⟨cf_616, "KeelHouse$Jobs", kn_12, W1558, W1559, oy_KeelHouse_Jobs _ _, rfl⟩
theorem mt_616 : mi 616 = mi_616 := rfl
theorem cf_617 : CalF mi_617 := ⟨W1564, by decide⟩
theorem vf_617_12 : ViF mi_617 12 0 := ⟨cf_617, "KeelHouse$Jobs", kn_12, W1562, W1563, oy_KeelHouse_Jobs _ _, rfl⟩
theorem mt_617 : mi 617 = mi_617 := rfl
theorem cf_618 : CalF mi_618 := ⟨W1572, by decide⟩
theorem vf_618_12 : ViF mi_618 12 0 := ⟨cf_618, "KeelHouse$Jobs", kn_12, W1570, W1571, oy_KeelHouse_Jobs _ _, rfl⟩
theorem mt_618 : mi 618 = mi_618 := rfl
theorem fld_12_2 : FldF 12 2 3 49 ("KeelHouse$Jobs", "order", "[I", true) := ⟨_, rfl, by decide, by decide, by decide, rfl, rfl⟩
theorem fld_25_8 : FldF 25 8 0 136 ("KeelHouse$Job", "early", "I", false) := ⟨_, rfl, by decide, by decide, by decide, rfl, rfl⟩
theorem cf_634 : CalF mi_634 := ⟨W1545, by decide⟩
theorem vf_634_25 : ViF mi_634 25 0 := ⟨cf_634, "KeelHouse$Job", kn_25, W1543, W1544, oy_KeelHouse_Job _ _, rfl⟩
theorem mt_634 : mi 634 = mi_634 := rfl
theorem fld_25_9 : FldF 25 9 0 137 ("KeelHouse$Job", "late", "I", false) := ⟨_, rfl, by decide, by decide, by decide, rfl, rfl⟩
theorem fld_25_0 : FldF 25 0 0 128 ("KeelHouse$Job", "number", "I", true) := ⟨_, rfl, by decide, by decide, by decide, rfl, rfl⟩
theorem fld_12_0 : FldF 12 0 3 47 ("KeelHouse$Jobs", "ship", "LKeelHouse$Ship;", true) := ⟨_, rfl, by decide, by decide, by decide, rfl, rfl⟩
theorem nf_25 : NewF 25 11 "KeelHouse$Job" := ⟨_, rfl, by decide, by decide, by decide, by decide, rfl, W2142, W167⟩
theorem cf_620 : CalF mi_620 := ⟨W2145, by decide⟩
theorem sf_620 : StF mi_620 1 := ⟨cf_620, W2144, W166, oy_KeelHouse_Jobs _ _, rfl⟩
theorem mt_620 : mi 620 = mi_620 := rfl
theorem cf_621 : CalF mi_621 := ⟨W2148, by decide⟩
theorem sf_621 : StF mi_621 1 := ⟨cf_621, W2147, W166, oy_KeelHouse_Jobs _ _, rfl⟩
theorem mt_621 : mi 621 = mi_621 := rfl
theorem cf_636 : CalF mi_636 := ⟨W2162, by decide⟩
theorem ic_636 : IcF mi_636 3 := ⟨cf_636, rfl, W2161, rfl, oy_KeelHouse_Job _ _, _, rfl⟩
theorem mt_636 : mi 636 = mi_636 := rfl
theorem kx_25 : KX 25 "KeelHouse$Job" := Or.inl kn_25
theorem as_108_L : AsgK (.object "KeelHouse$Job") [25] := Or.inl ⟨"KeelHouse$Job", rfl, List.forall_mem_cons.mpr ⟨⟨"KeelHouse$Job", kx_25, Or.inl rfl⟩, fun _ h => absurd h List.not_mem_nil⟩⟩
theorem cf_625 : CalF mi_625 := ⟨W2215, by decide⟩
theorem vf_625_12 : ViF mi_625 12 0 := ⟨cf_625, "KeelHouse$Jobs", kn_12, W2214, QS36, oy_KeelHouse_Jobs _ _, rfl⟩
theorem mt_625 : mi 625 = mi_625 := rfl
theorem cf_622 : CalF mi_622 := ⟨W2151, by decide⟩
theorem sf_622 : StF mi_622 1 := ⟨cf_622, W2150, W166, oy_KeelHouse_Jobs _ _, rfl⟩
theorem mt_622 : mi 622 = mi_622 := rfl
theorem cf_623 : CalF mi_623 := ⟨W2154, by decide⟩
theorem sf_623 : StF mi_623 2 := ⟨cf_623, W2153, W166, oy_KeelHouse_Jobs _ _, rfl⟩
theorem mt_623 : mi 623 = mi_623 := rfl
theorem cf_624 : CalF mi_624 := ⟨W2159, by decide⟩
theorem sf_624 : StF mi_624 2 := ⟨cf_624, W2158, W166, oy_KeelHouse_Jobs _ _, rfl⟩
theorem mt_624 : mi 624 = mi_624 := rfl
theorem fld_25_2 : FldF 25 2 0 130 ("KeelHouse$Job", "before", "I", true) := ⟨_, rfl, by decide, by decide, by decide, rfl, rfl⟩
theorem cf_637 : CalF mi_637 := ⟨W3187, by decide⟩
theorem vf_637_25 : ViF mi_637 25 1 := ⟨cf_637, "KeelHouse$Job", kn_25, W3185, W3186, oy_KeelHouse_Job _ _, rfl⟩
theorem mt_637 : mi 637 = mi_637 := rfl
theorem cf_595 : CalF mi_595 := ⟨W3192, by decide⟩
theorem vf_595_23 : ViF mi_595 23 0 := ⟨cf_595, "KeelHouse$Plates", kn_23, W3190, W3191, oy_KeelHouse_Plates _ _, rfl⟩
theorem fld_25_1 : FldF 25 1 0 129 ("KeelHouse$Job", "trade", "I", true) := ⟨_, rfl, by decide, by decide, by decide, rfl, rfl⟩
theorem cf_629 : CalF mi_629 := ⟨W3389, by decide⟩
theorem vf_629_12 : ViF mi_629 12 1 := ⟨cf_629, "KeelHouse$Jobs", kn_12, W3388, QS51, oy_KeelHouse_Jobs _ _, rfl⟩
theorem mt_629 : mi 629 = mi_629 := rfl
theorem cf_630 : CalF mi_630 := ⟨W3395, by decide⟩
theorem vf_630_12 : ViF mi_630 12 1 := ⟨cf_630, "KeelHouse$Jobs", kn_12, W3394, QS52, oy_KeelHouse_Jobs _ _, rfl⟩
theorem mt_630 : mi 630 = mi_630 := rfl
theorem cf_596 : CalF mi_596 := ⟨W3411, by decide⟩
theorem vf_596_23 : ViF mi_596 23 0 := ⟨cf_596, "KeelHouse$Plates", kn_23, W3409, W3410, oy_KeelHouse_Plates _ _, rfl⟩
theorem mt_641 : mi 641 = mi_641 := rfl
theorem cf_644 : CalF mi_644 := ⟨W4581, by decide⟩
theorem pf_644_38 : PrF mi_644 38 2 := ⟨cf_644, "KeelHouseModel$Ship", _, _, ({ cls := "KeelHouseModel$Hull", name := "fair", desc := "()I" } : Jvm.MethodName), kn_38, W4579, ⟨_, _, rfl⟩, W4578, rfl, W4555, W4554, oy_KeelHouseModel_Hull _ _, rfl⟩
theorem mt_644 : mi 644 = mi_644 := rfl
theorem cf_651 : CalF mi_651 := ⟨W4624, by decide⟩
theorem vf_651_38 : ViF mi_651 38 1 := ⟨cf_651, "KeelHouseModel$Ship", kn_38, W4621, W4623, oy_KeelHouseModel_Hull _ _, rfl⟩
theorem mt_651 : mi 651 = mi_651 := rfl
theorem cf_645 : CalF mi_645 := ⟨W4585, by decide⟩
theorem pf_645_38 : PrF mi_645 38 3 := ⟨cf_645, "KeelHouseModel$Ship", _, _, ({ cls := "KeelHouseModel$Hull", name := "fair", desc := "()I" } : Jvm.MethodName), kn_38, W4584, ⟨_, _, rfl⟩, W4583, rfl, W4555, W4554, oy_KeelHouseModel_Hull _ _, rfl⟩
theorem mt_645 : mi 645 = mi_645 := rfl
theorem cf_646 : CalF mi_646 := ⟨W4590, by decide⟩
theorem vf_646_38 : ViF mi_646 38 2 := ⟨cf_646, "KeelHouseModel$Ship", kn_38, W4587, W4589, oy_KeelHouseModel_Hull _ _, rfl⟩
theorem mt_646 : mi 646 = mi_646 := rfl
theorem cf_648 : CalF mi_648 := ⟨W4603, by decide⟩
theorem vf_648_38 : ViF mi_648 38 1 := ⟨cf_648, "KeelHouseModel$Ship", kn_38, W4600, W4602, oy_KeelHouseModel_Hull _ _, rfl⟩
theorem mt_648 : mi 648 = mi_648 := rfl
theorem cf_649 : CalF mi_649 := ⟨W4610, by decide⟩
theorem vf_649_38 : ViF mi_649 38 2 := ⟨cf_649, "KeelHouseModel$Ship", kn_38, W4607, W4609, oy_KeelHouseModel_Hull _ _, rfl⟩
theorem mt_649 : mi 649 = mi_649 := rfl
theorem cf_650 : CalF mi_650 := ⟨W4614, by decide⟩
theorem pf_650_38 : PrF mi_650 38 3 := ⟨cf_650, "KeelHouseModel$Ship", _, _, ({ cls := "KeelHouseModel$Hull", name := "fair", desc := "()I" } : Jvm.MethodName), kn_38, W4613, ⟨_, _, rfl⟩, W4612, rfl, W4555, W4554, oy_KeelHouseModel_Hull _ _, rfl⟩
theorem mt_650 : mi 650 = mi_650 := rfl
theorem cf_647 : CalF mi_647 := ⟨W4595, by decide⟩
theorem vf_647_38 : ViF mi_647 38 0 := ⟨cf_647, "KeelHouseModel$Ship", kn_38, W4592, W4594, oy_KeelHouseModel_Hull _ _, rfl⟩
theorem mt_647 : mi 647 = mi_647 := rfl
theorem cf_654 : CalF mi_654 := ⟨W4690, by decide⟩
theorem vf_654_38 : ViF mi_654 38 2 := ⟨cf_654, "KeelHouseModel$Ship", kn_38, W4687, W4689, oy_KeelHouseModel_Hull _ _, rfl⟩
theorem mt_654 : mi 654 = mi_654 := rfl
theorem mt_653 : mi 653 = mi_653 := rfl
theorem mt_655 : mi 655 = mi_655 := rfl
theorem mt_656 : mi 656 = mi_656 := rfl
theorem mt_657 : mi 657 = mi_657 := rfl
theorem cf_653 : CalF mi_653 := ⟨W4685, by decide⟩
theorem vf_653_38 : ViF mi_653 38 2 := ⟨cf_653, "KeelHouseModel$Ship", kn_38, W4684, W5640, oy_KeelHouseModel_Hull _ _, rfl⟩
theorem mt_658 : mi 658 = mi_658 := rfl
theorem fld_38_36 : FldF 38 36 3 248 ("KeelHouseModel$Ship", "this$0", "LKeelHouseModel;", true) := ⟨_, rfl, by decide, by decide, by decide, rfl, rfl⟩
theorem cf_641 : CalF mi_641 := ⟨W4372, by decide⟩
theorem ic_641 : IcF mi_641 4 := ⟨cf_641, rfl, W4371, rfl, oy_KeelHouseModel_Hull _ _, _, rfl⟩
theorem fld_38_19 : FldF 38 19 3 231 ("KeelHouseModel$Ship", "isAsked", "[Z", true) := ⟨_, rfl, by decide, by decide, by decide, rfl, rfl⟩
theorem fld_38_31 : FldF 38 31 3 243 ("KeelHouseModel$Ship", "sums", "[D", true) := ⟨_, rfl, by decide, by decide, by decide, rfl, rfl⟩
theorem fld_38_32 : FldF 38 32 3 244 ("KeelHouseModel$Ship", "carries", "[D", true) := ⟨_, rfl, by decide, by decide, by decide, rfl, rfl⟩
theorem fld_38_33 : FldF 38 33 3 245 ("KeelHouseModel$Ship", "stress", "[D", true) := ⟨_, rfl, by decide, by decide, by decide, rfl, rfl⟩
theorem fld_38_34 : FldF 38 34 3 246 ("KeelHouseModel$Ship", "shears", "[D", true) := ⟨_, rfl, by decide, by decide, by decide, rfl, rfl⟩
theorem fld_38_35 : FldF 38 35 3 247 ("KeelHouseModel$Ship", "moments", "[D", true) := ⟨_, rfl, by decide, by decide, by decide, rfl, rfl⟩
theorem cf_663 : CalF mi_663 := ⟨W4675, by decide⟩
theorem vf_663_38 : ViF mi_663 38 1 := ⟨cf_663, "KeelHouseModel$Ship", kn_38, W4673, W4674, oy_KeelHouseModel_Ship _ _, rfl⟩
theorem mt_663 : mi 663 = mi_663 := rfl
theorem cf_669 : CalF mi_669 := ⟨W4742, by decide⟩
theorem vf_669_38 : ViF mi_669 38 2 := ⟨cf_669, "KeelHouseModel$Ship", kn_38, W4740, W4741, oy_KeelHouseModel_Ship _ _, rfl⟩
theorem mt_669 : mi 669 = mi_669 := rfl
theorem cf_670 : CalF mi_670 := ⟨W4746, by decide⟩
theorem vf_670_38 : ViF mi_670 38 1 := ⟨cf_670, "KeelHouseModel$Ship", kn_38, W4744, W4745, oy_KeelHouseModel_Ship _ _, rfl⟩
theorem mt_670 : mi 670 = mi_670 := rfl
theorem cf_671 : CalF mi_671 := ⟨W4751, by decide⟩
theorem vf_671_38 : ViF mi_671 38 0 := ⟨cf_671, "KeelHouseModel$Ship", kn_38, W4749, W4750, oy_KeelHouseModel_Ship _ _, rfl⟩
theorem mt_671 : mi 671 = mi_671 := rfl
theorem cf_674 : CalF mi_674 := ⟨W4773, by decide⟩
theorem vf_674_38 : ViF mi_674 38 0 := ⟨cf_674, "KeelHouseModel$Ship", kn_38, W4771, W4772, oy_KeelHouseModel_Ship _ _, rfl⟩
theorem mt_674 : mi 674 = mi_674 := rfl
theorem cf_672 : CalF mi_672 := ⟨W4756, by decide⟩
theorem vf_672_38 : ViF mi_672 38 0 := ⟨cf_672, "KeelHouseModel$Ship", kn_38, W4754, W4755, oy_KeelHouseModel_Ship _ _, rfl⟩
theorem mt_672 : mi 672 = mi_672 := rfl
theorem cf_664 : CalF mi_664 := ⟨W4679, by decide⟩
theorem vf_664_38 : ViF mi_664 38 1 := ⟨cf_664, "KeelHouseModel$Ship", kn_38, W4678, QS71, oy_KeelHouseModel_Ship _ _, rfl⟩
theorem mt_664 : mi 664 = mi_664 := rfl
theorem if_653_38_KeelHouseModel_Shipbreadth_II_D : InF mi_653 ({ cls := "KeelHouseModel$Ship", name := "breadth", desc := "(II)D" } : Jvm.MethodName) 38 2 := ⟨cf_653, "KeelHouseModel$Ship", "KeelHouseModel$Hull", kn_38, W4684, ⟨_, _, rfl⟩, W4681, Or.inl W4682, oy_KeelHouseModel_Hull _ _, W4683, rfl⟩
theorem cf_665 : CalF mi_665 := ⟨W4695, by decide⟩
theorem vf_665_38 : ViF mi_665 38 2 := ⟨cf_665, "KeelHouseModel$Ship", kn_38, W4694, QS72, oy_KeelHouseModel_Ship _ _, rfl⟩
theorem mt_665 : mi 665 = mi_665 := rfl
theorem cf_666 : CalF mi_666 := ⟨W4701, by decide⟩
theorem vf_666_38 : ViF mi_666 38 4 := ⟨cf_666, "KeelHouseModel$Ship", kn_38, W4700, QS73, oy_KeelHouseModel_Ship _ _, rfl⟩
theorem mt_666 : mi 666 = mi_666 := rfl
theorem cf_656 : CalF mi_656 := ⟨W4720, by decide⟩
theorem if_656_38_KeelHouseModel_Shiptank_I_D : InF mi_656 ({ cls := "KeelHouseModel$Ship", name := "tank", desc := "(I)D" } : Jvm.MethodName) 38 1 := ⟨cf_656, "KeelHouseModel$Ship", "KeelHouseModel$Hull", kn_38, W4719, ⟨_, _, rfl⟩, W4716, Or.inl W4717, oy_KeelHouseModel_Hull _ _, W4718, rfl⟩
theorem cf_667 : CalF mi_667 := ⟨W4726, by decide⟩
theorem vf_667_38 : ViF mi_667 38 0 := ⟨cf_667, "KeelHouseModel$Ship", kn_38, W4724, W4725, oy_KeelHouseModel_Ship _ _, rfl⟩
theorem mt_667 : mi 667 = mi_667 := rfl
theorem cf_655 : CalF mi_655 := ⟨W4707, by decide⟩
theorem if_655_38_KeelHouseModel_Shipfar_I_D : InF mi_655 ({ cls := "KeelHouseModel$Ship", name := "far", desc := "(I)D" } : Jvm.MethodName) 38 1 := ⟨cf_655, "KeelHouseModel$Ship", "KeelHouseModel$Hull", kn_38, W4706, ⟨_, _, rfl⟩, W4703, Or.inl W4704, oy_KeelHouseModel_Hull _ _, W4705, rfl⟩
theorem if_654_38_KeelHouseModel_Shipboth_II_I : InF mi_654 ({ cls := "KeelHouseModel$Ship", name := "both", desc := "(II)I" } : Jvm.MethodName) 38 2 := ⟨cf_654, "KeelHouseModel$Ship", "KeelHouseModel$Hull", kn_38, W4687, ⟨_, _, rfl⟩, W4758, Or.inl W4759, oy_KeelHouseModel_Hull _ _, W4760, rfl⟩
theorem cf_676 : CalF mi_676 := ⟨W4786, by decide⟩
theorem vf_676_38 : ViF mi_676 38 1 := ⟨cf_676, "KeelHouseModel$Ship", kn_38, W4785, QS74, oy_KeelHouseModel_Ship _ _, rfl⟩
theorem mt_676 : mi 676 = mi_676 := rfl
theorem cf_657 : CalF mi_657 := ⟨W4796, by decide⟩
theorem if_657_38_KeelHouseModel_Shipbears_IDD_D : InF mi_657 ({ cls := "KeelHouseModel$Ship", name := "bears", desc := "(IDD)D" } : Jvm.MethodName) 38 3 := ⟨cf_657, "KeelHouseModel$Ship", "KeelHouseModel$Hull", kn_38, W4795, ⟨_, _, rfl⟩, W4792, Or.inl W4793, oy_KeelHouseModel_Hull _ _, W4794, rfl⟩
theorem cf_679 : CalF mi_679 := ⟨W4830, by decide⟩
theorem vf_679_38 : ViF mi_679 38 1 := ⟨cf_679, "KeelHouseModel$Ship", kn_38, W4828, W4829, oy_KeelHouseModel_Ship _ _, rfl⟩
theorem mt_679 : mi 679 = mi_679 := rfl
theorem cf_683 : CalF mi_683 := ⟨W4862, by decide⟩
theorem vf_683_38 : ViF mi_683 38 1 := ⟨cf_683, "KeelHouseModel$Ship", kn_38, W4861, QS76, oy_KeelHouseModel_Ship _ _, rfl⟩
theorem mt_683 : mi 683 = mi_683 := rfl
theorem cf_680 : CalF mi_680 := ⟨W4834, by decide⟩
theorem vf_680_38 : ViF mi_680 38 2 := ⟨cf_680, "KeelHouseModel$Ship", kn_38, W4832, W4833, oy_KeelHouseModel_Ship _ _, rfl⟩
theorem mt_680 : mi 680 = mi_680 := rfl
theorem cf_681 : CalF mi_681 := ⟨W4838, by decide⟩
theorem vf_681_38 : ViF mi_681 38 2 := ⟨cf_681, "KeelHouseModel$Ship", kn_38, W4836, W4837, oy_KeelHouseModel_Ship _ _, rfl⟩
theorem mt_681 : mi 681 = mi_681 := rfl
theorem cf_682 : CalF mi_682 := ⟨W4845, by decide⟩
theorem vf_682_38 : ViF mi_682 38 1 := ⟨cf_682, "KeelHouseModel$Ship", kn_38, W4844, QS75, oy_KeelHouseModel_Ship _ _, rfl⟩
theorem mt_682 : mi 682 = mi_682 := rfl
theorem cf_658 : CalF mi_658 := ⟨W4853, by decide⟩
theorem if_658_38_KeelHouseModel_Shipmodulus_IIII_D : InF mi_658 ({ cls := "KeelHouseModel$Ship", name := "modulus", desc := "(IIII)D" } : Jvm.MethodName) 38 4 := ⟨cf_658, "KeelHouseModel$Ship", "KeelHouseModel$Hull", kn_38, W4852, ⟨_, _, rfl⟩, W4849, Or.inl W4850, oy_KeelHouseModel_Hull _ _, W4851, rfl⟩
theorem cf_690 : CalF mi_690 := ⟨W4995, by decide⟩
theorem vf_690_38 : ViF mi_690 38 1 := ⟨cf_690, "KeelHouseModel$Ship", kn_38, W4994, QS87, oy_KeelHouseModel_Ship _ _, rfl⟩
theorem mt_690 : mi 690 = mi_690 := rfl
theorem cf_691 : CalF mi_691 := ⟨W4999, by decide⟩
theorem vf_691_38 : ViF mi_691 38 1 := ⟨cf_691, "KeelHouseModel$Ship", kn_38, W4997, W4998, oy_KeelHouseModel_Ship _ _, rfl⟩
theorem mt_691 : mi 691 = mi_691 := rfl
theorem cf_766 : CalF mi_766 := ⟨W5043, by decide⟩
theorem vf_766_40 : ViF mi_766 40 1 := ⟨cf_766, "KeelHouseModel$Lot", kn_40, W5041, W5042, oy_KeelHouseModel_Lot _ _, rfl⟩
theorem mt_766 : mi 766 = mi_766 := rfl
theorem fld_38_27 : FldF 38 27 4 239 ("KeelHouseModel$Ship", "waits", "Z", false) := ⟨_, rfl, by decide, by decide, by decide, rfl, rfl⟩
theorem fld_38_30 : FldF 38 30 0 242 ("KeelHouseModel$Ship", "days", "I", false) := ⟨_, rfl, by decide, by decide, by decide, rfl, rfl⟩
theorem cf_707 : CalF mi_707 := ⟨W5237, by decide⟩
theorem vf_707_38 : ViF mi_707 38 0 := ⟨cf_707, "KeelHouseModel$Ship", kn_38, W5236, QS105, oy_KeelHouseModel_Ship _ _, rfl⟩
theorem mt_707 : mi 707 = mi_707 := rfl
theorem cf_708 : CalF mi_708 := ⟨W5244, by decide⟩
theorem vf_708_38 : ViF mi_708 38 0 := ⟨cf_708, "KeelHouseModel$Ship", kn_38, W5243, QS106, oy_KeelHouseModel_Ship _ _, rfl⟩
theorem mt_708 : mi 708 = mi_708 := rfl
theorem cf_699 : CalF mi_699 := ⟨W5196, by decide⟩
theorem vf_699_38 : ViF mi_699 38 1 := ⟨cf_699, "KeelHouseModel$Ship", kn_38, W5194, W5195, oy_KeelHouseModel_Ship _ _, rfl⟩
theorem mt_699 : mi 699 = mi_699 := rfl
theorem cf_700 : CalF mi_700 := ⟨W5200, by decide⟩
theorem vf_700_38 : ViF mi_700 38 2 := ⟨cf_700, "KeelHouseModel$Ship", kn_38, W5198, W5199, oy_KeelHouseModel_Ship _ _, rfl⟩
theorem mt_700 : mi 700 = mi_700 := rfl
theorem cf_701 : CalF mi_701 := ⟨W5204, by decide⟩
theorem vf_701_38 : ViF mi_701 38 2 := ⟨cf_701, "KeelHouseModel$Ship", kn_38, W5203, QS100, oy_KeelHouseModel_Ship _ _, rfl⟩
theorem mt_701 : mi 701 = mi_701 := rfl
theorem cf_702 : CalF mi_702 := ⟨W5208, by decide⟩
theorem vf_702_38 : ViF mi_702 38 2 := ⟨cf_702, "KeelHouseModel$Ship", kn_38, W5207, QS101, oy_KeelHouseModel_Ship _ _, rfl⟩
theorem mt_702 : mi 702 = mi_702 := rfl
theorem cf_704 : CalF mi_704 := ⟨W5218, by decide⟩
theorem vf_704_38 : ViF mi_704 38 3 := ⟨cf_704, "KeelHouseModel$Ship", kn_38, W5217, QS103, oy_KeelHouseModel_Ship _ _, rfl⟩
theorem mt_704 : mi 704 = mi_704 := rfl
theorem cf_703 : CalF mi_703 := ⟨W5213, by decide⟩
theorem vf_703_38 : ViF mi_703 38 2 := ⟨cf_703, "KeelHouseModel$Ship", kn_38, W5212, QS102, oy_KeelHouseModel_Ship _ _, rfl⟩
theorem mt_703 : mi 703 = mi_703 := rfl
theorem cf_706 : CalF mi_706 := ⟨W5228, by decide⟩
theorem vf_706_38 : ViF mi_706 38 3 := ⟨cf_706, "KeelHouseModel$Ship", kn_38, W5227, QS104, oy_KeelHouseModel_Ship _ _, rfl⟩
theorem mt_706 : mi 706 = mi_706 := rfl
theorem cf_717 : CalF mi_717 := ⟨W5353, by decide⟩
theorem vf_717_38 : ViF mi_717 38 1 := ⟨cf_717, "KeelHouseModel$Ship", kn_38, W5352, QS110, oy_KeelHouseModel_Ship _ _, rfl⟩
theorem mt_717 : mi 717 = mi_717 := rfl
theorem cf_718 : CalF mi_718 := ⟨W5357, by decide⟩
theorem vf_718_38 : ViF mi_718 38 0 := ⟨cf_718, "KeelHouseModel$Ship", kn_38, W5356, QS111, oy_KeelHouseModel_Ship _ _, rfl⟩
theorem mt_718 : mi 718 = mi_718 := rfl
theorem cf_719 : CalF mi_719 := ⟨W5361, by decide⟩
theorem vf_719_38 : ViF mi_719 38 0 := ⟨cf_719, "KeelHouseModel$Ship", kn_38, W5359, W5360, oy_KeelHouseModel_Ship _ _, rfl⟩
theorem mt_719 : mi 719 = mi_719 := rfl
theorem cf_722 : CalF mi_722 := ⟨W5529, by decide⟩
theorem vf_722_38 : ViF mi_722 38 1 := ⟨cf_722, "KeelHouseModel$Ship", kn_38, W5527, W5528, oy_KeelHouseModel_Ship _ _, rfl⟩
theorem mt_722 : mi 722 = mi_722 := rfl
theorem fld_26_0 : FldF 26 0 0 139 ("KeelHouse$Item", "tonnes", "I", true) := ⟨_, rfl, by decide, by decide, by decide, rfl, rfl⟩
theorem fld_26_1 : FldF 26 1 0 140 ("KeelHouse$Item", "compartment", "I", true) := ⟨_, rfl, by decide, by decide, by decide, rfl, rfl⟩
theorem fld_26_2 : FldF 26 2 0 141 ("KeelHouse$Item", "side", "I", true) := ⟨_, rfl, by decide, by decide, by decide, rfl, rfl⟩
theorem fld_26_3 : FldF 26 3 0 142 ("KeelHouse$Item", "up", "I", true) := ⟨_, rfl, by decide, by decide, by decide, rfl, rfl⟩
theorem fld_30_0 : FldF 30 0 3 153 ("KeelHouse$Nest", "kind", "LKeelHouse$Kind;", true) := ⟨_, rfl, by decide, by decide, by decide, rfl, rfl⟩
theorem fld_30_1 : FldF 30 1 0 154 ("KeelHouse$Nest", "along", "I", true) := ⟨_, rfl, by decide, by decide, by decide, rfl, rfl⟩
theorem fld_30_2 : FldF 30 2 0 155 ("KeelHouse$Nest", "across", "I", true) := ⟨_, rfl, by decide, by decide, by decide, rfl, rfl⟩
theorem cf_733 : CalF mi_733 := ⟨W3072, by decide⟩
theorem vf_733_30 : ViF mi_733 30 1 := ⟨cf_733, "KeelHouse$Nest", kn_30, W3071, QS45, oy_KeelHouse_Nest _ _, rfl⟩
theorem mt_733 : mi 733 = mi_733 := rfl
theorem fld_30_3 : FldF 30 3 4 156 ("KeelHouse$Nest", "isAlong", "Z", true) := ⟨_, rfl, by decide, by decide, by decide, rfl, rfl⟩
theorem cf_734 : CalF mi_734 := ⟨W3076, by decide⟩
theorem vf_734_30 : ViF mi_734 30 2 := ⟨cf_734, "KeelHouse$Nest", kn_30, W3075, QS46, oy_KeelHouse_Nest _ _, rfl⟩
theorem mt_734 : mi 734 = mi_734 := rfl
theorem cf_297 : CalF mi_297 := ⟨W3102, by decide⟩
theorem vf_297_4 : ViF mi_297 4 3 := ⟨cf_297, "KeelHouse$Store", kn_4, W3100, W3101, oy_KeelHouse_Store _ _, rfl⟩
theorem fld_31_1 : FldF 31 1 0 158 ("KeelHouse$Offcut", "one", "I", true) := ⟨_, rfl, by decide, by decide, by decide, rfl, rfl⟩
theorem fld_31_2 : FldF 31 2 0 159 ("KeelHouse$Offcut", "other", "I", true) := ⟨_, rfl, by decide, by decide, by decide, rfl, rfl⟩
theorem fld_39_5 : FldF 39 5 3 254 ("KeelHouseModel$Works", "this$0", "LKeelHouseModel;", true) := ⟨_, rfl, by decide, by decide, by decide, rfl, rfl⟩
theorem fld_39_0 : FldF 39 0 3 249 ("KeelHouseModel$Works", "left", "[[I", true) := ⟨_, rfl, by decide, by decide, by decide, rfl, rfl⟩
theorem fld_39_2 : FldF 39 2 3 251 ("KeelHouseModel$Works", "slack", "[[I", true) := ⟨_, rfl, by decide, by decide, by decide, rfl, rfl⟩
theorem fld_39_3 : FldF 39 3 3 252 ("KeelHouseModel$Works", "today", "[[I", true) := ⟨_, rfl, by decide, by decide, by decide, rfl, rfl⟩
theorem fld_39_4 : FldF 39 4 4 253 ("KeelHouseModel$Works", "isReal", "Z", true) := ⟨_, rfl, by decide, by decide, by decide, rfl, rfl⟩
theorem cf_743 : CalF mi_743 := ⟨W5144, by decide⟩
theorem vf_743_39 : ViF mi_743 39 1 := ⟨cf_743, "KeelHouseModel$Works", kn_39, W5143, QS95, oy_KeelHouseModel_Works _ _, rfl⟩
theorem mt_743 : mi 743 = mi_743 := rfl
theorem cf_745 : CalF mi_745 := ⟨W5167, by decide⟩
theorem vf_745_39 : ViF mi_745 39 2 := ⟨cf_745, "KeelHouseModel$Works", kn_39, W5166, QS97, oy_KeelHouseModel_Works _ _, rfl⟩
theorem mt_745 : mi 745 = mi_745 := rfl
theorem cf_744 : CalF mi_744 := ⟨W5159, by decide⟩
theorem vf_744_39 : ViF mi_744 39 2 := ⟨cf_744, "KeelHouseModel$Works", kn_39, W5158, QS96, oy_KeelHouseModel_Works _ _, rfl⟩
theorem mt_744 : mi 744 = mi_744 := rfl
theorem cf_746 : CalF mi_746 := ⟨W5174, by decide⟩
theorem vf_746_39 : ViF mi_746 39 2 := ⟨cf_746, "KeelHouseModel$Works", kn_39, W5173, QS98, oy_KeelHouseModel_Works _ _, rfl⟩
theorem mt_746 : mi 746 = mi_746 := rfl
theorem cf_747 : CalF mi_747 := ⟨W5180, by decide⟩
theorem vf_747_39 : ViF mi_747 39 2 := ⟨cf_747, "KeelHouseModel$Works", kn_39, W5179, QS99, oy_KeelHouseModel_Works _ _, rfl⟩
theorem mt_747 : mi 747 = mi_747 := rfl
theorem fld_33_0 : FldF 33 0 0 166 ("KeelHouse$Buyer", "length", "I", true) := ⟨_, rfl, by decide, by decide, by decide, rfl, rfl⟩
theorem fld_33_1 : FldF 33 1 0 167 ("KeelHouse$Buyer", "speed", "I", true) := ⟨_, rfl, by decide, by decide, by decide, rfl, rfl⟩
theorem fld_33_2 : FldF 33 2 0 168 ("KeelHouse$Buyer", "rules", "I", true) := ⟨_, rfl, by decide, by decide, by decide, rfl, rfl⟩
theorem mt_791 : mi 791 = mi_791 := rfl
theorem cf_791 : CalF mi_791 := ⟨W1652, by decide⟩
theorem ei_791_65_KeelHouse_RuleisOfWater__Z : EiF mi_791 ({ cls := "KeelHouse$Rule", name := "isOfWater", desc := "()Z" } : Jvm.MethodName) 65 0 := ⟨cf_791, "KeelHouse$Rule$8", "KeelHouse$Rule", by decide, W1651, ⟨_, _, rfl⟩, W1642, Or.inr ⟨W1641, _, _, _, W1653⟩, oy_KeelHouse_Rule _ _, W1650, rfl⟩
theorem mt_758 : mi 758 = mi_758 := rfl
theorem cf_758 : CalF mi_758 := ⟨W1653, by decide⟩
theorem ev_758_58 : EvF mi_758 58 0 := ⟨cf_758, "KeelHouse$Rule$7", by decide, W1641, W1649, oy_KeelHouse_Rule _ _, rfl⟩
theorem ev_758_59 : EvF mi_758 59 0 := ⟨cf_758, "KeelHouse$Rule$6", by decide, W1641, W1648, oy_KeelHouse_Rule _ _, rfl⟩
theorem ev_758_60 : EvF mi_758 60 0 := ⟨cf_758, "KeelHouse$Rule$5", by decide, W1641, W1647, oy_KeelHouse_Rule _ _, rfl⟩
theorem ev_758_61 : EvF mi_758 61 0 := ⟨cf_758, "KeelHouse$Rule$4", by decide, W1641, W1646, oy_KeelHouse_Rule _ _, rfl⟩
theorem ev_758_62 : EvF mi_758 62 0 := ⟨cf_758, "KeelHouse$Rule$3", by decide, W1641, W1645, oy_KeelHouse_Rule _ _, rfl⟩
theorem ev_758_63 : EvF mi_758 63 0 := ⟨cf_758, "KeelHouse$Rule$2", by decide, W1641, W1644, oy_KeelHouse_Rule _ _, rfl⟩
theorem ev_758_64 : EvF mi_758 64 0 := ⟨cf_758, "KeelHouse$Rule$1", by decide, W1641, W1643, oy_KeelHouse_Rule _ _, rfl⟩
theorem mt_792 : mi 792 = mi_792 := rfl
theorem cf_792 : CalF mi_792 := ⟨W1714, by decide⟩
theorem ei_792_65_KeelHouse_RuleisKept_LKeelHouse_Ship__Z : EiF mi_792 ({ cls := "KeelHouse$Rule", name := "isKept", desc := "(LKeelHouse$Ship;)Z" } : Jvm.MethodName) 65 1 := ⟨cf_792, "KeelHouse$Rule$8", "KeelHouse$Rule", by decide, W1713, ⟨_, _, rfl⟩, W1657, Or.inl W1656, oy_KeelHouse_Rule _ _, W1712, rfl⟩
theorem mt_790 : mi 790 = mi_790 := rfl
theorem cf_790 : CalF mi_790 := ⟨W1708, by decide⟩
theorem ei_790_58_KeelHouse_RuleisKept_LKeelHouse_Ship__Z : EiF mi_790 ({ cls := "KeelHouse$Rule", name := "isKept", desc := "(LKeelHouse$Ship;)Z" } : Jvm.MethodName) 58 1 := ⟨cf_790, "KeelHouse$Rule$7", "KeelHouse$Rule", by decide, W1707, ⟨_, _, rfl⟩, W1657, Or.inl W1656, oy_KeelHouse_Rule _ _, W1706, rfl⟩
theorem mt_789 : mi 789 = mi_789 := rfl
theorem cf_789 : CalF mi_789 := ⟨W1703, by decide⟩
theorem ei_789_59_KeelHouse_RuleisKept_LKeelHouse_Ship__Z : EiF mi_789 ({ cls := "KeelHouse$Rule", name := "isKept", desc := "(LKeelHouse$Ship;)Z" } : Jvm.MethodName) 59 1 := ⟨cf_789, "KeelHouse$Rule$6", "KeelHouse$Rule", by decide, W1702, ⟨_, _, rfl⟩, W1657, Or.inl W1656, oy_KeelHouse_Rule _ _, W1701, rfl⟩
theorem mt_788 : mi 788 = mi_788 := rfl
theorem cf_788 : CalF mi_788 := ⟨W1678, by decide⟩
theorem ei_788_60_KeelHouse_RuleisKept_LKeelHouse_Ship__Z : EiF mi_788 ({ cls := "KeelHouse$Rule", name := "isKept", desc := "(LKeelHouse$Ship;)Z" } : Jvm.MethodName) 60 1 := ⟨cf_788, "KeelHouse$Rule$5", "KeelHouse$Rule", by decide, W1677, ⟨_, _, rfl⟩, W1657, Or.inl W1656, oy_KeelHouse_Rule _ _, W1676, rfl⟩
theorem mt_787 : mi 787 = mi_787 := rfl
theorem cf_787 : CalF mi_787 := ⟨W1674, by decide⟩
theorem ei_787_61_KeelHouse_RuleisKept_LKeelHouse_Ship__Z : EiF mi_787 ({ cls := "KeelHouse$Rule", name := "isKept", desc := "(LKeelHouse$Ship;)Z" } : Jvm.MethodName) 61 1 := ⟨cf_787, "KeelHouse$Rule$4", "KeelHouse$Rule", by decide, W1673, ⟨_, _, rfl⟩, W1657, Or.inl W1656, oy_KeelHouse_Rule _ _, W1672, rfl⟩
theorem mt_786 : mi 786 = mi_786 := rfl
theorem cf_786 : CalF mi_786 := ⟨W1670, by decide⟩
theorem ei_786_62_KeelHouse_RuleisKept_LKeelHouse_Ship__Z : EiF mi_786 ({ cls := "KeelHouse$Rule", name := "isKept", desc := "(LKeelHouse$Ship;)Z" } : Jvm.MethodName) 62 1 := ⟨cf_786, "KeelHouse$Rule$3", "KeelHouse$Rule", by decide, W1669, ⟨_, _, rfl⟩, W1657, Or.inl W1656, oy_KeelHouse_Rule _ _, W1668, rfl⟩
theorem mt_785 : mi 785 = mi_785 := rfl
theorem cf_785 : CalF mi_785 := ⟨W1664, by decide⟩
theorem ei_785_63_KeelHouse_RuleisKept_LKeelHouse_Ship__Z : EiF mi_785 ({ cls := "KeelHouse$Rule", name := "isKept", desc := "(LKeelHouse$Ship;)Z" } : Jvm.MethodName) 63 1 := ⟨cf_785, "KeelHouse$Rule$2", "KeelHouse$Rule", by decide, W1663, ⟨_, _, rfl⟩, W1657, Or.inl W1656, oy_KeelHouse_Rule _ _, W1662, rfl⟩
theorem mt_784 : mi 784 = mi_784 := rfl
theorem cf_784 : CalF mi_784 := ⟨W1660, by decide⟩
theorem ei_784_64_KeelHouse_RuleisKept_LKeelHouse_Ship__Z : EiF mi_784 ({ cls := "KeelHouse$Rule", name := "isKept", desc := "(LKeelHouse$Ship;)Z" } : Jvm.MethodName) 64 1 := ⟨cf_784, "KeelHouse$Rule$1", "KeelHouse$Rule", by decide, W1659, ⟨_, _, rfl⟩, W1657, Or.inl W1656, oy_KeelHouse_Rule _ _, W1658, rfl⟩
theorem fld_34_1 : FldF 34 1 0 177 ("KeelHouse$Port", "east", "I", true) := ⟨_, rfl, by decide, by decide, by decide, rfl, rfl⟩
theorem fld_34_2 : FldF 34 2 0 178 ("KeelHouse$Port", "north", "I", true) := ⟨_, rfl, by decide, by decide, by decide, rfl, rfl⟩
theorem fld_35_0 : FldF 35 0 0 180 ("KeelHouse$Lot", "number", "I", true) := ⟨_, rfl, by decide, by decide, by decide, rfl, rfl⟩
theorem cf_16 : CalF mi_16 := ⟨W3917, by decide⟩
theorem vf_16_5 : ViF mi_16 5 2 := ⟨cf_16, "java/util/ArrayList", kn_5, W3915, W3916, oy_java_util_ArrayList _ _, rfl⟩
theorem cf_207 : CalF mi_207 := ⟨W1838, by decide⟩
theorem sf_207 : StF mi_207 2 := ⟨cf_207, W1837, W130, oy_KeelHouse _ _, rfl⟩
