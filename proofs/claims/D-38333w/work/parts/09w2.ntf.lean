/-! ===== notify by one who does not hold the monitor: soundness ===== -/
abbrev ntN : MethodName := ⟨"java/lang/Object", "notify", "()V"⟩
abbrev imN : String := "java/lang/IllegalMonitorStateException"
abbrev imU : List String := ["java/lang/RuntimeException", "java/lang/Exception"]
abbrev imT : String := "current thread is not owner"
def nt_row : NativeRow := (NativeRow.find? Native.java_lang_Object.monitor.rows "java/lang/Object" "notify" "()V").get (by decide +kernel)
set_option maxRecDepth 100000 in
theorem nt_rowR (p : Program) : NativeRow.find? p.tables.natives "java/lang/Object" "notify" "()V" = some nt_row := by cases p <;> rfl
theorem nt_ctl {e : Env} {S : State} {a : Addr} {cell : Cell} (hc : S.heap[a]? = some cell) (hm : cell.monitor = {}) : ∃ x, (nt_row.sem #[.ref a]).run e S = .ctl (.throwNew imN (some imT)) S x := by
  apply ce_ctl
  have h1 : nt_row.sem #[.ref a] = (do
        if !(← sync (.holds a)) then Native.java_lang_Object.monitor.notOwner "nat.java_lang_Object.notify/not-owner"
        match ← sync (.waitSet a) with
        | [] => mark "nat.java_lang_Object.notify/nobody"
        | ts@(t :: _) =>
          let pick ← choose .notify
          let u := ts.getD (pick.toNat % ts.length) t
          wakeWaiter a u (ts.filter (· != u))
          mark "nat.java_lang_Object.notify"
        Pure.pure none) := rfl
  rw [h1]
  simp [wpRun, W.sync, SyncOp.full, SyncOp.run, SyncOp.acts, hc, hm, Native.java_lang_Object.monitor.notOwner, W.throwNew]
theorem nt_desc : parseMethodDescriptor ntN.desc = some { parameters := [], returnType := none } := by decide +kernel
section NTF
variable {p : Program} {l : Launch} {e : Env} {R : Room} {s : State} {m : MethodId} {args : Array Value} {below : List Frame} {meth : Method} {c : Code} {locs : List Loc} {cells slots : Nat} {T target : State} {g : JFrame}
/-- the native's frame is laid, its row throws -/
theorem nt_note (h : At T g.method c below) {mk : MethodId} {k : Class} {x : Method} {a : Addr} {cell : Cell} (acts : List Action) (N : NativeOf T.vm mk k x "java/lang/Object" "notify" "()V" false [])
    (hroom : e.platform.stackFull (((T.setTop g).threads[(T.setTop g).cur]?).getD { frames := [] }) (T.setTop g).frames (nativeFrameWords "java/lang/Object" "notify" 1) = false) (hc : T.heap[a]? = some cell) (hm : cell.monitor = {})
    (htail : T.frames.tail = below)
    (hrest : Steps p.tables e below (T.setFrames (.throwNew imN (some imT) none :: .native { method := mk, args := #[.ref a], locked := none } :: .java g :: below)) target) :
    Steps p.tables e below (doInvoke e (T.setTop g) acts mk #[.ref a]).1 target := by
  have hmk : (T.setTop g).vm.method? mk = some x := by
    show T.vm.method? mk = some x
    simp [Vm.method?, N.cls, N.meth]
  have hroom' : e.platform.stackFull (((T.setTop g).threads[(T.setTop g).cur]?).getD { frames := [] }) (T.setTop g).frames (nativeFrameWords ((((T.setTop g).vm.classes[mk.cls]?).map (·.name)).getD "") x.name (operandWords (#[Value.ref a] : Array Value).toList)) = false := by
    have h9 : (((T.setTop g).vm.classes[mk.cls]?).map (·.name)).getD "" = "java/lang/Object" := by
      show ((T.vm.classes[mk.cls]?).map (·.name)).getD "" = "java/lang/Object"
      rw [N.cls]
      exact N.className
    rw [h9, N.name]
    exact hroom
  have hseen : seenByNative x #[.ref a] = #[.ref a] := by simp [seenByNative, N.static, N.sig, narrow]
  rw [(Fast.doInvoke_native (s := T.setTop g) (e := e) (acts := acts) (args := #[.ref a]) hmk N.native N.noCode N.noLock hroom').1, hseen]
  have hfe := frames_entered (g := g) h.top (.native { method := mk, args := #[.ref a], locked := none })
  obtain ⟨mid, hmid⟩ := h.above
  refine Steps.head ⟨h.running, by simpa using h.runnable, by simpa using h.alone⟩ ⟨.native { method := mk, args := #[.ref a], locked := none } :: .java g :: mid, by rw [hfe, hmid]; rfl, by simp, by simp⟩ ?_
  rw [stepThread_native (f := { method := mk, args := #[.ref a], locked := none }) (k := k) (x := x) (row := nt_row) hfe N.cls N.meth N.boot (by rw [N.className, N.name, N.desc]; exact nt_rowR p) rfl]
  obtain ⟨a2, hr⟩ := nt_ctl (e := e) (S := (T.setTop g).pushFrame (.native { method := mk, args := #[.ref a], locked := none })) (a := a) (cell := cell) hc hm
  rw [hr]
  show Steps p.tables e below (((T.setTop g).pushFrame (.native { method := mk, args := #[.ref a], locked := none })).pushFrame (.throwNew imN (some imT) none)) target
  obtain ⟨g₀, hg0⟩ := Option.isSome_iff_exists.mp h.top
  obtain ⟨r, hr0⟩ := State.topJava?_eq_some.mp hg0
  have hr9 : r = below := by rw [hr0] at htail; exact htail
  subst hr9
  have hU9 : ((T.setTop g).pushFrame (.native { method := mk, args := #[.ref a], locked := none })).pushFrame (.throwNew imN (some imT) none) = T.setFrames (.throwNew imN (some imT) none :: .native { method := mk, args := #[.ref a], locked := none } :: .java g :: r) := by
    have h9 : (T.setTop g).pushFrame (.native { method := mk, args := #[.ref a], locked := none }) = T.setFrames (.native { method := mk, args := #[.ref a], locked := none } :: .java g :: r) := by
      rw [State.pushFrame, State.frames_setTop _ hr0, State.setTop_of_frames _ hr0, State.setFrames_setFrames]
    rw [h9, State.pushFrame, State.frames_setFrames _ (State.cur_lt_of_frames hr0), State.setFrames_setFrames]
  rw [hU9]
  exact hrest
/-- what is thrown leaves the native's frame -/
theorem nt_leave {u : State} {q : Addr} {f : NFrame} {r : List Frame} (h1 : u.status = .running) (h2 : u.curStatus? = some .runnable) (h3 : u.alone = true) (hcur : u.cur < u.threads.size) (hr : ∃ mid, r = mid ++ below) (haw : f.awaiting = false) (hl : f.locked = none)
    (hrest : Steps p.tables e below (u.setFrames (.throwing q :: r)) target) : Steps p.tables e below (u.setFrames (.throwing q :: .native f :: r)) target := by
  obtain ⟨mid, hmid⟩ := hr
  have hf : (u.setFrames (.throwing q :: .native f :: r)).frames = .throwing q :: .native f :: r := State.frames_setFrames _ hcur
  refine Steps.head ⟨h1, by simpa using h2, by simpa using h3⟩ ⟨.throwing q :: .native f :: mid, by rw [hf, hmid]; rfl, by simp, by simp⟩ ?_
  have hst : (stepThread p.tables e (u.setFrames (.throwing q :: .native f :: r))).1 = (u.setFrames (.throwing q :: .native f :: r)).setFrames (.throwing q :: r) := by
    unfold stepThread
    simp only [hf]
    unfold stepThrowing
    simp only [haw, Bool.false_eq_true, if_false, hl]
    unfold vmDo
    generalize hr9 : Sem.go _ e false _ (u.setFrames (.throwing q :: .native f :: r)) = res
    obtain ⟨as, rfl, -⟩ := Sem.eq_ok_of hr9 (a := true) (s' := u.setFrames (.throwing q :: .native f :: r)) (acts' := []) (by simp [leaveIfLocked, unmarked, Action.isMark])
    rfl
  rw [hst, State.setFrames_setFrames]
  exact hrest
end NTF
theorem nt_bytes : (stringBytes (stringToUtf16 imT)).size = 27 := by decide +kernel
theorem nt_of {iT : XT} {q : MI} {bp : Nat → Nat} {pc kd b k9 idx E : Nat} {C : String} (hn : KN kd C) (hE : excN E = imN) (hl : Cond.methodLink q.1.cls idx ntN ∈ lw_tbl) (hi : Cond.instanceMethod ntN ∈ lw_tbl) (hs : Cond.selects C ntN ntN ∈ lw_tbl) (hnat : Cond.native ntN ∈ lw_tbl)
    (hat : ∀ w ∈ vx_atM imN imU, w ∈ lw_tbl ∧ stW w = true) (hgood : ∀ w ∈ vx_atM imN imU, vx_ot w = true) (hd : decode q.2.1 pc = .ok (.invokevirtual idx, 3)) (hrk : 12 ≤ q.2.2.2.2.2) (hH9 : Hnd q iT.2 pc E k9 (bp b)) :
    ∀ (p : Program) (l : Launch) (e : Env) (R : Room) (s : State) (m : MethodId) (args : Array Value) (below : List Frame) (meth : Method) (c : Code) (D : Gh) (G : Nat → Option Nat) (mc ms : Nat) (L : Loc_) (st : List AV) (M : Mem) (r : Out × Mem) (a : Nat),
    Ctx p l e R s m meth c D G iT q mc ms → mcl M a = kd → mco M a ≠ 0 → (st.map ab_ca).sum ≤ 8 → mnx M + 3 ≤ mnx r.2 ∧ msl M + 37 ≤ msl r.2 → Sd p l e R s m args below meth c D mc ms q.2.2.1 (bp b) (ldel k9 L) [] (mth M 3 37) r → Sd p l e R s m args below meth c D mc ms q.2.2.1 pc L (vR (some a) :: st) M r := by
  intro p l e R s m args below meth c D G mc ms L st M r a X ha hco hst hmo k
  intro H locs cells slots ls hH hS hl' h1 h2 T hT XT
  obtain ⟨hx, hb, hml, hown, K, hlk, -, -, htab, hRf, hRl, hRc, hRs, htrl⟩ := id X
  obtain ⟨cell, hc, hcr⟩ := hH.at (a := a) (by rw [ha]; exact hn.1)
  have hcls := hn.cls K.1 ha hcr
  obtain ⟨hcv, hcm⟩ := hcr.2.1 hco
  have hcT : T.heap[a]? = some cell := by rw [hT]; exact hc
  have w1 := K.1.1 _ hl rfl args
  have w2 := K.1.1 _ hi rfl args
  have w3 := K.1.1 _ hs rfl args
  have w4 := K.1.1 _ hnat rfl args
  obtain ⟨mk, methM, hnamed, hmethM, hstM, habM⟩ := Cond.instanceMethod_spec w2
  obtain ⟨c2, r2, m2, q1, q2, q3, q4, kP, hkP, hkPi⟩ := Cond.selects_spec w3
  cases hcls.symm.trans q1
  cases (State.methodFound?_of_named hnamed (by decide)).symm.trans q2
  cases hnamed.symm.trans q3
  have hselP : selectMethod e.platform s.vm cell.cls mk = .method mk := by rw [Launch.admits_selectMethod XT.admits]; exact q4
  obtain ⟨kr, hkr, hni⟩ := notFace_of_selects w3 mk hnamed
  obtain ⟨mN, kN, methN, hnamedN, hmethN, hkN, N⟩ := NativeOf.of_instance w4 w2 nt_desc
  cases hnamed.symm.trans hnamedN
  cases hmethM.symm.trans hmethN
  have hmono : ∀ z, cell.vm ≠ .statics z := fun z h9 => by rw [hcv] at h9; cases h9
  obtain ⟨vm₁, X₁, hstep₁⟩ := XT.invokevirtual hx hown w1 hnamed hmethM hstM hkr hni (by decide) (a := a) (cell := cell) hcT hmono hselP hmethM habM hkP hkPi (g := F0 m pc ls ((vR (some a) :: st).map ab_cv)) rfl (argsL := []) (rest := st.map ab_cv) (by rw [N.sig]; rfl) rfl (by rw [hb]; exact hd)
  obtain ⟨kN₁, N₁⟩ := N.alike X₁.warmed.alike
  have hsum : ((st.map ab_cv).map fun v => v.category).sum ≤ 8 := by rw [map_sum]; exact hst
  have hroom := X₁.notFull (g := F0 m pc ls (st.map ab_cv)) (by rw [hml]; exact hl'.1) (vars := nativeFrameWords "java/lang/Object" "notify" 1) (by omega) (by show 2 * 0 + ((st.map ab_cv).map fun v => v.category).sum + _ ≤ _; have hw : nativeFrameWords "java/lang/Object" "notify" 1 = 3 := (by decide); omega)
  have htr : e.platform.stackTraces = false := (show e.platform.stackTraces = l.stackTraces by rw [XT.admits.platform]).trans htrl
  have g1 : cells + 3 ≤ R.cells := by omega
  have g2 : slots + 37 ≤ R.slots := by omega
  have Y := vx_rebase X₁ (R' := { frames := R.frames, locals := R.locals, cells := 3, slots := 37 }) (Nat.le_refl _) (Nat.le_refl _) g1 g2
  have hhp : (((T.setVm vm₁).setVm s.vm).setFrames (.invoking m args :: below)).heap = H := hT
  have hW0 : s.WarmedH (((T.setVm vm₁).setVm s.vm).setFrames (.invoking m args :: below)).vm := State.WarmedH.refl s
  have hat' : ∀ w ∈ vx_atM imN imU, w.before args (((T.setVm vm₁).setVm s.vm).setFrames (.invoking m args :: below)) = true := fun w hw => vx_ot_at hW0 rfl (hgood w hw) (K.1.1 w (hat w hw).1 (hat w hw).2 args)
  have hU' : vx_Zq Bundle.tN "UNASSIGNED_STACK" Bundle.steD (hbA D) (((T.setVm vm₁).setVm s.vm).setFrames (.invoking m args :: below)) (((T.setVm vm₁).setVm s.vm).setFrames (.invoking m args :: below)).heap := by rw [hhp]; exact vx_Zq.moved hW0.alike (K.2.2.2.1.1.kept hS.2.1)
  have hN' : vx_Zq Bundle.tN "SUPPRESSED_SENTINEL" Bundle.listD (hbA D) (((T.setVm vm₁).setVm s.vm).setFrames (.invoking m args :: below)) (((T.setVm vm₁).setVm s.vm).setFrames (.invoking m args :: below)).heap := by rw [hhp]; exact vx_Zq.moved hW0.alike (K.2.2.2.1.2.kept hS.2.1)
  obtain ⟨S, q9, ce, st9, Z, hsz, hce, hcl', hv⟩ := nt_vmAt Y hx htr (cls := imN) (names := imU) (text := imT) (by decide +kernel) (by decide +kernel) (by decide) (by decide) (vx_own hat' (vx_isRefq hU'.1) (vx_isRefq hN'.1) hU'.2.word hN'.2.word) (fun x hx => nomatch hx) (by decide +kernel)
    (by rw [Launch.admits_arrayLengthLimit XT.admits, nt_bytes]; omega) (by rw [Launch.admits_maxHeapBytes XT.admits, nt_bytes]; simp only [componentBytes]; omega)
    (g := F0 m pc ls (st.map ab_cv)) rfl (by rw [hml]; exact hl'.1) (nf := { method := mk, args := #[.ref a], locked := none }) rfl (by show 2 + 5 < R.frames; omega) (by show 2 * 0 + ((st.map ab_cv).map fun v => v.category).sum + 10240 ≤ R.locals; omega) (by decide) (by show 0 + 3 ≤ 3; omega) (by rw [nt_bytes]; show 0 + (27 + 4 + 6) ≤ 37; omega) hlk
  rw [nt_bytes] at Z
  obtain ⟨f1, f2⟩ := vx_frame Z.same
  have hsz' : S.heap.size = H.size + 3 := by rw [← hT]; exact hsz
  have f2' : ∀ q : Nat, q < H.size → S.heap[q]? = H[q]? := fun q hq => by
    rw [← hT]
    exact f2 q (by rw [← hT] at hq; exact hq) (fun z hz => nomatch hz)
  have X5 := vx_back9 X₁ Y Z
  have X6 : Stand p l e R s m args below meth c S locs (cells + 3) (slots + 37) := X5
  have hS6 : va_S (hbA D) s.heap S.heap locs := ⟨by have := hS.1; omega, fun q h1 h2 => (f2' q (Nat.lt_of_lt_of_le h1 hS.1)).trans (hS.2.1 q h1 h2), hS.2.2⟩
  have hcl9 : s.vm.findClass (excN E) = some ce.cls := by rw [hE]; exact hcl'
  obtain ⟨t, a1, b1⟩ := hnd_snd (st := st) X hH9 k (hH.oth (n := 37) hsz' f2') hS6 hl' (by show cells + 3 + _ ≤ mc + (mnx M + 3); omega) (by show slots + 37 + _ ≤ ms + (msl M + 37); omega) hce hv hcl9 S rfl X6
  refine ⟨t, hstep₁ _ fun acts => ?_, b1⟩
  refine nt_note (c := c) (g := F0 m pc ls (st.map ab_cv)) X₁.here acts N₁ hroom (show (T.setVm vm₁).heap[a]? = some cell from hcT) hcm X₁.tail ?_
  refine st9 t ?_
  obtain ⟨g₁, hfrM⟩ := X6.frames_eq
  refine nt_leave X6.here.running X6.here.runnable X6.here.alone (State.cur_lt_of_frames hfrM) ⟨[.java (F0 m pc ls (st.map ab_cv))], rfl⟩ rfl rfl ?_
  have hU : (S.setTop (F0 m pc ls (st.map ab_cv))).pushFrame (.throwing q9) = S.setFrames (.throwing q9 :: .java (F0 m pc ls (st.map ab_cv)) :: below) := by
    rw [State.pushFrame, State.frames_setTop _ hfrM, State.setTop_of_frames _ hfrM, State.setFrames_setFrames]
  rw [← hU]
  exact a1
