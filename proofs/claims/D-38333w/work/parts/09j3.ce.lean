/-! ===== Math.ceil: a row that calls StrictMath.ceil ===== -/
abbrev ceN : MethodName := ⟨"java/lang/Math", "ceil", "(D)D"⟩
abbrev ceS : MethodName := ⟨"java/lang/StrictMath", "ceil", "(D)D"⟩
def ce_row : NativeRow := (NativeRow.find? Native.java_lang_Math.nans.rows "java/lang/Math" "ceil" "(D)D").get (by decide +kernel)
set_option maxRecDepth 100000 in
theorem ce_rowR (p : Program) : NativeRow.find? p.tables.natives "java/lang/Math" "ceil" "(D)D" = some ce_row := by cases p <;> rfl
theorem ce_ctl {e : Env} {t : Sem (Option Value)} {q : Control} {S : State} (h : wpRun t (fun _ _ _ => False) (fun x s2 _ => x = q ∧ s2 = S) e S) : ∃ a, t.run e S = .ctl q S a := by
  have h' := (wpRun_iff_run _ _ _ _ _).mp h
  cases hr : t.run e S with
  | ok w s2 a => rw [hr] at h'; exact h'.elim
  | ctl x s2 a => rw [hr] at h'; cases x <;> first | exact h'.elim | (obtain ⟨rfl, rfl⟩ := h'; exact ⟨_, rfl⟩)
theorem ce_call {e : Env} {S : State} {mk : MethodId} {k : Class} {as : Array Value} (hn : S.methodNamed? ceS = some mk) (hk : S.vm.classes[mk.cls]? = some k) (hi : k.init = .initialized) : ∃ a, (ce_row.sem as).run e S = .ctl (.call mk as 1 #[]) S a := by
  apply ce_ctl
  have h1 : ce_row.sem as = (do
      let c ← classNamed "java/lang/StrictMath"
      ensureInit c
      let some i := (← theClass c).findMethod "ceil" "(D)D" | modelBug ("StrictMath lacks " ++ "ceil")
      callThen ⟨c, i⟩ as 1 #[]) := rfl
  have h2 : S.vm.findClass "java/lang/StrictMath" = some mk.cls := findClass_of_methodNamed hn
  have h3 : k.findMethod "ceil" "(D)D" = some mk.idx := by
    unfold State.methodNamed? at hn
    rw [show S.vm.findClass ceS.cls = some mk.cls from h2] at hn
    simp only [Option.bind_eq_bind, Option.bind_some, hk] at hn
    cases h9 : k.findMethod ceS.name ceS.desc with
    | none => rw [h9] at hn; exact absurd hn (by simp)
    | some i => rw [h9] at hn; exact congrArg some (congrArg MethodId.idx (Option.some.inj hn))
  rw [h1]
  simp only [wpRun, wp_bind', W.classNamed_ready h2, W.ensureInit_ready ⟨k, hk, hi⟩, W.theClass, hk, Option.some.injEq, exists_eq_left', h3]
  simp
theorem ce_res {e : Env} {v : UInt64} (hv : isN v) (S : State) : ∃ a, (ce_row.resume 1 #[] (.returned (some (.double v)))).run e S = .ok (some (.double v)) S a := by
  apply mo_ran
  have h1 : ce_row.resume 1 #[] (.returned (some (.double v))) = (do
      let r ← anyNaN64 v
      mark "nat.java_lang_Math.ceil"
      Pure.pure (some (.double r))) := rfl
  have h2 : v &&& 0x7fffffffffffffff ≤ 0x7ff0000000000000 := hv
  rw [h1]
  simp [jvm, wpRun, anyNaN64, h2]
theorem ce_met {l : Launch} {D : Gh} {G : Nat → Option Nat} {iT : XT} {x v : UInt64} {M M' : Mem} {w2 : Cond} {rm1 rm2 : Room} {mc ms : Nat} {free : Addr → Prop} {b1 b2 : ByteArray}
    (hM : nb_Met l ceS [w2] rm2 (PcM D G iT [vD x] M) (Qr D (.inl (some (vD v)), M')) (Xr D (.inl (some (vD v)), M')) mc ms free) (hv : isN v)
    (h2 : w2 = Cond.code ceS b2 2 (some .double)) (hw2 : w2 ∈ lw_tbl) (hst : Cond.static ceN ∈ lw_tbl) (hi : Cond.initialized "java/lang/StrictMath" ∈ lw_tbl)
    (r1 : rm2.frames + 1 ≤ rm1.frames) (r2 : rm2.locals + 1024 ≤ rm1.locals) (r3 : rm2.cells = rm1.cells) (r4 : rm2.slots = rm1.slots) :
    nb_Met l ceN [Cond.code ceN b1 2 (some .double)] rm1 (PcM D G iT [vD x] M) (Qr D (.inl (some (vD v)), M')) (Xr D (.inl (some (vD v)), M')) mc ms free := by
  intro p e ha hc hk s m args below hf hrun hable halone hname hhears hroom hpre hP
  obtain ⟨hA, hK, hH⟩ := id hP
  have hA : args = #[.double x] := hA
  have hcode := hpre _ (List.mem_singleton.mpr rfl)
  obtain ⟨meth, c, hmeth, hcod, -, hlocals, hret, hlocks, -, hsig⟩ := Cond.code_spec hname hcode
  have hstat : meth.isStatic = true := Cond.static_spec hname hmeth (hK.1.1 _ hst rfl args)
  obtain ⟨kM, hkM, hknM⟩ := className_of_methodNamed hname
  obtain ⟨hnn, hdn⟩ := name_of_methodNamed hname hmeth
  have hbootM : kM.loader = none := Vm.bootOf_findClass (findClass_of_methodNamed hname) hkM
  have hxM : kM.methods[m.idx]? = some meth := by
    have h9 := hmeth
    unfold Vm.method? at h9
    rw [hkM] at h9
    exact h9
  have hcode2 : (Cond.code ceS b2 2 (some .double)).before args s = true := by rw [← h2]; exact hK.1.1 _ hw2 (by rw [h2]; rfl) args
  obtain ⟨mk, hn2⟩ := Cond.code_named hcode2
  obtain ⟨meth2, c2, hmeth2, hcod2, -, hlocals2, hret2, hlocks2, -, hsig2⟩ := Cond.code_spec hn2 hcode2
  obtain ⟨k2, hk2, -⟩ := className_of_methodNamed hn2
  have hini2 : k2.init = .initialized := Cond.initialized_spec (findClass_of_methodNamed hn2) hk2 (hK.1.1 _ hi rfl args)
  have hcur := State.cur_lt_of_frames hf
  have hF : ∀ F : List Frame, (s.setFrames F).frames = F := fun F => State.frames_setFrames _ hcur
  obtain ⟨q1, q2, q3, q4⟩ := State.hasRoom_stack hroom
  have q5 := State.hasRoom_real hroom
  have hq := hroom
  simp only [State.hasRoom, Bool.and_eq_true, decide_eq_true_eq] at hq
  rw [State.localsInUse_invoking hf hmeth hcod] at q3 q4 q5
  rw [hf, List.length_cons] at q1 q2
  have hstep1 : (stepThread p.tables e s).1 = s.setFrames (.java (entryFrame m args 2) :: below) := by
    have hfull : e.platform.stackFull (s.setFrames below).me (s.setFrames below).frames c.maxLocals = false := by
      have hw := stackUse_le_stackWeight below
      rw [hF]
      exact Platform.stackFull_eq_false (by rw [State.stackLimits_setFrames]; omega) (by rw [State.stackLimits_setFrames]; omega)
    rw [stepThread_invoking hf, (doInvoke_java (s := s.setFrames below) (e := e) (meth := meth) (code := c) hmeth hcod hlocks hfull).1]
    simp only [State.pushFrame, hF, State.setFrames_setFrames, hlocals, entryFrame]
  have hov : overridden p.tables e (s.setFrames (.java (entryFrame m args 2) :: below)) (entryFrame m args 2) = some ce_row := mo_ov (k := kM) (x := meth) rfl hkM hknM hbootM hxM (by rw [hknM, hnn, hdn]; exact ce_rowR p)
  have hac : argCount (s.setFrames (.java (entryFrame m args 2) :: below)) m = 1 := by
    have h9 : ((s.setFrames (.java (entryFrame m args 2) :: below)).vm.classes[m.cls]?.bind fun y => y.methods[m.idx]?) = some meth := by
      show (s.vm.classes[m.cls]?.bind fun y => y.methods[m.idx]?) = some meth
      rw [hkM]; exact hxM
    unfold argCount
    rw [h9]
    have h8 : parseMethodDescriptor ceN.desc = some { parameters := [.double], returnType := some .double } := by decide +kernel
    have h7 : meth.sig = { parameters := [.double], returnType := some .double } := Option.some.inj (hsig.symm.trans h8)
    simp [hstat, h7]
  have hgv : (((entryFrame m args 2).locals.toList.filterMap mo_sv).toArray.extract 0 1) = args := by rw [hA]; rfl
  obtain ⟨a2, hr2⟩ := ce_call (e := e) (S := s.setFrames (.native { method := m, args := args, locked := (entryFrame m args 2).locked } :: below)) (mk := mk) (k := k2) (as := args) hn2 hk2 hini2
  obtain ⟨wd, hwd⟩ : ∃ wd : Nat, (((s.setFrames (.native { method := m, args := args, locked := (entryFrame m args 2).locked } :: below)).vm.classes[m.cls]?).bind fun k => (k.methods[m.idx]?).map fun n => upcallWords k.name n.name).getD 0 = wd := ⟨_, rfl⟩
  have hwd0 : wd = 0 := by
    rw [← hwd]
    show ((s.vm.classes[m.cls]?).bind fun k => (k.methods[m.idx]?).map fun n => upcallWords k.name n.name).getD 0 = 0
    rw [hkM]
    show ((kM.methods[m.idx]?).map fun n => upcallWords kM.name n.name).getD 0 = 0
    rw [hxM]
    show upcallWords kM.name meth.name = 0
    rw [hknM, hnn]
    decide
  have hstep2 : ∃ acts, (stepThread p.tables e (s.setFrames (.java (entryFrame m args 2) :: below))).1 = (doInvoke e (s.setFrames (.native { method := m, args := args, locked := none, stage := 1, saved := #[], awaiting := true, answer := none, words := 0 } :: below)) acts mk args).1 := by
    unfold stepThread
    simp only [hF, hov]
    have hmm : (entryFrame m args 2).method = m := rfl
    rw [hmm, hac, mo_fm (L := (entryFrame m args 2).locals.toList) (fun x => by cases x <;> rfl), hgv, State.setFrames_setFrames, hr2]
    refine ⟨a2, ?_⟩
    unfold afterNative
    dsimp only
    rw [hwd, hwd0, State.setFrames_setFrames]
    rfl
  obtain ⟨a3, hstep2⟩ := hstep2
  have hroom2 : ((s.setFrames (.native { method := m, args := args, locked := none, stage := 1, saved := #[], awaiting := true, answer := none, words := 0 } :: below)).pushFrame (.invoking mk args)).hasRoom e.platform rm2 = true := by
    rw [State.pushFrame, hF, State.setFrames_setFrames]
    have hU : (s.setFrames (.invoking mk args :: .native { method := m, args := args, locked := none, stage := 1, saved := #[], awaiting := true, answer := none, words := 0 } :: below)).localsInUse = stackWeight below + 1024 + vmFrameWords + (2 + 11) := by
      rw [State.localsInUse_invoking (hF _) (meth := meth2) (c := c2) hmeth2 hcod2, hlocals2, stackWeight_other _ _ (fun f h => by cases h)]
      rfl
    rw [hlocals] at q3 q4 q5
    simp only [State.hasRoom, Bool.and_eq_true, decide_eq_true_eq, hF, hU, List.length_cons, State.stackLimits_setFrames, State.stackBytes_setFrames]
    refine ⟨⟨⟨⟨by omega, by omega, by omega, by omega, by omega, hq.1.1.1.2.2.2.2.2⟩, ?_⟩, ?_⟩, hq.2⟩
    · have := hq.1.1.2
      show s.heap.size + rm2.cells ≤ e.platform.maxCells
      omega
    · have := hq.1.2
      show s.slotsUsed + rm2.slots ≤ e.platform.maxSlots
      omega
  have hPc2 : PcM D G iT [vD x] M args ((s.setFrames (.native { method := m, args := args, locked := none, stage := 1, saved := #[], awaiting := true, answer := none, words := 0 } :: below)).pushFrame (.invoking mk args)) := by
    obtain ⟨h1, h2, h3⟩ := hP
    exact ⟨h1, h2.moved (State.WarmedH.refl s) (Nat.le_refl _) (fun _ _ _ => rfl), h3⟩
  obtain ⟨o, s₂, hsteps, hrun2, hend, hq2⟩ := nb_call hM p ha hc hk (s := s.setFrames (.native { method := m, args := args, locked := none, stage := 1, saved := #[], awaiting := true, answer := none, words := 0 } :: below)) (m := mk) (args := args) (acts := a3) (mid := [.native { method := m, args := args, locked := none, stage := 1, saved := #[], awaiting := true, answer := none, words := 0 }]) (below := below) (hF _) (State.cur_lt_of_frames (hF _)) hrun (by simpa [State.pushFrame] using hable) (by simpa [State.pushFrame] using halone) hn2 (by rw [hF]; rfl) hroom2
    (fun w hw => by rw [List.mem_singleton.mp hw, h2]; exact hcode2) hPc2
  rw [hF] at hend
  rcases hq2 with ⟨hqc, L, hfe, hL⟩ | ⟨q, rfl, E, ce, L, hx, -⟩
  · obtain ⟨⟨v', hv1, rfl⟩, hHR, hva⟩ := hqc
    cases hv1
    obtain ⟨-, hW₂, e2, u2, u3, u4, u5, u6⟩ := id hfe
    have hf2 : s₂.frames = .native { method := m, args := args, locked := none, stage := 1, saved := #[], awaiting := false, answer := some (.returned (some (.double v))), words := 0 } :: below := hend
    have hcur2 : s₂.cur < s₂.threads.size := State.cur_lt_of_frames hf2
    have hW' : s.WarmedH s₂.vm := hW₂
    obtain ⟨k9, hk9, hk9e⟩ := hW'.alike.2.2 _ _ hkM
    have hx9 : k9.methods[m.idx]? = some meth := by rw [hk9e]; exact hxM
    have hb9 : k9.loader = none := by rw [hk9e]; exact hbootM
    have hn9 : k9.name = "java/lang/Math" := by rw [hk9e]; exact hknM
    obtain ⟨fs, hfs⟩ := handOver_isSome (some (.double v)) hhears
    have hfs2 : handOver s₂ (some (.double v)) below = some fs := by
      rw [handOver_of_vm (s := s.setVm s₂.vm) (u := s₂) rfl, handOver_setVm hW'.alike]
      exact hfs
    obtain ⟨a4, hr4⟩ := ce_res (e := e) hv s₂
    have hstep3 : (stepThread p.tables e s₂).1 = s₂.setFrames fs := by
      unfold stepThread
      simp only [hf2, hk9, hx9, hb9, hn9, hnn, hdn, ce_rowR p, Option.bind_eq_bind, Option.bind_some, Option.pure_def, Option.isNone_none, if_true]
      rw [hr4]
      show (doReturn e s₂ a4 (some (.double v))).1 = _
      exact doReturn_native hf2 rfl hfs2
    have e2' : ({ s₂ with vm := s.vm } : State) = { s.setFrames s₂.frames with heap := s₂.heap, slotsUsed := s₂.slotsUsed } := by
      have h9 : ∀ F' : List Frame, ((s.setFrames (.native { method := m, args := args, locked := none, stage := 1, saved := #[], awaiting := true, answer := none, words := 0 } :: below)).pushFrame (.invoking mk args)).setFrames F' = s.setFrames F' := by
        intro F'
        rw [State.pushFrame, State.setFrames_setFrames, State.setFrames_setFrames]
      rw [h9] at e2
      exact e2
    have e3 : s₂ = ({ s.setFrames s₂.frames with heap := s₂.heap, slotsUsed := s₂.slotsUsed } : State).setVm s₂.vm := by
      have h9 : s₂ = ({ s₂ with vm := s.vm } : State).setVm s₂.vm := rfl
      rw [e2'] at h9
      exact h9
    have hgo2 : s₂.curStatus? = some .runnable ∧ s₂.alone = true := by
      rw [e3]
      exact ⟨by show (s.setFrames s₂.frames).curStatus? = _; simpa using hable, by show (s.setFrames s₂.frames).alone = _; simpa using halone⟩
    have hS : Steps p.tables e below s (s₂.setFrames fs) := by
      refine Steps.head ⟨hrun, hable, halone⟩ ⟨[.invoking m args], hf, by simp, by simp⟩ ?_
      rw [hstep1]
      refine Steps.head ⟨hrun, by simpa using hable, by simpa using halone⟩ ⟨[.java (entryFrame m args 2)], hF _, by simp, by simp⟩ ?_
      rw [hstep2]
      refine hsteps.trans ?_
      refine Steps.head ⟨hrun2, hgo2.1, hgo2.2⟩ ⟨[.native { method := m, args := args, locked := none, stage := 1, saved := #[], awaiting := false, answer := some (.returned (some (.double v))), words := 0 }], hf2, by simp, by simp⟩ ?_
      rw [hstep3]
      exact Steps.refl _
    obtain ⟨n, hn, hwi⟩ := hS
    have hne : ∃ y r, below = y :: r ∧ match y with | .java _ | .native _ | .proc _ => True | _ => False := by
      have hh := hhears
      have h0 : (s.vm.method? m).any (fun q => q.sig.returnType.isNone) = false := by rw [hmeth]; simp [hret]
      rcases below with _ | ⟨y, r⟩
      · exact absurd (h0.symm.trans hh) (by decide)
      · refine ⟨y, r, rfl, ?_⟩
        cases y <;> first | exact True.intro | exact absurd (h0.symm.trans hh) (by decide)
    refine ⟨n, .returned (some (.double v)), hwi, ?_, ?_, ?_⟩
    · rw [hn]; exact hrun2
    · rw [hn]; exact ended_of_handOver hfs2 hcur2 (Or.inr hne)
    · rw [hn]
      refine Or.inl ⟨⟨⟨some (vD v), rfl, rfl⟩, hHR, hva⟩, L, ⟨⟨_, rfl⟩, hW', ?_, u2, u3, u4, u5, u6⟩, hL⟩
      show ({ s₂.setFrames fs with vm := s.vm } : State) = { s.setFrames (s₂.setFrames fs).frames with heap := s₂.heap, slotsUsed := s₂.slotsUsed }
      rw [State.frames_setFrames _ hcur2]
      refine (congrArg (fun S : State => S.setFrames fs) e2').trans ?_
      show ({ (s.setFrames s₂.frames).setFrames fs with heap := s₂.heap, slotsUsed := s₂.slotsUsed } : State) = _
      rw [State.setFrames_setFrames]
  · obtain ⟨⟨n, hn, -⟩, -⟩ := hx
    exact absurd hn (by simp)
