/-! ===== the machine throws over a native's frame (notify by one who holds no monitor): the library's steps over a method's own frame, turned to any frames ===== -/
def ov (W : State) (base below : List Frame) : Prop := W.status = .running ∧ W.curStatus? = some .runnable ∧ W.alone = true ∧ W.cur < W.threads.size ∧ ∃ mid, base = mid ++ below
section OV
variable {p : Program} {e : Env} {below base : List Frame} {W target : State}
theorem ov_in (h : ov W base below) (a str : Addr) {m : MethodId} {meth : Method} {code : Code} (hm : W.vm.method? m = some meth) (hc : meth.code = some code) (hplain : W.plainMethod m) :
    At ((W.setFrames (.thenThrow a :: base)).pushFrame (.java (passJ m a (.ref str) 0 []))) m code below ∧ ((W.setFrames (.thenThrow a :: base)).pushFrame (.java (passJ m a (.ref str) 0 []))).frames = .java (passJ m a (.ref str) 0 []) :: .thenThrow a :: base := by
  obtain ⟨h1, h2, h3, h4, mid, rfl⟩ := h
  have hf : (W.setFrames (.thenThrow a :: (mid ++ below))).frames = .thenThrow a :: (mid ++ below) := State.frames_setFrames _ h4
  have hcur := State.cur_lt_of_frames hf
  refine ⟨At.pushOn _ ⟨h1, by simpa using h2, by simpa using h3⟩ hcur ⟨.thenThrow a :: mid, by rw [hf]; rfl⟩ hm hc hplain, ?_⟩
  rw [State.pushFrame, State.frames_setFrames _ hcur, hf]
theorem ov_ret (h : ov W base below) (hexec : p.tables.exec = Jvm.exec) {H : State → State} (hH : HeapOnly H) (a str : Addr) {m : MethodId} {meth : Method} {code : Code}
    (hm : W.vm.method? m = some meth) (hc : meth.code = some code) (hplain : W.plainMethod m) (hl : meth.locks = false) (h5 : decode code.code 5 = .ok (.return_, 1))
    (hrest : Steps p.tables e below ((H W).setFrames (.throwing a :: base)) target) :
    Steps p.tables e below ((H ((W.setFrames (.thenThrow a :: base)).pushFrame (.java (passJ m a (.ref str) 0 [])))).setTop (passJ m a (.ref str) 5 [])) target := by
  obtain ⟨hI, hfI⟩ := ov_in h a str hm hc hplain
  obtain ⟨-, -, -, h4, mid, hmid⟩ := h
  have hB : At (H ((W.setFrames (.thenThrow a :: base)).pushFrame (.java (passJ m a (.ref str) 0 [])))) m code below := hH.at_ hI
  jvm_step hB [hexec, h5, return_.wp_sem]
  intro acts2
  have hfH : (H ((W.setFrames (.thenThrow a :: base)).pushFrame (.java (passJ m a (.ref str) 0 [])))).frames = .java (passJ m a (.ref str) 0 []) :: .thenThrow a :: base := by rw [hH.frames]; exact hfI
  rw [ret_to (t := H ((W.setFrames (.thenThrow a :: base)).pushFrame (.java (passJ m a (.ref str) 0 [])))) (f := passJ m a (.ref str) 5 []) (f₀ := passJ m a (.ref str) 0 []) (below := .thenThrow a :: base) (fs := .thenThrow a :: base) (meth := meth) hfH (by rw [hH.vm]; exact hm) hl rfl rfl rfl acts2]
  have hcurH := State.cur_lt_of_frames hfH
  have hf1 : ((H ((W.setFrames (.thenThrow a :: base)).pushFrame (.java (passJ m a (.ref str) 0 [])))).setFrames (.thenThrow a :: base)).frames = .thenThrow a :: base := State.frames_setFrames _ hcurH
  refine Steps.head ⟨hB.running, by simpa using hB.runnable, by simpa using hB.alone⟩ ⟨.thenThrow a :: mid, by rw [hf1, hmid]; rfl, by simp, by simp⟩ ?_
  rw [stepThread_thenThrow hf1]
  have hHI : ∀ F, (H ((W.setFrames (.thenThrow a :: base)).pushFrame (.java (passJ m a (.ref str) 0 [])))).setFrames F = (H W).setFrames F := by
    intro F
    rw [State.pushFrame, hH.setFrames, hH.setFrames, State.setFrames_setFrames, State.setFrames_setFrames]
  show Steps p.tables e below (((H ((W.setFrames (.thenThrow a :: base)).pushFrame (.java (passJ m a (.ref str) 0 [])))).setFrames (.thenThrow a :: base)).setFrames (.throwing a :: base)) target
  rw [State.setFrames_setFrames, hHI]
  exact hrest
theorem ov.vm {s₀ : State} (h : ov W base below) {vm1 : Vm} : ov (W.setVm vm1) base below := h
theorem ov_ctor {s₀ : State} (h : ov W base below) (hexec : p.tables.exec = Jvm.exec) {H : State → State} (hH : HeapOnly H) (P1 : PassC) (L1 : P1.LinksS e.platform s₀) (hW : s₀.WarmedH W.vm) (a str : Addr)
    (hroom : e.platform.stackFull (((W.setFrames (.thenThrow a :: base)).threads[(W.setFrames (.thenThrow a :: base)).cur]?).getD { frames := [] }) (W.setFrames (.thenThrow a :: base)).frames 2 = false)
    (hsup : ∀ vm1, s₀.WarmedH vm1 → At (((W.setVm vm1).setFrames (.thenThrow a :: base)).pushFrame (.java (passJ P1.m a (.ref str) 0 []))) P1.m P1.code below → ∃ vm2, s₀.WarmedH vm2 ∧ ∀ t' : State,
      Steps p.tables e below ((H (((W.setVm vm2).setFrames (.thenThrow a :: base)).pushFrame (.java (passJ P1.m a (.ref str) 0 [])))).setTop (passJ P1.m a (.ref str) 5 [])) t' →
      Steps p.tables e below (doInvoke e ((((W.setVm vm1).setFrames (.thenThrow a :: base)).pushFrame (.java (passJ P1.m a (.ref str) 0 []))).setTop (passJ P1.m a (.ref str) 2 [])) [] P1.sup #[.ref a, .ref str]).1 t') :
    ∃ vm', s₀.WarmedH vm' ∧ ∀ target, Steps p.tables e below ((H (W.setVm vm')).setFrames (.throwing a :: base)) target → Steps p.tables e below (doInvoke e (W.setFrames (.thenThrow a :: base)) [] P1.m #[.ref a, .ref str]).1 target := by
  have hmW := hW.methodAt L1.method
  obtain ⟨hI, hfI⟩ := ov_in h a str hmW L1.code (hW.plainAt L1.plain)
  obtain ⟨vm1, hW1, st1⟩ := Steps.invokeInitCold (tb := p.tables) (s₀ := s₀) (U := ((W.setFrames (.thenThrow a :: base)).pushFrame (.java (passJ P1.m a (.ref str) 0 [])))) (f := passJ P1.m a (.ref str) 2 [.ref str, .ref a]) (args := [.ref str]) (rest := []) (a := a) hI hexec L1.at2 hW L1.links L1.right L1.notHandle L1.cls L1.file L1.pool
    L1.supClass L1.supMethod L1.supName L1.supStatic L1.supAbstract L1.supFound L1.supParams.symm rfl
  obtain ⟨vm2, hW2, st2⟩ := hsup vm1 hW1 (hI.setVm (hW.alike.symm.trans hW1.alike))
  refine ⟨vm2, hW2, fun target hrest => ?_⟩
  rw [(doInvoke_java (s := (W.setFrames (.thenThrow a :: base))) (e := e) (acts := []) (args := #[.ref a, .ref str]) (meth := P1.meth) (code := P1.code) hmW L1.code L1.locks (by rw [L1.locals]; exact hroom)).1, L1.locals]
  show Steps p.tables e below ((W.setFrames (.thenThrow a :: base)).pushFrame (.java (passJ P1.m a (.ref str) 0 []))) target
  rw [← State.setTop_self (s := ((W.setFrames (.thenThrow a :: base)).pushFrame (.java (passJ P1.m a (.ref str) 0 [])))) (State.topJava?_of_frames hfI)]
  jvm_step hI [hexec, L1.at0, Value.isRef]
  jvm_step hI [hexec, L1.at1, Value.isRef]
  refine st1 target (st2 target ?_)
  exact ov_ret (W := W.setVm vm2) h hexec hH a str (hW2.methodAt L1.method) L1.code (hW2.plainAt (U := W.setVm vm2) L1.plain) L1.locks L1.at5 hrest
set_option maxHeartbeats 1000000 in
/-- after vx_vmAt, over a native's frame, with the heap's exact size -/
theorem nt_vmAt {p : Program} {l : Launch} {e : Env} {R : Room} {s : State} {m₀ : MethodId} {args : Array Value} {below : List Frame} {meth : Method} {c : Code} {W : State} {locs : List Loc} {cells slots : Nat}
    (X : Stand p l e R s m₀ args below meth c W locs cells slots) (hexec : p.tables.exec = Jvm.exec) (htr : e.platform.stackTraces = false) {cls : String} {names : List String} {text : String}
    (hcls : Bundle.fit cls = true) (hnames : ∀ n ∈ names, Bundle.fit n = true) (hsoe : (cls == "java/lang/StackOverflowError") = false) (hoom : (cls == "java/lang/OutOfMemoryError") = false)
    (h : ∀ a ∈ Bundle.messageArmAtoms cls names, a.before args s = true)
    (hlocs : ∀ x ∈ locs, ∀ cell, s.heap[x.base]? = some cell → cell.vm.isStatics = false)
    (htext : (text == notModelled) = false) (hlimit : ¬ (stringBytes (stringToUtf16 text)).size > e.platform.arrayLengthLimit) (hheap : ¬ (stringBytes (stringToUtf16 text)).size * componentBytes .byte > e.platform.maxHeapBytes)
    {g : JFrame} (hg : g.method = m₀) (hsize : g.locals.size = c.maxLocals) {nf : NFrame} (hnf : nf.words = 0)
    (hRframes : names.length + 5 < R.frames) (hRlocals : 2 * g.monitorRoom + (g.stack.map fun v => v.category).sum + 10240 ≤ R.locals) (hshort : 13 * names.length + 55 ≤ 10240)
    (hRcells : cells + 3 ≤ R.cells) (hRslots : slots + ((stringBytes (stringToUtf16 text)).size + 4 + 6) ≤ R.slots) (hlocks : meth.locks = false) :
    ∃ (S : State) (q : Addr) (ce : Cell), (∀ target, Steps p.tables e below (S.setFrames (.throwing q :: .native nf :: .java g :: below)) target → Steps p.tables e below (W.setFrames (.throwNew cls (some text) none :: .native nf :: .java g :: below)) target) ∧
      Stand p l e R s m₀ args below meth c S locs (cells + 3) (slots + ((stringBytes (stringToUtf16 text)).size + 4 + 6)) ∧ S.heap.size = W.heap.size + 3 ∧ S.heap[q]? = some ce ∧ s.vm.findClass cls = some ce.cls ∧ ce.vm = .none := by
  have howns : e.platform.frameOwnsMonitors = true := by rw [X.admits.platform]
  have hfin : e.platform.finalization = false := by rw [X.admits.platform]
  have hpl : e.platform.magicAccessors = ({} : Platform).magicAccessors := by rw [X.admits.platform]
  have a : ∀ x, x ∈ Bundle.messageArmAtoms cls names → x.holds args s none s [] = true := fun x hx => h x hx
  obtain ⟨T, Z0, L, -, Y⟩ := ThrowableC.of_atoms (args := args) howns hfin hpl (fun x hx => h x (by simp [Bundle.messageArmAtoms, hx]))
  obtain ⟨Z, M, LZ, LM, hnZ⟩ := Init0T.ofS_atoms (args := args) hpl L Y (fun x hx => h x (by simp [Bundle.messageArmAtoms, hx]))
  obtain ⟨P1, Ps, hlen, L1, hL, hP1m, hlink1, hlink⟩ := Bundle.chainS (args := args) hpl hnZ names cls hcls hnames (fun x hx => h x (by simp [Bundle.messageArmAtoms, hx]))
  obtain ⟨Zs, LZs, hn4, hfitv, hfitc⟩ := StringT.of_atoms (args := args) (fun x hx => h x (by simp [Bundle.messageArmAtoms, hx]))
  have hfound : s.vm.findClass cls = some P1.m.cls := findClass_of_methodNamed hP1m
  obtain ⟨c1, kX, hc1, hk, hord, -, -, hn6⟩ := Cond.instantiable_spec (a (.instantiable cls 6) (by simp [Bundle.messageArmAtoms]))
  cases Option.some.inj (hc1.symm.trans hfound)
  have hinit := Cond.initialized_spec hfound hk (a (.initialized cls) (by simp [Bundle.messageArmAtoms]))
  have hctor : kX.findMethod "<init>" "(Ljava/lang/String;)V" = some P1.m.idx := findMethod_of_methodNamed hP1m hk
  have hsel0 : selectMethod e.platform s.vm P1.m.cls T.fill0 = .method T.fill0 := by
    obtain ⟨c2, r2, m2, q1, q2, q3, q4, -⟩ := Cond.selects_spec (a (.selects cls Bundle.tFill0 Bundle.tFill0) (by simp [Bundle.messageArmAtoms]))
    cases Option.some.inj (q1.symm.trans hfound)
    cases Option.some.inj (q2.symm.trans (State.methodFound?_of_named Y.fill0 (by decide)))
    cases Option.some.inj (q3.symm.trans Y.fill0)
    rw [Launch.admits_selectMethod X.admits]; exact q4
  have hselF : selectMethod e.platform s.vm P1.m.cls T.fill = .method T.fill := by
    obtain ⟨c2, r2, m2, q1, q2, q3, q4, -⟩ := Cond.selects_spec (a (.selects cls Bundle.tFill Bundle.tFill) (by simp [Bundle.messageArmAtoms]))
    cases Option.some.inj (q1.symm.trans hfound)
    cases Option.some.inj (q2.symm.trans (State.methodFound?_of_named Y.fill (by decide)))
    cases Option.some.inj (q3.symm.trans Y.fill)
    rw [Launch.admits_selectMethod X.admits]; exact q4
  obtain ⟨cellS0, hcS0, hiss⟩ := Y.statics
  obtain ⟨u0, hu0⟩ := Cond.staticRefV Y.unassigned L.unassignedStatic L.statics hcS0 hiss (a (.isRef (.static Bundle.tN "UNASSIGNED_STACK" Bundle.steD)) (by simp [Bundle.messageArmAtoms]))
  obtain ⟨sen, hsen⟩ := Cond.staticRefV Y.sentinel L.sentinelStatic L.statics hcS0 hiss (a (.isRef (.static Bundle.tN "SUPPRESSED_SENTINEL" Bundle.listD)) (by simp [Bundle.messageArmAtoms]))
  obtain ⟨ci198, i198, fB, hk198, hg198, ha198, hsB, -, hnB, htB, hffB⟩ := Cond.ownField (t := .object "java/lang/Object") Y.found L.cls (by decide +kernel) (a (.fieldLink Bundle.tN 198 Bundle.tN "backtrace" "Ljava/lang/Object;") (by simp [Bundle.messageArmAtoms])) (a (.lays Bundle.tN Bundle.tN "backtrace" "Ljava/lang/Object;") (by simp [Bundle.messageArmAtoms])) e.platform hpl
  obtain ⟨cellS, hcS', heS, -, hkeep⟩ := X.same.2.2.2.2.2 T.aS cellS0 hcS0
  have hcellS : W.heap[T.aS]? = some cellS := hcS'
  have hout' : ∀ i, (⟨T.aS, i⟩ : Loc) ∉ locs := fun i hmem => by
    have := hlocs _ hmem cellS0 hcS0
    rw [hiss] at this; cases this
  have hknownS : cellS.vm ≠ .unknown := by
    rw [heS]; intro hu
    rw [show cellS0.vm = .unknown from hu] at hiss
    cases hiss
  have hvU : cellS.slots[T.fUnassigned.slot]? = some u0.v := by rw [hkeep _ (hout' _)]; exact hu0
  have hvSen : cellS.slots[T.fSentinel.slot]? = some sen.v := by rw [hkeep _ (hout' _)]; exact hsen
  obtain ⟨iM, hffM⟩ := Y.msg
  obtain ⟨tyC, dC, hdC, hdnC⟩ := Cond.laysAt hfound hk Y.cause (a (.lays cls Bundle.tN "cause" "Ljava/lang/Throwable;") (by simp [Bundle.messageArmAtoms]))
  obtain ⟨tyS, dS, hdS, hdnS⟩ := Cond.laysAt hfound hk Y.stack (a (.lays cls Bundle.tN "stackTrace" Bundle.steD) (by simp [Bundle.messageArmAtoms]))
  obtain ⟨tyP, dP, hdP, hdnP⟩ := Cond.laysAt hfound hk Y.supp (a (.lays cls Bundle.tN "suppressedExceptions" Bundle.listD) (by simp [Bundle.messageArmAtoms]))
  obtain ⟨tyM, dM, hdM, hdnM⟩ := Cond.laysAt hfound hk hffM (a (.lays cls Bundle.tN "detailMessage" "Ljava/lang/String;") (by simp [Bundle.messageArmAtoms]))
  obtain ⟨tyB, dB, hdB, hdnB⟩ := Cond.laysAt hfound hk hffB (a (.lays cls Bundle.tN "backtrace" "Ljava/lang/Object;") (by simp [Bundle.messageArmAtoms]))
  have bC := Cond.laysApart hdB hdC hdnB hdnC (by rw [hnB, Y.causeName]; decide)
  have bS := Cond.laysApart hdB hdS hdnB hdnS (by rw [hnB, Y.stackName]; decide)
  have bP := Cond.laysApart hdB hdP hdnB hdnP (by rw [hnB, Y.suppName]; decide)
  have hbk : ((preparedCellV T.toThrowableT (freshCell P1.m.cls kX) (W.heap.size + 2) u0 sen).withEntry W.cur).slots[fB.slot]? = some .null := by
    have := fresh_default (c := P1.m.cls) tyB
    rw [htB] at this
    simpa [preparedCellV, Cell.setSlot, Cell.withEntry, Array.getElem?_setIfInBounds, bC, bS, bP, bC.symm, bS.symm, bP.symm, defaultValue] using this
  have tkC := Takes.of_laid (v := .ref (W.heap.size + 2)) hk hord tyC (by rw [Y.causeType]; rfl)
  have tkS := Takes.of_laid (v := u0.v) hk hord tyS (by rw [Y.stackType]; exact fits_refV_array _ u0)
  have tkP := Takes.of_laid (v := sen.v) hk hord tyP (by rw [Y.suppType]; exact fits_refV_object _ sen)
  have tkM := Takes.of_laid (v := .ref (W.heap.size + 1)) hk hord tyM (by rw [Y.msgType]; rfl)
  have hskip : SkipFacts T e.platform s (fun u => u) u0 ((preparedCellV T.toThrowableT (freshCell P1.m.cls kX) (W.heap.size + 2) u0 sen).withEntry W.cur) := ⟨{ ci198 := ci198, i198 := i198, fBack := fB }, ⟨hk198, hg198, ha198, hsB⟩, hbk, fun _ _ => rfl⟩
  obtain ⟨g₀, hfW⟩ := X.frames_eq
  have hcurW : W.cur < W.threads.size := State.cur_lt_of_frames hfW
  have hov : ov W (.native nf :: .java g :: below) below := ⟨X.here.running, X.here.runnable, X.here.alone, hcurW, [.native nf, .java g], rfl⟩
  have hA := X.stackAbove hsize hRlocals
  rw [X.tail] at hA
  have hlight : (stackUse (.native nf :: .java g :: below)).2 = (stackUse (.java g :: below)).2 := by rw [stackUse_light (.native nf) _ (fun f hf => by cases hf) hnf]
  have hbF : ∀ F : List Frame, ((((W.setFrames F).threads[W.cur]?).map (·.stackBytes)).getD 0) = W.me.stackBytes := fun F => by
    rw [← State.stackBytes_setFrames W F]
    exact State.stackBytes_me (W.setFrames F)
  have hlimit2 : (e.platform.stackLimits W.me).2 = (e.platform.limitsFor W.me.stackBytes).2 := rfl
  have hbeyond : e.platform.stackBeyond ((((W.setFrames (.throwNew cls (some text) none :: .native nf :: .java g :: below)).threads[W.cur]?).map (·.stackBytes)).getD 0) (W.setFrames (.throwNew cls (some text) none :: .native nf :: .java g :: below)).frames = false ∧
      e.platform.vmThrowRoom ≤ e.platform.stackFree ((((W.setFrames (.throwNew cls (some text) none :: .native nf :: .java g :: below)).threads[W.cur]?).map (·.stackBytes)).getD 0) (W.setFrames (.throwNew cls (some text) none :: .native nf :: .java g :: below)).frames := by
    rw [hbF, State.frames_setFrames _ hcurW, Launch.admits_vmThrowRoom X.admits]
    unfold Platform.stackBeyond Platform.stackFree
    rw [stackUse_light _ _ (fun f hf => by cases hf) rfl, hlight]
    exact ⟨decide_eq_false (by omega), by omega⟩
  have hlenB : W.frames.length = below.length + 1 := by rw [hfW]; rfl
  have hfr' : below.length + 2 + Ps.length + 4 < (e.platform.stackLimits W.me).1 := by have := X.framesAbove hRframes; omega
  have hwd' : (stackUse (.native nf :: .java g :: below)).2 + 13 * Ps.length + 55 ≤ (e.platform.stackLimits W.me).2 := by rw [hlight]; omega
  have hslots : W.slotsUsed + (stringBytes (stringToUtf16 text)).size + Zs.kS.instanceTypes.size + kX.instanceTypes.size ≤ e.platform.maxSlots := by
    have := X.slotsAbove hRslots
    rw [hn4, hn6]
    omega
  have hW := X.warmed
  obtain ⟨kX', hk', he'⟩ := hW.alike.2.2 _ _ hk
  have hty : kX'.instanceTypes = kX.instanceTypes := by rw [he']
  have hfresh : freshCell P1.m.cls kX' = (freshCell P1.m.cls kX) := by
    show ({ cls := P1.m.cls, slots := kX'.instanceTypes.map defaultValue, vm := .none } : Cell) = _
    rw [hty]
  obtain ⟨kS', kB', LZ', htyS⟩ := LZs.warmer hW.alike
  have hsame9 : withThrown W { Zs with kS := kS', kB := kB' } text P1.m.cls kX' = (withThrown W Zs text P1.m.cls kX) := by
    rw [← withThrown_warmer W Zs (kB' := kB') htyS text P1.m.cls kX]
    show (withString W _ _ _ _ _ _).pushCell (freshCell P1.m.cls kX') = (withString W _ _ _ _ _ _).pushCell (freshCell P1.m.cls kX)
    rw [hfresh]
  have hfs : W.fitsSlot = s.fitsSlot := (show W.fitsSlot = (s.setVm W.vm).fitsSlot from rfl).trans (State.fitsSlot_setVm hW.alike)
  obtain ⟨w1, w2, -, w4', w5, -, w7⟩ := withThrown_facts e.platform W Zs text P1.m.cls kX
  have hltS : T.aS < W.heap.size := (Array.getElem?_eq_some_iff.mp hcellS).1
  have hovT : ov (withThrown W Zs text P1.m.cls kX) (.native nf :: .java g :: below) below := by
    have hAt : At (withThrown W Zs text P1.m.cls kX) g.method c below := by
      have h9 : At W g.method c below := by rw [hg]; exact X.here
      simpa [withThrown, withString] using h9
    exact ⟨hAt.running, hAt.runnable, hAt.alone, State.cur_lt_of_frames (w2.trans hfW), [.native nf, .java g], rfl⟩
  have hTcur : (withThrown W Zs text P1.m.cls kX).cur = W.cur := by simp [withThrown, withString]
  have hTW : s.WarmedH (withThrown W Zs text P1.m.cls kX).vm := by rw [w1]; exact hW
  have hTlim : e.platform.stackLimits (withThrown W Zs text P1.m.cls kX).me = e.platform.stackLimits W.me := w7
  have hroom : e.platform.stackFull ((((withThrown W Zs text P1.m.cls kX).setFrames (.thenThrow (W.heap.size + 2) :: .native nf :: .java g :: below)).threads[((withThrown W Zs text P1.m.cls kX).setFrames (.thenThrow (W.heap.size + 2) :: .native nf :: .java g :: below)).cur]?).getD { frames := [] }) ((withThrown W Zs text P1.m.cls kX).setFrames (.thenThrow (W.heap.size + 2) :: .native nf :: .java g :: below)).frames 2 = false :=
    roomAbove (pl := e.platform) (u := (withThrown W Zs text P1.m.cls kX).setFrames (.thenThrow (W.heap.size + 2) :: .native nf :: .java g :: below)) (vars := 2) (pushed := [.thenThrow (W.heap.size + 2)]) (base := .native nf :: .java g :: below) (free := 13 * Ps.length + 55) (lim := e.platform.stackLimits W.me) (State.frames_setFrames _ hovT.2.2.2.1) (by rw [State.stackLimits_setFrames]; exact hTlim)
      (by simp only [List.length_cons, List.length_nil]; omega) (by omega) (by rw [stackUse_light _ _ (fun f hf => by cases hf) rfl, stackUse_nil]; show 0 + 2 + 11 ≤ _; omega)
  obtain ⟨vm', hW', st0⟩ := ov_ctor (p := p) (e := e) (s₀ := s) hovT hexec (H := fun u => u.setCell (W.heap.size + 2) ((((preparedCellV T.toThrowableT (freshCell P1.m.cls kX) (W.heap.size + 2) u0 sen).withEntry W.cur).setSlot T.fStack.slot u0.v).left.setSlot T.fMsg.slot (.ref (W.heap.size + 1)))) (heapOnly_id.thenSetCell (W.heap.size + 2) _) P1 L1 hTW (W.heap.size + 2) (W.heap.size + 1) hroom (fun vm1 hW1 hI1 => by
    rw [hlink1]
    obtain ⟨-, hfI⟩ := ov_in (W := (withThrown W Zs text P1.m.cls kX).setVm vm1) hovT (W.heap.size + 2) (W.heap.size + 1) (hW1.methodAt L1.method) L1.code (hW1.plainAt (U := (withThrown W Zs text P1.m.cls kX).setVm vm1) L1.plain)
    have hXvm : ∀ w, ((((withThrown W Zs text P1.m.cls kX).setVm vm1).setFrames (.thenThrow (W.heap.size + 2) :: .native nf :: .java g :: below)).pushFrame (.java (passJ P1.m (W.heap.size + 2) (.ref (W.heap.size + 1)) 0 []))).setVm w = ((((withThrown W Zs text P1.m.cls kX).setVm w).setFrames (.thenThrow (W.heap.size + 2) :: .native nf :: .java g :: below)).pushFrame (.java (passJ P1.m (W.heap.size + 2) (.ref (W.heap.size + 1)) 0 []))) := fun w => by rw [State.pushFrame_setVm, State.setFrames_setVm, State.setVm_twice]
    have hXlim : e.platform.stackLimits ((((withThrown W Zs text P1.m.cls kX).setVm vm1).setFrames (.thenThrow (W.heap.size + 2) :: .native nf :: .java g :: below)).pushFrame (.java (passJ P1.m (W.heap.size + 2) (.ref (W.heap.size + 1)) 0 []))).me = e.platform.stackLimits W.me := by rw [State.stackLimits_pushFrame, State.stackLimits_setFrames]; exact hTlim
    have hXc : ((((withThrown W Zs text P1.m.cls kX).setVm vm1).setFrames (.thenThrow (W.heap.size + 2) :: .native nf :: .java g :: below)).pushFrame (.java (passJ P1.m (W.heap.size + 2) (.ref (W.heap.size + 1)) 0 []))).heap[W.heap.size + 2]? = some (freshCell P1.m.cls kX) := w4'
    have hXS : ((((withThrown W Zs text P1.m.cls kX).setVm vm1).setFrames (.thenThrow (W.heap.size + 2) :: .native nf :: .java g :: below)).pushFrame (.java (passJ P1.m (W.heap.size + 2) (.ref (W.heap.size + 1)) 0 []))).heap[T.aS]? = some cellS := (w5 _ hltS).trans hcellS
    have hXcur : ((((withThrown W Zs text P1.m.cls kX).setVm vm1).setFrames (.thenThrow (W.heap.size + 2) :: .native nf :: .java g :: below)).pushFrame (.java (passJ P1.m (W.heap.size + 2) (.ref (W.heap.size + 1)) 0 []))).cur = W.cur := hTcur
    obtain ⟨vm2, hW2, st⟩ := Steps.initThrowableSColdByV p (V := (((withThrown W Zs text P1.m.cls kX).setVm vm1).setFrames (.thenThrow (W.heap.size + 2) :: .native nf :: .java g :: below)).pushFrame (.java (passJ P1.m (W.heap.size + 2) (.ref (W.heap.size + 1)) 0 []))) (g := passJ P1.m (W.heap.size + 2) (.ref (W.heap.size + 1)) 2 []) (c := P1.code) (self := W.heap.size + 2) hI1 hexec T L Z LZ M LM hW1 hXcur
      (Nn := fun u => u) heapOnly_id (fun _ _ => rfl) (fun _ => rfl) (fun u x y => setCell_twice _ _ _ _) (fun _ => Nat.le_refl _) (msg := .ref (W.heap.size + 1)) rfl (cell := freshCell P1.m.cls kX) (cellS := cellS) (cN := ((preparedCellV T.toThrowableT (freshCell P1.m.cls kX) (W.heap.size + 2) u0 sen).withEntry W.cur)) hXc (by intro k hk'; cases hk') (by intro hk'; cases hk') rfl hsel0 hXS (Nat.ne_of_lt (Nat.lt_of_lt_of_le hltS (Nat.le_add_right _ 2))) hknownS hvU tkS
      (fun _ hu => hu) (fun _ hu => hu) rfl rfl rfl (by simp [preparedCellV, Cell.setSlot, Cell.withEntry]) hskip (fun _ _ hA hW _ hroom _ hrest => L.nativeOff p htr hA hW hroom hrest) hselF hvSen tkC tkP tkM Y.objLocals Ps hL hlink (ig := .invokespecial P1.index) (len := 3) [] hXlim
      (by rw [hfI]; simp only [List.length_cons]; omega)
      (by rw [hfI, List.tail_cons, stackUse_java, stackUse_light _ _ (fun f hf => by cases hf) rfl]
          show (stackUse (.native nf :: .java g :: below)).2 + (2 + 11 + 2 * 0 + operandWords []) + 13 * Ps.length + 42 ≤ _
          simp only [operandWords, List.foldl_nil]
          omega)
      L1.at2
    exact ⟨vm2, hW2, fun t' h' => st t' (by rw [hXvm]; exact h')⟩)
  have st : ∀ target, Steps p.tables e below ((((withThrown W Zs text P1.m.cls kX).setVm vm').setCell (W.heap.size + 2) ((((preparedCellV T.toThrowableT (freshCell P1.m.cls kX) (W.heap.size + 2) u0 sen).withEntry W.cur).setSlot T.fStack.slot u0.v).left.setSlot T.fMsg.slot (.ref (W.heap.size + 1)))).setFrames (.throwing (W.heap.size + 2) :: .native nf :: .java g :: below)) target → Steps p.tables e below (W.setFrames (.throwNew cls (some text) none :: .native nf :: .java g :: below)) target := by
    intro target hrest
    have hf0 : (W.setFrames (.throwNew cls (some text) none :: .native nf :: .java g :: below)).frames = .throwNew cls (some text) none :: .native nf :: .java g :: below := State.frames_setFrames _ hcurW
    refine Steps.head ⟨X.here.running, by simpa using X.here.runnable, by simpa using X.here.alone⟩ ⟨[.throwNew cls (some text) none, .native nf, .java g], hf0, by simp, by simp⟩ ?_
    have hfv9 : W.fitsSlot Zs.cS .none Zs.fv.slot (.ref W.heap.size) = true := by rw [hfs]; exact hfitv _
    have hfc9 : W.fitsSlot Zs.cS .none Zs.fc.slot (.int (stringCoder (stringToUtf16 text))) = true := by rw [hfs]; exact hfitc _
    rw [stepThread_throwNew hf0, stepThrowNew_message (s := W.setFrames (.throwNew cls (some text) none :: .native nf :: .java g :: below)) (c := P1.m.cls) (k := kX') (i := P1.m.idx) { Zs with kS := kS', kB := kB' } LZ' hsoe hoom (by show W.vm.findClass cls = _; rw [hW.alike.findClass]; exact hfound) hk' (by rw [he']; exact hinit) (by rw [he']; exact hord)
      (Launch.admits_hotImplicitExceptions X.admits) hbeyond.1 hbeyond.2 htext (by rw [he']; exact hctor) hlimit hheap (X.cellsAbove hRcells) (by show W.slotsUsed + _ + kS'.instanceTypes.size + kX'.instanceTypes.size ≤ _; rw [htyS, hty]; exact hslots) hfv9 hfc9]
    have hN9 : (withThrown (W.setFrames (.throwNew cls (some text) none :: .native nf :: .java g :: below)) { Zs with kS := kS', kB := kB' } text P1.m.cls kX').setFrames (.thenThrow ((W.setFrames (.throwNew cls (some text) none :: .native nf :: .java g :: below)).heap.size + 2) :: .native nf :: .java g :: below) = (withThrown W Zs text P1.m.cls kX).setFrames (.thenThrow (W.heap.size + 2) :: .native nf :: .java g :: below) := by
      rw [withThrown_setFrames, State.setFrames_setFrames, hsame9]
      rfl
    rw [hN9]
    exact st0 target hrest
  rw [plainBareV_eq T.toThrowableT (W.heap.size + 2) u0 sen (.ref (W.heap.size + 1)) W.cur rfl rfl] at st
  obtain ⟨-, -, w3, w4, -, -, -⟩ := withThrown_facts e.platform W Zs text P1.m.cls kX
  have X3 := ((X.pushed (bytesOf Zs.cB (stringToUtf16 text))).pushed (stringAt Zs.cS Zs.kS Zs.fv Zs.fc (stringToUtf16 text) W.heap.size)).pushed (freshCell P1.m.cls kX)
  rw [← withString_eq] at X3
  have X4 := X3.noted hW'
  have ha : (W.heap.size + 2) < ((withThrown W Zs text P1.m.cls kX).setVm vm').heap.size := by show _ < (withThrown W Zs text P1.m.cls kX).heap.size; rw [w3]; omega
  have hcell : ((withThrown W Zs text P1.m.cls kX).setVm vm').heap[(W.heap.size + 2)]? = some (freshCell P1.m.cls kX) := w4
  have X5 := ((((X4.stored hcell T.fCause.slot (.ref (W.heap.size + 2))).storedAgain ha T.fStack.slot u0.v).storedAgain ha T.fSupp.slot sen.v).storedAgain ha T.fStack.slot u0.v).storedAgain ha T.fMsg.slot (.ref (W.heap.size + 1))
  have b1 : (bytesOf Zs.cB (stringToUtf16 text)).slots.size = (stringBytes (stringToUtf16 text)).size := by
    rw [(Cell.writeAll_facts _ _).2.2]; simp [bytes0]
  have b2 : (stringAt Zs.cS Zs.kS Zs.fv Zs.fc (stringToUtf16 text) W.heap.size).slots.size = 4 := by simp [string0, Cell.setSlot, hn4]
  have b3 : (freshCell P1.m.cls kX).slots.size = 6 := by simp [hn6]
  rw [b1, b2, b3] at X5
  have e9 : slots + (stringBytes (stringToUtf16 text)).size + 4 + 6 = slots + ((stringBytes (stringToUtf16 text)).size + 4 + 6) := by omega
  rw [e9] at X5
  simp only [List.append_assoc, List.cons_append, List.nil_append] at X5
  refine ⟨((withThrown W Zs text P1.m.cls kX).setVm vm').setCell (W.heap.size + 2) (plainBareV T.toThrowableT (freshCell P1.m.cls kX) (W.heap.size + 2) u0 sen (.ref (W.heap.size + 1))), W.heap.size + 2, _, fun target ht => st _ ht,
    X5.forget (fun y hy => ?_), ?_, heapAt_setCell_self _ ha, hfound, rfl⟩
  rotate_left
  · show (((withThrown W Zs text P1.m.cls kX).setVm vm').setCell _ _).heap.size = _
    simp only [State.setCell]
    rw [Array.size_setIfInBounds]
    exact w3
  simp only [List.mem_cons, List.not_mem_nil, or_false] at hy
  have hge : s.heap.size ≤ W.heap.size := X.same.2.1
  rcases hy with rfl | rfl | rfl | rfl | rfl <;> exact Nat.le_trans hge (Nat.le_add_right _ 2)
end OV
