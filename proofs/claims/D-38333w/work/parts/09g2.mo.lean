/-! ===== Math.abs, max, min of doubles: the machine runs rows in their place ===== -/
section MO
variable {p : Program} {l : Launch} {e : Env} {R : Room} {s : State} {m : MethodId} {args : Array Value} {below : List Frame} {meth : Method} {c : Code} {H : Heap} {locs : List Loc} {cells slots : Nat} {cc : ByteArray} {own : String} {pc nL : Nat}
theorem mo_ov {tb : Tables} {s : State} {f : JFrame} {k : Class} {x : Method} {row : NativeRow} (h0 : f.pc = 0) (h1 : s.vm.classes[f.method.cls]? = some k) (h2 : k.name = "java/lang/Math") (h3 : k.loader = none) (h4 : k.methods[f.method.idx]? = some x) (h5 : NativeRow.find? tb.natives k.name x.name x.desc = some row) : overridden tb e s f = some row := by
  have h6 : overriddenIn.contains k.name = true := by rw [h2]; decide
  unfold overridden
  rw [h0, h1]
  simp [h3, h4, h5]
  intro h
  exact absurd (by rw [h2]; decide) h
theorem mo_no {a : UInt64} (h : isN a) : FP.dIsNaN a = false := by
  have h1 : (a &&& 0x7fffffffffffffff).toNat ≤ 9218868437227405312 := UInt64.le_iff_toNat_le.mp h
  rw [UInt64.toNat_and] at h1
  have h2 : a.toNat &&& (0x7fffffffffffffff : UInt64).toNat = a.toNat % 2 ^ 63 := Nat.and_two_pow_sub_one_eq_mod _ 63
  rw [h2] at h1
  show decide (FP.Core.decode FP.Core.b64 a.toNat = .nan) = false
  rw [decide_eq_false_iff_not]
  intro hq
  have e1 : FP.Core.fieldE FP.Core.b64 a.toNat = a.toNat / 4503599627370496 % 2048 := rfl
  have e2 : FP.Core.fieldT FP.Core.b64 a.toNat = a.toNat % 4503599627370496 := rfl
  have e3 : FP.Core.b64.exps - 1 = 2047 := rfl
  unfold FP.Core.decode at hq
  rw [e1, e2, e3] at hq
  split at hq
  · split at hq
    · exact absurd hq (by simp)
    · omega
  · split at hq <;> exact absurd hq (by simp)
def mo_abs : NativeRow := (NativeRow.find? Native.java_lang_Math.nans.rows "java/lang/Math" "abs" "(D)D").get (by decide +kernel)
def mo_max : NativeRow := (NativeRow.find? Native.java_lang_Math.nans.rows "java/lang/Math" "max" "(DD)D").get (by decide +kernel)
def mo_min : NativeRow := (NativeRow.find? Native.java_lang_Math.nans.rows "java/lang/Math" "min" "(DD)D").get (by decide +kernel)
set_option maxRecDepth 100000 in
theorem mo_absR (p : Program) : NativeRow.find? p.tables.natives "java/lang/Math" "abs" "(D)D" = some mo_abs := by cases p <;> rfl
set_option maxRecDepth 100000 in
theorem mo_maxR (p : Program) : NativeRow.find? p.tables.natives "java/lang/Math" "max" "(DD)D" = some mo_max := by cases p <;> rfl
set_option maxRecDepth 100000 in
theorem mo_minR (p : Program) : NativeRow.find? p.tables.natives "java/lang/Math" "min" "(DD)D" = some mo_min := by cases p <;> rfl
theorem mo_ran {t : Sem (Option Value)} {v : Option Value} {S : State} (h : wpRun t (fun w s2 _ => w = v ∧ s2 = S) (fun _ _ _ => False) e S) : ∃ a, t.run e S = .ok v S a := by
  have h' := (wpRun_iff_run _ _ _ _ _).mp h
  cases hr : t.run e S with
  | ok w s2 a => rw [hr] at h'; obtain ⟨rfl, rfl⟩ := h'; exact ⟨_, rfl⟩
  | ctl x s2 a => rw [hr] at h'; cases x <;> exact h'.elim
theorem mo_absG {a : UInt64} (ha : isN a) (S : State) : ∃ acts, (mo_abs.sem #[.double a]).run e S = .ok (some (.double (a &&& 0x7fffffffffffffff))) S acts := by
  apply mo_ran
  have h1 : mo_abs.sem #[.double a] = (do
      let r ← anyNaN64 (a &&& 0x7fffffffffffffff)
      mark "nat.java_lang_Math.abs"
      Pure.pure (some (.double r))) := rfl
  have h2 : (a &&& 0x7fffffffffffffff) &&& 0x7fffffffffffffff ≤ 0x7ff0000000000000 := by rw [UInt64.and_assoc, UInt64.and_self]; exact ha
  rw [h1]
  simp [jvm, wpRun, anyNaN64, h2]
theorem mo_maxG {a b : UInt64} (ha : isN a) (hb : isN b) (S : State) : ∃ acts, (mo_max.sem #[.double a, .double b]).run e S = .ok (some (.double (Native.java_lang_Math.nans.pick64 true a b))) S acts := by
  apply mo_ran
  have h1 : mo_max.sem #[.double a, .double b] = (do
      let r ← if FP.dIsNaN a then anyNaN64 a else if FP.dIsNaN b then anyNaN64 b else Pure.pure (Native.java_lang_Math.nans.pick64 true a b)
      mark "nat.java_lang_Math.max"
      Pure.pure (some (.double r))) := rfl
  rw [h1]
  simp [jvm, wpRun, mo_no ha, mo_no hb]
theorem mo_minG {a b : UInt64} (ha : isN a) (hb : isN b) (S : State) : ∃ acts, (mo_min.sem #[.double a, .double b]).run e S = .ok (some (.double (Native.java_lang_Math.nans.pick64 false a b))) S acts := by
  apply mo_ran
  have h1 : mo_min.sem #[.double a, .double b] = (do
      let r ← if FP.dIsNaN a then anyNaN64 a else if FP.dIsNaN b then anyNaN64 b else Pure.pure (Native.java_lang_Math.nans.pick64 false a b)
      mark "nat.java_lang_Math.min"
      Pure.pure (some (.double r))) := rfl
  rw [h1]
  simp [jvm, wpRun, mo_no ha, mo_no hb]
def mo_sv : Slot → Option Value
  | .val v => some v
  | _ => none
theorem mo_fm {f : Slot → Option Value} {L : List Slot} (h : ∀ x, f x = mo_sv x) : List.filterMap f L = List.filterMap mo_sv L := by rw [show f = mo_sv from funext h]
/-- one call of a method that a row runs -/
theorem mo_steps {T target : State} {g : JFrame} (h : At T g.method c below) {m2 : MethodId} {k : Class} {x : Method} {cm : Code} {as : List Value} {row : NativeRow} {v : Value} (acts : List Action)
    (hk : T.vm.classes[m2.cls]? = some k) (hx : k.methods[m2.idx]? = some x) (hb : k.loader = none) (hkn : k.name = "java/lang/Math") (hrow : NativeRow.find? p.tables.natives k.name x.name x.desc = some row)
    (hc : x.code = some cm) (hl : x.locks = false) (hst : x.isStatic = true) (hn : x.sig.parameters.length = as.length) (hfull : e.platform.stackFull (((T.setTop g).threads[(T.setTop g).cur]?).getD { frames := [] }) (T.setTop g).frames cm.maxLocals = false)
    (hg : (((entryFrame m2 as.toArray cm.maxLocals).locals.toList.filterMap mo_sv).toArray.extract 0 as.length) = as.toArray)
    (hrun : ∀ S : State, ∃ a, (row.sem as.toArray).run e S = .ok (some v) S a) {ig : Instr} {len : Nat} (hd : decode c.code g.pc = .ok (ig, len))
    (hrest : Steps p.tables e below (T.setTop { g with pc := g.pc + len, stack := v :: g.stack }) target) : Steps p.tables e below (doInvoke e (T.setTop g) acts m2 as.toArray).1 target := by
  obtain ⟨g0, hg0⟩ := Option.isSome_iff_exists.mp h.top
  obtain ⟨r, hr⟩ := State.topJava?_eq_some.mp hg0
  obtain ⟨mid, hmid⟩ := h.above
  have hcur : T.cur < T.threads.size := State.cur_lt_of_frames hr
  have hm : T.vm.method? m2 = some x := by simp [Vm.method?, hk, hx]
  have htop : T.setTop g = T.setFrames (.java g :: r) := State.setTop_of_frames _ hr
  have h1 : (doInvoke e (T.setTop g) acts m2 as.toArray).1 = T.setFrames (.java (entryFrame m2 as.toArray cm.maxLocals) :: .java g :: r) := by
    rw [doInvoke_enter h.top acts hm hc hl hfull, State.pushFrame, State.frames_setTop _ hr, htop, State.setFrames_setFrames, State.setTop_self (State.topJava?_of_frames (State.frames_setFrames _ hcur))]
  have hf1 : (T.setFrames (.java (entryFrame m2 as.toArray cm.maxLocals) :: .java g :: r)).frames = .java (entryFrame m2 as.toArray cm.maxLocals) :: .java g :: r := State.frames_setFrames _ hcur
  have hov : overridden p.tables e (T.setFrames (.java (entryFrame m2 as.toArray cm.maxLocals) :: .java g :: r)) (entryFrame m2 as.toArray cm.maxLocals) = some row := mo_ov (k := k) (x := x) rfl hk hkn hb hx hrow
  have hac : argCount (T.setFrames (.java (entryFrame m2 as.toArray cm.maxLocals) :: .java g :: r)) m2 = as.length := by
    have h9 : ((T.setFrames (.java (entryFrame m2 as.toArray cm.maxLocals) :: .java g :: r)).vm.classes[m2.cls]?.bind fun y => y.methods[m2.idx]?) = some x := by
      show (T.vm.classes[m2.cls]?.bind fun y => y.methods[m2.idx]?) = some x
      rw [hk]; exact hx
    unfold argCount
    rw [h9]
    simp [hst, hn]
  have hco : ∀ F : List Frame, (T.setFrames F).code? g.method = some c := by
    intro F
    have := h.code
    rw [State.code?_eq] at this ⊢
    simpa [State.setFrames] using this
  obtain ⟨a2, hr2⟩ := hrun (T.setFrames (.native { method := m2, args := as.toArray, locked := (entryFrame m2 as.toArray cm.maxLocals).locked } :: .java g :: r))
  have hfs : handOver (T.setFrames (.native { method := m2, args := as.toArray, locked := (entryFrame m2 as.toArray cm.maxLocals).locked } :: .java g :: r)) (some v) (.java g :: r) = some (.java { g with pc := g.pc + len, stack := v :: g.stack } :: r) := by
    simp [handOver, hco, hd, Except.toOption]
  have h2 : (stepThread p.tables e (T.setFrames (.java (entryFrame m2 as.toArray cm.maxLocals) :: .java g :: r))).1 = T.setTop { g with pc := g.pc + len, stack := v :: g.stack } := by
    unfold stepThread
    simp only [hf1, hov]
    have hmm : (entryFrame m2 as.toArray cm.maxLocals).method = m2 := rfl
    rw [hmm, hac, mo_fm (L := (entryFrame m2 as.toArray cm.maxLocals).locals.toList) (fun x => by cases x <;> rfl), hg, State.setFrames_setFrames, hr2]
    show (doReturn e _ _ _).1 = _
    rw [doReturn_native (State.frames_setFrames _ hcur) rfl hfs, State.setFrames_setFrames, ← State.setTop_of_frames _ hr]
  rw [h1]
  refine Steps.head ⟨h.running, by simpa using h.runnable, by simpa using h.alone⟩ ⟨.java (entryFrame m2 as.toArray cm.maxLocals) :: .java g :: mid, by rw [hf1]; rw [hr] at hmid; simp at hmid; simp [hmid], by simp, by simp⟩ ?_
  rw [h2]
  exact hrest
/-- in a walk -/
theorem mo_W {y : MethodName} {bytes : ByteArray} {maxL : Nat} {row : NativeRow} {as rest : List Value} {v : Value} {ls : Array Slot} {Q : State → Prop} {idx : Nat} (hx : p.tables.exec = Jvm.exec) (hb : c.code = cc) (hml : c.maxLocals = ls.size) (hown : s.vm.findClass own = some m.cls)
    (hl : (Cond.methodLink own idx y).before args s = true) (hst : (Cond.static y).before args s = true) (hi : (Cond.initialized y.cls).before args s = true) (hc : (Cond.code y bytes maxL (some .double)).before args s = true) (hy : y.cls = "java/lang/Math")
    (hrow : NativeRow.find? p.tables.natives "java/lang/Math" y.name y.desc = some row) (hn : ∀ sig, parseMethodDescriptor y.desc = some sig → as.length = sig.parameters.length)
    (hg : ∀ m2, (((entryFrame m2 as.toArray maxL).locals.toList.filterMap mo_sv).toArray.extract 0 as.length) = as.toArray)
    (hrun : ∀ S : State, ∃ a, (row.sem as.toArray).run e S = .ok (some v) S a) (hR : 1 ≤ R.frames) (hw : (rest.map fun v => v.category).sum + (maxL + 11) ≤ R.locals) (hd : decode cc pc = .ok (.invokestatic idx, 3))
    (k : W p l e R s m args below meth c H locs cells slots Q (F0 m (pc + 3) ls (v :: rest))) : W p l e R s m args below meth c H locs cells slots Q (F0 m pc ls (as.reverse ++ rest)) := by
  intro T hT X
  obtain ⟨mk, hnamed⟩ := Cond.code_named hc
  obtain ⟨methM, cM, hmethM, hcM, -, hlM, -, hlockM, -, hsigM⟩ := Cond.code_spec hnamed hc
  have hstatic : methM.isStatic = true := Cond.static_spec hnamed hmethM hst
  obtain ⟨kP, hkP, hkname⟩ := className_of_methodNamed hnamed
  have hinitP : kP.init = .initialized := Cond.initialized_spec (findClass_of_methodNamed hnamed) hkP hi
  obtain ⟨vm1, X1, hstep⟩ := X.invokestatic hx hown hl hnamed hmethM hstatic hkP hinitP (by rw [hy]; decide) (g := F0 m pc ls (as.reverse ++ rest)) rfl (argsL := as) (rest := rest) (hn _ hsigM) rfl (by rw [hb]; exact hd)
  have hnamed1 := X1.named hnamed
  obtain ⟨methN, cN, hmethN, hcN, -, hlN, -, hlockN, -, hsigN⟩ := Cond.code_spec hnamed1 (Cond.tabsOnly_warm (args' := args) (T := T.setVm vm1) X1.warmed _ rfl hc)
  have hstN : methN.isStatic = true := Cond.static_spec hnamed1 hmethN (Cond.tabsOnly_warm (args' := args) (T := T.setVm vm1) X1.warmed _ rfl hst)
  obtain ⟨kN, hkN, hknN⟩ := className_of_methodNamed hnamed1
  obtain ⟨hnn, hdn⟩ := name_of_methodNamed hnamed1 hmethN
  have hbootN : kN.loader = none := Vm.bootOf_findClass (findClass_of_methodNamed hnamed1) hkN
  have hxN : kN.methods[mk.idx]? = some methN := by
    have h9 := hmethN
    unfold Vm.method? at h9
    rw [hkN] at h9
    exact h9
  obtain ⟨t, a1, b1⟩ := k (T.setVm vm1) hT X1
  refine ⟨t, hstep _ fun acts => ?_, b1⟩
  refine mo_steps (c := c) (g := { F0 m pc ls (as.reverse ++ rest) with stack := rest }) (ig := .invokestatic idx) (len := 3) X1.here acts hkN hxN hbootN (hknN.trans hy) (by rw [hknN, hnn, hdn, hy]; exact hrow) hcN hlockN hstN (hn _ hsigN).symm ?_ (by rw [hlN]; exact hg mk) hrun (by rw [hb]; exact hd) a1
  exact X1.notFull (g := { F0 m pc ls (as.reverse ++ rest) with stack := rest }) (by rw [hml]) hR (by rw [hlN]; show 2 * 0 + (rest.map fun v => v.category).sum + _ ≤ _; omega)
variable {D : Gh} {mc ms : Nat} {L : Loc_} {st : List AV} {M : Mem} {r : Out × Mem}
abbrev moN : Nat → MethodName
  | 0 => ⟨"java/lang/Math", "abs", "(D)D"⟩
  | 1 => ⟨"java/lang/Math", "max", "(DD)D"⟩
  | _ => ⟨"java/lang/Math", "min", "(DD)D"⟩
abbrev moL : Nat → Nat
  | 0 => 2
  | _ => 4
theorem moN_cls (op : Nat) : (moN op).cls = "java/lang/Math" := by unfold moN; split <;> rfl
theorem mo_snd (hx : p.tables.exec = Jvm.exec) (hb : c.code = cc) (hml : c.maxLocals = nL) (hown : s.vm.findClass own = some m.cls) (K : K0 D s) (hR : 1 ≤ R.frames ∧ 40 ≤ R.locals) {idx op : Nat} {bytes : ByteArray} (hl : Cond.methodLink own idx (moN op) ∈ lw_tbl) (hw : Cond.static (moN op) ∈ lw_tbl ∧ Cond.initialized "java/lang/Math" ∈ lw_tbl ∧ Cond.code (moN op) bytes (moL op) (some .double) ∈ lw_tbl) (hd : decode cc pc = .ok (.invokestatic idx, 3)) (hst : (st.map ab_ca).sum ≤ 8) {row : NativeRow} {as : List AV} {v : UInt64}
    (hrow : NativeRow.find? p.tables.natives "java/lang/Math" (moN op).name (moN op).desc = some row) (hn : ∀ sig, parseMethodDescriptor (moN op).desc = some sig → (as.map ab_cv).length = sig.parameters.length)
    (hg : ∀ m2, (((entryFrame m2 (as.map ab_cv).toArray (moL op)).locals.toList.filterMap mo_sv).toArray.extract 0 (as.map ab_cv).length) = (as.map ab_cv).toArray) (hrun : ∀ S : State, ∃ a, (row.sem (as.map ab_cv).toArray).run e S = .ok (some (.double v)) S a)
    (k : Sd p l e R s m args below meth c D mc ms nL (pc + 3) L (vD v :: st) M r) : Sd p l e R s m args below meth c D mc ms nL pc L (as.reverse ++ st) M r := by
  intro H locs cells slots ls hH hS hl' h1 h2
  have kk := k H locs cells slots ls hH hS hl' h1 h2
  rw [List.map_append, List.map_reverse]
  have h40 : (((st.map ab_cv).map fun v => v.category).sum) + (moL op + 11) ≤ R.locals := by
    rw [map_sum]
    have : moL op ≤ 4 := by unfold moL; split <;> omega
    omega
  exact mo_W hx hb (by rw [hml]; exact hl'.1.symm) hown (K.1 _ hl rfl args) (K.1 _ hw.1 rfl args) (by rw [moN_cls]; exact K.1 _ hw.2.1 rfl args) (K.1 _ hw.2.2 rfl args) (moN_cls op) hrow hn hg hrun hR.1 h40 hd kk
theorem mo_par1 {d : String} (h : parseMethodDescriptor d = some { parameters := [.double], returnType := some .double }) {v : Value} : ∀ sig, parseMethodDescriptor d = some sig → [v].length = sig.parameters.length := fun sig hs => by
  rw [h] at hs
  cases hs
  rfl
theorem mo_par2 {d : String} (h : parseMethodDescriptor d = some { parameters := [.double, .double], returnType := some .double }) {v w : Value} : ∀ sig, parseMethodDescriptor d = some sig → [v, w].length = sig.parameters.length := fun sig hs => by
  rw [h] at hs
  cases hs
  rfl
theorem abs_snd (hx : p.tables.exec = Jvm.exec) (hb : c.code = cc) (hml : c.maxLocals = nL) (hown : s.vm.findClass own = some m.cls) (K : K0 D s) (hR : 1 ≤ R.frames ∧ 40 ≤ R.locals) {idx : Nat} {bytes : ByteArray} (hl : Cond.methodLink own idx (moN 0) ∈ lw_tbl) (hw : Cond.static (moN 0) ∈ lw_tbl ∧ Cond.initialized "java/lang/Math" ∈ lw_tbl ∧ Cond.code (moN 0) bytes (moL 0) (some .double) ∈ lw_tbl) (hd : decode cc pc = .ok (.invokestatic idx, 3)) (hst : (st.map ab_ca).sum ≤ 8) {x : UInt64} (hn : isN x)
    (k : Sd p l e R s m args below meth c D mc ms nL (pc + 3) L (vD (dAbs x) :: st) M r) : Sd p l e R s m args below meth c D mc ms nL pc L (vD x :: st) M r := by
  rw [dAbs_e] at k
  exact mo_snd (op := 0) (as := [vD x]) hx hb hml hown K hR hl hw hd hst (mo_absR p) (mo_par1 (by decide +kernel)) (fun _ => rfl) (mo_absG hn) k
theorem max_snd (hx : p.tables.exec = Jvm.exec) (hb : c.code = cc) (hml : c.maxLocals = nL) (hown : s.vm.findClass own = some m.cls) (K : K0 D s) (hR : 1 ≤ R.frames ∧ 40 ≤ R.locals) {idx : Nat} {bytes : ByteArray} (hl : Cond.methodLink own idx (moN 1) ∈ lw_tbl) (hw : Cond.static (moN 1) ∈ lw_tbl ∧ Cond.initialized "java/lang/Math" ∈ lw_tbl ∧ Cond.code (moN 1) bytes (moL 1) (some .double) ∈ lw_tbl) (hd : decode cc pc = .ok (.invokestatic idx, 3)) (hst : (st.map ab_ca).sum ≤ 8) {x y : UInt64} (hn : isN x) (hn2 : isN y)
    (k : Sd p l e R s m args below meth c D mc ms nL (pc + 3) L (vD (dMax x y) :: st) M r) : Sd p l e R s m args below meth c D mc ms nL pc L (vD y :: vD x :: st) M r := by
  rw [dMax_e] at k
  exact mo_snd (op := 1) (as := [vD x, vD y]) hx hb hml hown K hR hl hw hd hst (mo_maxR p) (mo_par2 (by decide +kernel)) (fun _ => rfl) (mo_maxG hn hn2) k
theorem min_snd (hx : p.tables.exec = Jvm.exec) (hb : c.code = cc) (hml : c.maxLocals = nL) (hown : s.vm.findClass own = some m.cls) (K : K0 D s) (hR : 1 ≤ R.frames ∧ 40 ≤ R.locals) {idx : Nat} {bytes : ByteArray} (hl : Cond.methodLink own idx (moN 2) ∈ lw_tbl) (hw : Cond.static (moN 2) ∈ lw_tbl ∧ Cond.initialized "java/lang/Math" ∈ lw_tbl ∧ Cond.code (moN 2) bytes (moL 2) (some .double) ∈ lw_tbl) (hd : decode cc pc = .ok (.invokestatic idx, 3)) (hst : (st.map ab_ca).sum ≤ 8) {x y : UInt64} (hn : isN x) (hn2 : isN y)
    (k : Sd p l e R s m args below meth c D mc ms nL (pc + 3) L (vD (dMin x y) :: st) M r) : Sd p l e R s m args below meth c D mc ms nL pc L (vD y :: vD x :: st) M r := by
  rw [dMin_e] at k
  exact mo_snd (op := 2) (as := [vD x, vD y]) hx hb hml hown K hR hl hw hd hst (mo_minR p) (mo_par2 (by decide +kernel)) (fun _ => rfl) (mo_minG hn hn2) k
end MO
