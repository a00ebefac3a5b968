/-! ===== soundness: what is known of a state; throw; calls ===== -/
def TZ (D : Gh) (s : State) (H : Heap) : Prop := vx_Zq Bundle.tN "UNASSIGNED_STACK" Bundle.steD (hbA D) s H ∧ vx_Zq Bundle.tN "SUPPRESSED_SENTINEL" Bundle.listD (hbA D) s H
/-- statics that are numbers; classes of which the one is none of the other -/
abbrev XT : Type := List (String × String × String × AV) × List (String × String)
/-- calls that land in an interface's default method -/
def ldT : List (String × MethodName) := [("KeelHouse$Engine", ⟨"KeelHouse$Load", "side", "()D"⟩), ("KeelHouse$Plates", ⟨"KeelHouse$Load", "side", "()D"⟩), ("KeelHouse$Tank", ⟨"KeelHouse$Load", "side", "()D"⟩)]
def LDs (s : State) : Prop := ∀ z ∈ ldT, ∀ A : Array Value, (Cond.landsInDefault z.1 z.2 z.2).before A s = true
theorem LDs.moved {s U : State} (h : LDs s) (hvm : s.vm.Alike U.vm) : LDs U := fun z hz A => by
  have h1 : (Cond.landsInDefault z.1 z.2 z.2).before A (s.setVm U.vm) = true := by
    rw [Cond.landsInDefault_setVm hvm (State.methodFound?_setVm hvm _ _ _)]
    exact h z hz A
  exact h1
def NZ (D : Gh) (iT : XT) (s : State) (H : Heap) : Prop := ∀ q ∈ iT.1, va_Z q.1 q.2.1 q.2.2.1 (ab_cv q.2.2.2) (hbA D) s H
/-- all that is known of a state at a method's start, but memory -/
def SK (D : Gh) (G : Nat → Option Nat) (iT : XT) (s : State) : Prop := K0 D s ∧ AOv s ∧ GR D G s s.heap ∧ TZ D s s.heap ∧ NZ D iT s s.heap ∧ D.2.2.2 ≤ s.heap.size ∧ (∀ z ∈ iT.2, va_Nc z.1 z.2 s) ∧ LDs s
theorem SK.moved {D : Gh} {G : Nat → Option Nat} {iT : XT} {s U : State} (h : SK D G iT s) (hW : s.WarmedH U.vm) (hz : s.heap.size ≤ U.heap.size) (hq : ∀ a : Nat, a < s.heap.size → ¬ hbA D a → U.heap[a]? = s.heap[a]?) : SK D G iT U := by
  obtain ⟨h1, h2, h3, h4, h5, h6, h7, h8⟩ := h
  exact ⟨h1.warm hW, h2.moved hW.alike, h3.moved hW hq, ⟨(h4.1.moved hW.alike).kept hq, (h4.2.moved hW.alike).kept hq⟩, fun q hm => ((h5 q hm).moved hW.alike).kept hq, Nat.le_trans h6 hz, fun q hm => (h7 q hm).moved hW.alike, h8.moved hW.alike⟩
/-- what a callee may ask for -/
def PcM (D : Gh) (G : Nat → Option Nat) (iT : XT) (as : List AV) (M : Mem) : Array Value → State → Prop := fun a U => a = (as.map ab_cv).toArray ∧ SK D G iT U ∧ HR D M U.heap
theorem PcM.blind {D : Gh} {G : Nat → Option Nat} {iT : XT} {as : List AV} {M : Mem} : FrameBlind (PcM D G iT as M) := by
  intro a U g mk h
  obtain ⟨h1, h2, h3⟩ := h
  exact ⟨h1, h2.moved (U := U.calling g mk a) (State.WarmedH.refl U) (Nat.le_refl _) (fun _ _ _ => rfl), h3⟩
section S8
variable {p : Program} {l : Launch} {e : Env} {R : Room} {s : State} {m : MethodId} {args : Array Value} {below : List Frame} {meth : Method} {c : Code} {D : Gh} {mc ms nL : Nat} {pc : Nat} {L : Loc_} {st st' : List AV} {M M' : Mem} {r : Out × Mem} {cc : ByteArray} {own : String} {G : Nat → Option Nat} {iT : XT}
/-- 'throw new E()': with the heap's exact size (after the proof of vx_throw0) -/
theorem thr0 {H : Heap} {locs : List Loc} {cells slots : Nat} {Qc : Array Value → State → Outcome → State → Prop} {XC : String → State → State → Prop} {free : Addr → Prop} {ls : Array Slot} {rest : List Value} {cc : ByteArray} {pc : Nat} (hexec : p.tables.exec = Jvm.exec) (hb : c.code = cc) (hl : l.stackTraces = false) {own cls : String} {names : List String} {ik ic mc ms : Nat} {A : Nat → Prop}
    (hown : s.vm.findClass own = some m.cls) (hcls : Bundle.fit cls = true) (hnames : ∀ n ∈ names, Bundle.fit n = true)
    (hk : (Cond.classLink own ik cls).before args s = true) (hini : (Cond.initialized cls).before args s = true) (hat : ∀ w ∈ vx_at0 own ic cls names, w.before args s = true)
    (hgood : ∀ w ∈ Cond.classLink own ik cls :: Cond.initialized cls :: vx_at0 own ic cls names, vx_ot w = true)
    (hU : vx_Zq Bundle.tN "UNASSIGNED_STACK" Bundle.steD A s s.heap) (hN : vx_Zq Bundle.tN "SUPPRESSED_SENTINEL" Bundle.listD A s s.heap) (hS : va_S A s.heap H locs) (hsize : ls.size = c.maxLocals)
    (d0 : decode cc pc = .ok (.new ik, 3)) (d3 : decode cc (pc + 3) = .ok (.dup, 1)) (d4 : decode cc (pc + 4) = .ok (.invokespecial ic, 3)) (d7 : decode cc (pc + 7) = .ok (.athrow, 1))
    (hout : ∀ x ∈ c.exceptionTable.toList, covers x (pc + 7) = false)
    (hRframes : names.length + 3 < R.frames) (hRlocals : (rest.map fun v => v.category).sum + (13 * (names.length + 1) + 42) ≤ R.locals) (hRcells : cells + 1 ≤ R.cells) (hRslots : slots + 6 ≤ R.slots) (hlocks : meth.locks = false)
    (hx : ∀ t : State, s.vm.Alike t.vm → t.heap.size = H.size + 1 → (∀ q : Nat, q < H.size → t.heap[q]? = H[q]?) → XC cls s t)
    (hf : ∀ z ∈ locs, free z.base) (hc : cells + 1 ≤ mc) (hs : slots + 6 ≤ ms) :
    W p l e R s m args below meth c H locs cells slots (vx_MQ below Qc XC args s mc ms free) (F0 m pc ls rest) := by
  intro T hT X
  have htr : e.platform.stackTraces = false := (show e.platform.stackTraces = l.stackTraces by rw [X.admits.platform]).trans hl
  have Y := vx_rebase X (R' := { frames := R.frames, locals := R.locals, cells := 1, slots := 6 }) (Nat.le_refl _) (Nat.le_refl _) hRcells hRslots
  obtain ⟨s', hA⟩ : ∃ z, z = (T.setVm s.vm).setFrames (.invoking m args :: below) := ⟨_, rfl⟩
  rw [← hA] at Y
  have hvm : s'.vm = s.vm := by rw [hA]; rfl
  have hhp : s'.heap = H := by rw [hA]; exact hT
  have hW0 : s.WarmedH s'.vm := by rw [hvm]; exact State.WarmedH.refl s
  have hat' : ∀ w ∈ vx_at0 own ic cls names, w.before args s' = true := fun w hw => vx_ot_at hW0 hvm.symm (hgood w (List.mem_cons_of_mem _ (List.mem_cons_of_mem _ hw))) (hat w hw)
  have hk' : (Cond.classLink own ik cls).before args s' = true := vx_ot_at hW0 hvm.symm (hgood _ List.mem_cons_self) hk
  have hini' : (Cond.initialized cls).before args s' = true := vx_ot_at hW0 hvm.symm (hgood _ (List.mem_cons_of_mem _ List.mem_cons_self)) hini
  have hU' : vx_Zq Bundle.tN "UNASSIGNED_STACK" Bundle.steD A s' s'.heap := by rw [hhp]; exact vx_Zq.moved hW0.alike (hU.kept hS.2.1)
  have hN' : vx_Zq Bundle.tN "SUPPRESSED_SENTINEL" Bundle.listD A s' s'.heap := by rw [hhp]; exact vx_Zq.moved hW0.alike (hN.kept hS.2.1)
  have h : ∀ w ∈ Bundle.ownAtoms0 own ic cls names, w.before args s' = true := vx_own hat' (vx_isRefq hU'.1) (vx_isRefq hN'.1) hU'.2.word hN'.2.word
  have hown' : s'.vm.findClass own = some m.cls := by rw [hvm]; exact hown
  have hins : (Cond.instantiable cls 6).before args s' = true := h _ (by simp [Bundle.ownAtoms0])
  obtain ⟨vm₁, cX, kX, hfX, hkX, -, -, X₁, st1⟩ := Y.newCold hexec (own := own) (C := cls) (index := ik) (n := 6) hown' hk' hins hini'
    (g := F0 m pc ls rest) rfl (by rw [hb]; exact d0) (Nat.le_refl _) (Nat.le_refl _)
  generalize hT1 : (T.setVm vm₁).pushCell { cls := cX, slots := kX.instanceTypes.map defaultValue, vm := .none } = T1 at X₁ st1
  have hcat : (Value.ref T.heap.size).category = 1 := rfl
  have hcellA : T1.heap[T.heap.size]? = some (freshCell cX kX) := by rw [← hT1]; exact State.heap_pushCell_size _ _
  have d3' : decode c.code (pc + 3) = .ok (.dup, 1) := by rw [hb]; exact d3
  obtain ⟨U, hsteps, hrun, hend, hW, hsame, ce, hce, hO⟩ := X₁.ctorThrow0 hexec htr (own := own) (cls := cls) (names := names) (ic := ic) hown' hcls hnames h (fun x hx => nomatch hx) hfX hkX hcellA (by rw [hhp, hT]; exact Nat.le_refl _)
    (g := { method := m, pc := pc + 4, locals := ls, stack := .ref T.heap.size :: .ref T.heap.size :: rest, locked := none }) rfl hsize rfl rfl (rest := rest) rfl
    (by rw [hb]; exact d4) (by rw [hb]; exact d7) hout hRframes (by simp only [List.map_cons, List.sum_cons, hcat]; omega) hlocks
  obtain ⟨f1, f2⟩ := vx_frame hsame
  rw [hhp] at f1 f2
  have hsz1 : H.size + 1 ≤ U.heap.size := by
    have := (Array.getElem?_eq_some_iff.mp hce).1
    rw [hT] at this
    exact this
  have hsz2 : U.heap.size ≤ H.size + 1 := by
    have h3 : U.heap.size ≤ s'.heap.size + (0 + 1) := hsame.2.2.1
    rw [hhp] at h3
    omega
  have hWs : s.WarmedH U.vm := State.WarmedH.trans hW0 hW
  have hcl : s.vm.findClass cls = some ce.cls := by
    have h9 := hO.cls
    rw [hvm] at h9
    exact h9
  have hall : s.sameButNew ({ U with vm := s.vm } : State) locs mc ms := by
    subst hA
    obtain ⟨e1, e2⟩ := hsame
    rw [State.setFrames_setFrames] at e1
    have h2 : (T.setVm s.vm).sameButNew ({ U with vm := s.vm } : State) [] (0 + 1) (0 + 6) := ⟨e1, e2⟩
    have h3 := X.same.trans h2
    rw [List.append_nil] at h3
    exact h3.mono hc hs
  refine ⟨U, ?_, .threw T.heap.size, hrun, hend, Or.inr ⟨T.heap.size, rfl, cls, ce, locs, hx U hWs.alike (by omega) (fun q hq => f2 q hq (fun z hz => nomatch hz)), hce, hO.vm, hcl, hWs, hall, hf⟩⟩
  refine st1 _ ?_
  show Steps p.tables e below (T1.setTop { method := m, pc := pc + 3, locals := ls, stack := .ref T.heap.size :: rest, locked := none }) _
  jvm_step X₁.here [X₁.here.top, hexec, d3', Value.category]
  exact hsteps
theorem thr_snd (hx : p.tables.exec = Jvm.exec) (hb : c.code = cc) (hl : l.stackTraces = false) (hml : c.maxLocals = nL) (hown : s.vm.findClass own = some m.cls) (K : SK D G iT s) (hR2 : mc ≤ R.cells ∧ ms ≤ R.slots) (hlocks : meth.locks = false) {cls : String} {names : List String} {ik ic E : Nat} (hE : excN E = cls)
    (hcls : Bundle.fit cls = true) (hnames : ∀ n ∈ names, Bundle.fit n = true) (hk : Cond.classLink own ik cls ∈ lw_tbl) (hini : Cond.initialized cls ∈ lw_tbl) (hat : ∀ w ∈ vx_at0 own ic cls names, w ∈ lw_tbl ∧ stW w = true) (hgood : ∀ w ∈ Cond.classLink own ik cls :: Cond.initialized cls :: vx_at0 own ic cls names, vx_ot w = true)
    (d0 : decode cc pc = .ok (.new ik, 3)) (d3 : decode cc (pc + 3) = .ok (.dup, 1)) (d4 : decode cc (pc + 4) = .ok (.invokespecial ic, 3)) (d7 : decode cc (pc + 7) = .ok (.athrow, 1)) (hout : ∀ x ∈ c.exceptionTable.toList, covers x (pc + 7) = false)
    (hRf : names.length + 3 < R.frames) (hRl : 8 + (13 * (names.length + 1) + 42) ≤ R.locals) (hst : (st.map ab_ca).sum ≤ 8) (hr : r = (.inr E, mth M 1 6)) : Sd p l e R s m args below meth c D mc ms nL pc L st M r := by
  subst hr
  intro H locs cells slots ls hH hS hl' h1 h2
  have h1' : cells + (mnx M + 1) ≤ mc + mnx M := h1
  have h2' : slots + (msl M + 6) ≤ ms + msl M := h2
  refine thr0 hx hb hl hown hcls hnames (K.1.1 _ hk rfl args) (K.1.1 _ hini rfl args) (fun w hw => K.1.1 w (hat w hw).1 (hat w hw).2 args) hgood K.2.2.2.1.1 K.2.2.2.1.2 hS (by rw [hml]; exact hl'.1) d0 d3 d4 d7 hout hRf (by rw [map_sum]; omega) (by omega) (by omega) hlocks (fun t hal hz hq => ?_) hS.2.2 (by omega) (by omega)
  exact ⟨⟨E, rfl, hE⟩, hH.oth hz hq, ⟨by have := hS.1; omega, fun q g1 g2 => (hq q (Nat.lt_of_lt_of_le g1 hS.1)).trans (hS.2.1 q g1 g2)⟩⟩
/-- from the frame g the machine comes to invoke y on these arguments -/
def CallsTo (p : Program) (l : Launch) (e : Env) (R : Room) (s : State) (m : MethodId) (args : Array Value) (below : List Frame) (meth : Method) (c : Code) (H : Heap) (g : JFrame) (y : MethodName) (len : Nat) (argsL rest : List Value) : Prop :=
  ∀ (T : State) (locs : List Loc) (cells slots : Nat), T.heap = H → Stand p l e R s m args below meth c T locs cells slots → ∀ (Pre : Pt → Array Value → Prop) (Post : Pt → Array Value → Option Value → Pt → Prop) (PostX : Pt → Array Value → Addr → Pt → Prop), vx_Back l R p e below s args y len 8 Pre Post PostX →
    (∀ vm₁, s.WarmedH vm₁ → Pre ⟨T.setVm vm₁, locs, cells, slots⟩ argsL.toArray) →
    (∃ (v : Option Value) (vm₁ : Vm) (B : Pt), s.WarmedH vm₁ ∧ Stand p l e R s m args below meth c B.U B.locs B.cells B.slots ∧ Post ⟨T.setVm vm₁, locs, cells, slots⟩ argsL.toArray v B ∧
      ∀ target, Steps p.tables e below (B.U.setTop { g with pc := g.pc + len, stack := v.toList ++ rest }) target → Steps p.tables e below (T.setTop g) target) ∨
    (∃ (q : Addr) (vm₁ : Vm) (B : Pt), s.WarmedH vm₁ ∧ Stand p l e R s m args below meth c B.U B.locs B.cells B.slots ∧ PostX ⟨T.setVm vm₁, locs, cells, slots⟩ argsL.toArray q B ∧
      Steps p.tables e below (T.setTop g) ((B.U.setTop { g with stack := rest }).pushFrame (.throwing q)))
/-- the word of a method's code, its locals -/
def CodeW (y : MethodName) (w : Cond) (maxL : Nat) : Prop := (∃ bytes ret, w = Cond.code y bytes maxL ret) ∨ ∃ bytes ret hh, w = Cond.codeWith y bytes maxL ret hh
theorem call_snd (K : SK D G iT s) {y : MethodName} {w : Cond} {maxL len f2 l2 : Nat} {as : List AV} {y1 : Out × Mem} {stk : List AV} (hcw : CodeW y w maxL) (hw : w ∈ lw_tbl) (hR2 : mc ≤ R.cells ∧ ms ≤ R.slots) (hRf : f2 + 1 ≤ R.frames) (hRl : 8 + (maxL + 11) + l2 ≤ R.locals)
    (hM : nb_Met l y [w] { frames := f2, locals := l2, cells := mnx y1.2 - mnx M, slots := msl y1.2 - msl M } (PcM D G iT as M) (Qr D y1) (Xr D y1) (mnx y1.2 - mnx M) (msl y1.2 - msl M) (hbA D))
    (hmo : mnx M ≤ mnx y1.2 ∧ msl M ≤ msl y1.2 ∧ mnx y1.2 ≤ mnx r.2 ∧ msl y1.2 ≤ msl r.2)
    (hcall : ∀ (H : Heap) (locs : List Loc) (ls : Array Slot), HR D M H → va_S (hbA D) s.heap H locs → ls.size = nL → CallsTo p l e R s m args below meth c H (F0 m pc ls (stk.map ab_cv)) y len (as.map ab_cv) (st.map ab_cv))
    (kv : ∀ v : Option AV, y1.1 = .inl v → Sd p l e R s m args below meth c D mc ms nL (pc + len) L (v.toList ++ st) y1.2 r)
    (kx : ∀ (E : Nat), y1.1 = .inr E → ∀ (H : Heap) (locs : List Loc) (cells slots : Nat) (ls : Array Slot) (q : Addr) (ce : Cell), HR D y1.2 H → va_S (hbA D) s.heap H locs → lv_has ls nL (L.map cvp) → cells + mnx r.2 ≤ mc + mnx y1.2 → slots + msl r.2 ≤ ms + msl y1.2 → H[q]? = some ce → ce.vm = .none → s.vm.findClass (excN E) = some ce.cls → vx_W p l e R s m args below meth c H locs cells slots (vx_MQ below (Qr D r) (Xr D r) args s mc ms (hbA D)) (F0 m pc ls (st.map ab_cv)) q) :
    Sd p l e R s m args below meth c D mc ms nL pc L stk M r := by
  intro H locs cells slots ls hH hS hl' h1 h2 T hT X
  have hst : stW w = true := by rcases hcw with ⟨_, _, rfl⟩ | ⟨_, _, _, rfl⟩ <;> rfl
  have hws : ∀ w' ∈ [w], ∀ (a' : Array Value) (U : State), s.WarmedH U.vm → w'.before a' U = true := fun w' hw' a' U hW => by
    rw [List.mem_singleton.mp hw']
    exact stW_warm hst hW (K.1.1 w hw hst) a'
  have hB : vx_Back l R p e below s args y len 8 (PreOf R (mnx y1.2 - mnx M) (msl y1.2 - msl M) (PcM D G iT as M)) (PostOf (Qr D y1) (mnx y1.2 - mnx M) (msl y1.2 - msl M) (hbA D)) (vx_Post (Xr D y1) (mnx y1.2 - mnx M) (msl y1.2 - msl M) (hbA D)) := by
    rcases hcw with ⟨bytes, ret, e9⟩ | ⟨bytes, ret, hh, e9⟩
    · exact nb_back (maxL := maxL) hM PcM.blind rfl rfl hRf hRl hws (by
        intro a' U hU mk hn
        obtain ⟨methY, cY, hmY, hcY, -, hlY, -⟩ := Cond.code_spec hn (hws _ (List.mem_singleton.mpr e9.symm) a' U hU)
        exact ⟨methY, cY, hmY, hcY, hlY⟩)
    · exact nb_back (maxL := maxL) hM PcM.blind rfl rfl hRf hRl hws (by
        intro a' U hU mk hn
        obtain ⟨m9, methY, cY, hn9, hmY, hcY, -, hlY, -⟩ := Cond.codeWith_spec (hws _ (List.mem_singleton.mpr e9.symm) a' U hU)
        cases Option.some.inj (hn9.symm.trans hn)
        exact ⟨methY, cY, hmY, hcY, hlY⟩)
  rcases hcall H locs ls hH hS hl'.1 T locs cells slots hT X _ _ _ hB (fun vm₁ hW₁ => ⟨by show cells + _ ≤ _; omega, by show slots + _ ≤ _; omega, rfl, K.moved (U := T.setVm vm₁) hW₁ (by show _ ≤ T.heap.size; rw [hT]; exact hS.1) (fun a g1 g2 => by show T.heap[a]? = _; rw [hT]; exact hS.2.1 a g1 g2), by show HR D M T.heap; rw [hT]; exact hH⟩) with
    ⟨v, vm₁, ⟨U', l9, c9, s9⟩, hW₁, X', ⟨g', mk, t, L9, e1, e2, hq, q1, hL, q2, q3⟩, step⟩ | ⟨q, vm₁, ⟨U', l9, c9, s9⟩, hW₁, X', ⟨g', mk, t, L9, E, ce, e1, e2, hq, hce, hcv, hcl, q1, hL, q2, q3⟩, step⟩
  · dsimp only [Pt.U, Pt.locs, Pt.cells, Pt.slots] at X' e1 e2 q1 q2 q3 step
    subst q1; subst q2; subst q3
    obtain ⟨⟨v9, hv9, ho⟩, hH', hF⟩ := hq
    have hv : v = v9.map ab_cv := by cases ho; rfl
    obtain ⟨k1, k2, k3⟩ := vx_keep (A1 := hbA D) (free := hbA D) (st₀ := (T.setVm vm₁).calling g' mk (as.map ab_cv).toArray) hT e1 hS (fun _ _ h => h) (fun _ h => h) hL hF
    have kk := kv v9 hv9 U'.heap (locs ++ L9) (cells + (mnx y1.2 - mnx M)) (slots + (msl y1.2 - msl M)) ls (by rw [e1]; exact hH') k3 hl' (by omega) (by omega) U' rfl X'
    obtain ⟨t2, a1, b1⟩ := kk
    refine ⟨t2, step t2 ?_, b1⟩
    have es : v.toList ++ st.map ab_cv = (v9.toList ++ st).map ab_cv := by rw [hv]; cases v9 <;> rfl
    rw [es]
    exact a1
  · dsimp only [Pt.U, Pt.locs, Pt.cells, Pt.slots] at X' e1 e2 q1 q2 q3 step hcl
    subst q1; subst q2; subst q3
    obtain ⟨⟨n, hn, hE⟩, hH', hF⟩ := hq
    obtain ⟨k1, k2, k3⟩ := vx_keep (A1 := hbA D) (free := hbA D) (st₀ := (T.setVm vm₁).calling g' mk (as.map ab_cv).toArray) hT e1 hS (fun _ _ h => h) (fun _ h => h) hL hF
    obtain ⟨t2, a1, b1⟩ := kx n hn U'.heap (locs ++ L9) (cells + (mnx y1.2 - mnx M)) (slots + (msl y1.2 - msl M)) ls q ce (by rw [e1]; exact hH') k3 hl' (by omega) (by omega) (by rw [e1]; exact hce) hcv (by rw [hE]; exact vx_cls hW₁ hcl) U' rfl X'
    exact ⟨t2, step.trans a1, b1⟩
/-- what is thrown goes on to the caller -/
theorem out_snd (hlocks : meth.locks = false) (hout : ∀ x ∈ c.exceptionTable.toList, covers x pc = false) {E : Nat} {M1 : Mem} (hr : r = (.inr E, M1)) {H : Heap} {locs : List Loc} {cells slots : Nat} {ls : Array Slot} {q : Addr} {ce : Cell} (hH : HR D M1 H) (hS : va_S (hbA D) s.heap H locs) (h1 : cells + mnx r.2 ≤ mc + mnx M1) (h2 : slots + msl r.2 ≤ ms + msl M1)
    (hce : H[q]? = some ce) (hcv : ce.vm = .none) (hcl : s.vm.findClass (excN E) = some ce.cls) : vx_W p l e R s m args below meth c H locs cells slots (vx_MQ below (Qr D r) (Xr D r) args s mc ms (hbA D)) (F0 m pc ls (st.map ab_cv)) q := by
  subst hr
  exact vx_out hout hlocks hce hcv hcl (fun t ht _ => ⟨⟨E, rfl, rfl⟩, by rw [ht]; exact hH, hS.F ht⟩) hS.2.2 (by dsimp only at h1; omega) (by dsimp only at h2; omega)
end S8
