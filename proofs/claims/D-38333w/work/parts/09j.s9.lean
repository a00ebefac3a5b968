/-! ===== soundness: the ways of calling ===== -/
theorem cargs_rev : ∀ (n : Nat) (stk acc as st : List AV), cargs n stk acc = some (as, st) → as.length = n + acc.length ∧ ∃ us : List AV, as = us.reverse ++ acc ∧ stk = us ++ st
  | 0, stk, acc, as, st, h => by
    cases h
    exact ⟨(Nat.zero_add _).symm, [], rfl, rfl⟩
  | n + 1, [], acc, as, st, h => absurd h (by simp [cargs])
  | n + 1, v :: stk, acc, as, st, h => by
    obtain ⟨h1, us, h2, h3⟩ := cargs_rev n stk (v :: acc) as st (show cargs n stk (v :: acc) = some (as, st) from h)
    refine ⟨by rw [h1]; simp; omega, v :: us, by rw [h2]; simp, by rw [h3]; rfl⟩
theorem cargs_at {n : Nat} {stk as st : List AV} (h : cargs n stk [] = some (as, st)) : as.length = n ∧ stk = as.reverse ++ st := by
  obtain ⟨h1, us, h2, h3⟩ := cargs_rev n stk [] as st h
  refine ⟨h1, ?_⟩
  rw [List.append_nil] at h2
  rw [h2, List.reverse_reverse]
  exact h3
def dN (y : MethodName) (n : Nat) : Prop := (parseMethodDescriptor y.desc).map (fun d => d.parameters.length) = some n
theorem dN.len {y : MethodName} {n : Nat} (h : dN y n) : ∀ sig, parseMethodDescriptor y.desc = some sig → n = sig.parameters.length := fun sig hs => by
  unfold dN at h
  rw [hs] at h
  exact (Option.some.inj h).symm
def okY (y : MethodName) : Prop := y.cls ≠ "java/lang/invoke/MethodHandle" ∧ y.cls ≠ "java/lang/invoke/VarHandle"
section S9
variable {p : Program} {l : Launch} {e : Env} {R : Room} {s : State} {m : MethodId} {args : Array Value} {below : List Frame} {meth : Method} {c : Code} {D : Gh} {mc ms nL : Nat} {pc : Nat} {L : Loc_} {st st' : List AV} {M M' : Mem} {r : Out × Mem} {cc : ByteArray} {own : String} {y x : MethodName} {w : Cond} {maxL idx kd a : Nat} {C : String} {as : List AV}
theorem stkE {a : Nat} {as st : List AV} : (((vR (some a) :: as).reverse ++ st).map ab_cv) = (as.map ab_cv).reverse ++ Value.ref a :: st.map ab_cv := by
  simp [ab_cv, va_rf]
theorem stkS {as st : List AV} : ((as.reverse ++ st).map ab_cv) = (as.map ab_cv).reverse ++ st.map ab_cv := by
  simp
theorem rmE {m : MethodId} {pc : Nat} {ls : Array Slot} {q : List Value} {st : List AV} (h : (st.map ab_ca).sum ≤ 8) : 2 * (F0 m pc ls q).monitorRoom + ((st.map ab_cv).map fun v => v.category).sum ≤ 8 := by
  rw [map_sum]
  show 2 * 0 + _ ≤ 8
  omega
/-- by the receiver's class -/
theorem ctV (hx : p.tables.exec = Jvm.exec) (hb : c.code = cc) (hml : c.maxLocals = nL) (hown : s.vm.findClass own = some m.cls) (K : K0 D s) (hcw : CodeW y w maxL) (hw : w ∈ lw_tbl) (hn : KN kd C)
    (hl : Cond.methodLink own idx y ∈ lw_tbl ∨ (∃ host, Cond.methodLinkNest own idx y host ∈ lw_tbl) ∧ ∃ bytes ret, w = Cond.code y bytes maxL ret) (hi : Cond.instanceMethod y ∈ lw_tbl) (hs : Cond.selects C y y ∈ lw_tbl) (hy : okY y)
    (hd : decode cc pc = .ok (.invokevirtual idx, 3)) (hlen : dN y as.length) (ha : mcl M a = kd) (hst : (st.map ab_ca).sum ≤ 8) :
    ∀ (H : Heap) (locs : List Loc) (ls : Array Slot), HR D M H → va_S (hbA D) s.heap H locs → ls.size = nL → CallsTo p l e R s m args below meth c H (F0 m pc ls (((vR (some a) :: as).reverse ++ st).map ab_cv)) y 3 ((vR (some a) :: as).map ab_cv) (st.map ab_cv) := by
  intro H _ ls hH _ hsz T locs cells slots hT X Pre Post PostX hB hpre
  obtain ⟨cell, hc, hcr⟩ := hH.at (a := a) (by rw [ha]; exact hn.1)
  have hcls := hn.cls K ha hcr
  have hcT : T.heap[a]? = some cell := by rw [hT]; exact hc
  have hle := fun sig h => (List.length_map (as := as) ab_cv).trans (hlen.len sig h)
  rcases hl with hl | ⟨⟨host, hl⟩, bytes, ret, rfl⟩
  · rcases hcw with ⟨bytes, ret, rfl⟩ | ⟨bytes, ret, hh, rfl⟩
    · exact vx_callV X hx hown (K.1 _ hl rfl args) (K.1 _ hi rfl args) (K.1 _ hs rfl args) (K.1 _ hw rfl args) hy hB hcT hcr.1.ns hcls (g := F0 m pc ls (((vR (some a) :: as).reverse ++ st).map ab_cv)) rfl (hsz.trans hml.symm) hle stkE (rmE hst) (by rw [hb]; exact hd) hpre
    · exact vx_callVX X hx hown (K.1 _ hl rfl args) (K.1 _ hi rfl args) (K.1 _ hs rfl args) (K.1 _ hw rfl args) hy hB hcT hcr.1.ns hcls (g := F0 m pc ls (((vR (some a) :: as).reverse ++ st).map ab_cv)) rfl (hsz.trans hml.symm) hle stkE (rmE hst) (by rw [hb]; exact hd) hpre
  · exact vx_callVN X hx hown (K.1 _ hl rfl args) (K.1 _ hi rfl args) (K.1 _ hs rfl args) (K.1 _ hw rfl args) hy hB hcT hcr.1.ns hcls (g := F0 m pc ls (((vR (some a) :: as).reverse ++ st).map ab_cv)) rfl (hsz.trans hml.symm) hle stkE (rmE hst) (by rw [hb]; exact hd) hpre
/-- an inherited or overridden method -/
theorem ctU (hx : p.tables.exec = Jvm.exec) (hb : c.code = cc) (hml : c.maxLocals = nL) (hown : s.vm.findClass own = some m.cls) (K : K0 D s) (hcw : ∃ bytes ret, w = Cond.code y bytes maxL ret) (hw : w ∈ lw_tbl) (hn : KN kd C) {owner : String}
    (hl : Cond.methodLink own idx x ∈ lw_tbl) (hsm : Cond.sameMethod x.cls owner x.name x.desc ∈ lw_tbl) (hdc : Cond.declares ⟨owner, x.name, x.desc⟩ ∈ lw_tbl ∨ Cond.instanceMethod ⟨owner, x.name, x.desc⟩ ∈ lw_tbl ∧ ∃ b n t, Cond.code ⟨owner, x.name, x.desc⟩ b n t ∈ lw_tbl) (ho : okY ⟨owner, x.name, x.desc⟩)
    (hi : Cond.instanceMethod y ∈ lw_tbl) (hs : Cond.selects C x y ∈ lw_tbl)
    (hd : decode cc pc = .ok (.invokevirtual idx, 3)) (hlen : dN x as.length) (ha : mcl M a = kd) (hst : (st.map ab_ca).sum ≤ 8) :
    ∀ (H : Heap) (locs : List Loc) (ls : Array Slot), HR D M H → va_S (hbA D) s.heap H locs → ls.size = nL → CallsTo p l e R s m args below meth c H (F0 m pc ls (((vR (some a) :: as).reverse ++ st).map ab_cv)) y 3 ((vR (some a) :: as).map ab_cv) (st.map ab_cv) := by
  intro H _ ls hH _ hsz T locs cells slots hT X Pre Post PostX hB hpre
  obtain ⟨cell, hc, hcr⟩ := hH.at (a := a) (by rw [ha]; exact hn.1)
  have hcls := hn.cls K ha hcr
  have hcT : T.heap[a]? = some cell := by rw [hT]; exact hc
  have hle := fun sig h => (List.length_map (as := as) ab_cv).trans (hlen.len sig h)
  obtain ⟨bytes, ret, rfl⟩ := hcw
  have hde : va_Decl s ⟨owner, x.name, x.desc⟩ := by
    rcases hdc with h | ⟨h1, b, n, t, h2⟩
    · exact va_Decl.abs (K.1 _ h rfl #[])
    · exact va_Decl.of (K.1 _ h1 rfl #[]) (K.1 _ h2 rfl #[])
  exact vx_callVU X hx hown (K.1 _ hl rfl args) (K.1 _ hsm rfl args) hde ho (K.1 _ hs rfl args) (K.1 _ hi rfl args) (K.1 _ hw rfl args) hB hcT hcr.1.ns hcls (g := F0 m pc ls (((vR (some a) :: as).reverse ++ st).map ab_cv)) rfl (hsz.trans hml.symm) hle stkE (rmE hst) (by rw [hb]; exact hd) hpre
/-- a static method -/
theorem ctS (hx : p.tables.exec = Jvm.exec) (hb : c.code = cc) (hml : c.maxLocals = nL) (hown : s.vm.findClass own = some m.cls) (K : K0 D s) (hcw : CodeW y w maxL) (hw : w ∈ lw_tbl)
    (hl : Cond.methodLink own idx y ∈ lw_tbl ∨ (∃ host, Cond.methodLinkNest own idx y host ∈ lw_tbl) ∧ ∃ bytes ret, w = Cond.code y bytes maxL ret) (hi : Cond.static y ∈ lw_tbl) (hini : Cond.initialized y.cls ∈ lw_tbl) (hy : okY y)
    (hd : decode cc pc = .ok (.invokestatic idx, 3)) (hlen : dN y as.length) (hst : (st.map ab_ca).sum ≤ 8) :
    ∀ (H : Heap) (locs : List Loc) (ls : Array Slot), HR D M H → va_S (hbA D) s.heap H locs → ls.size = nL → CallsTo p l e R s m args below meth c H (F0 m pc ls ((as.reverse ++ st).map ab_cv)) y 3 (as.map ab_cv) (st.map ab_cv) := by
  intro H _ ls hH _ hsz T locs cells slots hT X Pre Post PostX hB hpre
  have hle := fun sig h => (List.length_map (as := as) ab_cv).trans (hlen.len sig h)
  rcases hl with hl | ⟨⟨host, hl⟩, bytes, ret, rfl⟩
  · rcases hcw with ⟨bytes, ret, rfl⟩ | ⟨bytes, ret, hh, rfl⟩
    · exact vx_callS X hx hown (K.1 _ hl rfl args) (K.1 _ hi rfl args) (K.1 _ hini rfl args) (K.1 _ hw rfl args) hy hB (g := F0 m pc ls ((as.reverse ++ st).map ab_cv)) rfl (hsz.trans hml.symm) hle stkS (rmE hst) (by rw [hb]; exact hd) hpre
    · exact vx_callSX X hx hown (K.1 _ hl rfl args) (K.1 _ hi rfl args) (K.1 _ hini rfl args) (K.1 _ hw rfl args) hy hB (g := F0 m pc ls ((as.reverse ++ st).map ab_cv)) rfl (hsz.trans hml.symm) hle stkS (rmE hst) (by rw [hb]; exact hd) hpre
  · exact vx_callSN X hx hown (K.1 _ hl rfl args) (K.1 _ hi rfl args) (K.1 _ hini rfl args) (K.1 _ hw rfl args) hy hB (g := F0 m pc ls ((as.reverse ++ st).map ab_cv)) rfl (hsz.trans hml.symm) hle stkS (rmE hst) (by rw [hb]; exact hd) hpre
/-- a constructor -/
theorem ctI (hx : p.tables.exec = Jvm.exec) (hb : c.code = cc) (hml : c.maxLocals = nL) (hown : s.vm.findClass own = some m.cls) (K : K0 D s) (hcw : ∃ bytes, w = Cond.code y bytes maxL none) (hw : w ∈ lw_tbl) (hy1 : y.name = "<init>")
    (hl : Cond.methodLink own idx y ∈ lw_tbl ∨ ∃ host, Cond.methodLinkNest own idx y host ∈ lw_tbl) (hi : Cond.instanceMethod y ∈ lw_tbl) (hy : okY y)
    (hd : decode cc pc = .ok (.invokespecial idx, 3)) (hlen : dN y as.length) (hst : (st.map ab_ca).sum ≤ 8) :
    ∀ (H : Heap) (locs : List Loc) (ls : Array Slot), HR D M H → va_S (hbA D) s.heap H locs → ls.size = nL → CallsTo p l e R s m args below meth c H (F0 m pc ls (((vR (some a) :: as).reverse ++ st).map ab_cv)) y 3 ((vR (some a) :: as).map ab_cv) (st.map ab_cv) := by
  intro H _ ls hH _ hsz T locs cells slots hT X Pre Post PostX hB hpre
  have hle := fun sig h => (List.length_map (as := as) ab_cv).trans (hlen.len sig h)
  obtain ⟨bytes, rfl⟩ := hcw
  rcases hl with hl | ⟨host, hl⟩
  · exact vx_callI X hx hown hy1 (K.1 _ hl rfl args) (K.1 _ hi rfl args) (K.1 _ hw rfl args) hy hB (g := F0 m pc ls (((vR (some a) :: as).reverse ++ st).map ab_cv)) rfl (hsz.trans hml.symm) hle stkE (rmE hst) (by rw [hb]; exact hd) hpre
  · exact vx_callIN X hx hown hy1 (K.1 _ hl rfl args) (K.1 _ hi rfl args) (K.1 _ hw rfl args) hy hB (g := F0 m pc ls (((vR (some a) :: as).reverse ++ st).map ab_cv)) rfl (hsz.trans hml.symm) hle stkE (rmE hst) (by rw [hb]; exact hd) hpre
/-- a superclass' method -/
theorem ctP (hx : p.tables.exec = Jvm.exec) (hb : c.code = cc) (hml : c.maxLocals = nL) (hown : s.vm.findClass own = some m.cls) (K : K0 D s) (hcw : ∃ bytes ret, w = Cond.code y bytes maxL ret) (hw : w ∈ lw_tbl) (hn : KN kd C)
    (hl : Cond.methodLink own idx y ∈ lw_tbl) (hsm : Cond.sameMethod y.cls y.cls y.name y.desc ∈ lw_tbl) (hsp : Cond.superclass own y.cls ∈ lw_tbl) (hi : Cond.instanceMethod y ∈ lw_tbl) (hno : y.name ≠ "<init>")
    (hd : decode cc pc = .ok (.invokespecial idx, 3)) (hlen : dN y as.length) (ha : mcl M a = kd) (hst : (st.map ab_ca).sum ≤ 8) :
    ∀ (H : Heap) (locs : List Loc) (ls : Array Slot), HR D M H → va_S (hbA D) s.heap H locs → ls.size = nL → CallsTo p l e R s m args below meth c H (F0 m pc ls (((vR (some a) :: as).reverse ++ st).map ab_cv)) y 3 ((vR (some a) :: as).map ab_cv) (st.map ab_cv) := by
  intro H _ ls hH _ hsz T locs cells slots hT X Pre Post PostX hB hpre
  obtain ⟨cell, hc, hcr⟩ := hH.at (a := a) (by rw [ha]; exact hn.1)
  obtain ⟨kB, hkB, -⟩ := Vm.findClass_spec (hn.cls K ha hcr)
  have hcT : T.heap[a]? = some cell := by rw [hT]; exact hc
  have hle := fun sig h => (List.length_map (as := as) ab_cv).trans (hlen.len sig h)
  obtain ⟨bytes, ret, rfl⟩ := hcw
  exact vx_callSU X hx hown (K.1 _ hl rfl args) (K.1 _ hsm rfl args) (K.1 _ hsp rfl args) (K.1 _ hi rfl args) (K.1 _ hw rfl args) hno hB hcT hcr.1.ns hkB (g := F0 m pc ls (((vR (some a) :: as).reverse ++ st).map ab_cv)) rfl (hsz.trans hml.symm) hle stkE (rmE hst) (by rw [hb]; exact hd) hpre
/-- by an interface -/
theorem ctF (hx : p.tables.exec = Jvm.exec) (hb : c.code = cc) (hml : c.maxLocals = nL) (hown : s.vm.findClass own = some m.cls) (K : K0 D s) (hcw : ∃ bytes ret, w = Cond.code y bytes maxL ret) (hw : w ∈ lw_tbl) (hn : KN kd C) {cnt : Nat}
    (hl : Cond.methodLink own idx x ∈ lw_tbl) (hdc : Cond.declares x ∈ lw_tbl) (hfc : Cond.interfaceMethod x.cls x.cls x.name x.desc ∈ lw_tbl) (hs : Cond.selects C x y ∈ lw_tbl) (hi : Cond.instanceMethod y ∈ lw_tbl) (hp : Cond.publicMethod y ∈ lw_tbl) (hu : Cond.unhidden C x.name x.desc ∈ lw_tbl) (hca : Cond.castable C x.cls ∈ lw_tbl) (hy : okY x)
    (hd : decode cc pc = .ok (.invokeinterface idx cnt, 5)) (hlen : dN x as.length) (ha : mcl M a = kd) (hst : (st.map ab_ca).sum ≤ 8) :
    ∀ (H : Heap) (locs : List Loc) (ls : Array Slot), HR D M H → va_S (hbA D) s.heap H locs → ls.size = nL → CallsTo p l e R s m args below meth c H (F0 m pc ls (((vR (some a) :: as).reverse ++ st).map ab_cv)) y 5 ((vR (some a) :: as).map ab_cv) (st.map ab_cv) := by
  intro H _ ls hH _ hsz T locs cells slots hT X Pre Post PostX hB hpre
  obtain ⟨cell, hc, hcr⟩ := hH.at (a := a) (by rw [ha]; exact hn.1)
  have hcls := hn.cls K ha hcr
  obtain ⟨kB, hkB, -⟩ := Vm.findClass_spec hcls
  have hcT : T.heap[a]? = some cell := by rw [hT]; exact hc
  have hle := fun sig h => (List.length_map (as := as) ab_cv).trans (hlen.len sig h)
  obtain ⟨bytes, ret, rfl⟩ := hcw
  exact vx_callIF X hx hown (K.1 _ hl rfl args) (K.1 _ hdc rfl args) (K.1 _ hfc (by simp [stW, hy.1, hy.2]) args) (K.1 _ hs rfl args) (K.1 _ hi rfl args) (K.1 _ hp rfl args) (K.1 _ hu rfl args) (K.1 _ hca rfl args) (K.1 _ hw rfl args) hy hB hcT hcr.1.ns hcls hkB (g := F0 m pc ls (((vR (some a) :: as).reverse ++ st).map ab_cv)) rfl (hsz.trans hml.symm) hle stkE (rmE hst) (by rw [hb]; exact hd) hpre
end S9
