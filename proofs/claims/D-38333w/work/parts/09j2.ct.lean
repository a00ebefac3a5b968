/-! ===== calls by an interface that land in a default method; of a superclass' private method (the proofs follow vx_callIF, vx_callV) ===== -/
section J2
variable {p : Program} {l : Launch} {e : Env} {R : Room} {s : State} {m : MethodId} {args : Array Value} {below : List Frame} {meth : Method} {c : Code} {locs : List Loc} {cells slots : Nat}
theorem nb_callID {T : State} (X : Stand p l e R s m args below meth c T locs cells slots) (hexec : p.tables.exec = Jvm.exec) {own C : String} {index count : Nat} {x y : MethodName} {bytes : ByteArray} {maxL : Nat} {ret : Option FieldType}
    (hown : s.vm.findClass own = some m.cls) (hlink : (Cond.methodLink own index x).before args s = true) (hdecl : (Cond.declares x).before args s = true) (hface : (Cond.interfaceMethod x.cls x.cls x.name x.desc).before args s = true)
    (hsel : (Cond.landsInDefault C x y).before args s = true) (hinst : (Cond.instanceMethod y).before args s = true) (hpub : (Cond.publicMethod y).before args s = true) (hunh : (Cond.unhidden C x.name x.desc).before args s = true)
    (hcast : (Cond.castable C x.cls).before args s = true) (hcode : (Cond.code y bytes maxL ret).before args s = true) (hx : x.cls ≠ "java/lang/invoke/MethodHandle" ∧ x.cls ≠ "java/lang/invoke/VarHandle")
    {W9 : Nat} {Pre : Pt → Array Value → Prop} {Post : Pt → Array Value → Option Value → Pt → Prop} {PostX : Pt → Array Value → Addr → Pt → Prop} (hK : vx_Back l R p e below s args y 5 W9 Pre Post PostX)
    {b : Addr} {cellB : Cell} {kB : Class} (hcell : T.heap[b]? = some cellB) (hobj : cellB.vm.isStatics = false) (hcls : s.vm.findClass C = some cellB.cls) (hkB : s.vm.classes[cellB.cls]? = some kB)
    {g : JFrame} (hg : g.method = m) (hsize : g.locals.size = c.maxLocals) {argsL rest : List Value} (hlen : ∀ sig, parseMethodDescriptor x.desc = some sig → argsL.length = sig.parameters.length)
    (hstack : g.stack = argsL.reverse ++ .ref b :: rest) (hW : 2 * g.monitorRoom + (rest.map fun v => v.category).sum ≤ W9) (hdg : decode c.code g.pc = .ok (.invokeinterface index count, 5))
    (hpre : ∀ vm₁, s.WarmedH vm₁ → Pre ⟨T.setVm vm₁, locs, cells, slots⟩ (Value.ref b :: argsL).toArray) :
    (∃ (v : Option Value) (vm₁ : Vm) (B : Pt), s.WarmedH vm₁ ∧ Stand p l e R s m args below meth c B.U B.locs B.cells B.slots ∧ Post ⟨T.setVm vm₁, locs, cells, slots⟩ (Value.ref b :: argsL).toArray v B ∧
      ∀ target, Steps p.tables e below (B.U.setTop { g with pc := g.pc + 5, stack := v.toList ++ rest }) target → Steps p.tables e below (T.setTop g) target) ∨
    (∃ (q : Addr) (vm₁ : Vm) (B : Pt), s.WarmedH vm₁ ∧ Stand p l e R s m args below meth c B.U B.locs B.cells B.slots ∧ PostX ⟨T.setVm vm₁, locs, cells, slots⟩ (Value.ref b :: argsL).toArray q B ∧
      Steps p.tables e below (T.setTop g) ((B.U.setTop { g with stack := rest }).pushFrame (.throwing q))) := by
  obtain ⟨r0, r, hn, hrm, hstR, hsigR⟩ := Cond.declares_spec hdecl
  obtain ⟨cL, kL, r1, hcL, hkL, hiL, hfoundL, hn1⟩ := Cond.interfaceMethod_spec hface
  cases hn.symm.trans hn1
  have hr0cls : r0.cls = cL := Option.some.inj ((findClass_of_methodNamed hn).symm.trans hcL)
  obtain ⟨hnameR, hdescR⟩ := name_of_methodNamed hn hrm
  obtain ⟨mk, methM, hnamed, hmethM, -, habM⟩ := Cond.instanceMethod_spec hinst
  obtain ⟨c2, r2, m2, rm9, q1, q2, q3, q5, q4, -, q6, -⟩ := Cond.landsInDefault_spec hsel
  cases hcls.symm.trans q1
  cases hfoundL.symm.trans q2
  cases hnamed.symm.trans q3
  have hselP : selectMethod e.platform s.vm cellB.cls r0 = .method mk := by rw [Launch.admits_selectMethod X.admits]; exact q4
  have hpubM : hasFlag methM.accessFlags Acc.public_ = true := Cond.publicMethod_spec hnamed hmethM hpub
  have hway : ((cellB.cls :: s.vm.superclasses cellB.cls).any fun k => (declaredIn s.vm r.name r.desc k).any fun (_, z) => z.isPrivate || z.isStatic) = false := by
    rw [hnameR, hdescR]; exact Cond.unhidden_spec hcls hunh
  obtain ⟨c3, t3, w1, w2, w3⟩ := Cond.castable_spec hcast
  cases hcls.symm.trans w1
  cases hcL.symm.trans w2
  obtain ⟨vm₁, X₁, hstep₁⟩ := X.invokeinterface hexec hown hlink hn hrm hstR (by rw [hr0cls]; exact hkL) hiL hx (a := b) (cell := cellB) (kcell := kB) hcell
    (fun z h => by rw [h] at hobj; cases hobj) hkB (by rw [hr0cls]; exact w3) hselP hmethM hway hpubM habM (g := g) hg (argsL := argsL) (rest := rest) (hlen _ hsigR) hstack hdg
  rcases hK m meth c ⟨T.setVm vm₁, locs, cells, slots⟩ { g with stack := rest } (.invokeinterface index count) mk (Value.ref b :: argsL).toArray X₁ hg hsize hdg hW (X₁.named hnamed) (hpre vm₁ X₁.warmed) with ⟨v, B, X', hpost, hsteps⟩ | ⟨q, B, X', hpost, hsteps⟩
  · exact Or.inl ⟨v, vm₁, B, X₁.warmed, X', hpost, fun target h => hstep₁ _ fun acts => by rw [doInvoke_state]; exact hsteps.trans h⟩
  · exact Or.inr ⟨q, vm₁, B, X₁.warmed, X', hpost, hstep₁ _ fun acts => by rw [doInvoke_state]; exact hsteps⟩
theorem nb_callVP {T : State} (X : Stand p l e R s m args below meth c T locs cells slots) (hexec : p.tables.exec = Jvm.exec) {own C2 : String} {index : Nat} {y : MethodName} {bytes : ByteArray} {maxL : Nat} {ret : Option FieldType}
    (hown : s.vm.findClass own = some m.cls) (hlink : (Cond.methodLink own index y).before args s = true) (hinst : (Cond.instanceMethod y).before args s = true) (hpriv : (Cond.privateMethod y).before args s = true) {x2 y2 : MethodName} (hxc : y2.cls = y.cls) (hinst2 : (Cond.instanceMethod y2).before args s = true) (hsel2 : (Cond.selects C2 x2 y2).before args s = true)
    (hcode : (Cond.code y bytes maxL ret).before args s = true) (hy : y.cls ≠ "java/lang/invoke/MethodHandle" ∧ y.cls ≠ "java/lang/invoke/VarHandle")
    {W9 : Nat} {Pre : Pt → Array Value → Prop} {Post : Pt → Array Value → Option Value → Pt → Prop} {PostX : Pt → Array Value → Addr → Pt → Prop} (hK : vx_Back l R p e below s args y 3 W9 Pre Post PostX)
    {b : Addr} {cellB : Cell} (hcell : T.heap[b]? = some cellB) (hobj : cellB.vm.isStatics = false)
    {g : JFrame} (hg : g.method = m) (hsize : g.locals.size = c.maxLocals) {argsL rest : List Value} (hlen : ∀ sig, parseMethodDescriptor y.desc = some sig → argsL.length = sig.parameters.length)
    (hstack : g.stack = argsL.reverse ++ .ref b :: rest) (hW : 2 * g.monitorRoom + (rest.map fun v => v.category).sum ≤ W9) (hdg : decode c.code g.pc = .ok (.invokevirtual index, 3))
    (hpre : ∀ vm₁, s.WarmedH vm₁ → Pre ⟨T.setVm vm₁, locs, cells, slots⟩ (Value.ref b :: argsL).toArray) :
    (∃ (v : Option Value) (vm₁ : Vm) (B : Pt), s.WarmedH vm₁ ∧ Stand p l e R s m args below meth c B.U B.locs B.cells B.slots ∧ Post ⟨T.setVm vm₁, locs, cells, slots⟩ (Value.ref b :: argsL).toArray v B ∧
      ∀ target, Steps p.tables e below (B.U.setTop { g with pc := g.pc + 3, stack := v.toList ++ rest }) target → Steps p.tables e below (T.setTop g) target) ∨
    (∃ (q : Addr) (vm₁ : Vm) (B : Pt), s.WarmedH vm₁ ∧ Stand p l e R s m args below meth c B.U B.locs B.cells B.slots ∧ PostX ⟨T.setVm vm₁, locs, cells, slots⟩ (Value.ref b :: argsL).toArray q B ∧
      Steps p.tables e below (T.setTop g) ((B.U.setTop { g with stack := rest }).pushFrame (.throwing q))) := by
  obtain ⟨mk, methM, hnamed, hmethM, hstM, habM⟩ := Cond.instanceMethod_spec hinst
  obtain ⟨methM', cM, hmethM', -, -, -, -, -, -, hsigM⟩ := Cond.code_spec hnamed hcode
  cases hmethM.symm.trans hmethM'
  obtain ⟨mk2, methM2, hnamed2, -⟩ := Cond.instanceMethod_spec hinst2
  obtain ⟨c2, r2, m2, q1, q2, q3, q4, kP, hkP, hkPi⟩ := Cond.selects_spec hsel2
  cases hnamed2.symm.trans q3
  have hcl9 : mk2.cls = mk.cls := Option.some.inj ((findClass_of_methodNamed hnamed2).symm.trans (by rw [hxc]; exact findClass_of_methodNamed hnamed))
  rw [hcl9] at hkP
  have hselP : selectMethod e.platform s.vm cellB.cls mk = .method mk := by rw [Launch.admits_selectMethod X.admits]; exact selectMethod_private hmethM (Cond.privateMethod_at hpriv mk methM hnamed hmethM)
  obtain ⟨vm₁, X₁, hstep₁⟩ := X.invokevirtual hexec hown hlink hnamed hmethM hstM hkP hkPi hy (a := b) (cell := cellB) hcell
    (fun z h => by rw [h] at hobj; cases hobj) hselP hmethM habM hkP hkPi (g := g) hg (argsL := argsL) (rest := rest) (hlen _ hsigM) hstack hdg
  rcases hK m meth c ⟨T.setVm vm₁, locs, cells, slots⟩ { g with stack := rest } (.invokevirtual index) mk (Value.ref b :: argsL).toArray X₁ hg hsize hdg hW (X₁.named hnamed) (hpre vm₁ X₁.warmed) with ⟨v, B, X', hpost, hsteps⟩ | ⟨q, B, X', hpost, hsteps⟩
  · exact Or.inl ⟨v, vm₁, B, X₁.warmed, X', hpost, fun target h => hstep₁ _ fun acts => by rw [doInvoke_state]; exact hsteps.trans h⟩
  · exact Or.inr ⟨q, vm₁, B, X₁.warmed, X', hpost, hstep₁ _ fun acts => by rw [doInvoke_state]; exact hsteps⟩
end J2
section J3
variable {p : Program} {l : Launch} {e : Env} {R : Room} {s : State} {m : MethodId} {args : Array Value} {below : List Frame} {meth : Method} {c : Code} {D : Gh} {mc ms nL : Nat} {pc : Nat} {L : Loc_} {st st' : List AV} {M M' : Mem} {r : Out × Mem} {cc : ByteArray} {own : String} {y x : MethodName} {w : Cond} {maxL idx kd a : Nat} {C : String} {as : List AV}
/-- a superclass' private method -/
theorem ctW (hx : p.tables.exec = Jvm.exec) (hb : c.code = cc) (hml : c.maxLocals = nL) (hown : s.vm.findClass own = some m.cls) (K : K0 D s) (hcw : ∃ bytes ret, w = Cond.code y bytes maxL ret) (hw : w ∈ lw_tbl) (hn : kd ≠ 0) {C2 : String} {x2 y2 : MethodName}
    (hl : Cond.methodLink own idx y ∈ lw_tbl) (hi : Cond.instanceMethod y ∈ lw_tbl) (hp : Cond.privateMethod y ∈ lw_tbl) (hxc : y2.cls = y.cls) (hi2 : Cond.instanceMethod y2 ∈ lw_tbl) (hs2 : Cond.selects C2 x2 y2 ∈ lw_tbl) (hy : okY y)
    (hd : decode cc pc = .ok (.invokevirtual idx, 3)) (hlen : dN y as.length) (ha : mcl M a = kd) (hst : (st.map ab_ca).sum ≤ 8) :
    ∀ (H : Heap) (locs : List Loc) (ls : Array Slot), HR D M H → va_S (hbA D) s.heap H locs → ls.size = nL → CallsTo p l e R s m args below meth c H (F0 m pc ls (((vR (some a) :: as).reverse ++ st).map ab_cv)) y 3 ((vR (some a) :: as).map ab_cv) (st.map ab_cv) := by
  intro H _ ls hH _ hsz T locs cells slots hT X Pre Post PostX hB hpre
  obtain ⟨cell, hc, hcr⟩ := hH.at (a := a) (by rw [ha]; exact hn)
  have hcT : T.heap[a]? = some cell := by rw [hT]; exact hc
  have hle := fun sig h => (List.length_map (as := as) ab_cv).trans (hlen.len sig h)
  obtain ⟨bytes, ret, rfl⟩ := hcw
  exact nb_callVP X hx hown (K.1 _ hl rfl args) (K.1 _ hi rfl args) (K.1 _ hp rfl args) hxc (K.1 _ hi2 rfl args) (K.1 _ hs2 rfl args) (K.1 _ hw rfl args) hy hB hcT hcr.1.ns (g := F0 m pc ls (((vR (some a) :: as).reverse ++ st).map ab_cv)) rfl (hsz.trans hml.symm) hle stkE (rmE hst) (by rw [hb]; exact hd) hpre
/-- by an interface, to a default method -/
theorem ctFD (hx : p.tables.exec = Jvm.exec) (hb : c.code = cc) (hml : c.maxLocals = nL) (hown : s.vm.findClass own = some m.cls) (K : K0 D s) (KL : LDs s) (hcw : ∃ bytes ret, w = Cond.code y bytes maxL ret) (hw : w ∈ lw_tbl) (hn : KN kd C) {cnt : Nat}
    (hl : Cond.methodLink own idx y ∈ lw_tbl) (hdc : Cond.declares y ∈ lw_tbl) (hfc : Cond.interfaceMethod y.cls y.cls y.name y.desc ∈ lw_tbl) (hs : (C, y) ∈ ldT) (hi : Cond.instanceMethod y ∈ lw_tbl) (hp : Cond.publicMethod y ∈ lw_tbl) (hu : Cond.unhidden C y.name y.desc ∈ lw_tbl) (hca : Cond.castable C y.cls ∈ lw_tbl) (hy : okY y)
    (hd : decode cc pc = .ok (.invokeinterface idx cnt, 5)) (hlen : dN y as.length) (ha : mcl M a = kd) (hst : (st.map ab_ca).sum ≤ 8) :
    ∀ (H : Heap) (locs : List Loc) (ls : Array Slot), HR D M H → va_S (hbA D) s.heap H locs → ls.size = nL → CallsTo p l e R s m args below meth c H (F0 m pc ls (((vR (some a) :: as).reverse ++ st).map ab_cv)) y 5 ((vR (some a) :: as).map ab_cv) (st.map ab_cv) := by
  intro H _ ls hH _ hsz T locs cells slots hT X Pre Post PostX hB hpre
  obtain ⟨cell, hc, hcr⟩ := hH.at (a := a) (by rw [ha]; exact hn.1)
  have hcls := hn.cls K ha hcr
  obtain ⟨kB, hkB, -⟩ := Vm.findClass_spec hcls
  have hcT : T.heap[a]? = some cell := by rw [hT]; exact hc
  have hle := fun sig h => (List.length_map (as := as) ab_cv).trans (hlen.len sig h)
  obtain ⟨bytes, ret, rfl⟩ := hcw
  have hLD : (Cond.landsInDefault C y y).before args s = true := KL _ hs args
  exact nb_callID X hx hown (K.1 _ hl rfl args) (K.1 _ hdc rfl args) (K.1 _ hfc (by simp [stW, hy.1, hy.2]) args) hLD (K.1 _ hi rfl args) (K.1 _ hp rfl args) (K.1 _ hu rfl args) (K.1 _ hca rfl args) (K.1 _ hw rfl args) hy hB hcT hcr.1.ns hcls hkB (g := F0 m pc ls (((vR (some a) :: as).reverse ++ st).map ab_cv)) rfl (hsz.trans hml.symm) hle stkE (rmE hst) (by rw [hb]; exact hd) hpre
/-- a constant of an enum: its own method, an inherited one -/
theorem ctVE (hx : p.tables.exec = Jvm.exec) (hb : c.code = cc) (hml : c.maxLocals = nL) (hown : s.vm.findClass own = some m.cls) (K : K0 D s) (hcw : CodeW y w maxL) (hw : w ∈ lw_tbl) (hO : va_O C a (hbA D) s s.heap)
    (hl : Cond.methodLink own idx y ∈ lw_tbl ∨ (∃ host, Cond.methodLinkNest own idx y host ∈ lw_tbl) ∧ ∃ bytes ret, w = Cond.code y bytes maxL ret) (hi : Cond.instanceMethod y ∈ lw_tbl) (hs : Cond.selects C y y ∈ lw_tbl) (hy : okY y)
    (hd : decode cc pc = .ok (.invokevirtual idx, 3)) (hlen : dN y as.length) (hst : (st.map ab_ca).sum ≤ 8) :
    ∀ (H : Heap) (locs : List Loc) (ls : Array Slot), HR D M H → va_S (hbA D) s.heap H locs → ls.size = nL → CallsTo p l e R s m args below meth c H (F0 m pc ls (((vR (some a) :: as).reverse ++ st).map ab_cv)) y 3 ((vR (some a) :: as).map ab_cv) (st.map ab_cv) := by
  intro H locs9 ls hH hS9 hsz T locs cells slots hT X Pre Post PostX hB hpre
  obtain ⟨cell, hc0, hns, hcls, hnA⟩ := hO
  have hcT : T.heap[a]? = some cell := by rw [hT, hS9.2.1 a (Array.getElem?_eq_some_iff.mp hc0).1 hnA]; exact hc0
  have hle := fun sig h => (List.length_map (as := as) ab_cv).trans (hlen.len sig h)
  rcases hl with hl | ⟨⟨host, hl⟩, bytes, ret, rfl⟩
  · rcases hcw with ⟨bytes, ret, rfl⟩ | ⟨bytes, ret, hh, rfl⟩
    · exact vx_callV X hx hown (K.1 _ hl rfl args) (K.1 _ hi rfl args) (K.1 _ hs rfl args) (K.1 _ hw rfl args) hy hB hcT hns hcls (g := F0 m pc ls (((vR (some a) :: as).reverse ++ st).map ab_cv)) rfl (hsz.trans hml.symm) hle stkE (rmE hst) (by rw [hb]; exact hd) hpre
    · exact vx_callVX X hx hown (K.1 _ hl rfl args) (K.1 _ hi rfl args) (K.1 _ hs rfl args) (K.1 _ hw rfl args) hy hB hcT hns hcls (g := F0 m pc ls (((vR (some a) :: as).reverse ++ st).map ab_cv)) rfl (hsz.trans hml.symm) hle stkE (rmE hst) (by rw [hb]; exact hd) hpre
  · exact vx_callVN X hx hown (K.1 _ hl rfl args) (K.1 _ hi rfl args) (K.1 _ hs rfl args) (K.1 _ hw rfl args) hy hB hcT hns hcls (g := F0 m pc ls (((vR (some a) :: as).reverse ++ st).map ab_cv)) rfl (hsz.trans hml.symm) hle stkE (rmE hst) (by rw [hb]; exact hd) hpre
theorem ctUE (hx : p.tables.exec = Jvm.exec) (hb : c.code = cc) (hml : c.maxLocals = nL) (hown : s.vm.findClass own = some m.cls) (K : K0 D s) (hcw : ∃ bytes ret, w = Cond.code y bytes maxL ret) (hw : w ∈ lw_tbl) (hO : va_O C a (hbA D) s s.heap) {owner : String}
    (hl : Cond.methodLink own idx x ∈ lw_tbl) (hsm : Cond.sameMethod x.cls owner x.name x.desc ∈ lw_tbl) (hdc : Cond.declares ⟨owner, x.name, x.desc⟩ ∈ lw_tbl ∨ Cond.instanceMethod ⟨owner, x.name, x.desc⟩ ∈ lw_tbl ∧ ∃ b n t, Cond.code ⟨owner, x.name, x.desc⟩ b n t ∈ lw_tbl) (ho : okY ⟨owner, x.name, x.desc⟩)
    (hi : Cond.instanceMethod y ∈ lw_tbl) (hs : Cond.selects C x y ∈ lw_tbl)
    (hd : decode cc pc = .ok (.invokevirtual idx, 3)) (hlen : dN x as.length) (hst : (st.map ab_ca).sum ≤ 8) :
    ∀ (H : Heap) (locs : List Loc) (ls : Array Slot), HR D M H → va_S (hbA D) s.heap H locs → ls.size = nL → CallsTo p l e R s m args below meth c H (F0 m pc ls (((vR (some a) :: as).reverse ++ st).map ab_cv)) y 3 ((vR (some a) :: as).map ab_cv) (st.map ab_cv) := by
  intro H locs9 ls hH hS9 hsz T locs cells slots hT X Pre Post PostX hB hpre
  obtain ⟨cell, hc0, hns, hcls, hnA⟩ := hO
  have hcT : T.heap[a]? = some cell := by rw [hT, hS9.2.1 a (Array.getElem?_eq_some_iff.mp hc0).1 hnA]; exact hc0
  have hle := fun sig h => (List.length_map (as := as) ab_cv).trans (hlen.len sig h)
  obtain ⟨bytes, ret, rfl⟩ := hcw
  have hde : va_Decl s ⟨owner, x.name, x.desc⟩ := by
    rcases hdc with h | ⟨h1, b, n, t, h2⟩
    · exact va_Decl.abs (K.1 _ h rfl #[])
    · exact va_Decl.of (K.1 _ h1 rfl #[]) (K.1 _ h2 rfl #[])
  exact vx_callVU X hx hown (K.1 _ hl rfl args) (K.1 _ hsm rfl args) hde ho (K.1 _ hs rfl args) (K.1 _ hi rfl args) (K.1 _ hw rfl args) hB hcT hns hcls (g := F0 m pc ls (((vR (some a) :: as).reverse ++ st).map ab_cv)) rfl (hsz.trans hml.symm) hle stkE (rmE hst) (by rw [hb]; exact hd) hpre
end J3
