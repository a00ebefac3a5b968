/-! ===== what is asked of a method's entries ===== -/
/-- a method: its name, bytes, locals, answer, handlers, rank -/
abbrev MI : Type := MethodName × ByteArray × Nat × Option FieldType × List (Nat × Nat × Nat × Nat) × Nat
def miW (q : MI) : Cond := match q.2.2.2.2.1 with
  | [] => .code q.1 q.2.1 q.2.2.1 q.2.2.2.1
  | hh => .codeWith q.1 q.2.1 q.2.2.1 q.2.2.2.1 hh
theorem miW_code (q : MI) : CodeW q.1 (miW q) q.2.2.1 := by
  unfold miW
  split
  · exact Or.inl ⟨_, _, rfl⟩
  · exact Or.inr ⟨_, _, _, rfl⟩
/-- no handler is there for a place -/
def noH (q : MI) (pc : Nat) : Prop := ∀ x ∈ tableOf q.2.2.2.2.1, covers x pc = false
/-- a callee: its words, rank, locals -/
def Cal (q q' : MI) (aw : Nat) : Prop := miW q' ∈ lw_tbl ∧ q'.2.2.2.2.2 + 1 ≤ q.2.2.2.2.2 ∧ q'.2.2.1 ≤ 61 ∧ aw ≤ q'.2.2.1
def LinkM (own : String) (idx : Nat) (q' : MI) : Prop := Cond.methodLink own idx q'.1 ∈ lw_tbl ∨ (∃ host, Cond.methodLinkNest own idx q'.1 host ∈ lw_tbl) ∧ ∃ bytes ret, miW q' = Cond.code q'.1 bytes q'.2.2.1 ret
def RtV (q : MI) (pc kd : Nat) (q' : MI) (n : Nat) : Prop := ∃ (idx : Nat) (C : String), KN kd C ∧ decode q.2.1 pc = .ok (.invokevirtual idx, 3) ∧ Cond.instanceMethod q'.1 ∈ lw_tbl ∧
  ((LinkM q.1.cls idx q' ∧ Cond.selects C q'.1 q'.1 ∈ lw_tbl ∧ okY q'.1 ∧ dN q'.1 n) ∨
  (∃ (x : MethodName) (owner : String), (∃ bytes ret, miW q' = Cond.code q'.1 bytes q'.2.2.1 ret) ∧ Cond.methodLink q.1.cls idx x ∈ lw_tbl ∧ Cond.sameMethod x.cls owner x.name x.desc ∈ lw_tbl ∧ (Cond.declares ⟨owner, x.name, x.desc⟩ ∈ lw_tbl ∨ Cond.instanceMethod ⟨owner, x.name, x.desc⟩ ∈ lw_tbl ∧ ∃ b n t, Cond.code ⟨owner, x.name, x.desc⟩ b n t ∈ lw_tbl) ∧ okY ⟨owner, x.name, x.desc⟩ ∧ Cond.selects C x q'.1 ∈ lw_tbl ∧ dN x n) ∨
  ∃ (C2 : String) (x2 y2 : MethodName), (∃ bytes ret, miW q' = Cond.code q'.1 bytes q'.2.2.1 ret) ∧ Cond.methodLink q.1.cls idx q'.1 ∈ lw_tbl ∧ Cond.privateMethod q'.1 ∈ lw_tbl ∧ y2.cls = q'.1.cls ∧ Cond.instanceMethod y2 ∈ lw_tbl ∧ Cond.selects C2 x2 y2 ∈ lw_tbl ∧ okY q'.1 ∧ dN q'.1 n)
def RtE (q : MI) (pc g : Nat) (q' : MI) (n : Nat) : Prop := ∃ (idx : Nat) (C : String), (g, C) ∈ eTb ∧ decode q.2.1 pc = .ok (.invokevirtual idx, 3) ∧ Cond.instanceMethod q'.1 ∈ lw_tbl ∧
  ((LinkM q.1.cls idx q' ∧ Cond.selects C q'.1 q'.1 ∈ lw_tbl ∧ okY q'.1 ∧ dN q'.1 n) ∨
  ∃ (x : MethodName) (owner : String), (∃ bytes ret, miW q' = Cond.code q'.1 bytes q'.2.2.1 ret) ∧ Cond.methodLink q.1.cls idx x ∈ lw_tbl ∧ Cond.sameMethod x.cls owner x.name x.desc ∈ lw_tbl ∧ (Cond.declares ⟨owner, x.name, x.desc⟩ ∈ lw_tbl ∨ Cond.instanceMethod ⟨owner, x.name, x.desc⟩ ∈ lw_tbl ∧ ∃ b n t, Cond.code ⟨owner, x.name, x.desc⟩ b n t ∈ lw_tbl) ∧ okY ⟨owner, x.name, x.desc⟩ ∧ Cond.selects C x q'.1 ∈ lw_tbl ∧ dN x n)
def RtS (q : MI) (pc : Nat) (q' : MI) (n : Nat) : Prop := ∃ idx : Nat, decode q.2.1 pc = .ok (.invokestatic idx, 3) ∧ LinkM q.1.cls idx q' ∧ Cond.static q'.1 ∈ lw_tbl ∧ Cond.initialized q'.1.cls ∈ lw_tbl ∧ okY q'.1 ∧ dN q'.1 n
def RtI (q : MI) (pc kd : Nat) (q' : MI) (n : Nat) : Prop := ∃ idx : Nat, decode q.2.1 pc = .ok (.invokespecial idx, 3) ∧ dN q'.1 n ∧ Cond.instanceMethod q'.1 ∈ lw_tbl ∧
  (((Cond.methodLink q.1.cls idx q'.1 ∈ lw_tbl ∨ ∃ host, Cond.methodLinkNest q.1.cls idx q'.1 host ∈ lw_tbl) ∧ q'.1.name = "<init>" ∧ okY q'.1 ∧ ∃ bytes, miW q' = Cond.code q'.1 bytes q'.2.2.1 none) ∨
  ∃ C, KN kd C ∧ (∃ bytes ret, miW q' = Cond.code q'.1 bytes q'.2.2.1 ret) ∧ Cond.methodLink q.1.cls idx q'.1 ∈ lw_tbl ∧ Cond.sameMethod q'.1.cls q'.1.cls q'.1.name q'.1.desc ∈ lw_tbl ∧ Cond.superclass q.1.cls q'.1.cls ∈ lw_tbl ∧ q'.1.name ≠ "<init>")
def RtF (q : MI) (pc kd : Nat) (q' : MI) (n : Nat) : Prop := ∃ (idx cnt : Nat) (C : String) (x : MethodName), KN kd C ∧ decode q.2.1 pc = .ok (.invokeinterface idx cnt, 5) ∧ (∃ bytes ret, miW q' = Cond.code q'.1 bytes q'.2.2.1 ret) ∧
  Cond.methodLink q.1.cls idx x ∈ lw_tbl ∧ Cond.declares x ∈ lw_tbl ∧ Cond.interfaceMethod x.cls x.cls x.name x.desc ∈ lw_tbl ∧ (Cond.selects C x q'.1 ∈ lw_tbl ∨ x = q'.1 ∧ (C, x) ∈ ldT) ∧ Cond.instanceMethod q'.1 ∈ lw_tbl ∧ Cond.publicMethod q'.1 ∈ lw_tbl ∧ Cond.unhidden C x.name x.desc ∈ lw_tbl ∧ Cond.castable C x.cls ∈ lw_tbl ∧ okY x ∧ dN x n
/-- a handler for E at a place: where it goes on, its local -/
def Hnd (q : MI) (nT : List (String × String)) (pc E k9 pc' : Nat) : Prop := ∃ (pre : List ExceptionTableEntry) (x : ExceptionTableEntry) (suf : List ExceptionTableEntry) (nm : String) (n9 : Nat), tableOf q.2.2.2.2.1 = pre ++ x :: suf ∧
  (∀ z ∈ pre, covers z pc = false ∨ (z.catchType ≠ 0 ∧ ∃ nm', Cond.classLink q.1.cls z.catchType nm' ∈ lw_tbl ∧ (excN E, nm') ∈ nT)) ∧ covers x pc = true ∧ x.catchType ≠ 0 ∧ Cond.classLink q.1.cls x.catchType nm ∈ lw_tbl ∧ Cond.castable (excN E) nm ∈ lw_tbl ∧
  (decode q.2.1 x.handlerPc = .ok (.astore k9, 2) ∧ n9 = 2 ∨ ∃ kk : Fin 4, kk.val = k9 ∧ decode q.2.1 x.handlerPc = .ok (.astore_n kk, 1) ∧ n9 = 1) ∧ k9 < q.2.2.1 ∧ pc' = x.handlerPc + n9
section S10
variable {p : Program} {l : Launch} {e : Env} {R : Room} {s : State} {m : MethodId} {args : Array Value} {below : List Frame} {meth : Method} {c : Code} {D : Gh} {mc ms nL : Nat} {pc : Nat} {L : Loc_} {st st' : List AV} {M M' : Mem} {r : Out × Mem} {cc : ByteArray} {own : String} {G : Nat → Option Nat} {iT : XT} {q : MI}
/-- what stands throughout a method's run -/
def Ctx (p : Program) (l : Launch) (e : Env) (R : Room) (s : State) (m : MethodId) (meth : Method) (c : Code) (D : Gh) (G : Nat → Option Nat) (iT : XT) (q : MI) (mc ms : Nat) : Prop :=
  p.tables.exec = Jvm.exec ∧ c.code = q.2.1 ∧ c.maxLocals = q.2.2.1 ∧ s.vm.findClass q.1.cls = some m.cls ∧ SK D G iT s ∧ meth.locks = false ∧ meth.sig.returnType = q.2.2.2.1 ∧ meth.name = q.1.name ∧ c.exceptionTable.toList = tableOf q.2.2.2.2.1 ∧
  q.2.2.2.2.2 ≤ R.frames ∧ 5000 * q.2.2.2.2.2 ≤ R.locals ∧ mc ≤ R.cells ∧ ms ≤ R.slots ∧ l.stackTraces = false
theorem hnd_snd (X : Ctx p l e R s m meth c D G iT q mc ms) {E k9 pc' : Nat} {M1 : Mem} (h : Hnd q iT.2 pc E k9 pc') (k : Sd p l e R s m args below meth c D mc ms q.2.2.1 pc' (ldel k9 L) [] M1 r) {H : Heap} {locs : List Loc} {cells slots : Nat} {ls : Array Slot} {a : Addr} {ce : Cell} (hH : HR D M1 H) (hS : va_S (hbA D) s.heap H locs) (hl : lv_has ls q.2.2.1 (L.map cvp)) (h1 : cells + mnx r.2 ≤ mc + mnx M1) (h2 : slots + msl r.2 ≤ ms + msl M1)
    (hce : H[a]? = some ce) (hcv : ce.vm = .none) (hcl : s.vm.findClass (excN E) = some ce.cls) : vx_W p l e R s m args below meth c H locs cells slots (vx_MQ below (Qr D r) (Xr D r) args s mc ms (hbA D)) (F0 m pc ls (st.map ab_cv)) a := by
  obtain ⟨hx, hb, hml, hown, K, -, -, -, htab, -⟩ := X
  obtain ⟨pre, x, suf, nm, n9, t1, t2, t3, t4, t5, t6, t7, t8, rfl⟩ := h
  refine vx_catch hown pre x suf (by rw [htab]; exact t1) (fun z hz => ?_) t3 t4 (K.1.1 _ t5 rfl args) (K.1.1 _ t6 rfl args) hce hcv hcl ?_
  · rcases t2 z hz with h | ⟨h, nm', h3, h4⟩
    · exact Or.inl h
    · exact Or.inr ⟨h, nm', K.1.1 _ h3 rfl args, K.2.2.2.2.2.2.1 _ h4⟩
  · have kk : ∀ ls' : Array Slot, lv_has ls' q.2.2.1 ((lput1 L k9 (vR (some a))).map cvp) → W p l e R s m args below meth c H locs cells slots (vx_MQ below (Qr D r) (Xr D r) args s mc ms (hbA D)) (F0 m (x.handlerPc + n9) ls' []) := fun ls' hl' =>
      k H locs cells slots ls' hH hS ⟨hl'.1, hl'.2.1, fun z hz => hl'.2.2 z (List.mem_cons_of_mem _ hz)⟩ h1 h2
    rcases t7 with ⟨hd, rfl⟩ | ⟨kk9, rfl, hd, rfl⟩
    · exact lv_astore hx hb hd hl t8 (lput1_map (v := vR (some a))) kk
    · exact lv_astore_n hx hb hd rfl hl t8 (lput1_map (v := vR (some a))) kk
end S10
