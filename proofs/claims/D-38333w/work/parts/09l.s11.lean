/-! ===== what is asked of an entry, by its sort; one step is sound (printed by gen_s11.py) ===== -/
def LinkS (own : String) (idx : Nat) (ref n d : String) : Prop := Cond.fieldLink own idx ref n d ∈ lw_tbl ∨ ∃ host, Cond.fieldLinkNest own idx ref n d host ∈ lw_tbl
def SameS (ref C n d : String) : Prop := ref = C ∨ Cond.sameField ref C n d ∈ lw_tbl
def NewK (q : MI) (pc kd n : Nat) : Prop := ∃ (idx : Nat) (k : vw_C), kCl[kd]? = some k ∧ kd ≠ 0 ∧ kd < 100 ∧ (kFl.getD kd []).length ≤ k.2.2 ∧ (∀ x ∈ kFl.getD kd [], x.1 ≠ 9) ∧ Cond.classLink q.1.cls idx k.1 ∈ lw_tbl ∧ Cond.instantiable k.1 n ∈ lw_tbl ∧ Cond.initialized k.1 ∈ lw_tbl ∧ decode q.2.1 pc = .ok (.new idx, 3)
def ok0 (q : MI) (pc len : Nat) (i : Instr) (cn : Int32) : Prop := decode q.2.1 pc = .ok (i, len) ∧ okS i len cn q.2.2.1 = true
def ok1 (q : MI) (pc len : Nat) (i : Instr) : Prop := decode q.2.1 pc = .ok (i, 1) ∧ len = 1
def ok3 (q : MI) (bp : Nat → Nat) (pc : Nat) (i : Instr) (r : List Nat) : Prop := ∃ (t f : Nat) (off : Int), r = [t, f] ∧ decode q.2.1 pc = .ok (i, 3) ∧ offB i = some off ∧ (pc : Int) + off = (bp t : Int) ∧ bp f = pc + 3
def ok4 (q : MI) (bp : Nat → Nat) (pc : Nat) (r : List Nat) : Prop := ∃ t : Nat, r = [t] ∧ (bp t = pc ∨ ∃ off : Int, decode q.2.1 pc = .ok (.goto off, 3) ∧ (pc : Int) + off = (bp t : Int))
def ok5 (q : MI) (bp : Nat → Nat) (pc : Nat) (r : List Nat) : Prop := ∃ (d : Nat) (ps : List Nat), r = d :: ps ∧ ((∃ (dflt lo hi : Int) (offs : Array Int) (n len' : Nat), decode q.2.1 pc = .ok (.tableswitch dflt lo hi offs, len') ∧ hi = lo + n - 1 ∧ okT pc bp dflt lo n offs d (pairs ps) = true) ∨
  ∃ (dflt : Int) (qs : Array (Int × Int)) (len' : Nat), decode q.2.1 pc = .ok (.lookupswitch dflt qs, len') ∧ (qs.toList.zip (qs.toList.drop 1)).all (fun (a, next) => a.1 < next.1) = true ∧ (pc : Int) + dflt = (bp d : Int) ∧ okLk pc bp qs.toList (pairs ps) = true)
def ok6 (q : MI) (pc len : Nat) (r : List Nat) : Prop := ∃ (sort kd f idx j s' : Nat) (ref : String) (k : vw_C), r = [sort, kd, f] ∧ len = 3 ∧ decode q.2.1 pc = .ok (.getfield idx, 3) ∧ kCl[kd]? = some k ∧ kd ≠ 0 ∧ kd < 100 ∧ j < k.2.2 ∧ (kFl.getD kd [])[j]? = some (s', f) ∧ (sort = s' ∧ sort < 4 ∨ sort = 0 ∧ (s' = 4 ∨ s' = 5)) ∧ LinkF q.1.cls idx ref (k.2.1 j) ∧ SameF ref (k.2.1 j)
def ok7 (q : MI) (pc len : Nat) (r : List Nat) : Prop := ∃ (sort kd f idx j : Nat) (ref : String) (k : vw_C), r = [sort, kd, f] ∧ len = 3 ∧ decode q.2.1 pc = .ok (.putfield idx, 3) ∧ kCl[kd]? = some k ∧ kd ≠ 0 ∧ kd < 100 ∧ j < k.2.2 ∧ (kFl.getD kd [])[j]? = some (sort, f) ∧ LinkF q.1.cls idx ref (k.2.1 j) ∧ SameF ref (k.2.1 j) ∧
  ((k.2.1 j).2.2.2 = false ∨ ((k.2.1 j).2.2.2 = true ∧ q.1.name = "<init>" ∧ (k.2.1 j).1 = q.1.cls ∧ Cond.fieldLink q.1.cls idx ref (k.2.1 j).2.1 (k.2.1 j).2.2.1 ∈ lw_tbl))
def ok8 (q : MI) (pc len : Nat) (i : Instr) (r : List Nat) : Prop := ∃ (sort kd : Nat), r = [sort, kd] ∧ len = 1 ∧ decode q.2.1 pc = .ok (i, 1) ∧ ((sort = 0 ∧ (i = .iaload ∧ kd = 100 ∨ i = .baload ∧ (kd = 101 ∨ kd = 102))) ∨ (sort = 2 ∧ i = .daload ∧ kd = 103) ∨ (sort = 3 ∧ i = .aaload ∧ 104 ≤ kd ∧ ∃ ty, kAr[kd - 100]? = some ty ∧ ty.isReference = true))
def ok9 (q : MI) (pc len : Nat) (i : Instr) (r : List Nat) : Prop := ∃ (sort kd : Nat) (ks : List Nat), r = sort :: kd :: ks ∧ len = 1 ∧ decode q.2.1 pc = .ok (i, 1) ∧ ((sort = 0 ∧ i = .iastore ∧ kd = 100) ∨ (sort = 2 ∧ i = .dastore ∧ kd = 103) ∨ (sort = 4 ∧ i = .bastore ∧ kd = 101) ∨ (sort = 5 ∧ i = .bastore ∧ kd = 102) ∨ (sort = 3 ∧ i = .aastore ∧ 104 ≤ kd ∧ ∃ ty, kAr[kd - 100]? = some ty ∧ AsgK ty ks ∧ 0 ∉ ks))
def ok10 (q : MI) (pc len : Nat) (r : List Nat) : Prop := ∃ (kd : Nat) (ty : FieldType), r = [kd] ∧ len = 1 ∧ 100 ≤ kd ∧ kAr[kd - 100]? = some ty ∧ decode q.2.1 pc = .ok (.arraylength, 1)
def ok11 (q : MI) (pc len : Nat) (r : List Nat) : Prop := ∃ kd n : Nat, r = [kd, n] ∧ len = 3 ∧ NewK q pc kd n
def ok24 (q : MI) (pc len : Nat) (r : List Nat) : Prop := ∃ kd n c2 : Nat, r = [kd, n, c2] ∧ len = 3 ∧ NewK q pc kd n
def ok12 (q : MI) (pc len : Nat) (r : List Nat) : Prop := ∃ kd : Nat, r = [kd] ∧ 100 ≤ kd ∧ ((∃ at_ : ArrayType, len = 2 ∧ kAr[kd - 100]? = some (newarray.typeOf at_) ∧ Cond.arrayClass (newarray.typeOf at_) ∈ lw_tbl ∧ decode q.2.1 pc = .ok (.newarray at_, 2)) ∨
  ∃ (idx : Nat) (ty : FieldType), len = 3 ∧ kAr[kd - 100]? = some ty ∧ ((∃ C, ty = .object C ∧ Cond.classLink q.1.cls idx C ∈ lw_tbl ∧ Cond.arrayOver (.object C) ∈ lw_tbl) ∨ (ty = .array .int ∧ Cond.classLink q.1.cls idx (FieldType.array .int).toString ∈ lw_tbl)) ∧ decode q.2.1 pc = .ok (.anewarray idx, 3))
def ldL (q : MI) (pc len idx : Nat) : Prop := decode q.2.1 pc = .ok (.ldc idx, 2) ∧ len = 2 ∨ decode q.2.1 pc = .ok (.ldc_w idx, 3) ∧ len = 3
def stL (q : MI) (pc len : Nat) (C n d : String) : Prop := ∃ (idx : Nat) (ref : String), len = 3 ∧ decode q.2.1 pc = .ok (.getstatic idx, 3) ∧ LinkS q.1.cls idx ref n d ∧ SameS ref C n d
def ok13 (q : MI) (pc len : Nat) (r : List Nat) : Prop := ∃ g : Nat, r = [g] ∧ ((∃ C n d, g ≠ 0 ∧ gTb[g]? = some (0, C, n, d) ∧ stL q pc len C n d) ∨ (∃ (tx : String) (idx : Nat), gTb[g]? = some (1, tx, "", "") ∧ Cond.stringRef q.1.cls idx tx ∈ lw_tbl ∧ ldL q pc len idx) ∨
  ∃ (C : String) (idx : Nat), gTb[g]? = some (2, C, "", "") ∧ Cond.classLink q.1.cls idx C ∈ lw_tbl ∧ len = 2 ∧ decode q.2.1 pc = .ok (.ldc idx, 2))
def ok14 (iT : XT) (q : MI) (pc len : Nat) (cn : Int32) : Prop := (∃ idx : Nat, Cond.constant q.1.cls idx cn ∈ lw_tbl ∧ ldL q pc len idx) ∨ ∃ C n d, (C, n, d, vI cn) ∈ iT.1 ∧ stL q pc len C n d
def ok15 (q : MI) (pc len : Nat) (r : List Nat) : Prop := ∃ b idx : Nat, r = [b] ∧ len = 3 ∧ Cond.constantDouble q.1.cls idx (UInt64.ofNat b) ∈ lw_tbl ∧ decode q.2.1 pc = .ok (.ldc2_w idx, 3)
def ok16 (iT : XT) (q : MI) (pc len : Nat) (r : List Nat) : Prop := ∃ b : Nat, r = [b] ∧ ((∃ idx : Nat, len = 3 ∧ Cond.constantLong q.1.cls idx (Int64.ofNat b) ∈ lw_tbl ∧ decode q.2.1 pc = .ok (.ldc2_w idx, 3)) ∨ ∃ C n d, (C, n, d, vJ (Int64.ofNat b)) ∈ iT.1 ∧ stL q pc len C n d)
def ok17 (q : MI) (pc len : Nat) (r : List Nat) : Prop := ∃ (kd idx : Nat) (nm : String), r = [kd] ∧ len = 3 ∧ (KX kd nm ∨ ∃ nm9, KX kd nm9 ∧ Cond.castable nm9 nm ∈ lw_tbl) ∧ Cond.classLink q.1.cls idx nm ∈ lw_tbl ∧ decode q.2.1 pc = .ok (.checkcast idx, 3)
def ok32 (q : MI) (pc len : Nat) (r : List Nat) : Prop := ∃ (kd idx : Nat) (nm : String), r = [kd] ∧ len = 3 ∧ KN kd nm ∧ Cond.classLink q.1.cls idx nm ∈ lw_tbl ∧ decode q.2.1 pc = .ok (.instanceof idx, 3)
def ok18 (mi : Nat → MI) (q : MI) (pc len : Nat) (r : List Nat) : Prop := ∃ rt n aw m' : Nat, r = [rt, n, aw, m'] ∧ len = 3 ∧ Cal q (mi m') aw ∧ RtS q pc (mi m') n ∧ noH q pc
def ok19 (mi : Nat → MI) (q : MI) (pc len : Nat) (r : List Nat) : Prop := ∃ rt n aw kd m' : Nat, r = [rt, n + 1, aw, kd, m'] ∧ len = 3 ∧ Cal q (mi m') aw ∧ RtV q pc kd (mi m') n ∧ noH q pc
def ok31 (mi : Nat → MI) (q : MI) (pc len : Nat) (r : List Nat) : Prop := ∃ (rt n aw : Nat) (ts : List Nat), r = rt :: (n + 1) :: aw :: ts ∧ len = 3 ∧ ∀ i kd m' : Nat, ts[2 * i]? = some kd → ts[2 * i + 1]? = some m' → Cal q (mi m') aw ∧ RtE q pc kd (mi m') n
def ok34 (mi : Nat → MI) (q : MI) (pc len : Nat) (r : List Nat) : Prop := ∃ rt n aw kd m' : Nat, r = [rt, n + 1, aw, kd, m'] ∧ len = 5 ∧ Cal q (mi m') aw ∧ RtF q pc kd (mi m') n
def ok35 (mi : Nat → MI) (q : MI) (pc len : Nat) (r : List Nat) : Prop := ∃ (rt n aw : Nat) (ts : List Nat), r = rt :: (n + 1) :: aw :: ts ∧ len = 5 ∧ ∀ i kd m' : Nat, ts[2 * i]? = some kd → ts[2 * i + 1]? = some m' → Cal q (mi m') aw ∧ RtF q pc kd (mi m') n
def ok36 (mi : Nat → MI) (q : MI) (pc len : Nat) (r : List Nat) : Prop := ∃ rt n aw kd m' : Nat, r = [rt, n + 1, aw, kd, m'] ∧ len = 3 ∧ Cal q (mi m') aw ∧ RtI q pc kd (mi m') n
def ok37 (mi : Nat → MI) (q : MI) (pc len : Nat) (r : List Nat) : Prop := ∃ rt n aw m' c2 kd : Nat, r = [rt, n + 1, aw, m', c2, kd] ∧ len = 3 ∧ Cal q (mi m') aw ∧ RtI q pc kd (mi m') n
def ok23 (mi : Nat → MI) (iT : XT) (q : MI) (bp : Nat → Nat) (pc len : Nat) (r : List Nat) : Prop := ∃ (rt n aw m' c2 kd k9 : Nat) (hs : List Nat), r = rt :: (n + 1) :: aw :: m' :: c2 :: kd :: k9 :: hs ∧ len = 3 ∧ Cal q (mi m') aw ∧ RtV q pc kd (mi m') n ∧
  ∀ i E b : Nat, hs[2 * i]? = some E → hs[2 * i + 1]? = some b → (∀ j, j < i → hs[2 * j]? ≠ some E) → Hnd q iT.2 pc E k9 (bp b)
def ok20 (q : MI) (pc : Nat) (i : Instr) (r : List Nat) : Prop := ∃ k : Nat, r = [k] ∧ decode q.2.1 pc = .ok (i, 1) ∧ ((k = 0 ∧ i = .ireturn ∧ q.2.2.2.1 = some .int) ∨ (k = 1 ∧ i = .lreturn ∧ q.2.2.2.1 = some .long) ∨ (k = 2 ∧ i = .dreturn ∧ q.2.2.2.1 = some .double) ∨ (k = 3 ∧ i = .areturn ∧ ∃ rt, q.2.2.2.1 = some rt ∧ ((∃ n, rt = .object n) ∨ ∃ t, rt = .array t)) ∨ (k = 4 ∧ i = .ireturn ∧ q.2.2.2.1 = some .boolean) ∨ (k = 5 ∧ i = .ireturn ∧ q.2.2.2.1 = some .byte) ∨ (k = 6 ∧ i = .ireturn ∧ q.2.2.2.1 = some .char) ∨ (k = 9 ∧ i = .return_ ∧ q.2.2.2.1 = none))
def ok21 (q : MI) (pc : Nat) (r : List Nat) : Prop := ∃ (E ik ic : Nat) (names : List String), r = [E] ∧ Bundle.fit (excN E) = true ∧ (∀ n ∈ names, Bundle.fit n = true) ∧ Cond.classLink q.1.cls ik (excN E) ∈ lw_tbl ∧ Cond.initialized (excN E) ∈ lw_tbl ∧ (∀ w ∈ vx_at0 q.1.cls ic (excN E) names, w ∈ lw_tbl ∧ stW w = true) ∧ (∀ w ∈ Cond.classLink q.1.cls ik (excN E) :: Cond.initialized (excN E) :: vx_at0 q.1.cls ic (excN E) names, vx_ot w = true) ∧
  decode q.2.1 pc = .ok (.new ik, 3) ∧ decode q.2.1 (pc + 3) = .ok (.dup, 1) ∧ decode q.2.1 (pc + 4) = .ok (.invokespecial ic, 3) ∧ decode q.2.1 (pc + 7) = .ok (.athrow, 1) ∧ noH q (pc + 7) ∧ names.length + 3 < q.2.2.2.2.2 ∧ 8 + (13 * (names.length + 1) + 42) ≤ 5000 * q.2.2.2.2.2
def ok22 (q : MI) (pc len : Nat) : Prop := ∃ idx : Nat, len = 3 ∧ 1 ≤ q.2.2.2.2.2 ∧ Cond.methodLink q.1.cls idx Lib.objectInit ∈ lw_tbl ∧ Cond.instanceMethod Lib.objectInit ∈ lw_tbl ∧ Cond.code Lib.objectInit ⟨#[0xb1]⟩ 1 none ∈ lw_tbl ∧ decode q.2.1 pc = .ok (.invokespecial idx, 3)
def ok26 (q : MI) (pc len : Nat) (r : List Nat) : Prop := ∃ sort kd idx : Nat, r = [sort, kd] ∧ len = 3 ∧ 1 ≤ q.2.2.2.2.2 ∧ Cond.methodLink q.1.cls idx arraycopyName ∈ lw_tbl ∧ (Cond.native arraycopyName ∈ lw_tbl ∧ Cond.static arraycopyName ∈ lw_tbl ∧ Cond.initialized "java/lang/System" ∈ lw_tbl) ∧ decode q.2.1 pc = .ok (.invokestatic idx, 3) ∧
  ((sort = 0 ∧ (kd = 100 ∨ kd = 101 ∨ kd = 102)) ∨ (sort = 3 ∧ 104 ≤ kd ∧ ∃ ty, kAr[kd - 100]? = some ty ∧ AsgK ty ksO))
def ok27 (q : MI) (pc len : Nat) : Prop := ∃ idx : Nat, len = 3 ∧ 1 ≤ q.2.2.2.2.2 ∧ Cond.methodLink q.1.cls idx d2lN ∈ lw_tbl ∧ (Cond.native d2lN ∈ lw_tbl ∧ Cond.static d2lN ∈ lw_tbl ∧ Cond.initialized "java/lang/Double" ∈ lw_tbl) ∧ decode q.2.1 pc = .ok (.invokestatic idx, 3)
def ok38 (q : MI) (pc len : Nat) (r : List Nat) : Prop := ∃ (op idx : Nat) (bytes : ByteArray), op ≤ 2 ∧ r = [op] ∧ len = 3 ∧ 1 ≤ q.2.2.2.2.2 ∧ Cond.methodLink q.1.cls idx (moN op) ∈ lw_tbl ∧ (Cond.static (moN op) ∈ lw_tbl ∧ Cond.initialized "java/lang/Math" ∈ lw_tbl ∧ Cond.code (moN op) bytes (moL op) (some .double) ∈ lw_tbl) ∧ decode q.2.1 pc = .ok (.invokestatic idx, 3)
def ok39 (mi : Nat → MI) (q : MI) (pc len : Nat) (r : List Nat) : Prop := ∃ rt n aw m' : Nat, r = [rt, n, aw, m'] ∧ len = 3 ∧ Cal q (mi m') aw ∧ RtS q pc (mi m') n
def ok28 (q : MI) (pc len : Nat) : Prop := ∃ idx : Nat, len = 3 ∧ 1 ≤ q.2.2.2.2.2 ∧ Cond.methodLink q.1.cls idx l2dN ∈ lw_tbl ∧ (Cond.native l2dN ∈ lw_tbl ∧ Cond.static l2dN ∈ lw_tbl ∧ Cond.initialized "java/lang/Double" ∈ lw_tbl) ∧ decode q.2.1 pc = .ok (.invokestatic idx, 3)
def ok29 (q : MI) (pc len : Nat) (r : List Nat) : Prop := ∃ (kd g idx : Nat) (C : String), r = [kd, g] ∧ len = 3 ∧ 1 ≤ q.2.2.2.2.2 ∧ KX kd C ∧ gTb[g]? = some (2, C, "", "") ∧ Cond.methodLink q.1.cls idx gcN ∈ lw_tbl ∧ (Cond.declares gcN ∈ lw_tbl ∧ Cond.selects C gcN gcN ∈ lw_tbl ∧ Cond.instanceMethod gcN ∈ lw_tbl ∧ Cond.native gcN ∈ lw_tbl) ∧ decode q.2.1 pc = .ok (.invokevirtual idx, 3)
def ok33 (q : MI) (pc len : Nat) (r : List Nat) : Prop := ∃ idx : Nat, r = [102] ∧ len = 3 ∧ 1 ≤ q.2.2.2.2.2 ∧ Cond.methodLink q.1.cls idx ⟨"[B", "clone", "()Ljava/lang/Object;"⟩ ∈ lw_tbl ∧ (Cond.sameMethod "[B" "java/lang/Object" "clone" "()Ljava/lang/Object;" ∈ lw_tbl ∧ Cond.native cloN ∈ lw_tbl ∧ Cond.instanceMethod cloN ∈ lw_tbl ∧ Cond.selects "[B" ⟨"[B", "clone", "()Ljava/lang/Object;"⟩ cloN ∈ lw_tbl ∧ Cond.castable "[B" "java/lang/Cloneable" ∈ lw_tbl) ∧ decode q.2.1 pc = .ok (.invokevirtual idx, 3)
/-- notify: shown for its one place by itself -/
def ok25 (iT : XT) (q : MI) (bp : Nat → Nat) (pc : Nat) (r0 : List Nat) : Prop := ∃ kd nc ns b k9 : Nat, r0 = [kd, nc, ns, b, k9] ∧ ∀ (p : Program) (l : Launch) (e : Env) (R : Room) (s : State) (m : MethodId) (args : Array Value) (below : List Frame) (meth : Method) (c : Code) (D : Gh) (G : Nat → Option Nat) (mc ms : Nat) (L : Loc_) (st : List AV) (M : Mem) (r : Out × Mem) (a : Nat),
  Ctx p l e R s m meth c D G iT q mc ms → mcl M a = kd → mco M a ≠ 0 → (st.map ab_ca).sum ≤ 8 → mnx M + nc ≤ mnx r.2 ∧ msl M + ns ≤ msl r.2 → Sd p l e R s m args below meth c D mc ms q.2.2.1 (bp b) (ldel k9 L) [] (mth M nc ns) r → Sd p l e R s m args below meth c D mc ms q.2.2.1 pc L (vR (some a) :: st) M r
def OKe (mi : Nat → MI) (iT : XT) (q : MI) (bp : Nat → Nat) (e : Ent) : Prop := match e with
  | (pc, len, cat, i, r, cn) => match cat with
    | 0 => ok0 q pc len i cn
    | 1 => ok1 q pc len i
    | 2 => ok1 q pc len i
    | 3 => ok3 q bp pc i r
    | 4 => ok4 q bp pc r
    | 5 => ok5 q bp pc r
    | 6 => ok6 q pc len r
    | 7 => ok7 q pc len r
    | 8 => ok8 q pc len i r
    | 9 => ok9 q pc len i r
    | 10 => ok10 q pc len r
    | 11 => ok11 q pc len r
    | 12 => ok12 q pc len r
    | 13 => ok13 q pc len r
    | 14 => ok14 iT q pc len cn
    | 15 => ok15 q pc len r
    | 16 => ok16 iT q pc len r
    | 17 => ok17 q pc len r
    | 18 => ok18 mi q pc len r
    | 19 => ok19 mi q pc len r
    | 20 => ok20 q pc i r
    | 21 => ok21 q pc r
    | 22 => ok22 q pc len
    | 23 => ok23 mi iT q bp pc len r
    | 24 => ok24 q pc len r
    | 25 => ok25 iT q bp pc r
    | 26 => ok26 q pc len r
    | 27 => ok27 q pc len
    | 28 => ok28 q pc len
    | 29 => ok29 q pc len r
    | 30 => ok0 q pc len i cn
    | 31 => ok31 mi q pc len r
    | 32 => ok32 q pc len r
    | 33 => ok33 q pc len r
    | 34 => ok34 mi q pc len r
    | 35 => ok35 mi q pc len r
    | 36 => ok36 mi q pc len r
    | 37 => ok37 mi q pc len r
    | 38 => ok38 q pc len r
    | 39 => ok39 mi q pc len r
    | _ => True
