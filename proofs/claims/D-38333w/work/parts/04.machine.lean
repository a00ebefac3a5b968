/-! THE ABSTRACT MACHINE: a plain evaluator of the methods' bytecode over maps (one map a field), proved once to be what the machine does; all that is said of the program afterwards is said of it. -/
/-- a value: int, long, double, reference or null -/
abbrev AV : Type := Int32 ⊕ (Int64 ⊕ (UInt64 ⊕ Option Nat))
abbrev vI (x : Int32) : AV := Sum.inl x
abbrev vJ (x : Int64) : AV := Sum.inr (Sum.inl x)
abbrev vD (x : UInt64) : AV := Sum.inr (Sum.inr (Sum.inl x))
abbrev vR (x : Option Nat) : AV := Sum.inr (Sum.inr (Sum.inr x))
def ab_cv : AV → Value
  | .inl x => .int x
  | .inr (.inl x) => .long x
  | .inr (.inr (.inl x)) => .double x
  | .inr (.inr (.inr r)) => va_rf r
def ab_ca : AV → Nat
  | .inl _ => 1
  | .inr (.inl _) => 2
  | .inr (.inr (.inl _)) => 2
  | .inr (.inr (.inr _)) => 1
/-- memory: kind of a cell (0: none), its colour (0: was there before the law; 1 the class's, 2 the reference's, 3 the law's), length, int, long, double, reference fields (by the field's number, then the address), elements (by the address, then the place), next address, slots in use -/
abbrev Mem : Type := (Nat → Nat) × (Nat → Nat) × (Nat → Nat) × (Nat → Nat → Int32) × (Nat → Nat → Int64) × (Nat → Nat → UInt64) × (Nat → Nat → Option Nat) × (Nat → Nat → Int32) × (Nat → Nat → UInt64) × (Nat → Nat → Option Nat) × Nat × Nat
def mcl (M : Mem) : Nat → Nat := M.1
def mco (M : Mem) : Nat → Nat := M.2.1
def mln (M : Mem) : Nat → Nat := M.2.2.1
def mfi (M : Mem) : Nat → Nat → Int32 := M.2.2.2.1
def mfj (M : Mem) : Nat → Nat → Int64 := M.2.2.2.2.1
def mfd (M : Mem) : Nat → Nat → UInt64 := M.2.2.2.2.2.1
def mfr (M : Mem) : Nat → Nat → Option Nat := M.2.2.2.2.2.2.1
def mai (M : Mem) : Nat → Nat → Int32 := M.2.2.2.2.2.2.2.1
def mad (M : Mem) : Nat → Nat → UInt64 := M.2.2.2.2.2.2.2.2.1
def mar (M : Mem) : Nat → Nat → Option Nat := M.2.2.2.2.2.2.2.2.2.1
def mnx (M : Mem) : Nat := M.2.2.2.2.2.2.2.2.2.2.1
def msl (M : Mem) : Nat := M.2.2.2.2.2.2.2.2.2.2.2
def up2 {α : Type} (g : Nat → Nat → α) (x y : Nat) (v : α) : Nat → Nat → α := fun p q => if p = x ∧ q = y then v else g p q
def up1 {α : Type} (g : Nat → α) (x : Nat) (v : α) : Nat → α := fun p => if p = x then v else g p
def sfi (M : Mem) (f a : Nat) (v : Int32) : Mem := (mcl M, mco M, mln M, up2 (mfi M) f a v, mfj M, mfd M, mfr M, mai M, mad M, mar M, mnx M, msl M)
def sfj (M : Mem) (f a : Nat) (v : Int64) : Mem := (mcl M, mco M, mln M, mfi M, up2 (mfj M) f a v, mfd M, mfr M, mai M, mad M, mar M, mnx M, msl M)
def sfd (M : Mem) (f a : Nat) (v : UInt64) : Mem := (mcl M, mco M, mln M, mfi M, mfj M, up2 (mfd M) f a v, mfr M, mai M, mad M, mar M, mnx M, msl M)
def sfr (M : Mem) (f a : Nat) (v : Option Nat) : Mem := (mcl M, mco M, mln M, mfi M, mfj M, mfd M, up2 (mfr M) f a v, mai M, mad M, mar M, mnx M, msl M)
def sai (M : Mem) (a i : Nat) (v : Int32) : Mem := (mcl M, mco M, mln M, mfi M, mfj M, mfd M, mfr M, up2 (mai M) a i v, mad M, mar M, mnx M, msl M)
def sad (M : Mem) (a i : Nat) (v : UInt64) : Mem := (mcl M, mco M, mln M, mfi M, mfj M, mfd M, mfr M, mai M, up2 (mad M) a i v, mar M, mnx M, msl M)
def sar (M : Mem) (a i : Nat) (v : Option Nat) : Mem := (mcl M, mco M, mln M, mfi M, mfj M, mfd M, mfr M, mai M, mad M, up2 (mar M) a i v, mnx M, msl M)
/-- a new object of kind k and colour c with n slots: all beyond the next address is zero already -/
def mnew (M : Mem) (c k n : Nat) : Mem := (up1 (mcl M) (mnx M) k, up1 (mco M) (mnx M) c, mln M, mfi M, mfj M, mfd M, mfr M, mai M, mad M, mar M, mnx M + 1, msl M + n)
/-- a new array of kind k and length n -/
def marr (M : Mem) (c k n : Nat) : Mem := (up1 (mcl M) (mnx M) k, up1 (mco M) (mnx M) c, up1 (mln M) (mnx M) n, mfi M, mfj M, mfd M, mfr M, mai M, mad M, mar M, mnx M + 1, msl M + n)
/-- cells that are made and of which nothing is told: j cells of n slots in all -/
def mth (M : Mem) (j n : Nat) : Mem := (mcl M, mco M, mln M, mfi M, mfj M, mfd M, mfr M, mai M, mad M, mar M, mnx M + j, msl M + n)
/-- ints (or references) are copied from one array to another -/
def cpy2 {α : Type} (g : Nat → Nat → α) (a p b q n : Nat) : Nat → Nat → α := fun x i => if x = b ∧ q ≤ i ∧ i < q + n then g a (p + (i - q)) else g x i
def cpI (M : Mem) (a p b q n : Nat) : Mem := (mcl M, mco M, mln M, mfi M, mfj M, mfd M, mfr M, cpy2 (mai M) a p b q n, mad M, mar M, mnx M, msl M)
def cpR (M : Mem) (a p b q n : Nat) : Mem := (mcl M, mco M, mln M, mfi M, mfj M, mfd M, mfr M, mai M, mad M, cpy2 (mar M) a p b q n, mnx M, msl M)
/-- how a method ends: with an answer, or by throwing an exception of a class (by its number) -/
abbrev Out : Type := (Option AV) ⊕ Nat
abbrev Res : Type := Option (Out × Mem)
abbrev Loc_ : Type := List (Nat × AV)
/-- one instruction: pc, length, sort, the instruction, what its index stands for, a constant -/
abbrev Ent : Type := Nat × Nat × Nat × Instr × List Nat × Int32
/-- a block: for a head (where ways meet) the locals that live there; its instructions -/
abbrev Blk : Type := Option (List Nat) × List Ent
/-- a method's blocks, sixteen to a row -/
abbrev Code_ : Type := List (List Blk)
def nth {α : Type} : List α → Nat → Option α
  | [], _ => none
  | a :: _, 0 => some a
  | _ :: t, n + 1 => nth t n
def blkAt (code : Code_) (b : Nat) : Option Blk := match nth code (b / 16) with | some ch => nth ch (b % 16) | none => none
/-- what is asked for from outside: colour, method, block, locals, stack, memory -/
abbrev Orc : Type := Nat → Nat → Nat → Loc_ → List AV → Mem → Res
abbrev Go_ : Type := Loc_ → List AV → Mem → Res
def lget : Loc_ → Nat → Option AV
  | [], _ => none
  | (j, v) :: t, i => match Nat.beq j i with | true => some v | false => lget t i
def lput1 (L : Loc_) (i : Nat) (v : AV) : Loc_ := (i, v) :: L.filter (fun q => !(q.1 == i) && !(q.1 + 1 == i && ab_ca q.2 == 2))
def lput2 (L : Loc_) (i : Nat) (v : AV) : Loc_ := (i, v) :: L.filter (fun q => !(q.1 == i) && (!(q.1 == i + 1) && !(q.1 + 1 == i && ab_ca q.2 == 2)))
/-- a local that is written over by what is caught -/
def ldel (i : Nat) (L : Loc_) : Loc_ := L.filter (fun q => !(q.1 == i) && !(q.1 + 1 == i && ab_ca q.2 == 2))
def pick : List Nat → Loc_ → Option Loc_
  | [], _ => some []
  | k :: ks, L => match lget L k with
    | some v => (match pick ks L with | some r => some ((k, v) :: r) | none => none)
    | none => none
/-- the arguments as locals: a long or double takes two places -/
def mkA : Nat → List AV → Loc_
  | _, [] => []
  | i, v :: t => (i, v) :: mkA (i + ab_ca v) t
/-- the arguments of a call, the first first, and what is left of the stack -/
def cargs : Nat → List AV → List AV → Option (List AV × List AV)
  | 0, st, acc => some (acc, st)
  | n + 1, v :: st, acc => cargs n st (v :: acc)
  | _ + 1, [], _ => none
/-! numbers are reckoned by functions that nothing unfolds (each with its law): the evaluator is run by the kernel, and a number must stay a name there -/
noncomputable def o_aAdd : {f : Int32 → Int32 → Int32 // ∀ x y, f x y = x + y} := Classical.choice ⟨⟨fun x y => x + y, fun _ _ => rfl⟩⟩
noncomputable def aAdd : Int32 → Int32 → Int32 := o_aAdd.1
theorem aAdd_e (x : Int32) (y : Int32) : aAdd x y = x + y := o_aAdd.2 x y
noncomputable def o_aSub : {f : Int32 → Int32 → Int32 // ∀ x y, f x y = x - y} := Classical.choice ⟨⟨fun x y => x - y, fun _ _ => rfl⟩⟩
noncomputable def aSub : Int32 → Int32 → Int32 := o_aSub.1
theorem aSub_e (x : Int32) (y : Int32) : aSub x y = x - y := o_aSub.2 x y
noncomputable def o_aMul : {f : Int32 → Int32 → Int32 // ∀ x y, f x y = x * y} := Classical.choice ⟨⟨fun x y => x * y, fun _ _ => rfl⟩⟩
noncomputable def aMul : Int32 → Int32 → Int32 := o_aMul.1
theorem aMul_e (x : Int32) (y : Int32) : aMul x y = x * y := o_aMul.2 x y
noncomputable def o_aAnd : {f : Int32 → Int32 → Int32 // ∀ x y, f x y = x &&& y} := Classical.choice ⟨⟨fun x y => x &&& y, fun _ _ => rfl⟩⟩
noncomputable def aAnd : Int32 → Int32 → Int32 := o_aAnd.1
theorem aAnd_e (x : Int32) (y : Int32) : aAnd x y = x &&& y := o_aAnd.2 x y
noncomputable def o_aOr : {f : Int32 → Int32 → Int32 // ∀ x y, f x y = x ||| y} := Classical.choice ⟨⟨fun x y => x ||| y, fun _ _ => rfl⟩⟩
noncomputable def aOr : Int32 → Int32 → Int32 := o_aOr.1
theorem aOr_e (x : Int32) (y : Int32) : aOr x y = x ||| y := o_aOr.2 x y
noncomputable def o_aXor : {f : Int32 → Int32 → Int32 // ∀ x y, f x y = x ^^^ y} := Classical.choice ⟨⟨fun x y => x ^^^ y, fun _ _ => rfl⟩⟩
noncomputable def aXor : Int32 → Int32 → Int32 := o_aXor.1
theorem aXor_e (x : Int32) (y : Int32) : aXor x y = x ^^^ y := o_aXor.2 x y
noncomputable def o_aShl : {f : Int32 → Int32 → Int32 // ∀ x y, f x y = x <<< (y &&& 31)} := Classical.choice ⟨⟨fun x y => x <<< (y &&& 31), fun _ _ => rfl⟩⟩
noncomputable def aShl : Int32 → Int32 → Int32 := o_aShl.1
theorem aShl_e (x : Int32) (y : Int32) : aShl x y = x <<< (y &&& 31) := o_aShl.2 x y
noncomputable def o_aShr : {f : Int32 → Int32 → Int32 // ∀ x y, f x y = x >>> (y &&& 31)} := Classical.choice ⟨⟨fun x y => x >>> (y &&& 31), fun _ _ => rfl⟩⟩
noncomputable def aShr : Int32 → Int32 → Int32 := o_aShr.1
theorem aShr_e (x : Int32) (y : Int32) : aShr x y = x >>> (y &&& 31) := o_aShr.2 x y
noncomputable def o_aUsh : {f : Int32 → Int32 → Int32 // ∀ x y, f x y = (x.toUInt32 >>> (y.toUInt32 &&& Int32.toUInt32 31)).toInt32} := Classical.choice ⟨⟨fun x y => (x.toUInt32 >>> (y.toUInt32 &&& Int32.toUInt32 31)).toInt32, fun _ _ => rfl⟩⟩
noncomputable def aUsh : Int32 → Int32 → Int32 := o_aUsh.1
theorem aUsh_e (x : Int32) (y : Int32) : aUsh x y = (x.toUInt32 >>> (y.toUInt32 &&& Int32.toUInt32 31)).toInt32 := o_aUsh.2 x y
noncomputable def o_aDiv : {f : Int32 → Int32 → Int32 // ∀ x y, f x y = x / y} := Classical.choice ⟨⟨fun x y => x / y, fun _ _ => rfl⟩⟩
noncomputable def aDiv : Int32 → Int32 → Int32 := o_aDiv.1
theorem aDiv_e (x : Int32) (y : Int32) : aDiv x y = x / y := o_aDiv.2 x y
noncomputable def o_aRem : {f : Int32 → Int32 → Int32 // ∀ x y, f x y = x - x / y * y} := Classical.choice ⟨⟨fun x y => x - x / y * y, fun _ _ => rfl⟩⟩
noncomputable def aRem : Int32 → Int32 → Int32 := o_aRem.1
theorem aRem_e (x : Int32) (y : Int32) : aRem x y = x - x / y * y := o_aRem.2 x y
noncomputable def o_aNeg : {f : Int32 → Int32 // ∀ x, f x = -x} := Classical.choice ⟨⟨fun x => -x, fun _ => rfl⟩⟩
noncomputable def aNeg : Int32 → Int32 := o_aNeg.1
theorem aNeg_e (x : Int32) : aNeg x = -x := o_aNeg.2 x
noncomputable def o_jAdd : {f : Int64 → Int64 → Int64 // ∀ x y, f x y = x + y} := Classical.choice ⟨⟨fun x y => x + y, fun _ _ => rfl⟩⟩
noncomputable def jAdd : Int64 → Int64 → Int64 := o_jAdd.1
theorem jAdd_e (x : Int64) (y : Int64) : jAdd x y = x + y := o_jAdd.2 x y
noncomputable def o_jSub : {f : Int64 → Int64 → Int64 // ∀ x y, f x y = x - y} := Classical.choice ⟨⟨fun x y => x - y, fun _ _ => rfl⟩⟩
noncomputable def jSub : Int64 → Int64 → Int64 := o_jSub.1
theorem jSub_e (x : Int64) (y : Int64) : jSub x y = x - y := o_jSub.2 x y
noncomputable def o_jMul : {f : Int64 → Int64 → Int64 // ∀ x y, f x y = x * y} := Classical.choice ⟨⟨fun x y => x * y, fun _ _ => rfl⟩⟩
noncomputable def jMul : Int64 → Int64 → Int64 := o_jMul.1
theorem jMul_e (x : Int64) (y : Int64) : jMul x y = x * y := o_jMul.2 x y
noncomputable def o_jAnd : {f : Int64 → Int64 → Int64 // ∀ x y, f x y = x &&& y} := Classical.choice ⟨⟨fun x y => x &&& y, fun _ _ => rfl⟩⟩
noncomputable def jAnd : Int64 → Int64 → Int64 := o_jAnd.1
theorem jAnd_e (x : Int64) (y : Int64) : jAnd x y = x &&& y := o_jAnd.2 x y
noncomputable def o_jXor : {f : Int64 → Int64 → Int64 // ∀ x y, f x y = x ^^^ y} := Classical.choice ⟨⟨fun x y => x ^^^ y, fun _ _ => rfl⟩⟩
noncomputable def jXor : Int64 → Int64 → Int64 := o_jXor.1
theorem jXor_e (x : Int64) (y : Int64) : jXor x y = x ^^^ y := o_jXor.2 x y
noncomputable def o_jShr : {f : Int64 → Int32 → Int64 // ∀ x y, f x y = x >>> (y.toInt64 &&& 63)} := Classical.choice ⟨⟨fun x y => x >>> (y.toInt64 &&& 63), fun _ _ => rfl⟩⟩
noncomputable def jShr : Int64 → Int32 → Int64 := o_jShr.1
theorem jShr_e (x : Int64) (y : Int32) : jShr x y = x >>> (y.toInt64 &&& 63) := o_jShr.2 x y
noncomputable def o_jCmp : {f : Int64 → Int64 → Int32 // ∀ x y, f x y = lg_cmp x y} := Classical.choice ⟨⟨fun x y => lg_cmp x y, fun _ _ => rfl⟩⟩
noncomputable def jCmp : Int64 → Int64 → Int32 := o_jCmp.1
theorem jCmp_e (x : Int64) (y : Int64) : jCmp x y = lg_cmp x y := o_jCmp.2 x y
noncomputable def o_dCmL : {f : UInt64 → UInt64 → Int32 // ∀ x y, f x y = Op.cmpValue (FP.dcmp x y) .l} := Classical.choice ⟨⟨fun x y => Op.cmpValue (FP.dcmp x y) .l, fun _ _ => rfl⟩⟩
noncomputable def dCmL : UInt64 → UInt64 → Int32 := o_dCmL.1
theorem dCmL_e (x : UInt64) (y : UInt64) : dCmL x y = Op.cmpValue (FP.dcmp x y) .l := o_dCmL.2 x y
noncomputable def o_dCmG : {f : UInt64 → UInt64 → Int32 // ∀ x y, f x y = Op.cmpValue (FP.dcmp x y) .g} := Classical.choice ⟨⟨fun x y => Op.cmpValue (FP.dcmp x y) .g, fun _ _ => rfl⟩⟩
noncomputable def dCmG : UInt64 → UInt64 → Int32 := o_dCmG.1
theorem dCmG_e (x : UInt64) (y : UInt64) : dCmG x y = Op.cmpValue (FP.dcmp x y) .g := o_dCmG.2 x y
noncomputable def o_i2J : {f : Int32 → Int64 // ∀ x, f x = x.toInt64} := Classical.choice ⟨⟨fun x => x.toInt64, fun _ => rfl⟩⟩
noncomputable def i2J : Int32 → Int64 := o_i2J.1
theorem i2J_e (x : Int32) : i2J x = x.toInt64 := o_i2J.2 x
noncomputable def o_j2I : {f : Int64 → Int32 // ∀ x, f x = x.toInt32} := Classical.choice ⟨⟨fun x => x.toInt32, fun _ => rfl⟩⟩
noncomputable def j2I : Int64 → Int32 := o_j2I.1
theorem j2I_e (x : Int64) : j2I x = x.toInt32 := o_j2I.2 x
noncomputable def o_i2D : {f : Int32 → UInt64 // ∀ x, f x = FP.i2d x} := Classical.choice ⟨⟨fun x => FP.i2d x, fun _ => rfl⟩⟩
noncomputable def i2D : Int32 → UInt64 := o_i2D.1
theorem i2D_e (x : Int32) : i2D x = FP.i2d x := o_i2D.2 x
noncomputable def o_d2I : {f : UInt64 → Int32 // ∀ x, f x = FP.d2i x} := Classical.choice ⟨⟨fun x => FP.d2i x, fun _ => rfl⟩⟩
noncomputable def d2I : UInt64 → Int32 := o_d2I.1
theorem d2I_e (x : UInt64) : d2I x = FP.d2i x := o_d2I.2 x
noncomputable def o_i2B : {f : Int32 → Int32 // ∀ x, f x = x.toInt8.toInt32} := Classical.choice ⟨⟨fun x => x.toInt8.toInt32, fun _ => rfl⟩⟩
noncomputable def i2B : Int32 → Int32 := o_i2B.1
theorem i2B_e (x : Int32) : i2B x = x.toInt8.toInt32 := o_i2B.2 x
noncomputable def o_i2C : {f : Int32 → Int32 // ∀ x, f x = (x.toUInt32 % 65536).toInt32} := Classical.choice ⟨⟨fun x => (x.toUInt32 % 65536).toInt32, fun _ => rfl⟩⟩
noncomputable def i2C : Int32 → Int32 := o_i2C.1
theorem i2C_e (x : Int32) : i2C x = (x.toUInt32 % 65536).toInt32 := o_i2C.2 x
noncomputable def o_d2J : {f : UInt64 → Int64 // ∀ x, f x = x.toInt64} := Classical.choice ⟨⟨fun x => x.toInt64, fun _ => rfl⟩⟩
noncomputable def d2J : UInt64 → Int64 := o_d2J.1
theorem d2J_e (x : UInt64) : d2J x = x.toInt64 := o_d2J.2 x
noncomputable def o_dAbs : {f : UInt64 → UInt64 // ∀ x, f x = x &&& 0x7fffffffffffffff} := Classical.choice ⟨⟨fun x => x &&& 0x7fffffffffffffff, fun _ => rfl⟩⟩
noncomputable def dAbs : UInt64 → UInt64 := o_dAbs.1
theorem dAbs_e (x : UInt64) : dAbs x = x &&& 0x7fffffffffffffff := o_dAbs.2 x
noncomputable def o_dMax : {f : UInt64 → UInt64 → UInt64 // ∀ x y, f x y = Native.java_lang_Math.nans.pick64 true x y} := Classical.choice ⟨⟨fun x y => Native.java_lang_Math.nans.pick64 true x y, fun _ _ => rfl⟩⟩
noncomputable def dMax : UInt64 → UInt64 → UInt64 := o_dMax.1
theorem dMax_e (x y : UInt64) : dMax x y = Native.java_lang_Math.nans.pick64 true x y := o_dMax.2 x y
noncomputable def o_dMin : {f : UInt64 → UInt64 → UInt64 // ∀ x y, f x y = Native.java_lang_Math.nans.pick64 false x y} := Classical.choice ⟨⟨fun x y => Native.java_lang_Math.nans.pick64 false x y, fun _ _ => rfl⟩⟩
noncomputable def dMin : UInt64 → UInt64 → UInt64 := o_dMin.1
theorem dMin_e (x y : UInt64) : dMin x y = Native.java_lang_Math.nans.pick64 false x y := o_dMin.2 x y
noncomputable def o_j2D : {f : Int64 → UInt64 // ∀ x, f x = x.toUInt64} := Classical.choice ⟨⟨fun x => x.toUInt64, fun _ => rfl⟩⟩
noncomputable def j2D : Int64 → UInt64 := o_j2D.1
theorem j2D_e (x : Int64) : j2D x = x.toUInt64 := o_j2D.2 x
noncomputable def o_z2Z : {f : Int32 → Int32 // ∀ x, f x = x &&& 1} := Classical.choice ⟨⟨fun x => x &&& 1, fun _ => rfl⟩⟩
noncomputable def z2Z : Int32 → Int32 := o_z2Z.1
theorem z2Z_e (x : Int32) : z2Z x = x &&& 1 := o_z2Z.2 x
noncomputable def o_dAdd : {f : UInt64 → UInt64 → UInt64 // ∀ x y, f x y = FP.dadd x y} := Classical.choice ⟨⟨fun x y => FP.dadd x y, fun _ _ => rfl⟩⟩
noncomputable def dAdd : UInt64 → UInt64 → UInt64 := o_dAdd.1
theorem dAdd_e (x : UInt64) (y : UInt64) : dAdd x y = FP.dadd x y := o_dAdd.2 x y
noncomputable def o_dSub : {f : UInt64 → UInt64 → UInt64 // ∀ x y, f x y = FP.dsub x y} := Classical.choice ⟨⟨fun x y => FP.dsub x y, fun _ _ => rfl⟩⟩
noncomputable def dSub : UInt64 → UInt64 → UInt64 := o_dSub.1
theorem dSub_e (x : UInt64) (y : UInt64) : dSub x y = FP.dsub x y := o_dSub.2 x y
noncomputable def o_dMul : {f : UInt64 → UInt64 → UInt64 // ∀ x y, f x y = FP.dmul x y} := Classical.choice ⟨⟨fun x y => FP.dmul x y, fun _ _ => rfl⟩⟩
noncomputable def dMul : UInt64 → UInt64 → UInt64 := o_dMul.1
theorem dMul_e (x : UInt64) (y : UInt64) : dMul x y = FP.dmul x y := o_dMul.2 x y
noncomputable def o_dDiv : {f : UInt64 → UInt64 → UInt64 // ∀ x y, f x y = FP.ddiv x y} := Classical.choice ⟨⟨fun x y => FP.ddiv x y, fun _ _ => rfl⟩⟩
noncomputable def dDiv : UInt64 → UInt64 → UInt64 := o_dDiv.1
theorem dDiv_e (x : UInt64) (y : UInt64) : dDiv x y = FP.ddiv x y := o_dDiv.2 x y
noncomputable def o_kD : {f : Nat → UInt64 // ∀ x, f x = UInt64.ofNat x} := Classical.choice ⟨⟨fun x => UInt64.ofNat x, fun _ => rfl⟩⟩
noncomputable def kD : Nat → UInt64 := o_kD.1
theorem kD_e (x : Nat) : kD x = UInt64.ofNat x := o_kD.2 x
noncomputable def o_kJ : {f : Nat → Int64 // ∀ x, f x = Int64.ofNat x} := Classical.choice ⟨⟨fun x => Int64.ofNat x, fun _ => rfl⟩⟩
noncomputable def kJ : Nat → Int64 := o_kJ.1
theorem kJ_e (x : Nat) : kJ x = Int64.ofNat x := o_kJ.2 x
/-- instructions that move or reckon values and can't fail but by their form -/
noncomputable def sop (i : Instr) (c : Int32) (L : Loc_) (st : List AV) : Option (Loc_ × List AV) := match i with
  | .iload k => match lget L k with | some (.inl x) => some (L, vI x :: st) | _ => none
  | .iload_n k => match lget L k.val with | some (.inl x) => some (L, vI x :: st) | _ => none
  | .lload k => match lget L k with | some (.inr (.inl x)) => some (L, vJ x :: st) | _ => none
  | .lload_n k => match lget L k.val with | some (.inr (.inl x)) => some (L, vJ x :: st) | _ => none
  | .dload k => match lget L k with | some (.inr (.inr (.inl x))) => some (L, vD x :: st) | _ => none
  | .dload_n k => match lget L k.val with | some (.inr (.inr (.inl x))) => some (L, vD x :: st) | _ => none
  | .aload k => match lget L k with | some (.inr (.inr (.inr x))) => some (L, vR x :: st) | _ => none
  | .aload_n k => match lget L k.val with | some (.inr (.inr (.inr x))) => some (L, vR x :: st) | _ => none
  | .istore k => match st with | .inl x :: s => some (lput1 L k (vI x), s) | _ => none
  | .istore_n k => match st with | .inl x :: s => some (lput1 L k.val (vI x), s) | _ => none
  | .astore k => match st with | .inr (.inr (.inr x)) :: s => some (lput1 L k (vR x), s) | _ => none
  | .astore_n k => match st with | .inr (.inr (.inr x)) :: s => some (lput1 L k.val (vR x), s) | _ => none
  | .lstore k => match st with | .inr (.inl x) :: s => some (lput2 L k (vJ x), s) | _ => none
  | .lstore_n k => match st with | .inr (.inl x) :: s => some (lput2 L k.val (vJ x), s) | _ => none
  | .dstore k => match st with | .inr (.inr (.inl x)) :: s => some (lput2 L k (vD x), s) | _ => none
  | .dstore_n k => match st with | .inr (.inr (.inl x)) :: s => some (lput2 L k.val (vD x), s) | _ => none
  | .iinc k _ => match lget L k with | some (.inl x) => some (lput1 L k (vI (aAdd x c)), st) | _ => none
  | .iconst _ => some (L, vI c :: st)
  | .bipush _ => some (L, vI c :: st)
  | .sipush _ => some (L, vI c :: st)
  | .lconst n => match n with | 0 => some (L, vJ 0 :: st) | 1 => some (L, vJ 1 :: st)
  | .dconst n => match n with | 0 => some (L, vD FP.dconst0 :: st) | 1 => some (L, vD FP.dconst1 :: st)
  | .aconst_null => some (L, vR none :: st)
  | .iadd => match st with | .inl y :: .inl x :: s => some (L, vI (aAdd x y) :: s) | _ => none
  | .isub => match st with | .inl y :: .inl x :: s => some (L, vI (aSub x y) :: s) | _ => none
  | .imul => match st with | .inl y :: .inl x :: s => some (L, vI (aMul x y) :: s) | _ => none
  | .iand => match st with | .inl y :: .inl x :: s => some (L, vI (aAnd x y) :: s) | _ => none
  | .ior => match st with | .inl y :: .inl x :: s => some (L, vI (aOr x y) :: s) | _ => none
  | .ixor => match st with | .inl y :: .inl x :: s => some (L, vI (aXor x y) :: s) | _ => none
  | .ishl => match st with | .inl y :: .inl x :: s => some (L, vI (aShl x y) :: s) | _ => none
  | .ishr => match st with | .inl y :: .inl x :: s => some (L, vI (aShr x y) :: s) | _ => none
  | .iushr => match st with | .inl y :: .inl x :: s => some (L, vI (aUsh x y) :: s) | _ => none
  | .ineg => match st with | .inl x :: s => some (L, vI (aNeg x) :: s) | _ => none
  | .ladd => match st with | .inr (.inl y) :: .inr (.inl x) :: s => some (L, vJ (jAdd x y) :: s) | _ => none
  | .lsub => match st with | .inr (.inl y) :: .inr (.inl x) :: s => some (L, vJ (jSub x y) :: s) | _ => none
  | .lmul => match st with | .inr (.inl y) :: .inr (.inl x) :: s => some (L, vJ (jMul x y) :: s) | _ => none
  | .land => match st with | .inr (.inl y) :: .inr (.inl x) :: s => some (L, vJ (jAnd x y) :: s) | _ => none
  | .lxor => match st with | .inr (.inl y) :: .inr (.inl x) :: s => some (L, vJ (jXor x y) :: s) | _ => none
  | .lshr => match st with | .inl y :: .inr (.inl x) :: s => some (L, vJ (jShr x y) :: s) | _ => none
  | .lcmp => match st with | .inr (.inl y) :: .inr (.inl x) :: s => some (L, vI (jCmp x y) :: s) | _ => none
  | .dcmp op => match st with | .inr (.inr (.inl y)) :: .inr (.inr (.inl x)) :: s => (match op with | .l => some (L, vI (dCmL x y) :: s) | .g => some (L, vI (dCmG x y) :: s)) | _ => none
  | .i2l => match st with | .inl x :: s => some (L, vJ (i2J x) :: s) | _ => none
  | .l2i => match st with | .inr (.inl x) :: s => some (L, vI (j2I x) :: s) | _ => none
  | .i2d => match st with | .inl x :: s => some (L, vD (i2D x) :: s) | _ => none
  | .d2i => match st with | .inr (.inr (.inl x)) :: s => some (L, vI (d2I x) :: s) | _ => none
  | .i2b => match st with | .inl x :: s => some (L, vI (i2B x) :: s) | _ => none
  | .i2c => match st with | .inl x :: s => some (L, vI (i2C x) :: s) | _ => none
  | .dup => match st with | x :: s => (match ab_ca x with | 1 => some (L, x :: x :: s) | _ => none) | _ => none
  | .dup_x1 => match st with | x :: y :: s => (match ab_ca x, ab_ca y with | 1, 1 => some (L, x :: y :: x :: s) | _, _ => none) | _ => none
  | .dup2 => match st with
    | x :: s => (match ab_ca x with
      | 2 => some (L, x :: x :: s)
      | 1 => (match s with
        | y :: s2 => (match ab_ca y with | 1 => some (L, x :: y :: x :: y :: s2) | _ => none)
        | _ => none)
      | _ => none)
    | _ => none
  | .dup2_x1 => match st with | x :: y :: s => (match ab_ca x, ab_ca y with | 2, 1 => some (L, x :: y :: x :: s) | _, _ => none) | _ => none
  | .pop => match st with | x :: s => (match ab_ca x with | 1 => some (L, s) | _ => none) | _ => none
  | .pop2 => match st with
    | x :: s => (match ab_ca x with
      | 2 => some (L, s)
      | 1 => (match s with
        | y :: s2 => (match ab_ca y with | 1 => some (L, s2) | _ => none)
        | _ => none)
      | _ => none)
    | _ => none
  | _ => none
/-- doubles: the answer is asked to be a number -/
noncomputable def fop (i : Instr) (st : List AV) : Option (UInt64 × List AV) := match i, st with
  | .dadd, .inr (.inr (.inl y)) :: .inr (.inr (.inl x)) :: s => some (dAdd x y, s)
  | .dsub, .inr (.inr (.inl y)) :: .inr (.inr (.inl x)) :: s => some (dSub x y, s)
  | .dmul, .inr (.inr (.inl y)) :: .inr (.inr (.inl x)) :: s => some (dMul x y, s)
  | .ddiv, .inr (.inr (.inl y)) :: .inr (.inr (.inl x)) :: s => some (dDiv x y, s)
  | _, _ => none
/-- ints by division: what it is divided by, the answer -/
noncomputable def dop (i : Instr) (st : List AV) : Option (Int32 × Int32 × List AV) := match i, st with
  | .idiv, .inl y :: .inl x :: s => some (y, aDiv x y, s)
  | .irem, .inl y :: .inl x :: s => some (y, aRem x y, s)
  | _, _ => none
/-- branches -/
def bop (i : Instr) (st : List AV) (t f : List AV → Res) : Res := match i, st with
  | .ifCond .eq _, .inl x :: s => if x = 0 then t s else f s
  | .ifCond .ne _, .inl x :: s => if x = 0 then f s else t s
  | .ifCond .lt _, .inl x :: s => if x < 0 then t s else f s
  | .ifCond .ge _, .inl x :: s => if x < 0 then f s else t s
  | .ifCond .gt _, .inl x :: s => if x ≤ 0 then f s else t s
  | .ifCond .le _, .inl x :: s => if x ≤ 0 then t s else f s
  | .if_icmp .eq _, .inl y :: .inl x :: s => if x = y then t s else f s
  | .if_icmp .ne _, .inl y :: .inl x :: s => if x = y then f s else t s
  | .if_icmp .lt _, .inl y :: .inl x :: s => if x < y then t s else f s
  | .if_icmp .ge _, .inl y :: .inl x :: s => if x < y then f s else t s
  | .if_icmp .gt _, .inl y :: .inl x :: s => if x ≤ y then f s else t s
  | .if_icmp .le _, .inl y :: .inl x :: s => if x ≤ y then t s else f s
  | .if_acmp .eq _, .inr (.inr (.inr y)) :: .inr (.inr (.inr x)) :: s => if x = y then t s else f s
  | .if_acmp .ne _, .inr (.inr (.inr y)) :: .inr (.inr (.inr x)) :: s => if x = y then f s else t s
  | .ifnull _, .inr (.inr (.inr x)) :: s => if x = none then t s else f s
  | .ifnonnull _, .inr (.inr (.inr x)) :: s => if x = none then f s else t s
  | _, _ => none
/-- a switch by its pairs of value and place; the place of all others first -/
def swk (x : Int32) (k : Nat → Res) : Nat → List (Int32 × Nat) → Res
  | d, [] => k d
  | d, (v, t) :: ts => if x = v then k t else swk x k d ts
/-- a place in an array of length n; a number -/
abbrev inR (i : Int32) (n : Nat) : Prop := ¬ i < 0 ∧ i.toNatClampNeg < n
abbrev isN (x : UInt64) : Prop := x &&& 0x7fffffffffffffff ≤ 0x7ff0000000000000
def gI (M : Mem) (k f : Nat) (r : Option Nat) (κ : Int32 → Res) : Res := match r with | none => none | some a => if mcl M a = k then κ (mfi M f a) else none
def gJ (M : Mem) (k f : Nat) (r : Option Nat) (κ : Int64 → Res) : Res := match r with | none => none | some a => if mcl M a = k then κ (mfj M f a) else none
def gD (M : Mem) (k f : Nat) (r : Option Nat) (κ : UInt64 → Res) : Res := match r with | none => none | some a => if mcl M a = k then κ (mfd M f a) else none
def gR (M : Mem) (k f : Nat) (r : Option Nat) (κ : Option Nat → Res) : Res := match r with | none => none | some a => if mcl M a = k then κ (mfr M f a) else none
/-- a field is written: of an object of the running colour -/
def pI (M : Mem) (c k f : Nat) (r : Option Nat) (v : Int32) (κ : Mem → Res) : Res := match r with | none => none | some a => if mcl M a = k ∧ mco M a = c then κ (sfi M f a v) else none
def pJ (M : Mem) (c k f : Nat) (r : Option Nat) (v : Int64) (κ : Mem → Res) : Res := match r with | none => none | some a => if mcl M a = k ∧ mco M a = c then κ (sfj M f a v) else none
def pD (M : Mem) (c k f : Nat) (r : Option Nat) (v : UInt64) (κ : Mem → Res) : Res := match r with | none => none | some a => if mcl M a = k ∧ mco M a = c then κ (sfd M f a v) else none
def pR (M : Mem) (c k f : Nat) (r : Option Nat) (v : Option Nat) (κ : Mem → Res) : Res := match r with | none => none | some a => if mcl M a = k ∧ mco M a = c then κ (sfr M f a v) else none
/-- a boolean, a byte -/
def pZ (M : Mem) (c k f : Nat) (r : Option Nat) (v : Int32) (κ : Mem → Res) : Res := match r with | none => none | some a => if mcl M a = k ∧ mco M a = c ∧ v &&& 1 = v then κ (sfi M f a v) else none
def pB (M : Mem) (c k f : Nat) (r : Option Nat) (v : Int32) (κ : Mem → Res) : Res := match r with | none => none | some a => if mcl M a = k ∧ mco M a = c ∧ v.toInt8.toInt32 = v then κ (sfi M f a v) else none
def ldI (M : Mem) (k : Nat) (r : Option Nat) (i : Int32) (κ : Int32 → Res) : Res := match r with | none => none | some a => if mcl M a = k ∧ inR i (mln M a) then κ (mai M a i.toNatClampNeg) else none
def ldD (M : Mem) (k : Nat) (r : Option Nat) (i : Int32) (κ : UInt64 → Res) : Res := match r with | none => none | some a => if mcl M a = k ∧ inR i (mln M a) then κ (mad M a i.toNatClampNeg) else none
def ldR (M : Mem) (k : Nat) (r : Option Nat) (i : Int32) (κ : Option Nat → Res) : Res := match r with | none => none | some a => if mcl M a = k ∧ inR i (mln M a) then κ (mar M a i.toNatClampNeg) else none
def stI (M : Mem) (c k : Nat) (r : Option Nat) (i v : Int32) (κ : Mem → Res) : Res := match r with | none => none | some a => if mcl M a = k ∧ mco M a = c ∧ inR i (mln M a) then κ (sai M a i.toNatClampNeg v) else none
def stD (M : Mem) (c k : Nat) (r : Option Nat) (i : Int32) (v : UInt64) (κ : Mem → Res) : Res := match r with | none => none | some a => if mcl M a = k ∧ mco M a = c ∧ inR i (mln M a) then κ (sad M a i.toNatClampNeg v) else none
/-- a reference is stored: null, or a cell of one of the kinds ks (an array: one that was made here) -/
def okK (M : Mem) (ks : List Nat) (v : Option Nat) : Bool := match v with | none => true | some b => ks.contains (mcl M b) && (Nat.blt (mcl M b) 100 || !(Nat.beq (mco M b) 0))
def stR (M : Mem) (c k : Nat) (ks : List Nat) (r : Option Nat) (i : Int32) (v : Option Nat) (κ : Mem → Res) : Res := match r with | none => none | some a => if mcl M a = k ∧ mco M a = c ∧ inR i (mln M a) ∧ okK M ks v = true then κ (sar M a i.toNatClampNeg v) else none
def alen (M : Mem) (k : Nat) (r : Option Nat) (κ : Int32 → Res) : Res := match r with | none => none | some a => if mcl M a = k then κ (nI (mln M a)) else none
def mka (M : Mem) (c k : Nat) (n : Int32) (κ : Nat → Mem → Res) : Res := if ¬ n < 0 ∧ n ≤ 100000 then κ (mnx M) (marr M c k n.toNatClampNeg) else none
/-- an object is made; a number that is computed gets a name; a double that is a number; a divisor that isn't 0; a reference that isn't null; and of a kind -/
def nw (M : Mem) (c k n : Nat) (κ : Nat → Mem → Res) : Res := κ (mnx M) (mnew M c k n)
def nmI (x : Int32) (κ : Int32 → Res) : Res := κ x
def fD (x : UInt64) (κ : UInt64 → Res) : Res := if isN x then κ x else none
def dvI (y x : Int32) (κ : Int32 → Res) : Res := if y = 0 then none else κ x
def nn (o : Option Nat) (κ : Nat → Res) : Res := match o with | none => none | some a => κ a
def vc1 (M : Mem) (k : Nat) (o : Option Nat) (κ : Nat → Res) : Res := match o with | none => none | some a => if mcl M a = k then κ a else none
def vc2 (M : Mem) (c k : Nat) (o : Option Nat) (κ : Nat → Res) : Res := match o with | none => none | some a => if mcl M a = k ∧ mco M a = c then κ a else none
/-- a cast that holds -/
def cst (M : Mem) (ks : List Nat) (r : Option Nat) (κ : Res) : Res := if okK M ks r = true then κ else none
/-- which method by the receiver's kind -/
def dsp (k : Nat) (κ : Nat → Res) : List Nat → Res
  | k' :: m :: t => if k = k' then κ m else dsp k κ t
  | _ => none
/-- which method by the receiver, one of the constants of an enum -/
def dsg (G : Nat → Option Nat) (a : Nat) (κ : Nat → Res) : List Nat → Res
  | g :: m :: t => if G g = some a then κ m else dsg G a κ t
  | _ => none
/-- behind a call: its answer is pushed; what it throws is thrown -/
def cbI (x : Res) (κ : Int32 → Mem → Res) : Res := match x with | some (.inl (some (.inl v)), M) => κ v M | some (.inr E, M) => some (.inr E, M) | _ => none
def cbJ (x : Res) (κ : Int64 → Mem → Res) : Res := match x with | some (.inl (some (.inr (.inl v))), M) => κ v M | some (.inr E, M) => some (.inr E, M) | _ => none
def cbD (x : Res) (κ : UInt64 → Mem → Res) : Res := match x with | some (.inl (some (.inr (.inr (.inl v)))), M) => κ v M | some (.inr E, M) => some (.inr E, M) | _ => none
def cbR (x : Res) (κ : Option Nat → Mem → Res) : Res := match x with | some (.inl (some (.inr (.inr (.inr v)))), M) => κ v M | some (.inr E, M) => some (.inr E, M) | _ => none
def cbV (x : Res) (κ : Mem → Res) : Res := match x with | some (.inl none, M) => κ M | some (.inr E, M) => some (.inr E, M) | _ => none
/-- by the answer's sort: 0 int, 1 long, 2 double, 3 reference, 9 none -/
def cbk (rt : Nat) (x : Res) (st : List AV) (κ : List AV → Mem → Res) : Res := match rt with
  | 0 => cbI x (fun v M => κ (vI v :: st) M)
  | 1 => cbJ x (fun v M => κ (vJ v :: st) M)
  | 2 => cbD x (fun v M => κ (vD v :: st) M)
  | 3 => cbR x (fun v M => κ (vR v :: st) M)
  | 9 => cbV x (fun M => κ st M)
  | _ => none
/-- behind a call that throws nothing -/
def dbI (x : Res) (κ : Int32 → Mem → Res) : Res := match x with | some (.inl (some (.inl v)), M) => κ v M | _ => none
def dbJ (x : Res) (κ : Int64 → Mem → Res) : Res := match x with | some (.inl (some (.inr (.inl v))), M) => κ v M | _ => none
def dbD (x : Res) (κ : UInt64 → Mem → Res) : Res := match x with | some (.inl (some (.inr (.inr (.inl v)))), M) => κ v M | _ => none
def dbR (x : Res) (κ : Option Nat → Mem → Res) : Res := match x with | some (.inl (some (.inr (.inr (.inr v)))), M) => κ v M | _ => none
def dbV (x : Res) (κ : Mem → Res) : Res := match x with | some (.inl none, M) => κ M | _ => none
def dbk (rt : Nat) (x : Res) (st : List AV) (κ : List AV → Mem → Res) : Res := match rt with
  | 0 => dbI x (fun v M => κ (vI v :: st) M)
  | 1 => dbJ x (fun v M => κ (vJ v :: st) M)
  | 2 => dbD x (fun v M => κ (vD v :: st) M)
  | 3 => dbR x (fun v M => κ (vR v :: st) M)
  | 9 => dbV x (fun M => κ st M)
  | _ => none
/-- what a call threw is caught: by the class's number, how it goes on -/
def hsel (E : Nat) (M : Mem) : List (Nat × (Mem → Res)) → Res
  | [] => none
  | (E', κ) :: t => if E = E' then κ M else hsel E M t
def hprs (κ : Nat → Mem → Res) : List Nat → List (Nat × (Mem → Res))
  | E :: b :: t => (E, κ b) :: hprs κ t
  | _ => []
def ctH (x : Res) (hs : List (Nat × (Mem → Res))) (η : Res → Res) : Res := match x with
  | some (.inr E, M) => hsel E M hs
  | y => η y
/-- an instanceof that holds; a copy of an array of ints -/
def ino (M : Mem) (ks : List Nat) (o : Option Nat) (κ : Res) : Res := match o with | none => none | some a => if ks.contains (mcl M a) = true then κ else none
def rI (v : Int32) (M : Mem) : Res := some (.inl (some (vI v)), M)
def rJ (v : Int64) (M : Mem) : Res := some (.inl (some (vJ v)), M)
def rD (v : UInt64) (M : Mem) : Res := if isN v then some (.inl (some (vD v)), M) else none
def rR (v : Option Nat) (M : Mem) : Res := some (.inl (some (vR v)), M)
def rV (M : Mem) : Res := some (.inl none, M)
/-- a boolean answer: 0 or 1 -/
def rZ (v : Int32) (M : Mem) : Res := if v &&& 1 = v then some (.inl (some (vI v)), M) else none
def rB (v : Int32) (M : Mem) : Res := if v.toInt8.toInt32 = v then some (.inl (some (vI v)), M) else none
def rC (v : Int32) (M : Mem) : Res := if v.toUInt32.toUInt16.toUInt32.toInt32 = v then some (.inl (some (vI v)), M) else none
/-- a thrown exception takes a cell of six slots -/
def rX (E : Nat) (M : Mem) : Res := some (.inr E, mth M 1 6)
def cln (M : Mem) (c k : Nat) (o : Option Nat) (κ : Nat → Mem → Res) : Res := match o with | none => none | some a => if mcl M a = k ∧ mco M a = c then κ (mnx M) (cpI (marr M c k (mln M a)) a 0 (mnx M) 0 (mln M a)) else none
/-- System.arraycopy between two arrays of a kind -/
def acI (M : Mem) (c k : Nat) (r : Option Nat) (p : Int32) (r2 : Option Nat) (q n : Int32) (κ : Mem → Res) : Res := match r, r2 with
  | some a, some b => if mcl M a = k ∧ mcl M b = k ∧ mco M b = c ∧ ¬ p < 0 ∧ ¬ q < 0 ∧ ¬ n < 0 ∧ p.toNatClampNeg + n.toNatClampNeg ≤ mln M a ∧ q.toNatClampNeg + n.toNatClampNeg ≤ mln M b then κ (cpI M a p.toNatClampNeg b q.toNatClampNeg n.toNatClampNeg) else none
  | _, _ => none
/-- what lists hold -/
def ksO : List Nat := [22, 27, 28, 31, 33, 34, 35, 26, 32, 100, 38, 40]
def acR (M : Mem) (c k : Nat) (r : Option Nat) (p : Int32) (r2 : Option Nat) (q n : Int32) (κ : Mem → Res) : Res := match r, r2 with
  | some a, some b => if mcl M a = k ∧ mcl M b = k ∧ mco M b = c ∧ ¬ p < 0 ∧ ¬ q < 0 ∧ ¬ n < 0 ∧ p.toNatClampNeg + n.toNatClampNeg ≤ mln M a ∧ q.toNatClampNeg + n.toNatClampNeg ≤ mln M b ∧ (∀ i, i < n.toNatClampNeg → okK M ksO (mar M a (p.toNatClampNeg + i)) = true) then κ (cpR M a p.toNatClampNeg b q.toNatClampNeg n.toNatClampNeg) else none
  | _, _ => none
/-- what is left on the stack is small -/
def stk (s : List AV) (x : Res) : Res := match Nat.ble (s.map ab_ca).sum 8 with | true => x | false => none
def pairs : List Nat → List (Int32 × Nat)
  | v :: t :: ts => (Int32.ofNat v, t) :: pairs ts
  | _ => []
