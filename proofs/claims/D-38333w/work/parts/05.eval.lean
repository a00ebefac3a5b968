/-! ONE INSTRUCTION of the abstract machine, by its sort. G: what statics and string constants hold; c: the running colour; go: on to a block; k: on to the next instruction -/
section EVAL
variable (G : Nat → Option Nat) (orc : Orc) (c : Nat) (go : Nat → Go_) (k : Go_)
noncomputable def sp0 (i : Instr) (cn : Int32) (L : Loc_) (st : List AV) (M : Mem) : Res := match sop i cn L st with | some (L', st') => k L' st' M | none => none
noncomputable def sp1 (i : Instr) (L : Loc_) (st : List AV) (M : Mem) : Res := match fop i st with | some (x, s) => fD x (fun v => k L (vD v :: s) M) | none => none
noncomputable def sp2 (i : Instr) (L : Loc_) (st : List AV) (M : Mem) : Res := match dop i st with | some (y, x, s) => dvI y x (fun v => k L (vI v :: s) M) | none => none
noncomputable def sp3 (i : Instr) (r : List Nat) (L : Loc_) (st : List AV) (M : Mem) : Res := match r with | t :: f :: _ => bop i st (fun s => go t L s M) (fun s => go f L s M) | _ => none
/-- goto, and falling into the next block -/
noncomputable def sp4 (r : List Nat) (L : Loc_) (st : List AV) (M : Mem) : Res := match r with | t :: _ => go t L st M | _ => none
noncomputable def sp5 (r : List Nat) (L : Loc_) (st : List AV) (M : Mem) : Res := match r, st with | d :: ps, .inl x :: s => swk x (fun t => go t L s M) d (pairs ps) | _, _ => none
noncomputable def sp6 (r : List Nat) (L : Loc_) (st : List AV) (M : Mem) : Res := match r, st with
  | 0 :: kd :: f :: _, .inr (.inr (.inr o)) :: s => gI M kd f o (fun v => k L (vI v :: s) M)
  | 1 :: kd :: f :: _, .inr (.inr (.inr o)) :: s => gJ M kd f o (fun v => k L (vJ v :: s) M)
  | 2 :: kd :: f :: _, .inr (.inr (.inr o)) :: s => gD M kd f o (fun v => k L (vD v :: s) M)
  | 3 :: kd :: f :: _, .inr (.inr (.inr o)) :: s => gR M kd f o (fun v => k L (vR v :: s) M)
  | _, _ => none
noncomputable def sp7 (r : List Nat) (L : Loc_) (st : List AV) (M : Mem) : Res := match r, st with
  | 0 :: kd :: f :: _, .inl v :: .inr (.inr (.inr o)) :: s => pI M c kd f o v (fun M => k L s M)
  | 1 :: kd :: f :: _, .inr (.inl v) :: .inr (.inr (.inr o)) :: s => pJ M c kd f o v (fun M => k L s M)
  | 2 :: kd :: f :: _, .inr (.inr (.inl v)) :: .inr (.inr (.inr o)) :: s => pD M c kd f o v (fun M => k L s M)
  | 3 :: kd :: f :: _, .inr (.inr (.inr v)) :: .inr (.inr (.inr o)) :: s => pR M c kd f o v (fun M => k L s M)
  | 4 :: kd :: f :: _, .inl v :: .inr (.inr (.inr o)) :: s => pZ M c kd f o v (fun M => k L s M)
  | 5 :: kd :: f :: _, .inl v :: .inr (.inr (.inr o)) :: s => pB M c kd f o v (fun M => k L s M)
  | _, _ => none
noncomputable def sp8 (r : List Nat) (L : Loc_) (st : List AV) (M : Mem) : Res := match r, st with
  | 0 :: kd :: _, .inl j :: .inr (.inr (.inr o)) :: s => ldI M kd o j (fun v => k L (vI v :: s) M)
  | 2 :: kd :: _, .inl j :: .inr (.inr (.inr o)) :: s => ldD M kd o j (fun v => k L (vD v :: s) M)
  | 3 :: kd :: _, .inl j :: .inr (.inr (.inr o)) :: s => ldR M kd o j (fun v => k L (vR v :: s) M)
  | _, _ => none
noncomputable def sp9 (r : List Nat) (L : Loc_) (st : List AV) (M : Mem) : Res := match r, st with
  | 0 :: kd :: _, .inl v :: .inl j :: .inr (.inr (.inr o)) :: s => stI M c kd o j v (fun M => k L s M)
  | 2 :: kd :: _, .inr (.inr (.inl v)) :: .inl j :: .inr (.inr (.inr o)) :: s => stD M c kd o j v (fun M => k L s M)
  | 3 :: kd :: ks, .inr (.inr (.inr v)) :: .inl j :: .inr (.inr (.inr o)) :: s => stR M c kd ks o j v (fun M => k L s M)
  | 4 :: kd :: _, .inl v :: .inl j :: .inr (.inr (.inr o)) :: s => stI M c kd o j (z2Z v) (fun M => k L s M)
  | 5 :: kd :: _, .inl v :: .inl j :: .inr (.inr (.inr o)) :: s => stI M c kd o j (i2B v) (fun M => k L s M)
  | _, _ => none
noncomputable def sp10 (r : List Nat) (L : Loc_) (st : List AV) (M : Mem) : Res := match r, st with | kd :: _, .inr (.inr (.inr o)) :: s => alen M kd o (fun v => k L (vI v :: s) M) | _, _ => none
noncomputable def sp11 (r : List Nat) (L : Loc_) (st : List AV) (M : Mem) : Res := match r with | kd :: n :: _ => nw M c kd n (fun a M => k L (vR (some a) :: st) M) | _ => none
noncomputable def sp12 (r : List Nat) (L : Loc_) (st : List AV) (M : Mem) : Res := match r, st with | kd :: _, .inl n :: s => mka M c kd n (fun a M => k L (vR (some a) :: s) M) | _, _ => none
noncomputable def sp13 (r : List Nat) (L : Loc_) (st : List AV) (M : Mem) : Res := match r with | g :: _ => k L (vR (G g) :: st) M | _ => none
noncomputable def sp14 (cn : Int32) (L : Loc_) (st : List AV) (M : Mem) : Res := k L (vI cn :: st) M
noncomputable def sp15 (r : List Nat) (L : Loc_) (st : List AV) (M : Mem) : Res := match r with | b :: _ => k L (vD (kD b) :: st) M | _ => none
noncomputable def sp16 (r : List Nat) (L : Loc_) (st : List AV) (M : Mem) : Res := match r with | b :: _ => k L (vJ (kJ b) :: st) M | _ => none
noncomputable def sp17 (r : List Nat) (L : Loc_) (st : List AV) (M : Mem) : Res := match st with | .inr (.inr (.inr o)) :: s => cst M r o (k L (vR o :: s) M) | _ => none
/-- a call of one method: the answer's sort, how many arguments, which method -/
noncomputable def sp18 (r : List Nat) (L : Loc_) (st : List AV) (M : Mem) : Res := match r with
  | rt :: n :: aw :: m :: _ => match cargs n st [] with
    | some (as, s) => (match Nat.ble (s.map ab_ca).sum 8 && Nat.beq (as.map ab_ca).sum aw with
      | true => cbk rt (orc c m 0 (mkA 0 as) [] M) s (fun s M => k L s M)
      | false => none)
    | none => none
  | _ => none
/-- a call by the receiver's kind: of one kind, of several -/
noncomputable def sp19 (r : List Nat) (L : Loc_) (st : List AV) (M : Mem) : Res := match r with
  | rt :: n :: aw :: kd :: m :: _ => match cargs n st [] with
    | some (.inr (.inr (.inr o)) :: as, s) => (match Nat.ble (s.map ab_ca).sum 8 && Nat.beq ((vR o :: as).map ab_ca).sum aw with
      | true => vc1 M kd o (fun a => cbk rt (orc c m 0 (mkA 0 (vR (some a) :: as)) [] M) s (fun s M => k L s M))
      | false => none)
    | _ => none
  | _ => none
noncomputable def sp31 (r : List Nat) (L : Loc_) (st : List AV) (M : Mem) : Res := match r with
  | rt :: n :: aw :: ts => match cargs n st [] with
    | some (.inr (.inr (.inr o)) :: as, s) => (match Nat.ble (s.map ab_ca).sum 8 && Nat.beq ((vR o :: as).map ab_ca).sum aw with
      | true => nn o (fun a => dsp (mcl M a) (fun m => dbk rt (orc c m 0 (mkA 0 (vR (some a) :: as)) [] M) s (fun s M => k L s M)) ts)
      | false => none)
    | _ => none
  | _ => none
/-- a call of an enum's constant -/
noncomputable def sp38 (r : List Nat) (L : Loc_) (st : List AV) (M : Mem) : Res := match r with
  | rt :: n :: aw :: ts => match cargs n st [] with
    | some (.inr (.inr (.inr o)) :: as, s) => (match Nat.ble (s.map ab_ca).sum 8 && Nat.beq ((vR o :: as).map ab_ca).sum aw with
      | true => nn o (fun a => dsg G a (fun m => dbk rt (orc c m 0 (mkA 0 (vR (some a) :: as)) [] M) s (fun s M => k L s M)) ts)
      | false => none)
    | _ => none
  | _ => none
/-- by an interface: one kind, several; a constructor or a superclass' method -/
noncomputable def sp34 (r : List Nat) (L : Loc_) (st : List AV) (M : Mem) : Res := match r with
  | rt :: n :: aw :: kd :: m :: _ => match cargs n st [] with
    | some (.inr (.inr (.inr o)) :: as, s) => (match Nat.ble (s.map ab_ca).sum 8 && Nat.beq ((vR o :: as).map ab_ca).sum aw with
      | true => vc1 M kd o (fun a => dbk rt (orc c m 0 (mkA 0 (vR (some a) :: as)) [] M) s (fun s M => k L s M))
      | false => none)
    | _ => none
  | _ => none
noncomputable def sp36 (r : List Nat) (L : Loc_) (st : List AV) (M : Mem) : Res := match r with
  | rt :: n :: aw :: kd :: m :: _ => match cargs n st [] with
    | some (.inr (.inr (.inr o)) :: as, s) => (match Nat.ble (s.map ab_ca).sum 8 && Nat.beq ((vR o :: as).map ab_ca).sum aw with
      | true => vc1 M kd o (fun a => dbk rt (orc c m 0 (mkA 0 (vR (some a) :: as)) [] M) s (fun s M => k L s M))
      | false => none)
    | _ => none
  | _ => none
/-- a computed int gets a name ahead of the instruction -/
noncomputable def sp30 (i : Instr) (cn : Int32) (L : Loc_) (st : List AV) (M : Mem) : Res := match st with
  | .inl x :: s => nmI x (fun v => match sop i cn L (vI v :: s) with | some (L', st') => k L' st' M | none => none)
  | _ => none
noncomputable def sp20 (r : List Nat) (st : List AV) (M : Mem) : Res := match r, st with
  | 0 :: _, [.inl v] => rI v M
  | 1 :: _, [.inr (.inl v)] => rJ v M
  | 2 :: _, [.inr (.inr (.inl v))] => rD v M
  | 3 :: _, [.inr (.inr (.inr v))] => rR v M
  | 4 :: _, [.inl v] => rZ v M
  | 5 :: _, [.inl v] => rB v M
  | 6 :: _, [.inl v] => rC v M
  | 9 :: _, [] => rV M
  | _, _ => none
noncomputable def sp21 (r : List Nat) (st : List AV) (M : Mem) : Res := match r with | E :: _ => stk st (rX E M) | _ => none
/-- Object's constructor -/
noncomputable def sp22 (L : Loc_) (st : List AV) (M : Mem) : Res := match st with | .inr (.inr (.inr o)) :: s => stk s (nn o (fun _ => k L s M)) | _ => none
/-- the law's own: a call in another colour, what it throws is caught -/
noncomputable def sp23 (r : List Nat) (L : Loc_) (st : List AV) (M : Mem) : Res := match r with
  | rt :: n :: aw :: m :: c2 :: kd :: k9 :: hs => match cargs n st [] with
    | some (.inr (.inr (.inr o)) :: as, s) => (match Nat.beq c 3 && (Nat.ble 1 c2 && (Nat.ble (s.map ab_ca).sum 8 && Nat.beq ((vR o :: as).map ab_ca).sum aw)) with
      | true => vc1 M kd o (fun a => ctH (orc c2 m 0 (mkA 0 (vR (some a) :: as)) [] M) (hprs (fun b M => go b (ldel k9 L) [] M) hs) (fun x => cbk rt x s (fun s M => k L s M)))
      | false => none)
    | _ => none
  | _ => none
/-- the law's own: a constructor in another colour -/
noncomputable def sp37 (r : List Nat) (L : Loc_) (st : List AV) (M : Mem) : Res := match r with
  | rt :: n :: aw :: m :: c2 :: kd :: _ => match cargs n st [] with
    | some (.inr (.inr (.inr o)) :: as, s) => (match Nat.beq c 3 && (Nat.ble 1 c2 && (Nat.ble (s.map ab_ca).sum 8 && Nat.beq ((vR o :: as).map ab_ca).sum aw)) with
      | true => vc1 M kd o (fun a => dbk rt (orc c2 m 0 (mkA 0 (vR (some a) :: as)) [] M) s (fun s M => k L s M))
      | false => none)
    | _ => none
  | _ => none
/-- the law's own: an object of another colour is made -/
noncomputable def sp24 (r : List Nat) (L : Loc_) (st : List AV) (M : Mem) : Res := match r with
  | kd :: n :: c2 :: _ => match Nat.beq c 3 with
    | true => nw M c2 kd n (fun a M => k L (vR (some a) :: st) M)
    | false => none
  | _ => none
/-- notify by who does not hold the monitor: the kind, cells and slots of what is thrown, the handler -/
noncomputable def sp25 (r : List Nat) (L : Loc_) (st : List AV) (M : Mem) : Res := match r, st with
  | kd :: nc :: ns :: b :: k9 :: _, .inr (.inr (.inr o)) :: s => stk s (vc2 M c kd o (fun _ => go b (ldel k9 L) [] (mth M nc ns)))
  | _, _ => none
/-- System.arraycopy: 0 ints, 3 references -/
noncomputable def sp26 (r : List Nat) (L : Loc_) (st : List AV) (M : Mem) : Res := match r, st with
  | 0 :: kd :: _, .inl n :: .inl q :: .inr (.inr (.inr r2)) :: .inl p :: .inr (.inr (.inr r1)) :: s => stk s (acI M c kd r1 p r2 q n (fun M => k L s M))
  | 3 :: kd :: _, .inl n :: .inl q :: .inr (.inr (.inr r2)) :: .inl p :: .inr (.inr (.inr r1)) :: s => stk s (acR M c kd r1 p r2 q n (fun M => k L s M))
  | _, _ => none
/-- the bits of a double that is a number, and back -/
noncomputable def sp27 (L : Loc_) (st : List AV) (M : Mem) : Res := match st with | .inr (.inr (.inl x)) :: s => stk s (fD x (fun x => k L (vJ (d2J x) :: s) M)) | _ => none
noncomputable def sp28 (L : Loc_) (st : List AV) (M : Mem) : Res := match st with | .inr (.inl x) :: s => stk s (fD (j2D x) (fun v => k L (vD v :: s) M)) | _ => none
/-- getClass of an array of a kind: the class object -/
noncomputable def sp29 (r : List Nat) (L : Loc_) (st : List AV) (M : Mem) : Res := match r, st with
  | kd :: g :: _, .inr (.inr (.inr o)) :: s => stk s (vc2 M c kd o (fun _ => k L (vR (G g) :: s) M))
  | _, _ => none
noncomputable def sp32 (r : List Nat) (L : Loc_) (st : List AV) (M : Mem) : Res := match st with | .inr (.inr (.inr o)) :: s => ino M r o (k L (vI 1 :: s) M) | _ => none
noncomputable def sp33 (r : List Nat) (L : Loc_) (st : List AV) (M : Mem) : Res := match r, st with | kd :: _, .inr (.inr (.inr o)) :: s => stk s (cln M c kd o (fun a M => k L (vR (some a) :: s) M)) | _, _ => none
/-- Math.abs, max, min of doubles that are numbers -/
noncomputable def sp39 (r : List Nat) (L : Loc_) (st : List AV) (M : Mem) : Res := match r, st with
  | 0 :: _, .inr (.inr (.inl x)) :: s => stk s (fD x (fun x => k L (vD (dAbs x) :: s) M))
  | 1 :: _, .inr (.inr (.inl y)) :: .inr (.inr (.inl x)) :: s => stk s (fD x (fun x => fD y (fun y => k L (vD (dMax x y) :: s) M)))
  | 2 :: _, .inr (.inr (.inl y)) :: .inr (.inr (.inl x)) :: s => stk s (fD x (fun x => fD y (fun y => k L (vD (dMin x y) :: s) M)))
  | _, _ => none
/-- a static call that throws nothing -/
noncomputable def sp40 (r : List Nat) (L : Loc_) (st : List AV) (M : Mem) : Res := match r with
  | rt :: n :: aw :: m :: _ => match cargs n st [] with
    | some (as, s) => (match Nat.ble (s.map ab_ca).sum 8 && Nat.beq (as.map ab_ca).sum aw with
      | true => dbk rt (orc c m 0 (mkA 0 as) [] M) s (fun s M => k L s M)
      | false => none)
    | none => none
  | _ => none
/-- one instruction -/
noncomputable def stp (e : Ent) (L : Loc_) (st : List AV) (M : Mem) : Res := match e with
  | (_, _, cat, i, r, cn) => match cat with
    | 0 => sp0 k i cn L st M
    | 1 => sp1 k i L st M
    | 2 => sp2 k i L st M
    | 3 => sp3 go i r L st M
    | 4 => sp4 go r L st M
    | 5 => sp5 go r L st M
    | 6 => sp6 k r L st M
    | 7 => sp7 c k r L st M
    | 8 => sp8 k r L st M
    | 9 => sp9 c k r L st M
    | 10 => sp10 k r L st M
    | 11 => sp11 c k r L st M
    | 12 => sp12 c k r L st M
    | 13 => sp13 G k r L st M
    | 14 => sp14 k cn L st M
    | 15 => sp15 k r L st M
    | 16 => sp16 k r L st M
    | 17 => sp17 k r L st M
    | 18 => sp18 orc c k r L st M
    | 19 => sp19 orc c k r L st M
    | 20 => sp20 r st M
    | 21 => sp21 r st M
    | 22 => sp22 k L st M
    | 23 => sp23 orc c go k r L st M
    | 24 => sp24 c k r L st M
    | 25 => sp25 c go r L st M
    | 26 => sp26 c k r L st M
    | 27 => sp27 k L st M
    | 28 => sp28 k L st M
    | 29 => sp29 G c k r L st M
    | 30 => sp30 k i cn L st M
    | 31 => sp38 G orc c k r L st M
    | 32 => sp32 k r L st M
    | 33 => sp33 c k r L st M
    | 34 => sp34 orc c k r L st M
    | 35 => sp31 orc c k r L st M
    | 36 => sp36 orc c k r L st M
    | 37 => sp37 orc c k r L st M
    | 38 => sp39 k r L st M
    | 39 => sp40 orc c k r L st M
    | _ => none
end EVAL
/-- the instructions of a block -/
noncomputable def exE (G : Nat → Option Nat) (orc : Orc) (c : Nat) (go : Nat → Go_) : List Ent → Go_
  | [] => fun _ _ _ => none
  | e :: rest => fun L st M => stp G orc c go (exE G orc c go rest) e L st M
/-- on to a block: at a head the oracle goes on -/
def goH (orc : Orc) (c m : Nat) (code : Code_) (ex : Nat → Go_) (b : Nat) (L : Loc_) (st : List AV) (M : Mem) : Res := match blkAt code b with
  | some (none, _) => ex b L st M
  | some (some ks, _) => (match pick ks L with | some L' => orc c m b L' st M | none => none)
  | none => none
/-- from a block's start on, up to the next head or the end -/
noncomputable def exB (G : Nat → Option Nat) (orc : Orc) (c m : Nat) (code : Code_) : Nat → Nat → Go_
  | 0, _ => fun _ _ _ => none
  | K + 1, b => fun L st M => match blkAt code b with
    | some (_, es) => exE G orc c (goH orc c m code (exB G orc c m code K)) es L st M
    | none => none
/-- one unfolding, with the oracle for calls and heads -/
noncomputable def exT (G : Nat → Option Nat) (prg : Nat → Code_) (orc : Orc) : Orc := fun c m b L st M => exB G orc c m (prg m) 400 b L st M
noncomputable def run (G : Nat → Option Nat) (prg : Nat → Code_) : Nat → Orc
  | 0 => fun _ _ _ _ _ _ => none
  | n + 1 => exT G prg (run G prg n)
