set_option maxRecDepth 4000
/-! ===== a yard in plain Lean ===== -/
abbrev KindA : Type := (Nat) × (Nat) × (Nat) × (Nat) × (Nat) × (Int32)
def KindA.wd (self_ : KindA) : Nat := self_.1
def KindA.ln (self_ : KindA) : Nat := self_.2.1
def KindA.th (self_ : KindA) : Nat := self_.2.2.1
def KindA.pr (self_ : KindA) : Nat := self_.2.2.2.1
def KindA.ld (self_ : KindA) : Nat := self_.2.2.2.2.1
def KindA.st (self_ : KindA) : Int32 := self_.2.2.2.2.2
def KindA.mk_ (wd : Nat) (ln : Nat) (th : Nat) (pr : Nat) (ld : Nat) (st : Int32) : KindA := (wd, ln, th, pr, ld, st)
def KindA.s_wd (self_ : KindA) (v_ : Nat) : KindA := (v_, self_.ln, self_.th, self_.pr, self_.ld, self_.st)
def KindA.s_ln (self_ : KindA) (v_ : Nat) : KindA := (self_.wd, v_, self_.th, self_.pr, self_.ld, self_.st)
def KindA.s_th (self_ : KindA) (v_ : Nat) : KindA := (self_.wd, self_.ln, v_, self_.pr, self_.ld, self_.st)
def KindA.s_pr (self_ : KindA) (v_ : Nat) : KindA := (self_.wd, self_.ln, self_.th, v_, self_.ld, self_.st)
def KindA.s_ld (self_ : KindA) (v_ : Nat) : KindA := (self_.wd, self_.ln, self_.th, self_.pr, v_, self_.st)
def KindA.s_st (self_ : KindA) (v_ : Int32) : KindA := (self_.wd, self_.ln, self_.th, self_.pr, self_.ld, v_)
theorem KindA.mk_e {wd : Nat} {ln : Nat} {th : Nat} {pr : Nat} {ld : Nat} {st : Int32} : (KindA.mk_ wd ln th pr ld st).wd = wd ∧ (KindA.mk_ wd ln th pr ld st).ln = ln ∧ (KindA.mk_ wd ln th pr ld st).th = th ∧ (KindA.mk_ wd ln th pr ld st).pr = pr ∧ (KindA.mk_ wd ln th pr ld st).ld = ld ∧ (KindA.mk_ wd ln th pr ld st).st = st := by exact ⟨rfl, rfl, rfl, rfl, rfl, rfl⟩
abbrev OrdA : Type := (Nat) × (Int32) × (Int32)
def OrdA.k (self_ : OrdA) : Nat := self_.1
def OrdA.n (self_ : OrdA) : Int32 := self_.2.1
def OrdA.dy (self_ : OrdA) : Int32 := self_.2.2
def OrdA.mk_ (k : Nat) (n : Int32) (dy : Int32) : OrdA := (k, n, dy)
def OrdA.s_k (self_ : OrdA) (v_ : Nat) : OrdA := (v_, self_.n, self_.dy)
def OrdA.s_n (self_ : OrdA) (v_ : Int32) : OrdA := (self_.k, v_, self_.dy)
def OrdA.s_dy (self_ : OrdA) (v_ : Int32) : OrdA := (self_.k, self_.n, v_)
theorem OrdA.mk_e {k : Nat} {n : Int32} {dy : Int32} : (OrdA.mk_ k n dy).k = k ∧ (OrdA.mk_ k n dy).n = n ∧ (OrdA.mk_ k n dy).dy = dy := by exact ⟨rfl, rfl, rfl⟩
abbrev OffA : Type := (Nat) × (Int32) × (Int32)
def OffA.k (self_ : OffA) : Nat := self_.1
def OffA.a (self_ : OffA) : Int32 := self_.2.1
def OffA.b (self_ : OffA) : Int32 := self_.2.2
def OffA.mk_ (k : Nat) (a : Int32) (b : Int32) : OffA := (k, a, b)
def OffA.s_k (self_ : OffA) (v_ : Nat) : OffA := (v_, self_.a, self_.b)
def OffA.s_a (self_ : OffA) (v_ : Int32) : OffA := (self_.k, v_, self_.b)
def OffA.s_b (self_ : OffA) (v_ : Int32) : OffA := (self_.k, self_.a, v_)
theorem OffA.mk_e {k : Nat} {a : Int32} {b : Int32} : (OffA.mk_ k a b).k = k ∧ (OffA.mk_ k a b).a = a ∧ (OffA.mk_ k a b).b = b := by exact ⟨rfl, rfl, rfl⟩
abbrev BuyA : Type := (Nat) × (Nat) × (Nat) × (Int32) × (Nat) × (Nat) × (Option Nat) × (Int32) × (Int32) × (Int32)
def BuyA.ln (self_ : BuyA) : Nat := self_.1
def BuyA.sp (self_ : BuyA) : Nat := self_.2.1
def BuyA.ru (self_ : BuyA) : Nat := self_.2.2.1
def BuyA.du (self_ : BuyA) : Int32 := self_.2.2.2.1
def BuyA.pr (self_ : BuyA) : Nat := self_.2.2.2.2.1
def BuyA.st (self_ : BuyA) : Nat := self_.2.2.2.2.2.1
def BuyA.sh (self_ : BuyA) : Option Nat := self_.2.2.2.2.2.2.1
def BuyA.our (self_ : BuyA) : Int32 := self_.2.2.2.2.2.2.2.1
def BuyA.fin (self_ : BuyA) : Int32 := self_.2.2.2.2.2.2.2.2.1
def BuyA.pd (self_ : BuyA) : Int32 := self_.2.2.2.2.2.2.2.2.2
def BuyA.mk_ (ln : Nat) (sp : Nat) (ru : Nat) (du : Int32) (pr : Nat) (st : Nat) (sh : Option Nat) (our : Int32) (fin : Int32) (pd : Int32) : BuyA := (ln, sp, ru, du, pr, st, sh, our, fin, pd)
def BuyA.s_ln (self_ : BuyA) (v_ : Nat) : BuyA := (v_, self_.sp, self_.ru, self_.du, self_.pr, self_.st, self_.sh, self_.our, self_.fin, self_.pd)
def BuyA.s_sp (self_ : BuyA) (v_ : Nat) : BuyA := (self_.ln, v_, self_.ru, self_.du, self_.pr, self_.st, self_.sh, self_.our, self_.fin, self_.pd)
def BuyA.s_ru (self_ : BuyA) (v_ : Nat) : BuyA := (self_.ln, self_.sp, v_, self_.du, self_.pr, self_.st, self_.sh, self_.our, self_.fin, self_.pd)
def BuyA.s_du (self_ : BuyA) (v_ : Int32) : BuyA := (self_.ln, self_.sp, self_.ru, v_, self_.pr, self_.st, self_.sh, self_.our, self_.fin, self_.pd)
def BuyA.s_pr (self_ : BuyA) (v_ : Nat) : BuyA := (self_.ln, self_.sp, self_.ru, self_.du, v_, self_.st, self_.sh, self_.our, self_.fin, self_.pd)
def BuyA.s_st (self_ : BuyA) (v_ : Nat) : BuyA := (self_.ln, self_.sp, self_.ru, self_.du, self_.pr, v_, self_.sh, self_.our, self_.fin, self_.pd)
def BuyA.s_sh (self_ : BuyA) (v_ : Option Nat) : BuyA := (self_.ln, self_.sp, self_.ru, self_.du, self_.pr, self_.st, v_, self_.our, self_.fin, self_.pd)
def BuyA.s_our (self_ : BuyA) (v_ : Int32) : BuyA := (self_.ln, self_.sp, self_.ru, self_.du, self_.pr, self_.st, self_.sh, v_, self_.fin, self_.pd)
def BuyA.s_fin (self_ : BuyA) (v_ : Int32) : BuyA := (self_.ln, self_.sp, self_.ru, self_.du, self_.pr, self_.st, self_.sh, self_.our, v_, self_.pd)
def BuyA.s_pd (self_ : BuyA) (v_ : Int32) : BuyA := (self_.ln, self_.sp, self_.ru, self_.du, self_.pr, self_.st, self_.sh, self_.our, self_.fin, v_)

abbrev PrtA : Type := (Nat) × (Nat) × (Nat)
def PrtA.e (self_ : PrtA) : Nat := self_.1
def PrtA.n (self_ : PrtA) : Nat := self_.2.1
def PrtA.d (self_ : PrtA) : Nat := self_.2.2
def PrtA.mk_ (e : Nat) (n : Nat) (d : Nat) : PrtA := (e, n, d)
def PrtA.s_e (self_ : PrtA) (v_ : Nat) : PrtA := (v_, self_.n, self_.d)
def PrtA.s_n (self_ : PrtA) (v_ : Nat) : PrtA := (self_.e, v_, self_.d)
def PrtA.s_d (self_ : PrtA) (v_ : Nat) : PrtA := (self_.e, self_.n, v_)
theorem PrtA.mk_e {e : Nat} {n : Nat} {d : Nat} : (PrtA.mk_ e n d).e = e ∧ (PrtA.mk_ e n d).n = n ∧ (PrtA.mk_ e n d).d = d := by exact ⟨rfl, rfl, rfl⟩
abbrev Yd : Type := (List Sh) × (Nat) × (Nat) × (Nat) × (Int32) × (Int32) × (Int32) × (Nat → Nat) × (List KindA) × (List OrdA) × (List OffA) × (List BuyA) × (List PrtA) × (List LotA) × (Nat → Nat → Nat → Int32) × (Int32) × (Int32)
def Yd.ships (self_ : Yd) : List Sh := self_.1
def Yd.day (self_ : Yd) : Nat := self_.2.1
def Yd.wea (self_ : Yd) : Nat := self_.2.2.1
def Yd.luck (self_ : Yd) : Nat := self_.2.2.2.1
def Yd.flt (self_ : Yd) : Int32 := self_.2.2.2.2.1
def Yd.wkd (self_ : Yd) : Int32 := self_.2.2.2.2.2.1
def Yd.lst (self_ : Yd) : Int32 := self_.2.2.2.2.2.2.1
def Yd.tm (self_ : Yd) : Nat → Nat := self_.2.2.2.2.2.2.2.1
def Yd.kinds (self_ : Yd) : List KindA := self_.2.2.2.2.2.2.2.2.1
def Yd.ords (self_ : Yd) : List OrdA := self_.2.2.2.2.2.2.2.2.2.1
def Yd.offs (self_ : Yd) : List OffA := self_.2.2.2.2.2.2.2.2.2.2.1
def Yd.buys (self_ : Yd) : List BuyA := self_.2.2.2.2.2.2.2.2.2.2.2.1
def Yd.prts (self_ : Yd) : List PrtA := self_.2.2.2.2.2.2.2.2.2.2.2.2.1
def Yd.lots (self_ : Yd) : List LotA := self_.2.2.2.2.2.2.2.2.2.2.2.2.2.1
def Yd.bk (self_ : Yd) : Nat → Nat → Nat → Int32 := self_.2.2.2.2.2.2.2.2.2.2.2.2.2.2.1
def Yd.cash (self_ : Yd) : Int32 := self_.2.2.2.2.2.2.2.2.2.2.2.2.2.2.2.1
def Yd.rfs (self_ : Yd) : Int32 := self_.2.2.2.2.2.2.2.2.2.2.2.2.2.2.2.2
def Yd.mk_ (ships : List Sh) (day : Nat) (wea : Nat) (luck : Nat) (flt : Int32) (wkd : Int32) (lst : Int32) (tm : Nat → Nat) (kinds : List KindA) (ords : List OrdA) (offs : List OffA) (buys : List BuyA) (prts : List PrtA) (lots : List LotA) (bk : Nat → Nat → Nat → Int32) (cash : Int32) (rfs : Int32) : Yd := (ships, day, wea, luck, flt, wkd, lst, tm, kinds, ords, offs, buys, prts, lots, bk, cash, rfs)
def Yd.s_ships (self_ : Yd) (v_ : List Sh) : Yd := (v_, self_.day, self_.wea, self_.luck, self_.flt, self_.wkd, self_.lst, self_.tm, self_.kinds, self_.ords, self_.offs, self_.buys, self_.prts, self_.lots, self_.bk, self_.cash, self_.rfs)
def Yd.s_day (self_ : Yd) (v_ : Nat) : Yd := (self_.ships, v_, self_.wea, self_.luck, self_.flt, self_.wkd, self_.lst, self_.tm, self_.kinds, self_.ords, self_.offs, self_.buys, self_.prts, self_.lots, self_.bk, self_.cash, self_.rfs)
def Yd.s_wea (self_ : Yd) (v_ : Nat) : Yd := (self_.ships, self_.day, v_, self_.luck, self_.flt, self_.wkd, self_.lst, self_.tm, self_.kinds, self_.ords, self_.offs, self_.buys, self_.prts, self_.lots, self_.bk, self_.cash, self_.rfs)
def Yd.s_luck (self_ : Yd) (v_ : Nat) : Yd := (self_.ships, self_.day, self_.wea, v_, self_.flt, self_.wkd, self_.lst, self_.tm, self_.kinds, self_.ords, self_.offs, self_.buys, self_.prts, self_.lots, self_.bk, self_.cash, self_.rfs)
def Yd.s_flt (self_ : Yd) (v_ : Int32) : Yd := (self_.ships, self_.day, self_.wea, self_.luck, v_, self_.wkd, self_.lst, self_.tm, self_.kinds, self_.ords, self_.offs, self_.buys, self_.prts, self_.lots, self_.bk, self_.cash, self_.rfs)
def Yd.s_wkd (self_ : Yd) (v_ : Int32) : Yd := (self_.ships, self_.day, self_.wea, self_.luck, self_.flt, v_, self_.lst, self_.tm, self_.kinds, self_.ords, self_.offs, self_.buys, self_.prts, self_.lots, self_.bk, self_.cash, self_.rfs)
def Yd.s_lst (self_ : Yd) (v_ : Int32) : Yd := (self_.ships, self_.day, self_.wea, self_.luck, self_.flt, self_.wkd, v_, self_.tm, self_.kinds, self_.ords, self_.offs, self_.buys, self_.prts, self_.lots, self_.bk, self_.cash, self_.rfs)
def Yd.s_tm (self_ : Yd) (v_ : Nat → Nat) : Yd := (self_.ships, self_.day, self_.wea, self_.luck, self_.flt, self_.wkd, self_.lst, v_, self_.kinds, self_.ords, self_.offs, self_.buys, self_.prts, self_.lots, self_.bk, self_.cash, self_.rfs)
def Yd.s_kinds (self_ : Yd) (v_ : List KindA) : Yd := (self_.ships, self_.day, self_.wea, self_.luck, self_.flt, self_.wkd, self_.lst, self_.tm, v_, self_.ords, self_.offs, self_.buys, self_.prts, self_.lots, self_.bk, self_.cash, self_.rfs)
def Yd.s_ords (self_ : Yd) (v_ : List OrdA) : Yd := (self_.ships, self_.day, self_.wea, self_.luck, self_.flt, self_.wkd, self_.lst, self_.tm, self_.kinds, v_, self_.offs, self_.buys, self_.prts, self_.lots, self_.bk, self_.cash, self_.rfs)
def Yd.s_offs (self_ : Yd) (v_ : List OffA) : Yd := (self_.ships, self_.day, self_.wea, self_.luck, self_.flt, self_.wkd, self_.lst, self_.tm, self_.kinds, self_.ords, v_, self_.buys, self_.prts, self_.lots, self_.bk, self_.cash, self_.rfs)
def Yd.s_buys (self_ : Yd) (v_ : List BuyA) : Yd := (self_.ships, self_.day, self_.wea, self_.luck, self_.flt, self_.wkd, self_.lst, self_.tm, self_.kinds, self_.ords, self_.offs, v_, self_.prts, self_.lots, self_.bk, self_.cash, self_.rfs)
def Yd.s_prts (self_ : Yd) (v_ : List PrtA) : Yd := (self_.ships, self_.day, self_.wea, self_.luck, self_.flt, self_.wkd, self_.lst, self_.tm, self_.kinds, self_.ords, self_.offs, self_.buys, v_, self_.lots, self_.bk, self_.cash, self_.rfs)
def Yd.s_lots (self_ : Yd) (v_ : List LotA) : Yd := (self_.ships, self_.day, self_.wea, self_.luck, self_.flt, self_.wkd, self_.lst, self_.tm, self_.kinds, self_.ords, self_.offs, self_.buys, self_.prts, v_, self_.bk, self_.cash, self_.rfs)
def Yd.s_bk (self_ : Yd) (v_ : Nat → Nat → Nat → Int32) : Yd := (self_.ships, self_.day, self_.wea, self_.luck, self_.flt, self_.wkd, self_.lst, self_.tm, self_.kinds, self_.ords, self_.offs, self_.buys, self_.prts, self_.lots, v_, self_.cash, self_.rfs)
def Yd.s_cash (self_ : Yd) (v_ : Int32) : Yd := (self_.ships, self_.day, self_.wea, self_.luck, self_.flt, self_.wkd, self_.lst, self_.tm, self_.kinds, self_.ords, self_.offs, self_.buys, self_.prts, self_.lots, self_.bk, v_, self_.rfs)
def Yd.s_rfs (self_ : Yd) (v_ : Int32) : Yd := (self_.ships, self_.day, self_.wea, self_.luck, self_.flt, self_.wkd, self_.lst, self_.tm, self_.kinds, self_.ords, self_.offs, self_.buys, self_.prts, self_.lots, self_.bk, self_.cash, v_)

/-- which ship lies at a spot -/
def atS : List Sh → Nat → Option Nat
  | [], _ => none
  | S :: l, s => if S.spot = some s then some S.num else atS l s
/-- the numbers of the lots aboard a ship -/
def abI (k : Nat) (lots : List LotA) : List Nat := (List.range lots.length).filter (fun j => match lots[j]? with | some x => abd k x | none => false)
/-- how a ship's stage and place go together -/
abbrev ShX (S : Sh) : Prop := (S.stage = 0 ↔ S.laid = false) ∧ (S.stage = 0 → S.spot = none ∧ S.sea = false ∧ S.port = none) ∧ (S.stage = 1 → (∃ s, S.spot = some s ∧ s < 2) ∧ S.sea = false ∧ S.port = none) ∧ (S.stage = 2 → (∃ s, S.spot = some s ∧ 2 ≤ s) ∧ S.sea = false ∧ S.port = none) ∧ (S.stage = 3 → (S.spot = none ↔ (S.sea = true ∨ S.port ≠ none)) ∧ (∀ s, S.spot = some s → 2 ≤ s)) ∧ (4 ≤ S.stage → S.spot = none ∧ S.sea = false ∧ S.port = none) ∧ (S.waits = true → S.sea = true)
theorem ShX.ld {S : Sh} (self_ : ShX S) : S.stage = 0 ↔ S.laid = false := self_.1
theorem ShX.s0 {S : Sh} (self_ : ShX S) : S.stage = 0 → S.spot = none ∧ S.sea = false ∧ S.port = none := self_.2.1
theorem ShX.s1 {S : Sh} (self_ : ShX S) : S.stage = 1 → (∃ s, S.spot = some s ∧ s < 2) ∧ S.sea = false ∧ S.port = none := self_.2.2.1
theorem ShX.s2 {S : Sh} (self_ : ShX S) : S.stage = 2 → (∃ s, S.spot = some s ∧ 2 ≤ s) ∧ S.sea = false ∧ S.port = none := self_.2.2.2.1
theorem ShX.s3 {S : Sh} (self_ : ShX S) : S.stage = 3 → (S.spot = none ↔ (S.sea = true ∨ S.port ≠ none)) ∧ (∀ s, S.spot = some s → 2 ≤ s) := self_.2.2.2.2.1
theorem ShX.s4 {S : Sh} (self_ : ShX S) : 4 ≤ S.stage → S.spot = none ∧ S.sea = false ∧ S.port = none := self_.2.2.2.2.2.1
theorem ShX.wt {S : Sh} (self_ : ShX S) : S.waits = true → S.sea = true := self_.2.2.2.2.2.2
abbrev KindI (x : KindA) : Prop := (10 ≤ x.wd ∧ x.wd ≤ 40) ∧ (20 ≤ x.ln ∧ x.ln ≤ 120 ∧ x.wd ≤ x.ln) ∧ (3 ≤ x.th ∧ x.th ≤ 40) ∧ (1 ≤ x.pr ∧ x.pr ≤ 99) ∧ (1 ≤ x.ld ∧ x.ld ≤ 30)
theorem KindI.w {x : KindA} (self_ : KindI x) : 10 ≤ x.wd ∧ x.wd ≤ 40 := self_.1
theorem KindI.l {x : KindA} (self_ : KindI x) : 20 ≤ x.ln ∧ x.ln ≤ 120 ∧ x.wd ≤ x.ln := self_.2.1
theorem KindI.t {x : KindA} (self_ : KindI x) : 3 ≤ x.th ∧ x.th ≤ 40 := self_.2.2.1
theorem KindI.p {x : KindA} (self_ : KindI x) : 1 ≤ x.pr ∧ x.pr ≤ 99 := self_.2.2.2.1
theorem KindI.d {x : KindA} (self_ : KindI x) : 1 ≤ x.ld ∧ x.ld ≤ 30 := self_.2.2.2.2
abbrev BuyI (x : BuyA) : Prop := (20 ≤ x.ln ∧ x.ln ≤ 80) ∧ (x.sp ≤ 12) ∧ (x.ru < 256) ∧ (100 ≤ x.pr ∧ x.pr ≤ 30000) ∧ (x.st < 5) ∧ (x.st = 1 → x.sh ≠ none)
theorem BuyI.l {x : BuyA} (self_ : BuyI x) : 20 ≤ x.ln ∧ x.ln ≤ 80 := self_.1
theorem BuyI.s {x : BuyA} (self_ : BuyI x) : x.sp ≤ 12 := self_.2.1
theorem BuyI.r {x : BuyA} (self_ : BuyI x) : x.ru < 256 := self_.2.2.1
theorem BuyI.p {x : BuyA} (self_ : BuyI x) : 100 ≤ x.pr ∧ x.pr ≤ 30000 := self_.2.2.2.1
theorem BuyI.st {x : BuyA} (self_ : BuyI x) : x.st < 5 := self_.2.2.2.2.1
theorem BuyI.h {x : BuyA} (self_ : BuyI x) : x.st = 1 → x.sh ≠ none := self_.2.2.2.2.2
abbrev PrtI (x : PrtA) : Prop := (x.e < 100) ∧ (x.n < 100) ∧ (20 ≤ x.d ∧ x.d ≤ 200)
theorem PrtI.e {x : PrtA} (self_ : PrtI x) : x.e < 100 := self_.1
theorem PrtI.n {x : PrtA} (self_ : PrtI x) : x.n < 100 := self_.2.1
theorem PrtI.d {x : PrtA} (self_ : PrtI x) : 20 ≤ x.d ∧ x.d ≤ 200 := self_.2.2
/-- what a yard keeps to -/
abbrev YI (Y : Yd) : Prop := (Y.ships.length ≤ 3) ∧ (∀ (i : Nat) (S : Sh), Y.ships[i]? = some S → SI S) ∧ (∀ (i : Nat) (S : Sh), Y.ships[i]? = some S → S.num = i) ∧ (∀ (i : Nat) (S : Sh), Y.ships[i]? = some S → S.cargo = Y.lots.filter (abd i)) ∧ (∀ (i : Nat) (S : Sh), Y.ships[i]? = some S → ShX S) ∧ (∀ (i j : Nat) (S T : Sh) (s : Nat), Y.ships[i]? = some S → Y.ships[j]? = some T → S.spot = some s → T.spot = some s → i = j) ∧ (∀ (i : Nat) (S : Sh) (q : Nat), Y.ships[i]? = some S → S.port = some q → q < Y.prts.length) ∧ (Y.day ≤ 400) ∧ (Y.wea < 16) ∧ (Y.luck < 32) ∧ (∀ k, Y.tm k ≤ 6) ∧ (Y.kinds.length ≤ 3) ∧ (Y.ords.length ≤ 6) ∧ (Y.offs.length ≤ 8) ∧ (Y.buys.length ≤ 4) ∧ (Y.prts.length ≤ 6) ∧ (Y.lots.length ≤ 8) ∧ (∀ x ∈ Y.kinds, KindI x) ∧ (∀ x ∈ Y.ords, x.k < Y.kinds.length) ∧ (∀ x ∈ Y.offs, x.k < Y.kinds.length) ∧ (∀ x ∈ Y.buys, BuyI x) ∧ (∀ x ∈ Y.buys, ∀ i, x.sh = some i → i < Y.ships.length) ∧ (∀ (i j : Nat) (x y : BuyA), Y.buys[i]? = some x → Y.buys[j]? = some y → x.st = 1 → y.st = 1 → x.sh = y.sh → i = j) ∧ (∀ x ∈ Y.prts, PrtI x) ∧ (∀ x ∈ Y.lots, LtI x) ∧ (∀ x ∈ Y.lots, x.at_ < Y.prts.length ∧ x.to < Y.prts.length) ∧ (∀ x ∈ Y.lots, ∀ i, x.ship = some i → i < Y.ships.length) ∧ (∀ x ∈ Y.lots, x.st = 1 → x.ship ≠ none ∧ x.cm ≠ none)
theorem YI.n3 {Y : Yd} (self_ : YI Y) : Y.ships.length ≤ 3 := self_.1
theorem YI.si {Y : Yd} (self_ : YI Y) : ∀ (i : Nat) (S : Sh), Y.ships[i]? = some S → SI S := self_.2.1
theorem YI.sn {Y : Yd} (self_ : YI Y) : ∀ (i : Nat) (S : Sh), Y.ships[i]? = some S → S.num = i := self_.2.2.1
theorem YI.sc {Y : Yd} (self_ : YI Y) : ∀ (i : Nat) (S : Sh), Y.ships[i]? = some S → S.cargo = Y.lots.filter (abd i) := self_.2.2.2.1
theorem YI.sx {Y : Yd} (self_ : YI Y) : ∀ (i : Nat) (S : Sh), Y.ships[i]? = some S → ShX S := self_.2.2.2.2.1
theorem YI.sp {Y : Yd} (self_ : YI Y) : ∀ (i j : Nat) (S T : Sh) (s : Nat), Y.ships[i]? = some S → Y.ships[j]? = some T → S.spot = some s → T.spot = some s → i = j := self_.2.2.2.2.2.1
theorem YI.so {Y : Yd} (self_ : YI Y) : ∀ (i : Nat) (S : Sh) (q : Nat), Y.ships[i]? = some S → S.port = some q → q < Y.prts.length := self_.2.2.2.2.2.2.1
theorem YI.dy {Y : Yd} (self_ : YI Y) : Y.day ≤ 400 := self_.2.2.2.2.2.2.2.1
theorem YI.we {Y : Yd} (self_ : YI Y) : Y.wea < 16 := self_.2.2.2.2.2.2.2.2.1
theorem YI.lk {Y : Yd} (self_ : YI Y) : Y.luck < 32 := self_.2.2.2.2.2.2.2.2.2.1
theorem YI.tm {Y : Yd} (self_ : YI Y) : ∀ k, Y.tm k ≤ 6 := self_.2.2.2.2.2.2.2.2.2.2.1
theorem YI.k3 {Y : Yd} (self_ : YI Y) : Y.kinds.length ≤ 3 := self_.2.2.2.2.2.2.2.2.2.2.2.1
theorem YI.o6 {Y : Yd} (self_ : YI Y) : Y.ords.length ≤ 6 := self_.2.2.2.2.2.2.2.2.2.2.2.2.1
theorem YI.f8 {Y : Yd} (self_ : YI Y) : Y.offs.length ≤ 8 := self_.2.2.2.2.2.2.2.2.2.2.2.2.2.1
theorem YI.b4 {Y : Yd} (self_ : YI Y) : Y.buys.length ≤ 4 := self_.2.2.2.2.2.2.2.2.2.2.2.2.2.2.1
theorem YI.p6 {Y : Yd} (self_ : YI Y) : Y.prts.length ≤ 6 := self_.2.2.2.2.2.2.2.2.2.2.2.2.2.2.2.1
theorem YI.l8 {Y : Yd} (self_ : YI Y) : Y.lots.length ≤ 8 := self_.2.2.2.2.2.2.2.2.2.2.2.2.2.2.2.2.1
theorem YI.ki {Y : Yd} (self_ : YI Y) : ∀ x ∈ Y.kinds, KindI x := self_.2.2.2.2.2.2.2.2.2.2.2.2.2.2.2.2.2.1
theorem YI.oi {Y : Yd} (self_ : YI Y) : ∀ x ∈ Y.ords, x.k < Y.kinds.length := self_.2.2.2.2.2.2.2.2.2.2.2.2.2.2.2.2.2.2.1
theorem YI.fi {Y : Yd} (self_ : YI Y) : ∀ x ∈ Y.offs, x.k < Y.kinds.length := self_.2.2.2.2.2.2.2.2.2.2.2.2.2.2.2.2.2.2.2.1
theorem YI.bi {Y : Yd} (self_ : YI Y) : ∀ x ∈ Y.buys, BuyI x := self_.2.2.2.2.2.2.2.2.2.2.2.2.2.2.2.2.2.2.2.2.1
theorem YI.bs {Y : Yd} (self_ : YI Y) : ∀ x ∈ Y.buys, ∀ i, x.sh = some i → i < Y.ships.length := self_.2.2.2.2.2.2.2.2.2.2.2.2.2.2.2.2.2.2.2.2.2.1
theorem YI.bu {Y : Yd} (self_ : YI Y) : ∀ (i j : Nat) (x y : BuyA), Y.buys[i]? = some x → Y.buys[j]? = some y → x.st = 1 → y.st = 1 → x.sh = y.sh → i = j := self_.2.2.2.2.2.2.2.2.2.2.2.2.2.2.2.2.2.2.2.2.2.2.1
theorem YI.pi {Y : Yd} (self_ : YI Y) : ∀ x ∈ Y.prts, PrtI x := self_.2.2.2.2.2.2.2.2.2.2.2.2.2.2.2.2.2.2.2.2.2.2.2.1
theorem YI.li {Y : Yd} (self_ : YI Y) : ∀ x ∈ Y.lots, LtI x := self_.2.2.2.2.2.2.2.2.2.2.2.2.2.2.2.2.2.2.2.2.2.2.2.2.1
theorem YI.lp {Y : Yd} (self_ : YI Y) : ∀ x ∈ Y.lots, x.at_ < Y.prts.length ∧ x.to < Y.prts.length := self_.2.2.2.2.2.2.2.2.2.2.2.2.2.2.2.2.2.2.2.2.2.2.2.2.2.1
theorem YI.ls {Y : Yd} (self_ : YI Y) : ∀ x ∈ Y.lots, ∀ i, x.ship = some i → i < Y.ships.length := self_.2.2.2.2.2.2.2.2.2.2.2.2.2.2.2.2.2.2.2.2.2.2.2.2.2.2.1
theorem YI.la {Y : Yd} (self_ : YI Y) : ∀ x ∈ Y.lots, x.st = 1 → x.ship ≠ none ∧ x.cm ≠ none := self_.2.2.2.2.2.2.2.2.2.2.2.2.2.2.2.2.2.2.2.2.2.2.2.2.2.2.2
/-! several parts at once -/
def Yd.s_rt8 (Y : Yd) (day wea luck : Nat) (flt wkd lst cash rfs : Int32) : Yd := Yd.mk_ Y.ships day wea luck flt wkd lst Y.tm Y.kinds Y.ords Y.offs Y.buys Y.prts Y.lots Y.bk cash rfs
def Yd.s_bc (Y : Yd) (bk : Nat → Nat → Nat → Int32) (cash : Int32) : Yd := Yd.mk_ Y.ships Y.day Y.wea Y.luck Y.flt Y.wkd Y.lst Y.tm Y.kinds Y.ords Y.offs Y.buys Y.prts Y.lots bk cash Y.rfs
def Yd.s_wk (Y : Yd) (luck : Nat) (flt wkd lst : Int32) (tm : Nat → Nat) : Yd := Yd.mk_ Y.ships Y.day Y.wea luck flt wkd lst tm Y.kinds Y.ords Y.offs Y.buys Y.prts Y.lots Y.bk Y.cash Y.rfs
def Yd.s_rt (Y : Yd) (day wea : Nat) (rfs : Int32) : Yd := Yd.mk_ Y.ships day wea Y.luck Y.flt Y.wkd Y.lst Y.tm Y.kinds Y.ords Y.offs Y.buys Y.prts Y.lots Y.bk Y.cash rfs
