set_option maxRecDepth 8000
/-! ===== how the reference keeps a yard (printed by gct.py) ===== -/
def idT (j : Nat) : Nat := ([0, 4, 10, 1, 2, 3, 5, 6, 7, 8] : List Nat).getD j 0
abbrev RtT (M : Mem) (m day wea luck : Nat) (flt wkd lst cash rfs : Int32) : Prop := (mcl M m = 37) ∧ (mfr M 195 m = some (m + 1)) ∧ (mfr M 202 m = some (m + 2)) ∧ (mfr M 203 m = some (m + 3)) ∧ (mfr M 204 m = some (m + 4)) ∧ (mfr M 205 m = some (m + 5)) ∧ (mfr M 206 m = some (m + 6)) ∧ (mfr M 207 m = some (m + 7)) ∧ (mfr M 208 m = some (m + 8)) ∧ (mfr M 209 m = some (m + 9)) ∧ (mfi M 196 m = nI day) ∧ (mfi M 197 m = nI wea) ∧ (mfi M 198 m = nI luck) ∧ (mfi M 199 m = flt) ∧ (mfi M 200 m = wkd) ∧ (mfi M 201 m = lst) ∧ (mfi M 210 m = cash) ∧ (mfi M 211 m = rfs)
theorem RtT.k {M : Mem} {m day wea luck : Nat} {flt wkd lst cash rfs : Int32} (self_ : RtT M m day wea luck flt wkd lst cash rfs) : mcl M m = 37 := self_.1
theorem RtT.r1 {M : Mem} {m day wea luck : Nat} {flt wkd lst cash rfs : Int32} (self_ : RtT M m day wea luck flt wkd lst cash rfs) : mfr M 195 m = some (m + 1) := self_.2.1
theorem RtT.r2 {M : Mem} {m day wea luck : Nat} {flt wkd lst cash rfs : Int32} (self_ : RtT M m day wea luck flt wkd lst cash rfs) : mfr M 202 m = some (m + 2) := self_.2.2.1
theorem RtT.r3 {M : Mem} {m day wea luck : Nat} {flt wkd lst cash rfs : Int32} (self_ : RtT M m day wea luck flt wkd lst cash rfs) : mfr M 203 m = some (m + 3) := self_.2.2.2.1
theorem RtT.r4 {M : Mem} {m day wea luck : Nat} {flt wkd lst cash rfs : Int32} (self_ : RtT M m day wea luck flt wkd lst cash rfs) : mfr M 204 m = some (m + 4) := self_.2.2.2.2.1
theorem RtT.r5 {M : Mem} {m day wea luck : Nat} {flt wkd lst cash rfs : Int32} (self_ : RtT M m day wea luck flt wkd lst cash rfs) : mfr M 205 m = some (m + 5) := self_.2.2.2.2.2.1
theorem RtT.r6 {M : Mem} {m day wea luck : Nat} {flt wkd lst cash rfs : Int32} (self_ : RtT M m day wea luck flt wkd lst cash rfs) : mfr M 206 m = some (m + 6) := self_.2.2.2.2.2.2.1
theorem RtT.r7 {M : Mem} {m day wea luck : Nat} {flt wkd lst cash rfs : Int32} (self_ : RtT M m day wea luck flt wkd lst cash rfs) : mfr M 207 m = some (m + 7) := self_.2.2.2.2.2.2.2.1
theorem RtT.r8 {M : Mem} {m day wea luck : Nat} {flt wkd lst cash rfs : Int32} (self_ : RtT M m day wea luck flt wkd lst cash rfs) : mfr M 208 m = some (m + 8) := self_.2.2.2.2.2.2.2.2.1
theorem RtT.r9 {M : Mem} {m day wea luck : Nat} {flt wkd lst cash rfs : Int32} (self_ : RtT M m day wea luck flt wkd lst cash rfs) : mfr M 209 m = some (m + 9) := self_.2.2.2.2.2.2.2.2.2.1
theorem RtT.day {M : Mem} {m day wea luck : Nat} {flt wkd lst cash rfs : Int32} (self_ : RtT M m day wea luck flt wkd lst cash rfs) : mfi M 196 m = nI day := self_.2.2.2.2.2.2.2.2.2.2.1
theorem RtT.wea {M : Mem} {m day wea luck : Nat} {flt wkd lst cash rfs : Int32} (self_ : RtT M m day wea luck flt wkd lst cash rfs) : mfi M 197 m = nI wea := self_.2.2.2.2.2.2.2.2.2.2.2.1
theorem RtT.lk {M : Mem} {m day wea luck : Nat} {flt wkd lst cash rfs : Int32} (self_ : RtT M m day wea luck flt wkd lst cash rfs) : mfi M 198 m = nI luck := self_.2.2.2.2.2.2.2.2.2.2.2.2.1
theorem RtT.fl {M : Mem} {m day wea luck : Nat} {flt wkd lst cash rfs : Int32} (self_ : RtT M m day wea luck flt wkd lst cash rfs) : mfi M 199 m = flt := self_.2.2.2.2.2.2.2.2.2.2.2.2.2.1
theorem RtT.wd {M : Mem} {m day wea luck : Nat} {flt wkd lst cash rfs : Int32} (self_ : RtT M m day wea luck flt wkd lst cash rfs) : mfi M 200 m = wkd := self_.2.2.2.2.2.2.2.2.2.2.2.2.2.2.1
theorem RtT.ls {M : Mem} {m day wea luck : Nat} {flt wkd lst cash rfs : Int32} (self_ : RtT M m day wea luck flt wkd lst cash rfs) : mfi M 201 m = lst := self_.2.2.2.2.2.2.2.2.2.2.2.2.2.2.2.1
theorem RtT.ca {M : Mem} {m day wea luck : Nat} {flt wkd lst cash rfs : Int32} (self_ : RtT M m day wea luck flt wkd lst cash rfs) : mfi M 210 m = cash := self_.2.2.2.2.2.2.2.2.2.2.2.2.2.2.2.2.1
theorem RtT.rf_ {M : Mem} {m day wea luck : Nat} {flt wkd lst cash rfs : Int32} (self_ : RtT M m day wea luck flt wkd lst cash rfs) : mfi M 211 m = rfs := self_.2.2.2.2.2.2.2.2.2.2.2.2.2.2.2.2.2
abbrev TmR (M : Mem) (m : Nat) (tm : Nat → Nat) : Prop := (mcl M (m + 2) = 100) ∧ (mln M (m + 2) = 3) ∧ (∀ t, t < 3 → mai M (m + 2) t = nI (tm t))
theorem TmR.ak {M : Mem} {m : Nat} {tm : Nat → Nat} (self_ : TmR M m tm) : mcl M (m + 2) = 100 := self_.1
theorem TmR.al {M : Mem} {m : Nat} {tm : Nat → Nat} (self_ : TmR M m tm) : mln M (m + 2) = 3 := self_.2.1
theorem TmR.v {M : Mem} {m : Nat} {tm : Nat → Nat} (self_ : TmR M m tm) : ∀ t, t < 3 → mai M (m + 2) t = nI (tm t) := self_.2.2
abbrev BkT (M : Mem) (m : Nat) (bk : Nat → Nat → Nat → Int32) : Prop := (mcl M (m + 9) = 100) ∧ (mln M (m + 9) = 504) ∧ (∀ a o t, a < 9 → o < 4 → t < 14 → mai M (m + 9) ((a * 4 + (o + 1) % 4) * 14 + t) = bk a o t)
theorem BkT.ak {M : Mem} {m : Nat} {bk : Nat → Nat → Nat → Int32} (self_ : BkT M m bk) : mcl M (m + 9) = 100 := self_.1
theorem BkT.al {M : Mem} {m : Nat} {bk : Nat → Nat → Nat → Int32} (self_ : BkT M m bk) : mln M (m + 9) = 504 := self_.2.1
theorem BkT.v {M : Mem} {m : Nat} {bk : Nat → Nat → Nat → Int32} (self_ : BkT M m bk) : ∀ a o t, a < 9 → o < 4 → t < 14 → mai M (m + 9) ((a * 4 + (o + 1) % 4) * 14 + t) = bk a o t := self_.2.2
abbrev OwT (own : Nat → Nat) (M : Mem) (i u : Nat) (g : SG) (S : Sh) : Prop := (∀ a, u ≤ a → a < u + 25 → own a = 20 + i ∧ mco M a = 2) ∧ (mln M g.xe ≠ 0 → own g.xe = 20 + i) ∧ (∀ j, j < S.items.length → own (g.xs j) = 20 + i) ∧ (mln M g.pe ≠ 0 → own g.pe = 20 + i) ∧ (∀ j, j < S.pipes.length → own (g.ps j) = 20 + i)
theorem OwT.blk {own : Nat → Nat} {M : Mem} {i u : Nat} {g : SG} {S : Sh} (self_ : OwT own M i u g S) : ∀ a, u ≤ a → a < u + 25 → own a = 20 + i ∧ mco M a = 2 := self_.1
theorem OwT.xe {own : Nat → Nat} {M : Mem} {i u : Nat} {g : SG} {S : Sh} (self_ : OwT own M i u g S) : mln M g.xe ≠ 0 → own g.xe = 20 + i := self_.2.1
theorem OwT.xs {own : Nat → Nat} {M : Mem} {i u : Nat} {g : SG} {S : Sh} (self_ : OwT own M i u g S) : ∀ j, j < S.items.length → own (g.xs j) = 20 + i := self_.2.2.1
theorem OwT.pe {own : Nat → Nat} {M : Mem} {i u : Nat} {g : SG} {S : Sh} (self_ : OwT own M i u g S) : mln M g.pe ≠ 0 → own g.pe = 20 + i := self_.2.2.2.1
theorem OwT.ps {own : Nat → Nat} {M : Mem} {i u : Nat} {g : SG} {S : Sh} (self_ : OwT own M i u g S) : ∀ j, j < S.pipes.length → own (g.ps j) = 20 + i := self_.2.2.2.2
abbrev ShQ (own : Nat → Nat) (G : Nat → Option Nat) (M : Mem) (m i u : Nat) (g : SG) (S : Sh) : Prop := (ShT G M m u g S (whereN S)) ∧ (OwT own M i u g S)
theorem ShQ.t {own : Nat → Nat} {G : Nat → Option Nat} {M : Mem} {m i u : Nat} {g : SG} {S : Sh} (self_ : ShQ own G M m i u g S) : ShT G M m u g S (whereN S) := self_.1
theorem ShQ.o {own : Nat → Nat} {G : Nat → Option Nat} {M : Mem} {m i u : Nat} {g : SG} {S : Sh} (self_ : ShQ own G M m i u g S) : OwT own M i u g S := self_.2
def KdG (M : Mem) (a : Nat) (x : KindA) : Prop := mln M a = 6 ∧ mai M a 0 = nI x.wd ∧ mai M a 1 = nI x.ln ∧ mai M a 2 = nI x.th ∧ mai M a 3 = nI x.pr ∧ mai M a 4 = nI x.ld ∧ mai M a 5 = x.st
def OrG (M : Mem) (a : Nat) (x : OrdA) : Prop := mln M a = 3 ∧ mai M a 0 = nI x.k ∧ mai M a 1 = x.n ∧ mai M a 2 = x.dy
def OfG (M : Mem) (a : Nat) (x : OffA) : Prop := mln M a = 3 ∧ mai M a 0 = nI x.k ∧ mai M a 1 = x.a ∧ mai M a 2 = x.b
def BuG (M : Mem) (a : Nat) (x : BuyA) : Prop := mln M a = 10 ∧ mai M a 0 = nI x.ln ∧ mai M a 1 = nI x.sp ∧ mai M a 2 = nI x.ru ∧ mai M a 3 = x.du ∧ mai M a 4 = nI x.pr ∧ mai M a 5 = nI x.st ∧ mai M a 6 = oI x.sh ∧ mai M a 7 = x.our ∧ mai M a 8 = x.fin ∧ mai M a 9 = x.pd
def PtG (M : Mem) (a : Nat) (x : PrtA) : Prop := mln M a = 3 ∧ mai M a 0 = nI x.e ∧ mai M a 1 = nI x.n ∧ mai M a 2 = nI x.d
def LoG (M : Mem) (a : Nat) (x : LotA) : Prop := mfi M 255 a = nI x.at_ ∧ mfi M 256 a = nI x.to ∧ mfi M 257 a = nI x.tn ∧ mfi M 258 a = nI x.sort ∧ mfi M 259 a = x.frt ∧ mfi M 260 a = nI x.st ∧ mfi M 261 a = oI x.ship ∧ mfi M 262 a = oI x.cm ∧ mfd M 263 a = x.sd
abbrev YT (G : Nat → Option Nat) (M : Mem) (m : Nat) (h : YH) (Y : Yd) : Prop := (m + 10 ≤ mnx M) ∧ (∀ j, j < 10 → h.own (m + j) = idT j ∧ mco M (m + j) = 2) ∧ (Zr M) ∧ (ConT G M) ∧ (ConN G M) ∧ (RtT M m Y.day Y.wea Y.luck Y.flt Y.wkd Y.lst Y.cash Y.rfs) ∧ (TmR M m Y.tm) ∧ (BkT M m Y.bk) ∧ (SlC h.own G M 2 (m + 1) h.se Y.ships.length h.bs 38) ∧ (∀ (i : Nat) (S : Sh), Y.ships[i]? = some S → ShQ h.own G M m i (h.bs i) (h.gs i) S) ∧ (CC h.own 1 G M 2 (m + 3) h.ke h.kx 100 KdG Y.kinds) ∧ (CC h.own 2 G M 2 (m + 4) h.oe h.ox 100 OrG Y.ords) ∧ (CC h.own 3 G M 2 (m + 5) h.fe h.fx 100 OfG Y.offs) ∧ (CC h.own 5 G M 2 (m + 6) h.ue h.ux 100 BuG Y.buys) ∧ (CC h.own 6 G M 2 (m + 7) h.pe h.px 100 PtG Y.prts) ∧ (CC h.own 7 G M 2 (m + 8) h.le h.lx 40 LoG Y.lots)
theorem YT.lt {G : Nat → Option Nat} {M : Mem} {m : Nat} {h : YH} {Y : Yd} (self_ : YT G M m h Y) : m + 10 ≤ mnx M := self_.1
theorem YT.o {G : Nat → Option Nat} {M : Mem} {m : Nat} {h : YH} {Y : Yd} (self_ : YT G M m h Y) : ∀ j, j < 10 → h.own (m + j) = idT j ∧ mco M (m + j) = 2 := self_.2.1
theorem YT.z {G : Nat → Option Nat} {M : Mem} {m : Nat} {h : YH} {Y : Yd} (self_ : YT G M m h Y) : Zr M := self_.2.2.1
theorem YT.ct {G : Nat → Option Nat} {M : Mem} {m : Nat} {h : YH} {Y : Yd} (self_ : YT G M m h Y) : ConT G M := self_.2.2.2.1
theorem YT.cn {G : Nat → Option Nat} {M : Mem} {m : Nat} {h : YH} {Y : Yd} (self_ : YT G M m h Y) : ConN G M := self_.2.2.2.2.1
theorem YT.rt {G : Nat → Option Nat} {M : Mem} {m : Nat} {h : YH} {Y : Yd} (self_ : YT G M m h Y) : RtT M m Y.day Y.wea Y.luck Y.flt Y.wkd Y.lst Y.cash Y.rfs := self_.2.2.2.2.2.1
theorem YT.tm {G : Nat → Option Nat} {M : Mem} {m : Nat} {h : YH} {Y : Yd} (self_ : YT G M m h Y) : TmR M m Y.tm := self_.2.2.2.2.2.2.1
theorem YT.bk {G : Nat → Option Nat} {M : Mem} {m : Nat} {h : YH} {Y : Yd} (self_ : YT G M m h Y) : BkT M m Y.bk := self_.2.2.2.2.2.2.2.1
theorem YT.sl {G : Nat → Option Nat} {M : Mem} {m : Nat} {h : YH} {Y : Yd} (self_ : YT G M m h Y) : SlC h.own G M 2 (m + 1) h.se Y.ships.length h.bs 38 := self_.2.2.2.2.2.2.2.2.1
theorem YT.sh {G : Nat → Option Nat} {M : Mem} {m : Nat} {h : YH} {Y : Yd} (self_ : YT G M m h Y) : ∀ (i : Nat) (S : Sh), Y.ships[i]? = some S → ShQ h.own G M m i (h.bs i) (h.gs i) S := self_.2.2.2.2.2.2.2.2.2.1
theorem YT.kd {G : Nat → Option Nat} {M : Mem} {m : Nat} {h : YH} {Y : Yd} (self_ : YT G M m h Y) : CC h.own 1 G M 2 (m + 3) h.ke h.kx 100 KdG Y.kinds := self_.2.2.2.2.2.2.2.2.2.2.1
theorem YT.od {G : Nat → Option Nat} {M : Mem} {m : Nat} {h : YH} {Y : Yd} (self_ : YT G M m h Y) : CC h.own 2 G M 2 (m + 4) h.oe h.ox 100 OrG Y.ords := self_.2.2.2.2.2.2.2.2.2.2.2.1
theorem YT.of {G : Nat → Option Nat} {M : Mem} {m : Nat} {h : YH} {Y : Yd} (self_ : YT G M m h Y) : CC h.own 3 G M 2 (m + 5) h.fe h.fx 100 OfG Y.offs := self_.2.2.2.2.2.2.2.2.2.2.2.2.1
theorem YT.bu {G : Nat → Option Nat} {M : Mem} {m : Nat} {h : YH} {Y : Yd} (self_ : YT G M m h Y) : CC h.own 5 G M 2 (m + 6) h.ue h.ux 100 BuG Y.buys := self_.2.2.2.2.2.2.2.2.2.2.2.2.2.1
theorem YT.pt {G : Nat → Option Nat} {M : Mem} {m : Nat} {h : YH} {Y : Yd} (self_ : YT G M m h Y) : CC h.own 6 G M 2 (m + 7) h.pe h.px 100 PtG Y.prts := self_.2.2.2.2.2.2.2.2.2.2.2.2.2.2.1
theorem YT.lo {G : Nat → Option Nat} {M : Mem} {m : Nat} {h : YH} {Y : Yd} (self_ : YT G M m h Y) : CC h.own 7 G M 2 (m + 8) h.le h.lx 40 LoG Y.lots := self_.2.2.2.2.2.2.2.2.2.2.2.2.2.2.2
theorem frF_kg : FrF KdG := fun P n s M M' a x q la p h => ⟨(q.ln a la).trans h.1, (q.ai a _ la p).trans h.2.1, (q.ai a _ la p).trans h.2.2.1, (q.ai a _ la p).trans h.2.2.2.1, (q.ai a _ la p).trans h.2.2.2.2.1, (q.ai a _ la p).trans h.2.2.2.2.2.1, (q.ai a _ la p).trans h.2.2.2.2.2.2⟩
theorem frF_og : FrF OrG := fun P n s M M' a x q la p h => ⟨(q.ln a la).trans h.1, (q.ai a _ la p).trans h.2.1, (q.ai a _ la p).trans h.2.2.1, (q.ai a _ la p).trans h.2.2.2⟩
theorem frF_fg : FrF OfG := fun P n s M M' a x q la p h => ⟨(q.ln a la).trans h.1, (q.ai a _ la p).trans h.2.1, (q.ai a _ la p).trans h.2.2.1, (q.ai a _ la p).trans h.2.2.2⟩
theorem frF_ug : FrF BuG := fun P n s M M' a x q la p h => ⟨(q.ln a la).trans h.1, (q.ai a _ la p).trans h.2.1, (q.ai a _ la p).trans h.2.2.1, (q.ai a _ la p).trans h.2.2.2.1, (q.ai a _ la p).trans h.2.2.2.2.1, (q.ai a _ la p).trans h.2.2.2.2.2.1, (q.ai a _ la p).trans h.2.2.2.2.2.2.1, (q.ai a _ la p).trans h.2.2.2.2.2.2.2.1, (q.ai a _ la p).trans h.2.2.2.2.2.2.2.2.1, (q.ai a _ la p).trans h.2.2.2.2.2.2.2.2.2.1, (q.ai a _ la p).trans h.2.2.2.2.2.2.2.2.2.2⟩
theorem frF_pg : FrF PtG := fun P n s M M' a x q la p h => ⟨(q.ln a la).trans h.1, (q.ai a _ la p).trans h.2.1, (q.ai a _ la p).trans h.2.2.1, (q.ai a _ la p).trans h.2.2.2⟩
theorem frF_lg : FrF LoG := fun P n s M M' a x q la p h => ⟨(q.fi _ a la p rfl).trans h.1, (q.fi _ a la p rfl).trans h.2.1, (q.fi _ a la p rfl).trans h.2.2.1, (q.fi _ a la p rfl).trans h.2.2.2.1, (q.fi _ a la p rfl).trans h.2.2.2.2.1, (q.fi _ a la p rfl).trans h.2.2.2.2.2.1, (q.fi _ a la p rfl).trans h.2.2.2.2.2.2.1, (q.fi _ a la p rfl).trans h.2.2.2.2.2.2.2.1, (q.fd _ a la p rfl).trans h.2.2.2.2.2.2.2.2⟩
section YTF
variable {G : Nat → Option Nat} {M M' : Mem} {m n s : Nat} {P : Nat → Prop} {own : Nat → Nat} {h : YH} {Y : Yd} {c : Nat}
theorem ConN.ext (C : ConN G M) (E : Ext c M M') : ConN G M' := by
  obtain ⟨a, b⟩ := C
  exact ⟨fun x hx => ⟨Nat.lt_of_lt_of_le (a x hx).1 E.1, by rw [(E.2.2.1 x (a x hx).1).2.2]; exact (a x hx).2⟩, fun x hx => ⟨Nat.lt_of_lt_of_le (b x hx).1 E.1, by rw [(E.2.2.1 x (b x hx).1).2.2]; exact (b x hx).2⟩⟩
theorem RtT.fw {day wea luck : Nat} {flt wkd lst cash rfs : Int32} (R : RtT M m day wea luck flt wkd lst cash rfs) (q : QW P n s M M') (l : m < mnx M) (p : ¬ P m) : RtT M' m day wea luck flt wkd lst cash rfs :=
  ⟨(q.cl _ l).trans R.k, (q.fr _ m l p rfl).trans R.r1, (q.fr _ m l p rfl).trans R.r2, (q.fr _ m l p rfl).trans R.r3, (q.fr _ m l p rfl).trans R.r4, (q.fr _ m l p rfl).trans R.r5, (q.fr _ m l p rfl).trans R.r6, (q.fr _ m l p rfl).trans R.r7, (q.fr _ m l p rfl).trans R.r8, (q.fr _ m l p rfl).trans R.r9, (q.fi _ m l p rfl).trans R.day, (q.fi _ m l p rfl).trans R.wea, (q.fi _ m l p rfl).trans R.lk, (q.fi _ m l p rfl).trans R.fl, (q.fi _ m l p rfl).trans R.wd, (q.fi _ m l p rfl).trans R.ls, (q.fi _ m l p rfl).trans R.ca, (q.fi _ m l p rfl).trans R.rf_⟩
theorem TmR.fw {tm : Nat → Nat} (R : TmR M m tm) (q : QW P n s M M') (l : m + 10 ≤ mnx M) (p : ¬ P (m + 2)) : TmR M' m tm := ⟨(q.cl _ (by omega)).trans R.ak, (q.ln _ (by omega)).trans R.al, fun t ht => (q.ai _ _ (by omega) p).trans (R.v t ht)⟩
theorem BkT.fw {bk : Nat → Nat → Nat → Int32} (R : BkT M m bk) (q : QW P n s M M') (l : m + 10 ≤ mnx M) (p : ¬ P (m + 9)) : BkT M' m bk := ⟨(q.cl _ (by omega)).trans R.ak, (q.ln _ (by omega)).trans R.al, fun a o t h1 h2 h3 => (q.ai _ _ (by omega) p).trans (R.v a o t h1 h2 h3)⟩
theorem OwT.fw {i u : Nat} {g : SG} {S : Sh} (R : OwT own M i u g S) (q : QW P n s M M') (lu : u + 25 ≤ mnx M) (le : g.xe < mnx M ∧ g.pe < mnx M) : OwT own M' i u g S :=
  ⟨fun a h1 h2 => ⟨(R.blk a h1 h2).1, (q.co a (by omega)).trans (R.blk a h1 h2).2⟩, fun h0 => R.xe (by rw [← q.ln _ le.1]; exact h0), R.xs, fun h0 => R.pe (by rw [← q.ln _ le.2]; exact h0), R.ps⟩
theorem ShQ.ow {own' : Nat → Nat} {i u : Nat} {g : SG} {S : Sh} (R : ShQ own G M m i u g S) (e : ∀ a, a < mnx M → own' a = own a) : ShQ own' G M m i u g S :=
  ⟨R.t, ⟨fun a h1 h2 => ⟨(e a (by have := R.t.lt; omega)).trans (R.o.blk a h1 h2).1, (R.o.blk a h1 h2).2⟩, fun h0 => (e _ R.t.its.lt).trans (R.o.xe h0), fun j hj => (e _ (R.t.ixl j hj)).trans (R.o.xs j hj), fun h0 => (e _ R.t.pps.lt).trans (R.o.pe h0), fun j hj => (e _ (R.t.pxl j hj)).trans (R.o.ps j hj)⟩⟩
theorem ShQ.fw {i u : Nat} {g : SG} {S : Sh} (R : ShQ own G M m i u g S) (q : QW P n s M M') (h : ∀ a, own a = 20 + i → mco M a = 2 → ¬ P a) : ShQ own G M' m i u g S := by
  have T := R.t
  have O := R.o
  have hb : ∀ a, u ≤ a → a < u + 25 → ¬ P a := fun a h1 h2 => h a (O.blk a h1 h2).1 (O.blk a h1 h2).2
  refine ⟨?_, O.fw q T.lt ⟨T.its.lt, T.pps.lt⟩⟩
  have := T.re (g' := g) (it := S.items) (cg := S.cargo) (pp := S.pipes) q (fun a h1 h2 h3 => absurd h3 (hb a h1 h2))
    (T.its.fw q (hb _ (by omega) (by omega)) (fun h0 => h _ (O.xe h0) (T.its.ce.elim (fun x => absurd x h0) (fun x => x))))
    (fun j hj => Nat.lt_of_lt_of_le (T.ixl j hj) q.nx.1)
    (fun j x hj => by
      have l := T.ixl j (lt_of_get hj)
      have p := h _ (O.xs j (lt_of_get hj)) (T.ix j x hj).2.1
      rw [q.cl _ l, q.co _ l, q.ln _ l, q.ai _ _ l p, q.ai _ _ l p, q.ai _ _ l p, q.ai _ _ l p]
      exact T.ix j x hj)
    T.ixn
    (T.pps.fw q (hb _ (by omega) (by omega)) (fun h0 => h _ (O.pe h0) (T.pps.ce.elim (fun x => absurd x h0) (fun x => x))))
    (fun j hj => Nat.lt_of_lt_of_le (T.pxl j hj) q.nx.1)
    T.pxn T.pxi T.ipn
    (fun j x hj => by
      have l := T.pxl j (lt_of_get hj)
      have p := h _ (O.ps j (lt_of_get hj)) (T.px j x hj).2.1
      rw [q.cl _ l, q.co _ l, q.ln _ l, q.ai _ _ l p, q.ai _ _ l p, q.ai _ _ l p, q.ai _ _ l p, q.ai _ _ l p]
      exact T.px j x hj)
  rw [reL_id] at this
  exact this
theorem YT.fw (C : YT G M m h Y) (q : QW P n s M M') (E : Ext c M M') (c3 : c ≠ 3) (c0 : c ≠ 0) (i3 : Y.ships.length ≤ 3) (hP' : ∀ a, h.own a < 90 → mco M a = 2 → ¬ P a) : YT G M' m h Y :=
  ⟨Nat.le_trans C.lt q.nx.1,
   fun j hj => ⟨(C.o j hj).1, (q.co _ (by have := C.lt; omega)).trans (C.o j hj).2⟩,
   E.2.2.2.2 C.z,
   C.ct.ext E c3 c0,
   C.cn.ext E,
   C.rt.fw q (by have := C.lt; omega) (hP' _ (by rw [show h.own (m) = idT 0 from (C.o 0 (by decide)).1]; decide) (C.o 0 (by decide)).2),
   C.tm.fw q C.lt (hP' _ (by rw [show h.own (m + 2) = idT 2 from (C.o 2 (by decide)).1]; decide) (C.o 2 (by decide)).2),
   C.bk.fw q C.lt (hP' _ (by rw [show h.own (m + 9) = idT 9 from (C.o 9 (by decide)).1]; decide) (C.o 9 (by decide)).2),
   C.sl.fw q (fun a e c p => hP' a (by omega) c p),
   fun i S hi => (C.sh i S hi).fw q (fun a e c p => by have := lt_of_get hi; have h3 := i3; exact hP' a (by omega) c p),
   C.kd.fw frF_kg q (fun a e c p => hP' a (by omega) c p),
   C.od.fw frF_og q (fun a e c p => hP' a (by omega) c p),
   C.of.fw frF_fg q (fun a e c p => hP' a (by omega) c p),
   C.bu.fw frF_ug q (fun a e c p => hP' a (by omega) c p),
   C.pt.fw frF_pg q (fun a e c p => hP' a (by omega) c p),
   C.lo.fw frF_lg q (fun a e c p => hP' a (by omega) c p)⟩
theorem YT.ow {own' : Nat → Nat} (C : YT G M m h Y) (e : ∀ a, a < mnx M → own' a = h.own a) : YT G M m (h.s_own own') Y :=
  ⟨C.lt, fun j hj => ⟨(e _ (by have := C.lt; omega)).trans (C.o j hj).1, (C.o j hj).2⟩, C.z, C.ct, C.cn, C.rt, C.tm, C.bk, C.sl.ow e, fun i S hi => (C.sh i S hi).ow e, C.kd.ow e, C.od.ow e, C.of.ow e, C.bu.ow e, C.pt.ow e, C.lo.ow e⟩
theorem YT.owU (C : YT G M m h Y) (id : Nat) : YT G M m (h.s_own (ownU h.own (mnx M) id)) Y := C.ow (fun a ha => ownU_lt ha)
theorem YT.c_rt (C : YT G M m h Y) (q : QW P n s M M') (E : Ext 2 M M') (hP : ∀ a, P a → h.own a = 0) {day wea luck : Nat} {flt wkd lst cash rfs : Int32} (N : RtT M' m day wea luck flt wkd lst cash rfs) : YT G M' m h (Y.s_rt8 day wea luck flt wkd lst cash rfs) :=
  ⟨Nat.le_trans C.lt q.nx.1,
   fun j hj => ⟨(C.o j hj).1, (q.co _ (by have := C.lt; omega)).trans (C.o j hj).2⟩,
   E.2.2.2.2 C.z,
   C.ct.ext E (by decide) (by decide),
   C.cn.ext E,
   N,
   C.tm.fw q C.lt (fun p => by have := hP _ p; have e : h.own (m + 2) = idT 2 := (C.o 2 (by decide)).1; have e2 : idT 2 = 10 := rfl; omega),
   C.bk.fw q C.lt (fun p => by have := hP _ p; have e : h.own (m + 9) = idT 9 := (C.o 9 (by decide)).1; have e2 : idT 9 = 8 := rfl; omega),
   C.sl.fw q (fun a e _ p => by have := hP a p; omega),
   fun i S hi => (C.sh i S hi).fw q (fun a e _ p => by have := hP a p; omega),
   C.kd.fw frF_kg q (fun a e _ p => by have := hP a p; omega),
   C.od.fw frF_og q (fun a e _ p => by have := hP a p; omega),
   C.of.fw frF_fg q (fun a e _ p => by have := hP a p; omega),
   C.bu.fw frF_ug q (fun a e _ p => by have := hP a p; omega),
   C.pt.fw frF_pg q (fun a e _ p => by have := hP a p; omega),
   C.lo.fw frF_lg q (fun a e _ p => by have := hP a p; omega)⟩
theorem YT.c_tm (C : YT G M m h Y) (q : QW P n s M M') (E : Ext 2 M M') (hP : ∀ a, P a → h.own a = 10) {tm : Nat → Nat} (N : TmR M' m tm) : YT G M' m h (Y.s_tm tm) :=
  ⟨Nat.le_trans C.lt q.nx.1,
   fun j hj => ⟨(C.o j hj).1, (q.co _ (by have := C.lt; omega)).trans (C.o j hj).2⟩,
   E.2.2.2.2 C.z,
   C.ct.ext E (by decide) (by decide),
   C.cn.ext E,
   C.rt.fw q (by have := C.lt; omega) (fun p => by have := hP _ p; have e : h.own (m) = idT 0 := (C.o 0 (by decide)).1; have e2 : idT 0 = 0 := rfl; omega),
   N,
   C.bk.fw q C.lt (fun p => by have := hP _ p; have e : h.own (m + 9) = idT 9 := (C.o 9 (by decide)).1; have e2 : idT 9 = 8 := rfl; omega),
   C.sl.fw q (fun a e _ p => by have := hP a p; omega),
   fun i S hi => (C.sh i S hi).fw q (fun a e _ p => by have := hP a p; omega),
   C.kd.fw frF_kg q (fun a e _ p => by have := hP a p; omega),
   C.od.fw frF_og q (fun a e _ p => by have := hP a p; omega),
   C.of.fw frF_fg q (fun a e _ p => by have := hP a p; omega),
   C.bu.fw frF_ug q (fun a e _ p => by have := hP a p; omega),
   C.pt.fw frF_pg q (fun a e _ p => by have := hP a p; omega),
   C.lo.fw frF_lg q (fun a e _ p => by have := hP a p; omega)⟩
theorem YT.c_bk (C : YT G M m h Y) (q : QW P n s M M') (E : Ext 2 M M') (hP : ∀ a, P a → h.own a = 0 ∨ h.own a = 8) {bk : Nat → Nat → Nat → Int32} {cash : Int32} (N : BkT M' m bk) (N2 : RtT M' m Y.day Y.wea Y.luck Y.flt Y.wkd Y.lst cash Y.rfs) : YT G M' m h (Y.s_bc bk cash) :=
  ⟨Nat.le_trans C.lt q.nx.1,
   fun j hj => ⟨(C.o j hj).1, (q.co _ (by have := C.lt; omega)).trans (C.o j hj).2⟩,
   E.2.2.2.2 C.z,
   C.ct.ext E (by decide) (by decide),
   C.cn.ext E,
   N2,
   C.tm.fw q C.lt (fun p => by have := hP _ p; have e : h.own (m + 2) = idT 2 := (C.o 2 (by decide)).1; have e2 : idT 2 = 10 := rfl; omega),
   N,
   C.sl.fw q (fun a e _ p => by have := hP a p; omega),
   fun i S hi => (C.sh i S hi).fw q (fun a e _ p => by have := hP a p; omega),
   C.kd.fw frF_kg q (fun a e _ p => by have := hP a p; omega),
   C.od.fw frF_og q (fun a e _ p => by have := hP a p; omega),
   C.of.fw frF_fg q (fun a e _ p => by have := hP a p; omega),
   C.bu.fw frF_ug q (fun a e _ p => by have := hP a p; omega),
   C.pt.fw frF_pg q (fun a e _ p => by have := hP a p; omega),
   C.lo.fw frF_lg q (fun a e _ p => by have := hP a p; omega)⟩
theorem YT.c_kd (C : YT G M m h Y) (q : QW P n s M M') (E : Ext 2 M M') (hP : ∀ a, P a → h.own a = 1) {v : List KindA} {e : Nat} {x : Nat → Nat} (N : CC h.own 1 G M' 2 (m + 3) e x 100 KdG v) : YT G M' m ((h.s_kx x).s_ke e) (Y.s_kinds v) :=
  ⟨Nat.le_trans C.lt q.nx.1,
   fun j hj => ⟨(C.o j hj).1, (q.co _ (by have := C.lt; omega)).trans (C.o j hj).2⟩,
   E.2.2.2.2 C.z,
   C.ct.ext E (by decide) (by decide),
   C.cn.ext E,
   C.rt.fw q (by have := C.lt; omega) (fun p => by have := hP _ p; have e : h.own (m) = idT 0 := (C.o 0 (by decide)).1; have e2 : idT 0 = 0 := rfl; omega),
   C.tm.fw q C.lt (fun p => by have := hP _ p; have e : h.own (m + 2) = idT 2 := (C.o 2 (by decide)).1; have e2 : idT 2 = 10 := rfl; omega),
   C.bk.fw q C.lt (fun p => by have := hP _ p; have e : h.own (m + 9) = idT 9 := (C.o 9 (by decide)).1; have e2 : idT 9 = 8 := rfl; omega),
   C.sl.fw q (fun a e _ p => by have := hP a p; omega),
   fun i S hi => (C.sh i S hi).fw q (fun a e _ p => by have := hP a p; omega),
   N,
   C.od.fw frF_og q (fun a e _ p => by have := hP a p; omega),
   C.of.fw frF_fg q (fun a e _ p => by have := hP a p; omega),
   C.bu.fw frF_ug q (fun a e _ p => by have := hP a p; omega),
   C.pt.fw frF_pg q (fun a e _ p => by have := hP a p; omega),
   C.lo.fw frF_lg q (fun a e _ p => by have := hP a p; omega)⟩
theorem YT.c_od (C : YT G M m h Y) (q : QW P n s M M') (E : Ext 2 M M') (hP : ∀ a, P a → h.own a = 2) {v : List OrdA} {e : Nat} {x : Nat → Nat} (N : CC h.own 2 G M' 2 (m + 4) e x 100 OrG v) : YT G M' m ((h.s_ox x).s_oe e) (Y.s_ords v) :=
  ⟨Nat.le_trans C.lt q.nx.1,
   fun j hj => ⟨(C.o j hj).1, (q.co _ (by have := C.lt; omega)).trans (C.o j hj).2⟩,
   E.2.2.2.2 C.z,
   C.ct.ext E (by decide) (by decide),
   C.cn.ext E,
   C.rt.fw q (by have := C.lt; omega) (fun p => by have := hP _ p; have e : h.own (m) = idT 0 := (C.o 0 (by decide)).1; have e2 : idT 0 = 0 := rfl; omega),
   C.tm.fw q C.lt (fun p => by have := hP _ p; have e : h.own (m + 2) = idT 2 := (C.o 2 (by decide)).1; have e2 : idT 2 = 10 := rfl; omega),
   C.bk.fw q C.lt (fun p => by have := hP _ p; have e : h.own (m + 9) = idT 9 := (C.o 9 (by decide)).1; have e2 : idT 9 = 8 := rfl; omega),
   C.sl.fw q (fun a e _ p => by have := hP a p; omega),
   fun i S hi => (C.sh i S hi).fw q (fun a e _ p => by have := hP a p; omega),
   C.kd.fw frF_kg q (fun a e _ p => by have := hP a p; omega),
   N,
   C.of.fw frF_fg q (fun a e _ p => by have := hP a p; omega),
   C.bu.fw frF_ug q (fun a e _ p => by have := hP a p; omega),
   C.pt.fw frF_pg q (fun a e _ p => by have := hP a p; omega),
   C.lo.fw frF_lg q (fun a e _ p => by have := hP a p; omega)⟩
theorem YT.c_of (C : YT G M m h Y) (q : QW P n s M M') (E : Ext 2 M M') (hP : ∀ a, P a → h.own a = 3) {v : List OffA} {e : Nat} {x : Nat → Nat} (N : CC h.own 3 G M' 2 (m + 5) e x 100 OfG v) : YT G M' m ((h.s_fx x).s_fe e) (Y.s_offs v) :=
  ⟨Nat.le_trans C.lt q.nx.1,
   fun j hj => ⟨(C.o j hj).1, (q.co _ (by have := C.lt; omega)).trans (C.o j hj).2⟩,
   E.2.2.2.2 C.z,
   C.ct.ext E (by decide) (by decide),
   C.cn.ext E,
   C.rt.fw q (by have := C.lt; omega) (fun p => by have := hP _ p; have e : h.own (m) = idT 0 := (C.o 0 (by decide)).1; have e2 : idT 0 = 0 := rfl; omega),
   C.tm.fw q C.lt (fun p => by have := hP _ p; have e : h.own (m + 2) = idT 2 := (C.o 2 (by decide)).1; have e2 : idT 2 = 10 := rfl; omega),
   C.bk.fw q C.lt (fun p => by have := hP _ p; have e : h.own (m + 9) = idT 9 := (C.o 9 (by decide)).1; have e2 : idT 9 = 8 := rfl; omega),
   C.sl.fw q (fun a e _ p => by have := hP a p; omega),
   fun i S hi => (C.sh i S hi).fw q (fun a e _ p => by have := hP a p; omega),
   C.kd.fw frF_kg q (fun a e _ p => by have := hP a p; omega),
   C.od.fw frF_og q (fun a e _ p => by have := hP a p; omega),
   N,
   C.bu.fw frF_ug q (fun a e _ p => by have := hP a p; omega),
   C.pt.fw frF_pg q (fun a e _ p => by have := hP a p; omega),
   C.lo.fw frF_lg q (fun a e _ p => by have := hP a p; omega)⟩
theorem YT.c_bu (C : YT G M m h Y) (q : QW P n s M M') (E : Ext 2 M M') (hP : ∀ a, P a → h.own a = 5) {v : List BuyA} {e : Nat} {x : Nat → Nat} (N : CC h.own 5 G M' 2 (m + 6) e x 100 BuG v) : YT G M' m ((h.s_ux x).s_ue e) (Y.s_buys v) :=
  ⟨Nat.le_trans C.lt q.nx.1,
   fun j hj => ⟨(C.o j hj).1, (q.co _ (by have := C.lt; omega)).trans (C.o j hj).2⟩,
   E.2.2.2.2 C.z,
   C.ct.ext E (by decide) (by decide),
   C.cn.ext E,
   C.rt.fw q (by have := C.lt; omega) (fun p => by have := hP _ p; have e : h.own (m) = idT 0 := (C.o 0 (by decide)).1; have e2 : idT 0 = 0 := rfl; omega),
   C.tm.fw q C.lt (fun p => by have := hP _ p; have e : h.own (m + 2) = idT 2 := (C.o 2 (by decide)).1; have e2 : idT 2 = 10 := rfl; omega),
   C.bk.fw q C.lt (fun p => by have := hP _ p; have e : h.own (m + 9) = idT 9 := (C.o 9 (by decide)).1; have e2 : idT 9 = 8 := rfl; omega),
   C.sl.fw q (fun a e _ p => by have := hP a p; omega),
   fun i S hi => (C.sh i S hi).fw q (fun a e _ p => by have := hP a p; omega),
   C.kd.fw frF_kg q (fun a e _ p => by have := hP a p; omega),
   C.od.fw frF_og q (fun a e _ p => by have := hP a p; omega),
   C.of.fw frF_fg q (fun a e _ p => by have := hP a p; omega),
   N,
   C.pt.fw frF_pg q (fun a e _ p => by have := hP a p; omega),
   C.lo.fw frF_lg q (fun a e _ p => by have := hP a p; omega)⟩
theorem YT.c_pt (C : YT G M m h Y) (q : QW P n s M M') (E : Ext 2 M M') (hP : ∀ a, P a → h.own a = 6) {v : List PrtA} {e : Nat} {x : Nat → Nat} (N : CC h.own 6 G M' 2 (m + 7) e x 100 PtG v) : YT G M' m ((h.s_px x).s_pe e) (Y.s_prts v) :=
  ⟨Nat.le_trans C.lt q.nx.1,
   fun j hj => ⟨(C.o j hj).1, (q.co _ (by have := C.lt; omega)).trans (C.o j hj).2⟩,
   E.2.2.2.2 C.z,
   C.ct.ext E (by decide) (by decide),
   C.cn.ext E,
   C.rt.fw q (by have := C.lt; omega) (fun p => by have := hP _ p; have e : h.own (m) = idT 0 := (C.o 0 (by decide)).1; have e2 : idT 0 = 0 := rfl; omega),
   C.tm.fw q C.lt (fun p => by have := hP _ p; have e : h.own (m + 2) = idT 2 := (C.o 2 (by decide)).1; have e2 : idT 2 = 10 := rfl; omega),
   C.bk.fw q C.lt (fun p => by have := hP _ p; have e : h.own (m + 9) = idT 9 := (C.o 9 (by decide)).1; have e2 : idT 9 = 8 := rfl; omega),
   C.sl.fw q (fun a e _ p => by have := hP a p; omega),
   fun i S hi => (C.sh i S hi).fw q (fun a e _ p => by have := hP a p; omega),
   C.kd.fw frF_kg q (fun a e _ p => by have := hP a p; omega),
   C.od.fw frF_og q (fun a e _ p => by have := hP a p; omega),
   C.of.fw frF_fg q (fun a e _ p => by have := hP a p; omega),
   C.bu.fw frF_ug q (fun a e _ p => by have := hP a p; omega),
   N,
   C.lo.fw frF_lg q (fun a e _ p => by have := hP a p; omega)⟩
theorem YT.c_lo (C : YT G M m h Y) (q : QW P n s M M') (E : Ext 2 M M') (hP : ∀ a, P a → h.own a = 7) {v : List LotA} {e : Nat} {x : Nat → Nat} (N : CC h.own 7 G M' 2 (m + 8) e x 40 LoG v) : YT G M' m ((h.s_lx x).s_le e) (Y.s_lots v) :=
  ⟨Nat.le_trans C.lt q.nx.1,
   fun j hj => ⟨(C.o j hj).1, (q.co _ (by have := C.lt; omega)).trans (C.o j hj).2⟩,
   E.2.2.2.2 C.z,
   C.ct.ext E (by decide) (by decide),
   C.cn.ext E,
   C.rt.fw q (by have := C.lt; omega) (fun p => by have := hP _ p; have e : h.own (m) = idT 0 := (C.o 0 (by decide)).1; have e2 : idT 0 = 0 := rfl; omega),
   C.tm.fw q C.lt (fun p => by have := hP _ p; have e : h.own (m + 2) = idT 2 := (C.o 2 (by decide)).1; have e2 : idT 2 = 10 := rfl; omega),
   C.bk.fw q C.lt (fun p => by have := hP _ p; have e : h.own (m + 9) = idT 9 := (C.o 9 (by decide)).1; have e2 : idT 9 = 8 := rfl; omega),
   C.sl.fw q (fun a e _ p => by have := hP a p; omega),
   fun i S hi => (C.sh i S hi).fw q (fun a e _ p => by have := hP a p; omega),
   C.kd.fw frF_kg q (fun a e _ p => by have := hP a p; omega),
   C.od.fw frF_og q (fun a e _ p => by have := hP a p; omega),
   C.of.fw frF_fg q (fun a e _ p => by have := hP a p; omega),
   C.bu.fw frF_ug q (fun a e _ p => by have := hP a p; omega),
   C.pt.fw frF_pg q (fun a e _ p => by have := hP a p; omega),
   N⟩
theorem YT.c_sh (C : YT G M m h Y) (q : QW P n s M M') (E : Ext 2 M M') {i : Nat} {S S' : Sh} {g' : SG} (hi : Y.ships[i]? = some S) (hP : ∀ a, P a → h.own a = 20 + i) (N : ShQ h.own G M' m i (h.bs i) g' S') : YT G M' m (h.s_gs (gsU h.gs i g')) (Y.s_ships (Y.ships.set i S')) :=
  ⟨Nat.le_trans C.lt q.nx.1,
   fun j hj => ⟨(C.o j hj).1, (q.co _ (by have := C.lt; omega)).trans (C.o j hj).2⟩,
   E.2.2.2.2 C.z,
   C.ct.ext E (by decide) (by decide),
   C.cn.ext E,
   C.rt.fw q (by have := C.lt; omega) (fun p => by have := hP _ p; have e : h.own (m) = idT 0 := (C.o 0 (by decide)).1; have e2 : idT 0 = 0 := rfl; omega),
   C.tm.fw q C.lt (fun p => by have := hP _ p; have e : h.own (m + 2) = idT 2 := (C.o 2 (by decide)).1; have e2 : idT 2 = 10 := rfl; omega),
   C.bk.fw q C.lt (fun p => by have := hP _ p; have e : h.own (m + 9) = idT 9 := (C.o 9 (by decide)).1; have e2 : idT 9 = 8 := rfl; omega),
   (by show SlC h.own G M' 2 (m + 1) h.se (Y.ships.set i S').length h.bs 38; rw [List.length_set]; exact C.sl.fw q (fun a e _ p => by have := hP a p; omega)),
   fun j T hj => if e : i = j then (by subst e; have hj2 : (Y.ships.set i S')[i]? = some T := hj; rw [get_set_at hi] at hj2; cases hj2; show ShQ h.own G M' m i (h.bs i) (gsU h.gs i g' i) S'; rw [gsU_at]; exact N) else (by have hj2 : (Y.ships.set i S')[j]? = some T := hj; rw [get_set_ne e] at hj2; show ShQ h.own G M' m j (h.bs j) (gsU h.gs i g' j) T; rw [gsU_ne e]; exact (C.sh j T hj2).fw q (fun a x _ p => by have := hP a p; omega)),
   C.kd.fw frF_kg q (fun a e _ p => by have := hP a p; omega),
   C.od.fw frF_og q (fun a e _ p => by have := hP a p; omega),
   C.of.fw frF_fg q (fun a e _ p => by have := hP a p; omega),
   C.bu.fw frF_ug q (fun a e _ p => by have := hP a p; omega),
   C.pt.fw frF_pg q (fun a e _ p => by have := hP a p; omega),
   C.lo.fw frF_lg q (fun a e _ p => by have := hP a p; omega)⟩
theorem YT.lots (C : YT G M m h Y) : LtT G M m Y.lots (m + 8) h.le h.lx :=
  ⟨C.rt.k, C.rt.r8, C.lo.l.al, by have := C.lt; omega, fun i hi => (C.lo.l.el i hi).1, fun i x hx => ⟨(C.lo.l.el i (lt_of_get hx)).2.1, (C.lo.l.el i (lt_of_get hx)).2.2, C.lo.f i x hx⟩, C.lo.l.inj⟩
/-- what a query of a ship goes out from -/
theorem YT.tc (C : YT G M m h Y) (I : YI Y) {i : Nat} {S : Sh} (hi : Y.ships[i]? = some S) : TC G M m (h.bs i) (h.gs i) S (whereN S) Y.lots (m + 8) h.le h.lx :=
  ⟨(C.sh i S hi).t, C.lots, I.li, I.l8, by rw [I.sn i S hi]; exact I.sc i S hi, I.si i S hi, C.z, C.ct⟩
end YTF
