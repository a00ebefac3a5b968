set_option maxRecDepth 4000
/-! ===== how the class keeps a yard ===== -/
/-- addresses of a yard: owners, ships, lists' elements and backing arrays -/
abbrev YH : Type := (Nat → Nat) × (Nat → Nat) × (Nat → SG) × (Nat) × (Nat → Nat) × (Nat) × (Nat → Nat) × (Nat) × (Nat → Nat) × (Nat) × (Nat → Nat) × (Nat) × (Nat → Nat) × (Nat) × (Nat → Nat) × (Nat)
def YH.own (self_ : YH) : Nat → Nat := self_.1
def YH.bs (self_ : YH) : Nat → Nat := self_.2.1
def YH.gs (self_ : YH) : Nat → SG := self_.2.2.1
def YH.se (self_ : YH) : Nat := self_.2.2.2.1
def YH.kx (self_ : YH) : Nat → Nat := self_.2.2.2.2.1
def YH.ke (self_ : YH) : Nat := self_.2.2.2.2.2.1
def YH.ox (self_ : YH) : Nat → Nat := self_.2.2.2.2.2.2.1
def YH.oe (self_ : YH) : Nat := self_.2.2.2.2.2.2.2.1
def YH.fx (self_ : YH) : Nat → Nat := self_.2.2.2.2.2.2.2.2.1
def YH.fe (self_ : YH) : Nat := self_.2.2.2.2.2.2.2.2.2.1
def YH.ux (self_ : YH) : Nat → Nat := self_.2.2.2.2.2.2.2.2.2.2.1
def YH.ue (self_ : YH) : Nat := self_.2.2.2.2.2.2.2.2.2.2.2.1
def YH.px (self_ : YH) : Nat → Nat := self_.2.2.2.2.2.2.2.2.2.2.2.2.1
def YH.pe (self_ : YH) : Nat := self_.2.2.2.2.2.2.2.2.2.2.2.2.2.1
def YH.lx (self_ : YH) : Nat → Nat := self_.2.2.2.2.2.2.2.2.2.2.2.2.2.2.1
def YH.le (self_ : YH) : Nat := self_.2.2.2.2.2.2.2.2.2.2.2.2.2.2.2
def YH.mk_ (own : Nat → Nat) (bs : Nat → Nat) (gs : Nat → SG) (se : Nat) (kx : Nat → Nat) (ke : Nat) (ox : Nat → Nat) (oe : Nat) (fx : Nat → Nat) (fe : Nat) (ux : Nat → Nat) (ue : Nat) (px : Nat → Nat) (pe : Nat) (lx : Nat → Nat) (le : Nat) : YH := (own, bs, gs, se, kx, ke, ox, oe, fx, fe, ux, ue, px, pe, lx, le)
def YH.s_own (self_ : YH) (v_ : Nat → Nat) : YH := (v_, self_.bs, self_.gs, self_.se, self_.kx, self_.ke, self_.ox, self_.oe, self_.fx, self_.fe, self_.ux, self_.ue, self_.px, self_.pe, self_.lx, self_.le)
def YH.s_bs (self_ : YH) (v_ : Nat → Nat) : YH := (self_.own, v_, self_.gs, self_.se, self_.kx, self_.ke, self_.ox, self_.oe, self_.fx, self_.fe, self_.ux, self_.ue, self_.px, self_.pe, self_.lx, self_.le)
def YH.s_gs (self_ : YH) (v_ : Nat → SG) : YH := (self_.own, self_.bs, v_, self_.se, self_.kx, self_.ke, self_.ox, self_.oe, self_.fx, self_.fe, self_.ux, self_.ue, self_.px, self_.pe, self_.lx, self_.le)
def YH.s_se (self_ : YH) (v_ : Nat) : YH := (self_.own, self_.bs, self_.gs, v_, self_.kx, self_.ke, self_.ox, self_.oe, self_.fx, self_.fe, self_.ux, self_.ue, self_.px, self_.pe, self_.lx, self_.le)
def YH.s_kx (self_ : YH) (v_ : Nat → Nat) : YH := (self_.own, self_.bs, self_.gs, self_.se, v_, self_.ke, self_.ox, self_.oe, self_.fx, self_.fe, self_.ux, self_.ue, self_.px, self_.pe, self_.lx, self_.le)
def YH.s_ke (self_ : YH) (v_ : Nat) : YH := (self_.own, self_.bs, self_.gs, self_.se, self_.kx, v_, self_.ox, self_.oe, self_.fx, self_.fe, self_.ux, self_.ue, self_.px, self_.pe, self_.lx, self_.le)
def YH.s_ox (self_ : YH) (v_ : Nat → Nat) : YH := (self_.own, self_.bs, self_.gs, self_.se, self_.kx, self_.ke, v_, self_.oe, self_.fx, self_.fe, self_.ux, self_.ue, self_.px, self_.pe, self_.lx, self_.le)
def YH.s_oe (self_ : YH) (v_ : Nat) : YH := (self_.own, self_.bs, self_.gs, self_.se, self_.kx, self_.ke, self_.ox, v_, self_.fx, self_.fe, self_.ux, self_.ue, self_.px, self_.pe, self_.lx, self_.le)
def YH.s_fx (self_ : YH) (v_ : Nat → Nat) : YH := (self_.own, self_.bs, self_.gs, self_.se, self_.kx, self_.ke, self_.ox, self_.oe, v_, self_.fe, self_.ux, self_.ue, self_.px, self_.pe, self_.lx, self_.le)
def YH.s_fe (self_ : YH) (v_ : Nat) : YH := (self_.own, self_.bs, self_.gs, self_.se, self_.kx, self_.ke, self_.ox, self_.oe, self_.fx, v_, self_.ux, self_.ue, self_.px, self_.pe, self_.lx, self_.le)
def YH.s_ux (self_ : YH) (v_ : Nat → Nat) : YH := (self_.own, self_.bs, self_.gs, self_.se, self_.kx, self_.ke, self_.ox, self_.oe, self_.fx, self_.fe, v_, self_.ue, self_.px, self_.pe, self_.lx, self_.le)
def YH.s_ue (self_ : YH) (v_ : Nat) : YH := (self_.own, self_.bs, self_.gs, self_.se, self_.kx, self_.ke, self_.ox, self_.oe, self_.fx, self_.fe, self_.ux, v_, self_.px, self_.pe, self_.lx, self_.le)
def YH.s_px (self_ : YH) (v_ : Nat → Nat) : YH := (self_.own, self_.bs, self_.gs, self_.se, self_.kx, self_.ke, self_.ox, self_.oe, self_.fx, self_.fe, self_.ux, self_.ue, v_, self_.pe, self_.lx, self_.le)
def YH.s_pe (self_ : YH) (v_ : Nat) : YH := (self_.own, self_.bs, self_.gs, self_.se, self_.kx, self_.ke, self_.ox, self_.oe, self_.fx, self_.fe, self_.ux, self_.ue, self_.px, v_, self_.lx, self_.le)
def YH.s_lx (self_ : YH) (v_ : Nat → Nat) : YH := (self_.own, self_.bs, self_.gs, self_.se, self_.kx, self_.ke, self_.ox, self_.oe, self_.fx, self_.fe, self_.ux, self_.ue, self_.px, self_.pe, v_, self_.le)
def YH.s_le (self_ : YH) (v_ : Nat) : YH := (self_.own, self_.bs, self_.gs, self_.se, self_.kx, self_.ke, self_.ox, self_.oe, self_.fx, self_.fe, self_.ux, self_.ue, self_.px, self_.pe, self_.lx, v_)

/-- owners of the class' root cells -/
def idR (j : Nat) : Nat := ([0, 0, 8, 8, 0, 1, 2, 3, 9, 9, 4, 10, 10, 0, 5, 0, 6, 7, 0, 14] : List Nat).getD j 0
abbrev RtC (M : Mem) (k day wea : Nat) (rfs : Int32) : Prop := (mcl M k = 1) ∧ (mfr M 1 k = some (k + 1)) ∧ (mfr M 2 k = some (k + 2)) ∧ (mfr M 3 k = some (k + 4)) ∧ (mfr M 4 k = some (k + 8)) ∧ (mfr M 5 k = some (k + 10)) ∧ (mfr M 6 k = some (k + 11)) ∧ (mfr M 7 k = some (k + 13)) ∧ (mfr M 8 k = some (k + 15)) ∧ (mfi M 9 k = nI day) ∧ (mfi M 10 k = nI wea) ∧ (mfi M 11 k = rfs) ∧ (mcl M (k + 1) = 2) ∧ (mcl M (k + 4) = 4) ∧ (mfr M 18 (k + 4) = some (k + 5)) ∧ (mfr M 19 (k + 4) = some (k + 6)) ∧ (mfr M 20 (k + 4) = some (k + 7)) ∧ (mcl M (k + 13) = 8) ∧ (mfr M 33 (k + 13) = some (k + 2)) ∧ (mfr M 34 (k + 13) = some (k + 14)) ∧ (mcl M (k + 15) = 9) ∧ (mfr M 35 (k + 15) = some (k + 8)) ∧ (mfr M 36 (k + 15) = some (k + 16)) ∧ (mfr M 37 (k + 15) = some (k + 17)) ∧ (mfr M 38 (k + 15) = some (k + 18)) ∧ (mcl M (k + 18) = 10) ∧ (mfr M 39 (k + 18) = some (k + 16)) ∧ (mfr M 40 (k + 18) = some (k + 19)) ∧ (mcl M (k + 19) = 100) ∧ (mln M (k + 19) = 6)
theorem RtC.k {M : Mem} {k day wea : Nat} {rfs : Int32} (self_ : RtC M k day wea rfs) : mcl M k = 1 := self_.1
theorem RtC.r1 {M : Mem} {k day wea : Nat} {rfs : Int32} (self_ : RtC M k day wea rfs) : mfr M 1 k = some (k + 1) := self_.2.1
theorem RtC.r2 {M : Mem} {k day wea : Nat} {rfs : Int32} (self_ : RtC M k day wea rfs) : mfr M 2 k = some (k + 2) := self_.2.2.1
theorem RtC.r3 {M : Mem} {k day wea : Nat} {rfs : Int32} (self_ : RtC M k day wea rfs) : mfr M 3 k = some (k + 4) := self_.2.2.2.1
theorem RtC.r4 {M : Mem} {k day wea : Nat} {rfs : Int32} (self_ : RtC M k day wea rfs) : mfr M 4 k = some (k + 8) := self_.2.2.2.2.1
theorem RtC.r5 {M : Mem} {k day wea : Nat} {rfs : Int32} (self_ : RtC M k day wea rfs) : mfr M 5 k = some (k + 10) := self_.2.2.2.2.2.1
theorem RtC.r6 {M : Mem} {k day wea : Nat} {rfs : Int32} (self_ : RtC M k day wea rfs) : mfr M 6 k = some (k + 11) := self_.2.2.2.2.2.2.1
theorem RtC.r7 {M : Mem} {k day wea : Nat} {rfs : Int32} (self_ : RtC M k day wea rfs) : mfr M 7 k = some (k + 13) := self_.2.2.2.2.2.2.2.1
theorem RtC.r8 {M : Mem} {k day wea : Nat} {rfs : Int32} (self_ : RtC M k day wea rfs) : mfr M 8 k = some (k + 15) := self_.2.2.2.2.2.2.2.2.1
theorem RtC.day {M : Mem} {k day wea : Nat} {rfs : Int32} (self_ : RtC M k day wea rfs) : mfi M 9 k = nI day := self_.2.2.2.2.2.2.2.2.2.1
theorem RtC.wea {M : Mem} {k day wea : Nat} {rfs : Int32} (self_ : RtC M k day wea rfs) : mfi M 10 k = nI wea := self_.2.2.2.2.2.2.2.2.2.2.1
theorem RtC.rfs {M : Mem} {k day wea : Nat} {rfs : Int32} (self_ : RtC M k day wea rfs) : mfi M 11 k = rfs := self_.2.2.2.2.2.2.2.2.2.2.2.1
theorem RtC.blk {M : Mem} {k day wea : Nat} {rfs : Int32} (self_ : RtC M k day wea rfs) : mcl M (k + 1) = 2 := self_.2.2.2.2.2.2.2.2.2.2.2.2.1
theorem RtC.stk {M : Mem} {k day wea : Nat} {rfs : Int32} (self_ : RtC M k day wea rfs) : mcl M (k + 4) = 4 := self_.2.2.2.2.2.2.2.2.2.2.2.2.2.1
theorem RtC.r18 {M : Mem} {k day wea : Nat} {rfs : Int32} (self_ : RtC M k day wea rfs) : mfr M 18 (k + 4) = some (k + 5) := self_.2.2.2.2.2.2.2.2.2.2.2.2.2.2.1
theorem RtC.r19 {M : Mem} {k day wea : Nat} {rfs : Int32} (self_ : RtC M k day wea rfs) : mfr M 19 (k + 4) = some (k + 6) := self_.2.2.2.2.2.2.2.2.2.2.2.2.2.2.2.1
theorem RtC.r20 {M : Mem} {k day wea : Nat} {rfs : Int32} (self_ : RtC M k day wea rfs) : mfr M 20 (k + 4) = some (k + 7) := self_.2.2.2.2.2.2.2.2.2.2.2.2.2.2.2.2.1
theorem RtC.slk {M : Mem} {k day wea : Nat} {rfs : Int32} (self_ : RtC M k day wea rfs) : mcl M (k + 13) = 8 := self_.2.2.2.2.2.2.2.2.2.2.2.2.2.2.2.2.2.1
theorem RtC.r33 {M : Mem} {k day wea : Nat} {rfs : Int32} (self_ : RtC M k day wea rfs) : mfr M 33 (k + 13) = some (k + 2) := self_.2.2.2.2.2.2.2.2.2.2.2.2.2.2.2.2.2.2.1
theorem RtC.r34 {M : Mem} {k day wea : Nat} {rfs : Int32} (self_ : RtC M k day wea rfs) : mfr M 34 (k + 13) = some (k + 14) := self_.2.2.2.2.2.2.2.2.2.2.2.2.2.2.2.2.2.2.2.1
theorem RtC.vk {M : Mem} {k day wea : Nat} {rfs : Int32} (self_ : RtC M k day wea rfs) : mcl M (k + 15) = 9 := self_.2.2.2.2.2.2.2.2.2.2.2.2.2.2.2.2.2.2.2.2.1
theorem RtC.r35 {M : Mem} {k day wea : Nat} {rfs : Int32} (self_ : RtC M k day wea rfs) : mfr M 35 (k + 15) = some (k + 8) := self_.2.2.2.2.2.2.2.2.2.2.2.2.2.2.2.2.2.2.2.2.2.1
theorem RtC.r36 {M : Mem} {k day wea : Nat} {rfs : Int32} (self_ : RtC M k day wea rfs) : mfr M 36 (k + 15) = some (k + 16) := self_.2.2.2.2.2.2.2.2.2.2.2.2.2.2.2.2.2.2.2.2.2.2.1
theorem RtC.r37 {M : Mem} {k day wea : Nat} {rfs : Int32} (self_ : RtC M k day wea rfs) : mfr M 37 (k + 15) = some (k + 17) := self_.2.2.2.2.2.2.2.2.2.2.2.2.2.2.2.2.2.2.2.2.2.2.2.1
theorem RtC.r38 {M : Mem} {k day wea : Nat} {rfs : Int32} (self_ : RtC M k day wea rfs) : mfr M 38 (k + 15) = some (k + 18) := self_.2.2.2.2.2.2.2.2.2.2.2.2.2.2.2.2.2.2.2.2.2.2.2.2.1
theorem RtC.rk {M : Mem} {k day wea : Nat} {rfs : Int32} (self_ : RtC M k day wea rfs) : mcl M (k + 18) = 10 := self_.2.2.2.2.2.2.2.2.2.2.2.2.2.2.2.2.2.2.2.2.2.2.2.2.2.1
theorem RtC.r39 {M : Mem} {k day wea : Nat} {rfs : Int32} (self_ : RtC M k day wea rfs) : mfr M 39 (k + 18) = some (k + 16) := self_.2.2.2.2.2.2.2.2.2.2.2.2.2.2.2.2.2.2.2.2.2.2.2.2.2.2.1
theorem RtC.r40 {M : Mem} {k day wea : Nat} {rfs : Int32} (self_ : RtC M k day wea rfs) : mfr M 40 (k + 18) = some (k + 19) := self_.2.2.2.2.2.2.2.2.2.2.2.2.2.2.2.2.2.2.2.2.2.2.2.2.2.2.2.1
theorem RtC.ok {M : Mem} {k day wea : Nat} {rfs : Int32} (self_ : RtC M k day wea rfs) : mcl M (k + 19) = 100 := self_.2.2.2.2.2.2.2.2.2.2.2.2.2.2.2.2.2.2.2.2.2.2.2.2.2.2.2.2.1
theorem RtC.ol {M : Mem} {k day wea : Nat} {rfs : Int32} (self_ : RtC M k day wea rfs) : mln M (k + 19) = 6 := self_.2.2.2.2.2.2.2.2.2.2.2.2.2.2.2.2.2.2.2.2.2.2.2.2.2.2.2.2.2
abbrev BkC (M : Mem) (k mon : Nat) (bk : Nat → Nat → Nat → Int32) (cash : Int32) : Prop := (mcl M (k + 2) = 3) ∧ (mfr M 15 (k + 2) = some (k + 3)) ∧ (mcl M (k + 3) = 100) ∧ (mln M (k + 3) = 504) ∧ (mfi M 16 (k + 2) = nI mon) ∧ (mfi M 17 (k + 2) = cash) ∧ (∀ a o m, a < 9 → o < 4 → m < 14 → mai M (k + 3) ((a * 4 + o) * 14 + m) = bk a o m)
theorem BkC.k {M : Mem} {k mon : Nat} {bk : Nat → Nat → Nat → Int32} {cash : Int32} (self_ : BkC M k mon bk cash) : mcl M (k + 2) = 3 := self_.1
theorem BkC.r {M : Mem} {k mon : Nat} {bk : Nat → Nat → Nat → Int32} {cash : Int32} (self_ : BkC M k mon bk cash) : mfr M 15 (k + 2) = some (k + 3) := self_.2.1
theorem BkC.ak {M : Mem} {k mon : Nat} {bk : Nat → Nat → Nat → Int32} {cash : Int32} (self_ : BkC M k mon bk cash) : mcl M (k + 3) = 100 := self_.2.2.1
theorem BkC.al {M : Mem} {k mon : Nat} {bk : Nat → Nat → Nat → Int32} {cash : Int32} (self_ : BkC M k mon bk cash) : mln M (k + 3) = 504 := self_.2.2.2.1
theorem BkC.mo {M : Mem} {k mon : Nat} {bk : Nat → Nat → Nat → Int32} {cash : Int32} (self_ : BkC M k mon bk cash) : mfi M 16 (k + 2) = nI mon := self_.2.2.2.2.1
theorem BkC.ca {M : Mem} {k mon : Nat} {bk : Nat → Nat → Nat → Int32} {cash : Int32} (self_ : BkC M k mon bk cash) : mfi M 17 (k + 2) = cash := self_.2.2.2.2.2.1
theorem BkC.v {M : Mem} {k mon : Nat} {bk : Nat → Nat → Nat → Int32} {cash : Int32} (self_ : BkC M k mon bk cash) : ∀ a o m, a < 9 → o < 4 → m < 14 → mai M (k + 3) ((a * 4 + o) * 14 + m) = bk a o m := self_.2.2.2.2.2.2
abbrev WkC (M : Mem) (k luck : Nat) (flt wkd lst : Int32) (tm : Nat → Nat) : Prop := (mcl M (k + 11) = 7) ∧ (mfr M 25 (k + 11) = some (k + 10)) ∧ (mfr M 26 (k + 11) = some (k + 12)) ∧ (mcl M (k + 12) = 100) ∧ (mln M (k + 12) = 3) ∧ (∀ t, t < 3 → mai M (k + 12) t = nI (tm t)) ∧ (mfi M 27 (k + 11) = nI luck) ∧ (mfi M 28 (k + 11) = flt) ∧ (mfi M 29 (k + 11) = wkd) ∧ (mfi M 30 (k + 11) = lst)
theorem WkC.k {M : Mem} {k luck : Nat} {flt wkd lst : Int32} {tm : Nat → Nat} (self_ : WkC M k luck flt wkd lst tm) : mcl M (k + 11) = 7 := self_.1
theorem WkC.r {M : Mem} {k luck : Nat} {flt wkd lst : Int32} {tm : Nat → Nat} (self_ : WkC M k luck flt wkd lst tm) : mfr M 25 (k + 11) = some (k + 10) := self_.2.1
theorem WkC.t {M : Mem} {k luck : Nat} {flt wkd lst : Int32} {tm : Nat → Nat} (self_ : WkC M k luck flt wkd lst tm) : mfr M 26 (k + 11) = some (k + 12) := self_.2.2.1
theorem WkC.ak {M : Mem} {k luck : Nat} {flt wkd lst : Int32} {tm : Nat → Nat} (self_ : WkC M k luck flt wkd lst tm) : mcl M (k + 12) = 100 := self_.2.2.2.1
theorem WkC.al {M : Mem} {k luck : Nat} {flt wkd lst : Int32} {tm : Nat → Nat} (self_ : WkC M k luck flt wkd lst tm) : mln M (k + 12) = 3 := self_.2.2.2.2.1
theorem WkC.v {M : Mem} {k luck : Nat} {flt wkd lst : Int32} {tm : Nat → Nat} (self_ : WkC M k luck flt wkd lst tm) : ∀ t, t < 3 → mai M (k + 12) t = nI (tm t) := self_.2.2.2.2.2.1
theorem WkC.lk {M : Mem} {k luck : Nat} {flt wkd lst : Int32} {tm : Nat → Nat} (self_ : WkC M k luck flt wkd lst tm) : mfi M 27 (k + 11) = nI luck := self_.2.2.2.2.2.2.1
theorem WkC.fl {M : Mem} {k luck : Nat} {flt wkd lst : Int32} {tm : Nat → Nat} (self_ : WkC M k luck flt wkd lst tm) : mfi M 28 (k + 11) = flt := self_.2.2.2.2.2.2.2.1
theorem WkC.wd {M : Mem} {k luck : Nat} {flt wkd lst : Int32} {tm : Nat → Nat} (self_ : WkC M k luck flt wkd lst tm) : mfi M 29 (k + 11) = wkd := self_.2.2.2.2.2.2.2.2.1
theorem WkC.ls {M : Mem} {k luck : Nat} {flt wkd lst : Int32} {tm : Nat → Nat} (self_ : WkC M k luck flt wkd lst tm) : mfi M 30 (k + 11) = lst := self_.2.2.2.2.2.2.2.2.2
abbrev EdC (M : Mem) (k : Nat) (ships : List Sh) (bs : Nat → Nat) : Prop := (mcl M (k + 8) = 6) ∧ (mfr M 24 (k + 8) = some (k + 9)) ∧ (mcl M (k + 9) = 104) ∧ (mln M (k + 9) = 6) ∧ (∀ s, s < 6 → mar M (k + 9) s = (atS ships s).map bs)
theorem EdC.k {M : Mem} {k : Nat} {ships : List Sh} {bs : Nat → Nat} (self_ : EdC M k ships bs) : mcl M (k + 8) = 6 := self_.1
theorem EdC.r {M : Mem} {k : Nat} {ships : List Sh} {bs : Nat → Nat} (self_ : EdC M k ships bs) : mfr M 24 (k + 8) = some (k + 9) := self_.2.1
theorem EdC.ak {M : Mem} {k : Nat} {ships : List Sh} {bs : Nat → Nat} (self_ : EdC M k ships bs) : mcl M (k + 9) = 104 := self_.2.2.1
theorem EdC.al {M : Mem} {k : Nat} {ships : List Sh} {bs : Nat → Nat} (self_ : EdC M k ships bs) : mln M (k + 9) = 6 := self_.2.2.2.1
theorem EdC.v {M : Mem} {k : Nat} {ships : List Sh} {bs : Nat → Nat} (self_ : EdC M k ships bs) : ∀ s, s < 6 → mar M (k + 9) s = (atS ships s).map bs := self_.2.2.2.2
/-- the list of the ships -/
abbrev SlC (own : Nat → Nat) (G : Nat → Option Nat) (M : Mem) (c l se n : Nat) (bs : Nat → Nat) (kd : Nat) : Prop := (AL G M c l se n bs) ∧ (ElK M c kd n bs) ∧ (own l = 4) ∧ (mln M se ≠ 0 → own se = 4)
theorem SlC.al {own : Nat → Nat} {G : Nat → Option Nat} {M : Mem} {c l se n : Nat} {bs : Nat → Nat} {kd : Nat} (self_ : SlC own G M c l se n bs kd) : AL G M c l se n bs := self_.1
theorem SlC.el {own : Nat → Nat} {G : Nat → Option Nat} {M : Mem} {c l se n : Nat} {bs : Nat → Nat} {kd : Nat} (self_ : SlC own G M c l se n bs kd) : ElK M c kd n bs := self_.2.1
theorem SlC.ol {own : Nat → Nat} {G : Nat → Option Nat} {M : Mem} {c l se n : Nat} {bs : Nat → Nat} {kd : Nat} (self_ : SlC own G M c l se n bs kd) : own l = 4 := self_.2.2.1
theorem SlC.oe {own : Nat → Nat} {G : Nat → Option Nat} {M : Mem} {c l se n : Nat} {bs : Nat → Nat} {kd : Nat} (self_ : SlC own G M c l se n bs kd) : mln M se ≠ 0 → own se = 4 := self_.2.2.2
/-- what belongs to the class' ship i at b -/
abbrev OwC (own : Nat → Nat) (M : Mem) (i b : Nat) (g : SG) (S : Sh) : Prop := (∀ a, b ≤ a → a < b + 106 → own a = 20 + i ∧ mco M a = 1) ∧ (mln M g.xe ≠ 0 → own g.xe = 20 + i) ∧ (∀ j, j < S.items.length → own (g.xs j) = 20 + i ∧ mco M (g.xs j) = 1) ∧ (mln M g.ye ≠ 0 → own g.ye = 20 + i) ∧ (mln M g.pe ≠ 0 → own g.pe = 20 + i) ∧ (∀ j, j < S.pipes.length → own (g.ps j) = 20 + i)
theorem OwC.blk {own : Nat → Nat} {M : Mem} {i b : Nat} {g : SG} {S : Sh} (self_ : OwC own M i b g S) : ∀ a, b ≤ a → a < b + 106 → own a = 20 + i ∧ mco M a = 1 := self_.1
theorem OwC.xe {own : Nat → Nat} {M : Mem} {i b : Nat} {g : SG} {S : Sh} (self_ : OwC own M i b g S) : mln M g.xe ≠ 0 → own g.xe = 20 + i := self_.2.1
theorem OwC.xs {own : Nat → Nat} {M : Mem} {i b : Nat} {g : SG} {S : Sh} (self_ : OwC own M i b g S) : ∀ j, j < S.items.length → own (g.xs j) = 20 + i ∧ mco M (g.xs j) = 1 := self_.2.2.1
theorem OwC.ye {own : Nat → Nat} {M : Mem} {i b : Nat} {g : SG} {S : Sh} (self_ : OwC own M i b g S) : mln M g.ye ≠ 0 → own g.ye = 20 + i := self_.2.2.2.1
theorem OwC.pe {own : Nat → Nat} {M : Mem} {i b : Nat} {g : SG} {S : Sh} (self_ : OwC own M i b g S) : mln M g.pe ≠ 0 → own g.pe = 20 + i := self_.2.2.2.2.1
theorem OwC.ps {own : Nat → Nat} {M : Mem} {i b : Nat} {g : SG} {S : Sh} (self_ : OwC own M i b g S) : ∀ j, j < S.pipes.length → own (g.ps j) = 20 + i := self_.2.2.2.2.2
abbrev ShP (own : Nat → Nat) (G : Nat → Option Nat) (M : Mem) (i b : Nat) (g : SG) (px lx : Nat → Nat) (lots : List LotA) (S : Sh) : Prop := (ShC G M b g S false) ∧ (OwC own M i b g S) ∧ (g.pa = px) ∧ (∀ j, j < S.cargo.length → g.ys j = lx ((abI i lots).getD j 0) ∧ own (g.ys j) = 7)
theorem ShP.c {own : Nat → Nat} {G : Nat → Option Nat} {M : Mem} {i b : Nat} {g : SG} {px lx : Nat → Nat} {lots : List LotA} {S : Sh} (self_ : ShP own G M i b g px lx lots S) : ShC G M b g S false := self_.1
theorem ShP.o {own : Nat → Nat} {G : Nat → Option Nat} {M : Mem} {i b : Nat} {g : SG} {px lx : Nat → Nat} {lots : List LotA} {S : Sh} (self_ : ShP own G M i b g px lx lots S) : OwC own M i b g S := self_.2.1
theorem ShP.pa {own : Nat → Nat} {G : Nat → Option Nat} {M : Mem} {i b : Nat} {g : SG} {px lx : Nat → Nat} {lots : List LotA} {S : Sh} (self_ : ShP own G M i b g px lx lots S) : g.pa = px := self_.2.2.1
theorem ShP.ya {own : Nat → Nat} {G : Nat → Option Nat} {M : Mem} {i b : Nat} {g : SG} {px lx : Nat → Nat} {lots : List LotA} {S : Sh} (self_ : ShP own G M i b g px lx lots S) : ∀ j, j < S.cargo.length → g.ys j = lx ((abI i lots).getD j 0) ∧ own (g.ys j) = 7 := self_.2.2.2
def KdF (M : Mem) (a : Nat) (x : KindA) : Prop := mfi M 143 a = nI x.wd ∧ mfi M 144 a = nI x.ln ∧ mfi M 145 a = nI x.th ∧ mfi M 146 a = nI x.pr ∧ mfi M 147 a = nI x.ld ∧ mfi M 148 a = x.st
def OrF (kx : Nat → Nat) (M : Mem) (a : Nat) (x : OrdA) : Prop := mfr M 149 a = some (kx x.k) ∧ mfi M 150 a = x.n ∧ mfi M 151 a = x.dy
def OfF (kx : Nat → Nat) (M : Mem) (a : Nat) (x : OffA) : Prop := mfr M 157 a = some (kx x.k) ∧ mfi M 158 a = x.a ∧ mfi M 159 a = x.b
def BuF (bs : Nat → Nat) (M : Mem) (a : Nat) (x : BuyA) : Prop := mfi M 166 a = nI x.ln ∧ mfi M 167 a = nI x.sp ∧ mfi M 168 a = nI x.ru ∧ mfi M 169 a = x.du ∧ mfi M 170 a = nI x.pr ∧ mfi M 171 a = nI x.st ∧ mfr M 172 a = x.sh.map bs ∧ mfi M 173 a = x.our ∧ mfi M 174 a = x.fin ∧ mfi M 175 a = x.pd
def PtF (M : Mem) (a : Nat) (x : PrtA) : Prop := mfi M 177 a = nI x.e ∧ mfi M 178 a = nI x.n ∧ mfi M 179 a = nI x.d
def LoF (px bs : Nat → Nat) (M : Mem) (a : Nat) (x : LotA) : Prop := mfr M 181 a = some (px x.at_) ∧ mfr M 182 a = some (px x.to) ∧ mfi M 183 a = nI x.tn ∧ mfi M 184 a = nI x.sort ∧ mfi M 185 a = x.frt ∧ mfi M 186 a = nI x.st ∧ mfr M 187 a = x.ship.map bs ∧ mfi M 188 a = oI x.cm ∧ mfd M 189 a = x.sd
abbrev YC (G : Nat → Option Nat) (M : Mem) (k : Nat) (h : YH) (Y : Yd) : Prop := (k + 20 ≤ mnx M) ∧ (∀ j, j < 20 → h.own (k + j) = idR j ∧ mco M (k + j) = 1) ∧ (Zr M) ∧ (RtC M k Y.day Y.wea Y.rfs) ∧ (BkC M k (Y.day / 30) Y.bk Y.cash) ∧ (WkC M k Y.luck Y.flt Y.wkd Y.lst Y.tm) ∧ (EdC M k Y.ships h.bs) ∧ (SlC h.own G M 1 (k + 10) h.se Y.ships.length h.bs 22) ∧ (∀ (i : Nat) (S : Sh), Y.ships[i]? = some S → ShP h.own G M i (h.bs i) (h.gs i) h.px h.lx Y.lots S) ∧ (CC h.own 1 G M 1 (k + 5) h.ke h.kx 27 KdF Y.kinds) ∧ (CC h.own 2 G M 1 (k + 6) h.oe h.ox 28 (OrF h.kx) Y.ords) ∧ (CC h.own 3 G M 1 (k + 7) h.fe h.fx 31 (OfF h.kx) Y.offs) ∧ (CC h.own 5 G M 1 (k + 14) h.ue h.ux 33 (BuF h.bs) Y.buys) ∧ (CC h.own 6 G M 1 (k + 16) h.pe h.px 34 PtF Y.prts) ∧ (∀ i, i < Y.prts.length → mfi M 176 (h.px i) = nI i) ∧ (CC h.own 7 G M 1 (k + 17) h.le h.lx 35 (LoF h.px h.bs) Y.lots) ∧ (∀ i, i < Y.lots.length → mfi M 180 (h.lx i) = nI i)
theorem YC.lt {G : Nat → Option Nat} {M : Mem} {k : Nat} {h : YH} {Y : Yd} (self_ : YC G M k h Y) : k + 20 ≤ mnx M := self_.1
theorem YC.o {G : Nat → Option Nat} {M : Mem} {k : Nat} {h : YH} {Y : Yd} (self_ : YC G M k h Y) : ∀ j, j < 20 → h.own (k + j) = idR j ∧ mco M (k + j) = 1 := self_.2.1
theorem YC.z {G : Nat → Option Nat} {M : Mem} {k : Nat} {h : YH} {Y : Yd} (self_ : YC G M k h Y) : Zr M := self_.2.2.1
theorem YC.rt {G : Nat → Option Nat} {M : Mem} {k : Nat} {h : YH} {Y : Yd} (self_ : YC G M k h Y) : RtC M k Y.day Y.wea Y.rfs := self_.2.2.2.1
theorem YC.bk {G : Nat → Option Nat} {M : Mem} {k : Nat} {h : YH} {Y : Yd} (self_ : YC G M k h Y) : BkC M k (Y.day / 30) Y.bk Y.cash := self_.2.2.2.2.1
theorem YC.wk {G : Nat → Option Nat} {M : Mem} {k : Nat} {h : YH} {Y : Yd} (self_ : YC G M k h Y) : WkC M k Y.luck Y.flt Y.wkd Y.lst Y.tm := self_.2.2.2.2.2.1
theorem YC.ed {G : Nat → Option Nat} {M : Mem} {k : Nat} {h : YH} {Y : Yd} (self_ : YC G M k h Y) : EdC M k Y.ships h.bs := self_.2.2.2.2.2.2.1
theorem YC.sl {G : Nat → Option Nat} {M : Mem} {k : Nat} {h : YH} {Y : Yd} (self_ : YC G M k h Y) : SlC h.own G M 1 (k + 10) h.se Y.ships.length h.bs 22 := self_.2.2.2.2.2.2.2.1
theorem YC.sh {G : Nat → Option Nat} {M : Mem} {k : Nat} {h : YH} {Y : Yd} (self_ : YC G M k h Y) : ∀ (i : Nat) (S : Sh), Y.ships[i]? = some S → ShP h.own G M i (h.bs i) (h.gs i) h.px h.lx Y.lots S := self_.2.2.2.2.2.2.2.2.1
theorem YC.kd {G : Nat → Option Nat} {M : Mem} {k : Nat} {h : YH} {Y : Yd} (self_ : YC G M k h Y) : CC h.own 1 G M 1 (k + 5) h.ke h.kx 27 KdF Y.kinds := self_.2.2.2.2.2.2.2.2.2.1
theorem YC.od {G : Nat → Option Nat} {M : Mem} {k : Nat} {h : YH} {Y : Yd} (self_ : YC G M k h Y) : CC h.own 2 G M 1 (k + 6) h.oe h.ox 28 (OrF h.kx) Y.ords := self_.2.2.2.2.2.2.2.2.2.2.1
theorem YC.of {G : Nat → Option Nat} {M : Mem} {k : Nat} {h : YH} {Y : Yd} (self_ : YC G M k h Y) : CC h.own 3 G M 1 (k + 7) h.fe h.fx 31 (OfF h.kx) Y.offs := self_.2.2.2.2.2.2.2.2.2.2.2.1
theorem YC.bu {G : Nat → Option Nat} {M : Mem} {k : Nat} {h : YH} {Y : Yd} (self_ : YC G M k h Y) : CC h.own 5 G M 1 (k + 14) h.ue h.ux 33 (BuF h.bs) Y.buys := self_.2.2.2.2.2.2.2.2.2.2.2.2.1
theorem YC.pt {G : Nat → Option Nat} {M : Mem} {k : Nat} {h : YH} {Y : Yd} (self_ : YC G M k h Y) : CC h.own 6 G M 1 (k + 16) h.pe h.px 34 PtF Y.prts := self_.2.2.2.2.2.2.2.2.2.2.2.2.2.1
theorem YC.pn {G : Nat → Option Nat} {M : Mem} {k : Nat} {h : YH} {Y : Yd} (self_ : YC G M k h Y) : ∀ i, i < Y.prts.length → mfi M 176 (h.px i) = nI i := self_.2.2.2.2.2.2.2.2.2.2.2.2.2.2.1
theorem YC.lo {G : Nat → Option Nat} {M : Mem} {k : Nat} {h : YH} {Y : Yd} (self_ : YC G M k h Y) : CC h.own 7 G M 1 (k + 17) h.le h.lx 35 (LoF h.px h.bs) Y.lots := self_.2.2.2.2.2.2.2.2.2.2.2.2.2.2.2.1
theorem YC.ln {G : Nat → Option Nat} {M : Mem} {k : Nat} {h : YH} {Y : Yd} (self_ : YC G M k h Y) : ∀ i, i < Y.lots.length → mfi M 180 (h.lx i) = nI i := self_.2.2.2.2.2.2.2.2.2.2.2.2.2.2.2.2
theorem frF_kd : FrF KdF := fun P n s M M' a x q la p h => ⟨(q.fi _ a la p rfl).trans h.1, (q.fi _ a la p rfl).trans h.2.1, (q.fi _ a la p rfl).trans h.2.2.1, (q.fi _ a la p rfl).trans h.2.2.2.1, (q.fi _ a la p rfl).trans h.2.2.2.2.1, (q.fi _ a la p rfl).trans h.2.2.2.2.2⟩
theorem frF_or {kx : Nat → Nat} : FrF (OrF kx) := fun P n s M M' a x q la p h => ⟨(q.fr _ a la p rfl).trans h.1, (q.fi _ a la p rfl).trans h.2.1, (q.fi _ a la p rfl).trans h.2.2⟩
theorem frF_of {kx : Nat → Nat} : FrF (OfF kx) := fun P n s M M' a x q la p h => ⟨(q.fr _ a la p rfl).trans h.1, (q.fi _ a la p rfl).trans h.2.1, (q.fi _ a la p rfl).trans h.2.2⟩
theorem frF_bu {bs : Nat → Nat} : FrF (BuF bs) := fun P n s M M' a x q la p h => ⟨(q.fi _ a la p rfl).trans h.1, (q.fi _ a la p rfl).trans h.2.1, (q.fi _ a la p rfl).trans h.2.2.1, (q.fi _ a la p rfl).trans h.2.2.2.1, (q.fi _ a la p rfl).trans h.2.2.2.2.1, (q.fi _ a la p rfl).trans h.2.2.2.2.2.1, (q.fr _ a la p rfl).trans h.2.2.2.2.2.2.1, (q.fi _ a la p rfl).trans h.2.2.2.2.2.2.2.1, (q.fi _ a la p rfl).trans h.2.2.2.2.2.2.2.2.1, (q.fi _ a la p rfl).trans h.2.2.2.2.2.2.2.2.2⟩
theorem frF_pt : FrF PtF := fun P n s M M' a x q la p h => ⟨(q.fi _ a la p rfl).trans h.1, (q.fi _ a la p rfl).trans h.2.1, (q.fi _ a la p rfl).trans h.2.2⟩
theorem frF_lo {px bs : Nat → Nat} : FrF (LoF px bs) := fun P n s M M' a x q la p h => ⟨(q.fr _ a la p rfl).trans h.1, (q.fr _ a la p rfl).trans h.2.1, (q.fi _ a la p rfl).trans h.2.2.1, (q.fi _ a la p rfl).trans h.2.2.2.1, (q.fi _ a la p rfl).trans h.2.2.2.2.1, (q.fi _ a la p rfl).trans h.2.2.2.2.2.1, (q.fr _ a la p rfl).trans h.2.2.2.2.2.2.1, (q.fi _ a la p rfl).trans h.2.2.2.2.2.2.2.1, (q.fd _ a la p rfl).trans h.2.2.2.2.2.2.2.2⟩
section YCF
variable {G : Nat → Option Nat} {M M' : Mem} {k n s : Nat} {P : Nat → Prop} {own : Nat → Nat}
theorem RtC.fw {day wea : Nat} {rfs : Int32} (R : RtC M k day wea rfs) (q : QW P n s M M') (lt : k + 20 ≤ mnx M) (h : ∀ j, j < 20 → idR j = 0 → ¬ P (k + j)) : RtC M' k day wea rfs :=
  ⟨(q.cl _ (by omega)).trans R.k, (q.fr _ k (by omega) (h 0 (by decide) rfl) rfl).trans R.r1, (q.fr _ k (by omega) (h 0 (by decide) rfl) rfl).trans R.r2, (q.fr _ k (by omega) (h 0 (by decide) rfl) rfl).trans R.r3, (q.fr _ k (by omega) (h 0 (by decide) rfl) rfl).trans R.r4, (q.fr _ k (by omega) (h 0 (by decide) rfl) rfl).trans R.r5, (q.fr _ k (by omega) (h 0 (by decide) rfl) rfl).trans R.r6, (q.fr _ k (by omega) (h 0 (by decide) rfl) rfl).trans R.r7, (q.fr _ k (by omega) (h 0 (by decide) rfl) rfl).trans R.r8, (q.fi _ k (by omega) (h 0 (by decide) rfl) rfl).trans R.day, (q.fi _ k (by omega) (h 0 (by decide) rfl) rfl).trans R.wea, (q.fi _ k (by omega) (h 0 (by decide) rfl) rfl).trans R.rfs,
   (q.cl _ (by omega)).trans R.blk, (q.cl _ (by omega)).trans R.stk, (q.fr _ _ (by omega) (h 4 (by decide) rfl) rfl).trans R.r18, (q.fr _ _ (by omega) (h 4 (by decide) rfl) rfl).trans R.r19, (q.fr _ _ (by omega) (h 4 (by decide) rfl) rfl).trans R.r20, (q.cl _ (by omega)).trans R.slk, (q.fr _ _ (by omega) (h 13 (by decide) rfl) rfl).trans R.r33, (q.fr _ _ (by omega) (h 13 (by decide) rfl) rfl).trans R.r34, (q.cl _ (by omega)).trans R.vk, (q.fr _ _ (by omega) (h 15 (by decide) rfl) rfl).trans R.r35, (q.fr _ _ (by omega) (h 15 (by decide) rfl) rfl).trans R.r36, (q.fr _ _ (by omega) (h 15 (by decide) rfl) rfl).trans R.r37, (q.fr _ _ (by omega) (h 15 (by decide) rfl) rfl).trans R.r38, (q.cl _ (by omega)).trans R.rk, (q.fr _ _ (by omega) (h 18 (by decide) rfl) rfl).trans R.r39, (q.fr _ _ (by omega) (h 18 (by decide) rfl) rfl).trans R.r40, (q.cl _ (by omega)).trans R.ok, (q.ln _ (by omega)).trans R.ol⟩
theorem BkC.fw {mon : Nat} {bk : Nat → Nat → Nat → Int32} {cash : Int32} (R : BkC M k mon bk cash) (q : QW P n s M M') (lt : k + 20 ≤ mnx M) (h2 : ¬ P (k + 2)) (h3 : ¬ P (k + 3)) : BkC M' k mon bk cash :=
  ⟨(q.cl _ (by omega)).trans R.k, (q.fr _ _ (by omega) h2 rfl).trans R.r, (q.cl _ (by omega)).trans R.ak, (q.ln _ (by omega)).trans R.al, (q.fi _ _ (by omega) h2 rfl).trans R.mo, (q.fi _ _ (by omega) h2 rfl).trans R.ca, fun a o m ha ho hm => (q.ai _ _ (by omega) h3).trans (R.v a o m ha ho hm)⟩
theorem WkC.fw {luck : Nat} {flt wkd lst : Int32} {tm : Nat → Nat} (R : WkC M k luck flt wkd lst tm) (q : QW P n s M M') (lt : k + 20 ≤ mnx M) (h2 : ¬ P (k + 11)) (h3 : ¬ P (k + 12)) : WkC M' k luck flt wkd lst tm :=
  ⟨(q.cl _ (by omega)).trans R.k, (q.fr _ _ (by omega) h2 rfl).trans R.r, (q.fr _ _ (by omega) h2 rfl).trans R.t, (q.cl _ (by omega)).trans R.ak, (q.ln _ (by omega)).trans R.al, fun t ht => (q.ai _ _ (by omega) h3).trans (R.v t ht), (q.fi _ _ (by omega) h2 rfl).trans R.lk, (q.fi _ _ (by omega) h2 rfl).trans R.fl, (q.fi _ _ (by omega) h2 rfl).trans R.wd, (q.fi _ _ (by omega) h2 rfl).trans R.ls⟩
theorem EdC.fw {ships : List Sh} {bs : Nat → Nat} (R : EdC M k ships bs) (q : QW P n s M M') (lt : k + 20 ≤ mnx M) (h2 : ¬ P (k + 8)) (h3 : ¬ P (k + 9)) : EdC M' k ships bs :=
  ⟨(q.cl _ (by omega)).trans R.k, (q.fr _ _ (by omega) h2 rfl).trans R.r, (q.cl _ (by omega)).trans R.ak, (q.ln _ (by omega)).trans R.al, fun t ht => (q.ar _ _ (by omega) h3).trans (R.v t ht)⟩
theorem SlC.fw {c l se m kd : Nat} {bs : Nat → Nat} (R : SlC own G M c l se m bs kd) (q : QW P n s M M') (h : ∀ a, own a = 4 → mco M a = c → ¬ P a) : SlC own G M' c l se m bs kd :=
  ⟨R.al.fw q (h _ R.ol R.al.co) (fun h0 => h _ (R.oe h0) (R.al.ce.elim (fun x => absurd x h0) (fun x => x))), R.el.fw q, R.ol, fun h0 => R.oe (by rw [← q.ln _ R.al.lt]; exact h0)⟩
theorem SlC.ow {own' : Nat → Nat} {c l se m kd : Nat} {bs : Nat → Nat} (R : SlC own G M c l se m bs kd) (h : ∀ a, a < mnx M → own' a = own a) : SlC own' G M c l se m bs kd :=
  ⟨R.al, R.el, (h _ R.al.ll).trans R.ol, fun h0 => (h _ R.al.lt).trans (R.oe h0)⟩
theorem OwC.fw {i b : Nat} {g : SG} {S : Sh} (R : OwC own M i b g S) (q : QW P n s M M') (lb : b + 106 ≤ mnx M) (lx : ∀ j, j < S.items.length → g.xs j < mnx M) (le : g.xe < mnx M ∧ g.ye < mnx M ∧ g.pe < mnx M) : OwC own M' i b g S :=
  ⟨fun a h1 h2 => ⟨(R.blk a h1 h2).1, (q.co a (by omega)).trans (R.blk a h1 h2).2⟩, fun h0 => R.xe (by rw [← q.ln _ le.1]; exact h0), fun j hj => ⟨(R.xs j hj).1, (q.co _ (lx j hj)).trans (R.xs j hj).2⟩, fun h0 => R.ye (by rw [← q.ln _ le.2.1]; exact h0), fun h0 => R.pe (by rw [← q.ln _ le.2.2]; exact h0), R.ps⟩
theorem OwC.ow {own' : Nat → Nat} {i b : Nat} {g : SG} {S : Sh} (R : OwC own M i b g S) (C : ShC G M b g S false) (h : ∀ a, a < mnx M → own' a = own a) : OwC own' M i b g S :=
  ⟨fun a h1 h2 => ⟨(h a (by have := C.lt; omega)).trans (R.blk a h1 h2).1, (R.blk a h1 h2).2⟩, fun h0 => (h _ C.its.lt).trans (R.xe h0), fun j hj => ⟨(h _ (C.ixl j hj)).trans (R.xs j hj).1, (R.xs j hj).2⟩, fun h0 => (h _ C.abd.lt).trans (R.ye h0), fun h0 => (h _ C.pps.lt).trans (R.pe h0), fun j hj => (h _ (C.pxl j hj)).trans (R.ps j hj)⟩
/-- a ship carried over a run that writes elsewhere -/
theorem ShP.fw {i b : Nat} {g : SG} {px lx : Nat → Nat} {lots : List LotA} {S : Sh} (R : ShP own G M i b g px lx lots S) (q : QW P n s M M') (h : ∀ a, (own a = 20 + i ∨ own a = 7) → mco M a = 1 → ¬ P a) : ShP own G M' i b g px lx lots S := by
  have C := R.c
  have O := R.o
  have hb : ∀ a, b ≤ a → a < b + 106 → ¬ P a := fun a h1 h2 => h a (Or.inl (O.blk a h1 h2).1) (O.blk a h1 h2).2
  have hx : ∀ j, j < S.items.length → ¬ P (g.xs j) := fun j hj => h _ (Or.inl (O.xs j hj).1) (O.xs j hj).2
  refine ⟨?_, O.fw q C.lt C.ixl ⟨C.its.lt, C.abd.lt, C.pps.lt⟩, R.pa, R.ya⟩
  have := C.re (g' := g) (it := S.items) (cg := S.cargo) (pp := S.pipes) q (fun a h1 h2 h3 => absurd h3 (hb a h1 h2)) rfl
    (C.its.fw q (hb _ (by omega) (by omega)) (fun h0 => h _ (Or.inl (O.xe h0)) (C.its.ce.elim (fun x => absurd x h0) (fun x => x))))
    (fun j hj => Nat.lt_of_lt_of_le (C.ixl j hj) q.nx.1)
    (fun j x hj => by
      have l := C.ixl j (lt_of_get hj)
      have p := hx j (lt_of_get hj)
      rw [q.cl _ l, q.fi 139 _ l p rfl, q.fi 140 _ l p rfl, q.fi 141 _ l p rfl, q.fi 142 _ l p rfl]
      exact C.ix j x hj)
    (C.abd.fw q (hb _ (by omega) (by omega)) (fun h0 => h _ (Or.inl (O.ye h0)) (C.abd.ce.elim (fun x => absurd x h0) (fun x => x))))
    (fun j hj => Nat.lt_of_lt_of_le (C.yxl j hj) q.nx.1)
    (fun j x hj => by
      have l := C.yxl j (lt_of_get hj)
      have p := h _ (Or.inr (R.ya j (lt_of_get hj)).2) (C.yx j x hj).2.1
      rw [q.cl _ l, q.co _ l, q.fi 188 _ l p rfl, q.fi 183 _ l p rfl, q.fi 184 _ l p rfl, q.fd 189 _ l p rfl]
      exact C.yx j x hj)
    (C.pps.fw q (hb _ (by omega) (by omega)) (fun h0 => h _ (Or.inl (O.pe h0)) (C.pps.ce.elim (fun x => absurd x h0) (fun x => x))))
    (fun j hj => Nat.lt_of_lt_of_le (C.pxl j hj) q.nx.1)
    C.pxi
    (fun j x hj => by
      have l := C.pxl j (lt_of_get hj)
      have p := h _ (Or.inl (O.ps j (lt_of_get hj))) (C.px j x hj).2.1
      rw [q.cl _ l, q.co _ l, q.fi 160 _ l p rfl, q.fi 161 _ l p rfl, q.fi 162 _ l p rfl, q.fi 163 _ l p rfl, q.fi 164 _ l p rfl]
      exact C.px j x hj)
  rw [reL_id] at this
  exact this
end YCF
