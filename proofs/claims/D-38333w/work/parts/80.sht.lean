set_option maxRecDepth 8000
/-! ===== how the reference keeps a ship (printed by gst.py) ===== -/
/-- the reference (at m) keeps the ship S at u; w: where it is -/
abbrev ShT (G : Nat → Option Nat) (M : Mem) (m u : Nat) (g : SG) (S : Sh) (w : Nat) : Prop := (u + 25 ≤ mnx M) ∧ (LnT M u S.H) ∧ (mfi M 216 u = nI S.num) ∧ (mfi M 212 u = nI S.form) ∧ (mfi M 217 u = nI S.stage) ∧ (mfr M 218 u = some (u + 9)) ∧ (mfr M 219 u = some (u + 10)) ∧ (mfi M 220 u = nI S.bulk) ∧ (mfr M 221 u = some (u + 11)) ∧ (mfr M 222 u = some (u + 12)) ∧ (mfr M 223 u = some (u + 13)) ∧ (mfr M 224 u = some (u + 14)) ∧ (mfi M 225 u = nI S.limit) ∧ (mfi M 226 u = oI S.spot) ∧ (mfi M 227 u = nI S.foul) ∧ (mfi M 228 u = bI S.laid) ∧ (mfr M 229 u = some (u + 15)) ∧ (mfr M 230 u = some (u + 16)) ∧ (mfr M 231 u = some (u + 17)) ∧ (mfr M 232 u = some (u + 18)) ∧ (mfi M 233 u = nI S.power) ∧ (mfr M 234 u = some (u + 19)) ∧ (mfi M 235 u = nI w) ∧ (mfi M 236 u = oI S.port) ∧ (mfi M 237 u = nI S.fuel) ∧ (mfd M 238 u = S.way) ∧ (mfi M 239 u = bI S.waits) ∧ (mfi M 240 u = nI S.holed) ∧ (mfi M 241 u = S.earned) ∧ (mfi M 242 u = nI S.days) ∧ (mfr M 243 u = some (u + 20)) ∧ (mfr M 244 u = some (u + 21)) ∧ (mfr M 245 u = some (u + 22)) ∧ (mfr M 246 u = some (u + 23)) ∧ (mfr M 247 u = some (u + 24)) ∧ (mfr M 248 u = some m) ∧ (mcl M (u + 10) = 100) ∧ (mco M (u + 10) = 2) ∧ (mln M (u + 10) = 6) ∧ (∀ k, k < 6 → mai M (u + 10) k = nI (S.fill k)) ∧ (mcl M (u + 11) = 100) ∧ (mco M (u + 11) = 2) ∧ (mln M (u + 11) = 18) ∧ (∀ k, k < 18 → mai M (u + 11) k = nI (S.plan k)) ∧ (mcl M (u + 12) = 100) ∧ (mco M (u + 12) = 2) ∧ (mln M (u + 12) = 18) ∧ (∀ k, k < 18 → mai M (u + 12) k = nI (S.fit k)) ∧ (mcl M (u + 13) = 100) ∧ (mco M (u + 13) = 2) ∧ (mln M (u + 13) = 18) ∧ (∀ k, k < 18 → mai M (u + 13) k = nI (S.state k)) ∧ (mcl M (u + 14) = 100) ∧ (mco M (u + 14) = 2) ∧ (mln M (u + 14) = 18) ∧ (∀ k, k < 18 → mai M (u + 14) k = nI (S.cut k)) ∧ (mcl M (u + 15) = 100) ∧ (mco M (u + 15) = 2) ∧ (mln M (u + 15) = 24) ∧ (∀ k, k < 24 → mai M (u + 15) k = nI (S.hours k)) ∧ (mcl M (u + 16) = 100) ∧ (mco M (u + 16) = 2) ∧ (mln M (u + 16) = 24) ∧ (∀ k, k < 24 → mai M (u + 16) k = nI (S.left k)) ∧ (mcl M (u + 17) = 101) ∧ (mco M (u + 17) = 2) ∧ (mln M (u + 17) = 24) ∧ (∀ k, k < 24 → mai M (u + 17) k = bI (S.asked k)) ∧ (mcl M (u + 18) = 101) ∧ (mco M (u + 18) = 2) ∧ (mln M (u + 18) = 24) ∧ (∀ k, k < 24 → mai M (u + 18) k = bI (S.faulty k)) ∧ (mcl M (u + 20) = 103) ∧ (mco M (u + 20) = 2) ∧ (mln M (u + 20) = 4) ∧ (mcl M (u + 21) = 103) ∧ (mco M (u + 21) = 2) ∧ (mln M (u + 21) = 6) ∧ (mcl M (u + 22) = 103) ∧ (mco M (u + 22) = 2) ∧ (mln M (u + 22) = 6) ∧ (mcl M (u + 23) = 103) ∧ (mco M (u + 23) = 2) ∧ (mln M (u + 23) = 6) ∧ (mcl M (u + 24) = 103) ∧ (mco M (u + 24) = 2) ∧ (mln M (u + 24) = 6) ∧ (AL G M 2 (u + 9) g.xe S.items.length g.xs) ∧ (∀ i, i < S.items.length → g.xs i < mnx M) ∧ (∀ i x, S.items[i]? = some x → mcl M (g.xs i) = 100 ∧ mco M (g.xs i) = 2 ∧ mln M (g.xs i) = 4 ∧ mai M (g.xs i) 0 = x.tn ∧ mai M (g.xs i) 1 = nI x.cm ∧ mai M (g.xs i) 2 = x.sd ∧ mai M (g.xs i) 3 = x.up) ∧ (∀ i, i < S.items.length → u + 25 ≤ g.xs i ∨ g.xs i < u) ∧ (AL G M 2 (u + 19) g.pe S.pipes.length g.ps) ∧ (∀ i, i < S.pipes.length → g.ps i < mnx M) ∧ (∀ i, i < S.pipes.length → u + 25 ≤ g.ps i ∨ g.ps i < u) ∧ (∀ i j, i < S.pipes.length → j < S.pipes.length → g.ps i = g.ps j → i = j) ∧ (∀ i j, i < S.items.length → j < S.pipes.length → g.xs i ≠ g.ps j) ∧ (∀ i x, S.pipes[i]? = some x → mcl M (g.ps i) = 100 ∧ mco M (g.ps i) = 2 ∧ mln M (g.ps i) = 5 ∧ mai M (g.ps i) 0 = nI x.fr ∧ mai M (g.ps i) 1 = nI x.to ∧ mai M (g.ps i) 2 = nI x.wd ∧ mai M (g.ps i) 3 = bI x.shut ∧ mai M (g.ps i) 4 = bI x.burst)
theorem ShT.lt {G : Nat → Option Nat} {M : Mem} {m u : Nat} {g : SG} {S : Sh} {w : Nat} (self_ : ShT G M m u g S w) : u + 25 ≤ mnx M := self_.1
theorem ShT.ln {G : Nat → Option Nat} {M : Mem} {m u : Nat} {g : SG} {S : Sh} {w : Nat} (self_ : ShT G M m u g S w) : LnT M u S.H := self_.2.1
theorem ShT.num {G : Nat → Option Nat} {M : Mem} {m u : Nat} {g : SG} {S : Sh} {w : Nat} (self_ : ShT G M m u g S w) : mfi M 216 u = nI S.num := self_.2.2.1
theorem ShT.form {G : Nat → Option Nat} {M : Mem} {m u : Nat} {g : SG} {S : Sh} {w : Nat} (self_ : ShT G M m u g S w) : mfi M 212 u = nI S.form := self_.2.2.2.1
theorem ShT.stage {G : Nat → Option Nat} {M : Mem} {m u : Nat} {g : SG} {S : Sh} {w : Nat} (self_ : ShT G M m u g S w) : mfi M 217 u = nI S.stage := self_.2.2.2.2.1
theorem ShT.rIt {G : Nat → Option Nat} {M : Mem} {m u : Nat} {g : SG} {S : Sh} {w : Nat} (self_ : ShT G M m u g S w) : mfr M 218 u = some (u + 9) := self_.2.2.2.2.2.1
theorem ShT.rFi {G : Nat → Option Nat} {M : Mem} {m u : Nat} {g : SG} {S : Sh} {w : Nat} (self_ : ShT G M m u g S w) : mfr M 219 u = some (u + 10) := self_.2.2.2.2.2.2.1
theorem ShT.bulk {G : Nat → Option Nat} {M : Mem} {m u : Nat} {g : SG} {S : Sh} {w : Nat} (self_ : ShT G M m u g S w) : mfi M 220 u = nI S.bulk := self_.2.2.2.2.2.2.2.1
theorem ShT.rPl {G : Nat → Option Nat} {M : Mem} {m u : Nat} {g : SG} {S : Sh} {w : Nat} (self_ : ShT G M m u g S w) : mfr M 221 u = some (u + 11) := self_.2.2.2.2.2.2.2.2.1
theorem ShT.rFt {G : Nat → Option Nat} {M : Mem} {m u : Nat} {g : SG} {S : Sh} {w : Nat} (self_ : ShT G M m u g S w) : mfr M 222 u = some (u + 12) := self_.2.2.2.2.2.2.2.2.2.1
theorem ShT.rSt {G : Nat → Option Nat} {M : Mem} {m u : Nat} {g : SG} {S : Sh} {w : Nat} (self_ : ShT G M m u g S w) : mfr M 223 u = some (u + 13) := self_.2.2.2.2.2.2.2.2.2.2.1
theorem ShT.rCu {G : Nat → Option Nat} {M : Mem} {m u : Nat} {g : SG} {S : Sh} {w : Nat} (self_ : ShT G M m u g S w) : mfr M 224 u = some (u + 14) := self_.2.2.2.2.2.2.2.2.2.2.2.1
theorem ShT.limit {G : Nat → Option Nat} {M : Mem} {m u : Nat} {g : SG} {S : Sh} {w : Nat} (self_ : ShT G M m u g S w) : mfi M 225 u = nI S.limit := self_.2.2.2.2.2.2.2.2.2.2.2.2.1
theorem ShT.spot {G : Nat → Option Nat} {M : Mem} {m u : Nat} {g : SG} {S : Sh} {w : Nat} (self_ : ShT G M m u g S w) : mfi M 226 u = oI S.spot := self_.2.2.2.2.2.2.2.2.2.2.2.2.2.1
theorem ShT.foul {G : Nat → Option Nat} {M : Mem} {m u : Nat} {g : SG} {S : Sh} {w : Nat} (self_ : ShT G M m u g S w) : mfi M 227 u = nI S.foul := self_.2.2.2.2.2.2.2.2.2.2.2.2.2.2.1
theorem ShT.laid {G : Nat → Option Nat} {M : Mem} {m u : Nat} {g : SG} {S : Sh} {w : Nat} (self_ : ShT G M m u g S w) : mfi M 228 u = bI S.laid := self_.2.2.2.2.2.2.2.2.2.2.2.2.2.2.2.1
theorem ShT.rHr {G : Nat → Option Nat} {M : Mem} {m u : Nat} {g : SG} {S : Sh} {w : Nat} (self_ : ShT G M m u g S w) : mfr M 229 u = some (u + 15) := self_.2.2.2.2.2.2.2.2.2.2.2.2.2.2.2.2.1
theorem ShT.rLf {G : Nat → Option Nat} {M : Mem} {m u : Nat} {g : SG} {S : Sh} {w : Nat} (self_ : ShT G M m u g S w) : mfr M 230 u = some (u + 16) := self_.2.2.2.2.2.2.2.2.2.2.2.2.2.2.2.2.2.1
theorem ShT.rAs {G : Nat → Option Nat} {M : Mem} {m u : Nat} {g : SG} {S : Sh} {w : Nat} (self_ : ShT G M m u g S w) : mfr M 231 u = some (u + 17) := self_.2.2.2.2.2.2.2.2.2.2.2.2.2.2.2.2.2.2.1
theorem ShT.rFa {G : Nat → Option Nat} {M : Mem} {m u : Nat} {g : SG} {S : Sh} {w : Nat} (self_ : ShT G M m u g S w) : mfr M 232 u = some (u + 18) := self_.2.2.2.2.2.2.2.2.2.2.2.2.2.2.2.2.2.2.2.1
theorem ShT.power {G : Nat → Option Nat} {M : Mem} {m u : Nat} {g : SG} {S : Sh} {w : Nat} (self_ : ShT G M m u g S w) : mfi M 233 u = nI S.power := self_.2.2.2.2.2.2.2.2.2.2.2.2.2.2.2.2.2.2.2.2.1
theorem ShT.rPp {G : Nat → Option Nat} {M : Mem} {m u : Nat} {g : SG} {S : Sh} {w : Nat} (self_ : ShT G M m u g S w) : mfr M 234 u = some (u + 19) := self_.2.2.2.2.2.2.2.2.2.2.2.2.2.2.2.2.2.2.2.2.2.1
theorem ShT.where_ {G : Nat → Option Nat} {M : Mem} {m u : Nat} {g : SG} {S : Sh} {w : Nat} (self_ : ShT G M m u g S w) : mfi M 235 u = nI w := self_.2.2.2.2.2.2.2.2.2.2.2.2.2.2.2.2.2.2.2.2.2.2.1
theorem ShT.port {G : Nat → Option Nat} {M : Mem} {m u : Nat} {g : SG} {S : Sh} {w : Nat} (self_ : ShT G M m u g S w) : mfi M 236 u = oI S.port := self_.2.2.2.2.2.2.2.2.2.2.2.2.2.2.2.2.2.2.2.2.2.2.2.1
theorem ShT.fuel {G : Nat → Option Nat} {M : Mem} {m u : Nat} {g : SG} {S : Sh} {w : Nat} (self_ : ShT G M m u g S w) : mfi M 237 u = nI S.fuel := self_.2.2.2.2.2.2.2.2.2.2.2.2.2.2.2.2.2.2.2.2.2.2.2.2.1
theorem ShT.way {G : Nat → Option Nat} {M : Mem} {m u : Nat} {g : SG} {S : Sh} {w : Nat} (self_ : ShT G M m u g S w) : mfd M 238 u = S.way := self_.2.2.2.2.2.2.2.2.2.2.2.2.2.2.2.2.2.2.2.2.2.2.2.2.2.1
theorem ShT.waits {G : Nat → Option Nat} {M : Mem} {m u : Nat} {g : SG} {S : Sh} {w : Nat} (self_ : ShT G M m u g S w) : mfi M 239 u = bI S.waits := self_.2.2.2.2.2.2.2.2.2.2.2.2.2.2.2.2.2.2.2.2.2.2.2.2.2.2.1
theorem ShT.holed {G : Nat → Option Nat} {M : Mem} {m u : Nat} {g : SG} {S : Sh} {w : Nat} (self_ : ShT G M m u g S w) : mfi M 240 u = nI S.holed := self_.2.2.2.2.2.2.2.2.2.2.2.2.2.2.2.2.2.2.2.2.2.2.2.2.2.2.2.1
theorem ShT.earned {G : Nat → Option Nat} {M : Mem} {m u : Nat} {g : SG} {S : Sh} {w : Nat} (self_ : ShT G M m u g S w) : mfi M 241 u = S.earned := self_.2.2.2.2.2.2.2.2.2.2.2.2.2.2.2.2.2.2.2.2.2.2.2.2.2.2.2.2.1
theorem ShT.days {G : Nat → Option Nat} {M : Mem} {m u : Nat} {g : SG} {S : Sh} {w : Nat} (self_ : ShT G M m u g S w) : mfi M 242 u = nI S.days := self_.2.2.2.2.2.2.2.2.2.2.2.2.2.2.2.2.2.2.2.2.2.2.2.2.2.2.2.2.2.1
theorem ShT.rSu {G : Nat → Option Nat} {M : Mem} {m u : Nat} {g : SG} {S : Sh} {w : Nat} (self_ : ShT G M m u g S w) : mfr M 243 u = some (u + 20) := self_.2.2.2.2.2.2.2.2.2.2.2.2.2.2.2.2.2.2.2.2.2.2.2.2.2.2.2.2.2.2.1
theorem ShT.rCa {G : Nat → Option Nat} {M : Mem} {m u : Nat} {g : SG} {S : Sh} {w : Nat} (self_ : ShT G M m u g S w) : mfr M 244 u = some (u + 21) := self_.2.2.2.2.2.2.2.2.2.2.2.2.2.2.2.2.2.2.2.2.2.2.2.2.2.2.2.2.2.2.2.1
theorem ShT.rSs {G : Nat → Option Nat} {M : Mem} {m u : Nat} {g : SG} {S : Sh} {w : Nat} (self_ : ShT G M m u g S w) : mfr M 245 u = some (u + 22) := self_.2.2.2.2.2.2.2.2.2.2.2.2.2.2.2.2.2.2.2.2.2.2.2.2.2.2.2.2.2.2.2.2.1
theorem ShT.rSh {G : Nat → Option Nat} {M : Mem} {m u : Nat} {g : SG} {S : Sh} {w : Nat} (self_ : ShT G M m u g S w) : mfr M 246 u = some (u + 23) := self_.2.2.2.2.2.2.2.2.2.2.2.2.2.2.2.2.2.2.2.2.2.2.2.2.2.2.2.2.2.2.2.2.2.1
theorem ShT.rMo {G : Nat → Option Nat} {M : Mem} {m u : Nat} {g : SG} {S : Sh} {w : Nat} (self_ : ShT G M m u g S w) : mfr M 247 u = some (u + 24) := self_.2.2.2.2.2.2.2.2.2.2.2.2.2.2.2.2.2.2.2.2.2.2.2.2.2.2.2.2.2.2.2.2.2.2.1
theorem ShT.this {G : Nat → Option Nat} {M : Mem} {m u : Nat} {g : SG} {S : Sh} {w : Nat} (self_ : ShT G M m u g S w) : mfr M 248 u = some m := self_.2.2.2.2.2.2.2.2.2.2.2.2.2.2.2.2.2.2.2.2.2.2.2.2.2.2.2.2.2.2.2.2.2.2.2.1
theorem ShT.fik {G : Nat → Option Nat} {M : Mem} {m u : Nat} {g : SG} {S : Sh} {w : Nat} (self_ : ShT G M m u g S w) : mcl M (u + 10) = 100 := self_.2.2.2.2.2.2.2.2.2.2.2.2.2.2.2.2.2.2.2.2.2.2.2.2.2.2.2.2.2.2.2.2.2.2.2.2.1
theorem ShT.fic {G : Nat → Option Nat} {M : Mem} {m u : Nat} {g : SG} {S : Sh} {w : Nat} (self_ : ShT G M m u g S w) : mco M (u + 10) = 2 := self_.2.2.2.2.2.2.2.2.2.2.2.2.2.2.2.2.2.2.2.2.2.2.2.2.2.2.2.2.2.2.2.2.2.2.2.2.2.1
theorem ShT.fil {G : Nat → Option Nat} {M : Mem} {m u : Nat} {g : SG} {S : Sh} {w : Nat} (self_ : ShT G M m u g S w) : mln M (u + 10) = 6 := self_.2.2.2.2.2.2.2.2.2.2.2.2.2.2.2.2.2.2.2.2.2.2.2.2.2.2.2.2.2.2.2.2.2.2.2.2.2.2.1
theorem ShT.fiv {G : Nat → Option Nat} {M : Mem} {m u : Nat} {g : SG} {S : Sh} {w : Nat} (self_ : ShT G M m u g S w) : ∀ k, k < 6 → mai M (u + 10) k = nI (S.fill k) := self_.2.2.2.2.2.2.2.2.2.2.2.2.2.2.2.2.2.2.2.2.2.2.2.2.2.2.2.2.2.2.2.2.2.2.2.2.2.2.2.1
theorem ShT.plk {G : Nat → Option Nat} {M : Mem} {m u : Nat} {g : SG} {S : Sh} {w : Nat} (self_ : ShT G M m u g S w) : mcl M (u + 11) = 100 := self_.2.2.2.2.2.2.2.2.2.2.2.2.2.2.2.2.2.2.2.2.2.2.2.2.2.2.2.2.2.2.2.2.2.2.2.2.2.2.2.2.1
theorem ShT.plc {G : Nat → Option Nat} {M : Mem} {m u : Nat} {g : SG} {S : Sh} {w : Nat} (self_ : ShT G M m u g S w) : mco M (u + 11) = 2 := self_.2.2.2.2.2.2.2.2.2.2.2.2.2.2.2.2.2.2.2.2.2.2.2.2.2.2.2.2.2.2.2.2.2.2.2.2.2.2.2.2.2.1
theorem ShT.pll {G : Nat → Option Nat} {M : Mem} {m u : Nat} {g : SG} {S : Sh} {w : Nat} (self_ : ShT G M m u g S w) : mln M (u + 11) = 18 := self_.2.2.2.2.2.2.2.2.2.2.2.2.2.2.2.2.2.2.2.2.2.2.2.2.2.2.2.2.2.2.2.2.2.2.2.2.2.2.2.2.2.2.1
theorem ShT.plv {G : Nat → Option Nat} {M : Mem} {m u : Nat} {g : SG} {S : Sh} {w : Nat} (self_ : ShT G M m u g S w) : ∀ k, k < 18 → mai M (u + 11) k = nI (S.plan k) := self_.2.2.2.2.2.2.2.2.2.2.2.2.2.2.2.2.2.2.2.2.2.2.2.2.2.2.2.2.2.2.2.2.2.2.2.2.2.2.2.2.2.2.2.1
theorem ShT.ftk {G : Nat → Option Nat} {M : Mem} {m u : Nat} {g : SG} {S : Sh} {w : Nat} (self_ : ShT G M m u g S w) : mcl M (u + 12) = 100 := self_.2.2.2.2.2.2.2.2.2.2.2.2.2.2.2.2.2.2.2.2.2.2.2.2.2.2.2.2.2.2.2.2.2.2.2.2.2.2.2.2.2.2.2.2.1
theorem ShT.ftc {G : Nat → Option Nat} {M : Mem} {m u : Nat} {g : SG} {S : Sh} {w : Nat} (self_ : ShT G M m u g S w) : mco M (u + 12) = 2 := self_.2.2.2.2.2.2.2.2.2.2.2.2.2.2.2.2.2.2.2.2.2.2.2.2.2.2.2.2.2.2.2.2.2.2.2.2.2.2.2.2.2.2.2.2.2.1
theorem ShT.ftl {G : Nat → Option Nat} {M : Mem} {m u : Nat} {g : SG} {S : Sh} {w : Nat} (self_ : ShT G M m u g S w) : mln M (u + 12) = 18 := self_.2.2.2.2.2.2.2.2.2.2.2.2.2.2.2.2.2.2.2.2.2.2.2.2.2.2.2.2.2.2.2.2.2.2.2.2.2.2.2.2.2.2.2.2.2.2.1
theorem ShT.ftv {G : Nat → Option Nat} {M : Mem} {m u : Nat} {g : SG} {S : Sh} {w : Nat} (self_ : ShT G M m u g S w) : ∀ k, k < 18 → mai M (u + 12) k = nI (S.fit k) := self_.2.2.2.2.2.2.2.2.2.2.2.2.2.2.2.2.2.2.2.2.2.2.2.2.2.2.2.2.2.2.2.2.2.2.2.2.2.2.2.2.2.2.2.2.2.2.2.1
theorem ShT.stk {G : Nat → Option Nat} {M : Mem} {m u : Nat} {g : SG} {S : Sh} {w : Nat} (self_ : ShT G M m u g S w) : mcl M (u + 13) = 100 := self_.2.2.2.2.2.2.2.2.2.2.2.2.2.2.2.2.2.2.2.2.2.2.2.2.2.2.2.2.2.2.2.2.2.2.2.2.2.2.2.2.2.2.2.2.2.2.2.2.1
theorem ShT.stc {G : Nat → Option Nat} {M : Mem} {m u : Nat} {g : SG} {S : Sh} {w : Nat} (self_ : ShT G M m u g S w) : mco M (u + 13) = 2 := self_.2.2.2.2.2.2.2.2.2.2.2.2.2.2.2.2.2.2.2.2.2.2.2.2.2.2.2.2.2.2.2.2.2.2.2.2.2.2.2.2.2.2.2.2.2.2.2.2.2.1
theorem ShT.stl {G : Nat → Option Nat} {M : Mem} {m u : Nat} {g : SG} {S : Sh} {w : Nat} (self_ : ShT G M m u g S w) : mln M (u + 13) = 18 := self_.2.2.2.2.2.2.2.2.2.2.2.2.2.2.2.2.2.2.2.2.2.2.2.2.2.2.2.2.2.2.2.2.2.2.2.2.2.2.2.2.2.2.2.2.2.2.2.2.2.2.1
theorem ShT.stv {G : Nat → Option Nat} {M : Mem} {m u : Nat} {g : SG} {S : Sh} {w : Nat} (self_ : ShT G M m u g S w) : ∀ k, k < 18 → mai M (u + 13) k = nI (S.state k) := self_.2.2.2.2.2.2.2.2.2.2.2.2.2.2.2.2.2.2.2.2.2.2.2.2.2.2.2.2.2.2.2.2.2.2.2.2.2.2.2.2.2.2.2.2.2.2.2.2.2.2.2.1
theorem ShT.cuk {G : Nat → Option Nat} {M : Mem} {m u : Nat} {g : SG} {S : Sh} {w : Nat} (self_ : ShT G M m u g S w) : mcl M (u + 14) = 100 := self_.2.2.2.2.2.2.2.2.2.2.2.2.2.2.2.2.2.2.2.2.2.2.2.2.2.2.2.2.2.2.2.2.2.2.2.2.2.2.2.2.2.2.2.2.2.2.2.2.2.2.2.2.1
theorem ShT.cuc {G : Nat → Option Nat} {M : Mem} {m u : Nat} {g : SG} {S : Sh} {w : Nat} (self_ : ShT G M m u g S w) : mco M (u + 14) = 2 := self_.2.2.2.2.2.2.2.2.2.2.2.2.2.2.2.2.2.2.2.2.2.2.2.2.2.2.2.2.2.2.2.2.2.2.2.2.2.2.2.2.2.2.2.2.2.2.2.2.2.2.2.2.2.1
theorem ShT.cul {G : Nat → Option Nat} {M : Mem} {m u : Nat} {g : SG} {S : Sh} {w : Nat} (self_ : ShT G M m u g S w) : mln M (u + 14) = 18 := self_.2.2.2.2.2.2.2.2.2.2.2.2.2.2.2.2.2.2.2.2.2.2.2.2.2.2.2.2.2.2.2.2.2.2.2.2.2.2.2.2.2.2.2.2.2.2.2.2.2.2.2.2.2.2.1
theorem ShT.cuv {G : Nat → Option Nat} {M : Mem} {m u : Nat} {g : SG} {S : Sh} {w : Nat} (self_ : ShT G M m u g S w) : ∀ k, k < 18 → mai M (u + 14) k = nI (S.cut k) := self_.2.2.2.2.2.2.2.2.2.2.2.2.2.2.2.2.2.2.2.2.2.2.2.2.2.2.2.2.2.2.2.2.2.2.2.2.2.2.2.2.2.2.2.2.2.2.2.2.2.2.2.2.2.2.2.1
theorem ShT.hrk {G : Nat → Option Nat} {M : Mem} {m u : Nat} {g : SG} {S : Sh} {w : Nat} (self_ : ShT G M m u g S w) : mcl M (u + 15) = 100 := self_.2.2.2.2.2.2.2.2.2.2.2.2.2.2.2.2.2.2.2.2.2.2.2.2.2.2.2.2.2.2.2.2.2.2.2.2.2.2.2.2.2.2.2.2.2.2.2.2.2.2.2.2.2.2.2.2.1
theorem ShT.hrc {G : Nat → Option Nat} {M : Mem} {m u : Nat} {g : SG} {S : Sh} {w : Nat} (self_ : ShT G M m u g S w) : mco M (u + 15) = 2 := self_.2.2.2.2.2.2.2.2.2.2.2.2.2.2.2.2.2.2.2.2.2.2.2.2.2.2.2.2.2.2.2.2.2.2.2.2.2.2.2.2.2.2.2.2.2.2.2.2.2.2.2.2.2.2.2.2.2.1
theorem ShT.hrl {G : Nat → Option Nat} {M : Mem} {m u : Nat} {g : SG} {S : Sh} {w : Nat} (self_ : ShT G M m u g S w) : mln M (u + 15) = 24 := self_.2.2.2.2.2.2.2.2.2.2.2.2.2.2.2.2.2.2.2.2.2.2.2.2.2.2.2.2.2.2.2.2.2.2.2.2.2.2.2.2.2.2.2.2.2.2.2.2.2.2.2.2.2.2.2.2.2.2.1
theorem ShT.hrv {G : Nat → Option Nat} {M : Mem} {m u : Nat} {g : SG} {S : Sh} {w : Nat} (self_ : ShT G M m u g S w) : ∀ k, k < 24 → mai M (u + 15) k = nI (S.hours k) := self_.2.2.2.2.2.2.2.2.2.2.2.2.2.2.2.2.2.2.2.2.2.2.2.2.2.2.2.2.2.2.2.2.2.2.2.2.2.2.2.2.2.2.2.2.2.2.2.2.2.2.2.2.2.2.2.2.2.2.2.1
theorem ShT.lfk {G : Nat → Option Nat} {M : Mem} {m u : Nat} {g : SG} {S : Sh} {w : Nat} (self_ : ShT G M m u g S w) : mcl M (u + 16) = 100 := self_.2.2.2.2.2.2.2.2.2.2.2.2.2.2.2.2.2.2.2.2.2.2.2.2.2.2.2.2.2.2.2.2.2.2.2.2.2.2.2.2.2.2.2.2.2.2.2.2.2.2.2.2.2.2.2.2.2.2.2.2.1
theorem ShT.lfc {G : Nat → Option Nat} {M : Mem} {m u : Nat} {g : SG} {S : Sh} {w : Nat} (self_ : ShT G M m u g S w) : mco M (u + 16) = 2 := self_.2.2.2.2.2.2.2.2.2.2.2.2.2.2.2.2.2.2.2.2.2.2.2.2.2.2.2.2.2.2.2.2.2.2.2.2.2.2.2.2.2.2.2.2.2.2.2.2.2.2.2.2.2.2.2.2.2.2.2.2.2.1
theorem ShT.lfl {G : Nat → Option Nat} {M : Mem} {m u : Nat} {g : SG} {S : Sh} {w : Nat} (self_ : ShT G M m u g S w) : mln M (u + 16) = 24 := self_.2.2.2.2.2.2.2.2.2.2.2.2.2.2.2.2.2.2.2.2.2.2.2.2.2.2.2.2.2.2.2.2.2.2.2.2.2.2.2.2.2.2.2.2.2.2.2.2.2.2.2.2.2.2.2.2.2.2.2.2.2.2.1
theorem ShT.lfv {G : Nat → Option Nat} {M : Mem} {m u : Nat} {g : SG} {S : Sh} {w : Nat} (self_ : ShT G M m u g S w) : ∀ k, k < 24 → mai M (u + 16) k = nI (S.left k) := self_.2.2.2.2.2.2.2.2.2.2.2.2.2.2.2.2.2.2.2.2.2.2.2.2.2.2.2.2.2.2.2.2.2.2.2.2.2.2.2.2.2.2.2.2.2.2.2.2.2.2.2.2.2.2.2.2.2.2.2.2.2.2.2.1
theorem ShT.ask {G : Nat → Option Nat} {M : Mem} {m u : Nat} {g : SG} {S : Sh} {w : Nat} (self_ : ShT G M m u g S w) : mcl M (u + 17) = 101 := self_.2.2.2.2.2.2.2.2.2.2.2.2.2.2.2.2.2.2.2.2.2.2.2.2.2.2.2.2.2.2.2.2.2.2.2.2.2.2.2.2.2.2.2.2.2.2.2.2.2.2.2.2.2.2.2.2.2.2.2.2.2.2.2.2.1
theorem ShT.asc {G : Nat → Option Nat} {M : Mem} {m u : Nat} {g : SG} {S : Sh} {w : Nat} (self_ : ShT G M m u g S w) : mco M (u + 17) = 2 := self_.2.2.2.2.2.2.2.2.2.2.2.2.2.2.2.2.2.2.2.2.2.2.2.2.2.2.2.2.2.2.2.2.2.2.2.2.2.2.2.2.2.2.2.2.2.2.2.2.2.2.2.2.2.2.2.2.2.2.2.2.2.2.2.2.2.1
theorem ShT.asl {G : Nat → Option Nat} {M : Mem} {m u : Nat} {g : SG} {S : Sh} {w : Nat} (self_ : ShT G M m u g S w) : mln M (u + 17) = 24 := self_.2.2.2.2.2.2.2.2.2.2.2.2.2.2.2.2.2.2.2.2.2.2.2.2.2.2.2.2.2.2.2.2.2.2.2.2.2.2.2.2.2.2.2.2.2.2.2.2.2.2.2.2.2.2.2.2.2.2.2.2.2.2.2.2.2.2.1
theorem ShT.asv {G : Nat → Option Nat} {M : Mem} {m u : Nat} {g : SG} {S : Sh} {w : Nat} (self_ : ShT G M m u g S w) : ∀ k, k < 24 → mai M (u + 17) k = bI (S.asked k) := self_.2.2.2.2.2.2.2.2.2.2.2.2.2.2.2.2.2.2.2.2.2.2.2.2.2.2.2.2.2.2.2.2.2.2.2.2.2.2.2.2.2.2.2.2.2.2.2.2.2.2.2.2.2.2.2.2.2.2.2.2.2.2.2.2.2.2.2.1
theorem ShT.fak {G : Nat → Option Nat} {M : Mem} {m u : Nat} {g : SG} {S : Sh} {w : Nat} (self_ : ShT G M m u g S w) : mcl M (u + 18) = 101 := self_.2.2.2.2.2.2.2.2.2.2.2.2.2.2.2.2.2.2.2.2.2.2.2.2.2.2.2.2.2.2.2.2.2.2.2.2.2.2.2.2.2.2.2.2.2.2.2.2.2.2.2.2.2.2.2.2.2.2.2.2.2.2.2.2.2.2.2.2.1
theorem ShT.fac {G : Nat → Option Nat} {M : Mem} {m u : Nat} {g : SG} {S : Sh} {w : Nat} (self_ : ShT G M m u g S w) : mco M (u + 18) = 2 := self_.2.2.2.2.2.2.2.2.2.2.2.2.2.2.2.2.2.2.2.2.2.2.2.2.2.2.2.2.2.2.2.2.2.2.2.2.2.2.2.2.2.2.2.2.2.2.2.2.2.2.2.2.2.2.2.2.2.2.2.2.2.2.2.2.2.2.2.2.2.1
theorem ShT.fal {G : Nat → Option Nat} {M : Mem} {m u : Nat} {g : SG} {S : Sh} {w : Nat} (self_ : ShT G M m u g S w) : mln M (u + 18) = 24 := self_.2.2.2.2.2.2.2.2.2.2.2.2.2.2.2.2.2.2.2.2.2.2.2.2.2.2.2.2.2.2.2.2.2.2.2.2.2.2.2.2.2.2.2.2.2.2.2.2.2.2.2.2.2.2.2.2.2.2.2.2.2.2.2.2.2.2.2.2.2.2.1
theorem ShT.fav {G : Nat → Option Nat} {M : Mem} {m u : Nat} {g : SG} {S : Sh} {w : Nat} (self_ : ShT G M m u g S w) : ∀ k, k < 24 → mai M (u + 18) k = bI (S.faulty k) := self_.2.2.2.2.2.2.2.2.2.2.2.2.2.2.2.2.2.2.2.2.2.2.2.2.2.2.2.2.2.2.2.2.2.2.2.2.2.2.2.2.2.2.2.2.2.2.2.2.2.2.2.2.2.2.2.2.2.2.2.2.2.2.2.2.2.2.2.2.2.2.2.1
theorem ShT.suk {G : Nat → Option Nat} {M : Mem} {m u : Nat} {g : SG} {S : Sh} {w : Nat} (self_ : ShT G M m u g S w) : mcl M (u + 20) = 103 := self_.2.2.2.2.2.2.2.2.2.2.2.2.2.2.2.2.2.2.2.2.2.2.2.2.2.2.2.2.2.2.2.2.2.2.2.2.2.2.2.2.2.2.2.2.2.2.2.2.2.2.2.2.2.2.2.2.2.2.2.2.2.2.2.2.2.2.2.2.2.2.2.2.1
theorem ShT.suc {G : Nat → Option Nat} {M : Mem} {m u : Nat} {g : SG} {S : Sh} {w : Nat} (self_ : ShT G M m u g S w) : mco M (u + 20) = 2 := self_.2.2.2.2.2.2.2.2.2.2.2.2.2.2.2.2.2.2.2.2.2.2.2.2.2.2.2.2.2.2.2.2.2.2.2.2.2.2.2.2.2.2.2.2.2.2.2.2.2.2.2.2.2.2.2.2.2.2.2.2.2.2.2.2.2.2.2.2.2.2.2.2.2.1
theorem ShT.sul {G : Nat → Option Nat} {M : Mem} {m u : Nat} {g : SG} {S : Sh} {w : Nat} (self_ : ShT G M m u g S w) : mln M (u + 20) = 4 := self_.2.2.2.2.2.2.2.2.2.2.2.2.2.2.2.2.2.2.2.2.2.2.2.2.2.2.2.2.2.2.2.2.2.2.2.2.2.2.2.2.2.2.2.2.2.2.2.2.2.2.2.2.2.2.2.2.2.2.2.2.2.2.2.2.2.2.2.2.2.2.2.2.2.2.1
theorem ShT.cak {G : Nat → Option Nat} {M : Mem} {m u : Nat} {g : SG} {S : Sh} {w : Nat} (self_ : ShT G M m u g S w) : mcl M (u + 21) = 103 := self_.2.2.2.2.2.2.2.2.2.2.2.2.2.2.2.2.2.2.2.2.2.2.2.2.2.2.2.2.2.2.2.2.2.2.2.2.2.2.2.2.2.2.2.2.2.2.2.2.2.2.2.2.2.2.2.2.2.2.2.2.2.2.2.2.2.2.2.2.2.2.2.2.2.2.2.1
theorem ShT.cac {G : Nat → Option Nat} {M : Mem} {m u : Nat} {g : SG} {S : Sh} {w : Nat} (self_ : ShT G M m u g S w) : mco M (u + 21) = 2 := self_.2.2.2.2.2.2.2.2.2.2.2.2.2.2.2.2.2.2.2.2.2.2.2.2.2.2.2.2.2.2.2.2.2.2.2.2.2.2.2.2.2.2.2.2.2.2.2.2.2.2.2.2.2.2.2.2.2.2.2.2.2.2.2.2.2.2.2.2.2.2.2.2.2.2.2.2.1
theorem ShT.cal {G : Nat → Option Nat} {M : Mem} {m u : Nat} {g : SG} {S : Sh} {w : Nat} (self_ : ShT G M m u g S w) : mln M (u + 21) = 6 := self_.2.2.2.2.2.2.2.2.2.2.2.2.2.2.2.2.2.2.2.2.2.2.2.2.2.2.2.2.2.2.2.2.2.2.2.2.2.2.2.2.2.2.2.2.2.2.2.2.2.2.2.2.2.2.2.2.2.2.2.2.2.2.2.2.2.2.2.2.2.2.2.2.2.2.2.2.2.1
theorem ShT.ssk {G : Nat → Option Nat} {M : Mem} {m u : Nat} {g : SG} {S : Sh} {w : Nat} (self_ : ShT G M m u g S w) : mcl M (u + 22) = 103 := self_.2.2.2.2.2.2.2.2.2.2.2.2.2.2.2.2.2.2.2.2.2.2.2.2.2.2.2.2.2.2.2.2.2.2.2.2.2.2.2.2.2.2.2.2.2.2.2.2.2.2.2.2.2.2.2.2.2.2.2.2.2.2.2.2.2.2.2.2.2.2.2.2.2.2.2.2.2.2.1
theorem ShT.ssc {G : Nat → Option Nat} {M : Mem} {m u : Nat} {g : SG} {S : Sh} {w : Nat} (self_ : ShT G M m u g S w) : mco M (u + 22) = 2 := self_.2.2.2.2.2.2.2.2.2.2.2.2.2.2.2.2.2.2.2.2.2.2.2.2.2.2.2.2.2.2.2.2.2.2.2.2.2.2.2.2.2.2.2.2.2.2.2.2.2.2.2.2.2.2.2.2.2.2.2.2.2.2.2.2.2.2.2.2.2.2.2.2.2.2.2.2.2.2.2.1
theorem ShT.ssl {G : Nat → Option Nat} {M : Mem} {m u : Nat} {g : SG} {S : Sh} {w : Nat} (self_ : ShT G M m u g S w) : mln M (u + 22) = 6 := self_.2.2.2.2.2.2.2.2.2.2.2.2.2.2.2.2.2.2.2.2.2.2.2.2.2.2.2.2.2.2.2.2.2.2.2.2.2.2.2.2.2.2.2.2.2.2.2.2.2.2.2.2.2.2.2.2.2.2.2.2.2.2.2.2.2.2.2.2.2.2.2.2.2.2.2.2.2.2.2.2.1
theorem ShT.shk {G : Nat → Option Nat} {M : Mem} {m u : Nat} {g : SG} {S : Sh} {w : Nat} (self_ : ShT G M m u g S w) : mcl M (u + 23) = 103 := self_.2.2.2.2.2.2.2.2.2.2.2.2.2.2.2.2.2.2.2.2.2.2.2.2.2.2.2.2.2.2.2.2.2.2.2.2.2.2.2.2.2.2.2.2.2.2.2.2.2.2.2.2.2.2.2.2.2.2.2.2.2.2.2.2.2.2.2.2.2.2.2.2.2.2.2.2.2.2.2.2.2.1
theorem ShT.shc {G : Nat → Option Nat} {M : Mem} {m u : Nat} {g : SG} {S : Sh} {w : Nat} (self_ : ShT G M m u g S w) : mco M (u + 23) = 2 := self_.2.2.2.2.2.2.2.2.2.2.2.2.2.2.2.2.2.2.2.2.2.2.2.2.2.2.2.2.2.2.2.2.2.2.2.2.2.2.2.2.2.2.2.2.2.2.2.2.2.2.2.2.2.2.2.2.2.2.2.2.2.2.2.2.2.2.2.2.2.2.2.2.2.2.2.2.2.2.2.2.2.2.1
theorem ShT.shl {G : Nat → Option Nat} {M : Mem} {m u : Nat} {g : SG} {S : Sh} {w : Nat} (self_ : ShT G M m u g S w) : mln M (u + 23) = 6 := self_.2.2.2.2.2.2.2.2.2.2.2.2.2.2.2.2.2.2.2.2.2.2.2.2.2.2.2.2.2.2.2.2.2.2.2.2.2.2.2.2.2.2.2.2.2.2.2.2.2.2.2.2.2.2.2.2.2.2.2.2.2.2.2.2.2.2.2.2.2.2.2.2.2.2.2.2.2.2.2.2.2.2.2.1
theorem ShT.mok {G : Nat → Option Nat} {M : Mem} {m u : Nat} {g : SG} {S : Sh} {w : Nat} (self_ : ShT G M m u g S w) : mcl M (u + 24) = 103 := self_.2.2.2.2.2.2.2.2.2.2.2.2.2.2.2.2.2.2.2.2.2.2.2.2.2.2.2.2.2.2.2.2.2.2.2.2.2.2.2.2.2.2.2.2.2.2.2.2.2.2.2.2.2.2.2.2.2.2.2.2.2.2.2.2.2.2.2.2.2.2.2.2.2.2.2.2.2.2.2.2.2.2.2.2.1
theorem ShT.moc {G : Nat → Option Nat} {M : Mem} {m u : Nat} {g : SG} {S : Sh} {w : Nat} (self_ : ShT G M m u g S w) : mco M (u + 24) = 2 := self_.2.2.2.2.2.2.2.2.2.2.2.2.2.2.2.2.2.2.2.2.2.2.2.2.2.2.2.2.2.2.2.2.2.2.2.2.2.2.2.2.2.2.2.2.2.2.2.2.2.2.2.2.2.2.2.2.2.2.2.2.2.2.2.2.2.2.2.2.2.2.2.2.2.2.2.2.2.2.2.2.2.2.2.2.2.1
theorem ShT.mol {G : Nat → Option Nat} {M : Mem} {m u : Nat} {g : SG} {S : Sh} {w : Nat} (self_ : ShT G M m u g S w) : mln M (u + 24) = 6 := self_.2.2.2.2.2.2.2.2.2.2.2.2.2.2.2.2.2.2.2.2.2.2.2.2.2.2.2.2.2.2.2.2.2.2.2.2.2.2.2.2.2.2.2.2.2.2.2.2.2.2.2.2.2.2.2.2.2.2.2.2.2.2.2.2.2.2.2.2.2.2.2.2.2.2.2.2.2.2.2.2.2.2.2.2.2.2.1
theorem ShT.its {G : Nat → Option Nat} {M : Mem} {m u : Nat} {g : SG} {S : Sh} {w : Nat} (self_ : ShT G M m u g S w) : AL G M 2 (u + 9) g.xe S.items.length g.xs := self_.2.2.2.2.2.2.2.2.2.2.2.2.2.2.2.2.2.2.2.2.2.2.2.2.2.2.2.2.2.2.2.2.2.2.2.2.2.2.2.2.2.2.2.2.2.2.2.2.2.2.2.2.2.2.2.2.2.2.2.2.2.2.2.2.2.2.2.2.2.2.2.2.2.2.2.2.2.2.2.2.2.2.2.2.2.2.2.1
theorem ShT.ixl {G : Nat → Option Nat} {M : Mem} {m u : Nat} {g : SG} {S : Sh} {w : Nat} (self_ : ShT G M m u g S w) : ∀ i, i < S.items.length → g.xs i < mnx M := self_.2.2.2.2.2.2.2.2.2.2.2.2.2.2.2.2.2.2.2.2.2.2.2.2.2.2.2.2.2.2.2.2.2.2.2.2.2.2.2.2.2.2.2.2.2.2.2.2.2.2.2.2.2.2.2.2.2.2.2.2.2.2.2.2.2.2.2.2.2.2.2.2.2.2.2.2.2.2.2.2.2.2.2.2.2.2.2.2.1
theorem ShT.ix {G : Nat → Option Nat} {M : Mem} {m u : Nat} {g : SG} {S : Sh} {w : Nat} (self_ : ShT G M m u g S w) : ∀ i x, S.items[i]? = some x → mcl M (g.xs i) = 100 ∧ mco M (g.xs i) = 2 ∧ mln M (g.xs i) = 4 ∧ mai M (g.xs i) 0 = x.tn ∧ mai M (g.xs i) 1 = nI x.cm ∧ mai M (g.xs i) 2 = x.sd ∧ mai M (g.xs i) 3 = x.up := self_.2.2.2.2.2.2.2.2.2.2.2.2.2.2.2.2.2.2.2.2.2.2.2.2.2.2.2.2.2.2.2.2.2.2.2.2.2.2.2.2.2.2.2.2.2.2.2.2.2.2.2.2.2.2.2.2.2.2.2.2.2.2.2.2.2.2.2.2.2.2.2.2.2.2.2.2.2.2.2.2.2.2.2.2.2.2.2.2.2.1
theorem ShT.ixn {G : Nat → Option Nat} {M : Mem} {m u : Nat} {g : SG} {S : Sh} {w : Nat} (self_ : ShT G M m u g S w) : ∀ i, i < S.items.length → u + 25 ≤ g.xs i ∨ g.xs i < u := self_.2.2.2.2.2.2.2.2.2.2.2.2.2.2.2.2.2.2.2.2.2.2.2.2.2.2.2.2.2.2.2.2.2.2.2.2.2.2.2.2.2.2.2.2.2.2.2.2.2.2.2.2.2.2.2.2.2.2.2.2.2.2.2.2.2.2.2.2.2.2.2.2.2.2.2.2.2.2.2.2.2.2.2.2.2.2.2.2.2.2.1
theorem ShT.pps {G : Nat → Option Nat} {M : Mem} {m u : Nat} {g : SG} {S : Sh} {w : Nat} (self_ : ShT G M m u g S w) : AL G M 2 (u + 19) g.pe S.pipes.length g.ps := self_.2.2.2.2.2.2.2.2.2.2.2.2.2.2.2.2.2.2.2.2.2.2.2.2.2.2.2.2.2.2.2.2.2.2.2.2.2.2.2.2.2.2.2.2.2.2.2.2.2.2.2.2.2.2.2.2.2.2.2.2.2.2.2.2.2.2.2.2.2.2.2.2.2.2.2.2.2.2.2.2.2.2.2.2.2.2.2.2.2.2.2.1
theorem ShT.pxl {G : Nat → Option Nat} {M : Mem} {m u : Nat} {g : SG} {S : Sh} {w : Nat} (self_ : ShT G M m u g S w) : ∀ i, i < S.pipes.length → g.ps i < mnx M := self_.2.2.2.2.2.2.2.2.2.2.2.2.2.2.2.2.2.2.2.2.2.2.2.2.2.2.2.2.2.2.2.2.2.2.2.2.2.2.2.2.2.2.2.2.2.2.2.2.2.2.2.2.2.2.2.2.2.2.2.2.2.2.2.2.2.2.2.2.2.2.2.2.2.2.2.2.2.2.2.2.2.2.2.2.2.2.2.2.2.2.2.2.1
theorem ShT.pxn {G : Nat → Option Nat} {M : Mem} {m u : Nat} {g : SG} {S : Sh} {w : Nat} (self_ : ShT G M m u g S w) : ∀ i, i < S.pipes.length → u + 25 ≤ g.ps i ∨ g.ps i < u := self_.2.2.2.2.2.2.2.2.2.2.2.2.2.2.2.2.2.2.2.2.2.2.2.2.2.2.2.2.2.2.2.2.2.2.2.2.2.2.2.2.2.2.2.2.2.2.2.2.2.2.2.2.2.2.2.2.2.2.2.2.2.2.2.2.2.2.2.2.2.2.2.2.2.2.2.2.2.2.2.2.2.2.2.2.2.2.2.2.2.2.2.2.2.1
theorem ShT.pxi {G : Nat → Option Nat} {M : Mem} {m u : Nat} {g : SG} {S : Sh} {w : Nat} (self_ : ShT G M m u g S w) : ∀ i j, i < S.pipes.length → j < S.pipes.length → g.ps i = g.ps j → i = j := self_.2.2.2.2.2.2.2.2.2.2.2.2.2.2.2.2.2.2.2.2.2.2.2.2.2.2.2.2.2.2.2.2.2.2.2.2.2.2.2.2.2.2.2.2.2.2.2.2.2.2.2.2.2.2.2.2.2.2.2.2.2.2.2.2.2.2.2.2.2.2.2.2.2.2.2.2.2.2.2.2.2.2.2.2.2.2.2.2.2.2.2.2.2.2.1
theorem ShT.ipn {G : Nat → Option Nat} {M : Mem} {m u : Nat} {g : SG} {S : Sh} {w : Nat} (self_ : ShT G M m u g S w) : ∀ i j, i < S.items.length → j < S.pipes.length → g.xs i ≠ g.ps j := self_.2.2.2.2.2.2.2.2.2.2.2.2.2.2.2.2.2.2.2.2.2.2.2.2.2.2.2.2.2.2.2.2.2.2.2.2.2.2.2.2.2.2.2.2.2.2.2.2.2.2.2.2.2.2.2.2.2.2.2.2.2.2.2.2.2.2.2.2.2.2.2.2.2.2.2.2.2.2.2.2.2.2.2.2.2.2.2.2.2.2.2.2.2.2.2.1
theorem ShT.px {G : Nat → Option Nat} {M : Mem} {m u : Nat} {g : SG} {S : Sh} {w : Nat} (self_ : ShT G M m u g S w) : ∀ i x, S.pipes[i]? = some x → mcl M (g.ps i) = 100 ∧ mco M (g.ps i) = 2 ∧ mln M (g.ps i) = 5 ∧ mai M (g.ps i) 0 = nI x.fr ∧ mai M (g.ps i) 1 = nI x.to ∧ mai M (g.ps i) 2 = nI x.wd ∧ mai M (g.ps i) 3 = bI x.shut ∧ mai M (g.ps i) 4 = bI x.burst := self_.2.2.2.2.2.2.2.2.2.2.2.2.2.2.2.2.2.2.2.2.2.2.2.2.2.2.2.2.2.2.2.2.2.2.2.2.2.2.2.2.2.2.2.2.2.2.2.2.2.2.2.2.2.2.2.2.2.2.2.2.2.2.2.2.2.2.2.2.2.2.2.2.2.2.2.2.2.2.2.2.2.2.2.2.2.2.2.2.2.2.2.2.2.2.2.2
def whereN (S : Sh) : Nat := if S.sea then 1 else match S.port with | none => 0 | some _ => 2
theorem LnT.fr {X : Nat → Prop} {n s : Nat} {M M' : Mem} {u : Nat} {H : Hull} (L : LnT M u H) (q : QC X n s M M') (h : u + 25 ≤ mnx M) (hx : ∀ k, k < 7 → ¬ X (u + 2 + k)) : LnT M' u H :=
  ⟨(q.cl _ (by omega)).trans L.k, (q.co _ (by omega)).trans L.co, (q.fi 213 _ (by omega) rfl).trans L.fl, (q.fi 214 _ (by omega) rfl).trans L.fd, (q.fr 215 _ (by omega) rfl).trans L.fh, (q.cl _ (by omega)).trans L.kh, (q.ln _ (by omega)).trans L.lh, fun k hk => (q.ar _ _ (by omega)).trans (L.rh k hk), fun k hk => (q.cl _ (by omega)).trans (L.kr k hk), fun k hk => (q.co _ (by omega)).trans (L.cr k hk), fun k hk => (q.ln _ (by omega)).trans (L.lr k hk), fun k hk j hj => (q.ai _ _ (by omega) (hx k hk)).trans (L.hv k hk j hj)⟩
theorem ShT.fr0 {G : Nat → Option Nat} {n s : Nat} {M M' : Mem} {m u : Nat} {g : SG} {S : Sh} {w : Nat} (T : ShT G M m u g S w) (q : QC noX n s M M') : ShT G M' m u g S w := ⟨
  Nat.le_trans T.lt q.nx.1,
  T.ln.fr q T.lt (fun _ _ h => h),
  (q.fi 216 _ (by have := T.lt; omega) rfl).trans (T.num),
  (q.fi 212 _ (by have := T.lt; omega) rfl).trans (T.form),
  (q.fi 217 _ (by have := T.lt; omega) rfl).trans (T.stage),
  (q.fr 218 _ (by have := T.lt; omega) rfl).trans (T.rIt),
  (q.fr 219 _ (by have := T.lt; omega) rfl).trans (T.rFi),
  (q.fi 220 _ (by have := T.lt; omega) rfl).trans (T.bulk),
  (q.fr 221 _ (by have := T.lt; omega) rfl).trans (T.rPl),
  (q.fr 222 _ (by have := T.lt; omega) rfl).trans (T.rFt),
  (q.fr 223 _ (by have := T.lt; omega) rfl).trans (T.rSt),
  (q.fr 224 _ (by have := T.lt; omega) rfl).trans (T.rCu),
  (q.fi 225 _ (by have := T.lt; omega) rfl).trans (T.limit),
  (q.fi 226 _ (by have := T.lt; omega) rfl).trans (T.spot),
  (q.fi 227 _ (by have := T.lt; omega) rfl).trans (T.foul),
  (q.fi 228 _ (by have := T.lt; omega) rfl).trans (T.laid),
  (q.fr 229 _ (by have := T.lt; omega) rfl).trans (T.rHr),
  (q.fr 230 _ (by have := T.lt; omega) rfl).trans (T.rLf),
  (q.fr 231 _ (by have := T.lt; omega) rfl).trans (T.rAs),
  (q.fr 232 _ (by have := T.lt; omega) rfl).trans (T.rFa),
  (q.fi 233 _ (by have := T.lt; omega) rfl).trans (T.power),
  (q.fr 234 _ (by have := T.lt; omega) rfl).trans (T.rPp),
  (q.fi 235 _ (by have := T.lt; omega) rfl).trans (T.where_),
  (q.fi 236 _ (by have := T.lt; omega) rfl).trans (T.port),
  (q.fi 237 _ (by have := T.lt; omega) rfl).trans (T.fuel),
  (q.fd 238 _ (by have := T.lt; omega) rfl).trans (T.way),
  (q.fi 239 _ (by have := T.lt; omega) rfl).trans (T.waits),
  (q.fi 240 _ (by have := T.lt; omega) rfl).trans (T.holed),
  (q.fi 241 _ (by have := T.lt; omega) rfl).trans (T.earned),
  (q.fi 242 _ (by have := T.lt; omega) rfl).trans (T.days),
  (q.fr 243 _ (by have := T.lt; omega) rfl).trans (T.rSu),
  (q.fr 244 _ (by have := T.lt; omega) rfl).trans (T.rCa),
  (q.fr 245 _ (by have := T.lt; omega) rfl).trans (T.rSs),
  (q.fr 246 _ (by have := T.lt; omega) rfl).trans (T.rSh),
  (q.fr 247 _ (by have := T.lt; omega) rfl).trans (T.rMo),
  (q.fr 248 _ (by have := T.lt; omega) rfl).trans (T.this),
  (q.cl _ (by have := T.lt; omega)).trans (T.fik),
  (q.co _ (by have := T.lt; omega)).trans (T.fic),
  (q.ln _ (by have := T.lt; omega)).trans (T.fil),
  fun k hk => (q.ai _ _ (by have := T.lt; omega) (fun h => h)).trans (T.fiv k hk),
  (q.cl _ (by have := T.lt; omega)).trans (T.plk),
  (q.co _ (by have := T.lt; omega)).trans (T.plc),
  (q.ln _ (by have := T.lt; omega)).trans (T.pll),
  fun k hk => (q.ai _ _ (by have := T.lt; omega) (fun h => h)).trans (T.plv k hk),
  (q.cl _ (by have := T.lt; omega)).trans (T.ftk),
  (q.co _ (by have := T.lt; omega)).trans (T.ftc),
  (q.ln _ (by have := T.lt; omega)).trans (T.ftl),
  fun k hk => (q.ai _ _ (by have := T.lt; omega) (fun h => h)).trans (T.ftv k hk),
  (q.cl _ (by have := T.lt; omega)).trans (T.stk),
  (q.co _ (by have := T.lt; omega)).trans (T.stc),
  (q.ln _ (by have := T.lt; omega)).trans (T.stl),
  fun k hk => (q.ai _ _ (by have := T.lt; omega) (fun h => h)).trans (T.stv k hk),
  (q.cl _ (by have := T.lt; omega)).trans (T.cuk),
  (q.co _ (by have := T.lt; omega)).trans (T.cuc),
  (q.ln _ (by have := T.lt; omega)).trans (T.cul),
  fun k hk => (q.ai _ _ (by have := T.lt; omega) (fun h => h)).trans (T.cuv k hk),
  (q.cl _ (by have := T.lt; omega)).trans (T.hrk),
  (q.co _ (by have := T.lt; omega)).trans (T.hrc),
  (q.ln _ (by have := T.lt; omega)).trans (T.hrl),
  fun k hk => (q.ai _ _ (by have := T.lt; omega) (fun h => h)).trans (T.hrv k hk),
  (q.cl _ (by have := T.lt; omega)).trans (T.lfk),
  (q.co _ (by have := T.lt; omega)).trans (T.lfc),
  (q.ln _ (by have := T.lt; omega)).trans (T.lfl),
  fun k hk => (q.ai _ _ (by have := T.lt; omega) (fun h => h)).trans (T.lfv k hk),
  (q.cl _ (by have := T.lt; omega)).trans (T.ask),
  (q.co _ (by have := T.lt; omega)).trans (T.asc),
  (q.ln _ (by have := T.lt; omega)).trans (T.asl),
  fun k hk => (q.ai _ _ (by have := T.lt; omega) (fun h => h)).trans (T.asv k hk),
  (q.cl _ (by have := T.lt; omega)).trans (T.fak),
  (q.co _ (by have := T.lt; omega)).trans (T.fac),
  (q.ln _ (by have := T.lt; omega)).trans (T.fal),
  fun k hk => (q.ai _ _ (by have := T.lt; omega) (fun h => h)).trans (T.fav k hk),
  (q.cl _ (by have := T.lt; omega)).trans (T.suk),
  (q.co _ (by have := T.lt; omega)).trans (T.suc),
  (q.ln _ (by have := T.lt; omega)).trans (T.sul),
  (q.cl _ (by have := T.lt; omega)).trans (T.cak),
  (q.co _ (by have := T.lt; omega)).trans (T.cac),
  (q.ln _ (by have := T.lt; omega)).trans (T.cal),
  (q.cl _ (by have := T.lt; omega)).trans (T.ssk),
  (q.co _ (by have := T.lt; omega)).trans (T.ssc),
  (q.ln _ (by have := T.lt; omega)).trans (T.ssl),
  (q.cl _ (by have := T.lt; omega)).trans (T.shk),
  (q.co _ (by have := T.lt; omega)).trans (T.shc),
  (q.ln _ (by have := T.lt; omega)).trans (T.shl),
  (q.cl _ (by have := T.lt; omega)).trans (T.mok),
  (q.co _ (by have := T.lt; omega)).trans (T.moc),
  (q.ln _ (by have := T.lt; omega)).trans (T.mol),
  T.its.fr q,
  fun i hi => Nat.lt_of_lt_of_le (T.ixl i hi) q.nx.1,
  (by
    intro i x hx
    have h := T.ixl i (List.getElem?_eq_some_iff.mp hx).1
    rw [q.cl _ h, q.co _ h, q.ln _ h, q.ai _ _ h (fun h => h), q.ai _ _ h (fun h => h), q.ai _ _ h (fun h => h), q.ai _ _ h (fun h => h)]
    exact T.ix i x hx),
  T.ixn,
  T.pps.fr q,
  fun i hi => Nat.lt_of_lt_of_le (T.pxl i hi) q.nx.1,
  T.pxn,
  T.pxi,
  T.ipn,
  (by
    intro i x hx
    have h := T.pxl i (List.getElem?_eq_some_iff.mp hx).1
    rw [q.cl _ h, q.co _ h, q.ln _ h, q.ai _ _ h (fun h => h), q.ai _ _ h (fun h => h), q.ai _ _ h (fun h => h), q.ai _ _ h (fun h => h), q.ai _ _ h (fun h => h)]
    exact T.px i x hx)⟩
