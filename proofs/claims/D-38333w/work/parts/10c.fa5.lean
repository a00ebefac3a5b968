/-! the facts of the methods' entries (written by emit_fa.py) -/
set_option maxRecDepth 100000
def fl_496_0 : List Ent := [(3, 3, 19, .invokevirtual 42, [0, 3, 3, 16, 497], 0), (11, 3, 19, .invokevirtual 42, [0, 3, 3, 16, 497], 0), (16, 3, 15, .ldc2_w 126, [4625196817309499392], 0), (21, 3, 6, .getfield 26, [0, 16, 64], 0), (26, 3, 15, .ldc2_w 78, [4611686018427387904], 0), (31, 3, 6, .getfield 23, [0, 16, 63], 0), (36, 3, 15, .ldc2_w 55, [4618441417868443648], 0)]
theorem fb_496_0 : FB mi iT mi_496 (bpc code_496) (fl_496_0) := ⟨fun hd => mk19 mt_497 cf_497 (vf_497_16.rt (Or.inl W595) (hd rfl)) rfl rfl (noH_nil rfl),
  ⟨fun hd => mk19 mt_497 cf_497 (vf_497_16.rt (Or.inl W595) (hd rfl)) rfl rfl (noH_nil rfl),
  ⟨fun hd => mk15 W599 (hd rfl),
  ⟨fun hd => mk6 fld_16_2 (Or.inl ⟨rfl, by decide⟩) (Or.inl W1909) (Or.inl rfl) (hd rfl),
  ⟨fun hd => mk15 W600 (hd rfl),
  ⟨fun hd => mk6 fld_16_1 (Or.inl ⟨rfl, by decide⟩) (Or.inl W1898) (Or.inl rfl) (hd rfl),
  ⟨fun hd => mk15 W601 (hd rfl),
  trivial⟩⟩⟩⟩⟩⟩⟩
theorem fe_496 : eqEs ((flat code_496).filter (fun e => ndE e.2.2.1)) (fl_496_0) = true := by decide +kernel
theorem om_496 : OKm mi iT prg 496 := OKm_of (code := code_496) rfl mt_496 (Or.inl (by decide +kernel)) rfl wk_496 (by decide +kernel) (by decide +kernel) (FA_of fe_496 (fb_496_0))
def fl_497_0 : List Ent := [(1, 3, 6, .getfield 9, [3, 16, 65], 0)]
theorem fb_497_0 : FB mi iT mi_497 (bpc code_497) (fl_497_0) := ⟨fun hd => mk6 fld_16_3 (Or.inl ⟨rfl, by decide⟩) (Or.inl W1918) (Or.inl rfl) (hd rfl),
  trivial⟩
theorem fe_497 : eqEs ((flat code_497).filter (fun e => ndE e.2.2.1)) (fl_497_0) = true := by decide +kernel
theorem om_497 : OKm mi iT prg 497 := OKm_of (code := code_497) rfl mt_497 (Or.inl (by decide +kernel)) rfl wk_497 (by decide +kernel) (by decide +kernel) (FA_of fe_497 (fb_497_0))
def fl_498_0 : List Ent := [(3, 3, 19, .invokevirtual 42, [0, 3, 3, 16, 497], 0), (11, 3, 19, .invokevirtual 42, [0, 3, 3, 16, 497], 0), (16, 3, 15, .ldc2_w 66, [4620693217682128896], 0)]
theorem fb_498_0 : FB mi iT mi_498 (bpc code_498) (fl_498_0) := ⟨fun hd => mk19 mt_497 cf_497 (vf_497_16.rt (Or.inl W595) (hd rfl)) rfl rfl (noH_nil rfl),
  ⟨fun hd => mk19 mt_497 cf_497 (vf_497_16.rt (Or.inl W595) (hd rfl)) rfl rfl (noH_nil rfl),
  ⟨fun hd => mk15 W1126 (hd rfl),
  trivial⟩⟩⟩
theorem fe_498 : eqEs ((flat code_498).filter (fun e => ndE e.2.2.1)) (fl_498_0) = true := by decide +kernel
theorem om_498 : OKm mi iT prg 498 := OKm_of (code := code_498) rfl mt_498 (Or.inl (by decide +kernel)) rfl wk_498 (by decide +kernel) (by decide +kernel) (FA_of fe_498 (fb_498_0))
def fl_499_0 : List Ent := [(2, 3, 15, .ldc2_w 76, [4602678819172646912], 0), (7, 3, 6, .getfield 23, [0, 16, 63], 0), (12, 3, 15, .ldc2_w 55, [4618441417868443648], 0)]
theorem fb_499_0 : FB mi iT mi_499 (bpc code_499) (fl_499_0) := ⟨fun hd => mk15 W1183 (hd rfl),
  ⟨fun hd => mk6 fld_16_1 (Or.inl ⟨rfl, by decide⟩) (Or.inl W1898) (Or.inl rfl) (hd rfl),
  ⟨fun hd => mk15 W601 (hd rfl),
  trivial⟩⟩⟩
theorem fe_499 : eqEs ((flat code_499).filter (fun e => ndE e.2.2.1)) (fl_499_0) = true := by decide +kernel
theorem om_499 : OKm mi iT prg 499 := OKm_of (code := code_499) rfl mt_499 (Or.inl (by decide +kernel)) rfl wk_499 (by decide +kernel) (by decide +kernel) (FA_of fe_499 (fb_499_0))
def fl_500_0 : List Ent := [(2, 3, 6, .getfield 26, [0, 16, 64], 0), (6, 3, 19, .invokevirtual 88, [2, 2, 3, 16, 501], 0), (14, 3, 15, .ldc2_w 124, [13830554455654793216], 0), (21, 3, 6, .getfield 26, [0, 16, 64], 0), (41, 3, 15, .ldc2_w 78, [4611686018427387904], 0), (50, 3, 19, .invokevirtual 88, [2, 2, 3, 16, 501], 0)]
theorem fb_500_0 : FB mi iT mi_500 (bpc code_500) (fl_500_0) := ⟨fun hd => mk6 fld_16_2 (Or.inl ⟨rfl, by decide⟩) (Or.inl W1909) (Or.inl rfl) (hd rfl),
  ⟨fun hd => mk19 mt_501 cf_501 (vf_501_16.rt (Or.inl W1241) (hd rfl)) rfl rfl (noH_nil rfl),
  ⟨fun hd => mk15 W1269 (hd rfl),
  ⟨fun hd => mk6 fld_16_2 (Or.inl ⟨rfl, by decide⟩) (Or.inl W1909) (Or.inl rfl) (hd rfl),
  ⟨fun hd => mk15 W600 (hd rfl),
  ⟨fun hd => mk19 mt_501 cf_501 (vf_501_16.rt (Or.inl W1241) (hd rfl)) rfl rfl (noH_nil rfl),
  trivial⟩⟩⟩⟩⟩⟩
theorem fe_500 : eqEs ((flat code_500).filter (fun e => ndE e.2.2.1)) (fl_500_0) = true := by decide +kernel
theorem om_500 : OKm mi iT prg 500 := OKm_of (code := code_500) rfl mt_500 (Or.inl (by decide +kernel)) rfl wk_500 (by decide +kernel) (by decide +kernel) (FA_of fe_500 (fb_500_0))
def fl_501_0 : List Ent := [(9, 3, 6, .getfield 15, [3, 16, 66], 0), (16, 3, 19, .invokevirtual 82, [2, 3, 4, 16, 502], 0), (19, 1, 9, .dastore, [2, 103], 0), (27, 3, 19, .invokevirtual 85, [2, 1, 1, 16, 506], 0)]
theorem fb_501_0 : FB mi iT mi_501 (bpc code_501) (fl_501_0) := ⟨fun hd => mk6 fld_16_4 (Or.inl ⟨rfl, by decide⟩) (Or.inl W1920) (Or.inl rfl) (hd rfl),
  ⟨fun hd => mk19 mt_502 cf_502 (vf_502_16.rt (Or.inl W1245) (hd rfl)) rfl rfl (noH_nil rfl),
  ⟨fun hd => ⟨_, _, _, rfl, rfl, hd rfl, Or.inr (Or.inl ⟨rfl, rfl, rfl⟩)⟩,
  ⟨fun hd => mk19 mt_506 cf_506 (vf_506_16.rt (Or.inl W1264) (hd rfl)) rfl rfl (noH_nil rfl),
  trivial⟩⟩⟩⟩
theorem fe_501 : eqEs ((flat code_501).filter (fun e => ndE e.2.2.1)) (fl_501_0) = true := by decide +kernel
theorem om_501 : OKm mi iT prg 501 := OKm_of (code := code_501) rfl mt_501 (Or.inl (by decide +kernel)) rfl wk_501 (by decide +kernel) (by decide +kernel) (FA_of fe_501 (fb_501_0))
def fl_502_0 : List Ent := [(1, 3, 19, .invokevirtual 59, [2, 1, 1, 16, 503], 0), (37, 3, 19, .invokevirtual 68, [2, 3, 3, 16, 504], 0), (61, 3, 19, .invokevirtual 42, [0, 3, 3, 16, 497], 0), (65, 3, 15, .ldc2_w 66, [4620693217682128896], 0), (72, 3, 19, .invokevirtual 72, [2, 3, 4, 16, 505], 0)]
theorem fb_502_0 : FB mi iT mi_502 (bpc code_502) (fl_502_0) := ⟨fun hd => mk19 mt_503 cf_503 (vf_503_16.rt (Or.inl W1249) (hd rfl)) rfl rfl (noH_nil rfl),
  ⟨fun hd => mk19 mt_504 cf_504 (vf_504_16.rt (Or.inl W1254) (hd rfl)) rfl rfl (noH_nil rfl),
  ⟨fun hd => mk19 mt_497 cf_497 (vf_497_16.rt (Or.inl W595) (hd rfl)) rfl rfl (noH_nil rfl),
  ⟨fun hd => mk15 W1126 (hd rfl),
  ⟨fun hd => mk19 mt_505 cf_505 (vf_505_16.rt (Or.inl W1259) (hd rfl)) rfl rfl (noH_nil rfl),
  trivial⟩⟩⟩⟩⟩
theorem fe_502 : eqEs ((flat code_502).filter (fun e => ndE e.2.2.1)) (fl_502_0) = true := by decide +kernel
theorem om_502 : OKm mi iT prg 502 := OKm_of (code := code_502) rfl mt_502 (Or.inl (by decide +kernel)) rfl wk_502 (by decide +kernel) (by decide +kernel) (FA_of fe_502 (fb_502_0))
def fl_503_0 : List Ent := [(1, 3, 6, .getfield 26, [0, 16, 64], 0), (5, 3, 15, .ldc2_w 57, [4616189618054758400], 0)]
theorem fb_503_0 : FB mi iT mi_503 (bpc code_503) (fl_503_0) := ⟨fun hd => mk6 fld_16_2 (Or.inl ⟨rfl, by decide⟩) (Or.inl W1909) (Or.inl rfl) (hd rfl),
  ⟨fun hd => mk15 W1253 (hd rfl),
  trivial⟩⟩
theorem fe_503 : eqEs ((flat code_503).filter (fun e => ndE e.2.2.1)) (fl_503_0) = true := by decide +kernel
theorem om_503 : OKm mi iT prg 503 := OKm_of (code := code_503) rfl mt_503 (Or.inl (by decide +kernel)) rfl wk_503 (by decide +kernel) (by decide +kernel) (FA_of fe_503 (fb_503_0))
def fl_504_0 : List Ent := [(3, 3, 19, .invokevirtual 42, [0, 3, 3, 16, 497], 0), (11, 3, 19, .invokevirtual 42, [0, 3, 3, 16, 497], 0), (16, 3, 15, .ldc2_w 66, [4620693217682128896], 0), (21, 3, 19, .invokevirtual 59, [2, 1, 1, 16, 503], 0)]
theorem fb_504_0 : FB mi iT mi_504 (bpc code_504) (fl_504_0) := ⟨fun hd => mk19 mt_497 cf_497 (vf_497_16.rt (Or.inl W595) (hd rfl)) rfl rfl (noH_nil rfl),
  ⟨fun hd => mk19 mt_497 cf_497 (vf_497_16.rt (Or.inl W595) (hd rfl)) rfl rfl (noH_nil rfl),
  ⟨fun hd => mk15 W1126 (hd rfl),
  ⟨fun hd => mk19 mt_503 cf_503 (vf_503_16.rt (Or.inl W1249) (hd rfl)) rfl rfl (noH_nil rfl),
  trivial⟩⟩⟩⟩
theorem fe_504 : eqEs ((flat code_504).filter (fun e => ndE e.2.2.1)) (fl_504_0) = true := by decide +kernel
theorem om_504 : OKm mi iT prg 504 := OKm_of (code := code_504) rfl mt_504 (Or.inl (by decide +kernel)) rfl wk_504 (by decide +kernel) (by decide +kernel) (FA_of fe_504 (fb_504_0))
def fl_505_0 : List Ent := [(1, 3, 19, .invokevirtual 59, [2, 1, 1, 16, 503], 0), (12, 3, 18, .invokestatic 63, [0, 2, 2, 67], 0), (31, 3, 19, .invokevirtual 42, [0, 3, 3, 16, 497], 0), (41, 3, 19, .invokevirtual 42, [0, 3, 3, 16, 497], 0), (48, 3, 19, .invokevirtual 42, [0, 3, 3, 16, 497], 0), (57, 3, 15, .ldc2_w 66, [4620693217682128896], 0)]
theorem fb_505_0 : FB mi iT mi_505 (bpc code_505) (fl_505_0) := ⟨fun hd => mk19 mt_503 cf_503 (vf_503_16.rt (Or.inl W1249) (hd rfl)) rfl rfl (noH_nil rfl),
  ⟨fun hd => mk18 mt_67 sf_67 (Or.inl W1263) rfl rfl (noH_nil rfl) (hd rfl),
  ⟨fun hd => mk19 mt_497 cf_497 (vf_497_16.rt (Or.inl W595) (hd rfl)) rfl rfl (noH_nil rfl),
  ⟨fun hd => mk19 mt_497 cf_497 (vf_497_16.rt (Or.inl W595) (hd rfl)) rfl rfl (noH_nil rfl),
  ⟨fun hd => mk19 mt_497 cf_497 (vf_497_16.rt (Or.inl W595) (hd rfl)) rfl rfl (noH_nil rfl),
  ⟨fun hd => mk15 W1126 (hd rfl),
  trivial⟩⟩⟩⟩⟩⟩
theorem fe_505 : eqEs ((flat code_505).filter (fun e => ndE e.2.2.1)) (fl_505_0) = true := by decide +kernel
theorem om_505 : OKm mi iT prg 505 := OKm_of (code := code_505) rfl mt_505 (Or.inl (by decide +kernel)) rfl wk_505 (by decide +kernel) (by decide +kernel) (FA_of fe_505 (fb_505_0))
def fl_506_0 : List Ent := [(1, 3, 6, .getfield 15, [3, 16, 66], 0), (8, 3, 15, .ldc2_w 57, [4616189618054758400], 0), (16, 3, 15, .ldc2_w 78, [4611686018427387904], 0), (24, 3, 15, .ldc2_w 57, [4616189618054758400], 0), (32, 3, 15, .ldc2_w 78, [4611686018427387904], 0), (40, 3, 15, .ldc2_w 57, [4616189618054758400], 0), (54, 3, 6, .getfield 23, [0, 16, 63], 0), (59, 3, 15, .ldc2_w 80, [4625759767262920704], 0)]
theorem fb_506_0 : FB mi iT mi_506 (bpc code_506) (fl_506_0) := ⟨fun hd => mk6 fld_16_4 (Or.inl ⟨rfl, by decide⟩) (Or.inl W1920) (Or.inl rfl) (hd rfl),
  ⟨fun hd => mk15 W1253 (hd rfl),
  ⟨fun hd => mk15 W600 (hd rfl),
  ⟨fun hd => mk15 W1253 (hd rfl),
  ⟨fun hd => mk15 W600 (hd rfl),
  ⟨fun hd => mk15 W1253 (hd rfl),
  ⟨fun hd => mk6 fld_16_1 (Or.inl ⟨rfl, by decide⟩) (Or.inl W1898) (Or.inl rfl) (hd rfl),
  ⟨fun hd => mk15 W1268 (hd rfl),
  trivial⟩⟩⟩⟩⟩⟩⟩⟩
theorem fe_506 : eqEs ((flat code_506).filter (fun e => ndE e.2.2.1)) (fl_506_0) = true := by decide +kernel
theorem om_506 : OKm mi iT prg 506 := OKm_of (code := code_506) rfl mt_506 (Or.inl (by decide +kernel)) rfl wk_506 (by decide +kernel) (by decide +kernel) (FA_of fe_506 (fb_506_0))
def fl_507_0 : List Ent := [(9, 3, 6, .getfield 15, [3, 16, 66], 0), (16, 3, 19, .invokevirtual 102, [2, 3, 4, 16, 508], 0), (19, 1, 9, .dastore, [2, 103], 0), (28, 3, 19, .invokevirtual 85, [2, 1, 1, 16, 506], 0), (32, 3, 19, .invokevirtual 98, [2, 3, 5, 16, 509], 0)]
theorem fb_507_0 : FB mi iT mi_507 (bpc code_507) (fl_507_0) := ⟨fun hd => mk6 fld_16_4 (Or.inl ⟨rfl, by decide⟩) (Or.inl W1920) (Or.inl rfl) (hd rfl),
  ⟨fun hd => mk19 mt_508 cf_508 (vf_508_16.rt (Or.inl W1297) (hd rfl)) rfl rfl (noH_nil rfl),
  ⟨fun hd => ⟨_, _, _, rfl, rfl, hd rfl, Or.inr (Or.inl ⟨rfl, rfl, rfl⟩)⟩,
  ⟨fun hd => mk19 mt_506 cf_506 (vf_506_16.rt (Or.inl W1264) (hd rfl)) rfl rfl (noH_nil rfl),
  ⟨fun hd => mk19 mt_509 cf_509 (vf_509_16.rt (Or.inl W1301) (hd rfl)) rfl rfl (noH_nil rfl),
  trivial⟩⟩⟩⟩⟩
theorem fe_507 : eqEs ((flat code_507).filter (fun e => ndE e.2.2.1)) (fl_507_0) = true := by decide +kernel
theorem om_507 : OKm mi iT prg 507 := OKm_of (code := code_507) rfl mt_507 (Or.inl (by decide +kernel)) rfl wk_507 (by decide +kernel) (by decide +kernel) (FA_of fe_507 (fb_507_0))
def fl_508_0 : List Ent := [(1, 3, 19, .invokevirtual 59, [2, 1, 1, 16, 503], 0), (37, 3, 19, .invokevirtual 68, [2, 3, 3, 16, 504], 0), (43, 3, 15, .ldc2_w 76, [4602678819172646912], 0), (70, 3, 19, .invokevirtual 42, [0, 3, 3, 16, 497], 0), (74, 3, 15, .ldc2_w 66, [4620693217682128896], 0), (81, 3, 19, .invokevirtual 72, [2, 3, 4, 16, 505], 0), (108, 3, 15, .ldc2_w 78, [4611686018427387904], 0)]
theorem fb_508_0 : FB mi iT mi_508 (bpc code_508) (fl_508_0) := ⟨fun hd => mk19 mt_503 cf_503 (vf_503_16.rt (Or.inl W1249) (hd rfl)) rfl rfl (noH_nil rfl),
  ⟨fun hd => mk19 mt_504 cf_504 (vf_504_16.rt (Or.inl W1254) (hd rfl)) rfl rfl (noH_nil rfl),
  ⟨fun hd => mk15 W1183 (hd rfl),
  ⟨fun hd => mk19 mt_497 cf_497 (vf_497_16.rt (Or.inl W595) (hd rfl)) rfl rfl (noH_nil rfl),
  ⟨fun hd => mk15 W1126 (hd rfl),
  ⟨fun hd => mk19 mt_505 cf_505 (vf_505_16.rt (Or.inl W1259) (hd rfl)) rfl rfl (noH_nil rfl),
  ⟨fun hd => mk15 W600 (hd rfl),
  trivial⟩⟩⟩⟩⟩⟩⟩
theorem fe_508 : eqEs ((flat code_508).filter (fun e => ndE e.2.2.1)) (fl_508_0) = true := by decide +kernel
theorem om_508 : OKm mi iT prg 508 := OKm_of (code := code_508) rfl mt_508 (Or.inl (by decide +kernel)) rfl wk_508 (by decide +kernel) (by decide +kernel) (FA_of fe_508 (fb_508_0))
def fl_509_0 : List Ent := [(2, 3, 19, .invokevirtual 88, [2, 2, 3, 16, 501], 0), (9, 3, 15, .ldc2_w 92, [4562254508917369340], 0)]
theorem fb_509_0 : FB mi iT mi_509 (bpc code_509) (fl_509_0) := ⟨fun hd => mk19 mt_501 cf_501 (vf_501_16.rt (Or.inl W1241) (hd rfl)) rfl rfl (noH_nil rfl),
  ⟨fun hd => mk15 W1305 (hd rfl),
  trivial⟩⟩
theorem fe_509 : eqEs ((flat code_509).filter (fun e => ndE e.2.2.1)) (fl_509_0) = true := by decide +kernel
theorem om_509 : OKm mi iT prg 509 := OKm_of (code := code_509) rfl mt_509 (Or.inl (by decide +kernel)) rfl wk_509 (by decide +kernel) (by decide +kernel) (FA_of fe_509 (fb_509_0))
def fl_510_0 : List Ent := [(11, 3, 19, .invokevirtual 72, [2, 3, 4, 16, 505], 0), (17, 3, 6, .getfield 15, [3, 16, 66], 0), (21, 3, 15, .ldc2_w 105, [4604180019048437077], 0), (33, 1, 9, .dastore, [2, 103], 0), (42, 3, 19, .invokevirtual 85, [2, 1, 1, 16, 506], 0), (46, 3, 19, .invokevirtual 98, [2, 3, 5, 16, 509], 0)]
theorem fb_510_0 : FB mi iT mi_510 (bpc code_510) (fl_510_0) := ⟨fun hd => mk19 mt_505 cf_505 (vf_505_16.rt (Or.inl W1259) (hd rfl)) rfl rfl (noH_nil rfl),
  ⟨fun hd => mk6 fld_16_4 (Or.inl ⟨rfl, by decide⟩) (Or.inl W1920) (Or.inl rfl) (hd rfl),
  ⟨fun hd => mk15 W1310 (hd rfl),
  ⟨fun hd => ⟨_, _, _, rfl, rfl, hd rfl, Or.inr (Or.inl ⟨rfl, rfl, rfl⟩)⟩,
  ⟨fun hd => mk19 mt_506 cf_506 (vf_506_16.rt (Or.inl W1264) (hd rfl)) rfl rfl (noH_nil rfl),
  ⟨fun hd => mk19 mt_509 cf_509 (vf_509_16.rt (Or.inl W1301) (hd rfl)) rfl rfl (noH_nil rfl),
  trivial⟩⟩⟩⟩⟩⟩
theorem fe_510 : eqEs ((flat code_510).filter (fun e => ndE e.2.2.1)) (fl_510_0) = true := by decide +kernel
theorem om_510 : OKm mi iT prg 510 := OKm_of (code := code_510) rfl mt_510 (Or.inl (by decide +kernel)) rfl wk_510 (by decide +kernel) (by decide +kernel) (FA_of fe_510 (fb_510_0))
def fl_511_0 : List Ent := [(10, 3, 19, .invokevirtual 94, [2, 2, 2, 16, 512], 0), (14, 3, 6, .getfield 23, [0, 16, 63], 0), (18, 3, 15, .ldc2_w 78, [4611686018427387904], 0), (26, 3, 6, .getfield 15, [3, 16, 66], 0), (30, 3, 15, .ldc2_w 78, [4611686018427387904], 0), (36, 3, 19, .invokevirtual 72, [2, 3, 4, 16, 505], 0), (46, 1, 9, .dastore, [2, 103], 0), (55, 3, 19, .invokevirtual 85, [2, 1, 1, 16, 506], 0), (59, 3, 19, .invokevirtual 98, [2, 3, 5, 16, 509], 0)]
theorem fb_511_0 : FB mi iT mi_511 (bpc code_511) (fl_511_0) := ⟨fun hd => mk19 mt_512 cf_512 (vf_512_16.rt (Or.inl W1346) (hd rfl)) rfl rfl (noH_nil rfl),
  ⟨fun hd => mk6 fld_16_1 (Or.inl ⟨rfl, by decide⟩) (Or.inl W1898) (Or.inl rfl) (hd rfl),
  ⟨fun hd => mk15 W600 (hd rfl),
  ⟨fun hd => mk6 fld_16_4 (Or.inl ⟨rfl, by decide⟩) (Or.inl W1920) (Or.inl rfl) (hd rfl),
  ⟨fun hd => mk15 W600 (hd rfl),
  ⟨fun hd => mk19 mt_505 cf_505 (vf_505_16.rt (Or.inl W1259) (hd rfl)) rfl rfl (noH_nil rfl),
  ⟨fun hd => ⟨_, _, _, rfl, rfl, hd rfl, Or.inr (Or.inl ⟨rfl, rfl, rfl⟩)⟩,
  ⟨fun hd => mk19 mt_506 cf_506 (vf_506_16.rt (Or.inl W1264) (hd rfl)) rfl rfl (noH_nil rfl),
  ⟨fun hd => mk19 mt_509 cf_509 (vf_509_16.rt (Or.inl W1301) (hd rfl)) rfl rfl (noH_nil rfl),
  trivial⟩⟩⟩⟩⟩⟩⟩⟩⟩
theorem fe_511 : eqEs ((flat code_511).filter (fun e => ndE e.2.2.1)) (fl_511_0) = true := by decide +kernel
theorem om_511 : OKm mi iT prg 511 := OKm_of (code := code_511) rfl mt_511 (Or.inl (by decide +kernel)) rfl wk_511 (by decide +kernel) (by decide +kernel) (FA_of fe_511 (fb_511_0))
def fl_512_0 : List Ent := [(2, 3, 6, .getfield 23, [0, 16, 63], 0), (7, 3, 15, .ldc2_w 55, [4618441417868443648], 0)]
theorem fb_512_0 : FB mi iT mi_512 (bpc code_512) (fl_512_0) := ⟨fun hd => mk6 fld_16_1 (Or.inl ⟨rfl, by decide⟩) (Or.inl W1898) (Or.inl rfl) (hd rfl),
  ⟨fun hd => mk15 W601 (hd rfl),
  trivial⟩⟩
theorem fe_512 : eqEs ((flat code_512).filter (fun e => ndE e.2.2.1)) (fl_512_0) = true := by decide +kernel
theorem om_512 : OKm mi iT prg 512 := OKm_of (code := code_512) rfl mt_512 (Or.inl (by decide +kernel)) rfl wk_512 (by decide +kernel) (by decide +kernel) (FA_of fe_512 (fb_512_0))
def fl_513_0 : List Ent := [(9, 3, 6, .getfield 15, [3, 16, 66], 0), (16, 3, 19, .invokevirtual 82, [2, 3, 4, 16, 502], 0), (21, 3, 19, .invokevirtual 94, [2, 2, 2, 16, 512], 0), (25, 1, 9, .dastore, [2, 103], 0), (34, 3, 19, .invokevirtual 85, [2, 1, 1, 16, 506], 0), (38, 3, 19, .invokevirtual 98, [2, 3, 5, 16, 509], 0)]
theorem fb_513_0 : FB mi iT mi_513 (bpc code_513) (fl_513_0) := ⟨fun hd => mk6 fld_16_4 (Or.inl ⟨rfl, by decide⟩) (Or.inl W1920) (Or.inl rfl) (hd rfl),
  ⟨fun hd => mk19 mt_502 cf_502 (vf_502_16.rt (Or.inl W1245) (hd rfl)) rfl rfl (noH_nil rfl),
  ⟨fun hd => mk19 mt_512 cf_512 (vf_512_16.rt (Or.inl W1346) (hd rfl)) rfl rfl (noH_nil rfl),
  ⟨fun hd => ⟨_, _, _, rfl, rfl, hd rfl, Or.inr (Or.inl ⟨rfl, rfl, rfl⟩)⟩,
  ⟨fun hd => mk19 mt_506 cf_506 (vf_506_16.rt (Or.inl W1264) (hd rfl)) rfl rfl (noH_nil rfl),
  ⟨fun hd => mk19 mt_509 cf_509 (vf_509_16.rt (Or.inl W1301) (hd rfl)) rfl rfl (noH_nil rfl),
  trivial⟩⟩⟩⟩⟩⟩
theorem fe_513 : eqEs ((flat code_513).filter (fun e => ndE e.2.2.1)) (fl_513_0) = true := by decide +kernel
theorem om_513 : OKm mi iT prg 513 := OKm_of (code := code_513) rfl mt_513 (Or.inl (by decide +kernel)) rfl wk_513 (by decide +kernel) (by decide +kernel) (FA_of fe_513 (fb_513_0))
def fl_514_0 : List Ent := [(3, 3, 19, .invokevirtual 82, [2, 3, 4, 16, 502], 0), (12, 3, 19, .invokevirtual 82, [2, 3, 4, 16, 502], 0), (16, 3, 15, .ldc2_w 78, [4611686018427387904], 0), (21, 3, 6, .getfield 23, [0, 16, 63], 0), (26, 3, 15, .ldc2_w 55, [4618441417868443648], 0)]
theorem fb_514_0 : FB mi iT mi_514 (bpc code_514) (fl_514_0) := ⟨fun hd => mk19 mt_502 cf_502 (vf_502_16.rt (Or.inl W1245) (hd rfl)) rfl rfl (noH_nil rfl),
  ⟨fun hd => mk19 mt_502 cf_502 (vf_502_16.rt (Or.inl W1245) (hd rfl)) rfl rfl (noH_nil rfl),
  ⟨fun hd => mk15 W600 (hd rfl),
  ⟨fun hd => mk6 fld_16_1 (Or.inl ⟨rfl, by decide⟩) (Or.inl W1898) (Or.inl rfl) (hd rfl),
  ⟨fun hd => mk15 W601 (hd rfl),
  trivial⟩⟩⟩⟩⟩
theorem fe_514 : eqEs ((flat code_514).filter (fun e => ndE e.2.2.1)) (fl_514_0) = true := by decide +kernel
theorem om_514 : OKm mi iT prg 514 := OKm_of (code := code_514) rfl mt_514 (Or.inl (by decide +kernel)) rfl wk_514 (by decide +kernel) (by decide +kernel) (FA_of fe_514 (fb_514_0))
def fl_515_0 : List Ent := [(9, 3, 6, .getfield 15, [3, 16, 66], 0), (13, 3, 15, .ldc2_w 78, [4611686018427387904], 0), (18, 3, 15, .ldc2_w 78, [4611686018427387904], 0), (24, 3, 19, .invokevirtual 72, [2, 3, 4, 16, 505], 0), (29, 1, 9, .dastore, [2, 103], 0), (37, 3, 19, .invokevirtual 85, [2, 1, 1, 16, 506], 0)]
theorem fb_515_0 : FB mi iT mi_515 (bpc code_515) (fl_515_0) := ⟨fun hd => mk6 fld_16_4 (Or.inl ⟨rfl, by decide⟩) (Or.inl W1920) (Or.inl rfl) (hd rfl),
  ⟨fun hd => mk15 W600 (hd rfl),
  ⟨fun hd => mk15 W600 (hd rfl),
  ⟨fun hd => mk19 mt_505 cf_505 (vf_505_16.rt (Or.inl W1259) (hd rfl)) rfl rfl (noH_nil rfl),
  ⟨fun hd => ⟨_, _, _, rfl, rfl, hd rfl, Or.inr (Or.inl ⟨rfl, rfl, rfl⟩)⟩,
  ⟨fun hd => mk19 mt_506 cf_506 (vf_506_16.rt (Or.inl W1264) (hd rfl)) rfl rfl (noH_nil rfl),
  trivial⟩⟩⟩⟩⟩⟩
theorem fe_515 : eqEs ((flat code_515).filter (fun e => ndE e.2.2.1)) (fl_515_0) = true := by decide +kernel
theorem om_515 : OKm mi iT prg 515 := OKm_of (code := code_515) rfl mt_515 (Or.inl (by decide +kernel)) rfl wk_515 (by decide +kernel) (by decide +kernel) (FA_of fe_515 (fb_515_0))
def fl_516_0 : List Ent := [(1, 3, 22, .invokespecial 3, [], 0), (7, 2, 12, .newarray .int, [100], 0), (9, 3, 7, .putfield 9, [3, 16, 65], 0), (15, 2, 12, .newarray .double, [103], 0), (17, 3, 7, .putfield 15, [3, 16, 66], 0), (22, 3, 7, .putfield 19, [0, 16, 62], 0), (27, 3, 7, .putfield 23, [0, 16, 63], 0), (32, 3, 7, .putfield 26, [0, 16, 64], 0), (36, 3, 18, .invokestatic 29, [3, 1, 1, 206], 0), (61, 3, 6, .getfield 9, [3, 16, 65], 0), (77, 3, 31, .invokevirtual 33, [0, 2, 2, 12, 778, 13, 780, 14, 782], 0), (85, 3, 31, .invokevirtual 39, [0, 2, 2, 12, 779, 13, 781, 14, 783], 0), (92, 1, 9, .iastore, [0, 100], 0)]
theorem fb_516_0 : FB mi iT mi_516 (bpc code_516) (fl_516_0) := ⟨fun hd => mk22 (by decide) W1816 oi_w (hd rfl),
  ⟨fun hd => mk12a (at_ := .int) (by decide) rfl W239 (hd rfl),
  ⟨fun hd => mk7 fld_16_3 (Or.inl W1918) (Or.inl rfl) (Or.inr ⟨rfl, rfl, rfl, W1918⟩) (hd rfl),
  ⟨fun hd => mk12a (at_ := .double) (by decide) rfl W1932 (hd rfl),
  ⟨fun hd => mk7 fld_16_4 (Or.inl W1920) (Or.inl rfl) (Or.inr ⟨rfl, rfl, rfl, W1920⟩) (hd rfl),
  ⟨fun hd => mk7 fld_16_0 (Or.inl W1896) (Or.inl rfl) (Or.inr ⟨rfl, rfl, rfl, W1896⟩) (hd rfl),
  ⟨fun hd => mk7 fld_16_1 (Or.inl W1898) (Or.inl rfl) (Or.inr ⟨rfl, rfl, rfl, W1898⟩) (hd rfl),
  ⟨fun hd => mk7 fld_16_2 (Or.inl W1909) (Or.inl rfl) (Or.inr ⟨rfl, rfl, rfl, W1909⟩) (hd rfl),
  ⟨fun hd => mk18 mt_206 sf_206 (Or.inr ⟨⟨_, W1817⟩, _, _, rfl⟩) rfl rfl (noH_nil rfl) (hd rfl),
  ⟨fun hd => mk6 fld_16_3 (Or.inl ⟨rfl, by decide⟩) (Or.inl W1918) (Or.inl rfl) (hd rfl),
  ⟨fun hd => mk31 ⟨pr3 mt_778 cf_778 (ei_778_12_KeelHouse_Formalong_I_I.rt W1826 (hd rfl)) rfl rfl, ⟨pr3 mt_780 cf_780 (ei_780_13_KeelHouse_Formalong_I_I.rt W1826 (hd rfl)) rfl rfl, ⟨pr3 mt_782 cf_782 (ei_782_14_KeelHouse_Formalong_I_I.rt W1826 (hd rfl)) rfl rfl, trivial⟩⟩⟩,
  ⟨fun hd => mk31 ⟨pr3 mt_779 cf_779 (ei_779_12_KeelHouse_Formup_I_I.rt W1882 (hd rfl)) rfl rfl, ⟨pr3 mt_781 cf_781 (ei_781_13_KeelHouse_Formup_I_I.rt W1882 (hd rfl)) rfl rfl, ⟨pr3 mt_783 cf_783 (ei_783_14_KeelHouse_Formup_I_I.rt W1882 (hd rfl)) rfl rfl, trivial⟩⟩⟩,
  ⟨fun hd => ⟨_, _, _, rfl, rfl, hd rfl, Or.inl ⟨rfl, rfl, rfl⟩⟩,
  trivial⟩⟩⟩⟩⟩⟩⟩⟩⟩⟩⟩⟩⟩
theorem fe_516 : eqEs ((flat code_516).filter (fun e => ndE e.2.2.1)) (fl_516_0) = true := by decide +kernel
theorem om_516 : OKm mi iT prg 516 := OKm_of (code := code_516) rfl mt_516 (Or.inl (by decide +kernel)) rfl wk_516 (by decide +kernel) (by decide +kernel) (FA_of fe_516 (fb_516_0))
def fl_517_0 : List Ent := [(3, 3, 19, .invokevirtual 42, [0, 3, 3, 16, 497], 0), (9, 3, 6, .getfield 9, [3, 16, 65], 0), (18, 1, 9, .iastore, [0, 100], 0)]
theorem fb_517_0 : FB mi iT mi_517 (bpc code_517) (fl_517_0) := ⟨fun hd => mk19 mt_497 cf_497 (vf_497_16.rt (Or.inl W595) (hd rfl)) rfl rfl (noH_nil rfl),
  ⟨fun hd => mk6 fld_16_3 (Or.inl ⟨rfl, by decide⟩) (Or.inl W1918) (Or.inl rfl) (hd rfl),
  ⟨fun hd => ⟨_, _, _, rfl, rfl, hd rfl, Or.inl ⟨rfl, rfl, rfl⟩⟩,
  trivial⟩⟩⟩
theorem fe_517 : eqEs ((flat code_517).filter (fun e => ndE e.2.2.1)) (fl_517_0) = true := by decide +kernel
theorem om_517 : OKm mi iT prg 517 := OKm_of (code := code_517) rfl mt_517 (Or.inl (by decide +kernel)) rfl wk_517 (by decide +kernel) (by decide +kernel) (FA_of fe_517 (fb_517_0))
def fl_518_0 : List Ent := [(22, 3, 19, .invokevirtual 42, [0, 3, 3, 16, 497], 0), (30, 3, 19, .invokevirtual 42, [0, 3, 3, 16, 497], 0), (41, 3, 19, .invokevirtual 42, [0, 3, 3, 16, 497], 0), (47, 3, 18, .invokestatic 46, [0, 1, 1, 70], 0), (60, 3, 19, .invokevirtual 51, [0, 4, 4, 16, 517], 0)]
theorem fb_518_0 : FB mi iT mi_518 (bpc code_518) (fl_518_0) := ⟨fun hd => mk19 mt_497 cf_497 (vf_497_16.rt (Or.inl W595) (hd rfl)) rfl rfl (noH_nil rfl),
  ⟨fun hd => mk19 mt_497 cf_497 (vf_497_16.rt (Or.inl W595) (hd rfl)) rfl rfl (noH_nil rfl),
  ⟨fun hd => mk19 mt_497 cf_497 (vf_497_16.rt (Or.inl W595) (hd rfl)) rfl rfl (noH_nil rfl),
  ⟨fun hd => mk18 mt_70 sf_70 (Or.inl W2574) rfl rfl (noH_nil rfl) (hd rfl),
  ⟨fun hd => mk19 mt_517 cf_517 (vf_517_16.rt (Or.inl W2575) (hd rfl)) rfl rfl (noH_nil rfl),
  trivial⟩⟩⟩⟩⟩
theorem fe_518 : eqEs ((flat code_518).filter (fun e => ndE e.2.2.1)) (fl_518_0) = true := by decide +kernel
theorem om_518 : OKm mi iT prg 518 := OKm_of (code := code_518) rfl mt_518 (Or.inl (by decide +kernel)) rfl wk_518 (by decide +kernel) (by decide +kernel) (FA_of fe_518 (fb_518_0))
def fl_519_0 : List Ent := [(1, 39, 5, .tableswitch 75 0 5 #[39, 45, 51, 57, 63, 69], [7, 0, 1, 1, 2, 2, 3, 3, 4, 4, 5, 5, 6], 0), (42, 3, 19, .invokevirtual 88, [2, 2, 3, 16, 501], 0), (48, 3, 19, .invokevirtual 107, [2, 2, 3, 16, 513], 0), (54, 3, 19, .invokevirtual 110, [2, 2, 3, 16, 507], 0), (60, 3, 19, .invokevirtual 113, [2, 2, 3, 16, 520], 0), (66, 3, 19, .invokevirtual 116, [2, 2, 3, 16, 510], 0), (72, 3, 19, .invokevirtual 119, [2, 2, 3, 16, 511], 0), (78, 3, 19, .invokevirtual 121, [2, 2, 3, 16, 515], 0)]
theorem fb_519_0 : FB mi iT mi_519 (bpc code_519) (fl_519_0) := ⟨fun hd => ⟨_, _, rfl, Or.inl ⟨75, 0, 5, #[39, 45, 51, 57, 63, 69], 6, 39, (show decode prog_28_method_21_code 1 = .ok (.tableswitch 75 0 5 #[39, 45, 51, 57, 63, 69], 39) by decide +kernel), by decide, by decide +kernel⟩⟩,
  ⟨fun hd => mk19 mt_501 cf_501 (vf_501_16.rt (Or.inl W1241) (hd rfl)) rfl rfl (noH_nil rfl),
  ⟨fun hd => mk19 mt_513 cf_513 (vf_513_16.rt (Or.inl W2595) (hd rfl)) rfl rfl (noH_nil rfl),
  ⟨fun hd => mk19 mt_507 cf_507 (vf_507_16.rt (Or.inl W2596) (hd rfl)) rfl rfl (noH_nil rfl),
  ⟨fun hd => mk19 mt_520 cf_520 (vf_520_16.rt (Or.inl W2597) (hd rfl)) rfl rfl (noH_nil rfl),
  ⟨fun hd => mk19 mt_510 cf_510 (vf_510_16.rt (Or.inl W2601) (hd rfl)) rfl rfl (noH_nil rfl),
  ⟨fun hd => mk19 mt_511 cf_511 (vf_511_16.rt (Or.inl W2602) (hd rfl)) rfl rfl (noH_nil rfl),
  ⟨fun hd => mk19 mt_515 cf_515 (vf_515_16.rt (Or.inl W2603) (hd rfl)) rfl rfl (noH_nil rfl),
  trivial⟩⟩⟩⟩⟩⟩⟩⟩
theorem fe_519 : eqEs ((flat code_519).filter (fun e => ndE e.2.2.1)) (fl_519_0) = true := by decide +kernel
theorem om_519 : OKm mi iT prg 519 := OKm_of (code := code_519) rfl mt_519 (Or.inl (by decide +kernel)) rfl wk_519 (by decide +kernel) (by decide +kernel) (FA_of fe_519 (fb_519_0))
def fl_520_0 : List Ent := [(9, 3, 6, .getfield 15, [3, 16, 66], 0), (13, 3, 15, .ldc2_w 78, [4611686018427387904], 0), (19, 3, 19, .invokevirtual 72, [2, 3, 4, 16, 505], 0), (23, 1, 9, .dastore, [2, 103], 0), (31, 3, 19, .invokevirtual 85, [2, 1, 1, 16, 506], 0)]
theorem fb_520_0 : FB mi iT mi_520 (bpc code_520) (fl_520_0) := ⟨fun hd => mk6 fld_16_4 (Or.inl ⟨rfl, by decide⟩) (Or.inl W1920) (Or.inl rfl) (hd rfl),
  ⟨fun hd => mk15 W600 (hd rfl),
  ⟨fun hd => mk19 mt_505 cf_505 (vf_505_16.rt (Or.inl W1259) (hd rfl)) rfl rfl (noH_nil rfl),
  ⟨fun hd => ⟨_, _, _, rfl, rfl, hd rfl, Or.inr (Or.inl ⟨rfl, rfl, rfl⟩)⟩,
  ⟨fun hd => mk19 mt_506 cf_506 (vf_506_16.rt (Or.inl W1264) (hd rfl)) rfl rfl (noH_nil rfl),
  trivial⟩⟩⟩⟩⟩
theorem fe_520 : eqEs ((flat code_520).filter (fun e => ndE e.2.2.1)) (fl_520_0) = true := by decide +kernel
theorem om_520 : OKm mi iT prg 520 := OKm_of (code := code_520) rfl mt_520 (Or.inl (by decide +kernel)) rfl wk_520 (by decide +kernel) (by decide +kernel) (FA_of fe_520 (fb_520_0))
def fl_521_0 : List Ent := [(1, 3, 6, .getfield 16, [3, 20, 86], 0), (4, 3, 6, .getfield 20, [3, 22, 102], 0), (9, 3, 19, .invokevirtual 28, [0, 2, 2, 12, 612], 0), (16, 3, 6, .getfield 32, [0, 20, 88], 0), (20, 3, 15, .ldc2_w 36, [4618441417868443648], 0), (24, 3, 15, .ldc2_w 38, [4617315517961601024], 0)]
theorem fb_521_0 : FB mi iT mi_521 (bpc code_521) (fl_521_0) := ⟨fun hd => mk6 fld_20_0 (Or.inl ⟨rfl, by decide⟩) (Or.inl W1971) (Or.inl rfl) (hd rfl),
  ⟨fun hd => mk6 fld_22_10 (Or.inl ⟨rfl, by decide⟩) (Or.inr ⟨_, W2286⟩) (Or.inl rfl) (hd rfl),
  ⟨fun hd => mk19 mt_612 cf_612 (vf_612_12.rt (Or.inl W1100) (hd rfl)) rfl rfl (noH_nil rfl),
  ⟨fun hd => mk6 fld_20_2 (Or.inl ⟨rfl, by decide⟩) (Or.inl W1975) (Or.inl rfl) (hd rfl),
  ⟨fun hd => mk15 W1104 (hd rfl),
  ⟨fun hd => mk15 W1105 (hd rfl),
  trivial⟩⟩⟩⟩⟩⟩
theorem fe_521 : eqEs ((flat code_521).filter (fun e => ndE e.2.2.1)) (fl_521_0) = true := by decide +kernel
theorem om_521 : OKm mi iT prg 521 := OKm_of (code := code_521) rfl mt_521 (Or.inl (by decide +kernel)) rfl wk_521 (by decide +kernel) (by decide +kernel) (FA_of fe_521 (fb_521_0))
theorem fe_522 : eqEs ((flat code_522).filter (fun e => ndE e.2.2.1)) ([]) = true := by decide +kernel
theorem om_522 : OKm mi iT prg 522 := OKm_of (code := code_522) rfl mt_522 (Or.inl (by decide +kernel)) rfl wk_522 (by decide +kernel) (by decide +kernel) (FA_of fe_522 (trivial))
def fl_523_0 : List Ent := [(1, 3, 6, .getfield 16, [3, 20, 86], 0), (4, 3, 6, .getfield 40, [3, 22, 93], 0), (7, 3, 6, .getfield 44, [0, 16, 64], 0), (11, 3, 15, .ldc2_w 49, [4598175219545276416], 0)]
theorem fb_523_0 : FB mi iT mi_523 (bpc code_523) (fl_523_0) := ⟨fun hd => mk6 fld_20_0 (Or.inl ⟨rfl, by decide⟩) (Or.inl W1971) (Or.inl rfl) (hd rfl),
  ⟨fun hd => mk6 fld_22_1 (Or.inl ⟨rfl, by decide⟩) (Or.inr ⟨_, W2244⟩) (Or.inl rfl) (hd rfl),
  ⟨fun hd => mk6 fld_16_2 (Or.inl ⟨rfl, by decide⟩) (Or.inr ⟨_, W1914⟩) (Or.inl rfl) (hd rfl),
  ⟨fun hd => mk15 W1220 (hd rfl),
  trivial⟩⟩⟩⟩
theorem fe_523 : eqEs ((flat code_523).filter (fun e => ndE e.2.2.1)) (fl_523_0) = true := by decide +kernel
theorem om_523 : OKm mi iT prg 523 := OKm_of (code := code_523) rfl mt_523 (Or.inl (by decide +kernel)) rfl wk_523 (by decide +kernel) (by decide +kernel) (FA_of fe_523 (fb_523_0))
def fl_524_0 : List Ent := [(1, 47, 5, .tableswitch 108 0 7 #[47, 52, 63, 71, 79, 87, 95, 100], [9, 0, 1, 1, 2, 2, 3, 3, 4, 4, 5, 5, 6, 6, 7, 7, 8], 0), (49, 3, 6, .getfield 32, [0, 20, 88], 0), (54, 3, 6, .getfield 10, [3, 20, 87], 0), (57, 3, 6, .getfield 105, [3, 13, 51], 0), (60, 3, 19, .invokevirtual 109, [0, 1, 1, 5, 5], 0), (65, 3, 6, .getfield 10, [3, 20, 87], 0), (68, 3, 19, .invokevirtual 51, [0, 1, 1, 13, 530], 0), (73, 3, 6, .getfield 10, [3, 20, 87], 0), (76, 3, 19, .invokevirtual 114, [0, 1, 1, 13, 535], 0), (81, 3, 6, .getfield 10, [3, 20, 87], 0), (84, 3, 19, .invokevirtual 117, [0, 1, 1, 13, 537], 0), (89, 3, 6, .getfield 10, [3, 20, 87], 0), (92, 3, 19, .invokevirtual 120, [0, 1, 1, 13, 538], 0), (97, 3, 19, .invokevirtual 123, [0, 1, 1, 20, 525], 0), (102, 3, 6, .getfield 10, [3, 20, 87], 0), (105, 3, 19, .invokevirtual 126, [0, 1, 1, 13, 539], 0), (110, 3, 6, .getfield 10, [3, 20, 87], 0), (113, 3, 19, .invokevirtual 129, [0, 1, 1, 13, 541], 0)]
theorem fb_524_0 : FB mi iT mi_524 (bpc code_524) (fl_524_0) := ⟨fun hd => ⟨_, _, rfl, Or.inl ⟨108, 0, 7, #[47, 52, 63, 71, 79, 87, 95, 100], 8, 47, (show decode prog_18_method_8_code 1 = .ok (.tableswitch 108 0 7 #[47, 52, 63, 71, 79, 87, 95, 100], 47) by decide +kernel), by decide, by decide +kernel⟩⟩,
  ⟨fun hd => mk6 fld_20_2 (Or.inl ⟨rfl, by decide⟩) (Or.inl W1975) (Or.inl rfl) (hd rfl),
  ⟨fun hd => mk6 fld_20_1 (Or.inl ⟨rfl, by decide⟩) (Or.inl W1972) (Or.inl rfl) (hd rfl),
  ⟨fun hd => mk6 fld_13_0 (Or.inl ⟨rfl, by decide⟩) (Or.inr ⟨_, W1956⟩) (Or.inl rfl) (hd rfl),
  ⟨fun hd => mk19 mt_5 cf_5 (vf_5_5.rt (Or.inl W1577) (hd rfl)) rfl rfl (noH_nil rfl),
  ⟨fun hd => mk6 fld_20_1 (Or.inl ⟨rfl, by decide⟩) (Or.inl W1972) (Or.inl rfl) (hd rfl),
  ⟨fun hd => mk19 mt_530 cf_530 (vf_530_13.rt (Or.inl W1578) (hd rfl)) rfl rfl (noH_nil rfl),
  ⟨fun hd => mk6 fld_20_1 (Or.inl ⟨rfl, by decide⟩) (Or.inl W1972) (Or.inl rfl) (hd rfl),
  ⟨fun hd => mk19 mt_535 cf_535 (vf_535_13.rt (Or.inl W1579) (hd rfl)) rfl rfl (noH_nil rfl),
  ⟨fun hd => mk6 fld_20_1 (Or.inl ⟨rfl, by decide⟩) (Or.inl W1972) (Or.inl rfl) (hd rfl),
  ⟨fun hd => mk19 mt_537 cf_537 (vf_537_13.rt (Or.inl W1580) (hd rfl)) rfl rfl (noH_nil rfl),
  ⟨fun hd => mk6 fld_20_1 (Or.inl ⟨rfl, by decide⟩) (Or.inl W1972) (Or.inl rfl) (hd rfl),
  ⟨fun hd => mk19 mt_538 cf_538 (vf_538_13.rt (Or.inl W1584) (hd rfl)) rfl rfl (noH_nil rfl),
  ⟨fun hd => mk19 mt_525 cf_525 (vf_525_20.rt (Or.inl W1588) (hd rfl)) rfl rfl (noH_nil rfl),
  ⟨fun hd => mk6 fld_20_1 (Or.inl ⟨rfl, by decide⟩) (Or.inl W1972) (Or.inl rfl) (hd rfl),
  ⟨fun hd => mk19 mt_539 cf_539 (vf_539_13.rt (Or.inl W1593) (hd rfl)) rfl rfl (noH_nil rfl),
  ⟨fun hd => mk6 fld_20_1 (Or.inl ⟨rfl, by decide⟩) (Or.inl W1972) (Or.inl rfl) (hd rfl),
  ⟨fun hd => mk19 mt_541 cf_541 (vf_541_13.rt (Or.inl W1601) (hd rfl)) rfl rfl (noH_nil rfl),
  trivial⟩⟩⟩⟩⟩⟩⟩⟩⟩⟩⟩⟩⟩⟩⟩⟩⟩⟩
theorem fe_524 : eqEs ((flat code_524).filter (fun e => ndE e.2.2.1)) (fl_524_0) = true := by decide +kernel
theorem om_524 : OKm mi iT prg 524 := OKm_of (code := code_524) rfl mt_524 (Or.inl (by decide +kernel)) rfl wk_524 (by decide +kernel) (by decide +kernel) (FA_of fe_524 (fb_524_0))
def fl_525_0 : List Ent := [(1, 3, 6, .getfield 16, [3, 20, 86], 0), (4, 3, 6, .getfield 20, [3, 22, 102], 0), (9, 3, 19, .invokevirtual 28, [0, 2, 2, 12, 612], 0), (18, 3, 6, .getfield 32, [0, 20, 88], 0), (25, 3, 6, .getfield 10, [3, 20, 87], 0), (28, 3, 19, .invokevirtual 51, [0, 1, 1, 13, 530], 0), (32, 3, 18, .invokestatic 55, [0, 2, 2, 67], 0)]
theorem fb_525_0 : FB mi iT mi_525 (bpc code_525) (fl_525_0) := ⟨fun hd => mk6 fld_20_0 (Or.inl ⟨rfl, by decide⟩) (Or.inl W1971) (Or.inl rfl) (hd rfl),
  ⟨fun hd => mk6 fld_22_10 (Or.inl ⟨rfl, by decide⟩) (Or.inr ⟨_, W2286⟩) (Or.inl rfl) (hd rfl),
  ⟨fun hd => mk19 mt_612 cf_612 (vf_612_12.rt (Or.inl W1100) (hd rfl)) rfl rfl (noH_nil rfl),
  ⟨fun hd => mk6 fld_20_2 (Or.inl ⟨rfl, by decide⟩) (Or.inl W1975) (Or.inl rfl) (hd rfl),
  ⟨fun hd => mk6 fld_20_1 (Or.inl ⟨rfl, by decide⟩) (Or.inl W1972) (Or.inl rfl) (hd rfl),
  ⟨fun hd => mk19 mt_530 cf_530 (vf_530_13.rt (Or.inl W1578) (hd rfl)) rfl rfl (noH_nil rfl),
  ⟨fun hd => mk18 mt_67 sf_67 (Or.inl W1592) rfl rfl (noH_nil rfl) (hd rfl),
  trivial⟩⟩⟩⟩⟩⟩⟩
theorem fe_525 : eqEs ((flat code_525).filter (fun e => ndE e.2.2.1)) (fl_525_0) = true := by decide +kernel
theorem om_525 : OKm mi iT prg 525 := OKm_of (code := code_525) rfl mt_525 (Or.inl (by decide +kernel)) rfl wk_525 (by decide +kernel) (by decide +kernel) (FA_of fe_525 (fb_525_0))
def fl_526_0 : List Ent := [(1, 3, 6, .getfield 16, [3, 20, 86], 0), (4, 3, 6, .getfield 68, [3, 22, 99], 0), (7, 3, 19, .invokevirtual 83, [9, 1, 1, 17, 547], 0), (11, 3, 6, .getfield 16, [3, 20, 86], 0), (14, 3, 6, .getfield 68, [3, 22, 99], 0), (17, 3, 19, .invokevirtual 86, [0, 1, 1, 17, 549], 0), (26, 3, 6, .getfield 16, [3, 20, 86], 0), (29, 3, 6, .getfield 40, [3, 22, 93], 0), (33, 3, 6, .getfield 16, [3, 20, 86], 0), (36, 3, 6, .getfield 68, [3, 22, 99], 0), (39, 3, 6, .getfield 90, [2, 17, 72], 0), (42, 3, 19, .invokevirtual 93, [2, 2, 3, 16, 515], 0), (49, 3, 15, .ldc2_w 97, [4629700416936869888], 0), (69, 3, 15, .ldc2_w 99, [4611686018427387904], 0), (79, 3, 19, .invokevirtual 101, [2, 3, 5, 20, 527], 0)]
theorem fb_526_0 : FB mi iT mi_526 (bpc code_526) (fl_526_0) := ⟨fun hd => mk6 fld_20_0 (Or.inl ⟨rfl, by decide⟩) (Or.inl W1971) (Or.inl rfl) (hd rfl),
  ⟨fun hd => mk6 fld_22_7 (Or.inl ⟨rfl, by decide⟩) (Or.inr ⟨_, W2272⟩) (Or.inl rfl) (hd rfl),
  ⟨fun hd => mk19 mt_547 cf_547 (vf_547_17.rt (Or.inl W1684) (hd rfl)) rfl rfl (noH_nil rfl),
  ⟨fun hd => mk6 fld_20_0 (Or.inl ⟨rfl, by decide⟩) (Or.inl W1971) (Or.inl rfl) (hd rfl),
  ⟨fun hd => mk6 fld_22_7 (Or.inl ⟨rfl, by decide⟩) (Or.inr ⟨_, W2272⟩) (Or.inl rfl) (hd rfl),
  ⟨fun hd => mk19 mt_549 cf_549 (vf_549_17.rt (Or.inl W1685) (hd rfl)) rfl rfl (noH_nil rfl),
  ⟨fun hd => mk6 fld_20_0 (Or.inl ⟨rfl, by decide⟩) (Or.inl W1971) (Or.inl rfl) (hd rfl),
  ⟨fun hd => mk6 fld_22_1 (Or.inl ⟨rfl, by decide⟩) (Or.inr ⟨_, W2244⟩) (Or.inl rfl) (hd rfl),
  ⟨fun hd => mk6 fld_20_0 (Or.inl ⟨rfl, by decide⟩) (Or.inl W1971) (Or.inl rfl) (hd rfl),
  ⟨fun hd => mk6 fld_22_7 (Or.inl ⟨rfl, by decide⟩) (Or.inr ⟨_, W2272⟩) (Or.inl rfl) (hd rfl),
  ⟨fun hd => mk6 fld_17_5 (Or.inl ⟨rfl, by decide⟩) (Or.inr ⟨_, W2004⟩) (Or.inl rfl) (hd rfl),
  ⟨fun hd => mk19 mt_515 cf_515 (vf_515_16.rt (Or.inl W1686) (hd rfl)) rfl rfl (noH_nil rfl),
  ⟨fun hd => mk15 W1690 (hd rfl),
  ⟨fun hd => mk15 W1691 (hd rfl),
  ⟨fun hd => mk19 mt_527 cf_527 (vf_527_20.rt (Or.inl W1692) (hd rfl)) rfl rfl (noH_nil rfl),
  trivial⟩⟩⟩⟩⟩⟩⟩⟩⟩⟩⟩⟩⟩⟩⟩
theorem fe_526 : eqEs ((flat code_526).filter (fun e => ndE e.2.2.1)) (fl_526_0) = true := by decide +kernel
theorem om_526 : OKm mi iT prg 526 := OKm_of (code := code_526) rfl mt_526 (Or.inl (by decide +kernel)) rfl wk_526 (by decide +kernel) (by decide +kernel) (FA_of fe_526 (fb_526_0))
def fl_527_0 : List Ent := [(1, 3, 15, .ldc2_w 61, [4620693217682128896], 0), (5, 3, 6, .getfield 16, [3, 20, 86], 0), (8, 3, 6, .getfield 63, [0, 22, 110], 0), (14, 3, 15, .ldc2_w 61, [4620693217682128896], 0), (24, 3, 15, .ldc2_w 66, [4639833516098453504], 0), (33, 3, 6, .getfield 16, [3, 20, 86], 0), (36, 3, 6, .getfield 68, [3, 22, 99], 0), (39, 3, 6, .getfield 72, [2, 17, 68], 0), (51, 3, 6, .getfield 16, [3, 20, 86], 0), (54, 3, 6, .getfield 40, [3, 22, 93], 0), (57, 3, 6, .getfield 78, [0, 16, 63], 0), (61, 3, 15, .ldc2_w 81, [4643985272004935680], 0)]
theorem fb_527_0 : FB mi iT mi_527 (bpc code_527) (fl_527_0) := ⟨fun hd => mk15 W1697 (hd rfl),
  ⟨fun hd => mk6 fld_20_0 (Or.inl ⟨rfl, by decide⟩) (Or.inl W1971) (Or.inl rfl) (hd rfl),
  ⟨fun hd => mk6 fld_22_18 (Or.inl ⟨rfl, by decide⟩) (Or.inr ⟨_, W2312⟩) (Or.inl rfl) (hd rfl),
  ⟨fun hd => mk15 W1697 (hd rfl),
  ⟨fun hd => mk15 W1698 (hd rfl),
  ⟨fun hd => mk6 fld_20_0 (Or.inl ⟨rfl, by decide⟩) (Or.inl W1971) (Or.inl rfl) (hd rfl),
  ⟨fun hd => mk6 fld_22_7 (Or.inl ⟨rfl, by decide⟩) (Or.inr ⟨_, W2272⟩) (Or.inl rfl) (hd rfl),
  ⟨fun hd => mk6 fld_17_1 (Or.inl ⟨rfl, by decide⟩) (Or.inr ⟨_, W1995⟩) (Or.inl rfl) (hd rfl),
  ⟨fun hd => mk6 fld_20_0 (Or.inl ⟨rfl, by decide⟩) (Or.inl W1971) (Or.inl rfl) (hd rfl),
  ⟨fun hd => mk6 fld_22_1 (Or.inl ⟨rfl, by decide⟩) (Or.inr ⟨_, W2244⟩) (Or.inl rfl) (hd rfl),
  ⟨fun hd => mk6 fld_16_1 (Or.inl ⟨rfl, by decide⟩) (Or.inr ⟨_, W1904⟩) (Or.inl rfl) (hd rfl),
  ⟨fun hd => mk15 W1699 (hd rfl),
  trivial⟩⟩⟩⟩⟩⟩⟩⟩⟩⟩⟩⟩
theorem fe_527 : eqEs ((flat code_527).filter (fun e => ndE e.2.2.1)) (fl_527_0) = true := by decide +kernel
theorem om_527 : OKm mi iT prg 527 := OKm_of (code := code_527) rfl mt_527 (Or.inl (by decide +kernel)) rfl wk_527 (by decide +kernel) (by decide +kernel) (FA_of fe_527 (fb_527_0))
def fl_528_0 : List Ent := [(1, 3, 22, .invokespecial 1, [], 0), (5, 3, 11, .new 7, [13, 4], 0), (9, 3, 36, .invokespecial 9, [9, 1, 1, 13, 542], 0), (12, 3, 7, .putfield 10, [3, 20, 87], 0), (17, 3, 7, .putfield 16, [3, 20, 86], 0)]
theorem fb_528_0 : FB mi iT mi_528 (bpc code_528) (fl_528_0) := ⟨fun hd => mk22 (by decide) W1947 oi_w (hd rfl),
  ⟨fun hd => mk11 nf_13 W1948 (hd rfl),
  ⟨fun hd => mk36 mt_542 cf_542 (ic_542.rt (Or.inr ⟨_, W1949⟩) (hd rfl)) rfl rfl,
  ⟨fun hd => mk7 fld_20_1 (Or.inl W1972) (Or.inl rfl) (Or.inr ⟨rfl, rfl, rfl, W1972⟩) (hd rfl),
  ⟨fun hd => mk7 fld_20_0 (Or.inl W1971) (Or.inl rfl) (Or.inr ⟨rfl, rfl, rfl, W1971⟩) (hd rfl),
  trivial⟩⟩⟩⟩⟩
theorem fe_528 : eqEs ((flat code_528).filter (fun e => ndE e.2.2.1)) (fl_528_0) = true := by decide +kernel
theorem om_528 : OKm mi iT prg 528 := OKm_of (code := code_528) rfl mt_528 (Or.inl (by decide +kernel)) rfl wk_528 (by decide +kernel) (by decide +kernel) (FA_of fe_528 (fb_528_0))
def fl_529_0 : List Ent := [(1, 3, 19, .invokevirtual 89, [0, 1, 1, 13, 530], 0), (7, 3, 19, .invokevirtual 115, [0, 1, 1, 13, 535], 0), (10, 3, 19, .invokevirtual 118, [0, 2, 2, 13, 536], 0)]
theorem fb_529_0 : FB mi iT mi_529 (bpc code_529) (fl_529_0) := ⟨fun hd => mk19 mt_530 cf_530 (vf_530_13.rt (Or.inl W625) (hd rfl)) rfl rfl (noH_nil rfl),
  ⟨fun hd => mk19 mt_535 cf_535 (vf_535_13.rt (Or.inl W656) (hd rfl)) rfl rfl (noH_nil rfl),
  ⟨fun hd => mk19 mt_536 cf_536 (vf_536_13.rt (Or.inl W660) (hd rfl)) rfl rfl (noH_nil rfl),
  trivial⟩⟩⟩
theorem fe_529 : eqEs ((flat code_529).filter (fun e => ndE e.2.2.1)) (fl_529_0) = true := by decide +kernel
theorem om_529 : OKm mi iT prg 529 := OKm_of (code := code_529) rfl mt_529 (Or.inl (by decide +kernel)) rfl wk_529 (by decide +kernel) (by decide +kernel) (FA_of fe_529 (fb_529_0))
def fl_530_0 : List Ent := [(4, 3, 6, .getfield 12, [3, 13, 51], 0), (7, 3, 19, .invokevirtual 61, [0, 1, 1, 5, 5], 0), (14, 3, 6, .getfield 12, [3, 13, 51], 0), (18, 3, 19, .invokevirtual 65, [3, 2, 2, 5, 6], 0), (21, 3, 17, .checkcast 29, [32], 0), (25, 3, 7, .putfield 52, [0, 32, 165], 0), (37, 3, 19, .invokevirtual 79, [0, 1, 1, 13, 531], 0), (44, 3, 19, .invokevirtual 82, [0, 1, 1, 13, 533], 0), (50, 3, 19, .invokevirtual 85, [9, 2, 2, 13, 534], 0)]
theorem fb_530_0 : FB mi iT mi_530 (bpc code_530) (fl_530_0) := ⟨fun hd => mk6 fld_13_0 (Or.inl ⟨rfl, by decide⟩) (Or.inl W1955) (Or.inl rfl) (hd rfl),
  ⟨fun hd => mk19 mt_5 cf_5 (vf_5_5.rt (Or.inl W629) (hd rfl)) rfl rfl (noH_nil rfl),
  ⟨fun hd => mk6 fld_13_0 (Or.inl ⟨rfl, by decide⟩) (Or.inl W1955) (Or.inl rfl) (hd rfl),
  ⟨fun hd => mk19 mt_6 cf_6 (vf_6_5.rt (Or.inl W630) (hd rfl)) rfl rfl (noH_nil rfl),
  ⟨fun hd => mk17 kx_32 W631 (hd rfl),
  ⟨fun hd => mk7 fld_32_5 (Or.inr ⟨_, W3575⟩) (Or.inl rfl) (Or.inl rfl) (hd rfl),
  ⟨fun hd => mk19 mt_531 cf_531 (vf_531_13.rt (Or.inl W632) (hd rfl)) rfl rfl (noH_nil rfl),
  ⟨fun hd => mk19 mt_533 cf_533 (vf_533_13.rt (Or.inl W645) (hd rfl)) rfl rfl (noH_nil rfl),
  ⟨fun hd => mk19 mt_534 cf_534 (vf_534_13.rt (Or.inl W652) (hd rfl)) rfl rfl (noH_nil rfl),
  trivial⟩⟩⟩⟩⟩⟩⟩⟩⟩
theorem fe_530 : eqEs ((flat code_530).filter (fun e => ndE e.2.2.1)) (fl_530_0) = true := by decide +kernel
theorem om_530 : OKm mi iT prg 530 := OKm_of (code := code_530) rfl mt_530 (Or.inl (by decide +kernel)) rfl wk_530 (by decide +kernel) (by decide +kernel) (FA_of fe_530 (fb_530_0))
def fl_531_0 : List Ent := [(9, 3, 6, .getfield 18, [3, 13, 52], 0), (22, 1, 9, .bastore, [4, 101], 0), (34, 3, 6, .getfield 26, [3, 13, 54], 0), (39, 1, 9, .iastore, [0, 100], 0), (46, 3, 6, .getfield 26, [3, 13, 54], 0), (61, 3, 6, .getfield 12, [3, 13, 51], 0), (64, 3, 19, .invokevirtual 61, [0, 1, 1, 5, 5], 0), (72, 3, 6, .getfield 12, [3, 13, 51], 0), (77, 3, 19, .invokevirtual 65, [3, 2, 2, 5, 6], 0), (80, 3, 17, .checkcast 29, [32], 0), (86, 3, 19, .invokevirtual 69, [0, 4, 4, 13, 532], 0), (98, 3, 6, .getfield 18, [3, 13, 52], 0), (104, 1, 9, .bastore, [4, 101], 0), (106, 3, 6, .getfield 26, [3, 13, 54], 0), (112, 1, 9, .iastore, [0, 100], 0), (126, 3, 6, .getfield 18, [3, 13, 52], 0)]
theorem fb_531_0 : FB mi iT mi_531 (bpc code_531) (fl_531_0) := ⟨fun hd => mk6 fld_13_1 (Or.inl ⟨rfl, by decide⟩) (Or.inl W1958) (Or.inl rfl) (hd rfl),
  ⟨fun hd => ⟨_, _, _, rfl, rfl, hd rfl, Or.inr (Or.inr (Or.inl ⟨rfl, rfl, rfl⟩))⟩,
  ⟨fun hd => mk6 fld_13_3 (Or.inl ⟨rfl, by decide⟩) (Or.inl W1960) (Or.inl rfl) (hd rfl),
  ⟨fun hd => ⟨_, _, _, rfl, rfl, hd rfl, Or.inl ⟨rfl, rfl, rfl⟩⟩,
  ⟨fun hd => mk6 fld_13_3 (Or.inl ⟨rfl, by decide⟩) (Or.inl W1960) (Or.inl rfl) (hd rfl),
  ⟨fun hd => mk6 fld_13_0 (Or.inl ⟨rfl, by decide⟩) (Or.inl W1955) (Or.inl rfl) (hd rfl),
  ⟨fun hd => mk19 mt_5 cf_5 (vf_5_5.rt (Or.inl W629) (hd rfl)) rfl rfl (noH_nil rfl),
  ⟨fun hd => mk6 fld_13_0 (Or.inl ⟨rfl, by decide⟩) (Or.inl W1955) (Or.inl rfl) (hd rfl),
  ⟨fun hd => mk19 mt_6 cf_6 (vf_6_5.rt (Or.inl W630) (hd rfl)) rfl rfl (noH_nil rfl),
  ⟨fun hd => mk17 kx_32 W631 (hd rfl),
  ⟨fun hd => mk19 mt_532 cf_532 (vf_532_13.rt (Or.inl W637) (hd rfl)) rfl rfl (noH_nil rfl),
  ⟨fun hd => mk6 fld_13_1 (Or.inl ⟨rfl, by decide⟩) (Or.inl W1958) (Or.inl rfl) (hd rfl),
  ⟨fun hd => ⟨_, _, _, rfl, rfl, hd rfl, Or.inr (Or.inr (Or.inl ⟨rfl, rfl, rfl⟩))⟩,
  ⟨fun hd => mk6 fld_13_3 (Or.inl ⟨rfl, by decide⟩) (Or.inl W1960) (Or.inl rfl) (hd rfl),
  ⟨fun hd => ⟨_, _, _, rfl, rfl, hd rfl, Or.inl ⟨rfl, rfl, rfl⟩⟩,
  ⟨fun hd => mk6 fld_13_1 (Or.inl ⟨rfl, by decide⟩) (Or.inl W1958) (Or.inl rfl) (hd rfl),
  trivial⟩⟩⟩⟩⟩⟩⟩⟩⟩⟩⟩⟩⟩⟩⟩⟩
theorem fe_531 : eqEs ((flat code_531).filter (fun e => ndE e.2.2.1)) (fl_531_0) = true := by decide +kernel
theorem om_531 : OKm mi iT prg 531 := OKm_of (code := code_531) rfl mt_531 (Or.inl (by decide +kernel)) rfl wk_531 (by decide +kernel) (by decide +kernel) (FA_of fe_531 (fb_531_0))
def fl_532_0 : List Ent := [(1, 3, 19, .invokevirtual 44, [0, 1, 1, 32, 749], 0), (10, 3, 6, .getfield 48, [0, 32, 160], 0), (18, 3, 6, .getfield 52, [0, 32, 165], 0), (22, 3, 6, .getfield 55, [0, 32, 162], 0), (29, 3, 6, .getfield 18, [3, 13, 52], 0), (33, 3, 6, .getfield 58, [0, 32, 161], 0), (41, 3, 6, .getfield 22, [3, 13, 53], 0), (45, 3, 6, .getfield 58, [0, 32, 161], 0), (49, 1, 9, .iastore, [0, 100], 0), (51, 3, 6, .getfield 58, [0, 32, 161], 0), (56, 3, 6, .getfield 58, [0, 32, 161], 0), (64, 3, 6, .getfield 52, [0, 32, 165], 0), (71, 3, 6, .getfield 18, [3, 13, 52], 0), (75, 3, 6, .getfield 48, [0, 32, 160], 0), (83, 3, 6, .getfield 22, [3, 13, 53], 0), (87, 3, 6, .getfield 48, [0, 32, 160], 0), (94, 1, 9, .iastore, [0, 100], 0), (96, 3, 6, .getfield 48, [0, 32, 160], 0)]
theorem fb_532_0 : FB mi iT mi_532 (bpc code_532) (fl_532_0) := ⟨fun hd => mk19 mt_749 cf_749 (vf_749_32.rt (Or.inl W641) (hd rfl)) rfl rfl (noH_nil rfl),
  ⟨fun hd => mk6 fld_32_0 (Or.inl ⟨rfl, by decide⟩) (Or.inr ⟨_, W3564⟩) (Or.inl rfl) (hd rfl),
  ⟨fun hd => mk6 fld_32_5 (Or.inl ⟨rfl, by decide⟩) (Or.inr ⟨_, W3575⟩) (Or.inl rfl) (hd rfl),
  ⟨fun hd => mk6 fld_32_2 (Or.inl ⟨rfl, by decide⟩) (Or.inr ⟨_, W3568⟩) (Or.inl rfl) (hd rfl),
  ⟨fun hd => mk6 fld_13_1 (Or.inl ⟨rfl, by decide⟩) (Or.inl W1958) (Or.inl rfl) (hd rfl),
  ⟨fun hd => mk6 fld_32_1 (Or.inl ⟨rfl, by decide⟩) (Or.inr ⟨_, W3566⟩) (Or.inl rfl) (hd rfl),
  ⟨fun hd => mk6 fld_13_2 (Or.inl ⟨rfl, by decide⟩) (Or.inl W1959) (Or.inl rfl) (hd rfl),
  ⟨fun hd => mk6 fld_32_1 (Or.inl ⟨rfl, by decide⟩) (Or.inr ⟨_, W3566⟩) (Or.inl rfl) (hd rfl),
  ⟨fun hd => ⟨_, _, _, rfl, rfl, hd rfl, Or.inl ⟨rfl, rfl, rfl⟩⟩,
  ⟨fun hd => mk6 fld_32_1 (Or.inl ⟨rfl, by decide⟩) (Or.inr ⟨_, W3566⟩) (Or.inl rfl) (hd rfl),
  ⟨fun hd => mk6 fld_32_1 (Or.inl ⟨rfl, by decide⟩) (Or.inr ⟨_, W3566⟩) (Or.inl rfl) (hd rfl),
  ⟨fun hd => mk6 fld_32_5 (Or.inl ⟨rfl, by decide⟩) (Or.inr ⟨_, W3575⟩) (Or.inl rfl) (hd rfl),
  ⟨fun hd => mk6 fld_13_1 (Or.inl ⟨rfl, by decide⟩) (Or.inl W1958) (Or.inl rfl) (hd rfl),
  ⟨fun hd => mk6 fld_32_0 (Or.inl ⟨rfl, by decide⟩) (Or.inr ⟨_, W3564⟩) (Or.inl rfl) (hd rfl),
  ⟨fun hd => mk6 fld_13_2 (Or.inl ⟨rfl, by decide⟩) (Or.inl W1959) (Or.inl rfl) (hd rfl),
  ⟨fun hd => mk6 fld_32_0 (Or.inl ⟨rfl, by decide⟩) (Or.inr ⟨_, W3564⟩) (Or.inl rfl) (hd rfl),
  ⟨fun hd => ⟨_, _, _, rfl, rfl, hd rfl, Or.inl ⟨rfl, rfl, rfl⟩⟩,
  ⟨fun hd => mk6 fld_32_0 (Or.inl ⟨rfl, by decide⟩) (Or.inr ⟨_, W3564⟩) (Or.inl rfl) (hd rfl),
  trivial⟩⟩⟩⟩⟩⟩⟩⟩⟩⟩⟩⟩⟩⟩⟩⟩⟩⟩
theorem fe_532 : eqEs ((flat code_532).filter (fun e => ndE e.2.2.1)) (fl_532_0) = true := by decide +kernel
theorem om_532 : OKm mi iT prg 532 := OKm_of (code := code_532) rfl mt_532 (Or.inl (by decide +kernel)) rfl wk_532 (by decide +kernel) (by decide +kernel) (FA_of fe_532 (fb_532_0))
def fl_533_0 : List Ent := [(12, 3, 6, .getfield 12, [3, 13, 51], 0), (16, 3, 6, .getfield 22, [3, 13, 53], 0), (24, 3, 19, .invokevirtual 65, [3, 2, 2, 5, 6], 0), (27, 3, 17, .checkcast 29, [32], 0), (32, 3, 6, .getfield 22, [3, 13, 53], 0), (56, 3, 6, .getfield 55, [0, 32, 162], 0), (60, 3, 6, .getfield 52, [0, 32, 165], 0), (68, 3, 6, .getfield 52, [0, 32, 165], 0), (71, 3, 18, .invokestatic 73, [0, 2, 2, 67], 0), (81, 3, 6, .getfield 48, [0, 32, 160], 0), (88, 3, 6, .getfield 58, [0, 32, 161], 0)]
theorem fb_533_0 : FB mi iT mi_533 (bpc code_533) (fl_533_0) := ⟨fun hd => mk6 fld_13_0 (Or.inl ⟨rfl, by decide⟩) (Or.inl W1955) (Or.inl rfl) (hd rfl),
  ⟨fun hd => mk6 fld_13_2 (Or.inl ⟨rfl, by decide⟩) (Or.inl W1959) (Or.inl rfl) (hd rfl),
  ⟨fun hd => mk19 mt_6 cf_6 (vf_6_5.rt (Or.inl W630) (hd rfl)) rfl rfl (noH_nil rfl),
  ⟨fun hd => mk17 kx_32 W631 (hd rfl),
  ⟨fun hd => mk6 fld_13_2 (Or.inl ⟨rfl, by decide⟩) (Or.inl W1959) (Or.inl rfl) (hd rfl),
  ⟨fun hd => mk6 fld_32_2 (Or.inl ⟨rfl, by decide⟩) (Or.inr ⟨_, W3568⟩) (Or.inl rfl) (hd rfl),
  ⟨fun hd => mk6 fld_32_5 (Or.inl ⟨rfl, by decide⟩) (Or.inr ⟨_, W3575⟩) (Or.inl rfl) (hd rfl),
  ⟨fun hd => mk6 fld_32_5 (Or.inl ⟨rfl, by decide⟩) (Or.inr ⟨_, W3575⟩) (Or.inl rfl) (hd rfl),
  ⟨fun hd => mk18 mt_67 sf_67 (Or.inl W649) rfl rfl (noH_nil rfl) (hd rfl),
  ⟨fun hd => mk6 fld_32_0 (Or.inl ⟨rfl, by decide⟩) (Or.inr ⟨_, W3564⟩) (Or.inl rfl) (hd rfl),
  ⟨fun hd => mk6 fld_32_1 (Or.inl ⟨rfl, by decide⟩) (Or.inr ⟨_, W3566⟩) (Or.inl rfl) (hd rfl),
  trivial⟩⟩⟩⟩⟩⟩⟩⟩⟩⟩⟩
theorem fe_533 : eqEs ((flat code_533).filter (fun e => ndE e.2.2.1)) (fl_533_0) = true := by decide +kernel
theorem om_533 : OKm mi iT prg 533 := OKm_of (code := code_533) rfl mt_533 (Or.inl (by decide +kernel)) rfl wk_533 (by decide +kernel) (by decide +kernel) (FA_of fe_533 (fb_533_0))
def fl_534_0 : List Ent := [(8, 3, 6, .getfield 12, [3, 13, 51], 0), (12, 3, 6, .getfield 22, [3, 13, 53], 0), (20, 3, 19, .invokevirtual 65, [3, 2, 2, 5, 6], 0), (23, 3, 17, .checkcast 29, [32], 0), (28, 3, 6, .getfield 22, [3, 13, 53], 0), (47, 3, 6, .getfield 52, [0, 32, 165], 0), (62, 3, 7, .putfield 52, [0, 32, 165], 0), (71, 3, 6, .getfield 48, [0, 32, 160], 0), (78, 3, 6, .getfield 58, [0, 32, 161], 0)]
theorem fb_534_0 : FB mi iT mi_534 (bpc code_534) (fl_534_0) := ⟨fun hd => mk6 fld_13_0 (Or.inl ⟨rfl, by decide⟩) (Or.inl W1955) (Or.inl rfl) (hd rfl),
  ⟨fun hd => mk6 fld_13_2 (Or.inl ⟨rfl, by decide⟩) (Or.inl W1959) (Or.inl rfl) (hd rfl),
  ⟨fun hd => mk19 mt_6 cf_6 (vf_6_5.rt (Or.inl W630) (hd rfl)) rfl rfl (noH_nil rfl),
  ⟨fun hd => mk17 kx_32 W631 (hd rfl),
  ⟨fun hd => mk6 fld_13_2 (Or.inl ⟨rfl, by decide⟩) (Or.inl W1959) (Or.inl rfl) (hd rfl),
  ⟨fun hd => mk6 fld_32_5 (Or.inl ⟨rfl, by decide⟩) (Or.inr ⟨_, W3575⟩) (Or.inl rfl) (hd rfl),
  ⟨fun hd => mk7 fld_32_5 (Or.inr ⟨_, W3575⟩) (Or.inl rfl) (Or.inl rfl) (hd rfl),
  ⟨fun hd => mk6 fld_32_0 (Or.inl ⟨rfl, by decide⟩) (Or.inr ⟨_, W3564⟩) (Or.inl rfl) (hd rfl),
  ⟨fun hd => mk6 fld_32_1 (Or.inl ⟨rfl, by decide⟩) (Or.inr ⟨_, W3566⟩) (Or.inl rfl) (hd rfl),
  trivial⟩⟩⟩⟩⟩⟩⟩⟩⟩
theorem fe_534 : eqEs ((flat code_534).filter (fun e => ndE e.2.2.1)) (fl_534_0) = true := by decide +kernel
theorem om_534 : OKm mi iT prg 534 := OKm_of (code := code_534) rfl mt_534 (Or.inl (by decide +kernel)) rfl wk_534 (by decide +kernel) (by decide +kernel) (FA_of fe_534 (fb_534_0))
def fl_535_0 : List Ent := [(1, 3, 19, .invokevirtual 89, [0, 1, 1, 13, 530], 0), (11, 3, 6, .getfield 12, [3, 13, 51], 0), (14, 3, 19, .invokevirtual 61, [0, 1, 1, 5, 5], 0), (21, 3, 6, .getfield 12, [3, 13, 51], 0), (25, 3, 19, .invokevirtual 65, [3, 2, 2, 5, 6], 0), (28, 3, 17, .checkcast 29, [32], 0), (34, 3, 19, .invokevirtual 44, [0, 1, 1, 32, 749], 0), (41, 3, 6, .getfield 18, [3, 13, 52], 0), (45, 3, 6, .getfield 48, [0, 32, 160], 0), (53, 3, 6, .getfield 18, [3, 13, 52], 0), (57, 3, 6, .getfield 58, [0, 32, 161], 0)]
theorem fb_535_0 : FB mi iT mi_535 (bpc code_535) (fl_535_0) := ⟨fun hd => mk19 mt_530 cf_530 (vf_530_13.rt (Or.inl W625) (hd rfl)) rfl rfl (noH_nil rfl),
  ⟨fun hd => mk6 fld_13_0 (Or.inl ⟨rfl, by decide⟩) (Or.inl W1955) (Or.inl rfl) (hd rfl),
  ⟨fun hd => mk19 mt_5 cf_5 (vf_5_5.rt (Or.inl W629) (hd rfl)) rfl rfl (noH_nil rfl),
  ⟨fun hd => mk6 fld_13_0 (Or.inl ⟨rfl, by decide⟩) (Or.inl W1955) (Or.inl rfl) (hd rfl),
  ⟨fun hd => mk19 mt_6 cf_6 (vf_6_5.rt (Or.inl W630) (hd rfl)) rfl rfl (noH_nil rfl),
  ⟨fun hd => mk17 kx_32 W631 (hd rfl),
  ⟨fun hd => mk19 mt_749 cf_749 (vf_749_32.rt (Or.inl W641) (hd rfl)) rfl rfl (noH_nil rfl),
  ⟨fun hd => mk6 fld_13_1 (Or.inl ⟨rfl, by decide⟩) (Or.inl W1958) (Or.inl rfl) (hd rfl),
  ⟨fun hd => mk6 fld_32_0 (Or.inl ⟨rfl, by decide⟩) (Or.inr ⟨_, W3564⟩) (Or.inl rfl) (hd rfl),
  ⟨fun hd => mk6 fld_13_1 (Or.inl ⟨rfl, by decide⟩) (Or.inl W1958) (Or.inl rfl) (hd rfl),
  ⟨fun hd => mk6 fld_32_1 (Or.inl ⟨rfl, by decide⟩) (Or.inr ⟨_, W3566⟩) (Or.inl rfl) (hd rfl),
  trivial⟩⟩⟩⟩⟩⟩⟩⟩⟩⟩⟩
theorem fe_535 : eqEs ((flat code_535).filter (fun e => ndE e.2.2.1)) (fl_535_0) = true := by decide +kernel
theorem om_535 : OKm mi iT prg 535 := OKm_of (code := code_535) rfl mt_535 (Or.inl (by decide +kernel)) rfl wk_535 (by decide +kernel) (by decide +kernel) (FA_of fe_535 (fb_535_0))
def fl_536_0 : List Ent := [(6, 3, 6, .getfield 12, [3, 13, 51], 0), (9, 3, 19, .invokevirtual 61, [0, 1, 1, 5, 5], 0), (22, 3, 6, .getfield 12, [3, 13, 51], 0), (26, 3, 19, .invokevirtual 65, [3, 2, 2, 5, 6], 0), (29, 3, 17, .checkcast 29, [32], 0), (32, 3, 6, .getfield 55, [0, 32, 162], 0)]
theorem fb_536_0 : FB mi iT mi_536 (bpc code_536) (fl_536_0) := ⟨fun hd => mk6 fld_13_0 (Or.inl ⟨rfl, by decide⟩) (Or.inl W1955) (Or.inl rfl) (hd rfl),
  ⟨fun hd => mk19 mt_5 cf_5 (vf_5_5.rt (Or.inl W629) (hd rfl)) rfl rfl (noH_nil rfl),
  ⟨fun hd => mk6 fld_13_0 (Or.inl ⟨rfl, by decide⟩) (Or.inl W1955) (Or.inl rfl) (hd rfl),
  ⟨fun hd => mk19 mt_6 cf_6 (vf_6_5.rt (Or.inl W630) (hd rfl)) rfl rfl (noH_nil rfl),
  ⟨fun hd => mk17 kx_32 W631 (hd rfl),
  ⟨fun hd => mk6 fld_32_2 (Or.inl ⟨rfl, by decide⟩) (Or.inr ⟨_, W3568⟩) (Or.inl rfl) (hd rfl),
  trivial⟩⟩⟩⟩⟩⟩
theorem fe_536 : eqEs ((flat code_536).filter (fun e => ndE e.2.2.1)) (fl_536_0) = true := by decide +kernel
theorem om_536 : OKm mi iT prg 536 := OKm_of (code := code_536) rfl mt_536 (Or.inl (by decide +kernel)) rfl wk_536 (by decide +kernel) (by decide +kernel) (FA_of fe_536 (fb_536_0))
def fl_537_0 : List Ent := [(6, 3, 6, .getfield 12, [3, 13, 51], 0), (9, 3, 19, .invokevirtual 61, [0, 1, 1, 5, 5], 0), (17, 3, 6, .getfield 12, [3, 13, 51], 0), (21, 3, 19, .invokevirtual 65, [3, 2, 2, 5, 6], 0), (24, 3, 17, .checkcast 29, [32], 0), (27, 3, 6, .getfield 99, [0, 32, 164], 0)]
theorem fb_537_0 : FB mi iT mi_537 (bpc code_537) (fl_537_0) := ⟨fun hd => mk6 fld_13_0 (Or.inl ⟨rfl, by decide⟩) (Or.inl W1955) (Or.inl rfl) (hd rfl),
  ⟨fun hd => mk19 mt_5 cf_5 (vf_5_5.rt (Or.inl W629) (hd rfl)) rfl rfl (noH_nil rfl),
  ⟨fun hd => mk6 fld_13_0 (Or.inl ⟨rfl, by decide⟩) (Or.inl W1955) (Or.inl rfl) (hd rfl),
  ⟨fun hd => mk19 mt_6 cf_6 (vf_6_5.rt (Or.inl W630) (hd rfl)) rfl rfl (noH_nil rfl),
  ⟨fun hd => mk17 kx_32 W631 (hd rfl),
  ⟨fun hd => mk6 fld_32_4 (Or.inr ⟨rfl, Or.inl rfl⟩) (Or.inr ⟨_, W3573⟩) (Or.inl rfl) (hd rfl),
  trivial⟩⟩⟩⟩⟩⟩
theorem fe_537 : eqEs ((flat code_537).filter (fun e => ndE e.2.2.1)) (fl_537_0) = true := by decide +kernel
theorem om_537 : OKm mi iT prg 537 := OKm_of (code := code_537) rfl mt_537 (Or.inl (by decide +kernel)) rfl wk_537 (by decide +kernel) (by decide +kernel) (FA_of fe_537 (fb_537_0))
def fl_538_0 : List Ent := [(6, 3, 6, .getfield 12, [3, 13, 51], 0), (9, 3, 19, .invokevirtual 61, [0, 1, 1, 5, 5], 0), (17, 3, 6, .getfield 12, [3, 13, 51], 0), (21, 3, 19, .invokevirtual 65, [3, 2, 2, 5, 6], 0), (24, 3, 17, .checkcast 29, [32], 0), (27, 3, 6, .getfield 91, [0, 32, 163], 0)]
theorem fb_538_0 : FB mi iT mi_538 (bpc code_538) (fl_538_0) := ⟨fun hd => mk6 fld_13_0 (Or.inl ⟨rfl, by decide⟩) (Or.inl W1955) (Or.inl rfl) (hd rfl),
  ⟨fun hd => mk19 mt_5 cf_5 (vf_5_5.rt (Or.inl W629) (hd rfl)) rfl rfl (noH_nil rfl),
  ⟨fun hd => mk6 fld_13_0 (Or.inl ⟨rfl, by decide⟩) (Or.inl W1955) (Or.inl rfl) (hd rfl),
  ⟨fun hd => mk19 mt_6 cf_6 (vf_6_5.rt (Or.inl W630) (hd rfl)) rfl rfl (noH_nil rfl),
  ⟨fun hd => mk17 kx_32 W631 (hd rfl),
  ⟨fun hd => mk6 fld_32_3 (Or.inr ⟨rfl, Or.inl rfl⟩) (Or.inr ⟨_, W3570⟩) (Or.inl rfl) (hd rfl),
  trivial⟩⟩⟩⟩⟩⟩
theorem fe_538 : eqEs ((flat code_538).filter (fun e => ndE e.2.2.1)) (fl_538_0) = true := by decide +kernel
theorem om_538 : OKm mi iT prg 538 := OKm_of (code := code_538) rfl mt_538 (Or.inl (by decide +kernel)) rfl wk_538 (by decide +kernel) (by decide +kernel) (FA_of fe_538 (fb_538_0))
def fl_539_0 : List Ent := [(1, 3, 19, .invokevirtual 89, [0, 1, 1, 13, 530], 0), (11, 3, 6, .getfield 12, [3, 13, 51], 0), (14, 3, 19, .invokevirtual 61, [0, 1, 1, 5, 5], 0), (21, 3, 6, .getfield 12, [3, 13, 51], 0), (25, 3, 19, .invokevirtual 65, [3, 2, 2, 5, 6], 0), (28, 3, 17, .checkcast 29, [32], 0), (35, 3, 19, .invokevirtual 44, [0, 1, 1, 32, 749], 0), (44, 3, 19, .invokevirtual 95, [0, 2, 2, 13, 540], 0)]
theorem fb_539_0 : FB mi iT mi_539 (bpc code_539) (fl_539_0) := ⟨fun hd => mk19 mt_530 cf_530 (vf_530_13.rt (Or.inl W625) (hd rfl)) rfl rfl (noH_nil rfl),
  ⟨fun hd => mk6 fld_13_0 (Or.inl ⟨rfl, by decide⟩) (Or.inl W1955) (Or.inl rfl) (hd rfl),
  ⟨fun hd => mk19 mt_5 cf_5 (vf_5_5.rt (Or.inl W629) (hd rfl)) rfl rfl (noH_nil rfl),
  ⟨fun hd => mk6 fld_13_0 (Or.inl ⟨rfl, by decide⟩) (Or.inl W1955) (Or.inl rfl) (hd rfl),
  ⟨fun hd => mk19 mt_6 cf_6 (vf_6_5.rt (Or.inl W630) (hd rfl)) rfl rfl (noH_nil rfl),
  ⟨fun hd => mk17 kx_32 W631 (hd rfl),
  ⟨fun hd => mk19 mt_749 cf_749 (vf_749_32.rt (Or.inl W641) (hd rfl)) rfl rfl (noH_nil rfl),
  ⟨fun hd => mk19 mt_540 cf_540 (vf_540_13.rt (Or.inl W1597) (hd rfl)) rfl rfl (noH_nil rfl),
  trivial⟩⟩⟩⟩⟩⟩⟩⟩
theorem fe_539 : eqEs ((flat code_539).filter (fun e => ndE e.2.2.1)) (fl_539_0) = true := by decide +kernel
theorem om_539 : OKm mi iT prg 539 := OKm_of (code := code_539) rfl mt_539 (Or.inl (by decide +kernel)) rfl wk_539 (by decide +kernel) (by decide +kernel) (FA_of fe_539 (fb_539_0))
def fl_540_0 : List Ent := [(2, 3, 7, .putfield 91, [4, 32, 163], 0), (6, 3, 19, .invokevirtual 89, [0, 1, 1, 13, 530], 0), (12, 3, 7, .putfield 91, [4, 32, 163], 0)]
theorem fb_540_0 : FB mi iT mi_540 (bpc code_540) (fl_540_0) := ⟨fun hd => mk7 fld_32_3 (Or.inr ⟨_, W3570⟩) (Or.inl rfl) (Or.inl rfl) (hd rfl),
  ⟨fun hd => mk19 mt_530 cf_530 (vf_530_13.rt (Or.inl W625) (hd rfl)) rfl rfl (noH_nil rfl),
  ⟨fun hd => mk7 fld_32_3 (Or.inr ⟨_, W3570⟩) (Or.inl rfl) (Or.inl rfl) (hd rfl),
  trivial⟩⟩⟩
theorem fe_540 : eqEs ((flat code_540).filter (fun e => ndE e.2.2.1)) (fl_540_0) = true := by decide +kernel
theorem om_540 : OKm mi iT prg 540 := OKm_of (code := code_540) rfl mt_540 (Or.inl (by decide +kernel)) rfl wk_540 (by decide +kernel) (by decide +kernel) (FA_of fe_540 (fb_540_0))
def fl_541_0 : List Ent := [(1, 3, 19, .invokevirtual 89, [0, 1, 1, 13, 530], 0), (9, 3, 6, .getfield 12, [3, 13, 51], 0), (12, 3, 19, .invokevirtual 61, [0, 1, 1, 5, 5], 0), (19, 3, 6, .getfield 12, [3, 13, 51], 0), (23, 3, 19, .invokevirtual 65, [3, 2, 2, 5, 6], 0), (26, 3, 17, .checkcast 29, [32], 0), (31, 3, 19, .invokevirtual 44, [0, 1, 1, 32, 749], 0), (40, 3, 19, .invokevirtual 95, [0, 2, 2, 13, 540], 0), (43, 3, 18, .invokestatic 73, [0, 2, 2, 67], 0)]
theorem fb_541_0 : FB mi iT mi_541 (bpc code_541) (fl_541_0) := ⟨fun hd => mk19 mt_530 cf_530 (vf_530_13.rt (Or.inl W625) (hd rfl)) rfl rfl (noH_nil rfl),
  ⟨fun hd => mk6 fld_13_0 (Or.inl ⟨rfl, by decide⟩) (Or.inl W1955) (Or.inl rfl) (hd rfl),
  ⟨fun hd => mk19 mt_5 cf_5 (vf_5_5.rt (Or.inl W629) (hd rfl)) rfl rfl (noH_nil rfl),
  ⟨fun hd => mk6 fld_13_0 (Or.inl ⟨rfl, by decide⟩) (Or.inl W1955) (Or.inl rfl) (hd rfl),
  ⟨fun hd => mk19 mt_6 cf_6 (vf_6_5.rt (Or.inl W630) (hd rfl)) rfl rfl (noH_nil rfl),
  ⟨fun hd => mk17 kx_32 W631 (hd rfl),
  ⟨fun hd => mk19 mt_749 cf_749 (vf_749_32.rt (Or.inl W641) (hd rfl)) rfl rfl (noH_nil rfl),
  ⟨fun hd => mk19 mt_540 cf_540 (vf_540_13.rt (Or.inl W1597) (hd rfl)) rfl rfl (noH_nil rfl),
  ⟨fun hd => mk18 mt_67 sf_67 (Or.inl W649) rfl rfl (noH_nil rfl) (hd rfl),
  trivial⟩⟩⟩⟩⟩⟩⟩⟩⟩
theorem fe_541 : eqEs ((flat code_541).filter (fun e => ndE e.2.2.1)) (fl_541_0) = true := by decide +kernel
theorem om_541 : OKm mi iT prg 541 := OKm_of (code := code_541) rfl mt_541 (Or.inl (by decide +kernel)) rfl wk_541 (by decide +kernel) (by decide +kernel) (FA_of fe_541 (fb_541_0))
def fl_542_0 : List Ent := [(1, 3, 22, .invokespecial 3, [], 0), (5, 3, 11, .new 9, [5, 3], 0), (9, 3, 36, .invokespecial 11, [9, 1, 1, 5, 3], 0), (12, 3, 7, .putfield 12, [3, 13, 51], 0), (18, 2, 12, .newarray .boolean, [101], 0), (20, 3, 7, .putfield 18, [3, 13, 52], 0), (26, 2, 12, .newarray .int, [100], 0), (28, 3, 7, .putfield 22, [3, 13, 53], 0), (34, 2, 12, .newarray .int, [100], 0), (36, 3, 7, .putfield 26, [3, 13, 54], 0)]
theorem fb_542_0 : FB mi iT mi_542 (bpc code_542) (fl_542_0) := ⟨fun hd => mk22 (by decide) W1952 oi_w (hd rfl),
  ⟨fun hd => mk11 nf_5 W1953 (hd rfl),
  ⟨fun hd => mk36 mt_3 cf_3 (ic_3.rt (Or.inl W1954) (hd rfl)) rfl rfl,
  ⟨fun hd => mk7 fld_13_0 (Or.inl W1955) (Or.inl rfl) (Or.inr ⟨rfl, rfl, rfl, W1955⟩) (hd rfl),
  ⟨fun hd => mk12a (at_ := .boolean) (by decide) rfl W1970 (hd rfl),
  ⟨fun hd => mk7 fld_13_1 (Or.inl W1958) (Or.inl rfl) (Or.inr ⟨rfl, rfl, rfl, W1958⟩) (hd rfl),
  ⟨fun hd => mk12a (at_ := .int) (by decide) rfl W239 (hd rfl),
  ⟨fun hd => mk7 fld_13_2 (Or.inl W1959) (Or.inl rfl) (Or.inr ⟨rfl, rfl, rfl, W1959⟩) (hd rfl),
  ⟨fun hd => mk12a (at_ := .int) (by decide) rfl W239 (hd rfl),
  ⟨fun hd => mk7 fld_13_3 (Or.inl W1960) (Or.inl rfl) (Or.inr ⟨rfl, rfl, rfl, W1960⟩) (hd rfl),
  trivial⟩⟩⟩⟩⟩⟩⟩⟩⟩⟩
theorem fe_542 : eqEs ((flat code_542).filter (fun e => ndE e.2.2.1)) (fl_542_0) = true := by decide +kernel
theorem om_542 : OKm mi iT prg 542 := OKm_of (code := code_542) rfl mt_542 (Or.inl (by decide +kernel)) rfl wk_542 (by decide +kernel) (by decide +kernel) (FA_of fe_542 (fb_542_0))
def fl_543_0 : List Ent := [(1, 3, 6, .getfield 12, [3, 13, 51], 0), (4, 3, 11, .new 29, [32, 6], 0), (11, 3, 36, .invokespecial 31, [9, 4, 4, 32, 750], 0), (14, 3, 19, .invokevirtual 34, [0, 2, 2, 5, 8], 0)]
theorem fb_543_0 : FB mi iT mi_543 (bpc code_543) (fl_543_0) := ⟨fun hd => mk6 fld_13_0 (Or.inl ⟨rfl, by decide⟩) (Or.inl W1955) (Or.inl rfl) (hd rfl),
  ⟨fun hd => mk11 nf_32 W631 (hd rfl),
  ⟨fun hd => mk36 mt_750 cf_750 (ic_750.rt (Or.inl W3559) (hd rfl)) rfl rfl,
  ⟨fun hd => mk19 mt_8 cf_8 (vf_8_5.rt (Or.inl W3589) (hd rfl)) rfl rfl (noH_nil rfl),
  trivial⟩⟩⟩⟩
theorem fe_543 : eqEs ((flat code_543).filter (fun e => ndE e.2.2.1)) (fl_543_0) = true := by decide +kernel
theorem om_543 : OKm mi iT prg 543 := OKm_of (code := code_543) rfl mt_543 (Or.inl (by decide +kernel)) rfl wk_543 (by decide +kernel) (by decide +kernel) (FA_of fe_543 (fb_543_0))
def fl_544_0 : List Ent := [(1, 3, 6, .getfield 12, [3, 13, 51], 0), (4, 3, 19, .invokevirtual 38, [9, 1, 1, 5, 15], 0), (11, 3, 19, .invokevirtual 41, [9, 4, 4, 13, 543], 0), (19, 3, 19, .invokevirtual 41, [9, 4, 4, 13, 543], 0), (26, 3, 19, .invokevirtual 41, [9, 4, 4, 13, 543], 0), (34, 3, 19, .invokevirtual 41, [9, 4, 4, 13, 543], 0), (41, 3, 19, .invokevirtual 41, [9, 4, 4, 13, 543], 0), (48, 3, 19, .invokevirtual 41, [9, 4, 4, 13, 543], 0)]
theorem fb_544_0 : FB mi iT mi_544 (bpc code_544) (fl_544_0) := ⟨fun hd => mk6 fld_13_0 (Or.inl ⟨rfl, by decide⟩) (Or.inl W1955) (Or.inl rfl) (hd rfl),
  ⟨fun hd => mk19 mt_15 cf_15 (vf_15_5.rt (Or.inl W3601) (hd rfl)) rfl rfl (noH_nil rfl),
  ⟨fun hd => mk19 mt_543 cf_543 (vf_543_13.rt (Or.inl W3602) (hd rfl)) rfl rfl (noH_nil rfl),
  ⟨fun hd => mk19 mt_543 cf_543 (vf_543_13.rt (Or.inl W3602) (hd rfl)) rfl rfl (noH_nil rfl),
  ⟨fun hd => mk19 mt_543 cf_543 (vf_543_13.rt (Or.inl W3602) (hd rfl)) rfl rfl (noH_nil rfl),
  ⟨fun hd => mk19 mt_543 cf_543 (vf_543_13.rt (Or.inl W3602) (hd rfl)) rfl rfl (noH_nil rfl),
  ⟨fun hd => mk19 mt_543 cf_543 (vf_543_13.rt (Or.inl W3602) (hd rfl)) rfl rfl (noH_nil rfl),
  ⟨fun hd => mk19 mt_543 cf_543 (vf_543_13.rt (Or.inl W3602) (hd rfl)) rfl rfl (noH_nil rfl),
  trivial⟩⟩⟩⟩⟩⟩⟩⟩
theorem fe_544 : eqEs ((flat code_544).filter (fun e => ndE e.2.2.1)) (fl_544_0) = true := by decide +kernel
theorem om_544 : OKm mi iT prg 544 := OKm_of (code := code_544) rfl mt_544 (Or.inl (by decide +kernel)) rfl wk_544 (by decide +kernel) (by decide +kernel) (FA_of fe_544 (fb_544_0))
def fl_545_0 : List Ent := [(3, 3, 6, .getfield 12, [3, 13, 51], 0), (6, 3, 19, .invokevirtual 102, [3, 1, 1, 5, 4], 0), (11, 5, 34, .invokeinterface 106 1, [0, 1, 1, 11, 87], 0), (20, 5, 34, .invokeinterface 111 1, [3, 1, 1, 11, 88], 0), (25, 3, 17, .checkcast 29, [32], 0), (31, 3, 6, .getfield 99, [0, 32, 164], 0), (46, 3, 7, .putfield 99, [4, 32, 164], 0)]
theorem fb_545_0 : FB mi iT mi_545 (bpc code_545) (fl_545_0) := ⟨fun hd => mk6 fld_13_0 (Or.inl ⟨rfl, by decide⟩) (Or.inl W1955) (Or.inl rfl) (hd rfl),
  ⟨fun hd => mk19 mt_4 cf_4 (vf_4_5.rt (Or.inl W3622) (hd rfl)) rfl rfl (noH_nil rfl),
  ⟨fun hd => mk34 mt_87 cf_87 (ff_87_11.rt W3624 (hd rfl)) rfl rfl,
  ⟨fun hd => mk34 mt_88 cf_88 (ff_88_11.rt W3626 (hd rfl)) rfl rfl,
  ⟨fun hd => mk17 kx_32 W631 (hd rfl),
  ⟨fun hd => mk6 fld_32_4 (Or.inr ⟨rfl, Or.inl rfl⟩) (Or.inr ⟨_, W3573⟩) (Or.inl rfl) (hd rfl),
  ⟨fun hd => mk7 fld_32_4 (Or.inr ⟨_, W3573⟩) (Or.inl rfl) (Or.inl rfl) (hd rfl),
  trivial⟩⟩⟩⟩⟩⟩⟩
theorem fe_545 : eqEs ((flat code_545).filter (fun e => ndE e.2.2.1)) (fl_545_0) = true := by decide +kernel
theorem om_545 : OKm mi iT prg 545 := OKm_of (code := code_545) rfl mt_545 (Or.inl (by decide +kernel)) rfl wk_545 (by decide +kernel) (by decide +kernel) (FA_of fe_545 (fb_545_0))
def fl_546_0 : List Ent := [(1, 3, 19, .invokevirtual 133, [9, 1, 1, 17, 547], 0), (5, 51, 5, .tableswitch 81 0 8 #[51, 56, 61, 66, 71, 81, 81, 81, 76], [7, 0, 1, 1, 2, 2, 3, 3, 4, 4, 5, 5, 7, 6, 7, 7, 7, 8, 6], 0), (57, 3, 6, .getfield 13, [2, 17, 68], 0), (62, 3, 6, .getfield 17, [2, 17, 69], 0), (67, 3, 6, .getfield 20, [2, 17, 70], 0), (72, 3, 6, .getfield 23, [2, 17, 71], 0), (77, 3, 6, .getfield 65, [2, 17, 72], 0), (82, 3, 19, .invokevirtual 83, [2, 1, 1, 17, 548], 0), (87, 3, 19, .invokevirtual 104, [0, 1, 1, 17, 549], 0), (95, 3, 19, .invokevirtual 136, [2, 2, 2, 17, 550], 0), (107, 3, 15, .ldc2_w 139, [4621819117588971520], 0)]
theorem fb_546_0 : FB mi iT mi_546 (bpc code_546) (fl_546_0) := ⟨fun hd => mk19 mt_547 cf_547 (vf_547_17.rt (Or.inl W1068) (hd rfl)) rfl rfl (noH_nil rfl),
  ⟨fun hd => ⟨_, _, rfl, Or.inl ⟨81, 0, 8, #[51, 56, 61, 66, 71, 81, 81, 81, 76], 9, 51, (show decode prog_70_method_9_code 5 = .ok (.tableswitch 81 0 8 #[51, 56, 61, 66, 71, 81, 81, 81, 76], 51) by decide +kernel), by decide, by decide +kernel⟩⟩,
  ⟨fun hd => mk6 fld_17_1 (Or.inl ⟨rfl, by decide⟩) (Or.inl W1993) (Or.inl rfl) (hd rfl),
  ⟨fun hd => mk6 fld_17_2 (Or.inl ⟨rfl, by decide⟩) (Or.inl W1997) (Or.inl rfl) (hd rfl),
  ⟨fun hd => mk6 fld_17_3 (Or.inl ⟨rfl, by decide⟩) (Or.inl W1998) (Or.inl rfl) (hd rfl),
  ⟨fun hd => mk6 fld_17_4 (Or.inl ⟨rfl, by decide⟩) (Or.inl W1999) (Or.inl rfl) (hd rfl),
  ⟨fun hd => mk6 fld_17_5 (Or.inl ⟨rfl, by decide⟩) (Or.inl W2001) (Or.inl rfl) (hd rfl),
  ⟨fun hd => mk19 mt_548 cf_548 (vf_548_17.rt (Or.inl W1270) (hd rfl)) rfl rfl (noH_nil rfl),
  ⟨fun hd => mk19 mt_549 cf_549 (vf_549_17.rt (Or.inl W1280) (hd rfl)) rfl rfl (noH_nil rfl),
  ⟨fun hd => mk19 mt_550 cf_550 (vf_550_17.rt (Or.inl W1284) (hd rfl)) rfl rfl (noH_nil rfl),
  ⟨fun hd => mk15 W1355 (hd rfl),
  trivial⟩⟩⟩⟩⟩⟩⟩⟩⟩⟩⟩
theorem fe_546 : eqEs ((flat code_546).filter (fun e => ndE e.2.2.1)) (fl_546_0) = true := by decide +kernel
theorem om_546 : OKm mi iT prg 546 := OKm_of (code := code_546) rfl mt_546 (Or.inl (by decide +kernel)) rfl wk_546 (by decide +kernel) (by decide +kernel) (FA_of fe_546 (fb_546_0))
def fl_547_0 : List Ent := [(2, 3, 7, .putfield 13, [2, 17, 68], 0), (7, 3, 7, .putfield 17, [2, 17, 69], 0), (12, 3, 7, .putfield 20, [2, 17, 70], 0), (17, 3, 7, .putfield 23, [2, 17, 71], 0), (21, 3, 6, .getfield 7, [3, 17, 67], 0), (24, 3, 19, .invokevirtual 26, [0, 1, 1, 22, 485], 0), (36, 3, 6, .getfield 7, [3, 17, 67], 0), (40, 3, 19, .invokevirtual 32, [3, 2, 2, 22, 486], 0), (45, 5, 35, .invokeinterface 36 1, [2, 1, 1, 15, 598, 20, 521, 23, 585, 24, 605, 26, 724], 0), (54, 3, 6, .getfield 13, [2, 17, 68], 0), (60, 3, 7, .putfield 13, [2, 17, 68], 0), (65, 3, 6, .getfield 17, [2, 17, 69], 0), (71, 3, 6, .getfield 7, [3, 17, 67], 0), (74, 3, 6, .getfield 42, [3, 22, 93], 0), (78, 5, 35, .invokeinterface 46 1, [0, 1, 1, 15, 600, 20, 522, 23, 588, 24, 606, 26, 725], 0), (83, 3, 19, .invokevirtual 49, [2, 2, 2, 16, 499], 0), (88, 3, 7, .putfield 17, [2, 17, 69], 0), (93, 3, 6, .getfield 20, [2, 17, 70], 0), (99, 5, 35, .invokeinterface 55 1, [2, 1, 1, 15, 818, 20, 818, 23, 818, 24, 607, 26, 726], 0), (106, 3, 7, .putfield 20, [2, 17, 70], 0), (111, 3, 6, .getfield 23, [2, 17, 71], 0), (117, 5, 35, .invokeinterface 58 1, [2, 1, 1, 15, 601, 20, 523, 23, 589, 24, 608, 26, 727], 0), (124, 3, 7, .putfield 23, [2, 17, 71], 0), (134, 3, 6, .getfield 13, [2, 17, 68], 0), (144, 3, 7, .putfield 17, [2, 17, 69], 0), (149, 3, 7, .putfield 20, [2, 17, 70], 0), (154, 3, 7, .putfield 23, [2, 17, 71], 0), (162, 3, 6, .getfield 17, [2, 17, 69], 0), (166, 3, 6, .getfield 13, [2, 17, 68], 0), (170, 3, 7, .putfield 17, [2, 17, 69], 0)]
theorem fb_547_0 : FB mi iT mi_547 (bpc code_547) (fl_547_0) := ⟨fun hd => mk7 fld_17_1 (Or.inl W1993) (Or.inl rfl) (Or.inl rfl) (hd rfl),
  ⟨fun hd => mk7 fld_17_2 (Or.inl W1997) (Or.inl rfl) (Or.inl rfl) (hd rfl),
  ⟨fun hd => mk7 fld_17_3 (Or.inl W1998) (Or.inl rfl) (Or.inl rfl) (hd rfl),
  ⟨fun hd => mk7 fld_17_4 (Or.inl W1999) (Or.inl rfl) (Or.inl rfl) (hd rfl),
  ⟨fun hd => mk6 fld_17_0 (Or.inl ⟨rfl, by decide⟩) (Or.inl W1992) (Or.inl rfl) (hd rfl),
  ⟨fun hd => mk19 mt_485 cf_485 (vf_485_22.rt (Or.inl W1072) (hd rfl)) rfl rfl (noH_nil rfl),
  ⟨fun hd => mk6 fld_17_0 (Or.inl ⟨rfl, by decide⟩) (Or.inl W1992) (Or.inl rfl) (hd rfl),
  ⟨fun hd => mk19 mt_486 cf_486 (vf_486_22.rt (Or.inl W1077) (hd rfl)) rfl rfl (noH_nil rfl),
  ⟨fun hd => mk35 ⟨pr2 mt_598 cf_598 (ff_598_15.rt W1084 (hd rfl)) rfl rfl, ⟨pr2 mt_521 cf_521 (ff_521_20.rt W1084 (hd rfl)) rfl rfl, ⟨pr2 mt_585 cf_585 (ff_585_23.rt W1084 (hd rfl)) rfl rfl, ⟨pr2 mt_605 cf_605 (ff_605_24.rt W1084 (hd rfl)) rfl rfl, ⟨pr2 mt_724 cf_724 (ff_724_26.rt W1084 (hd rfl)) rfl rfl, trivial⟩⟩⟩⟩⟩,
  ⟨fun hd => mk6 fld_17_1 (Or.inl ⟨rfl, by decide⟩) (Or.inl W1993) (Or.inl rfl) (hd rfl),
  ⟨fun hd => mk7 fld_17_1 (Or.inl W1993) (Or.inl rfl) (Or.inl rfl) (hd rfl),
  ⟨fun hd => mk6 fld_17_2 (Or.inl ⟨rfl, by decide⟩) (Or.inl W1997) (Or.inl rfl) (hd rfl),
  ⟨fun hd => mk6 fld_17_0 (Or.inl ⟨rfl, by decide⟩) (Or.inl W1992) (Or.inl rfl) (hd rfl),
  ⟨fun hd => mk6 fld_22_1 (Or.inl ⟨rfl, by decide⟩) (Or.inr ⟨_, W2242⟩) (Or.inl rfl) (hd rfl),
  ⟨fun hd => mk35 ⟨pr2 mt_600 cf_600 (ff_600_15.rt W1151 (hd rfl)) rfl rfl, ⟨pr2 mt_522 cf_522 (ff_522_20.rt W1151 (hd rfl)) rfl rfl, ⟨pr2 mt_588 cf_588 (ff_588_23.rt W1151 (hd rfl)) rfl rfl, ⟨pr2 mt_606 cf_606 (ff_606_24.rt W1151 (hd rfl)) rfl rfl, ⟨pr2 mt_725 cf_725 (ff_725_26.rt W1151 (hd rfl)) rfl rfl, trivial⟩⟩⟩⟩⟩,
  ⟨fun hd => mk19 mt_499 cf_499 (vf_499_16.rt (Or.inl W1179) (hd rfl)) rfl rfl (noH_nil rfl),
  ⟨fun hd => mk7 fld_17_2 (Or.inl W1997) (Or.inl rfl) (Or.inl rfl) (hd rfl),
  ⟨fun hd => mk6 fld_17_3 (Or.inl ⟨rfl, by decide⟩) (Or.inl W1998) (Or.inl rfl) (hd rfl),
  ⟨fun hd => mk35 ⟨pr2 mt_818 cf_818 (ff_818_15.rt W1185 (hd rfl)) rfl rfl, ⟨pr2 mt_818 cf_818 (ff_818_20.rt W1185 (hd rfl)) rfl rfl, ⟨pr2 mt_818 cf_818 (ff_818_23.rt W1185 (hd rfl)) rfl rfl, ⟨pr2 mt_607 cf_607 (ff_607_24.rt W1185 (hd rfl)) rfl rfl, ⟨pr2 mt_726 cf_726 (ff_726_26.rt W1185 (hd rfl)) rfl rfl, trivial⟩⟩⟩⟩⟩,
  ⟨fun hd => mk7 fld_17_3 (Or.inl W1998) (Or.inl rfl) (Or.inl rfl) (hd rfl),
  ⟨fun hd => mk6 fld_17_4 (Or.inl ⟨rfl, by decide⟩) (Or.inl W1999) (Or.inl rfl) (hd rfl),
  ⟨fun hd => mk35 ⟨pr2 mt_601 cf_601 (ff_601_15.rt W1206 (hd rfl)) rfl rfl, ⟨pr2 mt_523 cf_523 (ff_523_20.rt W1206 (hd rfl)) rfl rfl, ⟨pr2 mt_589 cf_589 (ff_589_23.rt W1206 (hd rfl)) rfl rfl, ⟨pr2 mt_608 cf_608 (ff_608_24.rt W1206 (hd rfl)) rfl rfl, ⟨pr2 mt_727 cf_727 (ff_727_26.rt W1206 (hd rfl)) rfl rfl, trivial⟩⟩⟩⟩⟩,
  ⟨fun hd => mk7 fld_17_4 (Or.inl W1999) (Or.inl rfl) (Or.inl rfl) (hd rfl),
  ⟨fun hd => mk6 fld_17_1 (Or.inl ⟨rfl, by decide⟩) (Or.inl W1993) (Or.inl rfl) (hd rfl),
  ⟨fun hd => mk7 fld_17_2 (Or.inl W1997) (Or.inl rfl) (Or.inl rfl) (hd rfl),
  ⟨fun hd => mk7 fld_17_3 (Or.inl W1998) (Or.inl rfl) (Or.inl rfl) (hd rfl),
  ⟨fun hd => mk7 fld_17_4 (Or.inl W1999) (Or.inl rfl) (Or.inl rfl) (hd rfl),
  ⟨fun hd => mk6 fld_17_2 (Or.inl ⟨rfl, by decide⟩) (Or.inl W1997) (Or.inl rfl) (hd rfl),
  ⟨fun hd => mk6 fld_17_1 (Or.inl ⟨rfl, by decide⟩) (Or.inl W1993) (Or.inl rfl) (hd rfl),
  ⟨fun hd => mk7 fld_17_2 (Or.inl W1997) (Or.inl rfl) (Or.inl rfl) (hd rfl),
  trivial⟩⟩⟩⟩⟩⟩⟩⟩⟩⟩⟩⟩⟩⟩⟩⟩⟩⟩⟩⟩⟩⟩⟩⟩⟩⟩⟩⟩⟩⟩
def fl_547_1 : List Ent := [(175, 3, 6, .getfield 20, [2, 17, 70], 0), (179, 3, 6, .getfield 13, [2, 17, 68], 0), (183, 3, 7, .putfield 20, [2, 17, 70], 0), (188, 3, 6, .getfield 23, [2, 17, 71], 0), (192, 3, 6, .getfield 13, [2, 17, 68], 0), (196, 3, 7, .putfield 23, [2, 17, 71], 0), (201, 3, 6, .getfield 7, [3, 17, 67], 0), (204, 3, 6, .getfield 42, [3, 22, 93], 0), (208, 3, 6, .getfield 13, [2, 17, 68], 0), (211, 3, 19, .invokevirtual 61, [2, 2, 3, 16, 500], 0), (214, 3, 7, .putfield 65, [2, 17, 72], 0)]
theorem fb_547_1 : FB mi iT mi_547 (bpc code_547) (fl_547_1) := ⟨fun hd => mk6 fld_17_3 (Or.inl ⟨rfl, by decide⟩) (Or.inl W1998) (Or.inl rfl) (hd rfl),
  ⟨fun hd => mk6 fld_17_1 (Or.inl ⟨rfl, by decide⟩) (Or.inl W1993) (Or.inl rfl) (hd rfl),
  ⟨fun hd => mk7 fld_17_3 (Or.inl W1998) (Or.inl rfl) (Or.inl rfl) (hd rfl),
  ⟨fun hd => mk6 fld_17_4 (Or.inl ⟨rfl, by decide⟩) (Or.inl W1999) (Or.inl rfl) (hd rfl),
  ⟨fun hd => mk6 fld_17_1 (Or.inl ⟨rfl, by decide⟩) (Or.inl W1993) (Or.inl rfl) (hd rfl),
  ⟨fun hd => mk7 fld_17_4 (Or.inl W1999) (Or.inl rfl) (Or.inl rfl) (hd rfl),
  ⟨fun hd => mk6 fld_17_0 (Or.inl ⟨rfl, by decide⟩) (Or.inl W1992) (Or.inl rfl) (hd rfl),
  ⟨fun hd => mk6 fld_22_1 (Or.inl ⟨rfl, by decide⟩) (Or.inr ⟨_, W2242⟩) (Or.inl rfl) (hd rfl),
  ⟨fun hd => mk6 fld_17_1 (Or.inl ⟨rfl, by decide⟩) (Or.inl W1993) (Or.inl rfl) (hd rfl),
  ⟨fun hd => mk19 mt_500 cf_500 (vf_500_16.rt (Or.inl W1237) (hd rfl)) rfl rfl (noH_nil rfl),
  ⟨fun hd => mk7 fld_17_5 (Or.inl W2001) (Or.inl rfl) (Or.inl rfl) (hd rfl),
  trivial⟩⟩⟩⟩⟩⟩⟩⟩⟩⟩⟩
theorem fe_547 : eqEs ((flat code_547).filter (fun e => ndE e.2.2.1)) (fl_547_0 ++ (fl_547_1)) = true := by decide +kernel
theorem om_547 : OKm mi iT prg 547 := OKm_of (code := code_547) rfl mt_547 (Or.inl (by decide +kernel)) rfl wk_547 (by decide +kernel) (by decide +kernel) (FA_of fe_547 (FB_app fb_547_0 (fb_547_1)))
def fl_548_0 : List Ent := [(3, 3, 6, .getfield 7, [3, 17, 67], 0), (6, 3, 6, .getfield 68, [3, 22, 96], 0), (11, 1, 10, .arraylength, [106], 0), (33, 3, 19, .invokevirtual 72, [2, 1, 1, 15, 602], 0), (45, 3, 6, .getfield 13, [2, 17, 68], 0), (59, 3, 6, .getfield 13, [2, 17, 68], 0)]
theorem fb_548_0 : FB mi iT mi_548 (bpc code_548) (fl_548_0) := ⟨fun hd => mk6 fld_17_0 (Or.inl ⟨rfl, by decide⟩) (Or.inl W1992) (Or.inl rfl) (hd rfl),
  ⟨fun hd => mk6 fld_22_4 (Or.inl ⟨rfl, by decide⟩) (Or.inr ⟨_, W2256⟩) (Or.inl rfl) (hd rfl),
  ⟨fun hd => mk10 (by decide) rfl (hd rfl),
  ⟨fun hd => mk19 mt_602 cf_602 (vf_602_15.rt (Or.inl W1274) (hd rfl)) rfl rfl (noH_nil rfl),
  ⟨fun hd => mk6 fld_17_1 (Or.inl ⟨rfl, by decide⟩) (Or.inl W1993) (Or.inl rfl) (hd rfl),
  ⟨fun hd => mk6 fld_17_1 (Or.inl ⟨rfl, by decide⟩) (Or.inl W1993) (Or.inl rfl) (hd rfl),
  trivial⟩⟩⟩⟩⟩⟩
theorem fe_548 : eqEs ((flat code_548).filter (fun e => ndE e.2.2.1)) (fl_548_0) = true := by decide +kernel
theorem om_548 : OKm mi iT prg 548 := OKm_of (code := code_548) rfl mt_548 (Or.inl (by decide +kernel)) rfl wk_548 (by decide +kernel) (by decide +kernel) (FA_of fe_548 (fb_548_0))
def fl_549_0 : List Ent := [(1, 3, 6, .getfield 65, [2, 17, 72], 0)]
theorem fb_549_0 : FB mi iT mi_549 (bpc code_549) (fl_549_0) := ⟨fun hd => mk6 fld_17_5 (Or.inl ⟨rfl, by decide⟩) (Or.inl W2001) (Or.inl rfl) (hd rfl),
  trivial⟩
theorem fe_549 : eqEs ((flat code_549).filter (fun e => ndE e.2.2.1)) (fl_549_0) = true := by decide +kernel
theorem om_549 : OKm mi iT prg 549 := OKm_of (code := code_549) rfl mt_549 (Or.inl (by decide +kernel)) rfl wk_549 (by decide +kernel) (by decide +kernel) (FA_of fe_549 (fb_549_0))
def fl_550_0 : List Ent := [(6, 3, 19, .invokevirtual 108, [2, 1, 1, 17, 551], 0), (19, 3, 19, .invokevirtual 141, [0, 1, 1, 17, 552], 0), (27, 3, 19, .invokevirtual 144, [2, 1, 1, 17, 554], 0)]
theorem fb_550_0 : FB mi iT mi_550 (bpc code_550) (fl_550_0) := ⟨fun hd => mk19 mt_551 cf_551 (vf_551_17.rt (Or.inl W1289) (hd rfl)) rfl rfl (noH_nil rfl),
  ⟨fun hd => mk19 mt_552 cf_552 (vf_552_17.rt (Or.inl W1311) (hd rfl)) rfl rfl (noH_nil rfl),
  ⟨fun hd => mk19 mt_554 cf_554 (vf_554_17.rt (Or.inl W1338) (hd rfl)) rfl rfl (noH_nil rfl),
  trivial⟩⟩⟩
theorem fe_550 : eqEs ((flat code_550).filter (fun e => ndE e.2.2.1)) (fl_550_0) = true := by decide +kernel
theorem om_550 : OKm mi iT prg 550 := OKm_of (code := code_550) rfl mt_550 (Or.inl (by decide +kernel)) rfl wk_550 (by decide +kernel) (by decide +kernel) (FA_of fe_550 (fb_550_0))
def fl_551_0 : List Ent := [(1, 3, 6, .getfield 7, [3, 17, 67], 0), (4, 3, 6, .getfield 42, [3, 22, 93], 0), (8, 3, 6, .getfield 65, [2, 17, 72], 0), (11, 3, 19, .invokevirtual 77, [2, 2, 3, 16, 507], 0), (15, 3, 6, .getfield 7, [3, 17, 67], 0), (18, 3, 6, .getfield 42, [3, 22, 93], 0), (22, 3, 6, .getfield 65, [2, 17, 72], 0), (25, 3, 19, .invokevirtual 80, [2, 2, 3, 16, 510], 0), (30, 3, 6, .getfield 23, [2, 17, 71], 0), (35, 3, 19, .invokevirtual 83, [2, 1, 1, 17, 548], 0)]
theorem fb_551_0 : FB mi iT mi_551 (bpc code_551) (fl_551_0) := ⟨fun hd => mk6 fld_17_0 (Or.inl ⟨rfl, by decide⟩) (Or.inl W1992) (Or.inl rfl) (hd rfl),
  ⟨fun hd => mk6 fld_22_1 (Or.inl ⟨rfl, by decide⟩) (Or.inr ⟨_, W2242⟩) (Or.inl rfl) (hd rfl),
  ⟨fun hd => mk6 fld_17_5 (Or.inl ⟨rfl, by decide⟩) (Or.inl W2001) (Or.inl rfl) (hd rfl),
  ⟨fun hd => mk19 mt_507 cf_507 (vf_507_16.rt (Or.inl W1293) (hd rfl)) rfl rfl (noH_nil rfl),
  ⟨fun hd => mk6 fld_17_0 (Or.inl ⟨rfl, by decide⟩) (Or.inl W1992) (Or.inl rfl) (hd rfl),
  ⟨fun hd => mk6 fld_22_1 (Or.inl ⟨rfl, by decide⟩) (Or.inr ⟨_, W2242⟩) (Or.inl rfl) (hd rfl),
  ⟨fun hd => mk6 fld_17_5 (Or.inl ⟨rfl, by decide⟩) (Or.inl W2001) (Or.inl rfl) (hd rfl),
  ⟨fun hd => mk19 mt_510 cf_510 (vf_510_16.rt (Or.inl W1306) (hd rfl)) rfl rfl (noH_nil rfl),
  ⟨fun hd => mk6 fld_17_4 (Or.inl ⟨rfl, by decide⟩) (Or.inl W1999) (Or.inl rfl) (hd rfl),
  ⟨fun hd => mk19 mt_548 cf_548 (vf_548_17.rt (Or.inl W1270) (hd rfl)) rfl rfl (noH_nil rfl),
  trivial⟩⟩⟩⟩⟩⟩⟩⟩⟩⟩
theorem fe_551 : eqEs ((flat code_551).filter (fun e => ndE e.2.2.1)) (fl_551_0) = true := by decide +kernel
theorem om_551 : OKm mi iT prg 551 := OKm_of (code := code_551) rfl mt_551 (Or.inl (by decide +kernel)) rfl wk_551 (by decide +kernel) (by decide +kernel) (FA_of fe_551 (fb_551_0))
def fl_552_0 : List Ent := [(1, 3, 19, .invokevirtual 104, [0, 1, 1, 17, 549], 0), (11, 3, 19, .invokevirtual 108, [2, 1, 1, 17, 551], 0), (16, 3, 15, .ldc2_w 111, [4587366580439587226], 0), (27, 3, 6, .getfield 20, [2, 17, 70], 0), (30, 3, 38, .invokestatic 113, [0], 0), (49, 3, 18, .invokestatic 118, [2, 1, 1, 553], 0)]
theorem fb_552_0 : FB mi iT mi_552 (bpc code_552) (fl_552_0) := ⟨fun hd => mk19 mt_549 cf_549 (vf_549_17.rt (Or.inl W1280) (hd rfl)) rfl rfl (noH_nil rfl),
  ⟨fun hd => mk19 mt_551 cf_551 (vf_551_17.rt (Or.inl W1289) (hd rfl)) rfl rfl (noH_nil rfl),
  ⟨fun hd => mk15 W1315 (hd rfl),
  ⟨fun hd => mk6 fld_17_3 (Or.inl ⟨rfl, by decide⟩) (Or.inl W1998) (Or.inl rfl) (hd rfl),
  ⟨fun hd => ⟨0, _, _, by decide, rfl, rfl, by decide, W1316, mo_w0, hd rfl⟩,
  ⟨fun hd => mk18 mt_553 sf_553 (Or.inl W1326) rfl rfl (noH_nil rfl) (hd rfl),
  trivial⟩⟩⟩⟩⟩⟩
theorem fe_552 : eqEs ((flat code_552).filter (fun e => ndE e.2.2.1)) (fl_552_0) = true := by decide +kernel
theorem om_552 : OKm mi iT prg 552 := OKm_of (code := code_552) rfl mt_552 (Or.inl (by decide +kernel)) rfl wk_552 (by decide +kernel) (by decide +kernel) (FA_of fe_552 (fb_552_0))
def fl_553_0 : List Ent := [(1, 51, 5, .tableswitch 87 0 8 #[51, 55, 59, 63, 67, 71, 75, 79, 83], [10, 0, 1, 1, 2, 2, 3, 3, 4, 4, 5, 5, 6, 6, 7, 7, 8, 8, 9], 0), (52, 3, 15, .ldc2_w 86, [4581421828931458171], 0), (56, 3, 15, .ldc2_w 88, [4591149604126578442], 0), (60, 3, 15, .ldc2_w 90, [4595653203753948938], 0), (64, 3, 15, .ldc2_w 92, [4598535507515466056], 0), (68, 3, 15, .ldc2_w 94, [4600156803381319434], 0), (72, 3, 15, .ldc2_w 96, [4602138387217362452], 0), (76, 3, 15, .ldc2_w 98, [4603399395113026191], 0), (80, 3, 15, .ldc2_w 100, [4604480259023595110], 0), (84, 3, 15, .ldc2_w 102, [4605741266919258849], 0)]
theorem fb_553_0 : FB mi iT mi_553 (bpc code_553) (fl_553_0) := ⟨fun hd => ⟨_, _, rfl, Or.inl ⟨87, 0, 8, #[51, 55, 59, 63, 67, 71, 75, 79, 83], 9, 51, (show decode prog_70_method_6_code 1 = .ok (.tableswitch 87 0 8 #[51, 55, 59, 63, 67, 71, 75, 79, 83], 51) by decide +kernel), by decide, by decide +kernel⟩⟩,
  ⟨fun hd => mk15 W1329 (hd rfl),
  ⟨fun hd => mk15 W1330 (hd rfl),
  ⟨fun hd => mk15 W1331 (hd rfl),
  ⟨fun hd => mk15 W1332 (hd rfl),
  ⟨fun hd => mk15 W1333 (hd rfl),
  ⟨fun hd => mk15 W1334 (hd rfl),
  ⟨fun hd => mk15 W1335 (hd rfl),
  ⟨fun hd => mk15 W1336 (hd rfl),
  ⟨fun hd => mk15 W1337 (hd rfl),
  trivial⟩⟩⟩⟩⟩⟩⟩⟩⟩⟩
theorem fe_553 : eqEs ((flat code_553).filter (fun e => ndE e.2.2.1)) (fl_553_0) = true := by decide +kernel
theorem om_553 : OKm mi iT prg 553 := OKm_of (code := code_553) rfl mt_553 (Or.inl (by decide +kernel)) rfl wk_553 (by decide +kernel) (by decide +kernel) (FA_of fe_553 (fb_553_0))
def fl_554_0 : List Ent := [(1, 3, 6, .getfield 7, [3, 17, 67], 0), (4, 3, 6, .getfield 42, [3, 22, 93], 0), (8, 3, 6, .getfield 65, [2, 17, 72], 0), (11, 3, 19, .invokevirtual 121, [2, 2, 3, 16, 511], 0), (16, 3, 15, .ldc2_w 124, [4562254508917369340], 0), (28, 3, 6, .getfield 17, [2, 17, 69], 0), (32, 3, 6, .getfield 7, [3, 17, 67], 0), (35, 3, 6, .getfield 42, [3, 22, 93], 0), (39, 3, 6, .getfield 65, [2, 17, 72], 0), (42, 3, 19, .invokevirtual 126, [2, 2, 3, 16, 513], 0), (47, 3, 6, .getfield 7, [3, 17, 67], 0), (50, 3, 6, .getfield 42, [3, 22, 93], 0), (53, 3, 6, .getfield 129, [0, 16, 63], 0)]
theorem fb_554_0 : FB mi iT mi_554 (bpc code_554) (fl_554_0) := ⟨fun hd => mk6 fld_17_0 (Or.inl ⟨rfl, by decide⟩) (Or.inl W1992) (Or.inl rfl) (hd rfl),
  ⟨fun hd => mk6 fld_22_1 (Or.inl ⟨rfl, by decide⟩) (Or.inr ⟨_, W2242⟩) (Or.inl rfl) (hd rfl),
  ⟨fun hd => mk6 fld_17_5 (Or.inl ⟨rfl, by decide⟩) (Or.inl W2001) (Or.inl rfl) (hd rfl),
  ⟨fun hd => mk19 mt_511 cf_511 (vf_511_16.rt (Or.inl W1342) (hd rfl)) rfl rfl (noH_nil rfl),
  ⟨fun hd => mk15 W1350 (hd rfl),
  ⟨fun hd => mk6 fld_17_2 (Or.inl ⟨rfl, by decide⟩) (Or.inl W1997) (Or.inl rfl) (hd rfl),
  ⟨fun hd => mk6 fld_17_0 (Or.inl ⟨rfl, by decide⟩) (Or.inl W1992) (Or.inl rfl) (hd rfl),
  ⟨fun hd => mk6 fld_22_1 (Or.inl ⟨rfl, by decide⟩) (Or.inr ⟨_, W2242⟩) (Or.inl rfl) (hd rfl),
  ⟨fun hd => mk6 fld_17_5 (Or.inl ⟨rfl, by decide⟩) (Or.inl W2001) (Or.inl rfl) (hd rfl),
  ⟨fun hd => mk19 mt_513 cf_513 (vf_513_16.rt (Or.inl W1351) (hd rfl)) rfl rfl (noH_nil rfl),
  ⟨fun hd => mk6 fld_17_0 (Or.inl ⟨rfl, by decide⟩) (Or.inl W1992) (Or.inl rfl) (hd rfl),
  ⟨fun hd => mk6 fld_22_1 (Or.inl ⟨rfl, by decide⟩) (Or.inr ⟨_, W2242⟩) (Or.inl rfl) (hd rfl),
  ⟨fun hd => mk6 fld_16_1 (Or.inl ⟨rfl, by decide⟩) (Or.inr ⟨_, W1906⟩) (Or.inl rfl) (hd rfl),
  trivial⟩⟩⟩⟩⟩⟩⟩⟩⟩⟩⟩⟩⟩
theorem fe_554 : eqEs ((flat code_554).filter (fun e => ndE e.2.2.1)) (fl_554_0) = true := by decide +kernel
theorem om_554 : OKm mi iT prg 554 := OKm_of (code := code_554) rfl mt_554 (Or.inl (by decide +kernel)) rfl wk_554 (by decide +kernel) (by decide +kernel) (FA_of fe_554 (fb_554_0))
def fl_555_0 : List Ent := [(1, 3, 22, .invokespecial 1, [], 0), (6, 3, 7, .putfield 7, [3, 17, 67], 0)]
theorem fb_555_0 : FB mi iT mi_555 (bpc code_555) (fl_555_0) := ⟨fun hd => mk22 (by decide) W1991 oi_w (hd rfl),
  ⟨fun hd => mk7 fld_17_0 (Or.inl W1992) (Or.inl rfl) (Or.inr ⟨rfl, rfl, rfl, W1992⟩) (hd rfl),
  trivial⟩⟩
theorem fe_555 : eqEs ((flat code_555).filter (fun e => ndE e.2.2.1)) (fl_555_0) = true := by decide +kernel
theorem om_555 : OKm mi iT prg 555 := OKm_of (code := code_555) rfl mt_555 (Or.inl (by decide +kernel)) rfl wk_555 (by decide +kernel) (by decide +kernel) (FA_of fe_555 (fb_555_0))
def fl_556_0 : List Ent := [(14, 3, 19, .invokevirtual 80, [0, 2, 2, 18, 557], 0)]
theorem fb_556_0 : FB mi iT mi_556 (bpc code_556) (fl_556_0) := ⟨fun hd => mk19 mt_557 cf_557 (vf_557_18.rt (Or.inl W1360) (hd rfl)) rfl rfl (noH_nil rfl),
  trivial⟩
theorem fe_556 : eqEs ((flat code_556).filter (fun e => ndE e.2.2.1)) (fl_556_0) = true := by decide +kernel
theorem om_556 : OKm mi iT prg 556 := OKm_of (code := code_556) rfl mt_556 (Or.inl (by decide +kernel)) rfl wk_556 (by decide +kernel) (by decide +kernel) (FA_of fe_556 (fb_556_0))
def fl_557_0 : List Ent := [(1, 3, 6, .getfield 9, [3, 18, 73], 0), (4, 3, 6, .getfield 55, [3, 22, 99], 0), (7, 3, 19, .invokevirtual 59, [9, 1, 1, 17, 547], 0), (12, 3, 7, .putfield 15, [0, 18, 74], 0), (16, 3, 19, .invokevirtual 28, [9, 1, 1, 18, 558], 0), (21, 3, 6, .getfield 9, [3, 18, 73], 0), (24, 3, 6, .getfield 55, [3, 22, 99], 0), (27, 3, 6, .getfield 64, [2, 17, 72], 0), (30, 3, 7, .putfield 35, [2, 18, 75], 0), (34, 3, 6, .getfield 35, [2, 18, 75], 0), (46, 3, 6, .getfield 9, [3, 18, 73], 0), (49, 3, 6, .getfield 55, [3, 22, 99], 0), (52, 3, 6, .getfield 65, [2, 17, 68], 0), (55, 3, 19, .invokevirtual 68, [0, 2, 3, 18, 560], 0), (64, 3, 6, .getfield 35, [2, 18, 75], 0), (68, 3, 6, .getfield 9, [3, 18, 73], 0), (71, 3, 6, .getfield 31, [3, 22, 93], 0), (74, 3, 6, .getfield 72, [0, 16, 64], 0), (78, 3, 15, .ldc2_w 75, [4606056518893174784], 0), (87, 3, 6, .getfield 15, [0, 18, 74], 0), (96, 3, 6, .getfield 15, [0, 18, 74], 0), (105, 3, 19, .invokevirtual 77, [9, 1, 1, 18, 562], 0)]
theorem fb_557_0 : FB mi iT mi_557 (bpc code_557) (fl_557_0) := ⟨fun hd => mk6 fld_18_0 (Or.inl ⟨rfl, by decide⟩) (Or.inl W2024) (Or.inl rfl) (hd rfl),
  ⟨fun hd => mk6 fld_22_7 (Or.inl ⟨rfl, by decide⟩) (Or.inr ⟨_, W2274⟩) (Or.inl rfl) (hd rfl),
  ⟨fun hd => mk19 mt_547 cf_547 (vf_547_17.rt (Or.inl W1364) (hd rfl)) rfl rfl (noH_nil rfl),
  ⟨fun hd => mk7 fld_18_1 (Or.inl W2025) (Or.inl rfl) (Or.inl rfl) (hd rfl),
  ⟨fun hd => mk19 mt_558 cf_558 (vf_558_18.rt (Or.inl W1365) (hd rfl)) rfl rfl (noH_nil rfl),
  ⟨fun hd => mk6 fld_18_0 (Or.inl ⟨rfl, by decide⟩) (Or.inl W2024) (Or.inl rfl) (hd rfl),
  ⟨fun hd => mk6 fld_22_7 (Or.inl ⟨rfl, by decide⟩) (Or.inr ⟨_, W2274⟩) (Or.inl rfl) (hd rfl),
  ⟨fun hd => mk6 fld_17_5 (Or.inl ⟨rfl, by decide⟩) (Or.inr ⟨_, W2003⟩) (Or.inl rfl) (hd rfl),
  ⟨fun hd => mk7 fld_18_2 (Or.inl W2027) (Or.inl rfl) (Or.inl rfl) (hd rfl),
  ⟨fun hd => mk6 fld_18_2 (Or.inl ⟨rfl, by decide⟩) (Or.inl W2027) (Or.inl rfl) (hd rfl),
  ⟨fun hd => mk6 fld_18_0 (Or.inl ⟨rfl, by decide⟩) (Or.inl W2024) (Or.inl rfl) (hd rfl),
  ⟨fun hd => mk6 fld_22_7 (Or.inl ⟨rfl, by decide⟩) (Or.inr ⟨_, W2274⟩) (Or.inl rfl) (hd rfl),
  ⟨fun hd => mk6 fld_17_1 (Or.inl ⟨rfl, by decide⟩) (Or.inr ⟨_, W1996⟩) (Or.inl rfl) (hd rfl),
  ⟨fun hd => mk19 mt_560 cf_560 (vf_560_18.rt (Or.inl W1374) (hd rfl)) rfl rfl (noH_nil rfl),
  ⟨fun hd => mk6 fld_18_2 (Or.inl ⟨rfl, by decide⟩) (Or.inl W2027) (Or.inl rfl) (hd rfl),
  ⟨fun hd => mk6 fld_18_0 (Or.inl ⟨rfl, by decide⟩) (Or.inl W2024) (Or.inl rfl) (hd rfl),
  ⟨fun hd => mk6 fld_22_1 (Or.inl ⟨rfl, by decide⟩) (Or.inr ⟨_, W2245⟩) (Or.inl rfl) (hd rfl),
  ⟨fun hd => mk6 fld_16_2 (Or.inl ⟨rfl, by decide⟩) (Or.inr ⟨_, W1916⟩) (Or.inl rfl) (hd rfl),
  ⟨fun hd => mk15 W1388 (hd rfl),
  ⟨fun hd => mk6 fld_18_1 (Or.inl ⟨rfl, by decide⟩) (Or.inl W2025) (Or.inl rfl) (hd rfl),
  ⟨fun hd => mk6 fld_18_1 (Or.inl ⟨rfl, by decide⟩) (Or.inl W2025) (Or.inl rfl) (hd rfl),
  ⟨fun hd => mk19 mt_562 cf_562 (vf_562_18.rt (Or.inl W1389) (hd rfl)) rfl rfl (noH_nil rfl),
  trivial⟩⟩⟩⟩⟩⟩⟩⟩⟩⟩⟩⟩⟩⟩⟩⟩⟩⟩⟩⟩⟩⟩
theorem fe_557 : eqEs ((flat code_557).filter (fun e => ndE e.2.2.1)) (fl_557_0) = true := by decide +kernel
theorem om_557 : OKm mi iT prg 557 := OKm_of (code := code_557) rfl mt_557 (Or.inl (by decide +kernel)) rfl wk_557 (by decide +kernel) (by decide +kernel) (FA_of fe_557 (fb_557_0))
def fl_558_0 : List Ent := [(4, 3, 6, .getfield 15, [0, 18, 74], 0), (11, 3, 6, .getfield 15, [0, 18, 74], 0), (23, 3, 6, .getfield 9, [3, 18, 73], 0), (26, 3, 6, .getfield 19, [0, 22, 106], 0), (38, 3, 19, .invokevirtual 24, [0, 2, 2, 18, 559], 0), (45, 3, 19, .invokevirtual 24, [0, 2, 2, 18, 559], 0), (53, 3, 6, .getfield 15, [0, 18, 74], 0), (60, 3, 7, .putfield 15, [0, 18, 74], 0)]
theorem fb_558_0 : FB mi iT mi_558 (bpc code_558) (fl_558_0) := ⟨fun hd => mk6 fld_18_1 (Or.inl ⟨rfl, by decide⟩) (Or.inl W2025) (Or.inl rfl) (hd rfl),
  ⟨fun hd => mk6 fld_18_1 (Or.inl ⟨rfl, by decide⟩) (Or.inl W2025) (Or.inl rfl) (hd rfl),
  ⟨fun hd => mk6 fld_18_0 (Or.inl ⟨rfl, by decide⟩) (Or.inl W2024) (Or.inl rfl) (hd rfl),
  ⟨fun hd => mk6 fld_22_14 (Or.inl ⟨rfl, by decide⟩) (Or.inr ⟨_, W2298⟩) (Or.inl rfl) (hd rfl),
  ⟨fun hd => mk19 mt_559 cf_559 (vf_559_18.rt (Or.inl W1370) (hd rfl)) rfl rfl (noH_nil rfl),
  ⟨fun hd => mk19 mt_559 cf_559 (vf_559_18.rt (Or.inl W1370) (hd rfl)) rfl rfl (noH_nil rfl),
  ⟨fun hd => mk6 fld_18_1 (Or.inl ⟨rfl, by decide⟩) (Or.inl W2025) (Or.inl rfl) (hd rfl),
  ⟨fun hd => mk7 fld_18_1 (Or.inl W2025) (Or.inl rfl) (Or.inl rfl) (hd rfl),
  trivial⟩⟩⟩⟩⟩⟩⟩⟩
theorem fe_558 : eqEs ((flat code_558).filter (fun e => ndE e.2.2.1)) (fl_558_0) = true := by decide +kernel
theorem om_558 : OKm mi iT prg 558 := OKm_of (code := code_558) rfl mt_558 (Or.inl (by decide +kernel)) rfl wk_558 (by decide +kernel) (by decide +kernel) (FA_of fe_558 (fb_558_0))
def fl_559_0 : List Ent := [(1, 3, 6, .getfield 15, [0, 18, 74], 0)]
theorem fb_559_0 : FB mi iT mi_559 (bpc code_559) (fl_559_0) := ⟨fun hd => mk6 fld_18_1 (Or.inl ⟨rfl, by decide⟩) (Or.inl W2025) (Or.inl rfl) (hd rfl),
  trivial⟩
theorem fe_559 : eqEs ((flat code_559).filter (fun e => ndE e.2.2.1)) (fl_559_0) = true := by decide +kernel
theorem om_559 : OKm mi iT prg 559 := OKm_of (code := code_559) rfl mt_559 (Or.inl (by decide +kernel)) rfl wk_559 (by decide +kernel) (by decide +kernel) (FA_of fe_559 (fb_559_0))
def fl_560_0 : List Ent := [(10, 3, 6, .getfield 9, [3, 18, 73], 0), (13, 3, 6, .getfield 31, [3, 22, 93], 0), (17, 3, 19, .invokevirtual 47, [2, 1, 1, 18, 561], 0), (22, 3, 19, .invokevirtual 51, [2, 2, 3, 16, 500], 0), (25, 3, 7, .putfield 35, [2, 18, 75], 0), (29, 3, 6, .getfield 35, [2, 18, 75], 0)]
theorem fb_560_0 : FB mi iT mi_560 (bpc code_560) (fl_560_0) := ⟨fun hd => mk6 fld_18_0 (Or.inl ⟨rfl, by decide⟩) (Or.inl W2024) (Or.inl rfl) (hd rfl),
  ⟨fun hd => mk6 fld_22_1 (Or.inl ⟨rfl, by decide⟩) (Or.inr ⟨_, W2245⟩) (Or.inl rfl) (hd rfl),
  ⟨fun hd => mk19 mt_561 cf_561 (vf_561_18.rt (Or.inl W1378) (hd rfl)) rfl rfl (noH_nil rfl),
  ⟨fun hd => mk19 mt_500 cf_500 (vf_500_16.rt (Or.inl W1387) (hd rfl)) rfl rfl (noH_nil rfl),
  ⟨fun hd => mk7 fld_18_2 (Or.inl W2027) (Or.inl rfl) (Or.inl rfl) (hd rfl),
  ⟨fun hd => mk6 fld_18_2 (Or.inl ⟨rfl, by decide⟩) (Or.inl W2027) (Or.inl rfl) (hd rfl),
  trivial⟩⟩⟩⟩⟩⟩
theorem fe_560 : eqEs ((flat code_560).filter (fun e => ndE e.2.2.1)) (fl_560_0) = true := by decide +kernel
theorem om_560 : OKm mi iT prg 560 := OKm_of (code := code_560) rfl mt_560 (Or.inl (by decide +kernel)) rfl wk_560 (by decide +kernel) (by decide +kernel) (FA_of fe_560 (fb_560_0))
def fl_561_0 : List Ent := [(12, 3, 19, .invokevirtual 24, [0, 2, 2, 18, 559], 0), (20, 3, 6, .getfield 9, [3, 18, 73], 0), (23, 3, 6, .getfield 31, [3, 22, 93], 0), (28, 3, 6, .getfield 35, [2, 18, 75], 0), (32, 3, 6, .getfield 35, [2, 18, 75], 0), (35, 3, 19, .invokevirtual 39, [2, 4, 6, 16, 514], 0), (38, 3, 15, .ldc2_w 45, [4604930618986332160], 0)]
theorem fb_561_0 : FB mi iT mi_561 (bpc code_561) (fl_561_0) := ⟨fun hd => mk19 mt_559 cf_559 (vf_559_18.rt (Or.inl W1370) (hd rfl)) rfl rfl (noH_nil rfl),
  ⟨fun hd => mk6 fld_18_0 (Or.inl ⟨rfl, by decide⟩) (Or.inl W2024) (Or.inl rfl) (hd rfl),
  ⟨fun hd => mk6 fld_22_1 (Or.inl ⟨rfl, by decide⟩) (Or.inr ⟨_, W2245⟩) (Or.inl rfl) (hd rfl),
  ⟨fun hd => mk6 fld_18_2 (Or.inl ⟨rfl, by decide⟩) (Or.inl W2027) (Or.inl rfl) (hd rfl),
  ⟨fun hd => mk6 fld_18_2 (Or.inl ⟨rfl, by decide⟩) (Or.inl W2027) (Or.inl rfl) (hd rfl),
  ⟨fun hd => mk19 mt_514 cf_514 (vf_514_16.rt (Or.inl W1382) (hd rfl)) rfl rfl (noH_nil rfl),
  ⟨fun hd => mk15 W1386 (hd rfl),
  trivial⟩⟩⟩⟩⟩⟩⟩
theorem fe_561 : eqEs ((flat code_561).filter (fun e => ndE e.2.2.1)) (fl_561_0) = true := by decide +kernel
theorem om_561 : OKm mi iT prg 561 := OKm_of (code := code_561) rfl mt_561 (Or.inl (by decide +kernel)) rfl wk_561 (by decide +kernel) (by decide +kernel) (FA_of fe_561 (fb_561_0))
def fl_562_0 : List Ent := [(2, 3, 6, .getfield 15, [0, 18, 74], 0), (6, 3, 6, .getfield 15, [0, 18, 74], 0), (12, 3, 6, .getfield 15, [0, 18, 74], 0), (22, 3, 7, .putfield 15, [0, 18, 74], 0), (26, 3, 19, .invokevirtual 28, [9, 1, 1, 18, 558], 0)]
theorem fb_562_0 : FB mi iT mi_562 (bpc code_562) (fl_562_0) := ⟨fun hd => mk6 fld_18_1 (Or.inl ⟨rfl, by decide⟩) (Or.inl W2025) (Or.inl rfl) (hd rfl),
  ⟨fun hd => mk6 fld_18_1 (Or.inl ⟨rfl, by decide⟩) (Or.inl W2025) (Or.inl rfl) (hd rfl),
  ⟨fun hd => mk6 fld_18_1 (Or.inl ⟨rfl, by decide⟩) (Or.inl W2025) (Or.inl rfl) (hd rfl),
  ⟨fun hd => mk7 fld_18_1 (Or.inl W2025) (Or.inl rfl) (Or.inl rfl) (hd rfl),
  ⟨fun hd => mk19 mt_558 cf_558 (vf_558_18.rt (Or.inl W1365) (hd rfl)) rfl rfl (noH_nil rfl),
  trivial⟩⟩⟩⟩⟩
theorem fe_562 : eqEs ((flat code_562).filter (fun e => ndE e.2.2.1)) (fl_562_0) = true := by decide +kernel
theorem om_562 : OKm mi iT prg 562 := OKm_of (code := code_562) rfl mt_562 (Or.inl (by decide +kernel)) rfl wk_562 (by decide +kernel) (by decide +kernel) (FA_of fe_562 (fb_562_0))
def fl_563_0 : List Ent := [(1, 3, 22, .invokespecial 3, [], 0), (6, 3, 7, .putfield 9, [3, 18, 73], 0)]
theorem fb_563_0 : FB mi iT mi_563 (bpc code_563) (fl_563_0) := ⟨fun hd => mk22 (by decide) W2023 oi_w (hd rfl),
  ⟨fun hd => mk7 fld_18_0 (Or.inl W2024) (Or.inl rfl) (Or.inr ⟨rfl, rfl, rfl, W2024⟩) (hd rfl),
  trivial⟩⟩
theorem fe_563 : eqEs ((flat code_563).filter (fun e => ndE e.2.2.1)) (fl_563_0) = true := by decide +kernel
theorem om_563 : OKm mi iT prg 563 := OKm_of (code := code_563) rfl mt_563 (Or.inl (by decide +kernel)) rfl wk_563 (by decide +kernel) (by decide +kernel) (FA_of fe_563 (fb_563_0))
def fl_564_0 : List Ent := [(3, 3, 19, .invokevirtual 189, [2, 3, 3, 19, 565], 0), (16, 3, 6, .getfield 183, [0, 19, 85], 0)]
theorem fb_564_0 : FB mi iT mi_564 (bpc code_564) (fl_564_0) := ⟨fun hd => mk19 mt_565 cf_565 (vf_565_19.rt (Or.inl W1404) (hd rfl)) rfl rfl (noH_nil rfl),
  ⟨fun hd => mk6 fld_19_9 (Or.inl ⟨rfl, by decide⟩) (Or.inl W2050) (Or.inl rfl) (hd rfl),
  trivial⟩⟩
theorem fe_564 : eqEs ((flat code_564).filter (fun e => ndE e.2.2.1)) (fl_564_0) = true := by decide +kernel
theorem om_564 : OKm mi iT prg 564 := OKm_of (code := code_564) rfl mt_564 (Or.inl (by decide +kernel)) rfl wk_564 (by decide +kernel) (by decide +kernel) (FA_of fe_564 (fb_564_0))
def fl_565_0 : List Ent := [(2, 3, 19, .invokevirtual 154, [0, 2, 2, 19, 566], 0), (8, 3, 15, .ldc2_w 167, [13830554455654793216], 0), (14, 3, 19, .invokevirtual 169, [9, 2, 2, 19, 569], 0), (18, 3, 6, .getfield 173, [2, 19, 83], 0)]
theorem fb_565_0 : FB mi iT mi_565 (bpc code_565) (fl_565_0) := ⟨fun hd => mk19 mt_566 cf_566 (vf_566_19.rt (Or.inl W1408) (hd rfl)) rfl rfl (noH_nil rfl),
  ⟨fun hd => mk15 W1442 (hd rfl),
  ⟨fun hd => mk19 mt_569 cf_569 (vf_569_19.rt (Or.inl W1443) (hd rfl)) rfl rfl (noH_nil rfl),
  ⟨fun hd => mk6 fld_19_7 (Or.inl ⟨rfl, by decide⟩) (Or.inl W2048) (Or.inl rfl) (hd rfl),
  trivial⟩⟩⟩⟩
theorem fe_565 : eqEs ((flat code_565).filter (fun e => ndE e.2.2.1)) (fl_565_0) = true := by decide +kernel
theorem om_565 : OKm mi iT prg 565 := OKm_of (code := code_565) rfl mt_565 (Or.inl (by decide +kernel)) rfl wk_565 (by decide +kernel) (by decide +kernel) (FA_of fe_565 (fb_565_0))
def fl_566_0 : List Ent := [(1, 3, 6, .getfield 30, [3, 19, 76], 0), (5, 3, 7, .putfield 129, [4, 22, 108], 0), (9, 3, 6, .getfield 30, [3, 19, 76], 0), (12, 3, 6, .getfield 68, [3, 22, 99], 0), (15, 3, 19, .invokevirtual 133, [9, 1, 1, 17, 547], 0), (27, 3, 6, .getfield 27, [3, 19, 82], 0), (33, 3, 19, .invokevirtual 136, [2, 2, 2, 19, 567], 0), (36, 1, 9, .dastore, [2, 103], 0), (44, 3, 19, .invokevirtual 140, [9, 1, 1, 19, 568], 0), (48, 3, 6, .getfield 30, [3, 19, 76], 0), (52, 3, 7, .putfield 129, [4, 22, 108], 0), (56, 3, 6, .getfield 30, [3, 19, 76], 0), (59, 3, 6, .getfield 68, [3, 22, 99], 0), (62, 3, 19, .invokevirtual 143, [0, 1, 1, 17, 549], 0)]
theorem fb_566_0 : FB mi iT mi_566 (bpc code_566) (fl_566_0) := ⟨fun hd => mk6 fld_19_0 (Or.inl ⟨rfl, by decide⟩) (Or.inl W2041) (Or.inl rfl) (hd rfl),
  ⟨fun hd => mk7 fld_22_16 (Or.inr ⟨_, W2307⟩) (Or.inl rfl) (Or.inl rfl) (hd rfl),
  ⟨fun hd => mk6 fld_19_0 (Or.inl ⟨rfl, by decide⟩) (Or.inl W2041) (Or.inl rfl) (hd rfl),
  ⟨fun hd => mk6 fld_22_7 (Or.inl ⟨rfl, by decide⟩) (Or.inr ⟨_, W2271⟩) (Or.inl rfl) (hd rfl),
  ⟨fun hd => mk19 mt_547 cf_547 (vf_547_17.rt (Or.inl W1413) (hd rfl)) rfl rfl (noH_nil rfl),
  ⟨fun hd => mk6 fld_19_6 (Or.inl ⟨rfl, by decide⟩) (Or.inl W2047) (Or.inl rfl) (hd rfl),
  ⟨fun hd => mk19 mt_567 cf_567 (vf_567_19.rt (Or.inl W1414) (hd rfl)) rfl rfl (noH_nil rfl),
  ⟨fun hd => ⟨_, _, _, rfl, rfl, hd rfl, Or.inr (Or.inl ⟨rfl, rfl, rfl⟩)⟩,
  ⟨fun hd => mk19 mt_568 cf_568 (vf_568_19.rt (Or.inl W1431) (hd rfl)) rfl rfl (noH_nil rfl),
  ⟨fun hd => mk6 fld_19_0 (Or.inl ⟨rfl, by decide⟩) (Or.inl W2041) (Or.inl rfl) (hd rfl),
  ⟨fun hd => mk7 fld_22_16 (Or.inr ⟨_, W2307⟩) (Or.inl rfl) (Or.inl rfl) (hd rfl),
  ⟨fun hd => mk6 fld_19_0 (Or.inl ⟨rfl, by decide⟩) (Or.inl W2041) (Or.inl rfl) (hd rfl),
  ⟨fun hd => mk6 fld_22_7 (Or.inl ⟨rfl, by decide⟩) (Or.inr ⟨_, W2271⟩) (Or.inl rfl) (hd rfl),
  ⟨fun hd => mk19 mt_549 cf_549 (vf_549_17.rt (Or.inl W1441) (hd rfl)) rfl rfl (noH_nil rfl),
  trivial⟩⟩⟩⟩⟩⟩⟩⟩⟩⟩⟩⟩⟩⟩
theorem fe_566 : eqEs ((flat code_566).filter (fun e => ndE e.2.2.1)) (fl_566_0) = true := by decide +kernel
theorem om_566 : OKm mi iT prg 566 := OKm_of (code := code_566) rfl mt_566 (Or.inl (by decide +kernel)) rfl wk_566 (by decide +kernel) (by decide +kernel) (FA_of fe_566 (fb_566_0))
def fl_567_0 : List Ent := [(1, 3, 6, .getfield 30, [3, 19, 76], 0), (4, 3, 6, .getfield 34, [3, 22, 93], 0), (7, 3, 6, .getfield 40, [0, 16, 64], 0), (13, 3, 6, .getfield 30, [3, 19, 76], 0), (18, 3, 19, .invokevirtual 46, [3, 3, 3, 22, 487], 0), (21, 3, 19, .invokevirtual 50, [2, 1, 1, 23, 590], 0), (27, 3, 6, .getfield 30, [3, 19, 76], 0), (32, 3, 19, .invokevirtual 46, [3, 3, 3, 22, 487], 0), (35, 3, 19, .invokevirtual 50, [2, 1, 1, 23, 590], 0), (41, 3, 6, .getfield 30, [3, 19, 76], 0), (46, 3, 19, .invokevirtual 46, [3, 3, 3, 22, 487], 0), (49, 3, 19, .invokevirtual 50, [2, 1, 1, 23, 590], 0), (77, 3, 15, .ldc2_w 56, [4611686018427387904], 0), (117, 3, 15, .ldc2_w 58, [4622945017495814144], 0), (122, 3, 15, .ldc2_w 56, [4611686018427387904], 0), (130, 3, 15, .ldc2_w 56, [4611686018427387904], 0), (151, 3, 38, .invokestatic 60, [1], 0), (155, 3, 15, .ldc2_w 66, [4636737291354636288], 0)]
theorem fb_567_0 : FB mi iT mi_567 (bpc code_567) (fl_567_0) := ⟨fun hd => mk6 fld_19_0 (Or.inl ⟨rfl, by decide⟩) (Or.inl W2041) (Or.inl rfl) (hd rfl),
  ⟨fun hd => mk6 fld_22_1 (Or.inl ⟨rfl, by decide⟩) (Or.inr ⟨_, W2239⟩) (Or.inl rfl) (hd rfl),
  ⟨fun hd => mk6 fld_16_2 (Or.inl ⟨rfl, by decide⟩) (Or.inr ⟨_, W1910⟩) (Or.inl rfl) (hd rfl),
  ⟨fun hd => mk6 fld_19_0 (Or.inl ⟨rfl, by decide⟩) (Or.inl W2041) (Or.inl rfl) (hd rfl),
  ⟨fun hd => mk19 mt_487 cf_487 (vf_487_22.rt (Or.inl W1418) (hd rfl)) rfl rfl (noH_nil rfl),
  ⟨fun hd => mk19 mt_590 cf_590 (vf_590_23.rt (Or.inl W1419) (hd rfl)) rfl rfl (noH_nil rfl),
  ⟨fun hd => mk6 fld_19_0 (Or.inl ⟨rfl, by decide⟩) (Or.inl W2041) (Or.inl rfl) (hd rfl),
  ⟨fun hd => mk19 mt_487 cf_487 (vf_487_22.rt (Or.inl W1418) (hd rfl)) rfl rfl (noH_nil rfl),
  ⟨fun hd => mk19 mt_590 cf_590 (vf_590_23.rt (Or.inl W1419) (hd rfl)) rfl rfl (noH_nil rfl),
  ⟨fun hd => mk6 fld_19_0 (Or.inl ⟨rfl, by decide⟩) (Or.inl W2041) (Or.inl rfl) (hd rfl),
  ⟨fun hd => mk19 mt_487 cf_487 (vf_487_22.rt (Or.inl W1418) (hd rfl)) rfl rfl (noH_nil rfl),
  ⟨fun hd => mk19 mt_590 cf_590 (vf_590_23.rt (Or.inl W1419) (hd rfl)) rfl rfl (noH_nil rfl),
  ⟨fun hd => mk15 W1423 (hd rfl),
  ⟨fun hd => mk15 W1424 (hd rfl),
  ⟨fun hd => mk15 W1423 (hd rfl),
  ⟨fun hd => mk15 W1423 (hd rfl),
  ⟨fun hd => ⟨1, _, _, by decide, rfl, rfl, by decide, W1425, mo_w1, hd rfl⟩,
  ⟨fun hd => mk15 W1430 (hd rfl),
  trivial⟩⟩⟩⟩⟩⟩⟩⟩⟩⟩⟩⟩⟩⟩⟩⟩⟩⟩
theorem fe_567 : eqEs ((flat code_567).filter (fun e => ndE e.2.2.1)) (fl_567_0) = true := by decide +kernel
theorem om_567 : OKm mi iT prg 567 := OKm_of (code := code_567) rfl mt_567 (Or.inl (by decide +kernel)) rfl wk_567 (by decide +kernel) (by decide +kernel) (FA_of fe_567 (fb_567_0))
def fl_568_0 : List Ent := [(9, 3, 6, .getfield 9, [3, 19, 77], 0), (14, 1, 9, .dastore, [2, 103], 0), (22, 3, 6, .getfield 30, [3, 19, 76], 0), (25, 3, 19, .invokevirtual 89, [0, 1, 1, 22, 485], 0), (37, 3, 6, .getfield 30, [3, 19, 76], 0), (41, 3, 19, .invokevirtual 93, [3, 2, 2, 22, 486], 0), (46, 3, 6, .getfield 9, [3, 19, 77], 0), (50, 5, 35, .invokeinterface 97 1, [0, 1, 1, 15, 600, 20, 522, 23, 588, 24, 606, 26, 725], 0), (56, 3, 6, .getfield 9, [3, 19, 77], 0), (60, 5, 35, .invokeinterface 97 1, [0, 1, 1, 15, 600, 20, 522, 23, 588, 24, 606, 26, 725], 0), (67, 5, 35, .invokeinterface 102 1, [2, 1, 1, 15, 598, 20, 521, 23, 585, 24, 605, 26, 724], 0), (73, 1, 9, .dastore, [2, 103], 0)]
theorem fb_568_0 : FB mi iT mi_568 (bpc code_568) (fl_568_0) := ⟨fun hd => mk6 fld_19_1 (Or.inl ⟨rfl, by decide⟩) (Or.inl W2042) (Or.inl rfl) (hd rfl),
  ⟨fun hd => ⟨_, _, _, rfl, rfl, hd rfl, Or.inr (Or.inl ⟨rfl, rfl, rfl⟩)⟩,
  ⟨fun hd => mk6 fld_19_0 (Or.inl ⟨rfl, by decide⟩) (Or.inl W2041) (Or.inl rfl) (hd rfl),
  ⟨fun hd => mk19 mt_485 cf_485 (vf_485_22.rt (Or.inl W1435) (hd rfl)) rfl rfl (noH_nil rfl),
  ⟨fun hd => mk6 fld_19_0 (Or.inl ⟨rfl, by decide⟩) (Or.inl W2041) (Or.inl rfl) (hd rfl),
  ⟨fun hd => mk19 mt_486 cf_486 (vf_486_22.rt (Or.inl W1436) (hd rfl)) rfl rfl (noH_nil rfl),
  ⟨fun hd => mk6 fld_19_1 (Or.inl ⟨rfl, by decide⟩) (Or.inl W2042) (Or.inl rfl) (hd rfl),
  ⟨fun hd => mk35 ⟨pr2 mt_600 cf_600 (ff_600_15.rt W1438 (hd rfl)) rfl rfl, ⟨pr2 mt_522 cf_522 (ff_522_20.rt W1438 (hd rfl)) rfl rfl, ⟨pr2 mt_588 cf_588 (ff_588_23.rt W1438 (hd rfl)) rfl rfl, ⟨pr2 mt_606 cf_606 (ff_606_24.rt W1438 (hd rfl)) rfl rfl, ⟨pr2 mt_725 cf_725 (ff_725_26.rt W1438 (hd rfl)) rfl rfl, trivial⟩⟩⟩⟩⟩,
  ⟨fun hd => mk6 fld_19_1 (Or.inl ⟨rfl, by decide⟩) (Or.inl W2042) (Or.inl rfl) (hd rfl),
  ⟨fun hd => mk35 ⟨pr2 mt_600 cf_600 (ff_600_15.rt W1438 (hd rfl)) rfl rfl, ⟨pr2 mt_522 cf_522 (ff_522_20.rt W1438 (hd rfl)) rfl rfl, ⟨pr2 mt_588 cf_588 (ff_588_23.rt W1438 (hd rfl)) rfl rfl, ⟨pr2 mt_606 cf_606 (ff_606_24.rt W1438 (hd rfl)) rfl rfl, ⟨pr2 mt_725 cf_725 (ff_725_26.rt W1438 (hd rfl)) rfl rfl, trivial⟩⟩⟩⟩⟩,
  ⟨fun hd => mk35 ⟨pr2 mt_598 cf_598 (ff_598_15.rt W1440 (hd rfl)) rfl rfl, ⟨pr2 mt_521 cf_521 (ff_521_20.rt W1440 (hd rfl)) rfl rfl, ⟨pr2 mt_585 cf_585 (ff_585_23.rt W1440 (hd rfl)) rfl rfl, ⟨pr2 mt_605 cf_605 (ff_605_24.rt W1440 (hd rfl)) rfl rfl, ⟨pr2 mt_724 cf_724 (ff_724_26.rt W1440 (hd rfl)) rfl rfl, trivial⟩⟩⟩⟩⟩,
  ⟨fun hd => ⟨_, _, _, rfl, rfl, hd rfl, Or.inr (Or.inl ⟨rfl, rfl, rfl⟩)⟩,
  trivial⟩⟩⟩⟩⟩⟩⟩⟩⟩⟩⟩⟩
theorem fe_568 : eqEs ((flat code_568).filter (fun e => ndE e.2.2.1)) (fl_568_0) = true := by decide +kernel
theorem om_568 : OKm mi iT prg 568 := OKm_of (code := code_568) rfl mt_568 (Or.inl (by decide +kernel)) rfl wk_568 (by decide +kernel) (by decide +kernel) (FA_of fe_568 (fb_568_0))
def fl_569_0 : List Ent := [(1, 3, 15, .ldc2_w 167, [13830554455654793216], 0), (4, 3, 7, .putfield 173, [2, 19, 83], 0), (16, 3, 18, .invokestatic 176, [3, 1, 1, 196], 0), (19, 3, 19, .invokevirtual 158, [9, 2, 2, 19, 570], 0), (23, 3, 19, .invokevirtual 161, [0, 1, 1, 19, 574], 0), (28, 3, 6, .getfield 24, [3, 19, 81], 0), (34, 3, 6, .getfield 173, [2, 19, 83], 0), (43, 3, 6, .getfield 24, [3, 19, 81], 0), (48, 3, 7, .putfield 173, [2, 19, 83], 0), (53, 3, 7, .putfield 180, [0, 19, 84], 0), (58, 3, 7, .putfield 183, [0, 19, 85], 0), (65, 3, 6, .getfield 24, [3, 19, 81], 0), (71, 3, 6, .getfield 173, [2, 19, 83], 0), (80, 3, 6, .getfield 183, [0, 19, 85], 0), (84, 3, 18, .invokestatic 186, [0, 2, 2, 67], 0), (87, 3, 7, .putfield 183, [0, 19, 85], 0)]
theorem fb_569_0 : FB mi iT mi_569 (bpc code_569) (fl_569_0) := ⟨fun hd => mk15 W1442 (hd rfl),
  ⟨fun hd => mk7 fld_19_7 (Or.inl W2048) (Or.inl rfl) (Or.inl rfl) (hd rfl),
  ⟨fun hd => mk18 mt_196 sf_196 (Or.inr ⟨⟨_, W1447⟩, _, _, rfl⟩) rfl rfl (noH_nil rfl) (hd rfl),
  ⟨fun hd => mk19 mt_570 cf_570 (vf_570_19.rt (Or.inl W1456) (hd rfl)) rfl rfl (noH_nil rfl),
  ⟨fun hd => mk19 mt_574 cf_574 (vf_574_19.rt (Or.inl W1499) (hd rfl)) rfl rfl (noH_nil rfl),
  ⟨fun hd => mk6 fld_19_5 (Or.inl ⟨rfl, by decide⟩) (Or.inl W2046) (Or.inl rfl) (hd rfl),
  ⟨fun hd => mk6 fld_19_7 (Or.inl ⟨rfl, by decide⟩) (Or.inl W2048) (Or.inl rfl) (hd rfl),
  ⟨fun hd => mk6 fld_19_5 (Or.inl ⟨rfl, by decide⟩) (Or.inl W2046) (Or.inl rfl) (hd rfl),
  ⟨fun hd => mk7 fld_19_7 (Or.inl W2048) (Or.inl rfl) (Or.inl rfl) (hd rfl),
  ⟨fun hd => mk7 fld_19_8 (Or.inl W2049) (Or.inl rfl) (Or.inl rfl) (hd rfl),
  ⟨fun hd => mk7 fld_19_9 (Or.inl W2050) (Or.inl rfl) (Or.inl rfl) (hd rfl),
  ⟨fun hd => mk6 fld_19_5 (Or.inl ⟨rfl, by decide⟩) (Or.inl W2046) (Or.inl rfl) (hd rfl),
  ⟨fun hd => mk6 fld_19_7 (Or.inl ⟨rfl, by decide⟩) (Or.inl W2048) (Or.inl rfl) (hd rfl),
  ⟨fun hd => mk6 fld_19_9 (Or.inl ⟨rfl, by decide⟩) (Or.inl W2050) (Or.inl rfl) (hd rfl),
  ⟨fun hd => mk18 mt_67 sf_67 (Or.inl W1503) rfl rfl (noH_nil rfl) (hd rfl),
  ⟨fun hd => mk7 fld_19_9 (Or.inl W2050) (Or.inl rfl) (Or.inl rfl) (hd rfl),
  trivial⟩⟩⟩⟩⟩⟩⟩⟩⟩⟩⟩⟩⟩⟩⟩⟩
theorem fe_569 : eqEs ((flat code_569).filter (fun e => ndE e.2.2.1)) (fl_569_0) = true := by decide +kernel
theorem om_569 : OKm mi iT prg 569 := OKm_of (code := code_569) rfl mt_569 (Or.inl (by decide +kernel)) rfl wk_569 (by decide +kernel) (by decide +kernel) (FA_of fe_569 (fb_569_0))
def fl_570_0 : List Ent := [(2, 3, 19, .invokevirtual 147, [9, 2, 2, 19, 571], 0), (6, 3, 19, .invokevirtual 151, [9, 1, 1, 19, 573], 0)]
theorem fb_570_0 : FB mi iT mi_570 (bpc code_570) (fl_570_0) := ⟨fun hd => mk19 mt_571 cf_571 (vf_571_19.rt (Or.inl W1460) (hd rfl)) rfl rfl (noH_nil rfl),
  ⟨fun hd => mk19 mt_573 cf_573 (vf_573_19.rt (Or.inl W1492) (hd rfl)) rfl rfl (noH_nil rfl),
  trivial⟩⟩
theorem fe_570 : eqEs ((flat code_570).filter (fun e => ndE e.2.2.1)) (fl_570_0) = true := by decide +kernel
theorem om_570 : OKm mi iT prg 570 := OKm_of (code := code_570) rfl mt_570 (Or.inl (by decide +kernel)) rfl wk_570 (by decide +kernel) (by decide +kernel) (FA_of fe_570 (fb_570_0))
def fl_571_0 : List Ent := [(13, 3, 6, .getfield 15, [3, 19, 78], 0), (19, 3, 6, .getfield 30, [3, 19, 76], 0), (22, 3, 6, .getfield 34, [3, 22, 93], 0), (31, 3, 19, .invokevirtual 105, [2, 3, 3, 19, 572], 0), (40, 3, 19, .invokevirtual 105, [2, 3, 3, 19, 572], 0), (43, 3, 19, .invokevirtual 109, [2, 4, 6, 16, 514], 0), (46, 1, 9, .dastore, [2, 103], 0), (49, 3, 6, .getfield 15, [3, 19, 78], 0), (64, 3, 15, .ldc2_w 113, [4562254508917369340], 0), (76, 3, 6, .getfield 30, [3, 19, 76], 0), (79, 3, 6, .getfield 68, [3, 22, 99], 0), (82, 3, 6, .getfield 115, [2, 17, 68], 0), (100, 3, 6, .getfield 15, [3, 19, 78], 0), (106, 3, 6, .getfield 15, [3, 19, 78], 0), (115, 1, 9, .dastore, [2, 103], 0)]
theorem fb_571_0 : FB mi iT mi_571 (bpc code_571) (fl_571_0) := ⟨fun hd => mk6 fld_19_2 (Or.inl ⟨rfl, by decide⟩) (Or.inl W2043) (Or.inl rfl) (hd rfl),
  ⟨fun hd => mk6 fld_19_0 (Or.inl ⟨rfl, by decide⟩) (Or.inl W2041) (Or.inl rfl) (hd rfl),
  ⟨fun hd => mk6 fld_22_1 (Or.inl ⟨rfl, by decide⟩) (Or.inr ⟨_, W2239⟩) (Or.inl rfl) (hd rfl),
  ⟨fun hd => mk19 mt_572 cf_572 (vf_572_19.rt (Or.inl W1464) (hd rfl)) rfl rfl (noH_nil rfl),
  ⟨fun hd => mk19 mt_572 cf_572 (vf_572_19.rt (Or.inl W1464) (hd rfl)) rfl rfl (noH_nil rfl),
  ⟨fun hd => mk19 mt_514 cf_514 (vf_514_16.rt (Or.inl W1490) (hd rfl)) rfl rfl (noH_nil rfl),
  ⟨fun hd => ⟨_, _, _, rfl, rfl, hd rfl, Or.inr (Or.inl ⟨rfl, rfl, rfl⟩)⟩,
  ⟨fun hd => mk6 fld_19_2 (Or.inl ⟨rfl, by decide⟩) (Or.inl W2043) (Or.inl rfl) (hd rfl),
  ⟨fun hd => mk15 W1491 (hd rfl),
  ⟨fun hd => mk6 fld_19_0 (Or.inl ⟨rfl, by decide⟩) (Or.inl W2041) (Or.inl rfl) (hd rfl),
  ⟨fun hd => mk6 fld_22_7 (Or.inl ⟨rfl, by decide⟩) (Or.inr ⟨_, W2271⟩) (Or.inl rfl) (hd rfl),
  ⟨fun hd => mk6 fld_17_1 (Or.inl ⟨rfl, by decide⟩) (Or.inr ⟨_, W1994⟩) (Or.inl rfl) (hd rfl),
  ⟨fun hd => mk6 fld_19_2 (Or.inl ⟨rfl, by decide⟩) (Or.inl W2043) (Or.inl rfl) (hd rfl),
  ⟨fun hd => mk6 fld_19_2 (Or.inl ⟨rfl, by decide⟩) (Or.inl W2043) (Or.inl rfl) (hd rfl),
  ⟨fun hd => ⟨_, _, _, rfl, rfl, hd rfl, Or.inr (Or.inl ⟨rfl, rfl, rfl⟩)⟩,
  trivial⟩⟩⟩⟩⟩⟩⟩⟩⟩⟩⟩⟩⟩⟩⟩
theorem fe_571 : eqEs ((flat code_571).filter (fun e => ndE e.2.2.1)) (fl_571_0) = true := by decide +kernel
theorem om_571 : OKm mi iT prg 571 := OKm_of (code := code_571) rfl mt_571 (Or.inl (by decide +kernel)) rfl wk_571 (by decide +kernel) (by decide +kernel) (FA_of fe_571 (fb_571_0))
def fl_572_0 : List Ent := [(1, 3, 6, .getfield 30, [3, 19, 76], 0), (4, 3, 6, .getfield 34, [3, 22, 93], 0), (7, 3, 6, .getfield 40, [0, 16, 64], 0), (13, 3, 6, .getfield 30, [3, 19, 76], 0), (16, 3, 6, .getfield 68, [3, 22, 99], 0), (19, 3, 6, .getfield 72, [2, 17, 72], 0), (23, 3, 6, .getfield 30, [3, 19, 76], 0), (26, 3, 6, .getfield 34, [3, 22, 93], 0), (29, 3, 6, .getfield 40, [0, 16, 64], 0), (34, 3, 31, .invokevirtual 78, [0, 2, 2, 9, 793, 10, 794, 11, 729], 0), (39, 3, 15, .ldc2_w 84, [4629700416936869888], 0), (50, 3, 38, .invokestatic 86, [2], 0), (53, 3, 38, .invokestatic 60, [1], 0)]
theorem fb_572_0 : FB mi iT mi_572 (bpc code_572) (fl_572_0) := ⟨fun hd => mk6 fld_19_0 (Or.inl ⟨rfl, by decide⟩) (Or.inl W2041) (Or.inl rfl) (hd rfl),
  ⟨fun hd => mk6 fld_22_1 (Or.inl ⟨rfl, by decide⟩) (Or.inr ⟨_, W2239⟩) (Or.inl rfl) (hd rfl),
  ⟨fun hd => mk6 fld_16_2 (Or.inl ⟨rfl, by decide⟩) (Or.inr ⟨_, W1910⟩) (Or.inl rfl) (hd rfl),
  ⟨fun hd => mk6 fld_19_0 (Or.inl ⟨rfl, by decide⟩) (Or.inl W2041) (Or.inl rfl) (hd rfl),
  ⟨fun hd => mk6 fld_22_7 (Or.inl ⟨rfl, by decide⟩) (Or.inr ⟨_, W2271⟩) (Or.inl rfl) (hd rfl),
  ⟨fun hd => mk6 fld_17_5 (Or.inl ⟨rfl, by decide⟩) (Or.inr ⟨_, W2002⟩) (Or.inl rfl) (hd rfl),
  ⟨fun hd => mk6 fld_19_0 (Or.inl ⟨rfl, by decide⟩) (Or.inl W2041) (Or.inl rfl) (hd rfl),
  ⟨fun hd => mk6 fld_22_1 (Or.inl ⟨rfl, by decide⟩) (Or.inr ⟨_, W2239⟩) (Or.inl rfl) (hd rfl),
  ⟨fun hd => mk6 fld_16_2 (Or.inl ⟨rfl, by decide⟩) (Or.inr ⟨_, W1910⟩) (Or.inl rfl) (hd rfl),
  ⟨fun hd => mk31 ⟨pr3 mt_793 cf_793 (ei_793_9_KeelHouse_Seaswell_I_I.rt W1468 (hd rfl)) rfl rfl, ⟨pr3 mt_794 cf_794 (ei_794_10_KeelHouse_Seaswell_I_I.rt W1468 (hd rfl)) rfl rfl, ⟨pr3 mt_729 cf_729 (ei_729_11_KeelHouse_Seaswell_I_I.rt W1468 (hd rfl)) rfl rfl, trivial⟩⟩⟩,
  ⟨fun hd => mk15 W1486 (hd rfl),
  ⟨fun hd => ⟨2, _, _, by decide, rfl, rfl, by decide, W1487, mo_w2, hd rfl⟩,
  ⟨fun hd => ⟨1, _, _, by decide, rfl, rfl, by decide, W1425, mo_w1, hd rfl⟩,
  trivial⟩⟩⟩⟩⟩⟩⟩⟩⟩⟩⟩⟩⟩
theorem fe_572 : eqEs ((flat code_572).filter (fun e => ndE e.2.2.1)) (fl_572_0) = true := by decide +kernel
theorem om_572 : OKm mi iT prg 572 := OKm_of (code := code_572) rfl mt_572 (Or.inl (by decide +kernel)) rfl wk_572 (by decide +kernel) (by decide +kernel) (FA_of fe_572 (fb_572_0))
def fl_573_0 : List Ent := [(23, 3, 6, .getfield 9, [3, 19, 77], 0), (31, 3, 6, .getfield 15, [3, 19, 78], 0), (45, 3, 15, .ldc2_w 56, [4611686018427387904], 0), (50, 3, 6, .getfield 30, [3, 19, 76], 0), (53, 3, 6, .getfield 34, [3, 22, 93], 0), (56, 3, 6, .getfield 118, [0, 16, 63], 0), (61, 3, 15, .ldc2_w 121, [4618441417868443648], 0), (68, 3, 6, .getfield 18, [3, 19, 79], 0), (74, 1, 9, .dastore, [2, 103], 0), (76, 3, 6, .getfield 21, [3, 19, 80], 0), (82, 1, 9, .dastore, [2, 103], 0), (84, 3, 6, .getfield 27, [3, 19, 82], 0), (93, 3, 6, .getfield 24, [3, 19, 81], 0), (105, 3, 15, .ldc2_w 123, [4666722622711529472], 0), (113, 3, 38, .invokestatic 125, [0], 0), (117, 3, 38, .invokestatic 125, [0], 0), (120, 3, 38, .invokestatic 60, [1], 0), (126, 1, 9, .dastore, [2, 103], 0)]
theorem fb_573_0 : FB mi iT mi_573 (bpc code_573) (fl_573_0) := ⟨fun hd => mk6 fld_19_1 (Or.inl ⟨rfl, by decide⟩) (Or.inl W2042) (Or.inl rfl) (hd rfl),
  ⟨fun hd => mk6 fld_19_2 (Or.inl ⟨rfl, by decide⟩) (Or.inl W2043) (Or.inl rfl) (hd rfl),
  ⟨fun hd => mk15 W1423 (hd rfl),
  ⟨fun hd => mk6 fld_19_0 (Or.inl ⟨rfl, by decide⟩) (Or.inl W2041) (Or.inl rfl) (hd rfl),
  ⟨fun hd => mk6 fld_22_1 (Or.inl ⟨rfl, by decide⟩) (Or.inr ⟨_, W2239⟩) (Or.inl rfl) (hd rfl),
  ⟨fun hd => mk6 fld_16_1 (Or.inl ⟨rfl, by decide⟩) (Or.inr ⟨_, W1903⟩) (Or.inl rfl) (hd rfl),
  ⟨fun hd => mk15 W1496 (hd rfl),
  ⟨fun hd => mk6 fld_19_3 (Or.inl ⟨rfl, by decide⟩) (Or.inl W2044) (Or.inl rfl) (hd rfl),
  ⟨fun hd => ⟨_, _, _, rfl, rfl, hd rfl, Or.inr (Or.inl ⟨rfl, rfl, rfl⟩)⟩,
  ⟨fun hd => mk6 fld_19_4 (Or.inl ⟨rfl, by decide⟩) (Or.inl W2045) (Or.inl rfl) (hd rfl),
  ⟨fun hd => ⟨_, _, _, rfl, rfl, hd rfl, Or.inr (Or.inl ⟨rfl, rfl, rfl⟩)⟩,
  ⟨fun hd => mk6 fld_19_6 (Or.inl ⟨rfl, by decide⟩) (Or.inl W2047) (Or.inl rfl) (hd rfl),
  ⟨fun hd => mk6 fld_19_5 (Or.inl ⟨rfl, by decide⟩) (Or.inl W2046) (Or.inl rfl) (hd rfl),
  ⟨fun hd => mk15 W1497 (hd rfl),
  ⟨fun hd => ⟨0, _, _, by decide, rfl, rfl, by decide, W1498, mo_w0, hd rfl⟩,
  ⟨fun hd => ⟨0, _, _, by decide, rfl, rfl, by decide, W1498, mo_w0, hd rfl⟩,
  ⟨fun hd => ⟨1, _, _, by decide, rfl, rfl, by decide, W1425, mo_w1, hd rfl⟩,
  ⟨fun hd => ⟨_, _, _, rfl, rfl, hd rfl, Or.inr (Or.inl ⟨rfl, rfl, rfl⟩)⟩,
  trivial⟩⟩⟩⟩⟩⟩⟩⟩⟩⟩⟩⟩⟩⟩⟩⟩⟩⟩
theorem fe_573 : eqEs ((flat code_573).filter (fun e => ndE e.2.2.1)) (fl_573_0) = true := by decide +kernel
theorem om_573 : OKm mi iT prg 573 := OKm_of (code := code_573) rfl mt_573 (Or.inl (by decide +kernel)) rfl wk_573 (by decide +kernel) (by decide +kernel) (FA_of fe_573 (fb_573_0))
def fl_574_0 : List Ent := [(11, 3, 6, .getfield 24, [3, 19, 81], 0), (17, 3, 6, .getfield 24, [3, 19, 81], 0)]
theorem fb_574_0 : FB mi iT mi_574 (bpc code_574) (fl_574_0) := ⟨fun hd => mk6 fld_19_5 (Or.inl ⟨rfl, by decide⟩) (Or.inl W2046) (Or.inl rfl) (hd rfl),
  ⟨fun hd => mk6 fld_19_5 (Or.inl ⟨rfl, by decide⟩) (Or.inl W2046) (Or.inl rfl) (hd rfl),
  trivial⟩⟩
theorem fe_574 : eqEs ((flat code_574).filter (fun e => ndE e.2.2.1)) (fl_574_0) = true := by decide +kernel
theorem om_574 : OKm mi iT prg 574 := OKm_of (code := code_574) rfl mt_574 (Or.inl (by decide +kernel)) rfl wk_574 (by decide +kernel) (by decide +kernel) (FA_of fe_574 (fb_574_0))
def fl_575_0 : List Ent := [(1, 3, 22, .invokespecial 3, [], 0), (7, 2, 12, .newarray .double, [103], 0), (9, 3, 7, .putfield 9, [3, 19, 77], 0), (15, 2, 12, .newarray .double, [103], 0), (17, 3, 7, .putfield 15, [3, 19, 78], 0), (23, 2, 12, .newarray .double, [103], 0), (25, 3, 7, .putfield 18, [3, 19, 79], 0), (31, 2, 12, .newarray .double, [103], 0), (33, 3, 7, .putfield 21, [3, 19, 80], 0), (39, 2, 12, .newarray .double, [103], 0), (41, 3, 7, .putfield 24, [3, 19, 81], 0), (47, 2, 12, .newarray .double, [103], 0), (49, 3, 7, .putfield 27, [3, 19, 82], 0), (54, 3, 7, .putfield 30, [3, 19, 76], 0)]
theorem fb_575_0 : FB mi iT mi_575 (bpc code_575) (fl_575_0) := ⟨fun hd => mk22 (by decide) W2040 oi_w (hd rfl),
  ⟨fun hd => mk12a (at_ := .double) (by decide) rfl W1932 (hd rfl),
  ⟨fun hd => mk7 fld_19_1 (Or.inl W2042) (Or.inl rfl) (Or.inr ⟨rfl, rfl, rfl, W2042⟩) (hd rfl),
  ⟨fun hd => mk12a (at_ := .double) (by decide) rfl W1932 (hd rfl),
  ⟨fun hd => mk7 fld_19_2 (Or.inl W2043) (Or.inl rfl) (Or.inr ⟨rfl, rfl, rfl, W2043⟩) (hd rfl),
  ⟨fun hd => mk12a (at_ := .double) (by decide) rfl W1932 (hd rfl),
  ⟨fun hd => mk7 fld_19_3 (Or.inl W2044) (Or.inl rfl) (Or.inr ⟨rfl, rfl, rfl, W2044⟩) (hd rfl),
  ⟨fun hd => mk12a (at_ := .double) (by decide) rfl W1932 (hd rfl),
  ⟨fun hd => mk7 fld_19_4 (Or.inl W2045) (Or.inl rfl) (Or.inr ⟨rfl, rfl, rfl, W2045⟩) (hd rfl),
  ⟨fun hd => mk12a (at_ := .double) (by decide) rfl W1932 (hd rfl),
  ⟨fun hd => mk7 fld_19_5 (Or.inl W2046) (Or.inl rfl) (Or.inr ⟨rfl, rfl, rfl, W2046⟩) (hd rfl),
  ⟨fun hd => mk12a (at_ := .double) (by decide) rfl W1932 (hd rfl),
  ⟨fun hd => mk7 fld_19_6 (Or.inl W2047) (Or.inl rfl) (Or.inr ⟨rfl, rfl, rfl, W2047⟩) (hd rfl),
  ⟨fun hd => mk7 fld_19_0 (Or.inl W2041) (Or.inl rfl) (Or.inr ⟨rfl, rfl, rfl, W2041⟩) (hd rfl),
  trivial⟩⟩⟩⟩⟩⟩⟩⟩⟩⟩⟩⟩⟩⟩
theorem fe_575 : eqEs ((flat code_575).filter (fun e => ndE e.2.2.1)) (fl_575_0) = true := by decide +kernel
theorem om_575 : OKm mi iT prg 575 := OKm_of (code := code_575) rfl mt_575 (Or.inl (by decide +kernel)) rfl wk_575 (by decide +kernel) (by decide +kernel) (FA_of fe_575 (fb_575_0))
def fl_576_0 : List Ent := [(1, 3, 19, .invokevirtual 196, [9, 1, 1, 19, 577], 0), (17, 3, 19, .invokevirtual 189, [2, 3, 3, 19, 565], 0), (31, 3, 6, .getfield 30, [3, 19, 76], 0), (34, 3, 6, .getfield 199, [0, 22, 107], 0), (47, 3, 6, .getfield 180, [0, 19, 84], 0), (50, 3, 19, .invokevirtual 202, [0, 2, 2, 19, 578], 0), (72, 3, 19, .invokevirtual 189, [2, 3, 3, 19, 565], 0), (88, 3, 6, .getfield 30, [3, 19, 76], 0), (91, 3, 6, .getfield 199, [0, 22, 107], 0)]
theorem fb_576_0 : FB mi iT mi_576 (bpc code_576) (fl_576_0) := ⟨fun hd => mk19 mt_577 cf_577 (vf_577_19.rt (Or.inl W2743) (hd rfl)) rfl rfl (noH_nil rfl),
  ⟨fun hd => mk19 mt_565 cf_565 (vf_565_19.rt (Or.inl W1404) (hd rfl)) rfl rfl (noH_nil rfl),
  ⟨fun hd => mk6 fld_19_0 (Or.inl ⟨rfl, by decide⟩) (Or.inl W2041) (Or.inl rfl) (hd rfl),
  ⟨fun hd => mk6 fld_22_15 (Or.inl ⟨rfl, by decide⟩) (Or.inr ⟨_, W2304⟩) (Or.inl rfl) (hd rfl),
  ⟨fun hd => mk6 fld_19_8 (Or.inl ⟨rfl, by decide⟩) (Or.inl W2049) (Or.inl rfl) (hd rfl),
  ⟨fun hd => mk19 mt_578 cf_578 (vf_578_19.rt (Or.inl W2747) (hd rfl)) rfl rfl (noH_nil rfl),
  ⟨fun hd => mk19 mt_565 cf_565 (vf_565_19.rt (Or.inl W1404) (hd rfl)) rfl rfl (noH_nil rfl),
  ⟨fun hd => mk6 fld_19_0 (Or.inl ⟨rfl, by decide⟩) (Or.inl W2041) (Or.inl rfl) (hd rfl),
  ⟨fun hd => mk6 fld_22_15 (Or.inl ⟨rfl, by decide⟩) (Or.inr ⟨_, W2304⟩) (Or.inl rfl) (hd rfl),
  trivial⟩⟩⟩⟩⟩⟩⟩⟩⟩
theorem fe_576 : eqEs ((flat code_576).filter (fun e => ndE e.2.2.1)) (fl_576_0) = true := by decide +kernel
theorem om_576 : OKm mi iT prg 576 := OKm_of (code := code_576) rfl mt_576 (Or.inl (by decide +kernel)) rfl wk_576 (by decide +kernel) (by decide +kernel) (FA_of fe_576 (fb_576_0))
def fl_577_0 : List Ent := [(16, 3, 6, .getfield 30, [3, 19, 76], 0), (21, 3, 19, .invokevirtual 46, [3, 3, 3, 22, 487], 0), (25, 3, 7, .putfield 193, [0, 23, 122], 0)]
theorem fb_577_0 : FB mi iT mi_577 (bpc code_577) (fl_577_0) := ⟨fun hd => mk6 fld_19_0 (Or.inl ⟨rfl, by decide⟩) (Or.inl W2041) (Or.inl rfl) (hd rfl),
  ⟨fun hd => mk19 mt_487 cf_487 (vf_487_22.rt (Or.inl W1418) (hd rfl)) rfl rfl (noH_nil rfl),
  ⟨fun hd => mk7 fld_23_3 (Or.inr ⟨_, W2083⟩) (Or.inl rfl) (Or.inl rfl) (hd rfl),
  trivial⟩⟩⟩
theorem fe_577 : eqEs ((flat code_577).filter (fun e => ndE e.2.2.1)) (fl_577_0) = true := by decide +kernel
theorem om_577 : OKm mi iT prg 577 := OKm_of (code := code_577) rfl mt_577 (Or.inl (by decide +kernel)) rfl wk_577 (by decide +kernel) (by decide +kernel) (FA_of fe_577 (fb_577_0))
def fl_578_0 : List Ent := [(1, 3, 6, .getfield 30, [3, 19, 76], 0), (6, 3, 19, .invokevirtual 46, [3, 3, 3, 22, 487], 0), (11, 3, 6, .getfield 30, [3, 19, 76], 0), (16, 3, 19, .invokevirtual 46, [3, 3, 3, 22, 487], 0), (21, 3, 6, .getfield 30, [3, 19, 76], 0), (26, 3, 19, .invokevirtual 46, [3, 3, 3, 22, 487], 0), (33, 3, 6, .getfield 193, [0, 23, 122], 0), (37, 3, 6, .getfield 193, [0, 23, 122], 0), (53, 3, 6, .getfield 193, [0, 23, 122], 0), (76, 3, 6, .getfield 193, [0, 23, 122], 0), (81, 3, 7, .putfield 193, [0, 23, 122], 0), (85, 3, 6, .getfield 193, [0, 23, 122], 0), (90, 3, 6, .getfield 193, [0, 23, 122], 0), (100, 3, 6, .getfield 193, [0, 23, 122], 0), (105, 3, 7, .putfield 193, [0, 23, 122], 0)]
theorem fb_578_0 : FB mi iT mi_578 (bpc code_578) (fl_578_0) := ⟨fun hd => mk6 fld_19_0 (Or.inl ⟨rfl, by decide⟩) (Or.inl W2041) (Or.inl rfl) (hd rfl),
  ⟨fun hd => mk19 mt_487 cf_487 (vf_487_22.rt (Or.inl W1418) (hd rfl)) rfl rfl (noH_nil rfl),
  ⟨fun hd => mk6 fld_19_0 (Or.inl ⟨rfl, by decide⟩) (Or.inl W2041) (Or.inl rfl) (hd rfl),
  ⟨fun hd => mk19 mt_487 cf_487 (vf_487_22.rt (Or.inl W1418) (hd rfl)) rfl rfl (noH_nil rfl),
  ⟨fun hd => mk6 fld_19_0 (Or.inl ⟨rfl, by decide⟩) (Or.inl W2041) (Or.inl rfl) (hd rfl),
  ⟨fun hd => mk19 mt_487 cf_487 (vf_487_22.rt (Or.inl W1418) (hd rfl)) rfl rfl (noH_nil rfl),
  ⟨fun hd => mk6 fld_23_3 (Or.inl ⟨rfl, by decide⟩) (Or.inr ⟨_, W2083⟩) (Or.inl rfl) (hd rfl),
  ⟨fun hd => mk6 fld_23_3 (Or.inl ⟨rfl, by decide⟩) (Or.inr ⟨_, W2083⟩) (Or.inl rfl) (hd rfl),
  ⟨fun hd => mk6 fld_23_3 (Or.inl ⟨rfl, by decide⟩) (Or.inr ⟨_, W2083⟩) (Or.inl rfl) (hd rfl),
  ⟨fun hd => mk6 fld_23_3 (Or.inl ⟨rfl, by decide⟩) (Or.inr ⟨_, W2083⟩) (Or.inl rfl) (hd rfl),
  ⟨fun hd => mk7 fld_23_3 (Or.inr ⟨_, W2083⟩) (Or.inl rfl) (Or.inl rfl) (hd rfl),
  ⟨fun hd => mk6 fld_23_3 (Or.inl ⟨rfl, by decide⟩) (Or.inr ⟨_, W2083⟩) (Or.inl rfl) (hd rfl),
  ⟨fun hd => mk6 fld_23_3 (Or.inl ⟨rfl, by decide⟩) (Or.inr ⟨_, W2083⟩) (Or.inl rfl) (hd rfl),
  ⟨fun hd => mk6 fld_23_3 (Or.inl ⟨rfl, by decide⟩) (Or.inr ⟨_, W2083⟩) (Or.inl rfl) (hd rfl),
  ⟨fun hd => mk7 fld_23_3 (Or.inr ⟨_, W2083⟩) (Or.inl rfl) (Or.inl rfl) (hd rfl),
  trivial⟩⟩⟩⟩⟩⟩⟩⟩⟩⟩⟩⟩⟩⟩⟩
theorem fe_578 : eqEs ((flat code_578).filter (fun e => ndE e.2.2.1)) (fl_578_0) = true := by decide +kernel
theorem om_578 : OKm mi iT prg 578 := OKm_of (code := code_578) rfl mt_578 (Or.inl (by decide +kernel)) rfl wk_578 (by decide +kernel) (by decide +kernel) (FA_of fe_578 (fb_578_0))
def fl_579_0 : List Ent := [(2, 3, 19, .invokevirtual 154, [0, 2, 2, 19, 566], 0), (12, 3, 19, .invokevirtual 158, [9, 2, 2, 19, 570], 0)]
theorem fb_579_0 : FB mi iT mi_579 (bpc code_579) (fl_579_0) := ⟨fun hd => mk19 mt_566 cf_566 (vf_566_19.rt (Or.inl W1408) (hd rfl)) rfl rfl (noH_nil rfl),
  ⟨fun hd => mk19 mt_570 cf_570 (vf_570_19.rt (Or.inl W1456) (hd rfl)) rfl rfl (noH_nil rfl),
  trivial⟩⟩
theorem fe_579 : eqEs ((flat code_579).filter (fun e => ndE e.2.2.1)) (fl_579_0) = true := by decide +kernel
theorem om_579 : OKm mi iT prg 579 := OKm_of (code := code_579) rfl mt_579 (Or.inl (by decide +kernel)) rfl wk_579 (by decide +kernel) (by decide +kernel) (FA_of fe_579 (fb_579_0))
def fl_580_0 : List Ent := [(7, 3, 6, .getfield 24, [3, 19, 81], 0), (20, 3, 6, .getfield 18, [3, 19, 79], 0), (36, 3, 6, .getfield 21, [3, 19, 80], 0), (48, 3, 19, .invokevirtual 164, [2, 1, 1, 19, 581], 0)]
theorem fb_580_0 : FB mi iT mi_580 (bpc code_580) (fl_580_0) := ⟨fun hd => mk6 fld_19_5 (Or.inl ⟨rfl, by decide⟩) (Or.inl W2046) (Or.inl rfl) (hd rfl),
  ⟨fun hd => mk6 fld_19_3 (Or.inl ⟨rfl, by decide⟩) (Or.inl W2044) (Or.inl rfl) (hd rfl),
  ⟨fun hd => mk6 fld_19_4 (Or.inl ⟨rfl, by decide⟩) (Or.inl W2045) (Or.inl rfl) (hd rfl),
  ⟨fun hd => mk19 mt_581 cf_581 (vf_581_19.rt (Or.inl W2774) (hd rfl)) rfl rfl (noH_nil rfl),
  trivial⟩⟩⟩⟩
theorem fe_580 : eqEs ((flat code_580).filter (fun e => ndE e.2.2.1)) (fl_580_0) = true := by decide +kernel
theorem om_580 : OKm mi iT prg 580 := OKm_of (code := code_580) rfl mt_580 (Or.inl (by decide +kernel)) rfl wk_580 (by decide +kernel) (by decide +kernel) (FA_of fe_580 (fb_580_0))
def fl_581_0 : List Ent := [(1, 3, 6, .getfield 24, [3, 19, 81], 0), (5, 3, 19, .invokevirtual 161, [0, 1, 1, 19, 574], 0)]
theorem fb_581_0 : FB mi iT mi_581 (bpc code_581) (fl_581_0) := ⟨fun hd => mk6 fld_19_5 (Or.inl ⟨rfl, by decide⟩) (Or.inl W2046) (Or.inl rfl) (hd rfl),
  ⟨fun hd => mk19 mt_574 cf_574 (vf_574_19.rt (Or.inl W1499) (hd rfl)) rfl rfl (noH_nil rfl),
  trivial⟩⟩
theorem fe_581 : eqEs ((flat code_581).filter (fun e => ndE e.2.2.1)) (fl_581_0) = true := by decide +kernel
theorem om_581 : OKm mi iT prg 581 := OKm_of (code := code_581) rfl mt_581 (Or.inl (by decide +kernel)) rfl wk_581 (by decide +kernel) (by decide +kernel) (FA_of fe_581 (fb_581_0))
def fl_582_0 : List Ent := [(1, 3, 13, .getstatic 3, [15], 0), (12, 3, 13, .getstatic 7, [16], 0), (23, 3, 13, .getstatic 10, [19], 0), (34, 3, 13, .getstatic 13, [24], 0), (45, 3, 13, .getstatic 16, [18], 0)]
theorem fb_582_0 : FB mi iT mi_582 (bpc code_582) (fl_582_0) := ⟨fun hd => mk13s (by decide) rfl (Or.inl W1054) (Or.inl rfl) (hd rfl),
  ⟨fun hd => mk13s (by decide) rfl (Or.inl W1056) (Or.inl rfl) (hd rfl),
  ⟨fun hd => mk13s (by decide) rfl (Or.inl W1058) (Or.inl rfl) (hd rfl),
  ⟨fun hd => mk13s (by decide) rfl (Or.inl W1060) (Or.inl rfl) (hd rfl),
  ⟨fun hd => mk13s (by decide) rfl (Or.inl W1061) (Or.inl rfl) (hd rfl),
  trivial⟩⟩⟩⟩⟩
theorem fe_582 : eqEs ((flat code_582).filter (fun e => ndE e.2.2.1)) (fl_582_0) = true := by decide +kernel
theorem om_582 : OKm mi iT prg 582 := OKm_of (code := code_582) rfl mt_582 (Or.inl (by decide +kernel)) rfl wk_582 (by decide +kernel) (by decide +kernel) (FA_of fe_582 (fb_582_0))
theorem fe_583 : eqEs ((flat code_583).filter (fun e => ndE e.2.2.1)) ([]) = true := by decide +kernel
theorem om_583 : OKm mi iT prg 583 := OKm_of (code := code_583) rfl mt_583 (Or.inl (by decide +kernel)) rfl wk_583 (by decide +kernel) (by decide +kernel) (FA_of fe_583 (trivial))
theorem fe_584 : eqEs ((flat code_584).filter (fun e => ndE e.2.2.1)) ([]) = true := by decide +kernel
theorem om_584 : OKm mi iT prg 584 := OKm_of (code := code_584) rfl mt_584 (Or.inl (by decide +kernel)) rfl wk_584 (by decide +kernel) (by decide +kernel) (FA_of fe_584 (trivial))
def fl_585_0 : List Ent := [(1, 3, 19, .invokevirtual 50, [2, 1, 1, 23, 586], 0), (5, 3, 6, .getfield 16, [3, 23, 119], 0), (8, 3, 6, .getfield 26, [3, 22, 93], 0), (11, 3, 6, .getfield 57, [0, 16, 63], 0), (16, 3, 15, .ldc2_w 60, [4618441417868443648], 0), (21, 3, 19, .invokevirtual 53, [0, 1, 1, 23, 587], 0), (26, 3, 15, .ldc2_w 62, [4575765307799480828], 0)]
theorem fb_585_0 : FB mi iT mi_585 (bpc code_585) (fl_585_0) := ⟨fun hd => mk19 mt_586 cf_586 (vf_586_23.rt (Or.inl W1118) (hd rfl)) rfl rfl (noH_nil rfl),
  ⟨fun hd => mk6 fld_23_0 (Or.inl ⟨rfl, by decide⟩) (Or.inl W2078) (Or.inl rfl) (hd rfl),
  ⟨fun hd => mk6 fld_22_1 (Or.inl ⟨rfl, by decide⟩) (Or.inr ⟨_, W2238⟩) (Or.inl rfl) (hd rfl),
  ⟨fun hd => mk6 fld_16_1 (Or.inl ⟨rfl, by decide⟩) (Or.inr ⟨_, W1902⟩) (Or.inl rfl) (hd rfl),
  ⟨fun hd => mk15 W1128 (hd rfl),
  ⟨fun hd => mk19 mt_587 cf_587 (vf_587_23.rt (Or.inl W1129) (hd rfl)) rfl rfl (noH_nil rfl),
  ⟨fun hd => mk15 W1133 (hd rfl),
  trivial⟩⟩⟩⟩⟩⟩⟩
theorem fe_585 : eqEs ((flat code_585).filter (fun e => ndE e.2.2.1)) (fl_585_0) = true := by decide +kernel
theorem om_585 : OKm mi iT prg 585 := OKm_of (code := code_585) rfl mt_585 (Or.inl (by decide +kernel)) rfl wk_585 (by decide +kernel) (by decide +kernel) (FA_of fe_585 (fb_585_0))
def fl_586_0 : List Ent := [(1, 3, 6, .getfield 16, [3, 23, 119], 0), (4, 3, 6, .getfield 26, [3, 22, 93], 0), (9, 3, 6, .getfield 23, [0, 23, 121], 0), (17, 3, 6, .getfield 20, [0, 23, 120], 0), (21, 3, 19, .invokevirtual 32, [2, 3, 3, 16, 498], 0), (28, 3, 6, .getfield 23, [0, 23, 121], 0), (35, 3, 15, .ldc2_w 38, [4611686018427387904], 0), (39, 3, 6, .getfield 40, [0, 16, 64], 0), (49, 3, 6, .getfield 20, [0, 23, 120], 0), (53, 3, 19, .invokevirtual 32, [2, 3, 3, 16, 498], 0)]
theorem fb_586_0 : FB mi iT mi_586 (bpc code_586) (fl_586_0) := ⟨fun hd => mk6 fld_23_0 (Or.inl ⟨rfl, by decide⟩) (Or.inl W2078) (Or.inl rfl) (hd rfl),
  ⟨fun hd => mk6 fld_22_1 (Or.inl ⟨rfl, by decide⟩) (Or.inr ⟨_, W2238⟩) (Or.inl rfl) (hd rfl),
  ⟨fun hd => mk6 fld_23_2 (Or.inl ⟨rfl, by decide⟩) (Or.inl W2080) (Or.inl rfl) (hd rfl),
  ⟨fun hd => mk6 fld_23_1 (Or.inl ⟨rfl, by decide⟩) (Or.inl W2079) (Or.inl rfl) (hd rfl),
  ⟨fun hd => mk19 mt_498 cf_498 (vf_498_16.rt (Or.inl W1122) (hd rfl)) rfl rfl (noH_nil rfl),
  ⟨fun hd => mk6 fld_23_2 (Or.inl ⟨rfl, by decide⟩) (Or.inl W2080) (Or.inl rfl) (hd rfl),
  ⟨fun hd => mk15 W1127 (hd rfl),
  ⟨fun hd => mk6 fld_16_2 (Or.inl ⟨rfl, by decide⟩) (Or.inr ⟨_, W1913⟩) (Or.inl rfl) (hd rfl),
  ⟨fun hd => mk6 fld_23_1 (Or.inl ⟨rfl, by decide⟩) (Or.inl W2079) (Or.inl rfl) (hd rfl),
  ⟨fun hd => mk19 mt_498 cf_498 (vf_498_16.rt (Or.inl W1122) (hd rfl)) rfl rfl (noH_nil rfl),
  trivial⟩⟩⟩⟩⟩⟩⟩⟩⟩⟩
theorem fe_586 : eqEs ((flat code_586).filter (fun e => ndE e.2.2.1)) (fl_586_0) = true := by decide +kernel
theorem om_586 : OKm mi iT prg 586 := OKm_of (code := code_586) rfl mt_586 (Or.inl (by decide +kernel)) rfl wk_586 (by decide +kernel) (by decide +kernel) (FA_of fe_586 (fb_586_0))
def fl_587_0 : List Ent := [(1, 3, 6, .getfield 16, [3, 23, 119], 0), (4, 3, 6, .getfield 43, [0, 22, 108], 0), (11, 3, 6, .getfield 7, [0, 23, 122], 0), (18, 3, 6, .getfield 47, [0, 23, 123], 0)]
theorem fb_587_0 : FB mi iT mi_587 (bpc code_587) (fl_587_0) := ⟨fun hd => mk6 fld_23_0 (Or.inl ⟨rfl, by decide⟩) (Or.inl W2078) (Or.inl rfl) (hd rfl),
  ⟨fun hd => mk6 fld_22_16 (Or.inr ⟨rfl, Or.inl rfl⟩) (Or.inr ⟨_, W2306⟩) (Or.inl rfl) (hd rfl),
  ⟨fun hd => mk6 fld_23_3 (Or.inl ⟨rfl, by decide⟩) (Or.inl W2081) (Or.inl rfl) (hd rfl),
  ⟨fun hd => mk6 fld_23_4 (Or.inl ⟨rfl, by decide⟩) (Or.inl W2085) (Or.inl rfl) (hd rfl),
  trivial⟩⟩⟩⟩
theorem fe_587 : eqEs ((flat code_587).filter (fun e => ndE e.2.2.1)) (fl_587_0) = true := by decide +kernel
theorem om_587 : OKm mi iT prg 587 := OKm_of (code := code_587) rfl mt_587 (Or.inl (by decide +kernel)) rfl wk_587 (by decide +kernel) (by decide +kernel) (FA_of fe_587 (fb_587_0))
def fl_588_0 : List Ent := [(1, 3, 6, .getfield 20, [0, 23, 120], 0)]
theorem fb_588_0 : FB mi iT mi_588 (bpc code_588) (fl_588_0) := ⟨fun hd => mk6 fld_23_1 (Or.inl ⟨rfl, by decide⟩) (Or.inl W2079) (Or.inl rfl) (hd rfl),
  trivial⟩
theorem fe_588 : eqEs ((flat code_588).filter (fun e => ndE e.2.2.1)) (fl_588_0) = true := by decide +kernel
theorem om_588 : OKm mi iT prg 588 := OKm_of (code := code_588) rfl mt_588 (Or.inl (by decide +kernel)) rfl wk_588 (by decide +kernel) (by decide +kernel) (FA_of fe_588 (fb_588_0))
def fl_589_0 : List Ent := [(1, 3, 6, .getfield 23, [0, 23, 121], 0), (12, 3, 6, .getfield 23, [0, 23, 121], 0), (20, 3, 6, .getfield 16, [3, 23, 119], 0), (23, 3, 6, .getfield 26, [3, 22, 93], 0), (26, 3, 6, .getfield 40, [0, 16, 64], 0), (30, 3, 15, .ldc2_w 38, [4611686018427387904], 0), (38, 3, 6, .getfield 16, [3, 23, 119], 0), (41, 3, 6, .getfield 26, [3, 22, 93], 0), (44, 3, 6, .getfield 40, [0, 16, 64], 0)]
theorem fb_589_0 : FB mi iT mi_589 (bpc code_589) (fl_589_0) := ⟨fun hd => mk6 fld_23_2 (Or.inl ⟨rfl, by decide⟩) (Or.inl W2080) (Or.inl rfl) (hd rfl),
  ⟨fun hd => mk6 fld_23_2 (Or.inl ⟨rfl, by decide⟩) (Or.inl W2080) (Or.inl rfl) (hd rfl),
  ⟨fun hd => mk6 fld_23_0 (Or.inl ⟨rfl, by decide⟩) (Or.inl W2078) (Or.inl rfl) (hd rfl),
  ⟨fun hd => mk6 fld_22_1 (Or.inl ⟨rfl, by decide⟩) (Or.inr ⟨_, W2238⟩) (Or.inl rfl) (hd rfl),
  ⟨fun hd => mk6 fld_16_2 (Or.inl ⟨rfl, by decide⟩) (Or.inr ⟨_, W1913⟩) (Or.inl rfl) (hd rfl),
  ⟨fun hd => mk15 W1127 (hd rfl),
  ⟨fun hd => mk6 fld_23_0 (Or.inl ⟨rfl, by decide⟩) (Or.inl W2078) (Or.inl rfl) (hd rfl),
  ⟨fun hd => mk6 fld_22_1 (Or.inl ⟨rfl, by decide⟩) (Or.inr ⟨_, W2238⟩) (Or.inl rfl) (hd rfl),
  ⟨fun hd => mk6 fld_16_2 (Or.inl ⟨rfl, by decide⟩) (Or.inr ⟨_, W1913⟩) (Or.inl rfl) (hd rfl),
  trivial⟩⟩⟩⟩⟩⟩⟩⟩⟩
theorem fe_589 : eqEs ((flat code_589).filter (fun e => ndE e.2.2.1)) (fl_589_0) = true := by decide +kernel
theorem om_589 : OKm mi iT prg 589 := OKm_of (code := code_589) rfl mt_589 (Or.inl (by decide +kernel)) rfl wk_589 (by decide +kernel) (by decide +kernel) (FA_of fe_589 (fb_589_0))
def fl_590_0 : List Ent := [(1, 3, 19, .invokevirtual 50, [2, 1, 1, 23, 586], 0), (5, 3, 19, .invokevirtual 53, [0, 1, 1, 23, 587], 0)]
theorem fb_590_0 : FB mi iT mi_590 (bpc code_590) (fl_590_0) := ⟨fun hd => mk19 mt_586 cf_586 (vf_586_23.rt (Or.inl W1118) (hd rfl)) rfl rfl (noH_nil rfl),
  ⟨fun hd => mk19 mt_587 cf_587 (vf_587_23.rt (Or.inl W1129) (hd rfl)) rfl rfl (noH_nil rfl),
  trivial⟩⟩
theorem fe_590 : eqEs ((flat code_590).filter (fun e => ndE e.2.2.1)) (fl_590_0) = true := by decide +kernel
theorem om_590 : OKm mi iT prg 590 := OKm_of (code := code_590) rfl mt_590 (Or.inl (by decide +kernel)) rfl wk_590 (by decide +kernel) (by decide +kernel) (FA_of fe_590 (fb_590_0))
def fl_591_0 : List Ent := [(1, 3, 22, .invokespecial 1, [], 0), (7, 3, 7, .putfield 7, [0, 23, 122], 0), (12, 3, 7, .putfield 13, [0, 23, 124], 0), (17, 3, 7, .putfield 16, [3, 23, 119], 0), (22, 3, 7, .putfield 20, [0, 23, 120], 0), (27, 3, 7, .putfield 23, [0, 23, 121], 0)]
theorem fb_591_0 : FB mi iT mi_591 (bpc code_591) (fl_591_0) := ⟨fun hd => mk22 (by decide) W2077 oi_w (hd rfl),
  ⟨fun hd => mk7 fld_23_3 (Or.inl W2081) (Or.inl rfl) (Or.inl rfl) (hd rfl),
  ⟨fun hd => mk7 fld_23_5 (Or.inl W2087) (Or.inl rfl) (Or.inl rfl) (hd rfl),
  ⟨fun hd => mk7 fld_23_0 (Or.inl W2078) (Or.inl rfl) (Or.inr ⟨rfl, rfl, rfl, W2078⟩) (hd rfl),
  ⟨fun hd => mk7 fld_23_1 (Or.inl W2079) (Or.inl rfl) (Or.inr ⟨rfl, rfl, rfl, W2079⟩) (hd rfl),
  ⟨fun hd => mk7 fld_23_2 (Or.inl W2080) (Or.inl rfl) (Or.inr ⟨rfl, rfl, rfl, W2080⟩) (hd rfl),
  trivial⟩⟩⟩⟩⟩⟩
theorem fe_591 : eqEs ((flat code_591).filter (fun e => ndE e.2.2.1)) (fl_591_0) = true := by decide +kernel
theorem om_591 : OKm mi iT prg 591 := OKm_of (code := code_591) rfl mt_591 (Or.inl (by decide +kernel)) rfl wk_591 (by decide +kernel) (by decide +kernel) (FA_of fe_591 (fb_591_0))
def fl_592_0 : List Ent := [(1, 3, 6, .getfield 16, [3, 23, 119], 0), (4, 3, 6, .getfield 26, [3, 22, 93], 0), (7, 3, 6, .getfield 57, [0, 16, 63], 0)]
theorem fb_592_0 : FB mi iT mi_592 (bpc code_592) (fl_592_0) := ⟨fun hd => mk6 fld_23_0 (Or.inl ⟨rfl, by decide⟩) (Or.inl W2078) (Or.inl rfl) (hd rfl),
  ⟨fun hd => mk6 fld_22_1 (Or.inl ⟨rfl, by decide⟩) (Or.inr ⟨_, W2238⟩) (Or.inl rfl) (hd rfl),
  ⟨fun hd => mk6 fld_16_1 (Or.inl ⟨rfl, by decide⟩) (Or.inr ⟨_, W1902⟩) (Or.inl rfl) (hd rfl),
  trivial⟩⟩⟩
theorem fe_592 : eqEs ((flat code_592).filter (fun e => ndE e.2.2.1)) (fl_592_0) = true := by decide +kernel
theorem om_592 : OKm mi iT prg 592 := OKm_of (code := code_592) rfl mt_592 (Or.inl (by decide +kernel)) rfl wk_592 (by decide +kernel) (by decide +kernel) (FA_of fe_592 (fb_592_0))
def fl_593_0 : List Ent := [(2, 3, 19, .invokevirtual 50, [2, 1, 1, 23, 586], 0), (5, 3, 15, .ldc2_w 64, [4621819117588971520], 0), (10, 3, 18, .invokestatic 66, [0, 2, 2, 74], 0)]
theorem fb_593_0 : FB mi iT mi_593 (bpc code_593) (fl_593_0) := ⟨fun hd => mk19 mt_586 cf_586 (vf_586_23.rt (Or.inl W1118) (hd rfl)) rfl rfl (noH_nil rfl),
  ⟨fun hd => mk15 W2926 (hd rfl),
  ⟨fun hd => mk18 mt_74 sf_74 (Or.inl W2927) rfl rfl (noH_nil rfl) (hd rfl),
  trivial⟩⟩⟩
theorem fe_593 : eqEs ((flat code_593).filter (fun e => ndE e.2.2.1)) (fl_593_0) = true := by decide +kernel
theorem om_593 : OKm mi iT prg 593 := OKm_of (code := code_593) rfl mt_593 (Or.inl (by decide +kernel)) rfl wk_593 (by decide +kernel) (by decide +kernel) (FA_of fe_593 (fb_593_0))
def fl_594_0 : List Ent := [(2, 3, 7, .putfield 13, [0, 23, 124], 0), (7, 3, 7, .putfield 78, [0, 23, 125], 0)]
theorem fb_594_0 : FB mi iT mi_594 (bpc code_594) (fl_594_0) := ⟨fun hd => mk7 fld_23_5 (Or.inl W2087) (Or.inl rfl) (Or.inl rfl) (hd rfl),
  ⟨fun hd => mk7 fld_23_6 (Or.inl W2091) (Or.inl rfl) (Or.inl rfl) (hd rfl),
  trivial⟩⟩
theorem fe_594 : eqEs ((flat code_594).filter (fun e => ndE e.2.2.1)) (fl_594_0) = true := by decide +kernel
theorem om_594 : OKm mi iT prg 594 := OKm_of (code := code_594) rfl mt_594 (Or.inl (by decide +kernel)) rfl wk_594 (by decide +kernel) (by decide +kernel) (FA_of fe_594 (fb_594_0))
def fl_595_0 : List Ent := [(1, 3, 19, .invokevirtual 72, [0, 1, 1, 23, 592], 0), (5, 3, 19, .invokevirtual 75, [0, 1, 1, 23, 593], 0)]
theorem fb_595_0 : FB mi iT mi_595 (bpc code_595) (fl_595_0) := ⟨fun hd => mk19 mt_592 cf_592 (vf_592_23.rt (Or.inl W3193) (hd rfl)) rfl rfl (noH_nil rfl),
  ⟨fun hd => mk19 mt_593 cf_593 (vf_593_23.rt (Or.inl W3194) (hd rfl)) rfl rfl (noH_nil rfl),
  trivial⟩⟩
theorem fe_595 : eqEs ((flat code_595).filter (fun e => ndE e.2.2.1)) (fl_595_0) = true := by decide +kernel
theorem om_595 : OKm mi iT prg 595 := OKm_of (code := code_595) rfl mt_595 (Or.inl (by decide +kernel)) rfl wk_595 (by decide +kernel) (by decide +kernel) (FA_of fe_595 (fb_595_0))
def fl_596_0 : List Ent := [(1, 3, 6, .getfield 13, [0, 23, 124], 0), (9, 3, 6, .getfield 13, [0, 23, 124], 0)]
theorem fb_596_0 : FB mi iT mi_596 (bpc code_596) (fl_596_0) := ⟨fun hd => mk6 fld_23_5 (Or.inl ⟨rfl, by decide⟩) (Or.inl W2087) (Or.inl rfl) (hd rfl),
  ⟨fun hd => mk6 fld_23_5 (Or.inl ⟨rfl, by decide⟩) (Or.inl W2087) (Or.inl rfl) (hd rfl),
  trivial⟩⟩
theorem fe_596 : eqEs ((flat code_596).filter (fun e => ndE e.2.2.1)) (fl_596_0) = true := by decide +kernel
theorem om_596 : OKm mi iT prg 596 := OKm_of (code := code_596) rfl mt_596 (Or.inl (by decide +kernel)) rfl wk_596 (by decide +kernel) (by decide +kernel) (FA_of fe_596 (fb_596_0))
def fl_597_0 : List Ent := [(2, 3, 7, .putfield 13, [0, 23, 124], 0), (7, 3, 6, .getfield 78, [0, 23, 125], 0), (10, 3, 7, .putfield 47, [0, 23, 123], 0)]
theorem fb_597_0 : FB mi iT mi_597 (bpc code_597) (fl_597_0) := ⟨fun hd => mk7 fld_23_5 (Or.inl W2087) (Or.inl rfl) (Or.inl rfl) (hd rfl),
  ⟨fun hd => mk6 fld_23_6 (Or.inl ⟨rfl, by decide⟩) (Or.inl W2091) (Or.inl rfl) (hd rfl),
  ⟨fun hd => mk7 fld_23_4 (Or.inl W2085) (Or.inl rfl) (Or.inl rfl) (hd rfl),
  trivial⟩⟩⟩
theorem fe_597 : eqEs ((flat code_597).filter (fun e => ndE e.2.2.1)) (fl_597_0) = true := by decide +kernel
theorem om_597 : OKm mi iT prg 597 := OKm_of (code := code_597) rfl mt_597 (Or.inl (by decide +kernel)) rfl wk_597 (by decide +kernel) (by decide +kernel) (FA_of fe_597 (fb_597_0))
def fl_598_0 : List Ent := [(1, 3, 19, .invokevirtual 35, [2, 1, 1, 15, 599], 0), (5, 3, 6, .getfield 39, [0, 15, 61], 0), (10, 3, 15, .ldc2_w 42, [4620693217682128896], 0)]
theorem fb_598_0 : FB mi iT mi_598 (bpc code_598) (fl_598_0) := ⟨fun hd => mk19 mt_599 cf_599 (vf_599_15.rt (Or.inl W1140) (hd rfl)) rfl rfl (noH_nil rfl),
  ⟨fun hd => mk6 fld_15_2 (Or.inl ⟨rfl, by decide⟩) (Or.inl W2113) (Or.inl rfl) (hd rfl),
  ⟨fun hd => mk15 W1149 (hd rfl),
  trivial⟩⟩⟩
theorem fe_598 : eqEs ((flat code_598).filter (fun e => ndE e.2.2.1)) (fl_598_0) = true := by decide +kernel
theorem om_598 : OKm mi iT prg 598 := OKm_of (code := code_598) rfl mt_598 (Or.inl (by decide +kernel)) rfl wk_598 (by decide +kernel) (by decide +kernel) (FA_of fe_598 (fb_598_0))
def fl_599_0 : List Ent := [(1, 3, 6, .getfield 7, [3, 15, 59], 0), (5, 3, 6, .getfield 13, [0, 15, 60], 0), (9, 3, 19, .invokevirtual 17, [0, 3, 3, 16, 497], 0), (13, 3, 6, .getfield 7, [3, 15, 59], 0), (17, 3, 6, .getfield 13, [0, 15, 60], 0), (23, 3, 19, .invokevirtual 17, [0, 3, 3, 16, 497], 0), (28, 3, 15, .ldc2_w 23, [4625196817309499392], 0), (33, 3, 6, .getfield 7, [3, 15, 59], 0), (36, 3, 6, .getfield 25, [0, 16, 64], 0), (41, 3, 15, .ldc2_w 28, [4616189618054758400], 0), (46, 3, 6, .getfield 7, [3, 15, 59], 0), (49, 3, 6, .getfield 30, [0, 16, 63], 0), (54, 3, 15, .ldc2_w 33, [4618441417868443648], 0)]
theorem fb_599_0 : FB mi iT mi_599 (bpc code_599) (fl_599_0) := ⟨fun hd => mk6 fld_15_0 (Or.inl ⟨rfl, by decide⟩) (Or.inl W2111) (Or.inl rfl) (hd rfl),
  ⟨fun hd => mk6 fld_15_1 (Or.inl ⟨rfl, by decide⟩) (Or.inl W2112) (Or.inl rfl) (hd rfl),
  ⟨fun hd => mk19 mt_497 cf_497 (vf_497_16.rt (Or.inl W1145) (hd rfl)) rfl rfl (noH_nil rfl),
  ⟨fun hd => mk6 fld_15_0 (Or.inl ⟨rfl, by decide⟩) (Or.inl W2111) (Or.inl rfl) (hd rfl),
  ⟨fun hd => mk6 fld_15_1 (Or.inl ⟨rfl, by decide⟩) (Or.inl W2112) (Or.inl rfl) (hd rfl),
  ⟨fun hd => mk19 mt_497 cf_497 (vf_497_16.rt (Or.inl W1145) (hd rfl)) rfl rfl (noH_nil rfl),
  ⟨fun hd => mk15 W1146 (hd rfl),
  ⟨fun hd => mk6 fld_15_0 (Or.inl ⟨rfl, by decide⟩) (Or.inl W2111) (Or.inl rfl) (hd rfl),
  ⟨fun hd => mk6 fld_16_2 (Or.inl ⟨rfl, by decide⟩) (Or.inr ⟨_, W1912⟩) (Or.inl rfl) (hd rfl),
  ⟨fun hd => mk15 W1147 (hd rfl),
  ⟨fun hd => mk6 fld_15_0 (Or.inl ⟨rfl, by decide⟩) (Or.inl W2111) (Or.inl rfl) (hd rfl),
  ⟨fun hd => mk6 fld_16_1 (Or.inl ⟨rfl, by decide⟩) (Or.inr ⟨_, W1900⟩) (Or.inl rfl) (hd rfl),
  ⟨fun hd => mk15 W1148 (hd rfl),
  trivial⟩⟩⟩⟩⟩⟩⟩⟩⟩⟩⟩⟩⟩
theorem fe_599 : eqEs ((flat code_599).filter (fun e => ndE e.2.2.1)) (fl_599_0) = true := by decide +kernel
theorem om_599 : OKm mi iT prg 599 := OKm_of (code := code_599) rfl mt_599 (Or.inl (by decide +kernel)) rfl wk_599 (by decide +kernel) (by decide +kernel) (FA_of fe_599 (fb_599_0))
def fl_600_0 : List Ent := [(1, 3, 6, .getfield 13, [0, 15, 60], 0)]
theorem fb_600_0 : FB mi iT mi_600 (bpc code_600) (fl_600_0) := ⟨fun hd => mk6 fld_15_1 (Or.inl ⟨rfl, by decide⟩) (Or.inl W2112) (Or.inl rfl) (hd rfl),
  trivial⟩
theorem fe_600 : eqEs ((flat code_600).filter (fun e => ndE e.2.2.1)) (fl_600_0) = true := by decide +kernel
theorem om_600 : OKm mi iT prg 600 := OKm_of (code := code_600) rfl mt_600 (Or.inl (by decide +kernel)) rfl wk_600 (by decide +kernel) (by decide +kernel) (FA_of fe_600 (fb_600_0))
def fl_601_0 : List Ent := [(1, 3, 6, .getfield 39, [0, 15, 61], 0), (5, 3, 6, .getfield 7, [3, 15, 59], 0), (8, 3, 6, .getfield 25, [0, 16, 64], 0), (13, 3, 15, .ldc2_w 44, [4634204016564240384], 0)]
theorem fb_601_0 : FB mi iT mi_601 (bpc code_601) (fl_601_0) := ⟨fun hd => mk6 fld_15_2 (Or.inl ⟨rfl, by decide⟩) (Or.inl W2113) (Or.inl rfl) (hd rfl),
  ⟨fun hd => mk6 fld_15_0 (Or.inl ⟨rfl, by decide⟩) (Or.inl W2111) (Or.inl rfl) (hd rfl),
  ⟨fun hd => mk6 fld_16_2 (Or.inl ⟨rfl, by decide⟩) (Or.inr ⟨_, W1912⟩) (Or.inl rfl) (hd rfl),
  ⟨fun hd => mk15 W1236 (hd rfl),
  trivial⟩⟩⟩⟩
theorem fe_601 : eqEs ((flat code_601).filter (fun e => ndE e.2.2.1)) (fl_601_0) = true := by decide +kernel
theorem om_601 : OKm mi iT prg 601 := OKm_of (code := code_601) rfl mt_601 (Or.inl (by decide +kernel)) rfl wk_601 (by decide +kernel) (by decide +kernel) (FA_of fe_601 (fb_601_0))
def fl_602_0 : List Ent := [(1, 3, 6, .getfield 39, [0, 15, 61], 0), (8, 3, 6, .getfield 39, [0, 15, 61], 0), (19, 3, 6, .getfield 7, [3, 15, 59], 0), (23, 3, 6, .getfield 13, [0, 15, 60], 0), (27, 3, 19, .invokevirtual 46, [2, 3, 3, 16, 498], 0), (37, 3, 6, .getfield 7, [3, 15, 59], 0), (40, 3, 6, .getfield 30, [0, 16, 63], 0), (45, 3, 15, .ldc2_w 50, [4634766966517661696], 0)]
theorem fb_602_0 : FB mi iT mi_602 (bpc code_602) (fl_602_0) := ⟨fun hd => mk6 fld_15_2 (Or.inl ⟨rfl, by decide⟩) (Or.inl W2113) (Or.inl rfl) (hd rfl),
  ⟨fun hd => mk6 fld_15_2 (Or.inl ⟨rfl, by decide⟩) (Or.inl W2113) (Or.inl rfl) (hd rfl),
  ⟨fun hd => mk6 fld_15_0 (Or.inl ⟨rfl, by decide⟩) (Or.inl W2111) (Or.inl rfl) (hd rfl),
  ⟨fun hd => mk6 fld_15_1 (Or.inl ⟨rfl, by decide⟩) (Or.inl W2112) (Or.inl rfl) (hd rfl),
  ⟨fun hd => mk19 mt_498 cf_498 (vf_498_16.rt (Or.inl W1278) (hd rfl)) rfl rfl (noH_nil rfl),
  ⟨fun hd => mk6 fld_15_0 (Or.inl ⟨rfl, by decide⟩) (Or.inl W2111) (Or.inl rfl) (hd rfl),
  ⟨fun hd => mk6 fld_16_1 (Or.inl ⟨rfl, by decide⟩) (Or.inr ⟨_, W1900⟩) (Or.inl rfl) (hd rfl),
  ⟨fun hd => mk15 W1279 (hd rfl),
  trivial⟩⟩⟩⟩⟩⟩⟩⟩
theorem fe_602 : eqEs ((flat code_602).filter (fun e => ndE e.2.2.1)) (fl_602_0) = true := by decide +kernel
theorem om_602 : OKm mi iT prg 602 := OKm_of (code := code_602) rfl mt_602 (Or.inl (by decide +kernel)) rfl wk_602 (by decide +kernel) (by decide +kernel) (FA_of fe_602 (fb_602_0))
def fl_603_0 : List Ent := [(1, 3, 22, .invokespecial 1, [], 0), (6, 3, 7, .putfield 7, [3, 15, 59], 0), (11, 3, 7, .putfield 13, [0, 15, 60], 0)]
theorem fb_603_0 : FB mi iT mi_603 (bpc code_603) (fl_603_0) := ⟨fun hd => mk22 (by decide) W2110 oi_w (hd rfl),
  ⟨fun hd => mk7 fld_15_0 (Or.inl W2111) (Or.inl rfl) (Or.inr ⟨rfl, rfl, rfl, W2111⟩) (hd rfl),
  ⟨fun hd => mk7 fld_15_1 (Or.inl W2112) (Or.inl rfl) (Or.inr ⟨rfl, rfl, rfl, W2112⟩) (hd rfl),
  trivial⟩⟩⟩
theorem fe_603 : eqEs ((flat code_603).filter (fun e => ndE e.2.2.1)) (fl_603_0) = true := by decide +kernel
theorem om_603 : OKm mi iT prg 603 := OKm_of (code := code_603) rfl mt_603 (Or.inl (by decide +kernel)) rfl wk_603 (by decide +kernel) (by decide +kernel) (FA_of fe_603 (fb_603_0))
def fl_604_0 : List Ent := [(6, 3, 6, .getfield 7, [3, 24, 126], 0), (9, 3, 6, .getfield 17, [3, 22, 103], 0), (12, 3, 19, .invokevirtual 23, [0, 1, 1, 5, 5], 0), (19, 3, 6, .getfield 7, [3, 24, 126], 0), (22, 3, 6, .getfield 17, [3, 22, 103], 0), (26, 3, 19, .invokevirtual 29, [3, 2, 2, 5, 6], 0), (29, 3, 17, .checkcast 33, [35], 0), (35, 3, 6, .getfield 35, [0, 35, 188], 0), (39, 3, 6, .getfield 13, [0, 24, 127], 0), (46, 3, 6, .getfield 36, [0, 35, 183], 0)]
theorem fb_604_0 : FB mi iT mi_604 (bpc code_604) (fl_604_0) := ⟨fun hd => mk6 fld_24_0 (Or.inl ⟨rfl, by decide⟩) (Or.inl W2128) (Or.inl rfl) (hd rfl),
  ⟨fun hd => mk6 fld_22_11 (Or.inl ⟨rfl, by decide⟩) (Or.inr ⟨_, W2290⟩) (Or.inl rfl) (hd rfl),
  ⟨fun hd => mk19 mt_5 cf_5 (vf_5_5.rt (Or.inl W569) (hd rfl)) rfl rfl (noH_nil rfl),
  ⟨fun hd => mk6 fld_24_0 (Or.inl ⟨rfl, by decide⟩) (Or.inl W2128) (Or.inl rfl) (hd rfl),
  ⟨fun hd => mk6 fld_22_11 (Or.inl ⟨rfl, by decide⟩) (Or.inr ⟨_, W2290⟩) (Or.inl rfl) (hd rfl),
  ⟨fun hd => mk19 mt_6 cf_6 (vf_6_5.rt (Or.inl W573) (hd rfl)) rfl rfl (noH_nil rfl),
  ⟨fun hd => mk17 kx_35 W587 (hd rfl),
  ⟨fun hd => mk6 fld_35_8 (Or.inl ⟨rfl, by decide⟩) (Or.inr ⟨_, W3851⟩) (Or.inl rfl) (hd rfl),
  ⟨fun hd => mk6 fld_24_1 (Or.inl ⟨rfl, by decide⟩) (Or.inl W2129) (Or.inl rfl) (hd rfl),
  ⟨fun hd => mk6 fld_35_3 (Or.inl ⟨rfl, by decide⟩) (Or.inr ⟨_, W3837⟩) (Or.inl rfl) (hd rfl),
  trivial⟩⟩⟩⟩⟩⟩⟩⟩⟩⟩
theorem fe_604 : eqEs ((flat code_604).filter (fun e => ndE e.2.2.1)) (fl_604_0) = true := by decide +kernel
theorem om_604 : OKm mi iT prg 604 := OKm_of (code := code_604) rfl mt_604 (Or.inl (by decide +kernel)) rfl wk_604 (by decide +kernel) (by decide +kernel) (FA_of fe_604 (fb_604_0))
def fl_605_0 : List Ent := [(1, 3, 19, .invokevirtual 39, [0, 1, 1, 24, 604], 0)]
theorem fb_605_0 : FB mi iT mi_605 (bpc code_605) (fl_605_0) := ⟨fun hd => mk19 mt_604 cf_604 (vf_604_24.rt (Or.inl W1093) (hd rfl)) rfl rfl (noH_nil rfl),
  trivial⟩
theorem fe_605 : eqEs ((flat code_605).filter (fun e => ndE e.2.2.1)) (fl_605_0) = true := by decide +kernel
theorem om_605 : OKm mi iT prg 605 := OKm_of (code := code_605) rfl mt_605 (Or.inl (by decide +kernel)) rfl wk_605 (by decide +kernel) (by decide +kernel) (FA_of fe_605 (fb_605_0))
def fl_606_0 : List Ent := [(1, 3, 6, .getfield 13, [0, 24, 127], 0)]
theorem fb_606_0 : FB mi iT mi_606 (bpc code_606) (fl_606_0) := ⟨fun hd => mk6 fld_24_1 (Or.inl ⟨rfl, by decide⟩) (Or.inl W2129) (Or.inl rfl) (hd rfl),
  trivial⟩
theorem fe_606 : eqEs ((flat code_606).filter (fun e => ndE e.2.2.1)) (fl_606_0) = true := by decide +kernel
theorem om_606 : OKm mi iT prg 606 := OKm_of (code := code_606) rfl mt_606 (Or.inl (by decide +kernel)) rfl wk_606 (by decide +kernel) (by decide +kernel) (FA_of fe_606 (fb_606_0))
def fl_607_0 : List Ent := [(1, 3, 19, .invokevirtual 39, [0, 1, 1, 24, 604], 0), (19, 3, 6, .getfield 7, [3, 24, 126], 0), (22, 3, 6, .getfield 17, [3, 22, 103], 0), (25, 3, 19, .invokevirtual 23, [0, 1, 1, 5, 5], 0), (32, 3, 6, .getfield 7, [3, 24, 126], 0), (35, 3, 6, .getfield 17, [3, 22, 103], 0), (40, 3, 19, .invokevirtual 29, [3, 2, 2, 5, 6], 0), (43, 3, 17, .checkcast 33, [35], 0), (50, 3, 6, .getfield 35, [0, 35, 188], 0), (54, 3, 6, .getfield 13, [0, 24, 127], 0), (63, 3, 6, .getfield 36, [0, 35, 183], 0), (69, 3, 6, .getfield 42, [2, 35, 189], 0)]
theorem fb_607_0 : FB mi iT mi_607 (bpc code_607) (fl_607_0) := ⟨fun hd => mk19 mt_604 cf_604 (vf_604_24.rt (Or.inl W1093) (hd rfl)) rfl rfl (noH_nil rfl),
  ⟨fun hd => mk6 fld_24_0 (Or.inl ⟨rfl, by decide⟩) (Or.inl W2128) (Or.inl rfl) (hd rfl),
  ⟨fun hd => mk6 fld_22_11 (Or.inl ⟨rfl, by decide⟩) (Or.inr ⟨_, W2290⟩) (Or.inl rfl) (hd rfl),
  ⟨fun hd => mk19 mt_5 cf_5 (vf_5_5.rt (Or.inl W569) (hd rfl)) rfl rfl (noH_nil rfl),
  ⟨fun hd => mk6 fld_24_0 (Or.inl ⟨rfl, by decide⟩) (Or.inl W2128) (Or.inl rfl) (hd rfl),
  ⟨fun hd => mk6 fld_22_11 (Or.inl ⟨rfl, by decide⟩) (Or.inr ⟨_, W2290⟩) (Or.inl rfl) (hd rfl),
  ⟨fun hd => mk19 mt_6 cf_6 (vf_6_5.rt (Or.inl W573) (hd rfl)) rfl rfl (noH_nil rfl),
  ⟨fun hd => mk17 kx_35 W587 (hd rfl),
  ⟨fun hd => mk6 fld_35_8 (Or.inl ⟨rfl, by decide⟩) (Or.inr ⟨_, W3851⟩) (Or.inl rfl) (hd rfl),
  ⟨fun hd => mk6 fld_24_1 (Or.inl ⟨rfl, by decide⟩) (Or.inl W2129) (Or.inl rfl) (hd rfl),
  ⟨fun hd => mk6 fld_35_3 (Or.inl ⟨rfl, by decide⟩) (Or.inr ⟨_, W3837⟩) (Or.inl rfl) (hd rfl),
  ⟨fun hd => mk6 fld_35_9 (Or.inl ⟨rfl, by decide⟩) (Or.inr ⟨_, W3855⟩) (Or.inl rfl) (hd rfl),
  trivial⟩⟩⟩⟩⟩⟩⟩⟩⟩⟩⟩⟩
theorem fe_607 : eqEs ((flat code_607).filter (fun e => ndE e.2.2.1)) (fl_607_0) = true := by decide +kernel
theorem om_607 : OKm mi iT prg 607 := OKm_of (code := code_607) rfl mt_607 (Or.inl (by decide +kernel)) rfl wk_607 (by decide +kernel) (by decide +kernel) (FA_of fe_607 (fb_607_0))
def fl_608_0 : List Ent := [(1, 3, 6, .getfield 7, [3, 24, 126], 0), (4, 3, 6, .getfield 46, [3, 22, 93], 0), (7, 3, 6, .getfield 50, [0, 16, 64], 0), (11, 3, 15, .ldc2_w 55, [4600877379321698714], 0)]
theorem fb_608_0 : FB mi iT mi_608 (bpc code_608) (fl_608_0) := ⟨fun hd => mk6 fld_24_0 (Or.inl ⟨rfl, by decide⟩) (Or.inl W2128) (Or.inl rfl) (hd rfl),
  ⟨fun hd => mk6 fld_22_1 (Or.inl ⟨rfl, by decide⟩) (Or.inr ⟨_, W2246⟩) (Or.inl rfl) (hd rfl),
  ⟨fun hd => mk6 fld_16_2 (Or.inl ⟨rfl, by decide⟩) (Or.inr ⟨_, W1915⟩) (Or.inl rfl) (hd rfl),
  ⟨fun hd => mk15 W1214 (hd rfl),
  trivial⟩⟩⟩⟩
theorem fe_608 : eqEs ((flat code_608).filter (fun e => ndE e.2.2.1)) (fl_608_0) = true := by decide +kernel
theorem om_608 : OKm mi iT prg 608 := OKm_of (code := code_608) rfl mt_608 (Or.inl (by decide +kernel)) rfl wk_608 (by decide +kernel) (by decide +kernel) (FA_of fe_608 (fb_608_0))
def fl_609_0 : List Ent := [(1, 3, 22, .invokespecial 1, [], 0), (6, 3, 7, .putfield 7, [3, 24, 126], 0), (11, 3, 7, .putfield 13, [0, 24, 127], 0)]
theorem fb_609_0 : FB mi iT mi_609 (bpc code_609) (fl_609_0) := ⟨fun hd => mk22 (by decide) W2127 oi_w (hd rfl),
  ⟨fun hd => mk7 fld_24_0 (Or.inl W2128) (Or.inl rfl) (Or.inr ⟨rfl, rfl, rfl, W2128⟩) (hd rfl),
  ⟨fun hd => mk7 fld_24_1 (Or.inl W2129) (Or.inl rfl) (Or.inr ⟨rfl, rfl, rfl, W2129⟩) (hd rfl),
  trivial⟩⟩⟩
theorem fe_609 : eqEs ((flat code_609).filter (fun e => ndE e.2.2.1)) (fl_609_0) = true := by decide +kernel
theorem om_609 : OKm mi iT prg 609 := OKm_of (code := code_609) rfl mt_609 (Or.inl (by decide +kernel)) rfl wk_609 (by decide +kernel) (by decide +kernel) (FA_of fe_609 (fb_609_0))
def fl_610_0 : List Ent := [(1, 3, 6, .getfield 13, [3, 12, 48], 0), (6, 1, 10, .arraylength, [108], 0), (21, 3, 6, .getfield 54, [0, 12, 50], 0), (29, 3, 19, .invokevirtual 103, [0, 1, 1, 25, 633], 0), (37, 3, 6, .getfield 194, [0, 25, 132], 0), (46, 3, 19, .invokevirtual 169, [0, 2, 2, 12, 611], 0)]
theorem fb_610_0 : FB mi iT mi_610 (bpc code_610) (fl_610_0) := ⟨fun hd => mk6 fld_12_1 (Or.inl ⟨rfl, by decide⟩) (Or.inl W2217) (Or.inl rfl) (hd rfl),
  ⟨fun hd => mk10 (by decide) rfl (hd rfl),
  ⟨fun hd => mk6 fld_12_3 (Or.inr ⟨rfl, Or.inl rfl⟩) (Or.inl W2221) (Or.inl rfl) (hd rfl),
  ⟨fun hd => mk19 mt_633 cf_633 (vf_633_25.rt (Or.inl W612) (hd rfl)) rfl rfl (noH_nil rfl),
  ⟨fun hd => mk6 fld_25_4 (Or.inl ⟨rfl, by decide⟩) (Or.inr ⟨_, W2175⟩) (Or.inl rfl) (hd rfl),
  ⟨fun hd => mk19 mt_611 cf_611 (vf_611_12.rt (Or.inl W616) (hd rfl)) rfl rfl (noH_nil rfl),
  trivial⟩⟩⟩⟩⟩⟩
theorem fe_610 : eqEs ((flat code_610).filter (fun e => ndE e.2.2.1)) (fl_610_0) = true := by decide +kernel
theorem om_610 : OKm mi iT prg 610 := OKm_of (code := code_610) rfl mt_610 (Or.inl (by decide +kernel)) rfl wk_610 (by decide +kernel) (by decide +kernel) (FA_of fe_610 (fb_610_0))
def fl_611_0 : List Ent := [(1, 3, 6, .getfield 110, [3, 25, 131], 0), (6, 1, 10, .arraylength, [100], 0), (24, 3, 6, .getfield 13, [3, 12, 48], 0), (30, 3, 19, .invokevirtual 103, [0, 1, 1, 25, 633], 0)]
theorem fb_611_0 : FB mi iT mi_611 (bpc code_611) (fl_611_0) := ⟨fun hd => mk6 fld_25_3 (Or.inl ⟨rfl, by decide⟩) (Or.inr ⟨_, W2172⟩) (Or.inl rfl) (hd rfl),
  ⟨fun hd => mk10 (by decide) rfl (hd rfl),
  ⟨fun hd => mk6 fld_12_1 (Or.inl ⟨rfl, by decide⟩) (Or.inl W2217) (Or.inl rfl) (hd rfl),
  ⟨fun hd => mk19 mt_633 cf_633 (vf_633_25.rt (Or.inl W612) (hd rfl)) rfl rfl (noH_nil rfl),
  trivial⟩⟩⟩⟩
theorem fe_611 : eqEs ((flat code_611).filter (fun e => ndE e.2.2.1)) (fl_611_0) = true := by decide +kernel
theorem om_611 : OKm mi iT prg 611 := OKm_of (code := code_611) rfl mt_611 (Or.inl (by decide +kernel)) rfl wk_611 (by decide +kernel) (by decide +kernel) (FA_of fe_611 (fb_611_0))
def fl_612_0 : List Ent := [(1, 3, 6, .getfield 54, [0, 12, 50], 0), (8, 3, 6, .getfield 13, [3, 12, 48], 0), (13, 3, 19, .invokevirtual 103, [0, 1, 1, 25, 633], 0)]
theorem fb_612_0 : FB mi iT mi_612 (bpc code_612) (fl_612_0) := ⟨fun hd => mk6 fld_12_3 (Or.inr ⟨rfl, Or.inl rfl⟩) (Or.inl W2221) (Or.inl rfl) (hd rfl),
  ⟨fun hd => mk6 fld_12_1 (Or.inl ⟨rfl, by decide⟩) (Or.inl W2217) (Or.inl rfl) (hd rfl),
  ⟨fun hd => mk19 mt_633 cf_633 (vf_633_25.rt (Or.inl W612) (hd rfl)) rfl rfl (noH_nil rfl),
  trivial⟩⟩⟩
theorem fe_612 : eqEs ((flat code_612).filter (fun e => ndE e.2.2.1)) (fl_612_0) = true := by decide +kernel
theorem om_612 : OKm mi iT prg 612 := OKm_of (code := code_612) rfl mt_612 (Or.inl (by decide +kernel)) rfl wk_612 (by decide +kernel) (by decide +kernel) (FA_of fe_612 (fb_612_0))
def fl_613_0 : List Ent := [(1, 3, 19, .invokevirtual 181, [9, 1, 1, 12, 614], 0), (9, 3, 19, .invokevirtual 123, [0, 1, 1, 12, 615], 0), (21, 3, 19, .invokevirtual 186, [0, 1, 1, 12, 616], 0), (33, 3, 19, .invokevirtual 189, [0, 1, 1, 12, 617], 0), (40, 3, 19, .invokevirtual 192, [0, 1, 1, 12, 618], 0)]
theorem fb_613_0 : FB mi iT mi_613 (bpc code_613) (fl_613_0) := ⟨fun hd => mk19 mt_614 cf_614 (vf_614_12.rt (Or.inl W1538) (hd rfl)) rfl rfl (noH_nil rfl),
  ⟨fun hd => mk19 mt_615 cf_615 (vf_615_12.rt (Or.inl W1552) (hd rfl)) rfl rfl (noH_nil rfl),
  ⟨fun hd => mk19 mt_616 cf_616 (vf_616_12.rt (Or.inl W1557) (hd rfl)) rfl rfl (noH_nil rfl),
  ⟨fun hd => mk19 mt_617 cf_617 (vf_617_12.rt (Or.inl W1561) (hd rfl)) rfl rfl (noH_nil rfl),
  ⟨fun hd => mk19 mt_618 cf_618 (vf_618_12.rt (Or.inl W1569) (hd rfl)) rfl rfl (noH_nil rfl),
  trivial⟩⟩⟩⟩⟩
theorem fe_613 : eqEs ((flat code_613).filter (fun e => ndE e.2.2.1)) (fl_613_0) = true := by decide +kernel
theorem om_613 : OKm mi iT prg 613 := OKm_of (code := code_613) rfl mt_613 (Or.inl (by decide +kernel)) rfl wk_613 (by decide +kernel) (by decide +kernel) (FA_of fe_613 (fb_613_0))
def fl_614_0 : List Ent := [(9, 3, 6, .getfield 13, [3, 12, 48], 0), (13, 3, 6, .getfield 17, [3, 12, 49], 0), (22, 3, 7, .putfield 113, [0, 25, 136], 0), (26, 3, 6, .getfield 110, [3, 25, 131], 0), (31, 1, 10, .arraylength, [100], 0), (52, 3, 6, .getfield 113, [0, 25, 136], 0), (56, 3, 6, .getfield 13, [3, 12, 48], 0), (62, 3, 6, .getfield 113, [0, 25, 136], 0), (66, 3, 6, .getfield 13, [3, 12, 48], 0), (72, 3, 19, .invokevirtual 116, [0, 1, 1, 25, 634], 0), (76, 3, 18, .invokestatic 118, [0, 2, 2, 74], 0), (79, 3, 7, .putfield 113, [0, 25, 136], 0), (95, 3, 19, .invokevirtual 123, [0, 1, 1, 12, 615], 0), (100, 3, 6, .getfield 13, [3, 12, 48], 0), (105, 1, 10, .arraylength, [108], 0), (127, 3, 19, .invokevirtual 116, [0, 1, 1, 25, 634], 0), (131, 3, 7, .putfield 126, [0, 25, 137], 0), (148, 3, 6, .getfield 13, [3, 12, 48], 0), (152, 3, 6, .getfield 17, [3, 12, 49], 0), (160, 3, 6, .getfield 110, [3, 25, 131], 0), (167, 1, 10, .arraylength, [100], 0), (188, 3, 6, .getfield 13, [3, 12, 48], 0), (195, 3, 6, .getfield 13, [3, 12, 48], 0), (201, 3, 6, .getfield 126, [0, 25, 137], 0), (205, 3, 6, .getfield 126, [0, 25, 137], 0), (209, 3, 6, .getfield 13, [3, 12, 48], 0), (215, 3, 19, .invokevirtual 116, [0, 1, 1, 25, 634], 0), (219, 3, 18, .invokestatic 129, [0, 2, 2, 67], 0), (222, 3, 7, .putfield 126, [0, 25, 137], 0)]
theorem fb_614_0 : FB mi iT mi_614 (bpc code_614) (fl_614_0) := ⟨fun hd => mk6 fld_12_1 (Or.inl ⟨rfl, by decide⟩) (Or.inl W2217) (Or.inl rfl) (hd rfl),
  ⟨fun hd => mk6 fld_12_2 (Or.inl ⟨rfl, by decide⟩) (Or.inl W2219) (Or.inl rfl) (hd rfl),
  ⟨fun hd => mk7 fld_25_8 (Or.inr ⟨_, W2184⟩) (Or.inl rfl) (Or.inl rfl) (hd rfl),
  ⟨fun hd => mk6 fld_25_3 (Or.inl ⟨rfl, by decide⟩) (Or.inr ⟨_, W2172⟩) (Or.inl rfl) (hd rfl),
  ⟨fun hd => mk10 (by decide) rfl (hd rfl),
  ⟨fun hd => mk6 fld_25_8 (Or.inl ⟨rfl, by decide⟩) (Or.inr ⟨_, W2184⟩) (Or.inl rfl) (hd rfl),
  ⟨fun hd => mk6 fld_12_1 (Or.inl ⟨rfl, by decide⟩) (Or.inl W2217) (Or.inl rfl) (hd rfl),
  ⟨fun hd => mk6 fld_25_8 (Or.inl ⟨rfl, by decide⟩) (Or.inr ⟨_, W2184⟩) (Or.inl rfl) (hd rfl),
  ⟨fun hd => mk6 fld_12_1 (Or.inl ⟨rfl, by decide⟩) (Or.inl W2217) (Or.inl rfl) (hd rfl),
  ⟨fun hd => mk19 mt_634 cf_634 (vf_634_25.rt (Or.inl W1542) (hd rfl)) rfl rfl (noH_nil rfl),
  ⟨fun hd => mk18 mt_74 sf_74 (Or.inl W1549) rfl rfl (noH_nil rfl) (hd rfl),
  ⟨fun hd => mk7 fld_25_8 (Or.inr ⟨_, W2184⟩) (Or.inl rfl) (Or.inl rfl) (hd rfl),
  ⟨fun hd => mk19 mt_615 cf_615 (vf_615_12.rt (Or.inl W1552) (hd rfl)) rfl rfl (noH_nil rfl),
  ⟨fun hd => mk6 fld_12_1 (Or.inl ⟨rfl, by decide⟩) (Or.inl W2217) (Or.inl rfl) (hd rfl),
  ⟨fun hd => mk10 (by decide) rfl (hd rfl),
  ⟨fun hd => mk19 mt_634 cf_634 (vf_634_25.rt (Or.inl W1542) (hd rfl)) rfl rfl (noH_nil rfl),
  ⟨fun hd => mk7 fld_25_9 (Or.inr ⟨_, W2186⟩) (Or.inl rfl) (Or.inl rfl) (hd rfl),
  ⟨fun hd => mk6 fld_12_1 (Or.inl ⟨rfl, by decide⟩) (Or.inl W2217) (Or.inl rfl) (hd rfl),
  ⟨fun hd => mk6 fld_12_2 (Or.inl ⟨rfl, by decide⟩) (Or.inl W2219) (Or.inl rfl) (hd rfl),
  ⟨fun hd => mk6 fld_25_3 (Or.inl ⟨rfl, by decide⟩) (Or.inr ⟨_, W2172⟩) (Or.inl rfl) (hd rfl),
  ⟨fun hd => mk10 (by decide) rfl (hd rfl),
  ⟨fun hd => mk6 fld_12_1 (Or.inl ⟨rfl, by decide⟩) (Or.inl W2217) (Or.inl rfl) (hd rfl),
  ⟨fun hd => mk6 fld_12_1 (Or.inl ⟨rfl, by decide⟩) (Or.inl W2217) (Or.inl rfl) (hd rfl),
  ⟨fun hd => mk6 fld_25_9 (Or.inl ⟨rfl, by decide⟩) (Or.inr ⟨_, W2186⟩) (Or.inl rfl) (hd rfl),
  ⟨fun hd => mk6 fld_25_9 (Or.inl ⟨rfl, by decide⟩) (Or.inr ⟨_, W2186⟩) (Or.inl rfl) (hd rfl),
  ⟨fun hd => mk6 fld_12_1 (Or.inl ⟨rfl, by decide⟩) (Or.inl W2217) (Or.inl rfl) (hd rfl),
  ⟨fun hd => mk19 mt_634 cf_634 (vf_634_25.rt (Or.inl W1542) (hd rfl)) rfl rfl (noH_nil rfl),
  ⟨fun hd => mk18 mt_67 sf_67 (Or.inl W1556) rfl rfl (noH_nil rfl) (hd rfl),
  ⟨fun hd => mk7 fld_25_9 (Or.inr ⟨_, W2186⟩) (Or.inl rfl) (Or.inl rfl) (hd rfl),
  trivial⟩⟩⟩⟩⟩⟩⟩⟩⟩⟩⟩⟩⟩⟩⟩⟩⟩⟩⟩⟩⟩⟩⟩⟩⟩⟩⟩⟩⟩
theorem fe_614 : eqEs ((flat code_614).filter (fun e => ndE e.2.2.1)) (fl_614_0) = true := by decide +kernel
theorem om_614 : OKm mi iT prg 614 := OKm_of (code := code_614) rfl mt_614 (Or.inl (by decide +kernel)) rfl wk_614 (by decide +kernel) (by decide +kernel) (FA_of fe_614 (fb_614_0))
def fl_615_0 : List Ent := [(3, 3, 6, .getfield 13, [3, 12, 48], 0), (8, 1, 10, .arraylength, [108], 0), (28, 3, 6, .getfield 113, [0, 25, 136], 0), (33, 3, 19, .invokevirtual 116, [0, 1, 1, 25, 634], 0), (37, 3, 18, .invokestatic 118, [0, 2, 2, 74], 0)]
theorem fb_615_0 : FB mi iT mi_615 (bpc code_615) (fl_615_0) := ⟨fun hd => mk6 fld_12_1 (Or.inl ⟨rfl, by decide⟩) (Or.inl W2217) (Or.inl rfl) (hd rfl),
  ⟨fun hd => mk10 (by decide) rfl (hd rfl),
  ⟨fun hd => mk6 fld_25_8 (Or.inl ⟨rfl, by decide⟩) (Or.inr ⟨_, W2184⟩) (Or.inl rfl) (hd rfl),
  ⟨fun hd => mk19 mt_634 cf_634 (vf_634_25.rt (Or.inl W1542) (hd rfl)) rfl rfl (noH_nil rfl),
  ⟨fun hd => mk18 mt_74 sf_74 (Or.inl W1549) rfl rfl (noH_nil rfl) (hd rfl),
  trivial⟩⟩⟩⟩⟩
theorem fe_615 : eqEs ((flat code_615).filter (fun e => ndE e.2.2.1)) (fl_615_0) = true := by decide +kernel
theorem om_615 : OKm mi iT prg 615 := OKm_of (code := code_615) rfl mt_615 (Or.inl (by decide +kernel)) rfl wk_615 (by decide +kernel) (by decide +kernel) (FA_of fe_615 (fb_615_0))
def fl_616_0 : List Ent := [(3, 3, 6, .getfield 13, [3, 12, 48], 0), (8, 1, 10, .arraylength, [108], 0), (28, 3, 19, .invokevirtual 103, [0, 1, 1, 25, 633], 0), (37, 3, 6, .getfield 156, [0, 25, 128], 0)]
theorem fb_616_0 : FB mi iT mi_616 (bpc code_616) (fl_616_0) := ⟨fun hd => mk6 fld_12_1 (Or.inl ⟨rfl, by decide⟩) (Or.inl W2217) (Or.inl rfl) (hd rfl),
  ⟨fun hd => mk10 (by decide) rfl (hd rfl),
  ⟨fun hd => mk19 mt_633 cf_633 (vf_633_25.rt (Or.inl W612) (hd rfl)) rfl rfl (noH_nil rfl),
  ⟨fun hd => mk6 fld_25_0 (Or.inl ⟨rfl, by decide⟩) (Or.inr ⟨_, W2166⟩) (Or.inl rfl) (hd rfl),
  trivial⟩⟩⟩⟩
theorem fe_616 : eqEs ((flat code_616).filter (fun e => ndE e.2.2.1)) (fl_616_0) = true := by decide +kernel
theorem om_616 : OKm mi iT prg 616 := OKm_of (code := code_616) rfl mt_616 (Or.inl (by decide +kernel)) rfl wk_616 (by decide +kernel) (by decide +kernel) (FA_of fe_616 (fb_616_0))
def fl_617_0 : List Ent := [(3, 3, 6, .getfield 13, [3, 12, 48], 0), (8, 1, 10, .arraylength, [108], 0), (28, 3, 19, .invokevirtual 103, [0, 1, 1, 25, 633], 0), (36, 3, 19, .invokevirtual 178, [0, 1, 1, 25, 635], 0), (45, 3, 6, .getfield 156, [0, 25, 128], 0)]
theorem fb_617_0 : FB mi iT mi_617 (bpc code_617) (fl_617_0) := ⟨fun hd => mk6 fld_12_1 (Or.inl ⟨rfl, by decide⟩) (Or.inl W2217) (Or.inl rfl) (hd rfl),
  ⟨fun hd => mk10 (by decide) rfl (hd rfl),
  ⟨fun hd => mk19 mt_633 cf_633 (vf_633_25.rt (Or.inl W612) (hd rfl)) rfl rfl (noH_nil rfl),
  ⟨fun hd => mk19 mt_635 cf_635 (vf_635_25.rt (Or.inl W1565) (hd rfl)) rfl rfl (noH_nil rfl),
  ⟨fun hd => mk6 fld_25_0 (Or.inl ⟨rfl, by decide⟩) (Or.inr ⟨_, W2166⟩) (Or.inl rfl) (hd rfl),
  trivial⟩⟩⟩⟩⟩
theorem fe_617 : eqEs ((flat code_617).filter (fun e => ndE e.2.2.1)) (fl_617_0) = true := by decide +kernel
theorem om_617 : OKm mi iT prg 617 := OKm_of (code := code_617) rfl mt_617 (Or.inl (by decide +kernel)) rfl wk_617 (by decide +kernel) (by decide +kernel) (FA_of fe_617 (fb_617_0))
def fl_618_0 : List Ent := [(3, 3, 6, .getfield 13, [3, 12, 48], 0), (8, 1, 10, .arraylength, [108], 0), (28, 3, 6, .getfield 175, [0, 25, 133], 0)]
theorem fb_618_0 : FB mi iT mi_618 (bpc code_618) (fl_618_0) := ⟨fun hd => mk6 fld_12_1 (Or.inl ⟨rfl, by decide⟩) (Or.inl W2217) (Or.inl rfl) (hd rfl),
  ⟨fun hd => mk10 (by decide) rfl (hd rfl),
  ⟨fun hd => mk6 fld_25_5 (Or.inl ⟨rfl, by decide⟩) (Or.inr ⟨_, W2179⟩) (Or.inl rfl) (hd rfl),
  trivial⟩⟩⟩
theorem fe_618 : eqEs ((flat code_618).filter (fun e => ndE e.2.2.1)) (fl_618_0) = true := by decide +kernel
theorem om_618 : OKm mi iT prg 618 := OKm_of (code := code_618) rfl mt_618 (Or.inl (by decide +kernel)) rfl wk_618 (by decide +kernel) (by decide +kernel) (FA_of fe_618 (fb_618_0))
def fl_619_0 : List Ent := [(1, 3, 22, .invokespecial 3, [], 0), (7, 3, 12, .anewarray 11, [108], 0), (10, 3, 7, .putfield 13, [3, 12, 48], 0), (16, 2, 12, .newarray .int, [100], 0), (18, 3, 7, .putfield 17, [3, 12, 49], 0), (23, 3, 7, .putfield 21, [3, 12, 47], 0), (35, 3, 6, .getfield 13, [3, 12, 48], 0), (39, 3, 11, .new 11, [25, 11], 0), (45, 3, 18, .invokestatic 25, [0, 1, 1, 620], 0), (49, 3, 18, .invokestatic 29, [0, 1, 1, 621], 0), (52, 3, 36, .invokespecial 32, [9, 4, 4, 25, 636], 0), (55, 1, 9, .aastore, [3, 108, 25], 0), (63, 3, 19, .invokevirtual 35, [9, 1, 1, 12, 625], 0)]
theorem fb_619_0 : FB mi iT mi_619 (bpc code_619) (fl_619_0) := ⟨fun hd => mk22 (by decide) W2139 oi_w (hd rfl),
  ⟨fun hd => mk12b (by decide) rfl W2140 W2141 (hd rfl),
  ⟨fun hd => mk7 fld_12_1 (Or.inl W2217) (Or.inl rfl) (Or.inr ⟨rfl, rfl, rfl, W2217⟩) (hd rfl),
  ⟨fun hd => mk12a (at_ := .int) (by decide) rfl W239 (hd rfl),
  ⟨fun hd => mk7 fld_12_2 (Or.inl W2219) (Or.inl rfl) (Or.inr ⟨rfl, rfl, rfl, W2219⟩) (hd rfl),
  ⟨fun hd => mk7 fld_12_0 (Or.inl W2216) (Or.inl rfl) (Or.inr ⟨rfl, rfl, rfl, W2216⟩) (hd rfl),
  ⟨fun hd => mk6 fld_12_1 (Or.inl ⟨rfl, by decide⟩) (Or.inl W2217) (Or.inl rfl) (hd rfl),
  ⟨fun hd => mk11 nf_25 W2140 (hd rfl),
  ⟨fun hd => mk18 mt_620 sf_620 (Or.inl W2143) rfl rfl (noH_nil rfl) (hd rfl),
  ⟨fun hd => mk18 mt_621 sf_621 (Or.inl W2146) rfl rfl (noH_nil rfl) (hd rfl),
  ⟨fun hd => mk36 mt_636 cf_636 (ic_636.rt (Or.inl W2160) (hd rfl)) rfl rfl,
  ⟨fun hd => ⟨_, _, _, rfl, rfl, hd rfl, Or.inr (Or.inr (Or.inr (Or.inr ⟨rfl, rfl, by decide, _, rfl, as_108_L, by decide⟩)))⟩,
  ⟨fun hd => mk19 mt_625 cf_625 (vf_625_12.rt (Or.inl W2212) (hd rfl)) rfl rfl (noH_nil rfl),
  trivial⟩⟩⟩⟩⟩⟩⟩⟩⟩⟩⟩⟩⟩
theorem fe_619 : eqEs ((flat code_619).filter (fun e => ndE e.2.2.1)) (fl_619_0) = true := by decide +kernel
theorem om_619 : OKm mi iT prg 619 := OKm_of (code := code_619) rfl mt_619 (Or.inl (by decide +kernel)) rfl wk_619 (by decide +kernel) (by decide +kernel) (FA_of fe_619 (fb_619_0))
theorem fe_620 : eqEs ((flat code_620).filter (fun e => ndE e.2.2.1)) ([]) = true := by decide +kernel
theorem om_620 : OKm mi iT prg 620 := OKm_of (code := code_620) rfl mt_620 (Or.inl (by decide +kernel)) rfl wk_620 (by decide +kernel) (by decide +kernel) (FA_of fe_620 (trivial))
def fl_621_0 : List Ent := [(1, 59, 5, .lookupswitch 106 #[(0, 59), (19, 61), (20, 66), (21, 90), (22, 98), (23, 103)], [7, 0, 1, 19, 2, 20, 3, 21, 4, 22, 5, 23, 6], 0), (63, 3, 18, .invokestatic 42, [0, 1, 1, 622], 0), (70, 3, 18, .invokestatic 38, [0, 2, 2, 623], 0), (77, 3, 18, .invokestatic 38, [0, 2, 2, 623], 0), (85, 3, 18, .invokestatic 38, [0, 2, 2, 623], 0), (91, 2, 14, .ldc 45, [], 1048576), (94, 3, 18, .invokestatic 42, [0, 1, 1, 622], 0), (100, 3, 18, .invokestatic 42, [0, 1, 1, 622], 0), (104, 2, 14, .ldc 46, [], 6291456), (117, 3, 18, .invokestatic 47, [0, 2, 2, 624], 0)]
theorem fb_621_0 : FB mi iT mi_621 (bpc code_621) (fl_621_0) := ⟨fun hd => ⟨_, _, rfl, Or.inr ⟨106, #[(0, 59), (19, 61), (20, 66), (21, 90), (22, 98), (23, 103)], 59, (show decode prog_26_method_5_code 1 = .ok (.lookupswitch 106 #[(0, 59), (19, 61), (20, 66), (21, 90), (22, 98), (23, 103)], 59) by decide +kernel), by decide, by decide +kernel, by decide +kernel⟩⟩,
  ⟨fun hd => mk18 mt_622 sf_622 (Or.inl W2149) rfl rfl (noH_nil rfl) (hd rfl),
  ⟨fun hd => mk18 mt_623 sf_623 (Or.inl W2152) rfl rfl (noH_nil rfl) (hd rfl),
  ⟨fun hd => mk18 mt_623 sf_623 (Or.inl W2152) rfl rfl (noH_nil rfl) (hd rfl),
  ⟨fun hd => mk18 mt_623 sf_623 (Or.inl W2152) rfl rfl (noH_nil rfl) (hd rfl),
  ⟨fun hd => mk14c W2155 (Or.inl ⟨hd rfl, rfl⟩),
  ⟨fun hd => mk18 mt_622 sf_622 (Or.inl W2149) rfl rfl (noH_nil rfl) (hd rfl),
  ⟨fun hd => mk18 mt_622 sf_622 (Or.inl W2149) rfl rfl (noH_nil rfl) (hd rfl),
  ⟨fun hd => mk14c W2156 (Or.inl ⟨hd rfl, rfl⟩),
  ⟨fun hd => mk18 mt_624 sf_624 (Or.inl W2157) rfl rfl (noH_nil rfl) (hd rfl),
  trivial⟩⟩⟩⟩⟩⟩⟩⟩⟩⟩
theorem fe_621 : eqEs ((flat code_621).filter (fun e => ndE e.2.2.1)) (fl_621_0) = true := by decide +kernel
theorem om_621 : OKm mi iT prg 621 := OKm_of (code := code_621) rfl mt_621 (Or.inl (by decide +kernel)) rfl wk_621 (by decide +kernel) (by decide +kernel) (FA_of fe_621 (fb_621_0))
def fl_622_0 : List Ent := [(14, 3, 18, .invokestatic 38, [0, 2, 2, 623], 0)]
theorem fb_622_0 : FB mi iT mi_622 (bpc code_622) (fl_622_0) := ⟨fun hd => mk18 mt_623 sf_623 (Or.inl W2152) rfl rfl (noH_nil rfl) (hd rfl),
  trivial⟩
theorem fe_622 : eqEs ((flat code_622).filter (fun e => ndE e.2.2.1)) (fl_622_0) = true := by decide +kernel
theorem om_622 : OKm mi iT prg 622 := OKm_of (code := code_622) rfl mt_622 (Or.inl (by decide +kernel)) rfl wk_622 (by decide +kernel) (by decide +kernel) (FA_of fe_622 (fb_622_0))
theorem fe_623 : eqEs ((flat code_623).filter (fun e => ndE e.2.2.1)) ([]) = true := by decide +kernel
theorem om_623 : OKm mi iT prg 623 := OKm_of (code := code_623) rfl mt_623 (Or.inl (by decide +kernel)) rfl wk_623 (by decide +kernel) (by decide +kernel) (FA_of fe_623 (trivial))
def fl_624_0 : List Ent := [(11, 3, 18, .invokestatic 38, [0, 2, 2, 623], 0), (27, 2, 14, .ldc 45, [], 1048576)]
theorem fb_624_0 : FB mi iT mi_624 (bpc code_624) (fl_624_0) := ⟨fun hd => mk18 mt_623 sf_623 (Or.inl W2152) rfl rfl (noH_nil rfl) (hd rfl),
  ⟨fun hd => mk14c W2155 (Or.inl ⟨hd rfl, rfl⟩),
  trivial⟩⟩
theorem fe_624 : eqEs ((flat code_624).filter (fun e => ndE e.2.2.1)) (fl_624_0) = true := by decide +kernel
theorem om_624 : OKm mi iT prg 624 := OKm_of (code := code_624) rfl mt_624 (Or.inl (by decide +kernel)) rfl wk_624 (by decide +kernel) (by decide +kernel) (FA_of fe_624 (fb_624_0))
def fl_625_0 : List Ent := [(27, 3, 6, .getfield 13, [3, 12, 48], 0), (32, 3, 6, .getfield 50, [0, 25, 130], 0), (43, 3, 6, .getfield 17, [3, 12, 49], 0), (48, 1, 9, .iastore, [0, 100], 0)]
theorem fb_625_0 : FB mi iT mi_625 (bpc code_625) (fl_625_0) := ⟨fun hd => mk6 fld_12_1 (Or.inl ⟨rfl, by decide⟩) (Or.inl W2217) (Or.inl rfl) (hd rfl),
  ⟨fun hd => mk6 fld_25_2 (Or.inl ⟨rfl, by decide⟩) (Or.inr ⟨_, W2170⟩) (Or.inl rfl) (hd rfl),
  ⟨fun hd => mk6 fld_12_2 (Or.inl ⟨rfl, by decide⟩) (Or.inl W2219) (Or.inl rfl) (hd rfl),
  ⟨fun hd => ⟨_, _, _, rfl, rfl, hd rfl, Or.inl ⟨rfl, rfl, rfl⟩⟩,
  trivial⟩⟩⟩⟩
theorem fe_625 : eqEs ((flat code_625).filter (fun e => ndE e.2.2.1)) (fl_625_0) = true := by decide +kernel
theorem om_625 : OKm mi iT prg 625 := OKm_of (code := code_625) rfl mt_625 (Or.inl (by decide +kernel)) rfl wk_625 (by decide +kernel) (by decide +kernel) (FA_of fe_625 (fb_625_0))
def fl_626_0 : List Ent := [(2, 3, 7, .putfield 54, [4, 12, 50], 0), (6, 3, 6, .getfield 13, [3, 12, 48], 0), (12, 3, 6, .getfield 21, [3, 12, 47], 0), (15, 3, 6, .getfield 58, [3, 22, 93], 0), (18, 3, 6, .getfield 64, [0, 16, 63], 0), (23, 3, 19, .invokevirtual 69, [9, 2, 2, 25, 637], 0), (42, 3, 6, .getfield 21, [3, 12, 47], 0), (47, 3, 19, .invokevirtual 73, [3, 3, 3, 22, 487], 0), (52, 3, 6, .getfield 13, [3, 12, 48], 0), (57, 3, 18, .invokestatic 38, [0, 2, 2, 623], 0), (62, 3, 6, .getfield 77, [0, 23, 122], 0), (75, 3, 19, .invokevirtual 82, [0, 1, 1, 23, 595], 0), (82, 3, 19, .invokevirtual 69, [9, 2, 2, 25, 637], 0), (98, 3, 6, .getfield 13, [3, 12, 48], 0), (109, 3, 6, .getfield 21, [3, 12, 47], 0), (112, 3, 6, .getfield 86, [0, 22, 106], 0), (115, 3, 18, .invokestatic 89, [0, 1, 1, 62], 0), (120, 3, 19, .invokevirtual 69, [9, 2, 2, 25, 637], 0), (124, 3, 6, .getfield 13, [3, 12, 48], 0), (133, 3, 6, .getfield 21, [3, 12, 47], 0), (136, 3, 6, .getfield 94, [3, 22, 97], 0), (139, 3, 6, .getfield 98, [0, 20, 88], 0), (146, 3, 19, .invokevirtual 69, [9, 2, 2, 25, 637], 0), (150, 3, 6, .getfield 13, [3, 12, 48], 0), (157, 3, 6, .getfield 21, [3, 12, 47], 0), (160, 3, 6, .getfield 58, [3, 22, 93], 0), (163, 3, 6, .getfield 64, [0, 16, 63], 0), (166, 3, 19, .invokevirtual 69, [9, 2, 2, 25, 637], 0), (170, 3, 6, .getfield 13, [3, 12, 48], 0), (178, 3, 19, .invokevirtual 69, [9, 2, 2, 25, 637], 0)]
theorem fb_626_0 : FB mi iT mi_626 (bpc code_626) (fl_626_0) := ⟨fun hd => mk7 fld_12_3 (Or.inl W2221) (Or.inl rfl) (Or.inl rfl) (hd rfl),
  ⟨fun hd => mk6 fld_12_1 (Or.inl ⟨rfl, by decide⟩) (Or.inl W2217) (Or.inl rfl) (hd rfl),
  ⟨fun hd => mk6 fld_12_0 (Or.inl ⟨rfl, by decide⟩) (Or.inl W2216) (Or.inl rfl) (hd rfl),
  ⟨fun hd => mk6 fld_22_1 (Or.inl ⟨rfl, by decide⟩) (Or.inr ⟨_, W2249⟩) (Or.inl rfl) (hd rfl),
  ⟨fun hd => mk6 fld_16_1 (Or.inl ⟨rfl, by decide⟩) (Or.inr ⟨_, W1907⟩) (Or.inl rfl) (hd rfl),
  ⟨fun hd => mk19 mt_637 cf_637 (vf_637_25.rt (Or.inl W3184) (hd rfl)) rfl rfl (noH_nil rfl),
  ⟨fun hd => mk6 fld_12_0 (Or.inl ⟨rfl, by decide⟩) (Or.inl W2216) (Or.inl rfl) (hd rfl),
  ⟨fun hd => mk19 mt_487 cf_487 (vf_487_22.rt (Or.inl W3188) (hd rfl)) rfl rfl (noH_nil rfl),
  ⟨fun hd => mk6 fld_12_1 (Or.inl ⟨rfl, by decide⟩) (Or.inl W2217) (Or.inl rfl) (hd rfl),
  ⟨fun hd => mk18 mt_623 sf_623 (Or.inl W2152) rfl rfl (noH_nil rfl) (hd rfl),
  ⟨fun hd => mk6 fld_23_3 (Or.inl ⟨rfl, by decide⟩) (Or.inr ⟨_, W2082⟩) (Or.inl rfl) (hd rfl),
  ⟨fun hd => mk19 mt_595 cf_595 (vf_595_23.rt (Or.inl W3189) (hd rfl)) rfl rfl (noH_nil rfl),
  ⟨fun hd => mk19 mt_637 cf_637 (vf_637_25.rt (Or.inl W3184) (hd rfl)) rfl rfl (noH_nil rfl),
  ⟨fun hd => mk6 fld_12_1 (Or.inl ⟨rfl, by decide⟩) (Or.inl W2217) (Or.inl rfl) (hd rfl),
  ⟨fun hd => mk6 fld_12_0 (Or.inl ⟨rfl, by decide⟩) (Or.inl W2216) (Or.inl rfl) (hd rfl),
  ⟨fun hd => mk6 fld_22_14 (Or.inl ⟨rfl, by decide⟩) (Or.inr ⟨_, W2299⟩) (Or.inl rfl) (hd rfl),
  ⟨fun hd => mk18 mt_62 sf_62 (Or.inl W3195) rfl rfl (noH_nil rfl) (hd rfl),
  ⟨fun hd => mk19 mt_637 cf_637 (vf_637_25.rt (Or.inl W3184) (hd rfl)) rfl rfl (noH_nil rfl),
  ⟨fun hd => mk6 fld_12_1 (Or.inl ⟨rfl, by decide⟩) (Or.inl W2217) (Or.inl rfl) (hd rfl),
  ⟨fun hd => mk6 fld_12_0 (Or.inl ⟨rfl, by decide⟩) (Or.inl W2216) (Or.inl rfl) (hd rfl),
  ⟨fun hd => mk6 fld_22_5 (Or.inl ⟨rfl, by decide⟩) (Or.inr ⟨_, W2261⟩) (Or.inl rfl) (hd rfl),
  ⟨fun hd => mk6 fld_20_2 (Or.inl ⟨rfl, by decide⟩) (Or.inr ⟨_, W1976⟩) (Or.inl rfl) (hd rfl),
  ⟨fun hd => mk19 mt_637 cf_637 (vf_637_25.rt (Or.inl W3184) (hd rfl)) rfl rfl (noH_nil rfl),
  ⟨fun hd => mk6 fld_12_1 (Or.inl ⟨rfl, by decide⟩) (Or.inl W2217) (Or.inl rfl) (hd rfl),
  ⟨fun hd => mk6 fld_12_0 (Or.inl ⟨rfl, by decide⟩) (Or.inl W2216) (Or.inl rfl) (hd rfl),
  ⟨fun hd => mk6 fld_22_1 (Or.inl ⟨rfl, by decide⟩) (Or.inr ⟨_, W2249⟩) (Or.inl rfl) (hd rfl),
  ⟨fun hd => mk6 fld_16_1 (Or.inl ⟨rfl, by decide⟩) (Or.inr ⟨_, W1907⟩) (Or.inl rfl) (hd rfl),
  ⟨fun hd => mk19 mt_637 cf_637 (vf_637_25.rt (Or.inl W3184) (hd rfl)) rfl rfl (noH_nil rfl),
  ⟨fun hd => mk6 fld_12_1 (Or.inl ⟨rfl, by decide⟩) (Or.inl W2217) (Or.inl rfl) (hd rfl),
  ⟨fun hd => mk19 mt_637 cf_637 (vf_637_25.rt (Or.inl W3184) (hd rfl)) rfl rfl (noH_nil rfl),
  trivial⟩⟩⟩⟩⟩⟩⟩⟩⟩⟩⟩⟩⟩⟩⟩⟩⟩⟩⟩⟩⟩⟩⟩⟩⟩⟩⟩⟩⟩⟩
def fl_626_1 : List Ent := [(182, 3, 6, .getfield 13, [3, 12, 48], 0), (190, 3, 19, .invokevirtual 69, [9, 2, 2, 25, 637], 0)]
theorem fb_626_1 : FB mi iT mi_626 (bpc code_626) (fl_626_1) := ⟨fun hd => mk6 fld_12_1 (Or.inl ⟨rfl, by decide⟩) (Or.inl W2217) (Or.inl rfl) (hd rfl),
  ⟨fun hd => mk19 mt_637 cf_637 (vf_637_25.rt (Or.inl W3184) (hd rfl)) rfl rfl (noH_nil rfl),
  trivial⟩⟩
theorem fe_626 : eqEs ((flat code_626).filter (fun e => ndE e.2.2.1)) (fl_626_0 ++ (fl_626_1)) = true := by decide +kernel
theorem om_626 : OKm mi iT prg 626 := OKm_of (code := code_626) rfl mt_626 (Or.inl (by decide +kernel)) rfl wk_626 (by decide +kernel) (by decide +kernel) (FA_of fe_626 (FB_app fb_626_0 (fb_626_1)))
def fl_627_0 : List Ent := [(9, 3, 19, .invokevirtual 107, [0, 2, 2, 12, 612], 0)]
theorem fb_627_0 : FB mi iT mi_627 (bpc code_627) (fl_627_0) := ⟨fun hd => mk19 mt_612 cf_612 (vf_612_12.rt (Or.inl W3207) (hd rfl)) rfl rfl (noH_nil rfl),
  trivial⟩
theorem fe_627 : eqEs ((flat code_627).filter (fun e => ndE e.2.2.1)) (fl_627_0) = true := by decide +kernel
theorem om_627 : OKm mi iT prg 627 := OKm_of (code := code_627) rfl mt_627 (Or.inl (by decide +kernel)) rfl wk_627 (by decide +kernel) (by decide +kernel) (FA_of fe_627 (fb_627_0))
def fl_628_0 : List Ent := [(1, 3, 6, .getfield 159, [0, 25, 129], 0), (9, 3, 19, .invokevirtual 103, [0, 1, 1, 25, 633], 0), (16, 3, 6, .getfield 162, [0, 25, 138], 0), (25, 3, 19, .invokevirtual 165, [0, 2, 2, 12, 629], 0), (33, 3, 19, .invokevirtual 169, [0, 2, 2, 12, 611], 0), (47, 3, 19, .invokevirtual 172, [0, 2, 2, 12, 630], 0)]
theorem fb_628_0 : FB mi iT mi_628 (bpc code_628) (fl_628_0) := ⟨fun hd => mk6 fld_25_1 (Or.inl ⟨rfl, by decide⟩) (Or.inr ⟨_, W2168⟩) (Or.inl rfl) (hd rfl),
  ⟨fun hd => mk19 mt_633 cf_633 (vf_633_25.rt (Or.inl W612) (hd rfl)) rfl rfl (noH_nil rfl),
  ⟨fun hd => mk6 fld_25_10 (Or.inl ⟨rfl, by decide⟩) (Or.inr ⟨_, W2188⟩) (Or.inl rfl) (hd rfl),
  ⟨fun hd => mk19 mt_629 cf_629 (vf_629_12.rt (Or.inl W3386) (hd rfl)) rfl rfl (noH_nil rfl),
  ⟨fun hd => mk19 mt_611 cf_611 (vf_611_12.rt (Or.inl W616) (hd rfl)) rfl rfl (noH_nil rfl),
  ⟨fun hd => mk19 mt_630 cf_630 (vf_630_12.rt (Or.inl W3392) (hd rfl)) rfl rfl (noH_nil rfl),
  trivial⟩⟩⟩⟩⟩⟩
theorem fe_628 : eqEs ((flat code_628).filter (fun e => ndE e.2.2.1)) (fl_628_0) = true := by decide +kernel
theorem om_628 : OKm mi iT prg 628 := OKm_of (code := code_628) rfl mt_628 (Or.inl (by decide +kernel)) rfl wk_628 (by decide +kernel) (by decide +kernel) (FA_of fe_628 (fb_628_0))
def fl_629_0 : List Ent := [(1, 3, 6, .getfield 21, [3, 12, 47], 0), (4, 3, 6, .getfield 144, [3, 22, 105], 0), (7, 3, 13, .getstatic 148, [19], 0), (14, 3, 6, .getfield 21, [3, 12, 47], 0), (17, 3, 6, .getfield 144, [3, 22, 105], 0), (20, 3, 13, .getstatic 153, [16], 0), (27, 3, 6, .getfield 156, [0, 25, 128], 0)]
theorem fb_629_0 : FB mi iT mi_629 (bpc code_629) (fl_629_0) := ⟨fun hd => mk6 fld_12_0 (Or.inl ⟨rfl, by decide⟩) (Or.inl W2216) (Or.inl rfl) (hd rfl),
  ⟨fun hd => mk6 fld_22_13 (Or.inl ⟨rfl, by decide⟩) (Or.inr ⟨_, W2296⟩) (Or.inl rfl) (hd rfl),
  ⟨fun hd => mk13s (by decide) rfl (Or.inl W3390) (Or.inl rfl) (hd rfl),
  ⟨fun hd => mk6 fld_12_0 (Or.inl ⟨rfl, by decide⟩) (Or.inl W2216) (Or.inl rfl) (hd rfl),
  ⟨fun hd => mk6 fld_22_13 (Or.inl ⟨rfl, by decide⟩) (Or.inr ⟨_, W2296⟩) (Or.inl rfl) (hd rfl),
  ⟨fun hd => mk13s (by decide) rfl (Or.inl W3391) (Or.inl rfl) (hd rfl),
  ⟨fun hd => mk6 fld_25_0 (Or.inl ⟨rfl, by decide⟩) (Or.inr ⟨_, W2166⟩) (Or.inl rfl) (hd rfl),
  trivial⟩⟩⟩⟩⟩⟩⟩
theorem fe_629 : eqEs ((flat code_629).filter (fun e => ndE e.2.2.1)) (fl_629_0) = true := by decide +kernel
theorem om_629 : OKm mi iT prg 629 := OKm_of (code := code_629) rfl mt_629 (Or.inl (by decide +kernel)) rfl wk_629 (by decide +kernel) (by decide +kernel) (FA_of fe_629 (fb_629_0))
def fl_630_0 : List Ent := [(1, 3, 19, .invokevirtual 132, [0, 1, 1, 25, 638], 0), (8, 3, 6, .getfield 21, [3, 12, 47], 0), (12, 3, 19, .invokevirtual 135, [0, 1, 1, 25, 639], 0), (16, 3, 19, .invokevirtual 138, [0, 1, 1, 25, 640], 0), (19, 3, 19, .invokevirtual 73, [3, 3, 3, 22, 487], 0), (22, 3, 19, .invokevirtual 141, [0, 1, 1, 23, 596], 0)]
theorem fb_630_0 : FB mi iT mi_630 (bpc code_630) (fl_630_0) := ⟨fun hd => mk19 mt_638 cf_638 (vf_638_25.rt (Or.inl W3396) (hd rfl)) rfl rfl (noH_nil rfl),
  ⟨fun hd => mk6 fld_12_0 (Or.inl ⟨rfl, by decide⟩) (Or.inl W2216) (Or.inl rfl) (hd rfl),
  ⟨fun hd => mk19 mt_639 cf_639 (vf_639_25.rt (Or.inl W3400) (hd rfl)) rfl rfl (noH_nil rfl),
  ⟨fun hd => mk19 mt_640 cf_640 (vf_640_25.rt (Or.inl W3404) (hd rfl)) rfl rfl (noH_nil rfl),
  ⟨fun hd => mk19 mt_487 cf_487 (vf_487_22.rt (Or.inl W3188) (hd rfl)) rfl rfl (noH_nil rfl),
  ⟨fun hd => mk19 mt_596 cf_596 (vf_596_23.rt (Or.inl W3408) (hd rfl)) rfl rfl (noH_nil rfl),
  trivial⟩⟩⟩⟩⟩⟩
theorem fe_630 : eqEs ((flat code_630).filter (fun e => ndE e.2.2.1)) (fl_630_0) = true := by decide +kernel
theorem om_630 : OKm mi iT prg 630 := OKm_of (code := code_630) rfl mt_630 (Or.inl (by decide +kernel)) rfl wk_630 (by decide +kernel) (by decide +kernel) (FA_of fe_630 (fb_630_0))
def fl_631_0 : List Ent := [(1, 3, 6, .getfield 13, [3, 12, 48], 0)]
theorem fb_631_0 : FB mi iT mi_631 (bpc code_631) (fl_631_0) := ⟨fun hd => mk6 fld_12_1 (Or.inl ⟨rfl, by decide⟩) (Or.inl W2217) (Or.inl rfl) (hd rfl),
  trivial⟩
theorem fe_631 : eqEs ((flat code_631).filter (fun e => ndE e.2.2.1)) (fl_631_0) = true := by decide +kernel
theorem om_631 : OKm mi iT prg 631 := OKm_of (code := code_631) rfl mt_631 (Or.inl (by decide +kernel)) rfl wk_631 (by decide +kernel) (by decide +kernel) (FA_of fe_631 (fb_631_0))
def fl_632_0 : List Ent := [(1, 3, 19, .invokevirtual 181, [9, 1, 1, 12, 614], 0), (5, 47, 5, .tableswitch 103 0 7 #[47, 52, 57, 70, 75, 80, 85, 90], [15, 0, 1, 1, 2, 2, 3, 3, 7, 4, 8, 5, 9, 6, 10, 7, 11], 0), (53, 3, 6, .getfield 175, [0, 25, 133], 0), (58, 3, 6, .getfield 159, [0, 25, 129], 0), (63, 3, 19, .invokevirtual 103, [0, 1, 1, 25, 633], 0), (76, 3, 19, .invokevirtual 116, [0, 1, 1, 25, 634], 0), (81, 3, 6, .getfield 113, [0, 25, 136], 0), (86, 3, 6, .getfield 126, [0, 25, 137], 0), (91, 3, 19, .invokevirtual 178, [0, 1, 1, 25, 635], 0), (96, 3, 6, .getfield 183, [0, 25, 135], 0), (109, 3, 6, .getfield 50, [0, 25, 130], 0)]
theorem fb_632_0 : FB mi iT mi_632 (bpc code_632) (fl_632_0) := ⟨fun hd => mk19 mt_614 cf_614 (vf_614_12.rt (Or.inl W1538) (hd rfl)) rfl rfl (noH_nil rfl),
  ⟨fun hd => ⟨_, _, rfl, Or.inl ⟨103, 0, 7, #[47, 52, 57, 70, 75, 80, 85, 90], 8, 47, (show decode prog_26_method_21_code 5 = .ok (.tableswitch 103 0 7 #[47, 52, 57, 70, 75, 80, 85, 90], 47) by decide +kernel), by decide, by decide +kernel⟩⟩,
  ⟨fun hd => mk6 fld_25_5 (Or.inl ⟨rfl, by decide⟩) (Or.inr ⟨_, W2179⟩) (Or.inl rfl) (hd rfl),
  ⟨fun hd => mk6 fld_25_1 (Or.inl ⟨rfl, by decide⟩) (Or.inr ⟨_, W2168⟩) (Or.inl rfl) (hd rfl),
  ⟨fun hd => mk19 mt_633 cf_633 (vf_633_25.rt (Or.inl W612) (hd rfl)) rfl rfl (noH_nil rfl),
  ⟨fun hd => mk19 mt_634 cf_634 (vf_634_25.rt (Or.inl W1542) (hd rfl)) rfl rfl (noH_nil rfl),
  ⟨fun hd => mk6 fld_25_8 (Or.inl ⟨rfl, by decide⟩) (Or.inr ⟨_, W2184⟩) (Or.inl rfl) (hd rfl),
  ⟨fun hd => mk6 fld_25_9 (Or.inl ⟨rfl, by decide⟩) (Or.inr ⟨_, W2186⟩) (Or.inl rfl) (hd rfl),
  ⟨fun hd => mk19 mt_635 cf_635 (vf_635_25.rt (Or.inl W1565) (hd rfl)) rfl rfl (noH_nil rfl),
  ⟨fun hd => mk6 fld_25_7 (Or.inr ⟨rfl, Or.inl rfl⟩) (Or.inr ⟨_, W2182⟩) (Or.inl rfl) (hd rfl),
  ⟨fun hd => mk6 fld_25_2 (Or.inl ⟨rfl, by decide⟩) (Or.inr ⟨_, W2170⟩) (Or.inl rfl) (hd rfl),
  trivial⟩⟩⟩⟩⟩⟩⟩⟩⟩⟩⟩
theorem fe_632 : eqEs ((flat code_632).filter (fun e => ndE e.2.2.1)) (fl_632_0) = true := by decide +kernel
theorem om_632 : OKm mi iT prg 632 := OKm_of (code := code_632) rfl mt_632 (Or.inl (by decide +kernel)) rfl wk_632 (by decide +kernel) (by decide +kernel) (FA_of fe_632 (fb_632_0))
def fl_633_0 : List Ent := [(1, 3, 6, .getfield 31, [0, 25, 133], 0)]
theorem fb_633_0 : FB mi iT mi_633 (bpc code_633) (fl_633_0) := ⟨fun hd => mk6 fld_25_5 (Or.inl ⟨rfl, by decide⟩) (Or.inl W2176) (Or.inl rfl) (hd rfl),
  trivial⟩
theorem fe_633 : eqEs ((flat code_633).filter (fun e => ndE e.2.2.1)) (fl_633_0) = true := by decide +kernel
theorem om_633 : OKm mi iT prg 633 := OKm_of (code := code_633) rfl mt_633 (Or.inl (by decide +kernel)) rfl wk_633 (by decide +kernel) (by decide +kernel) (FA_of fe_633 (fb_633_0))
def fl_634_0 : List Ent := [(1, 3, 6, .getfield 31, [0, 25, 133], 0), (6, 3, 18, .invokestatic 34, [0, 2, 2, 198], 0)]
theorem fb_634_0 : FB mi iT mi_634 (bpc code_634) (fl_634_0) := ⟨fun hd => mk6 fld_25_5 (Or.inl ⟨rfl, by decide⟩) (Or.inl W2176) (Or.inl rfl) (hd rfl),
  ⟨fun hd => mk18 mt_198 sf_198 (Or.inr ⟨⟨_, W1546⟩, _, _, rfl⟩) rfl rfl (noH_nil rfl) (hd rfl),
  trivial⟩⟩
theorem fe_634 : eqEs ((flat code_634).filter (fun e => ndE e.2.2.1)) (fl_634_0) = true := by decide +kernel
theorem om_634 : OKm mi iT prg 634 := OKm_of (code := code_634) rfl mt_634 (Or.inl (by decide +kernel)) rfl wk_634 (by decide +kernel) (by decide +kernel) (FA_of fe_634 (fb_634_0))
def fl_635_0 : List Ent := [(1, 3, 6, .getfield 40, [0, 25, 137], 0), (5, 3, 6, .getfield 43, [0, 25, 136], 0)]
theorem fb_635_0 : FB mi iT mi_635 (bpc code_635) (fl_635_0) := ⟨fun hd => mk6 fld_25_9 (Or.inl ⟨rfl, by decide⟩) (Or.inl W2185) (Or.inl rfl) (hd rfl),
  ⟨fun hd => mk6 fld_25_8 (Or.inl ⟨rfl, by decide⟩) (Or.inl W2183) (Or.inl rfl) (hd rfl),
  trivial⟩⟩
theorem fe_635 : eqEs ((flat code_635).filter (fun e => ndE e.2.2.1)) (fl_635_0) = true := by decide +kernel
theorem om_635 : OKm mi iT prg 635 := OKm_of (code := code_635) rfl mt_635 (Or.inl (by decide +kernel)) rfl wk_635 (by decide +kernel) (by decide +kernel) (FA_of fe_635 (fb_635_0))
def fl_636_0 : List Ent := [(1, 3, 22, .invokespecial 1, [], 0), (6, 3, 7, .putfield 7, [0, 25, 128], 0), (11, 3, 7, .putfield 13, [0, 25, 129], 0), (16, 3, 7, .putfield 16, [0, 25, 130], 0), (21, 3, 18, .invokestatic 19, [0, 1, 1, 62], 0), (24, 2, 12, .newarray .int, [100], 0), (26, 3, 7, .putfield 25, [3, 25, 131], 0), (53, 3, 6, .getfield 25, [3, 25, 131], 0), (60, 1, 9, .iastore, [0, 100], 0)]
theorem fb_636_0 : FB mi iT mi_636 (bpc code_636) (fl_636_0) := ⟨fun hd => mk22 (by decide) W2163 oi_w (hd rfl),
  ⟨fun hd => mk7 fld_25_0 (Or.inl W2165) (Or.inl rfl) (Or.inr ⟨rfl, rfl, rfl, W2165⟩) (hd rfl),
  ⟨fun hd => mk7 fld_25_1 (Or.inl W2167) (Or.inl rfl) (Or.inr ⟨rfl, rfl, rfl, W2167⟩) (hd rfl),
  ⟨fun hd => mk7 fld_25_2 (Or.inl W2169) (Or.inl rfl) (Or.inr ⟨rfl, rfl, rfl, W2169⟩) (hd rfl),
  ⟨fun hd => mk18 mt_62 sf_62 (Or.inl W2164) rfl rfl (noH_nil rfl) (hd rfl),
  ⟨fun hd => mk12a (at_ := .int) (by decide) rfl W239 (hd rfl),
  ⟨fun hd => mk7 fld_25_3 (Or.inl W2171) (Or.inl rfl) (Or.inr ⟨rfl, rfl, rfl, W2171⟩) (hd rfl),
  ⟨fun hd => mk6 fld_25_3 (Or.inl ⟨rfl, by decide⟩) (Or.inl W2171) (Or.inl rfl) (hd rfl),
  ⟨fun hd => ⟨_, _, _, rfl, rfl, hd rfl, Or.inl ⟨rfl, rfl, rfl⟩⟩,
  trivial⟩⟩⟩⟩⟩⟩⟩⟩⟩
theorem fe_636 : eqEs ((flat code_636).filter (fun e => ndE e.2.2.1)) (fl_636_0) = true := by decide +kernel
theorem om_636 : OKm mi iT prg 636 := OKm_of (code := code_636) rfl mt_636 (Or.inl (by decide +kernel)) rfl wk_636 (by decide +kernel) (by decide +kernel) (FA_of fe_636 (fb_636_0))
def fl_637_0 : List Ent := [(2, 3, 7, .putfield 46, [0, 25, 132], 0), (7, 3, 7, .putfield 31, [0, 25, 133], 0)]
theorem fb_637_0 : FB mi iT mi_637 (bpc code_637) (fl_637_0) := ⟨fun hd => mk7 fld_25_4 (Or.inl W2173) (Or.inl rfl) (Or.inl rfl) (hd rfl),
  ⟨fun hd => mk7 fld_25_5 (Or.inl W2176) (Or.inl rfl) (Or.inl rfl) (hd rfl),
  trivial⟩⟩
theorem fe_637 : eqEs ((flat code_637).filter (fun e => ndE e.2.2.1)) (fl_637_0) = true := by decide +kernel
theorem om_637 : OKm mi iT prg 637 := OKm_of (code := code_637) rfl mt_637 (Or.inl (by decide +kernel)) rfl wk_637 (by decide +kernel) (by decide +kernel) (FA_of fe_637 (fb_637_0))
def fl_638_0 : List Ent := [(1, 3, 6, .getfield 7, [0, 25, 128], 0), (8, 3, 6, .getfield 7, [0, 25, 128], 0)]
theorem fb_638_0 : FB mi iT mi_638 (bpc code_638) (fl_638_0) := ⟨fun hd => mk6 fld_25_0 (Or.inl ⟨rfl, by decide⟩) (Or.inl W2165) (Or.inl rfl) (hd rfl),
  ⟨fun hd => mk6 fld_25_0 (Or.inl ⟨rfl, by decide⟩) (Or.inl W2165) (Or.inl rfl) (hd rfl),
  trivial⟩⟩
theorem fe_638 : eqEs ((flat code_638).filter (fun e => ndE e.2.2.1)) (fl_638_0) = true := by decide +kernel
theorem om_638 : OKm mi iT prg 638 := OKm_of (code := code_638) rfl mt_638 (Or.inl (by decide +kernel)) rfl wk_638 (by decide +kernel) (by decide +kernel) (FA_of fe_638 (fb_638_0))
def fl_639_0 : List Ent := [(1, 3, 6, .getfield 7, [0, 25, 128], 0)]
theorem fb_639_0 : FB mi iT mi_639 (bpc code_639) (fl_639_0) := ⟨fun hd => mk6 fld_25_0 (Or.inl ⟨rfl, by decide⟩) (Or.inl W2165) (Or.inl rfl) (hd rfl),
  trivial⟩
theorem fe_639 : eqEs ((flat code_639).filter (fun e => ndE e.2.2.1)) (fl_639_0) = true := by decide +kernel
theorem om_639 : OKm mi iT prg 639 := OKm_of (code := code_639) rfl mt_639 (Or.inl (by decide +kernel)) rfl wk_639 (by decide +kernel) (by decide +kernel) (FA_of fe_639 (fb_639_0))
def fl_640_0 : List Ent := [(1, 3, 6, .getfield 7, [0, 25, 128], 0)]
theorem fb_640_0 : FB mi iT mi_640 (bpc code_640) (fl_640_0) := ⟨fun hd => mk6 fld_25_0 (Or.inl ⟨rfl, by decide⟩) (Or.inl W2165) (Or.inl rfl) (hd rfl),
  trivial⟩
theorem fe_640 : eqEs ((flat code_640).filter (fun e => ndE e.2.2.1)) (fl_640_0) = true := by decide +kernel
theorem om_640 : OKm mi iT prg 640 := OKm_of (code := code_640) rfl mt_640 (Or.inl (by decide +kernel)) rfl wk_640 (by decide +kernel) (by decide +kernel) (FA_of fe_640 (fb_640_0))
def fl_641_0 : List Ent := [(1, 3, 22, .invokespecial 3, [], 0), (7, 3, 12, .anewarray 9, [109], 0), (10, 3, 7, .putfield 11, [3, 38, 215], 0), (15, 3, 7, .putfield 17, [0, 38, 212], 0), (20, 3, 7, .putfield 21, [0, 38, 213], 0), (25, 3, 7, .putfield 24, [0, 38, 214], 0), (39, 3, 6, .getfield 11, [3, 38, 215], 0), (45, 2, 12, .newarray .int, [100], 0), (47, 1, 9, .aastore, [3, 109, 100], 0), (58, 3, 6, .getfield 11, [3, 38, 215], 0), (68, 3, 13, .getstatic 27, [51], 0), (77, 3, 13, .getstatic 30, [52], 0), (89, 1, 9, .iastore, [0, 100], 0)]
theorem fb_641_0 : FB mi iT mi_641 (bpc code_641) (fl_641_0) := ⟨fun hd => mk22 (by decide) W4373 oi_w (hd rfl),
  ⟨fun hd => mk12c (by decide) rfl W4374 (hd rfl),
  ⟨fun hd => mk7 fld_38_3 (Or.inl W4459) (Or.inl rfl) (Or.inr ⟨rfl, rfl, rfl, W4459⟩) (hd rfl),
  ⟨fun hd => mk7 fld_38_0 (Or.inl W4448) (Or.inl rfl) (Or.inr ⟨rfl, rfl, rfl, W4448⟩) (hd rfl),
  ⟨fun hd => mk7 fld_38_1 (Or.inl W4451) (Or.inl rfl) (Or.inr ⟨rfl, rfl, rfl, W4451⟩) (hd rfl),
  ⟨fun hd => mk7 fld_38_2 (Or.inl W4455) (Or.inl rfl) (Or.inr ⟨rfl, rfl, rfl, W4455⟩) (hd rfl),
  ⟨fun hd => mk6 fld_38_3 (Or.inl ⟨rfl, by decide⟩) (Or.inl W4459) (Or.inl rfl) (hd rfl),
  ⟨fun hd => mk12a (at_ := .int) (by decide) rfl W239 (hd rfl),
  ⟨fun hd => ⟨_, _, _, rfl, rfl, hd rfl, Or.inr (Or.inr (Or.inr (Or.inr ⟨rfl, rfl, by decide, _, rfl, (Or.inr ⟨rfl, rfl⟩), by decide⟩)))⟩,
  ⟨fun hd => mk6 fld_38_3 (Or.inl ⟨rfl, by decide⟩) (Or.inl W4459) (Or.inl rfl) (hd rfl),
  ⟨fun hd => mk13s (by decide) rfl (Or.inr ⟨_, W4376⟩) (Or.inl rfl) (hd rfl),
  ⟨fun hd => mk13s (by decide) rfl (Or.inr ⟨_, W4378⟩) (Or.inl rfl) (hd rfl),
  ⟨fun hd => ⟨_, _, _, rfl, rfl, hd rfl, Or.inl ⟨rfl, rfl, rfl⟩⟩,
  trivial⟩⟩⟩⟩⟩⟩⟩⟩⟩⟩⟩⟩⟩
theorem fe_641 : eqEs ((flat code_641).filter (fun e => ndE e.2.2.1)) (fl_641_0) = true := by decide +kernel
theorem om_641 : OKm mi iT prg 641 := OKm_of (code := code_641) rfl mt_641 (Or.inl (by decide +kernel)) rfl wk_641 (by decide +kernel) (by decide +kernel) (FA_of fe_641 (fb_641_0))
def fl_642_0 : List Ent := [(18, 3, 6, .getfield 11, [3, 38, 215], 0), (28, 3, 6, .getfield 11, [3, 38, 215], 0), (43, 3, 6, .getfield 11, [3, 38, 215], 0), (53, 3, 18, .invokestatic 33, [0, 1, 1, 70], 0), (65, 3, 6, .getfield 11, [3, 38, 215], 0), (73, 1, 9, .iastore, [0, 100], 0)]
theorem fb_642_0 : FB mi iT mi_642 (bpc code_642) (fl_642_0) := ⟨fun hd => mk6 fld_38_3 (Or.inl ⟨rfl, by decide⟩) (Or.inl W4459) (Or.inl rfl) (hd rfl),
  ⟨fun hd => mk6 fld_38_3 (Or.inl ⟨rfl, by decide⟩) (Or.inl W4459) (Or.inl rfl) (hd rfl),
  ⟨fun hd => mk6 fld_38_3 (Or.inl ⟨rfl, by decide⟩) (Or.inl W4459) (Or.inl rfl) (hd rfl),
  ⟨fun hd => mk18 mt_70 sf_70 (Or.inl W4557) rfl rfl (noH_nil rfl) (hd rfl),
  ⟨fun hd => mk6 fld_38_3 (Or.inl ⟨rfl, by decide⟩) (Or.inl W4459) (Or.inl rfl) (hd rfl),
  ⟨fun hd => ⟨_, _, _, rfl, rfl, hd rfl, Or.inl ⟨rfl, rfl, rfl⟩⟩,
  trivial⟩⟩⟩⟩⟩⟩
theorem fe_642 : eqEs ((flat code_642).filter (fun e => ndE e.2.2.1)) (fl_642_0) = true := by decide +kernel
theorem om_642 : OKm mi iT prg 642 := OKm_of (code := code_642) rfl mt_642 (Or.inl (by decide +kernel)) rfl wk_642 (by decide +kernel) (by decide +kernel) (FA_of fe_642 (fb_642_0))
def fl_643_0 : List Ent := [(3, 3, 19, .invokevirtual 83, [2, 3, 4, 38, 644], 0), (28, 3, 19, .invokevirtual 87, [2, 2, 3, 38, 651], 0), (35, 3, 15, .ldc2_w 91, [4562254508917369340], 0)]
theorem fb_643_0 : FB mi iT mi_643 (bpc code_643) (fl_643_0) := ⟨fun hd => mk19 mt_644 cf_644 (pf_644_38.rt W4577 (hd rfl)) rfl rfl (noH_nil rfl),
  ⟨fun hd => mk19 mt_651 cf_651 (vf_651_38.rt (Or.inl W4620) (hd rfl)) rfl rfl (noH_nil rfl),
  ⟨fun hd => mk15 W4625 (hd rfl),
  trivial⟩⟩⟩
theorem fe_643 : eqEs ((flat code_643).filter (fun e => ndE e.2.2.1)) (fl_643_0) = true := by decide +kernel
theorem om_643 : OKm mi iT prg 643 := OKm_of (code := code_643) rfl mt_643 (Or.inl (by decide +kernel)) rfl wk_643 (by decide +kernel) (by decide +kernel) (FA_of fe_643 (fb_643_0))
def fl_644_0 : List Ent := [(4, 3, 19, .invokevirtual 73, [2, 4, 5, 38, 645], 0), (21, 3, 13, .getstatic 77, [53], 0), (32, 3, 19, .invokevirtual 73, [2, 4, 5, 38, 645], 0), (48, 3, 6, .getfield 21, [0, 38, 213], 0), (53, 3, 15, .ldc2_w 81, [4625759767262920704], 0)]
theorem fb_644_0 : FB mi iT mi_644 (bpc code_644) (fl_644_0) := ⟨fun hd => mk19 mt_645 cf_645 (pf_645_38.rt W4582 (hd rfl)) rfl rfl (noH_nil rfl),
  ⟨fun hd => mk13s (by decide) rfl (Or.inr ⟨_, W4617⟩) (Or.inl rfl) (hd rfl),
  ⟨fun hd => mk19 mt_645 cf_645 (pf_645_38.rt W4582 (hd rfl)) rfl rfl (noH_nil rfl),
  ⟨fun hd => mk6 fld_38_1 (Or.inl ⟨rfl, by decide⟩) (Or.inl W4451) (Or.inl rfl) (hd rfl),
  ⟨fun hd => mk15 W4619 (hd rfl),
  trivial⟩⟩⟩⟩⟩
theorem fe_644 : eqEs ((flat code_644).filter (fun e => ndE e.2.2.1)) (fl_644_0) = true := by decide +kernel
theorem om_644 : OKm mi iT prg 644 := OKm_of (code := code_644) rfl mt_644 (Or.inl (by decide +kernel)) rfl wk_644 (by decide +kernel) (by decide +kernel) (FA_of fe_644 (fb_644_0))
def fl_645_0 : List Ent := [(3, 3, 19, .invokevirtual 55, [2, 3, 4, 38, 646], 0), (10, 3, 19, .invokevirtual 65, [2, 2, 2, 38, 648], 0), (14, 3, 6, .getfield 21, [0, 38, 213], 0), (18, 3, 15, .ldc2_w 59, [4611686018427387904], 0), (27, 37, 5, .tableswitch 98 0 5 #[37, 44, 57, 65, 72, 85], [7, 0, 1, 1, 2, 2, 3, 3, 4, 4, 5, 5, 6], 0), (67, 3, 19, .invokevirtual 69, [2, 3, 4, 38, 649], 0), (74, 3, 19, .invokevirtual 69, [2, 3, 4, 38, 649], 0), (79, 3, 19, .invokevirtual 65, [2, 2, 2, 38, 648], 0), (88, 3, 19, .invokevirtual 61, [2, 4, 5, 38, 650], 0), (92, 3, 15, .ldc2_w 59, [4611686018427387904], 0), (99, 3, 15, .ldc2_w 71, [4604180019048437077], 0), (112, 3, 15, .ldc2_w 59, [4611686018427387904], 0), (125, 3, 15, .ldc2_w 59, [4611686018427387904], 0), (130, 3, 15, .ldc2_w 59, [4611686018427387904], 0)]
theorem fb_645_0 : FB mi iT mi_645 (bpc code_645) (fl_645_0) := ⟨fun hd => mk19 mt_646 cf_646 (vf_646_38.rt (Or.inl W4586) (hd rfl)) rfl rfl (noH_nil rfl),
  ⟨fun hd => mk19 mt_648 cf_648 (vf_648_38.rt (Or.inl W4599) (hd rfl)) rfl rfl (noH_nil rfl),
  ⟨fun hd => mk6 fld_38_1 (Or.inl ⟨rfl, by decide⟩) (Or.inl W4451) (Or.inl rfl) (hd rfl),
  ⟨fun hd => mk15 W4605 (hd rfl),
  ⟨fun hd => ⟨_, _, rfl, Or.inl ⟨98, 0, 5, #[37, 44, 57, 65, 72, 85], 6, 37, (show decode prog_76_method_8_code 27 = .ok (.tableswitch 98 0 5 #[37, 44, 57, 65, 72, 85], 37) by decide +kernel), by decide, by decide +kernel⟩⟩,
  ⟨fun hd => mk19 mt_649 cf_649 (vf_649_38.rt (Or.inl W4606) (hd rfl)) rfl rfl (noH_nil rfl),
  ⟨fun hd => mk19 mt_649 cf_649 (vf_649_38.rt (Or.inl W4606) (hd rfl)) rfl rfl (noH_nil rfl),
  ⟨fun hd => mk19 mt_648 cf_648 (vf_648_38.rt (Or.inl W4599) (hd rfl)) rfl rfl (noH_nil rfl),
  ⟨fun hd => mk19 mt_650 cf_650 (pf_650_38.rt W4611 (hd rfl)) rfl rfl (noH_nil rfl),
  ⟨fun hd => mk15 W4605 (hd rfl),
  ⟨fun hd => mk15 W4616 (hd rfl),
  ⟨fun hd => mk15 W4605 (hd rfl),
  ⟨fun hd => mk15 W4605 (hd rfl),
  ⟨fun hd => mk15 W4605 (hd rfl),
  trivial⟩⟩⟩⟩⟩⟩⟩⟩⟩⟩⟩⟩⟩⟩
theorem fe_645 : eqEs ((flat code_645).filter (fun e => ndE e.2.2.1)) (fl_645_0) = true := by decide +kernel
theorem om_645 : OKm mi iT prg 645 := OKm_of (code := code_645) rfl mt_645 (Or.inl (by decide +kernel)) rfl wk_645 (by decide +kernel) (by decide +kernel) (FA_of fe_645 (fb_645_0))
def fl_646_0 : List Ent := [(1, 3, 19, .invokevirtual 43, [2, 1, 1, 38, 647], 0), (12, 3, 18, .invokestatic 47, [0, 2, 2, 67], 0), (28, 3, 6, .getfield 11, [3, 38, 215], 0), (38, 3, 6, .getfield 11, [3, 38, 215], 0), (49, 3, 6, .getfield 11, [3, 38, 215], 0), (63, 3, 15, .ldc2_w 51, [4620693217682128896], 0)]
theorem fb_646_0 : FB mi iT mi_646 (bpc code_646) (fl_646_0) := ⟨fun hd => mk19 mt_647 cf_647 (vf_647_38.rt (Or.inl W4591) (hd rfl)) rfl rfl (noH_nil rfl),
  ⟨fun hd => mk18 mt_67 sf_67 (Or.inl W4597) rfl rfl (noH_nil rfl) (hd rfl),
  ⟨fun hd => mk6 fld_38_3 (Or.inl ⟨rfl, by decide⟩) (Or.inl W4459) (Or.inl rfl) (hd rfl),
  ⟨fun hd => mk6 fld_38_3 (Or.inl ⟨rfl, by decide⟩) (Or.inl W4459) (Or.inl rfl) (hd rfl),
  ⟨fun hd => mk6 fld_38_3 (Or.inl ⟨rfl, by decide⟩) (Or.inl W4459) (Or.inl rfl) (hd rfl),
  ⟨fun hd => mk15 W4598 (hd rfl),
  trivial⟩⟩⟩⟩⟩⟩
theorem fe_646 : eqEs ((flat code_646).filter (fun e => ndE e.2.2.1)) (fl_646_0) = true := by decide +kernel
theorem om_646 : OKm mi iT prg 646 := OKm_of (code := code_646) rfl mt_646 (Or.inl (by decide +kernel)) rfl wk_646 (by decide +kernel) (by decide +kernel) (FA_of fe_646 (fb_646_0))
def fl_647_0 : List Ent := [(1, 3, 6, .getfield 24, [0, 38, 214], 0), (5, 3, 15, .ldc2_w 41, [4616189618054758400], 0)]
theorem fb_647_0 : FB mi iT mi_647 (bpc code_647) (fl_647_0) := ⟨fun hd => mk6 fld_38_2 (Or.inl ⟨rfl, by decide⟩) (Or.inl W4455) (Or.inl rfl) (hd rfl),
  ⟨fun hd => mk15 W4596 (hd rfl),
  trivial⟩⟩
theorem fe_647 : eqEs ((flat code_647).filter (fun e => ndE e.2.2.1)) (fl_647_0) = true := by decide +kernel
theorem om_647 : OKm mi iT prg 647 := OKm_of (code := code_647) rfl mt_647 (Or.inl (by decide +kernel)) rfl wk_647 (by decide +kernel) (by decide +kernel) (FA_of fe_647 (fb_647_0))
def fl_648_0 : List Ent := [(2, 3, 6, .getfield 21, [0, 38, 213], 0), (7, 3, 15, .ldc2_w 39, [4618441417868443648], 0)]
theorem fb_648_0 : FB mi iT mi_648 (bpc code_648) (fl_648_0) := ⟨fun hd => mk6 fld_38_1 (Or.inl ⟨rfl, by decide⟩) (Or.inl W4451) (Or.inl rfl) (hd rfl),
  ⟨fun hd => mk15 W4604 (hd rfl),
  trivial⟩⟩
theorem fe_648 : eqEs ((flat code_648).filter (fun e => ndE e.2.2.1)) (fl_648_0) = true := by decide +kernel
theorem om_648 : OKm mi iT prg 648 := OKm_of (code := code_648) rfl mt_648 (Or.inl (by decide +kernel)) rfl wk_648 (by decide +kernel) (by decide +kernel) (FA_of fe_648 (fb_648_0))
