/-! the facts of the methods' entries (written by emit_fa.py) -/
set_option maxRecDepth 100000
theorem fe_400 : eqEs ((flat code_400).filter (fun e => ndE e.2.2.1)) ([]) = true := by decide +kernel
theorem om_400 : OKm mi iT prg 400 := OKm_of (code := code_400) rfl mt_400 (Or.inl (by decide +kernel)) rfl wk_400 (by decide +kernel) (by decide +kernel) (FA_of fe_400 (trivial))
def fl_401_0 : List Ent := [(1, 3, 6, .getfield 42, [3, 37, 205], 0), (5, 2, 12, .newarray .int, [100], 0), (10, 1, 9, .iastore, [0, 100], 0), (14, 1, 9, .iastore, [0, 100], 0), (18, 1, 9, .iastore, [0, 100], 0), (19, 3, 19, .invokevirtual 110, [0, 2, 2, 5, 8], 0), (24, 3, 6, .getfield 42, [3, 37, 205], 0), (27, 3, 19, .invokevirtual 67, [0, 1, 1, 5, 5], 0), (36, 3, 6, .getfield 42, [3, 37, 205], 0), (40, 3, 19, .invokevirtual 162, [3, 2, 2, 5, 12], 0)]
theorem fb_401_0 : FB mi iT mi_401 (bpc code_401) (fl_401_0) := ⟨fun hd => mk6 fld_37_11 (Or.inl ⟨rfl, by decide⟩) (Or.inl W4300) (Or.inl rfl) (hd rfl),
  ⟨fun hd => mk12a (at_ := .int) (by decide) rfl W239 (hd rfl),
  ⟨fun hd => ⟨_, _, _, rfl, rfl, hd rfl, Or.inl ⟨rfl, rfl, rfl⟩⟩,
  ⟨fun hd => ⟨_, _, _, rfl, rfl, hd rfl, Or.inl ⟨rfl, rfl, rfl⟩⟩,
  ⟨fun hd => ⟨_, _, _, rfl, rfl, hd rfl, Or.inl ⟨rfl, rfl, rfl⟩⟩,
  ⟨fun hd => mk19 mt_8 cf_8 (vf_8_5.rt (Or.inl W4537) (hd rfl)) rfl rfl (noH_nil rfl),
  ⟨fun hd => mk6 fld_37_11 (Or.inl ⟨rfl, by decide⟩) (Or.inl W4300) (Or.inl rfl) (hd rfl),
  ⟨fun hd => mk19 mt_5 cf_5 (vf_5_5.rt (Or.inl W4364) (hd rfl)) rfl rfl (noH_nil rfl),
  ⟨fun hd => mk6 fld_37_11 (Or.inl ⟨rfl, by decide⟩) (Or.inl W4300) (Or.inl rfl) (hd rfl),
  ⟨fun hd => mk19 mt_12 cf_12 (vf_12_5.rt (Or.inl W4654) (hd rfl)) rfl rfl (noH_nil rfl),
  trivial⟩⟩⟩⟩⟩⟩⟩⟩⟩⟩
theorem fe_401 : eqEs ((flat code_401).filter (fun e => ndE e.2.2.1)) (fl_401_0) = true := by decide +kernel
theorem om_401 : OKm mi iT prg 401 := OKm_of (code := code_401) rfl mt_401 (Or.inl (by decide +kernel)) rfl wk_401 (by decide +kernel) (by decide +kernel) (FA_of fe_401 (fb_401_0))
def fl_402_0 : List Ent := [(3, 3, 19, .invokevirtual 75, [0, 2, 2, 37, 366], 0), (11, 3, 19, .invokevirtual 207, [0, 2, 2, 37, 391], 0), (23, 3, 19, .invokevirtual 104, [0, 3, 3, 37, 363], 0), (32, 3, 6, .getfield 25, [3, 37, 195], 0), (36, 3, 19, .invokevirtual 114, [3, 2, 2, 5, 6], 0), (39, 3, 17, .checkcast 96, [38], 0), (57, 3, 6, .getfield 118, [0, 38, 217], 0), (65, 3, 6, .getfield 249, [3, 38, 223], 0), (79, 3, 19, .invokevirtual 255, [0, 4, 4, 37, 394], 0), (92, 3, 19, .invokevirtual 259, [0, 4, 4, 37, 395], 0), (105, 3, 18, .invokestatic 262, [0, 1, 1, 381], 0)]
theorem fb_402_0 : FB mi iT mi_402 (bpc code_402) (fl_402_0) := ⟨fun hd => mk19 mt_366 cf_366 (vf_366_37.rt (Or.inl W4542) (hd rfl)) rfl rfl (noH_nil rfl),
  ⟨fun hd => mk19 mt_391 cf_391 (vf_391_37.rt (Or.inl W4895) (hd rfl)) rfl rfl (noH_nil rfl),
  ⟨fun hd => mk19 mt_363 cf_363 (vf_363_37.rt (Or.inl W4356) (hd rfl)) rfl rfl (noH_nil rfl),
  ⟨fun hd => mk6 fld_37_1 (Or.inl ⟨rfl, by decide⟩) (Or.inl W4283) (Or.inl rfl) (hd rfl),
  ⟨fun hd => mk19 mt_6 cf_6 (vf_6_5.rt (Or.inl W4546) (hd rfl)) rfl rfl (noH_nil rfl),
  ⟨fun hd => mk17 kx_38 W4365 (hd rfl),
  ⟨fun hd => mk6 fld_38_5 (Or.inl ⟨rfl, by decide⟩) (Or.inl W4387) (Or.inl rfl) (hd rfl),
  ⟨fun hd => mk6 fld_38_11 (Or.inl ⟨rfl, by decide⟩) (Or.inl W4401) (Or.inl rfl) (hd rfl),
  ⟨fun hd => mk19 mt_394 cf_394 (vf_394_37.rt (Or.inl W4908) (hd rfl)) rfl rfl (noH_nil rfl),
  ⟨fun hd => mk19 mt_395 cf_395 (vf_395_37.rt (Or.inl W4912) (hd rfl)) rfl rfl (noH_nil rfl),
  ⟨fun hd => mk18 mt_381 sf_381 (Or.inl W4952) rfl rfl (noH_nil rfl) (hd rfl),
  trivial⟩⟩⟩⟩⟩⟩⟩⟩⟩⟩⟩
theorem fe_402 : eqEs ((flat code_402).filter (fun e => ndE e.2.2.1)) (fl_402_0) = true := by decide +kernel
theorem om_402 : OKm mi iT prg 402 := OKm_of (code := code_402) rfl mt_402 (Or.inl (by decide +kernel)) rfl wk_402 (by decide +kernel) (by decide +kernel) (FA_of fe_402 (fb_402_0))
def fl_403_0 : List Ent := [(3, 3, 19, .invokevirtual 75, [0, 2, 2, 37, 366], 0), (7, 3, 19, .invokevirtual 104, [0, 3, 3, 37, 363], 0), (26, 3, 6, .getfield 25, [3, 37, 195], 0), (30, 3, 19, .invokevirtual 114, [3, 2, 2, 5, 6], 0), (33, 3, 17, .checkcast 96, [38], 0), (36, 3, 6, .getfield 249, [3, 38, 223], 0), (49, 3, 6, .getfield 25, [3, 37, 195], 0), (53, 3, 19, .invokevirtual 114, [3, 2, 2, 5, 6], 0), (56, 3, 17, .checkcast 96, [38], 0), (59, 3, 6, .getfield 249, [3, 38, 223], 0), (64, 1, 9, .iastore, [0, 100], 0)]
theorem fb_403_0 : FB mi iT mi_403 (bpc code_403) (fl_403_0) := ⟨fun hd => mk19 mt_366 cf_366 (vf_366_37.rt (Or.inl W4542) (hd rfl)) rfl rfl (noH_nil rfl),
  ⟨fun hd => mk19 mt_363 cf_363 (vf_363_37.rt (Or.inl W4356) (hd rfl)) rfl rfl (noH_nil rfl),
  ⟨fun hd => mk6 fld_37_1 (Or.inl ⟨rfl, by decide⟩) (Or.inl W4283) (Or.inl rfl) (hd rfl),
  ⟨fun hd => mk19 mt_6 cf_6 (vf_6_5.rt (Or.inl W4546) (hd rfl)) rfl rfl (noH_nil rfl),
  ⟨fun hd => mk17 kx_38 W4365 (hd rfl),
  ⟨fun hd => mk6 fld_38_11 (Or.inl ⟨rfl, by decide⟩) (Or.inl W4401) (Or.inl rfl) (hd rfl),
  ⟨fun hd => mk6 fld_37_1 (Or.inl ⟨rfl, by decide⟩) (Or.inl W4283) (Or.inl rfl) (hd rfl),
  ⟨fun hd => mk19 mt_6 cf_6 (vf_6_5.rt (Or.inl W4546) (hd rfl)) rfl rfl (noH_nil rfl),
  ⟨fun hd => mk17 kx_38 W4365 (hd rfl),
  ⟨fun hd => mk6 fld_38_11 (Or.inl ⟨rfl, by decide⟩) (Or.inl W4401) (Or.inl rfl) (hd rfl),
  ⟨fun hd => ⟨_, _, _, rfl, rfl, hd rfl, Or.inl ⟨rfl, rfl, rfl⟩⟩,
  trivial⟩⟩⟩⟩⟩⟩⟩⟩⟩⟩⟩
theorem fe_403 : eqEs ((flat code_403).filter (fun e => ndE e.2.2.1)) (fl_403_0) = true := by decide +kernel
theorem om_403 : OKm mi iT prg 403 := OKm_of (code := code_403) rfl mt_403 (Or.inl (by decide +kernel)) rfl wk_403 (by decide +kernel) (by decide +kernel) (FA_of fe_403 (fb_403_0))
def fl_404_0 : List Ent := [(3, 3, 19, .invokevirtual 207, [0, 2, 2, 37, 391], 0), (7, 3, 19, .invokevirtual 104, [0, 3, 3, 37, 363], 0), (18, 3, 18, .invokestatic 71, [0, 3, 3, 362], 0), (30, 3, 19, .invokevirtual 63, [0, 3, 3, 37, 364], 0), (43, 3, 19, .invokevirtual 265, [0, 3, 3, 37, 405], 0)]
theorem fb_404_0 : FB mi iT mi_404 (bpc code_404) (fl_404_0) := ⟨fun hd => mk19 mt_391 cf_391 (vf_391_37.rt (Or.inl W4895) (hd rfl)) rfl rfl (noH_nil rfl),
  ⟨fun hd => mk19 mt_363 cf_363 (vf_363_37.rt (Or.inl W4356) (hd rfl)) rfl rfl (noH_nil rfl),
  ⟨fun hd => mk18 mt_362 sf_362 (Or.inl W4353) rfl rfl (noH_nil rfl) (hd rfl),
  ⟨fun hd => mk19 mt_364 cf_364 (vf_364_37.rt (Or.inl W4360) (hd rfl)) rfl rfl (noH_nil rfl),
  ⟨fun hd => mk19 mt_405 cf_405 (vf_405_37.rt (Or.inl W4961) (hd rfl)) rfl rfl (noH_nil rfl),
  trivial⟩⟩⟩⟩⟩
theorem fe_404 : eqEs ((flat code_404).filter (fun e => ndE e.2.2.1)) (fl_404_0) = true := by decide +kernel
theorem om_404 : OKm mi iT prg 404 := OKm_of (code := code_404) rfl mt_404 (Or.inl (by decide +kernel)) rfl wk_404 (by decide +kernel) (by decide +kernel) (FA_of fe_404 (fb_404_0))
def fl_405_0 : List Ent := [(9, 3, 6, .getfield 39, [3, 37, 204], 0), (12, 3, 19, .invokevirtual 82, [3, 1, 1, 5, 4], 0), (19, 5, 34, .invokeinterface 86 1, [0, 1, 1, 11, 87], 0), (29, 5, 34, .invokeinterface 92 1, [3, 1, 1, 11, 88], 0), (34, 3, 17, .checkcast 210, [100], 0), (62, 3, 6, .getfield 42, [3, 37, 205], 0), (65, 3, 19, .invokevirtual 82, [3, 1, 1, 5, 4], 0), (72, 5, 34, .invokeinterface 86 1, [0, 1, 1, 11, 87], 0), (82, 5, 34, .invokeinterface 92 1, [3, 1, 1, 11, 88], 0), (87, 3, 17, .checkcast 210, [100], 0), (107, 3, 18, .invokestatic 262, [0, 1, 1, 381], 0), (149, 3, 6, .getfield 36, [3, 37, 203], 0), (153, 3, 19, .invokevirtual 114, [3, 2, 2, 5, 6], 0), (156, 3, 17, .checkcast 210, [100], 0)]
theorem fb_405_0 : FB mi iT mi_405 (bpc code_405) (fl_405_0) := ⟨fun hd => mk6 fld_37_10 (Or.inl ⟨rfl, by decide⟩) (Or.inl W4299) (Or.inl rfl) (hd rfl),
  ⟨fun hd => mk19 mt_4 cf_4 (vf_4_5.rt (Or.inl W4965) (hd rfl)) rfl rfl (noH_nil rfl),
  ⟨fun hd => mk34 mt_87 cf_87 (ff_87_11.rt W4967 (hd rfl)) rfl rfl,
  ⟨fun hd => mk34 mt_88 cf_88 (ff_88_11.rt W4969 (hd rfl)) rfl rfl,
  ⟨fun hd => mk17 kx_100 W4899 (hd rfl),
  ⟨fun hd => mk6 fld_37_11 (Or.inl ⟨rfl, by decide⟩) (Or.inl W4300) (Or.inl rfl) (hd rfl),
  ⟨fun hd => mk19 mt_4 cf_4 (vf_4_5.rt (Or.inl W4965) (hd rfl)) rfl rfl (noH_nil rfl),
  ⟨fun hd => mk34 mt_87 cf_87 (ff_87_11.rt W4967 (hd rfl)) rfl rfl,
  ⟨fun hd => mk34 mt_88 cf_88 (ff_88_11.rt W4969 (hd rfl)) rfl rfl,
  ⟨fun hd => mk17 kx_100 W4899 (hd rfl),
  ⟨fun hd => mk18 mt_381 sf_381 (Or.inl W4952) rfl rfl (noH_nil rfl) (hd rfl),
  ⟨fun hd => mk6 fld_37_9 (Or.inl ⟨rfl, by decide⟩) (Or.inl W4298) (Or.inl rfl) (hd rfl),
  ⟨fun hd => mk19 mt_6 cf_6 (vf_6_5.rt (Or.inl W4546) (hd rfl)) rfl rfl (noH_nil rfl),
  ⟨fun hd => mk17 kx_100 W4899 (hd rfl),
  trivial⟩⟩⟩⟩⟩⟩⟩⟩⟩⟩⟩⟩⟩⟩
theorem fe_405 : eqEs ((flat code_405).filter (fun e => ndE e.2.2.1)) (fl_405_0) = true := by decide +kernel
theorem om_405 : OKm mi iT prg 405 := OKm_of (code := code_405) rfl mt_405 (Or.inl (by decide +kernel)) rfl wk_405 (by decide +kernel) (by decide +kernel) (FA_of fe_405 (fb_405_0))
def fl_406_0 : List Ent := [(3, 3, 19, .invokevirtual 75, [0, 2, 2, 37, 366], 0), (11, 3, 19, .invokevirtual 207, [0, 2, 2, 37, 391], 0), (23, 3, 19, .invokevirtual 104, [0, 3, 3, 37, 363], 0), (32, 3, 6, .getfield 25, [3, 37, 195], 0), (36, 3, 19, .invokevirtual 114, [3, 2, 2, 5, 6], 0), (39, 3, 17, .checkcast 96, [38], 0), (57, 3, 6, .getfield 249, [3, 38, 223], 0), (71, 3, 19, .invokevirtual 255, [0, 4, 4, 37, 394], 0), (81, 3, 6, .getfield 36, [3, 37, 203], 0), (85, 3, 19, .invokevirtual 114, [3, 2, 2, 5, 6], 0), (88, 3, 17, .checkcast 210, [100], 0), (92, 3, 19, .invokevirtual 232, [0, 1, 1, 38, 686], 0), (98, 3, 19, .invokevirtual 235, [0, 2, 2, 38, 687], 0), (101, 3, 19, .invokevirtual 242, [0, 4, 4, 37, 398], 0)]
theorem fb_406_0 : FB mi iT mi_406 (bpc code_406) (fl_406_0) := ⟨fun hd => mk19 mt_366 cf_366 (vf_366_37.rt (Or.inl W4542) (hd rfl)) rfl rfl (noH_nil rfl),
  ⟨fun hd => mk19 mt_391 cf_391 (vf_391_37.rt (Or.inl W4895) (hd rfl)) rfl rfl (noH_nil rfl),
  ⟨fun hd => mk19 mt_363 cf_363 (vf_363_37.rt (Or.inl W4356) (hd rfl)) rfl rfl (noH_nil rfl),
  ⟨fun hd => mk6 fld_37_1 (Or.inl ⟨rfl, by decide⟩) (Or.inl W4283) (Or.inl rfl) (hd rfl),
  ⟨fun hd => mk19 mt_6 cf_6 (vf_6_5.rt (Or.inl W4546) (hd rfl)) rfl rfl (noH_nil rfl),
  ⟨fun hd => mk17 kx_38 W4365 (hd rfl),
  ⟨fun hd => mk6 fld_38_11 (Or.inl ⟨rfl, by decide⟩) (Or.inl W4401) (Or.inl rfl) (hd rfl),
  ⟨fun hd => mk19 mt_394 cf_394 (vf_394_37.rt (Or.inl W4908) (hd rfl)) rfl rfl (noH_nil rfl),
  ⟨fun hd => mk6 fld_37_9 (Or.inl ⟨rfl, by decide⟩) (Or.inl W4298) (Or.inl rfl) (hd rfl),
  ⟨fun hd => mk19 mt_6 cf_6 (vf_6_5.rt (Or.inl W4546) (hd rfl)) rfl rfl (noH_nil rfl),
  ⟨fun hd => mk17 kx_100 W4899 (hd rfl),
  ⟨fun hd => mk19 mt_686 cf_686 (vf_686_38.rt (Or.inl W4916) (hd rfl)) rfl rfl (noH_nil rfl),
  ⟨fun hd => mk19 mt_687 cf_687 (vf_687_38.rt (Or.inl W4920) (hd rfl)) rfl rfl (noH_nil rfl),
  ⟨fun hd => mk19 mt_398 cf_398 (vf_398_37.rt (Or.inl W4933) (hd rfl)) rfl rfl (noH_nil rfl),
  trivial⟩⟩⟩⟩⟩⟩⟩⟩⟩⟩⟩⟩⟩⟩
theorem fe_406 : eqEs ((flat code_406).filter (fun e => ndE e.2.2.1)) (fl_406_0) = true := by decide +kernel
theorem om_406 : OKm mi iT prg 406 := OKm_of (code := code_406) rfl mt_406 (Or.inl (by decide +kernel)) rfl wk_406 (by decide +kernel) (by decide +kernel) (FA_of fe_406 (fb_406_0))
def fl_407_0 : List Ent := [(3, 3, 19, .invokevirtual 75, [0, 2, 2, 37, 366], 0), (12, 3, 18, .invokestatic 71, [0, 3, 3, 362], 0), (24, 3, 19, .invokevirtual 104, [0, 3, 3, 37, 363], 0), (32, 3, 6, .getfield 25, [3, 37, 195], 0), (36, 3, 19, .invokevirtual 114, [3, 2, 2, 5, 6], 0), (39, 3, 17, .checkcast 96, [38], 0), (42, 3, 6, .getfield 118, [0, 38, 217], 0), (49, 3, 6, .getfield 25, [3, 37, 195], 0), (53, 3, 19, .invokevirtual 114, [3, 2, 2, 5, 6], 0), (56, 3, 17, .checkcast 96, [38], 0), (60, 3, 19, .invokevirtual 268, [0, 2, 2, 38, 688], 0), (72, 3, 19, .invokevirtual 63, [0, 3, 3, 37, 364], 0), (81, 3, 6, .getfield 25, [3, 37, 195], 0), (85, 3, 19, .invokevirtual 114, [3, 2, 2, 5, 6], 0), (88, 3, 17, .checkcast 96, [38], 0), (92, 3, 7, .putfield 98, [0, 38, 226], 0), (96, 3, 6, .getfield 25, [3, 37, 195], 0), (100, 3, 19, .invokevirtual 114, [3, 2, 2, 5, 6], 0), (103, 3, 17, .checkcast 96, [38], 0), (106, 3, 19, .invokevirtual 271, [9, 1, 1, 38, 689], 0), (111, 3, 19, .invokevirtual 274, [0, 2, 2, 37, 408], 0), (123, 3, 18, .invokestatic 262, [0, 1, 1, 381], 0), (128, 3, 19, .invokevirtual 274, [0, 2, 2, 37, 408], 0), (140, 3, 18, .invokestatic 262, [0, 1, 1, 381], 0)]
theorem fb_407_0 : FB mi iT mi_407 (bpc code_407) (fl_407_0) := ⟨fun hd => mk19 mt_366 cf_366 (vf_366_37.rt (Or.inl W4542) (hd rfl)) rfl rfl (noH_nil rfl),
  ⟨fun hd => mk18 mt_362 sf_362 (Or.inl W4353) rfl rfl (noH_nil rfl) (hd rfl),
  ⟨fun hd => mk19 mt_363 cf_363 (vf_363_37.rt (Or.inl W4356) (hd rfl)) rfl rfl (noH_nil rfl),
  ⟨fun hd => mk6 fld_37_1 (Or.inl ⟨rfl, by decide⟩) (Or.inl W4283) (Or.inl rfl) (hd rfl),
  ⟨fun hd => mk19 mt_6 cf_6 (vf_6_5.rt (Or.inl W4546) (hd rfl)) rfl rfl (noH_nil rfl),
  ⟨fun hd => mk17 kx_38 W4365 (hd rfl),
  ⟨fun hd => mk6 fld_38_5 (Or.inl ⟨rfl, by decide⟩) (Or.inl W4387) (Or.inl rfl) (hd rfl),
  ⟨fun hd => mk6 fld_37_1 (Or.inl ⟨rfl, by decide⟩) (Or.inl W4283) (Or.inl rfl) (hd rfl),
  ⟨fun hd => mk19 mt_6 cf_6 (vf_6_5.rt (Or.inl W4546) (hd rfl)) rfl rfl (noH_nil rfl),
  ⟨fun hd => mk17 kx_38 W4365 (hd rfl),
  ⟨fun hd => mk19 mt_688 cf_688 (vf_688_38.rt (Or.inl W4978) (hd rfl)) rfl rfl (noH_nil rfl),
  ⟨fun hd => mk19 mt_364 cf_364 (vf_364_37.rt (Or.inl W4360) (hd rfl)) rfl rfl (noH_nil rfl),
  ⟨fun hd => mk6 fld_37_1 (Or.inl ⟨rfl, by decide⟩) (Or.inl W4283) (Or.inl rfl) (hd rfl),
  ⟨fun hd => mk19 mt_6 cf_6 (vf_6_5.rt (Or.inl W4546) (hd rfl)) rfl rfl (noH_nil rfl),
  ⟨fun hd => mk17 kx_38 W4365 (hd rfl),
  ⟨fun hd => mk7 fld_38_14 (Or.inl W4408) (Or.inl rfl) (Or.inl rfl) (hd rfl),
  ⟨fun hd => mk6 fld_37_1 (Or.inl ⟨rfl, by decide⟩) (Or.inl W4283) (Or.inl rfl) (hd rfl),
  ⟨fun hd => mk19 mt_6 cf_6 (vf_6_5.rt (Or.inl W4546) (hd rfl)) rfl rfl (noH_nil rfl),
  ⟨fun hd => mk17 kx_38 W4365 (hd rfl),
  ⟨fun hd => mk19 mt_689 cf_689 (vf_689_38.rt (Or.inl W4988) (hd rfl)) rfl rfl (noH_nil rfl),
  ⟨fun hd => mk19 mt_408 cf_408 (vf_408_37.rt (Or.inl W5003) (hd rfl)) rfl rfl (noH_nil rfl),
  ⟨fun hd => mk18 mt_381 sf_381 (Or.inl W4952) rfl rfl (noH_nil rfl) (hd rfl),
  ⟨fun hd => mk19 mt_408 cf_408 (vf_408_37.rt (Or.inl W5003) (hd rfl)) rfl rfl (noH_nil rfl),
  ⟨fun hd => mk18 mt_381 sf_381 (Or.inl W4952) rfl rfl (noH_nil rfl) (hd rfl),
  trivial⟩⟩⟩⟩⟩⟩⟩⟩⟩⟩⟩⟩⟩⟩⟩⟩⟩⟩⟩⟩⟩⟩⟩⟩
theorem fe_407 : eqEs ((flat code_407).filter (fun e => ndE e.2.2.1)) (fl_407_0) = true := by decide +kernel
theorem om_407 : OKm mi iT prg 407 := OKm_of (code := code_407) rfl mt_407 (Or.inl (by decide +kernel)) rfl wk_407 (by decide +kernel) (by decide +kernel) (FA_of fe_407 (fb_407_0))
def fl_408_0 : List Ent := [(1, 3, 6, .getfield 25, [3, 37, 195], 0), (4, 3, 19, .invokevirtual 82, [3, 1, 1, 5, 4], 0), (9, 5, 34, .invokeinterface 86 1, [0, 1, 1, 11, 87], 0), (18, 5, 34, .invokeinterface 92 1, [3, 1, 1, 11, 88], 0), (23, 3, 17, .checkcast 96, [38], 0), (28, 3, 6, .getfield 98, [0, 38, 226], 0), (36, 3, 6, .getfield 101, [0, 38, 216], 0)]
theorem fb_408_0 : FB mi iT mi_408 (bpc code_408) (fl_408_0) := ⟨fun hd => mk6 fld_37_1 (Or.inl ⟨rfl, by decide⟩) (Or.inl W4283) (Or.inl rfl) (hd rfl),
  ⟨fun hd => mk19 mt_4 cf_4 (vf_4_5.rt (Or.inl W4965) (hd rfl)) rfl rfl (noH_nil rfl),
  ⟨fun hd => mk34 mt_87 cf_87 (ff_87_11.rt W4967 (hd rfl)) rfl rfl,
  ⟨fun hd => mk34 mt_88 cf_88 (ff_88_11.rt W4969 (hd rfl)) rfl rfl,
  ⟨fun hd => mk17 kx_38 W4365 (hd rfl),
  ⟨fun hd => mk6 fld_38_14 (Or.inl ⟨rfl, by decide⟩) (Or.inl W4408) (Or.inl rfl) (hd rfl),
  ⟨fun hd => mk6 fld_38_4 (Or.inl ⟨rfl, by decide⟩) (Or.inl W4384) (Or.inl rfl) (hd rfl),
  trivial⟩⟩⟩⟩⟩⟩⟩
theorem fe_408 : eqEs ((flat code_408).filter (fun e => ndE e.2.2.1)) (fl_408_0) = true := by decide +kernel
theorem om_408 : OKm mi iT prg 408 := OKm_of (code := code_408) rfl mt_408 (Or.inl (by decide +kernel)) rfl wk_408 (by decide +kernel) (by decide +kernel) (FA_of fe_408 (fb_408_0))
def fl_409_0 : List Ent := [(3, 3, 19, .invokevirtual 75, [0, 2, 2, 37, 366], 0), (7, 3, 19, .invokevirtual 104, [0, 3, 3, 37, 363], 0), (16, 3, 6, .getfield 25, [3, 37, 195], 0), (20, 3, 19, .invokevirtual 114, [3, 2, 2, 5, 6], 0), (23, 3, 17, .checkcast 96, [38], 0), (29, 3, 6, .getfield 118, [0, 38, 217], 0), (37, 3, 19, .invokevirtual 277, [0, 1, 1, 38, 692], 0), (40, 3, 14, .ldc_w 280, [], 1048575), (44, 3, 14, .ldc_w 280, [], 1048575), (56, 3, 19, .invokevirtual 63, [0, 3, 3, 37, 364], 0), (65, 3, 19, .invokevirtual 281, [0, 1, 1, 37, 410], 0), (72, 3, 13, .getstatic 284, [36], 0), (76, 3, 6, .getfield 98, [0, 38, 226], 0), (80, 3, 19, .invokevirtual 287, [0, 2, 2, 38, 693], 0), (98, 3, 19, .invokevirtual 268, [0, 2, 2, 38, 688], 0), (105, 3, 13, .getstatic 284, [36], 0), (110, 3, 19, .invokevirtual 287, [0, 2, 2, 38, 693], 0), (120, 3, 19, .invokevirtual 290, [0, 1, 1, 38, 673], 0), (129, 3, 19, .invokevirtual 293, [9, 1, 1, 38, 695], 0), (137, 3, 7, .putfield 98, [0, 38, 226], 0), (142, 3, 7, .putfield 118, [0, 38, 217], 0), (146, 3, 6, .getfield 45, [3, 37, 206], 0), (149, 3, 19, .invokevirtual 82, [3, 1, 1, 5, 4], 0), (156, 5, 34, .invokeinterface 86 1, [0, 1, 1, 11, 87], 0), (166, 5, 34, .invokeinterface 92 1, [3, 1, 1, 11, 88], 0), (171, 3, 17, .checkcast 210, [100], 0), (205, 3, 19, .invokevirtual 296, [9, 3, 3, 37, 412], 0)]
theorem fb_409_0 : FB mi iT mi_409 (bpc code_409) (fl_409_0) := ⟨fun hd => mk19 mt_366 cf_366 (vf_366_37.rt (Or.inl W4542) (hd rfl)) rfl rfl (noH_nil rfl),
  ⟨fun hd => mk19 mt_363 cf_363 (vf_363_37.rt (Or.inl W4356) (hd rfl)) rfl rfl (noH_nil rfl),
  ⟨fun hd => mk6 fld_37_1 (Or.inl ⟨rfl, by decide⟩) (Or.inl W4283) (Or.inl rfl) (hd rfl),
  ⟨fun hd => mk19 mt_6 cf_6 (vf_6_5.rt (Or.inl W4546) (hd rfl)) rfl rfl (noH_nil rfl),
  ⟨fun hd => mk17 kx_38 W4365 (hd rfl),
  ⟨fun hd => mk6 fld_38_5 (Or.inl ⟨rfl, by decide⟩) (Or.inl W4387) (Or.inl rfl) (hd rfl),
  ⟨fun hd => mk19 mt_692 cf_692 (vf_692_38.rt (Or.inl W5008) (hd rfl)) rfl rfl (noH_nil rfl),
  ⟨fun hd => mk14c W5012 (Or.inr ⟨hd rfl, rfl⟩),
  ⟨fun hd => mk14c W5012 (Or.inr ⟨hd rfl, rfl⟩),
  ⟨fun hd => mk19 mt_364 cf_364 (vf_364_37.rt (Or.inl W4360) (hd rfl)) rfl rfl (noH_nil rfl),
  ⟨fun hd => mk19 mt_410 cf_410 (vf_410_37.rt (Or.inl W5013) (hd rfl)) rfl rfl (noH_nil rfl),
  ⟨fun hd => mk13s (by decide) rfl (Or.inl W5017) (Or.inl rfl) (hd rfl),
  ⟨fun hd => mk6 fld_38_14 (Or.inl ⟨rfl, by decide⟩) (Or.inl W4408) (Or.inl rfl) (hd rfl),
  ⟨fun hd => mk19 mt_693 cf_693 (vf_693_38.rt (Or.inl W5019) (hd rfl)) rfl rfl (noH_nil rfl),
  ⟨fun hd => mk19 mt_688 cf_688 (vf_688_38.rt (Or.inl W4978) (hd rfl)) rfl rfl (noH_nil rfl),
  ⟨fun hd => mk13s (by decide) rfl (Or.inl W5017) (Or.inl rfl) (hd rfl),
  ⟨fun hd => mk19 mt_693 cf_693 (vf_693_38.rt (Or.inl W5019) (hd rfl)) rfl rfl (noH_nil rfl),
  ⟨fun hd => mk19 mt_673 cf_673 (vf_673_38.rt (Or.inl W5035) (hd rfl)) rfl rfl (noH_nil rfl),
  ⟨fun hd => mk19 mt_695 cf_695 (vf_695_38.rt (Or.inl W5036) (hd rfl)) rfl rfl (noH_nil rfl),
  ⟨fun hd => mk7 fld_38_14 (Or.inl W4408) (Or.inl rfl) (Or.inl rfl) (hd rfl),
  ⟨fun hd => mk7 fld_38_5 (Or.inl W4387) (Or.inl rfl) (Or.inl rfl) (hd rfl),
  ⟨fun hd => mk6 fld_37_12 (Or.inl ⟨rfl, by decide⟩) (Or.inl W4301) (Or.inl rfl) (hd rfl),
  ⟨fun hd => mk19 mt_4 cf_4 (vf_4_5.rt (Or.inl W4965) (hd rfl)) rfl rfl (noH_nil rfl),
  ⟨fun hd => mk34 mt_87 cf_87 (ff_87_11.rt W4967 (hd rfl)) rfl rfl,
  ⟨fun hd => mk34 mt_88 cf_88 (ff_88_11.rt W4969 (hd rfl)) rfl rfl,
  ⟨fun hd => mk17 kx_100 W4899 (hd rfl),
  ⟨fun hd => mk19 mt_412 cf_412 (vf_412_37.rt (Or.inl W5048) (hd rfl)) rfl rfl (noH_nil rfl),
  trivial⟩⟩⟩⟩⟩⟩⟩⟩⟩⟩⟩⟩⟩⟩⟩⟩⟩⟩⟩⟩⟩⟩⟩⟩⟩⟩⟩
theorem fe_409 : eqEs ((flat code_409).filter (fun e => ndE e.2.2.1)) (fl_409_0) = true := by decide +kernel
theorem om_409 : OKm mi iT prg 409 := OKm_of (code := code_409) rfl mt_409 (Or.inl (by decide +kernel)) rfl wk_409 (by decide +kernel) (by decide +kernel) (FA_of fe_409 (fb_409_0))
def fl_410_0 : List Ent := [(1, 3, 6, .getfield 29, [0, 37, 197], 0)]
theorem fb_410_0 : FB mi iT mi_410 (bpc code_410) (fl_410_0) := ⟨fun hd => mk6 fld_37_3 (Or.inl ⟨rfl, by decide⟩) (Or.inl W4286) (Or.inl rfl) (hd rfl),
  trivial⟩
theorem fe_410 : eqEs ((flat code_410).filter (fun e => ndE e.2.2.1)) (fl_410_0) = true := by decide +kernel
theorem om_410 : OKm mi iT prg 410 := OKm_of (code := code_410) rfl mt_410 (Or.inl (by decide +kernel)) rfl wk_410 (by decide +kernel) (by decide +kernel) (FA_of fe_410 (fb_410_0))
def fl_411_0 : List Ent := [(2, 3, 13, .getstatic 9, [37], 0), (11, 3, 13, .getstatic 13, [38], 0)]
theorem fb_411_0 : FB mi iT mi_411 (bpc code_411) (fl_411_0) := ⟨fun hd => mk13s (by decide) rfl (Or.inl W5031) (Or.inl rfl) (hd rfl),
  ⟨fun hd => mk13s (by decide) rfl (Or.inl W5033) (Or.inl rfl) (hd rfl),
  trivial⟩⟩
theorem fe_411 : eqEs ((flat code_411).filter (fun e => ndE e.2.2.1)) (fl_411_0) = true := by decide +kernel
theorem om_411 : OKm mi iT prg 411 := OKm_of (code := code_411) rfl mt_411 (Or.inl (by decide +kernel)) rfl wk_411 (by decide +kernel) (by decide +kernel) (FA_of fe_411 (fb_411_0))
def fl_412_0 : List Ent := [(7, 1, 9, .iastore, [0, 100], 0), (15, 3, 19, .invokevirtual 211, [9, 4, 4, 37, 392], 0)]
theorem fb_412_0 : FB mi iT mi_412 (bpc code_412) (fl_412_0) := ⟨fun hd => ⟨_, _, _, rfl, rfl, hd rfl, Or.inl ⟨rfl, rfl, rfl⟩⟩,
  ⟨fun hd => mk19 mt_392 cf_392 (vf_392_37.rt (Or.inl W4900) (hd rfl)) rfl rfl (noH_nil rfl),
  trivial⟩⟩
theorem fe_412 : eqEs ((flat code_412).filter (fun e => ndE e.2.2.1)) (fl_412_0) = true := by decide +kernel
theorem om_412 : OKm mi iT prg 412 := OKm_of (code := code_412) rfl mt_412 (Or.inl (by decide +kernel)) rfl wk_412 (by decide +kernel) (by decide +kernel) (FA_of fe_412 (fb_412_0))
def fl_413_0 : List Ent := [(3, 3, 19, .invokevirtual 75, [0, 2, 2, 37, 366], 0), (12, 3, 18, .invokestatic 71, [0, 3, 3, 362], 0), (24, 3, 19, .invokevirtual 104, [0, 3, 3, 37, 363], 0), (33, 3, 6, .getfield 25, [3, 37, 195], 0), (37, 3, 19, .invokevirtual 114, [3, 2, 2, 5, 6], 0), (40, 3, 17, .checkcast 96, [38], 0), (46, 3, 6, .getfield 118, [0, 38, 217], 0), (54, 3, 6, .getfield 118, [0, 38, 217], 0), (63, 3, 19, .invokevirtual 303, [0, 2, 2, 37, 414], 0), (71, 3, 19, .invokevirtual 268, [0, 2, 2, 38, 688], 0), (83, 3, 19, .invokevirtual 63, [0, 3, 3, 37, 364], 0), (92, 3, 6, .getfield 98, [0, 38, 226], 0), (105, 3, 6, .getfield 79, [0, 37, 196], 0), (108, 3, 18, .invokestatic 307, [0, 1, 1, 411], 0), (124, 3, 19, .invokevirtual 281, [0, 1, 1, 37, 410], 0), (131, 3, 13, .getstatic 284, [36], 0), (135, 3, 6, .getfield 98, [0, 38, 226], 0), (139, 3, 19, .invokevirtual 287, [0, 2, 2, 38, 693], 0), (146, 3, 13, .getstatic 284, [36], 0), (151, 3, 19, .invokevirtual 287, [0, 2, 2, 38, 693], 0), (165, 3, 6, .getfield 310, [0, 38, 227], 0), (172, 3, 7, .putfield 98, [0, 38, 226], 0), (182, 3, 7, .putfield 310, [0, 38, 227], 0)]
theorem fb_413_0 : FB mi iT mi_413 (bpc code_413) (fl_413_0) := ⟨fun hd => mk19 mt_366 cf_366 (vf_366_37.rt (Or.inl W4542) (hd rfl)) rfl rfl (noH_nil rfl),
  ⟨fun hd => mk18 mt_362 sf_362 (Or.inl W4353) rfl rfl (noH_nil rfl) (hd rfl),
  ⟨fun hd => mk19 mt_363 cf_363 (vf_363_37.rt (Or.inl W4356) (hd rfl)) rfl rfl (noH_nil rfl),
  ⟨fun hd => mk6 fld_37_1 (Or.inl ⟨rfl, by decide⟩) (Or.inl W4283) (Or.inl rfl) (hd rfl),
  ⟨fun hd => mk19 mt_6 cf_6 (vf_6_5.rt (Or.inl W4546) (hd rfl)) rfl rfl (noH_nil rfl),
  ⟨fun hd => mk17 kx_38 W4365 (hd rfl),
  ⟨fun hd => mk6 fld_38_5 (Or.inl ⟨rfl, by decide⟩) (Or.inl W4387) (Or.inl rfl) (hd rfl),
  ⟨fun hd => mk6 fld_38_5 (Or.inl ⟨rfl, by decide⟩) (Or.inl W4387) (Or.inl rfl) (hd rfl),
  ⟨fun hd => mk19 mt_414 cf_414 (vf_414_37.rt (Or.inl W5056) (hd rfl)) rfl rfl (noH_nil rfl),
  ⟨fun hd => mk19 mt_688 cf_688 (vf_688_38.rt (Or.inl W4978) (hd rfl)) rfl rfl (noH_nil rfl),
  ⟨fun hd => mk19 mt_364 cf_364 (vf_364_37.rt (Or.inl W4360) (hd rfl)) rfl rfl (noH_nil rfl),
  ⟨fun hd => mk6 fld_38_14 (Or.inl ⟨rfl, by decide⟩) (Or.inl W4408) (Or.inl rfl) (hd rfl),
  ⟨fun hd => mk6 fld_37_2 (Or.inl ⟨rfl, by decide⟩) (Or.inl W4284) (Or.inl rfl) (hd rfl),
  ⟨fun hd => mk18 mt_411 sf_411 (Or.inl W5060) rfl rfl (noH_nil rfl) (hd rfl),
  ⟨fun hd => mk19 mt_410 cf_410 (vf_410_37.rt (Or.inl W5013) (hd rfl)) rfl rfl (noH_nil rfl),
  ⟨fun hd => mk13s (by decide) rfl (Or.inl W5017) (Or.inl rfl) (hd rfl),
  ⟨fun hd => mk6 fld_38_14 (Or.inl ⟨rfl, by decide⟩) (Or.inl W4408) (Or.inl rfl) (hd rfl),
  ⟨fun hd => mk19 mt_693 cf_693 (vf_693_38.rt (Or.inl W5019) (hd rfl)) rfl rfl (noH_nil rfl),
  ⟨fun hd => mk13s (by decide) rfl (Or.inl W5017) (Or.inl rfl) (hd rfl),
  ⟨fun hd => mk19 mt_693 cf_693 (vf_693_38.rt (Or.inl W5019) (hd rfl)) rfl rfl (noH_nil rfl),
  ⟨fun hd => mk6 fld_38_15 (Or.inl ⟨rfl, by decide⟩) (Or.inl W4410) (Or.inl rfl) (hd rfl),
  ⟨fun hd => mk7 fld_38_14 (Or.inl W4408) (Or.inl rfl) (Or.inl rfl) (hd rfl),
  ⟨fun hd => mk7 fld_38_15 (Or.inl W4410) (Or.inl rfl) (Or.inl rfl) (hd rfl),
  trivial⟩⟩⟩⟩⟩⟩⟩⟩⟩⟩⟩⟩⟩⟩⟩⟩⟩⟩⟩⟩⟩⟩⟩
theorem fe_413 : eqEs ((flat code_413).filter (fun e => ndE e.2.2.1)) (fl_413_0) = true := by decide +kernel
theorem om_413 : OKm mi iT prg 413 := OKm_of (code := code_413) rfl mt_413 (Or.inl (by decide +kernel)) rfl wk_413 (by decide +kernel) (by decide +kernel) (FA_of fe_413 (fb_413_0))
def fl_414_0 : List Ent := [(1, 3, 6, .getfield 300, [0, 38, 235], 0)]
theorem fb_414_0 : FB mi iT mi_414 (bpc code_414) (fl_414_0) := ⟨fun hd => mk6 fld_38_23 (Or.inl ⟨rfl, by decide⟩) (Or.inl W4428) (Or.inl rfl) (hd rfl),
  trivial⟩
theorem fe_414 : eqEs ((flat code_414).filter (fun e => ndE e.2.2.1)) (fl_414_0) = true := by decide +kernel
theorem om_414 : OKm mi iT prg 414 := OKm_of (code := code_414) rfl mt_414 (Or.inl (by decide +kernel)) rfl wk_414 (by decide +kernel) (by decide +kernel) (FA_of fe_414 (fb_414_0))
def fl_415_0 : List Ent := [(4, 3, 18, .invokestatic 71, [0, 3, 3, 362], 0), (16, 3, 19, .invokevirtual 104, [0, 3, 3, 37, 363], 0), (26, 3, 18, .invokestatic 71, [0, 3, 3, 362], 0), (38, 3, 19, .invokevirtual 63, [0, 3, 3, 37, 364], 0), (51, 3, 19, .invokevirtual 316, [0, 3, 3, 37, 416], 0)]
theorem fb_415_0 : FB mi iT mi_415 (bpc code_415) (fl_415_0) := ⟨fun hd => mk18 mt_362 sf_362 (Or.inl W4353) rfl rfl (noH_nil rfl) (hd rfl),
  ⟨fun hd => mk19 mt_363 cf_363 (vf_363_37.rt (Or.inl W4356) (hd rfl)) rfl rfl (noH_nil rfl),
  ⟨fun hd => mk18 mt_362 sf_362 (Or.inl W4353) rfl rfl (noH_nil rfl) (hd rfl),
  ⟨fun hd => mk19 mt_364 cf_364 (vf_364_37.rt (Or.inl W4360) (hd rfl)) rfl rfl (noH_nil rfl),
  ⟨fun hd => mk19 mt_416 cf_416 (vf_416_37.rt (Or.inl W5065) (hd rfl)) rfl rfl (noH_nil rfl),
  trivial⟩⟩⟩⟩⟩
theorem fe_415 : eqEs ((flat code_415).filter (fun e => ndE e.2.2.1)) (fl_415_0) = true := by decide +kernel
theorem om_415 : OKm mi iT prg 415 := OKm_of (code := code_415) rfl mt_415 (Or.inl (by decide +kernel)) rfl wk_415 (by decide +kernel) (by decide +kernel) (FA_of fe_415 (fb_415_0))
def fl_416_0 : List Ent := [(6, 3, 19, .invokevirtual 274, [0, 2, 2, 37, 408], 0), (17, 3, 13, .getstatic 313, [39], 0), (30, 3, 13, .getstatic 284, [36], 0), (39, 3, 6, .getfield 79, [0, 37, 196], 0), (42, 3, 18, .invokestatic 307, [0, 1, 1, 411], 0), (45, 3, 13, .getstatic 284, [36], 0)]
theorem fb_416_0 : FB mi iT mi_416 (bpc code_416) (fl_416_0) := ⟨fun hd => mk19 mt_408 cf_408 (vf_408_37.rt (Or.inl W5003) (hd rfl)) rfl rfl (noH_nil rfl),
  ⟨fun hd => mk13s (by decide) rfl (Or.inl W5069) (Or.inl rfl) (hd rfl),
  ⟨fun hd => mk13s (by decide) rfl (Or.inl W5017) (Or.inl rfl) (hd rfl),
  ⟨fun hd => mk6 fld_37_2 (Or.inl ⟨rfl, by decide⟩) (Or.inl W4284) (Or.inl rfl) (hd rfl),
  ⟨fun hd => mk18 mt_411 sf_411 (Or.inl W5060) rfl rfl (noH_nil rfl) (hd rfl),
  ⟨fun hd => mk13s (by decide) rfl (Or.inl W5017) (Or.inl rfl) (hd rfl),
  trivial⟩⟩⟩⟩⟩⟩
theorem fe_416 : eqEs ((flat code_416).filter (fun e => ndE e.2.2.1)) (fl_416_0) = true := by decide +kernel
theorem om_416 : OKm mi iT prg 416 := OKm_of (code := code_416) rfl mt_416 (Or.inl (by decide +kernel)) rfl wk_416 (by decide +kernel) (by decide +kernel) (FA_of fe_416 (fb_416_0))
def fl_417_0 : List Ent := [(3, 3, 19, .invokevirtual 75, [0, 2, 2, 37, 366], 0), (7, 3, 19, .invokevirtual 104, [0, 3, 3, 37, 363], 0), (17, 3, 18, .invokestatic 71, [0, 3, 3, 362], 0), (29, 3, 19, .invokevirtual 63, [0, 3, 3, 37, 364], 0), (41, 3, 6, .getfield 25, [3, 37, 195], 0), (45, 3, 19, .invokevirtual 114, [3, 2, 2, 5, 6], 0), (48, 3, 17, .checkcast 96, [38], 0), (52, 3, 19, .invokevirtual 322, [0, 3, 3, 37, 418], 0)]
theorem fb_417_0 : FB mi iT mi_417 (bpc code_417) (fl_417_0) := ⟨fun hd => mk19 mt_366 cf_366 (vf_366_37.rt (Or.inl W4542) (hd rfl)) rfl rfl (noH_nil rfl),
  ⟨fun hd => mk19 mt_363 cf_363 (vf_363_37.rt (Or.inl W4356) (hd rfl)) rfl rfl (noH_nil rfl),
  ⟨fun hd => mk18 mt_362 sf_362 (Or.inl W4353) rfl rfl (noH_nil rfl) (hd rfl),
  ⟨fun hd => mk19 mt_364 cf_364 (vf_364_37.rt (Or.inl W4360) (hd rfl)) rfl rfl (noH_nil rfl),
  ⟨fun hd => mk6 fld_37_1 (Or.inl ⟨rfl, by decide⟩) (Or.inl W4283) (Or.inl rfl) (hd rfl),
  ⟨fun hd => mk19 mt_6 cf_6 (vf_6_5.rt (Or.inl W4546) (hd rfl)) rfl rfl (noH_nil rfl),
  ⟨fun hd => mk17 kx_38 W4365 (hd rfl),
  ⟨fun hd => mk19 mt_418 cf_418 (vf_418_37.rt (Or.inl W5074) (hd rfl)) rfl rfl (noH_nil rfl),
  trivial⟩⟩⟩⟩⟩⟩⟩⟩
theorem fe_417 : eqEs ((flat code_417).filter (fun e => ndE e.2.2.1)) (fl_417_0) = true := by decide +kernel
theorem om_417 : OKm mi iT prg 417 := OKm_of (code := code_417) rfl mt_417 (Or.inl (by decide +kernel)) rfl wk_417 (by decide +kernel) (by decide +kernel) (FA_of fe_417 (fb_417_0))
def fl_418_0 : List Ent := [(5, 3, 6, .getfield 98, [0, 38, 226], 0), (17, 3, 6, .getfield 310, [0, 38, 227], 0), (24, 3, 19, .invokevirtual 319, [0, 1, 1, 38, 694], 0)]
theorem fb_418_0 : FB mi iT mi_418 (bpc code_418) (fl_418_0) := ⟨fun hd => mk6 fld_38_14 (Or.inl ⟨rfl, by decide⟩) (Or.inl W4408) (Or.inl rfl) (hd rfl),
  ⟨fun hd => mk6 fld_38_15 (Or.inl ⟨rfl, by decide⟩) (Or.inl W4410) (Or.inl rfl) (hd rfl),
  ⟨fun hd => mk19 mt_694 cf_694 (vf_694_38.rt (Or.inl W5078) (hd rfl)) rfl rfl (noH_nil rfl),
  trivial⟩⟩⟩
theorem fe_418 : eqEs ((flat code_418).filter (fun e => ndE e.2.2.1)) (fl_418_0) = true := by decide +kernel
theorem om_418 : OKm mi iT prg 418 := OKm_of (code := code_418) rfl mt_418 (Or.inl (by decide +kernel)) rfl wk_418 (by decide +kernel) (by decide +kernel) (FA_of fe_418 (fb_418_0))
def fl_419_0 : List Ent := [(3, 3, 19, .invokevirtual 75, [0, 2, 2, 37, 366], 0), (7, 3, 19, .invokevirtual 104, [0, 3, 3, 37, 363], 0), (15, 3, 6, .getfield 25, [3, 37, 195], 0), (19, 3, 19, .invokevirtual 114, [3, 2, 2, 5, 6], 0), (22, 3, 17, .checkcast 96, [38], 0), (25, 3, 6, .getfield 118, [0, 38, 217], 0), (38, 3, 19, .invokevirtual 63, [0, 3, 3, 37, 364], 0), (47, 3, 6, .getfield 25, [3, 37, 195], 0), (51, 3, 19, .invokevirtual 114, [3, 2, 2, 5, 6], 0), (54, 3, 17, .checkcast 96, [38], 0), (59, 3, 19, .invokevirtual 319, [0, 1, 1, 38, 694], 0), (64, 3, 6, .getfield 29, [0, 37, 197], 0), (91, 3, 6, .getfield 79, [0, 37, 196], 0), (97, 3, 18, .invokestatic 307, [0, 1, 1, 411], 0), (100, 3, 13, .getstatic 284, [36], 0), (104, 3, 6, .getfield 98, [0, 38, 226], 0), (114, 3, 6, .getfield 79, [0, 37, 196], 0), (123, 3, 18, .invokestatic 325, [0, 1, 1, 420], 0)]
theorem fb_419_0 : FB mi iT mi_419 (bpc code_419) (fl_419_0) := ⟨fun hd => mk19 mt_366 cf_366 (vf_366_37.rt (Or.inl W4542) (hd rfl)) rfl rfl (noH_nil rfl),
  ⟨fun hd => mk19 mt_363 cf_363 (vf_363_37.rt (Or.inl W4356) (hd rfl)) rfl rfl (noH_nil rfl),
  ⟨fun hd => mk6 fld_37_1 (Or.inl ⟨rfl, by decide⟩) (Or.inl W4283) (Or.inl rfl) (hd rfl),
  ⟨fun hd => mk19 mt_6 cf_6 (vf_6_5.rt (Or.inl W4546) (hd rfl)) rfl rfl (noH_nil rfl),
  ⟨fun hd => mk17 kx_38 W4365 (hd rfl),
  ⟨fun hd => mk6 fld_38_5 (Or.inl ⟨rfl, by decide⟩) (Or.inl W4387) (Or.inl rfl) (hd rfl),
  ⟨fun hd => mk19 mt_364 cf_364 (vf_364_37.rt (Or.inl W4360) (hd rfl)) rfl rfl (noH_nil rfl),
  ⟨fun hd => mk6 fld_37_1 (Or.inl ⟨rfl, by decide⟩) (Or.inl W4283) (Or.inl rfl) (hd rfl),
  ⟨fun hd => mk19 mt_6 cf_6 (vf_6_5.rt (Or.inl W4546) (hd rfl)) rfl rfl (noH_nil rfl),
  ⟨fun hd => mk17 kx_38 W4365 (hd rfl),
  ⟨fun hd => mk19 mt_694 cf_694 (vf_694_38.rt (Or.inl W5078) (hd rfl)) rfl rfl (noH_nil rfl),
  ⟨fun hd => mk6 fld_37_3 (Or.inl ⟨rfl, by decide⟩) (Or.inl W4286) (Or.inl rfl) (hd rfl),
  ⟨fun hd => mk6 fld_37_2 (Or.inl ⟨rfl, by decide⟩) (Or.inl W4284) (Or.inl rfl) (hd rfl),
  ⟨fun hd => mk18 mt_411 sf_411 (Or.inl W5060) rfl rfl (noH_nil rfl) (hd rfl),
  ⟨fun hd => mk13s (by decide) rfl (Or.inl W5017) (Or.inl rfl) (hd rfl),
  ⟨fun hd => mk6 fld_38_14 (Or.inl ⟨rfl, by decide⟩) (Or.inl W4408) (Or.inl rfl) (hd rfl),
  ⟨fun hd => mk6 fld_37_2 (Or.inl ⟨rfl, by decide⟩) (Or.inl W4284) (Or.inl rfl) (hd rfl),
  ⟨fun hd => mk18 mt_420 sf_420 (Or.inl W5083) rfl rfl (noH_nil rfl) (hd rfl),
  trivial⟩⟩⟩⟩⟩⟩⟩⟩⟩⟩⟩⟩⟩⟩⟩⟩⟩⟩
theorem fe_419 : eqEs ((flat code_419).filter (fun e => ndE e.2.2.1)) (fl_419_0) = true := by decide +kernel
theorem om_419 : OKm mi iT prg 419 := OKm_of (code := code_419) rfl mt_419 (Or.inl (by decide +kernel)) rfl wk_419 (by decide +kernel) (by decide +kernel) (FA_of fe_419 (fb_419_0))
theorem fe_420 : eqEs ((flat code_420).filter (fun e => ndE e.2.2.1)) ([]) = true := by decide +kernel
theorem om_420 : OKm mi iT prg 420 := OKm_of (code := code_420) rfl mt_420 (Or.inl (by decide +kernel)) rfl wk_420 (by decide +kernel) (by decide +kernel) (FA_of fe_420 (trivial))
def fl_421_0 : List Ent := [(4, 3, 18, .invokestatic 71, [0, 3, 3, 362], 0), (16, 3, 19, .invokevirtual 104, [0, 3, 3, 37, 363], 0), (27, 3, 18, .invokestatic 71, [0, 3, 3, 362], 0), (39, 3, 19, .invokevirtual 63, [0, 3, 3, 37, 364], 0), (48, 3, 6, .getfield 33, [3, 37, 202], 0), (55, 3, 6, .getfield 33, [3, 37, 202], 0), (60, 1, 9, .iastore, [0, 100], 0)]
theorem fb_421_0 : FB mi iT mi_421 (bpc code_421) (fl_421_0) := ⟨fun hd => mk18 mt_362 sf_362 (Or.inl W4353) rfl rfl (noH_nil rfl) (hd rfl),
  ⟨fun hd => mk19 mt_363 cf_363 (vf_363_37.rt (Or.inl W4356) (hd rfl)) rfl rfl (noH_nil rfl),
  ⟨fun hd => mk18 mt_362 sf_362 (Or.inl W4353) rfl rfl (noH_nil rfl) (hd rfl),
  ⟨fun hd => mk19 mt_364 cf_364 (vf_364_37.rt (Or.inl W4360) (hd rfl)) rfl rfl (noH_nil rfl),
  ⟨fun hd => mk6 fld_37_8 (Or.inl ⟨rfl, by decide⟩) (Or.inl W4297) (Or.inl rfl) (hd rfl),
  ⟨fun hd => mk6 fld_37_8 (Or.inl ⟨rfl, by decide⟩) (Or.inl W4297) (Or.inl rfl) (hd rfl),
  ⟨fun hd => ⟨_, _, _, rfl, rfl, hd rfl, Or.inl ⟨rfl, rfl, rfl⟩⟩,
  trivial⟩⟩⟩⟩⟩⟩⟩
theorem fe_421 : eqEs ((flat code_421).filter (fun e => ndE e.2.2.1)) (fl_421_0) = true := by decide +kernel
theorem om_421 : OKm mi iT prg 421 := OKm_of (code := code_421) rfl mt_421 (Or.inl (by decide +kernel)) rfl wk_421 (by decide +kernel) (by decide +kernel) (FA_of fe_421 (fb_421_0))
def fl_422_0 : List Ent := [(5, 3, 18, .invokestatic 71, [0, 3, 3, 362], 0), (17, 3, 19, .invokevirtual 104, [0, 3, 3, 37, 363], 0), (25, 3, 6, .getfield 79, [0, 37, 196], 0), (42, 3, 19, .invokevirtual 63, [0, 3, 3, 37, 364], 0), (58, 3, 19, .invokevirtual 353, [9, 1, 1, 37, 423], 0), (68, 3, 6, .getfield 79, [0, 37, 196], 0)]
theorem fb_422_0 : FB mi iT mi_422 (bpc code_422) (fl_422_0) := ⟨fun hd => mk18 mt_362 sf_362 (Or.inl W4353) rfl rfl (noH_nil rfl) (hd rfl),
  ⟨fun hd => mk19 mt_363 cf_363 (vf_363_37.rt (Or.inl W4356) (hd rfl)) rfl rfl (noH_nil rfl),
  ⟨fun hd => mk6 fld_37_2 (Or.inl ⟨rfl, by decide⟩) (Or.inl W4284) (Or.inl rfl) (hd rfl),
  ⟨fun hd => mk19 mt_364 cf_364 (vf_364_37.rt (Or.inl W4360) (hd rfl)) rfl rfl (noH_nil rfl),
  ⟨fun hd => mk19 mt_423 cf_423 (vf_423_37.rt (Or.inl W5094) (hd rfl)) rfl rfl (noH_nil rfl),
  ⟨fun hd => mk6 fld_37_2 (Or.inl ⟨rfl, by decide⟩) (Or.inl W4284) (Or.inl rfl) (hd rfl),
  trivial⟩⟩⟩⟩⟩⟩
theorem fe_422 : eqEs ((flat code_422).filter (fun e => ndE e.2.2.1)) (fl_422_0) = true := by decide +kernel
theorem om_422 : OKm mi iT prg 422 := OKm_of (code := code_422) rfl mt_422 (Or.inl (by decide +kernel)) rfl wk_422 (by decide +kernel) (by decide +kernel) (FA_of fe_422 (fb_422_0))
def fl_423_0 : List Ent := [(1, 3, 19, .invokevirtual 335, [9, 1, 1, 37, 424], 0), (10, 3, 6, .getfield 33, [3, 37, 202], 0), (16, 3, 6, .getfield 33, [3, 37, 202], 0), (23, 3, 6, .getfield 33, [3, 37, 202], 0), (30, 3, 19, .invokevirtual 211, [9, 4, 4, 37, 392], 0), (33, 3, 11, .new 338, [39, 6], 0), (39, 3, 36, .invokespecial 340, [9, 3, 3, 39, 741], 0), (43, 3, 6, .getfield 29, [0, 37, 197], 0), (47, 3, 19, .invokevirtual 343, [9, 3, 3, 39, 742], 0), (51, 3, 6, .getfield 25, [3, 37, 195], 0), (54, 3, 19, .invokevirtual 82, [3, 1, 1, 5, 4], 0), (59, 5, 34, .invokeinterface 86 1, [0, 1, 1, 11, 87], 0), (68, 5, 34, .invokeinterface 92 1, [3, 1, 1, 11, 88], 0), (73, 3, 17, .checkcast 96, [38], 0), (78, 3, 6, .getfield 300, [0, 38, 235], 0), (86, 3, 19, .invokevirtual 346, [9, 1, 1, 38, 696], 0), (93, 3, 6, .getfield 45, [3, 37, 206], 0), (96, 3, 19, .invokevirtual 82, [3, 1, 1, 5, 4], 0), (101, 5, 34, .invokeinterface 86 1, [0, 1, 1, 11, 87], 0), (110, 5, 34, .invokeinterface 92 1, [3, 1, 1, 11, 88], 0), (115, 3, 17, .checkcast 210, [100], 0), (128, 3, 19, .invokevirtual 349, [9, 2, 2, 37, 428], 0)]
theorem fb_423_0 : FB mi iT mi_423 (bpc code_423) (fl_423_0) := ⟨fun hd => mk19 mt_424 cf_424 (vf_424_37.rt (Or.inl W5098) (hd rfl)) rfl rfl (noH_nil rfl),
  ⟨fun hd => mk6 fld_37_8 (Or.inl ⟨rfl, by decide⟩) (Or.inl W4297) (Or.inl rfl) (hd rfl),
  ⟨fun hd => mk6 fld_37_8 (Or.inl ⟨rfl, by decide⟩) (Or.inl W4297) (Or.inl rfl) (hd rfl),
  ⟨fun hd => mk6 fld_37_8 (Or.inl ⟨rfl, by decide⟩) (Or.inl W4297) (Or.inl rfl) (hd rfl),
  ⟨fun hd => mk19 mt_392 cf_392 (vf_392_37.rt (Or.inl W4900) (hd rfl)) rfl rfl (noH_nil rfl),
  ⟨fun hd => mk11 nf_39 W5103 (hd rfl),
  ⟨fun hd => mk36 mt_741 cf_741 (ic_741.rt (Or.inl W5105) (hd rfl)) rfl rfl,
  ⟨fun hd => mk6 fld_37_3 (Or.inl ⟨rfl, by decide⟩) (Or.inl W4286) (Or.inl rfl) (hd rfl),
  ⟨fun hd => mk19 mt_742 cf_742 (vf_742_39.rt (Or.inl W5137) (hd rfl)) rfl rfl (noH_nil rfl),
  ⟨fun hd => mk6 fld_37_1 (Or.inl ⟨rfl, by decide⟩) (Or.inl W4283) (Or.inl rfl) (hd rfl),
  ⟨fun hd => mk19 mt_4 cf_4 (vf_4_5.rt (Or.inl W4965) (hd rfl)) rfl rfl (noH_nil rfl),
  ⟨fun hd => mk34 mt_87 cf_87 (ff_87_11.rt W4967 (hd rfl)) rfl rfl,
  ⟨fun hd => mk34 mt_88 cf_88 (ff_88_11.rt W4969 (hd rfl)) rfl rfl,
  ⟨fun hd => mk17 kx_38 W4365 (hd rfl),
  ⟨fun hd => mk6 fld_38_23 (Or.inl ⟨rfl, by decide⟩) (Or.inl W4428) (Or.inl rfl) (hd rfl),
  ⟨fun hd => mk19 mt_696 cf_696 (vf_696_38.rt (Or.inl W5181) (hd rfl)) rfl rfl (noH_nil rfl),
  ⟨fun hd => mk6 fld_37_12 (Or.inl ⟨rfl, by decide⟩) (Or.inl W4301) (Or.inl rfl) (hd rfl),
  ⟨fun hd => mk19 mt_4 cf_4 (vf_4_5.rt (Or.inl W4965) (hd rfl)) rfl rfl (noH_nil rfl),
  ⟨fun hd => mk34 mt_87 cf_87 (ff_87_11.rt W4967 (hd rfl)) rfl rfl,
  ⟨fun hd => mk34 mt_88 cf_88 (ff_88_11.rt W4969 (hd rfl)) rfl rfl,
  ⟨fun hd => mk17 kx_100 W4899 (hd rfl),
  ⟨fun hd => mk19 mt_428 cf_428 (vf_428_37.rt (Or.inl W5248) (hd rfl)) rfl rfl (noH_nil rfl),
  trivial⟩⟩⟩⟩⟩⟩⟩⟩⟩⟩⟩⟩⟩⟩⟩⟩⟩⟩⟩⟩⟩⟩
theorem fe_423 : eqEs ((flat code_423).filter (fun e => ndE e.2.2.1)) (fl_423_0) = true := by decide +kernel
theorem om_423 : OKm mi iT prg 423 := OKm_of (code := code_423) rfl mt_423 (Or.inl (by decide +kernel)) rfl wk_423 (by decide +kernel) (by decide +kernel) (FA_of fe_423 (fb_423_0))
def fl_424_0 : List Ent := [(2, 3, 6, .getfield 79, [0, 37, 196], 0), (7, 3, 7, .putfield 79, [0, 37, 196], 0), (12, 3, 6, .getfield 29, [0, 37, 197], 0), (15, 3, 18, .invokestatic 325, [0, 1, 1, 420], 0), (18, 3, 7, .putfield 29, [0, 37, 197], 0), (22, 3, 6, .getfield 39, [3, 37, 204], 0), (25, 3, 19, .invokevirtual 67, [0, 1, 1, 5, 5], 0), (36, 3, 6, .getfield 39, [3, 37, 204], 0), (40, 3, 19, .invokevirtual 114, [3, 2, 2, 5, 6], 0), (43, 3, 17, .checkcast 210, [100], 0), (49, 3, 6, .getfield 79, [0, 37, 196], 0), (59, 3, 6, .getfield 36, [3, 37, 203], 0), (63, 3, 6, .getfield 39, [3, 37, 204], 0), (67, 3, 19, .invokevirtual 114, [3, 2, 2, 5, 6], 0), (70, 3, 17, .checkcast 210, [100], 0), (75, 3, 19, .invokevirtual 114, [3, 2, 2, 5, 6], 0), (78, 3, 17, .checkcast 210, [100], 0), (85, 3, 6, .getfield 39, [3, 37, 204], 0), (89, 3, 19, .invokevirtual 114, [3, 2, 2, 5, 6], 0), (92, 3, 17, .checkcast 210, [100], 0), (98, 1, 9, .iastore, [0, 100], 0), (100, 3, 6, .getfield 39, [3, 37, 204], 0), (104, 3, 19, .invokevirtual 162, [3, 2, 2, 5, 12], 0), (115, 3, 6, .getfield 25, [3, 37, 195], 0), (118, 3, 19, .invokevirtual 82, [3, 1, 1, 5, 4], 0), (123, 5, 34, .invokeinterface 86 1, [0, 1, 1, 11, 87], 0), (132, 5, 34, .invokeinterface 92 1, [3, 1, 1, 11, 88], 0), (137, 3, 17, .checkcast 96, [38], 0), (142, 3, 6, .getfield 98, [0, 38, 226], 0), (152, 3, 6, .getfield 101, [0, 38, 216], 0)]
theorem fb_424_0 : FB mi iT mi_424 (bpc code_424) (fl_424_0) := ⟨fun hd => mk6 fld_37_2 (Or.inl ⟨rfl, by decide⟩) (Or.inl W4284) (Or.inl rfl) (hd rfl),
  ⟨fun hd => mk7 fld_37_2 (Or.inl W4284) (Or.inl rfl) (Or.inl rfl) (hd rfl),
  ⟨fun hd => mk6 fld_37_3 (Or.inl ⟨rfl, by decide⟩) (Or.inl W4286) (Or.inl rfl) (hd rfl),
  ⟨fun hd => mk18 mt_420 sf_420 (Or.inl W5083) rfl rfl (noH_nil rfl) (hd rfl),
  ⟨fun hd => mk7 fld_37_3 (Or.inl W4286) (Or.inl rfl) (Or.inl rfl) (hd rfl),
  ⟨fun hd => mk6 fld_37_10 (Or.inl ⟨rfl, by decide⟩) (Or.inl W4299) (Or.inl rfl) (hd rfl),
  ⟨fun hd => mk19 mt_5 cf_5 (vf_5_5.rt (Or.inl W4364) (hd rfl)) rfl rfl (noH_nil rfl),
  ⟨fun hd => mk6 fld_37_10 (Or.inl ⟨rfl, by decide⟩) (Or.inl W4299) (Or.inl rfl) (hd rfl),
  ⟨fun hd => mk19 mt_6 cf_6 (vf_6_5.rt (Or.inl W4546) (hd rfl)) rfl rfl (noH_nil rfl),
  ⟨fun hd => mk17 kx_100 W4899 (hd rfl),
  ⟨fun hd => mk6 fld_37_2 (Or.inl ⟨rfl, by decide⟩) (Or.inl W4284) (Or.inl rfl) (hd rfl),
  ⟨fun hd => mk6 fld_37_9 (Or.inl ⟨rfl, by decide⟩) (Or.inl W4298) (Or.inl rfl) (hd rfl),
  ⟨fun hd => mk6 fld_37_10 (Or.inl ⟨rfl, by decide⟩) (Or.inl W4299) (Or.inl rfl) (hd rfl),
  ⟨fun hd => mk19 mt_6 cf_6 (vf_6_5.rt (Or.inl W4546) (hd rfl)) rfl rfl (noH_nil rfl),
  ⟨fun hd => mk17 kx_100 W4899 (hd rfl),
  ⟨fun hd => mk19 mt_6 cf_6 (vf_6_5.rt (Or.inl W4546) (hd rfl)) rfl rfl (noH_nil rfl),
  ⟨fun hd => mk17 kx_100 W4899 (hd rfl),
  ⟨fun hd => mk6 fld_37_10 (Or.inl ⟨rfl, by decide⟩) (Or.inl W4299) (Or.inl rfl) (hd rfl),
  ⟨fun hd => mk19 mt_6 cf_6 (vf_6_5.rt (Or.inl W4546) (hd rfl)) rfl rfl (noH_nil rfl),
  ⟨fun hd => mk17 kx_100 W4899 (hd rfl),
  ⟨fun hd => ⟨_, _, _, rfl, rfl, hd rfl, Or.inl ⟨rfl, rfl, rfl⟩⟩,
  ⟨fun hd => mk6 fld_37_10 (Or.inl ⟨rfl, by decide⟩) (Or.inl W4299) (Or.inl rfl) (hd rfl),
  ⟨fun hd => mk19 mt_12 cf_12 (vf_12_5.rt (Or.inl W4654) (hd rfl)) rfl rfl (noH_nil rfl),
  ⟨fun hd => mk6 fld_37_1 (Or.inl ⟨rfl, by decide⟩) (Or.inl W4283) (Or.inl rfl) (hd rfl),
  ⟨fun hd => mk19 mt_4 cf_4 (vf_4_5.rt (Or.inl W4965) (hd rfl)) rfl rfl (noH_nil rfl),
  ⟨fun hd => mk34 mt_87 cf_87 (ff_87_11.rt W4967 (hd rfl)) rfl rfl,
  ⟨fun hd => mk34 mt_88 cf_88 (ff_88_11.rt W4969 (hd rfl)) rfl rfl,
  ⟨fun hd => mk17 kx_38 W4365 (hd rfl),
  ⟨fun hd => mk6 fld_38_14 (Or.inl ⟨rfl, by decide⟩) (Or.inl W4408) (Or.inl rfl) (hd rfl),
  ⟨fun hd => mk6 fld_38_4 (Or.inl ⟨rfl, by decide⟩) (Or.inl W4384) (Or.inl rfl) (hd rfl),
  trivial⟩⟩⟩⟩⟩⟩⟩⟩⟩⟩⟩⟩⟩⟩⟩⟩⟩⟩⟩⟩⟩⟩⟩⟩⟩⟩⟩⟩⟩⟩
def fl_424_1 : List Ent := [(156, 3, 6, .getfield 98, [0, 38, 226], 0), (170, 3, 19, .invokevirtual 211, [9, 4, 4, 37, 392], 0), (174, 3, 6, .getfield 79, [0, 37, 196], 0), (184, 3, 6, .getfield 118, [0, 38, 217], 0), (192, 3, 6, .getfield 118, [0, 38, 217], 0), (200, 3, 6, .getfield 98, [0, 38, 226], 0), (209, 3, 6, .getfield 310, [0, 38, 227], 0), (214, 3, 7, .putfield 310, [0, 38, 227], 0), (218, 3, 6, .getfield 98, [0, 38, 226], 0), (226, 3, 6, .getfield 327, [0, 38, 240], 0), (236, 3, 6, .getfield 101, [0, 38, 216], 0), (242, 3, 6, .getfield 327, [0, 38, 240], 0), (245, 3, 18, .invokestatic 330, [0, 1, 1, 62], 0), (249, 3, 19, .invokevirtual 211, [9, 4, 4, 37, 392], 0), (254, 3, 7, .putfield 327, [0, 38, 240], 0)]
theorem fb_424_1 : FB mi iT mi_424 (bpc code_424) (fl_424_1) := ⟨fun hd => mk6 fld_38_14 (Or.inl ⟨rfl, by decide⟩) (Or.inl W4408) (Or.inl rfl) (hd rfl),
  ⟨fun hd => mk19 mt_392 cf_392 (vf_392_37.rt (Or.inl W4900) (hd rfl)) rfl rfl (noH_nil rfl),
  ⟨fun hd => mk6 fld_37_2 (Or.inl ⟨rfl, by decide⟩) (Or.inl W4284) (Or.inl rfl) (hd rfl),
  ⟨fun hd => mk6 fld_38_5 (Or.inl ⟨rfl, by decide⟩) (Or.inl W4387) (Or.inl rfl) (hd rfl),
  ⟨fun hd => mk6 fld_38_5 (Or.inl ⟨rfl, by decide⟩) (Or.inl W4387) (Or.inl rfl) (hd rfl),
  ⟨fun hd => mk6 fld_38_14 (Or.inl ⟨rfl, by decide⟩) (Or.inl W4408) (Or.inl rfl) (hd rfl),
  ⟨fun hd => mk6 fld_38_15 (Or.inl ⟨rfl, by decide⟩) (Or.inl W4410) (Or.inl rfl) (hd rfl),
  ⟨fun hd => mk7 fld_38_15 (Or.inl W4410) (Or.inl rfl) (Or.inl rfl) (hd rfl),
  ⟨fun hd => mk6 fld_38_14 (Or.inl ⟨rfl, by decide⟩) (Or.inl W4408) (Or.inl rfl) (hd rfl),
  ⟨fun hd => mk6 fld_38_28 (Or.inl ⟨rfl, by decide⟩) (Or.inl W4438) (Or.inl rfl) (hd rfl),
  ⟨fun hd => mk6 fld_38_4 (Or.inl ⟨rfl, by decide⟩) (Or.inl W4384) (Or.inl rfl) (hd rfl),
  ⟨fun hd => mk6 fld_38_28 (Or.inl ⟨rfl, by decide⟩) (Or.inl W4438) (Or.inl rfl) (hd rfl),
  ⟨fun hd => mk18 mt_62 sf_62 (Or.inl W5102) rfl rfl (noH_nil rfl) (hd rfl),
  ⟨fun hd => mk19 mt_392 cf_392 (vf_392_37.rt (Or.inl W4900) (hd rfl)) rfl rfl (noH_nil rfl),
  ⟨fun hd => mk7 fld_38_28 (Or.inl W4438) (Or.inl rfl) (Or.inl rfl) (hd rfl),
  trivial⟩⟩⟩⟩⟩⟩⟩⟩⟩⟩⟩⟩⟩⟩⟩
theorem fe_424 : eqEs ((flat code_424).filter (fun e => ndE e.2.2.1)) (fl_424_0 ++ (fl_424_1)) = true := by decide +kernel
theorem om_424 : OKm mi iT prg 424 := OKm_of (code := code_424) rfl mt_424 (Or.inl (by decide +kernel)) rfl wk_424 (by decide +kernel) (by decide +kernel) (FA_of fe_424 (FB_app fb_424_0 (fb_424_1)))
def fl_425_0 : List Ent := [(34, 2, 14, .ldc 3, [], 1048576), (43, 29, 5, .tableswitch 51 19 22 #[29, 34, 38, 46], [15, 19, 11, 20, 12, 21, 13, 22, 14], 0), (73, 3, 18, .invokestatic 4, [0, 1, 1, 426], 0), (81, 2, 14, .ldc 3, [], 1048576), (84, 3, 18, .invokestatic 4, [0, 1, 1, 426], 0), (90, 3, 18, .invokestatic 4, [0, 1, 1, 426], 0), (94, 2, 14, .ldc 8, [], 6291456)]
theorem fb_425_0 : FB mi iT mi_425 (bpc code_425) (fl_425_0) := ⟨fun hd => mk14c W5150 (Or.inl ⟨hd rfl, rfl⟩),
  ⟨fun hd => ⟨_, _, rfl, Or.inl ⟨51, 19, 22, #[29, 34, 38, 46], 4, 29, (show decode prog_75_method_6_code 43 = .ok (.tableswitch 51 19 22 #[29, 34, 38, 46], 29) by decide +kernel), by decide, by decide +kernel⟩⟩,
  ⟨fun hd => mk18 mt_426 sf_426 (Or.inl W5151) rfl rfl (noH_nil rfl) (hd rfl),
  ⟨fun hd => mk14c W5150 (Or.inl ⟨hd rfl, rfl⟩),
  ⟨fun hd => mk18 mt_426 sf_426 (Or.inl W5151) rfl rfl (noH_nil rfl) (hd rfl),
  ⟨fun hd => mk18 mt_426 sf_426 (Or.inl W5151) rfl rfl (noH_nil rfl) (hd rfl),
  ⟨fun hd => mk14c W5154 (Or.inl ⟨hd rfl, rfl⟩),
  trivial⟩⟩⟩⟩⟩⟩⟩
theorem fe_425 : eqEs ((flat code_425).filter (fun e => ndE e.2.2.1)) (fl_425_0) = true := by decide +kernel
theorem om_425 : OKm mi iT prg 425 := OKm_of (code := code_425) rfl mt_425 (Or.inl (by decide +kernel)) rfl wk_425 (by decide +kernel) (by decide +kernel) (FA_of fe_425 (fb_425_0))
theorem fe_426 : eqEs ((flat code_426).filter (fun e => ndE e.2.2.1)) ([]) = true := by decide +kernel
theorem om_426 : OKm mi iT prg 426 := OKm_of (code := code_426) rfl mt_426 (Or.inl (by decide +kernel)) rfl wk_426 (by decide +kernel) (by decide +kernel) (FA_of fe_426 (trivial))
theorem fe_427 : eqEs ((flat code_427).filter (fun e => ndE e.2.2.1)) ([]) = true := by decide +kernel
theorem om_427 : OKm mi iT prg 427 := OKm_of (code := code_427) rfl mt_427 (Or.inl (by decide +kernel)) rfl wk_427 (by decide +kernel) (by decide +kernel) (FA_of fe_427 (trivial))
def fl_428_0 : List Ent := [(1, 3, 6, .getfield 25, [3, 37, 195], 0), (8, 3, 19, .invokevirtual 114, [3, 2, 2, 5, 6], 0), (11, 3, 17, .checkcast 96, [38], 0), (14, 3, 6, .getfield 118, [0, 38, 217], 0), (32, 3, 6, .getfield 79, [0, 37, 196], 0), (55, 3, 19, .invokevirtual 211, [9, 4, 4, 37, 392], 0), (65, 1, 9, .iastore, [0, 100], 0), (93, 3, 19, .invokevirtual 296, [9, 3, 3, 37, 412], 0), (99, 1, 9, .iastore, [0, 100], 0)]
theorem fb_428_0 : FB mi iT mi_428 (bpc code_428) (fl_428_0) := ⟨fun hd => mk6 fld_37_1 (Or.inl ⟨rfl, by decide⟩) (Or.inl W4283) (Or.inl rfl) (hd rfl),
  ⟨fun hd => mk19 mt_6 cf_6 (vf_6_5.rt (Or.inl W4546) (hd rfl)) rfl rfl (noH_nil rfl),
  ⟨fun hd => mk17 kx_38 W4365 (hd rfl),
  ⟨fun hd => mk6 fld_38_5 (Or.inl ⟨rfl, by decide⟩) (Or.inl W4387) (Or.inl rfl) (hd rfl),
  ⟨fun hd => mk6 fld_37_2 (Or.inl ⟨rfl, by decide⟩) (Or.inl W4284) (Or.inl rfl) (hd rfl),
  ⟨fun hd => mk19 mt_392 cf_392 (vf_392_37.rt (Or.inl W4900) (hd rfl)) rfl rfl (noH_nil rfl),
  ⟨fun hd => ⟨_, _, _, rfl, rfl, hd rfl, Or.inl ⟨rfl, rfl, rfl⟩⟩,
  ⟨fun hd => mk19 mt_412 cf_412 (vf_412_37.rt (Or.inl W5048) (hd rfl)) rfl rfl (noH_nil rfl),
  ⟨fun hd => ⟨_, _, _, rfl, rfl, hd rfl, Or.inl ⟨rfl, rfl, rfl⟩⟩,
  trivial⟩⟩⟩⟩⟩⟩⟩⟩⟩
theorem fe_428 : eqEs ((flat code_428).filter (fun e => ndE e.2.2.1)) (fl_428_0) = true := by decide +kernel
theorem om_428 : OKm mi iT prg 428 := OKm_of (code := code_428) rfl mt_428 (Or.inl (by decide +kernel)) rfl wk_428 (by decide +kernel) (by decide +kernel) (FA_of fe_428 (fb_428_0))
def fl_429_0 : List Ent := [(3, 3, 19, .invokevirtual 75, [0, 2, 2, 37, 366], 0), (13, 3, 18, .invokestatic 71, [0, 3, 3, 362], 0), (25, 3, 19, .invokevirtual 104, [0, 3, 3, 37, 363], 0), (36, 3, 18, .invokestatic 71, [0, 3, 3, 362], 0), (48, 3, 19, .invokevirtual 63, [0, 3, 3, 37, 364], 0), (56, 3, 6, .getfield 25, [3, 37, 195], 0), (60, 3, 19, .invokevirtual 114, [3, 2, 2, 5, 6], 0), (63, 3, 17, .checkcast 96, [38], 0), (66, 3, 6, .getfield 356, [0, 38, 228], 0), (78, 3, 19, .invokevirtual 63, [0, 3, 3, 37, 364], 0), (87, 3, 6, .getfield 25, [3, 37, 195], 0), (91, 3, 19, .invokevirtual 114, [3, 2, 2, 5, 6], 0), (94, 3, 17, .checkcast 96, [38], 0), (101, 2, 12, .newarray .int, [100], 0), (107, 2, 12, .newarray .int, [100], 0), (117, 3, 19, .invokevirtual 360, [9, 3, 3, 38, 709], 0), (122, 2, 12, .newarray .int, [100], 0), (128, 3, 6, .getfield 364, [3, 38, 230], 0), (133, 1, 9, .iastore, [0, 100], 0), (137, 3, 18, .invokestatic 367, [0, 1, 1, 427], 0), (140, 1, 9, .iastore, [0, 100], 0), (146, 3, 19, .invokevirtual 370, [0, 2, 2, 38, 668], 0), (149, 3, 18, .invokestatic 262, [0, 1, 1, 381], 0), (152, 1, 9, .iastore, [0, 100], 0), (158, 3, 19, .invokevirtual 373, [0, 2, 2, 38, 710], 0), (161, 1, 9, .iastore, [0, 100], 0), (168, 1, 9, .iastore, [0, 100], 0), (175, 1, 9, .iastore, [0, 100], 0), (188, 1, 9, .iastore, [0, 100], 0), (194, 3, 6, .getfield 376, [3, 38, 232], 0)]
theorem fb_429_0 : FB mi iT mi_429 (bpc code_429) (fl_429_0) := ⟨fun hd => mk19 mt_366 cf_366 (vf_366_37.rt (Or.inl W4542) (hd rfl)) rfl rfl (noH_nil rfl),
  ⟨fun hd => mk18 mt_362 sf_362 (Or.inl W4353) rfl rfl (noH_nil rfl) (hd rfl),
  ⟨fun hd => mk19 mt_363 cf_363 (vf_363_37.rt (Or.inl W4356) (hd rfl)) rfl rfl (noH_nil rfl),
  ⟨fun hd => mk18 mt_362 sf_362 (Or.inl W4353) rfl rfl (noH_nil rfl) (hd rfl),
  ⟨fun hd => mk19 mt_364 cf_364 (vf_364_37.rt (Or.inl W4360) (hd rfl)) rfl rfl (noH_nil rfl),
  ⟨fun hd => mk6 fld_37_1 (Or.inl ⟨rfl, by decide⟩) (Or.inl W4283) (Or.inl rfl) (hd rfl),
  ⟨fun hd => mk19 mt_6 cf_6 (vf_6_5.rt (Or.inl W4546) (hd rfl)) rfl rfl (noH_nil rfl),
  ⟨fun hd => mk17 kx_38 W4365 (hd rfl),
  ⟨fun hd => mk6 fld_38_16 (Or.inr ⟨rfl, Or.inl rfl⟩) (Or.inl W4412) (Or.inl rfl) (hd rfl),
  ⟨fun hd => mk19 mt_364 cf_364 (vf_364_37.rt (Or.inl W4360) (hd rfl)) rfl rfl (noH_nil rfl),
  ⟨fun hd => mk6 fld_37_1 (Or.inl ⟨rfl, by decide⟩) (Or.inl W4283) (Or.inl rfl) (hd rfl),
  ⟨fun hd => mk19 mt_6 cf_6 (vf_6_5.rt (Or.inl W4546) (hd rfl)) rfl rfl (noH_nil rfl),
  ⟨fun hd => mk17 kx_38 W4365 (hd rfl),
  ⟨fun hd => mk12a (at_ := .int) (by decide) rfl W239 (hd rfl),
  ⟨fun hd => mk12a (at_ := .int) (by decide) rfl W239 (hd rfl),
  ⟨fun hd => mk19 mt_709 cf_709 (vf_709_38.rt (Or.inl W5256) (hd rfl)) rfl rfl (noH_nil rfl),
  ⟨fun hd => mk12a (at_ := .int) (by decide) rfl W239 (hd rfl),
  ⟨fun hd => mk6 fld_38_18 (Or.inl ⟨rfl, by decide⟩) (Or.inl W4418) (Or.inl rfl) (hd rfl),
  ⟨fun hd => ⟨_, _, _, rfl, rfl, hd rfl, Or.inl ⟨rfl, rfl, rfl⟩⟩,
  ⟨fun hd => mk18 mt_427 sf_427 (Or.inl W5267) rfl rfl (noH_nil rfl) (hd rfl),
  ⟨fun hd => ⟨_, _, _, rfl, rfl, hd rfl, Or.inl ⟨rfl, rfl, rfl⟩⟩,
  ⟨fun hd => mk19 mt_668 cf_668 (vf_668_38.rt (Or.inl W5268) (hd rfl)) rfl rfl (noH_nil rfl),
  ⟨fun hd => mk18 mt_381 sf_381 (Or.inl W4952) rfl rfl (noH_nil rfl) (hd rfl),
  ⟨fun hd => ⟨_, _, _, rfl, rfl, hd rfl, Or.inl ⟨rfl, rfl, rfl⟩⟩,
  ⟨fun hd => mk19 mt_710 cf_710 (vf_710_38.rt (Or.inl W5269) (hd rfl)) rfl rfl (noH_nil rfl),
  ⟨fun hd => ⟨_, _, _, rfl, rfl, hd rfl, Or.inl ⟨rfl, rfl, rfl⟩⟩,
  ⟨fun hd => ⟨_, _, _, rfl, rfl, hd rfl, Or.inl ⟨rfl, rfl, rfl⟩⟩,
  ⟨fun hd => ⟨_, _, _, rfl, rfl, hd rfl, Or.inl ⟨rfl, rfl, rfl⟩⟩,
  ⟨fun hd => ⟨_, _, _, rfl, rfl, hd rfl, Or.inl ⟨rfl, rfl, rfl⟩⟩,
  ⟨fun hd => mk6 fld_38_20 (Or.inl ⟨rfl, by decide⟩) (Or.inl W4423) (Or.inl rfl) (hd rfl),
  trivial⟩⟩⟩⟩⟩⟩⟩⟩⟩⟩⟩⟩⟩⟩⟩⟩⟩⟩⟩⟩⟩⟩⟩⟩⟩⟩⟩⟩⟩⟩
def fl_429_1 : List Ent := [(199, 3, 18, .invokestatic 262, [0, 1, 1, 381], 0), (202, 1, 9, .iastore, [0, 100], 0), (207, 3, 18, .invokestatic 380, [0, 1, 1, 425], 0), (210, 1, 9, .iastore, [0, 100], 0)]
theorem fb_429_1 : FB mi iT mi_429 (bpc code_429) (fl_429_1) := ⟨fun hd => mk18 mt_381 sf_381 (Or.inl W4952) rfl rfl (noH_nil rfl) (hd rfl),
  ⟨fun hd => ⟨_, _, _, rfl, rfl, hd rfl, Or.inl ⟨rfl, rfl, rfl⟩⟩,
  ⟨fun hd => mk18 mt_425 sf_425 (Or.inl W5270) rfl rfl (noH_nil rfl) (hd rfl),
  ⟨fun hd => ⟨_, _, _, rfl, rfl, hd rfl, Or.inl ⟨rfl, rfl, rfl⟩⟩,
  trivial⟩⟩⟩⟩
theorem fe_429 : eqEs ((flat code_429).filter (fun e => ndE e.2.2.1)) (fl_429_0 ++ (fl_429_1)) = true := by decide +kernel
theorem om_429 : OKm mi iT prg 429 := OKm_of (code := code_429) rfl mt_429 (Or.inl (by decide +kernel)) rfl wk_429 (by decide +kernel) (by decide +kernel) (FA_of fe_429 (FB_app fb_429_0 (fb_429_1)))
def fl_430_0 : List Ent := [(3, 3, 19, .invokevirtual 75, [0, 2, 2, 37, 366], 0), (7, 3, 19, .invokevirtual 104, [0, 3, 3, 37, 363], 0), (17, 3, 18, .invokestatic 71, [0, 3, 3, 362], 0), (29, 3, 19, .invokevirtual 63, [0, 3, 3, 37, 364], 0), (37, 3, 6, .getfield 25, [3, 37, 195], 0), (41, 3, 19, .invokevirtual 114, [3, 2, 2, 5, 6], 0), (44, 3, 17, .checkcast 96, [38], 0), (47, 3, 6, .getfield 356, [0, 38, 228], 0), (59, 3, 19, .invokevirtual 63, [0, 3, 3, 37, 364], 0), (71, 3, 6, .getfield 25, [3, 37, 195], 0), (75, 3, 19, .invokevirtual 114, [3, 2, 2, 5, 6], 0), (78, 3, 17, .checkcast 96, [38], 0), (82, 3, 19, .invokevirtual 392, [0, 3, 3, 37, 431], 0)]
theorem fb_430_0 : FB mi iT mi_430 (bpc code_430) (fl_430_0) := ⟨fun hd => mk19 mt_366 cf_366 (vf_366_37.rt (Or.inl W4542) (hd rfl)) rfl rfl (noH_nil rfl),
  ⟨fun hd => mk19 mt_363 cf_363 (vf_363_37.rt (Or.inl W4356) (hd rfl)) rfl rfl (noH_nil rfl),
  ⟨fun hd => mk18 mt_362 sf_362 (Or.inl W4353) rfl rfl (noH_nil rfl) (hd rfl),
  ⟨fun hd => mk19 mt_364 cf_364 (vf_364_37.rt (Or.inl W4360) (hd rfl)) rfl rfl (noH_nil rfl),
  ⟨fun hd => mk6 fld_37_1 (Or.inl ⟨rfl, by decide⟩) (Or.inl W4283) (Or.inl rfl) (hd rfl),
  ⟨fun hd => mk19 mt_6 cf_6 (vf_6_5.rt (Or.inl W4546) (hd rfl)) rfl rfl (noH_nil rfl),
  ⟨fun hd => mk17 kx_38 W4365 (hd rfl),
  ⟨fun hd => mk6 fld_38_16 (Or.inr ⟨rfl, Or.inl rfl⟩) (Or.inl W4412) (Or.inl rfl) (hd rfl),
  ⟨fun hd => mk19 mt_364 cf_364 (vf_364_37.rt (Or.inl W4360) (hd rfl)) rfl rfl (noH_nil rfl),
  ⟨fun hd => mk6 fld_37_1 (Or.inl ⟨rfl, by decide⟩) (Or.inl W4283) (Or.inl rfl) (hd rfl),
  ⟨fun hd => mk19 mt_6 cf_6 (vf_6_5.rt (Or.inl W4546) (hd rfl)) rfl rfl (noH_nil rfl),
  ⟨fun hd => mk17 kx_38 W4365 (hd rfl),
  ⟨fun hd => mk19 mt_431 cf_431 (vf_431_37.rt (Or.inl W5275) (hd rfl)) rfl rfl (noH_nil rfl),
  trivial⟩⟩⟩⟩⟩⟩⟩⟩⟩⟩⟩⟩⟩
theorem fe_430 : eqEs ((flat code_430).filter (fun e => ndE e.2.2.1)) (fl_430_0) = true := by decide +kernel
theorem om_430 : OKm mi iT prg 430 := OKm_of (code := code_430) rfl mt_430 (Or.inl (by decide +kernel)) rfl wk_430 (by decide +kernel) (by decide +kernel) (FA_of fe_430 (fb_430_0))
def fl_431_0 : List Ent := [(5, 3, 19, .invokevirtual 383, [0, 1, 1, 38, 711], 0), (17, 3, 19, .invokevirtual 277, [0, 1, 1, 38, 692], 0), (29, 3, 19, .invokevirtual 386, [0, 1, 1, 38, 712], 0), (36, 3, 19, .invokevirtual 389, [0, 1, 1, 38, 713], 0)]
theorem fb_431_0 : FB mi iT mi_431 (bpc code_431) (fl_431_0) := ⟨fun hd => mk19 mt_711 cf_711 (vf_711_38.rt (Or.inl W5279) (hd rfl)) rfl rfl (noH_nil rfl),
  ⟨fun hd => mk19 mt_692 cf_692 (vf_692_38.rt (Or.inl W5008) (hd rfl)) rfl rfl (noH_nil rfl),
  ⟨fun hd => mk19 mt_712 cf_712 (vf_712_38.rt (Or.inl W5284) (hd rfl)) rfl rfl (noH_nil rfl),
  ⟨fun hd => mk19 mt_713 cf_713 (vf_713_38.rt (Or.inl W5288) (hd rfl)) rfl rfl (noH_nil rfl),
  trivial⟩⟩⟩⟩
theorem fe_431 : eqEs ((flat code_431).filter (fun e => ndE e.2.2.1)) (fl_431_0) = true := by decide +kernel
theorem om_431 : OKm mi iT prg 431 := OKm_of (code := code_431) rfl mt_431 (Or.inl (by decide +kernel)) rfl wk_431 (by decide +kernel) (by decide +kernel) (FA_of fe_431 (fb_431_0))
def fl_432_0 : List Ent := [(5, 3, 18, .invokestatic 71, [0, 3, 3, 362], 0), (17, 3, 19, .invokevirtual 104, [0, 3, 3, 37, 363], 0), (29, 3, 19, .invokevirtual 407, [0, 2, 2, 37, 433], 0)]
theorem fb_432_0 : FB mi iT mi_432 (bpc code_432) (fl_432_0) := ⟨fun hd => mk18 mt_362 sf_362 (Or.inl W4353) rfl rfl (noH_nil rfl) (hd rfl),
  ⟨fun hd => mk19 mt_363 cf_363 (vf_363_37.rt (Or.inl W4356) (hd rfl)) rfl rfl (noH_nil rfl),
  ⟨fun hd => mk19 mt_433 cf_433 (vf_433_37.rt (Or.inl W5296) (hd rfl)) rfl rfl (noH_nil rfl),
  trivial⟩⟩⟩
theorem fe_432 : eqEs ((flat code_432).filter (fun e => ndE e.2.2.1)) (fl_432_0) = true := by decide +kernel
theorem om_432 : OKm mi iT prg 432 := OKm_of (code := code_432) rfl mt_432 (Or.inl (by decide +kernel)) rfl wk_432 (by decide +kernel) (by decide +kernel) (FA_of fe_432 (fb_432_0))
def fl_433_0 : List Ent := [(2, 2, 12, .newarray .int, [100], 0), (7, 3, 6, .getfield 79, [0, 37, 196], 0), (10, 1, 9, .iastore, [0, 100], 0), (14, 3, 6, .getfield 29, [0, 37, 197], 0), (17, 1, 9, .iastore, [0, 100], 0), (21, 3, 6, .getfield 79, [0, 37, 196], 0), (24, 3, 18, .invokestatic 307, [0, 1, 1, 411], 0), (27, 1, 9, .iastore, [0, 100], 0), (31, 3, 6, .getfield 395, [0, 37, 198], 0), (34, 1, 9, .iastore, [0, 100], 0), (38, 3, 6, .getfield 33, [3, 37, 202], 0), (43, 1, 9, .iastore, [0, 100], 0), (47, 3, 6, .getfield 33, [3, 37, 202], 0), (52, 1, 9, .iastore, [0, 100], 0), (57, 3, 6, .getfield 33, [3, 37, 202], 0), (62, 1, 9, .iastore, [0, 100], 0), (67, 3, 6, .getfield 25, [3, 37, 195], 0), (70, 3, 19, .invokevirtual 67, [0, 1, 1, 5, 5], 0), (73, 1, 9, .iastore, [0, 100], 0), (78, 3, 6, .getfield 36, [3, 37, 203], 0), (81, 3, 19, .invokevirtual 67, [0, 1, 1, 5, 5], 0), (84, 1, 9, .iastore, [0, 100], 0), (89, 3, 6, .getfield 42, [3, 37, 205], 0), (92, 3, 19, .invokevirtual 67, [0, 1, 1, 5, 5], 0), (95, 1, 9, .iastore, [0, 100], 0), (100, 3, 6, .getfield 39, [3, 37, 204], 0), (103, 3, 19, .invokevirtual 67, [0, 1, 1, 5, 5], 0), (106, 1, 9, .iastore, [0, 100], 0), (111, 3, 6, .getfield 398, [0, 37, 199], 0), (114, 1, 9, .iastore, [0, 100], 0)]
theorem fb_433_0 : FB mi iT mi_433 (bpc code_433) (fl_433_0) := ⟨fun hd => mk12a (at_ := .int) (by decide) rfl W239 (hd rfl),
  ⟨fun hd => mk6 fld_37_2 (Or.inl ⟨rfl, by decide⟩) (Or.inl W4284) (Or.inl rfl) (hd rfl),
  ⟨fun hd => ⟨_, _, _, rfl, rfl, hd rfl, Or.inl ⟨rfl, rfl, rfl⟩⟩,
  ⟨fun hd => mk6 fld_37_3 (Or.inl ⟨rfl, by decide⟩) (Or.inl W4286) (Or.inl rfl) (hd rfl),
  ⟨fun hd => ⟨_, _, _, rfl, rfl, hd rfl, Or.inl ⟨rfl, rfl, rfl⟩⟩,
  ⟨fun hd => mk6 fld_37_2 (Or.inl ⟨rfl, by decide⟩) (Or.inl W4284) (Or.inl rfl) (hd rfl),
  ⟨fun hd => mk18 mt_411 sf_411 (Or.inl W5060) rfl rfl (noH_nil rfl) (hd rfl),
  ⟨fun hd => ⟨_, _, _, rfl, rfl, hd rfl, Or.inl ⟨rfl, rfl, rfl⟩⟩,
  ⟨fun hd => mk6 fld_37_4 (Or.inl ⟨rfl, by decide⟩) (Or.inl W4289) (Or.inl rfl) (hd rfl),
  ⟨fun hd => ⟨_, _, _, rfl, rfl, hd rfl, Or.inl ⟨rfl, rfl, rfl⟩⟩,
  ⟨fun hd => mk6 fld_37_8 (Or.inl ⟨rfl, by decide⟩) (Or.inl W4297) (Or.inl rfl) (hd rfl),
  ⟨fun hd => ⟨_, _, _, rfl, rfl, hd rfl, Or.inl ⟨rfl, rfl, rfl⟩⟩,
  ⟨fun hd => mk6 fld_37_8 (Or.inl ⟨rfl, by decide⟩) (Or.inl W4297) (Or.inl rfl) (hd rfl),
  ⟨fun hd => ⟨_, _, _, rfl, rfl, hd rfl, Or.inl ⟨rfl, rfl, rfl⟩⟩,
  ⟨fun hd => mk6 fld_37_8 (Or.inl ⟨rfl, by decide⟩) (Or.inl W4297) (Or.inl rfl) (hd rfl),
  ⟨fun hd => ⟨_, _, _, rfl, rfl, hd rfl, Or.inl ⟨rfl, rfl, rfl⟩⟩,
  ⟨fun hd => mk6 fld_37_1 (Or.inl ⟨rfl, by decide⟩) (Or.inl W4283) (Or.inl rfl) (hd rfl),
  ⟨fun hd => mk19 mt_5 cf_5 (vf_5_5.rt (Or.inl W4364) (hd rfl)) rfl rfl (noH_nil rfl),
  ⟨fun hd => ⟨_, _, _, rfl, rfl, hd rfl, Or.inl ⟨rfl, rfl, rfl⟩⟩,
  ⟨fun hd => mk6 fld_37_9 (Or.inl ⟨rfl, by decide⟩) (Or.inl W4298) (Or.inl rfl) (hd rfl),
  ⟨fun hd => mk19 mt_5 cf_5 (vf_5_5.rt (Or.inl W4364) (hd rfl)) rfl rfl (noH_nil rfl),
  ⟨fun hd => ⟨_, _, _, rfl, rfl, hd rfl, Or.inl ⟨rfl, rfl, rfl⟩⟩,
  ⟨fun hd => mk6 fld_37_11 (Or.inl ⟨rfl, by decide⟩) (Or.inl W4300) (Or.inl rfl) (hd rfl),
  ⟨fun hd => mk19 mt_5 cf_5 (vf_5_5.rt (Or.inl W4364) (hd rfl)) rfl rfl (noH_nil rfl),
  ⟨fun hd => ⟨_, _, _, rfl, rfl, hd rfl, Or.inl ⟨rfl, rfl, rfl⟩⟩,
  ⟨fun hd => mk6 fld_37_10 (Or.inl ⟨rfl, by decide⟩) (Or.inl W4299) (Or.inl rfl) (hd rfl),
  ⟨fun hd => mk19 mt_5 cf_5 (vf_5_5.rt (Or.inl W4364) (hd rfl)) rfl rfl (noH_nil rfl),
  ⟨fun hd => ⟨_, _, _, rfl, rfl, hd rfl, Or.inl ⟨rfl, rfl, rfl⟩⟩,
  ⟨fun hd => mk6 fld_37_5 (Or.inl ⟨rfl, by decide⟩) (Or.inl W4291) (Or.inl rfl) (hd rfl),
  ⟨fun hd => ⟨_, _, _, rfl, rfl, hd rfl, Or.inl ⟨rfl, rfl, rfl⟩⟩,
  trivial⟩⟩⟩⟩⟩⟩⟩⟩⟩⟩⟩⟩⟩⟩⟩⟩⟩⟩⟩⟩⟩⟩⟩⟩⟩⟩⟩⟩⟩⟩
def fl_433_1 : List Ent := [(119, 3, 6, .getfield 401, [0, 37, 200], 0), (122, 1, 9, .iastore, [0, 100], 0), (127, 3, 6, .getfield 404, [0, 37, 201], 0), (130, 1, 9, .iastore, [0, 100], 0)]
theorem fb_433_1 : FB mi iT mi_433 (bpc code_433) (fl_433_1) := ⟨fun hd => mk6 fld_37_6 (Or.inl ⟨rfl, by decide⟩) (Or.inl W4293) (Or.inl rfl) (hd rfl),
  ⟨fun hd => ⟨_, _, _, rfl, rfl, hd rfl, Or.inl ⟨rfl, rfl, rfl⟩⟩,
  ⟨fun hd => mk6 fld_37_7 (Or.inl ⟨rfl, by decide⟩) (Or.inl W4295) (Or.inl rfl) (hd rfl),
  ⟨fun hd => ⟨_, _, _, rfl, rfl, hd rfl, Or.inl ⟨rfl, rfl, rfl⟩⟩,
  trivial⟩⟩⟩⟩
theorem fe_433 : eqEs ((flat code_433).filter (fun e => ndE e.2.2.1)) (fl_433_0 ++ (fl_433_1)) = true := by decide +kernel
theorem om_433 : OKm mi iT prg 433 := OKm_of (code := code_433) rfl mt_433 (Or.inl (by decide +kernel)) rfl wk_433 (by decide +kernel) (by decide +kernel) (FA_of fe_433 (FB_app fb_433_0 (fb_433_1)))
def fl_434_0 : List Ent := [(3, 3, 19, .invokevirtual 75, [0, 2, 2, 37, 366], 0), (7, 3, 19, .invokevirtual 104, [0, 3, 3, 37, 363], 0), (17, 3, 18, .invokestatic 71, [0, 3, 3, 362], 0), (29, 3, 19, .invokevirtual 63, [0, 3, 3, 37, 364], 0), (37, 3, 6, .getfield 25, [3, 37, 195], 0), (41, 3, 19, .invokevirtual 114, [3, 2, 2, 5, 6], 0), (44, 3, 17, .checkcast 96, [38], 0), (47, 3, 6, .getfield 356, [0, 38, 228], 0), (59, 3, 19, .invokevirtual 63, [0, 3, 3, 37, 364], 0), (67, 3, 11, .new 338, [39, 6], 0), (73, 3, 36, .invokespecial 340, [9, 3, 3, 39, 741], 0), (88, 3, 6, .getfield 410, [3, 39, 250], 0), (100, 3, 6, .getfield 410, [3, 39, 250], 0), (108, 1, 9, .iastore, [0, 100], 0), (116, 3, 6, .getfield 29, [0, 37, 197], 0), (133, 3, 19, .invokevirtual 412, [0, 2, 2, 39, 748], 0), (144, 3, 18, .invokestatic 325, [0, 1, 1, 420], 0), (153, 3, 19, .invokevirtual 343, [9, 3, 3, 39, 742], 0)]
theorem fb_434_0 : FB mi iT mi_434 (bpc code_434) (fl_434_0) := ⟨fun hd => mk19 mt_366 cf_366 (vf_366_37.rt (Or.inl W4542) (hd rfl)) rfl rfl (noH_nil rfl),
  ⟨fun hd => mk19 mt_363 cf_363 (vf_363_37.rt (Or.inl W4356) (hd rfl)) rfl rfl (noH_nil rfl),
  ⟨fun hd => mk18 mt_362 sf_362 (Or.inl W4353) rfl rfl (noH_nil rfl) (hd rfl),
  ⟨fun hd => mk19 mt_364 cf_364 (vf_364_37.rt (Or.inl W4360) (hd rfl)) rfl rfl (noH_nil rfl),
  ⟨fun hd => mk6 fld_37_1 (Or.inl ⟨rfl, by decide⟩) (Or.inl W4283) (Or.inl rfl) (hd rfl),
  ⟨fun hd => mk19 mt_6 cf_6 (vf_6_5.rt (Or.inl W4546) (hd rfl)) rfl rfl (noH_nil rfl),
  ⟨fun hd => mk17 kx_38 W4365 (hd rfl),
  ⟨fun hd => mk6 fld_38_16 (Or.inr ⟨rfl, Or.inl rfl⟩) (Or.inl W4412) (Or.inl rfl) (hd rfl),
  ⟨fun hd => mk19 mt_364 cf_364 (vf_364_37.rt (Or.inl W4360) (hd rfl)) rfl rfl (noH_nil rfl),
  ⟨fun hd => mk11 nf_39 W5103 (hd rfl),
  ⟨fun hd => mk36 mt_741 cf_741 (ic_741.rt (Or.inl W5105) (hd rfl)) rfl rfl,
  ⟨fun hd => mk6 fld_39_1 (Or.inl ⟨rfl, by decide⟩) (Or.inr ⟨_, W5119⟩) (Or.inl rfl) (hd rfl),
  ⟨fun hd => mk6 fld_39_1 (Or.inl ⟨rfl, by decide⟩) (Or.inr ⟨_, W5119⟩) (Or.inl rfl) (hd rfl),
  ⟨fun hd => ⟨_, _, _, rfl, rfl, hd rfl, Or.inl ⟨rfl, rfl, rfl⟩⟩,
  ⟨fun hd => mk6 fld_37_3 (Or.inl ⟨rfl, by decide⟩) (Or.inl W4286) (Or.inl rfl) (hd rfl),
  ⟨fun hd => mk19 mt_748 cf_748 (vf_748_39.rt (Or.inl W5304) (hd rfl)) rfl rfl (noH_nil rfl),
  ⟨fun hd => mk18 mt_420 sf_420 (Or.inl W5083) rfl rfl (noH_nil rfl) (hd rfl),
  ⟨fun hd => mk19 mt_742 cf_742 (vf_742_39.rt (Or.inl W5137) (hd rfl)) rfl rfl (noH_nil rfl),
  trivial⟩⟩⟩⟩⟩⟩⟩⟩⟩⟩⟩⟩⟩⟩⟩⟩⟩⟩
theorem fe_434 : eqEs ((flat code_434).filter (fun e => ndE e.2.2.1)) (fl_434_0) = true := by decide +kernel
theorem om_434 : OKm mi iT prg 434 := OKm_of (code := code_434) rfl mt_434 (Or.inl (by decide +kernel)) rfl wk_434 (by decide +kernel) (by decide +kernel) (FA_of fe_434 (fb_434_0))
def fl_435_0 : List Ent := [(3, 3, 19, .invokevirtual 75, [0, 2, 2, 37, 366], 0), (7, 3, 19, .invokevirtual 104, [0, 3, 3, 37, 363], 0), (18, 3, 18, .invokestatic 71, [0, 3, 3, 362], 0), (30, 3, 19, .invokevirtual 63, [0, 3, 3, 37, 364], 0), (38, 3, 6, .getfield 25, [3, 37, 195], 0), (42, 3, 19, .invokevirtual 114, [3, 2, 2, 5, 6], 0), (45, 3, 17, .checkcast 96, [38], 0), (48, 3, 6, .getfield 118, [0, 38, 217], 0), (60, 3, 19, .invokevirtual 63, [0, 3, 3, 37, 364], 0), (69, 3, 6, .getfield 25, [3, 37, 195], 0), (73, 3, 19, .invokevirtual 114, [3, 2, 2, 5, 6], 0), (76, 3, 17, .checkcast 96, [38], 0), (79, 3, 6, .getfield 413, [0, 38, 233], 0), (84, 3, 6, .getfield 25, [3, 37, 195], 0), (88, 3, 19, .invokevirtual 114, [3, 2, 2, 5, 6], 0), (91, 3, 17, .checkcast 96, [38], 0), (95, 3, 7, .putfield 413, [0, 38, 233], 0)]
theorem fb_435_0 : FB mi iT mi_435 (bpc code_435) (fl_435_0) := ⟨fun hd => mk19 mt_366 cf_366 (vf_366_37.rt (Or.inl W4542) (hd rfl)) rfl rfl (noH_nil rfl),
  ⟨fun hd => mk19 mt_363 cf_363 (vf_363_37.rt (Or.inl W4356) (hd rfl)) rfl rfl (noH_nil rfl),
  ⟨fun hd => mk18 mt_362 sf_362 (Or.inl W4353) rfl rfl (noH_nil rfl) (hd rfl),
  ⟨fun hd => mk19 mt_364 cf_364 (vf_364_37.rt (Or.inl W4360) (hd rfl)) rfl rfl (noH_nil rfl),
  ⟨fun hd => mk6 fld_37_1 (Or.inl ⟨rfl, by decide⟩) (Or.inl W4283) (Or.inl rfl) (hd rfl),
  ⟨fun hd => mk19 mt_6 cf_6 (vf_6_5.rt (Or.inl W4546) (hd rfl)) rfl rfl (noH_nil rfl),
  ⟨fun hd => mk17 kx_38 W4365 (hd rfl),
  ⟨fun hd => mk6 fld_38_5 (Or.inl ⟨rfl, by decide⟩) (Or.inl W4387) (Or.inl rfl) (hd rfl),
  ⟨fun hd => mk19 mt_364 cf_364 (vf_364_37.rt (Or.inl W4360) (hd rfl)) rfl rfl (noH_nil rfl),
  ⟨fun hd => mk6 fld_37_1 (Or.inl ⟨rfl, by decide⟩) (Or.inl W4283) (Or.inl rfl) (hd rfl),
  ⟨fun hd => mk19 mt_6 cf_6 (vf_6_5.rt (Or.inl W4546) (hd rfl)) rfl rfl (noH_nil rfl),
  ⟨fun hd => mk17 kx_38 W4365 (hd rfl),
  ⟨fun hd => mk6 fld_38_21 (Or.inl ⟨rfl, by decide⟩) (Or.inl W4425) (Or.inl rfl) (hd rfl),
  ⟨fun hd => mk6 fld_37_1 (Or.inl ⟨rfl, by decide⟩) (Or.inl W4283) (Or.inl rfl) (hd rfl),
  ⟨fun hd => mk19 mt_6 cf_6 (vf_6_5.rt (Or.inl W4546) (hd rfl)) rfl rfl (noH_nil rfl),
  ⟨fun hd => mk17 kx_38 W4365 (hd rfl),
  ⟨fun hd => mk7 fld_38_21 (Or.inl W4425) (Or.inl rfl) (Or.inl rfl) (hd rfl),
  trivial⟩⟩⟩⟩⟩⟩⟩⟩⟩⟩⟩⟩⟩⟩⟩⟩⟩
theorem fe_435 : eqEs ((flat code_435).filter (fun e => ndE e.2.2.1)) (fl_435_0) = true := by decide +kernel
theorem om_435 : OKm mi iT prg 435 := OKm_of (code := code_435) rfl mt_435 (Or.inl (by decide +kernel)) rfl wk_435 (by decide +kernel) (by decide +kernel) (FA_of fe_435 (fb_435_0))
def fl_436_0 : List Ent := [(3, 3, 19, .invokevirtual 75, [0, 2, 2, 37, 366], 0), (13, 3, 18, .invokestatic 71, [0, 3, 3, 362], 0), (23, 3, 18, .invokestatic 71, [0, 3, 3, 362], 0), (35, 3, 19, .invokevirtual 104, [0, 3, 3, 37, 363], 0), (52, 3, 18, .invokestatic 71, [0, 3, 3, 362], 0), (64, 3, 19, .invokevirtual 63, [0, 3, 3, 37, 364], 0), (72, 3, 6, .getfield 25, [3, 37, 195], 0), (76, 3, 19, .invokevirtual 114, [3, 2, 2, 5, 6], 0), (79, 3, 17, .checkcast 96, [38], 0), (82, 3, 19, .invokevirtual 156, [0, 1, 1, 38, 661], 0), (89, 3, 6, .getfield 25, [3, 37, 195], 0), (93, 3, 19, .invokevirtual 114, [3, 2, 2, 5, 6], 0), (96, 3, 17, .checkcast 96, [38], 0), (99, 3, 6, .getfield 416, [3, 38, 234], 0), (102, 3, 19, .invokevirtual 67, [0, 1, 1, 5, 5], 0), (116, 3, 19, .invokevirtual 63, [0, 3, 3, 37, 364], 0), (125, 3, 6, .getfield 25, [3, 37, 195], 0), (129, 3, 19, .invokevirtual 114, [3, 2, 2, 5, 6], 0), (132, 3, 17, .checkcast 96, [38], 0), (135, 3, 6, .getfield 416, [3, 38, 234], 0), (139, 2, 12, .newarray .int, [100], 0), (144, 1, 9, .iastore, [0, 100], 0), (148, 1, 9, .iastore, [0, 100], 0), (153, 1, 9, .iastore, [0, 100], 0), (157, 1, 9, .iastore, [0, 100], 0), (161, 1, 9, .iastore, [0, 100], 0), (162, 3, 19, .invokevirtual 110, [0, 2, 2, 5, 8], 0), (167, 3, 6, .getfield 25, [3, 37, 195], 0), (171, 3, 19, .invokevirtual 114, [3, 2, 2, 5, 6], 0), (174, 3, 17, .checkcast 96, [38], 0)]
theorem fb_436_0 : FB mi iT mi_436 (bpc code_436) (fl_436_0) := ⟨fun hd => mk19 mt_366 cf_366 (vf_366_37.rt (Or.inl W4542) (hd rfl)) rfl rfl (noH_nil rfl),
  ⟨fun hd => mk18 mt_362 sf_362 (Or.inl W4353) rfl rfl (noH_nil rfl) (hd rfl),
  ⟨fun hd => mk18 mt_362 sf_362 (Or.inl W4353) rfl rfl (noH_nil rfl) (hd rfl),
  ⟨fun hd => mk19 mt_363 cf_363 (vf_363_37.rt (Or.inl W4356) (hd rfl)) rfl rfl (noH_nil rfl),
  ⟨fun hd => mk18 mt_362 sf_362 (Or.inl W4353) rfl rfl (noH_nil rfl) (hd rfl),
  ⟨fun hd => mk19 mt_364 cf_364 (vf_364_37.rt (Or.inl W4360) (hd rfl)) rfl rfl (noH_nil rfl),
  ⟨fun hd => mk6 fld_37_1 (Or.inl ⟨rfl, by decide⟩) (Or.inl W4283) (Or.inl rfl) (hd rfl),
  ⟨fun hd => mk19 mt_6 cf_6 (vf_6_5.rt (Or.inl W4546) (hd rfl)) rfl rfl (noH_nil rfl),
  ⟨fun hd => mk17 kx_38 W4365 (hd rfl),
  ⟨fun hd => mk19 mt_661 cf_661 (vf_661_38.rt (Or.inl W4646) (hd rfl)) rfl rfl (noH_nil rfl),
  ⟨fun hd => mk6 fld_37_1 (Or.inl ⟨rfl, by decide⟩) (Or.inl W4283) (Or.inl rfl) (hd rfl),
  ⟨fun hd => mk19 mt_6 cf_6 (vf_6_5.rt (Or.inl W4546) (hd rfl)) rfl rfl (noH_nil rfl),
  ⟨fun hd => mk17 kx_38 W4365 (hd rfl),
  ⟨fun hd => mk6 fld_38_22 (Or.inl ⟨rfl, by decide⟩) (Or.inl W4427) (Or.inl rfl) (hd rfl),
  ⟨fun hd => mk19 mt_5 cf_5 (vf_5_5.rt (Or.inl W4364) (hd rfl)) rfl rfl (noH_nil rfl),
  ⟨fun hd => mk19 mt_364 cf_364 (vf_364_37.rt (Or.inl W4360) (hd rfl)) rfl rfl (noH_nil rfl),
  ⟨fun hd => mk6 fld_37_1 (Or.inl ⟨rfl, by decide⟩) (Or.inl W4283) (Or.inl rfl) (hd rfl),
  ⟨fun hd => mk19 mt_6 cf_6 (vf_6_5.rt (Or.inl W4546) (hd rfl)) rfl rfl (noH_nil rfl),
  ⟨fun hd => mk17 kx_38 W4365 (hd rfl),
  ⟨fun hd => mk6 fld_38_22 (Or.inl ⟨rfl, by decide⟩) (Or.inl W4427) (Or.inl rfl) (hd rfl),
  ⟨fun hd => mk12a (at_ := .int) (by decide) rfl W239 (hd rfl),
  ⟨fun hd => ⟨_, _, _, rfl, rfl, hd rfl, Or.inl ⟨rfl, rfl, rfl⟩⟩,
  ⟨fun hd => ⟨_, _, _, rfl, rfl, hd rfl, Or.inl ⟨rfl, rfl, rfl⟩⟩,
  ⟨fun hd => ⟨_, _, _, rfl, rfl, hd rfl, Or.inl ⟨rfl, rfl, rfl⟩⟩,
  ⟨fun hd => ⟨_, _, _, rfl, rfl, hd rfl, Or.inl ⟨rfl, rfl, rfl⟩⟩,
  ⟨fun hd => ⟨_, _, _, rfl, rfl, hd rfl, Or.inl ⟨rfl, rfl, rfl⟩⟩,
  ⟨fun hd => mk19 mt_8 cf_8 (vf_8_5.rt (Or.inl W4537) (hd rfl)) rfl rfl (noH_nil rfl),
  ⟨fun hd => mk6 fld_37_1 (Or.inl ⟨rfl, by decide⟩) (Or.inl W4283) (Or.inl rfl) (hd rfl),
  ⟨fun hd => mk19 mt_6 cf_6 (vf_6_5.rt (Or.inl W4546) (hd rfl)) rfl rfl (noH_nil rfl),
  ⟨fun hd => mk17 kx_38 W4365 (hd rfl),
  trivial⟩⟩⟩⟩⟩⟩⟩⟩⟩⟩⟩⟩⟩⟩⟩⟩⟩⟩⟩⟩⟩⟩⟩⟩⟩⟩⟩⟩⟩⟩
def fl_436_1 : List Ent := [(177, 3, 6, .getfield 416, [3, 38, 234], 0), (180, 3, 19, .invokevirtual 67, [0, 1, 1, 5, 5], 0)]
theorem fb_436_1 : FB mi iT mi_436 (bpc code_436) (fl_436_1) := ⟨fun hd => mk6 fld_38_22 (Or.inl ⟨rfl, by decide⟩) (Or.inl W4427) (Or.inl rfl) (hd rfl),
  ⟨fun hd => mk19 mt_5 cf_5 (vf_5_5.rt (Or.inl W4364) (hd rfl)) rfl rfl (noH_nil rfl),
  trivial⟩⟩
theorem fe_436 : eqEs ((flat code_436).filter (fun e => ndE e.2.2.1)) (fl_436_0 ++ (fl_436_1)) = true := by decide +kernel
theorem om_436 : OKm mi iT prg 436 := OKm_of (code := code_436) rfl mt_436 (Or.inl (by decide +kernel)) rfl wk_436 (by decide +kernel) (by decide +kernel) (FA_of fe_436 (FB_app fb_436_0 (fb_436_1)))
def fl_437_0 : List Ent := [(3, 3, 19, .invokevirtual 75, [0, 2, 2, 37, 366], 0), (7, 3, 19, .invokevirtual 104, [0, 3, 3, 37, 363], 0), (18, 3, 18, .invokestatic 71, [0, 3, 3, 362], 0), (30, 3, 19, .invokevirtual 63, [0, 3, 3, 37, 364], 0), (38, 3, 6, .getfield 25, [3, 37, 195], 0), (42, 3, 19, .invokevirtual 114, [3, 2, 2, 5, 6], 0), (45, 3, 17, .checkcast 96, [38], 0), (48, 3, 19, .invokevirtual 156, [0, 1, 1, 38, 661], 0), (52, 3, 19, .invokevirtual 63, [0, 3, 3, 37, 364], 0), (61, 3, 6, .getfield 25, [3, 37, 195], 0), (65, 3, 19, .invokevirtual 114, [3, 2, 2, 5, 6], 0), (68, 3, 17, .checkcast 96, [38], 0), (71, 3, 6, .getfield 416, [3, 38, 234], 0), (76, 3, 19, .invokevirtual 67, [0, 1, 1, 5, 5], 0), (83, 3, 12, .anewarray 210, [109], 0), (89, 2, 12, .newarray .int, [100], 0), (94, 1, 9, .iastore, [0, 100], 0), (98, 1, 9, .iastore, [0, 100], 0), (99, 1, 9, .aastore, [3, 109, 100], 0), (103, 2, 12, .newarray .int, [100], 0), (108, 1, 9, .iastore, [0, 100], 0), (113, 1, 9, .iastore, [0, 100], 0), (114, 1, 9, .aastore, [3, 109, 100], 0), (118, 2, 12, .newarray .int, [100], 0), (123, 1, 9, .iastore, [0, 100], 0), (127, 1, 9, .iastore, [0, 100], 0), (128, 1, 9, .aastore, [3, 109, 100], 0), (132, 2, 12, .newarray .int, [100], 0), (137, 1, 9, .iastore, [0, 100], 0), (142, 1, 9, .iastore, [0, 100], 0)]
theorem fb_437_0 : FB mi iT mi_437 (bpc code_437) (fl_437_0) := ⟨fun hd => mk19 mt_366 cf_366 (vf_366_37.rt (Or.inl W4542) (hd rfl)) rfl rfl (noH_nil rfl),
  ⟨fun hd => mk19 mt_363 cf_363 (vf_363_37.rt (Or.inl W4356) (hd rfl)) rfl rfl (noH_nil rfl),
  ⟨fun hd => mk18 mt_362 sf_362 (Or.inl W4353) rfl rfl (noH_nil rfl) (hd rfl),
  ⟨fun hd => mk19 mt_364 cf_364 (vf_364_37.rt (Or.inl W4360) (hd rfl)) rfl rfl (noH_nil rfl),
  ⟨fun hd => mk6 fld_37_1 (Or.inl ⟨rfl, by decide⟩) (Or.inl W4283) (Or.inl rfl) (hd rfl),
  ⟨fun hd => mk19 mt_6 cf_6 (vf_6_5.rt (Or.inl W4546) (hd rfl)) rfl rfl (noH_nil rfl),
  ⟨fun hd => mk17 kx_38 W4365 (hd rfl),
  ⟨fun hd => mk19 mt_661 cf_661 (vf_661_38.rt (Or.inl W4646) (hd rfl)) rfl rfl (noH_nil rfl),
  ⟨fun hd => mk19 mt_364 cf_364 (vf_364_37.rt (Or.inl W4360) (hd rfl)) rfl rfl (noH_nil rfl),
  ⟨fun hd => mk6 fld_37_1 (Or.inl ⟨rfl, by decide⟩) (Or.inl W4283) (Or.inl rfl) (hd rfl),
  ⟨fun hd => mk19 mt_6 cf_6 (vf_6_5.rt (Or.inl W4546) (hd rfl)) rfl rfl (noH_nil rfl),
  ⟨fun hd => mk17 kx_38 W4365 (hd rfl),
  ⟨fun hd => mk6 fld_38_22 (Or.inl ⟨rfl, by decide⟩) (Or.inl W4427) (Or.inl rfl) (hd rfl),
  ⟨fun hd => mk19 mt_5 cf_5 (vf_5_5.rt (Or.inl W4364) (hd rfl)) rfl rfl (noH_nil rfl),
  ⟨fun hd => mk12c (by decide) rfl W4899 (hd rfl),
  ⟨fun hd => mk12a (at_ := .int) (by decide) rfl W239 (hd rfl),
  ⟨fun hd => ⟨_, _, _, rfl, rfl, hd rfl, Or.inl ⟨rfl, rfl, rfl⟩⟩,
  ⟨fun hd => ⟨_, _, _, rfl, rfl, hd rfl, Or.inl ⟨rfl, rfl, rfl⟩⟩,
  ⟨fun hd => ⟨_, _, _, rfl, rfl, hd rfl, Or.inr (Or.inr (Or.inr (Or.inr ⟨rfl, rfl, by decide, _, rfl, (Or.inr ⟨rfl, rfl⟩), by decide⟩)))⟩,
  ⟨fun hd => mk12a (at_ := .int) (by decide) rfl W239 (hd rfl),
  ⟨fun hd => ⟨_, _, _, rfl, rfl, hd rfl, Or.inl ⟨rfl, rfl, rfl⟩⟩,
  ⟨fun hd => ⟨_, _, _, rfl, rfl, hd rfl, Or.inl ⟨rfl, rfl, rfl⟩⟩,
  ⟨fun hd => ⟨_, _, _, rfl, rfl, hd rfl, Or.inr (Or.inr (Or.inr (Or.inr ⟨rfl, rfl, by decide, _, rfl, (Or.inr ⟨rfl, rfl⟩), by decide⟩)))⟩,
  ⟨fun hd => mk12a (at_ := .int) (by decide) rfl W239 (hd rfl),
  ⟨fun hd => ⟨_, _, _, rfl, rfl, hd rfl, Or.inl ⟨rfl, rfl, rfl⟩⟩,
  ⟨fun hd => ⟨_, _, _, rfl, rfl, hd rfl, Or.inl ⟨rfl, rfl, rfl⟩⟩,
  ⟨fun hd => ⟨_, _, _, rfl, rfl, hd rfl, Or.inr (Or.inr (Or.inr (Or.inr ⟨rfl, rfl, by decide, _, rfl, (Or.inr ⟨rfl, rfl⟩), by decide⟩)))⟩,
  ⟨fun hd => mk12a (at_ := .int) (by decide) rfl W239 (hd rfl),
  ⟨fun hd => ⟨_, _, _, rfl, rfl, hd rfl, Or.inl ⟨rfl, rfl, rfl⟩⟩,
  ⟨fun hd => ⟨_, _, _, rfl, rfl, hd rfl, Or.inl ⟨rfl, rfl, rfl⟩⟩,
  trivial⟩⟩⟩⟩⟩⟩⟩⟩⟩⟩⟩⟩⟩⟩⟩⟩⟩⟩⟩⟩⟩⟩⟩⟩⟩⟩⟩⟩⟩⟩
def fl_437_1 : List Ent := [(143, 1, 9, .aastore, [3, 109, 100], 0), (147, 2, 12, .newarray .int, [100], 0), (152, 1, 9, .iastore, [0, 100], 0), (156, 1, 9, .iastore, [0, 100], 0), (157, 1, 9, .aastore, [3, 109, 100], 0), (161, 2, 12, .newarray .int, [100], 0), (166, 1, 9, .iastore, [0, 100], 0), (170, 1, 9, .iastore, [0, 100], 0), (171, 1, 9, .aastore, [3, 109, 100], 0), (175, 3, 19, .invokevirtual 419, [9, 1, 1, 5, 15], 0), (184, 1, 10, .arraylength, [109], 0), (206, 2, 12, .newarray .int, [100], 0), (214, 1, 9, .iastore, [0, 100], 0), (221, 1, 9, .iastore, [0, 100], 0), (225, 1, 9, .iastore, [0, 100], 0), (229, 1, 9, .iastore, [0, 100], 0), (233, 1, 9, .iastore, [0, 100], 0), (234, 3, 19, .invokevirtual 110, [0, 2, 2, 5, 8], 0)]
theorem fb_437_1 : FB mi iT mi_437 (bpc code_437) (fl_437_1) := ⟨fun hd => ⟨_, _, _, rfl, rfl, hd rfl, Or.inr (Or.inr (Or.inr (Or.inr ⟨rfl, rfl, by decide, _, rfl, (Or.inr ⟨rfl, rfl⟩), by decide⟩)))⟩,
  ⟨fun hd => mk12a (at_ := .int) (by decide) rfl W239 (hd rfl),
  ⟨fun hd => ⟨_, _, _, rfl, rfl, hd rfl, Or.inl ⟨rfl, rfl, rfl⟩⟩,
  ⟨fun hd => ⟨_, _, _, rfl, rfl, hd rfl, Or.inl ⟨rfl, rfl, rfl⟩⟩,
  ⟨fun hd => ⟨_, _, _, rfl, rfl, hd rfl, Or.inr (Or.inr (Or.inr (Or.inr ⟨rfl, rfl, by decide, _, rfl, (Or.inr ⟨rfl, rfl⟩), by decide⟩)))⟩,
  ⟨fun hd => mk12a (at_ := .int) (by decide) rfl W239 (hd rfl),
  ⟨fun hd => ⟨_, _, _, rfl, rfl, hd rfl, Or.inl ⟨rfl, rfl, rfl⟩⟩,
  ⟨fun hd => ⟨_, _, _, rfl, rfl, hd rfl, Or.inl ⟨rfl, rfl, rfl⟩⟩,
  ⟨fun hd => ⟨_, _, _, rfl, rfl, hd rfl, Or.inr (Or.inr (Or.inr (Or.inr ⟨rfl, rfl, by decide, _, rfl, (Or.inr ⟨rfl, rfl⟩), by decide⟩)))⟩,
  ⟨fun hd => mk19 mt_15 cf_15 (vf_15_5.rt (Or.inl W5320) (hd rfl)) rfl rfl (noH_nil rfl),
  ⟨fun hd => mk10 (by decide) rfl (hd rfl),
  ⟨fun hd => mk12a (at_ := .int) (by decide) rfl W239 (hd rfl),
  ⟨fun hd => ⟨_, _, _, rfl, rfl, hd rfl, Or.inl ⟨rfl, rfl, rfl⟩⟩,
  ⟨fun hd => ⟨_, _, _, rfl, rfl, hd rfl, Or.inl ⟨rfl, rfl, rfl⟩⟩,
  ⟨fun hd => ⟨_, _, _, rfl, rfl, hd rfl, Or.inl ⟨rfl, rfl, rfl⟩⟩,
  ⟨fun hd => ⟨_, _, _, rfl, rfl, hd rfl, Or.inl ⟨rfl, rfl, rfl⟩⟩,
  ⟨fun hd => ⟨_, _, _, rfl, rfl, hd rfl, Or.inl ⟨rfl, rfl, rfl⟩⟩,
  ⟨fun hd => mk19 mt_8 cf_8 (vf_8_5.rt (Or.inl W4537) (hd rfl)) rfl rfl (noH_nil rfl),
  trivial⟩⟩⟩⟩⟩⟩⟩⟩⟩⟩⟩⟩⟩⟩⟩⟩⟩⟩
theorem fe_437 : eqEs ((flat code_437).filter (fun e => ndE e.2.2.1)) (fl_437_0 ++ (fl_437_1)) = true := by decide +kernel
theorem om_437 : OKm mi iT prg 437 := OKm_of (code := code_437) rfl mt_437 (Or.inl (by decide +kernel)) rfl wk_437 (by decide +kernel) (by decide +kernel) (FA_of fe_437 (FB_app fb_437_0 (fb_437_1)))
def fl_438_0 : List Ent := [(3, 3, 19, .invokevirtual 75, [0, 2, 2, 37, 366], 0), (12, 3, 6, .getfield 25, [3, 37, 195], 0), (16, 3, 19, .invokevirtual 114, [3, 2, 2, 5, 6], 0), (19, 3, 17, .checkcast 96, [38], 0), (22, 3, 6, .getfield 416, [3, 38, 234], 0), (25, 3, 19, .invokevirtual 67, [0, 1, 1, 5, 5], 0), (30, 3, 18, .invokestatic 71, [0, 3, 3, 362], 0), (42, 3, 19, .invokevirtual 104, [0, 3, 3, 37, 363], 0), (50, 3, 6, .getfield 25, [3, 37, 195], 0), (54, 3, 19, .invokevirtual 114, [3, 2, 2, 5, 6], 0), (57, 3, 17, .checkcast 96, [38], 0), (60, 3, 19, .invokevirtual 156, [0, 1, 1, 38, 661], 0), (64, 3, 19, .invokevirtual 63, [0, 3, 3, 37, 364], 0), (73, 3, 6, .getfield 25, [3, 37, 195], 0), (77, 3, 19, .invokevirtual 114, [3, 2, 2, 5, 6], 0), (80, 3, 17, .checkcast 96, [38], 0), (83, 3, 6, .getfield 416, [3, 38, 234], 0), (87, 3, 19, .invokevirtual 114, [3, 2, 2, 5, 6], 0), (90, 3, 17, .checkcast 210, [100], 0), (101, 1, 9, .iastore, [0, 100], 0)]
theorem fb_438_0 : FB mi iT mi_438 (bpc code_438) (fl_438_0) := ⟨fun hd => mk19 mt_366 cf_366 (vf_366_37.rt (Or.inl W4542) (hd rfl)) rfl rfl (noH_nil rfl),
  ⟨fun hd => mk6 fld_37_1 (Or.inl ⟨rfl, by decide⟩) (Or.inl W4283) (Or.inl rfl) (hd rfl),
  ⟨fun hd => mk19 mt_6 cf_6 (vf_6_5.rt (Or.inl W4546) (hd rfl)) rfl rfl (noH_nil rfl),
  ⟨fun hd => mk17 kx_38 W4365 (hd rfl),
  ⟨fun hd => mk6 fld_38_22 (Or.inl ⟨rfl, by decide⟩) (Or.inl W4427) (Or.inl rfl) (hd rfl),
  ⟨fun hd => mk19 mt_5 cf_5 (vf_5_5.rt (Or.inl W4364) (hd rfl)) rfl rfl (noH_nil rfl),
  ⟨fun hd => mk18 mt_362 sf_362 (Or.inl W4353) rfl rfl (noH_nil rfl) (hd rfl),
  ⟨fun hd => mk19 mt_363 cf_363 (vf_363_37.rt (Or.inl W4356) (hd rfl)) rfl rfl (noH_nil rfl),
  ⟨fun hd => mk6 fld_37_1 (Or.inl ⟨rfl, by decide⟩) (Or.inl W4283) (Or.inl rfl) (hd rfl),
  ⟨fun hd => mk19 mt_6 cf_6 (vf_6_5.rt (Or.inl W4546) (hd rfl)) rfl rfl (noH_nil rfl),
  ⟨fun hd => mk17 kx_38 W4365 (hd rfl),
  ⟨fun hd => mk19 mt_661 cf_661 (vf_661_38.rt (Or.inl W4646) (hd rfl)) rfl rfl (noH_nil rfl),
  ⟨fun hd => mk19 mt_364 cf_364 (vf_364_37.rt (Or.inl W4360) (hd rfl)) rfl rfl (noH_nil rfl),
  ⟨fun hd => mk6 fld_37_1 (Or.inl ⟨rfl, by decide⟩) (Or.inl W4283) (Or.inl rfl) (hd rfl),
  ⟨fun hd => mk19 mt_6 cf_6 (vf_6_5.rt (Or.inl W4546) (hd rfl)) rfl rfl (noH_nil rfl),
  ⟨fun hd => mk17 kx_38 W4365 (hd rfl),
  ⟨fun hd => mk6 fld_38_22 (Or.inl ⟨rfl, by decide⟩) (Or.inl W4427) (Or.inl rfl) (hd rfl),
  ⟨fun hd => mk19 mt_6 cf_6 (vf_6_5.rt (Or.inl W4546) (hd rfl)) rfl rfl (noH_nil rfl),
  ⟨fun hd => mk17 kx_100 W4899 (hd rfl),
  ⟨fun hd => ⟨_, _, _, rfl, rfl, hd rfl, Or.inl ⟨rfl, rfl, rfl⟩⟩,
  trivial⟩⟩⟩⟩⟩⟩⟩⟩⟩⟩⟩⟩⟩⟩⟩⟩⟩⟩⟩⟩
theorem fe_438 : eqEs ((flat code_438).filter (fun e => ndE e.2.2.1)) (fl_438_0) = true := by decide +kernel
theorem om_438 : OKm mi iT prg 438 := OKm_of (code := code_438) rfl mt_438 (Or.inl (by decide +kernel)) rfl wk_438 (by decide +kernel) (by decide +kernel) (FA_of fe_438 (fb_438_0))
def fl_439_0 : List Ent := [(3, 3, 19, .invokevirtual 75, [0, 2, 2, 37, 366], 0), (7, 3, 19, .invokevirtual 104, [0, 3, 3, 37, 363], 0), (15, 3, 6, .getfield 25, [3, 37, 195], 0), (19, 3, 19, .invokevirtual 114, [3, 2, 2, 5, 6], 0), (22, 3, 17, .checkcast 96, [38], 0), (25, 3, 19, .invokevirtual 156, [0, 1, 1, 38, 661], 0), (29, 3, 19, .invokevirtual 63, [0, 3, 3, 37, 364], 0), (40, 3, 6, .getfield 25, [3, 37, 195], 0), (44, 3, 19, .invokevirtual 114, [3, 2, 2, 5, 6], 0), (47, 3, 17, .checkcast 96, [38], 0), (50, 3, 6, .getfield 416, [3, 38, 234], 0), (53, 3, 19, .invokevirtual 82, [3, 1, 1, 5, 4], 0), (58, 5, 34, .invokeinterface 86 1, [0, 1, 1, 11, 87], 0), (67, 5, 34, .invokeinterface 92 1, [3, 1, 1, 11, 88], 0), (72, 3, 17, .checkcast 210, [100], 0), (88, 1, 9, .iastore, [0, 100], 0), (100, 3, 19, .invokevirtual 211, [9, 4, 4, 37, 392], 0)]
theorem fb_439_0 : FB mi iT mi_439 (bpc code_439) (fl_439_0) := ⟨fun hd => mk19 mt_366 cf_366 (vf_366_37.rt (Or.inl W4542) (hd rfl)) rfl rfl (noH_nil rfl),
  ⟨fun hd => mk19 mt_363 cf_363 (vf_363_37.rt (Or.inl W4356) (hd rfl)) rfl rfl (noH_nil rfl),
  ⟨fun hd => mk6 fld_37_1 (Or.inl ⟨rfl, by decide⟩) (Or.inl W4283) (Or.inl rfl) (hd rfl),
  ⟨fun hd => mk19 mt_6 cf_6 (vf_6_5.rt (Or.inl W4546) (hd rfl)) rfl rfl (noH_nil rfl),
  ⟨fun hd => mk17 kx_38 W4365 (hd rfl),
  ⟨fun hd => mk19 mt_661 cf_661 (vf_661_38.rt (Or.inl W4646) (hd rfl)) rfl rfl (noH_nil rfl),
  ⟨fun hd => mk19 mt_364 cf_364 (vf_364_37.rt (Or.inl W4360) (hd rfl)) rfl rfl (noH_nil rfl),
  ⟨fun hd => mk6 fld_37_1 (Or.inl ⟨rfl, by decide⟩) (Or.inl W4283) (Or.inl rfl) (hd rfl),
  ⟨fun hd => mk19 mt_6 cf_6 (vf_6_5.rt (Or.inl W4546) (hd rfl)) rfl rfl (noH_nil rfl),
  ⟨fun hd => mk17 kx_38 W4365 (hd rfl),
  ⟨fun hd => mk6 fld_38_22 (Or.inl ⟨rfl, by decide⟩) (Or.inl W4427) (Or.inl rfl) (hd rfl),
  ⟨fun hd => mk19 mt_4 cf_4 (vf_4_5.rt (Or.inl W4965) (hd rfl)) rfl rfl (noH_nil rfl),
  ⟨fun hd => mk34 mt_87 cf_87 (ff_87_11.rt W4967 (hd rfl)) rfl rfl,
  ⟨fun hd => mk34 mt_88 cf_88 (ff_88_11.rt W4969 (hd rfl)) rfl rfl,
  ⟨fun hd => mk17 kx_100 W4899 (hd rfl),
  ⟨fun hd => ⟨_, _, _, rfl, rfl, hd rfl, Or.inl ⟨rfl, rfl, rfl⟩⟩,
  ⟨fun hd => mk19 mt_392 cf_392 (vf_392_37.rt (Or.inl W4900) (hd rfl)) rfl rfl (noH_nil rfl),
  trivial⟩⟩⟩⟩⟩⟩⟩⟩⟩⟩⟩⟩⟩⟩⟩⟩⟩
theorem fe_439 : eqEs ((flat code_439).filter (fun e => ndE e.2.2.1)) (fl_439_0) = true := by decide +kernel
theorem om_439 : OKm mi iT prg 439 := OKm_of (code := code_439) rfl mt_439 (Or.inl (by decide +kernel)) rfl wk_439 (by decide +kernel) (by decide +kernel) (FA_of fe_439 (fb_439_0))
def fl_440_0 : List Ent := [(3, 3, 19, .invokevirtual 75, [0, 2, 2, 37, 366], 0), (7, 3, 19, .invokevirtual 104, [0, 3, 3, 37, 363], 0), (15, 3, 6, .getfield 25, [3, 37, 195], 0), (19, 3, 19, .invokevirtual 114, [3, 2, 2, 5, 6], 0), (22, 3, 17, .checkcast 96, [38], 0), (25, 3, 6, .getfield 118, [0, 38, 217], 0), (33, 3, 6, .getfield 25, [3, 37, 195], 0), (37, 3, 19, .invokevirtual 114, [3, 2, 2, 5, 6], 0), (40, 3, 17, .checkcast 96, [38], 0), (43, 3, 19, .invokevirtual 277, [0, 1, 1, 38, 692], 0), (46, 3, 14, .ldc_w 422, [], 16777215), (58, 3, 19, .invokevirtual 63, [0, 3, 3, 37, 364], 0), (69, 3, 6, .getfield 25, [3, 37, 195], 0), (73, 3, 19, .invokevirtual 114, [3, 2, 2, 5, 6], 0), (76, 3, 17, .checkcast 96, [38], 0), (79, 3, 19, .invokevirtual 423, [0, 1, 1, 38, 714], 0)]
theorem fb_440_0 : FB mi iT mi_440 (bpc code_440) (fl_440_0) := ⟨fun hd => mk19 mt_366 cf_366 (vf_366_37.rt (Or.inl W4542) (hd rfl)) rfl rfl (noH_nil rfl),
  ⟨fun hd => mk19 mt_363 cf_363 (vf_363_37.rt (Or.inl W4356) (hd rfl)) rfl rfl (noH_nil rfl),
  ⟨fun hd => mk6 fld_37_1 (Or.inl ⟨rfl, by decide⟩) (Or.inl W4283) (Or.inl rfl) (hd rfl),
  ⟨fun hd => mk19 mt_6 cf_6 (vf_6_5.rt (Or.inl W4546) (hd rfl)) rfl rfl (noH_nil rfl),
  ⟨fun hd => mk17 kx_38 W4365 (hd rfl),
  ⟨fun hd => mk6 fld_38_5 (Or.inl ⟨rfl, by decide⟩) (Or.inl W4387) (Or.inl rfl) (hd rfl),
  ⟨fun hd => mk6 fld_37_1 (Or.inl ⟨rfl, by decide⟩) (Or.inl W4283) (Or.inl rfl) (hd rfl),
  ⟨fun hd => mk19 mt_6 cf_6 (vf_6_5.rt (Or.inl W4546) (hd rfl)) rfl rfl (noH_nil rfl),
  ⟨fun hd => mk17 kx_38 W4365 (hd rfl),
  ⟨fun hd => mk19 mt_692 cf_692 (vf_692_38.rt (Or.inl W5008) (hd rfl)) rfl rfl (noH_nil rfl),
  ⟨fun hd => mk14c W5333 (Or.inr ⟨hd rfl, rfl⟩),
  ⟨fun hd => mk19 mt_364 cf_364 (vf_364_37.rt (Or.inl W4360) (hd rfl)) rfl rfl (noH_nil rfl),
  ⟨fun hd => mk6 fld_37_1 (Or.inl ⟨rfl, by decide⟩) (Or.inl W4283) (Or.inl rfl) (hd rfl),
  ⟨fun hd => mk19 mt_6 cf_6 (vf_6_5.rt (Or.inl W4546) (hd rfl)) rfl rfl (noH_nil rfl),
  ⟨fun hd => mk17 kx_38 W4365 (hd rfl),
  ⟨fun hd => mk19 mt_714 cf_714 (vf_714_38.rt (Or.inl W5334) (hd rfl)) rfl rfl (noH_nil rfl),
  trivial⟩⟩⟩⟩⟩⟩⟩⟩⟩⟩⟩⟩⟩⟩⟩⟩
theorem fe_440 : eqEs ((flat code_440).filter (fun e => ndE e.2.2.1)) (fl_440_0) = true := by decide +kernel
theorem om_440 : OKm mi iT prg 440 := OKm_of (code := code_440) rfl mt_440 (Or.inl (by decide +kernel)) rfl wk_440 (by decide +kernel) (by decide +kernel) (FA_of fe_440 (fb_440_0))
def fl_441_0 : List Ent := [(3, 3, 19, .invokevirtual 75, [0, 2, 2, 37, 366], 0), (7, 3, 19, .invokevirtual 104, [0, 3, 3, 37, 363], 0), (18, 3, 18, .invokestatic 71, [0, 3, 3, 362], 0), (30, 3, 19, .invokevirtual 63, [0, 3, 3, 37, 364], 0), (41, 3, 6, .getfield 25, [3, 37, 195], 0), (45, 3, 19, .invokevirtual 114, [3, 2, 2, 5, 6], 0), (48, 3, 17, .checkcast 96, [38], 0), (52, 3, 19, .invokevirtual 426, [0, 2, 2, 38, 716], 0)]
theorem fb_441_0 : FB mi iT mi_441 (bpc code_441) (fl_441_0) := ⟨fun hd => mk19 mt_366 cf_366 (vf_366_37.rt (Or.inl W4542) (hd rfl)) rfl rfl (noH_nil rfl),
  ⟨fun hd => mk19 mt_363 cf_363 (vf_363_37.rt (Or.inl W4356) (hd rfl)) rfl rfl (noH_nil rfl),
  ⟨fun hd => mk18 mt_362 sf_362 (Or.inl W4353) rfl rfl (noH_nil rfl) (hd rfl),
  ⟨fun hd => mk19 mt_364 cf_364 (vf_364_37.rt (Or.inl W4360) (hd rfl)) rfl rfl (noH_nil rfl),
  ⟨fun hd => mk6 fld_37_1 (Or.inl ⟨rfl, by decide⟩) (Or.inl W4283) (Or.inl rfl) (hd rfl),
  ⟨fun hd => mk19 mt_6 cf_6 (vf_6_5.rt (Or.inl W4546) (hd rfl)) rfl rfl (noH_nil rfl),
  ⟨fun hd => mk17 kx_38 W4365 (hd rfl),
  ⟨fun hd => mk19 mt_716 cf_716 (vf_716_38.rt (Or.inl W5346) (hd rfl)) rfl rfl (noH_nil rfl),
  trivial⟩⟩⟩⟩⟩⟩⟩⟩
theorem fe_441 : eqEs ((flat code_441).filter (fun e => ndE e.2.2.1)) (fl_441_0) = true := by decide +kernel
theorem om_441 : OKm mi iT prg 441 := OKm_of (code := code_441) rfl mt_441 (Or.inl (by decide +kernel)) rfl wk_441 (by decide +kernel) (by decide +kernel) (FA_of fe_441 (fb_441_0))
def fl_442_0 : List Ent := [(3, 3, 19, .invokevirtual 75, [0, 2, 2, 37, 366], 0), (7, 3, 19, .invokevirtual 104, [0, 3, 3, 37, 363], 0), (19, 3, 18, .invokestatic 71, [0, 3, 3, 362], 0), (31, 3, 19, .invokevirtual 63, [0, 3, 3, 37, 364], 0), (40, 3, 6, .getfield 25, [3, 37, 195], 0), (44, 3, 19, .invokevirtual 114, [3, 2, 2, 5, 6], 0), (47, 3, 17, .checkcast 96, [38], 0), (56, 3, 6, .getfield 25, [3, 37, 195], 0), (60, 3, 19, .invokevirtual 114, [3, 2, 2, 5, 6], 0), (63, 3, 17, .checkcast 96, [38], 0), (66, 3, 19, .invokevirtual 429, [0, 1, 1, 38, 697], 0), (73, 3, 19, .invokevirtual 432, [2, 2, 2, 38, 705], 0)]
theorem fb_442_0 : FB mi iT mi_442 (bpc code_442) (fl_442_0) := ⟨fun hd => mk19 mt_366 cf_366 (vf_366_37.rt (Or.inl W4542) (hd rfl)) rfl rfl (noH_nil rfl),
  ⟨fun hd => mk19 mt_363 cf_363 (vf_363_37.rt (Or.inl W4356) (hd rfl)) rfl rfl (noH_nil rfl),
  ⟨fun hd => mk18 mt_362 sf_362 (Or.inl W4353) rfl rfl (noH_nil rfl) (hd rfl),
  ⟨fun hd => mk19 mt_364 cf_364 (vf_364_37.rt (Or.inl W4360) (hd rfl)) rfl rfl (noH_nil rfl),
  ⟨fun hd => mk6 fld_37_1 (Or.inl ⟨rfl, by decide⟩) (Or.inl W4283) (Or.inl rfl) (hd rfl),
  ⟨fun hd => mk19 mt_6 cf_6 (vf_6_5.rt (Or.inl W4546) (hd rfl)) rfl rfl (noH_nil rfl),
  ⟨fun hd => mk17 kx_38 W4365 (hd rfl),
  ⟨fun hd => mk6 fld_37_1 (Or.inl ⟨rfl, by decide⟩) (Or.inl W4283) (Or.inl rfl) (hd rfl),
  ⟨fun hd => mk19 mt_6 cf_6 (vf_6_5.rt (Or.inl W4546) (hd rfl)) rfl rfl (noH_nil rfl),
  ⟨fun hd => mk17 kx_38 W4365 (hd rfl),
  ⟨fun hd => mk19 mt_697 cf_697 (vf_697_38.rt (Or.inl W5366) (hd rfl)) rfl rfl (noH_nil rfl),
  ⟨fun hd => mk19 mt_705 cf_705 (vf_705_38.rt (Or.inl W5367) (hd rfl)) rfl rfl (noH_nil rfl),
  trivial⟩⟩⟩⟩⟩⟩⟩⟩⟩⟩⟩⟩
theorem fe_442 : eqEs ((flat code_442).filter (fun e => ndE e.2.2.1)) (fl_442_0) = true := by decide +kernel
theorem om_442 : OKm mi iT prg 442 := OKm_of (code := code_442) rfl mt_442 (Or.inl (by decide +kernel)) rfl wk_442 (by decide +kernel) (by decide +kernel) (FA_of fe_442 (fb_442_0))
def fl_443_0 : List Ent := [(5, 3, 18, .invokestatic 71, [0, 3, 3, 362], 0), (15, 3, 18, .invokestatic 71, [0, 3, 3, 362], 0), (26, 3, 18, .invokestatic 71, [0, 3, 3, 362], 0), (39, 3, 18, .invokestatic 71, [0, 3, 3, 362], 0), (52, 3, 18, .invokestatic 71, [0, 3, 3, 362], 0), (69, 3, 19, .invokevirtual 104, [0, 3, 3, 37, 363], 0), (77, 3, 6, .getfield 45, [3, 37, 206], 0), (80, 3, 19, .invokevirtual 67, [0, 1, 1, 5, 5], 0), (93, 3, 19, .invokevirtual 63, [0, 3, 3, 37, 364], 0), (102, 3, 6, .getfield 45, [3, 37, 206], 0), (107, 2, 12, .newarray .int, [100], 0), (112, 1, 9, .iastore, [0, 100], 0), (116, 1, 9, .iastore, [0, 100], 0), (120, 1, 9, .iastore, [0, 100], 0), (124, 3, 6, .getfield 79, [0, 37, 196], 0), (130, 1, 9, .iastore, [0, 100], 0), (135, 1, 9, .iastore, [0, 100], 0), (139, 1, 9, .iastore, [0, 100], 0), (144, 1, 9, .iastore, [0, 100], 0), (149, 1, 9, .iastore, [0, 100], 0), (154, 1, 9, .iastore, [0, 100], 0), (159, 1, 9, .iastore, [0, 100], 0), (160, 3, 19, .invokevirtual 110, [0, 2, 2, 5, 8], 0), (165, 3, 6, .getfield 45, [3, 37, 206], 0), (168, 3, 19, .invokevirtual 67, [0, 1, 1, 5, 5], 0)]
theorem fb_443_0 : FB mi iT mi_443 (bpc code_443) (fl_443_0) := ⟨fun hd => mk18 mt_362 sf_362 (Or.inl W4353) rfl rfl (noH_nil rfl) (hd rfl),
  ⟨fun hd => mk18 mt_362 sf_362 (Or.inl W4353) rfl rfl (noH_nil rfl) (hd rfl),
  ⟨fun hd => mk18 mt_362 sf_362 (Or.inl W4353) rfl rfl (noH_nil rfl) (hd rfl),
  ⟨fun hd => mk18 mt_362 sf_362 (Or.inl W4353) rfl rfl (noH_nil rfl) (hd rfl),
  ⟨fun hd => mk18 mt_362 sf_362 (Or.inl W4353) rfl rfl (noH_nil rfl) (hd rfl),
  ⟨fun hd => mk19 mt_363 cf_363 (vf_363_37.rt (Or.inl W4356) (hd rfl)) rfl rfl (noH_nil rfl),
  ⟨fun hd => mk6 fld_37_12 (Or.inl ⟨rfl, by decide⟩) (Or.inl W4301) (Or.inl rfl) (hd rfl),
  ⟨fun hd => mk19 mt_5 cf_5 (vf_5_5.rt (Or.inl W4364) (hd rfl)) rfl rfl (noH_nil rfl),
  ⟨fun hd => mk19 mt_364 cf_364 (vf_364_37.rt (Or.inl W4360) (hd rfl)) rfl rfl (noH_nil rfl),
  ⟨fun hd => mk6 fld_37_12 (Or.inl ⟨rfl, by decide⟩) (Or.inl W4301) (Or.inl rfl) (hd rfl),
  ⟨fun hd => mk12a (at_ := .int) (by decide) rfl W239 (hd rfl),
  ⟨fun hd => ⟨_, _, _, rfl, rfl, hd rfl, Or.inl ⟨rfl, rfl, rfl⟩⟩,
  ⟨fun hd => ⟨_, _, _, rfl, rfl, hd rfl, Or.inl ⟨rfl, rfl, rfl⟩⟩,
  ⟨fun hd => ⟨_, _, _, rfl, rfl, hd rfl, Or.inl ⟨rfl, rfl, rfl⟩⟩,
  ⟨fun hd => mk6 fld_37_2 (Or.inl ⟨rfl, by decide⟩) (Or.inl W4284) (Or.inl rfl) (hd rfl),
  ⟨fun hd => ⟨_, _, _, rfl, rfl, hd rfl, Or.inl ⟨rfl, rfl, rfl⟩⟩,
  ⟨fun hd => ⟨_, _, _, rfl, rfl, hd rfl, Or.inl ⟨rfl, rfl, rfl⟩⟩,
  ⟨fun hd => ⟨_, _, _, rfl, rfl, hd rfl, Or.inl ⟨rfl, rfl, rfl⟩⟩,
  ⟨fun hd => ⟨_, _, _, rfl, rfl, hd rfl, Or.inl ⟨rfl, rfl, rfl⟩⟩,
  ⟨fun hd => ⟨_, _, _, rfl, rfl, hd rfl, Or.inl ⟨rfl, rfl, rfl⟩⟩,
  ⟨fun hd => ⟨_, _, _, rfl, rfl, hd rfl, Or.inl ⟨rfl, rfl, rfl⟩⟩,
  ⟨fun hd => ⟨_, _, _, rfl, rfl, hd rfl, Or.inl ⟨rfl, rfl, rfl⟩⟩,
  ⟨fun hd => mk19 mt_8 cf_8 (vf_8_5.rt (Or.inl W4537) (hd rfl)) rfl rfl (noH_nil rfl),
  ⟨fun hd => mk6 fld_37_12 (Or.inl ⟨rfl, by decide⟩) (Or.inl W4301) (Or.inl rfl) (hd rfl),
  ⟨fun hd => mk19 mt_5 cf_5 (vf_5_5.rt (Or.inl W4364) (hd rfl)) rfl rfl (noH_nil rfl),
  trivial⟩⟩⟩⟩⟩⟩⟩⟩⟩⟩⟩⟩⟩⟩⟩⟩⟩⟩⟩⟩⟩⟩⟩⟩⟩
theorem fe_443 : eqEs ((flat code_443).filter (fun e => ndE e.2.2.1)) (fl_443_0) = true := by decide +kernel
theorem om_443 : OKm mi iT prg 443 := OKm_of (code := code_443) rfl mt_443 (Or.inl (by decide +kernel)) rfl wk_443 (by decide +kernel) (by decide +kernel) (FA_of fe_443 (fb_443_0))
def fl_444_0 : List Ent := [(3, 3, 19, .invokevirtual 435, [0, 2, 2, 37, 445], 0), (11, 3, 19, .invokevirtual 75, [0, 2, 2, 37, 366], 0), (23, 3, 19, .invokevirtual 104, [0, 3, 3, 37, 363], 0), (35, 3, 18, .invokestatic 71, [0, 3, 3, 362], 0), (47, 3, 19, .invokevirtual 63, [0, 3, 3, 37, 364], 0), (55, 3, 6, .getfield 45, [3, 37, 206], 0), (59, 3, 19, .invokevirtual 114, [3, 2, 2, 5, 6], 0), (62, 3, 17, .checkcast 210, [100], 0), (72, 3, 19, .invokevirtual 438, [0, 2, 2, 37, 446], 0), (84, 3, 19, .invokevirtual 63, [0, 3, 3, 37, 364], 0), (93, 3, 6, .getfield 45, [3, 37, 206], 0), (97, 3, 19, .invokevirtual 114, [3, 2, 2, 5, 6], 0), (100, 3, 17, .checkcast 210, [100], 0), (117, 3, 19, .invokevirtual 441, [0, 2, 2, 37, 447], 0), (127, 1, 9, .iastore, [0, 100], 0), (134, 1, 9, .iastore, [0, 100], 0), (140, 1, 9, .iastore, [0, 100], 0), (146, 1, 9, .iastore, [0, 100], 0), (153, 3, 19, .invokevirtual 296, [9, 3, 3, 37, 412], 0), (157, 3, 6, .getfield 25, [3, 37, 195], 0), (161, 3, 19, .invokevirtual 114, [3, 2, 2, 5, 6], 0), (164, 3, 17, .checkcast 96, [38], 0), (167, 3, 6, .getfield 118, [0, 38, 217], 0), (182, 3, 19, .invokevirtual 296, [9, 3, 3, 37, 412], 0)]
theorem fb_444_0 : FB mi iT mi_444 (bpc code_444) (fl_444_0) := ⟨fun hd => mk19 mt_445 cf_445 (vf_445_37.rt (Or.inl W5376) (hd rfl)) rfl rfl (noH_nil rfl),
  ⟨fun hd => mk19 mt_366 cf_366 (vf_366_37.rt (Or.inl W4542) (hd rfl)) rfl rfl (noH_nil rfl),
  ⟨fun hd => mk19 mt_363 cf_363 (vf_363_37.rt (Or.inl W4356) (hd rfl)) rfl rfl (noH_nil rfl),
  ⟨fun hd => mk18 mt_362 sf_362 (Or.inl W4353) rfl rfl (noH_nil rfl) (hd rfl),
  ⟨fun hd => mk19 mt_364 cf_364 (vf_364_37.rt (Or.inl W4360) (hd rfl)) rfl rfl (noH_nil rfl),
  ⟨fun hd => mk6 fld_37_12 (Or.inl ⟨rfl, by decide⟩) (Or.inl W4301) (Or.inl rfl) (hd rfl),
  ⟨fun hd => mk19 mt_6 cf_6 (vf_6_5.rt (Or.inl W4546) (hd rfl)) rfl rfl (noH_nil rfl),
  ⟨fun hd => mk17 kx_100 W4899 (hd rfl),
  ⟨fun hd => mk19 mt_446 cf_446 (vf_446_37.rt (Or.inl W5380) (hd rfl)) rfl rfl (noH_nil rfl),
  ⟨fun hd => mk19 mt_364 cf_364 (vf_364_37.rt (Or.inl W4360) (hd rfl)) rfl rfl (noH_nil rfl),
  ⟨fun hd => mk6 fld_37_12 (Or.inl ⟨rfl, by decide⟩) (Or.inl W4301) (Or.inl rfl) (hd rfl),
  ⟨fun hd => mk19 mt_6 cf_6 (vf_6_5.rt (Or.inl W4546) (hd rfl)) rfl rfl (noH_nil rfl),
  ⟨fun hd => mk17 kx_100 W4899 (hd rfl),
  ⟨fun hd => mk19 mt_447 cf_447 (vf_447_37.rt (Or.inl W5384) (hd rfl)) rfl rfl (noH_nil rfl),
  ⟨fun hd => ⟨_, _, _, rfl, rfl, hd rfl, Or.inl ⟨rfl, rfl, rfl⟩⟩,
  ⟨fun hd => ⟨_, _, _, rfl, rfl, hd rfl, Or.inl ⟨rfl, rfl, rfl⟩⟩,
  ⟨fun hd => ⟨_, _, _, rfl, rfl, hd rfl, Or.inl ⟨rfl, rfl, rfl⟩⟩,
  ⟨fun hd => ⟨_, _, _, rfl, rfl, hd rfl, Or.inl ⟨rfl, rfl, rfl⟩⟩,
  ⟨fun hd => mk19 mt_412 cf_412 (vf_412_37.rt (Or.inl W5048) (hd rfl)) rfl rfl (noH_nil rfl),
  ⟨fun hd => mk6 fld_37_1 (Or.inl ⟨rfl, by decide⟩) (Or.inl W4283) (Or.inl rfl) (hd rfl),
  ⟨fun hd => mk19 mt_6 cf_6 (vf_6_5.rt (Or.inl W4546) (hd rfl)) rfl rfl (noH_nil rfl),
  ⟨fun hd => mk17 kx_38 W4365 (hd rfl),
  ⟨fun hd => mk6 fld_38_5 (Or.inl ⟨rfl, by decide⟩) (Or.inl W4387) (Or.inl rfl) (hd rfl),
  ⟨fun hd => mk19 mt_412 cf_412 (vf_412_37.rt (Or.inl W5048) (hd rfl)) rfl rfl (noH_nil rfl),
  trivial⟩⟩⟩⟩⟩⟩⟩⟩⟩⟩⟩⟩⟩⟩⟩⟩⟩⟩⟩⟩⟩⟩⟩⟩
theorem fe_444 : eqEs ((flat code_444).filter (fun e => ndE e.2.2.1)) (fl_444_0) = true := by decide +kernel
theorem om_444 : OKm mi iT prg 444 := OKm_of (code := code_444) rfl mt_444 (Or.inl (by decide +kernel)) rfl wk_444 (by decide +kernel) (by decide +kernel) (FA_of fe_444 (fb_444_0))
def fl_445_0 : List Ent := [(3, 3, 6, .getfield 45, [3, 37, 206], 0), (6, 3, 19, .invokevirtual 67, [0, 1, 1, 5, 5], 0), (11, 3, 18, .invokestatic 71, [0, 3, 3, 362], 0)]
theorem fb_445_0 : FB mi iT mi_445 (bpc code_445) (fl_445_0) := ⟨fun hd => mk6 fld_37_12 (Or.inl ⟨rfl, by decide⟩) (Or.inl W4301) (Or.inl rfl) (hd rfl),
  ⟨fun hd => mk19 mt_5 cf_5 (vf_5_5.rt (Or.inl W4364) (hd rfl)) rfl rfl (noH_nil rfl),
  ⟨fun hd => mk18 mt_362 sf_362 (Or.inl W4353) rfl rfl (noH_nil rfl) (hd rfl),
  trivial⟩⟩⟩
theorem fe_445 : eqEs ((flat code_445).filter (fun e => ndE e.2.2.1)) (fl_445_0) = true := by decide +kernel
theorem om_445 : OKm mi iT prg 445 := OKm_of (code := code_445) rfl mt_445 (Or.inl (by decide +kernel)) rfl wk_445 (by decide +kernel) (by decide +kernel) (FA_of fe_445 (fb_445_0))
def fl_446_0 : List Ent := [(1, 3, 6, .getfield 45, [3, 37, 206], 0), (4, 3, 19, .invokevirtual 82, [3, 1, 1, 5, 4], 0), (9, 5, 34, .invokeinterface 86 1, [0, 1, 1, 11, 87], 0), (18, 5, 34, .invokeinterface 92 1, [3, 1, 1, 11, 88], 0), (23, 3, 17, .checkcast 210, [100], 0), (48, 3, 6, .getfield 25, [3, 37, 195], 0), (52, 3, 19, .invokevirtual 114, [3, 2, 2, 5, 6], 0), (55, 3, 17, .checkcast 96, [38], 0), (58, 3, 19, .invokevirtual 156, [0, 1, 1, 38, 661], 0)]
theorem fb_446_0 : FB mi iT mi_446 (bpc code_446) (fl_446_0) := ⟨fun hd => mk6 fld_37_12 (Or.inl ⟨rfl, by decide⟩) (Or.inl W4301) (Or.inl rfl) (hd rfl),
  ⟨fun hd => mk19 mt_4 cf_4 (vf_4_5.rt (Or.inl W4965) (hd rfl)) rfl rfl (noH_nil rfl),
  ⟨fun hd => mk34 mt_87 cf_87 (ff_87_11.rt W4967 (hd rfl)) rfl rfl,
  ⟨fun hd => mk34 mt_88 cf_88 (ff_88_11.rt W4969 (hd rfl)) rfl rfl,
  ⟨fun hd => mk17 kx_100 W4899 (hd rfl),
  ⟨fun hd => mk6 fld_37_1 (Or.inl ⟨rfl, by decide⟩) (Or.inl W4283) (Or.inl rfl) (hd rfl),
  ⟨fun hd => mk19 mt_6 cf_6 (vf_6_5.rt (Or.inl W4546) (hd rfl)) rfl rfl (noH_nil rfl),
  ⟨fun hd => mk17 kx_38 W4365 (hd rfl),
  ⟨fun hd => mk19 mt_661 cf_661 (vf_661_38.rt (Or.inl W4646) (hd rfl)) rfl rfl (noH_nil rfl),
  trivial⟩⟩⟩⟩⟩⟩⟩⟩⟩
theorem fe_446 : eqEs ((flat code_446).filter (fun e => ndE e.2.2.1)) (fl_446_0) = true := by decide +kernel
theorem om_446 : OKm mi iT prg 446 := OKm_of (code := code_446) rfl mt_446 (Or.inl (by decide +kernel)) rfl wk_446 (by decide +kernel) (by decide +kernel) (FA_of fe_446 (fb_446_0))
def fl_447_0 : List Ent := [(18, 3, 18, .invokestatic 330, [0, 1, 1, 62], 0), (25, 3, 6, .getfield 29, [0, 37, 197], 0)]
theorem fb_447_0 : FB mi iT mi_447 (bpc code_447) (fl_447_0) := ⟨fun hd => mk18 mt_62 sf_62 (Or.inl W5102) rfl rfl (noH_nil rfl) (hd rfl),
  ⟨fun hd => mk6 fld_37_3 (Or.inl ⟨rfl, by decide⟩) (Or.inl W4286) (Or.inl rfl) (hd rfl),
  trivial⟩⟩
theorem fe_447 : eqEs ((flat code_447).filter (fun e => ndE e.2.2.1)) (fl_447_0) = true := by decide +kernel
theorem om_447 : OKm mi iT prg 447 := OKm_of (code := code_447) rfl mt_447 (Or.inl (by decide +kernel)) rfl wk_447 (by decide +kernel) (by decide +kernel) (FA_of fe_447 (fb_447_0))
def fl_448_0 : List Ent := [(3, 3, 19, .invokevirtual 435, [0, 2, 2, 37, 445], 0), (7, 3, 19, .invokevirtual 104, [0, 3, 3, 37, 363], 0), (15, 3, 6, .getfield 45, [3, 37, 206], 0), (19, 3, 19, .invokevirtual 114, [3, 2, 2, 5, 6], 0), (22, 3, 17, .checkcast 210, [100], 0), (37, 3, 19, .invokevirtual 63, [0, 3, 3, 37, 364], 0), (46, 3, 6, .getfield 45, [3, 37, 206], 0), (50, 3, 19, .invokevirtual 114, [3, 2, 2, 5, 6], 0), (53, 3, 17, .checkcast 210, [100], 0), (58, 3, 6, .getfield 25, [3, 37, 195], 0), (65, 3, 19, .invokevirtual 114, [3, 2, 2, 5, 6], 0), (68, 3, 17, .checkcast 96, [38], 0), (73, 3, 6, .getfield 118, [0, 38, 217], 0), (81, 3, 6, .getfield 98, [0, 38, 226], 0), (91, 3, 19, .invokevirtual 448, [0, 3, 3, 37, 449], 0), (114, 3, 19, .invokevirtual 296, [9, 3, 3, 37, 412], 0), (120, 1, 9, .iastore, [0, 100], 0), (122, 3, 19, .invokevirtual 293, [9, 1, 1, 38, 695], 0), (127, 3, 7, .putfield 118, [0, 38, 217], 0)]
theorem fb_448_0 : FB mi iT mi_448 (bpc code_448) (fl_448_0) := ⟨fun hd => mk19 mt_445 cf_445 (vf_445_37.rt (Or.inl W5376) (hd rfl)) rfl rfl (noH_nil rfl),
  ⟨fun hd => mk19 mt_363 cf_363 (vf_363_37.rt (Or.inl W4356) (hd rfl)) rfl rfl (noH_nil rfl),
  ⟨fun hd => mk6 fld_37_12 (Or.inl ⟨rfl, by decide⟩) (Or.inl W4301) (Or.inl rfl) (hd rfl),
  ⟨fun hd => mk19 mt_6 cf_6 (vf_6_5.rt (Or.inl W4546) (hd rfl)) rfl rfl (noH_nil rfl),
  ⟨fun hd => mk17 kx_100 W4899 (hd rfl),
  ⟨fun hd => mk19 mt_364 cf_364 (vf_364_37.rt (Or.inl W4360) (hd rfl)) rfl rfl (noH_nil rfl),
  ⟨fun hd => mk6 fld_37_12 (Or.inl ⟨rfl, by decide⟩) (Or.inl W4301) (Or.inl rfl) (hd rfl),
  ⟨fun hd => mk19 mt_6 cf_6 (vf_6_5.rt (Or.inl W4546) (hd rfl)) rfl rfl (noH_nil rfl),
  ⟨fun hd => mk17 kx_100 W4899 (hd rfl),
  ⟨fun hd => mk6 fld_37_1 (Or.inl ⟨rfl, by decide⟩) (Or.inl W4283) (Or.inl rfl) (hd rfl),
  ⟨fun hd => mk19 mt_6 cf_6 (vf_6_5.rt (Or.inl W4546) (hd rfl)) rfl rfl (noH_nil rfl),
  ⟨fun hd => mk17 kx_38 W4365 (hd rfl),
  ⟨fun hd => mk6 fld_38_5 (Or.inl ⟨rfl, by decide⟩) (Or.inl W4387) (Or.inl rfl) (hd rfl),
  ⟨fun hd => mk6 fld_38_14 (Or.inl ⟨rfl, by decide⟩) (Or.inl W4408) (Or.inl rfl) (hd rfl),
  ⟨fun hd => mk19 mt_449 cf_449 (vf_449_37.rt (Or.inl W5392) (hd rfl)) rfl rfl (noH_nil rfl),
  ⟨fun hd => mk19 mt_412 cf_412 (vf_412_37.rt (Or.inl W5048) (hd rfl)) rfl rfl (noH_nil rfl),
  ⟨fun hd => ⟨_, _, _, rfl, rfl, hd rfl, Or.inl ⟨rfl, rfl, rfl⟩⟩,
  ⟨fun hd => mk19 mt_695 cf_695 (vf_695_38.rt (Or.inl W5036) (hd rfl)) rfl rfl (noH_nil rfl),
  ⟨fun hd => mk7 fld_38_5 (Or.inl W4387) (Or.inl rfl) (Or.inl rfl) (hd rfl),
  trivial⟩⟩⟩⟩⟩⟩⟩⟩⟩⟩⟩⟩⟩⟩⟩⟩⟩⟩⟩
theorem fe_448 : eqEs ((flat code_448).filter (fun e => ndE e.2.2.1)) (fl_448_0) = true := by decide +kernel
theorem om_448 : OKm mi iT prg 448 := OKm_of (code := code_448) rfl mt_448 (Or.inl (by decide +kernel)) rfl wk_448 (by decide +kernel) (by decide +kernel) (FA_of fe_448 (fb_448_0))
def fl_449_0 : List Ent := [(1, 3, 6, .getfield 131, [0, 38, 213], 0), (12, 3, 19, .invokevirtual 429, [0, 1, 1, 38, 697], 0), (15, 3, 19, .invokevirtual 432, [2, 2, 2, 38, 705], 0), (27, 3, 19, .invokevirtual 445, [0, 1, 1, 38, 720], 0)]
theorem fb_449_0 : FB mi iT mi_449 (bpc code_449) (fl_449_0) := ⟨fun hd => mk6 fld_38_1 (Or.inl ⟨rfl, by decide⟩) (Or.inl W4454) (Or.inr W4453) (hd rfl),
  ⟨fun hd => mk19 mt_697 cf_697 (vf_697_38.rt (Or.inl W5366) (hd rfl)) rfl rfl (noH_nil rfl),
  ⟨fun hd => mk19 mt_705 cf_705 (vf_705_38.rt (Or.inl W5367) (hd rfl)) rfl rfl (noH_nil rfl),
  ⟨fun hd => mk19 mt_720 cf_720 (vf_720_38.rt (Or.inl W5396) (hd rfl)) rfl rfl (noH_nil rfl),
  trivial⟩⟩⟩⟩
theorem fe_449 : eqEs ((flat code_449).filter (fun e => ndE e.2.2.1)) (fl_449_0) = true := by decide +kernel
theorem om_449 : OKm mi iT prg 449 := OKm_of (code := code_449) rfl mt_449 (Or.inl (by decide +kernel)) rfl wk_449 (by decide +kernel) (by decide +kernel) (FA_of fe_449 (fb_449_0))
def fl_450_0 : List Ent := [(3, 3, 19, .invokevirtual 75, [0, 2, 2, 37, 366], 0), (7, 3, 19, .invokevirtual 104, [0, 3, 3, 37, 363], 0), (18, 3, 6, .getfield 25, [3, 37, 195], 0), (22, 3, 19, .invokevirtual 114, [3, 2, 2, 5, 6], 0), (25, 3, 17, .checkcast 96, [38], 0), (28, 3, 19, .invokevirtual 445, [0, 1, 1, 38, 720], 0)]
theorem fb_450_0 : FB mi iT mi_450 (bpc code_450) (fl_450_0) := ⟨fun hd => mk19 mt_366 cf_366 (vf_366_37.rt (Or.inl W4542) (hd rfl)) rfl rfl (noH_nil rfl),
  ⟨fun hd => mk19 mt_363 cf_363 (vf_363_37.rt (Or.inl W4356) (hd rfl)) rfl rfl (noH_nil rfl),
  ⟨fun hd => mk6 fld_37_1 (Or.inl ⟨rfl, by decide⟩) (Or.inl W4283) (Or.inl rfl) (hd rfl),
  ⟨fun hd => mk19 mt_6 cf_6 (vf_6_5.rt (Or.inl W4546) (hd rfl)) rfl rfl (noH_nil rfl),
  ⟨fun hd => mk17 kx_38 W4365 (hd rfl),
  ⟨fun hd => mk19 mt_720 cf_720 (vf_720_38.rt (Or.inl W5396) (hd rfl)) rfl rfl (noH_nil rfl),
  trivial⟩⟩⟩⟩⟩⟩
theorem fe_450 : eqEs ((flat code_450).filter (fun e => ndE e.2.2.1)) (fl_450_0) = true := by decide +kernel
theorem om_450 : OKm mi iT prg 450 := OKm_of (code := code_450) rfl mt_450 (Or.inl (by decide +kernel)) rfl wk_450 (by decide +kernel) (by decide +kernel) (FA_of fe_450 (fb_450_0))
def fl_451_0 : List Ent := [(3, 3, 19, .invokevirtual 435, [0, 2, 2, 37, 445], 0), (7, 3, 19, .invokevirtual 104, [0, 3, 3, 37, 363], 0), (18, 3, 18, .invokestatic 71, [0, 3, 3, 362], 0), (30, 3, 19, .invokevirtual 63, [0, 3, 3, 37, 364], 0), (42, 3, 6, .getfield 45, [3, 37, 206], 0), (46, 3, 19, .invokevirtual 114, [3, 2, 2, 5, 6], 0), (49, 3, 17, .checkcast 210, [100], 0), (53, 3, 19, .invokevirtual 452, [0, 3, 3, 37, 452], 0)]
theorem fb_451_0 : FB mi iT mi_451 (bpc code_451) (fl_451_0) := ⟨fun hd => mk19 mt_445 cf_445 (vf_445_37.rt (Or.inl W5376) (hd rfl)) rfl rfl (noH_nil rfl),
  ⟨fun hd => mk19 mt_363 cf_363 (vf_363_37.rt (Or.inl W4356) (hd rfl)) rfl rfl (noH_nil rfl),
  ⟨fun hd => mk18 mt_362 sf_362 (Or.inl W4353) rfl rfl (noH_nil rfl) (hd rfl),
  ⟨fun hd => mk19 mt_364 cf_364 (vf_364_37.rt (Or.inl W4360) (hd rfl)) rfl rfl (noH_nil rfl),
  ⟨fun hd => mk6 fld_37_12 (Or.inl ⟨rfl, by decide⟩) (Or.inl W4301) (Or.inl rfl) (hd rfl),
  ⟨fun hd => mk19 mt_6 cf_6 (vf_6_5.rt (Or.inl W4546) (hd rfl)) rfl rfl (noH_nil rfl),
  ⟨fun hd => mk17 kx_100 W4899 (hd rfl),
  ⟨fun hd => mk19 mt_452 cf_452 (vf_452_37.rt (Or.inl W5410) (hd rfl)) rfl rfl (noH_nil rfl),
  trivial⟩⟩⟩⟩⟩⟩⟩⟩
theorem fe_451 : eqEs ((flat code_451).filter (fun e => ndE e.2.2.1)) (fl_451_0) = true := by decide +kernel
theorem om_451 : OKm mi iT prg 451 := OKm_of (code := code_451) rfl mt_451 (Or.inl (by decide +kernel)) rfl wk_451 (by decide +kernel) (by decide +kernel) (FA_of fe_451 (fb_451_0))
def fl_452_0 : List Ent := [(14, 3, 19, .invokevirtual 441, [0, 2, 2, 37, 447], 0)]
theorem fb_452_0 : FB mi iT mi_452 (bpc code_452) (fl_452_0) := ⟨fun hd => mk19 mt_447 cf_447 (vf_447_37.rt (Or.inl W5384) (hd rfl)) rfl rfl (noH_nil rfl),
  trivial⟩
theorem fe_452 : eqEs ((flat code_452).filter (fun e => ndE e.2.2.1)) (fl_452_0) = true := by decide +kernel
theorem om_452 : OKm mi iT prg 452 := OKm_of (code := code_452) rfl mt_452 (Or.inl (by decide +kernel)) rfl wk_452 (by decide +kernel) (by decide +kernel) (FA_of fe_452 (fb_452_0))
def fl_453_0 : List Ent := [(3, 3, 19, .invokevirtual 75, [0, 2, 2, 37, 366], 0), (7, 3, 19, .invokevirtual 104, [0, 3, 3, 37, 363], 0), (25, 3, 6, .getfield 45, [3, 37, 206], 0), (28, 3, 19, .invokevirtual 67, [0, 1, 1, 5, 5], 0), (35, 3, 6, .getfield 45, [3, 37, 206], 0), (40, 3, 19, .invokevirtual 114, [3, 2, 2, 5, 6], 0), (43, 3, 17, .checkcast 210, [100], 0), (55, 3, 19, .invokevirtual 441, [0, 2, 2, 37, 447], 0), (60, 3, 18, .invokestatic 223, [0, 2, 2, 67], 0), (74, 3, 19, .invokevirtual 438, [0, 2, 2, 37, 446], 0), (95, 3, 6, .getfield 25, [3, 37, 195], 0), (99, 3, 19, .invokevirtual 114, [3, 2, 2, 5, 6], 0), (102, 3, 17, .checkcast 96, [38], 0), (105, 3, 19, .invokevirtual 448, [0, 3, 3, 37, 449], 0)]
theorem fb_453_0 : FB mi iT mi_453 (bpc code_453) (fl_453_0) := ⟨fun hd => mk19 mt_366 cf_366 (vf_366_37.rt (Or.inl W4542) (hd rfl)) rfl rfl (noH_nil rfl),
  ⟨fun hd => mk19 mt_363 cf_363 (vf_363_37.rt (Or.inl W4356) (hd rfl)) rfl rfl (noH_nil rfl),
  ⟨fun hd => mk6 fld_37_12 (Or.inl ⟨rfl, by decide⟩) (Or.inl W4301) (Or.inl rfl) (hd rfl),
  ⟨fun hd => mk19 mt_5 cf_5 (vf_5_5.rt (Or.inl W4364) (hd rfl)) rfl rfl (noH_nil rfl),
  ⟨fun hd => mk6 fld_37_12 (Or.inl ⟨rfl, by decide⟩) (Or.inl W4301) (Or.inl rfl) (hd rfl),
  ⟨fun hd => mk19 mt_6 cf_6 (vf_6_5.rt (Or.inl W4546) (hd rfl)) rfl rfl (noH_nil rfl),
  ⟨fun hd => mk17 kx_100 W4899 (hd rfl),
  ⟨fun hd => mk19 mt_447 cf_447 (vf_447_37.rt (Or.inl W5384) (hd rfl)) rfl rfl (noH_nil rfl),
  ⟨fun hd => mk18 mt_67 sf_67 (Or.inl W4943) rfl rfl (noH_nil rfl) (hd rfl),
  ⟨fun hd => mk19 mt_446 cf_446 (vf_446_37.rt (Or.inl W5380) (hd rfl)) rfl rfl (noH_nil rfl),
  ⟨fun hd => mk6 fld_37_1 (Or.inl ⟨rfl, by decide⟩) (Or.inl W4283) (Or.inl rfl) (hd rfl),
  ⟨fun hd => mk19 mt_6 cf_6 (vf_6_5.rt (Or.inl W4546) (hd rfl)) rfl rfl (noH_nil rfl),
  ⟨fun hd => mk17 kx_38 W4365 (hd rfl),
  ⟨fun hd => mk19 mt_449 cf_449 (vf_449_37.rt (Or.inl W5392) (hd rfl)) rfl rfl (noH_nil rfl),
  trivial⟩⟩⟩⟩⟩⟩⟩⟩⟩⟩⟩⟩⟩⟩
theorem fe_453 : eqEs ((flat code_453).filter (fun e => ndE e.2.2.1)) (fl_453_0) = true := by decide +kernel
theorem om_453 : OKm mi iT prg 453 := OKm_of (code := code_453) rfl mt_453 (Or.inl (by decide +kernel)) rfl wk_453 (by decide +kernel) (by decide +kernel) (FA_of fe_453 (fb_453_0))
def fl_454_0 : List Ent := [(5, 3, 18, .invokestatic 71, [0, 3, 3, 362], 0), (15, 3, 18, .invokestatic 71, [0, 3, 3, 362], 0), (27, 3, 18, .invokestatic 71, [0, 3, 3, 362], 0), (39, 3, 19, .invokevirtual 104, [0, 3, 3, 37, 363], 0), (47, 3, 6, .getfield 48, [3, 37, 207], 0), (50, 3, 19, .invokevirtual 67, [0, 1, 1, 5, 5], 0), (64, 3, 19, .invokevirtual 63, [0, 3, 3, 37, 364], 0), (73, 3, 6, .getfield 48, [3, 37, 207], 0), (77, 2, 12, .newarray .int, [100], 0), (82, 1, 9, .iastore, [0, 100], 0), (86, 1, 9, .iastore, [0, 100], 0), (90, 1, 9, .iastore, [0, 100], 0), (91, 3, 19, .invokevirtual 110, [0, 2, 2, 5, 8], 0), (96, 3, 6, .getfield 48, [3, 37, 207], 0), (99, 3, 19, .invokevirtual 67, [0, 1, 1, 5, 5], 0)]
theorem fb_454_0 : FB mi iT mi_454 (bpc code_454) (fl_454_0) := ⟨fun hd => mk18 mt_362 sf_362 (Or.inl W4353) rfl rfl (noH_nil rfl) (hd rfl),
  ⟨fun hd => mk18 mt_362 sf_362 (Or.inl W4353) rfl rfl (noH_nil rfl) (hd rfl),
  ⟨fun hd => mk18 mt_362 sf_362 (Or.inl W4353) rfl rfl (noH_nil rfl) (hd rfl),
  ⟨fun hd => mk19 mt_363 cf_363 (vf_363_37.rt (Or.inl W4356) (hd rfl)) rfl rfl (noH_nil rfl),
  ⟨fun hd => mk6 fld_37_13 (Or.inl ⟨rfl, by decide⟩) (Or.inl W4302) (Or.inl rfl) (hd rfl),
  ⟨fun hd => mk19 mt_5 cf_5 (vf_5_5.rt (Or.inl W4364) (hd rfl)) rfl rfl (noH_nil rfl),
  ⟨fun hd => mk19 mt_364 cf_364 (vf_364_37.rt (Or.inl W4360) (hd rfl)) rfl rfl (noH_nil rfl),
  ⟨fun hd => mk6 fld_37_13 (Or.inl ⟨rfl, by decide⟩) (Or.inl W4302) (Or.inl rfl) (hd rfl),
  ⟨fun hd => mk12a (at_ := .int) (by decide) rfl W239 (hd rfl),
  ⟨fun hd => ⟨_, _, _, rfl, rfl, hd rfl, Or.inl ⟨rfl, rfl, rfl⟩⟩,
  ⟨fun hd => ⟨_, _, _, rfl, rfl, hd rfl, Or.inl ⟨rfl, rfl, rfl⟩⟩,
  ⟨fun hd => ⟨_, _, _, rfl, rfl, hd rfl, Or.inl ⟨rfl, rfl, rfl⟩⟩,
  ⟨fun hd => mk19 mt_8 cf_8 (vf_8_5.rt (Or.inl W4537) (hd rfl)) rfl rfl (noH_nil rfl),
  ⟨fun hd => mk6 fld_37_13 (Or.inl ⟨rfl, by decide⟩) (Or.inl W4302) (Or.inl rfl) (hd rfl),
  ⟨fun hd => mk19 mt_5 cf_5 (vf_5_5.rt (Or.inl W4364) (hd rfl)) rfl rfl (noH_nil rfl),
  trivial⟩⟩⟩⟩⟩⟩⟩⟩⟩⟩⟩⟩⟩⟩⟩
theorem fe_454 : eqEs ((flat code_454).filter (fun e => ndE e.2.2.1)) (fl_454_0) = true := by decide +kernel
theorem om_454 : OKm mi iT prg 454 := OKm_of (code := code_454) rfl mt_454 (Or.inl (by decide +kernel)) rfl wk_454 (by decide +kernel) (by decide +kernel) (FA_of fe_454 (fb_454_0))
def fl_455_0 : List Ent := [(3, 3, 19, .invokevirtual 456, [0, 2, 2, 37, 456], 0), (11, 3, 19, .invokevirtual 456, [0, 2, 2, 37, 456], 0), (23, 3, 19, .invokevirtual 104, [0, 3, 3, 37, 363], 0), (40, 3, 18, .invokestatic 71, [0, 3, 3, 362], 0), (50, 3, 18, .invokestatic 71, [0, 3, 3, 362], 0), (62, 3, 18, .invokestatic 71, [0, 3, 3, 362], 0), (74, 3, 19, .invokevirtual 63, [0, 3, 3, 37, 364], 0), (82, 3, 6, .getfield 51, [3, 37, 208], 0), (85, 3, 19, .invokevirtual 67, [0, 1, 1, 5, 5], 0), (99, 3, 19, .invokevirtual 63, [0, 3, 3, 37, 364], 0), (108, 3, 6, .getfield 51, [3, 37, 208], 0), (111, 3, 11, .new 459, [40, 9], 0), (122, 3, 36, .invokespecial 461, [9, 6, 6, 40, 768], 0), (125, 3, 19, .invokevirtual 110, [0, 2, 2, 5, 8], 0), (130, 3, 6, .getfield 51, [3, 37, 208], 0), (133, 3, 19, .invokevirtual 67, [0, 1, 1, 5, 5], 0)]
theorem fb_455_0 : FB mi iT mi_455 (bpc code_455) (fl_455_0) := ⟨fun hd => mk19 mt_456 cf_456 (vf_456_37.rt (Or.inl W5426) (hd rfl)) rfl rfl (noH_nil rfl),
  ⟨fun hd => mk19 mt_456 cf_456 (vf_456_37.rt (Or.inl W5426) (hd rfl)) rfl rfl (noH_nil rfl),
  ⟨fun hd => mk19 mt_363 cf_363 (vf_363_37.rt (Or.inl W4356) (hd rfl)) rfl rfl (noH_nil rfl),
  ⟨fun hd => mk18 mt_362 sf_362 (Or.inl W4353) rfl rfl (noH_nil rfl) (hd rfl),
  ⟨fun hd => mk18 mt_362 sf_362 (Or.inl W4353) rfl rfl (noH_nil rfl) (hd rfl),
  ⟨fun hd => mk18 mt_362 sf_362 (Or.inl W4353) rfl rfl (noH_nil rfl) (hd rfl),
  ⟨fun hd => mk19 mt_364 cf_364 (vf_364_37.rt (Or.inl W4360) (hd rfl)) rfl rfl (noH_nil rfl),
  ⟨fun hd => mk6 fld_37_14 (Or.inl ⟨rfl, by decide⟩) (Or.inl W4304) (Or.inl rfl) (hd rfl),
  ⟨fun hd => mk19 mt_5 cf_5 (vf_5_5.rt (Or.inl W4364) (hd rfl)) rfl rfl (noH_nil rfl),
  ⟨fun hd => mk19 mt_364 cf_364 (vf_364_37.rt (Or.inl W4360) (hd rfl)) rfl rfl (noH_nil rfl),
  ⟨fun hd => mk6 fld_37_14 (Or.inl ⟨rfl, by decide⟩) (Or.inl W4304) (Or.inl rfl) (hd rfl),
  ⟨fun hd => mk11 nf_40 W5430 (hd rfl),
  ⟨fun hd => mk36 mt_768 cf_768 (ic_768.rt (Or.inl W5432) (hd rfl)) rfl rfl,
  ⟨fun hd => mk19 mt_8 cf_8 (vf_8_5.rt (Or.inl W4537) (hd rfl)) rfl rfl (noH_nil rfl),
  ⟨fun hd => mk6 fld_37_14 (Or.inl ⟨rfl, by decide⟩) (Or.inl W4304) (Or.inl rfl) (hd rfl),
  ⟨fun hd => mk19 mt_5 cf_5 (vf_5_5.rt (Or.inl W4364) (hd rfl)) rfl rfl (noH_nil rfl),
  trivial⟩⟩⟩⟩⟩⟩⟩⟩⟩⟩⟩⟩⟩⟩⟩⟩
theorem fe_455 : eqEs ((flat code_455).filter (fun e => ndE e.2.2.1)) (fl_455_0) = true := by decide +kernel
theorem om_455 : OKm mi iT prg 455 := OKm_of (code := code_455) rfl mt_455 (Or.inl (by decide +kernel)) rfl wk_455 (by decide +kernel) (by decide +kernel) (FA_of fe_455 (fb_455_0))
def fl_456_0 : List Ent := [(3, 3, 6, .getfield 48, [3, 37, 207], 0), (6, 3, 19, .invokevirtual 67, [0, 1, 1, 5, 5], 0), (11, 3, 18, .invokestatic 71, [0, 3, 3, 362], 0)]
theorem fb_456_0 : FB mi iT mi_456 (bpc code_456) (fl_456_0) := ⟨fun hd => mk6 fld_37_13 (Or.inl ⟨rfl, by decide⟩) (Or.inl W4302) (Or.inl rfl) (hd rfl),
  ⟨fun hd => mk19 mt_5 cf_5 (vf_5_5.rt (Or.inl W4364) (hd rfl)) rfl rfl (noH_nil rfl),
  ⟨fun hd => mk18 mt_362 sf_362 (Or.inl W4353) rfl rfl (noH_nil rfl) (hd rfl),
  trivial⟩⟩⟩
theorem fe_456 : eqEs ((flat code_456).filter (fun e => ndE e.2.2.1)) (fl_456_0) = true := by decide +kernel
theorem om_456 : OKm mi iT prg 456 := OKm_of (code := code_456) rfl mt_456 (Or.inl (by decide +kernel)) rfl wk_456 (by decide +kernel) (by decide +kernel) (FA_of fe_456 (fb_456_0))
def fl_457_0 : List Ent := [(3, 3, 19, .invokevirtual 75, [0, 2, 2, 37, 366], 0), (7, 3, 19, .invokevirtual 104, [0, 3, 3, 37, 363], 0), (19, 3, 18, .invokestatic 71, [0, 3, 3, 362], 0), (31, 3, 19, .invokevirtual 63, [0, 3, 3, 37, 364], 0), (40, 3, 6, .getfield 25, [3, 37, 195], 0), (44, 3, 19, .invokevirtual 114, [3, 2, 2, 5, 6], 0), (47, 3, 17, .checkcast 96, [38], 0), (53, 3, 6, .getfield 118, [0, 38, 217], 0), (61, 3, 6, .getfield 300, [0, 38, 235], 0), (69, 3, 6, .getfield 464, [0, 38, 237], 0), (86, 3, 19, .invokevirtual 63, [0, 3, 3, 37, 364], 0), (96, 3, 6, .getfield 464, [0, 38, 237], 0), (101, 3, 7, .putfield 464, [0, 38, 237], 0), (111, 3, 19, .invokevirtual 211, [9, 4, 4, 37, 392], 0), (115, 3, 6, .getfield 464, [0, 38, 237], 0)]
theorem fb_457_0 : FB mi iT mi_457 (bpc code_457) (fl_457_0) := ⟨fun hd => mk19 mt_366 cf_366 (vf_366_37.rt (Or.inl W4542) (hd rfl)) rfl rfl (noH_nil rfl),
  ⟨fun hd => mk19 mt_363 cf_363 (vf_363_37.rt (Or.inl W4356) (hd rfl)) rfl rfl (noH_nil rfl),
  ⟨fun hd => mk18 mt_362 sf_362 (Or.inl W4353) rfl rfl (noH_nil rfl) (hd rfl),
  ⟨fun hd => mk19 mt_364 cf_364 (vf_364_37.rt (Or.inl W4360) (hd rfl)) rfl rfl (noH_nil rfl),
  ⟨fun hd => mk6 fld_37_1 (Or.inl ⟨rfl, by decide⟩) (Or.inl W4283) (Or.inl rfl) (hd rfl),
  ⟨fun hd => mk19 mt_6 cf_6 (vf_6_5.rt (Or.inl W4546) (hd rfl)) rfl rfl (noH_nil rfl),
  ⟨fun hd => mk17 kx_38 W4365 (hd rfl),
  ⟨fun hd => mk6 fld_38_5 (Or.inl ⟨rfl, by decide⟩) (Or.inl W4387) (Or.inl rfl) (hd rfl),
  ⟨fun hd => mk6 fld_38_23 (Or.inl ⟨rfl, by decide⟩) (Or.inl W4428) (Or.inl rfl) (hd rfl),
  ⟨fun hd => mk6 fld_38_25 (Or.inl ⟨rfl, by decide⟩) (Or.inl W4433) (Or.inl rfl) (hd rfl),
  ⟨fun hd => mk19 mt_364 cf_364 (vf_364_37.rt (Or.inl W4360) (hd rfl)) rfl rfl (noH_nil rfl),
  ⟨fun hd => mk6 fld_38_25 (Or.inl ⟨rfl, by decide⟩) (Or.inl W4433) (Or.inl rfl) (hd rfl),
  ⟨fun hd => mk7 fld_38_25 (Or.inl W4433) (Or.inl rfl) (Or.inl rfl) (hd rfl),
  ⟨fun hd => mk19 mt_392 cf_392 (vf_392_37.rt (Or.inl W4900) (hd rfl)) rfl rfl (noH_nil rfl),
  ⟨fun hd => mk6 fld_38_25 (Or.inl ⟨rfl, by decide⟩) (Or.inl W4433) (Or.inl rfl) (hd rfl),
  trivial⟩⟩⟩⟩⟩⟩⟩⟩⟩⟩⟩⟩⟩⟩⟩
theorem fe_457 : eqEs ((flat code_457).filter (fun e => ndE e.2.2.1)) (fl_457_0) = true := by decide +kernel
theorem om_457 : OKm mi iT prg 457 := OKm_of (code := code_457) rfl mt_457 (Or.inl (by decide +kernel)) rfl wk_457 (by decide +kernel) (by decide +kernel) (FA_of fe_457 (fb_457_0))
def fl_458_0 : List Ent := [(4, 3, 19, .invokevirtual 152, [0, 3, 3, 37, 373], 0), (13, 3, 6, .getfield 51, [3, 37, 208], 0), (16, 3, 19, .invokevirtual 67, [0, 1, 1, 5, 5], 0), (21, 3, 18, .invokestatic 71, [0, 3, 3, 362], 0), (33, 3, 19, .invokevirtual 104, [0, 3, 3, 37, 363], 0), (42, 3, 6, .getfield 25, [3, 37, 195], 0), (46, 3, 19, .invokevirtual 114, [3, 2, 2, 5, 6], 0), (49, 3, 17, .checkcast 96, [38], 0), (55, 3, 6, .getfield 51, [3, 37, 208], 0), (59, 3, 19, .invokevirtual 114, [3, 2, 2, 5, 6], 0), (62, 3, 17, .checkcast 459, [40], 0), (70, 3, 6, .getfield 118, [0, 38, 217], 0), (79, 3, 6, .getfield 300, [0, 38, 235], 0), (88, 3, 6, .getfield 484, [0, 38, 236], 0), (93, 3, 6, .getfield 487, [0, 40, 255], 0), (101, 3, 6, .getfield 489, [0, 40, 260], 0), (113, 3, 19, .invokevirtual 492, [0, 4, 4, 37, 459], 0), (125, 3, 19, .invokevirtual 63, [0, 3, 3, 37, 364], 0), (136, 3, 7, .putfield 489, [0, 40, 260], 0), (142, 3, 7, .putfield 496, [0, 40, 261], 0), (148, 3, 7, .putfield 499, [0, 40, 262], 0), (154, 3, 7, .putfield 502, [2, 40, 263], 0), (159, 3, 19, .invokevirtual 290, [0, 1, 1, 38, 673], 0)]
theorem fb_458_0 : FB mi iT mi_458 (bpc code_458) (fl_458_0) := ⟨fun hd => mk19 mt_373 cf_373 (vf_373_37.rt (Or.inl W4642) (hd rfl)) rfl rfl (noH_nil rfl),
  ⟨fun hd => mk6 fld_37_14 (Or.inl ⟨rfl, by decide⟩) (Or.inl W4304) (Or.inl rfl) (hd rfl),
  ⟨fun hd => mk19 mt_5 cf_5 (vf_5_5.rt (Or.inl W4364) (hd rfl)) rfl rfl (noH_nil rfl),
  ⟨fun hd => mk18 mt_362 sf_362 (Or.inl W4353) rfl rfl (noH_nil rfl) (hd rfl),
  ⟨fun hd => mk19 mt_363 cf_363 (vf_363_37.rt (Or.inl W4356) (hd rfl)) rfl rfl (noH_nil rfl),
  ⟨fun hd => mk6 fld_37_1 (Or.inl ⟨rfl, by decide⟩) (Or.inl W4283) (Or.inl rfl) (hd rfl),
  ⟨fun hd => mk19 mt_6 cf_6 (vf_6_5.rt (Or.inl W4546) (hd rfl)) rfl rfl (noH_nil rfl),
  ⟨fun hd => mk17 kx_38 W4365 (hd rfl),
  ⟨fun hd => mk6 fld_37_14 (Or.inl ⟨rfl, by decide⟩) (Or.inl W4304) (Or.inl rfl) (hd rfl),
  ⟨fun hd => mk19 mt_6 cf_6 (vf_6_5.rt (Or.inl W4546) (hd rfl)) rfl rfl (noH_nil rfl),
  ⟨fun hd => mk17 kx_40 W5430 (hd rfl),
  ⟨fun hd => mk6 fld_38_5 (Or.inl ⟨rfl, by decide⟩) (Or.inl W4387) (Or.inl rfl) (hd rfl),
  ⟨fun hd => mk6 fld_38_23 (Or.inl ⟨rfl, by decide⟩) (Or.inl W4428) (Or.inl rfl) (hd rfl),
  ⟨fun hd => mk6 fld_38_24 (Or.inl ⟨rfl, by decide⟩) (Or.inl W4431) (Or.inl rfl) (hd rfl),
  ⟨fun hd => mk6 fld_40_0 (Or.inl ⟨rfl, by decide⟩) (Or.inl W5437) (Or.inl rfl) (hd rfl),
  ⟨fun hd => mk6 fld_40_5 (Or.inl ⟨rfl, by decide⟩) (Or.inl W5450) (Or.inl rfl) (hd rfl),
  ⟨fun hd => mk19 mt_459 cf_459 (vf_459_37.rt (Or.inl W5485) (hd rfl)) rfl rfl (noH_nil rfl),
  ⟨fun hd => mk19 mt_364 cf_364 (vf_364_37.rt (Or.inl W4360) (hd rfl)) rfl rfl (noH_nil rfl),
  ⟨fun hd => mk7 fld_40_5 (Or.inl W5450) (Or.inl rfl) (Or.inl rfl) (hd rfl),
  ⟨fun hd => mk7 fld_40_6 (Or.inl W5453) (Or.inl rfl) (Or.inl rfl) (hd rfl),
  ⟨fun hd => mk7 fld_40_7 (Or.inl W5455) (Or.inl rfl) (Or.inl rfl) (hd rfl),
  ⟨fun hd => mk7 fld_40_8 (Or.inl W5457) (Or.inl rfl) (Or.inl rfl) (hd rfl),
  ⟨fun hd => mk19 mt_673 cf_673 (vf_673_38.rt (Or.inl W5035) (hd rfl)) rfl rfl (noH_nil rfl),
  trivial⟩⟩⟩⟩⟩⟩⟩⟩⟩⟩⟩⟩⟩⟩⟩⟩⟩⟩⟩⟩⟩⟩⟩
theorem fe_458 : eqEs ((flat code_458).filter (fun e => ndE e.2.2.1)) (fl_458_0) = true := by decide +kernel
theorem om_458 : OKm mi iT prg 458 := OKm_of (code := code_458) rfl mt_458 (Or.inl (by decide +kernel)) rfl wk_458 (by decide +kernel) (by decide +kernel) (FA_of fe_458 (fb_458_0))
def fl_459_0 : List Ent := [(1, 3, 6, .getfield 101, [0, 38, 216], 0), (10, 3, 19, .invokevirtual 475, [0, 3, 3, 37, 460], 0), (23, 3, 6, .getfield 472, [0, 40, 257], 0), (29, 3, 19, .invokevirtual 478, [0, 2, 2, 38, 659], 0), (39, 3, 19, .invokevirtual 481, [0, 3, 3, 37, 461], 0), (48, 3, 6, .getfield 469, [0, 40, 258], 0), (66, 3, 19, .invokevirtual 481, [0, 3, 3, 37, 461], 0), (78, 3, 19, .invokevirtual 481, [0, 3, 3, 37, 461], 0)]
theorem fb_459_0 : FB mi iT mi_459 (bpc code_459) (fl_459_0) := ⟨fun hd => mk6 fld_38_4 (Or.inl ⟨rfl, by decide⟩) (Or.inl W4384) (Or.inl rfl) (hd rfl),
  ⟨fun hd => mk19 mt_460 cf_460 (vf_460_37.rt (Or.inl W5489) (hd rfl)) rfl rfl (noH_nil rfl),
  ⟨fun hd => mk6 fld_40_2 (Or.inl ⟨rfl, by decide⟩) (Or.inl W5442) (Or.inl rfl) (hd rfl),
  ⟨fun hd => mk19 mt_659 cf_659 (if_659_38_KeelHouseModel_Shipspace_I_I.rt W5494 (hd rfl)) rfl rfl (noH_nil rfl),
  ⟨fun hd => mk19 mt_461 cf_461 (vf_461_37.rt (Or.inl W5500) (hd rfl)) rfl rfl (noH_nil rfl),
  ⟨fun hd => mk6 fld_40_3 (Or.inl ⟨rfl, by decide⟩) (Or.inl W5445) (Or.inl rfl) (hd rfl),
  ⟨fun hd => mk19 mt_461 cf_461 (vf_461_37.rt (Or.inl W5500) (hd rfl)) rfl rfl (noH_nil rfl),
  ⟨fun hd => mk19 mt_461 cf_461 (vf_461_37.rt (Or.inl W5500) (hd rfl)) rfl rfl (noH_nil rfl),
  trivial⟩⟩⟩⟩⟩⟩⟩⟩
theorem fe_459 : eqEs ((flat code_459).filter (fun e => ndE e.2.2.1)) (fl_459_0) = true := by decide +kernel
theorem om_459 : OKm mi iT prg 459 := OKm_of (code := code_459) rfl mt_459 (Or.inl (by decide +kernel)) rfl wk_459 (by decide +kernel) (by decide +kernel) (FA_of fe_459 (fb_459_0))
def fl_460_0 : List Ent := [(3, 3, 6, .getfield 51, [3, 37, 208], 0), (6, 3, 19, .invokevirtual 82, [3, 1, 1, 5, 4], 0), (13, 5, 34, .invokeinterface 86 1, [0, 1, 1, 11, 87], 0), (23, 5, 34, .invokeinterface 92 1, [3, 1, 1, 11, 88], 0), (28, 3, 17, .checkcast 459, [40], 0), (38, 3, 19, .invokevirtual 467, [0, 3, 3, 40, 765], 0), (46, 3, 6, .getfield 472, [0, 40, 257], 0)]
theorem fb_460_0 : FB mi iT mi_460 (bpc code_460) (fl_460_0) := ⟨fun hd => mk6 fld_37_14 (Or.inl ⟨rfl, by decide⟩) (Or.inl W4304) (Or.inl rfl) (hd rfl),
  ⟨fun hd => mk19 mt_4 cf_4 (vf_4_5.rt (Or.inl W4965) (hd rfl)) rfl rfl (noH_nil rfl),
  ⟨fun hd => mk34 mt_87 cf_87 (ff_87_11.rt W4967 (hd rfl)) rfl rfl,
  ⟨fun hd => mk34 mt_88 cf_88 (ff_88_11.rt W4969 (hd rfl)) rfl rfl,
  ⟨fun hd => mk17 kx_40 W5430 (hd rfl),
  ⟨fun hd => mk19 mt_765 cf_765 (vf_765_40.rt (Or.inl W5493) (hd rfl)) rfl rfl (noH_nil rfl),
  ⟨fun hd => mk6 fld_40_2 (Or.inl ⟨rfl, by decide⟩) (Or.inl W5442) (Or.inl rfl) (hd rfl),
  trivial⟩⟩⟩⟩⟩⟩⟩
theorem fe_460 : eqEs ((flat code_460).filter (fun e => ndE e.2.2.1)) (fl_460_0) = true := by decide +kernel
theorem om_460 : OKm mi iT prg 460 := OKm_of (code := code_460) rfl mt_460 (Or.inl (by decide +kernel)) rfl wk_460 (by decide +kernel) (by decide +kernel) (FA_of fe_460 (fb_460_0))
def fl_461_0 : List Ent := [(1, 3, 6, .getfield 51, [3, 37, 208], 0), (4, 3, 19, .invokevirtual 82, [3, 1, 1, 5, 4], 0), (9, 5, 34, .invokeinterface 86 1, [0, 1, 1, 11, 87], 0), (18, 5, 34, .invokeinterface 92 1, [3, 1, 1, 11, 88], 0), (23, 3, 17, .checkcast 459, [40], 0), (32, 3, 19, .invokevirtual 467, [0, 3, 3, 40, 765], 0), (40, 3, 6, .getfield 469, [0, 40, 258], 0)]
theorem fb_461_0 : FB mi iT mi_461 (bpc code_461) (fl_461_0) := ⟨fun hd => mk6 fld_37_14 (Or.inl ⟨rfl, by decide⟩) (Or.inl W4304) (Or.inl rfl) (hd rfl),
  ⟨fun hd => mk19 mt_4 cf_4 (vf_4_5.rt (Or.inl W4965) (hd rfl)) rfl rfl (noH_nil rfl),
  ⟨fun hd => mk34 mt_87 cf_87 (ff_87_11.rt W4967 (hd rfl)) rfl rfl,
  ⟨fun hd => mk34 mt_88 cf_88 (ff_88_11.rt W4969 (hd rfl)) rfl rfl,
  ⟨fun hd => mk17 kx_40 W5430 (hd rfl),
  ⟨fun hd => mk19 mt_765 cf_765 (vf_765_40.rt (Or.inl W5493) (hd rfl)) rfl rfl (noH_nil rfl),
  ⟨fun hd => mk6 fld_40_3 (Or.inl ⟨rfl, by decide⟩) (Or.inl W5445) (Or.inl rfl) (hd rfl),
  trivial⟩⟩⟩⟩⟩⟩⟩
theorem fe_461 : eqEs ((flat code_461).filter (fun e => ndE e.2.2.1)) (fl_461_0) = true := by decide +kernel
theorem om_461 : OKm mi iT prg 461 := OKm_of (code := code_461) rfl mt_461 (Or.inl (by decide +kernel)) rfl wk_461 (by decide +kernel) (by decide +kernel) (FA_of fe_461 (fb_461_0))
def fl_462_0 : List Ent := [(3, 3, 19, .invokevirtual 75, [0, 2, 2, 37, 366], 0), (7, 3, 19, .invokevirtual 104, [0, 3, 3, 37, 363], 0), (16, 3, 6, .getfield 25, [3, 37, 195], 0), (20, 3, 19, .invokevirtual 114, [3, 2, 2, 5, 6], 0), (23, 3, 17, .checkcast 96, [38], 0), (29, 3, 6, .getfield 118, [0, 38, 217], 0), (37, 3, 6, .getfield 300, [0, 38, 235], 0), (50, 3, 19, .invokevirtual 63, [0, 3, 3, 37, 364], 0), (61, 3, 6, .getfield 51, [3, 37, 208], 0), (64, 3, 19, .invokevirtual 82, [3, 1, 1, 5, 4], 0), (71, 5, 34, .invokeinterface 86 1, [0, 1, 1, 11, 87], 0), (81, 5, 34, .invokeinterface 92 1, [3, 1, 1, 11, 88], 0), (86, 3, 17, .checkcast 459, [40], 0), (93, 3, 6, .getfield 489, [0, 40, 260], 0), (102, 3, 6, .getfield 496, [0, 40, 261], 0), (111, 3, 6, .getfield 506, [0, 40, 256], 0), (115, 3, 6, .getfield 484, [0, 38, 236], 0), (127, 3, 19, .invokevirtual 509, [9, 2, 2, 40, 767], 0), (133, 3, 6, .getfield 512, [0, 40, 259], 0), (143, 3, 6, .getfield 515, [0, 38, 241], 0), (148, 3, 7, .putfield 515, [0, 38, 241], 0), (156, 3, 19, .invokevirtual 211, [9, 4, 4, 37, 392], 0)]
theorem fb_462_0 : FB mi iT mi_462 (bpc code_462) (fl_462_0) := ⟨fun hd => mk19 mt_366 cf_366 (vf_366_37.rt (Or.inl W4542) (hd rfl)) rfl rfl (noH_nil rfl),
  ⟨fun hd => mk19 mt_363 cf_363 (vf_363_37.rt (Or.inl W4356) (hd rfl)) rfl rfl (noH_nil rfl),
  ⟨fun hd => mk6 fld_37_1 (Or.inl ⟨rfl, by decide⟩) (Or.inl W4283) (Or.inl rfl) (hd rfl),
  ⟨fun hd => mk19 mt_6 cf_6 (vf_6_5.rt (Or.inl W4546) (hd rfl)) rfl rfl (noH_nil rfl),
  ⟨fun hd => mk17 kx_38 W4365 (hd rfl),
  ⟨fun hd => mk6 fld_38_5 (Or.inl ⟨rfl, by decide⟩) (Or.inl W4387) (Or.inl rfl) (hd rfl),
  ⟨fun hd => mk6 fld_38_23 (Or.inl ⟨rfl, by decide⟩) (Or.inl W4428) (Or.inl rfl) (hd rfl),
  ⟨fun hd => mk19 mt_364 cf_364 (vf_364_37.rt (Or.inl W4360) (hd rfl)) rfl rfl (noH_nil rfl),
  ⟨fun hd => mk6 fld_37_14 (Or.inl ⟨rfl, by decide⟩) (Or.inl W4304) (Or.inl rfl) (hd rfl),
  ⟨fun hd => mk19 mt_4 cf_4 (vf_4_5.rt (Or.inl W4965) (hd rfl)) rfl rfl (noH_nil rfl),
  ⟨fun hd => mk34 mt_87 cf_87 (ff_87_11.rt W4967 (hd rfl)) rfl rfl,
  ⟨fun hd => mk34 mt_88 cf_88 (ff_88_11.rt W4969 (hd rfl)) rfl rfl,
  ⟨fun hd => mk17 kx_40 W5430 (hd rfl),
  ⟨fun hd => mk6 fld_40_5 (Or.inl ⟨rfl, by decide⟩) (Or.inl W5450) (Or.inl rfl) (hd rfl),
  ⟨fun hd => mk6 fld_40_6 (Or.inl ⟨rfl, by decide⟩) (Or.inl W5453) (Or.inl rfl) (hd rfl),
  ⟨fun hd => mk6 fld_40_1 (Or.inl ⟨rfl, by decide⟩) (Or.inl W5439) (Or.inl rfl) (hd rfl),
  ⟨fun hd => mk6 fld_38_24 (Or.inl ⟨rfl, by decide⟩) (Or.inl W4431) (Or.inl rfl) (hd rfl),
  ⟨fun hd => mk19 mt_767 cf_767 (vf_767_40.rt (Or.inl W5508) (hd rfl)) rfl rfl (noH_nil rfl),
  ⟨fun hd => mk6 fld_40_4 (Or.inl ⟨rfl, by decide⟩) (Or.inl W5447) (Or.inl rfl) (hd rfl),
  ⟨fun hd => mk6 fld_38_29 (Or.inl ⟨rfl, by decide⟩) (Or.inl W4440) (Or.inl rfl) (hd rfl),
  ⟨fun hd => mk7 fld_38_29 (Or.inl W4440) (Or.inl rfl) (Or.inl rfl) (hd rfl),
  ⟨fun hd => mk19 mt_392 cf_392 (vf_392_37.rt (Or.inl W4900) (hd rfl)) rfl rfl (noH_nil rfl),
  trivial⟩⟩⟩⟩⟩⟩⟩⟩⟩⟩⟩⟩⟩⟩⟩⟩⟩⟩⟩⟩⟩⟩
theorem fe_462 : eqEs ((flat code_462).filter (fun e => ndE e.2.2.1)) (fl_462_0) = true := by decide +kernel
theorem om_462 : OKm mi iT prg 462 := OKm_of (code := code_462) rfl mt_462 (Or.inl (by decide +kernel)) rfl wk_462 (by decide +kernel) (by decide +kernel) (FA_of fe_462 (fb_462_0))
def fl_463_0 : List Ent := [(3, 3, 19, .invokevirtual 75, [0, 2, 2, 37, 366], 0), (16, 3, 19, .invokevirtual 456, [0, 2, 2, 37, 456], 0), (28, 3, 19, .invokevirtual 104, [0, 3, 3, 37, 363], 0), (37, 3, 6, .getfield 25, [3, 37, 195], 0), (41, 3, 19, .invokevirtual 114, [3, 2, 2, 5, 6], 0), (44, 3, 17, .checkcast 96, [38], 0), (50, 3, 6, .getfield 300, [0, 38, 235], 0), (58, 3, 6, .getfield 484, [0, 38, 236], 0), (71, 3, 19, .invokevirtual 63, [0, 3, 3, 37, 364], 0), (79, 3, 6, .getfield 118, [0, 38, 217], 0), (87, 3, 6, .getfield 300, [0, 38, 235], 0), (100, 3, 19, .invokevirtual 63, [0, 3, 3, 37, 364], 0), (109, 3, 19, .invokevirtual 290, [0, 1, 1, 38, 673], 0), (121, 3, 19, .invokevirtual 429, [0, 1, 1, 38, 697], 0), (136, 3, 6, .getfield 48, [3, 37, 207], 0), (140, 3, 19, .invokevirtual 114, [3, 2, 2, 5, 6], 0), (143, 3, 17, .checkcast 210, [100], 0), (149, 3, 19, .invokevirtual 319, [0, 1, 1, 38, 694], 0), (159, 3, 6, .getfield 484, [0, 38, 236], 0), (163, 3, 19, .invokevirtual 521, [0, 3, 3, 37, 464], 0), (172, 3, 7, .putfield 524, [2, 38, 238], 0), (177, 3, 7, .putfield 484, [0, 38, 236], 0), (182, 3, 7, .putfield 300, [0, 38, 235], 0), (187, 3, 7, .putfield 98, [0, 38, 226], 0)]
theorem fb_463_0 : FB mi iT mi_463 (bpc code_463) (fl_463_0) := ⟨fun hd => mk19 mt_366 cf_366 (vf_366_37.rt (Or.inl W4542) (hd rfl)) rfl rfl (noH_nil rfl),
  ⟨fun hd => mk19 mt_456 cf_456 (vf_456_37.rt (Or.inl W5426) (hd rfl)) rfl rfl (noH_nil rfl),
  ⟨fun hd => mk19 mt_363 cf_363 (vf_363_37.rt (Or.inl W4356) (hd rfl)) rfl rfl (noH_nil rfl),
  ⟨fun hd => mk6 fld_37_1 (Or.inl ⟨rfl, by decide⟩) (Or.inl W4283) (Or.inl rfl) (hd rfl),
  ⟨fun hd => mk19 mt_6 cf_6 (vf_6_5.rt (Or.inl W4546) (hd rfl)) rfl rfl (noH_nil rfl),
  ⟨fun hd => mk17 kx_38 W4365 (hd rfl),
  ⟨fun hd => mk6 fld_38_23 (Or.inl ⟨rfl, by decide⟩) (Or.inl W4428) (Or.inl rfl) (hd rfl),
  ⟨fun hd => mk6 fld_38_24 (Or.inl ⟨rfl, by decide⟩) (Or.inl W4431) (Or.inl rfl) (hd rfl),
  ⟨fun hd => mk19 mt_364 cf_364 (vf_364_37.rt (Or.inl W4360) (hd rfl)) rfl rfl (noH_nil rfl),
  ⟨fun hd => mk6 fld_38_5 (Or.inl ⟨rfl, by decide⟩) (Or.inl W4387) (Or.inl rfl) (hd rfl),
  ⟨fun hd => mk6 fld_38_23 (Or.inl ⟨rfl, by decide⟩) (Or.inl W4428) (Or.inl rfl) (hd rfl),
  ⟨fun hd => mk19 mt_364 cf_364 (vf_364_37.rt (Or.inl W4360) (hd rfl)) rfl rfl (noH_nil rfl),
  ⟨fun hd => mk19 mt_673 cf_673 (vf_673_38.rt (Or.inl W5035) (hd rfl)) rfl rfl (noH_nil rfl),
  ⟨fun hd => mk19 mt_697 cf_697 (vf_697_38.rt (Or.inl W5366) (hd rfl)) rfl rfl (noH_nil rfl),
  ⟨fun hd => mk6 fld_37_13 (Or.inl ⟨rfl, by decide⟩) (Or.inl W4302) (Or.inl rfl) (hd rfl),
  ⟨fun hd => mk19 mt_6 cf_6 (vf_6_5.rt (Or.inl W4546) (hd rfl)) rfl rfl (noH_nil rfl),
  ⟨fun hd => mk17 kx_100 W4899 (hd rfl),
  ⟨fun hd => mk19 mt_694 cf_694 (vf_694_38.rt (Or.inl W5078) (hd rfl)) rfl rfl (noH_nil rfl),
  ⟨fun hd => mk6 fld_38_24 (Or.inl ⟨rfl, by decide⟩) (Or.inl W4431) (Or.inl rfl) (hd rfl),
  ⟨fun hd => mk19 mt_464 cf_464 (vf_464_37.rt (Or.inl W5513) (hd rfl)) rfl rfl (noH_nil rfl),
  ⟨fun hd => mk7 fld_38_26 (Or.inl W4435) (Or.inl rfl) (Or.inl rfl) (hd rfl),
  ⟨fun hd => mk7 fld_38_24 (Or.inl W4431) (Or.inl rfl) (Or.inl rfl) (hd rfl),
  ⟨fun hd => mk7 fld_38_23 (Or.inl W4428) (Or.inl rfl) (Or.inl rfl) (hd rfl),
  ⟨fun hd => mk7 fld_38_14 (Or.inl W4408) (Or.inl rfl) (Or.inl rfl) (hd rfl),
  trivial⟩⟩⟩⟩⟩⟩⟩⟩⟩⟩⟩⟩⟩⟩⟩⟩⟩⟩⟩⟩⟩⟩⟩⟩
theorem fe_463 : eqEs ((flat code_463).filter (fun e => ndE e.2.2.1)) (fl_463_0) = true := by decide +kernel
theorem om_463 : OKm mi iT prg 463 := OKm_of (code := code_463) rfl mt_463 (Or.inl (by decide +kernel)) rfl wk_463 (by decide +kernel) (by decide +kernel) (FA_of fe_463 (fb_463_0))
def fl_464_0 : List Ent := [(10, 3, 6, .getfield 48, [3, 37, 207], 0), (14, 3, 19, .invokevirtual 114, [3, 2, 2, 5, 6], 0), (17, 3, 17, .checkcast 210, [100], 0), (32, 3, 6, .getfield 48, [3, 37, 207], 0), (36, 3, 19, .invokevirtual 114, [3, 2, 2, 5, 6], 0), (39, 3, 17, .checkcast 210, [100], 0), (56, 3, 6, .getfield 48, [3, 37, 207], 0), (60, 3, 19, .invokevirtual 114, [3, 2, 2, 5, 6], 0), (63, 3, 17, .checkcast 210, [100], 0), (78, 3, 6, .getfield 48, [3, 37, 207], 0), (82, 3, 19, .invokevirtual 114, [3, 2, 2, 5, 6], 0), (85, 3, 17, .checkcast 210, [100], 0), (95, 3, 18, .invokestatic 518, [0, 1, 1, 70], 0), (100, 3, 18, .invokestatic 518, [0, 1, 1, 70], 0)]
theorem fb_464_0 : FB mi iT mi_464 (bpc code_464) (fl_464_0) := ⟨fun hd => mk6 fld_37_13 (Or.inl ⟨rfl, by decide⟩) (Or.inl W4302) (Or.inl rfl) (hd rfl),
  ⟨fun hd => mk19 mt_6 cf_6 (vf_6_5.rt (Or.inl W4546) (hd rfl)) rfl rfl (noH_nil rfl),
  ⟨fun hd => mk17 kx_100 W4899 (hd rfl),
  ⟨fun hd => mk6 fld_37_13 (Or.inl ⟨rfl, by decide⟩) (Or.inl W4302) (Or.inl rfl) (hd rfl),
  ⟨fun hd => mk19 mt_6 cf_6 (vf_6_5.rt (Or.inl W4546) (hd rfl)) rfl rfl (noH_nil rfl),
  ⟨fun hd => mk17 kx_100 W4899 (hd rfl),
  ⟨fun hd => mk6 fld_37_13 (Or.inl ⟨rfl, by decide⟩) (Or.inl W4302) (Or.inl rfl) (hd rfl),
  ⟨fun hd => mk19 mt_6 cf_6 (vf_6_5.rt (Or.inl W4546) (hd rfl)) rfl rfl (noH_nil rfl),
  ⟨fun hd => mk17 kx_100 W4899 (hd rfl),
  ⟨fun hd => mk6 fld_37_13 (Or.inl ⟨rfl, by decide⟩) (Or.inl W4302) (Or.inl rfl) (hd rfl),
  ⟨fun hd => mk19 mt_6 cf_6 (vf_6_5.rt (Or.inl W4546) (hd rfl)) rfl rfl (noH_nil rfl),
  ⟨fun hd => mk17 kx_100 W4899 (hd rfl),
  ⟨fun hd => mk18 mt_70 sf_70 (Or.inl W5517) rfl rfl (noH_nil rfl) (hd rfl),
  ⟨fun hd => mk18 mt_70 sf_70 (Or.inl W5517) rfl rfl (noH_nil rfl) (hd rfl),
  trivial⟩⟩⟩⟩⟩⟩⟩⟩⟩⟩⟩⟩⟩⟩
theorem fe_464 : eqEs ((flat code_464).filter (fun e => ndE e.2.2.1)) (fl_464_0) = true := by decide +kernel
theorem om_464 : OKm mi iT prg 464 := OKm_of (code := code_464) rfl mt_464 (Or.inl (by decide +kernel)) rfl wk_464 (by decide +kernel) (by decide +kernel) (FA_of fe_464 (fb_464_0))
def fl_465_0 : List Ent := [(3, 3, 19, .invokevirtual 75, [0, 2, 2, 37, 366], 0), (7, 3, 19, .invokevirtual 104, [0, 3, 3, 37, 363], 0), (18, 3, 18, .invokestatic 71, [0, 3, 3, 362], 0), (30, 3, 19, .invokevirtual 63, [0, 3, 3, 37, 364], 0), (41, 3, 6, .getfield 25, [3, 37, 195], 0), (45, 3, 19, .invokevirtual 114, [3, 2, 2, 5, 6], 0), (48, 3, 17, .checkcast 96, [38], 0), (52, 3, 19, .invokevirtual 526, [0, 2, 2, 38, 721], 0)]
theorem fb_465_0 : FB mi iT mi_465 (bpc code_465) (fl_465_0) := ⟨fun hd => mk19 mt_366 cf_366 (vf_366_37.rt (Or.inl W4542) (hd rfl)) rfl rfl (noH_nil rfl),
  ⟨fun hd => mk19 mt_363 cf_363 (vf_363_37.rt (Or.inl W4356) (hd rfl)) rfl rfl (noH_nil rfl),
  ⟨fun hd => mk18 mt_362 sf_362 (Or.inl W4353) rfl rfl (noH_nil rfl) (hd rfl),
  ⟨fun hd => mk19 mt_364 cf_364 (vf_364_37.rt (Or.inl W4360) (hd rfl)) rfl rfl (noH_nil rfl),
  ⟨fun hd => mk6 fld_37_1 (Or.inl ⟨rfl, by decide⟩) (Or.inl W4283) (Or.inl rfl) (hd rfl),
  ⟨fun hd => mk19 mt_6 cf_6 (vf_6_5.rt (Or.inl W4546) (hd rfl)) rfl rfl (noH_nil rfl),
  ⟨fun hd => mk17 kx_38 W4365 (hd rfl),
  ⟨fun hd => mk19 mt_721 cf_721 (vf_721_38.rt (Or.inl W5522) (hd rfl)) rfl rfl (noH_nil rfl),
  trivial⟩⟩⟩⟩⟩⟩⟩⟩
theorem fe_465 : eqEs ((flat code_465).filter (fun e => ndE e.2.2.1)) (fl_465_0) = true := by decide +kernel
theorem om_465 : OKm mi iT prg 465 := OKm_of (code := code_465) rfl mt_465 (Or.inl (by decide +kernel)) rfl wk_465 (by decide +kernel) (by decide +kernel) (FA_of fe_465 (fb_465_0))
def fl_466_0 : List Ent := [(4, 3, 6, .getfield 51, [3, 37, 208], 0), (7, 3, 19, .invokevirtual 67, [0, 1, 1, 5, 5], 0), (12, 3, 18, .invokestatic 71, [0, 3, 3, 362], 0), (24, 3, 19, .invokevirtual 104, [0, 3, 3, 37, 363], 0), (34, 3, 18, .invokestatic 71, [0, 3, 3, 362], 0), (46, 3, 19, .invokevirtual 63, [0, 3, 3, 37, 364], 0), (58, 3, 6, .getfield 51, [3, 37, 208], 0), (62, 3, 19, .invokevirtual 114, [3, 2, 2, 5, 6], 0), (65, 3, 17, .checkcast 459, [40], 0), (69, 3, 19, .invokevirtual 529, [0, 3, 3, 37, 467], 0)]
theorem fb_466_0 : FB mi iT mi_466 (bpc code_466) (fl_466_0) := ⟨fun hd => mk6 fld_37_14 (Or.inl ⟨rfl, by decide⟩) (Or.inl W4304) (Or.inl rfl) (hd rfl),
  ⟨fun hd => mk19 mt_5 cf_5 (vf_5_5.rt (Or.inl W4364) (hd rfl)) rfl rfl (noH_nil rfl),
  ⟨fun hd => mk18 mt_362 sf_362 (Or.inl W4353) rfl rfl (noH_nil rfl) (hd rfl),
  ⟨fun hd => mk19 mt_363 cf_363 (vf_363_37.rt (Or.inl W4356) (hd rfl)) rfl rfl (noH_nil rfl),
  ⟨fun hd => mk18 mt_362 sf_362 (Or.inl W4353) rfl rfl (noH_nil rfl) (hd rfl),
  ⟨fun hd => mk19 mt_364 cf_364 (vf_364_37.rt (Or.inl W4360) (hd rfl)) rfl rfl (noH_nil rfl),
  ⟨fun hd => mk6 fld_37_14 (Or.inl ⟨rfl, by decide⟩) (Or.inl W4304) (Or.inl rfl) (hd rfl),
  ⟨fun hd => mk19 mt_6 cf_6 (vf_6_5.rt (Or.inl W4546) (hd rfl)) rfl rfl (noH_nil rfl),
  ⟨fun hd => mk17 kx_40 W5430 (hd rfl),
  ⟨fun hd => mk19 mt_467 cf_467 (vf_467_37.rt (Or.inl W5534) (hd rfl)) rfl rfl (noH_nil rfl),
  trivial⟩⟩⟩⟩⟩⟩⟩⟩⟩⟩
theorem fe_466 : eqEs ((flat code_466).filter (fun e => ndE e.2.2.1)) (fl_466_0) = true := by decide +kernel
theorem om_466 : OKm mi iT prg 466 := OKm_of (code := code_466) rfl mt_466 (Or.inl (by decide +kernel)) rfl wk_466 (by decide +kernel) (by decide +kernel) (FA_of fe_466 (fb_466_0))
def fl_467_0 : List Ent := [(5, 3, 6, .getfield 489, [0, 40, 260], 0), (17, 3, 6, .getfield 496, [0, 40, 261], 0), (29, 3, 6, .getfield 499, [0, 40, 262], 0), (35, 3, 15, .ldc2_w 141, [4620693217682128896], 0), (39, 3, 6, .getfield 502, [2, 40, 263], 0)]
theorem fb_467_0 : FB mi iT mi_467 (bpc code_467) (fl_467_0) := ⟨fun hd => mk6 fld_40_5 (Or.inl ⟨rfl, by decide⟩) (Or.inl W5450) (Or.inl rfl) (hd rfl),
  ⟨fun hd => mk6 fld_40_6 (Or.inl ⟨rfl, by decide⟩) (Or.inl W5453) (Or.inl rfl) (hd rfl),
  ⟨fun hd => mk6 fld_40_7 (Or.inl ⟨rfl, by decide⟩) (Or.inl W5455) (Or.inl rfl) (hd rfl),
  ⟨fun hd => mk15 W4570 (hd rfl),
  ⟨fun hd => mk6 fld_40_8 (Or.inl ⟨rfl, by decide⟩) (Or.inl W5457) (Or.inl rfl) (hd rfl),
  trivial⟩⟩⟩⟩⟩
theorem fe_467 : eqEs ((flat code_467).filter (fun e => ndE e.2.2.1)) (fl_467_0) = true := by decide +kernel
theorem om_467 : OKm mi iT prg 467 := OKm_of (code := code_467) rfl mt_467 (Or.inl (by decide +kernel)) rfl wk_467 (by decide +kernel) (by decide +kernel) (FA_of fe_467 (fb_467_0))
def fl_468_0 : List Ent := [(8, 3, 19, .invokevirtual 456, [0, 2, 2, 37, 456], 0), (20, 3, 19, .invokevirtual 104, [0, 3, 3, 37, 363], 0), (33, 3, 6, .getfield 48, [3, 37, 207], 0), (36, 3, 19, .invokevirtual 67, [0, 1, 1, 5, 5], 0), (49, 3, 19, .invokevirtual 63, [0, 3, 3, 37, 364], 0), (60, 3, 19, .invokevirtual 537, [0, 3, 3, 37, 3006], 0), (78, 3, 6, .getfield 48, [3, 37, 207], 0), (81, 3, 19, .invokevirtual 67, [0, 1, 1, 5, 5], 0), (90, 3, 18, .invokestatic 534, [0, 2, 2, 379], 0), (100, 3, 19, .invokevirtual 521, [0, 3, 3, 37, 464], 0), (114, 3, 19, .invokevirtual 537, [0, 3, 3, 37, 3006], 0)]
theorem fb_468_0 : FB mi iT mi_468 (bpc code_468) (fl_468_0) := ⟨fun hd => mk19 mt_456 cf_456 (vf_456_37.rt (Or.inl W5426) (hd rfl)) rfl rfl (noH_nil rfl),
  ⟨fun hd => mk19 mt_363 cf_363 (vf_363_37.rt (Or.inl W4356) (hd rfl)) rfl rfl (noH_nil rfl),
  ⟨fun hd => mk6 fld_37_13 (Or.inl ⟨rfl, by decide⟩) (Or.inl W4302) (Or.inl rfl) (hd rfl),
  ⟨fun hd => mk19 mt_5 cf_5 (vf_5_5.rt (Or.inl W4364) (hd rfl)) rfl rfl (noH_nil rfl),
  ⟨fun hd => mk19 mt_364 cf_364 (vf_364_37.rt (Or.inl W4360) (hd rfl)) rfl rfl (noH_nil rfl),
  ⟨fun hd => mk19 rfl (cf_X10_least 7) (vf_X10_least_37.rt (Or.inl W5542) (hd rfl)) rfl rfl (noH_nil rfl),
  ⟨fun hd => mk6 fld_37_13 (Or.inl ⟨rfl, by decide⟩) (Or.inl W4302) (Or.inl rfl) (hd rfl),
  ⟨fun hd => mk19 mt_5 cf_5 (vf_5_5.rt (Or.inl W4364) (hd rfl)) rfl rfl (noH_nil rfl),
  ⟨fun hd => mk18 mt_379 sf_379 (Or.inl W5547) rfl rfl (noH_nil rfl) (hd rfl),
  ⟨fun hd => mk19 mt_464 cf_464 (vf_464_37.rt (Or.inl W5513) (hd rfl)) rfl rfl (noH_nil rfl),
  ⟨fun hd => mk19 rfl (cf_X10_least 7) (vf_X10_least_37.rt (Or.inl W5542) (hd rfl)) rfl rfl (noH_nil rfl),
  trivial⟩⟩⟩⟩⟩⟩⟩⟩⟩⟩⟩
theorem fe_468 : eqEs ((flat code_468).filter (fun e => ndE e.2.2.1)) (fl_468_0) = true := by decide +kernel
theorem om_468 : OKm mi iT prg 468 := OKm_of (code := code_468) rfl mt_468 (Or.inl (by decide +kernel)) rfl wk_468 (by decide +kernel) (by decide +kernel) (FA_of fe_468 (fb_468_0))
def fl_X10_least_0 (m : Nat) : List Ent := [(7, 3, 19, .invokevirtual 521, [0, 3, 3, 37, 464], 0), (11, 3, 14, .ldc_w 533, [], 2147483647), (21, 3, 6, .getfield 48, [3, 37, 207], 0), (24, 3, 19, .invokevirtual 67, [0, 1, 1, 5, 5], 0), (33, 3, 18, .invokestatic 534, [0, 2, 2, 379], 0), (44, 3, 19, .invokevirtual 521, [0, 3, 3, 37, 464], 0), (58, 3, 19, .invokevirtual 537, [0, 3, 3, 37, m - 1], 0), (62, 3, 18, .invokestatic 223, [0, 2, 2, 67], 0)]
theorem fb_X10_least_0 (m : Nat) (hm : 3000 ≤ m ∧ m ≤ 3099) : FB mi iT (mi_X10_least (m - 2999)) (bpc (code_X10_least m)) (fl_X10_least_0 m) := ⟨fun hd => mk19 mt_464 cf_464 (vf_464_37.rt (Or.inl W5513) (hd rfl)) (rkc_X10_least (by decide)) rfl (noH_nil rfl),
  ⟨fun hd => mk14c W5546 (Or.inr ⟨hd rfl, rfl⟩),
  ⟨fun hd => mk6 fld_37_13 (Or.inl ⟨rfl, by decide⟩) (Or.inl W4302) (Or.inl rfl) (hd rfl),
  ⟨fun hd => mk19 mt_5 cf_5 (vf_5_5.rt (Or.inl W4364) (hd rfl)) (rkc_X10_least (by decide)) rfl (noH_nil rfl),
  ⟨fun hd => mk18 mt_379 sf_379 (Or.inl W5547) (rkc_X10_least (by decide)) rfl (noH_nil rfl) (hd rfl),
  ⟨fun hd => mk19 mt_464 cf_464 (vf_464_37.rt (Or.inl W5513) (hd rfl)) (rkc_X10_least (by decide)) rfl (noH_nil rfl),
  ⟨fun hd => mk19 (mi_pred_X10_least hm) (cf_X10_least _) ((vfr_X10_least _).rt (Or.inl W5542) (hd rfl)) (rk_X10_least hm) rfl (noH_nil rfl),
  ⟨fun hd => mk18 mt_67 sf_67 (Or.inl W4943) (rkc_X10_least (by decide)) rfl (noH_nil rfl) (hd rfl),
  trivial⟩⟩⟩⟩⟩⟩⟩⟩
theorem fe_X10_least (m : Nat) : (flat (code_X10_least m)).filter (fun e => ndE e.2.2.1) = fl_X10_least_0 m := rfl
theorem om_X10_least (m : Nat) (hm : 3000 ≤ m ∧ m ≤ 3099) (hp : prg m = code_X10_least m) (hq : mi m = (mi_X10_least (m - 2999))) : OKm mi iT prg m := OKm_of hp hq (Or.inl rfl) rfl (wk_X10_least m) rfl rfl (FB_FA _ (by rw [fe_X10_least]; exact fb_X10_least_0 m hm))
def fl_470_0 : List Ent := [(5, 3, 18, .invokestatic 71, [0, 3, 3, 362], 0), (23, 3, 19, .invokevirtual 75, [0, 2, 2, 37, 366], 0), (35, 3, 19, .invokevirtual 104, [0, 3, 3, 37, 363], 0), (46, 3, 18, .invokestatic 71, [0, 3, 3, 362], 0), (58, 3, 19, .invokevirtual 63, [0, 3, 3, 37, 364], 0), (72, 3, 19, .invokevirtual 540, [0, 4, 4, 37, 471], 0)]
theorem fb_470_0 : FB mi iT mi_470 (bpc code_470) (fl_470_0) := ⟨fun hd => mk18 mt_362 sf_362 (Or.inl W4353) rfl rfl (noH_nil rfl) (hd rfl),
  ⟨fun hd => mk19 mt_366 cf_366 (vf_366_37.rt (Or.inl W4542) (hd rfl)) rfl rfl (noH_nil rfl),
  ⟨fun hd => mk19 mt_363 cf_363 (vf_363_37.rt (Or.inl W4356) (hd rfl)) rfl rfl (noH_nil rfl),
  ⟨fun hd => mk18 mt_362 sf_362 (Or.inl W4353) rfl rfl (noH_nil rfl) (hd rfl),
  ⟨fun hd => mk19 mt_364 cf_364 (vf_364_37.rt (Or.inl W4360) (hd rfl)) rfl rfl (noH_nil rfl),
  ⟨fun hd => mk19 mt_471 cf_471 (vf_471_37.rt (Or.inl W5552) (hd rfl)) rfl rfl (noH_nil rfl),
  trivial⟩⟩⟩⟩⟩⟩
theorem fe_470 : eqEs ((flat code_470).filter (fun e => ndE e.2.2.1)) (fl_470_0) = true := by decide +kernel
theorem om_470 : OKm mi iT prg 470 := OKm_of (code := code_470) rfl mt_470 (Or.inl (by decide +kernel)) rfl wk_470 (by decide +kernel) (by decide +kernel) (FA_of fe_470 (fb_470_0))
def fl_471_0 : List Ent := [(82, 3, 6, .getfield 54, [3, 37, 209], 0)]
theorem fb_471_0 : FB mi iT mi_471 (bpc code_471) (fl_471_0) := ⟨fun hd => mk6 fld_37_15 (Or.inl ⟨rfl, by decide⟩) (Or.inl W4305) (Or.inl rfl) (hd rfl),
  trivial⟩
theorem fe_471 : eqEs ((flat code_471).filter (fun e => ndE e.2.2.1)) (fl_471_0) = true := by decide +kernel
theorem om_471 : OKm mi iT prg 471 := OKm_of (code := code_471) rfl mt_471 (Or.inl (by decide +kernel)) rfl wk_471 (by decide +kernel) (by decide +kernel) (FA_of fe_471 (fb_471_0))
def fl_472_0 : List Ent := [(2, 3, 7, .putfield 60, [0, 37, 194], 0), (6, 3, 6, .getfield 57, [0, 37, 210], 0)]
theorem fb_472_0 : FB mi iT mi_472 (bpc code_472) (fl_472_0) := ⟨fun hd => mk7 fld_37_0 (Or.inl W4281) (Or.inl rfl) (Or.inl rfl) (hd rfl),
  ⟨fun hd => mk6 fld_37_16 (Or.inl ⟨rfl, by decide⟩) (Or.inl W4306) (Or.inl rfl) (hd rfl),
  trivial⟩⟩
theorem fe_472 : eqEs ((flat code_472).filter (fun e => ndE e.2.2.1)) (fl_472_0) = true := by decide +kernel
theorem om_472 : OKm mi iT prg 472 := OKm_of (code := code_472) rfl mt_472 (Or.inl (by decide +kernel)) rfl wk_472 (by decide +kernel) (by decide +kernel) (FA_of fe_472 (fb_472_0))
def fl_473_0 : List Ent := [(5, 3, 18, .invokestatic 71, [0, 3, 3, 362], 0), (17, 3, 19, .invokevirtual 104, [0, 3, 3, 37, 363], 0), (29, 3, 19, .invokevirtual 550, [0, 2, 2, 37, 474], 0)]
theorem fb_473_0 : FB mi iT mi_473 (bpc code_473) (fl_473_0) := ⟨fun hd => mk18 mt_362 sf_362 (Or.inl W4353) rfl rfl (noH_nil rfl) (hd rfl),
  ⟨fun hd => mk19 mt_363 cf_363 (vf_363_37.rt (Or.inl W4356) (hd rfl)) rfl rfl (noH_nil rfl),
  ⟨fun hd => mk19 mt_474 cf_474 (vf_474_37.rt (Or.inl W5564) (hd rfl)) rfl rfl (noH_nil rfl),
  trivial⟩⟩⟩
theorem fe_473 : eqEs ((flat code_473).filter (fun e => ndE e.2.2.1)) (fl_473_0) = true := by decide +kernel
theorem om_473 : OKm mi iT prg 473 := OKm_of (code := code_473) rfl mt_473 (Or.inl (by decide +kernel)) rfl wk_473 (by decide +kernel) (by decide +kernel) (FA_of fe_473 (fb_473_0))
def fl_474_0 : List Ent := [(11, 3, 6, .getfield 36, [3, 37, 203], 0), (14, 3, 19, .invokevirtual 67, [0, 1, 1, 5, 5], 0), (35, 3, 19, .invokevirtual 265, [0, 3, 3, 37, 405], 0), (38, 3, 18, .invokestatic 543, [0, 2, 2, 475], 0), (70, 3, 19, .invokevirtual 274, [0, 2, 2, 37, 408], 0), (73, 3, 18, .invokestatic 543, [0, 2, 2, 475], 0), (100, 3, 19, .invokevirtual 407, [0, 2, 2, 37, 433], 0), (103, 3, 18, .invokestatic 543, [0, 2, 2, 475], 0), (120, 3, 6, .getfield 45, [3, 37, 206], 0), (123, 3, 19, .invokevirtual 82, [3, 1, 1, 5, 4], 0), (128, 5, 34, .invokeinterface 86 1, [0, 1, 1, 11, 87], 0), (137, 5, 34, .invokeinterface 92 1, [3, 1, 1, 11, 88], 0), (142, 3, 17, .checkcast 210, [100], 0), (163, 3, 19, .invokevirtual 452, [0, 3, 3, 37, 452], 0), (166, 3, 18, .invokestatic 543, [0, 2, 2, 475], 0), (191, 3, 6, .getfield 25, [3, 37, 195], 0), (194, 3, 19, .invokevirtual 82, [3, 1, 1, 5, 4], 0), (199, 5, 34, .invokeinterface 86 1, [0, 1, 1, 11, 87], 0), (208, 5, 34, .invokeinterface 92 1, [3, 1, 1, 11, 88], 0), (213, 3, 17, .checkcast 96, [38], 0), (223, 3, 19, .invokevirtual 547, [0, 4, 4, 37, 476], 0), (237, 3, 6, .getfield 51, [3, 37, 208], 0), (240, 3, 19, .invokevirtual 82, [3, 1, 1, 5, 4], 0), (245, 5, 34, .invokeinterface 86 1, [0, 1, 1, 11, 87], 0), (254, 5, 34, .invokeinterface 92 1, [3, 1, 1, 11, 88], 0), (259, 3, 17, .checkcast 459, [40], 0), (279, 3, 19, .invokevirtual 529, [0, 3, 3, 37, 467], 0), (282, 3, 18, .invokestatic 543, [0, 2, 2, 475], 0), (317, 3, 19, .invokevirtual 540, [0, 4, 4, 37, 471], 0), (320, 3, 18, .invokestatic 543, [0, 2, 2, 475], 0)]
theorem fb_474_0 : FB mi iT mi_474 (bpc code_474) (fl_474_0) := ⟨fun hd => mk6 fld_37_9 (Or.inl ⟨rfl, by decide⟩) (Or.inl W4298) (Or.inl rfl) (hd rfl),
  ⟨fun hd => mk19 mt_5 cf_5 (vf_5_5.rt (Or.inl W4364) (hd rfl)) rfl rfl (noH_nil rfl),
  ⟨fun hd => mk19 mt_405 cf_405 (vf_405_37.rt (Or.inl W4961) (hd rfl)) rfl rfl (noH_nil rfl),
  ⟨fun hd => mk18 mt_475 sf_475 (Or.inl W5568) rfl rfl (noH_nil rfl) (hd rfl),
  ⟨fun hd => mk19 mt_408 cf_408 (vf_408_37.rt (Or.inl W5003) (hd rfl)) rfl rfl (noH_nil rfl),
  ⟨fun hd => mk18 mt_475 sf_475 (Or.inl W5568) rfl rfl (noH_nil rfl) (hd rfl),
  ⟨fun hd => mk19 mt_433 cf_433 (vf_433_37.rt (Or.inl W5296) (hd rfl)) rfl rfl (noH_nil rfl),
  ⟨fun hd => mk18 mt_475 sf_475 (Or.inl W5568) rfl rfl (noH_nil rfl) (hd rfl),
  ⟨fun hd => mk6 fld_37_12 (Or.inl ⟨rfl, by decide⟩) (Or.inl W4301) (Or.inl rfl) (hd rfl),
  ⟨fun hd => mk19 mt_4 cf_4 (vf_4_5.rt (Or.inl W4965) (hd rfl)) rfl rfl (noH_nil rfl),
  ⟨fun hd => mk34 mt_87 cf_87 (ff_87_11.rt W4967 (hd rfl)) rfl rfl,
  ⟨fun hd => mk34 mt_88 cf_88 (ff_88_11.rt W4969 (hd rfl)) rfl rfl,
  ⟨fun hd => mk17 kx_100 W4899 (hd rfl),
  ⟨fun hd => mk19 mt_452 cf_452 (vf_452_37.rt (Or.inl W5410) (hd rfl)) rfl rfl (noH_nil rfl),
  ⟨fun hd => mk18 mt_475 sf_475 (Or.inl W5568) rfl rfl (noH_nil rfl) (hd rfl),
  ⟨fun hd => mk6 fld_37_1 (Or.inl ⟨rfl, by decide⟩) (Or.inl W4283) (Or.inl rfl) (hd rfl),
  ⟨fun hd => mk19 mt_4 cf_4 (vf_4_5.rt (Or.inl W4965) (hd rfl)) rfl rfl (noH_nil rfl),
  ⟨fun hd => mk34 mt_87 cf_87 (ff_87_11.rt W4967 (hd rfl)) rfl rfl,
  ⟨fun hd => mk34 mt_88 cf_88 (ff_88_11.rt W4969 (hd rfl)) rfl rfl,
  ⟨fun hd => mk17 kx_38 W4365 (hd rfl),
  ⟨fun hd => mk19 mt_476 cf_476 (vf_476_37.rt (Or.inl W5571) (hd rfl)) rfl rfl (noH_nil rfl),
  ⟨fun hd => mk6 fld_37_14 (Or.inl ⟨rfl, by decide⟩) (Or.inl W4304) (Or.inl rfl) (hd rfl),
  ⟨fun hd => mk19 mt_4 cf_4 (vf_4_5.rt (Or.inl W4965) (hd rfl)) rfl rfl (noH_nil rfl),
  ⟨fun hd => mk34 mt_87 cf_87 (ff_87_11.rt W4967 (hd rfl)) rfl rfl,
  ⟨fun hd => mk34 mt_88 cf_88 (ff_88_11.rt W4969 (hd rfl)) rfl rfl,
  ⟨fun hd => mk17 kx_40 W5430 (hd rfl),
  ⟨fun hd => mk19 mt_467 cf_467 (vf_467_37.rt (Or.inl W5534) (hd rfl)) rfl rfl (noH_nil rfl),
  ⟨fun hd => mk18 mt_475 sf_475 (Or.inl W5568) rfl rfl (noH_nil rfl) (hd rfl),
  ⟨fun hd => mk19 mt_471 cf_471 (vf_471_37.rt (Or.inl W5552) (hd rfl)) rfl rfl (noH_nil rfl),
  ⟨fun hd => mk18 mt_475 sf_475 (Or.inl W5568) rfl rfl (noH_nil rfl) (hd rfl),
  trivial⟩⟩⟩⟩⟩⟩⟩⟩⟩⟩⟩⟩⟩⟩⟩⟩⟩⟩⟩⟩⟩⟩⟩⟩⟩⟩⟩⟩⟩⟩
def fl_474_1 : List Ent := [(332, 3, 6, .getfield 57, [0, 37, 210], 0), (335, 3, 18, .invokestatic 543, [0, 2, 2, 475], 0)]
theorem fb_474_1 : FB mi iT mi_474 (bpc code_474) (fl_474_1) := ⟨fun hd => mk6 fld_37_16 (Or.inl ⟨rfl, by decide⟩) (Or.inl W4306) (Or.inl rfl) (hd rfl),
  ⟨fun hd => mk18 mt_475 sf_475 (Or.inl W5568) rfl rfl (noH_nil rfl) (hd rfl),
  trivial⟩⟩
theorem fe_474 : eqEs ((flat code_474).filter (fun e => ndE e.2.2.1)) (fl_474_0 ++ (fl_474_1)) = true := by decide +kernel
theorem om_474 : OKm mi iT prg 474 := OKm_of (code := code_474) rfl mt_474 (Or.inl (by decide +kernel)) rfl wk_474 (by decide +kernel) (by decide +kernel) (FA_of fe_474 (FB_app fb_474_0 (fb_474_1)))
theorem fe_475 : eqEs ((flat code_475).filter (fun e => ndE e.2.2.1)) ([]) = true := by decide +kernel
theorem om_475 : OKm mi iT prg 475 := OKm_of (code := code_475) rfl mt_475 (Or.inl (by decide +kernel)) rfl wk_475 (by decide +kernel) (by decide +kernel) (FA_of fe_475 (trivial))
def fl_476_0 : List Ent := [(4, 48, 5, .tableswitch 328 1 8 #[48, 112, 156, 328, 215, 247, 286, 318], [33, 1, 1, 2, 8, 3, 12, 4, 33, 5, 19, 6, 23, 7, 28, 8, 32], 0), (67, 3, 19, .invokevirtual 137, [0, 3, 3, 37, 369], 0), (70, 3, 18, .invokestatic 543, [0, 2, 2, 475], 0), (99, 3, 19, .invokevirtual 137, [0, 3, 3, 37, 369], 0), (102, 3, 18, .invokestatic 543, [0, 2, 2, 475], 0), (128, 3, 15, .ldc2_w 545, [4634204016564240384], 0), (134, 3, 19, .invokevirtual 172, [2, 2, 2, 38, 662], 0), (139, 3, 18, .invokestatic 543, [0, 2, 2, 475], 0), (153, 3, 19, .invokevirtual 180, [0, 1, 1, 38, 677], 0), (156, 3, 18, .invokestatic 543, [0, 2, 2, 475], 0), (188, 3, 19, .invokevirtual 195, [0, 4, 4, 37, 386], 0), (191, 3, 18, .invokestatic 543, [0, 2, 2, 475], 0), (212, 3, 19, .invokevirtual 203, [0, 2, 2, 38, 685], 0), (215, 3, 18, .invokestatic 543, [0, 2, 2, 475], 0), (234, 3, 19, .invokevirtual 322, [0, 3, 3, 37, 418], 0), (237, 3, 18, .invokestatic 543, [0, 2, 2, 475], 0), (261, 3, 6, .getfield 356, [0, 38, 228], 0), (273, 3, 19, .invokevirtual 392, [0, 3, 3, 37, 431], 0), (276, 3, 18, .invokestatic 543, [0, 2, 2, 475], 0), (305, 3, 19, .invokevirtual 426, [0, 2, 2, 38, 716], 0), (308, 3, 18, .invokestatic 543, [0, 2, 2, 475], 0), (325, 3, 19, .invokevirtual 445, [0, 1, 1, 38, 720], 0), (328, 3, 18, .invokestatic 543, [0, 2, 2, 475], 0), (347, 3, 19, .invokevirtual 526, [0, 2, 2, 38, 721], 0), (350, 3, 18, .invokestatic 543, [0, 2, 2, 475], 0)]
theorem fb_476_0 : FB mi iT mi_476 (bpc code_476) (fl_476_0) := ⟨fun hd => ⟨_, _, rfl, Or.inl ⟨328, 1, 8, #[48, 112, 156, 328, 215, 247, 286, 318], 8, 48, (show decode prog_75_method_116_code 4 = .ok (.tableswitch 328 1 8 #[48, 112, 156, 328, 215, 247, 286, 318], 48) by decide +kernel), by decide, by decide +kernel⟩⟩,
  ⟨fun hd => mk19 mt_369 cf_369 (vf_369_37.rt (Or.inl W4562) (hd rfl)) rfl rfl (noH_nil rfl),
  ⟨fun hd => mk18 mt_475 sf_475 (Or.inl W5568) rfl rfl (noH_nil rfl) (hd rfl),
  ⟨fun hd => mk19 mt_369 cf_369 (vf_369_37.rt (Or.inl W4562) (hd rfl)) rfl rfl (noH_nil rfl),
  ⟨fun hd => mk18 mt_475 sf_475 (Or.inl W5568) rfl rfl (noH_nil rfl) (hd rfl),
  ⟨fun hd => mk15 W5575 (hd rfl),
  ⟨fun hd => mk19 mt_662 cf_662 (vf_662_38.rt (Or.inl W4668) (hd rfl)) rfl rfl (noH_nil rfl),
  ⟨fun hd => mk18 mt_475 sf_475 (Or.inl W5568) rfl rfl (noH_nil rfl) (hd rfl),
  ⟨fun hd => mk19 mt_677 cf_677 (vf_677_38.rt (Or.inl W4803) (hd rfl)) rfl rfl (noH_nil rfl),
  ⟨fun hd => mk18 mt_475 sf_475 (Or.inl W5568) rfl rfl (noH_nil rfl) (hd rfl),
  ⟨fun hd => mk19 mt_386 cf_386 (vf_386_37.rt (Or.inl W4867) (hd rfl)) rfl rfl (noH_nil rfl),
  ⟨fun hd => mk18 mt_475 sf_475 (Or.inl W5568) rfl rfl (noH_nil rfl) (hd rfl),
  ⟨fun hd => mk19 mt_685 cf_685 (vf_685_38.rt (Or.inl W4883) (hd rfl)) rfl rfl (noH_nil rfl),
  ⟨fun hd => mk18 mt_475 sf_475 (Or.inl W5568) rfl rfl (noH_nil rfl) (hd rfl),
  ⟨fun hd => mk19 mt_418 cf_418 (vf_418_37.rt (Or.inl W5074) (hd rfl)) rfl rfl (noH_nil rfl),
  ⟨fun hd => mk18 mt_475 sf_475 (Or.inl W5568) rfl rfl (noH_nil rfl) (hd rfl),
  ⟨fun hd => mk6 fld_38_16 (Or.inr ⟨rfl, Or.inl rfl⟩) (Or.inl W4412) (Or.inl rfl) (hd rfl),
  ⟨fun hd => mk19 mt_431 cf_431 (vf_431_37.rt (Or.inl W5275) (hd rfl)) rfl rfl (noH_nil rfl),
  ⟨fun hd => mk18 mt_475 sf_475 (Or.inl W5568) rfl rfl (noH_nil rfl) (hd rfl),
  ⟨fun hd => mk19 mt_716 cf_716 (vf_716_38.rt (Or.inl W5346) (hd rfl)) rfl rfl (noH_nil rfl),
  ⟨fun hd => mk18 mt_475 sf_475 (Or.inl W5568) rfl rfl (noH_nil rfl) (hd rfl),
  ⟨fun hd => mk19 mt_720 cf_720 (vf_720_38.rt (Or.inl W5396) (hd rfl)) rfl rfl (noH_nil rfl),
  ⟨fun hd => mk18 mt_475 sf_475 (Or.inl W5568) rfl rfl (noH_nil rfl) (hd rfl),
  ⟨fun hd => mk19 mt_721 cf_721 (vf_721_38.rt (Or.inl W5522) (hd rfl)) rfl rfl (noH_nil rfl),
  ⟨fun hd => mk18 mt_475 sf_475 (Or.inl W5568) rfl rfl (noH_nil rfl) (hd rfl),
  trivial⟩⟩⟩⟩⟩⟩⟩⟩⟩⟩⟩⟩⟩⟩⟩⟩⟩⟩⟩⟩⟩⟩⟩⟩⟩
theorem fe_476 : eqEs ((flat code_476).filter (fun e => ndE e.2.2.1)) (fl_476_0) = true := by decide +kernel
theorem om_476 : OKm mi iT prg 476 := OKm_of (code := code_476) rfl mt_476 (Or.inl (by decide +kernel)) rfl wk_476 (by decide +kernel) (by decide +kernel) (FA_of fe_476 (fb_476_0))
def fl_477_0 : List Ent := [(2, 3, 7, .putfield 60, [0, 37, 194], 0), (6, 3, 19, .invokevirtual 567, [0, 1, 1, 37, 478], 0)]
theorem fb_477_0 : FB mi iT mi_477 (bpc code_477) (fl_477_0) := ⟨fun hd => mk7 fld_37_0 (Or.inl W4281) (Or.inl rfl) (Or.inl rfl) (hd rfl),
  ⟨fun hd => mk19 mt_478 cf_478 (vf_478_37.rt (Or.inl W5580) (hd rfl)) rfl rfl (noH_nil rfl),
  trivial⟩⟩
theorem fe_477 : eqEs ((flat code_477).filter (fun e => ndE e.2.2.1)) (fl_477_0) = true := by decide +kernel
theorem om_477 : OKm mi iT prg 477 := OKm_of (code := code_477) rfl mt_477 (Or.inl (by decide +kernel)) rfl wk_477 (by decide +kernel) (by decide +kernel) (FA_of fe_477 (fb_477_0))
def fl_478_0 : List Ent := [(1, 3, 6, .getfield 57, [0, 37, 210], 0), (13, 3, 19, .invokevirtual 540, [0, 4, 4, 37, 471], 0), (23, 3, 6, .getfield 42, [3, 37, 205], 0), (26, 3, 19, .invokevirtual 82, [3, 1, 1, 5, 4], 0), (31, 5, 34, .invokeinterface 86 1, [0, 1, 1, 11, 87], 0), (40, 5, 34, .invokeinterface 92 1, [3, 1, 1, 11, 88], 0), (45, 3, 17, .checkcast 210, [100], 0), (57, 3, 6, .getfield 36, [3, 37, 203], 0), (63, 3, 19, .invokevirtual 114, [3, 2, 2, 5, 6], 0), (66, 3, 17, .checkcast 210, [100], 0), (72, 3, 6, .getfield 36, [3, 37, 203], 0), (78, 3, 19, .invokevirtual 114, [3, 2, 2, 5, 6], 0), (81, 3, 17, .checkcast 210, [100], 0), (96, 3, 6, .getfield 25, [3, 37, 195], 0), (99, 3, 19, .invokevirtual 82, [3, 1, 1, 5, 4], 0), (104, 5, 34, .invokeinterface 86 1, [0, 1, 1, 11, 87], 0), (113, 5, 34, .invokeinterface 92 1, [3, 1, 1, 11, 88], 0), (118, 3, 17, .checkcast 96, [38], 0), (124, 3, 19, .invokevirtual 564, [0, 2, 2, 37, 479], 0), (136, 3, 6, .getfield 51, [3, 37, 208], 0), (139, 3, 19, .invokevirtual 82, [3, 1, 1, 5, 4], 0), (144, 5, 34, .invokeinterface 86 1, [0, 1, 1, 11, 87], 0), (153, 5, 34, .invokeinterface 92 1, [3, 1, 1, 11, 88], 0), (158, 3, 17, .checkcast 459, [40], 0), (163, 3, 6, .getfield 489, [0, 40, 260], 0), (171, 3, 6, .getfield 25, [3, 37, 195], 0), (175, 3, 6, .getfield 496, [0, 40, 261], 0), (178, 3, 19, .invokevirtual 114, [3, 2, 2, 5, 6], 0), (181, 3, 17, .checkcast 96, [38], 0), (184, 3, 6, .getfield 118, [0, 38, 217], 0)]
theorem fb_478_0 : FB mi iT mi_478 (bpc code_478) (fl_478_0) := ⟨fun hd => mk6 fld_37_16 (Or.inl ⟨rfl, by decide⟩) (Or.inl W4306) (Or.inl rfl) (hd rfl),
  ⟨fun hd => mk19 mt_471 cf_471 (vf_471_37.rt (Or.inl W5552) (hd rfl)) rfl rfl (noH_nil rfl),
  ⟨fun hd => mk6 fld_37_11 (Or.inl ⟨rfl, by decide⟩) (Or.inl W4300) (Or.inl rfl) (hd rfl),
  ⟨fun hd => mk19 mt_4 cf_4 (vf_4_5.rt (Or.inl W4965) (hd rfl)) rfl rfl (noH_nil rfl),
  ⟨fun hd => mk34 mt_87 cf_87 (ff_87_11.rt W4967 (hd rfl)) rfl rfl,
  ⟨fun hd => mk34 mt_88 cf_88 (ff_88_11.rt W4969 (hd rfl)) rfl rfl,
  ⟨fun hd => mk17 kx_100 W4899 (hd rfl),
  ⟨fun hd => mk6 fld_37_9 (Or.inl ⟨rfl, by decide⟩) (Or.inl W4298) (Or.inl rfl) (hd rfl),
  ⟨fun hd => mk19 mt_6 cf_6 (vf_6_5.rt (Or.inl W4546) (hd rfl)) rfl rfl (noH_nil rfl),
  ⟨fun hd => mk17 kx_100 W4899 (hd rfl),
  ⟨fun hd => mk6 fld_37_9 (Or.inl ⟨rfl, by decide⟩) (Or.inl W4298) (Or.inl rfl) (hd rfl),
  ⟨fun hd => mk19 mt_6 cf_6 (vf_6_5.rt (Or.inl W4546) (hd rfl)) rfl rfl (noH_nil rfl),
  ⟨fun hd => mk17 kx_100 W4899 (hd rfl),
  ⟨fun hd => mk6 fld_37_1 (Or.inl ⟨rfl, by decide⟩) (Or.inl W4283) (Or.inl rfl) (hd rfl),
  ⟨fun hd => mk19 mt_4 cf_4 (vf_4_5.rt (Or.inl W4965) (hd rfl)) rfl rfl (noH_nil rfl),
  ⟨fun hd => mk34 mt_87 cf_87 (ff_87_11.rt W4967 (hd rfl)) rfl rfl,
  ⟨fun hd => mk34 mt_88 cf_88 (ff_88_11.rt W4969 (hd rfl)) rfl rfl,
  ⟨fun hd => mk17 kx_38 W4365 (hd rfl),
  ⟨fun hd => mk19 mt_479 cf_479 (vf_479_37.rt (Or.inl W5584) (hd rfl)) rfl rfl (noH_nil rfl),
  ⟨fun hd => mk6 fld_37_14 (Or.inl ⟨rfl, by decide⟩) (Or.inl W4304) (Or.inl rfl) (hd rfl),
  ⟨fun hd => mk19 mt_4 cf_4 (vf_4_5.rt (Or.inl W4965) (hd rfl)) rfl rfl (noH_nil rfl),
  ⟨fun hd => mk34 mt_87 cf_87 (ff_87_11.rt W4967 (hd rfl)) rfl rfl,
  ⟨fun hd => mk34 mt_88 cf_88 (ff_88_11.rt W4969 (hd rfl)) rfl rfl,
  ⟨fun hd => mk17 kx_40 W5430 (hd rfl),
  ⟨fun hd => mk6 fld_40_5 (Or.inl ⟨rfl, by decide⟩) (Or.inl W5450) (Or.inl rfl) (hd rfl),
  ⟨fun hd => mk6 fld_37_1 (Or.inl ⟨rfl, by decide⟩) (Or.inl W4283) (Or.inl rfl) (hd rfl),
  ⟨fun hd => mk6 fld_40_6 (Or.inl ⟨rfl, by decide⟩) (Or.inl W5453) (Or.inl rfl) (hd rfl),
  ⟨fun hd => mk19 mt_6 cf_6 (vf_6_5.rt (Or.inl W4546) (hd rfl)) rfl rfl (noH_nil rfl),
  ⟨fun hd => mk17 kx_38 W4365 (hd rfl),
  ⟨fun hd => mk6 fld_38_5 (Or.inl ⟨rfl, by decide⟩) (Or.inl W4387) (Or.inl rfl) (hd rfl),
  trivial⟩⟩⟩⟩⟩⟩⟩⟩⟩⟩⟩⟩⟩⟩⟩⟩⟩⟩⟩⟩⟩⟩⟩⟩⟩⟩⟩⟩⟩⟩
theorem fe_478 : eqEs ((flat code_478).filter (fun e => ndE e.2.2.1)) (fl_478_0) = true := by decide +kernel
theorem om_478 : OKm mi iT prg 478 := OKm_of (code := code_478) rfl mt_478 (Or.inl (by decide +kernel)) rfl wk_478 (by decide +kernel) (by decide +kernel) (FA_of fe_478 (fb_478_0))
def fl_479_0 : List Ent := [(1, 3, 6, .getfield 98, [0, 38, 226], 0), (10, 3, 6, .getfield 98, [0, 38, 226], 0), (13, 3, 19, .invokevirtual 274, [0, 2, 2, 37, 408], 0), (17, 3, 6, .getfield 101, [0, 38, 216], 0), (24, 3, 19, .invokevirtual 552, [0, 1, 1, 38, 698], 0), (29, 3, 19, .invokevirtual 555, [0, 1, 1, 38, 715], 0), (32, 3, 19, .invokevirtual 558, [0, 2, 2, 38, 723], 0), (49, 3, 6, .getfield 356, [0, 38, 228], 0), (57, 3, 19, .invokevirtual 370, [0, 2, 2, 38, 668], 0), (64, 3, 6, .getfield 561, [3, 38, 229], 0), (81, 3, 18, .invokestatic 380, [0, 1, 1, 425], 0), (85, 3, 18, .invokestatic 534, [0, 2, 2, 379], 0), (93, 3, 19, .invokevirtual 370, [0, 2, 2, 38, 668], 0), (123, 3, 6, .getfield 101, [0, 38, 216], 0), (127, 3, 19, .invokevirtual 475, [0, 3, 3, 37, 460], 0), (132, 3, 19, .invokevirtual 478, [0, 2, 2, 38, 659], 0), (149, 3, 6, .getfield 45, [3, 37, 206], 0), (152, 3, 19, .invokevirtual 82, [3, 1, 1, 5, 4], 0), (157, 5, 34, .invokeinterface 86 1, [0, 1, 1, 11, 87], 0), (166, 5, 34, .invokeinterface 92 1, [3, 1, 1, 11, 88], 0), (171, 3, 17, .checkcast 210, [100], 0), (191, 3, 6, .getfield 101, [0, 38, 216], 0), (202, 3, 18, .invokestatic 262, [0, 1, 1, 381], 0), (212, 3, 6, .getfield 118, [0, 38, 217], 0), (224, 3, 18, .invokestatic 262, [0, 1, 1, 381], 0)]
theorem fb_479_0 : FB mi iT mi_479 (bpc code_479) (fl_479_0) := ⟨fun hd => mk6 fld_38_14 (Or.inl ⟨rfl, by decide⟩) (Or.inl W4408) (Or.inl rfl) (hd rfl),
  ⟨fun hd => mk6 fld_38_14 (Or.inl ⟨rfl, by decide⟩) (Or.inl W4408) (Or.inl rfl) (hd rfl),
  ⟨fun hd => mk19 mt_408 cf_408 (vf_408_37.rt (Or.inl W5003) (hd rfl)) rfl rfl (noH_nil rfl),
  ⟨fun hd => mk6 fld_38_4 (Or.inl ⟨rfl, by decide⟩) (Or.inl W4384) (Or.inl rfl) (hd rfl),
  ⟨fun hd => mk19 mt_698 cf_698 (vf_698_38.rt (Or.inl W5588) (hd rfl)) rfl rfl (noH_nil rfl),
  ⟨fun hd => mk19 mt_715 cf_715 (vf_715_38.rt (Or.inl W5589) (hd rfl)) rfl rfl (noH_nil rfl),
  ⟨fun hd => mk19 mt_723 cf_723 (vf_723_38.rt (Or.inl W5590) (hd rfl)) rfl rfl (noH_nil rfl),
  ⟨fun hd => mk6 fld_38_16 (Or.inr ⟨rfl, Or.inl rfl⟩) (Or.inl W4412) (Or.inl rfl) (hd rfl),
  ⟨fun hd => mk19 mt_668 cf_668 (vf_668_38.rt (Or.inl W5268) (hd rfl)) rfl rfl (noH_nil rfl),
  ⟨fun hd => mk6 fld_38_17 (Or.inl ⟨rfl, by decide⟩) (Or.inl W4415) (Or.inl rfl) (hd rfl),
  ⟨fun hd => mk18 mt_425 sf_425 (Or.inl W5270) rfl rfl (noH_nil rfl) (hd rfl),
  ⟨fun hd => mk18 mt_379 sf_379 (Or.inl W5547) rfl rfl (noH_nil rfl) (hd rfl),
  ⟨fun hd => mk19 mt_668 cf_668 (vf_668_38.rt (Or.inl W5268) (hd rfl)) rfl rfl (noH_nil rfl),
  ⟨fun hd => mk6 fld_38_4 (Or.inl ⟨rfl, by decide⟩) (Or.inl W4384) (Or.inl rfl) (hd rfl),
  ⟨fun hd => mk19 mt_460 cf_460 (vf_460_37.rt (Or.inl W5489) (hd rfl)) rfl rfl (noH_nil rfl),
  ⟨fun hd => mk19 mt_659 cf_659 (if_659_38_KeelHouseModel_Shipspace_I_I.rt W5494 (hd rfl)) rfl rfl (noH_nil rfl),
  ⟨fun hd => mk6 fld_37_12 (Or.inl ⟨rfl, by decide⟩) (Or.inl W4301) (Or.inl rfl) (hd rfl),
  ⟨fun hd => mk19 mt_4 cf_4 (vf_4_5.rt (Or.inl W4965) (hd rfl)) rfl rfl (noH_nil rfl),
  ⟨fun hd => mk34 mt_87 cf_87 (ff_87_11.rt W4967 (hd rfl)) rfl rfl,
  ⟨fun hd => mk34 mt_88 cf_88 (ff_88_11.rt W4969 (hd rfl)) rfl rfl,
  ⟨fun hd => mk17 kx_100 W4899 (hd rfl),
  ⟨fun hd => mk6 fld_38_4 (Or.inl ⟨rfl, by decide⟩) (Or.inl W4384) (Or.inl rfl) (hd rfl),
  ⟨fun hd => mk18 mt_381 sf_381 (Or.inl W4952) rfl rfl (noH_nil rfl) (hd rfl),
  ⟨fun hd => mk6 fld_38_5 (Or.inl ⟨rfl, by decide⟩) (Or.inl W4387) (Or.inl rfl) (hd rfl),
  ⟨fun hd => mk18 mt_381 sf_381 (Or.inl W4952) rfl rfl (noH_nil rfl) (hd rfl),
  trivial⟩⟩⟩⟩⟩⟩⟩⟩⟩⟩⟩⟩⟩⟩⟩⟩⟩⟩⟩⟩⟩⟩⟩⟩⟩
theorem fe_479 : eqEs ((flat code_479).filter (fun e => ndE e.2.2.1)) (fl_479_0) = true := by decide +kernel
theorem om_479 : OKm mi iT prg 479 := OKm_of (code := code_479) rfl mt_479 (Or.inl (by decide +kernel)) rfl wk_479 (by decide +kernel) (by decide +kernel) (FA_of fe_479 (fb_479_0))
def fl_480_0 : List Ent := [(2, 3, 7, .putfield 60, [0, 37, 194], 0), (7, 3, 6, .getfield 570, [0, 37, 211], 0), (12, 3, 7, .putfield 570, [0, 37, 211], 0), (16, 3, 6, .getfield 570, [0, 37, 211], 0)]
theorem fb_480_0 : FB mi iT mi_480 (bpc code_480) (fl_480_0) := ⟨fun hd => mk7 fld_37_0 (Or.inl W4281) (Or.inl rfl) (Or.inl rfl) (hd rfl),
  ⟨fun hd => mk6 fld_37_17 (Or.inl ⟨rfl, by decide⟩) (Or.inl W4307) (Or.inl rfl) (hd rfl),
  ⟨fun hd => mk7 fld_37_17 (Or.inl W4307) (Or.inl rfl) (Or.inl rfl) (hd rfl),
  ⟨fun hd => mk6 fld_37_17 (Or.inl ⟨rfl, by decide⟩) (Or.inl W4307) (Or.inl rfl) (hd rfl),
  trivial⟩⟩⟩⟩
theorem fe_480 : eqEs ((flat code_480).filter (fun e => ndE e.2.2.1)) (fl_480_0) = true := by decide +kernel
theorem om_480 : OKm mi iT prg 480 := OKm_of (code := code_480) rfl mt_480 (Or.inl (by decide +kernel)) rfl wk_480 (by decide +kernel) (by decide +kernel) (FA_of fe_480 (fb_480_0))
def fl_481_0 : List Ent := [(3, 3, 19, .invokevirtual 75, [0, 2, 2, 37, 366], 0), (7, 3, 19, .invokevirtual 104, [0, 3, 3, 37, 363], 0), (13, 3, 13, .ldc_w 573, [40], 0), (18, 3, 6, .getfield 25, [3, 37, 195], 0), (22, 3, 19, .invokevirtual 114, [3, 2, 2, 5, 6], 0), (25, 3, 17, .checkcast 96, [38], 0), (31, 3, 12, .anewarray 575, [110], 0), (36, 3, 13, .ldc_w 577, [41], 0), (39, 1, 9, .aastore, [3, 110, 14], 0), (42, 3, 13, .ldc_w 579, [42], 0), (45, 1, 9, .aastore, [3, 110, 14], 0), (48, 3, 13, .ldc_w 581, [43], 0), (51, 1, 9, .aastore, [3, 110, 14], 0), (54, 3, 13, .ldc_w 583, [44], 0), (57, 1, 9, .aastore, [3, 110, 14], 0), (60, 3, 13, .ldc_w 585, [45], 0), (63, 1, 9, .aastore, [3, 110, 14], 0), (66, 3, 13, .ldc_w 587, [46], 0), (69, 1, 9, .aastore, [3, 110, 14], 0), (71, 3, 11, .new 589, [36, 4], 0), (75, 3, 36, .invokespecial 591, [9, 1, 1, 36, 109], 0), (79, 3, 19, .invokevirtual 592, [3, 2, 2, 36, 111], 0), (82, 3, 13, .ldc_w 596, [47], 0), (85, 3, 19, .invokevirtual 598, [3, 2, 2, 36, 110], 0), (90, 3, 6, .getfield 118, [0, 38, 217], 0), (94, 3, 19, .invokevirtual 598, [3, 2, 2, 36, 110], 0), (97, 3, 19, .invokevirtual 601, [3, 1, 1, 36, 112], 0), (103, 3, 6, .getfield 98, [0, 38, 226], 0), (110, 3, 11, .new 589, [36, 4], 0), (114, 3, 36, .invokespecial 591, [9, 1, 1, 36, 109], 0)]
theorem fb_481_0 : FB mi iT mi_481 (bpc code_481) (fl_481_0) := ⟨fun hd => mk19 mt_366 cf_366 (vf_366_37.rt (Or.inl W4542) (hd rfl)) rfl rfl (noH_nil rfl),
  ⟨fun hd => mk19 mt_363 cf_363 (vf_363_37.rt (Or.inl W4356) (hd rfl)) rfl rfl (noH_nil rfl),
  ⟨fun hd => mk13t rfl W5602 (Or.inr ⟨hd rfl, rfl⟩),
  ⟨fun hd => mk6 fld_37_1 (Or.inl ⟨rfl, by decide⟩) (Or.inl W4283) (Or.inl rfl) (hd rfl),
  ⟨fun hd => mk19 mt_6 cf_6 (vf_6_5.rt (Or.inl W4546) (hd rfl)) rfl rfl (noH_nil rfl),
  ⟨fun hd => mk17 kx_38 W4365 (hd rfl),
  ⟨fun hd => mk12b (by decide) rfl W5603 W5604 (hd rfl),
  ⟨fun hd => mk13t rfl W5605 (Or.inr ⟨hd rfl, rfl⟩),
  ⟨fun hd => ⟨_, _, _, rfl, rfl, hd rfl, Or.inr (Or.inr (Or.inr (Or.inr ⟨rfl, rfl, by decide, _, rfl, as_110_L, by decide⟩)))⟩,
  ⟨fun hd => mk13t rfl W5606 (Or.inr ⟨hd rfl, rfl⟩),
  ⟨fun hd => ⟨_, _, _, rfl, rfl, hd rfl, Or.inr (Or.inr (Or.inr (Or.inr ⟨rfl, rfl, by decide, _, rfl, as_110_L, by decide⟩)))⟩,
  ⟨fun hd => mk13t rfl W5607 (Or.inr ⟨hd rfl, rfl⟩),
  ⟨fun hd => ⟨_, _, _, rfl, rfl, hd rfl, Or.inr (Or.inr (Or.inr (Or.inr ⟨rfl, rfl, by decide, _, rfl, as_110_L, by decide⟩)))⟩,
  ⟨fun hd => mk13t rfl W5608 (Or.inr ⟨hd rfl, rfl⟩),
  ⟨fun hd => ⟨_, _, _, rfl, rfl, hd rfl, Or.inr (Or.inr (Or.inr (Or.inr ⟨rfl, rfl, by decide, _, rfl, as_110_L, by decide⟩)))⟩,
  ⟨fun hd => mk13t rfl W5609 (Or.inr ⟨hd rfl, rfl⟩),
  ⟨fun hd => ⟨_, _, _, rfl, rfl, hd rfl, Or.inr (Or.inr (Or.inr (Or.inr ⟨rfl, rfl, by decide, _, rfl, as_110_L, by decide⟩)))⟩,
  ⟨fun hd => mk13t rfl W5610 (Or.inr ⟨hd rfl, rfl⟩),
  ⟨fun hd => ⟨_, _, _, rfl, rfl, hd rfl, Or.inr (Or.inr (Or.inr (Or.inr ⟨rfl, rfl, by decide, _, rfl, as_110_L, by decide⟩)))⟩,
  ⟨fun hd => mk11 nf_36 W5611 (hd rfl),
  ⟨fun hd => mk36 mt_109 cf_109 (ic_109.rt (Or.inl W5612) (hd rfl)) rfl rfl,
  ⟨fun hd => mk19 mt_111 cf_111 (vf_111_36.rt (Or.inl W5613) (hd rfl)) rfl rfl (noH_nil rfl),
  ⟨fun hd => mk13t rfl W5614 (Or.inr ⟨hd rfl, rfl⟩),
  ⟨fun hd => mk19 mt_110 cf_110 (vf_110_36.rt (Or.inl W5615) (hd rfl)) rfl rfl (noH_nil rfl),
  ⟨fun hd => mk6 fld_38_5 (Or.inl ⟨rfl, by decide⟩) (Or.inl W4387) (Or.inl rfl) (hd rfl),
  ⟨fun hd => mk19 mt_110 cf_110 (vf_110_36.rt (Or.inl W5615) (hd rfl)) rfl rfl (noH_nil rfl),
  ⟨fun hd => mk19 mt_112 cf_112 (vf_112_36.rt (Or.inl W5616) (hd rfl)) rfl rfl (noH_nil rfl),
  ⟨fun hd => mk6 fld_38_14 (Or.inl ⟨rfl, by decide⟩) (Or.inl W4408) (Or.inl rfl) (hd rfl),
  ⟨fun hd => mk11 nf_36 W5611 (hd rfl),
  ⟨fun hd => mk36 mt_109 cf_109 (ic_109.rt (Or.inl W5612) (hd rfl)) rfl rfl,
  trivial⟩⟩⟩⟩⟩⟩⟩⟩⟩⟩⟩⟩⟩⟩⟩⟩⟩⟩⟩⟩⟩⟩⟩⟩⟩⟩⟩⟩⟩⟩
def fl_481_1 : List Ent := [(119, 3, 19, .invokevirtual 598, [3, 2, 2, 36, 110], 0), (122, 3, 13, .ldc_w 605, [48], 0), (125, 3, 19, .invokevirtual 598, [3, 2, 2, 36, 110], 0), (129, 3, 6, .getfield 98, [0, 38, 226], 0), (132, 3, 19, .invokevirtual 592, [3, 2, 2, 36, 111], 0), (135, 3, 19, .invokevirtual 601, [3, 1, 1, 36, 112], 0), (140, 3, 6, .getfield 300, [0, 38, 235], 0), (147, 3, 11, .new 589, [36, 4], 0), (151, 3, 36, .invokespecial 591, [9, 1, 1, 36, 109], 0), (156, 3, 19, .invokevirtual 598, [3, 2, 2, 36, 110], 0), (159, 3, 13, .ldc_w 607, [49], 0), (162, 3, 19, .invokevirtual 598, [3, 2, 2, 36, 110], 0), (165, 3, 19, .invokevirtual 601, [3, 1, 1, 36, 112], 0), (172, 3, 6, .getfield 300, [0, 38, 235], 0), (179, 3, 11, .new 589, [36, 4], 0), (183, 3, 36, .invokespecial 591, [9, 1, 1, 36, 109], 0), (188, 3, 19, .invokevirtual 598, [3, 2, 2, 36, 110], 0), (191, 3, 13, .ldc_w 609, [50], 0), (194, 3, 19, .invokevirtual 598, [3, 2, 2, 36, 110], 0), (198, 3, 6, .getfield 484, [0, 38, 236], 0), (201, 3, 19, .invokevirtual 592, [3, 2, 2, 36, 111], 0), (204, 3, 19, .invokevirtual 601, [3, 1, 1, 36, 112], 0)]
theorem fb_481_1 : FB mi iT mi_481 (bpc code_481) (fl_481_1) := ⟨fun hd => mk19 mt_110 cf_110 (vf_110_36.rt (Or.inl W5615) (hd rfl)) rfl rfl (noH_nil rfl),
  ⟨fun hd => mk13t rfl W5617 (Or.inr ⟨hd rfl, rfl⟩),
  ⟨fun hd => mk19 mt_110 cf_110 (vf_110_36.rt (Or.inl W5615) (hd rfl)) rfl rfl (noH_nil rfl),
  ⟨fun hd => mk6 fld_38_14 (Or.inl ⟨rfl, by decide⟩) (Or.inl W4408) (Or.inl rfl) (hd rfl),
  ⟨fun hd => mk19 mt_111 cf_111 (vf_111_36.rt (Or.inl W5613) (hd rfl)) rfl rfl (noH_nil rfl),
  ⟨fun hd => mk19 mt_112 cf_112 (vf_112_36.rt (Or.inl W5616) (hd rfl)) rfl rfl (noH_nil rfl),
  ⟨fun hd => mk6 fld_38_23 (Or.inl ⟨rfl, by decide⟩) (Or.inl W4428) (Or.inl rfl) (hd rfl),
  ⟨fun hd => mk11 nf_36 W5611 (hd rfl),
  ⟨fun hd => mk36 mt_109 cf_109 (ic_109.rt (Or.inl W5612) (hd rfl)) rfl rfl,
  ⟨fun hd => mk19 mt_110 cf_110 (vf_110_36.rt (Or.inl W5615) (hd rfl)) rfl rfl (noH_nil rfl),
  ⟨fun hd => mk13t rfl W5618 (Or.inr ⟨hd rfl, rfl⟩),
  ⟨fun hd => mk19 mt_110 cf_110 (vf_110_36.rt (Or.inl W5615) (hd rfl)) rfl rfl (noH_nil rfl),
  ⟨fun hd => mk19 mt_112 cf_112 (vf_112_36.rt (Or.inl W5616) (hd rfl)) rfl rfl (noH_nil rfl),
  ⟨fun hd => mk6 fld_38_23 (Or.inl ⟨rfl, by decide⟩) (Or.inl W4428) (Or.inl rfl) (hd rfl),
  ⟨fun hd => mk11 nf_36 W5611 (hd rfl),
  ⟨fun hd => mk36 mt_109 cf_109 (ic_109.rt (Or.inl W5612) (hd rfl)) rfl rfl,
  ⟨fun hd => mk19 mt_110 cf_110 (vf_110_36.rt (Or.inl W5615) (hd rfl)) rfl rfl (noH_nil rfl),
  ⟨fun hd => mk13t rfl W5619 (Or.inr ⟨hd rfl, rfl⟩),
  ⟨fun hd => mk19 mt_110 cf_110 (vf_110_36.rt (Or.inl W5615) (hd rfl)) rfl rfl (noH_nil rfl),
  ⟨fun hd => mk6 fld_38_24 (Or.inl ⟨rfl, by decide⟩) (Or.inl W4431) (Or.inl rfl) (hd rfl),
  ⟨fun hd => mk19 mt_111 cf_111 (vf_111_36.rt (Or.inl W5613) (hd rfl)) rfl rfl (noH_nil rfl),
  ⟨fun hd => mk19 mt_112 cf_112 (vf_112_36.rt (Or.inl W5616) (hd rfl)) rfl rfl (noH_nil rfl),
  trivial⟩⟩⟩⟩⟩⟩⟩⟩⟩⟩⟩⟩⟩⟩⟩⟩⟩⟩⟩⟩⟩⟩
theorem fe_481 : eqEs ((flat code_481).filter (fun e => ndE e.2.2.1)) (fl_481_0 ++ (fl_481_1)) = true := by decide +kernel
theorem om_481 : OKm mi iT prg 481 := OKm_of (code := code_481) rfl mt_481 (Or.inl (by decide +kernel)) rfl wk_481 (by decide +kernel) (by decide +kernel) (FA_of fe_481 (FB_app fb_481_0 (fb_481_1)))
def fl_482_0 : List Ent := [(2, 3, 7, .putfield 60, [0, 37, 194], 0), (5, 3, 16, .ldc2_w 611, [58333], 0), (18, 3, 16, .ldc2_w 613, [31], 0), (24, 3, 19, .invokevirtual 550, [0, 2, 2, 37, 474], 0), (37, 3, 16, .ldc2_w 613, [31], 0), (42, 3, 6, .getfield 57, [0, 37, 210], 0), (49, 3, 16, .ldc2_w 613, [31], 0), (54, 3, 6, .getfield 570, [0, 37, 211], 0), (61, 3, 16, .ldc2_w 613, [31], 0), (66, 3, 19, .invokevirtual 567, [0, 1, 1, 37, 478], 0), (69, 3, 18, .invokestatic 262, [0, 1, 1, 381], 0)]
theorem fb_482_0 : FB mi iT mi_482 (bpc code_482) (fl_482_0) := ⟨fun hd => mk7 fld_37_0 (Or.inl W4281) (Or.inl rfl) (Or.inl rfl) (hd rfl),
  ⟨fun hd => mk16c W5624 (hd rfl),
  ⟨fun hd => mk16c W5625 (hd rfl),
  ⟨fun hd => mk19 mt_474 cf_474 (vf_474_37.rt (Or.inl W5564) (hd rfl)) rfl rfl (noH_nil rfl),
  ⟨fun hd => mk16c W5625 (hd rfl),
  ⟨fun hd => mk6 fld_37_16 (Or.inl ⟨rfl, by decide⟩) (Or.inl W4306) (Or.inl rfl) (hd rfl),
  ⟨fun hd => mk16c W5625 (hd rfl),
  ⟨fun hd => mk6 fld_37_17 (Or.inl ⟨rfl, by decide⟩) (Or.inl W4307) (Or.inl rfl) (hd rfl),
  ⟨fun hd => mk16c W5625 (hd rfl),
  ⟨fun hd => mk19 mt_478 cf_478 (vf_478_37.rt (Or.inl W5580) (hd rfl)) rfl rfl (noH_nil rfl),
  ⟨fun hd => mk18 mt_381 sf_381 (Or.inl W4952) rfl rfl (noH_nil rfl) (hd rfl),
  trivial⟩⟩⟩⟩⟩⟩⟩⟩⟩⟩⟩
theorem fe_482 : eqEs ((flat code_482).filter (fun e => ndE e.2.2.1)) (fl_482_0) = true := by decide +kernel
theorem om_482 : OKm mi iT prg 482 := OKm_of (code := code_482) rfl mt_482 (Or.inl (by decide +kernel)) rfl wk_482 (by decide +kernel) (by decide +kernel) (FA_of fe_482 (fb_482_0))
def fl_483_0 : List Ent := [(1, 3, 22, .invokespecial 1, [], 0)]
theorem fb_483_0 : FB mi iT mi_483 (bpc code_483) (fl_483_0) := ⟨fun hd => mk22 (by decide) W1746 oi_w (hd rfl),
  trivial⟩
theorem fe_483 : eqEs ((flat code_483).filter (fun e => ndE e.2.2.1)) (fl_483_0) = true := by decide +kernel
theorem om_483 : OKm mi iT prg 483 := OKm_of (code := code_483) rfl mt_483 (Or.inl (by decide +kernel)) rfl wk_483 (by decide +kernel) (by decide +kernel) (FA_of fe_483 (fb_483_0))
def fl_484_0 : List Ent := [(1, 3, 6, .getfield 81, [3, 22, 105], 0), (4, 3, 13, .getstatic 131, [24], 0)]
theorem fb_484_0 : FB mi iT mi_484 (bpc code_484) (fl_484_0) := ⟨fun hd => mk6 fld_22_13 (Or.inl ⟨rfl, by decide⟩) (Or.inl W2294) (Or.inl rfl) (hd rfl),
  ⟨fun hd => mk13s (by decide) rfl (Or.inl W562) (Or.inl rfl) (hd rfl),
  trivial⟩⟩
theorem fe_484 : eqEs ((flat code_484).filter (fun e => ndE e.2.2.1)) (fl_484_0) = true := by decide +kernel
theorem om_484 : OKm mi iT prg 484 := OKm_of (code := code_484) rfl mt_484 (Or.inl (by decide +kernel)) rfl wk_484 (by decide +kernel) (by decide +kernel) (FA_of fe_484 (fb_484_0))
def fl_485_0 : List Ent := [(3, 3, 6, .getfield 20, [3, 22, 95], 0), (6, 3, 19, .invokevirtual 112, [0, 1, 1, 5, 5], 0)]
theorem fb_485_0 : FB mi iT mi_485 (bpc code_485) (fl_485_0) := ⟨fun hd => mk6 fld_22_3 (Or.inl ⟨rfl, by decide⟩) (Or.inl W2253) (Or.inl rfl) (hd rfl),
  ⟨fun hd => mk19 mt_5 cf_5 (vf_5_5.rt (Or.inl W1076) (hd rfl)) rfl rfl (noH_nil rfl),
  trivial⟩⟩
theorem fe_485 : eqEs ((flat code_485).filter (fun e => ndE e.2.2.1)) (fl_485_0) = true := by decide +kernel
theorem om_485 : OKm mi iT prg 485 := OKm_of (code := code_485) rfl mt_485 (Or.inl (by decide +kernel)) rfl wk_485 (by decide +kernel) (by decide +kernel) (FA_of fe_485 (fb_485_0))
def fl_486_0 : List Ent := [(9, 3, 6, .getfield 13, [3, 22, 94], 0), (20, 3, 6, .getfield 20, [3, 22, 95], 0), (23, 3, 19, .invokevirtual 112, [0, 1, 1, 5, 5], 0), (30, 3, 6, .getfield 20, [3, 22, 95], 0), (34, 3, 19, .invokevirtual 116, [3, 2, 2, 5, 6], 0), (37, 3, 17, .checkcast 120, [26], 0), (43, 3, 6, .getfield 20, [3, 22, 95], 0), (46, 3, 19, .invokevirtual 112, [0, 1, 1, 5, 5], 0), (58, 3, 6, .getfield 26, [3, 22, 96], 0), (72, 3, 6, .getfield 35, [3, 22, 97], 0), (79, 3, 6, .getfield 41, [3, 22, 98], 0)]
theorem fb_486_0 : FB mi iT mi_486 (bpc code_486) (fl_486_0) := ⟨fun hd => mk6 fld_22_2 (Or.inl ⟨rfl, by decide⟩) (Or.inl W2251) (Or.inl rfl) (hd rfl),
  ⟨fun hd => mk6 fld_22_3 (Or.inl ⟨rfl, by decide⟩) (Or.inl W2253) (Or.inl rfl) (hd rfl),
  ⟨fun hd => mk19 mt_5 cf_5 (vf_5_5.rt (Or.inl W1076) (hd rfl)) rfl rfl (noH_nil rfl),
  ⟨fun hd => mk6 fld_22_3 (Or.inl ⟨rfl, by decide⟩) (Or.inl W2253) (Or.inl rfl) (hd rfl),
  ⟨fun hd => mk19 mt_6 cf_6 (vf_6_5.rt (Or.inl W1081) (hd rfl)) rfl rfl (noH_nil rfl),
  ⟨fun hd => mk17u kx_26 W1106 W1082 (hd rfl),
  ⟨fun hd => mk6 fld_22_3 (Or.inl ⟨rfl, by decide⟩) (Or.inl W2253) (Or.inl rfl) (hd rfl),
  ⟨fun hd => mk19 mt_5 cf_5 (vf_5_5.rt (Or.inl W1076) (hd rfl)) rfl rfl (noH_nil rfl),
  ⟨fun hd => mk6 fld_22_4 (Or.inl ⟨rfl, by decide⟩) (Or.inl W2255) (Or.inl rfl) (hd rfl),
  ⟨fun hd => mk6 fld_22_5 (Or.inl ⟨rfl, by decide⟩) (Or.inl W2258) (Or.inl rfl) (hd rfl),
  ⟨fun hd => mk6 fld_22_6 (Or.inl ⟨rfl, by decide⟩) (Or.inl W2265) (Or.inl rfl) (hd rfl),
  trivial⟩⟩⟩⟩⟩⟩⟩⟩⟩⟩⟩
theorem fe_486 : eqEs ((flat code_486).filter (fun e => ndE e.2.2.1)) (fl_486_0) = true := by decide +kernel
theorem om_486 : OKm mi iT prg 486 := OKm_of (code := code_486) rfl mt_486 (Or.inl (by decide +kernel)) rfl wk_486 (by decide +kernel) (by decide +kernel) (FA_of fe_486 (fb_486_0))
def fl_487_0 : List Ent := [(1, 3, 6, .getfield 13, [3, 22, 94], 0)]
theorem fb_487_0 : FB mi iT mi_487 (bpc code_487) (fl_487_0) := ⟨fun hd => mk6 fld_22_2 (Or.inl ⟨rfl, by decide⟩) (Or.inl W2251) (Or.inl rfl) (hd rfl),
  trivial⟩
theorem fe_487 : eqEs ((flat code_487).filter (fun e => ndE e.2.2.1)) (fl_487_0) = true := by decide +kernel
theorem om_487 : OKm mi iT prg 487 := OKm_of (code := code_487) rfl mt_487 (Or.inl (by decide +kernel)) rfl wk_487 (by decide +kernel) (by decide +kernel) (FA_of fe_487 (fb_487_0))
def fl_488_0 : List Ent := [(1, 3, 22, .invokespecial 3, [], 0), (7, 3, 12, .anewarray 11, [105], 0), (10, 3, 7, .putfield 13, [3, 22, 94], 0), (14, 3, 11, .new 17, [5, 3], 0), (18, 3, 36, .invokespecial 19, [9, 1, 1, 5, 3], 0), (21, 3, 7, .putfield 20, [3, 22, 95], 0), (27, 3, 12, .anewarray 24, [106], 0), (30, 3, 7, .putfield 26, [3, 22, 96], 0), (34, 3, 11, .new 30, [20, 3], 0), (39, 3, 36, .invokespecial 32, [9, 2, 2, 20, 528], 0), (42, 3, 7, .putfield 35, [3, 22, 97], 0), (48, 3, 12, .anewarray 39, [107], 0), (51, 3, 7, .putfield 41, [3, 22, 98], 0), (55, 3, 11, .new 45, [17, 6], 0), (60, 3, 36, .invokespecial 47, [9, 2, 2, 17, 555], 0), (63, 3, 7, .putfield 48, [3, 22, 99], 0), (67, 3, 11, .new 52, [18, 3], 0), (72, 3, 36, .invokespecial 54, [9, 2, 2, 18, 563], 0), (75, 3, 7, .putfield 55, [3, 22, 100], 0), (79, 3, 11, .new 59, [19, 10], 0), (84, 3, 36, .invokespecial 61, [9, 2, 2, 19, 575], 0), (87, 3, 7, .putfield 62, [3, 22, 101], 0), (91, 3, 11, .new 17, [5, 3], 0), (95, 3, 36, .invokespecial 19, [9, 1, 1, 5, 3], 0), (98, 3, 7, .putfield 66, [3, 22, 103], 0), (104, 2, 12, .newarray .int, [100], 0), (106, 3, 7, .putfield 71, [3, 22, 104], 0), (110, 3, 13, .getstatic 75, [15], 0), (113, 3, 7, .putfield 81, [3, 22, 105], 0), (119, 3, 7, .putfield 84, [0, 22, 107], 0)]
theorem fb_488_0 : FB mi iT mi_488 (bpc code_488) (fl_488_0) := ⟨fun hd => mk22 (by decide) W1936 oi_w (hd rfl),
  ⟨fun hd => mk12b (by decide) rfl W1937 W1938 (hd rfl),
  ⟨fun hd => mk7 fld_22_2 (Or.inl W2251) (Or.inl rfl) (Or.inr ⟨rfl, rfl, rfl, W2251⟩) (hd rfl),
  ⟨fun hd => mk11 nf_5 W1939 (hd rfl),
  ⟨fun hd => mk36 mt_3 cf_3 (ic_3.rt (Or.inl W1940) (hd rfl)) rfl rfl,
  ⟨fun hd => mk7 fld_22_3 (Or.inl W2253) (Or.inl rfl) (Or.inr ⟨rfl, rfl, rfl, W2253⟩) (hd rfl),
  ⟨fun hd => mk12b (by decide) rfl W1941 W1942 (hd rfl),
  ⟨fun hd => mk7 fld_22_4 (Or.inl W2255) (Or.inl rfl) (Or.inr ⟨rfl, rfl, rfl, W2255⟩) (hd rfl),
  ⟨fun hd => mk11 nf_20 W1943 (hd rfl),
  ⟨fun hd => mk36 mt_528 cf_528 (ic_528.rt (Or.inl W1944) (hd rfl)) rfl rfl,
  ⟨fun hd => mk7 fld_22_5 (Or.inl W2258) (Or.inl rfl) (Or.inr ⟨rfl, rfl, rfl, W2258⟩) (hd rfl),
  ⟨fun hd => mk12b (by decide) rfl W1985 W1986 (hd rfl),
  ⟨fun hd => mk7 fld_22_6 (Or.inl W2265) (Or.inl rfl) (Or.inr ⟨rfl, rfl, rfl, W2265⟩) (hd rfl),
  ⟨fun hd => mk11 nf_17 W1987 (hd rfl),
  ⟨fun hd => mk36 mt_555 cf_555 (ic_555.rt (Or.inl W1988) (hd rfl)) rfl rfl,
  ⟨fun hd => mk7 fld_22_7 (Or.inl W2267) (Or.inl rfl) (Or.inr ⟨rfl, rfl, rfl, W2267⟩) (hd rfl),
  ⟨fun hd => mk11 nf_18 W2019 (hd rfl),
  ⟨fun hd => mk36 mt_563 cf_563 (ic_563.rt (Or.inl W2020) (hd rfl)) rfl rfl,
  ⟨fun hd => mk7 fld_22_8 (Or.inl W2277) (Or.inl rfl) (Or.inr ⟨rfl, rfl, rfl, W2277⟩) (hd rfl),
  ⟨fun hd => mk11 nf_19 W2036 (hd rfl),
  ⟨fun hd => mk36 mt_575 cf_575 (ic_575.rt (Or.inl W2037) (hd rfl)) rfl rfl,
  ⟨fun hd => mk7 fld_22_9 (Or.inl W2281) (Or.inl rfl) (Or.inr ⟨rfl, rfl, rfl, W2281⟩) (hd rfl),
  ⟨fun hd => mk11 nf_5 W1939 (hd rfl),
  ⟨fun hd => mk36 mt_3 cf_3 (ic_3.rt (Or.inl W1940) (hd rfl)) rfl rfl,
  ⟨fun hd => mk7 fld_22_11 (Or.inl W2289) (Or.inl rfl) (Or.inr ⟨rfl, rfl, rfl, W2289⟩) (hd rfl),
  ⟨fun hd => mk12a (at_ := .int) (by decide) rfl W239 (hd rfl),
  ⟨fun hd => mk7 fld_22_12 (Or.inl W2293) (Or.inl rfl) (Or.inr ⟨rfl, rfl, rfl, W2293⟩) (hd rfl),
  ⟨fun hd => mk13s (by decide) rfl (Or.inl W2072) (Or.inl rfl) (hd rfl),
  ⟨fun hd => mk7 fld_22_13 (Or.inl W2294) (Or.inl rfl) (Or.inl rfl) (hd rfl),
  ⟨fun hd => mk7 fld_22_15 (Or.inl W2301) (Or.inl rfl) (Or.inl rfl) (hd rfl),
  trivial⟩⟩⟩⟩⟩⟩⟩⟩⟩⟩⟩⟩⟩⟩⟩⟩⟩⟩⟩⟩⟩⟩⟩⟩⟩⟩⟩⟩⟩⟩
def fl_488_1 : List Ent := [(124, 3, 7, .putfield 88, [0, 22, 109], 0), (129, 3, 7, .putfield 91, [0, 22, 92], 0), (134, 3, 7, .putfield 94, [3, 22, 93], 0), (146, 3, 6, .getfield 13, [3, 22, 94], 0), (150, 3, 11, .new 11, [23, 7], 0), (161, 3, 36, .invokespecial 98, [9, 4, 4, 23, 591], 0), (164, 1, 9, .aastore, [3, 105, 23], 0), (180, 3, 6, .getfield 26, [3, 22, 96], 0), (184, 3, 11, .new 24, [15, 3], 0), (190, 3, 36, .invokespecial 101, [9, 3, 3, 15, 603], 0), (193, 1, 9, .aastore, [3, 106, 15], 0), (195, 3, 6, .getfield 41, [3, 22, 98], 0), (199, 3, 11, .new 39, [24, 2], 0), (205, 3, 36, .invokespecial 104, [9, 3, 3, 24, 609], 0), (208, 1, 9, .aastore, [3, 107, 24], 0), (216, 3, 11, .new 69, [12, 4], 0), (221, 3, 36, .invokespecial 107, [9, 2, 2, 12, 619], 0), (224, 3, 7, .putfield 108, [3, 22, 102], 0)]
theorem fb_488_1 : FB mi iT mi_488 (bpc code_488) (fl_488_1) := ⟨fun hd => mk7 fld_22_17 (Or.inl W2308) (Or.inl rfl) (Or.inl rfl) (hd rfl),
  ⟨fun hd => mk7 fld_22_0 (Or.inl W2232) (Or.inl rfl) (Or.inr ⟨rfl, rfl, rfl, W2232⟩) (hd rfl),
  ⟨fun hd => mk7 fld_22_1 (Or.inl W2237) (Or.inl rfl) (Or.inr ⟨rfl, rfl, rfl, W2237⟩) (hd rfl),
  ⟨fun hd => mk6 fld_22_2 (Or.inl ⟨rfl, by decide⟩) (Or.inl W2251) (Or.inl rfl) (hd rfl),
  ⟨fun hd => mk11 nf_23 W1937 (hd rfl),
  ⟨fun hd => mk36 mt_591 cf_591 (ic_591.rt (Or.inl W2074) (hd rfl)) rfl rfl,
  ⟨fun hd => ⟨_, _, _, rfl, rfl, hd rfl, Or.inr (Or.inr (Or.inr (Or.inr ⟨rfl, rfl, by decide, _, rfl, as_105_L, by decide⟩)))⟩,
  ⟨fun hd => mk6 fld_22_4 (Or.inl ⟨rfl, by decide⟩) (Or.inl W2255) (Or.inl rfl) (hd rfl),
  ⟨fun hd => mk11 nf_15 W1941 (hd rfl),
  ⟨fun hd => mk36 mt_603 cf_603 (ic_603.rt (Or.inl W2107) (hd rfl)) rfl rfl,
  ⟨fun hd => ⟨_, _, _, rfl, rfl, hd rfl, Or.inr (Or.inr (Or.inr (Or.inr ⟨rfl, rfl, by decide, _, rfl, as_106_L, by decide⟩)))⟩,
  ⟨fun hd => mk6 fld_22_6 (Or.inl ⟨rfl, by decide⟩) (Or.inl W2265) (Or.inl rfl) (hd rfl),
  ⟨fun hd => mk11 nf_24 W1985 (hd rfl),
  ⟨fun hd => mk36 mt_609 cf_609 (ic_609.rt (Or.inl W2124) (hd rfl)) rfl rfl,
  ⟨fun hd => ⟨_, _, _, rfl, rfl, hd rfl, Or.inr (Or.inr (Or.inr (Or.inr ⟨rfl, rfl, by decide, _, rfl, as_107_L, by decide⟩)))⟩,
  ⟨fun hd => mk11 nf_12 W2135 (hd rfl),
  ⟨fun hd => mk36 mt_619 cf_619 (ic_619.rt (Or.inl W2136) (hd rfl)) rfl rfl,
  ⟨fun hd => mk7 fld_22_10 (Or.inl W2285) (Or.inl rfl) (Or.inr ⟨rfl, rfl, rfl, W2285⟩) (hd rfl),
  trivial⟩⟩⟩⟩⟩⟩⟩⟩⟩⟩⟩⟩⟩⟩⟩⟩⟩⟩
theorem fe_488 : eqEs ((flat code_488).filter (fun e => ndE e.2.2.1)) (fl_488_0 ++ (fl_488_1)) = true := by decide +kernel
theorem om_488 : OKm mi iT prg 488 := OKm_of (code := code_488) rfl mt_488 (Or.inl (by decide +kernel)) rfl wk_488 (by decide +kernel) (by decide +kernel) (FA_of fe_488 (FB_app fb_488_0 (fb_488_1)))
def fl_489_0 : List Ent := [(3, 3, 6, .getfield 26, [3, 22, 96], 0), (8, 1, 10, .arraylength, [106], 0), (28, 3, 6, .getfield 122, [0, 15, 61], 0)]
theorem fb_489_0 : FB mi iT mi_489 (bpc code_489) (fl_489_0) := ⟨fun hd => mk6 fld_22_4 (Or.inl ⟨rfl, by decide⟩) (Or.inl W2255) (Or.inl rfl) (hd rfl),
  ⟨fun hd => mk10 (by decide) rfl (hd rfl),
  ⟨fun hd => mk6 fld_15_2 (Or.inl ⟨rfl, by decide⟩) (Or.inr ⟨_, W2114⟩) (Or.inl rfl) (hd rfl),
  trivial⟩⟩⟩
theorem fe_489 : eqEs ((flat code_489).filter (fun e => ndE e.2.2.1)) (fl_489_0) = true := by decide +kernel
theorem om_489 : OKm mi iT prg 489 := OKm_of (code := code_489) rfl mt_489 (Or.inl (by decide +kernel)) rfl wk_489 (by decide +kernel) (by decide +kernel) (FA_of fe_489 (fb_489_0))
def fl_490_0 : List Ent := [(3, 3, 6, .getfield 13, [3, 22, 94], 0), (8, 1, 10, .arraylength, [105], 0), (27, 3, 6, .getfield 143, [0, 23, 124], 0), (37, 3, 7, .putfield 143, [0, 23, 124], 0)]
theorem fb_490_0 : FB mi iT mi_490 (bpc code_490) (fl_490_0) := ⟨fun hd => mk6 fld_22_2 (Or.inl ⟨rfl, by decide⟩) (Or.inl W2251) (Or.inl rfl) (hd rfl),
  ⟨fun hd => mk10 (by decide) rfl (hd rfl),
  ⟨fun hd => mk6 fld_23_5 (Or.inl ⟨rfl, by decide⟩) (Or.inr ⟨_, W2089⟩) (Or.inl rfl) (hd rfl),
  ⟨fun hd => mk7 fld_23_5 (Or.inr ⟨_, W2089⟩) (Or.inl rfl) (Or.inl rfl) (hd rfl),
  trivial⟩⟩⟩⟩
theorem fe_490 : eqEs ((flat code_490).filter (fun e => ndE e.2.2.1)) (fl_490_0) = true := by decide +kernel
theorem om_490 : OKm mi iT prg 490 := OKm_of (code := code_490) rfl mt_490 (Or.inl (by decide +kernel)) rfl wk_490 (by decide +kernel) (by decide +kernel) (FA_of fe_490 (fb_490_0))
def fl_491_0 : List Ent := [(1, 3, 6, .getfield 48, [3, 22, 99], 0), (4, 3, 19, .invokevirtual 125, [9, 1, 1, 17, 547], 0), (8, 3, 6, .getfield 48, [3, 22, 99], 0), (11, 3, 19, .invokevirtual 128, [0, 1, 1, 17, 552], 0)]
theorem fb_491_0 : FB mi iT mi_491 (bpc code_491) (fl_491_0) := ⟨fun hd => mk6 fld_22_7 (Or.inl ⟨rfl, by decide⟩) (Or.inl W2267) (Or.inl rfl) (hd rfl),
  ⟨fun hd => mk19 mt_547 cf_547 (vf_547_17.rt (Or.inl W3226) (hd rfl)) rfl rfl (noH_nil rfl),
  ⟨fun hd => mk6 fld_22_7 (Or.inl ⟨rfl, by decide⟩) (Or.inl W2267) (Or.inl rfl) (hd rfl),
  ⟨fun hd => mk19 mt_552 cf_552 (vf_552_17.rt (Or.inl W3227) (hd rfl)) rfl rfl (noH_nil rfl),
  trivial⟩⟩⟩⟩
theorem fe_491 : eqEs ((flat code_491).filter (fun e => ndE e.2.2.1)) (fl_491_0) = true := by decide +kernel
theorem om_491 : OKm mi iT prg 491 := OKm_of (code := code_491) rfl mt_491 (Or.inl (by decide +kernel)) rfl wk_491 (by decide +kernel) (by decide +kernel) (FA_of fe_491 (fb_491_0))
def fl_492_0 : List Ent := [(2, 3, 7, .putfield 81, [3, 22, 105], 0), (7, 3, 7, .putfield 146, [4, 22, 111], 0), (12, 3, 7, .putfield 150, [4, 22, 112], 0), (17, 3, 7, .putfield 153, [3, 22, 113], 0), (21, 3, 6, .getfield 66, [3, 22, 103], 0), (24, 3, 19, .invokevirtual 157, [3, 1, 1, 5, 4], 0), (29, 5, 34, .invokeinterface 161 1, [0, 1, 1, 11, 87], 0), (38, 5, 34, .invokeinterface 167 1, [3, 1, 1, 11, 88], 0), (43, 3, 17, .checkcast 171, [35], 0), (49, 3, 7, .putfield 173, [0, 35, 186], 0), (54, 3, 7, .putfield 174, [3, 35, 187], 0), (59, 3, 7, .putfield 178, [0, 35, 188], 0), (66, 3, 6, .getfield 66, [3, 22, 103], 0), (69, 3, 19, .invokevirtual 181, [9, 1, 1, 5, 15], 0)]
theorem fb_492_0 : FB mi iT mi_492 (bpc code_492) (fl_492_0) := ⟨fun hd => mk7 fld_22_13 (Or.inl W2294) (Or.inl rfl) (Or.inl rfl) (hd rfl),
  ⟨fun hd => mk7 fld_22_19 (Or.inl W2316) (Or.inl rfl) (Or.inl rfl) (hd rfl),
  ⟨fun hd => mk7 fld_22_20 (Or.inl W2319) (Or.inl rfl) (Or.inl rfl) (hd rfl),
  ⟨fun hd => mk7 fld_22_21 (Or.inl W2321) (Or.inl rfl) (Or.inl rfl) (hd rfl),
  ⟨fun hd => mk6 fld_22_11 (Or.inl ⟨rfl, by decide⟩) (Or.inl W2289) (Or.inl rfl) (hd rfl),
  ⟨fun hd => mk19 mt_4 cf_4 (vf_4_5.rt (Or.inl W3234) (hd rfl)) rfl rfl (noH_nil rfl),
  ⟨fun hd => mk34 mt_87 cf_87 (ff_87_11.rt W3236 (hd rfl)) rfl rfl,
  ⟨fun hd => mk34 mt_88 cf_88 (ff_88_11.rt W3238 (hd rfl)) rfl rfl,
  ⟨fun hd => mk17 kx_35 W3239 (hd rfl),
  ⟨fun hd => mk7 fld_35_6 (Or.inr ⟨_, W3844⟩) (Or.inl rfl) (Or.inl rfl) (hd rfl),
  ⟨fun hd => mk7 fld_35_7 (Or.inr ⟨_, W3848⟩) (Or.inl rfl) (Or.inl rfl) (hd rfl),
  ⟨fun hd => mk7 fld_35_8 (Or.inr ⟨_, W3853⟩) (Or.inl rfl) (Or.inl rfl) (hd rfl),
  ⟨fun hd => mk6 fld_22_11 (Or.inl ⟨rfl, by decide⟩) (Or.inl W2289) (Or.inl rfl) (hd rfl),
  ⟨fun hd => mk19 mt_15 cf_15 (vf_15_5.rt (Or.inl W3240) (hd rfl)) rfl rfl (noH_nil rfl),
  trivial⟩⟩⟩⟩⟩⟩⟩⟩⟩⟩⟩⟩⟩⟩
theorem fe_492 : eqEs ((flat code_492).filter (fun e => ndE e.2.2.1)) (fl_492_0) = true := by decide +kernel
theorem om_492 : OKm mi iT prg 492 := OKm_of (code := code_492) rfl mt_492 (Or.inl (by decide +kernel)) rfl wk_492 (by decide +kernel) (by decide +kernel) (FA_of fe_492 (fb_492_0))
def fl_493_0 : List Ent := [(9, 3, 6, .getfield 71, [3, 22, 104], 0), (14, 3, 6, .getfield 108, [3, 22, 102], 0), (18, 3, 19, .invokevirtual 134, [3, 2, 2, 12, 631], 0), (21, 3, 6, .getfield 138, [0, 25, 133], 0), (24, 1, 9, .iastore, [0, 100], 0)]
theorem fb_493_0 : FB mi iT mi_493 (bpc code_493) (fl_493_0) := ⟨fun hd => mk6 fld_22_12 (Or.inl ⟨rfl, by decide⟩) (Or.inl W2293) (Or.inl rfl) (hd rfl),
  ⟨fun hd => mk6 fld_22_10 (Or.inl ⟨rfl, by decide⟩) (Or.inl W2285) (Or.inl rfl) (hd rfl),
  ⟨fun hd => mk19 mt_631 cf_631 (vf_631_12.rt (Or.inl W3529) (hd rfl)) rfl rfl (noH_nil rfl),
  ⟨fun hd => mk6 fld_25_5 (Or.inl ⟨rfl, by decide⟩) (Or.inr ⟨_, W2177⟩) (Or.inl rfl) (hd rfl),
  ⟨fun hd => ⟨_, _, _, rfl, rfl, hd rfl, Or.inl ⟨rfl, rfl, rfl⟩⟩,
  trivial⟩⟩⟩⟩⟩
theorem fe_493 : eqEs ((flat code_493).filter (fun e => ndE e.2.2.1)) (fl_493_0) = true := by decide +kernel
theorem om_493 : OKm mi iT prg 493 := OKm_of (code := code_493) rfl mt_493 (Or.inl (by decide +kernel)) rfl wk_493 (by decide +kernel) (by decide +kernel) (FA_of fe_493 (fb_493_0))
def fl_494_0 : List Ent := [(9, 3, 6, .getfield 108, [3, 22, 102], 0), (13, 3, 19, .invokevirtual 134, [3, 2, 2, 12, 631], 0), (17, 3, 6, .getfield 71, [3, 22, 104], 0), (22, 3, 7, .putfield 138, [0, 25, 133], 0)]
theorem fb_494_0 : FB mi iT mi_494 (bpc code_494) (fl_494_0) := ⟨fun hd => mk6 fld_22_10 (Or.inl ⟨rfl, by decide⟩) (Or.inl W2285) (Or.inl rfl) (hd rfl),
  ⟨fun hd => mk19 mt_631 cf_631 (vf_631_12.rt (Or.inl W3529) (hd rfl)) rfl rfl (noH_nil rfl),
  ⟨fun hd => mk6 fld_22_12 (Or.inl ⟨rfl, by decide⟩) (Or.inl W2293) (Or.inl rfl) (hd rfl),
  ⟨fun hd => mk7 fld_25_5 (Or.inr ⟨_, W2177⟩) (Or.inl rfl) (Or.inl rfl) (hd rfl),
  trivial⟩⟩⟩⟩
theorem fe_494 : eqEs ((flat code_494).filter (fun e => ndE e.2.2.1)) (fl_494_0) = true := by decide +kernel
theorem om_494 : OKm mi iT prg 494 := OKm_of (code := code_494) rfl mt_494 (Or.inl (by decide +kernel)) rfl wk_494 (by decide +kernel) (by decide +kernel) (FA_of fe_494 (fb_494_0))
def fl_495_0 : List Ent := [(0, 3, 11, .new 184, [36, 4], 0), (4, 3, 36, .invokespecial 186, [9, 1, 1, 36, 109], 0), (8, 3, 6, .getfield 91, [0, 22, 92], 0), (11, 3, 19, .invokevirtual 187, [3, 2, 2, 36, 111], 0), (14, 2, 13, .ldc 191, [47], 0), (16, 3, 19, .invokevirtual 193, [3, 2, 2, 36, 110], 0), (20, 3, 6, .getfield 81, [3, 22, 105], 0), (23, 3, 31, .invokevirtual 196, [3, 1, 1, 15, 808, 16, 809, 19, 811, 24, 813, 18, 815, 25, 817], 0), (26, 3, 19, .invokevirtual 193, [3, 2, 2, 36, 110], 0), (29, 3, 19, .invokevirtual 200, [3, 1, 1, 36, 112], 0), (34, 3, 6, .getfield 146, [0, 22, 111], 0), (40, 3, 11, .new 184, [36, 4], 0), (44, 3, 36, .invokespecial 186, [9, 1, 1, 36, 109], 0), (48, 3, 19, .invokevirtual 193, [3, 2, 2, 36, 110], 0), (51, 2, 13, .ldc 203, [49], 0), (53, 3, 19, .invokevirtual 193, [3, 2, 2, 36, 110], 0), (56, 3, 19, .invokevirtual 200, [3, 1, 1, 36, 112], 0), (61, 3, 6, .getfield 153, [3, 22, 113], 0), (67, 3, 11, .new 184, [36, 4], 0), (71, 3, 36, .invokespecial 186, [9, 1, 1, 36, 109], 0), (75, 3, 19, .invokevirtual 193, [3, 2, 2, 36, 110], 0), (78, 2, 13, .ldc 205, [50], 0), (80, 3, 19, .invokevirtual 193, [3, 2, 2, 36, 110], 0), (84, 3, 6, .getfield 153, [3, 22, 113], 0), (87, 3, 6, .getfield 207, [0, 34, 176], 0), (90, 3, 19, .invokevirtual 187, [3, 2, 2, 36, 111], 0), (93, 3, 19, .invokevirtual 200, [3, 1, 1, 36, 112], 0), (98, 3, 6, .getfield 88, [0, 22, 109], 0), (109, 3, 11, .new 184, [36, 4], 0), (113, 3, 36, .invokespecial 186, [9, 1, 1, 36, 109], 0)]
theorem fb_495_0 : FB mi iT mi_495 (bpc code_495) (fl_495_0) := ⟨fun hd => mk11 nf_36 W4237 (hd rfl),
  ⟨fun hd => mk36 mt_109 cf_109 (ic_109.rt (Or.inl W4238) (hd rfl)) rfl rfl,
  ⟨fun hd => mk6 fld_22_0 (Or.inl ⟨rfl, by decide⟩) (Or.inl W2232) (Or.inl rfl) (hd rfl),
  ⟨fun hd => mk19 mt_111 cf_111 (vf_111_36.rt (Or.inl W4239) (hd rfl)) rfl rfl (noH_nil rfl),
  ⟨fun hd => mk13t rfl W4240 (Or.inl ⟨hd rfl, rfl⟩),
  ⟨fun hd => mk19 mt_110 cf_110 (vf_110_36.rt (Or.inl W4241) (hd rfl)) rfl rfl (noH_nil rfl),
  ⟨fun hd => mk6 fld_22_13 (Or.inl ⟨rfl, by decide⟩) (Or.inl W2294) (Or.inl rfl) (hd rfl),
  ⟨fun hd => mk31 ⟨pr3 mt_808 cf_808 (ei_808_15_KeelHouse_Stageword__Ljava_lang_String_.rt W4242 (hd rfl)) rfl rfl, ⟨pr3 mt_809 cf_809 (ei_809_16_KeelHouse_Stageword__Ljava_lang_String_.rt W4242 (hd rfl)) rfl rfl, ⟨pr3 mt_811 cf_811 (ei_811_19_KeelHouse_Stageword__Ljava_lang_String_.rt W4242 (hd rfl)) rfl rfl, ⟨pr3 mt_813 cf_813 (ei_813_24_KeelHouse_Stageword__Ljava_lang_String_.rt W4242 (hd rfl)) rfl rfl, ⟨pr3 mt_815 cf_815 (ei_815_18_KeelHouse_Stageword__Ljava_lang_String_.rt W4242 (hd rfl)) rfl rfl, ⟨pr3 mt_817 cf_817 (ei_817_25_KeelHouse_Stageword__Ljava_lang_String_.rt W4242 (hd rfl)) rfl rfl, trivial⟩⟩⟩⟩⟩⟩,
  ⟨fun hd => mk19 mt_110 cf_110 (vf_110_36.rt (Or.inl W4241) (hd rfl)) rfl rfl (noH_nil rfl),
  ⟨fun hd => mk19 mt_112 cf_112 (vf_112_36.rt (Or.inl W4269) (hd rfl)) rfl rfl (noH_nil rfl),
  ⟨fun hd => mk6 fld_22_19 (Or.inr ⟨rfl, Or.inl rfl⟩) (Or.inl W2316) (Or.inl rfl) (hd rfl),
  ⟨fun hd => mk11 nf_36 W4237 (hd rfl),
  ⟨fun hd => mk36 mt_109 cf_109 (ic_109.rt (Or.inl W4238) (hd rfl)) rfl rfl,
  ⟨fun hd => mk19 mt_110 cf_110 (vf_110_36.rt (Or.inl W4241) (hd rfl)) rfl rfl (noH_nil rfl),
  ⟨fun hd => mk13t rfl W4270 (Or.inl ⟨hd rfl, rfl⟩),
  ⟨fun hd => mk19 mt_110 cf_110 (vf_110_36.rt (Or.inl W4241) (hd rfl)) rfl rfl (noH_nil rfl),
  ⟨fun hd => mk19 mt_112 cf_112 (vf_112_36.rt (Or.inl W4269) (hd rfl)) rfl rfl (noH_nil rfl),
  ⟨fun hd => mk6 fld_22_21 (Or.inl ⟨rfl, by decide⟩) (Or.inl W2321) (Or.inl rfl) (hd rfl),
  ⟨fun hd => mk11 nf_36 W4237 (hd rfl),
  ⟨fun hd => mk36 mt_109 cf_109 (ic_109.rt (Or.inl W4238) (hd rfl)) rfl rfl,
  ⟨fun hd => mk19 mt_110 cf_110 (vf_110_36.rt (Or.inl W4241) (hd rfl)) rfl rfl (noH_nil rfl),
  ⟨fun hd => mk13t rfl W4271 (Or.inl ⟨hd rfl, rfl⟩),
  ⟨fun hd => mk19 mt_110 cf_110 (vf_110_36.rt (Or.inl W4241) (hd rfl)) rfl rfl (noH_nil rfl),
  ⟨fun hd => mk6 fld_22_21 (Or.inl ⟨rfl, by decide⟩) (Or.inl W2321) (Or.inl rfl) (hd rfl),
  ⟨fun hd => mk6 fld_34_0 (Or.inl ⟨rfl, by decide⟩) (Or.inr ⟨_, W3797⟩) (Or.inl rfl) (hd rfl),
  ⟨fun hd => mk19 mt_111 cf_111 (vf_111_36.rt (Or.inl W4239) (hd rfl)) rfl rfl (noH_nil rfl),
  ⟨fun hd => mk19 mt_112 cf_112 (vf_112_36.rt (Or.inl W4269) (hd rfl)) rfl rfl (noH_nil rfl),
  ⟨fun hd => mk6 fld_22_17 (Or.inl ⟨rfl, by decide⟩) (Or.inl W2308) (Or.inl rfl) (hd rfl),
  ⟨fun hd => mk11 nf_36 W4237 (hd rfl),
  ⟨fun hd => mk36 mt_109 cf_109 (ic_109.rt (Or.inl W4238) (hd rfl)) rfl rfl,
  trivial⟩⟩⟩⟩⟩⟩⟩⟩⟩⟩⟩⟩⟩⟩⟩⟩⟩⟩⟩⟩⟩⟩⟩⟩⟩⟩⟩⟩⟩⟩
def fl_495_1 : List Ent := [(117, 3, 19, .invokevirtual 193, [3, 2, 2, 36, 110], 0), (120, 2, 13, .ldc 210, [48], 0), (122, 3, 19, .invokevirtual 193, [3, 2, 2, 36, 110], 0), (126, 3, 6, .getfield 88, [0, 22, 109], 0), (129, 3, 19, .invokevirtual 187, [3, 2, 2, 36, 111], 0), (132, 3, 19, .invokevirtual 200, [3, 1, 1, 36, 112], 0)]
theorem fb_495_1 : FB mi iT mi_495 (bpc code_495) (fl_495_1) := ⟨fun hd => mk19 mt_110 cf_110 (vf_110_36.rt (Or.inl W4241) (hd rfl)) rfl rfl (noH_nil rfl),
  ⟨fun hd => mk13t rfl W4272 (Or.inl ⟨hd rfl, rfl⟩),
  ⟨fun hd => mk19 mt_110 cf_110 (vf_110_36.rt (Or.inl W4241) (hd rfl)) rfl rfl (noH_nil rfl),
  ⟨fun hd => mk6 fld_22_17 (Or.inl ⟨rfl, by decide⟩) (Or.inl W2308) (Or.inl rfl) (hd rfl),
  ⟨fun hd => mk19 mt_111 cf_111 (vf_111_36.rt (Or.inl W4239) (hd rfl)) rfl rfl (noH_nil rfl),
  ⟨fun hd => mk19 mt_112 cf_112 (vf_112_36.rt (Or.inl W4269) (hd rfl)) rfl rfl (noH_nil rfl),
  trivial⟩⟩⟩⟩⟩⟩
theorem fe_495 : eqEs ((flat code_495).filter (fun e => ndE e.2.2.1)) (fl_495_0 ++ (fl_495_1)) = true := by decide +kernel
theorem om_495 : OKm mi iT prg 495 := OKm_of (code := code_495) rfl mt_495 (Or.inl (by decide +kernel)) rfl wk_495 (by decide +kernel) (by decide +kernel) (FA_of fe_495 (FB_app fb_495_0 (fb_495_1)))
