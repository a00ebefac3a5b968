/-! the facts of the methods' entries (written by emit_fa.py) -/
set_option maxRecDepth 100000
def fl_271_0 : List Ent := [(2, 3, 19, .invokevirtual 161, [3, 2, 2, 1, 209], 0), (8, 3, 6, .getfield 116, [3, 1, 8], 0), (12, 3, 19, .invokevirtual 728, [3, 2, 2, 9, 349], 0), (20, 3, 18, .invokestatic 128, [9, 2, 2, 210], 0), (25, 3, 19, .invokevirtual 682, [0, 1, 1, 22, 484], 0), (33, 3, 6, .getfield 559, [0, 22, 111], 0), (41, 3, 6, .getfield 732, [3, 22, 113], 0), (46, 3, 6, .getfield 736, [3, 35, 181], 0), (54, 3, 6, .getfield 738, [0, 35, 186], 0), (65, 3, 18, .invokestatic 739, [0, 3, 3, 350], 0), (76, 3, 18, .invokestatic 146, [9, 1, 1, 205], 0), (84, 3, 19, .invokevirtual 743, [9, 3, 3, 35, 763], 0), (89, 3, 19, .invokevirtual 446, [0, 1, 1, 22, 491], 0)]
theorem fb_271_0 : FB mi iT mi_271 (bpc code_271) (fl_271_0) := ⟨fun hd => mk19 mt_209 cf_209 (vf_209_1.rt (Or.inl W2535) (hd rfl)) rfl rfl (noH_nil rfl),
  ⟨fun hd => mk6 fld_1_7 (Or.inl ⟨rfl, by decide⟩) (Or.inl W407) (Or.inl rfl) (hd rfl),
  ⟨fun hd => mk19 mt_349 cf_349 (vf_349_9.rt (Or.inl W3894) (hd rfl)) rfl rfl (noH_nil rfl),
  ⟨fun hd => mk18 mt_210 sf_210 (Or.inl W2539) rfl rfl (noH_nil rfl) (hd rfl),
  ⟨fun hd => mk19 mt_484 cf_484 (vf_484_22.rt (Or.inl W3742) (hd rfl)) rfl rfl (noH_nil rfl),
  ⟨fun hd => mk6 fld_22_19 (Or.inr ⟨rfl, Or.inl rfl⟩) (Or.inr ⟨_, W2317⟩) (Or.inl rfl) (hd rfl),
  ⟨fun hd => mk6 fld_22_21 (Or.inl ⟨rfl, by decide⟩) (Or.inr ⟨_, W2322⟩) (Or.inl rfl) (hd rfl),
  ⟨fun hd => mk6 fld_35_1 (Or.inl ⟨rfl, by decide⟩) (Or.inr ⟨_, W3833⟩) (Or.inl rfl) (hd rfl),
  ⟨fun hd => mk6 fld_35_6 (Or.inl ⟨rfl, by decide⟩) (Or.inr ⟨_, W3846⟩) (Or.inl rfl) (hd rfl),
  ⟨fun hd => mk18 mt_350 sf_350 (Or.inl W3898) rfl rfl (noH_nil rfl) (hd rfl),
  ⟨fun hd => mk18 mt_205 sf_205 (Or.inl W1793) rfl rfl (noH_nil rfl) (hd rfl),
  ⟨fun hd => mk19 mt_763 cf_763 (vf_763_35.rt (Or.inl W3907) (hd rfl)) rfl rfl (noH_nil rfl),
  ⟨fun hd => mk19 mt_491 cf_491 (vf_491_22.rt (Or.inl W3222) (hd rfl)) rfl rfl (noH_nil rfl),
  trivial⟩⟩⟩⟩⟩⟩⟩⟩⟩⟩⟩⟩⟩
theorem fe_271 : eqEs ((flat code_271).filter (fun e => ndE e.2.2.1)) (fl_271_0) = true := by decide +kernel
theorem om_271 : OKm mi iT prg 271 := OKm_of (code := code_271) rfl mt_271 (Or.inl (by decide +kernel)) rfl wk_271 (by decide +kernel) (by decide +kernel) (FA_of fe_271 (fb_271_0))
def fl_272_0 : List Ent := [(2, 3, 19, .invokevirtual 161, [3, 2, 2, 1, 209], 0), (7, 3, 19, .invokevirtual 682, [0, 1, 1, 22, 484], 0), (14, 3, 6, .getfield 559, [0, 22, 111], 0), (21, 3, 6, .getfield 732, [3, 22, 113], 0), (32, 3, 18, .invokestatic 146, [9, 1, 1, 205], 0), (36, 3, 6, .getfield 116, [3, 1, 8], 0), (40, 3, 19, .invokevirtual 746, [0, 2, 2, 9, 353], 0), (45, 3, 6, .getfield 68, [3, 1, 2], 0), (48, 3, 13, .getstatic 749, [27], 0), (53, 3, 19, .invokevirtual 354, [9, 4, 4, 3, 286], 0)]
theorem fb_272_0 : FB mi iT mi_272 (bpc code_272) (fl_272_0) := ⟨fun hd => mk19 mt_209 cf_209 (vf_209_1.rt (Or.inl W2535) (hd rfl)) rfl rfl (noH_nil rfl),
  ⟨fun hd => mk19 mt_484 cf_484 (vf_484_22.rt (Or.inl W3742) (hd rfl)) rfl rfl (noH_nil rfl),
  ⟨fun hd => mk6 fld_22_19 (Or.inr ⟨rfl, Or.inl rfl⟩) (Or.inr ⟨_, W2317⟩) (Or.inl rfl) (hd rfl),
  ⟨fun hd => mk6 fld_22_21 (Or.inl ⟨rfl, by decide⟩) (Or.inr ⟨_, W2322⟩) (Or.inl rfl) (hd rfl),
  ⟨fun hd => mk18 mt_205 sf_205 (Or.inl W1793) rfl rfl (noH_nil rfl) (hd rfl),
  ⟨fun hd => mk6 fld_1_7 (Or.inl ⟨rfl, by decide⟩) (Or.inl W407) (Or.inl rfl) (hd rfl),
  ⟨fun hd => mk19 mt_353 cf_353 (vf_353_9.rt (Or.inl W4148) (hd rfl)) rfl rfl (noH_nil rfl),
  ⟨fun hd => mk6 fld_1_1 (Or.inl ⟨rfl, by decide⟩) (Or.inl W401) (Or.inl rfl) (hd rfl),
  ⟨fun hd => mk13s (by decide) rfl (Or.inl W4157) (Or.inl rfl) (hd rfl),
  ⟨fun hd => mk19 mt_286 cf_286 (vf_286_3.rt (Or.inl W2851) (hd rfl)) rfl rfl (noH_nil rfl),
  trivial⟩⟩⟩⟩⟩⟩⟩⟩⟩⟩
theorem fe_272 : eqEs ((flat code_272).filter (fun e => ndE e.2.2.1)) (fl_272_0) = true := by decide +kernel
theorem om_272 : OKm mi iT prg 272 := OKm_of (code := code_272) rfl mt_272 (Or.inl (by decide +kernel)) rfl wk_272 (by decide +kernel) (by decide +kernel) (FA_of fe_272 (fb_272_0))
def fl_273_0 : List Ent := [(2, 3, 19, .invokevirtual 161, [3, 2, 2, 1, 209], 0), (7, 3, 6, .getfield 116, [3, 1, 8], 0), (11, 3, 19, .invokevirtual 752, [3, 2, 2, 9, 354], 0), (17, 3, 6, .getfield 559, [0, 22, 111], 0), (24, 3, 6, .getfield 732, [3, 22, 113], 0), (37, 3, 18, .invokestatic 142, [9, 1, 1, 204], 0), (41, 3, 19, .invokevirtual 682, [0, 1, 1, 22, 484], 0), (48, 3, 6, .getfield 559, [0, 22, 111], 0), (59, 3, 18, .invokestatic 146, [9, 1, 1, 205], 0), (63, 3, 19, .invokevirtual 446, [0, 1, 1, 22, 491], 0), (75, 3, 6, .getfield 603, [3, 22, 97], 0), (78, 3, 19, .invokevirtual 648, [0, 1, 1, 20, 525], 0), (94, 3, 6, .getfield 755, [0, 34, 179], 0), (98, 3, 18, .invokestatic 497, [0, 1, 1, 307], 0), (107, 3, 6, .getfield 116, [3, 1, 8], 0), (113, 3, 19, .invokevirtual 757, [9, 3, 3, 9, 355], 0), (117, 3, 6, .getfield 761, [2, 22, 114], 0)]
theorem fb_273_0 : FB mi iT mi_273 (bpc code_273) (fl_273_0) := ⟨fun hd => mk19 mt_209 cf_209 (vf_209_1.rt (Or.inl W2535) (hd rfl)) rfl rfl (noH_nil rfl),
  ⟨fun hd => mk6 fld_1_7 (Or.inl ⟨rfl, by decide⟩) (Or.inl W407) (Or.inl rfl) (hd rfl),
  ⟨fun hd => mk19 mt_354 cf_354 (vf_354_9.rt (Or.inl W4166) (hd rfl)) rfl rfl (noH_nil rfl),
  ⟨fun hd => mk6 fld_22_19 (Or.inr ⟨rfl, Or.inl rfl⟩) (Or.inr ⟨_, W2317⟩) (Or.inl rfl) (hd rfl),
  ⟨fun hd => mk6 fld_22_21 (Or.inl ⟨rfl, by decide⟩) (Or.inr ⟨_, W2322⟩) (Or.inl rfl) (hd rfl),
  ⟨fun hd => mk18 mt_204 sf_204 (Or.inl W1769) rfl rfl (noH_nil rfl) (hd rfl),
  ⟨fun hd => mk19 mt_484 cf_484 (vf_484_22.rt (Or.inl W3742) (hd rfl)) rfl rfl (noH_nil rfl),
  ⟨fun hd => mk6 fld_22_19 (Or.inr ⟨rfl, Or.inl rfl⟩) (Or.inr ⟨_, W2317⟩) (Or.inl rfl) (hd rfl),
  ⟨fun hd => mk18 mt_205 sf_205 (Or.inl W1793) rfl rfl (noH_nil rfl) (hd rfl),
  ⟨fun hd => mk19 mt_491 cf_491 (vf_491_22.rt (Or.inl W3222) (hd rfl)) rfl rfl (noH_nil rfl),
  ⟨fun hd => mk6 fld_22_5 (Or.inl ⟨rfl, by decide⟩) (Or.inr ⟨_, W2264⟩) (Or.inl rfl) (hd rfl),
  ⟨fun hd => mk19 mt_525 cf_525 (vf_525_20.rt (Or.inl W3638) (hd rfl)) rfl rfl (noH_nil rfl),
  ⟨fun hd => mk6 fld_34_3 (Or.inl ⟨rfl, by decide⟩) (Or.inr ⟨_, W3802⟩) (Or.inl rfl) (hd rfl),
  ⟨fun hd => mk18 mt_307 sf_307 (Or.inl W1507) rfl rfl (noH_nil rfl) (hd rfl),
  ⟨fun hd => mk6 fld_1_7 (Or.inl ⟨rfl, by decide⟩) (Or.inl W407) (Or.inl rfl) (hd rfl),
  ⟨fun hd => mk19 mt_355 cf_355 (vf_355_9.rt (Or.inl W4170) (hd rfl)) rfl rfl (noH_nil rfl),
  ⟨fun hd => mk6 fld_22_22 (Or.inl ⟨rfl, by decide⟩) (Or.inr ⟨_, W2324⟩) (Or.inl rfl) (hd rfl),
  trivial⟩⟩⟩⟩⟩⟩⟩⟩⟩⟩⟩⟩⟩⟩⟩⟩⟩
theorem fe_273 : eqEs ((flat code_273).filter (fun e => ndE e.2.2.1)) (fl_273_0) = true := by decide +kernel
theorem om_273 : OKm mi iT prg 273 := OKm_of (code := code_273) rfl mt_273 (Or.inl (by decide +kernel)) rfl wk_273 (by decide +kernel) (by decide +kernel) (FA_of fe_273 (fb_273_0))
def fl_274_0 : List Ent := [(2, 3, 19, .invokevirtual 161, [3, 2, 2, 1, 209], 0), (10, 3, 18, .invokestatic 138, [0, 3, 3, 203], 0), (13, 3, 18, .invokestatic 142, [9, 1, 1, 204], 0), (17, 3, 6, .getfield 116, [3, 1, 8], 0), (22, 3, 19, .invokevirtual 764, [0, 3, 3, 9, 343], 0)]
theorem fb_274_0 : FB mi iT mi_274 (bpc code_274) (fl_274_0) := ⟨fun hd => mk19 mt_209 cf_209 (vf_209_1.rt (Or.inl W2535) (hd rfl)) rfl rfl (noH_nil rfl),
  ⟨fun hd => mk18 mt_203 sf_203 (Or.inl W1766) rfl rfl (noH_nil rfl) (hd rfl),
  ⟨fun hd => mk18 mt_204 sf_204 (Or.inl W1769) rfl rfl (noH_nil rfl) (hd rfl),
  ⟨fun hd => mk6 fld_1_7 (Or.inl ⟨rfl, by decide⟩) (Or.inl W407) (Or.inl rfl) (hd rfl),
  ⟨fun hd => mk19 mt_343 cf_343 (vf_343_9.rt (Or.inl W1715) (hd rfl)) rfl rfl (noH_nil rfl),
  trivial⟩⟩⟩⟩⟩
theorem fe_274 : eqEs ((flat code_274).filter (fun e => ndE e.2.2.1)) (fl_274_0) = true := by decide +kernel
theorem om_274 : OKm mi iT prg 274 := OKm_of (code := code_274) rfl mt_274 (Or.inl (by decide +kernel)) rfl wk_274 (by decide +kernel) (by decide +kernel) (FA_of fe_274 (fb_274_0))
def fl_275_0 : List Ent := [(1, 3, 6, .getfield 116, [3, 1, 8], 0), (5, 3, 19, .invokevirtual 728, [3, 2, 2, 9, 349], 0), (12, 3, 18, .invokestatic 138, [0, 3, 3, 203], 0), (15, 3, 18, .invokestatic 142, [9, 1, 1, 204], 0), (20, 3, 19, .invokevirtual 766, [0, 2, 2, 35, 761], 0)]
theorem fb_275_0 : FB mi iT mi_275 (bpc code_275) (fl_275_0) := ⟨fun hd => mk6 fld_1_7 (Or.inl ⟨rfl, by decide⟩) (Or.inl W407) (Or.inl rfl) (hd rfl),
  ⟨fun hd => mk19 mt_349 cf_349 (vf_349_9.rt (Or.inl W3894) (hd rfl)) rfl rfl (noH_nil rfl),
  ⟨fun hd => mk18 mt_203 sf_203 (Or.inl W1766) rfl rfl (noH_nil rfl) (hd rfl),
  ⟨fun hd => mk18 mt_204 sf_204 (Or.inl W1769) rfl rfl (noH_nil rfl) (hd rfl),
  ⟨fun hd => mk19 mt_761 cf_761 (vf_761_35.rt (Or.inl W1730) (hd rfl)) rfl rfl (noH_nil rfl),
  trivial⟩⟩⟩⟩⟩
theorem fe_275 : eqEs ((flat code_275).filter (fun e => ndE e.2.2.1)) (fl_275_0) = true := by decide +kernel
theorem om_275 : OKm mi iT prg 275 := OKm_of (code := code_275) rfl mt_275 (Or.inl (by decide +kernel)) rfl wk_275 (by decide +kernel) (by decide +kernel) (FA_of fe_275 (fb_275_0))
def fl_276_0 : List Ent := [(1, 3, 6, .getfield 116, [3, 1, 8], 0), (5, 3, 19, .invokevirtual 752, [3, 2, 2, 9, 354], 0), (13, 3, 6, .getfield 116, [3, 1, 8], 0), (16, 3, 6, .getfield 704, [3, 9, 36], 0), (19, 3, 19, .invokevirtual 124, [0, 1, 1, 5, 5], 0), (26, 3, 18, .invokestatic 138, [0, 3, 3, 203], 0), (29, 3, 18, .invokestatic 142, [9, 1, 1, 204], 0), (33, 3, 6, .getfield 116, [3, 1, 8], 0), (36, 3, 6, .getfield 767, [3, 9, 38], 0), (42, 3, 19, .invokevirtual 771, [9, 3, 3, 10, 357], 0), (50, 3, 6, .getfield 116, [3, 1, 8], 0), (53, 3, 6, .getfield 767, [3, 9, 38], 0), (56, 3, 6, .getfield 777, [0, 10, 41], 0), (63, 3, 6, .getfield 116, [3, 1, 8], 0), (66, 3, 6, .getfield 767, [3, 9, 38], 0), (69, 3, 6, .getfield 780, [0, 10, 42], 0)]
theorem fb_276_0 : FB mi iT mi_276 (bpc code_276) (fl_276_0) := ⟨fun hd => mk6 fld_1_7 (Or.inl ⟨rfl, by decide⟩) (Or.inl W407) (Or.inl rfl) (hd rfl),
  ⟨fun hd => mk19 mt_354 cf_354 (vf_354_9.rt (Or.inl W4166) (hd rfl)) rfl rfl (noH_nil rfl),
  ⟨fun hd => mk6 fld_1_7 (Or.inl ⟨rfl, by decide⟩) (Or.inl W407) (Or.inl rfl) (hd rfl),
  ⟨fun hd => mk6 fld_9_1 (Or.inl ⟨rfl, by decide⟩) (Or.inr ⟨_, W386⟩) (Or.inl rfl) (hd rfl),
  ⟨fun hd => mk19 mt_5 cf_5 (vf_5_5.rt (Or.inl W1021) (hd rfl)) rfl rfl (noH_nil rfl),
  ⟨fun hd => mk18 mt_203 sf_203 (Or.inl W1766) rfl rfl (noH_nil rfl) (hd rfl),
  ⟨fun hd => mk18 mt_204 sf_204 (Or.inl W1769) rfl rfl (noH_nil rfl) (hd rfl),
  ⟨fun hd => mk6 fld_1_7 (Or.inl ⟨rfl, by decide⟩) (Or.inl W407) (Or.inl rfl) (hd rfl),
  ⟨fun hd => mk6 fld_9_3 (Or.inl ⟨rfl, by decide⟩) (Or.inr ⟨_, W390⟩) (Or.inl rfl) (hd rfl),
  ⟨fun hd => mk19 mt_357 cf_357 (vf_357_10.rt (Or.inl W4200) (hd rfl)) rfl rfl (noH_nil rfl),
  ⟨fun hd => mk6 fld_1_7 (Or.inl ⟨rfl, by decide⟩) (Or.inl W407) (Or.inl rfl) (hd rfl),
  ⟨fun hd => mk6 fld_9_3 (Or.inl ⟨rfl, by decide⟩) (Or.inr ⟨_, W390⟩) (Or.inl rfl) (hd rfl),
  ⟨fun hd => mk6 fld_10_2 (Or.inl ⟨rfl, by decide⟩) (Or.inr ⟨_, W372⟩) (Or.inl rfl) (hd rfl),
  ⟨fun hd => mk6 fld_1_7 (Or.inl ⟨rfl, by decide⟩) (Or.inl W407) (Or.inl rfl) (hd rfl),
  ⟨fun hd => mk6 fld_9_3 (Or.inl ⟨rfl, by decide⟩) (Or.inr ⟨_, W390⟩) (Or.inl rfl) (hd rfl),
  ⟨fun hd => mk6 fld_10_3 (Or.inl ⟨rfl, by decide⟩) (Or.inr ⟨_, W374⟩) (Or.inl rfl) (hd rfl),
  trivial⟩⟩⟩⟩⟩⟩⟩⟩⟩⟩⟩⟩⟩⟩⟩⟩
theorem fe_276 : eqEs ((flat code_276).filter (fun e => ndE e.2.2.1)) (fl_276_0) = true := by decide +kernel
theorem om_276 : OKm mi iT prg 276 := OKm_of (code := code_276) rfl mt_276 (Or.inl (by decide +kernel)) rfl wk_276 (by decide +kernel) (by decide +kernel) (FA_of fe_276 (fb_276_0))
def fl_277_0 : List Ent := [(3, 3, 18, .invokestatic 128, [9, 2, 2, 210], 0), (10, 3, 18, .invokestatic 128, [9, 2, 2, 210], 0), (24, 3, 19, .invokevirtual 161, [3, 2, 2, 1, 209], 0), (32, 3, 18, .invokestatic 138, [0, 3, 3, 203], 0), (35, 3, 18, .invokestatic 142, [9, 1, 1, 204], 0), (39, 3, 6, .getfield 68, [3, 1, 2], 0), (63, 3, 19, .invokevirtual 783, [0, 4, 4, 3, 283], 0)]
theorem fb_277_0 : FB mi iT mi_277 (bpc code_277) (fl_277_0) := ⟨fun hd => mk18 mt_210 sf_210 (Or.inl W2539) rfl rfl (noH_nil rfl) (hd rfl),
  ⟨fun hd => mk18 mt_210 sf_210 (Or.inl W2539) rfl rfl (noH_nil rfl) (hd rfl),
  ⟨fun hd => mk19 mt_209 cf_209 (vf_209_1.rt (Or.inl W2535) (hd rfl)) rfl rfl (noH_nil rfl),
  ⟨fun hd => mk18 mt_203 sf_203 (Or.inl W1766) rfl rfl (noH_nil rfl) (hd rfl),
  ⟨fun hd => mk18 mt_204 sf_204 (Or.inl W1769) rfl rfl (noH_nil rfl) (hd rfl),
  ⟨fun hd => mk6 fld_1_1 (Or.inl ⟨rfl, by decide⟩) (Or.inl W401) (Or.inl rfl) (hd rfl),
  ⟨fun hd => mk19 mt_283 cf_283 (vf_283_3.rt (Or.inl W1735) (hd rfl)) rfl rfl (noH_nil rfl),
  trivial⟩⟩⟩⟩⟩⟩⟩
theorem fe_277 : eqEs ((flat code_277).filter (fun e => ndE e.2.2.1)) (fl_277_0) = true := by decide +kernel
theorem om_277 : OKm mi iT prg 277 := OKm_of (code := code_277) rfl mt_277 (Or.inl (by decide +kernel)) rfl wk_277 (by decide +kernel) (by decide +kernel) (FA_of fe_277 (fb_277_0))
def fl_278_0 : List Ent := [(4, 3, 18, .invokestatic 138, [0, 3, 3, 203], 0), (7, 3, 18, .invokestatic 142, [9, 1, 1, 204], 0), (12, 3, 19, .invokevirtual 806, [0, 2, 2, 1, 188], 0)]
theorem fb_278_0 : FB mi iT mi_278 (bpc code_278) (fl_278_0) := ⟨fun hd => mk18 mt_203 sf_203 (Or.inl W1766) rfl rfl (noH_nil rfl) (hd rfl),
  ⟨fun hd => mk18 mt_204 sf_204 (Or.inl W1769) rfl rfl (noH_nil rfl) (hd rfl),
  ⟨fun hd => mk19 mt_188 cf_188 (vf_188_1.rt (Or.inl W914) (hd rfl)) rfl rfl (noH_nil rfl),
  trivial⟩⟩⟩
theorem fe_278 : eqEs ((flat code_278).filter (fun e => ndE e.2.2.1)) (fl_278_0) = true := by decide +kernel
theorem om_278 : OKm mi iT prg 278 := OKm_of (code := code_278) rfl mt_278 (Or.inl (by decide +kernel)) rfl wk_278 (by decide +kernel) (by decide +kernel) (FA_of fe_278 (fb_278_0))
def fl_279_0 : List Ent := [(2, 3, 19, .invokevirtual 161, [3, 2, 2, 1, 209], 0), (5, 3, 19, .invokevirtual 837, [3, 1, 1, 22, 495], 0)]
theorem fb_279_0 : FB mi iT mi_279 (bpc code_279) (fl_279_0) := ⟨fun hd => mk19 mt_209 cf_209 (vf_209_1.rt (Or.inl W2535) (hd rfl)) rfl rfl (noH_nil rfl),
  ⟨fun hd => mk19 mt_495 cf_495 (vf_495_22.rt (Or.inl W4233) (hd rfl)) rfl rfl (noH_nil rfl),
  trivial⟩⟩
theorem fe_279 : eqEs ((flat code_279).filter (fun e => ndE e.2.2.1)) (fl_279_0) = true := by decide +kernel
theorem om_279 : OKm mi iT prg 279 := OKm_of (code := code_279) rfl mt_279 (Or.inl (by decide +kernel)) rfl wk_279 (by decide +kernel) (by decide +kernel) (FA_of fe_279 (fb_279_0))
def fl_280_0 : List Ent := [(1, 3, 22, .invokespecial 1, [], 0)]
theorem fb_280_0 : FB mi iT mi_280 (bpc code_280) (fl_280_0) := ⟨fun hd => mk22 (by decide) W216 oi_w (hd rfl),
  trivial⟩
theorem fe_280 : eqEs ((flat code_280).filter (fun e => ndE e.2.2.1)) (fl_280_0) = true := by decide +kernel
theorem om_280 : OKm mi iT prg 280 := OKm_of (code := code_280) rfl mt_280 (Or.inl (by decide +kernel)) rfl wk_280 (by decide +kernel) (by decide +kernel) (FA_of fe_280 (fb_280_0))
def fl_281_0 : List Ent := [(1, 3, 22, .invokespecial 1, [], 0), (8, 2, 12, .newarray .int, [100], 0), (10, 3, 7, .putfield 9, [3, 3, 15], 0), (17, 3, 7, .putfield 13, [0, 3, 17], 0)]
theorem fb_281_0 : FB mi iT mi_281 (bpc code_281) (fl_281_0) := ⟨fun hd => mk22 (by decide) W226 oi_w (hd rfl),
  ⟨fun hd => mk12a (at_ := .int) (by decide) rfl W239 (hd rfl),
  ⟨fun hd => mk7 fld_3_0 (Or.inl W227) (Or.inl rfl) (Or.inr ⟨rfl, rfl, rfl, W227⟩) (hd rfl),
  ⟨fun hd => mk7 fld_3_2 (Or.inl W230) (Or.inl rfl) (Or.inl rfl) (hd rfl),
  trivial⟩⟩⟩⟩
theorem fe_281 : eqEs ((flat code_281).filter (fun e => ndE e.2.2.1)) (fl_281_0) = true := by decide +kernel
theorem om_281 : OKm mi iT prg 281 := OKm_of (code := code_281) rfl mt_281 (Or.inl (by decide +kernel)) rfl wk_281 (by decide +kernel) (by decide +kernel) (FA_of fe_281 (fb_281_0))
def fl_282_0 : List Ent := [(1, 3, 6, .getfield 13, [0, 3, 17], 0), (13, 3, 19, .invokevirtual 37, [0, 4, 4, 3, 283], 0)]
theorem fb_282_0 : FB mi iT mi_282 (bpc code_282) (fl_282_0) := ⟨fun hd => mk6 fld_3_2 (Or.inl ⟨rfl, by decide⟩) (Or.inl W230) (Or.inl rfl) (hd rfl),
  ⟨fun hd => mk19 mt_283 cf_283 (vf_283_3.rt (Or.inl W456) (hd rfl)) rfl rfl (noH_nil rfl),
  trivial⟩⟩
theorem fe_282 : eqEs ((flat code_282).filter (fun e => ndE e.2.2.1)) (fl_282_0) = true := by decide +kernel
theorem om_282 : OKm mi iT prg 282 := OKm_of (code := code_282) rfl mt_282 (Or.inl (by decide +kernel)) rfl wk_282 (by decide +kernel) (by decide +kernel) (FA_of fe_282 (fb_282_0))
def fl_283_0 : List Ent := [(56, 3, 19, .invokevirtual 34, [0, 4, 4, 3, 284], 0)]
theorem fb_283_0 : FB mi iT mi_283 (bpc code_283) (fl_283_0) := ⟨fun hd => mk19 mt_284 cf_284 (vf_284_3.rt (Or.inl W460) (hd rfl)) rfl rfl (noH_nil rfl),
  trivial⟩
theorem fe_283 : eqEs ((flat code_283).filter (fun e => ndE e.2.2.1)) (fl_283_0) = true := by decide +kernel
theorem om_283 : OKm mi iT prg 283 := OKm_of (code := code_283) rfl mt_283 (Or.inl (by decide +kernel)) rfl wk_283 (by decide +kernel) (by decide +kernel) (FA_of fe_283 (fb_283_0))
def fl_284_0 : List Ent := [(7, 3, 6, .getfield 9, [3, 3, 15], 0), (13, 3, 18, .invokestatic 30, [0, 3, 3, 285], 0), (34, 3, 6, .getfield 9, [3, 3, 15], 0), (41, 3, 18, .invokestatic 30, [0, 3, 3, 285], 0)]
theorem fb_284_0 : FB mi iT mi_284 (bpc code_284) (fl_284_0) := ⟨fun hd => mk6 fld_3_0 (Or.inl ⟨rfl, by decide⟩) (Or.inl W227) (Or.inl rfl) (hd rfl),
  ⟨fun hd => mk18 mt_285 sf_285 (Or.inl W464) rfl rfl (noH_nil rfl) (hd rfl),
  ⟨fun hd => mk6 fld_3_0 (Or.inl ⟨rfl, by decide⟩) (Or.inl W227) (Or.inl rfl) (hd rfl),
  ⟨fun hd => mk18 mt_285 sf_285 (Or.inl W464) rfl rfl (noH_nil rfl) (hd rfl),
  trivial⟩⟩⟩⟩
theorem fe_284 : eqEs ((flat code_284).filter (fun e => ndE e.2.2.1)) (fl_284_0) = true := by decide +kernel
theorem om_284 : OKm mi iT prg 284 := OKm_of (code := code_284) rfl mt_284 (Or.inl (by decide +kernel)) rfl wk_284 (by decide +kernel) (by decide +kernel) (FA_of fe_284 (fb_284_0))
theorem fe_285 : eqEs ((flat code_285).filter (fun e => ndE e.2.2.1)) ([]) = true := by decide +kernel
theorem om_285 : OKm mi iT prg 285 := OKm_of (code := code_285) rfl mt_285 (Or.inl (by decide +kernel)) rfl wk_285 (by decide +kernel) (by decide +kernel) (FA_of fe_285 (trivial))
def fl_286_0 : List Ent := [(1, 3, 6, .getfield 9, [3, 3, 15], 0), (5, 3, 31, .invokevirtual 17, [0, 1, 1, 17, 769, 20, 770, 21, 771, 34, 772, 35, 773, 26, 774, 27, 775, 22, 776, 23, 777], 0), (17, 3, 6, .getfield 23, [0, 22, 92], 0), (21, 3, 6, .getfield 27, [0, 3, 16], 0), (24, 3, 18, .invokestatic 30, [0, 3, 3, 285], 0), (31, 1, 9, .iastore, [0, 100], 0), (34, 3, 6, .getfield 13, [0, 3, 17], 0), (39, 3, 7, .putfield 13, [0, 3, 17], 0)]
theorem fb_286_0 : FB mi iT mi_286 (bpc code_286) (fl_286_0) := ⟨fun hd => mk6 fld_3_0 (Or.inl ⟨rfl, by decide⟩) (Or.inl W227) (Or.inl rfl) (hd rfl),
  ⟨fun hd => mk31 ⟨pr3 mt_769 cf_769 (ei_769_17_KeelHouse_Accountnumber__I.rt W2855 (hd rfl)) rfl rfl, ⟨pr3 mt_770 cf_770 (ei_770_20_KeelHouse_Accountnumber__I.rt W2855 (hd rfl)) rfl rfl, ⟨pr3 mt_771 cf_771 (ei_771_21_KeelHouse_Accountnumber__I.rt W2855 (hd rfl)) rfl rfl, ⟨pr3 mt_772 cf_772 (ei_772_34_KeelHouse_Accountnumber__I.rt W2855 (hd rfl)) rfl rfl, ⟨pr3 mt_773 cf_773 (ei_773_35_KeelHouse_Accountnumber__I.rt W2855 (hd rfl)) rfl rfl, ⟨pr3 mt_774 cf_774 (ei_774_26_KeelHouse_Accountnumber__I.rt W2855 (hd rfl)) rfl rfl, ⟨pr3 mt_775 cf_775 (ei_775_27_KeelHouse_Accountnumber__I.rt W2855 (hd rfl)) rfl rfl, ⟨pr3 mt_776 cf_776 (ei_776_22_KeelHouse_Accountnumber__I.rt W2855 (hd rfl)) rfl rfl, ⟨pr3 mt_777 cf_777 (ei_777_23_KeelHouse_Accountnumber__I.rt W2855 (hd rfl)) rfl rfl, trivial⟩⟩⟩⟩⟩⟩⟩⟩⟩,
  ⟨fun hd => mk6 fld_22_0 (Or.inl ⟨rfl, by decide⟩) (Or.inr ⟨_, W2233⟩) (Or.inl rfl) (hd rfl),
  ⟨fun hd => mk6 fld_3_1 (Or.inl ⟨rfl, by decide⟩) (Or.inl W228) (Or.inl rfl) (hd rfl),
  ⟨fun hd => mk18 mt_285 sf_285 (Or.inl W464) rfl rfl (noH_nil rfl) (hd rfl),
  ⟨fun hd => ⟨_, _, _, rfl, rfl, hd rfl, Or.inl ⟨rfl, rfl, rfl⟩⟩,
  ⟨fun hd => mk6 fld_3_2 (Or.inl ⟨rfl, by decide⟩) (Or.inl W230) (Or.inl rfl) (hd rfl),
  ⟨fun hd => mk7 fld_3_2 (Or.inl W230) (Or.inl rfl) (Or.inl rfl) (hd rfl),
  trivial⟩⟩⟩⟩⟩⟩⟩⟩
theorem fe_286 : eqEs ((flat code_286).filter (fun e => ndE e.2.2.1)) (fl_286_0) = true := by decide +kernel
theorem om_286 : OKm mi iT prg 286 := OKm_of (code := code_286) rfl mt_286 (Or.inl (by decide +kernel)) rfl wk_286 (by decide +kernel) (by decide +kernel) (FA_of fe_286 (fb_286_0))
def fl_287_0 : List Ent := [(1, 3, 22, .invokespecial 1, [], 0), (5, 3, 11, .new 7, [5, 3], 0), (9, 3, 36, .invokespecial 9, [9, 1, 1, 5, 3], 0), (12, 3, 7, .putfield 10, [3, 4, 18], 0), (16, 3, 11, .new 7, [5, 3], 0), (20, 3, 36, .invokespecial 9, [9, 1, 1, 5, 3], 0), (23, 3, 7, .putfield 16, [3, 4, 19], 0), (27, 3, 11, .new 7, [5, 3], 0), (31, 3, 36, .invokespecial 9, [9, 1, 1, 5, 3], 0), (34, 3, 7, .putfield 19, [3, 4, 20], 0)]
theorem fb_287_0 : FB mi iT mi_287 (bpc code_287) (fl_287_0) := ⟨fun hd => mk22 (by decide) W245 oi_w (hd rfl),
  ⟨fun hd => mk11 nf_5 W246 (hd rfl),
  ⟨fun hd => mk36 mt_3 cf_3 (ic_3.rt (Or.inl W248) (hd rfl)) rfl rfl,
  ⟨fun hd => mk7 fld_4_0 (Or.inl W275) (Or.inl rfl) (Or.inr ⟨rfl, rfl, rfl, W275⟩) (hd rfl),
  ⟨fun hd => mk11 nf_5 W246 (hd rfl),
  ⟨fun hd => mk36 mt_3 cf_3 (ic_3.rt (Or.inl W248) (hd rfl)) rfl rfl,
  ⟨fun hd => mk7 fld_4_1 (Or.inl W277) (Or.inl rfl) (Or.inr ⟨rfl, rfl, rfl, W277⟩) (hd rfl),
  ⟨fun hd => mk11 nf_5 W246 (hd rfl),
  ⟨fun hd => mk36 mt_3 cf_3 (ic_3.rt (Or.inl W248) (hd rfl)) rfl rfl,
  ⟨fun hd => mk7 fld_4_2 (Or.inl W279) (Or.inl rfl) (Or.inr ⟨rfl, rfl, rfl, W279⟩) (hd rfl),
  trivial⟩⟩⟩⟩⟩⟩⟩⟩⟩⟩
theorem fe_287 : eqEs ((flat code_287).filter (fun e => ndE e.2.2.1)) (fl_287_0) = true := by decide +kernel
theorem om_287 : OKm mi iT prg 287 := OKm_of (code := code_287) rfl mt_287 (Or.inl (by decide +kernel)) rfl wk_287 (by decide +kernel) (by decide +kernel) (FA_of fe_287 (fb_287_0))
def fl_288_0 : List Ent := [(1, 3, 6, .getfield 19, [3, 4, 20], 0), (4, 3, 19, .invokevirtual 72, [3, 1, 1, 5, 4], 0), (9, 5, 34, .invokeinterface 76 1, [0, 1, 1, 11, 87], 0), (18, 5, 34, .invokeinterface 82 1, [3, 1, 1, 11, 88], 0), (23, 3, 17, .checkcast 41, [31], 0), (28, 3, 19, .invokevirtual 94, [0, 1, 1, 31, 737], 0), (32, 3, 6, .getfield 86, [3, 31, 157], 0), (35, 3, 6, .getfield 133, [0, 27, 143], 0), (39, 3, 6, .getfield 86, [3, 31, 157], 0), (42, 3, 6, .getfield 136, [0, 27, 144], 0)]
theorem fb_288_0 : FB mi iT mi_288 (bpc code_288) (fl_288_0) := ⟨fun hd => mk6 fld_4_2 (Or.inl ⟨rfl, by decide⟩) (Or.inl W279) (Or.inl rfl) (hd rfl),
  ⟨fun hd => mk19 mt_4 cf_4 (vf_4_5.rt (Or.inl W521) (hd rfl)) rfl rfl (noH_nil rfl),
  ⟨fun hd => mk34 mt_87 cf_87 (ff_87_11.rt W523 (hd rfl)) rfl rfl,
  ⟨fun hd => mk34 mt_88 cf_88 (ff_88_11.rt W525 (hd rfl)) rfl rfl,
  ⟨fun hd => mk17 kx_31 W526 (hd rfl),
  ⟨fun hd => mk19 mt_737 cf_737 (vf_737_31.rt (Or.inl W527) (hd rfl)) rfl rfl (noH_nil rfl),
  ⟨fun hd => mk6 fld_31_0 (Or.inl ⟨rfl, by decide⟩) (Or.inr ⟨_, W3110⟩) (Or.inl rfl) (hd rfl),
  ⟨fun hd => mk6 fld_27_0 (Or.inl ⟨rfl, by decide⟩) (Or.inr ⟨_, W2804⟩) (Or.inl rfl) (hd rfl),
  ⟨fun hd => mk6 fld_31_0 (Or.inl ⟨rfl, by decide⟩) (Or.inr ⟨_, W3110⟩) (Or.inl rfl) (hd rfl),
  ⟨fun hd => mk6 fld_27_1 (Or.inl ⟨rfl, by decide⟩) (Or.inr ⟨_, W2807⟩) (Or.inl rfl) (hd rfl),
  trivial⟩⟩⟩⟩⟩⟩⟩⟩⟩⟩
theorem fe_288 : eqEs ((flat code_288).filter (fun e => ndE e.2.2.1)) (fl_288_0) = true := by decide +kernel
theorem om_288 : OKm mi iT prg 288 := OKm_of (code := code_288) rfl mt_288 (Or.inl (by decide +kernel)) rfl wk_288 (by decide +kernel) (by decide +kernel) (FA_of fe_288 (fb_288_0))
def fl_289_0 : List Ent := [(1, 43, 5, .tableswitch 79 0 6 #[43, 48, 53, 58, 63, 68, 73], [8, 0, 1, 1, 2, 2, 3, 3, 4, 4, 5, 5, 6, 6, 7], 0), (45, 3, 6, .getfield 133, [0, 27, 143], 0), (50, 3, 6, .getfield 136, [0, 27, 144], 0), (55, 3, 6, .getfield 117, [0, 27, 145], 0), (60, 3, 6, .getfield 139, [0, 27, 146], 0), (65, 3, 6, .getfield 142, [0, 27, 147], 0), (70, 3, 6, .getfield 60, [0, 27, 148], 0), (76, 3, 19, .invokevirtual 145, [0, 2, 2, 4, 290], 0), (93, 3, 19, .invokevirtual 149, [0, 3, 3, 4, 291], 0)]
theorem fb_289_0 : FB mi iT mi_289 (bpc code_289) (fl_289_0) := ⟨fun hd => ⟨_, _, rfl, Or.inl ⟨79, 0, 6, #[43, 48, 53, 58, 63, 68, 73], 7, 43, (show decode prog_67_method_11_code 1 = .ok (.tableswitch 79 0 6 #[43, 48, 53, 58, 63, 68, 73], 43) by decide +kernel), by decide, by decide +kernel⟩⟩,
  ⟨fun hd => mk6 fld_27_0 (Or.inl ⟨rfl, by decide⟩) (Or.inr ⟨_, W2804⟩) (Or.inl rfl) (hd rfl),
  ⟨fun hd => mk6 fld_27_1 (Or.inl ⟨rfl, by decide⟩) (Or.inr ⟨_, W2807⟩) (Or.inl rfl) (hd rfl),
  ⟨fun hd => mk6 fld_27_2 (Or.inl ⟨rfl, by decide⟩) (Or.inr ⟨_, W2809⟩) (Or.inl rfl) (hd rfl),
  ⟨fun hd => mk6 fld_27_3 (Or.inl ⟨rfl, by decide⟩) (Or.inr ⟨_, W2812⟩) (Or.inl rfl) (hd rfl),
  ⟨fun hd => mk6 fld_27_4 (Or.inl ⟨rfl, by decide⟩) (Or.inr ⟨_, W2815⟩) (Or.inl rfl) (hd rfl),
  ⟨fun hd => mk6 fld_27_5 (Or.inl ⟨rfl, by decide⟩) (Or.inr ⟨_, W2817⟩) (Or.inl rfl) (hd rfl),
  ⟨fun hd => mk19 mt_290 cf_290 (vf_290_4.rt (Or.inl W927) (hd rfl)) rfl rfl (noH_nil rfl),
  ⟨fun hd => mk19 mt_291 cf_291 (vf_291_4.rt (Or.inl W932) (hd rfl)) rfl rfl (noH_nil rfl),
  trivial⟩⟩⟩⟩⟩⟩⟩⟩⟩
theorem fe_289 : eqEs ((flat code_289).filter (fun e => ndE e.2.2.1)) (fl_289_0) = true := by decide +kernel
theorem om_289 : OKm mi iT prg 289 := OKm_of (code := code_289) rfl mt_289 (Or.inl (by decide +kernel)) rfl wk_289 (by decide +kernel) (by decide +kernel) (FA_of fe_289 (fb_289_0))
def fl_290_0 : List Ent := [(3, 3, 6, .getfield 16, [3, 4, 19], 0), (6, 3, 19, .invokevirtual 72, [3, 1, 1, 5, 4], 0), (11, 5, 34, .invokeinterface 76 1, [0, 1, 1, 11, 87], 0), (20, 5, 34, .invokeinterface 82 1, [3, 1, 1, 11, 88], 0), (25, 3, 17, .checkcast 50, [28], 0), (33, 3, 6, .getfield 56, [3, 28, 149], 0), (42, 3, 6, .getfield 63, [0, 28, 150], 0)]
theorem fb_290_0 : FB mi iT mi_290 (bpc code_290) (fl_290_0) := ⟨fun hd => mk6 fld_4_1 (Or.inl ⟨rfl, by decide⟩) (Or.inl W277) (Or.inl rfl) (hd rfl),
  ⟨fun hd => mk19 mt_4 cf_4 (vf_4_5.rt (Or.inl W521) (hd rfl)) rfl rfl (noH_nil rfl),
  ⟨fun hd => mk34 mt_87 cf_87 (ff_87_11.rt W523 (hd rfl)) rfl rfl,
  ⟨fun hd => mk34 mt_88 cf_88 (ff_88_11.rt W525 (hd rfl)) rfl rfl,
  ⟨fun hd => mk17 kx_28 W931 (hd rfl),
  ⟨fun hd => mk6 fld_28_0 (Or.inl ⟨rfl, by decide⟩) (Or.inr ⟨_, W2892⟩) (Or.inl rfl) (hd rfl),
  ⟨fun hd => mk6 fld_28_1 (Or.inl ⟨rfl, by decide⟩) (Or.inr ⟨_, W2894⟩) (Or.inl rfl) (hd rfl),
  trivial⟩⟩⟩⟩⟩⟩⟩
theorem fe_290 : eqEs ((flat code_290).filter (fun e => ndE e.2.2.1)) (fl_290_0) = true := by decide +kernel
theorem om_290 : OKm mi iT prg 290 := OKm_of (code := code_290) rfl mt_290 (Or.inl (by decide +kernel)) rfl wk_290 (by decide +kernel) (by decide +kernel) (FA_of fe_290 (fb_290_0))
def fl_291_0 : List Ent := [(3, 3, 6, .getfield 19, [3, 4, 20], 0), (6, 3, 19, .invokevirtual 72, [3, 1, 1, 5, 4], 0), (13, 5, 34, .invokeinterface 76 1, [0, 1, 1, 11, 87], 0), (23, 5, 34, .invokeinterface 82 1, [3, 1, 1, 11, 88], 0), (28, 3, 17, .checkcast 41, [31], 0), (35, 3, 6, .getfield 86, [3, 31, 157], 0), (49, 3, 19, .invokevirtual 94, [0, 1, 1, 31, 737], 0)]
theorem fb_291_0 : FB mi iT mi_291 (bpc code_291) (fl_291_0) := ⟨fun hd => mk6 fld_4_2 (Or.inl ⟨rfl, by decide⟩) (Or.inl W279) (Or.inl rfl) (hd rfl),
  ⟨fun hd => mk19 mt_4 cf_4 (vf_4_5.rt (Or.inl W521) (hd rfl)) rfl rfl (noH_nil rfl),
  ⟨fun hd => mk34 mt_87 cf_87 (ff_87_11.rt W523 (hd rfl)) rfl rfl,
  ⟨fun hd => mk34 mt_88 cf_88 (ff_88_11.rt W525 (hd rfl)) rfl rfl,
  ⟨fun hd => mk17 kx_31 W526 (hd rfl),
  ⟨fun hd => mk6 fld_31_0 (Or.inl ⟨rfl, by decide⟩) (Or.inr ⟨_, W3110⟩) (Or.inl rfl) (hd rfl),
  ⟨fun hd => mk19 mt_737 cf_737 (vf_737_31.rt (Or.inl W527) (hd rfl)) rfl rfl (noH_nil rfl),
  trivial⟩⟩⟩⟩⟩⟩⟩
theorem fe_291 : eqEs ((flat code_291).filter (fun e => ndE e.2.2.1)) (fl_291_0) = true := by decide +kernel
theorem om_291 : OKm mi iT prg 291 := OKm_of (code := code_291) rfl mt_291 (Or.inl (by decide +kernel)) rfl wk_291 (by decide +kernel) (by decide +kernel) (FA_of fe_291 (fb_291_0))
def fl_292_0 : List Ent := [(1, 3, 6, .getfield 10, [3, 4, 18], 0), (4, 3, 19, .invokevirtual 22, [0, 1, 1, 5, 5], 0)]
theorem fb_292_0 : FB mi iT mi_292 (bpc code_292) (fl_292_0) := ⟨fun hd => mk6 fld_4_0 (Or.inl ⟨rfl, by decide⟩) (Or.inl W275) (Or.inl rfl) (hd rfl),
  ⟨fun hd => mk19 mt_5 cf_5 (vf_5_5.rt (Or.inl W2796) (hd rfl)) rfl rfl (noH_nil rfl),
  trivial⟩⟩
theorem fe_292 : eqEs ((flat code_292).filter (fun e => ndE e.2.2.1)) (fl_292_0) = true := by decide +kernel
theorem om_292 : OKm mi iT prg 292 := OKm_of (code := code_292) rfl mt_292 (Or.inl (by decide +kernel)) rfl wk_292 (by decide +kernel) (by decide +kernel) (FA_of fe_292 (fb_292_0))
def fl_293_0 : List Ent := [(2, 3, 6, .getfield 10, [3, 4, 18], 0), (5, 3, 19, .invokevirtual 22, [0, 1, 1, 5, 5], 0), (8, 3, 18, .invokestatic 26, [9, 2, 2, 210], 0), (12, 3, 6, .getfield 10, [3, 4, 18], 0), (16, 3, 19, .invokevirtual 32, [3, 2, 2, 5, 6], 0), (19, 3, 17, .checkcast 36, [27], 0)]
theorem fb_293_0 : FB mi iT mi_293 (bpc code_293) (fl_293_0) := ⟨fun hd => mk6 fld_4_0 (Or.inl ⟨rfl, by decide⟩) (Or.inl W275) (Or.inl rfl) (hd rfl),
  ⟨fun hd => mk19 mt_5 cf_5 (vf_5_5.rt (Or.inl W2796) (hd rfl)) rfl rfl (noH_nil rfl),
  ⟨fun hd => mk18 mt_210 sf_210 (Or.inr ⟨⟨_, W2842⟩, _, _, rfl⟩) rfl rfl (noH_nil rfl) (hd rfl),
  ⟨fun hd => mk6 fld_4_0 (Or.inl ⟨rfl, by decide⟩) (Or.inl W275) (Or.inl rfl) (hd rfl),
  ⟨fun hd => mk19 mt_6 cf_6 (vf_6_5.rt (Or.inl W2843) (hd rfl)) rfl rfl (noH_nil rfl),
  ⟨fun hd => mk17 kx_27 W2844 (hd rfl),
  trivial⟩⟩⟩⟩⟩⟩
theorem fe_293 : eqEs ((flat code_293).filter (fun e => ndE e.2.2.1)) (fl_293_0) = true := by decide +kernel
theorem om_293 : OKm mi iT prg 293 := OKm_of (code := code_293) rfl mt_293 (Or.inl (by decide +kernel)) rfl wk_293 (by decide +kernel) (by decide +kernel) (FA_of fe_293 (fb_293_0))
def fl_294_0 : List Ent := [(1, 3, 6, .getfield 16, [3, 4, 19], 0), (4, 3, 19, .invokevirtual 22, [0, 1, 1, 5, 5], 0)]
theorem fb_294_0 : FB mi iT mi_294 (bpc code_294) (fl_294_0) := ⟨fun hd => mk6 fld_4_1 (Or.inl ⟨rfl, by decide⟩) (Or.inl W277) (Or.inl rfl) (hd rfl),
  ⟨fun hd => mk19 mt_5 cf_5 (vf_5_5.rt (Or.inl W2796) (hd rfl)) rfl rfl (noH_nil rfl),
  trivial⟩⟩
theorem fe_294 : eqEs ((flat code_294).filter (fun e => ndE e.2.2.1)) (fl_294_0) = true := by decide +kernel
theorem om_294 : OKm mi iT prg 294 := OKm_of (code := code_294) rfl mt_294 (Or.inl (by decide +kernel)) rfl wk_294 (by decide +kernel) (by decide +kernel) (FA_of fe_294 (fb_294_0))
def fl_295_0 : List Ent := [(3, 3, 19, .invokevirtual 103, [0, 1, 1, 23, 592], 0), (7, 3, 19, .invokevirtual 108, [0, 1, 1, 23, 593], 0), (10, 3, 19, .invokevirtual 111, [3, 4, 4, 4, 296], 0), (15, 3, 19, .invokevirtual 91, [0, 1, 1, 29, 91], 0), (22, 3, 6, .getfield 19, [3, 4, 20], 0), (26, 3, 19, .invokevirtual 97, [3, 1, 1, 29, 92], 0), (29, 3, 19, .invokevirtual 115, [0, 2, 2, 5, 14], 0), (35, 3, 6, .getfield 117, [0, 27, 145], 0), (38, 3, 19, .invokevirtual 120, [9, 2, 2, 23, 594], 0), (43, 3, 11, .new 124, [30, 4], 0), (49, 3, 19, .invokevirtual 103, [0, 1, 1, 23, 592], 0), (53, 3, 19, .invokevirtual 108, [0, 1, 1, 23, 593], 0), (56, 3, 36, .invokespecial 126, [9, 4, 4, 30, 732], 0), (63, 3, 19, .invokevirtual 127, [0, 1, 1, 30, 735], 0), (71, 3, 6, .getfield 60, [0, 27, 148], 0), (82, 3, 6, .getfield 60, [0, 27, 148], 0), (88, 3, 7, .putfield 60, [0, 27, 148], 0), (94, 3, 19, .invokevirtual 129, [9, 2, 2, 30, 736], 0), (99, 3, 6, .getfield 117, [0, 27, 145], 0), (102, 3, 19, .invokevirtual 120, [9, 2, 2, 23, 594], 0)]
theorem fb_295_0 : FB mi iT mi_295 (bpc code_295) (fl_295_0) := ⟨fun hd => mk19 mt_592 cf_592 (vf_592_23.rt (Or.inl W2918) (hd rfl)) rfl rfl (noH_nil rfl),
  ⟨fun hd => mk19 mt_593 cf_593 (vf_593_23.rt (Or.inl W2922) (hd rfl)) rfl rfl (noH_nil rfl),
  ⟨fun hd => mk19 mt_296 cf_296 (vf_296_4.rt (Or.inl W2928) (hd rfl)) rfl rfl (noH_nil rfl),
  ⟨fun hd => mk19 mt_91 cf_91 (vf_91_29.rt (Or.inl W2941) (hd rfl)) rfl rfl (noH_nil rfl),
  ⟨fun hd => mk6 fld_4_2 (Or.inl ⟨rfl, by decide⟩) (Or.inl W279) (Or.inl rfl) (hd rfl),
  ⟨fun hd => mk19 mt_92 cf_92 (vf_92_29.rt (Or.inl W2945) (hd rfl)) rfl rfl (noH_nil rfl),
  ⟨fun hd => mk19 mt_14 cf_14 (vf_14_5.rt (Or.inl W2965) (hd rfl)) rfl rfl (noH_nil rfl),
  ⟨fun hd => mk6 fld_27_2 (Or.inl ⟨rfl, by decide⟩) (Or.inr ⟨_, W2809⟩) (Or.inl rfl) (hd rfl),
  ⟨fun hd => mk19 mt_594 cf_594 (vf_594_23.rt (Or.inl W3059) (hd rfl)) rfl rfl (noH_nil rfl),
  ⟨fun hd => mk11 nf_30 W3063 (hd rfl),
  ⟨fun hd => mk19 mt_592 cf_592 (vf_592_23.rt (Or.inl W2918) (hd rfl)) rfl rfl (noH_nil rfl),
  ⟨fun hd => mk19 mt_593 cf_593 (vf_593_23.rt (Or.inl W2922) (hd rfl)) rfl rfl (noH_nil rfl),
  ⟨fun hd => mk36 mt_732 cf_732 (ic_732.rt (Or.inl W3065) (hd rfl)) rfl rfl,
  ⟨fun hd => mk19 mt_735 cf_735 (vf_735_30.rt (Or.inl W3091) (hd rfl)) rfl rfl (noH_nil rfl),
  ⟨fun hd => mk6 fld_27_5 (Or.inl ⟨rfl, by decide⟩) (Or.inr ⟨_, W2817⟩) (Or.inl rfl) (hd rfl),
  ⟨fun hd => mk6 fld_27_5 (Or.inl ⟨rfl, by decide⟩) (Or.inr ⟨_, W2817⟩) (Or.inl rfl) (hd rfl),
  ⟨fun hd => mk7 fld_27_5 (Or.inr ⟨_, W2817⟩) (Or.inl rfl) (Or.inl rfl) (hd rfl),
  ⟨fun hd => mk19 mt_736 cf_736 (vf_736_30.rt (Or.inl W3095) (hd rfl)) rfl rfl (noH_nil rfl),
  ⟨fun hd => mk6 fld_27_2 (Or.inl ⟨rfl, by decide⟩) (Or.inr ⟨_, W2809⟩) (Or.inl rfl) (hd rfl),
  ⟨fun hd => mk19 mt_594 cf_594 (vf_594_23.rt (Or.inl W3059) (hd rfl)) rfl rfl (noH_nil rfl),
  trivial⟩⟩⟩⟩⟩⟩⟩⟩⟩⟩⟩⟩⟩⟩⟩⟩⟩⟩⟩⟩
theorem fe_295 : eqEs ((flat code_295).filter (fun e => ndE e.2.2.1)) (fl_295_0) = true := by decide +kernel
theorem om_295 : OKm mi iT prg 295 := OKm_of (code := code_295) rfl mt_295 (Or.inl (by decide +kernel)) rfl wk_295 (by decide +kernel) (by decide +kernel) (FA_of fe_295 (fb_295_0))
def fl_296_0 : List Ent := [(0, 3, 18, .invokestatic 66, [3, 0, 0, 90], 0), (6, 3, 6, .getfield 19, [3, 4, 20], 0), (9, 3, 19, .invokevirtual 72, [3, 1, 1, 5, 4], 0), (16, 5, 34, .invokeinterface 76 1, [0, 1, 1, 11, 87], 0), (26, 5, 34, .invokeinterface 82 1, [3, 1, 1, 11, 88], 0), (31, 3, 17, .checkcast 41, [31], 0), (38, 3, 6, .getfield 86, [3, 31, 157], 0), (49, 3, 19, .invokevirtual 87, [0, 3, 3, 31, 738], 0), (60, 3, 19, .invokevirtual 91, [0, 1, 1, 29, 91], 0), (68, 3, 19, .invokevirtual 94, [0, 1, 1, 31, 737], 0), (73, 3, 19, .invokevirtual 97, [3, 1, 1, 29, 92], 0), (76, 3, 17, .checkcast 41, [31], 0), (79, 3, 19, .invokevirtual 94, [0, 1, 1, 31, 737], 0), (87, 3, 18, .invokestatic 99, [3, 1, 1, 93], 0)]
theorem fb_296_0 : FB mi iT mi_296 (bpc code_296) (fl_296_0) := ⟨fun hd => mk18 mt_90 sf_90 (Or.inl W2932) rfl rfl (noH_nil rfl) (hd rfl),
  ⟨fun hd => mk6 fld_4_2 (Or.inl ⟨rfl, by decide⟩) (Or.inl W279) (Or.inl rfl) (hd rfl),
  ⟨fun hd => mk19 mt_4 cf_4 (vf_4_5.rt (Or.inl W521) (hd rfl)) rfl rfl (noH_nil rfl),
  ⟨fun hd => mk34 mt_87 cf_87 (ff_87_11.rt W523 (hd rfl)) rfl rfl,
  ⟨fun hd => mk34 mt_88 cf_88 (ff_88_11.rt W525 (hd rfl)) rfl rfl,
  ⟨fun hd => mk17 kx_31 W526 (hd rfl),
  ⟨fun hd => mk6 fld_31_0 (Or.inl ⟨rfl, by decide⟩) (Or.inr ⟨_, W3110⟩) (Or.inl rfl) (hd rfl),
  ⟨fun hd => mk19 mt_738 cf_738 (vf_738_31.rt (Or.inl W2937) (hd rfl)) rfl rfl (noH_nil rfl),
  ⟨fun hd => mk19 mt_91 cf_91 (vf_91_29.rt (Or.inl W2941) (hd rfl)) rfl rfl (noH_nil rfl),
  ⟨fun hd => mk19 mt_737 cf_737 (vf_737_31.rt (Or.inl W527) (hd rfl)) rfl rfl (noH_nil rfl),
  ⟨fun hd => mk19 mt_92 cf_92 (vf_92_29.rt (Or.inl W2945) (hd rfl)) rfl rfl (noH_nil rfl),
  ⟨fun hd => mk17 kx_31 W526 (hd rfl),
  ⟨fun hd => mk19 mt_737 cf_737 (vf_737_31.rt (Or.inl W527) (hd rfl)) rfl rfl (noH_nil rfl),
  ⟨fun hd => mk18 mt_93 sf_93 (Or.inl W2949) rfl rfl (noH_nil rfl) (hd rfl),
  trivial⟩⟩⟩⟩⟩⟩⟩⟩⟩⟩⟩⟩⟩⟩
theorem fe_296 : eqEs ((flat code_296).filter (fun e => ndE e.2.2.1)) (fl_296_0) = true := by decide +kernel
theorem om_296 : OKm mi iT prg 296 := OKm_of (code := code_296) rfl mt_296 (Or.inl (by decide +kernel)) rfl wk_296 (by decide +kernel) (by decide +kernel) (FA_of fe_296 (fb_296_0))
def fl_297_0 : List Ent := [(1, 3, 6, .getfield 19, [3, 4, 20], 0), (4, 3, 19, .invokevirtual 22, [0, 1, 1, 5, 5], 0), (13, 3, 6, .getfield 19, [3, 4, 20], 0), (17, 3, 19, .invokevirtual 38, [3, 2, 2, 5, 12], 0), (22, 3, 6, .getfield 19, [3, 4, 20], 0), (25, 3, 11, .new 41, [31, 3], 0), (32, 3, 36, .invokespecial 43, [9, 4, 4, 31, 739], 0), (35, 3, 19, .invokevirtual 46, [0, 2, 2, 5, 8], 0)]
theorem fb_297_0 : FB mi iT mi_297 (bpc code_297) (fl_297_0) := ⟨fun hd => mk6 fld_4_2 (Or.inl ⟨rfl, by decide⟩) (Or.inl W279) (Or.inl rfl) (hd rfl),
  ⟨fun hd => mk19 mt_5 cf_5 (vf_5_5.rt (Or.inl W2796) (hd rfl)) rfl rfl (noH_nil rfl),
  ⟨fun hd => mk6 fld_4_2 (Or.inl ⟨rfl, by decide⟩) (Or.inl W279) (Or.inl rfl) (hd rfl),
  ⟨fun hd => mk19 mt_12 cf_12 (vf_12_5.rt (Or.inl W3103) (hd rfl)) rfl rfl (noH_nil rfl),
  ⟨fun hd => mk6 fld_4_2 (Or.inl ⟨rfl, by decide⟩) (Or.inl W279) (Or.inl rfl) (hd rfl),
  ⟨fun hd => mk11 nf_31 W526 (hd rfl),
  ⟨fun hd => mk36 mt_739 cf_739 (ic_739.rt (Or.inl W3105) (hd rfl)) rfl rfl,
  ⟨fun hd => mk19 mt_8 cf_8 (vf_8_5.rt (Or.inl W3120) (hd rfl)) rfl rfl (noH_nil rfl),
  trivial⟩⟩⟩⟩⟩⟩⟩⟩
theorem fe_297 : eqEs ((flat code_297).filter (fun e => ndE e.2.2.1)) (fl_297_0) = true := by decide +kernel
theorem om_297 : OKm mi iT prg 297 := OKm_of (code := code_297) rfl mt_297 (Or.inl (by decide +kernel)) rfl wk_297 (by decide +kernel) (by decide +kernel) (FA_of fe_297 (fb_297_0))
def fl_298_0 : List Ent := [(1, 3, 6, .getfield 16, [3, 4, 19], 0), (4, 3, 19, .invokevirtual 22, [0, 1, 1, 5, 5], 0), (15, 3, 6, .getfield 16, [3, 4, 19], 0), (19, 3, 19, .invokevirtual 32, [3, 2, 2, 5, 6], 0), (22, 3, 17, .checkcast 50, [28], 0), (27, 3, 6, .getfield 52, [0, 28, 151], 0), (35, 3, 6, .getfield 56, [3, 28, 149], 0), (39, 3, 6, .getfield 60, [0, 27, 148], 0), (43, 3, 6, .getfield 63, [0, 28, 150], 0), (47, 3, 7, .putfield 60, [0, 27, 148], 0), (51, 3, 6, .getfield 16, [3, 4, 19], 0), (55, 3, 19, .invokevirtual 38, [3, 2, 2, 5, 12], 0)]
theorem fb_298_0 : FB mi iT mi_298 (bpc code_298) (fl_298_0) := ⟨fun hd => mk6 fld_4_1 (Or.inl ⟨rfl, by decide⟩) (Or.inl W277) (Or.inl rfl) (hd rfl),
  ⟨fun hd => mk19 mt_5 cf_5 (vf_5_5.rt (Or.inl W2796) (hd rfl)) rfl rfl (noH_nil rfl),
  ⟨fun hd => mk6 fld_4_1 (Or.inl ⟨rfl, by decide⟩) (Or.inl W277) (Or.inl rfl) (hd rfl),
  ⟨fun hd => mk19 mt_6 cf_6 (vf_6_5.rt (Or.inl W2843) (hd rfl)) rfl rfl (noH_nil rfl),
  ⟨fun hd => mk17 kx_28 W931 (hd rfl),
  ⟨fun hd => mk6 fld_28_2 (Or.inl ⟨rfl, by decide⟩) (Or.inr ⟨_, W2896⟩) (Or.inl rfl) (hd rfl),
  ⟨fun hd => mk6 fld_28_0 (Or.inl ⟨rfl, by decide⟩) (Or.inr ⟨_, W2892⟩) (Or.inl rfl) (hd rfl),
  ⟨fun hd => mk6 fld_27_5 (Or.inl ⟨rfl, by decide⟩) (Or.inr ⟨_, W2817⟩) (Or.inl rfl) (hd rfl),
  ⟨fun hd => mk6 fld_28_1 (Or.inl ⟨rfl, by decide⟩) (Or.inr ⟨_, W2894⟩) (Or.inl rfl) (hd rfl),
  ⟨fun hd => mk7 fld_27_5 (Or.inr ⟨_, W2817⟩) (Or.inl rfl) (Or.inl rfl) (hd rfl),
  ⟨fun hd => mk6 fld_4_1 (Or.inl ⟨rfl, by decide⟩) (Or.inl W277) (Or.inl rfl) (hd rfl),
  ⟨fun hd => mk19 mt_12 cf_12 (vf_12_5.rt (Or.inl W3103) (hd rfl)) rfl rfl (noH_nil rfl),
  trivial⟩⟩⟩⟩⟩⟩⟩⟩⟩⟩⟩⟩
theorem fe_298 : eqEs ((flat code_298).filter (fun e => ndE e.2.2.1)) (fl_298_0) = true := by decide +kernel
theorem om_298 : OKm mi iT prg 298 := OKm_of (code := code_298) rfl mt_298 (Or.inl (by decide +kernel)) rfl wk_298 (by decide +kernel) (by decide +kernel) (FA_of fe_298 (fb_298_0))
def fl_299_0 : List Ent := [(1, 3, 22, .invokespecial 3, [], 0), (7, 3, 12, .anewarray 11, [104], 0), (10, 3, 7, .putfield 13, [3, 6, 24], 0)]
theorem fb_299_0 : FB mi iT mi_299 (bpc code_299) (fl_299_0) := ⟨fun hd => mk22 (by decide) W293 oi_w (hd rfl),
  ⟨fun hd => mk12b (by decide) rfl W294 W295 (hd rfl),
  ⟨fun hd => mk7 fld_6_0 (Or.inl W296) (Or.inl rfl) (Or.inr ⟨rfl, rfl, rfl, W296⟩) (hd rfl),
  trivial⟩⟩⟩
theorem fe_299 : eqEs ((flat code_299).filter (fun e => ndE e.2.2.1)) (fl_299_0) = true := by decide +kernel
theorem om_299 : OKm mi iT prg 299 := OKm_of (code := code_299) rfl mt_299 (Or.inl (by decide +kernel)) rfl wk_299 (by decide +kernel) (by decide +kernel) (FA_of fe_299 (fb_299_0))
def fl_300_0 : List Ent := [(9, 3, 6, .getfield 13, [3, 6, 24], 0), (18, 3, 6, .getfield 13, [3, 6, 24], 0), (23, 3, 6, .getfield 74, [0, 22, 109], 0), (39, 3, 19, .invokevirtual 120, [3, 1, 1, 5, 4], 0), (44, 5, 34, .invokeinterface 126 1, [0, 1, 1, 11, 87], 0), (53, 5, 34, .invokeinterface 131 1, [3, 1, 1, 11, 88], 0), (58, 3, 17, .checkcast 11, [22], 0), (63, 3, 6, .getfield 74, [0, 22, 109], 0), (71, 3, 6, .getfield 13, [3, 6, 24], 0), (75, 3, 6, .getfield 74, [0, 22, 109], 0)]
theorem fb_300_0 : FB mi iT mi_300 (bpc code_300) (fl_300_0) := ⟨fun hd => mk6 fld_6_0 (Or.inl ⟨rfl, by decide⟩) (Or.inl W296) (Or.inl rfl) (hd rfl),
  ⟨fun hd => mk6 fld_6_0 (Or.inl ⟨rfl, by decide⟩) (Or.inl W296) (Or.inl rfl) (hd rfl),
  ⟨fun hd => mk6 fld_22_17 (Or.inl ⟨rfl, by decide⟩) (Or.inr ⟨_, W2309⟩) (Or.inl rfl) (hd rfl),
  ⟨fun hd => mk19 mt_4 cf_4 (vf_4_5.rt (Or.inl W471) (hd rfl)) rfl rfl (noH_nil rfl),
  ⟨fun hd => mk34 mt_87 cf_87 (ff_87_11.rt W495 (hd rfl)) rfl rfl,
  ⟨fun hd => mk34 mt_88 cf_88 (ff_88_11.rt W505 (hd rfl)) rfl rfl,
  ⟨fun hd => mk17 kx_22 W294 (hd rfl),
  ⟨fun hd => mk6 fld_22_17 (Or.inl ⟨rfl, by decide⟩) (Or.inr ⟨_, W2309⟩) (Or.inl rfl) (hd rfl),
  ⟨fun hd => mk6 fld_6_0 (Or.inl ⟨rfl, by decide⟩) (Or.inl W296) (Or.inl rfl) (hd rfl),
  ⟨fun hd => mk6 fld_22_17 (Or.inl ⟨rfl, by decide⟩) (Or.inr ⟨_, W2309⟩) (Or.inl rfl) (hd rfl),
  trivial⟩⟩⟩⟩⟩⟩⟩⟩⟩⟩
theorem fe_300 : eqEs ((flat code_300).filter (fun e => ndE e.2.2.1)) (fl_300_0) = true := by decide +kernel
theorem om_300 : OKm mi iT prg 300 := OKm_of (code := code_300) rfl mt_300 (Or.inl (by decide +kernel)) rfl wk_300 (by decide +kernel) (by decide +kernel) (FA_of fe_300 (fb_300_0))
def fl_301_0 : List Ent := [(1, 3, 6, .getfield 13, [3, 6, 24], 0)]
theorem fb_301_0 : FB mi iT mi_301 (bpc code_301) (fl_301_0) := ⟨fun hd => mk6 fld_6_0 (Or.inl ⟨rfl, by decide⟩) (Or.inl W296) (Or.inl rfl) (hd rfl),
  trivial⟩
theorem fe_301 : eqEs ((flat code_301).filter (fun e => ndE e.2.2.1)) (fl_301_0) = true := by decide +kernel
theorem om_301 : OKm mi iT prg 301 := OKm_of (code := code_301) rfl mt_301 (Or.inl (by decide +kernel)) rfl wk_301 (by decide +kernel) (by decide +kernel) (FA_of fe_301 (fb_301_0))
def fl_302_0 : List Ent := [(1, 35, 5, .tableswitch 55 0 4 #[35, 39, 43, 47, 51], [6, 0, 1, 1, 2, 2, 3, 3, 4, 4, 5], 0), (36, 3, 13, .getstatic 17, [32], 0), (40, 3, 13, .getstatic 23, [31], 0), (44, 3, 13, .getstatic 26, [30], 0), (48, 3, 13, .getstatic 29, [29], 0), (52, 3, 13, .getstatic 32, [28], 0), (56, 3, 13, .getstatic 35, [33], 0)]
theorem fb_302_0 : FB mi iT mi_302 (bpc code_302) (fl_302_0) := ⟨fun hd => ⟨_, _, rfl, Or.inl ⟨55, 0, 4, #[35, 39, 43, 47, 51], 5, 35, (show decode prog_17_method_2_code 1 = .ok (.tableswitch 55 0 4 #[35, 39, 43, 47, 51], 35) by decide +kernel), by decide, by decide +kernel⟩⟩,
  ⟨fun hd => mk13s (by decide) rfl (Or.inl W951) (Or.inl rfl) (hd rfl),
  ⟨fun hd => mk13s (by decide) rfl (Or.inl W953) (Or.inl rfl) (hd rfl),
  ⟨fun hd => mk13s (by decide) rfl (Or.inl W955) (Or.inl rfl) (hd rfl),
  ⟨fun hd => mk13s (by decide) rfl (Or.inl W957) (Or.inl rfl) (hd rfl),
  ⟨fun hd => mk13s (by decide) rfl (Or.inl W959) (Or.inl rfl) (hd rfl),
  ⟨fun hd => mk13s (by decide) rfl (Or.inl W961) (Or.inl rfl) (hd rfl),
  trivial⟩⟩⟩⟩⟩⟩⟩
theorem fe_302 : eqEs ((flat code_302).filter (fun e => ndE e.2.2.1)) (fl_302_0) = true := by decide +kernel
theorem om_302 : OKm mi iT prg 302 := OKm_of (code := code_302) rfl mt_302 (Or.inl (by decide +kernel)) rfl wk_302 (by decide +kernel) (by decide +kernel) (FA_of fe_302 (fb_302_0))
def fl_303_0 : List Ent := [(3, 3, 18, .invokestatic 42, [0, 1, 1, 304], 0), (8, 3, 18, .invokestatic 45, [0, 1, 1, 306], 0)]
theorem fb_303_0 : FB mi iT mi_303 (bpc code_303) (fl_303_0) := ⟨fun hd => mk18 mt_304 sf_304 (Or.inl W1008) rfl rfl (noH_nil rfl) (hd rfl),
  ⟨fun hd => mk18 mt_306 sf_306 (Or.inl W1014) rfl rfl (noH_nil rfl) (hd rfl),
  trivial⟩⟩
theorem fe_303 : eqEs ((flat code_303).filter (fun e => ndE e.2.2.1)) (fl_303_0) = true := by decide +kernel
theorem om_303 : OKm mi iT prg 303 := OKm_of (code := code_303) rfl mt_303 (Or.inl (by decide +kernel)) rfl wk_303 (by decide +kernel) (by decide +kernel) (FA_of fe_303 (fb_303_0))
def fl_304_0 : List Ent := [(9, 3, 18, .invokestatic 38, [0, 1, 1, 305], 0)]
theorem fb_304_0 : FB mi iT mi_304 (bpc code_304) (fl_304_0) := ⟨fun hd => mk18 mt_305 sf_305 (Or.inl W1011) rfl rfl (noH_nil rfl) (hd rfl),
  trivial⟩
theorem fe_304 : eqEs ((flat code_304).filter (fun e => ndE e.2.2.1)) (fl_304_0) = true := by decide +kernel
theorem om_304 : OKm mi iT prg 304 := OKm_of (code := code_304) rfl mt_304 (Or.inl (by decide +kernel)) rfl wk_304 (by decide +kernel) (by decide +kernel) (FA_of fe_304 (fb_304_0))
def fl_305_0 : List Ent := [(1, 39, 5, .tableswitch 47 0 5 #[39, 41, 44, 47, 44, 41], [4, 0, 1, 1, 2, 2, 3, 3, 4, 4, 3, 5, 2], 0)]
theorem fb_305_0 : FB mi iT mi_305 (bpc code_305) (fl_305_0) := ⟨fun hd => ⟨_, _, rfl, Or.inl ⟨47, 0, 5, #[39, 41, 44, 47, 44, 41], 6, 39, (show decode prog_17_method_4_code 1 = .ok (.tableswitch 47 0 5 #[39, 41, 44, 47, 44, 41], 39) by decide +kernel), by decide, by decide +kernel⟩⟩,
  trivial⟩
theorem fe_305 : eqEs ((flat code_305).filter (fun e => ndE e.2.2.1)) (fl_305_0) = true := by decide +kernel
theorem om_305 : OKm mi iT prg 305 := OKm_of (code := code_305) rfl mt_305 (Or.inl (by decide +kernel)) rfl wk_305 (by decide +kernel) (by decide +kernel) (FA_of fe_305 (fb_305_0))
def fl_306_0 : List Ent := [(4, 48, 5, .tableswitch 57 0 7 #[48, 50, 52, 54, 57, 54, 52, 50], [5, 0, 1, 1, 2, 2, 3, 3, 4, 4, 5, 5, 4, 6, 3, 7, 2], 0)]
theorem fb_306_0 : FB mi iT mi_306 (bpc code_306) (fl_306_0) := ⟨fun hd => ⟨_, _, rfl, Or.inl ⟨57, 0, 7, #[48, 50, 52, 54, 57, 54, 52, 50], 8, 48, (show decode prog_17_method_5_code 4 = .ok (.tableswitch 57 0 7 #[48, 50, 52, 54, 57, 54, 52, 50], 48) by decide +kernel), by decide, by decide +kernel⟩⟩,
  trivial⟩
theorem fe_306 : eqEs ((flat code_306).filter (fun e => ndE e.2.2.1)) (fl_306_0) = true := by decide +kernel
theorem om_306 : OKm mi iT prg 306 := OKm_of (code := code_306) rfl mt_306 (Or.inl (by decide +kernel)) rfl wk_306 (by decide +kernel) (by decide +kernel) (FA_of fe_306 (fb_306_0))
def fl_307_0 : List Ent := [(1, 3, 6, .getfield 80, [3, 22, 99], 0), (4, 3, 19, .invokevirtual 84, [9, 1, 1, 17, 547], 0), (8, 3, 6, .getfield 80, [3, 22, 99], 0), (11, 3, 19, .invokevirtual 89, [0, 1, 1, 17, 549], 0), (17, 3, 15, .ldc2_w 93, [4621819117588971520], 0), (21, 3, 6, .getfield 80, [3, 22, 99], 0), (24, 3, 6, .getfield 95, [2, 17, 72], 0), (28, 3, 18, .invokestatic 99, [2, 1, 2, 72], 0)]
theorem fb_307_0 : FB mi iT mi_307 (bpc code_307) (fl_307_0) := ⟨fun hd => mk6 fld_22_7 (Or.inl ⟨rfl, by decide⟩) (Or.inr ⟨_, W2275⟩) (Or.inl rfl) (hd rfl),
  ⟨fun hd => mk19 mt_547 cf_547 (vf_547_17.rt (Or.inl W1510) (hd rfl)) rfl rfl (noH_nil rfl),
  ⟨fun hd => mk6 fld_22_7 (Or.inl ⟨rfl, by decide⟩) (Or.inr ⟨_, W2275⟩) (Or.inl rfl) (hd rfl),
  ⟨fun hd => mk19 mt_549 cf_549 (vf_549_17.rt (Or.inl W1511) (hd rfl)) rfl rfl (noH_nil rfl),
  ⟨fun hd => mk15 W1512 (hd rfl),
  ⟨fun hd => mk6 fld_22_7 (Or.inl ⟨rfl, by decide⟩) (Or.inr ⟨_, W2275⟩) (Or.inl rfl) (hd rfl),
  ⟨fun hd => mk6 fld_17_5 (Or.inl ⟨rfl, by decide⟩) (Or.inr ⟨_, W2005⟩) (Or.inl rfl) (hd rfl),
  ⟨fun hd => mk18 mt_72 sf_72 (Or.inl W1513) rfl rfl (noH_nil rfl) (hd rfl),
  trivial⟩⟩⟩⟩⟩⟩⟩⟩
theorem fe_307 : eqEs ((flat code_307).filter (fun e => ndE e.2.2.1)) (fl_307_0) = true := by decide +kernel
theorem om_307 : OKm mi iT prg 307 := OKm_of (code := code_307) rfl mt_307 (Or.inl (by decide +kernel)) rfl wk_307 (by decide +kernel) (by decide +kernel) (FA_of fe_307 (fb_307_0))
def fl_308_0 : List Ent := [(2, 3, 19, .invokevirtual 48, [0, 2, 2, 6, 301], 0), (9, 3, 18, .invokestatic 52, [3, 1, 1, 302], 0), (12, 3, 31, .invokevirtual 56, [0, 1, 1, 32, 795, 31, 797, 30, 799, 29, 802, 28, 804, 33, 806], 0), (16, 3, 6, .getfield 60, [3, 22, 93], 0), (19, 3, 6, .getfield 64, [0, 16, 63], 0)]
theorem fb_308_0 : FB mi iT mi_308 (bpc code_308) (fl_308_0) := ⟨fun hd => mk19 mt_301 cf_301 (vf_301_6.rt (Or.inl W3169) (hd rfl)) rfl rfl (noH_nil rfl),
  ⟨fun hd => mk18 mt_302 sf_302 (Or.inl W3170) rfl rfl (noH_nil rfl) (hd rfl),
  ⟨fun hd => mk31 ⟨pr3 mt_795 cf_795 (ei_795_32_KeelHouse_Spotroom__I.rt W3171 (hd rfl)) rfl rfl, ⟨pr3 mt_797 cf_797 (ei_797_31_KeelHouse_Spotroom__I.rt W3171 (hd rfl)) rfl rfl, ⟨pr3 mt_799 cf_799 (ei_799_30_KeelHouse_Spotroom__I.rt W3171 (hd rfl)) rfl rfl, ⟨pr3 mt_802 cf_802 (ei_802_29_KeelHouse_Spotroom__I.rt W3171 (hd rfl)) rfl rfl, ⟨pr3 mt_804 cf_804 (ei_804_28_KeelHouse_Spotroom__I.rt W3171 (hd rfl)) rfl rfl, ⟨pr3 mt_806 cf_806 (ei_806_33_KeelHouse_Spotroom__I.rt W3171 (hd rfl)) rfl rfl, trivial⟩⟩⟩⟩⟩⟩,
  ⟨fun hd => mk6 fld_22_1 (Or.inl ⟨rfl, by decide⟩) (Or.inr ⟨_, W2248⟩) (Or.inl rfl) (hd rfl),
  ⟨fun hd => mk6 fld_16_1 (Or.inl ⟨rfl, by decide⟩) (Or.inr ⟨_, W1905⟩) (Or.inl rfl) (hd rfl),
  trivial⟩⟩⟩⟩⟩
theorem fe_308 : eqEs ((flat code_308).filter (fun e => ndE e.2.2.1)) (fl_308_0) = true := by decide +kernel
theorem om_308 : OKm mi iT prg 308 := OKm_of (code := code_308) rfl mt_308 (Or.inl (by decide +kernel)) rfl wk_308 (by decide +kernel) (by decide +kernel) (FA_of fe_308 (fb_308_0))
def fl_309_0 : List Ent := [(2, 3, 19, .invokevirtual 70, [9, 2, 2, 6, 310], 0), (6, 3, 6, .getfield 13, [3, 6, 24], 0), (11, 1, 9, .aastore, [3, 104, 22], 0), (14, 3, 7, .putfield 74, [0, 22, 109], 0), (24, 3, 7, .putfield 77, [0, 22, 110], 0)]
theorem fb_309_0 : FB mi iT mi_309 (bpc code_309) (fl_309_0) := ⟨fun hd => mk19 mt_310 cf_310 (vf_310_6.rt (Or.inl W3176) (hd rfl)) rfl rfl (noH_nil rfl),
  ⟨fun hd => mk6 fld_6_0 (Or.inl ⟨rfl, by decide⟩) (Or.inl W296) (Or.inl rfl) (hd rfl),
  ⟨fun hd => ⟨_, _, _, rfl, rfl, hd rfl, Or.inr (Or.inr (Or.inr (Or.inr ⟨rfl, rfl, by decide, _, rfl, as_104_L, by decide⟩)))⟩,
  ⟨fun hd => mk7 fld_22_17 (Or.inr ⟨_, W2309⟩) (Or.inl rfl) (Or.inl rfl) (hd rfl),
  ⟨fun hd => mk7 fld_22_18 (Or.inr ⟨_, W2313⟩) (Or.inl rfl) (Or.inl rfl) (hd rfl),
  trivial⟩⟩⟩⟩⟩
theorem fe_309 : eqEs ((flat code_309).filter (fun e => ndE e.2.2.1)) (fl_309_0) = true := by decide +kernel
theorem om_309 : OKm mi iT prg 309 := OKm_of (code := code_309) rfl mt_309 (Or.inl (by decide +kernel)) rfl wk_309 (by decide +kernel) (by decide +kernel) (FA_of fe_309 (fb_309_0))
def fl_310_0 : List Ent := [(1, 3, 6, .getfield 74, [0, 22, 109], 0), (9, 3, 6, .getfield 13, [3, 6, 24], 0), (13, 3, 6, .getfield 74, [0, 22, 109], 0), (17, 1, 9, .aastore, [3, 104, 22], 0), (20, 3, 7, .putfield 74, [0, 22, 109], 0)]
theorem fb_310_0 : FB mi iT mi_310 (bpc code_310) (fl_310_0) := ⟨fun hd => mk6 fld_22_17 (Or.inl ⟨rfl, by decide⟩) (Or.inr ⟨_, W2309⟩) (Or.inl rfl) (hd rfl),
  ⟨fun hd => mk6 fld_6_0 (Or.inl ⟨rfl, by decide⟩) (Or.inl W296) (Or.inl rfl) (hd rfl),
  ⟨fun hd => mk6 fld_22_17 (Or.inl ⟨rfl, by decide⟩) (Or.inr ⟨_, W2309⟩) (Or.inl rfl) (hd rfl),
  ⟨fun hd => ⟨_, _, _, rfl, rfl, hd rfl, Or.inr (Or.inr (Or.inr (Or.inr ⟨rfl, rfl, by decide, _, rfl, as_104_L, by decide⟩)))⟩,
  ⟨fun hd => mk7 fld_22_17 (Or.inr ⟨_, W2309⟩) (Or.inl rfl) (Or.inl rfl) (hd rfl),
  trivial⟩⟩⟩⟩⟩
theorem fe_310 : eqEs ((flat code_310).filter (fun e => ndE e.2.2.1)) (fl_310_0) = true := by decide +kernel
theorem om_310 : OKm mi iT prg 310 := OKm_of (code := code_310) rfl mt_310 (Or.inl (by decide +kernel)) rfl wk_310 (by decide +kernel) (by decide +kernel) (FA_of fe_310 (fb_310_0))
def fl_311_0 : List Ent := [(1, 3, 18, .invokestatic 105, [0, 1, 1, 307], 0), (12, 3, 18, .invokestatic 52, [3, 1, 1, 302], 0), (15, 3, 31, .invokevirtual 109, [0, 1, 1, 32, 796, 31, 798, 30, 800, 29, 803, 28, 805, 33, 807], 0)]
theorem fb_311_0 : FB mi iT mi_311 (bpc code_311) (fl_311_0) := ⟨fun hd => mk18 mt_307 sf_307 (Or.inl W3214) rfl rfl (noH_nil rfl) (hd rfl),
  ⟨fun hd => mk18 mt_302 sf_302 (Or.inl W3170) rfl rfl (noH_nil rfl) (hd rfl),
  ⟨fun hd => mk31 ⟨pr3 mt_796 cf_796 (ei_796_32_KeelHouse_Spotdeep__I.rt W3215 (hd rfl)) rfl rfl, ⟨pr3 mt_798 cf_798 (ei_798_31_KeelHouse_Spotdeep__I.rt W3215 (hd rfl)) rfl rfl, ⟨pr3 mt_800 cf_800 (ei_800_30_KeelHouse_Spotdeep__I.rt W3215 (hd rfl)) rfl rfl, ⟨pr3 mt_803 cf_803 (ei_803_29_KeelHouse_Spotdeep__I.rt W3215 (hd rfl)) rfl rfl, ⟨pr3 mt_805 cf_805 (ei_805_28_KeelHouse_Spotdeep__I.rt W3215 (hd rfl)) rfl rfl, ⟨pr3 mt_807 cf_807 (ei_807_33_KeelHouse_Spotdeep__I.rt W3215 (hd rfl)) rfl rfl, trivial⟩⟩⟩⟩⟩⟩,
  trivial⟩⟩⟩
theorem fe_311 : eqEs ((flat code_311).filter (fun e => ndE e.2.2.1)) (fl_311_0) = true := by decide +kernel
theorem om_311 : OKm mi iT prg 311 := OKm_of (code := code_311) rfl mt_311 (Or.inl (by decide +kernel)) rfl wk_311 (by decide +kernel) (by decide +kernel) (FA_of fe_311 (fb_311_0))
def fl_312_0 : List Ent := [(11, 3, 19, .invokevirtual 112, [0, 3, 3, 6, 308], 0), (20, 3, 18, .invokestatic 116, [0, 3, 3, 311], 0)]
theorem fb_312_0 : FB mi iT mi_312 (bpc code_312) (fl_312_0) := ⟨fun hd => mk19 mt_308 cf_308 (vf_308_6.rt (Or.inl W3220) (hd rfl)) rfl rfl (noH_nil rfl),
  ⟨fun hd => mk18 mt_311 sf_311 (Or.inl W3221) rfl rfl (noH_nil rfl) (hd rfl),
  trivial⟩⟩
theorem fe_312 : eqEs ((flat code_312).filter (fun e => ndE e.2.2.1)) (fl_312_0) = true := by decide +kernel
theorem om_312 : OKm mi iT prg 312 := OKm_of (code := code_312) rfl mt_312 (Or.inl (by decide +kernel)) rfl wk_312 (by decide +kernel) (by decide +kernel) (FA_of fe_312 (fb_312_0))
def fl_313_0 : List Ent := [(1, 3, 6, .getfield 74, [0, 22, 109], 0), (22, 3, 6, .getfield 74, [0, 22, 109], 0), (26, 3, 18, .invokestatic 116, [0, 3, 3, 311], 0), (35, 3, 18, .invokestatic 116, [0, 3, 3, 311], 0)]
theorem fb_313_0 : FB mi iT mi_313 (bpc code_313) (fl_313_0) := ⟨fun hd => mk6 fld_22_17 (Or.inl ⟨rfl, by decide⟩) (Or.inr ⟨_, W2309⟩) (Or.inl rfl) (hd rfl),
  ⟨fun hd => mk6 fld_22_17 (Or.inl ⟨rfl, by decide⟩) (Or.inr ⟨_, W2309⟩) (Or.inl rfl) (hd rfl),
  ⟨fun hd => mk18 mt_311 sf_311 (Or.inl W3221) rfl rfl (noH_nil rfl) (hd rfl),
  ⟨fun hd => mk18 mt_311 sf_311 (Or.inl W3221) rfl rfl (noH_nil rfl) (hd rfl),
  trivial⟩⟩⟩⟩
theorem fe_313 : eqEs ((flat code_313).filter (fun e => ndE e.2.2.1)) (fl_313_0) = true := by decide +kernel
theorem om_313 : OKm mi iT prg 313 := OKm_of (code := code_313) rfl mt_313 (Or.inl (by decide +kernel)) rfl wk_313 (by decide +kernel) (by decide +kernel) (FA_of fe_313 (fb_313_0))
def fl_314_0 : List Ent := [(11, 3, 19, .invokevirtual 112, [0, 3, 3, 6, 308], 0), (28, 3, 19, .invokevirtual 112, [0, 3, 3, 6, 308], 0)]
theorem fb_314_0 : FB mi iT mi_314 (bpc code_314) (fl_314_0) := ⟨fun hd => mk19 mt_308 cf_308 (vf_308_6.rt (Or.inl W3220) (hd rfl)) rfl rfl (noH_nil rfl),
  ⟨fun hd => mk19 mt_308 cf_308 (vf_308_6.rt (Or.inl W3220) (hd rfl)) rfl rfl (noH_nil rfl),
  trivial⟩⟩
theorem fe_314 : eqEs ((flat code_314).filter (fun e => ndE e.2.2.1)) (fl_314_0) = true := by decide +kernel
theorem om_314 : OKm mi iT prg 314 := OKm_of (code := code_314) rfl mt_314 (Or.inl (by decide +kernel)) rfl wk_314 (by decide +kernel) (by decide +kernel) (FA_of fe_314 (fb_314_0))
def fl_315_0 : List Ent := [(1, 3, 22, .invokespecial 3, [], 0), (6, 2, 12, .newarray .int, [100], 0), (8, 3, 7, .putfield 11, [3, 7, 26], 0), (13, 3, 7, .putfield 15, [3, 7, 25], 0)]
theorem fb_315_0 : FB mi iT mi_315 (bpc code_315) (fl_315_0) := ⟨fun hd => mk22 (by decide) W308 oi_w (hd rfl),
  ⟨fun hd => mk12a (at_ := .int) (by decide) rfl W239 (hd rfl),
  ⟨fun hd => mk7 fld_7_1 (Or.inl W310) (Or.inl rfl) (Or.inr ⟨rfl, rfl, rfl, W310⟩) (hd rfl),
  ⟨fun hd => mk7 fld_7_0 (Or.inl W309) (Or.inl rfl) (Or.inr ⟨rfl, rfl, rfl, W309⟩) (hd rfl),
  trivial⟩⟩⟩⟩
theorem fe_315 : eqEs ((flat code_315).filter (fun e => ndE e.2.2.1)) (fl_315_0) = true := by decide +kernel
theorem om_315 : OKm mi iT prg 315 := OKm_of (code := code_315) rfl mt_315 (Or.inl (by decide +kernel)) rfl wk_315 (by decide +kernel) (by decide +kernel) (FA_of fe_315 (fb_315_0))
def fl_316_0 : List Ent := [(1, 3, 6, .getfield 11, [3, 7, 26], 0), (7, 3, 6, .getfield 11, [3, 7, 26], 0), (14, 3, 6, .getfield 11, [3, 7, 26], 0)]
theorem fb_316_0 : FB mi iT mi_316 (bpc code_316) (fl_316_0) := ⟨fun hd => mk6 fld_7_1 (Or.inl ⟨rfl, by decide⟩) (Or.inl W310) (Or.inl rfl) (hd rfl),
  ⟨fun hd => mk6 fld_7_1 (Or.inl ⟨rfl, by decide⟩) (Or.inl W310) (Or.inl rfl) (hd rfl),
  ⟨fun hd => mk6 fld_7_1 (Or.inl ⟨rfl, by decide⟩) (Or.inl W310) (Or.inl rfl) (hd rfl),
  trivial⟩⟩⟩
theorem fe_316 : eqEs ((flat code_316).filter (fun e => ndE e.2.2.1)) (fl_316_0) = true := by decide +kernel
theorem om_316 : OKm mi iT prg 316 := OKm_of (code := code_316) rfl mt_316 (Or.inl (by decide +kernel)) rfl wk_316 (by decide +kernel) (by decide +kernel) (FA_of fe_316 (fb_316_0))
def fl_317_0 : List Ent := [(1, 3, 19, .invokevirtual 74, [9, 1, 1, 7, 318], 0), (13, 3, 18, .invokestatic 77, [0, 2, 2, 319], 0), (23, 3, 6, .getfield 11, [3, 7, 26], 0), (38, 3, 19, .invokevirtual 81, [0, 3, 3, 7, 320], 0), (46, 3, 6, .getfield 27, [3, 7, 31], 0), (50, 3, 6, .getfield 31, [3, 7, 32], 0), (54, 3, 19, .invokevirtual 85, [9, 4, 4, 7, 321], 0)]
theorem fb_317_0 : FB mi iT mi_317 (bpc code_317) (fl_317_0) := ⟨fun hd => mk19 mt_318 cf_318 (vf_318_7.rt (Or.inl W3364) (hd rfl)) rfl rfl (noH_nil rfl),
  ⟨fun hd => mk18 mt_319 sf_319 (Or.inl W3372) rfl rfl (noH_nil rfl) (hd rfl),
  ⟨fun hd => mk6 fld_7_1 (Or.inl ⟨rfl, by decide⟩) (Or.inl W310) (Or.inl rfl) (hd rfl),
  ⟨fun hd => mk19 mt_320 cf_320 (vf_320_7.rt (Or.inl W3378) (hd rfl)) rfl rfl (noH_nil rfl),
  ⟨fun hd => mk6 fld_7_6 (Or.inl ⟨rfl, by decide⟩) (Or.inl W320) (Or.inl rfl) (hd rfl),
  ⟨fun hd => mk6 fld_7_7 (Or.inl ⟨rfl, by decide⟩) (Or.inl W321) (Or.inl rfl) (hd rfl),
  ⟨fun hd => mk19 mt_321 cf_321 (vf_321_7.rt (Or.inl W3413) (hd rfl)) rfl rfl (noH_nil rfl),
  trivial⟩⟩⟩⟩⟩⟩⟩
theorem fe_317 : eqEs ((flat code_317).filter (fun e => ndE e.2.2.1)) (fl_317_0) = true := by decide +kernel
theorem om_317 : OKm mi iT prg 317 := OKm_of (code := code_317) rfl mt_317 (Or.inl (by decide +kernel)) rfl wk_317 (by decide +kernel) (by decide +kernel) (FA_of fe_317 (fb_317_0))
def fl_318_0 : List Ent := [(4, 3, 6, .getfield 15, [3, 7, 25], 0), (7, 3, 19, .invokevirtual 35, [0, 1, 1, 5, 5], 0), (14, 3, 6, .getfield 15, [3, 7, 25], 0), (18, 3, 19, .invokevirtual 41, [3, 2, 2, 5, 6], 0), (21, 3, 17, .checkcast 45, [22], 0), (26, 3, 6, .getfield 47, [3, 22, 102], 0), (29, 3, 6, .getfield 51, [0, 12, 50], 0), (39, 3, 6, .getfield 47, [3, 22, 102], 0), (42, 3, 19, .invokevirtual 69, [9, 1, 1, 12, 614], 0), (46, 3, 6, .getfield 47, [3, 22, 102], 0), (49, 3, 6, .getfield 57, [3, 12, 48], 0), (54, 1, 10, .arraylength, [108], 0), (76, 3, 7, .putfield 72, [0, 25, 138], 0)]
theorem fb_318_0 : FB mi iT mi_318 (bpc code_318) (fl_318_0) := ⟨fun hd => mk6 fld_7_0 (Or.inl ⟨rfl, by decide⟩) (Or.inl W309) (Or.inl rfl) (hd rfl),
  ⟨fun hd => mk19 mt_5 cf_5 (vf_5_5.rt (Or.inl W3368) (hd rfl)) rfl rfl (noH_nil rfl),
  ⟨fun hd => mk6 fld_7_0 (Or.inl ⟨rfl, by decide⟩) (Or.inl W309) (Or.inl rfl) (hd rfl),
  ⟨fun hd => mk19 mt_6 cf_6 (vf_6_5.rt (Or.inl W3369) (hd rfl)) rfl rfl (noH_nil rfl),
  ⟨fun hd => mk17 kx_22 W3370 (hd rfl),
  ⟨fun hd => mk6 fld_22_10 (Or.inl ⟨rfl, by decide⟩) (Or.inr ⟨_, W2287⟩) (Or.inl rfl) (hd rfl),
  ⟨fun hd => mk6 fld_12_3 (Or.inr ⟨rfl, Or.inl rfl⟩) (Or.inr ⟨_, W2220⟩) (Or.inl rfl) (hd rfl),
  ⟨fun hd => mk6 fld_22_10 (Or.inl ⟨rfl, by decide⟩) (Or.inr ⟨_, W2287⟩) (Or.inl rfl) (hd rfl),
  ⟨fun hd => mk19 mt_614 cf_614 (vf_614_12.rt (Or.inl W3371) (hd rfl)) rfl rfl (noH_nil rfl),
  ⟨fun hd => mk6 fld_22_10 (Or.inl ⟨rfl, by decide⟩) (Or.inr ⟨_, W2287⟩) (Or.inl rfl) (hd rfl),
  ⟨fun hd => mk6 fld_12_1 (Or.inl ⟨rfl, by decide⟩) (Or.inr ⟨_, W2218⟩) (Or.inl rfl) (hd rfl),
  ⟨fun hd => mk10 (by decide) rfl (hd rfl),
  ⟨fun hd => mk7 fld_25_10 (Or.inr ⟨_, W2187⟩) (Or.inl rfl) (Or.inl rfl) (hd rfl),
  trivial⟩⟩⟩⟩⟩⟩⟩⟩⟩⟩⟩⟩⟩
theorem fe_318 : eqEs ((flat code_318).filter (fun e => ndE e.2.2.1)) (fl_318_0) = true := by decide +kernel
theorem om_318 : OKm mi iT prg 318 := OKm_of (code := code_318) rfl mt_318 (Or.inl (by decide +kernel)) rfl wk_318 (by decide +kernel) (by decide +kernel) (FA_of fe_318 (fb_318_0))
def fl_319_0 : List Ent := [(1, 3, 18, .invokestatic 23, [0, 1, 1, 249], 0)]
theorem fb_319_0 : FB mi iT mi_319 (bpc code_319) (fl_319_0) := ⟨fun hd => mk18 mt_249 sf_249 (Or.inr ⟨⟨_, W3375⟩, _, _, rfl⟩) rfl rfl (noH_nil rfl) (hd rfl),
  trivial⟩
theorem fe_319 : eqEs ((flat code_319).filter (fun e => ndE e.2.2.1)) (fl_319_0) = true := by decide +kernel
theorem om_319 : OKm mi iT prg 319 := OKm_of (code := code_319) rfl mt_319 (Or.inl (by decide +kernel)) rfl wk_319 (by decide +kernel) (by decide +kernel) (FA_of fe_319 (fb_319_0))
def fl_320_0 : List Ent := [(2, 3, 7, .putfield 27, [3, 7, 31], 0), (7, 3, 7, .putfield 31, [3, 7, 32], 0), (14, 3, 6, .getfield 15, [3, 7, 25], 0), (17, 3, 19, .invokevirtual 35, [0, 1, 1, 5, 5], 0), (24, 3, 6, .getfield 15, [3, 7, 25], 0), (28, 3, 19, .invokevirtual 41, [3, 2, 2, 5, 6], 0), (31, 3, 17, .checkcast 45, [22], 0), (38, 3, 6, .getfield 47, [3, 22, 102], 0), (41, 3, 6, .getfield 51, [0, 12, 50], 0), (52, 3, 6, .getfield 47, [3, 22, 102], 0), (55, 3, 6, .getfield 57, [3, 12, 48], 0), (62, 1, 10, .arraylength, [108], 0), (84, 3, 6, .getfield 47, [3, 22, 102], 0), (101, 3, 19, .invokevirtual 60, [0, 4, 4, 12, 628], 0), (108, 3, 6, .getfield 31, [3, 7, 32], 0), (116, 3, 19, .invokevirtual 64, [0, 1, 1, 25, 635], 0), (120, 3, 6, .getfield 31, [3, 7, 32], 0), (123, 3, 19, .invokevirtual 64, [0, 1, 1, 25, 635], 0), (132, 3, 7, .putfield 27, [3, 7, 31], 0), (138, 3, 7, .putfield 31, [3, 7, 32], 0), (154, 3, 6, .getfield 31, [3, 7, 32], 0)]
theorem fb_320_0 : FB mi iT mi_320 (bpc code_320) (fl_320_0) := ⟨fun hd => mk7 fld_7_6 (Or.inl W320) (Or.inl rfl) (Or.inl rfl) (hd rfl),
  ⟨fun hd => mk7 fld_7_7 (Or.inl W321) (Or.inl rfl) (Or.inl rfl) (hd rfl),
  ⟨fun hd => mk6 fld_7_0 (Or.inl ⟨rfl, by decide⟩) (Or.inl W309) (Or.inl rfl) (hd rfl),
  ⟨fun hd => mk19 mt_5 cf_5 (vf_5_5.rt (Or.inl W3368) (hd rfl)) rfl rfl (noH_nil rfl),
  ⟨fun hd => mk6 fld_7_0 (Or.inl ⟨rfl, by decide⟩) (Or.inl W309) (Or.inl rfl) (hd rfl),
  ⟨fun hd => mk19 mt_6 cf_6 (vf_6_5.rt (Or.inl W3369) (hd rfl)) rfl rfl (noH_nil rfl),
  ⟨fun hd => mk17 kx_22 W3370 (hd rfl),
  ⟨fun hd => mk6 fld_22_10 (Or.inl ⟨rfl, by decide⟩) (Or.inr ⟨_, W2287⟩) (Or.inl rfl) (hd rfl),
  ⟨fun hd => mk6 fld_12_3 (Or.inr ⟨rfl, Or.inl rfl⟩) (Or.inr ⟨_, W2220⟩) (Or.inl rfl) (hd rfl),
  ⟨fun hd => mk6 fld_22_10 (Or.inl ⟨rfl, by decide⟩) (Or.inr ⟨_, W2287⟩) (Or.inl rfl) (hd rfl),
  ⟨fun hd => mk6 fld_12_1 (Or.inl ⟨rfl, by decide⟩) (Or.inr ⟨_, W2218⟩) (Or.inl rfl) (hd rfl),
  ⟨fun hd => mk10 (by decide) rfl (hd rfl),
  ⟨fun hd => mk6 fld_22_10 (Or.inl ⟨rfl, by decide⟩) (Or.inr ⟨_, W2287⟩) (Or.inl rfl) (hd rfl),
  ⟨fun hd => mk19 mt_628 cf_628 (vf_628_12.rt (Or.inl W3382) (hd rfl)) rfl rfl (noH_nil rfl),
  ⟨fun hd => mk6 fld_7_7 (Or.inl ⟨rfl, by decide⟩) (Or.inl W321) (Or.inl rfl) (hd rfl),
  ⟨fun hd => mk19 mt_635 cf_635 (vf_635_25.rt (Or.inl W3412) (hd rfl)) rfl rfl (noH_nil rfl),
  ⟨fun hd => mk6 fld_7_7 (Or.inl ⟨rfl, by decide⟩) (Or.inl W321) (Or.inl rfl) (hd rfl),
  ⟨fun hd => mk19 mt_635 cf_635 (vf_635_25.rt (Or.inl W3412) (hd rfl)) rfl rfl (noH_nil rfl),
  ⟨fun hd => mk7 fld_7_6 (Or.inl W320) (Or.inl rfl) (Or.inl rfl) (hd rfl),
  ⟨fun hd => mk7 fld_7_7 (Or.inl W321) (Or.inl rfl) (Or.inl rfl) (hd rfl),
  ⟨fun hd => mk6 fld_7_7 (Or.inl ⟨rfl, by decide⟩) (Or.inl W321) (Or.inl rfl) (hd rfl),
  trivial⟩⟩⟩⟩⟩⟩⟩⟩⟩⟩⟩⟩⟩⟩⟩⟩⟩⟩⟩⟩⟩
theorem fe_320 : eqEs ((flat code_320).filter (fun e => ndE e.2.2.1)) (fl_320_0) = true := by decide +kernel
theorem om_320 : OKm mi iT prg 320 := OKm_of (code := code_320) rfl mt_320 (Or.inl (by decide +kernel)) rfl wk_320 (by decide +kernel) (by decide +kernel) (FA_of fe_320 (fb_320_0))
def fl_321_0 : List Ent := [(2, 3, 6, .getfield 72, [0, 25, 138], 0), (7, 3, 7, .putfield 72, [0, 25, 138], 0), (11, 3, 19, .invokevirtual 89, [0, 1, 1, 25, 638], 0), (19, 3, 19, .invokevirtual 93, [0, 1, 1, 25, 639], 0), (23, 3, 19, .invokevirtual 96, [0, 1, 1, 25, 640], 0), (26, 3, 19, .invokevirtual 99, [3, 3, 3, 22, 487], 0), (30, 3, 7, .putfield 105, [0, 23, 124], 0), (35, 3, 6, .getfield 108, [0, 25, 133], 0), (38, 3, 18, .invokestatic 111, [0, 2, 2, 67], 0), (45, 3, 6, .getfield 108, [0, 25, 133], 0), (51, 3, 7, .putfield 108, [0, 25, 133], 0), (56, 3, 6, .getfield 116, [0, 7, 29], 0), (62, 3, 7, .putfield 116, [0, 7, 29], 0), (67, 3, 6, .getfield 119, [0, 7, 30], 0), (75, 3, 7, .putfield 119, [0, 7, 30], 0), (79, 3, 19, .invokevirtual 122, [0, 1, 1, 25, 633], 0), (88, 3, 19, .invokevirtual 125, [9, 3, 3, 7, 322], 0)]
theorem fb_321_0 : FB mi iT mi_321 (bpc code_321) (fl_321_0) := ⟨fun hd => mk6 fld_25_10 (Or.inl ⟨rfl, by decide⟩) (Or.inr ⟨_, W2187⟩) (Or.inl rfl) (hd rfl),
  ⟨fun hd => mk7 fld_25_10 (Or.inr ⟨_, W2187⟩) (Or.inl rfl) (Or.inl rfl) (hd rfl),
  ⟨fun hd => mk19 mt_638 cf_638 (vf_638_25.rt (Or.inl W3417) (hd rfl)) rfl rfl (noH_nil rfl),
  ⟨fun hd => mk19 mt_639 cf_639 (vf_639_25.rt (Or.inl W3418) (hd rfl)) rfl rfl (noH_nil rfl),
  ⟨fun hd => mk19 mt_640 cf_640 (vf_640_25.rt (Or.inl W3419) (hd rfl)) rfl rfl (noH_nil rfl),
  ⟨fun hd => mk19 mt_487 cf_487 (vf_487_22.rt (Or.inl W3420) (hd rfl)) rfl rfl (noH_nil rfl),
  ⟨fun hd => mk7 fld_23_5 (Or.inr ⟨_, W2088⟩) (Or.inl rfl) (Or.inl rfl) (hd rfl),
  ⟨fun hd => mk6 fld_25_5 (Or.inl ⟨rfl, by decide⟩) (Or.inr ⟨_, W2178⟩) (Or.inl rfl) (hd rfl),
  ⟨fun hd => mk18 mt_67 sf_67 (Or.inl W3421) rfl rfl (noH_nil rfl) (hd rfl),
  ⟨fun hd => mk6 fld_25_5 (Or.inl ⟨rfl, by decide⟩) (Or.inr ⟨_, W2178⟩) (Or.inl rfl) (hd rfl),
  ⟨fun hd => mk7 fld_25_5 (Or.inr ⟨_, W2178⟩) (Or.inl rfl) (Or.inl rfl) (hd rfl),
  ⟨fun hd => mk6 fld_7_4 (Or.inl ⟨rfl, by decide⟩) (Or.inl W316) (Or.inl rfl) (hd rfl),
  ⟨fun hd => mk7 fld_7_4 (Or.inl W316) (Or.inl rfl) (Or.inl rfl) (hd rfl),
  ⟨fun hd => mk6 fld_7_5 (Or.inl ⟨rfl, by decide⟩) (Or.inl W318) (Or.inl rfl) (hd rfl),
  ⟨fun hd => mk7 fld_7_5 (Or.inl W318) (Or.inl rfl) (Or.inl rfl) (hd rfl),
  ⟨fun hd => mk19 mt_633 cf_633 (vf_633_25.rt (Or.inl W3422) (hd rfl)) rfl rfl (noH_nil rfl),
  ⟨fun hd => mk19 mt_322 cf_322 (vf_322_7.rt (Or.inl W3423) (hd rfl)) rfl rfl (noH_nil rfl),
  trivial⟩⟩⟩⟩⟩⟩⟩⟩⟩⟩⟩⟩⟩⟩⟩⟩⟩
theorem fe_321 : eqEs ((flat code_321).filter (fun e => ndE e.2.2.1)) (fl_321_0) = true := by decide +kernel
theorem om_321 : OKm mi iT prg 321 := OKm_of (code := code_321) rfl mt_321 (Or.inl (by decide +kernel)) rfl wk_321 (by decide +kernel) (by decide +kernel) (FA_of fe_321 (fb_321_0))
def fl_322_0 : List Ent := [(1, 3, 6, .getfield 129, [0, 25, 134], 0), (9, 3, 7, .putfield 129, [4, 25, 134], 0), (13, 3, 19, .invokevirtual 132, [0, 1, 1, 7, 323], 0), (22, 3, 7, .putfield 135, [4, 25, 135], 0), (27, 3, 6, .getfield 138, [0, 25, 132], 0), (31, 3, 18, .invokestatic 141, [0, 2, 2, 198], 0), (34, 3, 7, .putfield 108, [0, 25, 133], 0), (39, 3, 6, .getfield 144, [0, 7, 28], 0), (44, 3, 7, .putfield 144, [0, 7, 28], 0), (49, 3, 19, .invokevirtual 89, [0, 1, 1, 25, 638], 0), (57, 3, 19, .invokevirtual 93, [0, 1, 1, 25, 639], 0), (61, 3, 19, .invokevirtual 96, [0, 1, 1, 25, 640], 0), (64, 3, 19, .invokevirtual 99, [3, 3, 3, 22, 487], 0), (67, 3, 19, .invokevirtual 147, [9, 1, 1, 23, 597], 0)]
theorem fb_322_0 : FB mi iT mi_322 (bpc code_322) (fl_322_0) := ⟨fun hd => mk6 fld_25_6 (Or.inr ⟨rfl, Or.inl rfl⟩) (Or.inr ⟨_, W2180⟩) (Or.inl rfl) (hd rfl),
  ⟨fun hd => mk7 fld_25_6 (Or.inr ⟨_, W2180⟩) (Or.inl rfl) (Or.inl rfl) (hd rfl),
  ⟨fun hd => mk19 mt_323 cf_323 (vf_323_7.rt (Or.inl W3427) (hd rfl)) rfl rfl (noH_nil rfl),
  ⟨fun hd => mk7 fld_25_7 (Or.inr ⟨_, W2181⟩) (Or.inl rfl) (Or.inl rfl) (hd rfl),
  ⟨fun hd => mk6 fld_25_4 (Or.inl ⟨rfl, by decide⟩) (Or.inr ⟨_, W2174⟩) (Or.inl rfl) (hd rfl),
  ⟨fun hd => mk18 mt_198 sf_198 (Or.inr ⟨⟨_, W3431⟩, _, _, rfl⟩) rfl rfl (noH_nil rfl) (hd rfl),
  ⟨fun hd => mk7 fld_25_5 (Or.inr ⟨_, W2178⟩) (Or.inl rfl) (Or.inl rfl) (hd rfl),
  ⟨fun hd => mk6 fld_7_3 (Or.inl ⟨rfl, by decide⟩) (Or.inl W314) (Or.inl rfl) (hd rfl),
  ⟨fun hd => mk7 fld_7_3 (Or.inl W314) (Or.inl rfl) (Or.inl rfl) (hd rfl),
  ⟨fun hd => mk19 mt_638 cf_638 (vf_638_25.rt (Or.inl W3417) (hd rfl)) rfl rfl (noH_nil rfl),
  ⟨fun hd => mk19 mt_639 cf_639 (vf_639_25.rt (Or.inl W3418) (hd rfl)) rfl rfl (noH_nil rfl),
  ⟨fun hd => mk19 mt_640 cf_640 (vf_640_25.rt (Or.inl W3419) (hd rfl)) rfl rfl (noH_nil rfl),
  ⟨fun hd => mk19 mt_487 cf_487 (vf_487_22.rt (Or.inl W3420) (hd rfl)) rfl rfl (noH_nil rfl),
  ⟨fun hd => mk19 mt_597 cf_597 (vf_597_23.rt (Or.inl W3432) (hd rfl)) rfl rfl (noH_nil rfl),
  trivial⟩⟩⟩⟩⟩⟩⟩⟩⟩⟩⟩⟩⟩⟩
theorem fe_322 : eqEs ((flat code_322).filter (fun e => ndE e.2.2.1)) (fl_322_0) = true := by decide +kernel
theorem om_322 : OKm mi iT prg 322 := OKm_of (code := code_322) rfl mt_322 (Or.inl (by decide +kernel)) rfl wk_322 (by decide +kernel) (by decide +kernel) (FA_of fe_322 (fb_322_0))
def fl_323_0 : List Ent := [(4, 3, 6, .getfield 19, [0, 7, 27], 0), (13, 3, 7, .putfield 19, [0, 7, 27], 0), (17, 3, 6, .getfield 19, [0, 7, 27], 0)]
theorem fb_323_0 : FB mi iT mi_323 (bpc code_323) (fl_323_0) := ⟨fun hd => mk6 fld_7_2 (Or.inl ⟨rfl, by decide⟩) (Or.inl W312) (Or.inl rfl) (hd rfl),
  ⟨fun hd => mk7 fld_7_2 (Or.inl W312) (Or.inl rfl) (Or.inl rfl) (hd rfl),
  ⟨fun hd => mk6 fld_7_2 (Or.inl ⟨rfl, by decide⟩) (Or.inl W312) (Or.inl rfl) (hd rfl),
  trivial⟩⟩⟩
theorem fe_323 : eqEs ((flat code_323).filter (fun e => ndE e.2.2.1)) (fl_323_0) = true := by decide +kernel
theorem om_323 : OKm mi iT prg 323 := OKm_of (code := code_323) rfl mt_323 (Or.inl (by decide +kernel)) rfl wk_323 (by decide +kernel) (by decide +kernel) (FA_of fe_323 (fb_323_0))
def fl_324_0 : List Ent := [(1, 3, 6, .getfield 15, [3, 7, 25], 0), (4, 3, 19, .invokevirtual 150, [3, 1, 1, 5, 4], 0), (11, 5, 34, .invokeinterface 154 1, [0, 1, 1, 11, 87], 0), (21, 5, 34, .invokeinterface 159 1, [3, 1, 1, 11, 88], 0), (26, 3, 17, .checkcast 45, [22], 0), (33, 3, 19, .invokevirtual 163, [9, 1, 1, 22, 493], 0), (45, 3, 6, .getfield 11, [3, 7, 26], 0), (53, 1, 9, .iastore, [0, 100], 0), (68, 3, 6, .getfield 47, [3, 22, 102], 0), (73, 3, 19, .invokevirtual 166, [0, 2, 2, 12, 627], 0), (84, 3, 18, .invokestatic 169, [0, 1, 1, 245], 0), (93, 3, 19, .invokevirtual 173, [9, 3, 3, 7, 325], 0), (105, 3, 6, .getfield 11, [3, 7, 26], 0), (113, 1, 9, .iastore, [0, 100], 0), (115, 3, 6, .getfield 15, [3, 7, 25], 0), (118, 3, 19, .invokevirtual 150, [3, 1, 1, 5, 4], 0), (125, 5, 34, .invokeinterface 154 1, [0, 1, 1, 11, 87], 0), (135, 5, 34, .invokeinterface 159 1, [3, 1, 1, 11, 88], 0), (140, 3, 17, .checkcast 45, [22], 0), (147, 3, 19, .invokevirtual 177, [9, 1, 1, 22, 494], 0)]
theorem fb_324_0 : FB mi iT mi_324 (bpc code_324) (fl_324_0) := ⟨fun hd => mk6 fld_7_0 (Or.inl ⟨rfl, by decide⟩) (Or.inl W309) (Or.inl rfl) (hd rfl),
  ⟨fun hd => mk19 mt_4 cf_4 (vf_4_5.rt (Or.inl W3520) (hd rfl)) rfl rfl (noH_nil rfl),
  ⟨fun hd => mk34 mt_87 cf_87 (ff_87_11.rt W3522 (hd rfl)) rfl rfl,
  ⟨fun hd => mk34 mt_88 cf_88 (ff_88_11.rt W3524 (hd rfl)) rfl rfl,
  ⟨fun hd => mk17 kx_22 W3370 (hd rfl),
  ⟨fun hd => mk19 mt_493 cf_493 (vf_493_22.rt (Or.inl W3525) (hd rfl)) rfl rfl (noH_nil rfl),
  ⟨fun hd => mk6 fld_7_1 (Or.inl ⟨rfl, by decide⟩) (Or.inl W310) (Or.inl rfl) (hd rfl),
  ⟨fun hd => ⟨_, _, _, rfl, rfl, hd rfl, Or.inl ⟨rfl, rfl, rfl⟩⟩,
  ⟨fun hd => mk6 fld_22_10 (Or.inl ⟨rfl, by decide⟩) (Or.inr ⟨_, W2287⟩) (Or.inl rfl) (hd rfl),
  ⟨fun hd => mk19 mt_627 cf_627 (vf_627_12.rt (Or.inl W3530) (hd rfl)) rfl rfl (noH_nil rfl),
  ⟨fun hd => mk18 mt_245 sf_245 (Or.inr ⟨⟨_, W3531⟩, _, _, rfl⟩) rfl rfl (noH_nil rfl) (hd rfl),
  ⟨fun hd => mk19 mt_325 cf_325 (vf_325_7.rt (Or.inl W3532) (hd rfl)) rfl rfl (noH_nil rfl),
  ⟨fun hd => mk6 fld_7_1 (Or.inl ⟨rfl, by decide⟩) (Or.inl W310) (Or.inl rfl) (hd rfl),
  ⟨fun hd => ⟨_, _, _, rfl, rfl, hd rfl, Or.inl ⟨rfl, rfl, rfl⟩⟩,
  ⟨fun hd => mk6 fld_7_0 (Or.inl ⟨rfl, by decide⟩) (Or.inl W309) (Or.inl rfl) (hd rfl),
  ⟨fun hd => mk19 mt_4 cf_4 (vf_4_5.rt (Or.inl W3520) (hd rfl)) rfl rfl (noH_nil rfl),
  ⟨fun hd => mk34 mt_87 cf_87 (ff_87_11.rt W3522 (hd rfl)) rfl rfl,
  ⟨fun hd => mk34 mt_88 cf_88 (ff_88_11.rt W3524 (hd rfl)) rfl rfl,
  ⟨fun hd => mk17 kx_22 W3370 (hd rfl),
  ⟨fun hd => mk19 mt_494 cf_494 (vf_494_22.rt (Or.inl W3536) (hd rfl)) rfl rfl (noH_nil rfl),
  trivial⟩⟩⟩⟩⟩⟩⟩⟩⟩⟩⟩⟩⟩⟩⟩⟩⟩⟩⟩⟩
theorem fe_324 : eqEs ((flat code_324).filter (fun e => ndE e.2.2.1)) (fl_324_0) = true := by decide +kernel
theorem om_324 : OKm mi iT prg 324 := OKm_of (code := code_324) rfl mt_324 (Or.inl (by decide +kernel)) rfl wk_324 (by decide +kernel) (by decide +kernel) (FA_of fe_324 (fb_324_0))
def fl_325_0 : List Ent := [(1, 3, 19, .invokevirtual 74, [9, 1, 1, 7, 318], 0), (13, 3, 18, .invokestatic 77, [0, 2, 2, 319], 0), (24, 3, 6, .getfield 11, [3, 7, 26], 0), (40, 3, 19, .invokevirtual 81, [0, 3, 3, 7, 320], 0), (47, 3, 6, .getfield 31, [3, 7, 32], 0), (51, 3, 6, .getfield 72, [0, 25, 138], 0), (56, 3, 7, .putfield 72, [0, 25, 138], 0), (60, 3, 6, .getfield 31, [3, 7, 32], 0), (64, 3, 6, .getfield 108, [0, 25, 133], 0), (70, 3, 6, .getfield 31, [3, 7, 32], 0), (73, 3, 6, .getfield 108, [0, 25, 133], 0), (76, 3, 18, .invokestatic 111, [0, 2, 2, 67], 0), (80, 3, 7, .putfield 108, [0, 25, 133], 0)]
theorem fb_325_0 : FB mi iT mi_325 (bpc code_325) (fl_325_0) := ⟨fun hd => mk19 mt_318 cf_318 (vf_318_7.rt (Or.inl W3364) (hd rfl)) rfl rfl (noH_nil rfl),
  ⟨fun hd => mk18 mt_319 sf_319 (Or.inl W3372) rfl rfl (noH_nil rfl) (hd rfl),
  ⟨fun hd => mk6 fld_7_1 (Or.inl ⟨rfl, by decide⟩) (Or.inl W310) (Or.inl rfl) (hd rfl),
  ⟨fun hd => mk19 mt_320 cf_320 (vf_320_7.rt (Or.inl W3378) (hd rfl)) rfl rfl (noH_nil rfl),
  ⟨fun hd => mk6 fld_7_7 (Or.inl ⟨rfl, by decide⟩) (Or.inl W321) (Or.inl rfl) (hd rfl),
  ⟨fun hd => mk6 fld_25_10 (Or.inl ⟨rfl, by decide⟩) (Or.inr ⟨_, W2187⟩) (Or.inl rfl) (hd rfl),
  ⟨fun hd => mk7 fld_25_10 (Or.inr ⟨_, W2187⟩) (Or.inl rfl) (Or.inl rfl) (hd rfl),
  ⟨fun hd => mk6 fld_7_7 (Or.inl ⟨rfl, by decide⟩) (Or.inl W321) (Or.inl rfl) (hd rfl),
  ⟨fun hd => mk6 fld_25_5 (Or.inl ⟨rfl, by decide⟩) (Or.inr ⟨_, W2178⟩) (Or.inl rfl) (hd rfl),
  ⟨fun hd => mk6 fld_7_7 (Or.inl ⟨rfl, by decide⟩) (Or.inl W321) (Or.inl rfl) (hd rfl),
  ⟨fun hd => mk6 fld_25_5 (Or.inl ⟨rfl, by decide⟩) (Or.inr ⟨_, W2178⟩) (Or.inl rfl) (hd rfl),
  ⟨fun hd => mk18 mt_67 sf_67 (Or.inl W3421) rfl rfl (noH_nil rfl) (hd rfl),
  ⟨fun hd => mk7 fld_25_5 (Or.inr ⟨_, W2178⟩) (Or.inl rfl) (Or.inl rfl) (hd rfl),
  trivial⟩⟩⟩⟩⟩⟩⟩⟩⟩⟩⟩⟩⟩
theorem fe_325 : eqEs ((flat code_325).filter (fun e => ndE e.2.2.1)) (fl_325_0) = true := by decide +kernel
theorem om_325 : OKm mi iT prg 325 := OKm_of (code := code_325) rfl mt_325 (Or.inl (by decide +kernel)) rfl wk_325 (by decide +kernel) (by decide +kernel) (FA_of fe_325 (fb_325_0))
def fl_326_0 : List Ent := [(1, 3, 22, .invokespecial 3, [], 0), (5, 3, 11, .new 9, [5, 3], 0), (9, 3, 36, .invokespecial 11, [9, 1, 1, 5, 3], 0), (12, 3, 7, .putfield 12, [3, 8, 34], 0), (17, 3, 7, .putfield 18, [3, 8, 33], 0)]
theorem fb_326_0 : FB mi iT mi_326 (bpc code_326) (fl_326_0) := ⟨fun hd => mk22 (by decide) W344 oi_w (hd rfl),
  ⟨fun hd => mk11 nf_5 W345 (hd rfl),
  ⟨fun hd => mk36 mt_3 cf_3 (ic_3.rt (Or.inl W346) (hd rfl)) rfl rfl,
  ⟨fun hd => mk7 fld_8_1 (Or.inl W348) (Or.inl rfl) (Or.inr ⟨rfl, rfl, rfl, W348⟩) (hd rfl),
  ⟨fun hd => mk7 fld_8_0 (Or.inl W347) (Or.inl rfl) (Or.inr ⟨rfl, rfl, rfl, W347⟩) (hd rfl),
  trivial⟩⟩⟩⟩⟩
theorem fe_326 : eqEs ((flat code_326).filter (fun e => ndE e.2.2.1)) (fl_326_0) = true := by decide +kernel
theorem om_326 : OKm mi iT prg 326 := OKm_of (code := code_326) rfl mt_326 (Or.inl (by decide +kernel)) rfl wk_326 (by decide +kernel) (by decide +kernel) (FA_of fe_326 (fb_326_0))
def fl_327_0 : List Ent := [(1, 3, 19, .invokevirtual 161, [3, 1, 1, 5, 4], 0), (6, 5, 34, .invokeinterface 165 1, [0, 1, 1, 11, 87], 0), (15, 5, 34, .invokeinterface 170 1, [3, 1, 1, 11, 88], 0), (20, 3, 17, .checkcast 51, [22], 0), (28, 3, 6, .getfield 12, [3, 8, 34], 0), (31, 3, 19, .invokevirtual 161, [3, 1, 1, 5, 4], 0), (38, 5, 34, .invokeinterface 165 1, [0, 1, 1, 11, 87], 0), (48, 5, 34, .invokeinterface 170 1, [3, 1, 1, 11, 88], 0), (53, 3, 17, .checkcast 34, [33], 0), (63, 3, 19, .invokevirtual 36, [0, 2, 2, 33, 751], 0), (92, 3, 6, .getfield 50, [3, 22, 105], 0), (95, 3, 13, .getstatic 173, [25], 0)]
theorem fb_327_0 : FB mi iT mi_327 (bpc code_327) (fl_327_0) := ⟨fun hd => mk19 mt_4 cf_4 (vf_4_5.rt (Or.inl W535) (hd rfl)) rfl rfl (noH_nil rfl),
  ⟨fun hd => mk34 mt_87 cf_87 (ff_87_11.rt W537 (hd rfl)) rfl rfl,
  ⟨fun hd => mk34 mt_88 cf_88 (ff_88_11.rt W539 (hd rfl)) rfl rfl,
  ⟨fun hd => mk17 kx_22 W540 (hd rfl),
  ⟨fun hd => mk6 fld_8_1 (Or.inl ⟨rfl, by decide⟩) (Or.inl W348) (Or.inl rfl) (hd rfl),
  ⟨fun hd => mk19 mt_4 cf_4 (vf_4_5.rt (Or.inl W535) (hd rfl)) rfl rfl (noH_nil rfl),
  ⟨fun hd => mk34 mt_87 cf_87 (ff_87_11.rt W537 (hd rfl)) rfl rfl,
  ⟨fun hd => mk34 mt_88 cf_88 (ff_88_11.rt W539 (hd rfl)) rfl rfl,
  ⟨fun hd => mk17 kx_33 W541 (hd rfl),
  ⟨fun hd => mk19 mt_751 cf_751 (vf_751_33.rt (Or.inl W542) (hd rfl)) rfl rfl (noH_nil rfl),
  ⟨fun hd => mk6 fld_22_13 (Or.inl ⟨rfl, by decide⟩) (Or.inr ⟨_, W2295⟩) (Or.inl rfl) (hd rfl),
  ⟨fun hd => mk13s (by decide) rfl (Or.inl W546) (Or.inl rfl) (hd rfl),
  trivial⟩⟩⟩⟩⟩⟩⟩⟩⟩⟩⟩⟩
theorem fe_327 : eqEs ((flat code_327).filter (fun e => ndE e.2.2.1)) (fl_327_0) = true := by decide +kernel
theorem om_327 : OKm mi iT prg 327 := OKm_of (code := code_327) rfl mt_327 (Or.inl (by decide +kernel)) rfl wk_327 (by decide +kernel) (by decide +kernel) (FA_of fe_327 (fb_327_0))
def fl_328_0 : List Ent := [(2, 3, 19, .invokevirtual 62, [3, 2, 2, 8, 329], 0), (7, 3, 19, .invokevirtual 66, [0, 1, 1, 29, 91], 0), (15, 3, 19, .invokevirtual 109, [3, 1, 1, 29, 92], 0), (18, 3, 17, .checkcast 34, [33], 0), (22, 3, 19, .invokevirtual 109, [3, 1, 1, 29, 92], 0), (25, 3, 17, .checkcast 34, [33], 0), (28, 3, 6, .getfield 99, [0, 33, 173], 0), (35, 3, 19, .invokevirtual 102, [9, 3, 3, 8, 330], 0)]
theorem fb_328_0 : FB mi iT mi_328 (bpc code_328) (fl_328_0) := ⟨fun hd => mk19 mt_329 cf_329 (vf_329_8.rt (Or.inl W3249) (hd rfl)) rfl rfl (noH_nil rfl),
  ⟨fun hd => mk19 mt_91 cf_91 (vf_91_29.rt (Or.inl W3257) (hd rfl)) rfl rfl (noH_nil rfl),
  ⟨fun hd => mk19 mt_92 cf_92 (vf_92_29.rt (Or.inl W3258) (hd rfl)) rfl rfl (noH_nil rfl),
  ⟨fun hd => mk17 kx_33 W541 (hd rfl),
  ⟨fun hd => mk19 mt_92 cf_92 (vf_92_29.rt (Or.inl W3258) (hd rfl)) rfl rfl (noH_nil rfl),
  ⟨fun hd => mk17 kx_33 W541 (hd rfl),
  ⟨fun hd => mk6 fld_33_7 (Or.inl ⟨rfl, by decide⟩) (Or.inr ⟨_, W3686⟩) (Or.inl rfl) (hd rfl),
  ⟨fun hd => mk19 mt_330 cf_330 (vf_330_8.rt (Or.inl W3259) (hd rfl)) rfl rfl (noH_nil rfl),
  trivial⟩⟩⟩⟩⟩⟩⟩⟩
theorem fe_328 : eqEs ((flat code_328).filter (fun e => ndE e.2.2.1)) (fl_328_0) = true := by decide +kernel
theorem om_328 : OKm mi iT prg 328 := OKm_of (code := code_328) rfl mt_328 (Or.inl (by decide +kernel)) rfl wk_328 (by decide +kernel) (by decide +kernel) (FA_of fe_328 (fb_328_0))
def fl_329_0 : List Ent := [(4, 3, 6, .getfield 12, [3, 8, 34], 0), (7, 3, 19, .invokevirtual 22, [0, 1, 1, 5, 5], 0), (14, 3, 6, .getfield 12, [3, 8, 34], 0), (18, 3, 19, .invokevirtual 30, [3, 2, 2, 5, 6], 0), (21, 3, 17, .checkcast 34, [33], 0), (25, 3, 19, .invokevirtual 36, [0, 2, 2, 33, 751], 0), (32, 3, 6, .getfield 12, [3, 8, 34], 0), (36, 3, 19, .invokevirtual 30, [3, 2, 2, 5, 6], 0), (39, 3, 17, .checkcast 34, [33], 0), (42, 3, 18, .invokestatic 40, [3, 1, 1, 93], 0), (52, 3, 18, .invokestatic 46, [3, 0, 0, 90], 0)]
theorem fb_329_0 : FB mi iT mi_329 (bpc code_329) (fl_329_0) := ⟨fun hd => mk6 fld_8_1 (Or.inl ⟨rfl, by decide⟩) (Or.inl W348) (Or.inl rfl) (hd rfl),
  ⟨fun hd => mk19 mt_5 cf_5 (vf_5_5.rt (Or.inl W3253) (hd rfl)) rfl rfl (noH_nil rfl),
  ⟨fun hd => mk6 fld_8_1 (Or.inl ⟨rfl, by decide⟩) (Or.inl W348) (Or.inl rfl) (hd rfl),
  ⟨fun hd => mk19 mt_6 cf_6 (vf_6_5.rt (Or.inl W3254) (hd rfl)) rfl rfl (noH_nil rfl),
  ⟨fun hd => mk17 kx_33 W541 (hd rfl),
  ⟨fun hd => mk19 mt_751 cf_751 (vf_751_33.rt (Or.inl W542) (hd rfl)) rfl rfl (noH_nil rfl),
  ⟨fun hd => mk6 fld_8_1 (Or.inl ⟨rfl, by decide⟩) (Or.inl W348) (Or.inl rfl) (hd rfl),
  ⟨fun hd => mk19 mt_6 cf_6 (vf_6_5.rt (Or.inl W3254) (hd rfl)) rfl rfl (noH_nil rfl),
  ⟨fun hd => mk17 kx_33 W541 (hd rfl),
  ⟨fun hd => mk18 mt_93 sf_93 (Or.inl W3255) rfl rfl (noH_nil rfl) (hd rfl),
  ⟨fun hd => mk18 mt_90 sf_90 (Or.inl W3256) rfl rfl (noH_nil rfl) (hd rfl),
  trivial⟩⟩⟩⟩⟩⟩⟩⟩⟩⟩⟩
theorem fe_329 : eqEs ((flat code_329).filter (fun e => ndE e.2.2.1)) (fl_329_0) = true := by decide +kernel
theorem om_329 : OKm mi iT prg 329 := OKm_of (code := code_329) rfl mt_329 (Or.inl (by decide +kernel)) rfl wk_329 (by decide +kernel) (by decide +kernel) (FA_of fe_329 (fb_329_0))
def fl_330_0 : List Ent := [(2, 3, 6, .getfield 69, [0, 33, 175], 0), (7, 3, 7, .putfield 69, [0, 33, 175], 0), (11, 3, 6, .getfield 18, [3, 8, 33], 0), (14, 3, 13, .getstatic 73, [34], 0), (18, 3, 6, .getfield 79, [3, 33, 172], 0), (22, 3, 19, .invokevirtual 83, [9, 4, 4, 3, 286], 0)]
theorem fb_330_0 : FB mi iT mi_330 (bpc code_330) (fl_330_0) := ⟨fun hd => mk6 fld_33_9 (Or.inl ⟨rfl, by decide⟩) (Or.inr ⟨_, W3690⟩) (Or.inl rfl) (hd rfl),
  ⟨fun hd => mk7 fld_33_9 (Or.inr ⟨_, W3690⟩) (Or.inl rfl) (Or.inl rfl) (hd rfl),
  ⟨fun hd => mk6 fld_8_0 (Or.inl ⟨rfl, by decide⟩) (Or.inl W347) (Or.inl rfl) (hd rfl),
  ⟨fun hd => mk13s (by decide) rfl (Or.inl W3263) (Or.inl rfl) (hd rfl),
  ⟨fun hd => mk6 fld_33_6 (Or.inl ⟨rfl, by decide⟩) (Or.inr ⟨_, W3683⟩) (Or.inl rfl) (hd rfl),
  ⟨fun hd => mk19 mt_286 cf_286 (vf_286_3.rt (Or.inl W3265) (hd rfl)) rfl rfl (noH_nil rfl),
  trivial⟩⟩⟩⟩⟩⟩
theorem fe_330 : eqEs ((flat code_330).filter (fun e => ndE e.2.2.1)) (fl_330_0) = true := by decide +kernel
theorem om_330 : OKm mi iT prg 330 := OKm_of (code := code_330) rfl mt_330 (Or.inl (by decide +kernel)) rfl wk_330 (by decide +kernel) (by decide +kernel) (FA_of fe_330 (fb_330_0))
def fl_331_0 : List Ent := [(4, 3, 6, .getfield 12, [3, 8, 34], 0), (7, 3, 19, .invokevirtual 22, [0, 1, 1, 5, 5], 0), (14, 3, 6, .getfield 12, [3, 8, 34], 0), (18, 3, 19, .invokevirtual 30, [3, 2, 2, 5, 6], 0), (21, 3, 17, .checkcast 34, [33], 0), (26, 3, 6, .getfield 96, [0, 33, 171], 0), (37, 3, 6, .getfield 79, [3, 33, 172], 0), (40, 3, 6, .getfield 50, [3, 22, 105], 0), (43, 3, 13, .getstatic 112, [18], 0), (51, 3, 19, .invokevirtual 115, [9, 2, 2, 8, 332], 0), (59, 3, 6, .getfield 119, [0, 33, 169], 0), (67, 3, 19, .invokevirtual 122, [9, 2, 2, 8, 333], 0)]
theorem fb_331_0 : FB mi iT mi_331 (bpc code_331) (fl_331_0) := ⟨fun hd => mk6 fld_8_1 (Or.inl ⟨rfl, by decide⟩) (Or.inl W348) (Or.inl rfl) (hd rfl),
  ⟨fun hd => mk19 mt_5 cf_5 (vf_5_5.rt (Or.inl W3253) (hd rfl)) rfl rfl (noH_nil rfl),
  ⟨fun hd => mk6 fld_8_1 (Or.inl ⟨rfl, by decide⟩) (Or.inl W348) (Or.inl rfl) (hd rfl),
  ⟨fun hd => mk19 mt_6 cf_6 (vf_6_5.rt (Or.inl W3254) (hd rfl)) rfl rfl (noH_nil rfl),
  ⟨fun hd => mk17 kx_33 W541 (hd rfl),
  ⟨fun hd => mk6 fld_33_5 (Or.inl ⟨rfl, by decide⟩) (Or.inr ⟨_, W3680⟩) (Or.inl rfl) (hd rfl),
  ⟨fun hd => mk6 fld_33_6 (Or.inl ⟨rfl, by decide⟩) (Or.inr ⟨_, W3683⟩) (Or.inl rfl) (hd rfl),
  ⟨fun hd => mk6 fld_22_13 (Or.inl ⟨rfl, by decide⟩) (Or.inr ⟨_, W2295⟩) (Or.inl rfl) (hd rfl),
  ⟨fun hd => mk13s (by decide) rfl (Or.inl W3469) (Or.inl rfl) (hd rfl),
  ⟨fun hd => mk19 mt_332 cf_332 (vf_332_8.rt (Or.inl W3470) (hd rfl)) rfl rfl (noH_nil rfl),
  ⟨fun hd => mk6 fld_33_3 (Or.inl ⟨rfl, by decide⟩) (Or.inr ⟨_, W3676⟩) (Or.inl rfl) (hd rfl),
  ⟨fun hd => mk19 mt_333 cf_333 (vf_333_8.rt (Or.inl W3474) (hd rfl)) rfl rfl (noH_nil rfl),
  trivial⟩⟩⟩⟩⟩⟩⟩⟩⟩⟩⟩⟩
theorem fe_331 : eqEs ((flat code_331).filter (fun e => ndE e.2.2.1)) (fl_331_0) = true := by decide +kernel
theorem om_331 : OKm mi iT prg 331 := OKm_of (code := code_331) rfl mt_331 (Or.inl (by decide +kernel)) rfl wk_331 (by decide +kernel) (by decide +kernel) (FA_of fe_331 (fb_331_0))
def fl_332_0 : List Ent := [(2, 3, 7, .putfield 96, [0, 33, 171], 0), (6, 3, 6, .getfield 18, [3, 8, 33], 0), (9, 3, 13, .getstatic 73, [34], 0), (13, 3, 6, .getfield 79, [3, 33, 172], 0), (17, 3, 6, .getfield 69, [0, 33, 175], 0), (21, 3, 19, .invokevirtual 83, [9, 4, 4, 3, 286], 0), (26, 3, 7, .putfield 69, [0, 33, 175], 0)]
theorem fb_332_0 : FB mi iT mi_332 (bpc code_332) (fl_332_0) := ⟨fun hd => mk7 fld_33_5 (Or.inr ⟨_, W3680⟩) (Or.inl rfl) (Or.inl rfl) (hd rfl),
  ⟨fun hd => mk6 fld_8_0 (Or.inl ⟨rfl, by decide⟩) (Or.inl W347) (Or.inl rfl) (hd rfl),
  ⟨fun hd => mk13s (by decide) rfl (Or.inl W3263) (Or.inl rfl) (hd rfl),
  ⟨fun hd => mk6 fld_33_6 (Or.inl ⟨rfl, by decide⟩) (Or.inr ⟨_, W3683⟩) (Or.inl rfl) (hd rfl),
  ⟨fun hd => mk6 fld_33_9 (Or.inl ⟨rfl, by decide⟩) (Or.inr ⟨_, W3690⟩) (Or.inl rfl) (hd rfl),
  ⟨fun hd => mk19 mt_286 cf_286 (vf_286_3.rt (Or.inl W3265) (hd rfl)) rfl rfl (noH_nil rfl),
  ⟨fun hd => mk7 fld_33_9 (Or.inr ⟨_, W3690⟩) (Or.inl rfl) (Or.inl rfl) (hd rfl),
  trivial⟩⟩⟩⟩⟩⟩⟩
theorem fe_332 : eqEs ((flat code_332).filter (fun e => ndE e.2.2.1)) (fl_332_0) = true := by decide +kernel
theorem om_332 : OKm mi iT prg 332 := OKm_of (code := code_332) rfl mt_332 (Or.inl (by decide +kernel)) rfl wk_332 (by decide +kernel) (by decide +kernel) (FA_of fe_332 (fb_332_0))
def fl_333_0 : List Ent := [(2, 3, 6, .getfield 125, [0, 33, 174], 0), (7, 3, 7, .putfield 125, [0, 33, 174], 0), (11, 3, 6, .getfield 18, [3, 8, 33], 0), (14, 3, 13, .getstatic 128, [35], 0), (18, 3, 6, .getfield 79, [3, 33, 172], 0), (22, 3, 6, .getfield 99, [0, 33, 173], 0), (29, 3, 19, .invokevirtual 83, [9, 4, 4, 3, 286], 0), (33, 3, 6, .getfield 125, [0, 33, 174], 0), (43, 3, 19, .invokevirtual 115, [9, 2, 2, 8, 332], 0)]
theorem fb_333_0 : FB mi iT mi_333 (bpc code_333) (fl_333_0) := ⟨fun hd => mk6 fld_33_8 (Or.inl ⟨rfl, by decide⟩) (Or.inr ⟨_, W3688⟩) (Or.inl rfl) (hd rfl),
  ⟨fun hd => mk7 fld_33_8 (Or.inr ⟨_, W3688⟩) (Or.inl rfl) (Or.inl rfl) (hd rfl),
  ⟨fun hd => mk6 fld_8_0 (Or.inl ⟨rfl, by decide⟩) (Or.inl W347) (Or.inl rfl) (hd rfl),
  ⟨fun hd => mk13s (by decide) rfl (Or.inl W3478) (Or.inl rfl) (hd rfl),
  ⟨fun hd => mk6 fld_33_6 (Or.inl ⟨rfl, by decide⟩) (Or.inr ⟨_, W3683⟩) (Or.inl rfl) (hd rfl),
  ⟨fun hd => mk6 fld_33_7 (Or.inl ⟨rfl, by decide⟩) (Or.inr ⟨_, W3686⟩) (Or.inl rfl) (hd rfl),
  ⟨fun hd => mk19 mt_286 cf_286 (vf_286_3.rt (Or.inl W3265) (hd rfl)) rfl rfl (noH_nil rfl),
  ⟨fun hd => mk6 fld_33_8 (Or.inl ⟨rfl, by decide⟩) (Or.inr ⟨_, W3688⟩) (Or.inl rfl) (hd rfl),
  ⟨fun hd => mk19 mt_332 cf_332 (vf_332_8.rt (Or.inl W3470) (hd rfl)) rfl rfl (noH_nil rfl),
  trivial⟩⟩⟩⟩⟩⟩⟩⟩⟩
theorem fe_333 : eqEs ((flat code_333).filter (fun e => ndE e.2.2.1)) (fl_333_0) = true := by decide +kernel
theorem om_333 : OKm mi iT prg 333 := OKm_of (code := code_333) rfl mt_333 (Or.inl (by decide +kernel)) rfl wk_333 (by decide +kernel) (by decide +kernel) (FA_of fe_333 (fb_333_0))
def fl_334_0 : List Ent := [(1, 3, 6, .getfield 12, [3, 8, 34], 0), (4, 3, 19, .invokevirtual 22, [0, 1, 1, 5, 5], 0)]
theorem fb_334_0 : FB mi iT mi_334 (bpc code_334) (fl_334_0) := ⟨fun hd => mk6 fld_8_1 (Or.inl ⟨rfl, by decide⟩) (Or.inl W348) (Or.inl rfl) (hd rfl),
  ⟨fun hd => mk19 mt_5 cf_5 (vf_5_5.rt (Or.inl W3253) (hd rfl)) rfl rfl (noH_nil rfl),
  trivial⟩⟩
theorem fe_334 : eqEs ((flat code_334).filter (fun e => ndE e.2.2.1)) (fl_334_0) = true := by decide +kernel
theorem om_334 : OKm mi iT prg 334 := OKm_of (code := code_334) rfl mt_334 (Or.inl (by decide +kernel)) rfl wk_334 (by decide +kernel) (by decide +kernel) (FA_of fe_334 (fb_334_0))
def fl_335_0 : List Ent := [(2, 3, 6, .getfield 12, [3, 8, 34], 0), (5, 3, 19, .invokevirtual 22, [0, 1, 1, 5, 5], 0), (8, 3, 18, .invokestatic 26, [9, 2, 2, 210], 0), (12, 3, 6, .getfield 12, [3, 8, 34], 0), (16, 3, 19, .invokevirtual 30, [3, 2, 2, 5, 6], 0), (19, 3, 17, .checkcast 34, [33], 0)]
theorem fb_335_0 : FB mi iT mi_335 (bpc code_335) (fl_335_0) := ⟨fun hd => mk6 fld_8_1 (Or.inl ⟨rfl, by decide⟩) (Or.inl W348) (Or.inl rfl) (hd rfl),
  ⟨fun hd => mk19 mt_5 cf_5 (vf_5_5.rt (Or.inl W3253) (hd rfl)) rfl rfl (noH_nil rfl),
  ⟨fun hd => mk18 mt_210 sf_210 (Or.inr ⟨⟨_, W3723⟩, _, _, rfl⟩) rfl rfl (noH_nil rfl) (hd rfl),
  ⟨fun hd => mk6 fld_8_1 (Or.inl ⟨rfl, by decide⟩) (Or.inl W348) (Or.inl rfl) (hd rfl),
  ⟨fun hd => mk19 mt_6 cf_6 (vf_6_5.rt (Or.inl W3254) (hd rfl)) rfl rfl (noH_nil rfl),
  ⟨fun hd => mk17 kx_33 W541 (hd rfl),
  trivial⟩⟩⟩⟩⟩⟩
theorem fe_335 : eqEs ((flat code_335).filter (fun e => ndE e.2.2.1)) (fl_335_0) = true := by decide +kernel
theorem om_335 : OKm mi iT prg 335 := OKm_of (code := code_335) rfl mt_335 (Or.inl (by decide +kernel)) rfl wk_335 (by decide +kernel) (by decide +kernel) (FA_of fe_335 (fb_335_0))
def fl_336_0 : List Ent := [(1, 3, 6, .getfield 50, [3, 22, 105], 0), (4, 3, 31, .invokevirtual 56, [0, 1, 1, 15, 583, 16, 583, 19, 583, 24, 583, 18, 814, 25, 816], 0), (12, 3, 19, .invokevirtual 62, [3, 2, 2, 8, 329], 0), (15, 3, 19, .invokevirtual 66, [0, 1, 1, 29, 91], 0)]
theorem fb_336_0 : FB mi iT mi_336 (bpc code_336) (fl_336_0) := ⟨fun hd => mk6 fld_22_13 (Or.inl ⟨rfl, by decide⟩) (Or.inr ⟨_, W2295⟩) (Or.inl rfl) (hd rfl),
  ⟨fun hd => mk31 ⟨pr3 mt_583 cf_583 (ev_583_15.rt (Or.inl W3728) (hd rfl)) rfl rfl, ⟨pr3 mt_583 cf_583 (ev_583_16.rt (Or.inl W3728) (hd rfl)) rfl rfl, ⟨pr3 mt_583 cf_583 (ev_583_19.rt (Or.inl W3728) (hd rfl)) rfl rfl, ⟨pr3 mt_583 cf_583 (ev_583_24.rt (Or.inl W3728) (hd rfl)) rfl rfl, ⟨pr3 mt_814 cf_814 (ei_814_18_KeelHouse_StageisGone__Z.rt W3728 (hd rfl)) rfl rfl, ⟨pr3 mt_816 cf_816 (ei_816_25_KeelHouse_StageisGone__Z.rt W3728 (hd rfl)) rfl rfl, trivial⟩⟩⟩⟩⟩⟩,
  ⟨fun hd => mk19 mt_329 cf_329 (vf_329_8.rt (Or.inl W3249) (hd rfl)) rfl rfl (noH_nil rfl),
  ⟨fun hd => mk19 mt_91 cf_91 (vf_91_29.rt (Or.inl W3257) (hd rfl)) rfl rfl (noH_nil rfl),
  trivial⟩⟩⟩⟩
theorem fe_336 : eqEs ((flat code_336).filter (fun e => ndE e.2.2.1)) (fl_336_0) = true := by decide +kernel
theorem om_336 : OKm mi iT prg 336 := OKm_of (code := code_336) rfl mt_336 (Or.inl (by decide +kernel)) rfl wk_336 (by decide +kernel) (by decide +kernel) (FA_of fe_336 (fb_336_0))
def fl_337_0 : List Ent := [(2, 3, 6, .getfield 89, [0, 33, 170], 0), (12, 3, 19, .invokevirtual 92, [0, 2, 2, 33, 753], 0), (20, 3, 7, .putfield 96, [0, 33, 171], 0), (27, 3, 7, .putfield 96, [0, 33, 171], 0), (32, 3, 7, .putfield 79, [3, 33, 172], 0), (37, 3, 7, .putfield 99, [0, 33, 173], 0), (45, 3, 19, .invokevirtual 102, [9, 3, 3, 8, 330], 0), (49, 3, 6, .getfield 50, [3, 22, 105], 0), (52, 3, 31, .invokevirtual 106, [0, 1, 1, 15, 584, 16, 584, 19, 810, 24, 812, 18, 584, 25, 584], 0), (65, 3, 19, .invokevirtual 102, [9, 3, 3, 8, 330], 0)]
theorem fb_337_0 : FB mi iT mi_337 (bpc code_337) (fl_337_0) := ⟨fun hd => mk6 fld_33_4 (Or.inl ⟨rfl, by decide⟩) (Or.inr ⟨_, W3678⟩) (Or.inl rfl) (hd rfl),
  ⟨fun hd => mk19 mt_753 cf_753 (vf_753_33.rt (Or.inl W3733) (hd rfl)) rfl rfl (noH_nil rfl),
  ⟨fun hd => mk7 fld_33_5 (Or.inr ⟨_, W3680⟩) (Or.inl rfl) (Or.inl rfl) (hd rfl),
  ⟨fun hd => mk7 fld_33_5 (Or.inr ⟨_, W3680⟩) (Or.inl rfl) (Or.inl rfl) (hd rfl),
  ⟨fun hd => mk7 fld_33_6 (Or.inr ⟨_, W3683⟩) (Or.inl rfl) (Or.inl rfl) (hd rfl),
  ⟨fun hd => mk7 fld_33_7 (Or.inr ⟨_, W3686⟩) (Or.inl rfl) (Or.inl rfl) (hd rfl),
  ⟨fun hd => mk19 mt_330 cf_330 (vf_330_8.rt (Or.inl W3259) (hd rfl)) rfl rfl (noH_nil rfl),
  ⟨fun hd => mk6 fld_22_13 (Or.inl ⟨rfl, by decide⟩) (Or.inr ⟨_, W2295⟩) (Or.inl rfl) (hd rfl),
  ⟨fun hd => mk31 ⟨pr3 mt_584 cf_584 (ev_584_15.rt (Or.inl W3734) (hd rfl)) rfl rfl, ⟨pr3 mt_584 cf_584 (ev_584_16.rt (Or.inl W3734) (hd rfl)) rfl rfl, ⟨pr3 mt_810 cf_810 (ei_810_19_KeelHouse_StageisWet__Z.rt W3734 (hd rfl)) rfl rfl, ⟨pr3 mt_812 cf_812 (ei_812_24_KeelHouse_StageisWet__Z.rt W3734 (hd rfl)) rfl rfl, ⟨pr3 mt_584 cf_584 (ev_584_18.rt (Or.inl W3734) (hd rfl)) rfl rfl, ⟨pr3 mt_584 cf_584 (ev_584_25.rt (Or.inl W3734) (hd rfl)) rfl rfl, trivial⟩⟩⟩⟩⟩⟩,
  ⟨fun hd => mk19 mt_330 cf_330 (vf_330_8.rt (Or.inl W3259) (hd rfl)) rfl rfl (noH_nil rfl),
  trivial⟩⟩⟩⟩⟩⟩⟩⟩⟩⟩
theorem fe_337 : eqEs ((flat code_337).filter (fun e => ndE e.2.2.1)) (fl_337_0) = true := by decide +kernel
theorem om_337 : OKm mi iT prg 337 := OKm_of (code := code_337) rfl mt_337 (Or.inl (by decide +kernel)) rfl wk_337 (by decide +kernel) (by decide +kernel) (FA_of fe_337 (fb_337_0))
def fl_338_0 : List Ent := [(1, 3, 6, .getfield 99, [0, 33, 173], 0), (5, 3, 6, .getfield 69, [0, 33, 175], 0), (13, 3, 19, .invokevirtual 102, [9, 3, 3, 8, 330], 0), (18, 3, 7, .putfield 96, [0, 33, 171], 0)]
theorem fb_338_0 : FB mi iT mi_338 (bpc code_338) (fl_338_0) := ⟨fun hd => mk6 fld_33_7 (Or.inl ⟨rfl, by decide⟩) (Or.inr ⟨_, W3686⟩) (Or.inl rfl) (hd rfl),
  ⟨fun hd => mk6 fld_33_9 (Or.inl ⟨rfl, by decide⟩) (Or.inr ⟨_, W3690⟩) (Or.inl rfl) (hd rfl),
  ⟨fun hd => mk19 mt_330 cf_330 (vf_330_8.rt (Or.inl W3259) (hd rfl)) rfl rfl (noH_nil rfl),
  ⟨fun hd => mk7 fld_33_5 (Or.inr ⟨_, W3680⟩) (Or.inl rfl) (Or.inl rfl) (hd rfl),
  trivial⟩⟩⟩⟩
theorem fe_338 : eqEs ((flat code_338).filter (fun e => ndE e.2.2.1)) (fl_338_0) = true := by decide +kernel
theorem om_338 : OKm mi iT prg 338 := OKm_of (code := code_338) rfl mt_338 (Or.inl (by decide +kernel)) rfl wk_338 (by decide +kernel) (by decide +kernel) (FA_of fe_338 (fb_338_0))
def fl_339_0 : List Ent := [(2, 3, 19, .invokevirtual 131, [0, 2, 2, 8, 336], 0), (16, 3, 6, .getfield 134, [3, 22, 97], 0), (20, 3, 6, .getfield 134, [3, 22, 97], 0), (23, 3, 19, .invokevirtual 138, [0, 1, 1, 20, 525], 0), (26, 3, 19, .invokevirtual 143, [2, 2, 2, 20, 526], 0), (32, 3, 18, .invokestatic 147, [0, 1, 1, 199], 0), (43, 3, 6, .getfield 12, [3, 8, 34], 0), (46, 3, 19, .invokevirtual 22, [0, 1, 1, 5, 5], 0), (53, 3, 6, .getfield 12, [3, 8, 34], 0), (58, 3, 19, .invokevirtual 30, [3, 2, 2, 5, 6], 0), (61, 3, 17, .checkcast 34, [33], 0), (68, 3, 6, .getfield 89, [0, 33, 170], 0), (74, 3, 19, .invokevirtual 92, [0, 2, 2, 33, 753], 0), (79, 3, 18, .invokestatic 151, [0, 2, 2, 67], 0), (86, 3, 6, .getfield 96, [0, 33, 171], 0), (106, 3, 19, .invokevirtual 157, [0, 4, 5, 33, 755], 0)]
theorem fb_339_0 : FB mi iT mi_339 (bpc code_339) (fl_339_0) := ⟨fun hd => mk19 mt_336 cf_336 (vf_336_8.rt (Or.inl W3777) (hd rfl)) rfl rfl (noH_nil rfl),
  ⟨fun hd => mk6 fld_22_5 (Or.inl ⟨rfl, by decide⟩) (Or.inr ⟨_, W2263⟩) (Or.inl rfl) (hd rfl),
  ⟨fun hd => mk6 fld_22_5 (Or.inl ⟨rfl, by decide⟩) (Or.inr ⟨_, W2263⟩) (Or.inl rfl) (hd rfl),
  ⟨fun hd => mk19 mt_525 cf_525 (vf_525_20.rt (Or.inl W3778) (hd rfl)) rfl rfl (noH_nil rfl),
  ⟨fun hd => mk19 mt_526 cf_526 (vf_526_20.rt (Or.inl W3779) (hd rfl)) rfl rfl (noH_nil rfl),
  ⟨fun hd => mk18 mt_199 sf_199 (Or.inr ⟨⟨_, W3780⟩, _, _, rfl⟩) rfl rfl (noH_nil rfl) (hd rfl),
  ⟨fun hd => mk6 fld_8_1 (Or.inl ⟨rfl, by decide⟩) (Or.inl W348) (Or.inl rfl) (hd rfl),
  ⟨fun hd => mk19 mt_5 cf_5 (vf_5_5.rt (Or.inl W3253) (hd rfl)) rfl rfl (noH_nil rfl),
  ⟨fun hd => mk6 fld_8_1 (Or.inl ⟨rfl, by decide⟩) (Or.inl W348) (Or.inl rfl) (hd rfl),
  ⟨fun hd => mk19 mt_6 cf_6 (vf_6_5.rt (Or.inl W3254) (hd rfl)) rfl rfl (noH_nil rfl),
  ⟨fun hd => mk17 kx_33 W541 (hd rfl),
  ⟨fun hd => mk6 fld_33_4 (Or.inl ⟨rfl, by decide⟩) (Or.inr ⟨_, W3678⟩) (Or.inl rfl) (hd rfl),
  ⟨fun hd => mk19 mt_753 cf_753 (vf_753_33.rt (Or.inl W3733) (hd rfl)) rfl rfl (noH_nil rfl),
  ⟨fun hd => mk18 mt_67 sf_67 (Or.inl W3781) rfl rfl (noH_nil rfl) (hd rfl),
  ⟨fun hd => mk6 fld_33_5 (Or.inl ⟨rfl, by decide⟩) (Or.inr ⟨_, W3680⟩) (Or.inl rfl) (hd rfl),
  ⟨fun hd => mk19 mt_755 cf_755 (vf_755_33.rt (Or.inl W3782) (hd rfl)) rfl rfl (noH_nil rfl),
  trivial⟩⟩⟩⟩⟩⟩⟩⟩⟩⟩⟩⟩⟩⟩⟩⟩
theorem fe_339 : eqEs ((flat code_339).filter (fun e => ndE e.2.2.1)) (fl_339_0) = true := by decide +kernel
theorem om_339 : OKm mi iT prg 339 := OKm_of (code := code_339) rfl mt_339 (Or.inl (by decide +kernel)) rfl wk_339 (by decide +kernel) (by decide +kernel) (FA_of fe_339 (fb_339_0))
def fl_340_0 : List Ent := [(1, 3, 22, .invokespecial 3, [], 0), (5, 3, 11, .new 9, [5, 3], 0), (9, 3, 36, .invokespecial 11, [9, 1, 1, 5, 3], 0), (12, 3, 7, .putfield 12, [3, 9, 36], 0), (16, 3, 11, .new 9, [5, 3], 0), (20, 3, 36, .invokespecial 11, [9, 1, 1, 5, 3], 0), (23, 3, 7, .putfield 18, [3, 9, 37], 0), (27, 3, 11, .new 21, [10, 4], 0), (32, 3, 6, .getfield 12, [3, 9, 36], 0), (35, 3, 36, .invokespecial 23, [9, 2, 2, 10, 356], 0), (38, 3, 7, .putfield 26, [3, 9, 38], 0), (43, 3, 7, .putfield 30, [3, 9, 35], 0)]
theorem fb_340_0 : FB mi iT mi_340 (bpc code_340) (fl_340_0) := ⟨fun hd => mk22 (by decide) W360 oi_w (hd rfl),
  ⟨fun hd => mk11 nf_5 W361 (hd rfl),
  ⟨fun hd => mk36 mt_3 cf_3 (ic_3.rt (Or.inl W362) (hd rfl)) rfl rfl,
  ⟨fun hd => mk7 fld_9_1 (Or.inl W385) (Or.inl rfl) (Or.inr ⟨rfl, rfl, rfl, W385⟩) (hd rfl),
  ⟨fun hd => mk11 nf_5 W361 (hd rfl),
  ⟨fun hd => mk36 mt_3 cf_3 (ic_3.rt (Or.inl W362) (hd rfl)) rfl rfl,
  ⟨fun hd => mk7 fld_9_2 (Or.inl W387) (Or.inl rfl) (Or.inr ⟨rfl, rfl, rfl, W387⟩) (hd rfl),
  ⟨fun hd => mk11 nf_10 W363 (hd rfl),
  ⟨fun hd => mk6 fld_9_1 (Or.inl ⟨rfl, by decide⟩) (Or.inl W385) (Or.inl rfl) (hd rfl),
  ⟨fun hd => mk36 mt_356 cf_356 (ic_356.rt (Or.inl W365) (hd rfl)) rfl rfl,
  ⟨fun hd => mk7 fld_9_3 (Or.inl W389) (Or.inl rfl) (Or.inr ⟨rfl, rfl, rfl, W389⟩) (hd rfl),
  ⟨fun hd => mk7 fld_9_0 (Or.inl W384) (Or.inl rfl) (Or.inr ⟨rfl, rfl, rfl, W384⟩) (hd rfl),
  trivial⟩⟩⟩⟩⟩⟩⟩⟩⟩⟩⟩⟩
theorem fe_340 : eqEs ((flat code_340).filter (fun e => ndE e.2.2.1)) (fl_340_0) = true := by decide +kernel
theorem om_340 : OKm mi iT prg 340 := OKm_of (code := code_340) rfl mt_340 (Or.inl (by decide +kernel)) rfl wk_340 (by decide +kernel) (by decide +kernel) (FA_of fe_340 (fb_340_0))
def fl_341_0 : List Ent := [(1, 3, 6, .getfield 18, [3, 9, 37], 0), (4, 3, 19, .invokevirtual 55, [3, 1, 1, 5, 4], 0), (9, 5, 34, .invokeinterface 59 1, [0, 1, 1, 11, 87], 0), (18, 5, 34, .invokeinterface 65 1, [3, 1, 1, 11, 88], 0), (23, 3, 17, .checkcast 48, [35], 0), (28, 3, 6, .getfield 250, [0, 35, 186], 0), (36, 3, 6, .getfield 253, [3, 35, 187], 0), (39, 3, 19, .invokevirtual 257, [0, 1, 1, 22, 484], 0), (51, 3, 19, .invokevirtual 55, [3, 1, 1, 5, 4], 0), (56, 5, 34, .invokeinterface 59 1, [0, 1, 1, 11, 87], 0), (65, 5, 34, .invokeinterface 65 1, [3, 1, 1, 11, 88], 0), (70, 3, 17, .checkcast 51, [22], 0), (85, 3, 6, .getfield 86, [3, 22, 98], 0), (91, 3, 19, .invokevirtual 90, [0, 1, 1, 24, 604], 0), (97, 3, 18, .invokestatic 98, [0, 2, 2, 342], 0)]
theorem fb_341_0 : FB mi iT mi_341 (bpc code_341) (fl_341_0) := ⟨fun hd => mk6 fld_9_2 (Or.inl ⟨rfl, by decide⟩) (Or.inl W387) (Or.inl rfl) (hd rfl),
  ⟨fun hd => mk19 mt_4 cf_4 (vf_4_5.rt (Or.inl W552) (hd rfl)) rfl rfl (noH_nil rfl),
  ⟨fun hd => mk34 mt_87 cf_87 (ff_87_11.rt W554 (hd rfl)) rfl rfl,
  ⟨fun hd => mk34 mt_88 cf_88 (ff_88_11.rt W556 (hd rfl)) rfl rfl,
  ⟨fun hd => mk17 kx_35 W557 (hd rfl),
  ⟨fun hd => mk6 fld_35_6 (Or.inl ⟨rfl, by decide⟩) (Or.inr ⟨_, W3845⟩) (Or.inl rfl) (hd rfl),
  ⟨fun hd => mk6 fld_35_7 (Or.inl ⟨rfl, by decide⟩) (Or.inr ⟨_, W3849⟩) (Or.inl rfl) (hd rfl),
  ⟨fun hd => mk19 mt_484 cf_484 (vf_484_22.rt (Or.inl W558) (hd rfl)) rfl rfl (noH_nil rfl),
  ⟨fun hd => mk19 mt_4 cf_4 (vf_4_5.rt (Or.inl W552) (hd rfl)) rfl rfl (noH_nil rfl),
  ⟨fun hd => mk34 mt_87 cf_87 (ff_87_11.rt W554 (hd rfl)) rfl rfl,
  ⟨fun hd => mk34 mt_88 cf_88 (ff_88_11.rt W556 (hd rfl)) rfl rfl,
  ⟨fun hd => mk17 kx_22 W564 (hd rfl),
  ⟨fun hd => mk6 fld_22_6 (Or.inl ⟨rfl, by decide⟩) (Or.inr ⟨_, W2266⟩) (Or.inl rfl) (hd rfl),
  ⟨fun hd => mk19 mt_604 cf_604 (vf_604_24.rt (Or.inl W565) (hd rfl)) rfl rfl (noH_nil rfl),
  ⟨fun hd => mk18 mt_342 sf_342 (Or.inl W588) rfl rfl (noH_nil rfl) (hd rfl),
  trivial⟩⟩⟩⟩⟩⟩⟩⟩⟩⟩⟩⟩⟩⟩⟩
theorem fe_341 : eqEs ((flat code_341).filter (fun e => ndE e.2.2.1)) (fl_341_0) = true := by decide +kernel
theorem om_341 : OKm mi iT prg 341 := OKm_of (code := code_341) rfl mt_341 (Or.inl (by decide +kernel)) rfl wk_341 (by decide +kernel) (by decide +kernel) (FA_of fe_341 (fb_341_0))
def fl_342_0 : List Ent := [(10, 3, 6, .getfield 76, [3, 22, 93], 0), (14, 3, 19, .invokevirtual 80, [0, 2, 2, 16, 496], 0)]
theorem fb_342_0 : FB mi iT mi_342 (bpc code_342) (fl_342_0) := ⟨fun hd => mk6 fld_22_1 (Or.inl ⟨rfl, by decide⟩) (Or.inr ⟨_, W2247⟩) (Or.inl rfl) (hd rfl),
  ⟨fun hd => mk19 mt_496 cf_496 (vf_496_16.rt (Or.inl W591) (hd rfl)) rfl rfl (noH_nil rfl),
  trivial⟩⟩
theorem fe_342 : eqEs ((flat code_342).filter (fun e => ndE e.2.2.1)) (fl_342_0) = true := by decide +kernel
theorem om_342 : OKm mi iT prg 342 := OKm_of (code := code_342) rfl mt_342 (Or.inl (by decide +kernel)) rfl wk_342 (by decide +kernel) (by decide +kernel) (FA_of fe_342 (fb_342_0))
def fl_343_0 : List Ent := [(1, 47, 5, .tableswitch 142 0 7 #[47, 71, 90, 95, 119, 127, 132, 137], [20, 0, 1, 1, 7, 2, 11, 3, 12, 4, 16, 5, 17, 6, 18, 7, 19], 0), (49, 3, 6, .getfield 140, [0, 22, 111], 0), (60, 3, 6, .getfield 112, [3, 22, 113], 0), (73, 3, 6, .getfield 112, [3, 22, 113], 0), (84, 3, 6, .getfield 112, [3, 22, 113], 0), (87, 3, 6, .getfield 235, [0, 34, 176], 0), (92, 3, 6, .getfield 170, [0, 22, 115], 0), (97, 3, 6, .getfield 140, [0, 22, 111], 0), (105, 3, 6, .getfield 131, [2, 22, 114], 0), (108, 3, 38, .invokestatic 238, [1], 0), (111, 3, 18, .invokestatic 244, [2, 1, 2, 72], 0), (121, 3, 6, .getfield 50, [3, 22, 103], 0), (124, 3, 19, .invokevirtual 34, [0, 1, 1, 5, 5], 0), (129, 3, 18, .invokestatic 248, [0, 1, 1, 344], 0), (134, 3, 6, .getfield 210, [0, 22, 116], 0), (139, 3, 6, .getfield 124, [0, 22, 117], 0), (144, 3, 6, .getfield 150, [0, 22, 118], 0)]
theorem fb_343_0 : FB mi iT mi_343 (bpc code_343) (fl_343_0) := ⟨fun hd => ⟨_, _, rfl, Or.inl ⟨142, 0, 7, #[47, 71, 90, 95, 119, 127, 132, 137], 8, 47, (show decode prog_71_method_14_code 1 = .ok (.tableswitch 142 0 7 #[47, 71, 90, 95, 119, 127, 132, 137], 47) by decide +kernel), by decide, by decide +kernel⟩⟩,
  ⟨fun hd => mk6 fld_22_19 (Or.inr ⟨rfl, Or.inl rfl⟩) (Or.inr ⟨_, W2315⟩) (Or.inl rfl) (hd rfl),
  ⟨fun hd => mk6 fld_22_21 (Or.inl ⟨rfl, by decide⟩) (Or.inr ⟨_, W2320⟩) (Or.inl rfl) (hd rfl),
  ⟨fun hd => mk6 fld_22_21 (Or.inl ⟨rfl, by decide⟩) (Or.inr ⟨_, W2320⟩) (Or.inl rfl) (hd rfl),
  ⟨fun hd => mk6 fld_22_21 (Or.inl ⟨rfl, by decide⟩) (Or.inr ⟨_, W2320⟩) (Or.inl rfl) (hd rfl),
  ⟨fun hd => mk6 fld_34_0 (Or.inl ⟨rfl, by decide⟩) (Or.inr ⟨_, W3798⟩) (Or.inl rfl) (hd rfl),
  ⟨fun hd => mk6 fld_22_23 (Or.inl ⟨rfl, by decide⟩) (Or.inr ⟨_, W2325⟩) (Or.inl rfl) (hd rfl),
  ⟨fun hd => mk6 fld_22_19 (Or.inr ⟨rfl, Or.inl rfl⟩) (Or.inr ⟨_, W2315⟩) (Or.inl rfl) (hd rfl),
  ⟨fun hd => mk6 fld_22_22 (Or.inl ⟨rfl, by decide⟩) (Or.inr ⟨_, W2323⟩) (Or.inl rfl) (hd rfl),
  ⟨fun hd => ⟨1, _, _, by decide, rfl, rfl, by decide, W1719, mo_w1, hd rfl⟩,
  ⟨fun hd => mk18 mt_72 sf_72 (Or.inl W1720) rfl rfl (noH_nil rfl) (hd rfl),
  ⟨fun hd => mk6 fld_22_11 (Or.inl ⟨rfl, by decide⟩) (Or.inr ⟨_, W2292⟩) (Or.inl rfl) (hd rfl),
  ⟨fun hd => mk19 mt_5 cf_5 (vf_5_5.rt (Or.inl W1721) (hd rfl)) rfl rfl (noH_nil rfl),
  ⟨fun hd => mk18 mt_344 sf_344 (Or.inl W1722) rfl rfl (noH_nil rfl) (hd rfl),
  ⟨fun hd => mk6 fld_22_24 (Or.inl ⟨rfl, by decide⟩) (Or.inr ⟨_, W2327⟩) (Or.inl rfl) (hd rfl),
  ⟨fun hd => mk6 fld_22_25 (Or.inl ⟨rfl, by decide⟩) (Or.inr ⟨_, W2329⟩) (Or.inl rfl) (hd rfl),
  ⟨fun hd => mk6 fld_22_26 (Or.inl ⟨rfl, by decide⟩) (Or.inr ⟨_, W2330⟩) (Or.inl rfl) (hd rfl),
  trivial⟩⟩⟩⟩⟩⟩⟩⟩⟩⟩⟩⟩⟩⟩⟩⟩⟩
theorem fe_343 : eqEs ((flat code_343).filter (fun e => ndE e.2.2.1)) (fl_343_0) = true := by decide +kernel
theorem om_343 : OKm mi iT prg 343 := OKm_of (code := code_343) rfl mt_343 (Or.inl (by decide +kernel)) rfl wk_343 (by decide +kernel) (by decide +kernel) (FA_of fe_343 (fb_343_0))
def fl_344_0 : List Ent := [(3, 3, 6, .getfield 50, [3, 22, 103], 0), (6, 3, 19, .invokevirtual 55, [3, 1, 1, 5, 4], 0), (11, 5, 34, .invokeinterface 59 1, [0, 1, 1, 11, 87], 0), (20, 5, 34, .invokeinterface 65 1, [3, 1, 1, 11, 88], 0), (25, 3, 17, .checkcast 48, [35], 0), (31, 3, 6, .getfield 95, [0, 35, 183], 0)]
theorem fb_344_0 : FB mi iT mi_344 (bpc code_344) (fl_344_0) := ⟨fun hd => mk6 fld_22_11 (Or.inl ⟨rfl, by decide⟩) (Or.inr ⟨_, W2292⟩) (Or.inl rfl) (hd rfl),
  ⟨fun hd => mk19 mt_4 cf_4 (vf_4_5.rt (Or.inl W552) (hd rfl)) rfl rfl (noH_nil rfl),
  ⟨fun hd => mk34 mt_87 cf_87 (ff_87_11.rt W554 (hd rfl)) rfl rfl,
  ⟨fun hd => mk34 mt_88 cf_88 (ff_88_11.rt W556 (hd rfl)) rfl rfl,
  ⟨fun hd => mk17 kx_35 W557 (hd rfl),
  ⟨fun hd => mk6 fld_35_3 (Or.inl ⟨rfl, by decide⟩) (Or.inr ⟨_, W3838⟩) (Or.inl rfl) (hd rfl),
  trivial⟩⟩⟩⟩⟩⟩
theorem fe_344 : eqEs ((flat code_344).filter (fun e => ndE e.2.2.1)) (fl_344_0) = true := by decide +kernel
theorem om_344 : OKm mi iT prg 344 := OKm_of (code := code_344) rfl mt_344 (Or.inl (by decide +kernel)) rfl wk_344 (by decide +kernel) (by decide +kernel) (FA_of fe_344 (fb_344_0))
def fl_345_0 : List Ent := [(1, 3, 6, .getfield 144, [0, 22, 112], 0), (9, 3, 19, .invokevirtual 147, [9, 2, 2, 9, 346], 0), (15, 3, 6, .getfield 150, [0, 22, 118], 0), (20, 3, 7, .putfield 150, [0, 22, 118], 0), (24, 3, 6, .getfield 153, [3, 22, 97], 0), (27, 3, 19, .invokevirtual 157, [0, 1, 1, 20, 525], 0), (32, 3, 6, .getfield 153, [3, 22, 97], 0), (36, 3, 19, .invokevirtual 162, [2, 2, 2, 20, 526], 0), (47, 3, 15, .ldc2_w 166, [4611686018427387904], 0), (56, 3, 15, .ldc2_w 168, [4627448617123184640], 0), (74, 3, 6, .getfield 170, [0, 22, 115], 0), (84, 3, 6, .getfield 170, [0, 22, 115], 0), (90, 3, 7, .putfield 170, [0, 22, 115], 0), (98, 3, 15, .ldc2_w 173, [4616189618054758400], 0), (110, 3, 19, .invokevirtual 175, [0, 2, 2, 9, 347], 0), (117, 3, 13, .getstatic 179, [18], 0), (120, 3, 19, .invokevirtual 185, [9, 2, 2, 22, 492], 0), (126, 3, 6, .getfield 131, [2, 22, 114], 0), (132, 3, 7, .putfield 131, [2, 22, 114], 0), (136, 3, 6, .getfield 131, [2, 22, 114], 0), (146, 3, 19, .invokevirtual 147, [9, 2, 2, 9, 346], 0)]
theorem fb_345_0 : FB mi iT mi_345 (bpc code_345) (fl_345_0) := ⟨fun hd => mk6 fld_22_20 (Or.inr ⟨rfl, Or.inl rfl⟩) (Or.inr ⟨_, W2318⟩) (Or.inl rfl) (hd rfl),
  ⟨fun hd => mk19 mt_346 cf_346 (vf_346_9.rt (Or.inl W3440) (hd rfl)) rfl rfl (noH_nil rfl),
  ⟨fun hd => mk6 fld_22_26 (Or.inl ⟨rfl, by decide⟩) (Or.inr ⟨_, W2330⟩) (Or.inl rfl) (hd rfl),
  ⟨fun hd => mk7 fld_22_26 (Or.inr ⟨_, W2330⟩) (Or.inl rfl) (Or.inl rfl) (hd rfl),
  ⟨fun hd => mk6 fld_22_5 (Or.inl ⟨rfl, by decide⟩) (Or.inr ⟨_, W2262⟩) (Or.inl rfl) (hd rfl),
  ⟨fun hd => mk19 mt_525 cf_525 (vf_525_20.rt (Or.inl W3449) (hd rfl)) rfl rfl (noH_nil rfl),
  ⟨fun hd => mk6 fld_22_5 (Or.inl ⟨rfl, by decide⟩) (Or.inr ⟨_, W2262⟩) (Or.inl rfl) (hd rfl),
  ⟨fun hd => mk19 mt_526 cf_526 (vf_526_20.rt (Or.inl W3450) (hd rfl)) rfl rfl (noH_nil rfl),
  ⟨fun hd => mk15 W3451 (hd rfl),
  ⟨fun hd => mk15 W3452 (hd rfl),
  ⟨fun hd => mk6 fld_22_23 (Or.inl ⟨rfl, by decide⟩) (Or.inr ⟨_, W2325⟩) (Or.inl rfl) (hd rfl),
  ⟨fun hd => mk6 fld_22_23 (Or.inl ⟨rfl, by decide⟩) (Or.inr ⟨_, W2325⟩) (Or.inl rfl) (hd rfl),
  ⟨fun hd => mk7 fld_22_23 (Or.inr ⟨_, W2325⟩) (Or.inl rfl) (Or.inl rfl) (hd rfl),
  ⟨fun hd => mk15 W3453 (hd rfl),
  ⟨fun hd => mk19 mt_347 cf_347 (vf_347_9.rt (Or.inl W3454) (hd rfl)) rfl rfl (noH_nil rfl),
  ⟨fun hd => mk13s (by decide) rfl (Or.inl W3463) (Or.inl rfl) (hd rfl),
  ⟨fun hd => mk19 mt_492 cf_492 (vf_492_22.rt (Or.inl W3464) (hd rfl)) rfl rfl (noH_nil rfl),
  ⟨fun hd => mk6 fld_22_22 (Or.inl ⟨rfl, by decide⟩) (Or.inr ⟨_, W2323⟩) (Or.inl rfl) (hd rfl),
  ⟨fun hd => mk7 fld_22_22 (Or.inr ⟨_, W2323⟩) (Or.inl rfl) (Or.inl rfl) (hd rfl),
  ⟨fun hd => mk6 fld_22_22 (Or.inl ⟨rfl, by decide⟩) (Or.inr ⟨_, W2323⟩) (Or.inl rfl) (hd rfl),
  ⟨fun hd => mk19 mt_346 cf_346 (vf_346_9.rt (Or.inl W3440) (hd rfl)) rfl rfl (noH_nil rfl),
  trivial⟩⟩⟩⟩⟩⟩⟩⟩⟩⟩⟩⟩⟩⟩⟩⟩⟩⟩⟩⟩⟩
theorem fe_345 : eqEs ((flat code_345).filter (fun e => ndE e.2.2.1)) (fl_345_0) = true := by decide +kernel
theorem om_345 : OKm mi iT prg 345 := OKm_of (code := code_345) rfl mt_345 (Or.inl (by decide +kernel)) rfl wk_345 (by decide +kernel) (by decide +kernel) (FA_of fe_345 (fb_345_0))
def fl_346_0 : List Ent := [(1, 3, 6, .getfield 112, [3, 22, 113], 0), (8, 3, 6, .getfield 30, [3, 9, 35], 0), (12, 3, 19, .invokevirtual 227, [0, 2, 2, 6, 314], 0), (23, 3, 7, .putfield 144, [4, 22, 112], 0), (28, 3, 6, .getfield 30, [3, 9, 35], 0), (33, 3, 19, .invokevirtual 231, [9, 3, 3, 6, 309], 0), (38, 3, 7, .putfield 140, [4, 22, 111], 0), (43, 3, 7, .putfield 144, [4, 22, 112], 0)]
theorem fb_346_0 : FB mi iT mi_346 (bpc code_346) (fl_346_0) := ⟨fun hd => mk6 fld_22_21 (Or.inl ⟨rfl, by decide⟩) (Or.inr ⟨_, W2320⟩) (Or.inl rfl) (hd rfl),
  ⟨fun hd => mk6 fld_9_0 (Or.inl ⟨rfl, by decide⟩) (Or.inl W384) (Or.inl rfl) (hd rfl),
  ⟨fun hd => mk19 mt_314 cf_314 (vf_314_6.rt (Or.inl W3444) (hd rfl)) rfl rfl (noH_nil rfl),
  ⟨fun hd => mk7 fld_22_20 (Or.inr ⟨_, W2318⟩) (Or.inl rfl) (Or.inl rfl) (hd rfl),
  ⟨fun hd => mk6 fld_9_0 (Or.inl ⟨rfl, by decide⟩) (Or.inl W384) (Or.inl rfl) (hd rfl),
  ⟨fun hd => mk19 mt_309 cf_309 (vf_309_6.rt (Or.inl W3448) (hd rfl)) rfl rfl (noH_nil rfl),
  ⟨fun hd => mk7 fld_22_19 (Or.inr ⟨_, W2315⟩) (Or.inl rfl) (Or.inl rfl) (hd rfl),
  ⟨fun hd => mk7 fld_22_20 (Or.inr ⟨_, W2318⟩) (Or.inl rfl) (Or.inl rfl) (hd rfl),
  trivial⟩⟩⟩⟩⟩⟩⟩⟩
theorem fe_346 : eqEs ((flat code_346).filter (fun e => ndE e.2.2.1)) (fl_346_0) = true := by decide +kernel
theorem om_346 : OKm mi iT prg 346 := OKm_of (code := code_346) rfl mt_346 (Or.inl (by decide +kernel)) rfl wk_346 (by decide +kernel) (by decide +kernel) (FA_of fe_346 (fb_346_0))
def fl_347_0 : List Ent := [(1, 3, 6, .getfield 50, [3, 22, 103], 0), (4, 3, 19, .invokevirtual 55, [3, 1, 1, 5, 4], 0), (9, 5, 34, .invokeinterface 59 1, [0, 1, 1, 11, 87], 0), (18, 5, 34, .invokeinterface 65 1, [3, 1, 1, 11, 88], 0), (23, 3, 17, .checkcast 48, [35], 0), (28, 3, 6, .getfield 73, [0, 35, 184], 0), (37, 3, 6, .getfield 189, [2, 35, 189], 0), (40, 3, 15, .ldc2_w 192, [4602678819172646912], 0), (44, 3, 7, .putfield 189, [2, 35, 189], 0), (51, 3, 19, .invokevirtual 194, [0, 1, 1, 22, 491], 0), (62, 3, 6, .getfield 197, [3, 22, 101], 0), (67, 3, 19, .invokevirtual 201, [2, 3, 3, 19, 565], 0), (71, 3, 6, .getfield 207, [0, 22, 107], 0), (81, 3, 6, .getfield 210, [0, 22, 116], 0), (86, 3, 6, .getfield 197, [3, 22, 101], 0), (90, 3, 19, .invokevirtual 213, [0, 2, 2, 19, 564], 0), (95, 3, 7, .putfield 210, [0, 22, 116], 0), (99, 3, 6, .getfield 217, [3, 22, 100], 0), (103, 3, 6, .getfield 210, [0, 22, 116], 0), (106, 3, 19, .invokevirtual 221, [0, 2, 2, 18, 557], 0)]
theorem fb_347_0 : FB mi iT mi_347 (bpc code_347) (fl_347_0) := ⟨fun hd => mk6 fld_22_11 (Or.inl ⟨rfl, by decide⟩) (Or.inr ⟨_, W2292⟩) (Or.inl rfl) (hd rfl),
  ⟨fun hd => mk19 mt_4 cf_4 (vf_4_5.rt (Or.inl W552) (hd rfl)) rfl rfl (noH_nil rfl),
  ⟨fun hd => mk34 mt_87 cf_87 (ff_87_11.rt W554 (hd rfl)) rfl rfl,
  ⟨fun hd => mk34 mt_88 cf_88 (ff_88_11.rt W556 (hd rfl)) rfl rfl,
  ⟨fun hd => mk17 kx_35 W557 (hd rfl),
  ⟨fun hd => mk6 fld_35_4 (Or.inl ⟨rfl, by decide⟩) (Or.inr ⟨_, W3840⟩) (Or.inl rfl) (hd rfl),
  ⟨fun hd => mk6 fld_35_9 (Or.inl ⟨rfl, by decide⟩) (Or.inr ⟨_, W3856⟩) (Or.inl rfl) (hd rfl),
  ⟨fun hd => mk15 W3458 (hd rfl),
  ⟨fun hd => mk7 fld_35_9 (Or.inr ⟨_, W3856⟩) (Or.inl rfl) (Or.inl rfl) (hd rfl),
  ⟨fun hd => mk19 mt_491 cf_491 (vf_491_22.rt (Or.inl W3459) (hd rfl)) rfl rfl (noH_nil rfl),
  ⟨fun hd => mk6 fld_22_9 (Or.inl ⟨rfl, by decide⟩) (Or.inr ⟨_, W2283⟩) (Or.inl rfl) (hd rfl),
  ⟨fun hd => mk19 mt_565 cf_565 (vf_565_19.rt (Or.inl W3460) (hd rfl)) rfl rfl (noH_nil rfl),
  ⟨fun hd => mk6 fld_22_15 (Or.inl ⟨rfl, by decide⟩) (Or.inr ⟨_, W2303⟩) (Or.inl rfl) (hd rfl),
  ⟨fun hd => mk6 fld_22_24 (Or.inl ⟨rfl, by decide⟩) (Or.inr ⟨_, W2327⟩) (Or.inl rfl) (hd rfl),
  ⟨fun hd => mk6 fld_22_9 (Or.inl ⟨rfl, by decide⟩) (Or.inr ⟨_, W2283⟩) (Or.inl rfl) (hd rfl),
  ⟨fun hd => mk19 mt_564 cf_564 (vf_564_19.rt (Or.inl W3461) (hd rfl)) rfl rfl (noH_nil rfl),
  ⟨fun hd => mk7 fld_22_24 (Or.inr ⟨_, W2327⟩) (Or.inl rfl) (Or.inl rfl) (hd rfl),
  ⟨fun hd => mk6 fld_22_8 (Or.inl ⟨rfl, by decide⟩) (Or.inr ⟨_, W2279⟩) (Or.inl rfl) (hd rfl),
  ⟨fun hd => mk6 fld_22_24 (Or.inl ⟨rfl, by decide⟩) (Or.inr ⟨_, W2327⟩) (Or.inl rfl) (hd rfl),
  ⟨fun hd => mk19 mt_557 cf_557 (vf_557_18.rt (Or.inl W3462) (hd rfl)) rfl rfl (noH_nil rfl),
  trivial⟩⟩⟩⟩⟩⟩⟩⟩⟩⟩⟩⟩⟩⟩⟩⟩⟩⟩⟩⟩
theorem fe_347 : eqEs ((flat code_347).filter (fun e => ndE e.2.2.1)) (fl_347_0) = true := by decide +kernel
theorem om_347 : OKm mi iT prg 347 := OKm_of (code := code_347) rfl mt_347 (Or.inl (by decide +kernel)) rfl wk_347 (by decide +kernel) (by decide +kernel) (FA_of fe_347 (fb_347_0))
def fl_348_0 : List Ent := [(2, 3, 6, .getfield 12, [3, 9, 36], 0), (5, 3, 19, .invokevirtual 34, [0, 1, 1, 5, 5], 0), (8, 3, 18, .invokestatic 38, [9, 2, 2, 210], 0), (12, 3, 6, .getfield 12, [3, 9, 36], 0), (16, 3, 19, .invokevirtual 42, [3, 2, 2, 5, 6], 0), (19, 3, 17, .checkcast 46, [34], 0)]
theorem fb_348_0 : FB mi iT mi_348 (bpc code_348) (fl_348_0) := ⟨fun hd => mk6 fld_9_1 (Or.inl ⟨rfl, by decide⟩) (Or.inl W385) (Or.inl rfl) (hd rfl),
  ⟨fun hd => mk19 mt_5 cf_5 (vf_5_5.rt (Or.inl W1721) (hd rfl)) rfl rfl (noH_nil rfl),
  ⟨fun hd => mk18 mt_210 sf_210 (Or.inr ⟨⟨_, W3823⟩, _, _, rfl⟩) rfl rfl (noH_nil rfl) (hd rfl),
  ⟨fun hd => mk6 fld_9_1 (Or.inl ⟨rfl, by decide⟩) (Or.inl W385) (Or.inl rfl) (hd rfl),
  ⟨fun hd => mk19 mt_6 cf_6 (vf_6_5.rt (Or.inl W3824) (hd rfl)) rfl rfl (noH_nil rfl),
  ⟨fun hd => mk17 kx_34 W3825 (hd rfl),
  trivial⟩⟩⟩⟩⟩⟩
theorem fe_348 : eqEs ((flat code_348).filter (fun e => ndE e.2.2.1)) (fl_348_0) = true := by decide +kernel
theorem om_348 : OKm mi iT prg 348 := OKm_of (code := code_348) rfl mt_348 (Or.inl (by decide +kernel)) rfl wk_348 (by decide +kernel) (by decide +kernel) (FA_of fe_348 (fb_348_0))
def fl_349_0 : List Ent := [(2, 3, 6, .getfield 18, [3, 9, 37], 0), (5, 3, 19, .invokevirtual 34, [0, 1, 1, 5, 5], 0), (8, 3, 18, .invokestatic 38, [9, 2, 2, 210], 0), (12, 3, 6, .getfield 18, [3, 9, 37], 0), (16, 3, 19, .invokevirtual 42, [3, 2, 2, 5, 6], 0), (19, 3, 17, .checkcast 48, [35], 0)]
theorem fb_349_0 : FB mi iT mi_349 (bpc code_349) (fl_349_0) := ⟨fun hd => mk6 fld_9_2 (Or.inl ⟨rfl, by decide⟩) (Or.inl W387) (Or.inl rfl) (hd rfl),
  ⟨fun hd => mk19 mt_5 cf_5 (vf_5_5.rt (Or.inl W1721) (hd rfl)) rfl rfl (noH_nil rfl),
  ⟨fun hd => mk18 mt_210 sf_210 (Or.inr ⟨⟨_, W3823⟩, _, _, rfl⟩) rfl rfl (noH_nil rfl) (hd rfl),
  ⟨fun hd => mk6 fld_9_2 (Or.inl ⟨rfl, by decide⟩) (Or.inl W387) (Or.inl rfl) (hd rfl),
  ⟨fun hd => mk19 mt_6 cf_6 (vf_6_5.rt (Or.inl W3824) (hd rfl)) rfl rfl (noH_nil rfl),
  ⟨fun hd => mk17 kx_35 W557 (hd rfl),
  trivial⟩⟩⟩⟩⟩⟩
theorem fe_349 : eqEs ((flat code_349).filter (fun e => ndE e.2.2.1)) (fl_349_0) = true := by decide +kernel
theorem om_349 : OKm mi iT prg 349 := OKm_of (code := code_349) rfl mt_349 (Or.inl (by decide +kernel)) rfl wk_349 (by decide +kernel) (by decide +kernel) (FA_of fe_349 (fb_349_0))
def fl_350_0 : List Ent := [(1, 3, 6, .getfield 86, [3, 22, 98], 0), (6, 3, 19, .invokevirtual 90, [0, 1, 1, 24, 604], 0), (10, 3, 6, .getfield 95, [0, 35, 183], 0), (16, 3, 18, .invokestatic 98, [0, 2, 2, 342], 0), (24, 3, 18, .invokestatic 101, [0, 2, 2, 351], 0), (33, 3, 6, .getfield 73, [0, 35, 184], 0), (50, 3, 18, .invokestatic 101, [0, 2, 2, 351], 0), (65, 3, 18, .invokestatic 101, [0, 2, 2, 351], 0), (79, 3, 18, .invokestatic 105, [0, 2, 2, 352], 0)]
theorem fb_350_0 : FB mi iT mi_350 (bpc code_350) (fl_350_0) := ⟨fun hd => mk6 fld_22_6 (Or.inl ⟨rfl, by decide⟩) (Or.inr ⟨_, W2266⟩) (Or.inl rfl) (hd rfl),
  ⟨fun hd => mk19 mt_604 cf_604 (vf_604_24.rt (Or.inl W565) (hd rfl)) rfl rfl (noH_nil rfl),
  ⟨fun hd => mk6 fld_35_3 (Or.inl ⟨rfl, by decide⟩) (Or.inr ⟨_, W3838⟩) (Or.inl rfl) (hd rfl),
  ⟨fun hd => mk18 mt_342 sf_342 (Or.inl W588) rfl rfl (noH_nil rfl) (hd rfl),
  ⟨fun hd => mk18 mt_351 sf_351 (Or.inl W3901) rfl rfl (noH_nil rfl) (hd rfl),
  ⟨fun hd => mk6 fld_35_4 (Or.inl ⟨rfl, by decide⟩) (Or.inr ⟨_, W3840⟩) (Or.inl rfl) (hd rfl),
  ⟨fun hd => mk18 mt_351 sf_351 (Or.inl W3901) rfl rfl (noH_nil rfl) (hd rfl),
  ⟨fun hd => mk18 mt_351 sf_351 (Or.inl W3901) rfl rfl (noH_nil rfl) (hd rfl),
  ⟨fun hd => mk18 mt_352 sf_352 (Or.inl W3904) rfl rfl (noH_nil rfl) (hd rfl),
  trivial⟩⟩⟩⟩⟩⟩⟩⟩⟩
theorem fe_350 : eqEs ((flat code_350).filter (fun e => ndE e.2.2.1)) (fl_350_0) = true := by decide +kernel
theorem om_350 : OKm mi iT prg 350 := OKm_of (code := code_350) rfl mt_350 (Or.inl (by decide +kernel)) rfl wk_350 (by decide +kernel) (by decide +kernel) (FA_of fe_350 (fb_350_0))
def fl_351_0 : List Ent := [(1, 3, 6, .getfield 50, [3, 22, 103], 0), (4, 3, 19, .invokevirtual 55, [3, 1, 1, 5, 4], 0), (9, 5, 34, .invokeinterface 59 1, [0, 1, 1, 11, 87], 0), (18, 5, 34, .invokeinterface 65 1, [3, 1, 1, 11, 88], 0), (23, 3, 17, .checkcast 48, [35], 0), (28, 3, 6, .getfield 69, [0, 35, 188], 0), (36, 3, 6, .getfield 73, [0, 35, 184], 0)]
theorem fb_351_0 : FB mi iT mi_351 (bpc code_351) (fl_351_0) := ⟨fun hd => mk6 fld_22_11 (Or.inl ⟨rfl, by decide⟩) (Or.inr ⟨_, W2292⟩) (Or.inl rfl) (hd rfl),
  ⟨fun hd => mk19 mt_4 cf_4 (vf_4_5.rt (Or.inl W552) (hd rfl)) rfl rfl (noH_nil rfl),
  ⟨fun hd => mk34 mt_87 cf_87 (ff_87_11.rt W554 (hd rfl)) rfl rfl,
  ⟨fun hd => mk34 mt_88 cf_88 (ff_88_11.rt W556 (hd rfl)) rfl rfl,
  ⟨fun hd => mk17 kx_35 W557 (hd rfl),
  ⟨fun hd => mk6 fld_35_8 (Or.inl ⟨rfl, by decide⟩) (Or.inr ⟨_, W3852⟩) (Or.inl rfl) (hd rfl),
  ⟨fun hd => mk6 fld_35_4 (Or.inl ⟨rfl, by decide⟩) (Or.inr ⟨_, W3840⟩) (Or.inl rfl) (hd rfl),
  trivial⟩⟩⟩⟩⟩⟩⟩
theorem fe_351 : eqEs ((flat code_351).filter (fun e => ndE e.2.2.1)) (fl_351_0) = true := by decide +kernel
theorem om_351 : OKm mi iT prg 351 := OKm_of (code := code_351) rfl mt_351 (Or.inl (by decide +kernel)) rfl wk_351 (by decide +kernel) (by decide +kernel) (FA_of fe_351 (fb_351_0))
def fl_352_0 : List Ent := [(1, 3, 6, .getfield 50, [3, 22, 103], 0), (4, 3, 19, .invokevirtual 55, [3, 1, 1, 5, 4], 0), (9, 5, 34, .invokeinterface 59 1, [0, 1, 1, 11, 87], 0), (18, 5, 34, .invokeinterface 65 1, [3, 1, 1, 11, 88], 0), (23, 3, 17, .checkcast 48, [35], 0), (28, 3, 6, .getfield 69, [0, 35, 188], 0)]
theorem fb_352_0 : FB mi iT mi_352 (bpc code_352) (fl_352_0) := ⟨fun hd => mk6 fld_22_11 (Or.inl ⟨rfl, by decide⟩) (Or.inr ⟨_, W2292⟩) (Or.inl rfl) (hd rfl),
  ⟨fun hd => mk19 mt_4 cf_4 (vf_4_5.rt (Or.inl W552) (hd rfl)) rfl rfl (noH_nil rfl),
  ⟨fun hd => mk34 mt_87 cf_87 (ff_87_11.rt W554 (hd rfl)) rfl rfl,
  ⟨fun hd => mk34 mt_88 cf_88 (ff_88_11.rt W556 (hd rfl)) rfl rfl,
  ⟨fun hd => mk17 kx_35 W557 (hd rfl),
  ⟨fun hd => mk6 fld_35_8 (Or.inl ⟨rfl, by decide⟩) (Or.inr ⟨_, W3852⟩) (Or.inl rfl) (hd rfl),
  trivial⟩⟩⟩⟩⟩⟩
theorem fe_352 : eqEs ((flat code_352).filter (fun e => ndE e.2.2.1)) (fl_352_0) = true := by decide +kernel
theorem om_352 : OKm mi iT prg 352 := OKm_of (code := code_352) rfl mt_352 (Or.inl (by decide +kernel)) rfl wk_352 (by decide +kernel) (by decide +kernel) (FA_of fe_352 (fb_352_0))
def fl_353_0 : List Ent := [(3, 3, 6, .getfield 50, [3, 22, 103], 0), (6, 3, 19, .invokevirtual 34, [0, 1, 1, 5, 5], 0), (17, 3, 6, .getfield 50, [3, 22, 103], 0), (21, 3, 19, .invokevirtual 42, [3, 2, 2, 5, 6], 0), (24, 3, 17, .checkcast 48, [35], 0), (31, 3, 6, .getfield 108, [3, 35, 182], 0), (35, 3, 6, .getfield 112, [3, 22, 113], 0), (43, 3, 19, .invokevirtual 115, [9, 1, 1, 35, 764], 0), (47, 3, 6, .getfield 50, [3, 22, 103], 0), (51, 3, 19, .invokevirtual 118, [3, 2, 2, 5, 12], 0), (58, 3, 6, .getfield 121, [0, 35, 185], 0), (71, 3, 6, .getfield 124, [0, 22, 117], 0), (76, 3, 7, .putfield 124, [0, 22, 117], 0)]
theorem fb_353_0 : FB mi iT mi_353 (bpc code_353) (fl_353_0) := ⟨fun hd => mk6 fld_22_11 (Or.inl ⟨rfl, by decide⟩) (Or.inr ⟨_, W2292⟩) (Or.inl rfl) (hd rfl),
  ⟨fun hd => mk19 mt_5 cf_5 (vf_5_5.rt (Or.inl W1721) (hd rfl)) rfl rfl (noH_nil rfl),
  ⟨fun hd => mk6 fld_22_11 (Or.inl ⟨rfl, by decide⟩) (Or.inr ⟨_, W2292⟩) (Or.inl rfl) (hd rfl),
  ⟨fun hd => mk19 mt_6 cf_6 (vf_6_5.rt (Or.inl W3824) (hd rfl)) rfl rfl (noH_nil rfl),
  ⟨fun hd => mk17 kx_35 W557 (hd rfl),
  ⟨fun hd => mk6 fld_35_2 (Or.inl ⟨rfl, by decide⟩) (Or.inr ⟨_, W3835⟩) (Or.inl rfl) (hd rfl),
  ⟨fun hd => mk6 fld_22_21 (Or.inl ⟨rfl, by decide⟩) (Or.inr ⟨_, W2320⟩) (Or.inl rfl) (hd rfl),
  ⟨fun hd => mk19 mt_764 cf_764 (vf_764_35.rt (Or.inl W4152) (hd rfl)) rfl rfl (noH_nil rfl),
  ⟨fun hd => mk6 fld_22_11 (Or.inl ⟨rfl, by decide⟩) (Or.inr ⟨_, W2292⟩) (Or.inl rfl) (hd rfl),
  ⟨fun hd => mk19 mt_12 cf_12 (vf_12_5.rt (Or.inl W4156) (hd rfl)) rfl rfl (noH_nil rfl),
  ⟨fun hd => mk6 fld_35_5 (Or.inl ⟨rfl, by decide⟩) (Or.inr ⟨_, W3842⟩) (Or.inl rfl) (hd rfl),
  ⟨fun hd => mk6 fld_22_25 (Or.inl ⟨rfl, by decide⟩) (Or.inr ⟨_, W2329⟩) (Or.inl rfl) (hd rfl),
  ⟨fun hd => mk7 fld_22_25 (Or.inr ⟨_, W2329⟩) (Or.inl rfl) (Or.inl rfl) (hd rfl),
  trivial⟩⟩⟩⟩⟩⟩⟩⟩⟩⟩⟩⟩⟩
theorem fe_353 : eqEs ((flat code_353).filter (fun e => ndE e.2.2.1)) (fl_353_0) = true := by decide +kernel
theorem om_353 : OKm mi iT prg 353 := OKm_of (code := code_353) rfl mt_353 (Or.inl (by decide +kernel)) rfl wk_353 (by decide +kernel) (by decide +kernel) (FA_of fe_353 (fb_353_0))
def fl_354_0 : List Ent := [(7, 3, 6, .getfield 12, [3, 9, 36], 0), (10, 3, 19, .invokevirtual 34, [0, 1, 1, 5, 5], 0), (13, 3, 18, .invokestatic 38, [9, 2, 2, 210], 0), (26, 3, 6, .getfield 12, [3, 9, 36], 0), (30, 3, 19, .invokevirtual 42, [3, 2, 2, 5, 6], 0), (33, 3, 17, .checkcast 46, [34], 0)]
theorem fb_354_0 : FB mi iT mi_354 (bpc code_354) (fl_354_0) := ⟨fun hd => mk6 fld_9_1 (Or.inl ⟨rfl, by decide⟩) (Or.inl W385) (Or.inl rfl) (hd rfl),
  ⟨fun hd => mk19 mt_5 cf_5 (vf_5_5.rt (Or.inl W1721) (hd rfl)) rfl rfl (noH_nil rfl),
  ⟨fun hd => mk18 mt_210 sf_210 (Or.inr ⟨⟨_, W3823⟩, _, _, rfl⟩) rfl rfl (noH_nil rfl) (hd rfl),
  ⟨fun hd => mk6 fld_9_1 (Or.inl ⟨rfl, by decide⟩) (Or.inl W385) (Or.inl rfl) (hd rfl),
  ⟨fun hd => mk19 mt_6 cf_6 (vf_6_5.rt (Or.inl W3824) (hd rfl)) rfl rfl (noH_nil rfl),
  ⟨fun hd => mk17 kx_34 W3825 (hd rfl),
  trivial⟩⟩⟩⟩⟩⟩
theorem fe_354 : eqEs ((flat code_354).filter (fun e => ndE e.2.2.1)) (fl_354_0) = true := by decide +kernel
theorem om_354 : OKm mi iT prg 354 := OKm_of (code := code_354) rfl mt_354 (Or.inl (by decide +kernel)) rfl wk_354 (by decide +kernel) (by decide +kernel) (FA_of fe_354 (fb_354_0))
def fl_355_0 : List Ent := [(2, 3, 6, .getfield 112, [3, 22, 113], 0), (6, 3, 18, .invokestatic 127, [0, 2, 2, 760], 0), (10, 3, 7, .putfield 131, [2, 22, 114], 0), (14, 3, 6, .getfield 30, [3, 9, 35], 0), (18, 3, 19, .invokevirtual 134, [9, 2, 2, 6, 310], 0), (23, 3, 7, .putfield 112, [3, 22, 113], 0), (28, 3, 7, .putfield 140, [4, 22, 111], 0), (33, 3, 7, .putfield 144, [4, 22, 112], 0)]
theorem fb_355_0 : FB mi iT mi_355 (bpc code_355) (fl_355_0) := ⟨fun hd => mk6 fld_22_21 (Or.inl ⟨rfl, by decide⟩) (Or.inr ⟨_, W2320⟩) (Or.inl rfl) (hd rfl),
  ⟨fun hd => mk18 mt_760 sf_760 (Or.inl W4174) rfl rfl (noH_nil rfl) (hd rfl),
  ⟨fun hd => mk7 fld_22_22 (Or.inr ⟨_, W2323⟩) (Or.inl rfl) (Or.inl rfl) (hd rfl),
  ⟨fun hd => mk6 fld_9_0 (Or.inl ⟨rfl, by decide⟩) (Or.inl W384) (Or.inl rfl) (hd rfl),
  ⟨fun hd => mk19 mt_310 cf_310 (vf_310_6.rt (Or.inl W4178) (hd rfl)) rfl rfl (noH_nil rfl),
  ⟨fun hd => mk7 fld_22_21 (Or.inr ⟨_, W2320⟩) (Or.inl rfl) (Or.inl rfl) (hd rfl),
  ⟨fun hd => mk7 fld_22_19 (Or.inr ⟨_, W2315⟩) (Or.inl rfl) (Or.inl rfl) (hd rfl),
  ⟨fun hd => mk7 fld_22_20 (Or.inr ⟨_, W2318⟩) (Or.inl rfl) (Or.inl rfl) (hd rfl),
  trivial⟩⟩⟩⟩⟩⟩⟩⟩
theorem fe_355 : eqEs ((flat code_355).filter (fun e => ndE e.2.2.1)) (fl_355_0) = true := by decide +kernel
theorem om_355 : OKm mi iT prg 355 := OKm_of (code := code_355) rfl mt_355 (Or.inl (by decide +kernel)) rfl wk_355 (by decide +kernel) (by decide +kernel) (FA_of fe_355 (fb_355_0))
def fl_356_0 : List Ent := [(1, 3, 22, .invokespecial 3, [], 0), (7, 2, 12, .newarray .int, [100], 0), (9, 3, 7, .putfield 11, [3, 10, 40], 0), (14, 3, 7, .putfield 15, [3, 10, 39], 0)]
theorem fb_356_0 : FB mi iT mi_356 (bpc code_356) (fl_356_0) := ⟨fun hd => mk22 (by decide) W368 oi_w (hd rfl),
  ⟨fun hd => mk12a (at_ := .int) (by decide) rfl W239 (hd rfl),
  ⟨fun hd => mk7 fld_10_1 (Or.inl W370) (Or.inl rfl) (Or.inr ⟨rfl, rfl, rfl, W370⟩) (hd rfl),
  ⟨fun hd => mk7 fld_10_0 (Or.inl W369) (Or.inl rfl) (Or.inr ⟨rfl, rfl, rfl, W369⟩) (hd rfl),
  trivial⟩⟩⟩⟩
theorem fe_356 : eqEs ((flat code_356).filter (fun e => ndE e.2.2.1)) (fl_356_0) = true := by decide +kernel
theorem om_356 : OKm mi iT prg 356 := OKm_of (code := code_356) rfl mt_356 (Or.inl (by decide +kernel)) rfl wk_356 (by decide +kernel) (by decide +kernel) (FA_of fe_356 (fb_356_0))
def fl_357_0 : List Ent := [(2, 3, 7, .putfield 25, [0, 10, 41], 0), (7, 3, 7, .putfield 29, [0, 10, 42], 0), (15, 3, 19, .invokevirtual 42, [9, 5, 5, 10, 2006], 0)]
theorem fb_357_0 : FB mi iT mi_357 (bpc code_357) (fl_357_0) := ⟨fun hd => mk7 fld_10_2 (Or.inl W371) (Or.inl rfl) (Or.inl rfl) (hd rfl),
  ⟨fun hd => mk7 fld_10_3 (Or.inl W373) (Or.inl rfl) (Or.inl rfl) (hd rfl),
  ⟨fun hd => mk19 rfl (cf_X9_go 7) (vf_X9_go_10.rt (Or.inl W4204) (hd rfl)) rfl rfl (noH_nil rfl),
  trivial⟩⟩⟩
theorem fe_357 : eqEs ((flat code_357).filter (fun e => ndE e.2.2.1)) (fl_357_0) = true := by decide +kernel
theorem om_357 : OKm mi iT prg 357 := OKm_of (code := code_357) rfl mt_357 (Or.inl (by decide +kernel)) rfl wk_357 (by decide +kernel) (by decide +kernel) (FA_of fe_357 (fb_357_0))
def fl_X9_go_0 (m : Nat) : List Ent := [(7, 3, 18, .invokestatic 19, [0, 2, 2, 760], 0), (14, 3, 6, .getfield 25, [0, 10, 41], 0), (24, 3, 6, .getfield 25, [0, 10, 41], 0), (33, 3, 7, .putfield 25, [0, 10, 41], 0), (47, 3, 6, .getfield 11, [3, 10, 40], 0), (52, 3, 7, .putfield 29, [0, 10, 42], 0), (62, 3, 6, .getfield 15, [3, 10, 39], 0), (65, 3, 19, .invokevirtual 32, [0, 1, 1, 5, 5], 0), (84, 3, 6, .getfield 11, [3, 10, 40], 0), (91, 1, 9, .iastore, [0, 100], 0), (93, 3, 6, .getfield 15, [3, 10, 39], 0), (98, 3, 19, .invokevirtual 38, [3, 2, 2, 5, 6], 0), (101, 3, 17, .checkcast 20, [34], 0), (121, 3, 18, .invokestatic 19, [0, 2, 2, 760], 0), (129, 3, 19, .invokevirtual 42, [9, 5, 5, 10, m - 1], 0)]
theorem fb_X9_go_0 (m : Nat) (hm : 2000 ≤ m ∧ m ≤ 2099) : FB mi iT (mi_X9_go (m - 1999)) (bpc (code_X9_go m)) (fl_X9_go_0 m) := ⟨fun hd => mk18 mt_760 sf_760 (Or.inl W4208) (rkc_X9_go (by decide)) rfl (noH_nil rfl) (hd rfl),
  ⟨fun hd => mk6 fld_10_2 (Or.inl ⟨rfl, by decide⟩) (Or.inl W371) (Or.inl rfl) (hd rfl),
  ⟨fun hd => mk6 fld_10_2 (Or.inl ⟨rfl, by decide⟩) (Or.inl W371) (Or.inl rfl) (hd rfl),
  ⟨fun hd => mk7 fld_10_2 (Or.inl W371) (Or.inl rfl) (Or.inl rfl) (hd rfl),
  ⟨fun hd => mk6 fld_10_1 (Or.inl ⟨rfl, by decide⟩) (Or.inl W370) (Or.inl rfl) (hd rfl),
  ⟨fun hd => mk7 fld_10_3 (Or.inl W373) (Or.inl rfl) (Or.inl rfl) (hd rfl),
  ⟨fun hd => mk6 fld_10_0 (Or.inl ⟨rfl, by decide⟩) (Or.inl W369) (Or.inl rfl) (hd rfl),
  ⟨fun hd => mk19 mt_5 cf_5 (vf_5_5.rt (Or.inl W4209) (hd rfl)) (rkc_X9_go (by decide)) rfl (noH_nil rfl),
  ⟨fun hd => mk6 fld_10_1 (Or.inl ⟨rfl, by decide⟩) (Or.inl W370) (Or.inl rfl) (hd rfl),
  ⟨fun hd => ⟨_, _, _, rfl, rfl, hd rfl, Or.inl ⟨rfl, rfl, rfl⟩⟩,
  ⟨fun hd => mk6 fld_10_0 (Or.inl ⟨rfl, by decide⟩) (Or.inl W369) (Or.inl rfl) (hd rfl),
  ⟨fun hd => mk19 mt_6 cf_6 (vf_6_5.rt (Or.inl W4210) (hd rfl)) (rkc_X9_go (by decide)) rfl (noH_nil rfl),
  ⟨fun hd => mk17 kx_34 W4211 (hd rfl),
  ⟨fun hd => mk18 mt_760 sf_760 (Or.inl W4208) (rkc_X9_go (by decide)) rfl (noH_nil rfl) (hd rfl),
  ⟨fun hd => mk19 (mi_pred_X9_go hm) (cf_X9_go _) ((vfr_X9_go _).rt (Or.inl W4204) (hd rfl)) (rk_X9_go hm) rfl (noH_nil rfl),
  trivial⟩⟩⟩⟩⟩⟩⟩⟩⟩⟩⟩⟩⟩⟩⟩
theorem fe_X9_go (m : Nat) : (flat (code_X9_go m)).filter (fun e => ndE e.2.2.1) = fl_X9_go_0 m := rfl
theorem om_X9_go (m : Nat) (hm : 2000 ≤ m ∧ m ≤ 2099) (hp : prg m = code_X9_go m) (hq : mi m = (mi_X9_go (m - 1999))) : OKm mi iT prg m := OKm_of hp hq (Or.inl rfl) rfl (wk_X9_go m) rfl rfl (FB_FA _ (by rw [fe_X9_go]; exact fb_X9_go_0 m hm))
def fl_359_0 : List Ent := [(1, 3, 22, .invokespecial 16, [], 0), (5, 3, 11, .new 22, [5, 3], 0), (9, 3, 36, .invokespecial 24, [9, 1, 1, 5, 3], 0), (12, 3, 7, .putfield 25, [3, 37, 195], 0), (18, 3, 7, .putfield 29, [0, 37, 197], 0), (23, 2, 12, .newarray .int, [100], 0), (25, 3, 7, .putfield 33, [3, 37, 202], 0), (29, 3, 11, .new 22, [5, 3], 0), (33, 3, 36, .invokespecial 24, [9, 1, 1, 5, 3], 0), (36, 3, 7, .putfield 36, [3, 37, 203], 0), (40, 3, 11, .new 22, [5, 3], 0), (44, 3, 36, .invokespecial 24, [9, 1, 1, 5, 3], 0), (47, 3, 7, .putfield 39, [3, 37, 204], 0), (51, 3, 11, .new 22, [5, 3], 0), (55, 3, 36, .invokespecial 24, [9, 1, 1, 5, 3], 0), (58, 3, 7, .putfield 42, [3, 37, 205], 0), (62, 3, 11, .new 22, [5, 3], 0), (66, 3, 36, .invokespecial 24, [9, 1, 1, 5, 3], 0), (69, 3, 7, .putfield 45, [3, 37, 206], 0), (73, 3, 11, .new 22, [5, 3], 0), (77, 3, 36, .invokespecial 24, [9, 1, 1, 5, 3], 0), (80, 3, 7, .putfield 48, [3, 37, 207], 0), (84, 3, 11, .new 22, [5, 3], 0), (88, 3, 36, .invokespecial 24, [9, 1, 1, 5, 3], 0), (91, 3, 7, .putfield 51, [3, 37, 208], 0), (98, 2, 12, .newarray .int, [100], 0), (100, 3, 7, .putfield 54, [3, 37, 209], 0), (107, 3, 7, .putfield 57, [0, 37, 210], 0)]
theorem fb_359_0 : FB mi iT mi_359 (bpc code_359) (fl_359_0) := ⟨fun hd => mk22 (by decide) W4278 oi_w (hd rfl),
  ⟨fun hd => mk11 nf_5 W4279 (hd rfl),
  ⟨fun hd => mk36 mt_3 cf_3 (ic_3.rt (Or.inl W4280) (hd rfl)) rfl rfl,
  ⟨fun hd => mk7 fld_37_1 (Or.inl W4283) (Or.inl rfl) (Or.inr ⟨rfl, rfl, rfl, W4283⟩) (hd rfl),
  ⟨fun hd => mk7 fld_37_3 (Or.inl W4286) (Or.inl rfl) (Or.inl rfl) (hd rfl),
  ⟨fun hd => mk12a (at_ := .int) (by decide) rfl W239 (hd rfl),
  ⟨fun hd => mk7 fld_37_8 (Or.inl W4297) (Or.inl rfl) (Or.inr ⟨rfl, rfl, rfl, W4297⟩) (hd rfl),
  ⟨fun hd => mk11 nf_5 W4279 (hd rfl),
  ⟨fun hd => mk36 mt_3 cf_3 (ic_3.rt (Or.inl W4280) (hd rfl)) rfl rfl,
  ⟨fun hd => mk7 fld_37_9 (Or.inl W4298) (Or.inl rfl) (Or.inr ⟨rfl, rfl, rfl, W4298⟩) (hd rfl),
  ⟨fun hd => mk11 nf_5 W4279 (hd rfl),
  ⟨fun hd => mk36 mt_3 cf_3 (ic_3.rt (Or.inl W4280) (hd rfl)) rfl rfl,
  ⟨fun hd => mk7 fld_37_10 (Or.inl W4299) (Or.inl rfl) (Or.inr ⟨rfl, rfl, rfl, W4299⟩) (hd rfl),
  ⟨fun hd => mk11 nf_5 W4279 (hd rfl),
  ⟨fun hd => mk36 mt_3 cf_3 (ic_3.rt (Or.inl W4280) (hd rfl)) rfl rfl,
  ⟨fun hd => mk7 fld_37_11 (Or.inl W4300) (Or.inl rfl) (Or.inr ⟨rfl, rfl, rfl, W4300⟩) (hd rfl),
  ⟨fun hd => mk11 nf_5 W4279 (hd rfl),
  ⟨fun hd => mk36 mt_3 cf_3 (ic_3.rt (Or.inl W4280) (hd rfl)) rfl rfl,
  ⟨fun hd => mk7 fld_37_12 (Or.inl W4301) (Or.inl rfl) (Or.inr ⟨rfl, rfl, rfl, W4301⟩) (hd rfl),
  ⟨fun hd => mk11 nf_5 W4279 (hd rfl),
  ⟨fun hd => mk36 mt_3 cf_3 (ic_3.rt (Or.inl W4280) (hd rfl)) rfl rfl,
  ⟨fun hd => mk7 fld_37_13 (Or.inl W4302) (Or.inl rfl) (Or.inr ⟨rfl, rfl, rfl, W4302⟩) (hd rfl),
  ⟨fun hd => mk11 nf_5 W4279 (hd rfl),
  ⟨fun hd => mk36 mt_3 cf_3 (ic_3.rt (Or.inl W4280) (hd rfl)) rfl rfl,
  ⟨fun hd => mk7 fld_37_14 (Or.inl W4304) (Or.inl rfl) (Or.inr ⟨rfl, rfl, rfl, W4304⟩) (hd rfl),
  ⟨fun hd => mk12a (at_ := .int) (by decide) rfl W239 (hd rfl),
  ⟨fun hd => mk7 fld_37_15 (Or.inl W4305) (Or.inl rfl) (Or.inr ⟨rfl, rfl, rfl, W4305⟩) (hd rfl),
  ⟨fun hd => mk7 fld_37_16 (Or.inl W4306) (Or.inl rfl) (Or.inl rfl) (hd rfl),
  trivial⟩⟩⟩⟩⟩⟩⟩⟩⟩⟩⟩⟩⟩⟩⟩⟩⟩⟩⟩⟩⟩⟩⟩⟩⟩⟩⟩⟩
theorem fe_359 : eqEs ((flat code_359).filter (fun e => ndE e.2.2.1)) (fl_359_0) = true := by decide +kernel
theorem om_359 : OKm mi iT prg 359 := OKm_of (code := code_359) rfl mt_359 (Or.inl (by decide +kernel)) rfl wk_359 (by decide +kernel) (by decide +kernel) (FA_of fe_359 (fb_359_0))
def fl_360_0 : List Ent := [(1, 3, 6, .getfield 60, [0, 37, 194], 0)]
theorem fb_360_0 : FB mi iT mi_360 (bpc code_360) (fl_360_0) := ⟨fun hd => mk6 fld_37_0 (Or.inl ⟨rfl, by decide⟩) (Or.inl W4281) (Or.inl rfl) (hd rfl),
  trivial⟩
theorem fe_360 : eqEs ((flat code_360).filter (fun e => ndE e.2.2.1)) (fl_360_0) = true := by decide +kernel
theorem om_360 : OKm mi iT prg 360 := OKm_of (code := code_360) rfl mt_360 (Or.inl (by decide +kernel)) rfl wk_360 (by decide +kernel) (by decide +kernel) (FA_of fe_360 (fb_360_0))
def fl_361_0 : List Ent := [(4, 3, 18, .invokestatic 71, [0, 3, 3, 362], 0), (15, 3, 18, .invokestatic 71, [0, 3, 3, 362], 0), (25, 3, 18, .invokestatic 71, [0, 3, 3, 362], 0), (37, 3, 18, .invokestatic 71, [0, 3, 3, 362], 0), (49, 3, 19, .invokevirtual 104, [0, 3, 3, 37, 363], 0), (57, 3, 6, .getfield 25, [3, 37, 195], 0), (60, 3, 19, .invokevirtual 67, [0, 1, 1, 5, 5], 0), (73, 3, 19, .invokevirtual 63, [0, 3, 3, 37, 364], 0), (82, 3, 6, .getfield 25, [3, 37, 195], 0), (85, 3, 11, .new 96, [38, 37], 0), (91, 3, 6, .getfield 25, [3, 37, 195], 0), (94, 3, 19, .invokevirtual 67, [0, 1, 1, 5, 5], 0), (102, 3, 36, .invokespecial 107, [9, 7, 7, 38, 660], 0), (105, 3, 19, .invokevirtual 110, [0, 2, 2, 5, 8], 0), (110, 3, 6, .getfield 25, [3, 37, 195], 0), (113, 3, 19, .invokevirtual 67, [0, 1, 1, 5, 5], 0)]
theorem fb_361_0 : FB mi iT mi_361 (bpc code_361) (fl_361_0) := ⟨fun hd => mk18 mt_362 sf_362 (Or.inl W4353) rfl rfl (noH_nil rfl) (hd rfl),
  ⟨fun hd => mk18 mt_362 sf_362 (Or.inl W4353) rfl rfl (noH_nil rfl) (hd rfl),
  ⟨fun hd => mk18 mt_362 sf_362 (Or.inl W4353) rfl rfl (noH_nil rfl) (hd rfl),
  ⟨fun hd => mk18 mt_362 sf_362 (Or.inl W4353) rfl rfl (noH_nil rfl) (hd rfl),
  ⟨fun hd => mk19 mt_363 cf_363 (vf_363_37.rt (Or.inl W4356) (hd rfl)) rfl rfl (noH_nil rfl),
  ⟨fun hd => mk6 fld_37_1 (Or.inl ⟨rfl, by decide⟩) (Or.inl W4283) (Or.inl rfl) (hd rfl),
  ⟨fun hd => mk19 mt_5 cf_5 (vf_5_5.rt (Or.inl W4364) (hd rfl)) rfl rfl (noH_nil rfl),
  ⟨fun hd => mk19 mt_364 cf_364 (vf_364_37.rt (Or.inl W4360) (hd rfl)) rfl rfl (noH_nil rfl),
  ⟨fun hd => mk6 fld_37_1 (Or.inl ⟨rfl, by decide⟩) (Or.inl W4283) (Or.inl rfl) (hd rfl),
  ⟨fun hd => mk11 nf_38 W4365 (hd rfl),
  ⟨fun hd => mk6 fld_37_1 (Or.inl ⟨rfl, by decide⟩) (Or.inl W4283) (Or.inl rfl) (hd rfl),
  ⟨fun hd => mk19 mt_5 cf_5 (vf_5_5.rt (Or.inl W4364) (hd rfl)) rfl rfl (noH_nil rfl),
  ⟨fun hd => mk36 mt_660 cf_660 (ic_660.rt (Or.inl W4367) (hd rfl)) rfl rfl,
  ⟨fun hd => mk19 mt_8 cf_8 (vf_8_5.rt (Or.inl W4537) (hd rfl)) rfl rfl (noH_nil rfl),
  ⟨fun hd => mk6 fld_37_1 (Or.inl ⟨rfl, by decide⟩) (Or.inl W4283) (Or.inl rfl) (hd rfl),
  ⟨fun hd => mk19 mt_5 cf_5 (vf_5_5.rt (Or.inl W4364) (hd rfl)) rfl rfl (noH_nil rfl),
  trivial⟩⟩⟩⟩⟩⟩⟩⟩⟩⟩⟩⟩⟩⟩⟩⟩
theorem fe_361 : eqEs ((flat code_361).filter (fun e => ndE e.2.2.1)) (fl_361_0) = true := by decide +kernel
theorem om_361 : OKm mi iT prg 361 := OKm_of (code := code_361) rfl mt_361 (Or.inl (by decide +kernel)) rfl wk_361 (by decide +kernel) (by decide +kernel) (FA_of fe_361 (fb_361_0))
theorem fe_362 : eqEs ((flat code_362).filter (fun e => ndE e.2.2.1)) ([]) = true := by decide +kernel
theorem om_362 : OKm mi iT prg 362 := OKm_of (code := code_362) rfl mt_362 (Or.inl (by decide +kernel)) rfl wk_362 (by decide +kernel) (by decide +kernel) (FA_of fe_362 (trivial))
def fl_363_0 : List Ent := [(2, 3, 7, .putfield 60, [0, 37, 194], 0), (8, 3, 19, .invokevirtual 63, [0, 3, 3, 37, 364], 0)]
theorem fb_363_0 : FB mi iT mi_363 (bpc code_363) (fl_363_0) := ⟨fun hd => mk7 fld_37_0 (Or.inl W4281) (Or.inl rfl) (Or.inl rfl) (hd rfl),
  ⟨fun hd => mk19 mt_364 cf_364 (vf_364_37.rt (Or.inl W4360) (hd rfl)) rfl rfl (noH_nil rfl),
  trivial⟩⟩
theorem fe_363 : eqEs ((flat code_363).filter (fun e => ndE e.2.2.1)) (fl_363_0) = true := by decide +kernel
theorem om_363 : OKm mi iT prg 363 := OKm_of (code := code_363) rfl mt_363 (Or.inl (by decide +kernel)) rfl wk_363 (by decide +kernel) (by decide +kernel) (FA_of fe_363 (fb_363_0))
def fl_364_0 : List Ent := [(5, 3, 6, .getfield 60, [0, 37, 194], 0), (13, 3, 7, .putfield 60, [0, 37, 194], 0), (17, 3, 6, .getfield 60, [0, 37, 194], 0)]
theorem fb_364_0 : FB mi iT mi_364 (bpc code_364) (fl_364_0) := ⟨fun hd => mk6 fld_37_0 (Or.inl ⟨rfl, by decide⟩) (Or.inl W4281) (Or.inl rfl) (hd rfl),
  ⟨fun hd => mk7 fld_37_0 (Or.inl W4281) (Or.inl rfl) (Or.inl rfl) (hd rfl),
  ⟨fun hd => mk6 fld_37_0 (Or.inl ⟨rfl, by decide⟩) (Or.inl W4281) (Or.inl rfl) (hd rfl),
  trivial⟩⟩⟩
theorem fe_364 : eqEs ((flat code_364).filter (fun e => ndE e.2.2.1)) (fl_364_0) = true := by decide +kernel
theorem om_364 : OKm mi iT prg 364 := OKm_of (code := code_364) rfl mt_364 (Or.inl (by decide +kernel)) rfl wk_364 (by decide +kernel) (by decide +kernel) (FA_of fe_364 (fb_364_0))
def fl_365_0 : List Ent := [(3, 3, 19, .invokevirtual 75, [0, 2, 2, 37, 366], 0), (13, 3, 18, .invokestatic 71, [0, 3, 3, 362], 0), (22, 3, 18, .invokestatic 71, [0, 3, 3, 362], 0), (34, 3, 19, .invokevirtual 104, [0, 3, 3, 37, 363], 0), (46, 3, 18, .invokestatic 71, [0, 3, 3, 362], 0), (58, 3, 19, .invokevirtual 63, [0, 3, 3, 37, 364], 0), (66, 3, 6, .getfield 25, [3, 37, 195], 0), (70, 3, 19, .invokevirtual 114, [3, 2, 2, 5, 6], 0), (73, 3, 17, .checkcast 96, [38], 0), (76, 3, 6, .getfield 118, [0, 38, 217], 0), (88, 3, 19, .invokevirtual 63, [0, 3, 3, 37, 364], 0), (97, 3, 6, .getfield 25, [3, 37, 195], 0), (101, 3, 19, .invokevirtual 114, [3, 2, 2, 5, 6], 0), (104, 3, 17, .checkcast 96, [38], 0), (107, 3, 6, .getfield 121, [3, 38, 215], 0), (117, 3, 6, .getfield 25, [3, 37, 195], 0), (121, 3, 19, .invokevirtual 114, [3, 2, 2, 5, 6], 0), (124, 3, 17, .checkcast 96, [38], 0), (127, 3, 6, .getfield 121, [3, 38, 215], 0), (135, 1, 9, .iastore, [0, 100], 0)]
theorem fb_365_0 : FB mi iT mi_365 (bpc code_365) (fl_365_0) := ⟨fun hd => mk19 mt_366 cf_366 (vf_366_37.rt (Or.inl W4542) (hd rfl)) rfl rfl (noH_nil rfl),
  ⟨fun hd => mk18 mt_362 sf_362 (Or.inl W4353) rfl rfl (noH_nil rfl) (hd rfl),
  ⟨fun hd => mk18 mt_362 sf_362 (Or.inl W4353) rfl rfl (noH_nil rfl) (hd rfl),
  ⟨fun hd => mk19 mt_363 cf_363 (vf_363_37.rt (Or.inl W4356) (hd rfl)) rfl rfl (noH_nil rfl),
  ⟨fun hd => mk18 mt_362 sf_362 (Or.inl W4353) rfl rfl (noH_nil rfl) (hd rfl),
  ⟨fun hd => mk19 mt_364 cf_364 (vf_364_37.rt (Or.inl W4360) (hd rfl)) rfl rfl (noH_nil rfl),
  ⟨fun hd => mk6 fld_37_1 (Or.inl ⟨rfl, by decide⟩) (Or.inl W4283) (Or.inl rfl) (hd rfl),
  ⟨fun hd => mk19 mt_6 cf_6 (vf_6_5.rt (Or.inl W4546) (hd rfl)) rfl rfl (noH_nil rfl),
  ⟨fun hd => mk17 kx_38 W4365 (hd rfl),
  ⟨fun hd => mk6 fld_38_5 (Or.inl ⟨rfl, by decide⟩) (Or.inl W4387) (Or.inl rfl) (hd rfl),
  ⟨fun hd => mk19 mt_364 cf_364 (vf_364_37.rt (Or.inl W4360) (hd rfl)) rfl rfl (noH_nil rfl),
  ⟨fun hd => mk6 fld_37_1 (Or.inl ⟨rfl, by decide⟩) (Or.inl W4283) (Or.inl rfl) (hd rfl),
  ⟨fun hd => mk19 mt_6 cf_6 (vf_6_5.rt (Or.inl W4546) (hd rfl)) rfl rfl (noH_nil rfl),
  ⟨fun hd => mk17 kx_38 W4365 (hd rfl),
  ⟨fun hd => mk6 fld_38_3 (Or.inl ⟨rfl, by decide⟩) (Or.inl W4460) (Or.inr W4461) (hd rfl),
  ⟨fun hd => mk6 fld_37_1 (Or.inl ⟨rfl, by decide⟩) (Or.inl W4283) (Or.inl rfl) (hd rfl),
  ⟨fun hd => mk19 mt_6 cf_6 (vf_6_5.rt (Or.inl W4546) (hd rfl)) rfl rfl (noH_nil rfl),
  ⟨fun hd => mk17 kx_38 W4365 (hd rfl),
  ⟨fun hd => mk6 fld_38_3 (Or.inl ⟨rfl, by decide⟩) (Or.inl W4460) (Or.inr W4461) (hd rfl),
  ⟨fun hd => ⟨_, _, _, rfl, rfl, hd rfl, Or.inl ⟨rfl, rfl, rfl⟩⟩,
  trivial⟩⟩⟩⟩⟩⟩⟩⟩⟩⟩⟩⟩⟩⟩⟩⟩⟩⟩⟩⟩
theorem fe_365 : eqEs ((flat code_365).filter (fun e => ndE e.2.2.1)) (fl_365_0) = true := by decide +kernel
theorem om_365 : OKm mi iT prg 365 := OKm_of (code := code_365) rfl mt_365 (Or.inl (by decide +kernel)) rfl wk_365 (by decide +kernel) (by decide +kernel) (FA_of fe_365 (fb_365_0))
def fl_366_0 : List Ent := [(3, 3, 6, .getfield 25, [3, 37, 195], 0), (6, 3, 19, .invokevirtual 67, [0, 1, 1, 5, 5], 0), (11, 3, 18, .invokestatic 71, [0, 3, 3, 362], 0)]
theorem fb_366_0 : FB mi iT mi_366 (bpc code_366) (fl_366_0) := ⟨fun hd => mk6 fld_37_1 (Or.inl ⟨rfl, by decide⟩) (Or.inl W4283) (Or.inl rfl) (hd rfl),
  ⟨fun hd => mk19 mt_5 cf_5 (vf_5_5.rt (Or.inl W4364) (hd rfl)) rfl rfl (noH_nil rfl),
  ⟨fun hd => mk18 mt_362 sf_362 (Or.inl W4353) rfl rfl (noH_nil rfl) (hd rfl),
  trivial⟩⟩⟩
theorem fe_366 : eqEs ((flat code_366).filter (fun e => ndE e.2.2.1)) (fl_366_0) = true := by decide +kernel
theorem om_366 : OKm mi iT prg 366 := OKm_of (code := code_366) rfl mt_366 (Or.inl (by decide +kernel)) rfl wk_366 (by decide +kernel) (by decide +kernel) (FA_of fe_366 (fb_366_0))
def fl_367_0 : List Ent := [(3, 3, 19, .invokevirtual 75, [0, 2, 2, 37, 366], 0), (7, 3, 19, .invokevirtual 104, [0, 3, 3, 37, 363], 0), (15, 3, 6, .getfield 25, [3, 37, 195], 0), (19, 3, 19, .invokevirtual 114, [3, 2, 2, 5, 6], 0), (22, 3, 17, .checkcast 96, [38], 0), (25, 3, 6, .getfield 118, [0, 38, 217], 0), (37, 3, 19, .invokevirtual 63, [0, 3, 3, 37, 364], 0), (48, 3, 6, .getfield 25, [3, 37, 195], 0), (52, 3, 19, .invokevirtual 114, [3, 2, 2, 5, 6], 0), (55, 3, 17, .checkcast 96, [38], 0), (58, 3, 19, .invokevirtual 125, [0, 1, 1, 38, 642], 0)]
theorem fb_367_0 : FB mi iT mi_367 (bpc code_367) (fl_367_0) := ⟨fun hd => mk19 mt_366 cf_366 (vf_366_37.rt (Or.inl W4542) (hd rfl)) rfl rfl (noH_nil rfl),
  ⟨fun hd => mk19 mt_363 cf_363 (vf_363_37.rt (Or.inl W4356) (hd rfl)) rfl rfl (noH_nil rfl),
  ⟨fun hd => mk6 fld_37_1 (Or.inl ⟨rfl, by decide⟩) (Or.inl W4283) (Or.inl rfl) (hd rfl),
  ⟨fun hd => mk19 mt_6 cf_6 (vf_6_5.rt (Or.inl W4546) (hd rfl)) rfl rfl (noH_nil rfl),
  ⟨fun hd => mk17 kx_38 W4365 (hd rfl),
  ⟨fun hd => mk6 fld_38_5 (Or.inl ⟨rfl, by decide⟩) (Or.inl W4387) (Or.inl rfl) (hd rfl),
  ⟨fun hd => mk19 mt_364 cf_364 (vf_364_37.rt (Or.inl W4360) (hd rfl)) rfl rfl (noH_nil rfl),
  ⟨fun hd => mk6 fld_37_1 (Or.inl ⟨rfl, by decide⟩) (Or.inl W4283) (Or.inl rfl) (hd rfl),
  ⟨fun hd => mk19 mt_6 cf_6 (vf_6_5.rt (Or.inl W4546) (hd rfl)) rfl rfl (noH_nil rfl),
  ⟨fun hd => mk17 kx_38 W4365 (hd rfl),
  ⟨fun hd => mk19 mt_642 cf_642 (if_642_38_KeelHouseModel_Shipfair__I.rt W4551 (hd rfl)) rfl rfl (noH_nil rfl),
  trivial⟩⟩⟩⟩⟩⟩⟩⟩⟩⟩⟩
theorem fe_367 : eqEs ((flat code_367).filter (fun e => ndE e.2.2.1)) (fl_367_0) = true := by decide +kernel
theorem om_367 : OKm mi iT prg 367 := OKm_of (code := code_367) rfl mt_367 (Or.inl (by decide +kernel)) rfl wk_367 (by decide +kernel) (by decide +kernel) (FA_of fe_367 (fb_367_0))
def fl_368_0 : List Ent := [(3, 3, 19, .invokevirtual 75, [0, 2, 2, 37, 366], 0), (7, 3, 19, .invokevirtual 104, [0, 3, 3, 37, 363], 0), (17, 3, 18, .invokestatic 71, [0, 3, 3, 362], 0), (29, 3, 18, .invokestatic 71, [0, 3, 3, 362], 0), (41, 3, 19, .invokevirtual 63, [0, 3, 3, 37, 364], 0), (53, 3, 6, .getfield 25, [3, 37, 195], 0), (57, 3, 19, .invokevirtual 114, [3, 2, 2, 5, 6], 0), (60, 3, 17, .checkcast 96, [38], 0), (64, 3, 19, .invokevirtual 137, [0, 3, 3, 37, 369], 0)]
theorem fb_368_0 : FB mi iT mi_368 (bpc code_368) (fl_368_0) := ⟨fun hd => mk19 mt_366 cf_366 (vf_366_37.rt (Or.inl W4542) (hd rfl)) rfl rfl (noH_nil rfl),
  ⟨fun hd => mk19 mt_363 cf_363 (vf_363_37.rt (Or.inl W4356) (hd rfl)) rfl rfl (noH_nil rfl),
  ⟨fun hd => mk18 mt_362 sf_362 (Or.inl W4353) rfl rfl (noH_nil rfl) (hd rfl),
  ⟨fun hd => mk18 mt_362 sf_362 (Or.inl W4353) rfl rfl (noH_nil rfl) (hd rfl),
  ⟨fun hd => mk19 mt_364 cf_364 (vf_364_37.rt (Or.inl W4360) (hd rfl)) rfl rfl (noH_nil rfl),
  ⟨fun hd => mk6 fld_37_1 (Or.inl ⟨rfl, by decide⟩) (Or.inl W4283) (Or.inl rfl) (hd rfl),
  ⟨fun hd => mk19 mt_6 cf_6 (vf_6_5.rt (Or.inl W4546) (hd rfl)) rfl rfl (noH_nil rfl),
  ⟨fun hd => mk17 kx_38 W4365 (hd rfl),
  ⟨fun hd => mk19 mt_369 cf_369 (vf_369_37.rt (Or.inl W4562) (hd rfl)) rfl rfl (noH_nil rfl),
  trivial⟩⟩⟩⟩⟩⟩⟩⟩⟩
theorem fe_368 : eqEs ((flat code_368).filter (fun e => ndE e.2.2.1)) (fl_368_0) = true := by decide +kernel
theorem om_368 : OKm mi iT prg 368 := OKm_of (code := code_368) rfl mt_368 (Or.inl (by decide +kernel)) rfl wk_368 (by decide +kernel) (by decide +kernel) (FA_of fe_368 (fb_368_0))
def fl_369_0 : List Ent := [(7, 3, 6, .getfield 121, [3, 38, 215], 0), (30, 3, 6, .getfield 128, [0, 38, 212], 0), (42, 3, 6, .getfield 131, [0, 38, 213], 0), (54, 3, 6, .getfield 134, [0, 38, 214], 0), (61, 3, 6, .getfield 118, [0, 38, 217], 0)]
theorem fb_369_0 : FB mi iT mi_369 (bpc code_369) (fl_369_0) := ⟨fun hd => mk6 fld_38_3 (Or.inl ⟨rfl, by decide⟩) (Or.inl W4460) (Or.inr W4461) (hd rfl),
  ⟨fun hd => mk6 fld_38_0 (Or.inl ⟨rfl, by decide⟩) (Or.inl W4449) (Or.inr W4450) (hd rfl),
  ⟨fun hd => mk6 fld_38_1 (Or.inl ⟨rfl, by decide⟩) (Or.inl W4454) (Or.inr W4453) (hd rfl),
  ⟨fun hd => mk6 fld_38_2 (Or.inl ⟨rfl, by decide⟩) (Or.inl W4458) (Or.inr W4457) (hd rfl),
  ⟨fun hd => mk6 fld_38_5 (Or.inl ⟨rfl, by decide⟩) (Or.inl W4387) (Or.inl rfl) (hd rfl),
  trivial⟩⟩⟩⟩⟩
theorem fe_369 : eqEs ((flat code_369).filter (fun e => ndE e.2.2.1)) (fl_369_0) = true := by decide +kernel
theorem om_369 : OKm mi iT prg 369 := OKm_of (code := code_369) rfl mt_369 (Or.inl (by decide +kernel)) rfl wk_369 (by decide +kernel) (by decide +kernel) (FA_of fe_369 (fb_369_0))
def fl_370_0 : List Ent := [(3, 3, 19, .invokevirtual 75, [0, 2, 2, 37, 366], 0), (7, 3, 19, .invokevirtual 104, [0, 3, 3, 37, 363], 0), (19, 3, 6, .getfield 25, [3, 37, 195], 0), (23, 3, 19, .invokevirtual 114, [3, 2, 2, 5, 6], 0), (26, 3, 17, .checkcast 96, [38], 0), (29, 3, 6, .getfield 134, [0, 38, 214], 0), (33, 3, 18, .invokestatic 71, [0, 3, 3, 362], 0), (43, 3, 18, .invokestatic 71, [0, 3, 3, 362], 0), (55, 3, 19, .invokevirtual 63, [0, 3, 3, 37, 364], 0), (64, 3, 6, .getfield 25, [3, 37, 195], 0), (68, 3, 19, .invokevirtual 114, [3, 2, 2, 5, 6], 0), (71, 3, 17, .checkcast 96, [38], 0), (76, 3, 15, .ldc2_w 141, [4620693217682128896], 0), (81, 3, 19, .invokevirtual 143, [2, 3, 4, 38, 643], 0)]
theorem fb_370_0 : FB mi iT mi_370 (bpc code_370) (fl_370_0) := ⟨fun hd => mk19 mt_366 cf_366 (vf_366_37.rt (Or.inl W4542) (hd rfl)) rfl rfl (noH_nil rfl),
  ⟨fun hd => mk19 mt_363 cf_363 (vf_363_37.rt (Or.inl W4356) (hd rfl)) rfl rfl (noH_nil rfl),
  ⟨fun hd => mk6 fld_37_1 (Or.inl ⟨rfl, by decide⟩) (Or.inl W4283) (Or.inl rfl) (hd rfl),
  ⟨fun hd => mk19 mt_6 cf_6 (vf_6_5.rt (Or.inl W4546) (hd rfl)) rfl rfl (noH_nil rfl),
  ⟨fun hd => mk17 kx_38 W4365 (hd rfl),
  ⟨fun hd => mk6 fld_38_2 (Or.inl ⟨rfl, by decide⟩) (Or.inl W4458) (Or.inr W4457) (hd rfl),
  ⟨fun hd => mk18 mt_362 sf_362 (Or.inl W4353) rfl rfl (noH_nil rfl) (hd rfl),
  ⟨fun hd => mk18 mt_362 sf_362 (Or.inl W4353) rfl rfl (noH_nil rfl) (hd rfl),
  ⟨fun hd => mk19 mt_364 cf_364 (vf_364_37.rt (Or.inl W4360) (hd rfl)) rfl rfl (noH_nil rfl),
  ⟨fun hd => mk6 fld_37_1 (Or.inl ⟨rfl, by decide⟩) (Or.inl W4283) (Or.inl rfl) (hd rfl),
  ⟨fun hd => mk19 mt_6 cf_6 (vf_6_5.rt (Or.inl W4546) (hd rfl)) rfl rfl (noH_nil rfl),
  ⟨fun hd => mk17 kx_38 W4365 (hd rfl),
  ⟨fun hd => mk15 W4570 (hd rfl),
  ⟨fun hd => mk19 mt_643 cf_643 (if_643_38_KeelHouseModel_Shipwater_DI_D.rt W4571 (hd rfl)) rfl rfl (noH_nil rfl),
  trivial⟩⟩⟩⟩⟩⟩⟩⟩⟩⟩⟩⟩⟩⟩
theorem fe_370 : eqEs ((flat code_370).filter (fun e => ndE e.2.2.1)) (fl_370_0) = true := by decide +kernel
theorem om_370 : OKm mi iT prg 370 := OKm_of (code := code_370) rfl mt_370 (Or.inl (by decide +kernel)) rfl wk_370 (by decide +kernel) (by decide +kernel) (FA_of fe_370 (fb_370_0))
def fl_371_0 : List Ent := [(3, 3, 19, .invokevirtual 75, [0, 2, 2, 37, 366], 0), (7, 3, 19, .invokevirtual 104, [0, 3, 3, 37, 363], 0), (16, 2, 14, .ldc 147, [], 99999), (18, 3, 18, .invokestatic 71, [0, 3, 3, 362], 0), (30, 3, 19, .invokevirtual 63, [0, 3, 3, 37, 364], 0), (41, 3, 6, .getfield 25, [3, 37, 195], 0), (45, 3, 19, .invokevirtual 114, [3, 2, 2, 5, 6], 0), (48, 3, 17, .checkcast 96, [38], 0), (53, 3, 19, .invokevirtual 148, [2, 2, 3, 38, 652], 0)]
theorem fb_371_0 : FB mi iT mi_371 (bpc code_371) (fl_371_0) := ⟨fun hd => mk19 mt_366 cf_366 (vf_366_37.rt (Or.inl W4542) (hd rfl)) rfl rfl (noH_nil rfl),
  ⟨fun hd => mk19 mt_363 cf_363 (vf_363_37.rt (Or.inl W4356) (hd rfl)) rfl rfl (noH_nil rfl),
  ⟨fun hd => mk14c W4630 (Or.inl ⟨hd rfl, rfl⟩),
  ⟨fun hd => mk18 mt_362 sf_362 (Or.inl W4353) rfl rfl (noH_nil rfl) (hd rfl),
  ⟨fun hd => mk19 mt_364 cf_364 (vf_364_37.rt (Or.inl W4360) (hd rfl)) rfl rfl (noH_nil rfl),
  ⟨fun hd => mk6 fld_37_1 (Or.inl ⟨rfl, by decide⟩) (Or.inl W4283) (Or.inl rfl) (hd rfl),
  ⟨fun hd => mk19 mt_6 cf_6 (vf_6_5.rt (Or.inl W4546) (hd rfl)) rfl rfl (noH_nil rfl),
  ⟨fun hd => mk17 kx_38 W4365 (hd rfl),
  ⟨fun hd => mk19 mt_652 cf_652 (if_652_38_KeelHouseModel_Shipdraught_D_D.rt W4631 (hd rfl)) rfl rfl (noH_nil rfl),
  trivial⟩⟩⟩⟩⟩⟩⟩⟩⟩
theorem fe_371 : eqEs ((flat code_371).filter (fun e => ndE e.2.2.1)) (fl_371_0) = true := by decide +kernel
theorem om_371 : OKm mi iT prg 371 := OKm_of (code := code_371) rfl mt_371 (Or.inl (by decide +kernel)) rfl wk_371 (by decide +kernel) (by decide +kernel) (FA_of fe_371 (fb_371_0))
def fl_372_0 : List Ent := [(4, 3, 19, .invokevirtual 152, [0, 3, 3, 37, 373], 0), (8, 3, 19, .invokevirtual 104, [0, 3, 3, 37, 363], 0), (20, 3, 18, .invokestatic 71, [0, 3, 3, 362], 0), (32, 3, 18, .invokestatic 71, [0, 3, 3, 362], 0), (44, 3, 18, .invokestatic 71, [0, 3, 3, 362], 0), (56, 3, 19, .invokevirtual 63, [0, 3, 3, 37, 364], 0), (64, 3, 6, .getfield 25, [3, 37, 195], 0), (68, 3, 19, .invokevirtual 114, [3, 2, 2, 5, 6], 0), (71, 3, 17, .checkcast 96, [38], 0), (74, 3, 19, .invokevirtual 156, [0, 1, 1, 38, 661], 0), (81, 3, 6, .getfield 25, [3, 37, 195], 0), (85, 3, 19, .invokevirtual 114, [3, 2, 2, 5, 6], 0), (88, 3, 17, .checkcast 96, [38], 0), (91, 3, 6, .getfield 159, [3, 38, 218], 0), (94, 3, 19, .invokevirtual 67, [0, 1, 1, 5, 5], 0), (108, 3, 19, .invokevirtual 63, [0, 3, 3, 37, 364], 0), (117, 3, 6, .getfield 25, [3, 37, 195], 0), (121, 3, 19, .invokevirtual 114, [3, 2, 2, 5, 6], 0), (124, 3, 17, .checkcast 96, [38], 0), (127, 3, 6, .getfield 159, [3, 38, 218], 0), (131, 2, 12, .newarray .int, [100], 0), (136, 1, 9, .iastore, [0, 100], 0), (140, 1, 9, .iastore, [0, 100], 0), (145, 1, 9, .iastore, [0, 100], 0), (150, 1, 9, .iastore, [0, 100], 0), (151, 3, 19, .invokevirtual 110, [0, 2, 2, 5, 8], 0), (156, 3, 6, .getfield 25, [3, 37, 195], 0), (160, 3, 19, .invokevirtual 114, [3, 2, 2, 5, 6], 0), (163, 3, 17, .checkcast 96, [38], 0), (166, 3, 6, .getfield 159, [3, 38, 218], 0)]
theorem fb_372_0 : FB mi iT mi_372 (bpc code_372) (fl_372_0) := ⟨fun hd => mk19 mt_373 cf_373 (vf_373_37.rt (Or.inl W4642) (hd rfl)) rfl rfl (noH_nil rfl),
  ⟨fun hd => mk19 mt_363 cf_363 (vf_363_37.rt (Or.inl W4356) (hd rfl)) rfl rfl (noH_nil rfl),
  ⟨fun hd => mk18 mt_362 sf_362 (Or.inl W4353) rfl rfl (noH_nil rfl) (hd rfl),
  ⟨fun hd => mk18 mt_362 sf_362 (Or.inl W4353) rfl rfl (noH_nil rfl) (hd rfl),
  ⟨fun hd => mk18 mt_362 sf_362 (Or.inl W4353) rfl rfl (noH_nil rfl) (hd rfl),
  ⟨fun hd => mk19 mt_364 cf_364 (vf_364_37.rt (Or.inl W4360) (hd rfl)) rfl rfl (noH_nil rfl),
  ⟨fun hd => mk6 fld_37_1 (Or.inl ⟨rfl, by decide⟩) (Or.inl W4283) (Or.inl rfl) (hd rfl),
  ⟨fun hd => mk19 mt_6 cf_6 (vf_6_5.rt (Or.inl W4546) (hd rfl)) rfl rfl (noH_nil rfl),
  ⟨fun hd => mk17 kx_38 W4365 (hd rfl),
  ⟨fun hd => mk19 mt_661 cf_661 (vf_661_38.rt (Or.inl W4646) (hd rfl)) rfl rfl (noH_nil rfl),
  ⟨fun hd => mk6 fld_37_1 (Or.inl ⟨rfl, by decide⟩) (Or.inl W4283) (Or.inl rfl) (hd rfl),
  ⟨fun hd => mk19 mt_6 cf_6 (vf_6_5.rt (Or.inl W4546) (hd rfl)) rfl rfl (noH_nil rfl),
  ⟨fun hd => mk17 kx_38 W4365 (hd rfl),
  ⟨fun hd => mk6 fld_38_6 (Or.inl ⟨rfl, by decide⟩) (Or.inl W4389) (Or.inl rfl) (hd rfl),
  ⟨fun hd => mk19 mt_5 cf_5 (vf_5_5.rt (Or.inl W4364) (hd rfl)) rfl rfl (noH_nil rfl),
  ⟨fun hd => mk19 mt_364 cf_364 (vf_364_37.rt (Or.inl W4360) (hd rfl)) rfl rfl (noH_nil rfl),
  ⟨fun hd => mk6 fld_37_1 (Or.inl ⟨rfl, by decide⟩) (Or.inl W4283) (Or.inl rfl) (hd rfl),
  ⟨fun hd => mk19 mt_6 cf_6 (vf_6_5.rt (Or.inl W4546) (hd rfl)) rfl rfl (noH_nil rfl),
  ⟨fun hd => mk17 kx_38 W4365 (hd rfl),
  ⟨fun hd => mk6 fld_38_6 (Or.inl ⟨rfl, by decide⟩) (Or.inl W4389) (Or.inl rfl) (hd rfl),
  ⟨fun hd => mk12a (at_ := .int) (by decide) rfl W239 (hd rfl),
  ⟨fun hd => ⟨_, _, _, rfl, rfl, hd rfl, Or.inl ⟨rfl, rfl, rfl⟩⟩,
  ⟨fun hd => ⟨_, _, _, rfl, rfl, hd rfl, Or.inl ⟨rfl, rfl, rfl⟩⟩,
  ⟨fun hd => ⟨_, _, _, rfl, rfl, hd rfl, Or.inl ⟨rfl, rfl, rfl⟩⟩,
  ⟨fun hd => ⟨_, _, _, rfl, rfl, hd rfl, Or.inl ⟨rfl, rfl, rfl⟩⟩,
  ⟨fun hd => mk19 mt_8 cf_8 (vf_8_5.rt (Or.inl W4537) (hd rfl)) rfl rfl (noH_nil rfl),
  ⟨fun hd => mk6 fld_37_1 (Or.inl ⟨rfl, by decide⟩) (Or.inl W4283) (Or.inl rfl) (hd rfl),
  ⟨fun hd => mk19 mt_6 cf_6 (vf_6_5.rt (Or.inl W4546) (hd rfl)) rfl rfl (noH_nil rfl),
  ⟨fun hd => mk17 kx_38 W4365 (hd rfl),
  ⟨fun hd => mk6 fld_38_6 (Or.inl ⟨rfl, by decide⟩) (Or.inl W4389) (Or.inl rfl) (hd rfl),
  trivial⟩⟩⟩⟩⟩⟩⟩⟩⟩⟩⟩⟩⟩⟩⟩⟩⟩⟩⟩⟩⟩⟩⟩⟩⟩⟩⟩⟩⟩⟩
def fl_372_1 : List Ent := [(169, 3, 19, .invokevirtual 67, [0, 1, 1, 5, 5], 0)]
theorem fb_372_1 : FB mi iT mi_372 (bpc code_372) (fl_372_1) := ⟨fun hd => mk19 mt_5 cf_5 (vf_5_5.rt (Or.inl W4364) (hd rfl)) rfl rfl (noH_nil rfl),
  trivial⟩
theorem fe_372 : eqEs ((flat code_372).filter (fun e => ndE e.2.2.1)) (fl_372_0 ++ (fl_372_1)) = true := by decide +kernel
theorem om_372 : OKm mi iT prg 372 := OKm_of (code := code_372) rfl mt_372 (Or.inl (by decide +kernel)) rfl wk_372 (by decide +kernel) (by decide +kernel) (FA_of fe_372 (FB_app fb_372_0 (fb_372_1)))
def fl_373_0 : List Ent := [(2, 3, 19, .invokevirtual 75, [0, 2, 2, 37, 366], 0), (11, 3, 18, .invokestatic 71, [0, 3, 3, 362], 0)]
theorem fb_373_0 : FB mi iT mi_373 (bpc code_373) (fl_373_0) := ⟨fun hd => mk19 mt_366 cf_366 (vf_366_37.rt (Or.inl W4542) (hd rfl)) rfl rfl (noH_nil rfl),
  ⟨fun hd => mk18 mt_362 sf_362 (Or.inl W4353) rfl rfl (noH_nil rfl) (hd rfl),
  trivial⟩⟩
theorem fe_373 : eqEs ((flat code_373).filter (fun e => ndE e.2.2.1)) (fl_373_0) = true := by decide +kernel
theorem om_373 : OKm mi iT prg 373 := OKm_of (code := code_373) rfl mt_373 (Or.inl (by decide +kernel)) rfl wk_373 (by decide +kernel) (by decide +kernel) (FA_of fe_373 (fb_373_0))
def fl_374_0 : List Ent := [(3, 3, 19, .invokevirtual 75, [0, 2, 2, 37, 366], 0), (12, 3, 6, .getfield 25, [3, 37, 195], 0), (16, 3, 19, .invokevirtual 114, [3, 2, 2, 5, 6], 0), (19, 3, 17, .checkcast 96, [38], 0), (22, 3, 6, .getfield 159, [3, 38, 218], 0), (25, 3, 19, .invokevirtual 67, [0, 1, 1, 5, 5], 0), (30, 3, 18, .invokestatic 71, [0, 3, 3, 362], 0), (42, 3, 19, .invokevirtual 104, [0, 3, 3, 37, 363], 0), (50, 3, 6, .getfield 25, [3, 37, 195], 0), (54, 3, 19, .invokevirtual 114, [3, 2, 2, 5, 6], 0), (57, 3, 17, .checkcast 96, [38], 0), (60, 3, 19, .invokevirtual 156, [0, 1, 1, 38, 661], 0), (64, 3, 19, .invokevirtual 63, [0, 3, 3, 37, 364], 0), (73, 3, 6, .getfield 25, [3, 37, 195], 0), (77, 3, 19, .invokevirtual 114, [3, 2, 2, 5, 6], 0), (80, 3, 17, .checkcast 96, [38], 0), (83, 3, 6, .getfield 159, [3, 38, 218], 0), (87, 3, 19, .invokevirtual 162, [3, 2, 2, 5, 12], 0), (92, 3, 6, .getfield 25, [3, 37, 195], 0), (96, 3, 19, .invokevirtual 114, [3, 2, 2, 5, 6], 0), (99, 3, 17, .checkcast 96, [38], 0), (102, 3, 6, .getfield 159, [3, 38, 218], 0), (105, 3, 19, .invokevirtual 67, [0, 1, 1, 5, 5], 0)]
theorem fb_374_0 : FB mi iT mi_374 (bpc code_374) (fl_374_0) := ⟨fun hd => mk19 mt_366 cf_366 (vf_366_37.rt (Or.inl W4542) (hd rfl)) rfl rfl (noH_nil rfl),
  ⟨fun hd => mk6 fld_37_1 (Or.inl ⟨rfl, by decide⟩) (Or.inl W4283) (Or.inl rfl) (hd rfl),
  ⟨fun hd => mk19 mt_6 cf_6 (vf_6_5.rt (Or.inl W4546) (hd rfl)) rfl rfl (noH_nil rfl),
  ⟨fun hd => mk17 kx_38 W4365 (hd rfl),
  ⟨fun hd => mk6 fld_38_6 (Or.inl ⟨rfl, by decide⟩) (Or.inl W4389) (Or.inl rfl) (hd rfl),
  ⟨fun hd => mk19 mt_5 cf_5 (vf_5_5.rt (Or.inl W4364) (hd rfl)) rfl rfl (noH_nil rfl),
  ⟨fun hd => mk18 mt_362 sf_362 (Or.inl W4353) rfl rfl (noH_nil rfl) (hd rfl),
  ⟨fun hd => mk19 mt_363 cf_363 (vf_363_37.rt (Or.inl W4356) (hd rfl)) rfl rfl (noH_nil rfl),
  ⟨fun hd => mk6 fld_37_1 (Or.inl ⟨rfl, by decide⟩) (Or.inl W4283) (Or.inl rfl) (hd rfl),
  ⟨fun hd => mk19 mt_6 cf_6 (vf_6_5.rt (Or.inl W4546) (hd rfl)) rfl rfl (noH_nil rfl),
  ⟨fun hd => mk17 kx_38 W4365 (hd rfl),
  ⟨fun hd => mk19 mt_661 cf_661 (vf_661_38.rt (Or.inl W4646) (hd rfl)) rfl rfl (noH_nil rfl),
  ⟨fun hd => mk19 mt_364 cf_364 (vf_364_37.rt (Or.inl W4360) (hd rfl)) rfl rfl (noH_nil rfl),
  ⟨fun hd => mk6 fld_37_1 (Or.inl ⟨rfl, by decide⟩) (Or.inl W4283) (Or.inl rfl) (hd rfl),
  ⟨fun hd => mk19 mt_6 cf_6 (vf_6_5.rt (Or.inl W4546) (hd rfl)) rfl rfl (noH_nil rfl),
  ⟨fun hd => mk17 kx_38 W4365 (hd rfl),
  ⟨fun hd => mk6 fld_38_6 (Or.inl ⟨rfl, by decide⟩) (Or.inl W4389) (Or.inl rfl) (hd rfl),
  ⟨fun hd => mk19 mt_12 cf_12 (vf_12_5.rt (Or.inl W4654) (hd rfl)) rfl rfl (noH_nil rfl),
  ⟨fun hd => mk6 fld_37_1 (Or.inl ⟨rfl, by decide⟩) (Or.inl W4283) (Or.inl rfl) (hd rfl),
  ⟨fun hd => mk19 mt_6 cf_6 (vf_6_5.rt (Or.inl W4546) (hd rfl)) rfl rfl (noH_nil rfl),
  ⟨fun hd => mk17 kx_38 W4365 (hd rfl),
  ⟨fun hd => mk6 fld_38_6 (Or.inl ⟨rfl, by decide⟩) (Or.inl W4389) (Or.inl rfl) (hd rfl),
  ⟨fun hd => mk19 mt_5 cf_5 (vf_5_5.rt (Or.inl W4364) (hd rfl)) rfl rfl (noH_nil rfl),
  trivial⟩⟩⟩⟩⟩⟩⟩⟩⟩⟩⟩⟩⟩⟩⟩⟩⟩⟩⟩⟩⟩⟩⟩
theorem fe_374 : eqEs ((flat code_374).filter (fun e => ndE e.2.2.1)) (fl_374_0) = true := by decide +kernel
theorem om_374 : OKm mi iT prg 374 := OKm_of (code := code_374) rfl mt_374 (Or.inl (by decide +kernel)) rfl wk_374 (by decide +kernel) (by decide +kernel) (FA_of fe_374 (fb_374_0))
def fl_375_0 : List Ent := [(2, 2, 14, .ldc 165, [], 888888), (4, 3, 18, .invokestatic 71, [0, 3, 3, 362], 0), (55, 3, 19, .invokevirtual 75, [0, 2, 2, 37, 366], 0), (59, 3, 19, .invokevirtual 104, [0, 3, 3, 37, 363], 0), (68, 3, 19, .invokevirtual 63, [0, 3, 3, 37, 364], 0), (76, 3, 6, .getfield 25, [3, 37, 195], 0), (80, 3, 19, .invokevirtual 114, [3, 2, 2, 5, 6], 0), (83, 3, 17, .checkcast 96, [38], 0), (86, 3, 19, .invokevirtual 156, [0, 1, 1, 38, 661], 0), (90, 3, 19, .invokevirtual 63, [0, 3, 3, 37, 364], 0), (117, 3, 6, .getfield 25, [3, 37, 195], 0), (121, 3, 19, .invokevirtual 114, [3, 2, 2, 5, 6], 0), (124, 3, 17, .checkcast 96, [38], 0), (127, 3, 6, .getfield 166, [3, 38, 219], 0), (137, 3, 6, .getfield 25, [3, 37, 195], 0), (141, 3, 19, .invokevirtual 114, [3, 2, 2, 5, 6], 0), (144, 3, 17, .checkcast 96, [38], 0), (147, 3, 6, .getfield 166, [3, 38, 219], 0), (157, 1, 9, .iastore, [0, 100], 0)]
theorem fb_375_0 : FB mi iT mi_375 (bpc code_375) (fl_375_0) := ⟨fun hd => mk14c W4659 (Or.inl ⟨hd rfl, rfl⟩),
  ⟨fun hd => mk18 mt_362 sf_362 (Or.inl W4353) rfl rfl (noH_nil rfl) (hd rfl),
  ⟨fun hd => mk19 mt_366 cf_366 (vf_366_37.rt (Or.inl W4542) (hd rfl)) rfl rfl (noH_nil rfl),
  ⟨fun hd => mk19 mt_363 cf_363 (vf_363_37.rt (Or.inl W4356) (hd rfl)) rfl rfl (noH_nil rfl),
  ⟨fun hd => mk19 mt_364 cf_364 (vf_364_37.rt (Or.inl W4360) (hd rfl)) rfl rfl (noH_nil rfl),
  ⟨fun hd => mk6 fld_37_1 (Or.inl ⟨rfl, by decide⟩) (Or.inl W4283) (Or.inl rfl) (hd rfl),
  ⟨fun hd => mk19 mt_6 cf_6 (vf_6_5.rt (Or.inl W4546) (hd rfl)) rfl rfl (noH_nil rfl),
  ⟨fun hd => mk17 kx_38 W4365 (hd rfl),
  ⟨fun hd => mk19 mt_661 cf_661 (vf_661_38.rt (Or.inl W4646) (hd rfl)) rfl rfl (noH_nil rfl),
  ⟨fun hd => mk19 mt_364 cf_364 (vf_364_37.rt (Or.inl W4360) (hd rfl)) rfl rfl (noH_nil rfl),
  ⟨fun hd => mk6 fld_37_1 (Or.inl ⟨rfl, by decide⟩) (Or.inl W4283) (Or.inl rfl) (hd rfl),
  ⟨fun hd => mk19 mt_6 cf_6 (vf_6_5.rt (Or.inl W4546) (hd rfl)) rfl rfl (noH_nil rfl),
  ⟨fun hd => mk17 kx_38 W4365 (hd rfl),
  ⟨fun hd => mk6 fld_38_7 (Or.inl ⟨rfl, by decide⟩) (Or.inl W4391) (Or.inl rfl) (hd rfl),
  ⟨fun hd => mk6 fld_37_1 (Or.inl ⟨rfl, by decide⟩) (Or.inl W4283) (Or.inl rfl) (hd rfl),
  ⟨fun hd => mk19 mt_6 cf_6 (vf_6_5.rt (Or.inl W4546) (hd rfl)) rfl rfl (noH_nil rfl),
  ⟨fun hd => mk17 kx_38 W4365 (hd rfl),
  ⟨fun hd => mk6 fld_38_7 (Or.inl ⟨rfl, by decide⟩) (Or.inl W4391) (Or.inl rfl) (hd rfl),
  ⟨fun hd => ⟨_, _, _, rfl, rfl, hd rfl, Or.inl ⟨rfl, rfl, rfl⟩⟩,
  trivial⟩⟩⟩⟩⟩⟩⟩⟩⟩⟩⟩⟩⟩⟩⟩⟩⟩⟩⟩
theorem fe_375 : eqEs ((flat code_375).filter (fun e => ndE e.2.2.1)) (fl_375_0) = true := by decide +kernel
theorem om_375 : OKm mi iT prg 375 := OKm_of (code := code_375) rfl mt_375 (Or.inl (by decide +kernel)) rfl wk_375 (by decide +kernel) (by decide +kernel) (FA_of fe_375 (fb_375_0))
def fl_376_0 : List Ent := [(3, 3, 19, .invokevirtual 75, [0, 2, 2, 37, 366], 0), (7, 3, 19, .invokevirtual 104, [0, 3, 3, 37, 363], 0), (18, 3, 18, .invokestatic 71, [0, 3, 3, 362], 0), (30, 3, 19, .invokevirtual 63, [0, 3, 3, 37, 364], 0), (38, 3, 6, .getfield 25, [3, 37, 195], 0), (42, 3, 19, .invokevirtual 114, [3, 2, 2, 5, 6], 0), (45, 3, 17, .checkcast 96, [38], 0), (48, 3, 6, .getfield 118, [0, 38, 217], 0), (61, 3, 19, .invokevirtual 63, [0, 3, 3, 37, 364], 0), (70, 3, 6, .getfield 25, [3, 37, 195], 0), (74, 3, 19, .invokevirtual 114, [3, 2, 2, 5, 6], 0), (77, 3, 17, .checkcast 96, [38], 0), (80, 3, 6, .getfield 169, [0, 38, 220], 0), (85, 3, 6, .getfield 25, [3, 37, 195], 0), (89, 3, 19, .invokevirtual 114, [3, 2, 2, 5, 6], 0), (92, 3, 17, .checkcast 96, [38], 0), (96, 3, 7, .putfield 169, [0, 38, 220], 0)]
theorem fb_376_0 : FB mi iT mi_376 (bpc code_376) (fl_376_0) := ⟨fun hd => mk19 mt_366 cf_366 (vf_366_37.rt (Or.inl W4542) (hd rfl)) rfl rfl (noH_nil rfl),
  ⟨fun hd => mk19 mt_363 cf_363 (vf_363_37.rt (Or.inl W4356) (hd rfl)) rfl rfl (noH_nil rfl),
  ⟨fun hd => mk18 mt_362 sf_362 (Or.inl W4353) rfl rfl (noH_nil rfl) (hd rfl),
  ⟨fun hd => mk19 mt_364 cf_364 (vf_364_37.rt (Or.inl W4360) (hd rfl)) rfl rfl (noH_nil rfl),
  ⟨fun hd => mk6 fld_37_1 (Or.inl ⟨rfl, by decide⟩) (Or.inl W4283) (Or.inl rfl) (hd rfl),
  ⟨fun hd => mk19 mt_6 cf_6 (vf_6_5.rt (Or.inl W4546) (hd rfl)) rfl rfl (noH_nil rfl),
  ⟨fun hd => mk17 kx_38 W4365 (hd rfl),
  ⟨fun hd => mk6 fld_38_5 (Or.inl ⟨rfl, by decide⟩) (Or.inl W4387) (Or.inl rfl) (hd rfl),
  ⟨fun hd => mk19 mt_364 cf_364 (vf_364_37.rt (Or.inl W4360) (hd rfl)) rfl rfl (noH_nil rfl),
  ⟨fun hd => mk6 fld_37_1 (Or.inl ⟨rfl, by decide⟩) (Or.inl W4283) (Or.inl rfl) (hd rfl),
  ⟨fun hd => mk19 mt_6 cf_6 (vf_6_5.rt (Or.inl W4546) (hd rfl)) rfl rfl (noH_nil rfl),
  ⟨fun hd => mk17 kx_38 W4365 (hd rfl),
  ⟨fun hd => mk6 fld_38_8 (Or.inl ⟨rfl, by decide⟩) (Or.inl W4393) (Or.inl rfl) (hd rfl),
  ⟨fun hd => mk6 fld_37_1 (Or.inl ⟨rfl, by decide⟩) (Or.inl W4283) (Or.inl rfl) (hd rfl),
  ⟨fun hd => mk19 mt_6 cf_6 (vf_6_5.rt (Or.inl W4546) (hd rfl)) rfl rfl (noH_nil rfl),
  ⟨fun hd => mk17 kx_38 W4365 (hd rfl),
  ⟨fun hd => mk7 fld_38_8 (Or.inl W4393) (Or.inl rfl) (Or.inl rfl) (hd rfl),
  trivial⟩⟩⟩⟩⟩⟩⟩⟩⟩⟩⟩⟩⟩⟩⟩⟩⟩
theorem fe_376 : eqEs ((flat code_376).filter (fun e => ndE e.2.2.1)) (fl_376_0) = true := by decide +kernel
theorem om_376 : OKm mi iT prg 376 := OKm_of (code := code_376) rfl mt_376 (Or.inl (by decide +kernel)) rfl wk_376 (by decide +kernel) (by decide +kernel) (FA_of fe_376 (fb_376_0))
def fl_377_0 : List Ent := [(3, 3, 19, .invokevirtual 75, [0, 2, 2, 37, 366], 0), (7, 3, 19, .invokevirtual 104, [0, 3, 3, 37, 363], 0), (18, 3, 18, .invokestatic 71, [0, 3, 3, 362], 0), (30, 3, 19, .invokevirtual 63, [0, 3, 3, 37, 364], 0), (41, 3, 6, .getfield 25, [3, 37, 195], 0), (45, 3, 19, .invokevirtual 114, [3, 2, 2, 5, 6], 0), (48, 3, 17, .checkcast 96, [38], 0), (52, 3, 19, .invokevirtual 172, [2, 2, 2, 38, 662], 0)]
theorem fb_377_0 : FB mi iT mi_377 (bpc code_377) (fl_377_0) := ⟨fun hd => mk19 mt_366 cf_366 (vf_366_37.rt (Or.inl W4542) (hd rfl)) rfl rfl (noH_nil rfl),
  ⟨fun hd => mk19 mt_363 cf_363 (vf_363_37.rt (Or.inl W4356) (hd rfl)) rfl rfl (noH_nil rfl),
  ⟨fun hd => mk18 mt_362 sf_362 (Or.inl W4353) rfl rfl (noH_nil rfl) (hd rfl),
  ⟨fun hd => mk19 mt_364 cf_364 (vf_364_37.rt (Or.inl W4360) (hd rfl)) rfl rfl (noH_nil rfl),
  ⟨fun hd => mk6 fld_37_1 (Or.inl ⟨rfl, by decide⟩) (Or.inl W4283) (Or.inl rfl) (hd rfl),
  ⟨fun hd => mk19 mt_6 cf_6 (vf_6_5.rt (Or.inl W4546) (hd rfl)) rfl rfl (noH_nil rfl),
  ⟨fun hd => mk17 kx_38 W4365 (hd rfl),
  ⟨fun hd => mk19 mt_662 cf_662 (vf_662_38.rt (Or.inl W4668) (hd rfl)) rfl rfl (noH_nil rfl),
  trivial⟩⟩⟩⟩⟩⟩⟩⟩
theorem fe_377 : eqEs ((flat code_377).filter (fun e => ndE e.2.2.1)) (fl_377_0) = true := by decide +kernel
theorem om_377 : OKm mi iT prg 377 := OKm_of (code := code_377) rfl mt_377 (Or.inl (by decide +kernel)) rfl wk_377 (by decide +kernel) (by decide +kernel) (FA_of fe_377 (fb_377_0))
def fl_378_0 : List Ent := [(3, 3, 19, .invokevirtual 75, [0, 2, 2, 37, 366], 0), (7, 3, 19, .invokevirtual 104, [0, 3, 3, 37, 363], 0), (18, 3, 18, .invokestatic 71, [0, 3, 3, 362], 0), (30, 3, 19, .invokevirtual 63, [0, 3, 3, 37, 364], 0), (41, 3, 6, .getfield 25, [3, 37, 195], 0), (45, 3, 19, .invokevirtual 114, [3, 2, 2, 5, 6], 0), (48, 3, 17, .checkcast 96, [38], 0), (53, 3, 19, .invokevirtual 176, [2, 3, 3, 38, 675], 0)]
theorem fb_378_0 : FB mi iT mi_378 (bpc code_378) (fl_378_0) := ⟨fun hd => mk19 mt_366 cf_366 (vf_366_37.rt (Or.inl W4542) (hd rfl)) rfl rfl (noH_nil rfl),
  ⟨fun hd => mk19 mt_363 cf_363 (vf_363_37.rt (Or.inl W4356) (hd rfl)) rfl rfl (noH_nil rfl),
  ⟨fun hd => mk18 mt_362 sf_362 (Or.inl W4353) rfl rfl (noH_nil rfl) (hd rfl),
  ⟨fun hd => mk19 mt_364 cf_364 (vf_364_37.rt (Or.inl W4360) (hd rfl)) rfl rfl (noH_nil rfl),
  ⟨fun hd => mk6 fld_37_1 (Or.inl ⟨rfl, by decide⟩) (Or.inl W4283) (Or.inl rfl) (hd rfl),
  ⟨fun hd => mk19 mt_6 cf_6 (vf_6_5.rt (Or.inl W4546) (hd rfl)) rfl rfl (noH_nil rfl),
  ⟨fun hd => mk17 kx_38 W4365 (hd rfl),
  ⟨fun hd => mk19 mt_675 cf_675 (vf_675_38.rt (Or.inl W4779) (hd rfl)) rfl rfl (noH_nil rfl),
  trivial⟩⟩⟩⟩⟩⟩⟩⟩
theorem fe_378 : eqEs ((flat code_378).filter (fun e => ndE e.2.2.1)) (fl_378_0) = true := by decide +kernel
theorem om_378 : OKm mi iT prg 378 := OKm_of (code := code_378) rfl mt_378 (Or.inl (by decide +kernel)) rfl wk_378 (by decide +kernel) (by decide +kernel) (FA_of fe_378 (fb_378_0))
theorem fe_379 : eqEs ((flat code_379).filter (fun e => ndE e.2.2.1)) ([]) = true := by decide +kernel
theorem om_379 : OKm mi iT prg 379 := OKm_of (code := code_379) rfl mt_379 (Or.inl (by decide +kernel)) rfl wk_379 (by decide +kernel) (by decide +kernel) (FA_of fe_379 (trivial))
def fl_380_0 : List Ent := [(3, 3, 19, .invokevirtual 75, [0, 2, 2, 37, 366], 0), (7, 3, 19, .invokevirtual 104, [0, 3, 3, 37, 363], 0), (18, 3, 6, .getfield 25, [3, 37, 195], 0), (22, 3, 19, .invokevirtual 114, [3, 2, 2, 5, 6], 0), (25, 3, 17, .checkcast 96, [38], 0), (28, 3, 19, .invokevirtual 180, [0, 1, 1, 38, 677], 0)]
theorem fb_380_0 : FB mi iT mi_380 (bpc code_380) (fl_380_0) := ⟨fun hd => mk19 mt_366 cf_366 (vf_366_37.rt (Or.inl W4542) (hd rfl)) rfl rfl (noH_nil rfl),
  ⟨fun hd => mk19 mt_363 cf_363 (vf_363_37.rt (Or.inl W4356) (hd rfl)) rfl rfl (noH_nil rfl),
  ⟨fun hd => mk6 fld_37_1 (Or.inl ⟨rfl, by decide⟩) (Or.inl W4283) (Or.inl rfl) (hd rfl),
  ⟨fun hd => mk19 mt_6 cf_6 (vf_6_5.rt (Or.inl W4546) (hd rfl)) rfl rfl (noH_nil rfl),
  ⟨fun hd => mk17 kx_38 W4365 (hd rfl),
  ⟨fun hd => mk19 mt_677 cf_677 (vf_677_38.rt (Or.inl W4803) (hd rfl)) rfl rfl (noH_nil rfl),
  trivial⟩⟩⟩⟩⟩⟩
theorem fe_380 : eqEs ((flat code_380).filter (fun e => ndE e.2.2.1)) (fl_380_0) = true := by decide +kernel
theorem om_380 : OKm mi iT prg 380 := OKm_of (code := code_380) rfl mt_380 (Or.inl (by decide +kernel)) rfl wk_380 (by decide +kernel) (by decide +kernel) (FA_of fe_380 (fb_380_0))
theorem fe_381 : eqEs ((flat code_381).filter (fun e => ndE e.2.2.1)) ([]) = true := by decide +kernel
theorem om_381 : OKm mi iT prg 381 := OKm_of (code := code_381) rfl mt_381 (Or.inl (by decide +kernel)) rfl wk_381 (by decide +kernel) (by decide +kernel) (FA_of fe_381 (trivial))
def fl_382_0 : List Ent := [(4, 3, 19, .invokevirtual 152, [0, 3, 3, 37, 373], 0), (8, 3, 19, .invokevirtual 104, [0, 3, 3, 37, 363], 0), (19, 3, 18, .invokestatic 71, [0, 3, 3, 362], 0), (30, 3, 18, .invokestatic 71, [0, 3, 3, 362], 0), (41, 3, 18, .invokestatic 71, [0, 3, 3, 362], 0), (53, 3, 19, .invokevirtual 63, [0, 3, 3, 37, 364], 0), (61, 3, 6, .getfield 25, [3, 37, 195], 0), (65, 3, 19, .invokevirtual 114, [3, 2, 2, 5, 6], 0), (68, 3, 17, .checkcast 96, [38], 0), (71, 3, 6, .getfield 118, [0, 38, 217], 0), (83, 3, 19, .invokevirtual 63, [0, 3, 3, 37, 364], 0), (92, 3, 6, .getfield 25, [3, 37, 195], 0), (96, 3, 19, .invokevirtual 114, [3, 2, 2, 5, 6], 0), (99, 3, 17, .checkcast 96, [38], 0), (102, 3, 6, .getfield 183, [3, 38, 221], 0), (140, 1, 9, .iastore, [0, 100], 0), (149, 1, 9, .iastore, [0, 100], 0), (158, 1, 9, .iastore, [0, 100], 0)]
theorem fb_382_0 : FB mi iT mi_382 (bpc code_382) (fl_382_0) := ⟨fun hd => mk19 mt_373 cf_373 (vf_373_37.rt (Or.inl W4642) (hd rfl)) rfl rfl (noH_nil rfl),
  ⟨fun hd => mk19 mt_363 cf_363 (vf_363_37.rt (Or.inl W4356) (hd rfl)) rfl rfl (noH_nil rfl),
  ⟨fun hd => mk18 mt_362 sf_362 (Or.inl W4353) rfl rfl (noH_nil rfl) (hd rfl),
  ⟨fun hd => mk18 mt_362 sf_362 (Or.inl W4353) rfl rfl (noH_nil rfl) (hd rfl),
  ⟨fun hd => mk18 mt_362 sf_362 (Or.inl W4353) rfl rfl (noH_nil rfl) (hd rfl),
  ⟨fun hd => mk19 mt_364 cf_364 (vf_364_37.rt (Or.inl W4360) (hd rfl)) rfl rfl (noH_nil rfl),
  ⟨fun hd => mk6 fld_37_1 (Or.inl ⟨rfl, by decide⟩) (Or.inl W4283) (Or.inl rfl) (hd rfl),
  ⟨fun hd => mk19 mt_6 cf_6 (vf_6_5.rt (Or.inl W4546) (hd rfl)) rfl rfl (noH_nil rfl),
  ⟨fun hd => mk17 kx_38 W4365 (hd rfl),
  ⟨fun hd => mk6 fld_38_5 (Or.inl ⟨rfl, by decide⟩) (Or.inl W4387) (Or.inl rfl) (hd rfl),
  ⟨fun hd => mk19 mt_364 cf_364 (vf_364_37.rt (Or.inl W4360) (hd rfl)) rfl rfl (noH_nil rfl),
  ⟨fun hd => mk6 fld_37_1 (Or.inl ⟨rfl, by decide⟩) (Or.inl W4283) (Or.inl rfl) (hd rfl),
  ⟨fun hd => mk19 mt_6 cf_6 (vf_6_5.rt (Or.inl W4546) (hd rfl)) rfl rfl (noH_nil rfl),
  ⟨fun hd => mk17 kx_38 W4365 (hd rfl),
  ⟨fun hd => mk6 fld_38_9 (Or.inl ⟨rfl, by decide⟩) (Or.inl W4395) (Or.inl rfl) (hd rfl),
  ⟨fun hd => ⟨_, _, _, rfl, rfl, hd rfl, Or.inl ⟨rfl, rfl, rfl⟩⟩,
  ⟨fun hd => ⟨_, _, _, rfl, rfl, hd rfl, Or.inl ⟨rfl, rfl, rfl⟩⟩,
  ⟨fun hd => ⟨_, _, _, rfl, rfl, hd rfl, Or.inl ⟨rfl, rfl, rfl⟩⟩,
  trivial⟩⟩⟩⟩⟩⟩⟩⟩⟩⟩⟩⟩⟩⟩⟩⟩⟩⟩
theorem fe_382 : eqEs ((flat code_382).filter (fun e => ndE e.2.2.1)) (fl_382_0) = true := by decide +kernel
theorem om_382 : OKm mi iT prg 382 := OKm_of (code := code_382) rfl mt_382 (Or.inl (by decide +kernel)) rfl wk_382 (by decide +kernel) (by decide +kernel) (FA_of fe_382 (fb_382_0))
def fl_383_0 : List Ent := [(3, 3, 19, .invokevirtual 75, [0, 2, 2, 37, 366], 0), (7, 3, 19, .invokevirtual 104, [0, 3, 3, 37, 363], 0), (20, 3, 18, .invokestatic 71, [0, 3, 3, 362], 0), (32, 3, 19, .invokevirtual 63, [0, 3, 3, 37, 364], 0), (41, 3, 6, .getfield 25, [3, 37, 195], 0), (45, 3, 19, .invokevirtual 114, [3, 2, 2, 5, 6], 0), (48, 3, 17, .checkcast 96, [38], 0), (51, 3, 6, .getfield 186, [0, 38, 225], 0), (56, 3, 6, .getfield 25, [3, 37, 195], 0), (60, 3, 19, .invokevirtual 114, [3, 2, 2, 5, 6], 0), (63, 3, 17, .checkcast 96, [38], 0), (67, 3, 7, .putfield 186, [0, 38, 225], 0)]
theorem fb_383_0 : FB mi iT mi_383 (bpc code_383) (fl_383_0) := ⟨fun hd => mk19 mt_366 cf_366 (vf_366_37.rt (Or.inl W4542) (hd rfl)) rfl rfl (noH_nil rfl),
  ⟨fun hd => mk19 mt_363 cf_363 (vf_363_37.rt (Or.inl W4356) (hd rfl)) rfl rfl (noH_nil rfl),
  ⟨fun hd => mk18 mt_362 sf_362 (Or.inl W4353) rfl rfl (noH_nil rfl) (hd rfl),
  ⟨fun hd => mk19 mt_364 cf_364 (vf_364_37.rt (Or.inl W4360) (hd rfl)) rfl rfl (noH_nil rfl),
  ⟨fun hd => mk6 fld_37_1 (Or.inl ⟨rfl, by decide⟩) (Or.inl W4283) (Or.inl rfl) (hd rfl),
  ⟨fun hd => mk19 mt_6 cf_6 (vf_6_5.rt (Or.inl W4546) (hd rfl)) rfl rfl (noH_nil rfl),
  ⟨fun hd => mk17 kx_38 W4365 (hd rfl),
  ⟨fun hd => mk6 fld_38_13 (Or.inl ⟨rfl, by decide⟩) (Or.inl W4406) (Or.inl rfl) (hd rfl),
  ⟨fun hd => mk6 fld_37_1 (Or.inl ⟨rfl, by decide⟩) (Or.inl W4283) (Or.inl rfl) (hd rfl),
  ⟨fun hd => mk19 mt_6 cf_6 (vf_6_5.rt (Or.inl W4546) (hd rfl)) rfl rfl (noH_nil rfl),
  ⟨fun hd => mk17 kx_38 W4365 (hd rfl),
  ⟨fun hd => mk7 fld_38_13 (Or.inl W4406) (Or.inl rfl) (Or.inl rfl) (hd rfl),
  trivial⟩⟩⟩⟩⟩⟩⟩⟩⟩⟩⟩⟩
theorem fe_383 : eqEs ((flat code_383).filter (fun e => ndE e.2.2.1)) (fl_383_0) = true := by decide +kernel
theorem om_383 : OKm mi iT prg 383 := OKm_of (code := code_383) rfl mt_383 (Or.inl (by decide +kernel)) rfl wk_383 (by decide +kernel) (by decide +kernel) (FA_of fe_383 (fb_383_0))
def fl_384_0 : List Ent := [(3, 3, 19, .invokevirtual 75, [0, 2, 2, 37, 366], 0), (7, 3, 19, .invokevirtual 104, [0, 3, 3, 37, 363], 0), (15, 3, 6, .getfield 25, [3, 37, 195], 0), (19, 3, 19, .invokevirtual 114, [3, 2, 2, 5, 6], 0), (22, 3, 17, .checkcast 96, [38], 0), (25, 3, 6, .getfield 118, [0, 38, 217], 0), (37, 3, 19, .invokevirtual 63, [0, 3, 3, 37, 364], 0), (48, 3, 6, .getfield 25, [3, 37, 195], 0), (52, 3, 19, .invokevirtual 114, [3, 2, 2, 5, 6], 0), (55, 3, 17, .checkcast 96, [38], 0), (58, 3, 19, .invokevirtual 189, [0, 1, 1, 38, 678], 0)]
theorem fb_384_0 : FB mi iT mi_384 (bpc code_384) (fl_384_0) := ⟨fun hd => mk19 mt_366 cf_366 (vf_366_37.rt (Or.inl W4542) (hd rfl)) rfl rfl (noH_nil rfl),
  ⟨fun hd => mk19 mt_363 cf_363 (vf_363_37.rt (Or.inl W4356) (hd rfl)) rfl rfl (noH_nil rfl),
  ⟨fun hd => mk6 fld_37_1 (Or.inl ⟨rfl, by decide⟩) (Or.inl W4283) (Or.inl rfl) (hd rfl),
  ⟨fun hd => mk19 mt_6 cf_6 (vf_6_5.rt (Or.inl W4546) (hd rfl)) rfl rfl (noH_nil rfl),
  ⟨fun hd => mk17 kx_38 W4365 (hd rfl),
  ⟨fun hd => mk6 fld_38_5 (Or.inl ⟨rfl, by decide⟩) (Or.inl W4387) (Or.inl rfl) (hd rfl),
  ⟨fun hd => mk19 mt_364 cf_364 (vf_364_37.rt (Or.inl W4360) (hd rfl)) rfl rfl (noH_nil rfl),
  ⟨fun hd => mk6 fld_37_1 (Or.inl ⟨rfl, by decide⟩) (Or.inl W4283) (Or.inl rfl) (hd rfl),
  ⟨fun hd => mk19 mt_6 cf_6 (vf_6_5.rt (Or.inl W4546) (hd rfl)) rfl rfl (noH_nil rfl),
  ⟨fun hd => mk17 kx_38 W4365 (hd rfl),
  ⟨fun hd => mk19 mt_678 cf_678 (vf_678_38.rt (Or.inl W4823) (hd rfl)) rfl rfl (noH_nil rfl),
  trivial⟩⟩⟩⟩⟩⟩⟩⟩⟩⟩⟩
theorem fe_384 : eqEs ((flat code_384).filter (fun e => ndE e.2.2.1)) (fl_384_0) = true := by decide +kernel
theorem om_384 : OKm mi iT prg 384 := OKm_of (code := code_384) rfl mt_384 (Or.inl (by decide +kernel)) rfl wk_384 (by decide +kernel) (by decide +kernel) (FA_of fe_384 (fb_384_0))
def fl_385_0 : List Ent := [(4, 3, 19, .invokevirtual 152, [0, 3, 3, 37, 373], 0), (8, 3, 19, .invokevirtual 104, [0, 3, 3, 37, 363], 0), (18, 3, 18, .invokestatic 71, [0, 3, 3, 362], 0), (30, 3, 19, .invokevirtual 63, [0, 3, 3, 37, 364], 0), (42, 3, 6, .getfield 25, [3, 37, 195], 0), (46, 3, 19, .invokevirtual 114, [3, 2, 2, 5, 6], 0), (49, 3, 17, .checkcast 96, [38], 0), (54, 3, 19, .invokevirtual 195, [0, 4, 4, 37, 386], 0)]
theorem fb_385_0 : FB mi iT mi_385 (bpc code_385) (fl_385_0) := ⟨fun hd => mk19 mt_373 cf_373 (vf_373_37.rt (Or.inl W4642) (hd rfl)) rfl rfl (noH_nil rfl),
  ⟨fun hd => mk19 mt_363 cf_363 (vf_363_37.rt (Or.inl W4356) (hd rfl)) rfl rfl (noH_nil rfl),
  ⟨fun hd => mk18 mt_362 sf_362 (Or.inl W4353) rfl rfl (noH_nil rfl) (hd rfl),
  ⟨fun hd => mk19 mt_364 cf_364 (vf_364_37.rt (Or.inl W4360) (hd rfl)) rfl rfl (noH_nil rfl),
  ⟨fun hd => mk6 fld_37_1 (Or.inl ⟨rfl, by decide⟩) (Or.inl W4283) (Or.inl rfl) (hd rfl),
  ⟨fun hd => mk19 mt_6 cf_6 (vf_6_5.rt (Or.inl W4546) (hd rfl)) rfl rfl (noH_nil rfl),
  ⟨fun hd => mk17 kx_38 W4365 (hd rfl),
  ⟨fun hd => mk19 mt_386 cf_386 (vf_386_37.rt (Or.inl W4867) (hd rfl)) rfl rfl (noH_nil rfl),
  trivial⟩⟩⟩⟩⟩⟩⟩⟩
theorem fe_385 : eqEs ((flat code_385).filter (fun e => ndE e.2.2.1)) (fl_385_0) = true := by decide +kernel
theorem om_385 : OKm mi iT prg 385 := OKm_of (code := code_385) rfl mt_385 (Or.inl (by decide +kernel)) rfl wk_385 (by decide +kernel) (by decide +kernel) (FA_of fe_385 (fb_385_0))
def fl_386_0 : List Ent := [(6, 3, 6, .getfield 183, [3, 38, 221], 0), (19, 3, 6, .getfield 192, [3, 38, 222], 0)]
theorem fb_386_0 : FB mi iT mi_386 (bpc code_386) (fl_386_0) := ⟨fun hd => mk6 fld_38_9 (Or.inl ⟨rfl, by decide⟩) (Or.inl W4395) (Or.inl rfl) (hd rfl),
  ⟨fun hd => mk6 fld_38_10 (Or.inl ⟨rfl, by decide⟩) (Or.inl W4398) (Or.inl rfl) (hd rfl),
  trivial⟩⟩
theorem fe_386 : eqEs ((flat code_386).filter (fun e => ndE e.2.2.1)) (fl_386_0) = true := by decide +kernel
theorem om_386 : OKm mi iT prg 386 := OKm_of (code := code_386) rfl mt_386 (Or.inl (by decide +kernel)) rfl wk_386 (by decide +kernel) (by decide +kernel) (FA_of fe_386 (fb_386_0))
def fl_387_0 : List Ent := [(3, 3, 19, .invokevirtual 75, [0, 2, 2, 37, 366], 0), (7, 3, 19, .invokevirtual 104, [0, 3, 3, 37, 363], 0), (17, 3, 18, .invokestatic 71, [0, 3, 3, 362], 0), (28, 3, 18, .invokestatic 71, [0, 3, 3, 362], 0), (40, 3, 19, .invokevirtual 63, [0, 3, 3, 37, 364], 0), (51, 3, 6, .getfield 25, [3, 37, 195], 0), (55, 3, 19, .invokevirtual 114, [3, 2, 2, 5, 6], 0), (58, 3, 17, .checkcast 96, [38], 0), (65, 3, 19, .invokevirtual 199, [2, 4, 4, 38, 684], 0)]
theorem fb_387_0 : FB mi iT mi_387 (bpc code_387) (fl_387_0) := ⟨fun hd => mk19 mt_366 cf_366 (vf_366_37.rt (Or.inl W4542) (hd rfl)) rfl rfl (noH_nil rfl),
  ⟨fun hd => mk19 mt_363 cf_363 (vf_363_37.rt (Or.inl W4356) (hd rfl)) rfl rfl (noH_nil rfl),
  ⟨fun hd => mk18 mt_362 sf_362 (Or.inl W4353) rfl rfl (noH_nil rfl) (hd rfl),
  ⟨fun hd => mk18 mt_362 sf_362 (Or.inl W4353) rfl rfl (noH_nil rfl) (hd rfl),
  ⟨fun hd => mk19 mt_364 cf_364 (vf_364_37.rt (Or.inl W4360) (hd rfl)) rfl rfl (noH_nil rfl),
  ⟨fun hd => mk6 fld_37_1 (Or.inl ⟨rfl, by decide⟩) (Or.inl W4283) (Or.inl rfl) (hd rfl),
  ⟨fun hd => mk19 mt_6 cf_6 (vf_6_5.rt (Or.inl W4546) (hd rfl)) rfl rfl (noH_nil rfl),
  ⟨fun hd => mk17 kx_38 W4365 (hd rfl),
  ⟨fun hd => mk19 mt_684 cf_684 (vf_684_38.rt (Or.inl W4875) (hd rfl)) rfl rfl (noH_nil rfl),
  trivial⟩⟩⟩⟩⟩⟩⟩⟩⟩
theorem fe_387 : eqEs ((flat code_387).filter (fun e => ndE e.2.2.1)) (fl_387_0) = true := by decide +kernel
theorem om_387 : OKm mi iT prg 387 := OKm_of (code := code_387) rfl mt_387 (Or.inl (by decide +kernel)) rfl wk_387 (by decide +kernel) (by decide +kernel) (FA_of fe_387 (fb_387_0))
def fl_388_0 : List Ent := [(3, 3, 19, .invokevirtual 75, [0, 2, 2, 37, 366], 0), (7, 3, 19, .invokevirtual 104, [0, 3, 3, 37, 363], 0), (18, 3, 6, .getfield 25, [3, 37, 195], 0), (22, 3, 19, .invokevirtual 114, [3, 2, 2, 5, 6], 0), (25, 3, 17, .checkcast 96, [38], 0), (29, 3, 19, .invokevirtual 203, [0, 2, 2, 38, 685], 0)]
theorem fb_388_0 : FB mi iT mi_388 (bpc code_388) (fl_388_0) := ⟨fun hd => mk19 mt_366 cf_366 (vf_366_37.rt (Or.inl W4542) (hd rfl)) rfl rfl (noH_nil rfl),
  ⟨fun hd => mk19 mt_363 cf_363 (vf_363_37.rt (Or.inl W4356) (hd rfl)) rfl rfl (noH_nil rfl),
  ⟨fun hd => mk6 fld_37_1 (Or.inl ⟨rfl, by decide⟩) (Or.inl W4283) (Or.inl rfl) (hd rfl),
  ⟨fun hd => mk19 mt_6 cf_6 (vf_6_5.rt (Or.inl W4546) (hd rfl)) rfl rfl (noH_nil rfl),
  ⟨fun hd => mk17 kx_38 W4365 (hd rfl),
  ⟨fun hd => mk19 mt_685 cf_685 (vf_685_38.rt (Or.inl W4883) (hd rfl)) rfl rfl (noH_nil rfl),
  trivial⟩⟩⟩⟩⟩⟩
theorem fe_388 : eqEs ((flat code_388).filter (fun e => ndE e.2.2.1)) (fl_388_0) = true := by decide +kernel
theorem om_388 : OKm mi iT prg 388 := OKm_of (code := code_388) rfl mt_388 (Or.inl (by decide +kernel)) rfl wk_388 (by decide +kernel) (by decide +kernel) (FA_of fe_388 (fb_388_0))
def fl_389_0 : List Ent := [(5, 3, 18, .invokestatic 71, [0, 3, 3, 362], 0), (16, 3, 18, .invokestatic 71, [0, 3, 3, 362], 0), (31, 3, 18, .invokestatic 71, [0, 3, 3, 362], 0), (42, 3, 18, .invokestatic 71, [0, 3, 3, 362], 0), (53, 3, 18, .invokestatic 71, [0, 3, 3, 362], 0), (70, 3, 19, .invokevirtual 104, [0, 3, 3, 37, 363], 0), (78, 3, 6, .getfield 36, [3, 37, 203], 0), (81, 3, 19, .invokevirtual 67, [0, 1, 1, 5, 5], 0), (94, 3, 19, .invokevirtual 63, [0, 3, 3, 37, 364], 0), (103, 3, 6, .getfield 36, [3, 37, 203], 0), (108, 2, 12, .newarray .int, [100], 0), (113, 1, 9, .iastore, [0, 100], 0), (117, 1, 9, .iastore, [0, 100], 0), (121, 1, 9, .iastore, [0, 100], 0), (126, 1, 9, .iastore, [0, 100], 0), (131, 1, 9, .iastore, [0, 100], 0), (135, 1, 9, .iastore, [0, 100], 0), (136, 3, 19, .invokevirtual 110, [0, 2, 2, 5, 8], 0), (141, 3, 6, .getfield 36, [3, 37, 203], 0), (144, 3, 19, .invokevirtual 67, [0, 1, 1, 5, 5], 0)]
theorem fb_389_0 : FB mi iT mi_389 (bpc code_389) (fl_389_0) := ⟨fun hd => mk18 mt_362 sf_362 (Or.inl W4353) rfl rfl (noH_nil rfl) (hd rfl),
  ⟨fun hd => mk18 mt_362 sf_362 (Or.inl W4353) rfl rfl (noH_nil rfl) (hd rfl),
  ⟨fun hd => mk18 mt_362 sf_362 (Or.inl W4353) rfl rfl (noH_nil rfl) (hd rfl),
  ⟨fun hd => mk18 mt_362 sf_362 (Or.inl W4353) rfl rfl (noH_nil rfl) (hd rfl),
  ⟨fun hd => mk18 mt_362 sf_362 (Or.inl W4353) rfl rfl (noH_nil rfl) (hd rfl),
  ⟨fun hd => mk19 mt_363 cf_363 (vf_363_37.rt (Or.inl W4356) (hd rfl)) rfl rfl (noH_nil rfl),
  ⟨fun hd => mk6 fld_37_9 (Or.inl ⟨rfl, by decide⟩) (Or.inl W4298) (Or.inl rfl) (hd rfl),
  ⟨fun hd => mk19 mt_5 cf_5 (vf_5_5.rt (Or.inl W4364) (hd rfl)) rfl rfl (noH_nil rfl),
  ⟨fun hd => mk19 mt_364 cf_364 (vf_364_37.rt (Or.inl W4360) (hd rfl)) rfl rfl (noH_nil rfl),
  ⟨fun hd => mk6 fld_37_9 (Or.inl ⟨rfl, by decide⟩) (Or.inl W4298) (Or.inl rfl) (hd rfl),
  ⟨fun hd => mk12a (at_ := .int) (by decide) rfl W239 (hd rfl),
  ⟨fun hd => ⟨_, _, _, rfl, rfl, hd rfl, Or.inl ⟨rfl, rfl, rfl⟩⟩,
  ⟨fun hd => ⟨_, _, _, rfl, rfl, hd rfl, Or.inl ⟨rfl, rfl, rfl⟩⟩,
  ⟨fun hd => ⟨_, _, _, rfl, rfl, hd rfl, Or.inl ⟨rfl, rfl, rfl⟩⟩,
  ⟨fun hd => ⟨_, _, _, rfl, rfl, hd rfl, Or.inl ⟨rfl, rfl, rfl⟩⟩,
  ⟨fun hd => ⟨_, _, _, rfl, rfl, hd rfl, Or.inl ⟨rfl, rfl, rfl⟩⟩,
  ⟨fun hd => ⟨_, _, _, rfl, rfl, hd rfl, Or.inl ⟨rfl, rfl, rfl⟩⟩,
  ⟨fun hd => mk19 mt_8 cf_8 (vf_8_5.rt (Or.inl W4537) (hd rfl)) rfl rfl (noH_nil rfl),
  ⟨fun hd => mk6 fld_37_9 (Or.inl ⟨rfl, by decide⟩) (Or.inl W4298) (Or.inl rfl) (hd rfl),
  ⟨fun hd => mk19 mt_5 cf_5 (vf_5_5.rt (Or.inl W4364) (hd rfl)) rfl rfl (noH_nil rfl),
  trivial⟩⟩⟩⟩⟩⟩⟩⟩⟩⟩⟩⟩⟩⟩⟩⟩⟩⟩⟩⟩
theorem fe_389 : eqEs ((flat code_389).filter (fun e => ndE e.2.2.1)) (fl_389_0) = true := by decide +kernel
theorem om_389 : OKm mi iT prg 389 := OKm_of (code := code_389) rfl mt_389 (Or.inl (by decide +kernel)) rfl wk_389 (by decide +kernel) (by decide +kernel) (FA_of fe_389 (fb_389_0))
def fl_390_0 : List Ent := [(3, 3, 19, .invokevirtual 207, [0, 2, 2, 37, 391], 0), (7, 3, 19, .invokevirtual 104, [0, 3, 3, 37, 363], 0), (19, 3, 18, .invokestatic 71, [0, 3, 3, 362], 0), (31, 3, 19, .invokevirtual 63, [0, 3, 3, 37, 364], 0), (39, 3, 6, .getfield 39, [3, 37, 204], 0), (42, 3, 19, .invokevirtual 67, [0, 1, 1, 5, 5], 0), (56, 3, 19, .invokevirtual 63, [0, 3, 3, 37, 364], 0), (65, 3, 6, .getfield 36, [3, 37, 203], 0), (69, 3, 19, .invokevirtual 114, [3, 2, 2, 5, 6], 0), (72, 3, 17, .checkcast 210, [100], 0), (77, 3, 6, .getfield 39, [3, 37, 204], 0), (81, 2, 12, .newarray .int, [100], 0), (86, 1, 9, .iastore, [0, 100], 0), (90, 1, 9, .iastore, [0, 100], 0), (94, 3, 6, .getfield 79, [0, 37, 196], 0), (101, 1, 9, .iastore, [0, 100], 0), (102, 3, 19, .invokevirtual 110, [0, 2, 2, 5, 8], 0), (115, 3, 19, .invokevirtual 211, [9, 4, 4, 37, 392], 0), (119, 3, 6, .getfield 79, [0, 37, 196], 0)]
theorem fb_390_0 : FB mi iT mi_390 (bpc code_390) (fl_390_0) := ⟨fun hd => mk19 mt_391 cf_391 (vf_391_37.rt (Or.inl W4895) (hd rfl)) rfl rfl (noH_nil rfl),
  ⟨fun hd => mk19 mt_363 cf_363 (vf_363_37.rt (Or.inl W4356) (hd rfl)) rfl rfl (noH_nil rfl),
  ⟨fun hd => mk18 mt_362 sf_362 (Or.inl W4353) rfl rfl (noH_nil rfl) (hd rfl),
  ⟨fun hd => mk19 mt_364 cf_364 (vf_364_37.rt (Or.inl W4360) (hd rfl)) rfl rfl (noH_nil rfl),
  ⟨fun hd => mk6 fld_37_10 (Or.inl ⟨rfl, by decide⟩) (Or.inl W4299) (Or.inl rfl) (hd rfl),
  ⟨fun hd => mk19 mt_5 cf_5 (vf_5_5.rt (Or.inl W4364) (hd rfl)) rfl rfl (noH_nil rfl),
  ⟨fun hd => mk19 mt_364 cf_364 (vf_364_37.rt (Or.inl W4360) (hd rfl)) rfl rfl (noH_nil rfl),
  ⟨fun hd => mk6 fld_37_9 (Or.inl ⟨rfl, by decide⟩) (Or.inl W4298) (Or.inl rfl) (hd rfl),
  ⟨fun hd => mk19 mt_6 cf_6 (vf_6_5.rt (Or.inl W4546) (hd rfl)) rfl rfl (noH_nil rfl),
  ⟨fun hd => mk17 kx_100 W4899 (hd rfl),
  ⟨fun hd => mk6 fld_37_10 (Or.inl ⟨rfl, by decide⟩) (Or.inl W4299) (Or.inl rfl) (hd rfl),
  ⟨fun hd => mk12a (at_ := .int) (by decide) rfl W239 (hd rfl),
  ⟨fun hd => ⟨_, _, _, rfl, rfl, hd rfl, Or.inl ⟨rfl, rfl, rfl⟩⟩,
  ⟨fun hd => ⟨_, _, _, rfl, rfl, hd rfl, Or.inl ⟨rfl, rfl, rfl⟩⟩,
  ⟨fun hd => mk6 fld_37_2 (Or.inl ⟨rfl, by decide⟩) (Or.inl W4284) (Or.inl rfl) (hd rfl),
  ⟨fun hd => ⟨_, _, _, rfl, rfl, hd rfl, Or.inl ⟨rfl, rfl, rfl⟩⟩,
  ⟨fun hd => mk19 mt_8 cf_8 (vf_8_5.rt (Or.inl W4537) (hd rfl)) rfl rfl (noH_nil rfl),
  ⟨fun hd => mk19 mt_392 cf_392 (vf_392_37.rt (Or.inl W4900) (hd rfl)) rfl rfl (noH_nil rfl),
  ⟨fun hd => mk6 fld_37_2 (Or.inl ⟨rfl, by decide⟩) (Or.inl W4284) (Or.inl rfl) (hd rfl),
  trivial⟩⟩⟩⟩⟩⟩⟩⟩⟩⟩⟩⟩⟩⟩⟩⟩⟩⟩⟩
theorem fe_390 : eqEs ((flat code_390).filter (fun e => ndE e.2.2.1)) (fl_390_0) = true := by decide +kernel
theorem om_390 : OKm mi iT prg 390 := OKm_of (code := code_390) rfl mt_390 (Or.inl (by decide +kernel)) rfl wk_390 (by decide +kernel) (by decide +kernel) (FA_of fe_390 (fb_390_0))
def fl_391_0 : List Ent := [(3, 3, 6, .getfield 36, [3, 37, 203], 0), (6, 3, 19, .invokevirtual 67, [0, 1, 1, 5, 5], 0), (11, 3, 18, .invokestatic 71, [0, 3, 3, 362], 0)]
theorem fb_391_0 : FB mi iT mi_391 (bpc code_391) (fl_391_0) := ⟨fun hd => mk6 fld_37_9 (Or.inl ⟨rfl, by decide⟩) (Or.inl W4298) (Or.inl rfl) (hd rfl),
  ⟨fun hd => mk19 mt_5 cf_5 (vf_5_5.rt (Or.inl W4364) (hd rfl)) rfl rfl (noH_nil rfl),
  ⟨fun hd => mk18 mt_362 sf_362 (Or.inl W4353) rfl rfl (noH_nil rfl) (hd rfl),
  trivial⟩⟩⟩
theorem fe_391 : eqEs ((flat code_391).filter (fun e => ndE e.2.2.1)) (fl_391_0) = true := by decide +kernel
theorem om_391 : OKm mi iT prg 391 := OKm_of (code := code_391) rfl mt_391 (Or.inl (by decide +kernel)) rfl wk_391 (by decide +kernel) (by decide +kernel) (FA_of fe_391 (fb_391_0))
def fl_392_0 : List Ent := [(1, 3, 6, .getfield 54, [3, 37, 209], 0), (15, 3, 6, .getfield 79, [0, 37, 196], 0), (26, 1, 9, .iastore, [0, 100], 0), (29, 3, 6, .getfield 57, [0, 37, 210], 0), (34, 3, 7, .putfield 57, [0, 37, 210], 0)]
theorem fb_392_0 : FB mi iT mi_392 (bpc code_392) (fl_392_0) := ⟨fun hd => mk6 fld_37_15 (Or.inl ⟨rfl, by decide⟩) (Or.inl W4305) (Or.inl rfl) (hd rfl),
  ⟨fun hd => mk6 fld_37_2 (Or.inl ⟨rfl, by decide⟩) (Or.inl W4284) (Or.inl rfl) (hd rfl),
  ⟨fun hd => ⟨_, _, _, rfl, rfl, hd rfl, Or.inl ⟨rfl, rfl, rfl⟩⟩,
  ⟨fun hd => mk6 fld_37_16 (Or.inl ⟨rfl, by decide⟩) (Or.inl W4306) (Or.inl rfl) (hd rfl),
  ⟨fun hd => mk7 fld_37_16 (Or.inl W4306) (Or.inl rfl) (Or.inl rfl) (hd rfl),
  trivial⟩⟩⟩⟩⟩
theorem fe_392 : eqEs ((flat code_392).filter (fun e => ndE e.2.2.1)) (fl_392_0) = true := by decide +kernel
theorem om_392 : OKm mi iT prg 392 := OKm_of (code := code_392) rfl mt_392 (Or.inl (by decide +kernel)) rfl wk_392 (by decide +kernel) (by decide +kernel) (FA_of fe_392 (fb_392_0))
def fl_393_0 : List Ent := [(4, 3, 19, .invokevirtual 152, [0, 3, 3, 37, 373], 0), (13, 3, 18, .invokestatic 71, [0, 3, 3, 362], 0), (22, 3, 19, .invokevirtual 207, [0, 2, 2, 37, 391], 0), (34, 3, 19, .invokevirtual 104, [0, 3, 3, 37, 363], 0), (43, 3, 6, .getfield 25, [3, 37, 195], 0), (47, 3, 19, .invokevirtual 114, [3, 2, 2, 5, 6], 0), (50, 3, 17, .checkcast 96, [38], 0), (70, 3, 19, .invokevirtual 255, [0, 4, 4, 37, 394], 0), (74, 3, 19, .invokevirtual 63, [0, 3, 3, 37, 364], 0), (83, 3, 6, .getfield 118, [0, 38, 217], 0), (92, 3, 6, .getfield 249, [3, 38, 223], 0), (107, 3, 19, .invokevirtual 63, [0, 3, 3, 37, 364], 0), (122, 3, 19, .invokevirtual 259, [0, 4, 4, 37, 395], 0)]
theorem fb_393_0 : FB mi iT mi_393 (bpc code_393) (fl_393_0) := ⟨fun hd => mk19 mt_373 cf_373 (vf_373_37.rt (Or.inl W4642) (hd rfl)) rfl rfl (noH_nil rfl),
  ⟨fun hd => mk18 mt_362 sf_362 (Or.inl W4353) rfl rfl (noH_nil rfl) (hd rfl),
  ⟨fun hd => mk19 mt_391 cf_391 (vf_391_37.rt (Or.inl W4895) (hd rfl)) rfl rfl (noH_nil rfl),
  ⟨fun hd => mk19 mt_363 cf_363 (vf_363_37.rt (Or.inl W4356) (hd rfl)) rfl rfl (noH_nil rfl),
  ⟨fun hd => mk6 fld_37_1 (Or.inl ⟨rfl, by decide⟩) (Or.inl W4283) (Or.inl rfl) (hd rfl),
  ⟨fun hd => mk19 mt_6 cf_6 (vf_6_5.rt (Or.inl W4546) (hd rfl)) rfl rfl (noH_nil rfl),
  ⟨fun hd => mk17 kx_38 W4365 (hd rfl),
  ⟨fun hd => mk19 mt_394 cf_394 (vf_394_37.rt (Or.inl W4908) (hd rfl)) rfl rfl (noH_nil rfl),
  ⟨fun hd => mk19 mt_364 cf_364 (vf_364_37.rt (Or.inl W4360) (hd rfl)) rfl rfl (noH_nil rfl),
  ⟨fun hd => mk6 fld_38_5 (Or.inl ⟨rfl, by decide⟩) (Or.inl W4387) (Or.inl rfl) (hd rfl),
  ⟨fun hd => mk6 fld_38_11 (Or.inl ⟨rfl, by decide⟩) (Or.inl W4401) (Or.inl rfl) (hd rfl),
  ⟨fun hd => mk19 mt_364 cf_364 (vf_364_37.rt (Or.inl W4360) (hd rfl)) rfl rfl (noH_nil rfl),
  ⟨fun hd => mk19 mt_395 cf_395 (vf_395_37.rt (Or.inl W4912) (hd rfl)) rfl rfl (noH_nil rfl),
  trivial⟩⟩⟩⟩⟩⟩⟩⟩⟩⟩⟩⟩⟩
theorem fe_393 : eqEs ((flat code_393).filter (fun e => ndE e.2.2.1)) (fl_393_0) = true := by decide +kernel
theorem om_393 : OKm mi iT prg 393 := OKm_of (code := code_393) rfl mt_393 (Or.inl (by decide +kernel)) rfl wk_393 (by decide +kernel) (by decide +kernel) (FA_of fe_393 (fb_393_0))
def fl_394_0 : List Ent := [(1, 3, 6, .getfield 183, [3, 38, 221], 0), (10, 3, 6, .getfield 36, [3, 37, 203], 0), (14, 3, 19, .invokevirtual 114, [3, 2, 2, 5, 6], 0), (17, 3, 17, .checkcast 210, [100], 0), (23, 3, 6, .getfield 183, [3, 38, 221], 0)]
theorem fb_394_0 : FB mi iT mi_394 (bpc code_394) (fl_394_0) := ⟨fun hd => mk6 fld_38_9 (Or.inl ⟨rfl, by decide⟩) (Or.inl W4395) (Or.inl rfl) (hd rfl),
  ⟨fun hd => mk6 fld_37_9 (Or.inl ⟨rfl, by decide⟩) (Or.inl W4298) (Or.inl rfl) (hd rfl),
  ⟨fun hd => mk19 mt_6 cf_6 (vf_6_5.rt (Or.inl W4546) (hd rfl)) rfl rfl (noH_nil rfl),
  ⟨fun hd => mk17 kx_100 W4899 (hd rfl),
  ⟨fun hd => mk6 fld_38_9 (Or.inl ⟨rfl, by decide⟩) (Or.inl W4395) (Or.inl rfl) (hd rfl),
  trivial⟩⟩⟩⟩⟩
theorem fe_394 : eqEs ((flat code_394).filter (fun e => ndE e.2.2.1)) (fl_394_0) = true := by decide +kernel
theorem om_394 : OKm mi iT prg 394 := OKm_of (code := code_394) rfl mt_394 (Or.inl (by decide +kernel)) rfl wk_394 (by decide +kernel) (by decide +kernel) (FA_of fe_394 (fb_394_0))
def fl_395_0 : List Ent := [(1, 3, 19, .invokevirtual 232, [0, 1, 1, 38, 686], 0), (8, 3, 19, .invokevirtual 235, [0, 2, 2, 38, 687], 0), (14, 3, 6, .getfield 36, [3, 37, 203], 0), (18, 3, 19, .invokevirtual 114, [3, 2, 2, 5, 6], 0), (21, 3, 17, .checkcast 210, [100], 0), (32, 3, 19, .invokevirtual 238, [0, 4, 4, 37, 396], 0), (47, 3, 6, .getfield 42, [3, 37, 205], 0), (52, 3, 19, .invokevirtual 162, [3, 2, 2, 5, 12], 0), (66, 3, 19, .invokevirtual 242, [0, 4, 4, 37, 398], 0), (91, 1, 9, .iastore, [0, 100], 0), (104, 3, 18, .invokestatic 219, [0, 4, 4, 399], 0), (159, 3, 18, .invokestatic 215, [0, 2, 2, 400], 0), (171, 3, 18, .invokestatic 215, [0, 2, 2, 400], 0), (191, 3, 19, .invokevirtual 246, [9, 4, 4, 37, 401], 0), (220, 3, 19, .invokevirtual 246, [9, 4, 4, 37, 401], 0), (224, 3, 6, .getfield 249, [3, 38, 223], 0), (229, 1, 9, .iastore, [0, 100], 0), (231, 3, 6, .getfield 252, [3, 38, 224], 0), (239, 1, 9, .iastore, [0, 100], 0)]
theorem fb_395_0 : FB mi iT mi_395 (bpc code_395) (fl_395_0) := ⟨fun hd => mk19 mt_686 cf_686 (vf_686_38.rt (Or.inl W4916) (hd rfl)) rfl rfl (noH_nil rfl),
  ⟨fun hd => mk19 mt_687 cf_687 (vf_687_38.rt (Or.inl W4920) (hd rfl)) rfl rfl (noH_nil rfl),
  ⟨fun hd => mk6 fld_37_9 (Or.inl ⟨rfl, by decide⟩) (Or.inl W4298) (Or.inl rfl) (hd rfl),
  ⟨fun hd => mk19 mt_6 cf_6 (vf_6_5.rt (Or.inl W4546) (hd rfl)) rfl rfl (noH_nil rfl),
  ⟨fun hd => mk17 kx_100 W4899 (hd rfl),
  ⟨fun hd => mk19 mt_396 cf_396 (vf_396_37.rt (Or.inl W4926) (hd rfl)) rfl rfl (noH_nil rfl),
  ⟨fun hd => mk6 fld_37_11 (Or.inl ⟨rfl, by decide⟩) (Or.inl W4300) (Or.inl rfl) (hd rfl),
  ⟨fun hd => mk19 mt_12 cf_12 (vf_12_5.rt (Or.inl W4654) (hd rfl)) rfl rfl (noH_nil rfl),
  ⟨fun hd => mk19 mt_398 cf_398 (vf_398_37.rt (Or.inl W4933) (hd rfl)) rfl rfl (noH_nil rfl),
  ⟨fun hd => ⟨_, _, _, rfl, rfl, hd rfl, Or.inl ⟨rfl, rfl, rfl⟩⟩,
  ⟨fun hd => mk18 mt_399 sf_399 (Or.inl W4937) rfl rfl (noH_nil rfl) (hd rfl),
  ⟨fun hd => mk18 mt_400 sf_400 (Or.inl W4940) rfl rfl (noH_nil rfl) (hd rfl),
  ⟨fun hd => mk18 mt_400 sf_400 (Or.inl W4940) rfl rfl (noH_nil rfl) (hd rfl),
  ⟨fun hd => mk19 mt_401 cf_401 (vf_401_37.rt (Or.inl W4944) (hd rfl)) rfl rfl (noH_nil rfl),
  ⟨fun hd => mk19 mt_401 cf_401 (vf_401_37.rt (Or.inl W4944) (hd rfl)) rfl rfl (noH_nil rfl),
  ⟨fun hd => mk6 fld_38_11 (Or.inl ⟨rfl, by decide⟩) (Or.inl W4401) (Or.inl rfl) (hd rfl),
  ⟨fun hd => ⟨_, _, _, rfl, rfl, hd rfl, Or.inl ⟨rfl, rfl, rfl⟩⟩,
  ⟨fun hd => mk6 fld_38_12 (Or.inl ⟨rfl, by decide⟩) (Or.inl W4404) (Or.inl rfl) (hd rfl),
  ⟨fun hd => ⟨_, _, _, rfl, rfl, hd rfl, Or.inl ⟨rfl, rfl, rfl⟩⟩,
  trivial⟩⟩⟩⟩⟩⟩⟩⟩⟩⟩⟩⟩⟩⟩⟩⟩⟩⟩⟩
theorem fe_395 : eqEs ((flat code_395).filter (fun e => ndE e.2.2.1)) (fl_395_0) = true := by decide +kernel
theorem om_395 : OKm mi iT prg 395 := OKm_of (code := code_395) rfl mt_395 (Or.inl (by decide +kernel)) rfl wk_395 (by decide +kernel) (by decide +kernel) (FA_of fe_395 (fb_395_0))
def fl_396_0 : List Ent := [(9, 3, 6, .getfield 42, [3, 37, 205], 0), (12, 3, 19, .invokevirtual 67, [0, 1, 1, 5, 5], 0), (19, 3, 6, .getfield 42, [3, 37, 205], 0), (24, 3, 19, .invokevirtual 114, [3, 2, 2, 5, 6], 0), (27, 3, 17, .checkcast 210, [100], 0), (44, 3, 18, .invokestatic 228, [0, 3, 3, 397], 0), (69, 3, 6, .getfield 42, [3, 37, 205], 0), (74, 3, 19, .invokevirtual 114, [3, 2, 2, 5, 6], 0), (77, 3, 17, .checkcast 210, [100], 0), (83, 3, 6, .getfield 42, [3, 37, 205], 0), (88, 3, 19, .invokevirtual 114, [3, 2, 2, 5, 6], 0), (91, 3, 17, .checkcast 210, [100], 0)]
theorem fb_396_0 : FB mi iT mi_396 (bpc code_396) (fl_396_0) := ⟨fun hd => mk6 fld_37_11 (Or.inl ⟨rfl, by decide⟩) (Or.inl W4300) (Or.inl rfl) (hd rfl),
  ⟨fun hd => mk19 mt_5 cf_5 (vf_5_5.rt (Or.inl W4364) (hd rfl)) rfl rfl (noH_nil rfl),
  ⟨fun hd => mk6 fld_37_11 (Or.inl ⟨rfl, by decide⟩) (Or.inl W4300) (Or.inl rfl) (hd rfl),
  ⟨fun hd => mk19 mt_6 cf_6 (vf_6_5.rt (Or.inl W4546) (hd rfl)) rfl rfl (noH_nil rfl),
  ⟨fun hd => mk17 kx_100 W4899 (hd rfl),
  ⟨fun hd => mk18 mt_397 sf_397 (Or.inl W4930) rfl rfl (noH_nil rfl) (hd rfl),
  ⟨fun hd => mk6 fld_37_11 (Or.inl ⟨rfl, by decide⟩) (Or.inl W4300) (Or.inl rfl) (hd rfl),
  ⟨fun hd => mk19 mt_6 cf_6 (vf_6_5.rt (Or.inl W4546) (hd rfl)) rfl rfl (noH_nil rfl),
  ⟨fun hd => mk17 kx_100 W4899 (hd rfl),
  ⟨fun hd => mk6 fld_37_11 (Or.inl ⟨rfl, by decide⟩) (Or.inl W4300) (Or.inl rfl) (hd rfl),
  ⟨fun hd => mk19 mt_6 cf_6 (vf_6_5.rt (Or.inl W4546) (hd rfl)) rfl rfl (noH_nil rfl),
  ⟨fun hd => mk17 kx_100 W4899 (hd rfl),
  trivial⟩⟩⟩⟩⟩⟩⟩⟩⟩⟩⟩⟩
theorem fe_396 : eqEs ((flat code_396).filter (fun e => ndE e.2.2.1)) (fl_396_0) = true := by decide +kernel
theorem om_396 : OKm mi iT prg 396 := OKm_of (code := code_396) rfl mt_396 (Or.inl (by decide +kernel)) rfl wk_396 (by decide +kernel) (by decide +kernel) (FA_of fe_396 (fb_396_0))
theorem fe_397 : eqEs ((flat code_397).filter (fun e => ndE e.2.2.1)) ([]) = true := by decide +kernel
theorem om_397 : OKm mi iT prg 397 := OKm_of (code := code_397) rfl mt_397 (Or.inl (by decide +kernel)) rfl wk_397 (by decide +kernel) (by decide +kernel) (FA_of fe_397 (trivial))
def fl_398_0 : List Ent := [(8, 3, 18, .invokestatic 219, [0, 4, 4, 399], 0), (19, 3, 18, .invokestatic 219, [0, 4, 4, 399], 0), (22, 3, 18, .invokestatic 223, [0, 2, 2, 67], 0)]
theorem fb_398_0 : FB mi iT mi_398 (bpc code_398) (fl_398_0) := ⟨fun hd => mk18 mt_399 sf_399 (Or.inl W4937) rfl rfl (noH_nil rfl) (hd rfl),
  ⟨fun hd => mk18 mt_399 sf_399 (Or.inl W4937) rfl rfl (noH_nil rfl) (hd rfl),
  ⟨fun hd => mk18 mt_67 sf_67 (Or.inl W4943) rfl rfl (noH_nil rfl) (hd rfl),
  trivial⟩⟩⟩
theorem fe_398 : eqEs ((flat code_398).filter (fun e => ndE e.2.2.1)) (fl_398_0) = true := by decide +kernel
theorem om_398 : OKm mi iT prg 398 := OKm_of (code := code_398) rfl mt_398 (Or.inl (by decide +kernel)) rfl wk_398 (by decide +kernel) (by decide +kernel) (FA_of fe_398 (fb_398_0))
def fl_399_0 : List Ent := [(2, 3, 18, .invokestatic 215, [0, 2, 2, 400], 0), (9, 3, 18, .invokestatic 215, [0, 2, 2, 400], 0)]
theorem fb_399_0 : FB mi iT mi_399 (bpc code_399) (fl_399_0) := ⟨fun hd => mk18 mt_400 sf_400 (Or.inl W4940) rfl rfl (noH_nil rfl) (hd rfl),
  ⟨fun hd => mk18 mt_400 sf_400 (Or.inl W4940) rfl rfl (noH_nil rfl) (hd rfl),
  trivial⟩⟩
theorem fe_399 : eqEs ((flat code_399).filter (fun e => ndE e.2.2.1)) (fl_399_0) = true := by decide +kernel
theorem om_399 : OKm mi iT prg 399 := OKm_of (code := code_399) rfl mt_399 (Or.inl (by decide +kernel)) rfl wk_399 (by decide +kernel) (by decide +kernel) (FA_of fe_399 (fb_399_0))
