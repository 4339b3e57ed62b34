section RTT
variable {B : Nat} {sa : Nat → Nat} {xv : Nat → Value} {D : va_G} {cA : Nat → ClassId} {H0 : Heap} {L : Nat} {xs : Nat → Int32} {args : Array Value} {s : State}
set_option maxRecDepth 1000000 in
theorem ck_330 : I330.all (pv_ckq RT_X15 prog_16_method_50_code none) = true := by decide +kernel
theorem mok_330 (hS : pv_ST B sa xv H0 args s) (hX : pv_XC D s) : pv_MOK (mkE B sa xv D cA H0) (PP L xs) GG 330 args s :=
  pv_mok (I := I330) hS gg_330 rfl rfl (by decide +kernel) (by decide) (pv_cw (hS.1 _ qt3205)) (hS.1 _ qt264) (by decide) (by decide) rfl (fun j x z e1 e2 => by cases e1) (rt_X15 hS) ck_330 (pv_no4 (by decide +kernel))
set_option maxRecDepth 1000000 in
theorem ck_331 : I331.all (pv_ckq RT_X15 prog_16_method_51_code (some .int)) = true := by decide +kernel
theorem mok_331 (hS : pv_ST B sa xv H0 args s) (hX : pv_XC D s) : pv_MOK (mkE B sa xv D cA H0) (PP L xs) GG 331 args s :=
  pv_mok (I := I331) hS gg_331 rfl rfl (by decide +kernel) (by decide) (pv_cw (hS.1 _ qt3209)) (hS.1 _ qt264) (by decide) (by decide) rfl (fun j x z e1 e2 => by cases e1) (rt_X15 hS) ck_331 (pv_no4 (by decide +kernel))
set_option maxRecDepth 1000000 in
theorem ck_332 : I332.all (pv_ckq RT_X15 prog_16_method_68_code none) = true := by decide +kernel
theorem mok_332 (hS : pv_ST B sa xv H0 args s) (hX : pv_XC D s) : pv_MOK (mkE B sa xv D cA H0) (PP L xs) GG 332 args s :=
  pv_mok (I := I332) hS gg_332 rfl rfl (by decide +kernel) (by decide) (pv_cw (hS.1 _ qt3214)) (hS.1 _ qt264) (by decide) (by decide) rfl (fun j x z e1 e2 => by cases e1) (rt_X15 hS) ck_332 (pv_no4 (by decide +kernel))
set_option maxRecDepth 1000000 in
theorem ck_333 : I333.all (pv_ckq RT_X15 prog_16_method_53_code (some .int)) = true := by decide +kernel
theorem mok_333 (hS : pv_ST B sa xv H0 args s) (hX : pv_XC D s) : pv_MOK (mkE B sa xv D cA H0) (PP L xs) GG 333 args s :=
  pv_mok (I := I333) hS gg_333 rfl rfl (by decide +kernel) (by decide) (pv_cw (hS.1 _ qt3218)) (hS.1 _ qt264) (by decide) (by decide) rfl (fun j x z e1 e2 => by cases e1) (rt_X15 hS) ck_333 (pv_no4 (by decide +kernel))
set_option maxRecDepth 1000000 in
theorem ck_334_0 : (List.take 60 I334).all (pv_ckq RT_X15 prog_16_method_65_code (some .int)) = true := by decide +kernel
set_option maxRecDepth 1000000 in
theorem ck_334_1 : (List.take 60 (List.drop 60 I334)).all (pv_ckq RT_X15 prog_16_method_65_code (some .int)) = true := by decide +kernel
set_option maxRecDepth 1000000 in
theorem ck_334_2 : ((List.drop 60 (List.drop 60 I334))).all (pv_ckq RT_X15 prog_16_method_65_code (some .int)) = true := by decide +kernel
theorem ck_334 : I334.all (pv_ckq RT_X15 prog_16_method_65_code (some .int)) = true := (pv_allTD ck_334_0 (pv_allTD ck_334_1 ck_334_2))
theorem mok_334 (hS : pv_ST B sa xv H0 args s) (hX : pv_XC D s) : pv_MOK (mkE B sa xv D cA H0) (PP L xs) GG 334 args s :=
  pv_mok (I := I334) hS gg_334 rfl rfl (by decide +kernel) (by decide) (pv_cw (hS.1 _ qt3222)) (hS.1 _ qt264) (by decide) (by decide) rfl (fun j x z e1 e2 => by cases e1) (rt_X15 hS) ck_334 (pv_no4 (by decide +kernel))
set_option maxRecDepth 1000000 in
theorem ck_335_0 : (List.take 60 I335).all (pv_ckq RT_X15 prog_16_method_64_code (some .int)) = true := by decide +kernel
set_option maxRecDepth 1000000 in
theorem ck_335_1 : ((List.drop 60 I335)).all (pv_ckq RT_X15 prog_16_method_64_code (some .int)) = true := by decide +kernel
theorem ck_335 : I335.all (pv_ckq RT_X15 prog_16_method_64_code (some .int)) = true := (pv_allTD ck_335_0 ck_335_1)
theorem mok_335 (hS : pv_ST B sa xv H0 args s) (hX : pv_XC D s) : pv_MOK (mkE B sa xv D cA H0) (PP L xs) GG 335 args s :=
  pv_mok (I := I335) hS gg_335 rfl rfl (by decide +kernel) (by decide) (pv_cw (hS.1 _ qt3226)) (hS.1 _ qt264) (by decide) (by decide) rfl (fun j x z e1 e2 => by cases e1) (rt_X15 hS) ck_335 (pv_no4 (by decide +kernel))
set_option maxRecDepth 1000000 in
theorem ck_336_0 : (List.take 60 I336).all (pv_ckq RT_X15 prog_16_method_61_code (some .int)) = true := by decide +kernel
set_option maxRecDepth 1000000 in
theorem ck_336_1 : (List.take 60 (List.drop 60 I336)).all (pv_ckq RT_X15 prog_16_method_61_code (some .int)) = true := by decide +kernel
set_option maxRecDepth 1000000 in
theorem ck_336_2 : (List.take 60 (List.drop 60 (List.drop 60 I336))).all (pv_ckq RT_X15 prog_16_method_61_code (some .int)) = true := by decide +kernel
set_option maxRecDepth 1000000 in
theorem ck_336_3 : ((List.drop 60 (List.drop 60 (List.drop 60 I336)))).all (pv_ckq RT_X15 prog_16_method_61_code (some .int)) = true := by decide +kernel
theorem ck_336 : I336.all (pv_ckq RT_X15 prog_16_method_61_code (some .int)) = true := (pv_allTD ck_336_0 (pv_allTD ck_336_1 (pv_allTD ck_336_2 ck_336_3)))
theorem mok_336 (hS : pv_ST B sa xv H0 args s) (hX : pv_XC D s) : pv_MOK (mkE B sa xv D cA H0) (PP L xs) GG 336 args s :=
  pv_mok (I := I336) hS gg_336 rfl rfl (by decide +kernel) (by decide) (pv_cw (hS.1 _ qt3230)) (hS.1 _ qt264) (by decide) (by decide) rfl (fun j x z e1 e2 => by cases e1) (rt_X15 hS) ck_336 (pv_no4 (by decide +kernel))
set_option maxRecDepth 1000000 in
theorem ck_337 : I337.all (pv_ckq RT_X15 prog_16_method_52_code (some .int)) = true := by decide +kernel
theorem mok_337 (hS : pv_ST B sa xv H0 args s) (hX : pv_XC D s) : pv_MOK (mkE B sa xv D cA H0) (PP L xs) GG 337 args s :=
  pv_mok (I := I337) hS gg_337 rfl rfl (by decide +kernel) (by decide) (pv_cw (hS.1 _ qt3234)) (hS.1 _ qt264) (by decide) (by decide) rfl (fun j x z e1 e2 => by cases e1) (rt_X15 hS) ck_337 (pv_no4 (by decide +kernel))
set_option maxRecDepth 1000000 in
theorem ck_338 : I338.all (pv_ckq RT_X15 prog_16_method_62_code (some .int)) = true := by decide +kernel
theorem mok_338 (hS : pv_ST B sa xv H0 args s) (hX : pv_XC D s) : pv_MOK (mkE B sa xv D cA H0) (PP L xs) GG 338 args s :=
  pv_mok (I := I338) hS gg_338 rfl rfl (by decide +kernel) (by decide) (pv_cw (hS.1 _ qt3238)) (hS.1 _ qt264) (by decide) (by decide) rfl (fun j x z e1 e2 => by cases e1) (rt_X15 hS) ck_338 (pv_no4 (by decide +kernel))
set_option maxRecDepth 1000000 in
theorem ck_339 : I339.all (pv_ckq RT_X15 prog_16_method_63_code (some .int)) = true := by decide +kernel
theorem mok_339 (hS : pv_ST B sa xv H0 args s) (hX : pv_XC D s) : pv_MOK (mkE B sa xv D cA H0) (PP L xs) GG 339 args s :=
  pv_mok (I := I339) hS gg_339 rfl rfl (by decide +kernel) (by decide) (pv_cw (hS.1 _ qt3242)) (hS.1 _ qt264) (by decide) (by decide) rfl (fun j x z e1 e2 => by cases e1) (rt_X15 hS) ck_339 (pv_no4 (by decide +kernel))
set_option maxRecDepth 1000000 in
theorem ck_340_0 : (List.take 60 I340).all (pv_ckq RT_X15 prog_16_method_66_code (some .boolean)) = true := by decide +kernel
set_option maxRecDepth 1000000 in
theorem ck_340_1 : (List.take 60 (List.drop 60 I340)).all (pv_ckq RT_X15 prog_16_method_66_code (some .boolean)) = true := by decide +kernel
set_option maxRecDepth 1000000 in
theorem ck_340_2 : (List.take 60 (List.drop 60 (List.drop 60 I340))).all (pv_ckq RT_X15 prog_16_method_66_code (some .boolean)) = true := by decide +kernel
set_option maxRecDepth 1000000 in
theorem ck_340_3 : ((List.drop 60 (List.drop 60 (List.drop 60 I340)))).all (pv_ckq RT_X15 prog_16_method_66_code (some .boolean)) = true := by decide +kernel
theorem ck_340 : I340.all (pv_ckq RT_X15 prog_16_method_66_code (some .boolean)) = true := (pv_allTD ck_340_0 (pv_allTD ck_340_1 (pv_allTD ck_340_2 ck_340_3)))
theorem mok_340 (hS : pv_ST B sa xv H0 args s) (hX : pv_XC D s) : pv_MOK (mkE B sa xv D cA H0) (PP L xs) GG 340 args s :=
  pv_mok (I := I340) hS gg_340 rfl rfl (by decide +kernel) (by decide) (pv_cw (hS.1 _ qt3246)) (hS.1 _ qt264) (by decide) (by decide) rfl (fun j x z e1 e2 => by cases e1) (rt_X15 hS) ck_340 (pv_no4 (by decide +kernel))
set_option maxRecDepth 1000000 in
theorem ck_341_0 : (List.take 60 I341).all (pv_ckq RT_X15 prog_16_method_58_code (some .boolean)) = true := by decide +kernel
set_option maxRecDepth 1000000 in
theorem ck_341_1 : (List.take 60 (List.drop 60 I341)).all (pv_ckq RT_X15 prog_16_method_58_code (some .boolean)) = true := by decide +kernel
set_option maxRecDepth 1000000 in
theorem ck_341_2 : ((List.drop 60 (List.drop 60 I341))).all (pv_ckq RT_X15 prog_16_method_58_code (some .boolean)) = true := by decide +kernel
theorem ck_341 : I341.all (pv_ckq RT_X15 prog_16_method_58_code (some .boolean)) = true := (pv_allTD ck_341_0 (pv_allTD ck_341_1 ck_341_2))
theorem mok_341 (hS : pv_ST B sa xv H0 args s) (hX : pv_XC D s) : pv_MOK (mkE B sa xv D cA H0) (PP L xs) GG 341 args s :=
  pv_mok (I := I341) hS gg_341 rfl rfl (by decide +kernel) (by decide) (pv_cw (hS.1 _ qt3250)) (hS.1 _ qt264) (by decide) (by decide) rfl (fun j x z e1 e2 => by cases e1) (rt_X15 hS) ck_341 (pv_no4 (by decide +kernel))
set_option maxRecDepth 1000000 in
theorem ck_342 : I342.all (pv_ckq RT_X15 prog_16_method_57_code (some .boolean)) = true := by decide +kernel
theorem mok_342 (hS : pv_ST B sa xv H0 args s) (hX : pv_XC D s) : pv_MOK (mkE B sa xv D cA H0) (PP L xs) GG 342 args s :=
  pv_mok (I := I342) hS gg_342 rfl rfl (by decide +kernel) (by decide) (pv_cw (hS.1 _ qt3254)) (hS.1 _ qt264) (by decide) (by decide) rfl (fun j x z e1 e2 => by cases e1) (rt_X15 hS) ck_342 (pv_no4 (by decide +kernel))
set_option maxRecDepth 1000000 in
theorem ck_343 : I343.all (pv_ckq RT_X15 prog_16_method_73_code (some .int)) = true := by decide +kernel
theorem mok_343 (hS : pv_ST B sa xv H0 args s) (hX : pv_XC D s) : pv_MOK (mkE B sa xv D cA H0) (PP L xs) GG 343 args s :=
  pv_mok (I := I343) hS gg_343 rfl rfl (by decide +kernel) (by decide) (pv_cw (hS.1 _ qt3258)) (hS.1 _ qt264) (by decide) (by decide) rfl (fun j x z e1 e2 => by cases e1) (rt_X15 hS) ck_343 (pv_no4 (by decide +kernel))
set_option maxRecDepth 1000000 in
theorem ck_344 : I344.all (pv_ckq RT_X15 prog_16_method_60_code none) = true := by decide +kernel
theorem mok_344 (hS : pv_ST B sa xv H0 args s) (hX : pv_XC D s) : pv_MOK (mkE B sa xv D cA H0) (PP L xs) GG 344 args s :=
  pv_mok (I := I344) hS gg_344 rfl rfl (by decide +kernel) (by decide) (pv_cw (hS.1 _ qt3262)) (hS.1 _ qt264) (by decide) (by decide) rfl (fun j x z e1 e2 => by cases e1) (rt_X15 hS) ck_344 (pv_no4 (by decide +kernel))
set_option maxRecDepth 1000000 in
theorem ck_345 : I345.all (pv_ckq RT_X15 prog_16_method_54_code none) = true := by decide +kernel
theorem mok_345 (hS : pv_ST B sa xv H0 args s) (hX : pv_XC D s) : pv_MOK (mkE B sa xv D cA H0) (PP L xs) GG 345 args s :=
  pv_mok (I := I345) hS gg_345 rfl rfl (by decide +kernel) (by decide) (pv_cw (hS.1 _ qt3266)) (hS.1 _ qt264) (by decide) (by decide) rfl (fun j x z e1 e2 => by cases e1) (rt_X15 hS) ck_345 (pv_no4 (by decide +kernel))
set_option maxRecDepth 1000000 in
theorem ck_346_0 : (List.take 60 I346).all (pv_ckq RT_X15 prog_16_method_59_code (some .boolean)) = true := by decide +kernel
set_option maxRecDepth 1000000 in
theorem ck_346_1 : (List.take 60 (List.drop 60 I346)).all (pv_ckq RT_X15 prog_16_method_59_code (some .boolean)) = true := by decide +kernel
set_option maxRecDepth 1000000 in
theorem ck_346_2 : ((List.drop 60 (List.drop 60 I346))).all (pv_ckq RT_X15 prog_16_method_59_code (some .boolean)) = true := by decide +kernel
theorem ck_346 : I346.all (pv_ckq RT_X15 prog_16_method_59_code (some .boolean)) = true := (pv_allTD ck_346_0 (pv_allTD ck_346_1 ck_346_2))
theorem mok_346 (hS : pv_ST B sa xv H0 args s) (hX : pv_XC D s) : pv_MOK (mkE B sa xv D cA H0) (PP L xs) GG 346 args s :=
  pv_mok (I := I346) hS gg_346 rfl rfl (by decide +kernel) (by decide) (pv_cw (hS.1 _ qt3270)) (hS.1 _ qt264) (by decide) (by decide) rfl (fun j x z e1 e2 => by cases e1) (rt_X15 hS) ck_346 (pv_no4 (by decide +kernel))
set_option maxRecDepth 1000000 in
theorem ck_347 : I347.all (pv_ckq RT_X15 prog_16_method_67_code (some .int)) = true := by decide +kernel
theorem mok_347 (hS : pv_ST B sa xv H0 args s) (hX : pv_XC D s) : pv_MOK (mkE B sa xv D cA H0) (PP L xs) GG 347 args s :=
  pv_mok (I := I347) hS gg_347 rfl rfl (by decide +kernel) (by decide) (pv_cw (hS.1 _ qt3274)) (hS.1 _ qt264) (by decide) (by decide) rfl (fun j x z e1 e2 => by cases e1) (rt_X15 hS) ck_347 (pv_no4 (by decide +kernel))
set_option maxRecDepth 1000000 in
theorem ck_348_0 : (List.take 60 I348).all (pv_ckq RT_X15 prog_16_method_85_code none) = true := by decide +kernel
set_option maxRecDepth 1000000 in
theorem ck_348_1 : (List.take 60 (List.drop 60 I348)).all (pv_ckq RT_X15 prog_16_method_85_code none) = true := by decide +kernel
set_option maxRecDepth 1000000 in
theorem ck_348_2 : ((List.drop 60 (List.drop 60 I348))).all (pv_ckq RT_X15 prog_16_method_85_code none) = true := by decide +kernel
theorem ck_348 : I348.all (pv_ckq RT_X15 prog_16_method_85_code none) = true := (pv_allTD ck_348_0 (pv_allTD ck_348_1 ck_348_2))
theorem mok_348 (hS : pv_ST B sa xv H0 args s) (hX : pv_XC D s) : pv_MOK (mkE B sa xv D cA H0) (PP L xs) GG 348 args s :=
  pv_mok (I := I348) hS gg_348 rfl rfl (by decide +kernel) (by decide) (pv_cw (hS.1 _ qt3278)) (hS.1 _ qt264) (by decide) (by decide) rfl (fun j x z e1 e2 => by cases e1) (rt_X15 hS) ck_348 (pv_no4 (by decide +kernel))
set_option maxRecDepth 1000000 in
theorem ck_349 : I349.all (pv_ckq RT_X15 prog_16_method_71_code none) = true := by decide +kernel
theorem mok_349 (hS : pv_ST B sa xv H0 args s) (hX : pv_XC D s) : pv_MOK (mkE B sa xv D cA H0) (PP L xs) GG 349 args s :=
  pv_mok (I := I349) hS gg_349 rfl rfl (by decide +kernel) (by decide) (pv_cw (hS.1 _ qt3282)) (hS.1 _ qt264) (by decide) (by decide) rfl (fun j x z e1 e2 => by cases e1) (rt_X15 hS) ck_349 (pv_no4 (by decide +kernel))
set_option maxRecDepth 1000000 in
theorem ck_350 : I350.all (pv_ckq RT_X15 prog_16_method_70_code (some .boolean)) = true := by decide +kernel
theorem mok_350 (hS : pv_ST B sa xv H0 args s) (hX : pv_XC D s) : pv_MOK (mkE B sa xv D cA H0) (PP L xs) GG 350 args s :=
  pv_mok (I := I350) hS gg_350 rfl rfl (by decide +kernel) (by decide) (pv_cw (hS.1 _ qt3286)) (hS.1 _ qt264) (by decide) (by decide) rfl (fun j x z e1 e2 => by cases e1) (rt_X15 hS) ck_350 (pv_no4 (by decide +kernel))
set_option maxRecDepth 1000000 in
theorem ck_351 : I351.all (pv_ckq RT_X15 prog_16_method_69_code none) = true := by decide +kernel
theorem mok_351 (hS : pv_ST B sa xv H0 args s) (hX : pv_XC D s) : pv_MOK (mkE B sa xv D cA H0) (PP L xs) GG 351 args s :=
  pv_mok (I := I351) hS gg_351 rfl rfl (by decide +kernel) (by decide) (pv_cw (hS.1 _ qt3290)) (hS.1 _ qt264) (by decide) (by decide) rfl (fun j x z e1 e2 => by cases e1) (rt_X15 hS) ck_351 (pv_no4 (by decide +kernel))
set_option maxRecDepth 1000000 in
theorem ck_352_0 : (List.take 60 I352).all (pv_ckq RT_X15 prog_16_method_74_code none) = true := by decide +kernel
set_option maxRecDepth 1000000 in
theorem ck_352_1 : (List.take 60 (List.drop 60 I352)).all (pv_ckq RT_X15 prog_16_method_74_code none) = true := by decide +kernel
set_option maxRecDepth 1000000 in
theorem ck_352_2 : (List.take 60 (List.drop 60 (List.drop 60 I352))).all (pv_ckq RT_X15 prog_16_method_74_code none) = true := by decide +kernel
set_option maxRecDepth 1000000 in
theorem ck_352_3 : ((List.drop 60 (List.drop 60 (List.drop 60 I352)))).all (pv_ckq RT_X15 prog_16_method_74_code none) = true := by decide +kernel
theorem ck_352 : I352.all (pv_ckq RT_X15 prog_16_method_74_code none) = true := (pv_allTD ck_352_0 (pv_allTD ck_352_1 (pv_allTD ck_352_2 ck_352_3)))
theorem mok_352 (hS : pv_ST B sa xv H0 args s) (hX : pv_XC D s) : pv_MOK (mkE B sa xv D cA H0) (PP L xs) GG 352 args s :=
  pv_mok (I := I352) hS gg_352 rfl rfl (by decide +kernel) (by decide) (pv_cw (hS.1 _ qt3294)) (hS.1 _ qt264) (by decide) (by decide) rfl (fun j x z e1 e2 => by cases e1) (rt_X15 hS) ck_352 (pv_no4 (by decide +kernel))
set_option maxRecDepth 1000000 in
theorem ck_353 : I353.all (pv_ckq RT_X15 prog_16_method_72_code (some .int)) = true := by decide +kernel
theorem mok_353 (hS : pv_ST B sa xv H0 args s) (hX : pv_XC D s) : pv_MOK (mkE B sa xv D cA H0) (PP L xs) GG 353 args s :=
  pv_mok (I := I353) hS gg_353 rfl rfl (by decide +kernel) (by decide) (pv_cw (hS.1 _ qt3298)) (hS.1 _ qt264) (by decide) (by decide) rfl (fun j x z e1 e2 => by cases e1) (rt_X15 hS) ck_353 (pv_no4 (by decide +kernel))
set_option maxRecDepth 1000000 in
theorem ck_354 : I354.all (pv_ckq RT_X15 prog_16_method_55_code (some .int)) = true := by decide +kernel
theorem mok_354 (hS : pv_ST B sa xv H0 args s) (hX : pv_XC D s) : pv_MOK (mkE B sa xv D cA H0) (PP L xs) GG 354 args s :=
  pv_mok (I := I354) hS gg_354 rfl rfl (by decide +kernel) (by decide) (pv_cw (hS.1 _ qt3302)) (hS.1 _ qt264) (by decide) (by decide) rfl (fun j x z e1 e2 => by cases e1) (rt_X15 hS) ck_354 (pv_no4 (by decide +kernel))
set_option maxRecDepth 1000000 in
theorem ck_355 : I355.all (pv_ckq RT_X15 prog_16_method_76_code none) = true := by decide +kernel
theorem mok_355 (hS : pv_ST B sa xv H0 args s) (hX : pv_XC D s) : pv_MOK (mkE B sa xv D cA H0) (PP L xs) GG 355 args s :=
  pv_mok (I := I355) hS gg_355 rfl rfl (by decide +kernel) (by decide) (pv_cw (hS.1 _ qt3306)) (hS.1 _ qt264) (by decide) (by decide) rfl (fun j x z e1 e2 => by cases e1) (rt_X15 hS) ck_355 (pv_no4 (by decide +kernel))
set_option maxRecDepth 1000000 in
theorem ck_356 : I356.all (pv_ckq RT_X15 prog_16_method_77_code none) = true := by decide +kernel
theorem mok_356 (hS : pv_ST B sa xv H0 args s) (hX : pv_XC D s) : pv_MOK (mkE B sa xv D cA H0) (PP L xs) GG 356 args s :=
  pv_mok (I := I356) hS gg_356 rfl rfl (by decide +kernel) (by decide) (pv_cw (hS.1 _ qt3310)) (hS.1 _ qt264) (by decide) (by decide) rfl (fun j x z e1 e2 => by cases e1) (rt_X15 hS) ck_356 (pv_no4 (by decide +kernel))
set_option maxRecDepth 1000000 in
theorem ck_357 : I357.all (pv_ckq RT_X15 prog_16_method_75_code (some .int)) = true := by decide +kernel
theorem mok_357 (hS : pv_ST B sa xv H0 args s) (hX : pv_XC D s) : pv_MOK (mkE B sa xv D cA H0) (PP L xs) GG 357 args s :=
  pv_mok (I := I357) hS gg_357 rfl rfl (by decide +kernel) (by decide) (pv_cw (hS.1 _ qt3314)) (hS.1 _ qt264) (by decide) (by decide) rfl (fun j x z e1 e2 => by cases e1) (rt_X15 hS) ck_357 (pv_no4 (by decide +kernel))
end RTT
