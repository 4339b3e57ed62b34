section RTT
variable {B : Nat} {sa : Nat → Nat} {xv : Nat → Value} {D : va_G} {cA : Nat → ClassId} {H0 : Heap} {L : Nat} {xs : Nat → Int32} {args : Array Value} {s : State}
set_option maxRecDepth 1000000 in
theorem ck_358 : I358.all (pv_ckq RT_X15 prog_16_method_80_code (some .boolean)) = true := by decide +kernel
theorem mok_358 (hS : pv_ST B sa xv H0 args s) (hX : pv_XC D s) : pv_MOK (mkE B sa xv D cA H0) (PP L xs) GG 358 args s :=
  pv_mok (I := I358) hS gg_358 rfl rfl (by decide +kernel) (by decide) (pv_cw (hS.1 _ qt3318)) (hS.1 _ qt264) (by decide) (by decide) rfl (fun j x z e1 e2 => by cases e1) (rt_X15 hS) ck_358 (pv_no4 (by decide +kernel))
set_option maxRecDepth 1000000 in
theorem ck_359 : I359.all (pv_ckq RT_X15 prog_16_method_79_code (some .boolean)) = true := by decide +kernel
theorem mok_359 (hS : pv_ST B sa xv H0 args s) (hX : pv_XC D s) : pv_MOK (mkE B sa xv D cA H0) (PP L xs) GG 359 args s :=
  pv_mok (I := I359) hS gg_359 rfl rfl (by decide +kernel) (by decide) (pv_cw (hS.1 _ qt3322)) (hS.1 _ qt264) (by decide) (by decide) rfl (fun j x z e1 e2 => by cases e1) (rt_X15 hS) ck_359 (pv_no4 (by decide +kernel))
set_option maxRecDepth 1000000 in
theorem ck_360 : I360.all (pv_ckq RT_X15 prog_16_method_56_code (some .boolean)) = true := by decide +kernel
theorem mok_360 (hS : pv_ST B sa xv H0 args s) (hX : pv_XC D s) : pv_MOK (mkE B sa xv D cA H0) (PP L xs) GG 360 args s :=
  pv_mok (I := I360) hS gg_360 rfl rfl (by decide +kernel) (by decide) (pv_cw (hS.1 _ qt3326)) (hS.1 _ qt264) (by decide) (by decide) rfl (fun j x z e1 e2 => by cases e1) (rt_X15 hS) ck_360 (pv_no4 (by decide +kernel))
set_option maxRecDepth 1000000 in
theorem ck_361 : I361.all (pv_ckq RT_X15 prog_16_method_78_code (some .boolean)) = true := by decide +kernel
theorem mok_361 (hS : pv_ST B sa xv H0 args s) (hX : pv_XC D s) : pv_MOK (mkE B sa xv D cA H0) (PP L xs) GG 361 args s :=
  pv_mok (I := I361) hS gg_361 rfl rfl (by decide +kernel) (by decide) (pv_cw (hS.1 _ qt3330)) (hS.1 _ qt264) (by decide) (by decide) rfl (fun j x z e1 e2 => by cases e1) (rt_X15 hS) ck_361 (pv_no4 (by decide +kernel))
set_option maxRecDepth 1000000 in
theorem ck_362 : I362.all (pv_ckq RT_X15 prog_16_method_81_code (some .boolean)) = true := by decide +kernel
theorem mok_362 (hS : pv_ST B sa xv H0 args s) (hX : pv_XC D s) : pv_MOK (mkE B sa xv D cA H0) (PP L xs) GG 362 args s :=
  pv_mok (I := I362) hS gg_362 rfl rfl (by decide +kernel) (by decide) (pv_cw (hS.1 _ qt3334)) (hS.1 _ qt264) (by decide) (by decide) rfl (fun j x z e1 e2 => by cases e1) (rt_X15 hS) ck_362 (pv_no4 (by decide +kernel))
set_option maxRecDepth 1000000 in
theorem ck_363 : I363.all (pv_ckq RT_X15 prog_16_method_82_code (some .int)) = true := by decide +kernel
theorem mok_363 (hS : pv_ST B sa xv H0 args s) (hX : pv_XC D s) : pv_MOK (mkE B sa xv D cA H0) (PP L xs) GG 363 args s :=
  pv_mok (I := I363) hS gg_363 rfl rfl (by decide +kernel) (by decide) (pv_cw (hS.1 _ qt3338)) (hS.1 _ qt264) (by decide) (by decide) rfl (fun j x z e1 e2 => by cases e1) (rt_X15 hS) ck_363 (pv_no4 (by decide +kernel))
set_option maxRecDepth 1000000 in
theorem ck_364_0 : (List.take 60 I364).all (pv_ckq RT_X15 prog_16_method_83_code none) = true := by decide +kernel
set_option maxRecDepth 1000000 in
theorem ck_364_1 : ((List.drop 60 I364)).all (pv_ckq RT_X15 prog_16_method_83_code none) = true := by decide +kernel
theorem ck_364 : I364.all (pv_ckq RT_X15 prog_16_method_83_code none) = true := (pv_allTD ck_364_0 ck_364_1)
theorem mok_364 (hS : pv_ST B sa xv H0 args s) (hX : pv_XC D s) : pv_MOK (mkE B sa xv D cA H0) (PP L xs) GG 364 args s :=
  pv_mok (I := I364) hS gg_364 rfl rfl (by decide +kernel) (by decide) (pv_cw (hS.1 _ qt3342)) (hS.1 _ qt264) (by decide) (by decide) rfl (fun j x z e1 e2 => by cases e1) (rt_X15 hS) ck_364 (pv_no4 (by decide +kernel))
set_option maxRecDepth 1000000 in
theorem ck_365 : I365.all (pv_ckq RT_X15 prog_16_method_84_code (some .int)) = true := by decide +kernel
theorem mok_365 (hS : pv_ST B sa xv H0 args s) (hX : pv_XC D s) : pv_MOK (mkE B sa xv D cA H0) (PP L xs) GG 365 args s :=
  pv_mok (I := I365) hS gg_365 rfl rfl (by decide +kernel) (by decide) (pv_cw (hS.1 _ qt3346)) (hS.1 _ qt264) (by decide) (by decide) rfl (fun j x z e1 e2 => by cases e1) (rt_X15 hS) ck_365 (pv_no4 (by decide +kernel))
set_option maxRecDepth 1000000 in
theorem ck_366 : I366.all (pv_ckq RT_X15 prog_16_method_86_code none) = true := by decide +kernel
theorem mok_366 (hS : pv_ST B sa xv H0 args s) (hX : pv_XC D s) : pv_MOK (mkE B sa xv D cA H0) (PP L xs) GG 366 args s :=
  pv_mok (I := I366) hS gg_366 rfl rfl (by decide +kernel) (by decide) (pv_cw (hS.1 _ qt3350)) (hS.1 _ qt264) (by decide) (by decide) rfl (fun j x z e1 e2 => by cases e1) (rt_X15 hS) ck_366 (pv_no4 (by decide +kernel))
set_option maxRecDepth 1000000 in
theorem ck_367_0 : (List.take 60 I367).all (pv_ckq RT_X15 prog_16_method_87_code none) = true := by decide +kernel
set_option maxRecDepth 1000000 in
theorem ck_367_1 : (List.take 60 (List.drop 60 I367)).all (pv_ckq RT_X15 prog_16_method_87_code none) = true := by decide +kernel
set_option maxRecDepth 1000000 in
theorem ck_367_2 : ((List.drop 60 (List.drop 60 I367))).all (pv_ckq RT_X15 prog_16_method_87_code none) = true := by decide +kernel
theorem ck_367 : I367.all (pv_ckq RT_X15 prog_16_method_87_code none) = true := (pv_allTD ck_367_0 (pv_allTD ck_367_1 ck_367_2))
theorem mok_367 (hS : pv_ST B sa xv H0 args s) (hX : pv_XC D s) : pv_MOK (mkE B sa xv D cA H0) (PP L xs) GG 367 args s :=
  pv_mok (I := I367) hS gg_367 rfl rfl (by decide +kernel) (by decide) (pv_cw (hS.1 _ qt3354)) (hS.1 _ qt264) (by decide) (by decide) rfl (fun j x z e1 e2 => by cases e1) (rt_X15 hS) ck_367 (pv_no4 (by decide +kernel))
set_option maxRecDepth 1000000 in
theorem ck_368 : I368.all (pv_ckq RT_X15 prog_16_method_88_code (some .int)) = true := by decide +kernel
theorem mok_368 (hS : pv_ST B sa xv H0 args s) (hX : pv_XC D s) : pv_MOK (mkE B sa xv D cA H0) (PP L xs) GG 368 args s :=
  pv_mok (I := I368) hS gg_368 rfl rfl (by decide +kernel) (by decide) (pv_cw (hS.1 _ qt3358)) (hS.1 _ qt264) (by decide) (by decide) rfl (fun j x z e1 e2 => by cases e1) (rt_X15 hS) ck_368 (pv_no4 (by decide +kernel))
set_option maxRecDepth 1000000 in
theorem ck_369 : I369.all (pv_ckq RT_X15 prog_16_method_89_code (some .int)) = true := by decide +kernel
theorem mok_369 (hS : pv_ST B sa xv H0 args s) (hX : pv_XC D s) : pv_MOK (mkE B sa xv D cA H0) (PP L xs) GG 369 args s :=
  pv_mok (I := I369) hS gg_369 rfl rfl (by decide +kernel) (by decide) (pv_cw (hS.1 _ qt3362)) (hS.1 _ qt264) (by decide) (by decide) rfl (fun j x z e1 e2 => by cases e1) (rt_X15 hS) ck_369 (pv_no4 (by decide +kernel))
set_option maxRecDepth 1000000 in
theorem ck_370 : I370.all (pv_ckq RT_X15 prog_16_method_3_code (some .boolean)) = true := by decide +kernel
theorem mok_370 (hS : pv_ST B sa xv H0 args s) (hX : pv_XC D s) : pv_MOK (mkE B sa xv D cA H0) (PP L xs) GG 370 args s :=
  pv_mok (I := I370) hS gg_370 rfl rfl (by decide +kernel) (by decide) (pv_cw (hS.1 _ qt3366)) (hS.1 _ qt264) (by decide) (by decide) rfl (fun j x z e1 e2 => by cases e1) (rt_X15 hS) ck_370 (pv_no4 (by decide +kernel))
set_option maxRecDepth 1000000 in
theorem ck_371 : I371.all (pv_ckq RT_X15 prog_16_method_91_code (some .int)) = true := by decide +kernel
theorem mok_371 (hS : pv_ST B sa xv H0 args s) (hX : pv_XC D s) : pv_MOK (mkE B sa xv D cA H0) (PP L xs) GG 371 args s :=
  pv_mok (I := I371) hS gg_371 rfl rfl (by decide +kernel) (by decide) (pv_cw (hS.1 _ qt3370)) (hS.1 _ qt264) (by decide) (by decide) rfl (fun j x z e1 e2 => by cases e1) (rt_X15 hS) ck_371 (pv_no4 (by decide +kernel))
set_option maxRecDepth 1000000 in
theorem ck_372_0 : (List.take 60 I372).all (pv_ckq RT_X15 prog_16_method_100_code (some .int)) = true := by decide +kernel
set_option maxRecDepth 1000000 in
theorem ck_372_1 : (List.take 60 (List.drop 60 I372)).all (pv_ckq RT_X15 prog_16_method_100_code (some .int)) = true := by decide +kernel
set_option maxRecDepth 1000000 in
theorem ck_372_2 : ((List.drop 60 (List.drop 60 I372))).all (pv_ckq RT_X15 prog_16_method_100_code (some .int)) = true := by decide +kernel
theorem ck_372 : I372.all (pv_ckq RT_X15 prog_16_method_100_code (some .int)) = true := (pv_allTD ck_372_0 (pv_allTD ck_372_1 ck_372_2))
theorem mok_372 (hS : pv_ST B sa xv H0 args s) (hX : pv_XC D s) : pv_MOK (mkE B sa xv D cA H0) (PP L xs) GG 372 args s :=
  pv_mok (I := I372) hS gg_372 rfl rfl (by decide +kernel) (by decide) (pv_cw (hS.1 _ qt3374)) (hS.1 _ qt264) (by decide) (by decide) rfl (fun j x z e1 e2 => by cases e1) (rt_X15 hS) ck_372 (pv_no4 (by decide +kernel))
set_option maxRecDepth 1000000 in
theorem ck_373 : I373.all (pv_ckq RT_X15 prog_16_method_101_code none) = true := by decide +kernel
theorem mok_373 (hS : pv_ST B sa xv H0 args s) (hX : pv_XC D s) : pv_MOK (mkE B sa xv D cA H0) (PP L xs) GG 373 args s :=
  pv_mok (I := I373) hS gg_373 rfl rfl (by decide +kernel) (by decide) (pv_cw (hS.1 _ qt3378)) (hS.1 _ qt264) (by decide) (by decide) rfl (fun j x z e1 e2 => by cases e1) (rt_X15 hS) ck_373 (pv_no4 (by decide +kernel))
set_option maxRecDepth 1000000 in
theorem ck_374 : I374.all (pv_ckq RT_X15 prog_16_method_96_code none) = true := by decide +kernel
theorem mok_374 (hS : pv_ST B sa xv H0 args s) (hX : pv_XC D s) : pv_MOK (mkE B sa xv D cA H0) (PP L xs) GG 374 args s :=
  pv_mok (I := I374) hS gg_374 rfl rfl (by decide +kernel) (by decide) (pv_cw (hS.1 _ qt3383)) (hS.1 _ qt264) (by decide) (by decide) rfl (fun j x z e1 e2 => by cases e1) (rt_X15 hS) ck_374 (pv_no4 (by decide +kernel))
set_option maxRecDepth 1000000 in
theorem ck_375 : I375.all (pv_ckq RT_X15 prog_16_method_95_code none) = true := by decide +kernel
theorem mok_375 (hS : pv_ST B sa xv H0 args s) (hX : pv_XC D s) : pv_MOK (mkE B sa xv D cA H0) (PP L xs) GG 375 args s :=
  pv_mok (I := I375) hS gg_375 rfl rfl (by decide +kernel) (by decide) (pv_cw (hS.1 _ qt3387)) (hS.1 _ qt264) (by decide) (by decide) rfl (fun j x z e1 e2 => by cases e1) (rt_X15 hS) ck_375 (pv_no4 (by decide +kernel))
set_option maxRecDepth 1000000 in
theorem ck_376 : I376.all (pv_ckq RT_X15 prog_16_method_92_code none) = true := by decide +kernel
theorem mok_376 (hS : pv_ST B sa xv H0 args s) (hX : pv_XC D s) : pv_MOK (mkE B sa xv D cA H0) (PP L xs) GG 376 args s :=
  pv_mok (I := I376) hS gg_376 rfl rfl (by decide +kernel) (by decide) (pv_cw (hS.1 _ qt3391)) (hS.1 _ qt264) (by decide) (by decide) rfl (fun j x z e1 e2 => by cases e1) (rt_X15 hS) ck_376 (pv_no4 (by decide +kernel))
set_option maxRecDepth 1000000 in
theorem ck_377 : I377.all (pv_ckq RT_X15 prog_16_method_94_code none) = true := by decide +kernel
theorem mok_377 (hS : pv_ST B sa xv H0 args s) (hX : pv_XC D s) : pv_MOK (mkE B sa xv D cA H0) (PP L xs) GG 377 args s :=
  pv_mok (I := I377) hS gg_377 rfl rfl (by decide +kernel) (by decide) (pv_cw (hS.1 _ qt3395)) (hS.1 _ qt264) (by decide) (by decide) rfl (fun j x z e1 e2 => by cases e1) (rt_X15 hS) ck_377 (pv_no4 (by decide +kernel))
set_option maxRecDepth 1000000 in
theorem ck_378 : I378.all (pv_ckq RT_X15 prog_16_method_93_code none) = true := by decide +kernel
theorem mok_378 (hS : pv_ST B sa xv H0 args s) (hX : pv_XC D s) : pv_MOK (mkE B sa xv D cA H0) (PP L xs) GG 378 args s :=
  pv_mok (I := I378) hS gg_378 rfl rfl (by decide +kernel) (by decide) (pv_cw (hS.1 _ qt3399)) (hS.1 _ qt264) (by decide) (by decide) rfl (fun j x z e1 e2 => by cases e1) (rt_X15 hS) ck_378 (pv_no4 (by decide +kernel))
set_option maxRecDepth 1000000 in
theorem ck_379 : I379.all (pv_ckq RT_X15 prog_16_method_98_code none) = true := by decide +kernel
theorem mok_379 (hS : pv_ST B sa xv H0 args s) (hX : pv_XC D s) : pv_MOK (mkE B sa xv D cA H0) (PP L xs) GG 379 args s :=
  pv_mok (I := I379) hS gg_379 rfl rfl (by decide +kernel) (by decide) (pv_cw (hS.1 _ qt3404)) (hS.1 _ qt264) (by decide) (by decide) rfl (fun j x z e1 e2 => by cases e1) (rt_X15 hS) ck_379 (pv_no4 (by decide +kernel))
set_option maxRecDepth 1000000 in
theorem ck_380 : I380.all (pv_ckq RT_X15 prog_16_method_99_code none) = true := by decide +kernel
theorem mok_380 (hS : pv_ST B sa xv H0 args s) (hX : pv_XC D s) : pv_MOK (mkE B sa xv D cA H0) (PP L xs) GG 380 args s :=
  pv_mok (I := I380) hS gg_380 rfl rfl (by decide +kernel) (by decide) (pv_cw (hS.1 _ qt3408)) (hS.1 _ qt264) (by decide) (by decide) rfl (fun j x z e1 e2 => by cases e1) (rt_X15 hS) ck_380 (pv_no4 (by decide +kernel))
set_option maxRecDepth 1000000 in
theorem ck_381 : I381.all (pv_ckq RT_X15 prog_16_method_97_code (some .int)) = true := by decide +kernel
theorem mok_381 (hS : pv_ST B sa xv H0 args s) (hX : pv_XC D s) : pv_MOK (mkE B sa xv D cA H0) (PP L xs) GG 381 args s :=
  pv_mok (I := I381) hS gg_381 rfl rfl (by decide +kernel) (by decide) (pv_cw (hS.1 _ qt3412)) (hS.1 _ qt264) (by decide) (by decide) rfl (fun j x z e1 e2 => by cases e1) (rt_X15 hS) ck_381 (pv_no4 (by decide +kernel))
set_option maxRecDepth 1000000 in
theorem ck_382 : I382.all (pv_ckq RT_X15 prog_16_method_107_code (some .int)) = true := by decide +kernel
theorem mok_382 (hS : pv_ST B sa xv H0 args s) (hX : pv_XC D s) : pv_MOK (mkE B sa xv D cA H0) (PP L xs) GG 382 args s :=
  pv_mok (I := I382) hS gg_382 rfl rfl (by decide +kernel) (by decide) (pv_cw (hS.1 _ qt3417)) (hS.1 _ qt264) (by decide) (by decide) rfl (fun j x z e1 e2 => by cases e1) (rt_X15 hS) ck_382 (pv_no4 (by decide +kernel))
set_option maxRecDepth 1000000 in
theorem ck_383 : I383.all (pv_ckq RT_X15 prog_16_method_102_code (some .boolean)) = true := by decide +kernel
theorem mok_383 (hS : pv_ST B sa xv H0 args s) (hX : pv_XC D s) : pv_MOK (mkE B sa xv D cA H0) (PP L xs) GG 383 args s :=
  pv_mok (I := I383) hS gg_383 rfl rfl (by decide +kernel) (by decide) (pv_cw (hS.1 _ qt3421)) (hS.1 _ qt264) (by decide) (by decide) rfl (fun j x z e1 e2 => by cases e1) (rt_X15 hS) ck_383 (pv_no4 (by decide +kernel))
set_option maxRecDepth 1000000 in
theorem ck_384 : I384.all (pv_ckq RT_X15 prog_16_method_105_code none) = true := by decide +kernel
theorem mok_384 (hS : pv_ST B sa xv H0 args s) (hX : pv_XC D s) : pv_MOK (mkE B sa xv D cA H0) (PP L xs) GG 384 args s :=
  pv_mok (I := I384) hS gg_384 rfl rfl (by decide +kernel) (by decide) (pv_cw (hS.1 _ qt3426)) (hS.1 _ qt264) (by decide) (by decide) rfl (fun j x z e1 e2 => by cases e1) (rt_X15 hS) ck_384 (pv_no4 (by decide +kernel))
set_option maxRecDepth 1000000 in
theorem ck_385 : I385.all (pv_ckq RT_X15 prog_16_method_104_code none) = true := by decide +kernel
theorem mok_385 (hS : pv_ST B sa xv H0 args s) (hX : pv_XC D s) : pv_MOK (mkE B sa xv D cA H0) (PP L xs) GG 385 args s :=
  pv_mok (I := I385) hS gg_385 rfl rfl (by decide +kernel) (by decide) (pv_cw (hS.1 _ qt3430)) (hS.1 _ qt264) (by decide) (by decide) rfl (fun j x z e1 e2 => by cases e1) (rt_X15 hS) ck_385 (pv_no4 (by decide +kernel))
set_option maxRecDepth 1000000 in
theorem ck_386 : I386.all (pv_ckq RT_X15 prog_16_method_103_code none) = true := by decide +kernel
theorem mok_386 (hS : pv_ST B sa xv H0 args s) (hX : pv_XC D s) : pv_MOK (mkE B sa xv D cA H0) (PP L xs) GG 386 args s :=
  pv_mok (I := I386) hS gg_386 rfl rfl (by decide +kernel) (by decide) (pv_cw (hS.1 _ qt3436)) (hS.1 _ qt264) (by decide) (by decide) rfl (fun j x z e1 e2 => by cases e1) (rt_X15 hS) ck_386 (pv_no4 (by decide +kernel))
set_option maxRecDepth 1000000 in
theorem ck_387 : I387.all (pv_ckq RT_X15 prog_16_method_106_code none) = true := by decide +kernel
theorem mok_387 (hS : pv_ST B sa xv H0 args s) (hX : pv_XC D s) : pv_MOK (mkE B sa xv D cA H0) (PP L xs) GG 387 args s :=
  pv_mok (I := I387) hS gg_387 rfl rfl (by decide +kernel) (by decide) (pv_cw (hS.1 _ qt3441)) (hS.1 _ qt264) (by decide) (by decide) rfl (fun j x z e1 e2 => by cases e1) (rt_X15 hS) ck_387 (pv_no4 (by decide +kernel))
set_option maxRecDepth 1000000 in
theorem ck_388 : I388.all (pv_ckq RT_X15 prog_16_method_108_code (some .int)) = true := by decide +kernel
theorem mok_388 (hS : pv_ST B sa xv H0 args s) (hX : pv_XC D s) : pv_MOK (mkE B sa xv D cA H0) (PP L xs) GG 388 args s :=
  pv_mok (I := I388) hS gg_388 rfl rfl (by decide +kernel) (by decide) (pv_cw (hS.1 _ qt3446)) (hS.1 _ qt264) (by decide) (by decide) rfl (fun j x z e1 e2 => by cases e1) (rt_X15 hS) ck_388 (pv_no4 (by decide +kernel))
set_option maxRecDepth 1000000 in
theorem ck_389 : I389.all (pv_ckq RT_X15 prog_16_method_109_code (some .int)) = true := by decide +kernel
theorem mok_389 (hS : pv_ST B sa xv H0 args s) (hX : pv_XC D s) : pv_MOK (mkE B sa xv D cA H0) (PP L xs) GG 389 args s :=
  pv_mok (I := I389) hS gg_389 rfl rfl (by decide +kernel) (by decide) (pv_cw (hS.1 _ qt3450)) (hS.1 _ qt264) (by decide) (by decide) rfl (fun j x z e1 e2 => by cases e1) (rt_X15 hS) ck_389 (pv_no4 (by decide +kernel))
set_option maxRecDepth 1000000 in
theorem ck_390 : I390.all (pv_ckq RT_X15 prog_16_method_110_code (some .int)) = true := by decide +kernel
theorem mok_390 (hS : pv_ST B sa xv H0 args s) (hX : pv_XC D s) : pv_MOK (mkE B sa xv D cA H0) (PP L xs) GG 390 args s :=
  pv_mok (I := I390) hS gg_390 rfl rfl (by decide +kernel) (by decide) (pv_cw (hS.1 _ qt3454)) (hS.1 _ qt264) (by decide) (by decide) rfl (fun j x z e1 e2 => by cases e1) (rt_X15 hS) ck_390 (pv_no4 (by decide +kernel))
set_option maxRecDepth 1000000 in
theorem ck_391 : I391.all (pv_ckq RT_X15 prog_16_method_111_code (some .int)) = true := by decide +kernel
theorem mok_391 (hS : pv_ST B sa xv H0 args s) (hX : pv_XC D s) : pv_MOK (mkE B sa xv D cA H0) (PP L xs) GG 391 args s :=
  pv_mok (I := I391) hS gg_391 rfl rfl (by decide +kernel) (by decide) (pv_cw (hS.1 _ qt3458)) (hS.1 _ qt264) (by decide) (by decide) rfl (fun j x z e1 e2 => by cases e1) (rt_X15 hS) ck_391 (pv_no4 (by decide +kernel))
set_option maxRecDepth 1000000 in
theorem ck_392 : I392.all (pv_ckq RT_X15 prog_16_method_112_code (some .boolean)) = true := by decide +kernel
theorem mok_392 (hS : pv_ST B sa xv H0 args s) (hX : pv_XC D s) : pv_MOK (mkE B sa xv D cA H0) (PP L xs) GG 392 args s :=
  pv_mok (I := I392) hS gg_392 rfl rfl (by decide +kernel) (by decide) (pv_cw (hS.1 _ qt3462)) (hS.1 _ qt264) (by decide) (by decide) rfl (fun j x z e1 e2 => by cases e1) (rt_X15 hS) ck_392 (pv_no4 (by decide +kernel))
set_option maxRecDepth 1000000 in
theorem ck_393 : I393.all (pv_ckq RT_X15 prog_16_method_113_code (some .boolean)) = true := by decide +kernel
theorem mok_393 (hS : pv_ST B sa xv H0 args s) (hX : pv_XC D s) : pv_MOK (mkE B sa xv D cA H0) (PP L xs) GG 393 args s :=
  pv_mok (I := I393) hS gg_393 rfl rfl (by decide +kernel) (by decide) (pv_cw (hS.1 _ qt3466)) (hS.1 _ qt264) (by decide) (by decide) rfl (fun j x z e1 e2 => by cases e1) (rt_X15 hS) ck_393 (pv_no4 (by decide +kernel))
set_option maxRecDepth 1000000 in
theorem ck_394 : I394.all (pv_ckq RT_X15 prog_16_method_127_code none) = true := by decide +kernel
theorem mok_394 (hS : pv_ST B sa xv H0 args s) (hX : pv_XC D s) : pv_MOK (mkE B sa xv D cA H0) (PP L xs) GG 394 args s :=
  pv_mok (I := I394) hS gg_394 rfl rfl (by decide +kernel) (by decide) (pv_cw (hS.1 _ qt3470)) (hS.1 _ qt264) (by decide) (by decide) rfl (fun j x z e1 e2 => by cases e1) (rt_X15 hS) ck_394 (pv_no4 (by decide +kernel))
set_option maxRecDepth 1000000 in
theorem ck_395 : I395.all (pv_ckq RT_X15 prog_16_method_114_code none) = true := by decide +kernel
theorem mok_395 (hS : pv_ST B sa xv H0 args s) (hX : pv_XC D s) : pv_MOK (mkE B sa xv D cA H0) (PP L xs) GG 395 args s :=
  pv_mok (I := I395) hS gg_395 rfl rfl (by decide +kernel) (by decide) (pv_cw (hS.1 _ qt3474)) (hS.1 _ qt264) (by decide) (by decide) rfl (fun j x z e1 e2 => by cases e1) (rt_X15 hS) ck_395 (pv_no4 (by decide +kernel))
set_option maxRecDepth 1000000 in
theorem ck_396 : I396.all (pv_ckq RT_X15 prog_16_method_117_code (some .boolean)) = true := by decide +kernel
theorem mok_396 (hS : pv_ST B sa xv H0 args s) (hX : pv_XC D s) : pv_MOK (mkE B sa xv D cA H0) (PP L xs) GG 396 args s :=
  pv_mok (I := I396) hS gg_396 rfl rfl (by decide +kernel) (by decide) (pv_cw (hS.1 _ qt3478)) (hS.1 _ qt264) (by decide) (by decide) rfl (fun j x z e1 e2 => by cases e1) (rt_X15 hS) ck_396 (pv_no4 (by decide +kernel))
set_option maxRecDepth 1000000 in
theorem ck_397 : I397.all (pv_ckq RT_X15 prog_16_method_115_code none) = true := by decide +kernel
theorem mok_397 (hS : pv_ST B sa xv H0 args s) (hX : pv_XC D s) : pv_MOK (mkE B sa xv D cA H0) (PP L xs) GG 397 args s :=
  pv_mok (I := I397) hS gg_397 rfl rfl (by decide +kernel) (by decide) (pv_cw (hS.1 _ qt3482)) (hS.1 _ qt264) (by decide) (by decide) rfl (fun j x z e1 e2 => by cases e1) (rt_X15 hS) ck_397 (pv_no4 (by decide +kernel))
set_option maxRecDepth 1000000 in
theorem ck_398_0 : (List.take 60 I398).all (pv_ckq RT_X15 prog_16_method_128_code (some .int)) = true := by decide +kernel
set_option maxRecDepth 1000000 in
theorem ck_398_1 : ((List.drop 60 I398)).all (pv_ckq RT_X15 prog_16_method_128_code (some .int)) = true := by decide +kernel
theorem ck_398 : I398.all (pv_ckq RT_X15 prog_16_method_128_code (some .int)) = true := (pv_allTD ck_398_0 ck_398_1)
theorem mok_398 (hS : pv_ST B sa xv H0 args s) (hX : pv_XC D s) : pv_MOK (mkE B sa xv D cA H0) (PP L xs) GG 398 args s :=
  pv_mok (I := I398) hS gg_398 rfl rfl (by decide +kernel) (by decide) (pv_cw (hS.1 _ qt3486)) (hS.1 _ qt264) (by decide) (by decide) rfl (fun j x z e1 e2 => by cases e1) (rt_X15 hS) ck_398 (pv_no4 (by decide +kernel))
end RTT
