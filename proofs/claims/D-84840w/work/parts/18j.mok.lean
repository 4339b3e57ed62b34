section RTT
variable {B : Nat} {sa : Nat → Nat} {xv : Nat → Value} {D : va_G} {cA : Nat → ClassId} {H0 : Heap} {L : Nat} {xs : Nat → Int32} {args : Array Value} {s : State}
set_option maxRecDepth 1000000 in
theorem ck_399_0 : (List.take 60 I399).all (pv_ckq RT_X15 prog_16_method_135_code none) = true := by decide +kernel
set_option maxRecDepth 1000000 in
theorem ck_399_1 : (List.take 60 (List.drop 60 I399)).all (pv_ckq RT_X15 prog_16_method_135_code none) = true := by decide +kernel
set_option maxRecDepth 1000000 in
theorem ck_399_2 : ((List.drop 60 (List.drop 60 I399))).all (pv_ckq RT_X15 prog_16_method_135_code none) = true := by decide +kernel
theorem ck_399 : I399.all (pv_ckq RT_X15 prog_16_method_135_code none) = true := (pv_allTD ck_399_0 (pv_allTD ck_399_1 ck_399_2))
theorem mok_399 (hS : pv_ST B sa xv H0 args s) (hX : pv_XC D s) : pv_MOK (mkE B sa xv D cA H0) (PP L xs) GG 399 args s :=
  pv_mok (I := I399) hS gg_399 rfl rfl (by decide +kernel) (by decide) (pv_cw (hS.1 _ qt3490)) (hS.1 _ qt264) (by decide) (by decide) rfl (fun j x z e1 e2 => by cases e1) (rt_X15 hS) ck_399 (pv_no4 (by decide +kernel))
set_option maxRecDepth 1000000 in
theorem ck_400 : I400.all (pv_ckq RT_X15 prog_16_method_133_code none) = true := by decide +kernel
theorem mok_400 (hS : pv_ST B sa xv H0 args s) (hX : pv_XC D s) : pv_MOK (mkE B sa xv D cA H0) (PP L xs) GG 400 args s :=
  pv_mok (I := I400) hS gg_400 rfl rfl (by decide +kernel) (by decide) (pv_cw (hS.1 _ qt3494)) (hS.1 _ qt264) (by decide) (by decide) rfl (fun j x z e1 e2 => by cases e1) (rt_X15 hS) ck_400 (pv_no4 (by decide +kernel))
set_option maxRecDepth 1000000 in
theorem ck_401 : I401.all (pv_ckq RT_X15 prog_16_method_126_code (some .int)) = true := by decide +kernel
theorem mok_401 (hS : pv_ST B sa xv H0 args s) (hX : pv_XC D s) : pv_MOK (mkE B sa xv D cA H0) (PP L xs) GG 401 args s :=
  pv_mok (I := I401) hS gg_401 rfl rfl (by decide +kernel) (by decide) (pv_cw (hS.1 _ qt3498)) (hS.1 _ qt264) (by decide) (by decide) rfl (fun j x z e1 e2 => by cases e1) (rt_X15 hS) ck_401 (pv_no4 (by decide +kernel))
set_option maxRecDepth 1000000 in
theorem ck_402_0 : (List.take 60 I402).all (pv_ckq RT_X15 prog_16_method_124_code (some .int)) = true := by decide +kernel
set_option maxRecDepth 1000000 in
theorem ck_402_1 : (List.take 60 (List.drop 60 I402)).all (pv_ckq RT_X15 prog_16_method_124_code (some .int)) = true := by decide +kernel
set_option maxRecDepth 1000000 in
theorem ck_402_2 : ((List.drop 60 (List.drop 60 I402))).all (pv_ckq RT_X15 prog_16_method_124_code (some .int)) = true := by decide +kernel
theorem ck_402 : I402.all (pv_ckq RT_X15 prog_16_method_124_code (some .int)) = true := (pv_allTD ck_402_0 (pv_allTD ck_402_1 ck_402_2))
theorem mok_402 (hS : pv_ST B sa xv H0 args s) (hX : pv_XC D s) : pv_MOK (mkE B sa xv D cA H0) (PP L xs) GG 402 args s :=
  pv_mok (I := I402) hS gg_402 rfl rfl (by decide +kernel) (by decide) (pv_cw (hS.1 _ qt3502)) (hS.1 _ qt264) (by decide) (by decide) rfl (fun j x z e1 e2 => by cases e1) (rt_X15 hS) ck_402 (pv_no4 (by decide +kernel))
set_option maxRecDepth 1000000 in
theorem ck_403 : I403.all (pv_ckq RT_X15 prog_16_method_121_code (some .boolean)) = true := by decide +kernel
theorem mok_403 (hS : pv_ST B sa xv H0 args s) (hX : pv_XC D s) : pv_MOK (mkE B sa xv D cA H0) (PP L xs) GG 403 args s :=
  pv_mok (I := I403) hS gg_403 rfl rfl (by decide +kernel) (by decide) (pv_cw (hS.1 _ qt3506)) (hS.1 _ qt264) (by decide) (by decide) rfl (fun j x z e1 e2 => by cases e1) (rt_X15 hS) ck_403 (pv_no4 (by decide +kernel))
set_option maxRecDepth 1000000 in
theorem ck_404_0 : (List.take 60 I404).all (pv_ckq RT_X15 prog_16_method_120_code (some .boolean)) = true := by decide +kernel
set_option maxRecDepth 1000000 in
theorem ck_404_1 : (List.take 60 (List.drop 60 I404)).all (pv_ckq RT_X15 prog_16_method_120_code (some .boolean)) = true := by decide +kernel
set_option maxRecDepth 1000000 in
theorem ck_404_2 : (List.take 60 (List.drop 60 (List.drop 60 I404))).all (pv_ckq RT_X15 prog_16_method_120_code (some .boolean)) = true := by decide +kernel
set_option maxRecDepth 1000000 in
theorem ck_404_3 : ((List.drop 60 (List.drop 60 (List.drop 60 I404)))).all (pv_ckq RT_X15 prog_16_method_120_code (some .boolean)) = true := by decide +kernel
theorem ck_404 : I404.all (pv_ckq RT_X15 prog_16_method_120_code (some .boolean)) = true := (pv_allTD ck_404_0 (pv_allTD ck_404_1 (pv_allTD ck_404_2 ck_404_3)))
theorem mok_404 (hS : pv_ST B sa xv H0 args s) (hX : pv_XC D s) : pv_MOK (mkE B sa xv D cA H0) (PP L xs) GG 404 args s :=
  pv_mok (I := I404) hS gg_404 rfl rfl (by decide +kernel) (by decide) (pv_cw (hS.1 _ qt3511)) (hS.1 _ qt264) (by decide) (by decide) rfl (fun j x z e1 e2 => by cases e1) (rt_X15 hS) ck_404 (pv_no4 (by decide +kernel))
set_option maxRecDepth 1000000 in
theorem ck_405 : I405.all (pv_ckq RT_X15 prog_16_method_119_code (some .int)) = true := by decide +kernel
theorem mok_405 (hS : pv_ST B sa xv H0 args s) (hX : pv_XC D s) : pv_MOK (mkE B sa xv D cA H0) (PP L xs) GG 405 args s :=
  pv_mok (I := I405) hS gg_405 rfl rfl (by decide +kernel) (by decide) (pv_cw (hS.1 _ qt3515)) (hS.1 _ qt264) (by decide) (by decide) rfl (fun j x z e1 e2 => by cases e1) (rt_X15 hS) ck_405 (pv_no4 (by decide +kernel))
set_option maxRecDepth 1000000 in
theorem ck_406 : I406.all (pv_ckq RT_X15 prog_16_method_118_code (some .boolean)) = true := by decide +kernel
theorem mok_406 (hS : pv_ST B sa xv H0 args s) (hX : pv_XC D s) : pv_MOK (mkE B sa xv D cA H0) (PP L xs) GG 406 args s :=
  pv_mok (I := I406) hS gg_406 rfl rfl (by decide +kernel) (by decide) (pv_cw (hS.1 _ qt3519)) (hS.1 _ qt264) (by decide) (by decide) rfl (fun j x z e1 e2 => by cases e1) (rt_X15 hS) ck_406 (pv_no4 (by decide +kernel))
set_option maxRecDepth 1000000 in
theorem ck_407 : I407.all (pv_ckq RT_X15 prog_16_method_122_code (some .boolean)) = true := by decide +kernel
theorem mok_407 (hS : pv_ST B sa xv H0 args s) (hX : pv_XC D s) : pv_MOK (mkE B sa xv D cA H0) (PP L xs) GG 407 args s :=
  pv_mok (I := I407) hS gg_407 rfl rfl (by decide +kernel) (by decide) (pv_cw (hS.1 _ qt3523)) (hS.1 _ qt264) (by decide) (by decide) rfl (fun j x z e1 e2 => by cases e1) (rt_X15 hS) ck_407 (pv_no4 (by decide +kernel))
set_option maxRecDepth 1000000 in
theorem ck_408_0 : (List.take 60 I408).all (pv_ckq RT_X15 prog_16_method_123_code none) = true := by decide +kernel
set_option maxRecDepth 1000000 in
theorem ck_408_1 : (List.take 60 (List.drop 60 I408)).all (pv_ckq RT_X15 prog_16_method_123_code none) = true := by decide +kernel
set_option maxRecDepth 1000000 in
theorem ck_408_2 : ((List.drop 60 (List.drop 60 I408))).all (pv_ckq RT_X15 prog_16_method_123_code none) = true := by decide +kernel
theorem ck_408 : I408.all (pv_ckq RT_X15 prog_16_method_123_code none) = true := (pv_allTD ck_408_0 (pv_allTD ck_408_1 ck_408_2))
theorem mok_408 (hS : pv_ST B sa xv H0 args s) (hX : pv_XC D s) : pv_MOK (mkE B sa xv D cA H0) (PP L xs) GG 408 args s :=
  pv_mok (I := I408) hS gg_408 rfl rfl (by decide +kernel) (by decide) (pv_cw (hS.1 _ qt3527)) (hS.1 _ qt264) (by decide) (by decide) rfl (fun j x z e1 e2 => by cases e1) (rt_X15 hS) ck_408 (pv_no4 (by decide +kernel))
set_option maxRecDepth 1000000 in
theorem ck_409 : I409.all (pv_ckq RT_X15 prog_16_method_125_code none) = true := by decide +kernel
theorem mok_409 (hS : pv_ST B sa xv H0 args s) (hX : pv_XC D s) : pv_MOK (mkE B sa xv D cA H0) (PP L xs) GG 409 args s :=
  pv_mok (I := I409) hS gg_409 rfl rfl (by decide +kernel) (by decide) (pv_cw (hS.1 _ qt3531)) (hS.1 _ qt264) (by decide) (by decide) rfl (fun j x z e1 e2 => by cases e1) (rt_X15 hS) ck_409 (pv_no4 (by decide +kernel))
set_option maxRecDepth 1000000 in
theorem ck_410 : I410.all (pv_ckq RT_X15 prog_16_method_134_code none) = true := by decide +kernel
theorem mok_410 (hS : pv_ST B sa xv H0 args s) (hX : pv_XC D s) : pv_MOK (mkE B sa xv D cA H0) (PP L xs) GG 410 args s :=
  pv_mok (I := I410) hS gg_410 rfl rfl (by decide +kernel) (by decide) (pv_cw (hS.1 _ qt3535)) (hS.1 _ qt264) (by decide) (by decide) rfl (fun j x z e1 e2 => by cases e1) (rt_X15 hS) ck_410 (pv_no4 (by decide +kernel))
set_option maxRecDepth 1000000 in
theorem ck_411 : I411.all (pv_ckq RT_X15 prog_16_method_136_code none) = true := by decide +kernel
theorem mok_411 (hS : pv_ST B sa xv H0 args s) (hX : pv_XC D s) : pv_MOK (mkE B sa xv D cA H0) (PP L xs) GG 411 args s :=
  pv_mok (I := I411) hS gg_411 rfl rfl (by decide +kernel) (by decide) (pv_cw (hS.1 _ qt3539)) (hS.1 _ qt264) (by decide) (by decide) rfl (fun j x z e1 e2 => by cases e1) (rt_X15 hS) ck_411 (pv_no4 (by decide +kernel))
set_option maxRecDepth 1000000 in
theorem ck_412 : I412.all (pv_ckq RT_X15 prog_16_method_137_code none) = true := by decide +kernel
theorem mok_412 (hS : pv_ST B sa xv H0 args s) (hX : pv_XC D s) : pv_MOK (mkE B sa xv D cA H0) (PP L xs) GG 412 args s :=
  pv_mok (I := I412) hS gg_412 rfl rfl (by decide +kernel) (by decide) (pv_cw (hS.1 _ qt3543)) (hS.1 _ qt264) (by decide) (by decide) rfl (fun j x z e1 e2 => by cases e1) (rt_X15 hS) ck_412 (pv_no4 (by decide +kernel))
set_option maxRecDepth 1000000 in
theorem ck_413 : I413.all (pv_ckq RT_X15 prog_16_method_116_code (some .boolean)) = true := by decide +kernel
theorem mok_413 (hS : pv_ST B sa xv H0 args s) (hX : pv_XC D s) : pv_MOK (mkE B sa xv D cA H0) (PP L xs) GG 413 args s :=
  pv_mok (I := I413) hS gg_413 rfl rfl (by decide +kernel) (by decide) (pv_cw (hS.1 _ qt3547)) (hS.1 _ qt264) (by decide) (by decide) rfl (fun j x z e1 e2 => by cases e1) (rt_X15 hS) ck_413 (pv_no4 (by decide +kernel))
set_option maxRecDepth 1000000 in
theorem ck_414 : I414.all (pv_ckq RT_X15 prog_16_method_139_code none) = true := by decide +kernel
theorem mok_414 (hS : pv_ST B sa xv H0 args s) (hX : pv_XC D s) : pv_MOK (mkE B sa xv D cA H0) (PP L xs) GG 414 args s :=
  pv_mok (I := I414) hS gg_414 rfl rfl (by decide +kernel) (by decide) (pv_cw (hS.1 _ qt3551)) (hS.1 _ qt264) (by decide) (by decide) rfl (fun j x z e1 e2 => by cases e1) (rt_X15 hS) ck_414 (pv_no4 (by decide +kernel))
set_option maxRecDepth 1000000 in
theorem ck_415 : I415.all (pv_ckq RT_X15 prog_16_method_138_code (some .boolean)) = true := by decide +kernel
theorem mok_415 (hS : pv_ST B sa xv H0 args s) (hX : pv_XC D s) : pv_MOK (mkE B sa xv D cA H0) (PP L xs) GG 415 args s :=
  pv_mok (I := I415) hS gg_415 rfl rfl (by decide +kernel) (by decide) (pv_cw (hS.1 _ qt3555)) (hS.1 _ qt264) (by decide) (by decide) rfl (fun j x z e1 e2 => by cases e1) (rt_X15 hS) ck_415 (pv_no4 (by decide +kernel))
set_option maxRecDepth 1000000 in
theorem ck_416_0 : (List.take 60 I416).all (pv_ckq RT_X15 prog_16_method_140_code none) = true := by decide +kernel
set_option maxRecDepth 1000000 in
theorem ck_416_1 : (List.take 60 (List.drop 60 I416)).all (pv_ckq RT_X15 prog_16_method_140_code none) = true := by decide +kernel
set_option maxRecDepth 1000000 in
theorem ck_416_2 : ((List.drop 60 (List.drop 60 I416))).all (pv_ckq RT_X15 prog_16_method_140_code none) = true := by decide +kernel
theorem ck_416 : I416.all (pv_ckq RT_X15 prog_16_method_140_code none) = true := (pv_allTD ck_416_0 (pv_allTD ck_416_1 ck_416_2))
theorem mok_416 (hS : pv_ST B sa xv H0 args s) (hX : pv_XC D s) : pv_MOK (mkE B sa xv D cA H0) (PP L xs) GG 416 args s :=
  pv_mok (I := I416) hS gg_416 rfl rfl (by decide +kernel) (by decide) (pv_cw (hS.1 _ qt3559)) (hS.1 _ qt264) (by decide) (by decide) rfl (fun j x z e1 e2 => by cases e1) (rt_X15 hS) ck_416 (pv_no4 (by decide +kernel))
set_option maxRecDepth 1000000 in
theorem ck_417 : I417.all (pv_ckq RT_X15 prog_16_method_141_code none) = true := by decide +kernel
theorem mok_417 (hS : pv_ST B sa xv H0 args s) (hX : pv_XC D s) : pv_MOK (mkE B sa xv D cA H0) (PP L xs) GG 417 args s :=
  pv_mok (I := I417) hS gg_417 rfl rfl (by decide +kernel) (by decide) (pv_cw (hS.1 _ qt3563)) (hS.1 _ qt264) (by decide) (by decide) rfl (fun j x z e1 e2 => by cases e1) (rt_X15 hS) ck_417 (pv_no4 (by decide +kernel))
set_option maxRecDepth 1000000 in
theorem ck_418_0 : (List.take 60 I418).all (pv_ckq RT_X15 prog_16_method_129_code none) = true := by decide +kernel
set_option maxRecDepth 1000000 in
theorem ck_418_1 : (List.take 60 (List.drop 60 I418)).all (pv_ckq RT_X15 prog_16_method_129_code none) = true := by decide +kernel
set_option maxRecDepth 1000000 in
theorem ck_418_2 : (List.take 60 (List.drop 60 (List.drop 60 I418))).all (pv_ckq RT_X15 prog_16_method_129_code none) = true := by decide +kernel
set_option maxRecDepth 1000000 in
theorem ck_418_3 : ((List.drop 60 (List.drop 60 (List.drop 60 I418)))).all (pv_ckq RT_X15 prog_16_method_129_code none) = true := by decide +kernel
theorem ck_418 : I418.all (pv_ckq RT_X15 prog_16_method_129_code none) = true := (pv_allTD ck_418_0 (pv_allTD ck_418_1 (pv_allTD ck_418_2 ck_418_3)))
theorem mok_418 (hS : pv_ST B sa xv H0 args s) (hX : pv_XC D s) : pv_MOK (mkE B sa xv D cA H0) (PP L xs) GG 418 args s :=
  pv_mok (I := I418) hS gg_418 rfl rfl (by decide +kernel) (by decide) (pv_cw (hS.1 _ qt3567)) (hS.1 _ qt264) (by decide) (by decide) rfl (fun j x z e1 e2 => by cases e1) (rt_X15 hS) ck_418 (pv_no4 (by decide +kernel))
set_option maxRecDepth 1000000 in
theorem ck_419 : I419.all (pv_ckq RT_X15 prog_16_method_131_code none) = true := by decide +kernel
theorem mok_419 (hS : pv_ST B sa xv H0 args s) (hX : pv_XC D s) : pv_MOK (mkE B sa xv D cA H0) (PP L xs) GG 419 args s :=
  pv_mok (I := I419) hS gg_419 rfl rfl (by decide +kernel) (by decide) (pv_cw (hS.1 _ qt3571)) (hS.1 _ qt264) (by decide) (by decide) rfl (fun j x z e1 e2 => by cases e1) (rt_X15 hS) ck_419 (pv_no4 (by decide +kernel))
set_option maxRecDepth 1000000 in
theorem ck_420 : I420.all (pv_ckq RT_X15 prog_16_method_130_code none) = true := by decide +kernel
theorem mok_420 (hS : pv_ST B sa xv H0 args s) (hX : pv_XC D s) : pv_MOK (mkE B sa xv D cA H0) (PP L xs) GG 420 args s :=
  pv_mok (I := I420) hS gg_420 rfl rfl (by decide +kernel) (by decide) (pv_cw (hS.1 _ qt3575)) (hS.1 _ qt264) (by decide) (by decide) rfl (fun j x z e1 e2 => by cases e1) (rt_X15 hS) ck_420 (pv_no4 (by decide +kernel))
set_option maxRecDepth 1000000 in
theorem ck_421 : I421.all (pv_ckq RT_X15 prog_16_method_132_code none) = true := by decide +kernel
theorem mok_421 (hS : pv_ST B sa xv H0 args s) (hX : pv_XC D s) : pv_MOK (mkE B sa xv D cA H0) (PP L xs) GG 421 args s :=
  pv_mok (I := I421) hS gg_421 rfl rfl (by decide +kernel) (by decide) (pv_cw (hS.1 _ qt3579)) (hS.1 _ qt264) (by decide) (by decide) rfl (fun j x z e1 e2 => by cases e1) (rt_X15 hS) ck_421 (pv_no4 (by decide +kernel))
set_option maxRecDepth 1000000 in
theorem ck_422 : I422.all (pv_ckq RT_X15 prog_16_method_142_code (some .int)) = true := by decide +kernel
theorem mok_422 (hS : pv_ST B sa xv H0 args s) (hX : pv_XC D s) : pv_MOK (mkE B sa xv D cA H0) (PP L xs) GG 422 args s :=
  pv_mok (I := I422) hS gg_422 rfl rfl (by decide +kernel) (by decide) (pv_cw (hS.1 _ qt3583)) (hS.1 _ qt264) (by decide) (by decide) rfl (fun j x z e1 e2 => by cases e1) (rt_X15 hS) ck_422 (pv_no4 (by decide +kernel))
set_option maxRecDepth 1000000 in
theorem ck_423 : I423.all (pv_ckq RT_X15 prog_16_method_143_code (some .int)) = true := by decide +kernel
theorem mok_423 (hS : pv_ST B sa xv H0 args s) (hX : pv_XC D s) : pv_MOK (mkE B sa xv D cA H0) (PP L xs) GG 423 args s :=
  pv_mok (I := I423) hS gg_423 rfl rfl (by decide +kernel) (by decide) (pv_cw (hS.1 _ qt3587)) (hS.1 _ qt264) (by decide) (by decide) rfl (fun j x z e1 e2 => by cases e1) (rt_X15 hS) ck_423 (pv_no4 (by decide +kernel))
set_option maxRecDepth 1000000 in
theorem ck_424 : I424.all (pv_ckq RT_X15 prog_16_method_144_code (some .int)) = true := by decide +kernel
theorem mok_424 (hS : pv_ST B sa xv H0 args s) (hX : pv_XC D s) : pv_MOK (mkE B sa xv D cA H0) (PP L xs) GG 424 args s :=
  pv_mok (I := I424) hS gg_424 rfl rfl (by decide +kernel) (by decide) (pv_cw (hS.1 _ qt3591)) (hS.1 _ qt264) (by decide) (by decide) rfl (fun j x z e1 e2 => by cases e1) (rt_X15 hS) ck_424 (pv_no4 (by decide +kernel))
set_option maxRecDepth 1000000 in
theorem ck_425 : I425.all (pv_ckq RT_X15 prog_16_method_145_code (some .int)) = true := by decide +kernel
theorem mok_425 (hS : pv_ST B sa xv H0 args s) (hX : pv_XC D s) : pv_MOK (mkE B sa xv D cA H0) (PP L xs) GG 425 args s :=
  pv_mok (I := I425) hS gg_425 rfl rfl (by decide +kernel) (by decide) (pv_cw (hS.1 _ qt3595)) (hS.1 _ qt264) (by decide) (by decide) rfl (fun j x z e1 e2 => by cases e1) (rt_X15 hS) ck_425 (pv_no4 (by decide +kernel))
set_option maxRecDepth 1000000 in
theorem ck_426 : I426.all (pv_ckq RT_X15 prog_16_method_146_code (some .int)) = true := by decide +kernel
theorem mok_426 (hS : pv_ST B sa xv H0 args s) (hX : pv_XC D s) : pv_MOK (mkE B sa xv D cA H0) (PP L xs) GG 426 args s :=
  pv_mok (I := I426) hS gg_426 rfl rfl (by decide +kernel) (by decide) (pv_cw (hS.1 _ qt3599)) (hS.1 _ qt264) (by decide) (by decide) rfl (fun j x z e1 e2 => by cases e1) (rt_X15 hS) ck_426 (pv_no4 (by decide +kernel))
set_option maxRecDepth 1000000 in
theorem ck_427 : I427.all (pv_ckq RT_X15 prog_16_method_148_code (some .int)) = true := by decide +kernel
theorem mok_427 (hS : pv_ST B sa xv H0 args s) (hX : pv_XC D s) : pv_MOK (mkE B sa xv D cA H0) (PP L xs) GG 427 args s :=
  pv_mok (I := I427) hS gg_427 rfl rfl (by decide +kernel) (by decide) (pv_cw (hS.1 _ qt3603)) (hS.1 _ qt264) (by decide) (by decide) rfl (fun j x z e1 e2 => by cases e1) (rt_X15 hS) ck_427 (pv_no4 (by decide +kernel))
set_option maxRecDepth 1000000 in
theorem ck_428 : I428.all (pv_ckq RT_X15 prog_16_method_147_code none) = true := by decide +kernel
theorem mok_428 (hS : pv_ST B sa xv H0 args s) (hX : pv_XC D s) : pv_MOK (mkE B sa xv D cA H0) (PP L xs) GG 428 args s :=
  pv_mok (I := I428) hS gg_428 rfl rfl (by decide +kernel) (by decide) (pv_cw (hS.1 _ qt3607)) (hS.1 _ qt264) (by decide) (by decide) rfl (fun j x z e1 e2 => by cases e1) (rt_X15 hS) ck_428 (pv_no4 (by decide +kernel))
set_option maxRecDepth 1000000 in
theorem ck_429 : I429.all (pv_ckq RT_X15 prog_16_method_149_code none) = true := by decide +kernel
theorem mok_429 (hS : pv_ST B sa xv H0 args s) (hX : pv_XC D s) : pv_MOK (mkE B sa xv D cA H0) (PP L xs) GG 429 args s :=
  pv_mok (I := I429) hS gg_429 rfl rfl (by decide +kernel) (by decide) (pv_cw (hS.1 _ qt3612)) (hS.1 _ qt264) (by decide) (by decide) rfl (fun j x z e1 e2 => by cases e1) (rt_X15 hS) ck_429 (pv_no4 (by decide +kernel))
set_option maxRecDepth 1000000 in
theorem ck_430 : I430.all (pv_ckq RT_X15 prog_16_method_150_code none) = true := by decide +kernel
theorem mok_430 (hS : pv_ST B sa xv H0 args s) (hX : pv_XC D s) : pv_MOK (mkE B sa xv D cA H0) (PP L xs) GG 430 args s :=
  pv_mok (I := I430) hS gg_430 rfl rfl (by decide +kernel) (by decide) (pv_cw (hS.1 _ qt3616)) (hS.1 _ qt264) (by decide) (by decide) rfl (fun j x z e1 e2 => by cases e1) (rt_X15 hS) ck_430 (pv_no4 (by decide +kernel))
end RTT
