section RTT
variable {B : Nat} {sa : Nat → Nat} {xv : Nat → Value} {D : va_G} {cA : Nat → ClassId} {H0 : Heap} {L : Nat} {xs : Nat → Int32} {args : Array Value} {s : State}
set_option maxRecDepth 1000000 in
theorem ck_291 : I291.all (pv_ckq RT_X15 prog_16_method_6_code none) = true := by decide +kernel
theorem mok_291 (hS : pv_ST B sa xv H0 args s) (hX : pv_XC D s) : pv_MOK (mkE B sa xv D cA H0) (PP L xs) GG 291 args s :=
  pv_mok (I := I291) hS gg_291 rfl rfl (by decide +kernel) (by decide) (pv_cw (hS.1 _ qt3035)) (hS.1 _ qt264) (by decide) (by decide) rfl (fun j x z e1 e2 => by cases e1) (rt_X15 hS) ck_291 (pv_no4 (by decide +kernel))
set_option maxRecDepth 1000000 in
theorem ck_292 : I292.all (pv_ckq RT_X15 prog_16_method_11_code (some (.object "java/lang/String"))) = true := by decide +kernel
theorem mok_292 (hS : pv_ST B sa xv H0 args s) (hX : pv_XC D s) : pv_MOK (mkE B sa xv D cA H0) (PP L xs) GG 292 args s :=
  pv_mok (I := I292) hS gg_292 rfl rfl (by decide +kernel) (by decide) (pv_cw (hS.1 _ qt3038)) (hS.1 _ qt264) (by decide) (by decide) rfl (fun j x z e1 e2 => by cases e1) (rt_X15 hS) ck_292 (pv_no4 (by decide +kernel))
set_option maxRecDepth 1000000 in
theorem ck_293 : I293.all (pv_ckq RT_X15 prog_16_method_10_code (some .boolean)) = true := by decide +kernel
theorem mok_293 (hS : pv_ST B sa xv H0 args s) (hX : pv_XC D s) : pv_MOK (mkE B sa xv D cA H0) (PP L xs) GG 293 args s :=
  pv_mok (I := I293) hS gg_293 rfl rfl (by decide +kernel) (by decide) (pv_cw (hS.1 _ qt3055)) (hS.1 _ qt264) (by decide) (by decide) rfl (fun j x z e1 e2 => by cases e1) (rt_X15 hS) ck_293 (pv_no4 (by decide +kernel))
set_option maxRecDepth 1000000 in
theorem ck_294 : I294.all (pv_ckq RT_X15 prog_16_method_12_code none) = true := by decide +kernel
theorem mok_294 (hS : pv_ST B sa xv H0 args s) (hX : pv_XC D s) : pv_MOK (mkE B sa xv D cA H0) (PP L xs) GG 294 args s :=
  pv_mok (I := I294) hS gg_294 rfl rfl (by decide +kernel) (by decide) (pv_cw (hS.1 _ qt3061)) (hS.1 _ qt264) (by decide) (by decide) rfl (fun j x z e1 e2 => by cases e1) (rt_X15 hS) ck_294 (pv_no4 (by decide +kernel))
set_option maxRecDepth 1000000 in
theorem ck_295 : I295.all (pv_ckq RT_X15 prog_16_method_13_code (some .int)) = true := by decide +kernel
theorem mok_295 (hS : pv_ST B sa xv H0 args s) (hX : pv_XC D s) : pv_MOK (mkE B sa xv D cA H0) (PP L xs) GG 295 args s :=
  pv_mok (I := I295) hS gg_295 rfl rfl (by decide +kernel) (by decide) (pv_cw (hS.1 _ qt3065)) (hS.1 _ qt264) (by decide) (by decide) rfl (fun j x z e1 e2 => by cases e1) (rt_X15 hS) ck_295 (pv_no4 (by decide +kernel))
set_option maxRecDepth 1000000 in
theorem ck_296 : I296.all (pv_ckq RT_X15 prog_16_method_15_code none) = true := by decide +kernel
theorem mok_296 (hS : pv_ST B sa xv H0 args s) (hX : pv_XC D s) : pv_MOK (mkE B sa xv D cA H0) (PP L xs) GG 296 args s :=
  pv_mok (I := I296) hS gg_296 rfl rfl (by decide +kernel) (by decide) (pv_cw (hS.1 _ qt3069)) (hS.1 _ qt264) (by decide) (by decide) rfl (fun j x z e1 e2 => by cases e1) (rt_X15 hS) ck_296 (pv_no4 (by decide +kernel))
set_option maxRecDepth 1000000 in
theorem ck_297 : I297.all (pv_ckq RT_X15 prog_16_method_16_code (some .int)) = true := by decide +kernel
theorem mok_297 (hS : pv_ST B sa xv H0 args s) (hX : pv_XC D s) : pv_MOK (mkE B sa xv D cA H0) (PP L xs) GG 297 args s :=
  pv_mok (I := I297) hS gg_297 rfl rfl (by decide +kernel) (by decide) (pv_cw (hS.1 _ qt3073)) (hS.1 _ qt264) (by decide) (by decide) rfl (fun j x z e1 e2 => by cases e1) (rt_X15 hS) ck_297 (pv_no4 (by decide +kernel))
set_option maxRecDepth 1000000 in
theorem ck_298_0 : (List.take 60 I298).all (pv_ckq RT_X15 prog_16_method_49_code none) = true := by decide +kernel
set_option maxRecDepth 1000000 in
theorem ck_298_1 : (List.take 60 (List.drop 60 I298)).all (pv_ckq RT_X15 prog_16_method_49_code none) = true := by decide +kernel
set_option maxRecDepth 1000000 in
theorem ck_298_2 : ((List.drop 60 (List.drop 60 I298))).all (pv_ckq RT_X15 prog_16_method_49_code none) = true := by decide +kernel
theorem ck_298 : I298.all (pv_ckq RT_X15 prog_16_method_49_code none) = true := (pv_allTD ck_298_0 (pv_allTD ck_298_1 ck_298_2))
theorem mok_298 (hS : pv_ST B sa xv H0 args s) (hX : pv_XC D s) : pv_MOK (mkE B sa xv D cA H0) (PP L xs) GG 298 args s :=
  pv_mok (I := I298) hS gg_298 rfl rfl (by decide +kernel) (by decide) (pv_cw (hS.1 _ qt3077)) (hS.1 _ qt264) (by decide) (by decide) rfl (fun j x z e1 e2 => by cases e1) (rt_X15 hS) ck_298 (pv_no4 (by decide +kernel))
set_option maxRecDepth 1000000 in
theorem ck_299 : I299.all (pv_ckq RT_X15 prog_16_method_18_code (some .int)) = true := by decide +kernel
theorem mok_299 (hS : pv_ST B sa xv H0 args s) (hX : pv_XC D s) : pv_MOK (mkE B sa xv D cA H0) (PP L xs) GG 299 args s :=
  pv_mok (I := I299) hS gg_299 rfl rfl (by decide +kernel) (by decide) (pv_cw (hS.1 _ qt3081)) (hS.1 _ qt264) (by decide) (by decide) rfl (fun j x z e1 e2 => by cases e1) (rt_X15 hS) ck_299 (pv_no4 (by decide +kernel))
set_option maxRecDepth 1000000 in
theorem ck_300_0 : (List.take 60 I300).all (pv_ckq RT_X15 prog_16_method_47_code none) = true := by decide +kernel
set_option maxRecDepth 1000000 in
theorem ck_300_1 : (List.take 60 (List.drop 60 I300)).all (pv_ckq RT_X15 prog_16_method_47_code none) = true := by decide +kernel
set_option maxRecDepth 1000000 in
theorem ck_300_2 : ((List.drop 60 (List.drop 60 I300))).all (pv_ckq RT_X15 prog_16_method_47_code none) = true := by decide +kernel
theorem ck_300 : I300.all (pv_ckq RT_X15 prog_16_method_47_code none) = true := (pv_allTD ck_300_0 (pv_allTD ck_300_1 ck_300_2))
theorem mok_300 (hS : pv_ST B sa xv H0 args s) (hX : pv_XC D s) : pv_MOK (mkE B sa xv D cA H0) (PP L xs) GG 300 args s :=
  pv_mok (I := I300) hS gg_300 rfl rfl (by decide +kernel) (by decide) (pv_cw (hS.1 _ qt3085)) (hS.1 _ qt264) (by decide) (by decide) rfl (fun j x z e1 e2 => by cases e1) (rt_X15 hS) ck_300 (pv_no4 (by decide +kernel))
set_option maxRecDepth 1000000 in
theorem ck_301 : I301.all (pv_ckq RT_X15 prog_16_method_46_code none) = true := by decide +kernel
theorem mok_301 (hS : pv_ST B sa xv H0 args s) (hX : pv_XC D s) : pv_MOK (mkE B sa xv D cA H0) (PP L xs) GG 301 args s :=
  pv_mok (I := I301) hS gg_301 rfl rfl (by decide +kernel) (by decide) (pv_cw (hS.1 _ qt3089)) (hS.1 _ qt264) (by decide) (by decide) rfl (fun j x z e1 e2 => by cases e1) (rt_X15 hS) ck_301 (pv_no4 (by decide +kernel))
set_option maxRecDepth 1000000 in
theorem ck_302 : I302.all (pv_ckq RT_X15 prog_16_method_25_code (some .int)) = true := by decide +kernel
theorem mok_302 (hS : pv_ST B sa xv H0 args s) (hX : pv_XC D s) : pv_MOK (mkE B sa xv D cA H0) (PP L xs) GG 302 args s :=
  pv_mok (I := I302) hS gg_302 rfl rfl (by decide +kernel) (by decide) (pv_cw (hS.1 _ qt3093)) (hS.1 _ qt264) (by decide) (by decide) rfl (fun j x z e1 e2 => by cases e1) (rt_X15 hS) ck_302 (pv_no4 (by decide +kernel))
set_option maxRecDepth 1000000 in
theorem ck_303 : I303.all (pv_ckq RT_X15 prog_16_method_23_code (some .boolean)) = true := by decide +kernel
theorem mok_303 (hS : pv_ST B sa xv H0 args s) (hX : pv_XC D s) : pv_MOK (mkE B sa xv D cA H0) (PP L xs) GG 303 args s :=
  pv_mok (I := I303) hS gg_303 rfl rfl (by decide +kernel) (by decide) (pv_cw (hS.1 _ qt3097)) (hS.1 _ qt264) (by decide) (by decide) rfl (fun j x z e1 e2 => by cases e1) (rt_X15 hS) ck_303 (pv_no4 (by decide +kernel))
set_option maxRecDepth 1000000 in
theorem ck_304 : I304.all (pv_ckq RT_X15 prog_16_method_48_code (some .int)) = true := by decide +kernel
theorem mok_304 (hS : pv_ST B sa xv H0 args s) (hX : pv_XC D s) : pv_MOK (mkE B sa xv D cA H0) (PP L xs) GG 304 args s :=
  pv_mok (I := I304) hS gg_304 rfl rfl (by decide +kernel) (by decide) (pv_cw (hS.1 _ qt3101)) (hS.1 _ qt264) (by decide) (by decide) rfl (fun j x z e1 e2 => by cases e1) (rt_X15 hS) ck_304 (pv_no4 (by decide +kernel))
set_option maxRecDepth 1000000 in
theorem ck_305 : I305.all (pv_ckq RT_X15 prog_16_method_24_code (some .int)) = true := by decide +kernel
theorem mok_305 (hS : pv_ST B sa xv H0 args s) (hX : pv_XC D s) : pv_MOK (mkE B sa xv D cA H0) (PP L xs) GG 305 args s :=
  pv_mok (I := I305) hS gg_305 rfl rfl (by decide +kernel) (by decide) (pv_cw (hS.1 _ qt3105)) (hS.1 _ qt264) (by decide) (by decide) rfl (fun j x z e1 e2 => by cases e1) (rt_X15 hS) ck_305 (pv_no4 (by decide +kernel))
set_option maxRecDepth 1000000 in
theorem ck_306 : I306.all (pv_ckq RT_X15 prog_16_method_26_code (some .int)) = true := by decide +kernel
theorem mok_306 (hS : pv_ST B sa xv H0 args s) (hX : pv_XC D s) : pv_MOK (mkE B sa xv D cA H0) (PP L xs) GG 306 args s :=
  pv_mok (I := I306) hS gg_306 rfl rfl (by decide +kernel) (by decide) (pv_cw (hS.1 _ qt3109)) (hS.1 _ qt264) (by decide) (by decide) rfl (fun j x z e1 e2 => by cases e1) (rt_X15 hS) ck_306 (pv_no4 (by decide +kernel))
set_option maxRecDepth 1000000 in
theorem ck_307 : I307.all (pv_ckq RT_X15 prog_16_method_27_code none) = true := by decide +kernel
theorem mok_307 (hS : pv_ST B sa xv H0 args s) (hX : pv_XC D s) : pv_MOK (mkE B sa xv D cA H0) (PP L xs) GG 307 args s :=
  pv_mok (I := I307) hS gg_307 rfl rfl (by decide +kernel) (by decide) (pv_cw (hS.1 _ qt3113)) (hS.1 _ qt264) (by decide) (by decide) rfl (fun j x z e1 e2 => by cases e1) (rt_X15 hS) ck_307 (pv_no4 (by decide +kernel))
set_option maxRecDepth 1000000 in
theorem ck_308 : I308.all (pv_ckq RT_X15 prog_16_method_45_code none) = true := by decide +kernel
theorem mok_308 (hS : pv_ST B sa xv H0 args s) (hX : pv_XC D s) : pv_MOK (mkE B sa xv D cA H0) (PP L xs) GG 308 args s :=
  pv_mok (I := I308) hS gg_308 rfl rfl (by decide +kernel) (by decide) (pv_cw (hS.1 _ qt3117)) (hS.1 _ qt264) (by decide) (by decide) rfl (fun j x z e1 e2 => by cases e1) (rt_X15 hS) ck_308 (pv_no4 (by decide +kernel))
set_option maxRecDepth 1000000 in
theorem ck_309 : I309.all (pv_ckq RT_X15 prog_16_method_19_code none) = true := by decide +kernel
theorem mok_309 (hS : pv_ST B sa xv H0 args s) (hX : pv_XC D s) : pv_MOK (mkE B sa xv D cA H0) (PP L xs) GG 309 args s :=
  pv_mok (I := I309) hS gg_309 rfl rfl (by decide +kernel) (by decide) (pv_cw (hS.1 _ qt3121)) (hS.1 _ qt264) (by decide) (by decide) rfl (fun j x z e1 e2 => by cases e1) (rt_X15 hS) ck_309 (pv_no4 (by decide +kernel))
set_option maxRecDepth 1000000 in
theorem ck_310_0 : (List.take 60 I310).all (pv_ckq RT_X15 prog_16_method_44_code none) = true := by decide +kernel
set_option maxRecDepth 1000000 in
theorem ck_310_1 : (List.take 60 (List.drop 60 I310)).all (pv_ckq RT_X15 prog_16_method_44_code none) = true := by decide +kernel
set_option maxRecDepth 1000000 in
theorem ck_310_2 : ((List.drop 60 (List.drop 60 I310))).all (pv_ckq RT_X15 prog_16_method_44_code none) = true := by decide +kernel
theorem ck_310 : I310.all (pv_ckq RT_X15 prog_16_method_44_code none) = true := (pv_allTD ck_310_0 (pv_allTD ck_310_1 ck_310_2))
theorem mok_310 (hS : pv_ST B sa xv H0 args s) (hX : pv_XC D s) : pv_MOK (mkE B sa xv D cA H0) (PP L xs) GG 310 args s :=
  pv_mok (I := I310) hS gg_310 rfl rfl (by decide +kernel) (by decide) (pv_cw (hS.1 _ qt3125)) (hS.1 _ qt264) (by decide) (by decide) rfl (fun j x z e1 e2 => by cases e1) (rt_X15 hS) ck_310 (pv_no4 (by decide +kernel))
set_option maxRecDepth 1000000 in
theorem ck_311_0 : (List.take 60 I311).all (pv_ckq RT_X15 prog_16_method_29_code none) = true := by decide +kernel
set_option maxRecDepth 1000000 in
theorem ck_311_1 : (List.take 60 (List.drop 60 I311)).all (pv_ckq RT_X15 prog_16_method_29_code none) = true := by decide +kernel
set_option maxRecDepth 1000000 in
theorem ck_311_2 : (List.take 60 (List.drop 60 (List.drop 60 I311))).all (pv_ckq RT_X15 prog_16_method_29_code none) = true := by decide +kernel
set_option maxRecDepth 1000000 in
theorem ck_311_3 : ((List.drop 60 (List.drop 60 (List.drop 60 I311)))).all (pv_ckq RT_X15 prog_16_method_29_code none) = true := by decide +kernel
theorem ck_311 : I311.all (pv_ckq RT_X15 prog_16_method_29_code none) = true := (pv_allTD ck_311_0 (pv_allTD ck_311_1 (pv_allTD ck_311_2 ck_311_3)))
theorem mok_311 (hS : pv_ST B sa xv H0 args s) (hX : pv_XC D s) : pv_MOK (mkE B sa xv D cA H0) (PP L xs) GG 311 args s :=
  pv_mok (I := I311) hS gg_311 rfl rfl (by decide +kernel) (by decide) (pv_cw (hS.1 _ qt3129)) (hS.1 _ qt264) (by decide) (by decide) rfl (fun j x z e1 e2 => by cases e1) (rt_X15 hS) ck_311 (pv_no4 (by decide +kernel))
set_option maxRecDepth 1000000 in
theorem ck_312 : I312.all (pv_ckq RT_X15 prog_16_method_33_code none) = true := by decide +kernel
theorem mok_312 (hS : pv_ST B sa xv H0 args s) (hX : pv_XC D s) : pv_MOK (mkE B sa xv D cA H0) (PP L xs) GG 312 args s :=
  pv_mok (I := I312) hS gg_312 rfl rfl (by decide +kernel) (by decide) (pv_cw (hS.1 _ qt3133)) (hS.1 _ qt264) (by decide) (by decide) rfl (fun j x z e1 e2 => by cases e1) (rt_X15 hS) ck_312 (pv_no4 (by decide +kernel))
set_option maxRecDepth 1000000 in
theorem ck_313 : I313.all (pv_ckq RT_X15 prog_16_method_21_code (some .int)) = true := by decide +kernel
theorem mok_313 (hS : pv_ST B sa xv H0 args s) (hX : pv_XC D s) : pv_MOK (mkE B sa xv D cA H0) (PP L xs) GG 313 args s :=
  pv_mok (I := I313) hS gg_313 rfl rfl (by decide +kernel) (by decide) (pv_cw (hS.1 _ qt3137)) (hS.1 _ qt264) (by decide) (by decide) rfl (fun j x z e1 e2 => by cases e1) (rt_X15 hS) ck_313 (pv_no4 (by decide +kernel))
set_option maxRecDepth 1000000 in
theorem ck_314 : I314.all (pv_ckq RT_X15 prog_16_method_20_code none) = true := by decide +kernel
theorem mok_314 (hS : pv_ST B sa xv H0 args s) (hX : pv_XC D s) : pv_MOK (mkE B sa xv D cA H0) (PP L xs) GG 314 args s :=
  pv_mok (I := I314) hS gg_314 rfl rfl (by decide +kernel) (by decide) (pv_cw (hS.1 _ qt3141)) (hS.1 _ qt264) (by decide) (by decide) rfl (fun j x z e1 e2 => by cases e1) (rt_X15 hS) ck_314 (pv_no4 (by decide +kernel))
set_option maxRecDepth 1000000 in
theorem ck_315 : I315.all (pv_ckq RT_X15 prog_16_method_32_code none) = true := by decide +kernel
theorem mok_315 (hS : pv_ST B sa xv H0 args s) (hX : pv_XC D s) : pv_MOK (mkE B sa xv D cA H0) (PP L xs) GG 315 args s :=
  pv_mok (I := I315) hS gg_315 rfl rfl (by decide +kernel) (by decide) (pv_cw (hS.1 _ qt3145)) (hS.1 _ qt264) (by decide) (by decide) rfl (fun j x z e1 e2 => by cases e1) (rt_X15 hS) ck_315 (pv_no4 (by decide +kernel))
set_option maxRecDepth 1000000 in
theorem ck_316 : I316.all (pv_ckq RT_X15 prog_16_method_36_code none) = true := by decide +kernel
theorem mok_316 (hS : pv_ST B sa xv H0 args s) (hX : pv_XC D s) : pv_MOK (mkE B sa xv D cA H0) (PP L xs) GG 316 args s :=
  pv_mok (I := I316) hS gg_316 rfl rfl (by decide +kernel) (by decide) (pv_cw (hS.1 _ qt3149)) (hS.1 _ qt264) (by decide) (by decide) rfl (fun j x z e1 e2 => by cases e1) (rt_X15 hS) ck_316 (pv_no4 (by decide +kernel))
set_option maxRecDepth 1000000 in
theorem ck_317 : I317.all (pv_ckq RT_X15 prog_16_method_35_code none) = true := by decide +kernel
theorem mok_317 (hS : pv_ST B sa xv H0 args s) (hX : pv_XC D s) : pv_MOK (mkE B sa xv D cA H0) (PP L xs) GG 317 args s :=
  pv_mok (I := I317) hS gg_317 rfl rfl (by decide +kernel) (by decide) (pv_cw (hS.1 _ qt3153)) (hS.1 _ qt264) (by decide) (by decide) rfl (fun j x z e1 e2 => by cases e1) (rt_X15 hS) ck_317 (pv_no4 (by decide +kernel))
set_option maxRecDepth 1000000 in
theorem ck_318 : I318.all (pv_ckq RT_X15 prog_16_method_34_code (some .boolean)) = true := by decide +kernel
theorem mok_318 (hS : pv_ST B sa xv H0 args s) (hX : pv_XC D s) : pv_MOK (mkE B sa xv D cA H0) (PP L xs) GG 318 args s :=
  pv_mok (I := I318) hS gg_318 rfl rfl (by decide +kernel) (by decide) (pv_cw (hS.1 _ qt3157)) (hS.1 _ qt264) (by decide) (by decide) rfl (fun j x z e1 e2 => by cases e1) (rt_X15 hS) ck_318 (pv_no4 (by decide +kernel))
set_option maxRecDepth 1000000 in
theorem ck_319 : I319.all (pv_ckq RT_X15 prog_16_method_30_code none) = true := by decide +kernel
theorem mok_319 (hS : pv_ST B sa xv H0 args s) (hX : pv_XC D s) : pv_MOK (mkE B sa xv D cA H0) (PP L xs) GG 319 args s :=
  pv_mok (I := I319) hS gg_319 rfl rfl (by decide +kernel) (by decide) (pv_cw (hS.1 _ qt3161)) (hS.1 _ qt264) (by decide) (by decide) rfl (fun j x z e1 e2 => by cases e1) (rt_X15 hS) ck_319 (pv_no4 (by decide +kernel))
set_option maxRecDepth 1000000 in
theorem ck_320 : I320.all (pv_ckq RT_X15 prog_16_method_31_code (some .int)) = true := by decide +kernel
theorem mok_320 (hS : pv_ST B sa xv H0 args s) (hX : pv_XC D s) : pv_MOK (mkE B sa xv D cA H0) (PP L xs) GG 320 args s :=
  pv_mok (I := I320) hS gg_320 rfl rfl (by decide +kernel) (by decide) (pv_cw (hS.1 _ qt3165)) (hS.1 _ qt264) (by decide) (by decide) rfl (fun j x z e1 e2 => by cases e1) (rt_X15 hS) ck_320 (pv_no4 (by decide +kernel))
set_option maxRecDepth 1000000 in
theorem ck_321 : I321.all (pv_ckq RT_X15 prog_16_method_37_code none) = true := by decide +kernel
theorem mok_321 (hS : pv_ST B sa xv H0 args s) (hX : pv_XC D s) : pv_MOK (mkE B sa xv D cA H0) (PP L xs) GG 321 args s :=
  pv_mok (I := I321) hS gg_321 rfl rfl (by decide +kernel) (by decide) (pv_cw (hS.1 _ qt3169)) (hS.1 _ qt264) (by decide) (by decide) rfl (fun j x z e1 e2 => by cases e1) (rt_X15 hS) ck_321 (pv_no4 (by decide +kernel))
set_option maxRecDepth 1000000 in
theorem ck_322_0 : (List.take 60 I322).all (pv_ckq RT_X15 prog_16_method_38_code none) = true := by decide +kernel
set_option maxRecDepth 1000000 in
theorem ck_322_1 : (List.take 60 (List.drop 60 I322)).all (pv_ckq RT_X15 prog_16_method_38_code none) = true := by decide +kernel
set_option maxRecDepth 1000000 in
theorem ck_322_2 : ((List.drop 60 (List.drop 60 I322))).all (pv_ckq RT_X15 prog_16_method_38_code none) = true := by decide +kernel
theorem ck_322 : I322.all (pv_ckq RT_X15 prog_16_method_38_code none) = true := (pv_allTD ck_322_0 (pv_allTD ck_322_1 ck_322_2))
theorem mok_322 (hS : pv_ST B sa xv H0 args s) (hX : pv_XC D s) : pv_MOK (mkE B sa xv D cA H0) (PP L xs) GG 322 args s :=
  pv_mok (I := I322) hS gg_322 rfl rfl (by decide +kernel) (by decide) (pv_cw (hS.1 _ qt3173)) (hS.1 _ qt264) (by decide) (by decide) rfl (fun j x z e1 e2 => by cases e1) (rt_X15 hS) ck_322 (pv_no4 (by decide +kernel))
set_option maxRecDepth 1000000 in
theorem ck_323 : I323.all (pv_ckq RT_X15 prog_16_method_22_code none) = true := by decide +kernel
theorem mok_323 (hS : pv_ST B sa xv H0 args s) (hX : pv_XC D s) : pv_MOK (mkE B sa xv D cA H0) (PP L xs) GG 323 args s :=
  pv_mok (I := I323) hS gg_323 rfl rfl (by decide +kernel) (by decide) (pv_cw (hS.1 _ qt3177)) (hS.1 _ qt264) (by decide) (by decide) rfl (fun j x z e1 e2 => by cases e1) (rt_X15 hS) ck_323 (pv_no4 (by decide +kernel))
set_option maxRecDepth 1000000 in
theorem ck_324_0 : (List.take 60 I324).all (pv_ckq RT_X15 prog_16_method_42_code none) = true := by decide +kernel
set_option maxRecDepth 1000000 in
theorem ck_324_1 : (List.take 60 (List.drop 60 I324)).all (pv_ckq RT_X15 prog_16_method_42_code none) = true := by decide +kernel
set_option maxRecDepth 1000000 in
theorem ck_324_2 : ((List.drop 60 (List.drop 60 I324))).all (pv_ckq RT_X15 prog_16_method_42_code none) = true := by decide +kernel
theorem ck_324 : I324.all (pv_ckq RT_X15 prog_16_method_42_code none) = true := (pv_allTD ck_324_0 (pv_allTD ck_324_1 ck_324_2))
theorem mok_324 (hS : pv_ST B sa xv H0 args s) (hX : pv_XC D s) : pv_MOK (mkE B sa xv D cA H0) (PP L xs) GG 324 args s :=
  pv_mok (I := I324) hS gg_324 rfl rfl (by decide +kernel) (by decide) (pv_cw (hS.1 _ qt3181)) (hS.1 _ qt264) (by decide) (by decide) rfl (fun j x z e1 e2 => by cases e1) (rt_X15 hS) ck_324 (pv_no4 (by decide +kernel))
set_option maxRecDepth 1000000 in
theorem ck_325 : I325.all (pv_ckq RT_X15 prog_16_method_40_code (some .int)) = true := by decide +kernel
theorem mok_325 (hS : pv_ST B sa xv H0 args s) (hX : pv_XC D s) : pv_MOK (mkE B sa xv D cA H0) (PP L xs) GG 325 args s :=
  pv_mok (I := I325) hS gg_325 rfl rfl (by decide +kernel) (by decide) (pv_cw (hS.1 _ qt3185)) (hS.1 _ qt264) (by decide) (by decide) rfl (fun j x z e1 e2 => by cases e1) (rt_X15 hS) ck_325 (pv_no4 (by decide +kernel))
set_option maxRecDepth 1000000 in
theorem ck_326 : I326.all (pv_ckq RT_X15 prog_16_method_39_code (some .int)) = true := by decide +kernel
theorem mok_326 (hS : pv_ST B sa xv H0 args s) (hX : pv_XC D s) : pv_MOK (mkE B sa xv D cA H0) (PP L xs) GG 326 args s :=
  pv_mok (I := I326) hS gg_326 rfl rfl (by decide +kernel) (by decide) (pv_cw (hS.1 _ qt3189)) (hS.1 _ qt264) (by decide) (by decide) rfl (fun j x z e1 e2 => by cases e1) (rt_X15 hS) ck_326 (pv_no4 (by decide +kernel))
set_option maxRecDepth 1000000 in
theorem ck_327 : I327.all (pv_ckq RT_X15 prog_16_method_41_code none) = true := by decide +kernel
theorem mok_327 (hS : pv_ST B sa xv H0 args s) (hX : pv_XC D s) : pv_MOK (mkE B sa xv D cA H0) (PP L xs) GG 327 args s :=
  pv_mok (I := I327) hS gg_327 rfl rfl (by decide +kernel) (by decide) (pv_cw (hS.1 _ qt3193)) (hS.1 _ qt264) (by decide) (by decide) rfl (fun j x z e1 e2 => by cases e1) (rt_X15 hS) ck_327 (pv_no4 (by decide +kernel))
set_option maxRecDepth 1000000 in
theorem ck_328 : I328.all (pv_ckq RT_X15 prog_16_method_28_code none) = true := by decide +kernel
theorem mok_328 (hS : pv_ST B sa xv H0 args s) (hX : pv_XC D s) : pv_MOK (mkE B sa xv D cA H0) (PP L xs) GG 328 args s :=
  pv_mok (I := I328) hS gg_328 rfl rfl (by decide +kernel) (by decide) (pv_cw (hS.1 _ qt3197)) (hS.1 _ qt264) (by decide) (by decide) rfl (fun j x z e1 e2 => by cases e1) (rt_X15 hS) ck_328 (pv_no4 (by decide +kernel))
set_option maxRecDepth 1000000 in
theorem ck_329 : I329.all (pv_ckq RT_X15 prog_16_method_43_code none) = true := by decide +kernel
theorem mok_329 (hS : pv_ST B sa xv H0 args s) (hX : pv_XC D s) : pv_MOK (mkE B sa xv D cA H0) (PP L xs) GG 329 args s :=
  pv_mok (I := I329) hS gg_329 rfl rfl (by decide +kernel) (by decide) (pv_cw (hS.1 _ qt3201)) (hS.1 _ qt264) (by decide) (by decide) rfl (fun j x z e1 e2 => by cases e1) (rt_X15 hS) ck_329 (pv_no4 (by decide +kernel))
end RTT
