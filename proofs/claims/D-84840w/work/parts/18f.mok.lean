section RTT
variable {B : Nat} {sa : Nat → Nat} {xv : Nat → Value} {D : va_G} {cA : Nat → ClassId} {H0 : Heap} {L : Nat} {xs : Nat → Int32} {args : Array Value} {s : State}
set_option maxRecDepth 1000000 in
theorem ck_240 : I240.all (pv_ckq RT_X13 prog_6_method_9_code none) = true := by decide +kernel
theorem mok_240 (hS : pv_ST B sa xv H0 args s) (hX : pv_XC D s) : pv_MOK (mkE B sa xv D cA H0) (PP L xs) GG 240 args s :=
  pv_mok (I := I240) hS gg_240 rfl rfl (by decide +kernel) (by decide) (pv_cw (hS.1 _ qt1356)) (hS.1 _ qt262) (by decide) (by decide) rfl (fun j x z e1 e2 => by cases e1) (rt_X13 hS) ck_240 (pv_no4 (by decide +kernel))
set_option maxRecDepth 1000000 in
theorem ck_241 : I241.all (pv_ckq RT_X13 prog_6_method_23_code (some .int)) = true := by decide +kernel
theorem mok_241 (hS : pv_ST B sa xv H0 args s) (hX : pv_XC D s) : pv_MOK (mkE B sa xv D cA H0) (PP L xs) GG 241 args s :=
  pv_mok (I := I241) hS gg_241 rfl rfl (by decide +kernel) (by decide) (pv_cw (hS.1 _ qt1360)) (hS.1 _ qt262) (by decide) (by decide) rfl (fun j x z e1 e2 => by cases e1) (rt_X13 hS) ck_241 (pv_no4 (by decide +kernel))
set_option maxRecDepth 1000000 in
theorem ck_242 : I242.all (pv_ckq RT_X13 prog_6_method_6_code (some .int)) = true := by decide +kernel
theorem mok_242 (hS : pv_ST B sa xv H0 args s) (hX : pv_XC D s) : pv_MOK (mkE B sa xv D cA H0) (PP L xs) GG 242 args s :=
  pv_mok (I := I242) hS gg_242 rfl rfl (by decide +kernel) (by decide) (pv_cw (hS.1 _ qt2300)) (hS.1 _ qt262) (by decide) (by decide) rfl (fun j x z e1 e2 => by cases e1) (rt_X13 hS) ck_242 (pv_no4 (by decide +kernel))
set_option maxRecDepth 1000000 in
theorem ck_243 : I243.all (pv_ckq RT_X13 prog_6_method_5_code (some .boolean)) = true := by decide +kernel
theorem mok_243 (hS : pv_ST B sa xv H0 args s) (hX : pv_XC D s) : pv_MOK (mkE B sa xv D cA H0) (PP L xs) GG 243 args s :=
  pv_mok (I := I243) hS gg_243 rfl rfl (by decide +kernel) (by decide) (pv_cw (hS.1 _ qt2327)) (hS.1 _ qt262) (by decide) (by decide) rfl (fun j x z e1 e2 => by cases e1) (rt_X13 hS) ck_243 (pv_no4 (by decide +kernel))
set_option maxRecDepth 1000000 in
theorem ck_244 : I244.all (pv_ckq RT_X13 prog_6_method_8_code none) = true := by decide +kernel
theorem mok_244 (hS : pv_ST B sa xv H0 args s) (hX : pv_XC D s) : pv_MOK (mkE B sa xv D cA H0) (PP L xs) GG 244 args s :=
  pv_mok (I := I244) hS gg_244 rfl rfl (by decide +kernel) (by decide) (pv_cw (hS.1 _ qt2331)) (hS.1 _ qt262) (by decide) (by decide) rfl (fun j x z e1 e2 => by cases e1) (rt_X13 hS) ck_244 (pv_no4 (by decide +kernel))
set_option maxRecDepth 1000000 in
theorem ck_245 : I245.all (pv_ckq RT_X13 prog_6_method_15_code (some .int)) = true := by decide +kernel
theorem mok_245 (hS : pv_ST B sa xv H0 args s) (hX : pv_XC D s) : pv_MOK (mkE B sa xv D cA H0) (PP L xs) GG 245 args s :=
  pv_mok (I := I245) hS gg_245 rfl rfl (by decide +kernel) (by decide) (pv_cw (hS.1 _ qt2357)) (hS.1 _ qt262) (by decide) (by decide) rfl (fun j x z e1 e2 => by cases e1) (rt_X13 hS) ck_245 (pv_no4 (by decide +kernel))
set_option maxRecDepth 1000000 in
theorem ck_246 : I246.all (pv_ckq RT_X13 prog_6_method_16_code (some .int)) = true := by decide +kernel
theorem mok_246 (hS : pv_ST B sa xv H0 args s) (hX : pv_XC D s) : pv_MOK (mkE B sa xv D cA H0) (PP L xs) GG 246 args s :=
  pv_mok (I := I246) hS gg_246 rfl rfl (by decide +kernel) (by decide) (pv_cw (hS.1 _ qt2361)) (hS.1 _ qt262) (by decide) (by decide) rfl (fun j x z e1 e2 => by cases e1) (rt_X13 hS) ck_246 (pv_no4 (by decide +kernel))
set_option maxRecDepth 1000000 in
theorem ck_247 : I247.all (pv_ckq RT_X13 prog_6_method_13_code (some .int)) = true := by decide +kernel
theorem mok_247 (hS : pv_ST B sa xv H0 args s) (hX : pv_XC D s) : pv_MOK (mkE B sa xv D cA H0) (PP L xs) GG 247 args s :=
  pv_mok (I := I247) hS gg_247 rfl rfl (by decide +kernel) (by decide) (pv_cw (hS.1 _ qt2373)) (hS.1 _ qt262) (by decide) (by decide) rfl (fun j x z e1 e2 => by cases e1) (rt_X13 hS) ck_247 (pv_no4 (by decide +kernel))
set_option maxRecDepth 1000000 in
theorem ck_248 : I248.all (pv_ckq RT_X13 prog_6_method_18_code (some .boolean)) = true := by decide +kernel
theorem mok_248 (hS : pv_ST B sa xv H0 args s) (hX : pv_XC D s) : pv_MOK (mkE B sa xv D cA H0) (PP L xs) GG 248 args s :=
  pv_mok (I := I248) hS gg_248 rfl rfl (by decide +kernel) (by decide) (pv_cw (hS.1 _ qt2377)) (hS.1 _ qt262) (by decide) (by decide) rfl (fun j x z e1 e2 => by cases e1) (rt_X13 hS) ck_248 (pv_no4 (by decide +kernel))
set_option maxRecDepth 1000000 in
theorem ck_249 : I249.all (pv_ckq RT_X13 prog_6_method_19_code (some .boolean)) = true := by decide +kernel
theorem mok_249 (hS : pv_ST B sa xv H0 args s) (hX : pv_XC D s) : pv_MOK (mkE B sa xv D cA H0) (PP L xs) GG 249 args s :=
  pv_mok (I := I249) hS gg_249 rfl rfl (by decide +kernel) (by decide) (pv_cw (hS.1 _ qt2383)) (hS.1 _ qt262) (by decide) (by decide) rfl (fun j x z e1 e2 => by cases e1) (rt_X13 hS) ck_249 (pv_no4 (by decide +kernel))
set_option maxRecDepth 1000000 in
theorem ck_250 : I250.all (pv_ckq RT_X14 prog_5_method_1_code none) = true := by decide +kernel
theorem mok_250 (hS : pv_ST B sa xv H0 args s) (hX : pv_XC D s) : pv_MOK (mkE B sa xv D cA H0) (PP L xs) GG 250 args s :=
  pv_mok (I := I250) hS gg_250 rfl rfl (by decide +kernel) (by decide) (pv_cw (hS.1 _ qt1064)) (hS.1 _ qt263) (by decide) (by decide) rfl (fun j x z e1 e2 => by cases e1) (rt_X14 hS) ck_250 (pv_no4 (by decide +kernel))
set_option maxRecDepth 1000000 in
theorem ck_251 : I251.all (pv_ckq RT_X14 prog_5_method_4_code none) = true := by decide +kernel
theorem mok_251 (hS : pv_ST B sa xv H0 args s) (hX : pv_XC D s) : pv_MOK (mkE B sa xv D cA H0) (PP L xs) GG 251 args s :=
  pv_mok (I := I251) hS gg_251 rfl rfl (by decide +kernel) (by decide) (pv_cw (hS.1 _ qt1219)) (hS.1 _ qt263) (by decide) (by decide) rfl (fun j x z e1 e2 => by cases e1) (rt_X14 hS) ck_251 (pv_no4 (by decide +kernel))
set_option maxRecDepth 1000000 in
theorem ck_252 : I252.all (pv_ckq RT_X14 prog_5_method_5_code none) = true := by decide +kernel
theorem mok_252 (hS : pv_ST B sa xv H0 args s) (hX : pv_XC D s) : pv_MOK (mkE B sa xv D cA H0) (PP L xs) GG 252 args s :=
  pv_mok (I := I252) hS gg_252 rfl rfl (by decide +kernel) (by decide) (pv_cw (hS.1 _ qt1223)) (hS.1 _ qt263) (by decide) (by decide) rfl (fun j x z e1 e2 => by cases e1) (rt_X14 hS) ck_252 (pv_no4 (by decide +kernel))
set_option maxRecDepth 1000000 in
theorem ck_253 : I253.all (pv_ckq RT_X14 prog_5_method_3_code none) = true := by decide +kernel
theorem mok_253 (hS : pv_ST B sa xv H0 args s) (hX : pv_XC D s) : pv_MOK (mkE B sa xv D cA H0) (PP L xs) GG 253 args s :=
  pv_mok (I := I253) hS gg_253 rfl rfl (by decide +kernel) (by decide) (pv_cw (hS.1 _ qt1244)) (hS.1 _ qt263) (by decide) (by decide) rfl (fun j x z e1 e2 => by cases e1) (rt_X14 hS) ck_253 (pv_no4 (by decide +kernel))
set_option maxRecDepth 1000000 in
theorem ck_254 : I254.all (pv_ckq RT_X14 prog_5_method_2_code (some .int)) = true := by decide +kernel
theorem mok_254 (hS : pv_ST B sa xv H0 args s) (hX : pv_XC D s) : pv_MOK (mkE B sa xv D cA H0) (PP L xs) GG 254 args s :=
  pv_mok (I := I254) hS gg_254 rfl rfl (by decide +kernel) (by decide) (pv_cw (hS.1 _ qt1252)) (hS.1 _ qt263) (by decide) (by decide) rfl (fun j x z e1 e2 => by cases e1) (rt_X14 hS) ck_254 (pv_no4 (by decide +kernel))
set_option maxRecDepth 1000000 in
theorem ck_255 : I255.all (pv_ckq RT_X14 prog_5_method_28_code (some .int)) = true := by decide +kernel
theorem mok_255 (hS : pv_ST B sa xv H0 args s) (hX : pv_XC D s) : pv_MOK (mkE B sa xv D cA H0) (PP L xs) GG 255 args s :=
  pv_mok (I := I255) hS gg_255 rfl rfl (by decide +kernel) (by decide) (pv_cw (hS.1 _ qt1260)) (hS.1 _ qt263) (by decide) (by decide) rfl (fun j x z e1 e2 => by cases e1) (rt_X14 hS) ck_255 (pv_no4 (by decide +kernel))
set_option maxRecDepth 1000000 in
theorem ck_256 : I256.all (pv_ckq RT_X14 prog_5_method_27_code (some .int)) = true := by decide +kernel
theorem mok_256 (hS : pv_ST B sa xv H0 args s) (hX : pv_XC D s) : pv_MOK (mkE B sa xv D cA H0) (PP L xs) GG 256 args s :=
  pv_mok (I := I256) hS gg_256 rfl rfl (by decide +kernel) (by decide) (pv_cw (hS.1 _ qt1288)) (hS.1 _ qt263) (by decide) (by decide) rfl (fun j x z e1 e2 => by cases e1) (rt_X14 hS) ck_256 (pv_no4 (by decide +kernel))
set_option maxRecDepth 1000000 in
theorem ck_257 : I257.all (pv_ckq RT_X14 prog_5_method_26_code (some .boolean)) = true := by decide +kernel
theorem mok_257 (hS : pv_ST B sa xv H0 args s) (hX : pv_XC D s) : pv_MOK (mkE B sa xv D cA H0) (PP L xs) GG 257 args s :=
  pv_mok (I := I257) hS gg_257 rfl rfl (by decide +kernel) (by decide) (pv_cw (hS.1 _ qt1292)) (hS.1 _ qt263) (by decide) (by decide) rfl (fun j x z e1 e2 => by cases e1) (rt_X14 hS) ck_257 (pv_no4 (by decide +kernel))
set_option maxRecDepth 1000000 in
theorem ck_258 : I258.all (pv_ckq RT_X14 prog_5_method_6_code none) = true := by decide +kernel
theorem mok_258 (hS : pv_ST B sa xv H0 args s) (hX : pv_XC D s) : pv_MOK (mkE B sa xv D cA H0) (PP L xs) GG 258 args s :=
  pv_mok (I := I258) hS gg_258 rfl rfl (by decide +kernel) (by decide) (pv_cw (hS.1 _ qt2285)) (hS.1 _ qt263) (by decide) (by decide) rfl (fun j x z e1 e2 => by cases e1) (rt_X14 hS) ck_258 (pv_no4 (by decide +kernel))
set_option maxRecDepth 1000000 in
theorem ck_259 : I259.all (pv_ckq RT_X14 prog_5_method_7_code none) = true := by decide +kernel
theorem mok_259 (hS : pv_ST B sa xv H0 args s) (hX : pv_XC D s) : pv_MOK (mkE B sa xv D cA H0) (PP L xs) GG 259 args s :=
  pv_mok (I := I259) hS gg_259 rfl rfl (by decide +kernel) (by decide) (pv_cw (hS.1 _ qt2296)) (hS.1 _ qt263) (by decide) (by decide) rfl (fun j x z e1 e2 => by cases e1) (rt_X14 hS) ck_259 (pv_no4 (by decide +kernel))
set_option maxRecDepth 1000000 in
theorem ck_260 : I260.all (pv_ckq RT_X14 prog_5_method_9_code (some .int)) = true := by decide +kernel
theorem mok_260 (hS : pv_ST B sa xv H0 args s) (hX : pv_XC D s) : pv_MOK (mkE B sa xv D cA H0) (PP L xs) GG 260 args s :=
  pv_mok (I := I260) hS gg_260 rfl rfl (by decide +kernel) (by decide) (pv_cw (hS.1 _ qt2311)) (hS.1 _ qt263) (by decide) (by decide) rfl (fun j x z e1 e2 => by cases e1) (rt_X14 hS) ck_260 (pv_no4 (by decide +kernel))
set_option maxRecDepth 1000000 in
theorem ck_261 : I261.all (pv_ckq RT_X14 prog_5_method_8_code (some .int)) = true := by decide +kernel
theorem mok_261 (hS : pv_ST B sa xv H0 args s) (hX : pv_XC D s) : pv_MOK (mkE B sa xv D cA H0) (PP L xs) GG 261 args s :=
  pv_mok (I := I261) hS gg_261 rfl rfl (by decide +kernel) (by decide) (pv_cw (hS.1 _ qt2319)) (hS.1 _ qt263) (by decide) (by decide) rfl (fun j x z e1 e2 => by cases e1) (rt_X14 hS) ck_261 (pv_no4 (by decide +kernel))
set_option maxRecDepth 1000000 in
theorem ck_262_0 : (List.take 60 I262).all (pv_ckq RT_X14 prog_5_method_14_code none) = true := by decide +kernel
set_option maxRecDepth 1000000 in
theorem ck_262_1 : (List.take 60 (List.drop 60 I262)).all (pv_ckq RT_X14 prog_5_method_14_code none) = true := by decide +kernel
set_option maxRecDepth 1000000 in
theorem ck_262_2 : ((List.drop 60 (List.drop 60 I262))).all (pv_ckq RT_X14 prog_5_method_14_code none) = true := by decide +kernel
theorem ck_262 : I262.all (pv_ckq RT_X14 prog_5_method_14_code none) = true := (pv_allTD ck_262_0 (pv_allTD ck_262_1 ck_262_2))
theorem mok_262 (hS : pv_ST B sa xv H0 args s) (hX : pv_XC D s) : pv_MOK (mkE B sa xv D cA H0) (PP L xs) GG 262 args s :=
  pv_mok (I := I262) hS gg_262 rfl rfl (by decide +kernel) (by decide) (pv_cw (hS.1 _ qt2323)) (hS.1 _ qt263) (by decide) (by decide) rfl (fun j x z e1 e2 => by cases e1) (rt_X14 hS) ck_262 (pv_no4 (by decide +kernel))
set_option maxRecDepth 1000000 in
theorem ck_263 : I263.all (pv_ckq RT_X14 prog_5_method_10_code none) = true := by decide +kernel
theorem mok_263 (hS : pv_ST B sa xv H0 args s) (hX : pv_XC D s) : pv_MOK (mkE B sa xv D cA H0) (PP L xs) GG 263 args s :=
  pv_mok (I := I263) hS gg_263 rfl rfl (by decide +kernel) (by decide) (pv_cw (hS.1 _ qt2335)) (hS.1 _ qt263) (by decide) (by decide) rfl (fun j x z e1 e2 => by cases e1) (rt_X14 hS) ck_263 (pv_no4 (by decide +kernel))
set_option maxRecDepth 1000000 in
theorem ck_264 : I264.all (pv_ckq RT_X14 prog_5_method_12_code none) = true := by decide +kernel
theorem mok_264 (hS : pv_ST B sa xv H0 args s) (hX : pv_XC D s) : pv_MOK (mkE B sa xv D cA H0) (PP L xs) GG 264 args s :=
  pv_mok (I := I264) hS gg_264 rfl rfl (by decide +kernel) (by decide) (pv_cw (hS.1 _ qt2347)) (hS.1 _ qt263) (by decide) (by decide) rfl (fun j x z e1 e2 => by cases e1) (rt_X14 hS) ck_264 (pv_no4 (by decide +kernel))
set_option maxRecDepth 1000000 in
theorem ck_265 : I265.all (pv_ckq RT_X14 prog_5_method_13_code none) = true := by decide +kernel
theorem mok_265 (hS : pv_ST B sa xv H0 args s) (hX : pv_XC D s) : pv_MOK (mkE B sa xv D cA H0) (PP L xs) GG 265 args s :=
  pv_mok (I := I265) hS gg_265 rfl rfl (by decide +kernel) (by decide) (pv_cw (hS.1 _ qt2353)) (hS.1 _ qt263) (by decide) (by decide) rfl (fun j x z e1 e2 => by cases e1) (rt_X14 hS) ck_265 (pv_no4 (by decide +kernel))
set_option maxRecDepth 1000000 in
theorem ck_266 : I266.all (pv_ckq RT_X14 prog_5_method_18_code none) = true := by decide +kernel
theorem mok_266 (hS : pv_ST B sa xv H0 args s) (hX : pv_XC D s) : pv_MOK (mkE B sa xv D cA H0) (PP L xs) GG 266 args s :=
  pv_mok (I := I266) hS gg_266 rfl rfl (by decide +kernel) (by decide) (pv_cw (hS.1 _ qt2365)) (hS.1 _ qt263) (by decide) (by decide) rfl (fun j x z e1 e2 => by cases e1) (rt_X14 hS) ck_266 (pv_no4 (by decide +kernel))
set_option maxRecDepth 1000000 in
theorem ck_267 : I267.all (pv_ckq RT_X14 prog_5_method_17_code (some .int)) = true := by decide +kernel
theorem mok_267 (hS : pv_ST B sa xv H0 args s) (hX : pv_XC D s) : pv_MOK (mkE B sa xv D cA H0) (PP L xs) GG 267 args s :=
  pv_mok (I := I267) hS gg_267 rfl rfl (by decide +kernel) (by decide) (pv_cw (hS.1 _ qt2369)) (hS.1 _ qt263) (by decide) (by decide) rfl (fun j x z e1 e2 => by cases e1) (rt_X14 hS) ck_267 (pv_no4 (by decide +kernel))
set_option maxRecDepth 1000000 in
theorem ck_268 : I268.all (pv_ckq RT_X14 prog_5_method_11_code (some .int)) = true := by decide +kernel
theorem mok_268 (hS : pv_ST B sa xv H0 args s) (hX : pv_XC D s) : pv_MOK (mkE B sa xv D cA H0) (PP L xs) GG 268 args s :=
  pv_mok (I := I268) hS gg_268 rfl rfl (by decide +kernel) (by decide) (pv_cw (hS.1 _ qt2388)) (hS.1 _ qt263) (by decide) (by decide) rfl (fun j x z e1 e2 => by cases e1) (rt_X14 hS) ck_268 (pv_no4 (by decide +kernel))
set_option maxRecDepth 1000000 in
theorem ck_269_0 : (List.take 60 I269).all (pv_ckq RT_X14 prog_5_method_20_code none) = true := by decide +kernel
set_option maxRecDepth 1000000 in
theorem ck_269_1 : (List.take 60 (List.drop 60 I269)).all (pv_ckq RT_X14 prog_5_method_20_code none) = true := by decide +kernel
set_option maxRecDepth 1000000 in
theorem ck_269_2 : ((List.drop 60 (List.drop 60 I269))).all (pv_ckq RT_X14 prog_5_method_20_code none) = true := by decide +kernel
theorem ck_269 : I269.all (pv_ckq RT_X14 prog_5_method_20_code none) = true := (pv_allTD ck_269_0 (pv_allTD ck_269_1 ck_269_2))
theorem mok_269 (hS : pv_ST B sa xv H0 args s) (hX : pv_XC D s) : pv_MOK (mkE B sa xv D cA H0) (PP L xs) GG 269 args s :=
  pv_mok (I := I269) hS gg_269 rfl rfl (by decide +kernel) (by decide) (pv_cw (hS.1 _ qt2396)) (hS.1 _ qt263) (by decide) (by decide) rfl (fun j x z e1 e2 => by cases e1) (rt_X14 hS) ck_269 (pv_no4 (by decide +kernel))
set_option maxRecDepth 1000000 in
theorem ck_270 : I270.all (pv_ckq RT_X14 prog_5_method_19_code none) = true := by decide +kernel
theorem mok_270 (hS : pv_ST B sa xv H0 args s) (hX : pv_XC D s) : pv_MOK (mkE B sa xv D cA H0) (PP L xs) GG 270 args s :=
  pv_mok (I := I270) hS gg_270 rfl rfl (by decide +kernel) (by decide) (pv_cw (hS.1 _ qt2403)) (hS.1 _ qt263) (by decide) (by decide) rfl (fun j x z e1 e2 => by cases e1) (rt_X14 hS) ck_270 (pv_no4 (by decide +kernel))
set_option maxRecDepth 1000000 in
theorem ck_271 : I271.all (pv_ckq RT_X14 prog_5_method_21_code none) = true := by decide +kernel
theorem mok_271 (hS : pv_ST B sa xv H0 args s) (hX : pv_XC D s) : pv_MOK (mkE B sa xv D cA H0) (PP L xs) GG 271 args s :=
  pv_mok (I := I271) hS gg_271 rfl rfl (by decide +kernel) (by decide) (pv_cw (hS.1 _ qt2408)) (hS.1 _ qt263) (by decide) (by decide) rfl (fun j x z e1 e2 => by cases e1) (rt_X14 hS) ck_271 (pv_no4 (by decide +kernel))
set_option maxRecDepth 1000000 in
theorem ck_272 : I272.all (pv_ckq RT_X14 prog_5_method_23_code none) = true := by decide +kernel
theorem mok_272 (hS : pv_ST B sa xv H0 args s) (hX : pv_XC D s) : pv_MOK (mkE B sa xv D cA H0) (PP L xs) GG 272 args s :=
  pv_mok (I := I272) hS gg_272 rfl rfl (by decide +kernel) (by decide) (pv_cw (hS.1 _ qt2417)) (hS.1 _ qt263) (by decide) (by decide) rfl (fun j x z e1 e2 => by cases e1) (rt_X14 hS) ck_272 (pv_no4 (by decide +kernel))
set_option maxRecDepth 1000000 in
theorem ck_273 : I273.all (pv_ckq RT_X14 prog_5_method_22_code (some .int)) = true := by decide +kernel
theorem mok_273 (hS : pv_ST B sa xv H0 args s) (hX : pv_XC D s) : pv_MOK (mkE B sa xv D cA H0) (PP L xs) GG 273 args s :=
  pv_mok (I := I273) hS gg_273 rfl rfl (by decide +kernel) (by decide) (pv_cw (hS.1 _ qt2421)) (hS.1 _ qt263) (by decide) (by decide) rfl (fun j x z e1 e2 => by cases e1) (rt_X14 hS) ck_273 (pv_no4 (by decide +kernel))
set_option maxRecDepth 1000000 in
theorem ck_274 : I274.all (pv_ckq RT_X14 prog_5_method_24_code none) = true := by decide +kernel
theorem mok_274 (hS : pv_ST B sa xv H0 args s) (hX : pv_XC D s) : pv_MOK (mkE B sa xv D cA H0) (PP L xs) GG 274 args s :=
  pv_mok (I := I274) hS gg_274 rfl rfl (by decide +kernel) (by decide) (pv_cw (hS.1 _ qt2425)) (hS.1 _ qt263) (by decide) (by decide) rfl (fun j x z e1 e2 => by cases e1) (rt_X14 hS) ck_274 (pv_no4 (by decide +kernel))
set_option maxRecDepth 1000000 in
theorem ck_275 : I275.all (pv_ckq RT_X14 prog_5_method_25_code none) = true := by decide +kernel
theorem mok_275 (hS : pv_ST B sa xv H0 args s) (hX : pv_XC D s) : pv_MOK (mkE B sa xv D cA H0) (PP L xs) GG 275 args s :=
  pv_mok (I := I275) hS gg_275 rfl rfl (by decide +kernel) (by decide) (pv_cw (hS.1 _ qt2437)) (hS.1 _ qt263) (by decide) (by decide) rfl (fun j x z e1 e2 => by cases e1) (rt_X14 hS) ck_275 (pv_no4 (by decide +kernel))
set_option maxRecDepth 1000000 in
theorem ck_276 : I276.all (pv_ckq RT_X14 prog_5_method_15_code none) = true := by decide +kernel
theorem mok_276 (hS : pv_ST B sa xv H0 args s) (hX : pv_XC D s) : pv_MOK (mkE B sa xv D cA H0) (PP L xs) GG 276 args s :=
  pv_mok (I := I276) hS gg_276 rfl rfl (by decide +kernel) (by decide) (pv_cw (hS.1 _ qt2441)) (hS.1 _ qt263) (by decide) (by decide) rfl (fun j x z e1 e2 => by cases e1) (rt_X14 hS) ck_276 (pv_no4 (by decide +kernel))
set_option maxRecDepth 1000000 in
theorem ck_277 : I277.all (pv_ckq RT_X14 prog_5_method_16_code (some .int)) = true := by decide +kernel
theorem mok_277 (hS : pv_ST B sa xv H0 args s) (hX : pv_XC D s) : pv_MOK (mkE B sa xv D cA H0) (PP L xs) GG 277 args s :=
  pv_mok (I := I277) hS gg_277 rfl rfl (by decide +kernel) (by decide) (pv_cw (hS.1 _ qt2444)) (hS.1 _ qt263) (by decide) (by decide) rfl (fun j x z e1 e2 => by cases e1) (rt_X14 hS) ck_277 (pv_no4 (by decide +kernel))
set_option maxRecDepth 1000000 in
theorem ck_278 : I278.all (pv_ckq RT_X14 prog_5_method_29_code none) = true := by decide +kernel
theorem mok_278 (hS : pv_ST B sa xv H0 args s) (hX : pv_XC D s) : pv_MOK (mkE B sa xv D cA H0) (PP L xs) GG 278 args s :=
  pv_mok (I := I278) hS gg_278 rfl rfl (by decide +kernel) (by decide) (pv_cw (hS.1 _ qt2455)) (hS.1 _ qt263) (by decide) (by decide) rfl (fun j x z e1 e2 => by cases e1) (rt_X14 hS) ck_278 (pv_no4 (by decide +kernel))
set_option maxRecDepth 1000000 in
theorem ck_279 : I279.all (pv_ckq RT_X14 prog_5_method_30_code none) = true := by decide +kernel
theorem mok_279 (hS : pv_ST B sa xv H0 args s) (hX : pv_XC D s) : pv_MOK (mkE B sa xv D cA H0) (PP L xs) GG 279 args s :=
  pv_mok (I := I279) hS gg_279 rfl rfl (by decide +kernel) (by decide) (pv_cw (hS.1 _ qt2460)) (hS.1 _ qt263) (by decide) (by decide) rfl (fun j x z e1 e2 => by cases e1) (rt_X14 hS) ck_279 (pv_no4 (by decide +kernel))
set_option maxRecDepth 1000000 in
theorem ck_280 : I280.all (pv_ckq RT_X14 prog_5_method_31_code none) = true := by decide +kernel
theorem mok_280 (hS : pv_ST B sa xv H0 args s) (hX : pv_XC D s) : pv_MOK (mkE B sa xv D cA H0) (PP L xs) GG 280 args s :=
  pv_mok (I := I280) hS gg_280 rfl rfl (by decide +kernel) (by decide) (pv_cw (hS.1 _ qt2466)) (hS.1 _ qt263) (by decide) (by decide) rfl (fun j x z e1 e2 => by cases e1) (rt_X14 hS) ck_280 (pv_no4 (by decide +kernel))
set_option maxRecDepth 1000000 in
theorem ck_281_0 : (List.take 60 I281).all (pv_ckq RT_X15 prog_16_method_1_code none) = true := by decide +kernel
set_option maxRecDepth 1000000 in
theorem ck_281_1 : (List.take 60 (List.drop 60 I281)).all (pv_ckq RT_X15 prog_16_method_1_code none) = true := by decide +kernel
set_option maxRecDepth 1000000 in
theorem ck_281_2 : (List.take 60 (List.drop 60 (List.drop 60 I281))).all (pv_ckq RT_X15 prog_16_method_1_code none) = true := by decide +kernel
set_option maxRecDepth 1000000 in
theorem ck_281_3 : (List.take 60 (List.drop 60 (List.drop 60 (List.drop 60 I281)))).all (pv_ckq RT_X15 prog_16_method_1_code none) = true := by decide +kernel
set_option maxRecDepth 1000000 in
theorem ck_281_4 : (List.take 60 (List.drop 60 (List.drop 60 (List.drop 60 (List.drop 60 I281))))).all (pv_ckq RT_X15 prog_16_method_1_code none) = true := by decide +kernel
set_option maxRecDepth 1000000 in
theorem ck_281_5 : (List.take 60 (List.drop 60 (List.drop 60 (List.drop 60 (List.drop 60 (List.drop 60 I281)))))).all (pv_ckq RT_X15 prog_16_method_1_code none) = true := by decide +kernel
set_option maxRecDepth 1000000 in
theorem ck_281_6 : (List.take 60 (List.drop 60 (List.drop 60 (List.drop 60 (List.drop 60 (List.drop 60 (List.drop 60 I281))))))).all (pv_ckq RT_X15 prog_16_method_1_code none) = true := by decide +kernel
set_option maxRecDepth 1000000 in
theorem ck_281_7 : ((List.drop 60 (List.drop 60 (List.drop 60 (List.drop 60 (List.drop 60 (List.drop 60 (List.drop 60 I281)))))))).all (pv_ckq RT_X15 prog_16_method_1_code none) = true := by decide +kernel
theorem ck_281 : I281.all (pv_ckq RT_X15 prog_16_method_1_code none) = true := (pv_allTD ck_281_0 (pv_allTD ck_281_1 (pv_allTD ck_281_2 (pv_allTD ck_281_3 (pv_allTD ck_281_4 (pv_allTD ck_281_5 (pv_allTD ck_281_6 ck_281_7)))))))
theorem mok_281 (hS : pv_ST B sa xv H0 args s) (hX : pv_XC D s) : pv_MOK (mkE B sa xv D cA H0) (PP L xs) GG 281 args s :=
  pv_mok (I := I281) hS gg_281 rfl rfl (by decide +kernel) (by decide) (pv_cw (hS.1 _ qt2475)) (hS.1 _ qt264) (by decide) (by decide) rfl (fun j x z e1 e2 => by cases e1) (rt_X15 hS) ck_281 (pv_no4 (by decide +kernel))
set_option maxRecDepth 1000000 in
theorem ck_282 : I282.all (pv_ckq RT_X15 prog_16_method_2_code (some .int)) = true := by decide +kernel
theorem mok_282 (hS : pv_ST B sa xv H0 args s) (hX : pv_XC D s) : pv_MOK (mkE B sa xv D cA H0) (PP L xs) GG 282 args s :=
  pv_mok (I := I282) hS gg_282 rfl rfl (by decide +kernel) (by decide) (pv_cw (hS.1 _ qt3001)) (hS.1 _ qt264) (by decide) (by decide) rfl (fun j x z e1 e2 => by cases e1) (rt_X15 hS) ck_282 (pv_no4 (by decide +kernel))
set_option maxRecDepth 1000000 in
theorem ck_283 : I283.all (pv_ckq RT_X15 prog_16_method_5_code (some .int)) = true := by decide +kernel
theorem mok_283 (hS : pv_ST B sa xv H0 args s) (hX : pv_XC D s) : pv_MOK (mkE B sa xv D cA H0) (PP L xs) GG 283 args s :=
  pv_mok (I := I283) hS gg_283 rfl rfl (by decide +kernel) (by decide) (pv_cw (hS.1 _ qt3005)) (hS.1 _ qt264) (by decide) (by decide) rfl (fun j x z e1 e2 => by cases e1) (rt_X15 hS) ck_283 (pv_no4 (by decide +kernel))
set_option maxRecDepth 1000000 in
theorem ck_284_0 : (List.take 60 I284).all (pv_ckq RT_X15 prog_16_method_90_code (some .int)) = true := by decide +kernel
set_option maxRecDepth 1000000 in
theorem ck_284_1 : ((List.drop 60 I284)).all (pv_ckq RT_X15 prog_16_method_90_code (some .int)) = true := by decide +kernel
theorem ck_284 : I284.all (pv_ckq RT_X15 prog_16_method_90_code (some .int)) = true := (pv_allTD ck_284_0 ck_284_1)
theorem mok_284 (hS : pv_ST B sa xv H0 args s) (hX : pv_XC D s) : pv_MOK (mkE B sa xv D cA H0) (PP L xs) GG 284 args s :=
  pv_mok (I := I284) hS gg_284 rfl rfl (by decide +kernel) (by decide) (pv_cw (hS.1 _ qt3010)) (hS.1 _ qt264) (by decide) (by decide) rfl (fun j x z e1 e2 => by cases e1) (rt_X15 hS) ck_284 (pv_no4 (by decide +kernel))
set_option maxRecDepth 1000000 in
theorem ck_285_0 : (List.take 60 I285).all (pv_ckq RT_X15 prog_16_method_17_code none) = true := by decide +kernel
set_option maxRecDepth 1000000 in
theorem ck_285_1 : (List.take 60 (List.drop 60 I285)).all (pv_ckq RT_X15 prog_16_method_17_code none) = true := by decide +kernel
set_option maxRecDepth 1000000 in
theorem ck_285_2 : ((List.drop 60 (List.drop 60 I285))).all (pv_ckq RT_X15 prog_16_method_17_code none) = true := by decide +kernel
theorem ck_285 : I285.all (pv_ckq RT_X15 prog_16_method_17_code none) = true := (pv_allTD ck_285_0 (pv_allTD ck_285_1 ck_285_2))
theorem mok_285 (hS : pv_ST B sa xv H0 args s) (hX : pv_XC D s) : pv_MOK (mkE B sa xv D cA H0) (PP L xs) GG 285 args s :=
  pv_mok (I := I285) hS gg_285 rfl rfl (by decide +kernel) (by decide) (pv_cw (hS.1 _ qt3014)) (hS.1 _ qt264) (by decide) (by decide) rfl (fun j x z e1 e2 => by cases e1) (rt_X15 hS) ck_285 (pv_no4 (by decide +kernel))
set_option maxRecDepth 1000000 in
theorem ck_286 : I286.all (pv_ckq RT_X15 prog_16_method_7_code (some .boolean)) = true := by decide +kernel
theorem mok_286 (hS : pv_ST B sa xv H0 args s) (hX : pv_XC D s) : pv_MOK (mkE B sa xv D cA H0) (PP L xs) GG 286 args s :=
  pv_mok (I := I286) hS gg_286 rfl rfl (by decide +kernel) (by decide) (pv_cw (hS.1 _ qt3017)) (hS.1 _ qt264) (by decide) (by decide) rfl (fun j x z e1 e2 => by cases e1) (rt_X15 hS) ck_286 (pv_no4 (by decide +kernel))
set_option maxRecDepth 1000000 in
theorem ck_287 : I287.all (pv_ckq RT_X15 prog_16_method_4_code (some .boolean)) = true := by decide +kernel
theorem mok_287 (hS : pv_ST B sa xv H0 args s) (hX : pv_XC D s) : pv_MOK (mkE B sa xv D cA H0) (PP L xs) GG 287 args s :=
  pv_mok (I := I287) hS gg_287 rfl rfl (by decide +kernel) (by decide) (pv_cw (hS.1 _ qt3020)) (hS.1 _ qt264) (by decide) (by decide) rfl (fun j x z e1 e2 => by cases e1) (rt_X15 hS) ck_287 (pv_no4 (by decide +kernel))
set_option maxRecDepth 1000000 in
theorem ck_288 : I288.all (pv_ckq RT_X15 prog_16_method_9_code (some .int)) = true := by decide +kernel
theorem mok_288 (hS : pv_ST B sa xv H0 args s) (hX : pv_XC D s) : pv_MOK (mkE B sa xv D cA H0) (PP L xs) GG 288 args s :=
  pv_mok (I := I288) hS gg_288 rfl rfl (by decide +kernel) (by decide) (pv_cw (hS.1 _ qt3024)) (hS.1 _ qt264) (by decide) (by decide) rfl (fun j x z e1 e2 => by cases e1) (rt_X15 hS) ck_288 (pv_no4 (by decide +kernel))
set_option maxRecDepth 1000000 in
theorem ck_289 : I289.all (pv_ckq RT_X15 prog_16_method_8_code (some .boolean)) = true := by decide +kernel
theorem mok_289 (hS : pv_ST B sa xv H0 args s) (hX : pv_XC D s) : pv_MOK (mkE B sa xv D cA H0) (PP L xs) GG 289 args s :=
  pv_mok (I := I289) hS gg_289 rfl rfl (by decide +kernel) (by decide) (pv_cw (hS.1 _ qt3027)) (hS.1 _ qt264) (by decide) (by decide) rfl (fun j x z e1 e2 => by cases e1) (rt_X15 hS) ck_289 (pv_no4 (by decide +kernel))
set_option maxRecDepth 1000000 in
theorem ck_290 : I290.all (pv_ckq RT_X15 prog_16_method_14_code none) = true := by decide +kernel
theorem mok_290 (hS : pv_ST B sa xv H0 args s) (hX : pv_XC D s) : pv_MOK (mkE B sa xv D cA H0) (PP L xs) GG 290 args s :=
  pv_mok (I := I290) hS gg_290 rfl rfl (by decide +kernel) (by decide) (pv_cw (hS.1 _ qt3031)) (hS.1 _ qt264) (by decide) (by decide) rfl (fun j x z e1 e2 => by cases e1) (rt_X15 hS) ck_290 (pv_no4 (by decide +kernel))
end RTT
