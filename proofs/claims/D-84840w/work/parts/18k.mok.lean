section RTT
variable {B : Nat} {sa : Nat → Nat} {xv : Nat → Value} {D : va_G} {cA : Nat → ClassId} {H0 : Heap} {L : Nat} {xs : Nat → Int32} {args : Array Value} {s : State}
set_option maxRecDepth 1000000 in
theorem ck_431 : I431.all (pv_ckq RT_J0 prog_25_method_54_code (some .int)) = true := by decide +kernel
theorem mok_431 (hS : pv_ST B sa xv H0 args s) (hX : pv_XC D s) : pv_MOK (mkE B sa xv D cA H0) (PP L xs) GG 431 args s :=
  pv_mok (I := I431) hS gg_431 rfl rfl (by decide +kernel) (by decide) (pv_cw (hS.1 _ qt335)) (hS.1 _ qt250) (by decide) (by decide) rfl (fun j x z e1 e2 => by cases e1) (rt_J0 hS) ck_431 (pv_no4 (by decide +kernel))
set_option maxRecDepth 1000000 in
theorem ck_432 : I432.all (pv_ckq RT_J0 prog_25_method_152_code (some .byte)) = true := by decide +kernel
theorem mok_432 (hS : pv_ST B sa xv H0 args s) (hX : pv_XC D s) : pv_MOK (mkE B sa xv D cA H0) (PP L xs) GG 432 args s :=
  pv_mok (I := I432) hS gg_432 rfl rfl (by decide +kernel) (by decide) (pv_cw (hS.1 _ qt339)) (hS.1 _ qt250) (by decide) (by decide) rfl (fun j x z e1 e2 => by cases e1) (rt_J0 hS) ck_432 (pv_no4 (by decide +kernel))
set_option maxRecDepth 1000000 in
theorem ck_433 : I433.all (pv_ckq RT_J0 prog_25_method_56_code (some .char)) = true := by decide +kernel
theorem mok_433 (hS : pv_ST B sa xv H0 args s) (hX : pv_XC D s) : pv_MOK (mkE B sa xv D cA H0) (PP L xs) GG 433 args s :=
  pv_mok (I := I433) hS gg_433 rfl rfl (by decide +kernel) (by decide) (pv_cw (hS.1 _ qt345)) (hS.1 _ qt250) (by decide) (by decide) rfl (fun j x z e1 e2 => by cases e1) (rt_J0 hS) ck_433 (pv_no4 (by decide +kernel))
set_option maxRecDepth 1000000 in
theorem ck_434 : I434.all (pv_ckq RT_J0 prog_25_method_154_code (some .boolean)) = true := by decide +kernel
theorem mok_434 (hS : pv_ST B sa xv H0 args s) (hX : pv_XC D s) : pv_MOK (mkE B sa xv D cA H0) (PP L xs) GG 434 args s :=
  pv_mok (I := I434) hS gg_434 rfl rfl (by decide +kernel) (by decide) (pv_cw (hS.1 _ qt349)) (hS.1 _ qt250) (by decide) (by decide) rfl (fun j x z e1 e2 => by cases e1) (rt_J0 hS) ck_434 (pv_no4 (by decide +kernel))
set_option maxRecDepth 1000000 in
theorem ck_435 : I435.all (pv_ckq RT_J0 prog_25_method_155_code none) = true := by decide +kernel
theorem mok_435 (hS : pv_ST B sa xv H0 args s) (hX : pv_XC D s) : pv_MOK (mkE B sa xv D cA H0) (PP L xs) GG 435 args s :=
  pv_mok (I := I435) hS gg_435 rfl rfl (by decide +kernel) (by decide) (pv_cw (hS.1 _ qt355)) (hS.1 _ qt250) (by decide) (by decide) rfl (fun j x z e1 e2 => by cases e1) (rt_J0 hS) ck_435 (pv_no4 (by decide +kernel))
set_option maxRecDepth 1000000 in
theorem ck_436 : I436.all (pv_ckq RT_J1 prog_26_method_2_code (some .char)) = true := by decide +kernel
theorem mok_436 (hS : pv_ST B sa xv H0 args s) (hX : pv_XC D s) : pv_MOK (mkE B sa xv D cA H0) (PP L xs) GG 436 args s :=
  pv_mok (I := I436) hS gg_436 rfl rfl (by decide +kernel) (by decide) (pv_cw (hS.1 _ qt352)) (hS.1 _ qt251) (by decide) (by decide) rfl (fun j x z e1 e2 => by cases e1) (rt_J1 hS) ck_436 (pv_no4 (by decide +kernel))
set_option maxRecDepth 1000000 in
theorem ck_437 : I437.all (pv_ckq [] prog_32_method_11_code (some .int)) = true := by decide +kernel
theorem mok_437 (hS : pv_ST B sa xv H0 args s) (hX : pv_XC D s) : pv_MOK (mkE B sa xv D cA H0) (PP L xs) GG 437 args s :=
  pv_mok (I := I437) hS gg_437 rfl rfl (by decide +kernel) (by decide) (pv_cw (hS.1 _ qt360)) (hS.1 _ qt252) (by decide) (by decide) rfl (fun j x z e1 e2 => by cases e1) (fun q h => absurd h List.not_mem_nil) ck_437 (pv_no4 (by decide +kernel))
set_option maxRecDepth 1000000 in
theorem ck_438 : I438.all (pv_ckq [] prog_23_method_65_code (some .int)) = true := by decide +kernel
theorem mok_438 (hS : pv_ST B sa xv H0 args s) (hX : pv_XC D s) : pv_MOK (mkE B sa xv D cA H0) (PP L xs) GG 438 args s :=
  pv_mok (I := I438) hS gg_438 rfl rfl (by decide +kernel) (by decide) (pv_cw (hS.1 _ qt1336)) (hS.1 _ qt269) (by decide) (by decide) rfl (fun j x z e1 e2 => by cases e1) (fun q h => absurd h List.not_mem_nil) ck_438 (pv_no4 (by decide +kernel))
set_option maxRecDepth 1000000 in
theorem ck_439 : I439.all (pv_ckq [] prog_23_method_69_code (some .int)) = true := by decide +kernel
theorem mok_439 (hS : pv_ST B sa xv H0 args s) (hX : pv_XC D s) : pv_MOK (mkE B sa xv D cA H0) (PP L xs) GG 439 args s :=
  pv_mok (I := I439) hS gg_439 rfl rfl (by decide +kernel) (by decide) (pv_cw (hS.1 _ qt1559)) (hS.1 _ qt269) (by decide) (by decide) rfl (fun j x z e1 e2 => by cases e1) (fun q h => absurd h List.not_mem_nil) ck_439 (pv_no4 (by decide +kernel))
set_option maxRecDepth 1000000 in
theorem ck_440 : I440.all (pv_ckq RT_J9 prog_31_method_123_code (some (.array .int))) = true := by decide +kernel
theorem mok_440 (hS : pv_ST B sa xv H0 args s) (hX : pv_XC D s) : pv_MOK (mkE B sa xv D cA H0) (PP L xs) GG 440 args s :=
  pv_mok (I := I440) hS gg_440 rfl rfl (by decide +kernel) (by decide) (pv_cw (hS.1 _ qt1667)) (hS.1 _ qt270) (by decide) (by decide) rfl (fun j x z e1 e2 => by cases e1) (rt_J9 hS) ck_440 (pv_no4 (by decide +kernel))
set_option maxRecDepth 1000000 in
theorem ck_441_0 : (List.take 60 I441).all (pv_ckq RT_X0 code (some .boolean)) = true := by decide +kernel
set_option maxRecDepth 1000000 in
theorem ck_441_1 : (List.take 60 (List.drop 60 I441)).all (pv_ckq RT_X0 code (some .boolean)) = true := by decide +kernel
set_option maxRecDepth 1000000 in
theorem ck_441_2 : (List.take 60 (List.drop 60 (List.drop 60 I441))).all (pv_ckq RT_X0 code (some .boolean)) = true := by decide +kernel
set_option maxRecDepth 1000000 in
theorem ck_441_3 : (List.take 60 (List.drop 60 (List.drop 60 (List.drop 60 I441)))).all (pv_ckq RT_X0 code (some .boolean)) = true := by decide +kernel
set_option maxRecDepth 1000000 in
theorem ck_441_4 : (List.take 60 (List.drop 60 (List.drop 60 (List.drop 60 (List.drop 60 I441))))).all (pv_ckq RT_X0 code (some .boolean)) = true := by decide +kernel
set_option maxRecDepth 1000000 in
theorem ck_441_5 : (List.take 60 (List.drop 60 (List.drop 60 (List.drop 60 (List.drop 60 (List.drop 60 I441)))))).all (pv_ckq RT_X0 code (some .boolean)) = true := by decide +kernel
set_option maxRecDepth 1000000 in
theorem ck_441_6 : (List.take 60 (List.drop 60 (List.drop 60 (List.drop 60 (List.drop 60 (List.drop 60 (List.drop 60 I441))))))).all (pv_ckq RT_X0 code (some .boolean)) = true := by decide +kernel
set_option maxRecDepth 1000000 in
theorem ck_441_7 : ((List.drop 60 (List.drop 60 (List.drop 60 (List.drop 60 (List.drop 60 (List.drop 60 (List.drop 60 I441)))))))).all (pv_ckq RT_X0 code (some .boolean)) = true := by decide +kernel
theorem ck_441 : I441.all (pv_ckq RT_X0 code (some .boolean)) = true := (pv_allTD ck_441_0 (pv_allTD ck_441_1 (pv_allTD ck_441_2 (pv_allTD ck_441_3 (pv_allTD ck_441_4 (pv_allTD ck_441_5 (pv_allTD ck_441_6 ck_441_7)))))))
theorem mok_441 (hS : pv_ST B sa xv H0 args s) (hX : pv_XC D s) (hlaw : (Jvm.Cond.codeWith ⟨"RegionHouseLaw", "law", "([I)Z"⟩ code 7 (some .boolean) []).before args s = true) : pv_MOK (mkE B sa xv D cA H0) (PP L xs) GG 441 args s :=
  pv_mok (I := I441) hS gg_441 rfl rfl (by decide +kernel) (by decide) hlaw (hS.1 _ qt245) (by decide) (by decide) rfl (fun j x z e1 e2 => by cases e1) (rt_X0 hS) ck_441 (pv_no4 (by decide +kernel))
end RTT
