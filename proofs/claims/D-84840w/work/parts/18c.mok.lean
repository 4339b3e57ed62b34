section RTT
variable {B : Nat} {sa : Nat → Nat} {xv : Nat → Value} {D : va_G} {cA : Nat → ClassId} {H0 : Heap} {L : Nat} {xs : Nat → Int32} {args : Array Value} {s : State}
set_option maxRecDepth 1000000 in
theorem ck_85 : I85.all (pv_ckq RT_X6 prog_13_method_12_code none) = true := by decide +kernel
theorem mok_85 (hS : pv_ST B sa xv H0 args s) (hX : pv_XC D s) : pv_MOK (mkE B sa xv D cA H0) (PP L xs) GG 85 args s :=
  pv_mok (I := I85) hS gg_85 rfl rfl (by decide +kernel) (by decide) (pv_cw (hS.1 _ qt1752)) (hS.1 _ qt255) (by decide) (by decide) rfl (fun j x z e1 e2 => by cases e1) (rt_X6 hS) ck_85 (pv_no4 (by decide +kernel))
set_option maxRecDepth 1000000 in
theorem ck_86 : I86.all (pv_ckq RT_X6 prog_13_method_31_code none) = true := by decide +kernel
theorem mok_86 (hS : pv_ST B sa xv H0 args s) (hX : pv_XC D s) : pv_MOK (mkE B sa xv D cA H0) (PP L xs) GG 86 args s :=
  pv_mok (I := I86) hS gg_86 rfl rfl (by decide +kernel) (by decide) (pv_cw (hS.1 _ qt1765)) (hS.1 _ qt255) (by decide) (by decide) rfl (fun j x z e1 e2 => by cases e1) (rt_X6 hS) ck_86 (pv_no4 (by decide +kernel))
set_option maxRecDepth 1000000 in
theorem ck_87 : I87.all (pv_ckq RT_X6 prog_13_method_13_code (some .int)) = true := by decide +kernel
theorem mok_87 (hS : pv_ST B sa xv H0 args s) (hX : pv_XC D s) : pv_MOK (mkE B sa xv D cA H0) (PP L xs) GG 87 args s :=
  pv_mok (I := I87) hS gg_87 rfl rfl (by decide +kernel) (by decide) (pv_cw (hS.1 _ qt1769)) (hS.1 _ qt255) (by decide) (by decide) rfl (fun j x z e1 e2 => by cases e1) (rt_X6 hS) ck_87 (pv_no4 (by decide +kernel))
set_option maxRecDepth 1000000 in
theorem ck_88 : I88.all (pv_ckq RT_X6 prog_13_method_19_code (some .boolean)) = true := by decide +kernel
theorem mok_88 (hS : pv_ST B sa xv H0 args s) (hX : pv_XC D s) : pv_MOK (mkE B sa xv D cA H0) (PP L xs) GG 88 args s :=
  pv_mok (I := I88) hS gg_88 rfl rfl (by decide +kernel) (by decide) (pv_cw (hS.1 _ qt1774)) (hS.1 _ qt255) (by decide) (by decide) rfl (fun j x z e1 e2 => by cases e1) (rt_X6 hS) ck_88 (pv_no4 (by decide +kernel))
set_option maxRecDepth 1000000 in
theorem ck_89 : I89.all (pv_ckq RT_X6 prog_13_method_8_code (some .int)) = true := by decide +kernel
theorem mok_89 (hS : pv_ST B sa xv H0 args s) (hX : pv_XC D s) : pv_MOK (mkE B sa xv D cA H0) (PP L xs) GG 89 args s :=
  pv_mok (I := I89) hS gg_89 rfl rfl (by decide +kernel) (by decide) (pv_cw (hS.1 _ qt1778)) (hS.1 _ qt255) (by decide) (by decide) rfl (fun j x z e1 e2 => by cases e1) (rt_X6 hS) ck_89 (pv_no4 (by decide +kernel))
set_option maxRecDepth 1000000 in
theorem ck_90 : I90.all (pv_ckq RT_X6 prog_13_method_18_code (some .boolean)) = true := by decide +kernel
theorem mok_90 (hS : pv_ST B sa xv H0 args s) (hX : pv_XC D s) : pv_MOK (mkE B sa xv D cA H0) (PP L xs) GG 90 args s :=
  pv_mok (I := I90) hS gg_90 rfl rfl (by decide +kernel) (by decide) (pv_cw (hS.1 _ qt1782)) (hS.1 _ qt255) (by decide) (by decide) rfl (fun j x z e1 e2 => by cases e1) (rt_X6 hS) ck_90 (pv_no4 (by decide +kernel))
set_option maxRecDepth 1000000 in
theorem ck_91 : I91.all (pv_ckq RT_X6 prog_13_method_9_code (some .int)) = true := by decide +kernel
theorem mok_91 (hS : pv_ST B sa xv H0 args s) (hX : pv_XC D s) : pv_MOK (mkE B sa xv D cA H0) (PP L xs) GG 91 args s :=
  pv_mok (I := I91) hS gg_91 rfl rfl (by decide +kernel) (by decide) (pv_cw (hS.1 _ qt1795)) (hS.1 _ qt255) (by decide) (by decide) rfl (fun j x z e1 e2 => by cases e1) (rt_X6 hS) ck_91 (pv_no4 (by decide +kernel))
set_option maxRecDepth 1000000 in
theorem ck_92 : I92.all (pv_ckq RT_X6 prog_13_method_10_code (some .int)) = true := by decide +kernel
theorem mok_92 (hS : pv_ST B sa xv H0 args s) (hX : pv_XC D s) : pv_MOK (mkE B sa xv D cA H0) (PP L xs) GG 92 args s :=
  pv_mok (I := I92) hS gg_92 rfl rfl (by decide +kernel) (by decide) (pv_cw (hS.1 _ qt1799)) (hS.1 _ qt255) (by decide) (by decide) rfl (fun j x z e1 e2 => by cases e1) (rt_X6 hS) ck_92 (pv_no4 (by decide +kernel))
set_option maxRecDepth 1000000 in
theorem ck_93 : I93.all (pv_ckq RT_X6 prog_13_method_6_code (some .int)) = true := by decide +kernel
theorem mok_93 (hS : pv_ST B sa xv H0 args s) (hX : pv_XC D s) : pv_MOK (mkE B sa xv D cA H0) (PP L xs) GG 93 args s :=
  pv_mok (I := I93) hS gg_93 rfl rfl (by decide +kernel) (by decide) (pv_cw (hS.1 _ qt1803)) (hS.1 _ qt255) (by decide) (by decide) rfl (fun j x z e1 e2 => by cases e1) (rt_X6 hS) ck_93 (pv_no4 (by decide +kernel))
set_option maxRecDepth 1000000 in
theorem ck_94_0 : (List.take 60 I94).all (pv_ckq RT_X6 prog_13_method_15_code (some .boolean)) = true := by decide +kernel
set_option maxRecDepth 1000000 in
theorem ck_94_1 : ((List.drop 60 I94)).all (pv_ckq RT_X6 prog_13_method_15_code (some .boolean)) = true := by decide +kernel
theorem ck_94 : I94.all (pv_ckq RT_X6 prog_13_method_15_code (some .boolean)) = true := (pv_allTD ck_94_0 ck_94_1)
theorem mok_94 (hS : pv_ST B sa xv H0 args s) (hX : pv_XC D s) : pv_MOK (mkE B sa xv D cA H0) (PP L xs) GG 94 args s :=
  pv_mok (I := I94) hS gg_94 rfl rfl (by decide +kernel) (by decide) (pv_cw (hS.1 _ qt1815)) (hS.1 _ qt255) (by decide) (by decide) rfl (fun j x z e1 e2 => by cases e1) (rt_X6 hS) ck_94 (pv_no4 (by decide +kernel))
set_option maxRecDepth 1000000 in
theorem ck_95 : I95.all (pv_ckq RT_X6 prog_13_method_16_code none) = true := by decide +kernel
theorem mok_95 (hS : pv_ST B sa xv H0 args s) (hX : pv_XC D s) : pv_MOK (mkE B sa xv D cA H0) (PP L xs) GG 95 args s :=
  pv_mok (I := I95) hS gg_95 rfl rfl (by decide +kernel) (by decide) (pv_cw (hS.1 _ qt1819)) (hS.1 _ qt255) (by decide) (by decide) rfl (fun j x z e1 e2 => by cases e1) (rt_X6 hS) ck_95 (pv_no4 (by decide +kernel))
set_option maxRecDepth 1000000 in
theorem ck_96 : I96.all (pv_ckq RT_X6 prog_13_method_17_code (some .boolean)) = true := by decide +kernel
theorem mok_96 (hS : pv_ST B sa xv H0 args s) (hX : pv_XC D s) : pv_MOK (mkE B sa xv D cA H0) (PP L xs) GG 96 args s :=
  pv_mok (I := I96) hS gg_96 rfl rfl (by decide +kernel) (by decide) (pv_cw (hS.1 _ qt1823)) (hS.1 _ qt255) (by decide) (by decide) rfl (fun j x z e1 e2 => by cases e1) (rt_X6 hS) ck_96 (pv_no4 (by decide +kernel))
set_option maxRecDepth 1000000 in
theorem ck_97 : I97.all (pv_ckq RT_X6 prog_13_method_14_code none) = true := by decide +kernel
theorem mok_97 (hS : pv_ST B sa xv H0 args s) (hX : pv_XC D s) : pv_MOK (mkE B sa xv D cA H0) (PP L xs) GG 97 args s :=
  pv_mok (I := I97) hS gg_97 rfl rfl (by decide +kernel) (by decide) (pv_cw (hS.1 _ qt1827)) (hS.1 _ qt255) (by decide) (by decide) rfl (fun j x z e1 e2 => by cases e1) (rt_X6 hS) ck_97 (pv_no4 (by decide +kernel))
set_option maxRecDepth 1000000 in
theorem ck_98 : I98.all (pv_ckq RT_X6 prog_13_method_20_code none) = true := by decide +kernel
theorem mok_98 (hS : pv_ST B sa xv H0 args s) (hX : pv_XC D s) : pv_MOK (mkE B sa xv D cA H0) (PP L xs) GG 98 args s :=
  pv_mok (I := I98) hS gg_98 rfl rfl (by decide +kernel) (by decide) (pv_cw (hS.1 _ qt1894)) (hS.1 _ qt255) (by decide) (by decide) rfl (fun j x z e1 e2 => by cases e1) (rt_X6 hS) ck_98 (pv_no4 (by decide +kernel))
set_option maxRecDepth 1000000 in
theorem ck_99 : I99.all (pv_ckq RT_X6 prog_13_method_21_code none) = true := by decide +kernel
theorem mok_99 (hS : pv_ST B sa xv H0 args s) (hX : pv_XC D s) : pv_MOK (mkE B sa xv D cA H0) (PP L xs) GG 99 args s :=
  pv_mok (I := I99) hS gg_99 rfl rfl (by decide +kernel) (by decide) (pv_cw (hS.1 _ qt1899)) (hS.1 _ qt255) (by decide) (by decide) rfl (fun j x z e1 e2 => by cases e1) (rt_X6 hS) ck_99 (pv_no4 (by decide +kernel))
set_option maxRecDepth 1000000 in
theorem ck_100 : I100.all (pv_ckq RT_X6 prog_13_method_28_code (some .boolean)) = true := by decide +kernel
theorem mok_100 (hS : pv_ST B sa xv H0 args s) (hX : pv_XC D s) : pv_MOK (mkE B sa xv D cA H0) (PP L xs) GG 100 args s :=
  pv_mok (I := I100) hS gg_100 rfl rfl (by decide +kernel) (by decide) (pv_cw (hS.1 _ qt1907)) (hS.1 _ qt255) (by decide) (by decide) rfl (fun j x z e1 e2 => by cases e1) (rt_X6 hS) ck_100 (pv_no4 (by decide +kernel))
set_option maxRecDepth 1000000 in
theorem ck_101 : I101.all (pv_ckq RT_X6 prog_13_method_22_code (some .int)) = true := by decide +kernel
theorem mok_101 (hS : pv_ST B sa xv H0 args s) (hX : pv_XC D s) : pv_MOK (mkE B sa xv D cA H0) (PP L xs) GG 101 args s :=
  pv_mok (I := I101) hS gg_101 rfl rfl (by decide +kernel) (by decide) (pv_cw (hS.1 _ qt1947)) (hS.1 _ qt255) (by decide) (by decide) rfl (fun j x z e1 e2 => by cases e1) (rt_X6 hS) ck_101 (pv_no4 (by decide +kernel))
set_option maxRecDepth 1000000 in
theorem ck_102 : I102.all (pv_ckq RT_X6 prog_13_method_23_code none) = true := by decide +kernel
theorem mok_102 (hS : pv_ST B sa xv H0 args s) (hX : pv_XC D s) : pv_MOK (mkE B sa xv D cA H0) (PP L xs) GG 102 args s :=
  pv_mok (I := I102) hS gg_102 rfl rfl (by decide +kernel) (by decide) (pv_cw (hS.1 _ qt1955)) (hS.1 _ qt255) (by decide) (by decide) rfl (fun j x z e1 e2 => by cases e1) (rt_X6 hS) ck_102 (pv_no4 (by decide +kernel))
set_option maxRecDepth 1000000 in
theorem ck_103 : I103.all (pv_ckq RT_X6 prog_13_method_24_code (some .int)) = true := by decide +kernel
theorem mok_103 (hS : pv_ST B sa xv H0 args s) (hX : pv_XC D s) : pv_MOK (mkE B sa xv D cA H0) (PP L xs) GG 103 args s :=
  pv_mok (I := I103) hS gg_103 rfl rfl (by decide +kernel) (by decide) (pv_cw (hS.1 _ qt1959)) (hS.1 _ qt255) (by decide) (by decide) rfl (fun j x z e1 e2 => by cases e1) (rt_X6 hS) ck_103 (pv_no4 (by decide +kernel))
set_option maxRecDepth 1000000 in
theorem ck_104 : I104.all (pv_ckq RT_X6 prog_13_method_27_code (some .int)) = true := by decide +kernel
theorem mok_104 (hS : pv_ST B sa xv H0 args s) (hX : pv_XC D s) : pv_MOK (mkE B sa xv D cA H0) (PP L xs) GG 104 args s :=
  pv_mok (I := I104) hS gg_104 rfl rfl (by decide +kernel) (by decide) (pv_cw (hS.1 _ qt1964)) (hS.1 _ qt255) (by decide) (by decide) rfl (fun j x z e1 e2 => by cases e1) (rt_X6 hS) ck_104 (pv_no4 (by decide +kernel))
set_option maxRecDepth 1000000 in
theorem ck_105 : I105.all (pv_ckq RT_X6 prog_13_method_25_code (some .int)) = true := by decide +kernel
theorem mok_105 (hS : pv_ST B sa xv H0 args s) (hX : pv_XC D s) : pv_MOK (mkE B sa xv D cA H0) (PP L xs) GG 105 args s :=
  pv_mok (I := I105) hS gg_105 rfl rfl (by decide +kernel) (by decide) (pv_cw (hS.1 _ qt1968)) (hS.1 _ qt255) (by decide) (by decide) rfl (fun j x z e1 e2 => by cases e1) (rt_X6 hS) ck_105 (pv_no4 (by decide +kernel))
set_option maxRecDepth 1000000 in
theorem ck_106 : I106.all (pv_ckq RT_X6 prog_13_method_26_code (some .int)) = true := by decide +kernel
theorem mok_106 (hS : pv_ST B sa xv H0 args s) (hX : pv_XC D s) : pv_MOK (mkE B sa xv D cA H0) (PP L xs) GG 106 args s :=
  pv_mok (I := I106) hS gg_106 rfl rfl (by decide +kernel) (by decide) (pv_cw (hS.1 _ qt1972)) (hS.1 _ qt255) (by decide) (by decide) rfl (fun j x z e1 e2 => by cases e1) (rt_X6 hS) ck_106 (pv_no4 (by decide +kernel))
set_option maxRecDepth 1000000 in
theorem ck_107 : I107.all (pv_ckq RT_X7 prog_9_method_1_code none) = true := by decide +kernel
theorem mok_107 (hS : pv_ST B sa xv H0 args s) (hX : pv_XC D s) : pv_MOK (mkE B sa xv D cA H0) (PP L xs) GG 107 args s :=
  pv_mok (I := I107) hS gg_107 rfl rfl (by decide +kernel) (by decide) (pv_cw (hS.1 _ qt700)) (hS.1 _ qt256) (by decide) (by decide) rfl (fun j x z e1 e2 => by cases e1) (rt_X7 hS) ck_107 (pv_no4 (by decide +kernel))
set_option maxRecDepth 1000000 in
theorem ck_108 : I108.all (pv_ckq RT_X7 prog_9_method_12_code none) = true := by decide +kernel
theorem mok_108 (hS : pv_ST B sa xv H0 args s) (hX : pv_XC D s) : pv_MOK (mkE B sa xv D cA H0) (PP L xs) GG 108 args s :=
  pv_mok (I := I108) hS gg_108 rfl rfl (by decide +kernel) (by decide) (pv_cw (hS.1 _ qt1487)) (hS.1 _ qt256) (by decide) (by decide) rfl (fun j x z e1 e2 => by cases e1) (rt_X7 hS) ck_108 (pv_no4 (by decide +kernel))
set_option maxRecDepth 1000000 in
theorem ck_109 : I109.all (pv_ckq RT_X7 prog_9_method_3_code (some .boolean)) = true := by decide +kernel
theorem mok_109 (hS : pv_ST B sa xv H0 args s) (hX : pv_XC D s) : pv_MOK (mkE B sa xv D cA H0) (PP L xs) GG 109 args s :=
  pv_mok (I := I109) hS gg_109 rfl rfl (by decide +kernel) (by decide) (pv_cw (hS.1 _ qt1495)) (hS.1 _ qt256) (by decide) (by decide) rfl (fun j x z e1 e2 => by cases e1) (rt_X7 hS) ck_109 (pv_no4 (by decide +kernel))
set_option maxRecDepth 1000000 in
theorem ck_110_0 : (List.take 60 I110).all (pv_ckq RT_X7 prog_9_method_13_code none) = true := by decide +kernel
set_option maxRecDepth 1000000 in
theorem ck_110_1 : (List.take 60 (List.drop 60 I110)).all (pv_ckq RT_X7 prog_9_method_13_code none) = true := by decide +kernel
set_option maxRecDepth 1000000 in
theorem ck_110_2 : ((List.drop 60 (List.drop 60 I110))).all (pv_ckq RT_X7 prog_9_method_13_code none) = true := by decide +kernel
theorem ck_110 : I110.all (pv_ckq RT_X7 prog_9_method_13_code none) = true := (pv_allTD ck_110_0 (pv_allTD ck_110_1 ck_110_2))
theorem mok_110 (hS : pv_ST B sa xv H0 args s) (hX : pv_XC D s) : pv_MOK (mkE B sa xv D cA H0) (PP L xs) GG 110 args s :=
  pv_mok (I := I110) hS gg_110 rfl rfl (by decide +kernel) (by decide) (pv_cw (hS.1 _ qt1503)) (hS.1 _ qt256) (by decide) (by decide) rfl (fun j x z e1 e2 => by cases e1) (rt_X7 hS) ck_110 (pv_no4 (by decide +kernel))
set_option maxRecDepth 1000000 in
theorem ck_111 : I111.all (pv_ckq RT_X7 prog_9_method_2_code none) = true := by decide +kernel
theorem mok_111 (hS : pv_ST B sa xv H0 args s) (hX : pv_XC D s) : pv_MOK (mkE B sa xv D cA H0) (PP L xs) GG 111 args s :=
  pv_mok (I := I111) hS gg_111 rfl rfl (by decide +kernel) (by decide) (pv_cw (hS.1 _ qt1511)) (hS.1 _ qt256) (by decide) (by decide) rfl (fun j x z e1 e2 => by cases e1) (rt_X7 hS) ck_111 (pv_no4 (by decide +kernel))
set_option maxRecDepth 1000000 in
theorem ck_112 : I112.all (pv_ckq RT_X7 prog_9_method_6_code none) = true := by decide +kernel
theorem mok_112 (hS : pv_ST B sa xv H0 args s) (hX : pv_XC D s) : pv_MOK (mkE B sa xv D cA H0) (PP L xs) GG 112 args s :=
  pv_mok (I := I112) hS gg_112 rfl rfl (by decide +kernel) (by decide) (pv_cw (hS.1 _ qt1528)) (hS.1 _ qt256) (by decide) (by decide) rfl (fun j x z e1 e2 => by cases e1) (rt_X7 hS) ck_112 (pv_no4 (by decide +kernel))
set_option maxRecDepth 1000000 in
theorem ck_113 : I113.all (pv_ckq RT_X7 prog_9_method_5_code (some .boolean)) = true := by decide +kernel
theorem mok_113 (hS : pv_ST B sa xv H0 args s) (hX : pv_XC D s) : pv_MOK (mkE B sa xv D cA H0) (PP L xs) GG 113 args s :=
  pv_mok (I := I113) hS gg_113 rfl rfl (by decide +kernel) (by decide) (pv_cw (hS.1 _ qt1532)) (hS.1 _ qt256) (by decide) (by decide) rfl (fun j x z e1 e2 => by cases e1) (rt_X7 hS) ck_113 (pv_no4 (by decide +kernel))
set_option maxRecDepth 1000000 in
theorem ck_114 : I114.all (pv_ckq RT_X7 prog_9_method_4_code (some .boolean)) = true := by decide +kernel
theorem mok_114 (hS : pv_ST B sa xv H0 args s) (hX : pv_XC D s) : pv_MOK (mkE B sa xv D cA H0) (PP L xs) GG 114 args s :=
  pv_mok (I := I114) hS gg_114 rfl rfl (by decide +kernel) (by decide) (pv_cw (hS.1 _ qt1536)) (hS.1 _ qt256) (by decide) (by decide) rfl (fun j x z e1 e2 => by cases e1) (rt_X7 hS) ck_114 (pv_no4 (by decide +kernel))
set_option maxRecDepth 1000000 in
theorem ck_115 : I115.all (pv_ckq RT_X7 prog_9_method_14_code (some .int)) = true := by decide +kernel
theorem mok_115 (hS : pv_ST B sa xv H0 args s) (hX : pv_XC D s) : pv_MOK (mkE B sa xv D cA H0) (PP L xs) GG 115 args s :=
  pv_mok (I := I115) hS gg_115 rfl rfl (by decide +kernel) (by decide) (pv_cw (hS.1 _ qt1544)) (hS.1 _ qt256) (by decide) (by decide) rfl (fun j x z e1 e2 => by cases e1) (rt_X7 hS) ck_115 (pv_no4 (by decide +kernel))
set_option maxRecDepth 1000000 in
theorem ck_116 : I116.all (pv_ckq RT_X7 prog_9_method_10_code (some .int)) = true := by decide +kernel
theorem mok_116 (hS : pv_ST B sa xv H0 args s) (hX : pv_XC D s) : pv_MOK (mkE B sa xv D cA H0) (PP L xs) GG 116 args s :=
  pv_mok (I := I116) hS gg_116 rfl rfl (by decide +kernel) (by decide) (pv_cw (hS.1 _ qt1548)) (hS.1 _ qt256) (by decide) (by decide) rfl (fun j x z e1 e2 => by cases e1) (rt_X7 hS) ck_116 (pv_no4 (by decide +kernel))
set_option maxRecDepth 1000000 in
theorem ck_117 : I117.all (pv_ckq RT_X7 prog_9_method_11_code (some .int)) = true := by decide +kernel
theorem mok_117 (hS : pv_ST B sa xv H0 args s) (hX : pv_XC D s) : pv_MOK (mkE B sa xv D cA H0) (PP L xs) GG 117 args s :=
  pv_mok (I := I117) hS gg_117 rfl rfl (by decide +kernel) (by decide) (pv_cw (hS.1 _ qt1556)) (hS.1 _ qt256) (by decide) (by decide) rfl (fun j x z e1 e2 => by cases e1) (rt_X7 hS) ck_117 (pv_no4 (by decide +kernel))
set_option maxRecDepth 1000000 in
theorem ck_118 : I118.all (pv_ckq RT_X7 prog_9_method_15_code none) = true := by decide +kernel
theorem mok_118 (hS : pv_ST B sa xv H0 args s) (hX : pv_XC D s) : pv_MOK (mkE B sa xv D cA H0) (PP L xs) GG 118 args s :=
  pv_mok (I := I118) hS gg_118 rfl rfl (by decide +kernel) (by decide) (pv_cw (hS.1 _ qt1567)) (hS.1 _ qt256) (by decide) (by decide) rfl (fun j x z e1 e2 => by cases e1) (rt_X7 hS) ck_118 (pv_no4 (by decide +kernel))
set_option maxRecDepth 1000000 in
theorem ck_119 : I119.all (pv_ckq RT_X7 prog_9_method_17_code (some .int)) = true := by decide +kernel
theorem mok_119 (hS : pv_ST B sa xv H0 args s) (hX : pv_XC D s) : pv_MOK (mkE B sa xv D cA H0) (PP L xs) GG 119 args s :=
  pv_mok (I := I119) hS gg_119 rfl rfl (by decide +kernel) (by decide) (pv_cw (hS.1 _ qt1571)) (hS.1 _ qt256) (by decide) (by decide) rfl (fun j x z e1 e2 => by cases e1) (rt_X7 hS) ck_119 (pv_no4 (by decide +kernel))
set_option maxRecDepth 1000000 in
theorem ck_120 : I120.all (pv_ckq RT_X7 prog_9_method_18_code (some .int)) = true := by decide +kernel
theorem mok_120 (hS : pv_ST B sa xv H0 args s) (hX : pv_XC D s) : pv_MOK (mkE B sa xv D cA H0) (PP L xs) GG 120 args s :=
  pv_mok (I := I120) hS gg_120 rfl rfl (by decide +kernel) (by decide) (pv_cw (hS.1 _ qt1575)) (hS.1 _ qt256) (by decide) (by decide) rfl (fun j x z e1 e2 => by cases e1) (rt_X7 hS) ck_120 (pv_no4 (by decide +kernel))
set_option maxRecDepth 1000000 in
theorem ck_121 : I121.all (pv_ckq RT_X7 prog_9_method_19_code (some .int)) = true := by decide +kernel
theorem mok_121 (hS : pv_ST B sa xv H0 args s) (hX : pv_XC D s) : pv_MOK (mkE B sa xv D cA H0) (PP L xs) GG 121 args s :=
  pv_mok (I := I121) hS gg_121 rfl rfl (by decide +kernel) (by decide) (pv_cw (hS.1 _ qt1596)) (hS.1 _ qt256) (by decide) (by decide) rfl (fun j x z e1 e2 => by cases e1) (rt_X7 hS) ck_121 (pv_no4 (by decide +kernel))
set_option maxRecDepth 1000000 in
theorem ck_122 : I122.all (pv_ckq RT_X7 prog_9_method_7_code none) = true := by decide +kernel
theorem mok_122 (hS : pv_ST B sa xv H0 args s) (hX : pv_XC D s) : pv_MOK (mkE B sa xv D cA H0) (PP L xs) GG 122 args s :=
  pv_mok (I := I122) hS gg_122 rfl rfl (by decide +kernel) (by decide) (pv_cw (hS.1 _ qt1600)) (hS.1 _ qt256) (by decide) (by decide) rfl (fun j x z e1 e2 => by cases e1) (rt_X7 hS) ck_122 (pv_no4 (by decide +kernel))
set_option maxRecDepth 1000000 in
theorem ck_123 : I123.all (pv_ckq RT_X7 prog_9_method_20_code (some .int)) = true := by decide +kernel
theorem mok_123 (hS : pv_ST B sa xv H0 args s) (hX : pv_XC D s) : pv_MOK (mkE B sa xv D cA H0) (PP L xs) GG 123 args s :=
  pv_mok (I := I123) hS gg_123 rfl rfl (by decide +kernel) (by decide) (pv_cw (hS.1 _ qt1604)) (hS.1 _ qt256) (by decide) (by decide) rfl (fun j x z e1 e2 => by cases e1) (rt_X7 hS) ck_123 (pv_no4 (by decide +kernel))
set_option maxRecDepth 1000000 in
theorem ck_124 : I124.all (pv_ckq RT_X7 prog_9_method_21_code (some .int)) = true := by decide +kernel
theorem mok_124 (hS : pv_ST B sa xv H0 args s) (hX : pv_XC D s) : pv_MOK (mkE B sa xv D cA H0) (PP L xs) GG 124 args s :=
  pv_mok (I := I124) hS gg_124 rfl rfl (by decide +kernel) (by decide) (pv_cw (hS.1 _ qt1608)) (hS.1 _ qt256) (by decide) (by decide) rfl (fun j x z e1 e2 => by cases e1) (rt_X7 hS) ck_124 (pv_no4 (by decide +kernel))
set_option maxRecDepth 1000000 in
theorem ck_125 : I125.all (pv_ckq RT_X7 prog_9_method_22_code (some .int)) = true := by decide +kernel
theorem mok_125 (hS : pv_ST B sa xv H0 args s) (hX : pv_XC D s) : pv_MOK (mkE B sa xv D cA H0) (PP L xs) GG 125 args s :=
  pv_mok (I := I125) hS gg_125 rfl rfl (by decide +kernel) (by decide) (pv_cw (hS.1 _ qt1612)) (hS.1 _ qt256) (by decide) (by decide) rfl (fun j x z e1 e2 => by cases e1) (rt_X7 hS) ck_125 (pv_no4 (by decide +kernel))
set_option maxRecDepth 1000000 in
theorem ck_126 : I126.all (pv_ckq RT_X7 prog_9_method_24_code (some .int)) = true := by decide +kernel
theorem mok_126 (hS : pv_ST B sa xv H0 args s) (hX : pv_XC D s) : pv_MOK (mkE B sa xv D cA H0) (PP L xs) GG 126 args s :=
  pv_mok (I := I126) hS gg_126 rfl rfl (by decide +kernel) (by decide) (pv_cw (hS.1 _ qt1616)) (hS.1 _ qt256) (by decide) (by decide) rfl (fun j x z e1 e2 => by cases e1) (rt_X7 hS) ck_126 (pv_no4 (by decide +kernel))
set_option maxRecDepth 1000000 in
theorem ck_127 : I127.all (pv_ckq RT_X7 prog_9_method_25_code (some .int)) = true := by decide +kernel
theorem mok_127 (hS : pv_ST B sa xv H0 args s) (hX : pv_XC D s) : pv_MOK (mkE B sa xv D cA H0) (PP L xs) GG 127 args s :=
  pv_mok (I := I127) hS gg_127 rfl rfl (by decide +kernel) (by decide) (pv_cw (hS.1 _ qt1620)) (hS.1 _ qt256) (by decide) (by decide) rfl (fun j x z e1 e2 => by cases e1) (rt_X7 hS) ck_127 (pv_no4 (by decide +kernel))
set_option maxRecDepth 1000000 in
theorem ck_128 : I128.all (pv_ckq RT_X7 prog_9_method_26_code (some .int)) = true := by decide +kernel
theorem mok_128 (hS : pv_ST B sa xv H0 args s) (hX : pv_XC D s) : pv_MOK (mkE B sa xv D cA H0) (PP L xs) GG 128 args s :=
  pv_mok (I := I128) hS gg_128 rfl rfl (by decide +kernel) (by decide) (pv_cw (hS.1 _ qt1624)) (hS.1 _ qt256) (by decide) (by decide) rfl (fun j x z e1 e2 => by cases e1) (rt_X7 hS) ck_128 (pv_no4 (by decide +kernel))
set_option maxRecDepth 1000000 in
theorem ck_129 : I129.all (pv_ckq RT_X7 prog_9_method_28_code (some .int)) = true := by decide +kernel
theorem mok_129 (hS : pv_ST B sa xv H0 args s) (hX : pv_XC D s) : pv_MOK (mkE B sa xv D cA H0) (PP L xs) GG 129 args s :=
  pv_mok (I := I129) hS gg_129 rfl rfl (by decide +kernel) (by decide) (pv_cw (hS.1 _ qt1628)) (hS.1 _ qt256) (by decide) (by decide) rfl (fun j x z e1 e2 => by cases e1) (rt_X7 hS) ck_129 (pv_no4 (by decide +kernel))
set_option maxRecDepth 1000000 in
theorem ck_130 : I130.all (pv_ckq RT_X7 prog_9_method_29_code (some .int)) = true := by decide +kernel
theorem mok_130 (hS : pv_ST B sa xv H0 args s) (hX : pv_XC D s) : pv_MOK (mkE B sa xv D cA H0) (PP L xs) GG 130 args s :=
  pv_mok (I := I130) hS gg_130 rfl rfl (by decide +kernel) (by decide) (pv_cw (hS.1 _ qt1632)) (hS.1 _ qt256) (by decide) (by decide) rfl (fun j x z e1 e2 => by cases e1) (rt_X7 hS) ck_130 (pv_no4 (by decide +kernel))
set_option maxRecDepth 1000000 in
theorem ck_131 : I131.all (pv_ckq RT_X7 prog_9_method_8_code none) = true := by decide +kernel
theorem mok_131 (hS : pv_ST B sa xv H0 args s) (hX : pv_XC D s) : pv_MOK (mkE B sa xv D cA H0) (PP L xs) GG 131 args s :=
  pv_mok (I := I131) hS gg_131 rfl rfl (by decide +kernel) (by decide) (pv_cw (hS.1 _ qt1636)) (hS.1 _ qt256) (by decide) (by decide) rfl (fun j x z e1 e2 => by cases e1) (rt_X7 hS) ck_131 (pv_no4 (by decide +kernel))
set_option maxRecDepth 1000000 in
theorem ck_132 : I132.all (pv_ckq RT_X7 prog_9_method_31_code (some .int)) = true := by decide +kernel
theorem mok_132 (hS : pv_ST B sa xv H0 args s) (hX : pv_XC D s) : pv_MOK (mkE B sa xv D cA H0) (PP L xs) GG 132 args s :=
  pv_mok (I := I132) hS gg_132 rfl rfl (by decide +kernel) (by decide) (pv_cw (hS.1 _ qt1640)) (hS.1 _ qt256) (by decide) (by decide) rfl (fun j x z e1 e2 => by cases e1) (rt_X7 hS) ck_132 (pv_no4 (by decide +kernel))
set_option maxRecDepth 1000000 in
theorem ck_133 : I133.all (pv_ckq RT_X7 prog_9_method_30_code (some .int)) = true := by decide +kernel
theorem mok_133 (hS : pv_ST B sa xv H0 args s) (hX : pv_XC D s) : pv_MOK (mkE B sa xv D cA H0) (PP L xs) GG 133 args s :=
  pv_mok (I := I133) hS gg_133 rfl rfl (by decide +kernel) (by decide) (pv_cw (hS.1 _ qt1648)) (hS.1 _ qt256) (by decide) (by decide) rfl (fun j x z e1 e2 => by cases e1) (rt_X7 hS) ck_133 (pv_no4 (by decide +kernel))
set_option maxRecDepth 1000000 in
theorem ck_134 : I134.all (pv_ckq RT_X7 prog_9_method_32_code (some .int)) = true := by decide +kernel
theorem mok_134 (hS : pv_ST B sa xv H0 args s) (hX : pv_XC D s) : pv_MOK (mkE B sa xv D cA H0) (PP L xs) GG 134 args s :=
  pv_mok (I := I134) hS gg_134 rfl rfl (by decide +kernel) (by decide) (pv_cw (hS.1 _ qt1652)) (hS.1 _ qt256) (by decide) (by decide) rfl (fun j x z e1 e2 => by cases e1) (rt_X7 hS) ck_134 (pv_no4 (by decide +kernel))
end RTT
